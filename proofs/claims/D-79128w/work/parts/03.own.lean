/-! DairyBook -/
set_option maxRecDepth 100000
def RX1 : String := "DairyBook"
def TX1 : u_T := fun k => match k with
  | 0 => ("DairyBook", "herd", "LDairyBook$Herd;", true)
  | 1 => ("DairyBook", "tried", "LDairyBook$Herd;", true)
  | 2 => ("DairyBook", "saved", "LDairyBook$Herd;", true)
  | 3 => ("DairyBook", "hasSaved", "Z", false)
  | 4 => ("DairyBook", "kept", "Ljava/util/ArrayDeque;", true)
  | 5 => ("DairyBook", "text", "Ljava/lang/StringBuilder;", false)
  | 6 => ("DairyBook", "written", "Ljava/lang/String;", false)
  | 7 => ("DairyBook", "fault", "I", false)
  | _ => ("DairyBook", "refused", "I", false)
def tyX1 : Nat → FieldType := fun k => match k with
  | 0 => .object "DairyBook$Herd"
  | 1 => .object "DairyBook$Herd"
  | 2 => .object "DairyBook$Herd"
  | 3 => .boolean
  | 4 => .object "java/util/ArrayDeque"
  | 5 => .object "java/lang/StringBuilder"
  | 6 => .object "java/lang/String"
  | 7 => .int
  | _ => .int
abbrev wsX10 : List Cond := u_ws RX1 TX1 9
theorem nmX1 : ∀ a, a < 9 → ∀ b, b < 9 → a ≠ b → (TX1 a).2.1 ≠ (TX1 b).2.1 := by decide +kernel
theorem tyX1_ok : ∀ k, k < 9 → parseFieldDescriptor (TX1 k).2.2.1 = some (tyX1 k) := by decide +kernel
abbrev cX1_init : ByteArray := prog_1_method_2_code
def yX1_init : MethodName := ⟨RX1, "<init>", "()V"⟩
def dkwX1_init_3 : List UInt8 := [181, 0, 42, 177]
abbrev dktX1_init_3 : List UInt8 := dkwX1_init_3 ++ []
def dkwX1_init_2 : List UInt8 := [181, 0, 25, 42, 187, 0, 29, 89, 183, 0, 31, 181, 0, 32, 42, 18, 36, 181, 0, 38, 42, 2]
abbrev dktX1_init_2 : List UInt8 := dkwX1_init_2 ++ dktX1_init_3
def dkwX1_init_1 : List UInt8 := [181, 0, 16, 42, 187, 0, 7, 89, 183, 0, 9, 181, 0, 19, 42, 187, 0, 22, 89, 183, 0, 24]
abbrev dktX1_init_1 : List UInt8 := dkwX1_init_1 ++ dktX1_init_2
def dkwX1_init_0 : List UInt8 := [42, 183, 0, 1, 42, 187, 0, 7, 89, 183, 0, 9, 181, 0, 10, 42, 187, 0, 7, 89, 183, 0, 9]
abbrev dktX1_init_0 : List UInt8 := dkwX1_init_0 ++ dktX1_init_1
theorem dksX1_init_0 : cX1_init.data.toList.drop 0 = dktX1_init_0 := by decide +kernel
theorem dksX1_init_1 : cX1_init.data.toList.drop 23 = dktX1_init_1 := dk_seg dksX1_init_0 23 rfl rfl
theorem dksX1_init_2 : cX1_init.data.toList.drop 45 = dktX1_init_2 := dk_seg dksX1_init_1 22 rfl rfl
theorem dksX1_init_3 : cX1_init.data.toList.drop 67 = dktX1_init_3 := dk_seg dksX1_init_2 22 rfl rfl
theorem dX1_init_0 : decode cX1_init 0 = .ok (.aload_n 0, 1) := dk_42 (dk_at dksX1_init_0 0 rfl rfl)
theorem dX1_init_1 : decode cX1_init 1 = .ok (.invokespecial 1, 3) := dk_183 0 1 (dk_at dksX1_init_0 1 rfl rfl)
theorem dX1_init_4 : decode cX1_init 4 = .ok (.aload_n 0, 1) := dk_42 (dk_at dksX1_init_0 4 rfl rfl)
theorem dX1_init_5 : decode cX1_init 5 = .ok (.new 7, 3) := dk_187 0 7 (dk_at dksX1_init_0 5 rfl rfl)
theorem dX1_init_8 : decode cX1_init 8 = .ok (.dup, 1) := dk_89 (dk_at dksX1_init_0 8 rfl rfl)
theorem dX1_init_9 : decode cX1_init 9 = .ok (.invokespecial 9, 3) := dk_183 0 9 (dk_at dksX1_init_0 9 rfl rfl)
theorem dX1_init_12 : decode cX1_init 12 = .ok (.putfield 10, 3) := dk_181 0 10 (dk_at dksX1_init_0 12 rfl rfl)
theorem dX1_init_15 : decode cX1_init 15 = .ok (.aload_n 0, 1) := dk_42 (dk_at dksX1_init_0 15 rfl rfl)
theorem dX1_init_16 : decode cX1_init 16 = .ok (.new 7, 3) := dk_187 0 7 (dk_at dksX1_init_0 16 rfl rfl)
theorem dX1_init_19 : decode cX1_init 19 = .ok (.dup, 1) := dk_89 (dk_at dksX1_init_0 19 rfl rfl)
theorem dX1_init_20 : decode cX1_init 20 = .ok (.invokespecial 9, 3) := dk_183 0 9 (dk_at dksX1_init_0 20 rfl rfl)
theorem dX1_init_23 : decode cX1_init 23 = .ok (.putfield 16, 3) := dk_181 0 16 (dk_at dksX1_init_1 0 rfl rfl)
theorem dX1_init_26 : decode cX1_init 26 = .ok (.aload_n 0, 1) := dk_42 (dk_at dksX1_init_1 3 rfl rfl)
theorem dX1_init_27 : decode cX1_init 27 = .ok (.new 7, 3) := dk_187 0 7 (dk_at dksX1_init_1 4 rfl rfl)
theorem dX1_init_30 : decode cX1_init 30 = .ok (.dup, 1) := dk_89 (dk_at dksX1_init_1 7 rfl rfl)
theorem dX1_init_31 : decode cX1_init 31 = .ok (.invokespecial 9, 3) := dk_183 0 9 (dk_at dksX1_init_1 8 rfl rfl)
theorem dX1_init_34 : decode cX1_init 34 = .ok (.putfield 19, 3) := dk_181 0 19 (dk_at dksX1_init_1 11 rfl rfl)
theorem dX1_init_37 : decode cX1_init 37 = .ok (.aload_n 0, 1) := dk_42 (dk_at dksX1_init_1 14 rfl rfl)
theorem dX1_init_38 : decode cX1_init 38 = .ok (.new 22, 3) := dk_187 0 22 (dk_at dksX1_init_1 15 rfl rfl)
theorem dX1_init_41 : decode cX1_init 41 = .ok (.dup, 1) := dk_89 (dk_at dksX1_init_1 18 rfl rfl)
theorem dX1_init_42 : decode cX1_init 42 = .ok (.invokespecial 24, 3) := dk_183 0 24 (dk_at dksX1_init_1 19 rfl rfl)
theorem dX1_init_45 : decode cX1_init 45 = .ok (.putfield 25, 3) := dk_181 0 25 (dk_at dksX1_init_2 0 rfl rfl)
theorem dX1_init_48 : decode cX1_init 48 = .ok (.aload_n 0, 1) := dk_42 (dk_at dksX1_init_2 3 rfl rfl)
theorem dX1_init_49 : decode cX1_init 49 = .ok (.new 29, 3) := dk_187 0 29 (dk_at dksX1_init_2 4 rfl rfl)
theorem dX1_init_52 : decode cX1_init 52 = .ok (.dup, 1) := dk_89 (dk_at dksX1_init_2 7 rfl rfl)
theorem dX1_init_53 : decode cX1_init 53 = .ok (.invokespecial 31, 3) := dk_183 0 31 (dk_at dksX1_init_2 8 rfl rfl)
theorem dX1_init_56 : decode cX1_init 56 = .ok (.putfield 32, 3) := dk_181 0 32 (dk_at dksX1_init_2 11 rfl rfl)
theorem dX1_init_59 : decode cX1_init 59 = .ok (.aload_n 0, 1) := dk_42 (dk_at dksX1_init_2 14 rfl rfl)
theorem dX1_init_60 : decode cX1_init 60 = .ok (.ldc 36, 2) := dk_18 36 (dk_at dksX1_init_2 15 rfl rfl)
theorem dX1_init_62 : decode cX1_init 62 = .ok (.putfield 38, 3) := dk_181 0 38 (dk_at dksX1_init_2 17 rfl rfl)
theorem dX1_init_65 : decode cX1_init 65 = .ok (.aload_n 0, 1) := dk_42 (dk_at dksX1_init_2 20 rfl rfl)
theorem dX1_init_66 : decode cX1_init 66 = .ok (.iconst (-1), 1) := dk_2 (dk_at dksX1_init_2 21 rfl rfl)
theorem dX1_init_67 : decode cX1_init 67 = .ok (.putfield 42, 3) := dk_181 0 42 (dk_at dksX1_init_3 0 rfl rfl)
theorem dX1_init_70 : decode cX1_init 70 = .ok (.return_, 1) := dk_177 (dk_at dksX1_init_3 3 rfl rfl)
abbrev cX1_today : ByteArray := prog_1_method_27_code
def yX1_today : MethodName := ⟨RX1, "today", "()I"⟩
def dkwX1_today_0 : List UInt8 := [42, 180, 0, 10, 180, 0, 106, 172]
abbrev dktX1_today_0 : List UInt8 := dkwX1_today_0 ++ []
theorem dksX1_today_0 : cX1_today.data.toList.drop 0 = dktX1_today_0 := by decide +kernel
theorem dX1_today_0 : decode cX1_today 0 = .ok (.aload_n 0, 1) := dk_42 (dk_at dksX1_today_0 0 rfl rfl)
theorem dX1_today_1 : decode cX1_today 1 = .ok (.getfield 10, 3) := dk_180 0 10 (dk_at dksX1_today_0 1 rfl rfl)
theorem dX1_today_4 : decode cX1_today 4 = .ok (.getfield 106, 3) := dk_180 0 106 (dk_at dksX1_today_0 4 rfl rfl)
theorem dX1_today_7 : decode cX1_today 7 = .ok (.ireturn, 1) := dk_172 (dk_at dksX1_today_0 7 rfl rfl)
abbrev cX1_faultPosition : ByteArray := prog_1_method_41_code
def yX1_faultPosition : MethodName := ⟨RX1, "faultPosition", "()I"⟩
theorem dX1_faultPosition_0 : decode cX1_faultPosition 0 = .ok (.aload_n 0, 1) := by decide +kernel
theorem dX1_faultPosition_1 : decode cX1_faultPosition 1 = .ok (.getfield 42, 3) := by decide +kernel
theorem dX1_faultPosition_4 : decode cX1_faultPosition 4 = .ok (.ireturn, 1) := by decide +kernel
abbrev cX1_save : ByteArray := prog_1_method_46_code
def yX1_save : MethodName := ⟨RX1, "save", "()V"⟩
def dkwX1_save_0 : List UInt8 := [42, 180, 0, 19, 42, 180, 0, 10, 182, 0, 98, 42, 4, 181, 1, 76, 177]
abbrev dktX1_save_0 : List UInt8 := dkwX1_save_0 ++ []
theorem dksX1_save_0 : cX1_save.data.toList.drop 0 = dktX1_save_0 := by decide +kernel
theorem dX1_save_0 : decode cX1_save 0 = .ok (.aload_n 0, 1) := dk_42 (dk_at dksX1_save_0 0 rfl rfl)
theorem dX1_save_1 : decode cX1_save 1 = .ok (.getfield 19, 3) := dk_180 0 19 (dk_at dksX1_save_0 1 rfl rfl)
theorem dX1_save_4 : decode cX1_save 4 = .ok (.aload_n 0, 1) := dk_42 (dk_at dksX1_save_0 4 rfl rfl)
theorem dX1_save_5 : decode cX1_save 5 = .ok (.getfield 10, 3) := dk_180 0 10 (dk_at dksX1_save_0 5 rfl rfl)
theorem dX1_save_8 : decode cX1_save 8 = .ok (.invokevirtual 98, 3) := dk_182 0 98 (dk_at dksX1_save_0 8 rfl rfl)
theorem dX1_save_11 : decode cX1_save 11 = .ok (.aload_n 0, 1) := dk_42 (dk_at dksX1_save_0 11 rfl rfl)
theorem dX1_save_12 : decode cX1_save 12 = .ok (.iconst 1, 1) := dk_4 (dk_at dksX1_save_0 12 rfl rfl)
theorem dX1_save_13 : decode cX1_save 13 = .ok (.putfield 332, 3) := dk_181 1 76 (dk_at dksX1_save_0 13 rfl rfl)
theorem dX1_save_16 : decode cX1_save 16 = .ok (.return_, 1) := dk_177 (dk_at dksX1_save_0 16 rfl rfl)
abbrev cX1_addCow : ByteArray := prog_1_method_12_code
def yX1_addCow : MethodName := ⟨RX1, "addCow", "(III)I"⟩
def dkwX1_addCow_5 : List UInt8 := [87, 25, 4, 180, 0, 140, 172]
abbrev dktX1_addCow_5 : List UInt8 := dkwX1_addCow_5 ++ []
def dkwX1_addCow_4 : List UInt8 := [42, 180, 0, 10, 180, 0, 106, 29, 100, 182, 0, 132, 42, 180, 0, 10, 180, 0, 64, 25, 4, 182, 0, 136]
abbrev dktX1_addCow_4 : List UInt8 := dkwX1_addCow_4 ++ dktX1_addCow_5
def dkwX1_addCow_3 : List UInt8 := [42, 180, 0, 10, 180, 0, 64, 182, 0, 68, 27, 28, 183, 0, 129, 58, 4, 29, 2, 159, 0, 17, 25, 4]
abbrev dktX1_addCow_3 : List UInt8 := dkwX1_addCow_3 ++ dktX1_addCow_4
def dkwX1_addCow_2 : List UInt8 := [182, 0, 68, 16, 8, 162, 0, 7, 4, 167, 0, 4, 3, 184, 0, 123, 42, 182, 0, 126, 187, 0, 86, 89]
abbrev dktX1_addCow_2 : List UInt8 := dkwX1_addCow_2 ++ dktX1_addCow_3
def dkwX1_addCow_1 : List UInt8 := [16, 99, 184, 0, 74, 153, 0, 7, 4, 167, 0, 4, 3, 184, 0, 120, 42, 180, 0, 10, 180, 0, 64]
abbrev dktX1_addCow_1 : List UInt8 := dkwX1_addCow_1 ++ dktX1_addCow_2
def dkwX1_addCow_0 : List UInt8 := [27, 16, 8, 16, 40, 184, 0, 74, 153, 0, 27, 28, 3, 16, 9, 184, 0, 74, 153, 0, 17, 29, 2]
abbrev dktX1_addCow_0 : List UInt8 := dkwX1_addCow_0 ++ dktX1_addCow_1
theorem dksX1_addCow_0 : cX1_addCow.data.toList.drop 0 = dktX1_addCow_0 := by decide +kernel
theorem dksX1_addCow_1 : cX1_addCow.data.toList.drop 23 = dktX1_addCow_1 := dk_seg dksX1_addCow_0 23 rfl rfl
theorem dksX1_addCow_2 : cX1_addCow.data.toList.drop 46 = dktX1_addCow_2 := dk_seg dksX1_addCow_1 23 rfl rfl
theorem dksX1_addCow_3 : cX1_addCow.data.toList.drop 70 = dktX1_addCow_3 := dk_seg dksX1_addCow_2 24 rfl rfl
theorem dksX1_addCow_4 : cX1_addCow.data.toList.drop 94 = dktX1_addCow_4 := dk_seg dksX1_addCow_3 24 rfl rfl
theorem dksX1_addCow_5 : cX1_addCow.data.toList.drop 118 = dktX1_addCow_5 := dk_seg dksX1_addCow_4 24 rfl rfl
theorem dX1_addCow_0 : decode cX1_addCow 0 = .ok (.iload_n 1, 1) := dk_27 (dk_at dksX1_addCow_0 0 rfl rfl)
theorem dX1_addCow_1 : decode cX1_addCow 1 = .ok (.bipush 8, 2) := dk_16 8 (dk_at dksX1_addCow_0 1 rfl rfl)
theorem dX1_addCow_3 : decode cX1_addCow 3 = .ok (.bipush 40, 2) := dk_16 40 (dk_at dksX1_addCow_0 3 rfl rfl)
theorem dX1_addCow_5 : decode cX1_addCow 5 = .ok (.invokestatic 74, 3) := dk_184 0 74 (dk_at dksX1_addCow_0 5 rfl rfl)
theorem dX1_addCow_8 : decode cX1_addCow 8 = .ok (.ifCond .eq 27, 3) := dk_153 0 27 (dk_at dksX1_addCow_0 8 rfl rfl)
theorem dX1_addCow_11 : decode cX1_addCow 11 = .ok (.iload_n 2, 1) := dk_28 (dk_at dksX1_addCow_0 11 rfl rfl)
theorem dX1_addCow_12 : decode cX1_addCow 12 = .ok (.iconst 0, 1) := dk_3 (dk_at dksX1_addCow_0 12 rfl rfl)
theorem dX1_addCow_13 : decode cX1_addCow 13 = .ok (.bipush 9, 2) := dk_16 9 (dk_at dksX1_addCow_0 13 rfl rfl)
theorem dX1_addCow_15 : decode cX1_addCow 15 = .ok (.invokestatic 74, 3) := dk_184 0 74 (dk_at dksX1_addCow_0 15 rfl rfl)
theorem dX1_addCow_18 : decode cX1_addCow 18 = .ok (.ifCond .eq 17, 3) := dk_153 0 17 (dk_at dksX1_addCow_0 18 rfl rfl)
theorem dX1_addCow_21 : decode cX1_addCow 21 = .ok (.iload_n 3, 1) := dk_29 (dk_at dksX1_addCow_0 21 rfl rfl)
theorem dX1_addCow_22 : decode cX1_addCow 22 = .ok (.iconst (-1), 1) := dk_2 (dk_at dksX1_addCow_0 22 rfl rfl)
theorem dX1_addCow_23 : decode cX1_addCow 23 = .ok (.bipush 99, 2) := dk_16 99 (dk_at dksX1_addCow_1 0 rfl rfl)
theorem dX1_addCow_25 : decode cX1_addCow 25 = .ok (.invokestatic 74, 3) := dk_184 0 74 (dk_at dksX1_addCow_1 2 rfl rfl)
theorem dX1_addCow_28 : decode cX1_addCow 28 = .ok (.ifCond .eq 7, 3) := dk_153 0 7 (dk_at dksX1_addCow_1 5 rfl rfl)
theorem dX1_addCow_31 : decode cX1_addCow 31 = .ok (.iconst 1, 1) := dk_4 (dk_at dksX1_addCow_1 8 rfl rfl)
theorem dX1_addCow_32 : decode cX1_addCow 32 = .ok (.goto 4, 3) := dk_167 0 4 (dk_at dksX1_addCow_1 9 rfl rfl)
theorem dX1_addCow_35 : decode cX1_addCow 35 = .ok (.iconst 0, 1) := dk_3 (dk_at dksX1_addCow_1 12 rfl rfl)
theorem dX1_addCow_36 : decode cX1_addCow 36 = .ok (.invokestatic 120, 3) := dk_184 0 120 (dk_at dksX1_addCow_1 13 rfl rfl)
theorem dX1_addCow_39 : decode cX1_addCow 39 = .ok (.aload_n 0, 1) := dk_42 (dk_at dksX1_addCow_1 16 rfl rfl)
theorem dX1_addCow_40 : decode cX1_addCow 40 = .ok (.getfield 10, 3) := dk_180 0 10 (dk_at dksX1_addCow_1 17 rfl rfl)
theorem dX1_addCow_43 : decode cX1_addCow 43 = .ok (.getfield 64, 3) := dk_180 0 64 (dk_at dksX1_addCow_1 20 rfl rfl)
theorem dX1_addCow_46 : decode cX1_addCow 46 = .ok (.invokevirtual 68, 3) := dk_182 0 68 (dk_at dksX1_addCow_2 0 rfl rfl)
theorem dX1_addCow_49 : decode cX1_addCow 49 = .ok (.bipush 8, 2) := dk_16 8 (dk_at dksX1_addCow_2 3 rfl rfl)
theorem dX1_addCow_51 : decode cX1_addCow 51 = .ok (.if_icmp .ge 7, 3) := dk_162 0 7 (dk_at dksX1_addCow_2 5 rfl rfl)
theorem dX1_addCow_54 : decode cX1_addCow 54 = .ok (.iconst 1, 1) := dk_4 (dk_at dksX1_addCow_2 8 rfl rfl)
theorem dX1_addCow_55 : decode cX1_addCow 55 = .ok (.goto 4, 3) := dk_167 0 4 (dk_at dksX1_addCow_2 9 rfl rfl)
theorem dX1_addCow_58 : decode cX1_addCow 58 = .ok (.iconst 0, 1) := dk_3 (dk_at dksX1_addCow_2 12 rfl rfl)
theorem dX1_addCow_59 : decode cX1_addCow 59 = .ok (.invokestatic 123, 3) := dk_184 0 123 (dk_at dksX1_addCow_2 13 rfl rfl)
theorem dX1_addCow_62 : decode cX1_addCow 62 = .ok (.aload_n 0, 1) := dk_42 (dk_at dksX1_addCow_2 16 rfl rfl)
theorem dX1_addCow_63 : decode cX1_addCow 63 = .ok (.invokevirtual 126, 3) := dk_182 0 126 (dk_at dksX1_addCow_2 17 rfl rfl)
theorem dX1_addCow_66 : decode cX1_addCow 66 = .ok (.new 86, 3) := dk_187 0 86 (dk_at dksX1_addCow_2 20 rfl rfl)
theorem dX1_addCow_69 : decode cX1_addCow 69 = .ok (.dup, 1) := dk_89 (dk_at dksX1_addCow_2 23 rfl rfl)
theorem dX1_addCow_70 : decode cX1_addCow 70 = .ok (.aload_n 0, 1) := dk_42 (dk_at dksX1_addCow_3 0 rfl rfl)
theorem dX1_addCow_71 : decode cX1_addCow 71 = .ok (.getfield 10, 3) := dk_180 0 10 (dk_at dksX1_addCow_3 1 rfl rfl)
theorem dX1_addCow_74 : decode cX1_addCow 74 = .ok (.getfield 64, 3) := dk_180 0 64 (dk_at dksX1_addCow_3 4 rfl rfl)
theorem dX1_addCow_77 : decode cX1_addCow 77 = .ok (.invokevirtual 68, 3) := dk_182 0 68 (dk_at dksX1_addCow_3 7 rfl rfl)
theorem dX1_addCow_80 : decode cX1_addCow 80 = .ok (.iload_n 1, 1) := dk_27 (dk_at dksX1_addCow_3 10 rfl rfl)
theorem dX1_addCow_81 : decode cX1_addCow 81 = .ok (.iload_n 2, 1) := dk_28 (dk_at dksX1_addCow_3 11 rfl rfl)
theorem dX1_addCow_82 : decode cX1_addCow 82 = .ok (.invokespecial 129, 3) := dk_183 0 129 (dk_at dksX1_addCow_3 12 rfl rfl)
theorem dX1_addCow_85 : decode cX1_addCow 85 = .ok (.astore 4, 2) := dk_58 4 (dk_at dksX1_addCow_3 15 rfl rfl)
theorem dX1_addCow_87 : decode cX1_addCow 87 = .ok (.iload_n 3, 1) := dk_29 (dk_at dksX1_addCow_3 17 rfl rfl)
theorem dX1_addCow_88 : decode cX1_addCow 88 = .ok (.iconst (-1), 1) := dk_2 (dk_at dksX1_addCow_3 18 rfl rfl)
theorem dX1_addCow_89 : decode cX1_addCow 89 = .ok (.if_icmp .eq 17, 3) := dk_159 0 17 (dk_at dksX1_addCow_3 19 rfl rfl)
theorem dX1_addCow_92 : decode cX1_addCow 92 = .ok (.aload 4, 2) := dk_25 4 (dk_at dksX1_addCow_3 22 rfl rfl)
theorem dX1_addCow_94 : decode cX1_addCow 94 = .ok (.aload_n 0, 1) := dk_42 (dk_at dksX1_addCow_4 0 rfl rfl)
theorem dX1_addCow_95 : decode cX1_addCow 95 = .ok (.getfield 10, 3) := dk_180 0 10 (dk_at dksX1_addCow_4 1 rfl rfl)
theorem dX1_addCow_98 : decode cX1_addCow 98 = .ok (.getfield 106, 3) := dk_180 0 106 (dk_at dksX1_addCow_4 4 rfl rfl)
theorem dX1_addCow_101 : decode cX1_addCow 101 = .ok (.iload_n 3, 1) := dk_29 (dk_at dksX1_addCow_4 7 rfl rfl)
theorem dX1_addCow_102 : decode cX1_addCow 102 = .ok (.isub, 1) := dk_100 (dk_at dksX1_addCow_4 8 rfl rfl)
theorem dX1_addCow_103 : decode cX1_addCow 103 = .ok (.invokevirtual 132, 3) := dk_182 0 132 (dk_at dksX1_addCow_4 9 rfl rfl)
theorem dX1_addCow_106 : decode cX1_addCow 106 = .ok (.aload_n 0, 1) := dk_42 (dk_at dksX1_addCow_4 12 rfl rfl)
theorem dX1_addCow_107 : decode cX1_addCow 107 = .ok (.getfield 10, 3) := dk_180 0 10 (dk_at dksX1_addCow_4 13 rfl rfl)
theorem dX1_addCow_110 : decode cX1_addCow 110 = .ok (.getfield 64, 3) := dk_180 0 64 (dk_at dksX1_addCow_4 16 rfl rfl)
theorem dX1_addCow_113 : decode cX1_addCow 113 = .ok (.aload 4, 2) := dk_25 4 (dk_at dksX1_addCow_4 19 rfl rfl)
theorem dX1_addCow_115 : decode cX1_addCow 115 = .ok (.invokevirtual 136, 3) := dk_182 0 136 (dk_at dksX1_addCow_4 21 rfl rfl)
theorem dX1_addCow_118 : decode cX1_addCow 118 = .ok (.pop, 1) := dk_87 (dk_at dksX1_addCow_5 0 rfl rfl)
theorem dX1_addCow_119 : decode cX1_addCow 119 = .ok (.aload 4, 2) := dk_25 4 (dk_at dksX1_addCow_5 1 rfl rfl)
theorem dX1_addCow_121 : decode cX1_addCow 121 = .ok (.getfield 140, 3) := dk_180 0 140 (dk_at dksX1_addCow_5 3 rfl rfl)
theorem dX1_addCow_124 : decode cX1_addCow 124 = .ok (.ireturn, 1) := dk_172 (dk_at dksX1_addCow_5 6 rfl rfl)
abbrev cX1_in : ByteArray := prog_1_method_1_code
def yX1_in : MethodName := ⟨RX1, "in", "(III)Z"⟩
def dkwX1_in_0 : List UInt8 := [26, 27, 161, 0, 12, 26, 28, 163, 0, 7, 4, 167, 0, 4, 3, 172]
abbrev dktX1_in_0 : List UInt8 := dkwX1_in_0 ++ []
theorem dksX1_in_0 : cX1_in.data.toList.drop 0 = dktX1_in_0 := by decide +kernel
theorem dX1_in_0 : decode cX1_in 0 = .ok (.iload_n 0, 1) := dk_26 (dk_at dksX1_in_0 0 rfl rfl)
theorem dX1_in_1 : decode cX1_in 1 = .ok (.iload_n 1, 1) := dk_27 (dk_at dksX1_in_0 1 rfl rfl)
theorem dX1_in_2 : decode cX1_in 2 = .ok (.if_icmp .lt 12, 3) := dk_161 0 12 (dk_at dksX1_in_0 2 rfl rfl)
theorem dX1_in_5 : decode cX1_in 5 = .ok (.iload_n 0, 1) := dk_26 (dk_at dksX1_in_0 5 rfl rfl)
theorem dX1_in_6 : decode cX1_in 6 = .ok (.iload_n 2, 1) := dk_28 (dk_at dksX1_in_0 6 rfl rfl)
theorem dX1_in_7 : decode cX1_in 7 = .ok (.if_icmp .gt 7, 3) := dk_163 0 7 (dk_at dksX1_in_0 7 rfl rfl)
theorem dX1_in_10 : decode cX1_in 10 = .ok (.iconst 1, 1) := dk_4 (dk_at dksX1_in_0 10 rfl rfl)
theorem dX1_in_11 : decode cX1_in 11 = .ok (.goto 4, 3) := dk_167 0 4 (dk_at dksX1_in_0 11 rfl rfl)
theorem dX1_in_14 : decode cX1_in 14 = .ok (.iconst 0, 1) := dk_3 (dk_at dksX1_in_0 14 rfl rfl)
theorem dX1_in_15 : decode cX1_in 15 = .ok (.ireturn, 1) := dk_172 (dk_at dksX1_in_0 15 rfl rfl)
abbrev cX1_check : ByteArray := prog_1_method_3_code
def yX1_check : MethodName := ⟨RX1, "check", "(Z)V"⟩
def dkwX1_check_0 : List UInt8 := [26, 154, 0, 11, 187, 0, 46, 89, 183, 0, 48, 191, 177]
abbrev dktX1_check_0 : List UInt8 := dkwX1_check_0 ++ []
theorem dksX1_check_0 : cX1_check.data.toList.drop 0 = dktX1_check_0 := by decide +kernel
theorem dX1_check_0 : decode cX1_check 0 = .ok (.iload_n 0, 1) := dk_26 (dk_at dksX1_check_0 0 rfl rfl)
theorem dX1_check_1 : decode cX1_check 1 = .ok (.ifCond .ne 11, 3) := dk_154 0 11 (dk_at dksX1_check_0 1 rfl rfl)
theorem dX1_check_4 : decode cX1_check 4 = .ok (.new 46, 3) := dk_187 0 46 (dk_at dksX1_check_0 4 rfl rfl)
theorem dX1_check_7 : decode cX1_check 7 = .ok (.dup, 1) := dk_89 (dk_at dksX1_check_0 7 rfl rfl)
theorem dX1_check_8 : decode cX1_check 8 = .ok (.invokespecial 48, 3) := dk_183 0 48 (dk_at dksX1_check_0 8 rfl rfl)
theorem dX1_check_11 : decode cX1_check 11 = .ok (.athrow, 1) := dk_191 (dk_at dksX1_check_0 11 rfl rfl)
theorem dX1_check_12 : decode cX1_check 12 = .ok (.return_, 1) := dk_177 (dk_at dksX1_check_0 12 rfl rfl)
abbrev cX1_checkState : ByteArray := prog_1_method_6_code
def yX1_checkState : MethodName := ⟨RX1, "checkState", "(Z)V"⟩
def dkwX1_checkState_0 : List UInt8 := [26, 154, 0, 11, 187, 0, 55, 89, 183, 0, 57, 191, 177]
abbrev dktX1_checkState_0 : List UInt8 := dkwX1_checkState_0 ++ []
theorem dksX1_checkState_0 : cX1_checkState.data.toList.drop 0 = dktX1_checkState_0 := by decide +kernel
theorem dX1_checkState_0 : decode cX1_checkState 0 = .ok (.iload_n 0, 1) := dk_26 (dk_at dksX1_checkState_0 0 rfl rfl)
theorem dX1_checkState_1 : decode cX1_checkState 1 = .ok (.ifCond .ne 11, 3) := dk_154 0 11 (dk_at dksX1_checkState_0 1 rfl rfl)
theorem dX1_checkState_4 : decode cX1_checkState 4 = .ok (.new 55, 3) := dk_187 0 55 (dk_at dksX1_checkState_0 4 rfl rfl)
theorem dX1_checkState_7 : decode cX1_checkState 7 = .ok (.dup, 1) := dk_89 (dk_at dksX1_checkState_0 7 rfl rfl)
theorem dX1_checkState_8 : decode cX1_checkState 8 = .ok (.invokespecial 57, 3) := dk_183 0 57 (dk_at dksX1_checkState_0 8 rfl rfl)
theorem dX1_checkState_11 : decode cX1_checkState 11 = .ok (.athrow, 1) := dk_191 (dk_at dksX1_checkState_0 11 rfl rfl)
theorem dX1_checkState_12 : decode cX1_checkState 12 = .ok (.return_, 1) := dk_177 (dk_at dksX1_checkState_0 12 rfl rfl)
abbrev cX1_keep : ByteArray := prog_1_method_10_code
def yX1_keep : MethodName := ⟨RX1, "keep", "()V"⟩
def dkwX1_keep_2 : List UInt8 := [182, 0, 102, 177]
abbrev dktX1_keep_2 : List UInt8 := dkwX1_keep_2 ++ []
def dkwX1_keep_1 : List UInt8 := [167, 0, 10, 187, 0, 7, 89, 183, 0, 9, 76, 43, 42, 180, 0, 10, 182, 0, 98, 42, 180, 0, 25, 43]
abbrev dktX1_keep_1 : List UInt8 := dkwX1_keep_1 ++ dktX1_keep_2
def dkwX1_keep_0 : List UInt8 := [42, 180, 0, 25, 182, 0, 93, 16, 8, 160, 0, 16, 42, 180, 0, 25, 182, 0, 94, 192, 0, 7]
abbrev dktX1_keep_0 : List UInt8 := dkwX1_keep_0 ++ dktX1_keep_1
theorem dksX1_keep_0 : cX1_keep.data.toList.drop 0 = dktX1_keep_0 := by decide +kernel
theorem dksX1_keep_1 : cX1_keep.data.toList.drop 22 = dktX1_keep_1 := dk_seg dksX1_keep_0 22 rfl rfl
theorem dksX1_keep_2 : cX1_keep.data.toList.drop 46 = dktX1_keep_2 := dk_seg dksX1_keep_1 24 rfl rfl
theorem dX1_keep_0 : decode cX1_keep 0 = .ok (.aload_n 0, 1) := dk_42 (dk_at dksX1_keep_0 0 rfl rfl)
theorem dX1_keep_1 : decode cX1_keep 1 = .ok (.getfield 25, 3) := dk_180 0 25 (dk_at dksX1_keep_0 1 rfl rfl)
theorem dX1_keep_4 : decode cX1_keep 4 = .ok (.invokevirtual 93, 3) := dk_182 0 93 (dk_at dksX1_keep_0 4 rfl rfl)
theorem dX1_keep_7 : decode cX1_keep 7 = .ok (.bipush 8, 2) := dk_16 8 (dk_at dksX1_keep_0 7 rfl rfl)
theorem dX1_keep_9 : decode cX1_keep 9 = .ok (.if_icmp .ne 16, 3) := dk_160 0 16 (dk_at dksX1_keep_0 9 rfl rfl)
theorem dX1_keep_12 : decode cX1_keep 12 = .ok (.aload_n 0, 1) := dk_42 (dk_at dksX1_keep_0 12 rfl rfl)
theorem dX1_keep_13 : decode cX1_keep 13 = .ok (.getfield 25, 3) := dk_180 0 25 (dk_at dksX1_keep_0 13 rfl rfl)
theorem dX1_keep_16 : decode cX1_keep 16 = .ok (.invokevirtual 94, 3) := dk_182 0 94 (dk_at dksX1_keep_0 16 rfl rfl)
theorem dX1_keep_19 : decode cX1_keep 19 = .ok (.checkcast 7, 3) := dk_192 0 7 (dk_at dksX1_keep_0 19 rfl rfl)
theorem dX1_keep_22 : decode cX1_keep 22 = .ok (.goto 10, 3) := dk_167 0 10 (dk_at dksX1_keep_1 0 rfl rfl)
theorem dX1_keep_25 : decode cX1_keep 25 = .ok (.new 7, 3) := dk_187 0 7 (dk_at dksX1_keep_1 3 rfl rfl)
theorem dX1_keep_28 : decode cX1_keep 28 = .ok (.dup, 1) := dk_89 (dk_at dksX1_keep_1 6 rfl rfl)
theorem dX1_keep_29 : decode cX1_keep 29 = .ok (.invokespecial 9, 3) := dk_183 0 9 (dk_at dksX1_keep_1 7 rfl rfl)
theorem dX1_keep_32 : decode cX1_keep 32 = .ok (.astore_n 1, 1) := dk_76 (dk_at dksX1_keep_1 10 rfl rfl)
theorem dX1_keep_33 : decode cX1_keep 33 = .ok (.aload_n 1, 1) := dk_43 (dk_at dksX1_keep_1 11 rfl rfl)
theorem dX1_keep_34 : decode cX1_keep 34 = .ok (.aload_n 0, 1) := dk_42 (dk_at dksX1_keep_1 12 rfl rfl)
theorem dX1_keep_35 : decode cX1_keep 35 = .ok (.getfield 10, 3) := dk_180 0 10 (dk_at dksX1_keep_1 13 rfl rfl)
theorem dX1_keep_38 : decode cX1_keep 38 = .ok (.invokevirtual 98, 3) := dk_182 0 98 (dk_at dksX1_keep_1 16 rfl rfl)
theorem dX1_keep_41 : decode cX1_keep 41 = .ok (.aload_n 0, 1) := dk_42 (dk_at dksX1_keep_1 19 rfl rfl)
theorem dX1_keep_42 : decode cX1_keep 42 = .ok (.getfield 25, 3) := dk_180 0 25 (dk_at dksX1_keep_1 20 rfl rfl)
theorem dX1_keep_45 : decode cX1_keep 45 = .ok (.aload_n 1, 1) := dk_43 (dk_at dksX1_keep_1 23 rfl rfl)
theorem dX1_keep_46 : decode cX1_keep 46 = .ok (.invokevirtual 102, 3) := dk_182 0 102 (dk_at dksX1_keep_2 0 rfl rfl)
theorem dX1_keep_49 : decode cX1_keep 49 = .ok (.return_, 1) := dk_177 (dk_at dksX1_keep_2 3 rfl rfl)
abbrev cX1_set : ByteArray := prog_1_method_15_code
def yX1_set : MethodName := ⟨RX1, "set", "(II)I"⟩
def dkwX1_set_2 : List UInt8 := [29, 172]
abbrev dktX1_set_2 : List UInt8 := dkwX1_set_2 ++ []
def dkwX1_set_1 : List UInt8 := [42, 180, 0, 10, 180, 0, 150, 27, 46, 62, 42, 182, 0, 126, 42, 180, 0, 10, 180, 0, 150, 27, 28, 79]
abbrev dktX1_set_1 : List UInt8 := dkwX1_set_1 ++ dktX1_set_2
def dkwX1_set_0 : List UInt8 := [27, 3, 8, 184, 0, 74, 184, 0, 78, 28, 27, 184, 0, 143, 27, 184, 0, 147, 184, 0, 74, 184, 0, 120]
abbrev dktX1_set_0 : List UInt8 := dkwX1_set_0 ++ dktX1_set_1
theorem dksX1_set_0 : cX1_set.data.toList.drop 0 = dktX1_set_0 := by decide +kernel
theorem dksX1_set_1 : cX1_set.data.toList.drop 24 = dktX1_set_1 := dk_seg dksX1_set_0 24 rfl rfl
theorem dksX1_set_2 : cX1_set.data.toList.drop 48 = dktX1_set_2 := dk_seg dksX1_set_1 24 rfl rfl
theorem dX1_set_0 : decode cX1_set 0 = .ok (.iload_n 1, 1) := dk_27 (dk_at dksX1_set_0 0 rfl rfl)
theorem dX1_set_1 : decode cX1_set 1 = .ok (.iconst 0, 1) := dk_3 (dk_at dksX1_set_0 1 rfl rfl)
theorem dX1_set_2 : decode cX1_set 2 = .ok (.iconst 5, 1) := dk_8 (dk_at dksX1_set_0 2 rfl rfl)
theorem dX1_set_3 : decode cX1_set 3 = .ok (.invokestatic 74, 3) := dk_184 0 74 (dk_at dksX1_set_0 3 rfl rfl)
theorem dX1_set_6 : decode cX1_set 6 = .ok (.invokestatic 78, 3) := dk_184 0 78 (dk_at dksX1_set_0 6 rfl rfl)
theorem dX1_set_9 : decode cX1_set 9 = .ok (.iload_n 2, 1) := dk_28 (dk_at dksX1_set_0 9 rfl rfl)
theorem dX1_set_10 : decode cX1_set 10 = .ok (.iload_n 1, 1) := dk_27 (dk_at dksX1_set_0 10 rfl rfl)
theorem dX1_set_11 : decode cX1_set 11 = .ok (.invokestatic 143, 3) := dk_184 0 143 (dk_at dksX1_set_0 11 rfl rfl)
theorem dX1_set_14 : decode cX1_set 14 = .ok (.iload_n 1, 1) := dk_27 (dk_at dksX1_set_0 14 rfl rfl)
theorem dX1_set_15 : decode cX1_set 15 = .ok (.invokestatic 147, 3) := dk_184 0 147 (dk_at dksX1_set_0 15 rfl rfl)
theorem dX1_set_18 : decode cX1_set 18 = .ok (.invokestatic 74, 3) := dk_184 0 74 (dk_at dksX1_set_0 18 rfl rfl)
theorem dX1_set_21 : decode cX1_set 21 = .ok (.invokestatic 120, 3) := dk_184 0 120 (dk_at dksX1_set_0 21 rfl rfl)
theorem dX1_set_24 : decode cX1_set 24 = .ok (.aload_n 0, 1) := dk_42 (dk_at dksX1_set_1 0 rfl rfl)
theorem dX1_set_25 : decode cX1_set 25 = .ok (.getfield 10, 3) := dk_180 0 10 (dk_at dksX1_set_1 1 rfl rfl)
theorem dX1_set_28 : decode cX1_set 28 = .ok (.getfield 150, 3) := dk_180 0 150 (dk_at dksX1_set_1 4 rfl rfl)
theorem dX1_set_31 : decode cX1_set 31 = .ok (.iload_n 1, 1) := dk_27 (dk_at dksX1_set_1 7 rfl rfl)
theorem dX1_set_32 : decode cX1_set 32 = .ok (.iaload, 1) := dk_46 (dk_at dksX1_set_1 8 rfl rfl)
theorem dX1_set_33 : decode cX1_set 33 = .ok (.istore_n 3, 1) := dk_62 (dk_at dksX1_set_1 9 rfl rfl)
theorem dX1_set_34 : decode cX1_set 34 = .ok (.aload_n 0, 1) := dk_42 (dk_at dksX1_set_1 10 rfl rfl)
theorem dX1_set_35 : decode cX1_set 35 = .ok (.invokevirtual 126, 3) := dk_182 0 126 (dk_at dksX1_set_1 11 rfl rfl)
theorem dX1_set_38 : decode cX1_set 38 = .ok (.aload_n 0, 1) := dk_42 (dk_at dksX1_set_1 14 rfl rfl)
theorem dX1_set_39 : decode cX1_set 39 = .ok (.getfield 10, 3) := dk_180 0 10 (dk_at dksX1_set_1 15 rfl rfl)
theorem dX1_set_42 : decode cX1_set 42 = .ok (.getfield 150, 3) := dk_180 0 150 (dk_at dksX1_set_1 18 rfl rfl)
theorem dX1_set_45 : decode cX1_set 45 = .ok (.iload_n 1, 1) := dk_27 (dk_at dksX1_set_1 21 rfl rfl)
theorem dX1_set_46 : decode cX1_set 46 = .ok (.iload_n 2, 1) := dk_28 (dk_at dksX1_set_1 22 rfl rfl)
theorem dX1_set_47 : decode cX1_set 47 = .ok (.iastore, 1) := dk_79 (dk_at dksX1_set_1 23 rfl rfl)
theorem dX1_set_48 : decode cX1_set 48 = .ok (.iload_n 3, 1) := dk_29 (dk_at dksX1_set_2 0 rfl rfl)
theorem dX1_set_49 : decode cX1_set 49 = .ok (.ireturn, 1) := dk_172 (dk_at dksX1_set_2 1 rfl rfl)
abbrev cX1_checkIndex : ByteArray := prog_1_method_4_code
def yX1_checkIndex : MethodName := ⟨RX1, "checkIndex", "(Z)V"⟩
def dkwX1_checkIndex_0 : List UInt8 := [26, 154, 0, 11, 187, 0, 49, 89, 183, 0, 51, 191, 177]
abbrev dktX1_checkIndex_0 : List UInt8 := dkwX1_checkIndex_0 ++ []
theorem dksX1_checkIndex_0 : cX1_checkIndex.data.toList.drop 0 = dktX1_checkIndex_0 := by decide +kernel
theorem dX1_checkIndex_0 : decode cX1_checkIndex 0 = .ok (.iload_n 0, 1) := dk_26 (dk_at dksX1_checkIndex_0 0 rfl rfl)
theorem dX1_checkIndex_1 : decode cX1_checkIndex 1 = .ok (.ifCond .ne 11, 3) := dk_154 0 11 (dk_at dksX1_checkIndex_0 1 rfl rfl)
theorem dX1_checkIndex_4 : decode cX1_checkIndex 4 = .ok (.new 49, 3) := dk_187 0 49 (dk_at dksX1_checkIndex_0 4 rfl rfl)
theorem dX1_checkIndex_7 : decode cX1_checkIndex 7 = .ok (.dup, 1) := dk_89 (dk_at dksX1_checkIndex_0 7 rfl rfl)
theorem dX1_checkIndex_8 : decode cX1_checkIndex 8 = .ok (.invokespecial 51, 3) := dk_183 0 51 (dk_at dksX1_checkIndex_0 8 rfl rfl)
theorem dX1_checkIndex_11 : decode cX1_checkIndex 11 = .ok (.athrow, 1) := dk_191 (dk_at dksX1_checkIndex_0 11 rfl rfl)
theorem dX1_checkIndex_12 : decode cX1_checkIndex 12 = .ok (.return_, 1) := dk_177 (dk_at dksX1_checkIndex_0 12 rfl rfl)
abbrev cX1_lowest : ByteArray := prog_1_method_13_code
def yX1_lowest : MethodName := ⟨RX1, "lowest", "(I)I"⟩
def dkwX1_lowest_2 : List UInt8 := [16, 20, 172, 4, 172, 3, 172]
abbrev dktX1_lowest_2 : List UInt8 := dkwX1_lowest_2 ++ []
def dkwX1_lowest_1 : List UInt8 := [170, 0, 0, 0, 0, 0, 40, 0, 0, 0, 0, 0, 0, 0, 4, 0, 0, 0, 35, 0, 0, 0, 40, 0, 0, 0, 38, 0, 0, 0, 40, 0, 0, 0, 38]
abbrev dktX1_lowest_1 : List UInt8 := dkwX1_lowest_1 ++ dktX1_lowest_2
def dkwX1_lowest_0 : List UInt8 := [26]
abbrev dktX1_lowest_0 : List UInt8 := dkwX1_lowest_0 ++ dktX1_lowest_1
theorem dksX1_lowest_0 : cX1_lowest.data.toList.drop 0 = dktX1_lowest_0 := by decide +kernel
theorem dksX1_lowest_1 : cX1_lowest.data.toList.drop 1 = dktX1_lowest_1 := dk_seg dksX1_lowest_0 1 rfl rfl
theorem dksX1_lowest_2 : cX1_lowest.data.toList.drop 36 = dktX1_lowest_2 := dk_seg dksX1_lowest_1 35 rfl rfl
theorem dX1_lowest_0 : decode cX1_lowest 0 = .ok (.iload_n 0, 1) := dk_26 (dk_at dksX1_lowest_0 0 rfl rfl)
theorem dX1_lowest_1 : decode cX1_lowest 1 = .ok (.tableswitch 40 0 4 #[35, 40, 38, 40, 38], 35) := by decide +kernel
theorem dX1_lowest_36 : decode cX1_lowest 36 = .ok (.bipush 20, 2) := dk_16 20 (dk_at dksX1_lowest_2 0 rfl rfl)
theorem dX1_lowest_38 : decode cX1_lowest 38 = .ok (.ireturn, 1) := dk_172 (dk_at dksX1_lowest_2 2 rfl rfl)
theorem dX1_lowest_39 : decode cX1_lowest 39 = .ok (.iconst 1, 1) := dk_4 (dk_at dksX1_lowest_2 3 rfl rfl)
theorem dX1_lowest_40 : decode cX1_lowest 40 = .ok (.ireturn, 1) := dk_172 (dk_at dksX1_lowest_2 4 rfl rfl)
theorem dX1_lowest_41 : decode cX1_lowest 41 = .ok (.iconst 0, 1) := dk_3 (dk_at dksX1_lowest_2 5 rfl rfl)
theorem dX1_lowest_42 : decode cX1_lowest 42 = .ok (.ireturn, 1) := dk_172 (dk_at dksX1_lowest_2 6 rfl rfl)
abbrev cX1_highest : ByteArray := prog_1_method_14_code
def yX1_highest : MethodName := ⟨RX1, "highest", "(I)I"⟩
def dkwX1_highest_2 : List UInt8 := [16, 19, 172, 16, 9, 172, 17, 3, 231, 172, 16, 6, 172, 16, 99, 172]
abbrev dktX1_highest_2 : List UInt8 := dkwX1_highest_2 ++ []
def dkwX1_highest_1 : List UInt8 := [170, 0, 0, 0, 0, 0, 44, 0, 0, 0, 1, 0, 0, 0, 4, 0, 0, 0, 31, 0, 0, 0, 34, 0, 0, 0, 37, 0, 0, 0, 41]
abbrev dktX1_highest_1 : List UInt8 := dkwX1_highest_1 ++ dktX1_highest_2
def dkwX1_highest_0 : List UInt8 := [26]
abbrev dktX1_highest_0 : List UInt8 := dkwX1_highest_0 ++ dktX1_highest_1
theorem dksX1_highest_0 : cX1_highest.data.toList.drop 0 = dktX1_highest_0 := by decide +kernel
theorem dksX1_highest_1 : cX1_highest.data.toList.drop 1 = dktX1_highest_1 := dk_seg dksX1_highest_0 1 rfl rfl
theorem dksX1_highest_2 : cX1_highest.data.toList.drop 32 = dktX1_highest_2 := dk_seg dksX1_highest_1 31 rfl rfl
theorem dX1_highest_0 : decode cX1_highest 0 = .ok (.iload_n 0, 1) := dk_26 (dk_at dksX1_highest_0 0 rfl rfl)
theorem dX1_highest_1 : decode cX1_highest 1 = .ok (.tableswitch 44 1 4 #[31, 34, 37, 41], 31) := by decide +kernel
theorem dX1_highest_32 : decode cX1_highest 32 = .ok (.bipush 19, 2) := dk_16 19 (dk_at dksX1_highest_2 0 rfl rfl)
theorem dX1_highest_34 : decode cX1_highest 34 = .ok (.ireturn, 1) := dk_172 (dk_at dksX1_highest_2 2 rfl rfl)
theorem dX1_highest_35 : decode cX1_highest 35 = .ok (.bipush 9, 2) := dk_16 9 (dk_at dksX1_highest_2 3 rfl rfl)
theorem dX1_highest_37 : decode cX1_highest 37 = .ok (.ireturn, 1) := dk_172 (dk_at dksX1_highest_2 5 rfl rfl)
theorem dX1_highest_38 : decode cX1_highest 38 = .ok (.sipush 999, 3) := dk_17 3 231 (dk_at dksX1_highest_2 6 rfl rfl)
theorem dX1_highest_41 : decode cX1_highest 41 = .ok (.ireturn, 1) := dk_172 (dk_at dksX1_highest_2 9 rfl rfl)
theorem dX1_highest_42 : decode cX1_highest 42 = .ok (.bipush 6, 2) := dk_16 6 (dk_at dksX1_highest_2 10 rfl rfl)
theorem dX1_highest_44 : decode cX1_highest 44 = .ok (.ireturn, 1) := dk_172 (dk_at dksX1_highest_2 12 rfl rfl)
theorem dX1_highest_45 : decode cX1_highest 45 = .ok (.bipush 99, 2) := dk_16 99 (dk_at dksX1_highest_2 13 rfl rfl)
theorem dX1_highest_47 : decode cX1_highest 47 = .ok (.ireturn, 1) := dk_172 (dk_at dksX1_highest_2 15 rfl rfl)
abbrev cX1_setting : ByteArray := prog_1_method_16_code
def yX1_setting : MethodName := ⟨RX1, "setting", "(I)I"⟩
def dkwX1_setting_0 : List UInt8 := [27, 3, 8, 184, 0, 74, 184, 0, 78, 42, 180, 0, 10, 180, 0, 150, 27, 46, 172]
abbrev dktX1_setting_0 : List UInt8 := dkwX1_setting_0 ++ []
theorem dksX1_setting_0 : cX1_setting.data.toList.drop 0 = dktX1_setting_0 := by decide +kernel
theorem dX1_setting_0 : decode cX1_setting 0 = .ok (.iload_n 1, 1) := dk_27 (dk_at dksX1_setting_0 0 rfl rfl)
theorem dX1_setting_1 : decode cX1_setting 1 = .ok (.iconst 0, 1) := dk_3 (dk_at dksX1_setting_0 1 rfl rfl)
theorem dX1_setting_2 : decode cX1_setting 2 = .ok (.iconst 5, 1) := dk_8 (dk_at dksX1_setting_0 2 rfl rfl)
theorem dX1_setting_3 : decode cX1_setting 3 = .ok (.invokestatic 74, 3) := dk_184 0 74 (dk_at dksX1_setting_0 3 rfl rfl)
theorem dX1_setting_6 : decode cX1_setting 6 = .ok (.invokestatic 78, 3) := dk_184 0 78 (dk_at dksX1_setting_0 6 rfl rfl)
theorem dX1_setting_9 : decode cX1_setting 9 = .ok (.aload_n 0, 1) := dk_42 (dk_at dksX1_setting_0 9 rfl rfl)
theorem dX1_setting_10 : decode cX1_setting 10 = .ok (.getfield 10, 3) := dk_180 0 10 (dk_at dksX1_setting_0 10 rfl rfl)
theorem dX1_setting_13 : decode cX1_setting 13 = .ok (.getfield 150, 3) := dk_180 0 150 (dk_at dksX1_setting_0 13 rfl rfl)
theorem dX1_setting_16 : decode cX1_setting 16 = .ok (.iload_n 1, 1) := dk_27 (dk_at dksX1_setting_0 16 rfl rfl)
theorem dX1_setting_17 : decode cX1_setting 17 = .ok (.iaload, 1) := dk_46 (dk_at dksX1_setting_0 17 rfl rfl)
theorem dX1_setting_18 : decode cX1_setting 18 = .ok (.ireturn, 1) := dk_172 (dk_at dksX1_setting_0 18 rfl rfl)
abbrev cX1_hold : ByteArray := prog_1_method_17_code
def yX1_hold : MethodName := ⟨RX1, "hold", "(II)I"⟩
def dkwX1_hold_1 : List UInt8 := [182, 0, 161, 172]
abbrev dktX1_hold_1 : List UInt8 := dkwX1_hold_1 ++ []
def dkwX1_hold_0 : List UInt8 := [42, 42, 180, 0, 10, 27, 28, 182, 0, 154, 182, 0, 158, 42, 182, 0, 126, 42, 180, 0, 10, 27, 28]
abbrev dktX1_hold_0 : List UInt8 := dkwX1_hold_0 ++ dktX1_hold_1
theorem dksX1_hold_0 : cX1_hold.data.toList.drop 0 = dktX1_hold_0 := by decide +kernel
theorem dksX1_hold_1 : cX1_hold.data.toList.drop 23 = dktX1_hold_1 := dk_seg dksX1_hold_0 23 rfl rfl
theorem dX1_hold_0 : decode cX1_hold 0 = .ok (.aload_n 0, 1) := dk_42 (dk_at dksX1_hold_0 0 rfl rfl)
theorem dX1_hold_1 : decode cX1_hold 1 = .ok (.aload_n 0, 1) := dk_42 (dk_at dksX1_hold_0 1 rfl rfl)
theorem dX1_hold_2 : decode cX1_hold 2 = .ok (.getfield 10, 3) := dk_180 0 10 (dk_at dksX1_hold_0 2 rfl rfl)
theorem dX1_hold_5 : decode cX1_hold 5 = .ok (.iload_n 1, 1) := dk_27 (dk_at dksX1_hold_0 5 rfl rfl)
theorem dX1_hold_6 : decode cX1_hold 6 = .ok (.iload_n 2, 1) := dk_28 (dk_at dksX1_hold_0 6 rfl rfl)
theorem dX1_hold_7 : decode cX1_hold 7 = .ok (.invokevirtual 154, 3) := dk_182 0 154 (dk_at dksX1_hold_0 7 rfl rfl)
theorem dX1_hold_10 : decode cX1_hold 10 = .ok (.invokevirtual 158, 3) := dk_182 0 158 (dk_at dksX1_hold_0 10 rfl rfl)
theorem dX1_hold_13 : decode cX1_hold 13 = .ok (.aload_n 0, 1) := dk_42 (dk_at dksX1_hold_0 13 rfl rfl)
theorem dX1_hold_14 : decode cX1_hold 14 = .ok (.invokevirtual 126, 3) := dk_182 0 126 (dk_at dksX1_hold_0 14 rfl rfl)
theorem dX1_hold_17 : decode cX1_hold 17 = .ok (.aload_n 0, 1) := dk_42 (dk_at dksX1_hold_0 17 rfl rfl)
theorem dX1_hold_18 : decode cX1_hold 18 = .ok (.getfield 10, 3) := dk_180 0 10 (dk_at dksX1_hold_0 18 rfl rfl)
theorem dX1_hold_21 : decode cX1_hold 21 = .ok (.iload_n 1, 1) := dk_27 (dk_at dksX1_hold_0 21 rfl rfl)
theorem dX1_hold_22 : decode cX1_hold 22 = .ok (.iload_n 2, 1) := dk_28 (dk_at dksX1_hold_0 22 rfl rfl)
theorem dX1_hold_23 : decode cX1_hold 23 = .ok (.invokevirtual 161, 3) := dk_182 0 161 (dk_at dksX1_hold_1 0 rfl rfl)
theorem dX1_hold_26 : decode cX1_hold 26 = .ok (.ireturn, 1) := dk_172 (dk_at dksX1_hold_1 3 rfl rfl)
abbrev cX1_checkSupported : ByteArray := prog_1_method_7_code
def yX1_checkSupported : MethodName := ⟨RX1, "checkSupported", "(I)V"⟩
def dkwX1_checkSupported_0 : List UInt8 := [27, 158, 0, 16, 42, 27, 181, 0, 58, 187, 0, 61, 89, 183, 0, 63, 191, 177]
abbrev dktX1_checkSupported_0 : List UInt8 := dkwX1_checkSupported_0 ++ []
theorem dksX1_checkSupported_0 : cX1_checkSupported.data.toList.drop 0 = dktX1_checkSupported_0 := by decide +kernel
theorem dX1_checkSupported_0 : decode cX1_checkSupported 0 = .ok (.iload_n 1, 1) := dk_27 (dk_at dksX1_checkSupported_0 0 rfl rfl)
theorem dX1_checkSupported_1 : decode cX1_checkSupported 1 = .ok (.ifCond .le 16, 3) := dk_158 0 16 (dk_at dksX1_checkSupported_0 1 rfl rfl)
theorem dX1_checkSupported_4 : decode cX1_checkSupported 4 = .ok (.aload_n 0, 1) := dk_42 (dk_at dksX1_checkSupported_0 4 rfl rfl)
theorem dX1_checkSupported_5 : decode cX1_checkSupported 5 = .ok (.iload_n 1, 1) := dk_27 (dk_at dksX1_checkSupported_0 5 rfl rfl)
theorem dX1_checkSupported_6 : decode cX1_checkSupported 6 = .ok (.putfield 58, 3) := dk_181 0 58 (dk_at dksX1_checkSupported_0 6 rfl rfl)
theorem dX1_checkSupported_9 : decode cX1_checkSupported 9 = .ok (.new 61, 3) := dk_187 0 61 (dk_at dksX1_checkSupported_0 9 rfl rfl)
theorem dX1_checkSupported_12 : decode cX1_checkSupported 12 = .ok (.dup, 1) := dk_89 (dk_at dksX1_checkSupported_0 12 rfl rfl)
theorem dX1_checkSupported_13 : decode cX1_checkSupported 13 = .ok (.invokespecial 63, 3) := dk_183 0 63 (dk_at dksX1_checkSupported_0 13 rfl rfl)
theorem dX1_checkSupported_16 : decode cX1_checkSupported 16 = .ok (.athrow, 1) := dk_191 (dk_at dksX1_checkSupported_0 16 rfl rfl)
theorem dX1_checkSupported_17 : decode cX1_checkSupported 17 = .ok (.return_, 1) := dk_177 (dk_at dksX1_checkSupported_0 17 rfl rfl)
abbrev cX1_setCells : ByteArray := prog_1_method_18_code
def yX1_setCells : MethodName := ⟨RX1, "setCells", "(II)I"⟩
def dkwX1_setCells_2 : List UInt8 := [45, 28, 181, 0, 167, 21, 4, 172]
abbrev dktX1_setCells_2 : List UInt8 := dkwX1_setCells_2 ++ []
def dkwX1_setCells_1 : List UInt8 := [182, 0, 126, 42, 180, 0, 10, 180, 0, 64, 27, 182, 0, 82, 192, 0, 86, 78, 45, 180, 0, 167, 54, 4]
abbrev dktX1_setCells_1 : List UInt8 := dkwX1_setCells_1 ++ dktX1_setCells_2
def dkwX1_setCells_0 : List UInt8 := [42, 42, 180, 0, 10, 27, 182, 0, 164, 182, 0, 158, 28, 3, 17, 3, 231, 184, 0, 74, 184, 0, 120, 42]
abbrev dktX1_setCells_0 : List UInt8 := dkwX1_setCells_0 ++ dktX1_setCells_1
theorem dksX1_setCells_0 : cX1_setCells.data.toList.drop 0 = dktX1_setCells_0 := by decide +kernel
theorem dksX1_setCells_1 : cX1_setCells.data.toList.drop 24 = dktX1_setCells_1 := dk_seg dksX1_setCells_0 24 rfl rfl
theorem dksX1_setCells_2 : cX1_setCells.data.toList.drop 48 = dktX1_setCells_2 := dk_seg dksX1_setCells_1 24 rfl rfl
theorem dX1_setCells_0 : decode cX1_setCells 0 = .ok (.aload_n 0, 1) := dk_42 (dk_at dksX1_setCells_0 0 rfl rfl)
theorem dX1_setCells_1 : decode cX1_setCells 1 = .ok (.aload_n 0, 1) := dk_42 (dk_at dksX1_setCells_0 1 rfl rfl)
theorem dX1_setCells_2 : decode cX1_setCells 2 = .ok (.getfield 10, 3) := dk_180 0 10 (dk_at dksX1_setCells_0 2 rfl rfl)
theorem dX1_setCells_5 : decode cX1_setCells 5 = .ok (.iload_n 1, 1) := dk_27 (dk_at dksX1_setCells_0 5 rfl rfl)
theorem dX1_setCells_6 : decode cX1_setCells 6 = .ok (.invokevirtual 164, 3) := dk_182 0 164 (dk_at dksX1_setCells_0 6 rfl rfl)
theorem dX1_setCells_9 : decode cX1_setCells 9 = .ok (.invokevirtual 158, 3) := dk_182 0 158 (dk_at dksX1_setCells_0 9 rfl rfl)
theorem dX1_setCells_12 : decode cX1_setCells 12 = .ok (.iload_n 2, 1) := dk_28 (dk_at dksX1_setCells_0 12 rfl rfl)
theorem dX1_setCells_13 : decode cX1_setCells 13 = .ok (.iconst 0, 1) := dk_3 (dk_at dksX1_setCells_0 13 rfl rfl)
theorem dX1_setCells_14 : decode cX1_setCells 14 = .ok (.sipush 999, 3) := dk_17 3 231 (dk_at dksX1_setCells_0 14 rfl rfl)
theorem dX1_setCells_17 : decode cX1_setCells 17 = .ok (.invokestatic 74, 3) := dk_184 0 74 (dk_at dksX1_setCells_0 17 rfl rfl)
theorem dX1_setCells_20 : decode cX1_setCells 20 = .ok (.invokestatic 120, 3) := dk_184 0 120 (dk_at dksX1_setCells_0 20 rfl rfl)
theorem dX1_setCells_23 : decode cX1_setCells 23 = .ok (.aload_n 0, 1) := dk_42 (dk_at dksX1_setCells_0 23 rfl rfl)
theorem dX1_setCells_24 : decode cX1_setCells 24 = .ok (.invokevirtual 126, 3) := dk_182 0 126 (dk_at dksX1_setCells_1 0 rfl rfl)
theorem dX1_setCells_27 : decode cX1_setCells 27 = .ok (.aload_n 0, 1) := dk_42 (dk_at dksX1_setCells_1 3 rfl rfl)
theorem dX1_setCells_28 : decode cX1_setCells 28 = .ok (.getfield 10, 3) := dk_180 0 10 (dk_at dksX1_setCells_1 4 rfl rfl)
theorem dX1_setCells_31 : decode cX1_setCells 31 = .ok (.getfield 64, 3) := dk_180 0 64 (dk_at dksX1_setCells_1 7 rfl rfl)
theorem dX1_setCells_34 : decode cX1_setCells 34 = .ok (.iload_n 1, 1) := dk_27 (dk_at dksX1_setCells_1 10 rfl rfl)
theorem dX1_setCells_35 : decode cX1_setCells 35 = .ok (.invokevirtual 82, 3) := dk_182 0 82 (dk_at dksX1_setCells_1 11 rfl rfl)
theorem dX1_setCells_38 : decode cX1_setCells 38 = .ok (.checkcast 86, 3) := dk_192 0 86 (dk_at dksX1_setCells_1 14 rfl rfl)
theorem dX1_setCells_41 : decode cX1_setCells 41 = .ok (.astore_n 3, 1) := dk_78 (dk_at dksX1_setCells_1 17 rfl rfl)
theorem dX1_setCells_42 : decode cX1_setCells 42 = .ok (.aload_n 3, 1) := dk_45 (dk_at dksX1_setCells_1 18 rfl rfl)
theorem dX1_setCells_43 : decode cX1_setCells 43 = .ok (.getfield 167, 3) := dk_180 0 167 (dk_at dksX1_setCells_1 19 rfl rfl)
theorem dX1_setCells_46 : decode cX1_setCells 46 = .ok (.istore 4, 2) := dk_54 4 (dk_at dksX1_setCells_1 22 rfl rfl)
theorem dX1_setCells_48 : decode cX1_setCells 48 = .ok (.aload_n 3, 1) := dk_45 (dk_at dksX1_setCells_2 0 rfl rfl)
theorem dX1_setCells_49 : decode cX1_setCells 49 = .ok (.iload_n 2, 1) := dk_28 (dk_at dksX1_setCells_2 1 rfl rfl)
theorem dX1_setCells_50 : decode cX1_setCells 50 = .ok (.putfield 167, 3) := dk_181 0 167 (dk_at dksX1_setCells_2 2 rfl rfl)
theorem dX1_setCells_53 : decode cX1_setCells 53 = .ok (.iload 4, 2) := dk_21 4 (dk_at dksX1_setCells_2 5 rfl rfl)
theorem dX1_setCells_55 : decode cX1_setCells 55 = .ok (.ireturn, 1) := dk_172 (dk_at dksX1_setCells_2 7 rfl rfl)
abbrev cX1_serve : ByteArray := prog_1_method_19_code
def yX1_serve : MethodName := ⟨RX1, "serve", "(I)I"⟩
def dkwX1_serve_1 : List UInt8 := [172]
abbrev dktX1_serve_1 : List UInt8 := dkwX1_serve_1 ++ []
def dkwX1_serve_0 : List UInt8 := [42, 42, 180, 0, 10, 27, 182, 0, 170, 182, 0, 158, 42, 182, 0, 126, 42, 180, 0, 10, 27, 182, 0, 173]
abbrev dktX1_serve_0 : List UInt8 := dkwX1_serve_0 ++ dktX1_serve_1
theorem dksX1_serve_0 : cX1_serve.data.toList.drop 0 = dktX1_serve_0 := by decide +kernel
theorem dksX1_serve_1 : cX1_serve.data.toList.drop 24 = dktX1_serve_1 := dk_seg dksX1_serve_0 24 rfl rfl
theorem dX1_serve_0 : decode cX1_serve 0 = .ok (.aload_n 0, 1) := dk_42 (dk_at dksX1_serve_0 0 rfl rfl)
theorem dX1_serve_1 : decode cX1_serve 1 = .ok (.aload_n 0, 1) := dk_42 (dk_at dksX1_serve_0 1 rfl rfl)
theorem dX1_serve_2 : decode cX1_serve 2 = .ok (.getfield 10, 3) := dk_180 0 10 (dk_at dksX1_serve_0 2 rfl rfl)
theorem dX1_serve_5 : decode cX1_serve 5 = .ok (.iload_n 1, 1) := dk_27 (dk_at dksX1_serve_0 5 rfl rfl)
theorem dX1_serve_6 : decode cX1_serve 6 = .ok (.invokevirtual 170, 3) := dk_182 0 170 (dk_at dksX1_serve_0 6 rfl rfl)
theorem dX1_serve_9 : decode cX1_serve 9 = .ok (.invokevirtual 158, 3) := dk_182 0 158 (dk_at dksX1_serve_0 9 rfl rfl)
theorem dX1_serve_12 : decode cX1_serve 12 = .ok (.aload_n 0, 1) := dk_42 (dk_at dksX1_serve_0 12 rfl rfl)
theorem dX1_serve_13 : decode cX1_serve 13 = .ok (.invokevirtual 126, 3) := dk_182 0 126 (dk_at dksX1_serve_0 13 rfl rfl)
theorem dX1_serve_16 : decode cX1_serve 16 = .ok (.aload_n 0, 1) := dk_42 (dk_at dksX1_serve_0 16 rfl rfl)
theorem dX1_serve_17 : decode cX1_serve 17 = .ok (.getfield 10, 3) := dk_180 0 10 (dk_at dksX1_serve_0 17 rfl rfl)
theorem dX1_serve_20 : decode cX1_serve 20 = .ok (.iload_n 1, 1) := dk_27 (dk_at dksX1_serve_0 20 rfl rfl)
theorem dX1_serve_21 : decode cX1_serve 21 = .ok (.invokevirtual 173, 3) := dk_182 0 173 (dk_at dksX1_serve_0 21 rfl rfl)
theorem dX1_serve_24 : decode cX1_serve 24 = .ok (.ireturn, 1) := dk_172 (dk_at dksX1_serve_1 0 rfl rfl)
abbrev cX1_dry : ByteArray := prog_1_method_20_code
def yX1_dry : MethodName := ⟨RX1, "dry", "(I)I"⟩
def dkwX1_dry_1 : List UInt8 := [172]
abbrev dktX1_dry_1 : List UInt8 := dkwX1_dry_1 ++ []
def dkwX1_dry_0 : List UInt8 := [42, 42, 180, 0, 10, 27, 182, 0, 176, 182, 0, 158, 42, 182, 0, 126, 42, 180, 0, 10, 27, 182, 0, 179]
abbrev dktX1_dry_0 : List UInt8 := dkwX1_dry_0 ++ dktX1_dry_1
theorem dksX1_dry_0 : cX1_dry.data.toList.drop 0 = dktX1_dry_0 := by decide +kernel
theorem dksX1_dry_1 : cX1_dry.data.toList.drop 24 = dktX1_dry_1 := dk_seg dksX1_dry_0 24 rfl rfl
theorem dX1_dry_0 : decode cX1_dry 0 = .ok (.aload_n 0, 1) := dk_42 (dk_at dksX1_dry_0 0 rfl rfl)
theorem dX1_dry_1 : decode cX1_dry 1 = .ok (.aload_n 0, 1) := dk_42 (dk_at dksX1_dry_0 1 rfl rfl)
theorem dX1_dry_2 : decode cX1_dry 2 = .ok (.getfield 10, 3) := dk_180 0 10 (dk_at dksX1_dry_0 2 rfl rfl)
theorem dX1_dry_5 : decode cX1_dry 5 = .ok (.iload_n 1, 1) := dk_27 (dk_at dksX1_dry_0 5 rfl rfl)
theorem dX1_dry_6 : decode cX1_dry 6 = .ok (.invokevirtual 176, 3) := dk_182 0 176 (dk_at dksX1_dry_0 6 rfl rfl)
theorem dX1_dry_9 : decode cX1_dry 9 = .ok (.invokevirtual 158, 3) := dk_182 0 158 (dk_at dksX1_dry_0 9 rfl rfl)
theorem dX1_dry_12 : decode cX1_dry 12 = .ok (.aload_n 0, 1) := dk_42 (dk_at dksX1_dry_0 12 rfl rfl)
theorem dX1_dry_13 : decode cX1_dry 13 = .ok (.invokevirtual 126, 3) := dk_182 0 126 (dk_at dksX1_dry_0 13 rfl rfl)
theorem dX1_dry_16 : decode cX1_dry 16 = .ok (.aload_n 0, 1) := dk_42 (dk_at dksX1_dry_0 16 rfl rfl)
theorem dX1_dry_17 : decode cX1_dry 17 = .ok (.getfield 10, 3) := dk_180 0 10 (dk_at dksX1_dry_0 17 rfl rfl)
theorem dX1_dry_20 : decode cX1_dry 20 = .ok (.iload_n 1, 1) := dk_27 (dk_at dksX1_dry_0 20 rfl rfl)
theorem dX1_dry_21 : decode cX1_dry 21 = .ok (.invokevirtual 179, 3) := dk_182 0 179 (dk_at dksX1_dry_0 21 rfl rfl)
theorem dX1_dry_24 : decode cX1_dry 24 = .ok (.ireturn, 1) := dk_172 (dk_at dksX1_dry_1 0 rfl rfl)
abbrev cX1_sell : ByteArray := prog_1_method_21_code
def yX1_sell : MethodName := ⟨RX1, "sell", "(I)I"⟩
def dkwX1_sell_1 : List UInt8 := [182, 0, 82, 192, 0, 86, 4, 181, 0, 182, 42, 180, 0, 10, 3, 182, 0, 186, 172]
abbrev dktX1_sell_1 : List UInt8 := dkwX1_sell_1 ++ []
def dkwX1_sell_0 : List UInt8 := [42, 42, 180, 0, 10, 27, 182, 0, 164, 182, 0, 158, 42, 182, 0, 126, 42, 180, 0, 10, 180, 0, 64, 27]
abbrev dktX1_sell_0 : List UInt8 := dkwX1_sell_0 ++ dktX1_sell_1
theorem dksX1_sell_0 : cX1_sell.data.toList.drop 0 = dktX1_sell_0 := by decide +kernel
theorem dksX1_sell_1 : cX1_sell.data.toList.drop 24 = dktX1_sell_1 := dk_seg dksX1_sell_0 24 rfl rfl
theorem dX1_sell_0 : decode cX1_sell 0 = .ok (.aload_n 0, 1) := dk_42 (dk_at dksX1_sell_0 0 rfl rfl)
theorem dX1_sell_1 : decode cX1_sell 1 = .ok (.aload_n 0, 1) := dk_42 (dk_at dksX1_sell_0 1 rfl rfl)
theorem dX1_sell_2 : decode cX1_sell 2 = .ok (.getfield 10, 3) := dk_180 0 10 (dk_at dksX1_sell_0 2 rfl rfl)
theorem dX1_sell_5 : decode cX1_sell 5 = .ok (.iload_n 1, 1) := dk_27 (dk_at dksX1_sell_0 5 rfl rfl)
theorem dX1_sell_6 : decode cX1_sell 6 = .ok (.invokevirtual 164, 3) := dk_182 0 164 (dk_at dksX1_sell_0 6 rfl rfl)
theorem dX1_sell_9 : decode cX1_sell 9 = .ok (.invokevirtual 158, 3) := dk_182 0 158 (dk_at dksX1_sell_0 9 rfl rfl)
theorem dX1_sell_12 : decode cX1_sell 12 = .ok (.aload_n 0, 1) := dk_42 (dk_at dksX1_sell_0 12 rfl rfl)
theorem dX1_sell_13 : decode cX1_sell 13 = .ok (.invokevirtual 126, 3) := dk_182 0 126 (dk_at dksX1_sell_0 13 rfl rfl)
theorem dX1_sell_16 : decode cX1_sell 16 = .ok (.aload_n 0, 1) := dk_42 (dk_at dksX1_sell_0 16 rfl rfl)
theorem dX1_sell_17 : decode cX1_sell 17 = .ok (.getfield 10, 3) := dk_180 0 10 (dk_at dksX1_sell_0 17 rfl rfl)
theorem dX1_sell_20 : decode cX1_sell 20 = .ok (.getfield 64, 3) := dk_180 0 64 (dk_at dksX1_sell_0 20 rfl rfl)
theorem dX1_sell_23 : decode cX1_sell 23 = .ok (.iload_n 1, 1) := dk_27 (dk_at dksX1_sell_0 23 rfl rfl)
theorem dX1_sell_24 : decode cX1_sell 24 = .ok (.invokevirtual 82, 3) := dk_182 0 82 (dk_at dksX1_sell_1 0 rfl rfl)
theorem dX1_sell_27 : decode cX1_sell 27 = .ok (.checkcast 86, 3) := dk_192 0 86 (dk_at dksX1_sell_1 3 rfl rfl)
theorem dX1_sell_30 : decode cX1_sell 30 = .ok (.iconst 1, 1) := dk_4 (dk_at dksX1_sell_1 6 rfl rfl)
theorem dX1_sell_31 : decode cX1_sell 31 = .ok (.putfield 182, 3) := dk_181 0 182 (dk_at dksX1_sell_1 7 rfl rfl)
theorem dX1_sell_34 : decode cX1_sell 34 = .ok (.aload_n 0, 1) := dk_42 (dk_at dksX1_sell_1 10 rfl rfl)
theorem dX1_sell_35 : decode cX1_sell 35 = .ok (.getfield 10, 3) := dk_180 0 10 (dk_at dksX1_sell_1 11 rfl rfl)
theorem dX1_sell_38 : decode cX1_sell 38 = .ok (.iconst 0, 1) := dk_3 (dk_at dksX1_sell_1 14 rfl rfl)
theorem dX1_sell_39 : decode cX1_sell 39 = .ok (.invokevirtual 186, 3) := dk_182 0 186 (dk_at dksX1_sell_1 15 rfl rfl)
theorem dX1_sell_42 : decode cX1_sell 42 = .ok (.ireturn, 1) := dk_172 (dk_at dksX1_sell_1 18 rfl rfl)
abbrev cX1_setBonus : ByteArray := prog_1_method_22_code
def yX1_setBonus : MethodName := ⟨RX1, "setBonus", "(II)I"⟩
def dkwX1_setBonus_1 : List UInt8 := [182, 0, 192, 42, 180, 0, 10, 180, 0, 196, 182, 0, 68, 172]
abbrev dktX1_setBonus_1 : List UInt8 := dkwX1_setBonus_1 ++ []
def dkwX1_setBonus_0 : List UInt8 := [42, 42, 180, 0, 10, 27, 28, 182, 0, 189, 182, 0, 158, 42, 182, 0, 126, 42, 180, 0, 10, 27, 28]
abbrev dktX1_setBonus_0 : List UInt8 := dkwX1_setBonus_0 ++ dktX1_setBonus_1
theorem dksX1_setBonus_0 : cX1_setBonus.data.toList.drop 0 = dktX1_setBonus_0 := by decide +kernel
theorem dksX1_setBonus_1 : cX1_setBonus.data.toList.drop 23 = dktX1_setBonus_1 := dk_seg dksX1_setBonus_0 23 rfl rfl
theorem dX1_setBonus_0 : decode cX1_setBonus 0 = .ok (.aload_n 0, 1) := dk_42 (dk_at dksX1_setBonus_0 0 rfl rfl)
theorem dX1_setBonus_1 : decode cX1_setBonus 1 = .ok (.aload_n 0, 1) := dk_42 (dk_at dksX1_setBonus_0 1 rfl rfl)
theorem dX1_setBonus_2 : decode cX1_setBonus 2 = .ok (.getfield 10, 3) := dk_180 0 10 (dk_at dksX1_setBonus_0 2 rfl rfl)
theorem dX1_setBonus_5 : decode cX1_setBonus 5 = .ok (.iload_n 1, 1) := dk_27 (dk_at dksX1_setBonus_0 5 rfl rfl)
theorem dX1_setBonus_6 : decode cX1_setBonus 6 = .ok (.iload_n 2, 1) := dk_28 (dk_at dksX1_setBonus_0 6 rfl rfl)
theorem dX1_setBonus_7 : decode cX1_setBonus 7 = .ok (.invokevirtual 189, 3) := dk_182 0 189 (dk_at dksX1_setBonus_0 7 rfl rfl)
theorem dX1_setBonus_10 : decode cX1_setBonus 10 = .ok (.invokevirtual 158, 3) := dk_182 0 158 (dk_at dksX1_setBonus_0 10 rfl rfl)
theorem dX1_setBonus_13 : decode cX1_setBonus 13 = .ok (.aload_n 0, 1) := dk_42 (dk_at dksX1_setBonus_0 13 rfl rfl)
theorem dX1_setBonus_14 : decode cX1_setBonus 14 = .ok (.invokevirtual 126, 3) := dk_182 0 126 (dk_at dksX1_setBonus_0 14 rfl rfl)
theorem dX1_setBonus_17 : decode cX1_setBonus 17 = .ok (.aload_n 0, 1) := dk_42 (dk_at dksX1_setBonus_0 17 rfl rfl)
theorem dX1_setBonus_18 : decode cX1_setBonus 18 = .ok (.getfield 10, 3) := dk_180 0 10 (dk_at dksX1_setBonus_0 18 rfl rfl)
theorem dX1_setBonus_21 : decode cX1_setBonus 21 = .ok (.iload_n 1, 1) := dk_27 (dk_at dksX1_setBonus_0 21 rfl rfl)
theorem dX1_setBonus_22 : decode cX1_setBonus 22 = .ok (.iload_n 2, 1) := dk_28 (dk_at dksX1_setBonus_0 22 rfl rfl)
theorem dX1_setBonus_23 : decode cX1_setBonus 23 = .ok (.invokevirtual 192, 3) := dk_182 0 192 (dk_at dksX1_setBonus_1 0 rfl rfl)
theorem dX1_setBonus_26 : decode cX1_setBonus 26 = .ok (.aload_n 0, 1) := dk_42 (dk_at dksX1_setBonus_1 3 rfl rfl)
theorem dX1_setBonus_27 : decode cX1_setBonus 27 = .ok (.getfield 10, 3) := dk_180 0 10 (dk_at dksX1_setBonus_1 4 rfl rfl)
theorem dX1_setBonus_30 : decode cX1_setBonus 30 = .ok (.getfield 196, 3) := dk_180 0 196 (dk_at dksX1_setBonus_1 7 rfl rfl)
theorem dX1_setBonus_33 : decode cX1_setBonus 33 = .ok (.invokevirtual 68, 3) := dk_182 0 68 (dk_at dksX1_setBonus_1 10 rfl rfl)
theorem dX1_setBonus_36 : decode cX1_setBonus 36 = .ok (.ireturn, 1) := dk_172 (dk_at dksX1_setBonus_1 13 rfl rfl)
abbrev cX1_bonus : ByteArray := prog_1_method_23_code
def yX1_bonus : MethodName := ⟨RX1, "bonus", "(IZ)I"⟩
def dkwX1_bonus_2 : List UInt8 := [180, 0, 204, 172]
abbrev dktX1_bonus_2 : List UInt8 := dkwX1_bonus_2 ++ []
def dkwX1_bonus_1 : List UInt8 := [180, 0, 196, 27, 182, 0, 82, 192, 0, 199, 78, 28, 153, 0, 10, 45, 180, 0, 201, 167, 0, 7, 45]
abbrev dktX1_bonus_1 : List UInt8 := dkwX1_bonus_1 ++ dktX1_bonus_2
def dkwX1_bonus_0 : List UInt8 := [27, 3, 42, 180, 0, 10, 180, 0, 196, 182, 0, 68, 4, 100, 184, 0, 74, 184, 0, 78, 42, 180, 0, 10]
abbrev dktX1_bonus_0 : List UInt8 := dkwX1_bonus_0 ++ dktX1_bonus_1
theorem dksX1_bonus_0 : cX1_bonus.data.toList.drop 0 = dktX1_bonus_0 := by decide +kernel
theorem dksX1_bonus_1 : cX1_bonus.data.toList.drop 24 = dktX1_bonus_1 := dk_seg dksX1_bonus_0 24 rfl rfl
theorem dksX1_bonus_2 : cX1_bonus.data.toList.drop 47 = dktX1_bonus_2 := dk_seg dksX1_bonus_1 23 rfl rfl
theorem dX1_bonus_0 : decode cX1_bonus 0 = .ok (.iload_n 1, 1) := dk_27 (dk_at dksX1_bonus_0 0 rfl rfl)
theorem dX1_bonus_1 : decode cX1_bonus 1 = .ok (.iconst 0, 1) := dk_3 (dk_at dksX1_bonus_0 1 rfl rfl)
theorem dX1_bonus_2 : decode cX1_bonus 2 = .ok (.aload_n 0, 1) := dk_42 (dk_at dksX1_bonus_0 2 rfl rfl)
theorem dX1_bonus_3 : decode cX1_bonus 3 = .ok (.getfield 10, 3) := dk_180 0 10 (dk_at dksX1_bonus_0 3 rfl rfl)
theorem dX1_bonus_6 : decode cX1_bonus 6 = .ok (.getfield 196, 3) := dk_180 0 196 (dk_at dksX1_bonus_0 6 rfl rfl)
theorem dX1_bonus_9 : decode cX1_bonus 9 = .ok (.invokevirtual 68, 3) := dk_182 0 68 (dk_at dksX1_bonus_0 9 rfl rfl)
theorem dX1_bonus_12 : decode cX1_bonus 12 = .ok (.iconst 1, 1) := dk_4 (dk_at dksX1_bonus_0 12 rfl rfl)
theorem dX1_bonus_13 : decode cX1_bonus 13 = .ok (.isub, 1) := dk_100 (dk_at dksX1_bonus_0 13 rfl rfl)
theorem dX1_bonus_14 : decode cX1_bonus 14 = .ok (.invokestatic 74, 3) := dk_184 0 74 (dk_at dksX1_bonus_0 14 rfl rfl)
theorem dX1_bonus_17 : decode cX1_bonus 17 = .ok (.invokestatic 78, 3) := dk_184 0 78 (dk_at dksX1_bonus_0 17 rfl rfl)
theorem dX1_bonus_20 : decode cX1_bonus 20 = .ok (.aload_n 0, 1) := dk_42 (dk_at dksX1_bonus_0 20 rfl rfl)
theorem dX1_bonus_21 : decode cX1_bonus 21 = .ok (.getfield 10, 3) := dk_180 0 10 (dk_at dksX1_bonus_0 21 rfl rfl)
theorem dX1_bonus_24 : decode cX1_bonus 24 = .ok (.getfield 196, 3) := dk_180 0 196 (dk_at dksX1_bonus_1 0 rfl rfl)
theorem dX1_bonus_27 : decode cX1_bonus 27 = .ok (.iload_n 1, 1) := dk_27 (dk_at dksX1_bonus_1 3 rfl rfl)
theorem dX1_bonus_28 : decode cX1_bonus 28 = .ok (.invokevirtual 82, 3) := dk_182 0 82 (dk_at dksX1_bonus_1 4 rfl rfl)
theorem dX1_bonus_31 : decode cX1_bonus 31 = .ok (.checkcast 199, 3) := dk_192 0 199 (dk_at dksX1_bonus_1 7 rfl rfl)
theorem dX1_bonus_34 : decode cX1_bonus 34 = .ok (.astore_n 3, 1) := dk_78 (dk_at dksX1_bonus_1 10 rfl rfl)
theorem dX1_bonus_35 : decode cX1_bonus 35 = .ok (.iload_n 2, 1) := dk_28 (dk_at dksX1_bonus_1 11 rfl rfl)
theorem dX1_bonus_36 : decode cX1_bonus 36 = .ok (.ifCond .eq 10, 3) := dk_153 0 10 (dk_at dksX1_bonus_1 12 rfl rfl)
theorem dX1_bonus_39 : decode cX1_bonus 39 = .ok (.aload_n 3, 1) := dk_45 (dk_at dksX1_bonus_1 15 rfl rfl)
theorem dX1_bonus_40 : decode cX1_bonus 40 = .ok (.getfield 201, 3) := dk_180 0 201 (dk_at dksX1_bonus_1 16 rfl rfl)
theorem dX1_bonus_43 : decode cX1_bonus 43 = .ok (.goto 7, 3) := dk_167 0 7 (dk_at dksX1_bonus_1 19 rfl rfl)
theorem dX1_bonus_46 : decode cX1_bonus 46 = .ok (.aload_n 3, 1) := dk_45 (dk_at dksX1_bonus_1 22 rfl rfl)
theorem dX1_bonus_47 : decode cX1_bonus 47 = .ok (.getfield 204, 3) := dk_180 0 204 (dk_at dksX1_bonus_2 0 rfl rfl)
theorem dX1_bonus_50 : decode cX1_bonus 50 = .ok (.ireturn, 1) := dk_172 (dk_at dksX1_bonus_2 3 rfl rfl)
abbrev cX1_refusal : ByteArray := prog_1_method_24_code
def yX1_refusal : MethodName := ⟨RX1, "refusal", "()I"⟩
def dkwX1_refusal_0 : List UInt8 := [42, 180, 0, 58, 158, 0, 7, 4, 167, 0, 4, 3, 184, 0, 207, 42, 180, 0, 58, 172]
abbrev dktX1_refusal_0 : List UInt8 := dkwX1_refusal_0 ++ []
theorem dksX1_refusal_0 : cX1_refusal.data.toList.drop 0 = dktX1_refusal_0 := by decide +kernel
theorem dX1_refusal_0 : decode cX1_refusal 0 = .ok (.aload_n 0, 1) := dk_42 (dk_at dksX1_refusal_0 0 rfl rfl)
theorem dX1_refusal_1 : decode cX1_refusal 1 = .ok (.getfield 58, 3) := dk_180 0 58 (dk_at dksX1_refusal_0 1 rfl rfl)
theorem dX1_refusal_4 : decode cX1_refusal 4 = .ok (.ifCond .le 7, 3) := dk_158 0 7 (dk_at dksX1_refusal_0 4 rfl rfl)
theorem dX1_refusal_7 : decode cX1_refusal 7 = .ok (.iconst 1, 1) := dk_4 (dk_at dksX1_refusal_0 7 rfl rfl)
theorem dX1_refusal_8 : decode cX1_refusal 8 = .ok (.goto 4, 3) := dk_167 0 4 (dk_at dksX1_refusal_0 8 rfl rfl)
theorem dX1_refusal_11 : decode cX1_refusal 11 = .ok (.iconst 0, 1) := dk_3 (dk_at dksX1_refusal_0 11 rfl rfl)
theorem dX1_refusal_12 : decode cX1_refusal 12 = .ok (.invokestatic 207, 3) := dk_184 0 207 (dk_at dksX1_refusal_0 12 rfl rfl)
theorem dX1_refusal_15 : decode cX1_refusal 15 = .ok (.aload_n 0, 1) := dk_42 (dk_at dksX1_refusal_0 15 rfl rfl)
theorem dX1_refusal_16 : decode cX1_refusal 16 = .ok (.getfield 58, 3) := dk_180 0 58 (dk_at dksX1_refusal_0 16 rfl rfl)
theorem dX1_refusal_19 : decode cX1_refusal 19 = .ok (.ireturn, 1) := dk_172 (dk_at dksX1_refusal_0 19 rfl rfl)
abbrev cX1_checkElement : ByteArray := prog_1_method_5_code
def yX1_checkElement : MethodName := ⟨RX1, "checkElement", "(Z)V"⟩
def dkwX1_checkElement_0 : List UInt8 := [26, 154, 0, 11, 187, 0, 52, 89, 183, 0, 54, 191, 177]
abbrev dktX1_checkElement_0 : List UInt8 := dkwX1_checkElement_0 ++ []
theorem dksX1_checkElement_0 : cX1_checkElement.data.toList.drop 0 = dktX1_checkElement_0 := by decide +kernel
theorem dX1_checkElement_0 : decode cX1_checkElement 0 = .ok (.iload_n 0, 1) := dk_26 (dk_at dksX1_checkElement_0 0 rfl rfl)
theorem dX1_checkElement_1 : decode cX1_checkElement 1 = .ok (.ifCond .ne 11, 3) := dk_154 0 11 (dk_at dksX1_checkElement_0 1 rfl rfl)
theorem dX1_checkElement_4 : decode cX1_checkElement 4 = .ok (.new 52, 3) := dk_187 0 52 (dk_at dksX1_checkElement_0 4 rfl rfl)
theorem dX1_checkElement_7 : decode cX1_checkElement 7 = .ok (.dup, 1) := dk_89 (dk_at dksX1_checkElement_0 7 rfl rfl)
theorem dX1_checkElement_8 : decode cX1_checkElement 8 = .ok (.invokespecial 54, 3) := dk_183 0 54 (dk_at dksX1_checkElement_0 8 rfl rfl)
theorem dX1_checkElement_11 : decode cX1_checkElement 11 = .ok (.athrow, 1) := dk_191 (dk_at dksX1_checkElement_0 11 rfl rfl)
theorem dX1_checkElement_12 : decode cX1_checkElement 12 = .ok (.return_, 1) := dk_177 (dk_at dksX1_checkElement_0 12 rfl rfl)
abbrev cX1_pass : ByteArray := prog_1_method_26_code
def yX1_pass : MethodName := ⟨RX1, "pass", "(I)I"⟩
def dkwX1_pass_1 : List UInt8 := [182, 0, 126, 42, 180, 0, 10, 27, 182, 0, 214, 172]
abbrev dktX1_pass_1 : List UInt8 := dkwX1_pass_1 ++ []
def dkwX1_pass_0 : List UInt8 := [27, 4, 161, 0, 15, 42, 27, 182, 0, 210, 153, 0, 7, 4, 167, 0, 4, 3, 184, 0, 120, 42]
abbrev dktX1_pass_0 : List UInt8 := dkwX1_pass_0 ++ dktX1_pass_1
theorem dksX1_pass_0 : cX1_pass.data.toList.drop 0 = dktX1_pass_0 := by decide +kernel
theorem dksX1_pass_1 : cX1_pass.data.toList.drop 22 = dktX1_pass_1 := dk_seg dksX1_pass_0 22 rfl rfl
theorem dX1_pass_0 : decode cX1_pass 0 = .ok (.iload_n 1, 1) := dk_27 (dk_at dksX1_pass_0 0 rfl rfl)
theorem dX1_pass_1 : decode cX1_pass 1 = .ok (.iconst 1, 1) := dk_4 (dk_at dksX1_pass_0 1 rfl rfl)
theorem dX1_pass_2 : decode cX1_pass 2 = .ok (.if_icmp .lt 15, 3) := dk_161 0 15 (dk_at dksX1_pass_0 2 rfl rfl)
theorem dX1_pass_5 : decode cX1_pass 5 = .ok (.aload_n 0, 1) := dk_42 (dk_at dksX1_pass_0 5 rfl rfl)
theorem dX1_pass_6 : decode cX1_pass 6 = .ok (.iload_n 1, 1) := dk_27 (dk_at dksX1_pass_0 6 rfl rfl)
theorem dX1_pass_7 : decode cX1_pass 7 = .ok (.invokevirtual 210, 3) := dk_182 0 210 (dk_at dksX1_pass_0 7 rfl rfl)
theorem dX1_pass_10 : decode cX1_pass 10 = .ok (.ifCond .eq 7, 3) := dk_153 0 7 (dk_at dksX1_pass_0 10 rfl rfl)
theorem dX1_pass_13 : decode cX1_pass 13 = .ok (.iconst 1, 1) := dk_4 (dk_at dksX1_pass_0 13 rfl rfl)
theorem dX1_pass_14 : decode cX1_pass 14 = .ok (.goto 4, 3) := dk_167 0 4 (dk_at dksX1_pass_0 14 rfl rfl)
theorem dX1_pass_17 : decode cX1_pass 17 = .ok (.iconst 0, 1) := dk_3 (dk_at dksX1_pass_0 17 rfl rfl)
theorem dX1_pass_18 : decode cX1_pass 18 = .ok (.invokestatic 120, 3) := dk_184 0 120 (dk_at dksX1_pass_0 18 rfl rfl)
theorem dX1_pass_21 : decode cX1_pass 21 = .ok (.aload_n 0, 1) := dk_42 (dk_at dksX1_pass_0 21 rfl rfl)
theorem dX1_pass_22 : decode cX1_pass 22 = .ok (.invokevirtual 126, 3) := dk_182 0 126 (dk_at dksX1_pass_1 0 rfl rfl)
theorem dX1_pass_25 : decode cX1_pass 25 = .ok (.aload_n 0, 1) := dk_42 (dk_at dksX1_pass_1 3 rfl rfl)
theorem dX1_pass_26 : decode cX1_pass 26 = .ok (.getfield 10, 3) := dk_180 0 10 (dk_at dksX1_pass_1 4 rfl rfl)
theorem dX1_pass_29 : decode cX1_pass 29 = .ok (.iload_n 1, 1) := dk_27 (dk_at dksX1_pass_1 7 rfl rfl)
theorem dX1_pass_30 : decode cX1_pass 30 = .ok (.invokevirtual 214, 3) := dk_182 0 214 (dk_at dksX1_pass_1 8 rfl rfl)
theorem dX1_pass_33 : decode cX1_pass 33 = .ok (.ireturn, 1) := dk_172 (dk_at dksX1_pass_1 11 rfl rfl)
abbrev cX1_canPass : ByteArray := prog_1_method_25_code
def yX1_canPass : MethodName := ⟨RX1, "canPass", "(I)Z"⟩
def dkwX1_canPass_1 : List UInt8 := [167, 0, 4, 3, 172]
abbrev dktX1_canPass_1 : List UInt8 := dkwX1_canPass_1 ++ []
def dkwX1_canPass_0 : List UInt8 := [27, 16, 30, 163, 0, 22, 42, 180, 0, 10, 180, 0, 106, 27, 96, 17, 1, 144, 163, 0, 7, 4]
abbrev dktX1_canPass_0 : List UInt8 := dkwX1_canPass_0 ++ dktX1_canPass_1
theorem dksX1_canPass_0 : cX1_canPass.data.toList.drop 0 = dktX1_canPass_0 := by decide +kernel
theorem dksX1_canPass_1 : cX1_canPass.data.toList.drop 22 = dktX1_canPass_1 := dk_seg dksX1_canPass_0 22 rfl rfl
theorem dX1_canPass_0 : decode cX1_canPass 0 = .ok (.iload_n 1, 1) := dk_27 (dk_at dksX1_canPass_0 0 rfl rfl)
theorem dX1_canPass_1 : decode cX1_canPass 1 = .ok (.bipush 30, 2) := dk_16 30 (dk_at dksX1_canPass_0 1 rfl rfl)
theorem dX1_canPass_3 : decode cX1_canPass 3 = .ok (.if_icmp .gt 22, 3) := dk_163 0 22 (dk_at dksX1_canPass_0 3 rfl rfl)
theorem dX1_canPass_6 : decode cX1_canPass 6 = .ok (.aload_n 0, 1) := dk_42 (dk_at dksX1_canPass_0 6 rfl rfl)
theorem dX1_canPass_7 : decode cX1_canPass 7 = .ok (.getfield 10, 3) := dk_180 0 10 (dk_at dksX1_canPass_0 7 rfl rfl)
theorem dX1_canPass_10 : decode cX1_canPass 10 = .ok (.getfield 106, 3) := dk_180 0 106 (dk_at dksX1_canPass_0 10 rfl rfl)
theorem dX1_canPass_13 : decode cX1_canPass 13 = .ok (.iload_n 1, 1) := dk_27 (dk_at dksX1_canPass_0 13 rfl rfl)
theorem dX1_canPass_14 : decode cX1_canPass 14 = .ok (.iadd, 1) := dk_96 (dk_at dksX1_canPass_0 14 rfl rfl)
theorem dX1_canPass_15 : decode cX1_canPass 15 = .ok (.sipush 400, 3) := dk_17 1 144 (dk_at dksX1_canPass_0 15 rfl rfl)
theorem dX1_canPass_18 : decode cX1_canPass 18 = .ok (.if_icmp .gt 7, 3) := dk_163 0 7 (dk_at dksX1_canPass_0 18 rfl rfl)
theorem dX1_canPass_21 : decode cX1_canPass 21 = .ok (.iconst 1, 1) := dk_4 (dk_at dksX1_canPass_0 21 rfl rfl)
theorem dX1_canPass_22 : decode cX1_canPass 22 = .ok (.goto 4, 3) := dk_167 0 4 (dk_at dksX1_canPass_1 0 rfl rfl)
theorem dX1_canPass_25 : decode cX1_canPass 25 = .ok (.iconst 0, 1) := dk_3 (dk_at dksX1_canPass_1 3 rfl rfl)
theorem dX1_canPass_26 : decode cX1_canPass 26 = .ok (.ireturn, 1) := dk_172 (dk_at dksX1_canPass_1 4 rfl rfl)
abbrev cX1_cow : ByteArray := prog_1_method_28_code
def yX1_cow : MethodName := ⟨RX1, "cow", "(II)I"⟩
def dkwX1_cow_1 : List UInt8 := [180, 0, 106, 182, 0, 221, 172]
abbrev dktX1_cow_1 : List UInt8 := dkwX1_cow_1 ++ []
def dkwX1_cow_0 : List UInt8 := [42, 27, 182, 0, 217, 78, 28, 3, 16, 8, 184, 0, 74, 184, 0, 120, 45, 28, 42, 180, 0, 10]
abbrev dktX1_cow_0 : List UInt8 := dkwX1_cow_0 ++ dktX1_cow_1
theorem dksX1_cow_0 : cX1_cow.data.toList.drop 0 = dktX1_cow_0 := by decide +kernel
theorem dksX1_cow_1 : cX1_cow.data.toList.drop 22 = dktX1_cow_1 := dk_seg dksX1_cow_0 22 rfl rfl
theorem dX1_cow_0 : decode cX1_cow 0 = .ok (.aload_n 0, 1) := dk_42 (dk_at dksX1_cow_0 0 rfl rfl)
theorem dX1_cow_1 : decode cX1_cow 1 = .ok (.iload_n 1, 1) := dk_27 (dk_at dksX1_cow_0 1 rfl rfl)
theorem dX1_cow_2 : decode cX1_cow 2 = .ok (.invokevirtual 217, 3) := dk_182 0 217 (dk_at dksX1_cow_0 2 rfl rfl)
theorem dX1_cow_5 : decode cX1_cow 5 = .ok (.astore_n 3, 1) := dk_78 (dk_at dksX1_cow_0 5 rfl rfl)
theorem dX1_cow_6 : decode cX1_cow 6 = .ok (.iload_n 2, 1) := dk_28 (dk_at dksX1_cow_0 6 rfl rfl)
theorem dX1_cow_7 : decode cX1_cow 7 = .ok (.iconst 0, 1) := dk_3 (dk_at dksX1_cow_0 7 rfl rfl)
theorem dX1_cow_8 : decode cX1_cow 8 = .ok (.bipush 8, 2) := dk_16 8 (dk_at dksX1_cow_0 8 rfl rfl)
theorem dX1_cow_10 : decode cX1_cow 10 = .ok (.invokestatic 74, 3) := dk_184 0 74 (dk_at dksX1_cow_0 10 rfl rfl)
theorem dX1_cow_13 : decode cX1_cow 13 = .ok (.invokestatic 120, 3) := dk_184 0 120 (dk_at dksX1_cow_0 13 rfl rfl)
theorem dX1_cow_16 : decode cX1_cow 16 = .ok (.aload_n 3, 1) := dk_45 (dk_at dksX1_cow_0 16 rfl rfl)
theorem dX1_cow_17 : decode cX1_cow 17 = .ok (.iload_n 2, 1) := dk_28 (dk_at dksX1_cow_0 17 rfl rfl)
theorem dX1_cow_18 : decode cX1_cow 18 = .ok (.aload_n 0, 1) := dk_42 (dk_at dksX1_cow_0 18 rfl rfl)
theorem dX1_cow_19 : decode cX1_cow 19 = .ok (.getfield 10, 3) := dk_180 0 10 (dk_at dksX1_cow_0 19 rfl rfl)
theorem dX1_cow_22 : decode cX1_cow 22 = .ok (.getfield 106, 3) := dk_180 0 106 (dk_at dksX1_cow_1 0 rfl rfl)
theorem dX1_cow_25 : decode cX1_cow 25 = .ok (.invokevirtual 221, 3) := dk_182 0 221 (dk_at dksX1_cow_1 3 rfl rfl)
theorem dX1_cow_28 : decode cX1_cow 28 = .ok (.ireturn, 1) := dk_172 (dk_at dksX1_cow_1 6 rfl rfl)
abbrev cX1_cowAt : ByteArray := prog_1_method_8_code
def yX1_cowAt : MethodName := ⟨RX1, "cowAt", "(I)LDairyBook$Cow;"⟩
def dkwX1_cowAt_1 : List UInt8 := [180, 0, 64, 27, 182, 0, 82, 192, 0, 86, 176]
abbrev dktX1_cowAt_1 : List UInt8 := dkwX1_cowAt_1 ++ []
def dkwX1_cowAt_0 : List UInt8 := [27, 3, 42, 180, 0, 10, 180, 0, 64, 182, 0, 68, 4, 100, 184, 0, 74, 184, 0, 78, 42, 180, 0, 10]
abbrev dktX1_cowAt_0 : List UInt8 := dkwX1_cowAt_0 ++ dktX1_cowAt_1
theorem dksX1_cowAt_0 : cX1_cowAt.data.toList.drop 0 = dktX1_cowAt_0 := by decide +kernel
theorem dksX1_cowAt_1 : cX1_cowAt.data.toList.drop 24 = dktX1_cowAt_1 := dk_seg dksX1_cowAt_0 24 rfl rfl
theorem dX1_cowAt_0 : decode cX1_cowAt 0 = .ok (.iload_n 1, 1) := dk_27 (dk_at dksX1_cowAt_0 0 rfl rfl)
theorem dX1_cowAt_1 : decode cX1_cowAt 1 = .ok (.iconst 0, 1) := dk_3 (dk_at dksX1_cowAt_0 1 rfl rfl)
theorem dX1_cowAt_2 : decode cX1_cowAt 2 = .ok (.aload_n 0, 1) := dk_42 (dk_at dksX1_cowAt_0 2 rfl rfl)
theorem dX1_cowAt_3 : decode cX1_cowAt 3 = .ok (.getfield 10, 3) := dk_180 0 10 (dk_at dksX1_cowAt_0 3 rfl rfl)
theorem dX1_cowAt_6 : decode cX1_cowAt 6 = .ok (.getfield 64, 3) := dk_180 0 64 (dk_at dksX1_cowAt_0 6 rfl rfl)
theorem dX1_cowAt_9 : decode cX1_cowAt 9 = .ok (.invokevirtual 68, 3) := dk_182 0 68 (dk_at dksX1_cowAt_0 9 rfl rfl)
theorem dX1_cowAt_12 : decode cX1_cowAt 12 = .ok (.iconst 1, 1) := dk_4 (dk_at dksX1_cowAt_0 12 rfl rfl)
theorem dX1_cowAt_13 : decode cX1_cowAt 13 = .ok (.isub, 1) := dk_100 (dk_at dksX1_cowAt_0 13 rfl rfl)
theorem dX1_cowAt_14 : decode cX1_cowAt 14 = .ok (.invokestatic 74, 3) := dk_184 0 74 (dk_at dksX1_cowAt_0 14 rfl rfl)
theorem dX1_cowAt_17 : decode cX1_cowAt 17 = .ok (.invokestatic 78, 3) := dk_184 0 78 (dk_at dksX1_cowAt_0 17 rfl rfl)
theorem dX1_cowAt_20 : decode cX1_cowAt 20 = .ok (.aload_n 0, 1) := dk_42 (dk_at dksX1_cowAt_0 20 rfl rfl)
theorem dX1_cowAt_21 : decode cX1_cowAt 21 = .ok (.getfield 10, 3) := dk_180 0 10 (dk_at dksX1_cowAt_0 21 rfl rfl)
theorem dX1_cowAt_24 : decode cX1_cowAt 24 = .ok (.getfield 64, 3) := dk_180 0 64 (dk_at dksX1_cowAt_1 0 rfl rfl)
theorem dX1_cowAt_27 : decode cX1_cowAt 27 = .ok (.iload_n 1, 1) := dk_27 (dk_at dksX1_cowAt_1 3 rfl rfl)
theorem dX1_cowAt_28 : decode cX1_cowAt 28 = .ok (.invokevirtual 82, 3) := dk_182 0 82 (dk_at dksX1_cowAt_1 4 rfl rfl)
theorem dX1_cowAt_31 : decode cX1_cowAt 31 = .ok (.checkcast 86, 3) := dk_192 0 86 (dk_at dksX1_cowAt_1 7 rfl rfl)
theorem dX1_cowAt_34 : decode cX1_cowAt 34 = .ok (.areturn, 1) := dk_176 (dk_at dksX1_cowAt_1 10 rfl rfl)
abbrev cX1_curve : ByteArray := prog_1_method_29_code
def yX1_curve : MethodName := ⟨RX1, "curve", "(II)I"⟩
def dkwX1_curve_0 : List UInt8 := [42, 27, 182, 0, 217, 78, 28, 3, 17, 1, 144, 184, 0, 74, 184, 0, 120, 45, 28, 182, 0, 224, 172]
abbrev dktX1_curve_0 : List UInt8 := dkwX1_curve_0 ++ []
theorem dksX1_curve_0 : cX1_curve.data.toList.drop 0 = dktX1_curve_0 := by decide +kernel
theorem dX1_curve_0 : decode cX1_curve 0 = .ok (.aload_n 0, 1) := dk_42 (dk_at dksX1_curve_0 0 rfl rfl)
theorem dX1_curve_1 : decode cX1_curve 1 = .ok (.iload_n 1, 1) := dk_27 (dk_at dksX1_curve_0 1 rfl rfl)
theorem dX1_curve_2 : decode cX1_curve 2 = .ok (.invokevirtual 217, 3) := dk_182 0 217 (dk_at dksX1_curve_0 2 rfl rfl)
theorem dX1_curve_5 : decode cX1_curve 5 = .ok (.astore_n 3, 1) := dk_78 (dk_at dksX1_curve_0 5 rfl rfl)
theorem dX1_curve_6 : decode cX1_curve 6 = .ok (.iload_n 2, 1) := dk_28 (dk_at dksX1_curve_0 6 rfl rfl)
theorem dX1_curve_7 : decode cX1_curve 7 = .ok (.iconst 0, 1) := dk_3 (dk_at dksX1_curve_0 7 rfl rfl)
theorem dX1_curve_8 : decode cX1_curve 8 = .ok (.sipush 400, 3) := dk_17 1 144 (dk_at dksX1_curve_0 8 rfl rfl)
theorem dX1_curve_11 : decode cX1_curve 11 = .ok (.invokestatic 74, 3) := dk_184 0 74 (dk_at dksX1_curve_0 11 rfl rfl)
theorem dX1_curve_14 : decode cX1_curve 14 = .ok (.invokestatic 120, 3) := dk_184 0 120 (dk_at dksX1_curve_0 14 rfl rfl)
theorem dX1_curve_17 : decode cX1_curve 17 = .ok (.aload_n 3, 1) := dk_45 (dk_at dksX1_curve_0 17 rfl rfl)
theorem dX1_curve_18 : decode cX1_curve 18 = .ok (.iload_n 2, 1) := dk_28 (dk_at dksX1_curve_0 18 rfl rfl)
theorem dX1_curve_19 : decode cX1_curve 19 = .ok (.invokevirtual 224, 3) := dk_182 0 224 (dk_at dksX1_curve_0 19 rfl rfl)
theorem dX1_curve_22 : decode cX1_curve 22 = .ok (.ireturn, 1) := dk_172 (dk_at dksX1_curve_0 22 rfl rfl)
abbrev cX1_dryDay : ByteArray := prog_1_method_30_code
def yX1_dryDay : MethodName := ⟨RX1, "dryDay", "(I)I"⟩
def dkwX1_dryDay_2 : List UInt8 := [100, 184, 0, 237, 172]
abbrev dktX1_dryDay_2 : List UInt8 := dkwX1_dryDay_2 ++ []
def dkwX1_dryDay_1 : List UInt8 := [3, 184, 0, 123, 42, 180, 0, 10, 180, 0, 106, 44, 180, 0, 234, 42, 180, 0, 10, 180, 0, 150, 4, 46]
abbrev dktX1_dryDay_1 : List UInt8 := dkwX1_dryDay_1 ++ dktX1_dryDay_2
def dkwX1_dryDay_0 : List UInt8 := [42, 27, 182, 0, 217, 77, 44, 182, 0, 227, 153, 0, 14, 44, 182, 0, 231, 153, 0, 7, 4, 167, 0, 4]
abbrev dktX1_dryDay_0 : List UInt8 := dkwX1_dryDay_0 ++ dktX1_dryDay_1
theorem dksX1_dryDay_0 : cX1_dryDay.data.toList.drop 0 = dktX1_dryDay_0 := by decide +kernel
theorem dksX1_dryDay_1 : cX1_dryDay.data.toList.drop 24 = dktX1_dryDay_1 := dk_seg dksX1_dryDay_0 24 rfl rfl
theorem dksX1_dryDay_2 : cX1_dryDay.data.toList.drop 48 = dktX1_dryDay_2 := dk_seg dksX1_dryDay_1 24 rfl rfl
theorem dX1_dryDay_0 : decode cX1_dryDay 0 = .ok (.aload_n 0, 1) := dk_42 (dk_at dksX1_dryDay_0 0 rfl rfl)
theorem dX1_dryDay_1 : decode cX1_dryDay 1 = .ok (.iload_n 1, 1) := dk_27 (dk_at dksX1_dryDay_0 1 rfl rfl)
theorem dX1_dryDay_2 : decode cX1_dryDay 2 = .ok (.invokevirtual 217, 3) := dk_182 0 217 (dk_at dksX1_dryDay_0 2 rfl rfl)
theorem dX1_dryDay_5 : decode cX1_dryDay 5 = .ok (.astore_n 2, 1) := dk_77 (dk_at dksX1_dryDay_0 5 rfl rfl)
theorem dX1_dryDay_6 : decode cX1_dryDay 6 = .ok (.aload_n 2, 1) := dk_44 (dk_at dksX1_dryDay_0 6 rfl rfl)
theorem dX1_dryDay_7 : decode cX1_dryDay 7 = .ok (.invokevirtual 227, 3) := dk_182 0 227 (dk_at dksX1_dryDay_0 7 rfl rfl)
theorem dX1_dryDay_10 : decode cX1_dryDay 10 = .ok (.ifCond .eq 14, 3) := dk_153 0 14 (dk_at dksX1_dryDay_0 10 rfl rfl)
theorem dX1_dryDay_13 : decode cX1_dryDay 13 = .ok (.aload_n 2, 1) := dk_44 (dk_at dksX1_dryDay_0 13 rfl rfl)
theorem dX1_dryDay_14 : decode cX1_dryDay 14 = .ok (.invokevirtual 231, 3) := dk_182 0 231 (dk_at dksX1_dryDay_0 14 rfl rfl)
theorem dX1_dryDay_17 : decode cX1_dryDay 17 = .ok (.ifCond .eq 7, 3) := dk_153 0 7 (dk_at dksX1_dryDay_0 17 rfl rfl)
theorem dX1_dryDay_20 : decode cX1_dryDay 20 = .ok (.iconst 1, 1) := dk_4 (dk_at dksX1_dryDay_0 20 rfl rfl)
theorem dX1_dryDay_21 : decode cX1_dryDay 21 = .ok (.goto 4, 3) := dk_167 0 4 (dk_at dksX1_dryDay_0 21 rfl rfl)
theorem dX1_dryDay_24 : decode cX1_dryDay 24 = .ok (.iconst 0, 1) := dk_3 (dk_at dksX1_dryDay_1 0 rfl rfl)
theorem dX1_dryDay_25 : decode cX1_dryDay 25 = .ok (.invokestatic 123, 3) := dk_184 0 123 (dk_at dksX1_dryDay_1 1 rfl rfl)
theorem dX1_dryDay_28 : decode cX1_dryDay 28 = .ok (.aload_n 0, 1) := dk_42 (dk_at dksX1_dryDay_1 4 rfl rfl)
theorem dX1_dryDay_29 : decode cX1_dryDay 29 = .ok (.getfield 10, 3) := dk_180 0 10 (dk_at dksX1_dryDay_1 5 rfl rfl)
theorem dX1_dryDay_32 : decode cX1_dryDay 32 = .ok (.getfield 106, 3) := dk_180 0 106 (dk_at dksX1_dryDay_1 8 rfl rfl)
theorem dX1_dryDay_35 : decode cX1_dryDay 35 = .ok (.aload_n 2, 1) := dk_44 (dk_at dksX1_dryDay_1 11 rfl rfl)
theorem dX1_dryDay_36 : decode cX1_dryDay 36 = .ok (.getfield 234, 3) := dk_180 0 234 (dk_at dksX1_dryDay_1 12 rfl rfl)
theorem dX1_dryDay_39 : decode cX1_dryDay 39 = .ok (.aload_n 0, 1) := dk_42 (dk_at dksX1_dryDay_1 15 rfl rfl)
theorem dX1_dryDay_40 : decode cX1_dryDay 40 = .ok (.getfield 10, 3) := dk_180 0 10 (dk_at dksX1_dryDay_1 16 rfl rfl)
theorem dX1_dryDay_43 : decode cX1_dryDay 43 = .ok (.getfield 150, 3) := dk_180 0 150 (dk_at dksX1_dryDay_1 19 rfl rfl)
theorem dX1_dryDay_46 : decode cX1_dryDay 46 = .ok (.iconst 1, 1) := dk_4 (dk_at dksX1_dryDay_1 22 rfl rfl)
theorem dX1_dryDay_47 : decode cX1_dryDay 47 = .ok (.iaload, 1) := dk_46 (dk_at dksX1_dryDay_1 23 rfl rfl)
theorem dX1_dryDay_48 : decode cX1_dryDay 48 = .ok (.isub, 1) := dk_100 (dk_at dksX1_dryDay_2 0 rfl rfl)
theorem dX1_dryDay_49 : decode cX1_dryDay 49 = .ok (.invokestatic 237, 3) := dk_184 0 237 (dk_at dksX1_dryDay_2 1 rfl rfl)
theorem dX1_dryDay_52 : decode cX1_dryDay 52 = .ok (.ireturn, 1) := dk_172 (dk_at dksX1_dryDay_2 4 rfl rfl)
abbrev cX1_forecast : ByteArray := prog_1_method_31_code
def yX1_forecast : MethodName := ⟨RX1, "forecast", "(I)I"⟩
def dkwX1_forecast_1 : List UInt8 := [42, 180, 0, 10, 182, 0, 98, 42, 180, 0, 16, 27, 182, 0, 214, 172]
abbrev dktX1_forecast_1 : List UInt8 := dkwX1_forecast_1 ++ []
def dkwX1_forecast_0 : List UInt8 := [27, 155, 0, 15, 42, 27, 182, 0, 210, 153, 0, 7, 4, 167, 0, 4, 3, 184, 0, 120, 42, 180, 0, 16]
abbrev dktX1_forecast_0 : List UInt8 := dkwX1_forecast_0 ++ dktX1_forecast_1
theorem dksX1_forecast_0 : cX1_forecast.data.toList.drop 0 = dktX1_forecast_0 := by decide +kernel
theorem dksX1_forecast_1 : cX1_forecast.data.toList.drop 24 = dktX1_forecast_1 := dk_seg dksX1_forecast_0 24 rfl rfl
theorem dX1_forecast_0 : decode cX1_forecast 0 = .ok (.iload_n 1, 1) := dk_27 (dk_at dksX1_forecast_0 0 rfl rfl)
theorem dX1_forecast_1 : decode cX1_forecast 1 = .ok (.ifCond .lt 15, 3) := dk_155 0 15 (dk_at dksX1_forecast_0 1 rfl rfl)
theorem dX1_forecast_4 : decode cX1_forecast 4 = .ok (.aload_n 0, 1) := dk_42 (dk_at dksX1_forecast_0 4 rfl rfl)
theorem dX1_forecast_5 : decode cX1_forecast 5 = .ok (.iload_n 1, 1) := dk_27 (dk_at dksX1_forecast_0 5 rfl rfl)
theorem dX1_forecast_6 : decode cX1_forecast 6 = .ok (.invokevirtual 210, 3) := dk_182 0 210 (dk_at dksX1_forecast_0 6 rfl rfl)
theorem dX1_forecast_9 : decode cX1_forecast 9 = .ok (.ifCond .eq 7, 3) := dk_153 0 7 (dk_at dksX1_forecast_0 9 rfl rfl)
theorem dX1_forecast_12 : decode cX1_forecast 12 = .ok (.iconst 1, 1) := dk_4 (dk_at dksX1_forecast_0 12 rfl rfl)
theorem dX1_forecast_13 : decode cX1_forecast 13 = .ok (.goto 4, 3) := dk_167 0 4 (dk_at dksX1_forecast_0 13 rfl rfl)
theorem dX1_forecast_16 : decode cX1_forecast 16 = .ok (.iconst 0, 1) := dk_3 (dk_at dksX1_forecast_0 16 rfl rfl)
theorem dX1_forecast_17 : decode cX1_forecast 17 = .ok (.invokestatic 120, 3) := dk_184 0 120 (dk_at dksX1_forecast_0 17 rfl rfl)
theorem dX1_forecast_20 : decode cX1_forecast 20 = .ok (.aload_n 0, 1) := dk_42 (dk_at dksX1_forecast_0 20 rfl rfl)
theorem dX1_forecast_21 : decode cX1_forecast 21 = .ok (.getfield 16, 3) := dk_180 0 16 (dk_at dksX1_forecast_0 21 rfl rfl)
theorem dX1_forecast_24 : decode cX1_forecast 24 = .ok (.aload_n 0, 1) := dk_42 (dk_at dksX1_forecast_1 0 rfl rfl)
theorem dX1_forecast_25 : decode cX1_forecast 25 = .ok (.getfield 10, 3) := dk_180 0 10 (dk_at dksX1_forecast_1 1 rfl rfl)
theorem dX1_forecast_28 : decode cX1_forecast 28 = .ok (.invokevirtual 98, 3) := dk_182 0 98 (dk_at dksX1_forecast_1 4 rfl rfl)
theorem dX1_forecast_31 : decode cX1_forecast 31 = .ok (.aload_n 0, 1) := dk_42 (dk_at dksX1_forecast_1 7 rfl rfl)
theorem dX1_forecast_32 : decode cX1_forecast 32 = .ok (.getfield 16, 3) := dk_180 0 16 (dk_at dksX1_forecast_1 8 rfl rfl)
theorem dX1_forecast_35 : decode cX1_forecast 35 = .ok (.iload_n 1, 1) := dk_27 (dk_at dksX1_forecast_1 11 rfl rfl)
theorem dX1_forecast_36 : decode cX1_forecast 36 = .ok (.invokevirtual 214, 3) := dk_182 0 214 (dk_at dksX1_forecast_1 12 rfl rfl)
theorem dX1_forecast_39 : decode cX1_forecast 39 = .ok (.ireturn, 1) := dk_172 (dk_at dksX1_forecast_1 15 rfl rfl)
abbrev cX1_tank : ByteArray := prog_1_method_32_code
def yX1_tank : MethodName := ⟨RX1, "tank", "(I)I"⟩
def dkwX1_tank_4 : List UInt8 := [6, 46, 182, 0, 255, 172, 187, 0, 46, 89, 183, 0, 48, 191]
abbrev dktX1_tank_4 : List UInt8 := dkwX1_tank_4 ++ []
def dkwX1_tank_3 : List UInt8 := [180, 0, 10, 180, 0, 242, 182, 0, 252, 172, 42, 180, 0, 10, 180, 0, 242, 42, 180, 0, 10, 180, 0, 150]
abbrev dktX1_tank_3 : List UInt8 := dkwX1_tank_3 ++ dktX1_tank_4
def dkwX1_tank_2 : List UInt8 := [42, 180, 0, 10, 180, 0, 242, 180, 0, 246, 172, 42, 180, 0, 10, 180, 0, 242, 180, 0, 251, 172, 42]
abbrev dktX1_tank_2 : List UInt8 := dkwX1_tank_2 ++ dktX1_tank_3
def dkwX1_tank_1 : List UInt8 := [170, 0, 0, 0, 0, 0, 84, 0, 0, 0, 0, 0, 0, 0, 3, 0, 0, 0, 31, 0, 0, 0, 42, 0, 0, 0, 53, 0, 0, 0, 64]
abbrev dktX1_tank_1 : List UInt8 := dkwX1_tank_1 ++ dktX1_tank_2
def dkwX1_tank_0 : List UInt8 := [27]
abbrev dktX1_tank_0 : List UInt8 := dkwX1_tank_0 ++ dktX1_tank_1
theorem dksX1_tank_0 : cX1_tank.data.toList.drop 0 = dktX1_tank_0 := by decide +kernel
theorem dksX1_tank_1 : cX1_tank.data.toList.drop 1 = dktX1_tank_1 := dk_seg dksX1_tank_0 1 rfl rfl
theorem dksX1_tank_2 : cX1_tank.data.toList.drop 32 = dktX1_tank_2 := dk_seg dksX1_tank_1 31 rfl rfl
theorem dksX1_tank_3 : cX1_tank.data.toList.drop 55 = dktX1_tank_3 := dk_seg dksX1_tank_2 23 rfl rfl
theorem dksX1_tank_4 : cX1_tank.data.toList.drop 79 = dktX1_tank_4 := dk_seg dksX1_tank_3 24 rfl rfl
theorem dX1_tank_0 : decode cX1_tank 0 = .ok (.iload_n 1, 1) := dk_27 (dk_at dksX1_tank_0 0 rfl rfl)
theorem dX1_tank_1 : decode cX1_tank 1 = .ok (.tableswitch 84 0 3 #[31, 42, 53, 64], 31) := by decide +kernel
theorem dX1_tank_32 : decode cX1_tank 32 = .ok (.aload_n 0, 1) := dk_42 (dk_at dksX1_tank_2 0 rfl rfl)
theorem dX1_tank_33 : decode cX1_tank 33 = .ok (.getfield 10, 3) := dk_180 0 10 (dk_at dksX1_tank_2 1 rfl rfl)
theorem dX1_tank_36 : decode cX1_tank 36 = .ok (.getfield 242, 3) := dk_180 0 242 (dk_at dksX1_tank_2 4 rfl rfl)
theorem dX1_tank_39 : decode cX1_tank 39 = .ok (.getfield 246, 3) := dk_180 0 246 (dk_at dksX1_tank_2 7 rfl rfl)
theorem dX1_tank_42 : decode cX1_tank 42 = .ok (.ireturn, 1) := dk_172 (dk_at dksX1_tank_2 10 rfl rfl)
theorem dX1_tank_43 : decode cX1_tank 43 = .ok (.aload_n 0, 1) := dk_42 (dk_at dksX1_tank_2 11 rfl rfl)
theorem dX1_tank_44 : decode cX1_tank 44 = .ok (.getfield 10, 3) := dk_180 0 10 (dk_at dksX1_tank_2 12 rfl rfl)
theorem dX1_tank_47 : decode cX1_tank 47 = .ok (.getfield 242, 3) := dk_180 0 242 (dk_at dksX1_tank_2 15 rfl rfl)
theorem dX1_tank_50 : decode cX1_tank 50 = .ok (.getfield 251, 3) := dk_180 0 251 (dk_at dksX1_tank_2 18 rfl rfl)
theorem dX1_tank_53 : decode cX1_tank 53 = .ok (.ireturn, 1) := dk_172 (dk_at dksX1_tank_2 21 rfl rfl)
theorem dX1_tank_54 : decode cX1_tank 54 = .ok (.aload_n 0, 1) := dk_42 (dk_at dksX1_tank_2 22 rfl rfl)
theorem dX1_tank_55 : decode cX1_tank 55 = .ok (.getfield 10, 3) := dk_180 0 10 (dk_at dksX1_tank_3 0 rfl rfl)
theorem dX1_tank_58 : decode cX1_tank 58 = .ok (.getfield 242, 3) := dk_180 0 242 (dk_at dksX1_tank_3 3 rfl rfl)
theorem dX1_tank_61 : decode cX1_tank 61 = .ok (.invokevirtual 252, 3) := dk_182 0 252 (dk_at dksX1_tank_3 6 rfl rfl)
theorem dX1_tank_64 : decode cX1_tank 64 = .ok (.ireturn, 1) := dk_172 (dk_at dksX1_tank_3 9 rfl rfl)
theorem dX1_tank_65 : decode cX1_tank 65 = .ok (.aload_n 0, 1) := dk_42 (dk_at dksX1_tank_3 10 rfl rfl)
theorem dX1_tank_66 : decode cX1_tank 66 = .ok (.getfield 10, 3) := dk_180 0 10 (dk_at dksX1_tank_3 11 rfl rfl)
theorem dX1_tank_69 : decode cX1_tank 69 = .ok (.getfield 242, 3) := dk_180 0 242 (dk_at dksX1_tank_3 14 rfl rfl)
theorem dX1_tank_72 : decode cX1_tank 72 = .ok (.aload_n 0, 1) := dk_42 (dk_at dksX1_tank_3 17 rfl rfl)
theorem dX1_tank_73 : decode cX1_tank 73 = .ok (.getfield 10, 3) := dk_180 0 10 (dk_at dksX1_tank_3 18 rfl rfl)
theorem dX1_tank_76 : decode cX1_tank 76 = .ok (.getfield 150, 3) := dk_180 0 150 (dk_at dksX1_tank_3 21 rfl rfl)
theorem dX1_tank_79 : decode cX1_tank 79 = .ok (.iconst 3, 1) := dk_6 (dk_at dksX1_tank_4 0 rfl rfl)
theorem dX1_tank_80 : decode cX1_tank 80 = .ok (.iaload, 1) := dk_46 (dk_at dksX1_tank_4 1 rfl rfl)
theorem dX1_tank_81 : decode cX1_tank 81 = .ok (.invokevirtual 255, 3) := dk_182 0 255 (dk_at dksX1_tank_4 2 rfl rfl)
theorem dX1_tank_84 : decode cX1_tank 84 = .ok (.ireturn, 1) := dk_172 (dk_at dksX1_tank_4 5 rfl rfl)
theorem dX1_tank_85 : decode cX1_tank 85 = .ok (.new 46, 3) := dk_187 0 46 (dk_at dksX1_tank_4 6 rfl rfl)
theorem dX1_tank_88 : decode cX1_tank 88 = .ok (.dup, 1) := dk_89 (dk_at dksX1_tank_4 9 rfl rfl)
theorem dX1_tank_89 : decode cX1_tank 89 = .ok (.invokespecial 48, 3) := dk_183 0 48 (dk_at dksX1_tank_4 10 rfl rfl)
theorem dX1_tank_92 : decode cX1_tank 92 = .ok (.athrow, 1) := dk_191 (dk_at dksX1_tank_4 13 rfl rfl)
abbrev cX1_pickup : ByteArray := prog_1_method_33_code
def yX1_pickup : MethodName := ⟨RX1, "pickup", "(II)I"⟩
def dkwX1_pickup_0 : List UInt8 := [42, 27, 182, 1, 2, 78, 28, 3, 16, 6, 184, 0, 74, 184, 0, 120, 45, 28, 182, 1, 6, 172]
abbrev dktX1_pickup_0 : List UInt8 := dkwX1_pickup_0 ++ []
theorem dksX1_pickup_0 : cX1_pickup.data.toList.drop 0 = dktX1_pickup_0 := by decide +kernel
theorem dX1_pickup_0 : decode cX1_pickup 0 = .ok (.aload_n 0, 1) := dk_42 (dk_at dksX1_pickup_0 0 rfl rfl)
theorem dX1_pickup_1 : decode cX1_pickup 1 = .ok (.iload_n 1, 1) := dk_27 (dk_at dksX1_pickup_0 1 rfl rfl)
theorem dX1_pickup_2 : decode cX1_pickup 2 = .ok (.invokevirtual 258, 3) := dk_182 1 2 (dk_at dksX1_pickup_0 2 rfl rfl)
theorem dX1_pickup_5 : decode cX1_pickup 5 = .ok (.astore_n 3, 1) := dk_78 (dk_at dksX1_pickup_0 5 rfl rfl)
theorem dX1_pickup_6 : decode cX1_pickup 6 = .ok (.iload_n 2, 1) := dk_28 (dk_at dksX1_pickup_0 6 rfl rfl)
theorem dX1_pickup_7 : decode cX1_pickup 7 = .ok (.iconst 0, 1) := dk_3 (dk_at dksX1_pickup_0 7 rfl rfl)
theorem dX1_pickup_8 : decode cX1_pickup 8 = .ok (.bipush 6, 2) := dk_16 6 (dk_at dksX1_pickup_0 8 rfl rfl)
theorem dX1_pickup_10 : decode cX1_pickup 10 = .ok (.invokestatic 74, 3) := dk_184 0 74 (dk_at dksX1_pickup_0 10 rfl rfl)
theorem dX1_pickup_13 : decode cX1_pickup 13 = .ok (.invokestatic 120, 3) := dk_184 0 120 (dk_at dksX1_pickup_0 13 rfl rfl)
theorem dX1_pickup_16 : decode cX1_pickup 16 = .ok (.aload_n 3, 1) := dk_45 (dk_at dksX1_pickup_0 16 rfl rfl)
theorem dX1_pickup_17 : decode cX1_pickup 17 = .ok (.iload_n 2, 1) := dk_28 (dk_at dksX1_pickup_0 17 rfl rfl)
theorem dX1_pickup_18 : decode cX1_pickup 18 = .ok (.invokevirtual 262, 3) := dk_182 1 6 (dk_at dksX1_pickup_0 18 rfl rfl)
theorem dX1_pickup_21 : decode cX1_pickup 21 = .ok (.ireturn, 1) := dk_172 (dk_at dksX1_pickup_0 21 rfl rfl)
abbrev cX1_pickupAt : ByteArray := prog_1_method_9_code
def yX1_pickupAt : MethodName := ⟨RX1, "pickupAt", "(I)LDairyBook$Pickup;"⟩
def dkwX1_pickupAt_1 : List UInt8 := [180, 0, 88, 27, 182, 0, 82, 192, 0, 91, 176]
abbrev dktX1_pickupAt_1 : List UInt8 := dkwX1_pickupAt_1 ++ []
def dkwX1_pickupAt_0 : List UInt8 := [27, 3, 42, 180, 0, 10, 180, 0, 88, 182, 0, 68, 4, 100, 184, 0, 74, 184, 0, 78, 42, 180, 0, 10]
abbrev dktX1_pickupAt_0 : List UInt8 := dkwX1_pickupAt_0 ++ dktX1_pickupAt_1
theorem dksX1_pickupAt_0 : cX1_pickupAt.data.toList.drop 0 = dktX1_pickupAt_0 := by decide +kernel
theorem dksX1_pickupAt_1 : cX1_pickupAt.data.toList.drop 24 = dktX1_pickupAt_1 := dk_seg dksX1_pickupAt_0 24 rfl rfl
theorem dX1_pickupAt_0 : decode cX1_pickupAt 0 = .ok (.iload_n 1, 1) := dk_27 (dk_at dksX1_pickupAt_0 0 rfl rfl)
theorem dX1_pickupAt_1 : decode cX1_pickupAt 1 = .ok (.iconst 0, 1) := dk_3 (dk_at dksX1_pickupAt_0 1 rfl rfl)
theorem dX1_pickupAt_2 : decode cX1_pickupAt 2 = .ok (.aload_n 0, 1) := dk_42 (dk_at dksX1_pickupAt_0 2 rfl rfl)
theorem dX1_pickupAt_3 : decode cX1_pickupAt 3 = .ok (.getfield 10, 3) := dk_180 0 10 (dk_at dksX1_pickupAt_0 3 rfl rfl)
theorem dX1_pickupAt_6 : decode cX1_pickupAt 6 = .ok (.getfield 88, 3) := dk_180 0 88 (dk_at dksX1_pickupAt_0 6 rfl rfl)
theorem dX1_pickupAt_9 : decode cX1_pickupAt 9 = .ok (.invokevirtual 68, 3) := dk_182 0 68 (dk_at dksX1_pickupAt_0 9 rfl rfl)
theorem dX1_pickupAt_12 : decode cX1_pickupAt 12 = .ok (.iconst 1, 1) := dk_4 (dk_at dksX1_pickupAt_0 12 rfl rfl)
theorem dX1_pickupAt_13 : decode cX1_pickupAt 13 = .ok (.isub, 1) := dk_100 (dk_at dksX1_pickupAt_0 13 rfl rfl)
theorem dX1_pickupAt_14 : decode cX1_pickupAt 14 = .ok (.invokestatic 74, 3) := dk_184 0 74 (dk_at dksX1_pickupAt_0 14 rfl rfl)
theorem dX1_pickupAt_17 : decode cX1_pickupAt 17 = .ok (.invokestatic 78, 3) := dk_184 0 78 (dk_at dksX1_pickupAt_0 17 rfl rfl)
theorem dX1_pickupAt_20 : decode cX1_pickupAt 20 = .ok (.aload_n 0, 1) := dk_42 (dk_at dksX1_pickupAt_0 20 rfl rfl)
theorem dX1_pickupAt_21 : decode cX1_pickupAt 21 = .ok (.getfield 10, 3) := dk_180 0 10 (dk_at dksX1_pickupAt_0 21 rfl rfl)
theorem dX1_pickupAt_24 : decode cX1_pickupAt 24 = .ok (.getfield 88, 3) := dk_180 0 88 (dk_at dksX1_pickupAt_1 0 rfl rfl)
theorem dX1_pickupAt_27 : decode cX1_pickupAt 27 = .ok (.iload_n 1, 1) := dk_27 (dk_at dksX1_pickupAt_1 3 rfl rfl)
theorem dX1_pickupAt_28 : decode cX1_pickupAt 28 = .ok (.invokevirtual 82, 3) := dk_182 0 82 (dk_at dksX1_pickupAt_1 4 rfl rfl)
theorem dX1_pickupAt_31 : decode cX1_pickupAt 31 = .ok (.checkcast 91, 3) := dk_192 0 91 (dk_at dksX1_pickupAt_1 7 rfl rfl)
theorem dX1_pickupAt_34 : decode cX1_pickupAt 34 = .ok (.areturn, 1) := dk_176 (dk_at dksX1_pickupAt_1 10 rfl rfl)
abbrev cX1_mean : ByteArray := prog_1_method_34_code
def yX1_mean : MethodName := ⟨RX1, "mean", "(II)D"⟩
def dkwX1_mean_4 : List UInt8 := [21, 4, 135, 29, 135, 111, 175]
abbrev dktX1_mean_4 : List UInt8 := dkwX1_mean_4 ++ []
def dkwX1_mean_3 : List UInt8 := [180, 0, 88, 21, 5, 182, 0, 82, 192, 0, 91, 180, 1, 9, 96, 54, 4, 132, 5, 1, 167, 255, 203]
abbrev dktX1_mean_3 : List UInt8 := dkwX1_mean_3 ++ dktX1_mean_4
def dkwX1_mean_2 : List UInt8 := [180, 0, 88, 21, 5, 182, 0, 82, 192, 0, 91, 180, 1, 8, 96, 62, 21, 4, 42, 180, 0, 10]
abbrev dktX1_mean_2 : List UInt8 := dkwX1_mean_2 ++ dktX1_mean_3
def dkwX1_mean_1 : List UInt8 := [184, 0, 120, 3, 62, 3, 54, 4, 27, 54, 5, 21, 5, 28, 163, 0, 53, 29, 42, 180, 0, 10]
abbrev dktX1_mean_1 : List UInt8 := dkwX1_mean_1 ++ dktX1_mean_2
def dkwX1_mean_0 : List UInt8 := [42, 27, 182, 1, 2, 87, 42, 28, 182, 1, 2, 87, 27, 28, 163, 0, 7, 4, 167, 0, 4, 3]
abbrev dktX1_mean_0 : List UInt8 := dkwX1_mean_0 ++ dktX1_mean_1
theorem dksX1_mean_0 : cX1_mean.data.toList.drop 0 = dktX1_mean_0 := by decide +kernel
theorem dksX1_mean_1 : cX1_mean.data.toList.drop 22 = dktX1_mean_1 := dk_seg dksX1_mean_0 22 rfl rfl
theorem dksX1_mean_2 : cX1_mean.data.toList.drop 44 = dktX1_mean_2 := dk_seg dksX1_mean_1 22 rfl rfl
theorem dksX1_mean_3 : cX1_mean.data.toList.drop 66 = dktX1_mean_3 := dk_seg dksX1_mean_2 22 rfl rfl
theorem dksX1_mean_4 : cX1_mean.data.toList.drop 89 = dktX1_mean_4 := dk_seg dksX1_mean_3 23 rfl rfl
theorem dX1_mean_0 : decode cX1_mean 0 = .ok (.aload_n 0, 1) := dk_42 (dk_at dksX1_mean_0 0 rfl rfl)
theorem dX1_mean_1 : decode cX1_mean 1 = .ok (.iload_n 1, 1) := dk_27 (dk_at dksX1_mean_0 1 rfl rfl)
theorem dX1_mean_2 : decode cX1_mean 2 = .ok (.invokevirtual 258, 3) := dk_182 1 2 (dk_at dksX1_mean_0 2 rfl rfl)
theorem dX1_mean_5 : decode cX1_mean 5 = .ok (.pop, 1) := dk_87 (dk_at dksX1_mean_0 5 rfl rfl)
theorem dX1_mean_6 : decode cX1_mean 6 = .ok (.aload_n 0, 1) := dk_42 (dk_at dksX1_mean_0 6 rfl rfl)
theorem dX1_mean_7 : decode cX1_mean 7 = .ok (.iload_n 2, 1) := dk_28 (dk_at dksX1_mean_0 7 rfl rfl)
theorem dX1_mean_8 : decode cX1_mean 8 = .ok (.invokevirtual 258, 3) := dk_182 1 2 (dk_at dksX1_mean_0 8 rfl rfl)
theorem dX1_mean_11 : decode cX1_mean 11 = .ok (.pop, 1) := dk_87 (dk_at dksX1_mean_0 11 rfl rfl)
theorem dX1_mean_12 : decode cX1_mean 12 = .ok (.iload_n 1, 1) := dk_27 (dk_at dksX1_mean_0 12 rfl rfl)
theorem dX1_mean_13 : decode cX1_mean 13 = .ok (.iload_n 2, 1) := dk_28 (dk_at dksX1_mean_0 13 rfl rfl)
theorem dX1_mean_14 : decode cX1_mean 14 = .ok (.if_icmp .gt 7, 3) := dk_163 0 7 (dk_at dksX1_mean_0 14 rfl rfl)
theorem dX1_mean_17 : decode cX1_mean 17 = .ok (.iconst 1, 1) := dk_4 (dk_at dksX1_mean_0 17 rfl rfl)
theorem dX1_mean_18 : decode cX1_mean 18 = .ok (.goto 4, 3) := dk_167 0 4 (dk_at dksX1_mean_0 18 rfl rfl)
theorem dX1_mean_21 : decode cX1_mean 21 = .ok (.iconst 0, 1) := dk_3 (dk_at dksX1_mean_0 21 rfl rfl)
theorem dX1_mean_22 : decode cX1_mean 22 = .ok (.invokestatic 120, 3) := dk_184 0 120 (dk_at dksX1_mean_1 0 rfl rfl)
theorem dX1_mean_25 : decode cX1_mean 25 = .ok (.iconst 0, 1) := dk_3 (dk_at dksX1_mean_1 3 rfl rfl)
theorem dX1_mean_26 : decode cX1_mean 26 = .ok (.istore_n 3, 1) := dk_62 (dk_at dksX1_mean_1 4 rfl rfl)
theorem dX1_mean_27 : decode cX1_mean 27 = .ok (.iconst 0, 1) := dk_3 (dk_at dksX1_mean_1 5 rfl rfl)
theorem dX1_mean_28 : decode cX1_mean 28 = .ok (.istore 4, 2) := dk_54 4 (dk_at dksX1_mean_1 6 rfl rfl)
theorem dX1_mean_30 : decode cX1_mean 30 = .ok (.iload_n 1, 1) := dk_27 (dk_at dksX1_mean_1 8 rfl rfl)
theorem dX1_mean_31 : decode cX1_mean 31 = .ok (.istore 5, 2) := dk_54 5 (dk_at dksX1_mean_1 9 rfl rfl)
theorem dX1_mean_33 : decode cX1_mean 33 = .ok (.iload 5, 2) := dk_21 5 (dk_at dksX1_mean_1 11 rfl rfl)
theorem dX1_mean_35 : decode cX1_mean 35 = .ok (.iload_n 2, 1) := dk_28 (dk_at dksX1_mean_1 13 rfl rfl)
theorem dX1_mean_36 : decode cX1_mean 36 = .ok (.if_icmp .gt 53, 3) := dk_163 0 53 (dk_at dksX1_mean_1 14 rfl rfl)
theorem dX1_mean_39 : decode cX1_mean 39 = .ok (.iload_n 3, 1) := dk_29 (dk_at dksX1_mean_1 17 rfl rfl)
theorem dX1_mean_40 : decode cX1_mean 40 = .ok (.aload_n 0, 1) := dk_42 (dk_at dksX1_mean_1 18 rfl rfl)
theorem dX1_mean_41 : decode cX1_mean 41 = .ok (.getfield 10, 3) := dk_180 0 10 (dk_at dksX1_mean_1 19 rfl rfl)
theorem dX1_mean_44 : decode cX1_mean 44 = .ok (.getfield 88, 3) := dk_180 0 88 (dk_at dksX1_mean_2 0 rfl rfl)
theorem dX1_mean_47 : decode cX1_mean 47 = .ok (.iload 5, 2) := dk_21 5 (dk_at dksX1_mean_2 3 rfl rfl)
theorem dX1_mean_49 : decode cX1_mean 49 = .ok (.invokevirtual 82, 3) := dk_182 0 82 (dk_at dksX1_mean_2 5 rfl rfl)
theorem dX1_mean_52 : decode cX1_mean 52 = .ok (.checkcast 91, 3) := dk_192 0 91 (dk_at dksX1_mean_2 8 rfl rfl)
theorem dX1_mean_55 : decode cX1_mean 55 = .ok (.getfield 264, 3) := dk_180 1 8 (dk_at dksX1_mean_2 11 rfl rfl)
theorem dX1_mean_58 : decode cX1_mean 58 = .ok (.iadd, 1) := dk_96 (dk_at dksX1_mean_2 14 rfl rfl)
theorem dX1_mean_59 : decode cX1_mean 59 = .ok (.istore_n 3, 1) := dk_62 (dk_at dksX1_mean_2 15 rfl rfl)
theorem dX1_mean_60 : decode cX1_mean 60 = .ok (.iload 4, 2) := dk_21 4 (dk_at dksX1_mean_2 16 rfl rfl)
theorem dX1_mean_62 : decode cX1_mean 62 = .ok (.aload_n 0, 1) := dk_42 (dk_at dksX1_mean_2 18 rfl rfl)
theorem dX1_mean_63 : decode cX1_mean 63 = .ok (.getfield 10, 3) := dk_180 0 10 (dk_at dksX1_mean_2 19 rfl rfl)
theorem dX1_mean_66 : decode cX1_mean 66 = .ok (.getfield 88, 3) := dk_180 0 88 (dk_at dksX1_mean_3 0 rfl rfl)
theorem dX1_mean_69 : decode cX1_mean 69 = .ok (.iload 5, 2) := dk_21 5 (dk_at dksX1_mean_3 3 rfl rfl)
theorem dX1_mean_71 : decode cX1_mean 71 = .ok (.invokevirtual 82, 3) := dk_182 0 82 (dk_at dksX1_mean_3 5 rfl rfl)
theorem dX1_mean_74 : decode cX1_mean 74 = .ok (.checkcast 91, 3) := dk_192 0 91 (dk_at dksX1_mean_3 8 rfl rfl)
theorem dX1_mean_77 : decode cX1_mean 77 = .ok (.getfield 265, 3) := dk_180 1 9 (dk_at dksX1_mean_3 11 rfl rfl)
theorem dX1_mean_80 : decode cX1_mean 80 = .ok (.iadd, 1) := dk_96 (dk_at dksX1_mean_3 14 rfl rfl)
theorem dX1_mean_81 : decode cX1_mean 81 = .ok (.istore 4, 2) := dk_54 4 (dk_at dksX1_mean_3 15 rfl rfl)
theorem dX1_mean_83 : decode cX1_mean 83 = .ok (.iinc 5 1, 3) := dk_132 5 1 (dk_at dksX1_mean_3 17 rfl rfl)
theorem dX1_mean_86 : decode cX1_mean 86 = .ok (.goto (-53), 3) := dk_167 255 203 (dk_at dksX1_mean_3 20 rfl rfl)
theorem dX1_mean_89 : decode cX1_mean 89 = .ok (.iload 4, 2) := dk_21 4 (dk_at dksX1_mean_4 0 rfl rfl)
theorem dX1_mean_91 : decode cX1_mean 91 = .ok (.i2d, 1) := dk_135 (dk_at dksX1_mean_4 2 rfl rfl)
theorem dX1_mean_92 : decode cX1_mean 92 = .ok (.iload_n 3, 1) := dk_29 (dk_at dksX1_mean_4 3 rfl rfl)
theorem dX1_mean_93 : decode cX1_mean 93 = .ok (.i2d, 1) := dk_135 (dk_at dksX1_mean_4 4 rfl rfl)
theorem dX1_mean_94 : decode cX1_mean 94 = .ok (.ddiv, 1) := dk_111 (dk_at dksX1_mean_4 5 rfl rfl)
theorem dX1_mean_95 : decode cX1_mean 95 = .ok (.dreturn, 1) := dk_175 (dk_at dksX1_mean_4 6 rfl rfl)
abbrev cX1_greatest : ByteArray := prog_1_method_35_code
def yX1_greatest : MethodName := ⟨RX1, "greatest", "(I)I"⟩
def dkwX1_greatest_4 : List UInt8 := [132, 3, 1, 167, 255, 198, 28, 172]
abbrev dktX1_greatest_4 : List UInt8 := dkwX1_greatest_4 ++ []
def dkwX1_greatest_3 : List UInt8 := [180, 0, 10, 180, 0, 88, 28, 182, 0, 82, 192, 0, 91, 27, 182, 1, 6, 164, 0, 5, 29, 61]
abbrev dktX1_greatest_3 : List UInt8 := dkwX1_greatest_3 ++ dktX1_greatest_4
def dkwX1_greatest_2 : List UInt8 := [162, 0, 50, 42, 180, 0, 10, 180, 0, 88, 29, 182, 0, 82, 192, 0, 91, 27, 182, 1, 6, 42]
abbrev dktX1_greatest_2 : List UInt8 := dkwX1_greatest_2 ++ dktX1_greatest_3
def dkwX1_greatest_1 : List UInt8 := [167, 0, 4, 3, 184, 0, 207, 3, 61, 4, 62, 29, 42, 180, 0, 10, 180, 0, 88, 182, 0, 68]
abbrev dktX1_greatest_1 : List UInt8 := dkwX1_greatest_1 ++ dktX1_greatest_2
def dkwX1_greatest_0 : List UInt8 := [27, 3, 16, 6, 184, 0, 74, 184, 0, 120, 42, 180, 0, 10, 180, 0, 88, 182, 1, 10, 154, 0, 7, 4]
abbrev dktX1_greatest_0 : List UInt8 := dkwX1_greatest_0 ++ dktX1_greatest_1
theorem dksX1_greatest_0 : cX1_greatest.data.toList.drop 0 = dktX1_greatest_0 := by decide +kernel
theorem dksX1_greatest_1 : cX1_greatest.data.toList.drop 24 = dktX1_greatest_1 := dk_seg dksX1_greatest_0 24 rfl rfl
theorem dksX1_greatest_2 : cX1_greatest.data.toList.drop 46 = dktX1_greatest_2 := dk_seg dksX1_greatest_1 22 rfl rfl
theorem dksX1_greatest_3 : cX1_greatest.data.toList.drop 68 = dktX1_greatest_3 := dk_seg dksX1_greatest_2 22 rfl rfl
theorem dksX1_greatest_4 : cX1_greatest.data.toList.drop 90 = dktX1_greatest_4 := dk_seg dksX1_greatest_3 22 rfl rfl
theorem dX1_greatest_0 : decode cX1_greatest 0 = .ok (.iload_n 1, 1) := dk_27 (dk_at dksX1_greatest_0 0 rfl rfl)
theorem dX1_greatest_1 : decode cX1_greatest 1 = .ok (.iconst 0, 1) := dk_3 (dk_at dksX1_greatest_0 1 rfl rfl)
theorem dX1_greatest_2 : decode cX1_greatest 2 = .ok (.bipush 6, 2) := dk_16 6 (dk_at dksX1_greatest_0 2 rfl rfl)
theorem dX1_greatest_4 : decode cX1_greatest 4 = .ok (.invokestatic 74, 3) := dk_184 0 74 (dk_at dksX1_greatest_0 4 rfl rfl)
theorem dX1_greatest_7 : decode cX1_greatest 7 = .ok (.invokestatic 120, 3) := dk_184 0 120 (dk_at dksX1_greatest_0 7 rfl rfl)
theorem dX1_greatest_10 : decode cX1_greatest 10 = .ok (.aload_n 0, 1) := dk_42 (dk_at dksX1_greatest_0 10 rfl rfl)
theorem dX1_greatest_11 : decode cX1_greatest 11 = .ok (.getfield 10, 3) := dk_180 0 10 (dk_at dksX1_greatest_0 11 rfl rfl)
theorem dX1_greatest_14 : decode cX1_greatest 14 = .ok (.getfield 88, 3) := dk_180 0 88 (dk_at dksX1_greatest_0 14 rfl rfl)
theorem dX1_greatest_17 : decode cX1_greatest 17 = .ok (.invokevirtual 266, 3) := dk_182 1 10 (dk_at dksX1_greatest_0 17 rfl rfl)
theorem dX1_greatest_20 : decode cX1_greatest 20 = .ok (.ifCond .ne 7, 3) := dk_154 0 7 (dk_at dksX1_greatest_0 20 rfl rfl)
theorem dX1_greatest_23 : decode cX1_greatest 23 = .ok (.iconst 1, 1) := dk_4 (dk_at dksX1_greatest_0 23 rfl rfl)
theorem dX1_greatest_24 : decode cX1_greatest 24 = .ok (.goto 4, 3) := dk_167 0 4 (dk_at dksX1_greatest_1 0 rfl rfl)
theorem dX1_greatest_27 : decode cX1_greatest 27 = .ok (.iconst 0, 1) := dk_3 (dk_at dksX1_greatest_1 3 rfl rfl)
theorem dX1_greatest_28 : decode cX1_greatest 28 = .ok (.invokestatic 207, 3) := dk_184 0 207 (dk_at dksX1_greatest_1 4 rfl rfl)
theorem dX1_greatest_31 : decode cX1_greatest 31 = .ok (.iconst 0, 1) := dk_3 (dk_at dksX1_greatest_1 7 rfl rfl)
theorem dX1_greatest_32 : decode cX1_greatest 32 = .ok (.istore_n 2, 1) := dk_61 (dk_at dksX1_greatest_1 8 rfl rfl)
theorem dX1_greatest_33 : decode cX1_greatest 33 = .ok (.iconst 1, 1) := dk_4 (dk_at dksX1_greatest_1 9 rfl rfl)
theorem dX1_greatest_34 : decode cX1_greatest 34 = .ok (.istore_n 3, 1) := dk_62 (dk_at dksX1_greatest_1 10 rfl rfl)
theorem dX1_greatest_35 : decode cX1_greatest 35 = .ok (.iload_n 3, 1) := dk_29 (dk_at dksX1_greatest_1 11 rfl rfl)
theorem dX1_greatest_36 : decode cX1_greatest 36 = .ok (.aload_n 0, 1) := dk_42 (dk_at dksX1_greatest_1 12 rfl rfl)
theorem dX1_greatest_37 : decode cX1_greatest 37 = .ok (.getfield 10, 3) := dk_180 0 10 (dk_at dksX1_greatest_1 13 rfl rfl)
theorem dX1_greatest_40 : decode cX1_greatest 40 = .ok (.getfield 88, 3) := dk_180 0 88 (dk_at dksX1_greatest_1 16 rfl rfl)
theorem dX1_greatest_43 : decode cX1_greatest 43 = .ok (.invokevirtual 68, 3) := dk_182 0 68 (dk_at dksX1_greatest_1 19 rfl rfl)
theorem dX1_greatest_46 : decode cX1_greatest 46 = .ok (.if_icmp .ge 50, 3) := dk_162 0 50 (dk_at dksX1_greatest_2 0 rfl rfl)
theorem dX1_greatest_49 : decode cX1_greatest 49 = .ok (.aload_n 0, 1) := dk_42 (dk_at dksX1_greatest_2 3 rfl rfl)
theorem dX1_greatest_50 : decode cX1_greatest 50 = .ok (.getfield 10, 3) := dk_180 0 10 (dk_at dksX1_greatest_2 4 rfl rfl)
theorem dX1_greatest_53 : decode cX1_greatest 53 = .ok (.getfield 88, 3) := dk_180 0 88 (dk_at dksX1_greatest_2 7 rfl rfl)
theorem dX1_greatest_56 : decode cX1_greatest 56 = .ok (.iload_n 3, 1) := dk_29 (dk_at dksX1_greatest_2 10 rfl rfl)
theorem dX1_greatest_57 : decode cX1_greatest 57 = .ok (.invokevirtual 82, 3) := dk_182 0 82 (dk_at dksX1_greatest_2 11 rfl rfl)
theorem dX1_greatest_60 : decode cX1_greatest 60 = .ok (.checkcast 91, 3) := dk_192 0 91 (dk_at dksX1_greatest_2 14 rfl rfl)
theorem dX1_greatest_63 : decode cX1_greatest 63 = .ok (.iload_n 1, 1) := dk_27 (dk_at dksX1_greatest_2 17 rfl rfl)
theorem dX1_greatest_64 : decode cX1_greatest 64 = .ok (.invokevirtual 262, 3) := dk_182 1 6 (dk_at dksX1_greatest_2 18 rfl rfl)
theorem dX1_greatest_67 : decode cX1_greatest 67 = .ok (.aload_n 0, 1) := dk_42 (dk_at dksX1_greatest_2 21 rfl rfl)
theorem dX1_greatest_68 : decode cX1_greatest 68 = .ok (.getfield 10, 3) := dk_180 0 10 (dk_at dksX1_greatest_3 0 rfl rfl)
theorem dX1_greatest_71 : decode cX1_greatest 71 = .ok (.getfield 88, 3) := dk_180 0 88 (dk_at dksX1_greatest_3 3 rfl rfl)
theorem dX1_greatest_74 : decode cX1_greatest 74 = .ok (.iload_n 2, 1) := dk_28 (dk_at dksX1_greatest_3 6 rfl rfl)
theorem dX1_greatest_75 : decode cX1_greatest 75 = .ok (.invokevirtual 82, 3) := dk_182 0 82 (dk_at dksX1_greatest_3 7 rfl rfl)
theorem dX1_greatest_78 : decode cX1_greatest 78 = .ok (.checkcast 91, 3) := dk_192 0 91 (dk_at dksX1_greatest_3 10 rfl rfl)
theorem dX1_greatest_81 : decode cX1_greatest 81 = .ok (.iload_n 1, 1) := dk_27 (dk_at dksX1_greatest_3 13 rfl rfl)
theorem dX1_greatest_82 : decode cX1_greatest 82 = .ok (.invokevirtual 262, 3) := dk_182 1 6 (dk_at dksX1_greatest_3 14 rfl rfl)
theorem dX1_greatest_85 : decode cX1_greatest 85 = .ok (.if_icmp .le 5, 3) := dk_164 0 5 (dk_at dksX1_greatest_3 17 rfl rfl)
theorem dX1_greatest_88 : decode cX1_greatest 88 = .ok (.iload_n 3, 1) := dk_29 (dk_at dksX1_greatest_3 20 rfl rfl)
theorem dX1_greatest_89 : decode cX1_greatest 89 = .ok (.istore_n 2, 1) := dk_61 (dk_at dksX1_greatest_3 21 rfl rfl)
theorem dX1_greatest_90 : decode cX1_greatest 90 = .ok (.iinc 3 1, 3) := dk_132 3 1 (dk_at dksX1_greatest_4 0 rfl rfl)
theorem dX1_greatest_93 : decode cX1_greatest 93 = .ok (.goto (-58), 3) := dk_167 255 198 (dk_at dksX1_greatest_4 3 rfl rfl)
theorem dX1_greatest_96 : decode cX1_greatest 96 = .ok (.iload_n 2, 1) := dk_28 (dk_at dksX1_greatest_4 6 rfl rfl)
theorem dX1_greatest_97 : decode cX1_greatest 97 = .ok (.ireturn, 1) := dk_172 (dk_at dksX1_greatest_4 7 rfl rfl)
abbrev cX1_writePickup : ByteArray := prog_1_method_36_code
def yX1_writePickup : MethodName := ⟨RX1, "writePickup", "(I)I"⟩
def dkwX1_writePickup_0 : List UInt8 := [42, 42, 27, 182, 1, 2, 182, 1, 13, 172]
abbrev dktX1_writePickup_0 : List UInt8 := dkwX1_writePickup_0 ++ []
theorem dksX1_writePickup_0 : cX1_writePickup.data.toList.drop 0 = dktX1_writePickup_0 := by decide +kernel
theorem dX1_writePickup_0 : decode cX1_writePickup 0 = .ok (.aload_n 0, 1) := dk_42 (dk_at dksX1_writePickup_0 0 rfl rfl)
theorem dX1_writePickup_1 : decode cX1_writePickup 1 = .ok (.aload_n 0, 1) := dk_42 (dk_at dksX1_writePickup_0 1 rfl rfl)
theorem dX1_writePickup_2 : decode cX1_writePickup 2 = .ok (.iload_n 1, 1) := dk_27 (dk_at dksX1_writePickup_0 2 rfl rfl)
theorem dX1_writePickup_3 : decode cX1_writePickup 3 = .ok (.invokevirtual 258, 3) := dk_182 1 2 (dk_at dksX1_writePickup_0 3 rfl rfl)
theorem dX1_writePickup_6 : decode cX1_writePickup 6 = .ok (.invokevirtual 269, 3) := dk_182 1 13 (dk_at dksX1_writePickup_0 6 rfl rfl)
theorem dX1_writePickup_9 : decode cX1_writePickup 9 = .ok (.ireturn, 1) := dk_172 (dk_at dksX1_writePickup_0 9 rfl rfl)
abbrev cX1_write : ByteArray := prog_1_method_11_code
def yX1_write : MethodName := ⟨RX1, "write", "(LDairyBook$Stated;)I"⟩
def dkwX1_write_0 : List UInt8 := [42, 43, 42, 180, 0, 10, 180, 0, 106, 184, 0, 109, 181, 0, 38, 42, 180, 0, 38, 182, 0, 115, 172]
abbrev dktX1_write_0 : List UInt8 := dkwX1_write_0 ++ []
theorem dksX1_write_0 : cX1_write.data.toList.drop 0 = dktX1_write_0 := by decide +kernel
theorem dX1_write_0 : decode cX1_write 0 = .ok (.aload_n 0, 1) := dk_42 (dk_at dksX1_write_0 0 rfl rfl)
theorem dX1_write_1 : decode cX1_write 1 = .ok (.aload_n 1, 1) := dk_43 (dk_at dksX1_write_0 1 rfl rfl)
theorem dX1_write_2 : decode cX1_write 2 = .ok (.aload_n 0, 1) := dk_42 (dk_at dksX1_write_0 2 rfl rfl)
theorem dX1_write_3 : decode cX1_write 3 = .ok (.getfield 10, 3) := dk_180 0 10 (dk_at dksX1_write_0 3 rfl rfl)
theorem dX1_write_6 : decode cX1_write 6 = .ok (.getfield 106, 3) := dk_180 0 106 (dk_at dksX1_write_0 6 rfl rfl)
theorem dX1_write_9 : decode cX1_write 9 = .ok (.invokestatic 109, 3) := dk_184 0 109 (dk_at dksX1_write_0 9 rfl rfl)
theorem dX1_write_12 : decode cX1_write 12 = .ok (.putfield 38, 3) := dk_181 0 38 (dk_at dksX1_write_0 12 rfl rfl)
theorem dX1_write_15 : decode cX1_write 15 = .ok (.aload_n 0, 1) := dk_42 (dk_at dksX1_write_0 15 rfl rfl)
theorem dX1_write_16 : decode cX1_write 16 = .ok (.getfield 38, 3) := dk_180 0 38 (dk_at dksX1_write_0 16 rfl rfl)
theorem dX1_write_19 : decode cX1_write 19 = .ok (.invokevirtual 115, 3) := dk_182 0 115 (dk_at dksX1_write_0 19 rfl rfl)
theorem dX1_write_22 : decode cX1_write 22 = .ok (.ireturn, 1) := dk_172 (dk_at dksX1_write_0 22 rfl rfl)
abbrev cX1_writeCow : ByteArray := prog_1_method_37_code
def yX1_writeCow : MethodName := ⟨RX1, "writeCow", "(I)I"⟩
def dkwX1_writeCow_0 : List UInt8 := [42, 42, 27, 182, 0, 217, 182, 1, 13, 172]
abbrev dktX1_writeCow_0 : List UInt8 := dkwX1_writeCow_0 ++ []
theorem dksX1_writeCow_0 : cX1_writeCow.data.toList.drop 0 = dktX1_writeCow_0 := by decide +kernel
theorem dX1_writeCow_0 : decode cX1_writeCow 0 = .ok (.aload_n 0, 1) := dk_42 (dk_at dksX1_writeCow_0 0 rfl rfl)
theorem dX1_writeCow_1 : decode cX1_writeCow 1 = .ok (.aload_n 0, 1) := dk_42 (dk_at dksX1_writeCow_0 1 rfl rfl)
theorem dX1_writeCow_2 : decode cX1_writeCow 2 = .ok (.iload_n 1, 1) := dk_27 (dk_at dksX1_writeCow_0 2 rfl rfl)
theorem dX1_writeCow_3 : decode cX1_writeCow 3 = .ok (.invokevirtual 217, 3) := dk_182 0 217 (dk_at dksX1_writeCow_0 3 rfl rfl)
theorem dX1_writeCow_6 : decode cX1_writeCow 6 = .ok (.invokevirtual 269, 3) := dk_182 1 13 (dk_at dksX1_writeCow_0 6 rfl rfl)
theorem dX1_writeCow_9 : decode cX1_writeCow 9 = .ok (.ireturn, 1) := dk_172 (dk_at dksX1_writeCow_0 9 rfl rfl)
abbrev cX1_written : ByteArray := prog_1_method_38_code
def yX1_written : MethodName := ⟨RX1, "written", "(I)C"⟩
def dkwX1_written_1 : List UInt8 := [182, 1, 17, 172]
abbrev dktX1_written_1 : List UInt8 := dkwX1_written_1 ++ []
def dkwX1_written_0 : List UInt8 := [27, 3, 42, 180, 0, 38, 182, 0, 115, 4, 100, 184, 0, 74, 184, 0, 207, 42, 180, 0, 38, 27]
abbrev dktX1_written_0 : List UInt8 := dkwX1_written_0 ++ dktX1_written_1
theorem dksX1_written_0 : cX1_written.data.toList.drop 0 = dktX1_written_0 := by decide +kernel
theorem dksX1_written_1 : cX1_written.data.toList.drop 22 = dktX1_written_1 := dk_seg dksX1_written_0 22 rfl rfl
theorem dX1_written_0 : decode cX1_written 0 = .ok (.iload_n 1, 1) := dk_27 (dk_at dksX1_written_0 0 rfl rfl)
theorem dX1_written_1 : decode cX1_written 1 = .ok (.iconst 0, 1) := dk_3 (dk_at dksX1_written_0 1 rfl rfl)
theorem dX1_written_2 : decode cX1_written 2 = .ok (.aload_n 0, 1) := dk_42 (dk_at dksX1_written_0 2 rfl rfl)
theorem dX1_written_3 : decode cX1_written 3 = .ok (.getfield 38, 3) := dk_180 0 38 (dk_at dksX1_written_0 3 rfl rfl)
theorem dX1_written_6 : decode cX1_written 6 = .ok (.invokevirtual 115, 3) := dk_182 0 115 (dk_at dksX1_written_0 6 rfl rfl)
theorem dX1_written_9 : decode cX1_written 9 = .ok (.iconst 1, 1) := dk_4 (dk_at dksX1_written_0 9 rfl rfl)
theorem dX1_written_10 : decode cX1_written 10 = .ok (.isub, 1) := dk_100 (dk_at dksX1_written_0 10 rfl rfl)
theorem dX1_written_11 : decode cX1_written 11 = .ok (.invokestatic 74, 3) := dk_184 0 74 (dk_at dksX1_written_0 11 rfl rfl)
theorem dX1_written_14 : decode cX1_written 14 = .ok (.invokestatic 207, 3) := dk_184 0 207 (dk_at dksX1_written_0 14 rfl rfl)
theorem dX1_written_17 : decode cX1_written 17 = .ok (.aload_n 0, 1) := dk_42 (dk_at dksX1_written_0 17 rfl rfl)
theorem dX1_written_18 : decode cX1_written 18 = .ok (.getfield 38, 3) := dk_180 0 38 (dk_at dksX1_written_0 18 rfl rfl)
theorem dX1_written_21 : decode cX1_written 21 = .ok (.iload_n 1, 1) := dk_27 (dk_at dksX1_written_0 21 rfl rfl)
theorem dX1_written_22 : decode cX1_written 22 = .ok (.invokevirtual 273, 3) := dk_182 1 17 (dk_at dksX1_written_1 0 rfl rfl)
theorem dX1_written_25 : decode cX1_written 25 = .ok (.ireturn, 1) := dk_172 (dk_at dksX1_written_1 3 rfl rfl)
abbrev cX1_append : ByteArray := prog_1_method_39_code
def yX1_append : MethodName := ⟨RX1, "append", "(C)V"⟩
def dkwX1_append_1 : List UInt8 := [27, 182, 1, 22, 87, 177]
abbrev dktX1_append_1 : List UInt8 := dkwX1_append_1 ++ []
def dkwX1_append_0 : List UInt8 := [42, 180, 0, 32, 182, 1, 21, 16, 50, 162, 0, 7, 4, 167, 0, 4, 3, 184, 0, 123, 42, 180, 0, 32]
abbrev dktX1_append_0 : List UInt8 := dkwX1_append_0 ++ dktX1_append_1
theorem dksX1_append_0 : cX1_append.data.toList.drop 0 = dktX1_append_0 := by decide +kernel
theorem dksX1_append_1 : cX1_append.data.toList.drop 24 = dktX1_append_1 := dk_seg dksX1_append_0 24 rfl rfl
theorem dX1_append_0 : decode cX1_append 0 = .ok (.aload_n 0, 1) := dk_42 (dk_at dksX1_append_0 0 rfl rfl)
theorem dX1_append_1 : decode cX1_append 1 = .ok (.getfield 32, 3) := dk_180 0 32 (dk_at dksX1_append_0 1 rfl rfl)
theorem dX1_append_4 : decode cX1_append 4 = .ok (.invokevirtual 277, 3) := dk_182 1 21 (dk_at dksX1_append_0 4 rfl rfl)
theorem dX1_append_7 : decode cX1_append 7 = .ok (.bipush 50, 2) := dk_16 50 (dk_at dksX1_append_0 7 rfl rfl)
theorem dX1_append_9 : decode cX1_append 9 = .ok (.if_icmp .ge 7, 3) := dk_162 0 7 (dk_at dksX1_append_0 9 rfl rfl)
theorem dX1_append_12 : decode cX1_append 12 = .ok (.iconst 1, 1) := dk_4 (dk_at dksX1_append_0 12 rfl rfl)
theorem dX1_append_13 : decode cX1_append 13 = .ok (.goto 4, 3) := dk_167 0 4 (dk_at dksX1_append_0 13 rfl rfl)
theorem dX1_append_16 : decode cX1_append 16 = .ok (.iconst 0, 1) := dk_3 (dk_at dksX1_append_0 16 rfl rfl)
theorem dX1_append_17 : decode cX1_append 17 = .ok (.invokestatic 123, 3) := dk_184 0 123 (dk_at dksX1_append_0 17 rfl rfl)
theorem dX1_append_20 : decode cX1_append 20 = .ok (.aload_n 0, 1) := dk_42 (dk_at dksX1_append_0 20 rfl rfl)
theorem dX1_append_21 : decode cX1_append 21 = .ok (.getfield 32, 3) := dk_180 0 32 (dk_at dksX1_append_0 21 rfl rfl)
theorem dX1_append_24 : decode cX1_append 24 = .ok (.iload_n 1, 1) := dk_27 (dk_at dksX1_append_1 0 rfl rfl)
theorem dX1_append_25 : decode cX1_append 25 = .ok (.invokevirtual 278, 3) := dk_182 1 22 (dk_at dksX1_append_1 1 rfl rfl)
theorem dX1_append_28 : decode cX1_append 28 = .ok (.pop, 1) := dk_87 (dk_at dksX1_append_1 4 rfl rfl)
theorem dX1_append_29 : decode cX1_append 29 = .ok (.return_, 1) := dk_177 (dk_at dksX1_append_1 5 rfl rfl)
abbrev cX1_order : ByteArray := prog_1_method_40_code
def yX1_order : MethodName := ⟨RX1, "order", "()I"⟩
def dkwX1_order_6 : List UInt8 := [182, 0, 126, 42, 180, 0, 10, 42, 180, 0, 16, 182, 0, 98, 44, 182, 0, 68, 172]
abbrev dktX1_order_6 : List UInt8 := dkwX1_order_6 ++ []
def dkwX1_order_5 : List UInt8 := [180, 0, 16, 182, 1, 59, 182, 0, 158, 25, 4, 42, 180, 0, 16, 182, 1, 63, 167, 255, 214, 42]
abbrev dktX1_order_5 : List UInt8 := dkwX1_order_5 ++ dktX1_order_6
def dkwX1_order_4 : List UInt8 := [185, 1, 49, 1, 0, 153, 0, 39, 45, 185, 1, 54, 1, 0, 192, 1, 57, 58, 4, 42, 25, 4, 42]
abbrev dktX1_order_4 : List UInt8 := dkwX1_order_4 ++ dktX1_order_5
def dkwX1_order_3 : List UInt8 := [184, 0, 120, 42, 180, 0, 16, 42, 180, 0, 10, 182, 0, 98, 44, 182, 1, 45, 78, 45]
abbrev dktX1_order_3 : List UInt8 := dkwX1_order_3 ++ dktX1_order_4
def dkwX1_order_2 : List UInt8 := [78, 42, 45, 180, 1, 42, 181, 0, 42, 42, 180, 0, 42, 2, 160, 0, 7, 4, 167, 0, 4, 3]
abbrev dktX1_order_2 : List UInt8 := dkwX1_order_2 ++ dktX1_order_3
def dkwX1_order_1 : List UInt8 := [181, 0, 32, 187, 0, 69, 89, 183, 1, 35, 77, 42, 2, 181, 0, 42, 43, 182, 1, 36, 77, 167, 0, 12]
abbrev dktX1_order_1 : List UInt8 := dkwX1_order_1 ++ dktX1_order_2
def dkwX1_order_0 : List UInt8 := [187, 1, 26, 89, 42, 180, 0, 32, 182, 1, 28, 183, 1, 32, 76, 42, 187, 0, 29, 89, 183, 0, 31]
abbrev dktX1_order_0 : List UInt8 := dkwX1_order_0 ++ dktX1_order_1
theorem dksX1_order_0 : cX1_order.data.toList.drop 0 = dktX1_order_0 := by decide +kernel
theorem dksX1_order_1 : cX1_order.data.toList.drop 23 = dktX1_order_1 := dk_seg dksX1_order_0 23 rfl rfl
theorem dksX1_order_2 : cX1_order.data.toList.drop 47 = dktX1_order_2 := dk_seg dksX1_order_1 24 rfl rfl
theorem dksX1_order_3 : cX1_order.data.toList.drop 69 = dktX1_order_3 := dk_seg dksX1_order_2 22 rfl rfl
theorem dksX1_order_4 : cX1_order.data.toList.drop 89 = dktX1_order_4 := dk_seg dksX1_order_3 20 rfl rfl
theorem dksX1_order_5 : cX1_order.data.toList.drop 112 = dktX1_order_5 := dk_seg dksX1_order_4 23 rfl rfl
theorem dksX1_order_6 : cX1_order.data.toList.drop 134 = dktX1_order_6 := dk_seg dksX1_order_5 22 rfl rfl
theorem dX1_order_0 : decode cX1_order 0 = .ok (.new 282, 3) := dk_187 1 26 (dk_at dksX1_order_0 0 rfl rfl)
theorem dX1_order_3 : decode cX1_order 3 = .ok (.dup, 1) := dk_89 (dk_at dksX1_order_0 3 rfl rfl)
theorem dX1_order_4 : decode cX1_order 4 = .ok (.aload_n 0, 1) := dk_42 (dk_at dksX1_order_0 4 rfl rfl)
theorem dX1_order_5 : decode cX1_order 5 = .ok (.getfield 32, 3) := dk_180 0 32 (dk_at dksX1_order_0 5 rfl rfl)
theorem dX1_order_8 : decode cX1_order 8 = .ok (.invokevirtual 284, 3) := dk_182 1 28 (dk_at dksX1_order_0 8 rfl rfl)
theorem dX1_order_11 : decode cX1_order 11 = .ok (.invokespecial 288, 3) := dk_183 1 32 (dk_at dksX1_order_0 11 rfl rfl)
theorem dX1_order_14 : decode cX1_order 14 = .ok (.astore_n 1, 1) := dk_76 (dk_at dksX1_order_0 14 rfl rfl)
theorem dX1_order_15 : decode cX1_order 15 = .ok (.aload_n 0, 1) := dk_42 (dk_at dksX1_order_0 15 rfl rfl)
theorem dX1_order_16 : decode cX1_order 16 = .ok (.new 29, 3) := dk_187 0 29 (dk_at dksX1_order_0 16 rfl rfl)
theorem dX1_order_19 : decode cX1_order 19 = .ok (.dup, 1) := dk_89 (dk_at dksX1_order_0 19 rfl rfl)
theorem dX1_order_20 : decode cX1_order 20 = .ok (.invokespecial 31, 3) := dk_183 0 31 (dk_at dksX1_order_0 20 rfl rfl)
theorem dX1_order_23 : decode cX1_order 23 = .ok (.putfield 32, 3) := dk_181 0 32 (dk_at dksX1_order_1 0 rfl rfl)
theorem dX1_order_26 : decode cX1_order 26 = .ok (.new 69, 3) := dk_187 0 69 (dk_at dksX1_order_1 3 rfl rfl)
theorem dX1_order_29 : decode cX1_order 29 = .ok (.dup, 1) := dk_89 (dk_at dksX1_order_1 6 rfl rfl)
theorem dX1_order_30 : decode cX1_order 30 = .ok (.invokespecial 291, 3) := dk_183 1 35 (dk_at dksX1_order_1 7 rfl rfl)
theorem dX1_order_33 : decode cX1_order 33 = .ok (.astore_n 2, 1) := dk_77 (dk_at dksX1_order_1 10 rfl rfl)
theorem dX1_order_34 : decode cX1_order 34 = .ok (.aload_n 0, 1) := dk_42 (dk_at dksX1_order_1 11 rfl rfl)
theorem dX1_order_35 : decode cX1_order 35 = .ok (.iconst (-1), 1) := dk_2 (dk_at dksX1_order_1 12 rfl rfl)
theorem dX1_order_36 : decode cX1_order 36 = .ok (.putfield 42, 3) := dk_181 0 42 (dk_at dksX1_order_1 13 rfl rfl)
theorem dX1_order_39 : decode cX1_order 39 = .ok (.aload_n 1, 1) := dk_43 (dk_at dksX1_order_1 16 rfl rfl)
theorem dX1_order_40 : decode cX1_order 40 = .ok (.invokevirtual 292, 3) := dk_182 1 36 (dk_at dksX1_order_1 17 rfl rfl)
theorem dX1_order_43 : decode cX1_order 43 = .ok (.astore_n 2, 1) := dk_77 (dk_at dksX1_order_1 20 rfl rfl)
theorem dX1_order_44 : decode cX1_order 44 = .ok (.goto 12, 3) := dk_167 0 12 (dk_at dksX1_order_1 21 rfl rfl)
theorem dX1_order_47 : decode cX1_order 47 = .ok (.astore_n 3, 1) := dk_78 (dk_at dksX1_order_2 0 rfl rfl)
theorem dX1_order_48 : decode cX1_order 48 = .ok (.aload_n 0, 1) := dk_42 (dk_at dksX1_order_2 1 rfl rfl)
theorem dX1_order_49 : decode cX1_order 49 = .ok (.aload_n 3, 1) := dk_45 (dk_at dksX1_order_2 2 rfl rfl)
theorem dX1_order_50 : decode cX1_order 50 = .ok (.getfield 298, 3) := dk_180 1 42 (dk_at dksX1_order_2 3 rfl rfl)
theorem dX1_order_53 : decode cX1_order 53 = .ok (.putfield 42, 3) := dk_181 0 42 (dk_at dksX1_order_2 6 rfl rfl)
theorem dX1_order_56 : decode cX1_order 56 = .ok (.aload_n 0, 1) := dk_42 (dk_at dksX1_order_2 9 rfl rfl)
theorem dX1_order_57 : decode cX1_order 57 = .ok (.getfield 42, 3) := dk_180 0 42 (dk_at dksX1_order_2 10 rfl rfl)
theorem dX1_order_60 : decode cX1_order 60 = .ok (.iconst (-1), 1) := dk_2 (dk_at dksX1_order_2 13 rfl rfl)
theorem dX1_order_61 : decode cX1_order 61 = .ok (.if_icmp .ne 7, 3) := dk_160 0 7 (dk_at dksX1_order_2 14 rfl rfl)
theorem dX1_order_64 : decode cX1_order 64 = .ok (.iconst 1, 1) := dk_4 (dk_at dksX1_order_2 17 rfl rfl)
theorem dX1_order_65 : decode cX1_order 65 = .ok (.goto 4, 3) := dk_167 0 4 (dk_at dksX1_order_2 18 rfl rfl)
theorem dX1_order_68 : decode cX1_order 68 = .ok (.iconst 0, 1) := dk_3 (dk_at dksX1_order_2 21 rfl rfl)
theorem dX1_order_69 : decode cX1_order 69 = .ok (.invokestatic 120, 3) := dk_184 0 120 (dk_at dksX1_order_3 0 rfl rfl)
theorem dX1_order_72 : decode cX1_order 72 = .ok (.aload_n 0, 1) := dk_42 (dk_at dksX1_order_3 3 rfl rfl)
theorem dX1_order_73 : decode cX1_order 73 = .ok (.getfield 16, 3) := dk_180 0 16 (dk_at dksX1_order_3 4 rfl rfl)
theorem dX1_order_76 : decode cX1_order 76 = .ok (.aload_n 0, 1) := dk_42 (dk_at dksX1_order_3 7 rfl rfl)
theorem dX1_order_77 : decode cX1_order 77 = .ok (.getfield 10, 3) := dk_180 0 10 (dk_at dksX1_order_3 8 rfl rfl)
theorem dX1_order_80 : decode cX1_order 80 = .ok (.invokevirtual 98, 3) := dk_182 0 98 (dk_at dksX1_order_3 11 rfl rfl)
theorem dX1_order_83 : decode cX1_order 83 = .ok (.aload_n 2, 1) := dk_44 (dk_at dksX1_order_3 14 rfl rfl)
theorem dX1_order_84 : decode cX1_order 84 = .ok (.invokevirtual 301, 3) := dk_182 1 45 (dk_at dksX1_order_3 15 rfl rfl)
theorem dX1_order_87 : decode cX1_order 87 = .ok (.astore_n 3, 1) := dk_78 (dk_at dksX1_order_3 18 rfl rfl)
theorem dX1_order_88 : decode cX1_order 88 = .ok (.aload_n 3, 1) := dk_45 (dk_at dksX1_order_3 19 rfl rfl)
theorem dX1_order_89 : decode cX1_order 89 = .ok (.invokeinterface 305 1, 5) := by decide +kernel
theorem dX1_order_94 : decode cX1_order 94 = .ok (.ifCond .eq 39, 3) := dk_153 0 39 (dk_at dksX1_order_4 5 rfl rfl)
theorem dX1_order_97 : decode cX1_order 97 = .ok (.aload_n 3, 1) := dk_45 (dk_at dksX1_order_4 8 rfl rfl)
theorem dX1_order_98 : decode cX1_order 98 = .ok (.invokeinterface 310 1, 5) := by decide +kernel
theorem dX1_order_103 : decode cX1_order 103 = .ok (.checkcast 313, 3) := dk_192 1 57 (dk_at dksX1_order_4 14 rfl rfl)
theorem dX1_order_106 : decode cX1_order 106 = .ok (.astore 4, 2) := dk_58 4 (dk_at dksX1_order_4 17 rfl rfl)
theorem dX1_order_108 : decode cX1_order 108 = .ok (.aload_n 0, 1) := dk_42 (dk_at dksX1_order_4 19 rfl rfl)
theorem dX1_order_109 : decode cX1_order 109 = .ok (.aload 4, 2) := dk_25 4 (dk_at dksX1_order_4 20 rfl rfl)
theorem dX1_order_111 : decode cX1_order 111 = .ok (.aload_n 0, 1) := dk_42 (dk_at dksX1_order_4 22 rfl rfl)
theorem dX1_order_112 : decode cX1_order 112 = .ok (.getfield 16, 3) := dk_180 0 16 (dk_at dksX1_order_5 0 rfl rfl)
theorem dX1_order_115 : decode cX1_order 115 = .ok (.invokevirtual 315, 3) := dk_182 1 59 (dk_at dksX1_order_5 3 rfl rfl)
theorem dX1_order_118 : decode cX1_order 118 = .ok (.invokevirtual 158, 3) := dk_182 0 158 (dk_at dksX1_order_5 6 rfl rfl)
theorem dX1_order_121 : decode cX1_order 121 = .ok (.aload 4, 2) := dk_25 4 (dk_at dksX1_order_5 9 rfl rfl)
theorem dX1_order_123 : decode cX1_order 123 = .ok (.aload_n 0, 1) := dk_42 (dk_at dksX1_order_5 11 rfl rfl)
theorem dX1_order_124 : decode cX1_order 124 = .ok (.getfield 16, 3) := dk_180 0 16 (dk_at dksX1_order_5 12 rfl rfl)
theorem dX1_order_127 : decode cX1_order 127 = .ok (.invokevirtual 319, 3) := dk_182 1 63 (dk_at dksX1_order_5 15 rfl rfl)
theorem dX1_order_130 : decode cX1_order 130 = .ok (.goto (-42), 3) := dk_167 255 214 (dk_at dksX1_order_5 18 rfl rfl)
theorem dX1_order_133 : decode cX1_order 133 = .ok (.aload_n 0, 1) := dk_42 (dk_at dksX1_order_5 21 rfl rfl)
theorem dX1_order_134 : decode cX1_order 134 = .ok (.invokevirtual 126, 3) := dk_182 0 126 (dk_at dksX1_order_6 0 rfl rfl)
theorem dX1_order_137 : decode cX1_order 137 = .ok (.aload_n 0, 1) := dk_42 (dk_at dksX1_order_6 3 rfl rfl)
theorem dX1_order_138 : decode cX1_order 138 = .ok (.getfield 10, 3) := dk_180 0 10 (dk_at dksX1_order_6 4 rfl rfl)
theorem dX1_order_141 : decode cX1_order 141 = .ok (.aload_n 0, 1) := dk_42 (dk_at dksX1_order_6 7 rfl rfl)
theorem dX1_order_142 : decode cX1_order 142 = .ok (.getfield 16, 3) := dk_180 0 16 (dk_at dksX1_order_6 8 rfl rfl)
theorem dX1_order_145 : decode cX1_order 145 = .ok (.invokevirtual 98, 3) := dk_182 0 98 (dk_at dksX1_order_6 11 rfl rfl)
theorem dX1_order_148 : decode cX1_order 148 = .ok (.aload_n 2, 1) := dk_44 (dk_at dksX1_order_6 14 rfl rfl)
theorem dX1_order_149 : decode cX1_order 149 = .ok (.invokevirtual 68, 3) := dk_182 0 68 (dk_at dksX1_order_6 15 rfl rfl)
theorem dX1_order_152 : decode cX1_order 152 = .ok (.ireturn, 1) := dk_172 (dk_at dksX1_order_6 18 rfl rfl)
abbrev cX1_account : ByteArray := prog_1_method_42_code
def yX1_account : MethodName := ⟨RX1, "account", "(I)I"⟩
def dkwX1_account_0 : List UInt8 := [27, 3, 16, 8, 184, 0, 74, 184, 0, 120, 42, 180, 0, 10, 27, 182, 0, 186, 172]
abbrev dktX1_account_0 : List UInt8 := dkwX1_account_0 ++ []
theorem dksX1_account_0 : cX1_account.data.toList.drop 0 = dktX1_account_0 := by decide +kernel
theorem dX1_account_0 : decode cX1_account 0 = .ok (.iload_n 1, 1) := dk_27 (dk_at dksX1_account_0 0 rfl rfl)
theorem dX1_account_1 : decode cX1_account 1 = .ok (.iconst 0, 1) := dk_3 (dk_at dksX1_account_0 1 rfl rfl)
theorem dX1_account_2 : decode cX1_account 2 = .ok (.bipush 8, 2) := dk_16 8 (dk_at dksX1_account_0 2 rfl rfl)
theorem dX1_account_4 : decode cX1_account 4 = .ok (.invokestatic 74, 3) := dk_184 0 74 (dk_at dksX1_account_0 4 rfl rfl)
theorem dX1_account_7 : decode cX1_account 7 = .ok (.invokestatic 120, 3) := dk_184 0 120 (dk_at dksX1_account_0 7 rfl rfl)
theorem dX1_account_10 : decode cX1_account 10 = .ok (.aload_n 0, 1) := dk_42 (dk_at dksX1_account_0 10 rfl rfl)
theorem dX1_account_11 : decode cX1_account 11 = .ok (.getfield 10, 3) := dk_180 0 10 (dk_at dksX1_account_0 11 rfl rfl)
theorem dX1_account_14 : decode cX1_account 14 = .ok (.iload_n 1, 1) := dk_27 (dk_at dksX1_account_0 14 rfl rfl)
theorem dX1_account_15 : decode cX1_account 15 = .ok (.invokevirtual 186, 3) := dk_182 0 186 (dk_at dksX1_account_0 15 rfl rfl)
theorem dX1_account_18 : decode cX1_account 18 = .ok (.ireturn, 1) := dk_172 (dk_at dksX1_account_0 18 rfl rfl)
abbrev cX1_bestCow : ByteArray := prog_1_method_43_code
def yX1_bestCow : MethodName := ⟨RX1, "bestCow", "()I"⟩
def dkwX1_bestCow_3 : List UInt8 := [192, 0, 86, 180, 1, 66, 164, 0, 8, 45, 180, 0, 140, 60, 167, 255, 208, 27, 172]
abbrev dktX1_bestCow_3 : List UInt8 := dkwX1_bestCow_3 ++ []
def dkwX1_bestCow_2 : List UInt8 := [185, 1, 54, 1, 0, 192, 0, 86, 78, 45, 180, 1, 66, 42, 180, 0, 10, 180, 0, 64, 27, 182, 0, 82]
abbrev dktX1_bestCow_2 : List UInt8 := dkwX1_bestCow_2 ++ dktX1_bestCow_3
def dkwX1_bestCow_1 : List UInt8 := [180, 0, 10, 180, 0, 64, 182, 1, 45, 77, 44, 185, 1, 49, 1, 0, 153, 0, 45, 44]
abbrev dktX1_bestCow_1 : List UInt8 := dkwX1_bestCow_1 ++ dktX1_bestCow_2
def dkwX1_bestCow_0 : List UInt8 := [42, 180, 0, 10, 180, 0, 64, 182, 1, 10, 154, 0, 7, 4, 167, 0, 4, 3, 184, 0, 207, 3, 60, 42]
abbrev dktX1_bestCow_0 : List UInt8 := dkwX1_bestCow_0 ++ dktX1_bestCow_1
theorem dksX1_bestCow_0 : cX1_bestCow.data.toList.drop 0 = dktX1_bestCow_0 := by decide +kernel
theorem dksX1_bestCow_1 : cX1_bestCow.data.toList.drop 24 = dktX1_bestCow_1 := dk_seg dksX1_bestCow_0 24 rfl rfl
theorem dksX1_bestCow_2 : cX1_bestCow.data.toList.drop 44 = dktX1_bestCow_2 := dk_seg dksX1_bestCow_1 20 rfl rfl
theorem dksX1_bestCow_3 : cX1_bestCow.data.toList.drop 68 = dktX1_bestCow_3 := dk_seg dksX1_bestCow_2 24 rfl rfl
theorem dX1_bestCow_0 : decode cX1_bestCow 0 = .ok (.aload_n 0, 1) := dk_42 (dk_at dksX1_bestCow_0 0 rfl rfl)
theorem dX1_bestCow_1 : decode cX1_bestCow 1 = .ok (.getfield 10, 3) := dk_180 0 10 (dk_at dksX1_bestCow_0 1 rfl rfl)
theorem dX1_bestCow_4 : decode cX1_bestCow 4 = .ok (.getfield 64, 3) := dk_180 0 64 (dk_at dksX1_bestCow_0 4 rfl rfl)
theorem dX1_bestCow_7 : decode cX1_bestCow 7 = .ok (.invokevirtual 266, 3) := dk_182 1 10 (dk_at dksX1_bestCow_0 7 rfl rfl)
theorem dX1_bestCow_10 : decode cX1_bestCow 10 = .ok (.ifCond .ne 7, 3) := dk_154 0 7 (dk_at dksX1_bestCow_0 10 rfl rfl)
theorem dX1_bestCow_13 : decode cX1_bestCow 13 = .ok (.iconst 1, 1) := dk_4 (dk_at dksX1_bestCow_0 13 rfl rfl)
theorem dX1_bestCow_14 : decode cX1_bestCow 14 = .ok (.goto 4, 3) := dk_167 0 4 (dk_at dksX1_bestCow_0 14 rfl rfl)
theorem dX1_bestCow_17 : decode cX1_bestCow 17 = .ok (.iconst 0, 1) := dk_3 (dk_at dksX1_bestCow_0 17 rfl rfl)
theorem dX1_bestCow_18 : decode cX1_bestCow 18 = .ok (.invokestatic 207, 3) := dk_184 0 207 (dk_at dksX1_bestCow_0 18 rfl rfl)
theorem dX1_bestCow_21 : decode cX1_bestCow 21 = .ok (.iconst 0, 1) := dk_3 (dk_at dksX1_bestCow_0 21 rfl rfl)
theorem dX1_bestCow_22 : decode cX1_bestCow 22 = .ok (.istore_n 1, 1) := dk_60 (dk_at dksX1_bestCow_0 22 rfl rfl)
theorem dX1_bestCow_23 : decode cX1_bestCow 23 = .ok (.aload_n 0, 1) := dk_42 (dk_at dksX1_bestCow_0 23 rfl rfl)
theorem dX1_bestCow_24 : decode cX1_bestCow 24 = .ok (.getfield 10, 3) := dk_180 0 10 (dk_at dksX1_bestCow_1 0 rfl rfl)
theorem dX1_bestCow_27 : decode cX1_bestCow 27 = .ok (.getfield 64, 3) := dk_180 0 64 (dk_at dksX1_bestCow_1 3 rfl rfl)
theorem dX1_bestCow_30 : decode cX1_bestCow 30 = .ok (.invokevirtual 301, 3) := dk_182 1 45 (dk_at dksX1_bestCow_1 6 rfl rfl)
theorem dX1_bestCow_33 : decode cX1_bestCow 33 = .ok (.astore_n 2, 1) := dk_77 (dk_at dksX1_bestCow_1 9 rfl rfl)
theorem dX1_bestCow_34 : decode cX1_bestCow 34 = .ok (.aload_n 2, 1) := dk_44 (dk_at dksX1_bestCow_1 10 rfl rfl)
theorem dX1_bestCow_35 : decode cX1_bestCow 35 = .ok (.invokeinterface 305 1, 5) := by decide +kernel
theorem dX1_bestCow_40 : decode cX1_bestCow 40 = .ok (.ifCond .eq 45, 3) := dk_153 0 45 (dk_at dksX1_bestCow_1 16 rfl rfl)
theorem dX1_bestCow_43 : decode cX1_bestCow 43 = .ok (.aload_n 2, 1) := dk_44 (dk_at dksX1_bestCow_1 19 rfl rfl)
theorem dX1_bestCow_44 : decode cX1_bestCow 44 = .ok (.invokeinterface 310 1, 5) := by decide +kernel
theorem dX1_bestCow_49 : decode cX1_bestCow 49 = .ok (.checkcast 86, 3) := dk_192 0 86 (dk_at dksX1_bestCow_2 5 rfl rfl)
theorem dX1_bestCow_52 : decode cX1_bestCow 52 = .ok (.astore_n 3, 1) := dk_78 (dk_at dksX1_bestCow_2 8 rfl rfl)
theorem dX1_bestCow_53 : decode cX1_bestCow 53 = .ok (.aload_n 3, 1) := dk_45 (dk_at dksX1_bestCow_2 9 rfl rfl)
theorem dX1_bestCow_54 : decode cX1_bestCow 54 = .ok (.getfield 322, 3) := dk_180 1 66 (dk_at dksX1_bestCow_2 10 rfl rfl)
theorem dX1_bestCow_57 : decode cX1_bestCow 57 = .ok (.aload_n 0, 1) := dk_42 (dk_at dksX1_bestCow_2 13 rfl rfl)
theorem dX1_bestCow_58 : decode cX1_bestCow 58 = .ok (.getfield 10, 3) := dk_180 0 10 (dk_at dksX1_bestCow_2 14 rfl rfl)
theorem dX1_bestCow_61 : decode cX1_bestCow 61 = .ok (.getfield 64, 3) := dk_180 0 64 (dk_at dksX1_bestCow_2 17 rfl rfl)
theorem dX1_bestCow_64 : decode cX1_bestCow 64 = .ok (.iload_n 1, 1) := dk_27 (dk_at dksX1_bestCow_2 20 rfl rfl)
theorem dX1_bestCow_65 : decode cX1_bestCow 65 = .ok (.invokevirtual 82, 3) := dk_182 0 82 (dk_at dksX1_bestCow_2 21 rfl rfl)
theorem dX1_bestCow_68 : decode cX1_bestCow 68 = .ok (.checkcast 86, 3) := dk_192 0 86 (dk_at dksX1_bestCow_3 0 rfl rfl)
theorem dX1_bestCow_71 : decode cX1_bestCow 71 = .ok (.getfield 322, 3) := dk_180 1 66 (dk_at dksX1_bestCow_3 3 rfl rfl)
theorem dX1_bestCow_74 : decode cX1_bestCow 74 = .ok (.if_icmp .le 8, 3) := dk_164 0 8 (dk_at dksX1_bestCow_3 6 rfl rfl)
theorem dX1_bestCow_77 : decode cX1_bestCow 77 = .ok (.aload_n 3, 1) := dk_45 (dk_at dksX1_bestCow_3 9 rfl rfl)
theorem dX1_bestCow_78 : decode cX1_bestCow 78 = .ok (.getfield 140, 3) := dk_180 0 140 (dk_at dksX1_bestCow_3 10 rfl rfl)
theorem dX1_bestCow_81 : decode cX1_bestCow 81 = .ok (.istore_n 1, 1) := dk_60 (dk_at dksX1_bestCow_3 13 rfl rfl)
theorem dX1_bestCow_82 : decode cX1_bestCow 82 = .ok (.goto (-48), 3) := dk_167 255 208 (dk_at dksX1_bestCow_3 14 rfl rfl)
theorem dX1_bestCow_85 : decode cX1_bestCow 85 = .ok (.iload_n 1, 1) := dk_27 (dk_at dksX1_bestCow_3 17 rfl rfl)
theorem dX1_bestCow_86 : decode cX1_bestCow 86 = .ok (.ireturn, 1) := dk_172 (dk_at dksX1_bestCow_3 18 rfl rfl)
abbrev cX1_share : ByteArray := prog_1_method_44_code
def yX1_share : MethodName := ⟨RX1, "share", "()D"⟩
def dkwX1_share_1 : List UInt8 := [180, 0, 10, 7, 182, 0, 186, 135, 27, 135, 111, 175]
abbrev dktX1_share_1 : List UInt8 := dkwX1_share_1 ++ []
def dkwX1_share_0 : List UInt8 := [42, 180, 0, 10, 6, 182, 0, 186, 60, 27, 154, 0, 11, 187, 1, 69, 89, 183, 1, 71, 191, 42]
abbrev dktX1_share_0 : List UInt8 := dkwX1_share_0 ++ dktX1_share_1
theorem dksX1_share_0 : cX1_share.data.toList.drop 0 = dktX1_share_0 := by decide +kernel
theorem dksX1_share_1 : cX1_share.data.toList.drop 22 = dktX1_share_1 := dk_seg dksX1_share_0 22 rfl rfl
theorem dX1_share_0 : decode cX1_share 0 = .ok (.aload_n 0, 1) := dk_42 (dk_at dksX1_share_0 0 rfl rfl)
theorem dX1_share_1 : decode cX1_share 1 = .ok (.getfield 10, 3) := dk_180 0 10 (dk_at dksX1_share_0 1 rfl rfl)
theorem dX1_share_4 : decode cX1_share 4 = .ok (.iconst 3, 1) := dk_6 (dk_at dksX1_share_0 4 rfl rfl)
theorem dX1_share_5 : decode cX1_share 5 = .ok (.invokevirtual 186, 3) := dk_182 0 186 (dk_at dksX1_share_0 5 rfl rfl)
theorem dX1_share_8 : decode cX1_share 8 = .ok (.istore_n 1, 1) := dk_60 (dk_at dksX1_share_0 8 rfl rfl)
theorem dX1_share_9 : decode cX1_share 9 = .ok (.iload_n 1, 1) := dk_27 (dk_at dksX1_share_0 9 rfl rfl)
theorem dX1_share_10 : decode cX1_share 10 = .ok (.ifCond .ne 11, 3) := dk_154 0 11 (dk_at dksX1_share_0 10 rfl rfl)
theorem dX1_share_13 : decode cX1_share 13 = .ok (.new 325, 3) := dk_187 1 69 (dk_at dksX1_share_0 13 rfl rfl)
theorem dX1_share_16 : decode cX1_share 16 = .ok (.dup, 1) := dk_89 (dk_at dksX1_share_0 16 rfl rfl)
theorem dX1_share_17 : decode cX1_share 17 = .ok (.invokespecial 327, 3) := dk_183 1 71 (dk_at dksX1_share_0 17 rfl rfl)
theorem dX1_share_20 : decode cX1_share 20 = .ok (.athrow, 1) := dk_191 (dk_at dksX1_share_0 20 rfl rfl)
theorem dX1_share_21 : decode cX1_share 21 = .ok (.aload_n 0, 1) := dk_42 (dk_at dksX1_share_0 21 rfl rfl)
theorem dX1_share_22 : decode cX1_share 22 = .ok (.getfield 10, 3) := dk_180 0 10 (dk_at dksX1_share_1 0 rfl rfl)
theorem dX1_share_25 : decode cX1_share 25 = .ok (.iconst 4, 1) := dk_7 (dk_at dksX1_share_1 3 rfl rfl)
theorem dX1_share_26 : decode cX1_share 26 = .ok (.invokevirtual 186, 3) := dk_182 0 186 (dk_at dksX1_share_1 4 rfl rfl)
theorem dX1_share_29 : decode cX1_share 29 = .ok (.i2d, 1) := dk_135 (dk_at dksX1_share_1 7 rfl rfl)
theorem dX1_share_30 : decode cX1_share 30 = .ok (.iload_n 1, 1) := dk_27 (dk_at dksX1_share_1 8 rfl rfl)
theorem dX1_share_31 : decode cX1_share 31 = .ok (.i2d, 1) := dk_135 (dk_at dksX1_share_1 9 rfl rfl)
theorem dX1_share_32 : decode cX1_share 32 = .ok (.ddiv, 1) := dk_111 (dk_at dksX1_share_1 10 rfl rfl)
theorem dX1_share_33 : decode cX1_share 33 = .ok (.dreturn, 1) := dk_175 (dk_at dksX1_share_1 11 rfl rfl)
abbrev cX1_undo : ByteArray := prog_1_method_45_code
def yX1_undo : MethodName := ⟨RX1, "undo", "()I"⟩
def dkwX1_undo_1 : List UInt8 := [180, 0, 25, 182, 1, 73, 192, 0, 7, 182, 0, 98, 42, 180, 0, 25, 182, 0, 93, 172]
abbrev dktX1_undo_1 : List UInt8 := dkwX1_undo_1 ++ []
def dkwX1_undo_0 : List UInt8 := [42, 180, 0, 25, 182, 1, 72, 154, 0, 7, 4, 167, 0, 4, 3, 184, 0, 123, 42, 180, 0, 10, 42]
abbrev dktX1_undo_0 : List UInt8 := dkwX1_undo_0 ++ dktX1_undo_1
theorem dksX1_undo_0 : cX1_undo.data.toList.drop 0 = dktX1_undo_0 := by decide +kernel
theorem dksX1_undo_1 : cX1_undo.data.toList.drop 23 = dktX1_undo_1 := dk_seg dksX1_undo_0 23 rfl rfl
theorem dX1_undo_0 : decode cX1_undo 0 = .ok (.aload_n 0, 1) := dk_42 (dk_at dksX1_undo_0 0 rfl rfl)
theorem dX1_undo_1 : decode cX1_undo 1 = .ok (.getfield 25, 3) := dk_180 0 25 (dk_at dksX1_undo_0 1 rfl rfl)
theorem dX1_undo_4 : decode cX1_undo 4 = .ok (.invokevirtual 328, 3) := dk_182 1 72 (dk_at dksX1_undo_0 4 rfl rfl)
theorem dX1_undo_7 : decode cX1_undo 7 = .ok (.ifCond .ne 7, 3) := dk_154 0 7 (dk_at dksX1_undo_0 7 rfl rfl)
theorem dX1_undo_10 : decode cX1_undo 10 = .ok (.iconst 1, 1) := dk_4 (dk_at dksX1_undo_0 10 rfl rfl)
theorem dX1_undo_11 : decode cX1_undo 11 = .ok (.goto 4, 3) := dk_167 0 4 (dk_at dksX1_undo_0 11 rfl rfl)
theorem dX1_undo_14 : decode cX1_undo 14 = .ok (.iconst 0, 1) := dk_3 (dk_at dksX1_undo_0 14 rfl rfl)
theorem dX1_undo_15 : decode cX1_undo 15 = .ok (.invokestatic 123, 3) := dk_184 0 123 (dk_at dksX1_undo_0 15 rfl rfl)
theorem dX1_undo_18 : decode cX1_undo 18 = .ok (.aload_n 0, 1) := dk_42 (dk_at dksX1_undo_0 18 rfl rfl)
theorem dX1_undo_19 : decode cX1_undo 19 = .ok (.getfield 10, 3) := dk_180 0 10 (dk_at dksX1_undo_0 19 rfl rfl)
theorem dX1_undo_22 : decode cX1_undo 22 = .ok (.aload_n 0, 1) := dk_42 (dk_at dksX1_undo_0 22 rfl rfl)
theorem dX1_undo_23 : decode cX1_undo 23 = .ok (.getfield 25, 3) := dk_180 0 25 (dk_at dksX1_undo_1 0 rfl rfl)
theorem dX1_undo_26 : decode cX1_undo 26 = .ok (.invokevirtual 329, 3) := dk_182 1 73 (dk_at dksX1_undo_1 3 rfl rfl)
theorem dX1_undo_29 : decode cX1_undo 29 = .ok (.checkcast 7, 3) := dk_192 0 7 (dk_at dksX1_undo_1 6 rfl rfl)
theorem dX1_undo_32 : decode cX1_undo 32 = .ok (.invokevirtual 98, 3) := dk_182 0 98 (dk_at dksX1_undo_1 9 rfl rfl)
theorem dX1_undo_35 : decode cX1_undo 35 = .ok (.aload_n 0, 1) := dk_42 (dk_at dksX1_undo_1 12 rfl rfl)
theorem dX1_undo_36 : decode cX1_undo 36 = .ok (.getfield 25, 3) := dk_180 0 25 (dk_at dksX1_undo_1 13 rfl rfl)
theorem dX1_undo_39 : decode cX1_undo 39 = .ok (.invokevirtual 93, 3) := dk_182 0 93 (dk_at dksX1_undo_1 16 rfl rfl)
theorem dX1_undo_42 : decode cX1_undo 42 = .ok (.ireturn, 1) := dk_172 (dk_at dksX1_undo_1 19 rfl rfl)
abbrev cX1_restore : ByteArray := prog_1_method_47_code
def yX1_restore : MethodName := ⟨RX1, "restore", "()V"⟩
def dkwX1_restore_1 : List UInt8 := [182, 1, 79, 177]
abbrev dktX1_restore_1 : List UInt8 := dkwX1_restore_1 ++ []
def dkwX1_restore_0 : List UInt8 := [42, 180, 1, 76, 184, 0, 123, 42, 180, 0, 10, 42, 180, 0, 19, 182, 0, 98, 42, 180, 0, 25]
abbrev dktX1_restore_0 : List UInt8 := dkwX1_restore_0 ++ dktX1_restore_1
theorem dksX1_restore_0 : cX1_restore.data.toList.drop 0 = dktX1_restore_0 := by decide +kernel
theorem dksX1_restore_1 : cX1_restore.data.toList.drop 22 = dktX1_restore_1 := dk_seg dksX1_restore_0 22 rfl rfl
theorem dX1_restore_0 : decode cX1_restore 0 = .ok (.aload_n 0, 1) := dk_42 (dk_at dksX1_restore_0 0 rfl rfl)
theorem dX1_restore_1 : decode cX1_restore 1 = .ok (.getfield 332, 3) := dk_180 1 76 (dk_at dksX1_restore_0 1 rfl rfl)
theorem dX1_restore_4 : decode cX1_restore 4 = .ok (.invokestatic 123, 3) := dk_184 0 123 (dk_at dksX1_restore_0 4 rfl rfl)
theorem dX1_restore_7 : decode cX1_restore 7 = .ok (.aload_n 0, 1) := dk_42 (dk_at dksX1_restore_0 7 rfl rfl)
theorem dX1_restore_8 : decode cX1_restore 8 = .ok (.getfield 10, 3) := dk_180 0 10 (dk_at dksX1_restore_0 8 rfl rfl)
theorem dX1_restore_11 : decode cX1_restore 11 = .ok (.aload_n 0, 1) := dk_42 (dk_at dksX1_restore_0 11 rfl rfl)
theorem dX1_restore_12 : decode cX1_restore 12 = .ok (.getfield 19, 3) := dk_180 0 19 (dk_at dksX1_restore_0 12 rfl rfl)
theorem dX1_restore_15 : decode cX1_restore 15 = .ok (.invokevirtual 98, 3) := dk_182 0 98 (dk_at dksX1_restore_0 15 rfl rfl)
theorem dX1_restore_18 : decode cX1_restore 18 = .ok (.aload_n 0, 1) := dk_42 (dk_at dksX1_restore_0 18 rfl rfl)
theorem dX1_restore_19 : decode cX1_restore 19 = .ok (.getfield 25, 3) := dk_180 0 25 (dk_at dksX1_restore_0 19 rfl rfl)
theorem dX1_restore_22 : decode cX1_restore 22 = .ok (.invokevirtual 335, 3) := dk_182 1 79 (dk_at dksX1_restore_1 0 rfl rfl)
theorem dX1_restore_25 : decode cX1_restore 25 = .ok (.return_, 1) := dk_177 (dk_at dksX1_restore_1 3 rfl rfl)
theorem q62 : (Jvm.Cond.initialized "DairyBook") ∈ lw_all := lw_g (lw_at lw_m1 1 rfl) rfl
theorem q104 : (Jvm.Cond.instantiable "DairyBook" (9 : Nat)) ∈ lw_all := lw_g (lw_at lw_m1 43 rfl) rfl
theorem q106 : (Jvm.Cond.instanceMethod ({ cls := "DairyBook", name := "<init>", desc := "()V" } : Jvm.MethodName)) ∈ lw_all := lw_g (lw_at lw_m1 45 rfl) rfl
theorem q107 : (Jvm.Cond.code ({ cls := "DairyBook", name := "<init>", desc := "()V" } : Jvm.MethodName) prog_1_method_2_code (1 : Nat) (Option.none : Option Jvm.ClassFile.FieldType)) ∈ lw_all := lw_g (lw_at lw_m1 46 rfl) rfl
theorem q108 : (Jvm.Cond.methodLink "DairyBook" (1 : Nat) ({ cls := "java/lang/Object", name := "<init>", desc := "()V" } : Jvm.MethodName)) ∈ lw_all := lw_g (lw_at lw_m1 47 rfl) rfl
theorem q111 : (Jvm.Cond.classLink "DairyBook" (7 : Nat) "DairyBook$Herd") ∈ lw_all := lw_g (lw_at lw_m1 50 rfl) rfl
theorem q113 : (Jvm.Cond.methodLinkNest "DairyBook" (9 : Nat) ({ cls := "DairyBook$Herd", name := "<init>", desc := "()V" } : Jvm.MethodName) "DairyBook") ∈ lw_tbl := lw_at lw_m1 52 rfl
theorem q154 : (Jvm.Cond.fieldLinkNest "DairyBook" (246 : Nat) "DairyBook$Tank" "litres" "I" "DairyBook") ∈ lw_tbl := lw_at lw_m1 93 rfl
theorem q157 : (Jvm.Cond.fieldLinkNest "DairyBook" (251 : Nat) "DairyBook$Tank" "cells" "I" "DairyBook") ∈ lw_tbl := lw_at lw_m1 96 rfl
theorem q165 : (Jvm.Cond.fieldLinkNest "DairyBook" (64 : Nat) "DairyBook$Herd" "cows" "Ljava/util/ArrayList;" "DairyBook") ∈ lw_tbl := lw_at lw_m1 104 rfl
theorem q167 : (Jvm.Cond.fieldLinkNest "DairyBook" (196 : Nat) "DairyBook$Herd" "rows" "Ljava/util/ArrayList;" "DairyBook") ∈ lw_tbl := lw_at lw_m1 106 rfl
theorem q169 : (Jvm.Cond.fieldLinkNest "DairyBook" (88 : Nat) "DairyBook$Herd" "pickups" "Ljava/util/ArrayList;" "DairyBook") ∈ lw_tbl := lw_at lw_m1 108 rfl
theorem q171 : (Jvm.Cond.fieldLinkNest "DairyBook" (242 : Nat) "DairyBook$Herd" "tank" "LDairyBook$Tank;" "DairyBook") ∈ lw_tbl := lw_at lw_m1 110 rfl
theorem q173 : (Jvm.Cond.fieldLinkNest "DairyBook" (150 : Nat) "DairyBook$Herd" "settings" "[I" "DairyBook") ∈ lw_tbl := lw_at lw_m1 112 rfl
theorem q175 : (Jvm.Cond.fieldLinkNest "DairyBook" (106 : Nat) "DairyBook$Herd" "today" "I" "DairyBook") ∈ lw_tbl := lw_at lw_m1 114 rfl
theorem q196 : (Jvm.Cond.classLink "DairyBook" (22 : Nat) "java/util/ArrayDeque") ∈ lw_all := lw_g (lw_at lw_m1 135 rfl) rfl
theorem q198 : (Jvm.Cond.methodLink "DairyBook" (24 : Nat) ({ cls := "java/util/ArrayDeque", name := "<init>", desc := "()V" } : Jvm.MethodName)) ∈ lw_all := lw_g (lw_at lw_m1 137 rfl) rfl
theorem q214 : (Jvm.Cond.classLink "DairyBook" (29 : Nat) "java/lang/StringBuilder") ∈ lw_all := lw_g (lw_at lw_m1 153 rfl) rfl
theorem q216 : (Jvm.Cond.methodLink "DairyBook" (31 : Nat) ({ cls := "java/lang/StringBuilder", name := "<init>", desc := "()V" } : Jvm.MethodName)) ∈ lw_all := lw_g (lw_at lw_m1 155 rfl) rfl
theorem q247 : (Jvm.Cond.stringRef "DairyBook" (36 : Nat) "") ∈ lw_tbl := lw_at lw_m1 186 rfl
theorem q248 : (Jvm.Cond.fieldLink "DairyBook" (10 : Nat) "DairyBook" "herd" "LDairyBook$Herd;") ∈ lw_all := lw_g (lw_at lw_m1 187 rfl) rfl
theorem q249 : (Jvm.Cond.fieldLink "DairyBook" (16 : Nat) "DairyBook" "tried" "LDairyBook$Herd;") ∈ lw_all := lw_g (lw_at lw_m1 188 rfl) rfl
theorem q250 : (Jvm.Cond.fieldLink "DairyBook" (19 : Nat) "DairyBook" "saved" "LDairyBook$Herd;") ∈ lw_all := lw_g (lw_at lw_m1 189 rfl) rfl
theorem q251 : (Jvm.Cond.fieldLink "DairyBook" (332 : Nat) "DairyBook" "hasSaved" "Z") ∈ lw_all := lw_g (lw_at lw_m1 190 rfl) rfl
theorem q252 : (Jvm.Cond.fieldLink "DairyBook" (25 : Nat) "DairyBook" "kept" "Ljava/util/ArrayDeque;") ∈ lw_all := lw_g (lw_at lw_m1 191 rfl) rfl
theorem q253 : (Jvm.Cond.fieldLink "DairyBook" (32 : Nat) "DairyBook" "text" "Ljava/lang/StringBuilder;") ∈ lw_all := lw_g (lw_at lw_m1 192 rfl) rfl
theorem q254 : (Jvm.Cond.fieldLink "DairyBook" (38 : Nat) "DairyBook" "written" "Ljava/lang/String;") ∈ lw_all := lw_g (lw_at lw_m1 193 rfl) rfl
theorem q255 : (Jvm.Cond.fieldLink "DairyBook" (42 : Nat) "DairyBook" "fault" "I") ∈ lw_all := lw_g (lw_at lw_m1 194 rfl) rfl
theorem q256 : (Jvm.Cond.fieldLink "DairyBook" (58 : Nat) "DairyBook" "refused" "I") ∈ lw_all := lw_g (lw_at lw_m1 195 rfl) rfl
theorem q257 : (Jvm.Cond.laysFinal "DairyBook" "DairyBook" "herd" "LDairyBook$Herd;") ∈ lw_all := lw_g (lw_at lw_m1 196 rfl) rfl
theorem q258 : (Jvm.Cond.soleField "DairyBook" "herd") ∈ lw_all := lw_g (lw_at lw_m1 197 rfl) rfl
theorem q259 : (Jvm.Cond.laysFinal "DairyBook" "DairyBook" "tried" "LDairyBook$Herd;") ∈ lw_all := lw_g (lw_at lw_m1 198 rfl) rfl
theorem q260 : (Jvm.Cond.soleField "DairyBook" "tried") ∈ lw_all := lw_g (lw_at lw_m1 199 rfl) rfl
theorem q261 : (Jvm.Cond.laysFinal "DairyBook" "DairyBook" "saved" "LDairyBook$Herd;") ∈ lw_all := lw_g (lw_at lw_m1 200 rfl) rfl
theorem q262 : (Jvm.Cond.soleField "DairyBook" "saved") ∈ lw_all := lw_g (lw_at lw_m1 201 rfl) rfl
theorem q263 : (Jvm.Cond.lays "DairyBook" "DairyBook" "hasSaved" "Z") ∈ lw_all := lw_g (lw_at lw_m1 202 rfl) rfl
theorem q264 : (Jvm.Cond.soleField "DairyBook" "hasSaved") ∈ lw_all := lw_g (lw_at lw_m1 203 rfl) rfl
theorem q265 : (Jvm.Cond.laysFinal "DairyBook" "DairyBook" "kept" "Ljava/util/ArrayDeque;") ∈ lw_all := lw_g (lw_at lw_m1 204 rfl) rfl
theorem q266 : (Jvm.Cond.soleField "DairyBook" "kept") ∈ lw_all := lw_g (lw_at lw_m1 205 rfl) rfl
theorem q267 : (Jvm.Cond.lays "DairyBook" "DairyBook" "text" "Ljava/lang/StringBuilder;") ∈ lw_all := lw_g (lw_at lw_m1 206 rfl) rfl
theorem q268 : (Jvm.Cond.soleField "DairyBook" "text") ∈ lw_all := lw_g (lw_at lw_m1 207 rfl) rfl
theorem q269 : (Jvm.Cond.lays "DairyBook" "DairyBook" "written" "Ljava/lang/String;") ∈ lw_all := lw_g (lw_at lw_m1 208 rfl) rfl
theorem q270 : (Jvm.Cond.soleField "DairyBook" "written") ∈ lw_all := lw_g (lw_at lw_m1 209 rfl) rfl
theorem q271 : (Jvm.Cond.lays "DairyBook" "DairyBook" "fault" "I") ∈ lw_all := lw_g (lw_at lw_m1 210 rfl) rfl
theorem q272 : (Jvm.Cond.soleField "DairyBook" "fault") ∈ lw_all := lw_g (lw_at lw_m1 211 rfl) rfl
theorem q273 : (Jvm.Cond.lays "DairyBook" "DairyBook" "refused" "I") ∈ lw_all := lw_g (lw_at lw_m1 212 rfl) rfl
theorem q274 : (Jvm.Cond.soleField "DairyBook" "refused") ∈ lw_all := lw_g (lw_at lw_m1 213 rfl) rfl
theorem q275 : (Jvm.Cond.superclass "DairyBook" "java/lang/Object") ∈ lw_all := lw_g (lw_at lw_m1 214 rfl) rfl
theorem q277 : (Jvm.Cond.instanceMethod ({ cls := "DairyBook", name := "today", desc := "()I" } : Jvm.MethodName)) ∈ lw_all := lw_g (lw_at lw_m1 216 rfl) rfl
theorem q278 : (Jvm.Cond.selects "DairyBook" ({ cls := "DairyBook", name := "today", desc := "()I" } : Jvm.MethodName) ({ cls := "DairyBook", name := "today", desc := "()I" } : Jvm.MethodName)) ∈ lw_all := lw_g (lw_at lw_m1 217 rfl) rfl
theorem q279 : (Jvm.Cond.code ({ cls := "DairyBook", name := "today", desc := "()I" } : Jvm.MethodName) prog_1_method_27_code (1 : Nat) (Option.some Jvm.ClassFile.FieldType.int)) ∈ lw_all := lw_g (lw_at lw_m1 218 rfl) rfl
theorem q281 : (Jvm.Cond.instanceMethod ({ cls := "DairyBook", name := "faultPosition", desc := "()I" } : Jvm.MethodName)) ∈ lw_all := lw_g (lw_at lw_m1 220 rfl) rfl
theorem q282 : (Jvm.Cond.selects "DairyBook" ({ cls := "DairyBook", name := "faultPosition", desc := "()I" } : Jvm.MethodName) ({ cls := "DairyBook", name := "faultPosition", desc := "()I" } : Jvm.MethodName)) ∈ lw_all := lw_g (lw_at lw_m1 221 rfl) rfl
theorem q283 : (Jvm.Cond.code ({ cls := "DairyBook", name := "faultPosition", desc := "()I" } : Jvm.MethodName) prog_1_method_41_code (1 : Nat) (Option.some Jvm.ClassFile.FieldType.int)) ∈ lw_all := lw_g (lw_at lw_m1 222 rfl) rfl
theorem q285 : (Jvm.Cond.instanceMethod ({ cls := "DairyBook", name := "save", desc := "()V" } : Jvm.MethodName)) ∈ lw_all := lw_g (lw_at lw_m1 224 rfl) rfl
theorem q286 : (Jvm.Cond.selects "DairyBook" ({ cls := "DairyBook", name := "save", desc := "()V" } : Jvm.MethodName) ({ cls := "DairyBook", name := "save", desc := "()V" } : Jvm.MethodName)) ∈ lw_all := lw_g (lw_at lw_m1 225 rfl) rfl
theorem q287 : (Jvm.Cond.code ({ cls := "DairyBook", name := "save", desc := "()V" } : Jvm.MethodName) prog_1_method_46_code (1 : Nat) (Option.none : Option Jvm.ClassFile.FieldType)) ∈ lw_all := lw_g (lw_at lw_m1 226 rfl) rfl
theorem q288 : (Jvm.Cond.methodLink "DairyBook" (98 : Nat) ({ cls := "DairyBook$Herd", name := "take", desc := "(LDairyBook$Herd;)V" } : Jvm.MethodName)) ∈ lw_all := lw_g (lw_at lw_m1 227 rfl) rfl
theorem q422 : (Jvm.Cond.fieldLinkNest "DairyBook" (140 : Nat) "DairyBook$Cow" "number" "I" "DairyBook") ∈ lw_tbl := lw_at lw_m2 121 rfl
theorem q427 : (Jvm.Cond.fieldLinkNest "DairyBook" (167 : Nat) "DairyBook$Cow" "cells" "I" "DairyBook") ∈ lw_tbl := lw_at lw_m2 126 rfl
theorem q435 : (Jvm.Cond.fieldLinkNest "DairyBook" (182 : Nat) "DairyBook$Cow" "isSold" "Z" "DairyBook") ∈ lw_tbl := lw_at lw_m2 134 rfl
theorem q440 : (Jvm.Cond.fieldLinkNest "DairyBook" (234 : Nat) "DairyBook$Cow" "due" "I" "DairyBook") ∈ lw_tbl := lw_at lw_m2 139 rfl
theorem q445 : (Jvm.Cond.fieldLinkNest "DairyBook" (322 : Nat) "DairyBook$Cow" "given" "I" "DairyBook") ∈ lw_tbl := lw_at lw_m2 144 rfl
theorem q505 : (Jvm.Cond.selects "DairyBook" ({ cls := "java/lang/Object", name := "getClass", desc := "()Ljava/lang/Class;" } : Jvm.MethodName) ({ cls := "java/lang/Object", name := "getClass", desc := "()Ljava/lang/Class;" } : Jvm.MethodName)) ∈ lw_all := lw_g (lw_at lw_m2 204 rfl) rfl
theorem q803 : (Jvm.Cond.instanceMethod ({ cls := "DairyBook", name := "addCow", desc := "(III)I" } : Jvm.MethodName)) ∈ lw_all := lw_g (lw_at lw_m4 22 rfl) rfl
theorem q804 : (Jvm.Cond.selects "DairyBook" ({ cls := "DairyBook", name := "addCow", desc := "(III)I" } : Jvm.MethodName) ({ cls := "DairyBook", name := "addCow", desc := "(III)I" } : Jvm.MethodName)) ∈ lw_all := lw_g (lw_at lw_m4 23 rfl) rfl
theorem q805 : (Jvm.Cond.code ({ cls := "DairyBook", name := "addCow", desc := "(III)I" } : Jvm.MethodName) prog_1_method_12_code (5 : Nat) (Option.some Jvm.ClassFile.FieldType.int)) ∈ lw_all := lw_g (lw_at lw_m4 24 rfl) rfl
theorem q806 : (Jvm.Cond.methodLink "DairyBook" (74 : Nat) ({ cls := "DairyBook", name := "in", desc := "(III)Z" } : Jvm.MethodName)) ∈ lw_all := lw_g (lw_at lw_m4 25 rfl) rfl
theorem q807 : (Jvm.Cond.static ({ cls := "DairyBook", name := "in", desc := "(III)Z" } : Jvm.MethodName)) ∈ lw_all := lw_g (lw_at lw_m4 26 rfl) rfl
theorem q808 : (Jvm.Cond.code ({ cls := "DairyBook", name := "in", desc := "(III)Z" } : Jvm.MethodName) prog_1_method_1_code (3 : Nat) (Option.some Jvm.ClassFile.FieldType.boolean)) ∈ lw_all := lw_g (lw_at lw_m4 27 rfl) rfl
theorem q809 : (Jvm.Cond.methodLink "DairyBook" (120 : Nat) ({ cls := "DairyBook", name := "check", desc := "(Z)V" } : Jvm.MethodName)) ∈ lw_all := lw_g (lw_at lw_m4 28 rfl) rfl
theorem q810 : (Jvm.Cond.static ({ cls := "DairyBook", name := "check", desc := "(Z)V" } : Jvm.MethodName)) ∈ lw_all := lw_g (lw_at lw_m4 29 rfl) rfl
theorem q811 : (Jvm.Cond.code ({ cls := "DairyBook", name := "check", desc := "(Z)V" } : Jvm.MethodName) prog_1_method_3_code (1 : Nat) (Option.none : Option Jvm.ClassFile.FieldType)) ∈ lw_all := lw_g (lw_at lw_m4 30 rfl) rfl
theorem q812 : (Jvm.Cond.classLink "DairyBook" (46 : Nat) "java/lang/IllegalArgumentException") ∈ lw_all := lw_g (lw_at lw_m4 31 rfl) rfl
theorem q813 : (Jvm.Cond.methodLink "DairyBook" (48 : Nat) ({ cls := "java/lang/IllegalArgumentException", name := "<init>", desc := "()V" } : Jvm.MethodName)) ∈ lw_all := lw_g (lw_at lw_m4 32 rfl) rfl
theorem q817 : (Jvm.Cond.methodLink "DairyBook" (68 : Nat) ({ cls := "java/util/ArrayList", name := "size", desc := "()I" } : Jvm.MethodName)) ∈ lw_all := lw_g (lw_at lw_m4 36 rfl) rfl
theorem q821 : (Jvm.Cond.methodLink "DairyBook" (123 : Nat) ({ cls := "DairyBook", name := "checkState", desc := "(Z)V" } : Jvm.MethodName)) ∈ lw_all := lw_g (lw_at lw_m4 40 rfl) rfl
theorem q822 : (Jvm.Cond.static ({ cls := "DairyBook", name := "checkState", desc := "(Z)V" } : Jvm.MethodName)) ∈ lw_all := lw_g (lw_at lw_m4 41 rfl) rfl
theorem q823 : (Jvm.Cond.code ({ cls := "DairyBook", name := "checkState", desc := "(Z)V" } : Jvm.MethodName) prog_1_method_6_code (1 : Nat) (Option.none : Option Jvm.ClassFile.FieldType)) ∈ lw_all := lw_g (lw_at lw_m4 42 rfl) rfl
theorem q824 : (Jvm.Cond.classLink "DairyBook" (55 : Nat) "java/lang/IllegalStateException") ∈ lw_all := lw_g (lw_at lw_m4 43 rfl) rfl
theorem q833 : (Jvm.Cond.methodLink "DairyBook" (57 : Nat) ({ cls := "java/lang/IllegalStateException", name := "<init>", desc := "()V" } : Jvm.MethodName)) ∈ lw_all := lw_g (lw_at lw_m4 52 rfl) rfl
theorem q839 : (Jvm.Cond.methodLink "DairyBook" (126 : Nat) ({ cls := "DairyBook", name := "keep", desc := "()V" } : Jvm.MethodName)) ∈ lw_all := lw_g (lw_at lw_m4 58 rfl) rfl
theorem q840 : (Jvm.Cond.privateMethod ({ cls := "DairyBook", name := "keep", desc := "()V" } : Jvm.MethodName)) ∈ lw_tbl := lw_at lw_m4 59 rfl
theorem q841 : (Jvm.Cond.instanceMethod ({ cls := "DairyBook", name := "keep", desc := "()V" } : Jvm.MethodName)) ∈ lw_all := lw_g (lw_at lw_m4 60 rfl) rfl
theorem q842 : (Jvm.Cond.code ({ cls := "DairyBook", name := "keep", desc := "()V" } : Jvm.MethodName) prog_1_method_10_code (2 : Nat) (Option.none : Option Jvm.ClassFile.FieldType)) ∈ lw_all := lw_g (lw_at lw_m4 61 rfl) rfl
theorem q843 : (Jvm.Cond.methodLink "DairyBook" (93 : Nat) ({ cls := "java/util/ArrayDeque", name := "size", desc := "()I" } : Jvm.MethodName)) ∈ lw_all := lw_g (lw_at lw_m4 62 rfl) rfl
theorem q850 : (Jvm.Cond.methodLink "DairyBook" (94 : Nat) ({ cls := "java/util/ArrayDeque", name := "pollFirst", desc := "()Ljava/lang/Object;" } : Jvm.MethodName)) ∈ lw_all := lw_g (lw_at lw_m4 69 rfl) rfl
theorem q860 : (Jvm.Cond.methodLink "DairyBook" (102 : Nat) ({ cls := "java/util/ArrayDeque", name := "addLast", desc := "(Ljava/lang/Object;)V" } : Jvm.MethodName)) ∈ lw_all := lw_g (lw_at lw_m4 79 rfl) rfl
theorem q881 : (Jvm.Cond.classLink "DairyBook" (86 : Nat) "DairyBook$Cow") ∈ lw_all := lw_g (lw_at lw_m4 100 rfl) rfl
theorem q882 : (Jvm.Cond.methodLink "DairyBook" (129 : Nat) ({ cls := "DairyBook$Cow", name := "<init>", desc := "(III)V" } : Jvm.MethodName)) ∈ lw_all := lw_g (lw_at lw_m4 101 rfl) rfl
theorem q883 : (Jvm.Cond.methodLink "DairyBook" (132 : Nat) ({ cls := "DairyBook$Cow", name := "begin", desc := "(I)V" } : Jvm.MethodName)) ∈ lw_all := lw_g (lw_at lw_m4 102 rfl) rfl
theorem q887 : (Jvm.Cond.methodLink "DairyBook" (136 : Nat) ({ cls := "java/util/ArrayList", name := "add", desc := "(Ljava/lang/Object;)Z" } : Jvm.MethodName)) ∈ lw_all := lw_g (lw_at lw_m4 106 rfl) rfl
theorem q911 : (Jvm.Cond.instanceMethod ({ cls := "DairyBook", name := "set", desc := "(II)I" } : Jvm.MethodName)) ∈ lw_all := lw_g (lw_at lw_m4 130 rfl) rfl
theorem q912 : (Jvm.Cond.selects "DairyBook" ({ cls := "DairyBook", name := "set", desc := "(II)I" } : Jvm.MethodName) ({ cls := "DairyBook", name := "set", desc := "(II)I" } : Jvm.MethodName)) ∈ lw_all := lw_g (lw_at lw_m4 131 rfl) rfl
theorem q913 : (Jvm.Cond.code ({ cls := "DairyBook", name := "set", desc := "(II)I" } : Jvm.MethodName) prog_1_method_15_code (4 : Nat) (Option.some Jvm.ClassFile.FieldType.int)) ∈ lw_all := lw_g (lw_at lw_m4 132 rfl) rfl
theorem q914 : (Jvm.Cond.methodLink "DairyBook" (78 : Nat) ({ cls := "DairyBook", name := "checkIndex", desc := "(Z)V" } : Jvm.MethodName)) ∈ lw_all := lw_g (lw_at lw_m4 133 rfl) rfl
theorem q915 : (Jvm.Cond.static ({ cls := "DairyBook", name := "checkIndex", desc := "(Z)V" } : Jvm.MethodName)) ∈ lw_all := lw_g (lw_at lw_m4 134 rfl) rfl
theorem q916 : (Jvm.Cond.code ({ cls := "DairyBook", name := "checkIndex", desc := "(Z)V" } : Jvm.MethodName) prog_1_method_4_code (1 : Nat) (Option.none : Option Jvm.ClassFile.FieldType)) ∈ lw_all := lw_g (lw_at lw_m4 135 rfl) rfl
theorem q917 : (Jvm.Cond.classLink "DairyBook" (49 : Nat) "java/lang/IndexOutOfBoundsException") ∈ lw_all := lw_g (lw_at lw_m4 136 rfl) rfl
theorem q926 : (Jvm.Cond.methodLink "DairyBook" (51 : Nat) ({ cls := "java/lang/IndexOutOfBoundsException", name := "<init>", desc := "()V" } : Jvm.MethodName)) ∈ lw_all := lw_g (lw_at lw_m4 145 rfl) rfl
theorem q932 : (Jvm.Cond.methodLink "DairyBook" (143 : Nat) ({ cls := "DairyBook", name := "lowest", desc := "(I)I" } : Jvm.MethodName)) ∈ lw_all := lw_g (lw_at lw_m4 151 rfl) rfl
theorem q933 : (Jvm.Cond.static ({ cls := "DairyBook", name := "lowest", desc := "(I)I" } : Jvm.MethodName)) ∈ lw_all := lw_g (lw_at lw_m4 152 rfl) rfl
theorem q934 : (Jvm.Cond.code ({ cls := "DairyBook", name := "lowest", desc := "(I)I" } : Jvm.MethodName) prog_1_method_13_code (1 : Nat) (Option.some Jvm.ClassFile.FieldType.int)) ∈ lw_all := lw_g (lw_at lw_m4 153 rfl) rfl
theorem q935 : (Jvm.Cond.methodLink "DairyBook" (147 : Nat) ({ cls := "DairyBook", name := "highest", desc := "(I)I" } : Jvm.MethodName)) ∈ lw_all := lw_g (lw_at lw_m4 154 rfl) rfl
theorem q936 : (Jvm.Cond.static ({ cls := "DairyBook", name := "highest", desc := "(I)I" } : Jvm.MethodName)) ∈ lw_all := lw_g (lw_at lw_m4 155 rfl) rfl
theorem q937 : (Jvm.Cond.code ({ cls := "DairyBook", name := "highest", desc := "(I)I" } : Jvm.MethodName) prog_1_method_14_code (1 : Nat) (Option.some Jvm.ClassFile.FieldType.int)) ∈ lw_all := lw_g (lw_at lw_m4 156 rfl) rfl
theorem q942 : (Jvm.Cond.instanceMethod ({ cls := "DairyBook", name := "setting", desc := "(I)I" } : Jvm.MethodName)) ∈ lw_all := lw_g (lw_at lw_m4 161 rfl) rfl
theorem q943 : (Jvm.Cond.selects "DairyBook" ({ cls := "DairyBook", name := "setting", desc := "(I)I" } : Jvm.MethodName) ({ cls := "DairyBook", name := "setting", desc := "(I)I" } : Jvm.MethodName)) ∈ lw_all := lw_g (lw_at lw_m4 162 rfl) rfl
theorem q944 : (Jvm.Cond.code ({ cls := "DairyBook", name := "setting", desc := "(I)I" } : Jvm.MethodName) prog_1_method_16_code (2 : Nat) (Option.some Jvm.ClassFile.FieldType.int)) ∈ lw_all := lw_g (lw_at lw_m4 163 rfl) rfl
theorem q950 : (Jvm.Cond.instanceMethod ({ cls := "DairyBook", name := "hold", desc := "(II)I" } : Jvm.MethodName)) ∈ lw_all := lw_g (lw_at lw_m4 169 rfl) rfl
theorem q951 : (Jvm.Cond.selects "DairyBook" ({ cls := "DairyBook", name := "hold", desc := "(II)I" } : Jvm.MethodName) ({ cls := "DairyBook", name := "hold", desc := "(II)I" } : Jvm.MethodName)) ∈ lw_all := lw_g (lw_at lw_m4 170 rfl) rfl
theorem q952 : (Jvm.Cond.code ({ cls := "DairyBook", name := "hold", desc := "(II)I" } : Jvm.MethodName) prog_1_method_17_code (3 : Nat) (Option.some Jvm.ClassFile.FieldType.int)) ∈ lw_all := lw_g (lw_at lw_m4 171 rfl) rfl
theorem q953 : (Jvm.Cond.methodLink "DairyBook" (154 : Nat) ({ cls := "DairyBook$Herd", name := "refusesHold", desc := "(II)I" } : Jvm.MethodName)) ∈ lw_all := lw_g (lw_at lw_m4 172 rfl) rfl
theorem q977 : (Jvm.Cond.methodLink "DairyBook" (158 : Nat) ({ cls := "DairyBook", name := "checkSupported", desc := "(I)V" } : Jvm.MethodName)) ∈ lw_all := lw_g (lw_at lw_m4 196 rfl) rfl
theorem q978 : (Jvm.Cond.privateMethod ({ cls := "DairyBook", name := "checkSupported", desc := "(I)V" } : Jvm.MethodName)) ∈ lw_tbl := lw_at lw_m4 197 rfl
theorem q979 : (Jvm.Cond.instanceMethod ({ cls := "DairyBook", name := "checkSupported", desc := "(I)V" } : Jvm.MethodName)) ∈ lw_all := lw_g (lw_at lw_m4 198 rfl) rfl
theorem q980 : (Jvm.Cond.code ({ cls := "DairyBook", name := "checkSupported", desc := "(I)V" } : Jvm.MethodName) prog_1_method_7_code (2 : Nat) (Option.none : Option Jvm.ClassFile.FieldType)) ∈ lw_all := lw_g (lw_at lw_m4 199 rfl) rfl
theorem q981 : (Jvm.Cond.classLink "DairyBook" (61 : Nat) "java/lang/UnsupportedOperationException") ∈ lw_all := lw_g (lw_at lw_m4 200 rfl) rfl
theorem q990 : (Jvm.Cond.methodLink "DairyBook" (63 : Nat) ({ cls := "java/lang/UnsupportedOperationException", name := "<init>", desc := "()V" } : Jvm.MethodName)) ∈ lw_all := lw_g (lw_at lw_m4 209 rfl) rfl
theorem q996 : (Jvm.Cond.methodLink "DairyBook" (161 : Nat) ({ cls := "DairyBook$Herd", name := "hold", desc := "(II)I" } : Jvm.MethodName)) ∈ lw_all := lw_g (lw_at lw_m4 215 rfl) rfl
theorem q1005 : (Jvm.Cond.instanceMethod ({ cls := "DairyBook", name := "setCells", desc := "(II)I" } : Jvm.MethodName)) ∈ lw_all := lw_g (lw_at lw_m4 224 rfl) rfl
theorem q1006 : (Jvm.Cond.selects "DairyBook" ({ cls := "DairyBook", name := "setCells", desc := "(II)I" } : Jvm.MethodName) ({ cls := "DairyBook", name := "setCells", desc := "(II)I" } : Jvm.MethodName)) ∈ lw_all := lw_g (lw_at lw_m4 225 rfl) rfl
theorem q1007 : (Jvm.Cond.code ({ cls := "DairyBook", name := "setCells", desc := "(II)I" } : Jvm.MethodName) prog_1_method_18_code (5 : Nat) (Option.some Jvm.ClassFile.FieldType.int)) ∈ lw_all := lw_g (lw_at lw_m4 226 rfl) rfl
theorem q1008 : (Jvm.Cond.methodLink "DairyBook" (164 : Nat) ({ cls := "DairyBook$Herd", name := "refusesCow", desc := "(I)I" } : Jvm.MethodName)) ∈ lw_all := lw_g (lw_at lw_m4 227 rfl) rfl
theorem q1012 : (Jvm.Cond.methodLink "DairyBook" (82 : Nat) ({ cls := "java/util/ArrayList", name := "get", desc := "(I)Ljava/lang/Object;" } : Jvm.MethodName)) ∈ lw_all := lw_g (lw_at lw_m4 231 rfl) rfl
theorem q1017 : (Jvm.Cond.instanceMethod ({ cls := "DairyBook", name := "serve", desc := "(I)I" } : Jvm.MethodName)) ∈ lw_all := lw_g (lw_at lw_m4 236 rfl) rfl
theorem q1018 : (Jvm.Cond.selects "DairyBook" ({ cls := "DairyBook", name := "serve", desc := "(I)I" } : Jvm.MethodName) ({ cls := "DairyBook", name := "serve", desc := "(I)I" } : Jvm.MethodName)) ∈ lw_all := lw_g (lw_at lw_m4 237 rfl) rfl
theorem q1019 : (Jvm.Cond.code ({ cls := "DairyBook", name := "serve", desc := "(I)I" } : Jvm.MethodName) prog_1_method_19_code (2 : Nat) (Option.some Jvm.ClassFile.FieldType.int)) ∈ lw_all := lw_g (lw_at lw_m4 238 rfl) rfl
theorem q1020 : (Jvm.Cond.methodLink "DairyBook" (170 : Nat) ({ cls := "DairyBook$Herd", name := "refusesServe", desc := "(I)I" } : Jvm.MethodName)) ∈ lw_all := lw_g (lw_at lw_m4 239 rfl) rfl
theorem q1037 : (Jvm.Cond.methodLink "DairyBook" (173 : Nat) ({ cls := "DairyBook$Herd", name := "serve", desc := "(I)I" } : Jvm.MethodName)) ∈ lw_all := lw_g (lw_at lw_m5 16 rfl) rfl
theorem q1045 : (Jvm.Cond.instanceMethod ({ cls := "DairyBook", name := "dry", desc := "(I)I" } : Jvm.MethodName)) ∈ lw_all := lw_g (lw_at lw_m5 24 rfl) rfl
theorem q1046 : (Jvm.Cond.selects "DairyBook" ({ cls := "DairyBook", name := "dry", desc := "(I)I" } : Jvm.MethodName) ({ cls := "DairyBook", name := "dry", desc := "(I)I" } : Jvm.MethodName)) ∈ lw_all := lw_g (lw_at lw_m5 25 rfl) rfl
theorem q1047 : (Jvm.Cond.code ({ cls := "DairyBook", name := "dry", desc := "(I)I" } : Jvm.MethodName) prog_1_method_20_code (2 : Nat) (Option.some Jvm.ClassFile.FieldType.int)) ∈ lw_all := lw_g (lw_at lw_m5 26 rfl) rfl
theorem q1048 : (Jvm.Cond.methodLink "DairyBook" (176 : Nat) ({ cls := "DairyBook$Herd", name := "refusesDry", desc := "(I)I" } : Jvm.MethodName)) ∈ lw_all := lw_g (lw_at lw_m5 27 rfl) rfl
theorem q1052 : (Jvm.Cond.methodLink "DairyBook" (179 : Nat) ({ cls := "DairyBook$Herd", name := "dry", desc := "(I)I" } : Jvm.MethodName)) ∈ lw_all := lw_g (lw_at lw_m5 31 rfl) rfl
theorem q1060 : (Jvm.Cond.instanceMethod ({ cls := "DairyBook", name := "sell", desc := "(I)I" } : Jvm.MethodName)) ∈ lw_all := lw_g (lw_at lw_m5 39 rfl) rfl
theorem q1061 : (Jvm.Cond.selects "DairyBook" ({ cls := "DairyBook", name := "sell", desc := "(I)I" } : Jvm.MethodName) ({ cls := "DairyBook", name := "sell", desc := "(I)I" } : Jvm.MethodName)) ∈ lw_all := lw_g (lw_at lw_m5 40 rfl) rfl
theorem q1062 : (Jvm.Cond.code ({ cls := "DairyBook", name := "sell", desc := "(I)I" } : Jvm.MethodName) prog_1_method_21_code (2 : Nat) (Option.some Jvm.ClassFile.FieldType.int)) ∈ lw_all := lw_g (lw_at lw_m5 41 rfl) rfl
theorem q1063 : (Jvm.Cond.methodLink "DairyBook" (186 : Nat) ({ cls := "DairyBook$Herd", name := "account", desc := "(I)I" } : Jvm.MethodName)) ∈ lw_all := lw_g (lw_at lw_m5 42 rfl) rfl
theorem q1099 : (Jvm.Cond.instanceMethod ({ cls := "DairyBook", name := "setBonus", desc := "(II)I" } : Jvm.MethodName)) ∈ lw_all := lw_g (lw_at lw_m5 78 rfl) rfl
theorem q1100 : (Jvm.Cond.selects "DairyBook" ({ cls := "DairyBook", name := "setBonus", desc := "(II)I" } : Jvm.MethodName) ({ cls := "DairyBook", name := "setBonus", desc := "(II)I" } : Jvm.MethodName)) ∈ lw_all := lw_g (lw_at lw_m5 79 rfl) rfl
theorem q1101 : (Jvm.Cond.code ({ cls := "DairyBook", name := "setBonus", desc := "(II)I" } : Jvm.MethodName) prog_1_method_22_code (3 : Nat) (Option.some Jvm.ClassFile.FieldType.int)) ∈ lw_all := lw_g (lw_at lw_m5 80 rfl) rfl
theorem q1102 : (Jvm.Cond.methodLink "DairyBook" (189 : Nat) ({ cls := "DairyBook$Herd", name := "refusesBonus", desc := "(II)I" } : Jvm.MethodName)) ∈ lw_all := lw_g (lw_at lw_m5 81 rfl) rfl
theorem q1111 : (Jvm.Cond.methodLink "DairyBook" (192 : Nat) ({ cls := "DairyBook$Herd", name := "setBonus", desc := "(II)V" } : Jvm.MethodName)) ∈ lw_all := lw_g (lw_at lw_m5 90 rfl) rfl
theorem q1122 : (Jvm.Cond.fieldLinkNest "DairyBook" (204 : Nat) "DairyBook$Row" "limit" "I" "DairyBook") ∈ lw_tbl := lw_at lw_m5 101 rfl
theorem q1125 : (Jvm.Cond.fieldLinkNest "DairyBook" (201 : Nat) "DairyBook$Row" "bonus" "I" "DairyBook") ∈ lw_tbl := lw_at lw_m5 104 rfl
theorem q1160 : (Jvm.Cond.instanceMethod ({ cls := "DairyBook", name := "bonus", desc := "(IZ)I" } : Jvm.MethodName)) ∈ lw_all := lw_g (lw_at lw_m5 139 rfl) rfl
theorem q1161 : (Jvm.Cond.selects "DairyBook" ({ cls := "DairyBook", name := "bonus", desc := "(IZ)I" } : Jvm.MethodName) ({ cls := "DairyBook", name := "bonus", desc := "(IZ)I" } : Jvm.MethodName)) ∈ lw_all := lw_g (lw_at lw_m5 140 rfl) rfl
theorem q1162 : (Jvm.Cond.code ({ cls := "DairyBook", name := "bonus", desc := "(IZ)I" } : Jvm.MethodName) prog_1_method_23_code (4 : Nat) (Option.some Jvm.ClassFile.FieldType.int)) ∈ lw_all := lw_g (lw_at lw_m5 141 rfl) rfl
theorem q1163 : (Jvm.Cond.classLink "DairyBook" (199 : Nat) "DairyBook$Row") ∈ lw_all := lw_g (lw_at lw_m5 142 rfl) rfl
theorem q1169 : (Jvm.Cond.instanceMethod ({ cls := "DairyBook", name := "refusal", desc := "()I" } : Jvm.MethodName)) ∈ lw_all := lw_g (lw_at lw_m5 148 rfl) rfl
theorem q1170 : (Jvm.Cond.selects "DairyBook" ({ cls := "DairyBook", name := "refusal", desc := "()I" } : Jvm.MethodName) ({ cls := "DairyBook", name := "refusal", desc := "()I" } : Jvm.MethodName)) ∈ lw_all := lw_g (lw_at lw_m5 149 rfl) rfl
theorem q1171 : (Jvm.Cond.code ({ cls := "DairyBook", name := "refusal", desc := "()I" } : Jvm.MethodName) prog_1_method_24_code (1 : Nat) (Option.some Jvm.ClassFile.FieldType.int)) ∈ lw_all := lw_g (lw_at lw_m5 150 rfl) rfl
theorem q1172 : (Jvm.Cond.methodLink "DairyBook" (207 : Nat) ({ cls := "DairyBook", name := "checkElement", desc := "(Z)V" } : Jvm.MethodName)) ∈ lw_all := lw_g (lw_at lw_m5 151 rfl) rfl
theorem q1173 : (Jvm.Cond.static ({ cls := "DairyBook", name := "checkElement", desc := "(Z)V" } : Jvm.MethodName)) ∈ lw_all := lw_g (lw_at lw_m5 152 rfl) rfl
theorem q1174 : (Jvm.Cond.code ({ cls := "DairyBook", name := "checkElement", desc := "(Z)V" } : Jvm.MethodName) prog_1_method_5_code (1 : Nat) (Option.none : Option Jvm.ClassFile.FieldType)) ∈ lw_all := lw_g (lw_at lw_m5 153 rfl) rfl
theorem q1175 : (Jvm.Cond.classLink "DairyBook" (52 : Nat) "java/util/NoSuchElementException") ∈ lw_all := lw_g (lw_at lw_m5 154 rfl) rfl
theorem q1176 : (Jvm.Cond.methodLink "DairyBook" (54 : Nat) ({ cls := "java/util/NoSuchElementException", name := "<init>", desc := "()V" } : Jvm.MethodName)) ∈ lw_all := lw_g (lw_at lw_m5 155 rfl) rfl
theorem q1181 : (Jvm.Cond.instanceMethod ({ cls := "DairyBook", name := "pass", desc := "(I)I" } : Jvm.MethodName)) ∈ lw_all := lw_g (lw_at lw_m5 160 rfl) rfl
theorem q1182 : (Jvm.Cond.selects "DairyBook" ({ cls := "DairyBook", name := "pass", desc := "(I)I" } : Jvm.MethodName) ({ cls := "DairyBook", name := "pass", desc := "(I)I" } : Jvm.MethodName)) ∈ lw_all := lw_g (lw_at lw_m5 161 rfl) rfl
theorem q1183 : (Jvm.Cond.code ({ cls := "DairyBook", name := "pass", desc := "(I)I" } : Jvm.MethodName) prog_1_method_26_code (2 : Nat) (Option.some Jvm.ClassFile.FieldType.int)) ∈ lw_all := lw_g (lw_at lw_m5 162 rfl) rfl
theorem q1184 : (Jvm.Cond.methodLink "DairyBook" (210 : Nat) ({ cls := "DairyBook", name := "canPass", desc := "(I)Z" } : Jvm.MethodName)) ∈ lw_all := lw_g (lw_at lw_m5 163 rfl) rfl
theorem q1185 : (Jvm.Cond.privateMethod ({ cls := "DairyBook", name := "canPass", desc := "(I)Z" } : Jvm.MethodName)) ∈ lw_tbl := lw_at lw_m5 164 rfl
theorem q1186 : (Jvm.Cond.instanceMethod ({ cls := "DairyBook", name := "canPass", desc := "(I)Z" } : Jvm.MethodName)) ∈ lw_all := lw_g (lw_at lw_m5 165 rfl) rfl
theorem q1187 : (Jvm.Cond.code ({ cls := "DairyBook", name := "canPass", desc := "(I)Z" } : Jvm.MethodName) prog_1_method_25_code (2 : Nat) (Option.some Jvm.ClassFile.FieldType.boolean)) ∈ lw_all := lw_g (lw_at lw_m5 166 rfl) rfl
theorem q1188 : (Jvm.Cond.methodLink "DairyBook" (214 : Nat) ({ cls := "DairyBook$Herd", name := "pass", desc := "(I)I" } : Jvm.MethodName)) ∈ lw_all := lw_g (lw_at lw_m5 167 rfl) rfl
theorem q1246 : (Jvm.Cond.fieldLinkNest "DairyBook" (264 : Nat) "DairyBook$Pickup" "litres" "I" "DairyBook") ∈ lw_tbl := lw_at lw_m5 225 rfl
theorem q1249 : (Jvm.Cond.fieldLinkNest "DairyBook" (265 : Nat) "DairyBook$Pickup" "cells" "I" "DairyBook") ∈ lw_tbl := lw_at lw_m5 228 rfl
theorem q1291 : (Jvm.Cond.instanceMethod ({ cls := "DairyBook", name := "cow", desc := "(II)I" } : Jvm.MethodName)) ∈ lw_all := lw_g (lw_at lw_m6 30 rfl) rfl
theorem q1292 : (Jvm.Cond.selects "DairyBook" ({ cls := "DairyBook", name := "cow", desc := "(II)I" } : Jvm.MethodName) ({ cls := "DairyBook", name := "cow", desc := "(II)I" } : Jvm.MethodName)) ∈ lw_all := lw_g (lw_at lw_m6 31 rfl) rfl
theorem q1293 : (Jvm.Cond.code ({ cls := "DairyBook", name := "cow", desc := "(II)I" } : Jvm.MethodName) prog_1_method_28_code (4 : Nat) (Option.some Jvm.ClassFile.FieldType.int)) ∈ lw_all := lw_g (lw_at lw_m6 32 rfl) rfl
theorem q1294 : (Jvm.Cond.methodLink "DairyBook" (217 : Nat) ({ cls := "DairyBook", name := "cowAt", desc := "(I)LDairyBook$Cow;" } : Jvm.MethodName)) ∈ lw_all := lw_g (lw_at lw_m6 33 rfl) rfl
theorem q1295 : (Jvm.Cond.privateMethod ({ cls := "DairyBook", name := "cowAt", desc := "(I)LDairyBook$Cow;" } : Jvm.MethodName)) ∈ lw_tbl := lw_at lw_m6 34 rfl
theorem q1296 : (Jvm.Cond.instanceMethod ({ cls := "DairyBook", name := "cowAt", desc := "(I)LDairyBook$Cow;" } : Jvm.MethodName)) ∈ lw_all := lw_g (lw_at lw_m6 35 rfl) rfl
theorem q1297 : (Jvm.Cond.code ({ cls := "DairyBook", name := "cowAt", desc := "(I)LDairyBook$Cow;" } : Jvm.MethodName) prog_1_method_8_code (2 : Nat) (Option.some (Jvm.ClassFile.FieldType.object "DairyBook$Cow"))) ∈ lw_all := lw_g (lw_at lw_m6 36 rfl) rfl
theorem q1298 : (Jvm.Cond.methodLink "DairyBook" (221 : Nat) ({ cls := "DairyBook$Cow", name := "told", desc := "(II)I" } : Jvm.MethodName)) ∈ lw_all := lw_g (lw_at lw_m6 37 rfl) rfl
theorem q1313 : (Jvm.Cond.instanceMethod ({ cls := "DairyBook", name := "curve", desc := "(II)I" } : Jvm.MethodName)) ∈ lw_all := lw_g (lw_at lw_m6 52 rfl) rfl
theorem q1314 : (Jvm.Cond.selects "DairyBook" ({ cls := "DairyBook", name := "curve", desc := "(II)I" } : Jvm.MethodName) ({ cls := "DairyBook", name := "curve", desc := "(II)I" } : Jvm.MethodName)) ∈ lw_all := lw_g (lw_at lw_m6 53 rfl) rfl
theorem q1315 : (Jvm.Cond.code ({ cls := "DairyBook", name := "curve", desc := "(II)I" } : Jvm.MethodName) prog_1_method_29_code (4 : Nat) (Option.some Jvm.ClassFile.FieldType.int)) ∈ lw_all := lw_g (lw_at lw_m6 54 rfl) rfl
theorem q1316 : (Jvm.Cond.methodLink "DairyBook" (224 : Nat) ({ cls := "DairyBook$Cow", name := "curve", desc := "(I)I" } : Jvm.MethodName)) ∈ lw_all := lw_g (lw_at lw_m6 55 rfl) rfl
theorem q1321 : (Jvm.Cond.instanceMethod ({ cls := "DairyBook", name := "dryDay", desc := "(I)I" } : Jvm.MethodName)) ∈ lw_all := lw_g (lw_at lw_m6 60 rfl) rfl
theorem q1322 : (Jvm.Cond.selects "DairyBook" ({ cls := "DairyBook", name := "dryDay", desc := "(I)I" } : Jvm.MethodName) ({ cls := "DairyBook", name := "dryDay", desc := "(I)I" } : Jvm.MethodName)) ∈ lw_all := lw_g (lw_at lw_m6 61 rfl) rfl
theorem q1323 : (Jvm.Cond.code ({ cls := "DairyBook", name := "dryDay", desc := "(I)I" } : Jvm.MethodName) prog_1_method_30_code (3 : Nat) (Option.some Jvm.ClassFile.FieldType.int)) ∈ lw_all := lw_g (lw_at lw_m6 62 rfl) rfl
theorem q1324 : (Jvm.Cond.methodLink "DairyBook" (227 : Nat) ({ cls := "DairyBook$Cow", name := "isMilked", desc := "()Z" } : Jvm.MethodName)) ∈ lw_all := lw_g (lw_at lw_m6 63 rfl) rfl
theorem q1325 : (Jvm.Cond.methodLink "DairyBook" (231 : Nat) ({ cls := "DairyBook$Cow", name := "isCarrying", desc := "()Z" } : Jvm.MethodName)) ∈ lw_all := lw_g (lw_at lw_m6 64 rfl) rfl
theorem q1326 : (Jvm.Cond.methodLink "DairyBook" (237 : Nat) ({ cls := "java/lang/Math", name := "max", desc := "(II)I" } : Jvm.MethodName)) ∈ lw_all := lw_g (lw_at lw_m6 65 rfl) rfl
theorem q1331 : (Jvm.Cond.instanceMethod ({ cls := "DairyBook", name := "forecast", desc := "(I)I" } : Jvm.MethodName)) ∈ lw_all := lw_g (lw_at lw_m6 70 rfl) rfl
theorem q1332 : (Jvm.Cond.selects "DairyBook" ({ cls := "DairyBook", name := "forecast", desc := "(I)I" } : Jvm.MethodName) ({ cls := "DairyBook", name := "forecast", desc := "(I)I" } : Jvm.MethodName)) ∈ lw_all := lw_g (lw_at lw_m6 71 rfl) rfl
theorem q1333 : (Jvm.Cond.code ({ cls := "DairyBook", name := "forecast", desc := "(I)I" } : Jvm.MethodName) prog_1_method_31_code (2 : Nat) (Option.some Jvm.ClassFile.FieldType.int)) ∈ lw_all := lw_g (lw_at lw_m6 72 rfl) rfl
theorem q1338 : (Jvm.Cond.instanceMethod ({ cls := "DairyBook", name := "tank", desc := "(I)I" } : Jvm.MethodName)) ∈ lw_all := lw_g (lw_at lw_m6 77 rfl) rfl
theorem q1339 : (Jvm.Cond.selects "DairyBook" ({ cls := "DairyBook", name := "tank", desc := "(I)I" } : Jvm.MethodName) ({ cls := "DairyBook", name := "tank", desc := "(I)I" } : Jvm.MethodName)) ∈ lw_all := lw_g (lw_at lw_m6 78 rfl) rfl
theorem q1340 : (Jvm.Cond.code ({ cls := "DairyBook", name := "tank", desc := "(I)I" } : Jvm.MethodName) prog_1_method_32_code (2 : Nat) (Option.some Jvm.ClassFile.FieldType.int)) ∈ lw_all := lw_g (lw_at lw_m6 79 rfl) rfl
theorem q1341 : (Jvm.Cond.methodLink "DairyBook" (252 : Nat) ({ cls := "DairyBook$Tank", name := "count", desc := "()I" } : Jvm.MethodName)) ∈ lw_all := lw_g (lw_at lw_m6 80 rfl) rfl
theorem q1345 : (Jvm.Cond.methodLink "DairyBook" (255 : Nat) ({ cls := "DairyBook$Tank", name := "room", desc := "(I)I" } : Jvm.MethodName)) ∈ lw_all := lw_g (lw_at lw_m6 84 rfl) rfl
theorem q1350 : (Jvm.Cond.instanceMethod ({ cls := "DairyBook", name := "pickup", desc := "(II)I" } : Jvm.MethodName)) ∈ lw_all := lw_g (lw_at lw_m6 89 rfl) rfl
theorem q1351 : (Jvm.Cond.selects "DairyBook" ({ cls := "DairyBook", name := "pickup", desc := "(II)I" } : Jvm.MethodName) ({ cls := "DairyBook", name := "pickup", desc := "(II)I" } : Jvm.MethodName)) ∈ lw_all := lw_g (lw_at lw_m6 90 rfl) rfl
theorem q1352 : (Jvm.Cond.code ({ cls := "DairyBook", name := "pickup", desc := "(II)I" } : Jvm.MethodName) prog_1_method_33_code (4 : Nat) (Option.some Jvm.ClassFile.FieldType.int)) ∈ lw_all := lw_g (lw_at lw_m6 91 rfl) rfl
theorem q1353 : (Jvm.Cond.methodLink "DairyBook" (258 : Nat) ({ cls := "DairyBook", name := "pickupAt", desc := "(I)LDairyBook$Pickup;" } : Jvm.MethodName)) ∈ lw_all := lw_g (lw_at lw_m6 92 rfl) rfl
theorem q1354 : (Jvm.Cond.privateMethod ({ cls := "DairyBook", name := "pickupAt", desc := "(I)LDairyBook$Pickup;" } : Jvm.MethodName)) ∈ lw_tbl := lw_at lw_m6 93 rfl
theorem q1355 : (Jvm.Cond.instanceMethod ({ cls := "DairyBook", name := "pickupAt", desc := "(I)LDairyBook$Pickup;" } : Jvm.MethodName)) ∈ lw_all := lw_g (lw_at lw_m6 94 rfl) rfl
theorem q1356 : (Jvm.Cond.code ({ cls := "DairyBook", name := "pickupAt", desc := "(I)LDairyBook$Pickup;" } : Jvm.MethodName) prog_1_method_9_code (2 : Nat) (Option.some (Jvm.ClassFile.FieldType.object "DairyBook$Pickup"))) ∈ lw_all := lw_g (lw_at lw_m6 95 rfl) rfl
theorem q1357 : (Jvm.Cond.classLink "DairyBook" (91 : Nat) "DairyBook$Pickup") ∈ lw_all := lw_g (lw_at lw_m6 96 rfl) rfl
theorem q1358 : (Jvm.Cond.methodLink "DairyBook" (262 : Nat) ({ cls := "DairyBook$Pickup", name := "told", desc := "(I)I" } : Jvm.MethodName)) ∈ lw_all := lw_g (lw_at lw_m6 97 rfl) rfl
theorem q1370 : (Jvm.Cond.instanceMethod ({ cls := "DairyBook", name := "mean", desc := "(II)D" } : Jvm.MethodName)) ∈ lw_all := lw_g (lw_at lw_m6 109 rfl) rfl
theorem q1371 : (Jvm.Cond.selects "DairyBook" ({ cls := "DairyBook", name := "mean", desc := "(II)D" } : Jvm.MethodName) ({ cls := "DairyBook", name := "mean", desc := "(II)D" } : Jvm.MethodName)) ∈ lw_all := lw_g (lw_at lw_m6 110 rfl) rfl
theorem q1372 : (Jvm.Cond.code ({ cls := "DairyBook", name := "mean", desc := "(II)D" } : Jvm.MethodName) prog_1_method_34_code (6 : Nat) (Option.some Jvm.ClassFile.FieldType.double)) ∈ lw_all := lw_g (lw_at lw_m6 111 rfl) rfl
theorem q1377 : (Jvm.Cond.instanceMethod ({ cls := "DairyBook", name := "greatest", desc := "(I)I" } : Jvm.MethodName)) ∈ lw_all := lw_g (lw_at lw_m6 116 rfl) rfl
theorem q1378 : (Jvm.Cond.selects "DairyBook" ({ cls := "DairyBook", name := "greatest", desc := "(I)I" } : Jvm.MethodName) ({ cls := "DairyBook", name := "greatest", desc := "(I)I" } : Jvm.MethodName)) ∈ lw_all := lw_g (lw_at lw_m6 117 rfl) rfl
theorem q1379 : (Jvm.Cond.code ({ cls := "DairyBook", name := "greatest", desc := "(I)I" } : Jvm.MethodName) prog_1_method_35_code (4 : Nat) (Option.some Jvm.ClassFile.FieldType.int)) ∈ lw_all := lw_g (lw_at lw_m6 118 rfl) rfl
theorem q1380 : (Jvm.Cond.methodLink "DairyBook" (266 : Nat) ({ cls := "java/util/ArrayList", name := "isEmpty", desc := "()Z" } : Jvm.MethodName)) ∈ lw_all := lw_g (lw_at lw_m6 119 rfl) rfl
theorem q1388 : (Jvm.Cond.instanceMethod ({ cls := "DairyBook", name := "writePickup", desc := "(I)I" } : Jvm.MethodName)) ∈ lw_all := lw_g (lw_at lw_m6 127 rfl) rfl
theorem q1389 : (Jvm.Cond.selects "DairyBook" ({ cls := "DairyBook", name := "writePickup", desc := "(I)I" } : Jvm.MethodName) ({ cls := "DairyBook", name := "writePickup", desc := "(I)I" } : Jvm.MethodName)) ∈ lw_all := lw_g (lw_at lw_m6 128 rfl) rfl
theorem q1390 : (Jvm.Cond.code ({ cls := "DairyBook", name := "writePickup", desc := "(I)I" } : Jvm.MethodName) prog_1_method_36_code (2 : Nat) (Option.some Jvm.ClassFile.FieldType.int)) ∈ lw_all := lw_g (lw_at lw_m6 129 rfl) rfl
theorem q1391 : (Jvm.Cond.methodLink "DairyBook" (269 : Nat) ({ cls := "DairyBook", name := "write", desc := "(LDairyBook$Stated;)I" } : Jvm.MethodName)) ∈ lw_all := lw_g (lw_at lw_m6 130 rfl) rfl
theorem q1392 : (Jvm.Cond.privateMethod ({ cls := "DairyBook", name := "write", desc := "(LDairyBook$Stated;)I" } : Jvm.MethodName)) ∈ lw_tbl := lw_at lw_m6 131 rfl
theorem q1393 : (Jvm.Cond.instanceMethod ({ cls := "DairyBook", name := "write", desc := "(LDairyBook$Stated;)I" } : Jvm.MethodName)) ∈ lw_all := lw_g (lw_at lw_m6 132 rfl) rfl
theorem q1394 : (Jvm.Cond.code ({ cls := "DairyBook", name := "write", desc := "(LDairyBook$Stated;)I" } : Jvm.MethodName) prog_1_method_11_code (2 : Nat) (Option.some Jvm.ClassFile.FieldType.int)) ∈ lw_all := lw_g (lw_at lw_m6 133 rfl) rfl
theorem q1395 : (Jvm.Cond.methodLink "DairyBook" (109 : Nat) ({ cls := "DairyBook$Stated", name := "of", desc := "(LDairyBook$Stated;I)Ljava/lang/String;" } : Jvm.MethodName)) ∈ lw_all := lw_g (lw_at lw_m6 134 rfl) rfl
theorem q1465 : (Jvm.Cond.methodLink "DairyBook" (115 : Nat) ({ cls := "java/lang/String", name := "length", desc := "()I" } : Jvm.MethodName)) ∈ lw_all := lw_g (lw_at lw_m6 204 rfl) rfl
theorem q1470 : (Jvm.Cond.instanceMethod ({ cls := "DairyBook", name := "writeCow", desc := "(I)I" } : Jvm.MethodName)) ∈ lw_all := lw_g (lw_at lw_m6 209 rfl) rfl
theorem q1471 : (Jvm.Cond.selects "DairyBook" ({ cls := "DairyBook", name := "writeCow", desc := "(I)I" } : Jvm.MethodName) ({ cls := "DairyBook", name := "writeCow", desc := "(I)I" } : Jvm.MethodName)) ∈ lw_all := lw_g (lw_at lw_m6 210 rfl) rfl
theorem q1472 : (Jvm.Cond.code ({ cls := "DairyBook", name := "writeCow", desc := "(I)I" } : Jvm.MethodName) prog_1_method_37_code (2 : Nat) (Option.some Jvm.ClassFile.FieldType.int)) ∈ lw_all := lw_g (lw_at lw_m6 211 rfl) rfl
theorem q1477 : (Jvm.Cond.instanceMethod ({ cls := "DairyBook", name := "written", desc := "(I)C" } : Jvm.MethodName)) ∈ lw_all := lw_g (lw_at lw_m6 216 rfl) rfl
theorem q1478 : (Jvm.Cond.selects "DairyBook" ({ cls := "DairyBook", name := "written", desc := "(I)C" } : Jvm.MethodName) ({ cls := "DairyBook", name := "written", desc := "(I)C" } : Jvm.MethodName)) ∈ lw_all := lw_g (lw_at lw_m6 217 rfl) rfl
theorem q1479 : (Jvm.Cond.code ({ cls := "DairyBook", name := "written", desc := "(I)C" } : Jvm.MethodName) prog_1_method_38_code (2 : Nat) (Option.some Jvm.ClassFile.FieldType.char)) ∈ lw_all := lw_g (lw_at lw_m6 218 rfl) rfl
theorem q1480 : (Jvm.Cond.methodLink "DairyBook" (273 : Nat) ({ cls := "java/lang/String", name := "charAt", desc := "(I)C" } : Jvm.MethodName)) ∈ lw_all := lw_g (lw_at lw_m6 219 rfl) rfl
theorem q1506 : (Jvm.Cond.instanceMethod ({ cls := "DairyBook", name := "append", desc := "(C)V" } : Jvm.MethodName)) ∈ lw_all := lw_g (lw_at lw_m7 5 rfl) rfl
theorem q1507 : (Jvm.Cond.selects "DairyBook" ({ cls := "DairyBook", name := "append", desc := "(C)V" } : Jvm.MethodName) ({ cls := "DairyBook", name := "append", desc := "(C)V" } : Jvm.MethodName)) ∈ lw_all := lw_g (lw_at lw_m7 6 rfl) rfl
theorem q1508 : (Jvm.Cond.code ({ cls := "DairyBook", name := "append", desc := "(C)V" } : Jvm.MethodName) prog_1_method_39_code (2 : Nat) (Option.none : Option Jvm.ClassFile.FieldType)) ∈ lw_all := lw_g (lw_at lw_m7 7 rfl) rfl
theorem q1509 : (Jvm.Cond.methodLink "DairyBook" (277 : Nat) ({ cls := "java/lang/StringBuilder", name := "length", desc := "()I" } : Jvm.MethodName)) ∈ lw_all := lw_g (lw_at lw_m7 8 rfl) rfl
theorem q1510 : (Jvm.Cond.methodLink "DairyBook" (278 : Nat) ({ cls := "java/lang/StringBuilder", name := "append", desc := "(C)Ljava/lang/StringBuilder;" } : Jvm.MethodName)) ∈ lw_all := lw_g (lw_at lw_m7 9 rfl) rfl
theorem q1527 : (Jvm.Cond.instanceMethod ({ cls := "DairyBook", name := "order", desc := "()I" } : Jvm.MethodName)) ∈ lw_all := lw_g (lw_at lw_m7 26 rfl) rfl
theorem q1528 : (Jvm.Cond.selects "DairyBook" ({ cls := "DairyBook", name := "order", desc := "()I" } : Jvm.MethodName) ({ cls := "DairyBook", name := "order", desc := "()I" } : Jvm.MethodName)) ∈ lw_all := lw_g (lw_at lw_m7 27 rfl) rfl
theorem q1529 : (Jvm.Cond.codeWith ({ cls := "DairyBook", name := "order", desc := "()I" } : Jvm.MethodName) prog_1_method_40_code (5 : Nat) (Option.some Jvm.ClassFile.FieldType.int) [((39 : Nat), (44 : Nat), (47 : Nat), (296 : Nat))]) ∈ lw_all := lw_g (lw_at lw_m7 28 rfl) rfl
theorem q1530 : (Jvm.Cond.classLink "DairyBook" (296 : Nat) "DairyBook$Fault") ∈ lw_all := lw_g (lw_at lw_m7 29 rfl) rfl
theorem q1531 : (Jvm.Cond.classLink "DairyBook" (282 : Nat) "DairyBook$Reader") ∈ lw_all := lw_g (lw_at lw_m7 30 rfl) rfl
theorem q1533 : (Jvm.Cond.methodLink "DairyBook" (284 : Nat) ({ cls := "java/lang/StringBuilder", name := "toString", desc := "()Ljava/lang/String;" } : Jvm.MethodName)) ∈ lw_all := lw_g (lw_at lw_m7 32 rfl) rfl
theorem q1534 : (Jvm.Cond.methodLink "DairyBook" (288 : Nat) ({ cls := "DairyBook$Reader", name := "<init>", desc := "(Ljava/lang/String;)V" } : Jvm.MethodName)) ∈ lw_all := lw_g (lw_at lw_m7 33 rfl) rfl
theorem q1545 : (Jvm.Cond.classLink "DairyBook" (69 : Nat) "java/util/ArrayList") ∈ lw_all := lw_g (lw_at lw_m7 44 rfl) rfl
theorem q1546 : (Jvm.Cond.methodLink "DairyBook" (291 : Nat) ({ cls := "java/util/ArrayList", name := "<init>", desc := "()V" } : Jvm.MethodName)) ∈ lw_all := lw_g (lw_at lw_m7 45 rfl) rfl
theorem q1547 : (Jvm.Cond.methodLink "DairyBook" (292 : Nat) ({ cls := "DairyBook$Reader", name := "read", desc := "()Ljava/util/ArrayList;" } : Jvm.MethodName)) ∈ lw_all := lw_g (lw_at lw_m7 46 rfl) rfl
theorem q1660 : (Jvm.Cond.fieldLinkNest "DairyBook" (298 : Nat) "DairyBook$Fault" "position" "I" "DairyBook") ∈ lw_tbl := lw_at lw_m7 159 rfl
theorem q1694 : (Jvm.Cond.methodLink "DairyBook" (301 : Nat) ({ cls := "java/util/ArrayList", name := "iterator", desc := "()Ljava/util/Iterator;" } : Jvm.MethodName)) ∈ lw_all := lw_g (lw_at lw_m7 193 rfl) rfl
theorem q1695 : (Jvm.Cond.interfaceEntry "DairyBook" (305 : Nat)) ∈ lw_tbl := lw_at lw_m7 194 rfl
theorem q1696 : (Jvm.Cond.methodLink "DairyBook" (305 : Nat) ({ cls := "java/util/Iterator", name := "hasNext", desc := "()Z" } : Jvm.MethodName)) ∈ lw_all := lw_g (lw_at lw_m7 195 rfl) rfl
theorem q1697 : (Jvm.Cond.interfaceEntry "DairyBook" (310 : Nat)) ∈ lw_tbl := lw_at lw_m7 196 rfl
theorem q1698 : (Jvm.Cond.methodLink "DairyBook" (310 : Nat) ({ cls := "java/util/Iterator", name := "next", desc := "()Ljava/lang/Object;" } : Jvm.MethodName)) ∈ lw_all := lw_g (lw_at lw_m7 197 rfl) rfl
theorem q1699 : (Jvm.Cond.classLink "DairyBook" (313 : Nat) "DairyBook$Command") ∈ lw_all := lw_g (lw_at lw_m7 198 rfl) rfl
theorem q1700 : (Jvm.Cond.methodLink "DairyBook" (315 : Nat) ({ cls := "DairyBook$Command", name := "refuses", desc := "(LDairyBook$Herd;)I" } : Jvm.MethodName)) ∈ lw_all := lw_g (lw_at lw_m7 199 rfl) rfl
theorem q1715 : (Jvm.Cond.methodLink "DairyBook" (319 : Nat) ({ cls := "DairyBook$Command", name := "carryOut", desc := "(LDairyBook$Herd;)V" } : Jvm.MethodName)) ∈ lw_all := lw_g (lw_at lw_m7 214 rfl) rfl
theorem q1731 : (Jvm.Cond.instanceMethod ({ cls := "DairyBook", name := "account", desc := "(I)I" } : Jvm.MethodName)) ∈ lw_all := lw_g (lw_at lw_m7 230 rfl) rfl
theorem q1732 : (Jvm.Cond.selects "DairyBook" ({ cls := "DairyBook", name := "account", desc := "(I)I" } : Jvm.MethodName) ({ cls := "DairyBook", name := "account", desc := "(I)I" } : Jvm.MethodName)) ∈ lw_all := lw_g (lw_at lw_m7 231 rfl) rfl
theorem q1733 : (Jvm.Cond.code ({ cls := "DairyBook", name := "account", desc := "(I)I" } : Jvm.MethodName) prog_1_method_42_code (2 : Nat) (Option.some Jvm.ClassFile.FieldType.int)) ∈ lw_all := lw_g (lw_at lw_m7 232 rfl) rfl
theorem q1738 : (Jvm.Cond.instanceMethod ({ cls := "DairyBook", name := "bestCow", desc := "()I" } : Jvm.MethodName)) ∈ lw_all := lw_g (lw_at lw_m7 237 rfl) rfl
theorem q1739 : (Jvm.Cond.selects "DairyBook" ({ cls := "DairyBook", name := "bestCow", desc := "()I" } : Jvm.MethodName) ({ cls := "DairyBook", name := "bestCow", desc := "()I" } : Jvm.MethodName)) ∈ lw_all := lw_g (lw_at lw_m7 238 rfl) rfl
theorem q1740 : (Jvm.Cond.code ({ cls := "DairyBook", name := "bestCow", desc := "()I" } : Jvm.MethodName) prog_1_method_43_code (4 : Nat) (Option.some Jvm.ClassFile.FieldType.int)) ∈ lw_all := lw_g (lw_at lw_m7 239 rfl) rfl
theorem q1759 : (Jvm.Cond.instanceMethod ({ cls := "DairyBook", name := "share", desc := "()D" } : Jvm.MethodName)) ∈ lw_all := lw_g (lw_at lw_m8 18 rfl) rfl
theorem q1760 : (Jvm.Cond.selects "DairyBook" ({ cls := "DairyBook", name := "share", desc := "()D" } : Jvm.MethodName) ({ cls := "DairyBook", name := "share", desc := "()D" } : Jvm.MethodName)) ∈ lw_all := lw_g (lw_at lw_m8 19 rfl) rfl
theorem q1761 : (Jvm.Cond.code ({ cls := "DairyBook", name := "share", desc := "()D" } : Jvm.MethodName) prog_1_method_44_code (2 : Nat) (Option.some Jvm.ClassFile.FieldType.double)) ∈ lw_all := lw_g (lw_at lw_m8 20 rfl) rfl
theorem q1762 : (Jvm.Cond.classLink "DairyBook" (325 : Nat) "java/lang/ArithmeticException") ∈ lw_all := lw_g (lw_at lw_m8 21 rfl) rfl
theorem q1763 : (Jvm.Cond.methodLink "DairyBook" (327 : Nat) ({ cls := "java/lang/ArithmeticException", name := "<init>", desc := "()V" } : Jvm.MethodName)) ∈ lw_all := lw_g (lw_at lw_m8 22 rfl) rfl
theorem q1771 : (Jvm.Cond.instanceMethod ({ cls := "DairyBook", name := "undo", desc := "()I" } : Jvm.MethodName)) ∈ lw_all := lw_g (lw_at lw_m8 30 rfl) rfl
theorem q1772 : (Jvm.Cond.selects "DairyBook" ({ cls := "DairyBook", name := "undo", desc := "()I" } : Jvm.MethodName) ({ cls := "DairyBook", name := "undo", desc := "()I" } : Jvm.MethodName)) ∈ lw_all := lw_g (lw_at lw_m8 31 rfl) rfl
theorem q1773 : (Jvm.Cond.code ({ cls := "DairyBook", name := "undo", desc := "()I" } : Jvm.MethodName) prog_1_method_45_code (1 : Nat) (Option.some Jvm.ClassFile.FieldType.int)) ∈ lw_all := lw_g (lw_at lw_m8 32 rfl) rfl
theorem q1774 : (Jvm.Cond.methodLink "DairyBook" (328 : Nat) ({ cls := "java/util/ArrayDeque", name := "isEmpty", desc := "()Z" } : Jvm.MethodName)) ∈ lw_all := lw_g (lw_at lw_m8 33 rfl) rfl
theorem q1778 : (Jvm.Cond.methodLink "DairyBook" (329 : Nat) ({ cls := "java/util/ArrayDeque", name := "pollLast", desc := "()Ljava/lang/Object;" } : Jvm.MethodName)) ∈ lw_all := lw_g (lw_at lw_m8 37 rfl) rfl
theorem q1789 : (Jvm.Cond.instanceMethod ({ cls := "DairyBook", name := "restore", desc := "()V" } : Jvm.MethodName)) ∈ lw_all := lw_g (lw_at lw_m8 48 rfl) rfl
theorem q1790 : (Jvm.Cond.selects "DairyBook" ({ cls := "DairyBook", name := "restore", desc := "()V" } : Jvm.MethodName) ({ cls := "DairyBook", name := "restore", desc := "()V" } : Jvm.MethodName)) ∈ lw_all := lw_g (lw_at lw_m8 49 rfl) rfl
theorem q1791 : (Jvm.Cond.code ({ cls := "DairyBook", name := "restore", desc := "()V" } : Jvm.MethodName) prog_1_method_47_code (1 : Nat) (Option.none : Option Jvm.ClassFile.FieldType)) ∈ lw_all := lw_g (lw_at lw_m8 50 rfl) rfl
theorem q1792 : (Jvm.Cond.methodLink "DairyBook" (335 : Nat) ({ cls := "java/util/ArrayDeque", name := "clear", desc := "()V" } : Jvm.MethodName)) ∈ lw_all := lw_g (lw_at lw_m8 51 rfl) rfl
theorem q2224 : (Jvm.Cond.castable "DairyBook" "java/lang/Object") ∈ lw_tbl := lw_at lw_m10 3 rfl
theorem in_X1 : ∀ w ∈ wsX10, w ∈ lw_all := lw_in wsX10 [257, 259, 261, 263, 265, 267, 269, 271, 273] (by decide +kernel) (by decide +kernel)
/-! DairyBook$Herd -/
set_option maxRecDepth 100000
def RX2 : String := "DairyBook$Herd"
def TX2 : u_T := fun k => match k with
  | 0 => ("DairyBook$Herd", "cows", "Ljava/util/ArrayList;", true)
  | 1 => ("DairyBook$Herd", "rows", "Ljava/util/ArrayList;", true)
  | 2 => ("DairyBook$Herd", "pickups", "Ljava/util/ArrayList;", true)
  | 3 => ("DairyBook$Herd", "tank", "LDairyBook$Tank;", true)
  | 4 => ("DairyBook$Herd", "settings", "[I", true)
  | 5 => ("DairyBook$Herd", "today", "I", false)
  | 6 => ("DairyBook$Herd", "pickedUp", "I", false)
  | _ => ("DairyBook$Herd", "paid", "I", false)
def tyX2 : Nat → FieldType := fun k => match k with
  | 0 => .object "java/util/ArrayList"
  | 1 => .object "java/util/ArrayList"
  | 2 => .object "java/util/ArrayList"
  | 3 => .object "DairyBook$Tank"
  | 4 => .array .int
  | 5 => .int
  | 6 => .int
  | _ => .int
abbrev wsX20 : List Cond := u_ws RX2 TX2 8
theorem nmX2 : ∀ a, a < 8 → ∀ b, b < 8 → a ≠ b → (TX2 a).2.1 ≠ (TX2 b).2.1 := by decide +kernel
theorem tyX2_ok : ∀ k, k < 8 → parseFieldDescriptor (TX2 k).2.2.1 = some (tyX2 k) := by decide +kernel
abbrev cX2_init : ByteArray := prog_6_method_1_code
def yX2_init : MethodName := ⟨RX2, "<init>", "()V"⟩
def dkwX2_init_3 : List UInt8 := [17, 0, 200, 79, 89, 7, 6, 79, 89, 8, 16, 40, 79, 181, 0, 31, 177]
abbrev dktX2_init_3 : List UInt8 := dkwX2_init_3 ++ []
def dkwX2_init_2 : List UInt8 := [181, 0, 27, 42, 16, 6, 188, 10, 89, 3, 16, 60, 79, 89, 4, 16, 10, 79, 89, 5, 5, 79, 89, 6]
abbrev dktX2_init_2 : List UInt8 := dkwX2_init_2 ++ dktX2_init_3
def dkwX2_init_1 : List UInt8 := [181, 0, 18, 42, 187, 0, 9, 89, 183, 0, 11, 181, 0, 21, 42, 187, 0, 24, 89, 183, 0, 26]
abbrev dktX2_init_1 : List UInt8 := dkwX2_init_1 ++ dktX2_init_2
def dkwX2_init_0 : List UInt8 := [42, 183, 0, 3, 42, 187, 0, 9, 89, 183, 0, 11, 181, 0, 12, 42, 187, 0, 9, 89, 183, 0, 11]
abbrev dktX2_init_0 : List UInt8 := dkwX2_init_0 ++ dktX2_init_1
theorem dksX2_init_0 : cX2_init.data.toList.drop 0 = dktX2_init_0 := by decide +kernel
theorem dksX2_init_1 : cX2_init.data.toList.drop 23 = dktX2_init_1 := dk_seg dksX2_init_0 23 rfl rfl
theorem dksX2_init_2 : cX2_init.data.toList.drop 45 = dktX2_init_2 := dk_seg dksX2_init_1 22 rfl rfl
theorem dksX2_init_3 : cX2_init.data.toList.drop 69 = dktX2_init_3 := dk_seg dksX2_init_2 24 rfl rfl
theorem dX2_init_0 : decode cX2_init 0 = .ok (.aload_n 0, 1) := dk_42 (dk_at dksX2_init_0 0 rfl rfl)
theorem dX2_init_1 : decode cX2_init 1 = .ok (.invokespecial 3, 3) := dk_183 0 3 (dk_at dksX2_init_0 1 rfl rfl)
theorem dX2_init_4 : decode cX2_init 4 = .ok (.aload_n 0, 1) := dk_42 (dk_at dksX2_init_0 4 rfl rfl)
theorem dX2_init_5 : decode cX2_init 5 = .ok (.new 9, 3) := dk_187 0 9 (dk_at dksX2_init_0 5 rfl rfl)
theorem dX2_init_8 : decode cX2_init 8 = .ok (.dup, 1) := dk_89 (dk_at dksX2_init_0 8 rfl rfl)
theorem dX2_init_9 : decode cX2_init 9 = .ok (.invokespecial 11, 3) := dk_183 0 11 (dk_at dksX2_init_0 9 rfl rfl)
theorem dX2_init_12 : decode cX2_init 12 = .ok (.putfield 12, 3) := dk_181 0 12 (dk_at dksX2_init_0 12 rfl rfl)
theorem dX2_init_15 : decode cX2_init 15 = .ok (.aload_n 0, 1) := dk_42 (dk_at dksX2_init_0 15 rfl rfl)
theorem dX2_init_16 : decode cX2_init 16 = .ok (.new 9, 3) := dk_187 0 9 (dk_at dksX2_init_0 16 rfl rfl)
theorem dX2_init_19 : decode cX2_init 19 = .ok (.dup, 1) := dk_89 (dk_at dksX2_init_0 19 rfl rfl)
theorem dX2_init_20 : decode cX2_init 20 = .ok (.invokespecial 11, 3) := dk_183 0 11 (dk_at dksX2_init_0 20 rfl rfl)
theorem dX2_init_23 : decode cX2_init 23 = .ok (.putfield 18, 3) := dk_181 0 18 (dk_at dksX2_init_1 0 rfl rfl)
theorem dX2_init_26 : decode cX2_init 26 = .ok (.aload_n 0, 1) := dk_42 (dk_at dksX2_init_1 3 rfl rfl)
theorem dX2_init_27 : decode cX2_init 27 = .ok (.new 9, 3) := dk_187 0 9 (dk_at dksX2_init_1 4 rfl rfl)
theorem dX2_init_30 : decode cX2_init 30 = .ok (.dup, 1) := dk_89 (dk_at dksX2_init_1 7 rfl rfl)
theorem dX2_init_31 : decode cX2_init 31 = .ok (.invokespecial 11, 3) := dk_183 0 11 (dk_at dksX2_init_1 8 rfl rfl)
theorem dX2_init_34 : decode cX2_init 34 = .ok (.putfield 21, 3) := dk_181 0 21 (dk_at dksX2_init_1 11 rfl rfl)
theorem dX2_init_37 : decode cX2_init 37 = .ok (.aload_n 0, 1) := dk_42 (dk_at dksX2_init_1 14 rfl rfl)
theorem dX2_init_38 : decode cX2_init 38 = .ok (.new 24, 3) := dk_187 0 24 (dk_at dksX2_init_1 15 rfl rfl)
theorem dX2_init_41 : decode cX2_init 41 = .ok (.dup, 1) := dk_89 (dk_at dksX2_init_1 18 rfl rfl)
theorem dX2_init_42 : decode cX2_init 42 = .ok (.invokespecial 26, 3) := dk_183 0 26 (dk_at dksX2_init_1 19 rfl rfl)
theorem dX2_init_45 : decode cX2_init 45 = .ok (.putfield 27, 3) := dk_181 0 27 (dk_at dksX2_init_2 0 rfl rfl)
theorem dX2_init_48 : decode cX2_init 48 = .ok (.aload_n 0, 1) := dk_42 (dk_at dksX2_init_2 3 rfl rfl)
theorem dX2_init_49 : decode cX2_init 49 = .ok (.bipush 6, 2) := dk_16 6 (dk_at dksX2_init_2 4 rfl rfl)
theorem dX2_init_51 : decode cX2_init 51 = .ok (.newarray .int, 2) := dk_188_10 (dk_at dksX2_init_2 6 rfl rfl)
theorem dX2_init_53 : decode cX2_init 53 = .ok (.dup, 1) := dk_89 (dk_at dksX2_init_2 8 rfl rfl)
theorem dX2_init_54 : decode cX2_init 54 = .ok (.iconst 0, 1) := dk_3 (dk_at dksX2_init_2 9 rfl rfl)
theorem dX2_init_55 : decode cX2_init 55 = .ok (.bipush 60, 2) := dk_16 60 (dk_at dksX2_init_2 10 rfl rfl)
theorem dX2_init_57 : decode cX2_init 57 = .ok (.iastore, 1) := dk_79 (dk_at dksX2_init_2 12 rfl rfl)
theorem dX2_init_58 : decode cX2_init 58 = .ok (.dup, 1) := dk_89 (dk_at dksX2_init_2 13 rfl rfl)
theorem dX2_init_59 : decode cX2_init 59 = .ok (.iconst 1, 1) := dk_4 (dk_at dksX2_init_2 14 rfl rfl)
theorem dX2_init_60 : decode cX2_init 60 = .ok (.bipush 10, 2) := dk_16 10 (dk_at dksX2_init_2 15 rfl rfl)
theorem dX2_init_62 : decode cX2_init 62 = .ok (.iastore, 1) := dk_79 (dk_at dksX2_init_2 17 rfl rfl)
theorem dX2_init_63 : decode cX2_init 63 = .ok (.dup, 1) := dk_89 (dk_at dksX2_init_2 18 rfl rfl)
theorem dX2_init_64 : decode cX2_init 64 = .ok (.iconst 2, 1) := dk_5 (dk_at dksX2_init_2 19 rfl rfl)
theorem dX2_init_65 : decode cX2_init 65 = .ok (.iconst 2, 1) := dk_5 (dk_at dksX2_init_2 20 rfl rfl)
theorem dX2_init_66 : decode cX2_init 66 = .ok (.iastore, 1) := dk_79 (dk_at dksX2_init_2 21 rfl rfl)
theorem dX2_init_67 : decode cX2_init 67 = .ok (.dup, 1) := dk_89 (dk_at dksX2_init_2 22 rfl rfl)
theorem dX2_init_68 : decode cX2_init 68 = .ok (.iconst 3, 1) := dk_6 (dk_at dksX2_init_2 23 rfl rfl)
theorem dX2_init_69 : decode cX2_init 69 = .ok (.sipush 200, 3) := dk_17 0 200 (dk_at dksX2_init_3 0 rfl rfl)
theorem dX2_init_72 : decode cX2_init 72 = .ok (.iastore, 1) := dk_79 (dk_at dksX2_init_3 3 rfl rfl)
theorem dX2_init_73 : decode cX2_init 73 = .ok (.dup, 1) := dk_89 (dk_at dksX2_init_3 4 rfl rfl)
theorem dX2_init_74 : decode cX2_init 74 = .ok (.iconst 4, 1) := dk_7 (dk_at dksX2_init_3 5 rfl rfl)
theorem dX2_init_75 : decode cX2_init 75 = .ok (.iconst 3, 1) := dk_6 (dk_at dksX2_init_3 6 rfl rfl)
theorem dX2_init_76 : decode cX2_init 76 = .ok (.iastore, 1) := dk_79 (dk_at dksX2_init_3 7 rfl rfl)
theorem dX2_init_77 : decode cX2_init 77 = .ok (.dup, 1) := dk_89 (dk_at dksX2_init_3 8 rfl rfl)
theorem dX2_init_78 : decode cX2_init 78 = .ok (.iconst 5, 1) := dk_8 (dk_at dksX2_init_3 9 rfl rfl)
theorem dX2_init_79 : decode cX2_init 79 = .ok (.bipush 40, 2) := dk_16 40 (dk_at dksX2_init_3 10 rfl rfl)
theorem dX2_init_81 : decode cX2_init 81 = .ok (.iastore, 1) := dk_79 (dk_at dksX2_init_3 12 rfl rfl)
theorem dX2_init_82 : decode cX2_init 82 = .ok (.putfield 31, 3) := dk_181 0 31 (dk_at dksX2_init_3 13 rfl rfl)
theorem dX2_init_85 : decode cX2_init 85 = .ok (.return_, 1) := dk_177 (dk_at dksX2_init_3 16 rfl rfl)
abbrev cX2_take : ByteArray := prog_6_method_2_code
def yX2_take : MethodName := ⟨RX2, "take", "(LDairyBook$Herd;)V"⟩
def dkwX2_take_6 : List UInt8 := [181, 0, 82, 177]
abbrev dktX2_take_6 : List UInt8 := dkwX2_take_6 ++ []
def dkwX2_take_5 : List UInt8 := [184, 0, 69, 42, 43, 180, 0, 75, 181, 0, 75, 42, 43, 180, 0, 79, 181, 0, 79, 42, 43, 180, 0, 82]
abbrev dktX2_take_5 : List UInt8 := dkwX2_take_5 ++ dktX2_take_6
def dkwX2_take_4 : List UInt8 := [180, 0, 27, 43, 180, 0, 27, 182, 0, 65, 43, 180, 0, 31, 3, 42, 180, 0, 31, 3, 16, 6]
abbrev dktX2_take_4 : List UInt8 := dkwX2_take_4 ++ dktX2_take_5
def dkwX2_take_3 : List UInt8 := [182, 0, 61, 87, 42, 180, 0, 21, 182, 0, 35, 42, 180, 0, 21, 43, 180, 0, 21, 182, 0, 61, 87, 42]
abbrev dktX2_take_3 : List UInt8 := dkwX2_take_3 ++ dktX2_take_4
def dkwX2_take_2 : List UInt8 := [182, 0, 57, 87, 167, 255, 221, 42, 180, 0, 18, 182, 0, 35, 42, 180, 0, 18, 43, 180, 0, 18]
abbrev dktX2_take_2 : List UInt8 := dkwX2_take_2 ++ dktX2_take_3
def dkwX2_take_1 : List UInt8 := [44, 185, 0, 48, 1, 0, 192, 0, 52, 78, 42, 180, 0, 12, 187, 0, 52, 89, 45, 183, 0, 54]
abbrev dktX2_take_1 : List UInt8 := dkwX2_take_1 ++ dktX2_take_2
def dkwX2_take_0 : List UInt8 := [42, 180, 0, 12, 182, 0, 35, 43, 180, 0, 12, 182, 0, 38, 77, 44, 185, 0, 42, 1, 0, 153, 0, 32]
abbrev dktX2_take_0 : List UInt8 := dkwX2_take_0 ++ dktX2_take_1
theorem dksX2_take_0 : cX2_take.data.toList.drop 0 = dktX2_take_0 := by decide +kernel
theorem dksX2_take_1 : cX2_take.data.toList.drop 24 = dktX2_take_1 := dk_seg dksX2_take_0 24 rfl rfl
theorem dksX2_take_2 : cX2_take.data.toList.drop 46 = dktX2_take_2 := dk_seg dksX2_take_1 22 rfl rfl
theorem dksX2_take_3 : cX2_take.data.toList.drop 68 = dktX2_take_3 := dk_seg dksX2_take_2 22 rfl rfl
theorem dksX2_take_4 : cX2_take.data.toList.drop 92 = dktX2_take_4 := dk_seg dksX2_take_3 24 rfl rfl
theorem dksX2_take_5 : cX2_take.data.toList.drop 114 = dktX2_take_5 := dk_seg dksX2_take_4 22 rfl rfl
theorem dksX2_take_6 : cX2_take.data.toList.drop 138 = dktX2_take_6 := dk_seg dksX2_take_5 24 rfl rfl
theorem dX2_take_0 : decode cX2_take 0 = .ok (.aload_n 0, 1) := dk_42 (dk_at dksX2_take_0 0 rfl rfl)
theorem dX2_take_1 : decode cX2_take 1 = .ok (.getfield 12, 3) := dk_180 0 12 (dk_at dksX2_take_0 1 rfl rfl)
theorem dX2_take_4 : decode cX2_take 4 = .ok (.invokevirtual 35, 3) := dk_182 0 35 (dk_at dksX2_take_0 4 rfl rfl)
theorem dX2_take_7 : decode cX2_take 7 = .ok (.aload_n 1, 1) := dk_43 (dk_at dksX2_take_0 7 rfl rfl)
theorem dX2_take_8 : decode cX2_take 8 = .ok (.getfield 12, 3) := dk_180 0 12 (dk_at dksX2_take_0 8 rfl rfl)
theorem dX2_take_11 : decode cX2_take 11 = .ok (.invokevirtual 38, 3) := dk_182 0 38 (dk_at dksX2_take_0 11 rfl rfl)
theorem dX2_take_14 : decode cX2_take 14 = .ok (.astore_n 2, 1) := dk_77 (dk_at dksX2_take_0 14 rfl rfl)
theorem dX2_take_15 : decode cX2_take 15 = .ok (.aload_n 2, 1) := dk_44 (dk_at dksX2_take_0 15 rfl rfl)
theorem dX2_take_16 : decode cX2_take 16 = .ok (.invokeinterface 42 1, 5) := by decide +kernel
theorem dX2_take_21 : decode cX2_take 21 = .ok (.ifCond .eq 32, 3) := dk_153 0 32 (dk_at dksX2_take_0 21 rfl rfl)
theorem dX2_take_24 : decode cX2_take 24 = .ok (.aload_n 2, 1) := dk_44 (dk_at dksX2_take_1 0 rfl rfl)
theorem dX2_take_25 : decode cX2_take 25 = .ok (.invokeinterface 48 1, 5) := by decide +kernel
theorem dX2_take_30 : decode cX2_take 30 = .ok (.checkcast 52, 3) := dk_192 0 52 (dk_at dksX2_take_1 6 rfl rfl)
theorem dX2_take_33 : decode cX2_take 33 = .ok (.astore_n 3, 1) := dk_78 (dk_at dksX2_take_1 9 rfl rfl)
theorem dX2_take_34 : decode cX2_take 34 = .ok (.aload_n 0, 1) := dk_42 (dk_at dksX2_take_1 10 rfl rfl)
theorem dX2_take_35 : decode cX2_take 35 = .ok (.getfield 12, 3) := dk_180 0 12 (dk_at dksX2_take_1 11 rfl rfl)
theorem dX2_take_38 : decode cX2_take 38 = .ok (.new 52, 3) := dk_187 0 52 (dk_at dksX2_take_1 14 rfl rfl)
theorem dX2_take_41 : decode cX2_take 41 = .ok (.dup, 1) := dk_89 (dk_at dksX2_take_1 17 rfl rfl)
theorem dX2_take_42 : decode cX2_take 42 = .ok (.aload_n 3, 1) := dk_45 (dk_at dksX2_take_1 18 rfl rfl)
theorem dX2_take_43 : decode cX2_take 43 = .ok (.invokespecial 54, 3) := dk_183 0 54 (dk_at dksX2_take_1 19 rfl rfl)
theorem dX2_take_46 : decode cX2_take 46 = .ok (.invokevirtual 57, 3) := dk_182 0 57 (dk_at dksX2_take_2 0 rfl rfl)
theorem dX2_take_49 : decode cX2_take 49 = .ok (.pop, 1) := dk_87 (dk_at dksX2_take_2 3 rfl rfl)
theorem dX2_take_50 : decode cX2_take 50 = .ok (.goto (-35), 3) := dk_167 255 221 (dk_at dksX2_take_2 4 rfl rfl)
theorem dX2_take_53 : decode cX2_take 53 = .ok (.aload_n 0, 1) := dk_42 (dk_at dksX2_take_2 7 rfl rfl)
theorem dX2_take_54 : decode cX2_take 54 = .ok (.getfield 18, 3) := dk_180 0 18 (dk_at dksX2_take_2 8 rfl rfl)
theorem dX2_take_57 : decode cX2_take 57 = .ok (.invokevirtual 35, 3) := dk_182 0 35 (dk_at dksX2_take_2 11 rfl rfl)
theorem dX2_take_60 : decode cX2_take 60 = .ok (.aload_n 0, 1) := dk_42 (dk_at dksX2_take_2 14 rfl rfl)
theorem dX2_take_61 : decode cX2_take 61 = .ok (.getfield 18, 3) := dk_180 0 18 (dk_at dksX2_take_2 15 rfl rfl)
theorem dX2_take_64 : decode cX2_take 64 = .ok (.aload_n 1, 1) := dk_43 (dk_at dksX2_take_2 18 rfl rfl)
theorem dX2_take_65 : decode cX2_take 65 = .ok (.getfield 18, 3) := dk_180 0 18 (dk_at dksX2_take_2 19 rfl rfl)
theorem dX2_take_68 : decode cX2_take 68 = .ok (.invokevirtual 61, 3) := dk_182 0 61 (dk_at dksX2_take_3 0 rfl rfl)
theorem dX2_take_71 : decode cX2_take 71 = .ok (.pop, 1) := dk_87 (dk_at dksX2_take_3 3 rfl rfl)
theorem dX2_take_72 : decode cX2_take 72 = .ok (.aload_n 0, 1) := dk_42 (dk_at dksX2_take_3 4 rfl rfl)
theorem dX2_take_73 : decode cX2_take 73 = .ok (.getfield 21, 3) := dk_180 0 21 (dk_at dksX2_take_3 5 rfl rfl)
theorem dX2_take_76 : decode cX2_take 76 = .ok (.invokevirtual 35, 3) := dk_182 0 35 (dk_at dksX2_take_3 8 rfl rfl)
theorem dX2_take_79 : decode cX2_take 79 = .ok (.aload_n 0, 1) := dk_42 (dk_at dksX2_take_3 11 rfl rfl)
theorem dX2_take_80 : decode cX2_take 80 = .ok (.getfield 21, 3) := dk_180 0 21 (dk_at dksX2_take_3 12 rfl rfl)
theorem dX2_take_83 : decode cX2_take 83 = .ok (.aload_n 1, 1) := dk_43 (dk_at dksX2_take_3 15 rfl rfl)
theorem dX2_take_84 : decode cX2_take 84 = .ok (.getfield 21, 3) := dk_180 0 21 (dk_at dksX2_take_3 16 rfl rfl)
theorem dX2_take_87 : decode cX2_take 87 = .ok (.invokevirtual 61, 3) := dk_182 0 61 (dk_at dksX2_take_3 19 rfl rfl)
theorem dX2_take_90 : decode cX2_take 90 = .ok (.pop, 1) := dk_87 (dk_at dksX2_take_3 22 rfl rfl)
theorem dX2_take_91 : decode cX2_take 91 = .ok (.aload_n 0, 1) := dk_42 (dk_at dksX2_take_3 23 rfl rfl)
theorem dX2_take_92 : decode cX2_take 92 = .ok (.getfield 27, 3) := dk_180 0 27 (dk_at dksX2_take_4 0 rfl rfl)
theorem dX2_take_95 : decode cX2_take 95 = .ok (.aload_n 1, 1) := dk_43 (dk_at dksX2_take_4 3 rfl rfl)
theorem dX2_take_96 : decode cX2_take 96 = .ok (.getfield 27, 3) := dk_180 0 27 (dk_at dksX2_take_4 4 rfl rfl)
theorem dX2_take_99 : decode cX2_take 99 = .ok (.invokevirtual 65, 3) := dk_182 0 65 (dk_at dksX2_take_4 7 rfl rfl)
theorem dX2_take_102 : decode cX2_take 102 = .ok (.aload_n 1, 1) := dk_43 (dk_at dksX2_take_4 10 rfl rfl)
theorem dX2_take_103 : decode cX2_take 103 = .ok (.getfield 31, 3) := dk_180 0 31 (dk_at dksX2_take_4 11 rfl rfl)
theorem dX2_take_106 : decode cX2_take 106 = .ok (.iconst 0, 1) := dk_3 (dk_at dksX2_take_4 14 rfl rfl)
theorem dX2_take_107 : decode cX2_take 107 = .ok (.aload_n 0, 1) := dk_42 (dk_at dksX2_take_4 15 rfl rfl)
theorem dX2_take_108 : decode cX2_take 108 = .ok (.getfield 31, 3) := dk_180 0 31 (dk_at dksX2_take_4 16 rfl rfl)
theorem dX2_take_111 : decode cX2_take 111 = .ok (.iconst 0, 1) := dk_3 (dk_at dksX2_take_4 19 rfl rfl)
theorem dX2_take_112 : decode cX2_take 112 = .ok (.bipush 6, 2) := dk_16 6 (dk_at dksX2_take_4 20 rfl rfl)
theorem dX2_take_114 : decode cX2_take 114 = .ok (.invokestatic 69, 3) := dk_184 0 69 (dk_at dksX2_take_5 0 rfl rfl)
theorem dX2_take_117 : decode cX2_take 117 = .ok (.aload_n 0, 1) := dk_42 (dk_at dksX2_take_5 3 rfl rfl)
theorem dX2_take_118 : decode cX2_take 118 = .ok (.aload_n 1, 1) := dk_43 (dk_at dksX2_take_5 4 rfl rfl)
theorem dX2_take_119 : decode cX2_take 119 = .ok (.getfield 75, 3) := dk_180 0 75 (dk_at dksX2_take_5 5 rfl rfl)
theorem dX2_take_122 : decode cX2_take 122 = .ok (.putfield 75, 3) := dk_181 0 75 (dk_at dksX2_take_5 8 rfl rfl)
theorem dX2_take_125 : decode cX2_take 125 = .ok (.aload_n 0, 1) := dk_42 (dk_at dksX2_take_5 11 rfl rfl)
theorem dX2_take_126 : decode cX2_take 126 = .ok (.aload_n 1, 1) := dk_43 (dk_at dksX2_take_5 12 rfl rfl)
theorem dX2_take_127 : decode cX2_take 127 = .ok (.getfield 79, 3) := dk_180 0 79 (dk_at dksX2_take_5 13 rfl rfl)
theorem dX2_take_130 : decode cX2_take 130 = .ok (.putfield 79, 3) := dk_181 0 79 (dk_at dksX2_take_5 16 rfl rfl)
theorem dX2_take_133 : decode cX2_take 133 = .ok (.aload_n 0, 1) := dk_42 (dk_at dksX2_take_5 19 rfl rfl)
theorem dX2_take_134 : decode cX2_take 134 = .ok (.aload_n 1, 1) := dk_43 (dk_at dksX2_take_5 20 rfl rfl)
theorem dX2_take_135 : decode cX2_take 135 = .ok (.getfield 82, 3) := dk_180 0 82 (dk_at dksX2_take_5 21 rfl rfl)
theorem dX2_take_138 : decode cX2_take 138 = .ok (.putfield 82, 3) := dk_181 0 82 (dk_at dksX2_take_6 0 rfl rfl)
theorem dX2_take_141 : decode cX2_take 141 = .ok (.return_, 1) := dk_177 (dk_at dksX2_take_6 3 rfl rfl)
abbrev cX2_refusesHold : ByteArray := prog_6_method_7_code
def yX2_refusesHold : MethodName := ⟨RX2, "refusesHold", "(II)I"⟩
def dkwX2_refusesHold_1 : List UInt8 := [5, 172]
abbrev dktX2_refusesHold_1 : List UInt8 := dkwX2_refusesHold_1 ++ []
def dkwX2_refusesHold_0 : List UInt8 := [42, 27, 182, 0, 113, 154, 0, 5, 4, 172, 28, 4, 16, 30, 184, 0, 101, 153, 0, 7, 3, 167, 0, 4]
abbrev dktX2_refusesHold_0 : List UInt8 := dkwX2_refusesHold_0 ++ dktX2_refusesHold_1
theorem dksX2_refusesHold_0 : cX2_refusesHold.data.toList.drop 0 = dktX2_refusesHold_0 := by decide +kernel
theorem dksX2_refusesHold_1 : cX2_refusesHold.data.toList.drop 24 = dktX2_refusesHold_1 := dk_seg dksX2_refusesHold_0 24 rfl rfl
theorem dX2_refusesHold_0 : decode cX2_refusesHold 0 = .ok (.aload_n 0, 1) := dk_42 (dk_at dksX2_refusesHold_0 0 rfl rfl)
theorem dX2_refusesHold_1 : decode cX2_refusesHold 1 = .ok (.iload_n 1, 1) := dk_27 (dk_at dksX2_refusesHold_0 1 rfl rfl)
theorem dX2_refusesHold_2 : decode cX2_refusesHold 2 = .ok (.invokevirtual 113, 3) := dk_182 0 113 (dk_at dksX2_refusesHold_0 2 rfl rfl)
theorem dX2_refusesHold_5 : decode cX2_refusesHold 5 = .ok (.ifCond .ne 5, 3) := dk_154 0 5 (dk_at dksX2_refusesHold_0 5 rfl rfl)
theorem dX2_refusesHold_8 : decode cX2_refusesHold 8 = .ok (.iconst 1, 1) := dk_4 (dk_at dksX2_refusesHold_0 8 rfl rfl)
theorem dX2_refusesHold_9 : decode cX2_refusesHold 9 = .ok (.ireturn, 1) := dk_172 (dk_at dksX2_refusesHold_0 9 rfl rfl)
theorem dX2_refusesHold_10 : decode cX2_refusesHold 10 = .ok (.iload_n 2, 1) := dk_28 (dk_at dksX2_refusesHold_0 10 rfl rfl)
theorem dX2_refusesHold_11 : decode cX2_refusesHold 11 = .ok (.iconst 1, 1) := dk_4 (dk_at dksX2_refusesHold_0 11 rfl rfl)
theorem dX2_refusesHold_12 : decode cX2_refusesHold 12 = .ok (.bipush 30, 2) := dk_16 30 (dk_at dksX2_refusesHold_0 12 rfl rfl)
theorem dX2_refusesHold_14 : decode cX2_refusesHold 14 = .ok (.invokestatic 101, 3) := dk_184 0 101 (dk_at dksX2_refusesHold_0 14 rfl rfl)
theorem dX2_refusesHold_17 : decode cX2_refusesHold 17 = .ok (.ifCond .eq 7, 3) := dk_153 0 7 (dk_at dksX2_refusesHold_0 17 rfl rfl)
theorem dX2_refusesHold_20 : decode cX2_refusesHold 20 = .ok (.iconst 0, 1) := dk_3 (dk_at dksX2_refusesHold_0 20 rfl rfl)
theorem dX2_refusesHold_21 : decode cX2_refusesHold 21 = .ok (.goto 4, 3) := dk_167 0 4 (dk_at dksX2_refusesHold_0 21 rfl rfl)
theorem dX2_refusesHold_24 : decode cX2_refusesHold 24 = .ok (.iconst 2, 1) := dk_5 (dk_at dksX2_refusesHold_1 0 rfl rfl)
theorem dX2_refusesHold_25 : decode cX2_refusesHold 25 = .ok (.ireturn, 1) := dk_172 (dk_at dksX2_refusesHold_1 1 rfl rfl)
abbrev cX2_isThere : ByteArray := prog_6_method_5_code
def yX2_isThere : MethodName := ⟨RX2, "isThere", "(I)Z"⟩
def dkwX2_isThere_1 : List UInt8 := [182, 0, 105, 192, 0, 52, 180, 0, 109, 154, 0, 7, 4, 167, 0, 4, 3, 172]
abbrev dktX2_isThere_1 : List UInt8 := dkwX2_isThere_1 ++ []
def dkwX2_isThere_0 : List UInt8 := [27, 3, 42, 180, 0, 12, 182, 0, 97, 4, 100, 184, 0, 101, 153, 0, 24, 42, 180, 0, 12, 27]
abbrev dktX2_isThere_0 : List UInt8 := dkwX2_isThere_0 ++ dktX2_isThere_1
theorem dksX2_isThere_0 : cX2_isThere.data.toList.drop 0 = dktX2_isThere_0 := by decide +kernel
theorem dksX2_isThere_1 : cX2_isThere.data.toList.drop 22 = dktX2_isThere_1 := dk_seg dksX2_isThere_0 22 rfl rfl
theorem dX2_isThere_0 : decode cX2_isThere 0 = .ok (.iload_n 1, 1) := dk_27 (dk_at dksX2_isThere_0 0 rfl rfl)
theorem dX2_isThere_1 : decode cX2_isThere 1 = .ok (.iconst 0, 1) := dk_3 (dk_at dksX2_isThere_0 1 rfl rfl)
theorem dX2_isThere_2 : decode cX2_isThere 2 = .ok (.aload_n 0, 1) := dk_42 (dk_at dksX2_isThere_0 2 rfl rfl)
theorem dX2_isThere_3 : decode cX2_isThere 3 = .ok (.getfield 12, 3) := dk_180 0 12 (dk_at dksX2_isThere_0 3 rfl rfl)
theorem dX2_isThere_6 : decode cX2_isThere 6 = .ok (.invokevirtual 97, 3) := dk_182 0 97 (dk_at dksX2_isThere_0 6 rfl rfl)
theorem dX2_isThere_9 : decode cX2_isThere 9 = .ok (.iconst 1, 1) := dk_4 (dk_at dksX2_isThere_0 9 rfl rfl)
theorem dX2_isThere_10 : decode cX2_isThere 10 = .ok (.isub, 1) := dk_100 (dk_at dksX2_isThere_0 10 rfl rfl)
theorem dX2_isThere_11 : decode cX2_isThere 11 = .ok (.invokestatic 101, 3) := dk_184 0 101 (dk_at dksX2_isThere_0 11 rfl rfl)
theorem dX2_isThere_14 : decode cX2_isThere 14 = .ok (.ifCond .eq 24, 3) := dk_153 0 24 (dk_at dksX2_isThere_0 14 rfl rfl)
theorem dX2_isThere_17 : decode cX2_isThere 17 = .ok (.aload_n 0, 1) := dk_42 (dk_at dksX2_isThere_0 17 rfl rfl)
theorem dX2_isThere_18 : decode cX2_isThere 18 = .ok (.getfield 12, 3) := dk_180 0 12 (dk_at dksX2_isThere_0 18 rfl rfl)
theorem dX2_isThere_21 : decode cX2_isThere 21 = .ok (.iload_n 1, 1) := dk_27 (dk_at dksX2_isThere_0 21 rfl rfl)
theorem dX2_isThere_22 : decode cX2_isThere 22 = .ok (.invokevirtual 105, 3) := dk_182 0 105 (dk_at dksX2_isThere_1 0 rfl rfl)
theorem dX2_isThere_25 : decode cX2_isThere 25 = .ok (.checkcast 52, 3) := dk_192 0 52 (dk_at dksX2_isThere_1 3 rfl rfl)
theorem dX2_isThere_28 : decode cX2_isThere 28 = .ok (.getfield 109, 3) := dk_180 0 109 (dk_at dksX2_isThere_1 6 rfl rfl)
theorem dX2_isThere_31 : decode cX2_isThere 31 = .ok (.ifCond .ne 7, 3) := dk_154 0 7 (dk_at dksX2_isThere_1 9 rfl rfl)
theorem dX2_isThere_34 : decode cX2_isThere 34 = .ok (.iconst 1, 1) := dk_4 (dk_at dksX2_isThere_1 12 rfl rfl)
theorem dX2_isThere_35 : decode cX2_isThere 35 = .ok (.goto 4, 3) := dk_167 0 4 (dk_at dksX2_isThere_1 13 rfl rfl)
theorem dX2_isThere_38 : decode cX2_isThere 38 = .ok (.iconst 0, 1) := dk_3 (dk_at dksX2_isThere_1 16 rfl rfl)
theorem dX2_isThere_39 : decode cX2_isThere 39 = .ok (.ireturn, 1) := dk_172 (dk_at dksX2_isThere_1 17 rfl rfl)
abbrev cX2_hold : ByteArray := prog_6_method_12_code
def yX2_hold : MethodName := ⟨RX2, "hold", "(II)I"⟩
def dkwX2_hold_1 : List UInt8 := [184, 0, 138, 181, 0, 135, 45, 180, 0, 135, 172]
abbrev dktX2_hold_1 : List UInt8 := dkwX2_hold_1 ++ []
def dkwX2_hold_0 : List UInt8 := [42, 180, 0, 12, 27, 182, 0, 105, 192, 0, 52, 78, 45, 45, 180, 0, 135, 42, 180, 0, 75, 28, 96]
abbrev dktX2_hold_0 : List UInt8 := dkwX2_hold_0 ++ dktX2_hold_1
theorem dksX2_hold_0 : cX2_hold.data.toList.drop 0 = dktX2_hold_0 := by decide +kernel
theorem dksX2_hold_1 : cX2_hold.data.toList.drop 23 = dktX2_hold_1 := dk_seg dksX2_hold_0 23 rfl rfl
theorem dX2_hold_0 : decode cX2_hold 0 = .ok (.aload_n 0, 1) := dk_42 (dk_at dksX2_hold_0 0 rfl rfl)
theorem dX2_hold_1 : decode cX2_hold 1 = .ok (.getfield 12, 3) := dk_180 0 12 (dk_at dksX2_hold_0 1 rfl rfl)
theorem dX2_hold_4 : decode cX2_hold 4 = .ok (.iload_n 1, 1) := dk_27 (dk_at dksX2_hold_0 4 rfl rfl)
theorem dX2_hold_5 : decode cX2_hold 5 = .ok (.invokevirtual 105, 3) := dk_182 0 105 (dk_at dksX2_hold_0 5 rfl rfl)
theorem dX2_hold_8 : decode cX2_hold 8 = .ok (.checkcast 52, 3) := dk_192 0 52 (dk_at dksX2_hold_0 8 rfl rfl)
theorem dX2_hold_11 : decode cX2_hold 11 = .ok (.astore_n 3, 1) := dk_78 (dk_at dksX2_hold_0 11 rfl rfl)
theorem dX2_hold_12 : decode cX2_hold 12 = .ok (.aload_n 3, 1) := dk_45 (dk_at dksX2_hold_0 12 rfl rfl)
theorem dX2_hold_13 : decode cX2_hold 13 = .ok (.aload_n 3, 1) := dk_45 (dk_at dksX2_hold_0 13 rfl rfl)
theorem dX2_hold_14 : decode cX2_hold 14 = .ok (.getfield 135, 3) := dk_180 0 135 (dk_at dksX2_hold_0 14 rfl rfl)
theorem dX2_hold_17 : decode cX2_hold 17 = .ok (.aload_n 0, 1) := dk_42 (dk_at dksX2_hold_0 17 rfl rfl)
theorem dX2_hold_18 : decode cX2_hold 18 = .ok (.getfield 75, 3) := dk_180 0 75 (dk_at dksX2_hold_0 18 rfl rfl)
theorem dX2_hold_21 : decode cX2_hold 21 = .ok (.iload_n 2, 1) := dk_28 (dk_at dksX2_hold_0 21 rfl rfl)
theorem dX2_hold_22 : decode cX2_hold 22 = .ok (.iadd, 1) := dk_96 (dk_at dksX2_hold_0 22 rfl rfl)
theorem dX2_hold_23 : decode cX2_hold 23 = .ok (.invokestatic 138, 3) := dk_184 0 138 (dk_at dksX2_hold_1 0 rfl rfl)
theorem dX2_hold_26 : decode cX2_hold 26 = .ok (.putfield 135, 3) := dk_181 0 135 (dk_at dksX2_hold_1 3 rfl rfl)
theorem dX2_hold_29 : decode cX2_hold 29 = .ok (.aload_n 3, 1) := dk_45 (dk_at dksX2_hold_1 6 rfl rfl)
theorem dX2_hold_30 : decode cX2_hold 30 = .ok (.getfield 135, 3) := dk_180 0 135 (dk_at dksX2_hold_1 7 rfl rfl)
theorem dX2_hold_33 : decode cX2_hold 33 = .ok (.ireturn, 1) := dk_172 (dk_at dksX2_hold_1 10 rfl rfl)
abbrev cX2_refusesCow : ByteArray := prog_6_method_6_code
def yX2_refusesCow : MethodName := ⟨RX2, "refusesCow", "(I)I"⟩
def dkwX2_refusesCow_0 : List UInt8 := [42, 27, 182, 0, 113, 153, 0, 7, 3, 167, 0, 4, 4, 172]
abbrev dktX2_refusesCow_0 : List UInt8 := dkwX2_refusesCow_0 ++ []
theorem dksX2_refusesCow_0 : cX2_refusesCow.data.toList.drop 0 = dktX2_refusesCow_0 := by decide +kernel
theorem dX2_refusesCow_0 : decode cX2_refusesCow 0 = .ok (.aload_n 0, 1) := dk_42 (dk_at dksX2_refusesCow_0 0 rfl rfl)
theorem dX2_refusesCow_1 : decode cX2_refusesCow 1 = .ok (.iload_n 1, 1) := dk_27 (dk_at dksX2_refusesCow_0 1 rfl rfl)
theorem dX2_refusesCow_2 : decode cX2_refusesCow 2 = .ok (.invokevirtual 113, 3) := dk_182 0 113 (dk_at dksX2_refusesCow_0 2 rfl rfl)
theorem dX2_refusesCow_5 : decode cX2_refusesCow 5 = .ok (.ifCond .eq 7, 3) := dk_153 0 7 (dk_at dksX2_refusesCow_0 5 rfl rfl)
theorem dX2_refusesCow_8 : decode cX2_refusesCow 8 = .ok (.iconst 0, 1) := dk_3 (dk_at dksX2_refusesCow_0 8 rfl rfl)
theorem dX2_refusesCow_9 : decode cX2_refusesCow 9 = .ok (.goto 4, 3) := dk_167 0 4 (dk_at dksX2_refusesCow_0 9 rfl rfl)
theorem dX2_refusesCow_12 : decode cX2_refusesCow 12 = .ok (.iconst 1, 1) := dk_4 (dk_at dksX2_refusesCow_0 12 rfl rfl)
theorem dX2_refusesCow_13 : decode cX2_refusesCow 13 = .ok (.ireturn, 1) := dk_172 (dk_at dksX2_refusesCow_0 13 rfl rfl)
abbrev cX2_refusesServe : ByteArray := prog_6_method_8_code
def yX2_refusesServe : MethodName := ⟨RX2, "refusesServe", "(I)I"⟩
def dkwX2_refusesServe_2 : List UInt8 := [162, 0, 7, 6, 167, 0, 4, 3, 172]
abbrev dktX2_refusesServe_2 : List UInt8 := dkwX2_refusesServe_2 ++ []
def dkwX2_refusesServe_1 : List UInt8 := [182, 0, 117, 154, 0, 23, 44, 182, 0, 120, 153, 0, 20, 44, 42, 180, 0, 75, 182, 0, 123, 16, 20]
abbrev dktX2_refusesServe_1 : List UInt8 := dkwX2_refusesServe_1 ++ dktX2_refusesServe_2
def dkwX2_refusesServe_0 : List UInt8 := [42, 27, 182, 0, 113, 154, 0, 5, 4, 172, 42, 180, 0, 12, 27, 182, 0, 105, 192, 0, 52, 77, 44]
abbrev dktX2_refusesServe_0 : List UInt8 := dkwX2_refusesServe_0 ++ dktX2_refusesServe_1
theorem dksX2_refusesServe_0 : cX2_refusesServe.data.toList.drop 0 = dktX2_refusesServe_0 := by decide +kernel
theorem dksX2_refusesServe_1 : cX2_refusesServe.data.toList.drop 23 = dktX2_refusesServe_1 := dk_seg dksX2_refusesServe_0 23 rfl rfl
theorem dksX2_refusesServe_2 : cX2_refusesServe.data.toList.drop 46 = dktX2_refusesServe_2 := dk_seg dksX2_refusesServe_1 23 rfl rfl
theorem dX2_refusesServe_0 : decode cX2_refusesServe 0 = .ok (.aload_n 0, 1) := dk_42 (dk_at dksX2_refusesServe_0 0 rfl rfl)
theorem dX2_refusesServe_1 : decode cX2_refusesServe 1 = .ok (.iload_n 1, 1) := dk_27 (dk_at dksX2_refusesServe_0 1 rfl rfl)
theorem dX2_refusesServe_2 : decode cX2_refusesServe 2 = .ok (.invokevirtual 113, 3) := dk_182 0 113 (dk_at dksX2_refusesServe_0 2 rfl rfl)
theorem dX2_refusesServe_5 : decode cX2_refusesServe 5 = .ok (.ifCond .ne 5, 3) := dk_154 0 5 (dk_at dksX2_refusesServe_0 5 rfl rfl)
theorem dX2_refusesServe_8 : decode cX2_refusesServe 8 = .ok (.iconst 1, 1) := dk_4 (dk_at dksX2_refusesServe_0 8 rfl rfl)
theorem dX2_refusesServe_9 : decode cX2_refusesServe 9 = .ok (.ireturn, 1) := dk_172 (dk_at dksX2_refusesServe_0 9 rfl rfl)
theorem dX2_refusesServe_10 : decode cX2_refusesServe 10 = .ok (.aload_n 0, 1) := dk_42 (dk_at dksX2_refusesServe_0 10 rfl rfl)
theorem dX2_refusesServe_11 : decode cX2_refusesServe 11 = .ok (.getfield 12, 3) := dk_180 0 12 (dk_at dksX2_refusesServe_0 11 rfl rfl)
theorem dX2_refusesServe_14 : decode cX2_refusesServe 14 = .ok (.iload_n 1, 1) := dk_27 (dk_at dksX2_refusesServe_0 14 rfl rfl)
theorem dX2_refusesServe_15 : decode cX2_refusesServe 15 = .ok (.invokevirtual 105, 3) := dk_182 0 105 (dk_at dksX2_refusesServe_0 15 rfl rfl)
theorem dX2_refusesServe_18 : decode cX2_refusesServe 18 = .ok (.checkcast 52, 3) := dk_192 0 52 (dk_at dksX2_refusesServe_0 18 rfl rfl)
theorem dX2_refusesServe_21 : decode cX2_refusesServe 21 = .ok (.astore_n 2, 1) := dk_77 (dk_at dksX2_refusesServe_0 21 rfl rfl)
theorem dX2_refusesServe_22 : decode cX2_refusesServe 22 = .ok (.aload_n 2, 1) := dk_44 (dk_at dksX2_refusesServe_0 22 rfl rfl)
theorem dX2_refusesServe_23 : decode cX2_refusesServe 23 = .ok (.invokevirtual 117, 3) := dk_182 0 117 (dk_at dksX2_refusesServe_1 0 rfl rfl)
theorem dX2_refusesServe_26 : decode cX2_refusesServe 26 = .ok (.ifCond .ne 23, 3) := dk_154 0 23 (dk_at dksX2_refusesServe_1 3 rfl rfl)
theorem dX2_refusesServe_29 : decode cX2_refusesServe 29 = .ok (.aload_n 2, 1) := dk_44 (dk_at dksX2_refusesServe_1 6 rfl rfl)
theorem dX2_refusesServe_30 : decode cX2_refusesServe 30 = .ok (.invokevirtual 120, 3) := dk_182 0 120 (dk_at dksX2_refusesServe_1 7 rfl rfl)
theorem dX2_refusesServe_33 : decode cX2_refusesServe 33 = .ok (.ifCond .eq 20, 3) := dk_153 0 20 (dk_at dksX2_refusesServe_1 10 rfl rfl)
theorem dX2_refusesServe_36 : decode cX2_refusesServe 36 = .ok (.aload_n 2, 1) := dk_44 (dk_at dksX2_refusesServe_1 13 rfl rfl)
theorem dX2_refusesServe_37 : decode cX2_refusesServe 37 = .ok (.aload_n 0, 1) := dk_42 (dk_at dksX2_refusesServe_1 14 rfl rfl)
theorem dX2_refusesServe_38 : decode cX2_refusesServe 38 = .ok (.getfield 75, 3) := dk_180 0 75 (dk_at dksX2_refusesServe_1 15 rfl rfl)
theorem dX2_refusesServe_41 : decode cX2_refusesServe 41 = .ok (.invokevirtual 123, 3) := dk_182 0 123 (dk_at dksX2_refusesServe_1 18 rfl rfl)
theorem dX2_refusesServe_44 : decode cX2_refusesServe 44 = .ok (.bipush 20, 2) := dk_16 20 (dk_at dksX2_refusesServe_1 21 rfl rfl)
theorem dX2_refusesServe_46 : decode cX2_refusesServe 46 = .ok (.if_icmp .ge 7, 3) := dk_162 0 7 (dk_at dksX2_refusesServe_2 0 rfl rfl)
theorem dX2_refusesServe_49 : decode cX2_refusesServe 49 = .ok (.iconst 3, 1) := dk_6 (dk_at dksX2_refusesServe_2 3 rfl rfl)
theorem dX2_refusesServe_50 : decode cX2_refusesServe 50 = .ok (.goto 4, 3) := dk_167 0 4 (dk_at dksX2_refusesServe_2 4 rfl rfl)
theorem dX2_refusesServe_53 : decode cX2_refusesServe 53 = .ok (.iconst 0, 1) := dk_3 (dk_at dksX2_refusesServe_2 7 rfl rfl)
theorem dX2_refusesServe_54 : decode cX2_refusesServe 54 = .ok (.ireturn, 1) := dk_172 (dk_at dksX2_refusesServe_2 8 rfl rfl)
abbrev cX2_serve : ByteArray := prog_6_method_13_code
def yX2_serve : MethodName := ⟨RX2, "serve", "(I)I"⟩
def dkwX2_serve_1 : List UInt8 := [181, 0, 144, 44, 180, 0, 144, 172]
abbrev dktX2_serve_1 : List UInt8 := dkwX2_serve_1 ++ []
def dkwX2_serve_0 : List UInt8 := [42, 180, 0, 12, 27, 182, 0, 105, 192, 0, 52, 77, 44, 42, 180, 0, 75, 42, 180, 0, 31, 3, 46, 96]
abbrev dktX2_serve_0 : List UInt8 := dkwX2_serve_0 ++ dktX2_serve_1
theorem dksX2_serve_0 : cX2_serve.data.toList.drop 0 = dktX2_serve_0 := by decide +kernel
theorem dksX2_serve_1 : cX2_serve.data.toList.drop 24 = dktX2_serve_1 := dk_seg dksX2_serve_0 24 rfl rfl
theorem dX2_serve_0 : decode cX2_serve 0 = .ok (.aload_n 0, 1) := dk_42 (dk_at dksX2_serve_0 0 rfl rfl)
theorem dX2_serve_1 : decode cX2_serve 1 = .ok (.getfield 12, 3) := dk_180 0 12 (dk_at dksX2_serve_0 1 rfl rfl)
theorem dX2_serve_4 : decode cX2_serve 4 = .ok (.iload_n 1, 1) := dk_27 (dk_at dksX2_serve_0 4 rfl rfl)
theorem dX2_serve_5 : decode cX2_serve 5 = .ok (.invokevirtual 105, 3) := dk_182 0 105 (dk_at dksX2_serve_0 5 rfl rfl)
theorem dX2_serve_8 : decode cX2_serve 8 = .ok (.checkcast 52, 3) := dk_192 0 52 (dk_at dksX2_serve_0 8 rfl rfl)
theorem dX2_serve_11 : decode cX2_serve 11 = .ok (.astore_n 2, 1) := dk_77 (dk_at dksX2_serve_0 11 rfl rfl)
theorem dX2_serve_12 : decode cX2_serve 12 = .ok (.aload_n 2, 1) := dk_44 (dk_at dksX2_serve_0 12 rfl rfl)
theorem dX2_serve_13 : decode cX2_serve 13 = .ok (.aload_n 0, 1) := dk_42 (dk_at dksX2_serve_0 13 rfl rfl)
theorem dX2_serve_14 : decode cX2_serve 14 = .ok (.getfield 75, 3) := dk_180 0 75 (dk_at dksX2_serve_0 14 rfl rfl)
theorem dX2_serve_17 : decode cX2_serve 17 = .ok (.aload_n 0, 1) := dk_42 (dk_at dksX2_serve_0 17 rfl rfl)
theorem dX2_serve_18 : decode cX2_serve 18 = .ok (.getfield 31, 3) := dk_180 0 31 (dk_at dksX2_serve_0 18 rfl rfl)
theorem dX2_serve_21 : decode cX2_serve 21 = .ok (.iconst 0, 1) := dk_3 (dk_at dksX2_serve_0 21 rfl rfl)
theorem dX2_serve_22 : decode cX2_serve 22 = .ok (.iaload, 1) := dk_46 (dk_at dksX2_serve_0 22 rfl rfl)
theorem dX2_serve_23 : decode cX2_serve 23 = .ok (.iadd, 1) := dk_96 (dk_at dksX2_serve_0 23 rfl rfl)
theorem dX2_serve_24 : decode cX2_serve 24 = .ok (.putfield 144, 3) := dk_181 0 144 (dk_at dksX2_serve_1 0 rfl rfl)
theorem dX2_serve_27 : decode cX2_serve 27 = .ok (.aload_n 2, 1) := dk_44 (dk_at dksX2_serve_1 3 rfl rfl)
theorem dX2_serve_28 : decode cX2_serve 28 = .ok (.getfield 144, 3) := dk_180 0 144 (dk_at dksX2_serve_1 4 rfl rfl)
theorem dX2_serve_31 : decode cX2_serve 31 = .ok (.ireturn, 1) := dk_172 (dk_at dksX2_serve_1 7 rfl rfl)
abbrev cX2_refusesDry : ByteArray := prog_6_method_9_code
def yX2_refusesDry : MethodName := ⟨RX2, "refusesDry", "(I)I"⟩
def dkwX2_refusesDry_1 : List UInt8 := [153, 0, 7, 3, 167, 0, 4, 7, 172]
abbrev dktX2_refusesDry_1 : List UInt8 := dkwX2_refusesDry_1 ++ []
def dkwX2_refusesDry_0 : List UInt8 := [42, 27, 182, 0, 113, 154, 0, 5, 4, 172, 42, 180, 0, 12, 27, 182, 0, 105, 192, 0, 52, 182, 0, 120]
abbrev dktX2_refusesDry_0 : List UInt8 := dkwX2_refusesDry_0 ++ dktX2_refusesDry_1
theorem dksX2_refusesDry_0 : cX2_refusesDry.data.toList.drop 0 = dktX2_refusesDry_0 := by decide +kernel
theorem dksX2_refusesDry_1 : cX2_refusesDry.data.toList.drop 24 = dktX2_refusesDry_1 := dk_seg dksX2_refusesDry_0 24 rfl rfl
theorem dX2_refusesDry_0 : decode cX2_refusesDry 0 = .ok (.aload_n 0, 1) := dk_42 (dk_at dksX2_refusesDry_0 0 rfl rfl)
theorem dX2_refusesDry_1 : decode cX2_refusesDry 1 = .ok (.iload_n 1, 1) := dk_27 (dk_at dksX2_refusesDry_0 1 rfl rfl)
theorem dX2_refusesDry_2 : decode cX2_refusesDry 2 = .ok (.invokevirtual 113, 3) := dk_182 0 113 (dk_at dksX2_refusesDry_0 2 rfl rfl)
theorem dX2_refusesDry_5 : decode cX2_refusesDry 5 = .ok (.ifCond .ne 5, 3) := dk_154 0 5 (dk_at dksX2_refusesDry_0 5 rfl rfl)
theorem dX2_refusesDry_8 : decode cX2_refusesDry 8 = .ok (.iconst 1, 1) := dk_4 (dk_at dksX2_refusesDry_0 8 rfl rfl)
theorem dX2_refusesDry_9 : decode cX2_refusesDry 9 = .ok (.ireturn, 1) := dk_172 (dk_at dksX2_refusesDry_0 9 rfl rfl)
theorem dX2_refusesDry_10 : decode cX2_refusesDry 10 = .ok (.aload_n 0, 1) := dk_42 (dk_at dksX2_refusesDry_0 10 rfl rfl)
theorem dX2_refusesDry_11 : decode cX2_refusesDry 11 = .ok (.getfield 12, 3) := dk_180 0 12 (dk_at dksX2_refusesDry_0 11 rfl rfl)
theorem dX2_refusesDry_14 : decode cX2_refusesDry 14 = .ok (.iload_n 1, 1) := dk_27 (dk_at dksX2_refusesDry_0 14 rfl rfl)
theorem dX2_refusesDry_15 : decode cX2_refusesDry 15 = .ok (.invokevirtual 105, 3) := dk_182 0 105 (dk_at dksX2_refusesDry_0 15 rfl rfl)
theorem dX2_refusesDry_18 : decode cX2_refusesDry 18 = .ok (.checkcast 52, 3) := dk_192 0 52 (dk_at dksX2_refusesDry_0 18 rfl rfl)
theorem dX2_refusesDry_21 : decode cX2_refusesDry 21 = .ok (.invokevirtual 120, 3) := dk_182 0 120 (dk_at dksX2_refusesDry_0 21 rfl rfl)
theorem dX2_refusesDry_24 : decode cX2_refusesDry 24 = .ok (.ifCond .eq 7, 3) := dk_153 0 7 (dk_at dksX2_refusesDry_1 0 rfl rfl)
theorem dX2_refusesDry_27 : decode cX2_refusesDry 27 = .ok (.iconst 0, 1) := dk_3 (dk_at dksX2_refusesDry_1 3 rfl rfl)
theorem dX2_refusesDry_28 : decode cX2_refusesDry 28 = .ok (.goto 4, 3) := dk_167 0 4 (dk_at dksX2_refusesDry_1 4 rfl rfl)
theorem dX2_refusesDry_31 : decode cX2_refusesDry 31 = .ok (.iconst 4, 1) := dk_7 (dk_at dksX2_refusesDry_1 7 rfl rfl)
theorem dX2_refusesDry_32 : decode cX2_refusesDry 32 = .ok (.ireturn, 1) := dk_172 (dk_at dksX2_refusesDry_1 8 rfl rfl)
abbrev cX2_dry : ByteArray := prog_6_method_14_code
def yX2_dry : MethodName := ⟨RX2, "dry", "(I)I"⟩
def dkwX2_dry_1 : List UInt8 := [180, 0, 150, 100, 172]
abbrev dktX2_dry_1 : List UInt8 := dkwX2_dry_1 ++ []
def dkwX2_dry_0 : List UInt8 := [42, 180, 0, 12, 27, 182, 0, 105, 192, 0, 52, 77, 44, 3, 181, 0, 147, 42, 180, 0, 75, 44]
abbrev dktX2_dry_0 : List UInt8 := dkwX2_dry_0 ++ dktX2_dry_1
theorem dksX2_dry_0 : cX2_dry.data.toList.drop 0 = dktX2_dry_0 := by decide +kernel
theorem dksX2_dry_1 : cX2_dry.data.toList.drop 22 = dktX2_dry_1 := dk_seg dksX2_dry_0 22 rfl rfl
theorem dX2_dry_0 : decode cX2_dry 0 = .ok (.aload_n 0, 1) := dk_42 (dk_at dksX2_dry_0 0 rfl rfl)
theorem dX2_dry_1 : decode cX2_dry 1 = .ok (.getfield 12, 3) := dk_180 0 12 (dk_at dksX2_dry_0 1 rfl rfl)
theorem dX2_dry_4 : decode cX2_dry 4 = .ok (.iload_n 1, 1) := dk_27 (dk_at dksX2_dry_0 4 rfl rfl)
theorem dX2_dry_5 : decode cX2_dry 5 = .ok (.invokevirtual 105, 3) := dk_182 0 105 (dk_at dksX2_dry_0 5 rfl rfl)
theorem dX2_dry_8 : decode cX2_dry 8 = .ok (.checkcast 52, 3) := dk_192 0 52 (dk_at dksX2_dry_0 8 rfl rfl)
theorem dX2_dry_11 : decode cX2_dry 11 = .ok (.astore_n 2, 1) := dk_77 (dk_at dksX2_dry_0 11 rfl rfl)
theorem dX2_dry_12 : decode cX2_dry 12 = .ok (.aload_n 2, 1) := dk_44 (dk_at dksX2_dry_0 12 rfl rfl)
theorem dX2_dry_13 : decode cX2_dry 13 = .ok (.iconst 0, 1) := dk_3 (dk_at dksX2_dry_0 13 rfl rfl)
theorem dX2_dry_14 : decode cX2_dry 14 = .ok (.putfield 147, 3) := dk_181 0 147 (dk_at dksX2_dry_0 14 rfl rfl)
theorem dX2_dry_17 : decode cX2_dry 17 = .ok (.aload_n 0, 1) := dk_42 (dk_at dksX2_dry_0 17 rfl rfl)
theorem dX2_dry_18 : decode cX2_dry 18 = .ok (.getfield 75, 3) := dk_180 0 75 (dk_at dksX2_dry_0 18 rfl rfl)
theorem dX2_dry_21 : decode cX2_dry 21 = .ok (.aload_n 2, 1) := dk_44 (dk_at dksX2_dry_0 21 rfl rfl)
theorem dX2_dry_22 : decode cX2_dry 22 = .ok (.getfield 150, 3) := dk_180 0 150 (dk_at dksX2_dry_1 0 rfl rfl)
theorem dX2_dry_25 : decode cX2_dry 25 = .ok (.isub, 1) := dk_100 (dk_at dksX2_dry_1 3 rfl rfl)
theorem dX2_dry_26 : decode cX2_dry 26 = .ok (.ireturn, 1) := dk_172 (dk_at dksX2_dry_1 4 rfl rfl)
abbrev cX2_account : ByteArray := prog_6_method_24_code
def yX2_account : MethodName := ⟨RX2, "account", "(I)I"⟩
def dkwX2_account_5 : List UInt8 := [42, 180, 0, 82, 172, 42, 180, 0, 21, 182, 0, 97, 172]
abbrev dktX2_account_5 : List UInt8 := dkwX2_account_5 ++ []
def dkwX2_account_4 : List UInt8 := [186, 0, 245, 0, 0, 182, 0, 241, 172, 42, 180, 0, 79, 172, 42, 186, 0, 246, 0, 0, 182, 0, 241, 172]
abbrev dktX2_account_4 : List UInt8 := dkwX2_account_4 ++ dktX2_account_5
def dkwX2_account_3 : List UInt8 := [186, 0, 237, 0, 0, 182, 0, 232, 172, 42, 186, 0, 238, 0, 0, 182, 0, 241, 172, 42]
abbrev dktX2_account_3 : List UInt8 := dkwX2_account_3 ++ dktX2_account_4
def dkwX2_account_2 : List UInt8 := [42, 186, 0, 229, 0, 0, 182, 0, 232, 172, 42, 186, 0, 236, 0, 0, 182, 0, 232, 172, 42]
abbrev dktX2_account_2 : List UInt8 := dkwX2_account_2 ++ dktX2_account_3
def dkwX2_account_1 : List UInt8 := [170, 0, 0, 0, 0, 0, 117, 0, 0, 0, 0, 0, 0, 0, 7, 0, 0, 0, 47, 0, 0, 0, 57, 0, 0, 0, 67, 0, 0, 0, 77, 0, 0, 0, 87, 0, 0, 0, 97, 0, 0, 0, 102, 0, 0, 0, 112]
abbrev dktX2_account_1 : List UInt8 := dkwX2_account_1 ++ dktX2_account_2
def dkwX2_account_0 : List UInt8 := [27]
abbrev dktX2_account_0 : List UInt8 := dkwX2_account_0 ++ dktX2_account_1
theorem dksX2_account_0 : cX2_account.data.toList.drop 0 = dktX2_account_0 := by decide +kernel
theorem dksX2_account_1 : cX2_account.data.toList.drop 1 = dktX2_account_1 := dk_seg dksX2_account_0 1 rfl rfl
theorem dksX2_account_2 : cX2_account.data.toList.drop 48 = dktX2_account_2 := dk_seg dksX2_account_1 47 rfl rfl
theorem dksX2_account_3 : cX2_account.data.toList.drop 69 = dktX2_account_3 := dk_seg dksX2_account_2 21 rfl rfl
theorem dksX2_account_4 : cX2_account.data.toList.drop 89 = dktX2_account_4 := dk_seg dksX2_account_3 20 rfl rfl
theorem dksX2_account_5 : cX2_account.data.toList.drop 113 = dktX2_account_5 := dk_seg dksX2_account_4 24 rfl rfl
theorem dX2_account_0 : decode cX2_account 0 = .ok (.iload_n 1, 1) := dk_27 (dk_at dksX2_account_0 0 rfl rfl)
theorem dX2_account_1 : decode cX2_account 1 = .ok (.tableswitch 117 0 7 #[47, 57, 67, 77, 87, 97, 102, 112], 47) := by decide +kernel
theorem dX2_account_48 : decode cX2_account 48 = .ok (.aload_n 0, 1) := dk_42 (dk_at dksX2_account_2 0 rfl rfl)
theorem dX2_account_49 : decode cX2_account 49 = .ok (.invokedynamic 229, 5) := by decide +kernel
theorem dX2_account_54 : decode cX2_account 54 = .ok (.invokevirtual 232, 3) := dk_182 0 232 (dk_at dksX2_account_2 6 rfl rfl)
theorem dX2_account_57 : decode cX2_account 57 = .ok (.ireturn, 1) := dk_172 (dk_at dksX2_account_2 9 rfl rfl)
theorem dX2_account_58 : decode cX2_account 58 = .ok (.aload_n 0, 1) := dk_42 (dk_at dksX2_account_2 10 rfl rfl)
theorem dX2_account_59 : decode cX2_account 59 = .ok (.invokedynamic 236, 5) := by decide +kernel
theorem dX2_account_64 : decode cX2_account 64 = .ok (.invokevirtual 232, 3) := dk_182 0 232 (dk_at dksX2_account_2 16 rfl rfl)
theorem dX2_account_67 : decode cX2_account 67 = .ok (.ireturn, 1) := dk_172 (dk_at dksX2_account_2 19 rfl rfl)
theorem dX2_account_68 : decode cX2_account 68 = .ok (.aload_n 0, 1) := dk_42 (dk_at dksX2_account_2 20 rfl rfl)
theorem dX2_account_69 : decode cX2_account 69 = .ok (.invokedynamic 237, 5) := by decide +kernel
theorem dX2_account_74 : decode cX2_account 74 = .ok (.invokevirtual 232, 3) := dk_182 0 232 (dk_at dksX2_account_3 5 rfl rfl)
theorem dX2_account_77 : decode cX2_account 77 = .ok (.ireturn, 1) := dk_172 (dk_at dksX2_account_3 8 rfl rfl)
theorem dX2_account_78 : decode cX2_account 78 = .ok (.aload_n 0, 1) := dk_42 (dk_at dksX2_account_3 9 rfl rfl)
theorem dX2_account_79 : decode cX2_account 79 = .ok (.invokedynamic 238, 5) := by decide +kernel
theorem dX2_account_84 : decode cX2_account 84 = .ok (.invokevirtual 241, 3) := dk_182 0 241 (dk_at dksX2_account_3 15 rfl rfl)
theorem dX2_account_87 : decode cX2_account 87 = .ok (.ireturn, 1) := dk_172 (dk_at dksX2_account_3 18 rfl rfl)
theorem dX2_account_88 : decode cX2_account 88 = .ok (.aload_n 0, 1) := dk_42 (dk_at dksX2_account_3 19 rfl rfl)
theorem dX2_account_89 : decode cX2_account 89 = .ok (.invokedynamic 245, 5) := by decide +kernel
theorem dX2_account_94 : decode cX2_account 94 = .ok (.invokevirtual 241, 3) := dk_182 0 241 (dk_at dksX2_account_4 5 rfl rfl)
theorem dX2_account_97 : decode cX2_account 97 = .ok (.ireturn, 1) := dk_172 (dk_at dksX2_account_4 8 rfl rfl)
theorem dX2_account_98 : decode cX2_account 98 = .ok (.aload_n 0, 1) := dk_42 (dk_at dksX2_account_4 9 rfl rfl)
theorem dX2_account_99 : decode cX2_account 99 = .ok (.getfield 79, 3) := dk_180 0 79 (dk_at dksX2_account_4 10 rfl rfl)
theorem dX2_account_102 : decode cX2_account 102 = .ok (.ireturn, 1) := dk_172 (dk_at dksX2_account_4 13 rfl rfl)
theorem dX2_account_103 : decode cX2_account 103 = .ok (.aload_n 0, 1) := dk_42 (dk_at dksX2_account_4 14 rfl rfl)
theorem dX2_account_104 : decode cX2_account 104 = .ok (.invokedynamic 246, 5) := by decide +kernel
theorem dX2_account_109 : decode cX2_account 109 = .ok (.invokevirtual 241, 3) := dk_182 0 241 (dk_at dksX2_account_4 20 rfl rfl)
theorem dX2_account_112 : decode cX2_account 112 = .ok (.ireturn, 1) := dk_172 (dk_at dksX2_account_4 23 rfl rfl)
theorem dX2_account_113 : decode cX2_account 113 = .ok (.aload_n 0, 1) := dk_42 (dk_at dksX2_account_5 0 rfl rfl)
theorem dX2_account_114 : decode cX2_account 114 = .ok (.getfield 82, 3) := dk_180 0 82 (dk_at dksX2_account_5 1 rfl rfl)
theorem dX2_account_117 : decode cX2_account 117 = .ok (.ireturn, 1) := dk_172 (dk_at dksX2_account_5 4 rfl rfl)
theorem dX2_account_118 : decode cX2_account 118 = .ok (.aload_n 0, 1) := dk_42 (dk_at dksX2_account_5 5 rfl rfl)
theorem dX2_account_119 : decode cX2_account 119 = .ok (.getfield 21, 3) := dk_180 0 21 (dk_at dksX2_account_5 6 rfl rfl)
theorem dX2_account_122 : decode cX2_account 122 = .ok (.invokevirtual 97, 3) := dk_182 0 97 (dk_at dksX2_account_5 9 rfl rfl)
theorem dX2_account_125 : decode cX2_account 125 = .ok (.ireturn, 1) := dk_172 (dk_at dksX2_account_5 12 rfl rfl)
abbrev cX2_lambda_account_0 : ByteArray := prog_6_method_30_code
def yX2_lambda_account_0 : MethodName := ⟨RX2, "lambda$account$0", "(LDairyBook$Cow;)Z"⟩
def dkwX2_lambda_account_0_0 : List UInt8 := [42, 180, 0, 109, 154, 0, 7, 4, 167, 0, 4, 3, 172]
abbrev dktX2_lambda_account_0_0 : List UInt8 := dkwX2_lambda_account_0_0 ++ []
theorem dksX2_lambda_account_0_0 : cX2_lambda_account_0.data.toList.drop 0 = dktX2_lambda_account_0_0 := by decide +kernel
theorem dX2_lambda_account_0_0 : decode cX2_lambda_account_0 0 = .ok (.aload_n 0, 1) := dk_42 (dk_at dksX2_lambda_account_0_0 0 rfl rfl)
theorem dX2_lambda_account_0_1 : decode cX2_lambda_account_0 1 = .ok (.getfield 109, 3) := dk_180 0 109 (dk_at dksX2_lambda_account_0_0 1 rfl rfl)
theorem dX2_lambda_account_0_4 : decode cX2_lambda_account_0 4 = .ok (.ifCond .ne 7, 3) := dk_154 0 7 (dk_at dksX2_lambda_account_0_0 4 rfl rfl)
theorem dX2_lambda_account_0_7 : decode cX2_lambda_account_0 7 = .ok (.iconst 1, 1) := dk_4 (dk_at dksX2_lambda_account_0_0 7 rfl rfl)
theorem dX2_lambda_account_0_8 : decode cX2_lambda_account_0 8 = .ok (.goto 4, 3) := dk_167 0 4 (dk_at dksX2_lambda_account_0_0 8 rfl rfl)
theorem dX2_lambda_account_0_11 : decode cX2_lambda_account_0 11 = .ok (.iconst 0, 1) := dk_3 (dk_at dksX2_lambda_account_0_0 11 rfl rfl)
theorem dX2_lambda_account_0_12 : decode cX2_lambda_account_0 12 = .ok (.ireturn, 1) := dk_172 (dk_at dksX2_lambda_account_0_0 12 rfl rfl)
abbrev cX2_count : ByteArray := prog_6_method_3_code
def yX2_count : MethodName := ⟨RX2, "count", "(LDairyBook$Chosen;)I"⟩
def dkwX2_count_2 : List UInt8 := [167, 255, 222, 28, 172]
abbrev dktX2_count_2 : List UInt8 := dkwX2_count_2 ++ []
def dkwX2_count_1 : List UInt8 := [185, 0, 48, 1, 0, 192, 0, 52, 58, 4, 43, 25, 4, 185, 0, 85, 2, 0, 153, 0, 6, 132, 2, 1]
abbrev dktX2_count_1 : List UInt8 := dkwX2_count_1 ++ dktX2_count_2
def dkwX2_count_0 : List UInt8 := [3, 61, 42, 180, 0, 12, 182, 0, 38, 78, 45, 185, 0, 42, 1, 0, 153, 0, 31, 45]
abbrev dktX2_count_0 : List UInt8 := dkwX2_count_0 ++ dktX2_count_1
theorem dksX2_count_0 : cX2_count.data.toList.drop 0 = dktX2_count_0 := by decide +kernel
theorem dksX2_count_1 : cX2_count.data.toList.drop 20 = dktX2_count_1 := dk_seg dksX2_count_0 20 rfl rfl
theorem dksX2_count_2 : cX2_count.data.toList.drop 44 = dktX2_count_2 := dk_seg dksX2_count_1 24 rfl rfl
theorem dX2_count_0 : decode cX2_count 0 = .ok (.iconst 0, 1) := dk_3 (dk_at dksX2_count_0 0 rfl rfl)
theorem dX2_count_1 : decode cX2_count 1 = .ok (.istore_n 2, 1) := dk_61 (dk_at dksX2_count_0 1 rfl rfl)
theorem dX2_count_2 : decode cX2_count 2 = .ok (.aload_n 0, 1) := dk_42 (dk_at dksX2_count_0 2 rfl rfl)
theorem dX2_count_3 : decode cX2_count 3 = .ok (.getfield 12, 3) := dk_180 0 12 (dk_at dksX2_count_0 3 rfl rfl)
theorem dX2_count_6 : decode cX2_count 6 = .ok (.invokevirtual 38, 3) := dk_182 0 38 (dk_at dksX2_count_0 6 rfl rfl)
theorem dX2_count_9 : decode cX2_count 9 = .ok (.astore_n 3, 1) := dk_78 (dk_at dksX2_count_0 9 rfl rfl)
theorem dX2_count_10 : decode cX2_count 10 = .ok (.aload_n 3, 1) := dk_45 (dk_at dksX2_count_0 10 rfl rfl)
theorem dX2_count_11 : decode cX2_count 11 = .ok (.invokeinterface 42 1, 5) := by decide +kernel
theorem dX2_count_16 : decode cX2_count 16 = .ok (.ifCond .eq 31, 3) := dk_153 0 31 (dk_at dksX2_count_0 16 rfl rfl)
theorem dX2_count_19 : decode cX2_count 19 = .ok (.aload_n 3, 1) := dk_45 (dk_at dksX2_count_0 19 rfl rfl)
theorem dX2_count_20 : decode cX2_count 20 = .ok (.invokeinterface 48 1, 5) := by decide +kernel
theorem dX2_count_25 : decode cX2_count 25 = .ok (.checkcast 52, 3) := dk_192 0 52 (dk_at dksX2_count_1 5 rfl rfl)
theorem dX2_count_28 : decode cX2_count 28 = .ok (.astore 4, 2) := dk_58 4 (dk_at dksX2_count_1 8 rfl rfl)
theorem dX2_count_30 : decode cX2_count 30 = .ok (.aload_n 1, 1) := dk_43 (dk_at dksX2_count_1 10 rfl rfl)
theorem dX2_count_31 : decode cX2_count 31 = .ok (.aload 4, 2) := dk_25 4 (dk_at dksX2_count_1 11 rfl rfl)
theorem dX2_count_33 : decode cX2_count 33 = .ok (.invokeinterface 85 2, 5) := by decide +kernel
theorem dX2_count_38 : decode cX2_count 38 = .ok (.ifCond .eq 6, 3) := dk_153 0 6 (dk_at dksX2_count_1 18 rfl rfl)
theorem dX2_count_41 : decode cX2_count 41 = .ok (.iinc 2 1, 3) := dk_132 2 1 (dk_at dksX2_count_1 21 rfl rfl)
theorem dX2_count_44 : decode cX2_count 44 = .ok (.goto (-34), 3) := dk_167 255 222 (dk_at dksX2_count_2 0 rfl rfl)
theorem dX2_count_47 : decode cX2_count 47 = .ok (.iload_n 2, 1) := dk_28 (dk_at dksX2_count_2 3 rfl rfl)
theorem dX2_count_48 : decode cX2_count 48 = .ok (.ireturn, 1) := dk_172 (dk_at dksX2_count_2 4 rfl rfl)
abbrev cX2_lambda_account_1 : ByteArray := prog_6_method_29_code
def yX2_lambda_account_1 : MethodName := ⟨RX2, "lambda$account$1", "(LDairyBook$Cow;)Z"⟩
theorem dX2_lambda_account_1_0 : decode cX2_lambda_account_1 0 = .ok (.aload_n 0, 1) := by decide +kernel
theorem dX2_lambda_account_1_1 : decode cX2_lambda_account_1 1 = .ok (.invokevirtual 120, 3) := by decide +kernel
theorem dX2_lambda_account_1_4 : decode cX2_lambda_account_1 4 = .ok (.ireturn, 1) := by decide +kernel
abbrev cX2_lambda_account_2 : ByteArray := prog_6_method_28_code
def yX2_lambda_account_2 : MethodName := ⟨RX2, "lambda$account$2", "(LDairyBook$Cow;)Z"⟩
theorem dX2_lambda_account_2_0 : decode cX2_lambda_account_2 0 = .ok (.aload_n 0, 1) := by decide +kernel
theorem dX2_lambda_account_2_1 : decode cX2_lambda_account_2 1 = .ok (.invokevirtual 117, 3) := by decide +kernel
theorem dX2_lambda_account_2_4 : decode cX2_lambda_account_2 4 = .ok (.ireturn, 1) := by decide +kernel
abbrev cX2_lambda_account_3 : ByteArray := prog_6_method_27_code
def yX2_lambda_account_3 : MethodName := ⟨RX2, "lambda$account$3", "(LDairyBook$Cow;)I"⟩
theorem dX2_lambda_account_3_0 : decode cX2_lambda_account_3 0 = .ok (.aload_n 0, 1) := by decide +kernel
theorem dX2_lambda_account_3_1 : decode cX2_lambda_account_3 1 = .ok (.getfield 170, 3) := by decide +kernel
theorem dX2_lambda_account_3_4 : decode cX2_lambda_account_3 4 = .ok (.ireturn, 1) := by decide +kernel
abbrev cX2_sum : ByteArray := prog_6_method_4_code
def yX2_sum : MethodName := ⟨RX2, "sum", "(LDairyBook$Measure;)I"⟩
def dkwX2_sum_2 : List UInt8 := [28, 172]
abbrev dktX2_sum_2 : List UInt8 := dkwX2_sum_2 ++ []
def dkwX2_sum_1 : List UInt8 := [185, 0, 48, 1, 0, 192, 0, 52, 58, 4, 28, 43, 25, 4, 185, 0, 91, 2, 0, 96, 61, 167, 255, 225]
abbrev dktX2_sum_1 : List UInt8 := dkwX2_sum_1 ++ dktX2_sum_2
def dkwX2_sum_0 : List UInt8 := [3, 61, 42, 180, 0, 12, 182, 0, 38, 78, 45, 185, 0, 42, 1, 0, 153, 0, 28, 45]
abbrev dktX2_sum_0 : List UInt8 := dkwX2_sum_0 ++ dktX2_sum_1
theorem dksX2_sum_0 : cX2_sum.data.toList.drop 0 = dktX2_sum_0 := by decide +kernel
theorem dksX2_sum_1 : cX2_sum.data.toList.drop 20 = dktX2_sum_1 := dk_seg dksX2_sum_0 20 rfl rfl
theorem dksX2_sum_2 : cX2_sum.data.toList.drop 44 = dktX2_sum_2 := dk_seg dksX2_sum_1 24 rfl rfl
theorem dX2_sum_0 : decode cX2_sum 0 = .ok (.iconst 0, 1) := dk_3 (dk_at dksX2_sum_0 0 rfl rfl)
theorem dX2_sum_1 : decode cX2_sum 1 = .ok (.istore_n 2, 1) := dk_61 (dk_at dksX2_sum_0 1 rfl rfl)
theorem dX2_sum_2 : decode cX2_sum 2 = .ok (.aload_n 0, 1) := dk_42 (dk_at dksX2_sum_0 2 rfl rfl)
theorem dX2_sum_3 : decode cX2_sum 3 = .ok (.getfield 12, 3) := dk_180 0 12 (dk_at dksX2_sum_0 3 rfl rfl)
theorem dX2_sum_6 : decode cX2_sum 6 = .ok (.invokevirtual 38, 3) := dk_182 0 38 (dk_at dksX2_sum_0 6 rfl rfl)
theorem dX2_sum_9 : decode cX2_sum 9 = .ok (.astore_n 3, 1) := dk_78 (dk_at dksX2_sum_0 9 rfl rfl)
theorem dX2_sum_10 : decode cX2_sum 10 = .ok (.aload_n 3, 1) := dk_45 (dk_at dksX2_sum_0 10 rfl rfl)
theorem dX2_sum_11 : decode cX2_sum 11 = .ok (.invokeinterface 42 1, 5) := by decide +kernel
theorem dX2_sum_16 : decode cX2_sum 16 = .ok (.ifCond .eq 28, 3) := dk_153 0 28 (dk_at dksX2_sum_0 16 rfl rfl)
theorem dX2_sum_19 : decode cX2_sum 19 = .ok (.aload_n 3, 1) := dk_45 (dk_at dksX2_sum_0 19 rfl rfl)
theorem dX2_sum_20 : decode cX2_sum 20 = .ok (.invokeinterface 48 1, 5) := by decide +kernel
theorem dX2_sum_25 : decode cX2_sum 25 = .ok (.checkcast 52, 3) := dk_192 0 52 (dk_at dksX2_sum_1 5 rfl rfl)
theorem dX2_sum_28 : decode cX2_sum 28 = .ok (.astore 4, 2) := dk_58 4 (dk_at dksX2_sum_1 8 rfl rfl)
theorem dX2_sum_30 : decode cX2_sum 30 = .ok (.iload_n 2, 1) := dk_28 (dk_at dksX2_sum_1 10 rfl rfl)
theorem dX2_sum_31 : decode cX2_sum 31 = .ok (.aload_n 1, 1) := dk_43 (dk_at dksX2_sum_1 11 rfl rfl)
theorem dX2_sum_32 : decode cX2_sum 32 = .ok (.aload 4, 2) := dk_25 4 (dk_at dksX2_sum_1 12 rfl rfl)
theorem dX2_sum_34 : decode cX2_sum 34 = .ok (.invokeinterface 91 2, 5) := by decide +kernel
theorem dX2_sum_39 : decode cX2_sum 39 = .ok (.iadd, 1) := dk_96 (dk_at dksX2_sum_1 19 rfl rfl)
theorem dX2_sum_40 : decode cX2_sum 40 = .ok (.istore_n 2, 1) := dk_61 (dk_at dksX2_sum_1 20 rfl rfl)
theorem dX2_sum_41 : decode cX2_sum 41 = .ok (.goto (-31), 3) := dk_167 255 225 (dk_at dksX2_sum_1 21 rfl rfl)
theorem dX2_sum_44 : decode cX2_sum 44 = .ok (.iload_n 2, 1) := dk_28 (dk_at dksX2_sum_2 0 rfl rfl)
theorem dX2_sum_45 : decode cX2_sum 45 = .ok (.ireturn, 1) := dk_172 (dk_at dksX2_sum_2 1 rfl rfl)
abbrev cX2_lambda_account_4 : ByteArray := prog_6_method_26_code
def yX2_lambda_account_4 : MethodName := ⟨RX2, "lambda$account$4", "(LDairyBook$Cow;)I"⟩
theorem dX2_lambda_account_4_0 : decode cX2_lambda_account_4 0 = .ok (.aload_n 0, 1) := by decide +kernel
theorem dX2_lambda_account_4_1 : decode cX2_lambda_account_4 1 = .ok (.getfield 176, 3) := by decide +kernel
theorem dX2_lambda_account_4_4 : decode cX2_lambda_account_4 4 = .ok (.ireturn, 1) := by decide +kernel
abbrev cX2_lambda_account_5 : ByteArray := prog_6_method_25_code
def yX2_lambda_account_5 : MethodName := ⟨RX2, "lambda$account$5", "(LDairyBook$Cow;)I"⟩
def dkwX2_lambda_account_5_0 : List UInt8 := [42, 180, 0, 170, 42, 180, 0, 176, 100, 172]
abbrev dktX2_lambda_account_5_0 : List UInt8 := dkwX2_lambda_account_5_0 ++ []
theorem dksX2_lambda_account_5_0 : cX2_lambda_account_5.data.toList.drop 0 = dktX2_lambda_account_5_0 := by decide +kernel
theorem dX2_lambda_account_5_0 : decode cX2_lambda_account_5 0 = .ok (.aload_n 0, 1) := dk_42 (dk_at dksX2_lambda_account_5_0 0 rfl rfl)
theorem dX2_lambda_account_5_1 : decode cX2_lambda_account_5 1 = .ok (.getfield 170, 3) := dk_180 0 170 (dk_at dksX2_lambda_account_5_0 1 rfl rfl)
theorem dX2_lambda_account_5_4 : decode cX2_lambda_account_5 4 = .ok (.aload_n 0, 1) := dk_42 (dk_at dksX2_lambda_account_5_0 4 rfl rfl)
theorem dX2_lambda_account_5_5 : decode cX2_lambda_account_5 5 = .ok (.getfield 176, 3) := dk_180 0 176 (dk_at dksX2_lambda_account_5_0 5 rfl rfl)
theorem dX2_lambda_account_5_8 : decode cX2_lambda_account_5 8 = .ok (.isub, 1) := dk_100 (dk_at dksX2_lambda_account_5_0 8 rfl rfl)
theorem dX2_lambda_account_5_9 : decode cX2_lambda_account_5 9 = .ok (.ireturn, 1) := dk_172 (dk_at dksX2_lambda_account_5_0 9 rfl rfl)
abbrev cX2_refusesBonus : ByteArray := prog_6_method_11_code
def yX2_refusesBonus : MethodName := ⟨RX2, "refusesBonus", "(II)I"⟩
def dkwX2_refusesBonus_1 : List UInt8 := [180, 0, 18, 182, 0, 97, 7, 160, 0, 15, 42, 27, 182, 0, 132, 156, 0, 7, 8, 167, 0, 4, 3, 172]
abbrev dktX2_refusesBonus_1 : List UInt8 := dkwX2_refusesBonus_1 ++ []
def dkwX2_refusesBonus_0 : List UInt8 := [27, 3, 17, 3, 231, 184, 0, 101, 153, 0, 13, 28, 3, 16, 20, 184, 0, 101, 154, 0, 5, 8, 172, 42]
abbrev dktX2_refusesBonus_0 : List UInt8 := dkwX2_refusesBonus_0 ++ dktX2_refusesBonus_1
theorem dksX2_refusesBonus_0 : cX2_refusesBonus.data.toList.drop 0 = dktX2_refusesBonus_0 := by decide +kernel
theorem dksX2_refusesBonus_1 : cX2_refusesBonus.data.toList.drop 24 = dktX2_refusesBonus_1 := dk_seg dksX2_refusesBonus_0 24 rfl rfl
theorem dX2_refusesBonus_0 : decode cX2_refusesBonus 0 = .ok (.iload_n 1, 1) := dk_27 (dk_at dksX2_refusesBonus_0 0 rfl rfl)
theorem dX2_refusesBonus_1 : decode cX2_refusesBonus 1 = .ok (.iconst 0, 1) := dk_3 (dk_at dksX2_refusesBonus_0 1 rfl rfl)
theorem dX2_refusesBonus_2 : decode cX2_refusesBonus 2 = .ok (.sipush 999, 3) := dk_17 3 231 (dk_at dksX2_refusesBonus_0 2 rfl rfl)
theorem dX2_refusesBonus_5 : decode cX2_refusesBonus 5 = .ok (.invokestatic 101, 3) := dk_184 0 101 (dk_at dksX2_refusesBonus_0 5 rfl rfl)
theorem dX2_refusesBonus_8 : decode cX2_refusesBonus 8 = .ok (.ifCond .eq 13, 3) := dk_153 0 13 (dk_at dksX2_refusesBonus_0 8 rfl rfl)
theorem dX2_refusesBonus_11 : decode cX2_refusesBonus 11 = .ok (.iload_n 2, 1) := dk_28 (dk_at dksX2_refusesBonus_0 11 rfl rfl)
theorem dX2_refusesBonus_12 : decode cX2_refusesBonus 12 = .ok (.iconst 0, 1) := dk_3 (dk_at dksX2_refusesBonus_0 12 rfl rfl)
theorem dX2_refusesBonus_13 : decode cX2_refusesBonus 13 = .ok (.bipush 20, 2) := dk_16 20 (dk_at dksX2_refusesBonus_0 13 rfl rfl)
theorem dX2_refusesBonus_15 : decode cX2_refusesBonus 15 = .ok (.invokestatic 101, 3) := dk_184 0 101 (dk_at dksX2_refusesBonus_0 15 rfl rfl)
theorem dX2_refusesBonus_18 : decode cX2_refusesBonus 18 = .ok (.ifCond .ne 5, 3) := dk_154 0 5 (dk_at dksX2_refusesBonus_0 18 rfl rfl)
theorem dX2_refusesBonus_21 : decode cX2_refusesBonus 21 = .ok (.iconst 5, 1) := dk_8 (dk_at dksX2_refusesBonus_0 21 rfl rfl)
theorem dX2_refusesBonus_22 : decode cX2_refusesBonus 22 = .ok (.ireturn, 1) := dk_172 (dk_at dksX2_refusesBonus_0 22 rfl rfl)
theorem dX2_refusesBonus_23 : decode cX2_refusesBonus 23 = .ok (.aload_n 0, 1) := dk_42 (dk_at dksX2_refusesBonus_0 23 rfl rfl)
theorem dX2_refusesBonus_24 : decode cX2_refusesBonus 24 = .ok (.getfield 18, 3) := dk_180 0 18 (dk_at dksX2_refusesBonus_1 0 rfl rfl)
theorem dX2_refusesBonus_27 : decode cX2_refusesBonus 27 = .ok (.invokevirtual 97, 3) := dk_182 0 97 (dk_at dksX2_refusesBonus_1 3 rfl rfl)
theorem dX2_refusesBonus_30 : decode cX2_refusesBonus 30 = .ok (.iconst 4, 1) := dk_7 (dk_at dksX2_refusesBonus_1 6 rfl rfl)
theorem dX2_refusesBonus_31 : decode cX2_refusesBonus 31 = .ok (.if_icmp .ne 15, 3) := dk_160 0 15 (dk_at dksX2_refusesBonus_1 7 rfl rfl)
theorem dX2_refusesBonus_34 : decode cX2_refusesBonus 34 = .ok (.aload_n 0, 1) := dk_42 (dk_at dksX2_refusesBonus_1 10 rfl rfl)
theorem dX2_refusesBonus_35 : decode cX2_refusesBonus 35 = .ok (.iload_n 1, 1) := dk_27 (dk_at dksX2_refusesBonus_1 11 rfl rfl)
theorem dX2_refusesBonus_36 : decode cX2_refusesBonus 36 = .ok (.invokevirtual 132, 3) := dk_182 0 132 (dk_at dksX2_refusesBonus_1 12 rfl rfl)
theorem dX2_refusesBonus_39 : decode cX2_refusesBonus 39 = .ok (.ifCond .ge 7, 3) := dk_156 0 7 (dk_at dksX2_refusesBonus_1 15 rfl rfl)
theorem dX2_refusesBonus_42 : decode cX2_refusesBonus 42 = .ok (.iconst 5, 1) := dk_8 (dk_at dksX2_refusesBonus_1 18 rfl rfl)
theorem dX2_refusesBonus_43 : decode cX2_refusesBonus 43 = .ok (.goto 4, 3) := dk_167 0 4 (dk_at dksX2_refusesBonus_1 19 rfl rfl)
theorem dX2_refusesBonus_46 : decode cX2_refusesBonus 46 = .ok (.iconst 0, 1) := dk_3 (dk_at dksX2_refusesBonus_1 22 rfl rfl)
theorem dX2_refusesBonus_47 : decode cX2_refusesBonus 47 = .ok (.ireturn, 1) := dk_172 (dk_at dksX2_refusesBonus_1 23 rfl rfl)
abbrev cX2_rowOf : ByteArray := prog_6_method_10_code
def yX2_rowOf : MethodName := ⟨RX2, "rowOf", "(I)I"⟩
def dkwX2_rowOf_3 : List UInt8 := [100, 172]
abbrev dktX2_rowOf_3 : List UInt8 := dkwX2_rowOf_3 ++ []
def dkwX2_rowOf_2 : List UInt8 := [42, 180, 0, 18, 28, 182, 0, 105, 192, 0, 127, 180, 0, 129, 27, 160, 0, 7, 28, 167, 0, 6, 2, 28]
abbrev dktX2_rowOf_2 : List UInt8 := dkwX2_rowOf_2 ++ dktX2_rowOf_3
def dkwX2_rowOf_1 : List UInt8 := [180, 0, 129, 27, 162, 0, 9, 132, 2, 1, 167, 255, 224, 28, 42, 180, 0, 18, 182, 0, 97, 162, 0, 25]
abbrev dktX2_rowOf_1 : List UInt8 := dkwX2_rowOf_1 ++ dktX2_rowOf_2
def dkwX2_rowOf_0 : List UInt8 := [3, 61, 28, 42, 180, 0, 18, 182, 0, 97, 162, 0, 27, 42, 180, 0, 18, 28, 182, 0, 105, 192, 0, 127]
abbrev dktX2_rowOf_0 : List UInt8 := dkwX2_rowOf_0 ++ dktX2_rowOf_1
theorem dksX2_rowOf_0 : cX2_rowOf.data.toList.drop 0 = dktX2_rowOf_0 := by decide +kernel
theorem dksX2_rowOf_1 : cX2_rowOf.data.toList.drop 24 = dktX2_rowOf_1 := dk_seg dksX2_rowOf_0 24 rfl rfl
theorem dksX2_rowOf_2 : cX2_rowOf.data.toList.drop 48 = dktX2_rowOf_2 := dk_seg dksX2_rowOf_1 24 rfl rfl
theorem dksX2_rowOf_3 : cX2_rowOf.data.toList.drop 72 = dktX2_rowOf_3 := dk_seg dksX2_rowOf_2 24 rfl rfl
theorem dX2_rowOf_0 : decode cX2_rowOf 0 = .ok (.iconst 0, 1) := dk_3 (dk_at dksX2_rowOf_0 0 rfl rfl)
theorem dX2_rowOf_1 : decode cX2_rowOf 1 = .ok (.istore_n 2, 1) := dk_61 (dk_at dksX2_rowOf_0 1 rfl rfl)
theorem dX2_rowOf_2 : decode cX2_rowOf 2 = .ok (.iload_n 2, 1) := dk_28 (dk_at dksX2_rowOf_0 2 rfl rfl)
theorem dX2_rowOf_3 : decode cX2_rowOf 3 = .ok (.aload_n 0, 1) := dk_42 (dk_at dksX2_rowOf_0 3 rfl rfl)
theorem dX2_rowOf_4 : decode cX2_rowOf 4 = .ok (.getfield 18, 3) := dk_180 0 18 (dk_at dksX2_rowOf_0 4 rfl rfl)
theorem dX2_rowOf_7 : decode cX2_rowOf 7 = .ok (.invokevirtual 97, 3) := dk_182 0 97 (dk_at dksX2_rowOf_0 7 rfl rfl)
theorem dX2_rowOf_10 : decode cX2_rowOf 10 = .ok (.if_icmp .ge 27, 3) := dk_162 0 27 (dk_at dksX2_rowOf_0 10 rfl rfl)
theorem dX2_rowOf_13 : decode cX2_rowOf 13 = .ok (.aload_n 0, 1) := dk_42 (dk_at dksX2_rowOf_0 13 rfl rfl)
theorem dX2_rowOf_14 : decode cX2_rowOf 14 = .ok (.getfield 18, 3) := dk_180 0 18 (dk_at dksX2_rowOf_0 14 rfl rfl)
theorem dX2_rowOf_17 : decode cX2_rowOf 17 = .ok (.iload_n 2, 1) := dk_28 (dk_at dksX2_rowOf_0 17 rfl rfl)
theorem dX2_rowOf_18 : decode cX2_rowOf 18 = .ok (.invokevirtual 105, 3) := dk_182 0 105 (dk_at dksX2_rowOf_0 18 rfl rfl)
theorem dX2_rowOf_21 : decode cX2_rowOf 21 = .ok (.checkcast 127, 3) := dk_192 0 127 (dk_at dksX2_rowOf_0 21 rfl rfl)
theorem dX2_rowOf_24 : decode cX2_rowOf 24 = .ok (.getfield 129, 3) := dk_180 0 129 (dk_at dksX2_rowOf_1 0 rfl rfl)
theorem dX2_rowOf_27 : decode cX2_rowOf 27 = .ok (.iload_n 1, 1) := dk_27 (dk_at dksX2_rowOf_1 3 rfl rfl)
theorem dX2_rowOf_28 : decode cX2_rowOf 28 = .ok (.if_icmp .ge 9, 3) := dk_162 0 9 (dk_at dksX2_rowOf_1 4 rfl rfl)
theorem dX2_rowOf_31 : decode cX2_rowOf 31 = .ok (.iinc 2 1, 3) := dk_132 2 1 (dk_at dksX2_rowOf_1 7 rfl rfl)
theorem dX2_rowOf_34 : decode cX2_rowOf 34 = .ok (.goto (-32), 3) := dk_167 255 224 (dk_at dksX2_rowOf_1 10 rfl rfl)
theorem dX2_rowOf_37 : decode cX2_rowOf 37 = .ok (.iload_n 2, 1) := dk_28 (dk_at dksX2_rowOf_1 13 rfl rfl)
theorem dX2_rowOf_38 : decode cX2_rowOf 38 = .ok (.aload_n 0, 1) := dk_42 (dk_at dksX2_rowOf_1 14 rfl rfl)
theorem dX2_rowOf_39 : decode cX2_rowOf 39 = .ok (.getfield 18, 3) := dk_180 0 18 (dk_at dksX2_rowOf_1 15 rfl rfl)
theorem dX2_rowOf_42 : decode cX2_rowOf 42 = .ok (.invokevirtual 97, 3) := dk_182 0 97 (dk_at dksX2_rowOf_1 18 rfl rfl)
theorem dX2_rowOf_45 : decode cX2_rowOf 45 = .ok (.if_icmp .ge 25, 3) := dk_162 0 25 (dk_at dksX2_rowOf_1 21 rfl rfl)
theorem dX2_rowOf_48 : decode cX2_rowOf 48 = .ok (.aload_n 0, 1) := dk_42 (dk_at dksX2_rowOf_2 0 rfl rfl)
theorem dX2_rowOf_49 : decode cX2_rowOf 49 = .ok (.getfield 18, 3) := dk_180 0 18 (dk_at dksX2_rowOf_2 1 rfl rfl)
theorem dX2_rowOf_52 : decode cX2_rowOf 52 = .ok (.iload_n 2, 1) := dk_28 (dk_at dksX2_rowOf_2 4 rfl rfl)
theorem dX2_rowOf_53 : decode cX2_rowOf 53 = .ok (.invokevirtual 105, 3) := dk_182 0 105 (dk_at dksX2_rowOf_2 5 rfl rfl)
theorem dX2_rowOf_56 : decode cX2_rowOf 56 = .ok (.checkcast 127, 3) := dk_192 0 127 (dk_at dksX2_rowOf_2 8 rfl rfl)
theorem dX2_rowOf_59 : decode cX2_rowOf 59 = .ok (.getfield 129, 3) := dk_180 0 129 (dk_at dksX2_rowOf_2 11 rfl rfl)
theorem dX2_rowOf_62 : decode cX2_rowOf 62 = .ok (.iload_n 1, 1) := dk_27 (dk_at dksX2_rowOf_2 14 rfl rfl)
theorem dX2_rowOf_63 : decode cX2_rowOf 63 = .ok (.if_icmp .ne 7, 3) := dk_160 0 7 (dk_at dksX2_rowOf_2 15 rfl rfl)
theorem dX2_rowOf_66 : decode cX2_rowOf 66 = .ok (.iload_n 2, 1) := dk_28 (dk_at dksX2_rowOf_2 18 rfl rfl)
theorem dX2_rowOf_67 : decode cX2_rowOf 67 = .ok (.goto 6, 3) := dk_167 0 6 (dk_at dksX2_rowOf_2 19 rfl rfl)
theorem dX2_rowOf_70 : decode cX2_rowOf 70 = .ok (.iconst (-1), 1) := dk_2 (dk_at dksX2_rowOf_2 22 rfl rfl)
theorem dX2_rowOf_71 : decode cX2_rowOf 71 = .ok (.iload_n 2, 1) := dk_28 (dk_at dksX2_rowOf_2 23 rfl rfl)
theorem dX2_rowOf_72 : decode cX2_rowOf 72 = .ok (.isub, 1) := dk_100 (dk_at dksX2_rowOf_3 0 rfl rfl)
theorem dX2_rowOf_73 : decode cX2_rowOf 73 = .ok (.ireturn, 1) := dk_172 (dk_at dksX2_rowOf_3 1 rfl rfl)
abbrev cX2_setBonus : ByteArray := prog_6_method_15_code
def yX2_setBonus : MethodName := ⟨RX2, "setBonus", "(II)V"⟩
def dkwX2_setBonus_2 : List UInt8 := [182, 0, 160, 177]
abbrev dktX2_setBonus_2 : List UInt8 := dkwX2_setBonus_2 ++ []
def dkwX2_setBonus_1 : List UInt8 := [182, 0, 156, 87, 167, 0, 22, 42, 180, 0, 18, 2, 29, 100, 187, 0, 127, 89, 27, 28, 183, 0, 153]
abbrev dktX2_setBonus_1 : List UInt8 := dkwX2_setBonus_1 ++ dktX2_setBonus_2
def dkwX2_setBonus_0 : List UInt8 := [42, 27, 182, 0, 132, 62, 29, 155, 0, 24, 42, 180, 0, 18, 29, 187, 0, 127, 89, 27, 28, 183, 0, 153]
abbrev dktX2_setBonus_0 : List UInt8 := dkwX2_setBonus_0 ++ dktX2_setBonus_1
theorem dksX2_setBonus_0 : cX2_setBonus.data.toList.drop 0 = dktX2_setBonus_0 := by decide +kernel
theorem dksX2_setBonus_1 : cX2_setBonus.data.toList.drop 24 = dktX2_setBonus_1 := dk_seg dksX2_setBonus_0 24 rfl rfl
theorem dksX2_setBonus_2 : cX2_setBonus.data.toList.drop 47 = dktX2_setBonus_2 := dk_seg dksX2_setBonus_1 23 rfl rfl
theorem dX2_setBonus_0 : decode cX2_setBonus 0 = .ok (.aload_n 0, 1) := dk_42 (dk_at dksX2_setBonus_0 0 rfl rfl)
theorem dX2_setBonus_1 : decode cX2_setBonus 1 = .ok (.iload_n 1, 1) := dk_27 (dk_at dksX2_setBonus_0 1 rfl rfl)
theorem dX2_setBonus_2 : decode cX2_setBonus 2 = .ok (.invokevirtual 132, 3) := dk_182 0 132 (dk_at dksX2_setBonus_0 2 rfl rfl)
theorem dX2_setBonus_5 : decode cX2_setBonus 5 = .ok (.istore_n 3, 1) := dk_62 (dk_at dksX2_setBonus_0 5 rfl rfl)
theorem dX2_setBonus_6 : decode cX2_setBonus 6 = .ok (.iload_n 3, 1) := dk_29 (dk_at dksX2_setBonus_0 6 rfl rfl)
theorem dX2_setBonus_7 : decode cX2_setBonus 7 = .ok (.ifCond .lt 24, 3) := dk_155 0 24 (dk_at dksX2_setBonus_0 7 rfl rfl)
theorem dX2_setBonus_10 : decode cX2_setBonus 10 = .ok (.aload_n 0, 1) := dk_42 (dk_at dksX2_setBonus_0 10 rfl rfl)
theorem dX2_setBonus_11 : decode cX2_setBonus 11 = .ok (.getfield 18, 3) := dk_180 0 18 (dk_at dksX2_setBonus_0 11 rfl rfl)
theorem dX2_setBonus_14 : decode cX2_setBonus 14 = .ok (.iload_n 3, 1) := dk_29 (dk_at dksX2_setBonus_0 14 rfl rfl)
theorem dX2_setBonus_15 : decode cX2_setBonus 15 = .ok (.new 127, 3) := dk_187 0 127 (dk_at dksX2_setBonus_0 15 rfl rfl)
theorem dX2_setBonus_18 : decode cX2_setBonus 18 = .ok (.dup, 1) := dk_89 (dk_at dksX2_setBonus_0 18 rfl rfl)
theorem dX2_setBonus_19 : decode cX2_setBonus 19 = .ok (.iload_n 1, 1) := dk_27 (dk_at dksX2_setBonus_0 19 rfl rfl)
theorem dX2_setBonus_20 : decode cX2_setBonus 20 = .ok (.iload_n 2, 1) := dk_28 (dk_at dksX2_setBonus_0 20 rfl rfl)
theorem dX2_setBonus_21 : decode cX2_setBonus 21 = .ok (.invokespecial 153, 3) := dk_183 0 153 (dk_at dksX2_setBonus_0 21 rfl rfl)
theorem dX2_setBonus_24 : decode cX2_setBonus 24 = .ok (.invokevirtual 156, 3) := dk_182 0 156 (dk_at dksX2_setBonus_1 0 rfl rfl)
theorem dX2_setBonus_27 : decode cX2_setBonus 27 = .ok (.pop, 1) := dk_87 (dk_at dksX2_setBonus_1 3 rfl rfl)
theorem dX2_setBonus_28 : decode cX2_setBonus 28 = .ok (.goto 22, 3) := dk_167 0 22 (dk_at dksX2_setBonus_1 4 rfl rfl)
theorem dX2_setBonus_31 : decode cX2_setBonus 31 = .ok (.aload_n 0, 1) := dk_42 (dk_at dksX2_setBonus_1 7 rfl rfl)
theorem dX2_setBonus_32 : decode cX2_setBonus 32 = .ok (.getfield 18, 3) := dk_180 0 18 (dk_at dksX2_setBonus_1 8 rfl rfl)
theorem dX2_setBonus_35 : decode cX2_setBonus 35 = .ok (.iconst (-1), 1) := dk_2 (dk_at dksX2_setBonus_1 11 rfl rfl)
theorem dX2_setBonus_36 : decode cX2_setBonus 36 = .ok (.iload_n 3, 1) := dk_29 (dk_at dksX2_setBonus_1 12 rfl rfl)
theorem dX2_setBonus_37 : decode cX2_setBonus 37 = .ok (.isub, 1) := dk_100 (dk_at dksX2_setBonus_1 13 rfl rfl)
theorem dX2_setBonus_38 : decode cX2_setBonus 38 = .ok (.new 127, 3) := dk_187 0 127 (dk_at dksX2_setBonus_1 14 rfl rfl)
theorem dX2_setBonus_41 : decode cX2_setBonus 41 = .ok (.dup, 1) := dk_89 (dk_at dksX2_setBonus_1 17 rfl rfl)
theorem dX2_setBonus_42 : decode cX2_setBonus 42 = .ok (.iload_n 1, 1) := dk_27 (dk_at dksX2_setBonus_1 18 rfl rfl)
theorem dX2_setBonus_43 : decode cX2_setBonus 43 = .ok (.iload_n 2, 1) := dk_28 (dk_at dksX2_setBonus_1 19 rfl rfl)
theorem dX2_setBonus_44 : decode cX2_setBonus 44 = .ok (.invokespecial 153, 3) := dk_183 0 153 (dk_at dksX2_setBonus_1 20 rfl rfl)
theorem dX2_setBonus_47 : decode cX2_setBonus 47 = .ok (.invokevirtual 160, 3) := dk_182 0 160 (dk_at dksX2_setBonus_2 0 rfl rfl)
theorem dX2_setBonus_50 : decode cX2_setBonus 50 = .ok (.return_, 1) := dk_177 (dk_at dksX2_setBonus_2 3 rfl rfl)
abbrev cX2_pass : ByteArray := prog_6_method_23_code
def yX2_pass : MethodName := ⟨RX2, "pass", "(I)I"⟩
def dkwX2_pass_0 : List UInt8 := [3, 61, 3, 62, 29, 27, 162, 0, 16, 28, 42, 182, 0, 226, 96, 61, 132, 3, 1, 167, 255, 241, 28, 172]
abbrev dktX2_pass_0 : List UInt8 := dkwX2_pass_0 ++ []
theorem dksX2_pass_0 : cX2_pass.data.toList.drop 0 = dktX2_pass_0 := by decide +kernel
theorem dX2_pass_0 : decode cX2_pass 0 = .ok (.iconst 0, 1) := dk_3 (dk_at dksX2_pass_0 0 rfl rfl)
theorem dX2_pass_1 : decode cX2_pass 1 = .ok (.istore_n 2, 1) := dk_61 (dk_at dksX2_pass_0 1 rfl rfl)
theorem dX2_pass_2 : decode cX2_pass 2 = .ok (.iconst 0, 1) := dk_3 (dk_at dksX2_pass_0 2 rfl rfl)
theorem dX2_pass_3 : decode cX2_pass 3 = .ok (.istore_n 3, 1) := dk_62 (dk_at dksX2_pass_0 3 rfl rfl)
theorem dX2_pass_4 : decode cX2_pass 4 = .ok (.iload_n 3, 1) := dk_29 (dk_at dksX2_pass_0 4 rfl rfl)
theorem dX2_pass_5 : decode cX2_pass 5 = .ok (.iload_n 1, 1) := dk_27 (dk_at dksX2_pass_0 5 rfl rfl)
theorem dX2_pass_6 : decode cX2_pass 6 = .ok (.if_icmp .ge 16, 3) := dk_162 0 16 (dk_at dksX2_pass_0 6 rfl rfl)
theorem dX2_pass_9 : decode cX2_pass 9 = .ok (.iload_n 2, 1) := dk_28 (dk_at dksX2_pass_0 9 rfl rfl)
theorem dX2_pass_10 : decode cX2_pass 10 = .ok (.aload_n 0, 1) := dk_42 (dk_at dksX2_pass_0 10 rfl rfl)
theorem dX2_pass_11 : decode cX2_pass 11 = .ok (.invokevirtual 226, 3) := dk_182 0 226 (dk_at dksX2_pass_0 11 rfl rfl)
theorem dX2_pass_14 : decode cX2_pass 14 = .ok (.iadd, 1) := dk_96 (dk_at dksX2_pass_0 14 rfl rfl)
theorem dX2_pass_15 : decode cX2_pass 15 = .ok (.istore_n 2, 1) := dk_61 (dk_at dksX2_pass_0 15 rfl rfl)
theorem dX2_pass_16 : decode cX2_pass 16 = .ok (.iinc 3 1, 3) := dk_132 3 1 (dk_at dksX2_pass_0 16 rfl rfl)
theorem dX2_pass_19 : decode cX2_pass 19 = .ok (.goto (-15), 3) := dk_167 255 241 (dk_at dksX2_pass_0 19 rfl rfl)
theorem dX2_pass_22 : decode cX2_pass 22 = .ok (.iload_n 2, 1) := dk_28 (dk_at dksX2_pass_0 22 rfl rfl)
theorem dX2_pass_23 : decode cX2_pass 23 = .ok (.ireturn, 1) := dk_172 (dk_at dksX2_pass_0 23 rfl rfl)
abbrev cX2_day : ByteArray := prog_6_method_22_code
def yX2_day : MethodName := ⟨RX2, "day", "()I"⟩
def dkwX2_day_7 : List UInt8 := [28, 172]
abbrev dktX2_day_7 : List UInt8 := dkwX2_day_7 ++ []
def dkwX2_day_6 : List UInt8 := [60, 27, 153, 0, 10, 42, 182, 0, 223, 167, 0, 4, 3, 61, 42, 89, 180, 0, 75, 4, 96, 181, 0, 75]
abbrev dktX2_day_6 : List UInt8 := dkwX2_day_6 ++ dktX2_day_7
def dkwX2_day_5 : List UInt8 := [180, 0, 31, 5, 46, 112, 154, 0, 17, 42, 180, 0, 27, 180, 0, 194, 158, 0, 7, 4, 167, 0, 4, 3]
abbrev dktX2_day_5 : List UInt8 := dkwX2_day_5 ++ dktX2_day_6
def dkwX2_day_4 : List UInt8 := [185, 0, 48, 1, 0, 192, 0, 52, 77, 42, 44, 182, 0, 220, 167, 255, 232, 42, 180, 0, 75, 4, 96, 42]
abbrev dktX2_day_4 : List UInt8 := dkwX2_day_4 ++ dktX2_day_5
def dkwX2_day_3 : List UInt8 := [167, 255, 232, 42, 180, 0, 12, 182, 0, 38, 76, 43, 185, 0, 42, 1, 0, 153, 0, 21, 43]
abbrev dktX2_day_3 : List UInt8 := dkwX2_day_3 ++ dktX2_day_4
def dkwX2_day_2 : List UInt8 := [185, 0, 42, 1, 0, 153, 0, 21, 43, 185, 0, 48, 1, 0, 192, 0, 52, 77, 42, 44, 182, 0, 217]
abbrev dktX2_day_2 : List UInt8 := dkwX2_day_2 ++ dktX2_day_3
def dkwX2_day_1 : List UInt8 := [192, 0, 52, 77, 42, 44, 182, 0, 214, 167, 255, 232, 42, 180, 0, 12, 182, 0, 38, 76, 43]
abbrev dktX2_day_1 : List UInt8 := dkwX2_day_1 ++ dktX2_day_2
def dkwX2_day_0 : List UInt8 := [42, 180, 0, 12, 182, 0, 38, 76, 43, 185, 0, 42, 1, 0, 153, 0, 21, 43, 185, 0, 48, 1, 0]
abbrev dktX2_day_0 : List UInt8 := dkwX2_day_0 ++ dktX2_day_1
theorem dksX2_day_0 : cX2_day.data.toList.drop 0 = dktX2_day_0 := by decide +kernel
theorem dksX2_day_1 : cX2_day.data.toList.drop 23 = dktX2_day_1 := dk_seg dksX2_day_0 23 rfl rfl
theorem dksX2_day_2 : cX2_day.data.toList.drop 44 = dktX2_day_2 := dk_seg dksX2_day_1 21 rfl rfl
theorem dksX2_day_3 : cX2_day.data.toList.drop 67 = dktX2_day_3 := dk_seg dksX2_day_2 23 rfl rfl
theorem dksX2_day_4 : cX2_day.data.toList.drop 88 = dktX2_day_4 := dk_seg dksX2_day_3 21 rfl rfl
theorem dksX2_day_5 : cX2_day.data.toList.drop 112 = dktX2_day_5 := dk_seg dksX2_day_4 24 rfl rfl
theorem dksX2_day_6 : cX2_day.data.toList.drop 136 = dktX2_day_6 := dk_seg dksX2_day_5 24 rfl rfl
theorem dksX2_day_7 : cX2_day.data.toList.drop 160 = dktX2_day_7 := dk_seg dksX2_day_6 24 rfl rfl
theorem dX2_day_0 : decode cX2_day 0 = .ok (.aload_n 0, 1) := dk_42 (dk_at dksX2_day_0 0 rfl rfl)
theorem dX2_day_1 : decode cX2_day 1 = .ok (.getfield 12, 3) := dk_180 0 12 (dk_at dksX2_day_0 1 rfl rfl)
theorem dX2_day_4 : decode cX2_day 4 = .ok (.invokevirtual 38, 3) := dk_182 0 38 (dk_at dksX2_day_0 4 rfl rfl)
theorem dX2_day_7 : decode cX2_day 7 = .ok (.astore_n 1, 1) := dk_76 (dk_at dksX2_day_0 7 rfl rfl)
theorem dX2_day_8 : decode cX2_day 8 = .ok (.aload_n 1, 1) := dk_43 (dk_at dksX2_day_0 8 rfl rfl)
theorem dX2_day_9 : decode cX2_day 9 = .ok (.invokeinterface 42 1, 5) := by decide +kernel
theorem dX2_day_14 : decode cX2_day 14 = .ok (.ifCond .eq 21, 3) := dk_153 0 21 (dk_at dksX2_day_0 14 rfl rfl)
theorem dX2_day_17 : decode cX2_day 17 = .ok (.aload_n 1, 1) := dk_43 (dk_at dksX2_day_0 17 rfl rfl)
theorem dX2_day_18 : decode cX2_day 18 = .ok (.invokeinterface 48 1, 5) := by decide +kernel
theorem dX2_day_23 : decode cX2_day 23 = .ok (.checkcast 52, 3) := dk_192 0 52 (dk_at dksX2_day_1 0 rfl rfl)
theorem dX2_day_26 : decode cX2_day 26 = .ok (.astore_n 2, 1) := dk_77 (dk_at dksX2_day_1 3 rfl rfl)
theorem dX2_day_27 : decode cX2_day 27 = .ok (.aload_n 0, 1) := dk_42 (dk_at dksX2_day_1 4 rfl rfl)
theorem dX2_day_28 : decode cX2_day 28 = .ok (.aload_n 2, 1) := dk_44 (dk_at dksX2_day_1 5 rfl rfl)
theorem dX2_day_29 : decode cX2_day 29 = .ok (.invokevirtual 214, 3) := dk_182 0 214 (dk_at dksX2_day_1 6 rfl rfl)
theorem dX2_day_32 : decode cX2_day 32 = .ok (.goto (-24), 3) := dk_167 255 232 (dk_at dksX2_day_1 9 rfl rfl)
theorem dX2_day_35 : decode cX2_day 35 = .ok (.aload_n 0, 1) := dk_42 (dk_at dksX2_day_1 12 rfl rfl)
theorem dX2_day_36 : decode cX2_day 36 = .ok (.getfield 12, 3) := dk_180 0 12 (dk_at dksX2_day_1 13 rfl rfl)
theorem dX2_day_39 : decode cX2_day 39 = .ok (.invokevirtual 38, 3) := dk_182 0 38 (dk_at dksX2_day_1 16 rfl rfl)
theorem dX2_day_42 : decode cX2_day 42 = .ok (.astore_n 1, 1) := dk_76 (dk_at dksX2_day_1 19 rfl rfl)
theorem dX2_day_43 : decode cX2_day 43 = .ok (.aload_n 1, 1) := dk_43 (dk_at dksX2_day_1 20 rfl rfl)
theorem dX2_day_44 : decode cX2_day 44 = .ok (.invokeinterface 42 1, 5) := by decide +kernel
theorem dX2_day_49 : decode cX2_day 49 = .ok (.ifCond .eq 21, 3) := dk_153 0 21 (dk_at dksX2_day_2 5 rfl rfl)
theorem dX2_day_52 : decode cX2_day 52 = .ok (.aload_n 1, 1) := dk_43 (dk_at dksX2_day_2 8 rfl rfl)
theorem dX2_day_53 : decode cX2_day 53 = .ok (.invokeinterface 48 1, 5) := by decide +kernel
theorem dX2_day_58 : decode cX2_day 58 = .ok (.checkcast 52, 3) := dk_192 0 52 (dk_at dksX2_day_2 14 rfl rfl)
theorem dX2_day_61 : decode cX2_day 61 = .ok (.astore_n 2, 1) := dk_77 (dk_at dksX2_day_2 17 rfl rfl)
theorem dX2_day_62 : decode cX2_day 62 = .ok (.aload_n 0, 1) := dk_42 (dk_at dksX2_day_2 18 rfl rfl)
theorem dX2_day_63 : decode cX2_day 63 = .ok (.aload_n 2, 1) := dk_44 (dk_at dksX2_day_2 19 rfl rfl)
theorem dX2_day_64 : decode cX2_day 64 = .ok (.invokevirtual 217, 3) := dk_182 0 217 (dk_at dksX2_day_2 20 rfl rfl)
theorem dX2_day_67 : decode cX2_day 67 = .ok (.goto (-24), 3) := dk_167 255 232 (dk_at dksX2_day_3 0 rfl rfl)
theorem dX2_day_70 : decode cX2_day 70 = .ok (.aload_n 0, 1) := dk_42 (dk_at dksX2_day_3 3 rfl rfl)
theorem dX2_day_71 : decode cX2_day 71 = .ok (.getfield 12, 3) := dk_180 0 12 (dk_at dksX2_day_3 4 rfl rfl)
theorem dX2_day_74 : decode cX2_day 74 = .ok (.invokevirtual 38, 3) := dk_182 0 38 (dk_at dksX2_day_3 7 rfl rfl)
theorem dX2_day_77 : decode cX2_day 77 = .ok (.astore_n 1, 1) := dk_76 (dk_at dksX2_day_3 10 rfl rfl)
theorem dX2_day_78 : decode cX2_day 78 = .ok (.aload_n 1, 1) := dk_43 (dk_at dksX2_day_3 11 rfl rfl)
theorem dX2_day_79 : decode cX2_day 79 = .ok (.invokeinterface 42 1, 5) := by decide +kernel
theorem dX2_day_84 : decode cX2_day 84 = .ok (.ifCond .eq 21, 3) := dk_153 0 21 (dk_at dksX2_day_3 17 rfl rfl)
theorem dX2_day_87 : decode cX2_day 87 = .ok (.aload_n 1, 1) := dk_43 (dk_at dksX2_day_3 20 rfl rfl)
theorem dX2_day_88 : decode cX2_day 88 = .ok (.invokeinterface 48 1, 5) := by decide +kernel
theorem dX2_day_93 : decode cX2_day 93 = .ok (.checkcast 52, 3) := dk_192 0 52 (dk_at dksX2_day_4 5 rfl rfl)
theorem dX2_day_96 : decode cX2_day 96 = .ok (.astore_n 2, 1) := dk_77 (dk_at dksX2_day_4 8 rfl rfl)
theorem dX2_day_97 : decode cX2_day 97 = .ok (.aload_n 0, 1) := dk_42 (dk_at dksX2_day_4 9 rfl rfl)
theorem dX2_day_98 : decode cX2_day 98 = .ok (.aload_n 2, 1) := dk_44 (dk_at dksX2_day_4 10 rfl rfl)
theorem dX2_day_99 : decode cX2_day 99 = .ok (.invokevirtual 220, 3) := dk_182 0 220 (dk_at dksX2_day_4 11 rfl rfl)
theorem dX2_day_102 : decode cX2_day 102 = .ok (.goto (-24), 3) := dk_167 255 232 (dk_at dksX2_day_4 14 rfl rfl)
theorem dX2_day_105 : decode cX2_day 105 = .ok (.aload_n 0, 1) := dk_42 (dk_at dksX2_day_4 17 rfl rfl)
theorem dX2_day_106 : decode cX2_day 106 = .ok (.getfield 75, 3) := dk_180 0 75 (dk_at dksX2_day_4 18 rfl rfl)
theorem dX2_day_109 : decode cX2_day 109 = .ok (.iconst 1, 1) := dk_4 (dk_at dksX2_day_4 21 rfl rfl)
theorem dX2_day_110 : decode cX2_day 110 = .ok (.iadd, 1) := dk_96 (dk_at dksX2_day_4 22 rfl rfl)
theorem dX2_day_111 : decode cX2_day 111 = .ok (.aload_n 0, 1) := dk_42 (dk_at dksX2_day_4 23 rfl rfl)
theorem dX2_day_112 : decode cX2_day 112 = .ok (.getfield 31, 3) := dk_180 0 31 (dk_at dksX2_day_5 0 rfl rfl)
theorem dX2_day_115 : decode cX2_day 115 = .ok (.iconst 2, 1) := dk_5 (dk_at dksX2_day_5 3 rfl rfl)
theorem dX2_day_116 : decode cX2_day 116 = .ok (.iaload, 1) := dk_46 (dk_at dksX2_day_5 4 rfl rfl)
theorem dX2_day_117 : decode cX2_day 117 = .ok (.irem, 1) := dk_112 (dk_at dksX2_day_5 5 rfl rfl)
theorem dX2_day_118 : decode cX2_day 118 = .ok (.ifCond .ne 17, 3) := dk_154 0 17 (dk_at dksX2_day_5 6 rfl rfl)
theorem dX2_day_121 : decode cX2_day 121 = .ok (.aload_n 0, 1) := dk_42 (dk_at dksX2_day_5 9 rfl rfl)
theorem dX2_day_122 : decode cX2_day 122 = .ok (.getfield 27, 3) := dk_180 0 27 (dk_at dksX2_day_5 10 rfl rfl)
theorem dX2_day_125 : decode cX2_day 125 = .ok (.getfield 194, 3) := dk_180 0 194 (dk_at dksX2_day_5 13 rfl rfl)
theorem dX2_day_128 : decode cX2_day 128 = .ok (.ifCond .le 7, 3) := dk_158 0 7 (dk_at dksX2_day_5 16 rfl rfl)
theorem dX2_day_131 : decode cX2_day 131 = .ok (.iconst 1, 1) := dk_4 (dk_at dksX2_day_5 19 rfl rfl)
theorem dX2_day_132 : decode cX2_day 132 = .ok (.goto 4, 3) := dk_167 0 4 (dk_at dksX2_day_5 20 rfl rfl)
theorem dX2_day_135 : decode cX2_day 135 = .ok (.iconst 0, 1) := dk_3 (dk_at dksX2_day_5 23 rfl rfl)
theorem dX2_day_136 : decode cX2_day 136 = .ok (.istore_n 1, 1) := dk_60 (dk_at dksX2_day_6 0 rfl rfl)
theorem dX2_day_137 : decode cX2_day 137 = .ok (.iload_n 1, 1) := dk_27 (dk_at dksX2_day_6 1 rfl rfl)
theorem dX2_day_138 : decode cX2_day 138 = .ok (.ifCond .eq 10, 3) := dk_153 0 10 (dk_at dksX2_day_6 2 rfl rfl)
theorem dX2_day_141 : decode cX2_day 141 = .ok (.aload_n 0, 1) := dk_42 (dk_at dksX2_day_6 5 rfl rfl)
theorem dX2_day_142 : decode cX2_day 142 = .ok (.invokevirtual 223, 3) := dk_182 0 223 (dk_at dksX2_day_6 6 rfl rfl)
theorem dX2_day_145 : decode cX2_day 145 = .ok (.goto 4, 3) := dk_167 0 4 (dk_at dksX2_day_6 9 rfl rfl)
theorem dX2_day_148 : decode cX2_day 148 = .ok (.iconst 0, 1) := dk_3 (dk_at dksX2_day_6 12 rfl rfl)
theorem dX2_day_149 : decode cX2_day 149 = .ok (.istore_n 2, 1) := dk_61 (dk_at dksX2_day_6 13 rfl rfl)
theorem dX2_day_150 : decode cX2_day 150 = .ok (.aload_n 0, 1) := dk_42 (dk_at dksX2_day_6 14 rfl rfl)
theorem dX2_day_151 : decode cX2_day 151 = .ok (.dup, 1) := dk_89 (dk_at dksX2_day_6 15 rfl rfl)
theorem dX2_day_152 : decode cX2_day 152 = .ok (.getfield 75, 3) := dk_180 0 75 (dk_at dksX2_day_6 16 rfl rfl)
theorem dX2_day_155 : decode cX2_day 155 = .ok (.iconst 1, 1) := dk_4 (dk_at dksX2_day_6 19 rfl rfl)
theorem dX2_day_156 : decode cX2_day 156 = .ok (.iadd, 1) := dk_96 (dk_at dksX2_day_6 20 rfl rfl)
theorem dX2_day_157 : decode cX2_day 157 = .ok (.putfield 75, 3) := dk_181 0 75 (dk_at dksX2_day_6 21 rfl rfl)
theorem dX2_day_160 : decode cX2_day 160 = .ok (.iload_n 2, 1) := dk_28 (dk_at dksX2_day_7 0 rfl rfl)
theorem dX2_day_161 : decode cX2_day 161 = .ok (.ireturn, 1) := dk_172 (dk_at dksX2_day_7 1 rfl rfl)
abbrev cX2_calve : ByteArray := prog_6_method_16_code
def yX2_calve : MethodName := ⟨RX2, "calve", "(LDairyBook$Cow;)V"⟩
def dkwX2_calve_1 : List UInt8 := [182, 0, 163, 177]
abbrev dktX2_calve_1 : List UInt8 := dkwX2_calve_1 ++ []
def dkwX2_calve_0 : List UInt8 := [43, 182, 0, 117, 153, 0, 22, 43, 180, 0, 144, 42, 180, 0, 75, 160, 0, 11, 43, 42, 180, 0, 75]
abbrev dktX2_calve_0 : List UInt8 := dkwX2_calve_0 ++ dktX2_calve_1
theorem dksX2_calve_0 : cX2_calve.data.toList.drop 0 = dktX2_calve_0 := by decide +kernel
theorem dksX2_calve_1 : cX2_calve.data.toList.drop 23 = dktX2_calve_1 := dk_seg dksX2_calve_0 23 rfl rfl
theorem dX2_calve_0 : decode cX2_calve 0 = .ok (.aload_n 1, 1) := dk_43 (dk_at dksX2_calve_0 0 rfl rfl)
theorem dX2_calve_1 : decode cX2_calve 1 = .ok (.invokevirtual 117, 3) := dk_182 0 117 (dk_at dksX2_calve_0 1 rfl rfl)
theorem dX2_calve_4 : decode cX2_calve 4 = .ok (.ifCond .eq 22, 3) := dk_153 0 22 (dk_at dksX2_calve_0 4 rfl rfl)
theorem dX2_calve_7 : decode cX2_calve 7 = .ok (.aload_n 1, 1) := dk_43 (dk_at dksX2_calve_0 7 rfl rfl)
theorem dX2_calve_8 : decode cX2_calve 8 = .ok (.getfield 144, 3) := dk_180 0 144 (dk_at dksX2_calve_0 8 rfl rfl)
theorem dX2_calve_11 : decode cX2_calve 11 = .ok (.aload_n 0, 1) := dk_42 (dk_at dksX2_calve_0 11 rfl rfl)
theorem dX2_calve_12 : decode cX2_calve 12 = .ok (.getfield 75, 3) := dk_180 0 75 (dk_at dksX2_calve_0 12 rfl rfl)
theorem dX2_calve_15 : decode cX2_calve 15 = .ok (.if_icmp .ne 11, 3) := dk_160 0 11 (dk_at dksX2_calve_0 15 rfl rfl)
theorem dX2_calve_18 : decode cX2_calve 18 = .ok (.aload_n 1, 1) := dk_43 (dk_at dksX2_calve_0 18 rfl rfl)
theorem dX2_calve_19 : decode cX2_calve 19 = .ok (.aload_n 0, 1) := dk_42 (dk_at dksX2_calve_0 19 rfl rfl)
theorem dX2_calve_20 : decode cX2_calve 20 = .ok (.getfield 75, 3) := dk_180 0 75 (dk_at dksX2_calve_0 20 rfl rfl)
theorem dX2_calve_23 : decode cX2_calve 23 = .ok (.invokevirtual 163, 3) := dk_182 0 163 (dk_at dksX2_calve_1 0 rfl rfl)
theorem dX2_calve_26 : decode cX2_calve 26 = .ok (.return_, 1) := dk_177 (dk_at dksX2_calve_1 3 rfl rfl)
abbrev cX2_dryOff : ByteArray := prog_6_method_17_code
def yX2_dryOff : MethodName := ⟨RX2, "dryOff", "(LDairyBook$Cow;)V"⟩
def dkwX2_dryOff_1 : List UInt8 := [180, 0, 31, 4, 46, 96, 163, 0, 8, 43, 3, 181, 0, 147, 177]
abbrev dktX2_dryOff_1 : List UInt8 := dkwX2_dryOff_1 ++ []
def dkwX2_dryOff_0 : List UInt8 := [43, 182, 0, 117, 153, 0, 33, 43, 180, 0, 147, 153, 0, 26, 43, 180, 0, 144, 42, 180, 0, 75, 42]
abbrev dktX2_dryOff_0 : List UInt8 := dkwX2_dryOff_0 ++ dktX2_dryOff_1
theorem dksX2_dryOff_0 : cX2_dryOff.data.toList.drop 0 = dktX2_dryOff_0 := by decide +kernel
theorem dksX2_dryOff_1 : cX2_dryOff.data.toList.drop 23 = dktX2_dryOff_1 := dk_seg dksX2_dryOff_0 23 rfl rfl
theorem dX2_dryOff_0 : decode cX2_dryOff 0 = .ok (.aload_n 1, 1) := dk_43 (dk_at dksX2_dryOff_0 0 rfl rfl)
theorem dX2_dryOff_1 : decode cX2_dryOff 1 = .ok (.invokevirtual 117, 3) := dk_182 0 117 (dk_at dksX2_dryOff_0 1 rfl rfl)
theorem dX2_dryOff_4 : decode cX2_dryOff 4 = .ok (.ifCond .eq 33, 3) := dk_153 0 33 (dk_at dksX2_dryOff_0 4 rfl rfl)
theorem dX2_dryOff_7 : decode cX2_dryOff 7 = .ok (.aload_n 1, 1) := dk_43 (dk_at dksX2_dryOff_0 7 rfl rfl)
theorem dX2_dryOff_8 : decode cX2_dryOff 8 = .ok (.getfield 147, 3) := dk_180 0 147 (dk_at dksX2_dryOff_0 8 rfl rfl)
theorem dX2_dryOff_11 : decode cX2_dryOff 11 = .ok (.ifCond .eq 26, 3) := dk_153 0 26 (dk_at dksX2_dryOff_0 11 rfl rfl)
theorem dX2_dryOff_14 : decode cX2_dryOff 14 = .ok (.aload_n 1, 1) := dk_43 (dk_at dksX2_dryOff_0 14 rfl rfl)
theorem dX2_dryOff_15 : decode cX2_dryOff 15 = .ok (.getfield 144, 3) := dk_180 0 144 (dk_at dksX2_dryOff_0 15 rfl rfl)
theorem dX2_dryOff_18 : decode cX2_dryOff 18 = .ok (.aload_n 0, 1) := dk_42 (dk_at dksX2_dryOff_0 18 rfl rfl)
theorem dX2_dryOff_19 : decode cX2_dryOff 19 = .ok (.getfield 75, 3) := dk_180 0 75 (dk_at dksX2_dryOff_0 19 rfl rfl)
theorem dX2_dryOff_22 : decode cX2_dryOff 22 = .ok (.aload_n 0, 1) := dk_42 (dk_at dksX2_dryOff_0 22 rfl rfl)
theorem dX2_dryOff_23 : decode cX2_dryOff 23 = .ok (.getfield 31, 3) := dk_180 0 31 (dk_at dksX2_dryOff_1 0 rfl rfl)
theorem dX2_dryOff_26 : decode cX2_dryOff 26 = .ok (.iconst 1, 1) := dk_4 (dk_at dksX2_dryOff_1 3 rfl rfl)
theorem dX2_dryOff_27 : decode cX2_dryOff 27 = .ok (.iaload, 1) := dk_46 (dk_at dksX2_dryOff_1 4 rfl rfl)
theorem dX2_dryOff_28 : decode cX2_dryOff 28 = .ok (.iadd, 1) := dk_96 (dk_at dksX2_dryOff_1 5 rfl rfl)
theorem dX2_dryOff_29 : decode cX2_dryOff 29 = .ok (.if_icmp .gt 8, 3) := dk_163 0 8 (dk_at dksX2_dryOff_1 6 rfl rfl)
theorem dX2_dryOff_32 : decode cX2_dryOff 32 = .ok (.aload_n 1, 1) := dk_43 (dk_at dksX2_dryOff_1 9 rfl rfl)
theorem dX2_dryOff_33 : decode cX2_dryOff 33 = .ok (.iconst 0, 1) := dk_3 (dk_at dksX2_dryOff_1 10 rfl rfl)
theorem dX2_dryOff_34 : decode cX2_dryOff 34 = .ok (.putfield 147, 3) := dk_181 0 147 (dk_at dksX2_dryOff_1 11 rfl rfl)
theorem dX2_dryOff_37 : decode cX2_dryOff 37 = .ok (.return_, 1) := dk_177 (dk_at dksX2_dryOff_1 14 rfl rfl)
abbrev cX2_milk : ByteArray := prog_6_method_18_code
def yX2_milk : MethodName := ⟨RX2, "milk", "(LDairyBook$Cow;)V"⟩
def dkwX2_milk_2 : List UInt8 := [42, 180, 0, 31, 6, 46, 182, 0, 182, 96, 181, 0, 176, 177]
abbrev dktX2_milk_2 : List UInt8 := dkwX2_milk_2 ++ []
def dkwX2_milk_1 : List UInt8 := [42, 180, 0, 75, 182, 0, 173, 154, 0, 30, 43, 89, 180, 0, 176, 42, 180, 0, 27, 28, 43, 180, 0, 179]
abbrev dktX2_milk_1 : List UInt8 := dkwX2_milk_1 ++ dktX2_milk_2
def dkwX2_milk_0 : List UInt8 := [43, 42, 180, 0, 75, 182, 0, 167, 61, 43, 89, 180, 0, 170, 28, 96, 181, 0, 170, 28, 158, 0, 41, 43]
abbrev dktX2_milk_0 : List UInt8 := dkwX2_milk_0 ++ dktX2_milk_1
theorem dksX2_milk_0 : cX2_milk.data.toList.drop 0 = dktX2_milk_0 := by decide +kernel
theorem dksX2_milk_1 : cX2_milk.data.toList.drop 24 = dktX2_milk_1 := dk_seg dksX2_milk_0 24 rfl rfl
theorem dksX2_milk_2 : cX2_milk.data.toList.drop 48 = dktX2_milk_2 := dk_seg dksX2_milk_1 24 rfl rfl
theorem dX2_milk_0 : decode cX2_milk 0 = .ok (.aload_n 1, 1) := dk_43 (dk_at dksX2_milk_0 0 rfl rfl)
theorem dX2_milk_1 : decode cX2_milk 1 = .ok (.aload_n 0, 1) := dk_42 (dk_at dksX2_milk_0 1 rfl rfl)
theorem dX2_milk_2 : decode cX2_milk 2 = .ok (.getfield 75, 3) := dk_180 0 75 (dk_at dksX2_milk_0 2 rfl rfl)
theorem dX2_milk_5 : decode cX2_milk 5 = .ok (.invokevirtual 167, 3) := dk_182 0 167 (dk_at dksX2_milk_0 5 rfl rfl)
theorem dX2_milk_8 : decode cX2_milk 8 = .ok (.istore_n 2, 1) := dk_61 (dk_at dksX2_milk_0 8 rfl rfl)
theorem dX2_milk_9 : decode cX2_milk 9 = .ok (.aload_n 1, 1) := dk_43 (dk_at dksX2_milk_0 9 rfl rfl)
theorem dX2_milk_10 : decode cX2_milk 10 = .ok (.dup, 1) := dk_89 (dk_at dksX2_milk_0 10 rfl rfl)
theorem dX2_milk_11 : decode cX2_milk 11 = .ok (.getfield 170, 3) := dk_180 0 170 (dk_at dksX2_milk_0 11 rfl rfl)
theorem dX2_milk_14 : decode cX2_milk 14 = .ok (.iload_n 2, 1) := dk_28 (dk_at dksX2_milk_0 14 rfl rfl)
theorem dX2_milk_15 : decode cX2_milk 15 = .ok (.iadd, 1) := dk_96 (dk_at dksX2_milk_0 15 rfl rfl)
theorem dX2_milk_16 : decode cX2_milk 16 = .ok (.putfield 170, 3) := dk_181 0 170 (dk_at dksX2_milk_0 16 rfl rfl)
theorem dX2_milk_19 : decode cX2_milk 19 = .ok (.iload_n 2, 1) := dk_28 (dk_at dksX2_milk_0 19 rfl rfl)
theorem dX2_milk_20 : decode cX2_milk 20 = .ok (.ifCond .le 41, 3) := dk_158 0 41 (dk_at dksX2_milk_0 20 rfl rfl)
theorem dX2_milk_23 : decode cX2_milk 23 = .ok (.aload_n 1, 1) := dk_43 (dk_at dksX2_milk_0 23 rfl rfl)
theorem dX2_milk_24 : decode cX2_milk 24 = .ok (.aload_n 0, 1) := dk_42 (dk_at dksX2_milk_1 0 rfl rfl)
theorem dX2_milk_25 : decode cX2_milk 25 = .ok (.getfield 75, 3) := dk_180 0 75 (dk_at dksX2_milk_1 1 rfl rfl)
theorem dX2_milk_28 : decode cX2_milk 28 = .ok (.invokevirtual 173, 3) := dk_182 0 173 (dk_at dksX2_milk_1 4 rfl rfl)
theorem dX2_milk_31 : decode cX2_milk 31 = .ok (.ifCond .ne 30, 3) := dk_154 0 30 (dk_at dksX2_milk_1 7 rfl rfl)
theorem dX2_milk_34 : decode cX2_milk 34 = .ok (.aload_n 1, 1) := dk_43 (dk_at dksX2_milk_1 10 rfl rfl)
theorem dX2_milk_35 : decode cX2_milk 35 = .ok (.dup, 1) := dk_89 (dk_at dksX2_milk_1 11 rfl rfl)
theorem dX2_milk_36 : decode cX2_milk 36 = .ok (.getfield 176, 3) := dk_180 0 176 (dk_at dksX2_milk_1 12 rfl rfl)
theorem dX2_milk_39 : decode cX2_milk 39 = .ok (.aload_n 0, 1) := dk_42 (dk_at dksX2_milk_1 15 rfl rfl)
theorem dX2_milk_40 : decode cX2_milk 40 = .ok (.getfield 27, 3) := dk_180 0 27 (dk_at dksX2_milk_1 16 rfl rfl)
theorem dX2_milk_43 : decode cX2_milk 43 = .ok (.iload_n 2, 1) := dk_28 (dk_at dksX2_milk_1 19 rfl rfl)
theorem dX2_milk_44 : decode cX2_milk 44 = .ok (.aload_n 1, 1) := dk_43 (dk_at dksX2_milk_1 20 rfl rfl)
theorem dX2_milk_45 : decode cX2_milk 45 = .ok (.getfield 179, 3) := dk_180 0 179 (dk_at dksX2_milk_1 21 rfl rfl)
theorem dX2_milk_48 : decode cX2_milk 48 = .ok (.aload_n 0, 1) := dk_42 (dk_at dksX2_milk_2 0 rfl rfl)
theorem dX2_milk_49 : decode cX2_milk 49 = .ok (.getfield 31, 3) := dk_180 0 31 (dk_at dksX2_milk_2 1 rfl rfl)
theorem dX2_milk_52 : decode cX2_milk 52 = .ok (.iconst 3, 1) := dk_6 (dk_at dksX2_milk_2 4 rfl rfl)
theorem dX2_milk_53 : decode cX2_milk 53 = .ok (.iaload, 1) := dk_46 (dk_at dksX2_milk_2 5 rfl rfl)
theorem dX2_milk_54 : decode cX2_milk 54 = .ok (.invokevirtual 182, 3) := dk_182 0 182 (dk_at dksX2_milk_2 6 rfl rfl)
theorem dX2_milk_57 : decode cX2_milk 57 = .ok (.iadd, 1) := dk_96 (dk_at dksX2_milk_2 9 rfl rfl)
theorem dX2_milk_58 : decode cX2_milk 58 = .ok (.putfield 176, 3) := dk_181 0 176 (dk_at dksX2_milk_2 10 rfl rfl)
theorem dX2_milk_61 : decode cX2_milk 61 = .ok (.return_, 1) := dk_177 (dk_at dksX2_milk_2 13 rfl rfl)
abbrev cX2_pickUp : ByteArray := prog_6_method_21_code
def yX2_pickUp : MethodName := ⟨RX2, "pickUp", "()I"⟩
def dkwX2_pickUp_5 : List UInt8 := [27, 172]
abbrev dktX2_pickUp_5 : List UInt8 := dkwX2_pickUp_5 ++ []
def dkwX2_pickUp_4 : List UInt8 := [44, 180, 0, 211, 96, 181, 0, 82, 42, 180, 0, 27, 3, 181, 0, 194, 42, 180, 0, 27, 3, 181, 0, 195]
abbrev dktX2_pickUp_4 : List UInt8 := dkwX2_pickUp_4 ++ dktX2_pickUp_5
def dkwX2_pickUp_3 : List UInt8 := [42, 180, 0, 21, 3, 182, 0, 208, 87, 42, 89, 180, 0, 79, 27, 96, 181, 0, 79, 42, 89, 180, 0, 82]
abbrev dktX2_pickUp_3 : List UInt8 := dkwX2_pickUp_3 ++ dktX2_pickUp_4
def dkwX2_pickUp_2 : List UInt8 := [182, 0, 202, 42, 180, 0, 31, 8, 46, 182, 0, 205, 42, 180, 0, 21, 182, 0, 97, 16, 60, 164, 0, 12]
abbrev dktX2_pickUp_2 : List UInt8 := dkwX2_pickUp_2 ++ dktX2_pickUp_3
def dkwX2_pickUp_1 : List UInt8 := [183, 0, 196, 77, 42, 180, 0, 21, 44, 182, 0, 57, 87, 42, 182, 0, 199, 62, 44, 29, 42, 29]
abbrev dktX2_pickUp_1 : List UInt8 := dkwX2_pickUp_1 ++ dktX2_pickUp_2
def dkwX2_pickUp_0 : List UInt8 := [42, 180, 0, 27, 180, 0, 194, 60, 187, 0, 186, 89, 42, 180, 0, 75, 27, 42, 180, 0, 27, 180, 0, 195]
abbrev dktX2_pickUp_0 : List UInt8 := dkwX2_pickUp_0 ++ dktX2_pickUp_1
theorem dksX2_pickUp_0 : cX2_pickUp.data.toList.drop 0 = dktX2_pickUp_0 := by decide +kernel
theorem dksX2_pickUp_1 : cX2_pickUp.data.toList.drop 24 = dktX2_pickUp_1 := dk_seg dksX2_pickUp_0 24 rfl rfl
theorem dksX2_pickUp_2 : cX2_pickUp.data.toList.drop 46 = dktX2_pickUp_2 := dk_seg dksX2_pickUp_1 22 rfl rfl
theorem dksX2_pickUp_3 : cX2_pickUp.data.toList.drop 70 = dktX2_pickUp_3 := dk_seg dksX2_pickUp_2 24 rfl rfl
theorem dksX2_pickUp_4 : cX2_pickUp.data.toList.drop 94 = dktX2_pickUp_4 := dk_seg dksX2_pickUp_3 24 rfl rfl
theorem dksX2_pickUp_5 : cX2_pickUp.data.toList.drop 118 = dktX2_pickUp_5 := dk_seg dksX2_pickUp_4 24 rfl rfl
theorem dX2_pickUp_0 : decode cX2_pickUp 0 = .ok (.aload_n 0, 1) := dk_42 (dk_at dksX2_pickUp_0 0 rfl rfl)
theorem dX2_pickUp_1 : decode cX2_pickUp 1 = .ok (.getfield 27, 3) := dk_180 0 27 (dk_at dksX2_pickUp_0 1 rfl rfl)
theorem dX2_pickUp_4 : decode cX2_pickUp 4 = .ok (.getfield 194, 3) := dk_180 0 194 (dk_at dksX2_pickUp_0 4 rfl rfl)
theorem dX2_pickUp_7 : decode cX2_pickUp 7 = .ok (.istore_n 1, 1) := dk_60 (dk_at dksX2_pickUp_0 7 rfl rfl)
theorem dX2_pickUp_8 : decode cX2_pickUp 8 = .ok (.new 186, 3) := dk_187 0 186 (dk_at dksX2_pickUp_0 8 rfl rfl)
theorem dX2_pickUp_11 : decode cX2_pickUp 11 = .ok (.dup, 1) := dk_89 (dk_at dksX2_pickUp_0 11 rfl rfl)
theorem dX2_pickUp_12 : decode cX2_pickUp 12 = .ok (.aload_n 0, 1) := dk_42 (dk_at dksX2_pickUp_0 12 rfl rfl)
theorem dX2_pickUp_13 : decode cX2_pickUp 13 = .ok (.getfield 75, 3) := dk_180 0 75 (dk_at dksX2_pickUp_0 13 rfl rfl)
theorem dX2_pickUp_16 : decode cX2_pickUp 16 = .ok (.iload_n 1, 1) := dk_27 (dk_at dksX2_pickUp_0 16 rfl rfl)
theorem dX2_pickUp_17 : decode cX2_pickUp 17 = .ok (.aload_n 0, 1) := dk_42 (dk_at dksX2_pickUp_0 17 rfl rfl)
theorem dX2_pickUp_18 : decode cX2_pickUp 18 = .ok (.getfield 27, 3) := dk_180 0 27 (dk_at dksX2_pickUp_0 18 rfl rfl)
theorem dX2_pickUp_21 : decode cX2_pickUp 21 = .ok (.getfield 195, 3) := dk_180 0 195 (dk_at dksX2_pickUp_0 21 rfl rfl)
theorem dX2_pickUp_24 : decode cX2_pickUp 24 = .ok (.invokespecial 196, 3) := dk_183 0 196 (dk_at dksX2_pickUp_1 0 rfl rfl)
theorem dX2_pickUp_27 : decode cX2_pickUp 27 = .ok (.astore_n 2, 1) := dk_77 (dk_at dksX2_pickUp_1 3 rfl rfl)
theorem dX2_pickUp_28 : decode cX2_pickUp 28 = .ok (.aload_n 0, 1) := dk_42 (dk_at dksX2_pickUp_1 4 rfl rfl)
theorem dX2_pickUp_29 : decode cX2_pickUp 29 = .ok (.getfield 21, 3) := dk_180 0 21 (dk_at dksX2_pickUp_1 5 rfl rfl)
theorem dX2_pickUp_32 : decode cX2_pickUp 32 = .ok (.aload_n 2, 1) := dk_44 (dk_at dksX2_pickUp_1 8 rfl rfl)
theorem dX2_pickUp_33 : decode cX2_pickUp 33 = .ok (.invokevirtual 57, 3) := dk_182 0 57 (dk_at dksX2_pickUp_1 9 rfl rfl)
theorem dX2_pickUp_36 : decode cX2_pickUp 36 = .ok (.pop, 1) := dk_87 (dk_at dksX2_pickUp_1 12 rfl rfl)
theorem dX2_pickUp_37 : decode cX2_pickUp 37 = .ok (.aload_n 0, 1) := dk_42 (dk_at dksX2_pickUp_1 13 rfl rfl)
theorem dX2_pickUp_38 : decode cX2_pickUp 38 = .ok (.invokevirtual 199, 3) := dk_182 0 199 (dk_at dksX2_pickUp_1 14 rfl rfl)
theorem dX2_pickUp_41 : decode cX2_pickUp 41 = .ok (.istore_n 3, 1) := dk_62 (dk_at dksX2_pickUp_1 17 rfl rfl)
theorem dX2_pickUp_42 : decode cX2_pickUp 42 = .ok (.aload_n 2, 1) := dk_44 (dk_at dksX2_pickUp_1 18 rfl rfl)
theorem dX2_pickUp_43 : decode cX2_pickUp 43 = .ok (.iload_n 3, 1) := dk_29 (dk_at dksX2_pickUp_1 19 rfl rfl)
theorem dX2_pickUp_44 : decode cX2_pickUp 44 = .ok (.aload_n 0, 1) := dk_42 (dk_at dksX2_pickUp_1 20 rfl rfl)
theorem dX2_pickUp_45 : decode cX2_pickUp 45 = .ok (.iload_n 3, 1) := dk_29 (dk_at dksX2_pickUp_1 21 rfl rfl)
theorem dX2_pickUp_46 : decode cX2_pickUp 46 = .ok (.invokevirtual 202, 3) := dk_182 0 202 (dk_at dksX2_pickUp_2 0 rfl rfl)
theorem dX2_pickUp_49 : decode cX2_pickUp 49 = .ok (.aload_n 0, 1) := dk_42 (dk_at dksX2_pickUp_2 3 rfl rfl)
theorem dX2_pickUp_50 : decode cX2_pickUp 50 = .ok (.getfield 31, 3) := dk_180 0 31 (dk_at dksX2_pickUp_2 4 rfl rfl)
theorem dX2_pickUp_53 : decode cX2_pickUp 53 = .ok (.iconst 5, 1) := dk_8 (dk_at dksX2_pickUp_2 7 rfl rfl)
theorem dX2_pickUp_54 : decode cX2_pickUp 54 = .ok (.iaload, 1) := dk_46 (dk_at dksX2_pickUp_2 8 rfl rfl)
theorem dX2_pickUp_55 : decode cX2_pickUp 55 = .ok (.invokevirtual 205, 3) := dk_182 0 205 (dk_at dksX2_pickUp_2 9 rfl rfl)
theorem dX2_pickUp_58 : decode cX2_pickUp 58 = .ok (.aload_n 0, 1) := dk_42 (dk_at dksX2_pickUp_2 12 rfl rfl)
theorem dX2_pickUp_59 : decode cX2_pickUp 59 = .ok (.getfield 21, 3) := dk_180 0 21 (dk_at dksX2_pickUp_2 13 rfl rfl)
theorem dX2_pickUp_62 : decode cX2_pickUp 62 = .ok (.invokevirtual 97, 3) := dk_182 0 97 (dk_at dksX2_pickUp_2 16 rfl rfl)
theorem dX2_pickUp_65 : decode cX2_pickUp 65 = .ok (.bipush 60, 2) := dk_16 60 (dk_at dksX2_pickUp_2 19 rfl rfl)
theorem dX2_pickUp_67 : decode cX2_pickUp 67 = .ok (.if_icmp .le 12, 3) := dk_164 0 12 (dk_at dksX2_pickUp_2 21 rfl rfl)
theorem dX2_pickUp_70 : decode cX2_pickUp 70 = .ok (.aload_n 0, 1) := dk_42 (dk_at dksX2_pickUp_3 0 rfl rfl)
theorem dX2_pickUp_71 : decode cX2_pickUp 71 = .ok (.getfield 21, 3) := dk_180 0 21 (dk_at dksX2_pickUp_3 1 rfl rfl)
theorem dX2_pickUp_74 : decode cX2_pickUp 74 = .ok (.iconst 0, 1) := dk_3 (dk_at dksX2_pickUp_3 4 rfl rfl)
theorem dX2_pickUp_75 : decode cX2_pickUp 75 = .ok (.invokevirtual 208, 3) := dk_182 0 208 (dk_at dksX2_pickUp_3 5 rfl rfl)
theorem dX2_pickUp_78 : decode cX2_pickUp 78 = .ok (.pop, 1) := dk_87 (dk_at dksX2_pickUp_3 8 rfl rfl)
theorem dX2_pickUp_79 : decode cX2_pickUp 79 = .ok (.aload_n 0, 1) := dk_42 (dk_at dksX2_pickUp_3 9 rfl rfl)
theorem dX2_pickUp_80 : decode cX2_pickUp 80 = .ok (.dup, 1) := dk_89 (dk_at dksX2_pickUp_3 10 rfl rfl)
theorem dX2_pickUp_81 : decode cX2_pickUp 81 = .ok (.getfield 79, 3) := dk_180 0 79 (dk_at dksX2_pickUp_3 11 rfl rfl)
theorem dX2_pickUp_84 : decode cX2_pickUp 84 = .ok (.iload_n 1, 1) := dk_27 (dk_at dksX2_pickUp_3 14 rfl rfl)
theorem dX2_pickUp_85 : decode cX2_pickUp 85 = .ok (.iadd, 1) := dk_96 (dk_at dksX2_pickUp_3 15 rfl rfl)
theorem dX2_pickUp_86 : decode cX2_pickUp 86 = .ok (.putfield 79, 3) := dk_181 0 79 (dk_at dksX2_pickUp_3 16 rfl rfl)
theorem dX2_pickUp_89 : decode cX2_pickUp 89 = .ok (.aload_n 0, 1) := dk_42 (dk_at dksX2_pickUp_3 19 rfl rfl)
theorem dX2_pickUp_90 : decode cX2_pickUp 90 = .ok (.dup, 1) := dk_89 (dk_at dksX2_pickUp_3 20 rfl rfl)
theorem dX2_pickUp_91 : decode cX2_pickUp 91 = .ok (.getfield 82, 3) := dk_180 0 82 (dk_at dksX2_pickUp_3 21 rfl rfl)
theorem dX2_pickUp_94 : decode cX2_pickUp 94 = .ok (.aload_n 2, 1) := dk_44 (dk_at dksX2_pickUp_4 0 rfl rfl)
theorem dX2_pickUp_95 : decode cX2_pickUp 95 = .ok (.getfield 211, 3) := dk_180 0 211 (dk_at dksX2_pickUp_4 1 rfl rfl)
theorem dX2_pickUp_98 : decode cX2_pickUp 98 = .ok (.iadd, 1) := dk_96 (dk_at dksX2_pickUp_4 4 rfl rfl)
theorem dX2_pickUp_99 : decode cX2_pickUp 99 = .ok (.putfield 82, 3) := dk_181 0 82 (dk_at dksX2_pickUp_4 5 rfl rfl)
theorem dX2_pickUp_102 : decode cX2_pickUp 102 = .ok (.aload_n 0, 1) := dk_42 (dk_at dksX2_pickUp_4 8 rfl rfl)
theorem dX2_pickUp_103 : decode cX2_pickUp 103 = .ok (.getfield 27, 3) := dk_180 0 27 (dk_at dksX2_pickUp_4 9 rfl rfl)
theorem dX2_pickUp_106 : decode cX2_pickUp 106 = .ok (.iconst 0, 1) := dk_3 (dk_at dksX2_pickUp_4 12 rfl rfl)
theorem dX2_pickUp_107 : decode cX2_pickUp 107 = .ok (.putfield 194, 3) := dk_181 0 194 (dk_at dksX2_pickUp_4 13 rfl rfl)
theorem dX2_pickUp_110 : decode cX2_pickUp 110 = .ok (.aload_n 0, 1) := dk_42 (dk_at dksX2_pickUp_4 16 rfl rfl)
theorem dX2_pickUp_111 : decode cX2_pickUp 111 = .ok (.getfield 27, 3) := dk_180 0 27 (dk_at dksX2_pickUp_4 17 rfl rfl)
theorem dX2_pickUp_114 : decode cX2_pickUp 114 = .ok (.iconst 0, 1) := dk_3 (dk_at dksX2_pickUp_4 20 rfl rfl)
theorem dX2_pickUp_115 : decode cX2_pickUp 115 = .ok (.putfield 195, 3) := dk_181 0 195 (dk_at dksX2_pickUp_4 21 rfl rfl)
theorem dX2_pickUp_118 : decode cX2_pickUp 118 = .ok (.iload_n 1, 1) := dk_27 (dk_at dksX2_pickUp_5 0 rfl rfl)
theorem dX2_pickUp_119 : decode cX2_pickUp 119 = .ok (.ireturn, 1) := dk_172 (dk_at dksX2_pickUp_5 1 rfl rfl)
abbrev cX2_meanOfLatest : ByteArray := prog_6_method_19_code
def yX2_meanOfLatest : MethodName := ⟨RX2, "meanOfLatest", "()I"⟩
def dkwX2_meanOfLatest_3 : List UInt8 := [96, 61, 132, 4, 1, 167, 255, 205, 28, 27, 108, 172]
abbrev dktX2_meanOfLatest_3 : List UInt8 := dkwX2_meanOfLatest_3 ++ []
def dkwX2_meanOfLatest_2 : List UInt8 := [192, 0, 186, 180, 0, 188, 96, 60, 28, 42, 180, 0, 21, 21, 4, 182, 0, 105, 192, 0, 186, 180, 0, 190]
abbrev dktX2_meanOfLatest_2 : List UInt8 := dkwX2_meanOfLatest_2 ++ dktX2_meanOfLatest_3
def dkwX2_meanOfLatest_1 : List UInt8 := [54, 4, 21, 4, 42, 180, 0, 21, 182, 0, 97, 162, 0, 45, 27, 42, 180, 0, 21, 21, 4, 182, 0, 105]
abbrev dktX2_meanOfLatest_1 : List UInt8 := dkwX2_meanOfLatest_1 ++ dktX2_meanOfLatest_2
def dkwX2_meanOfLatest_0 : List UInt8 := [3, 60, 3, 61, 3, 42, 180, 0, 21, 182, 0, 97, 42, 180, 0, 31, 7, 46, 100, 184, 0, 138, 62, 29]
abbrev dktX2_meanOfLatest_0 : List UInt8 := dkwX2_meanOfLatest_0 ++ dktX2_meanOfLatest_1
theorem dksX2_meanOfLatest_0 : cX2_meanOfLatest.data.toList.drop 0 = dktX2_meanOfLatest_0 := by decide +kernel
theorem dksX2_meanOfLatest_1 : cX2_meanOfLatest.data.toList.drop 24 = dktX2_meanOfLatest_1 := dk_seg dksX2_meanOfLatest_0 24 rfl rfl
theorem dksX2_meanOfLatest_2 : cX2_meanOfLatest.data.toList.drop 48 = dktX2_meanOfLatest_2 := dk_seg dksX2_meanOfLatest_1 24 rfl rfl
theorem dksX2_meanOfLatest_3 : cX2_meanOfLatest.data.toList.drop 72 = dktX2_meanOfLatest_3 := dk_seg dksX2_meanOfLatest_2 24 rfl rfl
theorem dX2_meanOfLatest_0 : decode cX2_meanOfLatest 0 = .ok (.iconst 0, 1) := dk_3 (dk_at dksX2_meanOfLatest_0 0 rfl rfl)
theorem dX2_meanOfLatest_1 : decode cX2_meanOfLatest 1 = .ok (.istore_n 1, 1) := dk_60 (dk_at dksX2_meanOfLatest_0 1 rfl rfl)
theorem dX2_meanOfLatest_2 : decode cX2_meanOfLatest 2 = .ok (.iconst 0, 1) := dk_3 (dk_at dksX2_meanOfLatest_0 2 rfl rfl)
theorem dX2_meanOfLatest_3 : decode cX2_meanOfLatest 3 = .ok (.istore_n 2, 1) := dk_61 (dk_at dksX2_meanOfLatest_0 3 rfl rfl)
theorem dX2_meanOfLatest_4 : decode cX2_meanOfLatest 4 = .ok (.iconst 0, 1) := dk_3 (dk_at dksX2_meanOfLatest_0 4 rfl rfl)
theorem dX2_meanOfLatest_5 : decode cX2_meanOfLatest 5 = .ok (.aload_n 0, 1) := dk_42 (dk_at dksX2_meanOfLatest_0 5 rfl rfl)
theorem dX2_meanOfLatest_6 : decode cX2_meanOfLatest 6 = .ok (.getfield 21, 3) := dk_180 0 21 (dk_at dksX2_meanOfLatest_0 6 rfl rfl)
theorem dX2_meanOfLatest_9 : decode cX2_meanOfLatest 9 = .ok (.invokevirtual 97, 3) := dk_182 0 97 (dk_at dksX2_meanOfLatest_0 9 rfl rfl)
theorem dX2_meanOfLatest_12 : decode cX2_meanOfLatest 12 = .ok (.aload_n 0, 1) := dk_42 (dk_at dksX2_meanOfLatest_0 12 rfl rfl)
theorem dX2_meanOfLatest_13 : decode cX2_meanOfLatest 13 = .ok (.getfield 31, 3) := dk_180 0 31 (dk_at dksX2_meanOfLatest_0 13 rfl rfl)
theorem dX2_meanOfLatest_16 : decode cX2_meanOfLatest 16 = .ok (.iconst 4, 1) := dk_7 (dk_at dksX2_meanOfLatest_0 16 rfl rfl)
theorem dX2_meanOfLatest_17 : decode cX2_meanOfLatest 17 = .ok (.iaload, 1) := dk_46 (dk_at dksX2_meanOfLatest_0 17 rfl rfl)
theorem dX2_meanOfLatest_18 : decode cX2_meanOfLatest 18 = .ok (.isub, 1) := dk_100 (dk_at dksX2_meanOfLatest_0 18 rfl rfl)
theorem dX2_meanOfLatest_19 : decode cX2_meanOfLatest 19 = .ok (.invokestatic 138, 3) := dk_184 0 138 (dk_at dksX2_meanOfLatest_0 19 rfl rfl)
theorem dX2_meanOfLatest_22 : decode cX2_meanOfLatest 22 = .ok (.istore_n 3, 1) := dk_62 (dk_at dksX2_meanOfLatest_0 22 rfl rfl)
theorem dX2_meanOfLatest_23 : decode cX2_meanOfLatest 23 = .ok (.iload_n 3, 1) := dk_29 (dk_at dksX2_meanOfLatest_0 23 rfl rfl)
theorem dX2_meanOfLatest_24 : decode cX2_meanOfLatest 24 = .ok (.istore 4, 2) := dk_54 4 (dk_at dksX2_meanOfLatest_1 0 rfl rfl)
theorem dX2_meanOfLatest_26 : decode cX2_meanOfLatest 26 = .ok (.iload 4, 2) := dk_21 4 (dk_at dksX2_meanOfLatest_1 2 rfl rfl)
theorem dX2_meanOfLatest_28 : decode cX2_meanOfLatest 28 = .ok (.aload_n 0, 1) := dk_42 (dk_at dksX2_meanOfLatest_1 4 rfl rfl)
theorem dX2_meanOfLatest_29 : decode cX2_meanOfLatest 29 = .ok (.getfield 21, 3) := dk_180 0 21 (dk_at dksX2_meanOfLatest_1 5 rfl rfl)
theorem dX2_meanOfLatest_32 : decode cX2_meanOfLatest 32 = .ok (.invokevirtual 97, 3) := dk_182 0 97 (dk_at dksX2_meanOfLatest_1 8 rfl rfl)
theorem dX2_meanOfLatest_35 : decode cX2_meanOfLatest 35 = .ok (.if_icmp .ge 45, 3) := dk_162 0 45 (dk_at dksX2_meanOfLatest_1 11 rfl rfl)
theorem dX2_meanOfLatest_38 : decode cX2_meanOfLatest 38 = .ok (.iload_n 1, 1) := dk_27 (dk_at dksX2_meanOfLatest_1 14 rfl rfl)
theorem dX2_meanOfLatest_39 : decode cX2_meanOfLatest 39 = .ok (.aload_n 0, 1) := dk_42 (dk_at dksX2_meanOfLatest_1 15 rfl rfl)
theorem dX2_meanOfLatest_40 : decode cX2_meanOfLatest 40 = .ok (.getfield 21, 3) := dk_180 0 21 (dk_at dksX2_meanOfLatest_1 16 rfl rfl)
theorem dX2_meanOfLatest_43 : decode cX2_meanOfLatest 43 = .ok (.iload 4, 2) := dk_21 4 (dk_at dksX2_meanOfLatest_1 19 rfl rfl)
theorem dX2_meanOfLatest_45 : decode cX2_meanOfLatest 45 = .ok (.invokevirtual 105, 3) := dk_182 0 105 (dk_at dksX2_meanOfLatest_1 21 rfl rfl)
theorem dX2_meanOfLatest_48 : decode cX2_meanOfLatest 48 = .ok (.checkcast 186, 3) := dk_192 0 186 (dk_at dksX2_meanOfLatest_2 0 rfl rfl)
theorem dX2_meanOfLatest_51 : decode cX2_meanOfLatest 51 = .ok (.getfield 188, 3) := dk_180 0 188 (dk_at dksX2_meanOfLatest_2 3 rfl rfl)
theorem dX2_meanOfLatest_54 : decode cX2_meanOfLatest 54 = .ok (.iadd, 1) := dk_96 (dk_at dksX2_meanOfLatest_2 6 rfl rfl)
theorem dX2_meanOfLatest_55 : decode cX2_meanOfLatest 55 = .ok (.istore_n 1, 1) := dk_60 (dk_at dksX2_meanOfLatest_2 7 rfl rfl)
theorem dX2_meanOfLatest_56 : decode cX2_meanOfLatest 56 = .ok (.iload_n 2, 1) := dk_28 (dk_at dksX2_meanOfLatest_2 8 rfl rfl)
theorem dX2_meanOfLatest_57 : decode cX2_meanOfLatest 57 = .ok (.aload_n 0, 1) := dk_42 (dk_at dksX2_meanOfLatest_2 9 rfl rfl)
theorem dX2_meanOfLatest_58 : decode cX2_meanOfLatest 58 = .ok (.getfield 21, 3) := dk_180 0 21 (dk_at dksX2_meanOfLatest_2 10 rfl rfl)
theorem dX2_meanOfLatest_61 : decode cX2_meanOfLatest 61 = .ok (.iload 4, 2) := dk_21 4 (dk_at dksX2_meanOfLatest_2 13 rfl rfl)
theorem dX2_meanOfLatest_63 : decode cX2_meanOfLatest 63 = .ok (.invokevirtual 105, 3) := dk_182 0 105 (dk_at dksX2_meanOfLatest_2 15 rfl rfl)
theorem dX2_meanOfLatest_66 : decode cX2_meanOfLatest 66 = .ok (.checkcast 186, 3) := dk_192 0 186 (dk_at dksX2_meanOfLatest_2 18 rfl rfl)
theorem dX2_meanOfLatest_69 : decode cX2_meanOfLatest 69 = .ok (.getfield 190, 3) := dk_180 0 190 (dk_at dksX2_meanOfLatest_2 21 rfl rfl)
theorem dX2_meanOfLatest_72 : decode cX2_meanOfLatest 72 = .ok (.iadd, 1) := dk_96 (dk_at dksX2_meanOfLatest_3 0 rfl rfl)
theorem dX2_meanOfLatest_73 : decode cX2_meanOfLatest 73 = .ok (.istore_n 2, 1) := dk_61 (dk_at dksX2_meanOfLatest_3 1 rfl rfl)
theorem dX2_meanOfLatest_74 : decode cX2_meanOfLatest 74 = .ok (.iinc 4 1, 3) := dk_132 4 1 (dk_at dksX2_meanOfLatest_3 2 rfl rfl)
theorem dX2_meanOfLatest_77 : decode cX2_meanOfLatest 77 = .ok (.goto (-51), 3) := dk_167 255 205 (dk_at dksX2_meanOfLatest_3 5 rfl rfl)
theorem dX2_meanOfLatest_80 : decode cX2_meanOfLatest 80 = .ok (.iload_n 2, 1) := dk_28 (dk_at dksX2_meanOfLatest_3 8 rfl rfl)
theorem dX2_meanOfLatest_81 : decode cX2_meanOfLatest 81 = .ok (.iload_n 1, 1) := dk_27 (dk_at dksX2_meanOfLatest_3 9 rfl rfl)
theorem dX2_meanOfLatest_82 : decode cX2_meanOfLatest 82 = .ok (.idiv, 1) := dk_108 (dk_at dksX2_meanOfLatest_3 10 rfl rfl)
theorem dX2_meanOfLatest_83 : decode cX2_meanOfLatest 83 = .ok (.ireturn, 1) := dk_172 (dk_at dksX2_meanOfLatest_3 11 rfl rfl)
abbrev cX2_bonusFor : ByteArray := prog_6_method_20_code
def yX2_bonusFor : MethodName := ⟨RX2, "bonusFor", "(I)I"⟩
def dkwX2_bonusFor_1 : List UInt8 := [192, 0, 127, 78, 45, 180, 0, 129, 27, 161, 0, 8, 45, 180, 0, 191, 172, 167, 255, 224, 3, 172]
abbrev dktX2_bonusFor_1 : List UInt8 := dkwX2_bonusFor_1 ++ []
def dkwX2_bonusFor_0 : List UInt8 := [42, 180, 0, 18, 182, 0, 38, 77, 44, 185, 0, 42, 1, 0, 153, 0, 29, 44, 185, 0, 48, 1, 0]
abbrev dktX2_bonusFor_0 : List UInt8 := dkwX2_bonusFor_0 ++ dktX2_bonusFor_1
theorem dksX2_bonusFor_0 : cX2_bonusFor.data.toList.drop 0 = dktX2_bonusFor_0 := by decide +kernel
theorem dksX2_bonusFor_1 : cX2_bonusFor.data.toList.drop 23 = dktX2_bonusFor_1 := dk_seg dksX2_bonusFor_0 23 rfl rfl
theorem dX2_bonusFor_0 : decode cX2_bonusFor 0 = .ok (.aload_n 0, 1) := dk_42 (dk_at dksX2_bonusFor_0 0 rfl rfl)
theorem dX2_bonusFor_1 : decode cX2_bonusFor 1 = .ok (.getfield 18, 3) := dk_180 0 18 (dk_at dksX2_bonusFor_0 1 rfl rfl)
theorem dX2_bonusFor_4 : decode cX2_bonusFor 4 = .ok (.invokevirtual 38, 3) := dk_182 0 38 (dk_at dksX2_bonusFor_0 4 rfl rfl)
theorem dX2_bonusFor_7 : decode cX2_bonusFor 7 = .ok (.astore_n 2, 1) := dk_77 (dk_at dksX2_bonusFor_0 7 rfl rfl)
theorem dX2_bonusFor_8 : decode cX2_bonusFor 8 = .ok (.aload_n 2, 1) := dk_44 (dk_at dksX2_bonusFor_0 8 rfl rfl)
theorem dX2_bonusFor_9 : decode cX2_bonusFor 9 = .ok (.invokeinterface 42 1, 5) := by decide +kernel
theorem dX2_bonusFor_14 : decode cX2_bonusFor 14 = .ok (.ifCond .eq 29, 3) := dk_153 0 29 (dk_at dksX2_bonusFor_0 14 rfl rfl)
theorem dX2_bonusFor_17 : decode cX2_bonusFor 17 = .ok (.aload_n 2, 1) := dk_44 (dk_at dksX2_bonusFor_0 17 rfl rfl)
theorem dX2_bonusFor_18 : decode cX2_bonusFor 18 = .ok (.invokeinterface 48 1, 5) := by decide +kernel
theorem dX2_bonusFor_23 : decode cX2_bonusFor 23 = .ok (.checkcast 127, 3) := dk_192 0 127 (dk_at dksX2_bonusFor_1 0 rfl rfl)
theorem dX2_bonusFor_26 : decode cX2_bonusFor 26 = .ok (.astore_n 3, 1) := dk_78 (dk_at dksX2_bonusFor_1 3 rfl rfl)
theorem dX2_bonusFor_27 : decode cX2_bonusFor 27 = .ok (.aload_n 3, 1) := dk_45 (dk_at dksX2_bonusFor_1 4 rfl rfl)
theorem dX2_bonusFor_28 : decode cX2_bonusFor 28 = .ok (.getfield 129, 3) := dk_180 0 129 (dk_at dksX2_bonusFor_1 5 rfl rfl)
theorem dX2_bonusFor_31 : decode cX2_bonusFor 31 = .ok (.iload_n 1, 1) := dk_27 (dk_at dksX2_bonusFor_1 8 rfl rfl)
theorem dX2_bonusFor_32 : decode cX2_bonusFor 32 = .ok (.if_icmp .lt 8, 3) := dk_161 0 8 (dk_at dksX2_bonusFor_1 9 rfl rfl)
theorem dX2_bonusFor_35 : decode cX2_bonusFor 35 = .ok (.aload_n 3, 1) := dk_45 (dk_at dksX2_bonusFor_1 12 rfl rfl)
theorem dX2_bonusFor_36 : decode cX2_bonusFor 36 = .ok (.getfield 191, 3) := dk_180 0 191 (dk_at dksX2_bonusFor_1 13 rfl rfl)
theorem dX2_bonusFor_39 : decode cX2_bonusFor 39 = .ok (.ireturn, 1) := dk_172 (dk_at dksX2_bonusFor_1 16 rfl rfl)
theorem dX2_bonusFor_40 : decode cX2_bonusFor 40 = .ok (.goto (-32), 3) := dk_167 255 224 (dk_at dksX2_bonusFor_1 17 rfl rfl)
theorem dX2_bonusFor_43 : decode cX2_bonusFor 43 = .ok (.iconst 0, 1) := dk_3 (dk_at dksX2_bonusFor_1 20 rfl rfl)
theorem dX2_bonusFor_44 : decode cX2_bonusFor 44 = .ok (.ireturn, 1) := dk_172 (dk_at dksX2_bonusFor_1 21 rfl rfl)
theorem q63 : (Jvm.Cond.initialized "DairyBook$Herd") ∈ lw_all := lw_g (lw_at lw_m1 2 rfl) rfl
theorem q112 : (Jvm.Cond.instantiable "DairyBook$Herd" (8 : Nat)) ∈ lw_all := lw_g (lw_at lw_m1 51 rfl) rfl
theorem q114 : (Jvm.Cond.instanceMethod ({ cls := "DairyBook$Herd", name := "<init>", desc := "()V" } : Jvm.MethodName)) ∈ lw_all := lw_g (lw_at lw_m1 53 rfl) rfl
theorem q115 : (Jvm.Cond.code ({ cls := "DairyBook$Herd", name := "<init>", desc := "()V" } : Jvm.MethodName) prog_6_method_1_code (1 : Nat) (Option.none : Option Jvm.ClassFile.FieldType)) ∈ lw_all := lw_g (lw_at lw_m1 54 rfl) rfl
theorem q116 : (Jvm.Cond.methodLink "DairyBook$Herd" (3 : Nat) ({ cls := "java/lang/Object", name := "<init>", desc := "()V" } : Jvm.MethodName)) ∈ lw_all := lw_g (lw_at lw_m1 55 rfl) rfl
theorem q117 : (Jvm.Cond.classLink "DairyBook$Herd" (9 : Nat) "java/util/ArrayList") ∈ lw_all := lw_g (lw_at lw_m1 56 rfl) rfl
theorem q119 : (Jvm.Cond.methodLink "DairyBook$Herd" (11 : Nat) ({ cls := "java/util/ArrayList", name := "<init>", desc := "()V" } : Jvm.MethodName)) ∈ lw_all := lw_g (lw_at lw_m1 58 rfl) rfl
theorem q146 : (Jvm.Cond.classLink "DairyBook$Herd" (24 : Nat) "DairyBook$Tank") ∈ lw_all := lw_g (lw_at lw_m1 85 rfl) rfl
theorem q148 : (Jvm.Cond.methodLinkNest "DairyBook$Herd" (26 : Nat) ({ cls := "DairyBook$Tank", name := "<init>", desc := "()V" } : Jvm.MethodName) "DairyBook") ∈ lw_tbl := lw_at lw_m1 87 rfl
theorem q153 : (Jvm.Cond.fieldLinkNest "DairyBook$Herd" (194 : Nat) "DairyBook$Tank" "litres" "I" "DairyBook") ∈ lw_tbl := lw_at lw_m1 92 rfl
theorem q156 : (Jvm.Cond.fieldLinkNest "DairyBook$Herd" (195 : Nat) "DairyBook$Tank" "cells" "I" "DairyBook") ∈ lw_tbl := lw_at lw_m1 95 rfl
theorem q163 : (Jvm.Cond.fieldLink "DairyBook$Herd" (12 : Nat) "DairyBook$Herd" "cows" "Ljava/util/ArrayList;") ∈ lw_all := lw_g (lw_at lw_m1 102 rfl) rfl
theorem q166 : (Jvm.Cond.fieldLink "DairyBook$Herd" (18 : Nat) "DairyBook$Herd" "rows" "Ljava/util/ArrayList;") ∈ lw_all := lw_g (lw_at lw_m1 105 rfl) rfl
theorem q168 : (Jvm.Cond.fieldLink "DairyBook$Herd" (21 : Nat) "DairyBook$Herd" "pickups" "Ljava/util/ArrayList;") ∈ lw_all := lw_g (lw_at lw_m1 107 rfl) rfl
theorem q170 : (Jvm.Cond.fieldLink "DairyBook$Herd" (27 : Nat) "DairyBook$Herd" "tank" "LDairyBook$Tank;") ∈ lw_all := lw_g (lw_at lw_m1 109 rfl) rfl
theorem q172 : (Jvm.Cond.fieldLink "DairyBook$Herd" (31 : Nat) "DairyBook$Herd" "settings" "[I") ∈ lw_all := lw_g (lw_at lw_m1 111 rfl) rfl
theorem q174 : (Jvm.Cond.fieldLink "DairyBook$Herd" (75 : Nat) "DairyBook$Herd" "today" "I") ∈ lw_all := lw_g (lw_at lw_m1 113 rfl) rfl
theorem q176 : (Jvm.Cond.fieldLink "DairyBook$Herd" (79 : Nat) "DairyBook$Herd" "pickedUp" "I") ∈ lw_all := lw_g (lw_at lw_m1 115 rfl) rfl
theorem q177 : (Jvm.Cond.fieldLink "DairyBook$Herd" (82 : Nat) "DairyBook$Herd" "paid" "I") ∈ lw_all := lw_g (lw_at lw_m1 116 rfl) rfl
theorem q178 : (Jvm.Cond.laysFinal "DairyBook$Herd" "DairyBook$Herd" "cows" "Ljava/util/ArrayList;") ∈ lw_all := lw_g (lw_at lw_m1 117 rfl) rfl
theorem q179 : (Jvm.Cond.soleField "DairyBook$Herd" "cows") ∈ lw_all := lw_g (lw_at lw_m1 118 rfl) rfl
theorem q180 : (Jvm.Cond.laysFinal "DairyBook$Herd" "DairyBook$Herd" "rows" "Ljava/util/ArrayList;") ∈ lw_all := lw_g (lw_at lw_m1 119 rfl) rfl
theorem q181 : (Jvm.Cond.soleField "DairyBook$Herd" "rows") ∈ lw_all := lw_g (lw_at lw_m1 120 rfl) rfl
theorem q182 : (Jvm.Cond.laysFinal "DairyBook$Herd" "DairyBook$Herd" "pickups" "Ljava/util/ArrayList;") ∈ lw_all := lw_g (lw_at lw_m1 121 rfl) rfl
theorem q183 : (Jvm.Cond.soleField "DairyBook$Herd" "pickups") ∈ lw_all := lw_g (lw_at lw_m1 122 rfl) rfl
theorem q184 : (Jvm.Cond.laysFinal "DairyBook$Herd" "DairyBook$Herd" "tank" "LDairyBook$Tank;") ∈ lw_all := lw_g (lw_at lw_m1 123 rfl) rfl
theorem q185 : (Jvm.Cond.soleField "DairyBook$Herd" "tank") ∈ lw_all := lw_g (lw_at lw_m1 124 rfl) rfl
theorem q186 : (Jvm.Cond.laysFinal "DairyBook$Herd" "DairyBook$Herd" "settings" "[I") ∈ lw_all := lw_g (lw_at lw_m1 125 rfl) rfl
theorem q187 : (Jvm.Cond.soleField "DairyBook$Herd" "settings") ∈ lw_all := lw_g (lw_at lw_m1 126 rfl) rfl
theorem q188 : (Jvm.Cond.lays "DairyBook$Herd" "DairyBook$Herd" "today" "I") ∈ lw_all := lw_g (lw_at lw_m1 127 rfl) rfl
theorem q189 : (Jvm.Cond.soleField "DairyBook$Herd" "today") ∈ lw_all := lw_g (lw_at lw_m1 128 rfl) rfl
theorem q190 : (Jvm.Cond.lays "DairyBook$Herd" "DairyBook$Herd" "pickedUp" "I") ∈ lw_all := lw_g (lw_at lw_m1 129 rfl) rfl
theorem q191 : (Jvm.Cond.soleField "DairyBook$Herd" "pickedUp") ∈ lw_all := lw_g (lw_at lw_m1 130 rfl) rfl
theorem q192 : (Jvm.Cond.lays "DairyBook$Herd" "DairyBook$Herd" "paid" "I") ∈ lw_all := lw_g (lw_at lw_m1 131 rfl) rfl
theorem q193 : (Jvm.Cond.soleField "DairyBook$Herd" "paid") ∈ lw_all := lw_g (lw_at lw_m1 132 rfl) rfl
theorem q194 : (Jvm.Cond.superclass "DairyBook$Herd" "java/lang/Object") ∈ lw_all := lw_g (lw_at lw_m1 133 rfl) rfl
theorem q289 : (Jvm.Cond.instanceMethod ({ cls := "DairyBook$Herd", name := "take", desc := "(LDairyBook$Herd;)V" } : Jvm.MethodName)) ∈ lw_all := lw_g (lw_at lw_m1 228 rfl) rfl
theorem q290 : (Jvm.Cond.selects "DairyBook$Herd" ({ cls := "DairyBook$Herd", name := "take", desc := "(LDairyBook$Herd;)V" } : Jvm.MethodName) ({ cls := "DairyBook$Herd", name := "take", desc := "(LDairyBook$Herd;)V" } : Jvm.MethodName)) ∈ lw_all := lw_g (lw_at lw_m1 229 rfl) rfl
theorem q291 : (Jvm.Cond.code ({ cls := "DairyBook$Herd", name := "take", desc := "(LDairyBook$Herd;)V" } : Jvm.MethodName) prog_6_method_2_code (4 : Nat) (Option.none : Option Jvm.ClassFile.FieldType)) ∈ lw_all := lw_g (lw_at lw_m1 230 rfl) rfl
theorem q292 : (Jvm.Cond.methodLink "DairyBook$Herd" (35 : Nat) ({ cls := "java/util/ArrayList", name := "clear", desc := "()V" } : Jvm.MethodName)) ∈ lw_all := lw_g (lw_at lw_m1 231 rfl) rfl
theorem q296 : (Jvm.Cond.methodLink "DairyBook$Herd" (38 : Nat) ({ cls := "java/util/ArrayList", name := "iterator", desc := "()Ljava/util/Iterator;" } : Jvm.MethodName)) ∈ lw_all := lw_g (lw_at lw_m1 235 rfl) rfl
theorem q319 : (Jvm.Cond.interfaceEntry "DairyBook$Herd" (42 : Nat)) ∈ lw_tbl := lw_at lw_m2 18 rfl
theorem q320 : (Jvm.Cond.methodLink "DairyBook$Herd" (42 : Nat) ({ cls := "java/util/Iterator", name := "hasNext", desc := "()Z" } : Jvm.MethodName)) ∈ lw_all := lw_g (lw_at lw_m2 19 rfl) rfl
theorem q329 : (Jvm.Cond.interfaceEntry "DairyBook$Herd" (48 : Nat)) ∈ lw_tbl := lw_at lw_m2 28 rfl
theorem q330 : (Jvm.Cond.methodLink "DairyBook$Herd" (48 : Nat) ({ cls := "java/util/Iterator", name := "next", desc := "()Ljava/lang/Object;" } : Jvm.MethodName)) ∈ lw_all := lw_g (lw_at lw_m2 29 rfl) rfl
theorem q412 : (Jvm.Cond.classLink "DairyBook$Herd" (52 : Nat) "DairyBook$Cow") ∈ lw_all := lw_g (lw_at lw_m2 111 rfl) rfl
theorem q414 : (Jvm.Cond.methodLink "DairyBook$Herd" (54 : Nat) ({ cls := "DairyBook$Cow", name := "<init>", desc := "(LDairyBook$Cow;)V" } : Jvm.MethodName)) ∈ lw_all := lw_g (lw_at lw_m2 113 rfl) rfl
theorem q428 : (Jvm.Cond.fieldLinkNest "DairyBook$Herd" (179 : Nat) "DairyBook$Cow" "cells" "I" "DairyBook") ∈ lw_tbl := lw_at lw_m2 127 rfl
theorem q431 : (Jvm.Cond.fieldLinkNest "DairyBook$Herd" (147 : Nat) "DairyBook$Cow" "isInMilk" "Z" "DairyBook") ∈ lw_tbl := lw_at lw_m2 130 rfl
theorem q434 : (Jvm.Cond.fieldLinkNest "DairyBook$Herd" (109 : Nat) "DairyBook$Cow" "isSold" "Z" "DairyBook") ∈ lw_tbl := lw_at lw_m2 133 rfl
theorem q437 : (Jvm.Cond.fieldLinkNest "DairyBook$Herd" (150 : Nat) "DairyBook$Cow" "calving" "I" "DairyBook") ∈ lw_tbl := lw_at lw_m2 136 rfl
theorem q439 : (Jvm.Cond.fieldLinkNest "DairyBook$Herd" (144 : Nat) "DairyBook$Cow" "due" "I" "DairyBook") ∈ lw_tbl := lw_at lw_m2 138 rfl
theorem q442 : (Jvm.Cond.fieldLinkNest "DairyBook$Herd" (135 : Nat) "DairyBook$Cow" "held" "I" "DairyBook") ∈ lw_tbl := lw_at lw_m2 141 rfl
theorem q444 : (Jvm.Cond.fieldLinkNest "DairyBook$Herd" (170 : Nat) "DairyBook$Cow" "given" "I" "DairyBook") ∈ lw_tbl := lw_at lw_m2 143 rfl
theorem q447 : (Jvm.Cond.fieldLinkNest "DairyBook$Herd" (176 : Nat) "DairyBook$Cow" "taken" "I" "DairyBook") ∈ lw_tbl := lw_at lw_m2 146 rfl
theorem q473 : (Jvm.Cond.methodLink "DairyBook$Herd" (57 : Nat) ({ cls := "java/util/ArrayList", name := "add", desc := "(Ljava/lang/Object;)Z" } : Jvm.MethodName)) ∈ lw_all := lw_g (lw_at lw_m2 172 rfl) rfl
theorem q509 : (Jvm.Cond.selects "DairyBook$Herd" ({ cls := "java/lang/Object", name := "getClass", desc := "()Ljava/lang/Class;" } : Jvm.MethodName) ({ cls := "java/lang/Object", name := "getClass", desc := "()Ljava/lang/Class;" } : Jvm.MethodName)) ∈ lw_all := lw_g (lw_at lw_m2 208 rfl) rfl
theorem q544 : (Jvm.Cond.methodLink "DairyBook$Herd" (61 : Nat) ({ cls := "java/util/ArrayList", name := "addAll", desc := "(Ljava/util/Collection;)Z" } : Jvm.MethodName)) ∈ lw_all := lw_g (lw_at lw_m3 3 rfl) rfl
theorem q792 : (Jvm.Cond.methodLink "DairyBook$Herd" (65 : Nat) ({ cls := "DairyBook$Tank", name := "take", desc := "(LDairyBook$Tank;)V" } : Jvm.MethodName)) ∈ lw_all := lw_g (lw_at lw_m4 11 rfl) rfl
theorem q796 : (Jvm.Cond.methodLink "DairyBook$Herd" (69 : Nat) ({ cls := "java/lang/System", name := "arraycopy", desc := "(Ljava/lang/Object;ILjava/lang/Object;II)V" } : Jvm.MethodName)) ∈ lw_all := lw_g (lw_at lw_m4 15 rfl) rfl
theorem q954 : (Jvm.Cond.instanceMethod ({ cls := "DairyBook$Herd", name := "refusesHold", desc := "(II)I" } : Jvm.MethodName)) ∈ lw_all := lw_g (lw_at lw_m4 173 rfl) rfl
theorem q955 : (Jvm.Cond.selects "DairyBook$Herd" ({ cls := "DairyBook$Herd", name := "refusesHold", desc := "(II)I" } : Jvm.MethodName) ({ cls := "DairyBook$Herd", name := "refusesHold", desc := "(II)I" } : Jvm.MethodName)) ∈ lw_all := lw_g (lw_at lw_m4 174 rfl) rfl
theorem q956 : (Jvm.Cond.code ({ cls := "DairyBook$Herd", name := "refusesHold", desc := "(II)I" } : Jvm.MethodName) prog_6_method_7_code (3 : Nat) (Option.some Jvm.ClassFile.FieldType.int)) ∈ lw_all := lw_g (lw_at lw_m4 175 rfl) rfl
theorem q957 : (Jvm.Cond.methodLink "DairyBook$Herd" (113 : Nat) ({ cls := "DairyBook$Herd", name := "isThere", desc := "(I)Z" } : Jvm.MethodName)) ∈ lw_all := lw_g (lw_at lw_m4 176 rfl) rfl
theorem q958 : (Jvm.Cond.privateMethod ({ cls := "DairyBook$Herd", name := "isThere", desc := "(I)Z" } : Jvm.MethodName)) ∈ lw_tbl := lw_at lw_m4 177 rfl
theorem q959 : (Jvm.Cond.instanceMethod ({ cls := "DairyBook$Herd", name := "isThere", desc := "(I)Z" } : Jvm.MethodName)) ∈ lw_all := lw_g (lw_at lw_m4 178 rfl) rfl
theorem q960 : (Jvm.Cond.code ({ cls := "DairyBook$Herd", name := "isThere", desc := "(I)Z" } : Jvm.MethodName) prog_6_method_5_code (2 : Nat) (Option.some Jvm.ClassFile.FieldType.boolean)) ∈ lw_all := lw_g (lw_at lw_m4 179 rfl) rfl
theorem q961 : (Jvm.Cond.methodLink "DairyBook$Herd" (97 : Nat) ({ cls := "java/util/ArrayList", name := "size", desc := "()I" } : Jvm.MethodName)) ∈ lw_all := lw_g (lw_at lw_m4 180 rfl) rfl
theorem q962 : (Jvm.Cond.methodLinkNest "DairyBook$Herd" (101 : Nat) ({ cls := "DairyBook", name := "in", desc := "(III)Z" } : Jvm.MethodName) "DairyBook") ∈ lw_tbl := lw_at lw_m4 181 rfl
theorem q963 : (Jvm.Cond.methodLink "DairyBook$Herd" (105 : Nat) ({ cls := "java/util/ArrayList", name := "get", desc := "(I)Ljava/lang/Object;" } : Jvm.MethodName)) ∈ lw_all := lw_g (lw_at lw_m4 182 rfl) rfl
theorem q997 : (Jvm.Cond.instanceMethod ({ cls := "DairyBook$Herd", name := "hold", desc := "(II)I" } : Jvm.MethodName)) ∈ lw_all := lw_g (lw_at lw_m4 216 rfl) rfl
theorem q998 : (Jvm.Cond.selects "DairyBook$Herd" ({ cls := "DairyBook$Herd", name := "hold", desc := "(II)I" } : Jvm.MethodName) ({ cls := "DairyBook$Herd", name := "hold", desc := "(II)I" } : Jvm.MethodName)) ∈ lw_all := lw_g (lw_at lw_m4 217 rfl) rfl
theorem q999 : (Jvm.Cond.code ({ cls := "DairyBook$Herd", name := "hold", desc := "(II)I" } : Jvm.MethodName) prog_6_method_12_code (4 : Nat) (Option.some Jvm.ClassFile.FieldType.int)) ∈ lw_all := lw_g (lw_at lw_m4 218 rfl) rfl
theorem q1000 : (Jvm.Cond.methodLink "DairyBook$Herd" (138 : Nat) ({ cls := "java/lang/Math", name := "max", desc := "(II)I" } : Jvm.MethodName)) ∈ lw_all := lw_g (lw_at lw_m4 219 rfl) rfl
theorem q1009 : (Jvm.Cond.instanceMethod ({ cls := "DairyBook$Herd", name := "refusesCow", desc := "(I)I" } : Jvm.MethodName)) ∈ lw_all := lw_g (lw_at lw_m4 228 rfl) rfl
theorem q1010 : (Jvm.Cond.selects "DairyBook$Herd" ({ cls := "DairyBook$Herd", name := "refusesCow", desc := "(I)I" } : Jvm.MethodName) ({ cls := "DairyBook$Herd", name := "refusesCow", desc := "(I)I" } : Jvm.MethodName)) ∈ lw_all := lw_g (lw_at lw_m4 229 rfl) rfl
theorem q1011 : (Jvm.Cond.code ({ cls := "DairyBook$Herd", name := "refusesCow", desc := "(I)I" } : Jvm.MethodName) prog_6_method_6_code (2 : Nat) (Option.some Jvm.ClassFile.FieldType.int)) ∈ lw_all := lw_g (lw_at lw_m4 230 rfl) rfl
theorem q1021 : (Jvm.Cond.instanceMethod ({ cls := "DairyBook$Herd", name := "refusesServe", desc := "(I)I" } : Jvm.MethodName)) ∈ lw_all := lw_g (lw_at lw_m5 0 rfl) rfl
theorem q1022 : (Jvm.Cond.selects "DairyBook$Herd" ({ cls := "DairyBook$Herd", name := "refusesServe", desc := "(I)I" } : Jvm.MethodName) ({ cls := "DairyBook$Herd", name := "refusesServe", desc := "(I)I" } : Jvm.MethodName)) ∈ lw_all := lw_g (lw_at lw_m5 1 rfl) rfl
theorem q1023 : (Jvm.Cond.code ({ cls := "DairyBook$Herd", name := "refusesServe", desc := "(I)I" } : Jvm.MethodName) prog_6_method_8_code (3 : Nat) (Option.some Jvm.ClassFile.FieldType.int)) ∈ lw_all := lw_g (lw_at lw_m5 2 rfl) rfl
theorem q1024 : (Jvm.Cond.methodLink "DairyBook$Herd" (117 : Nat) ({ cls := "DairyBook$Cow", name := "isCarrying", desc := "()Z" } : Jvm.MethodName)) ∈ lw_all := lw_g (lw_at lw_m5 3 rfl) rfl
theorem q1028 : (Jvm.Cond.methodLink "DairyBook$Herd" (120 : Nat) ({ cls := "DairyBook$Cow", name := "isMilked", desc := "()Z" } : Jvm.MethodName)) ∈ lw_all := lw_g (lw_at lw_m5 7 rfl) rfl
theorem q1032 : (Jvm.Cond.methodLink "DairyBook$Herd" (123 : Nat) ({ cls := "DairyBook$Cow", name := "daysInMilk", desc := "(I)I" } : Jvm.MethodName)) ∈ lw_all := lw_g (lw_at lw_m5 11 rfl) rfl
theorem q1038 : (Jvm.Cond.instanceMethod ({ cls := "DairyBook$Herd", name := "serve", desc := "(I)I" } : Jvm.MethodName)) ∈ lw_all := lw_g (lw_at lw_m5 17 rfl) rfl
theorem q1039 : (Jvm.Cond.selects "DairyBook$Herd" ({ cls := "DairyBook$Herd", name := "serve", desc := "(I)I" } : Jvm.MethodName) ({ cls := "DairyBook$Herd", name := "serve", desc := "(I)I" } : Jvm.MethodName)) ∈ lw_all := lw_g (lw_at lw_m5 18 rfl) rfl
theorem q1040 : (Jvm.Cond.code ({ cls := "DairyBook$Herd", name := "serve", desc := "(I)I" } : Jvm.MethodName) prog_6_method_13_code (3 : Nat) (Option.some Jvm.ClassFile.FieldType.int)) ∈ lw_all := lw_g (lw_at lw_m5 19 rfl) rfl
theorem q1049 : (Jvm.Cond.instanceMethod ({ cls := "DairyBook$Herd", name := "refusesDry", desc := "(I)I" } : Jvm.MethodName)) ∈ lw_all := lw_g (lw_at lw_m5 28 rfl) rfl
theorem q1050 : (Jvm.Cond.selects "DairyBook$Herd" ({ cls := "DairyBook$Herd", name := "refusesDry", desc := "(I)I" } : Jvm.MethodName) ({ cls := "DairyBook$Herd", name := "refusesDry", desc := "(I)I" } : Jvm.MethodName)) ∈ lw_all := lw_g (lw_at lw_m5 29 rfl) rfl
theorem q1051 : (Jvm.Cond.code ({ cls := "DairyBook$Herd", name := "refusesDry", desc := "(I)I" } : Jvm.MethodName) prog_6_method_9_code (2 : Nat) (Option.some Jvm.ClassFile.FieldType.int)) ∈ lw_all := lw_g (lw_at lw_m5 30 rfl) rfl
theorem q1053 : (Jvm.Cond.instanceMethod ({ cls := "DairyBook$Herd", name := "dry", desc := "(I)I" } : Jvm.MethodName)) ∈ lw_all := lw_g (lw_at lw_m5 32 rfl) rfl
theorem q1054 : (Jvm.Cond.selects "DairyBook$Herd" ({ cls := "DairyBook$Herd", name := "dry", desc := "(I)I" } : Jvm.MethodName) ({ cls := "DairyBook$Herd", name := "dry", desc := "(I)I" } : Jvm.MethodName)) ∈ lw_all := lw_g (lw_at lw_m5 33 rfl) rfl
theorem q1055 : (Jvm.Cond.code ({ cls := "DairyBook$Herd", name := "dry", desc := "(I)I" } : Jvm.MethodName) prog_6_method_14_code (3 : Nat) (Option.some Jvm.ClassFile.FieldType.int)) ∈ lw_all := lw_g (lw_at lw_m5 34 rfl) rfl
theorem q1064 : (Jvm.Cond.instanceMethod ({ cls := "DairyBook$Herd", name := "account", desc := "(I)I" } : Jvm.MethodName)) ∈ lw_all := lw_g (lw_at lw_m5 43 rfl) rfl
theorem q1065 : (Jvm.Cond.selects "DairyBook$Herd" ({ cls := "DairyBook$Herd", name := "account", desc := "(I)I" } : Jvm.MethodName) ({ cls := "DairyBook$Herd", name := "account", desc := "(I)I" } : Jvm.MethodName)) ∈ lw_all := lw_g (lw_at lw_m5 44 rfl) rfl
theorem q1066 : (Jvm.Cond.code ({ cls := "DairyBook$Herd", name := "account", desc := "(I)I" } : Jvm.MethodName) prog_6_method_24_code (2 : Nat) (Option.some Jvm.ClassFile.FieldType.int)) ∈ lw_all := lw_g (lw_at lw_m5 45 rfl) rfl
theorem q1067 : (Jvm.Cond.static ({ cls := "DairyBook$Herd", name := "lambda$account$0", desc := "(LDairyBook$Cow;)Z" } : Jvm.MethodName)) ∈ lw_all := lw_g (lw_at lw_m5 46 rfl) rfl
theorem q1068 : (Jvm.Cond.code ({ cls := "DairyBook$Herd", name := "lambda$account$0", desc := "(LDairyBook$Cow;)Z" } : Jvm.MethodName) prog_6_method_30_code (1 : Nat) (Option.some Jvm.ClassFile.FieldType.boolean)) ∈ lw_all := lw_g (lw_at lw_m5 47 rfl) rfl
theorem q1069 : (Jvm.Cond.methodLink "DairyBook$Herd" (232 : Nat) ({ cls := "DairyBook$Herd", name := "count", desc := "(LDairyBook$Chosen;)I" } : Jvm.MethodName)) ∈ lw_all := lw_g (lw_at lw_m5 48 rfl) rfl
theorem q1070 : (Jvm.Cond.instanceMethod ({ cls := "DairyBook$Herd", name := "count", desc := "(LDairyBook$Chosen;)I" } : Jvm.MethodName)) ∈ lw_all := lw_g (lw_at lw_m5 49 rfl) rfl
theorem q1071 : (Jvm.Cond.selects "DairyBook$Herd" ({ cls := "DairyBook$Herd", name := "count", desc := "(LDairyBook$Chosen;)I" } : Jvm.MethodName) ({ cls := "DairyBook$Herd", name := "count", desc := "(LDairyBook$Chosen;)I" } : Jvm.MethodName)) ∈ lw_all := lw_g (lw_at lw_m5 50 rfl) rfl
theorem q1072 : (Jvm.Cond.code ({ cls := "DairyBook$Herd", name := "count", desc := "(LDairyBook$Chosen;)I" } : Jvm.MethodName) prog_6_method_3_code (5 : Nat) (Option.some Jvm.ClassFile.FieldType.int)) ∈ lw_all := lw_g (lw_at lw_m5 51 rfl) rfl
theorem q1073 : (Jvm.Cond.interfaceEntry "DairyBook$Herd" (85 : Nat)) ∈ lw_tbl := lw_at lw_m5 52 rfl
theorem q1074 : (Jvm.Cond.methodLink "DairyBook$Herd" (85 : Nat) ({ cls := "DairyBook$Chosen", name := "holds", desc := "(LDairyBook$Cow;)Z" } : Jvm.MethodName)) ∈ lw_all := lw_g (lw_at lw_m5 53 rfl) rfl
theorem q1077 : (Jvm.Cond.static ({ cls := "DairyBook$Herd", name := "lambda$account$1", desc := "(LDairyBook$Cow;)Z" } : Jvm.MethodName)) ∈ lw_all := lw_g (lw_at lw_m5 56 rfl) rfl
theorem q1078 : (Jvm.Cond.code ({ cls := "DairyBook$Herd", name := "lambda$account$1", desc := "(LDairyBook$Cow;)Z" } : Jvm.MethodName) prog_6_method_29_code (1 : Nat) (Option.some Jvm.ClassFile.FieldType.boolean)) ∈ lw_all := lw_g (lw_at lw_m5 57 rfl) rfl
theorem q1079 : (Jvm.Cond.static ({ cls := "DairyBook$Herd", name := "lambda$account$2", desc := "(LDairyBook$Cow;)Z" } : Jvm.MethodName)) ∈ lw_all := lw_g (lw_at lw_m5 58 rfl) rfl
theorem q1080 : (Jvm.Cond.code ({ cls := "DairyBook$Herd", name := "lambda$account$2", desc := "(LDairyBook$Cow;)Z" } : Jvm.MethodName) prog_6_method_28_code (1 : Nat) (Option.some Jvm.ClassFile.FieldType.boolean)) ∈ lw_all := lw_g (lw_at lw_m5 59 rfl) rfl
theorem q1081 : (Jvm.Cond.static ({ cls := "DairyBook$Herd", name := "lambda$account$3", desc := "(LDairyBook$Cow;)I" } : Jvm.MethodName)) ∈ lw_all := lw_g (lw_at lw_m5 60 rfl) rfl
theorem q1082 : (Jvm.Cond.code ({ cls := "DairyBook$Herd", name := "lambda$account$3", desc := "(LDairyBook$Cow;)I" } : Jvm.MethodName) prog_6_method_27_code (1 : Nat) (Option.some Jvm.ClassFile.FieldType.int)) ∈ lw_all := lw_g (lw_at lw_m5 61 rfl) rfl
theorem q1083 : (Jvm.Cond.methodLink "DairyBook$Herd" (241 : Nat) ({ cls := "DairyBook$Herd", name := "sum", desc := "(LDairyBook$Measure;)I" } : Jvm.MethodName)) ∈ lw_all := lw_g (lw_at lw_m5 62 rfl) rfl
theorem q1084 : (Jvm.Cond.instanceMethod ({ cls := "DairyBook$Herd", name := "sum", desc := "(LDairyBook$Measure;)I" } : Jvm.MethodName)) ∈ lw_all := lw_g (lw_at lw_m5 63 rfl) rfl
theorem q1085 : (Jvm.Cond.selects "DairyBook$Herd" ({ cls := "DairyBook$Herd", name := "sum", desc := "(LDairyBook$Measure;)I" } : Jvm.MethodName) ({ cls := "DairyBook$Herd", name := "sum", desc := "(LDairyBook$Measure;)I" } : Jvm.MethodName)) ∈ lw_all := lw_g (lw_at lw_m5 64 rfl) rfl
theorem q1086 : (Jvm.Cond.code ({ cls := "DairyBook$Herd", name := "sum", desc := "(LDairyBook$Measure;)I" } : Jvm.MethodName) prog_6_method_4_code (5 : Nat) (Option.some Jvm.ClassFile.FieldType.int)) ∈ lw_all := lw_g (lw_at lw_m5 65 rfl) rfl
theorem q1087 : (Jvm.Cond.interfaceEntry "DairyBook$Herd" (91 : Nat)) ∈ lw_tbl := lw_at lw_m5 66 rfl
theorem q1088 : (Jvm.Cond.methodLink "DairyBook$Herd" (91 : Nat) ({ cls := "DairyBook$Measure", name := "of", desc := "(LDairyBook$Cow;)I" } : Jvm.MethodName)) ∈ lw_all := lw_g (lw_at lw_m5 67 rfl) rfl
theorem q1091 : (Jvm.Cond.static ({ cls := "DairyBook$Herd", name := "lambda$account$4", desc := "(LDairyBook$Cow;)I" } : Jvm.MethodName)) ∈ lw_all := lw_g (lw_at lw_m5 70 rfl) rfl
theorem q1092 : (Jvm.Cond.code ({ cls := "DairyBook$Herd", name := "lambda$account$4", desc := "(LDairyBook$Cow;)I" } : Jvm.MethodName) prog_6_method_26_code (1 : Nat) (Option.some Jvm.ClassFile.FieldType.int)) ∈ lw_all := lw_g (lw_at lw_m5 71 rfl) rfl
theorem q1093 : (Jvm.Cond.static ({ cls := "DairyBook$Herd", name := "lambda$account$5", desc := "(LDairyBook$Cow;)I" } : Jvm.MethodName)) ∈ lw_all := lw_g (lw_at lw_m5 72 rfl) rfl
theorem q1094 : (Jvm.Cond.code ({ cls := "DairyBook$Herd", name := "lambda$account$5", desc := "(LDairyBook$Cow;)I" } : Jvm.MethodName) prog_6_method_25_code (1 : Nat) (Option.some Jvm.ClassFile.FieldType.int)) ∈ lw_all := lw_g (lw_at lw_m5 73 rfl) rfl
theorem q1103 : (Jvm.Cond.instanceMethod ({ cls := "DairyBook$Herd", name := "refusesBonus", desc := "(II)I" } : Jvm.MethodName)) ∈ lw_all := lw_g (lw_at lw_m5 82 rfl) rfl
theorem q1104 : (Jvm.Cond.selects "DairyBook$Herd" ({ cls := "DairyBook$Herd", name := "refusesBonus", desc := "(II)I" } : Jvm.MethodName) ({ cls := "DairyBook$Herd", name := "refusesBonus", desc := "(II)I" } : Jvm.MethodName)) ∈ lw_all := lw_g (lw_at lw_m5 83 rfl) rfl
theorem q1105 : (Jvm.Cond.code ({ cls := "DairyBook$Herd", name := "refusesBonus", desc := "(II)I" } : Jvm.MethodName) prog_6_method_11_code (3 : Nat) (Option.some Jvm.ClassFile.FieldType.int)) ∈ lw_all := lw_g (lw_at lw_m5 84 rfl) rfl
theorem q1106 : (Jvm.Cond.methodLink "DairyBook$Herd" (132 : Nat) ({ cls := "DairyBook$Herd", name := "rowOf", desc := "(I)I" } : Jvm.MethodName)) ∈ lw_all := lw_g (lw_at lw_m5 85 rfl) rfl
theorem q1107 : (Jvm.Cond.privateMethod ({ cls := "DairyBook$Herd", name := "rowOf", desc := "(I)I" } : Jvm.MethodName)) ∈ lw_tbl := lw_at lw_m5 86 rfl
theorem q1108 : (Jvm.Cond.instanceMethod ({ cls := "DairyBook$Herd", name := "rowOf", desc := "(I)I" } : Jvm.MethodName)) ∈ lw_all := lw_g (lw_at lw_m5 87 rfl) rfl
theorem q1109 : (Jvm.Cond.code ({ cls := "DairyBook$Herd", name := "rowOf", desc := "(I)I" } : Jvm.MethodName) prog_6_method_10_code (3 : Nat) (Option.some Jvm.ClassFile.FieldType.int)) ∈ lw_all := lw_g (lw_at lw_m5 88 rfl) rfl
theorem q1110 : (Jvm.Cond.classLink "DairyBook$Herd" (127 : Nat) "DairyBook$Row") ∈ lw_all := lw_g (lw_at lw_m5 89 rfl) rfl
theorem q1112 : (Jvm.Cond.instanceMethod ({ cls := "DairyBook$Herd", name := "setBonus", desc := "(II)V" } : Jvm.MethodName)) ∈ lw_all := lw_g (lw_at lw_m5 91 rfl) rfl
theorem q1113 : (Jvm.Cond.selects "DairyBook$Herd" ({ cls := "DairyBook$Herd", name := "setBonus", desc := "(II)V" } : Jvm.MethodName) ({ cls := "DairyBook$Herd", name := "setBonus", desc := "(II)V" } : Jvm.MethodName)) ∈ lw_all := lw_g (lw_at lw_m5 92 rfl) rfl
theorem q1114 : (Jvm.Cond.code ({ cls := "DairyBook$Herd", name := "setBonus", desc := "(II)V" } : Jvm.MethodName) prog_6_method_15_code (4 : Nat) (Option.none : Option Jvm.ClassFile.FieldType)) ∈ lw_all := lw_g (lw_at lw_m5 93 rfl) rfl
theorem q1116 : (Jvm.Cond.methodLink "DairyBook$Herd" (153 : Nat) ({ cls := "DairyBook$Row", name := "<init>", desc := "(II)V" } : Jvm.MethodName)) ∈ lw_all := lw_g (lw_at lw_m5 95 rfl) rfl
theorem q1121 : (Jvm.Cond.fieldLinkNest "DairyBook$Herd" (129 : Nat) "DairyBook$Row" "limit" "I" "DairyBook") ∈ lw_tbl := lw_at lw_m5 100 rfl
theorem q1124 : (Jvm.Cond.fieldLinkNest "DairyBook$Herd" (191 : Nat) "DairyBook$Row" "bonus" "I" "DairyBook") ∈ lw_tbl := lw_at lw_m5 103 rfl
theorem q1131 : (Jvm.Cond.methodLink "DairyBook$Herd" (156 : Nat) ({ cls := "java/util/ArrayList", name := "set", desc := "(ILjava/lang/Object;)Ljava/lang/Object;" } : Jvm.MethodName)) ∈ lw_all := lw_g (lw_at lw_m5 110 rfl) rfl
theorem q1135 : (Jvm.Cond.methodLink "DairyBook$Herd" (160 : Nat) ({ cls := "java/util/ArrayList", name := "add", desc := "(ILjava/lang/Object;)V" } : Jvm.MethodName)) ∈ lw_all := lw_g (lw_at lw_m5 114 rfl) rfl
theorem q1189 : (Jvm.Cond.instanceMethod ({ cls := "DairyBook$Herd", name := "pass", desc := "(I)I" } : Jvm.MethodName)) ∈ lw_all := lw_g (lw_at lw_m5 168 rfl) rfl
theorem q1190 : (Jvm.Cond.selects "DairyBook$Herd" ({ cls := "DairyBook$Herd", name := "pass", desc := "(I)I" } : Jvm.MethodName) ({ cls := "DairyBook$Herd", name := "pass", desc := "(I)I" } : Jvm.MethodName)) ∈ lw_all := lw_g (lw_at lw_m5 169 rfl) rfl
theorem q1191 : (Jvm.Cond.code ({ cls := "DairyBook$Herd", name := "pass", desc := "(I)I" } : Jvm.MethodName) prog_6_method_23_code (4 : Nat) (Option.some Jvm.ClassFile.FieldType.int)) ∈ lw_all := lw_g (lw_at lw_m5 170 rfl) rfl
theorem q1192 : (Jvm.Cond.methodLink "DairyBook$Herd" (226 : Nat) ({ cls := "DairyBook$Herd", name := "day", desc := "()I" } : Jvm.MethodName)) ∈ lw_all := lw_g (lw_at lw_m5 171 rfl) rfl
theorem q1193 : (Jvm.Cond.privateMethod ({ cls := "DairyBook$Herd", name := "day", desc := "()I" } : Jvm.MethodName)) ∈ lw_tbl := lw_at lw_m5 172 rfl
theorem q1194 : (Jvm.Cond.instanceMethod ({ cls := "DairyBook$Herd", name := "day", desc := "()I" } : Jvm.MethodName)) ∈ lw_all := lw_g (lw_at lw_m5 173 rfl) rfl
theorem q1195 : (Jvm.Cond.code ({ cls := "DairyBook$Herd", name := "day", desc := "()I" } : Jvm.MethodName) prog_6_method_22_code (3 : Nat) (Option.some Jvm.ClassFile.FieldType.int)) ∈ lw_all := lw_g (lw_at lw_m5 174 rfl) rfl
theorem q1196 : (Jvm.Cond.methodLink "DairyBook$Herd" (214 : Nat) ({ cls := "DairyBook$Herd", name := "calve", desc := "(LDairyBook$Cow;)V" } : Jvm.MethodName)) ∈ lw_all := lw_g (lw_at lw_m5 175 rfl) rfl
theorem q1197 : (Jvm.Cond.privateMethod ({ cls := "DairyBook$Herd", name := "calve", desc := "(LDairyBook$Cow;)V" } : Jvm.MethodName)) ∈ lw_tbl := lw_at lw_m5 176 rfl
theorem q1198 : (Jvm.Cond.instanceMethod ({ cls := "DairyBook$Herd", name := "calve", desc := "(LDairyBook$Cow;)V" } : Jvm.MethodName)) ∈ lw_all := lw_g (lw_at lw_m5 177 rfl) rfl
theorem q1199 : (Jvm.Cond.code ({ cls := "DairyBook$Herd", name := "calve", desc := "(LDairyBook$Cow;)V" } : Jvm.MethodName) prog_6_method_16_code (2 : Nat) (Option.none : Option Jvm.ClassFile.FieldType)) ∈ lw_all := lw_g (lw_at lw_m5 178 rfl) rfl
theorem q1200 : (Jvm.Cond.methodLink "DairyBook$Herd" (163 : Nat) ({ cls := "DairyBook$Cow", name := "begin", desc := "(I)V" } : Jvm.MethodName)) ∈ lw_all := lw_g (lw_at lw_m5 179 rfl) rfl
theorem q1201 : (Jvm.Cond.methodLink "DairyBook$Herd" (217 : Nat) ({ cls := "DairyBook$Herd", name := "dryOff", desc := "(LDairyBook$Cow;)V" } : Jvm.MethodName)) ∈ lw_all := lw_g (lw_at lw_m5 180 rfl) rfl
theorem q1202 : (Jvm.Cond.privateMethod ({ cls := "DairyBook$Herd", name := "dryOff", desc := "(LDairyBook$Cow;)V" } : Jvm.MethodName)) ∈ lw_tbl := lw_at lw_m5 181 rfl
theorem q1203 : (Jvm.Cond.instanceMethod ({ cls := "DairyBook$Herd", name := "dryOff", desc := "(LDairyBook$Cow;)V" } : Jvm.MethodName)) ∈ lw_all := lw_g (lw_at lw_m5 182 rfl) rfl
theorem q1204 : (Jvm.Cond.code ({ cls := "DairyBook$Herd", name := "dryOff", desc := "(LDairyBook$Cow;)V" } : Jvm.MethodName) prog_6_method_17_code (2 : Nat) (Option.none : Option Jvm.ClassFile.FieldType)) ∈ lw_all := lw_g (lw_at lw_m5 183 rfl) rfl
theorem q1205 : (Jvm.Cond.methodLink "DairyBook$Herd" (220 : Nat) ({ cls := "DairyBook$Herd", name := "milk", desc := "(LDairyBook$Cow;)V" } : Jvm.MethodName)) ∈ lw_all := lw_g (lw_at lw_m5 184 rfl) rfl
theorem q1206 : (Jvm.Cond.privateMethod ({ cls := "DairyBook$Herd", name := "milk", desc := "(LDairyBook$Cow;)V" } : Jvm.MethodName)) ∈ lw_tbl := lw_at lw_m5 185 rfl
theorem q1207 : (Jvm.Cond.instanceMethod ({ cls := "DairyBook$Herd", name := "milk", desc := "(LDairyBook$Cow;)V" } : Jvm.MethodName)) ∈ lw_all := lw_g (lw_at lw_m5 186 rfl) rfl
theorem q1208 : (Jvm.Cond.code ({ cls := "DairyBook$Herd", name := "milk", desc := "(LDairyBook$Cow;)V" } : Jvm.MethodName) prog_6_method_18_code (3 : Nat) (Option.none : Option Jvm.ClassFile.FieldType)) ∈ lw_all := lw_g (lw_at lw_m5 187 rfl) rfl
theorem q1209 : (Jvm.Cond.methodLink "DairyBook$Herd" (167 : Nat) ({ cls := "DairyBook$Cow", name := "litres", desc := "(I)I" } : Jvm.MethodName)) ∈ lw_all := lw_g (lw_at lw_m5 188 rfl) rfl
theorem q1219 : (Jvm.Cond.methodLink "DairyBook$Herd" (173 : Nat) ({ cls := "DairyBook$Cow", name := "isHeld", desc := "(I)Z" } : Jvm.MethodName)) ∈ lw_all := lw_g (lw_at lw_m5 198 rfl) rfl
theorem q1223 : (Jvm.Cond.methodLink "DairyBook$Herd" (182 : Nat) ({ cls := "DairyBook$Tank", name := "fill", desc := "(III)I" } : Jvm.MethodName)) ∈ lw_all := lw_g (lw_at lw_m5 202 rfl) rfl
theorem q1233 : (Jvm.Cond.methodLink "DairyBook$Herd" (223 : Nat) ({ cls := "DairyBook$Herd", name := "pickUp", desc := "()I" } : Jvm.MethodName)) ∈ lw_all := lw_g (lw_at lw_m5 212 rfl) rfl
theorem q1234 : (Jvm.Cond.privateMethod ({ cls := "DairyBook$Herd", name := "pickUp", desc := "()I" } : Jvm.MethodName)) ∈ lw_tbl := lw_at lw_m5 213 rfl
theorem q1235 : (Jvm.Cond.instanceMethod ({ cls := "DairyBook$Herd", name := "pickUp", desc := "()I" } : Jvm.MethodName)) ∈ lw_all := lw_g (lw_at lw_m5 214 rfl) rfl
theorem q1236 : (Jvm.Cond.code ({ cls := "DairyBook$Herd", name := "pickUp", desc := "()I" } : Jvm.MethodName) prog_6_method_21_code (4 : Nat) (Option.some Jvm.ClassFile.FieldType.int)) ∈ lw_all := lw_g (lw_at lw_m5 215 rfl) rfl
theorem q1237 : (Jvm.Cond.classLink "DairyBook$Herd" (186 : Nat) "DairyBook$Pickup") ∈ lw_all := lw_g (lw_at lw_m5 216 rfl) rfl
theorem q1239 : (Jvm.Cond.methodLink "DairyBook$Herd" (196 : Nat) ({ cls := "DairyBook$Pickup", name := "<init>", desc := "(III)V" } : Jvm.MethodName)) ∈ lw_all := lw_g (lw_at lw_m5 218 rfl) rfl
theorem q1245 : (Jvm.Cond.fieldLinkNest "DairyBook$Herd" (188 : Nat) "DairyBook$Pickup" "litres" "I" "DairyBook") ∈ lw_tbl := lw_at lw_m5 224 rfl
theorem q1248 : (Jvm.Cond.fieldLinkNest "DairyBook$Herd" (190 : Nat) "DairyBook$Pickup" "cells" "I" "DairyBook") ∈ lw_tbl := lw_at lw_m5 227 rfl
theorem q1253 : (Jvm.Cond.fieldLinkNest "DairyBook$Herd" (211 : Nat) "DairyBook$Pickup" "pay" "I" "DairyBook") ∈ lw_tbl := lw_at lw_m5 232 rfl
theorem q1267 : (Jvm.Cond.methodLink "DairyBook$Herd" (199 : Nat) ({ cls := "DairyBook$Herd", name := "meanOfLatest", desc := "()I" } : Jvm.MethodName)) ∈ lw_all := lw_g (lw_at lw_m6 6 rfl) rfl
theorem q1268 : (Jvm.Cond.privateMethod ({ cls := "DairyBook$Herd", name := "meanOfLatest", desc := "()I" } : Jvm.MethodName)) ∈ lw_tbl := lw_at lw_m6 7 rfl
theorem q1269 : (Jvm.Cond.instanceMethod ({ cls := "DairyBook$Herd", name := "meanOfLatest", desc := "()I" } : Jvm.MethodName)) ∈ lw_all := lw_g (lw_at lw_m6 8 rfl) rfl
theorem q1270 : (Jvm.Cond.code ({ cls := "DairyBook$Herd", name := "meanOfLatest", desc := "()I" } : Jvm.MethodName) prog_6_method_19_code (5 : Nat) (Option.some Jvm.ClassFile.FieldType.int)) ∈ lw_all := lw_g (lw_at lw_m6 9 rfl) rfl
theorem q1271 : (Jvm.Cond.methodLink "DairyBook$Herd" (202 : Nat) ({ cls := "DairyBook$Herd", name := "bonusFor", desc := "(I)I" } : Jvm.MethodName)) ∈ lw_all := lw_g (lw_at lw_m6 10 rfl) rfl
theorem q1272 : (Jvm.Cond.privateMethod ({ cls := "DairyBook$Herd", name := "bonusFor", desc := "(I)I" } : Jvm.MethodName)) ∈ lw_tbl := lw_at lw_m6 11 rfl
theorem q1273 : (Jvm.Cond.instanceMethod ({ cls := "DairyBook$Herd", name := "bonusFor", desc := "(I)I" } : Jvm.MethodName)) ∈ lw_all := lw_g (lw_at lw_m6 12 rfl) rfl
theorem q1274 : (Jvm.Cond.code ({ cls := "DairyBook$Herd", name := "bonusFor", desc := "(I)I" } : Jvm.MethodName) prog_6_method_20_code (4 : Nat) (Option.some Jvm.ClassFile.FieldType.int)) ∈ lw_all := lw_g (lw_at lw_m6 13 rfl) rfl
theorem q1275 : (Jvm.Cond.methodLink "DairyBook$Herd" (205 : Nat) ({ cls := "DairyBook$Pickup", name := "settle", desc := "(III)V" } : Jvm.MethodName)) ∈ lw_all := lw_g (lw_at lw_m6 14 rfl) rfl
theorem q1279 : (Jvm.Cond.methodLink "DairyBook$Herd" (208 : Nat) ({ cls := "java/util/ArrayList", name := "remove", desc := "(I)Ljava/lang/Object;" } : Jvm.MethodName)) ∈ lw_all := lw_g (lw_at lw_m6 18 rfl) rfl
theorem q2225 : (Jvm.Cond.castable "DairyBook$Herd" "java/lang/Object") ∈ lw_tbl := lw_at lw_m10 4 rfl
theorem in_X2 : ∀ w ∈ wsX20, w ∈ lw_all := lw_in wsX20 [178, 180, 182, 184, 186, 188, 190, 192] (by decide +kernel) (by decide +kernel)
/-! DairyBook$Tank -/
set_option maxRecDepth 100000
def RX3 : String := "DairyBook$Tank"
def TX3 : u_T := fun k => match k with
  | 0 => ("DairyBook$Tank", "litres", "I", false)
  | _ => ("DairyBook$Tank", "cells", "I", false)
def tyX3 : Nat → FieldType := fun k => match k with
  | 0 => .int
  | _ => .int
abbrev wsX30 : List Cond := u_ws RX3 TX3 2
theorem nmX3 : ∀ a, a < 2 → ∀ b, b < 2 → a ≠ b → (TX3 a).2.1 ≠ (TX3 b).2.1 := by decide +kernel
theorem tyX3_ok : ∀ k, k < 2 → parseFieldDescriptor (TX3 k).2.2.1 = some (tyX3 k) := by decide +kernel
abbrev cX3_init : ByteArray := prog_13_method_1_code
def yX3_init : MethodName := ⟨RX3, "<init>", "()V"⟩
theorem dX3_init_0 : decode cX3_init 0 = .ok (.aload_n 0, 1) := by decide +kernel
theorem dX3_init_1 : decode cX3_init 1 = .ok (.invokespecial 1, 3) := by decide +kernel
theorem dX3_init_4 : decode cX3_init 4 = .ok (.return_, 1) := by decide +kernel
abbrev cX3_take : ByteArray := prog_13_method_2_code
def yX3_take : MethodName := ⟨RX3, "take", "(LDairyBook$Tank;)V"⟩
def dkwX3_take_0 : List UInt8 := [42, 43, 180, 0, 7, 181, 0, 7, 42, 43, 180, 0, 13, 181, 0, 13, 177]
abbrev dktX3_take_0 : List UInt8 := dkwX3_take_0 ++ []
theorem dksX3_take_0 : cX3_take.data.toList.drop 0 = dktX3_take_0 := by decide +kernel
theorem dX3_take_0 : decode cX3_take 0 = .ok (.aload_n 0, 1) := dk_42 (dk_at dksX3_take_0 0 rfl rfl)
theorem dX3_take_1 : decode cX3_take 1 = .ok (.aload_n 1, 1) := dk_43 (dk_at dksX3_take_0 1 rfl rfl)
theorem dX3_take_2 : decode cX3_take 2 = .ok (.getfield 7, 3) := dk_180 0 7 (dk_at dksX3_take_0 2 rfl rfl)
theorem dX3_take_5 : decode cX3_take 5 = .ok (.putfield 7, 3) := dk_181 0 7 (dk_at dksX3_take_0 5 rfl rfl)
theorem dX3_take_8 : decode cX3_take 8 = .ok (.aload_n 0, 1) := dk_42 (dk_at dksX3_take_0 8 rfl rfl)
theorem dX3_take_9 : decode cX3_take 9 = .ok (.aload_n 1, 1) := dk_43 (dk_at dksX3_take_0 9 rfl rfl)
theorem dX3_take_10 : decode cX3_take 10 = .ok (.getfield 13, 3) := dk_180 0 13 (dk_at dksX3_take_0 10 rfl rfl)
theorem dX3_take_13 : decode cX3_take 13 = .ok (.putfield 13, 3) := dk_181 0 13 (dk_at dksX3_take_0 13 rfl rfl)
theorem dX3_take_16 : decode cX3_take 16 = .ok (.return_, 1) := dk_177 (dk_at dksX3_take_0 16 rfl rfl)
abbrev cX3_fill : ByteArray := prog_13_method_4_code
def yX3_fill : MethodName := ⟨RX3, "fill", "(III)I"⟩
def dkwX3_fill_1 : List UInt8 := [180, 0, 13, 21, 4, 28, 104, 96, 181, 0, 13, 21, 4, 172]
abbrev dktX3_fill_1 : List UInt8 := dkwX3_fill_1 ++ []
def dkwX3_fill_0 : List UInt8 := [27, 42, 29, 182, 0, 22, 184, 0, 26, 54, 4, 42, 89, 180, 0, 7, 21, 4, 96, 181, 0, 7, 42, 89]
abbrev dktX3_fill_0 : List UInt8 := dkwX3_fill_0 ++ dktX3_fill_1
theorem dksX3_fill_0 : cX3_fill.data.toList.drop 0 = dktX3_fill_0 := by decide +kernel
theorem dksX3_fill_1 : cX3_fill.data.toList.drop 24 = dktX3_fill_1 := dk_seg dksX3_fill_0 24 rfl rfl
theorem dX3_fill_0 : decode cX3_fill 0 = .ok (.iload_n 1, 1) := dk_27 (dk_at dksX3_fill_0 0 rfl rfl)
theorem dX3_fill_1 : decode cX3_fill 1 = .ok (.aload_n 0, 1) := dk_42 (dk_at dksX3_fill_0 1 rfl rfl)
theorem dX3_fill_2 : decode cX3_fill 2 = .ok (.iload_n 3, 1) := dk_29 (dk_at dksX3_fill_0 2 rfl rfl)
theorem dX3_fill_3 : decode cX3_fill 3 = .ok (.invokevirtual 22, 3) := dk_182 0 22 (dk_at dksX3_fill_0 3 rfl rfl)
theorem dX3_fill_6 : decode cX3_fill 6 = .ok (.invokestatic 26, 3) := dk_184 0 26 (dk_at dksX3_fill_0 6 rfl rfl)
theorem dX3_fill_9 : decode cX3_fill 9 = .ok (.istore 4, 2) := dk_54 4 (dk_at dksX3_fill_0 9 rfl rfl)
theorem dX3_fill_11 : decode cX3_fill 11 = .ok (.aload_n 0, 1) := dk_42 (dk_at dksX3_fill_0 11 rfl rfl)
theorem dX3_fill_12 : decode cX3_fill 12 = .ok (.dup, 1) := dk_89 (dk_at dksX3_fill_0 12 rfl rfl)
theorem dX3_fill_13 : decode cX3_fill 13 = .ok (.getfield 7, 3) := dk_180 0 7 (dk_at dksX3_fill_0 13 rfl rfl)
theorem dX3_fill_16 : decode cX3_fill 16 = .ok (.iload 4, 2) := dk_21 4 (dk_at dksX3_fill_0 16 rfl rfl)
theorem dX3_fill_18 : decode cX3_fill 18 = .ok (.iadd, 1) := dk_96 (dk_at dksX3_fill_0 18 rfl rfl)
theorem dX3_fill_19 : decode cX3_fill 19 = .ok (.putfield 7, 3) := dk_181 0 7 (dk_at dksX3_fill_0 19 rfl rfl)
theorem dX3_fill_22 : decode cX3_fill 22 = .ok (.aload_n 0, 1) := dk_42 (dk_at dksX3_fill_0 22 rfl rfl)
theorem dX3_fill_23 : decode cX3_fill 23 = .ok (.dup, 1) := dk_89 (dk_at dksX3_fill_0 23 rfl rfl)
theorem dX3_fill_24 : decode cX3_fill 24 = .ok (.getfield 13, 3) := dk_180 0 13 (dk_at dksX3_fill_1 0 rfl rfl)
theorem dX3_fill_27 : decode cX3_fill 27 = .ok (.iload 4, 2) := dk_21 4 (dk_at dksX3_fill_1 3 rfl rfl)
theorem dX3_fill_29 : decode cX3_fill 29 = .ok (.iload_n 2, 1) := dk_28 (dk_at dksX3_fill_1 5 rfl rfl)
theorem dX3_fill_30 : decode cX3_fill 30 = .ok (.imul, 1) := dk_104 (dk_at dksX3_fill_1 6 rfl rfl)
theorem dX3_fill_31 : decode cX3_fill 31 = .ok (.iadd, 1) := dk_96 (dk_at dksX3_fill_1 7 rfl rfl)
theorem dX3_fill_32 : decode cX3_fill 32 = .ok (.putfield 13, 3) := dk_181 0 13 (dk_at dksX3_fill_1 8 rfl rfl)
theorem dX3_fill_35 : decode cX3_fill 35 = .ok (.iload 4, 2) := dk_21 4 (dk_at dksX3_fill_1 11 rfl rfl)
theorem dX3_fill_37 : decode cX3_fill 37 = .ok (.ireturn, 1) := dk_172 (dk_at dksX3_fill_1 13 rfl rfl)
abbrev cX3_room : ByteArray := prog_13_method_3_code
def yX3_room : MethodName := ⟨RX3, "room", "(I)I"⟩
def dkwX3_room_0 : List UInt8 := [3, 27, 42, 180, 0, 7, 100, 184, 0, 16, 172]
abbrev dktX3_room_0 : List UInt8 := dkwX3_room_0 ++ []
theorem dksX3_room_0 : cX3_room.data.toList.drop 0 = dktX3_room_0 := by decide +kernel
theorem dX3_room_0 : decode cX3_room 0 = .ok (.iconst 0, 1) := dk_3 (dk_at dksX3_room_0 0 rfl rfl)
theorem dX3_room_1 : decode cX3_room 1 = .ok (.iload_n 1, 1) := dk_27 (dk_at dksX3_room_0 1 rfl rfl)
theorem dX3_room_2 : decode cX3_room 2 = .ok (.aload_n 0, 1) := dk_42 (dk_at dksX3_room_0 2 rfl rfl)
theorem dX3_room_3 : decode cX3_room 3 = .ok (.getfield 7, 3) := dk_180 0 7 (dk_at dksX3_room_0 3 rfl rfl)
theorem dX3_room_6 : decode cX3_room 6 = .ok (.isub, 1) := dk_100 (dk_at dksX3_room_0 6 rfl rfl)
theorem dX3_room_7 : decode cX3_room 7 = .ok (.invokestatic 16, 3) := dk_184 0 16 (dk_at dksX3_room_0 7 rfl rfl)
theorem dX3_room_10 : decode cX3_room 10 = .ok (.ireturn, 1) := dk_172 (dk_at dksX3_room_0 10 rfl rfl)
abbrev cX3_count : ByteArray := prog_13_method_5_code
def yX3_count : MethodName := ⟨RX3, "count", "()I"⟩
def dkwX3_count_0 : List UInt8 := [42, 180, 0, 7, 154, 0, 7, 3, 167, 0, 12, 42, 180, 0, 13, 42, 180, 0, 7, 108, 172]
abbrev dktX3_count_0 : List UInt8 := dkwX3_count_0 ++ []
theorem dksX3_count_0 : cX3_count.data.toList.drop 0 = dktX3_count_0 := by decide +kernel
theorem dX3_count_0 : decode cX3_count 0 = .ok (.aload_n 0, 1) := dk_42 (dk_at dksX3_count_0 0 rfl rfl)
theorem dX3_count_1 : decode cX3_count 1 = .ok (.getfield 7, 3) := dk_180 0 7 (dk_at dksX3_count_0 1 rfl rfl)
theorem dX3_count_4 : decode cX3_count 4 = .ok (.ifCond .ne 7, 3) := dk_154 0 7 (dk_at dksX3_count_0 4 rfl rfl)
theorem dX3_count_7 : decode cX3_count 7 = .ok (.iconst 0, 1) := dk_3 (dk_at dksX3_count_0 7 rfl rfl)
theorem dX3_count_8 : decode cX3_count 8 = .ok (.goto 12, 3) := dk_167 0 12 (dk_at dksX3_count_0 8 rfl rfl)
theorem dX3_count_11 : decode cX3_count 11 = .ok (.aload_n 0, 1) := dk_42 (dk_at dksX3_count_0 11 rfl rfl)
theorem dX3_count_12 : decode cX3_count 12 = .ok (.getfield 13, 3) := dk_180 0 13 (dk_at dksX3_count_0 12 rfl rfl)
theorem dX3_count_15 : decode cX3_count 15 = .ok (.aload_n 0, 1) := dk_42 (dk_at dksX3_count_0 15 rfl rfl)
theorem dX3_count_16 : decode cX3_count 16 = .ok (.getfield 7, 3) := dk_180 0 7 (dk_at dksX3_count_0 16 rfl rfl)
theorem dX3_count_19 : decode cX3_count 19 = .ok (.idiv, 1) := dk_108 (dk_at dksX3_count_0 19 rfl rfl)
theorem dX3_count_20 : decode cX3_count 20 = .ok (.ireturn, 1) := dk_172 (dk_at dksX3_count_0 20 rfl rfl)
theorem q67 : (Jvm.Cond.initialized "DairyBook$Tank") ∈ lw_all := lw_g (lw_at lw_m1 6 rfl) rfl
theorem q147 : (Jvm.Cond.instantiable "DairyBook$Tank" (2 : Nat)) ∈ lw_all := lw_g (lw_at lw_m1 86 rfl) rfl
theorem q149 : (Jvm.Cond.instanceMethod ({ cls := "DairyBook$Tank", name := "<init>", desc := "()V" } : Jvm.MethodName)) ∈ lw_all := lw_g (lw_at lw_m1 88 rfl) rfl
theorem q150 : (Jvm.Cond.code ({ cls := "DairyBook$Tank", name := "<init>", desc := "()V" } : Jvm.MethodName) prog_13_method_1_code (1 : Nat) (Option.none : Option Jvm.ClassFile.FieldType)) ∈ lw_all := lw_g (lw_at lw_m1 89 rfl) rfl
theorem q151 : (Jvm.Cond.methodLink "DairyBook$Tank" (1 : Nat) ({ cls := "java/lang/Object", name := "<init>", desc := "()V" } : Jvm.MethodName)) ∈ lw_all := lw_g (lw_at lw_m1 90 rfl) rfl
theorem q152 : (Jvm.Cond.fieldLink "DairyBook$Tank" (7 : Nat) "DairyBook$Tank" "litres" "I") ∈ lw_all := lw_g (lw_at lw_m1 91 rfl) rfl
theorem q155 : (Jvm.Cond.fieldLink "DairyBook$Tank" (13 : Nat) "DairyBook$Tank" "cells" "I") ∈ lw_all := lw_g (lw_at lw_m1 94 rfl) rfl
theorem q158 : (Jvm.Cond.lays "DairyBook$Tank" "DairyBook$Tank" "litres" "I") ∈ lw_all := lw_g (lw_at lw_m1 97 rfl) rfl
theorem q159 : (Jvm.Cond.soleField "DairyBook$Tank" "litres") ∈ lw_all := lw_g (lw_at lw_m1 98 rfl) rfl
theorem q160 : (Jvm.Cond.lays "DairyBook$Tank" "DairyBook$Tank" "cells" "I") ∈ lw_all := lw_g (lw_at lw_m1 99 rfl) rfl
theorem q161 : (Jvm.Cond.soleField "DairyBook$Tank" "cells") ∈ lw_all := lw_g (lw_at lw_m1 100 rfl) rfl
theorem q162 : (Jvm.Cond.superclass "DairyBook$Tank" "java/lang/Object") ∈ lw_all := lw_g (lw_at lw_m1 101 rfl) rfl
theorem q514 : (Jvm.Cond.selects "DairyBook$Tank" ({ cls := "java/lang/Object", name := "getClass", desc := "()Ljava/lang/Class;" } : Jvm.MethodName) ({ cls := "java/lang/Object", name := "getClass", desc := "()Ljava/lang/Class;" } : Jvm.MethodName)) ∈ lw_all := lw_g (lw_at lw_m2 213 rfl) rfl
theorem q793 : (Jvm.Cond.instanceMethod ({ cls := "DairyBook$Tank", name := "take", desc := "(LDairyBook$Tank;)V" } : Jvm.MethodName)) ∈ lw_all := lw_g (lw_at lw_m4 12 rfl) rfl
theorem q794 : (Jvm.Cond.selects "DairyBook$Tank" ({ cls := "DairyBook$Tank", name := "take", desc := "(LDairyBook$Tank;)V" } : Jvm.MethodName) ({ cls := "DairyBook$Tank", name := "take", desc := "(LDairyBook$Tank;)V" } : Jvm.MethodName)) ∈ lw_all := lw_g (lw_at lw_m4 13 rfl) rfl
theorem q795 : (Jvm.Cond.code ({ cls := "DairyBook$Tank", name := "take", desc := "(LDairyBook$Tank;)V" } : Jvm.MethodName) prog_13_method_2_code (2 : Nat) (Option.none : Option Jvm.ClassFile.FieldType)) ∈ lw_all := lw_g (lw_at lw_m4 14 rfl) rfl
theorem q1224 : (Jvm.Cond.instanceMethod ({ cls := "DairyBook$Tank", name := "fill", desc := "(III)I" } : Jvm.MethodName)) ∈ lw_all := lw_g (lw_at lw_m5 203 rfl) rfl
theorem q1225 : (Jvm.Cond.selects "DairyBook$Tank" ({ cls := "DairyBook$Tank", name := "fill", desc := "(III)I" } : Jvm.MethodName) ({ cls := "DairyBook$Tank", name := "fill", desc := "(III)I" } : Jvm.MethodName)) ∈ lw_all := lw_g (lw_at lw_m5 204 rfl) rfl
theorem q1226 : (Jvm.Cond.code ({ cls := "DairyBook$Tank", name := "fill", desc := "(III)I" } : Jvm.MethodName) prog_13_method_4_code (5 : Nat) (Option.some Jvm.ClassFile.FieldType.int)) ∈ lw_all := lw_g (lw_at lw_m5 205 rfl) rfl
theorem q1227 : (Jvm.Cond.methodLink "DairyBook$Tank" (22 : Nat) ({ cls := "DairyBook$Tank", name := "room", desc := "(I)I" } : Jvm.MethodName)) ∈ lw_all := lw_g (lw_at lw_m5 206 rfl) rfl
theorem q1228 : (Jvm.Cond.instanceMethod ({ cls := "DairyBook$Tank", name := "room", desc := "(I)I" } : Jvm.MethodName)) ∈ lw_all := lw_g (lw_at lw_m5 207 rfl) rfl
theorem q1229 : (Jvm.Cond.selects "DairyBook$Tank" ({ cls := "DairyBook$Tank", name := "room", desc := "(I)I" } : Jvm.MethodName) ({ cls := "DairyBook$Tank", name := "room", desc := "(I)I" } : Jvm.MethodName)) ∈ lw_all := lw_g (lw_at lw_m5 208 rfl) rfl
theorem q1230 : (Jvm.Cond.code ({ cls := "DairyBook$Tank", name := "room", desc := "(I)I" } : Jvm.MethodName) prog_13_method_3_code (2 : Nat) (Option.some Jvm.ClassFile.FieldType.int)) ∈ lw_all := lw_g (lw_at lw_m5 209 rfl) rfl
theorem q1231 : (Jvm.Cond.methodLink "DairyBook$Tank" (16 : Nat) ({ cls := "java/lang/Math", name := "max", desc := "(II)I" } : Jvm.MethodName)) ∈ lw_all := lw_g (lw_at lw_m5 210 rfl) rfl
theorem q1232 : (Jvm.Cond.methodLink "DairyBook$Tank" (26 : Nat) ({ cls := "java/lang/Math", name := "min", desc := "(II)I" } : Jvm.MethodName)) ∈ lw_all := lw_g (lw_at lw_m5 211 rfl) rfl
theorem q1342 : (Jvm.Cond.instanceMethod ({ cls := "DairyBook$Tank", name := "count", desc := "()I" } : Jvm.MethodName)) ∈ lw_all := lw_g (lw_at lw_m6 81 rfl) rfl
theorem q1343 : (Jvm.Cond.selects "DairyBook$Tank" ({ cls := "DairyBook$Tank", name := "count", desc := "()I" } : Jvm.MethodName) ({ cls := "DairyBook$Tank", name := "count", desc := "()I" } : Jvm.MethodName)) ∈ lw_all := lw_g (lw_at lw_m6 82 rfl) rfl
theorem q1344 : (Jvm.Cond.code ({ cls := "DairyBook$Tank", name := "count", desc := "()I" } : Jvm.MethodName) prog_13_method_5_code (1 : Nat) (Option.some Jvm.ClassFile.FieldType.int)) ∈ lw_all := lw_g (lw_at lw_m6 83 rfl) rfl
theorem q2227 : (Jvm.Cond.castable "DairyBook$Tank" "java/lang/Object") ∈ lw_tbl := lw_at lw_m10 6 rfl
theorem in_X3 : ∀ w ∈ wsX30, w ∈ lw_all := lw_in wsX30 [158, 160] (by decide +kernel) (by decide +kernel)
/-! DairyBook$Cow -/
set_option maxRecDepth 100000
def RX5 : String := "DairyBook$Cow"
def TX5 : u_T := fun k => match k with
  | 0 => ("DairyBook$Cow", "number", "I", true)
  | 1 => ("DairyBook$Cow", "peak", "I", true)
  | 2 => ("DairyBook$Cow", "decline", "I", true)
  | 3 => ("DairyBook$Cow", "cells", "I", false)
  | 4 => ("DairyBook$Cow", "lactations", "I", false)
  | 5 => ("DairyBook$Cow", "isInMilk", "Z", false)
  | 6 => ("DairyBook$Cow", "isSold", "Z", false)
  | 7 => ("DairyBook$Cow", "calving", "I", false)
  | 8 => ("DairyBook$Cow", "due", "I", false)
  | 9 => ("DairyBook$Cow", "held", "I", false)
  | 10 => ("DairyBook$Cow", "given", "I", false)
  | _ => ("DairyBook$Cow", "taken", "I", false)
def tyX5 : Nat → FieldType := fun k => match k with
  | 0 => .int
  | 1 => .int
  | 2 => .int
  | 3 => .int
  | 4 => .int
  | 5 => .boolean
  | 6 => .boolean
  | 7 => .int
  | 8 => .int
  | 9 => .int
  | 10 => .int
  | _ => .int
abbrev wsX50 : List Cond := u_ws RX5 TX5 12
theorem nmX5 : ∀ a, a < 12 → ∀ b, b < 12 → a ≠ b → (TX5 a).2.1 ≠ (TX5 b).2.1 := by decide +kernel
theorem tyX5_ok : ∀ k, k < 12 → parseFieldDescriptor (TX5 k).2.2.1 = some (tyX5 k) := by decide +kernel
abbrev cX5_init : ByteArray := prog_4_method_2_code
def yX5_init : MethodName := ⟨RX5, "<init>", "(LDairyBook$Cow;)V"⟩
def dkwX5_init_3 : List UInt8 := [42, 43, 180, 0, 46, 181, 0, 46, 42, 43, 180, 0, 49, 181, 0, 49, 177]
abbrev dktX5_init_3 : List UInt8 := dkwX5_init_3 ++ []
def dkwX5_init_2 : List UInt8 := [42, 43, 180, 0, 40, 181, 0, 40, 42, 43, 180, 0, 15, 181, 0, 15, 42, 43, 180, 0, 43, 181, 0, 43]
abbrev dktX5_init_2 : List UInt8 := dkwX5_init_2 ++ dktX5_init_3
def dkwX5_init_1 : List UInt8 := [42, 43, 180, 0, 30, 181, 0, 30, 42, 43, 180, 0, 33, 181, 0, 33, 42, 43, 180, 0, 37, 181, 0, 37]
abbrev dktX5_init_1 : List UInt8 := dkwX5_init_1 ++ dktX5_init_2
def dkwX5_init_0 : List UInt8 := [42, 43, 180, 0, 18, 43, 180, 0, 21, 43, 180, 0, 24, 183, 0, 27, 42, 43, 180, 0, 9, 181, 0, 9]
abbrev dktX5_init_0 : List UInt8 := dkwX5_init_0 ++ dktX5_init_1
theorem dksX5_init_0 : cX5_init.data.toList.drop 0 = dktX5_init_0 := by decide +kernel
theorem dksX5_init_1 : cX5_init.data.toList.drop 24 = dktX5_init_1 := dk_seg dksX5_init_0 24 rfl rfl
theorem dksX5_init_2 : cX5_init.data.toList.drop 48 = dktX5_init_2 := dk_seg dksX5_init_1 24 rfl rfl
theorem dksX5_init_3 : cX5_init.data.toList.drop 72 = dktX5_init_3 := dk_seg dksX5_init_2 24 rfl rfl
theorem dX5_init_0 : decode cX5_init 0 = .ok (.aload_n 0, 1) := dk_42 (dk_at dksX5_init_0 0 rfl rfl)
theorem dX5_init_1 : decode cX5_init 1 = .ok (.aload_n 1, 1) := dk_43 (dk_at dksX5_init_0 1 rfl rfl)
theorem dX5_init_2 : decode cX5_init 2 = .ok (.getfield 18, 3) := dk_180 0 18 (dk_at dksX5_init_0 2 rfl rfl)
theorem dX5_init_5 : decode cX5_init 5 = .ok (.aload_n 1, 1) := dk_43 (dk_at dksX5_init_0 5 rfl rfl)
theorem dX5_init_6 : decode cX5_init 6 = .ok (.getfield 21, 3) := dk_180 0 21 (dk_at dksX5_init_0 6 rfl rfl)
theorem dX5_init_9 : decode cX5_init 9 = .ok (.aload_n 1, 1) := dk_43 (dk_at dksX5_init_0 9 rfl rfl)
theorem dX5_init_10 : decode cX5_init 10 = .ok (.getfield 24, 3) := dk_180 0 24 (dk_at dksX5_init_0 10 rfl rfl)
theorem dX5_init_13 : decode cX5_init 13 = .ok (.invokespecial 27, 3) := dk_183 0 27 (dk_at dksX5_init_0 13 rfl rfl)
theorem dX5_init_16 : decode cX5_init 16 = .ok (.aload_n 0, 1) := dk_42 (dk_at dksX5_init_0 16 rfl rfl)
theorem dX5_init_17 : decode cX5_init 17 = .ok (.aload_n 1, 1) := dk_43 (dk_at dksX5_init_0 17 rfl rfl)
theorem dX5_init_18 : decode cX5_init 18 = .ok (.getfield 9, 3) := dk_180 0 9 (dk_at dksX5_init_0 18 rfl rfl)
theorem dX5_init_21 : decode cX5_init 21 = .ok (.putfield 9, 3) := dk_181 0 9 (dk_at dksX5_init_0 21 rfl rfl)
theorem dX5_init_24 : decode cX5_init 24 = .ok (.aload_n 0, 1) := dk_42 (dk_at dksX5_init_1 0 rfl rfl)
theorem dX5_init_25 : decode cX5_init 25 = .ok (.aload_n 1, 1) := dk_43 (dk_at dksX5_init_1 1 rfl rfl)
theorem dX5_init_26 : decode cX5_init 26 = .ok (.getfield 30, 3) := dk_180 0 30 (dk_at dksX5_init_1 2 rfl rfl)
theorem dX5_init_29 : decode cX5_init 29 = .ok (.putfield 30, 3) := dk_181 0 30 (dk_at dksX5_init_1 5 rfl rfl)
theorem dX5_init_32 : decode cX5_init 32 = .ok (.aload_n 0, 1) := dk_42 (dk_at dksX5_init_1 8 rfl rfl)
theorem dX5_init_33 : decode cX5_init 33 = .ok (.aload_n 1, 1) := dk_43 (dk_at dksX5_init_1 9 rfl rfl)
theorem dX5_init_34 : decode cX5_init 34 = .ok (.getfield 33, 3) := dk_180 0 33 (dk_at dksX5_init_1 10 rfl rfl)
theorem dX5_init_37 : decode cX5_init 37 = .ok (.putfield 33, 3) := dk_181 0 33 (dk_at dksX5_init_1 13 rfl rfl)
theorem dX5_init_40 : decode cX5_init 40 = .ok (.aload_n 0, 1) := dk_42 (dk_at dksX5_init_1 16 rfl rfl)
theorem dX5_init_41 : decode cX5_init 41 = .ok (.aload_n 1, 1) := dk_43 (dk_at dksX5_init_1 17 rfl rfl)
theorem dX5_init_42 : decode cX5_init 42 = .ok (.getfield 37, 3) := dk_180 0 37 (dk_at dksX5_init_1 18 rfl rfl)
theorem dX5_init_45 : decode cX5_init 45 = .ok (.putfield 37, 3) := dk_181 0 37 (dk_at dksX5_init_1 21 rfl rfl)
theorem dX5_init_48 : decode cX5_init 48 = .ok (.aload_n 0, 1) := dk_42 (dk_at dksX5_init_2 0 rfl rfl)
theorem dX5_init_49 : decode cX5_init 49 = .ok (.aload_n 1, 1) := dk_43 (dk_at dksX5_init_2 1 rfl rfl)
theorem dX5_init_50 : decode cX5_init 50 = .ok (.getfield 40, 3) := dk_180 0 40 (dk_at dksX5_init_2 2 rfl rfl)
theorem dX5_init_53 : decode cX5_init 53 = .ok (.putfield 40, 3) := dk_181 0 40 (dk_at dksX5_init_2 5 rfl rfl)
theorem dX5_init_56 : decode cX5_init 56 = .ok (.aload_n 0, 1) := dk_42 (dk_at dksX5_init_2 8 rfl rfl)
theorem dX5_init_57 : decode cX5_init 57 = .ok (.aload_n 1, 1) := dk_43 (dk_at dksX5_init_2 9 rfl rfl)
theorem dX5_init_58 : decode cX5_init 58 = .ok (.getfield 15, 3) := dk_180 0 15 (dk_at dksX5_init_2 10 rfl rfl)
theorem dX5_init_61 : decode cX5_init 61 = .ok (.putfield 15, 3) := dk_181 0 15 (dk_at dksX5_init_2 13 rfl rfl)
theorem dX5_init_64 : decode cX5_init 64 = .ok (.aload_n 0, 1) := dk_42 (dk_at dksX5_init_2 16 rfl rfl)
theorem dX5_init_65 : decode cX5_init 65 = .ok (.aload_n 1, 1) := dk_43 (dk_at dksX5_init_2 17 rfl rfl)
theorem dX5_init_66 : decode cX5_init 66 = .ok (.getfield 43, 3) := dk_180 0 43 (dk_at dksX5_init_2 18 rfl rfl)
theorem dX5_init_69 : decode cX5_init 69 = .ok (.putfield 43, 3) := dk_181 0 43 (dk_at dksX5_init_2 21 rfl rfl)
theorem dX5_init_72 : decode cX5_init 72 = .ok (.aload_n 0, 1) := dk_42 (dk_at dksX5_init_3 0 rfl rfl)
theorem dX5_init_73 : decode cX5_init 73 = .ok (.aload_n 1, 1) := dk_43 (dk_at dksX5_init_3 1 rfl rfl)
theorem dX5_init_74 : decode cX5_init 74 = .ok (.getfield 46, 3) := dk_180 0 46 (dk_at dksX5_init_3 2 rfl rfl)
theorem dX5_init_77 : decode cX5_init 77 = .ok (.putfield 46, 3) := dk_181 0 46 (dk_at dksX5_init_3 5 rfl rfl)
theorem dX5_init_80 : decode cX5_init 80 = .ok (.aload_n 0, 1) := dk_42 (dk_at dksX5_init_3 8 rfl rfl)
theorem dX5_init_81 : decode cX5_init 81 = .ok (.aload_n 1, 1) := dk_43 (dk_at dksX5_init_3 9 rfl rfl)
theorem dX5_init_82 : decode cX5_init 82 = .ok (.getfield 49, 3) := dk_180 0 49 (dk_at dksX5_init_3 10 rfl rfl)
theorem dX5_init_85 : decode cX5_init 85 = .ok (.putfield 49, 3) := dk_181 0 49 (dk_at dksX5_init_3 13 rfl rfl)
theorem dX5_init_88 : decode cX5_init 88 = .ok (.return_, 1) := dk_177 (dk_at dksX5_init_3 16 rfl rfl)
abbrev cX5_init_2 : ByteArray := prog_4_method_1_code
def yX5_init_2 : MethodName := ⟨RX5, "<init>", "(III)V"⟩
def dkwX5_init_2_1 : List UInt8 := [181, 0, 21, 42, 29, 181, 0, 24, 177]
abbrev dktX5_init_2_1 : List UInt8 := dkwX5_init_2_1 ++ []
def dkwX5_init_2_0 : List UInt8 := [42, 183, 0, 3, 42, 16, 100, 181, 0, 9, 42, 2, 181, 0, 15, 42, 27, 181, 0, 18, 42, 28]
abbrev dktX5_init_2_0 : List UInt8 := dkwX5_init_2_0 ++ dktX5_init_2_1
theorem dksX5_init_2_0 : cX5_init_2.data.toList.drop 0 = dktX5_init_2_0 := by decide +kernel
theorem dksX5_init_2_1 : cX5_init_2.data.toList.drop 22 = dktX5_init_2_1 := dk_seg dksX5_init_2_0 22 rfl rfl
theorem dX5_init_2_0 : decode cX5_init_2 0 = .ok (.aload_n 0, 1) := dk_42 (dk_at dksX5_init_2_0 0 rfl rfl)
theorem dX5_init_2_1 : decode cX5_init_2 1 = .ok (.invokespecial 3, 3) := dk_183 0 3 (dk_at dksX5_init_2_0 1 rfl rfl)
theorem dX5_init_2_4 : decode cX5_init_2 4 = .ok (.aload_n 0, 1) := dk_42 (dk_at dksX5_init_2_0 4 rfl rfl)
theorem dX5_init_2_5 : decode cX5_init_2 5 = .ok (.bipush 100, 2) := dk_16 100 (dk_at dksX5_init_2_0 5 rfl rfl)
theorem dX5_init_2_7 : decode cX5_init_2 7 = .ok (.putfield 9, 3) := dk_181 0 9 (dk_at dksX5_init_2_0 7 rfl rfl)
theorem dX5_init_2_10 : decode cX5_init_2 10 = .ok (.aload_n 0, 1) := dk_42 (dk_at dksX5_init_2_0 10 rfl rfl)
theorem dX5_init_2_11 : decode cX5_init_2 11 = .ok (.iconst (-1), 1) := dk_2 (dk_at dksX5_init_2_0 11 rfl rfl)
theorem dX5_init_2_12 : decode cX5_init_2 12 = .ok (.putfield 15, 3) := dk_181 0 15 (dk_at dksX5_init_2_0 12 rfl rfl)
theorem dX5_init_2_15 : decode cX5_init_2 15 = .ok (.aload_n 0, 1) := dk_42 (dk_at dksX5_init_2_0 15 rfl rfl)
theorem dX5_init_2_16 : decode cX5_init_2 16 = .ok (.iload_n 1, 1) := dk_27 (dk_at dksX5_init_2_0 16 rfl rfl)
theorem dX5_init_2_17 : decode cX5_init_2 17 = .ok (.putfield 18, 3) := dk_181 0 18 (dk_at dksX5_init_2_0 17 rfl rfl)
theorem dX5_init_2_20 : decode cX5_init_2 20 = .ok (.aload_n 0, 1) := dk_42 (dk_at dksX5_init_2_0 20 rfl rfl)
theorem dX5_init_2_21 : decode cX5_init_2 21 = .ok (.iload_n 2, 1) := dk_28 (dk_at dksX5_init_2_0 21 rfl rfl)
theorem dX5_init_2_22 : decode cX5_init_2 22 = .ok (.putfield 21, 3) := dk_181 0 21 (dk_at dksX5_init_2_1 0 rfl rfl)
theorem dX5_init_2_25 : decode cX5_init_2 25 = .ok (.aload_n 0, 1) := dk_42 (dk_at dksX5_init_2_1 3 rfl rfl)
theorem dX5_init_2_26 : decode cX5_init_2 26 = .ok (.iload_n 3, 1) := dk_29 (dk_at dksX5_init_2_1 4 rfl rfl)
theorem dX5_init_2_27 : decode cX5_init_2 27 = .ok (.putfield 24, 3) := dk_181 0 24 (dk_at dksX5_init_2_1 5 rfl rfl)
theorem dX5_init_2_30 : decode cX5_init_2 30 = .ok (.return_, 1) := dk_177 (dk_at dksX5_init_2_1 8 rfl rfl)
abbrev cX5_begin : ByteArray := prog_4_method_9_code
def yX5_begin : MethodName := ⟨RX5, "begin", "(I)V"⟩
def dkwX5_begin_1 : List UInt8 := [181, 0, 15, 177]
abbrev dktX5_begin_1 : List UInt8 := dkwX5_begin_1 ++ []
def dkwX5_begin_0 : List UInt8 := [42, 4, 181, 0, 33, 42, 27, 181, 0, 40, 42, 89, 180, 0, 30, 4, 96, 181, 0, 30, 42, 2]
abbrev dktX5_begin_0 : List UInt8 := dkwX5_begin_0 ++ dktX5_begin_1
theorem dksX5_begin_0 : cX5_begin.data.toList.drop 0 = dktX5_begin_0 := by decide +kernel
theorem dksX5_begin_1 : cX5_begin.data.toList.drop 22 = dktX5_begin_1 := dk_seg dksX5_begin_0 22 rfl rfl
theorem dX5_begin_0 : decode cX5_begin 0 = .ok (.aload_n 0, 1) := dk_42 (dk_at dksX5_begin_0 0 rfl rfl)
theorem dX5_begin_1 : decode cX5_begin 1 = .ok (.iconst 1, 1) := dk_4 (dk_at dksX5_begin_0 1 rfl rfl)
theorem dX5_begin_2 : decode cX5_begin 2 = .ok (.putfield 33, 3) := dk_181 0 33 (dk_at dksX5_begin_0 2 rfl rfl)
theorem dX5_begin_5 : decode cX5_begin 5 = .ok (.aload_n 0, 1) := dk_42 (dk_at dksX5_begin_0 5 rfl rfl)
theorem dX5_begin_6 : decode cX5_begin 6 = .ok (.iload_n 1, 1) := dk_27 (dk_at dksX5_begin_0 6 rfl rfl)
theorem dX5_begin_7 : decode cX5_begin 7 = .ok (.putfield 40, 3) := dk_181 0 40 (dk_at dksX5_begin_0 7 rfl rfl)
theorem dX5_begin_10 : decode cX5_begin 10 = .ok (.aload_n 0, 1) := dk_42 (dk_at dksX5_begin_0 10 rfl rfl)
theorem dX5_begin_11 : decode cX5_begin 11 = .ok (.dup, 1) := dk_89 (dk_at dksX5_begin_0 11 rfl rfl)
theorem dX5_begin_12 : decode cX5_begin 12 = .ok (.getfield 30, 3) := dk_180 0 30 (dk_at dksX5_begin_0 12 rfl rfl)
theorem dX5_begin_15 : decode cX5_begin 15 = .ok (.iconst 1, 1) := dk_4 (dk_at dksX5_begin_0 15 rfl rfl)
theorem dX5_begin_16 : decode cX5_begin 16 = .ok (.iadd, 1) := dk_96 (dk_at dksX5_begin_0 16 rfl rfl)
theorem dX5_begin_17 : decode cX5_begin 17 = .ok (.putfield 30, 3) := dk_181 0 30 (dk_at dksX5_begin_0 17 rfl rfl)
theorem dX5_begin_20 : decode cX5_begin 20 = .ok (.aload_n 0, 1) := dk_42 (dk_at dksX5_begin_0 20 rfl rfl)
theorem dX5_begin_21 : decode cX5_begin 21 = .ok (.iconst (-1), 1) := dk_2 (dk_at dksX5_begin_0 21 rfl rfl)
theorem dX5_begin_22 : decode cX5_begin 22 = .ok (.putfield 15, 3) := dk_181 0 15 (dk_at dksX5_begin_1 0 rfl rfl)
theorem dX5_begin_25 : decode cX5_begin 25 = .ok (.return_, 1) := dk_177 (dk_at dksX5_begin_1 3 rfl rfl)
abbrev cX5_isCarrying : ByteArray := prog_4_method_4_code
def yX5_isCarrying : MethodName := ⟨RX5, "isCarrying", "()Z"⟩
def dkwX5_isCarrying_0 : List UInt8 := [42, 180, 0, 15, 2, 159, 0, 14, 42, 180, 0, 37, 154, 0, 7, 4, 167, 0, 4, 3, 172]
abbrev dktX5_isCarrying_0 : List UInt8 := dkwX5_isCarrying_0 ++ []
theorem dksX5_isCarrying_0 : cX5_isCarrying.data.toList.drop 0 = dktX5_isCarrying_0 := by decide +kernel
theorem dX5_isCarrying_0 : decode cX5_isCarrying 0 = .ok (.aload_n 0, 1) := dk_42 (dk_at dksX5_isCarrying_0 0 rfl rfl)
theorem dX5_isCarrying_1 : decode cX5_isCarrying 1 = .ok (.getfield 15, 3) := dk_180 0 15 (dk_at dksX5_isCarrying_0 1 rfl rfl)
theorem dX5_isCarrying_4 : decode cX5_isCarrying 4 = .ok (.iconst (-1), 1) := dk_2 (dk_at dksX5_isCarrying_0 4 rfl rfl)
theorem dX5_isCarrying_5 : decode cX5_isCarrying 5 = .ok (.if_icmp .eq 14, 3) := dk_159 0 14 (dk_at dksX5_isCarrying_0 5 rfl rfl)
theorem dX5_isCarrying_8 : decode cX5_isCarrying 8 = .ok (.aload_n 0, 1) := dk_42 (dk_at dksX5_isCarrying_0 8 rfl rfl)
theorem dX5_isCarrying_9 : decode cX5_isCarrying 9 = .ok (.getfield 37, 3) := dk_180 0 37 (dk_at dksX5_isCarrying_0 9 rfl rfl)
theorem dX5_isCarrying_12 : decode cX5_isCarrying 12 = .ok (.ifCond .ne 7, 3) := dk_154 0 7 (dk_at dksX5_isCarrying_0 12 rfl rfl)
theorem dX5_isCarrying_15 : decode cX5_isCarrying 15 = .ok (.iconst 1, 1) := dk_4 (dk_at dksX5_isCarrying_0 15 rfl rfl)
theorem dX5_isCarrying_16 : decode cX5_isCarrying 16 = .ok (.goto 4, 3) := dk_167 0 4 (dk_at dksX5_isCarrying_0 16 rfl rfl)
theorem dX5_isCarrying_19 : decode cX5_isCarrying 19 = .ok (.iconst 0, 1) := dk_3 (dk_at dksX5_isCarrying_0 19 rfl rfl)
theorem dX5_isCarrying_20 : decode cX5_isCarrying 20 = .ok (.ireturn, 1) := dk_172 (dk_at dksX5_isCarrying_0 20 rfl rfl)
abbrev cX5_isMilked : ByteArray := prog_4_method_5_code
def yX5_isMilked : MethodName := ⟨RX5, "isMilked", "()Z"⟩
def dkwX5_isMilked_0 : List UInt8 := [42, 180, 0, 33, 153, 0, 14, 42, 180, 0, 37, 154, 0, 7, 4, 167, 0, 4, 3, 172]
abbrev dktX5_isMilked_0 : List UInt8 := dkwX5_isMilked_0 ++ []
theorem dksX5_isMilked_0 : cX5_isMilked.data.toList.drop 0 = dktX5_isMilked_0 := by decide +kernel
theorem dX5_isMilked_0 : decode cX5_isMilked 0 = .ok (.aload_n 0, 1) := dk_42 (dk_at dksX5_isMilked_0 0 rfl rfl)
theorem dX5_isMilked_1 : decode cX5_isMilked 1 = .ok (.getfield 33, 3) := dk_180 0 33 (dk_at dksX5_isMilked_0 1 rfl rfl)
theorem dX5_isMilked_4 : decode cX5_isMilked 4 = .ok (.ifCond .eq 14, 3) := dk_153 0 14 (dk_at dksX5_isMilked_0 4 rfl rfl)
theorem dX5_isMilked_7 : decode cX5_isMilked 7 = .ok (.aload_n 0, 1) := dk_42 (dk_at dksX5_isMilked_0 7 rfl rfl)
theorem dX5_isMilked_8 : decode cX5_isMilked 8 = .ok (.getfield 37, 3) := dk_180 0 37 (dk_at dksX5_isMilked_0 8 rfl rfl)
theorem dX5_isMilked_11 : decode cX5_isMilked 11 = .ok (.ifCond .ne 7, 3) := dk_154 0 7 (dk_at dksX5_isMilked_0 11 rfl rfl)
theorem dX5_isMilked_14 : decode cX5_isMilked 14 = .ok (.iconst 1, 1) := dk_4 (dk_at dksX5_isMilked_0 14 rfl rfl)
theorem dX5_isMilked_15 : decode cX5_isMilked 15 = .ok (.goto 4, 3) := dk_167 0 4 (dk_at dksX5_isMilked_0 15 rfl rfl)
theorem dX5_isMilked_18 : decode cX5_isMilked 18 = .ok (.iconst 0, 1) := dk_3 (dk_at dksX5_isMilked_0 18 rfl rfl)
theorem dX5_isMilked_19 : decode cX5_isMilked 19 = .ok (.ireturn, 1) := dk_172 (dk_at dksX5_isMilked_0 19 rfl rfl)
abbrev cX5_daysInMilk : ByteArray := prog_4_method_6_code
def yX5_daysInMilk : MethodName := ⟨RX5, "daysInMilk", "(I)I"⟩
def dkwX5_daysInMilk_0 : List UInt8 := [42, 182, 0, 61, 153, 0, 12, 27, 42, 180, 0, 40, 100, 167, 0, 4, 2, 172]
abbrev dktX5_daysInMilk_0 : List UInt8 := dkwX5_daysInMilk_0 ++ []
theorem dksX5_daysInMilk_0 : cX5_daysInMilk.data.toList.drop 0 = dktX5_daysInMilk_0 := by decide +kernel
theorem dX5_daysInMilk_0 : decode cX5_daysInMilk 0 = .ok (.aload_n 0, 1) := dk_42 (dk_at dksX5_daysInMilk_0 0 rfl rfl)
theorem dX5_daysInMilk_1 : decode cX5_daysInMilk 1 = .ok (.invokevirtual 61, 3) := dk_182 0 61 (dk_at dksX5_daysInMilk_0 1 rfl rfl)
theorem dX5_daysInMilk_4 : decode cX5_daysInMilk 4 = .ok (.ifCond .eq 12, 3) := dk_153 0 12 (dk_at dksX5_daysInMilk_0 4 rfl rfl)
theorem dX5_daysInMilk_7 : decode cX5_daysInMilk 7 = .ok (.iload_n 1, 1) := dk_27 (dk_at dksX5_daysInMilk_0 7 rfl rfl)
theorem dX5_daysInMilk_8 : decode cX5_daysInMilk 8 = .ok (.aload_n 0, 1) := dk_42 (dk_at dksX5_daysInMilk_0 8 rfl rfl)
theorem dX5_daysInMilk_9 : decode cX5_daysInMilk 9 = .ok (.getfield 40, 3) := dk_180 0 40 (dk_at dksX5_daysInMilk_0 9 rfl rfl)
theorem dX5_daysInMilk_12 : decode cX5_daysInMilk 12 = .ok (.isub, 1) := dk_100 (dk_at dksX5_daysInMilk_0 12 rfl rfl)
theorem dX5_daysInMilk_13 : decode cX5_daysInMilk 13 = .ok (.goto 4, 3) := dk_167 0 4 (dk_at dksX5_daysInMilk_0 13 rfl rfl)
theorem dX5_daysInMilk_16 : decode cX5_daysInMilk 16 = .ok (.iconst (-1), 1) := dk_2 (dk_at dksX5_daysInMilk_0 16 rfl rfl)
theorem dX5_daysInMilk_17 : decode cX5_daysInMilk 17 = .ok (.ireturn, 1) := dk_172 (dk_at dksX5_daysInMilk_0 17 rfl rfl)
abbrev cX5_litres : ByteArray := prog_4_method_7_code
def yX5_litres : MethodName := ⟨RX5, "litres", "(I)I"⟩
def dkwX5_litres_0 : List UInt8 := [42, 182, 0, 61, 153, 0, 16, 42, 27, 42, 180, 0, 40, 100, 182, 0, 65, 167, 0, 4, 3, 172]
abbrev dktX5_litres_0 : List UInt8 := dkwX5_litres_0 ++ []
theorem dksX5_litres_0 : cX5_litres.data.toList.drop 0 = dktX5_litres_0 := by decide +kernel
theorem dX5_litres_0 : decode cX5_litres 0 = .ok (.aload_n 0, 1) := dk_42 (dk_at dksX5_litres_0 0 rfl rfl)
theorem dX5_litres_1 : decode cX5_litres 1 = .ok (.invokevirtual 61, 3) := dk_182 0 61 (dk_at dksX5_litres_0 1 rfl rfl)
theorem dX5_litres_4 : decode cX5_litres 4 = .ok (.ifCond .eq 16, 3) := dk_153 0 16 (dk_at dksX5_litres_0 4 rfl rfl)
theorem dX5_litres_7 : decode cX5_litres 7 = .ok (.aload_n 0, 1) := dk_42 (dk_at dksX5_litres_0 7 rfl rfl)
theorem dX5_litres_8 : decode cX5_litres 8 = .ok (.iload_n 1, 1) := dk_27 (dk_at dksX5_litres_0 8 rfl rfl)
theorem dX5_litres_9 : decode cX5_litres 9 = .ok (.aload_n 0, 1) := dk_42 (dk_at dksX5_litres_0 9 rfl rfl)
theorem dX5_litres_10 : decode cX5_litres 10 = .ok (.getfield 40, 3) := dk_180 0 40 (dk_at dksX5_litres_0 10 rfl rfl)
theorem dX5_litres_13 : decode cX5_litres 13 = .ok (.isub, 1) := dk_100 (dk_at dksX5_litres_0 13 rfl rfl)
theorem dX5_litres_14 : decode cX5_litres 14 = .ok (.invokevirtual 65, 3) := dk_182 0 65 (dk_at dksX5_litres_0 14 rfl rfl)
theorem dX5_litres_17 : decode cX5_litres 17 = .ok (.goto 4, 3) := dk_167 0 4 (dk_at dksX5_litres_0 17 rfl rfl)
theorem dX5_litres_20 : decode cX5_litres 20 = .ok (.iconst 0, 1) := dk_3 (dk_at dksX5_litres_0 20 rfl rfl)
theorem dX5_litres_21 : decode cX5_litres 21 = .ok (.ireturn, 1) := dk_172 (dk_at dksX5_litres_0 21 rfl rfl)
abbrev cX5_curve : ByteArray := prog_4_method_3_code
def yX5_curve : MethodName := ⟨RX5, "curve", "(I)I"⟩
def dkwX5_curve_1 : List UInt8 := [180, 0, 24, 27, 104, 16, 20, 108, 100, 62, 3, 28, 29, 184, 0, 52, 184, 0, 58, 172]
abbrev dktX5_curve_1 : List UInt8 := dkwX5_curve_1 ++ []
def dkwX5_curve_0 : List UInt8 := [42, 180, 0, 21, 5, 108, 42, 180, 0, 21, 27, 104, 16, 40, 108, 96, 61, 42, 180, 0, 21, 42]
abbrev dktX5_curve_0 : List UInt8 := dkwX5_curve_0 ++ dktX5_curve_1
theorem dksX5_curve_0 : cX5_curve.data.toList.drop 0 = dktX5_curve_0 := by decide +kernel
theorem dksX5_curve_1 : cX5_curve.data.toList.drop 22 = dktX5_curve_1 := dk_seg dksX5_curve_0 22 rfl rfl
theorem dX5_curve_0 : decode cX5_curve 0 = .ok (.aload_n 0, 1) := dk_42 (dk_at dksX5_curve_0 0 rfl rfl)
theorem dX5_curve_1 : decode cX5_curve 1 = .ok (.getfield 21, 3) := dk_180 0 21 (dk_at dksX5_curve_0 1 rfl rfl)
theorem dX5_curve_4 : decode cX5_curve 4 = .ok (.iconst 2, 1) := dk_5 (dk_at dksX5_curve_0 4 rfl rfl)
theorem dX5_curve_5 : decode cX5_curve 5 = .ok (.idiv, 1) := dk_108 (dk_at dksX5_curve_0 5 rfl rfl)
theorem dX5_curve_6 : decode cX5_curve 6 = .ok (.aload_n 0, 1) := dk_42 (dk_at dksX5_curve_0 6 rfl rfl)
theorem dX5_curve_7 : decode cX5_curve 7 = .ok (.getfield 21, 3) := dk_180 0 21 (dk_at dksX5_curve_0 7 rfl rfl)
theorem dX5_curve_10 : decode cX5_curve 10 = .ok (.iload_n 1, 1) := dk_27 (dk_at dksX5_curve_0 10 rfl rfl)
theorem dX5_curve_11 : decode cX5_curve 11 = .ok (.imul, 1) := dk_104 (dk_at dksX5_curve_0 11 rfl rfl)
theorem dX5_curve_12 : decode cX5_curve 12 = .ok (.bipush 40, 2) := dk_16 40 (dk_at dksX5_curve_0 12 rfl rfl)
theorem dX5_curve_14 : decode cX5_curve 14 = .ok (.idiv, 1) := dk_108 (dk_at dksX5_curve_0 14 rfl rfl)
theorem dX5_curve_15 : decode cX5_curve 15 = .ok (.iadd, 1) := dk_96 (dk_at dksX5_curve_0 15 rfl rfl)
theorem dX5_curve_16 : decode cX5_curve 16 = .ok (.istore_n 2, 1) := dk_61 (dk_at dksX5_curve_0 16 rfl rfl)
theorem dX5_curve_17 : decode cX5_curve 17 = .ok (.aload_n 0, 1) := dk_42 (dk_at dksX5_curve_0 17 rfl rfl)
theorem dX5_curve_18 : decode cX5_curve 18 = .ok (.getfield 21, 3) := dk_180 0 21 (dk_at dksX5_curve_0 18 rfl rfl)
theorem dX5_curve_21 : decode cX5_curve 21 = .ok (.aload_n 0, 1) := dk_42 (dk_at dksX5_curve_0 21 rfl rfl)
theorem dX5_curve_22 : decode cX5_curve 22 = .ok (.getfield 24, 3) := dk_180 0 24 (dk_at dksX5_curve_1 0 rfl rfl)
theorem dX5_curve_25 : decode cX5_curve 25 = .ok (.iload_n 1, 1) := dk_27 (dk_at dksX5_curve_1 3 rfl rfl)
theorem dX5_curve_26 : decode cX5_curve 26 = .ok (.imul, 1) := dk_104 (dk_at dksX5_curve_1 4 rfl rfl)
theorem dX5_curve_27 : decode cX5_curve 27 = .ok (.bipush 20, 2) := dk_16 20 (dk_at dksX5_curve_1 5 rfl rfl)
theorem dX5_curve_29 : decode cX5_curve 29 = .ok (.idiv, 1) := dk_108 (dk_at dksX5_curve_1 7 rfl rfl)
theorem dX5_curve_30 : decode cX5_curve 30 = .ok (.isub, 1) := dk_100 (dk_at dksX5_curve_1 8 rfl rfl)
theorem dX5_curve_31 : decode cX5_curve 31 = .ok (.istore_n 3, 1) := dk_62 (dk_at dksX5_curve_1 9 rfl rfl)
theorem dX5_curve_32 : decode cX5_curve 32 = .ok (.iconst 0, 1) := dk_3 (dk_at dksX5_curve_1 10 rfl rfl)
theorem dX5_curve_33 : decode cX5_curve 33 = .ok (.iload_n 2, 1) := dk_28 (dk_at dksX5_curve_1 11 rfl rfl)
theorem dX5_curve_34 : decode cX5_curve 34 = .ok (.iload_n 3, 1) := dk_29 (dk_at dksX5_curve_1 12 rfl rfl)
theorem dX5_curve_35 : decode cX5_curve 35 = .ok (.invokestatic 52, 3) := dk_184 0 52 (dk_at dksX5_curve_1 13 rfl rfl)
theorem dX5_curve_38 : decode cX5_curve 38 = .ok (.invokestatic 58, 3) := dk_184 0 58 (dk_at dksX5_curve_1 16 rfl rfl)
theorem dX5_curve_41 : decode cX5_curve 41 = .ok (.ireturn, 1) := dk_172 (dk_at dksX5_curve_1 19 rfl rfl)
abbrev cX5_isHeld : ByteArray := prog_4_method_8_code
def yX5_isHeld : MethodName := ⟨RX5, "isHeld", "(I)Z"⟩
def dkwX5_isHeld_0 : List UInt8 := [27, 42, 180, 0, 40, 100, 7, 161, 0, 11, 42, 180, 0, 43, 27, 164, 0, 7, 4, 167, 0, 4, 3, 172]
abbrev dktX5_isHeld_0 : List UInt8 := dkwX5_isHeld_0 ++ []
theorem dksX5_isHeld_0 : cX5_isHeld.data.toList.drop 0 = dktX5_isHeld_0 := by decide +kernel
theorem dX5_isHeld_0 : decode cX5_isHeld 0 = .ok (.iload_n 1, 1) := dk_27 (dk_at dksX5_isHeld_0 0 rfl rfl)
theorem dX5_isHeld_1 : decode cX5_isHeld 1 = .ok (.aload_n 0, 1) := dk_42 (dk_at dksX5_isHeld_0 1 rfl rfl)
theorem dX5_isHeld_2 : decode cX5_isHeld 2 = .ok (.getfield 40, 3) := dk_180 0 40 (dk_at dksX5_isHeld_0 2 rfl rfl)
theorem dX5_isHeld_5 : decode cX5_isHeld 5 = .ok (.isub, 1) := dk_100 (dk_at dksX5_isHeld_0 5 rfl rfl)
theorem dX5_isHeld_6 : decode cX5_isHeld 6 = .ok (.iconst 4, 1) := dk_7 (dk_at dksX5_isHeld_0 6 rfl rfl)
theorem dX5_isHeld_7 : decode cX5_isHeld 7 = .ok (.if_icmp .lt 11, 3) := dk_161 0 11 (dk_at dksX5_isHeld_0 7 rfl rfl)
theorem dX5_isHeld_10 : decode cX5_isHeld 10 = .ok (.aload_n 0, 1) := dk_42 (dk_at dksX5_isHeld_0 10 rfl rfl)
theorem dX5_isHeld_11 : decode cX5_isHeld 11 = .ok (.getfield 43, 3) := dk_180 0 43 (dk_at dksX5_isHeld_0 11 rfl rfl)
theorem dX5_isHeld_14 : decode cX5_isHeld 14 = .ok (.iload_n 1, 1) := dk_27 (dk_at dksX5_isHeld_0 14 rfl rfl)
theorem dX5_isHeld_15 : decode cX5_isHeld 15 = .ok (.if_icmp .le 7, 3) := dk_164 0 7 (dk_at dksX5_isHeld_0 15 rfl rfl)
theorem dX5_isHeld_18 : decode cX5_isHeld 18 = .ok (.iconst 1, 1) := dk_4 (dk_at dksX5_isHeld_0 18 rfl rfl)
theorem dX5_isHeld_19 : decode cX5_isHeld 19 = .ok (.goto 4, 3) := dk_167 0 4 (dk_at dksX5_isHeld_0 19 rfl rfl)
theorem dX5_isHeld_22 : decode cX5_isHeld 22 = .ok (.iconst 0, 1) := dk_3 (dk_at dksX5_isHeld_0 22 rfl rfl)
theorem dX5_isHeld_23 : decode cX5_isHeld 23 = .ok (.ireturn, 1) := dk_172 (dk_at dksX5_isHeld_0 23 rfl rfl)
abbrev cX5_told : ByteArray := prog_4_method_11_code
def yX5_told : MethodName := ⟨RX5, "told", "(II)I"⟩
def dkwX5_told_4 : List UInt8 := [180, 0, 49, 172, 42, 28, 182, 0, 79, 172]
abbrev dktX5_told_4 : List UInt8 := dkwX5_told_4 ++ []
def dkwX5_told_3 : List UInt8 := [180, 0, 15, 167, 0, 4, 2, 172, 42, 180, 0, 9, 172, 42, 180, 0, 43, 172, 42, 180, 0, 46, 172, 42]
abbrev dktX5_told_3 : List UInt8 := dkwX5_told_3 ++ dktX5_told_4
def dkwX5_told_2 : List UInt8 := [42, 182, 0, 69, 172, 42, 180, 0, 30, 172, 42, 28, 182, 0, 73, 172, 42, 182, 0, 76, 153, 0, 10, 42]
abbrev dktX5_told_2 : List UInt8 := dkwX5_told_2 ++ dktX5_told_3
def dkwX5_told_1 : List UInt8 := [170, 0, 0, 0, 0, 0, 99, 0, 0, 0, 0, 0, 0, 0, 7, 0, 0, 0, 47, 0, 0, 0, 52, 0, 0, 0, 57, 0, 0, 0, 63, 0, 0, 0, 79, 0, 0, 0, 84, 0, 0, 0, 89, 0, 0, 0, 94]
abbrev dktX5_told_1 : List UInt8 := dkwX5_told_1 ++ dktX5_told_2
def dkwX5_told_0 : List UInt8 := [27]
abbrev dktX5_told_0 : List UInt8 := dkwX5_told_0 ++ dktX5_told_1
theorem dksX5_told_0 : cX5_told.data.toList.drop 0 = dktX5_told_0 := by decide +kernel
theorem dksX5_told_1 : cX5_told.data.toList.drop 1 = dktX5_told_1 := dk_seg dksX5_told_0 1 rfl rfl
theorem dksX5_told_2 : cX5_told.data.toList.drop 48 = dktX5_told_2 := dk_seg dksX5_told_1 47 rfl rfl
theorem dksX5_told_3 : cX5_told.data.toList.drop 72 = dktX5_told_3 := dk_seg dksX5_told_2 24 rfl rfl
theorem dksX5_told_4 : cX5_told.data.toList.drop 96 = dktX5_told_4 := dk_seg dksX5_told_3 24 rfl rfl
theorem dX5_told_0 : decode cX5_told 0 = .ok (.iload_n 1, 1) := dk_27 (dk_at dksX5_told_0 0 rfl rfl)
theorem dX5_told_1 : decode cX5_told 1 = .ok (.tableswitch 99 0 7 #[47, 52, 57, 63, 79, 84, 89, 94], 47) := by decide +kernel
theorem dX5_told_48 : decode cX5_told 48 = .ok (.aload_n 0, 1) := dk_42 (dk_at dksX5_told_2 0 rfl rfl)
theorem dX5_told_49 : decode cX5_told 49 = .ok (.invokevirtual 69, 3) := dk_182 0 69 (dk_at dksX5_told_2 1 rfl rfl)
theorem dX5_told_52 : decode cX5_told 52 = .ok (.ireturn, 1) := dk_172 (dk_at dksX5_told_2 4 rfl rfl)
theorem dX5_told_53 : decode cX5_told 53 = .ok (.aload_n 0, 1) := dk_42 (dk_at dksX5_told_2 5 rfl rfl)
theorem dX5_told_54 : decode cX5_told 54 = .ok (.getfield 30, 3) := dk_180 0 30 (dk_at dksX5_told_2 6 rfl rfl)
theorem dX5_told_57 : decode cX5_told 57 = .ok (.ireturn, 1) := dk_172 (dk_at dksX5_told_2 9 rfl rfl)
theorem dX5_told_58 : decode cX5_told 58 = .ok (.aload_n 0, 1) := dk_42 (dk_at dksX5_told_2 10 rfl rfl)
theorem dX5_told_59 : decode cX5_told 59 = .ok (.iload_n 2, 1) := dk_28 (dk_at dksX5_told_2 11 rfl rfl)
theorem dX5_told_60 : decode cX5_told 60 = .ok (.invokevirtual 73, 3) := dk_182 0 73 (dk_at dksX5_told_2 12 rfl rfl)
theorem dX5_told_63 : decode cX5_told 63 = .ok (.ireturn, 1) := dk_172 (dk_at dksX5_told_2 15 rfl rfl)
theorem dX5_told_64 : decode cX5_told 64 = .ok (.aload_n 0, 1) := dk_42 (dk_at dksX5_told_2 16 rfl rfl)
theorem dX5_told_65 : decode cX5_told 65 = .ok (.invokevirtual 76, 3) := dk_182 0 76 (dk_at dksX5_told_2 17 rfl rfl)
theorem dX5_told_68 : decode cX5_told 68 = .ok (.ifCond .eq 10, 3) := dk_153 0 10 (dk_at dksX5_told_2 20 rfl rfl)
theorem dX5_told_71 : decode cX5_told 71 = .ok (.aload_n 0, 1) := dk_42 (dk_at dksX5_told_2 23 rfl rfl)
theorem dX5_told_72 : decode cX5_told 72 = .ok (.getfield 15, 3) := dk_180 0 15 (dk_at dksX5_told_3 0 rfl rfl)
theorem dX5_told_75 : decode cX5_told 75 = .ok (.goto 4, 3) := dk_167 0 4 (dk_at dksX5_told_3 3 rfl rfl)
theorem dX5_told_78 : decode cX5_told 78 = .ok (.iconst (-1), 1) := dk_2 (dk_at dksX5_told_3 6 rfl rfl)
theorem dX5_told_79 : decode cX5_told 79 = .ok (.ireturn, 1) := dk_172 (dk_at dksX5_told_3 7 rfl rfl)
theorem dX5_told_80 : decode cX5_told 80 = .ok (.aload_n 0, 1) := dk_42 (dk_at dksX5_told_3 8 rfl rfl)
theorem dX5_told_81 : decode cX5_told 81 = .ok (.getfield 9, 3) := dk_180 0 9 (dk_at dksX5_told_3 9 rfl rfl)
theorem dX5_told_84 : decode cX5_told 84 = .ok (.ireturn, 1) := dk_172 (dk_at dksX5_told_3 12 rfl rfl)
theorem dX5_told_85 : decode cX5_told 85 = .ok (.aload_n 0, 1) := dk_42 (dk_at dksX5_told_3 13 rfl rfl)
theorem dX5_told_86 : decode cX5_told 86 = .ok (.getfield 43, 3) := dk_180 0 43 (dk_at dksX5_told_3 14 rfl rfl)
theorem dX5_told_89 : decode cX5_told 89 = .ok (.ireturn, 1) := dk_172 (dk_at dksX5_told_3 17 rfl rfl)
theorem dX5_told_90 : decode cX5_told 90 = .ok (.aload_n 0, 1) := dk_42 (dk_at dksX5_told_3 18 rfl rfl)
theorem dX5_told_91 : decode cX5_told 91 = .ok (.getfield 46, 3) := dk_180 0 46 (dk_at dksX5_told_3 19 rfl rfl)
theorem dX5_told_94 : decode cX5_told 94 = .ok (.ireturn, 1) := dk_172 (dk_at dksX5_told_3 22 rfl rfl)
theorem dX5_told_95 : decode cX5_told 95 = .ok (.aload_n 0, 1) := dk_42 (dk_at dksX5_told_3 23 rfl rfl)
theorem dX5_told_96 : decode cX5_told 96 = .ok (.getfield 49, 3) := dk_180 0 49 (dk_at dksX5_told_4 0 rfl rfl)
theorem dX5_told_99 : decode cX5_told 99 = .ok (.ireturn, 1) := dk_172 (dk_at dksX5_told_4 3 rfl rfl)
theorem dX5_told_100 : decode cX5_told 100 = .ok (.aload_n 0, 1) := dk_42 (dk_at dksX5_told_4 4 rfl rfl)
theorem dX5_told_101 : decode cX5_told 101 = .ok (.iload_n 2, 1) := dk_28 (dk_at dksX5_told_4 5 rfl rfl)
theorem dX5_told_102 : decode cX5_told 102 = .ok (.invokevirtual 79, 3) := dk_182 0 79 (dk_at dksX5_told_4 6 rfl rfl)
theorem dX5_told_105 : decode cX5_told 105 = .ok (.ireturn, 1) := dk_172 (dk_at dksX5_told_4 9 rfl rfl)
abbrev cX5_stateNumber : ByteArray := prog_4_method_10_code
def yX5_stateNumber : MethodName := ⟨RX5, "stateNumber", "()I"⟩
def dkwX5_stateNumber_0 : List UInt8 := [42, 180, 0, 37, 153, 0, 7, 5, 167, 0, 15, 42, 180, 0, 33, 153, 0, 7, 4, 167, 0, 4, 3, 172]
abbrev dktX5_stateNumber_0 : List UInt8 := dkwX5_stateNumber_0 ++ []
theorem dksX5_stateNumber_0 : cX5_stateNumber.data.toList.drop 0 = dktX5_stateNumber_0 := by decide +kernel
theorem dX5_stateNumber_0 : decode cX5_stateNumber 0 = .ok (.aload_n 0, 1) := dk_42 (dk_at dksX5_stateNumber_0 0 rfl rfl)
theorem dX5_stateNumber_1 : decode cX5_stateNumber 1 = .ok (.getfield 37, 3) := dk_180 0 37 (dk_at dksX5_stateNumber_0 1 rfl rfl)
theorem dX5_stateNumber_4 : decode cX5_stateNumber 4 = .ok (.ifCond .eq 7, 3) := dk_153 0 7 (dk_at dksX5_stateNumber_0 4 rfl rfl)
theorem dX5_stateNumber_7 : decode cX5_stateNumber 7 = .ok (.iconst 2, 1) := dk_5 (dk_at dksX5_stateNumber_0 7 rfl rfl)
theorem dX5_stateNumber_8 : decode cX5_stateNumber 8 = .ok (.goto 15, 3) := dk_167 0 15 (dk_at dksX5_stateNumber_0 8 rfl rfl)
theorem dX5_stateNumber_11 : decode cX5_stateNumber 11 = .ok (.aload_n 0, 1) := dk_42 (dk_at dksX5_stateNumber_0 11 rfl rfl)
theorem dX5_stateNumber_12 : decode cX5_stateNumber 12 = .ok (.getfield 33, 3) := dk_180 0 33 (dk_at dksX5_stateNumber_0 12 rfl rfl)
theorem dX5_stateNumber_15 : decode cX5_stateNumber 15 = .ok (.ifCond .eq 7, 3) := dk_153 0 7 (dk_at dksX5_stateNumber_0 15 rfl rfl)
theorem dX5_stateNumber_18 : decode cX5_stateNumber 18 = .ok (.iconst 1, 1) := dk_4 (dk_at dksX5_stateNumber_0 18 rfl rfl)
theorem dX5_stateNumber_19 : decode cX5_stateNumber 19 = .ok (.goto 4, 3) := dk_167 0 4 (dk_at dksX5_stateNumber_0 19 rfl rfl)
theorem dX5_stateNumber_22 : decode cX5_stateNumber 22 = .ok (.iconst 0, 1) := dk_3 (dk_at dksX5_stateNumber_0 22 rfl rfl)
theorem dX5_stateNumber_23 : decode cX5_stateNumber 23 = .ok (.ireturn, 1) := dk_172 (dk_at dksX5_stateNumber_0 23 rfl rfl)
abbrev cX5_state : ByteArray := prog_4_method_12_code
def yX5_state : MethodName := ⟨RX5, "state", "(LDairyBook$Statement;I)V"⟩
def dkwX5_state_5 : List UInt8 := [43, 18, 105, 182, 0, 90, 42, 180, 0, 15, 182, 0, 82, 87, 177]
abbrev dktX5_state_5 : List UInt8 := dkwX5_state_5 ++ []
def dkwX5_state_4 : List UInt8 := [164, 0, 17, 43, 18, 103, 182, 0, 90, 42, 180, 0, 43, 182, 0, 82, 87, 42, 182, 0, 76, 153, 0, 17]
abbrev dktX5_state_4 : List UInt8 := dkwX5_state_4 ++ dktX5_state_5
def dkwX5_state_3 : List UInt8 := [43, 18, 99, 182, 0, 90, 42, 180, 0, 9, 182, 0, 82, 18, 101, 182, 0, 90, 87, 42, 180, 0, 43, 28]
abbrev dktX5_state_3 : List UInt8 := dkwX5_state_3 ++ dktX5_state_4
def dkwX5_state_2 : List UInt8 := [153, 0, 17, 43, 28, 42, 180, 0, 40, 100, 182, 0, 82, 87, 167, 0, 10, 43, 18, 97, 182, 0, 90, 87]
abbrev dktX5_state_2 : List UInt8 := dkwX5_state_2 ++ dktX5_state_3
def dkwX5_state_1 : List UInt8 := [182, 0, 90, 87, 177, 43, 42, 180, 0, 30, 182, 0, 82, 18, 95, 182, 0, 90, 87, 42, 180, 0, 33]
abbrev dktX5_state_1 : List UInt8 := dkwX5_state_1 ++ dktX5_state_2
def dkwX5_state_0 : List UInt8 := [43, 42, 180, 0, 18, 182, 0, 82, 18, 88, 182, 0, 90, 87, 42, 180, 0, 37, 153, 0, 11, 43, 18, 93]
abbrev dktX5_state_0 : List UInt8 := dkwX5_state_0 ++ dktX5_state_1
theorem dksX5_state_0 : cX5_state.data.toList.drop 0 = dktX5_state_0 := by decide +kernel
theorem dksX5_state_1 : cX5_state.data.toList.drop 24 = dktX5_state_1 := dk_seg dksX5_state_0 24 rfl rfl
theorem dksX5_state_2 : cX5_state.data.toList.drop 47 = dktX5_state_2 := dk_seg dksX5_state_1 23 rfl rfl
theorem dksX5_state_3 : cX5_state.data.toList.drop 71 = dktX5_state_3 := dk_seg dksX5_state_2 24 rfl rfl
theorem dksX5_state_4 : cX5_state.data.toList.drop 95 = dktX5_state_4 := dk_seg dksX5_state_3 24 rfl rfl
theorem dksX5_state_5 : cX5_state.data.toList.drop 119 = dktX5_state_5 := dk_seg dksX5_state_4 24 rfl rfl
theorem dX5_state_0 : decode cX5_state 0 = .ok (.aload_n 1, 1) := dk_43 (dk_at dksX5_state_0 0 rfl rfl)
theorem dX5_state_1 : decode cX5_state 1 = .ok (.aload_n 0, 1) := dk_42 (dk_at dksX5_state_0 1 rfl rfl)
theorem dX5_state_2 : decode cX5_state 2 = .ok (.getfield 18, 3) := dk_180 0 18 (dk_at dksX5_state_0 2 rfl rfl)
theorem dX5_state_5 : decode cX5_state 5 = .ok (.invokevirtual 82, 3) := dk_182 0 82 (dk_at dksX5_state_0 5 rfl rfl)
theorem dX5_state_8 : decode cX5_state 8 = .ok (.ldc 88, 2) := dk_18 88 (dk_at dksX5_state_0 8 rfl rfl)
theorem dX5_state_10 : decode cX5_state 10 = .ok (.invokevirtual 90, 3) := dk_182 0 90 (dk_at dksX5_state_0 10 rfl rfl)
theorem dX5_state_13 : decode cX5_state 13 = .ok (.pop, 1) := dk_87 (dk_at dksX5_state_0 13 rfl rfl)
theorem dX5_state_14 : decode cX5_state 14 = .ok (.aload_n 0, 1) := dk_42 (dk_at dksX5_state_0 14 rfl rfl)
theorem dX5_state_15 : decode cX5_state 15 = .ok (.getfield 37, 3) := dk_180 0 37 (dk_at dksX5_state_0 15 rfl rfl)
theorem dX5_state_18 : decode cX5_state 18 = .ok (.ifCond .eq 11, 3) := dk_153 0 11 (dk_at dksX5_state_0 18 rfl rfl)
theorem dX5_state_21 : decode cX5_state 21 = .ok (.aload_n 1, 1) := dk_43 (dk_at dksX5_state_0 21 rfl rfl)
theorem dX5_state_22 : decode cX5_state 22 = .ok (.ldc 93, 2) := dk_18 93 (dk_at dksX5_state_0 22 rfl rfl)
theorem dX5_state_24 : decode cX5_state 24 = .ok (.invokevirtual 90, 3) := dk_182 0 90 (dk_at dksX5_state_1 0 rfl rfl)
theorem dX5_state_27 : decode cX5_state 27 = .ok (.pop, 1) := dk_87 (dk_at dksX5_state_1 3 rfl rfl)
theorem dX5_state_28 : decode cX5_state 28 = .ok (.return_, 1) := dk_177 (dk_at dksX5_state_1 4 rfl rfl)
theorem dX5_state_29 : decode cX5_state 29 = .ok (.aload_n 1, 1) := dk_43 (dk_at dksX5_state_1 5 rfl rfl)
theorem dX5_state_30 : decode cX5_state 30 = .ok (.aload_n 0, 1) := dk_42 (dk_at dksX5_state_1 6 rfl rfl)
theorem dX5_state_31 : decode cX5_state 31 = .ok (.getfield 30, 3) := dk_180 0 30 (dk_at dksX5_state_1 7 rfl rfl)
theorem dX5_state_34 : decode cX5_state 34 = .ok (.invokevirtual 82, 3) := dk_182 0 82 (dk_at dksX5_state_1 10 rfl rfl)
theorem dX5_state_37 : decode cX5_state 37 = .ok (.ldc 95, 2) := dk_18 95 (dk_at dksX5_state_1 13 rfl rfl)
theorem dX5_state_39 : decode cX5_state 39 = .ok (.invokevirtual 90, 3) := dk_182 0 90 (dk_at dksX5_state_1 15 rfl rfl)
theorem dX5_state_42 : decode cX5_state 42 = .ok (.pop, 1) := dk_87 (dk_at dksX5_state_1 18 rfl rfl)
theorem dX5_state_43 : decode cX5_state 43 = .ok (.aload_n 0, 1) := dk_42 (dk_at dksX5_state_1 19 rfl rfl)
theorem dX5_state_44 : decode cX5_state 44 = .ok (.getfield 33, 3) := dk_180 0 33 (dk_at dksX5_state_1 20 rfl rfl)
theorem dX5_state_47 : decode cX5_state 47 = .ok (.ifCond .eq 17, 3) := dk_153 0 17 (dk_at dksX5_state_2 0 rfl rfl)
theorem dX5_state_50 : decode cX5_state 50 = .ok (.aload_n 1, 1) := dk_43 (dk_at dksX5_state_2 3 rfl rfl)
theorem dX5_state_51 : decode cX5_state 51 = .ok (.iload_n 2, 1) := dk_28 (dk_at dksX5_state_2 4 rfl rfl)
theorem dX5_state_52 : decode cX5_state 52 = .ok (.aload_n 0, 1) := dk_42 (dk_at dksX5_state_2 5 rfl rfl)
theorem dX5_state_53 : decode cX5_state 53 = .ok (.getfield 40, 3) := dk_180 0 40 (dk_at dksX5_state_2 6 rfl rfl)
theorem dX5_state_56 : decode cX5_state 56 = .ok (.isub, 1) := dk_100 (dk_at dksX5_state_2 9 rfl rfl)
theorem dX5_state_57 : decode cX5_state 57 = .ok (.invokevirtual 82, 3) := dk_182 0 82 (dk_at dksX5_state_2 10 rfl rfl)
theorem dX5_state_60 : decode cX5_state 60 = .ok (.pop, 1) := dk_87 (dk_at dksX5_state_2 13 rfl rfl)
theorem dX5_state_61 : decode cX5_state 61 = .ok (.goto 10, 3) := dk_167 0 10 (dk_at dksX5_state_2 14 rfl rfl)
theorem dX5_state_64 : decode cX5_state 64 = .ok (.aload_n 1, 1) := dk_43 (dk_at dksX5_state_2 17 rfl rfl)
theorem dX5_state_65 : decode cX5_state 65 = .ok (.ldc 97, 2) := dk_18 97 (dk_at dksX5_state_2 18 rfl rfl)
theorem dX5_state_67 : decode cX5_state 67 = .ok (.invokevirtual 90, 3) := dk_182 0 90 (dk_at dksX5_state_2 20 rfl rfl)
theorem dX5_state_70 : decode cX5_state 70 = .ok (.pop, 1) := dk_87 (dk_at dksX5_state_2 23 rfl rfl)
theorem dX5_state_71 : decode cX5_state 71 = .ok (.aload_n 1, 1) := dk_43 (dk_at dksX5_state_3 0 rfl rfl)
theorem dX5_state_72 : decode cX5_state 72 = .ok (.ldc 99, 2) := dk_18 99 (dk_at dksX5_state_3 1 rfl rfl)
theorem dX5_state_74 : decode cX5_state 74 = .ok (.invokevirtual 90, 3) := dk_182 0 90 (dk_at dksX5_state_3 3 rfl rfl)
theorem dX5_state_77 : decode cX5_state 77 = .ok (.aload_n 0, 1) := dk_42 (dk_at dksX5_state_3 6 rfl rfl)
theorem dX5_state_78 : decode cX5_state 78 = .ok (.getfield 9, 3) := dk_180 0 9 (dk_at dksX5_state_3 7 rfl rfl)
theorem dX5_state_81 : decode cX5_state 81 = .ok (.invokevirtual 82, 3) := dk_182 0 82 (dk_at dksX5_state_3 10 rfl rfl)
theorem dX5_state_84 : decode cX5_state 84 = .ok (.ldc 101, 2) := dk_18 101 (dk_at dksX5_state_3 13 rfl rfl)
theorem dX5_state_86 : decode cX5_state 86 = .ok (.invokevirtual 90, 3) := dk_182 0 90 (dk_at dksX5_state_3 15 rfl rfl)
theorem dX5_state_89 : decode cX5_state 89 = .ok (.pop, 1) := dk_87 (dk_at dksX5_state_3 18 rfl rfl)
theorem dX5_state_90 : decode cX5_state 90 = .ok (.aload_n 0, 1) := dk_42 (dk_at dksX5_state_3 19 rfl rfl)
theorem dX5_state_91 : decode cX5_state 91 = .ok (.getfield 43, 3) := dk_180 0 43 (dk_at dksX5_state_3 20 rfl rfl)
theorem dX5_state_94 : decode cX5_state 94 = .ok (.iload_n 2, 1) := dk_28 (dk_at dksX5_state_3 23 rfl rfl)
theorem dX5_state_95 : decode cX5_state 95 = .ok (.if_icmp .le 17, 3) := dk_164 0 17 (dk_at dksX5_state_4 0 rfl rfl)
theorem dX5_state_98 : decode cX5_state 98 = .ok (.aload_n 1, 1) := dk_43 (dk_at dksX5_state_4 3 rfl rfl)
theorem dX5_state_99 : decode cX5_state 99 = .ok (.ldc 103, 2) := dk_18 103 (dk_at dksX5_state_4 4 rfl rfl)
theorem dX5_state_101 : decode cX5_state 101 = .ok (.invokevirtual 90, 3) := dk_182 0 90 (dk_at dksX5_state_4 6 rfl rfl)
theorem dX5_state_104 : decode cX5_state 104 = .ok (.aload_n 0, 1) := dk_42 (dk_at dksX5_state_4 9 rfl rfl)
theorem dX5_state_105 : decode cX5_state 105 = .ok (.getfield 43, 3) := dk_180 0 43 (dk_at dksX5_state_4 10 rfl rfl)
theorem dX5_state_108 : decode cX5_state 108 = .ok (.invokevirtual 82, 3) := dk_182 0 82 (dk_at dksX5_state_4 13 rfl rfl)
theorem dX5_state_111 : decode cX5_state 111 = .ok (.pop, 1) := dk_87 (dk_at dksX5_state_4 16 rfl rfl)
theorem dX5_state_112 : decode cX5_state 112 = .ok (.aload_n 0, 1) := dk_42 (dk_at dksX5_state_4 17 rfl rfl)
theorem dX5_state_113 : decode cX5_state 113 = .ok (.invokevirtual 76, 3) := dk_182 0 76 (dk_at dksX5_state_4 18 rfl rfl)
theorem dX5_state_116 : decode cX5_state 116 = .ok (.ifCond .eq 17, 3) := dk_153 0 17 (dk_at dksX5_state_4 21 rfl rfl)
theorem dX5_state_119 : decode cX5_state 119 = .ok (.aload_n 1, 1) := dk_43 (dk_at dksX5_state_5 0 rfl rfl)
theorem dX5_state_120 : decode cX5_state 120 = .ok (.ldc 105, 2) := dk_18 105 (dk_at dksX5_state_5 1 rfl rfl)
theorem dX5_state_122 : decode cX5_state 122 = .ok (.invokevirtual 90, 3) := dk_182 0 90 (dk_at dksX5_state_5 3 rfl rfl)
theorem dX5_state_125 : decode cX5_state 125 = .ok (.aload_n 0, 1) := dk_42 (dk_at dksX5_state_5 6 rfl rfl)
theorem dX5_state_126 : decode cX5_state 126 = .ok (.getfield 15, 3) := dk_180 0 15 (dk_at dksX5_state_5 7 rfl rfl)
theorem dX5_state_129 : decode cX5_state 129 = .ok (.invokevirtual 82, 3) := dk_182 0 82 (dk_at dksX5_state_5 10 rfl rfl)
theorem dX5_state_132 : decode cX5_state 132 = .ok (.pop, 1) := dk_87 (dk_at dksX5_state_5 13 rfl rfl)
theorem dX5_state_133 : decode cX5_state 133 = .ok (.return_, 1) := dk_177 (dk_at dksX5_state_5 14 rfl rfl)
theorem q81 : (Jvm.Cond.initialized "DairyBook$Cow") ∈ lw_all := lw_g (lw_at lw_m1 20 rfl) rfl
theorem q413 : (Jvm.Cond.instantiable "DairyBook$Cow" (12 : Nat)) ∈ lw_all := lw_g (lw_at lw_m2 112 rfl) rfl
theorem q415 : (Jvm.Cond.instanceMethod ({ cls := "DairyBook$Cow", name := "<init>", desc := "(LDairyBook$Cow;)V" } : Jvm.MethodName)) ∈ lw_all := lw_g (lw_at lw_m2 114 rfl) rfl
theorem q416 : (Jvm.Cond.code ({ cls := "DairyBook$Cow", name := "<init>", desc := "(LDairyBook$Cow;)V" } : Jvm.MethodName) prog_4_method_2_code (2 : Nat) (Option.none : Option Jvm.ClassFile.FieldType)) ∈ lw_all := lw_g (lw_at lw_m2 115 rfl) rfl
theorem q417 : (Jvm.Cond.methodLink "DairyBook$Cow" (27 : Nat) ({ cls := "DairyBook$Cow", name := "<init>", desc := "(III)V" } : Jvm.MethodName)) ∈ lw_all := lw_g (lw_at lw_m2 116 rfl) rfl
theorem q418 : (Jvm.Cond.instanceMethod ({ cls := "DairyBook$Cow", name := "<init>", desc := "(III)V" } : Jvm.MethodName)) ∈ lw_all := lw_g (lw_at lw_m2 117 rfl) rfl
theorem q419 : (Jvm.Cond.code ({ cls := "DairyBook$Cow", name := "<init>", desc := "(III)V" } : Jvm.MethodName) prog_4_method_1_code (4 : Nat) (Option.none : Option Jvm.ClassFile.FieldType)) ∈ lw_all := lw_g (lw_at lw_m2 118 rfl) rfl
theorem q420 : (Jvm.Cond.methodLink "DairyBook$Cow" (3 : Nat) ({ cls := "java/lang/Object", name := "<init>", desc := "()V" } : Jvm.MethodName)) ∈ lw_all := lw_g (lw_at lw_m2 119 rfl) rfl
theorem q421 : (Jvm.Cond.fieldLink "DairyBook$Cow" (18 : Nat) "DairyBook$Cow" "number" "I") ∈ lw_all := lw_g (lw_at lw_m2 120 rfl) rfl
theorem q423 : (Jvm.Cond.fieldLink "DairyBook$Cow" (21 : Nat) "DairyBook$Cow" "peak" "I") ∈ lw_all := lw_g (lw_at lw_m2 122 rfl) rfl
theorem q424 : (Jvm.Cond.fieldLink "DairyBook$Cow" (24 : Nat) "DairyBook$Cow" "decline" "I") ∈ lw_all := lw_g (lw_at lw_m2 123 rfl) rfl
theorem q425 : (Jvm.Cond.fieldLink "DairyBook$Cow" (9 : Nat) "DairyBook$Cow" "cells" "I") ∈ lw_all := lw_g (lw_at lw_m2 124 rfl) rfl
theorem q429 : (Jvm.Cond.fieldLink "DairyBook$Cow" (30 : Nat) "DairyBook$Cow" "lactations" "I") ∈ lw_all := lw_g (lw_at lw_m2 128 rfl) rfl
theorem q430 : (Jvm.Cond.fieldLink "DairyBook$Cow" (33 : Nat) "DairyBook$Cow" "isInMilk" "Z") ∈ lw_all := lw_g (lw_at lw_m2 129 rfl) rfl
theorem q432 : (Jvm.Cond.fieldLink "DairyBook$Cow" (37 : Nat) "DairyBook$Cow" "isSold" "Z") ∈ lw_all := lw_g (lw_at lw_m2 131 rfl) rfl
theorem q436 : (Jvm.Cond.fieldLink "DairyBook$Cow" (40 : Nat) "DairyBook$Cow" "calving" "I") ∈ lw_all := lw_g (lw_at lw_m2 135 rfl) rfl
theorem q438 : (Jvm.Cond.fieldLink "DairyBook$Cow" (15 : Nat) "DairyBook$Cow" "due" "I") ∈ lw_all := lw_g (lw_at lw_m2 137 rfl) rfl
theorem q441 : (Jvm.Cond.fieldLink "DairyBook$Cow" (43 : Nat) "DairyBook$Cow" "held" "I") ∈ lw_all := lw_g (lw_at lw_m2 140 rfl) rfl
theorem q443 : (Jvm.Cond.fieldLink "DairyBook$Cow" (46 : Nat) "DairyBook$Cow" "given" "I") ∈ lw_all := lw_g (lw_at lw_m2 142 rfl) rfl
theorem q446 : (Jvm.Cond.fieldLink "DairyBook$Cow" (49 : Nat) "DairyBook$Cow" "taken" "I") ∈ lw_all := lw_g (lw_at lw_m2 145 rfl) rfl
theorem q448 : (Jvm.Cond.laysFinal "DairyBook$Cow" "DairyBook$Cow" "number" "I") ∈ lw_all := lw_g (lw_at lw_m2 147 rfl) rfl
theorem q449 : (Jvm.Cond.soleField "DairyBook$Cow" "number") ∈ lw_all := lw_g (lw_at lw_m2 148 rfl) rfl
theorem q450 : (Jvm.Cond.laysFinal "DairyBook$Cow" "DairyBook$Cow" "peak" "I") ∈ lw_all := lw_g (lw_at lw_m2 149 rfl) rfl
theorem q451 : (Jvm.Cond.soleField "DairyBook$Cow" "peak") ∈ lw_all := lw_g (lw_at lw_m2 150 rfl) rfl
theorem q452 : (Jvm.Cond.laysFinal "DairyBook$Cow" "DairyBook$Cow" "decline" "I") ∈ lw_all := lw_g (lw_at lw_m2 151 rfl) rfl
theorem q453 : (Jvm.Cond.soleField "DairyBook$Cow" "decline") ∈ lw_all := lw_g (lw_at lw_m2 152 rfl) rfl
theorem q454 : (Jvm.Cond.lays "DairyBook$Cow" "DairyBook$Cow" "cells" "I") ∈ lw_all := lw_g (lw_at lw_m2 153 rfl) rfl
theorem q455 : (Jvm.Cond.soleField "DairyBook$Cow" "cells") ∈ lw_all := lw_g (lw_at lw_m2 154 rfl) rfl
theorem q456 : (Jvm.Cond.lays "DairyBook$Cow" "DairyBook$Cow" "lactations" "I") ∈ lw_all := lw_g (lw_at lw_m2 155 rfl) rfl
theorem q457 : (Jvm.Cond.soleField "DairyBook$Cow" "lactations") ∈ lw_all := lw_g (lw_at lw_m2 156 rfl) rfl
theorem q458 : (Jvm.Cond.lays "DairyBook$Cow" "DairyBook$Cow" "isInMilk" "Z") ∈ lw_all := lw_g (lw_at lw_m2 157 rfl) rfl
theorem q459 : (Jvm.Cond.soleField "DairyBook$Cow" "isInMilk") ∈ lw_all := lw_g (lw_at lw_m2 158 rfl) rfl
theorem q460 : (Jvm.Cond.lays "DairyBook$Cow" "DairyBook$Cow" "isSold" "Z") ∈ lw_all := lw_g (lw_at lw_m2 159 rfl) rfl
theorem q461 : (Jvm.Cond.soleField "DairyBook$Cow" "isSold") ∈ lw_all := lw_g (lw_at lw_m2 160 rfl) rfl
theorem q462 : (Jvm.Cond.lays "DairyBook$Cow" "DairyBook$Cow" "calving" "I") ∈ lw_all := lw_g (lw_at lw_m2 161 rfl) rfl
theorem q463 : (Jvm.Cond.soleField "DairyBook$Cow" "calving") ∈ lw_all := lw_g (lw_at lw_m2 162 rfl) rfl
theorem q464 : (Jvm.Cond.lays "DairyBook$Cow" "DairyBook$Cow" "due" "I") ∈ lw_all := lw_g (lw_at lw_m2 163 rfl) rfl
theorem q465 : (Jvm.Cond.soleField "DairyBook$Cow" "due") ∈ lw_all := lw_g (lw_at lw_m2 164 rfl) rfl
theorem q466 : (Jvm.Cond.lays "DairyBook$Cow" "DairyBook$Cow" "held" "I") ∈ lw_all := lw_g (lw_at lw_m2 165 rfl) rfl
theorem q467 : (Jvm.Cond.soleField "DairyBook$Cow" "held") ∈ lw_all := lw_g (lw_at lw_m2 166 rfl) rfl
theorem q468 : (Jvm.Cond.lays "DairyBook$Cow" "DairyBook$Cow" "given" "I") ∈ lw_all := lw_g (lw_at lw_m2 167 rfl) rfl
theorem q469 : (Jvm.Cond.soleField "DairyBook$Cow" "given") ∈ lw_all := lw_g (lw_at lw_m2 168 rfl) rfl
theorem q470 : (Jvm.Cond.lays "DairyBook$Cow" "DairyBook$Cow" "taken" "I") ∈ lw_all := lw_g (lw_at lw_m2 169 rfl) rfl
theorem q471 : (Jvm.Cond.soleField "DairyBook$Cow" "taken") ∈ lw_all := lw_g (lw_at lw_m2 170 rfl) rfl
theorem q472 : (Jvm.Cond.superclass "DairyBook$Cow" "java/lang/Object") ∈ lw_all := lw_g (lw_at lw_m2 171 rfl) rfl
theorem q507 : (Jvm.Cond.selects "DairyBook$Cow" ({ cls := "java/lang/Object", name := "getClass", desc := "()Ljava/lang/Class;" } : Jvm.MethodName) ({ cls := "java/lang/Object", name := "getClass", desc := "()Ljava/lang/Class;" } : Jvm.MethodName)) ∈ lw_all := lw_g (lw_at lw_m2 206 rfl) rfl
theorem q884 : (Jvm.Cond.instanceMethod ({ cls := "DairyBook$Cow", name := "begin", desc := "(I)V" } : Jvm.MethodName)) ∈ lw_all := lw_g (lw_at lw_m4 103 rfl) rfl
theorem q885 : (Jvm.Cond.selects "DairyBook$Cow" ({ cls := "DairyBook$Cow", name := "begin", desc := "(I)V" } : Jvm.MethodName) ({ cls := "DairyBook$Cow", name := "begin", desc := "(I)V" } : Jvm.MethodName)) ∈ lw_all := lw_g (lw_at lw_m4 104 rfl) rfl
theorem q886 : (Jvm.Cond.code ({ cls := "DairyBook$Cow", name := "begin", desc := "(I)V" } : Jvm.MethodName) prog_4_method_9_code (2 : Nat) (Option.none : Option Jvm.ClassFile.FieldType)) ∈ lw_all := lw_g (lw_at lw_m4 105 rfl) rfl
theorem q1025 : (Jvm.Cond.instanceMethod ({ cls := "DairyBook$Cow", name := "isCarrying", desc := "()Z" } : Jvm.MethodName)) ∈ lw_all := lw_g (lw_at lw_m5 4 rfl) rfl
theorem q1026 : (Jvm.Cond.selects "DairyBook$Cow" ({ cls := "DairyBook$Cow", name := "isCarrying", desc := "()Z" } : Jvm.MethodName) ({ cls := "DairyBook$Cow", name := "isCarrying", desc := "()Z" } : Jvm.MethodName)) ∈ lw_all := lw_g (lw_at lw_m5 5 rfl) rfl
theorem q1027 : (Jvm.Cond.code ({ cls := "DairyBook$Cow", name := "isCarrying", desc := "()Z" } : Jvm.MethodName) prog_4_method_4_code (1 : Nat) (Option.some Jvm.ClassFile.FieldType.boolean)) ∈ lw_all := lw_g (lw_at lw_m5 6 rfl) rfl
theorem q1029 : (Jvm.Cond.instanceMethod ({ cls := "DairyBook$Cow", name := "isMilked", desc := "()Z" } : Jvm.MethodName)) ∈ lw_all := lw_g (lw_at lw_m5 8 rfl) rfl
theorem q1030 : (Jvm.Cond.selects "DairyBook$Cow" ({ cls := "DairyBook$Cow", name := "isMilked", desc := "()Z" } : Jvm.MethodName) ({ cls := "DairyBook$Cow", name := "isMilked", desc := "()Z" } : Jvm.MethodName)) ∈ lw_all := lw_g (lw_at lw_m5 9 rfl) rfl
theorem q1031 : (Jvm.Cond.code ({ cls := "DairyBook$Cow", name := "isMilked", desc := "()Z" } : Jvm.MethodName) prog_4_method_5_code (1 : Nat) (Option.some Jvm.ClassFile.FieldType.boolean)) ∈ lw_all := lw_g (lw_at lw_m5 10 rfl) rfl
theorem q1033 : (Jvm.Cond.instanceMethod ({ cls := "DairyBook$Cow", name := "daysInMilk", desc := "(I)I" } : Jvm.MethodName)) ∈ lw_all := lw_g (lw_at lw_m5 12 rfl) rfl
theorem q1034 : (Jvm.Cond.selects "DairyBook$Cow" ({ cls := "DairyBook$Cow", name := "daysInMilk", desc := "(I)I" } : Jvm.MethodName) ({ cls := "DairyBook$Cow", name := "daysInMilk", desc := "(I)I" } : Jvm.MethodName)) ∈ lw_all := lw_g (lw_at lw_m5 13 rfl) rfl
theorem q1035 : (Jvm.Cond.code ({ cls := "DairyBook$Cow", name := "daysInMilk", desc := "(I)I" } : Jvm.MethodName) prog_4_method_6_code (2 : Nat) (Option.some Jvm.ClassFile.FieldType.int)) ∈ lw_all := lw_g (lw_at lw_m5 14 rfl) rfl
theorem q1036 : (Jvm.Cond.methodLink "DairyBook$Cow" (61 : Nat) ({ cls := "DairyBook$Cow", name := "isMilked", desc := "()Z" } : Jvm.MethodName)) ∈ lw_all := lw_g (lw_at lw_m5 15 rfl) rfl
theorem q1210 : (Jvm.Cond.instanceMethod ({ cls := "DairyBook$Cow", name := "litres", desc := "(I)I" } : Jvm.MethodName)) ∈ lw_all := lw_g (lw_at lw_m5 189 rfl) rfl
theorem q1211 : (Jvm.Cond.selects "DairyBook$Cow" ({ cls := "DairyBook$Cow", name := "litres", desc := "(I)I" } : Jvm.MethodName) ({ cls := "DairyBook$Cow", name := "litres", desc := "(I)I" } : Jvm.MethodName)) ∈ lw_all := lw_g (lw_at lw_m5 190 rfl) rfl
theorem q1212 : (Jvm.Cond.code ({ cls := "DairyBook$Cow", name := "litres", desc := "(I)I" } : Jvm.MethodName) prog_4_method_7_code (2 : Nat) (Option.some Jvm.ClassFile.FieldType.int)) ∈ lw_all := lw_g (lw_at lw_m5 191 rfl) rfl
theorem q1213 : (Jvm.Cond.methodLink "DairyBook$Cow" (65 : Nat) ({ cls := "DairyBook$Cow", name := "curve", desc := "(I)I" } : Jvm.MethodName)) ∈ lw_all := lw_g (lw_at lw_m5 192 rfl) rfl
theorem q1214 : (Jvm.Cond.instanceMethod ({ cls := "DairyBook$Cow", name := "curve", desc := "(I)I" } : Jvm.MethodName)) ∈ lw_all := lw_g (lw_at lw_m5 193 rfl) rfl
theorem q1215 : (Jvm.Cond.selects "DairyBook$Cow" ({ cls := "DairyBook$Cow", name := "curve", desc := "(I)I" } : Jvm.MethodName) ({ cls := "DairyBook$Cow", name := "curve", desc := "(I)I" } : Jvm.MethodName)) ∈ lw_all := lw_g (lw_at lw_m5 194 rfl) rfl
theorem q1216 : (Jvm.Cond.code ({ cls := "DairyBook$Cow", name := "curve", desc := "(I)I" } : Jvm.MethodName) prog_4_method_3_code (4 : Nat) (Option.some Jvm.ClassFile.FieldType.int)) ∈ lw_all := lw_g (lw_at lw_m5 195 rfl) rfl
theorem q1217 : (Jvm.Cond.methodLink "DairyBook$Cow" (52 : Nat) ({ cls := "java/lang/Math", name := "min", desc := "(II)I" } : Jvm.MethodName)) ∈ lw_all := lw_g (lw_at lw_m5 196 rfl) rfl
theorem q1218 : (Jvm.Cond.methodLink "DairyBook$Cow" (58 : Nat) ({ cls := "java/lang/Math", name := "max", desc := "(II)I" } : Jvm.MethodName)) ∈ lw_all := lw_g (lw_at lw_m5 197 rfl) rfl
theorem q1220 : (Jvm.Cond.instanceMethod ({ cls := "DairyBook$Cow", name := "isHeld", desc := "(I)Z" } : Jvm.MethodName)) ∈ lw_all := lw_g (lw_at lw_m5 199 rfl) rfl
theorem q1221 : (Jvm.Cond.selects "DairyBook$Cow" ({ cls := "DairyBook$Cow", name := "isHeld", desc := "(I)Z" } : Jvm.MethodName) ({ cls := "DairyBook$Cow", name := "isHeld", desc := "(I)Z" } : Jvm.MethodName)) ∈ lw_all := lw_g (lw_at lw_m5 200 rfl) rfl
theorem q1222 : (Jvm.Cond.code ({ cls := "DairyBook$Cow", name := "isHeld", desc := "(I)Z" } : Jvm.MethodName) prog_4_method_8_code (2 : Nat) (Option.some Jvm.ClassFile.FieldType.boolean)) ∈ lw_all := lw_g (lw_at lw_m5 201 rfl) rfl
theorem q1299 : (Jvm.Cond.instanceMethod ({ cls := "DairyBook$Cow", name := "told", desc := "(II)I" } : Jvm.MethodName)) ∈ lw_all := lw_g (lw_at lw_m6 38 rfl) rfl
theorem q1300 : (Jvm.Cond.selects "DairyBook$Cow" ({ cls := "DairyBook$Cow", name := "told", desc := "(II)I" } : Jvm.MethodName) ({ cls := "DairyBook$Cow", name := "told", desc := "(II)I" } : Jvm.MethodName)) ∈ lw_all := lw_g (lw_at lw_m6 39 rfl) rfl
theorem q1301 : (Jvm.Cond.code ({ cls := "DairyBook$Cow", name := "told", desc := "(II)I" } : Jvm.MethodName) prog_4_method_11_code (3 : Nat) (Option.some Jvm.ClassFile.FieldType.int)) ∈ lw_all := lw_g (lw_at lw_m6 40 rfl) rfl
theorem q1302 : (Jvm.Cond.methodLink "DairyBook$Cow" (69 : Nat) ({ cls := "DairyBook$Cow", name := "stateNumber", desc := "()I" } : Jvm.MethodName)) ∈ lw_all := lw_g (lw_at lw_m6 41 rfl) rfl
theorem q1303 : (Jvm.Cond.instanceMethod ({ cls := "DairyBook$Cow", name := "stateNumber", desc := "()I" } : Jvm.MethodName)) ∈ lw_all := lw_g (lw_at lw_m6 42 rfl) rfl
theorem q1304 : (Jvm.Cond.selects "DairyBook$Cow" ({ cls := "DairyBook$Cow", name := "stateNumber", desc := "()I" } : Jvm.MethodName) ({ cls := "DairyBook$Cow", name := "stateNumber", desc := "()I" } : Jvm.MethodName)) ∈ lw_all := lw_g (lw_at lw_m6 43 rfl) rfl
theorem q1305 : (Jvm.Cond.code ({ cls := "DairyBook$Cow", name := "stateNumber", desc := "()I" } : Jvm.MethodName) prog_4_method_10_code (1 : Nat) (Option.some Jvm.ClassFile.FieldType.int)) ∈ lw_all := lw_g (lw_at lw_m6 44 rfl) rfl
theorem q1306 : (Jvm.Cond.methodLink "DairyBook$Cow" (73 : Nat) ({ cls := "DairyBook$Cow", name := "daysInMilk", desc := "(I)I" } : Jvm.MethodName)) ∈ lw_all := lw_g (lw_at lw_m6 45 rfl) rfl
theorem q1307 : (Jvm.Cond.methodLink "DairyBook$Cow" (76 : Nat) ({ cls := "DairyBook$Cow", name := "isCarrying", desc := "()Z" } : Jvm.MethodName)) ∈ lw_all := lw_g (lw_at lw_m6 46 rfl) rfl
theorem q1308 : (Jvm.Cond.methodLink "DairyBook$Cow" (79 : Nat) ({ cls := "DairyBook$Cow", name := "litres", desc := "(I)I" } : Jvm.MethodName)) ∈ lw_all := lw_g (lw_at lw_m6 47 rfl) rfl
theorem q1402 : (Jvm.Cond.castable "DairyBook$Cow" "DairyBook$Stated") ∈ lw_tbl := lw_at lw_m6 141 rfl
theorem q1403 : (Jvm.Cond.unhidden "DairyBook$Cow" "statement" "(I)Ljava/lang/String;") ∈ lw_tbl := lw_at lw_m6 142 rfl
theorem q1423 : (Jvm.Cond.selects "DairyBook$Cow" ({ cls := "DairyBook$Stated", name := "state", desc := "(LDairyBook$Statement;I)V" } : Jvm.MethodName) ({ cls := "DairyBook$Cow", name := "state", desc := "(LDairyBook$Statement;I)V" } : Jvm.MethodName)) ∈ lw_all := lw_g (lw_at lw_m6 162 rfl) rfl
theorem q1424 : (Jvm.Cond.unhidden "DairyBook$Cow" "state" "(LDairyBook$Statement;I)V") ∈ lw_tbl := lw_at lw_m6 163 rfl
theorem q1425 : (Jvm.Cond.instanceMethod ({ cls := "DairyBook$Cow", name := "state", desc := "(LDairyBook$Statement;I)V" } : Jvm.MethodName)) ∈ lw_all := lw_g (lw_at lw_m6 164 rfl) rfl
theorem q1426 : (Jvm.Cond.publicMethod ({ cls := "DairyBook$Cow", name := "state", desc := "(LDairyBook$Statement;I)V" } : Jvm.MethodName)) ∈ lw_tbl := lw_at lw_m6 165 rfl
theorem q1427 : (Jvm.Cond.code ({ cls := "DairyBook$Cow", name := "state", desc := "(LDairyBook$Statement;I)V" } : Jvm.MethodName) prog_4_method_12_code (3 : Nat) (Option.none : Option Jvm.ClassFile.FieldType)) ∈ lw_all := lw_g (lw_at lw_m6 166 rfl) rfl
theorem q1428 : (Jvm.Cond.methodLink "DairyBook$Cow" (82 : Nat) ({ cls := "DairyBook$Statement", name := "put", desc := "(I)LDairyBook$Statement;" } : Jvm.MethodName)) ∈ lw_all := lw_g (lw_at lw_m6 167 rfl) rfl
theorem q1433 : (Jvm.Cond.stringRef "DairyBook$Cow" (88 : Nat) ":") ∈ lw_tbl := lw_at lw_m6 172 rfl
theorem q1434 : (Jvm.Cond.methodLink "DairyBook$Cow" (90 : Nat) ({ cls := "DairyBook$Statement", name := "put", desc := "(Ljava/lang/String;)LDairyBook$Statement;" } : Jvm.MethodName)) ∈ lw_all := lw_g (lw_at lw_m6 173 rfl) rfl
theorem q1439 : (Jvm.Cond.stringRef "DairyBook$Cow" (93 : Nat) "x") ∈ lw_tbl := lw_at lw_m6 178 rfl
theorem q1440 : (Jvm.Cond.stringRef "DairyBook$Cow" (95 : Nat) "/") ∈ lw_tbl := lw_at lw_m6 179 rfl
theorem q1441 : (Jvm.Cond.stringRef "DairyBook$Cow" (97 : Nat) "-") ∈ lw_tbl := lw_at lw_m6 180 rfl
theorem q1442 : (Jvm.Cond.stringRef "DairyBook$Cow" (99 : Nat) " ") ∈ lw_tbl := lw_at lw_m6 181 rfl
theorem q1443 : (Jvm.Cond.stringRef "DairyBook$Cow" (101 : Nat) "c") ∈ lw_tbl := lw_at lw_m6 182 rfl
theorem q1444 : (Jvm.Cond.stringRef "DairyBook$Cow" (103 : Nat) " h") ∈ lw_tbl := lw_at lw_m6 183 rfl
theorem q1445 : (Jvm.Cond.stringRef "DairyBook$Cow" (105 : Nat) " >") ∈ lw_tbl := lw_at lw_m6 184 rfl
theorem q2235 : (Jvm.Cond.castable "DairyBook$Cow" "java/lang/Object") ∈ lw_tbl := lw_at lw_m10 14 rfl
theorem in_X5 : ∀ w ∈ wsX50, w ∈ lw_all := lw_in wsX50 [448, 450, 452, 454, 456, 458, 460, 462, 464, 466, 468, 470] (by decide +kernel) (by decide +kernel)
/-! DairyBook$Row -/
set_option maxRecDepth 100000
def RX6 : String := "DairyBook$Row"
def TX6 : u_T := fun k => match k with
  | 0 => ("DairyBook$Row", "limit", "I", true)
  | _ => ("DairyBook$Row", "bonus", "I", true)
def tyX6 : Nat → FieldType := fun k => match k with
  | 0 => .int
  | _ => .int
abbrev wsX60 : List Cond := u_ws RX6 TX6 2
theorem nmX6 : ∀ a, a < 2 → ∀ b, b < 2 → a ≠ b → (TX6 a).2.1 ≠ (TX6 b).2.1 := by decide +kernel
theorem tyX6_ok : ∀ k, k < 2 → parseFieldDescriptor (TX6 k).2.2.1 = some (tyX6 k) := by decide +kernel
abbrev cX6_init : ByteArray := prog_10_method_1_code
def yX6_init : MethodName := ⟨RX6, "<init>", "(II)V"⟩
def dkwX6_init_0 : List UInt8 := [42, 183, 0, 1, 42, 27, 181, 0, 7, 42, 28, 181, 0, 13, 177]
abbrev dktX6_init_0 : List UInt8 := dkwX6_init_0 ++ []
theorem dksX6_init_0 : cX6_init.data.toList.drop 0 = dktX6_init_0 := by decide +kernel
theorem dX6_init_0 : decode cX6_init 0 = .ok (.aload_n 0, 1) := dk_42 (dk_at dksX6_init_0 0 rfl rfl)
theorem dX6_init_1 : decode cX6_init 1 = .ok (.invokespecial 1, 3) := dk_183 0 1 (dk_at dksX6_init_0 1 rfl rfl)
theorem dX6_init_4 : decode cX6_init 4 = .ok (.aload_n 0, 1) := dk_42 (dk_at dksX6_init_0 4 rfl rfl)
theorem dX6_init_5 : decode cX6_init 5 = .ok (.iload_n 1, 1) := dk_27 (dk_at dksX6_init_0 5 rfl rfl)
theorem dX6_init_6 : decode cX6_init 6 = .ok (.putfield 7, 3) := dk_181 0 7 (dk_at dksX6_init_0 6 rfl rfl)
theorem dX6_init_9 : decode cX6_init 9 = .ok (.aload_n 0, 1) := dk_42 (dk_at dksX6_init_0 9 rfl rfl)
theorem dX6_init_10 : decode cX6_init 10 = .ok (.iload_n 2, 1) := dk_28 (dk_at dksX6_init_0 10 rfl rfl)
theorem dX6_init_11 : decode cX6_init 11 = .ok (.putfield 13, 3) := dk_181 0 13 (dk_at dksX6_init_0 11 rfl rfl)
theorem dX6_init_14 : decode cX6_init 14 = .ok (.return_, 1) := dk_177 (dk_at dksX6_init_0 14 rfl rfl)
theorem q94 : (Jvm.Cond.initialized "DairyBook$Row") ∈ lw_all := lw_g (lw_at lw_m1 33 rfl) rfl
theorem q512 : (Jvm.Cond.selects "DairyBook$Row" ({ cls := "java/lang/Object", name := "getClass", desc := "()Ljava/lang/Class;" } : Jvm.MethodName) ({ cls := "java/lang/Object", name := "getClass", desc := "()Ljava/lang/Class;" } : Jvm.MethodName)) ∈ lw_all := lw_g (lw_at lw_m2 211 rfl) rfl
theorem q1115 : (Jvm.Cond.instantiable "DairyBook$Row" (2 : Nat)) ∈ lw_all := lw_g (lw_at lw_m5 94 rfl) rfl
theorem q1117 : (Jvm.Cond.instanceMethod ({ cls := "DairyBook$Row", name := "<init>", desc := "(II)V" } : Jvm.MethodName)) ∈ lw_all := lw_g (lw_at lw_m5 96 rfl) rfl
theorem q1118 : (Jvm.Cond.code ({ cls := "DairyBook$Row", name := "<init>", desc := "(II)V" } : Jvm.MethodName) prog_10_method_1_code (3 : Nat) (Option.none : Option Jvm.ClassFile.FieldType)) ∈ lw_all := lw_g (lw_at lw_m5 97 rfl) rfl
theorem q1119 : (Jvm.Cond.methodLink "DairyBook$Row" (1 : Nat) ({ cls := "java/lang/Object", name := "<init>", desc := "()V" } : Jvm.MethodName)) ∈ lw_all := lw_g (lw_at lw_m5 98 rfl) rfl
theorem q1120 : (Jvm.Cond.fieldLink "DairyBook$Row" (7 : Nat) "DairyBook$Row" "limit" "I") ∈ lw_all := lw_g (lw_at lw_m5 99 rfl) rfl
theorem q1123 : (Jvm.Cond.fieldLink "DairyBook$Row" (13 : Nat) "DairyBook$Row" "bonus" "I") ∈ lw_all := lw_g (lw_at lw_m5 102 rfl) rfl
theorem q1126 : (Jvm.Cond.laysFinal "DairyBook$Row" "DairyBook$Row" "limit" "I") ∈ lw_all := lw_g (lw_at lw_m5 105 rfl) rfl
theorem q1127 : (Jvm.Cond.soleField "DairyBook$Row" "limit") ∈ lw_all := lw_g (lw_at lw_m5 106 rfl) rfl
theorem q1128 : (Jvm.Cond.laysFinal "DairyBook$Row" "DairyBook$Row" "bonus" "I") ∈ lw_all := lw_g (lw_at lw_m5 107 rfl) rfl
theorem q1129 : (Jvm.Cond.soleField "DairyBook$Row" "bonus") ∈ lw_all := lw_g (lw_at lw_m5 108 rfl) rfl
theorem q1130 : (Jvm.Cond.superclass "DairyBook$Row" "java/lang/Object") ∈ lw_all := lw_g (lw_at lw_m5 109 rfl) rfl
theorem q2240 : (Jvm.Cond.castable "DairyBook$Row" "java/lang/Object") ∈ lw_tbl := lw_at lw_m10 19 rfl
theorem in_X6 : ∀ w ∈ wsX60, w ∈ lw_all := lw_in wsX60 [1126, 1128] (by decide +kernel) (by decide +kernel)
/-! DairyBook$Pickup -/
set_option maxRecDepth 100000
def RX7 : String := "DairyBook$Pickup"
def TX7 : u_T := fun k => match k with
  | 0 => ("DairyBook$Pickup", "day", "I", true)
  | 1 => ("DairyBook$Pickup", "litres", "I", true)
  | 2 => ("DairyBook$Pickup", "cells", "I", true)
  | 3 => ("DairyBook$Pickup", "mean", "I", false)
  | 4 => ("DairyBook$Pickup", "bonus", "I", false)
  | _ => ("DairyBook$Pickup", "pay", "I", false)
def tyX7 : Nat → FieldType := fun k => match k with
  | 0 => .int
  | 1 => .int
  | 2 => .int
  | 3 => .int
  | 4 => .int
  | _ => .int
abbrev wsX70 : List Cond := u_ws RX7 TX7 6
theorem nmX7 : ∀ a, a < 6 → ∀ b, b < 6 → a ≠ b → (TX7 a).2.1 ≠ (TX7 b).2.1 := by decide +kernel
theorem tyX7_ok : ∀ k, k < 6 → parseFieldDescriptor (TX7 k).2.2.1 = some (tyX7 k) := by decide +kernel
abbrev cX7_init : ByteArray := prog_8_method_1_code
def yX7_init : MethodName := ⟨RX7, "<init>", "(III)V"⟩
def dkwX7_init_0 : List UInt8 := [42, 183, 0, 1, 42, 27, 181, 0, 7, 42, 28, 181, 0, 13, 42, 29, 181, 0, 16, 177]
abbrev dktX7_init_0 : List UInt8 := dkwX7_init_0 ++ []
theorem dksX7_init_0 : cX7_init.data.toList.drop 0 = dktX7_init_0 := by decide +kernel
theorem dX7_init_0 : decode cX7_init 0 = .ok (.aload_n 0, 1) := dk_42 (dk_at dksX7_init_0 0 rfl rfl)
theorem dX7_init_1 : decode cX7_init 1 = .ok (.invokespecial 1, 3) := dk_183 0 1 (dk_at dksX7_init_0 1 rfl rfl)
theorem dX7_init_4 : decode cX7_init 4 = .ok (.aload_n 0, 1) := dk_42 (dk_at dksX7_init_0 4 rfl rfl)
theorem dX7_init_5 : decode cX7_init 5 = .ok (.iload_n 1, 1) := dk_27 (dk_at dksX7_init_0 5 rfl rfl)
theorem dX7_init_6 : decode cX7_init 6 = .ok (.putfield 7, 3) := dk_181 0 7 (dk_at dksX7_init_0 6 rfl rfl)
theorem dX7_init_9 : decode cX7_init 9 = .ok (.aload_n 0, 1) := dk_42 (dk_at dksX7_init_0 9 rfl rfl)
theorem dX7_init_10 : decode cX7_init 10 = .ok (.iload_n 2, 1) := dk_28 (dk_at dksX7_init_0 10 rfl rfl)
theorem dX7_init_11 : decode cX7_init 11 = .ok (.putfield 13, 3) := dk_181 0 13 (dk_at dksX7_init_0 11 rfl rfl)
theorem dX7_init_14 : decode cX7_init 14 = .ok (.aload_n 0, 1) := dk_42 (dk_at dksX7_init_0 14 rfl rfl)
theorem dX7_init_15 : decode cX7_init 15 = .ok (.iload_n 3, 1) := dk_29 (dk_at dksX7_init_0 15 rfl rfl)
theorem dX7_init_16 : decode cX7_init 16 = .ok (.putfield 16, 3) := dk_181 0 16 (dk_at dksX7_init_0 16 rfl rfl)
theorem dX7_init_19 : decode cX7_init 19 = .ok (.return_, 1) := dk_177 (dk_at dksX7_init_0 19 rfl rfl)
abbrev cX7_settle : ByteArray := prog_8_method_3_code
def yX7_settle : MethodName := ⟨RX7, "settle", "(III)V"⟩
def dkwX7_settle_0 : List UInt8 := [42, 27, 181, 0, 19, 42, 28, 181, 0, 22, 42, 29, 28, 96, 42, 180, 0, 13, 104, 181, 0, 25, 177]
abbrev dktX7_settle_0 : List UInt8 := dkwX7_settle_0 ++ []
theorem dksX7_settle_0 : cX7_settle.data.toList.drop 0 = dktX7_settle_0 := by decide +kernel
theorem dX7_settle_0 : decode cX7_settle 0 = .ok (.aload_n 0, 1) := dk_42 (dk_at dksX7_settle_0 0 rfl rfl)
theorem dX7_settle_1 : decode cX7_settle 1 = .ok (.iload_n 1, 1) := dk_27 (dk_at dksX7_settle_0 1 rfl rfl)
theorem dX7_settle_2 : decode cX7_settle 2 = .ok (.putfield 19, 3) := dk_181 0 19 (dk_at dksX7_settle_0 2 rfl rfl)
theorem dX7_settle_5 : decode cX7_settle 5 = .ok (.aload_n 0, 1) := dk_42 (dk_at dksX7_settle_0 5 rfl rfl)
theorem dX7_settle_6 : decode cX7_settle 6 = .ok (.iload_n 2, 1) := dk_28 (dk_at dksX7_settle_0 6 rfl rfl)
theorem dX7_settle_7 : decode cX7_settle 7 = .ok (.putfield 22, 3) := dk_181 0 22 (dk_at dksX7_settle_0 7 rfl rfl)
theorem dX7_settle_10 : decode cX7_settle 10 = .ok (.aload_n 0, 1) := dk_42 (dk_at dksX7_settle_0 10 rfl rfl)
theorem dX7_settle_11 : decode cX7_settle 11 = .ok (.iload_n 3, 1) := dk_29 (dk_at dksX7_settle_0 11 rfl rfl)
theorem dX7_settle_12 : decode cX7_settle 12 = .ok (.iload_n 2, 1) := dk_28 (dk_at dksX7_settle_0 12 rfl rfl)
theorem dX7_settle_13 : decode cX7_settle 13 = .ok (.iadd, 1) := dk_96 (dk_at dksX7_settle_0 13 rfl rfl)
theorem dX7_settle_14 : decode cX7_settle 14 = .ok (.aload_n 0, 1) := dk_42 (dk_at dksX7_settle_0 14 rfl rfl)
theorem dX7_settle_15 : decode cX7_settle 15 = .ok (.getfield 13, 3) := dk_180 0 13 (dk_at dksX7_settle_0 15 rfl rfl)
theorem dX7_settle_18 : decode cX7_settle 18 = .ok (.imul, 1) := dk_104 (dk_at dksX7_settle_0 18 rfl rfl)
theorem dX7_settle_19 : decode cX7_settle 19 = .ok (.putfield 25, 3) := dk_181 0 25 (dk_at dksX7_settle_0 19 rfl rfl)
theorem dX7_settle_22 : decode cX7_settle 22 = .ok (.return_, 1) := dk_177 (dk_at dksX7_settle_0 22 rfl rfl)
abbrev cX7_told : ByteArray := prog_8_method_4_code
def yX7_told : MethodName := ⟨RX7, "told", "(I)I"⟩
def dkwX7_told_3 : List UInt8 := [172, 42, 180, 0, 22, 172, 42, 180, 0, 25, 172]
abbrev dktX7_told_3 : List UInt8 := dkwX7_told_3 ++ []
def dkwX7_told_2 : List UInt8 := [42, 180, 0, 7, 172, 42, 180, 0, 13, 172, 42, 180, 0, 16, 172, 42, 182, 0, 28, 172, 42, 180, 0, 19]
abbrev dktX7_told_2 : List UInt8 := dkwX7_told_2 ++ dktX7_told_3
def dkwX7_told_1 : List UInt8 := [170, 0, 0, 0, 0, 0, 69, 0, 0, 0, 0, 0, 0, 0, 5, 0, 0, 0, 39, 0, 0, 0, 44, 0, 0, 0, 49, 0, 0, 0, 54, 0, 0, 0, 59, 0, 0, 0, 64]
abbrev dktX7_told_1 : List UInt8 := dkwX7_told_1 ++ dktX7_told_2
def dkwX7_told_0 : List UInt8 := [27]
abbrev dktX7_told_0 : List UInt8 := dkwX7_told_0 ++ dktX7_told_1
theorem dksX7_told_0 : cX7_told.data.toList.drop 0 = dktX7_told_0 := by decide +kernel
theorem dksX7_told_1 : cX7_told.data.toList.drop 1 = dktX7_told_1 := dk_seg dksX7_told_0 1 rfl rfl
theorem dksX7_told_2 : cX7_told.data.toList.drop 40 = dktX7_told_2 := dk_seg dksX7_told_1 39 rfl rfl
theorem dksX7_told_3 : cX7_told.data.toList.drop 64 = dktX7_told_3 := dk_seg dksX7_told_2 24 rfl rfl
theorem dX7_told_0 : decode cX7_told 0 = .ok (.iload_n 1, 1) := dk_27 (dk_at dksX7_told_0 0 rfl rfl)
theorem dX7_told_1 : decode cX7_told 1 = .ok (.tableswitch 69 0 5 #[39, 44, 49, 54, 59, 64], 39) := by decide +kernel
theorem dX7_told_40 : decode cX7_told 40 = .ok (.aload_n 0, 1) := dk_42 (dk_at dksX7_told_2 0 rfl rfl)
theorem dX7_told_41 : decode cX7_told 41 = .ok (.getfield 7, 3) := dk_180 0 7 (dk_at dksX7_told_2 1 rfl rfl)
theorem dX7_told_44 : decode cX7_told 44 = .ok (.ireturn, 1) := dk_172 (dk_at dksX7_told_2 4 rfl rfl)
theorem dX7_told_45 : decode cX7_told 45 = .ok (.aload_n 0, 1) := dk_42 (dk_at dksX7_told_2 5 rfl rfl)
theorem dX7_told_46 : decode cX7_told 46 = .ok (.getfield 13, 3) := dk_180 0 13 (dk_at dksX7_told_2 6 rfl rfl)
theorem dX7_told_49 : decode cX7_told 49 = .ok (.ireturn, 1) := dk_172 (dk_at dksX7_told_2 9 rfl rfl)
theorem dX7_told_50 : decode cX7_told 50 = .ok (.aload_n 0, 1) := dk_42 (dk_at dksX7_told_2 10 rfl rfl)
theorem dX7_told_51 : decode cX7_told 51 = .ok (.getfield 16, 3) := dk_180 0 16 (dk_at dksX7_told_2 11 rfl rfl)
theorem dX7_told_54 : decode cX7_told 54 = .ok (.ireturn, 1) := dk_172 (dk_at dksX7_told_2 14 rfl rfl)
theorem dX7_told_55 : decode cX7_told 55 = .ok (.aload_n 0, 1) := dk_42 (dk_at dksX7_told_2 15 rfl rfl)
theorem dX7_told_56 : decode cX7_told 56 = .ok (.invokevirtual 28, 3) := dk_182 0 28 (dk_at dksX7_told_2 16 rfl rfl)
theorem dX7_told_59 : decode cX7_told 59 = .ok (.ireturn, 1) := dk_172 (dk_at dksX7_told_2 19 rfl rfl)
theorem dX7_told_60 : decode cX7_told 60 = .ok (.aload_n 0, 1) := dk_42 (dk_at dksX7_told_2 20 rfl rfl)
theorem dX7_told_61 : decode cX7_told 61 = .ok (.getfield 19, 3) := dk_180 0 19 (dk_at dksX7_told_2 21 rfl rfl)
theorem dX7_told_64 : decode cX7_told 64 = .ok (.ireturn, 1) := dk_172 (dk_at dksX7_told_3 0 rfl rfl)
theorem dX7_told_65 : decode cX7_told 65 = .ok (.aload_n 0, 1) := dk_42 (dk_at dksX7_told_3 1 rfl rfl)
theorem dX7_told_66 : decode cX7_told 66 = .ok (.getfield 22, 3) := dk_180 0 22 (dk_at dksX7_told_3 2 rfl rfl)
theorem dX7_told_69 : decode cX7_told 69 = .ok (.ireturn, 1) := dk_172 (dk_at dksX7_told_3 5 rfl rfl)
theorem dX7_told_70 : decode cX7_told 70 = .ok (.aload_n 0, 1) := dk_42 (dk_at dksX7_told_3 6 rfl rfl)
theorem dX7_told_71 : decode cX7_told 71 = .ok (.getfield 25, 3) := dk_180 0 25 (dk_at dksX7_told_3 7 rfl rfl)
theorem dX7_told_74 : decode cX7_told 74 = .ok (.ireturn, 1) := dk_172 (dk_at dksX7_told_3 10 rfl rfl)
abbrev cX7_count : ByteArray := prog_8_method_2_code
def yX7_count : MethodName := ⟨RX7, "count", "()I"⟩
def dkwX7_count_0 : List UInt8 := [42, 180, 0, 16, 42, 180, 0, 13, 108, 172]
abbrev dktX7_count_0 : List UInt8 := dkwX7_count_0 ++ []
theorem dksX7_count_0 : cX7_count.data.toList.drop 0 = dktX7_count_0 := by decide +kernel
theorem dX7_count_0 : decode cX7_count 0 = .ok (.aload_n 0, 1) := dk_42 (dk_at dksX7_count_0 0 rfl rfl)
theorem dX7_count_1 : decode cX7_count 1 = .ok (.getfield 16, 3) := dk_180 0 16 (dk_at dksX7_count_0 1 rfl rfl)
theorem dX7_count_4 : decode cX7_count 4 = .ok (.aload_n 0, 1) := dk_42 (dk_at dksX7_count_0 4 rfl rfl)
theorem dX7_count_5 : decode cX7_count 5 = .ok (.getfield 13, 3) := dk_180 0 13 (dk_at dksX7_count_0 5 rfl rfl)
theorem dX7_count_8 : decode cX7_count 8 = .ok (.idiv, 1) := dk_108 (dk_at dksX7_count_0 8 rfl rfl)
theorem dX7_count_9 : decode cX7_count 9 = .ok (.ireturn, 1) := dk_172 (dk_at dksX7_count_0 9 rfl rfl)
abbrev cX7_state : ByteArray := prog_8_method_5_code
def yX7_state : MethodName := ⟨RX7, "state", "(LDairyBook$Statement;I)V"⟩
def dkwX7_state_3 : List UInt8 := [182, 0, 40, 87, 177]
abbrev dktX7_state_3 : List UInt8 := dkwX7_state_3 ++ []
def dkwX7_state_2 : List UInt8 := [182, 0, 40, 18, 49, 182, 0, 34, 42, 180, 0, 22, 182, 0, 40, 18, 43, 182, 0, 34, 42, 180, 0, 25]
abbrev dktX7_state_2 : List UInt8 := dkwX7_state_2 ++ dktX7_state_3
def dkwX7_state_1 : List UInt8 := [182, 0, 40, 18, 45, 182, 0, 34, 42, 182, 0, 28, 182, 0, 40, 18, 47, 182, 0, 34, 42, 180, 0, 19]
abbrev dktX7_state_1 : List UInt8 := dkwX7_state_1 ++ dktX7_state_2
def dkwX7_state_0 : List UInt8 := [43, 18, 32, 182, 0, 34, 42, 180, 0, 7, 182, 0, 40, 18, 43, 182, 0, 34, 42, 180, 0, 13]
abbrev dktX7_state_0 : List UInt8 := dkwX7_state_0 ++ dktX7_state_1
theorem dksX7_state_0 : cX7_state.data.toList.drop 0 = dktX7_state_0 := by decide +kernel
theorem dksX7_state_1 : cX7_state.data.toList.drop 22 = dktX7_state_1 := dk_seg dksX7_state_0 22 rfl rfl
theorem dksX7_state_2 : cX7_state.data.toList.drop 46 = dktX7_state_2 := dk_seg dksX7_state_1 24 rfl rfl
theorem dksX7_state_3 : cX7_state.data.toList.drop 70 = dktX7_state_3 := dk_seg dksX7_state_2 24 rfl rfl
theorem dX7_state_0 : decode cX7_state 0 = .ok (.aload_n 1, 1) := dk_43 (dk_at dksX7_state_0 0 rfl rfl)
theorem dX7_state_1 : decode cX7_state 1 = .ok (.ldc 32, 2) := dk_18 32 (dk_at dksX7_state_0 1 rfl rfl)
theorem dX7_state_3 : decode cX7_state 3 = .ok (.invokevirtual 34, 3) := dk_182 0 34 (dk_at dksX7_state_0 3 rfl rfl)
theorem dX7_state_6 : decode cX7_state 6 = .ok (.aload_n 0, 1) := dk_42 (dk_at dksX7_state_0 6 rfl rfl)
theorem dX7_state_7 : decode cX7_state 7 = .ok (.getfield 7, 3) := dk_180 0 7 (dk_at dksX7_state_0 7 rfl rfl)
theorem dX7_state_10 : decode cX7_state 10 = .ok (.invokevirtual 40, 3) := dk_182 0 40 (dk_at dksX7_state_0 10 rfl rfl)
theorem dX7_state_13 : decode cX7_state 13 = .ok (.ldc 43, 2) := dk_18 43 (dk_at dksX7_state_0 13 rfl rfl)
theorem dX7_state_15 : decode cX7_state 15 = .ok (.invokevirtual 34, 3) := dk_182 0 34 (dk_at dksX7_state_0 15 rfl rfl)
theorem dX7_state_18 : decode cX7_state 18 = .ok (.aload_n 0, 1) := dk_42 (dk_at dksX7_state_0 18 rfl rfl)
theorem dX7_state_19 : decode cX7_state 19 = .ok (.getfield 13, 3) := dk_180 0 13 (dk_at dksX7_state_0 19 rfl rfl)
theorem dX7_state_22 : decode cX7_state 22 = .ok (.invokevirtual 40, 3) := dk_182 0 40 (dk_at dksX7_state_1 0 rfl rfl)
theorem dX7_state_25 : decode cX7_state 25 = .ok (.ldc 45, 2) := dk_18 45 (dk_at dksX7_state_1 3 rfl rfl)
theorem dX7_state_27 : decode cX7_state 27 = .ok (.invokevirtual 34, 3) := dk_182 0 34 (dk_at dksX7_state_1 5 rfl rfl)
theorem dX7_state_30 : decode cX7_state 30 = .ok (.aload_n 0, 1) := dk_42 (dk_at dksX7_state_1 8 rfl rfl)
theorem dX7_state_31 : decode cX7_state 31 = .ok (.invokevirtual 28, 3) := dk_182 0 28 (dk_at dksX7_state_1 9 rfl rfl)
theorem dX7_state_34 : decode cX7_state 34 = .ok (.invokevirtual 40, 3) := dk_182 0 40 (dk_at dksX7_state_1 12 rfl rfl)
theorem dX7_state_37 : decode cX7_state 37 = .ok (.ldc 47, 2) := dk_18 47 (dk_at dksX7_state_1 15 rfl rfl)
theorem dX7_state_39 : decode cX7_state 39 = .ok (.invokevirtual 34, 3) := dk_182 0 34 (dk_at dksX7_state_1 17 rfl rfl)
theorem dX7_state_42 : decode cX7_state 42 = .ok (.aload_n 0, 1) := dk_42 (dk_at dksX7_state_1 20 rfl rfl)
theorem dX7_state_43 : decode cX7_state 43 = .ok (.getfield 19, 3) := dk_180 0 19 (dk_at dksX7_state_1 21 rfl rfl)
theorem dX7_state_46 : decode cX7_state 46 = .ok (.invokevirtual 40, 3) := dk_182 0 40 (dk_at dksX7_state_2 0 rfl rfl)
theorem dX7_state_49 : decode cX7_state 49 = .ok (.ldc 49, 2) := dk_18 49 (dk_at dksX7_state_2 3 rfl rfl)
theorem dX7_state_51 : decode cX7_state 51 = .ok (.invokevirtual 34, 3) := dk_182 0 34 (dk_at dksX7_state_2 5 rfl rfl)
theorem dX7_state_54 : decode cX7_state 54 = .ok (.aload_n 0, 1) := dk_42 (dk_at dksX7_state_2 8 rfl rfl)
theorem dX7_state_55 : decode cX7_state 55 = .ok (.getfield 22, 3) := dk_180 0 22 (dk_at dksX7_state_2 9 rfl rfl)
theorem dX7_state_58 : decode cX7_state 58 = .ok (.invokevirtual 40, 3) := dk_182 0 40 (dk_at dksX7_state_2 12 rfl rfl)
theorem dX7_state_61 : decode cX7_state 61 = .ok (.ldc 43, 2) := dk_18 43 (dk_at dksX7_state_2 15 rfl rfl)
theorem dX7_state_63 : decode cX7_state 63 = .ok (.invokevirtual 34, 3) := dk_182 0 34 (dk_at dksX7_state_2 17 rfl rfl)
theorem dX7_state_66 : decode cX7_state 66 = .ok (.aload_n 0, 1) := dk_42 (dk_at dksX7_state_2 20 rfl rfl)
theorem dX7_state_67 : decode cX7_state 67 = .ok (.getfield 25, 3) := dk_180 0 25 (dk_at dksX7_state_2 21 rfl rfl)
theorem dX7_state_70 : decode cX7_state 70 = .ok (.invokevirtual 40, 3) := dk_182 0 40 (dk_at dksX7_state_3 0 rfl rfl)
theorem dX7_state_73 : decode cX7_state 73 = .ok (.pop, 1) := dk_87 (dk_at dksX7_state_3 3 rfl rfl)
theorem dX7_state_74 : decode cX7_state 74 = .ok (.return_, 1) := dk_177 (dk_at dksX7_state_3 4 rfl rfl)
theorem q95 : (Jvm.Cond.initialized "DairyBook$Pickup") ∈ lw_all := lw_g (lw_at lw_m1 34 rfl) rfl
theorem q510 : (Jvm.Cond.selects "DairyBook$Pickup" ({ cls := "java/lang/Object", name := "getClass", desc := "()Ljava/lang/Class;" } : Jvm.MethodName) ({ cls := "java/lang/Object", name := "getClass", desc := "()Ljava/lang/Class;" } : Jvm.MethodName)) ∈ lw_all := lw_g (lw_at lw_m2 209 rfl) rfl
theorem q1238 : (Jvm.Cond.instantiable "DairyBook$Pickup" (6 : Nat)) ∈ lw_all := lw_g (lw_at lw_m5 217 rfl) rfl
theorem q1240 : (Jvm.Cond.instanceMethod ({ cls := "DairyBook$Pickup", name := "<init>", desc := "(III)V" } : Jvm.MethodName)) ∈ lw_all := lw_g (lw_at lw_m5 219 rfl) rfl
theorem q1241 : (Jvm.Cond.code ({ cls := "DairyBook$Pickup", name := "<init>", desc := "(III)V" } : Jvm.MethodName) prog_8_method_1_code (4 : Nat) (Option.none : Option Jvm.ClassFile.FieldType)) ∈ lw_all := lw_g (lw_at lw_m5 220 rfl) rfl
theorem q1242 : (Jvm.Cond.methodLink "DairyBook$Pickup" (1 : Nat) ({ cls := "java/lang/Object", name := "<init>", desc := "()V" } : Jvm.MethodName)) ∈ lw_all := lw_g (lw_at lw_m5 221 rfl) rfl
theorem q1243 : (Jvm.Cond.fieldLink "DairyBook$Pickup" (7 : Nat) "DairyBook$Pickup" "day" "I") ∈ lw_all := lw_g (lw_at lw_m5 222 rfl) rfl
theorem q1244 : (Jvm.Cond.fieldLink "DairyBook$Pickup" (13 : Nat) "DairyBook$Pickup" "litres" "I") ∈ lw_all := lw_g (lw_at lw_m5 223 rfl) rfl
theorem q1247 : (Jvm.Cond.fieldLink "DairyBook$Pickup" (16 : Nat) "DairyBook$Pickup" "cells" "I") ∈ lw_all := lw_g (lw_at lw_m5 226 rfl) rfl
theorem q1250 : (Jvm.Cond.fieldLink "DairyBook$Pickup" (19 : Nat) "DairyBook$Pickup" "mean" "I") ∈ lw_all := lw_g (lw_at lw_m5 229 rfl) rfl
theorem q1251 : (Jvm.Cond.fieldLink "DairyBook$Pickup" (22 : Nat) "DairyBook$Pickup" "bonus" "I") ∈ lw_all := lw_g (lw_at lw_m5 230 rfl) rfl
theorem q1252 : (Jvm.Cond.fieldLink "DairyBook$Pickup" (25 : Nat) "DairyBook$Pickup" "pay" "I") ∈ lw_all := lw_g (lw_at lw_m5 231 rfl) rfl
theorem q1254 : (Jvm.Cond.laysFinal "DairyBook$Pickup" "DairyBook$Pickup" "day" "I") ∈ lw_all := lw_g (lw_at lw_m5 233 rfl) rfl
theorem q1255 : (Jvm.Cond.soleField "DairyBook$Pickup" "day") ∈ lw_all := lw_g (lw_at lw_m5 234 rfl) rfl
theorem q1256 : (Jvm.Cond.laysFinal "DairyBook$Pickup" "DairyBook$Pickup" "litres" "I") ∈ lw_all := lw_g (lw_at lw_m5 235 rfl) rfl
theorem q1257 : (Jvm.Cond.soleField "DairyBook$Pickup" "litres") ∈ lw_all := lw_g (lw_at lw_m5 236 rfl) rfl
theorem q1258 : (Jvm.Cond.laysFinal "DairyBook$Pickup" "DairyBook$Pickup" "cells" "I") ∈ lw_all := lw_g (lw_at lw_m5 237 rfl) rfl
theorem q1259 : (Jvm.Cond.soleField "DairyBook$Pickup" "cells") ∈ lw_all := lw_g (lw_at lw_m5 238 rfl) rfl
theorem q1260 : (Jvm.Cond.lays "DairyBook$Pickup" "DairyBook$Pickup" "mean" "I") ∈ lw_all := lw_g (lw_at lw_m5 239 rfl) rfl
theorem q1261 : (Jvm.Cond.soleField "DairyBook$Pickup" "mean") ∈ lw_all := lw_g (lw_at lw_m6 0 rfl) rfl
theorem q1262 : (Jvm.Cond.lays "DairyBook$Pickup" "DairyBook$Pickup" "bonus" "I") ∈ lw_all := lw_g (lw_at lw_m6 1 rfl) rfl
theorem q1263 : (Jvm.Cond.soleField "DairyBook$Pickup" "bonus") ∈ lw_all := lw_g (lw_at lw_m6 2 rfl) rfl
theorem q1264 : (Jvm.Cond.lays "DairyBook$Pickup" "DairyBook$Pickup" "pay" "I") ∈ lw_all := lw_g (lw_at lw_m6 3 rfl) rfl
theorem q1265 : (Jvm.Cond.soleField "DairyBook$Pickup" "pay") ∈ lw_all := lw_g (lw_at lw_m6 4 rfl) rfl
theorem q1266 : (Jvm.Cond.superclass "DairyBook$Pickup" "java/lang/Object") ∈ lw_all := lw_g (lw_at lw_m6 5 rfl) rfl
theorem q1276 : (Jvm.Cond.instanceMethod ({ cls := "DairyBook$Pickup", name := "settle", desc := "(III)V" } : Jvm.MethodName)) ∈ lw_all := lw_g (lw_at lw_m6 15 rfl) rfl
theorem q1277 : (Jvm.Cond.selects "DairyBook$Pickup" ({ cls := "DairyBook$Pickup", name := "settle", desc := "(III)V" } : Jvm.MethodName) ({ cls := "DairyBook$Pickup", name := "settle", desc := "(III)V" } : Jvm.MethodName)) ∈ lw_all := lw_g (lw_at lw_m6 16 rfl) rfl
theorem q1278 : (Jvm.Cond.code ({ cls := "DairyBook$Pickup", name := "settle", desc := "(III)V" } : Jvm.MethodName) prog_8_method_3_code (4 : Nat) (Option.none : Option Jvm.ClassFile.FieldType)) ∈ lw_all := lw_g (lw_at lw_m6 17 rfl) rfl
theorem q1359 : (Jvm.Cond.instanceMethod ({ cls := "DairyBook$Pickup", name := "told", desc := "(I)I" } : Jvm.MethodName)) ∈ lw_all := lw_g (lw_at lw_m6 98 rfl) rfl
theorem q1360 : (Jvm.Cond.selects "DairyBook$Pickup" ({ cls := "DairyBook$Pickup", name := "told", desc := "(I)I" } : Jvm.MethodName) ({ cls := "DairyBook$Pickup", name := "told", desc := "(I)I" } : Jvm.MethodName)) ∈ lw_all := lw_g (lw_at lw_m6 99 rfl) rfl
theorem q1361 : (Jvm.Cond.code ({ cls := "DairyBook$Pickup", name := "told", desc := "(I)I" } : Jvm.MethodName) prog_8_method_4_code (2 : Nat) (Option.some Jvm.ClassFile.FieldType.int)) ∈ lw_all := lw_g (lw_at lw_m6 100 rfl) rfl
theorem q1362 : (Jvm.Cond.methodLink "DairyBook$Pickup" (28 : Nat) ({ cls := "DairyBook$Pickup", name := "count", desc := "()I" } : Jvm.MethodName)) ∈ lw_all := lw_g (lw_at lw_m6 101 rfl) rfl
theorem q1363 : (Jvm.Cond.instanceMethod ({ cls := "DairyBook$Pickup", name := "count", desc := "()I" } : Jvm.MethodName)) ∈ lw_all := lw_g (lw_at lw_m6 102 rfl) rfl
theorem q1364 : (Jvm.Cond.selects "DairyBook$Pickup" ({ cls := "DairyBook$Pickup", name := "count", desc := "()I" } : Jvm.MethodName) ({ cls := "DairyBook$Pickup", name := "count", desc := "()I" } : Jvm.MethodName)) ∈ lw_all := lw_g (lw_at lw_m6 103 rfl) rfl
theorem q1365 : (Jvm.Cond.code ({ cls := "DairyBook$Pickup", name := "count", desc := "()I" } : Jvm.MethodName) prog_8_method_2_code (1 : Nat) (Option.some Jvm.ClassFile.FieldType.int)) ∈ lw_all := lw_g (lw_at lw_m6 104 rfl) rfl
theorem q1446 : (Jvm.Cond.castable "DairyBook$Pickup" "DairyBook$Stated") ∈ lw_tbl := lw_at lw_m6 185 rfl
theorem q1447 : (Jvm.Cond.selects "DairyBook$Pickup" ({ cls := "DairyBook$Stated", name := "state", desc := "(LDairyBook$Statement;I)V" } : Jvm.MethodName) ({ cls := "DairyBook$Pickup", name := "state", desc := "(LDairyBook$Statement;I)V" } : Jvm.MethodName)) ∈ lw_all := lw_g (lw_at lw_m6 186 rfl) rfl
theorem q1448 : (Jvm.Cond.unhidden "DairyBook$Pickup" "state" "(LDairyBook$Statement;I)V") ∈ lw_tbl := lw_at lw_m6 187 rfl
theorem q1449 : (Jvm.Cond.instanceMethod ({ cls := "DairyBook$Pickup", name := "state", desc := "(LDairyBook$Statement;I)V" } : Jvm.MethodName)) ∈ lw_all := lw_g (lw_at lw_m6 188 rfl) rfl
theorem q1450 : (Jvm.Cond.publicMethod ({ cls := "DairyBook$Pickup", name := "state", desc := "(LDairyBook$Statement;I)V" } : Jvm.MethodName)) ∈ lw_tbl := lw_at lw_m6 189 rfl
theorem q1451 : (Jvm.Cond.code ({ cls := "DairyBook$Pickup", name := "state", desc := "(LDairyBook$Statement;I)V" } : Jvm.MethodName) prog_8_method_5_code (3 : Nat) (Option.none : Option Jvm.ClassFile.FieldType)) ∈ lw_all := lw_g (lw_at lw_m6 190 rfl) rfl
theorem q1452 : (Jvm.Cond.stringRef "DairyBook$Pickup" (32 : Nat) "d") ∈ lw_tbl := lw_at lw_m6 191 rfl
theorem q1453 : (Jvm.Cond.methodLink "DairyBook$Pickup" (34 : Nat) ({ cls := "DairyBook$Statement", name := "put", desc := "(Ljava/lang/String;)LDairyBook$Statement;" } : Jvm.MethodName)) ∈ lw_all := lw_g (lw_at lw_m6 192 rfl) rfl
theorem q1454 : (Jvm.Cond.methodLink "DairyBook$Pickup" (40 : Nat) ({ cls := "DairyBook$Statement", name := "put", desc := "(I)LDairyBook$Statement;" } : Jvm.MethodName)) ∈ lw_all := lw_g (lw_at lw_m6 193 rfl) rfl
theorem q1455 : (Jvm.Cond.stringRef "DairyBook$Pickup" (43 : Nat) " ") ∈ lw_tbl := lw_at lw_m6 194 rfl
theorem q1456 : (Jvm.Cond.stringRef "DairyBook$Pickup" (45 : Nat) "l ") ∈ lw_tbl := lw_at lw_m6 195 rfl
theorem q1457 : (Jvm.Cond.stringRef "DairyBook$Pickup" (47 : Nat) "c ") ∈ lw_tbl := lw_at lw_m6 196 rfl
theorem q1458 : (Jvm.Cond.stringRef "DairyBook$Pickup" (49 : Nat) "m +") ∈ lw_tbl := lw_at lw_m6 197 rfl
theorem q1464 : (Jvm.Cond.unhidden "DairyBook$Pickup" "statement" "(I)Ljava/lang/String;") ∈ lw_tbl := lw_at lw_m6 203 rfl
theorem q2241 : (Jvm.Cond.castable "DairyBook$Pickup" "java/lang/Object") ∈ lw_tbl := lw_at lw_m10 20 rfl
theorem in_X7 : ∀ w ∈ wsX70, w ∈ lw_all := lw_in wsX70 [1254, 1256, 1258, 1260, 1262, 1264] (by decide +kernel) (by decide +kernel)
/-! DairyBook$Stated -/
set_option maxRecDepth 100000
def RX8 : String := "DairyBook$Stated"
abbrev cX8_of : ByteArray := prog_11_method_3_code
def yX8_of : MethodName := ⟨RX8, "of", "(LDairyBook$Stated;I)Ljava/lang/String;"⟩
def dkwX8_of_0 : List UInt8 := [42, 27, 185, 0, 17, 2, 0, 176]
abbrev dktX8_of_0 : List UInt8 := dkwX8_of_0 ++ []
theorem dksX8_of_0 : cX8_of.data.toList.drop 0 = dktX8_of_0 := by decide +kernel
theorem dX8_of_0 : decode cX8_of 0 = .ok (.aload_n 0, 1) := dk_42 (dk_at dksX8_of_0 0 rfl rfl)
theorem dX8_of_1 : decode cX8_of 1 = .ok (.iload_n 1, 1) := dk_27 (dk_at dksX8_of_0 1 rfl rfl)
theorem dX8_of_2 : decode cX8_of 2 = .ok (.invokeinterface 17 2, 5) := by decide +kernel
theorem dX8_of_7 : decode cX8_of 7 = .ok (.areturn, 1) := dk_176 (dk_at dksX8_of_0 7 rfl rfl)
abbrev cX8_statement : ByteArray := prog_11_method_2_code
def yX8_statement : MethodName := ⟨RX8, "statement", "(I)Ljava/lang/String;"⟩
def dkwX8_statement_0 : List UInt8 := [187, 0, 1, 89, 183, 0, 3, 77, 42, 44, 27, 185, 0, 7, 3, 0, 44, 182, 0, 13, 176]
abbrev dktX8_statement_0 : List UInt8 := dkwX8_statement_0 ++ []
theorem dksX8_statement_0 : cX8_statement.data.toList.drop 0 = dktX8_statement_0 := by decide +kernel
theorem dX8_statement_0 : decode cX8_statement 0 = .ok (.new 1, 3) := dk_187 0 1 (dk_at dksX8_statement_0 0 rfl rfl)
theorem dX8_statement_3 : decode cX8_statement 3 = .ok (.dup, 1) := dk_89 (dk_at dksX8_statement_0 3 rfl rfl)
theorem dX8_statement_4 : decode cX8_statement 4 = .ok (.invokespecial 3, 3) := dk_183 0 3 (dk_at dksX8_statement_0 4 rfl rfl)
theorem dX8_statement_7 : decode cX8_statement 7 = .ok (.astore_n 2, 1) := dk_77 (dk_at dksX8_statement_0 7 rfl rfl)
theorem dX8_statement_8 : decode cX8_statement 8 = .ok (.aload_n 0, 1) := dk_42 (dk_at dksX8_statement_0 8 rfl rfl)
theorem dX8_statement_9 : decode cX8_statement 9 = .ok (.aload_n 2, 1) := dk_44 (dk_at dksX8_statement_0 9 rfl rfl)
theorem dX8_statement_10 : decode cX8_statement 10 = .ok (.iload_n 1, 1) := dk_27 (dk_at dksX8_statement_0 10 rfl rfl)
theorem dX8_statement_11 : decode cX8_statement 11 = .ok (.invokeinterface 7 3, 5) := by decide +kernel
theorem dX8_statement_16 : decode cX8_statement 16 = .ok (.aload_n 2, 1) := dk_44 (dk_at dksX8_statement_0 16 rfl rfl)
theorem dX8_statement_17 : decode cX8_statement 17 = .ok (.invokevirtual 13, 3) := dk_182 0 13 (dk_at dksX8_statement_0 17 rfl rfl)
theorem dX8_statement_20 : decode cX8_statement 20 = .ok (.areturn, 1) := dk_176 (dk_at dksX8_statement_0 20 rfl rfl)
theorem q96 : (Jvm.Cond.initialized "DairyBook$Stated") ∈ lw_all := lw_g (lw_at lw_m1 35 rfl) rfl
theorem q1396 : (Jvm.Cond.static ({ cls := "DairyBook$Stated", name := "of", desc := "(LDairyBook$Stated;I)Ljava/lang/String;" } : Jvm.MethodName)) ∈ lw_all := lw_g (lw_at lw_m6 135 rfl) rfl
theorem q1397 : (Jvm.Cond.code ({ cls := "DairyBook$Stated", name := "of", desc := "(LDairyBook$Stated;I)Ljava/lang/String;" } : Jvm.MethodName) prog_11_method_3_code (2 : Nat) (Option.some (Jvm.ClassFile.FieldType.object "java/lang/String"))) ∈ lw_all := lw_g (lw_at lw_m6 136 rfl) rfl
theorem q1398 : (Jvm.Cond.interfaceEntry "DairyBook$Stated" (17 : Nat)) ∈ lw_tbl := lw_at lw_m6 137 rfl
theorem q1399 : (Jvm.Cond.methodLink "DairyBook$Stated" (17 : Nat) ({ cls := "DairyBook$Stated", name := "statement", desc := "(I)Ljava/lang/String;" } : Jvm.MethodName)) ∈ lw_all := lw_g (lw_at lw_m6 138 rfl) rfl
theorem q1400 : (Jvm.Cond.interfaceMethod "DairyBook$Stated" "DairyBook$Stated" "statement" "(I)Ljava/lang/String;") ∈ lw_tbl := lw_at lw_m6 139 rfl
theorem q1401 : (Jvm.Cond.declares ({ cls := "DairyBook$Stated", name := "statement", desc := "(I)Ljava/lang/String;" } : Jvm.MethodName)) ∈ lw_tbl := lw_at lw_m6 140 rfl
theorem q1404 : (Jvm.Cond.instanceMethod ({ cls := "DairyBook$Stated", name := "statement", desc := "(I)Ljava/lang/String;" } : Jvm.MethodName)) ∈ lw_all := lw_g (lw_at lw_m6 143 rfl) rfl
theorem q1405 : (Jvm.Cond.publicMethod ({ cls := "DairyBook$Stated", name := "statement", desc := "(I)Ljava/lang/String;" } : Jvm.MethodName)) ∈ lw_tbl := lw_at lw_m6 144 rfl
theorem q1406 : (Jvm.Cond.code ({ cls := "DairyBook$Stated", name := "statement", desc := "(I)Ljava/lang/String;" } : Jvm.MethodName) prog_11_method_2_code (3 : Nat) (Option.some (Jvm.ClassFile.FieldType.object "java/lang/String"))) ∈ lw_all := lw_g (lw_at lw_m6 145 rfl) rfl
theorem q1407 : (Jvm.Cond.classLink "DairyBook$Stated" (1 : Nat) "DairyBook$Statement") ∈ lw_all := lw_g (lw_at lw_m6 146 rfl) rfl
theorem q1409 : (Jvm.Cond.methodLinkNest "DairyBook$Stated" (3 : Nat) ({ cls := "DairyBook$Statement", name := "<init>", desc := "()V" } : Jvm.MethodName) "DairyBook") ∈ lw_tbl := lw_at lw_m6 148 rfl
theorem q1419 : (Jvm.Cond.interfaceEntry "DairyBook$Stated" (7 : Nat)) ∈ lw_tbl := lw_at lw_m6 158 rfl
theorem q1420 : (Jvm.Cond.methodLink "DairyBook$Stated" (7 : Nat) ({ cls := "DairyBook$Stated", name := "state", desc := "(LDairyBook$Statement;I)V" } : Jvm.MethodName)) ∈ lw_all := lw_g (lw_at lw_m6 159 rfl) rfl
theorem q1421 : (Jvm.Cond.interfaceMethod "DairyBook$Stated" "DairyBook$Stated" "state" "(LDairyBook$Statement;I)V") ∈ lw_tbl := lw_at lw_m6 160 rfl
theorem q1422 : (Jvm.Cond.declares ({ cls := "DairyBook$Stated", name := "state", desc := "(LDairyBook$Statement;I)V" } : Jvm.MethodName)) ∈ lw_tbl := lw_at lw_m6 161 rfl
theorem q1459 : (Jvm.Cond.methodLink "DairyBook$Stated" (13 : Nat) ({ cls := "DairyBook$Statement", name := "toString", desc := "()Ljava/lang/String;" } : Jvm.MethodName)) ∈ lw_all := lw_g (lw_at lw_m6 198 rfl) rfl
/-! DairyBook$Statement -/
set_option maxRecDepth 100000
def RX9 : String := "DairyBook$Statement"
def TX9 : u_T := fun k => match k with
  | _ => ("DairyBook$Statement", "text", "Ljava/lang/StringBuilder;", true)
def tyX9 : Nat → FieldType := fun k => match k with
  | _ => .object "java/lang/StringBuilder"
abbrev wsX90 : List Cond := u_ws RX9 TX9 1
theorem nmX9 : ∀ a, a < 1 → ∀ b, b < 1 → a ≠ b → (TX9 a).2.1 ≠ (TX9 b).2.1 := by decide +kernel
theorem tyX9_ok : ∀ k, k < 1 → parseFieldDescriptor (TX9 k).2.2.1 = some (tyX9 k) := by decide +kernel
abbrev cX9_init : ByteArray := prog_12_method_1_code
def yX9_init : MethodName := ⟨RX9, "<init>", "()V"⟩
def dkwX9_init_0 : List UInt8 := [42, 183, 0, 1, 42, 187, 0, 7, 89, 183, 0, 9, 181, 0, 10, 177]
abbrev dktX9_init_0 : List UInt8 := dkwX9_init_0 ++ []
theorem dksX9_init_0 : cX9_init.data.toList.drop 0 = dktX9_init_0 := by decide +kernel
theorem dX9_init_0 : decode cX9_init 0 = .ok (.aload_n 0, 1) := dk_42 (dk_at dksX9_init_0 0 rfl rfl)
theorem dX9_init_1 : decode cX9_init 1 = .ok (.invokespecial 1, 3) := dk_183 0 1 (dk_at dksX9_init_0 1 rfl rfl)
theorem dX9_init_4 : decode cX9_init 4 = .ok (.aload_n 0, 1) := dk_42 (dk_at dksX9_init_0 4 rfl rfl)
theorem dX9_init_5 : decode cX9_init 5 = .ok (.new 7, 3) := dk_187 0 7 (dk_at dksX9_init_0 5 rfl rfl)
theorem dX9_init_8 : decode cX9_init 8 = .ok (.dup, 1) := dk_89 (dk_at dksX9_init_0 8 rfl rfl)
theorem dX9_init_9 : decode cX9_init 9 = .ok (.invokespecial 9, 3) := dk_183 0 9 (dk_at dksX9_init_0 9 rfl rfl)
theorem dX9_init_12 : decode cX9_init 12 = .ok (.putfield 10, 3) := dk_181 0 10 (dk_at dksX9_init_0 12 rfl rfl)
theorem dX9_init_15 : decode cX9_init 15 = .ok (.return_, 1) := dk_177 (dk_at dksX9_init_0 15 rfl rfl)
abbrev cX9_put : ByteArray := prog_12_method_3_code
def yX9_put : MethodName := ⟨RX9, "put", "(I)LDairyBook$Statement;"⟩
def dkwX9_put_0 : List UInt8 := [42, 180, 0, 10, 27, 182, 0, 20, 87, 42, 176]
abbrev dktX9_put_0 : List UInt8 := dkwX9_put_0 ++ []
theorem dksX9_put_0 : cX9_put.data.toList.drop 0 = dktX9_put_0 := by decide +kernel
theorem dX9_put_0 : decode cX9_put 0 = .ok (.aload_n 0, 1) := dk_42 (dk_at dksX9_put_0 0 rfl rfl)
theorem dX9_put_1 : decode cX9_put 1 = .ok (.getfield 10, 3) := dk_180 0 10 (dk_at dksX9_put_0 1 rfl rfl)
theorem dX9_put_4 : decode cX9_put 4 = .ok (.iload_n 1, 1) := dk_27 (dk_at dksX9_put_0 4 rfl rfl)
theorem dX9_put_5 : decode cX9_put 5 = .ok (.invokevirtual 20, 3) := dk_182 0 20 (dk_at dksX9_put_0 5 rfl rfl)
theorem dX9_put_8 : decode cX9_put 8 = .ok (.pop, 1) := dk_87 (dk_at dksX9_put_0 8 rfl rfl)
theorem dX9_put_9 : decode cX9_put 9 = .ok (.aload_n 0, 1) := dk_42 (dk_at dksX9_put_0 9 rfl rfl)
theorem dX9_put_10 : decode cX9_put 10 = .ok (.areturn, 1) := dk_176 (dk_at dksX9_put_0 10 rfl rfl)
abbrev cX9_put_2 : ByteArray := prog_12_method_2_code
def yX9_put_2 : MethodName := ⟨RX9, "put", "(Ljava/lang/String;)LDairyBook$Statement;"⟩
def dkwX9_put_2_0 : List UInt8 := [42, 180, 0, 10, 43, 182, 0, 16, 87, 42, 176]
abbrev dktX9_put_2_0 : List UInt8 := dkwX9_put_2_0 ++ []
theorem dksX9_put_2_0 : cX9_put_2.data.toList.drop 0 = dktX9_put_2_0 := by decide +kernel
theorem dX9_put_2_0 : decode cX9_put_2 0 = .ok (.aload_n 0, 1) := dk_42 (dk_at dksX9_put_2_0 0 rfl rfl)
theorem dX9_put_2_1 : decode cX9_put_2 1 = .ok (.getfield 10, 3) := dk_180 0 10 (dk_at dksX9_put_2_0 1 rfl rfl)
theorem dX9_put_2_4 : decode cX9_put_2 4 = .ok (.aload_n 1, 1) := dk_43 (dk_at dksX9_put_2_0 4 rfl rfl)
theorem dX9_put_2_5 : decode cX9_put_2 5 = .ok (.invokevirtual 16, 3) := dk_182 0 16 (dk_at dksX9_put_2_0 5 rfl rfl)
theorem dX9_put_2_8 : decode cX9_put_2 8 = .ok (.pop, 1) := dk_87 (dk_at dksX9_put_2_0 8 rfl rfl)
theorem dX9_put_2_9 : decode cX9_put_2 9 = .ok (.aload_n 0, 1) := dk_42 (dk_at dksX9_put_2_0 9 rfl rfl)
theorem dX9_put_2_10 : decode cX9_put_2 10 = .ok (.areturn, 1) := dk_176 (dk_at dksX9_put_2_0 10 rfl rfl)
abbrev cX9_toString : ByteArray := prog_12_method_4_code
def yX9_toString : MethodName := ⟨RX9, "toString", "()Ljava/lang/String;"⟩
def dkwX9_toString_0 : List UInt8 := [42, 180, 0, 10, 182, 0, 23, 176]
abbrev dktX9_toString_0 : List UInt8 := dkwX9_toString_0 ++ []
theorem dksX9_toString_0 : cX9_toString.data.toList.drop 0 = dktX9_toString_0 := by decide +kernel
theorem dX9_toString_0 : decode cX9_toString 0 = .ok (.aload_n 0, 1) := dk_42 (dk_at dksX9_toString_0 0 rfl rfl)
theorem dX9_toString_1 : decode cX9_toString 1 = .ok (.getfield 10, 3) := dk_180 0 10 (dk_at dksX9_toString_0 1 rfl rfl)
theorem dX9_toString_4 : decode cX9_toString 4 = .ok (.invokevirtual 23, 3) := dk_182 0 23 (dk_at dksX9_toString_0 4 rfl rfl)
theorem dX9_toString_7 : decode cX9_toString 7 = .ok (.areturn, 1) := dk_176 (dk_at dksX9_toString_0 7 rfl rfl)
theorem q97 : (Jvm.Cond.initialized "DairyBook$Statement") ∈ lw_all := lw_g (lw_at lw_m1 36 rfl) rfl
theorem q513 : (Jvm.Cond.selects "DairyBook$Statement" ({ cls := "java/lang/Object", name := "getClass", desc := "()Ljava/lang/Class;" } : Jvm.MethodName) ({ cls := "java/lang/Object", name := "getClass", desc := "()Ljava/lang/Class;" } : Jvm.MethodName)) ∈ lw_all := lw_g (lw_at lw_m2 212 rfl) rfl
theorem q1408 : (Jvm.Cond.instantiable "DairyBook$Statement" (1 : Nat)) ∈ lw_all := lw_g (lw_at lw_m6 147 rfl) rfl
theorem q1410 : (Jvm.Cond.instanceMethod ({ cls := "DairyBook$Statement", name := "<init>", desc := "()V" } : Jvm.MethodName)) ∈ lw_all := lw_g (lw_at lw_m6 149 rfl) rfl
theorem q1411 : (Jvm.Cond.code ({ cls := "DairyBook$Statement", name := "<init>", desc := "()V" } : Jvm.MethodName) prog_12_method_1_code (1 : Nat) (Option.none : Option Jvm.ClassFile.FieldType)) ∈ lw_all := lw_g (lw_at lw_m6 150 rfl) rfl
theorem q1412 : (Jvm.Cond.methodLink "DairyBook$Statement" (1 : Nat) ({ cls := "java/lang/Object", name := "<init>", desc := "()V" } : Jvm.MethodName)) ∈ lw_all := lw_g (lw_at lw_m6 151 rfl) rfl
theorem q1413 : (Jvm.Cond.classLink "DairyBook$Statement" (7 : Nat) "java/lang/StringBuilder") ∈ lw_all := lw_g (lw_at lw_m6 152 rfl) rfl
theorem q1414 : (Jvm.Cond.methodLink "DairyBook$Statement" (9 : Nat) ({ cls := "java/lang/StringBuilder", name := "<init>", desc := "()V" } : Jvm.MethodName)) ∈ lw_all := lw_g (lw_at lw_m6 153 rfl) rfl
theorem q1415 : (Jvm.Cond.fieldLink "DairyBook$Statement" (10 : Nat) "DairyBook$Statement" "text" "Ljava/lang/StringBuilder;") ∈ lw_all := lw_g (lw_at lw_m6 154 rfl) rfl
theorem q1416 : (Jvm.Cond.laysFinal "DairyBook$Statement" "DairyBook$Statement" "text" "Ljava/lang/StringBuilder;") ∈ lw_all := lw_g (lw_at lw_m6 155 rfl) rfl
theorem q1417 : (Jvm.Cond.soleField "DairyBook$Statement" "text") ∈ lw_all := lw_g (lw_at lw_m6 156 rfl) rfl
theorem q1418 : (Jvm.Cond.superclass "DairyBook$Statement" "java/lang/Object") ∈ lw_all := lw_g (lw_at lw_m6 157 rfl) rfl
theorem q1429 : (Jvm.Cond.instanceMethod ({ cls := "DairyBook$Statement", name := "put", desc := "(I)LDairyBook$Statement;" } : Jvm.MethodName)) ∈ lw_all := lw_g (lw_at lw_m6 168 rfl) rfl
theorem q1430 : (Jvm.Cond.selects "DairyBook$Statement" ({ cls := "DairyBook$Statement", name := "put", desc := "(I)LDairyBook$Statement;" } : Jvm.MethodName) ({ cls := "DairyBook$Statement", name := "put", desc := "(I)LDairyBook$Statement;" } : Jvm.MethodName)) ∈ lw_all := lw_g (lw_at lw_m6 169 rfl) rfl
theorem q1431 : (Jvm.Cond.code ({ cls := "DairyBook$Statement", name := "put", desc := "(I)LDairyBook$Statement;" } : Jvm.MethodName) prog_12_method_3_code (2 : Nat) (Option.some (Jvm.ClassFile.FieldType.object "DairyBook$Statement"))) ∈ lw_all := lw_g (lw_at lw_m6 170 rfl) rfl
theorem q1432 : (Jvm.Cond.methodLink "DairyBook$Statement" (20 : Nat) ({ cls := "java/lang/StringBuilder", name := "append", desc := "(I)Ljava/lang/StringBuilder;" } : Jvm.MethodName)) ∈ lw_all := lw_g (lw_at lw_m6 171 rfl) rfl
theorem q1435 : (Jvm.Cond.instanceMethod ({ cls := "DairyBook$Statement", name := "put", desc := "(Ljava/lang/String;)LDairyBook$Statement;" } : Jvm.MethodName)) ∈ lw_all := lw_g (lw_at lw_m6 174 rfl) rfl
theorem q1436 : (Jvm.Cond.selects "DairyBook$Statement" ({ cls := "DairyBook$Statement", name := "put", desc := "(Ljava/lang/String;)LDairyBook$Statement;" } : Jvm.MethodName) ({ cls := "DairyBook$Statement", name := "put", desc := "(Ljava/lang/String;)LDairyBook$Statement;" } : Jvm.MethodName)) ∈ lw_all := lw_g (lw_at lw_m6 175 rfl) rfl
theorem q1437 : (Jvm.Cond.code ({ cls := "DairyBook$Statement", name := "put", desc := "(Ljava/lang/String;)LDairyBook$Statement;" } : Jvm.MethodName) prog_12_method_2_code (2 : Nat) (Option.some (Jvm.ClassFile.FieldType.object "DairyBook$Statement"))) ∈ lw_all := lw_g (lw_at lw_m6 176 rfl) rfl
theorem q1438 : (Jvm.Cond.methodLink "DairyBook$Statement" (16 : Nat) ({ cls := "java/lang/StringBuilder", name := "append", desc := "(Ljava/lang/String;)Ljava/lang/StringBuilder;" } : Jvm.MethodName)) ∈ lw_all := lw_g (lw_at lw_m6 177 rfl) rfl
theorem q1460 : (Jvm.Cond.instanceMethod ({ cls := "DairyBook$Statement", name := "toString", desc := "()Ljava/lang/String;" } : Jvm.MethodName)) ∈ lw_all := lw_g (lw_at lw_m6 199 rfl) rfl
theorem q1461 : (Jvm.Cond.selects "DairyBook$Statement" ({ cls := "DairyBook$Statement", name := "toString", desc := "()Ljava/lang/String;" } : Jvm.MethodName) ({ cls := "DairyBook$Statement", name := "toString", desc := "()Ljava/lang/String;" } : Jvm.MethodName)) ∈ lw_all := lw_g (lw_at lw_m6 200 rfl) rfl
theorem q1462 : (Jvm.Cond.code ({ cls := "DairyBook$Statement", name := "toString", desc := "()Ljava/lang/String;" } : Jvm.MethodName) prog_12_method_4_code (1 : Nat) (Option.some (Jvm.ClassFile.FieldType.object "java/lang/String"))) ∈ lw_all := lw_g (lw_at lw_m6 201 rfl) rfl
theorem q1463 : (Jvm.Cond.methodLink "DairyBook$Statement" (23 : Nat) ({ cls := "java/lang/StringBuilder", name := "toString", desc := "()Ljava/lang/String;" } : Jvm.MethodName)) ∈ lw_all := lw_g (lw_at lw_m6 202 rfl) rfl
theorem q2242 : (Jvm.Cond.castable "DairyBook$Statement" "java/lang/Object") ∈ lw_tbl := lw_at lw_m10 21 rfl
theorem in_X9 : ∀ w ∈ wsX90, w ∈ lw_all := lw_in wsX90 [1416] (by decide +kernel) (by decide +kernel)
/-! DairyBook$Reader -/
set_option maxRecDepth 100000
def RX10 : String := "DairyBook$Reader"
def TX10 : u_T := fun k => match k with
  | 0 => ("DairyBook$Reader", "text", "Ljava/lang/String;", true)
  | _ => ("DairyBook$Reader", "at", "I", false)
def tyX10 : Nat → FieldType := fun k => match k with
  | 0 => .object "java/lang/String"
  | _ => .int
abbrev wsX100 : List Cond := u_ws RX10 TX10 2
theorem nmX10 : ∀ a, a < 2 → ∀ b, b < 2 → a ≠ b → (TX10 a).2.1 ≠ (TX10 b).2.1 := by decide +kernel
theorem tyX10_ok : ∀ k, k < 2 → parseFieldDescriptor (TX10 k).2.2.1 = some (tyX10 k) := by decide +kernel
abbrev cX10_init : ByteArray := prog_9_method_1_code
def yX10_init : MethodName := ⟨RX10, "<init>", "(Ljava/lang/String;)V"⟩
def dkwX10_init_0 : List UInt8 := [42, 183, 0, 3, 42, 43, 181, 0, 9, 177]
abbrev dktX10_init_0 : List UInt8 := dkwX10_init_0 ++ []
theorem dksX10_init_0 : cX10_init.data.toList.drop 0 = dktX10_init_0 := by decide +kernel
theorem dX10_init_0 : decode cX10_init 0 = .ok (.aload_n 0, 1) := dk_42 (dk_at dksX10_init_0 0 rfl rfl)
theorem dX10_init_1 : decode cX10_init 1 = .ok (.invokespecial 3, 3) := dk_183 0 3 (dk_at dksX10_init_0 1 rfl rfl)
theorem dX10_init_4 : decode cX10_init 4 = .ok (.aload_n 0, 1) := dk_42 (dk_at dksX10_init_0 4 rfl rfl)
theorem dX10_init_5 : decode cX10_init 5 = .ok (.aload_n 1, 1) := dk_43 (dk_at dksX10_init_0 5 rfl rfl)
theorem dX10_init_6 : decode cX10_init 6 = .ok (.putfield 9, 3) := dk_181 0 9 (dk_at dksX10_init_0 6 rfl rfl)
theorem dX10_init_9 : decode cX10_init 9 = .ok (.return_, 1) := dk_177 (dk_at dksX10_init_0 9 rfl rfl)
abbrev cX10_read : ByteArray := prog_9_method_9_code
def yX10_read : MethodName := ⟨RX10, "read", "()Ljava/util/ArrayList;"⟩
def dkwX10_read_2 : List UInt8 := [182, 0, 19, 162, 0, 15, 187, 0, 36, 89, 42, 180, 0, 15, 183, 0, 38, 191, 43, 176]
abbrev dktX10_read_2 : List UInt8 := dkwX10_read_2 ++ []
def dkwX10_read_1 : List UInt8 := [153, 0, 15, 43, 42, 182, 0, 96, 182, 0, 100, 87, 167, 255, 238, 42, 180, 0, 15, 42, 180, 0, 9]
abbrev dktX10_read_1 : List UInt8 := dkwX10_read_1 ++ dktX10_read_2
def dkwX10_read_0 : List UInt8 := [187, 0, 93, 89, 183, 0, 95, 76, 43, 42, 182, 0, 96, 182, 0, 100, 87, 42, 16, 59, 182, 0, 32]
abbrev dktX10_read_0 : List UInt8 := dkwX10_read_0 ++ dktX10_read_1
theorem dksX10_read_0 : cX10_read.data.toList.drop 0 = dktX10_read_0 := by decide +kernel
theorem dksX10_read_1 : cX10_read.data.toList.drop 23 = dktX10_read_1 := dk_seg dksX10_read_0 23 rfl rfl
theorem dksX10_read_2 : cX10_read.data.toList.drop 46 = dktX10_read_2 := dk_seg dksX10_read_1 23 rfl rfl
theorem dX10_read_0 : decode cX10_read 0 = .ok (.new 93, 3) := dk_187 0 93 (dk_at dksX10_read_0 0 rfl rfl)
theorem dX10_read_3 : decode cX10_read 3 = .ok (.dup, 1) := dk_89 (dk_at dksX10_read_0 3 rfl rfl)
theorem dX10_read_4 : decode cX10_read 4 = .ok (.invokespecial 95, 3) := dk_183 0 95 (dk_at dksX10_read_0 4 rfl rfl)
theorem dX10_read_7 : decode cX10_read 7 = .ok (.astore_n 1, 1) := dk_76 (dk_at dksX10_read_0 7 rfl rfl)
theorem dX10_read_8 : decode cX10_read 8 = .ok (.aload_n 1, 1) := dk_43 (dk_at dksX10_read_0 8 rfl rfl)
theorem dX10_read_9 : decode cX10_read 9 = .ok (.aload_n 0, 1) := dk_42 (dk_at dksX10_read_0 9 rfl rfl)
theorem dX10_read_10 : decode cX10_read 10 = .ok (.invokevirtual 96, 3) := dk_182 0 96 (dk_at dksX10_read_0 10 rfl rfl)
theorem dX10_read_13 : decode cX10_read 13 = .ok (.invokevirtual 100, 3) := dk_182 0 100 (dk_at dksX10_read_0 13 rfl rfl)
theorem dX10_read_16 : decode cX10_read 16 = .ok (.pop, 1) := dk_87 (dk_at dksX10_read_0 16 rfl rfl)
theorem dX10_read_17 : decode cX10_read 17 = .ok (.aload_n 0, 1) := dk_42 (dk_at dksX10_read_0 17 rfl rfl)
theorem dX10_read_18 : decode cX10_read 18 = .ok (.bipush 59, 2) := dk_16 59 (dk_at dksX10_read_0 18 rfl rfl)
theorem dX10_read_20 : decode cX10_read 20 = .ok (.invokevirtual 32, 3) := dk_182 0 32 (dk_at dksX10_read_0 20 rfl rfl)
theorem dX10_read_23 : decode cX10_read 23 = .ok (.ifCond .eq 15, 3) := dk_153 0 15 (dk_at dksX10_read_1 0 rfl rfl)
theorem dX10_read_26 : decode cX10_read 26 = .ok (.aload_n 1, 1) := dk_43 (dk_at dksX10_read_1 3 rfl rfl)
theorem dX10_read_27 : decode cX10_read 27 = .ok (.aload_n 0, 1) := dk_42 (dk_at dksX10_read_1 4 rfl rfl)
theorem dX10_read_28 : decode cX10_read 28 = .ok (.invokevirtual 96, 3) := dk_182 0 96 (dk_at dksX10_read_1 5 rfl rfl)
theorem dX10_read_31 : decode cX10_read 31 = .ok (.invokevirtual 100, 3) := dk_182 0 100 (dk_at dksX10_read_1 8 rfl rfl)
theorem dX10_read_34 : decode cX10_read 34 = .ok (.pop, 1) := dk_87 (dk_at dksX10_read_1 11 rfl rfl)
theorem dX10_read_35 : decode cX10_read 35 = .ok (.goto (-18), 3) := dk_167 255 238 (dk_at dksX10_read_1 12 rfl rfl)
theorem dX10_read_38 : decode cX10_read 38 = .ok (.aload_n 0, 1) := dk_42 (dk_at dksX10_read_1 15 rfl rfl)
theorem dX10_read_39 : decode cX10_read 39 = .ok (.getfield 15, 3) := dk_180 0 15 (dk_at dksX10_read_1 16 rfl rfl)
theorem dX10_read_42 : decode cX10_read 42 = .ok (.aload_n 0, 1) := dk_42 (dk_at dksX10_read_1 19 rfl rfl)
theorem dX10_read_43 : decode cX10_read 43 = .ok (.getfield 9, 3) := dk_180 0 9 (dk_at dksX10_read_1 20 rfl rfl)
theorem dX10_read_46 : decode cX10_read 46 = .ok (.invokevirtual 19, 3) := dk_182 0 19 (dk_at dksX10_read_2 0 rfl rfl)
theorem dX10_read_49 : decode cX10_read 49 = .ok (.if_icmp .ge 15, 3) := dk_162 0 15 (dk_at dksX10_read_2 3 rfl rfl)
theorem dX10_read_52 : decode cX10_read 52 = .ok (.new 36, 3) := dk_187 0 36 (dk_at dksX10_read_2 6 rfl rfl)
theorem dX10_read_55 : decode cX10_read 55 = .ok (.dup, 1) := dk_89 (dk_at dksX10_read_2 9 rfl rfl)
theorem dX10_read_56 : decode cX10_read 56 = .ok (.aload_n 0, 1) := dk_42 (dk_at dksX10_read_2 10 rfl rfl)
theorem dX10_read_57 : decode cX10_read 57 = .ok (.getfield 15, 3) := dk_180 0 15 (dk_at dksX10_read_2 11 rfl rfl)
theorem dX10_read_60 : decode cX10_read 60 = .ok (.invokespecial 38, 3) := dk_183 0 38 (dk_at dksX10_read_2 14 rfl rfl)
theorem dX10_read_63 : decode cX10_read 63 = .ok (.athrow, 1) := dk_191 (dk_at dksX10_read_2 17 rfl rfl)
theorem dX10_read_64 : decode cX10_read 64 = .ok (.aload_n 1, 1) := dk_43 (dk_at dksX10_read_2 18 rfl rfl)
theorem dX10_read_65 : decode cX10_read 65 = .ok (.areturn, 1) := dk_176 (dk_at dksX10_read_2 19 rfl rfl)
abbrev cX10_command : ByteArray := prog_9_method_8_code
def yX10_command : MethodName := ⟨RX10, "command", "()LDairyBook$Command;"⟩
def dkwX10_command_2 : List UInt8 := [182, 0, 85, 183, 0, 90, 176]
abbrev dktX10_command_2 : List UInt8 := dkwX10_command_2 ++ []
def dkwX10_command_1 : List UInt8 := [187, 0, 88, 89, 43, 28, 3, 183, 0, 90, 176, 42, 16, 32, 182, 0, 82, 187, 0, 88, 89, 43, 28, 42]
abbrev dktX10_command_1 : List UInt8 := dkwX10_command_1 ++ dktX10_command_2
def dkwX10_command_0 : List UInt8 := [42, 182, 0, 79, 76, 42, 16, 32, 182, 0, 82, 42, 182, 0, 85, 61, 43, 184, 0, 75, 4, 160, 0, 14]
abbrev dktX10_command_0 : List UInt8 := dkwX10_command_0 ++ dktX10_command_1
theorem dksX10_command_0 : cX10_command.data.toList.drop 0 = dktX10_command_0 := by decide +kernel
theorem dksX10_command_1 : cX10_command.data.toList.drop 24 = dktX10_command_1 := dk_seg dksX10_command_0 24 rfl rfl
theorem dksX10_command_2 : cX10_command.data.toList.drop 48 = dktX10_command_2 := dk_seg dksX10_command_1 24 rfl rfl
theorem dX10_command_0 : decode cX10_command 0 = .ok (.aload_n 0, 1) := dk_42 (dk_at dksX10_command_0 0 rfl rfl)
theorem dX10_command_1 : decode cX10_command 1 = .ok (.invokevirtual 79, 3) := dk_182 0 79 (dk_at dksX10_command_0 1 rfl rfl)
theorem dX10_command_4 : decode cX10_command 4 = .ok (.astore_n 1, 1) := dk_76 (dk_at dksX10_command_0 4 rfl rfl)
theorem dX10_command_5 : decode cX10_command 5 = .ok (.aload_n 0, 1) := dk_42 (dk_at dksX10_command_0 5 rfl rfl)
theorem dX10_command_6 : decode cX10_command 6 = .ok (.bipush 32, 2) := dk_16 32 (dk_at dksX10_command_0 6 rfl rfl)
theorem dX10_command_8 : decode cX10_command 8 = .ok (.invokevirtual 82, 3) := dk_182 0 82 (dk_at dksX10_command_0 8 rfl rfl)
theorem dX10_command_11 : decode cX10_command 11 = .ok (.aload_n 0, 1) := dk_42 (dk_at dksX10_command_0 11 rfl rfl)
theorem dX10_command_12 : decode cX10_command 12 = .ok (.invokevirtual 85, 3) := dk_182 0 85 (dk_at dksX10_command_0 12 rfl rfl)
theorem dX10_command_15 : decode cX10_command 15 = .ok (.istore_n 2, 1) := dk_61 (dk_at dksX10_command_0 15 rfl rfl)
theorem dX10_command_16 : decode cX10_command 16 = .ok (.aload_n 1, 1) := dk_43 (dk_at dksX10_command_0 16 rfl rfl)
theorem dX10_command_17 : decode cX10_command 17 = .ok (.invokestatic 75, 3) := dk_184 0 75 (dk_at dksX10_command_0 17 rfl rfl)
theorem dX10_command_20 : decode cX10_command 20 = .ok (.iconst 1, 1) := dk_4 (dk_at dksX10_command_0 20 rfl rfl)
theorem dX10_command_21 : decode cX10_command 21 = .ok (.if_icmp .ne 14, 3) := dk_160 0 14 (dk_at dksX10_command_0 21 rfl rfl)
theorem dX10_command_24 : decode cX10_command 24 = .ok (.new 88, 3) := dk_187 0 88 (dk_at dksX10_command_1 0 rfl rfl)
theorem dX10_command_27 : decode cX10_command 27 = .ok (.dup, 1) := dk_89 (dk_at dksX10_command_1 3 rfl rfl)
theorem dX10_command_28 : decode cX10_command 28 = .ok (.aload_n 1, 1) := dk_43 (dk_at dksX10_command_1 4 rfl rfl)
theorem dX10_command_29 : decode cX10_command 29 = .ok (.iload_n 2, 1) := dk_28 (dk_at dksX10_command_1 5 rfl rfl)
theorem dX10_command_30 : decode cX10_command 30 = .ok (.iconst 0, 1) := dk_3 (dk_at dksX10_command_1 6 rfl rfl)
theorem dX10_command_31 : decode cX10_command 31 = .ok (.invokespecial 90, 3) := dk_183 0 90 (dk_at dksX10_command_1 7 rfl rfl)
theorem dX10_command_34 : decode cX10_command 34 = .ok (.areturn, 1) := dk_176 (dk_at dksX10_command_1 10 rfl rfl)
theorem dX10_command_35 : decode cX10_command 35 = .ok (.aload_n 0, 1) := dk_42 (dk_at dksX10_command_1 11 rfl rfl)
theorem dX10_command_36 : decode cX10_command 36 = .ok (.bipush 32, 2) := dk_16 32 (dk_at dksX10_command_1 12 rfl rfl)
theorem dX10_command_38 : decode cX10_command 38 = .ok (.invokevirtual 82, 3) := dk_182 0 82 (dk_at dksX10_command_1 14 rfl rfl)
theorem dX10_command_41 : decode cX10_command 41 = .ok (.new 88, 3) := dk_187 0 88 (dk_at dksX10_command_1 17 rfl rfl)
theorem dX10_command_44 : decode cX10_command 44 = .ok (.dup, 1) := dk_89 (dk_at dksX10_command_1 20 rfl rfl)
theorem dX10_command_45 : decode cX10_command 45 = .ok (.aload_n 1, 1) := dk_43 (dk_at dksX10_command_1 21 rfl rfl)
theorem dX10_command_46 : decode cX10_command 46 = .ok (.iload_n 2, 1) := dk_28 (dk_at dksX10_command_1 22 rfl rfl)
theorem dX10_command_47 : decode cX10_command 47 = .ok (.aload_n 0, 1) := dk_42 (dk_at dksX10_command_1 23 rfl rfl)
theorem dX10_command_48 : decode cX10_command 48 = .ok (.invokevirtual 85, 3) := dk_182 0 85 (dk_at dksX10_command_2 0 rfl rfl)
theorem dX10_command_51 : decode cX10_command 51 = .ok (.invokespecial 90, 3) := dk_183 0 90 (dk_at dksX10_command_2 3 rfl rfl)
theorem dX10_command_54 : decode cX10_command 54 = .ok (.areturn, 1) := dk_176 (dk_at dksX10_command_2 6 rfl rfl)
abbrev cX10_word : ByteArray := prog_9_method_7_code
def yX10_word : MethodName := ⟨RX10, "word", "()Ljava/lang/String;"⟩
def dkwX10_word_3 : List UInt8 := [45, 176]
abbrev dktX10_word_3 : List UInt8 := dkwX10_word_3 ++ []
def dkwX10_word_2 : List UInt8 := [167, 255, 222, 44, 182, 0, 71, 78, 45, 184, 0, 75, 154, 0, 12, 187, 0, 36, 89, 27, 183, 0, 38, 191]
abbrev dktX10_word_2 : List UInt8 := dkwX10_word_2 ++ dktX10_word_3
def dkwX10_word_1 : List UInt8 := [153, 0, 26, 44, 42, 182, 0, 29, 146, 182, 0, 67, 87, 42, 89, 180, 0, 15, 4, 96, 181, 0, 15]
abbrev dktX10_word_1 : List UInt8 := dkwX10_word_1 ++ dktX10_word_2
def dkwX10_word_0 : List UInt8 := [42, 180, 0, 15, 60, 187, 0, 64, 89, 183, 0, 66, 77, 42, 182, 0, 29, 16, 97, 16, 122, 184, 0, 41]
abbrev dktX10_word_0 : List UInt8 := dkwX10_word_0 ++ dktX10_word_1
theorem dksX10_word_0 : cX10_word.data.toList.drop 0 = dktX10_word_0 := by decide +kernel
theorem dksX10_word_1 : cX10_word.data.toList.drop 24 = dktX10_word_1 := dk_seg dksX10_word_0 24 rfl rfl
theorem dksX10_word_2 : cX10_word.data.toList.drop 47 = dktX10_word_2 := dk_seg dksX10_word_1 23 rfl rfl
theorem dksX10_word_3 : cX10_word.data.toList.drop 71 = dktX10_word_3 := dk_seg dksX10_word_2 24 rfl rfl
theorem dX10_word_0 : decode cX10_word 0 = .ok (.aload_n 0, 1) := dk_42 (dk_at dksX10_word_0 0 rfl rfl)
theorem dX10_word_1 : decode cX10_word 1 = .ok (.getfield 15, 3) := dk_180 0 15 (dk_at dksX10_word_0 1 rfl rfl)
theorem dX10_word_4 : decode cX10_word 4 = .ok (.istore_n 1, 1) := dk_60 (dk_at dksX10_word_0 4 rfl rfl)
theorem dX10_word_5 : decode cX10_word 5 = .ok (.new 64, 3) := dk_187 0 64 (dk_at dksX10_word_0 5 rfl rfl)
theorem dX10_word_8 : decode cX10_word 8 = .ok (.dup, 1) := dk_89 (dk_at dksX10_word_0 8 rfl rfl)
theorem dX10_word_9 : decode cX10_word 9 = .ok (.invokespecial 66, 3) := dk_183 0 66 (dk_at dksX10_word_0 9 rfl rfl)
theorem dX10_word_12 : decode cX10_word 12 = .ok (.astore_n 2, 1) := dk_77 (dk_at dksX10_word_0 12 rfl rfl)
theorem dX10_word_13 : decode cX10_word 13 = .ok (.aload_n 0, 1) := dk_42 (dk_at dksX10_word_0 13 rfl rfl)
theorem dX10_word_14 : decode cX10_word 14 = .ok (.invokevirtual 29, 3) := dk_182 0 29 (dk_at dksX10_word_0 14 rfl rfl)
theorem dX10_word_17 : decode cX10_word 17 = .ok (.bipush 97, 2) := dk_16 97 (dk_at dksX10_word_0 17 rfl rfl)
theorem dX10_word_19 : decode cX10_word 19 = .ok (.bipush 122, 2) := dk_16 122 (dk_at dksX10_word_0 19 rfl rfl)
theorem dX10_word_21 : decode cX10_word 21 = .ok (.invokestatic 41, 3) := dk_184 0 41 (dk_at dksX10_word_0 21 rfl rfl)
theorem dX10_word_24 : decode cX10_word 24 = .ok (.ifCond .eq 26, 3) := dk_153 0 26 (dk_at dksX10_word_1 0 rfl rfl)
theorem dX10_word_27 : decode cX10_word 27 = .ok (.aload_n 2, 1) := dk_44 (dk_at dksX10_word_1 3 rfl rfl)
theorem dX10_word_28 : decode cX10_word 28 = .ok (.aload_n 0, 1) := dk_42 (dk_at dksX10_word_1 4 rfl rfl)
theorem dX10_word_29 : decode cX10_word 29 = .ok (.invokevirtual 29, 3) := dk_182 0 29 (dk_at dksX10_word_1 5 rfl rfl)
theorem dX10_word_32 : decode cX10_word 32 = .ok (.i2c, 1) := dk_146 (dk_at dksX10_word_1 8 rfl rfl)
theorem dX10_word_33 : decode cX10_word 33 = .ok (.invokevirtual 67, 3) := dk_182 0 67 (dk_at dksX10_word_1 9 rfl rfl)
theorem dX10_word_36 : decode cX10_word 36 = .ok (.pop, 1) := dk_87 (dk_at dksX10_word_1 12 rfl rfl)
theorem dX10_word_37 : decode cX10_word 37 = .ok (.aload_n 0, 1) := dk_42 (dk_at dksX10_word_1 13 rfl rfl)
theorem dX10_word_38 : decode cX10_word 38 = .ok (.dup, 1) := dk_89 (dk_at dksX10_word_1 14 rfl rfl)
theorem dX10_word_39 : decode cX10_word 39 = .ok (.getfield 15, 3) := dk_180 0 15 (dk_at dksX10_word_1 15 rfl rfl)
theorem dX10_word_42 : decode cX10_word 42 = .ok (.iconst 1, 1) := dk_4 (dk_at dksX10_word_1 18 rfl rfl)
theorem dX10_word_43 : decode cX10_word 43 = .ok (.iadd, 1) := dk_96 (dk_at dksX10_word_1 19 rfl rfl)
theorem dX10_word_44 : decode cX10_word 44 = .ok (.putfield 15, 3) := dk_181 0 15 (dk_at dksX10_word_1 20 rfl rfl)
theorem dX10_word_47 : decode cX10_word 47 = .ok (.goto (-34), 3) := dk_167 255 222 (dk_at dksX10_word_2 0 rfl rfl)
theorem dX10_word_50 : decode cX10_word 50 = .ok (.aload_n 2, 1) := dk_44 (dk_at dksX10_word_2 3 rfl rfl)
theorem dX10_word_51 : decode cX10_word 51 = .ok (.invokevirtual 71, 3) := dk_182 0 71 (dk_at dksX10_word_2 4 rfl rfl)
theorem dX10_word_54 : decode cX10_word 54 = .ok (.astore_n 3, 1) := dk_78 (dk_at dksX10_word_2 7 rfl rfl)
theorem dX10_word_55 : decode cX10_word 55 = .ok (.aload_n 3, 1) := dk_45 (dk_at dksX10_word_2 8 rfl rfl)
theorem dX10_word_56 : decode cX10_word 56 = .ok (.invokestatic 75, 3) := dk_184 0 75 (dk_at dksX10_word_2 9 rfl rfl)
theorem dX10_word_59 : decode cX10_word 59 = .ok (.ifCond .ne 12, 3) := dk_154 0 12 (dk_at dksX10_word_2 12 rfl rfl)
theorem dX10_word_62 : decode cX10_word 62 = .ok (.new 36, 3) := dk_187 0 36 (dk_at dksX10_word_2 15 rfl rfl)
theorem dX10_word_65 : decode cX10_word 65 = .ok (.dup, 1) := dk_89 (dk_at dksX10_word_2 18 rfl rfl)
theorem dX10_word_66 : decode cX10_word 66 = .ok (.iload_n 1, 1) := dk_27 (dk_at dksX10_word_2 19 rfl rfl)
theorem dX10_word_67 : decode cX10_word 67 = .ok (.invokespecial 38, 3) := dk_183 0 38 (dk_at dksX10_word_2 20 rfl rfl)
theorem dX10_word_70 : decode cX10_word 70 = .ok (.athrow, 1) := dk_191 (dk_at dksX10_word_2 23 rfl rfl)
theorem dX10_word_71 : decode cX10_word 71 = .ok (.aload_n 3, 1) := dk_45 (dk_at dksX10_word_3 0 rfl rfl)
theorem dX10_word_72 : decode cX10_word 72 = .ok (.areturn, 1) := dk_176 (dk_at dksX10_word_3 1 rfl rfl)
abbrev cX10_here : ByteArray := prog_9_method_2_code
def yX10_here : MethodName := ⟨RX10, "here", "()I"⟩
def dkwX10_here_1 : List UInt8 := [182, 0, 25, 167, 0, 4, 2, 172]
abbrev dktX10_here_1 : List UInt8 := dkwX10_here_1 ++ []
def dkwX10_here_0 : List UInt8 := [42, 180, 0, 15, 42, 180, 0, 9, 182, 0, 19, 162, 0, 17, 42, 180, 0, 9, 42, 180, 0, 15]
abbrev dktX10_here_0 : List UInt8 := dkwX10_here_0 ++ dktX10_here_1
theorem dksX10_here_0 : cX10_here.data.toList.drop 0 = dktX10_here_0 := by decide +kernel
theorem dksX10_here_1 : cX10_here.data.toList.drop 22 = dktX10_here_1 := dk_seg dksX10_here_0 22 rfl rfl
theorem dX10_here_0 : decode cX10_here 0 = .ok (.aload_n 0, 1) := dk_42 (dk_at dksX10_here_0 0 rfl rfl)
theorem dX10_here_1 : decode cX10_here 1 = .ok (.getfield 15, 3) := dk_180 0 15 (dk_at dksX10_here_0 1 rfl rfl)
theorem dX10_here_4 : decode cX10_here 4 = .ok (.aload_n 0, 1) := dk_42 (dk_at dksX10_here_0 4 rfl rfl)
theorem dX10_here_5 : decode cX10_here 5 = .ok (.getfield 9, 3) := dk_180 0 9 (dk_at dksX10_here_0 5 rfl rfl)
theorem dX10_here_8 : decode cX10_here 8 = .ok (.invokevirtual 19, 3) := dk_182 0 19 (dk_at dksX10_here_0 8 rfl rfl)
theorem dX10_here_11 : decode cX10_here 11 = .ok (.if_icmp .ge 17, 3) := dk_162 0 17 (dk_at dksX10_here_0 11 rfl rfl)
theorem dX10_here_14 : decode cX10_here 14 = .ok (.aload_n 0, 1) := dk_42 (dk_at dksX10_here_0 14 rfl rfl)
theorem dX10_here_15 : decode cX10_here 15 = .ok (.getfield 9, 3) := dk_180 0 9 (dk_at dksX10_here_0 15 rfl rfl)
theorem dX10_here_18 : decode cX10_here 18 = .ok (.aload_n 0, 1) := dk_42 (dk_at dksX10_here_0 18 rfl rfl)
theorem dX10_here_19 : decode cX10_here 19 = .ok (.getfield 15, 3) := dk_180 0 15 (dk_at dksX10_here_0 19 rfl rfl)
theorem dX10_here_22 : decode cX10_here 22 = .ok (.invokevirtual 25, 3) := dk_182 0 25 (dk_at dksX10_here_1 0 rfl rfl)
theorem dX10_here_25 : decode cX10_here 25 = .ok (.goto 4, 3) := dk_167 0 4 (dk_at dksX10_here_1 3 rfl rfl)
theorem dX10_here_28 : decode cX10_here 28 = .ok (.iconst (-1), 1) := dk_2 (dk_at dksX10_here_1 6 rfl rfl)
theorem dX10_here_29 : decode cX10_here 29 = .ok (.ireturn, 1) := dk_172 (dk_at dksX10_here_1 7 rfl rfl)
abbrev cX10_numbersOf : ByteArray := prog_9_method_6_code
def yX10_numbersOf : MethodName := ⟨RX10, "numbersOf", "(Ljava/lang/String;)I"⟩
def dkwX10_numbersOf_7 : List UInt8 := [5, 172, 4, 172, 3, 172]
abbrev dktX10_numbersOf_7 : List UInt8 := dkwX10_numbersOf_7 ++ []
def dkwX10_numbersOf_6 : List UInt8 := [170, 0, 0, 0, 0, 42, 0, 0, 0, 0, 0, 0, 0, 5, 0, 0, 0, 38, 0, 0, 0, 38, 0, 0, 0, 38, 0, 0, 0, 40, 0, 0, 0, 40, 0, 0, 0, 40]
abbrev dktX10_numbersOf_6 : List UInt8 := dkwX10_numbersOf_6 ++ dktX10_numbersOf_7
def dkwX10_numbersOf_5 : List UInt8 := [18, 62, 182, 0, 50, 153, 0, 5, 8, 61, 28]
abbrev dktX10_numbersOf_5 : List UInt8 := dkwX10_numbersOf_5 ++ dktX10_numbersOf_6
def dkwX10_numbersOf_4 : List UInt8 := [153, 0, 33, 6, 61, 167, 0, 28, 43, 18, 60, 182, 0, 50, 153, 0, 19, 7, 61, 167, 0, 14, 43]
abbrev dktX10_numbersOf_4 : List UInt8 := dkwX10_numbersOf_4 ++ dktX10_numbersOf_5
def dkwX10_numbersOf_3 : List UInt8 := [61, 167, 0, 56, 43, 18, 56, 182, 0, 50, 153, 0, 47, 5, 61, 167, 0, 42, 43, 18, 58, 182, 0, 50]
abbrev dktX10_numbersOf_3 : List UInt8 := dkwX10_numbersOf_3 ++ dktX10_numbersOf_4
def dkwX10_numbersOf_2 : List UInt8 := [43, 18, 48, 182, 0, 50, 153, 0, 75, 3, 61, 167, 0, 70, 43, 18, 54, 182, 0, 50, 153, 0, 61, 4]
abbrev dktX10_numbersOf_2 : List UInt8 := dkwX10_numbersOf_2 ++ dktX10_numbersOf_3
def dkwX10_numbersOf_1 : List UInt8 := [171, 0, 0, 0, 0, 0, 0, 141, 0, 0, 0, 6, 0, 1, 133, 171, 0, 0, 0, 116, 0, 48, 244, 191, 0, 0, 0, 60, 0, 53, 207, 82, 0, 0, 0, 130, 5, 153, 32, 31, 0, 0, 0, 88, 5, 162, 163, 81, 0, 0, 0, 74, 6, 132, 51, 15, 0, 0, 0, 102]
abbrev dktX10_numbersOf_1 : List UInt8 := dkwX10_numbersOf_1 ++ dktX10_numbersOf_2
def dkwX10_numbersOf_0 : List UInt8 := [42, 76, 2, 61, 43, 182, 0, 45]
abbrev dktX10_numbersOf_0 : List UInt8 := dkwX10_numbersOf_0 ++ dktX10_numbersOf_1
theorem dksX10_numbersOf_0 : cX10_numbersOf.data.toList.drop 0 = dktX10_numbersOf_0 := by decide +kernel
theorem dksX10_numbersOf_1 : cX10_numbersOf.data.toList.drop 8 = dktX10_numbersOf_1 := dk_seg dksX10_numbersOf_0 8 rfl rfl
theorem dksX10_numbersOf_2 : cX10_numbersOf.data.toList.drop 68 = dktX10_numbersOf_2 := dk_seg dksX10_numbersOf_1 60 rfl rfl
theorem dksX10_numbersOf_3 : cX10_numbersOf.data.toList.drop 92 = dktX10_numbersOf_3 := dk_seg dksX10_numbersOf_2 24 rfl rfl
theorem dksX10_numbersOf_4 : cX10_numbersOf.data.toList.drop 116 = dktX10_numbersOf_4 := dk_seg dksX10_numbersOf_3 24 rfl rfl
theorem dksX10_numbersOf_5 : cX10_numbersOf.data.toList.drop 139 = dktX10_numbersOf_5 := dk_seg dksX10_numbersOf_4 23 rfl rfl
theorem dksX10_numbersOf_6 : cX10_numbersOf.data.toList.drop 150 = dktX10_numbersOf_6 := dk_seg dksX10_numbersOf_5 11 rfl rfl
theorem dksX10_numbersOf_7 : cX10_numbersOf.data.toList.drop 188 = dktX10_numbersOf_7 := dk_seg dksX10_numbersOf_6 38 rfl rfl
theorem dX10_numbersOf_0 : decode cX10_numbersOf 0 = .ok (.aload_n 0, 1) := dk_42 (dk_at dksX10_numbersOf_0 0 rfl rfl)
theorem dX10_numbersOf_1 : decode cX10_numbersOf 1 = .ok (.astore_n 1, 1) := dk_76 (dk_at dksX10_numbersOf_0 1 rfl rfl)
theorem dX10_numbersOf_2 : decode cX10_numbersOf 2 = .ok (.iconst (-1), 1) := dk_2 (dk_at dksX10_numbersOf_0 2 rfl rfl)
theorem dX10_numbersOf_3 : decode cX10_numbersOf 3 = .ok (.istore_n 2, 1) := dk_61 (dk_at dksX10_numbersOf_0 3 rfl rfl)
theorem dX10_numbersOf_4 : decode cX10_numbersOf 4 = .ok (.aload_n 1, 1) := dk_43 (dk_at dksX10_numbersOf_0 4 rfl rfl)
theorem dX10_numbersOf_5 : decode cX10_numbersOf 5 = .ok (.invokevirtual 45, 3) := dk_182 0 45 (dk_at dksX10_numbersOf_0 5 rfl rfl)
theorem dX10_numbersOf_8 : decode cX10_numbersOf 8 = .ok (.lookupswitch 141 #[(99755, 116), (3208383, 60), (3526482, 130), (93921311, 88), (94544721, 74), (109327119, 102)], 60) := by decide +kernel
theorem dX10_numbersOf_68 : decode cX10_numbersOf 68 = .ok (.aload_n 1, 1) := dk_43 (dk_at dksX10_numbersOf_2 0 rfl rfl)
theorem dX10_numbersOf_69 : decode cX10_numbersOf 69 = .ok (.ldc 48, 2) := dk_18 48 (dk_at dksX10_numbersOf_2 1 rfl rfl)
theorem dX10_numbersOf_71 : decode cX10_numbersOf 71 = .ok (.invokevirtual 50, 3) := dk_182 0 50 (dk_at dksX10_numbersOf_2 3 rfl rfl)
theorem dX10_numbersOf_74 : decode cX10_numbersOf 74 = .ok (.ifCond .eq 75, 3) := dk_153 0 75 (dk_at dksX10_numbersOf_2 6 rfl rfl)
theorem dX10_numbersOf_77 : decode cX10_numbersOf 77 = .ok (.iconst 0, 1) := dk_3 (dk_at dksX10_numbersOf_2 9 rfl rfl)
theorem dX10_numbersOf_78 : decode cX10_numbersOf 78 = .ok (.istore_n 2, 1) := dk_61 (dk_at dksX10_numbersOf_2 10 rfl rfl)
theorem dX10_numbersOf_79 : decode cX10_numbersOf 79 = .ok (.goto 70, 3) := dk_167 0 70 (dk_at dksX10_numbersOf_2 11 rfl rfl)
theorem dX10_numbersOf_82 : decode cX10_numbersOf 82 = .ok (.aload_n 1, 1) := dk_43 (dk_at dksX10_numbersOf_2 14 rfl rfl)
theorem dX10_numbersOf_83 : decode cX10_numbersOf 83 = .ok (.ldc 54, 2) := dk_18 54 (dk_at dksX10_numbersOf_2 15 rfl rfl)
theorem dX10_numbersOf_85 : decode cX10_numbersOf 85 = .ok (.invokevirtual 50, 3) := dk_182 0 50 (dk_at dksX10_numbersOf_2 17 rfl rfl)
theorem dX10_numbersOf_88 : decode cX10_numbersOf 88 = .ok (.ifCond .eq 61, 3) := dk_153 0 61 (dk_at dksX10_numbersOf_2 20 rfl rfl)
theorem dX10_numbersOf_91 : decode cX10_numbersOf 91 = .ok (.iconst 1, 1) := dk_4 (dk_at dksX10_numbersOf_2 23 rfl rfl)
theorem dX10_numbersOf_92 : decode cX10_numbersOf 92 = .ok (.istore_n 2, 1) := dk_61 (dk_at dksX10_numbersOf_3 0 rfl rfl)
theorem dX10_numbersOf_93 : decode cX10_numbersOf 93 = .ok (.goto 56, 3) := dk_167 0 56 (dk_at dksX10_numbersOf_3 1 rfl rfl)
theorem dX10_numbersOf_96 : decode cX10_numbersOf 96 = .ok (.aload_n 1, 1) := dk_43 (dk_at dksX10_numbersOf_3 4 rfl rfl)
theorem dX10_numbersOf_97 : decode cX10_numbersOf 97 = .ok (.ldc 56, 2) := dk_18 56 (dk_at dksX10_numbersOf_3 5 rfl rfl)
theorem dX10_numbersOf_99 : decode cX10_numbersOf 99 = .ok (.invokevirtual 50, 3) := dk_182 0 50 (dk_at dksX10_numbersOf_3 7 rfl rfl)
theorem dX10_numbersOf_102 : decode cX10_numbersOf 102 = .ok (.ifCond .eq 47, 3) := dk_153 0 47 (dk_at dksX10_numbersOf_3 10 rfl rfl)
theorem dX10_numbersOf_105 : decode cX10_numbersOf 105 = .ok (.iconst 2, 1) := dk_5 (dk_at dksX10_numbersOf_3 13 rfl rfl)
theorem dX10_numbersOf_106 : decode cX10_numbersOf 106 = .ok (.istore_n 2, 1) := dk_61 (dk_at dksX10_numbersOf_3 14 rfl rfl)
theorem dX10_numbersOf_107 : decode cX10_numbersOf 107 = .ok (.goto 42, 3) := dk_167 0 42 (dk_at dksX10_numbersOf_3 15 rfl rfl)
theorem dX10_numbersOf_110 : decode cX10_numbersOf 110 = .ok (.aload_n 1, 1) := dk_43 (dk_at dksX10_numbersOf_3 18 rfl rfl)
theorem dX10_numbersOf_111 : decode cX10_numbersOf 111 = .ok (.ldc 58, 2) := dk_18 58 (dk_at dksX10_numbersOf_3 19 rfl rfl)
theorem dX10_numbersOf_113 : decode cX10_numbersOf 113 = .ok (.invokevirtual 50, 3) := dk_182 0 50 (dk_at dksX10_numbersOf_3 21 rfl rfl)
theorem dX10_numbersOf_116 : decode cX10_numbersOf 116 = .ok (.ifCond .eq 33, 3) := dk_153 0 33 (dk_at dksX10_numbersOf_4 0 rfl rfl)
theorem dX10_numbersOf_119 : decode cX10_numbersOf 119 = .ok (.iconst 3, 1) := dk_6 (dk_at dksX10_numbersOf_4 3 rfl rfl)
theorem dX10_numbersOf_120 : decode cX10_numbersOf 120 = .ok (.istore_n 2, 1) := dk_61 (dk_at dksX10_numbersOf_4 4 rfl rfl)
theorem dX10_numbersOf_121 : decode cX10_numbersOf 121 = .ok (.goto 28, 3) := dk_167 0 28 (dk_at dksX10_numbersOf_4 5 rfl rfl)
theorem dX10_numbersOf_124 : decode cX10_numbersOf 124 = .ok (.aload_n 1, 1) := dk_43 (dk_at dksX10_numbersOf_4 8 rfl rfl)
theorem dX10_numbersOf_125 : decode cX10_numbersOf 125 = .ok (.ldc 60, 2) := dk_18 60 (dk_at dksX10_numbersOf_4 9 rfl rfl)
theorem dX10_numbersOf_127 : decode cX10_numbersOf 127 = .ok (.invokevirtual 50, 3) := dk_182 0 50 (dk_at dksX10_numbersOf_4 11 rfl rfl)
theorem dX10_numbersOf_130 : decode cX10_numbersOf 130 = .ok (.ifCond .eq 19, 3) := dk_153 0 19 (dk_at dksX10_numbersOf_4 14 rfl rfl)
theorem dX10_numbersOf_133 : decode cX10_numbersOf 133 = .ok (.iconst 4, 1) := dk_7 (dk_at dksX10_numbersOf_4 17 rfl rfl)
theorem dX10_numbersOf_134 : decode cX10_numbersOf 134 = .ok (.istore_n 2, 1) := dk_61 (dk_at dksX10_numbersOf_4 18 rfl rfl)
theorem dX10_numbersOf_135 : decode cX10_numbersOf 135 = .ok (.goto 14, 3) := dk_167 0 14 (dk_at dksX10_numbersOf_4 19 rfl rfl)
theorem dX10_numbersOf_138 : decode cX10_numbersOf 138 = .ok (.aload_n 1, 1) := dk_43 (dk_at dksX10_numbersOf_4 22 rfl rfl)
theorem dX10_numbersOf_139 : decode cX10_numbersOf 139 = .ok (.ldc 62, 2) := dk_18 62 (dk_at dksX10_numbersOf_5 0 rfl rfl)
theorem dX10_numbersOf_141 : decode cX10_numbersOf 141 = .ok (.invokevirtual 50, 3) := dk_182 0 50 (dk_at dksX10_numbersOf_5 2 rfl rfl)
theorem dX10_numbersOf_144 : decode cX10_numbersOf 144 = .ok (.ifCond .eq 5, 3) := dk_153 0 5 (dk_at dksX10_numbersOf_5 5 rfl rfl)
theorem dX10_numbersOf_147 : decode cX10_numbersOf 147 = .ok (.iconst 5, 1) := dk_8 (dk_at dksX10_numbersOf_5 8 rfl rfl)
theorem dX10_numbersOf_148 : decode cX10_numbersOf 148 = .ok (.istore_n 2, 1) := dk_61 (dk_at dksX10_numbersOf_5 9 rfl rfl)
theorem dX10_numbersOf_149 : decode cX10_numbersOf 149 = .ok (.iload_n 2, 1) := dk_28 (dk_at dksX10_numbersOf_5 10 rfl rfl)
theorem dX10_numbersOf_150 : decode cX10_numbersOf 150 = .ok (.tableswitch 42 0 5 #[38, 38, 38, 40, 40, 40], 38) := by decide +kernel
theorem dX10_numbersOf_188 : decode cX10_numbersOf 188 = .ok (.iconst 2, 1) := dk_5 (dk_at dksX10_numbersOf_7 0 rfl rfl)
theorem dX10_numbersOf_189 : decode cX10_numbersOf 189 = .ok (.ireturn, 1) := dk_172 (dk_at dksX10_numbersOf_7 1 rfl rfl)
theorem dX10_numbersOf_190 : decode cX10_numbersOf 190 = .ok (.iconst 1, 1) := dk_4 (dk_at dksX10_numbersOf_7 2 rfl rfl)
theorem dX10_numbersOf_191 : decode cX10_numbersOf 191 = .ok (.ireturn, 1) := dk_172 (dk_at dksX10_numbersOf_7 3 rfl rfl)
theorem dX10_numbersOf_192 : decode cX10_numbersOf 192 = .ok (.iconst 0, 1) := dk_3 (dk_at dksX10_numbersOf_7 4 rfl rfl)
theorem dX10_numbersOf_193 : decode cX10_numbersOf 193 = .ok (.ireturn, 1) := dk_172 (dk_at dksX10_numbersOf_7 5 rfl rfl)
abbrev cX10_must : ByteArray := prog_9_method_4_code
def yX10_must : MethodName := ⟨RX10, "must", "(I)V"⟩
def dkwX10_must_0 : List UInt8 := [42, 27, 182, 0, 32, 154, 0, 15, 187, 0, 36, 89, 42, 180, 0, 15, 183, 0, 38, 191, 177]
abbrev dktX10_must_0 : List UInt8 := dkwX10_must_0 ++ []
theorem dksX10_must_0 : cX10_must.data.toList.drop 0 = dktX10_must_0 := by decide +kernel
theorem dX10_must_0 : decode cX10_must 0 = .ok (.aload_n 0, 1) := dk_42 (dk_at dksX10_must_0 0 rfl rfl)
theorem dX10_must_1 : decode cX10_must 1 = .ok (.iload_n 1, 1) := dk_27 (dk_at dksX10_must_0 1 rfl rfl)
theorem dX10_must_2 : decode cX10_must 2 = .ok (.invokevirtual 32, 3) := dk_182 0 32 (dk_at dksX10_must_0 2 rfl rfl)
theorem dX10_must_5 : decode cX10_must 5 = .ok (.ifCond .ne 15, 3) := dk_154 0 15 (dk_at dksX10_must_0 5 rfl rfl)
theorem dX10_must_8 : decode cX10_must 8 = .ok (.new 36, 3) := dk_187 0 36 (dk_at dksX10_must_0 8 rfl rfl)
theorem dX10_must_11 : decode cX10_must 11 = .ok (.dup, 1) := dk_89 (dk_at dksX10_must_0 11 rfl rfl)
theorem dX10_must_12 : decode cX10_must 12 = .ok (.aload_n 0, 1) := dk_42 (dk_at dksX10_must_0 12 rfl rfl)
theorem dX10_must_13 : decode cX10_must 13 = .ok (.getfield 15, 3) := dk_180 0 15 (dk_at dksX10_must_0 13 rfl rfl)
theorem dX10_must_16 : decode cX10_must 16 = .ok (.invokespecial 38, 3) := dk_183 0 38 (dk_at dksX10_must_0 16 rfl rfl)
theorem dX10_must_19 : decode cX10_must 19 = .ok (.athrow, 1) := dk_191 (dk_at dksX10_must_0 19 rfl rfl)
theorem dX10_must_20 : decode cX10_must 20 = .ok (.return_, 1) := dk_177 (dk_at dksX10_must_0 20 rfl rfl)
abbrev cX10_skip : ByteArray := prog_9_method_3_code
def yX10_skip : MethodName := ⟨RX10, "skip", "(I)Z"⟩
def dkwX10_skip_0 : List UInt8 := [42, 182, 0, 29, 27, 159, 0, 5, 3, 172, 42, 89, 180, 0, 15, 4, 96, 181, 0, 15, 4, 172]
abbrev dktX10_skip_0 : List UInt8 := dkwX10_skip_0 ++ []
theorem dksX10_skip_0 : cX10_skip.data.toList.drop 0 = dktX10_skip_0 := by decide +kernel
theorem dX10_skip_0 : decode cX10_skip 0 = .ok (.aload_n 0, 1) := dk_42 (dk_at dksX10_skip_0 0 rfl rfl)
theorem dX10_skip_1 : decode cX10_skip 1 = .ok (.invokevirtual 29, 3) := dk_182 0 29 (dk_at dksX10_skip_0 1 rfl rfl)
theorem dX10_skip_4 : decode cX10_skip 4 = .ok (.iload_n 1, 1) := dk_27 (dk_at dksX10_skip_0 4 rfl rfl)
theorem dX10_skip_5 : decode cX10_skip 5 = .ok (.if_icmp .eq 5, 3) := dk_159 0 5 (dk_at dksX10_skip_0 5 rfl rfl)
theorem dX10_skip_8 : decode cX10_skip 8 = .ok (.iconst 0, 1) := dk_3 (dk_at dksX10_skip_0 8 rfl rfl)
theorem dX10_skip_9 : decode cX10_skip 9 = .ok (.ireturn, 1) := dk_172 (dk_at dksX10_skip_0 9 rfl rfl)
theorem dX10_skip_10 : decode cX10_skip 10 = .ok (.aload_n 0, 1) := dk_42 (dk_at dksX10_skip_0 10 rfl rfl)
theorem dX10_skip_11 : decode cX10_skip 11 = .ok (.dup, 1) := dk_89 (dk_at dksX10_skip_0 11 rfl rfl)
theorem dX10_skip_12 : decode cX10_skip 12 = .ok (.getfield 15, 3) := dk_180 0 15 (dk_at dksX10_skip_0 12 rfl rfl)
theorem dX10_skip_15 : decode cX10_skip 15 = .ok (.iconst 1, 1) := dk_4 (dk_at dksX10_skip_0 15 rfl rfl)
theorem dX10_skip_16 : decode cX10_skip 16 = .ok (.iadd, 1) := dk_96 (dk_at dksX10_skip_0 16 rfl rfl)
theorem dX10_skip_17 : decode cX10_skip 17 = .ok (.putfield 15, 3) := dk_181 0 15 (dk_at dksX10_skip_0 17 rfl rfl)
theorem dX10_skip_20 : decode cX10_skip 20 = .ok (.iconst 1, 1) := dk_4 (dk_at dksX10_skip_0 20 rfl rfl)
theorem dX10_skip_21 : decode cX10_skip 21 = .ok (.ireturn, 1) := dk_172 (dk_at dksX10_skip_0 21 rfl rfl)
abbrev cX10_number : ByteArray := prog_9_method_5_code
def yX10_number : MethodName := ⟨RX10, "number", "()I"⟩
def dkwX10_number_3 : List UInt8 := [42, 89, 180, 0, 15, 4, 96, 181, 0, 15, 132, 2, 1, 167, 255, 203, 27, 172]
abbrev dktX10_number_3 : List UInt8 := dkwX10_number_3 ++ []
def dkwX10_number_2 : List UInt8 := [162, 0, 40, 28, 153, 0, 7, 27, 158, 0, 32, 16, 10, 27, 104, 42, 182, 0, 29, 96, 16, 48, 100, 60]
abbrev dktX10_number_2 : List UInt8 := dkwX10_number_2 ++ dktX10_number_3
def dkwX10_number_1 : List UInt8 := [183, 0, 38, 191, 3, 60, 3, 61, 42, 182, 0, 29, 16, 48, 16, 57, 184, 0, 41, 153, 0, 45, 28, 6]
abbrev dktX10_number_1 : List UInt8 := dkwX10_number_1 ++ dktX10_number_2
def dkwX10_number_0 : List UInt8 := [42, 182, 0, 29, 16, 48, 16, 57, 184, 0, 41, 154, 0, 15, 187, 0, 36, 89, 42, 180, 0, 15]
abbrev dktX10_number_0 : List UInt8 := dkwX10_number_0 ++ dktX10_number_1
theorem dksX10_number_0 : cX10_number.data.toList.drop 0 = dktX10_number_0 := by decide +kernel
theorem dksX10_number_1 : cX10_number.data.toList.drop 22 = dktX10_number_1 := dk_seg dksX10_number_0 22 rfl rfl
theorem dksX10_number_2 : cX10_number.data.toList.drop 46 = dktX10_number_2 := dk_seg dksX10_number_1 24 rfl rfl
theorem dksX10_number_3 : cX10_number.data.toList.drop 70 = dktX10_number_3 := dk_seg dksX10_number_2 24 rfl rfl
theorem dX10_number_0 : decode cX10_number 0 = .ok (.aload_n 0, 1) := dk_42 (dk_at dksX10_number_0 0 rfl rfl)
theorem dX10_number_1 : decode cX10_number 1 = .ok (.invokevirtual 29, 3) := dk_182 0 29 (dk_at dksX10_number_0 1 rfl rfl)
theorem dX10_number_4 : decode cX10_number 4 = .ok (.bipush 48, 2) := dk_16 48 (dk_at dksX10_number_0 4 rfl rfl)
theorem dX10_number_6 : decode cX10_number 6 = .ok (.bipush 57, 2) := dk_16 57 (dk_at dksX10_number_0 6 rfl rfl)
theorem dX10_number_8 : decode cX10_number 8 = .ok (.invokestatic 41, 3) := dk_184 0 41 (dk_at dksX10_number_0 8 rfl rfl)
theorem dX10_number_11 : decode cX10_number 11 = .ok (.ifCond .ne 15, 3) := dk_154 0 15 (dk_at dksX10_number_0 11 rfl rfl)
theorem dX10_number_14 : decode cX10_number 14 = .ok (.new 36, 3) := dk_187 0 36 (dk_at dksX10_number_0 14 rfl rfl)
theorem dX10_number_17 : decode cX10_number 17 = .ok (.dup, 1) := dk_89 (dk_at dksX10_number_0 17 rfl rfl)
theorem dX10_number_18 : decode cX10_number 18 = .ok (.aload_n 0, 1) := dk_42 (dk_at dksX10_number_0 18 rfl rfl)
theorem dX10_number_19 : decode cX10_number 19 = .ok (.getfield 15, 3) := dk_180 0 15 (dk_at dksX10_number_0 19 rfl rfl)
theorem dX10_number_22 : decode cX10_number 22 = .ok (.invokespecial 38, 3) := dk_183 0 38 (dk_at dksX10_number_1 0 rfl rfl)
theorem dX10_number_25 : decode cX10_number 25 = .ok (.athrow, 1) := dk_191 (dk_at dksX10_number_1 3 rfl rfl)
theorem dX10_number_26 : decode cX10_number 26 = .ok (.iconst 0, 1) := dk_3 (dk_at dksX10_number_1 4 rfl rfl)
theorem dX10_number_27 : decode cX10_number 27 = .ok (.istore_n 1, 1) := dk_60 (dk_at dksX10_number_1 5 rfl rfl)
theorem dX10_number_28 : decode cX10_number 28 = .ok (.iconst 0, 1) := dk_3 (dk_at dksX10_number_1 6 rfl rfl)
theorem dX10_number_29 : decode cX10_number 29 = .ok (.istore_n 2, 1) := dk_61 (dk_at dksX10_number_1 7 rfl rfl)
theorem dX10_number_30 : decode cX10_number 30 = .ok (.aload_n 0, 1) := dk_42 (dk_at dksX10_number_1 8 rfl rfl)
theorem dX10_number_31 : decode cX10_number 31 = .ok (.invokevirtual 29, 3) := dk_182 0 29 (dk_at dksX10_number_1 9 rfl rfl)
theorem dX10_number_34 : decode cX10_number 34 = .ok (.bipush 48, 2) := dk_16 48 (dk_at dksX10_number_1 12 rfl rfl)
theorem dX10_number_36 : decode cX10_number 36 = .ok (.bipush 57, 2) := dk_16 57 (dk_at dksX10_number_1 14 rfl rfl)
theorem dX10_number_38 : decode cX10_number 38 = .ok (.invokestatic 41, 3) := dk_184 0 41 (dk_at dksX10_number_1 16 rfl rfl)
theorem dX10_number_41 : decode cX10_number 41 = .ok (.ifCond .eq 45, 3) := dk_153 0 45 (dk_at dksX10_number_1 19 rfl rfl)
theorem dX10_number_44 : decode cX10_number 44 = .ok (.iload_n 2, 1) := dk_28 (dk_at dksX10_number_1 22 rfl rfl)
theorem dX10_number_45 : decode cX10_number 45 = .ok (.iconst 3, 1) := dk_6 (dk_at dksX10_number_1 23 rfl rfl)
theorem dX10_number_46 : decode cX10_number 46 = .ok (.if_icmp .ge 40, 3) := dk_162 0 40 (dk_at dksX10_number_2 0 rfl rfl)
theorem dX10_number_49 : decode cX10_number 49 = .ok (.iload_n 2, 1) := dk_28 (dk_at dksX10_number_2 3 rfl rfl)
theorem dX10_number_50 : decode cX10_number 50 = .ok (.ifCond .eq 7, 3) := dk_153 0 7 (dk_at dksX10_number_2 4 rfl rfl)
theorem dX10_number_53 : decode cX10_number 53 = .ok (.iload_n 1, 1) := dk_27 (dk_at dksX10_number_2 7 rfl rfl)
theorem dX10_number_54 : decode cX10_number 54 = .ok (.ifCond .le 32, 3) := dk_158 0 32 (dk_at dksX10_number_2 8 rfl rfl)
theorem dX10_number_57 : decode cX10_number 57 = .ok (.bipush 10, 2) := dk_16 10 (dk_at dksX10_number_2 11 rfl rfl)
theorem dX10_number_59 : decode cX10_number 59 = .ok (.iload_n 1, 1) := dk_27 (dk_at dksX10_number_2 13 rfl rfl)
theorem dX10_number_60 : decode cX10_number 60 = .ok (.imul, 1) := dk_104 (dk_at dksX10_number_2 14 rfl rfl)
theorem dX10_number_61 : decode cX10_number 61 = .ok (.aload_n 0, 1) := dk_42 (dk_at dksX10_number_2 15 rfl rfl)
theorem dX10_number_62 : decode cX10_number 62 = .ok (.invokevirtual 29, 3) := dk_182 0 29 (dk_at dksX10_number_2 16 rfl rfl)
theorem dX10_number_65 : decode cX10_number 65 = .ok (.iadd, 1) := dk_96 (dk_at dksX10_number_2 19 rfl rfl)
theorem dX10_number_66 : decode cX10_number 66 = .ok (.bipush 48, 2) := dk_16 48 (dk_at dksX10_number_2 20 rfl rfl)
theorem dX10_number_68 : decode cX10_number 68 = .ok (.isub, 1) := dk_100 (dk_at dksX10_number_2 22 rfl rfl)
theorem dX10_number_69 : decode cX10_number 69 = .ok (.istore_n 1, 1) := dk_60 (dk_at dksX10_number_2 23 rfl rfl)
theorem dX10_number_70 : decode cX10_number 70 = .ok (.aload_n 0, 1) := dk_42 (dk_at dksX10_number_3 0 rfl rfl)
theorem dX10_number_71 : decode cX10_number 71 = .ok (.dup, 1) := dk_89 (dk_at dksX10_number_3 1 rfl rfl)
theorem dX10_number_72 : decode cX10_number 72 = .ok (.getfield 15, 3) := dk_180 0 15 (dk_at dksX10_number_3 2 rfl rfl)
theorem dX10_number_75 : decode cX10_number 75 = .ok (.iconst 1, 1) := dk_4 (dk_at dksX10_number_3 5 rfl rfl)
theorem dX10_number_76 : decode cX10_number 76 = .ok (.iadd, 1) := dk_96 (dk_at dksX10_number_3 6 rfl rfl)
theorem dX10_number_77 : decode cX10_number 77 = .ok (.putfield 15, 3) := dk_181 0 15 (dk_at dksX10_number_3 7 rfl rfl)
theorem dX10_number_80 : decode cX10_number 80 = .ok (.iinc 2 1, 3) := dk_132 2 1 (dk_at dksX10_number_3 10 rfl rfl)
theorem dX10_number_83 : decode cX10_number 83 = .ok (.goto (-53), 3) := dk_167 255 203 (dk_at dksX10_number_3 13 rfl rfl)
theorem dX10_number_86 : decode cX10_number 86 = .ok (.iload_n 1, 1) := dk_27 (dk_at dksX10_number_3 16 rfl rfl)
theorem dX10_number_87 : decode cX10_number 87 = .ok (.ireturn, 1) := dk_172 (dk_at dksX10_number_3 17 rfl rfl)
theorem q99 : (Jvm.Cond.initialized "DairyBook$Reader") ∈ lw_all := lw_g (lw_at lw_m1 38 rfl) rfl
theorem q511 : (Jvm.Cond.selects "DairyBook$Reader" ({ cls := "java/lang/Object", name := "getClass", desc := "()Ljava/lang/Class;" } : Jvm.MethodName) ({ cls := "java/lang/Object", name := "getClass", desc := "()Ljava/lang/Class;" } : Jvm.MethodName)) ∈ lw_all := lw_g (lw_at lw_m2 210 rfl) rfl
theorem q1532 : (Jvm.Cond.instantiable "DairyBook$Reader" (2 : Nat)) ∈ lw_all := lw_g (lw_at lw_m7 31 rfl) rfl
theorem q1535 : (Jvm.Cond.instanceMethod ({ cls := "DairyBook$Reader", name := "<init>", desc := "(Ljava/lang/String;)V" } : Jvm.MethodName)) ∈ lw_all := lw_g (lw_at lw_m7 34 rfl) rfl
theorem q1536 : (Jvm.Cond.code ({ cls := "DairyBook$Reader", name := "<init>", desc := "(Ljava/lang/String;)V" } : Jvm.MethodName) prog_9_method_1_code (2 : Nat) (Option.none : Option Jvm.ClassFile.FieldType)) ∈ lw_all := lw_g (lw_at lw_m7 35 rfl) rfl
theorem q1537 : (Jvm.Cond.methodLink "DairyBook$Reader" (3 : Nat) ({ cls := "java/lang/Object", name := "<init>", desc := "()V" } : Jvm.MethodName)) ∈ lw_all := lw_g (lw_at lw_m7 36 rfl) rfl
theorem q1538 : (Jvm.Cond.fieldLink "DairyBook$Reader" (9 : Nat) "DairyBook$Reader" "text" "Ljava/lang/String;") ∈ lw_all := lw_g (lw_at lw_m7 37 rfl) rfl
theorem q1539 : (Jvm.Cond.fieldLink "DairyBook$Reader" (15 : Nat) "DairyBook$Reader" "at" "I") ∈ lw_all := lw_g (lw_at lw_m7 38 rfl) rfl
theorem q1540 : (Jvm.Cond.laysFinal "DairyBook$Reader" "DairyBook$Reader" "text" "Ljava/lang/String;") ∈ lw_all := lw_g (lw_at lw_m7 39 rfl) rfl
theorem q1541 : (Jvm.Cond.soleField "DairyBook$Reader" "text") ∈ lw_all := lw_g (lw_at lw_m7 40 rfl) rfl
theorem q1542 : (Jvm.Cond.lays "DairyBook$Reader" "DairyBook$Reader" "at" "I") ∈ lw_all := lw_g (lw_at lw_m7 41 rfl) rfl
theorem q1543 : (Jvm.Cond.soleField "DairyBook$Reader" "at") ∈ lw_all := lw_g (lw_at lw_m7 42 rfl) rfl
theorem q1544 : (Jvm.Cond.superclass "DairyBook$Reader" "java/lang/Object") ∈ lw_all := lw_g (lw_at lw_m7 43 rfl) rfl
theorem q1548 : (Jvm.Cond.instanceMethod ({ cls := "DairyBook$Reader", name := "read", desc := "()Ljava/util/ArrayList;" } : Jvm.MethodName)) ∈ lw_all := lw_g (lw_at lw_m7 47 rfl) rfl
theorem q1549 : (Jvm.Cond.selects "DairyBook$Reader" ({ cls := "DairyBook$Reader", name := "read", desc := "()Ljava/util/ArrayList;" } : Jvm.MethodName) ({ cls := "DairyBook$Reader", name := "read", desc := "()Ljava/util/ArrayList;" } : Jvm.MethodName)) ∈ lw_all := lw_g (lw_at lw_m7 48 rfl) rfl
theorem q1550 : (Jvm.Cond.code ({ cls := "DairyBook$Reader", name := "read", desc := "()Ljava/util/ArrayList;" } : Jvm.MethodName) prog_9_method_9_code (2 : Nat) (Option.some (Jvm.ClassFile.FieldType.object "java/util/ArrayList"))) ∈ lw_all := lw_g (lw_at lw_m7 49 rfl) rfl
theorem q1551 : (Jvm.Cond.classLink "DairyBook$Reader" (93 : Nat) "java/util/ArrayList") ∈ lw_all := lw_g (lw_at lw_m7 50 rfl) rfl
theorem q1552 : (Jvm.Cond.methodLink "DairyBook$Reader" (95 : Nat) ({ cls := "java/util/ArrayList", name := "<init>", desc := "()V" } : Jvm.MethodName)) ∈ lw_all := lw_g (lw_at lw_m7 51 rfl) rfl
theorem q1553 : (Jvm.Cond.methodLink "DairyBook$Reader" (96 : Nat) ({ cls := "DairyBook$Reader", name := "command", desc := "()LDairyBook$Command;" } : Jvm.MethodName)) ∈ lw_all := lw_g (lw_at lw_m7 52 rfl) rfl
theorem q1554 : (Jvm.Cond.privateMethod ({ cls := "DairyBook$Reader", name := "command", desc := "()LDairyBook$Command;" } : Jvm.MethodName)) ∈ lw_tbl := lw_at lw_m7 53 rfl
theorem q1555 : (Jvm.Cond.instanceMethod ({ cls := "DairyBook$Reader", name := "command", desc := "()LDairyBook$Command;" } : Jvm.MethodName)) ∈ lw_all := lw_g (lw_at lw_m7 54 rfl) rfl
theorem q1556 : (Jvm.Cond.code ({ cls := "DairyBook$Reader", name := "command", desc := "()LDairyBook$Command;" } : Jvm.MethodName) prog_9_method_8_code (3 : Nat) (Option.some (Jvm.ClassFile.FieldType.object "DairyBook$Command"))) ∈ lw_all := lw_g (lw_at lw_m7 55 rfl) rfl
theorem q1557 : (Jvm.Cond.methodLink "DairyBook$Reader" (79 : Nat) ({ cls := "DairyBook$Reader", name := "word", desc := "()Ljava/lang/String;" } : Jvm.MethodName)) ∈ lw_all := lw_g (lw_at lw_m7 56 rfl) rfl
theorem q1558 : (Jvm.Cond.privateMethod ({ cls := "DairyBook$Reader", name := "word", desc := "()Ljava/lang/String;" } : Jvm.MethodName)) ∈ lw_tbl := lw_at lw_m7 57 rfl
theorem q1559 : (Jvm.Cond.instanceMethod ({ cls := "DairyBook$Reader", name := "word", desc := "()Ljava/lang/String;" } : Jvm.MethodName)) ∈ lw_all := lw_g (lw_at lw_m7 58 rfl) rfl
theorem q1560 : (Jvm.Cond.code ({ cls := "DairyBook$Reader", name := "word", desc := "()Ljava/lang/String;" } : Jvm.MethodName) prog_9_method_7_code (4 : Nat) (Option.some (Jvm.ClassFile.FieldType.object "java/lang/String"))) ∈ lw_all := lw_g (lw_at lw_m7 59 rfl) rfl
theorem q1561 : (Jvm.Cond.classLink "DairyBook$Reader" (64 : Nat) "java/lang/StringBuilder") ∈ lw_all := lw_g (lw_at lw_m7 60 rfl) rfl
theorem q1562 : (Jvm.Cond.methodLink "DairyBook$Reader" (66 : Nat) ({ cls := "java/lang/StringBuilder", name := "<init>", desc := "()V" } : Jvm.MethodName)) ∈ lw_all := lw_g (lw_at lw_m7 61 rfl) rfl
theorem q1563 : (Jvm.Cond.methodLink "DairyBook$Reader" (29 : Nat) ({ cls := "DairyBook$Reader", name := "here", desc := "()I" } : Jvm.MethodName)) ∈ lw_all := lw_g (lw_at lw_m7 62 rfl) rfl
theorem q1564 : (Jvm.Cond.privateMethod ({ cls := "DairyBook$Reader", name := "here", desc := "()I" } : Jvm.MethodName)) ∈ lw_tbl := lw_at lw_m7 63 rfl
theorem q1565 : (Jvm.Cond.instanceMethod ({ cls := "DairyBook$Reader", name := "here", desc := "()I" } : Jvm.MethodName)) ∈ lw_all := lw_g (lw_at lw_m7 64 rfl) rfl
theorem q1566 : (Jvm.Cond.code ({ cls := "DairyBook$Reader", name := "here", desc := "()I" } : Jvm.MethodName) prog_9_method_2_code (1 : Nat) (Option.some Jvm.ClassFile.FieldType.int)) ∈ lw_all := lw_g (lw_at lw_m7 65 rfl) rfl
theorem q1567 : (Jvm.Cond.methodLink "DairyBook$Reader" (19 : Nat) ({ cls := "java/lang/String", name := "length", desc := "()I" } : Jvm.MethodName)) ∈ lw_all := lw_g (lw_at lw_m7 66 rfl) rfl
theorem q1568 : (Jvm.Cond.methodLink "DairyBook$Reader" (25 : Nat) ({ cls := "java/lang/String", name := "charAt", desc := "(I)C" } : Jvm.MethodName)) ∈ lw_all := lw_g (lw_at lw_m7 67 rfl) rfl
theorem q1569 : (Jvm.Cond.methodLinkNest "DairyBook$Reader" (41 : Nat) ({ cls := "DairyBook", name := "in", desc := "(III)Z" } : Jvm.MethodName) "DairyBook") ∈ lw_tbl := lw_at lw_m7 68 rfl
theorem q1570 : (Jvm.Cond.methodLink "DairyBook$Reader" (67 : Nat) ({ cls := "java/lang/StringBuilder", name := "append", desc := "(C)Ljava/lang/StringBuilder;" } : Jvm.MethodName)) ∈ lw_all := lw_g (lw_at lw_m7 69 rfl) rfl
theorem q1571 : (Jvm.Cond.methodLink "DairyBook$Reader" (71 : Nat) ({ cls := "java/lang/StringBuilder", name := "toString", desc := "()Ljava/lang/String;" } : Jvm.MethodName)) ∈ lw_all := lw_g (lw_at lw_m7 70 rfl) rfl
theorem q1572 : (Jvm.Cond.methodLink "DairyBook$Reader" (75 : Nat) ({ cls := "DairyBook$Reader", name := "numbersOf", desc := "(Ljava/lang/String;)I" } : Jvm.MethodName)) ∈ lw_all := lw_g (lw_at lw_m7 71 rfl) rfl
theorem q1573 : (Jvm.Cond.static ({ cls := "DairyBook$Reader", name := "numbersOf", desc := "(Ljava/lang/String;)I" } : Jvm.MethodName)) ∈ lw_all := lw_g (lw_at lw_m7 72 rfl) rfl
theorem q1574 : (Jvm.Cond.code ({ cls := "DairyBook$Reader", name := "numbersOf", desc := "(Ljava/lang/String;)I" } : Jvm.MethodName) prog_9_method_6_code (3 : Nat) (Option.some Jvm.ClassFile.FieldType.int)) ∈ lw_all := lw_g (lw_at lw_m7 73 rfl) rfl
theorem q1575 : (Jvm.Cond.methodLink "DairyBook$Reader" (45 : Nat) ({ cls := "java/lang/String", name := "hashCode", desc := "()I" } : Jvm.MethodName)) ∈ lw_all := lw_g (lw_at lw_m7 74 rfl) rfl
theorem q1632 : (Jvm.Cond.stringRef "DairyBook$Reader" (48 : Nat) "hold") ∈ lw_tbl := lw_at lw_m7 131 rfl
theorem q1633 : (Jvm.Cond.methodLink "DairyBook$Reader" (50 : Nat) ({ cls := "java/lang/String", name := "equals", desc := "(Ljava/lang/Object;)Z" } : Jvm.MethodName)) ∈ lw_all := lw_g (lw_at lw_m7 132 rfl) rfl
theorem q1641 : (Jvm.Cond.stringRef "DairyBook$Reader" (54 : Nat) "cells") ∈ lw_tbl := lw_at lw_m7 140 rfl
theorem q1642 : (Jvm.Cond.stringRef "DairyBook$Reader" (56 : Nat) "bonus") ∈ lw_tbl := lw_at lw_m7 141 rfl
theorem q1643 : (Jvm.Cond.stringRef "DairyBook$Reader" (58 : Nat) "serve") ∈ lw_tbl := lw_at lw_m7 142 rfl
theorem q1644 : (Jvm.Cond.stringRef "DairyBook$Reader" (60 : Nat) "dry") ∈ lw_tbl := lw_at lw_m7 143 rfl
theorem q1645 : (Jvm.Cond.stringRef "DairyBook$Reader" (62 : Nat) "sell") ∈ lw_tbl := lw_at lw_m7 144 rfl
theorem q1646 : (Jvm.Cond.classLink "DairyBook$Reader" (36 : Nat) "DairyBook$Fault") ∈ lw_all := lw_g (lw_at lw_m7 145 rfl) rfl
theorem q1655 : (Jvm.Cond.methodLink "DairyBook$Reader" (38 : Nat) ({ cls := "DairyBook$Fault", name := "<init>", desc := "(I)V" } : Jvm.MethodName)) ∈ lw_all := lw_g (lw_at lw_m7 154 rfl) rfl
theorem q1665 : (Jvm.Cond.methodLink "DairyBook$Reader" (82 : Nat) ({ cls := "DairyBook$Reader", name := "must", desc := "(I)V" } : Jvm.MethodName)) ∈ lw_all := lw_g (lw_at lw_m7 164 rfl) rfl
theorem q1666 : (Jvm.Cond.privateMethod ({ cls := "DairyBook$Reader", name := "must", desc := "(I)V" } : Jvm.MethodName)) ∈ lw_tbl := lw_at lw_m7 165 rfl
theorem q1667 : (Jvm.Cond.instanceMethod ({ cls := "DairyBook$Reader", name := "must", desc := "(I)V" } : Jvm.MethodName)) ∈ lw_all := lw_g (lw_at lw_m7 166 rfl) rfl
theorem q1668 : (Jvm.Cond.code ({ cls := "DairyBook$Reader", name := "must", desc := "(I)V" } : Jvm.MethodName) prog_9_method_4_code (2 : Nat) (Option.none : Option Jvm.ClassFile.FieldType)) ∈ lw_all := lw_g (lw_at lw_m7 167 rfl) rfl
theorem q1669 : (Jvm.Cond.methodLink "DairyBook$Reader" (32 : Nat) ({ cls := "DairyBook$Reader", name := "skip", desc := "(I)Z" } : Jvm.MethodName)) ∈ lw_all := lw_g (lw_at lw_m7 168 rfl) rfl
theorem q1670 : (Jvm.Cond.privateMethod ({ cls := "DairyBook$Reader", name := "skip", desc := "(I)Z" } : Jvm.MethodName)) ∈ lw_tbl := lw_at lw_m7 169 rfl
theorem q1671 : (Jvm.Cond.instanceMethod ({ cls := "DairyBook$Reader", name := "skip", desc := "(I)Z" } : Jvm.MethodName)) ∈ lw_all := lw_g (lw_at lw_m7 170 rfl) rfl
theorem q1672 : (Jvm.Cond.code ({ cls := "DairyBook$Reader", name := "skip", desc := "(I)Z" } : Jvm.MethodName) prog_9_method_3_code (2 : Nat) (Option.some Jvm.ClassFile.FieldType.boolean)) ∈ lw_all := lw_g (lw_at lw_m7 171 rfl) rfl
theorem q1673 : (Jvm.Cond.methodLink "DairyBook$Reader" (85 : Nat) ({ cls := "DairyBook$Reader", name := "number", desc := "()I" } : Jvm.MethodName)) ∈ lw_all := lw_g (lw_at lw_m7 172 rfl) rfl
theorem q1674 : (Jvm.Cond.privateMethod ({ cls := "DairyBook$Reader", name := "number", desc := "()I" } : Jvm.MethodName)) ∈ lw_tbl := lw_at lw_m7 173 rfl
theorem q1675 : (Jvm.Cond.instanceMethod ({ cls := "DairyBook$Reader", name := "number", desc := "()I" } : Jvm.MethodName)) ∈ lw_all := lw_g (lw_at lw_m7 174 rfl) rfl
theorem q1676 : (Jvm.Cond.code ({ cls := "DairyBook$Reader", name := "number", desc := "()I" } : Jvm.MethodName) prog_9_method_5_code (3 : Nat) (Option.some Jvm.ClassFile.FieldType.int)) ∈ lw_all := lw_g (lw_at lw_m7 175 rfl) rfl
theorem q1677 : (Jvm.Cond.classLink "DairyBook$Reader" (88 : Nat) "DairyBook$Command") ∈ lw_all := lw_g (lw_at lw_m7 176 rfl) rfl
theorem q1679 : (Jvm.Cond.methodLink "DairyBook$Reader" (90 : Nat) ({ cls := "DairyBook$Command", name := "<init>", desc := "(Ljava/lang/String;II)V" } : Jvm.MethodName)) ∈ lw_all := lw_g (lw_at lw_m7 178 rfl) rfl
theorem q1693 : (Jvm.Cond.methodLink "DairyBook$Reader" (100 : Nat) ({ cls := "java/util/ArrayList", name := "add", desc := "(Ljava/lang/Object;)Z" } : Jvm.MethodName)) ∈ lw_all := lw_g (lw_at lw_m7 192 rfl) rfl
theorem q2244 : (Jvm.Cond.castable "DairyBook$Reader" "java/lang/Object") ∈ lw_tbl := lw_at lw_m10 23 rfl
theorem in_X10 : ∀ w ∈ wsX100, w ∈ lw_all := lw_in wsX100 [1540, 1542] (by decide +kernel) (by decide +kernel)
/-! DairyBook$Fault -/
set_option maxRecDepth 100000
def RX11 : String := "DairyBook$Fault"
def TX11 : u_T := fun k => match k with
  | 0 => ("java/lang/Throwable", "cause", "Ljava/lang/Throwable;", false)
  | 1 => ("java/lang/Throwable", "stackTrace", "[Ljava/lang/StackTraceElement;", false)
  | 2 => ("java/lang/Throwable", "suppressedExceptions", "Ljava/util/List;", false)
  | 3 => ("java/lang/Throwable", "detailMessage", "Ljava/lang/String;", false)
  | 4 => ("java/lang/Throwable", "backtrace", "Ljava/lang/Object;", false)
  | 5 => ("java/lang/Throwable", "depth", "I", false)
  | _ => ("DairyBook$Fault", "position", "I", true)
def tyX11 : Nat → FieldType := fun k => match k with
  | 0 => .object "java/lang/Throwable"
  | 1 => .array (.object "java/lang/StackTraceElement")
  | 2 => .object "java/util/List"
  | 3 => .object "java/lang/String"
  | 4 => .object "java/lang/Object"
  | 5 => .int
  | _ => .int
abbrev wsX110 : List Cond := u_ws RX11 TX11 7
theorem nmX11 : ∀ a, a < 7 → ∀ b, b < 7 → a ≠ b → (TX11 a).2.1 ≠ (TX11 b).2.1 := by decide +kernel
theorem tyX11_ok : ∀ k, k < 7 → parseFieldDescriptor (TX11 k).2.2.1 = some (tyX11 k) := by decide +kernel
abbrev cX11_init : ByteArray := prog_5_method_1_code
def yX11_init : MethodName := ⟨RX11, "<init>", "(I)V"⟩
def dkwX11_init_0 : List UInt8 := [42, 183, 0, 1, 42, 27, 181, 0, 7, 177]
abbrev dktX11_init_0 : List UInt8 := dkwX11_init_0 ++ []
theorem dksX11_init_0 : cX11_init.data.toList.drop 0 = dktX11_init_0 := by decide +kernel
theorem dX11_init_0 : decode cX11_init 0 = .ok (.aload_n 0, 1) := dk_42 (dk_at dksX11_init_0 0 rfl rfl)
theorem dX11_init_1 : decode cX11_init 1 = .ok (.invokespecial 1, 3) := dk_183 0 1 (dk_at dksX11_init_0 1 rfl rfl)
theorem dX11_init_4 : decode cX11_init 4 = .ok (.aload_n 0, 1) := dk_42 (dk_at dksX11_init_0 4 rfl rfl)
theorem dX11_init_5 : decode cX11_init 5 = .ok (.iload_n 1, 1) := dk_27 (dk_at dksX11_init_0 5 rfl rfl)
theorem dX11_init_6 : decode cX11_init 6 = .ok (.putfield 7, 3) := dk_181 0 7 (dk_at dksX11_init_0 6 rfl rfl)
theorem dX11_init_9 : decode cX11_init 9 = .ok (.return_, 1) := dk_177 (dk_at dksX11_init_0 9 rfl rfl)
theorem q100 : (Jvm.Cond.initialized "DairyBook$Fault") ∈ lw_all := lw_g (lw_at lw_m1 39 rfl) rfl
theorem q375 : (Jvm.Cond.selects "DairyBook$Fault" ({ cls := "java/lang/Throwable", name := "fillInStackTrace", desc := "()Ljava/lang/Throwable;" } : Jvm.MethodName) ({ cls := "java/lang/Throwable", name := "fillInStackTrace", desc := "()Ljava/lang/Throwable;" } : Jvm.MethodName)) ∈ lw_all := lw_g (lw_at lw_m2 74 rfl) rfl
theorem q508 : (Jvm.Cond.selects "DairyBook$Fault" ({ cls := "java/lang/Object", name := "getClass", desc := "()Ljava/lang/Class;" } : Jvm.MethodName) ({ cls := "java/lang/Object", name := "getClass", desc := "()Ljava/lang/Class;" } : Jvm.MethodName)) ∈ lw_all := lw_g (lw_at lw_m2 207 rfl) rfl
theorem q1647 : (Jvm.Cond.instantiable "DairyBook$Fault" (7 : Nat)) ∈ lw_all := lw_g (lw_at lw_m7 146 rfl) rfl
theorem q1648 : (Jvm.Cond.castable "DairyBook$Fault" "DairyBook$Fault") ∈ lw_tbl := lw_at lw_m7 147 rfl
theorem q1649 : (Jvm.Cond.selects "DairyBook$Fault" ({ cls := "java/lang/Throwable", name := "fillInStackTrace", desc := "(I)Ljava/lang/Throwable;" } : Jvm.MethodName) ({ cls := "java/lang/Throwable", name := "fillInStackTrace", desc := "(I)Ljava/lang/Throwable;" } : Jvm.MethodName)) ∈ lw_all := lw_g (lw_at lw_m7 148 rfl) rfl
theorem q1650 : (Jvm.Cond.lays "DairyBook$Fault" "java/lang/Throwable" "cause" "Ljava/lang/Throwable;") ∈ lw_all := lw_g (lw_at lw_m7 149 rfl) rfl
theorem q1651 : (Jvm.Cond.lays "DairyBook$Fault" "java/lang/Throwable" "stackTrace" "[Ljava/lang/StackTraceElement;") ∈ lw_all := lw_g (lw_at lw_m7 150 rfl) rfl
theorem q1652 : (Jvm.Cond.lays "DairyBook$Fault" "java/lang/Throwable" "suppressedExceptions" "Ljava/util/List;") ∈ lw_all := lw_g (lw_at lw_m7 151 rfl) rfl
theorem q1653 : (Jvm.Cond.lays "DairyBook$Fault" "java/lang/Throwable" "detailMessage" "Ljava/lang/String;") ∈ lw_all := lw_g (lw_at lw_m7 152 rfl) rfl
theorem q1654 : (Jvm.Cond.lays "DairyBook$Fault" "java/lang/Throwable" "backtrace" "Ljava/lang/Object;") ∈ lw_all := lw_g (lw_at lw_m7 153 rfl) rfl
theorem q1656 : (Jvm.Cond.instanceMethod ({ cls := "DairyBook$Fault", name := "<init>", desc := "(I)V" } : Jvm.MethodName)) ∈ lw_all := lw_g (lw_at lw_m7 155 rfl) rfl
theorem q1657 : (Jvm.Cond.code ({ cls := "DairyBook$Fault", name := "<init>", desc := "(I)V" } : Jvm.MethodName) prog_5_method_1_code (2 : Nat) (Option.none : Option Jvm.ClassFile.FieldType)) ∈ lw_all := lw_g (lw_at lw_m7 156 rfl) rfl
theorem q1658 : (Jvm.Cond.methodLink "DairyBook$Fault" (1 : Nat) ({ cls := "java/lang/RuntimeException", name := "<init>", desc := "()V" } : Jvm.MethodName)) ∈ lw_all := lw_g (lw_at lw_m7 157 rfl) rfl
theorem q1659 : (Jvm.Cond.fieldLink "DairyBook$Fault" (7 : Nat) "DairyBook$Fault" "position" "I") ∈ lw_all := lw_g (lw_at lw_m7 158 rfl) rfl
theorem q1661 : (Jvm.Cond.laysFinal "DairyBook$Fault" "DairyBook$Fault" "position" "I") ∈ lw_all := lw_g (lw_at lw_m7 160 rfl) rfl
theorem q1662 : (Jvm.Cond.soleField "DairyBook$Fault" "position") ∈ lw_all := lw_g (lw_at lw_m7 161 rfl) rfl
theorem q1663 : (Jvm.Cond.lays "DairyBook$Fault" "java/lang/Throwable" "depth" "I") ∈ lw_all := lw_g (lw_at lw_m7 162 rfl) rfl
theorem q1664 : (Jvm.Cond.superclass "DairyBook$Fault" "java/lang/RuntimeException") ∈ lw_all := lw_g (lw_at lw_m7 163 rfl) rfl
theorem q2246 : (Jvm.Cond.castable "DairyBook$Fault" "java/lang/Object") ∈ lw_tbl := lw_at lw_m10 25 rfl
theorem in_X11 : ∀ w ∈ wsX110, w ∈ lw_all := lw_in wsX110 [1650, 1651, 1652, 1653, 1654, 1663, 1661] (by decide +kernel) (by decide +kernel)
/-! DairyBook$Command -/
set_option maxRecDepth 100000
def RX12 : String := "DairyBook$Command"
def TX12 : u_T := fun k => match k with
  | 0 => ("DairyBook$Command", "word", "Ljava/lang/String;", true)
  | 1 => ("DairyBook$Command", "first", "I", true)
  | _ => ("DairyBook$Command", "second", "I", true)
def tyX12 : Nat → FieldType := fun k => match k with
  | 0 => .object "java/lang/String"
  | 1 => .int
  | _ => .int
abbrev wsX120 : List Cond := u_ws RX12 TX12 3
theorem nmX12 : ∀ a, a < 3 → ∀ b, b < 3 → a ≠ b → (TX12 a).2.1 ≠ (TX12 b).2.1 := by decide +kernel
theorem tyX12_ok : ∀ k, k < 3 → parseFieldDescriptor (TX12 k).2.2.1 = some (tyX12 k) := by decide +kernel
abbrev cX12_init : ByteArray := prog_3_method_1_code
def yX12_init : MethodName := ⟨RX12, "<init>", "(Ljava/lang/String;II)V"⟩
def dkwX12_init_0 : List UInt8 := [42, 183, 0, 1, 42, 43, 181, 0, 7, 42, 28, 181, 0, 13, 42, 29, 181, 0, 17, 177]
abbrev dktX12_init_0 : List UInt8 := dkwX12_init_0 ++ []
theorem dksX12_init_0 : cX12_init.data.toList.drop 0 = dktX12_init_0 := by decide +kernel
theorem dX12_init_0 : decode cX12_init 0 = .ok (.aload_n 0, 1) := dk_42 (dk_at dksX12_init_0 0 rfl rfl)
theorem dX12_init_1 : decode cX12_init 1 = .ok (.invokespecial 1, 3) := dk_183 0 1 (dk_at dksX12_init_0 1 rfl rfl)
theorem dX12_init_4 : decode cX12_init 4 = .ok (.aload_n 0, 1) := dk_42 (dk_at dksX12_init_0 4 rfl rfl)
theorem dX12_init_5 : decode cX12_init 5 = .ok (.aload_n 1, 1) := dk_43 (dk_at dksX12_init_0 5 rfl rfl)
theorem dX12_init_6 : decode cX12_init 6 = .ok (.putfield 7, 3) := dk_181 0 7 (dk_at dksX12_init_0 6 rfl rfl)
theorem dX12_init_9 : decode cX12_init 9 = .ok (.aload_n 0, 1) := dk_42 (dk_at dksX12_init_0 9 rfl rfl)
theorem dX12_init_10 : decode cX12_init 10 = .ok (.iload_n 2, 1) := dk_28 (dk_at dksX12_init_0 10 rfl rfl)
theorem dX12_init_11 : decode cX12_init 11 = .ok (.putfield 13, 3) := dk_181 0 13 (dk_at dksX12_init_0 11 rfl rfl)
theorem dX12_init_14 : decode cX12_init 14 = .ok (.aload_n 0, 1) := dk_42 (dk_at dksX12_init_0 14 rfl rfl)
theorem dX12_init_15 : decode cX12_init 15 = .ok (.iload_n 3, 1) := dk_29 (dk_at dksX12_init_0 15 rfl rfl)
theorem dX12_init_16 : decode cX12_init 16 = .ok (.putfield 17, 3) := dk_181 0 17 (dk_at dksX12_init_0 16 rfl rfl)
theorem dX12_init_19 : decode cX12_init 19 = .ok (.return_, 1) := dk_177 (dk_at dksX12_init_0 19 rfl rfl)
abbrev cX12_refuses : ByteArray := prog_3_method_2_code
def yX12_refuses : MethodName := ⟨RX12, "refuses", "(LDairyBook$Herd;)I"⟩
def dkwX12_refuses_8 : List UInt8 := [180, 0, 13, 182, 0, 54, 172]
abbrev dktX12_refuses_8 : List UInt8 := dkwX12_refuses_8 ++ []
def dkwX12_refuses_7 : List UInt8 := [180, 0, 13, 182, 0, 48, 172, 43, 42, 180, 0, 13, 42, 180, 0, 17, 182, 0, 51, 172, 43, 42]
abbrev dktX12_refuses_7 : List UInt8 := dkwX12_refuses_7 ++ dktX12_refuses_8
def dkwX12_refuses_6 : List UInt8 := [43, 42, 180, 0, 13, 42, 180, 0, 17, 182, 0, 38, 172, 43, 42, 180, 0, 13, 182, 0, 44, 172, 43, 42]
abbrev dktX12_refuses_6 : List UInt8 := dkwX12_refuses_6 ++ dktX12_refuses_7
def dkwX12_refuses_5 : List UInt8 := [170, 0, 0, 0, 0, 74, 0, 0, 0, 0, 0, 0, 0, 3, 0, 0, 0, 30, 0, 0, 0, 43, 0, 0, 0, 52, 0, 0, 0, 61]
abbrev dktX12_refuses_5 : List UInt8 := dkwX12_refuses_5 ++ dktX12_refuses_6
def dkwX12_refuses_4 : List UInt8 := [153, 0, 5, 6, 62, 29]
abbrev dktX12_refuses_4 : List UInt8 := dkwX12_refuses_4 ++ dktX12_refuses_5
def dkwX12_refuses_3 : List UInt8 := [62, 167, 0, 28, 44, 18, 34, 182, 0, 28, 153, 0, 19, 5, 62, 167, 0, 14, 44, 18, 36, 182, 0, 28]
abbrev dktX12_refuses_3 : List UInt8 := dkwX12_refuses_3 ++ dktX12_refuses_4
def dkwX12_refuses_2 : List UInt8 := [44, 18, 26, 182, 0, 28, 153, 0, 47, 3, 62, 167, 0, 42, 44, 18, 32, 182, 0, 28, 153, 0, 33, 4]
abbrev dktX12_refuses_2 : List UInt8 := dkwX12_refuses_2 ++ dktX12_refuses_3
def dkwX12_refuses_1 : List UInt8 := [171, 0, 0, 0, 94, 0, 0, 0, 4, 0, 1, 133, 171, 0, 0, 0, 69, 0, 48, 244, 191, 0, 0, 0, 41, 5, 153, 32, 31, 0, 0, 0, 83, 6, 132, 51, 15, 0, 0, 0, 55]
abbrev dktX12_refuses_1 : List UInt8 := dkwX12_refuses_1 ++ dktX12_refuses_2
def dkwX12_refuses_0 : List UInt8 := [42, 180, 0, 7, 77, 2, 62, 44, 182, 0, 20]
abbrev dktX12_refuses_0 : List UInt8 := dkwX12_refuses_0 ++ dktX12_refuses_1
theorem dksX12_refuses_0 : cX12_refuses.data.toList.drop 0 = dktX12_refuses_0 := by decide +kernel
theorem dksX12_refuses_1 : cX12_refuses.data.toList.drop 11 = dktX12_refuses_1 := dk_seg dksX12_refuses_0 11 rfl rfl
theorem dksX12_refuses_2 : cX12_refuses.data.toList.drop 52 = dktX12_refuses_2 := dk_seg dksX12_refuses_1 41 rfl rfl
theorem dksX12_refuses_3 : cX12_refuses.data.toList.drop 76 = dktX12_refuses_3 := dk_seg dksX12_refuses_2 24 rfl rfl
theorem dksX12_refuses_4 : cX12_refuses.data.toList.drop 100 = dktX12_refuses_4 := dk_seg dksX12_refuses_3 24 rfl rfl
theorem dksX12_refuses_5 : cX12_refuses.data.toList.drop 106 = dktX12_refuses_5 := dk_seg dksX12_refuses_4 6 rfl rfl
theorem dksX12_refuses_6 : cX12_refuses.data.toList.drop 136 = dktX12_refuses_6 := dk_seg dksX12_refuses_5 30 rfl rfl
theorem dksX12_refuses_7 : cX12_refuses.data.toList.drop 160 = dktX12_refuses_7 := dk_seg dksX12_refuses_6 24 rfl rfl
theorem dksX12_refuses_8 : cX12_refuses.data.toList.drop 182 = dktX12_refuses_8 := dk_seg dksX12_refuses_7 22 rfl rfl
theorem dX12_refuses_0 : decode cX12_refuses 0 = .ok (.aload_n 0, 1) := dk_42 (dk_at dksX12_refuses_0 0 rfl rfl)
theorem dX12_refuses_1 : decode cX12_refuses 1 = .ok (.getfield 7, 3) := dk_180 0 7 (dk_at dksX12_refuses_0 1 rfl rfl)
theorem dX12_refuses_4 : decode cX12_refuses 4 = .ok (.astore_n 2, 1) := dk_77 (dk_at dksX12_refuses_0 4 rfl rfl)
theorem dX12_refuses_5 : decode cX12_refuses 5 = .ok (.iconst (-1), 1) := dk_2 (dk_at dksX12_refuses_0 5 rfl rfl)
theorem dX12_refuses_6 : decode cX12_refuses 6 = .ok (.istore_n 3, 1) := dk_62 (dk_at dksX12_refuses_0 6 rfl rfl)
theorem dX12_refuses_7 : decode cX12_refuses 7 = .ok (.aload_n 2, 1) := dk_44 (dk_at dksX12_refuses_0 7 rfl rfl)
theorem dX12_refuses_8 : decode cX12_refuses 8 = .ok (.invokevirtual 20, 3) := dk_182 0 20 (dk_at dksX12_refuses_0 8 rfl rfl)
theorem dX12_refuses_11 : decode cX12_refuses 11 = .ok (.lookupswitch 94 #[(99755, 69), (3208383, 41), (93921311, 83), (109327119, 55)], 41) := by decide +kernel
theorem dX12_refuses_52 : decode cX12_refuses 52 = .ok (.aload_n 2, 1) := dk_44 (dk_at dksX12_refuses_2 0 rfl rfl)
theorem dX12_refuses_53 : decode cX12_refuses 53 = .ok (.ldc 26, 2) := dk_18 26 (dk_at dksX12_refuses_2 1 rfl rfl)
theorem dX12_refuses_55 : decode cX12_refuses 55 = .ok (.invokevirtual 28, 3) := dk_182 0 28 (dk_at dksX12_refuses_2 3 rfl rfl)
theorem dX12_refuses_58 : decode cX12_refuses 58 = .ok (.ifCond .eq 47, 3) := dk_153 0 47 (dk_at dksX12_refuses_2 6 rfl rfl)
theorem dX12_refuses_61 : decode cX12_refuses 61 = .ok (.iconst 0, 1) := dk_3 (dk_at dksX12_refuses_2 9 rfl rfl)
theorem dX12_refuses_62 : decode cX12_refuses 62 = .ok (.istore_n 3, 1) := dk_62 (dk_at dksX12_refuses_2 10 rfl rfl)
theorem dX12_refuses_63 : decode cX12_refuses 63 = .ok (.goto 42, 3) := dk_167 0 42 (dk_at dksX12_refuses_2 11 rfl rfl)
theorem dX12_refuses_66 : decode cX12_refuses 66 = .ok (.aload_n 2, 1) := dk_44 (dk_at dksX12_refuses_2 14 rfl rfl)
theorem dX12_refuses_67 : decode cX12_refuses 67 = .ok (.ldc 32, 2) := dk_18 32 (dk_at dksX12_refuses_2 15 rfl rfl)
theorem dX12_refuses_69 : decode cX12_refuses 69 = .ok (.invokevirtual 28, 3) := dk_182 0 28 (dk_at dksX12_refuses_2 17 rfl rfl)
theorem dX12_refuses_72 : decode cX12_refuses 72 = .ok (.ifCond .eq 33, 3) := dk_153 0 33 (dk_at dksX12_refuses_2 20 rfl rfl)
theorem dX12_refuses_75 : decode cX12_refuses 75 = .ok (.iconst 1, 1) := dk_4 (dk_at dksX12_refuses_2 23 rfl rfl)
theorem dX12_refuses_76 : decode cX12_refuses 76 = .ok (.istore_n 3, 1) := dk_62 (dk_at dksX12_refuses_3 0 rfl rfl)
theorem dX12_refuses_77 : decode cX12_refuses 77 = .ok (.goto 28, 3) := dk_167 0 28 (dk_at dksX12_refuses_3 1 rfl rfl)
theorem dX12_refuses_80 : decode cX12_refuses 80 = .ok (.aload_n 2, 1) := dk_44 (dk_at dksX12_refuses_3 4 rfl rfl)
theorem dX12_refuses_81 : decode cX12_refuses 81 = .ok (.ldc 34, 2) := dk_18 34 (dk_at dksX12_refuses_3 5 rfl rfl)
theorem dX12_refuses_83 : decode cX12_refuses 83 = .ok (.invokevirtual 28, 3) := dk_182 0 28 (dk_at dksX12_refuses_3 7 rfl rfl)
theorem dX12_refuses_86 : decode cX12_refuses 86 = .ok (.ifCond .eq 19, 3) := dk_153 0 19 (dk_at dksX12_refuses_3 10 rfl rfl)
theorem dX12_refuses_89 : decode cX12_refuses 89 = .ok (.iconst 2, 1) := dk_5 (dk_at dksX12_refuses_3 13 rfl rfl)
theorem dX12_refuses_90 : decode cX12_refuses 90 = .ok (.istore_n 3, 1) := dk_62 (dk_at dksX12_refuses_3 14 rfl rfl)
theorem dX12_refuses_91 : decode cX12_refuses 91 = .ok (.goto 14, 3) := dk_167 0 14 (dk_at dksX12_refuses_3 15 rfl rfl)
theorem dX12_refuses_94 : decode cX12_refuses 94 = .ok (.aload_n 2, 1) := dk_44 (dk_at dksX12_refuses_3 18 rfl rfl)
theorem dX12_refuses_95 : decode cX12_refuses 95 = .ok (.ldc 36, 2) := dk_18 36 (dk_at dksX12_refuses_3 19 rfl rfl)
theorem dX12_refuses_97 : decode cX12_refuses 97 = .ok (.invokevirtual 28, 3) := dk_182 0 28 (dk_at dksX12_refuses_3 21 rfl rfl)
theorem dX12_refuses_100 : decode cX12_refuses 100 = .ok (.ifCond .eq 5, 3) := dk_153 0 5 (dk_at dksX12_refuses_4 0 rfl rfl)
theorem dX12_refuses_103 : decode cX12_refuses 103 = .ok (.iconst 3, 1) := dk_6 (dk_at dksX12_refuses_4 3 rfl rfl)
theorem dX12_refuses_104 : decode cX12_refuses 104 = .ok (.istore_n 3, 1) := dk_62 (dk_at dksX12_refuses_4 4 rfl rfl)
theorem dX12_refuses_105 : decode cX12_refuses 105 = .ok (.iload_n 3, 1) := dk_29 (dk_at dksX12_refuses_4 5 rfl rfl)
theorem dX12_refuses_106 : decode cX12_refuses 106 = .ok (.tableswitch 74 0 3 #[30, 43, 52, 61], 30) := by decide +kernel
theorem dX12_refuses_136 : decode cX12_refuses 136 = .ok (.aload_n 1, 1) := dk_43 (dk_at dksX12_refuses_6 0 rfl rfl)
theorem dX12_refuses_137 : decode cX12_refuses 137 = .ok (.aload_n 0, 1) := dk_42 (dk_at dksX12_refuses_6 1 rfl rfl)
theorem dX12_refuses_138 : decode cX12_refuses 138 = .ok (.getfield 13, 3) := dk_180 0 13 (dk_at dksX12_refuses_6 2 rfl rfl)
theorem dX12_refuses_141 : decode cX12_refuses 141 = .ok (.aload_n 0, 1) := dk_42 (dk_at dksX12_refuses_6 5 rfl rfl)
theorem dX12_refuses_142 : decode cX12_refuses 142 = .ok (.getfield 17, 3) := dk_180 0 17 (dk_at dksX12_refuses_6 6 rfl rfl)
theorem dX12_refuses_145 : decode cX12_refuses 145 = .ok (.invokevirtual 38, 3) := dk_182 0 38 (dk_at dksX12_refuses_6 9 rfl rfl)
theorem dX12_refuses_148 : decode cX12_refuses 148 = .ok (.ireturn, 1) := dk_172 (dk_at dksX12_refuses_6 12 rfl rfl)
theorem dX12_refuses_149 : decode cX12_refuses 149 = .ok (.aload_n 1, 1) := dk_43 (dk_at dksX12_refuses_6 13 rfl rfl)
theorem dX12_refuses_150 : decode cX12_refuses 150 = .ok (.aload_n 0, 1) := dk_42 (dk_at dksX12_refuses_6 14 rfl rfl)
theorem dX12_refuses_151 : decode cX12_refuses 151 = .ok (.getfield 13, 3) := dk_180 0 13 (dk_at dksX12_refuses_6 15 rfl rfl)
theorem dX12_refuses_154 : decode cX12_refuses 154 = .ok (.invokevirtual 44, 3) := dk_182 0 44 (dk_at dksX12_refuses_6 18 rfl rfl)
theorem dX12_refuses_157 : decode cX12_refuses 157 = .ok (.ireturn, 1) := dk_172 (dk_at dksX12_refuses_6 21 rfl rfl)
theorem dX12_refuses_158 : decode cX12_refuses 158 = .ok (.aload_n 1, 1) := dk_43 (dk_at dksX12_refuses_6 22 rfl rfl)
theorem dX12_refuses_159 : decode cX12_refuses 159 = .ok (.aload_n 0, 1) := dk_42 (dk_at dksX12_refuses_6 23 rfl rfl)
theorem dX12_refuses_160 : decode cX12_refuses 160 = .ok (.getfield 13, 3) := dk_180 0 13 (dk_at dksX12_refuses_7 0 rfl rfl)
theorem dX12_refuses_163 : decode cX12_refuses 163 = .ok (.invokevirtual 48, 3) := dk_182 0 48 (dk_at dksX12_refuses_7 3 rfl rfl)
theorem dX12_refuses_166 : decode cX12_refuses 166 = .ok (.ireturn, 1) := dk_172 (dk_at dksX12_refuses_7 6 rfl rfl)
theorem dX12_refuses_167 : decode cX12_refuses 167 = .ok (.aload_n 1, 1) := dk_43 (dk_at dksX12_refuses_7 7 rfl rfl)
theorem dX12_refuses_168 : decode cX12_refuses 168 = .ok (.aload_n 0, 1) := dk_42 (dk_at dksX12_refuses_7 8 rfl rfl)
theorem dX12_refuses_169 : decode cX12_refuses 169 = .ok (.getfield 13, 3) := dk_180 0 13 (dk_at dksX12_refuses_7 9 rfl rfl)
theorem dX12_refuses_172 : decode cX12_refuses 172 = .ok (.aload_n 0, 1) := dk_42 (dk_at dksX12_refuses_7 12 rfl rfl)
theorem dX12_refuses_173 : decode cX12_refuses 173 = .ok (.getfield 17, 3) := dk_180 0 17 (dk_at dksX12_refuses_7 13 rfl rfl)
theorem dX12_refuses_176 : decode cX12_refuses 176 = .ok (.invokevirtual 51, 3) := dk_182 0 51 (dk_at dksX12_refuses_7 16 rfl rfl)
theorem dX12_refuses_179 : decode cX12_refuses 179 = .ok (.ireturn, 1) := dk_172 (dk_at dksX12_refuses_7 19 rfl rfl)
theorem dX12_refuses_180 : decode cX12_refuses 180 = .ok (.aload_n 1, 1) := dk_43 (dk_at dksX12_refuses_7 20 rfl rfl)
theorem dX12_refuses_181 : decode cX12_refuses 181 = .ok (.aload_n 0, 1) := dk_42 (dk_at dksX12_refuses_7 21 rfl rfl)
theorem dX12_refuses_182 : decode cX12_refuses 182 = .ok (.getfield 13, 3) := dk_180 0 13 (dk_at dksX12_refuses_8 0 rfl rfl)
theorem dX12_refuses_185 : decode cX12_refuses 185 = .ok (.invokevirtual 54, 3) := dk_182 0 54 (dk_at dksX12_refuses_8 3 rfl rfl)
theorem dX12_refuses_188 : decode cX12_refuses 188 = .ok (.ireturn, 1) := dk_172 (dk_at dksX12_refuses_8 6 rfl rfl)
abbrev cX12_carryOut : ByteArray := prog_3_method_3_code
def yX12_carryOut : MethodName := ⟨RX12, "carryOut", "(LDairyBook$Herd;)V"⟩
def dkwX12_carryOut_10 : List UInt8 := [182, 0, 85, 177]
abbrev dktX12_carryOut_10 : List UInt8 := dkwX12_carryOut_10 ++ []
def dkwX12_carryOut_9 : List UInt8 := [182, 0, 67, 192, 0, 73, 4, 181, 0, 81, 167, 0, 15, 43, 42, 180, 0, 13, 42, 180, 0, 17]
abbrev dktX12_carryOut_9 : List UInt8 := dkwX12_carryOut_9 ++ dktX12_carryOut_10
def dkwX12_carryOut_8 : List UInt8 := [87, 167, 0, 48, 43, 42, 180, 0, 13, 182, 0, 79, 87, 167, 0, 36, 43, 180, 0, 63, 42, 180, 0, 13]
abbrev dktX12_carryOut_8 : List UInt8 := dkwX12_carryOut_8 ++ dktX12_carryOut_9
def dkwX12_carryOut_7 : List UInt8 := [182, 0, 67, 192, 0, 73, 42, 180, 0, 17, 181, 0, 75, 167, 0, 60, 43, 42, 180, 0, 13, 182, 0, 77]
abbrev dktX12_carryOut_7 : List UInt8 := dkwX12_carryOut_7 ++ dktX12_carryOut_8
def dkwX12_carryOut_6 : List UInt8 := [43, 42, 180, 0, 13, 42, 180, 0, 17, 182, 0, 61, 87, 167, 0, 84, 43, 180, 0, 63, 42, 180, 0, 13]
abbrev dktX12_carryOut_6 : List UInt8 := dkwX12_carryOut_6 ++ dktX12_carryOut_7
def dkwX12_carryOut_5 : List UInt8 := [170, 0, 0, 0, 0, 0, 0, 121, 0, 0, 0, 0, 0, 0, 0, 4, 0, 0, 0, 36, 0, 0, 0, 52, 0, 0, 0, 76, 0, 0, 0, 88, 0, 0, 0, 100]
abbrev dktX12_carryOut_5 : List UInt8 := dkwX12_carryOut_5 ++ dktX12_carryOut_6
def dkwX12_carryOut_4 : List UInt8 := [153, 0, 19, 6, 62, 167, 0, 14, 44, 18, 59, 182, 0, 28, 153, 0, 5, 7, 62, 29]
abbrev dktX12_carryOut_4 : List UInt8 := dkwX12_carryOut_4 ++ dktX12_carryOut_5
def dkwX12_carryOut_3 : List UInt8 := [62, 167, 0, 42, 44, 18, 32, 182, 0, 28, 153, 0, 33, 5, 62, 167, 0, 28, 44, 18, 34, 182, 0, 28]
abbrev dktX12_carryOut_3 : List UInt8 := dkwX12_carryOut_3 ++ dktX12_carryOut_4
def dkwX12_carryOut_2 : List UInt8 := [44, 18, 26, 182, 0, 28, 153, 0, 61, 3, 62, 167, 0, 56, 44, 18, 57, 182, 0, 28, 153, 0, 47, 4]
abbrev dktX12_carryOut_2 : List UInt8 := dkwX12_carryOut_2 ++ dktX12_carryOut_3
def dkwX12_carryOut_1 : List UInt8 := [171, 0, 0, 0, 116, 0, 0, 0, 5, 0, 1, 133, 171, 0, 0, 0, 91, 0, 48, 244, 191, 0, 0, 0, 49, 0, 53, 207, 82, 0, 0, 0, 105, 5, 162, 163, 81, 0, 0, 0, 63, 6, 132, 51, 15, 0, 0, 0, 77]
abbrev dktX12_carryOut_1 : List UInt8 := dkwX12_carryOut_1 ++ dktX12_carryOut_2
def dkwX12_carryOut_0 : List UInt8 := [42, 180, 0, 7, 77, 2, 62, 44, 182, 0, 20]
abbrev dktX12_carryOut_0 : List UInt8 := dkwX12_carryOut_0 ++ dktX12_carryOut_1
theorem dksX12_carryOut_0 : cX12_carryOut.data.toList.drop 0 = dktX12_carryOut_0 := by decide +kernel
theorem dksX12_carryOut_1 : cX12_carryOut.data.toList.drop 11 = dktX12_carryOut_1 := dk_seg dksX12_carryOut_0 11 rfl rfl
theorem dksX12_carryOut_2 : cX12_carryOut.data.toList.drop 60 = dktX12_carryOut_2 := dk_seg dksX12_carryOut_1 49 rfl rfl
theorem dksX12_carryOut_3 : cX12_carryOut.data.toList.drop 84 = dktX12_carryOut_3 := dk_seg dksX12_carryOut_2 24 rfl rfl
theorem dksX12_carryOut_4 : cX12_carryOut.data.toList.drop 108 = dktX12_carryOut_4 := dk_seg dksX12_carryOut_3 24 rfl rfl
theorem dksX12_carryOut_5 : cX12_carryOut.data.toList.drop 128 = dktX12_carryOut_5 := dk_seg dksX12_carryOut_4 20 rfl rfl
theorem dksX12_carryOut_6 : cX12_carryOut.data.toList.drop 164 = dktX12_carryOut_6 := dk_seg dksX12_carryOut_5 36 rfl rfl
theorem dksX12_carryOut_7 : cX12_carryOut.data.toList.drop 188 = dktX12_carryOut_7 := dk_seg dksX12_carryOut_6 24 rfl rfl
theorem dksX12_carryOut_8 : cX12_carryOut.data.toList.drop 212 = dktX12_carryOut_8 := dk_seg dksX12_carryOut_7 24 rfl rfl
theorem dksX12_carryOut_9 : cX12_carryOut.data.toList.drop 236 = dktX12_carryOut_9 := dk_seg dksX12_carryOut_8 24 rfl rfl
theorem dksX12_carryOut_10 : cX12_carryOut.data.toList.drop 258 = dktX12_carryOut_10 := dk_seg dksX12_carryOut_9 22 rfl rfl
theorem dX12_carryOut_0 : decode cX12_carryOut 0 = .ok (.aload_n 0, 1) := dk_42 (dk_at dksX12_carryOut_0 0 rfl rfl)
theorem dX12_carryOut_1 : decode cX12_carryOut 1 = .ok (.getfield 7, 3) := dk_180 0 7 (dk_at dksX12_carryOut_0 1 rfl rfl)
theorem dX12_carryOut_4 : decode cX12_carryOut 4 = .ok (.astore_n 2, 1) := dk_77 (dk_at dksX12_carryOut_0 4 rfl rfl)
theorem dX12_carryOut_5 : decode cX12_carryOut 5 = .ok (.iconst (-1), 1) := dk_2 (dk_at dksX12_carryOut_0 5 rfl rfl)
theorem dX12_carryOut_6 : decode cX12_carryOut 6 = .ok (.istore_n 3, 1) := dk_62 (dk_at dksX12_carryOut_0 6 rfl rfl)
theorem dX12_carryOut_7 : decode cX12_carryOut 7 = .ok (.aload_n 2, 1) := dk_44 (dk_at dksX12_carryOut_0 7 rfl rfl)
theorem dX12_carryOut_8 : decode cX12_carryOut 8 = .ok (.invokevirtual 20, 3) := dk_182 0 20 (dk_at dksX12_carryOut_0 8 rfl rfl)
theorem dX12_carryOut_11 : decode cX12_carryOut 11 = .ok (.lookupswitch 116 #[(99755, 91), (3208383, 49), (3526482, 105), (94544721, 63), (109327119, 77)], 49) := by decide +kernel
theorem dX12_carryOut_60 : decode cX12_carryOut 60 = .ok (.aload_n 2, 1) := dk_44 (dk_at dksX12_carryOut_2 0 rfl rfl)
theorem dX12_carryOut_61 : decode cX12_carryOut 61 = .ok (.ldc 26, 2) := dk_18 26 (dk_at dksX12_carryOut_2 1 rfl rfl)
theorem dX12_carryOut_63 : decode cX12_carryOut 63 = .ok (.invokevirtual 28, 3) := dk_182 0 28 (dk_at dksX12_carryOut_2 3 rfl rfl)
theorem dX12_carryOut_66 : decode cX12_carryOut 66 = .ok (.ifCond .eq 61, 3) := dk_153 0 61 (dk_at dksX12_carryOut_2 6 rfl rfl)
theorem dX12_carryOut_69 : decode cX12_carryOut 69 = .ok (.iconst 0, 1) := dk_3 (dk_at dksX12_carryOut_2 9 rfl rfl)
theorem dX12_carryOut_70 : decode cX12_carryOut 70 = .ok (.istore_n 3, 1) := dk_62 (dk_at dksX12_carryOut_2 10 rfl rfl)
theorem dX12_carryOut_71 : decode cX12_carryOut 71 = .ok (.goto 56, 3) := dk_167 0 56 (dk_at dksX12_carryOut_2 11 rfl rfl)
theorem dX12_carryOut_74 : decode cX12_carryOut 74 = .ok (.aload_n 2, 1) := dk_44 (dk_at dksX12_carryOut_2 14 rfl rfl)
theorem dX12_carryOut_75 : decode cX12_carryOut 75 = .ok (.ldc 57, 2) := dk_18 57 (dk_at dksX12_carryOut_2 15 rfl rfl)
theorem dX12_carryOut_77 : decode cX12_carryOut 77 = .ok (.invokevirtual 28, 3) := dk_182 0 28 (dk_at dksX12_carryOut_2 17 rfl rfl)
theorem dX12_carryOut_80 : decode cX12_carryOut 80 = .ok (.ifCond .eq 47, 3) := dk_153 0 47 (dk_at dksX12_carryOut_2 20 rfl rfl)
theorem dX12_carryOut_83 : decode cX12_carryOut 83 = .ok (.iconst 1, 1) := dk_4 (dk_at dksX12_carryOut_2 23 rfl rfl)
theorem dX12_carryOut_84 : decode cX12_carryOut 84 = .ok (.istore_n 3, 1) := dk_62 (dk_at dksX12_carryOut_3 0 rfl rfl)
theorem dX12_carryOut_85 : decode cX12_carryOut 85 = .ok (.goto 42, 3) := dk_167 0 42 (dk_at dksX12_carryOut_3 1 rfl rfl)
theorem dX12_carryOut_88 : decode cX12_carryOut 88 = .ok (.aload_n 2, 1) := dk_44 (dk_at dksX12_carryOut_3 4 rfl rfl)
theorem dX12_carryOut_89 : decode cX12_carryOut 89 = .ok (.ldc 32, 2) := dk_18 32 (dk_at dksX12_carryOut_3 5 rfl rfl)
theorem dX12_carryOut_91 : decode cX12_carryOut 91 = .ok (.invokevirtual 28, 3) := dk_182 0 28 (dk_at dksX12_carryOut_3 7 rfl rfl)
theorem dX12_carryOut_94 : decode cX12_carryOut 94 = .ok (.ifCond .eq 33, 3) := dk_153 0 33 (dk_at dksX12_carryOut_3 10 rfl rfl)
theorem dX12_carryOut_97 : decode cX12_carryOut 97 = .ok (.iconst 2, 1) := dk_5 (dk_at dksX12_carryOut_3 13 rfl rfl)
theorem dX12_carryOut_98 : decode cX12_carryOut 98 = .ok (.istore_n 3, 1) := dk_62 (dk_at dksX12_carryOut_3 14 rfl rfl)
theorem dX12_carryOut_99 : decode cX12_carryOut 99 = .ok (.goto 28, 3) := dk_167 0 28 (dk_at dksX12_carryOut_3 15 rfl rfl)
theorem dX12_carryOut_102 : decode cX12_carryOut 102 = .ok (.aload_n 2, 1) := dk_44 (dk_at dksX12_carryOut_3 18 rfl rfl)
theorem dX12_carryOut_103 : decode cX12_carryOut 103 = .ok (.ldc 34, 2) := dk_18 34 (dk_at dksX12_carryOut_3 19 rfl rfl)
theorem dX12_carryOut_105 : decode cX12_carryOut 105 = .ok (.invokevirtual 28, 3) := dk_182 0 28 (dk_at dksX12_carryOut_3 21 rfl rfl)
theorem dX12_carryOut_108 : decode cX12_carryOut 108 = .ok (.ifCond .eq 19, 3) := dk_153 0 19 (dk_at dksX12_carryOut_4 0 rfl rfl)
theorem dX12_carryOut_111 : decode cX12_carryOut 111 = .ok (.iconst 3, 1) := dk_6 (dk_at dksX12_carryOut_4 3 rfl rfl)
theorem dX12_carryOut_112 : decode cX12_carryOut 112 = .ok (.istore_n 3, 1) := dk_62 (dk_at dksX12_carryOut_4 4 rfl rfl)
theorem dX12_carryOut_113 : decode cX12_carryOut 113 = .ok (.goto 14, 3) := dk_167 0 14 (dk_at dksX12_carryOut_4 5 rfl rfl)
theorem dX12_carryOut_116 : decode cX12_carryOut 116 = .ok (.aload_n 2, 1) := dk_44 (dk_at dksX12_carryOut_4 8 rfl rfl)
theorem dX12_carryOut_117 : decode cX12_carryOut 117 = .ok (.ldc 59, 2) := dk_18 59 (dk_at dksX12_carryOut_4 9 rfl rfl)
theorem dX12_carryOut_119 : decode cX12_carryOut 119 = .ok (.invokevirtual 28, 3) := dk_182 0 28 (dk_at dksX12_carryOut_4 11 rfl rfl)
theorem dX12_carryOut_122 : decode cX12_carryOut 122 = .ok (.ifCond .eq 5, 3) := dk_153 0 5 (dk_at dksX12_carryOut_4 14 rfl rfl)
theorem dX12_carryOut_125 : decode cX12_carryOut 125 = .ok (.iconst 4, 1) := dk_7 (dk_at dksX12_carryOut_4 17 rfl rfl)
theorem dX12_carryOut_126 : decode cX12_carryOut 126 = .ok (.istore_n 3, 1) := dk_62 (dk_at dksX12_carryOut_4 18 rfl rfl)
theorem dX12_carryOut_127 : decode cX12_carryOut 127 = .ok (.iload_n 3, 1) := dk_29 (dk_at dksX12_carryOut_4 19 rfl rfl)
theorem dX12_carryOut_128 : decode cX12_carryOut 128 = .ok (.tableswitch 121 0 4 #[36, 52, 76, 88, 100], 36) := by decide +kernel
theorem dX12_carryOut_164 : decode cX12_carryOut 164 = .ok (.aload_n 1, 1) := dk_43 (dk_at dksX12_carryOut_6 0 rfl rfl)
theorem dX12_carryOut_165 : decode cX12_carryOut 165 = .ok (.aload_n 0, 1) := dk_42 (dk_at dksX12_carryOut_6 1 rfl rfl)
theorem dX12_carryOut_166 : decode cX12_carryOut 166 = .ok (.getfield 13, 3) := dk_180 0 13 (dk_at dksX12_carryOut_6 2 rfl rfl)
theorem dX12_carryOut_169 : decode cX12_carryOut 169 = .ok (.aload_n 0, 1) := dk_42 (dk_at dksX12_carryOut_6 5 rfl rfl)
theorem dX12_carryOut_170 : decode cX12_carryOut 170 = .ok (.getfield 17, 3) := dk_180 0 17 (dk_at dksX12_carryOut_6 6 rfl rfl)
theorem dX12_carryOut_173 : decode cX12_carryOut 173 = .ok (.invokevirtual 61, 3) := dk_182 0 61 (dk_at dksX12_carryOut_6 9 rfl rfl)
theorem dX12_carryOut_176 : decode cX12_carryOut 176 = .ok (.pop, 1) := dk_87 (dk_at dksX12_carryOut_6 12 rfl rfl)
theorem dX12_carryOut_177 : decode cX12_carryOut 177 = .ok (.goto 84, 3) := dk_167 0 84 (dk_at dksX12_carryOut_6 13 rfl rfl)
theorem dX12_carryOut_180 : decode cX12_carryOut 180 = .ok (.aload_n 1, 1) := dk_43 (dk_at dksX12_carryOut_6 16 rfl rfl)
theorem dX12_carryOut_181 : decode cX12_carryOut 181 = .ok (.getfield 63, 3) := dk_180 0 63 (dk_at dksX12_carryOut_6 17 rfl rfl)
theorem dX12_carryOut_184 : decode cX12_carryOut 184 = .ok (.aload_n 0, 1) := dk_42 (dk_at dksX12_carryOut_6 20 rfl rfl)
theorem dX12_carryOut_185 : decode cX12_carryOut 185 = .ok (.getfield 13, 3) := dk_180 0 13 (dk_at dksX12_carryOut_6 21 rfl rfl)
theorem dX12_carryOut_188 : decode cX12_carryOut 188 = .ok (.invokevirtual 67, 3) := dk_182 0 67 (dk_at dksX12_carryOut_7 0 rfl rfl)
theorem dX12_carryOut_191 : decode cX12_carryOut 191 = .ok (.checkcast 73, 3) := dk_192 0 73 (dk_at dksX12_carryOut_7 3 rfl rfl)
theorem dX12_carryOut_194 : decode cX12_carryOut 194 = .ok (.aload_n 0, 1) := dk_42 (dk_at dksX12_carryOut_7 6 rfl rfl)
theorem dX12_carryOut_195 : decode cX12_carryOut 195 = .ok (.getfield 17, 3) := dk_180 0 17 (dk_at dksX12_carryOut_7 7 rfl rfl)
theorem dX12_carryOut_198 : decode cX12_carryOut 198 = .ok (.putfield 75, 3) := dk_181 0 75 (dk_at dksX12_carryOut_7 10 rfl rfl)
theorem dX12_carryOut_201 : decode cX12_carryOut 201 = .ok (.goto 60, 3) := dk_167 0 60 (dk_at dksX12_carryOut_7 13 rfl rfl)
theorem dX12_carryOut_204 : decode cX12_carryOut 204 = .ok (.aload_n 1, 1) := dk_43 (dk_at dksX12_carryOut_7 16 rfl rfl)
theorem dX12_carryOut_205 : decode cX12_carryOut 205 = .ok (.aload_n 0, 1) := dk_42 (dk_at dksX12_carryOut_7 17 rfl rfl)
theorem dX12_carryOut_206 : decode cX12_carryOut 206 = .ok (.getfield 13, 3) := dk_180 0 13 (dk_at dksX12_carryOut_7 18 rfl rfl)
theorem dX12_carryOut_209 : decode cX12_carryOut 209 = .ok (.invokevirtual 77, 3) := dk_182 0 77 (dk_at dksX12_carryOut_7 21 rfl rfl)
theorem dX12_carryOut_212 : decode cX12_carryOut 212 = .ok (.pop, 1) := dk_87 (dk_at dksX12_carryOut_8 0 rfl rfl)
theorem dX12_carryOut_213 : decode cX12_carryOut 213 = .ok (.goto 48, 3) := dk_167 0 48 (dk_at dksX12_carryOut_8 1 rfl rfl)
theorem dX12_carryOut_216 : decode cX12_carryOut 216 = .ok (.aload_n 1, 1) := dk_43 (dk_at dksX12_carryOut_8 4 rfl rfl)
theorem dX12_carryOut_217 : decode cX12_carryOut 217 = .ok (.aload_n 0, 1) := dk_42 (dk_at dksX12_carryOut_8 5 rfl rfl)
theorem dX12_carryOut_218 : decode cX12_carryOut 218 = .ok (.getfield 13, 3) := dk_180 0 13 (dk_at dksX12_carryOut_8 6 rfl rfl)
theorem dX12_carryOut_221 : decode cX12_carryOut 221 = .ok (.invokevirtual 79, 3) := dk_182 0 79 (dk_at dksX12_carryOut_8 9 rfl rfl)
theorem dX12_carryOut_224 : decode cX12_carryOut 224 = .ok (.pop, 1) := dk_87 (dk_at dksX12_carryOut_8 12 rfl rfl)
theorem dX12_carryOut_225 : decode cX12_carryOut 225 = .ok (.goto 36, 3) := dk_167 0 36 (dk_at dksX12_carryOut_8 13 rfl rfl)
theorem dX12_carryOut_228 : decode cX12_carryOut 228 = .ok (.aload_n 1, 1) := dk_43 (dk_at dksX12_carryOut_8 16 rfl rfl)
theorem dX12_carryOut_229 : decode cX12_carryOut 229 = .ok (.getfield 63, 3) := dk_180 0 63 (dk_at dksX12_carryOut_8 17 rfl rfl)
theorem dX12_carryOut_232 : decode cX12_carryOut 232 = .ok (.aload_n 0, 1) := dk_42 (dk_at dksX12_carryOut_8 20 rfl rfl)
theorem dX12_carryOut_233 : decode cX12_carryOut 233 = .ok (.getfield 13, 3) := dk_180 0 13 (dk_at dksX12_carryOut_8 21 rfl rfl)
theorem dX12_carryOut_236 : decode cX12_carryOut 236 = .ok (.invokevirtual 67, 3) := dk_182 0 67 (dk_at dksX12_carryOut_9 0 rfl rfl)
theorem dX12_carryOut_239 : decode cX12_carryOut 239 = .ok (.checkcast 73, 3) := dk_192 0 73 (dk_at dksX12_carryOut_9 3 rfl rfl)
theorem dX12_carryOut_242 : decode cX12_carryOut 242 = .ok (.iconst 1, 1) := dk_4 (dk_at dksX12_carryOut_9 6 rfl rfl)
theorem dX12_carryOut_243 : decode cX12_carryOut 243 = .ok (.putfield 81, 3) := dk_181 0 81 (dk_at dksX12_carryOut_9 7 rfl rfl)
theorem dX12_carryOut_246 : decode cX12_carryOut 246 = .ok (.goto 15, 3) := dk_167 0 15 (dk_at dksX12_carryOut_9 10 rfl rfl)
theorem dX12_carryOut_249 : decode cX12_carryOut 249 = .ok (.aload_n 1, 1) := dk_43 (dk_at dksX12_carryOut_9 13 rfl rfl)
theorem dX12_carryOut_250 : decode cX12_carryOut 250 = .ok (.aload_n 0, 1) := dk_42 (dk_at dksX12_carryOut_9 14 rfl rfl)
theorem dX12_carryOut_251 : decode cX12_carryOut 251 = .ok (.getfield 13, 3) := dk_180 0 13 (dk_at dksX12_carryOut_9 15 rfl rfl)
theorem dX12_carryOut_254 : decode cX12_carryOut 254 = .ok (.aload_n 0, 1) := dk_42 (dk_at dksX12_carryOut_9 18 rfl rfl)
theorem dX12_carryOut_255 : decode cX12_carryOut 255 = .ok (.getfield 17, 3) := dk_180 0 17 (dk_at dksX12_carryOut_9 19 rfl rfl)
theorem dX12_carryOut_258 : decode cX12_carryOut 258 = .ok (.invokevirtual 85, 3) := dk_182 0 85 (dk_at dksX12_carryOut_10 0 rfl rfl)
theorem dX12_carryOut_261 : decode cX12_carryOut 261 = .ok (.return_, 1) := dk_177 (dk_at dksX12_carryOut_10 3 rfl rfl)
theorem q101 : (Jvm.Cond.initialized "DairyBook$Command") ∈ lw_all := lw_g (lw_at lw_m1 40 rfl) rfl
theorem q164 : (Jvm.Cond.fieldLinkNest "DairyBook$Command" (63 : Nat) "DairyBook$Herd" "cows" "Ljava/util/ArrayList;" "DairyBook") ∈ lw_tbl := lw_at lw_m1 103 rfl
theorem q426 : (Jvm.Cond.fieldLinkNest "DairyBook$Command" (75 : Nat) "DairyBook$Cow" "cells" "I" "DairyBook") ∈ lw_tbl := lw_at lw_m2 125 rfl
theorem q433 : (Jvm.Cond.fieldLinkNest "DairyBook$Command" (81 : Nat) "DairyBook$Cow" "isSold" "Z" "DairyBook") ∈ lw_tbl := lw_at lw_m2 132 rfl
theorem q506 : (Jvm.Cond.selects "DairyBook$Command" ({ cls := "java/lang/Object", name := "getClass", desc := "()Ljava/lang/Class;" } : Jvm.MethodName) ({ cls := "java/lang/Object", name := "getClass", desc := "()Ljava/lang/Class;" } : Jvm.MethodName)) ∈ lw_all := lw_g (lw_at lw_m2 205 rfl) rfl
theorem q1678 : (Jvm.Cond.instantiable "DairyBook$Command" (3 : Nat)) ∈ lw_all := lw_g (lw_at lw_m7 177 rfl) rfl
theorem q1680 : (Jvm.Cond.instanceMethod ({ cls := "DairyBook$Command", name := "<init>", desc := "(Ljava/lang/String;II)V" } : Jvm.MethodName)) ∈ lw_all := lw_g (lw_at lw_m7 179 rfl) rfl
theorem q1681 : (Jvm.Cond.code ({ cls := "DairyBook$Command", name := "<init>", desc := "(Ljava/lang/String;II)V" } : Jvm.MethodName) prog_3_method_1_code (4 : Nat) (Option.none : Option Jvm.ClassFile.FieldType)) ∈ lw_all := lw_g (lw_at lw_m7 180 rfl) rfl
theorem q1682 : (Jvm.Cond.methodLink "DairyBook$Command" (1 : Nat) ({ cls := "java/lang/Object", name := "<init>", desc := "()V" } : Jvm.MethodName)) ∈ lw_all := lw_g (lw_at lw_m7 181 rfl) rfl
theorem q1683 : (Jvm.Cond.fieldLink "DairyBook$Command" (7 : Nat) "DairyBook$Command" "word" "Ljava/lang/String;") ∈ lw_all := lw_g (lw_at lw_m7 182 rfl) rfl
theorem q1684 : (Jvm.Cond.fieldLink "DairyBook$Command" (13 : Nat) "DairyBook$Command" "first" "I") ∈ lw_all := lw_g (lw_at lw_m7 183 rfl) rfl
theorem q1685 : (Jvm.Cond.fieldLink "DairyBook$Command" (17 : Nat) "DairyBook$Command" "second" "I") ∈ lw_all := lw_g (lw_at lw_m7 184 rfl) rfl
theorem q1686 : (Jvm.Cond.laysFinal "DairyBook$Command" "DairyBook$Command" "word" "Ljava/lang/String;") ∈ lw_all := lw_g (lw_at lw_m7 185 rfl) rfl
theorem q1687 : (Jvm.Cond.soleField "DairyBook$Command" "word") ∈ lw_all := lw_g (lw_at lw_m7 186 rfl) rfl
theorem q1688 : (Jvm.Cond.laysFinal "DairyBook$Command" "DairyBook$Command" "first" "I") ∈ lw_all := lw_g (lw_at lw_m7 187 rfl) rfl
theorem q1689 : (Jvm.Cond.soleField "DairyBook$Command" "first") ∈ lw_all := lw_g (lw_at lw_m7 188 rfl) rfl
theorem q1690 : (Jvm.Cond.laysFinal "DairyBook$Command" "DairyBook$Command" "second" "I") ∈ lw_all := lw_g (lw_at lw_m7 189 rfl) rfl
theorem q1691 : (Jvm.Cond.soleField "DairyBook$Command" "second") ∈ lw_all := lw_g (lw_at lw_m7 190 rfl) rfl
theorem q1692 : (Jvm.Cond.superclass "DairyBook$Command" "java/lang/Object") ∈ lw_all := lw_g (lw_at lw_m7 191 rfl) rfl
theorem q1701 : (Jvm.Cond.instanceMethod ({ cls := "DairyBook$Command", name := "refuses", desc := "(LDairyBook$Herd;)I" } : Jvm.MethodName)) ∈ lw_all := lw_g (lw_at lw_m7 200 rfl) rfl
theorem q1702 : (Jvm.Cond.selects "DairyBook$Command" ({ cls := "DairyBook$Command", name := "refuses", desc := "(LDairyBook$Herd;)I" } : Jvm.MethodName) ({ cls := "DairyBook$Command", name := "refuses", desc := "(LDairyBook$Herd;)I" } : Jvm.MethodName)) ∈ lw_all := lw_g (lw_at lw_m7 201 rfl) rfl
theorem q1703 : (Jvm.Cond.code ({ cls := "DairyBook$Command", name := "refuses", desc := "(LDairyBook$Herd;)I" } : Jvm.MethodName) prog_3_method_2_code (4 : Nat) (Option.some Jvm.ClassFile.FieldType.int)) ∈ lw_all := lw_g (lw_at lw_m7 202 rfl) rfl
theorem q1704 : (Jvm.Cond.methodLink "DairyBook$Command" (20 : Nat) ({ cls := "java/lang/String", name := "hashCode", desc := "()I" } : Jvm.MethodName)) ∈ lw_all := lw_g (lw_at lw_m7 203 rfl) rfl
theorem q1705 : (Jvm.Cond.stringRef "DairyBook$Command" (26 : Nat) "hold") ∈ lw_tbl := lw_at lw_m7 204 rfl
theorem q1706 : (Jvm.Cond.methodLink "DairyBook$Command" (28 : Nat) ({ cls := "java/lang/String", name := "equals", desc := "(Ljava/lang/Object;)Z" } : Jvm.MethodName)) ∈ lw_all := lw_g (lw_at lw_m7 205 rfl) rfl
theorem q1707 : (Jvm.Cond.stringRef "DairyBook$Command" (32 : Nat) "serve") ∈ lw_tbl := lw_at lw_m7 206 rfl
theorem q1708 : (Jvm.Cond.stringRef "DairyBook$Command" (34 : Nat) "dry") ∈ lw_tbl := lw_at lw_m7 207 rfl
theorem q1709 : (Jvm.Cond.stringRef "DairyBook$Command" (36 : Nat) "bonus") ∈ lw_tbl := lw_at lw_m7 208 rfl
theorem q1710 : (Jvm.Cond.methodLink "DairyBook$Command" (38 : Nat) ({ cls := "DairyBook$Herd", name := "refusesHold", desc := "(II)I" } : Jvm.MethodName)) ∈ lw_all := lw_g (lw_at lw_m7 209 rfl) rfl
theorem q1711 : (Jvm.Cond.methodLink "DairyBook$Command" (44 : Nat) ({ cls := "DairyBook$Herd", name := "refusesServe", desc := "(I)I" } : Jvm.MethodName)) ∈ lw_all := lw_g (lw_at lw_m7 210 rfl) rfl
theorem q1712 : (Jvm.Cond.methodLink "DairyBook$Command" (48 : Nat) ({ cls := "DairyBook$Herd", name := "refusesDry", desc := "(I)I" } : Jvm.MethodName)) ∈ lw_all := lw_g (lw_at lw_m7 211 rfl) rfl
theorem q1713 : (Jvm.Cond.methodLink "DairyBook$Command" (51 : Nat) ({ cls := "DairyBook$Herd", name := "refusesBonus", desc := "(II)I" } : Jvm.MethodName)) ∈ lw_all := lw_g (lw_at lw_m7 212 rfl) rfl
theorem q1714 : (Jvm.Cond.methodLink "DairyBook$Command" (54 : Nat) ({ cls := "DairyBook$Herd", name := "refusesCow", desc := "(I)I" } : Jvm.MethodName)) ∈ lw_all := lw_g (lw_at lw_m7 213 rfl) rfl
theorem q1716 : (Jvm.Cond.instanceMethod ({ cls := "DairyBook$Command", name := "carryOut", desc := "(LDairyBook$Herd;)V" } : Jvm.MethodName)) ∈ lw_all := lw_g (lw_at lw_m7 215 rfl) rfl
theorem q1717 : (Jvm.Cond.selects "DairyBook$Command" ({ cls := "DairyBook$Command", name := "carryOut", desc := "(LDairyBook$Herd;)V" } : Jvm.MethodName) ({ cls := "DairyBook$Command", name := "carryOut", desc := "(LDairyBook$Herd;)V" } : Jvm.MethodName)) ∈ lw_all := lw_g (lw_at lw_m7 216 rfl) rfl
theorem q1718 : (Jvm.Cond.code ({ cls := "DairyBook$Command", name := "carryOut", desc := "(LDairyBook$Herd;)V" } : Jvm.MethodName) prog_3_method_3_code (4 : Nat) (Option.none : Option Jvm.ClassFile.FieldType)) ∈ lw_all := lw_g (lw_at lw_m7 217 rfl) rfl
theorem q1719 : (Jvm.Cond.stringRef "DairyBook$Command" (57 : Nat) "cells") ∈ lw_tbl := lw_at lw_m7 218 rfl
theorem q1720 : (Jvm.Cond.stringRef "DairyBook$Command" (59 : Nat) "sell") ∈ lw_tbl := lw_at lw_m7 219 rfl
theorem q1721 : (Jvm.Cond.methodLink "DairyBook$Command" (61 : Nat) ({ cls := "DairyBook$Herd", name := "hold", desc := "(II)I" } : Jvm.MethodName)) ∈ lw_all := lw_g (lw_at lw_m7 220 rfl) rfl
theorem q1722 : (Jvm.Cond.methodLink "DairyBook$Command" (67 : Nat) ({ cls := "java/util/ArrayList", name := "get", desc := "(I)Ljava/lang/Object;" } : Jvm.MethodName)) ∈ lw_all := lw_g (lw_at lw_m7 221 rfl) rfl
theorem q1723 : (Jvm.Cond.classLink "DairyBook$Command" (73 : Nat) "DairyBook$Cow") ∈ lw_all := lw_g (lw_at lw_m7 222 rfl) rfl
theorem q1724 : (Jvm.Cond.methodLink "DairyBook$Command" (77 : Nat) ({ cls := "DairyBook$Herd", name := "serve", desc := "(I)I" } : Jvm.MethodName)) ∈ lw_all := lw_g (lw_at lw_m7 223 rfl) rfl
theorem q1725 : (Jvm.Cond.methodLink "DairyBook$Command" (79 : Nat) ({ cls := "DairyBook$Herd", name := "dry", desc := "(I)I" } : Jvm.MethodName)) ∈ lw_all := lw_g (lw_at lw_m7 224 rfl) rfl
theorem q1726 : (Jvm.Cond.methodLink "DairyBook$Command" (85 : Nat) ({ cls := "DairyBook$Herd", name := "setBonus", desc := "(II)V" } : Jvm.MethodName)) ∈ lw_all := lw_g (lw_at lw_m7 225 rfl) rfl
theorem q2247 : (Jvm.Cond.castable "DairyBook$Command" "java/lang/Object") ∈ lw_tbl := lw_at lw_m10 26 rfl
theorem in_X12 : ∀ w ∈ wsX120, w ∈ lw_all := lw_in wsX120 [1686, 1688, 1690] (by decide +kernel) (by decide +kernel)
