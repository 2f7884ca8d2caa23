/-! DairyBookLaw -/
set_option maxRecDepth 100000
def RX0 : String := "DairyBookLaw"
abbrev cX0_addCow : ByteArray := method_3_code
def yX0_addCow : MethodName := ⟨RX0, "addCow", "(LDairyBook;III[J)I"⟩
def dkwX0_addCow_1 : List UInt8 := [172]
abbrev dktX0_addCow_1 : List UInt8 := dkwX0_addCow_1 ++ []
def dkwX0_addCow_0 : List UInt8 := [25, 4, 3, 42, 27, 28, 29, 182, 0, 7, 133, 80, 167, 0, 11, 58, 5, 4, 172, 58, 5, 5, 172, 3]
abbrev dktX0_addCow_0 : List UInt8 := dkwX0_addCow_0 ++ dktX0_addCow_1
theorem dksX0_addCow_0 : cX0_addCow.data.toList.drop 0 = dktX0_addCow_0 := by decide +kernel
theorem dksX0_addCow_1 : cX0_addCow.data.toList.drop 24 = dktX0_addCow_1 := dk_seg dksX0_addCow_0 24 rfl rfl
theorem dX0_addCow_0 : decode cX0_addCow 0 = .ok (.aload 4, 2) := dk_25 4 (dk_at dksX0_addCow_0 0 rfl rfl)
theorem dX0_addCow_2 : decode cX0_addCow 2 = .ok (.iconst 0, 1) := dk_3 (dk_at dksX0_addCow_0 2 rfl rfl)
theorem dX0_addCow_3 : decode cX0_addCow 3 = .ok (.aload_n 0, 1) := dk_42 (dk_at dksX0_addCow_0 3 rfl rfl)
theorem dX0_addCow_4 : decode cX0_addCow 4 = .ok (.iload_n 1, 1) := dk_27 (dk_at dksX0_addCow_0 4 rfl rfl)
theorem dX0_addCow_5 : decode cX0_addCow 5 = .ok (.iload_n 2, 1) := dk_28 (dk_at dksX0_addCow_0 5 rfl rfl)
theorem dX0_addCow_6 : decode cX0_addCow 6 = .ok (.iload_n 3, 1) := dk_29 (dk_at dksX0_addCow_0 6 rfl rfl)
theorem dX0_addCow_7 : decode cX0_addCow 7 = .ok (.invokevirtual 7, 3) := dk_182 0 7 (dk_at dksX0_addCow_0 7 rfl rfl)
theorem dX0_addCow_10 : decode cX0_addCow 10 = .ok (.i2l, 1) := dk_133 (dk_at dksX0_addCow_0 10 rfl rfl)
theorem dX0_addCow_11 : decode cX0_addCow 11 = .ok (.lastore, 1) := dk_80 (dk_at dksX0_addCow_0 11 rfl rfl)
theorem dX0_addCow_12 : decode cX0_addCow 12 = .ok (.goto 11, 3) := dk_167 0 11 (dk_at dksX0_addCow_0 12 rfl rfl)
theorem dX0_addCow_15 : decode cX0_addCow 15 = .ok (.astore 5, 2) := dk_58 5 (dk_at dksX0_addCow_0 15 rfl rfl)
theorem dX0_addCow_17 : decode cX0_addCow 17 = .ok (.iconst 1, 1) := dk_4 (dk_at dksX0_addCow_0 17 rfl rfl)
theorem dX0_addCow_18 : decode cX0_addCow 18 = .ok (.ireturn, 1) := dk_172 (dk_at dksX0_addCow_0 18 rfl rfl)
theorem dX0_addCow_19 : decode cX0_addCow 19 = .ok (.astore 5, 2) := dk_58 5 (dk_at dksX0_addCow_0 19 rfl rfl)
theorem dX0_addCow_21 : decode cX0_addCow 21 = .ok (.iconst 2, 1) := dk_5 (dk_at dksX0_addCow_0 21 rfl rfl)
theorem dX0_addCow_22 : decode cX0_addCow 22 = .ok (.ireturn, 1) := dk_172 (dk_at dksX0_addCow_0 22 rfl rfl)
theorem dX0_addCow_23 : decode cX0_addCow 23 = .ok (.iconst 0, 1) := dk_3 (dk_at dksX0_addCow_0 23 rfl rfl)
theorem dX0_addCow_24 : decode cX0_addCow 24 = .ok (.ireturn, 1) := dk_172 (dk_at dksX0_addCow_1 0 rfl rfl)
abbrev cX0_set : ByteArray := method_4_code
def yX0_set : MethodName := ⟨RX0, "set", "(LDairyBook;II[J)I"⟩
def dkwX0_set_0 : List UInt8 := [45, 3, 42, 27, 28, 182, 0, 17, 133, 80, 167, 0, 11, 58, 4, 4, 172, 58, 4, 5, 172, 3, 172]
abbrev dktX0_set_0 : List UInt8 := dkwX0_set_0 ++ []
theorem dksX0_set_0 : cX0_set.data.toList.drop 0 = dktX0_set_0 := by decide +kernel
theorem dX0_set_0 : decode cX0_set 0 = .ok (.aload_n 3, 1) := dk_45 (dk_at dksX0_set_0 0 rfl rfl)
theorem dX0_set_1 : decode cX0_set 1 = .ok (.iconst 0, 1) := dk_3 (dk_at dksX0_set_0 1 rfl rfl)
theorem dX0_set_2 : decode cX0_set 2 = .ok (.aload_n 0, 1) := dk_42 (dk_at dksX0_set_0 2 rfl rfl)
theorem dX0_set_3 : decode cX0_set 3 = .ok (.iload_n 1, 1) := dk_27 (dk_at dksX0_set_0 3 rfl rfl)
theorem dX0_set_4 : decode cX0_set 4 = .ok (.iload_n 2, 1) := dk_28 (dk_at dksX0_set_0 4 rfl rfl)
theorem dX0_set_5 : decode cX0_set 5 = .ok (.invokevirtual 17, 3) := dk_182 0 17 (dk_at dksX0_set_0 5 rfl rfl)
theorem dX0_set_8 : decode cX0_set 8 = .ok (.i2l, 1) := dk_133 (dk_at dksX0_set_0 8 rfl rfl)
theorem dX0_set_9 : decode cX0_set 9 = .ok (.lastore, 1) := dk_80 (dk_at dksX0_set_0 9 rfl rfl)
theorem dX0_set_10 : decode cX0_set 10 = .ok (.goto 11, 3) := dk_167 0 11 (dk_at dksX0_set_0 10 rfl rfl)
theorem dX0_set_13 : decode cX0_set 13 = .ok (.astore 4, 2) := dk_58 4 (dk_at dksX0_set_0 13 rfl rfl)
theorem dX0_set_15 : decode cX0_set 15 = .ok (.iconst 1, 1) := dk_4 (dk_at dksX0_set_0 15 rfl rfl)
theorem dX0_set_16 : decode cX0_set 16 = .ok (.ireturn, 1) := dk_172 (dk_at dksX0_set_0 16 rfl rfl)
theorem dX0_set_17 : decode cX0_set 17 = .ok (.astore 4, 2) := dk_58 4 (dk_at dksX0_set_0 17 rfl rfl)
theorem dX0_set_19 : decode cX0_set 19 = .ok (.iconst 2, 1) := dk_5 (dk_at dksX0_set_0 19 rfl rfl)
theorem dX0_set_20 : decode cX0_set 20 = .ok (.ireturn, 1) := dk_172 (dk_at dksX0_set_0 20 rfl rfl)
theorem dX0_set_21 : decode cX0_set 21 = .ok (.iconst 0, 1) := dk_3 (dk_at dksX0_set_0 21 rfl rfl)
theorem dX0_set_22 : decode cX0_set 22 = .ok (.ireturn, 1) := dk_172 (dk_at dksX0_set_0 22 rfl rfl)
abbrev cX0_setting : ByteArray := method_5_code
def yX0_setting : MethodName := ⟨RX0, "setting", "(LDairyBook;I[J)I"⟩
def dkwX0_setting_0 : List UInt8 := [44, 3, 42, 27, 182, 0, 23, 133, 80, 167, 0, 6, 78, 4, 172, 3, 172]
abbrev dktX0_setting_0 : List UInt8 := dkwX0_setting_0 ++ []
theorem dksX0_setting_0 : cX0_setting.data.toList.drop 0 = dktX0_setting_0 := by decide +kernel
theorem dX0_setting_0 : decode cX0_setting 0 = .ok (.aload_n 2, 1) := dk_44 (dk_at dksX0_setting_0 0 rfl rfl)
theorem dX0_setting_1 : decode cX0_setting 1 = .ok (.iconst 0, 1) := dk_3 (dk_at dksX0_setting_0 1 rfl rfl)
theorem dX0_setting_2 : decode cX0_setting 2 = .ok (.aload_n 0, 1) := dk_42 (dk_at dksX0_setting_0 2 rfl rfl)
theorem dX0_setting_3 : decode cX0_setting 3 = .ok (.iload_n 1, 1) := dk_27 (dk_at dksX0_setting_0 3 rfl rfl)
theorem dX0_setting_4 : decode cX0_setting 4 = .ok (.invokevirtual 23, 3) := dk_182 0 23 (dk_at dksX0_setting_0 4 rfl rfl)
theorem dX0_setting_7 : decode cX0_setting 7 = .ok (.i2l, 1) := dk_133 (dk_at dksX0_setting_0 7 rfl rfl)
theorem dX0_setting_8 : decode cX0_setting 8 = .ok (.lastore, 1) := dk_80 (dk_at dksX0_setting_0 8 rfl rfl)
theorem dX0_setting_9 : decode cX0_setting 9 = .ok (.goto 6, 3) := dk_167 0 6 (dk_at dksX0_setting_0 9 rfl rfl)
theorem dX0_setting_12 : decode cX0_setting 12 = .ok (.astore_n 3, 1) := dk_78 (dk_at dksX0_setting_0 12 rfl rfl)
theorem dX0_setting_13 : decode cX0_setting 13 = .ok (.iconst 1, 1) := dk_4 (dk_at dksX0_setting_0 13 rfl rfl)
theorem dX0_setting_14 : decode cX0_setting 14 = .ok (.ireturn, 1) := dk_172 (dk_at dksX0_setting_0 14 rfl rfl)
theorem dX0_setting_15 : decode cX0_setting 15 = .ok (.iconst 0, 1) := dk_3 (dk_at dksX0_setting_0 15 rfl rfl)
theorem dX0_setting_16 : decode cX0_setting 16 = .ok (.ireturn, 1) := dk_172 (dk_at dksX0_setting_0 16 rfl rfl)
abbrev cX0_hold : ByteArray := method_6_code
def yX0_hold : MethodName := ⟨RX0, "hold", "(LDairyBook;II[J)I"⟩
def dkwX0_hold_0 : List UInt8 := [45, 3, 42, 27, 28, 182, 0, 27, 133, 80, 167, 0, 7, 58, 4, 4, 172, 3, 172]
abbrev dktX0_hold_0 : List UInt8 := dkwX0_hold_0 ++ []
theorem dksX0_hold_0 : cX0_hold.data.toList.drop 0 = dktX0_hold_0 := by decide +kernel
theorem dX0_hold_0 : decode cX0_hold 0 = .ok (.aload_n 3, 1) := dk_45 (dk_at dksX0_hold_0 0 rfl rfl)
theorem dX0_hold_1 : decode cX0_hold 1 = .ok (.iconst 0, 1) := dk_3 (dk_at dksX0_hold_0 1 rfl rfl)
theorem dX0_hold_2 : decode cX0_hold 2 = .ok (.aload_n 0, 1) := dk_42 (dk_at dksX0_hold_0 2 rfl rfl)
theorem dX0_hold_3 : decode cX0_hold 3 = .ok (.iload_n 1, 1) := dk_27 (dk_at dksX0_hold_0 3 rfl rfl)
theorem dX0_hold_4 : decode cX0_hold 4 = .ok (.iload_n 2, 1) := dk_28 (dk_at dksX0_hold_0 4 rfl rfl)
theorem dX0_hold_5 : decode cX0_hold 5 = .ok (.invokevirtual 27, 3) := dk_182 0 27 (dk_at dksX0_hold_0 5 rfl rfl)
theorem dX0_hold_8 : decode cX0_hold 8 = .ok (.i2l, 1) := dk_133 (dk_at dksX0_hold_0 8 rfl rfl)
theorem dX0_hold_9 : decode cX0_hold 9 = .ok (.lastore, 1) := dk_80 (dk_at dksX0_hold_0 9 rfl rfl)
theorem dX0_hold_10 : decode cX0_hold 10 = .ok (.goto 7, 3) := dk_167 0 7 (dk_at dksX0_hold_0 10 rfl rfl)
theorem dX0_hold_13 : decode cX0_hold 13 = .ok (.astore 4, 2) := dk_58 4 (dk_at dksX0_hold_0 13 rfl rfl)
theorem dX0_hold_15 : decode cX0_hold 15 = .ok (.iconst 1, 1) := dk_4 (dk_at dksX0_hold_0 15 rfl rfl)
theorem dX0_hold_16 : decode cX0_hold 16 = .ok (.ireturn, 1) := dk_172 (dk_at dksX0_hold_0 16 rfl rfl)
theorem dX0_hold_17 : decode cX0_hold 17 = .ok (.iconst 0, 1) := dk_3 (dk_at dksX0_hold_0 17 rfl rfl)
theorem dX0_hold_18 : decode cX0_hold 18 = .ok (.ireturn, 1) := dk_172 (dk_at dksX0_hold_0 18 rfl rfl)
abbrev cX0_setCells : ByteArray := method_7_code
def yX0_setCells : MethodName := ⟨RX0, "setCells", "(LDairyBook;II[J)I"⟩
def dkwX0_setCells_0 : List UInt8 := [45, 3, 42, 27, 28, 182, 0, 32, 133, 80, 167, 0, 11, 58, 4, 4, 172, 58, 4, 5, 172, 3, 172]
abbrev dktX0_setCells_0 : List UInt8 := dkwX0_setCells_0 ++ []
theorem dksX0_setCells_0 : cX0_setCells.data.toList.drop 0 = dktX0_setCells_0 := by decide +kernel
theorem dX0_setCells_0 : decode cX0_setCells 0 = .ok (.aload_n 3, 1) := dk_45 (dk_at dksX0_setCells_0 0 rfl rfl)
theorem dX0_setCells_1 : decode cX0_setCells 1 = .ok (.iconst 0, 1) := dk_3 (dk_at dksX0_setCells_0 1 rfl rfl)
theorem dX0_setCells_2 : decode cX0_setCells 2 = .ok (.aload_n 0, 1) := dk_42 (dk_at dksX0_setCells_0 2 rfl rfl)
theorem dX0_setCells_3 : decode cX0_setCells 3 = .ok (.iload_n 1, 1) := dk_27 (dk_at dksX0_setCells_0 3 rfl rfl)
theorem dX0_setCells_4 : decode cX0_setCells 4 = .ok (.iload_n 2, 1) := dk_28 (dk_at dksX0_setCells_0 4 rfl rfl)
theorem dX0_setCells_5 : decode cX0_setCells 5 = .ok (.invokevirtual 32, 3) := dk_182 0 32 (dk_at dksX0_setCells_0 5 rfl rfl)
theorem dX0_setCells_8 : decode cX0_setCells 8 = .ok (.i2l, 1) := dk_133 (dk_at dksX0_setCells_0 8 rfl rfl)
theorem dX0_setCells_9 : decode cX0_setCells 9 = .ok (.lastore, 1) := dk_80 (dk_at dksX0_setCells_0 9 rfl rfl)
theorem dX0_setCells_10 : decode cX0_setCells 10 = .ok (.goto 11, 3) := dk_167 0 11 (dk_at dksX0_setCells_0 10 rfl rfl)
theorem dX0_setCells_13 : decode cX0_setCells 13 = .ok (.astore 4, 2) := dk_58 4 (dk_at dksX0_setCells_0 13 rfl rfl)
theorem dX0_setCells_15 : decode cX0_setCells 15 = .ok (.iconst 1, 1) := dk_4 (dk_at dksX0_setCells_0 15 rfl rfl)
theorem dX0_setCells_16 : decode cX0_setCells 16 = .ok (.ireturn, 1) := dk_172 (dk_at dksX0_setCells_0 16 rfl rfl)
theorem dX0_setCells_17 : decode cX0_setCells 17 = .ok (.astore 4, 2) := dk_58 4 (dk_at dksX0_setCells_0 17 rfl rfl)
theorem dX0_setCells_19 : decode cX0_setCells 19 = .ok (.iconst 2, 1) := dk_5 (dk_at dksX0_setCells_0 19 rfl rfl)
theorem dX0_setCells_20 : decode cX0_setCells 20 = .ok (.ireturn, 1) := dk_172 (dk_at dksX0_setCells_0 20 rfl rfl)
theorem dX0_setCells_21 : decode cX0_setCells 21 = .ok (.iconst 0, 1) := dk_3 (dk_at dksX0_setCells_0 21 rfl rfl)
theorem dX0_setCells_22 : decode cX0_setCells 22 = .ok (.ireturn, 1) := dk_172 (dk_at dksX0_setCells_0 22 rfl rfl)
abbrev cX0_serve : ByteArray := method_8_code
def yX0_serve : MethodName := ⟨RX0, "serve", "(LDairyBook;I[J)I"⟩
def dkwX0_serve_0 : List UInt8 := [44, 3, 42, 27, 182, 0, 35, 133, 80, 167, 0, 6, 78, 4, 172, 3, 172]
abbrev dktX0_serve_0 : List UInt8 := dkwX0_serve_0 ++ []
theorem dksX0_serve_0 : cX0_serve.data.toList.drop 0 = dktX0_serve_0 := by decide +kernel
theorem dX0_serve_0 : decode cX0_serve 0 = .ok (.aload_n 2, 1) := dk_44 (dk_at dksX0_serve_0 0 rfl rfl)
theorem dX0_serve_1 : decode cX0_serve 1 = .ok (.iconst 0, 1) := dk_3 (dk_at dksX0_serve_0 1 rfl rfl)
theorem dX0_serve_2 : decode cX0_serve 2 = .ok (.aload_n 0, 1) := dk_42 (dk_at dksX0_serve_0 2 rfl rfl)
theorem dX0_serve_3 : decode cX0_serve 3 = .ok (.iload_n 1, 1) := dk_27 (dk_at dksX0_serve_0 3 rfl rfl)
theorem dX0_serve_4 : decode cX0_serve 4 = .ok (.invokevirtual 35, 3) := dk_182 0 35 (dk_at dksX0_serve_0 4 rfl rfl)
theorem dX0_serve_7 : decode cX0_serve 7 = .ok (.i2l, 1) := dk_133 (dk_at dksX0_serve_0 7 rfl rfl)
theorem dX0_serve_8 : decode cX0_serve 8 = .ok (.lastore, 1) := dk_80 (dk_at dksX0_serve_0 8 rfl rfl)
theorem dX0_serve_9 : decode cX0_serve 9 = .ok (.goto 6, 3) := dk_167 0 6 (dk_at dksX0_serve_0 9 rfl rfl)
theorem dX0_serve_12 : decode cX0_serve 12 = .ok (.astore_n 3, 1) := dk_78 (dk_at dksX0_serve_0 12 rfl rfl)
theorem dX0_serve_13 : decode cX0_serve 13 = .ok (.iconst 1, 1) := dk_4 (dk_at dksX0_serve_0 13 rfl rfl)
theorem dX0_serve_14 : decode cX0_serve 14 = .ok (.ireturn, 1) := dk_172 (dk_at dksX0_serve_0 14 rfl rfl)
theorem dX0_serve_15 : decode cX0_serve 15 = .ok (.iconst 0, 1) := dk_3 (dk_at dksX0_serve_0 15 rfl rfl)
theorem dX0_serve_16 : decode cX0_serve 16 = .ok (.ireturn, 1) := dk_172 (dk_at dksX0_serve_0 16 rfl rfl)
abbrev cX0_dry : ByteArray := method_9_code
def yX0_dry : MethodName := ⟨RX0, "dry", "(LDairyBook;I[J)I"⟩
def dkwX0_dry_0 : List UInt8 := [44, 3, 42, 27, 182, 0, 38, 133, 80, 167, 0, 6, 78, 4, 172, 3, 172]
abbrev dktX0_dry_0 : List UInt8 := dkwX0_dry_0 ++ []
theorem dksX0_dry_0 : cX0_dry.data.toList.drop 0 = dktX0_dry_0 := by decide +kernel
theorem dX0_dry_0 : decode cX0_dry 0 = .ok (.aload_n 2, 1) := dk_44 (dk_at dksX0_dry_0 0 rfl rfl)
theorem dX0_dry_1 : decode cX0_dry 1 = .ok (.iconst 0, 1) := dk_3 (dk_at dksX0_dry_0 1 rfl rfl)
theorem dX0_dry_2 : decode cX0_dry 2 = .ok (.aload_n 0, 1) := dk_42 (dk_at dksX0_dry_0 2 rfl rfl)
theorem dX0_dry_3 : decode cX0_dry 3 = .ok (.iload_n 1, 1) := dk_27 (dk_at dksX0_dry_0 3 rfl rfl)
theorem dX0_dry_4 : decode cX0_dry 4 = .ok (.invokevirtual 38, 3) := dk_182 0 38 (dk_at dksX0_dry_0 4 rfl rfl)
theorem dX0_dry_7 : decode cX0_dry 7 = .ok (.i2l, 1) := dk_133 (dk_at dksX0_dry_0 7 rfl rfl)
theorem dX0_dry_8 : decode cX0_dry 8 = .ok (.lastore, 1) := dk_80 (dk_at dksX0_dry_0 8 rfl rfl)
theorem dX0_dry_9 : decode cX0_dry 9 = .ok (.goto 6, 3) := dk_167 0 6 (dk_at dksX0_dry_0 9 rfl rfl)
theorem dX0_dry_12 : decode cX0_dry 12 = .ok (.astore_n 3, 1) := dk_78 (dk_at dksX0_dry_0 12 rfl rfl)
theorem dX0_dry_13 : decode cX0_dry 13 = .ok (.iconst 1, 1) := dk_4 (dk_at dksX0_dry_0 13 rfl rfl)
theorem dX0_dry_14 : decode cX0_dry 14 = .ok (.ireturn, 1) := dk_172 (dk_at dksX0_dry_0 14 rfl rfl)
theorem dX0_dry_15 : decode cX0_dry 15 = .ok (.iconst 0, 1) := dk_3 (dk_at dksX0_dry_0 15 rfl rfl)
theorem dX0_dry_16 : decode cX0_dry 16 = .ok (.ireturn, 1) := dk_172 (dk_at dksX0_dry_0 16 rfl rfl)
abbrev cX0_sell : ByteArray := method_10_code
def yX0_sell : MethodName := ⟨RX0, "sell", "(LDairyBook;I[J)I"⟩
def dkwX0_sell_0 : List UInt8 := [44, 3, 42, 27, 182, 0, 41, 133, 80, 167, 0, 6, 78, 4, 172, 3, 172]
abbrev dktX0_sell_0 : List UInt8 := dkwX0_sell_0 ++ []
theorem dksX0_sell_0 : cX0_sell.data.toList.drop 0 = dktX0_sell_0 := by decide +kernel
theorem dX0_sell_0 : decode cX0_sell 0 = .ok (.aload_n 2, 1) := dk_44 (dk_at dksX0_sell_0 0 rfl rfl)
theorem dX0_sell_1 : decode cX0_sell 1 = .ok (.iconst 0, 1) := dk_3 (dk_at dksX0_sell_0 1 rfl rfl)
theorem dX0_sell_2 : decode cX0_sell 2 = .ok (.aload_n 0, 1) := dk_42 (dk_at dksX0_sell_0 2 rfl rfl)
theorem dX0_sell_3 : decode cX0_sell 3 = .ok (.iload_n 1, 1) := dk_27 (dk_at dksX0_sell_0 3 rfl rfl)
theorem dX0_sell_4 : decode cX0_sell 4 = .ok (.invokevirtual 41, 3) := dk_182 0 41 (dk_at dksX0_sell_0 4 rfl rfl)
theorem dX0_sell_7 : decode cX0_sell 7 = .ok (.i2l, 1) := dk_133 (dk_at dksX0_sell_0 7 rfl rfl)
theorem dX0_sell_8 : decode cX0_sell 8 = .ok (.lastore, 1) := dk_80 (dk_at dksX0_sell_0 8 rfl rfl)
theorem dX0_sell_9 : decode cX0_sell 9 = .ok (.goto 6, 3) := dk_167 0 6 (dk_at dksX0_sell_0 9 rfl rfl)
theorem dX0_sell_12 : decode cX0_sell 12 = .ok (.astore_n 3, 1) := dk_78 (dk_at dksX0_sell_0 12 rfl rfl)
theorem dX0_sell_13 : decode cX0_sell 13 = .ok (.iconst 1, 1) := dk_4 (dk_at dksX0_sell_0 13 rfl rfl)
theorem dX0_sell_14 : decode cX0_sell 14 = .ok (.ireturn, 1) := dk_172 (dk_at dksX0_sell_0 14 rfl rfl)
theorem dX0_sell_15 : decode cX0_sell 15 = .ok (.iconst 0, 1) := dk_3 (dk_at dksX0_sell_0 15 rfl rfl)
theorem dX0_sell_16 : decode cX0_sell 16 = .ok (.ireturn, 1) := dk_172 (dk_at dksX0_sell_0 16 rfl rfl)
abbrev cX0_setBonus : ByteArray := method_11_code
def yX0_setBonus : MethodName := ⟨RX0, "setBonus", "(LDairyBook;II[J)I"⟩
def dkwX0_setBonus_0 : List UInt8 := [45, 3, 42, 27, 28, 182, 0, 44, 133, 80, 167, 0, 7, 58, 4, 4, 172, 3, 172]
abbrev dktX0_setBonus_0 : List UInt8 := dkwX0_setBonus_0 ++ []
theorem dksX0_setBonus_0 : cX0_setBonus.data.toList.drop 0 = dktX0_setBonus_0 := by decide +kernel
theorem dX0_setBonus_0 : decode cX0_setBonus 0 = .ok (.aload_n 3, 1) := dk_45 (dk_at dksX0_setBonus_0 0 rfl rfl)
theorem dX0_setBonus_1 : decode cX0_setBonus 1 = .ok (.iconst 0, 1) := dk_3 (dk_at dksX0_setBonus_0 1 rfl rfl)
theorem dX0_setBonus_2 : decode cX0_setBonus 2 = .ok (.aload_n 0, 1) := dk_42 (dk_at dksX0_setBonus_0 2 rfl rfl)
theorem dX0_setBonus_3 : decode cX0_setBonus 3 = .ok (.iload_n 1, 1) := dk_27 (dk_at dksX0_setBonus_0 3 rfl rfl)
theorem dX0_setBonus_4 : decode cX0_setBonus 4 = .ok (.iload_n 2, 1) := dk_28 (dk_at dksX0_setBonus_0 4 rfl rfl)
theorem dX0_setBonus_5 : decode cX0_setBonus 5 = .ok (.invokevirtual 44, 3) := dk_182 0 44 (dk_at dksX0_setBonus_0 5 rfl rfl)
theorem dX0_setBonus_8 : decode cX0_setBonus 8 = .ok (.i2l, 1) := dk_133 (dk_at dksX0_setBonus_0 8 rfl rfl)
theorem dX0_setBonus_9 : decode cX0_setBonus 9 = .ok (.lastore, 1) := dk_80 (dk_at dksX0_setBonus_0 9 rfl rfl)
theorem dX0_setBonus_10 : decode cX0_setBonus 10 = .ok (.goto 7, 3) := dk_167 0 7 (dk_at dksX0_setBonus_0 10 rfl rfl)
theorem dX0_setBonus_13 : decode cX0_setBonus 13 = .ok (.astore 4, 2) := dk_58 4 (dk_at dksX0_setBonus_0 13 rfl rfl)
theorem dX0_setBonus_15 : decode cX0_setBonus 15 = .ok (.iconst 1, 1) := dk_4 (dk_at dksX0_setBonus_0 15 rfl rfl)
theorem dX0_setBonus_16 : decode cX0_setBonus 16 = .ok (.ireturn, 1) := dk_172 (dk_at dksX0_setBonus_0 16 rfl rfl)
theorem dX0_setBonus_17 : decode cX0_setBonus 17 = .ok (.iconst 0, 1) := dk_3 (dk_at dksX0_setBonus_0 17 rfl rfl)
theorem dX0_setBonus_18 : decode cX0_setBonus 18 = .ok (.ireturn, 1) := dk_172 (dk_at dksX0_setBonus_0 18 rfl rfl)
abbrev cX0_bonus : ByteArray := method_12_code
def yX0_bonus : MethodName := ⟨RX0, "bonus", "(LDairyBook;IZ[J)I"⟩
def dkwX0_bonus_0 : List UInt8 := [45, 3, 42, 27, 28, 182, 0, 47, 133, 80, 167, 0, 7, 58, 4, 4, 172, 3, 172]
abbrev dktX0_bonus_0 : List UInt8 := dkwX0_bonus_0 ++ []
theorem dksX0_bonus_0 : cX0_bonus.data.toList.drop 0 = dktX0_bonus_0 := by decide +kernel
theorem dX0_bonus_0 : decode cX0_bonus 0 = .ok (.aload_n 3, 1) := dk_45 (dk_at dksX0_bonus_0 0 rfl rfl)
theorem dX0_bonus_1 : decode cX0_bonus 1 = .ok (.iconst 0, 1) := dk_3 (dk_at dksX0_bonus_0 1 rfl rfl)
theorem dX0_bonus_2 : decode cX0_bonus 2 = .ok (.aload_n 0, 1) := dk_42 (dk_at dksX0_bonus_0 2 rfl rfl)
theorem dX0_bonus_3 : decode cX0_bonus 3 = .ok (.iload_n 1, 1) := dk_27 (dk_at dksX0_bonus_0 3 rfl rfl)
theorem dX0_bonus_4 : decode cX0_bonus 4 = .ok (.iload_n 2, 1) := dk_28 (dk_at dksX0_bonus_0 4 rfl rfl)
theorem dX0_bonus_5 : decode cX0_bonus 5 = .ok (.invokevirtual 47, 3) := dk_182 0 47 (dk_at dksX0_bonus_0 5 rfl rfl)
theorem dX0_bonus_8 : decode cX0_bonus 8 = .ok (.i2l, 1) := dk_133 (dk_at dksX0_bonus_0 8 rfl rfl)
theorem dX0_bonus_9 : decode cX0_bonus 9 = .ok (.lastore, 1) := dk_80 (dk_at dksX0_bonus_0 9 rfl rfl)
theorem dX0_bonus_10 : decode cX0_bonus 10 = .ok (.goto 7, 3) := dk_167 0 7 (dk_at dksX0_bonus_0 10 rfl rfl)
theorem dX0_bonus_13 : decode cX0_bonus 13 = .ok (.astore 4, 2) := dk_58 4 (dk_at dksX0_bonus_0 13 rfl rfl)
theorem dX0_bonus_15 : decode cX0_bonus 15 = .ok (.iconst 1, 1) := dk_4 (dk_at dksX0_bonus_0 15 rfl rfl)
theorem dX0_bonus_16 : decode cX0_bonus 16 = .ok (.ireturn, 1) := dk_172 (dk_at dksX0_bonus_0 16 rfl rfl)
theorem dX0_bonus_17 : decode cX0_bonus 17 = .ok (.iconst 0, 1) := dk_3 (dk_at dksX0_bonus_0 17 rfl rfl)
theorem dX0_bonus_18 : decode cX0_bonus 18 = .ok (.ireturn, 1) := dk_172 (dk_at dksX0_bonus_0 18 rfl rfl)
abbrev cX0_refusal : ByteArray := method_13_code
def yX0_refusal : MethodName := ⟨RX0, "refusal", "(LDairyBook;[J)I"⟩
def dkwX0_refusal_0 : List UInt8 := [43, 3, 42, 182, 0, 51, 133, 80, 167, 0, 6, 77, 4, 172, 3, 172]
abbrev dktX0_refusal_0 : List UInt8 := dkwX0_refusal_0 ++ []
theorem dksX0_refusal_0 : cX0_refusal.data.toList.drop 0 = dktX0_refusal_0 := by decide +kernel
theorem dX0_refusal_0 : decode cX0_refusal 0 = .ok (.aload_n 1, 1) := dk_43 (dk_at dksX0_refusal_0 0 rfl rfl)
theorem dX0_refusal_1 : decode cX0_refusal 1 = .ok (.iconst 0, 1) := dk_3 (dk_at dksX0_refusal_0 1 rfl rfl)
theorem dX0_refusal_2 : decode cX0_refusal 2 = .ok (.aload_n 0, 1) := dk_42 (dk_at dksX0_refusal_0 2 rfl rfl)
theorem dX0_refusal_3 : decode cX0_refusal 3 = .ok (.invokevirtual 51, 3) := dk_182 0 51 (dk_at dksX0_refusal_0 3 rfl rfl)
theorem dX0_refusal_6 : decode cX0_refusal 6 = .ok (.i2l, 1) := dk_133 (dk_at dksX0_refusal_0 6 rfl rfl)
theorem dX0_refusal_7 : decode cX0_refusal 7 = .ok (.lastore, 1) := dk_80 (dk_at dksX0_refusal_0 7 rfl rfl)
theorem dX0_refusal_8 : decode cX0_refusal 8 = .ok (.goto 6, 3) := dk_167 0 6 (dk_at dksX0_refusal_0 8 rfl rfl)
theorem dX0_refusal_11 : decode cX0_refusal 11 = .ok (.astore_n 2, 1) := dk_77 (dk_at dksX0_refusal_0 11 rfl rfl)
theorem dX0_refusal_12 : decode cX0_refusal 12 = .ok (.iconst 1, 1) := dk_4 (dk_at dksX0_refusal_0 12 rfl rfl)
theorem dX0_refusal_13 : decode cX0_refusal 13 = .ok (.ireturn, 1) := dk_172 (dk_at dksX0_refusal_0 13 rfl rfl)
theorem dX0_refusal_14 : decode cX0_refusal 14 = .ok (.iconst 0, 1) := dk_3 (dk_at dksX0_refusal_0 14 rfl rfl)
theorem dX0_refusal_15 : decode cX0_refusal 15 = .ok (.ireturn, 1) := dk_172 (dk_at dksX0_refusal_0 15 rfl rfl)
abbrev cX0_pass : ByteArray := method_14_code
def yX0_pass : MethodName := ⟨RX0, "pass", "(LDairyBook;I[J)I"⟩
def dkwX0_pass_0 : List UInt8 := [44, 3, 42, 27, 182, 0, 57, 133, 80, 167, 0, 6, 78, 4, 172, 3, 172]
abbrev dktX0_pass_0 : List UInt8 := dkwX0_pass_0 ++ []
theorem dksX0_pass_0 : cX0_pass.data.toList.drop 0 = dktX0_pass_0 := by decide +kernel
theorem dX0_pass_0 : decode cX0_pass 0 = .ok (.aload_n 2, 1) := dk_44 (dk_at dksX0_pass_0 0 rfl rfl)
theorem dX0_pass_1 : decode cX0_pass 1 = .ok (.iconst 0, 1) := dk_3 (dk_at dksX0_pass_0 1 rfl rfl)
theorem dX0_pass_2 : decode cX0_pass 2 = .ok (.aload_n 0, 1) := dk_42 (dk_at dksX0_pass_0 2 rfl rfl)
theorem dX0_pass_3 : decode cX0_pass 3 = .ok (.iload_n 1, 1) := dk_27 (dk_at dksX0_pass_0 3 rfl rfl)
theorem dX0_pass_4 : decode cX0_pass 4 = .ok (.invokevirtual 57, 3) := dk_182 0 57 (dk_at dksX0_pass_0 4 rfl rfl)
theorem dX0_pass_7 : decode cX0_pass 7 = .ok (.i2l, 1) := dk_133 (dk_at dksX0_pass_0 7 rfl rfl)
theorem dX0_pass_8 : decode cX0_pass 8 = .ok (.lastore, 1) := dk_80 (dk_at dksX0_pass_0 8 rfl rfl)
theorem dX0_pass_9 : decode cX0_pass 9 = .ok (.goto 6, 3) := dk_167 0 6 (dk_at dksX0_pass_0 9 rfl rfl)
theorem dX0_pass_12 : decode cX0_pass 12 = .ok (.astore_n 3, 1) := dk_78 (dk_at dksX0_pass_0 12 rfl rfl)
theorem dX0_pass_13 : decode cX0_pass 13 = .ok (.iconst 1, 1) := dk_4 (dk_at dksX0_pass_0 13 rfl rfl)
theorem dX0_pass_14 : decode cX0_pass 14 = .ok (.ireturn, 1) := dk_172 (dk_at dksX0_pass_0 14 rfl rfl)
theorem dX0_pass_15 : decode cX0_pass 15 = .ok (.iconst 0, 1) := dk_3 (dk_at dksX0_pass_0 15 rfl rfl)
theorem dX0_pass_16 : decode cX0_pass 16 = .ok (.ireturn, 1) := dk_172 (dk_at dksX0_pass_0 16 rfl rfl)
abbrev cX0_cow : ByteArray := method_15_code
def yX0_cow : MethodName := ⟨RX0, "cow", "(LDairyBook;II[J)I"⟩
def dkwX0_cow_0 : List UInt8 := [45, 3, 42, 27, 28, 182, 0, 60, 133, 80, 167, 0, 11, 58, 4, 4, 172, 58, 4, 5, 172, 3, 172]
abbrev dktX0_cow_0 : List UInt8 := dkwX0_cow_0 ++ []
theorem dksX0_cow_0 : cX0_cow.data.toList.drop 0 = dktX0_cow_0 := by decide +kernel
theorem dX0_cow_0 : decode cX0_cow 0 = .ok (.aload_n 3, 1) := dk_45 (dk_at dksX0_cow_0 0 rfl rfl)
theorem dX0_cow_1 : decode cX0_cow 1 = .ok (.iconst 0, 1) := dk_3 (dk_at dksX0_cow_0 1 rfl rfl)
theorem dX0_cow_2 : decode cX0_cow 2 = .ok (.aload_n 0, 1) := dk_42 (dk_at dksX0_cow_0 2 rfl rfl)
theorem dX0_cow_3 : decode cX0_cow 3 = .ok (.iload_n 1, 1) := dk_27 (dk_at dksX0_cow_0 3 rfl rfl)
theorem dX0_cow_4 : decode cX0_cow 4 = .ok (.iload_n 2, 1) := dk_28 (dk_at dksX0_cow_0 4 rfl rfl)
theorem dX0_cow_5 : decode cX0_cow 5 = .ok (.invokevirtual 60, 3) := dk_182 0 60 (dk_at dksX0_cow_0 5 rfl rfl)
theorem dX0_cow_8 : decode cX0_cow 8 = .ok (.i2l, 1) := dk_133 (dk_at dksX0_cow_0 8 rfl rfl)
theorem dX0_cow_9 : decode cX0_cow 9 = .ok (.lastore, 1) := dk_80 (dk_at dksX0_cow_0 9 rfl rfl)
theorem dX0_cow_10 : decode cX0_cow 10 = .ok (.goto 11, 3) := dk_167 0 11 (dk_at dksX0_cow_0 10 rfl rfl)
theorem dX0_cow_13 : decode cX0_cow 13 = .ok (.astore 4, 2) := dk_58 4 (dk_at dksX0_cow_0 13 rfl rfl)
theorem dX0_cow_15 : decode cX0_cow 15 = .ok (.iconst 1, 1) := dk_4 (dk_at dksX0_cow_0 15 rfl rfl)
theorem dX0_cow_16 : decode cX0_cow 16 = .ok (.ireturn, 1) := dk_172 (dk_at dksX0_cow_0 16 rfl rfl)
theorem dX0_cow_17 : decode cX0_cow 17 = .ok (.astore 4, 2) := dk_58 4 (dk_at dksX0_cow_0 17 rfl rfl)
theorem dX0_cow_19 : decode cX0_cow 19 = .ok (.iconst 2, 1) := dk_5 (dk_at dksX0_cow_0 19 rfl rfl)
theorem dX0_cow_20 : decode cX0_cow 20 = .ok (.ireturn, 1) := dk_172 (dk_at dksX0_cow_0 20 rfl rfl)
theorem dX0_cow_21 : decode cX0_cow 21 = .ok (.iconst 0, 1) := dk_3 (dk_at dksX0_cow_0 21 rfl rfl)
theorem dX0_cow_22 : decode cX0_cow 22 = .ok (.ireturn, 1) := dk_172 (dk_at dksX0_cow_0 22 rfl rfl)
abbrev cX0_curve : ByteArray := method_16_code
def yX0_curve : MethodName := ⟨RX0, "curve", "(LDairyBook;II[J)I"⟩
def dkwX0_curve_0 : List UInt8 := [45, 3, 42, 27, 28, 182, 0, 63, 133, 80, 167, 0, 11, 58, 4, 4, 172, 58, 4, 5, 172, 3, 172]
abbrev dktX0_curve_0 : List UInt8 := dkwX0_curve_0 ++ []
theorem dksX0_curve_0 : cX0_curve.data.toList.drop 0 = dktX0_curve_0 := by decide +kernel
theorem dX0_curve_0 : decode cX0_curve 0 = .ok (.aload_n 3, 1) := dk_45 (dk_at dksX0_curve_0 0 rfl rfl)
theorem dX0_curve_1 : decode cX0_curve 1 = .ok (.iconst 0, 1) := dk_3 (dk_at dksX0_curve_0 1 rfl rfl)
theorem dX0_curve_2 : decode cX0_curve 2 = .ok (.aload_n 0, 1) := dk_42 (dk_at dksX0_curve_0 2 rfl rfl)
theorem dX0_curve_3 : decode cX0_curve 3 = .ok (.iload_n 1, 1) := dk_27 (dk_at dksX0_curve_0 3 rfl rfl)
theorem dX0_curve_4 : decode cX0_curve 4 = .ok (.iload_n 2, 1) := dk_28 (dk_at dksX0_curve_0 4 rfl rfl)
theorem dX0_curve_5 : decode cX0_curve 5 = .ok (.invokevirtual 63, 3) := dk_182 0 63 (dk_at dksX0_curve_0 5 rfl rfl)
theorem dX0_curve_8 : decode cX0_curve 8 = .ok (.i2l, 1) := dk_133 (dk_at dksX0_curve_0 8 rfl rfl)
theorem dX0_curve_9 : decode cX0_curve 9 = .ok (.lastore, 1) := dk_80 (dk_at dksX0_curve_0 9 rfl rfl)
theorem dX0_curve_10 : decode cX0_curve 10 = .ok (.goto 11, 3) := dk_167 0 11 (dk_at dksX0_curve_0 10 rfl rfl)
theorem dX0_curve_13 : decode cX0_curve 13 = .ok (.astore 4, 2) := dk_58 4 (dk_at dksX0_curve_0 13 rfl rfl)
theorem dX0_curve_15 : decode cX0_curve 15 = .ok (.iconst 1, 1) := dk_4 (dk_at dksX0_curve_0 15 rfl rfl)
theorem dX0_curve_16 : decode cX0_curve 16 = .ok (.ireturn, 1) := dk_172 (dk_at dksX0_curve_0 16 rfl rfl)
theorem dX0_curve_17 : decode cX0_curve 17 = .ok (.astore 4, 2) := dk_58 4 (dk_at dksX0_curve_0 17 rfl rfl)
theorem dX0_curve_19 : decode cX0_curve 19 = .ok (.iconst 2, 1) := dk_5 (dk_at dksX0_curve_0 19 rfl rfl)
theorem dX0_curve_20 : decode cX0_curve 20 = .ok (.ireturn, 1) := dk_172 (dk_at dksX0_curve_0 20 rfl rfl)
theorem dX0_curve_21 : decode cX0_curve 21 = .ok (.iconst 0, 1) := dk_3 (dk_at dksX0_curve_0 21 rfl rfl)
theorem dX0_curve_22 : decode cX0_curve 22 = .ok (.ireturn, 1) := dk_172 (dk_at dksX0_curve_0 22 rfl rfl)
abbrev cX0_dryDay : ByteArray := method_17_code
def yX0_dryDay : MethodName := ⟨RX0, "dryDay", "(LDairyBook;I[J)I"⟩
def dkwX0_dryDay_0 : List UInt8 := [44, 3, 42, 27, 182, 0, 66, 133, 80, 167, 0, 9, 78, 4, 172, 78, 5, 172, 3, 172]
abbrev dktX0_dryDay_0 : List UInt8 := dkwX0_dryDay_0 ++ []
theorem dksX0_dryDay_0 : cX0_dryDay.data.toList.drop 0 = dktX0_dryDay_0 := by decide +kernel
theorem dX0_dryDay_0 : decode cX0_dryDay 0 = .ok (.aload_n 2, 1) := dk_44 (dk_at dksX0_dryDay_0 0 rfl rfl)
theorem dX0_dryDay_1 : decode cX0_dryDay 1 = .ok (.iconst 0, 1) := dk_3 (dk_at dksX0_dryDay_0 1 rfl rfl)
theorem dX0_dryDay_2 : decode cX0_dryDay 2 = .ok (.aload_n 0, 1) := dk_42 (dk_at dksX0_dryDay_0 2 rfl rfl)
theorem dX0_dryDay_3 : decode cX0_dryDay 3 = .ok (.iload_n 1, 1) := dk_27 (dk_at dksX0_dryDay_0 3 rfl rfl)
theorem dX0_dryDay_4 : decode cX0_dryDay 4 = .ok (.invokevirtual 66, 3) := dk_182 0 66 (dk_at dksX0_dryDay_0 4 rfl rfl)
theorem dX0_dryDay_7 : decode cX0_dryDay 7 = .ok (.i2l, 1) := dk_133 (dk_at dksX0_dryDay_0 7 rfl rfl)
theorem dX0_dryDay_8 : decode cX0_dryDay 8 = .ok (.lastore, 1) := dk_80 (dk_at dksX0_dryDay_0 8 rfl rfl)
theorem dX0_dryDay_9 : decode cX0_dryDay 9 = .ok (.goto 9, 3) := dk_167 0 9 (dk_at dksX0_dryDay_0 9 rfl rfl)
theorem dX0_dryDay_12 : decode cX0_dryDay 12 = .ok (.astore_n 3, 1) := dk_78 (dk_at dksX0_dryDay_0 12 rfl rfl)
theorem dX0_dryDay_13 : decode cX0_dryDay 13 = .ok (.iconst 1, 1) := dk_4 (dk_at dksX0_dryDay_0 13 rfl rfl)
theorem dX0_dryDay_14 : decode cX0_dryDay 14 = .ok (.ireturn, 1) := dk_172 (dk_at dksX0_dryDay_0 14 rfl rfl)
theorem dX0_dryDay_15 : decode cX0_dryDay 15 = .ok (.astore_n 3, 1) := dk_78 (dk_at dksX0_dryDay_0 15 rfl rfl)
theorem dX0_dryDay_16 : decode cX0_dryDay 16 = .ok (.iconst 2, 1) := dk_5 (dk_at dksX0_dryDay_0 16 rfl rfl)
theorem dX0_dryDay_17 : decode cX0_dryDay 17 = .ok (.ireturn, 1) := dk_172 (dk_at dksX0_dryDay_0 17 rfl rfl)
theorem dX0_dryDay_18 : decode cX0_dryDay 18 = .ok (.iconst 0, 1) := dk_3 (dk_at dksX0_dryDay_0 18 rfl rfl)
theorem dX0_dryDay_19 : decode cX0_dryDay 19 = .ok (.ireturn, 1) := dk_172 (dk_at dksX0_dryDay_0 19 rfl rfl)
abbrev cX0_forecast : ByteArray := method_18_code
def yX0_forecast : MethodName := ⟨RX0, "forecast", "(LDairyBook;I[J)I"⟩
def dkwX0_forecast_0 : List UInt8 := [44, 3, 42, 27, 182, 0, 69, 133, 80, 167, 0, 6, 78, 4, 172, 3, 172]
abbrev dktX0_forecast_0 : List UInt8 := dkwX0_forecast_0 ++ []
theorem dksX0_forecast_0 : cX0_forecast.data.toList.drop 0 = dktX0_forecast_0 := by decide +kernel
theorem dX0_forecast_0 : decode cX0_forecast 0 = .ok (.aload_n 2, 1) := dk_44 (dk_at dksX0_forecast_0 0 rfl rfl)
theorem dX0_forecast_1 : decode cX0_forecast 1 = .ok (.iconst 0, 1) := dk_3 (dk_at dksX0_forecast_0 1 rfl rfl)
theorem dX0_forecast_2 : decode cX0_forecast 2 = .ok (.aload_n 0, 1) := dk_42 (dk_at dksX0_forecast_0 2 rfl rfl)
theorem dX0_forecast_3 : decode cX0_forecast 3 = .ok (.iload_n 1, 1) := dk_27 (dk_at dksX0_forecast_0 3 rfl rfl)
theorem dX0_forecast_4 : decode cX0_forecast 4 = .ok (.invokevirtual 69, 3) := dk_182 0 69 (dk_at dksX0_forecast_0 4 rfl rfl)
theorem dX0_forecast_7 : decode cX0_forecast 7 = .ok (.i2l, 1) := dk_133 (dk_at dksX0_forecast_0 7 rfl rfl)
theorem dX0_forecast_8 : decode cX0_forecast 8 = .ok (.lastore, 1) := dk_80 (dk_at dksX0_forecast_0 8 rfl rfl)
theorem dX0_forecast_9 : decode cX0_forecast 9 = .ok (.goto 6, 3) := dk_167 0 6 (dk_at dksX0_forecast_0 9 rfl rfl)
theorem dX0_forecast_12 : decode cX0_forecast 12 = .ok (.astore_n 3, 1) := dk_78 (dk_at dksX0_forecast_0 12 rfl rfl)
theorem dX0_forecast_13 : decode cX0_forecast 13 = .ok (.iconst 1, 1) := dk_4 (dk_at dksX0_forecast_0 13 rfl rfl)
theorem dX0_forecast_14 : decode cX0_forecast 14 = .ok (.ireturn, 1) := dk_172 (dk_at dksX0_forecast_0 14 rfl rfl)
theorem dX0_forecast_15 : decode cX0_forecast 15 = .ok (.iconst 0, 1) := dk_3 (dk_at dksX0_forecast_0 15 rfl rfl)
theorem dX0_forecast_16 : decode cX0_forecast 16 = .ok (.ireturn, 1) := dk_172 (dk_at dksX0_forecast_0 16 rfl rfl)
abbrev cX0_tank : ByteArray := method_19_code
def yX0_tank : MethodName := ⟨RX0, "tank", "(LDairyBook;I[J)I"⟩
def dkwX0_tank_0 : List UInt8 := [44, 3, 42, 27, 182, 0, 72, 133, 80, 167, 0, 6, 78, 4, 172, 3, 172]
abbrev dktX0_tank_0 : List UInt8 := dkwX0_tank_0 ++ []
theorem dksX0_tank_0 : cX0_tank.data.toList.drop 0 = dktX0_tank_0 := by decide +kernel
theorem dX0_tank_0 : decode cX0_tank 0 = .ok (.aload_n 2, 1) := dk_44 (dk_at dksX0_tank_0 0 rfl rfl)
theorem dX0_tank_1 : decode cX0_tank 1 = .ok (.iconst 0, 1) := dk_3 (dk_at dksX0_tank_0 1 rfl rfl)
theorem dX0_tank_2 : decode cX0_tank 2 = .ok (.aload_n 0, 1) := dk_42 (dk_at dksX0_tank_0 2 rfl rfl)
theorem dX0_tank_3 : decode cX0_tank 3 = .ok (.iload_n 1, 1) := dk_27 (dk_at dksX0_tank_0 3 rfl rfl)
theorem dX0_tank_4 : decode cX0_tank 4 = .ok (.invokevirtual 72, 3) := dk_182 0 72 (dk_at dksX0_tank_0 4 rfl rfl)
theorem dX0_tank_7 : decode cX0_tank 7 = .ok (.i2l, 1) := dk_133 (dk_at dksX0_tank_0 7 rfl rfl)
theorem dX0_tank_8 : decode cX0_tank 8 = .ok (.lastore, 1) := dk_80 (dk_at dksX0_tank_0 8 rfl rfl)
theorem dX0_tank_9 : decode cX0_tank 9 = .ok (.goto 6, 3) := dk_167 0 6 (dk_at dksX0_tank_0 9 rfl rfl)
theorem dX0_tank_12 : decode cX0_tank 12 = .ok (.astore_n 3, 1) := dk_78 (dk_at dksX0_tank_0 12 rfl rfl)
theorem dX0_tank_13 : decode cX0_tank 13 = .ok (.iconst 1, 1) := dk_4 (dk_at dksX0_tank_0 13 rfl rfl)
theorem dX0_tank_14 : decode cX0_tank 14 = .ok (.ireturn, 1) := dk_172 (dk_at dksX0_tank_0 14 rfl rfl)
theorem dX0_tank_15 : decode cX0_tank 15 = .ok (.iconst 0, 1) := dk_3 (dk_at dksX0_tank_0 15 rfl rfl)
theorem dX0_tank_16 : decode cX0_tank 16 = .ok (.ireturn, 1) := dk_172 (dk_at dksX0_tank_0 16 rfl rfl)
abbrev cX0_pickup : ByteArray := method_20_code
def yX0_pickup : MethodName := ⟨RX0, "pickup", "(LDairyBook;II[J)I"⟩
def dkwX0_pickup_0 : List UInt8 := [45, 3, 42, 27, 28, 182, 0, 75, 133, 80, 167, 0, 11, 58, 4, 4, 172, 58, 4, 5, 172, 3, 172]
abbrev dktX0_pickup_0 : List UInt8 := dkwX0_pickup_0 ++ []
theorem dksX0_pickup_0 : cX0_pickup.data.toList.drop 0 = dktX0_pickup_0 := by decide +kernel
theorem dX0_pickup_0 : decode cX0_pickup 0 = .ok (.aload_n 3, 1) := dk_45 (dk_at dksX0_pickup_0 0 rfl rfl)
theorem dX0_pickup_1 : decode cX0_pickup 1 = .ok (.iconst 0, 1) := dk_3 (dk_at dksX0_pickup_0 1 rfl rfl)
theorem dX0_pickup_2 : decode cX0_pickup 2 = .ok (.aload_n 0, 1) := dk_42 (dk_at dksX0_pickup_0 2 rfl rfl)
theorem dX0_pickup_3 : decode cX0_pickup 3 = .ok (.iload_n 1, 1) := dk_27 (dk_at dksX0_pickup_0 3 rfl rfl)
theorem dX0_pickup_4 : decode cX0_pickup 4 = .ok (.iload_n 2, 1) := dk_28 (dk_at dksX0_pickup_0 4 rfl rfl)
theorem dX0_pickup_5 : decode cX0_pickup 5 = .ok (.invokevirtual 75, 3) := dk_182 0 75 (dk_at dksX0_pickup_0 5 rfl rfl)
theorem dX0_pickup_8 : decode cX0_pickup 8 = .ok (.i2l, 1) := dk_133 (dk_at dksX0_pickup_0 8 rfl rfl)
theorem dX0_pickup_9 : decode cX0_pickup 9 = .ok (.lastore, 1) := dk_80 (dk_at dksX0_pickup_0 9 rfl rfl)
theorem dX0_pickup_10 : decode cX0_pickup 10 = .ok (.goto 11, 3) := dk_167 0 11 (dk_at dksX0_pickup_0 10 rfl rfl)
theorem dX0_pickup_13 : decode cX0_pickup 13 = .ok (.astore 4, 2) := dk_58 4 (dk_at dksX0_pickup_0 13 rfl rfl)
theorem dX0_pickup_15 : decode cX0_pickup 15 = .ok (.iconst 1, 1) := dk_4 (dk_at dksX0_pickup_0 15 rfl rfl)
theorem dX0_pickup_16 : decode cX0_pickup 16 = .ok (.ireturn, 1) := dk_172 (dk_at dksX0_pickup_0 16 rfl rfl)
theorem dX0_pickup_17 : decode cX0_pickup 17 = .ok (.astore 4, 2) := dk_58 4 (dk_at dksX0_pickup_0 17 rfl rfl)
theorem dX0_pickup_19 : decode cX0_pickup 19 = .ok (.iconst 2, 1) := dk_5 (dk_at dksX0_pickup_0 19 rfl rfl)
theorem dX0_pickup_20 : decode cX0_pickup 20 = .ok (.ireturn, 1) := dk_172 (dk_at dksX0_pickup_0 20 rfl rfl)
theorem dX0_pickup_21 : decode cX0_pickup 21 = .ok (.iconst 0, 1) := dk_3 (dk_at dksX0_pickup_0 21 rfl rfl)
theorem dX0_pickup_22 : decode cX0_pickup 22 = .ok (.ireturn, 1) := dk_172 (dk_at dksX0_pickup_0 22 rfl rfl)
abbrev cX0_mean : ByteArray := method_21_code
def yX0_mean : MethodName := ⟨RX0, "mean", "(LDairyBook;II[D)I"⟩
def dkwX0_mean_0 : List UInt8 := [45, 3, 42, 27, 28, 182, 0, 78, 82, 167, 0, 11, 58, 4, 4, 172, 58, 4, 5, 172, 3, 172]
abbrev dktX0_mean_0 : List UInt8 := dkwX0_mean_0 ++ []
theorem dksX0_mean_0 : cX0_mean.data.toList.drop 0 = dktX0_mean_0 := by decide +kernel
theorem dX0_mean_0 : decode cX0_mean 0 = .ok (.aload_n 3, 1) := dk_45 (dk_at dksX0_mean_0 0 rfl rfl)
theorem dX0_mean_1 : decode cX0_mean 1 = .ok (.iconst 0, 1) := dk_3 (dk_at dksX0_mean_0 1 rfl rfl)
theorem dX0_mean_2 : decode cX0_mean 2 = .ok (.aload_n 0, 1) := dk_42 (dk_at dksX0_mean_0 2 rfl rfl)
theorem dX0_mean_3 : decode cX0_mean 3 = .ok (.iload_n 1, 1) := dk_27 (dk_at dksX0_mean_0 3 rfl rfl)
theorem dX0_mean_4 : decode cX0_mean 4 = .ok (.iload_n 2, 1) := dk_28 (dk_at dksX0_mean_0 4 rfl rfl)
theorem dX0_mean_5 : decode cX0_mean 5 = .ok (.invokevirtual 78, 3) := dk_182 0 78 (dk_at dksX0_mean_0 5 rfl rfl)
theorem dX0_mean_8 : decode cX0_mean 8 = .ok (.dastore, 1) := dk_82 (dk_at dksX0_mean_0 8 rfl rfl)
theorem dX0_mean_9 : decode cX0_mean 9 = .ok (.goto 11, 3) := dk_167 0 11 (dk_at dksX0_mean_0 9 rfl rfl)
theorem dX0_mean_12 : decode cX0_mean 12 = .ok (.astore 4, 2) := dk_58 4 (dk_at dksX0_mean_0 12 rfl rfl)
theorem dX0_mean_14 : decode cX0_mean 14 = .ok (.iconst 1, 1) := dk_4 (dk_at dksX0_mean_0 14 rfl rfl)
theorem dX0_mean_15 : decode cX0_mean 15 = .ok (.ireturn, 1) := dk_172 (dk_at dksX0_mean_0 15 rfl rfl)
theorem dX0_mean_16 : decode cX0_mean 16 = .ok (.astore 4, 2) := dk_58 4 (dk_at dksX0_mean_0 16 rfl rfl)
theorem dX0_mean_18 : decode cX0_mean 18 = .ok (.iconst 2, 1) := dk_5 (dk_at dksX0_mean_0 18 rfl rfl)
theorem dX0_mean_19 : decode cX0_mean 19 = .ok (.ireturn, 1) := dk_172 (dk_at dksX0_mean_0 19 rfl rfl)
theorem dX0_mean_20 : decode cX0_mean 20 = .ok (.iconst 0, 1) := dk_3 (dk_at dksX0_mean_0 20 rfl rfl)
theorem dX0_mean_21 : decode cX0_mean 21 = .ok (.ireturn, 1) := dk_172 (dk_at dksX0_mean_0 21 rfl rfl)
abbrev cX0_greatest : ByteArray := method_22_code
def yX0_greatest : MethodName := ⟨RX0, "greatest", "(LDairyBook;I[J)I"⟩
def dkwX0_greatest_0 : List UInt8 := [44, 3, 42, 27, 182, 0, 82, 133, 80, 167, 0, 9, 78, 4, 172, 78, 5, 172, 3, 172]
abbrev dktX0_greatest_0 : List UInt8 := dkwX0_greatest_0 ++ []
theorem dksX0_greatest_0 : cX0_greatest.data.toList.drop 0 = dktX0_greatest_0 := by decide +kernel
theorem dX0_greatest_0 : decode cX0_greatest 0 = .ok (.aload_n 2, 1) := dk_44 (dk_at dksX0_greatest_0 0 rfl rfl)
theorem dX0_greatest_1 : decode cX0_greatest 1 = .ok (.iconst 0, 1) := dk_3 (dk_at dksX0_greatest_0 1 rfl rfl)
theorem dX0_greatest_2 : decode cX0_greatest 2 = .ok (.aload_n 0, 1) := dk_42 (dk_at dksX0_greatest_0 2 rfl rfl)
theorem dX0_greatest_3 : decode cX0_greatest 3 = .ok (.iload_n 1, 1) := dk_27 (dk_at dksX0_greatest_0 3 rfl rfl)
theorem dX0_greatest_4 : decode cX0_greatest 4 = .ok (.invokevirtual 82, 3) := dk_182 0 82 (dk_at dksX0_greatest_0 4 rfl rfl)
theorem dX0_greatest_7 : decode cX0_greatest 7 = .ok (.i2l, 1) := dk_133 (dk_at dksX0_greatest_0 7 rfl rfl)
theorem dX0_greatest_8 : decode cX0_greatest 8 = .ok (.lastore, 1) := dk_80 (dk_at dksX0_greatest_0 8 rfl rfl)
theorem dX0_greatest_9 : decode cX0_greatest 9 = .ok (.goto 9, 3) := dk_167 0 9 (dk_at dksX0_greatest_0 9 rfl rfl)
theorem dX0_greatest_12 : decode cX0_greatest 12 = .ok (.astore_n 3, 1) := dk_78 (dk_at dksX0_greatest_0 12 rfl rfl)
theorem dX0_greatest_13 : decode cX0_greatest 13 = .ok (.iconst 1, 1) := dk_4 (dk_at dksX0_greatest_0 13 rfl rfl)
theorem dX0_greatest_14 : decode cX0_greatest 14 = .ok (.ireturn, 1) := dk_172 (dk_at dksX0_greatest_0 14 rfl rfl)
theorem dX0_greatest_15 : decode cX0_greatest 15 = .ok (.astore_n 3, 1) := dk_78 (dk_at dksX0_greatest_0 15 rfl rfl)
theorem dX0_greatest_16 : decode cX0_greatest 16 = .ok (.iconst 2, 1) := dk_5 (dk_at dksX0_greatest_0 16 rfl rfl)
theorem dX0_greatest_17 : decode cX0_greatest 17 = .ok (.ireturn, 1) := dk_172 (dk_at dksX0_greatest_0 17 rfl rfl)
theorem dX0_greatest_18 : decode cX0_greatest 18 = .ok (.iconst 0, 1) := dk_3 (dk_at dksX0_greatest_0 18 rfl rfl)
theorem dX0_greatest_19 : decode cX0_greatest 19 = .ok (.ireturn, 1) := dk_172 (dk_at dksX0_greatest_0 19 rfl rfl)
abbrev cX0_writePickup : ByteArray := method_23_code
def yX0_writePickup : MethodName := ⟨RX0, "writePickup", "(LDairyBook;I[J)I"⟩
def dkwX0_writePickup_0 : List UInt8 := [44, 3, 42, 27, 182, 0, 85, 133, 80, 167, 0, 6, 78, 4, 172, 3, 172]
abbrev dktX0_writePickup_0 : List UInt8 := dkwX0_writePickup_0 ++ []
theorem dksX0_writePickup_0 : cX0_writePickup.data.toList.drop 0 = dktX0_writePickup_0 := by decide +kernel
theorem dX0_writePickup_0 : decode cX0_writePickup 0 = .ok (.aload_n 2, 1) := dk_44 (dk_at dksX0_writePickup_0 0 rfl rfl)
theorem dX0_writePickup_1 : decode cX0_writePickup 1 = .ok (.iconst 0, 1) := dk_3 (dk_at dksX0_writePickup_0 1 rfl rfl)
theorem dX0_writePickup_2 : decode cX0_writePickup 2 = .ok (.aload_n 0, 1) := dk_42 (dk_at dksX0_writePickup_0 2 rfl rfl)
theorem dX0_writePickup_3 : decode cX0_writePickup 3 = .ok (.iload_n 1, 1) := dk_27 (dk_at dksX0_writePickup_0 3 rfl rfl)
theorem dX0_writePickup_4 : decode cX0_writePickup 4 = .ok (.invokevirtual 85, 3) := dk_182 0 85 (dk_at dksX0_writePickup_0 4 rfl rfl)
theorem dX0_writePickup_7 : decode cX0_writePickup 7 = .ok (.i2l, 1) := dk_133 (dk_at dksX0_writePickup_0 7 rfl rfl)
theorem dX0_writePickup_8 : decode cX0_writePickup 8 = .ok (.lastore, 1) := dk_80 (dk_at dksX0_writePickup_0 8 rfl rfl)
theorem dX0_writePickup_9 : decode cX0_writePickup 9 = .ok (.goto 6, 3) := dk_167 0 6 (dk_at dksX0_writePickup_0 9 rfl rfl)
theorem dX0_writePickup_12 : decode cX0_writePickup 12 = .ok (.astore_n 3, 1) := dk_78 (dk_at dksX0_writePickup_0 12 rfl rfl)
theorem dX0_writePickup_13 : decode cX0_writePickup 13 = .ok (.iconst 1, 1) := dk_4 (dk_at dksX0_writePickup_0 13 rfl rfl)
theorem dX0_writePickup_14 : decode cX0_writePickup 14 = .ok (.ireturn, 1) := dk_172 (dk_at dksX0_writePickup_0 14 rfl rfl)
theorem dX0_writePickup_15 : decode cX0_writePickup 15 = .ok (.iconst 0, 1) := dk_3 (dk_at dksX0_writePickup_0 15 rfl rfl)
theorem dX0_writePickup_16 : decode cX0_writePickup 16 = .ok (.ireturn, 1) := dk_172 (dk_at dksX0_writePickup_0 16 rfl rfl)
abbrev cX0_writeCow : ByteArray := method_24_code
def yX0_writeCow : MethodName := ⟨RX0, "writeCow", "(LDairyBook;I[J)I"⟩
def dkwX0_writeCow_0 : List UInt8 := [44, 3, 42, 27, 182, 0, 88, 133, 80, 167, 0, 6, 78, 4, 172, 3, 172]
abbrev dktX0_writeCow_0 : List UInt8 := dkwX0_writeCow_0 ++ []
theorem dksX0_writeCow_0 : cX0_writeCow.data.toList.drop 0 = dktX0_writeCow_0 := by decide +kernel
theorem dX0_writeCow_0 : decode cX0_writeCow 0 = .ok (.aload_n 2, 1) := dk_44 (dk_at dksX0_writeCow_0 0 rfl rfl)
theorem dX0_writeCow_1 : decode cX0_writeCow 1 = .ok (.iconst 0, 1) := dk_3 (dk_at dksX0_writeCow_0 1 rfl rfl)
theorem dX0_writeCow_2 : decode cX0_writeCow 2 = .ok (.aload_n 0, 1) := dk_42 (dk_at dksX0_writeCow_0 2 rfl rfl)
theorem dX0_writeCow_3 : decode cX0_writeCow 3 = .ok (.iload_n 1, 1) := dk_27 (dk_at dksX0_writeCow_0 3 rfl rfl)
theorem dX0_writeCow_4 : decode cX0_writeCow 4 = .ok (.invokevirtual 88, 3) := dk_182 0 88 (dk_at dksX0_writeCow_0 4 rfl rfl)
theorem dX0_writeCow_7 : decode cX0_writeCow 7 = .ok (.i2l, 1) := dk_133 (dk_at dksX0_writeCow_0 7 rfl rfl)
theorem dX0_writeCow_8 : decode cX0_writeCow 8 = .ok (.lastore, 1) := dk_80 (dk_at dksX0_writeCow_0 8 rfl rfl)
theorem dX0_writeCow_9 : decode cX0_writeCow 9 = .ok (.goto 6, 3) := dk_167 0 6 (dk_at dksX0_writeCow_0 9 rfl rfl)
theorem dX0_writeCow_12 : decode cX0_writeCow 12 = .ok (.astore_n 3, 1) := dk_78 (dk_at dksX0_writeCow_0 12 rfl rfl)
theorem dX0_writeCow_13 : decode cX0_writeCow 13 = .ok (.iconst 1, 1) := dk_4 (dk_at dksX0_writeCow_0 13 rfl rfl)
theorem dX0_writeCow_14 : decode cX0_writeCow 14 = .ok (.ireturn, 1) := dk_172 (dk_at dksX0_writeCow_0 14 rfl rfl)
theorem dX0_writeCow_15 : decode cX0_writeCow 15 = .ok (.iconst 0, 1) := dk_3 (dk_at dksX0_writeCow_0 15 rfl rfl)
theorem dX0_writeCow_16 : decode cX0_writeCow 16 = .ok (.ireturn, 1) := dk_172 (dk_at dksX0_writeCow_0 16 rfl rfl)
abbrev cX0_written : ByteArray := method_25_code
def yX0_written : MethodName := ⟨RX0, "written", "(LDairyBook;I[J)I"⟩
def dkwX0_written_0 : List UInt8 := [44, 3, 42, 27, 182, 0, 91, 133, 80, 167, 0, 6, 78, 4, 172, 3, 172]
abbrev dktX0_written_0 : List UInt8 := dkwX0_written_0 ++ []
theorem dksX0_written_0 : cX0_written.data.toList.drop 0 = dktX0_written_0 := by decide +kernel
theorem dX0_written_0 : decode cX0_written 0 = .ok (.aload_n 2, 1) := dk_44 (dk_at dksX0_written_0 0 rfl rfl)
theorem dX0_written_1 : decode cX0_written 1 = .ok (.iconst 0, 1) := dk_3 (dk_at dksX0_written_0 1 rfl rfl)
theorem dX0_written_2 : decode cX0_written 2 = .ok (.aload_n 0, 1) := dk_42 (dk_at dksX0_written_0 2 rfl rfl)
theorem dX0_written_3 : decode cX0_written 3 = .ok (.iload_n 1, 1) := dk_27 (dk_at dksX0_written_0 3 rfl rfl)
theorem dX0_written_4 : decode cX0_written 4 = .ok (.invokevirtual 91, 3) := dk_182 0 91 (dk_at dksX0_written_0 4 rfl rfl)
theorem dX0_written_7 : decode cX0_written 7 = .ok (.i2l, 1) := dk_133 (dk_at dksX0_written_0 7 rfl rfl)
theorem dX0_written_8 : decode cX0_written 8 = .ok (.lastore, 1) := dk_80 (dk_at dksX0_written_0 8 rfl rfl)
theorem dX0_written_9 : decode cX0_written 9 = .ok (.goto 6, 3) := dk_167 0 6 (dk_at dksX0_written_0 9 rfl rfl)
theorem dX0_written_12 : decode cX0_written 12 = .ok (.astore_n 3, 1) := dk_78 (dk_at dksX0_written_0 12 rfl rfl)
theorem dX0_written_13 : decode cX0_written 13 = .ok (.iconst 1, 1) := dk_4 (dk_at dksX0_written_0 13 rfl rfl)
theorem dX0_written_14 : decode cX0_written 14 = .ok (.ireturn, 1) := dk_172 (dk_at dksX0_written_0 14 rfl rfl)
theorem dX0_written_15 : decode cX0_written 15 = .ok (.iconst 0, 1) := dk_3 (dk_at dksX0_written_0 15 rfl rfl)
theorem dX0_written_16 : decode cX0_written 16 = .ok (.ireturn, 1) := dk_172 (dk_at dksX0_written_0 16 rfl rfl)
abbrev cX0_append : ByteArray := method_26_code
def yX0_append : MethodName := ⟨RX0, "append", "(LDairyBook;C)I"⟩
def dkwX0_append_0 : List UInt8 := [42, 27, 182, 0, 95, 167, 0, 6, 77, 4, 172, 3, 172]
abbrev dktX0_append_0 : List UInt8 := dkwX0_append_0 ++ []
theorem dksX0_append_0 : cX0_append.data.toList.drop 0 = dktX0_append_0 := by decide +kernel
theorem dX0_append_0 : decode cX0_append 0 = .ok (.aload_n 0, 1) := dk_42 (dk_at dksX0_append_0 0 rfl rfl)
theorem dX0_append_1 : decode cX0_append 1 = .ok (.iload_n 1, 1) := dk_27 (dk_at dksX0_append_0 1 rfl rfl)
theorem dX0_append_2 : decode cX0_append 2 = .ok (.invokevirtual 95, 3) := dk_182 0 95 (dk_at dksX0_append_0 2 rfl rfl)
theorem dX0_append_5 : decode cX0_append 5 = .ok (.goto 6, 3) := dk_167 0 6 (dk_at dksX0_append_0 5 rfl rfl)
theorem dX0_append_8 : decode cX0_append 8 = .ok (.astore_n 2, 1) := dk_77 (dk_at dksX0_append_0 8 rfl rfl)
theorem dX0_append_9 : decode cX0_append 9 = .ok (.iconst 1, 1) := dk_4 (dk_at dksX0_append_0 9 rfl rfl)
theorem dX0_append_10 : decode cX0_append 10 = .ok (.ireturn, 1) := dk_172 (dk_at dksX0_append_0 10 rfl rfl)
theorem dX0_append_11 : decode cX0_append 11 = .ok (.iconst 0, 1) := dk_3 (dk_at dksX0_append_0 11 rfl rfl)
theorem dX0_append_12 : decode cX0_append 12 = .ok (.ireturn, 1) := dk_172 (dk_at dksX0_append_0 12 rfl rfl)
abbrev cX0_order : ByteArray := method_27_code
def yX0_order : MethodName := ⟨RX0, "order", "(LDairyBook;[J)I"⟩
def dkwX0_order_0 : List UInt8 := [43, 3, 42, 182, 0, 99, 133, 80, 167, 0, 9, 77, 4, 172, 77, 5, 172, 3, 172]
abbrev dktX0_order_0 : List UInt8 := dkwX0_order_0 ++ []
theorem dksX0_order_0 : cX0_order.data.toList.drop 0 = dktX0_order_0 := by decide +kernel
theorem dX0_order_0 : decode cX0_order 0 = .ok (.aload_n 1, 1) := dk_43 (dk_at dksX0_order_0 0 rfl rfl)
theorem dX0_order_1 : decode cX0_order 1 = .ok (.iconst 0, 1) := dk_3 (dk_at dksX0_order_0 1 rfl rfl)
theorem dX0_order_2 : decode cX0_order 2 = .ok (.aload_n 0, 1) := dk_42 (dk_at dksX0_order_0 2 rfl rfl)
theorem dX0_order_3 : decode cX0_order 3 = .ok (.invokevirtual 99, 3) := dk_182 0 99 (dk_at dksX0_order_0 3 rfl rfl)
theorem dX0_order_6 : decode cX0_order 6 = .ok (.i2l, 1) := dk_133 (dk_at dksX0_order_0 6 rfl rfl)
theorem dX0_order_7 : decode cX0_order 7 = .ok (.lastore, 1) := dk_80 (dk_at dksX0_order_0 7 rfl rfl)
theorem dX0_order_8 : decode cX0_order 8 = .ok (.goto 9, 3) := dk_167 0 9 (dk_at dksX0_order_0 8 rfl rfl)
theorem dX0_order_11 : decode cX0_order 11 = .ok (.astore_n 2, 1) := dk_77 (dk_at dksX0_order_0 11 rfl rfl)
theorem dX0_order_12 : decode cX0_order 12 = .ok (.iconst 1, 1) := dk_4 (dk_at dksX0_order_0 12 rfl rfl)
theorem dX0_order_13 : decode cX0_order 13 = .ok (.ireturn, 1) := dk_172 (dk_at dksX0_order_0 13 rfl rfl)
theorem dX0_order_14 : decode cX0_order 14 = .ok (.astore_n 2, 1) := dk_77 (dk_at dksX0_order_0 14 rfl rfl)
theorem dX0_order_15 : decode cX0_order 15 = .ok (.iconst 2, 1) := dk_5 (dk_at dksX0_order_0 15 rfl rfl)
theorem dX0_order_16 : decode cX0_order 16 = .ok (.ireturn, 1) := dk_172 (dk_at dksX0_order_0 16 rfl rfl)
theorem dX0_order_17 : decode cX0_order 17 = .ok (.iconst 0, 1) := dk_3 (dk_at dksX0_order_0 17 rfl rfl)
theorem dX0_order_18 : decode cX0_order 18 = .ok (.ireturn, 1) := dk_172 (dk_at dksX0_order_0 18 rfl rfl)
abbrev cX0_account : ByteArray := method_28_code
def yX0_account : MethodName := ⟨RX0, "account", "(LDairyBook;I[J)I"⟩
def dkwX0_account_0 : List UInt8 := [44, 3, 42, 27, 182, 0, 102, 133, 80, 167, 0, 6, 78, 4, 172, 3, 172]
abbrev dktX0_account_0 : List UInt8 := dkwX0_account_0 ++ []
theorem dksX0_account_0 : cX0_account.data.toList.drop 0 = dktX0_account_0 := by decide +kernel
theorem dX0_account_0 : decode cX0_account 0 = .ok (.aload_n 2, 1) := dk_44 (dk_at dksX0_account_0 0 rfl rfl)
theorem dX0_account_1 : decode cX0_account 1 = .ok (.iconst 0, 1) := dk_3 (dk_at dksX0_account_0 1 rfl rfl)
theorem dX0_account_2 : decode cX0_account 2 = .ok (.aload_n 0, 1) := dk_42 (dk_at dksX0_account_0 2 rfl rfl)
theorem dX0_account_3 : decode cX0_account 3 = .ok (.iload_n 1, 1) := dk_27 (dk_at dksX0_account_0 3 rfl rfl)
theorem dX0_account_4 : decode cX0_account 4 = .ok (.invokevirtual 102, 3) := dk_182 0 102 (dk_at dksX0_account_0 4 rfl rfl)
theorem dX0_account_7 : decode cX0_account 7 = .ok (.i2l, 1) := dk_133 (dk_at dksX0_account_0 7 rfl rfl)
theorem dX0_account_8 : decode cX0_account 8 = .ok (.lastore, 1) := dk_80 (dk_at dksX0_account_0 8 rfl rfl)
theorem dX0_account_9 : decode cX0_account 9 = .ok (.goto 6, 3) := dk_167 0 6 (dk_at dksX0_account_0 9 rfl rfl)
theorem dX0_account_12 : decode cX0_account 12 = .ok (.astore_n 3, 1) := dk_78 (dk_at dksX0_account_0 12 rfl rfl)
theorem dX0_account_13 : decode cX0_account 13 = .ok (.iconst 1, 1) := dk_4 (dk_at dksX0_account_0 13 rfl rfl)
theorem dX0_account_14 : decode cX0_account 14 = .ok (.ireturn, 1) := dk_172 (dk_at dksX0_account_0 14 rfl rfl)
theorem dX0_account_15 : decode cX0_account 15 = .ok (.iconst 0, 1) := dk_3 (dk_at dksX0_account_0 15 rfl rfl)
theorem dX0_account_16 : decode cX0_account 16 = .ok (.ireturn, 1) := dk_172 (dk_at dksX0_account_0 16 rfl rfl)
abbrev cX0_bestCow : ByteArray := method_29_code
def yX0_bestCow : MethodName := ⟨RX0, "bestCow", "(LDairyBook;[J)I"⟩
def dkwX0_bestCow_0 : List UInt8 := [43, 3, 42, 182, 0, 105, 133, 80, 167, 0, 6, 77, 4, 172, 3, 172]
abbrev dktX0_bestCow_0 : List UInt8 := dkwX0_bestCow_0 ++ []
theorem dksX0_bestCow_0 : cX0_bestCow.data.toList.drop 0 = dktX0_bestCow_0 := by decide +kernel
theorem dX0_bestCow_0 : decode cX0_bestCow 0 = .ok (.aload_n 1, 1) := dk_43 (dk_at dksX0_bestCow_0 0 rfl rfl)
theorem dX0_bestCow_1 : decode cX0_bestCow 1 = .ok (.iconst 0, 1) := dk_3 (dk_at dksX0_bestCow_0 1 rfl rfl)
theorem dX0_bestCow_2 : decode cX0_bestCow 2 = .ok (.aload_n 0, 1) := dk_42 (dk_at dksX0_bestCow_0 2 rfl rfl)
theorem dX0_bestCow_3 : decode cX0_bestCow 3 = .ok (.invokevirtual 105, 3) := dk_182 0 105 (dk_at dksX0_bestCow_0 3 rfl rfl)
theorem dX0_bestCow_6 : decode cX0_bestCow 6 = .ok (.i2l, 1) := dk_133 (dk_at dksX0_bestCow_0 6 rfl rfl)
theorem dX0_bestCow_7 : decode cX0_bestCow 7 = .ok (.lastore, 1) := dk_80 (dk_at dksX0_bestCow_0 7 rfl rfl)
theorem dX0_bestCow_8 : decode cX0_bestCow 8 = .ok (.goto 6, 3) := dk_167 0 6 (dk_at dksX0_bestCow_0 8 rfl rfl)
theorem dX0_bestCow_11 : decode cX0_bestCow 11 = .ok (.astore_n 2, 1) := dk_77 (dk_at dksX0_bestCow_0 11 rfl rfl)
theorem dX0_bestCow_12 : decode cX0_bestCow 12 = .ok (.iconst 1, 1) := dk_4 (dk_at dksX0_bestCow_0 12 rfl rfl)
theorem dX0_bestCow_13 : decode cX0_bestCow 13 = .ok (.ireturn, 1) := dk_172 (dk_at dksX0_bestCow_0 13 rfl rfl)
theorem dX0_bestCow_14 : decode cX0_bestCow 14 = .ok (.iconst 0, 1) := dk_3 (dk_at dksX0_bestCow_0 14 rfl rfl)
theorem dX0_bestCow_15 : decode cX0_bestCow 15 = .ok (.ireturn, 1) := dk_172 (dk_at dksX0_bestCow_0 15 rfl rfl)
abbrev cX0_share : ByteArray := method_30_code
def yX0_share : MethodName := ⟨RX0, "share", "(LDairyBook;[D)I"⟩
def dkwX0_share_0 : List UInt8 := [43, 3, 42, 182, 0, 108, 82, 167, 0, 6, 77, 4, 172, 3, 172]
abbrev dktX0_share_0 : List UInt8 := dkwX0_share_0 ++ []
theorem dksX0_share_0 : cX0_share.data.toList.drop 0 = dktX0_share_0 := by decide +kernel
theorem dX0_share_0 : decode cX0_share 0 = .ok (.aload_n 1, 1) := dk_43 (dk_at dksX0_share_0 0 rfl rfl)
theorem dX0_share_1 : decode cX0_share 1 = .ok (.iconst 0, 1) := dk_3 (dk_at dksX0_share_0 1 rfl rfl)
theorem dX0_share_2 : decode cX0_share 2 = .ok (.aload_n 0, 1) := dk_42 (dk_at dksX0_share_0 2 rfl rfl)
theorem dX0_share_3 : decode cX0_share 3 = .ok (.invokevirtual 108, 3) := dk_182 0 108 (dk_at dksX0_share_0 3 rfl rfl)
theorem dX0_share_6 : decode cX0_share 6 = .ok (.dastore, 1) := dk_82 (dk_at dksX0_share_0 6 rfl rfl)
theorem dX0_share_7 : decode cX0_share 7 = .ok (.goto 6, 3) := dk_167 0 6 (dk_at dksX0_share_0 7 rfl rfl)
theorem dX0_share_10 : decode cX0_share 10 = .ok (.astore_n 2, 1) := dk_77 (dk_at dksX0_share_0 10 rfl rfl)
theorem dX0_share_11 : decode cX0_share 11 = .ok (.iconst 1, 1) := dk_4 (dk_at dksX0_share_0 11 rfl rfl)
theorem dX0_share_12 : decode cX0_share 12 = .ok (.ireturn, 1) := dk_172 (dk_at dksX0_share_0 12 rfl rfl)
theorem dX0_share_13 : decode cX0_share 13 = .ok (.iconst 0, 1) := dk_3 (dk_at dksX0_share_0 13 rfl rfl)
theorem dX0_share_14 : decode cX0_share 14 = .ok (.ireturn, 1) := dk_172 (dk_at dksX0_share_0 14 rfl rfl)
abbrev cX0_undo : ByteArray := method_31_code
def yX0_undo : MethodName := ⟨RX0, "undo", "(LDairyBook;[J)I"⟩
def dkwX0_undo_0 : List UInt8 := [43, 3, 42, 182, 0, 114, 133, 80, 167, 0, 6, 77, 4, 172, 3, 172]
abbrev dktX0_undo_0 : List UInt8 := dkwX0_undo_0 ++ []
theorem dksX0_undo_0 : cX0_undo.data.toList.drop 0 = dktX0_undo_0 := by decide +kernel
theorem dX0_undo_0 : decode cX0_undo 0 = .ok (.aload_n 1, 1) := dk_43 (dk_at dksX0_undo_0 0 rfl rfl)
theorem dX0_undo_1 : decode cX0_undo 1 = .ok (.iconst 0, 1) := dk_3 (dk_at dksX0_undo_0 1 rfl rfl)
theorem dX0_undo_2 : decode cX0_undo 2 = .ok (.aload_n 0, 1) := dk_42 (dk_at dksX0_undo_0 2 rfl rfl)
theorem dX0_undo_3 : decode cX0_undo 3 = .ok (.invokevirtual 114, 3) := dk_182 0 114 (dk_at dksX0_undo_0 3 rfl rfl)
theorem dX0_undo_6 : decode cX0_undo 6 = .ok (.i2l, 1) := dk_133 (dk_at dksX0_undo_0 6 rfl rfl)
theorem dX0_undo_7 : decode cX0_undo 7 = .ok (.lastore, 1) := dk_80 (dk_at dksX0_undo_0 7 rfl rfl)
theorem dX0_undo_8 : decode cX0_undo 8 = .ok (.goto 6, 3) := dk_167 0 6 (dk_at dksX0_undo_0 8 rfl rfl)
theorem dX0_undo_11 : decode cX0_undo 11 = .ok (.astore_n 2, 1) := dk_77 (dk_at dksX0_undo_0 11 rfl rfl)
theorem dX0_undo_12 : decode cX0_undo 12 = .ok (.iconst 1, 1) := dk_4 (dk_at dksX0_undo_0 12 rfl rfl)
theorem dX0_undo_13 : decode cX0_undo 13 = .ok (.ireturn, 1) := dk_172 (dk_at dksX0_undo_0 13 rfl rfl)
theorem dX0_undo_14 : decode cX0_undo 14 = .ok (.iconst 0, 1) := dk_3 (dk_at dksX0_undo_0 14 rfl rfl)
theorem dX0_undo_15 : decode cX0_undo 15 = .ok (.ireturn, 1) := dk_172 (dk_at dksX0_undo_0 15 rfl rfl)
abbrev cX0_restore : ByteArray := method_32_code
def yX0_restore : MethodName := ⟨RX0, "restore", "(LDairyBook;)I"⟩
def dkwX0_restore_0 : List UInt8 := [42, 182, 0, 117, 167, 0, 6, 76, 4, 172, 3, 172]
abbrev dktX0_restore_0 : List UInt8 := dkwX0_restore_0 ++ []
theorem dksX0_restore_0 : cX0_restore.data.toList.drop 0 = dktX0_restore_0 := by decide +kernel
theorem dX0_restore_0 : decode cX0_restore 0 = .ok (.aload_n 0, 1) := dk_42 (dk_at dksX0_restore_0 0 rfl rfl)
theorem dX0_restore_1 : decode cX0_restore 1 = .ok (.invokevirtual 117, 3) := dk_182 0 117 (dk_at dksX0_restore_0 1 rfl rfl)
theorem dX0_restore_4 : decode cX0_restore 4 = .ok (.goto 6, 3) := dk_167 0 6 (dk_at dksX0_restore_0 4 rfl rfl)
theorem dX0_restore_7 : decode cX0_restore 7 = .ok (.astore_n 1, 1) := dk_76 (dk_at dksX0_restore_0 7 rfl rfl)
theorem dX0_restore_8 : decode cX0_restore 8 = .ok (.iconst 1, 1) := dk_4 (dk_at dksX0_restore_0 8 rfl rfl)
theorem dX0_restore_9 : decode cX0_restore 9 = .ok (.ireturn, 1) := dk_172 (dk_at dksX0_restore_0 9 rfl rfl)
theorem dX0_restore_10 : decode cX0_restore 10 = .ok (.iconst 0, 1) := dk_3 (dk_at dksX0_restore_0 10 rfl rfl)
theorem dX0_restore_11 : decode cX0_restore 11 = .ok (.ireturn, 1) := dk_172 (dk_at dksX0_restore_0 11 rfl rfl)
theorem q61 : (Jvm.Cond.initialized "DairyBookLaw") ∈ lw_all := lw_g (lw_at lw_m1 0 rfl) rfl
theorem q103 : (Jvm.Cond.classLink "DairyBookLaw" (8 : Nat) "DairyBook") ∈ lw_all := lw_g (lw_at lw_m1 42 rfl) rfl
theorem q105 : (Jvm.Cond.methodLink "DairyBookLaw" (120 : Nat) ({ cls := "DairyBook", name := "<init>", desc := "()V" } : Jvm.MethodName)) ∈ lw_all := lw_g (lw_at lw_m1 44 rfl) rfl
theorem q276 : (Jvm.Cond.methodLink "DairyBookLaw" (170 : Nat) ({ cls := "DairyBook", name := "today", desc := "()I" } : Jvm.MethodName)) ∈ lw_all := lw_g (lw_at lw_m1 215 rfl) rfl
theorem q280 : (Jvm.Cond.methodLink "DairyBookLaw" (215 : Nat) ({ cls := "DairyBook", name := "faultPosition", desc := "()I" } : Jvm.MethodName)) ∈ lw_all := lw_g (lw_at lw_m1 219 rfl) rfl
theorem q284 : (Jvm.Cond.methodLink "DairyBookLaw" (232 : Nat) ({ cls := "DairyBook", name := "save", desc := "()V" } : Jvm.MethodName)) ∈ lw_all := lw_g (lw_at lw_m1 223 rfl) rfl
theorem q797 : (Jvm.Cond.methodLink "DairyBookLaw" (124 : Nat) ({ cls := "DairyBookLaw", name := "addCow", desc := "(LDairyBook;III[J)I" } : Jvm.MethodName)) ∈ lw_all := lw_g (lw_at lw_m4 16 rfl) rfl
theorem q798 : (Jvm.Cond.static ({ cls := "DairyBookLaw", name := "addCow", desc := "(LDairyBook;III[J)I" } : Jvm.MethodName)) ∈ lw_all := lw_g (lw_at lw_m4 17 rfl) rfl
theorem q799 : (Jvm.Cond.codeWith ({ cls := "DairyBookLaw", name := "addCow", desc := "(LDairyBook;III[J)I" } : Jvm.MethodName) method_3_code (6 : Nat) (Option.some Jvm.ClassFile.FieldType.int) [((0 : Nat), (12 : Nat), (15 : Nat), (13 : Nat)), ((0 : Nat), (12 : Nat), (19 : Nat), (15 : Nat))]) ∈ lw_all := lw_g (lw_at lw_m4 18 rfl) rfl
theorem q800 : (Jvm.Cond.classLink "DairyBookLaw" (13 : Nat) "java/lang/IllegalArgumentException") ∈ lw_all := lw_g (lw_at lw_m4 19 rfl) rfl
theorem q801 : (Jvm.Cond.classLink "DairyBookLaw" (15 : Nat) "java/lang/IllegalStateException") ∈ lw_all := lw_g (lw_at lw_m4 20 rfl) rfl
theorem q802 : (Jvm.Cond.methodLink "DairyBookLaw" (7 : Nat) ({ cls := "DairyBook", name := "addCow", desc := "(III)I" } : Jvm.MethodName)) ∈ lw_all := lw_g (lw_at lw_m4 21 rfl) rfl
theorem q888 : (Jvm.Cond.methodLink "DairyBookLaw" (133 : Nat) ({ cls := "DairyBookLaw", name := "set", desc := "(LDairyBook;II[J)I" } : Jvm.MethodName)) ∈ lw_all := lw_g (lw_at lw_m4 107 rfl) rfl
theorem q889 : (Jvm.Cond.static ({ cls := "DairyBookLaw", name := "set", desc := "(LDairyBook;II[J)I" } : Jvm.MethodName)) ∈ lw_all := lw_g (lw_at lw_m4 108 rfl) rfl
theorem q890 : (Jvm.Cond.codeWith ({ cls := "DairyBookLaw", name := "set", desc := "(LDairyBook;II[J)I" } : Jvm.MethodName) method_4_code (5 : Nat) (Option.some Jvm.ClassFile.FieldType.int) [((0 : Nat), (10 : Nat), (13 : Nat), (21 : Nat)), ((0 : Nat), (10 : Nat), (17 : Nat), (13 : Nat))]) ∈ lw_all := lw_g (lw_at lw_m4 109 rfl) rfl
theorem q891 : (Jvm.Cond.classLink "DairyBookLaw" (21 : Nat) "java/lang/IndexOutOfBoundsException") ∈ lw_all := lw_g (lw_at lw_m4 110 rfl) rfl
theorem q910 : (Jvm.Cond.methodLink "DairyBookLaw" (17 : Nat) ({ cls := "DairyBook", name := "set", desc := "(II)I" } : Jvm.MethodName)) ∈ lw_all := lw_g (lw_at lw_m4 129 rfl) rfl
theorem q938 : (Jvm.Cond.methodLink "DairyBookLaw" (137 : Nat) ({ cls := "DairyBookLaw", name := "setting", desc := "(LDairyBook;I[J)I" } : Jvm.MethodName)) ∈ lw_all := lw_g (lw_at lw_m4 157 rfl) rfl
theorem q939 : (Jvm.Cond.static ({ cls := "DairyBookLaw", name := "setting", desc := "(LDairyBook;I[J)I" } : Jvm.MethodName)) ∈ lw_all := lw_g (lw_at lw_m4 158 rfl) rfl
theorem q940 : (Jvm.Cond.codeWith ({ cls := "DairyBookLaw", name := "setting", desc := "(LDairyBook;I[J)I" } : Jvm.MethodName) method_5_code (4 : Nat) (Option.some Jvm.ClassFile.FieldType.int) [((0 : Nat), (9 : Nat), (12 : Nat), (21 : Nat))]) ∈ lw_all := lw_g (lw_at lw_m4 159 rfl) rfl
theorem q941 : (Jvm.Cond.methodLink "DairyBookLaw" (23 : Nat) ({ cls := "DairyBook", name := "setting", desc := "(I)I" } : Jvm.MethodName)) ∈ lw_all := lw_g (lw_at lw_m4 160 rfl) rfl
theorem q945 : (Jvm.Cond.methodLink "DairyBookLaw" (141 : Nat) ({ cls := "DairyBookLaw", name := "hold", desc := "(LDairyBook;II[J)I" } : Jvm.MethodName)) ∈ lw_all := lw_g (lw_at lw_m4 164 rfl) rfl
theorem q946 : (Jvm.Cond.static ({ cls := "DairyBookLaw", name := "hold", desc := "(LDairyBook;II[J)I" } : Jvm.MethodName)) ∈ lw_all := lw_g (lw_at lw_m4 165 rfl) rfl
theorem q947 : (Jvm.Cond.codeWith ({ cls := "DairyBookLaw", name := "hold", desc := "(LDairyBook;II[J)I" } : Jvm.MethodName) method_6_code (5 : Nat) (Option.some Jvm.ClassFile.FieldType.int) [((0 : Nat), (10 : Nat), (13 : Nat), (30 : Nat))]) ∈ lw_all := lw_g (lw_at lw_m4 166 rfl) rfl
theorem q948 : (Jvm.Cond.classLink "DairyBookLaw" (30 : Nat) "java/lang/UnsupportedOperationException") ∈ lw_all := lw_g (lw_at lw_m4 167 rfl) rfl
theorem q949 : (Jvm.Cond.methodLink "DairyBookLaw" (27 : Nat) ({ cls := "DairyBook", name := "hold", desc := "(II)I" } : Jvm.MethodName)) ∈ lw_all := lw_g (lw_at lw_m4 168 rfl) rfl
theorem q1001 : (Jvm.Cond.methodLink "DairyBookLaw" (144 : Nat) ({ cls := "DairyBookLaw", name := "setCells", desc := "(LDairyBook;II[J)I" } : Jvm.MethodName)) ∈ lw_all := lw_g (lw_at lw_m4 220 rfl) rfl
theorem q1002 : (Jvm.Cond.static ({ cls := "DairyBookLaw", name := "setCells", desc := "(LDairyBook;II[J)I" } : Jvm.MethodName)) ∈ lw_all := lw_g (lw_at lw_m4 221 rfl) rfl
theorem q1003 : (Jvm.Cond.codeWith ({ cls := "DairyBookLaw", name := "setCells", desc := "(LDairyBook;II[J)I" } : Jvm.MethodName) method_7_code (5 : Nat) (Option.some Jvm.ClassFile.FieldType.int) [((0 : Nat), (10 : Nat), (13 : Nat), (30 : Nat)), ((0 : Nat), (10 : Nat), (17 : Nat), (13 : Nat))]) ∈ lw_all := lw_g (lw_at lw_m4 222 rfl) rfl
theorem q1004 : (Jvm.Cond.methodLink "DairyBookLaw" (32 : Nat) ({ cls := "DairyBook", name := "setCells", desc := "(II)I" } : Jvm.MethodName)) ∈ lw_all := lw_g (lw_at lw_m4 223 rfl) rfl
theorem q1013 : (Jvm.Cond.methodLink "DairyBookLaw" (147 : Nat) ({ cls := "DairyBookLaw", name := "serve", desc := "(LDairyBook;I[J)I" } : Jvm.MethodName)) ∈ lw_all := lw_g (lw_at lw_m4 232 rfl) rfl
theorem q1014 : (Jvm.Cond.static ({ cls := "DairyBookLaw", name := "serve", desc := "(LDairyBook;I[J)I" } : Jvm.MethodName)) ∈ lw_all := lw_g (lw_at lw_m4 233 rfl) rfl
theorem q1015 : (Jvm.Cond.codeWith ({ cls := "DairyBookLaw", name := "serve", desc := "(LDairyBook;I[J)I" } : Jvm.MethodName) method_8_code (4 : Nat) (Option.some Jvm.ClassFile.FieldType.int) [((0 : Nat), (9 : Nat), (12 : Nat), (30 : Nat))]) ∈ lw_all := lw_g (lw_at lw_m4 234 rfl) rfl
theorem q1016 : (Jvm.Cond.methodLink "DairyBookLaw" (35 : Nat) ({ cls := "DairyBook", name := "serve", desc := "(I)I" } : Jvm.MethodName)) ∈ lw_all := lw_g (lw_at lw_m4 235 rfl) rfl
theorem q1041 : (Jvm.Cond.methodLink "DairyBookLaw" (150 : Nat) ({ cls := "DairyBookLaw", name := "dry", desc := "(LDairyBook;I[J)I" } : Jvm.MethodName)) ∈ lw_all := lw_g (lw_at lw_m5 20 rfl) rfl
theorem q1042 : (Jvm.Cond.static ({ cls := "DairyBookLaw", name := "dry", desc := "(LDairyBook;I[J)I" } : Jvm.MethodName)) ∈ lw_all := lw_g (lw_at lw_m5 21 rfl) rfl
theorem q1043 : (Jvm.Cond.codeWith ({ cls := "DairyBookLaw", name := "dry", desc := "(LDairyBook;I[J)I" } : Jvm.MethodName) method_9_code (4 : Nat) (Option.some Jvm.ClassFile.FieldType.int) [((0 : Nat), (9 : Nat), (12 : Nat), (30 : Nat))]) ∈ lw_all := lw_g (lw_at lw_m5 22 rfl) rfl
theorem q1044 : (Jvm.Cond.methodLink "DairyBookLaw" (38 : Nat) ({ cls := "DairyBook", name := "dry", desc := "(I)I" } : Jvm.MethodName)) ∈ lw_all := lw_g (lw_at lw_m5 23 rfl) rfl
theorem q1056 : (Jvm.Cond.methodLink "DairyBookLaw" (153 : Nat) ({ cls := "DairyBookLaw", name := "sell", desc := "(LDairyBook;I[J)I" } : Jvm.MethodName)) ∈ lw_all := lw_g (lw_at lw_m5 35 rfl) rfl
theorem q1057 : (Jvm.Cond.static ({ cls := "DairyBookLaw", name := "sell", desc := "(LDairyBook;I[J)I" } : Jvm.MethodName)) ∈ lw_all := lw_g (lw_at lw_m5 36 rfl) rfl
theorem q1058 : (Jvm.Cond.codeWith ({ cls := "DairyBookLaw", name := "sell", desc := "(LDairyBook;I[J)I" } : Jvm.MethodName) method_10_code (4 : Nat) (Option.some Jvm.ClassFile.FieldType.int) [((0 : Nat), (9 : Nat), (12 : Nat), (30 : Nat))]) ∈ lw_all := lw_g (lw_at lw_m5 37 rfl) rfl
theorem q1059 : (Jvm.Cond.methodLink "DairyBookLaw" (41 : Nat) ({ cls := "DairyBook", name := "sell", desc := "(I)I" } : Jvm.MethodName)) ∈ lw_all := lw_g (lw_at lw_m5 38 rfl) rfl
theorem q1095 : (Jvm.Cond.methodLink "DairyBookLaw" (156 : Nat) ({ cls := "DairyBookLaw", name := "setBonus", desc := "(LDairyBook;II[J)I" } : Jvm.MethodName)) ∈ lw_all := lw_g (lw_at lw_m5 74 rfl) rfl
theorem q1096 : (Jvm.Cond.static ({ cls := "DairyBookLaw", name := "setBonus", desc := "(LDairyBook;II[J)I" } : Jvm.MethodName)) ∈ lw_all := lw_g (lw_at lw_m5 75 rfl) rfl
theorem q1097 : (Jvm.Cond.codeWith ({ cls := "DairyBookLaw", name := "setBonus", desc := "(LDairyBook;II[J)I" } : Jvm.MethodName) method_11_code (5 : Nat) (Option.some Jvm.ClassFile.FieldType.int) [((0 : Nat), (10 : Nat), (13 : Nat), (30 : Nat))]) ∈ lw_all := lw_g (lw_at lw_m5 76 rfl) rfl
theorem q1098 : (Jvm.Cond.methodLink "DairyBookLaw" (44 : Nat) ({ cls := "DairyBook", name := "setBonus", desc := "(II)I" } : Jvm.MethodName)) ∈ lw_all := lw_g (lw_at lw_m5 77 rfl) rfl
theorem q1156 : (Jvm.Cond.methodLink "DairyBookLaw" (159 : Nat) ({ cls := "DairyBookLaw", name := "bonus", desc := "(LDairyBook;IZ[J)I" } : Jvm.MethodName)) ∈ lw_all := lw_g (lw_at lw_m5 135 rfl) rfl
theorem q1157 : (Jvm.Cond.static ({ cls := "DairyBookLaw", name := "bonus", desc := "(LDairyBook;IZ[J)I" } : Jvm.MethodName)) ∈ lw_all := lw_g (lw_at lw_m5 136 rfl) rfl
theorem q1158 : (Jvm.Cond.codeWith ({ cls := "DairyBookLaw", name := "bonus", desc := "(LDairyBook;IZ[J)I" } : Jvm.MethodName) method_12_code (5 : Nat) (Option.some Jvm.ClassFile.FieldType.int) [((0 : Nat), (10 : Nat), (13 : Nat), (21 : Nat))]) ∈ lw_all := lw_g (lw_at lw_m5 137 rfl) rfl
theorem q1159 : (Jvm.Cond.methodLink "DairyBookLaw" (47 : Nat) ({ cls := "DairyBook", name := "bonus", desc := "(IZ)I" } : Jvm.MethodName)) ∈ lw_all := lw_g (lw_at lw_m5 138 rfl) rfl
theorem q1164 : (Jvm.Cond.methodLink "DairyBookLaw" (163 : Nat) ({ cls := "DairyBookLaw", name := "refusal", desc := "(LDairyBook;[J)I" } : Jvm.MethodName)) ∈ lw_all := lw_g (lw_at lw_m5 143 rfl) rfl
theorem q1165 : (Jvm.Cond.static ({ cls := "DairyBookLaw", name := "refusal", desc := "(LDairyBook;[J)I" } : Jvm.MethodName)) ∈ lw_all := lw_g (lw_at lw_m5 144 rfl) rfl
theorem q1166 : (Jvm.Cond.codeWith ({ cls := "DairyBookLaw", name := "refusal", desc := "(LDairyBook;[J)I" } : Jvm.MethodName) method_13_code (3 : Nat) (Option.some Jvm.ClassFile.FieldType.int) [((0 : Nat), (8 : Nat), (11 : Nat), (55 : Nat))]) ∈ lw_all := lw_g (lw_at lw_m5 145 rfl) rfl
theorem q1167 : (Jvm.Cond.classLink "DairyBookLaw" (55 : Nat) "java/util/NoSuchElementException") ∈ lw_all := lw_g (lw_at lw_m5 146 rfl) rfl
theorem q1168 : (Jvm.Cond.methodLink "DairyBookLaw" (51 : Nat) ({ cls := "DairyBook", name := "refusal", desc := "()I" } : Jvm.MethodName)) ∈ lw_all := lw_g (lw_at lw_m5 147 rfl) rfl
theorem q1177 : (Jvm.Cond.methodLink "DairyBookLaw" (167 : Nat) ({ cls := "DairyBookLaw", name := "pass", desc := "(LDairyBook;I[J)I" } : Jvm.MethodName)) ∈ lw_all := lw_g (lw_at lw_m5 156 rfl) rfl
theorem q1178 : (Jvm.Cond.static ({ cls := "DairyBookLaw", name := "pass", desc := "(LDairyBook;I[J)I" } : Jvm.MethodName)) ∈ lw_all := lw_g (lw_at lw_m5 157 rfl) rfl
theorem q1179 : (Jvm.Cond.codeWith ({ cls := "DairyBookLaw", name := "pass", desc := "(LDairyBook;I[J)I" } : Jvm.MethodName) method_14_code (4 : Nat) (Option.some Jvm.ClassFile.FieldType.int) [((0 : Nat), (9 : Nat), (12 : Nat), (13 : Nat))]) ∈ lw_all := lw_g (lw_at lw_m5 158 rfl) rfl
theorem q1180 : (Jvm.Cond.methodLink "DairyBookLaw" (57 : Nat) ({ cls := "DairyBook", name := "pass", desc := "(I)I" } : Jvm.MethodName)) ∈ lw_all := lw_g (lw_at lw_m5 159 rfl) rfl
theorem q1287 : (Jvm.Cond.methodLink "DairyBookLaw" (174 : Nat) ({ cls := "DairyBookLaw", name := "cow", desc := "(LDairyBook;II[J)I" } : Jvm.MethodName)) ∈ lw_all := lw_g (lw_at lw_m6 26 rfl) rfl
theorem q1288 : (Jvm.Cond.static ({ cls := "DairyBookLaw", name := "cow", desc := "(LDairyBook;II[J)I" } : Jvm.MethodName)) ∈ lw_all := lw_g (lw_at lw_m6 27 rfl) rfl
theorem q1289 : (Jvm.Cond.codeWith ({ cls := "DairyBookLaw", name := "cow", desc := "(LDairyBook;II[J)I" } : Jvm.MethodName) method_15_code (5 : Nat) (Option.some Jvm.ClassFile.FieldType.int) [((0 : Nat), (10 : Nat), (13 : Nat), (21 : Nat)), ((0 : Nat), (10 : Nat), (17 : Nat), (13 : Nat))]) ∈ lw_all := lw_g (lw_at lw_m6 28 rfl) rfl
theorem q1290 : (Jvm.Cond.methodLink "DairyBookLaw" (60 : Nat) ({ cls := "DairyBook", name := "cow", desc := "(II)I" } : Jvm.MethodName)) ∈ lw_all := lw_g (lw_at lw_m6 29 rfl) rfl
theorem q1309 : (Jvm.Cond.methodLink "DairyBookLaw" (177 : Nat) ({ cls := "DairyBookLaw", name := "curve", desc := "(LDairyBook;II[J)I" } : Jvm.MethodName)) ∈ lw_all := lw_g (lw_at lw_m6 48 rfl) rfl
theorem q1310 : (Jvm.Cond.static ({ cls := "DairyBookLaw", name := "curve", desc := "(LDairyBook;II[J)I" } : Jvm.MethodName)) ∈ lw_all := lw_g (lw_at lw_m6 49 rfl) rfl
theorem q1311 : (Jvm.Cond.codeWith ({ cls := "DairyBookLaw", name := "curve", desc := "(LDairyBook;II[J)I" } : Jvm.MethodName) method_16_code (5 : Nat) (Option.some Jvm.ClassFile.FieldType.int) [((0 : Nat), (10 : Nat), (13 : Nat), (21 : Nat)), ((0 : Nat), (10 : Nat), (17 : Nat), (13 : Nat))]) ∈ lw_all := lw_g (lw_at lw_m6 50 rfl) rfl
theorem q1312 : (Jvm.Cond.methodLink "DairyBookLaw" (63 : Nat) ({ cls := "DairyBook", name := "curve", desc := "(II)I" } : Jvm.MethodName)) ∈ lw_all := lw_g (lw_at lw_m6 51 rfl) rfl
theorem q1317 : (Jvm.Cond.methodLink "DairyBookLaw" (180 : Nat) ({ cls := "DairyBookLaw", name := "dryDay", desc := "(LDairyBook;I[J)I" } : Jvm.MethodName)) ∈ lw_all := lw_g (lw_at lw_m6 56 rfl) rfl
theorem q1318 : (Jvm.Cond.static ({ cls := "DairyBookLaw", name := "dryDay", desc := "(LDairyBook;I[J)I" } : Jvm.MethodName)) ∈ lw_all := lw_g (lw_at lw_m6 57 rfl) rfl
theorem q1319 : (Jvm.Cond.codeWith ({ cls := "DairyBookLaw", name := "dryDay", desc := "(LDairyBook;I[J)I" } : Jvm.MethodName) method_17_code (4 : Nat) (Option.some Jvm.ClassFile.FieldType.int) [((0 : Nat), (9 : Nat), (12 : Nat), (21 : Nat)), ((0 : Nat), (9 : Nat), (15 : Nat), (15 : Nat))]) ∈ lw_all := lw_g (lw_at lw_m6 58 rfl) rfl
theorem q1320 : (Jvm.Cond.methodLink "DairyBookLaw" (66 : Nat) ({ cls := "DairyBook", name := "dryDay", desc := "(I)I" } : Jvm.MethodName)) ∈ lw_all := lw_g (lw_at lw_m6 59 rfl) rfl
theorem q1327 : (Jvm.Cond.methodLink "DairyBookLaw" (183 : Nat) ({ cls := "DairyBookLaw", name := "forecast", desc := "(LDairyBook;I[J)I" } : Jvm.MethodName)) ∈ lw_all := lw_g (lw_at lw_m6 66 rfl) rfl
theorem q1328 : (Jvm.Cond.static ({ cls := "DairyBookLaw", name := "forecast", desc := "(LDairyBook;I[J)I" } : Jvm.MethodName)) ∈ lw_all := lw_g (lw_at lw_m6 67 rfl) rfl
theorem q1329 : (Jvm.Cond.codeWith ({ cls := "DairyBookLaw", name := "forecast", desc := "(LDairyBook;I[J)I" } : Jvm.MethodName) method_18_code (4 : Nat) (Option.some Jvm.ClassFile.FieldType.int) [((0 : Nat), (9 : Nat), (12 : Nat), (13 : Nat))]) ∈ lw_all := lw_g (lw_at lw_m6 68 rfl) rfl
theorem q1330 : (Jvm.Cond.methodLink "DairyBookLaw" (69 : Nat) ({ cls := "DairyBook", name := "forecast", desc := "(I)I" } : Jvm.MethodName)) ∈ lw_all := lw_g (lw_at lw_m6 69 rfl) rfl
theorem q1334 : (Jvm.Cond.methodLink "DairyBookLaw" (186 : Nat) ({ cls := "DairyBookLaw", name := "tank", desc := "(LDairyBook;I[J)I" } : Jvm.MethodName)) ∈ lw_all := lw_g (lw_at lw_m6 73 rfl) rfl
theorem q1335 : (Jvm.Cond.static ({ cls := "DairyBookLaw", name := "tank", desc := "(LDairyBook;I[J)I" } : Jvm.MethodName)) ∈ lw_all := lw_g (lw_at lw_m6 74 rfl) rfl
theorem q1336 : (Jvm.Cond.codeWith ({ cls := "DairyBookLaw", name := "tank", desc := "(LDairyBook;I[J)I" } : Jvm.MethodName) method_19_code (4 : Nat) (Option.some Jvm.ClassFile.FieldType.int) [((0 : Nat), (9 : Nat), (12 : Nat), (13 : Nat))]) ∈ lw_all := lw_g (lw_at lw_m6 75 rfl) rfl
theorem q1337 : (Jvm.Cond.methodLink "DairyBookLaw" (72 : Nat) ({ cls := "DairyBook", name := "tank", desc := "(I)I" } : Jvm.MethodName)) ∈ lw_all := lw_g (lw_at lw_m6 76 rfl) rfl
theorem q1346 : (Jvm.Cond.methodLink "DairyBookLaw" (189 : Nat) ({ cls := "DairyBookLaw", name := "pickup", desc := "(LDairyBook;II[J)I" } : Jvm.MethodName)) ∈ lw_all := lw_g (lw_at lw_m6 85 rfl) rfl
theorem q1347 : (Jvm.Cond.static ({ cls := "DairyBookLaw", name := "pickup", desc := "(LDairyBook;II[J)I" } : Jvm.MethodName)) ∈ lw_all := lw_g (lw_at lw_m6 86 rfl) rfl
theorem q1348 : (Jvm.Cond.codeWith ({ cls := "DairyBookLaw", name := "pickup", desc := "(LDairyBook;II[J)I" } : Jvm.MethodName) method_20_code (5 : Nat) (Option.some Jvm.ClassFile.FieldType.int) [((0 : Nat), (10 : Nat), (13 : Nat), (21 : Nat)), ((0 : Nat), (10 : Nat), (17 : Nat), (13 : Nat))]) ∈ lw_all := lw_g (lw_at lw_m6 87 rfl) rfl
theorem q1349 : (Jvm.Cond.methodLink "DairyBookLaw" (75 : Nat) ({ cls := "DairyBook", name := "pickup", desc := "(II)I" } : Jvm.MethodName)) ∈ lw_all := lw_g (lw_at lw_m6 88 rfl) rfl
theorem q1366 : (Jvm.Cond.methodLink "DairyBookLaw" (192 : Nat) ({ cls := "DairyBookLaw", name := "mean", desc := "(LDairyBook;II[D)I" } : Jvm.MethodName)) ∈ lw_all := lw_g (lw_at lw_m6 105 rfl) rfl
theorem q1367 : (Jvm.Cond.static ({ cls := "DairyBookLaw", name := "mean", desc := "(LDairyBook;II[D)I" } : Jvm.MethodName)) ∈ lw_all := lw_g (lw_at lw_m6 106 rfl) rfl
theorem q1368 : (Jvm.Cond.codeWith ({ cls := "DairyBookLaw", name := "mean", desc := "(LDairyBook;II[D)I" } : Jvm.MethodName) method_21_code (5 : Nat) (Option.some Jvm.ClassFile.FieldType.int) [((0 : Nat), (9 : Nat), (12 : Nat), (21 : Nat)), ((0 : Nat), (9 : Nat), (16 : Nat), (13 : Nat))]) ∈ lw_all := lw_g (lw_at lw_m6 107 rfl) rfl
theorem q1369 : (Jvm.Cond.methodLink "DairyBookLaw" (78 : Nat) ({ cls := "DairyBook", name := "mean", desc := "(II)D" } : Jvm.MethodName)) ∈ lw_all := lw_g (lw_at lw_m6 108 rfl) rfl
theorem q1373 : (Jvm.Cond.methodLink "DairyBookLaw" (196 : Nat) ({ cls := "DairyBookLaw", name := "greatest", desc := "(LDairyBook;I[J)I" } : Jvm.MethodName)) ∈ lw_all := lw_g (lw_at lw_m6 112 rfl) rfl
theorem q1374 : (Jvm.Cond.static ({ cls := "DairyBookLaw", name := "greatest", desc := "(LDairyBook;I[J)I" } : Jvm.MethodName)) ∈ lw_all := lw_g (lw_at lw_m6 113 rfl) rfl
theorem q1375 : (Jvm.Cond.codeWith ({ cls := "DairyBookLaw", name := "greatest", desc := "(LDairyBook;I[J)I" } : Jvm.MethodName) method_22_code (4 : Nat) (Option.some Jvm.ClassFile.FieldType.int) [((0 : Nat), (9 : Nat), (12 : Nat), (13 : Nat)), ((0 : Nat), (9 : Nat), (15 : Nat), (55 : Nat))]) ∈ lw_all := lw_g (lw_at lw_m6 114 rfl) rfl
theorem q1376 : (Jvm.Cond.methodLink "DairyBookLaw" (82 : Nat) ({ cls := "DairyBook", name := "greatest", desc := "(I)I" } : Jvm.MethodName)) ∈ lw_all := lw_g (lw_at lw_m6 115 rfl) rfl
theorem q1384 : (Jvm.Cond.methodLink "DairyBookLaw" (199 : Nat) ({ cls := "DairyBookLaw", name := "writePickup", desc := "(LDairyBook;I[J)I" } : Jvm.MethodName)) ∈ lw_all := lw_g (lw_at lw_m6 123 rfl) rfl
theorem q1385 : (Jvm.Cond.static ({ cls := "DairyBookLaw", name := "writePickup", desc := "(LDairyBook;I[J)I" } : Jvm.MethodName)) ∈ lw_all := lw_g (lw_at lw_m6 124 rfl) rfl
theorem q1386 : (Jvm.Cond.codeWith ({ cls := "DairyBookLaw", name := "writePickup", desc := "(LDairyBook;I[J)I" } : Jvm.MethodName) method_23_code (4 : Nat) (Option.some Jvm.ClassFile.FieldType.int) [((0 : Nat), (9 : Nat), (12 : Nat), (21 : Nat))]) ∈ lw_all := lw_g (lw_at lw_m6 125 rfl) rfl
theorem q1387 : (Jvm.Cond.methodLink "DairyBookLaw" (85 : Nat) ({ cls := "DairyBook", name := "writePickup", desc := "(I)I" } : Jvm.MethodName)) ∈ lw_all := lw_g (lw_at lw_m6 126 rfl) rfl
theorem q1466 : (Jvm.Cond.methodLink "DairyBookLaw" (202 : Nat) ({ cls := "DairyBookLaw", name := "writeCow", desc := "(LDairyBook;I[J)I" } : Jvm.MethodName)) ∈ lw_all := lw_g (lw_at lw_m6 205 rfl) rfl
theorem q1467 : (Jvm.Cond.static ({ cls := "DairyBookLaw", name := "writeCow", desc := "(LDairyBook;I[J)I" } : Jvm.MethodName)) ∈ lw_all := lw_g (lw_at lw_m6 206 rfl) rfl
theorem q1468 : (Jvm.Cond.codeWith ({ cls := "DairyBookLaw", name := "writeCow", desc := "(LDairyBook;I[J)I" } : Jvm.MethodName) method_24_code (4 : Nat) (Option.some Jvm.ClassFile.FieldType.int) [((0 : Nat), (9 : Nat), (12 : Nat), (21 : Nat))]) ∈ lw_all := lw_g (lw_at lw_m6 207 rfl) rfl
theorem q1469 : (Jvm.Cond.methodLink "DairyBookLaw" (88 : Nat) ({ cls := "DairyBook", name := "writeCow", desc := "(I)I" } : Jvm.MethodName)) ∈ lw_all := lw_g (lw_at lw_m6 208 rfl) rfl
theorem q1473 : (Jvm.Cond.methodLink "DairyBookLaw" (205 : Nat) ({ cls := "DairyBookLaw", name := "written", desc := "(LDairyBook;I[J)I" } : Jvm.MethodName)) ∈ lw_all := lw_g (lw_at lw_m6 212 rfl) rfl
theorem q1474 : (Jvm.Cond.static ({ cls := "DairyBookLaw", name := "written", desc := "(LDairyBook;I[J)I" } : Jvm.MethodName)) ∈ lw_all := lw_g (lw_at lw_m6 213 rfl) rfl
theorem q1475 : (Jvm.Cond.codeWith ({ cls := "DairyBookLaw", name := "written", desc := "(LDairyBook;I[J)I" } : Jvm.MethodName) method_25_code (4 : Nat) (Option.some Jvm.ClassFile.FieldType.int) [((0 : Nat), (9 : Nat), (12 : Nat), (55 : Nat))]) ∈ lw_all := lw_g (lw_at lw_m6 214 rfl) rfl
theorem q1476 : (Jvm.Cond.methodLink "DairyBookLaw" (91 : Nat) ({ cls := "DairyBook", name := "written", desc := "(I)C" } : Jvm.MethodName)) ∈ lw_all := lw_g (lw_at lw_m6 215 rfl) rfl
theorem q1502 : (Jvm.Cond.methodLink "DairyBookLaw" (208 : Nat) ({ cls := "DairyBookLaw", name := "append", desc := "(LDairyBook;C)I" } : Jvm.MethodName)) ∈ lw_all := lw_g (lw_at lw_m7 1 rfl) rfl
theorem q1503 : (Jvm.Cond.static ({ cls := "DairyBookLaw", name := "append", desc := "(LDairyBook;C)I" } : Jvm.MethodName)) ∈ lw_all := lw_g (lw_at lw_m7 2 rfl) rfl
theorem q1504 : (Jvm.Cond.codeWith ({ cls := "DairyBookLaw", name := "append", desc := "(LDairyBook;C)I" } : Jvm.MethodName) method_26_code (3 : Nat) (Option.some Jvm.ClassFile.FieldType.int) [((0 : Nat), (5 : Nat), (8 : Nat), (15 : Nat))]) ∈ lw_all := lw_g (lw_at lw_m7 3 rfl) rfl
theorem q1505 : (Jvm.Cond.methodLink "DairyBookLaw" (95 : Nat) ({ cls := "DairyBook", name := "append", desc := "(C)V" } : Jvm.MethodName)) ∈ lw_all := lw_g (lw_at lw_m7 4 rfl) rfl
theorem q1523 : (Jvm.Cond.methodLink "DairyBookLaw" (212 : Nat) ({ cls := "DairyBookLaw", name := "order", desc := "(LDairyBook;[J)I" } : Jvm.MethodName)) ∈ lw_all := lw_g (lw_at lw_m7 22 rfl) rfl
theorem q1524 : (Jvm.Cond.static ({ cls := "DairyBookLaw", name := "order", desc := "(LDairyBook;[J)I" } : Jvm.MethodName)) ∈ lw_all := lw_g (lw_at lw_m7 23 rfl) rfl
theorem q1525 : (Jvm.Cond.codeWith ({ cls := "DairyBookLaw", name := "order", desc := "(LDairyBook;[J)I" } : Jvm.MethodName) method_27_code (3 : Nat) (Option.some Jvm.ClassFile.FieldType.int) [((0 : Nat), (8 : Nat), (11 : Nat), (13 : Nat)), ((0 : Nat), (8 : Nat), (14 : Nat), (30 : Nat))]) ∈ lw_all := lw_g (lw_at lw_m7 24 rfl) rfl
theorem q1526 : (Jvm.Cond.methodLink "DairyBookLaw" (99 : Nat) ({ cls := "DairyBook", name := "order", desc := "()I" } : Jvm.MethodName)) ∈ lw_all := lw_g (lw_at lw_m7 25 rfl) rfl
theorem q1727 : (Jvm.Cond.methodLink "DairyBookLaw" (219 : Nat) ({ cls := "DairyBookLaw", name := "account", desc := "(LDairyBook;I[J)I" } : Jvm.MethodName)) ∈ lw_all := lw_g (lw_at lw_m7 226 rfl) rfl
theorem q1728 : (Jvm.Cond.static ({ cls := "DairyBookLaw", name := "account", desc := "(LDairyBook;I[J)I" } : Jvm.MethodName)) ∈ lw_all := lw_g (lw_at lw_m7 227 rfl) rfl
theorem q1729 : (Jvm.Cond.codeWith ({ cls := "DairyBookLaw", name := "account", desc := "(LDairyBook;I[J)I" } : Jvm.MethodName) method_28_code (4 : Nat) (Option.some Jvm.ClassFile.FieldType.int) [((0 : Nat), (9 : Nat), (12 : Nat), (13 : Nat))]) ∈ lw_all := lw_g (lw_at lw_m7 228 rfl) rfl
theorem q1730 : (Jvm.Cond.methodLink "DairyBookLaw" (102 : Nat) ({ cls := "DairyBook", name := "account", desc := "(I)I" } : Jvm.MethodName)) ∈ lw_all := lw_g (lw_at lw_m7 229 rfl) rfl
theorem q1734 : (Jvm.Cond.methodLink "DairyBookLaw" (222 : Nat) ({ cls := "DairyBookLaw", name := "bestCow", desc := "(LDairyBook;[J)I" } : Jvm.MethodName)) ∈ lw_all := lw_g (lw_at lw_m7 233 rfl) rfl
theorem q1735 : (Jvm.Cond.static ({ cls := "DairyBookLaw", name := "bestCow", desc := "(LDairyBook;[J)I" } : Jvm.MethodName)) ∈ lw_all := lw_g (lw_at lw_m7 234 rfl) rfl
theorem q1736 : (Jvm.Cond.codeWith ({ cls := "DairyBookLaw", name := "bestCow", desc := "(LDairyBook;[J)I" } : Jvm.MethodName) method_29_code (3 : Nat) (Option.some Jvm.ClassFile.FieldType.int) [((0 : Nat), (8 : Nat), (11 : Nat), (55 : Nat))]) ∈ lw_all := lw_g (lw_at lw_m7 235 rfl) rfl
theorem q1737 : (Jvm.Cond.methodLink "DairyBookLaw" (105 : Nat) ({ cls := "DairyBook", name := "bestCow", desc := "()I" } : Jvm.MethodName)) ∈ lw_all := lw_g (lw_at lw_m7 236 rfl) rfl
theorem q1741 : (Jvm.Cond.methodLink "DairyBookLaw" (225 : Nat) ({ cls := "DairyBookLaw", name := "share", desc := "(LDairyBook;[D)I" } : Jvm.MethodName)) ∈ lw_all := lw_g (lw_at lw_m8 0 rfl) rfl
theorem q1742 : (Jvm.Cond.static ({ cls := "DairyBookLaw", name := "share", desc := "(LDairyBook;[D)I" } : Jvm.MethodName)) ∈ lw_all := lw_g (lw_at lw_m8 1 rfl) rfl
theorem q1743 : (Jvm.Cond.codeWith ({ cls := "DairyBookLaw", name := "share", desc := "(LDairyBook;[D)I" } : Jvm.MethodName) method_30_code (3 : Nat) (Option.some Jvm.ClassFile.FieldType.int) [((0 : Nat), (7 : Nat), (10 : Nat), (112 : Nat))]) ∈ lw_all := lw_g (lw_at lw_m8 2 rfl) rfl
theorem q1744 : (Jvm.Cond.classLink "DairyBookLaw" (112 : Nat) "java/lang/ArithmeticException") ∈ lw_all := lw_g (lw_at lw_m8 3 rfl) rfl
theorem q1758 : (Jvm.Cond.methodLink "DairyBookLaw" (108 : Nat) ({ cls := "DairyBook", name := "share", desc := "()D" } : Jvm.MethodName)) ∈ lw_all := lw_g (lw_at lw_m8 17 rfl) rfl
theorem q1767 : (Jvm.Cond.methodLink "DairyBookLaw" (229 : Nat) ({ cls := "DairyBookLaw", name := "undo", desc := "(LDairyBook;[J)I" } : Jvm.MethodName)) ∈ lw_all := lw_g (lw_at lw_m8 26 rfl) rfl
theorem q1768 : (Jvm.Cond.static ({ cls := "DairyBookLaw", name := "undo", desc := "(LDairyBook;[J)I" } : Jvm.MethodName)) ∈ lw_all := lw_g (lw_at lw_m8 27 rfl) rfl
theorem q1769 : (Jvm.Cond.codeWith ({ cls := "DairyBookLaw", name := "undo", desc := "(LDairyBook;[J)I" } : Jvm.MethodName) method_31_code (3 : Nat) (Option.some Jvm.ClassFile.FieldType.int) [((0 : Nat), (8 : Nat), (11 : Nat), (15 : Nat))]) ∈ lw_all := lw_g (lw_at lw_m8 28 rfl) rfl
theorem q1770 : (Jvm.Cond.methodLink "DairyBookLaw" (114 : Nat) ({ cls := "DairyBook", name := "undo", desc := "()I" } : Jvm.MethodName)) ∈ lw_all := lw_g (lw_at lw_m8 29 rfl) rfl
theorem q1785 : (Jvm.Cond.methodLink "DairyBookLaw" (236 : Nat) ({ cls := "DairyBookLaw", name := "restore", desc := "(LDairyBook;)I" } : Jvm.MethodName)) ∈ lw_all := lw_g (lw_at lw_m8 44 rfl) rfl
theorem q1786 : (Jvm.Cond.static ({ cls := "DairyBookLaw", name := "restore", desc := "(LDairyBook;)I" } : Jvm.MethodName)) ∈ lw_all := lw_g (lw_at lw_m8 45 rfl) rfl
theorem q1787 : (Jvm.Cond.codeWith ({ cls := "DairyBookLaw", name := "restore", desc := "(LDairyBook;)I" } : Jvm.MethodName) method_32_code (2 : Nat) (Option.some Jvm.ClassFile.FieldType.int) [((0 : Nat), (4 : Nat), (7 : Nat), (15 : Nat))]) ∈ lw_all := lw_g (lw_at lw_m8 46 rfl) rfl
theorem q1788 : (Jvm.Cond.methodLink "DairyBookLaw" (117 : Nat) ({ cls := "DairyBook", name := "restore", desc := "()V" } : Jvm.MethodName)) ∈ lw_all := lw_g (lw_at lw_m8 47 rfl) rfl
theorem q1799 : (Jvm.Cond.classLink "DairyBookLaw" (121 : Nat) "DairyBookModel") ∈ lw_all := lw_g (lw_at lw_m8 58 rfl) rfl
theorem q1801 : (Jvm.Cond.methodLink "DairyBookLaw" (123 : Nat) ({ cls := "DairyBookModel", name := "<init>", desc := "()V" } : Jvm.MethodName)) ∈ lw_all := lw_g (lw_at lw_m8 60 rfl) rfl
theorem q1856 : (Jvm.Cond.methodLink "DairyBookLaw" (130 : Nat) ({ cls := "DairyBookModel", name := "thrown", desc := "()I" } : Jvm.MethodName)) ∈ lw_all := lw_g (lw_at lw_m8 115 rfl) rfl
theorem q1860 : (Jvm.Cond.methodLink "DairyBookLaw" (231 : Nat) ({ cls := "DairyBookModel", name := "undo", desc := "()I" } : Jvm.MethodName)) ∈ lw_all := lw_g (lw_at lw_m8 119 rfl) rfl
theorem q1867 : (Jvm.Cond.methodLink "DairyBookLaw" (235 : Nat) ({ cls := "DairyBookModel", name := "save", desc := "()V" } : Jvm.MethodName)) ∈ lw_all := lw_g (lw_at lw_m8 126 rfl) rfl
theorem q1871 : (Jvm.Cond.methodLink "DairyBookLaw" (239 : Nat) ({ cls := "DairyBookModel", name := "restore", desc := "()V" } : Jvm.MethodName)) ∈ lw_all := lw_g (lw_at lw_m8 130 rfl) rfl
theorem q1875 : (Jvm.Cond.methodLink "DairyBookLaw" (129 : Nat) ({ cls := "DairyBookModel", name := "addCow", desc := "(III)I" } : Jvm.MethodName)) ∈ lw_all := lw_g (lw_at lw_m8 134 rfl) rfl
theorem q1889 : (Jvm.Cond.methodLink "DairyBookLaw" (136 : Nat) ({ cls := "DairyBookModel", name := "set", desc := "(II)I" } : Jvm.MethodName)) ∈ lw_all := lw_g (lw_at lw_m8 148 rfl) rfl
theorem q1896 : (Jvm.Cond.methodLink "DairyBookLaw" (140 : Nat) ({ cls := "DairyBookModel", name := "setting", desc := "(I)I" } : Jvm.MethodName)) ∈ lw_all := lw_g (lw_at lw_m8 155 rfl) rfl
theorem q1900 : (Jvm.Cond.methodLink "DairyBookLaw" (143 : Nat) ({ cls := "DairyBookModel", name := "hold", desc := "(II)I" } : Jvm.MethodName)) ∈ lw_all := lw_g (lw_at lw_m8 159 rfl) rfl
theorem q1952 : (Jvm.Cond.methodLink "DairyBookLaw" (146 : Nat) ({ cls := "DairyBookModel", name := "setCells", desc := "(II)I" } : Jvm.MethodName)) ∈ lw_all := lw_g (lw_at lw_m8 211 rfl) rfl
theorem q1956 : (Jvm.Cond.methodLink "DairyBookLaw" (149 : Nat) ({ cls := "DairyBookModel", name := "serve", desc := "(I)I" } : Jvm.MethodName)) ∈ lw_all := lw_g (lw_at lw_m8 215 rfl) rfl
theorem q1960 : (Jvm.Cond.methodLink "DairyBookLaw" (152 : Nat) ({ cls := "DairyBookModel", name := "dry", desc := "(I)I" } : Jvm.MethodName)) ∈ lw_all := lw_g (lw_at lw_m8 219 rfl) rfl
theorem q1964 : (Jvm.Cond.methodLink "DairyBookLaw" (155 : Nat) ({ cls := "DairyBookModel", name := "sell", desc := "(I)I" } : Jvm.MethodName)) ∈ lw_all := lw_g (lw_at lw_m8 223 rfl) rfl
theorem q1968 : (Jvm.Cond.methodLink "DairyBookLaw" (158 : Nat) ({ cls := "DairyBookModel", name := "setBonus", desc := "(II)I" } : Jvm.MethodName)) ∈ lw_all := lw_g (lw_at lw_m8 227 rfl) rfl
theorem q1972 : (Jvm.Cond.methodLink "DairyBookLaw" (162 : Nat) ({ cls := "DairyBookModel", name := "bonus", desc := "(IZ)I" } : Jvm.MethodName)) ∈ lw_all := lw_g (lw_at lw_m8 231 rfl) rfl
theorem q1976 : (Jvm.Cond.methodLink "DairyBookLaw" (166 : Nat) ({ cls := "DairyBookModel", name := "refusal", desc := "()I" } : Jvm.MethodName)) ∈ lw_all := lw_g (lw_at lw_m8 235 rfl) rfl
theorem q1980 : (Jvm.Cond.methodLink "DairyBookLaw" (169 : Nat) ({ cls := "DairyBookModel", name := "pass", desc := "(I)I" } : Jvm.MethodName)) ∈ lw_all := lw_g (lw_at lw_m8 239 rfl) rfl
theorem q2012 : (Jvm.Cond.methodLink "DairyBookLaw" (185 : Nat) ({ cls := "DairyBookModel", name := "forecast", desc := "(I)I" } : Jvm.MethodName)) ∈ lw_all := lw_g (lw_at lw_m9 31 rfl) rfl
theorem q2016 : (Jvm.Cond.methodLink "DairyBookLaw" (173 : Nat) ({ cls := "DairyBookModel", name := "today", desc := "()I" } : Jvm.MethodName)) ∈ lw_all := lw_g (lw_at lw_m9 35 rfl) rfl
theorem q2020 : (Jvm.Cond.methodLink "DairyBookLaw" (176 : Nat) ({ cls := "DairyBookModel", name := "cow", desc := "(II)I" } : Jvm.MethodName)) ∈ lw_all := lw_g (lw_at lw_m9 39 rfl) rfl
theorem q2024 : (Jvm.Cond.methodLink "DairyBookLaw" (179 : Nat) ({ cls := "DairyBookModel", name := "curve", desc := "(II)I" } : Jvm.MethodName)) ∈ lw_all := lw_g (lw_at lw_m9 43 rfl) rfl
theorem q2028 : (Jvm.Cond.methodLink "DairyBookLaw" (182 : Nat) ({ cls := "DairyBookModel", name := "dryDay", desc := "(I)I" } : Jvm.MethodName)) ∈ lw_all := lw_g (lw_at lw_m9 47 rfl) rfl
theorem q2032 : (Jvm.Cond.methodLink "DairyBookLaw" (188 : Nat) ({ cls := "DairyBookModel", name := "tank", desc := "(I)I" } : Jvm.MethodName)) ∈ lw_all := lw_g (lw_at lw_m9 51 rfl) rfl
theorem q2036 : (Jvm.Cond.methodLink "DairyBookLaw" (191 : Nat) ({ cls := "DairyBookModel", name := "pickup", desc := "(II)I" } : Jvm.MethodName)) ∈ lw_all := lw_g (lw_at lw_m9 55 rfl) rfl
theorem q2044 : (Jvm.Cond.methodLink "DairyBookLaw" (195 : Nat) ({ cls := "DairyBookModel", name := "mean", desc := "(II)D" } : Jvm.MethodName)) ∈ lw_all := lw_g (lw_at lw_m9 63 rfl) rfl
theorem q2048 : (Jvm.Cond.methodLink "DairyBookLaw" (198 : Nat) ({ cls := "DairyBookModel", name := "greatest", desc := "(I)I" } : Jvm.MethodName)) ∈ lw_all := lw_g (lw_at lw_m9 67 rfl) rfl
theorem q2052 : (Jvm.Cond.methodLink "DairyBookLaw" (201 : Nat) ({ cls := "DairyBookModel", name := "writePickup", desc := "(I)I" } : Jvm.MethodName)) ∈ lw_all := lw_g (lw_at lw_m9 71 rfl) rfl
theorem q2115 : (Jvm.Cond.methodLink "DairyBookLaw" (204 : Nat) ({ cls := "DairyBookModel", name := "writeCow", desc := "(I)I" } : Jvm.MethodName)) ∈ lw_all := lw_g (lw_at lw_m9 134 rfl) rfl
theorem q2121 : (Jvm.Cond.methodLink "DairyBookLaw" (207 : Nat) ({ cls := "DairyBookModel", name := "written", desc := "(I)C" } : Jvm.MethodName)) ∈ lw_all := lw_g (lw_at lw_m9 140 rfl) rfl
theorem q2135 : (Jvm.Cond.methodLink "DairyBookLaw" (211 : Nat) ({ cls := "DairyBookModel", name := "append", desc := "(C)V" } : Jvm.MethodName)) ∈ lw_all := lw_g (lw_at lw_m9 154 rfl) rfl
theorem q2139 : (Jvm.Cond.methodLink "DairyBookLaw" (218 : Nat) ({ cls := "DairyBookModel", name := "faultPosition", desc := "()I" } : Jvm.MethodName)) ∈ lw_all := lw_g (lw_at lw_m9 158 rfl) rfl
theorem q2143 : (Jvm.Cond.methodLink "DairyBookLaw" (214 : Nat) ({ cls := "DairyBookModel", name := "order", desc := "()I" } : Jvm.MethodName)) ∈ lw_all := lw_g (lw_at lw_m9 162 rfl) rfl
theorem q2186 : (Jvm.Cond.methodLink "DairyBookLaw" (221 : Nat) ({ cls := "DairyBookModel", name := "account", desc := "(I)I" } : Jvm.MethodName)) ∈ lw_all := lw_g (lw_at lw_m9 205 rfl) rfl
theorem q2198 : (Jvm.Cond.methodLink "DairyBookLaw" (224 : Nat) ({ cls := "DairyBookModel", name := "bestCow", desc := "()I" } : Jvm.MethodName)) ∈ lw_all := lw_g (lw_at lw_m9 217 rfl) rfl
theorem q2202 : (Jvm.Cond.methodLink "DairyBookLaw" (228 : Nat) ({ cls := "DairyBookModel", name := "share", desc := "()D" } : Jvm.MethodName)) ∈ lw_all := lw_g (lw_at lw_m9 221 rfl) rfl
/-! the law's own entry -/
set_option maxRecDepth 100000
abbrev cL_law : ByteArray := code
def dkwL_law_79 : List UInt8 := [44, 182, 0, 130, 21, 6, 159, 0, 5, 3, 172, 167, 0, 3, 132, 5, 4, 167, 248, 84, 4, 172]
abbrev dktL_law_79 : List UInt8 := dkwL_law_79 ++ []
def dkwL_law_78 : List UInt8 := [167, 0, 38, 43, 182, 0, 232, 44, 182, 0, 235, 167, 0, 27, 43, 184, 0, 236, 54, 6, 44, 182, 0, 239]
abbrev dktL_law_78 : List UInt8 := dkwL_law_78 ++ dktL_law_79
def dkwL_law_77 : List UInt8 := [159, 0, 5, 3, 172, 21, 6, 154, 0, 15, 45, 3, 47, 21, 7, 133, 148, 153, 0, 5, 3, 172]
abbrev dktL_law_77 : List UInt8 := dkwL_law_77 ++ dktL_law_78
def dkwL_law_76 : List UInt8 := [172, 167, 0, 82, 43, 45, 184, 0, 229, 54, 6, 44, 182, 0, 231, 54, 7, 44, 182, 0, 130, 21, 6]
abbrev dktL_law_76 : List UInt8 := dkwL_law_76 ++ dktL_law_77
def dkwL_law_75 : List UInt8 := [153, 0, 25, 25, 4, 3, 49, 25, 4, 3, 49, 151, 153, 0, 11, 24, 7, 24, 7, 151, 154, 0, 5, 3]
abbrev dktL_law_75 : List UInt8 := dkwL_law_75 ++ dktL_law_76
def dkwL_law_74 : List UInt8 := [182, 0, 130, 21, 6, 159, 0, 5, 3, 172, 21, 6, 154, 0, 35, 25, 4, 3, 49, 24, 7, 151]
abbrev dktL_law_74 : List UInt8 := dkwL_law_74 ++ dktL_law_75
def dkwL_law_73 : List UInt8 := [148, 153, 0, 5, 3, 172, 167, 0, 147, 43, 25, 4, 184, 0, 225, 54, 6, 44, 182, 0, 228, 57, 7, 44]
abbrev dktL_law_73 : List UInt8 := dkwL_law_73 ++ dktL_law_74
def dkwL_law_72 : List UInt8 := [54, 7, 44, 182, 0, 130, 21, 6, 159, 0, 5, 3, 172, 21, 6, 154, 0, 15, 45, 3, 47, 21, 7, 133]
abbrev dktL_law_72 : List UInt8 := dkwL_law_72 ++ dktL_law_73
def dkwL_law_71 : List UInt8 := [21, 7, 133, 148, 153, 0, 5, 3, 172, 167, 0, 191, 43, 45, 184, 0, 222, 54, 6, 44, 182, 0, 224]
abbrev dktL_law_71 : List UInt8 := dkwL_law_71 ++ dktL_law_72
def dkwL_law_70 : List UInt8 := [182, 0, 221, 54, 7, 44, 182, 0, 130, 21, 6, 159, 0, 5, 3, 172, 21, 6, 154, 0, 15, 45, 3, 47]
abbrev dktL_law_70 : List UInt8 := dkwL_law_70 ++ dktL_law_71
def dkwL_law_69 : List UInt8 := [3, 172, 43, 42, 21, 5, 4, 96, 46, 45, 184, 0, 219, 54, 6, 44, 42, 21, 5, 4, 96, 46]
abbrev dktL_law_69 : List UInt8 := dkwL_law_69 ++ dktL_law_70
def dkwL_law_68 : List UInt8 := [47, 21, 7, 133, 148, 153, 0, 5, 3, 172, 167, 1, 4, 43, 182, 0, 215, 44, 182, 0, 218, 159, 0, 249]
abbrev dktL_law_68 : List UInt8 := dkwL_law_68 ++ dktL_law_69
def dkwL_law_67 : List UInt8 := [44, 182, 0, 214, 54, 7, 44, 182, 0, 130, 21, 6, 159, 0, 5, 3, 172, 21, 6, 154, 0, 15, 45, 3]
abbrev dktL_law_67 : List UInt8 := dkwL_law_67 ++ dktL_law_68
def dkwL_law_66 : List UInt8 := [182, 0, 211, 44, 182, 0, 130, 21, 6, 159, 0, 5, 3, 172, 167, 1, 48, 43, 45, 184, 0, 212, 54, 6]
abbrev dktL_law_66 : List UInt8 := dkwL_law_66 ++ dktL_law_67
def dkwL_law_65 : List UInt8 := [167, 1, 86, 43, 42, 21, 5, 4, 96, 46, 146, 184, 0, 208, 54, 6, 44, 42, 21, 5, 4, 96, 46, 146]
abbrev dktL_law_65 : List UInt8 := dkwL_law_65 ++ dktL_law_66
def dkwL_law_64 : List UInt8 := [21, 6, 159, 0, 5, 3, 172, 21, 6, 154, 0, 15, 45, 3, 47, 21, 7, 133, 148, 153, 0, 5, 3, 172]
abbrev dktL_law_64 : List UInt8 := dkwL_law_64 ++ dktL_law_65
def dkwL_law_63 : List UInt8 := [46, 45, 184, 0, 205, 54, 6, 44, 42, 21, 5, 4, 96, 46, 182, 0, 207, 54, 7, 44, 182, 0, 130]
abbrev dktL_law_63 : List UInt8 := dkwL_law_63 ++ dktL_law_64
def dkwL_law_62 : List UInt8 := [154, 0, 15, 45, 3, 47, 21, 7, 133, 148, 153, 0, 5, 3, 172, 167, 1, 142, 43, 42, 21, 5, 4, 96]
abbrev dktL_law_62 : List UInt8 := dkwL_law_62 ++ dktL_law_63
def dkwL_law_61 : List UInt8 := [21, 5, 4, 96, 46, 182, 0, 204, 54, 7, 44, 182, 0, 130, 21, 6, 159, 0, 5, 3, 172, 21, 6]
abbrev dktL_law_61 : List UInt8 := dkwL_law_61 ++ dktL_law_62
def dkwL_law_60 : List UInt8 := [153, 0, 5, 3, 172, 167, 1, 198, 43, 42, 21, 5, 4, 96, 46, 45, 184, 0, 202, 54, 6, 44, 42]
abbrev dktL_law_60 : List UInt8 := dkwL_law_60 ++ dktL_law_61
def dkwL_law_59 : List UInt8 := [182, 0, 130, 21, 6, 159, 0, 5, 3, 172, 21, 6, 154, 0, 15, 45, 3, 47, 21, 7, 133, 148]
abbrev dktL_law_59 : List UInt8 := dkwL_law_59 ++ dktL_law_60
def dkwL_law_58 : List UInt8 := [4, 96, 46, 45, 184, 0, 199, 54, 6, 44, 42, 21, 5, 4, 96, 46, 182, 0, 201, 54, 7, 44]
abbrev dktL_law_58 : List UInt8 := dkwL_law_58 ++ dktL_law_59
def dkwL_law_57 : List UInt8 := [21, 6, 154, 0, 15, 45, 3, 47, 21, 7, 133, 148, 153, 0, 5, 3, 172, 167, 1, 254, 43, 42, 21, 5]
abbrev dktL_law_57 : List UInt8 := dkwL_law_57 ++ dktL_law_58
def dkwL_law_56 : List UInt8 := [44, 42, 21, 5, 4, 96, 46, 182, 0, 198, 54, 7, 44, 182, 0, 130, 21, 6, 159, 0, 5, 3, 172]
abbrev dktL_law_56 : List UInt8 := dkwL_law_56 ++ dktL_law_57
def dkwL_law_55 : List UInt8 := [24, 7, 151, 154, 0, 5, 3, 172, 167, 2, 54, 43, 42, 21, 5, 4, 96, 46, 45, 184, 0, 196, 54, 6]
abbrev dktL_law_55 : List UInt8 := dkwL_law_55 ++ dktL_law_56
def dkwL_law_54 : List UInt8 := [25, 4, 3, 49, 24, 7, 151, 153, 0, 25, 25, 4, 3, 49, 25, 4, 3, 49, 151, 153, 0, 11, 24, 7]
abbrev dktL_law_54 : List UInt8 := dkwL_law_54 ++ dktL_law_55
def dkwL_law_53 : List UInt8 := [5, 96, 46, 182, 0, 195, 57, 7, 44, 182, 0, 130, 21, 6, 159, 0, 5, 3, 172, 21, 6, 154, 0, 35]
abbrev dktL_law_53 : List UInt8 := dkwL_law_53 ++ dktL_law_54
def dkwL_law_52 : List UInt8 := [46, 42, 21, 5, 5, 96, 46, 25, 4, 184, 0, 192, 54, 6, 44, 42, 21, 5, 4, 96, 46, 42, 21, 5]
abbrev dktL_law_52 : List UInt8 := dkwL_law_52 ++ dktL_law_53
def dkwL_law_51 : List UInt8 := [154, 0, 15, 45, 3, 47, 21, 7, 133, 148, 153, 0, 5, 3, 172, 167, 2, 143, 43, 42, 21, 5, 4, 96]
abbrev dktL_law_51 : List UInt8 := dkwL_law_51 ++ dktL_law_52
def dkwL_law_50 : List UInt8 := [42, 21, 5, 5, 96, 46, 182, 0, 191, 54, 7, 44, 182, 0, 130, 21, 6, 159, 0, 5, 3, 172, 21, 6]
abbrev dktL_law_50 : List UInt8 := dkwL_law_50 ++ dktL_law_51
def dkwL_law_49 : List UInt8 := [21, 5, 4, 96, 46, 42, 21, 5, 5, 96, 46, 45, 184, 0, 189, 54, 6, 44, 42, 21, 5, 4, 96, 46]
abbrev dktL_law_49 : List UInt8 := dkwL_law_49 ++ dktL_law_50
def dkwL_law_48 : List UInt8 := [172, 21, 6, 154, 0, 15, 45, 3, 47, 21, 7, 133, 148, 153, 0, 5, 3, 172, 167, 2, 211, 43, 42]
abbrev dktL_law_48 : List UInt8 := dkwL_law_48 ++ dktL_law_49
def dkwL_law_47 : List UInt8 := [54, 6, 44, 42, 21, 5, 4, 96, 46, 182, 0, 188, 54, 7, 44, 182, 0, 130, 21, 6, 159, 0, 5, 3]
abbrev dktL_law_47 : List UInt8 := dkwL_law_47 ++ dktL_law_48
def dkwL_law_46 : List UInt8 := [21, 7, 133, 148, 153, 0, 5, 3, 172, 167, 3, 11, 43, 42, 21, 5, 4, 96, 46, 45, 184, 0, 186]
abbrev dktL_law_46 : List UInt8 := dkwL_law_46 ++ dktL_law_47
def dkwL_law_45 : List UInt8 := [182, 0, 185, 54, 7, 44, 182, 0, 130, 21, 6, 159, 0, 5, 3, 172, 21, 6, 154, 0, 15, 45, 3, 47]
abbrev dktL_law_45 : List UInt8 := dkwL_law_45 ++ dktL_law_46
def dkwL_law_44 : List UInt8 := [167, 3, 67, 43, 42, 21, 5, 4, 96, 46, 45, 184, 0, 183, 54, 6, 44, 42, 21, 5, 4, 96, 46]
abbrev dktL_law_44 : List UInt8 := dkwL_law_44 ++ dktL_law_45
def dkwL_law_43 : List UInt8 := [21, 6, 159, 0, 5, 3, 172, 21, 6, 154, 0, 15, 45, 3, 47, 21, 7, 133, 148, 153, 0, 5, 3, 172]
abbrev dktL_law_43 : List UInt8 := dkwL_law_43 ++ dktL_law_44
def dkwL_law_42 : List UInt8 := [46, 45, 184, 0, 180, 54, 6, 44, 42, 21, 5, 4, 96, 46, 182, 0, 182, 54, 7, 44, 182, 0, 130]
abbrev dktL_law_42 : List UInt8 := dkwL_law_42 ++ dktL_law_43
def dkwL_law_41 : List UInt8 := [154, 0, 15, 45, 3, 47, 21, 7, 133, 148, 153, 0, 5, 3, 172, 167, 3, 123, 43, 42, 21, 5, 4, 96]
abbrev dktL_law_41 : List UInt8 := dkwL_law_41 ++ dktL_law_42
def dkwL_law_40 : List UInt8 := [42, 21, 5, 5, 96, 46, 182, 0, 179, 54, 7, 44, 182, 0, 130, 21, 6, 159, 0, 5, 3, 172, 21, 6]
abbrev dktL_law_40 : List UInt8 := dkwL_law_40 ++ dktL_law_41
def dkwL_law_39 : List UInt8 := [21, 5, 4, 96, 46, 42, 21, 5, 5, 96, 46, 45, 184, 0, 177, 54, 6, 44, 42, 21, 5, 4, 96, 46]
abbrev dktL_law_39 : List UInt8 := dkwL_law_39 ++ dktL_law_40
def dkwL_law_38 : List UInt8 := [172, 21, 6, 154, 0, 15, 45, 3, 47, 21, 7, 133, 148, 153, 0, 5, 3, 172, 167, 3, 191, 43, 42]
abbrev dktL_law_38 : List UInt8 := dkwL_law_38 ++ dktL_law_39
def dkwL_law_37 : List UInt8 := [4, 96, 46, 42, 21, 5, 5, 96, 46, 182, 0, 176, 54, 7, 44, 182, 0, 130, 21, 6, 159, 0, 5, 3]
abbrev dktL_law_37 : List UInt8 := dkwL_law_37 ++ dktL_law_38
def dkwL_law_36 : List UInt8 := [172, 43, 42, 21, 5, 4, 96, 46, 42, 21, 5, 5, 96, 46, 45, 184, 0, 174, 54, 6, 44, 42, 21, 5]
abbrev dktL_law_36 : List UInt8 := dkwL_law_36 ++ dktL_law_37
def dkwL_law_35 : List UInt8 := [21, 7, 133, 148, 153, 0, 5, 3, 172, 167, 4, 16, 43, 182, 0, 170, 44, 182, 0, 173, 159, 4, 5, 3]
abbrev dktL_law_35 : List UInt8 := dkwL_law_35 ++ dktL_law_36
def dkwL_law_34 : List UInt8 := [182, 0, 169, 54, 7, 44, 182, 0, 130, 21, 6, 159, 0, 5, 3, 172, 21, 6, 154, 0, 15, 45, 3, 47]
abbrev dktL_law_34 : List UInt8 := dkwL_law_34 ++ dktL_law_35
def dkwL_law_33 : List UInt8 := [167, 4, 72, 43, 42, 21, 5, 4, 96, 46, 45, 184, 0, 167, 54, 6, 44, 42, 21, 5, 4, 96, 46]
abbrev dktL_law_33 : List UInt8 := dkwL_law_33 ++ dktL_law_34
def dkwL_law_32 : List UInt8 := [159, 0, 5, 3, 172, 21, 6, 154, 0, 15, 45, 3, 47, 21, 7, 133, 148, 153, 0, 5, 3, 172]
abbrev dktL_law_32 : List UInt8 := dkwL_law_32 ++ dktL_law_33
def dkwL_law_31 : List UInt8 := [167, 4, 116, 43, 45, 184, 0, 163, 54, 6, 44, 182, 0, 166, 54, 7, 44, 182, 0, 130, 21, 6]
abbrev dktL_law_31 : List UInt8 := dkwL_law_31 ++ dktL_law_32
def dkwL_law_30 : List UInt8 := [21, 6, 159, 0, 5, 3, 172, 21, 6, 154, 0, 15, 45, 3, 47, 21, 7, 133, 148, 153, 0, 5, 3, 172]
abbrev dktL_law_30 : List UInt8 := dkwL_law_30 ++ dktL_law_31
def dkwL_law_29 : List UInt8 := [42, 21, 5, 5, 96, 46, 153, 0, 7, 4, 167, 0, 4, 3, 182, 0, 162, 54, 7, 44, 182, 0, 130]
abbrev dktL_law_29 : List UInt8 := dkwL_law_29 ++ dktL_law_30
def dkwL_law_28 : List UInt8 := [5, 96, 46, 153, 0, 7, 4, 167, 0, 4, 3, 45, 184, 0, 159, 54, 6, 44, 42, 21, 5, 4, 96, 46]
abbrev dktL_law_28 : List UInt8 := dkwL_law_28 ++ dktL_law_29
def dkwL_law_27 : List UInt8 := [3, 47, 21, 7, 133, 148, 153, 0, 5, 3, 172, 167, 4, 200, 43, 42, 21, 5, 4, 96, 46, 42, 21, 5]
abbrev dktL_law_27 : List UInt8 := dkwL_law_27 ++ dktL_law_28
def dkwL_law_26 : List UInt8 := [96, 46, 182, 0, 158, 54, 7, 44, 182, 0, 130, 21, 6, 159, 0, 5, 3, 172, 21, 6, 154, 0, 15, 45]
abbrev dktL_law_26 : List UInt8 := dkwL_law_26 ++ dktL_law_27
def dkwL_law_25 : List UInt8 := [46, 42, 21, 5, 5, 96, 46, 45, 184, 0, 156, 54, 6, 44, 42, 21, 5, 4, 96, 46, 42, 21, 5, 5]
abbrev dktL_law_25 : List UInt8 := dkwL_law_25 ++ dktL_law_26
def dkwL_law_24 : List UInt8 := [154, 0, 15, 45, 3, 47, 21, 7, 133, 148, 153, 0, 5, 3, 172, 167, 5, 12, 43, 42, 21, 5, 4, 96]
abbrev dktL_law_24 : List UInt8 := dkwL_law_24 ++ dktL_law_25
def dkwL_law_23 : List UInt8 := [21, 5, 4, 96, 46, 182, 0, 155, 54, 7, 44, 182, 0, 130, 21, 6, 159, 0, 5, 3, 172, 21, 6]
abbrev dktL_law_23 : List UInt8 := dkwL_law_23 ++ dktL_law_24
def dkwL_law_22 : List UInt8 := [153, 0, 5, 3, 172, 167, 5, 68, 43, 42, 21, 5, 4, 96, 46, 45, 184, 0, 153, 54, 6, 44, 42]
abbrev dktL_law_22 : List UInt8 := dkwL_law_22 ++ dktL_law_23
def dkwL_law_21 : List UInt8 := [182, 0, 130, 21, 6, 159, 0, 5, 3, 172, 21, 6, 154, 0, 15, 45, 3, 47, 21, 7, 133, 148]
abbrev dktL_law_21 : List UInt8 := dkwL_law_21 ++ dktL_law_22
def dkwL_law_20 : List UInt8 := [21, 5, 4, 96, 46, 45, 184, 0, 150, 54, 6, 44, 42, 21, 5, 4, 96, 46, 182, 0, 152, 54, 7, 44]
abbrev dktL_law_20 : List UInt8 := dkwL_law_20 ++ dktL_law_21
def dkwL_law_19 : List UInt8 := [172, 21, 6, 154, 0, 15, 45, 3, 47, 21, 7, 133, 148, 153, 0, 5, 3, 172, 167, 5, 124, 43, 42]
abbrev dktL_law_19 : List UInt8 := dkwL_law_19 ++ dktL_law_20
def dkwL_law_18 : List UInt8 := [54, 6, 44, 42, 21, 5, 4, 96, 46, 182, 0, 149, 54, 7, 44, 182, 0, 130, 21, 6, 159, 0, 5, 3]
abbrev dktL_law_18 : List UInt8 := dkwL_law_18 ++ dktL_law_19
def dkwL_law_17 : List UInt8 := [21, 7, 133, 148, 153, 0, 5, 3, 172, 167, 5, 180, 43, 42, 21, 5, 4, 96, 46, 45, 184, 0, 147]
abbrev dktL_law_17 : List UInt8 := dkwL_law_17 ++ dktL_law_18
def dkwL_law_16 : List UInt8 := [182, 0, 146, 54, 7, 44, 182, 0, 130, 21, 6, 159, 0, 5, 3, 172, 21, 6, 154, 0, 15, 45, 3, 47]
abbrev dktL_law_16 : List UInt8 := dkwL_law_16 ++ dktL_law_17
def dkwL_law_15 : List UInt8 := [5, 96, 46, 45, 184, 0, 144, 54, 6, 44, 42, 21, 5, 4, 96, 46, 42, 21, 5, 5, 96, 46]
abbrev dktL_law_15 : List UInt8 := dkwL_law_15 ++ dktL_law_16
def dkwL_law_14 : List UInt8 := [3, 47, 21, 7, 133, 148, 153, 0, 5, 3, 172, 167, 5, 248, 43, 42, 21, 5, 4, 96, 46, 42, 21, 5]
abbrev dktL_law_14 : List UInt8 := dkwL_law_14 ++ dktL_law_15
def dkwL_law_13 : List UInt8 := [96, 46, 182, 0, 143, 54, 7, 44, 182, 0, 130, 21, 6, 159, 0, 5, 3, 172, 21, 6, 154, 0, 15, 45]
abbrev dktL_law_13 : List UInt8 := dkwL_law_13 ++ dktL_law_14
def dkwL_law_12 : List UInt8 := [46, 42, 21, 5, 5, 96, 46, 45, 184, 0, 141, 54, 6, 44, 42, 21, 5, 4, 96, 46, 42, 21, 5, 5]
abbrev dktL_law_12 : List UInt8 := dkwL_law_12 ++ dktL_law_13
def dkwL_law_11 : List UInt8 := [154, 0, 15, 45, 3, 47, 21, 7, 133, 148, 153, 0, 5, 3, 172, 167, 6, 60, 43, 42, 21, 5, 4, 96]
abbrev dktL_law_11 : List UInt8 := dkwL_law_11 ++ dktL_law_12
def dkwL_law_10 : List UInt8 := [21, 5, 4, 96, 46, 182, 0, 140, 54, 7, 44, 182, 0, 130, 21, 6, 159, 0, 5, 3, 172, 21, 6]
abbrev dktL_law_10 : List UInt8 := dkwL_law_10 ++ dktL_law_11
def dkwL_law_9 : List UInt8 := [153, 0, 5, 3, 172, 167, 6, 116, 43, 42, 21, 5, 4, 96, 46, 45, 184, 0, 137, 54, 6, 44, 42]
abbrev dktL_law_9 : List UInt8 := dkwL_law_9 ++ dktL_law_10
def dkwL_law_8 : List UInt8 := [182, 0, 130, 21, 6, 159, 0, 5, 3, 172, 21, 6, 154, 0, 15, 45, 3, 47, 21, 7, 133, 148]
abbrev dktL_law_8 : List UInt8 := dkwL_law_8 ++ dktL_law_9
def dkwL_law_7 : List UInt8 := [184, 0, 133, 54, 6, 44, 42, 21, 5, 4, 96, 46, 42, 21, 5, 5, 96, 46, 182, 0, 136, 54, 7, 44]
abbrev dktL_law_7 : List UInt8 := dkwL_law_7 ++ dktL_law_8
def dkwL_law_6 : List UInt8 := [148, 153, 0, 5, 3, 172, 167, 6, 184, 43, 42, 21, 5, 4, 96, 46, 42, 21, 5, 5, 96, 46, 45]
abbrev dktL_law_6 : List UInt8 := dkwL_law_6 ++ dktL_law_7
def dkwL_law_5 : List UInt8 := [54, 7, 44, 182, 0, 130, 21, 6, 159, 0, 5, 3, 172, 21, 6, 154, 0, 15, 45, 3, 47, 21, 7, 133]
abbrev dktL_law_5 : List UInt8 := dkwL_law_5 ++ dktL_law_6
def dkwL_law_4 : List UInt8 := [54, 6, 44, 42, 21, 5, 4, 96, 46, 42, 21, 5, 5, 96, 46, 42, 21, 5, 6, 96, 46, 182, 0, 129]
abbrev dktL_law_4 : List UInt8 := dkwL_law_4 ++ dktL_law_5
def dkwL_law_3 : List UInt8 := [43, 42, 21, 5, 4, 96, 46, 42, 21, 5, 5, 96, 46, 42, 21, 5, 6, 96, 46, 45, 184, 0, 124]
abbrev dktL_law_3 : List UInt8 := dkwL_law_3 ++ dktL_law_4
def dkwL_law_2 : List UInt8 := [170, 0, 0, 0, 0, 0, 7, 153, 0, 0, 0, 0, 0, 0, 0, 32, 0, 0, 0, 148, 0, 0, 0, 228, 0, 0, 1, 40, 0, 0, 1, 96, 0, 0, 1, 164, 0, 0, 1, 232, 0, 0, 2, 32, 0, 0, 2, 88, 0, 0, 2, 144, 0, 0, 2, 212, 0, 0, 3, 40, 0, 0, 3, 84, 0, 0, 3, 140, 0, 0, 3, 153, 0, 0, 3, 221, 0, 0, 4, 33, 0, 0, 4, 89, 0, 0, 4, 145, 0, 0, 4, 201, 0, 0, 5, 13, 0, 0, 5, 102, 0, 0, 5, 158, 0, 0, 5, 214, 0, 0, 6, 14, 0, 0, 6, 70, 0, 0, 6, 108, 0, 0, 6, 152, 0, 0, 6, 165, 0, 0, 6, 221, 0, 0, 7, 9, 0, 0, 7, 74, 0, 0, 7, 118, 0, 0, 7, 129]
abbrev dktL_law_2 : List UInt8 := dkwL_law_2 ++ dktL_law_3
def dkwL_law_1 : List UInt8 := [58, 4, 3, 54, 5, 21, 5, 42, 190, 7, 100, 163, 7, 169, 42, 21, 5, 46, 16, 63, 126]
abbrev dktL_law_1 : List UInt8 := dkwL_law_1 ++ dktL_law_2
def dkwL_law_0 : List UInt8 := [187, 0, 8, 89, 183, 0, 120, 76, 187, 0, 121, 89, 183, 0, 123, 77, 4, 188, 11, 78, 4, 188, 7]
abbrev dktL_law_0 : List UInt8 := dkwL_law_0 ++ dktL_law_1
theorem dksL_law_0 : cL_law.data.toList.drop 0 = dktL_law_0 := by decide +kernel
theorem dksL_law_1 : cL_law.data.toList.drop 23 = dktL_law_1 := dk_seg dksL_law_0 23 rfl rfl
theorem dksL_law_2 : cL_law.data.toList.drop 44 = dktL_law_2 := dk_seg dksL_law_1 21 rfl rfl
theorem dksL_law_3 : cL_law.data.toList.drop 192 = dktL_law_3 := dk_seg dksL_law_2 148 rfl rfl
theorem dksL_law_4 : cL_law.data.toList.drop 215 = dktL_law_4 := dk_seg dksL_law_3 23 rfl rfl
theorem dksL_law_5 : cL_law.data.toList.drop 239 = dktL_law_5 := dk_seg dksL_law_4 24 rfl rfl
theorem dksL_law_6 : cL_law.data.toList.drop 263 = dktL_law_6 := dk_seg dksL_law_5 24 rfl rfl
theorem dksL_law_7 : cL_law.data.toList.drop 286 = dktL_law_7 := dk_seg dksL_law_6 23 rfl rfl
theorem dksL_law_8 : cL_law.data.toList.drop 310 = dktL_law_8 := dk_seg dksL_law_7 24 rfl rfl
theorem dksL_law_9 : cL_law.data.toList.drop 332 = dktL_law_9 := dk_seg dksL_law_8 22 rfl rfl
theorem dksL_law_10 : cL_law.data.toList.drop 355 = dktL_law_10 := dk_seg dksL_law_9 23 rfl rfl
theorem dksL_law_11 : cL_law.data.toList.drop 378 = dktL_law_11 := dk_seg dksL_law_10 23 rfl rfl
theorem dksL_law_12 : cL_law.data.toList.drop 402 = dktL_law_12 := dk_seg dksL_law_11 24 rfl rfl
theorem dksL_law_13 : cL_law.data.toList.drop 426 = dktL_law_13 := dk_seg dksL_law_12 24 rfl rfl
theorem dksL_law_14 : cL_law.data.toList.drop 450 = dktL_law_14 := dk_seg dksL_law_13 24 rfl rfl
theorem dksL_law_15 : cL_law.data.toList.drop 474 = dktL_law_15 := dk_seg dksL_law_14 24 rfl rfl
theorem dksL_law_16 : cL_law.data.toList.drop 496 = dktL_law_16 := dk_seg dksL_law_15 22 rfl rfl
theorem dksL_law_17 : cL_law.data.toList.drop 520 = dktL_law_17 := dk_seg dksL_law_16 24 rfl rfl
theorem dksL_law_18 : cL_law.data.toList.drop 543 = dktL_law_18 := dk_seg dksL_law_17 23 rfl rfl
theorem dksL_law_19 : cL_law.data.toList.drop 567 = dktL_law_19 := dk_seg dksL_law_18 24 rfl rfl
theorem dksL_law_20 : cL_law.data.toList.drop 590 = dktL_law_20 := dk_seg dksL_law_19 23 rfl rfl
theorem dksL_law_21 : cL_law.data.toList.drop 614 = dktL_law_21 := dk_seg dksL_law_20 24 rfl rfl
theorem dksL_law_22 : cL_law.data.toList.drop 636 = dktL_law_22 := dk_seg dksL_law_21 22 rfl rfl
theorem dksL_law_23 : cL_law.data.toList.drop 659 = dktL_law_23 := dk_seg dksL_law_22 23 rfl rfl
theorem dksL_law_24 : cL_law.data.toList.drop 682 = dktL_law_24 := dk_seg dksL_law_23 23 rfl rfl
theorem dksL_law_25 : cL_law.data.toList.drop 706 = dktL_law_25 := dk_seg dksL_law_24 24 rfl rfl
theorem dksL_law_26 : cL_law.data.toList.drop 730 = dktL_law_26 := dk_seg dksL_law_25 24 rfl rfl
theorem dksL_law_27 : cL_law.data.toList.drop 754 = dktL_law_27 := dk_seg dksL_law_26 24 rfl rfl
theorem dksL_law_28 : cL_law.data.toList.drop 778 = dktL_law_28 := dk_seg dksL_law_27 24 rfl rfl
theorem dksL_law_29 : cL_law.data.toList.drop 802 = dktL_law_29 := dk_seg dksL_law_28 24 rfl rfl
theorem dksL_law_30 : cL_law.data.toList.drop 825 = dktL_law_30 := dk_seg dksL_law_29 23 rfl rfl
theorem dksL_law_31 : cL_law.data.toList.drop 849 = dktL_law_31 := dk_seg dksL_law_30 24 rfl rfl
theorem dksL_law_32 : cL_law.data.toList.drop 871 = dktL_law_32 := dk_seg dksL_law_31 22 rfl rfl
theorem dksL_law_33 : cL_law.data.toList.drop 893 = dktL_law_33 := dk_seg dksL_law_32 22 rfl rfl
theorem dksL_law_34 : cL_law.data.toList.drop 916 = dktL_law_34 := dk_seg dksL_law_33 23 rfl rfl
theorem dksL_law_35 : cL_law.data.toList.drop 940 = dktL_law_35 := dk_seg dksL_law_34 24 rfl rfl
theorem dksL_law_36 : cL_law.data.toList.drop 964 = dktL_law_36 := dk_seg dksL_law_35 24 rfl rfl
theorem dksL_law_37 : cL_law.data.toList.drop 988 = dktL_law_37 := dk_seg dksL_law_36 24 rfl rfl
theorem dksL_law_38 : cL_law.data.toList.drop 1012 = dktL_law_38 := dk_seg dksL_law_37 24 rfl rfl
theorem dksL_law_39 : cL_law.data.toList.drop 1035 = dktL_law_39 := dk_seg dksL_law_38 23 rfl rfl
theorem dksL_law_40 : cL_law.data.toList.drop 1059 = dktL_law_40 := dk_seg dksL_law_39 24 rfl rfl
theorem dksL_law_41 : cL_law.data.toList.drop 1083 = dktL_law_41 := dk_seg dksL_law_40 24 rfl rfl
theorem dksL_law_42 : cL_law.data.toList.drop 1107 = dktL_law_42 := dk_seg dksL_law_41 24 rfl rfl
theorem dksL_law_43 : cL_law.data.toList.drop 1130 = dktL_law_43 := dk_seg dksL_law_42 23 rfl rfl
theorem dksL_law_44 : cL_law.data.toList.drop 1154 = dktL_law_44 := dk_seg dksL_law_43 24 rfl rfl
theorem dksL_law_45 : cL_law.data.toList.drop 1177 = dktL_law_45 := dk_seg dksL_law_44 23 rfl rfl
theorem dksL_law_46 : cL_law.data.toList.drop 1201 = dktL_law_46 := dk_seg dksL_law_45 24 rfl rfl
theorem dksL_law_47 : cL_law.data.toList.drop 1224 = dktL_law_47 := dk_seg dksL_law_46 23 rfl rfl
theorem dksL_law_48 : cL_law.data.toList.drop 1248 = dktL_law_48 := dk_seg dksL_law_47 24 rfl rfl
theorem dksL_law_49 : cL_law.data.toList.drop 1271 = dktL_law_49 := dk_seg dksL_law_48 23 rfl rfl
theorem dksL_law_50 : cL_law.data.toList.drop 1295 = dktL_law_50 := dk_seg dksL_law_49 24 rfl rfl
theorem dksL_law_51 : cL_law.data.toList.drop 1319 = dktL_law_51 := dk_seg dksL_law_50 24 rfl rfl
theorem dksL_law_52 : cL_law.data.toList.drop 1343 = dktL_law_52 := dk_seg dksL_law_51 24 rfl rfl
theorem dksL_law_53 : cL_law.data.toList.drop 1367 = dktL_law_53 := dk_seg dksL_law_52 24 rfl rfl
theorem dksL_law_54 : cL_law.data.toList.drop 1391 = dktL_law_54 := dk_seg dksL_law_53 24 rfl rfl
theorem dksL_law_55 : cL_law.data.toList.drop 1415 = dktL_law_55 := dk_seg dksL_law_54 24 rfl rfl
theorem dksL_law_56 : cL_law.data.toList.drop 1439 = dktL_law_56 := dk_seg dksL_law_55 24 rfl rfl
theorem dksL_law_57 : cL_law.data.toList.drop 1462 = dktL_law_57 := dk_seg dksL_law_56 23 rfl rfl
theorem dksL_law_58 : cL_law.data.toList.drop 1486 = dktL_law_58 := dk_seg dksL_law_57 24 rfl rfl
theorem dksL_law_59 : cL_law.data.toList.drop 1508 = dktL_law_59 := dk_seg dksL_law_58 22 rfl rfl
theorem dksL_law_60 : cL_law.data.toList.drop 1530 = dktL_law_60 := dk_seg dksL_law_59 22 rfl rfl
theorem dksL_law_61 : cL_law.data.toList.drop 1553 = dktL_law_61 := dk_seg dksL_law_60 23 rfl rfl
theorem dksL_law_62 : cL_law.data.toList.drop 1576 = dktL_law_62 := dk_seg dksL_law_61 23 rfl rfl
theorem dksL_law_63 : cL_law.data.toList.drop 1600 = dktL_law_63 := dk_seg dksL_law_62 24 rfl rfl
theorem dksL_law_64 : cL_law.data.toList.drop 1623 = dktL_law_64 := dk_seg dksL_law_63 23 rfl rfl
theorem dksL_law_65 : cL_law.data.toList.drop 1647 = dktL_law_65 := dk_seg dksL_law_64 24 rfl rfl
theorem dksL_law_66 : cL_law.data.toList.drop 1671 = dktL_law_66 := dk_seg dksL_law_65 24 rfl rfl
theorem dksL_law_67 : cL_law.data.toList.drop 1695 = dktL_law_67 := dk_seg dksL_law_66 24 rfl rfl
theorem dksL_law_68 : cL_law.data.toList.drop 1719 = dktL_law_68 := dk_seg dksL_law_67 24 rfl rfl
theorem dksL_law_69 : cL_law.data.toList.drop 1743 = dktL_law_69 := dk_seg dksL_law_68 24 rfl rfl
theorem dksL_law_70 : cL_law.data.toList.drop 1765 = dktL_law_70 := dk_seg dksL_law_69 22 rfl rfl
theorem dksL_law_71 : cL_law.data.toList.drop 1789 = dktL_law_71 := dk_seg dksL_law_70 24 rfl rfl
theorem dksL_law_72 : cL_law.data.toList.drop 1812 = dktL_law_72 := dk_seg dksL_law_71 23 rfl rfl
theorem dksL_law_73 : cL_law.data.toList.drop 1836 = dktL_law_73 := dk_seg dksL_law_72 24 rfl rfl
theorem dksL_law_74 : cL_law.data.toList.drop 1860 = dktL_law_74 := dk_seg dksL_law_73 24 rfl rfl
theorem dksL_law_75 : cL_law.data.toList.drop 1882 = dktL_law_75 := dk_seg dksL_law_74 22 rfl rfl
theorem dksL_law_76 : cL_law.data.toList.drop 1906 = dktL_law_76 := dk_seg dksL_law_75 24 rfl rfl
theorem dksL_law_77 : cL_law.data.toList.drop 1929 = dktL_law_77 := dk_seg dksL_law_76 23 rfl rfl
theorem dksL_law_78 : cL_law.data.toList.drop 1951 = dktL_law_78 := dk_seg dksL_law_77 22 rfl rfl
theorem dksL_law_79 : cL_law.data.toList.drop 1975 = dktL_law_79 := dk_seg dksL_law_78 24 rfl rfl
theorem dL_law_0 : decode cL_law 0 = .ok (.new 8, 3) := dk_187 0 8 (dk_at dksL_law_0 0 rfl rfl)
theorem dL_law_3 : decode cL_law 3 = .ok (.dup, 1) := dk_89 (dk_at dksL_law_0 3 rfl rfl)
theorem dL_law_4 : decode cL_law 4 = .ok (.invokespecial 120, 3) := dk_183 0 120 (dk_at dksL_law_0 4 rfl rfl)
theorem dL_law_7 : decode cL_law 7 = .ok (.astore_n 1, 1) := dk_76 (dk_at dksL_law_0 7 rfl rfl)
theorem dL_law_8 : decode cL_law 8 = .ok (.new 121, 3) := dk_187 0 121 (dk_at dksL_law_0 8 rfl rfl)
theorem dL_law_11 : decode cL_law 11 = .ok (.dup, 1) := dk_89 (dk_at dksL_law_0 11 rfl rfl)
theorem dL_law_12 : decode cL_law 12 = .ok (.invokespecial 123, 3) := dk_183 0 123 (dk_at dksL_law_0 12 rfl rfl)
theorem dL_law_15 : decode cL_law 15 = .ok (.astore_n 2, 1) := dk_77 (dk_at dksL_law_0 15 rfl rfl)
theorem dL_law_16 : decode cL_law 16 = .ok (.iconst 1, 1) := dk_4 (dk_at dksL_law_0 16 rfl rfl)
theorem dL_law_17 : decode cL_law 17 = .ok (.newarray .long, 2) := dk_188_11 (dk_at dksL_law_0 17 rfl rfl)
theorem dL_law_19 : decode cL_law 19 = .ok (.astore_n 3, 1) := dk_78 (dk_at dksL_law_0 19 rfl rfl)
theorem dL_law_20 : decode cL_law 20 = .ok (.iconst 1, 1) := dk_4 (dk_at dksL_law_0 20 rfl rfl)
theorem dL_law_21 : decode cL_law 21 = .ok (.newarray .double, 2) := dk_188_7 (dk_at dksL_law_0 21 rfl rfl)
theorem dL_law_23 : decode cL_law 23 = .ok (.astore 4, 2) := dk_58 4 (dk_at dksL_law_1 0 rfl rfl)
theorem dL_law_25 : decode cL_law 25 = .ok (.iconst 0, 1) := dk_3 (dk_at dksL_law_1 2 rfl rfl)
theorem dL_law_26 : decode cL_law 26 = .ok (.istore 5, 2) := dk_54 5 (dk_at dksL_law_1 3 rfl rfl)
theorem dL_law_28 : decode cL_law 28 = .ok (.iload 5, 2) := dk_21 5 (dk_at dksL_law_1 5 rfl rfl)
theorem dL_law_30 : decode cL_law 30 = .ok (.aload_n 0, 1) := dk_42 (dk_at dksL_law_1 7 rfl rfl)
theorem dL_law_31 : decode cL_law 31 = .ok (.arraylength, 1) := dk_190 (dk_at dksL_law_1 8 rfl rfl)
theorem dL_law_32 : decode cL_law 32 = .ok (.iconst 4, 1) := dk_7 (dk_at dksL_law_1 9 rfl rfl)
theorem dL_law_33 : decode cL_law 33 = .ok (.isub, 1) := dk_100 (dk_at dksL_law_1 10 rfl rfl)
theorem dL_law_34 : decode cL_law 34 = .ok (.if_icmp .gt 1961, 3) := dk_163 7 169 (dk_at dksL_law_1 11 rfl rfl)
theorem dL_law_37 : decode cL_law 37 = .ok (.aload_n 0, 1) := dk_42 (dk_at dksL_law_1 14 rfl rfl)
theorem dL_law_38 : decode cL_law 38 = .ok (.iload 5, 2) := dk_21 5 (dk_at dksL_law_1 15 rfl rfl)
theorem dL_law_40 : decode cL_law 40 = .ok (.iaload, 1) := dk_46 (dk_at dksL_law_1 17 rfl rfl)
theorem dL_law_41 : decode cL_law 41 = .ok (.bipush 63, 2) := dk_16 63 (dk_at dksL_law_1 18 rfl rfl)
theorem dL_law_43 : decode cL_law 43 = .ok (.iand, 1) := dk_126 (dk_at dksL_law_1 20 rfl rfl)
theorem dL_law_44 : decode cL_law 44 = .ok (.tableswitch 1945 0 32 #[148, 228, 296, 352, 420, 488, 544, 600, 656, 724, 808, 852, 908, 921, 989, 1057, 1113, 1169, 1225, 1293, 1382, 1438, 1494, 1550, 1606, 1644, 1688, 1701, 1757, 1801, 1866, 1910, 1921], 148) := by decide +kernel
theorem dL_law_192 : decode cL_law 192 = .ok (.aload_n 1, 1) := dk_43 (dk_at dksL_law_3 0 rfl rfl)
theorem dL_law_193 : decode cL_law 193 = .ok (.aload_n 0, 1) := dk_42 (dk_at dksL_law_3 1 rfl rfl)
theorem dL_law_194 : decode cL_law 194 = .ok (.iload 5, 2) := dk_21 5 (dk_at dksL_law_3 2 rfl rfl)
theorem dL_law_196 : decode cL_law 196 = .ok (.iconst 1, 1) := dk_4 (dk_at dksL_law_3 4 rfl rfl)
theorem dL_law_197 : decode cL_law 197 = .ok (.iadd, 1) := dk_96 (dk_at dksL_law_3 5 rfl rfl)
theorem dL_law_198 : decode cL_law 198 = .ok (.iaload, 1) := dk_46 (dk_at dksL_law_3 6 rfl rfl)
theorem dL_law_199 : decode cL_law 199 = .ok (.aload_n 0, 1) := dk_42 (dk_at dksL_law_3 7 rfl rfl)
theorem dL_law_200 : decode cL_law 200 = .ok (.iload 5, 2) := dk_21 5 (dk_at dksL_law_3 8 rfl rfl)
theorem dL_law_202 : decode cL_law 202 = .ok (.iconst 2, 1) := dk_5 (dk_at dksL_law_3 10 rfl rfl)
theorem dL_law_203 : decode cL_law 203 = .ok (.iadd, 1) := dk_96 (dk_at dksL_law_3 11 rfl rfl)
theorem dL_law_204 : decode cL_law 204 = .ok (.iaload, 1) := dk_46 (dk_at dksL_law_3 12 rfl rfl)
theorem dL_law_205 : decode cL_law 205 = .ok (.aload_n 0, 1) := dk_42 (dk_at dksL_law_3 13 rfl rfl)
theorem dL_law_206 : decode cL_law 206 = .ok (.iload 5, 2) := dk_21 5 (dk_at dksL_law_3 14 rfl rfl)
theorem dL_law_208 : decode cL_law 208 = .ok (.iconst 3, 1) := dk_6 (dk_at dksL_law_3 16 rfl rfl)
theorem dL_law_209 : decode cL_law 209 = .ok (.iadd, 1) := dk_96 (dk_at dksL_law_3 17 rfl rfl)
theorem dL_law_210 : decode cL_law 210 = .ok (.iaload, 1) := dk_46 (dk_at dksL_law_3 18 rfl rfl)
theorem dL_law_211 : decode cL_law 211 = .ok (.aload_n 3, 1) := dk_45 (dk_at dksL_law_3 19 rfl rfl)
theorem dL_law_212 : decode cL_law 212 = .ok (.invokestatic 124, 3) := dk_184 0 124 (dk_at dksL_law_3 20 rfl rfl)
theorem dL_law_215 : decode cL_law 215 = .ok (.istore 6, 2) := dk_54 6 (dk_at dksL_law_4 0 rfl rfl)
theorem dL_law_217 : decode cL_law 217 = .ok (.aload_n 2, 1) := dk_44 (dk_at dksL_law_4 2 rfl rfl)
theorem dL_law_218 : decode cL_law 218 = .ok (.aload_n 0, 1) := dk_42 (dk_at dksL_law_4 3 rfl rfl)
theorem dL_law_219 : decode cL_law 219 = .ok (.iload 5, 2) := dk_21 5 (dk_at dksL_law_4 4 rfl rfl)
theorem dL_law_221 : decode cL_law 221 = .ok (.iconst 1, 1) := dk_4 (dk_at dksL_law_4 6 rfl rfl)
theorem dL_law_222 : decode cL_law 222 = .ok (.iadd, 1) := dk_96 (dk_at dksL_law_4 7 rfl rfl)
theorem dL_law_223 : decode cL_law 223 = .ok (.iaload, 1) := dk_46 (dk_at dksL_law_4 8 rfl rfl)
theorem dL_law_224 : decode cL_law 224 = .ok (.aload_n 0, 1) := dk_42 (dk_at dksL_law_4 9 rfl rfl)
theorem dL_law_225 : decode cL_law 225 = .ok (.iload 5, 2) := dk_21 5 (dk_at dksL_law_4 10 rfl rfl)
theorem dL_law_227 : decode cL_law 227 = .ok (.iconst 2, 1) := dk_5 (dk_at dksL_law_4 12 rfl rfl)
theorem dL_law_228 : decode cL_law 228 = .ok (.iadd, 1) := dk_96 (dk_at dksL_law_4 13 rfl rfl)
theorem dL_law_229 : decode cL_law 229 = .ok (.iaload, 1) := dk_46 (dk_at dksL_law_4 14 rfl rfl)
theorem dL_law_230 : decode cL_law 230 = .ok (.aload_n 0, 1) := dk_42 (dk_at dksL_law_4 15 rfl rfl)
theorem dL_law_231 : decode cL_law 231 = .ok (.iload 5, 2) := dk_21 5 (dk_at dksL_law_4 16 rfl rfl)
theorem dL_law_233 : decode cL_law 233 = .ok (.iconst 3, 1) := dk_6 (dk_at dksL_law_4 18 rfl rfl)
theorem dL_law_234 : decode cL_law 234 = .ok (.iadd, 1) := dk_96 (dk_at dksL_law_4 19 rfl rfl)
theorem dL_law_235 : decode cL_law 235 = .ok (.iaload, 1) := dk_46 (dk_at dksL_law_4 20 rfl rfl)
theorem dL_law_236 : decode cL_law 236 = .ok (.invokevirtual 129, 3) := dk_182 0 129 (dk_at dksL_law_4 21 rfl rfl)
theorem dL_law_239 : decode cL_law 239 = .ok (.istore 7, 2) := dk_54 7 (dk_at dksL_law_5 0 rfl rfl)
theorem dL_law_241 : decode cL_law 241 = .ok (.aload_n 2, 1) := dk_44 (dk_at dksL_law_5 2 rfl rfl)
theorem dL_law_242 : decode cL_law 242 = .ok (.invokevirtual 130, 3) := dk_182 0 130 (dk_at dksL_law_5 3 rfl rfl)
theorem dL_law_245 : decode cL_law 245 = .ok (.iload 6, 2) := dk_21 6 (dk_at dksL_law_5 6 rfl rfl)
theorem dL_law_247 : decode cL_law 247 = .ok (.if_icmp .eq 5, 3) := dk_159 0 5 (dk_at dksL_law_5 8 rfl rfl)
theorem dL_law_250 : decode cL_law 250 = .ok (.iconst 0, 1) := dk_3 (dk_at dksL_law_5 11 rfl rfl)
theorem dL_law_251 : decode cL_law 251 = .ok (.ireturn, 1) := dk_172 (dk_at dksL_law_5 12 rfl rfl)
theorem dL_law_252 : decode cL_law 252 = .ok (.iload 6, 2) := dk_21 6 (dk_at dksL_law_5 13 rfl rfl)
theorem dL_law_254 : decode cL_law 254 = .ok (.ifCond .ne 15, 3) := dk_154 0 15 (dk_at dksL_law_5 15 rfl rfl)
theorem dL_law_257 : decode cL_law 257 = .ok (.aload_n 3, 1) := dk_45 (dk_at dksL_law_5 18 rfl rfl)
theorem dL_law_258 : decode cL_law 258 = .ok (.iconst 0, 1) := dk_3 (dk_at dksL_law_5 19 rfl rfl)
theorem dL_law_259 : decode cL_law 259 = .ok (.laload, 1) := dk_47 (dk_at dksL_law_5 20 rfl rfl)
theorem dL_law_260 : decode cL_law 260 = .ok (.iload 7, 2) := dk_21 7 (dk_at dksL_law_5 21 rfl rfl)
theorem dL_law_262 : decode cL_law 262 = .ok (.i2l, 1) := dk_133 (dk_at dksL_law_5 23 rfl rfl)
theorem dL_law_263 : decode cL_law 263 = .ok (.lcmp, 1) := dk_148 (dk_at dksL_law_6 0 rfl rfl)
theorem dL_law_264 : decode cL_law 264 = .ok (.ifCond .eq 5, 3) := dk_153 0 5 (dk_at dksL_law_6 1 rfl rfl)
theorem dL_law_267 : decode cL_law 267 = .ok (.iconst 0, 1) := dk_3 (dk_at dksL_law_6 4 rfl rfl)
theorem dL_law_268 : decode cL_law 268 = .ok (.ireturn, 1) := dk_172 (dk_at dksL_law_6 5 rfl rfl)
theorem dL_law_269 : decode cL_law 269 = .ok (.goto 1720, 3) := dk_167 6 184 (dk_at dksL_law_6 6 rfl rfl)
theorem dL_law_272 : decode cL_law 272 = .ok (.aload_n 1, 1) := dk_43 (dk_at dksL_law_6 9 rfl rfl)
theorem dL_law_273 : decode cL_law 273 = .ok (.aload_n 0, 1) := dk_42 (dk_at dksL_law_6 10 rfl rfl)
theorem dL_law_274 : decode cL_law 274 = .ok (.iload 5, 2) := dk_21 5 (dk_at dksL_law_6 11 rfl rfl)
theorem dL_law_276 : decode cL_law 276 = .ok (.iconst 1, 1) := dk_4 (dk_at dksL_law_6 13 rfl rfl)
theorem dL_law_277 : decode cL_law 277 = .ok (.iadd, 1) := dk_96 (dk_at dksL_law_6 14 rfl rfl)
theorem dL_law_278 : decode cL_law 278 = .ok (.iaload, 1) := dk_46 (dk_at dksL_law_6 15 rfl rfl)
theorem dL_law_279 : decode cL_law 279 = .ok (.aload_n 0, 1) := dk_42 (dk_at dksL_law_6 16 rfl rfl)
theorem dL_law_280 : decode cL_law 280 = .ok (.iload 5, 2) := dk_21 5 (dk_at dksL_law_6 17 rfl rfl)
theorem dL_law_282 : decode cL_law 282 = .ok (.iconst 2, 1) := dk_5 (dk_at dksL_law_6 19 rfl rfl)
theorem dL_law_283 : decode cL_law 283 = .ok (.iadd, 1) := dk_96 (dk_at dksL_law_6 20 rfl rfl)
theorem dL_law_284 : decode cL_law 284 = .ok (.iaload, 1) := dk_46 (dk_at dksL_law_6 21 rfl rfl)
theorem dL_law_285 : decode cL_law 285 = .ok (.aload_n 3, 1) := dk_45 (dk_at dksL_law_6 22 rfl rfl)
theorem dL_law_286 : decode cL_law 286 = .ok (.invokestatic 133, 3) := dk_184 0 133 (dk_at dksL_law_7 0 rfl rfl)
theorem dL_law_289 : decode cL_law 289 = .ok (.istore 6, 2) := dk_54 6 (dk_at dksL_law_7 3 rfl rfl)
theorem dL_law_291 : decode cL_law 291 = .ok (.aload_n 2, 1) := dk_44 (dk_at dksL_law_7 5 rfl rfl)
theorem dL_law_292 : decode cL_law 292 = .ok (.aload_n 0, 1) := dk_42 (dk_at dksL_law_7 6 rfl rfl)
theorem dL_law_293 : decode cL_law 293 = .ok (.iload 5, 2) := dk_21 5 (dk_at dksL_law_7 7 rfl rfl)
theorem dL_law_295 : decode cL_law 295 = .ok (.iconst 1, 1) := dk_4 (dk_at dksL_law_7 9 rfl rfl)
theorem dL_law_296 : decode cL_law 296 = .ok (.iadd, 1) := dk_96 (dk_at dksL_law_7 10 rfl rfl)
theorem dL_law_297 : decode cL_law 297 = .ok (.iaload, 1) := dk_46 (dk_at dksL_law_7 11 rfl rfl)
theorem dL_law_298 : decode cL_law 298 = .ok (.aload_n 0, 1) := dk_42 (dk_at dksL_law_7 12 rfl rfl)
theorem dL_law_299 : decode cL_law 299 = .ok (.iload 5, 2) := dk_21 5 (dk_at dksL_law_7 13 rfl rfl)
theorem dL_law_301 : decode cL_law 301 = .ok (.iconst 2, 1) := dk_5 (dk_at dksL_law_7 15 rfl rfl)
theorem dL_law_302 : decode cL_law 302 = .ok (.iadd, 1) := dk_96 (dk_at dksL_law_7 16 rfl rfl)
theorem dL_law_303 : decode cL_law 303 = .ok (.iaload, 1) := dk_46 (dk_at dksL_law_7 17 rfl rfl)
theorem dL_law_304 : decode cL_law 304 = .ok (.invokevirtual 136, 3) := dk_182 0 136 (dk_at dksL_law_7 18 rfl rfl)
theorem dL_law_307 : decode cL_law 307 = .ok (.istore 7, 2) := dk_54 7 (dk_at dksL_law_7 21 rfl rfl)
theorem dL_law_309 : decode cL_law 309 = .ok (.aload_n 2, 1) := dk_44 (dk_at dksL_law_7 23 rfl rfl)
theorem dL_law_310 : decode cL_law 310 = .ok (.invokevirtual 130, 3) := dk_182 0 130 (dk_at dksL_law_8 0 rfl rfl)
theorem dL_law_313 : decode cL_law 313 = .ok (.iload 6, 2) := dk_21 6 (dk_at dksL_law_8 3 rfl rfl)
theorem dL_law_315 : decode cL_law 315 = .ok (.if_icmp .eq 5, 3) := dk_159 0 5 (dk_at dksL_law_8 5 rfl rfl)
theorem dL_law_318 : decode cL_law 318 = .ok (.iconst 0, 1) := dk_3 (dk_at dksL_law_8 8 rfl rfl)
theorem dL_law_319 : decode cL_law 319 = .ok (.ireturn, 1) := dk_172 (dk_at dksL_law_8 9 rfl rfl)
theorem dL_law_320 : decode cL_law 320 = .ok (.iload 6, 2) := dk_21 6 (dk_at dksL_law_8 10 rfl rfl)
theorem dL_law_322 : decode cL_law 322 = .ok (.ifCond .ne 15, 3) := dk_154 0 15 (dk_at dksL_law_8 12 rfl rfl)
theorem dL_law_325 : decode cL_law 325 = .ok (.aload_n 3, 1) := dk_45 (dk_at dksL_law_8 15 rfl rfl)
theorem dL_law_326 : decode cL_law 326 = .ok (.iconst 0, 1) := dk_3 (dk_at dksL_law_8 16 rfl rfl)
theorem dL_law_327 : decode cL_law 327 = .ok (.laload, 1) := dk_47 (dk_at dksL_law_8 17 rfl rfl)
theorem dL_law_328 : decode cL_law 328 = .ok (.iload 7, 2) := dk_21 7 (dk_at dksL_law_8 18 rfl rfl)
theorem dL_law_330 : decode cL_law 330 = .ok (.i2l, 1) := dk_133 (dk_at dksL_law_8 20 rfl rfl)
theorem dL_law_331 : decode cL_law 331 = .ok (.lcmp, 1) := dk_148 (dk_at dksL_law_8 21 rfl rfl)
theorem dL_law_332 : decode cL_law 332 = .ok (.ifCond .eq 5, 3) := dk_153 0 5 (dk_at dksL_law_9 0 rfl rfl)
theorem dL_law_335 : decode cL_law 335 = .ok (.iconst 0, 1) := dk_3 (dk_at dksL_law_9 3 rfl rfl)
theorem dL_law_336 : decode cL_law 336 = .ok (.ireturn, 1) := dk_172 (dk_at dksL_law_9 4 rfl rfl)
theorem dL_law_337 : decode cL_law 337 = .ok (.goto 1652, 3) := dk_167 6 116 (dk_at dksL_law_9 5 rfl rfl)
theorem dL_law_340 : decode cL_law 340 = .ok (.aload_n 1, 1) := dk_43 (dk_at dksL_law_9 8 rfl rfl)
theorem dL_law_341 : decode cL_law 341 = .ok (.aload_n 0, 1) := dk_42 (dk_at dksL_law_9 9 rfl rfl)
theorem dL_law_342 : decode cL_law 342 = .ok (.iload 5, 2) := dk_21 5 (dk_at dksL_law_9 10 rfl rfl)
theorem dL_law_344 : decode cL_law 344 = .ok (.iconst 1, 1) := dk_4 (dk_at dksL_law_9 12 rfl rfl)
theorem dL_law_345 : decode cL_law 345 = .ok (.iadd, 1) := dk_96 (dk_at dksL_law_9 13 rfl rfl)
theorem dL_law_346 : decode cL_law 346 = .ok (.iaload, 1) := dk_46 (dk_at dksL_law_9 14 rfl rfl)
theorem dL_law_347 : decode cL_law 347 = .ok (.aload_n 3, 1) := dk_45 (dk_at dksL_law_9 15 rfl rfl)
theorem dL_law_348 : decode cL_law 348 = .ok (.invokestatic 137, 3) := dk_184 0 137 (dk_at dksL_law_9 16 rfl rfl)
theorem dL_law_351 : decode cL_law 351 = .ok (.istore 6, 2) := dk_54 6 (dk_at dksL_law_9 19 rfl rfl)
theorem dL_law_353 : decode cL_law 353 = .ok (.aload_n 2, 1) := dk_44 (dk_at dksL_law_9 21 rfl rfl)
theorem dL_law_354 : decode cL_law 354 = .ok (.aload_n 0, 1) := dk_42 (dk_at dksL_law_9 22 rfl rfl)
theorem dL_law_355 : decode cL_law 355 = .ok (.iload 5, 2) := dk_21 5 (dk_at dksL_law_10 0 rfl rfl)
theorem dL_law_357 : decode cL_law 357 = .ok (.iconst 1, 1) := dk_4 (dk_at dksL_law_10 2 rfl rfl)
theorem dL_law_358 : decode cL_law 358 = .ok (.iadd, 1) := dk_96 (dk_at dksL_law_10 3 rfl rfl)
theorem dL_law_359 : decode cL_law 359 = .ok (.iaload, 1) := dk_46 (dk_at dksL_law_10 4 rfl rfl)
theorem dL_law_360 : decode cL_law 360 = .ok (.invokevirtual 140, 3) := dk_182 0 140 (dk_at dksL_law_10 5 rfl rfl)
theorem dL_law_363 : decode cL_law 363 = .ok (.istore 7, 2) := dk_54 7 (dk_at dksL_law_10 8 rfl rfl)
theorem dL_law_365 : decode cL_law 365 = .ok (.aload_n 2, 1) := dk_44 (dk_at dksL_law_10 10 rfl rfl)
theorem dL_law_366 : decode cL_law 366 = .ok (.invokevirtual 130, 3) := dk_182 0 130 (dk_at dksL_law_10 11 rfl rfl)
theorem dL_law_369 : decode cL_law 369 = .ok (.iload 6, 2) := dk_21 6 (dk_at dksL_law_10 14 rfl rfl)
theorem dL_law_371 : decode cL_law 371 = .ok (.if_icmp .eq 5, 3) := dk_159 0 5 (dk_at dksL_law_10 16 rfl rfl)
theorem dL_law_374 : decode cL_law 374 = .ok (.iconst 0, 1) := dk_3 (dk_at dksL_law_10 19 rfl rfl)
theorem dL_law_375 : decode cL_law 375 = .ok (.ireturn, 1) := dk_172 (dk_at dksL_law_10 20 rfl rfl)
theorem dL_law_376 : decode cL_law 376 = .ok (.iload 6, 2) := dk_21 6 (dk_at dksL_law_10 21 rfl rfl)
theorem dL_law_378 : decode cL_law 378 = .ok (.ifCond .ne 15, 3) := dk_154 0 15 (dk_at dksL_law_11 0 rfl rfl)
theorem dL_law_381 : decode cL_law 381 = .ok (.aload_n 3, 1) := dk_45 (dk_at dksL_law_11 3 rfl rfl)
theorem dL_law_382 : decode cL_law 382 = .ok (.iconst 0, 1) := dk_3 (dk_at dksL_law_11 4 rfl rfl)
theorem dL_law_383 : decode cL_law 383 = .ok (.laload, 1) := dk_47 (dk_at dksL_law_11 5 rfl rfl)
theorem dL_law_384 : decode cL_law 384 = .ok (.iload 7, 2) := dk_21 7 (dk_at dksL_law_11 6 rfl rfl)
theorem dL_law_386 : decode cL_law 386 = .ok (.i2l, 1) := dk_133 (dk_at dksL_law_11 8 rfl rfl)
theorem dL_law_387 : decode cL_law 387 = .ok (.lcmp, 1) := dk_148 (dk_at dksL_law_11 9 rfl rfl)
theorem dL_law_388 : decode cL_law 388 = .ok (.ifCond .eq 5, 3) := dk_153 0 5 (dk_at dksL_law_11 10 rfl rfl)
theorem dL_law_391 : decode cL_law 391 = .ok (.iconst 0, 1) := dk_3 (dk_at dksL_law_11 13 rfl rfl)
theorem dL_law_392 : decode cL_law 392 = .ok (.ireturn, 1) := dk_172 (dk_at dksL_law_11 14 rfl rfl)
theorem dL_law_393 : decode cL_law 393 = .ok (.goto 1596, 3) := dk_167 6 60 (dk_at dksL_law_11 15 rfl rfl)
theorem dL_law_396 : decode cL_law 396 = .ok (.aload_n 1, 1) := dk_43 (dk_at dksL_law_11 18 rfl rfl)
theorem dL_law_397 : decode cL_law 397 = .ok (.aload_n 0, 1) := dk_42 (dk_at dksL_law_11 19 rfl rfl)
theorem dL_law_398 : decode cL_law 398 = .ok (.iload 5, 2) := dk_21 5 (dk_at dksL_law_11 20 rfl rfl)
theorem dL_law_400 : decode cL_law 400 = .ok (.iconst 1, 1) := dk_4 (dk_at dksL_law_11 22 rfl rfl)
theorem dL_law_401 : decode cL_law 401 = .ok (.iadd, 1) := dk_96 (dk_at dksL_law_11 23 rfl rfl)
theorem dL_law_402 : decode cL_law 402 = .ok (.iaload, 1) := dk_46 (dk_at dksL_law_12 0 rfl rfl)
theorem dL_law_403 : decode cL_law 403 = .ok (.aload_n 0, 1) := dk_42 (dk_at dksL_law_12 1 rfl rfl)
theorem dL_law_404 : decode cL_law 404 = .ok (.iload 5, 2) := dk_21 5 (dk_at dksL_law_12 2 rfl rfl)
theorem dL_law_406 : decode cL_law 406 = .ok (.iconst 2, 1) := dk_5 (dk_at dksL_law_12 4 rfl rfl)
theorem dL_law_407 : decode cL_law 407 = .ok (.iadd, 1) := dk_96 (dk_at dksL_law_12 5 rfl rfl)
theorem dL_law_408 : decode cL_law 408 = .ok (.iaload, 1) := dk_46 (dk_at dksL_law_12 6 rfl rfl)
theorem dL_law_409 : decode cL_law 409 = .ok (.aload_n 3, 1) := dk_45 (dk_at dksL_law_12 7 rfl rfl)
theorem dL_law_410 : decode cL_law 410 = .ok (.invokestatic 141, 3) := dk_184 0 141 (dk_at dksL_law_12 8 rfl rfl)
theorem dL_law_413 : decode cL_law 413 = .ok (.istore 6, 2) := dk_54 6 (dk_at dksL_law_12 11 rfl rfl)
theorem dL_law_415 : decode cL_law 415 = .ok (.aload_n 2, 1) := dk_44 (dk_at dksL_law_12 13 rfl rfl)
theorem dL_law_416 : decode cL_law 416 = .ok (.aload_n 0, 1) := dk_42 (dk_at dksL_law_12 14 rfl rfl)
theorem dL_law_417 : decode cL_law 417 = .ok (.iload 5, 2) := dk_21 5 (dk_at dksL_law_12 15 rfl rfl)
theorem dL_law_419 : decode cL_law 419 = .ok (.iconst 1, 1) := dk_4 (dk_at dksL_law_12 17 rfl rfl)
theorem dL_law_420 : decode cL_law 420 = .ok (.iadd, 1) := dk_96 (dk_at dksL_law_12 18 rfl rfl)
theorem dL_law_421 : decode cL_law 421 = .ok (.iaload, 1) := dk_46 (dk_at dksL_law_12 19 rfl rfl)
theorem dL_law_422 : decode cL_law 422 = .ok (.aload_n 0, 1) := dk_42 (dk_at dksL_law_12 20 rfl rfl)
theorem dL_law_423 : decode cL_law 423 = .ok (.iload 5, 2) := dk_21 5 (dk_at dksL_law_12 21 rfl rfl)
theorem dL_law_425 : decode cL_law 425 = .ok (.iconst 2, 1) := dk_5 (dk_at dksL_law_12 23 rfl rfl)
theorem dL_law_426 : decode cL_law 426 = .ok (.iadd, 1) := dk_96 (dk_at dksL_law_13 0 rfl rfl)
theorem dL_law_427 : decode cL_law 427 = .ok (.iaload, 1) := dk_46 (dk_at dksL_law_13 1 rfl rfl)
theorem dL_law_428 : decode cL_law 428 = .ok (.invokevirtual 143, 3) := dk_182 0 143 (dk_at dksL_law_13 2 rfl rfl)
theorem dL_law_431 : decode cL_law 431 = .ok (.istore 7, 2) := dk_54 7 (dk_at dksL_law_13 5 rfl rfl)
theorem dL_law_433 : decode cL_law 433 = .ok (.aload_n 2, 1) := dk_44 (dk_at dksL_law_13 7 rfl rfl)
theorem dL_law_434 : decode cL_law 434 = .ok (.invokevirtual 130, 3) := dk_182 0 130 (dk_at dksL_law_13 8 rfl rfl)
theorem dL_law_437 : decode cL_law 437 = .ok (.iload 6, 2) := dk_21 6 (dk_at dksL_law_13 11 rfl rfl)
theorem dL_law_439 : decode cL_law 439 = .ok (.if_icmp .eq 5, 3) := dk_159 0 5 (dk_at dksL_law_13 13 rfl rfl)
theorem dL_law_442 : decode cL_law 442 = .ok (.iconst 0, 1) := dk_3 (dk_at dksL_law_13 16 rfl rfl)
theorem dL_law_443 : decode cL_law 443 = .ok (.ireturn, 1) := dk_172 (dk_at dksL_law_13 17 rfl rfl)
theorem dL_law_444 : decode cL_law 444 = .ok (.iload 6, 2) := dk_21 6 (dk_at dksL_law_13 18 rfl rfl)
theorem dL_law_446 : decode cL_law 446 = .ok (.ifCond .ne 15, 3) := dk_154 0 15 (dk_at dksL_law_13 20 rfl rfl)
theorem dL_law_449 : decode cL_law 449 = .ok (.aload_n 3, 1) := dk_45 (dk_at dksL_law_13 23 rfl rfl)
theorem dL_law_450 : decode cL_law 450 = .ok (.iconst 0, 1) := dk_3 (dk_at dksL_law_14 0 rfl rfl)
theorem dL_law_451 : decode cL_law 451 = .ok (.laload, 1) := dk_47 (dk_at dksL_law_14 1 rfl rfl)
theorem dL_law_452 : decode cL_law 452 = .ok (.iload 7, 2) := dk_21 7 (dk_at dksL_law_14 2 rfl rfl)
theorem dL_law_454 : decode cL_law 454 = .ok (.i2l, 1) := dk_133 (dk_at dksL_law_14 4 rfl rfl)
theorem dL_law_455 : decode cL_law 455 = .ok (.lcmp, 1) := dk_148 (dk_at dksL_law_14 5 rfl rfl)
theorem dL_law_456 : decode cL_law 456 = .ok (.ifCond .eq 5, 3) := dk_153 0 5 (dk_at dksL_law_14 6 rfl rfl)
theorem dL_law_459 : decode cL_law 459 = .ok (.iconst 0, 1) := dk_3 (dk_at dksL_law_14 9 rfl rfl)
theorem dL_law_460 : decode cL_law 460 = .ok (.ireturn, 1) := dk_172 (dk_at dksL_law_14 10 rfl rfl)
theorem dL_law_461 : decode cL_law 461 = .ok (.goto 1528, 3) := dk_167 5 248 (dk_at dksL_law_14 11 rfl rfl)
theorem dL_law_464 : decode cL_law 464 = .ok (.aload_n 1, 1) := dk_43 (dk_at dksL_law_14 14 rfl rfl)
theorem dL_law_465 : decode cL_law 465 = .ok (.aload_n 0, 1) := dk_42 (dk_at dksL_law_14 15 rfl rfl)
theorem dL_law_466 : decode cL_law 466 = .ok (.iload 5, 2) := dk_21 5 (dk_at dksL_law_14 16 rfl rfl)
theorem dL_law_468 : decode cL_law 468 = .ok (.iconst 1, 1) := dk_4 (dk_at dksL_law_14 18 rfl rfl)
theorem dL_law_469 : decode cL_law 469 = .ok (.iadd, 1) := dk_96 (dk_at dksL_law_14 19 rfl rfl)
theorem dL_law_470 : decode cL_law 470 = .ok (.iaload, 1) := dk_46 (dk_at dksL_law_14 20 rfl rfl)
theorem dL_law_471 : decode cL_law 471 = .ok (.aload_n 0, 1) := dk_42 (dk_at dksL_law_14 21 rfl rfl)
theorem dL_law_472 : decode cL_law 472 = .ok (.iload 5, 2) := dk_21 5 (dk_at dksL_law_14 22 rfl rfl)
theorem dL_law_474 : decode cL_law 474 = .ok (.iconst 2, 1) := dk_5 (dk_at dksL_law_15 0 rfl rfl)
theorem dL_law_475 : decode cL_law 475 = .ok (.iadd, 1) := dk_96 (dk_at dksL_law_15 1 rfl rfl)
theorem dL_law_476 : decode cL_law 476 = .ok (.iaload, 1) := dk_46 (dk_at dksL_law_15 2 rfl rfl)
theorem dL_law_477 : decode cL_law 477 = .ok (.aload_n 3, 1) := dk_45 (dk_at dksL_law_15 3 rfl rfl)
theorem dL_law_478 : decode cL_law 478 = .ok (.invokestatic 144, 3) := dk_184 0 144 (dk_at dksL_law_15 4 rfl rfl)
theorem dL_law_481 : decode cL_law 481 = .ok (.istore 6, 2) := dk_54 6 (dk_at dksL_law_15 7 rfl rfl)
theorem dL_law_483 : decode cL_law 483 = .ok (.aload_n 2, 1) := dk_44 (dk_at dksL_law_15 9 rfl rfl)
theorem dL_law_484 : decode cL_law 484 = .ok (.aload_n 0, 1) := dk_42 (dk_at dksL_law_15 10 rfl rfl)
theorem dL_law_485 : decode cL_law 485 = .ok (.iload 5, 2) := dk_21 5 (dk_at dksL_law_15 11 rfl rfl)
theorem dL_law_487 : decode cL_law 487 = .ok (.iconst 1, 1) := dk_4 (dk_at dksL_law_15 13 rfl rfl)
theorem dL_law_488 : decode cL_law 488 = .ok (.iadd, 1) := dk_96 (dk_at dksL_law_15 14 rfl rfl)
theorem dL_law_489 : decode cL_law 489 = .ok (.iaload, 1) := dk_46 (dk_at dksL_law_15 15 rfl rfl)
theorem dL_law_490 : decode cL_law 490 = .ok (.aload_n 0, 1) := dk_42 (dk_at dksL_law_15 16 rfl rfl)
theorem dL_law_491 : decode cL_law 491 = .ok (.iload 5, 2) := dk_21 5 (dk_at dksL_law_15 17 rfl rfl)
theorem dL_law_493 : decode cL_law 493 = .ok (.iconst 2, 1) := dk_5 (dk_at dksL_law_15 19 rfl rfl)
theorem dL_law_494 : decode cL_law 494 = .ok (.iadd, 1) := dk_96 (dk_at dksL_law_15 20 rfl rfl)
theorem dL_law_495 : decode cL_law 495 = .ok (.iaload, 1) := dk_46 (dk_at dksL_law_15 21 rfl rfl)
theorem dL_law_496 : decode cL_law 496 = .ok (.invokevirtual 146, 3) := dk_182 0 146 (dk_at dksL_law_16 0 rfl rfl)
theorem dL_law_499 : decode cL_law 499 = .ok (.istore 7, 2) := dk_54 7 (dk_at dksL_law_16 3 rfl rfl)
theorem dL_law_501 : decode cL_law 501 = .ok (.aload_n 2, 1) := dk_44 (dk_at dksL_law_16 5 rfl rfl)
theorem dL_law_502 : decode cL_law 502 = .ok (.invokevirtual 130, 3) := dk_182 0 130 (dk_at dksL_law_16 6 rfl rfl)
theorem dL_law_505 : decode cL_law 505 = .ok (.iload 6, 2) := dk_21 6 (dk_at dksL_law_16 9 rfl rfl)
theorem dL_law_507 : decode cL_law 507 = .ok (.if_icmp .eq 5, 3) := dk_159 0 5 (dk_at dksL_law_16 11 rfl rfl)
theorem dL_law_510 : decode cL_law 510 = .ok (.iconst 0, 1) := dk_3 (dk_at dksL_law_16 14 rfl rfl)
theorem dL_law_511 : decode cL_law 511 = .ok (.ireturn, 1) := dk_172 (dk_at dksL_law_16 15 rfl rfl)
theorem dL_law_512 : decode cL_law 512 = .ok (.iload 6, 2) := dk_21 6 (dk_at dksL_law_16 16 rfl rfl)
theorem dL_law_514 : decode cL_law 514 = .ok (.ifCond .ne 15, 3) := dk_154 0 15 (dk_at dksL_law_16 18 rfl rfl)
theorem dL_law_517 : decode cL_law 517 = .ok (.aload_n 3, 1) := dk_45 (dk_at dksL_law_16 21 rfl rfl)
theorem dL_law_518 : decode cL_law 518 = .ok (.iconst 0, 1) := dk_3 (dk_at dksL_law_16 22 rfl rfl)
theorem dL_law_519 : decode cL_law 519 = .ok (.laload, 1) := dk_47 (dk_at dksL_law_16 23 rfl rfl)
theorem dL_law_520 : decode cL_law 520 = .ok (.iload 7, 2) := dk_21 7 (dk_at dksL_law_17 0 rfl rfl)
theorem dL_law_522 : decode cL_law 522 = .ok (.i2l, 1) := dk_133 (dk_at dksL_law_17 2 rfl rfl)
theorem dL_law_523 : decode cL_law 523 = .ok (.lcmp, 1) := dk_148 (dk_at dksL_law_17 3 rfl rfl)
theorem dL_law_524 : decode cL_law 524 = .ok (.ifCond .eq 5, 3) := dk_153 0 5 (dk_at dksL_law_17 4 rfl rfl)
theorem dL_law_527 : decode cL_law 527 = .ok (.iconst 0, 1) := dk_3 (dk_at dksL_law_17 7 rfl rfl)
theorem dL_law_528 : decode cL_law 528 = .ok (.ireturn, 1) := dk_172 (dk_at dksL_law_17 8 rfl rfl)
theorem dL_law_529 : decode cL_law 529 = .ok (.goto 1460, 3) := dk_167 5 180 (dk_at dksL_law_17 9 rfl rfl)
theorem dL_law_532 : decode cL_law 532 = .ok (.aload_n 1, 1) := dk_43 (dk_at dksL_law_17 12 rfl rfl)
theorem dL_law_533 : decode cL_law 533 = .ok (.aload_n 0, 1) := dk_42 (dk_at dksL_law_17 13 rfl rfl)
theorem dL_law_534 : decode cL_law 534 = .ok (.iload 5, 2) := dk_21 5 (dk_at dksL_law_17 14 rfl rfl)
theorem dL_law_536 : decode cL_law 536 = .ok (.iconst 1, 1) := dk_4 (dk_at dksL_law_17 16 rfl rfl)
theorem dL_law_537 : decode cL_law 537 = .ok (.iadd, 1) := dk_96 (dk_at dksL_law_17 17 rfl rfl)
theorem dL_law_538 : decode cL_law 538 = .ok (.iaload, 1) := dk_46 (dk_at dksL_law_17 18 rfl rfl)
theorem dL_law_539 : decode cL_law 539 = .ok (.aload_n 3, 1) := dk_45 (dk_at dksL_law_17 19 rfl rfl)
theorem dL_law_540 : decode cL_law 540 = .ok (.invokestatic 147, 3) := dk_184 0 147 (dk_at dksL_law_17 20 rfl rfl)
theorem dL_law_543 : decode cL_law 543 = .ok (.istore 6, 2) := dk_54 6 (dk_at dksL_law_18 0 rfl rfl)
theorem dL_law_545 : decode cL_law 545 = .ok (.aload_n 2, 1) := dk_44 (dk_at dksL_law_18 2 rfl rfl)
theorem dL_law_546 : decode cL_law 546 = .ok (.aload_n 0, 1) := dk_42 (dk_at dksL_law_18 3 rfl rfl)
theorem dL_law_547 : decode cL_law 547 = .ok (.iload 5, 2) := dk_21 5 (dk_at dksL_law_18 4 rfl rfl)
theorem dL_law_549 : decode cL_law 549 = .ok (.iconst 1, 1) := dk_4 (dk_at dksL_law_18 6 rfl rfl)
theorem dL_law_550 : decode cL_law 550 = .ok (.iadd, 1) := dk_96 (dk_at dksL_law_18 7 rfl rfl)
theorem dL_law_551 : decode cL_law 551 = .ok (.iaload, 1) := dk_46 (dk_at dksL_law_18 8 rfl rfl)
theorem dL_law_552 : decode cL_law 552 = .ok (.invokevirtual 149, 3) := dk_182 0 149 (dk_at dksL_law_18 9 rfl rfl)
theorem dL_law_555 : decode cL_law 555 = .ok (.istore 7, 2) := dk_54 7 (dk_at dksL_law_18 12 rfl rfl)
theorem dL_law_557 : decode cL_law 557 = .ok (.aload_n 2, 1) := dk_44 (dk_at dksL_law_18 14 rfl rfl)
theorem dL_law_558 : decode cL_law 558 = .ok (.invokevirtual 130, 3) := dk_182 0 130 (dk_at dksL_law_18 15 rfl rfl)
theorem dL_law_561 : decode cL_law 561 = .ok (.iload 6, 2) := dk_21 6 (dk_at dksL_law_18 18 rfl rfl)
theorem dL_law_563 : decode cL_law 563 = .ok (.if_icmp .eq 5, 3) := dk_159 0 5 (dk_at dksL_law_18 20 rfl rfl)
theorem dL_law_566 : decode cL_law 566 = .ok (.iconst 0, 1) := dk_3 (dk_at dksL_law_18 23 rfl rfl)
theorem dL_law_567 : decode cL_law 567 = .ok (.ireturn, 1) := dk_172 (dk_at dksL_law_19 0 rfl rfl)
theorem dL_law_568 : decode cL_law 568 = .ok (.iload 6, 2) := dk_21 6 (dk_at dksL_law_19 1 rfl rfl)
theorem dL_law_570 : decode cL_law 570 = .ok (.ifCond .ne 15, 3) := dk_154 0 15 (dk_at dksL_law_19 3 rfl rfl)
theorem dL_law_573 : decode cL_law 573 = .ok (.aload_n 3, 1) := dk_45 (dk_at dksL_law_19 6 rfl rfl)
theorem dL_law_574 : decode cL_law 574 = .ok (.iconst 0, 1) := dk_3 (dk_at dksL_law_19 7 rfl rfl)
theorem dL_law_575 : decode cL_law 575 = .ok (.laload, 1) := dk_47 (dk_at dksL_law_19 8 rfl rfl)
theorem dL_law_576 : decode cL_law 576 = .ok (.iload 7, 2) := dk_21 7 (dk_at dksL_law_19 9 rfl rfl)
theorem dL_law_578 : decode cL_law 578 = .ok (.i2l, 1) := dk_133 (dk_at dksL_law_19 11 rfl rfl)
theorem dL_law_579 : decode cL_law 579 = .ok (.lcmp, 1) := dk_148 (dk_at dksL_law_19 12 rfl rfl)
theorem dL_law_580 : decode cL_law 580 = .ok (.ifCond .eq 5, 3) := dk_153 0 5 (dk_at dksL_law_19 13 rfl rfl)
theorem dL_law_583 : decode cL_law 583 = .ok (.iconst 0, 1) := dk_3 (dk_at dksL_law_19 16 rfl rfl)
theorem dL_law_584 : decode cL_law 584 = .ok (.ireturn, 1) := dk_172 (dk_at dksL_law_19 17 rfl rfl)
theorem dL_law_585 : decode cL_law 585 = .ok (.goto 1404, 3) := dk_167 5 124 (dk_at dksL_law_19 18 rfl rfl)
theorem dL_law_588 : decode cL_law 588 = .ok (.aload_n 1, 1) := dk_43 (dk_at dksL_law_19 21 rfl rfl)
theorem dL_law_589 : decode cL_law 589 = .ok (.aload_n 0, 1) := dk_42 (dk_at dksL_law_19 22 rfl rfl)
theorem dL_law_590 : decode cL_law 590 = .ok (.iload 5, 2) := dk_21 5 (dk_at dksL_law_20 0 rfl rfl)
theorem dL_law_592 : decode cL_law 592 = .ok (.iconst 1, 1) := dk_4 (dk_at dksL_law_20 2 rfl rfl)
theorem dL_law_593 : decode cL_law 593 = .ok (.iadd, 1) := dk_96 (dk_at dksL_law_20 3 rfl rfl)
theorem dL_law_594 : decode cL_law 594 = .ok (.iaload, 1) := dk_46 (dk_at dksL_law_20 4 rfl rfl)
theorem dL_law_595 : decode cL_law 595 = .ok (.aload_n 3, 1) := dk_45 (dk_at dksL_law_20 5 rfl rfl)
theorem dL_law_596 : decode cL_law 596 = .ok (.invokestatic 150, 3) := dk_184 0 150 (dk_at dksL_law_20 6 rfl rfl)
theorem dL_law_599 : decode cL_law 599 = .ok (.istore 6, 2) := dk_54 6 (dk_at dksL_law_20 9 rfl rfl)
theorem dL_law_601 : decode cL_law 601 = .ok (.aload_n 2, 1) := dk_44 (dk_at dksL_law_20 11 rfl rfl)
theorem dL_law_602 : decode cL_law 602 = .ok (.aload_n 0, 1) := dk_42 (dk_at dksL_law_20 12 rfl rfl)
theorem dL_law_603 : decode cL_law 603 = .ok (.iload 5, 2) := dk_21 5 (dk_at dksL_law_20 13 rfl rfl)
theorem dL_law_605 : decode cL_law 605 = .ok (.iconst 1, 1) := dk_4 (dk_at dksL_law_20 15 rfl rfl)
theorem dL_law_606 : decode cL_law 606 = .ok (.iadd, 1) := dk_96 (dk_at dksL_law_20 16 rfl rfl)
theorem dL_law_607 : decode cL_law 607 = .ok (.iaload, 1) := dk_46 (dk_at dksL_law_20 17 rfl rfl)
theorem dL_law_608 : decode cL_law 608 = .ok (.invokevirtual 152, 3) := dk_182 0 152 (dk_at dksL_law_20 18 rfl rfl)
theorem dL_law_611 : decode cL_law 611 = .ok (.istore 7, 2) := dk_54 7 (dk_at dksL_law_20 21 rfl rfl)
theorem dL_law_613 : decode cL_law 613 = .ok (.aload_n 2, 1) := dk_44 (dk_at dksL_law_20 23 rfl rfl)
theorem dL_law_614 : decode cL_law 614 = .ok (.invokevirtual 130, 3) := dk_182 0 130 (dk_at dksL_law_21 0 rfl rfl)
theorem dL_law_617 : decode cL_law 617 = .ok (.iload 6, 2) := dk_21 6 (dk_at dksL_law_21 3 rfl rfl)
theorem dL_law_619 : decode cL_law 619 = .ok (.if_icmp .eq 5, 3) := dk_159 0 5 (dk_at dksL_law_21 5 rfl rfl)
theorem dL_law_622 : decode cL_law 622 = .ok (.iconst 0, 1) := dk_3 (dk_at dksL_law_21 8 rfl rfl)
theorem dL_law_623 : decode cL_law 623 = .ok (.ireturn, 1) := dk_172 (dk_at dksL_law_21 9 rfl rfl)
theorem dL_law_624 : decode cL_law 624 = .ok (.iload 6, 2) := dk_21 6 (dk_at dksL_law_21 10 rfl rfl)
theorem dL_law_626 : decode cL_law 626 = .ok (.ifCond .ne 15, 3) := dk_154 0 15 (dk_at dksL_law_21 12 rfl rfl)
theorem dL_law_629 : decode cL_law 629 = .ok (.aload_n 3, 1) := dk_45 (dk_at dksL_law_21 15 rfl rfl)
theorem dL_law_630 : decode cL_law 630 = .ok (.iconst 0, 1) := dk_3 (dk_at dksL_law_21 16 rfl rfl)
theorem dL_law_631 : decode cL_law 631 = .ok (.laload, 1) := dk_47 (dk_at dksL_law_21 17 rfl rfl)
theorem dL_law_632 : decode cL_law 632 = .ok (.iload 7, 2) := dk_21 7 (dk_at dksL_law_21 18 rfl rfl)
theorem dL_law_634 : decode cL_law 634 = .ok (.i2l, 1) := dk_133 (dk_at dksL_law_21 20 rfl rfl)
theorem dL_law_635 : decode cL_law 635 = .ok (.lcmp, 1) := dk_148 (dk_at dksL_law_21 21 rfl rfl)
theorem dL_law_636 : decode cL_law 636 = .ok (.ifCond .eq 5, 3) := dk_153 0 5 (dk_at dksL_law_22 0 rfl rfl)
theorem dL_law_639 : decode cL_law 639 = .ok (.iconst 0, 1) := dk_3 (dk_at dksL_law_22 3 rfl rfl)
theorem dL_law_640 : decode cL_law 640 = .ok (.ireturn, 1) := dk_172 (dk_at dksL_law_22 4 rfl rfl)
theorem dL_law_641 : decode cL_law 641 = .ok (.goto 1348, 3) := dk_167 5 68 (dk_at dksL_law_22 5 rfl rfl)
theorem dL_law_644 : decode cL_law 644 = .ok (.aload_n 1, 1) := dk_43 (dk_at dksL_law_22 8 rfl rfl)
theorem dL_law_645 : decode cL_law 645 = .ok (.aload_n 0, 1) := dk_42 (dk_at dksL_law_22 9 rfl rfl)
theorem dL_law_646 : decode cL_law 646 = .ok (.iload 5, 2) := dk_21 5 (dk_at dksL_law_22 10 rfl rfl)
theorem dL_law_648 : decode cL_law 648 = .ok (.iconst 1, 1) := dk_4 (dk_at dksL_law_22 12 rfl rfl)
theorem dL_law_649 : decode cL_law 649 = .ok (.iadd, 1) := dk_96 (dk_at dksL_law_22 13 rfl rfl)
theorem dL_law_650 : decode cL_law 650 = .ok (.iaload, 1) := dk_46 (dk_at dksL_law_22 14 rfl rfl)
theorem dL_law_651 : decode cL_law 651 = .ok (.aload_n 3, 1) := dk_45 (dk_at dksL_law_22 15 rfl rfl)
theorem dL_law_652 : decode cL_law 652 = .ok (.invokestatic 153, 3) := dk_184 0 153 (dk_at dksL_law_22 16 rfl rfl)
theorem dL_law_655 : decode cL_law 655 = .ok (.istore 6, 2) := dk_54 6 (dk_at dksL_law_22 19 rfl rfl)
theorem dL_law_657 : decode cL_law 657 = .ok (.aload_n 2, 1) := dk_44 (dk_at dksL_law_22 21 rfl rfl)
theorem dL_law_658 : decode cL_law 658 = .ok (.aload_n 0, 1) := dk_42 (dk_at dksL_law_22 22 rfl rfl)
theorem dL_law_659 : decode cL_law 659 = .ok (.iload 5, 2) := dk_21 5 (dk_at dksL_law_23 0 rfl rfl)
theorem dL_law_661 : decode cL_law 661 = .ok (.iconst 1, 1) := dk_4 (dk_at dksL_law_23 2 rfl rfl)
theorem dL_law_662 : decode cL_law 662 = .ok (.iadd, 1) := dk_96 (dk_at dksL_law_23 3 rfl rfl)
theorem dL_law_663 : decode cL_law 663 = .ok (.iaload, 1) := dk_46 (dk_at dksL_law_23 4 rfl rfl)
theorem dL_law_664 : decode cL_law 664 = .ok (.invokevirtual 155, 3) := dk_182 0 155 (dk_at dksL_law_23 5 rfl rfl)
theorem dL_law_667 : decode cL_law 667 = .ok (.istore 7, 2) := dk_54 7 (dk_at dksL_law_23 8 rfl rfl)
theorem dL_law_669 : decode cL_law 669 = .ok (.aload_n 2, 1) := dk_44 (dk_at dksL_law_23 10 rfl rfl)
theorem dL_law_670 : decode cL_law 670 = .ok (.invokevirtual 130, 3) := dk_182 0 130 (dk_at dksL_law_23 11 rfl rfl)
theorem dL_law_673 : decode cL_law 673 = .ok (.iload 6, 2) := dk_21 6 (dk_at dksL_law_23 14 rfl rfl)
theorem dL_law_675 : decode cL_law 675 = .ok (.if_icmp .eq 5, 3) := dk_159 0 5 (dk_at dksL_law_23 16 rfl rfl)
theorem dL_law_678 : decode cL_law 678 = .ok (.iconst 0, 1) := dk_3 (dk_at dksL_law_23 19 rfl rfl)
theorem dL_law_679 : decode cL_law 679 = .ok (.ireturn, 1) := dk_172 (dk_at dksL_law_23 20 rfl rfl)
theorem dL_law_680 : decode cL_law 680 = .ok (.iload 6, 2) := dk_21 6 (dk_at dksL_law_23 21 rfl rfl)
theorem dL_law_682 : decode cL_law 682 = .ok (.ifCond .ne 15, 3) := dk_154 0 15 (dk_at dksL_law_24 0 rfl rfl)
theorem dL_law_685 : decode cL_law 685 = .ok (.aload_n 3, 1) := dk_45 (dk_at dksL_law_24 3 rfl rfl)
theorem dL_law_686 : decode cL_law 686 = .ok (.iconst 0, 1) := dk_3 (dk_at dksL_law_24 4 rfl rfl)
theorem dL_law_687 : decode cL_law 687 = .ok (.laload, 1) := dk_47 (dk_at dksL_law_24 5 rfl rfl)
theorem dL_law_688 : decode cL_law 688 = .ok (.iload 7, 2) := dk_21 7 (dk_at dksL_law_24 6 rfl rfl)
theorem dL_law_690 : decode cL_law 690 = .ok (.i2l, 1) := dk_133 (dk_at dksL_law_24 8 rfl rfl)
theorem dL_law_691 : decode cL_law 691 = .ok (.lcmp, 1) := dk_148 (dk_at dksL_law_24 9 rfl rfl)
theorem dL_law_692 : decode cL_law 692 = .ok (.ifCond .eq 5, 3) := dk_153 0 5 (dk_at dksL_law_24 10 rfl rfl)
theorem dL_law_695 : decode cL_law 695 = .ok (.iconst 0, 1) := dk_3 (dk_at dksL_law_24 13 rfl rfl)
theorem dL_law_696 : decode cL_law 696 = .ok (.ireturn, 1) := dk_172 (dk_at dksL_law_24 14 rfl rfl)
theorem dL_law_697 : decode cL_law 697 = .ok (.goto 1292, 3) := dk_167 5 12 (dk_at dksL_law_24 15 rfl rfl)
theorem dL_law_700 : decode cL_law 700 = .ok (.aload_n 1, 1) := dk_43 (dk_at dksL_law_24 18 rfl rfl)
theorem dL_law_701 : decode cL_law 701 = .ok (.aload_n 0, 1) := dk_42 (dk_at dksL_law_24 19 rfl rfl)
theorem dL_law_702 : decode cL_law 702 = .ok (.iload 5, 2) := dk_21 5 (dk_at dksL_law_24 20 rfl rfl)
theorem dL_law_704 : decode cL_law 704 = .ok (.iconst 1, 1) := dk_4 (dk_at dksL_law_24 22 rfl rfl)
theorem dL_law_705 : decode cL_law 705 = .ok (.iadd, 1) := dk_96 (dk_at dksL_law_24 23 rfl rfl)
theorem dL_law_706 : decode cL_law 706 = .ok (.iaload, 1) := dk_46 (dk_at dksL_law_25 0 rfl rfl)
theorem dL_law_707 : decode cL_law 707 = .ok (.aload_n 0, 1) := dk_42 (dk_at dksL_law_25 1 rfl rfl)
theorem dL_law_708 : decode cL_law 708 = .ok (.iload 5, 2) := dk_21 5 (dk_at dksL_law_25 2 rfl rfl)
theorem dL_law_710 : decode cL_law 710 = .ok (.iconst 2, 1) := dk_5 (dk_at dksL_law_25 4 rfl rfl)
theorem dL_law_711 : decode cL_law 711 = .ok (.iadd, 1) := dk_96 (dk_at dksL_law_25 5 rfl rfl)
theorem dL_law_712 : decode cL_law 712 = .ok (.iaload, 1) := dk_46 (dk_at dksL_law_25 6 rfl rfl)
theorem dL_law_713 : decode cL_law 713 = .ok (.aload_n 3, 1) := dk_45 (dk_at dksL_law_25 7 rfl rfl)
theorem dL_law_714 : decode cL_law 714 = .ok (.invokestatic 156, 3) := dk_184 0 156 (dk_at dksL_law_25 8 rfl rfl)
theorem dL_law_717 : decode cL_law 717 = .ok (.istore 6, 2) := dk_54 6 (dk_at dksL_law_25 11 rfl rfl)
theorem dL_law_719 : decode cL_law 719 = .ok (.aload_n 2, 1) := dk_44 (dk_at dksL_law_25 13 rfl rfl)
theorem dL_law_720 : decode cL_law 720 = .ok (.aload_n 0, 1) := dk_42 (dk_at dksL_law_25 14 rfl rfl)
theorem dL_law_721 : decode cL_law 721 = .ok (.iload 5, 2) := dk_21 5 (dk_at dksL_law_25 15 rfl rfl)
theorem dL_law_723 : decode cL_law 723 = .ok (.iconst 1, 1) := dk_4 (dk_at dksL_law_25 17 rfl rfl)
theorem dL_law_724 : decode cL_law 724 = .ok (.iadd, 1) := dk_96 (dk_at dksL_law_25 18 rfl rfl)
theorem dL_law_725 : decode cL_law 725 = .ok (.iaload, 1) := dk_46 (dk_at dksL_law_25 19 rfl rfl)
theorem dL_law_726 : decode cL_law 726 = .ok (.aload_n 0, 1) := dk_42 (dk_at dksL_law_25 20 rfl rfl)
theorem dL_law_727 : decode cL_law 727 = .ok (.iload 5, 2) := dk_21 5 (dk_at dksL_law_25 21 rfl rfl)
theorem dL_law_729 : decode cL_law 729 = .ok (.iconst 2, 1) := dk_5 (dk_at dksL_law_25 23 rfl rfl)
theorem dL_law_730 : decode cL_law 730 = .ok (.iadd, 1) := dk_96 (dk_at dksL_law_26 0 rfl rfl)
theorem dL_law_731 : decode cL_law 731 = .ok (.iaload, 1) := dk_46 (dk_at dksL_law_26 1 rfl rfl)
theorem dL_law_732 : decode cL_law 732 = .ok (.invokevirtual 158, 3) := dk_182 0 158 (dk_at dksL_law_26 2 rfl rfl)
theorem dL_law_735 : decode cL_law 735 = .ok (.istore 7, 2) := dk_54 7 (dk_at dksL_law_26 5 rfl rfl)
theorem dL_law_737 : decode cL_law 737 = .ok (.aload_n 2, 1) := dk_44 (dk_at dksL_law_26 7 rfl rfl)
theorem dL_law_738 : decode cL_law 738 = .ok (.invokevirtual 130, 3) := dk_182 0 130 (dk_at dksL_law_26 8 rfl rfl)
theorem dL_law_741 : decode cL_law 741 = .ok (.iload 6, 2) := dk_21 6 (dk_at dksL_law_26 11 rfl rfl)
theorem dL_law_743 : decode cL_law 743 = .ok (.if_icmp .eq 5, 3) := dk_159 0 5 (dk_at dksL_law_26 13 rfl rfl)
theorem dL_law_746 : decode cL_law 746 = .ok (.iconst 0, 1) := dk_3 (dk_at dksL_law_26 16 rfl rfl)
theorem dL_law_747 : decode cL_law 747 = .ok (.ireturn, 1) := dk_172 (dk_at dksL_law_26 17 rfl rfl)
theorem dL_law_748 : decode cL_law 748 = .ok (.iload 6, 2) := dk_21 6 (dk_at dksL_law_26 18 rfl rfl)
theorem dL_law_750 : decode cL_law 750 = .ok (.ifCond .ne 15, 3) := dk_154 0 15 (dk_at dksL_law_26 20 rfl rfl)
theorem dL_law_753 : decode cL_law 753 = .ok (.aload_n 3, 1) := dk_45 (dk_at dksL_law_26 23 rfl rfl)
theorem dL_law_754 : decode cL_law 754 = .ok (.iconst 0, 1) := dk_3 (dk_at dksL_law_27 0 rfl rfl)
theorem dL_law_755 : decode cL_law 755 = .ok (.laload, 1) := dk_47 (dk_at dksL_law_27 1 rfl rfl)
theorem dL_law_756 : decode cL_law 756 = .ok (.iload 7, 2) := dk_21 7 (dk_at dksL_law_27 2 rfl rfl)
theorem dL_law_758 : decode cL_law 758 = .ok (.i2l, 1) := dk_133 (dk_at dksL_law_27 4 rfl rfl)
theorem dL_law_759 : decode cL_law 759 = .ok (.lcmp, 1) := dk_148 (dk_at dksL_law_27 5 rfl rfl)
theorem dL_law_760 : decode cL_law 760 = .ok (.ifCond .eq 5, 3) := dk_153 0 5 (dk_at dksL_law_27 6 rfl rfl)
theorem dL_law_763 : decode cL_law 763 = .ok (.iconst 0, 1) := dk_3 (dk_at dksL_law_27 9 rfl rfl)
theorem dL_law_764 : decode cL_law 764 = .ok (.ireturn, 1) := dk_172 (dk_at dksL_law_27 10 rfl rfl)
theorem dL_law_765 : decode cL_law 765 = .ok (.goto 1224, 3) := dk_167 4 200 (dk_at dksL_law_27 11 rfl rfl)
theorem dL_law_768 : decode cL_law 768 = .ok (.aload_n 1, 1) := dk_43 (dk_at dksL_law_27 14 rfl rfl)
theorem dL_law_769 : decode cL_law 769 = .ok (.aload_n 0, 1) := dk_42 (dk_at dksL_law_27 15 rfl rfl)
theorem dL_law_770 : decode cL_law 770 = .ok (.iload 5, 2) := dk_21 5 (dk_at dksL_law_27 16 rfl rfl)
theorem dL_law_772 : decode cL_law 772 = .ok (.iconst 1, 1) := dk_4 (dk_at dksL_law_27 18 rfl rfl)
theorem dL_law_773 : decode cL_law 773 = .ok (.iadd, 1) := dk_96 (dk_at dksL_law_27 19 rfl rfl)
theorem dL_law_774 : decode cL_law 774 = .ok (.iaload, 1) := dk_46 (dk_at dksL_law_27 20 rfl rfl)
theorem dL_law_775 : decode cL_law 775 = .ok (.aload_n 0, 1) := dk_42 (dk_at dksL_law_27 21 rfl rfl)
theorem dL_law_776 : decode cL_law 776 = .ok (.iload 5, 2) := dk_21 5 (dk_at dksL_law_27 22 rfl rfl)
theorem dL_law_778 : decode cL_law 778 = .ok (.iconst 2, 1) := dk_5 (dk_at dksL_law_28 0 rfl rfl)
theorem dL_law_779 : decode cL_law 779 = .ok (.iadd, 1) := dk_96 (dk_at dksL_law_28 1 rfl rfl)
theorem dL_law_780 : decode cL_law 780 = .ok (.iaload, 1) := dk_46 (dk_at dksL_law_28 2 rfl rfl)
theorem dL_law_781 : decode cL_law 781 = .ok (.ifCond .eq 7, 3) := dk_153 0 7 (dk_at dksL_law_28 3 rfl rfl)
theorem dL_law_784 : decode cL_law 784 = .ok (.iconst 1, 1) := dk_4 (dk_at dksL_law_28 6 rfl rfl)
theorem dL_law_785 : decode cL_law 785 = .ok (.goto 4, 3) := dk_167 0 4 (dk_at dksL_law_28 7 rfl rfl)
theorem dL_law_788 : decode cL_law 788 = .ok (.iconst 0, 1) := dk_3 (dk_at dksL_law_28 10 rfl rfl)
theorem dL_law_789 : decode cL_law 789 = .ok (.aload_n 3, 1) := dk_45 (dk_at dksL_law_28 11 rfl rfl)
theorem dL_law_790 : decode cL_law 790 = .ok (.invokestatic 159, 3) := dk_184 0 159 (dk_at dksL_law_28 12 rfl rfl)
theorem dL_law_793 : decode cL_law 793 = .ok (.istore 6, 2) := dk_54 6 (dk_at dksL_law_28 15 rfl rfl)
theorem dL_law_795 : decode cL_law 795 = .ok (.aload_n 2, 1) := dk_44 (dk_at dksL_law_28 17 rfl rfl)
theorem dL_law_796 : decode cL_law 796 = .ok (.aload_n 0, 1) := dk_42 (dk_at dksL_law_28 18 rfl rfl)
theorem dL_law_797 : decode cL_law 797 = .ok (.iload 5, 2) := dk_21 5 (dk_at dksL_law_28 19 rfl rfl)
theorem dL_law_799 : decode cL_law 799 = .ok (.iconst 1, 1) := dk_4 (dk_at dksL_law_28 21 rfl rfl)
theorem dL_law_800 : decode cL_law 800 = .ok (.iadd, 1) := dk_96 (dk_at dksL_law_28 22 rfl rfl)
theorem dL_law_801 : decode cL_law 801 = .ok (.iaload, 1) := dk_46 (dk_at dksL_law_28 23 rfl rfl)
theorem dL_law_802 : decode cL_law 802 = .ok (.aload_n 0, 1) := dk_42 (dk_at dksL_law_29 0 rfl rfl)
theorem dL_law_803 : decode cL_law 803 = .ok (.iload 5, 2) := dk_21 5 (dk_at dksL_law_29 1 rfl rfl)
theorem dL_law_805 : decode cL_law 805 = .ok (.iconst 2, 1) := dk_5 (dk_at dksL_law_29 3 rfl rfl)
theorem dL_law_806 : decode cL_law 806 = .ok (.iadd, 1) := dk_96 (dk_at dksL_law_29 4 rfl rfl)
theorem dL_law_807 : decode cL_law 807 = .ok (.iaload, 1) := dk_46 (dk_at dksL_law_29 5 rfl rfl)
theorem dL_law_808 : decode cL_law 808 = .ok (.ifCond .eq 7, 3) := dk_153 0 7 (dk_at dksL_law_29 6 rfl rfl)
theorem dL_law_811 : decode cL_law 811 = .ok (.iconst 1, 1) := dk_4 (dk_at dksL_law_29 9 rfl rfl)
theorem dL_law_812 : decode cL_law 812 = .ok (.goto 4, 3) := dk_167 0 4 (dk_at dksL_law_29 10 rfl rfl)
theorem dL_law_815 : decode cL_law 815 = .ok (.iconst 0, 1) := dk_3 (dk_at dksL_law_29 13 rfl rfl)
theorem dL_law_816 : decode cL_law 816 = .ok (.invokevirtual 162, 3) := dk_182 0 162 (dk_at dksL_law_29 14 rfl rfl)
theorem dL_law_819 : decode cL_law 819 = .ok (.istore 7, 2) := dk_54 7 (dk_at dksL_law_29 17 rfl rfl)
theorem dL_law_821 : decode cL_law 821 = .ok (.aload_n 2, 1) := dk_44 (dk_at dksL_law_29 19 rfl rfl)
theorem dL_law_822 : decode cL_law 822 = .ok (.invokevirtual 130, 3) := dk_182 0 130 (dk_at dksL_law_29 20 rfl rfl)
theorem dL_law_825 : decode cL_law 825 = .ok (.iload 6, 2) := dk_21 6 (dk_at dksL_law_30 0 rfl rfl)
theorem dL_law_827 : decode cL_law 827 = .ok (.if_icmp .eq 5, 3) := dk_159 0 5 (dk_at dksL_law_30 2 rfl rfl)
theorem dL_law_830 : decode cL_law 830 = .ok (.iconst 0, 1) := dk_3 (dk_at dksL_law_30 5 rfl rfl)
theorem dL_law_831 : decode cL_law 831 = .ok (.ireturn, 1) := dk_172 (dk_at dksL_law_30 6 rfl rfl)
theorem dL_law_832 : decode cL_law 832 = .ok (.iload 6, 2) := dk_21 6 (dk_at dksL_law_30 7 rfl rfl)
theorem dL_law_834 : decode cL_law 834 = .ok (.ifCond .ne 15, 3) := dk_154 0 15 (dk_at dksL_law_30 9 rfl rfl)
theorem dL_law_837 : decode cL_law 837 = .ok (.aload_n 3, 1) := dk_45 (dk_at dksL_law_30 12 rfl rfl)
theorem dL_law_838 : decode cL_law 838 = .ok (.iconst 0, 1) := dk_3 (dk_at dksL_law_30 13 rfl rfl)
theorem dL_law_839 : decode cL_law 839 = .ok (.laload, 1) := dk_47 (dk_at dksL_law_30 14 rfl rfl)
theorem dL_law_840 : decode cL_law 840 = .ok (.iload 7, 2) := dk_21 7 (dk_at dksL_law_30 15 rfl rfl)
theorem dL_law_842 : decode cL_law 842 = .ok (.i2l, 1) := dk_133 (dk_at dksL_law_30 17 rfl rfl)
theorem dL_law_843 : decode cL_law 843 = .ok (.lcmp, 1) := dk_148 (dk_at dksL_law_30 18 rfl rfl)
theorem dL_law_844 : decode cL_law 844 = .ok (.ifCond .eq 5, 3) := dk_153 0 5 (dk_at dksL_law_30 19 rfl rfl)
theorem dL_law_847 : decode cL_law 847 = .ok (.iconst 0, 1) := dk_3 (dk_at dksL_law_30 22 rfl rfl)
theorem dL_law_848 : decode cL_law 848 = .ok (.ireturn, 1) := dk_172 (dk_at dksL_law_30 23 rfl rfl)
theorem dL_law_849 : decode cL_law 849 = .ok (.goto 1140, 3) := dk_167 4 116 (dk_at dksL_law_31 0 rfl rfl)
theorem dL_law_852 : decode cL_law 852 = .ok (.aload_n 1, 1) := dk_43 (dk_at dksL_law_31 3 rfl rfl)
theorem dL_law_853 : decode cL_law 853 = .ok (.aload_n 3, 1) := dk_45 (dk_at dksL_law_31 4 rfl rfl)
theorem dL_law_854 : decode cL_law 854 = .ok (.invokestatic 163, 3) := dk_184 0 163 (dk_at dksL_law_31 5 rfl rfl)
theorem dL_law_857 : decode cL_law 857 = .ok (.istore 6, 2) := dk_54 6 (dk_at dksL_law_31 8 rfl rfl)
theorem dL_law_859 : decode cL_law 859 = .ok (.aload_n 2, 1) := dk_44 (dk_at dksL_law_31 10 rfl rfl)
theorem dL_law_860 : decode cL_law 860 = .ok (.invokevirtual 166, 3) := dk_182 0 166 (dk_at dksL_law_31 11 rfl rfl)
theorem dL_law_863 : decode cL_law 863 = .ok (.istore 7, 2) := dk_54 7 (dk_at dksL_law_31 14 rfl rfl)
theorem dL_law_865 : decode cL_law 865 = .ok (.aload_n 2, 1) := dk_44 (dk_at dksL_law_31 16 rfl rfl)
theorem dL_law_866 : decode cL_law 866 = .ok (.invokevirtual 130, 3) := dk_182 0 130 (dk_at dksL_law_31 17 rfl rfl)
theorem dL_law_869 : decode cL_law 869 = .ok (.iload 6, 2) := dk_21 6 (dk_at dksL_law_31 20 rfl rfl)
theorem dL_law_871 : decode cL_law 871 = .ok (.if_icmp .eq 5, 3) := dk_159 0 5 (dk_at dksL_law_32 0 rfl rfl)
theorem dL_law_874 : decode cL_law 874 = .ok (.iconst 0, 1) := dk_3 (dk_at dksL_law_32 3 rfl rfl)
theorem dL_law_875 : decode cL_law 875 = .ok (.ireturn, 1) := dk_172 (dk_at dksL_law_32 4 rfl rfl)
theorem dL_law_876 : decode cL_law 876 = .ok (.iload 6, 2) := dk_21 6 (dk_at dksL_law_32 5 rfl rfl)
theorem dL_law_878 : decode cL_law 878 = .ok (.ifCond .ne 15, 3) := dk_154 0 15 (dk_at dksL_law_32 7 rfl rfl)
theorem dL_law_881 : decode cL_law 881 = .ok (.aload_n 3, 1) := dk_45 (dk_at dksL_law_32 10 rfl rfl)
theorem dL_law_882 : decode cL_law 882 = .ok (.iconst 0, 1) := dk_3 (dk_at dksL_law_32 11 rfl rfl)
theorem dL_law_883 : decode cL_law 883 = .ok (.laload, 1) := dk_47 (dk_at dksL_law_32 12 rfl rfl)
theorem dL_law_884 : decode cL_law 884 = .ok (.iload 7, 2) := dk_21 7 (dk_at dksL_law_32 13 rfl rfl)
theorem dL_law_886 : decode cL_law 886 = .ok (.i2l, 1) := dk_133 (dk_at dksL_law_32 15 rfl rfl)
theorem dL_law_887 : decode cL_law 887 = .ok (.lcmp, 1) := dk_148 (dk_at dksL_law_32 16 rfl rfl)
theorem dL_law_888 : decode cL_law 888 = .ok (.ifCond .eq 5, 3) := dk_153 0 5 (dk_at dksL_law_32 17 rfl rfl)
theorem dL_law_891 : decode cL_law 891 = .ok (.iconst 0, 1) := dk_3 (dk_at dksL_law_32 20 rfl rfl)
theorem dL_law_892 : decode cL_law 892 = .ok (.ireturn, 1) := dk_172 (dk_at dksL_law_32 21 rfl rfl)
theorem dL_law_893 : decode cL_law 893 = .ok (.goto 1096, 3) := dk_167 4 72 (dk_at dksL_law_33 0 rfl rfl)
theorem dL_law_896 : decode cL_law 896 = .ok (.aload_n 1, 1) := dk_43 (dk_at dksL_law_33 3 rfl rfl)
theorem dL_law_897 : decode cL_law 897 = .ok (.aload_n 0, 1) := dk_42 (dk_at dksL_law_33 4 rfl rfl)
theorem dL_law_898 : decode cL_law 898 = .ok (.iload 5, 2) := dk_21 5 (dk_at dksL_law_33 5 rfl rfl)
theorem dL_law_900 : decode cL_law 900 = .ok (.iconst 1, 1) := dk_4 (dk_at dksL_law_33 7 rfl rfl)
theorem dL_law_901 : decode cL_law 901 = .ok (.iadd, 1) := dk_96 (dk_at dksL_law_33 8 rfl rfl)
theorem dL_law_902 : decode cL_law 902 = .ok (.iaload, 1) := dk_46 (dk_at dksL_law_33 9 rfl rfl)
theorem dL_law_903 : decode cL_law 903 = .ok (.aload_n 3, 1) := dk_45 (dk_at dksL_law_33 10 rfl rfl)
theorem dL_law_904 : decode cL_law 904 = .ok (.invokestatic 167, 3) := dk_184 0 167 (dk_at dksL_law_33 11 rfl rfl)
theorem dL_law_907 : decode cL_law 907 = .ok (.istore 6, 2) := dk_54 6 (dk_at dksL_law_33 14 rfl rfl)
theorem dL_law_909 : decode cL_law 909 = .ok (.aload_n 2, 1) := dk_44 (dk_at dksL_law_33 16 rfl rfl)
theorem dL_law_910 : decode cL_law 910 = .ok (.aload_n 0, 1) := dk_42 (dk_at dksL_law_33 17 rfl rfl)
theorem dL_law_911 : decode cL_law 911 = .ok (.iload 5, 2) := dk_21 5 (dk_at dksL_law_33 18 rfl rfl)
theorem dL_law_913 : decode cL_law 913 = .ok (.iconst 1, 1) := dk_4 (dk_at dksL_law_33 20 rfl rfl)
theorem dL_law_914 : decode cL_law 914 = .ok (.iadd, 1) := dk_96 (dk_at dksL_law_33 21 rfl rfl)
theorem dL_law_915 : decode cL_law 915 = .ok (.iaload, 1) := dk_46 (dk_at dksL_law_33 22 rfl rfl)
theorem dL_law_916 : decode cL_law 916 = .ok (.invokevirtual 169, 3) := dk_182 0 169 (dk_at dksL_law_34 0 rfl rfl)
theorem dL_law_919 : decode cL_law 919 = .ok (.istore 7, 2) := dk_54 7 (dk_at dksL_law_34 3 rfl rfl)
theorem dL_law_921 : decode cL_law 921 = .ok (.aload_n 2, 1) := dk_44 (dk_at dksL_law_34 5 rfl rfl)
theorem dL_law_922 : decode cL_law 922 = .ok (.invokevirtual 130, 3) := dk_182 0 130 (dk_at dksL_law_34 6 rfl rfl)
theorem dL_law_925 : decode cL_law 925 = .ok (.iload 6, 2) := dk_21 6 (dk_at dksL_law_34 9 rfl rfl)
theorem dL_law_927 : decode cL_law 927 = .ok (.if_icmp .eq 5, 3) := dk_159 0 5 (dk_at dksL_law_34 11 rfl rfl)
theorem dL_law_930 : decode cL_law 930 = .ok (.iconst 0, 1) := dk_3 (dk_at dksL_law_34 14 rfl rfl)
theorem dL_law_931 : decode cL_law 931 = .ok (.ireturn, 1) := dk_172 (dk_at dksL_law_34 15 rfl rfl)
theorem dL_law_932 : decode cL_law 932 = .ok (.iload 6, 2) := dk_21 6 (dk_at dksL_law_34 16 rfl rfl)
theorem dL_law_934 : decode cL_law 934 = .ok (.ifCond .ne 15, 3) := dk_154 0 15 (dk_at dksL_law_34 18 rfl rfl)
theorem dL_law_937 : decode cL_law 937 = .ok (.aload_n 3, 1) := dk_45 (dk_at dksL_law_34 21 rfl rfl)
theorem dL_law_938 : decode cL_law 938 = .ok (.iconst 0, 1) := dk_3 (dk_at dksL_law_34 22 rfl rfl)
theorem dL_law_939 : decode cL_law 939 = .ok (.laload, 1) := dk_47 (dk_at dksL_law_34 23 rfl rfl)
theorem dL_law_940 : decode cL_law 940 = .ok (.iload 7, 2) := dk_21 7 (dk_at dksL_law_35 0 rfl rfl)
theorem dL_law_942 : decode cL_law 942 = .ok (.i2l, 1) := dk_133 (dk_at dksL_law_35 2 rfl rfl)
theorem dL_law_943 : decode cL_law 943 = .ok (.lcmp, 1) := dk_148 (dk_at dksL_law_35 3 rfl rfl)
theorem dL_law_944 : decode cL_law 944 = .ok (.ifCond .eq 5, 3) := dk_153 0 5 (dk_at dksL_law_35 4 rfl rfl)
theorem dL_law_947 : decode cL_law 947 = .ok (.iconst 0, 1) := dk_3 (dk_at dksL_law_35 7 rfl rfl)
theorem dL_law_948 : decode cL_law 948 = .ok (.ireturn, 1) := dk_172 (dk_at dksL_law_35 8 rfl rfl)
theorem dL_law_949 : decode cL_law 949 = .ok (.goto 1040, 3) := dk_167 4 16 (dk_at dksL_law_35 9 rfl rfl)
theorem dL_law_952 : decode cL_law 952 = .ok (.aload_n 1, 1) := dk_43 (dk_at dksL_law_35 12 rfl rfl)
theorem dL_law_953 : decode cL_law 953 = .ok (.invokevirtual 170, 3) := dk_182 0 170 (dk_at dksL_law_35 13 rfl rfl)
theorem dL_law_956 : decode cL_law 956 = .ok (.aload_n 2, 1) := dk_44 (dk_at dksL_law_35 16 rfl rfl)
theorem dL_law_957 : decode cL_law 957 = .ok (.invokevirtual 173, 3) := dk_182 0 173 (dk_at dksL_law_35 17 rfl rfl)
theorem dL_law_960 : decode cL_law 960 = .ok (.if_icmp .eq 1029, 3) := dk_159 4 5 (dk_at dksL_law_35 20 rfl rfl)
theorem dL_law_963 : decode cL_law 963 = .ok (.iconst 0, 1) := dk_3 (dk_at dksL_law_35 23 rfl rfl)
theorem dL_law_964 : decode cL_law 964 = .ok (.ireturn, 1) := dk_172 (dk_at dksL_law_36 0 rfl rfl)
theorem dL_law_965 : decode cL_law 965 = .ok (.aload_n 1, 1) := dk_43 (dk_at dksL_law_36 1 rfl rfl)
theorem dL_law_966 : decode cL_law 966 = .ok (.aload_n 0, 1) := dk_42 (dk_at dksL_law_36 2 rfl rfl)
theorem dL_law_967 : decode cL_law 967 = .ok (.iload 5, 2) := dk_21 5 (dk_at dksL_law_36 3 rfl rfl)
theorem dL_law_969 : decode cL_law 969 = .ok (.iconst 1, 1) := dk_4 (dk_at dksL_law_36 5 rfl rfl)
theorem dL_law_970 : decode cL_law 970 = .ok (.iadd, 1) := dk_96 (dk_at dksL_law_36 6 rfl rfl)
theorem dL_law_971 : decode cL_law 971 = .ok (.iaload, 1) := dk_46 (dk_at dksL_law_36 7 rfl rfl)
theorem dL_law_972 : decode cL_law 972 = .ok (.aload_n 0, 1) := dk_42 (dk_at dksL_law_36 8 rfl rfl)
theorem dL_law_973 : decode cL_law 973 = .ok (.iload 5, 2) := dk_21 5 (dk_at dksL_law_36 9 rfl rfl)
theorem dL_law_975 : decode cL_law 975 = .ok (.iconst 2, 1) := dk_5 (dk_at dksL_law_36 11 rfl rfl)
theorem dL_law_976 : decode cL_law 976 = .ok (.iadd, 1) := dk_96 (dk_at dksL_law_36 12 rfl rfl)
theorem dL_law_977 : decode cL_law 977 = .ok (.iaload, 1) := dk_46 (dk_at dksL_law_36 13 rfl rfl)
theorem dL_law_978 : decode cL_law 978 = .ok (.aload_n 3, 1) := dk_45 (dk_at dksL_law_36 14 rfl rfl)
theorem dL_law_979 : decode cL_law 979 = .ok (.invokestatic 174, 3) := dk_184 0 174 (dk_at dksL_law_36 15 rfl rfl)
theorem dL_law_982 : decode cL_law 982 = .ok (.istore 6, 2) := dk_54 6 (dk_at dksL_law_36 18 rfl rfl)
theorem dL_law_984 : decode cL_law 984 = .ok (.aload_n 2, 1) := dk_44 (dk_at dksL_law_36 20 rfl rfl)
theorem dL_law_985 : decode cL_law 985 = .ok (.aload_n 0, 1) := dk_42 (dk_at dksL_law_36 21 rfl rfl)
theorem dL_law_986 : decode cL_law 986 = .ok (.iload 5, 2) := dk_21 5 (dk_at dksL_law_36 22 rfl rfl)
theorem dL_law_988 : decode cL_law 988 = .ok (.iconst 1, 1) := dk_4 (dk_at dksL_law_37 0 rfl rfl)
theorem dL_law_989 : decode cL_law 989 = .ok (.iadd, 1) := dk_96 (dk_at dksL_law_37 1 rfl rfl)
theorem dL_law_990 : decode cL_law 990 = .ok (.iaload, 1) := dk_46 (dk_at dksL_law_37 2 rfl rfl)
theorem dL_law_991 : decode cL_law 991 = .ok (.aload_n 0, 1) := dk_42 (dk_at dksL_law_37 3 rfl rfl)
theorem dL_law_992 : decode cL_law 992 = .ok (.iload 5, 2) := dk_21 5 (dk_at dksL_law_37 4 rfl rfl)
theorem dL_law_994 : decode cL_law 994 = .ok (.iconst 2, 1) := dk_5 (dk_at dksL_law_37 6 rfl rfl)
theorem dL_law_995 : decode cL_law 995 = .ok (.iadd, 1) := dk_96 (dk_at dksL_law_37 7 rfl rfl)
theorem dL_law_996 : decode cL_law 996 = .ok (.iaload, 1) := dk_46 (dk_at dksL_law_37 8 rfl rfl)
theorem dL_law_997 : decode cL_law 997 = .ok (.invokevirtual 176, 3) := dk_182 0 176 (dk_at dksL_law_37 9 rfl rfl)
theorem dL_law_1000 : decode cL_law 1000 = .ok (.istore 7, 2) := dk_54 7 (dk_at dksL_law_37 12 rfl rfl)
theorem dL_law_1002 : decode cL_law 1002 = .ok (.aload_n 2, 1) := dk_44 (dk_at dksL_law_37 14 rfl rfl)
theorem dL_law_1003 : decode cL_law 1003 = .ok (.invokevirtual 130, 3) := dk_182 0 130 (dk_at dksL_law_37 15 rfl rfl)
theorem dL_law_1006 : decode cL_law 1006 = .ok (.iload 6, 2) := dk_21 6 (dk_at dksL_law_37 18 rfl rfl)
theorem dL_law_1008 : decode cL_law 1008 = .ok (.if_icmp .eq 5, 3) := dk_159 0 5 (dk_at dksL_law_37 20 rfl rfl)
theorem dL_law_1011 : decode cL_law 1011 = .ok (.iconst 0, 1) := dk_3 (dk_at dksL_law_37 23 rfl rfl)
theorem dL_law_1012 : decode cL_law 1012 = .ok (.ireturn, 1) := dk_172 (dk_at dksL_law_38 0 rfl rfl)
theorem dL_law_1013 : decode cL_law 1013 = .ok (.iload 6, 2) := dk_21 6 (dk_at dksL_law_38 1 rfl rfl)
theorem dL_law_1015 : decode cL_law 1015 = .ok (.ifCond .ne 15, 3) := dk_154 0 15 (dk_at dksL_law_38 3 rfl rfl)
theorem dL_law_1018 : decode cL_law 1018 = .ok (.aload_n 3, 1) := dk_45 (dk_at dksL_law_38 6 rfl rfl)
theorem dL_law_1019 : decode cL_law 1019 = .ok (.iconst 0, 1) := dk_3 (dk_at dksL_law_38 7 rfl rfl)
theorem dL_law_1020 : decode cL_law 1020 = .ok (.laload, 1) := dk_47 (dk_at dksL_law_38 8 rfl rfl)
theorem dL_law_1021 : decode cL_law 1021 = .ok (.iload 7, 2) := dk_21 7 (dk_at dksL_law_38 9 rfl rfl)
theorem dL_law_1023 : decode cL_law 1023 = .ok (.i2l, 1) := dk_133 (dk_at dksL_law_38 11 rfl rfl)
theorem dL_law_1024 : decode cL_law 1024 = .ok (.lcmp, 1) := dk_148 (dk_at dksL_law_38 12 rfl rfl)
theorem dL_law_1025 : decode cL_law 1025 = .ok (.ifCond .eq 5, 3) := dk_153 0 5 (dk_at dksL_law_38 13 rfl rfl)
theorem dL_law_1028 : decode cL_law 1028 = .ok (.iconst 0, 1) := dk_3 (dk_at dksL_law_38 16 rfl rfl)
theorem dL_law_1029 : decode cL_law 1029 = .ok (.ireturn, 1) := dk_172 (dk_at dksL_law_38 17 rfl rfl)
theorem dL_law_1030 : decode cL_law 1030 = .ok (.goto 959, 3) := dk_167 3 191 (dk_at dksL_law_38 18 rfl rfl)
theorem dL_law_1033 : decode cL_law 1033 = .ok (.aload_n 1, 1) := dk_43 (dk_at dksL_law_38 21 rfl rfl)
theorem dL_law_1034 : decode cL_law 1034 = .ok (.aload_n 0, 1) := dk_42 (dk_at dksL_law_38 22 rfl rfl)
theorem dL_law_1035 : decode cL_law 1035 = .ok (.iload 5, 2) := dk_21 5 (dk_at dksL_law_39 0 rfl rfl)
theorem dL_law_1037 : decode cL_law 1037 = .ok (.iconst 1, 1) := dk_4 (dk_at dksL_law_39 2 rfl rfl)
theorem dL_law_1038 : decode cL_law 1038 = .ok (.iadd, 1) := dk_96 (dk_at dksL_law_39 3 rfl rfl)
theorem dL_law_1039 : decode cL_law 1039 = .ok (.iaload, 1) := dk_46 (dk_at dksL_law_39 4 rfl rfl)
theorem dL_law_1040 : decode cL_law 1040 = .ok (.aload_n 0, 1) := dk_42 (dk_at dksL_law_39 5 rfl rfl)
theorem dL_law_1041 : decode cL_law 1041 = .ok (.iload 5, 2) := dk_21 5 (dk_at dksL_law_39 6 rfl rfl)
theorem dL_law_1043 : decode cL_law 1043 = .ok (.iconst 2, 1) := dk_5 (dk_at dksL_law_39 8 rfl rfl)
theorem dL_law_1044 : decode cL_law 1044 = .ok (.iadd, 1) := dk_96 (dk_at dksL_law_39 9 rfl rfl)
theorem dL_law_1045 : decode cL_law 1045 = .ok (.iaload, 1) := dk_46 (dk_at dksL_law_39 10 rfl rfl)
theorem dL_law_1046 : decode cL_law 1046 = .ok (.aload_n 3, 1) := dk_45 (dk_at dksL_law_39 11 rfl rfl)
theorem dL_law_1047 : decode cL_law 1047 = .ok (.invokestatic 177, 3) := dk_184 0 177 (dk_at dksL_law_39 12 rfl rfl)
theorem dL_law_1050 : decode cL_law 1050 = .ok (.istore 6, 2) := dk_54 6 (dk_at dksL_law_39 15 rfl rfl)
theorem dL_law_1052 : decode cL_law 1052 = .ok (.aload_n 2, 1) := dk_44 (dk_at dksL_law_39 17 rfl rfl)
theorem dL_law_1053 : decode cL_law 1053 = .ok (.aload_n 0, 1) := dk_42 (dk_at dksL_law_39 18 rfl rfl)
theorem dL_law_1054 : decode cL_law 1054 = .ok (.iload 5, 2) := dk_21 5 (dk_at dksL_law_39 19 rfl rfl)
theorem dL_law_1056 : decode cL_law 1056 = .ok (.iconst 1, 1) := dk_4 (dk_at dksL_law_39 21 rfl rfl)
theorem dL_law_1057 : decode cL_law 1057 = .ok (.iadd, 1) := dk_96 (dk_at dksL_law_39 22 rfl rfl)
theorem dL_law_1058 : decode cL_law 1058 = .ok (.iaload, 1) := dk_46 (dk_at dksL_law_39 23 rfl rfl)
theorem dL_law_1059 : decode cL_law 1059 = .ok (.aload_n 0, 1) := dk_42 (dk_at dksL_law_40 0 rfl rfl)
theorem dL_law_1060 : decode cL_law 1060 = .ok (.iload 5, 2) := dk_21 5 (dk_at dksL_law_40 1 rfl rfl)
theorem dL_law_1062 : decode cL_law 1062 = .ok (.iconst 2, 1) := dk_5 (dk_at dksL_law_40 3 rfl rfl)
theorem dL_law_1063 : decode cL_law 1063 = .ok (.iadd, 1) := dk_96 (dk_at dksL_law_40 4 rfl rfl)
theorem dL_law_1064 : decode cL_law 1064 = .ok (.iaload, 1) := dk_46 (dk_at dksL_law_40 5 rfl rfl)
theorem dL_law_1065 : decode cL_law 1065 = .ok (.invokevirtual 179, 3) := dk_182 0 179 (dk_at dksL_law_40 6 rfl rfl)
theorem dL_law_1068 : decode cL_law 1068 = .ok (.istore 7, 2) := dk_54 7 (dk_at dksL_law_40 9 rfl rfl)
theorem dL_law_1070 : decode cL_law 1070 = .ok (.aload_n 2, 1) := dk_44 (dk_at dksL_law_40 11 rfl rfl)
theorem dL_law_1071 : decode cL_law 1071 = .ok (.invokevirtual 130, 3) := dk_182 0 130 (dk_at dksL_law_40 12 rfl rfl)
theorem dL_law_1074 : decode cL_law 1074 = .ok (.iload 6, 2) := dk_21 6 (dk_at dksL_law_40 15 rfl rfl)
theorem dL_law_1076 : decode cL_law 1076 = .ok (.if_icmp .eq 5, 3) := dk_159 0 5 (dk_at dksL_law_40 17 rfl rfl)
theorem dL_law_1079 : decode cL_law 1079 = .ok (.iconst 0, 1) := dk_3 (dk_at dksL_law_40 20 rfl rfl)
theorem dL_law_1080 : decode cL_law 1080 = .ok (.ireturn, 1) := dk_172 (dk_at dksL_law_40 21 rfl rfl)
theorem dL_law_1081 : decode cL_law 1081 = .ok (.iload 6, 2) := dk_21 6 (dk_at dksL_law_40 22 rfl rfl)
theorem dL_law_1083 : decode cL_law 1083 = .ok (.ifCond .ne 15, 3) := dk_154 0 15 (dk_at dksL_law_41 0 rfl rfl)
theorem dL_law_1086 : decode cL_law 1086 = .ok (.aload_n 3, 1) := dk_45 (dk_at dksL_law_41 3 rfl rfl)
theorem dL_law_1087 : decode cL_law 1087 = .ok (.iconst 0, 1) := dk_3 (dk_at dksL_law_41 4 rfl rfl)
theorem dL_law_1088 : decode cL_law 1088 = .ok (.laload, 1) := dk_47 (dk_at dksL_law_41 5 rfl rfl)
theorem dL_law_1089 : decode cL_law 1089 = .ok (.iload 7, 2) := dk_21 7 (dk_at dksL_law_41 6 rfl rfl)
theorem dL_law_1091 : decode cL_law 1091 = .ok (.i2l, 1) := dk_133 (dk_at dksL_law_41 8 rfl rfl)
theorem dL_law_1092 : decode cL_law 1092 = .ok (.lcmp, 1) := dk_148 (dk_at dksL_law_41 9 rfl rfl)
theorem dL_law_1093 : decode cL_law 1093 = .ok (.ifCond .eq 5, 3) := dk_153 0 5 (dk_at dksL_law_41 10 rfl rfl)
theorem dL_law_1096 : decode cL_law 1096 = .ok (.iconst 0, 1) := dk_3 (dk_at dksL_law_41 13 rfl rfl)
theorem dL_law_1097 : decode cL_law 1097 = .ok (.ireturn, 1) := dk_172 (dk_at dksL_law_41 14 rfl rfl)
theorem dL_law_1098 : decode cL_law 1098 = .ok (.goto 891, 3) := dk_167 3 123 (dk_at dksL_law_41 15 rfl rfl)
theorem dL_law_1101 : decode cL_law 1101 = .ok (.aload_n 1, 1) := dk_43 (dk_at dksL_law_41 18 rfl rfl)
theorem dL_law_1102 : decode cL_law 1102 = .ok (.aload_n 0, 1) := dk_42 (dk_at dksL_law_41 19 rfl rfl)
theorem dL_law_1103 : decode cL_law 1103 = .ok (.iload 5, 2) := dk_21 5 (dk_at dksL_law_41 20 rfl rfl)
theorem dL_law_1105 : decode cL_law 1105 = .ok (.iconst 1, 1) := dk_4 (dk_at dksL_law_41 22 rfl rfl)
theorem dL_law_1106 : decode cL_law 1106 = .ok (.iadd, 1) := dk_96 (dk_at dksL_law_41 23 rfl rfl)
theorem dL_law_1107 : decode cL_law 1107 = .ok (.iaload, 1) := dk_46 (dk_at dksL_law_42 0 rfl rfl)
theorem dL_law_1108 : decode cL_law 1108 = .ok (.aload_n 3, 1) := dk_45 (dk_at dksL_law_42 1 rfl rfl)
theorem dL_law_1109 : decode cL_law 1109 = .ok (.invokestatic 180, 3) := dk_184 0 180 (dk_at dksL_law_42 2 rfl rfl)
theorem dL_law_1112 : decode cL_law 1112 = .ok (.istore 6, 2) := dk_54 6 (dk_at dksL_law_42 5 rfl rfl)
theorem dL_law_1114 : decode cL_law 1114 = .ok (.aload_n 2, 1) := dk_44 (dk_at dksL_law_42 7 rfl rfl)
theorem dL_law_1115 : decode cL_law 1115 = .ok (.aload_n 0, 1) := dk_42 (dk_at dksL_law_42 8 rfl rfl)
theorem dL_law_1116 : decode cL_law 1116 = .ok (.iload 5, 2) := dk_21 5 (dk_at dksL_law_42 9 rfl rfl)
theorem dL_law_1118 : decode cL_law 1118 = .ok (.iconst 1, 1) := dk_4 (dk_at dksL_law_42 11 rfl rfl)
theorem dL_law_1119 : decode cL_law 1119 = .ok (.iadd, 1) := dk_96 (dk_at dksL_law_42 12 rfl rfl)
theorem dL_law_1120 : decode cL_law 1120 = .ok (.iaload, 1) := dk_46 (dk_at dksL_law_42 13 rfl rfl)
theorem dL_law_1121 : decode cL_law 1121 = .ok (.invokevirtual 182, 3) := dk_182 0 182 (dk_at dksL_law_42 14 rfl rfl)
theorem dL_law_1124 : decode cL_law 1124 = .ok (.istore 7, 2) := dk_54 7 (dk_at dksL_law_42 17 rfl rfl)
theorem dL_law_1126 : decode cL_law 1126 = .ok (.aload_n 2, 1) := dk_44 (dk_at dksL_law_42 19 rfl rfl)
theorem dL_law_1127 : decode cL_law 1127 = .ok (.invokevirtual 130, 3) := dk_182 0 130 (dk_at dksL_law_42 20 rfl rfl)
theorem dL_law_1130 : decode cL_law 1130 = .ok (.iload 6, 2) := dk_21 6 (dk_at dksL_law_43 0 rfl rfl)
theorem dL_law_1132 : decode cL_law 1132 = .ok (.if_icmp .eq 5, 3) := dk_159 0 5 (dk_at dksL_law_43 2 rfl rfl)
theorem dL_law_1135 : decode cL_law 1135 = .ok (.iconst 0, 1) := dk_3 (dk_at dksL_law_43 5 rfl rfl)
theorem dL_law_1136 : decode cL_law 1136 = .ok (.ireturn, 1) := dk_172 (dk_at dksL_law_43 6 rfl rfl)
theorem dL_law_1137 : decode cL_law 1137 = .ok (.iload 6, 2) := dk_21 6 (dk_at dksL_law_43 7 rfl rfl)
theorem dL_law_1139 : decode cL_law 1139 = .ok (.ifCond .ne 15, 3) := dk_154 0 15 (dk_at dksL_law_43 9 rfl rfl)
theorem dL_law_1142 : decode cL_law 1142 = .ok (.aload_n 3, 1) := dk_45 (dk_at dksL_law_43 12 rfl rfl)
theorem dL_law_1143 : decode cL_law 1143 = .ok (.iconst 0, 1) := dk_3 (dk_at dksL_law_43 13 rfl rfl)
theorem dL_law_1144 : decode cL_law 1144 = .ok (.laload, 1) := dk_47 (dk_at dksL_law_43 14 rfl rfl)
theorem dL_law_1145 : decode cL_law 1145 = .ok (.iload 7, 2) := dk_21 7 (dk_at dksL_law_43 15 rfl rfl)
theorem dL_law_1147 : decode cL_law 1147 = .ok (.i2l, 1) := dk_133 (dk_at dksL_law_43 17 rfl rfl)
theorem dL_law_1148 : decode cL_law 1148 = .ok (.lcmp, 1) := dk_148 (dk_at dksL_law_43 18 rfl rfl)
theorem dL_law_1149 : decode cL_law 1149 = .ok (.ifCond .eq 5, 3) := dk_153 0 5 (dk_at dksL_law_43 19 rfl rfl)
theorem dL_law_1152 : decode cL_law 1152 = .ok (.iconst 0, 1) := dk_3 (dk_at dksL_law_43 22 rfl rfl)
theorem dL_law_1153 : decode cL_law 1153 = .ok (.ireturn, 1) := dk_172 (dk_at dksL_law_43 23 rfl rfl)
theorem dL_law_1154 : decode cL_law 1154 = .ok (.goto 835, 3) := dk_167 3 67 (dk_at dksL_law_44 0 rfl rfl)
theorem dL_law_1157 : decode cL_law 1157 = .ok (.aload_n 1, 1) := dk_43 (dk_at dksL_law_44 3 rfl rfl)
theorem dL_law_1158 : decode cL_law 1158 = .ok (.aload_n 0, 1) := dk_42 (dk_at dksL_law_44 4 rfl rfl)
theorem dL_law_1159 : decode cL_law 1159 = .ok (.iload 5, 2) := dk_21 5 (dk_at dksL_law_44 5 rfl rfl)
theorem dL_law_1161 : decode cL_law 1161 = .ok (.iconst 1, 1) := dk_4 (dk_at dksL_law_44 7 rfl rfl)
theorem dL_law_1162 : decode cL_law 1162 = .ok (.iadd, 1) := dk_96 (dk_at dksL_law_44 8 rfl rfl)
theorem dL_law_1163 : decode cL_law 1163 = .ok (.iaload, 1) := dk_46 (dk_at dksL_law_44 9 rfl rfl)
theorem dL_law_1164 : decode cL_law 1164 = .ok (.aload_n 3, 1) := dk_45 (dk_at dksL_law_44 10 rfl rfl)
theorem dL_law_1165 : decode cL_law 1165 = .ok (.invokestatic 183, 3) := dk_184 0 183 (dk_at dksL_law_44 11 rfl rfl)
theorem dL_law_1168 : decode cL_law 1168 = .ok (.istore 6, 2) := dk_54 6 (dk_at dksL_law_44 14 rfl rfl)
theorem dL_law_1170 : decode cL_law 1170 = .ok (.aload_n 2, 1) := dk_44 (dk_at dksL_law_44 16 rfl rfl)
theorem dL_law_1171 : decode cL_law 1171 = .ok (.aload_n 0, 1) := dk_42 (dk_at dksL_law_44 17 rfl rfl)
theorem dL_law_1172 : decode cL_law 1172 = .ok (.iload 5, 2) := dk_21 5 (dk_at dksL_law_44 18 rfl rfl)
theorem dL_law_1174 : decode cL_law 1174 = .ok (.iconst 1, 1) := dk_4 (dk_at dksL_law_44 20 rfl rfl)
theorem dL_law_1175 : decode cL_law 1175 = .ok (.iadd, 1) := dk_96 (dk_at dksL_law_44 21 rfl rfl)
theorem dL_law_1176 : decode cL_law 1176 = .ok (.iaload, 1) := dk_46 (dk_at dksL_law_44 22 rfl rfl)
theorem dL_law_1177 : decode cL_law 1177 = .ok (.invokevirtual 185, 3) := dk_182 0 185 (dk_at dksL_law_45 0 rfl rfl)
theorem dL_law_1180 : decode cL_law 1180 = .ok (.istore 7, 2) := dk_54 7 (dk_at dksL_law_45 3 rfl rfl)
theorem dL_law_1182 : decode cL_law 1182 = .ok (.aload_n 2, 1) := dk_44 (dk_at dksL_law_45 5 rfl rfl)
theorem dL_law_1183 : decode cL_law 1183 = .ok (.invokevirtual 130, 3) := dk_182 0 130 (dk_at dksL_law_45 6 rfl rfl)
theorem dL_law_1186 : decode cL_law 1186 = .ok (.iload 6, 2) := dk_21 6 (dk_at dksL_law_45 9 rfl rfl)
theorem dL_law_1188 : decode cL_law 1188 = .ok (.if_icmp .eq 5, 3) := dk_159 0 5 (dk_at dksL_law_45 11 rfl rfl)
theorem dL_law_1191 : decode cL_law 1191 = .ok (.iconst 0, 1) := dk_3 (dk_at dksL_law_45 14 rfl rfl)
theorem dL_law_1192 : decode cL_law 1192 = .ok (.ireturn, 1) := dk_172 (dk_at dksL_law_45 15 rfl rfl)
theorem dL_law_1193 : decode cL_law 1193 = .ok (.iload 6, 2) := dk_21 6 (dk_at dksL_law_45 16 rfl rfl)
theorem dL_law_1195 : decode cL_law 1195 = .ok (.ifCond .ne 15, 3) := dk_154 0 15 (dk_at dksL_law_45 18 rfl rfl)
theorem dL_law_1198 : decode cL_law 1198 = .ok (.aload_n 3, 1) := dk_45 (dk_at dksL_law_45 21 rfl rfl)
theorem dL_law_1199 : decode cL_law 1199 = .ok (.iconst 0, 1) := dk_3 (dk_at dksL_law_45 22 rfl rfl)
theorem dL_law_1200 : decode cL_law 1200 = .ok (.laload, 1) := dk_47 (dk_at dksL_law_45 23 rfl rfl)
theorem dL_law_1201 : decode cL_law 1201 = .ok (.iload 7, 2) := dk_21 7 (dk_at dksL_law_46 0 rfl rfl)
theorem dL_law_1203 : decode cL_law 1203 = .ok (.i2l, 1) := dk_133 (dk_at dksL_law_46 2 rfl rfl)
theorem dL_law_1204 : decode cL_law 1204 = .ok (.lcmp, 1) := dk_148 (dk_at dksL_law_46 3 rfl rfl)
theorem dL_law_1205 : decode cL_law 1205 = .ok (.ifCond .eq 5, 3) := dk_153 0 5 (dk_at dksL_law_46 4 rfl rfl)
theorem dL_law_1208 : decode cL_law 1208 = .ok (.iconst 0, 1) := dk_3 (dk_at dksL_law_46 7 rfl rfl)
theorem dL_law_1209 : decode cL_law 1209 = .ok (.ireturn, 1) := dk_172 (dk_at dksL_law_46 8 rfl rfl)
theorem dL_law_1210 : decode cL_law 1210 = .ok (.goto 779, 3) := dk_167 3 11 (dk_at dksL_law_46 9 rfl rfl)
theorem dL_law_1213 : decode cL_law 1213 = .ok (.aload_n 1, 1) := dk_43 (dk_at dksL_law_46 12 rfl rfl)
theorem dL_law_1214 : decode cL_law 1214 = .ok (.aload_n 0, 1) := dk_42 (dk_at dksL_law_46 13 rfl rfl)
theorem dL_law_1215 : decode cL_law 1215 = .ok (.iload 5, 2) := dk_21 5 (dk_at dksL_law_46 14 rfl rfl)
theorem dL_law_1217 : decode cL_law 1217 = .ok (.iconst 1, 1) := dk_4 (dk_at dksL_law_46 16 rfl rfl)
theorem dL_law_1218 : decode cL_law 1218 = .ok (.iadd, 1) := dk_96 (dk_at dksL_law_46 17 rfl rfl)
theorem dL_law_1219 : decode cL_law 1219 = .ok (.iaload, 1) := dk_46 (dk_at dksL_law_46 18 rfl rfl)
theorem dL_law_1220 : decode cL_law 1220 = .ok (.aload_n 3, 1) := dk_45 (dk_at dksL_law_46 19 rfl rfl)
theorem dL_law_1221 : decode cL_law 1221 = .ok (.invokestatic 186, 3) := dk_184 0 186 (dk_at dksL_law_46 20 rfl rfl)
theorem dL_law_1224 : decode cL_law 1224 = .ok (.istore 6, 2) := dk_54 6 (dk_at dksL_law_47 0 rfl rfl)
theorem dL_law_1226 : decode cL_law 1226 = .ok (.aload_n 2, 1) := dk_44 (dk_at dksL_law_47 2 rfl rfl)
theorem dL_law_1227 : decode cL_law 1227 = .ok (.aload_n 0, 1) := dk_42 (dk_at dksL_law_47 3 rfl rfl)
theorem dL_law_1228 : decode cL_law 1228 = .ok (.iload 5, 2) := dk_21 5 (dk_at dksL_law_47 4 rfl rfl)
theorem dL_law_1230 : decode cL_law 1230 = .ok (.iconst 1, 1) := dk_4 (dk_at dksL_law_47 6 rfl rfl)
theorem dL_law_1231 : decode cL_law 1231 = .ok (.iadd, 1) := dk_96 (dk_at dksL_law_47 7 rfl rfl)
theorem dL_law_1232 : decode cL_law 1232 = .ok (.iaload, 1) := dk_46 (dk_at dksL_law_47 8 rfl rfl)
theorem dL_law_1233 : decode cL_law 1233 = .ok (.invokevirtual 188, 3) := dk_182 0 188 (dk_at dksL_law_47 9 rfl rfl)
theorem dL_law_1236 : decode cL_law 1236 = .ok (.istore 7, 2) := dk_54 7 (dk_at dksL_law_47 12 rfl rfl)
theorem dL_law_1238 : decode cL_law 1238 = .ok (.aload_n 2, 1) := dk_44 (dk_at dksL_law_47 14 rfl rfl)
theorem dL_law_1239 : decode cL_law 1239 = .ok (.invokevirtual 130, 3) := dk_182 0 130 (dk_at dksL_law_47 15 rfl rfl)
theorem dL_law_1242 : decode cL_law 1242 = .ok (.iload 6, 2) := dk_21 6 (dk_at dksL_law_47 18 rfl rfl)
theorem dL_law_1244 : decode cL_law 1244 = .ok (.if_icmp .eq 5, 3) := dk_159 0 5 (dk_at dksL_law_47 20 rfl rfl)
theorem dL_law_1247 : decode cL_law 1247 = .ok (.iconst 0, 1) := dk_3 (dk_at dksL_law_47 23 rfl rfl)
theorem dL_law_1248 : decode cL_law 1248 = .ok (.ireturn, 1) := dk_172 (dk_at dksL_law_48 0 rfl rfl)
theorem dL_law_1249 : decode cL_law 1249 = .ok (.iload 6, 2) := dk_21 6 (dk_at dksL_law_48 1 rfl rfl)
theorem dL_law_1251 : decode cL_law 1251 = .ok (.ifCond .ne 15, 3) := dk_154 0 15 (dk_at dksL_law_48 3 rfl rfl)
theorem dL_law_1254 : decode cL_law 1254 = .ok (.aload_n 3, 1) := dk_45 (dk_at dksL_law_48 6 rfl rfl)
theorem dL_law_1255 : decode cL_law 1255 = .ok (.iconst 0, 1) := dk_3 (dk_at dksL_law_48 7 rfl rfl)
theorem dL_law_1256 : decode cL_law 1256 = .ok (.laload, 1) := dk_47 (dk_at dksL_law_48 8 rfl rfl)
theorem dL_law_1257 : decode cL_law 1257 = .ok (.iload 7, 2) := dk_21 7 (dk_at dksL_law_48 9 rfl rfl)
theorem dL_law_1259 : decode cL_law 1259 = .ok (.i2l, 1) := dk_133 (dk_at dksL_law_48 11 rfl rfl)
theorem dL_law_1260 : decode cL_law 1260 = .ok (.lcmp, 1) := dk_148 (dk_at dksL_law_48 12 rfl rfl)
theorem dL_law_1261 : decode cL_law 1261 = .ok (.ifCond .eq 5, 3) := dk_153 0 5 (dk_at dksL_law_48 13 rfl rfl)
theorem dL_law_1264 : decode cL_law 1264 = .ok (.iconst 0, 1) := dk_3 (dk_at dksL_law_48 16 rfl rfl)
theorem dL_law_1265 : decode cL_law 1265 = .ok (.ireturn, 1) := dk_172 (dk_at dksL_law_48 17 rfl rfl)
theorem dL_law_1266 : decode cL_law 1266 = .ok (.goto 723, 3) := dk_167 2 211 (dk_at dksL_law_48 18 rfl rfl)
theorem dL_law_1269 : decode cL_law 1269 = .ok (.aload_n 1, 1) := dk_43 (dk_at dksL_law_48 21 rfl rfl)
theorem dL_law_1270 : decode cL_law 1270 = .ok (.aload_n 0, 1) := dk_42 (dk_at dksL_law_48 22 rfl rfl)
theorem dL_law_1271 : decode cL_law 1271 = .ok (.iload 5, 2) := dk_21 5 (dk_at dksL_law_49 0 rfl rfl)
theorem dL_law_1273 : decode cL_law 1273 = .ok (.iconst 1, 1) := dk_4 (dk_at dksL_law_49 2 rfl rfl)
theorem dL_law_1274 : decode cL_law 1274 = .ok (.iadd, 1) := dk_96 (dk_at dksL_law_49 3 rfl rfl)
theorem dL_law_1275 : decode cL_law 1275 = .ok (.iaload, 1) := dk_46 (dk_at dksL_law_49 4 rfl rfl)
theorem dL_law_1276 : decode cL_law 1276 = .ok (.aload_n 0, 1) := dk_42 (dk_at dksL_law_49 5 rfl rfl)
theorem dL_law_1277 : decode cL_law 1277 = .ok (.iload 5, 2) := dk_21 5 (dk_at dksL_law_49 6 rfl rfl)
theorem dL_law_1279 : decode cL_law 1279 = .ok (.iconst 2, 1) := dk_5 (dk_at dksL_law_49 8 rfl rfl)
theorem dL_law_1280 : decode cL_law 1280 = .ok (.iadd, 1) := dk_96 (dk_at dksL_law_49 9 rfl rfl)
theorem dL_law_1281 : decode cL_law 1281 = .ok (.iaload, 1) := dk_46 (dk_at dksL_law_49 10 rfl rfl)
theorem dL_law_1282 : decode cL_law 1282 = .ok (.aload_n 3, 1) := dk_45 (dk_at dksL_law_49 11 rfl rfl)
theorem dL_law_1283 : decode cL_law 1283 = .ok (.invokestatic 189, 3) := dk_184 0 189 (dk_at dksL_law_49 12 rfl rfl)
theorem dL_law_1286 : decode cL_law 1286 = .ok (.istore 6, 2) := dk_54 6 (dk_at dksL_law_49 15 rfl rfl)
theorem dL_law_1288 : decode cL_law 1288 = .ok (.aload_n 2, 1) := dk_44 (dk_at dksL_law_49 17 rfl rfl)
theorem dL_law_1289 : decode cL_law 1289 = .ok (.aload_n 0, 1) := dk_42 (dk_at dksL_law_49 18 rfl rfl)
theorem dL_law_1290 : decode cL_law 1290 = .ok (.iload 5, 2) := dk_21 5 (dk_at dksL_law_49 19 rfl rfl)
theorem dL_law_1292 : decode cL_law 1292 = .ok (.iconst 1, 1) := dk_4 (dk_at dksL_law_49 21 rfl rfl)
theorem dL_law_1293 : decode cL_law 1293 = .ok (.iadd, 1) := dk_96 (dk_at dksL_law_49 22 rfl rfl)
theorem dL_law_1294 : decode cL_law 1294 = .ok (.iaload, 1) := dk_46 (dk_at dksL_law_49 23 rfl rfl)
theorem dL_law_1295 : decode cL_law 1295 = .ok (.aload_n 0, 1) := dk_42 (dk_at dksL_law_50 0 rfl rfl)
theorem dL_law_1296 : decode cL_law 1296 = .ok (.iload 5, 2) := dk_21 5 (dk_at dksL_law_50 1 rfl rfl)
theorem dL_law_1298 : decode cL_law 1298 = .ok (.iconst 2, 1) := dk_5 (dk_at dksL_law_50 3 rfl rfl)
theorem dL_law_1299 : decode cL_law 1299 = .ok (.iadd, 1) := dk_96 (dk_at dksL_law_50 4 rfl rfl)
theorem dL_law_1300 : decode cL_law 1300 = .ok (.iaload, 1) := dk_46 (dk_at dksL_law_50 5 rfl rfl)
theorem dL_law_1301 : decode cL_law 1301 = .ok (.invokevirtual 191, 3) := dk_182 0 191 (dk_at dksL_law_50 6 rfl rfl)
theorem dL_law_1304 : decode cL_law 1304 = .ok (.istore 7, 2) := dk_54 7 (dk_at dksL_law_50 9 rfl rfl)
theorem dL_law_1306 : decode cL_law 1306 = .ok (.aload_n 2, 1) := dk_44 (dk_at dksL_law_50 11 rfl rfl)
theorem dL_law_1307 : decode cL_law 1307 = .ok (.invokevirtual 130, 3) := dk_182 0 130 (dk_at dksL_law_50 12 rfl rfl)
theorem dL_law_1310 : decode cL_law 1310 = .ok (.iload 6, 2) := dk_21 6 (dk_at dksL_law_50 15 rfl rfl)
theorem dL_law_1312 : decode cL_law 1312 = .ok (.if_icmp .eq 5, 3) := dk_159 0 5 (dk_at dksL_law_50 17 rfl rfl)
theorem dL_law_1315 : decode cL_law 1315 = .ok (.iconst 0, 1) := dk_3 (dk_at dksL_law_50 20 rfl rfl)
theorem dL_law_1316 : decode cL_law 1316 = .ok (.ireturn, 1) := dk_172 (dk_at dksL_law_50 21 rfl rfl)
theorem dL_law_1317 : decode cL_law 1317 = .ok (.iload 6, 2) := dk_21 6 (dk_at dksL_law_50 22 rfl rfl)
theorem dL_law_1319 : decode cL_law 1319 = .ok (.ifCond .ne 15, 3) := dk_154 0 15 (dk_at dksL_law_51 0 rfl rfl)
theorem dL_law_1322 : decode cL_law 1322 = .ok (.aload_n 3, 1) := dk_45 (dk_at dksL_law_51 3 rfl rfl)
theorem dL_law_1323 : decode cL_law 1323 = .ok (.iconst 0, 1) := dk_3 (dk_at dksL_law_51 4 rfl rfl)
theorem dL_law_1324 : decode cL_law 1324 = .ok (.laload, 1) := dk_47 (dk_at dksL_law_51 5 rfl rfl)
theorem dL_law_1325 : decode cL_law 1325 = .ok (.iload 7, 2) := dk_21 7 (dk_at dksL_law_51 6 rfl rfl)
theorem dL_law_1327 : decode cL_law 1327 = .ok (.i2l, 1) := dk_133 (dk_at dksL_law_51 8 rfl rfl)
theorem dL_law_1328 : decode cL_law 1328 = .ok (.lcmp, 1) := dk_148 (dk_at dksL_law_51 9 rfl rfl)
theorem dL_law_1329 : decode cL_law 1329 = .ok (.ifCond .eq 5, 3) := dk_153 0 5 (dk_at dksL_law_51 10 rfl rfl)
theorem dL_law_1332 : decode cL_law 1332 = .ok (.iconst 0, 1) := dk_3 (dk_at dksL_law_51 13 rfl rfl)
theorem dL_law_1333 : decode cL_law 1333 = .ok (.ireturn, 1) := dk_172 (dk_at dksL_law_51 14 rfl rfl)
theorem dL_law_1334 : decode cL_law 1334 = .ok (.goto 655, 3) := dk_167 2 143 (dk_at dksL_law_51 15 rfl rfl)
theorem dL_law_1337 : decode cL_law 1337 = .ok (.aload_n 1, 1) := dk_43 (dk_at dksL_law_51 18 rfl rfl)
theorem dL_law_1338 : decode cL_law 1338 = .ok (.aload_n 0, 1) := dk_42 (dk_at dksL_law_51 19 rfl rfl)
theorem dL_law_1339 : decode cL_law 1339 = .ok (.iload 5, 2) := dk_21 5 (dk_at dksL_law_51 20 rfl rfl)
theorem dL_law_1341 : decode cL_law 1341 = .ok (.iconst 1, 1) := dk_4 (dk_at dksL_law_51 22 rfl rfl)
theorem dL_law_1342 : decode cL_law 1342 = .ok (.iadd, 1) := dk_96 (dk_at dksL_law_51 23 rfl rfl)
theorem dL_law_1343 : decode cL_law 1343 = .ok (.iaload, 1) := dk_46 (dk_at dksL_law_52 0 rfl rfl)
theorem dL_law_1344 : decode cL_law 1344 = .ok (.aload_n 0, 1) := dk_42 (dk_at dksL_law_52 1 rfl rfl)
theorem dL_law_1345 : decode cL_law 1345 = .ok (.iload 5, 2) := dk_21 5 (dk_at dksL_law_52 2 rfl rfl)
theorem dL_law_1347 : decode cL_law 1347 = .ok (.iconst 2, 1) := dk_5 (dk_at dksL_law_52 4 rfl rfl)
theorem dL_law_1348 : decode cL_law 1348 = .ok (.iadd, 1) := dk_96 (dk_at dksL_law_52 5 rfl rfl)
theorem dL_law_1349 : decode cL_law 1349 = .ok (.iaload, 1) := dk_46 (dk_at dksL_law_52 6 rfl rfl)
theorem dL_law_1350 : decode cL_law 1350 = .ok (.aload 4, 2) := dk_25 4 (dk_at dksL_law_52 7 rfl rfl)
theorem dL_law_1352 : decode cL_law 1352 = .ok (.invokestatic 192, 3) := dk_184 0 192 (dk_at dksL_law_52 9 rfl rfl)
theorem dL_law_1355 : decode cL_law 1355 = .ok (.istore 6, 2) := dk_54 6 (dk_at dksL_law_52 12 rfl rfl)
theorem dL_law_1357 : decode cL_law 1357 = .ok (.aload_n 2, 1) := dk_44 (dk_at dksL_law_52 14 rfl rfl)
theorem dL_law_1358 : decode cL_law 1358 = .ok (.aload_n 0, 1) := dk_42 (dk_at dksL_law_52 15 rfl rfl)
theorem dL_law_1359 : decode cL_law 1359 = .ok (.iload 5, 2) := dk_21 5 (dk_at dksL_law_52 16 rfl rfl)
theorem dL_law_1361 : decode cL_law 1361 = .ok (.iconst 1, 1) := dk_4 (dk_at dksL_law_52 18 rfl rfl)
theorem dL_law_1362 : decode cL_law 1362 = .ok (.iadd, 1) := dk_96 (dk_at dksL_law_52 19 rfl rfl)
theorem dL_law_1363 : decode cL_law 1363 = .ok (.iaload, 1) := dk_46 (dk_at dksL_law_52 20 rfl rfl)
theorem dL_law_1364 : decode cL_law 1364 = .ok (.aload_n 0, 1) := dk_42 (dk_at dksL_law_52 21 rfl rfl)
theorem dL_law_1365 : decode cL_law 1365 = .ok (.iload 5, 2) := dk_21 5 (dk_at dksL_law_52 22 rfl rfl)
theorem dL_law_1367 : decode cL_law 1367 = .ok (.iconst 2, 1) := dk_5 (dk_at dksL_law_53 0 rfl rfl)
theorem dL_law_1368 : decode cL_law 1368 = .ok (.iadd, 1) := dk_96 (dk_at dksL_law_53 1 rfl rfl)
theorem dL_law_1369 : decode cL_law 1369 = .ok (.iaload, 1) := dk_46 (dk_at dksL_law_53 2 rfl rfl)
theorem dL_law_1370 : decode cL_law 1370 = .ok (.invokevirtual 195, 3) := dk_182 0 195 (dk_at dksL_law_53 3 rfl rfl)
theorem dL_law_1373 : decode cL_law 1373 = .ok (.dstore 7, 2) := dk_57 7 (dk_at dksL_law_53 6 rfl rfl)
theorem dL_law_1375 : decode cL_law 1375 = .ok (.aload_n 2, 1) := dk_44 (dk_at dksL_law_53 8 rfl rfl)
theorem dL_law_1376 : decode cL_law 1376 = .ok (.invokevirtual 130, 3) := dk_182 0 130 (dk_at dksL_law_53 9 rfl rfl)
theorem dL_law_1379 : decode cL_law 1379 = .ok (.iload 6, 2) := dk_21 6 (dk_at dksL_law_53 12 rfl rfl)
theorem dL_law_1381 : decode cL_law 1381 = .ok (.if_icmp .eq 5, 3) := dk_159 0 5 (dk_at dksL_law_53 14 rfl rfl)
theorem dL_law_1384 : decode cL_law 1384 = .ok (.iconst 0, 1) := dk_3 (dk_at dksL_law_53 17 rfl rfl)
theorem dL_law_1385 : decode cL_law 1385 = .ok (.ireturn, 1) := dk_172 (dk_at dksL_law_53 18 rfl rfl)
theorem dL_law_1386 : decode cL_law 1386 = .ok (.iload 6, 2) := dk_21 6 (dk_at dksL_law_53 19 rfl rfl)
theorem dL_law_1388 : decode cL_law 1388 = .ok (.ifCond .ne 35, 3) := dk_154 0 35 (dk_at dksL_law_53 21 rfl rfl)
theorem dL_law_1391 : decode cL_law 1391 = .ok (.aload 4, 2) := dk_25 4 (dk_at dksL_law_54 0 rfl rfl)
theorem dL_law_1393 : decode cL_law 1393 = .ok (.iconst 0, 1) := dk_3 (dk_at dksL_law_54 2 rfl rfl)
theorem dL_law_1394 : decode cL_law 1394 = .ok (.daload, 1) := dk_49 (dk_at dksL_law_54 3 rfl rfl)
theorem dL_law_1395 : decode cL_law 1395 = .ok (.dload 7, 2) := dk_24 7 (dk_at dksL_law_54 4 rfl rfl)
theorem dL_law_1397 : decode cL_law 1397 = .ok (.dcmp .l, 1) := dk_151 (dk_at dksL_law_54 6 rfl rfl)
theorem dL_law_1398 : decode cL_law 1398 = .ok (.ifCond .eq 25, 3) := dk_153 0 25 (dk_at dksL_law_54 7 rfl rfl)
theorem dL_law_1401 : decode cL_law 1401 = .ok (.aload 4, 2) := dk_25 4 (dk_at dksL_law_54 10 rfl rfl)
theorem dL_law_1403 : decode cL_law 1403 = .ok (.iconst 0, 1) := dk_3 (dk_at dksL_law_54 12 rfl rfl)
theorem dL_law_1404 : decode cL_law 1404 = .ok (.daload, 1) := dk_49 (dk_at dksL_law_54 13 rfl rfl)
theorem dL_law_1405 : decode cL_law 1405 = .ok (.aload 4, 2) := dk_25 4 (dk_at dksL_law_54 14 rfl rfl)
theorem dL_law_1407 : decode cL_law 1407 = .ok (.iconst 0, 1) := dk_3 (dk_at dksL_law_54 16 rfl rfl)
theorem dL_law_1408 : decode cL_law 1408 = .ok (.daload, 1) := dk_49 (dk_at dksL_law_54 17 rfl rfl)
theorem dL_law_1409 : decode cL_law 1409 = .ok (.dcmp .l, 1) := dk_151 (dk_at dksL_law_54 18 rfl rfl)
theorem dL_law_1410 : decode cL_law 1410 = .ok (.ifCond .eq 11, 3) := dk_153 0 11 (dk_at dksL_law_54 19 rfl rfl)
theorem dL_law_1413 : decode cL_law 1413 = .ok (.dload 7, 2) := dk_24 7 (dk_at dksL_law_54 22 rfl rfl)
theorem dL_law_1415 : decode cL_law 1415 = .ok (.dload 7, 2) := dk_24 7 (dk_at dksL_law_55 0 rfl rfl)
theorem dL_law_1417 : decode cL_law 1417 = .ok (.dcmp .l, 1) := dk_151 (dk_at dksL_law_55 2 rfl rfl)
theorem dL_law_1418 : decode cL_law 1418 = .ok (.ifCond .ne 5, 3) := dk_154 0 5 (dk_at dksL_law_55 3 rfl rfl)
theorem dL_law_1421 : decode cL_law 1421 = .ok (.iconst 0, 1) := dk_3 (dk_at dksL_law_55 6 rfl rfl)
theorem dL_law_1422 : decode cL_law 1422 = .ok (.ireturn, 1) := dk_172 (dk_at dksL_law_55 7 rfl rfl)
theorem dL_law_1423 : decode cL_law 1423 = .ok (.goto 566, 3) := dk_167 2 54 (dk_at dksL_law_55 8 rfl rfl)
theorem dL_law_1426 : decode cL_law 1426 = .ok (.aload_n 1, 1) := dk_43 (dk_at dksL_law_55 11 rfl rfl)
theorem dL_law_1427 : decode cL_law 1427 = .ok (.aload_n 0, 1) := dk_42 (dk_at dksL_law_55 12 rfl rfl)
theorem dL_law_1428 : decode cL_law 1428 = .ok (.iload 5, 2) := dk_21 5 (dk_at dksL_law_55 13 rfl rfl)
theorem dL_law_1430 : decode cL_law 1430 = .ok (.iconst 1, 1) := dk_4 (dk_at dksL_law_55 15 rfl rfl)
theorem dL_law_1431 : decode cL_law 1431 = .ok (.iadd, 1) := dk_96 (dk_at dksL_law_55 16 rfl rfl)
theorem dL_law_1432 : decode cL_law 1432 = .ok (.iaload, 1) := dk_46 (dk_at dksL_law_55 17 rfl rfl)
theorem dL_law_1433 : decode cL_law 1433 = .ok (.aload_n 3, 1) := dk_45 (dk_at dksL_law_55 18 rfl rfl)
theorem dL_law_1434 : decode cL_law 1434 = .ok (.invokestatic 196, 3) := dk_184 0 196 (dk_at dksL_law_55 19 rfl rfl)
theorem dL_law_1437 : decode cL_law 1437 = .ok (.istore 6, 2) := dk_54 6 (dk_at dksL_law_55 22 rfl rfl)
theorem dL_law_1439 : decode cL_law 1439 = .ok (.aload_n 2, 1) := dk_44 (dk_at dksL_law_56 0 rfl rfl)
theorem dL_law_1440 : decode cL_law 1440 = .ok (.aload_n 0, 1) := dk_42 (dk_at dksL_law_56 1 rfl rfl)
theorem dL_law_1441 : decode cL_law 1441 = .ok (.iload 5, 2) := dk_21 5 (dk_at dksL_law_56 2 rfl rfl)
theorem dL_law_1443 : decode cL_law 1443 = .ok (.iconst 1, 1) := dk_4 (dk_at dksL_law_56 4 rfl rfl)
theorem dL_law_1444 : decode cL_law 1444 = .ok (.iadd, 1) := dk_96 (dk_at dksL_law_56 5 rfl rfl)
theorem dL_law_1445 : decode cL_law 1445 = .ok (.iaload, 1) := dk_46 (dk_at dksL_law_56 6 rfl rfl)
theorem dL_law_1446 : decode cL_law 1446 = .ok (.invokevirtual 198, 3) := dk_182 0 198 (dk_at dksL_law_56 7 rfl rfl)
theorem dL_law_1449 : decode cL_law 1449 = .ok (.istore 7, 2) := dk_54 7 (dk_at dksL_law_56 10 rfl rfl)
theorem dL_law_1451 : decode cL_law 1451 = .ok (.aload_n 2, 1) := dk_44 (dk_at dksL_law_56 12 rfl rfl)
theorem dL_law_1452 : decode cL_law 1452 = .ok (.invokevirtual 130, 3) := dk_182 0 130 (dk_at dksL_law_56 13 rfl rfl)
theorem dL_law_1455 : decode cL_law 1455 = .ok (.iload 6, 2) := dk_21 6 (dk_at dksL_law_56 16 rfl rfl)
theorem dL_law_1457 : decode cL_law 1457 = .ok (.if_icmp .eq 5, 3) := dk_159 0 5 (dk_at dksL_law_56 18 rfl rfl)
theorem dL_law_1460 : decode cL_law 1460 = .ok (.iconst 0, 1) := dk_3 (dk_at dksL_law_56 21 rfl rfl)
theorem dL_law_1461 : decode cL_law 1461 = .ok (.ireturn, 1) := dk_172 (dk_at dksL_law_56 22 rfl rfl)
theorem dL_law_1462 : decode cL_law 1462 = .ok (.iload 6, 2) := dk_21 6 (dk_at dksL_law_57 0 rfl rfl)
theorem dL_law_1464 : decode cL_law 1464 = .ok (.ifCond .ne 15, 3) := dk_154 0 15 (dk_at dksL_law_57 2 rfl rfl)
theorem dL_law_1467 : decode cL_law 1467 = .ok (.aload_n 3, 1) := dk_45 (dk_at dksL_law_57 5 rfl rfl)
theorem dL_law_1468 : decode cL_law 1468 = .ok (.iconst 0, 1) := dk_3 (dk_at dksL_law_57 6 rfl rfl)
theorem dL_law_1469 : decode cL_law 1469 = .ok (.laload, 1) := dk_47 (dk_at dksL_law_57 7 rfl rfl)
theorem dL_law_1470 : decode cL_law 1470 = .ok (.iload 7, 2) := dk_21 7 (dk_at dksL_law_57 8 rfl rfl)
theorem dL_law_1472 : decode cL_law 1472 = .ok (.i2l, 1) := dk_133 (dk_at dksL_law_57 10 rfl rfl)
theorem dL_law_1473 : decode cL_law 1473 = .ok (.lcmp, 1) := dk_148 (dk_at dksL_law_57 11 rfl rfl)
theorem dL_law_1474 : decode cL_law 1474 = .ok (.ifCond .eq 5, 3) := dk_153 0 5 (dk_at dksL_law_57 12 rfl rfl)
theorem dL_law_1477 : decode cL_law 1477 = .ok (.iconst 0, 1) := dk_3 (dk_at dksL_law_57 15 rfl rfl)
theorem dL_law_1478 : decode cL_law 1478 = .ok (.ireturn, 1) := dk_172 (dk_at dksL_law_57 16 rfl rfl)
theorem dL_law_1479 : decode cL_law 1479 = .ok (.goto 510, 3) := dk_167 1 254 (dk_at dksL_law_57 17 rfl rfl)
theorem dL_law_1482 : decode cL_law 1482 = .ok (.aload_n 1, 1) := dk_43 (dk_at dksL_law_57 20 rfl rfl)
theorem dL_law_1483 : decode cL_law 1483 = .ok (.aload_n 0, 1) := dk_42 (dk_at dksL_law_57 21 rfl rfl)
theorem dL_law_1484 : decode cL_law 1484 = .ok (.iload 5, 2) := dk_21 5 (dk_at dksL_law_57 22 rfl rfl)
theorem dL_law_1486 : decode cL_law 1486 = .ok (.iconst 1, 1) := dk_4 (dk_at dksL_law_58 0 rfl rfl)
theorem dL_law_1487 : decode cL_law 1487 = .ok (.iadd, 1) := dk_96 (dk_at dksL_law_58 1 rfl rfl)
theorem dL_law_1488 : decode cL_law 1488 = .ok (.iaload, 1) := dk_46 (dk_at dksL_law_58 2 rfl rfl)
theorem dL_law_1489 : decode cL_law 1489 = .ok (.aload_n 3, 1) := dk_45 (dk_at dksL_law_58 3 rfl rfl)
theorem dL_law_1490 : decode cL_law 1490 = .ok (.invokestatic 199, 3) := dk_184 0 199 (dk_at dksL_law_58 4 rfl rfl)
theorem dL_law_1493 : decode cL_law 1493 = .ok (.istore 6, 2) := dk_54 6 (dk_at dksL_law_58 7 rfl rfl)
theorem dL_law_1495 : decode cL_law 1495 = .ok (.aload_n 2, 1) := dk_44 (dk_at dksL_law_58 9 rfl rfl)
theorem dL_law_1496 : decode cL_law 1496 = .ok (.aload_n 0, 1) := dk_42 (dk_at dksL_law_58 10 rfl rfl)
theorem dL_law_1497 : decode cL_law 1497 = .ok (.iload 5, 2) := dk_21 5 (dk_at dksL_law_58 11 rfl rfl)
theorem dL_law_1499 : decode cL_law 1499 = .ok (.iconst 1, 1) := dk_4 (dk_at dksL_law_58 13 rfl rfl)
theorem dL_law_1500 : decode cL_law 1500 = .ok (.iadd, 1) := dk_96 (dk_at dksL_law_58 14 rfl rfl)
theorem dL_law_1501 : decode cL_law 1501 = .ok (.iaload, 1) := dk_46 (dk_at dksL_law_58 15 rfl rfl)
theorem dL_law_1502 : decode cL_law 1502 = .ok (.invokevirtual 201, 3) := dk_182 0 201 (dk_at dksL_law_58 16 rfl rfl)
theorem dL_law_1505 : decode cL_law 1505 = .ok (.istore 7, 2) := dk_54 7 (dk_at dksL_law_58 19 rfl rfl)
theorem dL_law_1507 : decode cL_law 1507 = .ok (.aload_n 2, 1) := dk_44 (dk_at dksL_law_58 21 rfl rfl)
theorem dL_law_1508 : decode cL_law 1508 = .ok (.invokevirtual 130, 3) := dk_182 0 130 (dk_at dksL_law_59 0 rfl rfl)
theorem dL_law_1511 : decode cL_law 1511 = .ok (.iload 6, 2) := dk_21 6 (dk_at dksL_law_59 3 rfl rfl)
theorem dL_law_1513 : decode cL_law 1513 = .ok (.if_icmp .eq 5, 3) := dk_159 0 5 (dk_at dksL_law_59 5 rfl rfl)
theorem dL_law_1516 : decode cL_law 1516 = .ok (.iconst 0, 1) := dk_3 (dk_at dksL_law_59 8 rfl rfl)
theorem dL_law_1517 : decode cL_law 1517 = .ok (.ireturn, 1) := dk_172 (dk_at dksL_law_59 9 rfl rfl)
theorem dL_law_1518 : decode cL_law 1518 = .ok (.iload 6, 2) := dk_21 6 (dk_at dksL_law_59 10 rfl rfl)
theorem dL_law_1520 : decode cL_law 1520 = .ok (.ifCond .ne 15, 3) := dk_154 0 15 (dk_at dksL_law_59 12 rfl rfl)
theorem dL_law_1523 : decode cL_law 1523 = .ok (.aload_n 3, 1) := dk_45 (dk_at dksL_law_59 15 rfl rfl)
theorem dL_law_1524 : decode cL_law 1524 = .ok (.iconst 0, 1) := dk_3 (dk_at dksL_law_59 16 rfl rfl)
theorem dL_law_1525 : decode cL_law 1525 = .ok (.laload, 1) := dk_47 (dk_at dksL_law_59 17 rfl rfl)
theorem dL_law_1526 : decode cL_law 1526 = .ok (.iload 7, 2) := dk_21 7 (dk_at dksL_law_59 18 rfl rfl)
theorem dL_law_1528 : decode cL_law 1528 = .ok (.i2l, 1) := dk_133 (dk_at dksL_law_59 20 rfl rfl)
theorem dL_law_1529 : decode cL_law 1529 = .ok (.lcmp, 1) := dk_148 (dk_at dksL_law_59 21 rfl rfl)
theorem dL_law_1530 : decode cL_law 1530 = .ok (.ifCond .eq 5, 3) := dk_153 0 5 (dk_at dksL_law_60 0 rfl rfl)
theorem dL_law_1533 : decode cL_law 1533 = .ok (.iconst 0, 1) := dk_3 (dk_at dksL_law_60 3 rfl rfl)
theorem dL_law_1534 : decode cL_law 1534 = .ok (.ireturn, 1) := dk_172 (dk_at dksL_law_60 4 rfl rfl)
theorem dL_law_1535 : decode cL_law 1535 = .ok (.goto 454, 3) := dk_167 1 198 (dk_at dksL_law_60 5 rfl rfl)
theorem dL_law_1538 : decode cL_law 1538 = .ok (.aload_n 1, 1) := dk_43 (dk_at dksL_law_60 8 rfl rfl)
theorem dL_law_1539 : decode cL_law 1539 = .ok (.aload_n 0, 1) := dk_42 (dk_at dksL_law_60 9 rfl rfl)
theorem dL_law_1540 : decode cL_law 1540 = .ok (.iload 5, 2) := dk_21 5 (dk_at dksL_law_60 10 rfl rfl)
theorem dL_law_1542 : decode cL_law 1542 = .ok (.iconst 1, 1) := dk_4 (dk_at dksL_law_60 12 rfl rfl)
theorem dL_law_1543 : decode cL_law 1543 = .ok (.iadd, 1) := dk_96 (dk_at dksL_law_60 13 rfl rfl)
theorem dL_law_1544 : decode cL_law 1544 = .ok (.iaload, 1) := dk_46 (dk_at dksL_law_60 14 rfl rfl)
theorem dL_law_1545 : decode cL_law 1545 = .ok (.aload_n 3, 1) := dk_45 (dk_at dksL_law_60 15 rfl rfl)
theorem dL_law_1546 : decode cL_law 1546 = .ok (.invokestatic 202, 3) := dk_184 0 202 (dk_at dksL_law_60 16 rfl rfl)
theorem dL_law_1549 : decode cL_law 1549 = .ok (.istore 6, 2) := dk_54 6 (dk_at dksL_law_60 19 rfl rfl)
theorem dL_law_1551 : decode cL_law 1551 = .ok (.aload_n 2, 1) := dk_44 (dk_at dksL_law_60 21 rfl rfl)
theorem dL_law_1552 : decode cL_law 1552 = .ok (.aload_n 0, 1) := dk_42 (dk_at dksL_law_60 22 rfl rfl)
theorem dL_law_1553 : decode cL_law 1553 = .ok (.iload 5, 2) := dk_21 5 (dk_at dksL_law_61 0 rfl rfl)
theorem dL_law_1555 : decode cL_law 1555 = .ok (.iconst 1, 1) := dk_4 (dk_at dksL_law_61 2 rfl rfl)
theorem dL_law_1556 : decode cL_law 1556 = .ok (.iadd, 1) := dk_96 (dk_at dksL_law_61 3 rfl rfl)
theorem dL_law_1557 : decode cL_law 1557 = .ok (.iaload, 1) := dk_46 (dk_at dksL_law_61 4 rfl rfl)
theorem dL_law_1558 : decode cL_law 1558 = .ok (.invokevirtual 204, 3) := dk_182 0 204 (dk_at dksL_law_61 5 rfl rfl)
theorem dL_law_1561 : decode cL_law 1561 = .ok (.istore 7, 2) := dk_54 7 (dk_at dksL_law_61 8 rfl rfl)
theorem dL_law_1563 : decode cL_law 1563 = .ok (.aload_n 2, 1) := dk_44 (dk_at dksL_law_61 10 rfl rfl)
theorem dL_law_1564 : decode cL_law 1564 = .ok (.invokevirtual 130, 3) := dk_182 0 130 (dk_at dksL_law_61 11 rfl rfl)
theorem dL_law_1567 : decode cL_law 1567 = .ok (.iload 6, 2) := dk_21 6 (dk_at dksL_law_61 14 rfl rfl)
theorem dL_law_1569 : decode cL_law 1569 = .ok (.if_icmp .eq 5, 3) := dk_159 0 5 (dk_at dksL_law_61 16 rfl rfl)
theorem dL_law_1572 : decode cL_law 1572 = .ok (.iconst 0, 1) := dk_3 (dk_at dksL_law_61 19 rfl rfl)
theorem dL_law_1573 : decode cL_law 1573 = .ok (.ireturn, 1) := dk_172 (dk_at dksL_law_61 20 rfl rfl)
theorem dL_law_1574 : decode cL_law 1574 = .ok (.iload 6, 2) := dk_21 6 (dk_at dksL_law_61 21 rfl rfl)
theorem dL_law_1576 : decode cL_law 1576 = .ok (.ifCond .ne 15, 3) := dk_154 0 15 (dk_at dksL_law_62 0 rfl rfl)
theorem dL_law_1579 : decode cL_law 1579 = .ok (.aload_n 3, 1) := dk_45 (dk_at dksL_law_62 3 rfl rfl)
theorem dL_law_1580 : decode cL_law 1580 = .ok (.iconst 0, 1) := dk_3 (dk_at dksL_law_62 4 rfl rfl)
theorem dL_law_1581 : decode cL_law 1581 = .ok (.laload, 1) := dk_47 (dk_at dksL_law_62 5 rfl rfl)
theorem dL_law_1582 : decode cL_law 1582 = .ok (.iload 7, 2) := dk_21 7 (dk_at dksL_law_62 6 rfl rfl)
theorem dL_law_1584 : decode cL_law 1584 = .ok (.i2l, 1) := dk_133 (dk_at dksL_law_62 8 rfl rfl)
theorem dL_law_1585 : decode cL_law 1585 = .ok (.lcmp, 1) := dk_148 (dk_at dksL_law_62 9 rfl rfl)
theorem dL_law_1586 : decode cL_law 1586 = .ok (.ifCond .eq 5, 3) := dk_153 0 5 (dk_at dksL_law_62 10 rfl rfl)
theorem dL_law_1589 : decode cL_law 1589 = .ok (.iconst 0, 1) := dk_3 (dk_at dksL_law_62 13 rfl rfl)
theorem dL_law_1590 : decode cL_law 1590 = .ok (.ireturn, 1) := dk_172 (dk_at dksL_law_62 14 rfl rfl)
theorem dL_law_1591 : decode cL_law 1591 = .ok (.goto 398, 3) := dk_167 1 142 (dk_at dksL_law_62 15 rfl rfl)
theorem dL_law_1594 : decode cL_law 1594 = .ok (.aload_n 1, 1) := dk_43 (dk_at dksL_law_62 18 rfl rfl)
theorem dL_law_1595 : decode cL_law 1595 = .ok (.aload_n 0, 1) := dk_42 (dk_at dksL_law_62 19 rfl rfl)
theorem dL_law_1596 : decode cL_law 1596 = .ok (.iload 5, 2) := dk_21 5 (dk_at dksL_law_62 20 rfl rfl)
theorem dL_law_1598 : decode cL_law 1598 = .ok (.iconst 1, 1) := dk_4 (dk_at dksL_law_62 22 rfl rfl)
theorem dL_law_1599 : decode cL_law 1599 = .ok (.iadd, 1) := dk_96 (dk_at dksL_law_62 23 rfl rfl)
theorem dL_law_1600 : decode cL_law 1600 = .ok (.iaload, 1) := dk_46 (dk_at dksL_law_63 0 rfl rfl)
theorem dL_law_1601 : decode cL_law 1601 = .ok (.aload_n 3, 1) := dk_45 (dk_at dksL_law_63 1 rfl rfl)
theorem dL_law_1602 : decode cL_law 1602 = .ok (.invokestatic 205, 3) := dk_184 0 205 (dk_at dksL_law_63 2 rfl rfl)
theorem dL_law_1605 : decode cL_law 1605 = .ok (.istore 6, 2) := dk_54 6 (dk_at dksL_law_63 5 rfl rfl)
theorem dL_law_1607 : decode cL_law 1607 = .ok (.aload_n 2, 1) := dk_44 (dk_at dksL_law_63 7 rfl rfl)
theorem dL_law_1608 : decode cL_law 1608 = .ok (.aload_n 0, 1) := dk_42 (dk_at dksL_law_63 8 rfl rfl)
theorem dL_law_1609 : decode cL_law 1609 = .ok (.iload 5, 2) := dk_21 5 (dk_at dksL_law_63 9 rfl rfl)
theorem dL_law_1611 : decode cL_law 1611 = .ok (.iconst 1, 1) := dk_4 (dk_at dksL_law_63 11 rfl rfl)
theorem dL_law_1612 : decode cL_law 1612 = .ok (.iadd, 1) := dk_96 (dk_at dksL_law_63 12 rfl rfl)
theorem dL_law_1613 : decode cL_law 1613 = .ok (.iaload, 1) := dk_46 (dk_at dksL_law_63 13 rfl rfl)
theorem dL_law_1614 : decode cL_law 1614 = .ok (.invokevirtual 207, 3) := dk_182 0 207 (dk_at dksL_law_63 14 rfl rfl)
theorem dL_law_1617 : decode cL_law 1617 = .ok (.istore 7, 2) := dk_54 7 (dk_at dksL_law_63 17 rfl rfl)
theorem dL_law_1619 : decode cL_law 1619 = .ok (.aload_n 2, 1) := dk_44 (dk_at dksL_law_63 19 rfl rfl)
theorem dL_law_1620 : decode cL_law 1620 = .ok (.invokevirtual 130, 3) := dk_182 0 130 (dk_at dksL_law_63 20 rfl rfl)
theorem dL_law_1623 : decode cL_law 1623 = .ok (.iload 6, 2) := dk_21 6 (dk_at dksL_law_64 0 rfl rfl)
theorem dL_law_1625 : decode cL_law 1625 = .ok (.if_icmp .eq 5, 3) := dk_159 0 5 (dk_at dksL_law_64 2 rfl rfl)
theorem dL_law_1628 : decode cL_law 1628 = .ok (.iconst 0, 1) := dk_3 (dk_at dksL_law_64 5 rfl rfl)
theorem dL_law_1629 : decode cL_law 1629 = .ok (.ireturn, 1) := dk_172 (dk_at dksL_law_64 6 rfl rfl)
theorem dL_law_1630 : decode cL_law 1630 = .ok (.iload 6, 2) := dk_21 6 (dk_at dksL_law_64 7 rfl rfl)
theorem dL_law_1632 : decode cL_law 1632 = .ok (.ifCond .ne 15, 3) := dk_154 0 15 (dk_at dksL_law_64 9 rfl rfl)
theorem dL_law_1635 : decode cL_law 1635 = .ok (.aload_n 3, 1) := dk_45 (dk_at dksL_law_64 12 rfl rfl)
theorem dL_law_1636 : decode cL_law 1636 = .ok (.iconst 0, 1) := dk_3 (dk_at dksL_law_64 13 rfl rfl)
theorem dL_law_1637 : decode cL_law 1637 = .ok (.laload, 1) := dk_47 (dk_at dksL_law_64 14 rfl rfl)
theorem dL_law_1638 : decode cL_law 1638 = .ok (.iload 7, 2) := dk_21 7 (dk_at dksL_law_64 15 rfl rfl)
theorem dL_law_1640 : decode cL_law 1640 = .ok (.i2l, 1) := dk_133 (dk_at dksL_law_64 17 rfl rfl)
theorem dL_law_1641 : decode cL_law 1641 = .ok (.lcmp, 1) := dk_148 (dk_at dksL_law_64 18 rfl rfl)
theorem dL_law_1642 : decode cL_law 1642 = .ok (.ifCond .eq 5, 3) := dk_153 0 5 (dk_at dksL_law_64 19 rfl rfl)
theorem dL_law_1645 : decode cL_law 1645 = .ok (.iconst 0, 1) := dk_3 (dk_at dksL_law_64 22 rfl rfl)
theorem dL_law_1646 : decode cL_law 1646 = .ok (.ireturn, 1) := dk_172 (dk_at dksL_law_64 23 rfl rfl)
theorem dL_law_1647 : decode cL_law 1647 = .ok (.goto 342, 3) := dk_167 1 86 (dk_at dksL_law_65 0 rfl rfl)
theorem dL_law_1650 : decode cL_law 1650 = .ok (.aload_n 1, 1) := dk_43 (dk_at dksL_law_65 3 rfl rfl)
theorem dL_law_1651 : decode cL_law 1651 = .ok (.aload_n 0, 1) := dk_42 (dk_at dksL_law_65 4 rfl rfl)
theorem dL_law_1652 : decode cL_law 1652 = .ok (.iload 5, 2) := dk_21 5 (dk_at dksL_law_65 5 rfl rfl)
theorem dL_law_1654 : decode cL_law 1654 = .ok (.iconst 1, 1) := dk_4 (dk_at dksL_law_65 7 rfl rfl)
theorem dL_law_1655 : decode cL_law 1655 = .ok (.iadd, 1) := dk_96 (dk_at dksL_law_65 8 rfl rfl)
theorem dL_law_1656 : decode cL_law 1656 = .ok (.iaload, 1) := dk_46 (dk_at dksL_law_65 9 rfl rfl)
theorem dL_law_1657 : decode cL_law 1657 = .ok (.i2c, 1) := dk_146 (dk_at dksL_law_65 10 rfl rfl)
theorem dL_law_1658 : decode cL_law 1658 = .ok (.invokestatic 208, 3) := dk_184 0 208 (dk_at dksL_law_65 11 rfl rfl)
theorem dL_law_1661 : decode cL_law 1661 = .ok (.istore 6, 2) := dk_54 6 (dk_at dksL_law_65 14 rfl rfl)
theorem dL_law_1663 : decode cL_law 1663 = .ok (.aload_n 2, 1) := dk_44 (dk_at dksL_law_65 16 rfl rfl)
theorem dL_law_1664 : decode cL_law 1664 = .ok (.aload_n 0, 1) := dk_42 (dk_at dksL_law_65 17 rfl rfl)
theorem dL_law_1665 : decode cL_law 1665 = .ok (.iload 5, 2) := dk_21 5 (dk_at dksL_law_65 18 rfl rfl)
theorem dL_law_1667 : decode cL_law 1667 = .ok (.iconst 1, 1) := dk_4 (dk_at dksL_law_65 20 rfl rfl)
theorem dL_law_1668 : decode cL_law 1668 = .ok (.iadd, 1) := dk_96 (dk_at dksL_law_65 21 rfl rfl)
theorem dL_law_1669 : decode cL_law 1669 = .ok (.iaload, 1) := dk_46 (dk_at dksL_law_65 22 rfl rfl)
theorem dL_law_1670 : decode cL_law 1670 = .ok (.i2c, 1) := dk_146 (dk_at dksL_law_65 23 rfl rfl)
theorem dL_law_1671 : decode cL_law 1671 = .ok (.invokevirtual 211, 3) := dk_182 0 211 (dk_at dksL_law_66 0 rfl rfl)
theorem dL_law_1674 : decode cL_law 1674 = .ok (.aload_n 2, 1) := dk_44 (dk_at dksL_law_66 3 rfl rfl)
theorem dL_law_1675 : decode cL_law 1675 = .ok (.invokevirtual 130, 3) := dk_182 0 130 (dk_at dksL_law_66 4 rfl rfl)
theorem dL_law_1678 : decode cL_law 1678 = .ok (.iload 6, 2) := dk_21 6 (dk_at dksL_law_66 7 rfl rfl)
theorem dL_law_1680 : decode cL_law 1680 = .ok (.if_icmp .eq 5, 3) := dk_159 0 5 (dk_at dksL_law_66 9 rfl rfl)
theorem dL_law_1683 : decode cL_law 1683 = .ok (.iconst 0, 1) := dk_3 (dk_at dksL_law_66 12 rfl rfl)
theorem dL_law_1684 : decode cL_law 1684 = .ok (.ireturn, 1) := dk_172 (dk_at dksL_law_66 13 rfl rfl)
theorem dL_law_1685 : decode cL_law 1685 = .ok (.goto 304, 3) := dk_167 1 48 (dk_at dksL_law_66 14 rfl rfl)
theorem dL_law_1688 : decode cL_law 1688 = .ok (.aload_n 1, 1) := dk_43 (dk_at dksL_law_66 17 rfl rfl)
theorem dL_law_1689 : decode cL_law 1689 = .ok (.aload_n 3, 1) := dk_45 (dk_at dksL_law_66 18 rfl rfl)
theorem dL_law_1690 : decode cL_law 1690 = .ok (.invokestatic 212, 3) := dk_184 0 212 (dk_at dksL_law_66 19 rfl rfl)
theorem dL_law_1693 : decode cL_law 1693 = .ok (.istore 6, 2) := dk_54 6 (dk_at dksL_law_66 22 rfl rfl)
theorem dL_law_1695 : decode cL_law 1695 = .ok (.aload_n 2, 1) := dk_44 (dk_at dksL_law_67 0 rfl rfl)
theorem dL_law_1696 : decode cL_law 1696 = .ok (.invokevirtual 214, 3) := dk_182 0 214 (dk_at dksL_law_67 1 rfl rfl)
theorem dL_law_1699 : decode cL_law 1699 = .ok (.istore 7, 2) := dk_54 7 (dk_at dksL_law_67 4 rfl rfl)
theorem dL_law_1701 : decode cL_law 1701 = .ok (.aload_n 2, 1) := dk_44 (dk_at dksL_law_67 6 rfl rfl)
theorem dL_law_1702 : decode cL_law 1702 = .ok (.invokevirtual 130, 3) := dk_182 0 130 (dk_at dksL_law_67 7 rfl rfl)
theorem dL_law_1705 : decode cL_law 1705 = .ok (.iload 6, 2) := dk_21 6 (dk_at dksL_law_67 10 rfl rfl)
theorem dL_law_1707 : decode cL_law 1707 = .ok (.if_icmp .eq 5, 3) := dk_159 0 5 (dk_at dksL_law_67 12 rfl rfl)
theorem dL_law_1710 : decode cL_law 1710 = .ok (.iconst 0, 1) := dk_3 (dk_at dksL_law_67 15 rfl rfl)
theorem dL_law_1711 : decode cL_law 1711 = .ok (.ireturn, 1) := dk_172 (dk_at dksL_law_67 16 rfl rfl)
theorem dL_law_1712 : decode cL_law 1712 = .ok (.iload 6, 2) := dk_21 6 (dk_at dksL_law_67 17 rfl rfl)
theorem dL_law_1714 : decode cL_law 1714 = .ok (.ifCond .ne 15, 3) := dk_154 0 15 (dk_at dksL_law_67 19 rfl rfl)
theorem dL_law_1717 : decode cL_law 1717 = .ok (.aload_n 3, 1) := dk_45 (dk_at dksL_law_67 22 rfl rfl)
theorem dL_law_1718 : decode cL_law 1718 = .ok (.iconst 0, 1) := dk_3 (dk_at dksL_law_67 23 rfl rfl)
theorem dL_law_1719 : decode cL_law 1719 = .ok (.laload, 1) := dk_47 (dk_at dksL_law_68 0 rfl rfl)
theorem dL_law_1720 : decode cL_law 1720 = .ok (.iload 7, 2) := dk_21 7 (dk_at dksL_law_68 1 rfl rfl)
theorem dL_law_1722 : decode cL_law 1722 = .ok (.i2l, 1) := dk_133 (dk_at dksL_law_68 3 rfl rfl)
theorem dL_law_1723 : decode cL_law 1723 = .ok (.lcmp, 1) := dk_148 (dk_at dksL_law_68 4 rfl rfl)
theorem dL_law_1724 : decode cL_law 1724 = .ok (.ifCond .eq 5, 3) := dk_153 0 5 (dk_at dksL_law_68 5 rfl rfl)
theorem dL_law_1727 : decode cL_law 1727 = .ok (.iconst 0, 1) := dk_3 (dk_at dksL_law_68 8 rfl rfl)
theorem dL_law_1728 : decode cL_law 1728 = .ok (.ireturn, 1) := dk_172 (dk_at dksL_law_68 9 rfl rfl)
theorem dL_law_1729 : decode cL_law 1729 = .ok (.goto 260, 3) := dk_167 1 4 (dk_at dksL_law_68 10 rfl rfl)
theorem dL_law_1732 : decode cL_law 1732 = .ok (.aload_n 1, 1) := dk_43 (dk_at dksL_law_68 13 rfl rfl)
theorem dL_law_1733 : decode cL_law 1733 = .ok (.invokevirtual 215, 3) := dk_182 0 215 (dk_at dksL_law_68 14 rfl rfl)
theorem dL_law_1736 : decode cL_law 1736 = .ok (.aload_n 2, 1) := dk_44 (dk_at dksL_law_68 17 rfl rfl)
theorem dL_law_1737 : decode cL_law 1737 = .ok (.invokevirtual 218, 3) := dk_182 0 218 (dk_at dksL_law_68 18 rfl rfl)
theorem dL_law_1740 : decode cL_law 1740 = .ok (.if_icmp .eq 249, 3) := dk_159 0 249 (dk_at dksL_law_68 21 rfl rfl)
theorem dL_law_1743 : decode cL_law 1743 = .ok (.iconst 0, 1) := dk_3 (dk_at dksL_law_69 0 rfl rfl)
theorem dL_law_1744 : decode cL_law 1744 = .ok (.ireturn, 1) := dk_172 (dk_at dksL_law_69 1 rfl rfl)
theorem dL_law_1745 : decode cL_law 1745 = .ok (.aload_n 1, 1) := dk_43 (dk_at dksL_law_69 2 rfl rfl)
theorem dL_law_1746 : decode cL_law 1746 = .ok (.aload_n 0, 1) := dk_42 (dk_at dksL_law_69 3 rfl rfl)
theorem dL_law_1747 : decode cL_law 1747 = .ok (.iload 5, 2) := dk_21 5 (dk_at dksL_law_69 4 rfl rfl)
theorem dL_law_1749 : decode cL_law 1749 = .ok (.iconst 1, 1) := dk_4 (dk_at dksL_law_69 6 rfl rfl)
theorem dL_law_1750 : decode cL_law 1750 = .ok (.iadd, 1) := dk_96 (dk_at dksL_law_69 7 rfl rfl)
theorem dL_law_1751 : decode cL_law 1751 = .ok (.iaload, 1) := dk_46 (dk_at dksL_law_69 8 rfl rfl)
theorem dL_law_1752 : decode cL_law 1752 = .ok (.aload_n 3, 1) := dk_45 (dk_at dksL_law_69 9 rfl rfl)
theorem dL_law_1753 : decode cL_law 1753 = .ok (.invokestatic 219, 3) := dk_184 0 219 (dk_at dksL_law_69 10 rfl rfl)
theorem dL_law_1756 : decode cL_law 1756 = .ok (.istore 6, 2) := dk_54 6 (dk_at dksL_law_69 13 rfl rfl)
theorem dL_law_1758 : decode cL_law 1758 = .ok (.aload_n 2, 1) := dk_44 (dk_at dksL_law_69 15 rfl rfl)
theorem dL_law_1759 : decode cL_law 1759 = .ok (.aload_n 0, 1) := dk_42 (dk_at dksL_law_69 16 rfl rfl)
theorem dL_law_1760 : decode cL_law 1760 = .ok (.iload 5, 2) := dk_21 5 (dk_at dksL_law_69 17 rfl rfl)
theorem dL_law_1762 : decode cL_law 1762 = .ok (.iconst 1, 1) := dk_4 (dk_at dksL_law_69 19 rfl rfl)
theorem dL_law_1763 : decode cL_law 1763 = .ok (.iadd, 1) := dk_96 (dk_at dksL_law_69 20 rfl rfl)
theorem dL_law_1764 : decode cL_law 1764 = .ok (.iaload, 1) := dk_46 (dk_at dksL_law_69 21 rfl rfl)
theorem dL_law_1765 : decode cL_law 1765 = .ok (.invokevirtual 221, 3) := dk_182 0 221 (dk_at dksL_law_70 0 rfl rfl)
theorem dL_law_1768 : decode cL_law 1768 = .ok (.istore 7, 2) := dk_54 7 (dk_at dksL_law_70 3 rfl rfl)
theorem dL_law_1770 : decode cL_law 1770 = .ok (.aload_n 2, 1) := dk_44 (dk_at dksL_law_70 5 rfl rfl)
theorem dL_law_1771 : decode cL_law 1771 = .ok (.invokevirtual 130, 3) := dk_182 0 130 (dk_at dksL_law_70 6 rfl rfl)
theorem dL_law_1774 : decode cL_law 1774 = .ok (.iload 6, 2) := dk_21 6 (dk_at dksL_law_70 9 rfl rfl)
theorem dL_law_1776 : decode cL_law 1776 = .ok (.if_icmp .eq 5, 3) := dk_159 0 5 (dk_at dksL_law_70 11 rfl rfl)
theorem dL_law_1779 : decode cL_law 1779 = .ok (.iconst 0, 1) := dk_3 (dk_at dksL_law_70 14 rfl rfl)
theorem dL_law_1780 : decode cL_law 1780 = .ok (.ireturn, 1) := dk_172 (dk_at dksL_law_70 15 rfl rfl)
theorem dL_law_1781 : decode cL_law 1781 = .ok (.iload 6, 2) := dk_21 6 (dk_at dksL_law_70 16 rfl rfl)
theorem dL_law_1783 : decode cL_law 1783 = .ok (.ifCond .ne 15, 3) := dk_154 0 15 (dk_at dksL_law_70 18 rfl rfl)
theorem dL_law_1786 : decode cL_law 1786 = .ok (.aload_n 3, 1) := dk_45 (dk_at dksL_law_70 21 rfl rfl)
theorem dL_law_1787 : decode cL_law 1787 = .ok (.iconst 0, 1) := dk_3 (dk_at dksL_law_70 22 rfl rfl)
theorem dL_law_1788 : decode cL_law 1788 = .ok (.laload, 1) := dk_47 (dk_at dksL_law_70 23 rfl rfl)
theorem dL_law_1789 : decode cL_law 1789 = .ok (.iload 7, 2) := dk_21 7 (dk_at dksL_law_71 0 rfl rfl)
theorem dL_law_1791 : decode cL_law 1791 = .ok (.i2l, 1) := dk_133 (dk_at dksL_law_71 2 rfl rfl)
theorem dL_law_1792 : decode cL_law 1792 = .ok (.lcmp, 1) := dk_148 (dk_at dksL_law_71 3 rfl rfl)
theorem dL_law_1793 : decode cL_law 1793 = .ok (.ifCond .eq 5, 3) := dk_153 0 5 (dk_at dksL_law_71 4 rfl rfl)
theorem dL_law_1796 : decode cL_law 1796 = .ok (.iconst 0, 1) := dk_3 (dk_at dksL_law_71 7 rfl rfl)
theorem dL_law_1797 : decode cL_law 1797 = .ok (.ireturn, 1) := dk_172 (dk_at dksL_law_71 8 rfl rfl)
theorem dL_law_1798 : decode cL_law 1798 = .ok (.goto 191, 3) := dk_167 0 191 (dk_at dksL_law_71 9 rfl rfl)
theorem dL_law_1801 : decode cL_law 1801 = .ok (.aload_n 1, 1) := dk_43 (dk_at dksL_law_71 12 rfl rfl)
theorem dL_law_1802 : decode cL_law 1802 = .ok (.aload_n 3, 1) := dk_45 (dk_at dksL_law_71 13 rfl rfl)
theorem dL_law_1803 : decode cL_law 1803 = .ok (.invokestatic 222, 3) := dk_184 0 222 (dk_at dksL_law_71 14 rfl rfl)
theorem dL_law_1806 : decode cL_law 1806 = .ok (.istore 6, 2) := dk_54 6 (dk_at dksL_law_71 17 rfl rfl)
theorem dL_law_1808 : decode cL_law 1808 = .ok (.aload_n 2, 1) := dk_44 (dk_at dksL_law_71 19 rfl rfl)
theorem dL_law_1809 : decode cL_law 1809 = .ok (.invokevirtual 224, 3) := dk_182 0 224 (dk_at dksL_law_71 20 rfl rfl)
theorem dL_law_1812 : decode cL_law 1812 = .ok (.istore 7, 2) := dk_54 7 (dk_at dksL_law_72 0 rfl rfl)
theorem dL_law_1814 : decode cL_law 1814 = .ok (.aload_n 2, 1) := dk_44 (dk_at dksL_law_72 2 rfl rfl)
theorem dL_law_1815 : decode cL_law 1815 = .ok (.invokevirtual 130, 3) := dk_182 0 130 (dk_at dksL_law_72 3 rfl rfl)
theorem dL_law_1818 : decode cL_law 1818 = .ok (.iload 6, 2) := dk_21 6 (dk_at dksL_law_72 6 rfl rfl)
theorem dL_law_1820 : decode cL_law 1820 = .ok (.if_icmp .eq 5, 3) := dk_159 0 5 (dk_at dksL_law_72 8 rfl rfl)
theorem dL_law_1823 : decode cL_law 1823 = .ok (.iconst 0, 1) := dk_3 (dk_at dksL_law_72 11 rfl rfl)
theorem dL_law_1824 : decode cL_law 1824 = .ok (.ireturn, 1) := dk_172 (dk_at dksL_law_72 12 rfl rfl)
theorem dL_law_1825 : decode cL_law 1825 = .ok (.iload 6, 2) := dk_21 6 (dk_at dksL_law_72 13 rfl rfl)
theorem dL_law_1827 : decode cL_law 1827 = .ok (.ifCond .ne 15, 3) := dk_154 0 15 (dk_at dksL_law_72 15 rfl rfl)
theorem dL_law_1830 : decode cL_law 1830 = .ok (.aload_n 3, 1) := dk_45 (dk_at dksL_law_72 18 rfl rfl)
theorem dL_law_1831 : decode cL_law 1831 = .ok (.iconst 0, 1) := dk_3 (dk_at dksL_law_72 19 rfl rfl)
theorem dL_law_1832 : decode cL_law 1832 = .ok (.laload, 1) := dk_47 (dk_at dksL_law_72 20 rfl rfl)
theorem dL_law_1833 : decode cL_law 1833 = .ok (.iload 7, 2) := dk_21 7 (dk_at dksL_law_72 21 rfl rfl)
theorem dL_law_1835 : decode cL_law 1835 = .ok (.i2l, 1) := dk_133 (dk_at dksL_law_72 23 rfl rfl)
theorem dL_law_1836 : decode cL_law 1836 = .ok (.lcmp, 1) := dk_148 (dk_at dksL_law_73 0 rfl rfl)
theorem dL_law_1837 : decode cL_law 1837 = .ok (.ifCond .eq 5, 3) := dk_153 0 5 (dk_at dksL_law_73 1 rfl rfl)
theorem dL_law_1840 : decode cL_law 1840 = .ok (.iconst 0, 1) := dk_3 (dk_at dksL_law_73 4 rfl rfl)
theorem dL_law_1841 : decode cL_law 1841 = .ok (.ireturn, 1) := dk_172 (dk_at dksL_law_73 5 rfl rfl)
theorem dL_law_1842 : decode cL_law 1842 = .ok (.goto 147, 3) := dk_167 0 147 (dk_at dksL_law_73 6 rfl rfl)
theorem dL_law_1845 : decode cL_law 1845 = .ok (.aload_n 1, 1) := dk_43 (dk_at dksL_law_73 9 rfl rfl)
theorem dL_law_1846 : decode cL_law 1846 = .ok (.aload 4, 2) := dk_25 4 (dk_at dksL_law_73 10 rfl rfl)
theorem dL_law_1848 : decode cL_law 1848 = .ok (.invokestatic 225, 3) := dk_184 0 225 (dk_at dksL_law_73 12 rfl rfl)
theorem dL_law_1851 : decode cL_law 1851 = .ok (.istore 6, 2) := dk_54 6 (dk_at dksL_law_73 15 rfl rfl)
theorem dL_law_1853 : decode cL_law 1853 = .ok (.aload_n 2, 1) := dk_44 (dk_at dksL_law_73 17 rfl rfl)
theorem dL_law_1854 : decode cL_law 1854 = .ok (.invokevirtual 228, 3) := dk_182 0 228 (dk_at dksL_law_73 18 rfl rfl)
theorem dL_law_1857 : decode cL_law 1857 = .ok (.dstore 7, 2) := dk_57 7 (dk_at dksL_law_73 21 rfl rfl)
theorem dL_law_1859 : decode cL_law 1859 = .ok (.aload_n 2, 1) := dk_44 (dk_at dksL_law_73 23 rfl rfl)
theorem dL_law_1860 : decode cL_law 1860 = .ok (.invokevirtual 130, 3) := dk_182 0 130 (dk_at dksL_law_74 0 rfl rfl)
theorem dL_law_1863 : decode cL_law 1863 = .ok (.iload 6, 2) := dk_21 6 (dk_at dksL_law_74 3 rfl rfl)
theorem dL_law_1865 : decode cL_law 1865 = .ok (.if_icmp .eq 5, 3) := dk_159 0 5 (dk_at dksL_law_74 5 rfl rfl)
theorem dL_law_1868 : decode cL_law 1868 = .ok (.iconst 0, 1) := dk_3 (dk_at dksL_law_74 8 rfl rfl)
theorem dL_law_1869 : decode cL_law 1869 = .ok (.ireturn, 1) := dk_172 (dk_at dksL_law_74 9 rfl rfl)
theorem dL_law_1870 : decode cL_law 1870 = .ok (.iload 6, 2) := dk_21 6 (dk_at dksL_law_74 10 rfl rfl)
theorem dL_law_1872 : decode cL_law 1872 = .ok (.ifCond .ne 35, 3) := dk_154 0 35 (dk_at dksL_law_74 12 rfl rfl)
theorem dL_law_1875 : decode cL_law 1875 = .ok (.aload 4, 2) := dk_25 4 (dk_at dksL_law_74 15 rfl rfl)
theorem dL_law_1877 : decode cL_law 1877 = .ok (.iconst 0, 1) := dk_3 (dk_at dksL_law_74 17 rfl rfl)
theorem dL_law_1878 : decode cL_law 1878 = .ok (.daload, 1) := dk_49 (dk_at dksL_law_74 18 rfl rfl)
theorem dL_law_1879 : decode cL_law 1879 = .ok (.dload 7, 2) := dk_24 7 (dk_at dksL_law_74 19 rfl rfl)
theorem dL_law_1881 : decode cL_law 1881 = .ok (.dcmp .l, 1) := dk_151 (dk_at dksL_law_74 21 rfl rfl)
theorem dL_law_1882 : decode cL_law 1882 = .ok (.ifCond .eq 25, 3) := dk_153 0 25 (dk_at dksL_law_75 0 rfl rfl)
theorem dL_law_1885 : decode cL_law 1885 = .ok (.aload 4, 2) := dk_25 4 (dk_at dksL_law_75 3 rfl rfl)
theorem dL_law_1887 : decode cL_law 1887 = .ok (.iconst 0, 1) := dk_3 (dk_at dksL_law_75 5 rfl rfl)
theorem dL_law_1888 : decode cL_law 1888 = .ok (.daload, 1) := dk_49 (dk_at dksL_law_75 6 rfl rfl)
theorem dL_law_1889 : decode cL_law 1889 = .ok (.aload 4, 2) := dk_25 4 (dk_at dksL_law_75 7 rfl rfl)
theorem dL_law_1891 : decode cL_law 1891 = .ok (.iconst 0, 1) := dk_3 (dk_at dksL_law_75 9 rfl rfl)
theorem dL_law_1892 : decode cL_law 1892 = .ok (.daload, 1) := dk_49 (dk_at dksL_law_75 10 rfl rfl)
theorem dL_law_1893 : decode cL_law 1893 = .ok (.dcmp .l, 1) := dk_151 (dk_at dksL_law_75 11 rfl rfl)
theorem dL_law_1894 : decode cL_law 1894 = .ok (.ifCond .eq 11, 3) := dk_153 0 11 (dk_at dksL_law_75 12 rfl rfl)
theorem dL_law_1897 : decode cL_law 1897 = .ok (.dload 7, 2) := dk_24 7 (dk_at dksL_law_75 15 rfl rfl)
theorem dL_law_1899 : decode cL_law 1899 = .ok (.dload 7, 2) := dk_24 7 (dk_at dksL_law_75 17 rfl rfl)
theorem dL_law_1901 : decode cL_law 1901 = .ok (.dcmp .l, 1) := dk_151 (dk_at dksL_law_75 19 rfl rfl)
theorem dL_law_1902 : decode cL_law 1902 = .ok (.ifCond .ne 5, 3) := dk_154 0 5 (dk_at dksL_law_75 20 rfl rfl)
theorem dL_law_1905 : decode cL_law 1905 = .ok (.iconst 0, 1) := dk_3 (dk_at dksL_law_75 23 rfl rfl)
theorem dL_law_1906 : decode cL_law 1906 = .ok (.ireturn, 1) := dk_172 (dk_at dksL_law_76 0 rfl rfl)
theorem dL_law_1907 : decode cL_law 1907 = .ok (.goto 82, 3) := dk_167 0 82 (dk_at dksL_law_76 1 rfl rfl)
theorem dL_law_1910 : decode cL_law 1910 = .ok (.aload_n 1, 1) := dk_43 (dk_at dksL_law_76 4 rfl rfl)
theorem dL_law_1911 : decode cL_law 1911 = .ok (.aload_n 3, 1) := dk_45 (dk_at dksL_law_76 5 rfl rfl)
theorem dL_law_1912 : decode cL_law 1912 = .ok (.invokestatic 229, 3) := dk_184 0 229 (dk_at dksL_law_76 6 rfl rfl)
theorem dL_law_1915 : decode cL_law 1915 = .ok (.istore 6, 2) := dk_54 6 (dk_at dksL_law_76 9 rfl rfl)
theorem dL_law_1917 : decode cL_law 1917 = .ok (.aload_n 2, 1) := dk_44 (dk_at dksL_law_76 11 rfl rfl)
theorem dL_law_1918 : decode cL_law 1918 = .ok (.invokevirtual 231, 3) := dk_182 0 231 (dk_at dksL_law_76 12 rfl rfl)
theorem dL_law_1921 : decode cL_law 1921 = .ok (.istore 7, 2) := dk_54 7 (dk_at dksL_law_76 15 rfl rfl)
theorem dL_law_1923 : decode cL_law 1923 = .ok (.aload_n 2, 1) := dk_44 (dk_at dksL_law_76 17 rfl rfl)
theorem dL_law_1924 : decode cL_law 1924 = .ok (.invokevirtual 130, 3) := dk_182 0 130 (dk_at dksL_law_76 18 rfl rfl)
theorem dL_law_1927 : decode cL_law 1927 = .ok (.iload 6, 2) := dk_21 6 (dk_at dksL_law_76 21 rfl rfl)
theorem dL_law_1929 : decode cL_law 1929 = .ok (.if_icmp .eq 5, 3) := dk_159 0 5 (dk_at dksL_law_77 0 rfl rfl)
theorem dL_law_1932 : decode cL_law 1932 = .ok (.iconst 0, 1) := dk_3 (dk_at dksL_law_77 3 rfl rfl)
theorem dL_law_1933 : decode cL_law 1933 = .ok (.ireturn, 1) := dk_172 (dk_at dksL_law_77 4 rfl rfl)
theorem dL_law_1934 : decode cL_law 1934 = .ok (.iload 6, 2) := dk_21 6 (dk_at dksL_law_77 5 rfl rfl)
theorem dL_law_1936 : decode cL_law 1936 = .ok (.ifCond .ne 15, 3) := dk_154 0 15 (dk_at dksL_law_77 7 rfl rfl)
theorem dL_law_1939 : decode cL_law 1939 = .ok (.aload_n 3, 1) := dk_45 (dk_at dksL_law_77 10 rfl rfl)
theorem dL_law_1940 : decode cL_law 1940 = .ok (.iconst 0, 1) := dk_3 (dk_at dksL_law_77 11 rfl rfl)
theorem dL_law_1941 : decode cL_law 1941 = .ok (.laload, 1) := dk_47 (dk_at dksL_law_77 12 rfl rfl)
theorem dL_law_1942 : decode cL_law 1942 = .ok (.iload 7, 2) := dk_21 7 (dk_at dksL_law_77 13 rfl rfl)
theorem dL_law_1944 : decode cL_law 1944 = .ok (.i2l, 1) := dk_133 (dk_at dksL_law_77 15 rfl rfl)
theorem dL_law_1945 : decode cL_law 1945 = .ok (.lcmp, 1) := dk_148 (dk_at dksL_law_77 16 rfl rfl)
theorem dL_law_1946 : decode cL_law 1946 = .ok (.ifCond .eq 5, 3) := dk_153 0 5 (dk_at dksL_law_77 17 rfl rfl)
theorem dL_law_1949 : decode cL_law 1949 = .ok (.iconst 0, 1) := dk_3 (dk_at dksL_law_77 20 rfl rfl)
theorem dL_law_1950 : decode cL_law 1950 = .ok (.ireturn, 1) := dk_172 (dk_at dksL_law_77 21 rfl rfl)
theorem dL_law_1951 : decode cL_law 1951 = .ok (.goto 38, 3) := dk_167 0 38 (dk_at dksL_law_78 0 rfl rfl)
theorem dL_law_1954 : decode cL_law 1954 = .ok (.aload_n 1, 1) := dk_43 (dk_at dksL_law_78 3 rfl rfl)
theorem dL_law_1955 : decode cL_law 1955 = .ok (.invokevirtual 232, 3) := dk_182 0 232 (dk_at dksL_law_78 4 rfl rfl)
theorem dL_law_1958 : decode cL_law 1958 = .ok (.aload_n 2, 1) := dk_44 (dk_at dksL_law_78 7 rfl rfl)
theorem dL_law_1959 : decode cL_law 1959 = .ok (.invokevirtual 235, 3) := dk_182 0 235 (dk_at dksL_law_78 8 rfl rfl)
theorem dL_law_1962 : decode cL_law 1962 = .ok (.goto 27, 3) := dk_167 0 27 (dk_at dksL_law_78 11 rfl rfl)
theorem dL_law_1965 : decode cL_law 1965 = .ok (.aload_n 1, 1) := dk_43 (dk_at dksL_law_78 14 rfl rfl)
theorem dL_law_1966 : decode cL_law 1966 = .ok (.invokestatic 236, 3) := dk_184 0 236 (dk_at dksL_law_78 15 rfl rfl)
theorem dL_law_1969 : decode cL_law 1969 = .ok (.istore 6, 2) := dk_54 6 (dk_at dksL_law_78 18 rfl rfl)
theorem dL_law_1971 : decode cL_law 1971 = .ok (.aload_n 2, 1) := dk_44 (dk_at dksL_law_78 20 rfl rfl)
theorem dL_law_1972 : decode cL_law 1972 = .ok (.invokevirtual 239, 3) := dk_182 0 239 (dk_at dksL_law_78 21 rfl rfl)
theorem dL_law_1975 : decode cL_law 1975 = .ok (.aload_n 2, 1) := dk_44 (dk_at dksL_law_79 0 rfl rfl)
theorem dL_law_1976 : decode cL_law 1976 = .ok (.invokevirtual 130, 3) := dk_182 0 130 (dk_at dksL_law_79 1 rfl rfl)
theorem dL_law_1979 : decode cL_law 1979 = .ok (.iload 6, 2) := dk_21 6 (dk_at dksL_law_79 4 rfl rfl)
theorem dL_law_1981 : decode cL_law 1981 = .ok (.if_icmp .eq 5, 3) := dk_159 0 5 (dk_at dksL_law_79 6 rfl rfl)
theorem dL_law_1984 : decode cL_law 1984 = .ok (.iconst 0, 1) := dk_3 (dk_at dksL_law_79 9 rfl rfl)
theorem dL_law_1985 : decode cL_law 1985 = .ok (.ireturn, 1) := dk_172 (dk_at dksL_law_79 10 rfl rfl)
theorem dL_law_1986 : decode cL_law 1986 = .ok (.goto 3, 3) := dk_167 0 3 (dk_at dksL_law_79 11 rfl rfl)
theorem dL_law_1989 : decode cL_law 1989 = .ok (.iinc 5 4, 3) := dk_132 5 4 (dk_at dksL_law_79 14 rfl rfl)
theorem dL_law_1992 : decode cL_law 1992 = .ok (.goto (-1964), 3) := dk_167 248 84 (dk_at dksL_law_79 17 rfl rfl)
theorem dL_law_1995 : decode cL_law 1995 = .ok (.iconst 1, 1) := dk_4 (dk_at dksL_law_79 20 rfl rfl)
theorem dL_law_1996 : decode cL_law 1996 = .ok (.ireturn, 1) := dk_172 (dk_at dksL_law_79 21 rfl rfl)
