/-! CakeTastesLaw -/
set_option maxRecDepth 100000
def RX0 : String := "CakeTastesLaw"
abbrev cX0_bake : ByteArray := method_3_code
def yX0_bake : MethodName := ⟨RX0, "bake", "(LCakeTastes;I[J)I"⟩
def dkwX0_bake_0 : List UInt8 := [44, 3, 42, 27, 182, 0, 7, 133, 80, 167, 0, 6, 78, 4, 172, 3, 172]
abbrev dktX0_bake_0 : List UInt8 := dkwX0_bake_0 ++ []
theorem dksX0_bake_0 : cX0_bake.data.toList.drop 0 = dktX0_bake_0 := by decide +kernel
theorem dX0_bake_0 : decode cX0_bake 0 = .ok (.aload_n 2, 1) := dk_44 (dk_at dksX0_bake_0 0 rfl rfl)
theorem dX0_bake_1 : decode cX0_bake 1 = .ok (.iconst 0, 1) := dk_3 (dk_at dksX0_bake_0 1 rfl rfl)
theorem dX0_bake_2 : decode cX0_bake 2 = .ok (.aload_n 0, 1) := dk_42 (dk_at dksX0_bake_0 2 rfl rfl)
theorem dX0_bake_3 : decode cX0_bake 3 = .ok (.iload_n 1, 1) := dk_27 (dk_at dksX0_bake_0 3 rfl rfl)
theorem dX0_bake_4 : decode cX0_bake 4 = .ok (.invokevirtual 7, 3) := dk_182 0 7 (dk_at dksX0_bake_0 4 rfl rfl)
theorem dX0_bake_7 : decode cX0_bake 7 = .ok (.i2l, 1) := dk_133 (dk_at dksX0_bake_0 7 rfl rfl)
theorem dX0_bake_8 : decode cX0_bake 8 = .ok (.lastore, 1) := dk_80 (dk_at dksX0_bake_0 8 rfl rfl)
theorem dX0_bake_9 : decode cX0_bake 9 = .ok (.goto 6, 3) := dk_167 0 6 (dk_at dksX0_bake_0 9 rfl rfl)
theorem dX0_bake_12 : decode cX0_bake 12 = .ok (.astore_n 3, 1) := dk_78 (dk_at dksX0_bake_0 12 rfl rfl)
theorem dX0_bake_13 : decode cX0_bake 13 = .ok (.iconst 1, 1) := dk_4 (dk_at dksX0_bake_0 13 rfl rfl)
theorem dX0_bake_14 : decode cX0_bake 14 = .ok (.ireturn, 1) := dk_172 (dk_at dksX0_bake_0 14 rfl rfl)
theorem dX0_bake_15 : decode cX0_bake 15 = .ok (.iconst 0, 1) := dk_3 (dk_at dksX0_bake_0 15 rfl rfl)
theorem dX0_bake_16 : decode cX0_bake 16 = .ok (.ireturn, 1) := dk_172 (dk_at dksX0_bake_0 16 rfl rfl)
abbrev cX0_ice : ByteArray := method_4_code
def yX0_ice : MethodName := ⟨RX0, "ice", "(LCakeTastes;II[J)I"⟩
def dkwX0_ice_0 : List UInt8 := [45, 3, 42, 27, 28, 182, 0, 15, 133, 80, 167, 0, 7, 58, 4, 4, 172, 3, 172]
abbrev dktX0_ice_0 : List UInt8 := dkwX0_ice_0 ++ []
theorem dksX0_ice_0 : cX0_ice.data.toList.drop 0 = dktX0_ice_0 := by decide +kernel
theorem dX0_ice_0 : decode cX0_ice 0 = .ok (.aload_n 3, 1) := dk_45 (dk_at dksX0_ice_0 0 rfl rfl)
theorem dX0_ice_1 : decode cX0_ice 1 = .ok (.iconst 0, 1) := dk_3 (dk_at dksX0_ice_0 1 rfl rfl)
theorem dX0_ice_2 : decode cX0_ice 2 = .ok (.aload_n 0, 1) := dk_42 (dk_at dksX0_ice_0 2 rfl rfl)
theorem dX0_ice_3 : decode cX0_ice 3 = .ok (.iload_n 1, 1) := dk_27 (dk_at dksX0_ice_0 3 rfl rfl)
theorem dX0_ice_4 : decode cX0_ice 4 = .ok (.iload_n 2, 1) := dk_28 (dk_at dksX0_ice_0 4 rfl rfl)
theorem dX0_ice_5 : decode cX0_ice 5 = .ok (.invokevirtual 15, 3) := dk_182 0 15 (dk_at dksX0_ice_0 5 rfl rfl)
theorem dX0_ice_8 : decode cX0_ice 8 = .ok (.i2l, 1) := dk_133 (dk_at dksX0_ice_0 8 rfl rfl)
theorem dX0_ice_9 : decode cX0_ice 9 = .ok (.lastore, 1) := dk_80 (dk_at dksX0_ice_0 9 rfl rfl)
theorem dX0_ice_10 : decode cX0_ice 10 = .ok (.goto 7, 3) := dk_167 0 7 (dk_at dksX0_ice_0 10 rfl rfl)
theorem dX0_ice_13 : decode cX0_ice 13 = .ok (.astore 4, 2) := dk_58 4 (dk_at dksX0_ice_0 13 rfl rfl)
theorem dX0_ice_15 : decode cX0_ice 15 = .ok (.iconst 1, 1) := dk_4 (dk_at dksX0_ice_0 15 rfl rfl)
theorem dX0_ice_16 : decode cX0_ice 16 = .ok (.ireturn, 1) := dk_172 (dk_at dksX0_ice_0 16 rfl rfl)
theorem dX0_ice_17 : decode cX0_ice 17 = .ok (.iconst 0, 1) := dk_3 (dk_at dksX0_ice_0 17 rfl rfl)
theorem dX0_ice_18 : decode cX0_ice 18 = .ok (.ireturn, 1) := dk_172 (dk_at dksX0_ice_0 18 rfl rfl)
abbrev cX0_come : ByteArray := method_5_code
def yX0_come : MethodName := ⟨RX0, "come", "(LCakeTastes;[J)I"⟩
def dkwX0_come_0 : List UInt8 := [43, 3, 42, 182, 0, 21, 133, 80, 167, 0, 6, 77, 4, 172, 3, 172]
abbrev dktX0_come_0 : List UInt8 := dkwX0_come_0 ++ []
theorem dksX0_come_0 : cX0_come.data.toList.drop 0 = dktX0_come_0 := by decide +kernel
theorem dX0_come_0 : decode cX0_come 0 = .ok (.aload_n 1, 1) := dk_43 (dk_at dksX0_come_0 0 rfl rfl)
theorem dX0_come_1 : decode cX0_come 1 = .ok (.iconst 0, 1) := dk_3 (dk_at dksX0_come_0 1 rfl rfl)
theorem dX0_come_2 : decode cX0_come 2 = .ok (.aload_n 0, 1) := dk_42 (dk_at dksX0_come_0 2 rfl rfl)
theorem dX0_come_3 : decode cX0_come 3 = .ok (.invokevirtual 21, 3) := dk_182 0 21 (dk_at dksX0_come_0 3 rfl rfl)
theorem dX0_come_6 : decode cX0_come 6 = .ok (.i2l, 1) := dk_133 (dk_at dksX0_come_0 6 rfl rfl)
theorem dX0_come_7 : decode cX0_come 7 = .ok (.lastore, 1) := dk_80 (dk_at dksX0_come_0 7 rfl rfl)
theorem dX0_come_8 : decode cX0_come 8 = .ok (.goto 6, 3) := dk_167 0 6 (dk_at dksX0_come_0 8 rfl rfl)
theorem dX0_come_11 : decode cX0_come 11 = .ok (.astore_n 2, 1) := dk_77 (dk_at dksX0_come_0 11 rfl rfl)
theorem dX0_come_12 : decode cX0_come 12 = .ok (.iconst 1, 1) := dk_4 (dk_at dksX0_come_0 12 rfl rfl)
theorem dX0_come_13 : decode cX0_come 13 = .ok (.ireturn, 1) := dk_172 (dk_at dksX0_come_0 13 rfl rfl)
theorem dX0_come_14 : decode cX0_come 14 = .ok (.iconst 0, 1) := dk_3 (dk_at dksX0_come_0 14 rfl rfl)
theorem dX0_come_15 : decode cX0_come 15 = .ok (.ireturn, 1) := dk_172 (dk_at dksX0_come_0 15 rfl rfl)
abbrev cX0_setTaste : ByteArray := method_6_code
def yX0_setTaste : MethodName := ⟨RX0, "setTaste", "(LCakeTastes;III[J)I"⟩
def dkwX0_setTaste_1 : List UInt8 := [172]
abbrev dktX0_setTaste_1 : List UInt8 := dkwX0_setTaste_1 ++ []
def dkwX0_setTaste_0 : List UInt8 := [25, 4, 3, 42, 27, 28, 29, 182, 0, 27, 133, 80, 167, 0, 11, 58, 5, 4, 172, 58, 5, 5, 172, 3]
abbrev dktX0_setTaste_0 : List UInt8 := dkwX0_setTaste_0 ++ dktX0_setTaste_1
theorem dksX0_setTaste_0 : cX0_setTaste.data.toList.drop 0 = dktX0_setTaste_0 := by decide +kernel
theorem dksX0_setTaste_1 : cX0_setTaste.data.toList.drop 24 = dktX0_setTaste_1 := dk_seg dksX0_setTaste_0 24 rfl rfl
theorem dX0_setTaste_0 : decode cX0_setTaste 0 = .ok (.aload 4, 2) := dk_25 4 (dk_at dksX0_setTaste_0 0 rfl rfl)
theorem dX0_setTaste_2 : decode cX0_setTaste 2 = .ok (.iconst 0, 1) := dk_3 (dk_at dksX0_setTaste_0 2 rfl rfl)
theorem dX0_setTaste_3 : decode cX0_setTaste 3 = .ok (.aload_n 0, 1) := dk_42 (dk_at dksX0_setTaste_0 3 rfl rfl)
theorem dX0_setTaste_4 : decode cX0_setTaste 4 = .ok (.iload_n 1, 1) := dk_27 (dk_at dksX0_setTaste_0 4 rfl rfl)
theorem dX0_setTaste_5 : decode cX0_setTaste 5 = .ok (.iload_n 2, 1) := dk_28 (dk_at dksX0_setTaste_0 5 rfl rfl)
theorem dX0_setTaste_6 : decode cX0_setTaste 6 = .ok (.iload_n 3, 1) := dk_29 (dk_at dksX0_setTaste_0 6 rfl rfl)
theorem dX0_setTaste_7 : decode cX0_setTaste 7 = .ok (.invokevirtual 27, 3) := dk_182 0 27 (dk_at dksX0_setTaste_0 7 rfl rfl)
theorem dX0_setTaste_10 : decode cX0_setTaste 10 = .ok (.i2l, 1) := dk_133 (dk_at dksX0_setTaste_0 10 rfl rfl)
theorem dX0_setTaste_11 : decode cX0_setTaste 11 = .ok (.lastore, 1) := dk_80 (dk_at dksX0_setTaste_0 11 rfl rfl)
theorem dX0_setTaste_12 : decode cX0_setTaste 12 = .ok (.goto 11, 3) := dk_167 0 11 (dk_at dksX0_setTaste_0 12 rfl rfl)
theorem dX0_setTaste_15 : decode cX0_setTaste 15 = .ok (.astore 5, 2) := dk_58 5 (dk_at dksX0_setTaste_0 15 rfl rfl)
theorem dX0_setTaste_17 : decode cX0_setTaste 17 = .ok (.iconst 1, 1) := dk_4 (dk_at dksX0_setTaste_0 17 rfl rfl)
theorem dX0_setTaste_18 : decode cX0_setTaste 18 = .ok (.ireturn, 1) := dk_172 (dk_at dksX0_setTaste_0 18 rfl rfl)
theorem dX0_setTaste_19 : decode cX0_setTaste 19 = .ok (.astore 5, 2) := dk_58 5 (dk_at dksX0_setTaste_0 19 rfl rfl)
theorem dX0_setTaste_21 : decode cX0_setTaste 21 = .ok (.iconst 2, 1) := dk_5 (dk_at dksX0_setTaste_0 21 rfl rfl)
theorem dX0_setTaste_22 : decode cX0_setTaste 22 = .ok (.ireturn, 1) := dk_172 (dk_at dksX0_setTaste_0 22 rfl rfl)
theorem dX0_setTaste_23 : decode cX0_setTaste 23 = .ok (.iconst 0, 1) := dk_3 (dk_at dksX0_setTaste_0 23 rfl rfl)
theorem dX0_setTaste_24 : decode cX0_setTaste 24 = .ok (.ireturn, 1) := dk_172 (dk_at dksX0_setTaste_1 0 rfl rfl)
abbrev cX0_give : ByteArray := method_7_code
def yX0_give : MethodName := ⟨RX0, "give", "(LCakeTastes;II[J)I"⟩
def dkwX0_give_0 : List UInt8 := [45, 3, 42, 27, 28, 182, 0, 31, 133, 80, 167, 0, 7, 58, 4, 4, 172, 3, 172]
abbrev dktX0_give_0 : List UInt8 := dkwX0_give_0 ++ []
theorem dksX0_give_0 : cX0_give.data.toList.drop 0 = dktX0_give_0 := by decide +kernel
theorem dX0_give_0 : decode cX0_give 0 = .ok (.aload_n 3, 1) := dk_45 (dk_at dksX0_give_0 0 rfl rfl)
theorem dX0_give_1 : decode cX0_give 1 = .ok (.iconst 0, 1) := dk_3 (dk_at dksX0_give_0 1 rfl rfl)
theorem dX0_give_2 : decode cX0_give 2 = .ok (.aload_n 0, 1) := dk_42 (dk_at dksX0_give_0 2 rfl rfl)
theorem dX0_give_3 : decode cX0_give 3 = .ok (.iload_n 1, 1) := dk_27 (dk_at dksX0_give_0 3 rfl rfl)
theorem dX0_give_4 : decode cX0_give 4 = .ok (.iload_n 2, 1) := dk_28 (dk_at dksX0_give_0 4 rfl rfl)
theorem dX0_give_5 : decode cX0_give 5 = .ok (.invokevirtual 31, 3) := dk_182 0 31 (dk_at dksX0_give_0 5 rfl rfl)
theorem dX0_give_8 : decode cX0_give 8 = .ok (.i2l, 1) := dk_133 (dk_at dksX0_give_0 8 rfl rfl)
theorem dX0_give_9 : decode cX0_give 9 = .ok (.lastore, 1) := dk_80 (dk_at dksX0_give_0 9 rfl rfl)
theorem dX0_give_10 : decode cX0_give 10 = .ok (.goto 7, 3) := dk_167 0 7 (dk_at dksX0_give_0 10 rfl rfl)
theorem dX0_give_13 : decode cX0_give 13 = .ok (.astore 4, 2) := dk_58 4 (dk_at dksX0_give_0 13 rfl rfl)
theorem dX0_give_15 : decode cX0_give 15 = .ok (.iconst 1, 1) := dk_4 (dk_at dksX0_give_0 15 rfl rfl)
theorem dX0_give_16 : decode cX0_give 16 = .ok (.ireturn, 1) := dk_172 (dk_at dksX0_give_0 16 rfl rfl)
theorem dX0_give_17 : decode cX0_give 17 = .ok (.iconst 0, 1) := dk_3 (dk_at dksX0_give_0 17 rfl rfl)
theorem dX0_give_18 : decode cX0_give 18 = .ok (.ireturn, 1) := dk_172 (dk_at dksX0_give_0 18 rfl rfl)
abbrev cX0_share : ByteArray := method_8_code
def yX0_share : MethodName := ⟨RX0, "share", "(LCakeTastes;I[J)I"⟩
def dkwX0_share_0 : List UInt8 := [44, 3, 42, 27, 182, 0, 34, 133, 80, 167, 0, 9, 78, 4, 172, 78, 5, 172, 3, 172]
abbrev dktX0_share_0 : List UInt8 := dkwX0_share_0 ++ []
theorem dksX0_share_0 : cX0_share.data.toList.drop 0 = dktX0_share_0 := by decide +kernel
theorem dX0_share_0 : decode cX0_share 0 = .ok (.aload_n 2, 1) := dk_44 (dk_at dksX0_share_0 0 rfl rfl)
theorem dX0_share_1 : decode cX0_share 1 = .ok (.iconst 0, 1) := dk_3 (dk_at dksX0_share_0 1 rfl rfl)
theorem dX0_share_2 : decode cX0_share 2 = .ok (.aload_n 0, 1) := dk_42 (dk_at dksX0_share_0 2 rfl rfl)
theorem dX0_share_3 : decode cX0_share 3 = .ok (.iload_n 1, 1) := dk_27 (dk_at dksX0_share_0 3 rfl rfl)
theorem dX0_share_4 : decode cX0_share 4 = .ok (.invokevirtual 34, 3) := dk_182 0 34 (dk_at dksX0_share_0 4 rfl rfl)
theorem dX0_share_7 : decode cX0_share 7 = .ok (.i2l, 1) := dk_133 (dk_at dksX0_share_0 7 rfl rfl)
theorem dX0_share_8 : decode cX0_share 8 = .ok (.lastore, 1) := dk_80 (dk_at dksX0_share_0 8 rfl rfl)
theorem dX0_share_9 : decode cX0_share 9 = .ok (.goto 9, 3) := dk_167 0 9 (dk_at dksX0_share_0 9 rfl rfl)
theorem dX0_share_12 : decode cX0_share 12 = .ok (.astore_n 3, 1) := dk_78 (dk_at dksX0_share_0 12 rfl rfl)
theorem dX0_share_13 : decode cX0_share 13 = .ok (.iconst 1, 1) := dk_4 (dk_at dksX0_share_0 13 rfl rfl)
theorem dX0_share_14 : decode cX0_share 14 = .ok (.ireturn, 1) := dk_172 (dk_at dksX0_share_0 14 rfl rfl)
theorem dX0_share_15 : decode cX0_share 15 = .ok (.astore_n 3, 1) := dk_78 (dk_at dksX0_share_0 15 rfl rfl)
theorem dX0_share_16 : decode cX0_share 16 = .ok (.iconst 2, 1) := dk_5 (dk_at dksX0_share_0 16 rfl rfl)
theorem dX0_share_17 : decode cX0_share 17 = .ok (.ireturn, 1) := dk_172 (dk_at dksX0_share_0 17 rfl rfl)
theorem dX0_share_18 : decode cX0_share 18 = .ok (.iconst 0, 1) := dk_3 (dk_at dksX0_share_0 18 rfl rfl)
theorem dX0_share_19 : decode cX0_share 19 = .ok (.ireturn, 1) := dk_172 (dk_at dksX0_share_0 19 rfl rfl)
abbrev cX0_crumbs : ByteArray := method_9_code
def yX0_crumbs : MethodName := ⟨RX0, "crumbs", "(LCakeTastes;[J)I"⟩
def dkwX0_crumbs_0 : List UInt8 := [43, 3, 42, 182, 0, 37, 133, 80, 167, 0, 6, 77, 4, 172, 3, 172]
abbrev dktX0_crumbs_0 : List UInt8 := dkwX0_crumbs_0 ++ []
theorem dksX0_crumbs_0 : cX0_crumbs.data.toList.drop 0 = dktX0_crumbs_0 := by decide +kernel
theorem dX0_crumbs_0 : decode cX0_crumbs 0 = .ok (.aload_n 1, 1) := dk_43 (dk_at dksX0_crumbs_0 0 rfl rfl)
theorem dX0_crumbs_1 : decode cX0_crumbs 1 = .ok (.iconst 0, 1) := dk_3 (dk_at dksX0_crumbs_0 1 rfl rfl)
theorem dX0_crumbs_2 : decode cX0_crumbs 2 = .ok (.aload_n 0, 1) := dk_42 (dk_at dksX0_crumbs_0 2 rfl rfl)
theorem dX0_crumbs_3 : decode cX0_crumbs 3 = .ok (.invokevirtual 37, 3) := dk_182 0 37 (dk_at dksX0_crumbs_0 3 rfl rfl)
theorem dX0_crumbs_6 : decode cX0_crumbs 6 = .ok (.i2l, 1) := dk_133 (dk_at dksX0_crumbs_0 6 rfl rfl)
theorem dX0_crumbs_7 : decode cX0_crumbs 7 = .ok (.lastore, 1) := dk_80 (dk_at dksX0_crumbs_0 7 rfl rfl)
theorem dX0_crumbs_8 : decode cX0_crumbs 8 = .ok (.goto 6, 3) := dk_167 0 6 (dk_at dksX0_crumbs_0 8 rfl rfl)
theorem dX0_crumbs_11 : decode cX0_crumbs 11 = .ok (.astore_n 2, 1) := dk_77 (dk_at dksX0_crumbs_0 11 rfl rfl)
theorem dX0_crumbs_12 : decode cX0_crumbs 12 = .ok (.iconst 1, 1) := dk_4 (dk_at dksX0_crumbs_0 12 rfl rfl)
theorem dX0_crumbs_13 : decode cX0_crumbs 13 = .ok (.ireturn, 1) := dk_172 (dk_at dksX0_crumbs_0 13 rfl rfl)
theorem dX0_crumbs_14 : decode cX0_crumbs 14 = .ok (.iconst 0, 1) := dk_3 (dk_at dksX0_crumbs_0 14 rfl rfl)
theorem dX0_crumbs_15 : decode cX0_crumbs 15 = .ok (.ireturn, 1) := dk_172 (dk_at dksX0_crumbs_0 15 rfl rfl)
abbrev cX0_swap : ByteArray := method_10_code
def yX0_swap : MethodName := ⟨RX0, "swap", "(LCakeTastes;II[J)I"⟩
def dkwX0_swap_1 : List UInt8 := [58, 4, 5, 172, 3, 172]
abbrev dktX0_swap_1 : List UInt8 := dkwX0_swap_1 ++ []
def dkwX0_swap_0 : List UInt8 := [45, 3, 42, 27, 28, 182, 0, 40, 153, 0, 7, 10, 167, 0, 4, 9, 80, 167, 0, 11, 58, 4, 4, 172]
abbrev dktX0_swap_0 : List UInt8 := dkwX0_swap_0 ++ dktX0_swap_1
theorem dksX0_swap_0 : cX0_swap.data.toList.drop 0 = dktX0_swap_0 := by decide +kernel
theorem dksX0_swap_1 : cX0_swap.data.toList.drop 24 = dktX0_swap_1 := dk_seg dksX0_swap_0 24 rfl rfl
theorem dX0_swap_0 : decode cX0_swap 0 = .ok (.aload_n 3, 1) := dk_45 (dk_at dksX0_swap_0 0 rfl rfl)
theorem dX0_swap_1 : decode cX0_swap 1 = .ok (.iconst 0, 1) := dk_3 (dk_at dksX0_swap_0 1 rfl rfl)
theorem dX0_swap_2 : decode cX0_swap 2 = .ok (.aload_n 0, 1) := dk_42 (dk_at dksX0_swap_0 2 rfl rfl)
theorem dX0_swap_3 : decode cX0_swap 3 = .ok (.iload_n 1, 1) := dk_27 (dk_at dksX0_swap_0 3 rfl rfl)
theorem dX0_swap_4 : decode cX0_swap 4 = .ok (.iload_n 2, 1) := dk_28 (dk_at dksX0_swap_0 4 rfl rfl)
theorem dX0_swap_5 : decode cX0_swap 5 = .ok (.invokevirtual 40, 3) := dk_182 0 40 (dk_at dksX0_swap_0 5 rfl rfl)
theorem dX0_swap_8 : decode cX0_swap 8 = .ok (.ifCond .eq 7, 3) := dk_153 0 7 (dk_at dksX0_swap_0 8 rfl rfl)
theorem dX0_swap_11 : decode cX0_swap 11 = .ok (.lconst 1, 1) := dk_10 (dk_at dksX0_swap_0 11 rfl rfl)
theorem dX0_swap_12 : decode cX0_swap 12 = .ok (.goto 4, 3) := dk_167 0 4 (dk_at dksX0_swap_0 12 rfl rfl)
theorem dX0_swap_15 : decode cX0_swap 15 = .ok (.lconst 0, 1) := dk_9 (dk_at dksX0_swap_0 15 rfl rfl)
theorem dX0_swap_16 : decode cX0_swap 16 = .ok (.lastore, 1) := dk_80 (dk_at dksX0_swap_0 16 rfl rfl)
theorem dX0_swap_17 : decode cX0_swap 17 = .ok (.goto 11, 3) := dk_167 0 11 (dk_at dksX0_swap_0 17 rfl rfl)
theorem dX0_swap_20 : decode cX0_swap 20 = .ok (.astore 4, 2) := dk_58 4 (dk_at dksX0_swap_0 20 rfl rfl)
theorem dX0_swap_22 : decode cX0_swap 22 = .ok (.iconst 1, 1) := dk_4 (dk_at dksX0_swap_0 22 rfl rfl)
theorem dX0_swap_23 : decode cX0_swap 23 = .ok (.ireturn, 1) := dk_172 (dk_at dksX0_swap_0 23 rfl rfl)
theorem dX0_swap_24 : decode cX0_swap 24 = .ok (.astore 4, 2) := dk_58 4 (dk_at dksX0_swap_1 0 rfl rfl)
theorem dX0_swap_26 : decode cX0_swap 26 = .ok (.iconst 2, 1) := dk_5 (dk_at dksX0_swap_1 2 rfl rfl)
theorem dX0_swap_27 : decode cX0_swap 27 = .ok (.ireturn, 1) := dk_172 (dk_at dksX0_swap_1 3 rfl rfl)
theorem dX0_swap_28 : decode cX0_swap 28 = .ok (.iconst 0, 1) := dk_3 (dk_at dksX0_swap_1 4 rfl rfl)
theorem dX0_swap_29 : decode cX0_swap 29 = .ok (.ireturn, 1) := dk_172 (dk_at dksX0_swap_1 5 rfl rfl)
abbrev cX0_told : ByteArray := method_11_code
def yX0_told : MethodName := ⟨RX0, "told", "(LCakeTastes;II[J)I"⟩
def dkwX0_told_0 : List UInt8 := [45, 3, 42, 27, 28, 182, 0, 44, 133, 80, 167, 0, 7, 58, 4, 4, 172, 3, 172]
abbrev dktX0_told_0 : List UInt8 := dkwX0_told_0 ++ []
theorem dksX0_told_0 : cX0_told.data.toList.drop 0 = dktX0_told_0 := by decide +kernel
theorem dX0_told_0 : decode cX0_told 0 = .ok (.aload_n 3, 1) := dk_45 (dk_at dksX0_told_0 0 rfl rfl)
theorem dX0_told_1 : decode cX0_told 1 = .ok (.iconst 0, 1) := dk_3 (dk_at dksX0_told_0 1 rfl rfl)
theorem dX0_told_2 : decode cX0_told 2 = .ok (.aload_n 0, 1) := dk_42 (dk_at dksX0_told_0 2 rfl rfl)
theorem dX0_told_3 : decode cX0_told 3 = .ok (.iload_n 1, 1) := dk_27 (dk_at dksX0_told_0 3 rfl rfl)
theorem dX0_told_4 : decode cX0_told 4 = .ok (.iload_n 2, 1) := dk_28 (dk_at dksX0_told_0 4 rfl rfl)
theorem dX0_told_5 : decode cX0_told 5 = .ok (.invokevirtual 44, 3) := dk_182 0 44 (dk_at dksX0_told_0 5 rfl rfl)
theorem dX0_told_8 : decode cX0_told 8 = .ok (.i2l, 1) := dk_133 (dk_at dksX0_told_0 8 rfl rfl)
theorem dX0_told_9 : decode cX0_told 9 = .ok (.lastore, 1) := dk_80 (dk_at dksX0_told_0 9 rfl rfl)
theorem dX0_told_10 : decode cX0_told 10 = .ok (.goto 7, 3) := dk_167 0 7 (dk_at dksX0_told_0 10 rfl rfl)
theorem dX0_told_13 : decode cX0_told 13 = .ok (.astore 4, 2) := dk_58 4 (dk_at dksX0_told_0 13 rfl rfl)
theorem dX0_told_15 : decode cX0_told 15 = .ok (.iconst 1, 1) := dk_4 (dk_at dksX0_told_0 15 rfl rfl)
theorem dX0_told_16 : decode cX0_told 16 = .ok (.ireturn, 1) := dk_172 (dk_at dksX0_told_0 16 rfl rfl)
theorem dX0_told_17 : decode cX0_told 17 = .ok (.iconst 0, 1) := dk_3 (dk_at dksX0_told_0 17 rfl rfl)
theorem dX0_told_18 : decode cX0_told 18 = .ok (.ireturn, 1) := dk_172 (dk_at dksX0_told_0 18 rfl rfl)
abbrev cX0_worth : ByteArray := method_12_code
def yX0_worth : MethodName := ⟨RX0, "worth", "(LCakeTastes;II[J)I"⟩
def dkwX0_worth_0 : List UInt8 := [45, 3, 42, 27, 28, 182, 0, 47, 133, 80, 167, 0, 7, 58, 4, 4, 172, 3, 172]
abbrev dktX0_worth_0 : List UInt8 := dkwX0_worth_0 ++ []
theorem dksX0_worth_0 : cX0_worth.data.toList.drop 0 = dktX0_worth_0 := by decide +kernel
theorem dX0_worth_0 : decode cX0_worth 0 = .ok (.aload_n 3, 1) := dk_45 (dk_at dksX0_worth_0 0 rfl rfl)
theorem dX0_worth_1 : decode cX0_worth 1 = .ok (.iconst 0, 1) := dk_3 (dk_at dksX0_worth_0 1 rfl rfl)
theorem dX0_worth_2 : decode cX0_worth 2 = .ok (.aload_n 0, 1) := dk_42 (dk_at dksX0_worth_0 2 rfl rfl)
theorem dX0_worth_3 : decode cX0_worth 3 = .ok (.iload_n 1, 1) := dk_27 (dk_at dksX0_worth_0 3 rfl rfl)
theorem dX0_worth_4 : decode cX0_worth 4 = .ok (.iload_n 2, 1) := dk_28 (dk_at dksX0_worth_0 4 rfl rfl)
theorem dX0_worth_5 : decode cX0_worth 5 = .ok (.invokevirtual 47, 3) := dk_182 0 47 (dk_at dksX0_worth_0 5 rfl rfl)
theorem dX0_worth_8 : decode cX0_worth 8 = .ok (.i2l, 1) := dk_133 (dk_at dksX0_worth_0 8 rfl rfl)
theorem dX0_worth_9 : decode cX0_worth 9 = .ok (.lastore, 1) := dk_80 (dk_at dksX0_worth_0 9 rfl rfl)
theorem dX0_worth_10 : decode cX0_worth 10 = .ok (.goto 7, 3) := dk_167 0 7 (dk_at dksX0_worth_0 10 rfl rfl)
theorem dX0_worth_13 : decode cX0_worth 13 = .ok (.astore 4, 2) := dk_58 4 (dk_at dksX0_worth_0 13 rfl rfl)
theorem dX0_worth_15 : decode cX0_worth 15 = .ok (.iconst 1, 1) := dk_4 (dk_at dksX0_worth_0 15 rfl rfl)
theorem dX0_worth_16 : decode cX0_worth 16 = .ok (.ireturn, 1) := dk_172 (dk_at dksX0_worth_0 16 rfl rfl)
theorem dX0_worth_17 : decode cX0_worth 17 = .ok (.iconst 0, 1) := dk_3 (dk_at dksX0_worth_0 17 rfl rfl)
theorem dX0_worth_18 : decode cX0_worth 18 = .ok (.ireturn, 1) := dk_172 (dk_at dksX0_worth_0 18 rfl rfl)
abbrev cX0_about : ByteArray := method_13_code
def yX0_about : MethodName := ⟨RX0, "about", "(LCakeTastes;II[J)I"⟩
def dkwX0_about_0 : List UInt8 := [45, 3, 42, 27, 28, 182, 0, 50, 133, 80, 167, 0, 7, 58, 4, 4, 172, 3, 172]
abbrev dktX0_about_0 : List UInt8 := dkwX0_about_0 ++ []
theorem dksX0_about_0 : cX0_about.data.toList.drop 0 = dktX0_about_0 := by decide +kernel
theorem dX0_about_0 : decode cX0_about 0 = .ok (.aload_n 3, 1) := dk_45 (dk_at dksX0_about_0 0 rfl rfl)
theorem dX0_about_1 : decode cX0_about 1 = .ok (.iconst 0, 1) := dk_3 (dk_at dksX0_about_0 1 rfl rfl)
theorem dX0_about_2 : decode cX0_about 2 = .ok (.aload_n 0, 1) := dk_42 (dk_at dksX0_about_0 2 rfl rfl)
theorem dX0_about_3 : decode cX0_about 3 = .ok (.iload_n 1, 1) := dk_27 (dk_at dksX0_about_0 3 rfl rfl)
theorem dX0_about_4 : decode cX0_about 4 = .ok (.iload_n 2, 1) := dk_28 (dk_at dksX0_about_0 4 rfl rfl)
theorem dX0_about_5 : decode cX0_about 5 = .ok (.invokevirtual 50, 3) := dk_182 0 50 (dk_at dksX0_about_0 5 rfl rfl)
theorem dX0_about_8 : decode cX0_about 8 = .ok (.i2l, 1) := dk_133 (dk_at dksX0_about_0 8 rfl rfl)
theorem dX0_about_9 : decode cX0_about 9 = .ok (.lastore, 1) := dk_80 (dk_at dksX0_about_0 9 rfl rfl)
theorem dX0_about_10 : decode cX0_about 10 = .ok (.goto 7, 3) := dk_167 0 7 (dk_at dksX0_about_0 10 rfl rfl)
theorem dX0_about_13 : decode cX0_about 13 = .ok (.astore 4, 2) := dk_58 4 (dk_at dksX0_about_0 13 rfl rfl)
theorem dX0_about_15 : decode cX0_about 15 = .ok (.iconst 1, 1) := dk_4 (dk_at dksX0_about_0 15 rfl rfl)
theorem dX0_about_16 : decode cX0_about 16 = .ok (.ireturn, 1) := dk_172 (dk_at dksX0_about_0 16 rfl rfl)
theorem dX0_about_17 : decode cX0_about 17 = .ok (.iconst 0, 1) := dk_3 (dk_at dksX0_about_0 17 rfl rfl)
theorem dX0_about_18 : decode cX0_about 18 = .ok (.ireturn, 1) := dk_172 (dk_at dksX0_about_0 18 rfl rfl)
abbrev cX0_taste : ByteArray := method_14_code
def yX0_taste : MethodName := ⟨RX0, "taste", "(LCakeTastes;II[J)I"⟩
def dkwX0_taste_0 : List UInt8 := [45, 3, 42, 27, 28, 182, 0, 53, 133, 80, 167, 0, 7, 58, 4, 4, 172, 3, 172]
abbrev dktX0_taste_0 : List UInt8 := dkwX0_taste_0 ++ []
theorem dksX0_taste_0 : cX0_taste.data.toList.drop 0 = dktX0_taste_0 := by decide +kernel
theorem dX0_taste_0 : decode cX0_taste 0 = .ok (.aload_n 3, 1) := dk_45 (dk_at dksX0_taste_0 0 rfl rfl)
theorem dX0_taste_1 : decode cX0_taste 1 = .ok (.iconst 0, 1) := dk_3 (dk_at dksX0_taste_0 1 rfl rfl)
theorem dX0_taste_2 : decode cX0_taste 2 = .ok (.aload_n 0, 1) := dk_42 (dk_at dksX0_taste_0 2 rfl rfl)
theorem dX0_taste_3 : decode cX0_taste 3 = .ok (.iload_n 1, 1) := dk_27 (dk_at dksX0_taste_0 3 rfl rfl)
theorem dX0_taste_4 : decode cX0_taste 4 = .ok (.iload_n 2, 1) := dk_28 (dk_at dksX0_taste_0 4 rfl rfl)
theorem dX0_taste_5 : decode cX0_taste 5 = .ok (.invokevirtual 53, 3) := dk_182 0 53 (dk_at dksX0_taste_0 5 rfl rfl)
theorem dX0_taste_8 : decode cX0_taste 8 = .ok (.i2l, 1) := dk_133 (dk_at dksX0_taste_0 8 rfl rfl)
theorem dX0_taste_9 : decode cX0_taste 9 = .ok (.lastore, 1) := dk_80 (dk_at dksX0_taste_0 9 rfl rfl)
theorem dX0_taste_10 : decode cX0_taste 10 = .ok (.goto 7, 3) := dk_167 0 7 (dk_at dksX0_taste_0 10 rfl rfl)
theorem dX0_taste_13 : decode cX0_taste 13 = .ok (.astore 4, 2) := dk_58 4 (dk_at dksX0_taste_0 13 rfl rfl)
theorem dX0_taste_15 : decode cX0_taste 15 = .ok (.iconst 1, 1) := dk_4 (dk_at dksX0_taste_0 15 rfl rfl)
theorem dX0_taste_16 : decode cX0_taste 16 = .ok (.ireturn, 1) := dk_172 (dk_at dksX0_taste_0 16 rfl rfl)
theorem dX0_taste_17 : decode cX0_taste 17 = .ok (.iconst 0, 1) := dk_3 (dk_at dksX0_taste_0 17 rfl rfl)
theorem dX0_taste_18 : decode cX0_taste 18 = .ok (.ireturn, 1) := dk_172 (dk_at dksX0_taste_0 18 rfl rfl)
abbrev cX0_count : ByteArray := method_15_code
def yX0_count : MethodName := ⟨RX0, "count", "(LCakeTastes;I[J)I"⟩
def dkwX0_count_0 : List UInt8 := [44, 3, 42, 27, 182, 0, 56, 133, 80, 167, 0, 6, 78, 4, 172, 3, 172]
abbrev dktX0_count_0 : List UInt8 := dkwX0_count_0 ++ []
theorem dksX0_count_0 : cX0_count.data.toList.drop 0 = dktX0_count_0 := by decide +kernel
theorem dX0_count_0 : decode cX0_count 0 = .ok (.aload_n 2, 1) := dk_44 (dk_at dksX0_count_0 0 rfl rfl)
theorem dX0_count_1 : decode cX0_count 1 = .ok (.iconst 0, 1) := dk_3 (dk_at dksX0_count_0 1 rfl rfl)
theorem dX0_count_2 : decode cX0_count 2 = .ok (.aload_n 0, 1) := dk_42 (dk_at dksX0_count_0 2 rfl rfl)
theorem dX0_count_3 : decode cX0_count 3 = .ok (.iload_n 1, 1) := dk_27 (dk_at dksX0_count_0 3 rfl rfl)
theorem dX0_count_4 : decode cX0_count 4 = .ok (.invokevirtual 56, 3) := dk_182 0 56 (dk_at dksX0_count_0 4 rfl rfl)
theorem dX0_count_7 : decode cX0_count 7 = .ok (.i2l, 1) := dk_133 (dk_at dksX0_count_0 7 rfl rfl)
theorem dX0_count_8 : decode cX0_count 8 = .ok (.lastore, 1) := dk_80 (dk_at dksX0_count_0 8 rfl rfl)
theorem dX0_count_9 : decode cX0_count 9 = .ok (.goto 6, 3) := dk_167 0 6 (dk_at dksX0_count_0 9 rfl rfl)
theorem dX0_count_12 : decode cX0_count 12 = .ok (.astore_n 3, 1) := dk_78 (dk_at dksX0_count_0 12 rfl rfl)
theorem dX0_count_13 : decode cX0_count 13 = .ok (.iconst 1, 1) := dk_4 (dk_at dksX0_count_0 13 rfl rfl)
theorem dX0_count_14 : decode cX0_count 14 = .ok (.ireturn, 1) := dk_172 (dk_at dksX0_count_0 14 rfl rfl)
theorem dX0_count_15 : decode cX0_count 15 = .ok (.iconst 0, 1) := dk_3 (dk_at dksX0_count_0 15 rfl rfl)
theorem dX0_count_16 : decode cX0_count 16 = .ok (.ireturn, 1) := dk_172 (dk_at dksX0_count_0 16 rfl rfl)
abbrev cX0_cuts : ByteArray := method_16_code
def yX0_cuts : MethodName := ⟨RX0, "cuts", "(LCakeTastes;III[J)I"⟩
def dkwX0_cuts_1 : List UInt8 := [172]
abbrev dktX0_cuts_1 : List UInt8 := dkwX0_cuts_1 ++ []
def dkwX0_cuts_0 : List UInt8 := [25, 4, 3, 42, 27, 28, 29, 182, 0, 59, 133, 80, 167, 0, 11, 58, 5, 4, 172, 58, 5, 5, 172, 3]
abbrev dktX0_cuts_0 : List UInt8 := dkwX0_cuts_0 ++ dktX0_cuts_1
theorem dksX0_cuts_0 : cX0_cuts.data.toList.drop 0 = dktX0_cuts_0 := by decide +kernel
theorem dksX0_cuts_1 : cX0_cuts.data.toList.drop 24 = dktX0_cuts_1 := dk_seg dksX0_cuts_0 24 rfl rfl
theorem dX0_cuts_0 : decode cX0_cuts 0 = .ok (.aload 4, 2) := dk_25 4 (dk_at dksX0_cuts_0 0 rfl rfl)
theorem dX0_cuts_2 : decode cX0_cuts 2 = .ok (.iconst 0, 1) := dk_3 (dk_at dksX0_cuts_0 2 rfl rfl)
theorem dX0_cuts_3 : decode cX0_cuts 3 = .ok (.aload_n 0, 1) := dk_42 (dk_at dksX0_cuts_0 3 rfl rfl)
theorem dX0_cuts_4 : decode cX0_cuts 4 = .ok (.iload_n 1, 1) := dk_27 (dk_at dksX0_cuts_0 4 rfl rfl)
theorem dX0_cuts_5 : decode cX0_cuts 5 = .ok (.iload_n 2, 1) := dk_28 (dk_at dksX0_cuts_0 5 rfl rfl)
theorem dX0_cuts_6 : decode cX0_cuts 6 = .ok (.iload_n 3, 1) := dk_29 (dk_at dksX0_cuts_0 6 rfl rfl)
theorem dX0_cuts_7 : decode cX0_cuts 7 = .ok (.invokevirtual 59, 3) := dk_182 0 59 (dk_at dksX0_cuts_0 7 rfl rfl)
theorem dX0_cuts_10 : decode cX0_cuts 10 = .ok (.i2l, 1) := dk_133 (dk_at dksX0_cuts_0 10 rfl rfl)
theorem dX0_cuts_11 : decode cX0_cuts 11 = .ok (.lastore, 1) := dk_80 (dk_at dksX0_cuts_0 11 rfl rfl)
theorem dX0_cuts_12 : decode cX0_cuts 12 = .ok (.goto 11, 3) := dk_167 0 11 (dk_at dksX0_cuts_0 12 rfl rfl)
theorem dX0_cuts_15 : decode cX0_cuts 15 = .ok (.astore 5, 2) := dk_58 5 (dk_at dksX0_cuts_0 15 rfl rfl)
theorem dX0_cuts_17 : decode cX0_cuts 17 = .ok (.iconst 1, 1) := dk_4 (dk_at dksX0_cuts_0 17 rfl rfl)
theorem dX0_cuts_18 : decode cX0_cuts 18 = .ok (.ireturn, 1) := dk_172 (dk_at dksX0_cuts_0 18 rfl rfl)
theorem dX0_cuts_19 : decode cX0_cuts 19 = .ok (.astore 5, 2) := dk_58 5 (dk_at dksX0_cuts_0 19 rfl rfl)
theorem dX0_cuts_21 : decode cX0_cuts 21 = .ok (.iconst 2, 1) := dk_5 (dk_at dksX0_cuts_0 21 rfl rfl)
theorem dX0_cuts_22 : decode cX0_cuts 22 = .ok (.ireturn, 1) := dk_172 (dk_at dksX0_cuts_0 22 rfl rfl)
theorem dX0_cuts_23 : decode cX0_cuts 23 = .ok (.iconst 0, 1) := dk_3 (dk_at dksX0_cuts_0 23 rfl rfl)
theorem dX0_cuts_24 : decode cX0_cuts 24 = .ok (.ireturn, 1) := dk_172 (dk_at dksX0_cuts_1 0 rfl rfl)
abbrev cX0_would : ByteArray := method_17_code
def yX0_would : MethodName := ⟨RX0, "would", "(LCakeTastes;I[J)I"⟩
def dkwX0_would_0 : List UInt8 := [44, 3, 42, 27, 182, 0, 62, 133, 80, 167, 0, 6, 78, 4, 172, 3, 172]
abbrev dktX0_would_0 : List UInt8 := dkwX0_would_0 ++ []
theorem dksX0_would_0 : cX0_would.data.toList.drop 0 = dktX0_would_0 := by decide +kernel
theorem dX0_would_0 : decode cX0_would 0 = .ok (.aload_n 2, 1) := dk_44 (dk_at dksX0_would_0 0 rfl rfl)
theorem dX0_would_1 : decode cX0_would 1 = .ok (.iconst 0, 1) := dk_3 (dk_at dksX0_would_0 1 rfl rfl)
theorem dX0_would_2 : decode cX0_would 2 = .ok (.aload_n 0, 1) := dk_42 (dk_at dksX0_would_0 2 rfl rfl)
theorem dX0_would_3 : decode cX0_would 3 = .ok (.iload_n 1, 1) := dk_27 (dk_at dksX0_would_0 3 rfl rfl)
theorem dX0_would_4 : decode cX0_would 4 = .ok (.invokevirtual 62, 3) := dk_182 0 62 (dk_at dksX0_would_0 4 rfl rfl)
theorem dX0_would_7 : decode cX0_would 7 = .ok (.i2l, 1) := dk_133 (dk_at dksX0_would_0 7 rfl rfl)
theorem dX0_would_8 : decode cX0_would 8 = .ok (.lastore, 1) := dk_80 (dk_at dksX0_would_0 8 rfl rfl)
theorem dX0_would_9 : decode cX0_would 9 = .ok (.goto 6, 3) := dk_167 0 6 (dk_at dksX0_would_0 9 rfl rfl)
theorem dX0_would_12 : decode cX0_would 12 = .ok (.astore_n 3, 1) := dk_78 (dk_at dksX0_would_0 12 rfl rfl)
theorem dX0_would_13 : decode cX0_would 13 = .ok (.iconst 1, 1) := dk_4 (dk_at dksX0_would_0 13 rfl rfl)
theorem dX0_would_14 : decode cX0_would 14 = .ok (.ireturn, 1) := dk_172 (dk_at dksX0_would_0 14 rfl rfl)
theorem dX0_would_15 : decode cX0_would 15 = .ok (.iconst 0, 1) := dk_3 (dk_at dksX0_would_0 15 rfl rfl)
theorem dX0_would_16 : decode cX0_would 16 = .ok (.ireturn, 1) := dk_172 (dk_at dksX0_would_0 16 rfl rfl)
theorem q33 : (Jvm.Cond.initialized "CakeTastesLaw") ∈ lw_all := lw_g (lw_at lw_m1 0 rfl) rfl
theorem q62 : (Jvm.Cond.classLink "CakeTastesLaw" (8 : Nat) "CakeTastes") ∈ lw_all := lw_g (lw_at lw_m1 29 rfl) rfl
theorem q64 : (Jvm.Cond.methodLink "CakeTastesLaw" (65 : Nat) ({ cls := "CakeTastes", name := "<init>", desc := "()V" } : Jvm.MethodName)) ∈ lw_all := lw_g (lw_at lw_m1 31 rfl) rfl
theorem q204 : (Jvm.Cond.methodLink "CakeTastesLaw" (123 : Nat) ({ cls := "CakeTastes", name := "best", desc := "()I" } : Jvm.MethodName)) ∈ lw_all := lw_g (lw_at lw_m1 171 rfl) rfl
theorem q444 : (Jvm.Cond.methodLink "CakeTastesLaw" (127 : Nat) ({ cls := "CakeTastes", name := "change", desc := "()I" } : Jvm.MethodName)) ∈ lw_all := lw_g (lw_at lw_m2 171 rfl) rfl
theorem q453 : (Jvm.Cond.methodLink "CakeTastesLaw" (131 : Nat) ({ cls := "CakeTastes", name := "mean", desc := "()D" } : Jvm.MethodName)) ∈ lw_all := lw_g (lw_at lw_m2 180 rfl) rfl
theorem q462 : (Jvm.Cond.methodLink "CakeTastesLaw" (136 : Nat) ({ cls := "CakeTastes", name := "digest", desc := "()J" } : Jvm.MethodName)) ∈ lw_all := lw_g (lw_at lw_m2 189 rfl) rfl
theorem q502 : (Jvm.Cond.methodLink "CakeTastesLaw" (69 : Nat) ({ cls := "CakeTastesLaw", name := "bake", desc := "(LCakeTastes;I[J)I" } : Jvm.MethodName)) ∈ lw_all := lw_g (lw_at lw_m2 229 rfl) rfl
theorem q503 : (Jvm.Cond.static ({ cls := "CakeTastesLaw", name := "bake", desc := "(LCakeTastes;I[J)I" } : Jvm.MethodName)) ∈ lw_all := lw_g (lw_at lw_m2 230 rfl) rfl
theorem q504 : (Jvm.Cond.codeWith ({ cls := "CakeTastesLaw", name := "bake", desc := "(LCakeTastes;I[J)I" } : Jvm.MethodName) method_3_code (4 : Nat) (Option.some Jvm.ClassFile.FieldType.int) [((0 : Nat), (9 : Nat), (12 : Nat), (13 : Nat))]) ∈ lw_all := lw_g (lw_at lw_m2 231 rfl) rfl
theorem q505 : (Jvm.Cond.classLink "CakeTastesLaw" (13 : Nat) "java/lang/IllegalArgumentException") ∈ lw_all := lw_g (lw_at lw_m2 232 rfl) rfl
theorem q506 : (Jvm.Cond.methodLink "CakeTastesLaw" (7 : Nat) ({ cls := "CakeTastes", name := "bake", desc := "(I)I" } : Jvm.MethodName)) ∈ lw_all := lw_g (lw_at lw_m2 233 rfl) rfl
theorem q578 : (Jvm.Cond.methodLink "CakeTastesLaw" (78 : Nat) ({ cls := "CakeTastesLaw", name := "ice", desc := "(LCakeTastes;II[J)I" } : Jvm.MethodName)) ∈ lw_all := lw_g (lw_at lw_m3 65 rfl) rfl
theorem q579 : (Jvm.Cond.static ({ cls := "CakeTastesLaw", name := "ice", desc := "(LCakeTastes;II[J)I" } : Jvm.MethodName)) ∈ lw_all := lw_g (lw_at lw_m3 66 rfl) rfl
theorem q580 : (Jvm.Cond.codeWith ({ cls := "CakeTastesLaw", name := "ice", desc := "(LCakeTastes;II[J)I" } : Jvm.MethodName) method_4_code (5 : Nat) (Option.some Jvm.ClassFile.FieldType.int) [((0 : Nat), (10 : Nat), (13 : Nat), (19 : Nat))]) ∈ lw_all := lw_g (lw_at lw_m3 67 rfl) rfl
theorem q581 : (Jvm.Cond.classLink "CakeTastesLaw" (19 : Nat) "java/lang/IndexOutOfBoundsException") ∈ lw_all := lw_g (lw_at lw_m3 68 rfl) rfl
theorem q614 : (Jvm.Cond.methodLink "CakeTastesLaw" (15 : Nat) ({ cls := "CakeTastes", name := "ice", desc := "(II)I" } : Jvm.MethodName)) ∈ lw_all := lw_g (lw_at lw_m3 101 rfl) rfl
theorem q643 : (Jvm.Cond.methodLink "CakeTastesLaw" (82 : Nat) ({ cls := "CakeTastesLaw", name := "come", desc := "(LCakeTastes;[J)I" } : Jvm.MethodName)) ∈ lw_all := lw_g (lw_at lw_m3 130 rfl) rfl
theorem q644 : (Jvm.Cond.static ({ cls := "CakeTastesLaw", name := "come", desc := "(LCakeTastes;[J)I" } : Jvm.MethodName)) ∈ lw_all := lw_g (lw_at lw_m3 131 rfl) rfl
theorem q645 : (Jvm.Cond.codeWith ({ cls := "CakeTastesLaw", name := "come", desc := "(LCakeTastes;[J)I" } : Jvm.MethodName) method_5_code (3 : Nat) (Option.some Jvm.ClassFile.FieldType.int) [((0 : Nat), (8 : Nat), (11 : Nat), (25 : Nat))]) ∈ lw_all := lw_g (lw_at lw_m3 132 rfl) rfl
theorem q646 : (Jvm.Cond.classLink "CakeTastesLaw" (25 : Nat) "java/lang/IllegalStateException") ∈ lw_all := lw_g (lw_at lw_m3 133 rfl) rfl
theorem q647 : (Jvm.Cond.methodLink "CakeTastesLaw" (21 : Nat) ({ cls := "CakeTastes", name := "come", desc := "()I" } : Jvm.MethodName)) ∈ lw_all := lw_g (lw_at lw_m3 134 rfl) rfl
theorem q681 : (Jvm.Cond.methodLink "CakeTastesLaw" (86 : Nat) ({ cls := "CakeTastesLaw", name := "setTaste", desc := "(LCakeTastes;III[J)I" } : Jvm.MethodName)) ∈ lw_all := lw_g (lw_at lw_m3 168 rfl) rfl
theorem q682 : (Jvm.Cond.static ({ cls := "CakeTastesLaw", name := "setTaste", desc := "(LCakeTastes;III[J)I" } : Jvm.MethodName)) ∈ lw_all := lw_g (lw_at lw_m3 169 rfl) rfl
theorem q683 : (Jvm.Cond.codeWith ({ cls := "CakeTastesLaw", name := "setTaste", desc := "(LCakeTastes;III[J)I" } : Jvm.MethodName) method_6_code (6 : Nat) (Option.some Jvm.ClassFile.FieldType.int) [((0 : Nat), (12 : Nat), (15 : Nat), (19 : Nat)), ((0 : Nat), (12 : Nat), (19 : Nat), (13 : Nat))]) ∈ lw_all := lw_g (lw_at lw_m3 170 rfl) rfl
theorem q684 : (Jvm.Cond.methodLink "CakeTastesLaw" (27 : Nat) ({ cls := "CakeTastes", name := "setTaste", desc := "(III)I" } : Jvm.MethodName)) ∈ lw_all := lw_g (lw_at lw_m3 171 rfl) rfl
theorem q688 : (Jvm.Cond.methodLink "CakeTastesLaw" (90 : Nat) ({ cls := "CakeTastesLaw", name := "give", desc := "(LCakeTastes;II[J)I" } : Jvm.MethodName)) ∈ lw_all := lw_g (lw_at lw_m3 175 rfl) rfl
theorem q689 : (Jvm.Cond.static ({ cls := "CakeTastesLaw", name := "give", desc := "(LCakeTastes;II[J)I" } : Jvm.MethodName)) ∈ lw_all := lw_g (lw_at lw_m3 176 rfl) rfl
theorem q690 : (Jvm.Cond.codeWith ({ cls := "CakeTastesLaw", name := "give", desc := "(LCakeTastes;II[J)I" } : Jvm.MethodName) method_7_code (5 : Nat) (Option.some Jvm.ClassFile.FieldType.int) [((0 : Nat), (10 : Nat), (13 : Nat), (19 : Nat))]) ∈ lw_all := lw_g (lw_at lw_m3 177 rfl) rfl
theorem q691 : (Jvm.Cond.methodLink "CakeTastesLaw" (31 : Nat) ({ cls := "CakeTastes", name := "give", desc := "(II)I" } : Jvm.MethodName)) ∈ lw_all := lw_g (lw_at lw_m3 178 rfl) rfl
theorem q695 : (Jvm.Cond.methodLink "CakeTastesLaw" (93 : Nat) ({ cls := "CakeTastesLaw", name := "share", desc := "(LCakeTastes;I[J)I" } : Jvm.MethodName)) ∈ lw_all := lw_g (lw_at lw_m3 182 rfl) rfl
theorem q696 : (Jvm.Cond.static ({ cls := "CakeTastesLaw", name := "share", desc := "(LCakeTastes;I[J)I" } : Jvm.MethodName)) ∈ lw_all := lw_g (lw_at lw_m3 183 rfl) rfl
theorem q697 : (Jvm.Cond.codeWith ({ cls := "CakeTastesLaw", name := "share", desc := "(LCakeTastes;I[J)I" } : Jvm.MethodName) method_8_code (4 : Nat) (Option.some Jvm.ClassFile.FieldType.int) [((0 : Nat), (9 : Nat), (12 : Nat), (19 : Nat)), ((0 : Nat), (9 : Nat), (15 : Nat), (25 : Nat))]) ∈ lw_all := lw_g (lw_at lw_m3 184 rfl) rfl
theorem q698 : (Jvm.Cond.methodLink "CakeTastesLaw" (34 : Nat) ({ cls := "CakeTastes", name := "share", desc := "(I)I" } : Jvm.MethodName)) ∈ lw_all := lw_g (lw_at lw_m3 185 rfl) rfl
theorem q706 : (Jvm.Cond.methodLink "CakeTastesLaw" (96 : Nat) ({ cls := "CakeTastesLaw", name := "crumbs", desc := "(LCakeTastes;[J)I" } : Jvm.MethodName)) ∈ lw_all := lw_g (lw_at lw_m3 193 rfl) rfl
theorem q707 : (Jvm.Cond.static ({ cls := "CakeTastesLaw", name := "crumbs", desc := "(LCakeTastes;[J)I" } : Jvm.MethodName)) ∈ lw_all := lw_g (lw_at lw_m3 194 rfl) rfl
theorem q708 : (Jvm.Cond.codeWith ({ cls := "CakeTastesLaw", name := "crumbs", desc := "(LCakeTastes;[J)I" } : Jvm.MethodName) method_9_code (3 : Nat) (Option.some Jvm.ClassFile.FieldType.int) [((0 : Nat), (8 : Nat), (11 : Nat), (25 : Nat))]) ∈ lw_all := lw_g (lw_at lw_m3 195 rfl) rfl
theorem q709 : (Jvm.Cond.methodLink "CakeTastesLaw" (37 : Nat) ({ cls := "CakeTastes", name := "crumbs", desc := "()I" } : Jvm.MethodName)) ∈ lw_all := lw_g (lw_at lw_m3 196 rfl) rfl
theorem q714 : (Jvm.Cond.methodLink "CakeTastesLaw" (99 : Nat) ({ cls := "CakeTastesLaw", name := "swap", desc := "(LCakeTastes;II[J)I" } : Jvm.MethodName)) ∈ lw_all := lw_g (lw_at lw_m3 201 rfl) rfl
theorem q715 : (Jvm.Cond.static ({ cls := "CakeTastesLaw", name := "swap", desc := "(LCakeTastes;II[J)I" } : Jvm.MethodName)) ∈ lw_all := lw_g (lw_at lw_m3 202 rfl) rfl
theorem q716 : (Jvm.Cond.codeWith ({ cls := "CakeTastesLaw", name := "swap", desc := "(LCakeTastes;II[J)I" } : Jvm.MethodName) method_10_code (5 : Nat) (Option.some Jvm.ClassFile.FieldType.int) [((0 : Nat), (17 : Nat), (20 : Nat), (19 : Nat)), ((0 : Nat), (17 : Nat), (24 : Nat), (13 : Nat))]) ∈ lw_all := lw_g (lw_at lw_m3 203 rfl) rfl
theorem q717 : (Jvm.Cond.methodLink "CakeTastesLaw" (40 : Nat) ({ cls := "CakeTastes", name := "swap", desc := "(II)Z" } : Jvm.MethodName)) ∈ lw_all := lw_g (lw_at lw_m3 204 rfl) rfl
theorem q725 : (Jvm.Cond.methodLink "CakeTastesLaw" (102 : Nat) ({ cls := "CakeTastesLaw", name := "told", desc := "(LCakeTastes;II[J)I" } : Jvm.MethodName)) ∈ lw_all := lw_g (lw_at lw_m3 212 rfl) rfl
theorem q726 : (Jvm.Cond.static ({ cls := "CakeTastesLaw", name := "told", desc := "(LCakeTastes;II[J)I" } : Jvm.MethodName)) ∈ lw_all := lw_g (lw_at lw_m3 213 rfl) rfl
theorem q727 : (Jvm.Cond.codeWith ({ cls := "CakeTastesLaw", name := "told", desc := "(LCakeTastes;II[J)I" } : Jvm.MethodName) method_11_code (5 : Nat) (Option.some Jvm.ClassFile.FieldType.int) [((0 : Nat), (10 : Nat), (13 : Nat), (19 : Nat))]) ∈ lw_all := lw_g (lw_at lw_m3 214 rfl) rfl
theorem q728 : (Jvm.Cond.methodLink "CakeTastesLaw" (44 : Nat) ({ cls := "CakeTastes", name := "told", desc := "(II)I" } : Jvm.MethodName)) ∈ lw_all := lw_g (lw_at lw_m3 215 rfl) rfl
theorem q732 : (Jvm.Cond.methodLink "CakeTastesLaw" (105 : Nat) ({ cls := "CakeTastesLaw", name := "worth", desc := "(LCakeTastes;II[J)I" } : Jvm.MethodName)) ∈ lw_all := lw_g (lw_at lw_m3 219 rfl) rfl
theorem q733 : (Jvm.Cond.static ({ cls := "CakeTastesLaw", name := "worth", desc := "(LCakeTastes;II[J)I" } : Jvm.MethodName)) ∈ lw_all := lw_g (lw_at lw_m3 220 rfl) rfl
theorem q734 : (Jvm.Cond.codeWith ({ cls := "CakeTastesLaw", name := "worth", desc := "(LCakeTastes;II[J)I" } : Jvm.MethodName) method_12_code (5 : Nat) (Option.some Jvm.ClassFile.FieldType.int) [((0 : Nat), (10 : Nat), (13 : Nat), (19 : Nat))]) ∈ lw_all := lw_g (lw_at lw_m3 221 rfl) rfl
theorem q735 : (Jvm.Cond.methodLink "CakeTastesLaw" (47 : Nat) ({ cls := "CakeTastes", name := "worth", desc := "(II)I" } : Jvm.MethodName)) ∈ lw_all := lw_g (lw_at lw_m3 222 rfl) rfl
theorem q739 : (Jvm.Cond.methodLink "CakeTastesLaw" (108 : Nat) ({ cls := "CakeTastesLaw", name := "about", desc := "(LCakeTastes;II[J)I" } : Jvm.MethodName)) ∈ lw_all := lw_g (lw_at lw_m3 226 rfl) rfl
theorem q740 : (Jvm.Cond.static ({ cls := "CakeTastesLaw", name := "about", desc := "(LCakeTastes;II[J)I" } : Jvm.MethodName)) ∈ lw_all := lw_g (lw_at lw_m3 227 rfl) rfl
theorem q741 : (Jvm.Cond.codeWith ({ cls := "CakeTastesLaw", name := "about", desc := "(LCakeTastes;II[J)I" } : Jvm.MethodName) method_13_code (5 : Nat) (Option.some Jvm.ClassFile.FieldType.int) [((0 : Nat), (10 : Nat), (13 : Nat), (19 : Nat))]) ∈ lw_all := lw_g (lw_at lw_m3 228 rfl) rfl
theorem q742 : (Jvm.Cond.methodLink "CakeTastesLaw" (50 : Nat) ({ cls := "CakeTastes", name := "about", desc := "(II)I" } : Jvm.MethodName)) ∈ lw_all := lw_g (lw_at lw_m3 229 rfl) rfl
theorem q746 : (Jvm.Cond.methodLink "CakeTastesLaw" (111 : Nat) ({ cls := "CakeTastesLaw", name := "taste", desc := "(LCakeTastes;II[J)I" } : Jvm.MethodName)) ∈ lw_all := lw_g (lw_at lw_m3 233 rfl) rfl
theorem q747 : (Jvm.Cond.static ({ cls := "CakeTastesLaw", name := "taste", desc := "(LCakeTastes;II[J)I" } : Jvm.MethodName)) ∈ lw_all := lw_g (lw_at lw_m3 234 rfl) rfl
theorem q748 : (Jvm.Cond.codeWith ({ cls := "CakeTastesLaw", name := "taste", desc := "(LCakeTastes;II[J)I" } : Jvm.MethodName) method_14_code (5 : Nat) (Option.some Jvm.ClassFile.FieldType.int) [((0 : Nat), (10 : Nat), (13 : Nat), (19 : Nat))]) ∈ lw_all := lw_g (lw_at lw_m3 235 rfl) rfl
theorem q749 : (Jvm.Cond.methodLink "CakeTastesLaw" (53 : Nat) ({ cls := "CakeTastes", name := "taste", desc := "(II)I" } : Jvm.MethodName)) ∈ lw_all := lw_g (lw_at lw_m3 236 rfl) rfl
theorem q753 : (Jvm.Cond.methodLink "CakeTastesLaw" (114 : Nat) ({ cls := "CakeTastesLaw", name := "count", desc := "(LCakeTastes;I[J)I" } : Jvm.MethodName)) ∈ lw_all := lw_g (lw_at lw_m4 0 rfl) rfl
theorem q754 : (Jvm.Cond.static ({ cls := "CakeTastesLaw", name := "count", desc := "(LCakeTastes;I[J)I" } : Jvm.MethodName)) ∈ lw_all := lw_g (lw_at lw_m4 1 rfl) rfl
theorem q755 : (Jvm.Cond.codeWith ({ cls := "CakeTastesLaw", name := "count", desc := "(LCakeTastes;I[J)I" } : Jvm.MethodName) method_15_code (4 : Nat) (Option.some Jvm.ClassFile.FieldType.int) [((0 : Nat), (9 : Nat), (12 : Nat), (19 : Nat))]) ∈ lw_all := lw_g (lw_at lw_m4 2 rfl) rfl
theorem q756 : (Jvm.Cond.methodLink "CakeTastesLaw" (56 : Nat) ({ cls := "CakeTastes", name := "count", desc := "(I)I" } : Jvm.MethodName)) ∈ lw_all := lw_g (lw_at lw_m4 3 rfl) rfl
theorem q760 : (Jvm.Cond.methodLink "CakeTastesLaw" (117 : Nat) ({ cls := "CakeTastesLaw", name := "cuts", desc := "(LCakeTastes;III[J)I" } : Jvm.MethodName)) ∈ lw_all := lw_g (lw_at lw_m4 7 rfl) rfl
theorem q761 : (Jvm.Cond.static ({ cls := "CakeTastesLaw", name := "cuts", desc := "(LCakeTastes;III[J)I" } : Jvm.MethodName)) ∈ lw_all := lw_g (lw_at lw_m4 8 rfl) rfl
theorem q762 : (Jvm.Cond.codeWith ({ cls := "CakeTastesLaw", name := "cuts", desc := "(LCakeTastes;III[J)I" } : Jvm.MethodName) method_16_code (6 : Nat) (Option.some Jvm.ClassFile.FieldType.int) [((0 : Nat), (12 : Nat), (15 : Nat), (13 : Nat)), ((0 : Nat), (12 : Nat), (19 : Nat), (19 : Nat))]) ∈ lw_all := lw_g (lw_at lw_m4 9 rfl) rfl
theorem q763 : (Jvm.Cond.methodLink "CakeTastesLaw" (59 : Nat) ({ cls := "CakeTastes", name := "cuts", desc := "(III)I" } : Jvm.MethodName)) ∈ lw_all := lw_g (lw_at lw_m4 10 rfl) rfl
theorem q769 : (Jvm.Cond.methodLink "CakeTastesLaw" (120 : Nat) ({ cls := "CakeTastesLaw", name := "would", desc := "(LCakeTastes;I[J)I" } : Jvm.MethodName)) ∈ lw_all := lw_g (lw_at lw_m4 16 rfl) rfl
theorem q770 : (Jvm.Cond.static ({ cls := "CakeTastesLaw", name := "would", desc := "(LCakeTastes;I[J)I" } : Jvm.MethodName)) ∈ lw_all := lw_g (lw_at lw_m4 17 rfl) rfl
theorem q771 : (Jvm.Cond.codeWith ({ cls := "CakeTastesLaw", name := "would", desc := "(LCakeTastes;I[J)I" } : Jvm.MethodName) method_17_code (4 : Nat) (Option.some Jvm.ClassFile.FieldType.int) [((0 : Nat), (9 : Nat), (12 : Nat), (19 : Nat))]) ∈ lw_all := lw_g (lw_at lw_m4 18 rfl) rfl
theorem q772 : (Jvm.Cond.methodLink "CakeTastesLaw" (62 : Nat) ({ cls := "CakeTastes", name := "would", desc := "(I)I" } : Jvm.MethodName)) ∈ lw_all := lw_g (lw_at lw_m4 19 rfl) rfl
theorem q776 : (Jvm.Cond.classLink "CakeTastesLaw" (66 : Nat) "CakeTastesModel") ∈ lw_all := lw_g (lw_at lw_m4 23 rfl) rfl
theorem q778 : (Jvm.Cond.methodLink "CakeTastesLaw" (68 : Nat) ({ cls := "CakeTastesModel", name := "<init>", desc := "()V" } : Jvm.MethodName)) ∈ lw_all := lw_g (lw_at lw_m4 25 rfl) rfl
theorem q812 : (Jvm.Cond.methodLink "CakeTastesLaw" (75 : Nat) ({ cls := "CakeTastesModel", name := "thrown", desc := "()I" } : Jvm.MethodName)) ∈ lw_all := lw_g (lw_at lw_m4 59 rfl) rfl
theorem q816 : (Jvm.Cond.methodLink "CakeTastesLaw" (74 : Nat) ({ cls := "CakeTastesModel", name := "bake", desc := "(I)I" } : Jvm.MethodName)) ∈ lw_all := lw_g (lw_at lw_m4 63 rfl) rfl
theorem q827 : (Jvm.Cond.methodLink "CakeTastesLaw" (81 : Nat) ({ cls := "CakeTastesModel", name := "ice", desc := "(II)I" } : Jvm.MethodName)) ∈ lw_all := lw_g (lw_at lw_m4 74 rfl) rfl
theorem q838 : (Jvm.Cond.methodLink "CakeTastesLaw" (85 : Nat) ({ cls := "CakeTastesModel", name := "come", desc := "()I" } : Jvm.MethodName)) ∈ lw_all := lw_g (lw_at lw_m4 85 rfl) rfl
theorem q842 : (Jvm.Cond.methodLink "CakeTastesLaw" (89 : Nat) ({ cls := "CakeTastesModel", name := "setTaste", desc := "(III)I" } : Jvm.MethodName)) ∈ lw_all := lw_g (lw_at lw_m4 89 rfl) rfl
theorem q850 : (Jvm.Cond.methodLink "CakeTastesLaw" (92 : Nat) ({ cls := "CakeTastesModel", name := "give", desc := "(II)I" } : Jvm.MethodName)) ∈ lw_all := lw_g (lw_at lw_m4 97 rfl) rfl
theorem q854 : (Jvm.Cond.methodLink "CakeTastesLaw" (95 : Nat) ({ cls := "CakeTastesModel", name := "share", desc := "(I)I" } : Jvm.MethodName)) ∈ lw_all := lw_g (lw_at lw_m4 101 rfl) rfl
theorem q904 : (Jvm.Cond.methodLink "CakeTastesLaw" (98 : Nat) ({ cls := "CakeTastesModel", name := "crumbs", desc := "()I" } : Jvm.MethodName)) ∈ lw_all := lw_g (lw_at lw_m4 151 rfl) rfl
theorem q912 : (Jvm.Cond.methodLink "CakeTastesLaw" (101 : Nat) ({ cls := "CakeTastesModel", name := "swap", desc := "(II)Z" } : Jvm.MethodName)) ∈ lw_all := lw_g (lw_at lw_m4 159 rfl) rfl
theorem q920 : (Jvm.Cond.methodLink "CakeTastesLaw" (104 : Nat) ({ cls := "CakeTastesModel", name := "told", desc := "(II)I" } : Jvm.MethodName)) ∈ lw_all := lw_g (lw_at lw_m4 167 rfl) rfl
theorem q924 : (Jvm.Cond.methodLink "CakeTastesLaw" (107 : Nat) ({ cls := "CakeTastesModel", name := "worth", desc := "(II)I" } : Jvm.MethodName)) ∈ lw_all := lw_g (lw_at lw_m4 171 rfl) rfl
theorem q928 : (Jvm.Cond.methodLink "CakeTastesLaw" (110 : Nat) ({ cls := "CakeTastesModel", name := "about", desc := "(II)I" } : Jvm.MethodName)) ∈ lw_all := lw_g (lw_at lw_m4 175 rfl) rfl
theorem q944 : (Jvm.Cond.methodLink "CakeTastesLaw" (113 : Nat) ({ cls := "CakeTastesModel", name := "taste", desc := "(II)I" } : Jvm.MethodName)) ∈ lw_all := lw_g (lw_at lw_m4 191 rfl) rfl
theorem q948 : (Jvm.Cond.methodLink "CakeTastesLaw" (116 : Nat) ({ cls := "CakeTastesModel", name := "count", desc := "(I)I" } : Jvm.MethodName)) ∈ lw_all := lw_g (lw_at lw_m4 195 rfl) rfl
theorem q960 : (Jvm.Cond.methodLink "CakeTastesLaw" (119 : Nat) ({ cls := "CakeTastesModel", name := "cuts", desc := "(III)I" } : Jvm.MethodName)) ∈ lw_all := lw_g (lw_at lw_m4 207 rfl) rfl
theorem q964 : (Jvm.Cond.methodLink "CakeTastesLaw" (122 : Nat) ({ cls := "CakeTastesModel", name := "would", desc := "(I)I" } : Jvm.MethodName)) ∈ lw_all := lw_g (lw_at lw_m4 211 rfl) rfl
theorem q972 : (Jvm.Cond.methodLink "CakeTastesLaw" (126 : Nat) ({ cls := "CakeTastesModel", name := "best", desc := "()I" } : Jvm.MethodName)) ∈ lw_all := lw_g (lw_at lw_m4 219 rfl) rfl
theorem q976 : (Jvm.Cond.methodLink "CakeTastesLaw" (130 : Nat) ({ cls := "CakeTastesModel", name := "change", desc := "()I" } : Jvm.MethodName)) ∈ lw_all := lw_g (lw_at lw_m4 223 rfl) rfl
theorem q980 : (Jvm.Cond.methodLink "CakeTastesLaw" (135 : Nat) ({ cls := "CakeTastesModel", name := "mean", desc := "()D" } : Jvm.MethodName)) ∈ lw_all := lw_g (lw_at lw_m4 227 rfl) rfl
theorem q984 : (Jvm.Cond.methodLink "CakeTastesLaw" (140 : Nat) ({ cls := "CakeTastesModel", name := "digest", desc := "()J" } : Jvm.MethodName)) ∈ lw_all := lw_g (lw_at lw_m4 231 rfl) rfl
