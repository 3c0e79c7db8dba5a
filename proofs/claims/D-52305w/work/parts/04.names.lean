/-! CakeTastes$Table -/
set_option maxRecDepth 100000
def RX2 : String := "CakeTastes$Table"
def TX2 : u_T := fun k => match k with
  | 0 => ("CakeTastes$Table", "eaters", "Ljava/util/List;", true)
  | _ => ("CakeTastes$Table", "slices", "Ljava/util/ArrayList;", true)
def tyX2 : Nat → FieldType := fun k => match k with
  | 0 => .object "java/util/List"
  | _ => .object "java/util/ArrayList"
abbrev wsX20 : List Cond := u_ws RX2 TX2 2
theorem nmX2 : ∀ a, a < 2 → ∀ b, b < 2 → a ≠ b → (TX2 a).2.1 ≠ (TX2 b).2.1 := by decide +kernel
theorem tyX2_ok : ∀ k, k < 2 → parseFieldDescriptor (TX2 k).2.2.1 = some (tyX2 k) := by decide +kernel
abbrev cX2_init : ByteArray := prog_5_method_1_code
def yX2_init : MethodName := ⟨RX2, "<init>", "(Ljava/util/List;)V"⟩
def dkwX2_init_0 : List UInt8 := [42, 183, 0, 3, 42, 187, 0, 9, 89, 183, 0, 11, 181, 0, 12, 42, 43, 181, 0, 18, 177]
abbrev dktX2_init_0 : List UInt8 := dkwX2_init_0 ++ []
theorem dksX2_init_0 : cX2_init.data.toList.drop 0 = dktX2_init_0 := by decide +kernel
theorem dX2_init_0 : decode cX2_init 0 = .ok (.aload_n 0, 1) := dk_42 (dk_at dksX2_init_0 0 rfl rfl)
theorem dX2_init_1 : decode cX2_init 1 = .ok (.invokespecial 3, 3) := dk_183 0 3 (dk_at dksX2_init_0 1 rfl rfl)
theorem dX2_init_4 : decode cX2_init 4 = .ok (.aload_n 0, 1) := dk_42 (dk_at dksX2_init_0 4 rfl rfl)
theorem dX2_init_5 : decode cX2_init 5 = .ok (.new 9, 3) := dk_187 0 9 (dk_at dksX2_init_0 5 rfl rfl)
theorem dX2_init_8 : decode cX2_init 8 = .ok (.dup, 1) := dk_89 (dk_at dksX2_init_0 8 rfl rfl)
theorem dX2_init_9 : decode cX2_init 9 = .ok (.invokespecial 11, 3) := dk_183 0 11 (dk_at dksX2_init_0 9 rfl rfl)
theorem dX2_init_12 : decode cX2_init 12 = .ok (.putfield 12, 3) := dk_181 0 12 (dk_at dksX2_init_0 12 rfl rfl)
theorem dX2_init_15 : decode cX2_init 15 = .ok (.aload_n 0, 1) := dk_42 (dk_at dksX2_init_0 15 rfl rfl)
theorem dX2_init_16 : decode cX2_init 16 = .ok (.aload_n 1, 1) := dk_43 (dk_at dksX2_init_0 16 rfl rfl)
theorem dX2_init_17 : decode cX2_init 17 = .ok (.putfield 18, 3) := dk_181 0 18 (dk_at dksX2_init_0 17 rfl rfl)
theorem dX2_init_20 : decode cX2_init 20 = .ok (.return_, 1) := dk_177 (dk_at dksX2_init_0 20 rfl rfl)
abbrev cX2_canShare : ByteArray := prog_5_method_17_code
def yX2_canShare : MethodName := ⟨RX2, "canShare", "(LCakeTastes$Way;)Z"⟩
def dkwX2_canShare_0 : List UInt8 := [42, 180, 0, 18, 185, 0, 112, 1, 0, 43, 180, 0, 127, 161, 0, 7, 4, 167, 0, 4, 3, 172]
abbrev dktX2_canShare_0 : List UInt8 := dkwX2_canShare_0 ++ []
theorem dksX2_canShare_0 : cX2_canShare.data.toList.drop 0 = dktX2_canShare_0 := by decide +kernel
theorem dX2_canShare_0 : decode cX2_canShare 0 = .ok (.aload_n 0, 1) := dk_42 (dk_at dksX2_canShare_0 0 rfl rfl)
theorem dX2_canShare_1 : decode cX2_canShare 1 = .ok (.getfield 18, 3) := dk_180 0 18 (dk_at dksX2_canShare_0 1 rfl rfl)
theorem dX2_canShare_4 : decode cX2_canShare 4 = .ok (.invokeinterface 112 1, 5) := by decide +kernel
theorem dX2_canShare_9 : decode cX2_canShare 9 = .ok (.aload_n 1, 1) := dk_43 (dk_at dksX2_canShare_0 9 rfl rfl)
theorem dX2_canShare_10 : decode cX2_canShare 10 = .ok (.getfield 127, 3) := dk_180 0 127 (dk_at dksX2_canShare_0 10 rfl rfl)
theorem dX2_canShare_13 : decode cX2_canShare 13 = .ok (.if_icmp .lt 7, 3) := dk_161 0 7 (dk_at dksX2_canShare_0 13 rfl rfl)
theorem dX2_canShare_16 : decode cX2_canShare 16 = .ok (.iconst 1, 1) := dk_4 (dk_at dksX2_canShare_0 16 rfl rfl)
theorem dX2_canShare_17 : decode cX2_canShare 17 = .ok (.goto 4, 3) := dk_167 0 4 (dk_at dksX2_canShare_0 17 rfl rfl)
theorem dX2_canShare_20 : decode cX2_canShare 20 = .ok (.iconst 0, 1) := dk_3 (dk_at dksX2_canShare_0 20 rfl rfl)
theorem dX2_canShare_21 : decode cX2_canShare 21 = .ok (.ireturn, 1) := dk_172 (dk_at dksX2_canShare_0 21 rfl rfl)
abbrev cX2_copy : ByteArray := prog_5_method_2_code
def yX2_copy : MethodName := ⟨RX2, "copy", "()LCakeTastes$Table;"⟩
def dkwX2_copy_2 : List UInt8 := [87, 132, 2, 1, 167, 255, 220, 43, 176]
abbrev dktX2_copy_2 : List UInt8 := dkwX2_copy_2 ++ []
def dkwX2_copy_1 : List UInt8 := [162, 0, 31, 43, 180, 0, 12, 42, 180, 0, 12, 28, 182, 0, 29, 192, 0, 33, 182, 0, 35, 182, 0, 39]
abbrev dktX2_copy_1 : List UInt8 := dkwX2_copy_1 ++ dktX2_copy_2
def dkwX2_copy_0 : List UInt8 := [187, 0, 13, 89, 42, 180, 0, 18, 183, 0, 22, 76, 3, 61, 28, 42, 180, 0, 12, 182, 0, 25]
abbrev dktX2_copy_0 : List UInt8 := dkwX2_copy_0 ++ dktX2_copy_1
theorem dksX2_copy_0 : cX2_copy.data.toList.drop 0 = dktX2_copy_0 := by decide +kernel
theorem dksX2_copy_1 : cX2_copy.data.toList.drop 22 = dktX2_copy_1 := dk_seg dksX2_copy_0 22 rfl rfl
theorem dksX2_copy_2 : cX2_copy.data.toList.drop 46 = dktX2_copy_2 := dk_seg dksX2_copy_1 24 rfl rfl
theorem dX2_copy_0 : decode cX2_copy 0 = .ok (.new 13, 3) := dk_187 0 13 (dk_at dksX2_copy_0 0 rfl rfl)
theorem dX2_copy_3 : decode cX2_copy 3 = .ok (.dup, 1) := dk_89 (dk_at dksX2_copy_0 3 rfl rfl)
theorem dX2_copy_4 : decode cX2_copy 4 = .ok (.aload_n 0, 1) := dk_42 (dk_at dksX2_copy_0 4 rfl rfl)
theorem dX2_copy_5 : decode cX2_copy 5 = .ok (.getfield 18, 3) := dk_180 0 18 (dk_at dksX2_copy_0 5 rfl rfl)
theorem dX2_copy_8 : decode cX2_copy 8 = .ok (.invokespecial 22, 3) := dk_183 0 22 (dk_at dksX2_copy_0 8 rfl rfl)
theorem dX2_copy_11 : decode cX2_copy 11 = .ok (.astore_n 1, 1) := dk_76 (dk_at dksX2_copy_0 11 rfl rfl)
theorem dX2_copy_12 : decode cX2_copy 12 = .ok (.iconst 0, 1) := dk_3 (dk_at dksX2_copy_0 12 rfl rfl)
theorem dX2_copy_13 : decode cX2_copy 13 = .ok (.istore_n 2, 1) := dk_61 (dk_at dksX2_copy_0 13 rfl rfl)
theorem dX2_copy_14 : decode cX2_copy 14 = .ok (.iload_n 2, 1) := dk_28 (dk_at dksX2_copy_0 14 rfl rfl)
theorem dX2_copy_15 : decode cX2_copy 15 = .ok (.aload_n 0, 1) := dk_42 (dk_at dksX2_copy_0 15 rfl rfl)
theorem dX2_copy_16 : decode cX2_copy 16 = .ok (.getfield 12, 3) := dk_180 0 12 (dk_at dksX2_copy_0 16 rfl rfl)
theorem dX2_copy_19 : decode cX2_copy 19 = .ok (.invokevirtual 25, 3) := dk_182 0 25 (dk_at dksX2_copy_0 19 rfl rfl)
theorem dX2_copy_22 : decode cX2_copy 22 = .ok (.if_icmp .ge 31, 3) := dk_162 0 31 (dk_at dksX2_copy_1 0 rfl rfl)
theorem dX2_copy_25 : decode cX2_copy 25 = .ok (.aload_n 1, 1) := dk_43 (dk_at dksX2_copy_1 3 rfl rfl)
theorem dX2_copy_26 : decode cX2_copy 26 = .ok (.getfield 12, 3) := dk_180 0 12 (dk_at dksX2_copy_1 4 rfl rfl)
theorem dX2_copy_29 : decode cX2_copy 29 = .ok (.aload_n 0, 1) := dk_42 (dk_at dksX2_copy_1 7 rfl rfl)
theorem dX2_copy_30 : decode cX2_copy 30 = .ok (.getfield 12, 3) := dk_180 0 12 (dk_at dksX2_copy_1 8 rfl rfl)
theorem dX2_copy_33 : decode cX2_copy 33 = .ok (.iload_n 2, 1) := dk_28 (dk_at dksX2_copy_1 11 rfl rfl)
theorem dX2_copy_34 : decode cX2_copy 34 = .ok (.invokevirtual 29, 3) := dk_182 0 29 (dk_at dksX2_copy_1 12 rfl rfl)
theorem dX2_copy_37 : decode cX2_copy 37 = .ok (.checkcast 33, 3) := dk_192 0 33 (dk_at dksX2_copy_1 15 rfl rfl)
theorem dX2_copy_40 : decode cX2_copy 40 = .ok (.invokevirtual 35, 3) := dk_182 0 35 (dk_at dksX2_copy_1 18 rfl rfl)
theorem dX2_copy_43 : decode cX2_copy 43 = .ok (.invokevirtual 39, 3) := dk_182 0 39 (dk_at dksX2_copy_1 21 rfl rfl)
theorem dX2_copy_46 : decode cX2_copy 46 = .ok (.pop, 1) := dk_87 (dk_at dksX2_copy_2 0 rfl rfl)
theorem dX2_copy_47 : decode cX2_copy 47 = .ok (.iinc 2 1, 3) := dk_132 2 1 (dk_at dksX2_copy_2 1 rfl rfl)
theorem dX2_copy_50 : decode cX2_copy 50 = .ok (.goto (-36), 3) := dk_167 255 220 (dk_at dksX2_copy_2 4 rfl rfl)
theorem dX2_copy_53 : decode cX2_copy 53 = .ok (.aload_n 1, 1) := dk_43 (dk_at dksX2_copy_2 7 rfl rfl)
theorem dX2_copy_54 : decode cX2_copy 54 = .ok (.areturn, 1) := dk_176 (dk_at dksX2_copy_2 8 rfl rfl)
abbrev cX2_share : ByteArray := prog_5_method_18_code
def yX2_share : MethodName := ⟨RX2, "share", "(LCakeTastes$Way;)V"⟩
def dkwX2_share_0 : List UInt8 := [42, 182, 0, 132, 43, 42, 182, 0, 135, 177]
abbrev dktX2_share_0 : List UInt8 := dkwX2_share_0 ++ []
theorem dksX2_share_0 : cX2_share.data.toList.drop 0 = dktX2_share_0 := by decide +kernel
theorem dX2_share_0 : decode cX2_share 0 = .ok (.aload_n 0, 1) := dk_42 (dk_at dksX2_share_0 0 rfl rfl)
theorem dX2_share_1 : decode cX2_share 1 = .ok (.invokevirtual 132, 3) := dk_182 0 132 (dk_at dksX2_share_0 1 rfl rfl)
theorem dX2_share_4 : decode cX2_share 4 = .ok (.aload_n 1, 1) := dk_43 (dk_at dksX2_share_0 4 rfl rfl)
theorem dX2_share_5 : decode cX2_share 5 = .ok (.aload_n 0, 1) := dk_42 (dk_at dksX2_share_0 5 rfl rfl)
theorem dX2_share_6 : decode cX2_share 6 = .ok (.invokevirtual 135, 3) := dk_182 0 135 (dk_at dksX2_share_0 6 rfl rfl)
theorem dX2_share_9 : decode cX2_share 9 = .ok (.return_, 1) := dk_177 (dk_at dksX2_share_0 9 rfl rfl)
abbrev cX2_clear : ByteArray := prog_5_method_13_code
def yX2_clear : MethodName := ⟨RX2, "clear", "()V"⟩
def dkwX2_clear_1 : List UInt8 := [2, 181, 0, 71, 132, 1, 1, 167, 255, 227, 177]
abbrev dktX2_clear_1 : List UInt8 := dkwX2_clear_1 ++ []
def dkwX2_clear_0 : List UInt8 := [3, 60, 27, 42, 180, 0, 12, 182, 0, 25, 162, 0, 24, 42, 180, 0, 12, 27, 182, 0, 29, 192, 0, 33]
abbrev dktX2_clear_0 : List UInt8 := dkwX2_clear_0 ++ dktX2_clear_1
theorem dksX2_clear_0 : cX2_clear.data.toList.drop 0 = dktX2_clear_0 := by decide +kernel
theorem dksX2_clear_1 : cX2_clear.data.toList.drop 24 = dktX2_clear_1 := dk_seg dksX2_clear_0 24 rfl rfl
theorem dX2_clear_0 : decode cX2_clear 0 = .ok (.iconst 0, 1) := dk_3 (dk_at dksX2_clear_0 0 rfl rfl)
theorem dX2_clear_1 : decode cX2_clear 1 = .ok (.istore_n 1, 1) := dk_60 (dk_at dksX2_clear_0 1 rfl rfl)
theorem dX2_clear_2 : decode cX2_clear 2 = .ok (.iload_n 1, 1) := dk_27 (dk_at dksX2_clear_0 2 rfl rfl)
theorem dX2_clear_3 : decode cX2_clear 3 = .ok (.aload_n 0, 1) := dk_42 (dk_at dksX2_clear_0 3 rfl rfl)
theorem dX2_clear_4 : decode cX2_clear 4 = .ok (.getfield 12, 3) := dk_180 0 12 (dk_at dksX2_clear_0 4 rfl rfl)
theorem dX2_clear_7 : decode cX2_clear 7 = .ok (.invokevirtual 25, 3) := dk_182 0 25 (dk_at dksX2_clear_0 7 rfl rfl)
theorem dX2_clear_10 : decode cX2_clear 10 = .ok (.if_icmp .ge 24, 3) := dk_162 0 24 (dk_at dksX2_clear_0 10 rfl rfl)
theorem dX2_clear_13 : decode cX2_clear 13 = .ok (.aload_n 0, 1) := dk_42 (dk_at dksX2_clear_0 13 rfl rfl)
theorem dX2_clear_14 : decode cX2_clear 14 = .ok (.getfield 12, 3) := dk_180 0 12 (dk_at dksX2_clear_0 14 rfl rfl)
theorem dX2_clear_17 : decode cX2_clear 17 = .ok (.iload_n 1, 1) := dk_27 (dk_at dksX2_clear_0 17 rfl rfl)
theorem dX2_clear_18 : decode cX2_clear 18 = .ok (.invokevirtual 29, 3) := dk_182 0 29 (dk_at dksX2_clear_0 18 rfl rfl)
theorem dX2_clear_21 : decode cX2_clear 21 = .ok (.checkcast 33, 3) := dk_192 0 33 (dk_at dksX2_clear_0 21 rfl rfl)
theorem dX2_clear_24 : decode cX2_clear 24 = .ok (.iconst (-1), 1) := dk_2 (dk_at dksX2_clear_1 0 rfl rfl)
theorem dX2_clear_25 : decode cX2_clear 25 = .ok (.putfield 71, 3) := dk_181 0 71 (dk_at dksX2_clear_1 1 rfl rfl)
theorem dX2_clear_28 : decode cX2_clear 28 = .ok (.iinc 1 1, 3) := dk_132 1 1 (dk_at dksX2_clear_1 4 rfl rfl)
theorem dX2_clear_31 : decode cX2_clear 31 = .ok (.goto (-29), 3) := dk_167 255 227 (dk_at dksX2_clear_1 7 rfl rfl)
theorem dX2_clear_34 : decode cX2_clear 34 = .ok (.return_, 1) := dk_177 (dk_at dksX2_clear_1 10 rfl rfl)
abbrev cX2_whole : ByteArray := prog_5_method_3_code
def yX2_whole : MethodName := ⟨RX2, "whole", "()LCakeTastes$Run;"⟩
def dkwX2_whole_0 : List UInt8 := [187, 0, 43, 89, 3, 42, 180, 0, 12, 182, 0, 25, 183, 0, 45, 176]
abbrev dktX2_whole_0 : List UInt8 := dkwX2_whole_0 ++ []
theorem dksX2_whole_0 : cX2_whole.data.toList.drop 0 = dktX2_whole_0 := by decide +kernel
theorem dX2_whole_0 : decode cX2_whole 0 = .ok (.new 43, 3) := dk_187 0 43 (dk_at dksX2_whole_0 0 rfl rfl)
theorem dX2_whole_3 : decode cX2_whole 3 = .ok (.dup, 1) := dk_89 (dk_at dksX2_whole_0 3 rfl rfl)
theorem dX2_whole_4 : decode cX2_whole 4 = .ok (.iconst 0, 1) := dk_3 (dk_at dksX2_whole_0 4 rfl rfl)
theorem dX2_whole_5 : decode cX2_whole 5 = .ok (.aload_n 0, 1) := dk_42 (dk_at dksX2_whole_0 5 rfl rfl)
theorem dX2_whole_6 : decode cX2_whole 6 = .ok (.getfield 12, 3) := dk_180 0 12 (dk_at dksX2_whole_0 6 rfl rfl)
theorem dX2_whole_9 : decode cX2_whole 9 = .ok (.invokevirtual 25, 3) := dk_182 0 25 (dk_at dksX2_whole_0 9 rfl rfl)
theorem dX2_whole_12 : decode cX2_whole 12 = .ok (.invokespecial 45, 3) := dk_183 0 45 (dk_at dksX2_whole_0 12 rfl rfl)
theorem dX2_whole_15 : decode cX2_whole 15 = .ok (.areturn, 1) := dk_176 (dk_at dksX2_whole_0 15 rfl rfl)
abbrev cX2_cut : ByteArray := prog_5_method_7_code
def yX2_cut : MethodName := ⟨RX2, "cut", "(ILCakeTastes$Run;I)[LCakeTastes$Run;"⟩
def dkwX2_cut_4 : List UInt8 := [21, 6, 183, 0, 45, 83, 132, 8, 1, 167, 255, 178, 25, 4, 176]
abbrev dktX2_cut_4 : List UInt8 := dkwX2_cut_4 ++ []
def dkwX2_cut_3 : List UInt8 := [21, 6, 182, 0, 67, 96, 54, 7, 132, 6, 1, 167, 255, 210, 25, 4, 21, 8, 187, 0, 43, 89, 21, 9]
abbrev dktX2_cut_3 : List UInt8 := dkwX2_cut_3 ++ dktX2_cut_4
def dkwX2_cut_2 : List UInt8 := [4, 100, 159, 0, 17, 21, 7, 29, 104, 21, 8, 4, 96, 21, 5, 104, 162, 0, 21, 21, 7, 42, 27]
abbrev dktX2_cut_2 : List UInt8 := dkwX2_cut_2 ++ dktX2_cut_3
def dkwX2_cut_1 : List UInt8 := [54, 8, 21, 8, 29, 162, 0, 78, 21, 6, 54, 9, 21, 6, 44, 182, 0, 64, 162, 0, 43, 21, 8, 29]
abbrev dktX2_cut_1 : List UInt8 := dkwX2_cut_1 ++ dktX2_cut_2
def dkwX2_cut_0 : List UInt8 := [29, 189, 0, 43, 58, 4, 42, 27, 44, 182, 0, 74, 54, 5, 44, 182, 0, 61, 54, 6, 3, 54, 7, 3]
abbrev dktX2_cut_0 : List UInt8 := dkwX2_cut_0 ++ dktX2_cut_1
theorem dksX2_cut_0 : cX2_cut.data.toList.drop 0 = dktX2_cut_0 := by decide +kernel
theorem dksX2_cut_1 : cX2_cut.data.toList.drop 24 = dktX2_cut_1 := dk_seg dksX2_cut_0 24 rfl rfl
theorem dksX2_cut_2 : cX2_cut.data.toList.drop 48 = dktX2_cut_2 := dk_seg dksX2_cut_1 24 rfl rfl
theorem dksX2_cut_3 : cX2_cut.data.toList.drop 71 = dktX2_cut_3 := dk_seg dksX2_cut_2 23 rfl rfl
theorem dksX2_cut_4 : cX2_cut.data.toList.drop 95 = dktX2_cut_4 := dk_seg dksX2_cut_3 24 rfl rfl
theorem dX2_cut_0 : decode cX2_cut 0 = .ok (.iload_n 3, 1) := dk_29 (dk_at dksX2_cut_0 0 rfl rfl)
theorem dX2_cut_1 : decode cX2_cut 1 = .ok (.anewarray 43, 3) := dk_189 0 43 (dk_at dksX2_cut_0 1 rfl rfl)
theorem dX2_cut_4 : decode cX2_cut 4 = .ok (.astore 4, 2) := dk_58 4 (dk_at dksX2_cut_0 4 rfl rfl)
theorem dX2_cut_6 : decode cX2_cut 6 = .ok (.aload_n 0, 1) := dk_42 (dk_at dksX2_cut_0 6 rfl rfl)
theorem dX2_cut_7 : decode cX2_cut 7 = .ok (.iload_n 1, 1) := dk_27 (dk_at dksX2_cut_0 7 rfl rfl)
theorem dX2_cut_8 : decode cX2_cut 8 = .ok (.aload_n 2, 1) := dk_44 (dk_at dksX2_cut_0 8 rfl rfl)
theorem dX2_cut_9 : decode cX2_cut 9 = .ok (.invokevirtual 74, 3) := dk_182 0 74 (dk_at dksX2_cut_0 9 rfl rfl)
theorem dX2_cut_12 : decode cX2_cut 12 = .ok (.istore 5, 2) := dk_54 5 (dk_at dksX2_cut_0 12 rfl rfl)
theorem dX2_cut_14 : decode cX2_cut 14 = .ok (.aload_n 2, 1) := dk_44 (dk_at dksX2_cut_0 14 rfl rfl)
theorem dX2_cut_15 : decode cX2_cut 15 = .ok (.invokevirtual 61, 3) := dk_182 0 61 (dk_at dksX2_cut_0 15 rfl rfl)
theorem dX2_cut_18 : decode cX2_cut 18 = .ok (.istore 6, 2) := dk_54 6 (dk_at dksX2_cut_0 18 rfl rfl)
theorem dX2_cut_20 : decode cX2_cut 20 = .ok (.iconst 0, 1) := dk_3 (dk_at dksX2_cut_0 20 rfl rfl)
theorem dX2_cut_21 : decode cX2_cut 21 = .ok (.istore 7, 2) := dk_54 7 (dk_at dksX2_cut_0 21 rfl rfl)
theorem dX2_cut_23 : decode cX2_cut 23 = .ok (.iconst 0, 1) := dk_3 (dk_at dksX2_cut_0 23 rfl rfl)
theorem dX2_cut_24 : decode cX2_cut 24 = .ok (.istore 8, 2) := dk_54 8 (dk_at dksX2_cut_1 0 rfl rfl)
theorem dX2_cut_26 : decode cX2_cut 26 = .ok (.iload 8, 2) := dk_21 8 (dk_at dksX2_cut_1 2 rfl rfl)
theorem dX2_cut_28 : decode cX2_cut 28 = .ok (.iload_n 3, 1) := dk_29 (dk_at dksX2_cut_1 4 rfl rfl)
theorem dX2_cut_29 : decode cX2_cut 29 = .ok (.if_icmp .ge 78, 3) := dk_162 0 78 (dk_at dksX2_cut_1 5 rfl rfl)
theorem dX2_cut_32 : decode cX2_cut 32 = .ok (.iload 6, 2) := dk_21 6 (dk_at dksX2_cut_1 8 rfl rfl)
theorem dX2_cut_34 : decode cX2_cut 34 = .ok (.istore 9, 2) := dk_54 9 (dk_at dksX2_cut_1 10 rfl rfl)
theorem dX2_cut_36 : decode cX2_cut 36 = .ok (.iload 6, 2) := dk_21 6 (dk_at dksX2_cut_1 12 rfl rfl)
theorem dX2_cut_38 : decode cX2_cut 38 = .ok (.aload_n 2, 1) := dk_44 (dk_at dksX2_cut_1 14 rfl rfl)
theorem dX2_cut_39 : decode cX2_cut 39 = .ok (.invokevirtual 64, 3) := dk_182 0 64 (dk_at dksX2_cut_1 15 rfl rfl)
theorem dX2_cut_42 : decode cX2_cut 42 = .ok (.if_icmp .ge 43, 3) := dk_162 0 43 (dk_at dksX2_cut_1 18 rfl rfl)
theorem dX2_cut_45 : decode cX2_cut 45 = .ok (.iload 8, 2) := dk_21 8 (dk_at dksX2_cut_1 21 rfl rfl)
theorem dX2_cut_47 : decode cX2_cut 47 = .ok (.iload_n 3, 1) := dk_29 (dk_at dksX2_cut_1 23 rfl rfl)
theorem dX2_cut_48 : decode cX2_cut 48 = .ok (.iconst 1, 1) := dk_4 (dk_at dksX2_cut_2 0 rfl rfl)
theorem dX2_cut_49 : decode cX2_cut 49 = .ok (.isub, 1) := dk_100 (dk_at dksX2_cut_2 1 rfl rfl)
theorem dX2_cut_50 : decode cX2_cut 50 = .ok (.if_icmp .eq 17, 3) := dk_159 0 17 (dk_at dksX2_cut_2 2 rfl rfl)
theorem dX2_cut_53 : decode cX2_cut 53 = .ok (.iload 7, 2) := dk_21 7 (dk_at dksX2_cut_2 5 rfl rfl)
theorem dX2_cut_55 : decode cX2_cut 55 = .ok (.iload_n 3, 1) := dk_29 (dk_at dksX2_cut_2 7 rfl rfl)
theorem dX2_cut_56 : decode cX2_cut 56 = .ok (.imul, 1) := dk_104 (dk_at dksX2_cut_2 8 rfl rfl)
theorem dX2_cut_57 : decode cX2_cut 57 = .ok (.iload 8, 2) := dk_21 8 (dk_at dksX2_cut_2 9 rfl rfl)
theorem dX2_cut_59 : decode cX2_cut 59 = .ok (.iconst 1, 1) := dk_4 (dk_at dksX2_cut_2 11 rfl rfl)
theorem dX2_cut_60 : decode cX2_cut 60 = .ok (.iadd, 1) := dk_96 (dk_at dksX2_cut_2 12 rfl rfl)
theorem dX2_cut_61 : decode cX2_cut 61 = .ok (.iload 5, 2) := dk_21 5 (dk_at dksX2_cut_2 13 rfl rfl)
theorem dX2_cut_63 : decode cX2_cut 63 = .ok (.imul, 1) := dk_104 (dk_at dksX2_cut_2 15 rfl rfl)
theorem dX2_cut_64 : decode cX2_cut 64 = .ok (.if_icmp .ge 21, 3) := dk_162 0 21 (dk_at dksX2_cut_2 16 rfl rfl)
theorem dX2_cut_67 : decode cX2_cut 67 = .ok (.iload 7, 2) := dk_21 7 (dk_at dksX2_cut_2 19 rfl rfl)
theorem dX2_cut_69 : decode cX2_cut 69 = .ok (.aload_n 0, 1) := dk_42 (dk_at dksX2_cut_2 21 rfl rfl)
theorem dX2_cut_70 : decode cX2_cut 70 = .ok (.iload_n 1, 1) := dk_27 (dk_at dksX2_cut_2 22 rfl rfl)
theorem dX2_cut_71 : decode cX2_cut 71 = .ok (.iload 6, 2) := dk_21 6 (dk_at dksX2_cut_3 0 rfl rfl)
theorem dX2_cut_73 : decode cX2_cut 73 = .ok (.invokevirtual 67, 3) := dk_182 0 67 (dk_at dksX2_cut_3 2 rfl rfl)
theorem dX2_cut_76 : decode cX2_cut 76 = .ok (.iadd, 1) := dk_96 (dk_at dksX2_cut_3 5 rfl rfl)
theorem dX2_cut_77 : decode cX2_cut 77 = .ok (.istore 7, 2) := dk_54 7 (dk_at dksX2_cut_3 6 rfl rfl)
theorem dX2_cut_79 : decode cX2_cut 79 = .ok (.iinc 6 1, 3) := dk_132 6 1 (dk_at dksX2_cut_3 8 rfl rfl)
theorem dX2_cut_82 : decode cX2_cut 82 = .ok (.goto (-46), 3) := dk_167 255 210 (dk_at dksX2_cut_3 11 rfl rfl)
theorem dX2_cut_85 : decode cX2_cut 85 = .ok (.aload 4, 2) := dk_25 4 (dk_at dksX2_cut_3 14 rfl rfl)
theorem dX2_cut_87 : decode cX2_cut 87 = .ok (.iload 8, 2) := dk_21 8 (dk_at dksX2_cut_3 16 rfl rfl)
theorem dX2_cut_89 : decode cX2_cut 89 = .ok (.new 43, 3) := dk_187 0 43 (dk_at dksX2_cut_3 18 rfl rfl)
theorem dX2_cut_92 : decode cX2_cut 92 = .ok (.dup, 1) := dk_89 (dk_at dksX2_cut_3 21 rfl rfl)
theorem dX2_cut_93 : decode cX2_cut 93 = .ok (.iload 9, 2) := dk_21 9 (dk_at dksX2_cut_3 22 rfl rfl)
theorem dX2_cut_95 : decode cX2_cut 95 = .ok (.iload 6, 2) := dk_21 6 (dk_at dksX2_cut_4 0 rfl rfl)
theorem dX2_cut_97 : decode cX2_cut 97 = .ok (.invokespecial 45, 3) := dk_183 0 45 (dk_at dksX2_cut_4 2 rfl rfl)
theorem dX2_cut_100 : decode cX2_cut 100 = .ok (.aastore, 1) := dk_83 (dk_at dksX2_cut_4 5 rfl rfl)
theorem dX2_cut_101 : decode cX2_cut 101 = .ok (.iinc 8 1, 3) := dk_132 8 1 (dk_at dksX2_cut_4 6 rfl rfl)
theorem dX2_cut_104 : decode cX2_cut 104 = .ok (.goto (-78), 3) := dk_167 255 178 (dk_at dksX2_cut_4 9 rfl rfl)
theorem dX2_cut_107 : decode cX2_cut 107 = .ok (.aload 4, 2) := dk_25 4 (dk_at dksX2_cut_4 12 rfl rfl)
theorem dX2_cut_109 : decode cX2_cut 109 = .ok (.areturn, 1) := dk_176 (dk_at dksX2_cut_4 14 rfl rfl)
abbrev cX2_worth : ByteArray := prog_5_method_5_code
def yX2_worth : MethodName := ⟨RX2, "worth", "(ILCakeTastes$Run;)I"⟩
def dkwX2_worth_1 : List UInt8 := [182, 0, 67, 96, 62, 132, 4, 1, 167, 255, 234, 29, 172]
abbrev dktX2_worth_1 : List UInt8 := dkwX2_worth_1 ++ []
def dkwX2_worth_0 : List UInt8 := [3, 62, 44, 182, 0, 61, 54, 4, 21, 4, 44, 182, 0, 64, 162, 0, 19, 29, 42, 27, 21, 4]
abbrev dktX2_worth_0 : List UInt8 := dkwX2_worth_0 ++ dktX2_worth_1
theorem dksX2_worth_0 : cX2_worth.data.toList.drop 0 = dktX2_worth_0 := by decide +kernel
theorem dksX2_worth_1 : cX2_worth.data.toList.drop 22 = dktX2_worth_1 := dk_seg dksX2_worth_0 22 rfl rfl
theorem dX2_worth_0 : decode cX2_worth 0 = .ok (.iconst 0, 1) := dk_3 (dk_at dksX2_worth_0 0 rfl rfl)
theorem dX2_worth_1 : decode cX2_worth 1 = .ok (.istore_n 3, 1) := dk_62 (dk_at dksX2_worth_0 1 rfl rfl)
theorem dX2_worth_2 : decode cX2_worth 2 = .ok (.aload_n 2, 1) := dk_44 (dk_at dksX2_worth_0 2 rfl rfl)
theorem dX2_worth_3 : decode cX2_worth 3 = .ok (.invokevirtual 61, 3) := dk_182 0 61 (dk_at dksX2_worth_0 3 rfl rfl)
theorem dX2_worth_6 : decode cX2_worth 6 = .ok (.istore 4, 2) := dk_54 4 (dk_at dksX2_worth_0 6 rfl rfl)
theorem dX2_worth_8 : decode cX2_worth 8 = .ok (.iload 4, 2) := dk_21 4 (dk_at dksX2_worth_0 8 rfl rfl)
theorem dX2_worth_10 : decode cX2_worth 10 = .ok (.aload_n 2, 1) := dk_44 (dk_at dksX2_worth_0 10 rfl rfl)
theorem dX2_worth_11 : decode cX2_worth 11 = .ok (.invokevirtual 64, 3) := dk_182 0 64 (dk_at dksX2_worth_0 11 rfl rfl)
theorem dX2_worth_14 : decode cX2_worth 14 = .ok (.if_icmp .ge 19, 3) := dk_162 0 19 (dk_at dksX2_worth_0 14 rfl rfl)
theorem dX2_worth_17 : decode cX2_worth 17 = .ok (.iload_n 3, 1) := dk_29 (dk_at dksX2_worth_0 17 rfl rfl)
theorem dX2_worth_18 : decode cX2_worth 18 = .ok (.aload_n 0, 1) := dk_42 (dk_at dksX2_worth_0 18 rfl rfl)
theorem dX2_worth_19 : decode cX2_worth 19 = .ok (.iload_n 1, 1) := dk_27 (dk_at dksX2_worth_0 19 rfl rfl)
theorem dX2_worth_20 : decode cX2_worth 20 = .ok (.iload 4, 2) := dk_21 4 (dk_at dksX2_worth_0 20 rfl rfl)
theorem dX2_worth_22 : decode cX2_worth 22 = .ok (.invokevirtual 67, 3) := dk_182 0 67 (dk_at dksX2_worth_1 0 rfl rfl)
theorem dX2_worth_25 : decode cX2_worth 25 = .ok (.iadd, 1) := dk_96 (dk_at dksX2_worth_1 3 rfl rfl)
theorem dX2_worth_26 : decode cX2_worth 26 = .ok (.istore_n 3, 1) := dk_62 (dk_at dksX2_worth_1 4 rfl rfl)
theorem dX2_worth_27 : decode cX2_worth 27 = .ok (.iinc 4 1, 3) := dk_132 4 1 (dk_at dksX2_worth_1 5 rfl rfl)
theorem dX2_worth_30 : decode cX2_worth 30 = .ok (.goto (-22), 3) := dk_167 255 234 (dk_at dksX2_worth_1 8 rfl rfl)
theorem dX2_worth_33 : decode cX2_worth 33 = .ok (.iload_n 3, 1) := dk_29 (dk_at dksX2_worth_1 11 rfl rfl)
theorem dX2_worth_34 : decode cX2_worth 34 = .ok (.ireturn, 1) := dk_172 (dk_at dksX2_worth_1 12 rfl rfl)
abbrev cX2_taste : ByteArray := prog_5_method_4_code
def yX2_taste : MethodName := ⟨RX2, "taste", "(II)I"⟩
def dkwX2_taste_1 : List UInt8 := [192, 0, 33, 180, 0, 57, 46, 172]
abbrev dktX2_taste_1 : List UInt8 := dkwX2_taste_1 ++ []
def dkwX2_taste_0 : List UInt8 := [42, 180, 0, 18, 27, 185, 0, 48, 2, 0, 192, 0, 51, 180, 0, 53, 42, 180, 0, 12, 28, 182, 0, 29]
abbrev dktX2_taste_0 : List UInt8 := dkwX2_taste_0 ++ dktX2_taste_1
theorem dksX2_taste_0 : cX2_taste.data.toList.drop 0 = dktX2_taste_0 := by decide +kernel
theorem dksX2_taste_1 : cX2_taste.data.toList.drop 24 = dktX2_taste_1 := dk_seg dksX2_taste_0 24 rfl rfl
theorem dX2_taste_0 : decode cX2_taste 0 = .ok (.aload_n 0, 1) := dk_42 (dk_at dksX2_taste_0 0 rfl rfl)
theorem dX2_taste_1 : decode cX2_taste 1 = .ok (.getfield 18, 3) := dk_180 0 18 (dk_at dksX2_taste_0 1 rfl rfl)
theorem dX2_taste_4 : decode cX2_taste 4 = .ok (.iload_n 1, 1) := dk_27 (dk_at dksX2_taste_0 4 rfl rfl)
theorem dX2_taste_5 : decode cX2_taste 5 = .ok (.invokeinterface 48 2, 5) := by decide +kernel
theorem dX2_taste_10 : decode cX2_taste 10 = .ok (.checkcast 51, 3) := dk_192 0 51 (dk_at dksX2_taste_0 10 rfl rfl)
theorem dX2_taste_13 : decode cX2_taste 13 = .ok (.getfield 53, 3) := dk_180 0 53 (dk_at dksX2_taste_0 13 rfl rfl)
theorem dX2_taste_16 : decode cX2_taste 16 = .ok (.aload_n 0, 1) := dk_42 (dk_at dksX2_taste_0 16 rfl rfl)
theorem dX2_taste_17 : decode cX2_taste 17 = .ok (.getfield 12, 3) := dk_180 0 12 (dk_at dksX2_taste_0 17 rfl rfl)
theorem dX2_taste_20 : decode cX2_taste 20 = .ok (.iload_n 2, 1) := dk_28 (dk_at dksX2_taste_0 20 rfl rfl)
theorem dX2_taste_21 : decode cX2_taste 21 = .ok (.invokevirtual 29, 3) := dk_182 0 29 (dk_at dksX2_taste_0 21 rfl rfl)
theorem dX2_taste_24 : decode cX2_taste 24 = .ok (.checkcast 33, 3) := dk_192 0 33 (dk_at dksX2_taste_1 0 rfl rfl)
theorem dX2_taste_27 : decode cX2_taste 27 = .ok (.getfield 57, 3) := dk_180 0 57 (dk_at dksX2_taste_1 3 rfl rfl)
theorem dX2_taste_30 : decode cX2_taste 30 = .ok (.iaload, 1) := dk_46 (dk_at dksX2_taste_1 6 rfl rfl)
theorem dX2_taste_31 : decode cX2_taste 31 = .ok (.ireturn, 1) := dk_172 (dk_at dksX2_taste_1 7 rfl rfl)
abbrev cX2_bestOf : ByteArray := prog_5_method_8_code
def yX2_bestOf : MethodName := ⟨RX2, "bestOf", "(I[LCakeTastes$Run;II)I"⟩
def dkwX2_bestOf_2 : List UInt8 := [21, 5, 50, 182, 0, 74, 164, 0, 7, 21, 6, 54, 5, 132, 6, 1, 167, 255, 199, 21, 5, 172]
abbrev dktX2_bestOf_2 : List UInt8 := dkwX2_bestOf_2 ++ []
def dkwX2_bestOf_1 : List UInt8 := [160, 0, 6, 167, 0, 34, 21, 5, 2, 159, 0, 24, 42, 27, 44, 21, 6, 50, 182, 0, 74, 42, 27, 44]
abbrev dktX2_bestOf_1 : List UInt8 := dkwX2_bestOf_1 ++ dktX2_bestOf_2
def dkwX2_bestOf_0 : List UInt8 := [2, 54, 5, 3, 54, 6, 21, 6, 44, 190, 162, 0, 56, 21, 6, 29, 159, 0, 44, 21, 6, 21, 4]
abbrev dktX2_bestOf_0 : List UInt8 := dkwX2_bestOf_0 ++ dktX2_bestOf_1
theorem dksX2_bestOf_0 : cX2_bestOf.data.toList.drop 0 = dktX2_bestOf_0 := by decide +kernel
theorem dksX2_bestOf_1 : cX2_bestOf.data.toList.drop 23 = dktX2_bestOf_1 := dk_seg dksX2_bestOf_0 23 rfl rfl
theorem dksX2_bestOf_2 : cX2_bestOf.data.toList.drop 47 = dktX2_bestOf_2 := dk_seg dksX2_bestOf_1 24 rfl rfl
theorem dX2_bestOf_0 : decode cX2_bestOf 0 = .ok (.iconst (-1), 1) := dk_2 (dk_at dksX2_bestOf_0 0 rfl rfl)
theorem dX2_bestOf_1 : decode cX2_bestOf 1 = .ok (.istore 5, 2) := dk_54 5 (dk_at dksX2_bestOf_0 1 rfl rfl)
theorem dX2_bestOf_3 : decode cX2_bestOf 3 = .ok (.iconst 0, 1) := dk_3 (dk_at dksX2_bestOf_0 3 rfl rfl)
theorem dX2_bestOf_4 : decode cX2_bestOf 4 = .ok (.istore 6, 2) := dk_54 6 (dk_at dksX2_bestOf_0 4 rfl rfl)
theorem dX2_bestOf_6 : decode cX2_bestOf 6 = .ok (.iload 6, 2) := dk_21 6 (dk_at dksX2_bestOf_0 6 rfl rfl)
theorem dX2_bestOf_8 : decode cX2_bestOf 8 = .ok (.aload_n 2, 1) := dk_44 (dk_at dksX2_bestOf_0 8 rfl rfl)
theorem dX2_bestOf_9 : decode cX2_bestOf 9 = .ok (.arraylength, 1) := dk_190 (dk_at dksX2_bestOf_0 9 rfl rfl)
theorem dX2_bestOf_10 : decode cX2_bestOf 10 = .ok (.if_icmp .ge 56, 3) := dk_162 0 56 (dk_at dksX2_bestOf_0 10 rfl rfl)
theorem dX2_bestOf_13 : decode cX2_bestOf 13 = .ok (.iload 6, 2) := dk_21 6 (dk_at dksX2_bestOf_0 13 rfl rfl)
theorem dX2_bestOf_15 : decode cX2_bestOf 15 = .ok (.iload_n 3, 1) := dk_29 (dk_at dksX2_bestOf_0 15 rfl rfl)
theorem dX2_bestOf_16 : decode cX2_bestOf 16 = .ok (.if_icmp .eq 44, 3) := dk_159 0 44 (dk_at dksX2_bestOf_0 16 rfl rfl)
theorem dX2_bestOf_19 : decode cX2_bestOf 19 = .ok (.iload 6, 2) := dk_21 6 (dk_at dksX2_bestOf_0 19 rfl rfl)
theorem dX2_bestOf_21 : decode cX2_bestOf 21 = .ok (.iload 4, 2) := dk_21 4 (dk_at dksX2_bestOf_0 21 rfl rfl)
theorem dX2_bestOf_23 : decode cX2_bestOf 23 = .ok (.if_icmp .ne 6, 3) := dk_160 0 6 (dk_at dksX2_bestOf_1 0 rfl rfl)
theorem dX2_bestOf_26 : decode cX2_bestOf 26 = .ok (.goto 34, 3) := dk_167 0 34 (dk_at dksX2_bestOf_1 3 rfl rfl)
theorem dX2_bestOf_29 : decode cX2_bestOf 29 = .ok (.iload 5, 2) := dk_21 5 (dk_at dksX2_bestOf_1 6 rfl rfl)
theorem dX2_bestOf_31 : decode cX2_bestOf 31 = .ok (.iconst (-1), 1) := dk_2 (dk_at dksX2_bestOf_1 8 rfl rfl)
theorem dX2_bestOf_32 : decode cX2_bestOf 32 = .ok (.if_icmp .eq 24, 3) := dk_159 0 24 (dk_at dksX2_bestOf_1 9 rfl rfl)
theorem dX2_bestOf_35 : decode cX2_bestOf 35 = .ok (.aload_n 0, 1) := dk_42 (dk_at dksX2_bestOf_1 12 rfl rfl)
theorem dX2_bestOf_36 : decode cX2_bestOf 36 = .ok (.iload_n 1, 1) := dk_27 (dk_at dksX2_bestOf_1 13 rfl rfl)
theorem dX2_bestOf_37 : decode cX2_bestOf 37 = .ok (.aload_n 2, 1) := dk_44 (dk_at dksX2_bestOf_1 14 rfl rfl)
theorem dX2_bestOf_38 : decode cX2_bestOf 38 = .ok (.iload 6, 2) := dk_21 6 (dk_at dksX2_bestOf_1 15 rfl rfl)
theorem dX2_bestOf_40 : decode cX2_bestOf 40 = .ok (.aaload, 1) := dk_50 (dk_at dksX2_bestOf_1 17 rfl rfl)
theorem dX2_bestOf_41 : decode cX2_bestOf 41 = .ok (.invokevirtual 74, 3) := dk_182 0 74 (dk_at dksX2_bestOf_1 18 rfl rfl)
theorem dX2_bestOf_44 : decode cX2_bestOf 44 = .ok (.aload_n 0, 1) := dk_42 (dk_at dksX2_bestOf_1 21 rfl rfl)
theorem dX2_bestOf_45 : decode cX2_bestOf 45 = .ok (.iload_n 1, 1) := dk_27 (dk_at dksX2_bestOf_1 22 rfl rfl)
theorem dX2_bestOf_46 : decode cX2_bestOf 46 = .ok (.aload_n 2, 1) := dk_44 (dk_at dksX2_bestOf_1 23 rfl rfl)
theorem dX2_bestOf_47 : decode cX2_bestOf 47 = .ok (.iload 5, 2) := dk_21 5 (dk_at dksX2_bestOf_2 0 rfl rfl)
theorem dX2_bestOf_49 : decode cX2_bestOf 49 = .ok (.aaload, 1) := dk_50 (dk_at dksX2_bestOf_2 2 rfl rfl)
theorem dX2_bestOf_50 : decode cX2_bestOf 50 = .ok (.invokevirtual 74, 3) := dk_182 0 74 (dk_at dksX2_bestOf_2 3 rfl rfl)
theorem dX2_bestOf_53 : decode cX2_bestOf 53 = .ok (.if_icmp .le 7, 3) := dk_164 0 7 (dk_at dksX2_bestOf_2 6 rfl rfl)
theorem dX2_bestOf_56 : decode cX2_bestOf 56 = .ok (.iload 6, 2) := dk_21 6 (dk_at dksX2_bestOf_2 9 rfl rfl)
theorem dX2_bestOf_58 : decode cX2_bestOf 58 = .ok (.istore 5, 2) := dk_54 5 (dk_at dksX2_bestOf_2 11 rfl rfl)
theorem dX2_bestOf_60 : decode cX2_bestOf 60 = .ok (.iinc 6 1, 3) := dk_132 6 1 (dk_at dksX2_bestOf_2 13 rfl rfl)
theorem dX2_bestOf_63 : decode cX2_bestOf 63 = .ok (.goto (-57), 3) := dk_167 255 199 (dk_at dksX2_bestOf_2 16 rfl rfl)
theorem dX2_bestOf_66 : decode cX2_bestOf 66 = .ok (.iload 5, 2) := dk_21 5 (dk_at dksX2_bestOf_2 19 rfl rfl)
theorem dX2_bestOf_68 : decode cX2_bestOf 68 = .ok (.ireturn, 1) := dk_172 (dk_at dksX2_bestOf_2 21 rfl rfl)
abbrev cX2_give : ByteArray := prog_5_method_10_code
def yX2_give : MethodName := ⟨RX2, "give", "(LCakeTastes$Run;I)V"⟩
def dkwX2_give_1 : List UInt8 := [28, 181, 0, 71, 132, 3, 1, 167, 255, 230, 177]
abbrev dktX2_give_1 : List UInt8 := dkwX2_give_1 ++ []
def dkwX2_give_0 : List UInt8 := [43, 182, 0, 61, 62, 29, 43, 182, 0, 64, 162, 0, 24, 42, 180, 0, 12, 29, 182, 0, 29, 192, 0, 33]
abbrev dktX2_give_0 : List UInt8 := dkwX2_give_0 ++ dktX2_give_1
theorem dksX2_give_0 : cX2_give.data.toList.drop 0 = dktX2_give_0 := by decide +kernel
theorem dksX2_give_1 : cX2_give.data.toList.drop 24 = dktX2_give_1 := dk_seg dksX2_give_0 24 rfl rfl
theorem dX2_give_0 : decode cX2_give 0 = .ok (.aload_n 1, 1) := dk_43 (dk_at dksX2_give_0 0 rfl rfl)
theorem dX2_give_1 : decode cX2_give 1 = .ok (.invokevirtual 61, 3) := dk_182 0 61 (dk_at dksX2_give_0 1 rfl rfl)
theorem dX2_give_4 : decode cX2_give 4 = .ok (.istore_n 3, 1) := dk_62 (dk_at dksX2_give_0 4 rfl rfl)
theorem dX2_give_5 : decode cX2_give 5 = .ok (.iload_n 3, 1) := dk_29 (dk_at dksX2_give_0 5 rfl rfl)
theorem dX2_give_6 : decode cX2_give 6 = .ok (.aload_n 1, 1) := dk_43 (dk_at dksX2_give_0 6 rfl rfl)
theorem dX2_give_7 : decode cX2_give 7 = .ok (.invokevirtual 64, 3) := dk_182 0 64 (dk_at dksX2_give_0 7 rfl rfl)
theorem dX2_give_10 : decode cX2_give 10 = .ok (.if_icmp .ge 24, 3) := dk_162 0 24 (dk_at dksX2_give_0 10 rfl rfl)
theorem dX2_give_13 : decode cX2_give 13 = .ok (.aload_n 0, 1) := dk_42 (dk_at dksX2_give_0 13 rfl rfl)
theorem dX2_give_14 : decode cX2_give 14 = .ok (.getfield 12, 3) := dk_180 0 12 (dk_at dksX2_give_0 14 rfl rfl)
theorem dX2_give_17 : decode cX2_give 17 = .ok (.iload_n 3, 1) := dk_29 (dk_at dksX2_give_0 17 rfl rfl)
theorem dX2_give_18 : decode cX2_give 18 = .ok (.invokevirtual 29, 3) := dk_182 0 29 (dk_at dksX2_give_0 18 rfl rfl)
theorem dX2_give_21 : decode cX2_give 21 = .ok (.checkcast 33, 3) := dk_192 0 33 (dk_at dksX2_give_0 21 rfl rfl)
theorem dX2_give_24 : decode cX2_give 24 = .ok (.iload_n 2, 1) := dk_28 (dk_at dksX2_give_1 0 rfl rfl)
theorem dX2_give_25 : decode cX2_give 25 = .ok (.putfield 71, 3) := dk_181 0 71 (dk_at dksX2_give_1 1 rfl rfl)
theorem dX2_give_28 : decode cX2_give 28 = .ok (.iinc 3 1, 3) := dk_132 3 1 (dk_at dksX2_give_1 4 rfl rfl)
theorem dX2_give_31 : decode cX2_give 31 = .ok (.goto (-26), 3) := dk_167 255 230 (dk_at dksX2_give_1 7 rfl rfl)
theorem dX2_give_34 : decode cX2_give 34 = .ok (.return_, 1) := dk_177 (dk_at dksX2_give_1 10 rfl rfl)
abbrev cX2_trim : ByteArray := prog_5_method_9_code
def yX2_trim : MethodName := ⟨RX2, "trim", "(ILCakeTastes$Run;LCakeTastes$Run;)LCakeTastes$Run;"⟩
def dkwX2_trim_2 : List UInt8 := [25, 4, 182, 0, 61, 25, 4, 182, 0, 64, 4, 100, 183, 0, 45, 58, 4, 167, 255, 194, 25, 4, 176]
abbrev dktX2_trim_2 : List UInt8 := dkwX2_trim_2 ++ []
def dkwX2_trim_1 : List UInt8 := [182, 0, 64, 4, 100, 183, 0, 45, 182, 0, 74, 42, 27, 45, 182, 0, 74, 161, 0, 27, 187, 0, 43, 89]
abbrev dktX2_trim_1 : List UInt8 := dkwX2_trim_1 ++ dktX2_trim_2
def dkwX2_trim_0 : List UInt8 := [44, 58, 4, 25, 4, 182, 0, 78, 158, 0, 60, 42, 27, 187, 0, 43, 89, 25, 4, 182, 0, 61, 25, 4]
abbrev dktX2_trim_0 : List UInt8 := dkwX2_trim_0 ++ dktX2_trim_1
theorem dksX2_trim_0 : cX2_trim.data.toList.drop 0 = dktX2_trim_0 := by decide +kernel
theorem dksX2_trim_1 : cX2_trim.data.toList.drop 24 = dktX2_trim_1 := dk_seg dksX2_trim_0 24 rfl rfl
theorem dksX2_trim_2 : cX2_trim.data.toList.drop 48 = dktX2_trim_2 := dk_seg dksX2_trim_1 24 rfl rfl
theorem dX2_trim_0 : decode cX2_trim 0 = .ok (.aload_n 2, 1) := dk_44 (dk_at dksX2_trim_0 0 rfl rfl)
theorem dX2_trim_1 : decode cX2_trim 1 = .ok (.astore 4, 2) := dk_58 4 (dk_at dksX2_trim_0 1 rfl rfl)
theorem dX2_trim_3 : decode cX2_trim 3 = .ok (.aload 4, 2) := dk_25 4 (dk_at dksX2_trim_0 3 rfl rfl)
theorem dX2_trim_5 : decode cX2_trim 5 = .ok (.invokevirtual 78, 3) := dk_182 0 78 (dk_at dksX2_trim_0 5 rfl rfl)
theorem dX2_trim_8 : decode cX2_trim 8 = .ok (.ifCond .le 60, 3) := dk_158 0 60 (dk_at dksX2_trim_0 8 rfl rfl)
theorem dX2_trim_11 : decode cX2_trim 11 = .ok (.aload_n 0, 1) := dk_42 (dk_at dksX2_trim_0 11 rfl rfl)
theorem dX2_trim_12 : decode cX2_trim 12 = .ok (.iload_n 1, 1) := dk_27 (dk_at dksX2_trim_0 12 rfl rfl)
theorem dX2_trim_13 : decode cX2_trim 13 = .ok (.new 43, 3) := dk_187 0 43 (dk_at dksX2_trim_0 13 rfl rfl)
theorem dX2_trim_16 : decode cX2_trim 16 = .ok (.dup, 1) := dk_89 (dk_at dksX2_trim_0 16 rfl rfl)
theorem dX2_trim_17 : decode cX2_trim 17 = .ok (.aload 4, 2) := dk_25 4 (dk_at dksX2_trim_0 17 rfl rfl)
theorem dX2_trim_19 : decode cX2_trim 19 = .ok (.invokevirtual 61, 3) := dk_182 0 61 (dk_at dksX2_trim_0 19 rfl rfl)
theorem dX2_trim_22 : decode cX2_trim 22 = .ok (.aload 4, 2) := dk_25 4 (dk_at dksX2_trim_0 22 rfl rfl)
theorem dX2_trim_24 : decode cX2_trim 24 = .ok (.invokevirtual 64, 3) := dk_182 0 64 (dk_at dksX2_trim_1 0 rfl rfl)
theorem dX2_trim_27 : decode cX2_trim 27 = .ok (.iconst 1, 1) := dk_4 (dk_at dksX2_trim_1 3 rfl rfl)
theorem dX2_trim_28 : decode cX2_trim 28 = .ok (.isub, 1) := dk_100 (dk_at dksX2_trim_1 4 rfl rfl)
theorem dX2_trim_29 : decode cX2_trim 29 = .ok (.invokespecial 45, 3) := dk_183 0 45 (dk_at dksX2_trim_1 5 rfl rfl)
theorem dX2_trim_32 : decode cX2_trim 32 = .ok (.invokevirtual 74, 3) := dk_182 0 74 (dk_at dksX2_trim_1 8 rfl rfl)
theorem dX2_trim_35 : decode cX2_trim 35 = .ok (.aload_n 0, 1) := dk_42 (dk_at dksX2_trim_1 11 rfl rfl)
theorem dX2_trim_36 : decode cX2_trim 36 = .ok (.iload_n 1, 1) := dk_27 (dk_at dksX2_trim_1 12 rfl rfl)
theorem dX2_trim_37 : decode cX2_trim 37 = .ok (.aload_n 3, 1) := dk_45 (dk_at dksX2_trim_1 13 rfl rfl)
theorem dX2_trim_38 : decode cX2_trim 38 = .ok (.invokevirtual 74, 3) := dk_182 0 74 (dk_at dksX2_trim_1 14 rfl rfl)
theorem dX2_trim_41 : decode cX2_trim 41 = .ok (.if_icmp .lt 27, 3) := dk_161 0 27 (dk_at dksX2_trim_1 17 rfl rfl)
theorem dX2_trim_44 : decode cX2_trim 44 = .ok (.new 43, 3) := dk_187 0 43 (dk_at dksX2_trim_1 20 rfl rfl)
theorem dX2_trim_47 : decode cX2_trim 47 = .ok (.dup, 1) := dk_89 (dk_at dksX2_trim_1 23 rfl rfl)
theorem dX2_trim_48 : decode cX2_trim 48 = .ok (.aload 4, 2) := dk_25 4 (dk_at dksX2_trim_2 0 rfl rfl)
theorem dX2_trim_50 : decode cX2_trim 50 = .ok (.invokevirtual 61, 3) := dk_182 0 61 (dk_at dksX2_trim_2 2 rfl rfl)
theorem dX2_trim_53 : decode cX2_trim 53 = .ok (.aload 4, 2) := dk_25 4 (dk_at dksX2_trim_2 5 rfl rfl)
theorem dX2_trim_55 : decode cX2_trim 55 = .ok (.invokevirtual 64, 3) := dk_182 0 64 (dk_at dksX2_trim_2 7 rfl rfl)
theorem dX2_trim_58 : decode cX2_trim 58 = .ok (.iconst 1, 1) := dk_4 (dk_at dksX2_trim_2 10 rfl rfl)
theorem dX2_trim_59 : decode cX2_trim 59 = .ok (.isub, 1) := dk_100 (dk_at dksX2_trim_2 11 rfl rfl)
theorem dX2_trim_60 : decode cX2_trim 60 = .ok (.invokespecial 45, 3) := dk_183 0 45 (dk_at dksX2_trim_2 12 rfl rfl)
theorem dX2_trim_63 : decode cX2_trim 63 = .ok (.astore 4, 2) := dk_58 4 (dk_at dksX2_trim_2 15 rfl rfl)
theorem dX2_trim_65 : decode cX2_trim 65 = .ok (.goto (-62), 3) := dk_167 255 194 (dk_at dksX2_trim_2 17 rfl rfl)
theorem dX2_trim_68 : decode cX2_trim 68 = .ok (.aload 4, 2) := dk_25 4 (dk_at dksX2_trim_2 20 rfl rfl)
theorem dX2_trim_70 : decode cX2_trim 70 = .ok (.areturn, 1) := dk_176 (dk_at dksX2_trim_2 22 rfl rfl)
abbrev cX2_takeTurns : ByteArray := prog_5_method_12_code
def yX2_takeTurns : MethodName := ⟨RX2, "takeTurns", "(I)V"⟩
def dkwX2_takeTurns_2 : List UInt8 := [185, 0, 112, 1, 0, 112, 61, 42, 28, 182, 0, 99, 78, 167, 255, 205, 177]
abbrev dktX2_takeTurns_2 : List UInt8 := dkwX2_takeTurns_2 ++ []
def dkwX2_takeTurns_1 : List UInt8 := [192, 0, 90, 182, 0, 109, 182, 0, 29, 192, 0, 33, 28, 181, 0, 71, 28, 4, 96, 42, 180, 0, 18]
abbrev dktX2_takeTurns_1 : List UInt8 := dkwX2_takeTurns_1 ++ dktX2_takeTurns_2
def dkwX2_takeTurns_0 : List UInt8 := [27, 61, 42, 28, 182, 0, 99, 78, 45, 182, 0, 103, 153, 0, 50, 42, 180, 0, 12, 45, 182, 0, 106]
abbrev dktX2_takeTurns_0 : List UInt8 := dkwX2_takeTurns_0 ++ dktX2_takeTurns_1
theorem dksX2_takeTurns_0 : cX2_takeTurns.data.toList.drop 0 = dktX2_takeTurns_0 := by decide +kernel
theorem dksX2_takeTurns_1 : cX2_takeTurns.data.toList.drop 23 = dktX2_takeTurns_1 := dk_seg dksX2_takeTurns_0 23 rfl rfl
theorem dksX2_takeTurns_2 : cX2_takeTurns.data.toList.drop 46 = dktX2_takeTurns_2 := dk_seg dksX2_takeTurns_1 23 rfl rfl
theorem dX2_takeTurns_0 : decode cX2_takeTurns 0 = .ok (.iload_n 1, 1) := dk_27 (dk_at dksX2_takeTurns_0 0 rfl rfl)
theorem dX2_takeTurns_1 : decode cX2_takeTurns 1 = .ok (.istore_n 2, 1) := dk_61 (dk_at dksX2_takeTurns_0 1 rfl rfl)
theorem dX2_takeTurns_2 : decode cX2_takeTurns 2 = .ok (.aload_n 0, 1) := dk_42 (dk_at dksX2_takeTurns_0 2 rfl rfl)
theorem dX2_takeTurns_3 : decode cX2_takeTurns 3 = .ok (.iload_n 2, 1) := dk_28 (dk_at dksX2_takeTurns_0 3 rfl rfl)
theorem dX2_takeTurns_4 : decode cX2_takeTurns 4 = .ok (.invokevirtual 99, 3) := dk_182 0 99 (dk_at dksX2_takeTurns_0 4 rfl rfl)
theorem dX2_takeTurns_7 : decode cX2_takeTurns 7 = .ok (.astore_n 3, 1) := dk_78 (dk_at dksX2_takeTurns_0 7 rfl rfl)
theorem dX2_takeTurns_8 : decode cX2_takeTurns 8 = .ok (.aload_n 3, 1) := dk_45 (dk_at dksX2_takeTurns_0 8 rfl rfl)
theorem dX2_takeTurns_9 : decode cX2_takeTurns 9 = .ok (.invokevirtual 103, 3) := dk_182 0 103 (dk_at dksX2_takeTurns_0 9 rfl rfl)
theorem dX2_takeTurns_12 : decode cX2_takeTurns 12 = .ok (.ifCond .eq 50, 3) := dk_153 0 50 (dk_at dksX2_takeTurns_0 12 rfl rfl)
theorem dX2_takeTurns_15 : decode cX2_takeTurns 15 = .ok (.aload_n 0, 1) := dk_42 (dk_at dksX2_takeTurns_0 15 rfl rfl)
theorem dX2_takeTurns_16 : decode cX2_takeTurns 16 = .ok (.getfield 12, 3) := dk_180 0 12 (dk_at dksX2_takeTurns_0 16 rfl rfl)
theorem dX2_takeTurns_19 : decode cX2_takeTurns 19 = .ok (.aload_n 3, 1) := dk_45 (dk_at dksX2_takeTurns_0 19 rfl rfl)
theorem dX2_takeTurns_20 : decode cX2_takeTurns 20 = .ok (.invokevirtual 106, 3) := dk_182 0 106 (dk_at dksX2_takeTurns_0 20 rfl rfl)
theorem dX2_takeTurns_23 : decode cX2_takeTurns 23 = .ok (.checkcast 90, 3) := dk_192 0 90 (dk_at dksX2_takeTurns_1 0 rfl rfl)
theorem dX2_takeTurns_26 : decode cX2_takeTurns 26 = .ok (.invokevirtual 109, 3) := dk_182 0 109 (dk_at dksX2_takeTurns_1 3 rfl rfl)
theorem dX2_takeTurns_29 : decode cX2_takeTurns 29 = .ok (.invokevirtual 29, 3) := dk_182 0 29 (dk_at dksX2_takeTurns_1 6 rfl rfl)
theorem dX2_takeTurns_32 : decode cX2_takeTurns 32 = .ok (.checkcast 33, 3) := dk_192 0 33 (dk_at dksX2_takeTurns_1 9 rfl rfl)
theorem dX2_takeTurns_35 : decode cX2_takeTurns 35 = .ok (.iload_n 2, 1) := dk_28 (dk_at dksX2_takeTurns_1 12 rfl rfl)
theorem dX2_takeTurns_36 : decode cX2_takeTurns 36 = .ok (.putfield 71, 3) := dk_181 0 71 (dk_at dksX2_takeTurns_1 13 rfl rfl)
theorem dX2_takeTurns_39 : decode cX2_takeTurns 39 = .ok (.iload_n 2, 1) := dk_28 (dk_at dksX2_takeTurns_1 16 rfl rfl)
theorem dX2_takeTurns_40 : decode cX2_takeTurns 40 = .ok (.iconst 1, 1) := dk_4 (dk_at dksX2_takeTurns_1 17 rfl rfl)
theorem dX2_takeTurns_41 : decode cX2_takeTurns 41 = .ok (.iadd, 1) := dk_96 (dk_at dksX2_takeTurns_1 18 rfl rfl)
theorem dX2_takeTurns_42 : decode cX2_takeTurns 42 = .ok (.aload_n 0, 1) := dk_42 (dk_at dksX2_takeTurns_1 19 rfl rfl)
theorem dX2_takeTurns_43 : decode cX2_takeTurns 43 = .ok (.getfield 18, 3) := dk_180 0 18 (dk_at dksX2_takeTurns_1 20 rfl rfl)
theorem dX2_takeTurns_46 : decode cX2_takeTurns 46 = .ok (.invokeinterface 112 1, 5) := by decide +kernel
theorem dX2_takeTurns_51 : decode cX2_takeTurns 51 = .ok (.irem, 1) := dk_112 (dk_at dksX2_takeTurns_2 5 rfl rfl)
theorem dX2_takeTurns_52 : decode cX2_takeTurns 52 = .ok (.istore_n 2, 1) := dk_61 (dk_at dksX2_takeTurns_2 6 rfl rfl)
theorem dX2_takeTurns_53 : decode cX2_takeTurns 53 = .ok (.aload_n 0, 1) := dk_42 (dk_at dksX2_takeTurns_2 7 rfl rfl)
theorem dX2_takeTurns_54 : decode cX2_takeTurns 54 = .ok (.iload_n 2, 1) := dk_28 (dk_at dksX2_takeTurns_2 8 rfl rfl)
theorem dX2_takeTurns_55 : decode cX2_takeTurns 55 = .ok (.invokevirtual 99, 3) := dk_182 0 99 (dk_at dksX2_takeTurns_2 9 rfl rfl)
theorem dX2_takeTurns_58 : decode cX2_takeTurns 58 = .ok (.astore_n 3, 1) := dk_78 (dk_at dksX2_takeTurns_2 12 rfl rfl)
theorem dX2_takeTurns_59 : decode cX2_takeTurns 59 = .ok (.goto (-51), 3) := dk_167 255 205 (dk_at dksX2_takeTurns_2 13 rfl rfl)
theorem dX2_takeTurns_62 : decode cX2_takeTurns 62 = .ok (.return_, 1) := dk_177 (dk_at dksX2_takeTurns_2 16 rfl rfl)
abbrev cX2_liked : ByteArray := prog_5_method_11_code
def yX2_liked : MethodName := ⟨RX2, "liked", "(I)Ljava/util/Optional;"⟩
def dkwX2_liked_3 : List UInt8 := [167, 0, 10, 28, 184, 0, 89, 184, 0, 95, 176]
abbrev dktX2_liked_3 : List UInt8 := dkwX2_liked_3 ++ []
def dkwX2_liked_2 : List UInt8 := [182, 0, 67, 164, 0, 5, 29, 61, 132, 3, 1, 167, 255, 203, 28, 2, 160, 0, 9, 184, 0, 83]
abbrev dktX2_liked_2 : List UInt8 := dkwX2_liked_2 ++ dktX2_liked_3
def dkwX2_liked_1 : List UInt8 := [192, 0, 33, 182, 0, 79, 153, 0, 25, 28, 2, 159, 0, 18, 42, 27, 29, 182, 0, 67, 42, 27, 28]
abbrev dktX2_liked_1 : List UInt8 := dkwX2_liked_1 ++ dktX2_liked_2
def dkwX2_liked_0 : List UInt8 := [2, 61, 3, 62, 29, 42, 180, 0, 12, 182, 0, 25, 162, 0, 48, 42, 180, 0, 12, 29, 182, 0, 29]
abbrev dktX2_liked_0 : List UInt8 := dkwX2_liked_0 ++ dktX2_liked_1
theorem dksX2_liked_0 : cX2_liked.data.toList.drop 0 = dktX2_liked_0 := by decide +kernel
theorem dksX2_liked_1 : cX2_liked.data.toList.drop 23 = dktX2_liked_1 := dk_seg dksX2_liked_0 23 rfl rfl
theorem dksX2_liked_2 : cX2_liked.data.toList.drop 46 = dktX2_liked_2 := dk_seg dksX2_liked_1 23 rfl rfl
theorem dksX2_liked_3 : cX2_liked.data.toList.drop 68 = dktX2_liked_3 := dk_seg dksX2_liked_2 22 rfl rfl
theorem dX2_liked_0 : decode cX2_liked 0 = .ok (.iconst (-1), 1) := dk_2 (dk_at dksX2_liked_0 0 rfl rfl)
theorem dX2_liked_1 : decode cX2_liked 1 = .ok (.istore_n 2, 1) := dk_61 (dk_at dksX2_liked_0 1 rfl rfl)
theorem dX2_liked_2 : decode cX2_liked 2 = .ok (.iconst 0, 1) := dk_3 (dk_at dksX2_liked_0 2 rfl rfl)
theorem dX2_liked_3 : decode cX2_liked 3 = .ok (.istore_n 3, 1) := dk_62 (dk_at dksX2_liked_0 3 rfl rfl)
theorem dX2_liked_4 : decode cX2_liked 4 = .ok (.iload_n 3, 1) := dk_29 (dk_at dksX2_liked_0 4 rfl rfl)
theorem dX2_liked_5 : decode cX2_liked 5 = .ok (.aload_n 0, 1) := dk_42 (dk_at dksX2_liked_0 5 rfl rfl)
theorem dX2_liked_6 : decode cX2_liked 6 = .ok (.getfield 12, 3) := dk_180 0 12 (dk_at dksX2_liked_0 6 rfl rfl)
theorem dX2_liked_9 : decode cX2_liked 9 = .ok (.invokevirtual 25, 3) := dk_182 0 25 (dk_at dksX2_liked_0 9 rfl rfl)
theorem dX2_liked_12 : decode cX2_liked 12 = .ok (.if_icmp .ge 48, 3) := dk_162 0 48 (dk_at dksX2_liked_0 12 rfl rfl)
theorem dX2_liked_15 : decode cX2_liked 15 = .ok (.aload_n 0, 1) := dk_42 (dk_at dksX2_liked_0 15 rfl rfl)
theorem dX2_liked_16 : decode cX2_liked 16 = .ok (.getfield 12, 3) := dk_180 0 12 (dk_at dksX2_liked_0 16 rfl rfl)
theorem dX2_liked_19 : decode cX2_liked 19 = .ok (.iload_n 3, 1) := dk_29 (dk_at dksX2_liked_0 19 rfl rfl)
theorem dX2_liked_20 : decode cX2_liked 20 = .ok (.invokevirtual 29, 3) := dk_182 0 29 (dk_at dksX2_liked_0 20 rfl rfl)
theorem dX2_liked_23 : decode cX2_liked 23 = .ok (.checkcast 33, 3) := dk_192 0 33 (dk_at dksX2_liked_1 0 rfl rfl)
theorem dX2_liked_26 : decode cX2_liked 26 = .ok (.invokevirtual 79, 3) := dk_182 0 79 (dk_at dksX2_liked_1 3 rfl rfl)
theorem dX2_liked_29 : decode cX2_liked 29 = .ok (.ifCond .eq 25, 3) := dk_153 0 25 (dk_at dksX2_liked_1 6 rfl rfl)
theorem dX2_liked_32 : decode cX2_liked 32 = .ok (.iload_n 2, 1) := dk_28 (dk_at dksX2_liked_1 9 rfl rfl)
theorem dX2_liked_33 : decode cX2_liked 33 = .ok (.iconst (-1), 1) := dk_2 (dk_at dksX2_liked_1 10 rfl rfl)
theorem dX2_liked_34 : decode cX2_liked 34 = .ok (.if_icmp .eq 18, 3) := dk_159 0 18 (dk_at dksX2_liked_1 11 rfl rfl)
theorem dX2_liked_37 : decode cX2_liked 37 = .ok (.aload_n 0, 1) := dk_42 (dk_at dksX2_liked_1 14 rfl rfl)
theorem dX2_liked_38 : decode cX2_liked 38 = .ok (.iload_n 1, 1) := dk_27 (dk_at dksX2_liked_1 15 rfl rfl)
theorem dX2_liked_39 : decode cX2_liked 39 = .ok (.iload_n 3, 1) := dk_29 (dk_at dksX2_liked_1 16 rfl rfl)
theorem dX2_liked_40 : decode cX2_liked 40 = .ok (.invokevirtual 67, 3) := dk_182 0 67 (dk_at dksX2_liked_1 17 rfl rfl)
theorem dX2_liked_43 : decode cX2_liked 43 = .ok (.aload_n 0, 1) := dk_42 (dk_at dksX2_liked_1 20 rfl rfl)
theorem dX2_liked_44 : decode cX2_liked 44 = .ok (.iload_n 1, 1) := dk_27 (dk_at dksX2_liked_1 21 rfl rfl)
theorem dX2_liked_45 : decode cX2_liked 45 = .ok (.iload_n 2, 1) := dk_28 (dk_at dksX2_liked_1 22 rfl rfl)
theorem dX2_liked_46 : decode cX2_liked 46 = .ok (.invokevirtual 67, 3) := dk_182 0 67 (dk_at dksX2_liked_2 0 rfl rfl)
theorem dX2_liked_49 : decode cX2_liked 49 = .ok (.if_icmp .le 5, 3) := dk_164 0 5 (dk_at dksX2_liked_2 3 rfl rfl)
theorem dX2_liked_52 : decode cX2_liked 52 = .ok (.iload_n 3, 1) := dk_29 (dk_at dksX2_liked_2 6 rfl rfl)
theorem dX2_liked_53 : decode cX2_liked 53 = .ok (.istore_n 2, 1) := dk_61 (dk_at dksX2_liked_2 7 rfl rfl)
theorem dX2_liked_54 : decode cX2_liked 54 = .ok (.iinc 3 1, 3) := dk_132 3 1 (dk_at dksX2_liked_2 8 rfl rfl)
theorem dX2_liked_57 : decode cX2_liked 57 = .ok (.goto (-53), 3) := dk_167 255 203 (dk_at dksX2_liked_2 11 rfl rfl)
theorem dX2_liked_60 : decode cX2_liked 60 = .ok (.iload_n 2, 1) := dk_28 (dk_at dksX2_liked_2 14 rfl rfl)
theorem dX2_liked_61 : decode cX2_liked 61 = .ok (.iconst (-1), 1) := dk_2 (dk_at dksX2_liked_2 15 rfl rfl)
theorem dX2_liked_62 : decode cX2_liked 62 = .ok (.if_icmp .ne 9, 3) := dk_160 0 9 (dk_at dksX2_liked_2 16 rfl rfl)
theorem dX2_liked_65 : decode cX2_liked 65 = .ok (.invokestatic 83, 3) := dk_184 0 83 (dk_at dksX2_liked_2 19 rfl rfl)
theorem dX2_liked_68 : decode cX2_liked 68 = .ok (.goto 10, 3) := dk_167 0 10 (dk_at dksX2_liked_3 0 rfl rfl)
theorem dX2_liked_71 : decode cX2_liked 71 = .ok (.iload_n 2, 1) := dk_28 (dk_at dksX2_liked_3 3 rfl rfl)
theorem dX2_liked_72 : decode cX2_liked 72 = .ok (.invokestatic 89, 3) := dk_184 0 89 (dk_at dksX2_liked_3 4 rfl rfl)
theorem dX2_liked_75 : decode cX2_liked 75 = .ok (.invokestatic 95, 3) := dk_184 0 95 (dk_at dksX2_liked_3 7 rfl rfl)
theorem dX2_liked_78 : decode cX2_liked 78 = .ok (.areturn, 1) := dk_176 (dk_at dksX2_liked_3 10 rfl rfl)
abbrev cX2_envies : ByteArray := prog_5_method_16_code
def yX2_envies : MethodName := ⟨RX2, "envies", "(Z)I"⟩
def dkwX2_envies_3 : List UInt8 := [167, 255, 189, 28, 172]
abbrev dktX2_envies_3 : List UInt8 := dkwX2_envies_3 ++ []
def dkwX2_envies_2 : List UInt8 := [184, 0, 124, 167, 0, 10, 42, 29, 21, 4, 182, 0, 121, 96, 61, 132, 4, 1, 167, 255, 211, 132, 3, 1]
abbrev dktX2_envies_2 : List UInt8 := dkwX2_envies_2 ++ dktX2_envies_3
def dkwX2_envies_1 : List UInt8 := [180, 0, 18, 185, 0, 112, 1, 0, 162, 0, 37, 28, 27, 153, 0, 17, 4, 42, 29, 21, 4, 182, 0, 121]
abbrev dktX2_envies_1 : List UInt8 := dkwX2_envies_1 ++ dktX2_envies_2
def dkwX2_envies_0 : List UInt8 := [3, 61, 3, 62, 29, 42, 180, 0, 18, 185, 0, 112, 1, 0, 162, 0, 60, 3, 54, 4, 21, 4, 42]
abbrev dktX2_envies_0 : List UInt8 := dkwX2_envies_0 ++ dktX2_envies_1
theorem dksX2_envies_0 : cX2_envies.data.toList.drop 0 = dktX2_envies_0 := by decide +kernel
theorem dksX2_envies_1 : cX2_envies.data.toList.drop 23 = dktX2_envies_1 := dk_seg dksX2_envies_0 23 rfl rfl
theorem dksX2_envies_2 : cX2_envies.data.toList.drop 47 = dktX2_envies_2 := dk_seg dksX2_envies_1 24 rfl rfl
theorem dksX2_envies_3 : cX2_envies.data.toList.drop 71 = dktX2_envies_3 := dk_seg dksX2_envies_2 24 rfl rfl
theorem dX2_envies_0 : decode cX2_envies 0 = .ok (.iconst 0, 1) := dk_3 (dk_at dksX2_envies_0 0 rfl rfl)
theorem dX2_envies_1 : decode cX2_envies 1 = .ok (.istore_n 2, 1) := dk_61 (dk_at dksX2_envies_0 1 rfl rfl)
theorem dX2_envies_2 : decode cX2_envies 2 = .ok (.iconst 0, 1) := dk_3 (dk_at dksX2_envies_0 2 rfl rfl)
theorem dX2_envies_3 : decode cX2_envies 3 = .ok (.istore_n 3, 1) := dk_62 (dk_at dksX2_envies_0 3 rfl rfl)
theorem dX2_envies_4 : decode cX2_envies 4 = .ok (.iload_n 3, 1) := dk_29 (dk_at dksX2_envies_0 4 rfl rfl)
theorem dX2_envies_5 : decode cX2_envies 5 = .ok (.aload_n 0, 1) := dk_42 (dk_at dksX2_envies_0 5 rfl rfl)
theorem dX2_envies_6 : decode cX2_envies 6 = .ok (.getfield 18, 3) := dk_180 0 18 (dk_at dksX2_envies_0 6 rfl rfl)
theorem dX2_envies_9 : decode cX2_envies 9 = .ok (.invokeinterface 112 1, 5) := by decide +kernel
theorem dX2_envies_14 : decode cX2_envies 14 = .ok (.if_icmp .ge 60, 3) := dk_162 0 60 (dk_at dksX2_envies_0 14 rfl rfl)
theorem dX2_envies_17 : decode cX2_envies 17 = .ok (.iconst 0, 1) := dk_3 (dk_at dksX2_envies_0 17 rfl rfl)
theorem dX2_envies_18 : decode cX2_envies 18 = .ok (.istore 4, 2) := dk_54 4 (dk_at dksX2_envies_0 18 rfl rfl)
theorem dX2_envies_20 : decode cX2_envies 20 = .ok (.iload 4, 2) := dk_21 4 (dk_at dksX2_envies_0 20 rfl rfl)
theorem dX2_envies_22 : decode cX2_envies 22 = .ok (.aload_n 0, 1) := dk_42 (dk_at dksX2_envies_0 22 rfl rfl)
theorem dX2_envies_23 : decode cX2_envies 23 = .ok (.getfield 18, 3) := dk_180 0 18 (dk_at dksX2_envies_1 0 rfl rfl)
theorem dX2_envies_26 : decode cX2_envies 26 = .ok (.invokeinterface 112 1, 5) := by decide +kernel
theorem dX2_envies_31 : decode cX2_envies 31 = .ok (.if_icmp .ge 37, 3) := dk_162 0 37 (dk_at dksX2_envies_1 8 rfl rfl)
theorem dX2_envies_34 : decode cX2_envies 34 = .ok (.iload_n 2, 1) := dk_28 (dk_at dksX2_envies_1 11 rfl rfl)
theorem dX2_envies_35 : decode cX2_envies 35 = .ok (.iload_n 1, 1) := dk_27 (dk_at dksX2_envies_1 12 rfl rfl)
theorem dX2_envies_36 : decode cX2_envies 36 = .ok (.ifCond .eq 17, 3) := dk_153 0 17 (dk_at dksX2_envies_1 13 rfl rfl)
theorem dX2_envies_39 : decode cX2_envies 39 = .ok (.iconst 1, 1) := dk_4 (dk_at dksX2_envies_1 16 rfl rfl)
theorem dX2_envies_40 : decode cX2_envies 40 = .ok (.aload_n 0, 1) := dk_42 (dk_at dksX2_envies_1 17 rfl rfl)
theorem dX2_envies_41 : decode cX2_envies 41 = .ok (.iload_n 3, 1) := dk_29 (dk_at dksX2_envies_1 18 rfl rfl)
theorem dX2_envies_42 : decode cX2_envies 42 = .ok (.iload 4, 2) := dk_21 4 (dk_at dksX2_envies_1 19 rfl rfl)
theorem dX2_envies_44 : decode cX2_envies 44 = .ok (.invokevirtual 121, 3) := dk_182 0 121 (dk_at dksX2_envies_1 21 rfl rfl)
theorem dX2_envies_47 : decode cX2_envies 47 = .ok (.invokestatic 124, 3) := dk_184 0 124 (dk_at dksX2_envies_2 0 rfl rfl)
theorem dX2_envies_50 : decode cX2_envies 50 = .ok (.goto 10, 3) := dk_167 0 10 (dk_at dksX2_envies_2 3 rfl rfl)
theorem dX2_envies_53 : decode cX2_envies 53 = .ok (.aload_n 0, 1) := dk_42 (dk_at dksX2_envies_2 6 rfl rfl)
theorem dX2_envies_54 : decode cX2_envies 54 = .ok (.iload_n 3, 1) := dk_29 (dk_at dksX2_envies_2 7 rfl rfl)
theorem dX2_envies_55 : decode cX2_envies 55 = .ok (.iload 4, 2) := dk_21 4 (dk_at dksX2_envies_2 8 rfl rfl)
theorem dX2_envies_57 : decode cX2_envies 57 = .ok (.invokevirtual 121, 3) := dk_182 0 121 (dk_at dksX2_envies_2 10 rfl rfl)
theorem dX2_envies_60 : decode cX2_envies 60 = .ok (.iadd, 1) := dk_96 (dk_at dksX2_envies_2 13 rfl rfl)
theorem dX2_envies_61 : decode cX2_envies 61 = .ok (.istore_n 2, 1) := dk_61 (dk_at dksX2_envies_2 14 rfl rfl)
theorem dX2_envies_62 : decode cX2_envies 62 = .ok (.iinc 4 1, 3) := dk_132 4 1 (dk_at dksX2_envies_2 15 rfl rfl)
theorem dX2_envies_65 : decode cX2_envies 65 = .ok (.goto (-45), 3) := dk_167 255 211 (dk_at dksX2_envies_2 18 rfl rfl)
theorem dX2_envies_68 : decode cX2_envies 68 = .ok (.iinc 3 1, 3) := dk_132 3 1 (dk_at dksX2_envies_2 21 rfl rfl)
theorem dX2_envies_71 : decode cX2_envies 71 = .ok (.goto (-67), 3) := dk_167 255 189 (dk_at dksX2_envies_3 0 rfl rfl)
theorem dX2_envies_74 : decode cX2_envies 74 = .ok (.iload_n 2, 1) := dk_28 (dk_at dksX2_envies_3 3 rfl rfl)
theorem dX2_envies_75 : decode cX2_envies 75 = .ok (.ireturn, 1) := dk_172 (dk_at dksX2_envies_3 4 rfl rfl)
abbrev cX2_envy : ByteArray := prog_5_method_15_code
def yX2_envy : MethodName := ⟨RX2, "envy", "(II)I"⟩
def dkwX2_envy_0 : List UInt8 := [3, 42, 27, 28, 182, 0, 113, 42, 27, 27, 182, 0, 113, 100, 184, 0, 116, 172]
abbrev dktX2_envy_0 : List UInt8 := dkwX2_envy_0 ++ []
theorem dksX2_envy_0 : cX2_envy.data.toList.drop 0 = dktX2_envy_0 := by decide +kernel
theorem dX2_envy_0 : decode cX2_envy 0 = .ok (.iconst 0, 1) := dk_3 (dk_at dksX2_envy_0 0 rfl rfl)
theorem dX2_envy_1 : decode cX2_envy 1 = .ok (.aload_n 0, 1) := dk_42 (dk_at dksX2_envy_0 1 rfl rfl)
theorem dX2_envy_2 : decode cX2_envy 2 = .ok (.iload_n 1, 1) := dk_27 (dk_at dksX2_envy_0 2 rfl rfl)
theorem dX2_envy_3 : decode cX2_envy 3 = .ok (.iload_n 2, 1) := dk_28 (dk_at dksX2_envy_0 3 rfl rfl)
theorem dX2_envy_4 : decode cX2_envy 4 = .ok (.invokevirtual 113, 3) := dk_182 0 113 (dk_at dksX2_envy_0 4 rfl rfl)
theorem dX2_envy_7 : decode cX2_envy 7 = .ok (.aload_n 0, 1) := dk_42 (dk_at dksX2_envy_0 7 rfl rfl)
theorem dX2_envy_8 : decode cX2_envy 8 = .ok (.iload_n 1, 1) := dk_27 (dk_at dksX2_envy_0 8 rfl rfl)
theorem dX2_envy_9 : decode cX2_envy 9 = .ok (.iload_n 1, 1) := dk_27 (dk_at dksX2_envy_0 9 rfl rfl)
theorem dX2_envy_10 : decode cX2_envy 10 = .ok (.invokevirtual 113, 3) := dk_182 0 113 (dk_at dksX2_envy_0 10 rfl rfl)
theorem dX2_envy_13 : decode cX2_envy 13 = .ok (.isub, 1) := dk_100 (dk_at dksX2_envy_0 13 rfl rfl)
theorem dX2_envy_14 : decode cX2_envy 14 = .ok (.invokestatic 116, 3) := dk_184 0 116 (dk_at dksX2_envy_0 14 rfl rfl)
theorem dX2_envy_17 : decode cX2_envy 17 = .ok (.ireturn, 1) := dk_172 (dk_at dksX2_envy_0 17 rfl rfl)
abbrev cX2_worthOf : ByteArray := prog_5_method_6_code
def yX2_worthOf : MethodName := ⟨RX2, "worthOf", "(II)I"⟩
def dkwX2_worthOf_2 : List UInt8 := [96, 62, 132, 4, 1, 167, 255, 208, 29, 172]
abbrev dktX2_worthOf_2 : List UInt8 := dkwX2_worthOf_2 ++ []
def dkwX2_worthOf_1 : List UInt8 := [182, 0, 29, 192, 0, 33, 180, 0, 71, 28, 160, 0, 13, 42, 27, 21, 4, 182, 0, 67, 167, 0, 4, 3]
abbrev dktX2_worthOf_1 : List UInt8 := dkwX2_worthOf_1 ++ dktX2_worthOf_2
def dkwX2_worthOf_0 : List UInt8 := [3, 62, 3, 54, 4, 21, 4, 42, 180, 0, 12, 182, 0, 25, 162, 0, 42, 29, 42, 180, 0, 12, 21, 4]
abbrev dktX2_worthOf_0 : List UInt8 := dkwX2_worthOf_0 ++ dktX2_worthOf_1
theorem dksX2_worthOf_0 : cX2_worthOf.data.toList.drop 0 = dktX2_worthOf_0 := by decide +kernel
theorem dksX2_worthOf_1 : cX2_worthOf.data.toList.drop 24 = dktX2_worthOf_1 := dk_seg dksX2_worthOf_0 24 rfl rfl
theorem dksX2_worthOf_2 : cX2_worthOf.data.toList.drop 48 = dktX2_worthOf_2 := dk_seg dksX2_worthOf_1 24 rfl rfl
theorem dX2_worthOf_0 : decode cX2_worthOf 0 = .ok (.iconst 0, 1) := dk_3 (dk_at dksX2_worthOf_0 0 rfl rfl)
theorem dX2_worthOf_1 : decode cX2_worthOf 1 = .ok (.istore_n 3, 1) := dk_62 (dk_at dksX2_worthOf_0 1 rfl rfl)
theorem dX2_worthOf_2 : decode cX2_worthOf 2 = .ok (.iconst 0, 1) := dk_3 (dk_at dksX2_worthOf_0 2 rfl rfl)
theorem dX2_worthOf_3 : decode cX2_worthOf 3 = .ok (.istore 4, 2) := dk_54 4 (dk_at dksX2_worthOf_0 3 rfl rfl)
theorem dX2_worthOf_5 : decode cX2_worthOf 5 = .ok (.iload 4, 2) := dk_21 4 (dk_at dksX2_worthOf_0 5 rfl rfl)
theorem dX2_worthOf_7 : decode cX2_worthOf 7 = .ok (.aload_n 0, 1) := dk_42 (dk_at dksX2_worthOf_0 7 rfl rfl)
theorem dX2_worthOf_8 : decode cX2_worthOf 8 = .ok (.getfield 12, 3) := dk_180 0 12 (dk_at dksX2_worthOf_0 8 rfl rfl)
theorem dX2_worthOf_11 : decode cX2_worthOf 11 = .ok (.invokevirtual 25, 3) := dk_182 0 25 (dk_at dksX2_worthOf_0 11 rfl rfl)
theorem dX2_worthOf_14 : decode cX2_worthOf 14 = .ok (.if_icmp .ge 42, 3) := dk_162 0 42 (dk_at dksX2_worthOf_0 14 rfl rfl)
theorem dX2_worthOf_17 : decode cX2_worthOf 17 = .ok (.iload_n 3, 1) := dk_29 (dk_at dksX2_worthOf_0 17 rfl rfl)
theorem dX2_worthOf_18 : decode cX2_worthOf 18 = .ok (.aload_n 0, 1) := dk_42 (dk_at dksX2_worthOf_0 18 rfl rfl)
theorem dX2_worthOf_19 : decode cX2_worthOf 19 = .ok (.getfield 12, 3) := dk_180 0 12 (dk_at dksX2_worthOf_0 19 rfl rfl)
theorem dX2_worthOf_22 : decode cX2_worthOf 22 = .ok (.iload 4, 2) := dk_21 4 (dk_at dksX2_worthOf_0 22 rfl rfl)
theorem dX2_worthOf_24 : decode cX2_worthOf 24 = .ok (.invokevirtual 29, 3) := dk_182 0 29 (dk_at dksX2_worthOf_1 0 rfl rfl)
theorem dX2_worthOf_27 : decode cX2_worthOf 27 = .ok (.checkcast 33, 3) := dk_192 0 33 (dk_at dksX2_worthOf_1 3 rfl rfl)
theorem dX2_worthOf_30 : decode cX2_worthOf 30 = .ok (.getfield 71, 3) := dk_180 0 71 (dk_at dksX2_worthOf_1 6 rfl rfl)
theorem dX2_worthOf_33 : decode cX2_worthOf 33 = .ok (.iload_n 2, 1) := dk_28 (dk_at dksX2_worthOf_1 9 rfl rfl)
theorem dX2_worthOf_34 : decode cX2_worthOf 34 = .ok (.if_icmp .ne 13, 3) := dk_160 0 13 (dk_at dksX2_worthOf_1 10 rfl rfl)
theorem dX2_worthOf_37 : decode cX2_worthOf 37 = .ok (.aload_n 0, 1) := dk_42 (dk_at dksX2_worthOf_1 13 rfl rfl)
theorem dX2_worthOf_38 : decode cX2_worthOf 38 = .ok (.iload_n 1, 1) := dk_27 (dk_at dksX2_worthOf_1 14 rfl rfl)
theorem dX2_worthOf_39 : decode cX2_worthOf 39 = .ok (.iload 4, 2) := dk_21 4 (dk_at dksX2_worthOf_1 15 rfl rfl)
theorem dX2_worthOf_41 : decode cX2_worthOf 41 = .ok (.invokevirtual 67, 3) := dk_182 0 67 (dk_at dksX2_worthOf_1 17 rfl rfl)
theorem dX2_worthOf_44 : decode cX2_worthOf 44 = .ok (.goto 4, 3) := dk_167 0 4 (dk_at dksX2_worthOf_1 20 rfl rfl)
theorem dX2_worthOf_47 : decode cX2_worthOf 47 = .ok (.iconst 0, 1) := dk_3 (dk_at dksX2_worthOf_1 23 rfl rfl)
theorem dX2_worthOf_48 : decode cX2_worthOf 48 = .ok (.iadd, 1) := dk_96 (dk_at dksX2_worthOf_2 0 rfl rfl)
theorem dX2_worthOf_49 : decode cX2_worthOf 49 = .ok (.istore_n 3, 1) := dk_62 (dk_at dksX2_worthOf_2 1 rfl rfl)
theorem dX2_worthOf_50 : decode cX2_worthOf 50 = .ok (.iinc 4 1, 3) := dk_132 4 1 (dk_at dksX2_worthOf_2 2 rfl rfl)
theorem dX2_worthOf_53 : decode cX2_worthOf 53 = .ok (.goto (-48), 3) := dk_167 255 208 (dk_at dksX2_worthOf_2 5 rfl rfl)
theorem dX2_worthOf_56 : decode cX2_worthOf 56 = .ok (.iload_n 3, 1) := dk_29 (dk_at dksX2_worthOf_2 8 rfl rfl)
theorem dX2_worthOf_57 : decode cX2_worthOf 57 = .ok (.ireturn, 1) := dk_172 (dk_at dksX2_worthOf_2 9 rfl rfl)
abbrev cX2_isBetter : ByteArray := prog_5_method_19_code
def yX2_isBetter : MethodName := ⟨RX2, "isBetter", "(II)Z"⟩
def dkwX2_isBetter_1 : List UInt8 := [182, 0, 113, 164, 0, 7, 4, 167, 0, 4, 3, 172]
abbrev dktX2_isBetter_1 : List UInt8 := dkwX2_isBetter_1 ++ []
def dkwX2_isBetter_0 : List UInt8 := [42, 27, 28, 182, 0, 113, 42, 27, 27, 182, 0, 113, 164, 0, 22, 42, 28, 27, 182, 0, 113, 42, 28, 28]
abbrev dktX2_isBetter_0 : List UInt8 := dkwX2_isBetter_0 ++ dktX2_isBetter_1
theorem dksX2_isBetter_0 : cX2_isBetter.data.toList.drop 0 = dktX2_isBetter_0 := by decide +kernel
theorem dksX2_isBetter_1 : cX2_isBetter.data.toList.drop 24 = dktX2_isBetter_1 := dk_seg dksX2_isBetter_0 24 rfl rfl
theorem dX2_isBetter_0 : decode cX2_isBetter 0 = .ok (.aload_n 0, 1) := dk_42 (dk_at dksX2_isBetter_0 0 rfl rfl)
theorem dX2_isBetter_1 : decode cX2_isBetter 1 = .ok (.iload_n 1, 1) := dk_27 (dk_at dksX2_isBetter_0 1 rfl rfl)
theorem dX2_isBetter_2 : decode cX2_isBetter 2 = .ok (.iload_n 2, 1) := dk_28 (dk_at dksX2_isBetter_0 2 rfl rfl)
theorem dX2_isBetter_3 : decode cX2_isBetter 3 = .ok (.invokevirtual 113, 3) := dk_182 0 113 (dk_at dksX2_isBetter_0 3 rfl rfl)
theorem dX2_isBetter_6 : decode cX2_isBetter 6 = .ok (.aload_n 0, 1) := dk_42 (dk_at dksX2_isBetter_0 6 rfl rfl)
theorem dX2_isBetter_7 : decode cX2_isBetter 7 = .ok (.iload_n 1, 1) := dk_27 (dk_at dksX2_isBetter_0 7 rfl rfl)
theorem dX2_isBetter_8 : decode cX2_isBetter 8 = .ok (.iload_n 1, 1) := dk_27 (dk_at dksX2_isBetter_0 8 rfl rfl)
theorem dX2_isBetter_9 : decode cX2_isBetter 9 = .ok (.invokevirtual 113, 3) := dk_182 0 113 (dk_at dksX2_isBetter_0 9 rfl rfl)
theorem dX2_isBetter_12 : decode cX2_isBetter 12 = .ok (.if_icmp .le 22, 3) := dk_164 0 22 (dk_at dksX2_isBetter_0 12 rfl rfl)
theorem dX2_isBetter_15 : decode cX2_isBetter 15 = .ok (.aload_n 0, 1) := dk_42 (dk_at dksX2_isBetter_0 15 rfl rfl)
theorem dX2_isBetter_16 : decode cX2_isBetter 16 = .ok (.iload_n 2, 1) := dk_28 (dk_at dksX2_isBetter_0 16 rfl rfl)
theorem dX2_isBetter_17 : decode cX2_isBetter 17 = .ok (.iload_n 1, 1) := dk_27 (dk_at dksX2_isBetter_0 17 rfl rfl)
theorem dX2_isBetter_18 : decode cX2_isBetter 18 = .ok (.invokevirtual 113, 3) := dk_182 0 113 (dk_at dksX2_isBetter_0 18 rfl rfl)
theorem dX2_isBetter_21 : decode cX2_isBetter 21 = .ok (.aload_n 0, 1) := dk_42 (dk_at dksX2_isBetter_0 21 rfl rfl)
theorem dX2_isBetter_22 : decode cX2_isBetter 22 = .ok (.iload_n 2, 1) := dk_28 (dk_at dksX2_isBetter_0 22 rfl rfl)
theorem dX2_isBetter_23 : decode cX2_isBetter 23 = .ok (.iload_n 2, 1) := dk_28 (dk_at dksX2_isBetter_0 23 rfl rfl)
theorem dX2_isBetter_24 : decode cX2_isBetter 24 = .ok (.invokevirtual 113, 3) := dk_182 0 113 (dk_at dksX2_isBetter_1 0 rfl rfl)
theorem dX2_isBetter_27 : decode cX2_isBetter 27 = .ok (.if_icmp .le 7, 3) := dk_164 0 7 (dk_at dksX2_isBetter_1 3 rfl rfl)
theorem dX2_isBetter_30 : decode cX2_isBetter 30 = .ok (.iconst 1, 1) := dk_4 (dk_at dksX2_isBetter_1 6 rfl rfl)
theorem dX2_isBetter_31 : decode cX2_isBetter 31 = .ok (.goto 4, 3) := dk_167 0 4 (dk_at dksX2_isBetter_1 7 rfl rfl)
theorem dX2_isBetter_34 : decode cX2_isBetter 34 = .ok (.iconst 0, 1) := dk_3 (dk_at dksX2_isBetter_1 10 rfl rfl)
theorem dX2_isBetter_35 : decode cX2_isBetter 35 = .ok (.ireturn, 1) := dk_172 (dk_at dksX2_isBetter_1 11 rfl rfl)
abbrev cX2_free : ByteArray := prog_5_method_14_code
def yX2_free : MethodName := ⟨RX2, "free", "()I"⟩
def dkwX2_free_1 : List UInt8 := [192, 0, 33, 182, 0, 79, 153, 0, 7, 4, 167, 0, 4, 3, 96, 60, 132, 2, 1, 167, 255, 217, 27, 172]
abbrev dktX2_free_1 : List UInt8 := dkwX2_free_1 ++ []
def dkwX2_free_0 : List UInt8 := [3, 60, 3, 61, 28, 42, 180, 0, 12, 182, 0, 25, 162, 0, 34, 27, 42, 180, 0, 12, 28, 182, 0, 29]
abbrev dktX2_free_0 : List UInt8 := dkwX2_free_0 ++ dktX2_free_1
theorem dksX2_free_0 : cX2_free.data.toList.drop 0 = dktX2_free_0 := by decide +kernel
theorem dksX2_free_1 : cX2_free.data.toList.drop 24 = dktX2_free_1 := dk_seg dksX2_free_0 24 rfl rfl
theorem dX2_free_0 : decode cX2_free 0 = .ok (.iconst 0, 1) := dk_3 (dk_at dksX2_free_0 0 rfl rfl)
theorem dX2_free_1 : decode cX2_free 1 = .ok (.istore_n 1, 1) := dk_60 (dk_at dksX2_free_0 1 rfl rfl)
theorem dX2_free_2 : decode cX2_free 2 = .ok (.iconst 0, 1) := dk_3 (dk_at dksX2_free_0 2 rfl rfl)
theorem dX2_free_3 : decode cX2_free 3 = .ok (.istore_n 2, 1) := dk_61 (dk_at dksX2_free_0 3 rfl rfl)
theorem dX2_free_4 : decode cX2_free 4 = .ok (.iload_n 2, 1) := dk_28 (dk_at dksX2_free_0 4 rfl rfl)
theorem dX2_free_5 : decode cX2_free 5 = .ok (.aload_n 0, 1) := dk_42 (dk_at dksX2_free_0 5 rfl rfl)
theorem dX2_free_6 : decode cX2_free 6 = .ok (.getfield 12, 3) := dk_180 0 12 (dk_at dksX2_free_0 6 rfl rfl)
theorem dX2_free_9 : decode cX2_free 9 = .ok (.invokevirtual 25, 3) := dk_182 0 25 (dk_at dksX2_free_0 9 rfl rfl)
theorem dX2_free_12 : decode cX2_free 12 = .ok (.if_icmp .ge 34, 3) := dk_162 0 34 (dk_at dksX2_free_0 12 rfl rfl)
theorem dX2_free_15 : decode cX2_free 15 = .ok (.iload_n 1, 1) := dk_27 (dk_at dksX2_free_0 15 rfl rfl)
theorem dX2_free_16 : decode cX2_free 16 = .ok (.aload_n 0, 1) := dk_42 (dk_at dksX2_free_0 16 rfl rfl)
theorem dX2_free_17 : decode cX2_free 17 = .ok (.getfield 12, 3) := dk_180 0 12 (dk_at dksX2_free_0 17 rfl rfl)
theorem dX2_free_20 : decode cX2_free 20 = .ok (.iload_n 2, 1) := dk_28 (dk_at dksX2_free_0 20 rfl rfl)
theorem dX2_free_21 : decode cX2_free 21 = .ok (.invokevirtual 29, 3) := dk_182 0 29 (dk_at dksX2_free_0 21 rfl rfl)
theorem dX2_free_24 : decode cX2_free 24 = .ok (.checkcast 33, 3) := dk_192 0 33 (dk_at dksX2_free_1 0 rfl rfl)
theorem dX2_free_27 : decode cX2_free 27 = .ok (.invokevirtual 79, 3) := dk_182 0 79 (dk_at dksX2_free_1 3 rfl rfl)
theorem dX2_free_30 : decode cX2_free 30 = .ok (.ifCond .eq 7, 3) := dk_153 0 7 (dk_at dksX2_free_1 6 rfl rfl)
theorem dX2_free_33 : decode cX2_free 33 = .ok (.iconst 1, 1) := dk_4 (dk_at dksX2_free_1 9 rfl rfl)
theorem dX2_free_34 : decode cX2_free 34 = .ok (.goto 4, 3) := dk_167 0 4 (dk_at dksX2_free_1 10 rfl rfl)
theorem dX2_free_37 : decode cX2_free 37 = .ok (.iconst 0, 1) := dk_3 (dk_at dksX2_free_1 13 rfl rfl)
theorem dX2_free_38 : decode cX2_free 38 = .ok (.iadd, 1) := dk_96 (dk_at dksX2_free_1 14 rfl rfl)
theorem dX2_free_39 : decode cX2_free 39 = .ok (.istore_n 1, 1) := dk_60 (dk_at dksX2_free_1 15 rfl rfl)
theorem dX2_free_40 : decode cX2_free 40 = .ok (.iinc 2 1, 3) := dk_132 2 1 (dk_at dksX2_free_1 16 rfl rfl)
theorem dX2_free_43 : decode cX2_free 43 = .ok (.goto (-39), 3) := dk_167 255 217 (dk_at dksX2_free_1 19 rfl rfl)
theorem dX2_free_46 : decode cX2_free 46 = .ok (.iload_n 1, 1) := dk_27 (dk_at dksX2_free_1 22 rfl rfl)
theorem dX2_free_47 : decode cX2_free 47 = .ok (.ireturn, 1) := dk_172 (dk_at dksX2_free_1 23 rfl rfl)
theorem q38 : (Jvm.Cond.initialized "CakeTastes$Table") ∈ lw_all := lw_g (lw_at lw_m1 5 rfl) rfl
theorem q97 : (Jvm.Cond.instantiable "CakeTastes$Table" (2 : Nat)) ∈ lw_all := lw_g (lw_at lw_m1 64 rfl) rfl
theorem q99 : (Jvm.Cond.instanceMethod ({ cls := "CakeTastes$Table", name := "<init>", desc := "(Ljava/util/List;)V" } : Jvm.MethodName)) ∈ lw_all := lw_g (lw_at lw_m1 66 rfl) rfl
theorem q100 : (Jvm.Cond.code ({ cls := "CakeTastes$Table", name := "<init>", desc := "(Ljava/util/List;)V" } : Jvm.MethodName) prog_5_method_1_code (2 : Nat) (Option.none : Option Jvm.ClassFile.FieldType)) ∈ lw_all := lw_g (lw_at lw_m1 67 rfl) rfl
theorem q101 : (Jvm.Cond.methodLink "CakeTastes$Table" (3 : Nat) ({ cls := "java/lang/Object", name := "<init>", desc := "()V" } : Jvm.MethodName)) ∈ lw_all := lw_g (lw_at lw_m1 68 rfl) rfl
theorem q102 : (Jvm.Cond.classLink "CakeTastes$Table" (9 : Nat) "java/util/ArrayList") ∈ lw_all := lw_g (lw_at lw_m1 69 rfl) rfl
theorem q103 : (Jvm.Cond.methodLink "CakeTastes$Table" (11 : Nat) ({ cls := "java/util/ArrayList", name := "<init>", desc := "()V" } : Jvm.MethodName)) ∈ lw_all := lw_g (lw_at lw_m1 70 rfl) rfl
theorem q104 : (Jvm.Cond.fieldLink "CakeTastes$Table" (18 : Nat) "CakeTastes$Table" "eaters" "Ljava/util/List;") ∈ lw_all := lw_g (lw_at lw_m1 71 rfl) rfl
theorem q106 : (Jvm.Cond.fieldLink "CakeTastes$Table" (12 : Nat) "CakeTastes$Table" "slices" "Ljava/util/ArrayList;") ∈ lw_all := lw_g (lw_at lw_m1 73 rfl) rfl
theorem q108 : (Jvm.Cond.laysFinal "CakeTastes$Table" "CakeTastes$Table" "eaters" "Ljava/util/List;") ∈ lw_all := lw_g (lw_at lw_m1 75 rfl) rfl
theorem q109 : (Jvm.Cond.soleField "CakeTastes$Table" "eaters") ∈ lw_all := lw_g (lw_at lw_m1 76 rfl) rfl
theorem q110 : (Jvm.Cond.laysFinal "CakeTastes$Table" "CakeTastes$Table" "slices" "Ljava/util/ArrayList;") ∈ lw_all := lw_g (lw_at lw_m1 77 rfl) rfl
theorem q111 : (Jvm.Cond.soleField "CakeTastes$Table" "slices") ∈ lw_all := lw_g (lw_at lw_m1 78 rfl) rfl
theorem q112 : (Jvm.Cond.superclass "CakeTastes$Table" "java/lang/Object") ∈ lw_all := lw_g (lw_at lw_m1 79 rfl) rfl
theorem q120 : (Jvm.Cond.fieldLinkNest "CakeTastes$Table" (57 : Nat) "CakeTastes$Slice" "sort" "I" "CakeTastes") ∈ lw_tbl := lw_at lw_m1 87 rfl
theorem q123 : (Jvm.Cond.fieldLinkNest "CakeTastes$Table" (71 : Nat) "CakeTastes$Slice" "owner" "I" "CakeTastes") ∈ lw_tbl := lw_at lw_m1 90 rfl
theorem q166 : (Jvm.Cond.selects "CakeTastes$Table" ({ cls := "java/lang/Object", name := "getClass", desc := "()Ljava/lang/Class;" } : Jvm.MethodName) ({ cls := "java/lang/Object", name := "getClass", desc := "()Ljava/lang/Class;" } : Jvm.MethodName)) ∈ lw_all := lw_g (lw_at lw_m1 133 rfl) rfl
theorem q215 : (Jvm.Cond.instanceMethod ({ cls := "CakeTastes$Table", name := "canShare", desc := "(LCakeTastes$Way;)Z" } : Jvm.MethodName)) ∈ lw_all := lw_g (lw_at lw_m1 182 rfl) rfl
theorem q216 : (Jvm.Cond.selects "CakeTastes$Table" ({ cls := "CakeTastes$Table", name := "canShare", desc := "(LCakeTastes$Way;)Z" } : Jvm.MethodName) ({ cls := "CakeTastes$Table", name := "canShare", desc := "(LCakeTastes$Way;)Z" } : Jvm.MethodName)) ∈ lw_all := lw_g (lw_at lw_m1 183 rfl) rfl
theorem q217 : (Jvm.Cond.code ({ cls := "CakeTastes$Table", name := "canShare", desc := "(LCakeTastes$Way;)Z" } : Jvm.MethodName) prog_5_method_17_code (2 : Nat) (Option.some Jvm.ClassFile.FieldType.boolean)) ∈ lw_all := lw_g (lw_at lw_m1 184 rfl) rfl
theorem q218 : (Jvm.Cond.interfaceEntry "CakeTastes$Table" (112 : Nat)) ∈ lw_tbl := lw_at lw_m1 185 rfl
theorem q219 : (Jvm.Cond.methodLink "CakeTastes$Table" (112 : Nat) ({ cls := "java/util/List", name := "size", desc := "()I" } : Jvm.MethodName)) ∈ lw_all := lw_g (lw_at lw_m1 186 rfl) rfl
theorem q229 : (Jvm.Cond.instanceMethod ({ cls := "CakeTastes$Table", name := "copy", desc := "()LCakeTastes$Table;" } : Jvm.MethodName)) ∈ lw_all := lw_g (lw_at lw_m1 196 rfl) rfl
theorem q230 : (Jvm.Cond.selects "CakeTastes$Table" ({ cls := "CakeTastes$Table", name := "copy", desc := "()LCakeTastes$Table;" } : Jvm.MethodName) ({ cls := "CakeTastes$Table", name := "copy", desc := "()LCakeTastes$Table;" } : Jvm.MethodName)) ∈ lw_all := lw_g (lw_at lw_m1 197 rfl) rfl
theorem q231 : (Jvm.Cond.code ({ cls := "CakeTastes$Table", name := "copy", desc := "()LCakeTastes$Table;" } : Jvm.MethodName) prog_5_method_2_code (3 : Nat) (Option.some (Jvm.ClassFile.FieldType.object "CakeTastes$Table"))) ∈ lw_all := lw_g (lw_at lw_m1 198 rfl) rfl
theorem q232 : (Jvm.Cond.classLink "CakeTastes$Table" (13 : Nat) "CakeTastes$Table") ∈ lw_all := lw_g (lw_at lw_m1 199 rfl) rfl
theorem q233 : (Jvm.Cond.methodLink "CakeTastes$Table" (22 : Nat) ({ cls := "CakeTastes$Table", name := "<init>", desc := "(Ljava/util/List;)V" } : Jvm.MethodName)) ∈ lw_all := lw_g (lw_at lw_m1 200 rfl) rfl
theorem q234 : (Jvm.Cond.methodLink "CakeTastes$Table" (25 : Nat) ({ cls := "java/util/ArrayList", name := "size", desc := "()I" } : Jvm.MethodName)) ∈ lw_all := lw_g (lw_at lw_m1 201 rfl) rfl
theorem q235 : (Jvm.Cond.methodLink "CakeTastes$Table" (29 : Nat) ({ cls := "java/util/ArrayList", name := "get", desc := "(I)Ljava/lang/Object;" } : Jvm.MethodName)) ∈ lw_all := lw_g (lw_at lw_m1 202 rfl) rfl
theorem q249 : (Jvm.Cond.classLink "CakeTastes$Table" (33 : Nat) "CakeTastes$Slice") ∈ lw_all := lw_g (lw_at lw_m1 216 rfl) rfl
theorem q250 : (Jvm.Cond.methodLink "CakeTastes$Table" (35 : Nat) ({ cls := "CakeTastes$Slice", name := "copy", desc := "()LCakeTastes$Slice;" } : Jvm.MethodName)) ∈ lw_all := lw_g (lw_at lw_m1 217 rfl) rfl
theorem q256 : (Jvm.Cond.methodLink "CakeTastes$Table" (39 : Nat) ({ cls := "java/util/ArrayList", name := "add", desc := "(Ljava/lang/Object;)Z" } : Jvm.MethodName)) ∈ lw_all := lw_g (lw_at lw_m1 223 rfl) rfl
theorem q258 : (Jvm.Cond.instanceMethod ({ cls := "CakeTastes$Table", name := "share", desc := "(LCakeTastes$Way;)V" } : Jvm.MethodName)) ∈ lw_all := lw_g (lw_at lw_m1 225 rfl) rfl
theorem q259 : (Jvm.Cond.selects "CakeTastes$Table" ({ cls := "CakeTastes$Table", name := "share", desc := "(LCakeTastes$Way;)V" } : Jvm.MethodName) ({ cls := "CakeTastes$Table", name := "share", desc := "(LCakeTastes$Way;)V" } : Jvm.MethodName)) ∈ lw_all := lw_g (lw_at lw_m1 226 rfl) rfl
theorem q260 : (Jvm.Cond.code ({ cls := "CakeTastes$Table", name := "share", desc := "(LCakeTastes$Way;)V" } : Jvm.MethodName) prog_5_method_18_code (2 : Nat) (Option.none : Option Jvm.ClassFile.FieldType)) ∈ lw_all := lw_g (lw_at lw_m1 227 rfl) rfl
theorem q261 : (Jvm.Cond.methodLink "CakeTastes$Table" (132 : Nat) ({ cls := "CakeTastes$Table", name := "clear", desc := "()V" } : Jvm.MethodName)) ∈ lw_all := lw_g (lw_at lw_m1 228 rfl) rfl
theorem q262 : (Jvm.Cond.instanceMethod ({ cls := "CakeTastes$Table", name := "clear", desc := "()V" } : Jvm.MethodName)) ∈ lw_all := lw_g (lw_at lw_m1 229 rfl) rfl
theorem q263 : (Jvm.Cond.selects "CakeTastes$Table" ({ cls := "CakeTastes$Table", name := "clear", desc := "()V" } : Jvm.MethodName) ({ cls := "CakeTastes$Table", name := "clear", desc := "()V" } : Jvm.MethodName)) ∈ lw_all := lw_g (lw_at lw_m1 230 rfl) rfl
theorem q264 : (Jvm.Cond.code ({ cls := "CakeTastes$Table", name := "clear", desc := "()V" } : Jvm.MethodName) prog_5_method_13_code (2 : Nat) (Option.none : Option Jvm.ClassFile.FieldType)) ∈ lw_all := lw_g (lw_at lw_m1 231 rfl) rfl
theorem q265 : (Jvm.Cond.methodLink "CakeTastes$Table" (135 : Nat) ({ cls := "CakeTastes$Way", name := "share", desc := "(LCakeTastes$Table;)V" } : Jvm.MethodName)) ∈ lw_all := lw_g (lw_at lw_m1 232 rfl) rfl
theorem q272 : (Jvm.Cond.instanceMethod ({ cls := "CakeTastes$Table", name := "whole", desc := "()LCakeTastes$Run;" } : Jvm.MethodName)) ∈ lw_all := lw_g (lw_at lw_m1 239 rfl) rfl
theorem q273 : (Jvm.Cond.selects "CakeTastes$Table" ({ cls := "CakeTastes$Table", name := "whole", desc := "()LCakeTastes$Run;" } : Jvm.MethodName) ({ cls := "CakeTastes$Table", name := "whole", desc := "()LCakeTastes$Run;" } : Jvm.MethodName)) ∈ lw_all := lw_g (lw_at lw_m2 0 rfl) rfl
theorem q274 : (Jvm.Cond.code ({ cls := "CakeTastes$Table", name := "whole", desc := "()LCakeTastes$Run;" } : Jvm.MethodName) prog_5_method_3_code (1 : Nat) (Option.some (Jvm.ClassFile.FieldType.object "CakeTastes$Run"))) ∈ lw_all := lw_g (lw_at lw_m2 1 rfl) rfl
theorem q275 : (Jvm.Cond.classLink "CakeTastes$Table" (43 : Nat) "CakeTastes$Run") ∈ lw_all := lw_g (lw_at lw_m2 2 rfl) rfl
theorem q277 : (Jvm.Cond.methodLinkNest "CakeTastes$Table" (45 : Nat) ({ cls := "CakeTastes$Run", name := "<init>", desc := "(II)V" } : Jvm.MethodName) "CakeTastes") ∈ lw_tbl := lw_at lw_m2 4 rfl
theorem q292 : (Jvm.Cond.instanceMethod ({ cls := "CakeTastes$Table", name := "cut", desc := "(ILCakeTastes$Run;I)[LCakeTastes$Run;" } : Jvm.MethodName)) ∈ lw_all := lw_g (lw_at lw_m2 19 rfl) rfl
theorem q293 : (Jvm.Cond.selects "CakeTastes$Table" ({ cls := "CakeTastes$Table", name := "cut", desc := "(ILCakeTastes$Run;I)[LCakeTastes$Run;" } : Jvm.MethodName) ({ cls := "CakeTastes$Table", name := "cut", desc := "(ILCakeTastes$Run;I)[LCakeTastes$Run;" } : Jvm.MethodName)) ∈ lw_all := lw_g (lw_at lw_m2 20 rfl) rfl
theorem q294 : (Jvm.Cond.code ({ cls := "CakeTastes$Table", name := "cut", desc := "(ILCakeTastes$Run;I)[LCakeTastes$Run;" } : Jvm.MethodName) prog_5_method_7_code (10 : Nat) (Option.some (Jvm.ClassFile.FieldType.array (Jvm.ClassFile.FieldType.object "CakeTastes$Run")))) ∈ lw_all := lw_g (lw_at lw_m2 21 rfl) rfl
theorem q296 : (Jvm.Cond.methodLink "CakeTastes$Table" (74 : Nat) ({ cls := "CakeTastes$Table", name := "worth", desc := "(ILCakeTastes$Run;)I" } : Jvm.MethodName)) ∈ lw_all := lw_g (lw_at lw_m2 23 rfl) rfl
theorem q297 : (Jvm.Cond.instanceMethod ({ cls := "CakeTastes$Table", name := "worth", desc := "(ILCakeTastes$Run;)I" } : Jvm.MethodName)) ∈ lw_all := lw_g (lw_at lw_m2 24 rfl) rfl
theorem q298 : (Jvm.Cond.selects "CakeTastes$Table" ({ cls := "CakeTastes$Table", name := "worth", desc := "(ILCakeTastes$Run;)I" } : Jvm.MethodName) ({ cls := "CakeTastes$Table", name := "worth", desc := "(ILCakeTastes$Run;)I" } : Jvm.MethodName)) ∈ lw_all := lw_g (lw_at lw_m2 25 rfl) rfl
theorem q299 : (Jvm.Cond.code ({ cls := "CakeTastes$Table", name := "worth", desc := "(ILCakeTastes$Run;)I" } : Jvm.MethodName) prog_5_method_5_code (5 : Nat) (Option.some Jvm.ClassFile.FieldType.int)) ∈ lw_all := lw_g (lw_at lw_m2 26 rfl) rfl
theorem q300 : (Jvm.Cond.methodLink "CakeTastes$Table" (61 : Nat) ({ cls := "CakeTastes$Run", name := "from", desc := "()I" } : Jvm.MethodName)) ∈ lw_all := lw_g (lw_at lw_m2 27 rfl) rfl
theorem q304 : (Jvm.Cond.methodLink "CakeTastes$Table" (64 : Nat) ({ cls := "CakeTastes$Run", name := "to", desc := "()I" } : Jvm.MethodName)) ∈ lw_all := lw_g (lw_at lw_m2 31 rfl) rfl
theorem q308 : (Jvm.Cond.methodLink "CakeTastes$Table" (67 : Nat) ({ cls := "CakeTastes$Table", name := "taste", desc := "(II)I" } : Jvm.MethodName)) ∈ lw_all := lw_g (lw_at lw_m2 35 rfl) rfl
theorem q309 : (Jvm.Cond.instanceMethod ({ cls := "CakeTastes$Table", name := "taste", desc := "(II)I" } : Jvm.MethodName)) ∈ lw_all := lw_g (lw_at lw_m2 36 rfl) rfl
theorem q310 : (Jvm.Cond.selects "CakeTastes$Table" ({ cls := "CakeTastes$Table", name := "taste", desc := "(II)I" } : Jvm.MethodName) ({ cls := "CakeTastes$Table", name := "taste", desc := "(II)I" } : Jvm.MethodName)) ∈ lw_all := lw_g (lw_at lw_m2 37 rfl) rfl
theorem q311 : (Jvm.Cond.code ({ cls := "CakeTastes$Table", name := "taste", desc := "(II)I" } : Jvm.MethodName) prog_5_method_4_code (3 : Nat) (Option.some Jvm.ClassFile.FieldType.int)) ∈ lw_all := lw_g (lw_at lw_m2 38 rfl) rfl
theorem q312 : (Jvm.Cond.interfaceEntry "CakeTastes$Table" (48 : Nat)) ∈ lw_tbl := lw_at lw_m2 39 rfl
theorem q313 : (Jvm.Cond.methodLink "CakeTastes$Table" (48 : Nat) ({ cls := "java/util/List", name := "get", desc := "(I)Ljava/lang/Object;" } : Jvm.MethodName)) ∈ lw_all := lw_g (lw_at lw_m2 40 rfl) rfl
theorem q319 : (Jvm.Cond.classLink "CakeTastes$Table" (51 : Nat) "CakeTastes$Eater") ∈ lw_all := lw_g (lw_at lw_m2 46 rfl) rfl
theorem q321 : (Jvm.Cond.instanceMethod ({ cls := "CakeTastes$Table", name := "bestOf", desc := "(I[LCakeTastes$Run;II)I" } : Jvm.MethodName)) ∈ lw_all := lw_g (lw_at lw_m2 48 rfl) rfl
theorem q322 : (Jvm.Cond.selects "CakeTastes$Table" ({ cls := "CakeTastes$Table", name := "bestOf", desc := "(I[LCakeTastes$Run;II)I" } : Jvm.MethodName) ({ cls := "CakeTastes$Table", name := "bestOf", desc := "(I[LCakeTastes$Run;II)I" } : Jvm.MethodName)) ∈ lw_all := lw_g (lw_at lw_m2 49 rfl) rfl
theorem q323 : (Jvm.Cond.code ({ cls := "CakeTastes$Table", name := "bestOf", desc := "(I[LCakeTastes$Run;II)I" } : Jvm.MethodName) prog_5_method_8_code (7 : Nat) (Option.some Jvm.ClassFile.FieldType.int)) ∈ lw_all := lw_g (lw_at lw_m2 50 rfl) rfl
theorem q325 : (Jvm.Cond.instanceMethod ({ cls := "CakeTastes$Table", name := "give", desc := "(LCakeTastes$Run;I)V" } : Jvm.MethodName)) ∈ lw_all := lw_g (lw_at lw_m2 52 rfl) rfl
theorem q326 : (Jvm.Cond.selects "CakeTastes$Table" ({ cls := "CakeTastes$Table", name := "give", desc := "(LCakeTastes$Run;I)V" } : Jvm.MethodName) ({ cls := "CakeTastes$Table", name := "give", desc := "(LCakeTastes$Run;I)V" } : Jvm.MethodName)) ∈ lw_all := lw_g (lw_at lw_m2 53 rfl) rfl
theorem q327 : (Jvm.Cond.code ({ cls := "CakeTastes$Table", name := "give", desc := "(LCakeTastes$Run;I)V" } : Jvm.MethodName) prog_5_method_10_code (4 : Nat) (Option.none : Option Jvm.ClassFile.FieldType)) ∈ lw_all := lw_g (lw_at lw_m2 54 rfl) rfl
theorem q335 : (Jvm.Cond.instanceMethod ({ cls := "CakeTastes$Table", name := "trim", desc := "(ILCakeTastes$Run;LCakeTastes$Run;)LCakeTastes$Run;" } : Jvm.MethodName)) ∈ lw_all := lw_g (lw_at lw_m2 62 rfl) rfl
theorem q336 : (Jvm.Cond.selects "CakeTastes$Table" ({ cls := "CakeTastes$Table", name := "trim", desc := "(ILCakeTastes$Run;LCakeTastes$Run;)LCakeTastes$Run;" } : Jvm.MethodName) ({ cls := "CakeTastes$Table", name := "trim", desc := "(ILCakeTastes$Run;LCakeTastes$Run;)LCakeTastes$Run;" } : Jvm.MethodName)) ∈ lw_all := lw_g (lw_at lw_m2 63 rfl) rfl
theorem q337 : (Jvm.Cond.code ({ cls := "CakeTastes$Table", name := "trim", desc := "(ILCakeTastes$Run;LCakeTastes$Run;)LCakeTastes$Run;" } : Jvm.MethodName) prog_5_method_9_code (5 : Nat) (Option.some (Jvm.ClassFile.FieldType.object "CakeTastes$Run"))) ∈ lw_all := lw_g (lw_at lw_m2 64 rfl) rfl
theorem q338 : (Jvm.Cond.methodLink "CakeTastes$Table" (78 : Nat) ({ cls := "CakeTastes$Run", name := "size", desc := "()I" } : Jvm.MethodName)) ∈ lw_all := lw_g (lw_at lw_m2 65 rfl) rfl
theorem q347 : (Jvm.Cond.instanceMethod ({ cls := "CakeTastes$Table", name := "takeTurns", desc := "(I)V" } : Jvm.MethodName)) ∈ lw_all := lw_g (lw_at lw_m2 74 rfl) rfl
theorem q348 : (Jvm.Cond.selects "CakeTastes$Table" ({ cls := "CakeTastes$Table", name := "takeTurns", desc := "(I)V" } : Jvm.MethodName) ({ cls := "CakeTastes$Table", name := "takeTurns", desc := "(I)V" } : Jvm.MethodName)) ∈ lw_all := lw_g (lw_at lw_m2 75 rfl) rfl
theorem q349 : (Jvm.Cond.code ({ cls := "CakeTastes$Table", name := "takeTurns", desc := "(I)V" } : Jvm.MethodName) prog_5_method_12_code (4 : Nat) (Option.none : Option Jvm.ClassFile.FieldType)) ∈ lw_all := lw_g (lw_at lw_m2 76 rfl) rfl
theorem q350 : (Jvm.Cond.methodLink "CakeTastes$Table" (99 : Nat) ({ cls := "CakeTastes$Table", name := "liked", desc := "(I)Ljava/util/Optional;" } : Jvm.MethodName)) ∈ lw_all := lw_g (lw_at lw_m2 77 rfl) rfl
theorem q351 : (Jvm.Cond.privateMethod ({ cls := "CakeTastes$Table", name := "liked", desc := "(I)Ljava/util/Optional;" } : Jvm.MethodName)) ∈ lw_tbl := lw_at lw_m2 78 rfl
theorem q352 : (Jvm.Cond.instanceMethod ({ cls := "CakeTastes$Table", name := "liked", desc := "(I)Ljava/util/Optional;" } : Jvm.MethodName)) ∈ lw_all := lw_g (lw_at lw_m2 79 rfl) rfl
theorem q353 : (Jvm.Cond.code ({ cls := "CakeTastes$Table", name := "liked", desc := "(I)Ljava/util/Optional;" } : Jvm.MethodName) prog_5_method_11_code (4 : Nat) (Option.some (Jvm.ClassFile.FieldType.object "java/util/Optional"))) ∈ lw_all := lw_g (lw_at lw_m2 80 rfl) rfl
theorem q354 : (Jvm.Cond.methodLink "CakeTastes$Table" (79 : Nat) ({ cls := "CakeTastes$Slice", name := "isFree", desc := "()Z" } : Jvm.MethodName)) ∈ lw_all := lw_g (lw_at lw_m2 81 rfl) rfl
theorem q358 : (Jvm.Cond.methodLink "CakeTastes$Table" (83 : Nat) ({ cls := "java/util/Optional", name := "empty", desc := "()Ljava/util/Optional;" } : Jvm.MethodName)) ∈ lw_all := lw_g (lw_at lw_m2 85 rfl) rfl
theorem q363 : (Jvm.Cond.methodLink "CakeTastes$Table" (89 : Nat) ({ cls := "java/lang/Integer", name := "valueOf", desc := "(I)Ljava/lang/Integer;" } : Jvm.MethodName)) ∈ lw_all := lw_g (lw_at lw_m2 90 rfl) rfl
theorem q383 : (Jvm.Cond.methodLink "CakeTastes$Table" (95 : Nat) ({ cls := "java/util/Optional", name := "of", desc := "(Ljava/lang/Object;)Ljava/util/Optional;" } : Jvm.MethodName)) ∈ lw_all := lw_g (lw_at lw_m2 110 rfl) rfl
theorem q399 : (Jvm.Cond.methodLink "CakeTastes$Table" (103 : Nat) ({ cls := "java/util/Optional", name := "isPresent", desc := "()Z" } : Jvm.MethodName)) ∈ lw_all := lw_g (lw_at lw_m2 126 rfl) rfl
theorem q403 : (Jvm.Cond.methodLink "CakeTastes$Table" (106 : Nat) ({ cls := "java/util/Optional", name := "get", desc := "()Ljava/lang/Object;" } : Jvm.MethodName)) ∈ lw_all := lw_g (lw_at lw_m2 130 rfl) rfl
theorem q407 : (Jvm.Cond.classLink "CakeTastes$Table" (90 : Nat) "java/lang/Integer") ∈ lw_all := lw_g (lw_at lw_m2 134 rfl) rfl
theorem q408 : (Jvm.Cond.methodLink "CakeTastes$Table" (109 : Nat) ({ cls := "java/lang/Integer", name := "intValue", desc := "()I" } : Jvm.MethodName)) ∈ lw_all := lw_g (lw_at lw_m2 135 rfl) rfl
theorem q431 : (Jvm.Cond.instanceMethod ({ cls := "CakeTastes$Table", name := "envies", desc := "(Z)I" } : Jvm.MethodName)) ∈ lw_all := lw_g (lw_at lw_m2 158 rfl) rfl
theorem q432 : (Jvm.Cond.selects "CakeTastes$Table" ({ cls := "CakeTastes$Table", name := "envies", desc := "(Z)I" } : Jvm.MethodName) ({ cls := "CakeTastes$Table", name := "envies", desc := "(Z)I" } : Jvm.MethodName)) ∈ lw_all := lw_g (lw_at lw_m2 159 rfl) rfl
theorem q433 : (Jvm.Cond.code ({ cls := "CakeTastes$Table", name := "envies", desc := "(Z)I" } : Jvm.MethodName) prog_5_method_16_code (5 : Nat) (Option.some Jvm.ClassFile.FieldType.int)) ∈ lw_all := lw_g (lw_at lw_m2 160 rfl) rfl
theorem q434 : (Jvm.Cond.methodLink "CakeTastes$Table" (121 : Nat) ({ cls := "CakeTastes$Table", name := "envy", desc := "(II)I" } : Jvm.MethodName)) ∈ lw_all := lw_g (lw_at lw_m2 161 rfl) rfl
theorem q435 : (Jvm.Cond.instanceMethod ({ cls := "CakeTastes$Table", name := "envy", desc := "(II)I" } : Jvm.MethodName)) ∈ lw_all := lw_g (lw_at lw_m2 162 rfl) rfl
theorem q436 : (Jvm.Cond.selects "CakeTastes$Table" ({ cls := "CakeTastes$Table", name := "envy", desc := "(II)I" } : Jvm.MethodName) ({ cls := "CakeTastes$Table", name := "envy", desc := "(II)I" } : Jvm.MethodName)) ∈ lw_all := lw_g (lw_at lw_m2 163 rfl) rfl
theorem q437 : (Jvm.Cond.code ({ cls := "CakeTastes$Table", name := "envy", desc := "(II)I" } : Jvm.MethodName) prog_5_method_15_code (3 : Nat) (Option.some Jvm.ClassFile.FieldType.int)) ∈ lw_all := lw_g (lw_at lw_m2 164 rfl) rfl
theorem q438 : (Jvm.Cond.methodLink "CakeTastes$Table" (113 : Nat) ({ cls := "CakeTastes$Table", name := "worthOf", desc := "(II)I" } : Jvm.MethodName)) ∈ lw_all := lw_g (lw_at lw_m2 165 rfl) rfl
theorem q439 : (Jvm.Cond.instanceMethod ({ cls := "CakeTastes$Table", name := "worthOf", desc := "(II)I" } : Jvm.MethodName)) ∈ lw_all := lw_g (lw_at lw_m2 166 rfl) rfl
theorem q440 : (Jvm.Cond.selects "CakeTastes$Table" ({ cls := "CakeTastes$Table", name := "worthOf", desc := "(II)I" } : Jvm.MethodName) ({ cls := "CakeTastes$Table", name := "worthOf", desc := "(II)I" } : Jvm.MethodName)) ∈ lw_all := lw_g (lw_at lw_m2 167 rfl) rfl
theorem q441 : (Jvm.Cond.code ({ cls := "CakeTastes$Table", name := "worthOf", desc := "(II)I" } : Jvm.MethodName) prog_5_method_6_code (5 : Nat) (Option.some Jvm.ClassFile.FieldType.int)) ∈ lw_all := lw_g (lw_at lw_m2 168 rfl) rfl
theorem q442 : (Jvm.Cond.methodLink "CakeTastes$Table" (116 : Nat) ({ cls := "java/lang/Math", name := "max", desc := "(II)I" } : Jvm.MethodName)) ∈ lw_all := lw_g (lw_at lw_m2 169 rfl) rfl
theorem q443 : (Jvm.Cond.methodLink "CakeTastes$Table" (124 : Nat) ({ cls := "java/lang/Math", name := "min", desc := "(II)I" } : Jvm.MethodName)) ∈ lw_all := lw_g (lw_at lw_m2 170 rfl) rfl
theorem q450 : (Jvm.Cond.instanceMethod ({ cls := "CakeTastes$Table", name := "isBetter", desc := "(II)Z" } : Jvm.MethodName)) ∈ lw_all := lw_g (lw_at lw_m2 177 rfl) rfl
theorem q451 : (Jvm.Cond.selects "CakeTastes$Table" ({ cls := "CakeTastes$Table", name := "isBetter", desc := "(II)Z" } : Jvm.MethodName) ({ cls := "CakeTastes$Table", name := "isBetter", desc := "(II)Z" } : Jvm.MethodName)) ∈ lw_all := lw_g (lw_at lw_m2 178 rfl) rfl
theorem q452 : (Jvm.Cond.code ({ cls := "CakeTastes$Table", name := "isBetter", desc := "(II)Z" } : Jvm.MethodName) prog_5_method_19_code (3 : Nat) (Option.some Jvm.ClassFile.FieldType.boolean)) ∈ lw_all := lw_g (lw_at lw_m2 179 rfl) rfl
theorem q473 : (Jvm.Cond.instanceMethod ({ cls := "CakeTastes$Table", name := "free", desc := "()I" } : Jvm.MethodName)) ∈ lw_all := lw_g (lw_at lw_m2 200 rfl) rfl
theorem q474 : (Jvm.Cond.selects "CakeTastes$Table" ({ cls := "CakeTastes$Table", name := "free", desc := "()I" } : Jvm.MethodName) ({ cls := "CakeTastes$Table", name := "free", desc := "()I" } : Jvm.MethodName)) ∈ lw_all := lw_g (lw_at lw_m2 201 rfl) rfl
theorem q475 : (Jvm.Cond.code ({ cls := "CakeTastes$Table", name := "free", desc := "()I" } : Jvm.MethodName) prog_5_method_14_code (3 : Nat) (Option.some Jvm.ClassFile.FieldType.int)) ∈ lw_all := lw_g (lw_at lw_m2 202 rfl) rfl
theorem q675 : (Jvm.Cond.fieldLinkNest "CakeTastes$Table" (53 : Nat) "CakeTastes$Eater" "tastes" "[I" "CakeTastes") ∈ lw_tbl := lw_at lw_m3 162 rfl
theorem q1003 : (Jvm.Cond.castable "CakeTastes$Table" "java/lang/Object") ∈ lw_tbl := lw_at lw_m5 10 rfl
theorem q1030 : (Jvm.Cond.fieldLink "CakeTastes$Table" (127 : Nat) "CakeTastes$Way" "needs" "I") ∈ lw_all := lw_g (lw_at lw_m5 37 rfl) rfl
theorem in_X2 : ∀ w ∈ wsX20, w ∈ lw_all := lw_in wsX20 [108, 110] (by decide +kernel) (by decide +kernel)

/-! CakeTastes$Slice -/
set_option maxRecDepth 100000
def RX3 : String := "CakeTastes$Slice"
def TX3 : u_T := fun k => match k with
  | 0 => ("CakeTastes$Slice", "sort", "I", false)
  | _ => ("CakeTastes$Slice", "owner", "I", false)
def tyX3 : Nat → FieldType := fun k => match k with
  | 0 => .int
  | _ => .int
abbrev wsX30 : List Cond := u_ws RX3 TX3 2
theorem nmX3 : ∀ a, a < 2 → ∀ b, b < 2 → a ≠ b → (TX3 a).2.1 ≠ (TX3 b).2.1 := by decide +kernel
theorem tyX3_ok : ∀ k, k < 2 → parseFieldDescriptor (TX3 k).2.2.1 = some (tyX3 k) := by decide +kernel
abbrev cX3_init : ByteArray := prog_4_method_1_code
def yX3_init : MethodName := ⟨RX3, "<init>", "()V"⟩
def dkwX3_init_0 : List UInt8 := [42, 183, 0, 3, 42, 2, 181, 0, 9, 177]
abbrev dktX3_init_0 : List UInt8 := dkwX3_init_0 ++ []
theorem dksX3_init_0 : cX3_init.data.toList.drop 0 = dktX3_init_0 := by decide +kernel
theorem dX3_init_0 : decode cX3_init 0 = .ok (.aload_n 0, 1) := dk_42 (dk_at dksX3_init_0 0 rfl rfl)
theorem dX3_init_1 : decode cX3_init 1 = .ok (.invokespecial 3, 3) := dk_183 0 3 (dk_at dksX3_init_0 1 rfl rfl)
theorem dX3_init_4 : decode cX3_init 4 = .ok (.aload_n 0, 1) := dk_42 (dk_at dksX3_init_0 4 rfl rfl)
theorem dX3_init_5 : decode cX3_init 5 = .ok (.iconst (-1), 1) := dk_2 (dk_at dksX3_init_0 5 rfl rfl)
theorem dX3_init_6 : decode cX3_init 6 = .ok (.putfield 9, 3) := dk_181 0 9 (dk_at dksX3_init_0 6 rfl rfl)
theorem dX3_init_9 : decode cX3_init 9 = .ok (.return_, 1) := dk_177 (dk_at dksX3_init_0 9 rfl rfl)
abbrev cX3_copy : ByteArray := prog_4_method_2_code
def yX3_copy : MethodName := ⟨RX3, "copy", "()LCakeTastes$Slice;"⟩
def dkwX3_copy_1 : List UInt8 := [43, 176]
abbrev dktX3_copy_1 : List UInt8 := dkwX3_copy_1 ++ []
def dkwX3_copy_0 : List UInt8 := [187, 0, 10, 89, 183, 0, 15, 76, 43, 42, 180, 0, 16, 181, 0, 16, 43, 42, 180, 0, 9, 181, 0, 9]
abbrev dktX3_copy_0 : List UInt8 := dkwX3_copy_0 ++ dktX3_copy_1
theorem dksX3_copy_0 : cX3_copy.data.toList.drop 0 = dktX3_copy_0 := by decide +kernel
theorem dksX3_copy_1 : cX3_copy.data.toList.drop 24 = dktX3_copy_1 := dk_seg dksX3_copy_0 24 rfl rfl
theorem dX3_copy_0 : decode cX3_copy 0 = .ok (.new 10, 3) := dk_187 0 10 (dk_at dksX3_copy_0 0 rfl rfl)
theorem dX3_copy_3 : decode cX3_copy 3 = .ok (.dup, 1) := dk_89 (dk_at dksX3_copy_0 3 rfl rfl)
theorem dX3_copy_4 : decode cX3_copy 4 = .ok (.invokespecial 15, 3) := dk_183 0 15 (dk_at dksX3_copy_0 4 rfl rfl)
theorem dX3_copy_7 : decode cX3_copy 7 = .ok (.astore_n 1, 1) := dk_76 (dk_at dksX3_copy_0 7 rfl rfl)
theorem dX3_copy_8 : decode cX3_copy 8 = .ok (.aload_n 1, 1) := dk_43 (dk_at dksX3_copy_0 8 rfl rfl)
theorem dX3_copy_9 : decode cX3_copy 9 = .ok (.aload_n 0, 1) := dk_42 (dk_at dksX3_copy_0 9 rfl rfl)
theorem dX3_copy_10 : decode cX3_copy 10 = .ok (.getfield 16, 3) := dk_180 0 16 (dk_at dksX3_copy_0 10 rfl rfl)
theorem dX3_copy_13 : decode cX3_copy 13 = .ok (.putfield 16, 3) := dk_181 0 16 (dk_at dksX3_copy_0 13 rfl rfl)
theorem dX3_copy_16 : decode cX3_copy 16 = .ok (.aload_n 1, 1) := dk_43 (dk_at dksX3_copy_0 16 rfl rfl)
theorem dX3_copy_17 : decode cX3_copy 17 = .ok (.aload_n 0, 1) := dk_42 (dk_at dksX3_copy_0 17 rfl rfl)
theorem dX3_copy_18 : decode cX3_copy 18 = .ok (.getfield 9, 3) := dk_180 0 9 (dk_at dksX3_copy_0 18 rfl rfl)
theorem dX3_copy_21 : decode cX3_copy 21 = .ok (.putfield 9, 3) := dk_181 0 9 (dk_at dksX3_copy_0 21 rfl rfl)
theorem dX3_copy_24 : decode cX3_copy 24 = .ok (.aload_n 1, 1) := dk_43 (dk_at dksX3_copy_1 0 rfl rfl)
theorem dX3_copy_25 : decode cX3_copy 25 = .ok (.areturn, 1) := dk_176 (dk_at dksX3_copy_1 1 rfl rfl)
abbrev cX3_isFree : ByteArray := prog_4_method_3_code
def yX3_isFree : MethodName := ⟨RX3, "isFree", "()Z"⟩
def dkwX3_isFree_0 : List UInt8 := [42, 180, 0, 9, 2, 160, 0, 7, 4, 167, 0, 4, 3, 172]
abbrev dktX3_isFree_0 : List UInt8 := dkwX3_isFree_0 ++ []
theorem dksX3_isFree_0 : cX3_isFree.data.toList.drop 0 = dktX3_isFree_0 := by decide +kernel
theorem dX3_isFree_0 : decode cX3_isFree 0 = .ok (.aload_n 0, 1) := dk_42 (dk_at dksX3_isFree_0 0 rfl rfl)
theorem dX3_isFree_1 : decode cX3_isFree 1 = .ok (.getfield 9, 3) := dk_180 0 9 (dk_at dksX3_isFree_0 1 rfl rfl)
theorem dX3_isFree_4 : decode cX3_isFree 4 = .ok (.iconst (-1), 1) := dk_2 (dk_at dksX3_isFree_0 4 rfl rfl)
theorem dX3_isFree_5 : decode cX3_isFree 5 = .ok (.if_icmp .ne 7, 3) := dk_160 0 7 (dk_at dksX3_isFree_0 5 rfl rfl)
theorem dX3_isFree_8 : decode cX3_isFree 8 = .ok (.iconst 1, 1) := dk_4 (dk_at dksX3_isFree_0 8 rfl rfl)
theorem dX3_isFree_9 : decode cX3_isFree 9 = .ok (.goto 4, 3) := dk_167 0 4 (dk_at dksX3_isFree_0 9 rfl rfl)
theorem dX3_isFree_12 : decode cX3_isFree 12 = .ok (.iconst 0, 1) := dk_3 (dk_at dksX3_isFree_0 12 rfl rfl)
theorem dX3_isFree_13 : decode cX3_isFree 13 = .ok (.ireturn, 1) := dk_172 (dk_at dksX3_isFree_0 13 rfl rfl)
theorem q39 : (Jvm.Cond.initialized "CakeTastes$Slice") ∈ lw_all := lw_g (lw_at lw_m1 6 rfl) rfl
theorem q114 : (Jvm.Cond.instantiable "CakeTastes$Slice" (2 : Nat)) ∈ lw_all := lw_g (lw_at lw_m1 81 rfl) rfl
theorem q116 : (Jvm.Cond.instanceMethod ({ cls := "CakeTastes$Slice", name := "<init>", desc := "()V" } : Jvm.MethodName)) ∈ lw_all := lw_g (lw_at lw_m1 83 rfl) rfl
theorem q117 : (Jvm.Cond.code ({ cls := "CakeTastes$Slice", name := "<init>", desc := "()V" } : Jvm.MethodName) prog_4_method_1_code (1 : Nat) (Option.none : Option Jvm.ClassFile.FieldType)) ∈ lw_all := lw_g (lw_at lw_m1 84 rfl) rfl
theorem q118 : (Jvm.Cond.methodLink "CakeTastes$Slice" (3 : Nat) ({ cls := "java/lang/Object", name := "<init>", desc := "()V" } : Jvm.MethodName)) ∈ lw_all := lw_g (lw_at lw_m1 85 rfl) rfl
theorem q119 : (Jvm.Cond.fieldLink "CakeTastes$Slice" (16 : Nat) "CakeTastes$Slice" "sort" "I") ∈ lw_all := lw_g (lw_at lw_m1 86 rfl) rfl
theorem q122 : (Jvm.Cond.fieldLink "CakeTastes$Slice" (9 : Nat) "CakeTastes$Slice" "owner" "I") ∈ lw_all := lw_g (lw_at lw_m1 89 rfl) rfl
theorem q125 : (Jvm.Cond.lays "CakeTastes$Slice" "CakeTastes$Slice" "sort" "I") ∈ lw_all := lw_g (lw_at lw_m1 92 rfl) rfl
theorem q126 : (Jvm.Cond.soleField "CakeTastes$Slice" "sort") ∈ lw_all := lw_g (lw_at lw_m1 93 rfl) rfl
theorem q127 : (Jvm.Cond.lays "CakeTastes$Slice" "CakeTastes$Slice" "owner" "I") ∈ lw_all := lw_g (lw_at lw_m1 94 rfl) rfl
theorem q128 : (Jvm.Cond.soleField "CakeTastes$Slice" "owner") ∈ lw_all := lw_g (lw_at lw_m1 95 rfl) rfl
theorem q129 : (Jvm.Cond.superclass "CakeTastes$Slice" "java/lang/Object") ∈ lw_all := lw_g (lw_at lw_m1 96 rfl) rfl
theorem q165 : (Jvm.Cond.selects "CakeTastes$Slice" ({ cls := "java/lang/Object", name := "getClass", desc := "()Ljava/lang/Class;" } : Jvm.MethodName) ({ cls := "java/lang/Object", name := "getClass", desc := "()Ljava/lang/Class;" } : Jvm.MethodName)) ∈ lw_all := lw_g (lw_at lw_m1 132 rfl) rfl
theorem q251 : (Jvm.Cond.instanceMethod ({ cls := "CakeTastes$Slice", name := "copy", desc := "()LCakeTastes$Slice;" } : Jvm.MethodName)) ∈ lw_all := lw_g (lw_at lw_m1 218 rfl) rfl
theorem q252 : (Jvm.Cond.selects "CakeTastes$Slice" ({ cls := "CakeTastes$Slice", name := "copy", desc := "()LCakeTastes$Slice;" } : Jvm.MethodName) ({ cls := "CakeTastes$Slice", name := "copy", desc := "()LCakeTastes$Slice;" } : Jvm.MethodName)) ∈ lw_all := lw_g (lw_at lw_m1 219 rfl) rfl
theorem q253 : (Jvm.Cond.code ({ cls := "CakeTastes$Slice", name := "copy", desc := "()LCakeTastes$Slice;" } : Jvm.MethodName) prog_4_method_2_code (2 : Nat) (Option.some (Jvm.ClassFile.FieldType.object "CakeTastes$Slice"))) ∈ lw_all := lw_g (lw_at lw_m1 220 rfl) rfl
theorem q254 : (Jvm.Cond.classLink "CakeTastes$Slice" (10 : Nat) "CakeTastes$Slice") ∈ lw_all := lw_g (lw_at lw_m1 221 rfl) rfl
theorem q255 : (Jvm.Cond.methodLink "CakeTastes$Slice" (15 : Nat) ({ cls := "CakeTastes$Slice", name := "<init>", desc := "()V" } : Jvm.MethodName)) ∈ lw_all := lw_g (lw_at lw_m1 222 rfl) rfl
theorem q355 : (Jvm.Cond.instanceMethod ({ cls := "CakeTastes$Slice", name := "isFree", desc := "()Z" } : Jvm.MethodName)) ∈ lw_all := lw_g (lw_at lw_m2 82 rfl) rfl
theorem q356 : (Jvm.Cond.selects "CakeTastes$Slice" ({ cls := "CakeTastes$Slice", name := "isFree", desc := "()Z" } : Jvm.MethodName) ({ cls := "CakeTastes$Slice", name := "isFree", desc := "()Z" } : Jvm.MethodName)) ∈ lw_all := lw_g (lw_at lw_m2 83 rfl) rfl
theorem q357 : (Jvm.Cond.code ({ cls := "CakeTastes$Slice", name := "isFree", desc := "()Z" } : Jvm.MethodName) prog_4_method_3_code (1 : Nat) (Option.some Jvm.ClassFile.FieldType.boolean)) ∈ lw_all := lw_g (lw_at lw_m2 84 rfl) rfl
theorem q1004 : (Jvm.Cond.castable "CakeTastes$Slice" "java/lang/Object") ∈ lw_tbl := lw_at lw_m5 11 rfl
theorem in_X3 : ∀ w ∈ wsX30, w ∈ lw_all := lw_in wsX30 [125, 127] (by decide +kernel) (by decide +kernel)

/-! CakeTastes$Eater -/
set_option maxRecDepth 100000
def RX5 : String := "CakeTastes$Eater"
def TX5 : u_T := fun k => match k with
  | _ => ("CakeTastes$Eater", "tastes", "[I", true)
def tyX5 : Nat → FieldType := fun k => match k with
  | _ => .array .int
abbrev wsX50 : List Cond := u_ws RX5 TX5 1
theorem nmX5 : ∀ a, a < 1 → ∀ b, b < 1 → a ≠ b → (TX5 a).2.1 ≠ (TX5 b).2.1 := by decide +kernel
theorem tyX5_ok : ∀ k, k < 1 → parseFieldDescriptor (TX5 k).2.2.1 = some (tyX5 k) := by decide +kernel
abbrev cX5_init : ByteArray := prog_2_method_1_code
def yX5_init : MethodName := ⟨RX5, "<init>", "()V"⟩
def dkwX5_init_1 : List UInt8 := [79, 132, 1, 1, 167, 255, 241, 177]
abbrev dktX5_init_1 : List UInt8 := dkwX5_init_1 ++ []
def dkwX5_init_0 : List UInt8 := [42, 183, 0, 3, 42, 8, 188, 10, 181, 0, 9, 3, 60, 27, 8, 162, 0, 16, 42, 180, 0, 9, 27, 4]
abbrev dktX5_init_0 : List UInt8 := dkwX5_init_0 ++ dktX5_init_1
theorem dksX5_init_0 : cX5_init.data.toList.drop 0 = dktX5_init_0 := by decide +kernel
theorem dksX5_init_1 : cX5_init.data.toList.drop 24 = dktX5_init_1 := dk_seg dksX5_init_0 24 rfl rfl
theorem dX5_init_0 : decode cX5_init 0 = .ok (.aload_n 0, 1) := dk_42 (dk_at dksX5_init_0 0 rfl rfl)
theorem dX5_init_1 : decode cX5_init 1 = .ok (.invokespecial 3, 3) := dk_183 0 3 (dk_at dksX5_init_0 1 rfl rfl)
theorem dX5_init_4 : decode cX5_init 4 = .ok (.aload_n 0, 1) := dk_42 (dk_at dksX5_init_0 4 rfl rfl)
theorem dX5_init_5 : decode cX5_init 5 = .ok (.iconst 5, 1) := dk_8 (dk_at dksX5_init_0 5 rfl rfl)
theorem dX5_init_6 : decode cX5_init 6 = .ok (.newarray .int, 2) := dk_188_10 (dk_at dksX5_init_0 6 rfl rfl)
theorem dX5_init_8 : decode cX5_init 8 = .ok (.putfield 9, 3) := dk_181 0 9 (dk_at dksX5_init_0 8 rfl rfl)
theorem dX5_init_11 : decode cX5_init 11 = .ok (.iconst 0, 1) := dk_3 (dk_at dksX5_init_0 11 rfl rfl)
theorem dX5_init_12 : decode cX5_init 12 = .ok (.istore_n 1, 1) := dk_60 (dk_at dksX5_init_0 12 rfl rfl)
theorem dX5_init_13 : decode cX5_init 13 = .ok (.iload_n 1, 1) := dk_27 (dk_at dksX5_init_0 13 rfl rfl)
theorem dX5_init_14 : decode cX5_init 14 = .ok (.iconst 5, 1) := dk_8 (dk_at dksX5_init_0 14 rfl rfl)
theorem dX5_init_15 : decode cX5_init 15 = .ok (.if_icmp .ge 16, 3) := dk_162 0 16 (dk_at dksX5_init_0 15 rfl rfl)
theorem dX5_init_18 : decode cX5_init 18 = .ok (.aload_n 0, 1) := dk_42 (dk_at dksX5_init_0 18 rfl rfl)
theorem dX5_init_19 : decode cX5_init 19 = .ok (.getfield 9, 3) := dk_180 0 9 (dk_at dksX5_init_0 19 rfl rfl)
theorem dX5_init_22 : decode cX5_init 22 = .ok (.iload_n 1, 1) := dk_27 (dk_at dksX5_init_0 22 rfl rfl)
theorem dX5_init_23 : decode cX5_init 23 = .ok (.iconst 1, 1) := dk_4 (dk_at dksX5_init_0 23 rfl rfl)
theorem dX5_init_24 : decode cX5_init 24 = .ok (.iastore, 1) := dk_79 (dk_at dksX5_init_1 0 rfl rfl)
theorem dX5_init_25 : decode cX5_init 25 = .ok (.iinc 1 1, 3) := dk_132 1 1 (dk_at dksX5_init_1 1 rfl rfl)
theorem dX5_init_28 : decode cX5_init 28 = .ok (.goto (-15), 3) := dk_167 255 241 (dk_at dksX5_init_1 4 rfl rfl)
theorem dX5_init_31 : decode cX5_init 31 = .ok (.return_, 1) := dk_177 (dk_at dksX5_init_1 7 rfl rfl)
theorem q55 : (Jvm.Cond.initialized "CakeTastes$Eater") ∈ lw_all := lw_g (lw_at lw_m1 22 rfl) rfl
theorem q163 : (Jvm.Cond.selects "CakeTastes$Eater" ({ cls := "java/lang/Object", name := "getClass", desc := "()Ljava/lang/Class;" } : Jvm.MethodName) ({ cls := "java/lang/Object", name := "getClass", desc := "()Ljava/lang/Class;" } : Jvm.MethodName)) ∈ lw_all := lw_g (lw_at lw_m1 130 rfl) rfl
theorem q669 : (Jvm.Cond.instantiable "CakeTastes$Eater" (1 : Nat)) ∈ lw_all := lw_g (lw_at lw_m3 156 rfl) rfl
theorem q671 : (Jvm.Cond.instanceMethod ({ cls := "CakeTastes$Eater", name := "<init>", desc := "()V" } : Jvm.MethodName)) ∈ lw_all := lw_g (lw_at lw_m3 158 rfl) rfl
theorem q672 : (Jvm.Cond.code ({ cls := "CakeTastes$Eater", name := "<init>", desc := "()V" } : Jvm.MethodName) prog_2_method_1_code (2 : Nat) (Option.none : Option Jvm.ClassFile.FieldType)) ∈ lw_all := lw_g (lw_at lw_m3 159 rfl) rfl
theorem q673 : (Jvm.Cond.methodLink "CakeTastes$Eater" (3 : Nat) ({ cls := "java/lang/Object", name := "<init>", desc := "()V" } : Jvm.MethodName)) ∈ lw_all := lw_g (lw_at lw_m3 160 rfl) rfl
theorem q674 : (Jvm.Cond.fieldLink "CakeTastes$Eater" (9 : Nat) "CakeTastes$Eater" "tastes" "[I") ∈ lw_all := lw_g (lw_at lw_m3 161 rfl) rfl
theorem q677 : (Jvm.Cond.laysFinal "CakeTastes$Eater" "CakeTastes$Eater" "tastes" "[I") ∈ lw_all := lw_g (lw_at lw_m3 164 rfl) rfl
theorem q678 : (Jvm.Cond.soleField "CakeTastes$Eater" "tastes") ∈ lw_all := lw_g (lw_at lw_m3 165 rfl) rfl
theorem q679 : (Jvm.Cond.superclass "CakeTastes$Eater" "java/lang/Object") ∈ lw_all := lw_g (lw_at lw_m3 166 rfl) rfl
theorem q1010 : (Jvm.Cond.castable "CakeTastes$Eater" "java/lang/Object") ∈ lw_tbl := lw_at lw_m5 17 rfl
theorem in_X5 : ∀ w ∈ wsX50, w ∈ lw_all := lw_in wsX50 [677] (by decide +kernel) (by decide +kernel)

/-! CakeTastes$Run -/
set_option maxRecDepth 100000
def RX6 : String := "CakeTastes$Run"
def TX6 : u_T := fun k => match k with
  | 0 => ("CakeTastes$Run", "from", "I", true)
  | _ => ("CakeTastes$Run", "to", "I", true)
def tyX6 : Nat → FieldType := fun k => match k with
  | 0 => .int
  | _ => .int
abbrev wsX60 : List Cond := u_ws RX6 TX6 2
theorem nmX6 : ∀ a, a < 2 → ∀ b, b < 2 → a ≠ b → (TX6 a).2.1 ≠ (TX6 b).2.1 := by decide +kernel
theorem tyX6_ok : ∀ k, k < 2 → parseFieldDescriptor (TX6 k).2.2.1 = some (tyX6 k) := by decide +kernel
abbrev cX6_init : ByteArray := prog_3_method_1_code
def yX6_init : MethodName := ⟨RX6, "<init>", "(II)V"⟩
def dkwX6_init_0 : List UInt8 := [42, 183, 0, 1, 42, 27, 181, 0, 7, 42, 28, 181, 0, 13, 177]
abbrev dktX6_init_0 : List UInt8 := dkwX6_init_0 ++ []
theorem dksX6_init_0 : cX6_init.data.toList.drop 0 = dktX6_init_0 := by decide +kernel
theorem dX6_init_0 : decode cX6_init 0 = .ok (.aload_n 0, 1) := dk_42 (dk_at dksX6_init_0 0 rfl rfl)
theorem dX6_init_1 : decode cX6_init 1 = .ok (.invokespecial 1, 3) := dk_183 0 1 (dk_at dksX6_init_0 1 rfl rfl)
theorem dX6_init_4 : decode cX6_init 4 = .ok (.aload_n 0, 1) := dk_42 (dk_at dksX6_init_0 4 rfl rfl)
theorem dX6_init_5 : decode cX6_init 5 = .ok (.iload_n 1, 1) := dk_27 (dk_at dksX6_init_0 5 rfl rfl)
theorem dX6_init_6 : decode cX6_init 6 = .ok (.putfield 7, 3) := dk_181 0 7 (dk_at dksX6_init_0 6 rfl rfl)
theorem dX6_init_9 : decode cX6_init 9 = .ok (.aload_n 0, 1) := dk_42 (dk_at dksX6_init_0 9 rfl rfl)
theorem dX6_init_10 : decode cX6_init 10 = .ok (.iload_n 2, 1) := dk_28 (dk_at dksX6_init_0 10 rfl rfl)
theorem dX6_init_11 : decode cX6_init 11 = .ok (.putfield 13, 3) := dk_181 0 13 (dk_at dksX6_init_0 11 rfl rfl)
theorem dX6_init_14 : decode cX6_init 14 = .ok (.return_, 1) := dk_177 (dk_at dksX6_init_0 14 rfl rfl)
abbrev cX6_from : ByteArray := prog_3_method_6_code
def yX6_from : MethodName := ⟨RX6, "from", "()I"⟩
theorem dX6_from_0 : decode cX6_from 0 = .ok (.aload_n 0, 1) := by decide +kernel
theorem dX6_from_1 : decode cX6_from 1 = .ok (.getfield 7, 3) := by decide +kernel
theorem dX6_from_4 : decode cX6_from 4 = .ok (.ireturn, 1) := by decide +kernel
abbrev cX6_to : ByteArray := prog_3_method_7_code
def yX6_to : MethodName := ⟨RX6, "to", "()I"⟩
theorem dX6_to_0 : decode cX6_to 0 = .ok (.aload_n 0, 1) := by decide +kernel
theorem dX6_to_1 : decode cX6_to 1 = .ok (.getfield 13, 3) := by decide +kernel
theorem dX6_to_4 : decode cX6_to 4 = .ok (.ireturn, 1) := by decide +kernel
abbrev cX6_size : ByteArray := prog_3_method_2_code
def yX6_size : MethodName := ⟨RX6, "size", "()I"⟩
def dkwX6_size_0 : List UInt8 := [42, 180, 0, 13, 42, 180, 0, 7, 100, 172]
abbrev dktX6_size_0 : List UInt8 := dkwX6_size_0 ++ []
theorem dksX6_size_0 : cX6_size.data.toList.drop 0 = dktX6_size_0 := by decide +kernel
theorem dX6_size_0 : decode cX6_size 0 = .ok (.aload_n 0, 1) := dk_42 (dk_at dksX6_size_0 0 rfl rfl)
theorem dX6_size_1 : decode cX6_size 1 = .ok (.getfield 13, 3) := dk_180 0 13 (dk_at dksX6_size_0 1 rfl rfl)
theorem dX6_size_4 : decode cX6_size 4 = .ok (.aload_n 0, 1) := dk_42 (dk_at dksX6_size_0 4 rfl rfl)
theorem dX6_size_5 : decode cX6_size 5 = .ok (.getfield 7, 3) := dk_180 0 7 (dk_at dksX6_size_0 5 rfl rfl)
theorem dX6_size_8 : decode cX6_size 8 = .ok (.isub, 1) := dk_100 (dk_at dksX6_size_0 8 rfl rfl)
theorem dX6_size_9 : decode cX6_size 9 = .ok (.ireturn, 1) := dk_172 (dk_at dksX6_size_0 9 rfl rfl)
theorem q57 : (Jvm.Cond.initialized "CakeTastes$Run") ∈ lw_all := lw_g (lw_at lw_m1 24 rfl) rfl
theorem q164 : (Jvm.Cond.selects "CakeTastes$Run" ({ cls := "java/lang/Object", name := "getClass", desc := "()Ljava/lang/Class;" } : Jvm.MethodName) ({ cls := "java/lang/Object", name := "getClass", desc := "()Ljava/lang/Class;" } : Jvm.MethodName)) ∈ lw_all := lw_g (lw_at lw_m1 131 rfl) rfl
theorem q276 : (Jvm.Cond.instantiable "CakeTastes$Run" (2 : Nat)) ∈ lw_all := lw_g (lw_at lw_m2 3 rfl) rfl
theorem q278 : (Jvm.Cond.instanceMethod ({ cls := "CakeTastes$Run", name := "<init>", desc := "(II)V" } : Jvm.MethodName)) ∈ lw_all := lw_g (lw_at lw_m2 5 rfl) rfl
theorem q279 : (Jvm.Cond.code ({ cls := "CakeTastes$Run", name := "<init>", desc := "(II)V" } : Jvm.MethodName) prog_3_method_1_code (3 : Nat) (Option.none : Option Jvm.ClassFile.FieldType)) ∈ lw_all := lw_g (lw_at lw_m2 6 rfl) rfl
theorem q280 : (Jvm.Cond.methodLink "CakeTastes$Run" (1 : Nat) ({ cls := "java/lang/Record", name := "<init>", desc := "()V" } : Jvm.MethodName)) ∈ lw_all := lw_g (lw_at lw_m2 7 rfl) rfl
theorem q284 : (Jvm.Cond.fieldLink "CakeTastes$Run" (7 : Nat) "CakeTastes$Run" "from" "I") ∈ lw_all := lw_g (lw_at lw_m2 11 rfl) rfl
theorem q285 : (Jvm.Cond.fieldLink "CakeTastes$Run" (13 : Nat) "CakeTastes$Run" "to" "I") ∈ lw_all := lw_g (lw_at lw_m2 12 rfl) rfl
theorem q286 : (Jvm.Cond.laysFinal "CakeTastes$Run" "CakeTastes$Run" "from" "I") ∈ lw_all := lw_g (lw_at lw_m2 13 rfl) rfl
theorem q287 : (Jvm.Cond.soleField "CakeTastes$Run" "from") ∈ lw_all := lw_g (lw_at lw_m2 14 rfl) rfl
theorem q288 : (Jvm.Cond.laysFinal "CakeTastes$Run" "CakeTastes$Run" "to" "I") ∈ lw_all := lw_g (lw_at lw_m2 15 rfl) rfl
theorem q289 : (Jvm.Cond.soleField "CakeTastes$Run" "to") ∈ lw_all := lw_g (lw_at lw_m2 16 rfl) rfl
theorem q290 : (Jvm.Cond.superclass "CakeTastes$Run" "java/lang/Record") ∈ lw_all := lw_g (lw_at lw_m2 17 rfl) rfl
theorem q301 : (Jvm.Cond.instanceMethod ({ cls := "CakeTastes$Run", name := "from", desc := "()I" } : Jvm.MethodName)) ∈ lw_all := lw_g (lw_at lw_m2 28 rfl) rfl
theorem q302 : (Jvm.Cond.selects "CakeTastes$Run" ({ cls := "CakeTastes$Run", name := "from", desc := "()I" } : Jvm.MethodName) ({ cls := "CakeTastes$Run", name := "from", desc := "()I" } : Jvm.MethodName)) ∈ lw_all := lw_g (lw_at lw_m2 29 rfl) rfl
theorem q303 : (Jvm.Cond.code ({ cls := "CakeTastes$Run", name := "from", desc := "()I" } : Jvm.MethodName) prog_3_method_6_code (1 : Nat) (Option.some Jvm.ClassFile.FieldType.int)) ∈ lw_all := lw_g (lw_at lw_m2 30 rfl) rfl
theorem q305 : (Jvm.Cond.instanceMethod ({ cls := "CakeTastes$Run", name := "to", desc := "()I" } : Jvm.MethodName)) ∈ lw_all := lw_g (lw_at lw_m2 32 rfl) rfl
theorem q306 : (Jvm.Cond.selects "CakeTastes$Run" ({ cls := "CakeTastes$Run", name := "to", desc := "()I" } : Jvm.MethodName) ({ cls := "CakeTastes$Run", name := "to", desc := "()I" } : Jvm.MethodName)) ∈ lw_all := lw_g (lw_at lw_m2 33 rfl) rfl
theorem q307 : (Jvm.Cond.code ({ cls := "CakeTastes$Run", name := "to", desc := "()I" } : Jvm.MethodName) prog_3_method_7_code (1 : Nat) (Option.some Jvm.ClassFile.FieldType.int)) ∈ lw_all := lw_g (lw_at lw_m2 34 rfl) rfl
theorem q339 : (Jvm.Cond.instanceMethod ({ cls := "CakeTastes$Run", name := "size", desc := "()I" } : Jvm.MethodName)) ∈ lw_all := lw_g (lw_at lw_m2 66 rfl) rfl
theorem q340 : (Jvm.Cond.selects "CakeTastes$Run" ({ cls := "CakeTastes$Run", name := "size", desc := "()I" } : Jvm.MethodName) ({ cls := "CakeTastes$Run", name := "size", desc := "()I" } : Jvm.MethodName)) ∈ lw_all := lw_g (lw_at lw_m2 67 rfl) rfl
theorem q341 : (Jvm.Cond.code ({ cls := "CakeTastes$Run", name := "size", desc := "()I" } : Jvm.MethodName) prog_3_method_2_code (1 : Nat) (Option.some Jvm.ClassFile.FieldType.int)) ∈ lw_all := lw_g (lw_at lw_m2 68 rfl) rfl
theorem q999 : (Jvm.Cond.castable "CakeTastes$Run" "java/lang/Object") ∈ lw_tbl := lw_at lw_m5 6 rfl
theorem in_X6 : ∀ w ∈ wsX60, w ∈ lw_all := lw_in wsX60 [286, 288] (by decide +kernel) (by decide +kernel)

/-! CakeTastes$Way$4 -/
set_option maxRecDepth 100000
def RX7 : String := "CakeTastes$Way$4"
abbrev cX7_share : ByteArray := prog_10_method_2_code
def yX7_share : MethodName := ⟨RX7, "share", "(LCakeTastes$Table;)V"⟩
def dkwX7_share_7 : List UInt8 := [154, 0, 9, 132, 4, 1, 167, 255, 244, 43, 45, 21, 4, 182, 0, 46, 177]
abbrev dktX7_share_7 : List UInt8 := dkwX7_share_7 ++ []
def dkwX7_share_6 : List UInt8 := [183, 0, 43, 78, 28, 4, 21, 4, 120, 130, 61, 167, 255, 125, 3, 54, 4, 28, 21, 4, 122, 4, 126]
abbrev dktX7_share_6 : List UInt8 := dkwX7_share_6 ++ dktX7_share_7
def dkwX7_share_5 : List UInt8 := [182, 0, 40, 21, 5, 183, 0, 43, 21, 4, 182, 0, 46, 187, 0, 36, 89, 21, 5, 45, 182, 0, 35]
abbrev dktX7_share_5 : List UInt8 := dkwX7_share_5 ++ dktX7_share_6
def dkwX7_share_4 : List UInt8 := [167, 0, 11, 21, 6, 54, 4, 21, 7, 54, 5, 132, 6, 1, 167, 255, 185, 43, 187, 0, 36, 89, 45]
abbrev dktX7_share_4 : List UInt8 := dkwX7_share_4 ++ dktX7_share_5
def dkwX7_share_3 : List UInt8 := [182, 0, 31, 3, 50, 182, 0, 35, 54, 7, 21, 4, 2, 159, 0, 13, 21, 7, 21, 5, 161, 0, 6]
abbrev dktX7_share_3 : List UInt8 := dkwX7_share_3 ++ dktX7_share_4
def dkwX7_share_2 : List UInt8 := [162, 0, 63, 28, 21, 6, 122, 4, 126, 154, 0, 6, 167, 0, 45, 43, 21, 6, 45, 28, 184, 0, 25]
abbrev dktX7_share_2 : List UInt8 := dkwX7_share_2 ++ dktX7_share_3
def dkwX7_share_1 : List UInt8 := [164, 0, 129, 2, 54, 4, 3, 54, 5, 3, 54, 6, 21, 6, 43, 180, 0, 9, 185, 0, 15, 1, 0]
abbrev dktX7_share_1 : List UInt8 := dkwX7_share_1 ++ dktX7_share_2
def dkwX7_share_0 : List UInt8 := [4, 43, 180, 0, 9, 185, 0, 15, 1, 0, 120, 4, 100, 61, 43, 182, 0, 21, 78, 28, 184, 0, 25, 4]
abbrev dktX7_share_0 : List UInt8 := dkwX7_share_0 ++ dktX7_share_1
theorem dksX7_share_0 : cX7_share.data.toList.drop 0 = dktX7_share_0 := by decide +kernel
theorem dksX7_share_1 : cX7_share.data.toList.drop 24 = dktX7_share_1 := dk_seg dksX7_share_0 24 rfl rfl
theorem dksX7_share_2 : cX7_share.data.toList.drop 47 = dktX7_share_2 := dk_seg dksX7_share_1 23 rfl rfl
theorem dksX7_share_3 : cX7_share.data.toList.drop 70 = dktX7_share_3 := dk_seg dksX7_share_2 23 rfl rfl
theorem dksX7_share_4 : cX7_share.data.toList.drop 93 = dktX7_share_4 := dk_seg dksX7_share_3 23 rfl rfl
theorem dksX7_share_5 : cX7_share.data.toList.drop 116 = dktX7_share_5 := dk_seg dksX7_share_4 23 rfl rfl
theorem dksX7_share_6 : cX7_share.data.toList.drop 139 = dktX7_share_6 := dk_seg dksX7_share_5 23 rfl rfl
theorem dksX7_share_7 : cX7_share.data.toList.drop 162 = dktX7_share_7 := dk_seg dksX7_share_6 23 rfl rfl
theorem dX7_share_0 : decode cX7_share 0 = .ok (.iconst 1, 1) := dk_4 (dk_at dksX7_share_0 0 rfl rfl)
theorem dX7_share_1 : decode cX7_share 1 = .ok (.aload_n 1, 1) := dk_43 (dk_at dksX7_share_0 1 rfl rfl)
theorem dX7_share_2 : decode cX7_share 2 = .ok (.getfield 9, 3) := dk_180 0 9 (dk_at dksX7_share_0 2 rfl rfl)
theorem dX7_share_5 : decode cX7_share 5 = .ok (.invokeinterface 15 1, 5) := by decide +kernel
theorem dX7_share_10 : decode cX7_share 10 = .ok (.ishl, 1) := dk_120 (dk_at dksX7_share_0 10 rfl rfl)
theorem dX7_share_11 : decode cX7_share 11 = .ok (.iconst 1, 1) := dk_4 (dk_at dksX7_share_0 11 rfl rfl)
theorem dX7_share_12 : decode cX7_share 12 = .ok (.isub, 1) := dk_100 (dk_at dksX7_share_0 12 rfl rfl)
theorem dX7_share_13 : decode cX7_share 13 = .ok (.istore_n 2, 1) := dk_61 (dk_at dksX7_share_0 13 rfl rfl)
theorem dX7_share_14 : decode cX7_share 14 = .ok (.aload_n 1, 1) := dk_43 (dk_at dksX7_share_0 14 rfl rfl)
theorem dX7_share_15 : decode cX7_share 15 = .ok (.invokevirtual 21, 3) := dk_182 0 21 (dk_at dksX7_share_0 15 rfl rfl)
theorem dX7_share_18 : decode cX7_share 18 = .ok (.astore_n 3, 1) := dk_78 (dk_at dksX7_share_0 18 rfl rfl)
theorem dX7_share_19 : decode cX7_share 19 = .ok (.iload_n 2, 1) := dk_28 (dk_at dksX7_share_0 19 rfl rfl)
theorem dX7_share_20 : decode cX7_share 20 = .ok (.invokestatic 25, 3) := dk_184 0 25 (dk_at dksX7_share_0 20 rfl rfl)
theorem dX7_share_23 : decode cX7_share 23 = .ok (.iconst 1, 1) := dk_4 (dk_at dksX7_share_0 23 rfl rfl)
theorem dX7_share_24 : decode cX7_share 24 = .ok (.if_icmp .le 129, 3) := dk_164 0 129 (dk_at dksX7_share_1 0 rfl rfl)
theorem dX7_share_27 : decode cX7_share 27 = .ok (.iconst (-1), 1) := dk_2 (dk_at dksX7_share_1 3 rfl rfl)
theorem dX7_share_28 : decode cX7_share 28 = .ok (.istore 4, 2) := dk_54 4 (dk_at dksX7_share_1 4 rfl rfl)
theorem dX7_share_30 : decode cX7_share 30 = .ok (.iconst 0, 1) := dk_3 (dk_at dksX7_share_1 6 rfl rfl)
theorem dX7_share_31 : decode cX7_share 31 = .ok (.istore 5, 2) := dk_54 5 (dk_at dksX7_share_1 7 rfl rfl)
theorem dX7_share_33 : decode cX7_share 33 = .ok (.iconst 0, 1) := dk_3 (dk_at dksX7_share_1 9 rfl rfl)
theorem dX7_share_34 : decode cX7_share 34 = .ok (.istore 6, 2) := dk_54 6 (dk_at dksX7_share_1 10 rfl rfl)
theorem dX7_share_36 : decode cX7_share 36 = .ok (.iload 6, 2) := dk_21 6 (dk_at dksX7_share_1 12 rfl rfl)
theorem dX7_share_38 : decode cX7_share 38 = .ok (.aload_n 1, 1) := dk_43 (dk_at dksX7_share_1 14 rfl rfl)
theorem dX7_share_39 : decode cX7_share 39 = .ok (.getfield 9, 3) := dk_180 0 9 (dk_at dksX7_share_1 15 rfl rfl)
theorem dX7_share_42 : decode cX7_share 42 = .ok (.invokeinterface 15 1, 5) := by decide +kernel
theorem dX7_share_47 : decode cX7_share 47 = .ok (.if_icmp .ge 63, 3) := dk_162 0 63 (dk_at dksX7_share_2 0 rfl rfl)
theorem dX7_share_50 : decode cX7_share 50 = .ok (.iload_n 2, 1) := dk_28 (dk_at dksX7_share_2 3 rfl rfl)
theorem dX7_share_51 : decode cX7_share 51 = .ok (.iload 6, 2) := dk_21 6 (dk_at dksX7_share_2 4 rfl rfl)
theorem dX7_share_53 : decode cX7_share 53 = .ok (.ishr, 1) := dk_122 (dk_at dksX7_share_2 6 rfl rfl)
theorem dX7_share_54 : decode cX7_share 54 = .ok (.iconst 1, 1) := dk_4 (dk_at dksX7_share_2 7 rfl rfl)
theorem dX7_share_55 : decode cX7_share 55 = .ok (.iand, 1) := dk_126 (dk_at dksX7_share_2 8 rfl rfl)
theorem dX7_share_56 : decode cX7_share 56 = .ok (.ifCond .ne 6, 3) := dk_154 0 6 (dk_at dksX7_share_2 9 rfl rfl)
theorem dX7_share_59 : decode cX7_share 59 = .ok (.goto 45, 3) := dk_167 0 45 (dk_at dksX7_share_2 12 rfl rfl)
theorem dX7_share_62 : decode cX7_share 62 = .ok (.aload_n 1, 1) := dk_43 (dk_at dksX7_share_2 15 rfl rfl)
theorem dX7_share_63 : decode cX7_share 63 = .ok (.iload 6, 2) := dk_21 6 (dk_at dksX7_share_2 16 rfl rfl)
theorem dX7_share_65 : decode cX7_share 65 = .ok (.aload_n 3, 1) := dk_45 (dk_at dksX7_share_2 18 rfl rfl)
theorem dX7_share_66 : decode cX7_share 66 = .ok (.iload_n 2, 1) := dk_28 (dk_at dksX7_share_2 19 rfl rfl)
theorem dX7_share_67 : decode cX7_share 67 = .ok (.invokestatic 25, 3) := dk_184 0 25 (dk_at dksX7_share_2 20 rfl rfl)
theorem dX7_share_70 : decode cX7_share 70 = .ok (.invokevirtual 31, 3) := dk_182 0 31 (dk_at dksX7_share_3 0 rfl rfl)
theorem dX7_share_73 : decode cX7_share 73 = .ok (.iconst 0, 1) := dk_3 (dk_at dksX7_share_3 3 rfl rfl)
theorem dX7_share_74 : decode cX7_share 74 = .ok (.aaload, 1) := dk_50 (dk_at dksX7_share_3 4 rfl rfl)
theorem dX7_share_75 : decode cX7_share 75 = .ok (.invokevirtual 35, 3) := dk_182 0 35 (dk_at dksX7_share_3 5 rfl rfl)
theorem dX7_share_78 : decode cX7_share 78 = .ok (.istore 7, 2) := dk_54 7 (dk_at dksX7_share_3 8 rfl rfl)
theorem dX7_share_80 : decode cX7_share 80 = .ok (.iload 4, 2) := dk_21 4 (dk_at dksX7_share_3 10 rfl rfl)
theorem dX7_share_82 : decode cX7_share 82 = .ok (.iconst (-1), 1) := dk_2 (dk_at dksX7_share_3 12 rfl rfl)
theorem dX7_share_83 : decode cX7_share 83 = .ok (.if_icmp .eq 13, 3) := dk_159 0 13 (dk_at dksX7_share_3 13 rfl rfl)
theorem dX7_share_86 : decode cX7_share 86 = .ok (.iload 7, 2) := dk_21 7 (dk_at dksX7_share_3 16 rfl rfl)
theorem dX7_share_88 : decode cX7_share 88 = .ok (.iload 5, 2) := dk_21 5 (dk_at dksX7_share_3 18 rfl rfl)
theorem dX7_share_90 : decode cX7_share 90 = .ok (.if_icmp .lt 6, 3) := dk_161 0 6 (dk_at dksX7_share_3 20 rfl rfl)
theorem dX7_share_93 : decode cX7_share 93 = .ok (.goto 11, 3) := dk_167 0 11 (dk_at dksX7_share_4 0 rfl rfl)
theorem dX7_share_96 : decode cX7_share 96 = .ok (.iload 6, 2) := dk_21 6 (dk_at dksX7_share_4 3 rfl rfl)
theorem dX7_share_98 : decode cX7_share 98 = .ok (.istore 4, 2) := dk_54 4 (dk_at dksX7_share_4 5 rfl rfl)
theorem dX7_share_100 : decode cX7_share 100 = .ok (.iload 7, 2) := dk_21 7 (dk_at dksX7_share_4 7 rfl rfl)
theorem dX7_share_102 : decode cX7_share 102 = .ok (.istore 5, 2) := dk_54 5 (dk_at dksX7_share_4 9 rfl rfl)
theorem dX7_share_104 : decode cX7_share 104 = .ok (.iinc 6 1, 3) := dk_132 6 1 (dk_at dksX7_share_4 11 rfl rfl)
theorem dX7_share_107 : decode cX7_share 107 = .ok (.goto (-71), 3) := dk_167 255 185 (dk_at dksX7_share_4 14 rfl rfl)
theorem dX7_share_110 : decode cX7_share 110 = .ok (.aload_n 1, 1) := dk_43 (dk_at dksX7_share_4 17 rfl rfl)
theorem dX7_share_111 : decode cX7_share 111 = .ok (.new 36, 3) := dk_187 0 36 (dk_at dksX7_share_4 18 rfl rfl)
theorem dX7_share_114 : decode cX7_share 114 = .ok (.dup, 1) := dk_89 (dk_at dksX7_share_4 21 rfl rfl)
theorem dX7_share_115 : decode cX7_share 115 = .ok (.aload_n 3, 1) := dk_45 (dk_at dksX7_share_4 22 rfl rfl)
theorem dX7_share_116 : decode cX7_share 116 = .ok (.invokevirtual 40, 3) := dk_182 0 40 (dk_at dksX7_share_5 0 rfl rfl)
theorem dX7_share_119 : decode cX7_share 119 = .ok (.iload 5, 2) := dk_21 5 (dk_at dksX7_share_5 3 rfl rfl)
theorem dX7_share_121 : decode cX7_share 121 = .ok (.invokespecial 43, 3) := dk_183 0 43 (dk_at dksX7_share_5 5 rfl rfl)
theorem dX7_share_124 : decode cX7_share 124 = .ok (.iload 4, 2) := dk_21 4 (dk_at dksX7_share_5 8 rfl rfl)
theorem dX7_share_126 : decode cX7_share 126 = .ok (.invokevirtual 46, 3) := dk_182 0 46 (dk_at dksX7_share_5 10 rfl rfl)
theorem dX7_share_129 : decode cX7_share 129 = .ok (.new 36, 3) := dk_187 0 36 (dk_at dksX7_share_5 13 rfl rfl)
theorem dX7_share_132 : decode cX7_share 132 = .ok (.dup, 1) := dk_89 (dk_at dksX7_share_5 16 rfl rfl)
theorem dX7_share_133 : decode cX7_share 133 = .ok (.iload 5, 2) := dk_21 5 (dk_at dksX7_share_5 17 rfl rfl)
theorem dX7_share_135 : decode cX7_share 135 = .ok (.aload_n 3, 1) := dk_45 (dk_at dksX7_share_5 19 rfl rfl)
theorem dX7_share_136 : decode cX7_share 136 = .ok (.invokevirtual 35, 3) := dk_182 0 35 (dk_at dksX7_share_5 20 rfl rfl)
theorem dX7_share_139 : decode cX7_share 139 = .ok (.invokespecial 43, 3) := dk_183 0 43 (dk_at dksX7_share_6 0 rfl rfl)
theorem dX7_share_142 : decode cX7_share 142 = .ok (.astore_n 3, 1) := dk_78 (dk_at dksX7_share_6 3 rfl rfl)
theorem dX7_share_143 : decode cX7_share 143 = .ok (.iload_n 2, 1) := dk_28 (dk_at dksX7_share_6 4 rfl rfl)
theorem dX7_share_144 : decode cX7_share 144 = .ok (.iconst 1, 1) := dk_4 (dk_at dksX7_share_6 5 rfl rfl)
theorem dX7_share_145 : decode cX7_share 145 = .ok (.iload 4, 2) := dk_21 4 (dk_at dksX7_share_6 6 rfl rfl)
theorem dX7_share_147 : decode cX7_share 147 = .ok (.ishl, 1) := dk_120 (dk_at dksX7_share_6 8 rfl rfl)
theorem dX7_share_148 : decode cX7_share 148 = .ok (.ixor, 1) := dk_130 (dk_at dksX7_share_6 9 rfl rfl)
theorem dX7_share_149 : decode cX7_share 149 = .ok (.istore_n 2, 1) := dk_61 (dk_at dksX7_share_6 10 rfl rfl)
theorem dX7_share_150 : decode cX7_share 150 = .ok (.goto (-131), 3) := dk_167 255 125 (dk_at dksX7_share_6 11 rfl rfl)
theorem dX7_share_153 : decode cX7_share 153 = .ok (.iconst 0, 1) := dk_3 (dk_at dksX7_share_6 14 rfl rfl)
theorem dX7_share_154 : decode cX7_share 154 = .ok (.istore 4, 2) := dk_54 4 (dk_at dksX7_share_6 15 rfl rfl)
theorem dX7_share_156 : decode cX7_share 156 = .ok (.iload_n 2, 1) := dk_28 (dk_at dksX7_share_6 17 rfl rfl)
theorem dX7_share_157 : decode cX7_share 157 = .ok (.iload 4, 2) := dk_21 4 (dk_at dksX7_share_6 18 rfl rfl)
theorem dX7_share_159 : decode cX7_share 159 = .ok (.ishr, 1) := dk_122 (dk_at dksX7_share_6 20 rfl rfl)
theorem dX7_share_160 : decode cX7_share 160 = .ok (.iconst 1, 1) := dk_4 (dk_at dksX7_share_6 21 rfl rfl)
theorem dX7_share_161 : decode cX7_share 161 = .ok (.iand, 1) := dk_126 (dk_at dksX7_share_6 22 rfl rfl)
theorem dX7_share_162 : decode cX7_share 162 = .ok (.ifCond .ne 9, 3) := dk_154 0 9 (dk_at dksX7_share_7 0 rfl rfl)
theorem dX7_share_165 : decode cX7_share 165 = .ok (.iinc 4 1, 3) := dk_132 4 1 (dk_at dksX7_share_7 3 rfl rfl)
theorem dX7_share_168 : decode cX7_share 168 = .ok (.goto (-12), 3) := dk_167 255 244 (dk_at dksX7_share_7 6 rfl rfl)
theorem dX7_share_171 : decode cX7_share 171 = .ok (.aload_n 1, 1) := dk_43 (dk_at dksX7_share_7 9 rfl rfl)
theorem dX7_share_172 : decode cX7_share 172 = .ok (.aload_n 3, 1) := dk_45 (dk_at dksX7_share_7 10 rfl rfl)
theorem dX7_share_173 : decode cX7_share 173 = .ok (.iload 4, 2) := dk_21 4 (dk_at dksX7_share_7 11 rfl rfl)
theorem dX7_share_175 : decode cX7_share 175 = .ok (.invokevirtual 46, 3) := dk_182 0 46 (dk_at dksX7_share_7 13 rfl rfl)
theorem dX7_share_178 : decode cX7_share 178 = .ok (.return_, 1) := dk_177 (dk_at dksX7_share_7 16 rfl rfl)
theorem q105 : (Jvm.Cond.fieldLinkNest "CakeTastes$Way$4" (9 : Nat) "CakeTastes$Table" "eaters" "Ljava/util/List;" "CakeTastes") ∈ lw_tbl := lw_at lw_m1 72 rfl
theorem q170 : (Jvm.Cond.selects "CakeTastes$Way$4" ({ cls := "java/lang/Object", name := "getClass", desc := "()Ljava/lang/Class;" } : Jvm.MethodName) ({ cls := "java/lang/Object", name := "getClass", desc := "()Ljava/lang/Class;" } : Jvm.MethodName)) ∈ lw_all := lw_g (lw_at lw_m1 137 rfl) rfl
theorem q412 : (Jvm.Cond.selects "CakeTastes$Way$4" ({ cls := "CakeTastes$Way", name := "share", desc := "(LCakeTastes$Table;)V" } : Jvm.MethodName) ({ cls := "CakeTastes$Way$4", name := "share", desc := "(LCakeTastes$Table;)V" } : Jvm.MethodName)) ∈ lw_all := lw_g (lw_at lw_m2 139 rfl) rfl
theorem q413 : (Jvm.Cond.instanceMethod ({ cls := "CakeTastes$Way$4", name := "share", desc := "(LCakeTastes$Table;)V" } : Jvm.MethodName)) ∈ lw_all := lw_g (lw_at lw_m2 140 rfl) rfl
theorem q414 : (Jvm.Cond.code ({ cls := "CakeTastes$Way$4", name := "share", desc := "(LCakeTastes$Table;)V" } : Jvm.MethodName) prog_10_method_2_code (8 : Nat) (Option.none : Option Jvm.ClassFile.FieldType)) ∈ lw_all := lw_g (lw_at lw_m2 141 rfl) rfl
theorem q415 : (Jvm.Cond.interfaceEntry "CakeTastes$Way$4" (15 : Nat)) ∈ lw_tbl := lw_at lw_m2 142 rfl
theorem q416 : (Jvm.Cond.methodLink "CakeTastes$Way$4" (15 : Nat) ({ cls := "java/util/List", name := "size", desc := "()I" } : Jvm.MethodName)) ∈ lw_all := lw_g (lw_at lw_m2 143 rfl) rfl
theorem q417 : (Jvm.Cond.methodLink "CakeTastes$Way$4" (21 : Nat) ({ cls := "CakeTastes$Table", name := "whole", desc := "()LCakeTastes$Run;" } : Jvm.MethodName)) ∈ lw_all := lw_g (lw_at lw_m2 144 rfl) rfl
theorem q418 : (Jvm.Cond.methodLink "CakeTastes$Way$4" (25 : Nat) ({ cls := "java/lang/Integer", name := "bitCount", desc := "(I)I" } : Jvm.MethodName)) ∈ lw_all := lw_g (lw_at lw_m2 145 rfl) rfl
theorem q424 : (Jvm.Cond.methodLink "CakeTastes$Way$4" (31 : Nat) ({ cls := "CakeTastes$Table", name := "cut", desc := "(ILCakeTastes$Run;I)[LCakeTastes$Run;" } : Jvm.MethodName)) ∈ lw_all := lw_g (lw_at lw_m2 151 rfl) rfl
theorem q425 : (Jvm.Cond.methodLink "CakeTastes$Way$4" (35 : Nat) ({ cls := "CakeTastes$Run", name := "to", desc := "()I" } : Jvm.MethodName)) ∈ lw_all := lw_g (lw_at lw_m2 152 rfl) rfl
theorem q426 : (Jvm.Cond.classLink "CakeTastes$Way$4" (36 : Nat) "CakeTastes$Run") ∈ lw_all := lw_g (lw_at lw_m2 153 rfl) rfl
theorem q427 : (Jvm.Cond.methodLink "CakeTastes$Way$4" (40 : Nat) ({ cls := "CakeTastes$Run", name := "from", desc := "()I" } : Jvm.MethodName)) ∈ lw_all := lw_g (lw_at lw_m2 154 rfl) rfl
theorem q428 : (Jvm.Cond.methodLinkNest "CakeTastes$Way$4" (43 : Nat) ({ cls := "CakeTastes$Run", name := "<init>", desc := "(II)V" } : Jvm.MethodName) "CakeTastes") ∈ lw_tbl := lw_at lw_m2 155 rfl
theorem q429 : (Jvm.Cond.methodLink "CakeTastes$Way$4" (46 : Nat) ({ cls := "CakeTastes$Table", name := "give", desc := "(LCakeTastes$Run;I)V" } : Jvm.MethodName)) ∈ lw_all := lw_g (lw_at lw_m2 156 rfl) rfl
theorem q998 : (Jvm.Cond.castable "CakeTastes$Way$4" "CakeTastes$Way") ∈ lw_tbl := lw_at lw_m5 5 rfl
theorem q1014 : (Jvm.Cond.castable "CakeTastes$Way$4" "java/lang/Object") ∈ lw_tbl := lw_at lw_m5 21 rfl

/-! CakeTastes$Way$1 -/
set_option maxRecDepth 100000
def RX8 : String := "CakeTastes$Way$1"
abbrev cX8_share : ByteArray := prog_7_method_2_code
def yX8_share : MethodName := ⟨RX8, "share", "(LCakeTastes$Table;)V"⟩
def dkwX8_share_1 : List UInt8 := [4, 182, 0, 23, 43, 44, 4, 29, 100, 50, 3, 182, 0, 23, 177]
abbrev dktX8_share_1 : List UInt8 := dkwX8_share_1 ++ []
def dkwX8_share_0 : List UInt8 := [43, 3, 43, 182, 0, 9, 5, 182, 0, 15, 77, 43, 4, 44, 2, 2, 182, 0, 19, 62, 43, 44, 29, 50]
abbrev dktX8_share_0 : List UInt8 := dkwX8_share_0 ++ dktX8_share_1
theorem dksX8_share_0 : cX8_share.data.toList.drop 0 = dktX8_share_0 := by decide +kernel
theorem dksX8_share_1 : cX8_share.data.toList.drop 24 = dktX8_share_1 := dk_seg dksX8_share_0 24 rfl rfl
theorem dX8_share_0 : decode cX8_share 0 = .ok (.aload_n 1, 1) := dk_43 (dk_at dksX8_share_0 0 rfl rfl)
theorem dX8_share_1 : decode cX8_share 1 = .ok (.iconst 0, 1) := dk_3 (dk_at dksX8_share_0 1 rfl rfl)
theorem dX8_share_2 : decode cX8_share 2 = .ok (.aload_n 1, 1) := dk_43 (dk_at dksX8_share_0 2 rfl rfl)
theorem dX8_share_3 : decode cX8_share 3 = .ok (.invokevirtual 9, 3) := dk_182 0 9 (dk_at dksX8_share_0 3 rfl rfl)
theorem dX8_share_6 : decode cX8_share 6 = .ok (.iconst 2, 1) := dk_5 (dk_at dksX8_share_0 6 rfl rfl)
theorem dX8_share_7 : decode cX8_share 7 = .ok (.invokevirtual 15, 3) := dk_182 0 15 (dk_at dksX8_share_0 7 rfl rfl)
theorem dX8_share_10 : decode cX8_share 10 = .ok (.astore_n 2, 1) := dk_77 (dk_at dksX8_share_0 10 rfl rfl)
theorem dX8_share_11 : decode cX8_share 11 = .ok (.aload_n 1, 1) := dk_43 (dk_at dksX8_share_0 11 rfl rfl)
theorem dX8_share_12 : decode cX8_share 12 = .ok (.iconst 1, 1) := dk_4 (dk_at dksX8_share_0 12 rfl rfl)
theorem dX8_share_13 : decode cX8_share 13 = .ok (.aload_n 2, 1) := dk_44 (dk_at dksX8_share_0 13 rfl rfl)
theorem dX8_share_14 : decode cX8_share 14 = .ok (.iconst (-1), 1) := dk_2 (dk_at dksX8_share_0 14 rfl rfl)
theorem dX8_share_15 : decode cX8_share 15 = .ok (.iconst (-1), 1) := dk_2 (dk_at dksX8_share_0 15 rfl rfl)
theorem dX8_share_16 : decode cX8_share 16 = .ok (.invokevirtual 19, 3) := dk_182 0 19 (dk_at dksX8_share_0 16 rfl rfl)
theorem dX8_share_19 : decode cX8_share 19 = .ok (.istore_n 3, 1) := dk_62 (dk_at dksX8_share_0 19 rfl rfl)
theorem dX8_share_20 : decode cX8_share 20 = .ok (.aload_n 1, 1) := dk_43 (dk_at dksX8_share_0 20 rfl rfl)
theorem dX8_share_21 : decode cX8_share 21 = .ok (.aload_n 2, 1) := dk_44 (dk_at dksX8_share_0 21 rfl rfl)
theorem dX8_share_22 : decode cX8_share 22 = .ok (.iload_n 3, 1) := dk_29 (dk_at dksX8_share_0 22 rfl rfl)
theorem dX8_share_23 : decode cX8_share 23 = .ok (.aaload, 1) := dk_50 (dk_at dksX8_share_0 23 rfl rfl)
theorem dX8_share_24 : decode cX8_share 24 = .ok (.iconst 1, 1) := dk_4 (dk_at dksX8_share_1 0 rfl rfl)
theorem dX8_share_25 : decode cX8_share 25 = .ok (.invokevirtual 23, 3) := dk_182 0 23 (dk_at dksX8_share_1 1 rfl rfl)
theorem dX8_share_28 : decode cX8_share 28 = .ok (.aload_n 1, 1) := dk_43 (dk_at dksX8_share_1 4 rfl rfl)
theorem dX8_share_29 : decode cX8_share 29 = .ok (.aload_n 2, 1) := dk_44 (dk_at dksX8_share_1 5 rfl rfl)
theorem dX8_share_30 : decode cX8_share 30 = .ok (.iconst 1, 1) := dk_4 (dk_at dksX8_share_1 6 rfl rfl)
theorem dX8_share_31 : decode cX8_share 31 = .ok (.iload_n 3, 1) := dk_29 (dk_at dksX8_share_1 7 rfl rfl)
theorem dX8_share_32 : decode cX8_share 32 = .ok (.isub, 1) := dk_100 (dk_at dksX8_share_1 8 rfl rfl)
theorem dX8_share_33 : decode cX8_share 33 = .ok (.aaload, 1) := dk_50 (dk_at dksX8_share_1 9 rfl rfl)
theorem dX8_share_34 : decode cX8_share 34 = .ok (.iconst 0, 1) := dk_3 (dk_at dksX8_share_1 10 rfl rfl)
theorem dX8_share_35 : decode cX8_share 35 = .ok (.invokevirtual 23, 3) := dk_182 0 23 (dk_at dksX8_share_1 11 rfl rfl)
theorem dX8_share_38 : decode cX8_share 38 = .ok (.return_, 1) := dk_177 (dk_at dksX8_share_1 14 rfl rfl)
theorem q167 : (Jvm.Cond.selects "CakeTastes$Way$1" ({ cls := "java/lang/Object", name := "getClass", desc := "()Ljava/lang/Class;" } : Jvm.MethodName) ({ cls := "java/lang/Object", name := "getClass", desc := "()Ljava/lang/Class;" } : Jvm.MethodName)) ∈ lw_all := lw_g (lw_at lw_m1 134 rfl) rfl
theorem q268 : (Jvm.Cond.selects "CakeTastes$Way$1" ({ cls := "CakeTastes$Way", name := "share", desc := "(LCakeTastes$Table;)V" } : Jvm.MethodName) ({ cls := "CakeTastes$Way$1", name := "share", desc := "(LCakeTastes$Table;)V" } : Jvm.MethodName)) ∈ lw_all := lw_g (lw_at lw_m1 235 rfl) rfl
theorem q269 : (Jvm.Cond.instanceMethod ({ cls := "CakeTastes$Way$1", name := "share", desc := "(LCakeTastes$Table;)V" } : Jvm.MethodName)) ∈ lw_all := lw_g (lw_at lw_m1 236 rfl) rfl
theorem q270 : (Jvm.Cond.code ({ cls := "CakeTastes$Way$1", name := "share", desc := "(LCakeTastes$Table;)V" } : Jvm.MethodName) prog_7_method_2_code (4 : Nat) (Option.none : Option Jvm.ClassFile.FieldType)) ∈ lw_all := lw_g (lw_at lw_m1 237 rfl) rfl
theorem q271 : (Jvm.Cond.methodLink "CakeTastes$Way$1" (9 : Nat) ({ cls := "CakeTastes$Table", name := "whole", desc := "()LCakeTastes$Run;" } : Jvm.MethodName)) ∈ lw_all := lw_g (lw_at lw_m1 238 rfl) rfl
theorem q291 : (Jvm.Cond.methodLink "CakeTastes$Way$1" (15 : Nat) ({ cls := "CakeTastes$Table", name := "cut", desc := "(ILCakeTastes$Run;I)[LCakeTastes$Run;" } : Jvm.MethodName)) ∈ lw_all := lw_g (lw_at lw_m2 18 rfl) rfl
theorem q320 : (Jvm.Cond.methodLink "CakeTastes$Way$1" (19 : Nat) ({ cls := "CakeTastes$Table", name := "bestOf", desc := "(I[LCakeTastes$Run;II)I" } : Jvm.MethodName)) ∈ lw_all := lw_g (lw_at lw_m2 47 rfl) rfl
theorem q324 : (Jvm.Cond.methodLink "CakeTastes$Way$1" (23 : Nat) ({ cls := "CakeTastes$Table", name := "give", desc := "(LCakeTastes$Run;I)V" } : Jvm.MethodName)) ∈ lw_all := lw_g (lw_at lw_m2 51 rfl) rfl
theorem q995 : (Jvm.Cond.castable "CakeTastes$Way$1" "CakeTastes$Way") ∈ lw_tbl := lw_at lw_m5 2 rfl
theorem q1011 : (Jvm.Cond.castable "CakeTastes$Way$1" "java/lang/Object") ∈ lw_tbl := lw_at lw_m5 18 rfl

/-! CakeTastes$Way$2 -/
set_option maxRecDepth 100000
def RX9 : String := "CakeTastes$Way$2"
abbrev cX9_share : ByteArray := prog_8_method_2_code
def yX9_share : MethodName := ⟨RX9, "share", "(LCakeTastes$Table;)V"⟩
def dkwX9_share_4 : List UInt8 := [21, 4, 100, 21, 5, 100, 50, 3, 182, 0, 27, 177]
abbrev dktX9_share_4 : List UInt8 := dkwX9_share_4 ++ []
def dkwX9_share_3 : List UInt8 := [54, 5, 43, 44, 21, 4, 50, 5, 182, 0, 27, 43, 44, 21, 5, 50, 4, 182, 0, 27, 43, 44, 6]
abbrev dktX9_share_3 : List UInt8 := dkwX9_share_3 ++ dktX9_share_4
def dkwX9_share_2 : List UInt8 := [182, 0, 19, 54, 4, 21, 4, 29, 160, 0, 15, 43, 4, 44, 21, 4, 2, 182, 0, 19, 167, 0, 4, 29]
abbrev dktX9_share_2 : List UInt8 := dkwX9_share_2 ++ dktX9_share_3
def dkwX9_share_1 : List UInt8 := [44, 29, 50, 44, 43, 4, 44, 29, 2, 182, 0, 19, 50, 182, 0, 23, 83, 43, 5, 44, 2, 2]
abbrev dktX9_share_1 : List UInt8 := dkwX9_share_1 ++ dktX9_share_2
def dkwX9_share_0 : List UInt8 := [43, 3, 43, 182, 0, 9, 6, 182, 0, 15, 77, 43, 4, 44, 2, 2, 182, 0, 19, 62, 44, 29, 43, 4]
abbrev dktX9_share_0 : List UInt8 := dkwX9_share_0 ++ dktX9_share_1
theorem dksX9_share_0 : cX9_share.data.toList.drop 0 = dktX9_share_0 := by decide +kernel
theorem dksX9_share_1 : cX9_share.data.toList.drop 24 = dktX9_share_1 := dk_seg dksX9_share_0 24 rfl rfl
theorem dksX9_share_2 : cX9_share.data.toList.drop 46 = dktX9_share_2 := dk_seg dksX9_share_1 22 rfl rfl
theorem dksX9_share_3 : cX9_share.data.toList.drop 70 = dktX9_share_3 := dk_seg dksX9_share_2 24 rfl rfl
theorem dksX9_share_4 : cX9_share.data.toList.drop 93 = dktX9_share_4 := dk_seg dksX9_share_3 23 rfl rfl
theorem dX9_share_0 : decode cX9_share 0 = .ok (.aload_n 1, 1) := dk_43 (dk_at dksX9_share_0 0 rfl rfl)
theorem dX9_share_1 : decode cX9_share 1 = .ok (.iconst 0, 1) := dk_3 (dk_at dksX9_share_0 1 rfl rfl)
theorem dX9_share_2 : decode cX9_share 2 = .ok (.aload_n 1, 1) := dk_43 (dk_at dksX9_share_0 2 rfl rfl)
theorem dX9_share_3 : decode cX9_share 3 = .ok (.invokevirtual 9, 3) := dk_182 0 9 (dk_at dksX9_share_0 3 rfl rfl)
theorem dX9_share_6 : decode cX9_share 6 = .ok (.iconst 3, 1) := dk_6 (dk_at dksX9_share_0 6 rfl rfl)
theorem dX9_share_7 : decode cX9_share 7 = .ok (.invokevirtual 15, 3) := dk_182 0 15 (dk_at dksX9_share_0 7 rfl rfl)
theorem dX9_share_10 : decode cX9_share 10 = .ok (.astore_n 2, 1) := dk_77 (dk_at dksX9_share_0 10 rfl rfl)
theorem dX9_share_11 : decode cX9_share 11 = .ok (.aload_n 1, 1) := dk_43 (dk_at dksX9_share_0 11 rfl rfl)
theorem dX9_share_12 : decode cX9_share 12 = .ok (.iconst 1, 1) := dk_4 (dk_at dksX9_share_0 12 rfl rfl)
theorem dX9_share_13 : decode cX9_share 13 = .ok (.aload_n 2, 1) := dk_44 (dk_at dksX9_share_0 13 rfl rfl)
theorem dX9_share_14 : decode cX9_share 14 = .ok (.iconst (-1), 1) := dk_2 (dk_at dksX9_share_0 14 rfl rfl)
theorem dX9_share_15 : decode cX9_share 15 = .ok (.iconst (-1), 1) := dk_2 (dk_at dksX9_share_0 15 rfl rfl)
theorem dX9_share_16 : decode cX9_share 16 = .ok (.invokevirtual 19, 3) := dk_182 0 19 (dk_at dksX9_share_0 16 rfl rfl)
theorem dX9_share_19 : decode cX9_share 19 = .ok (.istore_n 3, 1) := dk_62 (dk_at dksX9_share_0 19 rfl rfl)
theorem dX9_share_20 : decode cX9_share 20 = .ok (.aload_n 2, 1) := dk_44 (dk_at dksX9_share_0 20 rfl rfl)
theorem dX9_share_21 : decode cX9_share 21 = .ok (.iload_n 3, 1) := dk_29 (dk_at dksX9_share_0 21 rfl rfl)
theorem dX9_share_22 : decode cX9_share 22 = .ok (.aload_n 1, 1) := dk_43 (dk_at dksX9_share_0 22 rfl rfl)
theorem dX9_share_23 : decode cX9_share 23 = .ok (.iconst 1, 1) := dk_4 (dk_at dksX9_share_0 23 rfl rfl)
theorem dX9_share_24 : decode cX9_share 24 = .ok (.aload_n 2, 1) := dk_44 (dk_at dksX9_share_1 0 rfl rfl)
theorem dX9_share_25 : decode cX9_share 25 = .ok (.iload_n 3, 1) := dk_29 (dk_at dksX9_share_1 1 rfl rfl)
theorem dX9_share_26 : decode cX9_share 26 = .ok (.aaload, 1) := dk_50 (dk_at dksX9_share_1 2 rfl rfl)
theorem dX9_share_27 : decode cX9_share 27 = .ok (.aload_n 2, 1) := dk_44 (dk_at dksX9_share_1 3 rfl rfl)
theorem dX9_share_28 : decode cX9_share 28 = .ok (.aload_n 1, 1) := dk_43 (dk_at dksX9_share_1 4 rfl rfl)
theorem dX9_share_29 : decode cX9_share 29 = .ok (.iconst 1, 1) := dk_4 (dk_at dksX9_share_1 5 rfl rfl)
theorem dX9_share_30 : decode cX9_share 30 = .ok (.aload_n 2, 1) := dk_44 (dk_at dksX9_share_1 6 rfl rfl)
theorem dX9_share_31 : decode cX9_share 31 = .ok (.iload_n 3, 1) := dk_29 (dk_at dksX9_share_1 7 rfl rfl)
theorem dX9_share_32 : decode cX9_share 32 = .ok (.iconst (-1), 1) := dk_2 (dk_at dksX9_share_1 8 rfl rfl)
theorem dX9_share_33 : decode cX9_share 33 = .ok (.invokevirtual 19, 3) := dk_182 0 19 (dk_at dksX9_share_1 9 rfl rfl)
theorem dX9_share_36 : decode cX9_share 36 = .ok (.aaload, 1) := dk_50 (dk_at dksX9_share_1 12 rfl rfl)
theorem dX9_share_37 : decode cX9_share 37 = .ok (.invokevirtual 23, 3) := dk_182 0 23 (dk_at dksX9_share_1 13 rfl rfl)
theorem dX9_share_40 : decode cX9_share 40 = .ok (.aastore, 1) := dk_83 (dk_at dksX9_share_1 16 rfl rfl)
theorem dX9_share_41 : decode cX9_share 41 = .ok (.aload_n 1, 1) := dk_43 (dk_at dksX9_share_1 17 rfl rfl)
theorem dX9_share_42 : decode cX9_share 42 = .ok (.iconst 2, 1) := dk_5 (dk_at dksX9_share_1 18 rfl rfl)
theorem dX9_share_43 : decode cX9_share 43 = .ok (.aload_n 2, 1) := dk_44 (dk_at dksX9_share_1 19 rfl rfl)
theorem dX9_share_44 : decode cX9_share 44 = .ok (.iconst (-1), 1) := dk_2 (dk_at dksX9_share_1 20 rfl rfl)
theorem dX9_share_45 : decode cX9_share 45 = .ok (.iconst (-1), 1) := dk_2 (dk_at dksX9_share_1 21 rfl rfl)
theorem dX9_share_46 : decode cX9_share 46 = .ok (.invokevirtual 19, 3) := dk_182 0 19 (dk_at dksX9_share_2 0 rfl rfl)
theorem dX9_share_49 : decode cX9_share 49 = .ok (.istore 4, 2) := dk_54 4 (dk_at dksX9_share_2 3 rfl rfl)
theorem dX9_share_51 : decode cX9_share 51 = .ok (.iload 4, 2) := dk_21 4 (dk_at dksX9_share_2 5 rfl rfl)
theorem dX9_share_53 : decode cX9_share 53 = .ok (.iload_n 3, 1) := dk_29 (dk_at dksX9_share_2 7 rfl rfl)
theorem dX9_share_54 : decode cX9_share 54 = .ok (.if_icmp .ne 15, 3) := dk_160 0 15 (dk_at dksX9_share_2 8 rfl rfl)
theorem dX9_share_57 : decode cX9_share 57 = .ok (.aload_n 1, 1) := dk_43 (dk_at dksX9_share_2 11 rfl rfl)
theorem dX9_share_58 : decode cX9_share 58 = .ok (.iconst 1, 1) := dk_4 (dk_at dksX9_share_2 12 rfl rfl)
theorem dX9_share_59 : decode cX9_share 59 = .ok (.aload_n 2, 1) := dk_44 (dk_at dksX9_share_2 13 rfl rfl)
theorem dX9_share_60 : decode cX9_share 60 = .ok (.iload 4, 2) := dk_21 4 (dk_at dksX9_share_2 14 rfl rfl)
theorem dX9_share_62 : decode cX9_share 62 = .ok (.iconst (-1), 1) := dk_2 (dk_at dksX9_share_2 16 rfl rfl)
theorem dX9_share_63 : decode cX9_share 63 = .ok (.invokevirtual 19, 3) := dk_182 0 19 (dk_at dksX9_share_2 17 rfl rfl)
theorem dX9_share_66 : decode cX9_share 66 = .ok (.goto 4, 3) := dk_167 0 4 (dk_at dksX9_share_2 20 rfl rfl)
theorem dX9_share_69 : decode cX9_share 69 = .ok (.iload_n 3, 1) := dk_29 (dk_at dksX9_share_2 23 rfl rfl)
theorem dX9_share_70 : decode cX9_share 70 = .ok (.istore 5, 2) := dk_54 5 (dk_at dksX9_share_3 0 rfl rfl)
theorem dX9_share_72 : decode cX9_share 72 = .ok (.aload_n 1, 1) := dk_43 (dk_at dksX9_share_3 2 rfl rfl)
theorem dX9_share_73 : decode cX9_share 73 = .ok (.aload_n 2, 1) := dk_44 (dk_at dksX9_share_3 3 rfl rfl)
theorem dX9_share_74 : decode cX9_share 74 = .ok (.iload 4, 2) := dk_21 4 (dk_at dksX9_share_3 4 rfl rfl)
theorem dX9_share_76 : decode cX9_share 76 = .ok (.aaload, 1) := dk_50 (dk_at dksX9_share_3 6 rfl rfl)
theorem dX9_share_77 : decode cX9_share 77 = .ok (.iconst 2, 1) := dk_5 (dk_at dksX9_share_3 7 rfl rfl)
theorem dX9_share_78 : decode cX9_share 78 = .ok (.invokevirtual 27, 3) := dk_182 0 27 (dk_at dksX9_share_3 8 rfl rfl)
theorem dX9_share_81 : decode cX9_share 81 = .ok (.aload_n 1, 1) := dk_43 (dk_at dksX9_share_3 11 rfl rfl)
theorem dX9_share_82 : decode cX9_share 82 = .ok (.aload_n 2, 1) := dk_44 (dk_at dksX9_share_3 12 rfl rfl)
theorem dX9_share_83 : decode cX9_share 83 = .ok (.iload 5, 2) := dk_21 5 (dk_at dksX9_share_3 13 rfl rfl)
theorem dX9_share_85 : decode cX9_share 85 = .ok (.aaload, 1) := dk_50 (dk_at dksX9_share_3 15 rfl rfl)
theorem dX9_share_86 : decode cX9_share 86 = .ok (.iconst 1, 1) := dk_4 (dk_at dksX9_share_3 16 rfl rfl)
theorem dX9_share_87 : decode cX9_share 87 = .ok (.invokevirtual 27, 3) := dk_182 0 27 (dk_at dksX9_share_3 17 rfl rfl)
theorem dX9_share_90 : decode cX9_share 90 = .ok (.aload_n 1, 1) := dk_43 (dk_at dksX9_share_3 20 rfl rfl)
theorem dX9_share_91 : decode cX9_share 91 = .ok (.aload_n 2, 1) := dk_44 (dk_at dksX9_share_3 21 rfl rfl)
theorem dX9_share_92 : decode cX9_share 92 = .ok (.iconst 3, 1) := dk_6 (dk_at dksX9_share_3 22 rfl rfl)
theorem dX9_share_93 : decode cX9_share 93 = .ok (.iload 4, 2) := dk_21 4 (dk_at dksX9_share_4 0 rfl rfl)
theorem dX9_share_95 : decode cX9_share 95 = .ok (.isub, 1) := dk_100 (dk_at dksX9_share_4 2 rfl rfl)
theorem dX9_share_96 : decode cX9_share 96 = .ok (.iload 5, 2) := dk_21 5 (dk_at dksX9_share_4 3 rfl rfl)
theorem dX9_share_98 : decode cX9_share 98 = .ok (.isub, 1) := dk_100 (dk_at dksX9_share_4 5 rfl rfl)
theorem dX9_share_99 : decode cX9_share 99 = .ok (.aaload, 1) := dk_50 (dk_at dksX9_share_4 6 rfl rfl)
theorem dX9_share_100 : decode cX9_share 100 = .ok (.iconst 0, 1) := dk_3 (dk_at dksX9_share_4 7 rfl rfl)
theorem dX9_share_101 : decode cX9_share 101 = .ok (.invokevirtual 27, 3) := dk_182 0 27 (dk_at dksX9_share_4 8 rfl rfl)
theorem dX9_share_104 : decode cX9_share 104 = .ok (.return_, 1) := dk_177 (dk_at dksX9_share_4 11 rfl rfl)
theorem q168 : (Jvm.Cond.selects "CakeTastes$Way$2" ({ cls := "java/lang/Object", name := "getClass", desc := "()Ljava/lang/Class;" } : Jvm.MethodName) ({ cls := "java/lang/Object", name := "getClass", desc := "()Ljava/lang/Class;" } : Jvm.MethodName)) ∈ lw_all := lw_g (lw_at lw_m1 135 rfl) rfl
theorem q328 : (Jvm.Cond.selects "CakeTastes$Way$2" ({ cls := "CakeTastes$Way", name := "share", desc := "(LCakeTastes$Table;)V" } : Jvm.MethodName) ({ cls := "CakeTastes$Way$2", name := "share", desc := "(LCakeTastes$Table;)V" } : Jvm.MethodName)) ∈ lw_all := lw_g (lw_at lw_m2 55 rfl) rfl
theorem q329 : (Jvm.Cond.instanceMethod ({ cls := "CakeTastes$Way$2", name := "share", desc := "(LCakeTastes$Table;)V" } : Jvm.MethodName)) ∈ lw_all := lw_g (lw_at lw_m2 56 rfl) rfl
theorem q330 : (Jvm.Cond.code ({ cls := "CakeTastes$Way$2", name := "share", desc := "(LCakeTastes$Table;)V" } : Jvm.MethodName) prog_8_method_2_code (6 : Nat) (Option.none : Option Jvm.ClassFile.FieldType)) ∈ lw_all := lw_g (lw_at lw_m2 57 rfl) rfl
theorem q331 : (Jvm.Cond.methodLink "CakeTastes$Way$2" (9 : Nat) ({ cls := "CakeTastes$Table", name := "whole", desc := "()LCakeTastes$Run;" } : Jvm.MethodName)) ∈ lw_all := lw_g (lw_at lw_m2 58 rfl) rfl
theorem q332 : (Jvm.Cond.methodLink "CakeTastes$Way$2" (15 : Nat) ({ cls := "CakeTastes$Table", name := "cut", desc := "(ILCakeTastes$Run;I)[LCakeTastes$Run;" } : Jvm.MethodName)) ∈ lw_all := lw_g (lw_at lw_m2 59 rfl) rfl
theorem q333 : (Jvm.Cond.methodLink "CakeTastes$Way$2" (19 : Nat) ({ cls := "CakeTastes$Table", name := "bestOf", desc := "(I[LCakeTastes$Run;II)I" } : Jvm.MethodName)) ∈ lw_all := lw_g (lw_at lw_m2 60 rfl) rfl
theorem q334 : (Jvm.Cond.methodLink "CakeTastes$Way$2" (23 : Nat) ({ cls := "CakeTastes$Table", name := "trim", desc := "(ILCakeTastes$Run;LCakeTastes$Run;)LCakeTastes$Run;" } : Jvm.MethodName)) ∈ lw_all := lw_g (lw_at lw_m2 61 rfl) rfl
theorem q342 : (Jvm.Cond.methodLink "CakeTastes$Way$2" (27 : Nat) ({ cls := "CakeTastes$Table", name := "give", desc := "(LCakeTastes$Run;I)V" } : Jvm.MethodName)) ∈ lw_all := lw_g (lw_at lw_m2 69 rfl) rfl
theorem q996 : (Jvm.Cond.castable "CakeTastes$Way$2" "CakeTastes$Way") ∈ lw_tbl := lw_at lw_m5 3 rfl
theorem q1012 : (Jvm.Cond.castable "CakeTastes$Way$2" "java/lang/Object") ∈ lw_tbl := lw_at lw_m5 19 rfl

/-! CakeTastes$Way$3 -/
set_option maxRecDepth 100000
def RX10 : String := "CakeTastes$Way$3"
abbrev cX10_share : ByteArray := prog_9_method_2_code
def yX10_share : MethodName := ⟨RX10, "share", "(LCakeTastes$Table;)V"⟩
def dkwX10_share_0 : List UInt8 := [43, 3, 182, 0, 7, 177]
abbrev dktX10_share_0 : List UInt8 := dkwX10_share_0 ++ []
theorem dksX10_share_0 : cX10_share.data.toList.drop 0 = dktX10_share_0 := by decide +kernel
theorem dX10_share_0 : decode cX10_share 0 = .ok (.aload_n 1, 1) := dk_43 (dk_at dksX10_share_0 0 rfl rfl)
theorem dX10_share_1 : decode cX10_share 1 = .ok (.iconst 0, 1) := dk_3 (dk_at dksX10_share_0 1 rfl rfl)
theorem dX10_share_2 : decode cX10_share 2 = .ok (.invokevirtual 7, 3) := dk_182 0 7 (dk_at dksX10_share_0 2 rfl rfl)
theorem dX10_share_5 : decode cX10_share 5 = .ok (.return_, 1) := dk_177 (dk_at dksX10_share_0 5 rfl rfl)
theorem q169 : (Jvm.Cond.selects "CakeTastes$Way$3" ({ cls := "java/lang/Object", name := "getClass", desc := "()Ljava/lang/Class;" } : Jvm.MethodName) ({ cls := "java/lang/Object", name := "getClass", desc := "()Ljava/lang/Class;" } : Jvm.MethodName)) ∈ lw_all := lw_g (lw_at lw_m1 136 rfl) rfl
theorem q343 : (Jvm.Cond.selects "CakeTastes$Way$3" ({ cls := "CakeTastes$Way", name := "share", desc := "(LCakeTastes$Table;)V" } : Jvm.MethodName) ({ cls := "CakeTastes$Way$3", name := "share", desc := "(LCakeTastes$Table;)V" } : Jvm.MethodName)) ∈ lw_all := lw_g (lw_at lw_m2 70 rfl) rfl
theorem q344 : (Jvm.Cond.instanceMethod ({ cls := "CakeTastes$Way$3", name := "share", desc := "(LCakeTastes$Table;)V" } : Jvm.MethodName)) ∈ lw_all := lw_g (lw_at lw_m2 71 rfl) rfl
theorem q345 : (Jvm.Cond.code ({ cls := "CakeTastes$Way$3", name := "share", desc := "(LCakeTastes$Table;)V" } : Jvm.MethodName) prog_9_method_2_code (2 : Nat) (Option.none : Option Jvm.ClassFile.FieldType)) ∈ lw_all := lw_g (lw_at lw_m2 72 rfl) rfl
theorem q346 : (Jvm.Cond.methodLink "CakeTastes$Way$3" (7 : Nat) ({ cls := "CakeTastes$Table", name := "takeTurns", desc := "(I)V" } : Jvm.MethodName)) ∈ lw_all := lw_g (lw_at lw_m2 73 rfl) rfl
theorem q997 : (Jvm.Cond.castable "CakeTastes$Way$3" "CakeTastes$Way") ∈ lw_tbl := lw_at lw_m5 4 rfl
theorem q1013 : (Jvm.Cond.castable "CakeTastes$Way$3" "java/lang/Object") ∈ lw_tbl := lw_at lw_m5 20 rfl
