/-! CakeTastesModel -/
set_option maxRecDepth 100000
def RX4 : String := "CakeTastesModel"
def TX4 : u_T := fun k => match k with
  | 0 => ("CakeTastesModel", "thrown", "I", false)
  | 1 => ("CakeTastesModel", "slices", "I", false)
  | 2 => ("CakeTastesModel", "sort", "[I", true)
  | 3 => ("CakeTastesModel", "eaters", "I", false)
  | 4 => ("CakeTastesModel", "taste", "[[I", true)
  | 5 => ("CakeTastesModel", "shared", "I", false)
  | 6 => ("CakeTastesModel", "owner", "[I", true)
  | _ => ("CakeTastesModel", "other", "[I", true)
def tyX4 : Nat → FieldType := fun k => match k with
  | 0 => .int
  | 1 => .int
  | 2 => .array .int
  | 3 => .int
  | 4 => .array (.array .int)
  | 5 => .int
  | 6 => .array .int
  | _ => .array .int
abbrev wsX40 : List Cond := u_ws RX4 TX4 8
theorem nmX4 : ∀ a, a < 8 → ∀ b, b < 8 → a ≠ b → (TX4 a).2.1 ≠ (TX4 b).2.1 := by decide +kernel
theorem tyX4_ok : ∀ k, k < 8 → parseFieldDescriptor (TX4 k).2.2.1 = some (tyX4 k) := by decide +kernel
abbrev cX4_init : ByteArray := prog_12_method_1_code
def yX4_init : MethodName := ⟨RX4, "<init>", "()V"⟩
def dkwX4_init_2 : List UInt8 := [180, 0, 22, 184, 0, 28, 177]
abbrev dktX4_init_2 : List UInt8 := dkwX4_init_2 ++ []
def dkwX4_init_1 : List UInt8 := [197, 0, 17, 2, 181, 0, 19, 42, 16, 40, 188, 10, 181, 0, 22, 42, 16, 40, 188, 10, 181, 0, 25, 42]
abbrev dktX4_init_1 : List UInt8 := dkwX4_init_1 ++ dktX4_init_2
def dkwX4_init_0 : List UInt8 := [42, 183, 0, 1, 42, 16, 12, 181, 0, 7, 42, 16, 40, 188, 10, 181, 0, 13, 42, 8, 8]
abbrev dktX4_init_0 : List UInt8 := dkwX4_init_0 ++ dktX4_init_1
theorem dksX4_init_0 : cX4_init.data.toList.drop 0 = dktX4_init_0 := by decide +kernel
theorem dksX4_init_1 : cX4_init.data.toList.drop 21 = dktX4_init_1 := dk_seg dksX4_init_0 21 rfl rfl
theorem dksX4_init_2 : cX4_init.data.toList.drop 45 = dktX4_init_2 := dk_seg dksX4_init_1 24 rfl rfl
theorem dX4_init_0 : decode cX4_init 0 = .ok (.aload_n 0, 1) := dk_42 (dk_at dksX4_init_0 0 rfl rfl)
theorem dX4_init_1 : decode cX4_init 1 = .ok (.invokespecial 1, 3) := dk_183 0 1 (dk_at dksX4_init_0 1 rfl rfl)
theorem dX4_init_4 : decode cX4_init 4 = .ok (.aload_n 0, 1) := dk_42 (dk_at dksX4_init_0 4 rfl rfl)
theorem dX4_init_5 : decode cX4_init 5 = .ok (.bipush 12, 2) := dk_16 12 (dk_at dksX4_init_0 5 rfl rfl)
theorem dX4_init_7 : decode cX4_init 7 = .ok (.putfield 7, 3) := dk_181 0 7 (dk_at dksX4_init_0 7 rfl rfl)
theorem dX4_init_10 : decode cX4_init 10 = .ok (.aload_n 0, 1) := dk_42 (dk_at dksX4_init_0 10 rfl rfl)
theorem dX4_init_11 : decode cX4_init 11 = .ok (.bipush 40, 2) := dk_16 40 (dk_at dksX4_init_0 11 rfl rfl)
theorem dX4_init_13 : decode cX4_init 13 = .ok (.newarray .int, 2) := dk_188_10 (dk_at dksX4_init_0 13 rfl rfl)
theorem dX4_init_15 : decode cX4_init 15 = .ok (.putfield 13, 3) := dk_181 0 13 (dk_at dksX4_init_0 15 rfl rfl)
theorem dX4_init_18 : decode cX4_init 18 = .ok (.aload_n 0, 1) := dk_42 (dk_at dksX4_init_0 18 rfl rfl)
theorem dX4_init_19 : decode cX4_init 19 = .ok (.iconst 5, 1) := dk_8 (dk_at dksX4_init_0 19 rfl rfl)
theorem dX4_init_20 : decode cX4_init 20 = .ok (.iconst 5, 1) := dk_8 (dk_at dksX4_init_0 20 rfl rfl)
theorem dX4_init_21 : decode cX4_init 21 = .ok (.multianewarray 17 2, 4) := by decide +kernel
theorem dX4_init_25 : decode cX4_init 25 = .ok (.putfield 19, 3) := dk_181 0 19 (dk_at dksX4_init_1 4 rfl rfl)
theorem dX4_init_28 : decode cX4_init 28 = .ok (.aload_n 0, 1) := dk_42 (dk_at dksX4_init_1 7 rfl rfl)
theorem dX4_init_29 : decode cX4_init 29 = .ok (.bipush 40, 2) := dk_16 40 (dk_at dksX4_init_1 8 rfl rfl)
theorem dX4_init_31 : decode cX4_init 31 = .ok (.newarray .int, 2) := dk_188_10 (dk_at dksX4_init_1 10 rfl rfl)
theorem dX4_init_33 : decode cX4_init 33 = .ok (.putfield 22, 3) := dk_181 0 22 (dk_at dksX4_init_1 12 rfl rfl)
theorem dX4_init_36 : decode cX4_init 36 = .ok (.aload_n 0, 1) := dk_42 (dk_at dksX4_init_1 15 rfl rfl)
theorem dX4_init_37 : decode cX4_init 37 = .ok (.bipush 40, 2) := dk_16 40 (dk_at dksX4_init_1 16 rfl rfl)
theorem dX4_init_39 : decode cX4_init 39 = .ok (.newarray .int, 2) := dk_188_10 (dk_at dksX4_init_1 18 rfl rfl)
theorem dX4_init_41 : decode cX4_init 41 = .ok (.putfield 25, 3) := dk_181 0 25 (dk_at dksX4_init_1 20 rfl rfl)
theorem dX4_init_44 : decode cX4_init 44 = .ok (.aload_n 0, 1) := dk_42 (dk_at dksX4_init_1 23 rfl rfl)
theorem dX4_init_45 : decode cX4_init 45 = .ok (.getfield 22, 3) := dk_180 0 22 (dk_at dksX4_init_2 0 rfl rfl)
theorem dX4_init_48 : decode cX4_init 48 = .ok (.invokestatic 28, 3) := dk_184 0 28 (dk_at dksX4_init_2 3 rfl rfl)
theorem dX4_init_51 : decode cX4_init 51 = .ok (.return_, 1) := dk_177 (dk_at dksX4_init_2 6 rfl rfl)
abbrev cX4_free : ByteArray := prog_12_method_4_code
def yX4_free : MethodName := ⟨RX4, "free", "([I)V"⟩
def dkwX4_free_0 : List UInt8 := [3, 60, 27, 16, 40, 162, 0, 13, 42, 27, 2, 79, 132, 1, 1, 167, 255, 243, 177]
abbrev dktX4_free_0 : List UInt8 := dkwX4_free_0 ++ []
theorem dksX4_free_0 : cX4_free.data.toList.drop 0 = dktX4_free_0 := by decide +kernel
theorem dX4_free_0 : decode cX4_free 0 = .ok (.iconst 0, 1) := dk_3 (dk_at dksX4_free_0 0 rfl rfl)
theorem dX4_free_1 : decode cX4_free 1 = .ok (.istore_n 1, 1) := dk_60 (dk_at dksX4_free_0 1 rfl rfl)
theorem dX4_free_2 : decode cX4_free 2 = .ok (.iload_n 1, 1) := dk_27 (dk_at dksX4_free_0 2 rfl rfl)
theorem dX4_free_3 : decode cX4_free 3 = .ok (.bipush 40, 2) := dk_16 40 (dk_at dksX4_free_0 3 rfl rfl)
theorem dX4_free_5 : decode cX4_free 5 = .ok (.if_icmp .ge 13, 3) := dk_162 0 13 (dk_at dksX4_free_0 5 rfl rfl)
theorem dX4_free_8 : decode cX4_free 8 = .ok (.aload_n 0, 1) := dk_42 (dk_at dksX4_free_0 8 rfl rfl)
theorem dX4_free_9 : decode cX4_free 9 = .ok (.iload_n 1, 1) := dk_27 (dk_at dksX4_free_0 9 rfl rfl)
theorem dX4_free_10 : decode cX4_free 10 = .ok (.iconst (-1), 1) := dk_2 (dk_at dksX4_free_0 10 rfl rfl)
theorem dX4_free_11 : decode cX4_free 11 = .ok (.iastore, 1) := dk_79 (dk_at dksX4_free_0 11 rfl rfl)
theorem dX4_free_12 : decode cX4_free 12 = .ok (.iinc 1 1, 3) := dk_132 1 1 (dk_at dksX4_free_0 12 rfl rfl)
theorem dX4_free_15 : decode cX4_free 15 = .ok (.goto (-13), 3) := dk_167 255 243 (dk_at dksX4_free_0 15 rfl rfl)
theorem dX4_free_18 : decode cX4_free 18 = .ok (.return_, 1) := dk_177 (dk_at dksX4_free_0 18 rfl rfl)
abbrev cX4_thrown : ByteArray := prog_12_method_2_code
def yX4_thrown : MethodName := ⟨RX4, "thrown", "()I"⟩
theorem dX4_thrown_0 : decode cX4_thrown 0 = .ok (.aload_n 0, 1) := by decide +kernel
theorem dX4_thrown_1 : decode cX4_thrown 1 = .ok (.getfield 32, 3) := by decide +kernel
theorem dX4_thrown_4 : decode cX4_thrown 4 = .ok (.ireturn, 1) := by decide +kernel
abbrev cX4_bake : ByteArray := prog_12_method_23_code
def yX4_bake : MethodName := ⟨RX4, "bake", "(I)I"⟩
def dkwX4_bake_2 : List UInt8 := [42, 180, 0, 13, 29, 3, 79, 132, 3, 1, 167, 255, 240, 28, 172]
abbrev dktX4_bake_2 : List UInt8 := dkwX4_bake_2 ++ []
def dkwX4_bake_1 : List UInt8 := [180, 0, 7, 61, 42, 27, 181, 0, 7, 42, 180, 0, 22, 184, 0, 28, 3, 62, 29, 16, 40, 162, 0, 16]
abbrev dktX4_bake_1 : List UInt8 := dkwX4_bake_1 ++ dktX4_bake_2
def dkwX4_bake_0 : List UInt8 := [42, 3, 181, 0, 32, 27, 4, 16, 40, 184, 0, 38, 154, 0, 9, 42, 4, 182, 0, 90, 172, 42]
abbrev dktX4_bake_0 : List UInt8 := dkwX4_bake_0 ++ dktX4_bake_1
theorem dksX4_bake_0 : cX4_bake.data.toList.drop 0 = dktX4_bake_0 := by decide +kernel
theorem dksX4_bake_1 : cX4_bake.data.toList.drop 22 = dktX4_bake_1 := dk_seg dksX4_bake_0 22 rfl rfl
theorem dksX4_bake_2 : cX4_bake.data.toList.drop 46 = dktX4_bake_2 := dk_seg dksX4_bake_1 24 rfl rfl
theorem dX4_bake_0 : decode cX4_bake 0 = .ok (.aload_n 0, 1) := dk_42 (dk_at dksX4_bake_0 0 rfl rfl)
theorem dX4_bake_1 : decode cX4_bake 1 = .ok (.iconst 0, 1) := dk_3 (dk_at dksX4_bake_0 1 rfl rfl)
theorem dX4_bake_2 : decode cX4_bake 2 = .ok (.putfield 32, 3) := dk_181 0 32 (dk_at dksX4_bake_0 2 rfl rfl)
theorem dX4_bake_5 : decode cX4_bake 5 = .ok (.iload_n 1, 1) := dk_27 (dk_at dksX4_bake_0 5 rfl rfl)
theorem dX4_bake_6 : decode cX4_bake 6 = .ok (.iconst 1, 1) := dk_4 (dk_at dksX4_bake_0 6 rfl rfl)
theorem dX4_bake_7 : decode cX4_bake 7 = .ok (.bipush 40, 2) := dk_16 40 (dk_at dksX4_bake_0 7 rfl rfl)
theorem dX4_bake_9 : decode cX4_bake 9 = .ok (.invokestatic 38, 3) := dk_184 0 38 (dk_at dksX4_bake_0 9 rfl rfl)
theorem dX4_bake_12 : decode cX4_bake 12 = .ok (.ifCond .ne 9, 3) := dk_154 0 9 (dk_at dksX4_bake_0 12 rfl rfl)
theorem dX4_bake_15 : decode cX4_bake 15 = .ok (.aload_n 0, 1) := dk_42 (dk_at dksX4_bake_0 15 rfl rfl)
theorem dX4_bake_16 : decode cX4_bake 16 = .ok (.iconst 1, 1) := dk_4 (dk_at dksX4_bake_0 16 rfl rfl)
theorem dX4_bake_17 : decode cX4_bake 17 = .ok (.invokevirtual 90, 3) := dk_182 0 90 (dk_at dksX4_bake_0 17 rfl rfl)
theorem dX4_bake_20 : decode cX4_bake 20 = .ok (.ireturn, 1) := dk_172 (dk_at dksX4_bake_0 20 rfl rfl)
theorem dX4_bake_21 : decode cX4_bake 21 = .ok (.aload_n 0, 1) := dk_42 (dk_at dksX4_bake_0 21 rfl rfl)
theorem dX4_bake_22 : decode cX4_bake 22 = .ok (.getfield 7, 3) := dk_180 0 7 (dk_at dksX4_bake_1 0 rfl rfl)
theorem dX4_bake_25 : decode cX4_bake 25 = .ok (.istore_n 2, 1) := dk_61 (dk_at dksX4_bake_1 3 rfl rfl)
theorem dX4_bake_26 : decode cX4_bake 26 = .ok (.aload_n 0, 1) := dk_42 (dk_at dksX4_bake_1 4 rfl rfl)
theorem dX4_bake_27 : decode cX4_bake 27 = .ok (.iload_n 1, 1) := dk_27 (dk_at dksX4_bake_1 5 rfl rfl)
theorem dX4_bake_28 : decode cX4_bake 28 = .ok (.putfield 7, 3) := dk_181 0 7 (dk_at dksX4_bake_1 6 rfl rfl)
theorem dX4_bake_31 : decode cX4_bake 31 = .ok (.aload_n 0, 1) := dk_42 (dk_at dksX4_bake_1 9 rfl rfl)
theorem dX4_bake_32 : decode cX4_bake 32 = .ok (.getfield 22, 3) := dk_180 0 22 (dk_at dksX4_bake_1 10 rfl rfl)
theorem dX4_bake_35 : decode cX4_bake 35 = .ok (.invokestatic 28, 3) := dk_184 0 28 (dk_at dksX4_bake_1 13 rfl rfl)
theorem dX4_bake_38 : decode cX4_bake 38 = .ok (.iconst 0, 1) := dk_3 (dk_at dksX4_bake_1 16 rfl rfl)
theorem dX4_bake_39 : decode cX4_bake 39 = .ok (.istore_n 3, 1) := dk_62 (dk_at dksX4_bake_1 17 rfl rfl)
theorem dX4_bake_40 : decode cX4_bake 40 = .ok (.iload_n 3, 1) := dk_29 (dk_at dksX4_bake_1 18 rfl rfl)
theorem dX4_bake_41 : decode cX4_bake 41 = .ok (.bipush 40, 2) := dk_16 40 (dk_at dksX4_bake_1 19 rfl rfl)
theorem dX4_bake_43 : decode cX4_bake 43 = .ok (.if_icmp .ge 16, 3) := dk_162 0 16 (dk_at dksX4_bake_1 21 rfl rfl)
theorem dX4_bake_46 : decode cX4_bake 46 = .ok (.aload_n 0, 1) := dk_42 (dk_at dksX4_bake_2 0 rfl rfl)
theorem dX4_bake_47 : decode cX4_bake 47 = .ok (.getfield 13, 3) := dk_180 0 13 (dk_at dksX4_bake_2 1 rfl rfl)
theorem dX4_bake_50 : decode cX4_bake 50 = .ok (.iload_n 3, 1) := dk_29 (dk_at dksX4_bake_2 4 rfl rfl)
theorem dX4_bake_51 : decode cX4_bake 51 = .ok (.iconst 0, 1) := dk_3 (dk_at dksX4_bake_2 5 rfl rfl)
theorem dX4_bake_52 : decode cX4_bake 52 = .ok (.iastore, 1) := dk_79 (dk_at dksX4_bake_2 6 rfl rfl)
theorem dX4_bake_53 : decode cX4_bake 53 = .ok (.iinc 3 1, 3) := dk_132 3 1 (dk_at dksX4_bake_2 7 rfl rfl)
theorem dX4_bake_56 : decode cX4_bake 56 = .ok (.goto (-16), 3) := dk_167 255 240 (dk_at dksX4_bake_2 10 rfl rfl)
theorem dX4_bake_59 : decode cX4_bake 59 = .ok (.iload_n 2, 1) := dk_28 (dk_at dksX4_bake_2 13 rfl rfl)
theorem dX4_bake_60 : decode cX4_bake 60 = .ok (.ireturn, 1) := dk_172 (dk_at dksX4_bake_2 14 rfl rfl)
abbrev cX4_isIn : ByteArray := prog_12_method_5_code
def yX4_isIn : MethodName := ⟨RX4, "isIn", "(III)Z"⟩
def dkwX4_isIn_0 : List UInt8 := [26, 27, 161, 0, 12, 26, 28, 163, 0, 7, 4, 167, 0, 4, 3, 172]
abbrev dktX4_isIn_0 : List UInt8 := dkwX4_isIn_0 ++ []
theorem dksX4_isIn_0 : cX4_isIn.data.toList.drop 0 = dktX4_isIn_0 := by decide +kernel
theorem dX4_isIn_0 : decode cX4_isIn 0 = .ok (.iload_n 0, 1) := dk_26 (dk_at dksX4_isIn_0 0 rfl rfl)
theorem dX4_isIn_1 : decode cX4_isIn 1 = .ok (.iload_n 1, 1) := dk_27 (dk_at dksX4_isIn_0 1 rfl rfl)
theorem dX4_isIn_2 : decode cX4_isIn 2 = .ok (.if_icmp .lt 12, 3) := dk_161 0 12 (dk_at dksX4_isIn_0 2 rfl rfl)
theorem dX4_isIn_5 : decode cX4_isIn 5 = .ok (.iload_n 0, 1) := dk_26 (dk_at dksX4_isIn_0 5 rfl rfl)
theorem dX4_isIn_6 : decode cX4_isIn 6 = .ok (.iload_n 2, 1) := dk_28 (dk_at dksX4_isIn_0 6 rfl rfl)
theorem dX4_isIn_7 : decode cX4_isIn 7 = .ok (.if_icmp .gt 7, 3) := dk_163 0 7 (dk_at dksX4_isIn_0 7 rfl rfl)
theorem dX4_isIn_10 : decode cX4_isIn 10 = .ok (.iconst 1, 1) := dk_4 (dk_at dksX4_isIn_0 10 rfl rfl)
theorem dX4_isIn_11 : decode cX4_isIn 11 = .ok (.goto 4, 3) := dk_167 0 4 (dk_at dksX4_isIn_0 11 rfl rfl)
theorem dX4_isIn_14 : decode cX4_isIn 14 = .ok (.iconst 0, 1) := dk_3 (dk_at dksX4_isIn_0 14 rfl rfl)
theorem dX4_isIn_15 : decode cX4_isIn 15 = .ok (.ireturn, 1) := dk_172 (dk_at dksX4_isIn_0 15 rfl rfl)
abbrev cX4_no : ByteArray := prog_12_method_3_code
def yX4_no : MethodName := ⟨RX4, "no", "(I)I"⟩
def dkwX4_no_0 : List UInt8 := [42, 27, 181, 0, 32, 3, 172]
abbrev dktX4_no_0 : List UInt8 := dkwX4_no_0 ++ []
theorem dksX4_no_0 : cX4_no.data.toList.drop 0 = dktX4_no_0 := by decide +kernel
theorem dX4_no_0 : decode cX4_no 0 = .ok (.aload_n 0, 1) := dk_42 (dk_at dksX4_no_0 0 rfl rfl)
theorem dX4_no_1 : decode cX4_no 1 = .ok (.iload_n 1, 1) := dk_27 (dk_at dksX4_no_0 1 rfl rfl)
theorem dX4_no_2 : decode cX4_no 2 = .ok (.putfield 32, 3) := dk_181 0 32 (dk_at dksX4_no_0 2 rfl rfl)
theorem dX4_no_5 : decode cX4_no 5 = .ok (.iconst 0, 1) := dk_3 (dk_at dksX4_no_0 5 rfl rfl)
theorem dX4_no_6 : decode cX4_no 6 = .ok (.ireturn, 1) := dk_172 (dk_at dksX4_no_0 6 rfl rfl)
abbrev cX4_ice : ByteArray := prog_12_method_24_code
def yX4_ice : MethodName := ⟨RX4, "ice", "(II)I"⟩
def dkwX4_ice_1 : List UInt8 := [182, 0, 90, 172, 42, 180, 0, 13, 27, 46, 62, 42, 180, 0, 13, 27, 28, 79, 29, 172]
abbrev dktX4_ice_1 : List UInt8 := dkwX4_ice_1 ++ []
def dkwX4_ice_0 : List UInt8 := [42, 3, 181, 0, 32, 42, 27, 182, 0, 94, 153, 0, 10, 28, 184, 0, 98, 154, 0, 9, 42, 4]
abbrev dktX4_ice_0 : List UInt8 := dkwX4_ice_0 ++ dktX4_ice_1
theorem dksX4_ice_0 : cX4_ice.data.toList.drop 0 = dktX4_ice_0 := by decide +kernel
theorem dksX4_ice_1 : cX4_ice.data.toList.drop 22 = dktX4_ice_1 := dk_seg dksX4_ice_0 22 rfl rfl
theorem dX4_ice_0 : decode cX4_ice 0 = .ok (.aload_n 0, 1) := dk_42 (dk_at dksX4_ice_0 0 rfl rfl)
theorem dX4_ice_1 : decode cX4_ice 1 = .ok (.iconst 0, 1) := dk_3 (dk_at dksX4_ice_0 1 rfl rfl)
theorem dX4_ice_2 : decode cX4_ice 2 = .ok (.putfield 32, 3) := dk_181 0 32 (dk_at dksX4_ice_0 2 rfl rfl)
theorem dX4_ice_5 : decode cX4_ice 5 = .ok (.aload_n 0, 1) := dk_42 (dk_at dksX4_ice_0 5 rfl rfl)
theorem dX4_ice_6 : decode cX4_ice 6 = .ok (.iload_n 1, 1) := dk_27 (dk_at dksX4_ice_0 6 rfl rfl)
theorem dX4_ice_7 : decode cX4_ice 7 = .ok (.invokevirtual 94, 3) := dk_182 0 94 (dk_at dksX4_ice_0 7 rfl rfl)
theorem dX4_ice_10 : decode cX4_ice 10 = .ok (.ifCond .eq 10, 3) := dk_153 0 10 (dk_at dksX4_ice_0 10 rfl rfl)
theorem dX4_ice_13 : decode cX4_ice 13 = .ok (.iload_n 2, 1) := dk_28 (dk_at dksX4_ice_0 13 rfl rfl)
theorem dX4_ice_14 : decode cX4_ice 14 = .ok (.invokestatic 98, 3) := dk_184 0 98 (dk_at dksX4_ice_0 14 rfl rfl)
theorem dX4_ice_17 : decode cX4_ice 17 = .ok (.ifCond .ne 9, 3) := dk_154 0 9 (dk_at dksX4_ice_0 17 rfl rfl)
theorem dX4_ice_20 : decode cX4_ice 20 = .ok (.aload_n 0, 1) := dk_42 (dk_at dksX4_ice_0 20 rfl rfl)
theorem dX4_ice_21 : decode cX4_ice 21 = .ok (.iconst 1, 1) := dk_4 (dk_at dksX4_ice_0 21 rfl rfl)
theorem dX4_ice_22 : decode cX4_ice 22 = .ok (.invokevirtual 90, 3) := dk_182 0 90 (dk_at dksX4_ice_1 0 rfl rfl)
theorem dX4_ice_25 : decode cX4_ice 25 = .ok (.ireturn, 1) := dk_172 (dk_at dksX4_ice_1 3 rfl rfl)
theorem dX4_ice_26 : decode cX4_ice 26 = .ok (.aload_n 0, 1) := dk_42 (dk_at dksX4_ice_1 4 rfl rfl)
theorem dX4_ice_27 : decode cX4_ice 27 = .ok (.getfield 13, 3) := dk_180 0 13 (dk_at dksX4_ice_1 5 rfl rfl)
theorem dX4_ice_30 : decode cX4_ice 30 = .ok (.iload_n 1, 1) := dk_27 (dk_at dksX4_ice_1 8 rfl rfl)
theorem dX4_ice_31 : decode cX4_ice 31 = .ok (.iaload, 1) := dk_46 (dk_at dksX4_ice_1 9 rfl rfl)
theorem dX4_ice_32 : decode cX4_ice 32 = .ok (.istore_n 3, 1) := dk_62 (dk_at dksX4_ice_1 10 rfl rfl)
theorem dX4_ice_33 : decode cX4_ice 33 = .ok (.aload_n 0, 1) := dk_42 (dk_at dksX4_ice_1 11 rfl rfl)
theorem dX4_ice_34 : decode cX4_ice 34 = .ok (.getfield 13, 3) := dk_180 0 13 (dk_at dksX4_ice_1 12 rfl rfl)
theorem dX4_ice_37 : decode cX4_ice 37 = .ok (.iload_n 1, 1) := dk_27 (dk_at dksX4_ice_1 15 rfl rfl)
theorem dX4_ice_38 : decode cX4_ice 38 = .ok (.iload_n 2, 1) := dk_28 (dk_at dksX4_ice_1 16 rfl rfl)
theorem dX4_ice_39 : decode cX4_ice 39 = .ok (.iastore, 1) := dk_79 (dk_at dksX4_ice_1 17 rfl rfl)
theorem dX4_ice_40 : decode cX4_ice 40 = .ok (.iload_n 3, 1) := dk_29 (dk_at dksX4_ice_1 18 rfl rfl)
theorem dX4_ice_41 : decode cX4_ice 41 = .ok (.ireturn, 1) := dk_172 (dk_at dksX4_ice_1 19 rfl rfl)
abbrev cX4_isSlice : ByteArray := prog_12_method_7_code
def yX4_isSlice : MethodName := ⟨RX4, "isSlice", "(I)Z"⟩
def dkwX4_isSlice_0 : List UInt8 := [27, 3, 42, 180, 0, 7, 4, 100, 184, 0, 38, 172]
abbrev dktX4_isSlice_0 : List UInt8 := dkwX4_isSlice_0 ++ []
theorem dksX4_isSlice_0 : cX4_isSlice.data.toList.drop 0 = dktX4_isSlice_0 := by decide +kernel
theorem dX4_isSlice_0 : decode cX4_isSlice 0 = .ok (.iload_n 1, 1) := dk_27 (dk_at dksX4_isSlice_0 0 rfl rfl)
theorem dX4_isSlice_1 : decode cX4_isSlice 1 = .ok (.iconst 0, 1) := dk_3 (dk_at dksX4_isSlice_0 1 rfl rfl)
theorem dX4_isSlice_2 : decode cX4_isSlice 2 = .ok (.aload_n 0, 1) := dk_42 (dk_at dksX4_isSlice_0 2 rfl rfl)
theorem dX4_isSlice_3 : decode cX4_isSlice 3 = .ok (.getfield 7, 3) := dk_180 0 7 (dk_at dksX4_isSlice_0 3 rfl rfl)
theorem dX4_isSlice_6 : decode cX4_isSlice 6 = .ok (.iconst 1, 1) := dk_4 (dk_at dksX4_isSlice_0 6 rfl rfl)
theorem dX4_isSlice_7 : decode cX4_isSlice 7 = .ok (.isub, 1) := dk_100 (dk_at dksX4_isSlice_0 7 rfl rfl)
theorem dX4_isSlice_8 : decode cX4_isSlice 8 = .ok (.invokestatic 38, 3) := dk_184 0 38 (dk_at dksX4_isSlice_0 8 rfl rfl)
theorem dX4_isSlice_11 : decode cX4_isSlice 11 = .ok (.ireturn, 1) := dk_172 (dk_at dksX4_isSlice_0 11 rfl rfl)
abbrev cX4_isSort : ByteArray := prog_12_method_8_code
def yX4_isSort : MethodName := ⟨RX4, "isSort", "(I)Z"⟩
def dkwX4_isSort_0 : List UInt8 := [26, 3, 7, 184, 0, 38, 172]
abbrev dktX4_isSort_0 : List UInt8 := dkwX4_isSort_0 ++ []
theorem dksX4_isSort_0 : cX4_isSort.data.toList.drop 0 = dktX4_isSort_0 := by decide +kernel
theorem dX4_isSort_0 : decode cX4_isSort 0 = .ok (.iload_n 0, 1) := dk_26 (dk_at dksX4_isSort_0 0 rfl rfl)
theorem dX4_isSort_1 : decode cX4_isSort 1 = .ok (.iconst 0, 1) := dk_3 (dk_at dksX4_isSort_0 1 rfl rfl)
theorem dX4_isSort_2 : decode cX4_isSort 2 = .ok (.iconst 4, 1) := dk_7 (dk_at dksX4_isSort_0 2 rfl rfl)
theorem dX4_isSort_3 : decode cX4_isSort 3 = .ok (.invokestatic 38, 3) := dk_184 0 38 (dk_at dksX4_isSort_0 3 rfl rfl)
theorem dX4_isSort_6 : decode cX4_isSort 6 = .ok (.ireturn, 1) := dk_172 (dk_at dksX4_isSort_0 6 rfl rfl)
abbrev cX4_come : ByteArray := prog_12_method_25_code
def yX4_come : MethodName := ⟨RX4, "come", "()I"⟩
def dkwX4_come_2 : List UInt8 := [180, 0, 35, 4, 96, 181, 0, 35, 42, 180, 0, 35, 4, 100, 172]
abbrev dktX4_come_2 : List UInt8 := dkwX4_come_2 ++ []
def dkwX4_come_1 : List UInt8 := [162, 0, 21, 42, 180, 0, 19, 42, 180, 0, 35, 50, 27, 4, 79, 132, 1, 1, 167, 255, 236, 42, 89]
abbrev dktX4_come_1 : List UInt8 := dkwX4_come_1 ++ dktX4_come_2
def dkwX4_come_0 : List UInt8 := [42, 3, 181, 0, 32, 42, 180, 0, 35, 8, 160, 0, 9, 42, 4, 182, 0, 90, 172, 3, 60, 27, 8]
abbrev dktX4_come_0 : List UInt8 := dkwX4_come_0 ++ dktX4_come_1
theorem dksX4_come_0 : cX4_come.data.toList.drop 0 = dktX4_come_0 := by decide +kernel
theorem dksX4_come_1 : cX4_come.data.toList.drop 23 = dktX4_come_1 := dk_seg dksX4_come_0 23 rfl rfl
theorem dksX4_come_2 : cX4_come.data.toList.drop 46 = dktX4_come_2 := dk_seg dksX4_come_1 23 rfl rfl
theorem dX4_come_0 : decode cX4_come 0 = .ok (.aload_n 0, 1) := dk_42 (dk_at dksX4_come_0 0 rfl rfl)
theorem dX4_come_1 : decode cX4_come 1 = .ok (.iconst 0, 1) := dk_3 (dk_at dksX4_come_0 1 rfl rfl)
theorem dX4_come_2 : decode cX4_come 2 = .ok (.putfield 32, 3) := dk_181 0 32 (dk_at dksX4_come_0 2 rfl rfl)
theorem dX4_come_5 : decode cX4_come 5 = .ok (.aload_n 0, 1) := dk_42 (dk_at dksX4_come_0 5 rfl rfl)
theorem dX4_come_6 : decode cX4_come 6 = .ok (.getfield 35, 3) := dk_180 0 35 (dk_at dksX4_come_0 6 rfl rfl)
theorem dX4_come_9 : decode cX4_come 9 = .ok (.iconst 5, 1) := dk_8 (dk_at dksX4_come_0 9 rfl rfl)
theorem dX4_come_10 : decode cX4_come 10 = .ok (.if_icmp .ne 9, 3) := dk_160 0 9 (dk_at dksX4_come_0 10 rfl rfl)
theorem dX4_come_13 : decode cX4_come 13 = .ok (.aload_n 0, 1) := dk_42 (dk_at dksX4_come_0 13 rfl rfl)
theorem dX4_come_14 : decode cX4_come 14 = .ok (.iconst 1, 1) := dk_4 (dk_at dksX4_come_0 14 rfl rfl)
theorem dX4_come_15 : decode cX4_come 15 = .ok (.invokevirtual 90, 3) := dk_182 0 90 (dk_at dksX4_come_0 15 rfl rfl)
theorem dX4_come_18 : decode cX4_come 18 = .ok (.ireturn, 1) := dk_172 (dk_at dksX4_come_0 18 rfl rfl)
theorem dX4_come_19 : decode cX4_come 19 = .ok (.iconst 0, 1) := dk_3 (dk_at dksX4_come_0 19 rfl rfl)
theorem dX4_come_20 : decode cX4_come 20 = .ok (.istore_n 1, 1) := dk_60 (dk_at dksX4_come_0 20 rfl rfl)
theorem dX4_come_21 : decode cX4_come 21 = .ok (.iload_n 1, 1) := dk_27 (dk_at dksX4_come_0 21 rfl rfl)
theorem dX4_come_22 : decode cX4_come 22 = .ok (.iconst 5, 1) := dk_8 (dk_at dksX4_come_0 22 rfl rfl)
theorem dX4_come_23 : decode cX4_come 23 = .ok (.if_icmp .ge 21, 3) := dk_162 0 21 (dk_at dksX4_come_1 0 rfl rfl)
theorem dX4_come_26 : decode cX4_come 26 = .ok (.aload_n 0, 1) := dk_42 (dk_at dksX4_come_1 3 rfl rfl)
theorem dX4_come_27 : decode cX4_come 27 = .ok (.getfield 19, 3) := dk_180 0 19 (dk_at dksX4_come_1 4 rfl rfl)
theorem dX4_come_30 : decode cX4_come 30 = .ok (.aload_n 0, 1) := dk_42 (dk_at dksX4_come_1 7 rfl rfl)
theorem dX4_come_31 : decode cX4_come 31 = .ok (.getfield 35, 3) := dk_180 0 35 (dk_at dksX4_come_1 8 rfl rfl)
theorem dX4_come_34 : decode cX4_come 34 = .ok (.aaload, 1) := dk_50 (dk_at dksX4_come_1 11 rfl rfl)
theorem dX4_come_35 : decode cX4_come 35 = .ok (.iload_n 1, 1) := dk_27 (dk_at dksX4_come_1 12 rfl rfl)
theorem dX4_come_36 : decode cX4_come 36 = .ok (.iconst 1, 1) := dk_4 (dk_at dksX4_come_1 13 rfl rfl)
theorem dX4_come_37 : decode cX4_come 37 = .ok (.iastore, 1) := dk_79 (dk_at dksX4_come_1 14 rfl rfl)
theorem dX4_come_38 : decode cX4_come 38 = .ok (.iinc 1 1, 3) := dk_132 1 1 (dk_at dksX4_come_1 15 rfl rfl)
theorem dX4_come_41 : decode cX4_come 41 = .ok (.goto (-20), 3) := dk_167 255 236 (dk_at dksX4_come_1 18 rfl rfl)
theorem dX4_come_44 : decode cX4_come 44 = .ok (.aload_n 0, 1) := dk_42 (dk_at dksX4_come_1 21 rfl rfl)
theorem dX4_come_45 : decode cX4_come 45 = .ok (.dup, 1) := dk_89 (dk_at dksX4_come_1 22 rfl rfl)
theorem dX4_come_46 : decode cX4_come 46 = .ok (.getfield 35, 3) := dk_180 0 35 (dk_at dksX4_come_2 0 rfl rfl)
theorem dX4_come_49 : decode cX4_come 49 = .ok (.iconst 1, 1) := dk_4 (dk_at dksX4_come_2 3 rfl rfl)
theorem dX4_come_50 : decode cX4_come 50 = .ok (.iadd, 1) := dk_96 (dk_at dksX4_come_2 4 rfl rfl)
theorem dX4_come_51 : decode cX4_come 51 = .ok (.putfield 35, 3) := dk_181 0 35 (dk_at dksX4_come_2 5 rfl rfl)
theorem dX4_come_54 : decode cX4_come 54 = .ok (.aload_n 0, 1) := dk_42 (dk_at dksX4_come_2 8 rfl rfl)
theorem dX4_come_55 : decode cX4_come 55 = .ok (.getfield 35, 3) := dk_180 0 35 (dk_at dksX4_come_2 9 rfl rfl)
theorem dX4_come_58 : decode cX4_come 58 = .ok (.iconst 1, 1) := dk_4 (dk_at dksX4_come_2 12 rfl rfl)
theorem dX4_come_59 : decode cX4_come 59 = .ok (.isub, 1) := dk_100 (dk_at dksX4_come_2 13 rfl rfl)
theorem dX4_come_60 : decode cX4_come 60 = .ok (.ireturn, 1) := dk_172 (dk_at dksX4_come_2 14 rfl rfl)
abbrev cX4_setTaste : ByteArray := prog_12_method_26_code
def yX4_setTaste : MethodName := ⟨RX4, "setTaste", "(III)I"⟩
def dkwX4_setTaste_2 : List UInt8 := [27, 50, 28, 46, 54, 4, 42, 180, 0, 19, 27, 50, 28, 29, 79, 21, 4, 172]
abbrev dktX4_setTaste_2 : List UInt8 := dkwX4_setTaste_2 ++ []
def dkwX4_setTaste_1 : List UInt8 := [182, 0, 90, 172, 29, 3, 16, 9, 184, 0, 38, 154, 0, 9, 42, 5, 182, 0, 90, 172, 42, 180, 0, 19]
abbrev dktX4_setTaste_1 : List UInt8 := dkwX4_setTaste_1 ++ dktX4_setTaste_2
def dkwX4_setTaste_0 : List UInt8 := [42, 3, 181, 0, 32, 42, 27, 182, 0, 101, 153, 0, 10, 28, 184, 0, 98, 154, 0, 9, 42, 4]
abbrev dktX4_setTaste_0 : List UInt8 := dkwX4_setTaste_0 ++ dktX4_setTaste_1
theorem dksX4_setTaste_0 : cX4_setTaste.data.toList.drop 0 = dktX4_setTaste_0 := by decide +kernel
theorem dksX4_setTaste_1 : cX4_setTaste.data.toList.drop 22 = dktX4_setTaste_1 := dk_seg dksX4_setTaste_0 22 rfl rfl
theorem dksX4_setTaste_2 : cX4_setTaste.data.toList.drop 46 = dktX4_setTaste_2 := dk_seg dksX4_setTaste_1 24 rfl rfl
theorem dX4_setTaste_0 : decode cX4_setTaste 0 = .ok (.aload_n 0, 1) := dk_42 (dk_at dksX4_setTaste_0 0 rfl rfl)
theorem dX4_setTaste_1 : decode cX4_setTaste 1 = .ok (.iconst 0, 1) := dk_3 (dk_at dksX4_setTaste_0 1 rfl rfl)
theorem dX4_setTaste_2 : decode cX4_setTaste 2 = .ok (.putfield 32, 3) := dk_181 0 32 (dk_at dksX4_setTaste_0 2 rfl rfl)
theorem dX4_setTaste_5 : decode cX4_setTaste 5 = .ok (.aload_n 0, 1) := dk_42 (dk_at dksX4_setTaste_0 5 rfl rfl)
theorem dX4_setTaste_6 : decode cX4_setTaste 6 = .ok (.iload_n 1, 1) := dk_27 (dk_at dksX4_setTaste_0 6 rfl rfl)
theorem dX4_setTaste_7 : decode cX4_setTaste 7 = .ok (.invokevirtual 101, 3) := dk_182 0 101 (dk_at dksX4_setTaste_0 7 rfl rfl)
theorem dX4_setTaste_10 : decode cX4_setTaste 10 = .ok (.ifCond .eq 10, 3) := dk_153 0 10 (dk_at dksX4_setTaste_0 10 rfl rfl)
theorem dX4_setTaste_13 : decode cX4_setTaste 13 = .ok (.iload_n 2, 1) := dk_28 (dk_at dksX4_setTaste_0 13 rfl rfl)
theorem dX4_setTaste_14 : decode cX4_setTaste 14 = .ok (.invokestatic 98, 3) := dk_184 0 98 (dk_at dksX4_setTaste_0 14 rfl rfl)
theorem dX4_setTaste_17 : decode cX4_setTaste 17 = .ok (.ifCond .ne 9, 3) := dk_154 0 9 (dk_at dksX4_setTaste_0 17 rfl rfl)
theorem dX4_setTaste_20 : decode cX4_setTaste 20 = .ok (.aload_n 0, 1) := dk_42 (dk_at dksX4_setTaste_0 20 rfl rfl)
theorem dX4_setTaste_21 : decode cX4_setTaste 21 = .ok (.iconst 1, 1) := dk_4 (dk_at dksX4_setTaste_0 21 rfl rfl)
theorem dX4_setTaste_22 : decode cX4_setTaste 22 = .ok (.invokevirtual 90, 3) := dk_182 0 90 (dk_at dksX4_setTaste_1 0 rfl rfl)
theorem dX4_setTaste_25 : decode cX4_setTaste 25 = .ok (.ireturn, 1) := dk_172 (dk_at dksX4_setTaste_1 3 rfl rfl)
theorem dX4_setTaste_26 : decode cX4_setTaste 26 = .ok (.iload_n 3, 1) := dk_29 (dk_at dksX4_setTaste_1 4 rfl rfl)
theorem dX4_setTaste_27 : decode cX4_setTaste 27 = .ok (.iconst 0, 1) := dk_3 (dk_at dksX4_setTaste_1 5 rfl rfl)
theorem dX4_setTaste_28 : decode cX4_setTaste 28 = .ok (.bipush 9, 2) := dk_16 9 (dk_at dksX4_setTaste_1 6 rfl rfl)
theorem dX4_setTaste_30 : decode cX4_setTaste 30 = .ok (.invokestatic 38, 3) := dk_184 0 38 (dk_at dksX4_setTaste_1 8 rfl rfl)
theorem dX4_setTaste_33 : decode cX4_setTaste 33 = .ok (.ifCond .ne 9, 3) := dk_154 0 9 (dk_at dksX4_setTaste_1 11 rfl rfl)
theorem dX4_setTaste_36 : decode cX4_setTaste 36 = .ok (.aload_n 0, 1) := dk_42 (dk_at dksX4_setTaste_1 14 rfl rfl)
theorem dX4_setTaste_37 : decode cX4_setTaste 37 = .ok (.iconst 2, 1) := dk_5 (dk_at dksX4_setTaste_1 15 rfl rfl)
theorem dX4_setTaste_38 : decode cX4_setTaste 38 = .ok (.invokevirtual 90, 3) := dk_182 0 90 (dk_at dksX4_setTaste_1 16 rfl rfl)
theorem dX4_setTaste_41 : decode cX4_setTaste 41 = .ok (.ireturn, 1) := dk_172 (dk_at dksX4_setTaste_1 19 rfl rfl)
theorem dX4_setTaste_42 : decode cX4_setTaste 42 = .ok (.aload_n 0, 1) := dk_42 (dk_at dksX4_setTaste_1 20 rfl rfl)
theorem dX4_setTaste_43 : decode cX4_setTaste 43 = .ok (.getfield 19, 3) := dk_180 0 19 (dk_at dksX4_setTaste_1 21 rfl rfl)
theorem dX4_setTaste_46 : decode cX4_setTaste 46 = .ok (.iload_n 1, 1) := dk_27 (dk_at dksX4_setTaste_2 0 rfl rfl)
theorem dX4_setTaste_47 : decode cX4_setTaste 47 = .ok (.aaload, 1) := dk_50 (dk_at dksX4_setTaste_2 1 rfl rfl)
theorem dX4_setTaste_48 : decode cX4_setTaste 48 = .ok (.iload_n 2, 1) := dk_28 (dk_at dksX4_setTaste_2 2 rfl rfl)
theorem dX4_setTaste_49 : decode cX4_setTaste 49 = .ok (.iaload, 1) := dk_46 (dk_at dksX4_setTaste_2 3 rfl rfl)
theorem dX4_setTaste_50 : decode cX4_setTaste 50 = .ok (.istore 4, 2) := dk_54 4 (dk_at dksX4_setTaste_2 4 rfl rfl)
theorem dX4_setTaste_52 : decode cX4_setTaste 52 = .ok (.aload_n 0, 1) := dk_42 (dk_at dksX4_setTaste_2 6 rfl rfl)
theorem dX4_setTaste_53 : decode cX4_setTaste 53 = .ok (.getfield 19, 3) := dk_180 0 19 (dk_at dksX4_setTaste_2 7 rfl rfl)
theorem dX4_setTaste_56 : decode cX4_setTaste 56 = .ok (.iload_n 1, 1) := dk_27 (dk_at dksX4_setTaste_2 10 rfl rfl)
theorem dX4_setTaste_57 : decode cX4_setTaste 57 = .ok (.aaload, 1) := dk_50 (dk_at dksX4_setTaste_2 11 rfl rfl)
theorem dX4_setTaste_58 : decode cX4_setTaste 58 = .ok (.iload_n 2, 1) := dk_28 (dk_at dksX4_setTaste_2 12 rfl rfl)
theorem dX4_setTaste_59 : decode cX4_setTaste 59 = .ok (.iload_n 3, 1) := dk_29 (dk_at dksX4_setTaste_2 13 rfl rfl)
theorem dX4_setTaste_60 : decode cX4_setTaste 60 = .ok (.iastore, 1) := dk_79 (dk_at dksX4_setTaste_2 14 rfl rfl)
theorem dX4_setTaste_61 : decode cX4_setTaste 61 = .ok (.iload 4, 2) := dk_21 4 (dk_at dksX4_setTaste_2 15 rfl rfl)
theorem dX4_setTaste_63 : decode cX4_setTaste 63 = .ok (.ireturn, 1) := dk_172 (dk_at dksX4_setTaste_2 17 rfl rfl)
abbrev cX4_isEater : ByteArray := prog_12_method_6_code
def yX4_isEater : MethodName := ⟨RX4, "isEater", "(I)Z"⟩
def dkwX4_isEater_0 : List UInt8 := [27, 3, 42, 180, 0, 35, 4, 100, 184, 0, 38, 172]
abbrev dktX4_isEater_0 : List UInt8 := dkwX4_isEater_0 ++ []
theorem dksX4_isEater_0 : cX4_isEater.data.toList.drop 0 = dktX4_isEater_0 := by decide +kernel
theorem dX4_isEater_0 : decode cX4_isEater 0 = .ok (.iload_n 1, 1) := dk_27 (dk_at dksX4_isEater_0 0 rfl rfl)
theorem dX4_isEater_1 : decode cX4_isEater 1 = .ok (.iconst 0, 1) := dk_3 (dk_at dksX4_isEater_0 1 rfl rfl)
theorem dX4_isEater_2 : decode cX4_isEater 2 = .ok (.aload_n 0, 1) := dk_42 (dk_at dksX4_isEater_0 2 rfl rfl)
theorem dX4_isEater_3 : decode cX4_isEater 3 = .ok (.getfield 35, 3) := dk_180 0 35 (dk_at dksX4_isEater_0 3 rfl rfl)
theorem dX4_isEater_6 : decode cX4_isEater 6 = .ok (.iconst 1, 1) := dk_4 (dk_at dksX4_isEater_0 6 rfl rfl)
theorem dX4_isEater_7 : decode cX4_isEater 7 = .ok (.isub, 1) := dk_100 (dk_at dksX4_isEater_0 7 rfl rfl)
theorem dX4_isEater_8 : decode cX4_isEater 8 = .ok (.invokestatic 38, 3) := dk_184 0 38 (dk_at dksX4_isEater_0 8 rfl rfl)
theorem dX4_isEater_11 : decode cX4_isEater 11 = .ok (.ireturn, 1) := dk_172 (dk_at dksX4_isEater_0 11 rfl rfl)
abbrev cX4_give : ByteArray := prog_12_method_27_code
def yX4_give : MethodName := ⟨RX4, "give", "(II)I"⟩
def dkwX4_give_2 : List UInt8 := [172]
abbrev dktX4_give_2 : List UInt8 := dkwX4_give_2 ++ []
def dkwX4_give_1 : List UInt8 := [154, 0, 9, 42, 4, 182, 0, 90, 172, 42, 180, 0, 22, 27, 46, 62, 42, 180, 0, 22, 27, 28, 79, 29]
abbrev dktX4_give_1 : List UInt8 := dkwX4_give_1 ++ dktX4_give_2
def dkwX4_give_0 : List UInt8 := [42, 3, 181, 0, 32, 42, 27, 182, 0, 94, 153, 0, 16, 28, 2, 159, 0, 17, 42, 28, 182, 0, 101]
abbrev dktX4_give_0 : List UInt8 := dkwX4_give_0 ++ dktX4_give_1
theorem dksX4_give_0 : cX4_give.data.toList.drop 0 = dktX4_give_0 := by decide +kernel
theorem dksX4_give_1 : cX4_give.data.toList.drop 23 = dktX4_give_1 := dk_seg dksX4_give_0 23 rfl rfl
theorem dksX4_give_2 : cX4_give.data.toList.drop 47 = dktX4_give_2 := dk_seg dksX4_give_1 24 rfl rfl
theorem dX4_give_0 : decode cX4_give 0 = .ok (.aload_n 0, 1) := dk_42 (dk_at dksX4_give_0 0 rfl rfl)
theorem dX4_give_1 : decode cX4_give 1 = .ok (.iconst 0, 1) := dk_3 (dk_at dksX4_give_0 1 rfl rfl)
theorem dX4_give_2 : decode cX4_give 2 = .ok (.putfield 32, 3) := dk_181 0 32 (dk_at dksX4_give_0 2 rfl rfl)
theorem dX4_give_5 : decode cX4_give 5 = .ok (.aload_n 0, 1) := dk_42 (dk_at dksX4_give_0 5 rfl rfl)
theorem dX4_give_6 : decode cX4_give 6 = .ok (.iload_n 1, 1) := dk_27 (dk_at dksX4_give_0 6 rfl rfl)
theorem dX4_give_7 : decode cX4_give 7 = .ok (.invokevirtual 94, 3) := dk_182 0 94 (dk_at dksX4_give_0 7 rfl rfl)
theorem dX4_give_10 : decode cX4_give 10 = .ok (.ifCond .eq 16, 3) := dk_153 0 16 (dk_at dksX4_give_0 10 rfl rfl)
theorem dX4_give_13 : decode cX4_give 13 = .ok (.iload_n 2, 1) := dk_28 (dk_at dksX4_give_0 13 rfl rfl)
theorem dX4_give_14 : decode cX4_give 14 = .ok (.iconst (-1), 1) := dk_2 (dk_at dksX4_give_0 14 rfl rfl)
theorem dX4_give_15 : decode cX4_give 15 = .ok (.if_icmp .eq 17, 3) := dk_159 0 17 (dk_at dksX4_give_0 15 rfl rfl)
theorem dX4_give_18 : decode cX4_give 18 = .ok (.aload_n 0, 1) := dk_42 (dk_at dksX4_give_0 18 rfl rfl)
theorem dX4_give_19 : decode cX4_give 19 = .ok (.iload_n 2, 1) := dk_28 (dk_at dksX4_give_0 19 rfl rfl)
theorem dX4_give_20 : decode cX4_give 20 = .ok (.invokevirtual 101, 3) := dk_182 0 101 (dk_at dksX4_give_0 20 rfl rfl)
theorem dX4_give_23 : decode cX4_give 23 = .ok (.ifCond .ne 9, 3) := dk_154 0 9 (dk_at dksX4_give_1 0 rfl rfl)
theorem dX4_give_26 : decode cX4_give 26 = .ok (.aload_n 0, 1) := dk_42 (dk_at dksX4_give_1 3 rfl rfl)
theorem dX4_give_27 : decode cX4_give 27 = .ok (.iconst 1, 1) := dk_4 (dk_at dksX4_give_1 4 rfl rfl)
theorem dX4_give_28 : decode cX4_give 28 = .ok (.invokevirtual 90, 3) := dk_182 0 90 (dk_at dksX4_give_1 5 rfl rfl)
theorem dX4_give_31 : decode cX4_give 31 = .ok (.ireturn, 1) := dk_172 (dk_at dksX4_give_1 8 rfl rfl)
theorem dX4_give_32 : decode cX4_give 32 = .ok (.aload_n 0, 1) := dk_42 (dk_at dksX4_give_1 9 rfl rfl)
theorem dX4_give_33 : decode cX4_give 33 = .ok (.getfield 22, 3) := dk_180 0 22 (dk_at dksX4_give_1 10 rfl rfl)
theorem dX4_give_36 : decode cX4_give 36 = .ok (.iload_n 1, 1) := dk_27 (dk_at dksX4_give_1 13 rfl rfl)
theorem dX4_give_37 : decode cX4_give 37 = .ok (.iaload, 1) := dk_46 (dk_at dksX4_give_1 14 rfl rfl)
theorem dX4_give_38 : decode cX4_give 38 = .ok (.istore_n 3, 1) := dk_62 (dk_at dksX4_give_1 15 rfl rfl)
theorem dX4_give_39 : decode cX4_give 39 = .ok (.aload_n 0, 1) := dk_42 (dk_at dksX4_give_1 16 rfl rfl)
theorem dX4_give_40 : decode cX4_give 40 = .ok (.getfield 22, 3) := dk_180 0 22 (dk_at dksX4_give_1 17 rfl rfl)
theorem dX4_give_43 : decode cX4_give 43 = .ok (.iload_n 1, 1) := dk_27 (dk_at dksX4_give_1 20 rfl rfl)
theorem dX4_give_44 : decode cX4_give 44 = .ok (.iload_n 2, 1) := dk_28 (dk_at dksX4_give_1 21 rfl rfl)
theorem dX4_give_45 : decode cX4_give 45 = .ok (.iastore, 1) := dk_79 (dk_at dksX4_give_1 22 rfl rfl)
theorem dX4_give_46 : decode cX4_give 46 = .ok (.iload_n 3, 1) := dk_29 (dk_at dksX4_give_1 23 rfl rfl)
theorem dX4_give_47 : decode cX4_give 47 = .ok (.ireturn, 1) := dk_172 (dk_at dksX4_give_2 0 rfl rfl)
abbrev cX4_share : ByteArray := prog_12_method_28_code
def yX4_share : MethodName := ⟨RX4, "share", "(I)I"⟩
def dkwX4_share_2 : List UInt8 := [89, 180, 0, 111, 4, 96, 181, 0, 111, 42, 180, 0, 22, 42, 180, 0, 7, 2, 184, 0, 74, 172]
abbrev dktX4_share_2 : List UInt8 := dkwX4_share_2 ++ []
def dkwX4_share_1 : List UInt8 := [178, 0, 104, 27, 46, 162, 0, 9, 42, 5, 182, 0, 90, 172, 42, 42, 180, 0, 22, 27, 182, 0, 107, 42]
abbrev dktX4_share_1 : List UInt8 := dkwX4_share_1 ++ dktX4_share_2
def dkwX4_share_0 : List UInt8 := [42, 3, 181, 0, 32, 27, 3, 6, 184, 0, 38, 154, 0, 9, 42, 4, 182, 0, 90, 172, 42, 180, 0, 35]
abbrev dktX4_share_0 : List UInt8 := dkwX4_share_0 ++ dktX4_share_1
theorem dksX4_share_0 : cX4_share.data.toList.drop 0 = dktX4_share_0 := by decide +kernel
theorem dksX4_share_1 : cX4_share.data.toList.drop 24 = dktX4_share_1 := dk_seg dksX4_share_0 24 rfl rfl
theorem dksX4_share_2 : cX4_share.data.toList.drop 48 = dktX4_share_2 := dk_seg dksX4_share_1 24 rfl rfl
theorem dX4_share_0 : decode cX4_share 0 = .ok (.aload_n 0, 1) := dk_42 (dk_at dksX4_share_0 0 rfl rfl)
theorem dX4_share_1 : decode cX4_share 1 = .ok (.iconst 0, 1) := dk_3 (dk_at dksX4_share_0 1 rfl rfl)
theorem dX4_share_2 : decode cX4_share 2 = .ok (.putfield 32, 3) := dk_181 0 32 (dk_at dksX4_share_0 2 rfl rfl)
theorem dX4_share_5 : decode cX4_share 5 = .ok (.iload_n 1, 1) := dk_27 (dk_at dksX4_share_0 5 rfl rfl)
theorem dX4_share_6 : decode cX4_share 6 = .ok (.iconst 0, 1) := dk_3 (dk_at dksX4_share_0 6 rfl rfl)
theorem dX4_share_7 : decode cX4_share 7 = .ok (.iconst 3, 1) := dk_6 (dk_at dksX4_share_0 7 rfl rfl)
theorem dX4_share_8 : decode cX4_share 8 = .ok (.invokestatic 38, 3) := dk_184 0 38 (dk_at dksX4_share_0 8 rfl rfl)
theorem dX4_share_11 : decode cX4_share 11 = .ok (.ifCond .ne 9, 3) := dk_154 0 9 (dk_at dksX4_share_0 11 rfl rfl)
theorem dX4_share_14 : decode cX4_share 14 = .ok (.aload_n 0, 1) := dk_42 (dk_at dksX4_share_0 14 rfl rfl)
theorem dX4_share_15 : decode cX4_share 15 = .ok (.iconst 1, 1) := dk_4 (dk_at dksX4_share_0 15 rfl rfl)
theorem dX4_share_16 : decode cX4_share 16 = .ok (.invokevirtual 90, 3) := dk_182 0 90 (dk_at dksX4_share_0 16 rfl rfl)
theorem dX4_share_19 : decode cX4_share 19 = .ok (.ireturn, 1) := dk_172 (dk_at dksX4_share_0 19 rfl rfl)
theorem dX4_share_20 : decode cX4_share 20 = .ok (.aload_n 0, 1) := dk_42 (dk_at dksX4_share_0 20 rfl rfl)
theorem dX4_share_21 : decode cX4_share 21 = .ok (.getfield 35, 3) := dk_180 0 35 (dk_at dksX4_share_0 21 rfl rfl)
theorem dX4_share_24 : decode cX4_share 24 = .ok (.getstatic 104, 3) := dk_178 0 104 (dk_at dksX4_share_1 0 rfl rfl)
theorem dX4_share_27 : decode cX4_share 27 = .ok (.iload_n 1, 1) := dk_27 (dk_at dksX4_share_1 3 rfl rfl)
theorem dX4_share_28 : decode cX4_share 28 = .ok (.iaload, 1) := dk_46 (dk_at dksX4_share_1 4 rfl rfl)
theorem dX4_share_29 : decode cX4_share 29 = .ok (.if_icmp .ge 9, 3) := dk_162 0 9 (dk_at dksX4_share_1 5 rfl rfl)
theorem dX4_share_32 : decode cX4_share 32 = .ok (.aload_n 0, 1) := dk_42 (dk_at dksX4_share_1 8 rfl rfl)
theorem dX4_share_33 : decode cX4_share 33 = .ok (.iconst 2, 1) := dk_5 (dk_at dksX4_share_1 9 rfl rfl)
theorem dX4_share_34 : decode cX4_share 34 = .ok (.invokevirtual 90, 3) := dk_182 0 90 (dk_at dksX4_share_1 10 rfl rfl)
theorem dX4_share_37 : decode cX4_share 37 = .ok (.ireturn, 1) := dk_172 (dk_at dksX4_share_1 13 rfl rfl)
theorem dX4_share_38 : decode cX4_share 38 = .ok (.aload_n 0, 1) := dk_42 (dk_at dksX4_share_1 14 rfl rfl)
theorem dX4_share_39 : decode cX4_share 39 = .ok (.aload_n 0, 1) := dk_42 (dk_at dksX4_share_1 15 rfl rfl)
theorem dX4_share_40 : decode cX4_share 40 = .ok (.getfield 22, 3) := dk_180 0 22 (dk_at dksX4_share_1 16 rfl rfl)
theorem dX4_share_43 : decode cX4_share 43 = .ok (.iload_n 1, 1) := dk_27 (dk_at dksX4_share_1 19 rfl rfl)
theorem dX4_share_44 : decode cX4_share 44 = .ok (.invokevirtual 107, 3) := dk_182 0 107 (dk_at dksX4_share_1 20 rfl rfl)
theorem dX4_share_47 : decode cX4_share 47 = .ok (.aload_n 0, 1) := dk_42 (dk_at dksX4_share_1 23 rfl rfl)
theorem dX4_share_48 : decode cX4_share 48 = .ok (.dup, 1) := dk_89 (dk_at dksX4_share_2 0 rfl rfl)
theorem dX4_share_49 : decode cX4_share 49 = .ok (.getfield 111, 3) := dk_180 0 111 (dk_at dksX4_share_2 1 rfl rfl)
theorem dX4_share_52 : decode cX4_share 52 = .ok (.iconst 1, 1) := dk_4 (dk_at dksX4_share_2 4 rfl rfl)
theorem dX4_share_53 : decode cX4_share 53 = .ok (.iadd, 1) := dk_96 (dk_at dksX4_share_2 5 rfl rfl)
theorem dX4_share_54 : decode cX4_share 54 = .ok (.putfield 111, 3) := dk_181 0 111 (dk_at dksX4_share_2 6 rfl rfl)
theorem dX4_share_57 : decode cX4_share 57 = .ok (.aload_n 0, 1) := dk_42 (dk_at dksX4_share_2 9 rfl rfl)
theorem dX4_share_58 : decode cX4_share 58 = .ok (.getfield 22, 3) := dk_180 0 22 (dk_at dksX4_share_2 10 rfl rfl)
theorem dX4_share_61 : decode cX4_share 61 = .ok (.aload_n 0, 1) := dk_42 (dk_at dksX4_share_2 13 rfl rfl)
theorem dX4_share_62 : decode cX4_share 62 = .ok (.getfield 7, 3) := dk_180 0 7 (dk_at dksX4_share_2 14 rfl rfl)
theorem dX4_share_65 : decode cX4_share 65 = .ok (.iconst (-1), 1) := dk_2 (dk_at dksX4_share_2 17 rfl rfl)
theorem dX4_share_66 : decode cX4_share 66 = .ok (.invokestatic 74, 3) := dk_184 0 74 (dk_at dksX4_share_2 18 rfl rfl)
theorem dX4_share_69 : decode cX4_share 69 = .ok (.ireturn, 1) := dk_172 (dk_at dksX4_share_2 21 rfl rfl)
abbrev cX4_give_2 : ByteArray := prog_12_method_22_code
def yX4_give_2 : MethodName := ⟨RX4, "give", "([II)V"⟩
def dkwX4_give_2_2 : List UInt8 := [182, 0, 87, 177]
abbrev dktX4_give_2_2 : List UInt8 := dkwX4_give_2_2 ++ []
def dkwX4_give_2_1 : List UInt8 := [182, 0, 80, 167, 0, 23, 28, 5, 160, 0, 13, 42, 43, 3, 182, 0, 83, 87, 167, 0, 8, 42, 43]
abbrev dktX4_give_2_1 : List UInt8 := dkwX4_give_2_1 ++ dktX4_give_2_2
def dkwX4_give_2_0 : List UInt8 := [43, 184, 0, 28, 28, 154, 0, 11, 42, 43, 182, 0, 77, 167, 0, 36, 28, 4, 160, 0, 11, 42, 43]
abbrev dktX4_give_2_0 : List UInt8 := dkwX4_give_2_0 ++ dktX4_give_2_1
theorem dksX4_give_2_0 : cX4_give_2.data.toList.drop 0 = dktX4_give_2_0 := by decide +kernel
theorem dksX4_give_2_1 : cX4_give_2.data.toList.drop 23 = dktX4_give_2_1 := dk_seg dksX4_give_2_0 23 rfl rfl
theorem dksX4_give_2_2 : cX4_give_2.data.toList.drop 46 = dktX4_give_2_2 := dk_seg dksX4_give_2_1 23 rfl rfl
theorem dX4_give_2_0 : decode cX4_give_2 0 = .ok (.aload_n 1, 1) := dk_43 (dk_at dksX4_give_2_0 0 rfl rfl)
theorem dX4_give_2_1 : decode cX4_give_2 1 = .ok (.invokestatic 28, 3) := dk_184 0 28 (dk_at dksX4_give_2_0 1 rfl rfl)
theorem dX4_give_2_4 : decode cX4_give_2 4 = .ok (.iload_n 2, 1) := dk_28 (dk_at dksX4_give_2_0 4 rfl rfl)
theorem dX4_give_2_5 : decode cX4_give_2 5 = .ok (.ifCond .ne 11, 3) := dk_154 0 11 (dk_at dksX4_give_2_0 5 rfl rfl)
theorem dX4_give_2_8 : decode cX4_give_2 8 = .ok (.aload_n 0, 1) := dk_42 (dk_at dksX4_give_2_0 8 rfl rfl)
theorem dX4_give_2_9 : decode cX4_give_2 9 = .ok (.aload_n 1, 1) := dk_43 (dk_at dksX4_give_2_0 9 rfl rfl)
theorem dX4_give_2_10 : decode cX4_give_2 10 = .ok (.invokevirtual 77, 3) := dk_182 0 77 (dk_at dksX4_give_2_0 10 rfl rfl)
theorem dX4_give_2_13 : decode cX4_give_2 13 = .ok (.goto 36, 3) := dk_167 0 36 (dk_at dksX4_give_2_0 13 rfl rfl)
theorem dX4_give_2_16 : decode cX4_give_2 16 = .ok (.iload_n 2, 1) := dk_28 (dk_at dksX4_give_2_0 16 rfl rfl)
theorem dX4_give_2_17 : decode cX4_give_2 17 = .ok (.iconst 1, 1) := dk_4 (dk_at dksX4_give_2_0 17 rfl rfl)
theorem dX4_give_2_18 : decode cX4_give_2 18 = .ok (.if_icmp .ne 11, 3) := dk_160 0 11 (dk_at dksX4_give_2_0 18 rfl rfl)
theorem dX4_give_2_21 : decode cX4_give_2 21 = .ok (.aload_n 0, 1) := dk_42 (dk_at dksX4_give_2_0 21 rfl rfl)
theorem dX4_give_2_22 : decode cX4_give_2 22 = .ok (.aload_n 1, 1) := dk_43 (dk_at dksX4_give_2_0 22 rfl rfl)
theorem dX4_give_2_23 : decode cX4_give_2 23 = .ok (.invokevirtual 80, 3) := dk_182 0 80 (dk_at dksX4_give_2_1 0 rfl rfl)
theorem dX4_give_2_26 : decode cX4_give_2 26 = .ok (.goto 23, 3) := dk_167 0 23 (dk_at dksX4_give_2_1 3 rfl rfl)
theorem dX4_give_2_29 : decode cX4_give_2 29 = .ok (.iload_n 2, 1) := dk_28 (dk_at dksX4_give_2_1 6 rfl rfl)
theorem dX4_give_2_30 : decode cX4_give_2 30 = .ok (.iconst 2, 1) := dk_5 (dk_at dksX4_give_2_1 7 rfl rfl)
theorem dX4_give_2_31 : decode cX4_give_2 31 = .ok (.if_icmp .ne 13, 3) := dk_160 0 13 (dk_at dksX4_give_2_1 8 rfl rfl)
theorem dX4_give_2_34 : decode cX4_give_2 34 = .ok (.aload_n 0, 1) := dk_42 (dk_at dksX4_give_2_1 11 rfl rfl)
theorem dX4_give_2_35 : decode cX4_give_2 35 = .ok (.aload_n 1, 1) := dk_43 (dk_at dksX4_give_2_1 12 rfl rfl)
theorem dX4_give_2_36 : decode cX4_give_2 36 = .ok (.iconst 0, 1) := dk_3 (dk_at dksX4_give_2_1 13 rfl rfl)
theorem dX4_give_2_37 : decode cX4_give_2 37 = .ok (.invokevirtual 83, 3) := dk_182 0 83 (dk_at dksX4_give_2_1 14 rfl rfl)
theorem dX4_give_2_40 : decode cX4_give_2 40 = .ok (.pop, 1) := dk_87 (dk_at dksX4_give_2_1 17 rfl rfl)
theorem dX4_give_2_41 : decode cX4_give_2 41 = .ok (.goto 8, 3) := dk_167 0 8 (dk_at dksX4_give_2_1 18 rfl rfl)
theorem dX4_give_2_44 : decode cX4_give_2 44 = .ok (.aload_n 0, 1) := dk_42 (dk_at dksX4_give_2_1 21 rfl rfl)
theorem dX4_give_2_45 : decode cX4_give_2 45 = .ok (.aload_n 1, 1) := dk_43 (dk_at dksX4_give_2_1 22 rfl rfl)
theorem dX4_give_2_46 : decode cX4_give_2 46 = .ok (.invokevirtual 87, 3) := dk_182 0 87 (dk_at dksX4_give_2_2 0 rfl rfl)
theorem dX4_give_2_49 : decode cX4_give_2 49 = .ok (.return_, 1) := dk_177 (dk_at dksX4_give_2_2 3 rfl rfl)
abbrev cX4_half : ByteArray := prog_12_method_17_code
def yX4_half : MethodName := ⟨RX4, "half", "([I)V"⟩
def dkwX4_half_2 : List UInt8 := [184, 0, 66, 43, 28, 42, 180, 0, 7, 29, 153, 0, 7, 3, 167, 0, 4, 4, 184, 0, 66, 177]
abbrev dktX4_half_2 : List UInt8 := dkwX4_half_2 ++ []
def dkwX4_half_1 : List UInt8 := [182, 0, 58, 161, 0, 7, 4, 167, 0, 4, 3, 62, 43, 3, 28, 29, 153, 0, 7, 4, 167, 0, 4, 3]
abbrev dktX4_half_1 : List UInt8 := dkwX4_half_1 ++ dktX4_half_2
def dkwX4_half_0 : List UInt8 := [42, 3, 3, 5, 3, 182, 0, 62, 61, 42, 4, 3, 28, 182, 0, 58, 42, 4, 28, 42, 180, 0, 7]
abbrev dktX4_half_0 : List UInt8 := dkwX4_half_0 ++ dktX4_half_1
theorem dksX4_half_0 : cX4_half.data.toList.drop 0 = dktX4_half_0 := by decide +kernel
theorem dksX4_half_1 : cX4_half.data.toList.drop 23 = dktX4_half_1 := dk_seg dksX4_half_0 23 rfl rfl
theorem dksX4_half_2 : cX4_half.data.toList.drop 47 = dktX4_half_2 := dk_seg dksX4_half_1 24 rfl rfl
theorem dX4_half_0 : decode cX4_half 0 = .ok (.aload_n 0, 1) := dk_42 (dk_at dksX4_half_0 0 rfl rfl)
theorem dX4_half_1 : decode cX4_half 1 = .ok (.iconst 0, 1) := dk_3 (dk_at dksX4_half_0 1 rfl rfl)
theorem dX4_half_2 : decode cX4_half 2 = .ok (.iconst 0, 1) := dk_3 (dk_at dksX4_half_0 2 rfl rfl)
theorem dX4_half_3 : decode cX4_half 3 = .ok (.iconst 2, 1) := dk_5 (dk_at dksX4_half_0 3 rfl rfl)
theorem dX4_half_4 : decode cX4_half 4 = .ok (.iconst 0, 1) := dk_3 (dk_at dksX4_half_0 4 rfl rfl)
theorem dX4_half_5 : decode cX4_half 5 = .ok (.invokevirtual 62, 3) := dk_182 0 62 (dk_at dksX4_half_0 5 rfl rfl)
theorem dX4_half_8 : decode cX4_half 8 = .ok (.istore_n 2, 1) := dk_61 (dk_at dksX4_half_0 8 rfl rfl)
theorem dX4_half_9 : decode cX4_half 9 = .ok (.aload_n 0, 1) := dk_42 (dk_at dksX4_half_0 9 rfl rfl)
theorem dX4_half_10 : decode cX4_half 10 = .ok (.iconst 1, 1) := dk_4 (dk_at dksX4_half_0 10 rfl rfl)
theorem dX4_half_11 : decode cX4_half 11 = .ok (.iconst 0, 1) := dk_3 (dk_at dksX4_half_0 11 rfl rfl)
theorem dX4_half_12 : decode cX4_half 12 = .ok (.iload_n 2, 1) := dk_28 (dk_at dksX4_half_0 12 rfl rfl)
theorem dX4_half_13 : decode cX4_half 13 = .ok (.invokevirtual 58, 3) := dk_182 0 58 (dk_at dksX4_half_0 13 rfl rfl)
theorem dX4_half_16 : decode cX4_half 16 = .ok (.aload_n 0, 1) := dk_42 (dk_at dksX4_half_0 16 rfl rfl)
theorem dX4_half_17 : decode cX4_half 17 = .ok (.iconst 1, 1) := dk_4 (dk_at dksX4_half_0 17 rfl rfl)
theorem dX4_half_18 : decode cX4_half 18 = .ok (.iload_n 2, 1) := dk_28 (dk_at dksX4_half_0 18 rfl rfl)
theorem dX4_half_19 : decode cX4_half 19 = .ok (.aload_n 0, 1) := dk_42 (dk_at dksX4_half_0 19 rfl rfl)
theorem dX4_half_20 : decode cX4_half 20 = .ok (.getfield 7, 3) := dk_180 0 7 (dk_at dksX4_half_0 20 rfl rfl)
theorem dX4_half_23 : decode cX4_half 23 = .ok (.invokevirtual 58, 3) := dk_182 0 58 (dk_at dksX4_half_1 0 rfl rfl)
theorem dX4_half_26 : decode cX4_half 26 = .ok (.if_icmp .lt 7, 3) := dk_161 0 7 (dk_at dksX4_half_1 3 rfl rfl)
theorem dX4_half_29 : decode cX4_half 29 = .ok (.iconst 1, 1) := dk_4 (dk_at dksX4_half_1 6 rfl rfl)
theorem dX4_half_30 : decode cX4_half 30 = .ok (.goto 4, 3) := dk_167 0 4 (dk_at dksX4_half_1 7 rfl rfl)
theorem dX4_half_33 : decode cX4_half 33 = .ok (.iconst 0, 1) := dk_3 (dk_at dksX4_half_1 10 rfl rfl)
theorem dX4_half_34 : decode cX4_half 34 = .ok (.istore_n 3, 1) := dk_62 (dk_at dksX4_half_1 11 rfl rfl)
theorem dX4_half_35 : decode cX4_half 35 = .ok (.aload_n 1, 1) := dk_43 (dk_at dksX4_half_1 12 rfl rfl)
theorem dX4_half_36 : decode cX4_half 36 = .ok (.iconst 0, 1) := dk_3 (dk_at dksX4_half_1 13 rfl rfl)
theorem dX4_half_37 : decode cX4_half 37 = .ok (.iload_n 2, 1) := dk_28 (dk_at dksX4_half_1 14 rfl rfl)
theorem dX4_half_38 : decode cX4_half 38 = .ok (.iload_n 3, 1) := dk_29 (dk_at dksX4_half_1 15 rfl rfl)
theorem dX4_half_39 : decode cX4_half 39 = .ok (.ifCond .eq 7, 3) := dk_153 0 7 (dk_at dksX4_half_1 16 rfl rfl)
theorem dX4_half_42 : decode cX4_half 42 = .ok (.iconst 1, 1) := dk_4 (dk_at dksX4_half_1 19 rfl rfl)
theorem dX4_half_43 : decode cX4_half 43 = .ok (.goto 4, 3) := dk_167 0 4 (dk_at dksX4_half_1 20 rfl rfl)
theorem dX4_half_46 : decode cX4_half 46 = .ok (.iconst 0, 1) := dk_3 (dk_at dksX4_half_1 23 rfl rfl)
theorem dX4_half_47 : decode cX4_half 47 = .ok (.invokestatic 66, 3) := dk_184 0 66 (dk_at dksX4_half_2 0 rfl rfl)
theorem dX4_half_50 : decode cX4_half 50 = .ok (.aload_n 1, 1) := dk_43 (dk_at dksX4_half_2 3 rfl rfl)
theorem dX4_half_51 : decode cX4_half 51 = .ok (.iload_n 2, 1) := dk_28 (dk_at dksX4_half_2 4 rfl rfl)
theorem dX4_half_52 : decode cX4_half 52 = .ok (.aload_n 0, 1) := dk_42 (dk_at dksX4_half_2 5 rfl rfl)
theorem dX4_half_53 : decode cX4_half 53 = .ok (.getfield 7, 3) := dk_180 0 7 (dk_at dksX4_half_2 6 rfl rfl)
theorem dX4_half_56 : decode cX4_half 56 = .ok (.iload_n 3, 1) := dk_29 (dk_at dksX4_half_2 9 rfl rfl)
theorem dX4_half_57 : decode cX4_half 57 = .ok (.ifCond .eq 7, 3) := dk_153 0 7 (dk_at dksX4_half_2 10 rfl rfl)
theorem dX4_half_60 : decode cX4_half 60 = .ok (.iconst 0, 1) := dk_3 (dk_at dksX4_half_2 13 rfl rfl)
theorem dX4_half_61 : decode cX4_half 61 = .ok (.goto 4, 3) := dk_167 0 4 (dk_at dksX4_half_2 14 rfl rfl)
theorem dX4_half_64 : decode cX4_half 64 = .ok (.iconst 1, 1) := dk_4 (dk_at dksX4_half_2 17 rfl rfl)
theorem dX4_half_65 : decode cX4_half 65 = .ok (.invokestatic 66, 3) := dk_184 0 66 (dk_at dksX4_half_2 18 rfl rfl)
theorem dX4_half_68 : decode cX4_half 68 = .ok (.return_, 1) := dk_177 (dk_at dksX4_half_2 21 rfl rfl)
abbrev cX4_cut : ByteArray := prog_12_method_15_code
def yX4_cut : MethodName := ⟨RX4, "cut", "(IIII)I"⟩
def dkwX4_cut_2 : List UInt8 := [42, 27, 21, 6, 182, 0, 42, 96, 54, 7, 132, 6, 1, 167, 255, 227, 21, 6, 172]
abbrev dktX4_cut_2 : List UInt8 := dkwX4_cut_2 ++ []
def dkwX4_cut_1 : List UInt8 := [54, 5, 28, 54, 6, 3, 54, 7, 21, 7, 29, 104, 21, 4, 4, 96, 21, 5, 104, 162, 0, 21, 21, 7]
abbrev dktX4_cut_1 : List UInt8 := dkwX4_cut_1 ++ dktX4_cut_2
def dkwX4_cut_0 : List UInt8 := [21, 4, 29, 4, 100, 160, 0, 8, 42, 180, 0, 7, 172, 42, 27, 28, 42, 180, 0, 7, 182, 0, 58]
abbrev dktX4_cut_0 : List UInt8 := dkwX4_cut_0 ++ dktX4_cut_1
theorem dksX4_cut_0 : cX4_cut.data.toList.drop 0 = dktX4_cut_0 := by decide +kernel
theorem dksX4_cut_1 : cX4_cut.data.toList.drop 23 = dktX4_cut_1 := dk_seg dksX4_cut_0 23 rfl rfl
theorem dksX4_cut_2 : cX4_cut.data.toList.drop 47 = dktX4_cut_2 := dk_seg dksX4_cut_1 24 rfl rfl
theorem dX4_cut_0 : decode cX4_cut 0 = .ok (.iload 4, 2) := dk_21 4 (dk_at dksX4_cut_0 0 rfl rfl)
theorem dX4_cut_2 : decode cX4_cut 2 = .ok (.iload_n 3, 1) := dk_29 (dk_at dksX4_cut_0 2 rfl rfl)
theorem dX4_cut_3 : decode cX4_cut 3 = .ok (.iconst 1, 1) := dk_4 (dk_at dksX4_cut_0 3 rfl rfl)
theorem dX4_cut_4 : decode cX4_cut 4 = .ok (.isub, 1) := dk_100 (dk_at dksX4_cut_0 4 rfl rfl)
theorem dX4_cut_5 : decode cX4_cut 5 = .ok (.if_icmp .ne 8, 3) := dk_160 0 8 (dk_at dksX4_cut_0 5 rfl rfl)
theorem dX4_cut_8 : decode cX4_cut 8 = .ok (.aload_n 0, 1) := dk_42 (dk_at dksX4_cut_0 8 rfl rfl)
theorem dX4_cut_9 : decode cX4_cut 9 = .ok (.getfield 7, 3) := dk_180 0 7 (dk_at dksX4_cut_0 9 rfl rfl)
theorem dX4_cut_12 : decode cX4_cut 12 = .ok (.ireturn, 1) := dk_172 (dk_at dksX4_cut_0 12 rfl rfl)
theorem dX4_cut_13 : decode cX4_cut 13 = .ok (.aload_n 0, 1) := dk_42 (dk_at dksX4_cut_0 13 rfl rfl)
theorem dX4_cut_14 : decode cX4_cut 14 = .ok (.iload_n 1, 1) := dk_27 (dk_at dksX4_cut_0 14 rfl rfl)
theorem dX4_cut_15 : decode cX4_cut 15 = .ok (.iload_n 2, 1) := dk_28 (dk_at dksX4_cut_0 15 rfl rfl)
theorem dX4_cut_16 : decode cX4_cut 16 = .ok (.aload_n 0, 1) := dk_42 (dk_at dksX4_cut_0 16 rfl rfl)
theorem dX4_cut_17 : decode cX4_cut 17 = .ok (.getfield 7, 3) := dk_180 0 7 (dk_at dksX4_cut_0 17 rfl rfl)
theorem dX4_cut_20 : decode cX4_cut 20 = .ok (.invokevirtual 58, 3) := dk_182 0 58 (dk_at dksX4_cut_0 20 rfl rfl)
theorem dX4_cut_23 : decode cX4_cut 23 = .ok (.istore 5, 2) := dk_54 5 (dk_at dksX4_cut_1 0 rfl rfl)
theorem dX4_cut_25 : decode cX4_cut 25 = .ok (.iload_n 2, 1) := dk_28 (dk_at dksX4_cut_1 2 rfl rfl)
theorem dX4_cut_26 : decode cX4_cut 26 = .ok (.istore 6, 2) := dk_54 6 (dk_at dksX4_cut_1 3 rfl rfl)
theorem dX4_cut_28 : decode cX4_cut 28 = .ok (.iconst 0, 1) := dk_3 (dk_at dksX4_cut_1 5 rfl rfl)
theorem dX4_cut_29 : decode cX4_cut 29 = .ok (.istore 7, 2) := dk_54 7 (dk_at dksX4_cut_1 6 rfl rfl)
theorem dX4_cut_31 : decode cX4_cut 31 = .ok (.iload 7, 2) := dk_21 7 (dk_at dksX4_cut_1 8 rfl rfl)
theorem dX4_cut_33 : decode cX4_cut 33 = .ok (.iload_n 3, 1) := dk_29 (dk_at dksX4_cut_1 10 rfl rfl)
theorem dX4_cut_34 : decode cX4_cut 34 = .ok (.imul, 1) := dk_104 (dk_at dksX4_cut_1 11 rfl rfl)
theorem dX4_cut_35 : decode cX4_cut 35 = .ok (.iload 4, 2) := dk_21 4 (dk_at dksX4_cut_1 12 rfl rfl)
theorem dX4_cut_37 : decode cX4_cut 37 = .ok (.iconst 1, 1) := dk_4 (dk_at dksX4_cut_1 14 rfl rfl)
theorem dX4_cut_38 : decode cX4_cut 38 = .ok (.iadd, 1) := dk_96 (dk_at dksX4_cut_1 15 rfl rfl)
theorem dX4_cut_39 : decode cX4_cut 39 = .ok (.iload 5, 2) := dk_21 5 (dk_at dksX4_cut_1 16 rfl rfl)
theorem dX4_cut_41 : decode cX4_cut 41 = .ok (.imul, 1) := dk_104 (dk_at dksX4_cut_1 18 rfl rfl)
theorem dX4_cut_42 : decode cX4_cut 42 = .ok (.if_icmp .ge 21, 3) := dk_162 0 21 (dk_at dksX4_cut_1 19 rfl rfl)
theorem dX4_cut_45 : decode cX4_cut 45 = .ok (.iload 7, 2) := dk_21 7 (dk_at dksX4_cut_1 22 rfl rfl)
theorem dX4_cut_47 : decode cX4_cut 47 = .ok (.aload_n 0, 1) := dk_42 (dk_at dksX4_cut_2 0 rfl rfl)
theorem dX4_cut_48 : decode cX4_cut 48 = .ok (.iload_n 1, 1) := dk_27 (dk_at dksX4_cut_2 1 rfl rfl)
theorem dX4_cut_49 : decode cX4_cut 49 = .ok (.iload 6, 2) := dk_21 6 (dk_at dksX4_cut_2 2 rfl rfl)
theorem dX4_cut_51 : decode cX4_cut 51 = .ok (.invokevirtual 42, 3) := dk_182 0 42 (dk_at dksX4_cut_2 4 rfl rfl)
theorem dX4_cut_54 : decode cX4_cut 54 = .ok (.iadd, 1) := dk_96 (dk_at dksX4_cut_2 7 rfl rfl)
theorem dX4_cut_55 : decode cX4_cut 55 = .ok (.istore 7, 2) := dk_54 7 (dk_at dksX4_cut_2 8 rfl rfl)
theorem dX4_cut_57 : decode cX4_cut 57 = .ok (.iinc 6 1, 3) := dk_132 6 1 (dk_at dksX4_cut_2 10 rfl rfl)
theorem dX4_cut_60 : decode cX4_cut 60 = .ok (.goto (-29), 3) := dk_167 255 227 (dk_at dksX4_cut_2 13 rfl rfl)
theorem dX4_cut_63 : decode cX4_cut 63 = .ok (.iload 6, 2) := dk_21 6 (dk_at dksX4_cut_2 16 rfl rfl)
theorem dX4_cut_65 : decode cX4_cut 65 = .ok (.ireturn, 1) := dk_172 (dk_at dksX4_cut_2 18 rfl rfl)
abbrev cX4_run : ByteArray := prog_12_method_10_code
def yX4_run : MethodName := ⟨RX4, "run", "(III)I"⟩
def dkwX4_run_1 : List UInt8 := [132, 5, 1, 167, 255, 235, 21, 4, 172]
abbrev dktX4_run_1 : List UInt8 := dkwX4_run_1 ++ []
def dkwX4_run_0 : List UInt8 := [3, 54, 4, 28, 54, 5, 21, 5, 29, 162, 0, 21, 21, 4, 42, 27, 21, 5, 182, 0, 42, 96, 54, 4]
abbrev dktX4_run_0 : List UInt8 := dkwX4_run_0 ++ dktX4_run_1
theorem dksX4_run_0 : cX4_run.data.toList.drop 0 = dktX4_run_0 := by decide +kernel
theorem dksX4_run_1 : cX4_run.data.toList.drop 24 = dktX4_run_1 := dk_seg dksX4_run_0 24 rfl rfl
theorem dX4_run_0 : decode cX4_run 0 = .ok (.iconst 0, 1) := dk_3 (dk_at dksX4_run_0 0 rfl rfl)
theorem dX4_run_1 : decode cX4_run 1 = .ok (.istore 4, 2) := dk_54 4 (dk_at dksX4_run_0 1 rfl rfl)
theorem dX4_run_3 : decode cX4_run 3 = .ok (.iload_n 2, 1) := dk_28 (dk_at dksX4_run_0 3 rfl rfl)
theorem dX4_run_4 : decode cX4_run 4 = .ok (.istore 5, 2) := dk_54 5 (dk_at dksX4_run_0 4 rfl rfl)
theorem dX4_run_6 : decode cX4_run 6 = .ok (.iload 5, 2) := dk_21 5 (dk_at dksX4_run_0 6 rfl rfl)
theorem dX4_run_8 : decode cX4_run 8 = .ok (.iload_n 3, 1) := dk_29 (dk_at dksX4_run_0 8 rfl rfl)
theorem dX4_run_9 : decode cX4_run 9 = .ok (.if_icmp .ge 21, 3) := dk_162 0 21 (dk_at dksX4_run_0 9 rfl rfl)
theorem dX4_run_12 : decode cX4_run 12 = .ok (.iload 4, 2) := dk_21 4 (dk_at dksX4_run_0 12 rfl rfl)
theorem dX4_run_14 : decode cX4_run 14 = .ok (.aload_n 0, 1) := dk_42 (dk_at dksX4_run_0 14 rfl rfl)
theorem dX4_run_15 : decode cX4_run 15 = .ok (.iload_n 1, 1) := dk_27 (dk_at dksX4_run_0 15 rfl rfl)
theorem dX4_run_16 : decode cX4_run 16 = .ok (.iload 5, 2) := dk_21 5 (dk_at dksX4_run_0 16 rfl rfl)
theorem dX4_run_18 : decode cX4_run 18 = .ok (.invokevirtual 42, 3) := dk_182 0 42 (dk_at dksX4_run_0 18 rfl rfl)
theorem dX4_run_21 : decode cX4_run 21 = .ok (.iadd, 1) := dk_96 (dk_at dksX4_run_0 21 rfl rfl)
theorem dX4_run_22 : decode cX4_run 22 = .ok (.istore 4, 2) := dk_54 4 (dk_at dksX4_run_0 22 rfl rfl)
theorem dX4_run_24 : decode cX4_run 24 = .ok (.iinc 5 1, 3) := dk_132 5 1 (dk_at dksX4_run_1 0 rfl rfl)
theorem dX4_run_27 : decode cX4_run 27 = .ok (.goto (-21), 3) := dk_167 255 235 (dk_at dksX4_run_1 3 rfl rfl)
theorem dX4_run_30 : decode cX4_run 30 = .ok (.iload 4, 2) := dk_21 4 (dk_at dksX4_run_1 6 rfl rfl)
theorem dX4_run_32 : decode cX4_run 32 = .ok (.ireturn, 1) := dk_172 (dk_at dksX4_run_1 8 rfl rfl)
abbrev cX4_likes : ByteArray := prog_12_method_9_code
def yX4_likes : MethodName := ⟨RX4, "likes", "(II)I"⟩
def dkwX4_likes_0 : List UInt8 := [42, 180, 0, 19, 27, 50, 42, 180, 0, 13, 28, 46, 46, 172]
abbrev dktX4_likes_0 : List UInt8 := dkwX4_likes_0 ++ []
theorem dksX4_likes_0 : cX4_likes.data.toList.drop 0 = dktX4_likes_0 := by decide +kernel
theorem dX4_likes_0 : decode cX4_likes 0 = .ok (.aload_n 0, 1) := dk_42 (dk_at dksX4_likes_0 0 rfl rfl)
theorem dX4_likes_1 : decode cX4_likes 1 = .ok (.getfield 19, 3) := dk_180 0 19 (dk_at dksX4_likes_0 1 rfl rfl)
theorem dX4_likes_4 : decode cX4_likes 4 = .ok (.iload_n 1, 1) := dk_27 (dk_at dksX4_likes_0 4 rfl rfl)
theorem dX4_likes_5 : decode cX4_likes 5 = .ok (.aaload, 1) := dk_50 (dk_at dksX4_likes_0 5 rfl rfl)
theorem dX4_likes_6 : decode cX4_likes 6 = .ok (.aload_n 0, 1) := dk_42 (dk_at dksX4_likes_0 6 rfl rfl)
theorem dX4_likes_7 : decode cX4_likes 7 = .ok (.getfield 13, 3) := dk_180 0 13 (dk_at dksX4_likes_0 7 rfl rfl)
theorem dX4_likes_10 : decode cX4_likes 10 = .ok (.iload_n 2, 1) := dk_28 (dk_at dksX4_likes_0 10 rfl rfl)
theorem dX4_likes_11 : decode cX4_likes 11 = .ok (.iaload, 1) := dk_46 (dk_at dksX4_likes_0 11 rfl rfl)
theorem dX4_likes_12 : decode cX4_likes 12 = .ok (.iaload, 1) := dk_46 (dk_at dksX4_likes_0 12 rfl rfl)
theorem dX4_likes_13 : decode cX4_likes 13 = .ok (.ireturn, 1) := dk_172 (dk_at dksX4_likes_0 13 rfl rfl)
abbrev cX4_take : ByteArray := prog_12_method_16_code
def yX4_take : MethodName := ⟨RX4, "take", "([IIII)V"⟩
def dkwX4_take_0 : List UInt8 := [27, 54, 4, 21, 4, 28, 162, 0, 14, 42, 21, 4, 29, 79, 132, 4, 1, 167, 255, 242, 177]
abbrev dktX4_take_0 : List UInt8 := dkwX4_take_0 ++ []
theorem dksX4_take_0 : cX4_take.data.toList.drop 0 = dktX4_take_0 := by decide +kernel
theorem dX4_take_0 : decode cX4_take 0 = .ok (.iload_n 1, 1) := dk_27 (dk_at dksX4_take_0 0 rfl rfl)
theorem dX4_take_1 : decode cX4_take 1 = .ok (.istore 4, 2) := dk_54 4 (dk_at dksX4_take_0 1 rfl rfl)
theorem dX4_take_3 : decode cX4_take 3 = .ok (.iload 4, 2) := dk_21 4 (dk_at dksX4_take_0 3 rfl rfl)
theorem dX4_take_5 : decode cX4_take 5 = .ok (.iload_n 2, 1) := dk_28 (dk_at dksX4_take_0 5 rfl rfl)
theorem dX4_take_6 : decode cX4_take 6 = .ok (.if_icmp .ge 14, 3) := dk_162 0 14 (dk_at dksX4_take_0 6 rfl rfl)
theorem dX4_take_9 : decode cX4_take 9 = .ok (.aload_n 0, 1) := dk_42 (dk_at dksX4_take_0 9 rfl rfl)
theorem dX4_take_10 : decode cX4_take 10 = .ok (.iload 4, 2) := dk_21 4 (dk_at dksX4_take_0 10 rfl rfl)
theorem dX4_take_12 : decode cX4_take 12 = .ok (.iload_n 3, 1) := dk_29 (dk_at dksX4_take_0 12 rfl rfl)
theorem dX4_take_13 : decode cX4_take 13 = .ok (.iastore, 1) := dk_79 (dk_at dksX4_take_0 13 rfl rfl)
theorem dX4_take_14 : decode cX4_take 14 = .ok (.iinc 4 1, 3) := dk_132 4 1 (dk_at dksX4_take_0 14 rfl rfl)
theorem dX4_take_17 : decode cX4_take 17 = .ok (.goto (-14), 3) := dk_167 255 242 (dk_at dksX4_take_0 17 rfl rfl)
theorem dX4_take_20 : decode cX4_take 20 = .ok (.return_, 1) := dk_177 (dk_at dksX4_take_0 20 rfl rfl)
abbrev cX4_trim : ByteArray := prog_12_method_18_code
def yX4_trim : MethodName := ⟨RX4, "trim", "([I)V"⟩
def dkwX4_trim_9 : List UInt8 := [100, 21, 7, 100, 54, 8, 43, 44, 21, 8, 46, 45, 21, 8, 46, 3, 184, 0, 66, 177]
abbrev dktX4_trim_9 : List UInt8 := dkwX4_trim_9 ++ []
def dkwX4_trim_8 : List UInt8 := [45, 21, 6, 46, 5, 184, 0, 66, 43, 44, 21, 7, 46, 45, 21, 7, 46, 4, 184, 0, 66, 6, 21, 6]
abbrev dktX4_trim_8 : List UInt8 := dkwX4_trim_8 ++ dktX4_trim_9
def dkwX4_trim_7 : List UInt8 := [160, 0, 15, 42, 4, 44, 45, 21, 6, 182, 0, 70, 167, 0, 5, 21, 4, 54, 7, 43, 44, 21, 6, 46]
abbrev dktX4_trim_7 : List UInt8 := dkwX4_trim_7 ++ dktX4_trim_8
def dkwX4_trim_6 : List UInt8 := [21, 4, 92, 46, 4, 100, 79, 167, 255, 217, 42, 5, 44, 45, 2, 182, 0, 70, 54, 6, 21, 6, 21, 4]
abbrev dktX4_trim_6 : List UInt8 := dkwX4_trim_6 ++ dktX4_trim_7
def dkwX4_trim_5 : List UInt8 := [164, 0, 34, 42, 4, 44, 21, 4, 46, 45, 21, 4, 46, 4, 100, 182, 0, 58, 21, 5, 161, 0, 14, 45]
abbrev dktX4_trim_5 : List UInt8 := dkwX4_trim_5 ++ dktX4_trim_6
def dkwX4_trim_4 : List UInt8 := [182, 0, 58, 184, 0, 50, 54, 5, 132, 6, 1, 167, 255, 220, 45, 21, 4, 46, 44, 21, 4, 46]
abbrev dktX4_trim_4 : List UInt8 := dkwX4_trim_4 ++ dktX4_trim_5
def dkwX4_trim_3 : List UInt8 := [162, 0, 36, 21, 6, 21, 4, 159, 0, 23, 21, 5, 42, 4, 44, 21, 6, 46, 45, 21, 6, 46]
abbrev dktX4_trim_3 : List UInt8 := dkwX4_trim_3 ++ dktX4_trim_4
def dkwX4_trim_2 : List UInt8 := [180, 0, 7, 79, 78, 42, 4, 44, 45, 2, 182, 0, 70, 54, 4, 3, 54, 5, 3, 54, 6, 21, 6, 6]
abbrev dktX4_trim_2 : List UInt8 := dkwX4_trim_2 ++ dktX4_trim_3
def dkwX4_trim_1 : List UInt8 := [4, 182, 0, 62, 79, 77, 6, 188, 10, 89, 3, 44, 4, 46, 79, 89, 4, 44, 5, 46, 79, 89, 5, 42]
abbrev dktX4_trim_1 : List UInt8 := dkwX4_trim_1 ++ dktX4_trim_2
def dkwX4_trim_0 : List UInt8 := [6, 188, 10, 89, 3, 3, 79, 89, 4, 42, 3, 3, 6, 3, 182, 0, 62, 79, 89, 5, 42, 3, 3, 6]
abbrev dktX4_trim_0 : List UInt8 := dkwX4_trim_0 ++ dktX4_trim_1
theorem dksX4_trim_0 : cX4_trim.data.toList.drop 0 = dktX4_trim_0 := by decide +kernel
theorem dksX4_trim_1 : cX4_trim.data.toList.drop 24 = dktX4_trim_1 := dk_seg dksX4_trim_0 24 rfl rfl
theorem dksX4_trim_2 : cX4_trim.data.toList.drop 48 = dktX4_trim_2 := dk_seg dksX4_trim_1 24 rfl rfl
theorem dksX4_trim_3 : cX4_trim.data.toList.drop 72 = dktX4_trim_3 := dk_seg dksX4_trim_2 24 rfl rfl
theorem dksX4_trim_4 : cX4_trim.data.toList.drop 94 = dktX4_trim_4 := dk_seg dksX4_trim_3 22 rfl rfl
theorem dksX4_trim_5 : cX4_trim.data.toList.drop 116 = dktX4_trim_5 := dk_seg dksX4_trim_4 22 rfl rfl
theorem dksX4_trim_6 : cX4_trim.data.toList.drop 140 = dktX4_trim_6 := dk_seg dksX4_trim_5 24 rfl rfl
theorem dksX4_trim_7 : cX4_trim.data.toList.drop 164 = dktX4_trim_7 := dk_seg dksX4_trim_6 24 rfl rfl
theorem dksX4_trim_8 : cX4_trim.data.toList.drop 188 = dktX4_trim_8 := dk_seg dksX4_trim_7 24 rfl rfl
theorem dksX4_trim_9 : cX4_trim.data.toList.drop 212 = dktX4_trim_9 := dk_seg dksX4_trim_8 24 rfl rfl
theorem dX4_trim_0 : decode cX4_trim 0 = .ok (.iconst 3, 1) := dk_6 (dk_at dksX4_trim_0 0 rfl rfl)
theorem dX4_trim_1 : decode cX4_trim 1 = .ok (.newarray .int, 2) := dk_188_10 (dk_at dksX4_trim_0 1 rfl rfl)
theorem dX4_trim_3 : decode cX4_trim 3 = .ok (.dup, 1) := dk_89 (dk_at dksX4_trim_0 3 rfl rfl)
theorem dX4_trim_4 : decode cX4_trim 4 = .ok (.iconst 0, 1) := dk_3 (dk_at dksX4_trim_0 4 rfl rfl)
theorem dX4_trim_5 : decode cX4_trim 5 = .ok (.iconst 0, 1) := dk_3 (dk_at dksX4_trim_0 5 rfl rfl)
theorem dX4_trim_6 : decode cX4_trim 6 = .ok (.iastore, 1) := dk_79 (dk_at dksX4_trim_0 6 rfl rfl)
theorem dX4_trim_7 : decode cX4_trim 7 = .ok (.dup, 1) := dk_89 (dk_at dksX4_trim_0 7 rfl rfl)
theorem dX4_trim_8 : decode cX4_trim 8 = .ok (.iconst 1, 1) := dk_4 (dk_at dksX4_trim_0 8 rfl rfl)
theorem dX4_trim_9 : decode cX4_trim 9 = .ok (.aload_n 0, 1) := dk_42 (dk_at dksX4_trim_0 9 rfl rfl)
theorem dX4_trim_10 : decode cX4_trim 10 = .ok (.iconst 0, 1) := dk_3 (dk_at dksX4_trim_0 10 rfl rfl)
theorem dX4_trim_11 : decode cX4_trim 11 = .ok (.iconst 0, 1) := dk_3 (dk_at dksX4_trim_0 11 rfl rfl)
theorem dX4_trim_12 : decode cX4_trim 12 = .ok (.iconst 3, 1) := dk_6 (dk_at dksX4_trim_0 12 rfl rfl)
theorem dX4_trim_13 : decode cX4_trim 13 = .ok (.iconst 0, 1) := dk_3 (dk_at dksX4_trim_0 13 rfl rfl)
theorem dX4_trim_14 : decode cX4_trim 14 = .ok (.invokevirtual 62, 3) := dk_182 0 62 (dk_at dksX4_trim_0 14 rfl rfl)
theorem dX4_trim_17 : decode cX4_trim 17 = .ok (.iastore, 1) := dk_79 (dk_at dksX4_trim_0 17 rfl rfl)
theorem dX4_trim_18 : decode cX4_trim 18 = .ok (.dup, 1) := dk_89 (dk_at dksX4_trim_0 18 rfl rfl)
theorem dX4_trim_19 : decode cX4_trim 19 = .ok (.iconst 2, 1) := dk_5 (dk_at dksX4_trim_0 19 rfl rfl)
theorem dX4_trim_20 : decode cX4_trim 20 = .ok (.aload_n 0, 1) := dk_42 (dk_at dksX4_trim_0 20 rfl rfl)
theorem dX4_trim_21 : decode cX4_trim 21 = .ok (.iconst 0, 1) := dk_3 (dk_at dksX4_trim_0 21 rfl rfl)
theorem dX4_trim_22 : decode cX4_trim 22 = .ok (.iconst 0, 1) := dk_3 (dk_at dksX4_trim_0 22 rfl rfl)
theorem dX4_trim_23 : decode cX4_trim 23 = .ok (.iconst 3, 1) := dk_6 (dk_at dksX4_trim_0 23 rfl rfl)
theorem dX4_trim_24 : decode cX4_trim 24 = .ok (.iconst 1, 1) := dk_4 (dk_at dksX4_trim_1 0 rfl rfl)
theorem dX4_trim_25 : decode cX4_trim 25 = .ok (.invokevirtual 62, 3) := dk_182 0 62 (dk_at dksX4_trim_1 1 rfl rfl)
theorem dX4_trim_28 : decode cX4_trim 28 = .ok (.iastore, 1) := dk_79 (dk_at dksX4_trim_1 4 rfl rfl)
theorem dX4_trim_29 : decode cX4_trim 29 = .ok (.astore_n 2, 1) := dk_77 (dk_at dksX4_trim_1 5 rfl rfl)
theorem dX4_trim_30 : decode cX4_trim 30 = .ok (.iconst 3, 1) := dk_6 (dk_at dksX4_trim_1 6 rfl rfl)
theorem dX4_trim_31 : decode cX4_trim 31 = .ok (.newarray .int, 2) := dk_188_10 (dk_at dksX4_trim_1 7 rfl rfl)
theorem dX4_trim_33 : decode cX4_trim 33 = .ok (.dup, 1) := dk_89 (dk_at dksX4_trim_1 9 rfl rfl)
theorem dX4_trim_34 : decode cX4_trim 34 = .ok (.iconst 0, 1) := dk_3 (dk_at dksX4_trim_1 10 rfl rfl)
theorem dX4_trim_35 : decode cX4_trim 35 = .ok (.aload_n 2, 1) := dk_44 (dk_at dksX4_trim_1 11 rfl rfl)
theorem dX4_trim_36 : decode cX4_trim 36 = .ok (.iconst 1, 1) := dk_4 (dk_at dksX4_trim_1 12 rfl rfl)
theorem dX4_trim_37 : decode cX4_trim 37 = .ok (.iaload, 1) := dk_46 (dk_at dksX4_trim_1 13 rfl rfl)
theorem dX4_trim_38 : decode cX4_trim 38 = .ok (.iastore, 1) := dk_79 (dk_at dksX4_trim_1 14 rfl rfl)
theorem dX4_trim_39 : decode cX4_trim 39 = .ok (.dup, 1) := dk_89 (dk_at dksX4_trim_1 15 rfl rfl)
theorem dX4_trim_40 : decode cX4_trim 40 = .ok (.iconst 1, 1) := dk_4 (dk_at dksX4_trim_1 16 rfl rfl)
theorem dX4_trim_41 : decode cX4_trim 41 = .ok (.aload_n 2, 1) := dk_44 (dk_at dksX4_trim_1 17 rfl rfl)
theorem dX4_trim_42 : decode cX4_trim 42 = .ok (.iconst 2, 1) := dk_5 (dk_at dksX4_trim_1 18 rfl rfl)
theorem dX4_trim_43 : decode cX4_trim 43 = .ok (.iaload, 1) := dk_46 (dk_at dksX4_trim_1 19 rfl rfl)
theorem dX4_trim_44 : decode cX4_trim 44 = .ok (.iastore, 1) := dk_79 (dk_at dksX4_trim_1 20 rfl rfl)
theorem dX4_trim_45 : decode cX4_trim 45 = .ok (.dup, 1) := dk_89 (dk_at dksX4_trim_1 21 rfl rfl)
theorem dX4_trim_46 : decode cX4_trim 46 = .ok (.iconst 2, 1) := dk_5 (dk_at dksX4_trim_1 22 rfl rfl)
theorem dX4_trim_47 : decode cX4_trim 47 = .ok (.aload_n 0, 1) := dk_42 (dk_at dksX4_trim_1 23 rfl rfl)
theorem dX4_trim_48 : decode cX4_trim 48 = .ok (.getfield 7, 3) := dk_180 0 7 (dk_at dksX4_trim_2 0 rfl rfl)
theorem dX4_trim_51 : decode cX4_trim 51 = .ok (.iastore, 1) := dk_79 (dk_at dksX4_trim_2 3 rfl rfl)
theorem dX4_trim_52 : decode cX4_trim 52 = .ok (.astore_n 3, 1) := dk_78 (dk_at dksX4_trim_2 4 rfl rfl)
theorem dX4_trim_53 : decode cX4_trim 53 = .ok (.aload_n 0, 1) := dk_42 (dk_at dksX4_trim_2 5 rfl rfl)
theorem dX4_trim_54 : decode cX4_trim 54 = .ok (.iconst 1, 1) := dk_4 (dk_at dksX4_trim_2 6 rfl rfl)
theorem dX4_trim_55 : decode cX4_trim 55 = .ok (.aload_n 2, 1) := dk_44 (dk_at dksX4_trim_2 7 rfl rfl)
theorem dX4_trim_56 : decode cX4_trim 56 = .ok (.aload_n 3, 1) := dk_45 (dk_at dksX4_trim_2 8 rfl rfl)
theorem dX4_trim_57 : decode cX4_trim 57 = .ok (.iconst (-1), 1) := dk_2 (dk_at dksX4_trim_2 9 rfl rfl)
theorem dX4_trim_58 : decode cX4_trim 58 = .ok (.invokevirtual 70, 3) := dk_182 0 70 (dk_at dksX4_trim_2 10 rfl rfl)
theorem dX4_trim_61 : decode cX4_trim 61 = .ok (.istore 4, 2) := dk_54 4 (dk_at dksX4_trim_2 13 rfl rfl)
theorem dX4_trim_63 : decode cX4_trim 63 = .ok (.iconst 0, 1) := dk_3 (dk_at dksX4_trim_2 15 rfl rfl)
theorem dX4_trim_64 : decode cX4_trim 64 = .ok (.istore 5, 2) := dk_54 5 (dk_at dksX4_trim_2 16 rfl rfl)
theorem dX4_trim_66 : decode cX4_trim 66 = .ok (.iconst 0, 1) := dk_3 (dk_at dksX4_trim_2 18 rfl rfl)
theorem dX4_trim_67 : decode cX4_trim 67 = .ok (.istore 6, 2) := dk_54 6 (dk_at dksX4_trim_2 19 rfl rfl)
theorem dX4_trim_69 : decode cX4_trim 69 = .ok (.iload 6, 2) := dk_21 6 (dk_at dksX4_trim_2 21 rfl rfl)
theorem dX4_trim_71 : decode cX4_trim 71 = .ok (.iconst 3, 1) := dk_6 (dk_at dksX4_trim_2 23 rfl rfl)
theorem dX4_trim_72 : decode cX4_trim 72 = .ok (.if_icmp .ge 36, 3) := dk_162 0 36 (dk_at dksX4_trim_3 0 rfl rfl)
theorem dX4_trim_75 : decode cX4_trim 75 = .ok (.iload 6, 2) := dk_21 6 (dk_at dksX4_trim_3 3 rfl rfl)
theorem dX4_trim_77 : decode cX4_trim 77 = .ok (.iload 4, 2) := dk_21 4 (dk_at dksX4_trim_3 5 rfl rfl)
theorem dX4_trim_79 : decode cX4_trim 79 = .ok (.if_icmp .eq 23, 3) := dk_159 0 23 (dk_at dksX4_trim_3 7 rfl rfl)
theorem dX4_trim_82 : decode cX4_trim 82 = .ok (.iload 5, 2) := dk_21 5 (dk_at dksX4_trim_3 10 rfl rfl)
theorem dX4_trim_84 : decode cX4_trim 84 = .ok (.aload_n 0, 1) := dk_42 (dk_at dksX4_trim_3 12 rfl rfl)
theorem dX4_trim_85 : decode cX4_trim 85 = .ok (.iconst 1, 1) := dk_4 (dk_at dksX4_trim_3 13 rfl rfl)
theorem dX4_trim_86 : decode cX4_trim 86 = .ok (.aload_n 2, 1) := dk_44 (dk_at dksX4_trim_3 14 rfl rfl)
theorem dX4_trim_87 : decode cX4_trim 87 = .ok (.iload 6, 2) := dk_21 6 (dk_at dksX4_trim_3 15 rfl rfl)
theorem dX4_trim_89 : decode cX4_trim 89 = .ok (.iaload, 1) := dk_46 (dk_at dksX4_trim_3 17 rfl rfl)
theorem dX4_trim_90 : decode cX4_trim 90 = .ok (.aload_n 3, 1) := dk_45 (dk_at dksX4_trim_3 18 rfl rfl)
theorem dX4_trim_91 : decode cX4_trim 91 = .ok (.iload 6, 2) := dk_21 6 (dk_at dksX4_trim_3 19 rfl rfl)
theorem dX4_trim_93 : decode cX4_trim 93 = .ok (.iaload, 1) := dk_46 (dk_at dksX4_trim_3 21 rfl rfl)
theorem dX4_trim_94 : decode cX4_trim 94 = .ok (.invokevirtual 58, 3) := dk_182 0 58 (dk_at dksX4_trim_4 0 rfl rfl)
theorem dX4_trim_97 : decode cX4_trim 97 = .ok (.invokestatic 50, 3) := dk_184 0 50 (dk_at dksX4_trim_4 3 rfl rfl)
theorem dX4_trim_100 : decode cX4_trim 100 = .ok (.istore 5, 2) := dk_54 5 (dk_at dksX4_trim_4 6 rfl rfl)
theorem dX4_trim_102 : decode cX4_trim 102 = .ok (.iinc 6 1, 3) := dk_132 6 1 (dk_at dksX4_trim_4 8 rfl rfl)
theorem dX4_trim_105 : decode cX4_trim 105 = .ok (.goto (-36), 3) := dk_167 255 220 (dk_at dksX4_trim_4 11 rfl rfl)
theorem dX4_trim_108 : decode cX4_trim 108 = .ok (.aload_n 3, 1) := dk_45 (dk_at dksX4_trim_4 14 rfl rfl)
theorem dX4_trim_109 : decode cX4_trim 109 = .ok (.iload 4, 2) := dk_21 4 (dk_at dksX4_trim_4 15 rfl rfl)
theorem dX4_trim_111 : decode cX4_trim 111 = .ok (.iaload, 1) := dk_46 (dk_at dksX4_trim_4 17 rfl rfl)
theorem dX4_trim_112 : decode cX4_trim 112 = .ok (.aload_n 2, 1) := dk_44 (dk_at dksX4_trim_4 18 rfl rfl)
theorem dX4_trim_113 : decode cX4_trim 113 = .ok (.iload 4, 2) := dk_21 4 (dk_at dksX4_trim_4 19 rfl rfl)
theorem dX4_trim_115 : decode cX4_trim 115 = .ok (.iaload, 1) := dk_46 (dk_at dksX4_trim_4 21 rfl rfl)
theorem dX4_trim_116 : decode cX4_trim 116 = .ok (.if_icmp .le 34, 3) := dk_164 0 34 (dk_at dksX4_trim_5 0 rfl rfl)
theorem dX4_trim_119 : decode cX4_trim 119 = .ok (.aload_n 0, 1) := dk_42 (dk_at dksX4_trim_5 3 rfl rfl)
theorem dX4_trim_120 : decode cX4_trim 120 = .ok (.iconst 1, 1) := dk_4 (dk_at dksX4_trim_5 4 rfl rfl)
theorem dX4_trim_121 : decode cX4_trim 121 = .ok (.aload_n 2, 1) := dk_44 (dk_at dksX4_trim_5 5 rfl rfl)
theorem dX4_trim_122 : decode cX4_trim 122 = .ok (.iload 4, 2) := dk_21 4 (dk_at dksX4_trim_5 6 rfl rfl)
theorem dX4_trim_124 : decode cX4_trim 124 = .ok (.iaload, 1) := dk_46 (dk_at dksX4_trim_5 8 rfl rfl)
theorem dX4_trim_125 : decode cX4_trim 125 = .ok (.aload_n 3, 1) := dk_45 (dk_at dksX4_trim_5 9 rfl rfl)
theorem dX4_trim_126 : decode cX4_trim 126 = .ok (.iload 4, 2) := dk_21 4 (dk_at dksX4_trim_5 10 rfl rfl)
theorem dX4_trim_128 : decode cX4_trim 128 = .ok (.iaload, 1) := dk_46 (dk_at dksX4_trim_5 12 rfl rfl)
theorem dX4_trim_129 : decode cX4_trim 129 = .ok (.iconst 1, 1) := dk_4 (dk_at dksX4_trim_5 13 rfl rfl)
theorem dX4_trim_130 : decode cX4_trim 130 = .ok (.isub, 1) := dk_100 (dk_at dksX4_trim_5 14 rfl rfl)
theorem dX4_trim_131 : decode cX4_trim 131 = .ok (.invokevirtual 58, 3) := dk_182 0 58 (dk_at dksX4_trim_5 15 rfl rfl)
theorem dX4_trim_134 : decode cX4_trim 134 = .ok (.iload 5, 2) := dk_21 5 (dk_at dksX4_trim_5 18 rfl rfl)
theorem dX4_trim_136 : decode cX4_trim 136 = .ok (.if_icmp .lt 14, 3) := dk_161 0 14 (dk_at dksX4_trim_5 20 rfl rfl)
theorem dX4_trim_139 : decode cX4_trim 139 = .ok (.aload_n 3, 1) := dk_45 (dk_at dksX4_trim_5 23 rfl rfl)
theorem dX4_trim_140 : decode cX4_trim 140 = .ok (.iload 4, 2) := dk_21 4 (dk_at dksX4_trim_6 0 rfl rfl)
theorem dX4_trim_142 : decode cX4_trim 142 = .ok (.dup2, 1) := dk_92 (dk_at dksX4_trim_6 2 rfl rfl)
theorem dX4_trim_143 : decode cX4_trim 143 = .ok (.iaload, 1) := dk_46 (dk_at dksX4_trim_6 3 rfl rfl)
theorem dX4_trim_144 : decode cX4_trim 144 = .ok (.iconst 1, 1) := dk_4 (dk_at dksX4_trim_6 4 rfl rfl)
theorem dX4_trim_145 : decode cX4_trim 145 = .ok (.isub, 1) := dk_100 (dk_at dksX4_trim_6 5 rfl rfl)
theorem dX4_trim_146 : decode cX4_trim 146 = .ok (.iastore, 1) := dk_79 (dk_at dksX4_trim_6 6 rfl rfl)
theorem dX4_trim_147 : decode cX4_trim 147 = .ok (.goto (-39), 3) := dk_167 255 217 (dk_at dksX4_trim_6 7 rfl rfl)
theorem dX4_trim_150 : decode cX4_trim 150 = .ok (.aload_n 0, 1) := dk_42 (dk_at dksX4_trim_6 10 rfl rfl)
theorem dX4_trim_151 : decode cX4_trim 151 = .ok (.iconst 2, 1) := dk_5 (dk_at dksX4_trim_6 11 rfl rfl)
theorem dX4_trim_152 : decode cX4_trim 152 = .ok (.aload_n 2, 1) := dk_44 (dk_at dksX4_trim_6 12 rfl rfl)
theorem dX4_trim_153 : decode cX4_trim 153 = .ok (.aload_n 3, 1) := dk_45 (dk_at dksX4_trim_6 13 rfl rfl)
theorem dX4_trim_154 : decode cX4_trim 154 = .ok (.iconst (-1), 1) := dk_2 (dk_at dksX4_trim_6 14 rfl rfl)
theorem dX4_trim_155 : decode cX4_trim 155 = .ok (.invokevirtual 70, 3) := dk_182 0 70 (dk_at dksX4_trim_6 15 rfl rfl)
theorem dX4_trim_158 : decode cX4_trim 158 = .ok (.istore 6, 2) := dk_54 6 (dk_at dksX4_trim_6 18 rfl rfl)
theorem dX4_trim_160 : decode cX4_trim 160 = .ok (.iload 6, 2) := dk_21 6 (dk_at dksX4_trim_6 20 rfl rfl)
theorem dX4_trim_162 : decode cX4_trim 162 = .ok (.iload 4, 2) := dk_21 4 (dk_at dksX4_trim_6 22 rfl rfl)
theorem dX4_trim_164 : decode cX4_trim 164 = .ok (.if_icmp .ne 15, 3) := dk_160 0 15 (dk_at dksX4_trim_7 0 rfl rfl)
theorem dX4_trim_167 : decode cX4_trim 167 = .ok (.aload_n 0, 1) := dk_42 (dk_at dksX4_trim_7 3 rfl rfl)
theorem dX4_trim_168 : decode cX4_trim 168 = .ok (.iconst 1, 1) := dk_4 (dk_at dksX4_trim_7 4 rfl rfl)
theorem dX4_trim_169 : decode cX4_trim 169 = .ok (.aload_n 2, 1) := dk_44 (dk_at dksX4_trim_7 5 rfl rfl)
theorem dX4_trim_170 : decode cX4_trim 170 = .ok (.aload_n 3, 1) := dk_45 (dk_at dksX4_trim_7 6 rfl rfl)
theorem dX4_trim_171 : decode cX4_trim 171 = .ok (.iload 6, 2) := dk_21 6 (dk_at dksX4_trim_7 7 rfl rfl)
theorem dX4_trim_173 : decode cX4_trim 173 = .ok (.invokevirtual 70, 3) := dk_182 0 70 (dk_at dksX4_trim_7 9 rfl rfl)
theorem dX4_trim_176 : decode cX4_trim 176 = .ok (.goto 5, 3) := dk_167 0 5 (dk_at dksX4_trim_7 12 rfl rfl)
theorem dX4_trim_179 : decode cX4_trim 179 = .ok (.iload 4, 2) := dk_21 4 (dk_at dksX4_trim_7 15 rfl rfl)
theorem dX4_trim_181 : decode cX4_trim 181 = .ok (.istore 7, 2) := dk_54 7 (dk_at dksX4_trim_7 17 rfl rfl)
theorem dX4_trim_183 : decode cX4_trim 183 = .ok (.aload_n 1, 1) := dk_43 (dk_at dksX4_trim_7 19 rfl rfl)
theorem dX4_trim_184 : decode cX4_trim 184 = .ok (.aload_n 2, 1) := dk_44 (dk_at dksX4_trim_7 20 rfl rfl)
theorem dX4_trim_185 : decode cX4_trim 185 = .ok (.iload 6, 2) := dk_21 6 (dk_at dksX4_trim_7 21 rfl rfl)
theorem dX4_trim_187 : decode cX4_trim 187 = .ok (.iaload, 1) := dk_46 (dk_at dksX4_trim_7 23 rfl rfl)
theorem dX4_trim_188 : decode cX4_trim 188 = .ok (.aload_n 3, 1) := dk_45 (dk_at dksX4_trim_8 0 rfl rfl)
theorem dX4_trim_189 : decode cX4_trim 189 = .ok (.iload 6, 2) := dk_21 6 (dk_at dksX4_trim_8 1 rfl rfl)
theorem dX4_trim_191 : decode cX4_trim 191 = .ok (.iaload, 1) := dk_46 (dk_at dksX4_trim_8 3 rfl rfl)
theorem dX4_trim_192 : decode cX4_trim 192 = .ok (.iconst 2, 1) := dk_5 (dk_at dksX4_trim_8 4 rfl rfl)
theorem dX4_trim_193 : decode cX4_trim 193 = .ok (.invokestatic 66, 3) := dk_184 0 66 (dk_at dksX4_trim_8 5 rfl rfl)
theorem dX4_trim_196 : decode cX4_trim 196 = .ok (.aload_n 1, 1) := dk_43 (dk_at dksX4_trim_8 8 rfl rfl)
theorem dX4_trim_197 : decode cX4_trim 197 = .ok (.aload_n 2, 1) := dk_44 (dk_at dksX4_trim_8 9 rfl rfl)
theorem dX4_trim_198 : decode cX4_trim 198 = .ok (.iload 7, 2) := dk_21 7 (dk_at dksX4_trim_8 10 rfl rfl)
theorem dX4_trim_200 : decode cX4_trim 200 = .ok (.iaload, 1) := dk_46 (dk_at dksX4_trim_8 12 rfl rfl)
theorem dX4_trim_201 : decode cX4_trim 201 = .ok (.aload_n 3, 1) := dk_45 (dk_at dksX4_trim_8 13 rfl rfl)
theorem dX4_trim_202 : decode cX4_trim 202 = .ok (.iload 7, 2) := dk_21 7 (dk_at dksX4_trim_8 14 rfl rfl)
theorem dX4_trim_204 : decode cX4_trim 204 = .ok (.iaload, 1) := dk_46 (dk_at dksX4_trim_8 16 rfl rfl)
theorem dX4_trim_205 : decode cX4_trim 205 = .ok (.iconst 1, 1) := dk_4 (dk_at dksX4_trim_8 17 rfl rfl)
theorem dX4_trim_206 : decode cX4_trim 206 = .ok (.invokestatic 66, 3) := dk_184 0 66 (dk_at dksX4_trim_8 18 rfl rfl)
theorem dX4_trim_209 : decode cX4_trim 209 = .ok (.iconst 3, 1) := dk_6 (dk_at dksX4_trim_8 21 rfl rfl)
theorem dX4_trim_210 : decode cX4_trim 210 = .ok (.iload 6, 2) := dk_21 6 (dk_at dksX4_trim_8 22 rfl rfl)
theorem dX4_trim_212 : decode cX4_trim 212 = .ok (.isub, 1) := dk_100 (dk_at dksX4_trim_9 0 rfl rfl)
theorem dX4_trim_213 : decode cX4_trim 213 = .ok (.iload 7, 2) := dk_21 7 (dk_at dksX4_trim_9 1 rfl rfl)
theorem dX4_trim_215 : decode cX4_trim 215 = .ok (.isub, 1) := dk_100 (dk_at dksX4_trim_9 3 rfl rfl)
theorem dX4_trim_216 : decode cX4_trim 216 = .ok (.istore 8, 2) := dk_54 8 (dk_at dksX4_trim_9 4 rfl rfl)
theorem dX4_trim_218 : decode cX4_trim 218 = .ok (.aload_n 1, 1) := dk_43 (dk_at dksX4_trim_9 6 rfl rfl)
theorem dX4_trim_219 : decode cX4_trim 219 = .ok (.aload_n 2, 1) := dk_44 (dk_at dksX4_trim_9 7 rfl rfl)
theorem dX4_trim_220 : decode cX4_trim 220 = .ok (.iload 8, 2) := dk_21 8 (dk_at dksX4_trim_9 8 rfl rfl)
theorem dX4_trim_222 : decode cX4_trim 222 = .ok (.iaload, 1) := dk_46 (dk_at dksX4_trim_9 10 rfl rfl)
theorem dX4_trim_223 : decode cX4_trim 223 = .ok (.aload_n 3, 1) := dk_45 (dk_at dksX4_trim_9 11 rfl rfl)
theorem dX4_trim_224 : decode cX4_trim 224 = .ok (.iload 8, 2) := dk_21 8 (dk_at dksX4_trim_9 12 rfl rfl)
theorem dX4_trim_226 : decode cX4_trim 226 = .ok (.iaload, 1) := dk_46 (dk_at dksX4_trim_9 14 rfl rfl)
theorem dX4_trim_227 : decode cX4_trim 227 = .ok (.iconst 0, 1) := dk_3 (dk_at dksX4_trim_9 15 rfl rfl)
theorem dX4_trim_228 : decode cX4_trim 228 = .ok (.invokestatic 66, 3) := dk_184 0 66 (dk_at dksX4_trim_9 16 rfl rfl)
theorem dX4_trim_231 : decode cX4_trim 231 = .ok (.return_, 1) := dk_177 (dk_at dksX4_trim_9 19 rfl rfl)
abbrev cX4_best : ByteArray := prog_12_method_19_code
def yX4_best : MethodName := ⟨RX4, "best", "(I[I[II)I"⟩
def dkwX4_best_2 : List UInt8 := [21, 5, 46, 182, 0, 58, 164, 0, 7, 21, 6, 54, 5, 132, 6, 1, 167, 255, 201, 21, 5, 172]
abbrev dktX4_best_2 : List UInt8 := dkwX4_best_2 ++ []
def dkwX4_best_1 : List UInt8 := [159, 0, 32, 42, 27, 44, 21, 6, 46, 45, 21, 6, 46, 182, 0, 58, 42, 27, 44, 21, 5, 46, 45]
abbrev dktX4_best_1 : List UInt8 := dkwX4_best_1 ++ dktX4_best_2
def dkwX4_best_0 : List UInt8 := [2, 54, 5, 3, 54, 6, 21, 6, 6, 162, 0, 55, 21, 6, 21, 4, 159, 0, 42, 21, 5, 2]
abbrev dktX4_best_0 : List UInt8 := dkwX4_best_0 ++ dktX4_best_1
theorem dksX4_best_0 : cX4_best.data.toList.drop 0 = dktX4_best_0 := by decide +kernel
theorem dksX4_best_1 : cX4_best.data.toList.drop 22 = dktX4_best_1 := dk_seg dksX4_best_0 22 rfl rfl
theorem dksX4_best_2 : cX4_best.data.toList.drop 45 = dktX4_best_2 := dk_seg dksX4_best_1 23 rfl rfl
theorem dX4_best_0 : decode cX4_best 0 = .ok (.iconst (-1), 1) := dk_2 (dk_at dksX4_best_0 0 rfl rfl)
theorem dX4_best_1 : decode cX4_best 1 = .ok (.istore 5, 2) := dk_54 5 (dk_at dksX4_best_0 1 rfl rfl)
theorem dX4_best_3 : decode cX4_best 3 = .ok (.iconst 0, 1) := dk_3 (dk_at dksX4_best_0 3 rfl rfl)
theorem dX4_best_4 : decode cX4_best 4 = .ok (.istore 6, 2) := dk_54 6 (dk_at dksX4_best_0 4 rfl rfl)
theorem dX4_best_6 : decode cX4_best 6 = .ok (.iload 6, 2) := dk_21 6 (dk_at dksX4_best_0 6 rfl rfl)
theorem dX4_best_8 : decode cX4_best 8 = .ok (.iconst 3, 1) := dk_6 (dk_at dksX4_best_0 8 rfl rfl)
theorem dX4_best_9 : decode cX4_best 9 = .ok (.if_icmp .ge 55, 3) := dk_162 0 55 (dk_at dksX4_best_0 9 rfl rfl)
theorem dX4_best_12 : decode cX4_best 12 = .ok (.iload 6, 2) := dk_21 6 (dk_at dksX4_best_0 12 rfl rfl)
theorem dX4_best_14 : decode cX4_best 14 = .ok (.iload 4, 2) := dk_21 4 (dk_at dksX4_best_0 14 rfl rfl)
theorem dX4_best_16 : decode cX4_best 16 = .ok (.if_icmp .eq 42, 3) := dk_159 0 42 (dk_at dksX4_best_0 16 rfl rfl)
theorem dX4_best_19 : decode cX4_best 19 = .ok (.iload 5, 2) := dk_21 5 (dk_at dksX4_best_0 19 rfl rfl)
theorem dX4_best_21 : decode cX4_best 21 = .ok (.iconst (-1), 1) := dk_2 (dk_at dksX4_best_0 21 rfl rfl)
theorem dX4_best_22 : decode cX4_best 22 = .ok (.if_icmp .eq 32, 3) := dk_159 0 32 (dk_at dksX4_best_1 0 rfl rfl)
theorem dX4_best_25 : decode cX4_best 25 = .ok (.aload_n 0, 1) := dk_42 (dk_at dksX4_best_1 3 rfl rfl)
theorem dX4_best_26 : decode cX4_best 26 = .ok (.iload_n 1, 1) := dk_27 (dk_at dksX4_best_1 4 rfl rfl)
theorem dX4_best_27 : decode cX4_best 27 = .ok (.aload_n 2, 1) := dk_44 (dk_at dksX4_best_1 5 rfl rfl)
theorem dX4_best_28 : decode cX4_best 28 = .ok (.iload 6, 2) := dk_21 6 (dk_at dksX4_best_1 6 rfl rfl)
theorem dX4_best_30 : decode cX4_best 30 = .ok (.iaload, 1) := dk_46 (dk_at dksX4_best_1 8 rfl rfl)
theorem dX4_best_31 : decode cX4_best 31 = .ok (.aload_n 3, 1) := dk_45 (dk_at dksX4_best_1 9 rfl rfl)
theorem dX4_best_32 : decode cX4_best 32 = .ok (.iload 6, 2) := dk_21 6 (dk_at dksX4_best_1 10 rfl rfl)
theorem dX4_best_34 : decode cX4_best 34 = .ok (.iaload, 1) := dk_46 (dk_at dksX4_best_1 12 rfl rfl)
theorem dX4_best_35 : decode cX4_best 35 = .ok (.invokevirtual 58, 3) := dk_182 0 58 (dk_at dksX4_best_1 13 rfl rfl)
theorem dX4_best_38 : decode cX4_best 38 = .ok (.aload_n 0, 1) := dk_42 (dk_at dksX4_best_1 16 rfl rfl)
theorem dX4_best_39 : decode cX4_best 39 = .ok (.iload_n 1, 1) := dk_27 (dk_at dksX4_best_1 17 rfl rfl)
theorem dX4_best_40 : decode cX4_best 40 = .ok (.aload_n 2, 1) := dk_44 (dk_at dksX4_best_1 18 rfl rfl)
theorem dX4_best_41 : decode cX4_best 41 = .ok (.iload 5, 2) := dk_21 5 (dk_at dksX4_best_1 19 rfl rfl)
theorem dX4_best_43 : decode cX4_best 43 = .ok (.iaload, 1) := dk_46 (dk_at dksX4_best_1 21 rfl rfl)
theorem dX4_best_44 : decode cX4_best 44 = .ok (.aload_n 3, 1) := dk_45 (dk_at dksX4_best_1 22 rfl rfl)
theorem dX4_best_45 : decode cX4_best 45 = .ok (.iload 5, 2) := dk_21 5 (dk_at dksX4_best_2 0 rfl rfl)
theorem dX4_best_47 : decode cX4_best 47 = .ok (.iaload, 1) := dk_46 (dk_at dksX4_best_2 2 rfl rfl)
theorem dX4_best_48 : decode cX4_best 48 = .ok (.invokevirtual 58, 3) := dk_182 0 58 (dk_at dksX4_best_2 3 rfl rfl)
theorem dX4_best_51 : decode cX4_best 51 = .ok (.if_icmp .le 7, 3) := dk_164 0 7 (dk_at dksX4_best_2 6 rfl rfl)
theorem dX4_best_54 : decode cX4_best 54 = .ok (.iload 6, 2) := dk_21 6 (dk_at dksX4_best_2 9 rfl rfl)
theorem dX4_best_56 : decode cX4_best 56 = .ok (.istore 5, 2) := dk_54 5 (dk_at dksX4_best_2 11 rfl rfl)
theorem dX4_best_58 : decode cX4_best 58 = .ok (.iinc 6 1, 3) := dk_132 6 1 (dk_at dksX4_best_2 13 rfl rfl)
theorem dX4_best_61 : decode cX4_best 61 = .ok (.goto (-55), 3) := dk_167 255 201 (dk_at dksX4_best_2 16 rfl rfl)
theorem dX4_best_64 : decode cX4_best 64 = .ok (.iload 5, 2) := dk_21 5 (dk_at dksX4_best_2 19 rfl rfl)
theorem dX4_best_66 : decode cX4_best 66 = .ok (.ireturn, 1) := dk_172 (dk_at dksX4_best_2 21 rfl rfl)
abbrev cX4_turns : ByteArray := prog_12_method_20_code
def yX4_turns : MethodName := ⟨RX4, "turns", "([II)I"⟩
def dkwX4_turns_4 : List UInt8 := [54, 4, 167, 255, 166, 29, 172]
abbrev dktX4_turns_4 : List UInt8 := dkwX4_turns_4 ++ []
def dkwX4_turns_3 : List UInt8 := [132, 6, 1, 167, 255, 207, 43, 21, 5, 21, 4, 79, 132, 3, 1, 21, 4, 4, 96, 42, 180, 0, 35, 112]
abbrev dktX4_turns_3 : List UInt8 := dkwX4_turns_3 ++ dktX4_turns_4
def dkwX4_turns_2 : List UInt8 := [21, 4, 21, 6, 182, 0, 42, 42, 21, 4, 21, 5, 182, 0, 42, 164, 0, 7, 21, 6, 54, 5]
abbrev dktX4_turns_2 : List UInt8 := dkwX4_turns_2 ++ dktX4_turns_3
def dkwX4_turns_1 : List UInt8 := [21, 6, 42, 180, 0, 7, 162, 0, 46, 43, 21, 6, 46, 2, 160, 0, 32, 21, 5, 2, 159, 0, 22, 42]
abbrev dktX4_turns_1 : List UInt8 := dkwX4_turns_1 ++ dktX4_turns_2
def dkwX4_turns_0 : List UInt8 := [3, 62, 28, 54, 4, 43, 42, 180, 0, 7, 2, 184, 0, 74, 158, 0, 84, 2, 54, 5, 3, 54, 6]
abbrev dktX4_turns_0 : List UInt8 := dkwX4_turns_0 ++ dktX4_turns_1
theorem dksX4_turns_0 : cX4_turns.data.toList.drop 0 = dktX4_turns_0 := by decide +kernel
theorem dksX4_turns_1 : cX4_turns.data.toList.drop 23 = dktX4_turns_1 := dk_seg dksX4_turns_0 23 rfl rfl
theorem dksX4_turns_2 : cX4_turns.data.toList.drop 47 = dktX4_turns_2 := dk_seg dksX4_turns_1 24 rfl rfl
theorem dksX4_turns_3 : cX4_turns.data.toList.drop 69 = dktX4_turns_3 := dk_seg dksX4_turns_2 22 rfl rfl
theorem dksX4_turns_4 : cX4_turns.data.toList.drop 93 = dktX4_turns_4 := dk_seg dksX4_turns_3 24 rfl rfl
theorem dX4_turns_0 : decode cX4_turns 0 = .ok (.iconst 0, 1) := dk_3 (dk_at dksX4_turns_0 0 rfl rfl)
theorem dX4_turns_1 : decode cX4_turns 1 = .ok (.istore_n 3, 1) := dk_62 (dk_at dksX4_turns_0 1 rfl rfl)
theorem dX4_turns_2 : decode cX4_turns 2 = .ok (.iload_n 2, 1) := dk_28 (dk_at dksX4_turns_0 2 rfl rfl)
theorem dX4_turns_3 : decode cX4_turns 3 = .ok (.istore 4, 2) := dk_54 4 (dk_at dksX4_turns_0 3 rfl rfl)
theorem dX4_turns_5 : decode cX4_turns 5 = .ok (.aload_n 1, 1) := dk_43 (dk_at dksX4_turns_0 5 rfl rfl)
theorem dX4_turns_6 : decode cX4_turns 6 = .ok (.aload_n 0, 1) := dk_42 (dk_at dksX4_turns_0 6 rfl rfl)
theorem dX4_turns_7 : decode cX4_turns 7 = .ok (.getfield 7, 3) := dk_180 0 7 (dk_at dksX4_turns_0 7 rfl rfl)
theorem dX4_turns_10 : decode cX4_turns 10 = .ok (.iconst (-1), 1) := dk_2 (dk_at dksX4_turns_0 10 rfl rfl)
theorem dX4_turns_11 : decode cX4_turns 11 = .ok (.invokestatic 74, 3) := dk_184 0 74 (dk_at dksX4_turns_0 11 rfl rfl)
theorem dX4_turns_14 : decode cX4_turns 14 = .ok (.ifCond .le 84, 3) := dk_158 0 84 (dk_at dksX4_turns_0 14 rfl rfl)
theorem dX4_turns_17 : decode cX4_turns 17 = .ok (.iconst (-1), 1) := dk_2 (dk_at dksX4_turns_0 17 rfl rfl)
theorem dX4_turns_18 : decode cX4_turns 18 = .ok (.istore 5, 2) := dk_54 5 (dk_at dksX4_turns_0 18 rfl rfl)
theorem dX4_turns_20 : decode cX4_turns 20 = .ok (.iconst 0, 1) := dk_3 (dk_at dksX4_turns_0 20 rfl rfl)
theorem dX4_turns_21 : decode cX4_turns 21 = .ok (.istore 6, 2) := dk_54 6 (dk_at dksX4_turns_0 21 rfl rfl)
theorem dX4_turns_23 : decode cX4_turns 23 = .ok (.iload 6, 2) := dk_21 6 (dk_at dksX4_turns_1 0 rfl rfl)
theorem dX4_turns_25 : decode cX4_turns 25 = .ok (.aload_n 0, 1) := dk_42 (dk_at dksX4_turns_1 2 rfl rfl)
theorem dX4_turns_26 : decode cX4_turns 26 = .ok (.getfield 7, 3) := dk_180 0 7 (dk_at dksX4_turns_1 3 rfl rfl)
theorem dX4_turns_29 : decode cX4_turns 29 = .ok (.if_icmp .ge 46, 3) := dk_162 0 46 (dk_at dksX4_turns_1 6 rfl rfl)
theorem dX4_turns_32 : decode cX4_turns 32 = .ok (.aload_n 1, 1) := dk_43 (dk_at dksX4_turns_1 9 rfl rfl)
theorem dX4_turns_33 : decode cX4_turns 33 = .ok (.iload 6, 2) := dk_21 6 (dk_at dksX4_turns_1 10 rfl rfl)
theorem dX4_turns_35 : decode cX4_turns 35 = .ok (.iaload, 1) := dk_46 (dk_at dksX4_turns_1 12 rfl rfl)
theorem dX4_turns_36 : decode cX4_turns 36 = .ok (.iconst (-1), 1) := dk_2 (dk_at dksX4_turns_1 13 rfl rfl)
theorem dX4_turns_37 : decode cX4_turns 37 = .ok (.if_icmp .ne 32, 3) := dk_160 0 32 (dk_at dksX4_turns_1 14 rfl rfl)
theorem dX4_turns_40 : decode cX4_turns 40 = .ok (.iload 5, 2) := dk_21 5 (dk_at dksX4_turns_1 17 rfl rfl)
theorem dX4_turns_42 : decode cX4_turns 42 = .ok (.iconst (-1), 1) := dk_2 (dk_at dksX4_turns_1 19 rfl rfl)
theorem dX4_turns_43 : decode cX4_turns 43 = .ok (.if_icmp .eq 22, 3) := dk_159 0 22 (dk_at dksX4_turns_1 20 rfl rfl)
theorem dX4_turns_46 : decode cX4_turns 46 = .ok (.aload_n 0, 1) := dk_42 (dk_at dksX4_turns_1 23 rfl rfl)
theorem dX4_turns_47 : decode cX4_turns 47 = .ok (.iload 4, 2) := dk_21 4 (dk_at dksX4_turns_2 0 rfl rfl)
theorem dX4_turns_49 : decode cX4_turns 49 = .ok (.iload 6, 2) := dk_21 6 (dk_at dksX4_turns_2 2 rfl rfl)
theorem dX4_turns_51 : decode cX4_turns 51 = .ok (.invokevirtual 42, 3) := dk_182 0 42 (dk_at dksX4_turns_2 4 rfl rfl)
theorem dX4_turns_54 : decode cX4_turns 54 = .ok (.aload_n 0, 1) := dk_42 (dk_at dksX4_turns_2 7 rfl rfl)
theorem dX4_turns_55 : decode cX4_turns 55 = .ok (.iload 4, 2) := dk_21 4 (dk_at dksX4_turns_2 8 rfl rfl)
theorem dX4_turns_57 : decode cX4_turns 57 = .ok (.iload 5, 2) := dk_21 5 (dk_at dksX4_turns_2 10 rfl rfl)
theorem dX4_turns_59 : decode cX4_turns 59 = .ok (.invokevirtual 42, 3) := dk_182 0 42 (dk_at dksX4_turns_2 12 rfl rfl)
theorem dX4_turns_62 : decode cX4_turns 62 = .ok (.if_icmp .le 7, 3) := dk_164 0 7 (dk_at dksX4_turns_2 15 rfl rfl)
theorem dX4_turns_65 : decode cX4_turns 65 = .ok (.iload 6, 2) := dk_21 6 (dk_at dksX4_turns_2 18 rfl rfl)
theorem dX4_turns_67 : decode cX4_turns 67 = .ok (.istore 5, 2) := dk_54 5 (dk_at dksX4_turns_2 20 rfl rfl)
theorem dX4_turns_69 : decode cX4_turns 69 = .ok (.iinc 6 1, 3) := dk_132 6 1 (dk_at dksX4_turns_3 0 rfl rfl)
theorem dX4_turns_72 : decode cX4_turns 72 = .ok (.goto (-49), 3) := dk_167 255 207 (dk_at dksX4_turns_3 3 rfl rfl)
theorem dX4_turns_75 : decode cX4_turns 75 = .ok (.aload_n 1, 1) := dk_43 (dk_at dksX4_turns_3 6 rfl rfl)
theorem dX4_turns_76 : decode cX4_turns 76 = .ok (.iload 5, 2) := dk_21 5 (dk_at dksX4_turns_3 7 rfl rfl)
theorem dX4_turns_78 : decode cX4_turns 78 = .ok (.iload 4, 2) := dk_21 4 (dk_at dksX4_turns_3 9 rfl rfl)
theorem dX4_turns_80 : decode cX4_turns 80 = .ok (.iastore, 1) := dk_79 (dk_at dksX4_turns_3 11 rfl rfl)
theorem dX4_turns_81 : decode cX4_turns 81 = .ok (.iinc 3 1, 3) := dk_132 3 1 (dk_at dksX4_turns_3 12 rfl rfl)
theorem dX4_turns_84 : decode cX4_turns 84 = .ok (.iload 4, 2) := dk_21 4 (dk_at dksX4_turns_3 15 rfl rfl)
theorem dX4_turns_86 : decode cX4_turns 86 = .ok (.iconst 1, 1) := dk_4 (dk_at dksX4_turns_3 17 rfl rfl)
theorem dX4_turns_87 : decode cX4_turns 87 = .ok (.iadd, 1) := dk_96 (dk_at dksX4_turns_3 18 rfl rfl)
theorem dX4_turns_88 : decode cX4_turns 88 = .ok (.aload_n 0, 1) := dk_42 (dk_at dksX4_turns_3 19 rfl rfl)
theorem dX4_turns_89 : decode cX4_turns 89 = .ok (.getfield 35, 3) := dk_180 0 35 (dk_at dksX4_turns_3 20 rfl rfl)
theorem dX4_turns_92 : decode cX4_turns 92 = .ok (.irem, 1) := dk_112 (dk_at dksX4_turns_3 23 rfl rfl)
theorem dX4_turns_93 : decode cX4_turns 93 = .ok (.istore 4, 2) := dk_54 4 (dk_at dksX4_turns_4 0 rfl rfl)
theorem dX4_turns_95 : decode cX4_turns 95 = .ok (.goto (-90), 3) := dk_167 255 166 (dk_at dksX4_turns_4 2 rfl rfl)
theorem dX4_turns_98 : decode cX4_turns 98 = .ok (.iload_n 3, 1) := dk_29 (dk_at dksX4_turns_4 5 rfl rfl)
theorem dX4_turns_99 : decode cX4_turns 99 = .ok (.ireturn, 1) := dk_172 (dk_at dksX4_turns_4 6 rfl rfl)
abbrev cX4_many : ByteArray := prog_12_method_14_code
def yX4_many : MethodName := ⟨RX4, "many", "([III)I"⟩
def dkwX4_many_1 : List UInt8 := [3, 96, 62, 132, 4, 1, 167, 255, 231, 29, 172]
abbrev dktX4_many_1 : List UInt8 := dkwX4_many_1 ++ []
def dkwX4_many_0 : List UInt8 := [3, 62, 3, 54, 4, 21, 4, 27, 162, 0, 25, 29, 42, 21, 4, 46, 28, 160, 0, 7, 4, 167, 0, 4]
abbrev dktX4_many_0 : List UInt8 := dkwX4_many_0 ++ dktX4_many_1
theorem dksX4_many_0 : cX4_many.data.toList.drop 0 = dktX4_many_0 := by decide +kernel
theorem dksX4_many_1 : cX4_many.data.toList.drop 24 = dktX4_many_1 := dk_seg dksX4_many_0 24 rfl rfl
theorem dX4_many_0 : decode cX4_many 0 = .ok (.iconst 0, 1) := dk_3 (dk_at dksX4_many_0 0 rfl rfl)
theorem dX4_many_1 : decode cX4_many 1 = .ok (.istore_n 3, 1) := dk_62 (dk_at dksX4_many_0 1 rfl rfl)
theorem dX4_many_2 : decode cX4_many 2 = .ok (.iconst 0, 1) := dk_3 (dk_at dksX4_many_0 2 rfl rfl)
theorem dX4_many_3 : decode cX4_many 3 = .ok (.istore 4, 2) := dk_54 4 (dk_at dksX4_many_0 3 rfl rfl)
theorem dX4_many_5 : decode cX4_many 5 = .ok (.iload 4, 2) := dk_21 4 (dk_at dksX4_many_0 5 rfl rfl)
theorem dX4_many_7 : decode cX4_many 7 = .ok (.iload_n 1, 1) := dk_27 (dk_at dksX4_many_0 7 rfl rfl)
theorem dX4_many_8 : decode cX4_many 8 = .ok (.if_icmp .ge 25, 3) := dk_162 0 25 (dk_at dksX4_many_0 8 rfl rfl)
theorem dX4_many_11 : decode cX4_many 11 = .ok (.iload_n 3, 1) := dk_29 (dk_at dksX4_many_0 11 rfl rfl)
theorem dX4_many_12 : decode cX4_many 12 = .ok (.aload_n 0, 1) := dk_42 (dk_at dksX4_many_0 12 rfl rfl)
theorem dX4_many_13 : decode cX4_many 13 = .ok (.iload 4, 2) := dk_21 4 (dk_at dksX4_many_0 13 rfl rfl)
theorem dX4_many_15 : decode cX4_many 15 = .ok (.iaload, 1) := dk_46 (dk_at dksX4_many_0 15 rfl rfl)
theorem dX4_many_16 : decode cX4_many 16 = .ok (.iload_n 2, 1) := dk_28 (dk_at dksX4_many_0 16 rfl rfl)
theorem dX4_many_17 : decode cX4_many 17 = .ok (.if_icmp .ne 7, 3) := dk_160 0 7 (dk_at dksX4_many_0 17 rfl rfl)
theorem dX4_many_20 : decode cX4_many 20 = .ok (.iconst 1, 1) := dk_4 (dk_at dksX4_many_0 20 rfl rfl)
theorem dX4_many_21 : decode cX4_many 21 = .ok (.goto 4, 3) := dk_167 0 4 (dk_at dksX4_many_0 21 rfl rfl)
theorem dX4_many_24 : decode cX4_many 24 = .ok (.iconst 0, 1) := dk_3 (dk_at dksX4_many_1 0 rfl rfl)
theorem dX4_many_25 : decode cX4_many 25 = .ok (.iadd, 1) := dk_96 (dk_at dksX4_many_1 1 rfl rfl)
theorem dX4_many_26 : decode cX4_many 26 = .ok (.istore_n 3, 1) := dk_62 (dk_at dksX4_many_1 2 rfl rfl)
theorem dX4_many_27 : decode cX4_many 27 = .ok (.iinc 4 1, 3) := dk_132 4 1 (dk_at dksX4_many_1 3 rfl rfl)
theorem dX4_many_30 : decode cX4_many 30 = .ok (.goto (-25), 3) := dk_167 255 231 (dk_at dksX4_many_1 6 rfl rfl)
theorem dX4_many_33 : decode cX4_many 33 = .ok (.iload_n 3, 1) := dk_29 (dk_at dksX4_many_1 9 rfl rfl)
theorem dX4_many_34 : decode cX4_many 34 = .ok (.ireturn, 1) := dk_172 (dk_at dksX4_many_1 10 rfl rfl)
abbrev cX4_knife : ByteArray := prog_12_method_21_code
def yX4_knife : MethodName := ⟨RX4, "knife", "([I)V"⟩
def dkwX4_knife_4 : List UInt8 := [184, 0, 66, 44, 21, 5, 4, 84, 21, 6, 62, 132, 4, 255, 167, 255, 161, 177]
abbrev dktX4_knife_4 : List UInt8 := dkwX4_knife_4 ++ []
def dkwX4_knife_3 : List UInt8 := [167, 0, 11, 21, 7, 54, 5, 21, 8, 54, 6, 132, 7, 1, 167, 255, 198, 43, 29, 21, 6, 21, 5]
abbrev dktX4_knife_3 : List UInt8 := dkwX4_knife_3 ++ dktX4_knife_4
def dkwX4_knife_2 : List UInt8 := [29, 21, 4, 3, 182, 0, 62, 54, 8, 21, 5, 2, 159, 0, 13, 21, 8, 21, 6, 161, 0, 6]
abbrev dktX4_knife_2 : List UInt8 := dkwX4_knife_2 ++ dktX4_knife_3
def dkwX4_knife_1 : List UInt8 := [54, 7, 21, 7, 42, 180, 0, 35, 162, 0, 55, 44, 21, 7, 51, 153, 0, 6, 167, 0, 39, 42, 21, 7]
abbrev dktX4_knife_1 : List UInt8 := dkwX4_knife_1 ++ dktX4_knife_2
def dkwX4_knife_0 : List UInt8 := [8, 188, 4, 77, 3, 62, 42, 180, 0, 35, 54, 4, 21, 4, 158, 0, 96, 2, 54, 5, 3, 54, 6, 3]
abbrev dktX4_knife_0 : List UInt8 := dkwX4_knife_0 ++ dktX4_knife_1
theorem dksX4_knife_0 : cX4_knife.data.toList.drop 0 = dktX4_knife_0 := by decide +kernel
theorem dksX4_knife_1 : cX4_knife.data.toList.drop 24 = dktX4_knife_1 := dk_seg dksX4_knife_0 24 rfl rfl
theorem dksX4_knife_2 : cX4_knife.data.toList.drop 48 = dktX4_knife_2 := dk_seg dksX4_knife_1 24 rfl rfl
theorem dksX4_knife_3 : cX4_knife.data.toList.drop 70 = dktX4_knife_3 := dk_seg dksX4_knife_2 22 rfl rfl
theorem dksX4_knife_4 : cX4_knife.data.toList.drop 93 = dktX4_knife_4 := dk_seg dksX4_knife_3 23 rfl rfl
theorem dX4_knife_0 : decode cX4_knife 0 = .ok (.iconst 5, 1) := dk_8 (dk_at dksX4_knife_0 0 rfl rfl)
theorem dX4_knife_1 : decode cX4_knife 1 = .ok (.newarray .boolean, 2) := dk_188_4 (dk_at dksX4_knife_0 1 rfl rfl)
theorem dX4_knife_3 : decode cX4_knife 3 = .ok (.astore_n 2, 1) := dk_77 (dk_at dksX4_knife_0 3 rfl rfl)
theorem dX4_knife_4 : decode cX4_knife 4 = .ok (.iconst 0, 1) := dk_3 (dk_at dksX4_knife_0 4 rfl rfl)
theorem dX4_knife_5 : decode cX4_knife 5 = .ok (.istore_n 3, 1) := dk_62 (dk_at dksX4_knife_0 5 rfl rfl)
theorem dX4_knife_6 : decode cX4_knife 6 = .ok (.aload_n 0, 1) := dk_42 (dk_at dksX4_knife_0 6 rfl rfl)
theorem dX4_knife_7 : decode cX4_knife 7 = .ok (.getfield 35, 3) := dk_180 0 35 (dk_at dksX4_knife_0 7 rfl rfl)
theorem dX4_knife_10 : decode cX4_knife 10 = .ok (.istore 4, 2) := dk_54 4 (dk_at dksX4_knife_0 10 rfl rfl)
theorem dX4_knife_12 : decode cX4_knife 12 = .ok (.iload 4, 2) := dk_21 4 (dk_at dksX4_knife_0 12 rfl rfl)
theorem dX4_knife_14 : decode cX4_knife 14 = .ok (.ifCond .le 96, 3) := dk_158 0 96 (dk_at dksX4_knife_0 14 rfl rfl)
theorem dX4_knife_17 : decode cX4_knife 17 = .ok (.iconst (-1), 1) := dk_2 (dk_at dksX4_knife_0 17 rfl rfl)
theorem dX4_knife_18 : decode cX4_knife 18 = .ok (.istore 5, 2) := dk_54 5 (dk_at dksX4_knife_0 18 rfl rfl)
theorem dX4_knife_20 : decode cX4_knife 20 = .ok (.iconst 0, 1) := dk_3 (dk_at dksX4_knife_0 20 rfl rfl)
theorem dX4_knife_21 : decode cX4_knife 21 = .ok (.istore 6, 2) := dk_54 6 (dk_at dksX4_knife_0 21 rfl rfl)
theorem dX4_knife_23 : decode cX4_knife 23 = .ok (.iconst 0, 1) := dk_3 (dk_at dksX4_knife_0 23 rfl rfl)
theorem dX4_knife_24 : decode cX4_knife 24 = .ok (.istore 7, 2) := dk_54 7 (dk_at dksX4_knife_1 0 rfl rfl)
theorem dX4_knife_26 : decode cX4_knife 26 = .ok (.iload 7, 2) := dk_21 7 (dk_at dksX4_knife_1 2 rfl rfl)
theorem dX4_knife_28 : decode cX4_knife 28 = .ok (.aload_n 0, 1) := dk_42 (dk_at dksX4_knife_1 4 rfl rfl)
theorem dX4_knife_29 : decode cX4_knife 29 = .ok (.getfield 35, 3) := dk_180 0 35 (dk_at dksX4_knife_1 5 rfl rfl)
theorem dX4_knife_32 : decode cX4_knife 32 = .ok (.if_icmp .ge 55, 3) := dk_162 0 55 (dk_at dksX4_knife_1 8 rfl rfl)
theorem dX4_knife_35 : decode cX4_knife 35 = .ok (.aload_n 2, 1) := dk_44 (dk_at dksX4_knife_1 11 rfl rfl)
theorem dX4_knife_36 : decode cX4_knife 36 = .ok (.iload 7, 2) := dk_21 7 (dk_at dksX4_knife_1 12 rfl rfl)
theorem dX4_knife_38 : decode cX4_knife 38 = .ok (.baload, 1) := dk_51 (dk_at dksX4_knife_1 14 rfl rfl)
theorem dX4_knife_39 : decode cX4_knife 39 = .ok (.ifCond .eq 6, 3) := dk_153 0 6 (dk_at dksX4_knife_1 15 rfl rfl)
theorem dX4_knife_42 : decode cX4_knife 42 = .ok (.goto 39, 3) := dk_167 0 39 (dk_at dksX4_knife_1 18 rfl rfl)
theorem dX4_knife_45 : decode cX4_knife 45 = .ok (.aload_n 0, 1) := dk_42 (dk_at dksX4_knife_1 21 rfl rfl)
theorem dX4_knife_46 : decode cX4_knife 46 = .ok (.iload 7, 2) := dk_21 7 (dk_at dksX4_knife_1 22 rfl rfl)
theorem dX4_knife_48 : decode cX4_knife 48 = .ok (.iload_n 3, 1) := dk_29 (dk_at dksX4_knife_2 0 rfl rfl)
theorem dX4_knife_49 : decode cX4_knife 49 = .ok (.iload 4, 2) := dk_21 4 (dk_at dksX4_knife_2 1 rfl rfl)
theorem dX4_knife_51 : decode cX4_knife 51 = .ok (.iconst 0, 1) := dk_3 (dk_at dksX4_knife_2 3 rfl rfl)
theorem dX4_knife_52 : decode cX4_knife 52 = .ok (.invokevirtual 62, 3) := dk_182 0 62 (dk_at dksX4_knife_2 4 rfl rfl)
theorem dX4_knife_55 : decode cX4_knife 55 = .ok (.istore 8, 2) := dk_54 8 (dk_at dksX4_knife_2 7 rfl rfl)
theorem dX4_knife_57 : decode cX4_knife 57 = .ok (.iload 5, 2) := dk_21 5 (dk_at dksX4_knife_2 9 rfl rfl)
theorem dX4_knife_59 : decode cX4_knife 59 = .ok (.iconst (-1), 1) := dk_2 (dk_at dksX4_knife_2 11 rfl rfl)
theorem dX4_knife_60 : decode cX4_knife 60 = .ok (.if_icmp .eq 13, 3) := dk_159 0 13 (dk_at dksX4_knife_2 12 rfl rfl)
theorem dX4_knife_63 : decode cX4_knife 63 = .ok (.iload 8, 2) := dk_21 8 (dk_at dksX4_knife_2 15 rfl rfl)
theorem dX4_knife_65 : decode cX4_knife 65 = .ok (.iload 6, 2) := dk_21 6 (dk_at dksX4_knife_2 17 rfl rfl)
theorem dX4_knife_67 : decode cX4_knife 67 = .ok (.if_icmp .lt 6, 3) := dk_161 0 6 (dk_at dksX4_knife_2 19 rfl rfl)
theorem dX4_knife_70 : decode cX4_knife 70 = .ok (.goto 11, 3) := dk_167 0 11 (dk_at dksX4_knife_3 0 rfl rfl)
theorem dX4_knife_73 : decode cX4_knife 73 = .ok (.iload 7, 2) := dk_21 7 (dk_at dksX4_knife_3 3 rfl rfl)
theorem dX4_knife_75 : decode cX4_knife 75 = .ok (.istore 5, 2) := dk_54 5 (dk_at dksX4_knife_3 5 rfl rfl)
theorem dX4_knife_77 : decode cX4_knife 77 = .ok (.iload 8, 2) := dk_21 8 (dk_at dksX4_knife_3 7 rfl rfl)
theorem dX4_knife_79 : decode cX4_knife 79 = .ok (.istore 6, 2) := dk_54 6 (dk_at dksX4_knife_3 9 rfl rfl)
theorem dX4_knife_81 : decode cX4_knife 81 = .ok (.iinc 7 1, 3) := dk_132 7 1 (dk_at dksX4_knife_3 11 rfl rfl)
theorem dX4_knife_84 : decode cX4_knife 84 = .ok (.goto (-58), 3) := dk_167 255 198 (dk_at dksX4_knife_3 14 rfl rfl)
theorem dX4_knife_87 : decode cX4_knife 87 = .ok (.aload_n 1, 1) := dk_43 (dk_at dksX4_knife_3 17 rfl rfl)
theorem dX4_knife_88 : decode cX4_knife 88 = .ok (.iload_n 3, 1) := dk_29 (dk_at dksX4_knife_3 18 rfl rfl)
theorem dX4_knife_89 : decode cX4_knife 89 = .ok (.iload 6, 2) := dk_21 6 (dk_at dksX4_knife_3 19 rfl rfl)
theorem dX4_knife_91 : decode cX4_knife 91 = .ok (.iload 5, 2) := dk_21 5 (dk_at dksX4_knife_3 21 rfl rfl)
theorem dX4_knife_93 : decode cX4_knife 93 = .ok (.invokestatic 66, 3) := dk_184 0 66 (dk_at dksX4_knife_4 0 rfl rfl)
theorem dX4_knife_96 : decode cX4_knife 96 = .ok (.aload_n 2, 1) := dk_44 (dk_at dksX4_knife_4 3 rfl rfl)
theorem dX4_knife_97 : decode cX4_knife 97 = .ok (.iload 5, 2) := dk_21 5 (dk_at dksX4_knife_4 4 rfl rfl)
theorem dX4_knife_99 : decode cX4_knife 99 = .ok (.iconst 1, 1) := dk_4 (dk_at dksX4_knife_4 6 rfl rfl)
theorem dX4_knife_100 : decode cX4_knife 100 = .ok (.bastore, 1) := dk_84 (dk_at dksX4_knife_4 7 rfl rfl)
theorem dX4_knife_101 : decode cX4_knife 101 = .ok (.iload 6, 2) := dk_21 6 (dk_at dksX4_knife_4 8 rfl rfl)
theorem dX4_knife_103 : decode cX4_knife 103 = .ok (.istore_n 3, 1) := dk_62 (dk_at dksX4_knife_4 10 rfl rfl)
theorem dX4_knife_104 : decode cX4_knife 104 = .ok (.iinc 4 (-1), 3) := dk_132 4 255 (dk_at dksX4_knife_4 11 rfl rfl)
theorem dX4_knife_107 : decode cX4_knife 107 = .ok (.goto (-95), 3) := dk_167 255 161 (dk_at dksX4_knife_4 14 rfl rfl)
theorem dX4_knife_110 : decode cX4_knife 110 = .ok (.return_, 1) := dk_177 (dk_at dksX4_knife_4 17 rfl rfl)
abbrev cX4_crumbs : ByteArray := prog_12_method_29_code
def yX4_crumbs : MethodName := ⟨RX4, "crumbs", "()I"⟩
def dkwX4_crumbs_2 : List UInt8 := [182, 0, 46, 162, 0, 5, 28, 60, 132, 2, 1, 167, 255, 220, 42, 42, 180, 0, 22, 27, 182, 0, 83, 172]
abbrev dktX4_crumbs_2 : List UInt8 := dkwX4_crumbs_2 ++ []
def dkwX4_crumbs_1 : List UInt8 := [180, 0, 35, 162, 0, 34, 42, 42, 180, 0, 22, 28, 28, 182, 0, 46, 42, 42, 180, 0, 22, 27, 27]
abbrev dktX4_crumbs_1 : List UInt8 := dkwX4_crumbs_1 ++ dktX4_crumbs_2
def dkwX4_crumbs_0 : List UInt8 := [42, 3, 181, 0, 32, 42, 180, 0, 35, 154, 0, 9, 42, 4, 182, 0, 90, 172, 3, 60, 4, 61, 28, 42]
abbrev dktX4_crumbs_0 : List UInt8 := dkwX4_crumbs_0 ++ dktX4_crumbs_1
theorem dksX4_crumbs_0 : cX4_crumbs.data.toList.drop 0 = dktX4_crumbs_0 := by decide +kernel
theorem dksX4_crumbs_1 : cX4_crumbs.data.toList.drop 24 = dktX4_crumbs_1 := dk_seg dksX4_crumbs_0 24 rfl rfl
theorem dksX4_crumbs_2 : cX4_crumbs.data.toList.drop 47 = dktX4_crumbs_2 := dk_seg dksX4_crumbs_1 23 rfl rfl
theorem dX4_crumbs_0 : decode cX4_crumbs 0 = .ok (.aload_n 0, 1) := dk_42 (dk_at dksX4_crumbs_0 0 rfl rfl)
theorem dX4_crumbs_1 : decode cX4_crumbs 1 = .ok (.iconst 0, 1) := dk_3 (dk_at dksX4_crumbs_0 1 rfl rfl)
theorem dX4_crumbs_2 : decode cX4_crumbs 2 = .ok (.putfield 32, 3) := dk_181 0 32 (dk_at dksX4_crumbs_0 2 rfl rfl)
theorem dX4_crumbs_5 : decode cX4_crumbs 5 = .ok (.aload_n 0, 1) := dk_42 (dk_at dksX4_crumbs_0 5 rfl rfl)
theorem dX4_crumbs_6 : decode cX4_crumbs 6 = .ok (.getfield 35, 3) := dk_180 0 35 (dk_at dksX4_crumbs_0 6 rfl rfl)
theorem dX4_crumbs_9 : decode cX4_crumbs 9 = .ok (.ifCond .ne 9, 3) := dk_154 0 9 (dk_at dksX4_crumbs_0 9 rfl rfl)
theorem dX4_crumbs_12 : decode cX4_crumbs 12 = .ok (.aload_n 0, 1) := dk_42 (dk_at dksX4_crumbs_0 12 rfl rfl)
theorem dX4_crumbs_13 : decode cX4_crumbs 13 = .ok (.iconst 1, 1) := dk_4 (dk_at dksX4_crumbs_0 13 rfl rfl)
theorem dX4_crumbs_14 : decode cX4_crumbs 14 = .ok (.invokevirtual 90, 3) := dk_182 0 90 (dk_at dksX4_crumbs_0 14 rfl rfl)
theorem dX4_crumbs_17 : decode cX4_crumbs 17 = .ok (.ireturn, 1) := dk_172 (dk_at dksX4_crumbs_0 17 rfl rfl)
theorem dX4_crumbs_18 : decode cX4_crumbs 18 = .ok (.iconst 0, 1) := dk_3 (dk_at dksX4_crumbs_0 18 rfl rfl)
theorem dX4_crumbs_19 : decode cX4_crumbs 19 = .ok (.istore_n 1, 1) := dk_60 (dk_at dksX4_crumbs_0 19 rfl rfl)
theorem dX4_crumbs_20 : decode cX4_crumbs 20 = .ok (.iconst 1, 1) := dk_4 (dk_at dksX4_crumbs_0 20 rfl rfl)
theorem dX4_crumbs_21 : decode cX4_crumbs 21 = .ok (.istore_n 2, 1) := dk_61 (dk_at dksX4_crumbs_0 21 rfl rfl)
theorem dX4_crumbs_22 : decode cX4_crumbs 22 = .ok (.iload_n 2, 1) := dk_28 (dk_at dksX4_crumbs_0 22 rfl rfl)
theorem dX4_crumbs_23 : decode cX4_crumbs 23 = .ok (.aload_n 0, 1) := dk_42 (dk_at dksX4_crumbs_0 23 rfl rfl)
theorem dX4_crumbs_24 : decode cX4_crumbs 24 = .ok (.getfield 35, 3) := dk_180 0 35 (dk_at dksX4_crumbs_1 0 rfl rfl)
theorem dX4_crumbs_27 : decode cX4_crumbs 27 = .ok (.if_icmp .ge 34, 3) := dk_162 0 34 (dk_at dksX4_crumbs_1 3 rfl rfl)
theorem dX4_crumbs_30 : decode cX4_crumbs 30 = .ok (.aload_n 0, 1) := dk_42 (dk_at dksX4_crumbs_1 6 rfl rfl)
theorem dX4_crumbs_31 : decode cX4_crumbs 31 = .ok (.aload_n 0, 1) := dk_42 (dk_at dksX4_crumbs_1 7 rfl rfl)
theorem dX4_crumbs_32 : decode cX4_crumbs 32 = .ok (.getfield 22, 3) := dk_180 0 22 (dk_at dksX4_crumbs_1 8 rfl rfl)
theorem dX4_crumbs_35 : decode cX4_crumbs 35 = .ok (.iload_n 2, 1) := dk_28 (dk_at dksX4_crumbs_1 11 rfl rfl)
theorem dX4_crumbs_36 : decode cX4_crumbs 36 = .ok (.iload_n 2, 1) := dk_28 (dk_at dksX4_crumbs_1 12 rfl rfl)
theorem dX4_crumbs_37 : decode cX4_crumbs 37 = .ok (.invokevirtual 46, 3) := dk_182 0 46 (dk_at dksX4_crumbs_1 13 rfl rfl)
theorem dX4_crumbs_40 : decode cX4_crumbs 40 = .ok (.aload_n 0, 1) := dk_42 (dk_at dksX4_crumbs_1 16 rfl rfl)
theorem dX4_crumbs_41 : decode cX4_crumbs 41 = .ok (.aload_n 0, 1) := dk_42 (dk_at dksX4_crumbs_1 17 rfl rfl)
theorem dX4_crumbs_42 : decode cX4_crumbs 42 = .ok (.getfield 22, 3) := dk_180 0 22 (dk_at dksX4_crumbs_1 18 rfl rfl)
theorem dX4_crumbs_45 : decode cX4_crumbs 45 = .ok (.iload_n 1, 1) := dk_27 (dk_at dksX4_crumbs_1 21 rfl rfl)
theorem dX4_crumbs_46 : decode cX4_crumbs 46 = .ok (.iload_n 1, 1) := dk_27 (dk_at dksX4_crumbs_1 22 rfl rfl)
theorem dX4_crumbs_47 : decode cX4_crumbs 47 = .ok (.invokevirtual 46, 3) := dk_182 0 46 (dk_at dksX4_crumbs_2 0 rfl rfl)
theorem dX4_crumbs_50 : decode cX4_crumbs 50 = .ok (.if_icmp .ge 5, 3) := dk_162 0 5 (dk_at dksX4_crumbs_2 3 rfl rfl)
theorem dX4_crumbs_53 : decode cX4_crumbs 53 = .ok (.iload_n 2, 1) := dk_28 (dk_at dksX4_crumbs_2 6 rfl rfl)
theorem dX4_crumbs_54 : decode cX4_crumbs 54 = .ok (.istore_n 1, 1) := dk_60 (dk_at dksX4_crumbs_2 7 rfl rfl)
theorem dX4_crumbs_55 : decode cX4_crumbs 55 = .ok (.iinc 2 1, 3) := dk_132 2 1 (dk_at dksX4_crumbs_2 8 rfl rfl)
theorem dX4_crumbs_58 : decode cX4_crumbs 58 = .ok (.goto (-36), 3) := dk_167 255 220 (dk_at dksX4_crumbs_2 11 rfl rfl)
theorem dX4_crumbs_61 : decode cX4_crumbs 61 = .ok (.aload_n 0, 1) := dk_42 (dk_at dksX4_crumbs_2 14 rfl rfl)
theorem dX4_crumbs_62 : decode cX4_crumbs 62 = .ok (.aload_n 0, 1) := dk_42 (dk_at dksX4_crumbs_2 15 rfl rfl)
theorem dX4_crumbs_63 : decode cX4_crumbs 63 = .ok (.getfield 22, 3) := dk_180 0 22 (dk_at dksX4_crumbs_2 16 rfl rfl)
theorem dX4_crumbs_66 : decode cX4_crumbs 66 = .ok (.iload_n 1, 1) := dk_27 (dk_at dksX4_crumbs_2 19 rfl rfl)
theorem dX4_crumbs_67 : decode cX4_crumbs 67 = .ok (.invokevirtual 83, 3) := dk_182 0 83 (dk_at dksX4_crumbs_2 20 rfl rfl)
theorem dX4_crumbs_70 : decode cX4_crumbs 70 = .ok (.ireturn, 1) := dk_172 (dk_at dksX4_crumbs_2 23 rfl rfl)
abbrev cX4_worth : ByteArray := prog_12_method_11_code
def yX4_worth : MethodName := ⟨RX4, "worth", "([III)I"⟩
def dkwX4_worth_2 : List UInt8 := [21, 4, 172]
abbrev dktX4_worth_2 : List UInt8 := dkwX4_worth_2 ++ []
def dkwX4_worth_1 : List UInt8 := [160, 0, 13, 42, 28, 21, 5, 182, 0, 42, 167, 0, 4, 3, 96, 54, 4, 132, 5, 1, 167, 255, 220]
abbrev dktX4_worth_1 : List UInt8 := dkwX4_worth_1 ++ dktX4_worth_2
def dkwX4_worth_0 : List UInt8 := [3, 54, 4, 3, 54, 5, 21, 5, 42, 180, 0, 7, 162, 0, 33, 21, 4, 43, 21, 5, 46, 29]
abbrev dktX4_worth_0 : List UInt8 := dkwX4_worth_0 ++ dktX4_worth_1
theorem dksX4_worth_0 : cX4_worth.data.toList.drop 0 = dktX4_worth_0 := by decide +kernel
theorem dksX4_worth_1 : cX4_worth.data.toList.drop 22 = dktX4_worth_1 := dk_seg dksX4_worth_0 22 rfl rfl
theorem dksX4_worth_2 : cX4_worth.data.toList.drop 45 = dktX4_worth_2 := dk_seg dksX4_worth_1 23 rfl rfl
theorem dX4_worth_0 : decode cX4_worth 0 = .ok (.iconst 0, 1) := dk_3 (dk_at dksX4_worth_0 0 rfl rfl)
theorem dX4_worth_1 : decode cX4_worth 1 = .ok (.istore 4, 2) := dk_54 4 (dk_at dksX4_worth_0 1 rfl rfl)
theorem dX4_worth_3 : decode cX4_worth 3 = .ok (.iconst 0, 1) := dk_3 (dk_at dksX4_worth_0 3 rfl rfl)
theorem dX4_worth_4 : decode cX4_worth 4 = .ok (.istore 5, 2) := dk_54 5 (dk_at dksX4_worth_0 4 rfl rfl)
theorem dX4_worth_6 : decode cX4_worth 6 = .ok (.iload 5, 2) := dk_21 5 (dk_at dksX4_worth_0 6 rfl rfl)
theorem dX4_worth_8 : decode cX4_worth 8 = .ok (.aload_n 0, 1) := dk_42 (dk_at dksX4_worth_0 8 rfl rfl)
theorem dX4_worth_9 : decode cX4_worth 9 = .ok (.getfield 7, 3) := dk_180 0 7 (dk_at dksX4_worth_0 9 rfl rfl)
theorem dX4_worth_12 : decode cX4_worth 12 = .ok (.if_icmp .ge 33, 3) := dk_162 0 33 (dk_at dksX4_worth_0 12 rfl rfl)
theorem dX4_worth_15 : decode cX4_worth 15 = .ok (.iload 4, 2) := dk_21 4 (dk_at dksX4_worth_0 15 rfl rfl)
theorem dX4_worth_17 : decode cX4_worth 17 = .ok (.aload_n 1, 1) := dk_43 (dk_at dksX4_worth_0 17 rfl rfl)
theorem dX4_worth_18 : decode cX4_worth 18 = .ok (.iload 5, 2) := dk_21 5 (dk_at dksX4_worth_0 18 rfl rfl)
theorem dX4_worth_20 : decode cX4_worth 20 = .ok (.iaload, 1) := dk_46 (dk_at dksX4_worth_0 20 rfl rfl)
theorem dX4_worth_21 : decode cX4_worth 21 = .ok (.iload_n 3, 1) := dk_29 (dk_at dksX4_worth_0 21 rfl rfl)
theorem dX4_worth_22 : decode cX4_worth 22 = .ok (.if_icmp .ne 13, 3) := dk_160 0 13 (dk_at dksX4_worth_1 0 rfl rfl)
theorem dX4_worth_25 : decode cX4_worth 25 = .ok (.aload_n 0, 1) := dk_42 (dk_at dksX4_worth_1 3 rfl rfl)
theorem dX4_worth_26 : decode cX4_worth 26 = .ok (.iload_n 2, 1) := dk_28 (dk_at dksX4_worth_1 4 rfl rfl)
theorem dX4_worth_27 : decode cX4_worth 27 = .ok (.iload 5, 2) := dk_21 5 (dk_at dksX4_worth_1 5 rfl rfl)
theorem dX4_worth_29 : decode cX4_worth 29 = .ok (.invokevirtual 42, 3) := dk_182 0 42 (dk_at dksX4_worth_1 7 rfl rfl)
theorem dX4_worth_32 : decode cX4_worth 32 = .ok (.goto 4, 3) := dk_167 0 4 (dk_at dksX4_worth_1 10 rfl rfl)
theorem dX4_worth_35 : decode cX4_worth 35 = .ok (.iconst 0, 1) := dk_3 (dk_at dksX4_worth_1 13 rfl rfl)
theorem dX4_worth_36 : decode cX4_worth 36 = .ok (.iadd, 1) := dk_96 (dk_at dksX4_worth_1 14 rfl rfl)
theorem dX4_worth_37 : decode cX4_worth 37 = .ok (.istore 4, 2) := dk_54 4 (dk_at dksX4_worth_1 15 rfl rfl)
theorem dX4_worth_39 : decode cX4_worth 39 = .ok (.iinc 5 1, 3) := dk_132 5 1 (dk_at dksX4_worth_1 17 rfl rfl)
theorem dX4_worth_42 : decode cX4_worth 42 = .ok (.goto (-36), 3) := dk_167 255 220 (dk_at dksX4_worth_1 20 rfl rfl)
theorem dX4_worth_45 : decode cX4_worth 45 = .ok (.iload 4, 2) := dk_21 4 (dk_at dksX4_worth_2 0 rfl rfl)
theorem dX4_worth_47 : decode cX4_worth 47 = .ok (.ireturn, 1) := dk_172 (dk_at dksX4_worth_2 2 rfl rfl)
abbrev cX4_swap : ByteArray := prog_12_method_31_code
def yX4_swap : MethodName := ⟨RX4, "swap", "(II)Z"⟩
def dkwX4_swap_4 : List UInt8 := [160, 0, 7, 27, 167, 0, 10, 42, 180, 0, 22, 21, 4, 46, 79, 132, 4, 1, 167, 255, 200, 29, 172]
abbrev dktX4_swap_4 : List UInt8 := dkwX4_swap_4 ++ []
def dkwX4_swap_3 : List UInt8 := [180, 0, 22, 21, 4, 46, 27, 160, 0, 7, 28, 167, 0, 25, 42, 180, 0, 22, 21, 4, 46, 28]
abbrev dktX4_swap_3 : List UInt8 := dkwX4_swap_3 ++ dktX4_swap_4
def dkwX4_swap_2 : List UInt8 := [182, 0, 114, 62, 3, 54, 4, 21, 4, 42, 180, 0, 7, 162, 0, 53, 42, 180, 0, 22, 21, 4, 42]
abbrev dktX4_swap_2 : List UInt8 := dkwX4_swap_2 ++ dktX4_swap_3
def dkwX4_swap_1 : List UInt8 := [160, 0, 7, 5, 167, 0, 4, 3, 181, 0, 32, 42, 180, 0, 32, 153, 0, 5, 3, 172, 42, 27, 28]
abbrev dktX4_swap_1 : List UInt8 := dkwX4_swap_1 ++ dktX4_swap_2
def dkwX4_swap_0 : List UInt8 := [42, 42, 27, 182, 0, 101, 153, 0, 11, 42, 28, 182, 0, 101, 154, 0, 7, 4, 167, 0, 13, 27, 28]
abbrev dktX4_swap_0 : List UInt8 := dkwX4_swap_0 ++ dktX4_swap_1
theorem dksX4_swap_0 : cX4_swap.data.toList.drop 0 = dktX4_swap_0 := by decide +kernel
theorem dksX4_swap_1 : cX4_swap.data.toList.drop 23 = dktX4_swap_1 := dk_seg dksX4_swap_0 23 rfl rfl
theorem dksX4_swap_2 : cX4_swap.data.toList.drop 46 = dktX4_swap_2 := dk_seg dksX4_swap_1 23 rfl rfl
theorem dksX4_swap_3 : cX4_swap.data.toList.drop 69 = dktX4_swap_3 := dk_seg dksX4_swap_2 23 rfl rfl
theorem dksX4_swap_4 : cX4_swap.data.toList.drop 91 = dktX4_swap_4 := dk_seg dksX4_swap_3 22 rfl rfl
theorem dX4_swap_0 : decode cX4_swap 0 = .ok (.aload_n 0, 1) := dk_42 (dk_at dksX4_swap_0 0 rfl rfl)
theorem dX4_swap_1 : decode cX4_swap 1 = .ok (.aload_n 0, 1) := dk_42 (dk_at dksX4_swap_0 1 rfl rfl)
theorem dX4_swap_2 : decode cX4_swap 2 = .ok (.iload_n 1, 1) := dk_27 (dk_at dksX4_swap_0 2 rfl rfl)
theorem dX4_swap_3 : decode cX4_swap 3 = .ok (.invokevirtual 101, 3) := dk_182 0 101 (dk_at dksX4_swap_0 3 rfl rfl)
theorem dX4_swap_6 : decode cX4_swap 6 = .ok (.ifCond .eq 11, 3) := dk_153 0 11 (dk_at dksX4_swap_0 6 rfl rfl)
theorem dX4_swap_9 : decode cX4_swap 9 = .ok (.aload_n 0, 1) := dk_42 (dk_at dksX4_swap_0 9 rfl rfl)
theorem dX4_swap_10 : decode cX4_swap 10 = .ok (.iload_n 2, 1) := dk_28 (dk_at dksX4_swap_0 10 rfl rfl)
theorem dX4_swap_11 : decode cX4_swap 11 = .ok (.invokevirtual 101, 3) := dk_182 0 101 (dk_at dksX4_swap_0 11 rfl rfl)
theorem dX4_swap_14 : decode cX4_swap 14 = .ok (.ifCond .ne 7, 3) := dk_154 0 7 (dk_at dksX4_swap_0 14 rfl rfl)
theorem dX4_swap_17 : decode cX4_swap 17 = .ok (.iconst 1, 1) := dk_4 (dk_at dksX4_swap_0 17 rfl rfl)
theorem dX4_swap_18 : decode cX4_swap 18 = .ok (.goto 13, 3) := dk_167 0 13 (dk_at dksX4_swap_0 18 rfl rfl)
theorem dX4_swap_21 : decode cX4_swap 21 = .ok (.iload_n 1, 1) := dk_27 (dk_at dksX4_swap_0 21 rfl rfl)
theorem dX4_swap_22 : decode cX4_swap 22 = .ok (.iload_n 2, 1) := dk_28 (dk_at dksX4_swap_0 22 rfl rfl)
theorem dX4_swap_23 : decode cX4_swap 23 = .ok (.if_icmp .ne 7, 3) := dk_160 0 7 (dk_at dksX4_swap_1 0 rfl rfl)
theorem dX4_swap_26 : decode cX4_swap 26 = .ok (.iconst 2, 1) := dk_5 (dk_at dksX4_swap_1 3 rfl rfl)
theorem dX4_swap_27 : decode cX4_swap 27 = .ok (.goto 4, 3) := dk_167 0 4 (dk_at dksX4_swap_1 4 rfl rfl)
theorem dX4_swap_30 : decode cX4_swap 30 = .ok (.iconst 0, 1) := dk_3 (dk_at dksX4_swap_1 7 rfl rfl)
theorem dX4_swap_31 : decode cX4_swap 31 = .ok (.putfield 32, 3) := dk_181 0 32 (dk_at dksX4_swap_1 8 rfl rfl)
theorem dX4_swap_34 : decode cX4_swap 34 = .ok (.aload_n 0, 1) := dk_42 (dk_at dksX4_swap_1 11 rfl rfl)
theorem dX4_swap_35 : decode cX4_swap 35 = .ok (.getfield 32, 3) := dk_180 0 32 (dk_at dksX4_swap_1 12 rfl rfl)
theorem dX4_swap_38 : decode cX4_swap 38 = .ok (.ifCond .eq 5, 3) := dk_153 0 5 (dk_at dksX4_swap_1 15 rfl rfl)
theorem dX4_swap_41 : decode cX4_swap 41 = .ok (.iconst 0, 1) := dk_3 (dk_at dksX4_swap_1 18 rfl rfl)
theorem dX4_swap_42 : decode cX4_swap 42 = .ok (.ireturn, 1) := dk_172 (dk_at dksX4_swap_1 19 rfl rfl)
theorem dX4_swap_43 : decode cX4_swap 43 = .ok (.aload_n 0, 1) := dk_42 (dk_at dksX4_swap_1 20 rfl rfl)
theorem dX4_swap_44 : decode cX4_swap 44 = .ok (.iload_n 1, 1) := dk_27 (dk_at dksX4_swap_1 21 rfl rfl)
theorem dX4_swap_45 : decode cX4_swap 45 = .ok (.iload_n 2, 1) := dk_28 (dk_at dksX4_swap_1 22 rfl rfl)
theorem dX4_swap_46 : decode cX4_swap 46 = .ok (.invokevirtual 114, 3) := dk_182 0 114 (dk_at dksX4_swap_2 0 rfl rfl)
theorem dX4_swap_49 : decode cX4_swap 49 = .ok (.istore_n 3, 1) := dk_62 (dk_at dksX4_swap_2 3 rfl rfl)
theorem dX4_swap_50 : decode cX4_swap 50 = .ok (.iconst 0, 1) := dk_3 (dk_at dksX4_swap_2 4 rfl rfl)
theorem dX4_swap_51 : decode cX4_swap 51 = .ok (.istore 4, 2) := dk_54 4 (dk_at dksX4_swap_2 5 rfl rfl)
theorem dX4_swap_53 : decode cX4_swap 53 = .ok (.iload 4, 2) := dk_21 4 (dk_at dksX4_swap_2 7 rfl rfl)
theorem dX4_swap_55 : decode cX4_swap 55 = .ok (.aload_n 0, 1) := dk_42 (dk_at dksX4_swap_2 9 rfl rfl)
theorem dX4_swap_56 : decode cX4_swap 56 = .ok (.getfield 7, 3) := dk_180 0 7 (dk_at dksX4_swap_2 10 rfl rfl)
theorem dX4_swap_59 : decode cX4_swap 59 = .ok (.if_icmp .ge 53, 3) := dk_162 0 53 (dk_at dksX4_swap_2 13 rfl rfl)
theorem dX4_swap_62 : decode cX4_swap 62 = .ok (.aload_n 0, 1) := dk_42 (dk_at dksX4_swap_2 16 rfl rfl)
theorem dX4_swap_63 : decode cX4_swap 63 = .ok (.getfield 22, 3) := dk_180 0 22 (dk_at dksX4_swap_2 17 rfl rfl)
theorem dX4_swap_66 : decode cX4_swap 66 = .ok (.iload 4, 2) := dk_21 4 (dk_at dksX4_swap_2 20 rfl rfl)
theorem dX4_swap_68 : decode cX4_swap 68 = .ok (.aload_n 0, 1) := dk_42 (dk_at dksX4_swap_2 22 rfl rfl)
theorem dX4_swap_69 : decode cX4_swap 69 = .ok (.getfield 22, 3) := dk_180 0 22 (dk_at dksX4_swap_3 0 rfl rfl)
theorem dX4_swap_72 : decode cX4_swap 72 = .ok (.iload 4, 2) := dk_21 4 (dk_at dksX4_swap_3 3 rfl rfl)
theorem dX4_swap_74 : decode cX4_swap 74 = .ok (.iaload, 1) := dk_46 (dk_at dksX4_swap_3 5 rfl rfl)
theorem dX4_swap_75 : decode cX4_swap 75 = .ok (.iload_n 1, 1) := dk_27 (dk_at dksX4_swap_3 6 rfl rfl)
theorem dX4_swap_76 : decode cX4_swap 76 = .ok (.if_icmp .ne 7, 3) := dk_160 0 7 (dk_at dksX4_swap_3 7 rfl rfl)
theorem dX4_swap_79 : decode cX4_swap 79 = .ok (.iload_n 2, 1) := dk_28 (dk_at dksX4_swap_3 10 rfl rfl)
theorem dX4_swap_80 : decode cX4_swap 80 = .ok (.goto 25, 3) := dk_167 0 25 (dk_at dksX4_swap_3 11 rfl rfl)
theorem dX4_swap_83 : decode cX4_swap 83 = .ok (.aload_n 0, 1) := dk_42 (dk_at dksX4_swap_3 14 rfl rfl)
theorem dX4_swap_84 : decode cX4_swap 84 = .ok (.getfield 22, 3) := dk_180 0 22 (dk_at dksX4_swap_3 15 rfl rfl)
theorem dX4_swap_87 : decode cX4_swap 87 = .ok (.iload 4, 2) := dk_21 4 (dk_at dksX4_swap_3 18 rfl rfl)
theorem dX4_swap_89 : decode cX4_swap 89 = .ok (.iaload, 1) := dk_46 (dk_at dksX4_swap_3 20 rfl rfl)
theorem dX4_swap_90 : decode cX4_swap 90 = .ok (.iload_n 2, 1) := dk_28 (dk_at dksX4_swap_3 21 rfl rfl)
theorem dX4_swap_91 : decode cX4_swap 91 = .ok (.if_icmp .ne 7, 3) := dk_160 0 7 (dk_at dksX4_swap_4 0 rfl rfl)
theorem dX4_swap_94 : decode cX4_swap 94 = .ok (.iload_n 1, 1) := dk_27 (dk_at dksX4_swap_4 3 rfl rfl)
theorem dX4_swap_95 : decode cX4_swap 95 = .ok (.goto 10, 3) := dk_167 0 10 (dk_at dksX4_swap_4 4 rfl rfl)
theorem dX4_swap_98 : decode cX4_swap 98 = .ok (.aload_n 0, 1) := dk_42 (dk_at dksX4_swap_4 7 rfl rfl)
theorem dX4_swap_99 : decode cX4_swap 99 = .ok (.getfield 22, 3) := dk_180 0 22 (dk_at dksX4_swap_4 8 rfl rfl)
theorem dX4_swap_102 : decode cX4_swap 102 = .ok (.iload 4, 2) := dk_21 4 (dk_at dksX4_swap_4 11 rfl rfl)
theorem dX4_swap_104 : decode cX4_swap 104 = .ok (.iaload, 1) := dk_46 (dk_at dksX4_swap_4 13 rfl rfl)
theorem dX4_swap_105 : decode cX4_swap 105 = .ok (.iastore, 1) := dk_79 (dk_at dksX4_swap_4 14 rfl rfl)
theorem dX4_swap_106 : decode cX4_swap 106 = .ok (.iinc 4 1, 3) := dk_132 4 1 (dk_at dksX4_swap_4 15 rfl rfl)
theorem dX4_swap_109 : decode cX4_swap 109 = .ok (.goto (-56), 3) := dk_167 255 200 (dk_at dksX4_swap_4 18 rfl rfl)
theorem dX4_swap_112 : decode cX4_swap 112 = .ok (.iload_n 3, 1) := dk_29 (dk_at dksX4_swap_4 21 rfl rfl)
theorem dX4_swap_113 : decode cX4_swap 113 = .ok (.ireturn, 1) := dk_172 (dk_at dksX4_swap_4 22 rfl rfl)
abbrev cX4_isBetter : ByteArray := prog_12_method_30_code
def yX4_isBetter : MethodName := ⟨RX4, "isBetter", "(II)Z"⟩
def dkwX4_isBetter_2 : List UInt8 := [167, 0, 4, 3, 172]
abbrev dktX4_isBetter_2 : List UInt8 := dkwX4_isBetter_2 ++ []
def dkwX4_isBetter_1 : List UInt8 := [42, 180, 0, 22, 28, 27, 182, 0, 46, 42, 42, 180, 0, 22, 28, 28, 182, 0, 46, 164, 0, 7, 4]
abbrev dktX4_isBetter_1 : List UInt8 := dkwX4_isBetter_1 ++ dktX4_isBetter_2
def dkwX4_isBetter_0 : List UInt8 := [42, 42, 180, 0, 22, 27, 28, 182, 0, 46, 42, 42, 180, 0, 22, 27, 27, 182, 0, 46, 164, 0, 30, 42]
abbrev dktX4_isBetter_0 : List UInt8 := dkwX4_isBetter_0 ++ dktX4_isBetter_1
theorem dksX4_isBetter_0 : cX4_isBetter.data.toList.drop 0 = dktX4_isBetter_0 := by decide +kernel
theorem dksX4_isBetter_1 : cX4_isBetter.data.toList.drop 24 = dktX4_isBetter_1 := dk_seg dksX4_isBetter_0 24 rfl rfl
theorem dksX4_isBetter_2 : cX4_isBetter.data.toList.drop 47 = dktX4_isBetter_2 := dk_seg dksX4_isBetter_1 23 rfl rfl
theorem dX4_isBetter_0 : decode cX4_isBetter 0 = .ok (.aload_n 0, 1) := dk_42 (dk_at dksX4_isBetter_0 0 rfl rfl)
theorem dX4_isBetter_1 : decode cX4_isBetter 1 = .ok (.aload_n 0, 1) := dk_42 (dk_at dksX4_isBetter_0 1 rfl rfl)
theorem dX4_isBetter_2 : decode cX4_isBetter 2 = .ok (.getfield 22, 3) := dk_180 0 22 (dk_at dksX4_isBetter_0 2 rfl rfl)
theorem dX4_isBetter_5 : decode cX4_isBetter 5 = .ok (.iload_n 1, 1) := dk_27 (dk_at dksX4_isBetter_0 5 rfl rfl)
theorem dX4_isBetter_6 : decode cX4_isBetter 6 = .ok (.iload_n 2, 1) := dk_28 (dk_at dksX4_isBetter_0 6 rfl rfl)
theorem dX4_isBetter_7 : decode cX4_isBetter 7 = .ok (.invokevirtual 46, 3) := dk_182 0 46 (dk_at dksX4_isBetter_0 7 rfl rfl)
theorem dX4_isBetter_10 : decode cX4_isBetter 10 = .ok (.aload_n 0, 1) := dk_42 (dk_at dksX4_isBetter_0 10 rfl rfl)
theorem dX4_isBetter_11 : decode cX4_isBetter 11 = .ok (.aload_n 0, 1) := dk_42 (dk_at dksX4_isBetter_0 11 rfl rfl)
theorem dX4_isBetter_12 : decode cX4_isBetter 12 = .ok (.getfield 22, 3) := dk_180 0 22 (dk_at dksX4_isBetter_0 12 rfl rfl)
theorem dX4_isBetter_15 : decode cX4_isBetter 15 = .ok (.iload_n 1, 1) := dk_27 (dk_at dksX4_isBetter_0 15 rfl rfl)
theorem dX4_isBetter_16 : decode cX4_isBetter 16 = .ok (.iload_n 1, 1) := dk_27 (dk_at dksX4_isBetter_0 16 rfl rfl)
theorem dX4_isBetter_17 : decode cX4_isBetter 17 = .ok (.invokevirtual 46, 3) := dk_182 0 46 (dk_at dksX4_isBetter_0 17 rfl rfl)
theorem dX4_isBetter_20 : decode cX4_isBetter 20 = .ok (.if_icmp .le 30, 3) := dk_164 0 30 (dk_at dksX4_isBetter_0 20 rfl rfl)
theorem dX4_isBetter_23 : decode cX4_isBetter 23 = .ok (.aload_n 0, 1) := dk_42 (dk_at dksX4_isBetter_0 23 rfl rfl)
theorem dX4_isBetter_24 : decode cX4_isBetter 24 = .ok (.aload_n 0, 1) := dk_42 (dk_at dksX4_isBetter_1 0 rfl rfl)
theorem dX4_isBetter_25 : decode cX4_isBetter 25 = .ok (.getfield 22, 3) := dk_180 0 22 (dk_at dksX4_isBetter_1 1 rfl rfl)
theorem dX4_isBetter_28 : decode cX4_isBetter 28 = .ok (.iload_n 2, 1) := dk_28 (dk_at dksX4_isBetter_1 4 rfl rfl)
theorem dX4_isBetter_29 : decode cX4_isBetter 29 = .ok (.iload_n 1, 1) := dk_27 (dk_at dksX4_isBetter_1 5 rfl rfl)
theorem dX4_isBetter_30 : decode cX4_isBetter 30 = .ok (.invokevirtual 46, 3) := dk_182 0 46 (dk_at dksX4_isBetter_1 6 rfl rfl)
theorem dX4_isBetter_33 : decode cX4_isBetter 33 = .ok (.aload_n 0, 1) := dk_42 (dk_at dksX4_isBetter_1 9 rfl rfl)
theorem dX4_isBetter_34 : decode cX4_isBetter 34 = .ok (.aload_n 0, 1) := dk_42 (dk_at dksX4_isBetter_1 10 rfl rfl)
theorem dX4_isBetter_35 : decode cX4_isBetter 35 = .ok (.getfield 22, 3) := dk_180 0 22 (dk_at dksX4_isBetter_1 11 rfl rfl)
theorem dX4_isBetter_38 : decode cX4_isBetter 38 = .ok (.iload_n 2, 1) := dk_28 (dk_at dksX4_isBetter_1 14 rfl rfl)
theorem dX4_isBetter_39 : decode cX4_isBetter 39 = .ok (.iload_n 2, 1) := dk_28 (dk_at dksX4_isBetter_1 15 rfl rfl)
theorem dX4_isBetter_40 : decode cX4_isBetter 40 = .ok (.invokevirtual 46, 3) := dk_182 0 46 (dk_at dksX4_isBetter_1 16 rfl rfl)
theorem dX4_isBetter_43 : decode cX4_isBetter 43 = .ok (.if_icmp .le 7, 3) := dk_164 0 7 (dk_at dksX4_isBetter_1 19 rfl rfl)
theorem dX4_isBetter_46 : decode cX4_isBetter 46 = .ok (.iconst 1, 1) := dk_4 (dk_at dksX4_isBetter_1 22 rfl rfl)
theorem dX4_isBetter_47 : decode cX4_isBetter 47 = .ok (.goto 4, 3) := dk_167 0 4 (dk_at dksX4_isBetter_2 0 rfl rfl)
theorem dX4_isBetter_50 : decode cX4_isBetter 50 = .ok (.iconst 0, 1) := dk_3 (dk_at dksX4_isBetter_2 3 rfl rfl)
theorem dX4_isBetter_51 : decode cX4_isBetter 51 = .ok (.ireturn, 1) := dk_172 (dk_at dksX4_isBetter_2 4 rfl rfl)
abbrev cX4_told : ByteArray := prog_12_method_32_code
def yX4_told : MethodName := ⟨RX4, "told", "(II)I"⟩
def dkwX4_told_2 : List UInt8 := [182, 0, 90, 172]
abbrev dktX4_told_2 : List UInt8 := dkwX4_told_2 ++ []
def dkwX4_told_1 : List UInt8 := [154, 0, 12, 42, 180, 0, 13, 27, 46, 167, 0, 17, 42, 180, 0, 22, 27, 46, 167, 0, 8, 42, 4]
abbrev dktX4_told_1 : List UInt8 := dkwX4_told_1 ++ dktX4_told_2
def dkwX4_told_0 : List UInt8 := [42, 3, 181, 0, 32, 42, 27, 182, 0, 94, 153, 0, 34, 28, 3, 4, 184, 0, 38, 153, 0, 25, 28]
abbrev dktX4_told_0 : List UInt8 := dkwX4_told_0 ++ dktX4_told_1
theorem dksX4_told_0 : cX4_told.data.toList.drop 0 = dktX4_told_0 := by decide +kernel
theorem dksX4_told_1 : cX4_told.data.toList.drop 23 = dktX4_told_1 := dk_seg dksX4_told_0 23 rfl rfl
theorem dksX4_told_2 : cX4_told.data.toList.drop 46 = dktX4_told_2 := dk_seg dksX4_told_1 23 rfl rfl
theorem dX4_told_0 : decode cX4_told 0 = .ok (.aload_n 0, 1) := dk_42 (dk_at dksX4_told_0 0 rfl rfl)
theorem dX4_told_1 : decode cX4_told 1 = .ok (.iconst 0, 1) := dk_3 (dk_at dksX4_told_0 1 rfl rfl)
theorem dX4_told_2 : decode cX4_told 2 = .ok (.putfield 32, 3) := dk_181 0 32 (dk_at dksX4_told_0 2 rfl rfl)
theorem dX4_told_5 : decode cX4_told 5 = .ok (.aload_n 0, 1) := dk_42 (dk_at dksX4_told_0 5 rfl rfl)
theorem dX4_told_6 : decode cX4_told 6 = .ok (.iload_n 1, 1) := dk_27 (dk_at dksX4_told_0 6 rfl rfl)
theorem dX4_told_7 : decode cX4_told 7 = .ok (.invokevirtual 94, 3) := dk_182 0 94 (dk_at dksX4_told_0 7 rfl rfl)
theorem dX4_told_10 : decode cX4_told 10 = .ok (.ifCond .eq 34, 3) := dk_153 0 34 (dk_at dksX4_told_0 10 rfl rfl)
theorem dX4_told_13 : decode cX4_told 13 = .ok (.iload_n 2, 1) := dk_28 (dk_at dksX4_told_0 13 rfl rfl)
theorem dX4_told_14 : decode cX4_told 14 = .ok (.iconst 0, 1) := dk_3 (dk_at dksX4_told_0 14 rfl rfl)
theorem dX4_told_15 : decode cX4_told 15 = .ok (.iconst 1, 1) := dk_4 (dk_at dksX4_told_0 15 rfl rfl)
theorem dX4_told_16 : decode cX4_told 16 = .ok (.invokestatic 38, 3) := dk_184 0 38 (dk_at dksX4_told_0 16 rfl rfl)
theorem dX4_told_19 : decode cX4_told 19 = .ok (.ifCond .eq 25, 3) := dk_153 0 25 (dk_at dksX4_told_0 19 rfl rfl)
theorem dX4_told_22 : decode cX4_told 22 = .ok (.iload_n 2, 1) := dk_28 (dk_at dksX4_told_0 22 rfl rfl)
theorem dX4_told_23 : decode cX4_told 23 = .ok (.ifCond .ne 12, 3) := dk_154 0 12 (dk_at dksX4_told_1 0 rfl rfl)
theorem dX4_told_26 : decode cX4_told 26 = .ok (.aload_n 0, 1) := dk_42 (dk_at dksX4_told_1 3 rfl rfl)
theorem dX4_told_27 : decode cX4_told 27 = .ok (.getfield 13, 3) := dk_180 0 13 (dk_at dksX4_told_1 4 rfl rfl)
theorem dX4_told_30 : decode cX4_told 30 = .ok (.iload_n 1, 1) := dk_27 (dk_at dksX4_told_1 7 rfl rfl)
theorem dX4_told_31 : decode cX4_told 31 = .ok (.iaload, 1) := dk_46 (dk_at dksX4_told_1 8 rfl rfl)
theorem dX4_told_32 : decode cX4_told 32 = .ok (.goto 17, 3) := dk_167 0 17 (dk_at dksX4_told_1 9 rfl rfl)
theorem dX4_told_35 : decode cX4_told 35 = .ok (.aload_n 0, 1) := dk_42 (dk_at dksX4_told_1 12 rfl rfl)
theorem dX4_told_36 : decode cX4_told 36 = .ok (.getfield 22, 3) := dk_180 0 22 (dk_at dksX4_told_1 13 rfl rfl)
theorem dX4_told_39 : decode cX4_told 39 = .ok (.iload_n 1, 1) := dk_27 (dk_at dksX4_told_1 16 rfl rfl)
theorem dX4_told_40 : decode cX4_told 40 = .ok (.iaload, 1) := dk_46 (dk_at dksX4_told_1 17 rfl rfl)
theorem dX4_told_41 : decode cX4_told 41 = .ok (.goto 8, 3) := dk_167 0 8 (dk_at dksX4_told_1 18 rfl rfl)
theorem dX4_told_44 : decode cX4_told 44 = .ok (.aload_n 0, 1) := dk_42 (dk_at dksX4_told_1 21 rfl rfl)
theorem dX4_told_45 : decode cX4_told 45 = .ok (.iconst 1, 1) := dk_4 (dk_at dksX4_told_1 22 rfl rfl)
theorem dX4_told_46 : decode cX4_told 46 = .ok (.invokevirtual 90, 3) := dk_182 0 90 (dk_at dksX4_told_2 0 rfl rfl)
theorem dX4_told_49 : decode cX4_told 49 = .ok (.ireturn, 1) := dk_172 (dk_at dksX4_told_2 3 rfl rfl)
abbrev cX4_worth_2 : ByteArray := prog_12_method_33_code
def yX4_worth_2 : MethodName := ⟨RX4, "worth", "(II)I"⟩
def dkwX4_worth_2_1 : List UInt8 := [180, 0, 22, 27, 28, 182, 0, 46, 167, 0, 8, 42, 4, 182, 0, 90, 172]
abbrev dktX4_worth_2_1 : List UInt8 := dkwX4_worth_2_1 ++ []
def dkwX4_worth_2_0 : List UInt8 := [42, 3, 181, 0, 32, 42, 27, 182, 0, 101, 153, 0, 24, 42, 28, 182, 0, 101, 153, 0, 16, 42, 42]
abbrev dktX4_worth_2_0 : List UInt8 := dkwX4_worth_2_0 ++ dktX4_worth_2_1
theorem dksX4_worth_2_0 : cX4_worth_2.data.toList.drop 0 = dktX4_worth_2_0 := by decide +kernel
theorem dksX4_worth_2_1 : cX4_worth_2.data.toList.drop 23 = dktX4_worth_2_1 := dk_seg dksX4_worth_2_0 23 rfl rfl
theorem dX4_worth_2_0 : decode cX4_worth_2 0 = .ok (.aload_n 0, 1) := dk_42 (dk_at dksX4_worth_2_0 0 rfl rfl)
theorem dX4_worth_2_1 : decode cX4_worth_2 1 = .ok (.iconst 0, 1) := dk_3 (dk_at dksX4_worth_2_0 1 rfl rfl)
theorem dX4_worth_2_2 : decode cX4_worth_2 2 = .ok (.putfield 32, 3) := dk_181 0 32 (dk_at dksX4_worth_2_0 2 rfl rfl)
theorem dX4_worth_2_5 : decode cX4_worth_2 5 = .ok (.aload_n 0, 1) := dk_42 (dk_at dksX4_worth_2_0 5 rfl rfl)
theorem dX4_worth_2_6 : decode cX4_worth_2 6 = .ok (.iload_n 1, 1) := dk_27 (dk_at dksX4_worth_2_0 6 rfl rfl)
theorem dX4_worth_2_7 : decode cX4_worth_2 7 = .ok (.invokevirtual 101, 3) := dk_182 0 101 (dk_at dksX4_worth_2_0 7 rfl rfl)
theorem dX4_worth_2_10 : decode cX4_worth_2 10 = .ok (.ifCond .eq 24, 3) := dk_153 0 24 (dk_at dksX4_worth_2_0 10 rfl rfl)
theorem dX4_worth_2_13 : decode cX4_worth_2 13 = .ok (.aload_n 0, 1) := dk_42 (dk_at dksX4_worth_2_0 13 rfl rfl)
theorem dX4_worth_2_14 : decode cX4_worth_2 14 = .ok (.iload_n 2, 1) := dk_28 (dk_at dksX4_worth_2_0 14 rfl rfl)
theorem dX4_worth_2_15 : decode cX4_worth_2 15 = .ok (.invokevirtual 101, 3) := dk_182 0 101 (dk_at dksX4_worth_2_0 15 rfl rfl)
theorem dX4_worth_2_18 : decode cX4_worth_2 18 = .ok (.ifCond .eq 16, 3) := dk_153 0 16 (dk_at dksX4_worth_2_0 18 rfl rfl)
theorem dX4_worth_2_21 : decode cX4_worth_2 21 = .ok (.aload_n 0, 1) := dk_42 (dk_at dksX4_worth_2_0 21 rfl rfl)
theorem dX4_worth_2_22 : decode cX4_worth_2 22 = .ok (.aload_n 0, 1) := dk_42 (dk_at dksX4_worth_2_0 22 rfl rfl)
theorem dX4_worth_2_23 : decode cX4_worth_2 23 = .ok (.getfield 22, 3) := dk_180 0 22 (dk_at dksX4_worth_2_1 0 rfl rfl)
theorem dX4_worth_2_26 : decode cX4_worth_2 26 = .ok (.iload_n 1, 1) := dk_27 (dk_at dksX4_worth_2_1 3 rfl rfl)
theorem dX4_worth_2_27 : decode cX4_worth_2 27 = .ok (.iload_n 2, 1) := dk_28 (dk_at dksX4_worth_2_1 4 rfl rfl)
theorem dX4_worth_2_28 : decode cX4_worth_2 28 = .ok (.invokevirtual 46, 3) := dk_182 0 46 (dk_at dksX4_worth_2_1 5 rfl rfl)
theorem dX4_worth_2_31 : decode cX4_worth_2 31 = .ok (.goto 8, 3) := dk_167 0 8 (dk_at dksX4_worth_2_1 8 rfl rfl)
theorem dX4_worth_2_34 : decode cX4_worth_2 34 = .ok (.aload_n 0, 1) := dk_42 (dk_at dksX4_worth_2_1 11 rfl rfl)
theorem dX4_worth_2_35 : decode cX4_worth_2 35 = .ok (.iconst 1, 1) := dk_4 (dk_at dksX4_worth_2_1 12 rfl rfl)
theorem dX4_worth_2_36 : decode cX4_worth_2 36 = .ok (.invokevirtual 90, 3) := dk_182 0 90 (dk_at dksX4_worth_2_1 13 rfl rfl)
theorem dX4_worth_2_39 : decode cX4_worth_2 39 = .ok (.ireturn, 1) := dk_172 (dk_at dksX4_worth_2_1 16 rfl rfl)
abbrev cX4_about : ByteArray := prog_12_method_36_code
def yX4_about : MethodName := ⟨RX4, "about", "(II)I"⟩
def dkwX4_about_1 : List UInt8 := [28, 182, 0, 121, 167, 0, 8, 42, 4, 182, 0, 90, 172]
abbrev dktX4_about_1 : List UInt8 := dkwX4_about_1 ++ []
def dkwX4_about_0 : List UInt8 := [42, 3, 181, 0, 32, 42, 27, 182, 0, 101, 153, 0, 21, 28, 3, 8, 184, 0, 38, 153, 0, 12, 42, 27]
abbrev dktX4_about_0 : List UInt8 := dkwX4_about_0 ++ dktX4_about_1
theorem dksX4_about_0 : cX4_about.data.toList.drop 0 = dktX4_about_0 := by decide +kernel
theorem dksX4_about_1 : cX4_about.data.toList.drop 24 = dktX4_about_1 := dk_seg dksX4_about_0 24 rfl rfl
theorem dX4_about_0 : decode cX4_about 0 = .ok (.aload_n 0, 1) := dk_42 (dk_at dksX4_about_0 0 rfl rfl)
theorem dX4_about_1 : decode cX4_about 1 = .ok (.iconst 0, 1) := dk_3 (dk_at dksX4_about_0 1 rfl rfl)
theorem dX4_about_2 : decode cX4_about 2 = .ok (.putfield 32, 3) := dk_181 0 32 (dk_at dksX4_about_0 2 rfl rfl)
theorem dX4_about_5 : decode cX4_about 5 = .ok (.aload_n 0, 1) := dk_42 (dk_at dksX4_about_0 5 rfl rfl)
theorem dX4_about_6 : decode cX4_about 6 = .ok (.iload_n 1, 1) := dk_27 (dk_at dksX4_about_0 6 rfl rfl)
theorem dX4_about_7 : decode cX4_about 7 = .ok (.invokevirtual 101, 3) := dk_182 0 101 (dk_at dksX4_about_0 7 rfl rfl)
theorem dX4_about_10 : decode cX4_about 10 = .ok (.ifCond .eq 21, 3) := dk_153 0 21 (dk_at dksX4_about_0 10 rfl rfl)
theorem dX4_about_13 : decode cX4_about 13 = .ok (.iload_n 2, 1) := dk_28 (dk_at dksX4_about_0 13 rfl rfl)
theorem dX4_about_14 : decode cX4_about 14 = .ok (.iconst 0, 1) := dk_3 (dk_at dksX4_about_0 14 rfl rfl)
theorem dX4_about_15 : decode cX4_about 15 = .ok (.iconst 5, 1) := dk_8 (dk_at dksX4_about_0 15 rfl rfl)
theorem dX4_about_16 : decode cX4_about 16 = .ok (.invokestatic 38, 3) := dk_184 0 38 (dk_at dksX4_about_0 16 rfl rfl)
theorem dX4_about_19 : decode cX4_about 19 = .ok (.ifCond .eq 12, 3) := dk_153 0 12 (dk_at dksX4_about_0 19 rfl rfl)
theorem dX4_about_22 : decode cX4_about 22 = .ok (.aload_n 0, 1) := dk_42 (dk_at dksX4_about_0 22 rfl rfl)
theorem dX4_about_23 : decode cX4_about 23 = .ok (.iload_n 1, 1) := dk_27 (dk_at dksX4_about_0 23 rfl rfl)
theorem dX4_about_24 : decode cX4_about 24 = .ok (.iload_n 2, 1) := dk_28 (dk_at dksX4_about_1 0 rfl rfl)
theorem dX4_about_25 : decode cX4_about 25 = .ok (.invokevirtual 121, 3) := dk_182 0 121 (dk_at dksX4_about_1 1 rfl rfl)
theorem dX4_about_28 : decode cX4_about 28 = .ok (.goto 8, 3) := dk_167 0 8 (dk_at dksX4_about_1 4 rfl rfl)
theorem dX4_about_31 : decode cX4_about 31 = .ok (.aload_n 0, 1) := dk_42 (dk_at dksX4_about_1 7 rfl rfl)
theorem dX4_about_32 : decode cX4_about 32 = .ok (.iconst 1, 1) := dk_4 (dk_at dksX4_about_1 8 rfl rfl)
theorem dX4_about_33 : decode cX4_about 33 = .ok (.invokevirtual 90, 3) := dk_182 0 90 (dk_at dksX4_about_1 9 rfl rfl)
theorem dX4_about_36 : decode cX4_about 36 = .ok (.ireturn, 1) := dk_172 (dk_at dksX4_about_1 12 rfl rfl)
abbrev cX4_eaterTold : ByteArray := prog_12_method_35_code
def yX4_eaterTold : MethodName := ⟨RX4, "eaterTold", "(II)I"⟩
def dkwX4_eaterTold_5 : List UInt8 := [8, 42, 27, 182, 0, 118, 153, 0, 7, 4, 167, 0, 4, 3, 79, 58, 5, 25, 5, 28, 46, 172]
abbrev dktX4_eaterTold_5 : List UInt8 := dkwX4_eaterTold_5 ++ []
def dkwX4_eaterTold_4 : List UInt8 := [79, 89, 5, 42, 27, 3, 42, 180, 0, 7, 182, 0, 58, 79, 89, 6, 29, 79, 89, 7, 21, 4, 79, 89]
abbrev dktX4_eaterTold_4 : List UInt8 := dkwX4_eaterTold_4 ++ dktX4_eaterTold_5
def dkwX4_eaterTold_3 : List UInt8 := [180, 0, 22, 42, 180, 0, 7, 27, 184, 0, 74, 79, 89, 4, 42, 42, 180, 0, 22, 27, 27, 182, 0, 46]
abbrev dktX4_eaterTold_3 : List UInt8 := dkwX4_eaterTold_3 ++ dktX4_eaterTold_4
def dkwX4_eaterTold_2 : List UInt8 := [21, 5, 182, 0, 55, 184, 0, 50, 54, 4, 132, 5, 1, 167, 255, 204, 16, 6, 188, 10, 89, 3, 42]
abbrev dktX4_eaterTold_2 : List UInt8 := dkwX4_eaterTold_2 ++ dktX4_eaterTold_3
def dkwX4_eaterTold_1 : List UInt8 := [21, 5, 182, 0, 55, 158, 0, 7, 4, 167, 0, 4, 3, 96, 62, 21, 4, 42, 42, 180, 0, 22, 27]
abbrev dktX4_eaterTold_1 : List UInt8 := dkwX4_eaterTold_1 ++ dktX4_eaterTold_2
def dkwX4_eaterTold_0 : List UInt8 := [3, 62, 3, 54, 4, 3, 54, 5, 21, 5, 42, 180, 0, 35, 162, 0, 49, 29, 42, 42, 180, 0, 22, 27]
abbrev dktX4_eaterTold_0 : List UInt8 := dkwX4_eaterTold_0 ++ dktX4_eaterTold_1
theorem dksX4_eaterTold_0 : cX4_eaterTold.data.toList.drop 0 = dktX4_eaterTold_0 := by decide +kernel
theorem dksX4_eaterTold_1 : cX4_eaterTold.data.toList.drop 24 = dktX4_eaterTold_1 := dk_seg dksX4_eaterTold_0 24 rfl rfl
theorem dksX4_eaterTold_2 : cX4_eaterTold.data.toList.drop 47 = dktX4_eaterTold_2 := dk_seg dksX4_eaterTold_1 23 rfl rfl
theorem dksX4_eaterTold_3 : cX4_eaterTold.data.toList.drop 70 = dktX4_eaterTold_3 := dk_seg dksX4_eaterTold_2 23 rfl rfl
theorem dksX4_eaterTold_4 : cX4_eaterTold.data.toList.drop 94 = dktX4_eaterTold_4 := dk_seg dksX4_eaterTold_3 24 rfl rfl
theorem dksX4_eaterTold_5 : cX4_eaterTold.data.toList.drop 118 = dktX4_eaterTold_5 := dk_seg dksX4_eaterTold_4 24 rfl rfl
theorem dX4_eaterTold_0 : decode cX4_eaterTold 0 = .ok (.iconst 0, 1) := dk_3 (dk_at dksX4_eaterTold_0 0 rfl rfl)
theorem dX4_eaterTold_1 : decode cX4_eaterTold 1 = .ok (.istore_n 3, 1) := dk_62 (dk_at dksX4_eaterTold_0 1 rfl rfl)
theorem dX4_eaterTold_2 : decode cX4_eaterTold 2 = .ok (.iconst 0, 1) := dk_3 (dk_at dksX4_eaterTold_0 2 rfl rfl)
theorem dX4_eaterTold_3 : decode cX4_eaterTold 3 = .ok (.istore 4, 2) := dk_54 4 (dk_at dksX4_eaterTold_0 3 rfl rfl)
theorem dX4_eaterTold_5 : decode cX4_eaterTold 5 = .ok (.iconst 0, 1) := dk_3 (dk_at dksX4_eaterTold_0 5 rfl rfl)
theorem dX4_eaterTold_6 : decode cX4_eaterTold 6 = .ok (.istore 5, 2) := dk_54 5 (dk_at dksX4_eaterTold_0 6 rfl rfl)
theorem dX4_eaterTold_8 : decode cX4_eaterTold 8 = .ok (.iload 5, 2) := dk_21 5 (dk_at dksX4_eaterTold_0 8 rfl rfl)
theorem dX4_eaterTold_10 : decode cX4_eaterTold 10 = .ok (.aload_n 0, 1) := dk_42 (dk_at dksX4_eaterTold_0 10 rfl rfl)
theorem dX4_eaterTold_11 : decode cX4_eaterTold 11 = .ok (.getfield 35, 3) := dk_180 0 35 (dk_at dksX4_eaterTold_0 11 rfl rfl)
theorem dX4_eaterTold_14 : decode cX4_eaterTold 14 = .ok (.if_icmp .ge 49, 3) := dk_162 0 49 (dk_at dksX4_eaterTold_0 14 rfl rfl)
theorem dX4_eaterTold_17 : decode cX4_eaterTold 17 = .ok (.iload_n 3, 1) := dk_29 (dk_at dksX4_eaterTold_0 17 rfl rfl)
theorem dX4_eaterTold_18 : decode cX4_eaterTold 18 = .ok (.aload_n 0, 1) := dk_42 (dk_at dksX4_eaterTold_0 18 rfl rfl)
theorem dX4_eaterTold_19 : decode cX4_eaterTold 19 = .ok (.aload_n 0, 1) := dk_42 (dk_at dksX4_eaterTold_0 19 rfl rfl)
theorem dX4_eaterTold_20 : decode cX4_eaterTold 20 = .ok (.getfield 22, 3) := dk_180 0 22 (dk_at dksX4_eaterTold_0 20 rfl rfl)
theorem dX4_eaterTold_23 : decode cX4_eaterTold 23 = .ok (.iload_n 1, 1) := dk_27 (dk_at dksX4_eaterTold_0 23 rfl rfl)
theorem dX4_eaterTold_24 : decode cX4_eaterTold 24 = .ok (.iload 5, 2) := dk_21 5 (dk_at dksX4_eaterTold_1 0 rfl rfl)
theorem dX4_eaterTold_26 : decode cX4_eaterTold 26 = .ok (.invokevirtual 55, 3) := dk_182 0 55 (dk_at dksX4_eaterTold_1 2 rfl rfl)
theorem dX4_eaterTold_29 : decode cX4_eaterTold 29 = .ok (.ifCond .le 7, 3) := dk_158 0 7 (dk_at dksX4_eaterTold_1 5 rfl rfl)
theorem dX4_eaterTold_32 : decode cX4_eaterTold 32 = .ok (.iconst 1, 1) := dk_4 (dk_at dksX4_eaterTold_1 8 rfl rfl)
theorem dX4_eaterTold_33 : decode cX4_eaterTold 33 = .ok (.goto 4, 3) := dk_167 0 4 (dk_at dksX4_eaterTold_1 9 rfl rfl)
theorem dX4_eaterTold_36 : decode cX4_eaterTold 36 = .ok (.iconst 0, 1) := dk_3 (dk_at dksX4_eaterTold_1 12 rfl rfl)
theorem dX4_eaterTold_37 : decode cX4_eaterTold 37 = .ok (.iadd, 1) := dk_96 (dk_at dksX4_eaterTold_1 13 rfl rfl)
theorem dX4_eaterTold_38 : decode cX4_eaterTold 38 = .ok (.istore_n 3, 1) := dk_62 (dk_at dksX4_eaterTold_1 14 rfl rfl)
theorem dX4_eaterTold_39 : decode cX4_eaterTold 39 = .ok (.iload 4, 2) := dk_21 4 (dk_at dksX4_eaterTold_1 15 rfl rfl)
theorem dX4_eaterTold_41 : decode cX4_eaterTold 41 = .ok (.aload_n 0, 1) := dk_42 (dk_at dksX4_eaterTold_1 17 rfl rfl)
theorem dX4_eaterTold_42 : decode cX4_eaterTold 42 = .ok (.aload_n 0, 1) := dk_42 (dk_at dksX4_eaterTold_1 18 rfl rfl)
theorem dX4_eaterTold_43 : decode cX4_eaterTold 43 = .ok (.getfield 22, 3) := dk_180 0 22 (dk_at dksX4_eaterTold_1 19 rfl rfl)
theorem dX4_eaterTold_46 : decode cX4_eaterTold 46 = .ok (.iload_n 1, 1) := dk_27 (dk_at dksX4_eaterTold_1 22 rfl rfl)
theorem dX4_eaterTold_47 : decode cX4_eaterTold 47 = .ok (.iload 5, 2) := dk_21 5 (dk_at dksX4_eaterTold_2 0 rfl rfl)
theorem dX4_eaterTold_49 : decode cX4_eaterTold 49 = .ok (.invokevirtual 55, 3) := dk_182 0 55 (dk_at dksX4_eaterTold_2 2 rfl rfl)
theorem dX4_eaterTold_52 : decode cX4_eaterTold 52 = .ok (.invokestatic 50, 3) := dk_184 0 50 (dk_at dksX4_eaterTold_2 5 rfl rfl)
theorem dX4_eaterTold_55 : decode cX4_eaterTold 55 = .ok (.istore 4, 2) := dk_54 4 (dk_at dksX4_eaterTold_2 8 rfl rfl)
theorem dX4_eaterTold_57 : decode cX4_eaterTold 57 = .ok (.iinc 5 1, 3) := dk_132 5 1 (dk_at dksX4_eaterTold_2 10 rfl rfl)
theorem dX4_eaterTold_60 : decode cX4_eaterTold 60 = .ok (.goto (-52), 3) := dk_167 255 204 (dk_at dksX4_eaterTold_2 13 rfl rfl)
theorem dX4_eaterTold_63 : decode cX4_eaterTold 63 = .ok (.bipush 6, 2) := dk_16 6 (dk_at dksX4_eaterTold_2 16 rfl rfl)
theorem dX4_eaterTold_65 : decode cX4_eaterTold 65 = .ok (.newarray .int, 2) := dk_188_10 (dk_at dksX4_eaterTold_2 18 rfl rfl)
theorem dX4_eaterTold_67 : decode cX4_eaterTold 67 = .ok (.dup, 1) := dk_89 (dk_at dksX4_eaterTold_2 20 rfl rfl)
theorem dX4_eaterTold_68 : decode cX4_eaterTold 68 = .ok (.iconst 0, 1) := dk_3 (dk_at dksX4_eaterTold_2 21 rfl rfl)
theorem dX4_eaterTold_69 : decode cX4_eaterTold 69 = .ok (.aload_n 0, 1) := dk_42 (dk_at dksX4_eaterTold_2 22 rfl rfl)
theorem dX4_eaterTold_70 : decode cX4_eaterTold 70 = .ok (.getfield 22, 3) := dk_180 0 22 (dk_at dksX4_eaterTold_3 0 rfl rfl)
theorem dX4_eaterTold_73 : decode cX4_eaterTold 73 = .ok (.aload_n 0, 1) := dk_42 (dk_at dksX4_eaterTold_3 3 rfl rfl)
theorem dX4_eaterTold_74 : decode cX4_eaterTold 74 = .ok (.getfield 7, 3) := dk_180 0 7 (dk_at dksX4_eaterTold_3 4 rfl rfl)
theorem dX4_eaterTold_77 : decode cX4_eaterTold 77 = .ok (.iload_n 1, 1) := dk_27 (dk_at dksX4_eaterTold_3 7 rfl rfl)
theorem dX4_eaterTold_78 : decode cX4_eaterTold 78 = .ok (.invokestatic 74, 3) := dk_184 0 74 (dk_at dksX4_eaterTold_3 8 rfl rfl)
theorem dX4_eaterTold_81 : decode cX4_eaterTold 81 = .ok (.iastore, 1) := dk_79 (dk_at dksX4_eaterTold_3 11 rfl rfl)
theorem dX4_eaterTold_82 : decode cX4_eaterTold 82 = .ok (.dup, 1) := dk_89 (dk_at dksX4_eaterTold_3 12 rfl rfl)
theorem dX4_eaterTold_83 : decode cX4_eaterTold 83 = .ok (.iconst 1, 1) := dk_4 (dk_at dksX4_eaterTold_3 13 rfl rfl)
theorem dX4_eaterTold_84 : decode cX4_eaterTold 84 = .ok (.aload_n 0, 1) := dk_42 (dk_at dksX4_eaterTold_3 14 rfl rfl)
theorem dX4_eaterTold_85 : decode cX4_eaterTold 85 = .ok (.aload_n 0, 1) := dk_42 (dk_at dksX4_eaterTold_3 15 rfl rfl)
theorem dX4_eaterTold_86 : decode cX4_eaterTold 86 = .ok (.getfield 22, 3) := dk_180 0 22 (dk_at dksX4_eaterTold_3 16 rfl rfl)
theorem dX4_eaterTold_89 : decode cX4_eaterTold 89 = .ok (.iload_n 1, 1) := dk_27 (dk_at dksX4_eaterTold_3 19 rfl rfl)
theorem dX4_eaterTold_90 : decode cX4_eaterTold 90 = .ok (.iload_n 1, 1) := dk_27 (dk_at dksX4_eaterTold_3 20 rfl rfl)
theorem dX4_eaterTold_91 : decode cX4_eaterTold 91 = .ok (.invokevirtual 46, 3) := dk_182 0 46 (dk_at dksX4_eaterTold_3 21 rfl rfl)
theorem dX4_eaterTold_94 : decode cX4_eaterTold 94 = .ok (.iastore, 1) := dk_79 (dk_at dksX4_eaterTold_4 0 rfl rfl)
theorem dX4_eaterTold_95 : decode cX4_eaterTold 95 = .ok (.dup, 1) := dk_89 (dk_at dksX4_eaterTold_4 1 rfl rfl)
theorem dX4_eaterTold_96 : decode cX4_eaterTold 96 = .ok (.iconst 2, 1) := dk_5 (dk_at dksX4_eaterTold_4 2 rfl rfl)
theorem dX4_eaterTold_97 : decode cX4_eaterTold 97 = .ok (.aload_n 0, 1) := dk_42 (dk_at dksX4_eaterTold_4 3 rfl rfl)
theorem dX4_eaterTold_98 : decode cX4_eaterTold 98 = .ok (.iload_n 1, 1) := dk_27 (dk_at dksX4_eaterTold_4 4 rfl rfl)
theorem dX4_eaterTold_99 : decode cX4_eaterTold 99 = .ok (.iconst 0, 1) := dk_3 (dk_at dksX4_eaterTold_4 5 rfl rfl)
theorem dX4_eaterTold_100 : decode cX4_eaterTold 100 = .ok (.aload_n 0, 1) := dk_42 (dk_at dksX4_eaterTold_4 6 rfl rfl)
theorem dX4_eaterTold_101 : decode cX4_eaterTold 101 = .ok (.getfield 7, 3) := dk_180 0 7 (dk_at dksX4_eaterTold_4 7 rfl rfl)
theorem dX4_eaterTold_104 : decode cX4_eaterTold 104 = .ok (.invokevirtual 58, 3) := dk_182 0 58 (dk_at dksX4_eaterTold_4 10 rfl rfl)
theorem dX4_eaterTold_107 : decode cX4_eaterTold 107 = .ok (.iastore, 1) := dk_79 (dk_at dksX4_eaterTold_4 13 rfl rfl)
theorem dX4_eaterTold_108 : decode cX4_eaterTold 108 = .ok (.dup, 1) := dk_89 (dk_at dksX4_eaterTold_4 14 rfl rfl)
theorem dX4_eaterTold_109 : decode cX4_eaterTold 109 = .ok (.iconst 3, 1) := dk_6 (dk_at dksX4_eaterTold_4 15 rfl rfl)
theorem dX4_eaterTold_110 : decode cX4_eaterTold 110 = .ok (.iload_n 3, 1) := dk_29 (dk_at dksX4_eaterTold_4 16 rfl rfl)
theorem dX4_eaterTold_111 : decode cX4_eaterTold 111 = .ok (.iastore, 1) := dk_79 (dk_at dksX4_eaterTold_4 17 rfl rfl)
theorem dX4_eaterTold_112 : decode cX4_eaterTold 112 = .ok (.dup, 1) := dk_89 (dk_at dksX4_eaterTold_4 18 rfl rfl)
theorem dX4_eaterTold_113 : decode cX4_eaterTold 113 = .ok (.iconst 4, 1) := dk_7 (dk_at dksX4_eaterTold_4 19 rfl rfl)
theorem dX4_eaterTold_114 : decode cX4_eaterTold 114 = .ok (.iload 4, 2) := dk_21 4 (dk_at dksX4_eaterTold_4 20 rfl rfl)
theorem dX4_eaterTold_116 : decode cX4_eaterTold 116 = .ok (.iastore, 1) := dk_79 (dk_at dksX4_eaterTold_4 22 rfl rfl)
theorem dX4_eaterTold_117 : decode cX4_eaterTold 117 = .ok (.dup, 1) := dk_89 (dk_at dksX4_eaterTold_4 23 rfl rfl)
theorem dX4_eaterTold_118 : decode cX4_eaterTold 118 = .ok (.iconst 5, 1) := dk_8 (dk_at dksX4_eaterTold_5 0 rfl rfl)
theorem dX4_eaterTold_119 : decode cX4_eaterTold 119 = .ok (.aload_n 0, 1) := dk_42 (dk_at dksX4_eaterTold_5 1 rfl rfl)
theorem dX4_eaterTold_120 : decode cX4_eaterTold 120 = .ok (.iload_n 1, 1) := dk_27 (dk_at dksX4_eaterTold_5 2 rfl rfl)
theorem dX4_eaterTold_121 : decode cX4_eaterTold 121 = .ok (.invokevirtual 118, 3) := dk_182 0 118 (dk_at dksX4_eaterTold_5 3 rfl rfl)
theorem dX4_eaterTold_124 : decode cX4_eaterTold 124 = .ok (.ifCond .eq 7, 3) := dk_153 0 7 (dk_at dksX4_eaterTold_5 6 rfl rfl)
theorem dX4_eaterTold_127 : decode cX4_eaterTold 127 = .ok (.iconst 1, 1) := dk_4 (dk_at dksX4_eaterTold_5 9 rfl rfl)
theorem dX4_eaterTold_128 : decode cX4_eaterTold 128 = .ok (.goto 4, 3) := dk_167 0 4 (dk_at dksX4_eaterTold_5 10 rfl rfl)
theorem dX4_eaterTold_131 : decode cX4_eaterTold 131 = .ok (.iconst 0, 1) := dk_3 (dk_at dksX4_eaterTold_5 13 rfl rfl)
theorem dX4_eaterTold_132 : decode cX4_eaterTold 132 = .ok (.iastore, 1) := dk_79 (dk_at dksX4_eaterTold_5 14 rfl rfl)
theorem dX4_eaterTold_133 : decode cX4_eaterTold 133 = .ok (.astore 5, 2) := dk_58 5 (dk_at dksX4_eaterTold_5 15 rfl rfl)
theorem dX4_eaterTold_135 : decode cX4_eaterTold 135 = .ok (.aload 5, 2) := dk_25 5 (dk_at dksX4_eaterTold_5 17 rfl rfl)
theorem dX4_eaterTold_137 : decode cX4_eaterTold 137 = .ok (.iload_n 2, 1) := dk_28 (dk_at dksX4_eaterTold_5 19 rfl rfl)
theorem dX4_eaterTold_138 : decode cX4_eaterTold 138 = .ok (.iaload, 1) := dk_46 (dk_at dksX4_eaterTold_5 20 rfl rfl)
theorem dX4_eaterTold_139 : decode cX4_eaterTold 139 = .ok (.ireturn, 1) := dk_172 (dk_at dksX4_eaterTold_5 21 rfl rfl)
abbrev cX4_envy : ByteArray := prog_12_method_12_code
def yX4_envy : MethodName := ⟨RX4, "envy", "([III)I"⟩
def dkwX4_envy_0 : List UInt8 := [3, 42, 43, 28, 29, 182, 0, 46, 42, 43, 28, 28, 182, 0, 46, 100, 184, 0, 50, 172]
abbrev dktX4_envy_0 : List UInt8 := dkwX4_envy_0 ++ []
theorem dksX4_envy_0 : cX4_envy.data.toList.drop 0 = dktX4_envy_0 := by decide +kernel
theorem dX4_envy_0 : decode cX4_envy 0 = .ok (.iconst 0, 1) := dk_3 (dk_at dksX4_envy_0 0 rfl rfl)
theorem dX4_envy_1 : decode cX4_envy 1 = .ok (.aload_n 0, 1) := dk_42 (dk_at dksX4_envy_0 1 rfl rfl)
theorem dX4_envy_2 : decode cX4_envy 2 = .ok (.aload_n 1, 1) := dk_43 (dk_at dksX4_envy_0 2 rfl rfl)
theorem dX4_envy_3 : decode cX4_envy 3 = .ok (.iload_n 2, 1) := dk_28 (dk_at dksX4_envy_0 3 rfl rfl)
theorem dX4_envy_4 : decode cX4_envy 4 = .ok (.iload_n 3, 1) := dk_29 (dk_at dksX4_envy_0 4 rfl rfl)
theorem dX4_envy_5 : decode cX4_envy 5 = .ok (.invokevirtual 46, 3) := dk_182 0 46 (dk_at dksX4_envy_0 5 rfl rfl)
theorem dX4_envy_8 : decode cX4_envy 8 = .ok (.aload_n 0, 1) := dk_42 (dk_at dksX4_envy_0 8 rfl rfl)
theorem dX4_envy_9 : decode cX4_envy 9 = .ok (.aload_n 1, 1) := dk_43 (dk_at dksX4_envy_0 9 rfl rfl)
theorem dX4_envy_10 : decode cX4_envy 10 = .ok (.iload_n 2, 1) := dk_28 (dk_at dksX4_envy_0 10 rfl rfl)
theorem dX4_envy_11 : decode cX4_envy 11 = .ok (.iload_n 2, 1) := dk_28 (dk_at dksX4_envy_0 11 rfl rfl)
theorem dX4_envy_12 : decode cX4_envy 12 = .ok (.invokevirtual 46, 3) := dk_182 0 46 (dk_at dksX4_envy_0 12 rfl rfl)
theorem dX4_envy_15 : decode cX4_envy 15 = .ok (.isub, 1) := dk_100 (dk_at dksX4_envy_0 15 rfl rfl)
theorem dX4_envy_16 : decode cX4_envy 16 = .ok (.invokestatic 50, 3) := dk_184 0 50 (dk_at dksX4_envy_0 16 rfl rfl)
theorem dX4_envy_19 : decode cX4_envy 19 = .ok (.ireturn, 1) := dk_172 (dk_at dksX4_envy_0 19 rfl rfl)
abbrev cX4_isFair : ByteArray := prog_12_method_34_code
def yX4_isFair : MethodName := ⟨RX4, "isFair", "(I)Z"⟩
def dkwX4_isFair_1 : List UInt8 := [182, 0, 58, 161, 0, 7, 4, 167, 0, 4, 3, 172]
abbrev dktX4_isFair_1 : List UInt8 := dkwX4_isFair_1 ++ []
def dkwX4_isFair_0 : List UInt8 := [42, 42, 180, 0, 22, 27, 27, 182, 0, 46, 42, 180, 0, 35, 104, 42, 27, 3, 42, 180, 0, 7]
abbrev dktX4_isFair_0 : List UInt8 := dkwX4_isFair_0 ++ dktX4_isFair_1
theorem dksX4_isFair_0 : cX4_isFair.data.toList.drop 0 = dktX4_isFair_0 := by decide +kernel
theorem dksX4_isFair_1 : cX4_isFair.data.toList.drop 22 = dktX4_isFair_1 := dk_seg dksX4_isFair_0 22 rfl rfl
theorem dX4_isFair_0 : decode cX4_isFair 0 = .ok (.aload_n 0, 1) := dk_42 (dk_at dksX4_isFair_0 0 rfl rfl)
theorem dX4_isFair_1 : decode cX4_isFair 1 = .ok (.aload_n 0, 1) := dk_42 (dk_at dksX4_isFair_0 1 rfl rfl)
theorem dX4_isFair_2 : decode cX4_isFair 2 = .ok (.getfield 22, 3) := dk_180 0 22 (dk_at dksX4_isFair_0 2 rfl rfl)
theorem dX4_isFair_5 : decode cX4_isFair 5 = .ok (.iload_n 1, 1) := dk_27 (dk_at dksX4_isFair_0 5 rfl rfl)
theorem dX4_isFair_6 : decode cX4_isFair 6 = .ok (.iload_n 1, 1) := dk_27 (dk_at dksX4_isFair_0 6 rfl rfl)
theorem dX4_isFair_7 : decode cX4_isFair 7 = .ok (.invokevirtual 46, 3) := dk_182 0 46 (dk_at dksX4_isFair_0 7 rfl rfl)
theorem dX4_isFair_10 : decode cX4_isFair 10 = .ok (.aload_n 0, 1) := dk_42 (dk_at dksX4_isFair_0 10 rfl rfl)
theorem dX4_isFair_11 : decode cX4_isFair 11 = .ok (.getfield 35, 3) := dk_180 0 35 (dk_at dksX4_isFair_0 11 rfl rfl)
theorem dX4_isFair_14 : decode cX4_isFair 14 = .ok (.imul, 1) := dk_104 (dk_at dksX4_isFair_0 14 rfl rfl)
theorem dX4_isFair_15 : decode cX4_isFair 15 = .ok (.aload_n 0, 1) := dk_42 (dk_at dksX4_isFair_0 15 rfl rfl)
theorem dX4_isFair_16 : decode cX4_isFair 16 = .ok (.iload_n 1, 1) := dk_27 (dk_at dksX4_isFair_0 16 rfl rfl)
theorem dX4_isFair_17 : decode cX4_isFair 17 = .ok (.iconst 0, 1) := dk_3 (dk_at dksX4_isFair_0 17 rfl rfl)
theorem dX4_isFair_18 : decode cX4_isFair 18 = .ok (.aload_n 0, 1) := dk_42 (dk_at dksX4_isFair_0 18 rfl rfl)
theorem dX4_isFair_19 : decode cX4_isFair 19 = .ok (.getfield 7, 3) := dk_180 0 7 (dk_at dksX4_isFair_0 19 rfl rfl)
theorem dX4_isFair_22 : decode cX4_isFair 22 = .ok (.invokevirtual 58, 3) := dk_182 0 58 (dk_at dksX4_isFair_1 0 rfl rfl)
theorem dX4_isFair_25 : decode cX4_isFair 25 = .ok (.if_icmp .lt 7, 3) := dk_161 0 7 (dk_at dksX4_isFair_1 3 rfl rfl)
theorem dX4_isFair_28 : decode cX4_isFair 28 = .ok (.iconst 1, 1) := dk_4 (dk_at dksX4_isFair_1 6 rfl rfl)
theorem dX4_isFair_29 : decode cX4_isFair 29 = .ok (.goto 4, 3) := dk_167 0 4 (dk_at dksX4_isFair_1 7 rfl rfl)
theorem dX4_isFair_32 : decode cX4_isFair 32 = .ok (.iconst 0, 1) := dk_3 (dk_at dksX4_isFair_1 10 rfl rfl)
theorem dX4_isFair_33 : decode cX4_isFair 33 = .ok (.ireturn, 1) := dk_172 (dk_at dksX4_isFair_1 11 rfl rfl)
abbrev cX4_taste : ByteArray := prog_12_method_37_code
def yX4_taste : MethodName := ⟨RX4, "taste", "(II)I"⟩
def dkwX4_taste_1 : List UInt8 := [27, 50, 28, 46, 167, 0, 8, 42, 4, 182, 0, 90, 172]
abbrev dktX4_taste_1 : List UInt8 := dkwX4_taste_1 ++ []
def dkwX4_taste_0 : List UInt8 := [42, 3, 181, 0, 32, 42, 27, 182, 0, 101, 153, 0, 21, 28, 184, 0, 98, 153, 0, 14, 42, 180, 0, 19]
abbrev dktX4_taste_0 : List UInt8 := dkwX4_taste_0 ++ dktX4_taste_1
theorem dksX4_taste_0 : cX4_taste.data.toList.drop 0 = dktX4_taste_0 := by decide +kernel
theorem dksX4_taste_1 : cX4_taste.data.toList.drop 24 = dktX4_taste_1 := dk_seg dksX4_taste_0 24 rfl rfl
theorem dX4_taste_0 : decode cX4_taste 0 = .ok (.aload_n 0, 1) := dk_42 (dk_at dksX4_taste_0 0 rfl rfl)
theorem dX4_taste_1 : decode cX4_taste 1 = .ok (.iconst 0, 1) := dk_3 (dk_at dksX4_taste_0 1 rfl rfl)
theorem dX4_taste_2 : decode cX4_taste 2 = .ok (.putfield 32, 3) := dk_181 0 32 (dk_at dksX4_taste_0 2 rfl rfl)
theorem dX4_taste_5 : decode cX4_taste 5 = .ok (.aload_n 0, 1) := dk_42 (dk_at dksX4_taste_0 5 rfl rfl)
theorem dX4_taste_6 : decode cX4_taste 6 = .ok (.iload_n 1, 1) := dk_27 (dk_at dksX4_taste_0 6 rfl rfl)
theorem dX4_taste_7 : decode cX4_taste 7 = .ok (.invokevirtual 101, 3) := dk_182 0 101 (dk_at dksX4_taste_0 7 rfl rfl)
theorem dX4_taste_10 : decode cX4_taste 10 = .ok (.ifCond .eq 21, 3) := dk_153 0 21 (dk_at dksX4_taste_0 10 rfl rfl)
theorem dX4_taste_13 : decode cX4_taste 13 = .ok (.iload_n 2, 1) := dk_28 (dk_at dksX4_taste_0 13 rfl rfl)
theorem dX4_taste_14 : decode cX4_taste 14 = .ok (.invokestatic 98, 3) := dk_184 0 98 (dk_at dksX4_taste_0 14 rfl rfl)
theorem dX4_taste_17 : decode cX4_taste 17 = .ok (.ifCond .eq 14, 3) := dk_153 0 14 (dk_at dksX4_taste_0 17 rfl rfl)
theorem dX4_taste_20 : decode cX4_taste 20 = .ok (.aload_n 0, 1) := dk_42 (dk_at dksX4_taste_0 20 rfl rfl)
theorem dX4_taste_21 : decode cX4_taste 21 = .ok (.getfield 19, 3) := dk_180 0 19 (dk_at dksX4_taste_0 21 rfl rfl)
theorem dX4_taste_24 : decode cX4_taste 24 = .ok (.iload_n 1, 1) := dk_27 (dk_at dksX4_taste_1 0 rfl rfl)
theorem dX4_taste_25 : decode cX4_taste 25 = .ok (.aaload, 1) := dk_50 (dk_at dksX4_taste_1 1 rfl rfl)
theorem dX4_taste_26 : decode cX4_taste 26 = .ok (.iload_n 2, 1) := dk_28 (dk_at dksX4_taste_1 2 rfl rfl)
theorem dX4_taste_27 : decode cX4_taste 27 = .ok (.iaload, 1) := dk_46 (dk_at dksX4_taste_1 3 rfl rfl)
theorem dX4_taste_28 : decode cX4_taste 28 = .ok (.goto 8, 3) := dk_167 0 8 (dk_at dksX4_taste_1 4 rfl rfl)
theorem dX4_taste_31 : decode cX4_taste 31 = .ok (.aload_n 0, 1) := dk_42 (dk_at dksX4_taste_1 7 rfl rfl)
theorem dX4_taste_32 : decode cX4_taste 32 = .ok (.iconst 1, 1) := dk_4 (dk_at dksX4_taste_1 8 rfl rfl)
theorem dX4_taste_33 : decode cX4_taste 33 = .ok (.invokevirtual 90, 3) := dk_182 0 90 (dk_at dksX4_taste_1 9 rfl rfl)
theorem dX4_taste_36 : decode cX4_taste 36 = .ok (.ireturn, 1) := dk_172 (dk_at dksX4_taste_1 12 rfl rfl)
abbrev cX4_count : ByteArray := prog_12_method_39_code
def yX4_count : MethodName := ⟨RX4, "count", "(I)I"⟩
def dkwX4_count_1 : List UInt8 := [4, 182, 0, 90, 172]
abbrev dktX4_count_1 : List UInt8 := dkwX4_count_1 ++ []
def dkwX4_count_0 : List UInt8 := [42, 3, 181, 0, 32, 27, 3, 16, 6, 184, 0, 38, 153, 0, 11, 42, 27, 182, 0, 128, 167, 0, 8, 42]
abbrev dktX4_count_0 : List UInt8 := dkwX4_count_0 ++ dktX4_count_1
theorem dksX4_count_0 : cX4_count.data.toList.drop 0 = dktX4_count_0 := by decide +kernel
theorem dksX4_count_1 : cX4_count.data.toList.drop 24 = dktX4_count_1 := dk_seg dksX4_count_0 24 rfl rfl
theorem dX4_count_0 : decode cX4_count 0 = .ok (.aload_n 0, 1) := dk_42 (dk_at dksX4_count_0 0 rfl rfl)
theorem dX4_count_1 : decode cX4_count 1 = .ok (.iconst 0, 1) := dk_3 (dk_at dksX4_count_0 1 rfl rfl)
theorem dX4_count_2 : decode cX4_count 2 = .ok (.putfield 32, 3) := dk_181 0 32 (dk_at dksX4_count_0 2 rfl rfl)
theorem dX4_count_5 : decode cX4_count 5 = .ok (.iload_n 1, 1) := dk_27 (dk_at dksX4_count_0 5 rfl rfl)
theorem dX4_count_6 : decode cX4_count 6 = .ok (.iconst 0, 1) := dk_3 (dk_at dksX4_count_0 6 rfl rfl)
theorem dX4_count_7 : decode cX4_count 7 = .ok (.bipush 6, 2) := dk_16 6 (dk_at dksX4_count_0 7 rfl rfl)
theorem dX4_count_9 : decode cX4_count 9 = .ok (.invokestatic 38, 3) := dk_184 0 38 (dk_at dksX4_count_0 9 rfl rfl)
theorem dX4_count_12 : decode cX4_count 12 = .ok (.ifCond .eq 11, 3) := dk_153 0 11 (dk_at dksX4_count_0 12 rfl rfl)
theorem dX4_count_15 : decode cX4_count 15 = .ok (.aload_n 0, 1) := dk_42 (dk_at dksX4_count_0 15 rfl rfl)
theorem dX4_count_16 : decode cX4_count 16 = .ok (.iload_n 1, 1) := dk_27 (dk_at dksX4_count_0 16 rfl rfl)
theorem dX4_count_17 : decode cX4_count 17 = .ok (.invokevirtual 128, 3) := dk_182 0 128 (dk_at dksX4_count_0 17 rfl rfl)
theorem dX4_count_20 : decode cX4_count 20 = .ok (.goto 8, 3) := dk_167 0 8 (dk_at dksX4_count_0 20 rfl rfl)
theorem dX4_count_23 : decode cX4_count 23 = .ok (.aload_n 0, 1) := dk_42 (dk_at dksX4_count_0 23 rfl rfl)
theorem dX4_count_24 : decode cX4_count 24 = .ok (.iconst 1, 1) := dk_4 (dk_at dksX4_count_1 0 rfl rfl)
theorem dX4_count_25 : decode cX4_count 25 = .ok (.invokevirtual 90, 3) := dk_182 0 90 (dk_at dksX4_count_1 1 rfl rfl)
theorem dX4_count_28 : decode cX4_count 28 = .ok (.ireturn, 1) := dk_172 (dk_at dksX4_count_1 4 rfl rfl)
abbrev cX4_counted : ByteArray := prog_12_method_38_code
def yX4_counted : MethodName := ⟨RX4, "counted", "(I)I"⟩
def dkwX4_counted_4 : List UInt8 := [182, 0, 124, 79, 89, 8, 29, 79, 89, 16, 6, 42, 180, 0, 111, 79, 58, 4, 25, 4, 27, 46, 172]
abbrev dktX4_counted_4 : List UInt8 := dkwX4_counted_4 ++ []
def dkwX4_counted_3 : List UInt8 := [180, 0, 22, 42, 180, 0, 7, 2, 184, 0, 74, 79, 89, 6, 28, 79, 89, 7, 42, 42, 180, 0, 22]
abbrev dktX4_counted_3 : List UInt8 := dkwX4_counted_3 ++ dktX4_counted_4
def dkwX4_counted_2 : List UInt8 := [167, 255, 217, 16, 7, 188, 10, 89, 3, 42, 180, 0, 7, 79, 89, 4, 42, 180, 0, 35, 79, 89, 5, 42]
abbrev dktX4_counted_2 : List UInt8 := dkwX4_counted_2 ++ dktX4_counted_3
def dkwX4_counted_1 : List UInt8 := [96, 61, 29, 42, 21, 4, 182, 0, 118, 153, 0, 7, 4, 167, 0, 4, 3, 96, 62, 132, 4, 1]
abbrev dktX4_counted_1 : List UInt8 := dkwX4_counted_1 ++ dktX4_counted_2
def dkwX4_counted_0 : List UInt8 := [3, 61, 3, 62, 3, 54, 4, 21, 4, 42, 180, 0, 35, 162, 0, 36, 28, 42, 21, 4, 6, 182, 0, 121]
abbrev dktX4_counted_0 : List UInt8 := dkwX4_counted_0 ++ dktX4_counted_1
theorem dksX4_counted_0 : cX4_counted.data.toList.drop 0 = dktX4_counted_0 := by decide +kernel
theorem dksX4_counted_1 : cX4_counted.data.toList.drop 24 = dktX4_counted_1 := dk_seg dksX4_counted_0 24 rfl rfl
theorem dksX4_counted_2 : cX4_counted.data.toList.drop 46 = dktX4_counted_2 := dk_seg dksX4_counted_1 22 rfl rfl
theorem dksX4_counted_3 : cX4_counted.data.toList.drop 70 = dktX4_counted_3 := dk_seg dksX4_counted_2 24 rfl rfl
theorem dksX4_counted_4 : cX4_counted.data.toList.drop 93 = dktX4_counted_4 := dk_seg dksX4_counted_3 23 rfl rfl
theorem dX4_counted_0 : decode cX4_counted 0 = .ok (.iconst 0, 1) := dk_3 (dk_at dksX4_counted_0 0 rfl rfl)
theorem dX4_counted_1 : decode cX4_counted 1 = .ok (.istore_n 2, 1) := dk_61 (dk_at dksX4_counted_0 1 rfl rfl)
theorem dX4_counted_2 : decode cX4_counted 2 = .ok (.iconst 0, 1) := dk_3 (dk_at dksX4_counted_0 2 rfl rfl)
theorem dX4_counted_3 : decode cX4_counted 3 = .ok (.istore_n 3, 1) := dk_62 (dk_at dksX4_counted_0 3 rfl rfl)
theorem dX4_counted_4 : decode cX4_counted 4 = .ok (.iconst 0, 1) := dk_3 (dk_at dksX4_counted_0 4 rfl rfl)
theorem dX4_counted_5 : decode cX4_counted 5 = .ok (.istore 4, 2) := dk_54 4 (dk_at dksX4_counted_0 5 rfl rfl)
theorem dX4_counted_7 : decode cX4_counted 7 = .ok (.iload 4, 2) := dk_21 4 (dk_at dksX4_counted_0 7 rfl rfl)
theorem dX4_counted_9 : decode cX4_counted 9 = .ok (.aload_n 0, 1) := dk_42 (dk_at dksX4_counted_0 9 rfl rfl)
theorem dX4_counted_10 : decode cX4_counted 10 = .ok (.getfield 35, 3) := dk_180 0 35 (dk_at dksX4_counted_0 10 rfl rfl)
theorem dX4_counted_13 : decode cX4_counted 13 = .ok (.if_icmp .ge 36, 3) := dk_162 0 36 (dk_at dksX4_counted_0 13 rfl rfl)
theorem dX4_counted_16 : decode cX4_counted 16 = .ok (.iload_n 2, 1) := dk_28 (dk_at dksX4_counted_0 16 rfl rfl)
theorem dX4_counted_17 : decode cX4_counted 17 = .ok (.aload_n 0, 1) := dk_42 (dk_at dksX4_counted_0 17 rfl rfl)
theorem dX4_counted_18 : decode cX4_counted 18 = .ok (.iload 4, 2) := dk_21 4 (dk_at dksX4_counted_0 18 rfl rfl)
theorem dX4_counted_20 : decode cX4_counted 20 = .ok (.iconst 3, 1) := dk_6 (dk_at dksX4_counted_0 20 rfl rfl)
theorem dX4_counted_21 : decode cX4_counted 21 = .ok (.invokevirtual 121, 3) := dk_182 0 121 (dk_at dksX4_counted_0 21 rfl rfl)
theorem dX4_counted_24 : decode cX4_counted 24 = .ok (.iadd, 1) := dk_96 (dk_at dksX4_counted_1 0 rfl rfl)
theorem dX4_counted_25 : decode cX4_counted 25 = .ok (.istore_n 2, 1) := dk_61 (dk_at dksX4_counted_1 1 rfl rfl)
theorem dX4_counted_26 : decode cX4_counted 26 = .ok (.iload_n 3, 1) := dk_29 (dk_at dksX4_counted_1 2 rfl rfl)
theorem dX4_counted_27 : decode cX4_counted 27 = .ok (.aload_n 0, 1) := dk_42 (dk_at dksX4_counted_1 3 rfl rfl)
theorem dX4_counted_28 : decode cX4_counted 28 = .ok (.iload 4, 2) := dk_21 4 (dk_at dksX4_counted_1 4 rfl rfl)
theorem dX4_counted_30 : decode cX4_counted 30 = .ok (.invokevirtual 118, 3) := dk_182 0 118 (dk_at dksX4_counted_1 6 rfl rfl)
theorem dX4_counted_33 : decode cX4_counted 33 = .ok (.ifCond .eq 7, 3) := dk_153 0 7 (dk_at dksX4_counted_1 9 rfl rfl)
theorem dX4_counted_36 : decode cX4_counted 36 = .ok (.iconst 1, 1) := dk_4 (dk_at dksX4_counted_1 12 rfl rfl)
theorem dX4_counted_37 : decode cX4_counted 37 = .ok (.goto 4, 3) := dk_167 0 4 (dk_at dksX4_counted_1 13 rfl rfl)
theorem dX4_counted_40 : decode cX4_counted 40 = .ok (.iconst 0, 1) := dk_3 (dk_at dksX4_counted_1 16 rfl rfl)
theorem dX4_counted_41 : decode cX4_counted 41 = .ok (.iadd, 1) := dk_96 (dk_at dksX4_counted_1 17 rfl rfl)
theorem dX4_counted_42 : decode cX4_counted 42 = .ok (.istore_n 3, 1) := dk_62 (dk_at dksX4_counted_1 18 rfl rfl)
theorem dX4_counted_43 : decode cX4_counted 43 = .ok (.iinc 4 1, 3) := dk_132 4 1 (dk_at dksX4_counted_1 19 rfl rfl)
theorem dX4_counted_46 : decode cX4_counted 46 = .ok (.goto (-39), 3) := dk_167 255 217 (dk_at dksX4_counted_2 0 rfl rfl)
theorem dX4_counted_49 : decode cX4_counted 49 = .ok (.bipush 7, 2) := dk_16 7 (dk_at dksX4_counted_2 3 rfl rfl)
theorem dX4_counted_51 : decode cX4_counted 51 = .ok (.newarray .int, 2) := dk_188_10 (dk_at dksX4_counted_2 5 rfl rfl)
theorem dX4_counted_53 : decode cX4_counted 53 = .ok (.dup, 1) := dk_89 (dk_at dksX4_counted_2 7 rfl rfl)
theorem dX4_counted_54 : decode cX4_counted 54 = .ok (.iconst 0, 1) := dk_3 (dk_at dksX4_counted_2 8 rfl rfl)
theorem dX4_counted_55 : decode cX4_counted 55 = .ok (.aload_n 0, 1) := dk_42 (dk_at dksX4_counted_2 9 rfl rfl)
theorem dX4_counted_56 : decode cX4_counted 56 = .ok (.getfield 7, 3) := dk_180 0 7 (dk_at dksX4_counted_2 10 rfl rfl)
theorem dX4_counted_59 : decode cX4_counted 59 = .ok (.iastore, 1) := dk_79 (dk_at dksX4_counted_2 13 rfl rfl)
theorem dX4_counted_60 : decode cX4_counted 60 = .ok (.dup, 1) := dk_89 (dk_at dksX4_counted_2 14 rfl rfl)
theorem dX4_counted_61 : decode cX4_counted 61 = .ok (.iconst 1, 1) := dk_4 (dk_at dksX4_counted_2 15 rfl rfl)
theorem dX4_counted_62 : decode cX4_counted 62 = .ok (.aload_n 0, 1) := dk_42 (dk_at dksX4_counted_2 16 rfl rfl)
theorem dX4_counted_63 : decode cX4_counted 63 = .ok (.getfield 35, 3) := dk_180 0 35 (dk_at dksX4_counted_2 17 rfl rfl)
theorem dX4_counted_66 : decode cX4_counted 66 = .ok (.iastore, 1) := dk_79 (dk_at dksX4_counted_2 20 rfl rfl)
theorem dX4_counted_67 : decode cX4_counted 67 = .ok (.dup, 1) := dk_89 (dk_at dksX4_counted_2 21 rfl rfl)
theorem dX4_counted_68 : decode cX4_counted 68 = .ok (.iconst 2, 1) := dk_5 (dk_at dksX4_counted_2 22 rfl rfl)
theorem dX4_counted_69 : decode cX4_counted 69 = .ok (.aload_n 0, 1) := dk_42 (dk_at dksX4_counted_2 23 rfl rfl)
theorem dX4_counted_70 : decode cX4_counted 70 = .ok (.getfield 22, 3) := dk_180 0 22 (dk_at dksX4_counted_3 0 rfl rfl)
theorem dX4_counted_73 : decode cX4_counted 73 = .ok (.aload_n 0, 1) := dk_42 (dk_at dksX4_counted_3 3 rfl rfl)
theorem dX4_counted_74 : decode cX4_counted 74 = .ok (.getfield 7, 3) := dk_180 0 7 (dk_at dksX4_counted_3 4 rfl rfl)
theorem dX4_counted_77 : decode cX4_counted 77 = .ok (.iconst (-1), 1) := dk_2 (dk_at dksX4_counted_3 7 rfl rfl)
theorem dX4_counted_78 : decode cX4_counted 78 = .ok (.invokestatic 74, 3) := dk_184 0 74 (dk_at dksX4_counted_3 8 rfl rfl)
theorem dX4_counted_81 : decode cX4_counted 81 = .ok (.iastore, 1) := dk_79 (dk_at dksX4_counted_3 11 rfl rfl)
theorem dX4_counted_82 : decode cX4_counted 82 = .ok (.dup, 1) := dk_89 (dk_at dksX4_counted_3 12 rfl rfl)
theorem dX4_counted_83 : decode cX4_counted 83 = .ok (.iconst 3, 1) := dk_6 (dk_at dksX4_counted_3 13 rfl rfl)
theorem dX4_counted_84 : decode cX4_counted 84 = .ok (.iload_n 2, 1) := dk_28 (dk_at dksX4_counted_3 14 rfl rfl)
theorem dX4_counted_85 : decode cX4_counted 85 = .ok (.iastore, 1) := dk_79 (dk_at dksX4_counted_3 15 rfl rfl)
theorem dX4_counted_86 : decode cX4_counted 86 = .ok (.dup, 1) := dk_89 (dk_at dksX4_counted_3 16 rfl rfl)
theorem dX4_counted_87 : decode cX4_counted 87 = .ok (.iconst 4, 1) := dk_7 (dk_at dksX4_counted_3 17 rfl rfl)
theorem dX4_counted_88 : decode cX4_counted 88 = .ok (.aload_n 0, 1) := dk_42 (dk_at dksX4_counted_3 18 rfl rfl)
theorem dX4_counted_89 : decode cX4_counted 89 = .ok (.aload_n 0, 1) := dk_42 (dk_at dksX4_counted_3 19 rfl rfl)
theorem dX4_counted_90 : decode cX4_counted 90 = .ok (.getfield 22, 3) := dk_180 0 22 (dk_at dksX4_counted_3 20 rfl rfl)
theorem dX4_counted_93 : decode cX4_counted 93 = .ok (.invokevirtual 124, 3) := dk_182 0 124 (dk_at dksX4_counted_4 0 rfl rfl)
theorem dX4_counted_96 : decode cX4_counted 96 = .ok (.iastore, 1) := dk_79 (dk_at dksX4_counted_4 3 rfl rfl)
theorem dX4_counted_97 : decode cX4_counted 97 = .ok (.dup, 1) := dk_89 (dk_at dksX4_counted_4 4 rfl rfl)
theorem dX4_counted_98 : decode cX4_counted 98 = .ok (.iconst 5, 1) := dk_8 (dk_at dksX4_counted_4 5 rfl rfl)
theorem dX4_counted_99 : decode cX4_counted 99 = .ok (.iload_n 3, 1) := dk_29 (dk_at dksX4_counted_4 6 rfl rfl)
theorem dX4_counted_100 : decode cX4_counted 100 = .ok (.iastore, 1) := dk_79 (dk_at dksX4_counted_4 7 rfl rfl)
theorem dX4_counted_101 : decode cX4_counted 101 = .ok (.dup, 1) := dk_89 (dk_at dksX4_counted_4 8 rfl rfl)
theorem dX4_counted_102 : decode cX4_counted 102 = .ok (.bipush 6, 2) := dk_16 6 (dk_at dksX4_counted_4 9 rfl rfl)
theorem dX4_counted_104 : decode cX4_counted 104 = .ok (.aload_n 0, 1) := dk_42 (dk_at dksX4_counted_4 11 rfl rfl)
theorem dX4_counted_105 : decode cX4_counted 105 = .ok (.getfield 111, 3) := dk_180 0 111 (dk_at dksX4_counted_4 12 rfl rfl)
theorem dX4_counted_108 : decode cX4_counted 108 = .ok (.iastore, 1) := dk_79 (dk_at dksX4_counted_4 15 rfl rfl)
theorem dX4_counted_109 : decode cX4_counted 109 = .ok (.astore 4, 2) := dk_58 4 (dk_at dksX4_counted_4 16 rfl rfl)
theorem dX4_counted_111 : decode cX4_counted 111 = .ok (.aload 4, 2) := dk_25 4 (dk_at dksX4_counted_4 18 rfl rfl)
theorem dX4_counted_113 : decode cX4_counted 113 = .ok (.iload_n 1, 1) := dk_27 (dk_at dksX4_counted_4 20 rfl rfl)
theorem dX4_counted_114 : decode cX4_counted 114 = .ok (.iaload, 1) := dk_46 (dk_at dksX4_counted_4 21 rfl rfl)
theorem dX4_counted_115 : decode cX4_counted 115 = .ok (.ireturn, 1) := dk_172 (dk_at dksX4_counted_4 22 rfl rfl)
abbrev cX4_allEnvy : ByteArray := prog_12_method_13_code
def yX4_allEnvy : MethodName := ⟨RX4, "allEnvy", "([I)I"⟩
def dkwX4_allEnvy_2 : List UInt8 := [172]
abbrev dktX4_allEnvy_2 : List UInt8 := dkwX4_allEnvy_2 ++ []
def dkwX4_allEnvy_1 : List UInt8 := [28, 42, 43, 29, 21, 4, 182, 0, 55, 96, 61, 132, 4, 1, 167, 255, 233, 132, 3, 1, 167, 255, 216, 28]
abbrev dktX4_allEnvy_1 : List UInt8 := dkwX4_allEnvy_1 ++ dktX4_allEnvy_2
def dkwX4_allEnvy_0 : List UInt8 := [3, 61, 3, 62, 29, 42, 180, 0, 35, 162, 0, 38, 3, 54, 4, 21, 4, 42, 180, 0, 35, 162, 0, 20]
abbrev dktX4_allEnvy_0 : List UInt8 := dkwX4_allEnvy_0 ++ dktX4_allEnvy_1
theorem dksX4_allEnvy_0 : cX4_allEnvy.data.toList.drop 0 = dktX4_allEnvy_0 := by decide +kernel
theorem dksX4_allEnvy_1 : cX4_allEnvy.data.toList.drop 24 = dktX4_allEnvy_1 := dk_seg dksX4_allEnvy_0 24 rfl rfl
theorem dksX4_allEnvy_2 : cX4_allEnvy.data.toList.drop 48 = dktX4_allEnvy_2 := dk_seg dksX4_allEnvy_1 24 rfl rfl
theorem dX4_allEnvy_0 : decode cX4_allEnvy 0 = .ok (.iconst 0, 1) := dk_3 (dk_at dksX4_allEnvy_0 0 rfl rfl)
theorem dX4_allEnvy_1 : decode cX4_allEnvy 1 = .ok (.istore_n 2, 1) := dk_61 (dk_at dksX4_allEnvy_0 1 rfl rfl)
theorem dX4_allEnvy_2 : decode cX4_allEnvy 2 = .ok (.iconst 0, 1) := dk_3 (dk_at dksX4_allEnvy_0 2 rfl rfl)
theorem dX4_allEnvy_3 : decode cX4_allEnvy 3 = .ok (.istore_n 3, 1) := dk_62 (dk_at dksX4_allEnvy_0 3 rfl rfl)
theorem dX4_allEnvy_4 : decode cX4_allEnvy 4 = .ok (.iload_n 3, 1) := dk_29 (dk_at dksX4_allEnvy_0 4 rfl rfl)
theorem dX4_allEnvy_5 : decode cX4_allEnvy 5 = .ok (.aload_n 0, 1) := dk_42 (dk_at dksX4_allEnvy_0 5 rfl rfl)
theorem dX4_allEnvy_6 : decode cX4_allEnvy 6 = .ok (.getfield 35, 3) := dk_180 0 35 (dk_at dksX4_allEnvy_0 6 rfl rfl)
theorem dX4_allEnvy_9 : decode cX4_allEnvy 9 = .ok (.if_icmp .ge 38, 3) := dk_162 0 38 (dk_at dksX4_allEnvy_0 9 rfl rfl)
theorem dX4_allEnvy_12 : decode cX4_allEnvy 12 = .ok (.iconst 0, 1) := dk_3 (dk_at dksX4_allEnvy_0 12 rfl rfl)
theorem dX4_allEnvy_13 : decode cX4_allEnvy 13 = .ok (.istore 4, 2) := dk_54 4 (dk_at dksX4_allEnvy_0 13 rfl rfl)
theorem dX4_allEnvy_15 : decode cX4_allEnvy 15 = .ok (.iload 4, 2) := dk_21 4 (dk_at dksX4_allEnvy_0 15 rfl rfl)
theorem dX4_allEnvy_17 : decode cX4_allEnvy 17 = .ok (.aload_n 0, 1) := dk_42 (dk_at dksX4_allEnvy_0 17 rfl rfl)
theorem dX4_allEnvy_18 : decode cX4_allEnvy 18 = .ok (.getfield 35, 3) := dk_180 0 35 (dk_at dksX4_allEnvy_0 18 rfl rfl)
theorem dX4_allEnvy_21 : decode cX4_allEnvy 21 = .ok (.if_icmp .ge 20, 3) := dk_162 0 20 (dk_at dksX4_allEnvy_0 21 rfl rfl)
theorem dX4_allEnvy_24 : decode cX4_allEnvy 24 = .ok (.iload_n 2, 1) := dk_28 (dk_at dksX4_allEnvy_1 0 rfl rfl)
theorem dX4_allEnvy_25 : decode cX4_allEnvy 25 = .ok (.aload_n 0, 1) := dk_42 (dk_at dksX4_allEnvy_1 1 rfl rfl)
theorem dX4_allEnvy_26 : decode cX4_allEnvy 26 = .ok (.aload_n 1, 1) := dk_43 (dk_at dksX4_allEnvy_1 2 rfl rfl)
theorem dX4_allEnvy_27 : decode cX4_allEnvy 27 = .ok (.iload_n 3, 1) := dk_29 (dk_at dksX4_allEnvy_1 3 rfl rfl)
theorem dX4_allEnvy_28 : decode cX4_allEnvy 28 = .ok (.iload 4, 2) := dk_21 4 (dk_at dksX4_allEnvy_1 4 rfl rfl)
theorem dX4_allEnvy_30 : decode cX4_allEnvy 30 = .ok (.invokevirtual 55, 3) := dk_182 0 55 (dk_at dksX4_allEnvy_1 6 rfl rfl)
theorem dX4_allEnvy_33 : decode cX4_allEnvy 33 = .ok (.iadd, 1) := dk_96 (dk_at dksX4_allEnvy_1 9 rfl rfl)
theorem dX4_allEnvy_34 : decode cX4_allEnvy 34 = .ok (.istore_n 2, 1) := dk_61 (dk_at dksX4_allEnvy_1 10 rfl rfl)
theorem dX4_allEnvy_35 : decode cX4_allEnvy 35 = .ok (.iinc 4 1, 3) := dk_132 4 1 (dk_at dksX4_allEnvy_1 11 rfl rfl)
theorem dX4_allEnvy_38 : decode cX4_allEnvy 38 = .ok (.goto (-23), 3) := dk_167 255 233 (dk_at dksX4_allEnvy_1 14 rfl rfl)
theorem dX4_allEnvy_41 : decode cX4_allEnvy 41 = .ok (.iinc 3 1, 3) := dk_132 3 1 (dk_at dksX4_allEnvy_1 17 rfl rfl)
theorem dX4_allEnvy_44 : decode cX4_allEnvy 44 = .ok (.goto (-40), 3) := dk_167 255 216 (dk_at dksX4_allEnvy_1 20 rfl rfl)
theorem dX4_allEnvy_47 : decode cX4_allEnvy 47 = .ok (.iload_n 2, 1) := dk_28 (dk_at dksX4_allEnvy_1 23 rfl rfl)
theorem dX4_allEnvy_48 : decode cX4_allEnvy 48 = .ok (.ireturn, 1) := dk_172 (dk_at dksX4_allEnvy_2 0 rfl rfl)
abbrev cX4_cuts : ByteArray := prog_12_method_40_code
def yX4_cuts : MethodName := ⟨RX4, "cuts", "(III)I"⟩
def dkwX4_cuts_2 : List UInt8 := [182, 0, 62, 167, 0, 8, 42, 5, 182, 0, 90, 172]
abbrev dktX4_cuts_2 : List UInt8 := dkwX4_cuts_2 ++ []
def dkwX4_cuts_1 : List UInt8 := [182, 0, 101, 153, 0, 25, 29, 3, 28, 4, 100, 184, 0, 38, 153, 0, 14, 42, 27, 3, 28, 29]
abbrev dktX4_cuts_1 : List UInt8 := dkwX4_cuts_1 ++ dktX4_cuts_2
def dkwX4_cuts_0 : List UInt8 := [42, 3, 181, 0, 32, 28, 4, 16, 8, 184, 0, 38, 154, 0, 9, 42, 4, 182, 0, 90, 172, 42, 27]
abbrev dktX4_cuts_0 : List UInt8 := dkwX4_cuts_0 ++ dktX4_cuts_1
theorem dksX4_cuts_0 : cX4_cuts.data.toList.drop 0 = dktX4_cuts_0 := by decide +kernel
theorem dksX4_cuts_1 : cX4_cuts.data.toList.drop 23 = dktX4_cuts_1 := dk_seg dksX4_cuts_0 23 rfl rfl
theorem dksX4_cuts_2 : cX4_cuts.data.toList.drop 45 = dktX4_cuts_2 := dk_seg dksX4_cuts_1 22 rfl rfl
theorem dX4_cuts_0 : decode cX4_cuts 0 = .ok (.aload_n 0, 1) := dk_42 (dk_at dksX4_cuts_0 0 rfl rfl)
theorem dX4_cuts_1 : decode cX4_cuts 1 = .ok (.iconst 0, 1) := dk_3 (dk_at dksX4_cuts_0 1 rfl rfl)
theorem dX4_cuts_2 : decode cX4_cuts 2 = .ok (.putfield 32, 3) := dk_181 0 32 (dk_at dksX4_cuts_0 2 rfl rfl)
theorem dX4_cuts_5 : decode cX4_cuts 5 = .ok (.iload_n 2, 1) := dk_28 (dk_at dksX4_cuts_0 5 rfl rfl)
theorem dX4_cuts_6 : decode cX4_cuts 6 = .ok (.iconst 1, 1) := dk_4 (dk_at dksX4_cuts_0 6 rfl rfl)
theorem dX4_cuts_7 : decode cX4_cuts 7 = .ok (.bipush 8, 2) := dk_16 8 (dk_at dksX4_cuts_0 7 rfl rfl)
theorem dX4_cuts_9 : decode cX4_cuts 9 = .ok (.invokestatic 38, 3) := dk_184 0 38 (dk_at dksX4_cuts_0 9 rfl rfl)
theorem dX4_cuts_12 : decode cX4_cuts 12 = .ok (.ifCond .ne 9, 3) := dk_154 0 9 (dk_at dksX4_cuts_0 12 rfl rfl)
theorem dX4_cuts_15 : decode cX4_cuts 15 = .ok (.aload_n 0, 1) := dk_42 (dk_at dksX4_cuts_0 15 rfl rfl)
theorem dX4_cuts_16 : decode cX4_cuts 16 = .ok (.iconst 1, 1) := dk_4 (dk_at dksX4_cuts_0 16 rfl rfl)
theorem dX4_cuts_17 : decode cX4_cuts 17 = .ok (.invokevirtual 90, 3) := dk_182 0 90 (dk_at dksX4_cuts_0 17 rfl rfl)
theorem dX4_cuts_20 : decode cX4_cuts 20 = .ok (.ireturn, 1) := dk_172 (dk_at dksX4_cuts_0 20 rfl rfl)
theorem dX4_cuts_21 : decode cX4_cuts 21 = .ok (.aload_n 0, 1) := dk_42 (dk_at dksX4_cuts_0 21 rfl rfl)
theorem dX4_cuts_22 : decode cX4_cuts 22 = .ok (.iload_n 1, 1) := dk_27 (dk_at dksX4_cuts_0 22 rfl rfl)
theorem dX4_cuts_23 : decode cX4_cuts 23 = .ok (.invokevirtual 101, 3) := dk_182 0 101 (dk_at dksX4_cuts_1 0 rfl rfl)
theorem dX4_cuts_26 : decode cX4_cuts 26 = .ok (.ifCond .eq 25, 3) := dk_153 0 25 (dk_at dksX4_cuts_1 3 rfl rfl)
theorem dX4_cuts_29 : decode cX4_cuts 29 = .ok (.iload_n 3, 1) := dk_29 (dk_at dksX4_cuts_1 6 rfl rfl)
theorem dX4_cuts_30 : decode cX4_cuts 30 = .ok (.iconst 0, 1) := dk_3 (dk_at dksX4_cuts_1 7 rfl rfl)
theorem dX4_cuts_31 : decode cX4_cuts 31 = .ok (.iload_n 2, 1) := dk_28 (dk_at dksX4_cuts_1 8 rfl rfl)
theorem dX4_cuts_32 : decode cX4_cuts 32 = .ok (.iconst 1, 1) := dk_4 (dk_at dksX4_cuts_1 9 rfl rfl)
theorem dX4_cuts_33 : decode cX4_cuts 33 = .ok (.isub, 1) := dk_100 (dk_at dksX4_cuts_1 10 rfl rfl)
theorem dX4_cuts_34 : decode cX4_cuts 34 = .ok (.invokestatic 38, 3) := dk_184 0 38 (dk_at dksX4_cuts_1 11 rfl rfl)
theorem dX4_cuts_37 : decode cX4_cuts 37 = .ok (.ifCond .eq 14, 3) := dk_153 0 14 (dk_at dksX4_cuts_1 14 rfl rfl)
theorem dX4_cuts_40 : decode cX4_cuts 40 = .ok (.aload_n 0, 1) := dk_42 (dk_at dksX4_cuts_1 17 rfl rfl)
theorem dX4_cuts_41 : decode cX4_cuts 41 = .ok (.iload_n 1, 1) := dk_27 (dk_at dksX4_cuts_1 18 rfl rfl)
theorem dX4_cuts_42 : decode cX4_cuts 42 = .ok (.iconst 0, 1) := dk_3 (dk_at dksX4_cuts_1 19 rfl rfl)
theorem dX4_cuts_43 : decode cX4_cuts 43 = .ok (.iload_n 2, 1) := dk_28 (dk_at dksX4_cuts_1 20 rfl rfl)
theorem dX4_cuts_44 : decode cX4_cuts 44 = .ok (.iload_n 3, 1) := dk_29 (dk_at dksX4_cuts_1 21 rfl rfl)
theorem dX4_cuts_45 : decode cX4_cuts 45 = .ok (.invokevirtual 62, 3) := dk_182 0 62 (dk_at dksX4_cuts_2 0 rfl rfl)
theorem dX4_cuts_48 : decode cX4_cuts 48 = .ok (.goto 8, 3) := dk_167 0 8 (dk_at dksX4_cuts_2 3 rfl rfl)
theorem dX4_cuts_51 : decode cX4_cuts 51 = .ok (.aload_n 0, 1) := dk_42 (dk_at dksX4_cuts_2 6 rfl rfl)
theorem dX4_cuts_52 : decode cX4_cuts 52 = .ok (.iconst 2, 1) := dk_5 (dk_at dksX4_cuts_2 7 rfl rfl)
theorem dX4_cuts_53 : decode cX4_cuts 53 = .ok (.invokevirtual 90, 3) := dk_182 0 90 (dk_at dksX4_cuts_2 8 rfl rfl)
theorem dX4_cuts_56 : decode cX4_cuts 56 = .ok (.ireturn, 1) := dk_172 (dk_at dksX4_cuts_2 11 rfl rfl)
abbrev cX4_would : ByteArray := prog_12_method_42_code
def yX4_would : MethodName := ⟨RX4, "would", "(I)I"⟩
def dkwX4_would_1 : List UInt8 := [182, 0, 90, 172]
abbrev dktX4_would_1 : List UInt8 := dkwX4_would_1 ++ []
def dkwX4_would_0 : List UInt8 := [42, 3, 181, 0, 32, 27, 3, 6, 184, 0, 38, 153, 0, 11, 42, 27, 182, 0, 131, 167, 0, 8, 42, 4]
abbrev dktX4_would_0 : List UInt8 := dkwX4_would_0 ++ dktX4_would_1
theorem dksX4_would_0 : cX4_would.data.toList.drop 0 = dktX4_would_0 := by decide +kernel
theorem dksX4_would_1 : cX4_would.data.toList.drop 24 = dktX4_would_1 := dk_seg dksX4_would_0 24 rfl rfl
theorem dX4_would_0 : decode cX4_would 0 = .ok (.aload_n 0, 1) := dk_42 (dk_at dksX4_would_0 0 rfl rfl)
theorem dX4_would_1 : decode cX4_would 1 = .ok (.iconst 0, 1) := dk_3 (dk_at dksX4_would_0 1 rfl rfl)
theorem dX4_would_2 : decode cX4_would 2 = .ok (.putfield 32, 3) := dk_181 0 32 (dk_at dksX4_would_0 2 rfl rfl)
theorem dX4_would_5 : decode cX4_would 5 = .ok (.iload_n 1, 1) := dk_27 (dk_at dksX4_would_0 5 rfl rfl)
theorem dX4_would_6 : decode cX4_would 6 = .ok (.iconst 0, 1) := dk_3 (dk_at dksX4_would_0 6 rfl rfl)
theorem dX4_would_7 : decode cX4_would 7 = .ok (.iconst 3, 1) := dk_6 (dk_at dksX4_would_0 7 rfl rfl)
theorem dX4_would_8 : decode cX4_would 8 = .ok (.invokestatic 38, 3) := dk_184 0 38 (dk_at dksX4_would_0 8 rfl rfl)
theorem dX4_would_11 : decode cX4_would 11 = .ok (.ifCond .eq 11, 3) := dk_153 0 11 (dk_at dksX4_would_0 11 rfl rfl)
theorem dX4_would_14 : decode cX4_would 14 = .ok (.aload_n 0, 1) := dk_42 (dk_at dksX4_would_0 14 rfl rfl)
theorem dX4_would_15 : decode cX4_would 15 = .ok (.iload_n 1, 1) := dk_27 (dk_at dksX4_would_0 15 rfl rfl)
theorem dX4_would_16 : decode cX4_would 16 = .ok (.invokevirtual 131, 3) := dk_182 0 131 (dk_at dksX4_would_0 16 rfl rfl)
theorem dX4_would_19 : decode cX4_would 19 = .ok (.goto 8, 3) := dk_167 0 8 (dk_at dksX4_would_0 19 rfl rfl)
theorem dX4_would_22 : decode cX4_would 22 = .ok (.aload_n 0, 1) := dk_42 (dk_at dksX4_would_0 22 rfl rfl)
theorem dX4_would_23 : decode cX4_would 23 = .ok (.iconst 1, 1) := dk_4 (dk_at dksX4_would_0 23 rfl rfl)
theorem dX4_would_24 : decode cX4_would 24 = .ok (.invokevirtual 90, 3) := dk_182 0 90 (dk_at dksX4_would_1 0 rfl rfl)
theorem dX4_would_27 : decode cX4_would 27 = .ok (.ireturn, 1) := dk_172 (dk_at dksX4_would_1 3 rfl rfl)
abbrev cX4_tried : ByteArray := prog_12_method_41_code
def yX4_tried : MethodName := ⟨RX4, "tried", "(I)I"⟩
def dkwX4_tried_1 : List UInt8 := [42, 180, 0, 25, 182, 0, 124, 172]
abbrev dktX4_tried_1 : List UInt8 := dkwX4_tried_1 ++ []
def dkwX4_tried_0 : List UInt8 := [42, 180, 0, 35, 178, 0, 104, 27, 46, 162, 0, 5, 2, 172, 42, 42, 180, 0, 25, 27, 182, 0, 107, 42]
abbrev dktX4_tried_0 : List UInt8 := dkwX4_tried_0 ++ dktX4_tried_1
theorem dksX4_tried_0 : cX4_tried.data.toList.drop 0 = dktX4_tried_0 := by decide +kernel
theorem dksX4_tried_1 : cX4_tried.data.toList.drop 24 = dktX4_tried_1 := dk_seg dksX4_tried_0 24 rfl rfl
theorem dX4_tried_0 : decode cX4_tried 0 = .ok (.aload_n 0, 1) := dk_42 (dk_at dksX4_tried_0 0 rfl rfl)
theorem dX4_tried_1 : decode cX4_tried 1 = .ok (.getfield 35, 3) := dk_180 0 35 (dk_at dksX4_tried_0 1 rfl rfl)
theorem dX4_tried_4 : decode cX4_tried 4 = .ok (.getstatic 104, 3) := dk_178 0 104 (dk_at dksX4_tried_0 4 rfl rfl)
theorem dX4_tried_7 : decode cX4_tried 7 = .ok (.iload_n 1, 1) := dk_27 (dk_at dksX4_tried_0 7 rfl rfl)
theorem dX4_tried_8 : decode cX4_tried 8 = .ok (.iaload, 1) := dk_46 (dk_at dksX4_tried_0 8 rfl rfl)
theorem dX4_tried_9 : decode cX4_tried 9 = .ok (.if_icmp .ge 5, 3) := dk_162 0 5 (dk_at dksX4_tried_0 9 rfl rfl)
theorem dX4_tried_12 : decode cX4_tried 12 = .ok (.iconst (-1), 1) := dk_2 (dk_at dksX4_tried_0 12 rfl rfl)
theorem dX4_tried_13 : decode cX4_tried 13 = .ok (.ireturn, 1) := dk_172 (dk_at dksX4_tried_0 13 rfl rfl)
theorem dX4_tried_14 : decode cX4_tried 14 = .ok (.aload_n 0, 1) := dk_42 (dk_at dksX4_tried_0 14 rfl rfl)
theorem dX4_tried_15 : decode cX4_tried 15 = .ok (.aload_n 0, 1) := dk_42 (dk_at dksX4_tried_0 15 rfl rfl)
theorem dX4_tried_16 : decode cX4_tried 16 = .ok (.getfield 25, 3) := dk_180 0 25 (dk_at dksX4_tried_0 16 rfl rfl)
theorem dX4_tried_19 : decode cX4_tried 19 = .ok (.iload_n 1, 1) := dk_27 (dk_at dksX4_tried_0 19 rfl rfl)
theorem dX4_tried_20 : decode cX4_tried 20 = .ok (.invokevirtual 107, 3) := dk_182 0 107 (dk_at dksX4_tried_0 20 rfl rfl)
theorem dX4_tried_23 : decode cX4_tried 23 = .ok (.aload_n 0, 1) := dk_42 (dk_at dksX4_tried_0 23 rfl rfl)
theorem dX4_tried_24 : decode cX4_tried 24 = .ok (.aload_n 0, 1) := dk_42 (dk_at dksX4_tried_1 0 rfl rfl)
theorem dX4_tried_25 : decode cX4_tried 25 = .ok (.getfield 25, 3) := dk_180 0 25 (dk_at dksX4_tried_1 1 rfl rfl)
theorem dX4_tried_28 : decode cX4_tried 28 = .ok (.invokevirtual 124, 3) := dk_182 0 124 (dk_at dksX4_tried_1 4 rfl rfl)
theorem dX4_tried_31 : decode cX4_tried 31 = .ok (.ireturn, 1) := dk_172 (dk_at dksX4_tried_1 7 rfl rfl)
abbrev cX4_best_2 : ByteArray := prog_12_method_43_code
def yX4_best_2 : MethodName := ⟨RX4, "best", "()I"⟩
def dkwX4_best_2_2 : List UInt8 := [61, 132, 3, 1, 167, 255, 216, 27, 172]
abbrev dktX4_best_2_2 : List UInt8 := dkwX4_best_2_2 ++ []
def dkwX4_best_2_1 : List UInt8 := [21, 4, 2, 159, 0, 22, 27, 2, 159, 0, 12, 21, 4, 28, 161, 0, 6, 167, 0, 8, 29, 60, 21, 4]
abbrev dktX4_best_2_1 : List UInt8 := dkwX4_best_2_1 ++ dktX4_best_2_2
def dkwX4_best_2_0 : List UInt8 := [42, 3, 181, 0, 32, 2, 60, 2, 61, 3, 62, 29, 7, 162, 0, 41, 42, 29, 182, 0, 131, 54, 4]
abbrev dktX4_best_2_0 : List UInt8 := dkwX4_best_2_0 ++ dktX4_best_2_1
theorem dksX4_best_2_0 : cX4_best_2.data.toList.drop 0 = dktX4_best_2_0 := by decide +kernel
theorem dksX4_best_2_1 : cX4_best_2.data.toList.drop 23 = dktX4_best_2_1 := dk_seg dksX4_best_2_0 23 rfl rfl
theorem dksX4_best_2_2 : cX4_best_2.data.toList.drop 47 = dktX4_best_2_2 := dk_seg dksX4_best_2_1 24 rfl rfl
theorem dX4_best_2_0 : decode cX4_best_2 0 = .ok (.aload_n 0, 1) := dk_42 (dk_at dksX4_best_2_0 0 rfl rfl)
theorem dX4_best_2_1 : decode cX4_best_2 1 = .ok (.iconst 0, 1) := dk_3 (dk_at dksX4_best_2_0 1 rfl rfl)
theorem dX4_best_2_2 : decode cX4_best_2 2 = .ok (.putfield 32, 3) := dk_181 0 32 (dk_at dksX4_best_2_0 2 rfl rfl)
theorem dX4_best_2_5 : decode cX4_best_2 5 = .ok (.iconst (-1), 1) := dk_2 (dk_at dksX4_best_2_0 5 rfl rfl)
theorem dX4_best_2_6 : decode cX4_best_2 6 = .ok (.istore_n 1, 1) := dk_60 (dk_at dksX4_best_2_0 6 rfl rfl)
theorem dX4_best_2_7 : decode cX4_best_2 7 = .ok (.iconst (-1), 1) := dk_2 (dk_at dksX4_best_2_0 7 rfl rfl)
theorem dX4_best_2_8 : decode cX4_best_2 8 = .ok (.istore_n 2, 1) := dk_61 (dk_at dksX4_best_2_0 8 rfl rfl)
theorem dX4_best_2_9 : decode cX4_best_2 9 = .ok (.iconst 0, 1) := dk_3 (dk_at dksX4_best_2_0 9 rfl rfl)
theorem dX4_best_2_10 : decode cX4_best_2 10 = .ok (.istore_n 3, 1) := dk_62 (dk_at dksX4_best_2_0 10 rfl rfl)
theorem dX4_best_2_11 : decode cX4_best_2 11 = .ok (.iload_n 3, 1) := dk_29 (dk_at dksX4_best_2_0 11 rfl rfl)
theorem dX4_best_2_12 : decode cX4_best_2 12 = .ok (.iconst 4, 1) := dk_7 (dk_at dksX4_best_2_0 12 rfl rfl)
theorem dX4_best_2_13 : decode cX4_best_2 13 = .ok (.if_icmp .ge 41, 3) := dk_162 0 41 (dk_at dksX4_best_2_0 13 rfl rfl)
theorem dX4_best_2_16 : decode cX4_best_2 16 = .ok (.aload_n 0, 1) := dk_42 (dk_at dksX4_best_2_0 16 rfl rfl)
theorem dX4_best_2_17 : decode cX4_best_2 17 = .ok (.iload_n 3, 1) := dk_29 (dk_at dksX4_best_2_0 17 rfl rfl)
theorem dX4_best_2_18 : decode cX4_best_2 18 = .ok (.invokevirtual 131, 3) := dk_182 0 131 (dk_at dksX4_best_2_0 18 rfl rfl)
theorem dX4_best_2_21 : decode cX4_best_2 21 = .ok (.istore 4, 2) := dk_54 4 (dk_at dksX4_best_2_0 21 rfl rfl)
theorem dX4_best_2_23 : decode cX4_best_2 23 = .ok (.iload 4, 2) := dk_21 4 (dk_at dksX4_best_2_1 0 rfl rfl)
theorem dX4_best_2_25 : decode cX4_best_2 25 = .ok (.iconst (-1), 1) := dk_2 (dk_at dksX4_best_2_1 2 rfl rfl)
theorem dX4_best_2_26 : decode cX4_best_2 26 = .ok (.if_icmp .eq 22, 3) := dk_159 0 22 (dk_at dksX4_best_2_1 3 rfl rfl)
theorem dX4_best_2_29 : decode cX4_best_2 29 = .ok (.iload_n 1, 1) := dk_27 (dk_at dksX4_best_2_1 6 rfl rfl)
theorem dX4_best_2_30 : decode cX4_best_2 30 = .ok (.iconst (-1), 1) := dk_2 (dk_at dksX4_best_2_1 7 rfl rfl)
theorem dX4_best_2_31 : decode cX4_best_2 31 = .ok (.if_icmp .eq 12, 3) := dk_159 0 12 (dk_at dksX4_best_2_1 8 rfl rfl)
theorem dX4_best_2_34 : decode cX4_best_2 34 = .ok (.iload 4, 2) := dk_21 4 (dk_at dksX4_best_2_1 11 rfl rfl)
theorem dX4_best_2_36 : decode cX4_best_2 36 = .ok (.iload_n 2, 1) := dk_28 (dk_at dksX4_best_2_1 13 rfl rfl)
theorem dX4_best_2_37 : decode cX4_best_2 37 = .ok (.if_icmp .lt 6, 3) := dk_161 0 6 (dk_at dksX4_best_2_1 14 rfl rfl)
theorem dX4_best_2_40 : decode cX4_best_2 40 = .ok (.goto 8, 3) := dk_167 0 8 (dk_at dksX4_best_2_1 17 rfl rfl)
theorem dX4_best_2_43 : decode cX4_best_2 43 = .ok (.iload_n 3, 1) := dk_29 (dk_at dksX4_best_2_1 20 rfl rfl)
theorem dX4_best_2_44 : decode cX4_best_2 44 = .ok (.istore_n 1, 1) := dk_60 (dk_at dksX4_best_2_1 21 rfl rfl)
theorem dX4_best_2_45 : decode cX4_best_2 45 = .ok (.iload 4, 2) := dk_21 4 (dk_at dksX4_best_2_1 22 rfl rfl)
theorem dX4_best_2_47 : decode cX4_best_2 47 = .ok (.istore_n 2, 1) := dk_61 (dk_at dksX4_best_2_2 0 rfl rfl)
theorem dX4_best_2_48 : decode cX4_best_2 48 = .ok (.iinc 3 1, 3) := dk_132 3 1 (dk_at dksX4_best_2_2 1 rfl rfl)
theorem dX4_best_2_51 : decode cX4_best_2 51 = .ok (.goto (-40), 3) := dk_167 255 216 (dk_at dksX4_best_2_2 4 rfl rfl)
theorem dX4_best_2_54 : decode cX4_best_2 54 = .ok (.iload_n 1, 1) := dk_27 (dk_at dksX4_best_2_2 7 rfl rfl)
theorem dX4_best_2_55 : decode cX4_best_2 55 = .ok (.ireturn, 1) := dk_172 (dk_at dksX4_best_2_2 8 rfl rfl)
abbrev cX4_change : ByteArray := prog_12_method_44_code
def yX4_change : MethodName := ⟨RX4, "change", "()I"⟩
def dkwX4_change_2 : List UInt8 := [167, 255, 229, 132, 1, 1, 167, 255, 211, 2, 172]
abbrev dktX4_change_2 : List UInt8 := dkwX4_change_2 ++ []
def dkwX4_change_1 : List UInt8 := [162, 0, 25, 42, 27, 28, 182, 0, 114, 153, 0, 10, 16, 10, 27, 104, 28, 96, 172, 132, 2, 1]
abbrev dktX4_change_1 : List UInt8 := dkwX4_change_1 ++ dktX4_change_2
def dkwX4_change_0 : List UInt8 := [42, 3, 181, 0, 32, 3, 60, 27, 42, 180, 0, 35, 162, 0, 43, 27, 4, 96, 61, 28, 42, 180, 0, 35]
abbrev dktX4_change_0 : List UInt8 := dkwX4_change_0 ++ dktX4_change_1
theorem dksX4_change_0 : cX4_change.data.toList.drop 0 = dktX4_change_0 := by decide +kernel
theorem dksX4_change_1 : cX4_change.data.toList.drop 24 = dktX4_change_1 := dk_seg dksX4_change_0 24 rfl rfl
theorem dksX4_change_2 : cX4_change.data.toList.drop 46 = dktX4_change_2 := dk_seg dksX4_change_1 22 rfl rfl
theorem dX4_change_0 : decode cX4_change 0 = .ok (.aload_n 0, 1) := dk_42 (dk_at dksX4_change_0 0 rfl rfl)
theorem dX4_change_1 : decode cX4_change 1 = .ok (.iconst 0, 1) := dk_3 (dk_at dksX4_change_0 1 rfl rfl)
theorem dX4_change_2 : decode cX4_change 2 = .ok (.putfield 32, 3) := dk_181 0 32 (dk_at dksX4_change_0 2 rfl rfl)
theorem dX4_change_5 : decode cX4_change 5 = .ok (.iconst 0, 1) := dk_3 (dk_at dksX4_change_0 5 rfl rfl)
theorem dX4_change_6 : decode cX4_change 6 = .ok (.istore_n 1, 1) := dk_60 (dk_at dksX4_change_0 6 rfl rfl)
theorem dX4_change_7 : decode cX4_change 7 = .ok (.iload_n 1, 1) := dk_27 (dk_at dksX4_change_0 7 rfl rfl)
theorem dX4_change_8 : decode cX4_change 8 = .ok (.aload_n 0, 1) := dk_42 (dk_at dksX4_change_0 8 rfl rfl)
theorem dX4_change_9 : decode cX4_change 9 = .ok (.getfield 35, 3) := dk_180 0 35 (dk_at dksX4_change_0 9 rfl rfl)
theorem dX4_change_12 : decode cX4_change 12 = .ok (.if_icmp .ge 43, 3) := dk_162 0 43 (dk_at dksX4_change_0 12 rfl rfl)
theorem dX4_change_15 : decode cX4_change 15 = .ok (.iload_n 1, 1) := dk_27 (dk_at dksX4_change_0 15 rfl rfl)
theorem dX4_change_16 : decode cX4_change 16 = .ok (.iconst 1, 1) := dk_4 (dk_at dksX4_change_0 16 rfl rfl)
theorem dX4_change_17 : decode cX4_change 17 = .ok (.iadd, 1) := dk_96 (dk_at dksX4_change_0 17 rfl rfl)
theorem dX4_change_18 : decode cX4_change 18 = .ok (.istore_n 2, 1) := dk_61 (dk_at dksX4_change_0 18 rfl rfl)
theorem dX4_change_19 : decode cX4_change 19 = .ok (.iload_n 2, 1) := dk_28 (dk_at dksX4_change_0 19 rfl rfl)
theorem dX4_change_20 : decode cX4_change 20 = .ok (.aload_n 0, 1) := dk_42 (dk_at dksX4_change_0 20 rfl rfl)
theorem dX4_change_21 : decode cX4_change 21 = .ok (.getfield 35, 3) := dk_180 0 35 (dk_at dksX4_change_0 21 rfl rfl)
theorem dX4_change_24 : decode cX4_change 24 = .ok (.if_icmp .ge 25, 3) := dk_162 0 25 (dk_at dksX4_change_1 0 rfl rfl)
theorem dX4_change_27 : decode cX4_change 27 = .ok (.aload_n 0, 1) := dk_42 (dk_at dksX4_change_1 3 rfl rfl)
theorem dX4_change_28 : decode cX4_change 28 = .ok (.iload_n 1, 1) := dk_27 (dk_at dksX4_change_1 4 rfl rfl)
theorem dX4_change_29 : decode cX4_change 29 = .ok (.iload_n 2, 1) := dk_28 (dk_at dksX4_change_1 5 rfl rfl)
theorem dX4_change_30 : decode cX4_change 30 = .ok (.invokevirtual 114, 3) := dk_182 0 114 (dk_at dksX4_change_1 6 rfl rfl)
theorem dX4_change_33 : decode cX4_change 33 = .ok (.ifCond .eq 10, 3) := dk_153 0 10 (dk_at dksX4_change_1 9 rfl rfl)
theorem dX4_change_36 : decode cX4_change 36 = .ok (.bipush 10, 2) := dk_16 10 (dk_at dksX4_change_1 12 rfl rfl)
theorem dX4_change_38 : decode cX4_change 38 = .ok (.iload_n 1, 1) := dk_27 (dk_at dksX4_change_1 14 rfl rfl)
theorem dX4_change_39 : decode cX4_change 39 = .ok (.imul, 1) := dk_104 (dk_at dksX4_change_1 15 rfl rfl)
theorem dX4_change_40 : decode cX4_change 40 = .ok (.iload_n 2, 1) := dk_28 (dk_at dksX4_change_1 16 rfl rfl)
theorem dX4_change_41 : decode cX4_change 41 = .ok (.iadd, 1) := dk_96 (dk_at dksX4_change_1 17 rfl rfl)
theorem dX4_change_42 : decode cX4_change 42 = .ok (.ireturn, 1) := dk_172 (dk_at dksX4_change_1 18 rfl rfl)
theorem dX4_change_43 : decode cX4_change 43 = .ok (.iinc 2 1, 3) := dk_132 2 1 (dk_at dksX4_change_1 19 rfl rfl)
theorem dX4_change_46 : decode cX4_change 46 = .ok (.goto (-27), 3) := dk_167 255 229 (dk_at dksX4_change_2 0 rfl rfl)
theorem dX4_change_49 : decode cX4_change 49 = .ok (.iinc 1 1, 3) := dk_132 1 1 (dk_at dksX4_change_2 3 rfl rfl)
theorem dX4_change_52 : decode cX4_change 52 = .ok (.goto (-45), 3) := dk_167 255 211 (dk_at dksX4_change_2 6 rfl rfl)
theorem dX4_change_55 : decode cX4_change 55 = .ok (.iconst (-1), 1) := dk_2 (dk_at dksX4_change_2 9 rfl rfl)
theorem dX4_change_56 : decode cX4_change 56 = .ok (.ireturn, 1) := dk_172 (dk_at dksX4_change_2 10 rfl rfl)
abbrev cX4_mean : ByteArray := prog_12_method_45_code
def yX4_mean : MethodName := ⟨RX4, "mean", "()D"⟩
def dkwX4_mean_2 : List UInt8 := [135, 42, 180, 0, 35, 135, 111, 175]
abbrev dktX4_mean_2 : List UInt8 := dkwX4_mean_2 ++ []
def dkwX4_mean_1 : List UInt8 := [28, 182, 0, 46, 96, 60, 132, 2, 1, 167, 255, 232, 42, 180, 0, 35, 154, 0, 7, 14, 167, 0, 11, 27]
abbrev dktX4_mean_1 : List UInt8 := dkwX4_mean_1 ++ dktX4_mean_2
def dkwX4_mean_0 : List UInt8 := [42, 3, 181, 0, 32, 3, 60, 3, 61, 28, 42, 180, 0, 35, 162, 0, 22, 27, 42, 42, 180, 0, 22, 28]
abbrev dktX4_mean_0 : List UInt8 := dkwX4_mean_0 ++ dktX4_mean_1
theorem dksX4_mean_0 : cX4_mean.data.toList.drop 0 = dktX4_mean_0 := by decide +kernel
theorem dksX4_mean_1 : cX4_mean.data.toList.drop 24 = dktX4_mean_1 := dk_seg dksX4_mean_0 24 rfl rfl
theorem dksX4_mean_2 : cX4_mean.data.toList.drop 48 = dktX4_mean_2 := dk_seg dksX4_mean_1 24 rfl rfl
theorem dX4_mean_0 : decode cX4_mean 0 = .ok (.aload_n 0, 1) := dk_42 (dk_at dksX4_mean_0 0 rfl rfl)
theorem dX4_mean_1 : decode cX4_mean 1 = .ok (.iconst 0, 1) := dk_3 (dk_at dksX4_mean_0 1 rfl rfl)
theorem dX4_mean_2 : decode cX4_mean 2 = .ok (.putfield 32, 3) := dk_181 0 32 (dk_at dksX4_mean_0 2 rfl rfl)
theorem dX4_mean_5 : decode cX4_mean 5 = .ok (.iconst 0, 1) := dk_3 (dk_at dksX4_mean_0 5 rfl rfl)
theorem dX4_mean_6 : decode cX4_mean 6 = .ok (.istore_n 1, 1) := dk_60 (dk_at dksX4_mean_0 6 rfl rfl)
theorem dX4_mean_7 : decode cX4_mean 7 = .ok (.iconst 0, 1) := dk_3 (dk_at dksX4_mean_0 7 rfl rfl)
theorem dX4_mean_8 : decode cX4_mean 8 = .ok (.istore_n 2, 1) := dk_61 (dk_at dksX4_mean_0 8 rfl rfl)
theorem dX4_mean_9 : decode cX4_mean 9 = .ok (.iload_n 2, 1) := dk_28 (dk_at dksX4_mean_0 9 rfl rfl)
theorem dX4_mean_10 : decode cX4_mean 10 = .ok (.aload_n 0, 1) := dk_42 (dk_at dksX4_mean_0 10 rfl rfl)
theorem dX4_mean_11 : decode cX4_mean 11 = .ok (.getfield 35, 3) := dk_180 0 35 (dk_at dksX4_mean_0 11 rfl rfl)
theorem dX4_mean_14 : decode cX4_mean 14 = .ok (.if_icmp .ge 22, 3) := dk_162 0 22 (dk_at dksX4_mean_0 14 rfl rfl)
theorem dX4_mean_17 : decode cX4_mean 17 = .ok (.iload_n 1, 1) := dk_27 (dk_at dksX4_mean_0 17 rfl rfl)
theorem dX4_mean_18 : decode cX4_mean 18 = .ok (.aload_n 0, 1) := dk_42 (dk_at dksX4_mean_0 18 rfl rfl)
theorem dX4_mean_19 : decode cX4_mean 19 = .ok (.aload_n 0, 1) := dk_42 (dk_at dksX4_mean_0 19 rfl rfl)
theorem dX4_mean_20 : decode cX4_mean 20 = .ok (.getfield 22, 3) := dk_180 0 22 (dk_at dksX4_mean_0 20 rfl rfl)
theorem dX4_mean_23 : decode cX4_mean 23 = .ok (.iload_n 2, 1) := dk_28 (dk_at dksX4_mean_0 23 rfl rfl)
theorem dX4_mean_24 : decode cX4_mean 24 = .ok (.iload_n 2, 1) := dk_28 (dk_at dksX4_mean_1 0 rfl rfl)
theorem dX4_mean_25 : decode cX4_mean 25 = .ok (.invokevirtual 46, 3) := dk_182 0 46 (dk_at dksX4_mean_1 1 rfl rfl)
theorem dX4_mean_28 : decode cX4_mean 28 = .ok (.iadd, 1) := dk_96 (dk_at dksX4_mean_1 4 rfl rfl)
theorem dX4_mean_29 : decode cX4_mean 29 = .ok (.istore_n 1, 1) := dk_60 (dk_at dksX4_mean_1 5 rfl rfl)
theorem dX4_mean_30 : decode cX4_mean 30 = .ok (.iinc 2 1, 3) := dk_132 2 1 (dk_at dksX4_mean_1 6 rfl rfl)
theorem dX4_mean_33 : decode cX4_mean 33 = .ok (.goto (-24), 3) := dk_167 255 232 (dk_at dksX4_mean_1 9 rfl rfl)
theorem dX4_mean_36 : decode cX4_mean 36 = .ok (.aload_n 0, 1) := dk_42 (dk_at dksX4_mean_1 12 rfl rfl)
theorem dX4_mean_37 : decode cX4_mean 37 = .ok (.getfield 35, 3) := dk_180 0 35 (dk_at dksX4_mean_1 13 rfl rfl)
theorem dX4_mean_40 : decode cX4_mean 40 = .ok (.ifCond .ne 7, 3) := dk_154 0 7 (dk_at dksX4_mean_1 16 rfl rfl)
theorem dX4_mean_43 : decode cX4_mean 43 = .ok (.dconst 0, 1) := dk_14 (dk_at dksX4_mean_1 19 rfl rfl)
theorem dX4_mean_44 : decode cX4_mean 44 = .ok (.goto 11, 3) := dk_167 0 11 (dk_at dksX4_mean_1 20 rfl rfl)
theorem dX4_mean_47 : decode cX4_mean 47 = .ok (.iload_n 1, 1) := dk_27 (dk_at dksX4_mean_1 23 rfl rfl)
theorem dX4_mean_48 : decode cX4_mean 48 = .ok (.i2d, 1) := dk_135 (dk_at dksX4_mean_2 0 rfl rfl)
theorem dX4_mean_49 : decode cX4_mean 49 = .ok (.aload_n 0, 1) := dk_42 (dk_at dksX4_mean_2 1 rfl rfl)
theorem dX4_mean_50 : decode cX4_mean 50 = .ok (.getfield 35, 3) := dk_180 0 35 (dk_at dksX4_mean_2 2 rfl rfl)
theorem dX4_mean_53 : decode cX4_mean 53 = .ok (.i2d, 1) := dk_135 (dk_at dksX4_mean_2 5 rfl rfl)
theorem dX4_mean_54 : decode cX4_mean 54 = .ok (.ddiv, 1) := dk_111 (dk_at dksX4_mean_2 6 rfl rfl)
theorem dX4_mean_55 : decode cX4_mean 55 = .ok (.dreturn, 1) := dk_175 (dk_at dksX4_mean_2 7 rfl rfl)
abbrev cX4_digest : ByteArray := prog_12_method_46_code
def yX4_digest : MethodName := ⟨RX4, "digest", "()J"⟩
def dkwX4_digest_8 : List UInt8 := [21, 4, 182, 0, 46, 133, 97, 64, 132, 4, 1, 167, 255, 225, 132, 3, 1, 167, 255, 132, 31, 173]
abbrev dktX4_digest_8 : List UInt8 := dkwX4_digest_8 ++ []
def dkwX4_digest_7 : List UInt8 := [3, 54, 4, 21, 4, 42, 180, 0, 35, 162, 0, 28, 31, 20, 0, 136, 105, 42, 42, 180, 0, 22, 29]
abbrev dktX4_digest_7 : List UInt8 := dkwX4_digest_7 ++ dktX4_digest_8
def dkwX4_digest_6 : List UInt8 := [163, 0, 24, 31, 20, 0, 136, 105, 42, 29, 21, 4, 182, 0, 121, 133, 97, 64, 132, 4, 1, 167, 255, 232]
abbrev dktX4_digest_6 : List UInt8 := dkwX4_digest_6 ++ dktX4_digest_7
def dkwX4_digest_5 : List UInt8 := [31, 20, 0, 136, 105, 21, 7, 133, 97, 64, 132, 6, 1, 167, 255, 229, 3, 54, 4, 21, 4, 8]
abbrev dktX4_digest_5 : List UInt8 := dkwX4_digest_5 ++ dktX4_digest_6
def dkwX4_digest_4 : List UInt8 := [58, 4, 25, 4, 190, 54, 5, 3, 54, 6, 21, 6, 21, 5, 162, 0, 26, 25, 4, 21, 6, 46, 54, 7]
abbrev dktX4_digest_4 : List UInt8 := dkwX4_digest_4 ++ dktX4_digest_5
def dkwX4_digest_3 : List UInt8 := [64, 132, 3, 1, 167, 255, 219, 3, 62, 29, 42, 180, 0, 35, 162, 0, 122, 42, 180, 0, 19, 29, 50]
abbrev dktX4_digest_3 : List UInt8 := dkwX4_digest_3 ++ dktX4_digest_4
def dkwX4_digest_2 : List UInt8 := [20, 0, 136, 105, 42, 180, 0, 13, 29, 46, 133, 97, 20, 0, 136, 105, 42, 180, 0, 22, 29, 46, 133, 97]
abbrev dktX4_digest_2 : List UInt8 := dkwX4_digest_2 ++ dktX4_digest_3
def dkwX4_digest_1 : List UInt8 := [182, 0, 128, 133, 97, 64, 132, 3, 1, 167, 255, 234, 3, 62, 29, 42, 180, 0, 7, 162, 0, 35, 31]
abbrev dktX4_digest_1 : List UInt8 := dkwX4_digest_1 ++ dktX4_digest_2
def dkwX4_digest_0 : List UInt8 := [42, 3, 181, 0, 32, 20, 0, 134, 64, 3, 62, 29, 16, 6, 163, 0, 22, 31, 20, 0, 136, 105, 42, 29]
abbrev dktX4_digest_0 : List UInt8 := dkwX4_digest_0 ++ dktX4_digest_1
theorem dksX4_digest_0 : cX4_digest.data.toList.drop 0 = dktX4_digest_0 := by decide +kernel
theorem dksX4_digest_1 : cX4_digest.data.toList.drop 24 = dktX4_digest_1 := dk_seg dksX4_digest_0 24 rfl rfl
theorem dksX4_digest_2 : cX4_digest.data.toList.drop 47 = dktX4_digest_2 := dk_seg dksX4_digest_1 23 rfl rfl
theorem dksX4_digest_3 : cX4_digest.data.toList.drop 71 = dktX4_digest_3 := dk_seg dksX4_digest_2 24 rfl rfl
theorem dksX4_digest_4 : cX4_digest.data.toList.drop 94 = dktX4_digest_4 := dk_seg dksX4_digest_3 23 rfl rfl
theorem dksX4_digest_5 : cX4_digest.data.toList.drop 118 = dktX4_digest_5 := dk_seg dksX4_digest_4 24 rfl rfl
theorem dksX4_digest_6 : cX4_digest.data.toList.drop 140 = dktX4_digest_6 := dk_seg dksX4_digest_5 22 rfl rfl
theorem dksX4_digest_7 : cX4_digest.data.toList.drop 164 = dktX4_digest_7 := dk_seg dksX4_digest_6 24 rfl rfl
theorem dksX4_digest_8 : cX4_digest.data.toList.drop 187 = dktX4_digest_8 := dk_seg dksX4_digest_7 23 rfl rfl
theorem dX4_digest_0 : decode cX4_digest 0 = .ok (.aload_n 0, 1) := dk_42 (dk_at dksX4_digest_0 0 rfl rfl)
theorem dX4_digest_1 : decode cX4_digest 1 = .ok (.iconst 0, 1) := dk_3 (dk_at dksX4_digest_0 1 rfl rfl)
theorem dX4_digest_2 : decode cX4_digest 2 = .ok (.putfield 32, 3) := dk_181 0 32 (dk_at dksX4_digest_0 2 rfl rfl)
theorem dX4_digest_5 : decode cX4_digest 5 = .ok (.ldc2_w 134, 3) := dk_20 0 134 (dk_at dksX4_digest_0 5 rfl rfl)
theorem dX4_digest_8 : decode cX4_digest 8 = .ok (.lstore_n 1, 1) := dk_64 (dk_at dksX4_digest_0 8 rfl rfl)
theorem dX4_digest_9 : decode cX4_digest 9 = .ok (.iconst 0, 1) := dk_3 (dk_at dksX4_digest_0 9 rfl rfl)
theorem dX4_digest_10 : decode cX4_digest 10 = .ok (.istore_n 3, 1) := dk_62 (dk_at dksX4_digest_0 10 rfl rfl)
theorem dX4_digest_11 : decode cX4_digest 11 = .ok (.iload_n 3, 1) := dk_29 (dk_at dksX4_digest_0 11 rfl rfl)
theorem dX4_digest_12 : decode cX4_digest 12 = .ok (.bipush 6, 2) := dk_16 6 (dk_at dksX4_digest_0 12 rfl rfl)
theorem dX4_digest_14 : decode cX4_digest 14 = .ok (.if_icmp .gt 22, 3) := dk_163 0 22 (dk_at dksX4_digest_0 14 rfl rfl)
theorem dX4_digest_17 : decode cX4_digest 17 = .ok (.lload_n 1, 1) := dk_31 (dk_at dksX4_digest_0 17 rfl rfl)
theorem dX4_digest_18 : decode cX4_digest 18 = .ok (.ldc2_w 136, 3) := dk_20 0 136 (dk_at dksX4_digest_0 18 rfl rfl)
theorem dX4_digest_21 : decode cX4_digest 21 = .ok (.lmul, 1) := dk_105 (dk_at dksX4_digest_0 21 rfl rfl)
theorem dX4_digest_22 : decode cX4_digest 22 = .ok (.aload_n 0, 1) := dk_42 (dk_at dksX4_digest_0 22 rfl rfl)
theorem dX4_digest_23 : decode cX4_digest 23 = .ok (.iload_n 3, 1) := dk_29 (dk_at dksX4_digest_0 23 rfl rfl)
theorem dX4_digest_24 : decode cX4_digest 24 = .ok (.invokevirtual 128, 3) := dk_182 0 128 (dk_at dksX4_digest_1 0 rfl rfl)
theorem dX4_digest_27 : decode cX4_digest 27 = .ok (.i2l, 1) := dk_133 (dk_at dksX4_digest_1 3 rfl rfl)
theorem dX4_digest_28 : decode cX4_digest 28 = .ok (.ladd, 1) := dk_97 (dk_at dksX4_digest_1 4 rfl rfl)
theorem dX4_digest_29 : decode cX4_digest 29 = .ok (.lstore_n 1, 1) := dk_64 (dk_at dksX4_digest_1 5 rfl rfl)
theorem dX4_digest_30 : decode cX4_digest 30 = .ok (.iinc 3 1, 3) := dk_132 3 1 (dk_at dksX4_digest_1 6 rfl rfl)
theorem dX4_digest_33 : decode cX4_digest 33 = .ok (.goto (-22), 3) := dk_167 255 234 (dk_at dksX4_digest_1 9 rfl rfl)
theorem dX4_digest_36 : decode cX4_digest 36 = .ok (.iconst 0, 1) := dk_3 (dk_at dksX4_digest_1 12 rfl rfl)
theorem dX4_digest_37 : decode cX4_digest 37 = .ok (.istore_n 3, 1) := dk_62 (dk_at dksX4_digest_1 13 rfl rfl)
theorem dX4_digest_38 : decode cX4_digest 38 = .ok (.iload_n 3, 1) := dk_29 (dk_at dksX4_digest_1 14 rfl rfl)
theorem dX4_digest_39 : decode cX4_digest 39 = .ok (.aload_n 0, 1) := dk_42 (dk_at dksX4_digest_1 15 rfl rfl)
theorem dX4_digest_40 : decode cX4_digest 40 = .ok (.getfield 7, 3) := dk_180 0 7 (dk_at dksX4_digest_1 16 rfl rfl)
theorem dX4_digest_43 : decode cX4_digest 43 = .ok (.if_icmp .ge 35, 3) := dk_162 0 35 (dk_at dksX4_digest_1 19 rfl rfl)
theorem dX4_digest_46 : decode cX4_digest 46 = .ok (.lload_n 1, 1) := dk_31 (dk_at dksX4_digest_1 22 rfl rfl)
theorem dX4_digest_47 : decode cX4_digest 47 = .ok (.ldc2_w 136, 3) := dk_20 0 136 (dk_at dksX4_digest_2 0 rfl rfl)
theorem dX4_digest_50 : decode cX4_digest 50 = .ok (.lmul, 1) := dk_105 (dk_at dksX4_digest_2 3 rfl rfl)
theorem dX4_digest_51 : decode cX4_digest 51 = .ok (.aload_n 0, 1) := dk_42 (dk_at dksX4_digest_2 4 rfl rfl)
theorem dX4_digest_52 : decode cX4_digest 52 = .ok (.getfield 13, 3) := dk_180 0 13 (dk_at dksX4_digest_2 5 rfl rfl)
theorem dX4_digest_55 : decode cX4_digest 55 = .ok (.iload_n 3, 1) := dk_29 (dk_at dksX4_digest_2 8 rfl rfl)
theorem dX4_digest_56 : decode cX4_digest 56 = .ok (.iaload, 1) := dk_46 (dk_at dksX4_digest_2 9 rfl rfl)
theorem dX4_digest_57 : decode cX4_digest 57 = .ok (.i2l, 1) := dk_133 (dk_at dksX4_digest_2 10 rfl rfl)
theorem dX4_digest_58 : decode cX4_digest 58 = .ok (.ladd, 1) := dk_97 (dk_at dksX4_digest_2 11 rfl rfl)
theorem dX4_digest_59 : decode cX4_digest 59 = .ok (.ldc2_w 136, 3) := dk_20 0 136 (dk_at dksX4_digest_2 12 rfl rfl)
theorem dX4_digest_62 : decode cX4_digest 62 = .ok (.lmul, 1) := dk_105 (dk_at dksX4_digest_2 15 rfl rfl)
theorem dX4_digest_63 : decode cX4_digest 63 = .ok (.aload_n 0, 1) := dk_42 (dk_at dksX4_digest_2 16 rfl rfl)
theorem dX4_digest_64 : decode cX4_digest 64 = .ok (.getfield 22, 3) := dk_180 0 22 (dk_at dksX4_digest_2 17 rfl rfl)
theorem dX4_digest_67 : decode cX4_digest 67 = .ok (.iload_n 3, 1) := dk_29 (dk_at dksX4_digest_2 20 rfl rfl)
theorem dX4_digest_68 : decode cX4_digest 68 = .ok (.iaload, 1) := dk_46 (dk_at dksX4_digest_2 21 rfl rfl)
theorem dX4_digest_69 : decode cX4_digest 69 = .ok (.i2l, 1) := dk_133 (dk_at dksX4_digest_2 22 rfl rfl)
theorem dX4_digest_70 : decode cX4_digest 70 = .ok (.ladd, 1) := dk_97 (dk_at dksX4_digest_2 23 rfl rfl)
theorem dX4_digest_71 : decode cX4_digest 71 = .ok (.lstore_n 1, 1) := dk_64 (dk_at dksX4_digest_3 0 rfl rfl)
theorem dX4_digest_72 : decode cX4_digest 72 = .ok (.iinc 3 1, 3) := dk_132 3 1 (dk_at dksX4_digest_3 1 rfl rfl)
theorem dX4_digest_75 : decode cX4_digest 75 = .ok (.goto (-37), 3) := dk_167 255 219 (dk_at dksX4_digest_3 4 rfl rfl)
theorem dX4_digest_78 : decode cX4_digest 78 = .ok (.iconst 0, 1) := dk_3 (dk_at dksX4_digest_3 7 rfl rfl)
theorem dX4_digest_79 : decode cX4_digest 79 = .ok (.istore_n 3, 1) := dk_62 (dk_at dksX4_digest_3 8 rfl rfl)
theorem dX4_digest_80 : decode cX4_digest 80 = .ok (.iload_n 3, 1) := dk_29 (dk_at dksX4_digest_3 9 rfl rfl)
theorem dX4_digest_81 : decode cX4_digest 81 = .ok (.aload_n 0, 1) := dk_42 (dk_at dksX4_digest_3 10 rfl rfl)
theorem dX4_digest_82 : decode cX4_digest 82 = .ok (.getfield 35, 3) := dk_180 0 35 (dk_at dksX4_digest_3 11 rfl rfl)
theorem dX4_digest_85 : decode cX4_digest 85 = .ok (.if_icmp .ge 122, 3) := dk_162 0 122 (dk_at dksX4_digest_3 14 rfl rfl)
theorem dX4_digest_88 : decode cX4_digest 88 = .ok (.aload_n 0, 1) := dk_42 (dk_at dksX4_digest_3 17 rfl rfl)
theorem dX4_digest_89 : decode cX4_digest 89 = .ok (.getfield 19, 3) := dk_180 0 19 (dk_at dksX4_digest_3 18 rfl rfl)
theorem dX4_digest_92 : decode cX4_digest 92 = .ok (.iload_n 3, 1) := dk_29 (dk_at dksX4_digest_3 21 rfl rfl)
theorem dX4_digest_93 : decode cX4_digest 93 = .ok (.aaload, 1) := dk_50 (dk_at dksX4_digest_3 22 rfl rfl)
theorem dX4_digest_94 : decode cX4_digest 94 = .ok (.astore 4, 2) := dk_58 4 (dk_at dksX4_digest_4 0 rfl rfl)
theorem dX4_digest_96 : decode cX4_digest 96 = .ok (.aload 4, 2) := dk_25 4 (dk_at dksX4_digest_4 2 rfl rfl)
theorem dX4_digest_98 : decode cX4_digest 98 = .ok (.arraylength, 1) := dk_190 (dk_at dksX4_digest_4 4 rfl rfl)
theorem dX4_digest_99 : decode cX4_digest 99 = .ok (.istore 5, 2) := dk_54 5 (dk_at dksX4_digest_4 5 rfl rfl)
theorem dX4_digest_101 : decode cX4_digest 101 = .ok (.iconst 0, 1) := dk_3 (dk_at dksX4_digest_4 7 rfl rfl)
theorem dX4_digest_102 : decode cX4_digest 102 = .ok (.istore 6, 2) := dk_54 6 (dk_at dksX4_digest_4 8 rfl rfl)
theorem dX4_digest_104 : decode cX4_digest 104 = .ok (.iload 6, 2) := dk_21 6 (dk_at dksX4_digest_4 10 rfl rfl)
theorem dX4_digest_106 : decode cX4_digest 106 = .ok (.iload 5, 2) := dk_21 5 (dk_at dksX4_digest_4 12 rfl rfl)
theorem dX4_digest_108 : decode cX4_digest 108 = .ok (.if_icmp .ge 26, 3) := dk_162 0 26 (dk_at dksX4_digest_4 14 rfl rfl)
theorem dX4_digest_111 : decode cX4_digest 111 = .ok (.aload 4, 2) := dk_25 4 (dk_at dksX4_digest_4 17 rfl rfl)
theorem dX4_digest_113 : decode cX4_digest 113 = .ok (.iload 6, 2) := dk_21 6 (dk_at dksX4_digest_4 19 rfl rfl)
theorem dX4_digest_115 : decode cX4_digest 115 = .ok (.iaload, 1) := dk_46 (dk_at dksX4_digest_4 21 rfl rfl)
theorem dX4_digest_116 : decode cX4_digest 116 = .ok (.istore 7, 2) := dk_54 7 (dk_at dksX4_digest_4 22 rfl rfl)
theorem dX4_digest_118 : decode cX4_digest 118 = .ok (.lload_n 1, 1) := dk_31 (dk_at dksX4_digest_5 0 rfl rfl)
theorem dX4_digest_119 : decode cX4_digest 119 = .ok (.ldc2_w 136, 3) := dk_20 0 136 (dk_at dksX4_digest_5 1 rfl rfl)
theorem dX4_digest_122 : decode cX4_digest 122 = .ok (.lmul, 1) := dk_105 (dk_at dksX4_digest_5 4 rfl rfl)
theorem dX4_digest_123 : decode cX4_digest 123 = .ok (.iload 7, 2) := dk_21 7 (dk_at dksX4_digest_5 5 rfl rfl)
theorem dX4_digest_125 : decode cX4_digest 125 = .ok (.i2l, 1) := dk_133 (dk_at dksX4_digest_5 7 rfl rfl)
theorem dX4_digest_126 : decode cX4_digest 126 = .ok (.ladd, 1) := dk_97 (dk_at dksX4_digest_5 8 rfl rfl)
theorem dX4_digest_127 : decode cX4_digest 127 = .ok (.lstore_n 1, 1) := dk_64 (dk_at dksX4_digest_5 9 rfl rfl)
theorem dX4_digest_128 : decode cX4_digest 128 = .ok (.iinc 6 1, 3) := dk_132 6 1 (dk_at dksX4_digest_5 10 rfl rfl)
theorem dX4_digest_131 : decode cX4_digest 131 = .ok (.goto (-27), 3) := dk_167 255 229 (dk_at dksX4_digest_5 13 rfl rfl)
theorem dX4_digest_134 : decode cX4_digest 134 = .ok (.iconst 0, 1) := dk_3 (dk_at dksX4_digest_5 16 rfl rfl)
theorem dX4_digest_135 : decode cX4_digest 135 = .ok (.istore 4, 2) := dk_54 4 (dk_at dksX4_digest_5 17 rfl rfl)
theorem dX4_digest_137 : decode cX4_digest 137 = .ok (.iload 4, 2) := dk_21 4 (dk_at dksX4_digest_5 19 rfl rfl)
theorem dX4_digest_139 : decode cX4_digest 139 = .ok (.iconst 5, 1) := dk_8 (dk_at dksX4_digest_5 21 rfl rfl)
theorem dX4_digest_140 : decode cX4_digest 140 = .ok (.if_icmp .gt 24, 3) := dk_163 0 24 (dk_at dksX4_digest_6 0 rfl rfl)
theorem dX4_digest_143 : decode cX4_digest 143 = .ok (.lload_n 1, 1) := dk_31 (dk_at dksX4_digest_6 3 rfl rfl)
theorem dX4_digest_144 : decode cX4_digest 144 = .ok (.ldc2_w 136, 3) := dk_20 0 136 (dk_at dksX4_digest_6 4 rfl rfl)
theorem dX4_digest_147 : decode cX4_digest 147 = .ok (.lmul, 1) := dk_105 (dk_at dksX4_digest_6 7 rfl rfl)
theorem dX4_digest_148 : decode cX4_digest 148 = .ok (.aload_n 0, 1) := dk_42 (dk_at dksX4_digest_6 8 rfl rfl)
theorem dX4_digest_149 : decode cX4_digest 149 = .ok (.iload_n 3, 1) := dk_29 (dk_at dksX4_digest_6 9 rfl rfl)
theorem dX4_digest_150 : decode cX4_digest 150 = .ok (.iload 4, 2) := dk_21 4 (dk_at dksX4_digest_6 10 rfl rfl)
theorem dX4_digest_152 : decode cX4_digest 152 = .ok (.invokevirtual 121, 3) := dk_182 0 121 (dk_at dksX4_digest_6 12 rfl rfl)
theorem dX4_digest_155 : decode cX4_digest 155 = .ok (.i2l, 1) := dk_133 (dk_at dksX4_digest_6 15 rfl rfl)
theorem dX4_digest_156 : decode cX4_digest 156 = .ok (.ladd, 1) := dk_97 (dk_at dksX4_digest_6 16 rfl rfl)
theorem dX4_digest_157 : decode cX4_digest 157 = .ok (.lstore_n 1, 1) := dk_64 (dk_at dksX4_digest_6 17 rfl rfl)
theorem dX4_digest_158 : decode cX4_digest 158 = .ok (.iinc 4 1, 3) := dk_132 4 1 (dk_at dksX4_digest_6 18 rfl rfl)
theorem dX4_digest_161 : decode cX4_digest 161 = .ok (.goto (-24), 3) := dk_167 255 232 (dk_at dksX4_digest_6 21 rfl rfl)
theorem dX4_digest_164 : decode cX4_digest 164 = .ok (.iconst 0, 1) := dk_3 (dk_at dksX4_digest_7 0 rfl rfl)
theorem dX4_digest_165 : decode cX4_digest 165 = .ok (.istore 4, 2) := dk_54 4 (dk_at dksX4_digest_7 1 rfl rfl)
theorem dX4_digest_167 : decode cX4_digest 167 = .ok (.iload 4, 2) := dk_21 4 (dk_at dksX4_digest_7 3 rfl rfl)
theorem dX4_digest_169 : decode cX4_digest 169 = .ok (.aload_n 0, 1) := dk_42 (dk_at dksX4_digest_7 5 rfl rfl)
theorem dX4_digest_170 : decode cX4_digest 170 = .ok (.getfield 35, 3) := dk_180 0 35 (dk_at dksX4_digest_7 6 rfl rfl)
theorem dX4_digest_173 : decode cX4_digest 173 = .ok (.if_icmp .ge 28, 3) := dk_162 0 28 (dk_at dksX4_digest_7 9 rfl rfl)
theorem dX4_digest_176 : decode cX4_digest 176 = .ok (.lload_n 1, 1) := dk_31 (dk_at dksX4_digest_7 12 rfl rfl)
theorem dX4_digest_177 : decode cX4_digest 177 = .ok (.ldc2_w 136, 3) := dk_20 0 136 (dk_at dksX4_digest_7 13 rfl rfl)
theorem dX4_digest_180 : decode cX4_digest 180 = .ok (.lmul, 1) := dk_105 (dk_at dksX4_digest_7 16 rfl rfl)
theorem dX4_digest_181 : decode cX4_digest 181 = .ok (.aload_n 0, 1) := dk_42 (dk_at dksX4_digest_7 17 rfl rfl)
theorem dX4_digest_182 : decode cX4_digest 182 = .ok (.aload_n 0, 1) := dk_42 (dk_at dksX4_digest_7 18 rfl rfl)
theorem dX4_digest_183 : decode cX4_digest 183 = .ok (.getfield 22, 3) := dk_180 0 22 (dk_at dksX4_digest_7 19 rfl rfl)
theorem dX4_digest_186 : decode cX4_digest 186 = .ok (.iload_n 3, 1) := dk_29 (dk_at dksX4_digest_7 22 rfl rfl)
theorem dX4_digest_187 : decode cX4_digest 187 = .ok (.iload 4, 2) := dk_21 4 (dk_at dksX4_digest_8 0 rfl rfl)
theorem dX4_digest_189 : decode cX4_digest 189 = .ok (.invokevirtual 46, 3) := dk_182 0 46 (dk_at dksX4_digest_8 2 rfl rfl)
theorem dX4_digest_192 : decode cX4_digest 192 = .ok (.i2l, 1) := dk_133 (dk_at dksX4_digest_8 5 rfl rfl)
theorem dX4_digest_193 : decode cX4_digest 193 = .ok (.ladd, 1) := dk_97 (dk_at dksX4_digest_8 6 rfl rfl)
theorem dX4_digest_194 : decode cX4_digest 194 = .ok (.lstore_n 1, 1) := dk_64 (dk_at dksX4_digest_8 7 rfl rfl)
theorem dX4_digest_195 : decode cX4_digest 195 = .ok (.iinc 4 1, 3) := dk_132 4 1 (dk_at dksX4_digest_8 8 rfl rfl)
theorem dX4_digest_198 : decode cX4_digest 198 = .ok (.goto (-31), 3) := dk_167 255 225 (dk_at dksX4_digest_8 11 rfl rfl)
theorem dX4_digest_201 : decode cX4_digest 201 = .ok (.iinc 3 1, 3) := dk_132 3 1 (dk_at dksX4_digest_8 14 rfl rfl)
theorem dX4_digest_204 : decode cX4_digest 204 = .ok (.goto (-124), 3) := dk_167 255 132 (dk_at dksX4_digest_8 17 rfl rfl)
theorem dX4_digest_207 : decode cX4_digest 207 = .ok (.lload_n 1, 1) := dk_31 (dk_at dksX4_digest_8 20 rfl rfl)
theorem dX4_digest_208 : decode cX4_digest 208 = .ok (.lreturn, 1) := dk_173 (dk_at dksX4_digest_8 21 rfl rfl)
theorem q44 : (Jvm.Cond.initialized "CakeTastesModel") ∈ lw_all := lw_g (lw_at lw_m1 11 rfl) rfl
theorem q171 : (Jvm.Cond.selects "CakeTastesModel" ({ cls := "java/lang/Object", name := "getClass", desc := "()Ljava/lang/Class;" } : Jvm.MethodName) ({ cls := "java/lang/Object", name := "getClass", desc := "()Ljava/lang/Class;" } : Jvm.MethodName)) ∈ lw_all := lw_g (lw_at lw_m1 138 rfl) rfl
theorem q777 : (Jvm.Cond.instantiable "CakeTastesModel" (8 : Nat)) ∈ lw_all := lw_g (lw_at lw_m4 24 rfl) rfl
theorem q779 : (Jvm.Cond.instanceMethod ({ cls := "CakeTastesModel", name := "<init>", desc := "()V" } : Jvm.MethodName)) ∈ lw_all := lw_g (lw_at lw_m4 26 rfl) rfl
theorem q780 : (Jvm.Cond.code ({ cls := "CakeTastesModel", name := "<init>", desc := "()V" } : Jvm.MethodName) prog_12_method_1_code (1 : Nat) (Option.none : Option Jvm.ClassFile.FieldType)) ∈ lw_all := lw_g (lw_at lw_m4 27 rfl) rfl
theorem q781 : (Jvm.Cond.methodLink "CakeTastesModel" (1 : Nat) ({ cls := "java/lang/Object", name := "<init>", desc := "()V" } : Jvm.MethodName)) ∈ lw_all := lw_g (lw_at lw_m4 28 rfl) rfl
theorem q782 : (Jvm.Cond.classLink "CakeTastesModel" (17 : Nat) "[[I") ∈ lw_all := lw_g (lw_at lw_m4 29 rfl) rfl
theorem q784 : (Jvm.Cond.methodLink "CakeTastesModel" (28 : Nat) ({ cls := "CakeTastesModel", name := "free", desc := "([I)V" } : Jvm.MethodName)) ∈ lw_all := lw_g (lw_at lw_m4 31 rfl) rfl
theorem q785 : (Jvm.Cond.static ({ cls := "CakeTastesModel", name := "free", desc := "([I)V" } : Jvm.MethodName)) ∈ lw_all := lw_g (lw_at lw_m4 32 rfl) rfl
theorem q786 : (Jvm.Cond.code ({ cls := "CakeTastesModel", name := "free", desc := "([I)V" } : Jvm.MethodName) prog_12_method_4_code (2 : Nat) (Option.none : Option Jvm.ClassFile.FieldType)) ∈ lw_all := lw_g (lw_at lw_m4 33 rfl) rfl
theorem q787 : (Jvm.Cond.fieldLink "CakeTastesModel" (32 : Nat) "CakeTastesModel" "thrown" "I") ∈ lw_all := lw_g (lw_at lw_m4 34 rfl) rfl
theorem q788 : (Jvm.Cond.fieldLink "CakeTastesModel" (7 : Nat) "CakeTastesModel" "slices" "I") ∈ lw_all := lw_g (lw_at lw_m4 35 rfl) rfl
theorem q789 : (Jvm.Cond.fieldLink "CakeTastesModel" (13 : Nat) "CakeTastesModel" "sort" "[I") ∈ lw_all := lw_g (lw_at lw_m4 36 rfl) rfl
theorem q790 : (Jvm.Cond.fieldLink "CakeTastesModel" (35 : Nat) "CakeTastesModel" "eaters" "I") ∈ lw_all := lw_g (lw_at lw_m4 37 rfl) rfl
theorem q791 : (Jvm.Cond.fieldLink "CakeTastesModel" (19 : Nat) "CakeTastesModel" "taste" "[[I") ∈ lw_all := lw_g (lw_at lw_m4 38 rfl) rfl
theorem q792 : (Jvm.Cond.fieldLink "CakeTastesModel" (111 : Nat) "CakeTastesModel" "shared" "I") ∈ lw_all := lw_g (lw_at lw_m4 39 rfl) rfl
theorem q793 : (Jvm.Cond.fieldLink "CakeTastesModel" (22 : Nat) "CakeTastesModel" "owner" "[I") ∈ lw_all := lw_g (lw_at lw_m4 40 rfl) rfl
theorem q794 : (Jvm.Cond.fieldLink "CakeTastesModel" (25 : Nat) "CakeTastesModel" "other" "[I") ∈ lw_all := lw_g (lw_at lw_m4 41 rfl) rfl
theorem q795 : (Jvm.Cond.lays "CakeTastesModel" "CakeTastesModel" "thrown" "I") ∈ lw_all := lw_g (lw_at lw_m4 42 rfl) rfl
theorem q796 : (Jvm.Cond.soleField "CakeTastesModel" "thrown") ∈ lw_all := lw_g (lw_at lw_m4 43 rfl) rfl
theorem q797 : (Jvm.Cond.lays "CakeTastesModel" "CakeTastesModel" "slices" "I") ∈ lw_all := lw_g (lw_at lw_m4 44 rfl) rfl
theorem q798 : (Jvm.Cond.soleField "CakeTastesModel" "slices") ∈ lw_all := lw_g (lw_at lw_m4 45 rfl) rfl
theorem q799 : (Jvm.Cond.laysFinal "CakeTastesModel" "CakeTastesModel" "sort" "[I") ∈ lw_all := lw_g (lw_at lw_m4 46 rfl) rfl
theorem q800 : (Jvm.Cond.soleField "CakeTastesModel" "sort") ∈ lw_all := lw_g (lw_at lw_m4 47 rfl) rfl
theorem q801 : (Jvm.Cond.lays "CakeTastesModel" "CakeTastesModel" "eaters" "I") ∈ lw_all := lw_g (lw_at lw_m4 48 rfl) rfl
theorem q802 : (Jvm.Cond.soleField "CakeTastesModel" "eaters") ∈ lw_all := lw_g (lw_at lw_m4 49 rfl) rfl
theorem q803 : (Jvm.Cond.laysFinal "CakeTastesModel" "CakeTastesModel" "taste" "[[I") ∈ lw_all := lw_g (lw_at lw_m4 50 rfl) rfl
theorem q804 : (Jvm.Cond.soleField "CakeTastesModel" "taste") ∈ lw_all := lw_g (lw_at lw_m4 51 rfl) rfl
theorem q805 : (Jvm.Cond.lays "CakeTastesModel" "CakeTastesModel" "shared" "I") ∈ lw_all := lw_g (lw_at lw_m4 52 rfl) rfl
theorem q806 : (Jvm.Cond.soleField "CakeTastesModel" "shared") ∈ lw_all := lw_g (lw_at lw_m4 53 rfl) rfl
theorem q807 : (Jvm.Cond.laysFinal "CakeTastesModel" "CakeTastesModel" "owner" "[I") ∈ lw_all := lw_g (lw_at lw_m4 54 rfl) rfl
theorem q808 : (Jvm.Cond.soleField "CakeTastesModel" "owner") ∈ lw_all := lw_g (lw_at lw_m4 55 rfl) rfl
theorem q809 : (Jvm.Cond.laysFinal "CakeTastesModel" "CakeTastesModel" "other" "[I") ∈ lw_all := lw_g (lw_at lw_m4 56 rfl) rfl
theorem q810 : (Jvm.Cond.soleField "CakeTastesModel" "other") ∈ lw_all := lw_g (lw_at lw_m4 57 rfl) rfl
theorem q811 : (Jvm.Cond.superclass "CakeTastesModel" "java/lang/Object") ∈ lw_all := lw_g (lw_at lw_m4 58 rfl) rfl
theorem q813 : (Jvm.Cond.instanceMethod ({ cls := "CakeTastesModel", name := "thrown", desc := "()I" } : Jvm.MethodName)) ∈ lw_all := lw_g (lw_at lw_m4 60 rfl) rfl
theorem q814 : (Jvm.Cond.selects "CakeTastesModel" ({ cls := "CakeTastesModel", name := "thrown", desc := "()I" } : Jvm.MethodName) ({ cls := "CakeTastesModel", name := "thrown", desc := "()I" } : Jvm.MethodName)) ∈ lw_all := lw_g (lw_at lw_m4 61 rfl) rfl
theorem q815 : (Jvm.Cond.code ({ cls := "CakeTastesModel", name := "thrown", desc := "()I" } : Jvm.MethodName) prog_12_method_2_code (1 : Nat) (Option.some Jvm.ClassFile.FieldType.int)) ∈ lw_all := lw_g (lw_at lw_m4 62 rfl) rfl
theorem q817 : (Jvm.Cond.instanceMethod ({ cls := "CakeTastesModel", name := "bake", desc := "(I)I" } : Jvm.MethodName)) ∈ lw_all := lw_g (lw_at lw_m4 64 rfl) rfl
theorem q818 : (Jvm.Cond.selects "CakeTastesModel" ({ cls := "CakeTastesModel", name := "bake", desc := "(I)I" } : Jvm.MethodName) ({ cls := "CakeTastesModel", name := "bake", desc := "(I)I" } : Jvm.MethodName)) ∈ lw_all := lw_g (lw_at lw_m4 65 rfl) rfl
theorem q819 : (Jvm.Cond.code ({ cls := "CakeTastesModel", name := "bake", desc := "(I)I" } : Jvm.MethodName) prog_12_method_23_code (4 : Nat) (Option.some Jvm.ClassFile.FieldType.int)) ∈ lw_all := lw_g (lw_at lw_m4 66 rfl) rfl
theorem q820 : (Jvm.Cond.methodLink "CakeTastesModel" (38 : Nat) ({ cls := "CakeTastesModel", name := "isIn", desc := "(III)Z" } : Jvm.MethodName)) ∈ lw_all := lw_g (lw_at lw_m4 67 rfl) rfl
theorem q821 : (Jvm.Cond.static ({ cls := "CakeTastesModel", name := "isIn", desc := "(III)Z" } : Jvm.MethodName)) ∈ lw_all := lw_g (lw_at lw_m4 68 rfl) rfl
theorem q822 : (Jvm.Cond.code ({ cls := "CakeTastesModel", name := "isIn", desc := "(III)Z" } : Jvm.MethodName) prog_12_method_5_code (3 : Nat) (Option.some Jvm.ClassFile.FieldType.boolean)) ∈ lw_all := lw_g (lw_at lw_m4 69 rfl) rfl
theorem q823 : (Jvm.Cond.methodLink "CakeTastesModel" (90 : Nat) ({ cls := "CakeTastesModel", name := "no", desc := "(I)I" } : Jvm.MethodName)) ∈ lw_all := lw_g (lw_at lw_m4 70 rfl) rfl
theorem q824 : (Jvm.Cond.privateMethod ({ cls := "CakeTastesModel", name := "no", desc := "(I)I" } : Jvm.MethodName)) ∈ lw_tbl := lw_at lw_m4 71 rfl
theorem q825 : (Jvm.Cond.instanceMethod ({ cls := "CakeTastesModel", name := "no", desc := "(I)I" } : Jvm.MethodName)) ∈ lw_all := lw_g (lw_at lw_m4 72 rfl) rfl
theorem q826 : (Jvm.Cond.code ({ cls := "CakeTastesModel", name := "no", desc := "(I)I" } : Jvm.MethodName) prog_12_method_3_code (2 : Nat) (Option.some Jvm.ClassFile.FieldType.int)) ∈ lw_all := lw_g (lw_at lw_m4 73 rfl) rfl
theorem q828 : (Jvm.Cond.instanceMethod ({ cls := "CakeTastesModel", name := "ice", desc := "(II)I" } : Jvm.MethodName)) ∈ lw_all := lw_g (lw_at lw_m4 75 rfl) rfl
theorem q829 : (Jvm.Cond.selects "CakeTastesModel" ({ cls := "CakeTastesModel", name := "ice", desc := "(II)I" } : Jvm.MethodName) ({ cls := "CakeTastesModel", name := "ice", desc := "(II)I" } : Jvm.MethodName)) ∈ lw_all := lw_g (lw_at lw_m4 76 rfl) rfl
theorem q830 : (Jvm.Cond.code ({ cls := "CakeTastesModel", name := "ice", desc := "(II)I" } : Jvm.MethodName) prog_12_method_24_code (4 : Nat) (Option.some Jvm.ClassFile.FieldType.int)) ∈ lw_all := lw_g (lw_at lw_m4 77 rfl) rfl
theorem q831 : (Jvm.Cond.methodLink "CakeTastesModel" (94 : Nat) ({ cls := "CakeTastesModel", name := "isSlice", desc := "(I)Z" } : Jvm.MethodName)) ∈ lw_all := lw_g (lw_at lw_m4 78 rfl) rfl
theorem q832 : (Jvm.Cond.privateMethod ({ cls := "CakeTastesModel", name := "isSlice", desc := "(I)Z" } : Jvm.MethodName)) ∈ lw_tbl := lw_at lw_m4 79 rfl
theorem q833 : (Jvm.Cond.instanceMethod ({ cls := "CakeTastesModel", name := "isSlice", desc := "(I)Z" } : Jvm.MethodName)) ∈ lw_all := lw_g (lw_at lw_m4 80 rfl) rfl
theorem q834 : (Jvm.Cond.code ({ cls := "CakeTastesModel", name := "isSlice", desc := "(I)Z" } : Jvm.MethodName) prog_12_method_7_code (2 : Nat) (Option.some Jvm.ClassFile.FieldType.boolean)) ∈ lw_all := lw_g (lw_at lw_m4 81 rfl) rfl
theorem q835 : (Jvm.Cond.methodLink "CakeTastesModel" (98 : Nat) ({ cls := "CakeTastesModel", name := "isSort", desc := "(I)Z" } : Jvm.MethodName)) ∈ lw_all := lw_g (lw_at lw_m4 82 rfl) rfl
theorem q836 : (Jvm.Cond.static ({ cls := "CakeTastesModel", name := "isSort", desc := "(I)Z" } : Jvm.MethodName)) ∈ lw_all := lw_g (lw_at lw_m4 83 rfl) rfl
theorem q837 : (Jvm.Cond.code ({ cls := "CakeTastesModel", name := "isSort", desc := "(I)Z" } : Jvm.MethodName) prog_12_method_8_code (1 : Nat) (Option.some Jvm.ClassFile.FieldType.boolean)) ∈ lw_all := lw_g (lw_at lw_m4 84 rfl) rfl
theorem q839 : (Jvm.Cond.instanceMethod ({ cls := "CakeTastesModel", name := "come", desc := "()I" } : Jvm.MethodName)) ∈ lw_all := lw_g (lw_at lw_m4 86 rfl) rfl
theorem q840 : (Jvm.Cond.selects "CakeTastesModel" ({ cls := "CakeTastesModel", name := "come", desc := "()I" } : Jvm.MethodName) ({ cls := "CakeTastesModel", name := "come", desc := "()I" } : Jvm.MethodName)) ∈ lw_all := lw_g (lw_at lw_m4 87 rfl) rfl
theorem q841 : (Jvm.Cond.code ({ cls := "CakeTastesModel", name := "come", desc := "()I" } : Jvm.MethodName) prog_12_method_25_code (2 : Nat) (Option.some Jvm.ClassFile.FieldType.int)) ∈ lw_all := lw_g (lw_at lw_m4 88 rfl) rfl
theorem q843 : (Jvm.Cond.instanceMethod ({ cls := "CakeTastesModel", name := "setTaste", desc := "(III)I" } : Jvm.MethodName)) ∈ lw_all := lw_g (lw_at lw_m4 90 rfl) rfl
theorem q844 : (Jvm.Cond.selects "CakeTastesModel" ({ cls := "CakeTastesModel", name := "setTaste", desc := "(III)I" } : Jvm.MethodName) ({ cls := "CakeTastesModel", name := "setTaste", desc := "(III)I" } : Jvm.MethodName)) ∈ lw_all := lw_g (lw_at lw_m4 91 rfl) rfl
theorem q845 : (Jvm.Cond.code ({ cls := "CakeTastesModel", name := "setTaste", desc := "(III)I" } : Jvm.MethodName) prog_12_method_26_code (5 : Nat) (Option.some Jvm.ClassFile.FieldType.int)) ∈ lw_all := lw_g (lw_at lw_m4 92 rfl) rfl
theorem q846 : (Jvm.Cond.methodLink "CakeTastesModel" (101 : Nat) ({ cls := "CakeTastesModel", name := "isEater", desc := "(I)Z" } : Jvm.MethodName)) ∈ lw_all := lw_g (lw_at lw_m4 93 rfl) rfl
theorem q847 : (Jvm.Cond.privateMethod ({ cls := "CakeTastesModel", name := "isEater", desc := "(I)Z" } : Jvm.MethodName)) ∈ lw_tbl := lw_at lw_m4 94 rfl
theorem q848 : (Jvm.Cond.instanceMethod ({ cls := "CakeTastesModel", name := "isEater", desc := "(I)Z" } : Jvm.MethodName)) ∈ lw_all := lw_g (lw_at lw_m4 95 rfl) rfl
theorem q849 : (Jvm.Cond.code ({ cls := "CakeTastesModel", name := "isEater", desc := "(I)Z" } : Jvm.MethodName) prog_12_method_6_code (2 : Nat) (Option.some Jvm.ClassFile.FieldType.boolean)) ∈ lw_all := lw_g (lw_at lw_m4 96 rfl) rfl
theorem q851 : (Jvm.Cond.instanceMethod ({ cls := "CakeTastesModel", name := "give", desc := "(II)I" } : Jvm.MethodName)) ∈ lw_all := lw_g (lw_at lw_m4 98 rfl) rfl
theorem q852 : (Jvm.Cond.selects "CakeTastesModel" ({ cls := "CakeTastesModel", name := "give", desc := "(II)I" } : Jvm.MethodName) ({ cls := "CakeTastesModel", name := "give", desc := "(II)I" } : Jvm.MethodName)) ∈ lw_all := lw_g (lw_at lw_m4 99 rfl) rfl
theorem q853 : (Jvm.Cond.code ({ cls := "CakeTastesModel", name := "give", desc := "(II)I" } : Jvm.MethodName) prog_12_method_27_code (4 : Nat) (Option.some Jvm.ClassFile.FieldType.int)) ∈ lw_all := lw_g (lw_at lw_m4 100 rfl) rfl
theorem q855 : (Jvm.Cond.instanceMethod ({ cls := "CakeTastesModel", name := "share", desc := "(I)I" } : Jvm.MethodName)) ∈ lw_all := lw_g (lw_at lw_m4 102 rfl) rfl
theorem q856 : (Jvm.Cond.selects "CakeTastesModel" ({ cls := "CakeTastesModel", name := "share", desc := "(I)I" } : Jvm.MethodName) ({ cls := "CakeTastesModel", name := "share", desc := "(I)I" } : Jvm.MethodName)) ∈ lw_all := lw_g (lw_at lw_m4 103 rfl) rfl
theorem q857 : (Jvm.Cond.code ({ cls := "CakeTastesModel", name := "share", desc := "(I)I" } : Jvm.MethodName) prog_12_method_28_code (2 : Nat) (Option.some Jvm.ClassFile.FieldType.int)) ∈ lw_all := lw_g (lw_at lw_m4 104 rfl) rfl
theorem q858 : (Jvm.Cond.fieldLink "CakeTastesModel" (104 : Nat) "CakeTastesModel" "ASKED" "[I") ∈ lw_all := lw_g (lw_at lw_m4 105 rfl) rfl
theorem q859 : (Jvm.Cond.laysStatic "CakeTastesModel" "ASKED" "[I") ∈ lw_tbl := lw_at lw_m4 106 rfl
theorem q860 : (Jvm.Cond.methodLink "CakeTastesModel" (107 : Nat) ({ cls := "CakeTastesModel", name := "give", desc := "([II)V" } : Jvm.MethodName)) ∈ lw_all := lw_g (lw_at lw_m4 107 rfl) rfl
theorem q861 : (Jvm.Cond.privateMethod ({ cls := "CakeTastesModel", name := "give", desc := "([II)V" } : Jvm.MethodName)) ∈ lw_tbl := lw_at lw_m4 108 rfl
theorem q862 : (Jvm.Cond.instanceMethod ({ cls := "CakeTastesModel", name := "give", desc := "([II)V" } : Jvm.MethodName)) ∈ lw_all := lw_g (lw_at lw_m4 109 rfl) rfl
theorem q863 : (Jvm.Cond.code ({ cls := "CakeTastesModel", name := "give", desc := "([II)V" } : Jvm.MethodName) prog_12_method_22_code (3 : Nat) (Option.none : Option Jvm.ClassFile.FieldType)) ∈ lw_all := lw_g (lw_at lw_m4 110 rfl) rfl
theorem q864 : (Jvm.Cond.methodLink "CakeTastesModel" (77 : Nat) ({ cls := "CakeTastesModel", name := "half", desc := "([I)V" } : Jvm.MethodName)) ∈ lw_all := lw_g (lw_at lw_m4 111 rfl) rfl
theorem q865 : (Jvm.Cond.privateMethod ({ cls := "CakeTastesModel", name := "half", desc := "([I)V" } : Jvm.MethodName)) ∈ lw_tbl := lw_at lw_m4 112 rfl
theorem q866 : (Jvm.Cond.instanceMethod ({ cls := "CakeTastesModel", name := "half", desc := "([I)V" } : Jvm.MethodName)) ∈ lw_all := lw_g (lw_at lw_m4 113 rfl) rfl
theorem q867 : (Jvm.Cond.code ({ cls := "CakeTastesModel", name := "half", desc := "([I)V" } : Jvm.MethodName) prog_12_method_17_code (4 : Nat) (Option.none : Option Jvm.ClassFile.FieldType)) ∈ lw_all := lw_g (lw_at lw_m4 114 rfl) rfl
theorem q868 : (Jvm.Cond.methodLink "CakeTastesModel" (62 : Nat) ({ cls := "CakeTastesModel", name := "cut", desc := "(IIII)I" } : Jvm.MethodName)) ∈ lw_all := lw_g (lw_at lw_m4 115 rfl) rfl
theorem q869 : (Jvm.Cond.privateMethod ({ cls := "CakeTastesModel", name := "cut", desc := "(IIII)I" } : Jvm.MethodName)) ∈ lw_tbl := lw_at lw_m4 116 rfl
theorem q870 : (Jvm.Cond.instanceMethod ({ cls := "CakeTastesModel", name := "cut", desc := "(IIII)I" } : Jvm.MethodName)) ∈ lw_all := lw_g (lw_at lw_m4 117 rfl) rfl
theorem q871 : (Jvm.Cond.code ({ cls := "CakeTastesModel", name := "cut", desc := "(IIII)I" } : Jvm.MethodName) prog_12_method_15_code (8 : Nat) (Option.some Jvm.ClassFile.FieldType.int)) ∈ lw_all := lw_g (lw_at lw_m4 118 rfl) rfl
theorem q872 : (Jvm.Cond.methodLink "CakeTastesModel" (58 : Nat) ({ cls := "CakeTastesModel", name := "run", desc := "(III)I" } : Jvm.MethodName)) ∈ lw_all := lw_g (lw_at lw_m4 119 rfl) rfl
theorem q873 : (Jvm.Cond.privateMethod ({ cls := "CakeTastesModel", name := "run", desc := "(III)I" } : Jvm.MethodName)) ∈ lw_tbl := lw_at lw_m4 120 rfl
theorem q874 : (Jvm.Cond.instanceMethod ({ cls := "CakeTastesModel", name := "run", desc := "(III)I" } : Jvm.MethodName)) ∈ lw_all := lw_g (lw_at lw_m4 121 rfl) rfl
theorem q875 : (Jvm.Cond.code ({ cls := "CakeTastesModel", name := "run", desc := "(III)I" } : Jvm.MethodName) prog_12_method_10_code (6 : Nat) (Option.some Jvm.ClassFile.FieldType.int)) ∈ lw_all := lw_g (lw_at lw_m4 122 rfl) rfl
theorem q876 : (Jvm.Cond.methodLink "CakeTastesModel" (42 : Nat) ({ cls := "CakeTastesModel", name := "likes", desc := "(II)I" } : Jvm.MethodName)) ∈ lw_all := lw_g (lw_at lw_m4 123 rfl) rfl
theorem q877 : (Jvm.Cond.privateMethod ({ cls := "CakeTastesModel", name := "likes", desc := "(II)I" } : Jvm.MethodName)) ∈ lw_tbl := lw_at lw_m4 124 rfl
theorem q878 : (Jvm.Cond.instanceMethod ({ cls := "CakeTastesModel", name := "likes", desc := "(II)I" } : Jvm.MethodName)) ∈ lw_all := lw_g (lw_at lw_m4 125 rfl) rfl
theorem q879 : (Jvm.Cond.code ({ cls := "CakeTastesModel", name := "likes", desc := "(II)I" } : Jvm.MethodName) prog_12_method_9_code (3 : Nat) (Option.some Jvm.ClassFile.FieldType.int)) ∈ lw_all := lw_g (lw_at lw_m4 126 rfl) rfl
theorem q880 : (Jvm.Cond.methodLink "CakeTastesModel" (66 : Nat) ({ cls := "CakeTastesModel", name := "take", desc := "([IIII)V" } : Jvm.MethodName)) ∈ lw_all := lw_g (lw_at lw_m4 127 rfl) rfl
theorem q881 : (Jvm.Cond.static ({ cls := "CakeTastesModel", name := "take", desc := "([IIII)V" } : Jvm.MethodName)) ∈ lw_all := lw_g (lw_at lw_m4 128 rfl) rfl
theorem q882 : (Jvm.Cond.code ({ cls := "CakeTastesModel", name := "take", desc := "([IIII)V" } : Jvm.MethodName) prog_12_method_16_code (5 : Nat) (Option.none : Option Jvm.ClassFile.FieldType)) ∈ lw_all := lw_g (lw_at lw_m4 129 rfl) rfl
theorem q883 : (Jvm.Cond.methodLink "CakeTastesModel" (80 : Nat) ({ cls := "CakeTastesModel", name := "trim", desc := "([I)V" } : Jvm.MethodName)) ∈ lw_all := lw_g (lw_at lw_m4 130 rfl) rfl
theorem q884 : (Jvm.Cond.privateMethod ({ cls := "CakeTastesModel", name := "trim", desc := "([I)V" } : Jvm.MethodName)) ∈ lw_tbl := lw_at lw_m4 131 rfl
theorem q885 : (Jvm.Cond.instanceMethod ({ cls := "CakeTastesModel", name := "trim", desc := "([I)V" } : Jvm.MethodName)) ∈ lw_all := lw_g (lw_at lw_m4 132 rfl) rfl
theorem q886 : (Jvm.Cond.code ({ cls := "CakeTastesModel", name := "trim", desc := "([I)V" } : Jvm.MethodName) prog_12_method_18_code (9 : Nat) (Option.none : Option Jvm.ClassFile.FieldType)) ∈ lw_all := lw_g (lw_at lw_m4 133 rfl) rfl
theorem q887 : (Jvm.Cond.methodLink "CakeTastesModel" (70 : Nat) ({ cls := "CakeTastesModel", name := "best", desc := "(I[I[II)I" } : Jvm.MethodName)) ∈ lw_all := lw_g (lw_at lw_m4 134 rfl) rfl
theorem q888 : (Jvm.Cond.privateMethod ({ cls := "CakeTastesModel", name := "best", desc := "(I[I[II)I" } : Jvm.MethodName)) ∈ lw_tbl := lw_at lw_m4 135 rfl
theorem q889 : (Jvm.Cond.instanceMethod ({ cls := "CakeTastesModel", name := "best", desc := "(I[I[II)I" } : Jvm.MethodName)) ∈ lw_all := lw_g (lw_at lw_m4 136 rfl) rfl
theorem q890 : (Jvm.Cond.code ({ cls := "CakeTastesModel", name := "best", desc := "(I[I[II)I" } : Jvm.MethodName) prog_12_method_19_code (7 : Nat) (Option.some Jvm.ClassFile.FieldType.int)) ∈ lw_all := lw_g (lw_at lw_m4 137 rfl) rfl
theorem q891 : (Jvm.Cond.methodLink "CakeTastesModel" (50 : Nat) ({ cls := "java/lang/Math", name := "max", desc := "(II)I" } : Jvm.MethodName)) ∈ lw_all := lw_g (lw_at lw_m4 138 rfl) rfl
theorem q892 : (Jvm.Cond.methodLink "CakeTastesModel" (83 : Nat) ({ cls := "CakeTastesModel", name := "turns", desc := "([II)I" } : Jvm.MethodName)) ∈ lw_all := lw_g (lw_at lw_m4 139 rfl) rfl
theorem q893 : (Jvm.Cond.privateMethod ({ cls := "CakeTastesModel", name := "turns", desc := "([II)I" } : Jvm.MethodName)) ∈ lw_tbl := lw_at lw_m4 140 rfl
theorem q894 : (Jvm.Cond.instanceMethod ({ cls := "CakeTastesModel", name := "turns", desc := "([II)I" } : Jvm.MethodName)) ∈ lw_all := lw_g (lw_at lw_m4 141 rfl) rfl
theorem q895 : (Jvm.Cond.code ({ cls := "CakeTastesModel", name := "turns", desc := "([II)I" } : Jvm.MethodName) prog_12_method_20_code (7 : Nat) (Option.some Jvm.ClassFile.FieldType.int)) ∈ lw_all := lw_g (lw_at lw_m4 142 rfl) rfl
theorem q896 : (Jvm.Cond.methodLink "CakeTastesModel" (74 : Nat) ({ cls := "CakeTastesModel", name := "many", desc := "([III)I" } : Jvm.MethodName)) ∈ lw_all := lw_g (lw_at lw_m4 143 rfl) rfl
theorem q897 : (Jvm.Cond.static ({ cls := "CakeTastesModel", name := "many", desc := "([III)I" } : Jvm.MethodName)) ∈ lw_all := lw_g (lw_at lw_m4 144 rfl) rfl
theorem q898 : (Jvm.Cond.code ({ cls := "CakeTastesModel", name := "many", desc := "([III)I" } : Jvm.MethodName) prog_12_method_14_code (5 : Nat) (Option.some Jvm.ClassFile.FieldType.int)) ∈ lw_all := lw_g (lw_at lw_m4 145 rfl) rfl
theorem q899 : (Jvm.Cond.methodLink "CakeTastesModel" (87 : Nat) ({ cls := "CakeTastesModel", name := "knife", desc := "([I)V" } : Jvm.MethodName)) ∈ lw_all := lw_g (lw_at lw_m4 146 rfl) rfl
theorem q900 : (Jvm.Cond.privateMethod ({ cls := "CakeTastesModel", name := "knife", desc := "([I)V" } : Jvm.MethodName)) ∈ lw_tbl := lw_at lw_m4 147 rfl
theorem q901 : (Jvm.Cond.instanceMethod ({ cls := "CakeTastesModel", name := "knife", desc := "([I)V" } : Jvm.MethodName)) ∈ lw_all := lw_g (lw_at lw_m4 148 rfl) rfl
theorem q902 : (Jvm.Cond.code ({ cls := "CakeTastesModel", name := "knife", desc := "([I)V" } : Jvm.MethodName) prog_12_method_21_code (9 : Nat) (Option.none : Option Jvm.ClassFile.FieldType)) ∈ lw_all := lw_g (lw_at lw_m4 149 rfl) rfl
theorem q905 : (Jvm.Cond.instanceMethod ({ cls := "CakeTastesModel", name := "crumbs", desc := "()I" } : Jvm.MethodName)) ∈ lw_all := lw_g (lw_at lw_m4 152 rfl) rfl
theorem q906 : (Jvm.Cond.selects "CakeTastesModel" ({ cls := "CakeTastesModel", name := "crumbs", desc := "()I" } : Jvm.MethodName) ({ cls := "CakeTastesModel", name := "crumbs", desc := "()I" } : Jvm.MethodName)) ∈ lw_all := lw_g (lw_at lw_m4 153 rfl) rfl
theorem q907 : (Jvm.Cond.code ({ cls := "CakeTastesModel", name := "crumbs", desc := "()I" } : Jvm.MethodName) prog_12_method_29_code (3 : Nat) (Option.some Jvm.ClassFile.FieldType.int)) ∈ lw_all := lw_g (lw_at lw_m4 154 rfl) rfl
theorem q908 : (Jvm.Cond.methodLink "CakeTastesModel" (46 : Nat) ({ cls := "CakeTastesModel", name := "worth", desc := "([III)I" } : Jvm.MethodName)) ∈ lw_all := lw_g (lw_at lw_m4 155 rfl) rfl
theorem q909 : (Jvm.Cond.privateMethod ({ cls := "CakeTastesModel", name := "worth", desc := "([III)I" } : Jvm.MethodName)) ∈ lw_tbl := lw_at lw_m4 156 rfl
theorem q910 : (Jvm.Cond.instanceMethod ({ cls := "CakeTastesModel", name := "worth", desc := "([III)I" } : Jvm.MethodName)) ∈ lw_all := lw_g (lw_at lw_m4 157 rfl) rfl
theorem q911 : (Jvm.Cond.code ({ cls := "CakeTastesModel", name := "worth", desc := "([III)I" } : Jvm.MethodName) prog_12_method_11_code (6 : Nat) (Option.some Jvm.ClassFile.FieldType.int)) ∈ lw_all := lw_g (lw_at lw_m4 158 rfl) rfl
theorem q913 : (Jvm.Cond.instanceMethod ({ cls := "CakeTastesModel", name := "swap", desc := "(II)Z" } : Jvm.MethodName)) ∈ lw_all := lw_g (lw_at lw_m4 160 rfl) rfl
theorem q914 : (Jvm.Cond.selects "CakeTastesModel" ({ cls := "CakeTastesModel", name := "swap", desc := "(II)Z" } : Jvm.MethodName) ({ cls := "CakeTastesModel", name := "swap", desc := "(II)Z" } : Jvm.MethodName)) ∈ lw_all := lw_g (lw_at lw_m4 161 rfl) rfl
theorem q915 : (Jvm.Cond.code ({ cls := "CakeTastesModel", name := "swap", desc := "(II)Z" } : Jvm.MethodName) prog_12_method_31_code (5 : Nat) (Option.some Jvm.ClassFile.FieldType.boolean)) ∈ lw_all := lw_g (lw_at lw_m4 162 rfl) rfl
theorem q916 : (Jvm.Cond.methodLink "CakeTastesModel" (114 : Nat) ({ cls := "CakeTastesModel", name := "isBetter", desc := "(II)Z" } : Jvm.MethodName)) ∈ lw_all := lw_g (lw_at lw_m4 163 rfl) rfl
theorem q917 : (Jvm.Cond.privateMethod ({ cls := "CakeTastesModel", name := "isBetter", desc := "(II)Z" } : Jvm.MethodName)) ∈ lw_tbl := lw_at lw_m4 164 rfl
theorem q918 : (Jvm.Cond.instanceMethod ({ cls := "CakeTastesModel", name := "isBetter", desc := "(II)Z" } : Jvm.MethodName)) ∈ lw_all := lw_g (lw_at lw_m4 165 rfl) rfl
theorem q919 : (Jvm.Cond.code ({ cls := "CakeTastesModel", name := "isBetter", desc := "(II)Z" } : Jvm.MethodName) prog_12_method_30_code (3 : Nat) (Option.some Jvm.ClassFile.FieldType.boolean)) ∈ lw_all := lw_g (lw_at lw_m4 166 rfl) rfl
theorem q921 : (Jvm.Cond.instanceMethod ({ cls := "CakeTastesModel", name := "told", desc := "(II)I" } : Jvm.MethodName)) ∈ lw_all := lw_g (lw_at lw_m4 168 rfl) rfl
theorem q922 : (Jvm.Cond.selects "CakeTastesModel" ({ cls := "CakeTastesModel", name := "told", desc := "(II)I" } : Jvm.MethodName) ({ cls := "CakeTastesModel", name := "told", desc := "(II)I" } : Jvm.MethodName)) ∈ lw_all := lw_g (lw_at lw_m4 169 rfl) rfl
theorem q923 : (Jvm.Cond.code ({ cls := "CakeTastesModel", name := "told", desc := "(II)I" } : Jvm.MethodName) prog_12_method_32_code (3 : Nat) (Option.some Jvm.ClassFile.FieldType.int)) ∈ lw_all := lw_g (lw_at lw_m4 170 rfl) rfl
theorem q925 : (Jvm.Cond.instanceMethod ({ cls := "CakeTastesModel", name := "worth", desc := "(II)I" } : Jvm.MethodName)) ∈ lw_all := lw_g (lw_at lw_m4 172 rfl) rfl
theorem q926 : (Jvm.Cond.selects "CakeTastesModel" ({ cls := "CakeTastesModel", name := "worth", desc := "(II)I" } : Jvm.MethodName) ({ cls := "CakeTastesModel", name := "worth", desc := "(II)I" } : Jvm.MethodName)) ∈ lw_all := lw_g (lw_at lw_m4 173 rfl) rfl
theorem q927 : (Jvm.Cond.code ({ cls := "CakeTastesModel", name := "worth", desc := "(II)I" } : Jvm.MethodName) prog_12_method_33_code (3 : Nat) (Option.some Jvm.ClassFile.FieldType.int)) ∈ lw_all := lw_g (lw_at lw_m4 174 rfl) rfl
theorem q929 : (Jvm.Cond.instanceMethod ({ cls := "CakeTastesModel", name := "about", desc := "(II)I" } : Jvm.MethodName)) ∈ lw_all := lw_g (lw_at lw_m4 176 rfl) rfl
theorem q930 : (Jvm.Cond.selects "CakeTastesModel" ({ cls := "CakeTastesModel", name := "about", desc := "(II)I" } : Jvm.MethodName) ({ cls := "CakeTastesModel", name := "about", desc := "(II)I" } : Jvm.MethodName)) ∈ lw_all := lw_g (lw_at lw_m4 177 rfl) rfl
theorem q931 : (Jvm.Cond.code ({ cls := "CakeTastesModel", name := "about", desc := "(II)I" } : Jvm.MethodName) prog_12_method_36_code (3 : Nat) (Option.some Jvm.ClassFile.FieldType.int)) ∈ lw_all := lw_g (lw_at lw_m4 178 rfl) rfl
theorem q932 : (Jvm.Cond.methodLink "CakeTastesModel" (121 : Nat) ({ cls := "CakeTastesModel", name := "eaterTold", desc := "(II)I" } : Jvm.MethodName)) ∈ lw_all := lw_g (lw_at lw_m4 179 rfl) rfl
theorem q933 : (Jvm.Cond.privateMethod ({ cls := "CakeTastesModel", name := "eaterTold", desc := "(II)I" } : Jvm.MethodName)) ∈ lw_tbl := lw_at lw_m4 180 rfl
theorem q934 : (Jvm.Cond.instanceMethod ({ cls := "CakeTastesModel", name := "eaterTold", desc := "(II)I" } : Jvm.MethodName)) ∈ lw_all := lw_g (lw_at lw_m4 181 rfl) rfl
theorem q935 : (Jvm.Cond.code ({ cls := "CakeTastesModel", name := "eaterTold", desc := "(II)I" } : Jvm.MethodName) prog_12_method_35_code (6 : Nat) (Option.some Jvm.ClassFile.FieldType.int)) ∈ lw_all := lw_g (lw_at lw_m4 182 rfl) rfl
theorem q936 : (Jvm.Cond.methodLink "CakeTastesModel" (55 : Nat) ({ cls := "CakeTastesModel", name := "envy", desc := "([III)I" } : Jvm.MethodName)) ∈ lw_all := lw_g (lw_at lw_m4 183 rfl) rfl
theorem q937 : (Jvm.Cond.privateMethod ({ cls := "CakeTastesModel", name := "envy", desc := "([III)I" } : Jvm.MethodName)) ∈ lw_tbl := lw_at lw_m4 184 rfl
theorem q938 : (Jvm.Cond.instanceMethod ({ cls := "CakeTastesModel", name := "envy", desc := "([III)I" } : Jvm.MethodName)) ∈ lw_all := lw_g (lw_at lw_m4 185 rfl) rfl
theorem q939 : (Jvm.Cond.code ({ cls := "CakeTastesModel", name := "envy", desc := "([III)I" } : Jvm.MethodName) prog_12_method_12_code (4 : Nat) (Option.some Jvm.ClassFile.FieldType.int)) ∈ lw_all := lw_g (lw_at lw_m4 186 rfl) rfl
theorem q940 : (Jvm.Cond.methodLink "CakeTastesModel" (118 : Nat) ({ cls := "CakeTastesModel", name := "isFair", desc := "(I)Z" } : Jvm.MethodName)) ∈ lw_all := lw_g (lw_at lw_m4 187 rfl) rfl
theorem q941 : (Jvm.Cond.privateMethod ({ cls := "CakeTastesModel", name := "isFair", desc := "(I)Z" } : Jvm.MethodName)) ∈ lw_tbl := lw_at lw_m4 188 rfl
theorem q942 : (Jvm.Cond.instanceMethod ({ cls := "CakeTastesModel", name := "isFair", desc := "(I)Z" } : Jvm.MethodName)) ∈ lw_all := lw_g (lw_at lw_m4 189 rfl) rfl
theorem q943 : (Jvm.Cond.code ({ cls := "CakeTastesModel", name := "isFair", desc := "(I)Z" } : Jvm.MethodName) prog_12_method_34_code (2 : Nat) (Option.some Jvm.ClassFile.FieldType.boolean)) ∈ lw_all := lw_g (lw_at lw_m4 190 rfl) rfl
theorem q945 : (Jvm.Cond.instanceMethod ({ cls := "CakeTastesModel", name := "taste", desc := "(II)I" } : Jvm.MethodName)) ∈ lw_all := lw_g (lw_at lw_m4 192 rfl) rfl
theorem q946 : (Jvm.Cond.selects "CakeTastesModel" ({ cls := "CakeTastesModel", name := "taste", desc := "(II)I" } : Jvm.MethodName) ({ cls := "CakeTastesModel", name := "taste", desc := "(II)I" } : Jvm.MethodName)) ∈ lw_all := lw_g (lw_at lw_m4 193 rfl) rfl
theorem q947 : (Jvm.Cond.code ({ cls := "CakeTastesModel", name := "taste", desc := "(II)I" } : Jvm.MethodName) prog_12_method_37_code (3 : Nat) (Option.some Jvm.ClassFile.FieldType.int)) ∈ lw_all := lw_g (lw_at lw_m4 194 rfl) rfl
theorem q949 : (Jvm.Cond.instanceMethod ({ cls := "CakeTastesModel", name := "count", desc := "(I)I" } : Jvm.MethodName)) ∈ lw_all := lw_g (lw_at lw_m4 196 rfl) rfl
theorem q950 : (Jvm.Cond.selects "CakeTastesModel" ({ cls := "CakeTastesModel", name := "count", desc := "(I)I" } : Jvm.MethodName) ({ cls := "CakeTastesModel", name := "count", desc := "(I)I" } : Jvm.MethodName)) ∈ lw_all := lw_g (lw_at lw_m4 197 rfl) rfl
theorem q951 : (Jvm.Cond.code ({ cls := "CakeTastesModel", name := "count", desc := "(I)I" } : Jvm.MethodName) prog_12_method_39_code (2 : Nat) (Option.some Jvm.ClassFile.FieldType.int)) ∈ lw_all := lw_g (lw_at lw_m4 198 rfl) rfl
theorem q952 : (Jvm.Cond.methodLink "CakeTastesModel" (128 : Nat) ({ cls := "CakeTastesModel", name := "counted", desc := "(I)I" } : Jvm.MethodName)) ∈ lw_all := lw_g (lw_at lw_m4 199 rfl) rfl
theorem q953 : (Jvm.Cond.privateMethod ({ cls := "CakeTastesModel", name := "counted", desc := "(I)I" } : Jvm.MethodName)) ∈ lw_tbl := lw_at lw_m4 200 rfl
theorem q954 : (Jvm.Cond.instanceMethod ({ cls := "CakeTastesModel", name := "counted", desc := "(I)I" } : Jvm.MethodName)) ∈ lw_all := lw_g (lw_at lw_m4 201 rfl) rfl
theorem q955 : (Jvm.Cond.code ({ cls := "CakeTastesModel", name := "counted", desc := "(I)I" } : Jvm.MethodName) prog_12_method_38_code (5 : Nat) (Option.some Jvm.ClassFile.FieldType.int)) ∈ lw_all := lw_g (lw_at lw_m4 202 rfl) rfl
theorem q956 : (Jvm.Cond.methodLink "CakeTastesModel" (124 : Nat) ({ cls := "CakeTastesModel", name := "allEnvy", desc := "([I)I" } : Jvm.MethodName)) ∈ lw_all := lw_g (lw_at lw_m4 203 rfl) rfl
theorem q957 : (Jvm.Cond.privateMethod ({ cls := "CakeTastesModel", name := "allEnvy", desc := "([I)I" } : Jvm.MethodName)) ∈ lw_tbl := lw_at lw_m4 204 rfl
theorem q958 : (Jvm.Cond.instanceMethod ({ cls := "CakeTastesModel", name := "allEnvy", desc := "([I)I" } : Jvm.MethodName)) ∈ lw_all := lw_g (lw_at lw_m4 205 rfl) rfl
theorem q959 : (Jvm.Cond.code ({ cls := "CakeTastesModel", name := "allEnvy", desc := "([I)I" } : Jvm.MethodName) prog_12_method_13_code (5 : Nat) (Option.some Jvm.ClassFile.FieldType.int)) ∈ lw_all := lw_g (lw_at lw_m4 206 rfl) rfl
theorem q961 : (Jvm.Cond.instanceMethod ({ cls := "CakeTastesModel", name := "cuts", desc := "(III)I" } : Jvm.MethodName)) ∈ lw_all := lw_g (lw_at lw_m4 208 rfl) rfl
theorem q962 : (Jvm.Cond.selects "CakeTastesModel" ({ cls := "CakeTastesModel", name := "cuts", desc := "(III)I" } : Jvm.MethodName) ({ cls := "CakeTastesModel", name := "cuts", desc := "(III)I" } : Jvm.MethodName)) ∈ lw_all := lw_g (lw_at lw_m4 209 rfl) rfl
theorem q963 : (Jvm.Cond.code ({ cls := "CakeTastesModel", name := "cuts", desc := "(III)I" } : Jvm.MethodName) prog_12_method_40_code (4 : Nat) (Option.some Jvm.ClassFile.FieldType.int)) ∈ lw_all := lw_g (lw_at lw_m4 210 rfl) rfl
theorem q965 : (Jvm.Cond.instanceMethod ({ cls := "CakeTastesModel", name := "would", desc := "(I)I" } : Jvm.MethodName)) ∈ lw_all := lw_g (lw_at lw_m4 212 rfl) rfl
theorem q966 : (Jvm.Cond.selects "CakeTastesModel" ({ cls := "CakeTastesModel", name := "would", desc := "(I)I" } : Jvm.MethodName) ({ cls := "CakeTastesModel", name := "would", desc := "(I)I" } : Jvm.MethodName)) ∈ lw_all := lw_g (lw_at lw_m4 213 rfl) rfl
theorem q967 : (Jvm.Cond.code ({ cls := "CakeTastesModel", name := "would", desc := "(I)I" } : Jvm.MethodName) prog_12_method_42_code (2 : Nat) (Option.some Jvm.ClassFile.FieldType.int)) ∈ lw_all := lw_g (lw_at lw_m4 214 rfl) rfl
theorem q968 : (Jvm.Cond.methodLink "CakeTastesModel" (131 : Nat) ({ cls := "CakeTastesModel", name := "tried", desc := "(I)I" } : Jvm.MethodName)) ∈ lw_all := lw_g (lw_at lw_m4 215 rfl) rfl
theorem q969 : (Jvm.Cond.privateMethod ({ cls := "CakeTastesModel", name := "tried", desc := "(I)I" } : Jvm.MethodName)) ∈ lw_tbl := lw_at lw_m4 216 rfl
theorem q970 : (Jvm.Cond.instanceMethod ({ cls := "CakeTastesModel", name := "tried", desc := "(I)I" } : Jvm.MethodName)) ∈ lw_all := lw_g (lw_at lw_m4 217 rfl) rfl
theorem q971 : (Jvm.Cond.code ({ cls := "CakeTastesModel", name := "tried", desc := "(I)I" } : Jvm.MethodName) prog_12_method_41_code (2 : Nat) (Option.some Jvm.ClassFile.FieldType.int)) ∈ lw_all := lw_g (lw_at lw_m4 218 rfl) rfl
theorem q973 : (Jvm.Cond.instanceMethod ({ cls := "CakeTastesModel", name := "best", desc := "()I" } : Jvm.MethodName)) ∈ lw_all := lw_g (lw_at lw_m4 220 rfl) rfl
theorem q974 : (Jvm.Cond.selects "CakeTastesModel" ({ cls := "CakeTastesModel", name := "best", desc := "()I" } : Jvm.MethodName) ({ cls := "CakeTastesModel", name := "best", desc := "()I" } : Jvm.MethodName)) ∈ lw_all := lw_g (lw_at lw_m4 221 rfl) rfl
theorem q975 : (Jvm.Cond.code ({ cls := "CakeTastesModel", name := "best", desc := "()I" } : Jvm.MethodName) prog_12_method_43_code (5 : Nat) (Option.some Jvm.ClassFile.FieldType.int)) ∈ lw_all := lw_g (lw_at lw_m4 222 rfl) rfl
theorem q977 : (Jvm.Cond.instanceMethod ({ cls := "CakeTastesModel", name := "change", desc := "()I" } : Jvm.MethodName)) ∈ lw_all := lw_g (lw_at lw_m4 224 rfl) rfl
theorem q978 : (Jvm.Cond.selects "CakeTastesModel" ({ cls := "CakeTastesModel", name := "change", desc := "()I" } : Jvm.MethodName) ({ cls := "CakeTastesModel", name := "change", desc := "()I" } : Jvm.MethodName)) ∈ lw_all := lw_g (lw_at lw_m4 225 rfl) rfl
theorem q979 : (Jvm.Cond.code ({ cls := "CakeTastesModel", name := "change", desc := "()I" } : Jvm.MethodName) prog_12_method_44_code (3 : Nat) (Option.some Jvm.ClassFile.FieldType.int)) ∈ lw_all := lw_g (lw_at lw_m4 226 rfl) rfl
theorem q981 : (Jvm.Cond.instanceMethod ({ cls := "CakeTastesModel", name := "mean", desc := "()D" } : Jvm.MethodName)) ∈ lw_all := lw_g (lw_at lw_m4 228 rfl) rfl
theorem q982 : (Jvm.Cond.selects "CakeTastesModel" ({ cls := "CakeTastesModel", name := "mean", desc := "()D" } : Jvm.MethodName) ({ cls := "CakeTastesModel", name := "mean", desc := "()D" } : Jvm.MethodName)) ∈ lw_all := lw_g (lw_at lw_m4 229 rfl) rfl
theorem q983 : (Jvm.Cond.code ({ cls := "CakeTastesModel", name := "mean", desc := "()D" } : Jvm.MethodName) prog_12_method_45_code (3 : Nat) (Option.some Jvm.ClassFile.FieldType.double)) ∈ lw_all := lw_g (lw_at lw_m4 230 rfl) rfl
theorem q985 : (Jvm.Cond.instanceMethod ({ cls := "CakeTastesModel", name := "digest", desc := "()J" } : Jvm.MethodName)) ∈ lw_all := lw_g (lw_at lw_m4 232 rfl) rfl
theorem q986 : (Jvm.Cond.selects "CakeTastesModel" ({ cls := "CakeTastesModel", name := "digest", desc := "()J" } : Jvm.MethodName) ({ cls := "CakeTastesModel", name := "digest", desc := "()J" } : Jvm.MethodName)) ∈ lw_all := lw_g (lw_at lw_m4 233 rfl) rfl
theorem q987 : (Jvm.Cond.code ({ cls := "CakeTastesModel", name := "digest", desc := "()J" } : Jvm.MethodName) prog_12_method_46_code (8 : Nat) (Option.some Jvm.ClassFile.FieldType.long)) ∈ lw_all := lw_g (lw_at lw_m4 234 rfl) rfl
theorem q988 : (Jvm.Cond.constantLong "CakeTastesModel" (134 : Nat) (1439 : Int64)) ∈ lw_all := lw_g (lw_at lw_m4 235 rfl) rfl
theorem q989 : (Jvm.Cond.constantLong "CakeTastesModel" (136 : Nat) (31 : Int64)) ∈ lw_all := lw_g (lw_at lw_m4 236 rfl) rfl
theorem q1005 : (Jvm.Cond.castable "CakeTastesModel" "java/lang/Object") ∈ lw_tbl := lw_at lw_m5 12 rfl
theorem in_X4 : ∀ w ∈ wsX40, w ∈ lw_all := lw_in wsX40 [795, 797, 799, 801, 803, 805, 807, 809] (by decide +kernel) (by decide +kernel)
