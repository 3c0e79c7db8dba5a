/-! CakeTastes -/
set_option maxRecDepth 100000
def RX1 : String := "CakeTastes"
def TX1 : u_T := fun k => match k with
  | 0 => ("CakeTastes", "eaters", "Ljava/util/ArrayList;", true)
  | 1 => ("CakeTastes", "table", "LCakeTastes$Table;", false)
  | _ => ("CakeTastes", "shared", "I", false)
def tyX1 : Nat → FieldType := fun k => match k with
  | 0 => .object "java/util/ArrayList"
  | 1 => .object "CakeTastes$Table"
  | _ => .int
abbrev wsX10 : List Cond := u_ws RX1 TX1 3
theorem nmX1 : ∀ a, a < 3 → ∀ b, b < 3 → a ≠ b → (TX1 a).2.1 ≠ (TX1 b).2.1 := by decide +kernel
theorem tyX1_ok : ∀ k, k < 3 → parseFieldDescriptor (TX1 k).2.2.1 = some (tyX1 k) := by decide +kernel
abbrev cX1_init : ByteArray := prog_1_method_6_code
def yX1_init : MethodName := ⟨RX1, "<init>", "()V"⟩
def dkwX1_init_2 : List UInt8 := [89, 183, 0, 53, 182, 0, 54, 87, 132, 1, 1, 167, 255, 229, 177]
abbrev dktX1_init_2 : List UInt8 := dkwX1_init_2 ++ []
def dkwX1_init_1 : List UInt8 := [183, 0, 41, 181, 0, 44, 3, 60, 27, 16, 12, 162, 0, 27, 42, 180, 0, 44, 180, 0, 48, 187, 0, 51]
abbrev dktX1_init_1 : List UInt8 := dkwX1_init_1 ++ dktX1_init_2
def dkwX1_init_0 : List UInt8 := [42, 183, 0, 29, 42, 187, 0, 32, 89, 183, 0, 34, 181, 0, 35, 42, 187, 0, 39, 89, 42, 180, 0, 35]
abbrev dktX1_init_0 : List UInt8 := dkwX1_init_0 ++ dktX1_init_1
theorem dksX1_init_0 : cX1_init.data.toList.drop 0 = dktX1_init_0 := by decide +kernel
theorem dksX1_init_1 : cX1_init.data.toList.drop 24 = dktX1_init_1 := dk_seg dksX1_init_0 24 rfl rfl
theorem dksX1_init_2 : cX1_init.data.toList.drop 48 = dktX1_init_2 := dk_seg dksX1_init_1 24 rfl rfl
theorem dX1_init_0 : decode cX1_init 0 = .ok (.aload_n 0, 1) := dk_42 (dk_at dksX1_init_0 0 rfl rfl)
theorem dX1_init_1 : decode cX1_init 1 = .ok (.invokespecial 29, 3) := dk_183 0 29 (dk_at dksX1_init_0 1 rfl rfl)
theorem dX1_init_4 : decode cX1_init 4 = .ok (.aload_n 0, 1) := dk_42 (dk_at dksX1_init_0 4 rfl rfl)
theorem dX1_init_5 : decode cX1_init 5 = .ok (.new 32, 3) := dk_187 0 32 (dk_at dksX1_init_0 5 rfl rfl)
theorem dX1_init_8 : decode cX1_init 8 = .ok (.dup, 1) := dk_89 (dk_at dksX1_init_0 8 rfl rfl)
theorem dX1_init_9 : decode cX1_init 9 = .ok (.invokespecial 34, 3) := dk_183 0 34 (dk_at dksX1_init_0 9 rfl rfl)
theorem dX1_init_12 : decode cX1_init 12 = .ok (.putfield 35, 3) := dk_181 0 35 (dk_at dksX1_init_0 12 rfl rfl)
theorem dX1_init_15 : decode cX1_init 15 = .ok (.aload_n 0, 1) := dk_42 (dk_at dksX1_init_0 15 rfl rfl)
theorem dX1_init_16 : decode cX1_init 16 = .ok (.new 39, 3) := dk_187 0 39 (dk_at dksX1_init_0 16 rfl rfl)
theorem dX1_init_19 : decode cX1_init 19 = .ok (.dup, 1) := dk_89 (dk_at dksX1_init_0 19 rfl rfl)
theorem dX1_init_20 : decode cX1_init 20 = .ok (.aload_n 0, 1) := dk_42 (dk_at dksX1_init_0 20 rfl rfl)
theorem dX1_init_21 : decode cX1_init 21 = .ok (.getfield 35, 3) := dk_180 0 35 (dk_at dksX1_init_0 21 rfl rfl)
theorem dX1_init_24 : decode cX1_init 24 = .ok (.invokespecial 41, 3) := dk_183 0 41 (dk_at dksX1_init_1 0 rfl rfl)
theorem dX1_init_27 : decode cX1_init 27 = .ok (.putfield 44, 3) := dk_181 0 44 (dk_at dksX1_init_1 3 rfl rfl)
theorem dX1_init_30 : decode cX1_init 30 = .ok (.iconst 0, 1) := dk_3 (dk_at dksX1_init_1 6 rfl rfl)
theorem dX1_init_31 : decode cX1_init 31 = .ok (.istore_n 1, 1) := dk_60 (dk_at dksX1_init_1 7 rfl rfl)
theorem dX1_init_32 : decode cX1_init 32 = .ok (.iload_n 1, 1) := dk_27 (dk_at dksX1_init_1 8 rfl rfl)
theorem dX1_init_33 : decode cX1_init 33 = .ok (.bipush 12, 2) := dk_16 12 (dk_at dksX1_init_1 9 rfl rfl)
theorem dX1_init_35 : decode cX1_init 35 = .ok (.if_icmp .ge 27, 3) := dk_162 0 27 (dk_at dksX1_init_1 11 rfl rfl)
theorem dX1_init_38 : decode cX1_init 38 = .ok (.aload_n 0, 1) := dk_42 (dk_at dksX1_init_1 14 rfl rfl)
theorem dX1_init_39 : decode cX1_init 39 = .ok (.getfield 44, 3) := dk_180 0 44 (dk_at dksX1_init_1 15 rfl rfl)
theorem dX1_init_42 : decode cX1_init 42 = .ok (.getfield 48, 3) := dk_180 0 48 (dk_at dksX1_init_1 18 rfl rfl)
theorem dX1_init_45 : decode cX1_init 45 = .ok (.new 51, 3) := dk_187 0 51 (dk_at dksX1_init_1 21 rfl rfl)
theorem dX1_init_48 : decode cX1_init 48 = .ok (.dup, 1) := dk_89 (dk_at dksX1_init_2 0 rfl rfl)
theorem dX1_init_49 : decode cX1_init 49 = .ok (.invokespecial 53, 3) := dk_183 0 53 (dk_at dksX1_init_2 1 rfl rfl)
theorem dX1_init_52 : decode cX1_init 52 = .ok (.invokevirtual 54, 3) := dk_182 0 54 (dk_at dksX1_init_2 4 rfl rfl)
theorem dX1_init_55 : decode cX1_init 55 = .ok (.pop, 1) := dk_87 (dk_at dksX1_init_2 7 rfl rfl)
theorem dX1_init_56 : decode cX1_init 56 = .ok (.iinc 1 1, 3) := dk_132 1 1 (dk_at dksX1_init_2 8 rfl rfl)
theorem dX1_init_59 : decode cX1_init 59 = .ok (.goto (-27), 3) := dk_167 255 229 (dk_at dksX1_init_2 11 rfl rfl)
theorem dX1_init_62 : decode cX1_init 62 = .ok (.return_, 1) := dk_177 (dk_at dksX1_init_2 14 rfl rfl)
abbrev cX1_best : ByteArray := prog_1_method_30_code
def yX1_best : MethodName := ⟨RX1, "best", "()I"⟩
def dkwX1_best_2 : List UInt8 := [132, 2, 1, 167, 255, 210, 27, 172]
abbrev dktX1_best_2 : List UInt8 := dkwX1_best_2 ++ []
def dkwX1_best_1 : List UInt8 := [159, 0, 23, 27, 2, 159, 0, 16, 29, 42, 178, 0, 84, 27, 50, 182, 0, 182, 162, 0, 5, 28, 60]
abbrev dktX1_best_1 : List UInt8 := dkwX1_best_1 ++ dktX1_best_2
def dkwX1_best_0 : List UInt8 := [2, 60, 3, 61, 28, 178, 0, 84, 190, 162, 0, 44, 42, 178, 0, 84, 28, 50, 182, 0, 182, 62, 29, 2]
abbrev dktX1_best_0 : List UInt8 := dkwX1_best_0 ++ dktX1_best_1
theorem dksX1_best_0 : cX1_best.data.toList.drop 0 = dktX1_best_0 := by decide +kernel
theorem dksX1_best_1 : cX1_best.data.toList.drop 24 = dktX1_best_1 := dk_seg dksX1_best_0 24 rfl rfl
theorem dksX1_best_2 : cX1_best.data.toList.drop 47 = dktX1_best_2 := dk_seg dksX1_best_1 23 rfl rfl
theorem dX1_best_0 : decode cX1_best 0 = .ok (.iconst (-1), 1) := dk_2 (dk_at dksX1_best_0 0 rfl rfl)
theorem dX1_best_1 : decode cX1_best 1 = .ok (.istore_n 1, 1) := dk_60 (dk_at dksX1_best_0 1 rfl rfl)
theorem dX1_best_2 : decode cX1_best 2 = .ok (.iconst 0, 1) := dk_3 (dk_at dksX1_best_0 2 rfl rfl)
theorem dX1_best_3 : decode cX1_best 3 = .ok (.istore_n 2, 1) := dk_61 (dk_at dksX1_best_0 3 rfl rfl)
theorem dX1_best_4 : decode cX1_best 4 = .ok (.iload_n 2, 1) := dk_28 (dk_at dksX1_best_0 4 rfl rfl)
theorem dX1_best_5 : decode cX1_best 5 = .ok (.getstatic 84, 3) := dk_178 0 84 (dk_at dksX1_best_0 5 rfl rfl)
theorem dX1_best_8 : decode cX1_best 8 = .ok (.arraylength, 1) := dk_190 (dk_at dksX1_best_0 8 rfl rfl)
theorem dX1_best_9 : decode cX1_best 9 = .ok (.if_icmp .ge 44, 3) := dk_162 0 44 (dk_at dksX1_best_0 9 rfl rfl)
theorem dX1_best_12 : decode cX1_best 12 = .ok (.aload_n 0, 1) := dk_42 (dk_at dksX1_best_0 12 rfl rfl)
theorem dX1_best_13 : decode cX1_best 13 = .ok (.getstatic 84, 3) := dk_178 0 84 (dk_at dksX1_best_0 13 rfl rfl)
theorem dX1_best_16 : decode cX1_best 16 = .ok (.iload_n 2, 1) := dk_28 (dk_at dksX1_best_0 16 rfl rfl)
theorem dX1_best_17 : decode cX1_best 17 = .ok (.aaload, 1) := dk_50 (dk_at dksX1_best_0 17 rfl rfl)
theorem dX1_best_18 : decode cX1_best 18 = .ok (.invokevirtual 182, 3) := dk_182 0 182 (dk_at dksX1_best_0 18 rfl rfl)
theorem dX1_best_21 : decode cX1_best 21 = .ok (.istore_n 3, 1) := dk_62 (dk_at dksX1_best_0 21 rfl rfl)
theorem dX1_best_22 : decode cX1_best 22 = .ok (.iload_n 3, 1) := dk_29 (dk_at dksX1_best_0 22 rfl rfl)
theorem dX1_best_23 : decode cX1_best 23 = .ok (.iconst (-1), 1) := dk_2 (dk_at dksX1_best_0 23 rfl rfl)
theorem dX1_best_24 : decode cX1_best 24 = .ok (.if_icmp .eq 23, 3) := dk_159 0 23 (dk_at dksX1_best_1 0 rfl rfl)
theorem dX1_best_27 : decode cX1_best 27 = .ok (.iload_n 1, 1) := dk_27 (dk_at dksX1_best_1 3 rfl rfl)
theorem dX1_best_28 : decode cX1_best 28 = .ok (.iconst (-1), 1) := dk_2 (dk_at dksX1_best_1 4 rfl rfl)
theorem dX1_best_29 : decode cX1_best 29 = .ok (.if_icmp .eq 16, 3) := dk_159 0 16 (dk_at dksX1_best_1 5 rfl rfl)
theorem dX1_best_32 : decode cX1_best 32 = .ok (.iload_n 3, 1) := dk_29 (dk_at dksX1_best_1 8 rfl rfl)
theorem dX1_best_33 : decode cX1_best 33 = .ok (.aload_n 0, 1) := dk_42 (dk_at dksX1_best_1 9 rfl rfl)
theorem dX1_best_34 : decode cX1_best 34 = .ok (.getstatic 84, 3) := dk_178 0 84 (dk_at dksX1_best_1 10 rfl rfl)
theorem dX1_best_37 : decode cX1_best 37 = .ok (.iload_n 1, 1) := dk_27 (dk_at dksX1_best_1 13 rfl rfl)
theorem dX1_best_38 : decode cX1_best 38 = .ok (.aaload, 1) := dk_50 (dk_at dksX1_best_1 14 rfl rfl)
theorem dX1_best_39 : decode cX1_best 39 = .ok (.invokevirtual 182, 3) := dk_182 0 182 (dk_at dksX1_best_1 15 rfl rfl)
theorem dX1_best_42 : decode cX1_best 42 = .ok (.if_icmp .ge 5, 3) := dk_162 0 5 (dk_at dksX1_best_1 18 rfl rfl)
theorem dX1_best_45 : decode cX1_best 45 = .ok (.iload_n 2, 1) := dk_28 (dk_at dksX1_best_1 21 rfl rfl)
theorem dX1_best_46 : decode cX1_best 46 = .ok (.istore_n 1, 1) := dk_60 (dk_at dksX1_best_1 22 rfl rfl)
theorem dX1_best_47 : decode cX1_best 47 = .ok (.iinc 2 1, 3) := dk_132 2 1 (dk_at dksX1_best_2 0 rfl rfl)
theorem dX1_best_50 : decode cX1_best 50 = .ok (.goto (-46), 3) := dk_167 255 210 (dk_at dksX1_best_2 3 rfl rfl)
theorem dX1_best_53 : decode cX1_best 53 = .ok (.iload_n 1, 1) := dk_27 (dk_at dksX1_best_2 6 rfl rfl)
theorem dX1_best_54 : decode cX1_best 54 = .ok (.ireturn, 1) := dk_172 (dk_at dksX1_best_2 7 rfl rfl)
abbrev cX1_envyBy : ByteArray := prog_1_method_28_code
def yX1_envyBy : MethodName := ⟨RX1, "envyBy", "(LCakeTastes$Way;)I"⟩
def dkwX1_envyBy_1 : List UInt8 := [182, 0, 98, 44, 3, 182, 0, 159, 172]
abbrev dktX1_envyBy_1 : List UInt8 := dkwX1_envyBy_1 ++ []
def dkwX1_envyBy_0 : List UInt8 := [42, 180, 0, 44, 43, 182, 0, 94, 154, 0, 5, 2, 172, 42, 180, 0, 44, 182, 0, 178, 77, 44, 43]
abbrev dktX1_envyBy_0 : List UInt8 := dkwX1_envyBy_0 ++ dktX1_envyBy_1
theorem dksX1_envyBy_0 : cX1_envyBy.data.toList.drop 0 = dktX1_envyBy_0 := by decide +kernel
theorem dksX1_envyBy_1 : cX1_envyBy.data.toList.drop 23 = dktX1_envyBy_1 := dk_seg dksX1_envyBy_0 23 rfl rfl
theorem dX1_envyBy_0 : decode cX1_envyBy 0 = .ok (.aload_n 0, 1) := dk_42 (dk_at dksX1_envyBy_0 0 rfl rfl)
theorem dX1_envyBy_1 : decode cX1_envyBy 1 = .ok (.getfield 44, 3) := dk_180 0 44 (dk_at dksX1_envyBy_0 1 rfl rfl)
theorem dX1_envyBy_4 : decode cX1_envyBy 4 = .ok (.aload_n 1, 1) := dk_43 (dk_at dksX1_envyBy_0 4 rfl rfl)
theorem dX1_envyBy_5 : decode cX1_envyBy 5 = .ok (.invokevirtual 94, 3) := dk_182 0 94 (dk_at dksX1_envyBy_0 5 rfl rfl)
theorem dX1_envyBy_8 : decode cX1_envyBy 8 = .ok (.ifCond .ne 5, 3) := dk_154 0 5 (dk_at dksX1_envyBy_0 8 rfl rfl)
theorem dX1_envyBy_11 : decode cX1_envyBy 11 = .ok (.iconst (-1), 1) := dk_2 (dk_at dksX1_envyBy_0 11 rfl rfl)
theorem dX1_envyBy_12 : decode cX1_envyBy 12 = .ok (.ireturn, 1) := dk_172 (dk_at dksX1_envyBy_0 12 rfl rfl)
theorem dX1_envyBy_13 : decode cX1_envyBy 13 = .ok (.aload_n 0, 1) := dk_42 (dk_at dksX1_envyBy_0 13 rfl rfl)
theorem dX1_envyBy_14 : decode cX1_envyBy 14 = .ok (.getfield 44, 3) := dk_180 0 44 (dk_at dksX1_envyBy_0 14 rfl rfl)
theorem dX1_envyBy_17 : decode cX1_envyBy 17 = .ok (.invokevirtual 178, 3) := dk_182 0 178 (dk_at dksX1_envyBy_0 17 rfl rfl)
theorem dX1_envyBy_20 : decode cX1_envyBy 20 = .ok (.astore_n 2, 1) := dk_77 (dk_at dksX1_envyBy_0 20 rfl rfl)
theorem dX1_envyBy_21 : decode cX1_envyBy 21 = .ok (.aload_n 2, 1) := dk_44 (dk_at dksX1_envyBy_0 21 rfl rfl)
theorem dX1_envyBy_22 : decode cX1_envyBy 22 = .ok (.aload_n 1, 1) := dk_43 (dk_at dksX1_envyBy_0 22 rfl rfl)
theorem dX1_envyBy_23 : decode cX1_envyBy 23 = .ok (.invokevirtual 98, 3) := dk_182 0 98 (dk_at dksX1_envyBy_1 0 rfl rfl)
theorem dX1_envyBy_26 : decode cX1_envyBy 26 = .ok (.aload_n 2, 1) := dk_44 (dk_at dksX1_envyBy_1 3 rfl rfl)
theorem dX1_envyBy_27 : decode cX1_envyBy 27 = .ok (.iconst 0, 1) := dk_3 (dk_at dksX1_envyBy_1 4 rfl rfl)
theorem dX1_envyBy_28 : decode cX1_envyBy 28 = .ok (.invokevirtual 159, 3) := dk_182 0 159 (dk_at dksX1_envyBy_1 5 rfl rfl)
theorem dX1_envyBy_31 : decode cX1_envyBy 31 = .ok (.ireturn, 1) := dk_172 (dk_at dksX1_envyBy_1 8 rfl rfl)
abbrev cX1_change : ByteArray := prog_1_method_31_code
def yX1_change : MethodName := ⟨RX1, "change", "()I"⟩
def dkwX1_change_2 : List UInt8 := [172, 132, 2, 1, 167, 255, 223, 132, 1, 1, 167, 255, 202, 2, 172]
abbrev dktX1_change_2 : List UInt8 := dkwX1_change_2 ++ []
def dkwX1_change_1 : List UInt8 := [182, 0, 58, 162, 0, 28, 42, 180, 0, 44, 27, 28, 182, 0, 123, 153, 0, 10, 16, 10, 27, 104, 28, 96]
abbrev dktX1_change_1 : List UInt8 := dkwX1_change_1 ++ dktX1_change_2
def dkwX1_change_0 : List UInt8 := [3, 60, 27, 42, 180, 0, 35, 182, 0, 58, 162, 0, 49, 27, 4, 96, 61, 28, 42, 180, 0, 35]
abbrev dktX1_change_0 : List UInt8 := dkwX1_change_0 ++ dktX1_change_1
theorem dksX1_change_0 : cX1_change.data.toList.drop 0 = dktX1_change_0 := by decide +kernel
theorem dksX1_change_1 : cX1_change.data.toList.drop 22 = dktX1_change_1 := dk_seg dksX1_change_0 22 rfl rfl
theorem dksX1_change_2 : cX1_change.data.toList.drop 46 = dktX1_change_2 := dk_seg dksX1_change_1 24 rfl rfl
theorem dX1_change_0 : decode cX1_change 0 = .ok (.iconst 0, 1) := dk_3 (dk_at dksX1_change_0 0 rfl rfl)
theorem dX1_change_1 : decode cX1_change 1 = .ok (.istore_n 1, 1) := dk_60 (dk_at dksX1_change_0 1 rfl rfl)
theorem dX1_change_2 : decode cX1_change 2 = .ok (.iload_n 1, 1) := dk_27 (dk_at dksX1_change_0 2 rfl rfl)
theorem dX1_change_3 : decode cX1_change 3 = .ok (.aload_n 0, 1) := dk_42 (dk_at dksX1_change_0 3 rfl rfl)
theorem dX1_change_4 : decode cX1_change 4 = .ok (.getfield 35, 3) := dk_180 0 35 (dk_at dksX1_change_0 4 rfl rfl)
theorem dX1_change_7 : decode cX1_change 7 = .ok (.invokevirtual 58, 3) := dk_182 0 58 (dk_at dksX1_change_0 7 rfl rfl)
theorem dX1_change_10 : decode cX1_change 10 = .ok (.if_icmp .ge 49, 3) := dk_162 0 49 (dk_at dksX1_change_0 10 rfl rfl)
theorem dX1_change_13 : decode cX1_change 13 = .ok (.iload_n 1, 1) := dk_27 (dk_at dksX1_change_0 13 rfl rfl)
theorem dX1_change_14 : decode cX1_change 14 = .ok (.iconst 1, 1) := dk_4 (dk_at dksX1_change_0 14 rfl rfl)
theorem dX1_change_15 : decode cX1_change 15 = .ok (.iadd, 1) := dk_96 (dk_at dksX1_change_0 15 rfl rfl)
theorem dX1_change_16 : decode cX1_change 16 = .ok (.istore_n 2, 1) := dk_61 (dk_at dksX1_change_0 16 rfl rfl)
theorem dX1_change_17 : decode cX1_change 17 = .ok (.iload_n 2, 1) := dk_28 (dk_at dksX1_change_0 17 rfl rfl)
theorem dX1_change_18 : decode cX1_change 18 = .ok (.aload_n 0, 1) := dk_42 (dk_at dksX1_change_0 18 rfl rfl)
theorem dX1_change_19 : decode cX1_change 19 = .ok (.getfield 35, 3) := dk_180 0 35 (dk_at dksX1_change_0 19 rfl rfl)
theorem dX1_change_22 : decode cX1_change 22 = .ok (.invokevirtual 58, 3) := dk_182 0 58 (dk_at dksX1_change_1 0 rfl rfl)
theorem dX1_change_25 : decode cX1_change 25 = .ok (.if_icmp .ge 28, 3) := dk_162 0 28 (dk_at dksX1_change_1 3 rfl rfl)
theorem dX1_change_28 : decode cX1_change 28 = .ok (.aload_n 0, 1) := dk_42 (dk_at dksX1_change_1 6 rfl rfl)
theorem dX1_change_29 : decode cX1_change 29 = .ok (.getfield 44, 3) := dk_180 0 44 (dk_at dksX1_change_1 7 rfl rfl)
theorem dX1_change_32 : decode cX1_change 32 = .ok (.iload_n 1, 1) := dk_27 (dk_at dksX1_change_1 10 rfl rfl)
theorem dX1_change_33 : decode cX1_change 33 = .ok (.iload_n 2, 1) := dk_28 (dk_at dksX1_change_1 11 rfl rfl)
theorem dX1_change_34 : decode cX1_change 34 = .ok (.invokevirtual 123, 3) := dk_182 0 123 (dk_at dksX1_change_1 12 rfl rfl)
theorem dX1_change_37 : decode cX1_change 37 = .ok (.ifCond .eq 10, 3) := dk_153 0 10 (dk_at dksX1_change_1 15 rfl rfl)
theorem dX1_change_40 : decode cX1_change 40 = .ok (.bipush 10, 2) := dk_16 10 (dk_at dksX1_change_1 18 rfl rfl)
theorem dX1_change_42 : decode cX1_change 42 = .ok (.iload_n 1, 1) := dk_27 (dk_at dksX1_change_1 20 rfl rfl)
theorem dX1_change_43 : decode cX1_change 43 = .ok (.imul, 1) := dk_104 (dk_at dksX1_change_1 21 rfl rfl)
theorem dX1_change_44 : decode cX1_change 44 = .ok (.iload_n 2, 1) := dk_28 (dk_at dksX1_change_1 22 rfl rfl)
theorem dX1_change_45 : decode cX1_change 45 = .ok (.iadd, 1) := dk_96 (dk_at dksX1_change_1 23 rfl rfl)
theorem dX1_change_46 : decode cX1_change 46 = .ok (.ireturn, 1) := dk_172 (dk_at dksX1_change_2 0 rfl rfl)
theorem dX1_change_47 : decode cX1_change 47 = .ok (.iinc 2 1, 3) := dk_132 2 1 (dk_at dksX1_change_2 1 rfl rfl)
theorem dX1_change_50 : decode cX1_change 50 = .ok (.goto (-33), 3) := dk_167 255 223 (dk_at dksX1_change_2 4 rfl rfl)
theorem dX1_change_53 : decode cX1_change 53 = .ok (.iinc 1 1, 3) := dk_132 1 1 (dk_at dksX1_change_2 7 rfl rfl)
theorem dX1_change_56 : decode cX1_change 56 = .ok (.goto (-54), 3) := dk_167 255 202 (dk_at dksX1_change_2 10 rfl rfl)
theorem dX1_change_59 : decode cX1_change 59 = .ok (.iconst (-1), 1) := dk_2 (dk_at dksX1_change_2 13 rfl rfl)
theorem dX1_change_60 : decode cX1_change 60 = .ok (.ireturn, 1) := dk_172 (dk_at dksX1_change_2 14 rfl rfl)
abbrev cX1_mean : ByteArray := prog_1_method_32_code
def yX1_mean : MethodName := ⟨RX1, "mean", "()D"⟩
def dkwX1_mean_2 : List UInt8 := [167, 0, 14, 27, 135, 42, 180, 0, 35, 182, 0, 58, 135, 111, 175]
abbrev dktX1_mean_2 : List UInt8 := dkwX1_mean_2 ++ []
def dkwX1_mean_1 : List UInt8 := [182, 0, 112, 96, 60, 132, 2, 1, 167, 255, 230, 42, 180, 0, 35, 182, 0, 108, 153, 0, 7, 14]
abbrev dktX1_mean_1 : List UInt8 := dkwX1_mean_1 ++ dktX1_mean_2
def dkwX1_mean_0 : List UInt8 := [3, 60, 3, 61, 28, 42, 180, 0, 35, 182, 0, 58, 162, 0, 21, 27, 42, 180, 0, 44, 28, 28]
abbrev dktX1_mean_0 : List UInt8 := dkwX1_mean_0 ++ dktX1_mean_1
theorem dksX1_mean_0 : cX1_mean.data.toList.drop 0 = dktX1_mean_0 := by decide +kernel
theorem dksX1_mean_1 : cX1_mean.data.toList.drop 22 = dktX1_mean_1 := dk_seg dksX1_mean_0 22 rfl rfl
theorem dksX1_mean_2 : cX1_mean.data.toList.drop 44 = dktX1_mean_2 := dk_seg dksX1_mean_1 22 rfl rfl
theorem dX1_mean_0 : decode cX1_mean 0 = .ok (.iconst 0, 1) := dk_3 (dk_at dksX1_mean_0 0 rfl rfl)
theorem dX1_mean_1 : decode cX1_mean 1 = .ok (.istore_n 1, 1) := dk_60 (dk_at dksX1_mean_0 1 rfl rfl)
theorem dX1_mean_2 : decode cX1_mean 2 = .ok (.iconst 0, 1) := dk_3 (dk_at dksX1_mean_0 2 rfl rfl)
theorem dX1_mean_3 : decode cX1_mean 3 = .ok (.istore_n 2, 1) := dk_61 (dk_at dksX1_mean_0 3 rfl rfl)
theorem dX1_mean_4 : decode cX1_mean 4 = .ok (.iload_n 2, 1) := dk_28 (dk_at dksX1_mean_0 4 rfl rfl)
theorem dX1_mean_5 : decode cX1_mean 5 = .ok (.aload_n 0, 1) := dk_42 (dk_at dksX1_mean_0 5 rfl rfl)
theorem dX1_mean_6 : decode cX1_mean 6 = .ok (.getfield 35, 3) := dk_180 0 35 (dk_at dksX1_mean_0 6 rfl rfl)
theorem dX1_mean_9 : decode cX1_mean 9 = .ok (.invokevirtual 58, 3) := dk_182 0 58 (dk_at dksX1_mean_0 9 rfl rfl)
theorem dX1_mean_12 : decode cX1_mean 12 = .ok (.if_icmp .ge 21, 3) := dk_162 0 21 (dk_at dksX1_mean_0 12 rfl rfl)
theorem dX1_mean_15 : decode cX1_mean 15 = .ok (.iload_n 1, 1) := dk_27 (dk_at dksX1_mean_0 15 rfl rfl)
theorem dX1_mean_16 : decode cX1_mean 16 = .ok (.aload_n 0, 1) := dk_42 (dk_at dksX1_mean_0 16 rfl rfl)
theorem dX1_mean_17 : decode cX1_mean 17 = .ok (.getfield 44, 3) := dk_180 0 44 (dk_at dksX1_mean_0 17 rfl rfl)
theorem dX1_mean_20 : decode cX1_mean 20 = .ok (.iload_n 2, 1) := dk_28 (dk_at dksX1_mean_0 20 rfl rfl)
theorem dX1_mean_21 : decode cX1_mean 21 = .ok (.iload_n 2, 1) := dk_28 (dk_at dksX1_mean_0 21 rfl rfl)
theorem dX1_mean_22 : decode cX1_mean 22 = .ok (.invokevirtual 112, 3) := dk_182 0 112 (dk_at dksX1_mean_1 0 rfl rfl)
theorem dX1_mean_25 : decode cX1_mean 25 = .ok (.iadd, 1) := dk_96 (dk_at dksX1_mean_1 3 rfl rfl)
theorem dX1_mean_26 : decode cX1_mean 26 = .ok (.istore_n 1, 1) := dk_60 (dk_at dksX1_mean_1 4 rfl rfl)
theorem dX1_mean_27 : decode cX1_mean 27 = .ok (.iinc 2 1, 3) := dk_132 2 1 (dk_at dksX1_mean_1 5 rfl rfl)
theorem dX1_mean_30 : decode cX1_mean 30 = .ok (.goto (-26), 3) := dk_167 255 230 (dk_at dksX1_mean_1 8 rfl rfl)
theorem dX1_mean_33 : decode cX1_mean 33 = .ok (.aload_n 0, 1) := dk_42 (dk_at dksX1_mean_1 11 rfl rfl)
theorem dX1_mean_34 : decode cX1_mean 34 = .ok (.getfield 35, 3) := dk_180 0 35 (dk_at dksX1_mean_1 12 rfl rfl)
theorem dX1_mean_37 : decode cX1_mean 37 = .ok (.invokevirtual 108, 3) := dk_182 0 108 (dk_at dksX1_mean_1 15 rfl rfl)
theorem dX1_mean_40 : decode cX1_mean 40 = .ok (.ifCond .eq 7, 3) := dk_153 0 7 (dk_at dksX1_mean_1 18 rfl rfl)
theorem dX1_mean_43 : decode cX1_mean 43 = .ok (.dconst 0, 1) := dk_14 (dk_at dksX1_mean_1 21 rfl rfl)
theorem dX1_mean_44 : decode cX1_mean 44 = .ok (.goto 14, 3) := dk_167 0 14 (dk_at dksX1_mean_2 0 rfl rfl)
theorem dX1_mean_47 : decode cX1_mean 47 = .ok (.iload_n 1, 1) := dk_27 (dk_at dksX1_mean_2 3 rfl rfl)
theorem dX1_mean_48 : decode cX1_mean 48 = .ok (.i2d, 1) := dk_135 (dk_at dksX1_mean_2 4 rfl rfl)
theorem dX1_mean_49 : decode cX1_mean 49 = .ok (.aload_n 0, 1) := dk_42 (dk_at dksX1_mean_2 5 rfl rfl)
theorem dX1_mean_50 : decode cX1_mean 50 = .ok (.getfield 35, 3) := dk_180 0 35 (dk_at dksX1_mean_2 6 rfl rfl)
theorem dX1_mean_53 : decode cX1_mean 53 = .ok (.invokevirtual 58, 3) := dk_182 0 58 (dk_at dksX1_mean_2 9 rfl rfl)
theorem dX1_mean_56 : decode cX1_mean 56 = .ok (.i2d, 1) := dk_135 (dk_at dksX1_mean_2 12 rfl rfl)
theorem dX1_mean_57 : decode cX1_mean 57 = .ok (.ddiv, 1) := dk_111 (dk_at dksX1_mean_2 13 rfl rfl)
theorem dX1_mean_58 : decode cX1_mean 58 = .ok (.dreturn, 1) := dk_175 (dk_at dksX1_mean_2 14 rfl rfl)
abbrev cX1_digest : ByteArray := prog_1_method_33_code
def yX1_digest : MethodName := ⟨RX1, "digest", "()J"⟩
def dkwX1_digest_10 : List UInt8 := [167, 255, 223, 132, 3, 1, 167, 255, 118, 31, 173]
abbrev dktX1_digest_10 : List UInt8 := dkwX1_digest_10 ++ []
def dkwX1_digest_9 : List UInt8 := [162, 0, 27, 31, 20, 0, 188, 105, 42, 180, 0, 44, 29, 21, 4, 182, 0, 112, 133, 97, 64, 132, 4, 1]
abbrev dktX1_digest_9 : List UInt8 := dkwX1_digest_9 ++ dktX1_digest_10
def dkwX1_digest_8 : List UInt8 := [182, 0, 156, 133, 97, 64, 132, 4, 1, 167, 255, 231, 3, 54, 4, 21, 4, 42, 180, 0, 35, 182, 0, 58]
abbrev dktX1_digest_8 : List UInt8 := dkwX1_digest_8 ++ dktX1_digest_9
def dkwX1_digest_7 : List UInt8 := [167, 255, 229, 3, 54, 4, 21, 4, 16, 6, 162, 0, 24, 31, 20, 0, 188, 105, 42, 29, 21, 4]
abbrev dktX1_digest_7 : List UInt8 := dkwX1_digest_7 ++ dktX1_digest_8
def dkwX1_digest_6 : List UInt8 := [162, 0, 26, 25, 4, 21, 6, 46, 54, 7, 31, 20, 0, 188, 105, 21, 7, 133, 97, 64, 132, 6, 1]
abbrev dktX1_digest_6 : List UInt8 := dkwX1_digest_6 ++ dktX1_digest_7
def dkwX1_digest_5 : List UInt8 := [182, 0, 127, 192, 0, 74, 180, 0, 77, 58, 4, 25, 4, 190, 54, 5, 3, 54, 6, 21, 6, 21, 5]
abbrev dktX1_digest_5 : List UInt8 := dkwX1_digest_5 ++ dktX1_digest_6
def dkwX1_digest_4 : List UInt8 := [132, 3, 1, 167, 255, 191, 3, 62, 29, 42, 180, 0, 35, 182, 0, 58, 162, 0, 133, 42, 180, 0, 35, 29]
abbrev dktX1_digest_4 : List UInt8 := dkwX1_digest_4 ++ dktX1_digest_5
def dkwX1_digest_3 : List UInt8 := [20, 0, 188, 105, 42, 180, 0, 44, 180, 0, 48, 29, 182, 0, 127, 192, 0, 51, 180, 0, 81, 133, 97, 64]
abbrev dktX1_digest_3 : List UInt8 := dkwX1_digest_3 ++ dktX1_digest_4
def dkwX1_digest_2 : List UInt8 := [20, 0, 188, 105, 42, 180, 0, 44, 180, 0, 48, 29, 182, 0, 127, 192, 0, 51, 180, 0, 67, 133, 97]
abbrev dktX1_digest_2 : List UInt8 := dkwX1_digest_2 ++ dktX1_digest_3
def dkwX1_digest_1 : List UInt8 := [64, 132, 3, 1, 167, 255, 234, 3, 62, 29, 42, 180, 0, 44, 180, 0, 48, 182, 0, 58, 162, 0, 57, 31]
abbrev dktX1_digest_1 : List UInt8 := dkwX1_digest_1 ++ dktX1_digest_2
def dkwX1_digest_0 : List UInt8 := [20, 0, 186, 64, 3, 62, 29, 16, 7, 162, 0, 22, 31, 20, 0, 188, 105, 42, 29, 182, 0, 166, 133, 97]
abbrev dktX1_digest_0 : List UInt8 := dkwX1_digest_0 ++ dktX1_digest_1
theorem dksX1_digest_0 : cX1_digest.data.toList.drop 0 = dktX1_digest_0 := by decide +kernel
theorem dksX1_digest_1 : cX1_digest.data.toList.drop 24 = dktX1_digest_1 := dk_seg dksX1_digest_0 24 rfl rfl
theorem dksX1_digest_2 : cX1_digest.data.toList.drop 48 = dktX1_digest_2 := dk_seg dksX1_digest_1 24 rfl rfl
theorem dksX1_digest_3 : cX1_digest.data.toList.drop 71 = dktX1_digest_3 := dk_seg dksX1_digest_2 23 rfl rfl
theorem dksX1_digest_4 : cX1_digest.data.toList.drop 95 = dktX1_digest_4 := dk_seg dksX1_digest_3 24 rfl rfl
theorem dksX1_digest_5 : cX1_digest.data.toList.drop 119 = dktX1_digest_5 := dk_seg dksX1_digest_4 24 rfl rfl
theorem dksX1_digest_6 : cX1_digest.data.toList.drop 142 = dktX1_digest_6 := dk_seg dksX1_digest_5 23 rfl rfl
theorem dksX1_digest_7 : cX1_digest.data.toList.drop 165 = dktX1_digest_7 := dk_seg dksX1_digest_6 23 rfl rfl
theorem dksX1_digest_8 : cX1_digest.data.toList.drop 187 = dktX1_digest_8 := dk_seg dksX1_digest_7 22 rfl rfl
theorem dksX1_digest_9 : cX1_digest.data.toList.drop 211 = dktX1_digest_9 := dk_seg dksX1_digest_8 24 rfl rfl
theorem dksX1_digest_10 : cX1_digest.data.toList.drop 235 = dktX1_digest_10 := dk_seg dksX1_digest_9 24 rfl rfl
theorem dX1_digest_0 : decode cX1_digest 0 = .ok (.ldc2_w 186, 3) := dk_20 0 186 (dk_at dksX1_digest_0 0 rfl rfl)
theorem dX1_digest_3 : decode cX1_digest 3 = .ok (.lstore_n 1, 1) := dk_64 (dk_at dksX1_digest_0 3 rfl rfl)
theorem dX1_digest_4 : decode cX1_digest 4 = .ok (.iconst 0, 1) := dk_3 (dk_at dksX1_digest_0 4 rfl rfl)
theorem dX1_digest_5 : decode cX1_digest 5 = .ok (.istore_n 3, 1) := dk_62 (dk_at dksX1_digest_0 5 rfl rfl)
theorem dX1_digest_6 : decode cX1_digest 6 = .ok (.iload_n 3, 1) := dk_29 (dk_at dksX1_digest_0 6 rfl rfl)
theorem dX1_digest_7 : decode cX1_digest 7 = .ok (.bipush 7, 2) := dk_16 7 (dk_at dksX1_digest_0 7 rfl rfl)
theorem dX1_digest_9 : decode cX1_digest 9 = .ok (.if_icmp .ge 22, 3) := dk_162 0 22 (dk_at dksX1_digest_0 9 rfl rfl)
theorem dX1_digest_12 : decode cX1_digest 12 = .ok (.lload_n 1, 1) := dk_31 (dk_at dksX1_digest_0 12 rfl rfl)
theorem dX1_digest_13 : decode cX1_digest 13 = .ok (.ldc2_w 188, 3) := dk_20 0 188 (dk_at dksX1_digest_0 13 rfl rfl)
theorem dX1_digest_16 : decode cX1_digest 16 = .ok (.lmul, 1) := dk_105 (dk_at dksX1_digest_0 16 rfl rfl)
theorem dX1_digest_17 : decode cX1_digest 17 = .ok (.aload_n 0, 1) := dk_42 (dk_at dksX1_digest_0 17 rfl rfl)
theorem dX1_digest_18 : decode cX1_digest 18 = .ok (.iload_n 3, 1) := dk_29 (dk_at dksX1_digest_0 18 rfl rfl)
theorem dX1_digest_19 : decode cX1_digest 19 = .ok (.invokevirtual 166, 3) := dk_182 0 166 (dk_at dksX1_digest_0 19 rfl rfl)
theorem dX1_digest_22 : decode cX1_digest 22 = .ok (.i2l, 1) := dk_133 (dk_at dksX1_digest_0 22 rfl rfl)
theorem dX1_digest_23 : decode cX1_digest 23 = .ok (.ladd, 1) := dk_97 (dk_at dksX1_digest_0 23 rfl rfl)
theorem dX1_digest_24 : decode cX1_digest 24 = .ok (.lstore_n 1, 1) := dk_64 (dk_at dksX1_digest_1 0 rfl rfl)
theorem dX1_digest_25 : decode cX1_digest 25 = .ok (.iinc 3 1, 3) := dk_132 3 1 (dk_at dksX1_digest_1 1 rfl rfl)
theorem dX1_digest_28 : decode cX1_digest 28 = .ok (.goto (-22), 3) := dk_167 255 234 (dk_at dksX1_digest_1 4 rfl rfl)
theorem dX1_digest_31 : decode cX1_digest 31 = .ok (.iconst 0, 1) := dk_3 (dk_at dksX1_digest_1 7 rfl rfl)
theorem dX1_digest_32 : decode cX1_digest 32 = .ok (.istore_n 3, 1) := dk_62 (dk_at dksX1_digest_1 8 rfl rfl)
theorem dX1_digest_33 : decode cX1_digest 33 = .ok (.iload_n 3, 1) := dk_29 (dk_at dksX1_digest_1 9 rfl rfl)
theorem dX1_digest_34 : decode cX1_digest 34 = .ok (.aload_n 0, 1) := dk_42 (dk_at dksX1_digest_1 10 rfl rfl)
theorem dX1_digest_35 : decode cX1_digest 35 = .ok (.getfield 44, 3) := dk_180 0 44 (dk_at dksX1_digest_1 11 rfl rfl)
theorem dX1_digest_38 : decode cX1_digest 38 = .ok (.getfield 48, 3) := dk_180 0 48 (dk_at dksX1_digest_1 14 rfl rfl)
theorem dX1_digest_41 : decode cX1_digest 41 = .ok (.invokevirtual 58, 3) := dk_182 0 58 (dk_at dksX1_digest_1 17 rfl rfl)
theorem dX1_digest_44 : decode cX1_digest 44 = .ok (.if_icmp .ge 57, 3) := dk_162 0 57 (dk_at dksX1_digest_1 20 rfl rfl)
theorem dX1_digest_47 : decode cX1_digest 47 = .ok (.lload_n 1, 1) := dk_31 (dk_at dksX1_digest_1 23 rfl rfl)
theorem dX1_digest_48 : decode cX1_digest 48 = .ok (.ldc2_w 188, 3) := dk_20 0 188 (dk_at dksX1_digest_2 0 rfl rfl)
theorem dX1_digest_51 : decode cX1_digest 51 = .ok (.lmul, 1) := dk_105 (dk_at dksX1_digest_2 3 rfl rfl)
theorem dX1_digest_52 : decode cX1_digest 52 = .ok (.aload_n 0, 1) := dk_42 (dk_at dksX1_digest_2 4 rfl rfl)
theorem dX1_digest_53 : decode cX1_digest 53 = .ok (.getfield 44, 3) := dk_180 0 44 (dk_at dksX1_digest_2 5 rfl rfl)
theorem dX1_digest_56 : decode cX1_digest 56 = .ok (.getfield 48, 3) := dk_180 0 48 (dk_at dksX1_digest_2 8 rfl rfl)
theorem dX1_digest_59 : decode cX1_digest 59 = .ok (.iload_n 3, 1) := dk_29 (dk_at dksX1_digest_2 11 rfl rfl)
theorem dX1_digest_60 : decode cX1_digest 60 = .ok (.invokevirtual 127, 3) := dk_182 0 127 (dk_at dksX1_digest_2 12 rfl rfl)
theorem dX1_digest_63 : decode cX1_digest 63 = .ok (.checkcast 51, 3) := dk_192 0 51 (dk_at dksX1_digest_2 15 rfl rfl)
theorem dX1_digest_66 : decode cX1_digest 66 = .ok (.getfield 67, 3) := dk_180 0 67 (dk_at dksX1_digest_2 18 rfl rfl)
theorem dX1_digest_69 : decode cX1_digest 69 = .ok (.i2l, 1) := dk_133 (dk_at dksX1_digest_2 21 rfl rfl)
theorem dX1_digest_70 : decode cX1_digest 70 = .ok (.ladd, 1) := dk_97 (dk_at dksX1_digest_2 22 rfl rfl)
theorem dX1_digest_71 : decode cX1_digest 71 = .ok (.ldc2_w 188, 3) := dk_20 0 188 (dk_at dksX1_digest_3 0 rfl rfl)
theorem dX1_digest_74 : decode cX1_digest 74 = .ok (.lmul, 1) := dk_105 (dk_at dksX1_digest_3 3 rfl rfl)
theorem dX1_digest_75 : decode cX1_digest 75 = .ok (.aload_n 0, 1) := dk_42 (dk_at dksX1_digest_3 4 rfl rfl)
theorem dX1_digest_76 : decode cX1_digest 76 = .ok (.getfield 44, 3) := dk_180 0 44 (dk_at dksX1_digest_3 5 rfl rfl)
theorem dX1_digest_79 : decode cX1_digest 79 = .ok (.getfield 48, 3) := dk_180 0 48 (dk_at dksX1_digest_3 8 rfl rfl)
theorem dX1_digest_82 : decode cX1_digest 82 = .ok (.iload_n 3, 1) := dk_29 (dk_at dksX1_digest_3 11 rfl rfl)
theorem dX1_digest_83 : decode cX1_digest 83 = .ok (.invokevirtual 127, 3) := dk_182 0 127 (dk_at dksX1_digest_3 12 rfl rfl)
theorem dX1_digest_86 : decode cX1_digest 86 = .ok (.checkcast 51, 3) := dk_192 0 51 (dk_at dksX1_digest_3 15 rfl rfl)
theorem dX1_digest_89 : decode cX1_digest 89 = .ok (.getfield 81, 3) := dk_180 0 81 (dk_at dksX1_digest_3 18 rfl rfl)
theorem dX1_digest_92 : decode cX1_digest 92 = .ok (.i2l, 1) := dk_133 (dk_at dksX1_digest_3 21 rfl rfl)
theorem dX1_digest_93 : decode cX1_digest 93 = .ok (.ladd, 1) := dk_97 (dk_at dksX1_digest_3 22 rfl rfl)
theorem dX1_digest_94 : decode cX1_digest 94 = .ok (.lstore_n 1, 1) := dk_64 (dk_at dksX1_digest_3 23 rfl rfl)
theorem dX1_digest_95 : decode cX1_digest 95 = .ok (.iinc 3 1, 3) := dk_132 3 1 (dk_at dksX1_digest_4 0 rfl rfl)
theorem dX1_digest_98 : decode cX1_digest 98 = .ok (.goto (-65), 3) := dk_167 255 191 (dk_at dksX1_digest_4 3 rfl rfl)
theorem dX1_digest_101 : decode cX1_digest 101 = .ok (.iconst 0, 1) := dk_3 (dk_at dksX1_digest_4 6 rfl rfl)
theorem dX1_digest_102 : decode cX1_digest 102 = .ok (.istore_n 3, 1) := dk_62 (dk_at dksX1_digest_4 7 rfl rfl)
theorem dX1_digest_103 : decode cX1_digest 103 = .ok (.iload_n 3, 1) := dk_29 (dk_at dksX1_digest_4 8 rfl rfl)
theorem dX1_digest_104 : decode cX1_digest 104 = .ok (.aload_n 0, 1) := dk_42 (dk_at dksX1_digest_4 9 rfl rfl)
theorem dX1_digest_105 : decode cX1_digest 105 = .ok (.getfield 35, 3) := dk_180 0 35 (dk_at dksX1_digest_4 10 rfl rfl)
theorem dX1_digest_108 : decode cX1_digest 108 = .ok (.invokevirtual 58, 3) := dk_182 0 58 (dk_at dksX1_digest_4 13 rfl rfl)
theorem dX1_digest_111 : decode cX1_digest 111 = .ok (.if_icmp .ge 133, 3) := dk_162 0 133 (dk_at dksX1_digest_4 16 rfl rfl)
theorem dX1_digest_114 : decode cX1_digest 114 = .ok (.aload_n 0, 1) := dk_42 (dk_at dksX1_digest_4 19 rfl rfl)
theorem dX1_digest_115 : decode cX1_digest 115 = .ok (.getfield 35, 3) := dk_180 0 35 (dk_at dksX1_digest_4 20 rfl rfl)
theorem dX1_digest_118 : decode cX1_digest 118 = .ok (.iload_n 3, 1) := dk_29 (dk_at dksX1_digest_4 23 rfl rfl)
theorem dX1_digest_119 : decode cX1_digest 119 = .ok (.invokevirtual 127, 3) := dk_182 0 127 (dk_at dksX1_digest_5 0 rfl rfl)
theorem dX1_digest_122 : decode cX1_digest 122 = .ok (.checkcast 74, 3) := dk_192 0 74 (dk_at dksX1_digest_5 3 rfl rfl)
theorem dX1_digest_125 : decode cX1_digest 125 = .ok (.getfield 77, 3) := dk_180 0 77 (dk_at dksX1_digest_5 6 rfl rfl)
theorem dX1_digest_128 : decode cX1_digest 128 = .ok (.astore 4, 2) := dk_58 4 (dk_at dksX1_digest_5 9 rfl rfl)
theorem dX1_digest_130 : decode cX1_digest 130 = .ok (.aload 4, 2) := dk_25 4 (dk_at dksX1_digest_5 11 rfl rfl)
theorem dX1_digest_132 : decode cX1_digest 132 = .ok (.arraylength, 1) := dk_190 (dk_at dksX1_digest_5 13 rfl rfl)
theorem dX1_digest_133 : decode cX1_digest 133 = .ok (.istore 5, 2) := dk_54 5 (dk_at dksX1_digest_5 14 rfl rfl)
theorem dX1_digest_135 : decode cX1_digest 135 = .ok (.iconst 0, 1) := dk_3 (dk_at dksX1_digest_5 16 rfl rfl)
theorem dX1_digest_136 : decode cX1_digest 136 = .ok (.istore 6, 2) := dk_54 6 (dk_at dksX1_digest_5 17 rfl rfl)
theorem dX1_digest_138 : decode cX1_digest 138 = .ok (.iload 6, 2) := dk_21 6 (dk_at dksX1_digest_5 19 rfl rfl)
theorem dX1_digest_140 : decode cX1_digest 140 = .ok (.iload 5, 2) := dk_21 5 (dk_at dksX1_digest_5 21 rfl rfl)
theorem dX1_digest_142 : decode cX1_digest 142 = .ok (.if_icmp .ge 26, 3) := dk_162 0 26 (dk_at dksX1_digest_6 0 rfl rfl)
theorem dX1_digest_145 : decode cX1_digest 145 = .ok (.aload 4, 2) := dk_25 4 (dk_at dksX1_digest_6 3 rfl rfl)
theorem dX1_digest_147 : decode cX1_digest 147 = .ok (.iload 6, 2) := dk_21 6 (dk_at dksX1_digest_6 5 rfl rfl)
theorem dX1_digest_149 : decode cX1_digest 149 = .ok (.iaload, 1) := dk_46 (dk_at dksX1_digest_6 7 rfl rfl)
theorem dX1_digest_150 : decode cX1_digest 150 = .ok (.istore 7, 2) := dk_54 7 (dk_at dksX1_digest_6 8 rfl rfl)
theorem dX1_digest_152 : decode cX1_digest 152 = .ok (.lload_n 1, 1) := dk_31 (dk_at dksX1_digest_6 10 rfl rfl)
theorem dX1_digest_153 : decode cX1_digest 153 = .ok (.ldc2_w 188, 3) := dk_20 0 188 (dk_at dksX1_digest_6 11 rfl rfl)
theorem dX1_digest_156 : decode cX1_digest 156 = .ok (.lmul, 1) := dk_105 (dk_at dksX1_digest_6 14 rfl rfl)
theorem dX1_digest_157 : decode cX1_digest 157 = .ok (.iload 7, 2) := dk_21 7 (dk_at dksX1_digest_6 15 rfl rfl)
theorem dX1_digest_159 : decode cX1_digest 159 = .ok (.i2l, 1) := dk_133 (dk_at dksX1_digest_6 17 rfl rfl)
theorem dX1_digest_160 : decode cX1_digest 160 = .ok (.ladd, 1) := dk_97 (dk_at dksX1_digest_6 18 rfl rfl)
theorem dX1_digest_161 : decode cX1_digest 161 = .ok (.lstore_n 1, 1) := dk_64 (dk_at dksX1_digest_6 19 rfl rfl)
theorem dX1_digest_162 : decode cX1_digest 162 = .ok (.iinc 6 1, 3) := dk_132 6 1 (dk_at dksX1_digest_6 20 rfl rfl)
theorem dX1_digest_165 : decode cX1_digest 165 = .ok (.goto (-27), 3) := dk_167 255 229 (dk_at dksX1_digest_7 0 rfl rfl)
theorem dX1_digest_168 : decode cX1_digest 168 = .ok (.iconst 0, 1) := dk_3 (dk_at dksX1_digest_7 3 rfl rfl)
theorem dX1_digest_169 : decode cX1_digest 169 = .ok (.istore 4, 2) := dk_54 4 (dk_at dksX1_digest_7 4 rfl rfl)
theorem dX1_digest_171 : decode cX1_digest 171 = .ok (.iload 4, 2) := dk_21 4 (dk_at dksX1_digest_7 6 rfl rfl)
theorem dX1_digest_173 : decode cX1_digest 173 = .ok (.bipush 6, 2) := dk_16 6 (dk_at dksX1_digest_7 8 rfl rfl)
theorem dX1_digest_175 : decode cX1_digest 175 = .ok (.if_icmp .ge 24, 3) := dk_162 0 24 (dk_at dksX1_digest_7 10 rfl rfl)
theorem dX1_digest_178 : decode cX1_digest 178 = .ok (.lload_n 1, 1) := dk_31 (dk_at dksX1_digest_7 13 rfl rfl)
theorem dX1_digest_179 : decode cX1_digest 179 = .ok (.ldc2_w 188, 3) := dk_20 0 188 (dk_at dksX1_digest_7 14 rfl rfl)
theorem dX1_digest_182 : decode cX1_digest 182 = .ok (.lmul, 1) := dk_105 (dk_at dksX1_digest_7 17 rfl rfl)
theorem dX1_digest_183 : decode cX1_digest 183 = .ok (.aload_n 0, 1) := dk_42 (dk_at dksX1_digest_7 18 rfl rfl)
theorem dX1_digest_184 : decode cX1_digest 184 = .ok (.iload_n 3, 1) := dk_29 (dk_at dksX1_digest_7 19 rfl rfl)
theorem dX1_digest_185 : decode cX1_digest 185 = .ok (.iload 4, 2) := dk_21 4 (dk_at dksX1_digest_7 20 rfl rfl)
theorem dX1_digest_187 : decode cX1_digest 187 = .ok (.invokevirtual 156, 3) := dk_182 0 156 (dk_at dksX1_digest_8 0 rfl rfl)
theorem dX1_digest_190 : decode cX1_digest 190 = .ok (.i2l, 1) := dk_133 (dk_at dksX1_digest_8 3 rfl rfl)
theorem dX1_digest_191 : decode cX1_digest 191 = .ok (.ladd, 1) := dk_97 (dk_at dksX1_digest_8 4 rfl rfl)
theorem dX1_digest_192 : decode cX1_digest 192 = .ok (.lstore_n 1, 1) := dk_64 (dk_at dksX1_digest_8 5 rfl rfl)
theorem dX1_digest_193 : decode cX1_digest 193 = .ok (.iinc 4 1, 3) := dk_132 4 1 (dk_at dksX1_digest_8 6 rfl rfl)
theorem dX1_digest_196 : decode cX1_digest 196 = .ok (.goto (-25), 3) := dk_167 255 231 (dk_at dksX1_digest_8 9 rfl rfl)
theorem dX1_digest_199 : decode cX1_digest 199 = .ok (.iconst 0, 1) := dk_3 (dk_at dksX1_digest_8 12 rfl rfl)
theorem dX1_digest_200 : decode cX1_digest 200 = .ok (.istore 4, 2) := dk_54 4 (dk_at dksX1_digest_8 13 rfl rfl)
theorem dX1_digest_202 : decode cX1_digest 202 = .ok (.iload 4, 2) := dk_21 4 (dk_at dksX1_digest_8 15 rfl rfl)
theorem dX1_digest_204 : decode cX1_digest 204 = .ok (.aload_n 0, 1) := dk_42 (dk_at dksX1_digest_8 17 rfl rfl)
theorem dX1_digest_205 : decode cX1_digest 205 = .ok (.getfield 35, 3) := dk_180 0 35 (dk_at dksX1_digest_8 18 rfl rfl)
theorem dX1_digest_208 : decode cX1_digest 208 = .ok (.invokevirtual 58, 3) := dk_182 0 58 (dk_at dksX1_digest_8 21 rfl rfl)
theorem dX1_digest_211 : decode cX1_digest 211 = .ok (.if_icmp .ge 27, 3) := dk_162 0 27 (dk_at dksX1_digest_9 0 rfl rfl)
theorem dX1_digest_214 : decode cX1_digest 214 = .ok (.lload_n 1, 1) := dk_31 (dk_at dksX1_digest_9 3 rfl rfl)
theorem dX1_digest_215 : decode cX1_digest 215 = .ok (.ldc2_w 188, 3) := dk_20 0 188 (dk_at dksX1_digest_9 4 rfl rfl)
theorem dX1_digest_218 : decode cX1_digest 218 = .ok (.lmul, 1) := dk_105 (dk_at dksX1_digest_9 7 rfl rfl)
theorem dX1_digest_219 : decode cX1_digest 219 = .ok (.aload_n 0, 1) := dk_42 (dk_at dksX1_digest_9 8 rfl rfl)
theorem dX1_digest_220 : decode cX1_digest 220 = .ok (.getfield 44, 3) := dk_180 0 44 (dk_at dksX1_digest_9 9 rfl rfl)
theorem dX1_digest_223 : decode cX1_digest 223 = .ok (.iload_n 3, 1) := dk_29 (dk_at dksX1_digest_9 12 rfl rfl)
theorem dX1_digest_224 : decode cX1_digest 224 = .ok (.iload 4, 2) := dk_21 4 (dk_at dksX1_digest_9 13 rfl rfl)
theorem dX1_digest_226 : decode cX1_digest 226 = .ok (.invokevirtual 112, 3) := dk_182 0 112 (dk_at dksX1_digest_9 15 rfl rfl)
theorem dX1_digest_229 : decode cX1_digest 229 = .ok (.i2l, 1) := dk_133 (dk_at dksX1_digest_9 18 rfl rfl)
theorem dX1_digest_230 : decode cX1_digest 230 = .ok (.ladd, 1) := dk_97 (dk_at dksX1_digest_9 19 rfl rfl)
theorem dX1_digest_231 : decode cX1_digest 231 = .ok (.lstore_n 1, 1) := dk_64 (dk_at dksX1_digest_9 20 rfl rfl)
theorem dX1_digest_232 : decode cX1_digest 232 = .ok (.iinc 4 1, 3) := dk_132 4 1 (dk_at dksX1_digest_9 21 rfl rfl)
theorem dX1_digest_235 : decode cX1_digest 235 = .ok (.goto (-33), 3) := dk_167 255 223 (dk_at dksX1_digest_10 0 rfl rfl)
theorem dX1_digest_238 : decode cX1_digest 238 = .ok (.iinc 3 1, 3) := dk_132 3 1 (dk_at dksX1_digest_10 3 rfl rfl)
theorem dX1_digest_241 : decode cX1_digest 241 = .ok (.goto (-138), 3) := dk_167 255 118 (dk_at dksX1_digest_10 6 rfl rfl)
theorem dX1_digest_244 : decode cX1_digest 244 = .ok (.lload_n 1, 1) := dk_31 (dk_at dksX1_digest_10 9 rfl rfl)
theorem dX1_digest_245 : decode cX1_digest 245 = .ok (.lreturn, 1) := dk_173 (dk_at dksX1_digest_10 10 rfl rfl)
abbrev cX1_counted : ByteArray := prog_1_method_25_code
def yX1_counted : MethodName := ⟨RX1, "counted", "(I)I"⟩
def dkwX1_counted_4 : List UInt8 := [182, 0, 163, 172, 42, 180, 0, 102, 172]
abbrev dktX1_counted_4 : List UInt8 := dkwX1_counted_4 ++ []
def dkwX1_counted_3 : List UInt8 := [182, 0, 105, 172, 42, 180, 0, 44, 4, 182, 0, 159, 172, 42, 180, 0, 44, 3, 182, 0, 159, 172, 42]
abbrev dktX1_counted_3 : List UInt8 := dkwX1_counted_3 ++ dktX1_counted_4
def dkwX1_counted_2 : List UInt8 := [42, 180, 0, 44, 180, 0, 48, 182, 0, 58, 172, 42, 180, 0, 35, 182, 0, 58, 172, 42, 180, 0, 44]
abbrev dktX1_counted_2 : List UInt8 := dkwX1_counted_2 ++ dktX1_counted_3
def dkwX1_counted_1 : List UInt8 := [170, 0, 0, 0, 0, 0, 89, 0, 0, 0, 0, 0, 0, 0, 5, 0, 0, 0, 39, 0, 0, 0, 50, 0, 0, 0, 58, 0, 0, 0, 66, 0, 0, 0, 75, 0, 0, 0, 84]
abbrev dktX1_counted_1 : List UInt8 := dkwX1_counted_1 ++ dktX1_counted_2
def dkwX1_counted_0 : List UInt8 := [27]
abbrev dktX1_counted_0 : List UInt8 := dkwX1_counted_0 ++ dktX1_counted_1
theorem dksX1_counted_0 : cX1_counted.data.toList.drop 0 = dktX1_counted_0 := by decide +kernel
theorem dksX1_counted_1 : cX1_counted.data.toList.drop 1 = dktX1_counted_1 := dk_seg dksX1_counted_0 1 rfl rfl
theorem dksX1_counted_2 : cX1_counted.data.toList.drop 40 = dktX1_counted_2 := dk_seg dksX1_counted_1 39 rfl rfl
theorem dksX1_counted_3 : cX1_counted.data.toList.drop 63 = dktX1_counted_3 := dk_seg dksX1_counted_2 23 rfl rfl
theorem dksX1_counted_4 : cX1_counted.data.toList.drop 86 = dktX1_counted_4 := dk_seg dksX1_counted_3 23 rfl rfl
theorem dX1_counted_0 : decode cX1_counted 0 = .ok (.iload_n 1, 1) := dk_27 (dk_at dksX1_counted_0 0 rfl rfl)
theorem dX1_counted_1 : decode cX1_counted 1 = .ok (.tableswitch 89 0 5 #[39, 50, 58, 66, 75, 84], 39) := by decide +kernel
theorem dX1_counted_40 : decode cX1_counted 40 = .ok (.aload_n 0, 1) := dk_42 (dk_at dksX1_counted_2 0 rfl rfl)
theorem dX1_counted_41 : decode cX1_counted 41 = .ok (.getfield 44, 3) := dk_180 0 44 (dk_at dksX1_counted_2 1 rfl rfl)
theorem dX1_counted_44 : decode cX1_counted 44 = .ok (.getfield 48, 3) := dk_180 0 48 (dk_at dksX1_counted_2 4 rfl rfl)
theorem dX1_counted_47 : decode cX1_counted 47 = .ok (.invokevirtual 58, 3) := dk_182 0 58 (dk_at dksX1_counted_2 7 rfl rfl)
theorem dX1_counted_50 : decode cX1_counted 50 = .ok (.ireturn, 1) := dk_172 (dk_at dksX1_counted_2 10 rfl rfl)
theorem dX1_counted_51 : decode cX1_counted 51 = .ok (.aload_n 0, 1) := dk_42 (dk_at dksX1_counted_2 11 rfl rfl)
theorem dX1_counted_52 : decode cX1_counted 52 = .ok (.getfield 35, 3) := dk_180 0 35 (dk_at dksX1_counted_2 12 rfl rfl)
theorem dX1_counted_55 : decode cX1_counted 55 = .ok (.invokevirtual 58, 3) := dk_182 0 58 (dk_at dksX1_counted_2 15 rfl rfl)
theorem dX1_counted_58 : decode cX1_counted 58 = .ok (.ireturn, 1) := dk_172 (dk_at dksX1_counted_2 18 rfl rfl)
theorem dX1_counted_59 : decode cX1_counted 59 = .ok (.aload_n 0, 1) := dk_42 (dk_at dksX1_counted_2 19 rfl rfl)
theorem dX1_counted_60 : decode cX1_counted 60 = .ok (.getfield 44, 3) := dk_180 0 44 (dk_at dksX1_counted_2 20 rfl rfl)
theorem dX1_counted_63 : decode cX1_counted 63 = .ok (.invokevirtual 105, 3) := dk_182 0 105 (dk_at dksX1_counted_3 0 rfl rfl)
theorem dX1_counted_66 : decode cX1_counted 66 = .ok (.ireturn, 1) := dk_172 (dk_at dksX1_counted_3 3 rfl rfl)
theorem dX1_counted_67 : decode cX1_counted 67 = .ok (.aload_n 0, 1) := dk_42 (dk_at dksX1_counted_3 4 rfl rfl)
theorem dX1_counted_68 : decode cX1_counted 68 = .ok (.getfield 44, 3) := dk_180 0 44 (dk_at dksX1_counted_3 5 rfl rfl)
theorem dX1_counted_71 : decode cX1_counted 71 = .ok (.iconst 1, 1) := dk_4 (dk_at dksX1_counted_3 8 rfl rfl)
theorem dX1_counted_72 : decode cX1_counted 72 = .ok (.invokevirtual 159, 3) := dk_182 0 159 (dk_at dksX1_counted_3 9 rfl rfl)
theorem dX1_counted_75 : decode cX1_counted 75 = .ok (.ireturn, 1) := dk_172 (dk_at dksX1_counted_3 12 rfl rfl)
theorem dX1_counted_76 : decode cX1_counted 76 = .ok (.aload_n 0, 1) := dk_42 (dk_at dksX1_counted_3 13 rfl rfl)
theorem dX1_counted_77 : decode cX1_counted 77 = .ok (.getfield 44, 3) := dk_180 0 44 (dk_at dksX1_counted_3 14 rfl rfl)
theorem dX1_counted_80 : decode cX1_counted 80 = .ok (.iconst 0, 1) := dk_3 (dk_at dksX1_counted_3 17 rfl rfl)
theorem dX1_counted_81 : decode cX1_counted 81 = .ok (.invokevirtual 159, 3) := dk_182 0 159 (dk_at dksX1_counted_3 18 rfl rfl)
theorem dX1_counted_84 : decode cX1_counted 84 = .ok (.ireturn, 1) := dk_172 (dk_at dksX1_counted_3 21 rfl rfl)
theorem dX1_counted_85 : decode cX1_counted 85 = .ok (.aload_n 0, 1) := dk_42 (dk_at dksX1_counted_3 22 rfl rfl)
theorem dX1_counted_86 : decode cX1_counted 86 = .ok (.invokevirtual 163, 3) := dk_182 0 163 (dk_at dksX1_counted_4 0 rfl rfl)
theorem dX1_counted_89 : decode cX1_counted 89 = .ok (.ireturn, 1) := dk_172 (dk_at dksX1_counted_4 3 rfl rfl)
theorem dX1_counted_90 : decode cX1_counted 90 = .ok (.aload_n 0, 1) := dk_42 (dk_at dksX1_counted_4 4 rfl rfl)
theorem dX1_counted_91 : decode cX1_counted 91 = .ok (.getfield 102, 3) := dk_180 0 102 (dk_at dksX1_counted_4 5 rfl rfl)
theorem dX1_counted_94 : decode cX1_counted 94 = .ok (.ireturn, 1) := dk_172 (dk_at dksX1_counted_4 8 rfl rfl)
abbrev cX1_fair : ByteArray := prog_1_method_24_code
def yX1_fair : MethodName := ⟨RX1, "fair", "()I"⟩
def dkwX1_fair_1 : List UInt8 := [4, 167, 0, 4, 3, 96, 60, 132, 2, 1, 167, 255, 226, 27, 172]
abbrev dktX1_fair_1 : List UInt8 := dkwX1_fair_1 ++ []
def dkwX1_fair_0 : List UInt8 := [3, 60, 3, 61, 28, 42, 180, 0, 35, 182, 0, 58, 162, 0, 25, 27, 42, 28, 182, 0, 152, 153, 0, 7]
abbrev dktX1_fair_0 : List UInt8 := dkwX1_fair_0 ++ dktX1_fair_1
theorem dksX1_fair_0 : cX1_fair.data.toList.drop 0 = dktX1_fair_0 := by decide +kernel
theorem dksX1_fair_1 : cX1_fair.data.toList.drop 24 = dktX1_fair_1 := dk_seg dksX1_fair_0 24 rfl rfl
theorem dX1_fair_0 : decode cX1_fair 0 = .ok (.iconst 0, 1) := dk_3 (dk_at dksX1_fair_0 0 rfl rfl)
theorem dX1_fair_1 : decode cX1_fair 1 = .ok (.istore_n 1, 1) := dk_60 (dk_at dksX1_fair_0 1 rfl rfl)
theorem dX1_fair_2 : decode cX1_fair 2 = .ok (.iconst 0, 1) := dk_3 (dk_at dksX1_fair_0 2 rfl rfl)
theorem dX1_fair_3 : decode cX1_fair 3 = .ok (.istore_n 2, 1) := dk_61 (dk_at dksX1_fair_0 3 rfl rfl)
theorem dX1_fair_4 : decode cX1_fair 4 = .ok (.iload_n 2, 1) := dk_28 (dk_at dksX1_fair_0 4 rfl rfl)
theorem dX1_fair_5 : decode cX1_fair 5 = .ok (.aload_n 0, 1) := dk_42 (dk_at dksX1_fair_0 5 rfl rfl)
theorem dX1_fair_6 : decode cX1_fair 6 = .ok (.getfield 35, 3) := dk_180 0 35 (dk_at dksX1_fair_0 6 rfl rfl)
theorem dX1_fair_9 : decode cX1_fair 9 = .ok (.invokevirtual 58, 3) := dk_182 0 58 (dk_at dksX1_fair_0 9 rfl rfl)
theorem dX1_fair_12 : decode cX1_fair 12 = .ok (.if_icmp .ge 25, 3) := dk_162 0 25 (dk_at dksX1_fair_0 12 rfl rfl)
theorem dX1_fair_15 : decode cX1_fair 15 = .ok (.iload_n 1, 1) := dk_27 (dk_at dksX1_fair_0 15 rfl rfl)
theorem dX1_fair_16 : decode cX1_fair 16 = .ok (.aload_n 0, 1) := dk_42 (dk_at dksX1_fair_0 16 rfl rfl)
theorem dX1_fair_17 : decode cX1_fair 17 = .ok (.iload_n 2, 1) := dk_28 (dk_at dksX1_fair_0 17 rfl rfl)
theorem dX1_fair_18 : decode cX1_fair 18 = .ok (.invokevirtual 152, 3) := dk_182 0 152 (dk_at dksX1_fair_0 18 rfl rfl)
theorem dX1_fair_21 : decode cX1_fair 21 = .ok (.ifCond .eq 7, 3) := dk_153 0 7 (dk_at dksX1_fair_0 21 rfl rfl)
theorem dX1_fair_24 : decode cX1_fair 24 = .ok (.iconst 1, 1) := dk_4 (dk_at dksX1_fair_1 0 rfl rfl)
theorem dX1_fair_25 : decode cX1_fair 25 = .ok (.goto 4, 3) := dk_167 0 4 (dk_at dksX1_fair_1 1 rfl rfl)
theorem dX1_fair_28 : decode cX1_fair 28 = .ok (.iconst 0, 1) := dk_3 (dk_at dksX1_fair_1 4 rfl rfl)
theorem dX1_fair_29 : decode cX1_fair 29 = .ok (.iadd, 1) := dk_96 (dk_at dksX1_fair_1 5 rfl rfl)
theorem dX1_fair_30 : decode cX1_fair 30 = .ok (.istore_n 1, 1) := dk_60 (dk_at dksX1_fair_1 6 rfl rfl)
theorem dX1_fair_31 : decode cX1_fair 31 = .ok (.iinc 2 1, 3) := dk_132 2 1 (dk_at dksX1_fair_1 7 rfl rfl)
theorem dX1_fair_34 : decode cX1_fair 34 = .ok (.goto (-30), 3) := dk_167 255 226 (dk_at dksX1_fair_1 10 rfl rfl)
theorem dX1_fair_37 : decode cX1_fair 37 = .ok (.iload_n 1, 1) := dk_27 (dk_at dksX1_fair_1 13 rfl rfl)
theorem dX1_fair_38 : decode cX1_fair 38 = .ok (.ireturn, 1) := dk_172 (dk_at dksX1_fair_1 14 rfl rfl)
abbrev cX1_isFair : ByteArray := prog_1_method_20_code
def yX1_isFair : MethodName := ⟨RX1, "isFair", "(I)Z"⟩
def dkwX1_isFair_1 : List UInt8 := [180, 0, 44, 182, 0, 136, 182, 0, 140, 161, 0, 7, 4, 167, 0, 4, 3, 172]
abbrev dktX1_isFair_1 : List UInt8 := dkwX1_isFair_1 ++ []
def dkwX1_isFair_0 : List UInt8 := [42, 180, 0, 44, 27, 27, 182, 0, 112, 42, 180, 0, 35, 182, 0, 58, 104, 42, 180, 0, 44, 27, 42]
abbrev dktX1_isFair_0 : List UInt8 := dkwX1_isFair_0 ++ dktX1_isFair_1
theorem dksX1_isFair_0 : cX1_isFair.data.toList.drop 0 = dktX1_isFair_0 := by decide +kernel
theorem dksX1_isFair_1 : cX1_isFair.data.toList.drop 23 = dktX1_isFair_1 := dk_seg dksX1_isFair_0 23 rfl rfl
theorem dX1_isFair_0 : decode cX1_isFair 0 = .ok (.aload_n 0, 1) := dk_42 (dk_at dksX1_isFair_0 0 rfl rfl)
theorem dX1_isFair_1 : decode cX1_isFair 1 = .ok (.getfield 44, 3) := dk_180 0 44 (dk_at dksX1_isFair_0 1 rfl rfl)
theorem dX1_isFair_4 : decode cX1_isFair 4 = .ok (.iload_n 1, 1) := dk_27 (dk_at dksX1_isFair_0 4 rfl rfl)
theorem dX1_isFair_5 : decode cX1_isFair 5 = .ok (.iload_n 1, 1) := dk_27 (dk_at dksX1_isFair_0 5 rfl rfl)
theorem dX1_isFair_6 : decode cX1_isFair 6 = .ok (.invokevirtual 112, 3) := dk_182 0 112 (dk_at dksX1_isFair_0 6 rfl rfl)
theorem dX1_isFair_9 : decode cX1_isFair 9 = .ok (.aload_n 0, 1) := dk_42 (dk_at dksX1_isFair_0 9 rfl rfl)
theorem dX1_isFair_10 : decode cX1_isFair 10 = .ok (.getfield 35, 3) := dk_180 0 35 (dk_at dksX1_isFair_0 10 rfl rfl)
theorem dX1_isFair_13 : decode cX1_isFair 13 = .ok (.invokevirtual 58, 3) := dk_182 0 58 (dk_at dksX1_isFair_0 13 rfl rfl)
theorem dX1_isFair_16 : decode cX1_isFair 16 = .ok (.imul, 1) := dk_104 (dk_at dksX1_isFair_0 16 rfl rfl)
theorem dX1_isFair_17 : decode cX1_isFair 17 = .ok (.aload_n 0, 1) := dk_42 (dk_at dksX1_isFair_0 17 rfl rfl)
theorem dX1_isFair_18 : decode cX1_isFair 18 = .ok (.getfield 44, 3) := dk_180 0 44 (dk_at dksX1_isFair_0 18 rfl rfl)
theorem dX1_isFair_21 : decode cX1_isFair 21 = .ok (.iload_n 1, 1) := dk_27 (dk_at dksX1_isFair_0 21 rfl rfl)
theorem dX1_isFair_22 : decode cX1_isFair 22 = .ok (.aload_n 0, 1) := dk_42 (dk_at dksX1_isFair_0 22 rfl rfl)
theorem dX1_isFair_23 : decode cX1_isFair 23 = .ok (.getfield 44, 3) := dk_180 0 44 (dk_at dksX1_isFair_1 0 rfl rfl)
theorem dX1_isFair_26 : decode cX1_isFair 26 = .ok (.invokevirtual 136, 3) := dk_182 0 136 (dk_at dksX1_isFair_1 3 rfl rfl)
theorem dX1_isFair_29 : decode cX1_isFair 29 = .ok (.invokevirtual 140, 3) := dk_182 0 140 (dk_at dksX1_isFair_1 6 rfl rfl)
theorem dX1_isFair_32 : decode cX1_isFair 32 = .ok (.if_icmp .lt 7, 3) := dk_161 0 7 (dk_at dksX1_isFair_1 9 rfl rfl)
theorem dX1_isFair_35 : decode cX1_isFair 35 = .ok (.iconst 1, 1) := dk_4 (dk_at dksX1_isFair_1 12 rfl rfl)
theorem dX1_isFair_36 : decode cX1_isFair 36 = .ok (.goto 4, 3) := dk_167 0 4 (dk_at dksX1_isFair_1 13 rfl rfl)
theorem dX1_isFair_39 : decode cX1_isFair 39 = .ok (.iconst 0, 1) := dk_3 (dk_at dksX1_isFair_1 16 rfl rfl)
theorem dX1_isFair_40 : decode cX1_isFair 40 = .ok (.ireturn, 1) := dk_172 (dk_at dksX1_isFair_1 17 rfl rfl)
abbrev cX1_eaterTold : ByteArray := prog_1_method_21_code
def yX1_eaterTold : MethodName := ⟨RX1, "eaterTold", "(II)I"⟩
def dkwX1_eaterTold_4 : List UInt8 := [42, 27, 182, 0, 152, 153, 0, 7, 4, 167, 0, 4, 3, 172]
abbrev dktX1_eaterTold_4 : List UInt8 := dkwX1_eaterTold_4 ++ []
def dkwX1_eaterTold_3 : List UInt8 := [180, 0, 44, 182, 0, 136, 182, 0, 140, 172, 42, 27, 4, 182, 0, 148, 172, 42, 27, 3, 182, 0, 148, 172]
abbrev dktX1_eaterTold_3 : List UInt8 := dkwX1_eaterTold_3 ++ dktX1_eaterTold_4
def dkwX1_eaterTold_2 : List UInt8 := [42, 27, 182, 0, 144, 172, 42, 180, 0, 44, 27, 27, 182, 0, 112, 172, 42, 180, 0, 44, 27, 42]
abbrev dktX1_eaterTold_2 : List UInt8 := dkwX1_eaterTold_2 ++ dktX1_eaterTold_3
def dkwX1_eaterTold_1 : List UInt8 := [170, 0, 0, 0, 0, 0, 81, 0, 0, 0, 0, 0, 0, 0, 4, 0, 0, 0, 35, 0, 0, 0, 41, 0, 0, 0, 51, 0, 0, 0, 67, 0, 0, 0, 74]
abbrev dktX1_eaterTold_1 : List UInt8 := dkwX1_eaterTold_1 ++ dktX1_eaterTold_2
def dkwX1_eaterTold_0 : List UInt8 := [28]
abbrev dktX1_eaterTold_0 : List UInt8 := dkwX1_eaterTold_0 ++ dktX1_eaterTold_1
theorem dksX1_eaterTold_0 : cX1_eaterTold.data.toList.drop 0 = dktX1_eaterTold_0 := by decide +kernel
theorem dksX1_eaterTold_1 : cX1_eaterTold.data.toList.drop 1 = dktX1_eaterTold_1 := dk_seg dksX1_eaterTold_0 1 rfl rfl
theorem dksX1_eaterTold_2 : cX1_eaterTold.data.toList.drop 36 = dktX1_eaterTold_2 := dk_seg dksX1_eaterTold_1 35 rfl rfl
theorem dksX1_eaterTold_3 : cX1_eaterTold.data.toList.drop 58 = dktX1_eaterTold_3 := dk_seg dksX1_eaterTold_2 22 rfl rfl
theorem dksX1_eaterTold_4 : cX1_eaterTold.data.toList.drop 82 = dktX1_eaterTold_4 := dk_seg dksX1_eaterTold_3 24 rfl rfl
theorem dX1_eaterTold_0 : decode cX1_eaterTold 0 = .ok (.iload_n 2, 1) := dk_28 (dk_at dksX1_eaterTold_0 0 rfl rfl)
theorem dX1_eaterTold_1 : decode cX1_eaterTold 1 = .ok (.tableswitch 81 0 4 #[35, 41, 51, 67, 74], 35) := by decide +kernel
theorem dX1_eaterTold_36 : decode cX1_eaterTold 36 = .ok (.aload_n 0, 1) := dk_42 (dk_at dksX1_eaterTold_2 0 rfl rfl)
theorem dX1_eaterTold_37 : decode cX1_eaterTold 37 = .ok (.iload_n 1, 1) := dk_27 (dk_at dksX1_eaterTold_2 1 rfl rfl)
theorem dX1_eaterTold_38 : decode cX1_eaterTold 38 = .ok (.invokevirtual 144, 3) := dk_182 0 144 (dk_at dksX1_eaterTold_2 2 rfl rfl)
theorem dX1_eaterTold_41 : decode cX1_eaterTold 41 = .ok (.ireturn, 1) := dk_172 (dk_at dksX1_eaterTold_2 5 rfl rfl)
theorem dX1_eaterTold_42 : decode cX1_eaterTold 42 = .ok (.aload_n 0, 1) := dk_42 (dk_at dksX1_eaterTold_2 6 rfl rfl)
theorem dX1_eaterTold_43 : decode cX1_eaterTold 43 = .ok (.getfield 44, 3) := dk_180 0 44 (dk_at dksX1_eaterTold_2 7 rfl rfl)
theorem dX1_eaterTold_46 : decode cX1_eaterTold 46 = .ok (.iload_n 1, 1) := dk_27 (dk_at dksX1_eaterTold_2 10 rfl rfl)
theorem dX1_eaterTold_47 : decode cX1_eaterTold 47 = .ok (.iload_n 1, 1) := dk_27 (dk_at dksX1_eaterTold_2 11 rfl rfl)
theorem dX1_eaterTold_48 : decode cX1_eaterTold 48 = .ok (.invokevirtual 112, 3) := dk_182 0 112 (dk_at dksX1_eaterTold_2 12 rfl rfl)
theorem dX1_eaterTold_51 : decode cX1_eaterTold 51 = .ok (.ireturn, 1) := dk_172 (dk_at dksX1_eaterTold_2 15 rfl rfl)
theorem dX1_eaterTold_52 : decode cX1_eaterTold 52 = .ok (.aload_n 0, 1) := dk_42 (dk_at dksX1_eaterTold_2 16 rfl rfl)
theorem dX1_eaterTold_53 : decode cX1_eaterTold 53 = .ok (.getfield 44, 3) := dk_180 0 44 (dk_at dksX1_eaterTold_2 17 rfl rfl)
theorem dX1_eaterTold_56 : decode cX1_eaterTold 56 = .ok (.iload_n 1, 1) := dk_27 (dk_at dksX1_eaterTold_2 20 rfl rfl)
theorem dX1_eaterTold_57 : decode cX1_eaterTold 57 = .ok (.aload_n 0, 1) := dk_42 (dk_at dksX1_eaterTold_2 21 rfl rfl)
theorem dX1_eaterTold_58 : decode cX1_eaterTold 58 = .ok (.getfield 44, 3) := dk_180 0 44 (dk_at dksX1_eaterTold_3 0 rfl rfl)
theorem dX1_eaterTold_61 : decode cX1_eaterTold 61 = .ok (.invokevirtual 136, 3) := dk_182 0 136 (dk_at dksX1_eaterTold_3 3 rfl rfl)
theorem dX1_eaterTold_64 : decode cX1_eaterTold 64 = .ok (.invokevirtual 140, 3) := dk_182 0 140 (dk_at dksX1_eaterTold_3 6 rfl rfl)
theorem dX1_eaterTold_67 : decode cX1_eaterTold 67 = .ok (.ireturn, 1) := dk_172 (dk_at dksX1_eaterTold_3 9 rfl rfl)
theorem dX1_eaterTold_68 : decode cX1_eaterTold 68 = .ok (.aload_n 0, 1) := dk_42 (dk_at dksX1_eaterTold_3 10 rfl rfl)
theorem dX1_eaterTold_69 : decode cX1_eaterTold 69 = .ok (.iload_n 1, 1) := dk_27 (dk_at dksX1_eaterTold_3 11 rfl rfl)
theorem dX1_eaterTold_70 : decode cX1_eaterTold 70 = .ok (.iconst 1, 1) := dk_4 (dk_at dksX1_eaterTold_3 12 rfl rfl)
theorem dX1_eaterTold_71 : decode cX1_eaterTold 71 = .ok (.invokevirtual 148, 3) := dk_182 0 148 (dk_at dksX1_eaterTold_3 13 rfl rfl)
theorem dX1_eaterTold_74 : decode cX1_eaterTold 74 = .ok (.ireturn, 1) := dk_172 (dk_at dksX1_eaterTold_3 16 rfl rfl)
theorem dX1_eaterTold_75 : decode cX1_eaterTold 75 = .ok (.aload_n 0, 1) := dk_42 (dk_at dksX1_eaterTold_3 17 rfl rfl)
theorem dX1_eaterTold_76 : decode cX1_eaterTold 76 = .ok (.iload_n 1, 1) := dk_27 (dk_at dksX1_eaterTold_3 18 rfl rfl)
theorem dX1_eaterTold_77 : decode cX1_eaterTold 77 = .ok (.iconst 0, 1) := dk_3 (dk_at dksX1_eaterTold_3 19 rfl rfl)
theorem dX1_eaterTold_78 : decode cX1_eaterTold 78 = .ok (.invokevirtual 148, 3) := dk_182 0 148 (dk_at dksX1_eaterTold_3 20 rfl rfl)
theorem dX1_eaterTold_81 : decode cX1_eaterTold 81 = .ok (.ireturn, 1) := dk_172 (dk_at dksX1_eaterTold_3 23 rfl rfl)
theorem dX1_eaterTold_82 : decode cX1_eaterTold 82 = .ok (.aload_n 0, 1) := dk_42 (dk_at dksX1_eaterTold_4 0 rfl rfl)
theorem dX1_eaterTold_83 : decode cX1_eaterTold 83 = .ok (.iload_n 1, 1) := dk_27 (dk_at dksX1_eaterTold_4 1 rfl rfl)
theorem dX1_eaterTold_84 : decode cX1_eaterTold 84 = .ok (.invokevirtual 152, 3) := dk_182 0 152 (dk_at dksX1_eaterTold_4 2 rfl rfl)
theorem dX1_eaterTold_87 : decode cX1_eaterTold 87 = .ok (.ifCond .eq 7, 3) := dk_153 0 7 (dk_at dksX1_eaterTold_4 5 rfl rfl)
theorem dX1_eaterTold_90 : decode cX1_eaterTold 90 = .ok (.iconst 1, 1) := dk_4 (dk_at dksX1_eaterTold_4 8 rfl rfl)
theorem dX1_eaterTold_91 : decode cX1_eaterTold 91 = .ok (.goto 4, 3) := dk_167 0 4 (dk_at dksX1_eaterTold_4 9 rfl rfl)
theorem dX1_eaterTold_94 : decode cX1_eaterTold 94 = .ok (.iconst 0, 1) := dk_3 (dk_at dksX1_eaterTold_4 12 rfl rfl)
theorem dX1_eaterTold_95 : decode cX1_eaterTold 95 = .ok (.ireturn, 1) := dk_172 (dk_at dksX1_eaterTold_4 13 rfl rfl)
abbrev cX1_slicesOf : ByteArray := prog_1_method_18_code
def yX1_slicesOf : MethodName := ⟨RX1, "slicesOf", "(I)I"⟩
def dkwX1_slicesOf_2 : List UInt8 := [132, 3, 1, 167, 255, 210, 28, 172]
abbrev dktX1_slicesOf_2 : List UInt8 := dkwX1_slicesOf_2 ++ []
def dkwX1_slicesOf_1 : List UInt8 := [180, 0, 48, 29, 182, 0, 127, 192, 0, 51, 180, 0, 81, 27, 160, 0, 7, 4, 167, 0, 4, 3, 96, 61]
abbrev dktX1_slicesOf_1 : List UInt8 := dkwX1_slicesOf_1 ++ dktX1_slicesOf_2
def dkwX1_slicesOf_0 : List UInt8 := [3, 61, 3, 62, 29, 42, 180, 0, 44, 180, 0, 48, 182, 0, 58, 162, 0, 38, 28, 42, 180, 0, 44]
abbrev dktX1_slicesOf_0 : List UInt8 := dkwX1_slicesOf_0 ++ dktX1_slicesOf_1
theorem dksX1_slicesOf_0 : cX1_slicesOf.data.toList.drop 0 = dktX1_slicesOf_0 := by decide +kernel
theorem dksX1_slicesOf_1 : cX1_slicesOf.data.toList.drop 23 = dktX1_slicesOf_1 := dk_seg dksX1_slicesOf_0 23 rfl rfl
theorem dksX1_slicesOf_2 : cX1_slicesOf.data.toList.drop 47 = dktX1_slicesOf_2 := dk_seg dksX1_slicesOf_1 24 rfl rfl
theorem dX1_slicesOf_0 : decode cX1_slicesOf 0 = .ok (.iconst 0, 1) := dk_3 (dk_at dksX1_slicesOf_0 0 rfl rfl)
theorem dX1_slicesOf_1 : decode cX1_slicesOf 1 = .ok (.istore_n 2, 1) := dk_61 (dk_at dksX1_slicesOf_0 1 rfl rfl)
theorem dX1_slicesOf_2 : decode cX1_slicesOf 2 = .ok (.iconst 0, 1) := dk_3 (dk_at dksX1_slicesOf_0 2 rfl rfl)
theorem dX1_slicesOf_3 : decode cX1_slicesOf 3 = .ok (.istore_n 3, 1) := dk_62 (dk_at dksX1_slicesOf_0 3 rfl rfl)
theorem dX1_slicesOf_4 : decode cX1_slicesOf 4 = .ok (.iload_n 3, 1) := dk_29 (dk_at dksX1_slicesOf_0 4 rfl rfl)
theorem dX1_slicesOf_5 : decode cX1_slicesOf 5 = .ok (.aload_n 0, 1) := dk_42 (dk_at dksX1_slicesOf_0 5 rfl rfl)
theorem dX1_slicesOf_6 : decode cX1_slicesOf 6 = .ok (.getfield 44, 3) := dk_180 0 44 (dk_at dksX1_slicesOf_0 6 rfl rfl)
theorem dX1_slicesOf_9 : decode cX1_slicesOf 9 = .ok (.getfield 48, 3) := dk_180 0 48 (dk_at dksX1_slicesOf_0 9 rfl rfl)
theorem dX1_slicesOf_12 : decode cX1_slicesOf 12 = .ok (.invokevirtual 58, 3) := dk_182 0 58 (dk_at dksX1_slicesOf_0 12 rfl rfl)
theorem dX1_slicesOf_15 : decode cX1_slicesOf 15 = .ok (.if_icmp .ge 38, 3) := dk_162 0 38 (dk_at dksX1_slicesOf_0 15 rfl rfl)
theorem dX1_slicesOf_18 : decode cX1_slicesOf 18 = .ok (.iload_n 2, 1) := dk_28 (dk_at dksX1_slicesOf_0 18 rfl rfl)
theorem dX1_slicesOf_19 : decode cX1_slicesOf 19 = .ok (.aload_n 0, 1) := dk_42 (dk_at dksX1_slicesOf_0 19 rfl rfl)
theorem dX1_slicesOf_20 : decode cX1_slicesOf 20 = .ok (.getfield 44, 3) := dk_180 0 44 (dk_at dksX1_slicesOf_0 20 rfl rfl)
theorem dX1_slicesOf_23 : decode cX1_slicesOf 23 = .ok (.getfield 48, 3) := dk_180 0 48 (dk_at dksX1_slicesOf_1 0 rfl rfl)
theorem dX1_slicesOf_26 : decode cX1_slicesOf 26 = .ok (.iload_n 3, 1) := dk_29 (dk_at dksX1_slicesOf_1 3 rfl rfl)
theorem dX1_slicesOf_27 : decode cX1_slicesOf 27 = .ok (.invokevirtual 127, 3) := dk_182 0 127 (dk_at dksX1_slicesOf_1 4 rfl rfl)
theorem dX1_slicesOf_30 : decode cX1_slicesOf 30 = .ok (.checkcast 51, 3) := dk_192 0 51 (dk_at dksX1_slicesOf_1 7 rfl rfl)
theorem dX1_slicesOf_33 : decode cX1_slicesOf 33 = .ok (.getfield 81, 3) := dk_180 0 81 (dk_at dksX1_slicesOf_1 10 rfl rfl)
theorem dX1_slicesOf_36 : decode cX1_slicesOf 36 = .ok (.iload_n 1, 1) := dk_27 (dk_at dksX1_slicesOf_1 13 rfl rfl)
theorem dX1_slicesOf_37 : decode cX1_slicesOf 37 = .ok (.if_icmp .ne 7, 3) := dk_160 0 7 (dk_at dksX1_slicesOf_1 14 rfl rfl)
theorem dX1_slicesOf_40 : decode cX1_slicesOf 40 = .ok (.iconst 1, 1) := dk_4 (dk_at dksX1_slicesOf_1 17 rfl rfl)
theorem dX1_slicesOf_41 : decode cX1_slicesOf 41 = .ok (.goto 4, 3) := dk_167 0 4 (dk_at dksX1_slicesOf_1 18 rfl rfl)
theorem dX1_slicesOf_44 : decode cX1_slicesOf 44 = .ok (.iconst 0, 1) := dk_3 (dk_at dksX1_slicesOf_1 21 rfl rfl)
theorem dX1_slicesOf_45 : decode cX1_slicesOf 45 = .ok (.iadd, 1) := dk_96 (dk_at dksX1_slicesOf_1 22 rfl rfl)
theorem dX1_slicesOf_46 : decode cX1_slicesOf 46 = .ok (.istore_n 2, 1) := dk_61 (dk_at dksX1_slicesOf_1 23 rfl rfl)
theorem dX1_slicesOf_47 : decode cX1_slicesOf 47 = .ok (.iinc 3 1, 3) := dk_132 3 1 (dk_at dksX1_slicesOf_2 0 rfl rfl)
theorem dX1_slicesOf_50 : decode cX1_slicesOf 50 = .ok (.goto (-46), 3) := dk_167 255 210 (dk_at dksX1_slicesOf_2 3 rfl rfl)
theorem dX1_slicesOf_53 : decode cX1_slicesOf 53 = .ok (.iload_n 2, 1) := dk_28 (dk_at dksX1_slicesOf_2 6 rfl rfl)
theorem dX1_slicesOf_54 : decode cX1_slicesOf 54 = .ok (.ireturn, 1) := dk_172 (dk_at dksX1_slicesOf_2 7 rfl rfl)
abbrev cX1_envied : ByteArray := prog_1_method_19_code
def yX1_envied : MethodName := ⟨RX1, "envied", "(IZ)I"⟩
def dkwX1_envied_3 : List UInt8 := [29, 167, 0, 5, 21, 4, 172]
abbrev dktX1_envied_3 : List UInt8 := dkwX1_envied_3 ++ []
def dkwX1_envied_2 : List UInt8 := [180, 0, 44, 27, 21, 5, 182, 0, 128, 184, 0, 131, 54, 4, 132, 5, 1, 167, 255, 203, 28, 153, 0, 7]
abbrev dktX1_envied_2 : List UInt8 := dkwX1_envied_2 ++ dktX1_envied_3
def dkwX1_envied_1 : List UInt8 := [180, 0, 44, 27, 21, 5, 182, 0, 128, 158, 0, 7, 4, 167, 0, 4, 3, 96, 62, 21, 4, 42]
abbrev dktX1_envied_1 : List UInt8 := dkwX1_envied_1 ++ dktX1_envied_2
def dkwX1_envied_0 : List UInt8 := [3, 62, 3, 54, 4, 3, 54, 5, 21, 5, 42, 180, 0, 35, 182, 0, 58, 162, 0, 47, 29, 42]
abbrev dktX1_envied_0 : List UInt8 := dkwX1_envied_0 ++ dktX1_envied_1
theorem dksX1_envied_0 : cX1_envied.data.toList.drop 0 = dktX1_envied_0 := by decide +kernel
theorem dksX1_envied_1 : cX1_envied.data.toList.drop 22 = dktX1_envied_1 := dk_seg dksX1_envied_0 22 rfl rfl
theorem dksX1_envied_2 : cX1_envied.data.toList.drop 44 = dktX1_envied_2 := dk_seg dksX1_envied_1 22 rfl rfl
theorem dksX1_envied_3 : cX1_envied.data.toList.drop 68 = dktX1_envied_3 := dk_seg dksX1_envied_2 24 rfl rfl
theorem dX1_envied_0 : decode cX1_envied 0 = .ok (.iconst 0, 1) := dk_3 (dk_at dksX1_envied_0 0 rfl rfl)
theorem dX1_envied_1 : decode cX1_envied 1 = .ok (.istore_n 3, 1) := dk_62 (dk_at dksX1_envied_0 1 rfl rfl)
theorem dX1_envied_2 : decode cX1_envied 2 = .ok (.iconst 0, 1) := dk_3 (dk_at dksX1_envied_0 2 rfl rfl)
theorem dX1_envied_3 : decode cX1_envied 3 = .ok (.istore 4, 2) := dk_54 4 (dk_at dksX1_envied_0 3 rfl rfl)
theorem dX1_envied_5 : decode cX1_envied 5 = .ok (.iconst 0, 1) := dk_3 (dk_at dksX1_envied_0 5 rfl rfl)
theorem dX1_envied_6 : decode cX1_envied 6 = .ok (.istore 5, 2) := dk_54 5 (dk_at dksX1_envied_0 6 rfl rfl)
theorem dX1_envied_8 : decode cX1_envied 8 = .ok (.iload 5, 2) := dk_21 5 (dk_at dksX1_envied_0 8 rfl rfl)
theorem dX1_envied_10 : decode cX1_envied 10 = .ok (.aload_n 0, 1) := dk_42 (dk_at dksX1_envied_0 10 rfl rfl)
theorem dX1_envied_11 : decode cX1_envied 11 = .ok (.getfield 35, 3) := dk_180 0 35 (dk_at dksX1_envied_0 11 rfl rfl)
theorem dX1_envied_14 : decode cX1_envied 14 = .ok (.invokevirtual 58, 3) := dk_182 0 58 (dk_at dksX1_envied_0 14 rfl rfl)
theorem dX1_envied_17 : decode cX1_envied 17 = .ok (.if_icmp .ge 47, 3) := dk_162 0 47 (dk_at dksX1_envied_0 17 rfl rfl)
theorem dX1_envied_20 : decode cX1_envied 20 = .ok (.iload_n 3, 1) := dk_29 (dk_at dksX1_envied_0 20 rfl rfl)
theorem dX1_envied_21 : decode cX1_envied 21 = .ok (.aload_n 0, 1) := dk_42 (dk_at dksX1_envied_0 21 rfl rfl)
theorem dX1_envied_22 : decode cX1_envied 22 = .ok (.getfield 44, 3) := dk_180 0 44 (dk_at dksX1_envied_1 0 rfl rfl)
theorem dX1_envied_25 : decode cX1_envied 25 = .ok (.iload_n 1, 1) := dk_27 (dk_at dksX1_envied_1 3 rfl rfl)
theorem dX1_envied_26 : decode cX1_envied 26 = .ok (.iload 5, 2) := dk_21 5 (dk_at dksX1_envied_1 4 rfl rfl)
theorem dX1_envied_28 : decode cX1_envied 28 = .ok (.invokevirtual 128, 3) := dk_182 0 128 (dk_at dksX1_envied_1 6 rfl rfl)
theorem dX1_envied_31 : decode cX1_envied 31 = .ok (.ifCond .le 7, 3) := dk_158 0 7 (dk_at dksX1_envied_1 9 rfl rfl)
theorem dX1_envied_34 : decode cX1_envied 34 = .ok (.iconst 1, 1) := dk_4 (dk_at dksX1_envied_1 12 rfl rfl)
theorem dX1_envied_35 : decode cX1_envied 35 = .ok (.goto 4, 3) := dk_167 0 4 (dk_at dksX1_envied_1 13 rfl rfl)
theorem dX1_envied_38 : decode cX1_envied 38 = .ok (.iconst 0, 1) := dk_3 (dk_at dksX1_envied_1 16 rfl rfl)
theorem dX1_envied_39 : decode cX1_envied 39 = .ok (.iadd, 1) := dk_96 (dk_at dksX1_envied_1 17 rfl rfl)
theorem dX1_envied_40 : decode cX1_envied 40 = .ok (.istore_n 3, 1) := dk_62 (dk_at dksX1_envied_1 18 rfl rfl)
theorem dX1_envied_41 : decode cX1_envied 41 = .ok (.iload 4, 2) := dk_21 4 (dk_at dksX1_envied_1 19 rfl rfl)
theorem dX1_envied_43 : decode cX1_envied 43 = .ok (.aload_n 0, 1) := dk_42 (dk_at dksX1_envied_1 21 rfl rfl)
theorem dX1_envied_44 : decode cX1_envied 44 = .ok (.getfield 44, 3) := dk_180 0 44 (dk_at dksX1_envied_2 0 rfl rfl)
theorem dX1_envied_47 : decode cX1_envied 47 = .ok (.iload_n 1, 1) := dk_27 (dk_at dksX1_envied_2 3 rfl rfl)
theorem dX1_envied_48 : decode cX1_envied 48 = .ok (.iload 5, 2) := dk_21 5 (dk_at dksX1_envied_2 4 rfl rfl)
theorem dX1_envied_50 : decode cX1_envied 50 = .ok (.invokevirtual 128, 3) := dk_182 0 128 (dk_at dksX1_envied_2 6 rfl rfl)
theorem dX1_envied_53 : decode cX1_envied 53 = .ok (.invokestatic 131, 3) := dk_184 0 131 (dk_at dksX1_envied_2 9 rfl rfl)
theorem dX1_envied_56 : decode cX1_envied 56 = .ok (.istore 4, 2) := dk_54 4 (dk_at dksX1_envied_2 12 rfl rfl)
theorem dX1_envied_58 : decode cX1_envied 58 = .ok (.iinc 5 1, 3) := dk_132 5 1 (dk_at dksX1_envied_2 14 rfl rfl)
theorem dX1_envied_61 : decode cX1_envied 61 = .ok (.goto (-53), 3) := dk_167 255 203 (dk_at dksX1_envied_2 17 rfl rfl)
theorem dX1_envied_64 : decode cX1_envied 64 = .ok (.iload_n 2, 1) := dk_28 (dk_at dksX1_envied_2 20 rfl rfl)
theorem dX1_envied_65 : decode cX1_envied 65 = .ok (.ifCond .eq 7, 3) := dk_153 0 7 (dk_at dksX1_envied_2 21 rfl rfl)
theorem dX1_envied_68 : decode cX1_envied 68 = .ok (.iload_n 3, 1) := dk_29 (dk_at dksX1_envied_3 0 rfl rfl)
theorem dX1_envied_69 : decode cX1_envied 69 = .ok (.goto 5, 3) := dk_167 0 5 (dk_at dksX1_envied_3 1 rfl rfl)
theorem dX1_envied_72 : decode cX1_envied 72 = .ok (.iload 4, 2) := dk_21 4 (dk_at dksX1_envied_3 4 rfl rfl)
theorem dX1_envied_74 : decode cX1_envied 74 = .ok (.ireturn, 1) := dk_172 (dk_at dksX1_envied_3 6 rfl rfl)
abbrev cX1_bake : ByteArray := prog_1_method_8_code
def yX1_bake : MethodName := ⟨RX1, "bake", "(I)I"⟩
def dkwX1_bake_3 : List UInt8 := [132, 3, 1, 167, 255, 230, 28, 172]
abbrev dktX1_bake_3 : List UInt8 := dkwX1_bake_3 ++ []
def dkwX1_bake_2 : List UInt8 := [29, 27, 162, 0, 27, 42, 180, 0, 44, 180, 0, 48, 187, 0, 51, 89, 183, 0, 53, 182, 0, 54, 87]
abbrev dktX1_bake_2 : List UInt8 := dkwX1_bake_2 ++ dktX1_bake_3
def dkwX1_bake_1 : List UInt8 := [180, 0, 48, 182, 0, 58, 61, 42, 187, 0, 39, 89, 42, 180, 0, 35, 183, 0, 41, 181, 0, 44, 3, 62]
abbrev dktX1_bake_1 : List UInt8 := dkwX1_bake_1 ++ dktX1_bake_2
def dkwX1_bake_0 : List UInt8 := [27, 4, 161, 0, 13, 27, 16, 40, 163, 0, 7, 4, 167, 0, 4, 3, 184, 0, 59, 42, 180, 0, 44]
abbrev dktX1_bake_0 : List UInt8 := dkwX1_bake_0 ++ dktX1_bake_1
theorem dksX1_bake_0 : cX1_bake.data.toList.drop 0 = dktX1_bake_0 := by decide +kernel
theorem dksX1_bake_1 : cX1_bake.data.toList.drop 23 = dktX1_bake_1 := dk_seg dksX1_bake_0 23 rfl rfl
theorem dksX1_bake_2 : cX1_bake.data.toList.drop 47 = dktX1_bake_2 := dk_seg dksX1_bake_1 24 rfl rfl
theorem dksX1_bake_3 : cX1_bake.data.toList.drop 70 = dktX1_bake_3 := dk_seg dksX1_bake_2 23 rfl rfl
theorem dX1_bake_0 : decode cX1_bake 0 = .ok (.iload_n 1, 1) := dk_27 (dk_at dksX1_bake_0 0 rfl rfl)
theorem dX1_bake_1 : decode cX1_bake 1 = .ok (.iconst 1, 1) := dk_4 (dk_at dksX1_bake_0 1 rfl rfl)
theorem dX1_bake_2 : decode cX1_bake 2 = .ok (.if_icmp .lt 13, 3) := dk_161 0 13 (dk_at dksX1_bake_0 2 rfl rfl)
theorem dX1_bake_5 : decode cX1_bake 5 = .ok (.iload_n 1, 1) := dk_27 (dk_at dksX1_bake_0 5 rfl rfl)
theorem dX1_bake_6 : decode cX1_bake 6 = .ok (.bipush 40, 2) := dk_16 40 (dk_at dksX1_bake_0 6 rfl rfl)
theorem dX1_bake_8 : decode cX1_bake 8 = .ok (.if_icmp .gt 7, 3) := dk_163 0 7 (dk_at dksX1_bake_0 8 rfl rfl)
theorem dX1_bake_11 : decode cX1_bake 11 = .ok (.iconst 1, 1) := dk_4 (dk_at dksX1_bake_0 11 rfl rfl)
theorem dX1_bake_12 : decode cX1_bake 12 = .ok (.goto 4, 3) := dk_167 0 4 (dk_at dksX1_bake_0 12 rfl rfl)
theorem dX1_bake_15 : decode cX1_bake 15 = .ok (.iconst 0, 1) := dk_3 (dk_at dksX1_bake_0 15 rfl rfl)
theorem dX1_bake_16 : decode cX1_bake 16 = .ok (.invokestatic 59, 3) := dk_184 0 59 (dk_at dksX1_bake_0 16 rfl rfl)
theorem dX1_bake_19 : decode cX1_bake 19 = .ok (.aload_n 0, 1) := dk_42 (dk_at dksX1_bake_0 19 rfl rfl)
theorem dX1_bake_20 : decode cX1_bake 20 = .ok (.getfield 44, 3) := dk_180 0 44 (dk_at dksX1_bake_0 20 rfl rfl)
theorem dX1_bake_23 : decode cX1_bake 23 = .ok (.getfield 48, 3) := dk_180 0 48 (dk_at dksX1_bake_1 0 rfl rfl)
theorem dX1_bake_26 : decode cX1_bake 26 = .ok (.invokevirtual 58, 3) := dk_182 0 58 (dk_at dksX1_bake_1 3 rfl rfl)
theorem dX1_bake_29 : decode cX1_bake 29 = .ok (.istore_n 2, 1) := dk_61 (dk_at dksX1_bake_1 6 rfl rfl)
theorem dX1_bake_30 : decode cX1_bake 30 = .ok (.aload_n 0, 1) := dk_42 (dk_at dksX1_bake_1 7 rfl rfl)
theorem dX1_bake_31 : decode cX1_bake 31 = .ok (.new 39, 3) := dk_187 0 39 (dk_at dksX1_bake_1 8 rfl rfl)
theorem dX1_bake_34 : decode cX1_bake 34 = .ok (.dup, 1) := dk_89 (dk_at dksX1_bake_1 11 rfl rfl)
theorem dX1_bake_35 : decode cX1_bake 35 = .ok (.aload_n 0, 1) := dk_42 (dk_at dksX1_bake_1 12 rfl rfl)
theorem dX1_bake_36 : decode cX1_bake 36 = .ok (.getfield 35, 3) := dk_180 0 35 (dk_at dksX1_bake_1 13 rfl rfl)
theorem dX1_bake_39 : decode cX1_bake 39 = .ok (.invokespecial 41, 3) := dk_183 0 41 (dk_at dksX1_bake_1 16 rfl rfl)
theorem dX1_bake_42 : decode cX1_bake 42 = .ok (.putfield 44, 3) := dk_181 0 44 (dk_at dksX1_bake_1 19 rfl rfl)
theorem dX1_bake_45 : decode cX1_bake 45 = .ok (.iconst 0, 1) := dk_3 (dk_at dksX1_bake_1 22 rfl rfl)
theorem dX1_bake_46 : decode cX1_bake 46 = .ok (.istore_n 3, 1) := dk_62 (dk_at dksX1_bake_1 23 rfl rfl)
theorem dX1_bake_47 : decode cX1_bake 47 = .ok (.iload_n 3, 1) := dk_29 (dk_at dksX1_bake_2 0 rfl rfl)
theorem dX1_bake_48 : decode cX1_bake 48 = .ok (.iload_n 1, 1) := dk_27 (dk_at dksX1_bake_2 1 rfl rfl)
theorem dX1_bake_49 : decode cX1_bake 49 = .ok (.if_icmp .ge 27, 3) := dk_162 0 27 (dk_at dksX1_bake_2 2 rfl rfl)
theorem dX1_bake_52 : decode cX1_bake 52 = .ok (.aload_n 0, 1) := dk_42 (dk_at dksX1_bake_2 5 rfl rfl)
theorem dX1_bake_53 : decode cX1_bake 53 = .ok (.getfield 44, 3) := dk_180 0 44 (dk_at dksX1_bake_2 6 rfl rfl)
theorem dX1_bake_56 : decode cX1_bake 56 = .ok (.getfield 48, 3) := dk_180 0 48 (dk_at dksX1_bake_2 9 rfl rfl)
theorem dX1_bake_59 : decode cX1_bake 59 = .ok (.new 51, 3) := dk_187 0 51 (dk_at dksX1_bake_2 12 rfl rfl)
theorem dX1_bake_62 : decode cX1_bake 62 = .ok (.dup, 1) := dk_89 (dk_at dksX1_bake_2 15 rfl rfl)
theorem dX1_bake_63 : decode cX1_bake 63 = .ok (.invokespecial 53, 3) := dk_183 0 53 (dk_at dksX1_bake_2 16 rfl rfl)
theorem dX1_bake_66 : decode cX1_bake 66 = .ok (.invokevirtual 54, 3) := dk_182 0 54 (dk_at dksX1_bake_2 19 rfl rfl)
theorem dX1_bake_69 : decode cX1_bake 69 = .ok (.pop, 1) := dk_87 (dk_at dksX1_bake_2 22 rfl rfl)
theorem dX1_bake_70 : decode cX1_bake 70 = .ok (.iinc 3 1, 3) := dk_132 3 1 (dk_at dksX1_bake_3 0 rfl rfl)
theorem dX1_bake_73 : decode cX1_bake 73 = .ok (.goto (-26), 3) := dk_167 255 230 (dk_at dksX1_bake_3 3 rfl rfl)
theorem dX1_bake_76 : decode cX1_bake 76 = .ok (.iload_n 2, 1) := dk_28 (dk_at dksX1_bake_3 6 rfl rfl)
theorem dX1_bake_77 : decode cX1_bake 77 = .ok (.ireturn, 1) := dk_172 (dk_at dksX1_bake_3 7 rfl rfl)
abbrev cX1_require : ByteArray := prog_1_method_1_code
def yX1_require : MethodName := ⟨RX1, "require", "(Z)V"⟩
def dkwX1_require_0 : List UInt8 := [26, 154, 0, 11, 187, 0, 1, 89, 183, 0, 3, 191, 177]
abbrev dktX1_require_0 : List UInt8 := dkwX1_require_0 ++ []
theorem dksX1_require_0 : cX1_require.data.toList.drop 0 = dktX1_require_0 := by decide +kernel
theorem dX1_require_0 : decode cX1_require 0 = .ok (.iload_n 0, 1) := dk_26 (dk_at dksX1_require_0 0 rfl rfl)
theorem dX1_require_1 : decode cX1_require 1 = .ok (.ifCond .ne 11, 3) := dk_154 0 11 (dk_at dksX1_require_0 1 rfl rfl)
theorem dX1_require_4 : decode cX1_require 4 = .ok (.new 1, 3) := dk_187 0 1 (dk_at dksX1_require_0 4 rfl rfl)
theorem dX1_require_7 : decode cX1_require 7 = .ok (.dup, 1) := dk_89 (dk_at dksX1_require_0 7 rfl rfl)
theorem dX1_require_8 : decode cX1_require 8 = .ok (.invokespecial 3, 3) := dk_183 0 3 (dk_at dksX1_require_0 8 rfl rfl)
theorem dX1_require_11 : decode cX1_require 11 = .ok (.athrow, 1) := dk_191 (dk_at dksX1_require_0 11 rfl rfl)
theorem dX1_require_12 : decode cX1_require 12 = .ok (.return_, 1) := dk_177 (dk_at dksX1_require_0 12 rfl rfl)
abbrev cX1_ice : ByteArray := prog_1_method_9_code
def yX1_ice : MethodName := ⟨RX1, "ice", "(II)I"⟩
def dkwX1_ice_1 : List UInt8 := [54, 4, 45, 28, 181, 0, 67, 21, 4, 172]
abbrev dktX1_ice_1 : List UInt8 := dkwX1_ice_1 ++ []
def dkwX1_ice_0 : List UInt8 := [42, 180, 0, 44, 180, 0, 48, 27, 184, 0, 63, 192, 0, 51, 78, 28, 8, 184, 0, 13, 45, 180, 0, 67]
abbrev dktX1_ice_0 : List UInt8 := dkwX1_ice_0 ++ dktX1_ice_1
theorem dksX1_ice_0 : cX1_ice.data.toList.drop 0 = dktX1_ice_0 := by decide +kernel
theorem dksX1_ice_1 : cX1_ice.data.toList.drop 24 = dktX1_ice_1 := dk_seg dksX1_ice_0 24 rfl rfl
theorem dX1_ice_0 : decode cX1_ice 0 = .ok (.aload_n 0, 1) := dk_42 (dk_at dksX1_ice_0 0 rfl rfl)
theorem dX1_ice_1 : decode cX1_ice 1 = .ok (.getfield 44, 3) := dk_180 0 44 (dk_at dksX1_ice_0 1 rfl rfl)
theorem dX1_ice_4 : decode cX1_ice 4 = .ok (.getfield 48, 3) := dk_180 0 48 (dk_at dksX1_ice_0 4 rfl rfl)
theorem dX1_ice_7 : decode cX1_ice 7 = .ok (.iload_n 1, 1) := dk_27 (dk_at dksX1_ice_0 7 rfl rfl)
theorem dX1_ice_8 : decode cX1_ice 8 = .ok (.invokestatic 63, 3) := dk_184 0 63 (dk_at dksX1_ice_0 8 rfl rfl)
theorem dX1_ice_11 : decode cX1_ice 11 = .ok (.checkcast 51, 3) := dk_192 0 51 (dk_at dksX1_ice_0 11 rfl rfl)
theorem dX1_ice_14 : decode cX1_ice 14 = .ok (.astore_n 3, 1) := dk_78 (dk_at dksX1_ice_0 14 rfl rfl)
theorem dX1_ice_15 : decode cX1_ice 15 = .ok (.iload_n 2, 1) := dk_28 (dk_at dksX1_ice_0 15 rfl rfl)
theorem dX1_ice_16 : decode cX1_ice 16 = .ok (.iconst 5, 1) := dk_8 (dk_at dksX1_ice_0 16 rfl rfl)
theorem dX1_ice_17 : decode cX1_ice 17 = .ok (.invokestatic 13, 3) := dk_184 0 13 (dk_at dksX1_ice_0 17 rfl rfl)
theorem dX1_ice_20 : decode cX1_ice 20 = .ok (.aload_n 3, 1) := dk_45 (dk_at dksX1_ice_0 20 rfl rfl)
theorem dX1_ice_21 : decode cX1_ice 21 = .ok (.getfield 67, 3) := dk_180 0 67 (dk_at dksX1_ice_0 21 rfl rfl)
theorem dX1_ice_24 : decode cX1_ice 24 = .ok (.istore 4, 2) := dk_54 4 (dk_at dksX1_ice_1 0 rfl rfl)
theorem dX1_ice_26 : decode cX1_ice 26 = .ok (.aload_n 3, 1) := dk_45 (dk_at dksX1_ice_1 2 rfl rfl)
theorem dX1_ice_27 : decode cX1_ice 27 = .ok (.iload_n 2, 1) := dk_28 (dk_at dksX1_ice_1 3 rfl rfl)
theorem dX1_ice_28 : decode cX1_ice 28 = .ok (.putfield 67, 3) := dk_181 0 67 (dk_at dksX1_ice_1 4 rfl rfl)
theorem dX1_ice_31 : decode cX1_ice 31 = .ok (.iload 4, 2) := dk_21 4 (dk_at dksX1_ice_1 7 rfl rfl)
theorem dX1_ice_33 : decode cX1_ice 33 = .ok (.ireturn, 1) := dk_172 (dk_at dksX1_ice_1 9 rfl rfl)
abbrev cX1_known : ByteArray := prog_1_method_5_code
def yX1_known : MethodName := ⟨RX1, "known", "(Ljava/util/List;I)Ljava/lang/Object;"⟩
def dkwX1_known_0 : List UInt8 := [27, 42, 185, 0, 19, 1, 0, 184, 0, 13, 42, 27, 185, 0, 25, 2, 0, 176]
abbrev dktX1_known_0 : List UInt8 := dkwX1_known_0 ++ []
theorem dksX1_known_0 : cX1_known.data.toList.drop 0 = dktX1_known_0 := by decide +kernel
theorem dX1_known_0 : decode cX1_known 0 = .ok (.iload_n 1, 1) := dk_27 (dk_at dksX1_known_0 0 rfl rfl)
theorem dX1_known_1 : decode cX1_known 1 = .ok (.aload_n 0, 1) := dk_42 (dk_at dksX1_known_0 1 rfl rfl)
theorem dX1_known_2 : decode cX1_known 2 = .ok (.invokeinterface 19 1, 5) := by decide +kernel
theorem dX1_known_7 : decode cX1_known 7 = .ok (.invokestatic 13, 3) := dk_184 0 13 (dk_at dksX1_known_0 7 rfl rfl)
theorem dX1_known_10 : decode cX1_known 10 = .ok (.aload_n 0, 1) := dk_42 (dk_at dksX1_known_0 10 rfl rfl)
theorem dX1_known_11 : decode cX1_known 11 = .ok (.iload_n 1, 1) := dk_27 (dk_at dksX1_known_0 11 rfl rfl)
theorem dX1_known_12 : decode cX1_known 12 = .ok (.invokeinterface 25 2, 5) := by decide +kernel
theorem dX1_known_17 : decode cX1_known 17 = .ok (.areturn, 1) := dk_176 (dk_at dksX1_known_0 17 rfl rfl)
abbrev cX1_requireIndex : ByteArray := prog_1_method_3_code
def yX1_requireIndex : MethodName := ⟨RX1, "requireIndex", "(II)V"⟩
def dkwX1_requireIndex_0 : List UInt8 := [26, 155, 0, 8, 26, 27, 161, 0, 11, 187, 0, 10, 89, 183, 0, 12, 191, 177]
abbrev dktX1_requireIndex_0 : List UInt8 := dkwX1_requireIndex_0 ++ []
theorem dksX1_requireIndex_0 : cX1_requireIndex.data.toList.drop 0 = dktX1_requireIndex_0 := by decide +kernel
theorem dX1_requireIndex_0 : decode cX1_requireIndex 0 = .ok (.iload_n 0, 1) := dk_26 (dk_at dksX1_requireIndex_0 0 rfl rfl)
theorem dX1_requireIndex_1 : decode cX1_requireIndex 1 = .ok (.ifCond .lt 8, 3) := dk_155 0 8 (dk_at dksX1_requireIndex_0 1 rfl rfl)
theorem dX1_requireIndex_4 : decode cX1_requireIndex 4 = .ok (.iload_n 0, 1) := dk_26 (dk_at dksX1_requireIndex_0 4 rfl rfl)
theorem dX1_requireIndex_5 : decode cX1_requireIndex 5 = .ok (.iload_n 1, 1) := dk_27 (dk_at dksX1_requireIndex_0 5 rfl rfl)
theorem dX1_requireIndex_6 : decode cX1_requireIndex 6 = .ok (.if_icmp .lt 11, 3) := dk_161 0 11 (dk_at dksX1_requireIndex_0 6 rfl rfl)
theorem dX1_requireIndex_9 : decode cX1_requireIndex 9 = .ok (.new 10, 3) := dk_187 0 10 (dk_at dksX1_requireIndex_0 9 rfl rfl)
theorem dX1_requireIndex_12 : decode cX1_requireIndex 12 = .ok (.dup, 1) := dk_89 (dk_at dksX1_requireIndex_0 12 rfl rfl)
theorem dX1_requireIndex_13 : decode cX1_requireIndex 13 = .ok (.invokespecial 12, 3) := dk_183 0 12 (dk_at dksX1_requireIndex_0 13 rfl rfl)
theorem dX1_requireIndex_16 : decode cX1_requireIndex 16 = .ok (.athrow, 1) := dk_191 (dk_at dksX1_requireIndex_0 16 rfl rfl)
theorem dX1_requireIndex_17 : decode cX1_requireIndex 17 = .ok (.return_, 1) := dk_177 (dk_at dksX1_requireIndex_0 17 rfl rfl)
abbrev cX1_come : ByteArray := prog_1_method_10_code
def yX1_come : MethodName := ⟨RX1, "come", "()I"⟩
def dkwX1_come_1 : List UInt8 := [187, 0, 74, 89, 183, 0, 76, 182, 0, 54, 87, 42, 180, 0, 35, 182, 0, 58, 4, 100, 172]
abbrev dktX1_come_1 : List UInt8 := dkwX1_come_1 ++ []
def dkwX1_come_0 : List UInt8 := [42, 180, 0, 35, 182, 0, 58, 8, 162, 0, 7, 4, 167, 0, 4, 3, 184, 0, 71, 42, 180, 0, 35]
abbrev dktX1_come_0 : List UInt8 := dkwX1_come_0 ++ dktX1_come_1
theorem dksX1_come_0 : cX1_come.data.toList.drop 0 = dktX1_come_0 := by decide +kernel
theorem dksX1_come_1 : cX1_come.data.toList.drop 23 = dktX1_come_1 := dk_seg dksX1_come_0 23 rfl rfl
theorem dX1_come_0 : decode cX1_come 0 = .ok (.aload_n 0, 1) := dk_42 (dk_at dksX1_come_0 0 rfl rfl)
theorem dX1_come_1 : decode cX1_come 1 = .ok (.getfield 35, 3) := dk_180 0 35 (dk_at dksX1_come_0 1 rfl rfl)
theorem dX1_come_4 : decode cX1_come 4 = .ok (.invokevirtual 58, 3) := dk_182 0 58 (dk_at dksX1_come_0 4 rfl rfl)
theorem dX1_come_7 : decode cX1_come 7 = .ok (.iconst 5, 1) := dk_8 (dk_at dksX1_come_0 7 rfl rfl)
theorem dX1_come_8 : decode cX1_come 8 = .ok (.if_icmp .ge 7, 3) := dk_162 0 7 (dk_at dksX1_come_0 8 rfl rfl)
theorem dX1_come_11 : decode cX1_come 11 = .ok (.iconst 1, 1) := dk_4 (dk_at dksX1_come_0 11 rfl rfl)
theorem dX1_come_12 : decode cX1_come 12 = .ok (.goto 4, 3) := dk_167 0 4 (dk_at dksX1_come_0 12 rfl rfl)
theorem dX1_come_15 : decode cX1_come 15 = .ok (.iconst 0, 1) := dk_3 (dk_at dksX1_come_0 15 rfl rfl)
theorem dX1_come_16 : decode cX1_come 16 = .ok (.invokestatic 71, 3) := dk_184 0 71 (dk_at dksX1_come_0 16 rfl rfl)
theorem dX1_come_19 : decode cX1_come 19 = .ok (.aload_n 0, 1) := dk_42 (dk_at dksX1_come_0 19 rfl rfl)
theorem dX1_come_20 : decode cX1_come 20 = .ok (.getfield 35, 3) := dk_180 0 35 (dk_at dksX1_come_0 20 rfl rfl)
theorem dX1_come_23 : decode cX1_come 23 = .ok (.new 74, 3) := dk_187 0 74 (dk_at dksX1_come_1 0 rfl rfl)
theorem dX1_come_26 : decode cX1_come 26 = .ok (.dup, 1) := dk_89 (dk_at dksX1_come_1 3 rfl rfl)
theorem dX1_come_27 : decode cX1_come 27 = .ok (.invokespecial 76, 3) := dk_183 0 76 (dk_at dksX1_come_1 4 rfl rfl)
theorem dX1_come_30 : decode cX1_come 30 = .ok (.invokevirtual 54, 3) := dk_182 0 54 (dk_at dksX1_come_1 7 rfl rfl)
theorem dX1_come_33 : decode cX1_come 33 = .ok (.pop, 1) := dk_87 (dk_at dksX1_come_1 10 rfl rfl)
theorem dX1_come_34 : decode cX1_come 34 = .ok (.aload_n 0, 1) := dk_42 (dk_at dksX1_come_1 11 rfl rfl)
theorem dX1_come_35 : decode cX1_come 35 = .ok (.getfield 35, 3) := dk_180 0 35 (dk_at dksX1_come_1 12 rfl rfl)
theorem dX1_come_38 : decode cX1_come 38 = .ok (.invokevirtual 58, 3) := dk_182 0 58 (dk_at dksX1_come_1 15 rfl rfl)
theorem dX1_come_41 : decode cX1_come 41 = .ok (.iconst 1, 1) := dk_4 (dk_at dksX1_come_1 18 rfl rfl)
theorem dX1_come_42 : decode cX1_come 42 = .ok (.isub, 1) := dk_100 (dk_at dksX1_come_1 19 rfl rfl)
theorem dX1_come_43 : decode cX1_come 43 = .ok (.ireturn, 1) := dk_172 (dk_at dksX1_come_1 20 rfl rfl)
abbrev cX1_requireState : ByteArray := prog_1_method_2_code
def yX1_requireState : MethodName := ⟨RX1, "requireState", "(Z)V"⟩
def dkwX1_requireState_0 : List UInt8 := [26, 154, 0, 11, 187, 0, 7, 89, 183, 0, 9, 191, 177]
abbrev dktX1_requireState_0 : List UInt8 := dkwX1_requireState_0 ++ []
theorem dksX1_requireState_0 : cX1_requireState.data.toList.drop 0 = dktX1_requireState_0 := by decide +kernel
theorem dX1_requireState_0 : decode cX1_requireState 0 = .ok (.iload_n 0, 1) := dk_26 (dk_at dksX1_requireState_0 0 rfl rfl)
theorem dX1_requireState_1 : decode cX1_requireState 1 = .ok (.ifCond .ne 11, 3) := dk_154 0 11 (dk_at dksX1_requireState_0 1 rfl rfl)
theorem dX1_requireState_4 : decode cX1_requireState 4 = .ok (.new 7, 3) := dk_187 0 7 (dk_at dksX1_requireState_0 4 rfl rfl)
theorem dX1_requireState_7 : decode cX1_requireState 7 = .ok (.dup, 1) := dk_89 (dk_at dksX1_requireState_0 7 rfl rfl)
theorem dX1_requireState_8 : decode cX1_requireState 8 = .ok (.invokespecial 9, 3) := dk_183 0 9 (dk_at dksX1_requireState_0 8 rfl rfl)
theorem dX1_requireState_11 : decode cX1_requireState 11 = .ok (.athrow, 1) := dk_191 (dk_at dksX1_requireState_0 11 rfl rfl)
theorem dX1_requireState_12 : decode cX1_requireState 12 = .ok (.return_, 1) := dk_177 (dk_at dksX1_requireState_0 12 rfl rfl)
abbrev cX1_setTaste : ByteArray := prog_1_method_11_code
def yX1_setTaste : MethodName := ⟨RX1, "setTaste", "(III)I"⟩
def dkwX1_setTaste_2 : List UInt8 := [180, 0, 77, 28, 29, 79, 21, 5, 172]
abbrev dktX1_setTaste_2 : List UInt8 := dkwX1_setTaste_2 ++ []
def dkwX1_setTaste_1 : List UInt8 := [16, 9, 163, 0, 7, 4, 167, 0, 4, 3, 184, 0, 59, 25, 4, 180, 0, 77, 28, 46, 54, 5, 25, 4]
abbrev dktX1_setTaste_1 : List UInt8 := dkwX1_setTaste_1 ++ dktX1_setTaste_2
def dkwX1_setTaste_0 : List UInt8 := [42, 180, 0, 35, 27, 184, 0, 63, 192, 0, 74, 58, 4, 28, 8, 184, 0, 13, 29, 155, 0, 13, 29]
abbrev dktX1_setTaste_0 : List UInt8 := dkwX1_setTaste_0 ++ dktX1_setTaste_1
theorem dksX1_setTaste_0 : cX1_setTaste.data.toList.drop 0 = dktX1_setTaste_0 := by decide +kernel
theorem dksX1_setTaste_1 : cX1_setTaste.data.toList.drop 23 = dktX1_setTaste_1 := dk_seg dksX1_setTaste_0 23 rfl rfl
theorem dksX1_setTaste_2 : cX1_setTaste.data.toList.drop 47 = dktX1_setTaste_2 := dk_seg dksX1_setTaste_1 24 rfl rfl
theorem dX1_setTaste_0 : decode cX1_setTaste 0 = .ok (.aload_n 0, 1) := dk_42 (dk_at dksX1_setTaste_0 0 rfl rfl)
theorem dX1_setTaste_1 : decode cX1_setTaste 1 = .ok (.getfield 35, 3) := dk_180 0 35 (dk_at dksX1_setTaste_0 1 rfl rfl)
theorem dX1_setTaste_4 : decode cX1_setTaste 4 = .ok (.iload_n 1, 1) := dk_27 (dk_at dksX1_setTaste_0 4 rfl rfl)
theorem dX1_setTaste_5 : decode cX1_setTaste 5 = .ok (.invokestatic 63, 3) := dk_184 0 63 (dk_at dksX1_setTaste_0 5 rfl rfl)
theorem dX1_setTaste_8 : decode cX1_setTaste 8 = .ok (.checkcast 74, 3) := dk_192 0 74 (dk_at dksX1_setTaste_0 8 rfl rfl)
theorem dX1_setTaste_11 : decode cX1_setTaste 11 = .ok (.astore 4, 2) := dk_58 4 (dk_at dksX1_setTaste_0 11 rfl rfl)
theorem dX1_setTaste_13 : decode cX1_setTaste 13 = .ok (.iload_n 2, 1) := dk_28 (dk_at dksX1_setTaste_0 13 rfl rfl)
theorem dX1_setTaste_14 : decode cX1_setTaste 14 = .ok (.iconst 5, 1) := dk_8 (dk_at dksX1_setTaste_0 14 rfl rfl)
theorem dX1_setTaste_15 : decode cX1_setTaste 15 = .ok (.invokestatic 13, 3) := dk_184 0 13 (dk_at dksX1_setTaste_0 15 rfl rfl)
theorem dX1_setTaste_18 : decode cX1_setTaste 18 = .ok (.iload_n 3, 1) := dk_29 (dk_at dksX1_setTaste_0 18 rfl rfl)
theorem dX1_setTaste_19 : decode cX1_setTaste 19 = .ok (.ifCond .lt 13, 3) := dk_155 0 13 (dk_at dksX1_setTaste_0 19 rfl rfl)
theorem dX1_setTaste_22 : decode cX1_setTaste 22 = .ok (.iload_n 3, 1) := dk_29 (dk_at dksX1_setTaste_0 22 rfl rfl)
theorem dX1_setTaste_23 : decode cX1_setTaste 23 = .ok (.bipush 9, 2) := dk_16 9 (dk_at dksX1_setTaste_1 0 rfl rfl)
theorem dX1_setTaste_25 : decode cX1_setTaste 25 = .ok (.if_icmp .gt 7, 3) := dk_163 0 7 (dk_at dksX1_setTaste_1 2 rfl rfl)
theorem dX1_setTaste_28 : decode cX1_setTaste 28 = .ok (.iconst 1, 1) := dk_4 (dk_at dksX1_setTaste_1 5 rfl rfl)
theorem dX1_setTaste_29 : decode cX1_setTaste 29 = .ok (.goto 4, 3) := dk_167 0 4 (dk_at dksX1_setTaste_1 6 rfl rfl)
theorem dX1_setTaste_32 : decode cX1_setTaste 32 = .ok (.iconst 0, 1) := dk_3 (dk_at dksX1_setTaste_1 9 rfl rfl)
theorem dX1_setTaste_33 : decode cX1_setTaste 33 = .ok (.invokestatic 59, 3) := dk_184 0 59 (dk_at dksX1_setTaste_1 10 rfl rfl)
theorem dX1_setTaste_36 : decode cX1_setTaste 36 = .ok (.aload 4, 2) := dk_25 4 (dk_at dksX1_setTaste_1 13 rfl rfl)
theorem dX1_setTaste_38 : decode cX1_setTaste 38 = .ok (.getfield 77, 3) := dk_180 0 77 (dk_at dksX1_setTaste_1 15 rfl rfl)
theorem dX1_setTaste_41 : decode cX1_setTaste 41 = .ok (.iload_n 2, 1) := dk_28 (dk_at dksX1_setTaste_1 18 rfl rfl)
theorem dX1_setTaste_42 : decode cX1_setTaste 42 = .ok (.iaload, 1) := dk_46 (dk_at dksX1_setTaste_1 19 rfl rfl)
theorem dX1_setTaste_43 : decode cX1_setTaste 43 = .ok (.istore 5, 2) := dk_54 5 (dk_at dksX1_setTaste_1 20 rfl rfl)
theorem dX1_setTaste_45 : decode cX1_setTaste 45 = .ok (.aload 4, 2) := dk_25 4 (dk_at dksX1_setTaste_1 22 rfl rfl)
theorem dX1_setTaste_47 : decode cX1_setTaste 47 = .ok (.getfield 77, 3) := dk_180 0 77 (dk_at dksX1_setTaste_2 0 rfl rfl)
theorem dX1_setTaste_50 : decode cX1_setTaste 50 = .ok (.iload_n 2, 1) := dk_28 (dk_at dksX1_setTaste_2 3 rfl rfl)
theorem dX1_setTaste_51 : decode cX1_setTaste 51 = .ok (.iload_n 3, 1) := dk_29 (dk_at dksX1_setTaste_2 4 rfl rfl)
theorem dX1_setTaste_52 : decode cX1_setTaste 52 = .ok (.iastore, 1) := dk_79 (dk_at dksX1_setTaste_2 5 rfl rfl)
theorem dX1_setTaste_53 : decode cX1_setTaste 53 = .ok (.iload 5, 2) := dk_21 5 (dk_at dksX1_setTaste_2 6 rfl rfl)
theorem dX1_setTaste_55 : decode cX1_setTaste 55 = .ok (.ireturn, 1) := dk_172 (dk_at dksX1_setTaste_2 8 rfl rfl)
abbrev cX1_give : ByteArray := prog_1_method_12_code
def yX1_give : MethodName := ⟨RX1, "give", "(II)I"⟩
def dkwX1_give_1 : List UInt8 := [182, 0, 58, 4, 96, 184, 0, 13, 45, 180, 0, 81, 54, 4, 45, 28, 181, 0, 81, 21, 4, 172]
abbrev dktX1_give_1 : List UInt8 := dkwX1_give_1 ++ []
def dkwX1_give_0 : List UInt8 := [42, 180, 0, 44, 180, 0, 48, 27, 184, 0, 63, 192, 0, 51, 78, 28, 4, 96, 42, 180, 0, 35]
abbrev dktX1_give_0 : List UInt8 := dkwX1_give_0 ++ dktX1_give_1
theorem dksX1_give_0 : cX1_give.data.toList.drop 0 = dktX1_give_0 := by decide +kernel
theorem dksX1_give_1 : cX1_give.data.toList.drop 22 = dktX1_give_1 := dk_seg dksX1_give_0 22 rfl rfl
theorem dX1_give_0 : decode cX1_give 0 = .ok (.aload_n 0, 1) := dk_42 (dk_at dksX1_give_0 0 rfl rfl)
theorem dX1_give_1 : decode cX1_give 1 = .ok (.getfield 44, 3) := dk_180 0 44 (dk_at dksX1_give_0 1 rfl rfl)
theorem dX1_give_4 : decode cX1_give 4 = .ok (.getfield 48, 3) := dk_180 0 48 (dk_at dksX1_give_0 4 rfl rfl)
theorem dX1_give_7 : decode cX1_give 7 = .ok (.iload_n 1, 1) := dk_27 (dk_at dksX1_give_0 7 rfl rfl)
theorem dX1_give_8 : decode cX1_give 8 = .ok (.invokestatic 63, 3) := dk_184 0 63 (dk_at dksX1_give_0 8 rfl rfl)
theorem dX1_give_11 : decode cX1_give 11 = .ok (.checkcast 51, 3) := dk_192 0 51 (dk_at dksX1_give_0 11 rfl rfl)
theorem dX1_give_14 : decode cX1_give 14 = .ok (.astore_n 3, 1) := dk_78 (dk_at dksX1_give_0 14 rfl rfl)
theorem dX1_give_15 : decode cX1_give 15 = .ok (.iload_n 2, 1) := dk_28 (dk_at dksX1_give_0 15 rfl rfl)
theorem dX1_give_16 : decode cX1_give 16 = .ok (.iconst 1, 1) := dk_4 (dk_at dksX1_give_0 16 rfl rfl)
theorem dX1_give_17 : decode cX1_give 17 = .ok (.iadd, 1) := dk_96 (dk_at dksX1_give_0 17 rfl rfl)
theorem dX1_give_18 : decode cX1_give 18 = .ok (.aload_n 0, 1) := dk_42 (dk_at dksX1_give_0 18 rfl rfl)
theorem dX1_give_19 : decode cX1_give 19 = .ok (.getfield 35, 3) := dk_180 0 35 (dk_at dksX1_give_0 19 rfl rfl)
theorem dX1_give_22 : decode cX1_give 22 = .ok (.invokevirtual 58, 3) := dk_182 0 58 (dk_at dksX1_give_1 0 rfl rfl)
theorem dX1_give_25 : decode cX1_give 25 = .ok (.iconst 1, 1) := dk_4 (dk_at dksX1_give_1 3 rfl rfl)
theorem dX1_give_26 : decode cX1_give 26 = .ok (.iadd, 1) := dk_96 (dk_at dksX1_give_1 4 rfl rfl)
theorem dX1_give_27 : decode cX1_give 27 = .ok (.invokestatic 13, 3) := dk_184 0 13 (dk_at dksX1_give_1 5 rfl rfl)
theorem dX1_give_30 : decode cX1_give 30 = .ok (.aload_n 3, 1) := dk_45 (dk_at dksX1_give_1 8 rfl rfl)
theorem dX1_give_31 : decode cX1_give 31 = .ok (.getfield 81, 3) := dk_180 0 81 (dk_at dksX1_give_1 9 rfl rfl)
theorem dX1_give_34 : decode cX1_give 34 = .ok (.istore 4, 2) := dk_54 4 (dk_at dksX1_give_1 12 rfl rfl)
theorem dX1_give_36 : decode cX1_give 36 = .ok (.aload_n 3, 1) := dk_45 (dk_at dksX1_give_1 14 rfl rfl)
theorem dX1_give_37 : decode cX1_give 37 = .ok (.iload_n 2, 1) := dk_28 (dk_at dksX1_give_1 15 rfl rfl)
theorem dX1_give_38 : decode cX1_give 38 = .ok (.putfield 81, 3) := dk_181 0 81 (dk_at dksX1_give_1 16 rfl rfl)
theorem dX1_give_41 : decode cX1_give 41 = .ok (.iload 4, 2) := dk_21 4 (dk_at dksX1_give_1 19 rfl rfl)
theorem dX1_give_43 : decode cX1_give 43 = .ok (.ireturn, 1) := dk_172 (dk_at dksX1_give_1 21 rfl rfl)
abbrev cX1_share : ByteArray := prog_1_method_13_code
def yX1_share : MethodName := ⟨RX1, "share", "(I)I"⟩
def dkwX1_share_2 : List UInt8 := [172]
abbrev dktX1_share_2 : List UInt8 := dkwX1_share_2 ++ []
def dkwX1_share_1 : List UInt8 := [180, 0, 44, 44, 182, 0, 98, 42, 89, 180, 0, 102, 4, 96, 181, 0, 102, 42, 180, 0, 44, 182, 0, 105]
abbrev dktX1_share_1 : List UInt8 := dkwX1_share_1 ++ dktX1_share_2
def dkwX1_share_0 : List UInt8 := [178, 0, 84, 27, 184, 0, 88, 192, 0, 92, 77, 42, 180, 0, 44, 44, 182, 0, 94, 184, 0, 71, 42]
abbrev dktX1_share_0 : List UInt8 := dkwX1_share_0 ++ dktX1_share_1
theorem dksX1_share_0 : cX1_share.data.toList.drop 0 = dktX1_share_0 := by decide +kernel
theorem dksX1_share_1 : cX1_share.data.toList.drop 23 = dktX1_share_1 := dk_seg dksX1_share_0 23 rfl rfl
theorem dksX1_share_2 : cX1_share.data.toList.drop 47 = dktX1_share_2 := dk_seg dksX1_share_1 24 rfl rfl
theorem dX1_share_0 : decode cX1_share 0 = .ok (.getstatic 84, 3) := dk_178 0 84 (dk_at dksX1_share_0 0 rfl rfl)
theorem dX1_share_3 : decode cX1_share 3 = .ok (.iload_n 1, 1) := dk_27 (dk_at dksX1_share_0 3 rfl rfl)
theorem dX1_share_4 : decode cX1_share 4 = .ok (.invokestatic 88, 3) := dk_184 0 88 (dk_at dksX1_share_0 4 rfl rfl)
theorem dX1_share_7 : decode cX1_share 7 = .ok (.checkcast 92, 3) := dk_192 0 92 (dk_at dksX1_share_0 7 rfl rfl)
theorem dX1_share_10 : decode cX1_share 10 = .ok (.astore_n 2, 1) := dk_77 (dk_at dksX1_share_0 10 rfl rfl)
theorem dX1_share_11 : decode cX1_share 11 = .ok (.aload_n 0, 1) := dk_42 (dk_at dksX1_share_0 11 rfl rfl)
theorem dX1_share_12 : decode cX1_share 12 = .ok (.getfield 44, 3) := dk_180 0 44 (dk_at dksX1_share_0 12 rfl rfl)
theorem dX1_share_15 : decode cX1_share 15 = .ok (.aload_n 2, 1) := dk_44 (dk_at dksX1_share_0 15 rfl rfl)
theorem dX1_share_16 : decode cX1_share 16 = .ok (.invokevirtual 94, 3) := dk_182 0 94 (dk_at dksX1_share_0 16 rfl rfl)
theorem dX1_share_19 : decode cX1_share 19 = .ok (.invokestatic 71, 3) := dk_184 0 71 (dk_at dksX1_share_0 19 rfl rfl)
theorem dX1_share_22 : decode cX1_share 22 = .ok (.aload_n 0, 1) := dk_42 (dk_at dksX1_share_0 22 rfl rfl)
theorem dX1_share_23 : decode cX1_share 23 = .ok (.getfield 44, 3) := dk_180 0 44 (dk_at dksX1_share_1 0 rfl rfl)
theorem dX1_share_26 : decode cX1_share 26 = .ok (.aload_n 2, 1) := dk_44 (dk_at dksX1_share_1 3 rfl rfl)
theorem dX1_share_27 : decode cX1_share 27 = .ok (.invokevirtual 98, 3) := dk_182 0 98 (dk_at dksX1_share_1 4 rfl rfl)
theorem dX1_share_30 : decode cX1_share 30 = .ok (.aload_n 0, 1) := dk_42 (dk_at dksX1_share_1 7 rfl rfl)
theorem dX1_share_31 : decode cX1_share 31 = .ok (.dup, 1) := dk_89 (dk_at dksX1_share_1 8 rfl rfl)
theorem dX1_share_32 : decode cX1_share 32 = .ok (.getfield 102, 3) := dk_180 0 102 (dk_at dksX1_share_1 9 rfl rfl)
theorem dX1_share_35 : decode cX1_share 35 = .ok (.iconst 1, 1) := dk_4 (dk_at dksX1_share_1 12 rfl rfl)
theorem dX1_share_36 : decode cX1_share 36 = .ok (.iadd, 1) := dk_96 (dk_at dksX1_share_1 13 rfl rfl)
theorem dX1_share_37 : decode cX1_share 37 = .ok (.putfield 102, 3) := dk_181 0 102 (dk_at dksX1_share_1 14 rfl rfl)
theorem dX1_share_40 : decode cX1_share 40 = .ok (.aload_n 0, 1) := dk_42 (dk_at dksX1_share_1 17 rfl rfl)
theorem dX1_share_41 : decode cX1_share 41 = .ok (.getfield 44, 3) := dk_180 0 44 (dk_at dksX1_share_1 18 rfl rfl)
theorem dX1_share_44 : decode cX1_share 44 = .ok (.invokevirtual 105, 3) := dk_182 0 105 (dk_at dksX1_share_1 21 rfl rfl)
theorem dX1_share_47 : decode cX1_share 47 = .ok (.ireturn, 1) := dk_172 (dk_at dksX1_share_2 0 rfl rfl)
abbrev cX1_oneOf : ByteArray := prog_1_method_4_code
def yX1_oneOf : MethodName := ⟨RX1, "oneOf", "([Ljava/lang/Object;I)Ljava/lang/Object;"⟩
def dkwX1_oneOf_0 : List UInt8 := [27, 42, 190, 184, 0, 13, 42, 27, 50, 176]
abbrev dktX1_oneOf_0 : List UInt8 := dkwX1_oneOf_0 ++ []
theorem dksX1_oneOf_0 : cX1_oneOf.data.toList.drop 0 = dktX1_oneOf_0 := by decide +kernel
theorem dX1_oneOf_0 : decode cX1_oneOf 0 = .ok (.iload_n 1, 1) := dk_27 (dk_at dksX1_oneOf_0 0 rfl rfl)
theorem dX1_oneOf_1 : decode cX1_oneOf 1 = .ok (.aload_n 0, 1) := dk_42 (dk_at dksX1_oneOf_0 1 rfl rfl)
theorem dX1_oneOf_2 : decode cX1_oneOf 2 = .ok (.arraylength, 1) := dk_190 (dk_at dksX1_oneOf_0 2 rfl rfl)
theorem dX1_oneOf_3 : decode cX1_oneOf 3 = .ok (.invokestatic 13, 3) := dk_184 0 13 (dk_at dksX1_oneOf_0 3 rfl rfl)
theorem dX1_oneOf_6 : decode cX1_oneOf 6 = .ok (.aload_n 0, 1) := dk_42 (dk_at dksX1_oneOf_0 6 rfl rfl)
theorem dX1_oneOf_7 : decode cX1_oneOf 7 = .ok (.iload_n 1, 1) := dk_27 (dk_at dksX1_oneOf_0 7 rfl rfl)
theorem dX1_oneOf_8 : decode cX1_oneOf 8 = .ok (.aaload, 1) := dk_50 (dk_at dksX1_oneOf_0 8 rfl rfl)
theorem dX1_oneOf_9 : decode cX1_oneOf 9 = .ok (.areturn, 1) := dk_176 (dk_at dksX1_oneOf_0 9 rfl rfl)
abbrev cX1_crumbs : ByteArray := prog_1_method_14_code
def yX1_crumbs : MethodName := ⟨RX1, "crumbs", "()I"⟩
def dkwX1_crumbs_3 : List UInt8 := [42, 180, 0, 44, 28, 182, 0, 116, 27, 172]
abbrev dktX1_crumbs_3 : List UInt8 := dkwX1_crumbs_3 ++ []
def dkwX1_crumbs_2 : List UInt8 := [29, 182, 0, 112, 42, 180, 0, 44, 28, 28, 182, 0, 112, 162, 0, 5, 29, 61, 132, 3, 1, 167, 255, 219]
abbrev dktX1_crumbs_2 : List UInt8 := dkwX1_crumbs_2 ++ dktX1_crumbs_3
def dkwX1_crumbs_1 : List UInt8 := [182, 0, 105, 60, 3, 61, 4, 62, 29, 42, 180, 0, 35, 182, 0, 58, 162, 0, 32, 42, 180, 0, 44, 29]
abbrev dktX1_crumbs_1 : List UInt8 := dkwX1_crumbs_1 ++ dktX1_crumbs_2
def dkwX1_crumbs_0 : List UInt8 := [42, 180, 0, 35, 182, 0, 108, 154, 0, 7, 4, 167, 0, 4, 3, 184, 0, 71, 42, 180, 0, 44]
abbrev dktX1_crumbs_0 : List UInt8 := dkwX1_crumbs_0 ++ dktX1_crumbs_1
theorem dksX1_crumbs_0 : cX1_crumbs.data.toList.drop 0 = dktX1_crumbs_0 := by decide +kernel
theorem dksX1_crumbs_1 : cX1_crumbs.data.toList.drop 22 = dktX1_crumbs_1 := dk_seg dksX1_crumbs_0 22 rfl rfl
theorem dksX1_crumbs_2 : cX1_crumbs.data.toList.drop 46 = dktX1_crumbs_2 := dk_seg dksX1_crumbs_1 24 rfl rfl
theorem dksX1_crumbs_3 : cX1_crumbs.data.toList.drop 70 = dktX1_crumbs_3 := dk_seg dksX1_crumbs_2 24 rfl rfl
theorem dX1_crumbs_0 : decode cX1_crumbs 0 = .ok (.aload_n 0, 1) := dk_42 (dk_at dksX1_crumbs_0 0 rfl rfl)
theorem dX1_crumbs_1 : decode cX1_crumbs 1 = .ok (.getfield 35, 3) := dk_180 0 35 (dk_at dksX1_crumbs_0 1 rfl rfl)
theorem dX1_crumbs_4 : decode cX1_crumbs 4 = .ok (.invokevirtual 108, 3) := dk_182 0 108 (dk_at dksX1_crumbs_0 4 rfl rfl)
theorem dX1_crumbs_7 : decode cX1_crumbs 7 = .ok (.ifCond .ne 7, 3) := dk_154 0 7 (dk_at dksX1_crumbs_0 7 rfl rfl)
theorem dX1_crumbs_10 : decode cX1_crumbs 10 = .ok (.iconst 1, 1) := dk_4 (dk_at dksX1_crumbs_0 10 rfl rfl)
theorem dX1_crumbs_11 : decode cX1_crumbs 11 = .ok (.goto 4, 3) := dk_167 0 4 (dk_at dksX1_crumbs_0 11 rfl rfl)
theorem dX1_crumbs_14 : decode cX1_crumbs 14 = .ok (.iconst 0, 1) := dk_3 (dk_at dksX1_crumbs_0 14 rfl rfl)
theorem dX1_crumbs_15 : decode cX1_crumbs 15 = .ok (.invokestatic 71, 3) := dk_184 0 71 (dk_at dksX1_crumbs_0 15 rfl rfl)
theorem dX1_crumbs_18 : decode cX1_crumbs 18 = .ok (.aload_n 0, 1) := dk_42 (dk_at dksX1_crumbs_0 18 rfl rfl)
theorem dX1_crumbs_19 : decode cX1_crumbs 19 = .ok (.getfield 44, 3) := dk_180 0 44 (dk_at dksX1_crumbs_0 19 rfl rfl)
theorem dX1_crumbs_22 : decode cX1_crumbs 22 = .ok (.invokevirtual 105, 3) := dk_182 0 105 (dk_at dksX1_crumbs_1 0 rfl rfl)
theorem dX1_crumbs_25 : decode cX1_crumbs 25 = .ok (.istore_n 1, 1) := dk_60 (dk_at dksX1_crumbs_1 3 rfl rfl)
theorem dX1_crumbs_26 : decode cX1_crumbs 26 = .ok (.iconst 0, 1) := dk_3 (dk_at dksX1_crumbs_1 4 rfl rfl)
theorem dX1_crumbs_27 : decode cX1_crumbs 27 = .ok (.istore_n 2, 1) := dk_61 (dk_at dksX1_crumbs_1 5 rfl rfl)
theorem dX1_crumbs_28 : decode cX1_crumbs 28 = .ok (.iconst 1, 1) := dk_4 (dk_at dksX1_crumbs_1 6 rfl rfl)
theorem dX1_crumbs_29 : decode cX1_crumbs 29 = .ok (.istore_n 3, 1) := dk_62 (dk_at dksX1_crumbs_1 7 rfl rfl)
theorem dX1_crumbs_30 : decode cX1_crumbs 30 = .ok (.iload_n 3, 1) := dk_29 (dk_at dksX1_crumbs_1 8 rfl rfl)
theorem dX1_crumbs_31 : decode cX1_crumbs 31 = .ok (.aload_n 0, 1) := dk_42 (dk_at dksX1_crumbs_1 9 rfl rfl)
theorem dX1_crumbs_32 : decode cX1_crumbs 32 = .ok (.getfield 35, 3) := dk_180 0 35 (dk_at dksX1_crumbs_1 10 rfl rfl)
theorem dX1_crumbs_35 : decode cX1_crumbs 35 = .ok (.invokevirtual 58, 3) := dk_182 0 58 (dk_at dksX1_crumbs_1 13 rfl rfl)
theorem dX1_crumbs_38 : decode cX1_crumbs 38 = .ok (.if_icmp .ge 32, 3) := dk_162 0 32 (dk_at dksX1_crumbs_1 16 rfl rfl)
theorem dX1_crumbs_41 : decode cX1_crumbs 41 = .ok (.aload_n 0, 1) := dk_42 (dk_at dksX1_crumbs_1 19 rfl rfl)
theorem dX1_crumbs_42 : decode cX1_crumbs 42 = .ok (.getfield 44, 3) := dk_180 0 44 (dk_at dksX1_crumbs_1 20 rfl rfl)
theorem dX1_crumbs_45 : decode cX1_crumbs 45 = .ok (.iload_n 3, 1) := dk_29 (dk_at dksX1_crumbs_1 23 rfl rfl)
theorem dX1_crumbs_46 : decode cX1_crumbs 46 = .ok (.iload_n 3, 1) := dk_29 (dk_at dksX1_crumbs_2 0 rfl rfl)
theorem dX1_crumbs_47 : decode cX1_crumbs 47 = .ok (.invokevirtual 112, 3) := dk_182 0 112 (dk_at dksX1_crumbs_2 1 rfl rfl)
theorem dX1_crumbs_50 : decode cX1_crumbs 50 = .ok (.aload_n 0, 1) := dk_42 (dk_at dksX1_crumbs_2 4 rfl rfl)
theorem dX1_crumbs_51 : decode cX1_crumbs 51 = .ok (.getfield 44, 3) := dk_180 0 44 (dk_at dksX1_crumbs_2 5 rfl rfl)
theorem dX1_crumbs_54 : decode cX1_crumbs 54 = .ok (.iload_n 2, 1) := dk_28 (dk_at dksX1_crumbs_2 8 rfl rfl)
theorem dX1_crumbs_55 : decode cX1_crumbs 55 = .ok (.iload_n 2, 1) := dk_28 (dk_at dksX1_crumbs_2 9 rfl rfl)
theorem dX1_crumbs_56 : decode cX1_crumbs 56 = .ok (.invokevirtual 112, 3) := dk_182 0 112 (dk_at dksX1_crumbs_2 10 rfl rfl)
theorem dX1_crumbs_59 : decode cX1_crumbs 59 = .ok (.if_icmp .ge 5, 3) := dk_162 0 5 (dk_at dksX1_crumbs_2 13 rfl rfl)
theorem dX1_crumbs_62 : decode cX1_crumbs 62 = .ok (.iload_n 3, 1) := dk_29 (dk_at dksX1_crumbs_2 16 rfl rfl)
theorem dX1_crumbs_63 : decode cX1_crumbs 63 = .ok (.istore_n 2, 1) := dk_61 (dk_at dksX1_crumbs_2 17 rfl rfl)
theorem dX1_crumbs_64 : decode cX1_crumbs 64 = .ok (.iinc 3 1, 3) := dk_132 3 1 (dk_at dksX1_crumbs_2 18 rfl rfl)
theorem dX1_crumbs_67 : decode cX1_crumbs 67 = .ok (.goto (-37), 3) := dk_167 255 219 (dk_at dksX1_crumbs_2 21 rfl rfl)
theorem dX1_crumbs_70 : decode cX1_crumbs 70 = .ok (.aload_n 0, 1) := dk_42 (dk_at dksX1_crumbs_3 0 rfl rfl)
theorem dX1_crumbs_71 : decode cX1_crumbs 71 = .ok (.getfield 44, 3) := dk_180 0 44 (dk_at dksX1_crumbs_3 1 rfl rfl)
theorem dX1_crumbs_74 : decode cX1_crumbs 74 = .ok (.iload_n 2, 1) := dk_28 (dk_at dksX1_crumbs_3 4 rfl rfl)
theorem dX1_crumbs_75 : decode cX1_crumbs 75 = .ok (.invokevirtual 116, 3) := dk_182 0 116 (dk_at dksX1_crumbs_3 5 rfl rfl)
theorem dX1_crumbs_78 : decode cX1_crumbs 78 = .ok (.iload_n 1, 1) := dk_27 (dk_at dksX1_crumbs_3 8 rfl rfl)
theorem dX1_crumbs_79 : decode cX1_crumbs 79 = .ok (.ireturn, 1) := dk_172 (dk_at dksX1_crumbs_3 9 rfl rfl)
abbrev cX1_swap : ByteArray := prog_1_method_15_code
def yX1_swap : MethodName := ⟨RX1, "swap", "(II)Z"⟩
def dkwX1_swap_4 : List UInt8 := [25, 5, 180, 0, 81, 181, 0, 81, 132, 4, 1, 167, 255, 185, 29, 172]
abbrev dktX1_swap_4 : List UInt8 := dkwX1_swap_4 ++ []
def dkwX1_swap_3 : List UInt8 := [180, 0, 81, 27, 160, 0, 7, 28, 167, 0, 21, 25, 5, 180, 0, 81, 28, 160, 0, 7, 27, 167, 0, 8]
abbrev dktX1_swap_3 : List UInt8 := dkwX1_swap_3 ++ dktX1_swap_4
def dkwX1_swap_2 : List UInt8 := [162, 0, 62, 42, 180, 0, 44, 180, 0, 48, 21, 4, 182, 0, 127, 192, 0, 51, 58, 5, 25, 5, 25, 5]
abbrev dktX1_swap_2 : List UInt8 := dkwX1_swap_2 ++ dktX1_swap_3
def dkwX1_swap_1 : List UInt8 := [180, 0, 44, 27, 28, 182, 0, 123, 62, 3, 54, 4, 21, 4, 42, 180, 0, 44, 180, 0, 48, 182, 0, 58]
abbrev dktX1_swap_1 : List UInt8 := dkwX1_swap_1 ++ dktX1_swap_2
def dkwX1_swap_0 : List UInt8 := [42, 27, 182, 0, 120, 42, 28, 182, 0, 120, 27, 28, 159, 0, 7, 4, 167, 0, 4, 3, 184, 0, 59, 42]
abbrev dktX1_swap_0 : List UInt8 := dkwX1_swap_0 ++ dktX1_swap_1
theorem dksX1_swap_0 : cX1_swap.data.toList.drop 0 = dktX1_swap_0 := by decide +kernel
theorem dksX1_swap_1 : cX1_swap.data.toList.drop 24 = dktX1_swap_1 := dk_seg dksX1_swap_0 24 rfl rfl
theorem dksX1_swap_2 : cX1_swap.data.toList.drop 48 = dktX1_swap_2 := dk_seg dksX1_swap_1 24 rfl rfl
theorem dksX1_swap_3 : cX1_swap.data.toList.drop 72 = dktX1_swap_3 := dk_seg dksX1_swap_2 24 rfl rfl
theorem dksX1_swap_4 : cX1_swap.data.toList.drop 96 = dktX1_swap_4 := dk_seg dksX1_swap_3 24 rfl rfl
theorem dX1_swap_0 : decode cX1_swap 0 = .ok (.aload_n 0, 1) := dk_42 (dk_at dksX1_swap_0 0 rfl rfl)
theorem dX1_swap_1 : decode cX1_swap 1 = .ok (.iload_n 1, 1) := dk_27 (dk_at dksX1_swap_0 1 rfl rfl)
theorem dX1_swap_2 : decode cX1_swap 2 = .ok (.invokevirtual 120, 3) := dk_182 0 120 (dk_at dksX1_swap_0 2 rfl rfl)
theorem dX1_swap_5 : decode cX1_swap 5 = .ok (.aload_n 0, 1) := dk_42 (dk_at dksX1_swap_0 5 rfl rfl)
theorem dX1_swap_6 : decode cX1_swap 6 = .ok (.iload_n 2, 1) := dk_28 (dk_at dksX1_swap_0 6 rfl rfl)
theorem dX1_swap_7 : decode cX1_swap 7 = .ok (.invokevirtual 120, 3) := dk_182 0 120 (dk_at dksX1_swap_0 7 rfl rfl)
theorem dX1_swap_10 : decode cX1_swap 10 = .ok (.iload_n 1, 1) := dk_27 (dk_at dksX1_swap_0 10 rfl rfl)
theorem dX1_swap_11 : decode cX1_swap 11 = .ok (.iload_n 2, 1) := dk_28 (dk_at dksX1_swap_0 11 rfl rfl)
theorem dX1_swap_12 : decode cX1_swap 12 = .ok (.if_icmp .eq 7, 3) := dk_159 0 7 (dk_at dksX1_swap_0 12 rfl rfl)
theorem dX1_swap_15 : decode cX1_swap 15 = .ok (.iconst 1, 1) := dk_4 (dk_at dksX1_swap_0 15 rfl rfl)
theorem dX1_swap_16 : decode cX1_swap 16 = .ok (.goto 4, 3) := dk_167 0 4 (dk_at dksX1_swap_0 16 rfl rfl)
theorem dX1_swap_19 : decode cX1_swap 19 = .ok (.iconst 0, 1) := dk_3 (dk_at dksX1_swap_0 19 rfl rfl)
theorem dX1_swap_20 : decode cX1_swap 20 = .ok (.invokestatic 59, 3) := dk_184 0 59 (dk_at dksX1_swap_0 20 rfl rfl)
theorem dX1_swap_23 : decode cX1_swap 23 = .ok (.aload_n 0, 1) := dk_42 (dk_at dksX1_swap_0 23 rfl rfl)
theorem dX1_swap_24 : decode cX1_swap 24 = .ok (.getfield 44, 3) := dk_180 0 44 (dk_at dksX1_swap_1 0 rfl rfl)
theorem dX1_swap_27 : decode cX1_swap 27 = .ok (.iload_n 1, 1) := dk_27 (dk_at dksX1_swap_1 3 rfl rfl)
theorem dX1_swap_28 : decode cX1_swap 28 = .ok (.iload_n 2, 1) := dk_28 (dk_at dksX1_swap_1 4 rfl rfl)
theorem dX1_swap_29 : decode cX1_swap 29 = .ok (.invokevirtual 123, 3) := dk_182 0 123 (dk_at dksX1_swap_1 5 rfl rfl)
theorem dX1_swap_32 : decode cX1_swap 32 = .ok (.istore_n 3, 1) := dk_62 (dk_at dksX1_swap_1 8 rfl rfl)
theorem dX1_swap_33 : decode cX1_swap 33 = .ok (.iconst 0, 1) := dk_3 (dk_at dksX1_swap_1 9 rfl rfl)
theorem dX1_swap_34 : decode cX1_swap 34 = .ok (.istore 4, 2) := dk_54 4 (dk_at dksX1_swap_1 10 rfl rfl)
theorem dX1_swap_36 : decode cX1_swap 36 = .ok (.iload 4, 2) := dk_21 4 (dk_at dksX1_swap_1 12 rfl rfl)
theorem dX1_swap_38 : decode cX1_swap 38 = .ok (.aload_n 0, 1) := dk_42 (dk_at dksX1_swap_1 14 rfl rfl)
theorem dX1_swap_39 : decode cX1_swap 39 = .ok (.getfield 44, 3) := dk_180 0 44 (dk_at dksX1_swap_1 15 rfl rfl)
theorem dX1_swap_42 : decode cX1_swap 42 = .ok (.getfield 48, 3) := dk_180 0 48 (dk_at dksX1_swap_1 18 rfl rfl)
theorem dX1_swap_45 : decode cX1_swap 45 = .ok (.invokevirtual 58, 3) := dk_182 0 58 (dk_at dksX1_swap_1 21 rfl rfl)
theorem dX1_swap_48 : decode cX1_swap 48 = .ok (.if_icmp .ge 62, 3) := dk_162 0 62 (dk_at dksX1_swap_2 0 rfl rfl)
theorem dX1_swap_51 : decode cX1_swap 51 = .ok (.aload_n 0, 1) := dk_42 (dk_at dksX1_swap_2 3 rfl rfl)
theorem dX1_swap_52 : decode cX1_swap 52 = .ok (.getfield 44, 3) := dk_180 0 44 (dk_at dksX1_swap_2 4 rfl rfl)
theorem dX1_swap_55 : decode cX1_swap 55 = .ok (.getfield 48, 3) := dk_180 0 48 (dk_at dksX1_swap_2 7 rfl rfl)
theorem dX1_swap_58 : decode cX1_swap 58 = .ok (.iload 4, 2) := dk_21 4 (dk_at dksX1_swap_2 10 rfl rfl)
theorem dX1_swap_60 : decode cX1_swap 60 = .ok (.invokevirtual 127, 3) := dk_182 0 127 (dk_at dksX1_swap_2 12 rfl rfl)
theorem dX1_swap_63 : decode cX1_swap 63 = .ok (.checkcast 51, 3) := dk_192 0 51 (dk_at dksX1_swap_2 15 rfl rfl)
theorem dX1_swap_66 : decode cX1_swap 66 = .ok (.astore 5, 2) := dk_58 5 (dk_at dksX1_swap_2 18 rfl rfl)
theorem dX1_swap_68 : decode cX1_swap 68 = .ok (.aload 5, 2) := dk_25 5 (dk_at dksX1_swap_2 20 rfl rfl)
theorem dX1_swap_70 : decode cX1_swap 70 = .ok (.aload 5, 2) := dk_25 5 (dk_at dksX1_swap_2 22 rfl rfl)
theorem dX1_swap_72 : decode cX1_swap 72 = .ok (.getfield 81, 3) := dk_180 0 81 (dk_at dksX1_swap_3 0 rfl rfl)
theorem dX1_swap_75 : decode cX1_swap 75 = .ok (.iload_n 1, 1) := dk_27 (dk_at dksX1_swap_3 3 rfl rfl)
theorem dX1_swap_76 : decode cX1_swap 76 = .ok (.if_icmp .ne 7, 3) := dk_160 0 7 (dk_at dksX1_swap_3 4 rfl rfl)
theorem dX1_swap_79 : decode cX1_swap 79 = .ok (.iload_n 2, 1) := dk_28 (dk_at dksX1_swap_3 7 rfl rfl)
theorem dX1_swap_80 : decode cX1_swap 80 = .ok (.goto 21, 3) := dk_167 0 21 (dk_at dksX1_swap_3 8 rfl rfl)
theorem dX1_swap_83 : decode cX1_swap 83 = .ok (.aload 5, 2) := dk_25 5 (dk_at dksX1_swap_3 11 rfl rfl)
theorem dX1_swap_85 : decode cX1_swap 85 = .ok (.getfield 81, 3) := dk_180 0 81 (dk_at dksX1_swap_3 13 rfl rfl)
theorem dX1_swap_88 : decode cX1_swap 88 = .ok (.iload_n 2, 1) := dk_28 (dk_at dksX1_swap_3 16 rfl rfl)
theorem dX1_swap_89 : decode cX1_swap 89 = .ok (.if_icmp .ne 7, 3) := dk_160 0 7 (dk_at dksX1_swap_3 17 rfl rfl)
theorem dX1_swap_92 : decode cX1_swap 92 = .ok (.iload_n 1, 1) := dk_27 (dk_at dksX1_swap_3 20 rfl rfl)
theorem dX1_swap_93 : decode cX1_swap 93 = .ok (.goto 8, 3) := dk_167 0 8 (dk_at dksX1_swap_3 21 rfl rfl)
theorem dX1_swap_96 : decode cX1_swap 96 = .ok (.aload 5, 2) := dk_25 5 (dk_at dksX1_swap_4 0 rfl rfl)
theorem dX1_swap_98 : decode cX1_swap 98 = .ok (.getfield 81, 3) := dk_180 0 81 (dk_at dksX1_swap_4 2 rfl rfl)
theorem dX1_swap_101 : decode cX1_swap 101 = .ok (.putfield 81, 3) := dk_181 0 81 (dk_at dksX1_swap_4 5 rfl rfl)
theorem dX1_swap_104 : decode cX1_swap 104 = .ok (.iinc 4 1, 3) := dk_132 4 1 (dk_at dksX1_swap_4 8 rfl rfl)
theorem dX1_swap_107 : decode cX1_swap 107 = .ok (.goto (-71), 3) := dk_167 255 185 (dk_at dksX1_swap_4 11 rfl rfl)
theorem dX1_swap_110 : decode cX1_swap 110 = .ok (.iload_n 3, 1) := dk_29 (dk_at dksX1_swap_4 14 rfl rfl)
theorem dX1_swap_111 : decode cX1_swap 111 = .ok (.ireturn, 1) := dk_172 (dk_at dksX1_swap_4 15 rfl rfl)
abbrev cX1_requireEater : ByteArray := prog_1_method_7_code
def yX1_requireEater : MethodName := ⟨RX1, "requireEater", "(I)V"⟩
def dkwX1_requireEater_0 : List UInt8 := [27, 42, 180, 0, 35, 182, 0, 58, 184, 0, 13, 177]
abbrev dktX1_requireEater_0 : List UInt8 := dkwX1_requireEater_0 ++ []
theorem dksX1_requireEater_0 : cX1_requireEater.data.toList.drop 0 = dktX1_requireEater_0 := by decide +kernel
theorem dX1_requireEater_0 : decode cX1_requireEater 0 = .ok (.iload_n 1, 1) := dk_27 (dk_at dksX1_requireEater_0 0 rfl rfl)
theorem dX1_requireEater_1 : decode cX1_requireEater 1 = .ok (.aload_n 0, 1) := dk_42 (dk_at dksX1_requireEater_0 1 rfl rfl)
theorem dX1_requireEater_2 : decode cX1_requireEater 2 = .ok (.getfield 35, 3) := dk_180 0 35 (dk_at dksX1_requireEater_0 2 rfl rfl)
theorem dX1_requireEater_5 : decode cX1_requireEater 5 = .ok (.invokevirtual 58, 3) := dk_182 0 58 (dk_at dksX1_requireEater_0 5 rfl rfl)
theorem dX1_requireEater_8 : decode cX1_requireEater 8 = .ok (.invokestatic 13, 3) := dk_184 0 13 (dk_at dksX1_requireEater_0 8 rfl rfl)
theorem dX1_requireEater_11 : decode cX1_requireEater 11 = .ok (.return_, 1) := dk_177 (dk_at dksX1_requireEater_0 11 rfl rfl)
abbrev cX1_told : ByteArray := prog_1_method_16_code
def yX1_told : MethodName := ⟨RX1, "told", "(II)I"⟩
def dkwX1_told_1 : List UInt8 := [45, 180, 0, 67, 167, 0, 7, 45, 180, 0, 81, 172]
abbrev dktX1_told_1 : List UInt8 := dkwX1_told_1 ++ []
def dkwX1_told_0 : List UInt8 := [42, 180, 0, 44, 180, 0, 48, 27, 184, 0, 63, 192, 0, 51, 78, 28, 5, 184, 0, 13, 28, 154, 0, 10]
abbrev dktX1_told_0 : List UInt8 := dkwX1_told_0 ++ dktX1_told_1
theorem dksX1_told_0 : cX1_told.data.toList.drop 0 = dktX1_told_0 := by decide +kernel
theorem dksX1_told_1 : cX1_told.data.toList.drop 24 = dktX1_told_1 := dk_seg dksX1_told_0 24 rfl rfl
theorem dX1_told_0 : decode cX1_told 0 = .ok (.aload_n 0, 1) := dk_42 (dk_at dksX1_told_0 0 rfl rfl)
theorem dX1_told_1 : decode cX1_told 1 = .ok (.getfield 44, 3) := dk_180 0 44 (dk_at dksX1_told_0 1 rfl rfl)
theorem dX1_told_4 : decode cX1_told 4 = .ok (.getfield 48, 3) := dk_180 0 48 (dk_at dksX1_told_0 4 rfl rfl)
theorem dX1_told_7 : decode cX1_told 7 = .ok (.iload_n 1, 1) := dk_27 (dk_at dksX1_told_0 7 rfl rfl)
theorem dX1_told_8 : decode cX1_told 8 = .ok (.invokestatic 63, 3) := dk_184 0 63 (dk_at dksX1_told_0 8 rfl rfl)
theorem dX1_told_11 : decode cX1_told 11 = .ok (.checkcast 51, 3) := dk_192 0 51 (dk_at dksX1_told_0 11 rfl rfl)
theorem dX1_told_14 : decode cX1_told 14 = .ok (.astore_n 3, 1) := dk_78 (dk_at dksX1_told_0 14 rfl rfl)
theorem dX1_told_15 : decode cX1_told 15 = .ok (.iload_n 2, 1) := dk_28 (dk_at dksX1_told_0 15 rfl rfl)
theorem dX1_told_16 : decode cX1_told 16 = .ok (.iconst 2, 1) := dk_5 (dk_at dksX1_told_0 16 rfl rfl)
theorem dX1_told_17 : decode cX1_told 17 = .ok (.invokestatic 13, 3) := dk_184 0 13 (dk_at dksX1_told_0 17 rfl rfl)
theorem dX1_told_20 : decode cX1_told 20 = .ok (.iload_n 2, 1) := dk_28 (dk_at dksX1_told_0 20 rfl rfl)
theorem dX1_told_21 : decode cX1_told 21 = .ok (.ifCond .ne 10, 3) := dk_154 0 10 (dk_at dksX1_told_0 21 rfl rfl)
theorem dX1_told_24 : decode cX1_told 24 = .ok (.aload_n 3, 1) := dk_45 (dk_at dksX1_told_1 0 rfl rfl)
theorem dX1_told_25 : decode cX1_told 25 = .ok (.getfield 67, 3) := dk_180 0 67 (dk_at dksX1_told_1 1 rfl rfl)
theorem dX1_told_28 : decode cX1_told 28 = .ok (.goto 7, 3) := dk_167 0 7 (dk_at dksX1_told_1 4 rfl rfl)
theorem dX1_told_31 : decode cX1_told 31 = .ok (.aload_n 3, 1) := dk_45 (dk_at dksX1_told_1 7 rfl rfl)
theorem dX1_told_32 : decode cX1_told 32 = .ok (.getfield 81, 3) := dk_180 0 81 (dk_at dksX1_told_1 8 rfl rfl)
theorem dX1_told_35 : decode cX1_told 35 = .ok (.ireturn, 1) := dk_172 (dk_at dksX1_told_1 11 rfl rfl)
abbrev cX1_worth : ByteArray := prog_1_method_17_code
def yX1_worth : MethodName := ⟨RX1, "worth", "(II)I"⟩
def dkwX1_worth_0 : List UInt8 := [42, 27, 182, 0, 120, 42, 28, 182, 0, 120, 42, 180, 0, 44, 27, 28, 182, 0, 112, 172]
abbrev dktX1_worth_0 : List UInt8 := dkwX1_worth_0 ++ []
theorem dksX1_worth_0 : cX1_worth.data.toList.drop 0 = dktX1_worth_0 := by decide +kernel
theorem dX1_worth_0 : decode cX1_worth 0 = .ok (.aload_n 0, 1) := dk_42 (dk_at dksX1_worth_0 0 rfl rfl)
theorem dX1_worth_1 : decode cX1_worth 1 = .ok (.iload_n 1, 1) := dk_27 (dk_at dksX1_worth_0 1 rfl rfl)
theorem dX1_worth_2 : decode cX1_worth 2 = .ok (.invokevirtual 120, 3) := dk_182 0 120 (dk_at dksX1_worth_0 2 rfl rfl)
theorem dX1_worth_5 : decode cX1_worth 5 = .ok (.aload_n 0, 1) := dk_42 (dk_at dksX1_worth_0 5 rfl rfl)
theorem dX1_worth_6 : decode cX1_worth 6 = .ok (.iload_n 2, 1) := dk_28 (dk_at dksX1_worth_0 6 rfl rfl)
theorem dX1_worth_7 : decode cX1_worth 7 = .ok (.invokevirtual 120, 3) := dk_182 0 120 (dk_at dksX1_worth_0 7 rfl rfl)
theorem dX1_worth_10 : decode cX1_worth 10 = .ok (.aload_n 0, 1) := dk_42 (dk_at dksX1_worth_0 10 rfl rfl)
theorem dX1_worth_11 : decode cX1_worth 11 = .ok (.getfield 44, 3) := dk_180 0 44 (dk_at dksX1_worth_0 11 rfl rfl)
theorem dX1_worth_14 : decode cX1_worth 14 = .ok (.iload_n 1, 1) := dk_27 (dk_at dksX1_worth_0 14 rfl rfl)
theorem dX1_worth_15 : decode cX1_worth 15 = .ok (.iload_n 2, 1) := dk_28 (dk_at dksX1_worth_0 15 rfl rfl)
theorem dX1_worth_16 : decode cX1_worth 16 = .ok (.invokevirtual 112, 3) := dk_182 0 112 (dk_at dksX1_worth_0 16 rfl rfl)
theorem dX1_worth_19 : decode cX1_worth 19 = .ok (.ireturn, 1) := dk_172 (dk_at dksX1_worth_0 19 rfl rfl)
abbrev cX1_about : ByteArray := prog_1_method_22_code
def yX1_about : MethodName := ⟨RX1, "about", "(II)I"⟩
def dkwX1_about_0 : List UInt8 := [42, 27, 182, 0, 120, 28, 16, 6, 184, 0, 13, 42, 27, 28, 182, 0, 156, 172]
abbrev dktX1_about_0 : List UInt8 := dkwX1_about_0 ++ []
theorem dksX1_about_0 : cX1_about.data.toList.drop 0 = dktX1_about_0 := by decide +kernel
theorem dX1_about_0 : decode cX1_about 0 = .ok (.aload_n 0, 1) := dk_42 (dk_at dksX1_about_0 0 rfl rfl)
theorem dX1_about_1 : decode cX1_about 1 = .ok (.iload_n 1, 1) := dk_27 (dk_at dksX1_about_0 1 rfl rfl)
theorem dX1_about_2 : decode cX1_about 2 = .ok (.invokevirtual 120, 3) := dk_182 0 120 (dk_at dksX1_about_0 2 rfl rfl)
theorem dX1_about_5 : decode cX1_about 5 = .ok (.iload_n 2, 1) := dk_28 (dk_at dksX1_about_0 5 rfl rfl)
theorem dX1_about_6 : decode cX1_about 6 = .ok (.bipush 6, 2) := dk_16 6 (dk_at dksX1_about_0 6 rfl rfl)
theorem dX1_about_8 : decode cX1_about 8 = .ok (.invokestatic 13, 3) := dk_184 0 13 (dk_at dksX1_about_0 8 rfl rfl)
theorem dX1_about_11 : decode cX1_about 11 = .ok (.aload_n 0, 1) := dk_42 (dk_at dksX1_about_0 11 rfl rfl)
theorem dX1_about_12 : decode cX1_about 12 = .ok (.iload_n 1, 1) := dk_27 (dk_at dksX1_about_0 12 rfl rfl)
theorem dX1_about_13 : decode cX1_about 13 = .ok (.iload_n 2, 1) := dk_28 (dk_at dksX1_about_0 13 rfl rfl)
theorem dX1_about_14 : decode cX1_about 14 = .ok (.invokevirtual 156, 3) := dk_182 0 156 (dk_at dksX1_about_0 14 rfl rfl)
theorem dX1_about_17 : decode cX1_about 17 = .ok (.ireturn, 1) := dk_172 (dk_at dksX1_about_0 17 rfl rfl)
abbrev cX1_taste : ByteArray := prog_1_method_23_code
def yX1_taste : MethodName := ⟨RX1, "taste", "(II)I"⟩
def dkwX1_taste_0 : List UInt8 := [42, 180, 0, 35, 27, 184, 0, 63, 192, 0, 74, 78, 28, 8, 184, 0, 13, 45, 180, 0, 77, 28, 46, 172]
abbrev dktX1_taste_0 : List UInt8 := dkwX1_taste_0 ++ []
theorem dksX1_taste_0 : cX1_taste.data.toList.drop 0 = dktX1_taste_0 := by decide +kernel
theorem dX1_taste_0 : decode cX1_taste 0 = .ok (.aload_n 0, 1) := dk_42 (dk_at dksX1_taste_0 0 rfl rfl)
theorem dX1_taste_1 : decode cX1_taste 1 = .ok (.getfield 35, 3) := dk_180 0 35 (dk_at dksX1_taste_0 1 rfl rfl)
theorem dX1_taste_4 : decode cX1_taste 4 = .ok (.iload_n 1, 1) := dk_27 (dk_at dksX1_taste_0 4 rfl rfl)
theorem dX1_taste_5 : decode cX1_taste 5 = .ok (.invokestatic 63, 3) := dk_184 0 63 (dk_at dksX1_taste_0 5 rfl rfl)
theorem dX1_taste_8 : decode cX1_taste 8 = .ok (.checkcast 74, 3) := dk_192 0 74 (dk_at dksX1_taste_0 8 rfl rfl)
theorem dX1_taste_11 : decode cX1_taste 11 = .ok (.astore_n 3, 1) := dk_78 (dk_at dksX1_taste_0 11 rfl rfl)
theorem dX1_taste_12 : decode cX1_taste 12 = .ok (.iload_n 2, 1) := dk_28 (dk_at dksX1_taste_0 12 rfl rfl)
theorem dX1_taste_13 : decode cX1_taste 13 = .ok (.iconst 5, 1) := dk_8 (dk_at dksX1_taste_0 13 rfl rfl)
theorem dX1_taste_14 : decode cX1_taste 14 = .ok (.invokestatic 13, 3) := dk_184 0 13 (dk_at dksX1_taste_0 14 rfl rfl)
theorem dX1_taste_17 : decode cX1_taste 17 = .ok (.aload_n 3, 1) := dk_45 (dk_at dksX1_taste_0 17 rfl rfl)
theorem dX1_taste_18 : decode cX1_taste 18 = .ok (.getfield 77, 3) := dk_180 0 77 (dk_at dksX1_taste_0 18 rfl rfl)
theorem dX1_taste_21 : decode cX1_taste 21 = .ok (.iload_n 2, 1) := dk_28 (dk_at dksX1_taste_0 21 rfl rfl)
theorem dX1_taste_22 : decode cX1_taste 22 = .ok (.iaload, 1) := dk_46 (dk_at dksX1_taste_0 22 rfl rfl)
theorem dX1_taste_23 : decode cX1_taste 23 = .ok (.ireturn, 1) := dk_172 (dk_at dksX1_taste_0 23 rfl rfl)
abbrev cX1_count : ByteArray := prog_1_method_26_code
def yX1_count : MethodName := ⟨RX1, "count", "(I)I"⟩
def dkwX1_count_0 : List UInt8 := [27, 16, 7, 184, 0, 13, 42, 27, 182, 0, 166, 172]
abbrev dktX1_count_0 : List UInt8 := dkwX1_count_0 ++ []
theorem dksX1_count_0 : cX1_count.data.toList.drop 0 = dktX1_count_0 := by decide +kernel
theorem dX1_count_0 : decode cX1_count 0 = .ok (.iload_n 1, 1) := dk_27 (dk_at dksX1_count_0 0 rfl rfl)
theorem dX1_count_1 : decode cX1_count 1 = .ok (.bipush 7, 2) := dk_16 7 (dk_at dksX1_count_0 1 rfl rfl)
theorem dX1_count_3 : decode cX1_count 3 = .ok (.invokestatic 13, 3) := dk_184 0 13 (dk_at dksX1_count_0 3 rfl rfl)
theorem dX1_count_6 : decode cX1_count 6 = .ok (.aload_n 0, 1) := dk_42 (dk_at dksX1_count_0 6 rfl rfl)
theorem dX1_count_7 : decode cX1_count 7 = .ok (.iload_n 1, 1) := dk_27 (dk_at dksX1_count_0 7 rfl rfl)
theorem dX1_count_8 : decode cX1_count 8 = .ok (.invokevirtual 166, 3) := dk_182 0 166 (dk_at dksX1_count_0 8 rfl rfl)
theorem dX1_count_11 : decode cX1_count 11 = .ok (.ireturn, 1) := dk_172 (dk_at dksX1_count_0 11 rfl rfl)
abbrev cX1_cuts : ByteArray := prog_1_method_27_code
def yX1_cuts : MethodName := ⟨RX1, "cuts", "(III)I"⟩
def dkwX1_cuts_2 : List UInt8 := [182, 0, 173, 172]
abbrev dktX1_cuts_2 : List UInt8 := dkwX1_cuts_2 ++ []
def dkwX1_cuts_1 : List UInt8 := [29, 28, 184, 0, 13, 42, 180, 0, 44, 27, 42, 180, 0, 44, 182, 0, 136, 28, 182, 0, 169, 29, 50]
abbrev dktX1_cuts_1 : List UInt8 := dkwX1_cuts_1 ++ dktX1_cuts_2
def dkwX1_cuts_0 : List UInt8 := [28, 4, 161, 0, 13, 28, 16, 8, 163, 0, 7, 4, 167, 0, 4, 3, 184, 0, 59, 42, 27, 182, 0, 120]
abbrev dktX1_cuts_0 : List UInt8 := dkwX1_cuts_0 ++ dktX1_cuts_1
theorem dksX1_cuts_0 : cX1_cuts.data.toList.drop 0 = dktX1_cuts_0 := by decide +kernel
theorem dksX1_cuts_1 : cX1_cuts.data.toList.drop 24 = dktX1_cuts_1 := dk_seg dksX1_cuts_0 24 rfl rfl
theorem dksX1_cuts_2 : cX1_cuts.data.toList.drop 47 = dktX1_cuts_2 := dk_seg dksX1_cuts_1 23 rfl rfl
theorem dX1_cuts_0 : decode cX1_cuts 0 = .ok (.iload_n 2, 1) := dk_28 (dk_at dksX1_cuts_0 0 rfl rfl)
theorem dX1_cuts_1 : decode cX1_cuts 1 = .ok (.iconst 1, 1) := dk_4 (dk_at dksX1_cuts_0 1 rfl rfl)
theorem dX1_cuts_2 : decode cX1_cuts 2 = .ok (.if_icmp .lt 13, 3) := dk_161 0 13 (dk_at dksX1_cuts_0 2 rfl rfl)
theorem dX1_cuts_5 : decode cX1_cuts 5 = .ok (.iload_n 2, 1) := dk_28 (dk_at dksX1_cuts_0 5 rfl rfl)
theorem dX1_cuts_6 : decode cX1_cuts 6 = .ok (.bipush 8, 2) := dk_16 8 (dk_at dksX1_cuts_0 6 rfl rfl)
theorem dX1_cuts_8 : decode cX1_cuts 8 = .ok (.if_icmp .gt 7, 3) := dk_163 0 7 (dk_at dksX1_cuts_0 8 rfl rfl)
theorem dX1_cuts_11 : decode cX1_cuts 11 = .ok (.iconst 1, 1) := dk_4 (dk_at dksX1_cuts_0 11 rfl rfl)
theorem dX1_cuts_12 : decode cX1_cuts 12 = .ok (.goto 4, 3) := dk_167 0 4 (dk_at dksX1_cuts_0 12 rfl rfl)
theorem dX1_cuts_15 : decode cX1_cuts 15 = .ok (.iconst 0, 1) := dk_3 (dk_at dksX1_cuts_0 15 rfl rfl)
theorem dX1_cuts_16 : decode cX1_cuts 16 = .ok (.invokestatic 59, 3) := dk_184 0 59 (dk_at dksX1_cuts_0 16 rfl rfl)
theorem dX1_cuts_19 : decode cX1_cuts 19 = .ok (.aload_n 0, 1) := dk_42 (dk_at dksX1_cuts_0 19 rfl rfl)
theorem dX1_cuts_20 : decode cX1_cuts 20 = .ok (.iload_n 1, 1) := dk_27 (dk_at dksX1_cuts_0 20 rfl rfl)
theorem dX1_cuts_21 : decode cX1_cuts 21 = .ok (.invokevirtual 120, 3) := dk_182 0 120 (dk_at dksX1_cuts_0 21 rfl rfl)
theorem dX1_cuts_24 : decode cX1_cuts 24 = .ok (.iload_n 3, 1) := dk_29 (dk_at dksX1_cuts_1 0 rfl rfl)
theorem dX1_cuts_25 : decode cX1_cuts 25 = .ok (.iload_n 2, 1) := dk_28 (dk_at dksX1_cuts_1 1 rfl rfl)
theorem dX1_cuts_26 : decode cX1_cuts 26 = .ok (.invokestatic 13, 3) := dk_184 0 13 (dk_at dksX1_cuts_1 2 rfl rfl)
theorem dX1_cuts_29 : decode cX1_cuts 29 = .ok (.aload_n 0, 1) := dk_42 (dk_at dksX1_cuts_1 5 rfl rfl)
theorem dX1_cuts_30 : decode cX1_cuts 30 = .ok (.getfield 44, 3) := dk_180 0 44 (dk_at dksX1_cuts_1 6 rfl rfl)
theorem dX1_cuts_33 : decode cX1_cuts 33 = .ok (.iload_n 1, 1) := dk_27 (dk_at dksX1_cuts_1 9 rfl rfl)
theorem dX1_cuts_34 : decode cX1_cuts 34 = .ok (.aload_n 0, 1) := dk_42 (dk_at dksX1_cuts_1 10 rfl rfl)
theorem dX1_cuts_35 : decode cX1_cuts 35 = .ok (.getfield 44, 3) := dk_180 0 44 (dk_at dksX1_cuts_1 11 rfl rfl)
theorem dX1_cuts_38 : decode cX1_cuts 38 = .ok (.invokevirtual 136, 3) := dk_182 0 136 (dk_at dksX1_cuts_1 14 rfl rfl)
theorem dX1_cuts_41 : decode cX1_cuts 41 = .ok (.iload_n 2, 1) := dk_28 (dk_at dksX1_cuts_1 17 rfl rfl)
theorem dX1_cuts_42 : decode cX1_cuts 42 = .ok (.invokevirtual 169, 3) := dk_182 0 169 (dk_at dksX1_cuts_1 18 rfl rfl)
theorem dX1_cuts_45 : decode cX1_cuts 45 = .ok (.iload_n 3, 1) := dk_29 (dk_at dksX1_cuts_1 21 rfl rfl)
theorem dX1_cuts_46 : decode cX1_cuts 46 = .ok (.aaload, 1) := dk_50 (dk_at dksX1_cuts_1 22 rfl rfl)
theorem dX1_cuts_47 : decode cX1_cuts 47 = .ok (.invokevirtual 173, 3) := dk_182 0 173 (dk_at dksX1_cuts_2 0 rfl rfl)
theorem dX1_cuts_50 : decode cX1_cuts 50 = .ok (.ireturn, 1) := dk_172 (dk_at dksX1_cuts_2 3 rfl rfl)
abbrev cX1_would : ByteArray := prog_1_method_29_code
def yX1_would : MethodName := ⟨RX1, "would", "(I)I"⟩
def dkwX1_would_0 : List UInt8 := [42, 178, 0, 84, 27, 184, 0, 88, 192, 0, 92, 182, 0, 182, 172]
abbrev dktX1_would_0 : List UInt8 := dkwX1_would_0 ++ []
theorem dksX1_would_0 : cX1_would.data.toList.drop 0 = dktX1_would_0 := by decide +kernel
theorem dX1_would_0 : decode cX1_would 0 = .ok (.aload_n 0, 1) := dk_42 (dk_at dksX1_would_0 0 rfl rfl)
theorem dX1_would_1 : decode cX1_would 1 = .ok (.getstatic 84, 3) := dk_178 0 84 (dk_at dksX1_would_0 1 rfl rfl)
theorem dX1_would_4 : decode cX1_would 4 = .ok (.iload_n 1, 1) := dk_27 (dk_at dksX1_would_0 4 rfl rfl)
theorem dX1_would_5 : decode cX1_would 5 = .ok (.invokestatic 88, 3) := dk_184 0 88 (dk_at dksX1_would_0 5 rfl rfl)
theorem dX1_would_8 : decode cX1_would 8 = .ok (.checkcast 92, 3) := dk_192 0 92 (dk_at dksX1_would_0 8 rfl rfl)
theorem dX1_would_11 : decode cX1_would 11 = .ok (.invokevirtual 182, 3) := dk_182 0 182 (dk_at dksX1_would_0 11 rfl rfl)
theorem dX1_would_14 : decode cX1_would 14 = .ok (.ireturn, 1) := dk_172 (dk_at dksX1_would_0 14 rfl rfl)
theorem q34 : (Jvm.Cond.initialized "CakeTastes") ∈ lw_all := lw_g (lw_at lw_m1 1 rfl) rfl
theorem q63 : (Jvm.Cond.instantiable "CakeTastes" (3 : Nat)) ∈ lw_all := lw_g (lw_at lw_m1 30 rfl) rfl
theorem q65 : (Jvm.Cond.instanceMethod ({ cls := "CakeTastes", name := "<init>", desc := "()V" } : Jvm.MethodName)) ∈ lw_all := lw_g (lw_at lw_m1 32 rfl) rfl
theorem q66 : (Jvm.Cond.code ({ cls := "CakeTastes", name := "<init>", desc := "()V" } : Jvm.MethodName) prog_1_method_6_code (2 : Nat) (Option.none : Option Jvm.ClassFile.FieldType)) ∈ lw_all := lw_g (lw_at lw_m1 33 rfl) rfl
theorem q67 : (Jvm.Cond.methodLink "CakeTastes" (29 : Nat) ({ cls := "java/lang/Object", name := "<init>", desc := "()V" } : Jvm.MethodName)) ∈ lw_all := lw_g (lw_at lw_m1 34 rfl) rfl
theorem q70 : (Jvm.Cond.classLink "CakeTastes" (32 : Nat) "java/util/ArrayList") ∈ lw_all := lw_g (lw_at lw_m1 37 rfl) rfl
theorem q72 : (Jvm.Cond.methodLink "CakeTastes" (34 : Nat) ({ cls := "java/util/ArrayList", name := "<init>", desc := "()V" } : Jvm.MethodName)) ∈ lw_all := lw_g (lw_at lw_m1 39 rfl) rfl
theorem q96 : (Jvm.Cond.classLink "CakeTastes" (39 : Nat) "CakeTastes$Table") ∈ lw_all := lw_g (lw_at lw_m1 63 rfl) rfl
theorem q98 : (Jvm.Cond.methodLink "CakeTastes" (41 : Nat) ({ cls := "CakeTastes$Table", name := "<init>", desc := "(Ljava/util/List;)V" } : Jvm.MethodName)) ∈ lw_all := lw_g (lw_at lw_m1 65 rfl) rfl
theorem q107 : (Jvm.Cond.fieldLinkNest "CakeTastes" (48 : Nat) "CakeTastes$Table" "slices" "Ljava/util/ArrayList;" "CakeTastes") ∈ lw_tbl := lw_at lw_m1 74 rfl
theorem q113 : (Jvm.Cond.classLink "CakeTastes" (51 : Nat) "CakeTastes$Slice") ∈ lw_all := lw_g (lw_at lw_m1 80 rfl) rfl
theorem q115 : (Jvm.Cond.methodLinkNest "CakeTastes" (53 : Nat) ({ cls := "CakeTastes$Slice", name := "<init>", desc := "()V" } : Jvm.MethodName) "CakeTastes") ∈ lw_tbl := lw_at lw_m1 82 rfl
theorem q121 : (Jvm.Cond.fieldLinkNest "CakeTastes" (67 : Nat) "CakeTastes$Slice" "sort" "I" "CakeTastes") ∈ lw_tbl := lw_at lw_m1 88 rfl
theorem q124 : (Jvm.Cond.fieldLinkNest "CakeTastes" (81 : Nat) "CakeTastes$Slice" "owner" "I" "CakeTastes") ∈ lw_tbl := lw_at lw_m1 91 rfl
theorem q130 : (Jvm.Cond.methodLink "CakeTastes" (54 : Nat) ({ cls := "java/util/ArrayList", name := "add", desc := "(Ljava/lang/Object;)Z" } : Jvm.MethodName)) ∈ lw_all := lw_g (lw_at lw_m1 97 rfl) rfl
theorem q162 : (Jvm.Cond.selects "CakeTastes" ({ cls := "java/lang/Object", name := "getClass", desc := "()Ljava/lang/Class;" } : Jvm.MethodName) ({ cls := "java/lang/Object", name := "getClass", desc := "()Ljava/lang/Class;" } : Jvm.MethodName)) ∈ lw_all := lw_g (lw_at lw_m1 129 rfl) rfl
theorem q194 : (Jvm.Cond.fieldLink "CakeTastes" (35 : Nat) "CakeTastes" "eaters" "Ljava/util/ArrayList;") ∈ lw_all := lw_g (lw_at lw_m1 161 rfl) rfl
theorem q195 : (Jvm.Cond.fieldLink "CakeTastes" (44 : Nat) "CakeTastes" "table" "LCakeTastes$Table;") ∈ lw_all := lw_g (lw_at lw_m1 162 rfl) rfl
theorem q196 : (Jvm.Cond.fieldLink "CakeTastes" (102 : Nat) "CakeTastes" "shared" "I") ∈ lw_all := lw_g (lw_at lw_m1 163 rfl) rfl
theorem q197 : (Jvm.Cond.laysFinal "CakeTastes" "CakeTastes" "eaters" "Ljava/util/ArrayList;") ∈ lw_all := lw_g (lw_at lw_m1 164 rfl) rfl
theorem q198 : (Jvm.Cond.soleField "CakeTastes" "eaters") ∈ lw_all := lw_g (lw_at lw_m1 165 rfl) rfl
theorem q199 : (Jvm.Cond.lays "CakeTastes" "CakeTastes" "table" "LCakeTastes$Table;") ∈ lw_all := lw_g (lw_at lw_m1 166 rfl) rfl
theorem q200 : (Jvm.Cond.soleField "CakeTastes" "table") ∈ lw_all := lw_g (lw_at lw_m1 167 rfl) rfl
theorem q201 : (Jvm.Cond.lays "CakeTastes" "CakeTastes" "shared" "I") ∈ lw_all := lw_g (lw_at lw_m1 168 rfl) rfl
theorem q202 : (Jvm.Cond.soleField "CakeTastes" "shared") ∈ lw_all := lw_g (lw_at lw_m1 169 rfl) rfl
theorem q203 : (Jvm.Cond.superclass "CakeTastes" "java/lang/Object") ∈ lw_all := lw_g (lw_at lw_m1 170 rfl) rfl
theorem q205 : (Jvm.Cond.instanceMethod ({ cls := "CakeTastes", name := "best", desc := "()I" } : Jvm.MethodName)) ∈ lw_all := lw_g (lw_at lw_m1 172 rfl) rfl
theorem q206 : (Jvm.Cond.selects "CakeTastes" ({ cls := "CakeTastes", name := "best", desc := "()I" } : Jvm.MethodName) ({ cls := "CakeTastes", name := "best", desc := "()I" } : Jvm.MethodName)) ∈ lw_all := lw_g (lw_at lw_m1 173 rfl) rfl
theorem q207 : (Jvm.Cond.code ({ cls := "CakeTastes", name := "best", desc := "()I" } : Jvm.MethodName) prog_1_method_30_code (4 : Nat) (Option.some Jvm.ClassFile.FieldType.int)) ∈ lw_all := lw_g (lw_at lw_m1 174 rfl) rfl
theorem q208 : (Jvm.Cond.fieldLink "CakeTastes" (84 : Nat) "CakeTastes" "WAYS" "[LCakeTastes$Way;") ∈ lw_all := lw_g (lw_at lw_m1 175 rfl) rfl
theorem q209 : (Jvm.Cond.laysStatic "CakeTastes" "WAYS" "[LCakeTastes$Way;") ∈ lw_tbl := lw_at lw_m1 176 rfl
theorem q210 : (Jvm.Cond.methodLink "CakeTastes" (182 : Nat) ({ cls := "CakeTastes", name := "envyBy", desc := "(LCakeTastes$Way;)I" } : Jvm.MethodName)) ∈ lw_all := lw_g (lw_at lw_m1 177 rfl) rfl
theorem q211 : (Jvm.Cond.privateMethod ({ cls := "CakeTastes", name := "envyBy", desc := "(LCakeTastes$Way;)I" } : Jvm.MethodName)) ∈ lw_tbl := lw_at lw_m1 178 rfl
theorem q212 : (Jvm.Cond.instanceMethod ({ cls := "CakeTastes", name := "envyBy", desc := "(LCakeTastes$Way;)I" } : Jvm.MethodName)) ∈ lw_all := lw_g (lw_at lw_m1 179 rfl) rfl
theorem q213 : (Jvm.Cond.code ({ cls := "CakeTastes", name := "envyBy", desc := "(LCakeTastes$Way;)I" } : Jvm.MethodName) prog_1_method_28_code (3 : Nat) (Option.some Jvm.ClassFile.FieldType.int)) ∈ lw_all := lw_g (lw_at lw_m1 180 rfl) rfl
theorem q214 : (Jvm.Cond.methodLink "CakeTastes" (94 : Nat) ({ cls := "CakeTastes$Table", name := "canShare", desc := "(LCakeTastes$Way;)Z" } : Jvm.MethodName)) ∈ lw_all := lw_g (lw_at lw_m1 181 rfl) rfl
theorem q228 : (Jvm.Cond.methodLink "CakeTastes" (178 : Nat) ({ cls := "CakeTastes$Table", name := "copy", desc := "()LCakeTastes$Table;" } : Jvm.MethodName)) ∈ lw_all := lw_g (lw_at lw_m1 195 rfl) rfl
theorem q257 : (Jvm.Cond.methodLink "CakeTastes" (98 : Nat) ({ cls := "CakeTastes$Table", name := "share", desc := "(LCakeTastes$Way;)V" } : Jvm.MethodName)) ∈ lw_all := lw_g (lw_at lw_m1 224 rfl) rfl
theorem q430 : (Jvm.Cond.methodLink "CakeTastes" (159 : Nat) ({ cls := "CakeTastes$Table", name := "envies", desc := "(Z)I" } : Jvm.MethodName)) ∈ lw_all := lw_g (lw_at lw_m2 157 rfl) rfl
theorem q445 : (Jvm.Cond.instanceMethod ({ cls := "CakeTastes", name := "change", desc := "()I" } : Jvm.MethodName)) ∈ lw_all := lw_g (lw_at lw_m2 172 rfl) rfl
theorem q446 : (Jvm.Cond.selects "CakeTastes" ({ cls := "CakeTastes", name := "change", desc := "()I" } : Jvm.MethodName) ({ cls := "CakeTastes", name := "change", desc := "()I" } : Jvm.MethodName)) ∈ lw_all := lw_g (lw_at lw_m2 173 rfl) rfl
theorem q447 : (Jvm.Cond.code ({ cls := "CakeTastes", name := "change", desc := "()I" } : Jvm.MethodName) prog_1_method_31_code (3 : Nat) (Option.some Jvm.ClassFile.FieldType.int)) ∈ lw_all := lw_g (lw_at lw_m2 174 rfl) rfl
theorem q448 : (Jvm.Cond.methodLink "CakeTastes" (58 : Nat) ({ cls := "java/util/ArrayList", name := "size", desc := "()I" } : Jvm.MethodName)) ∈ lw_all := lw_g (lw_at lw_m2 175 rfl) rfl
theorem q449 : (Jvm.Cond.methodLink "CakeTastes" (123 : Nat) ({ cls := "CakeTastes$Table", name := "isBetter", desc := "(II)Z" } : Jvm.MethodName)) ∈ lw_all := lw_g (lw_at lw_m2 176 rfl) rfl
theorem q454 : (Jvm.Cond.instanceMethod ({ cls := "CakeTastes", name := "mean", desc := "()D" } : Jvm.MethodName)) ∈ lw_all := lw_g (lw_at lw_m2 181 rfl) rfl
theorem q455 : (Jvm.Cond.selects "CakeTastes" ({ cls := "CakeTastes", name := "mean", desc := "()D" } : Jvm.MethodName) ({ cls := "CakeTastes", name := "mean", desc := "()D" } : Jvm.MethodName)) ∈ lw_all := lw_g (lw_at lw_m2 182 rfl) rfl
theorem q456 : (Jvm.Cond.code ({ cls := "CakeTastes", name := "mean", desc := "()D" } : Jvm.MethodName) prog_1_method_32_code (3 : Nat) (Option.some Jvm.ClassFile.FieldType.double)) ∈ lw_all := lw_g (lw_at lw_m2 183 rfl) rfl
theorem q457 : (Jvm.Cond.methodLink "CakeTastes" (112 : Nat) ({ cls := "CakeTastes$Table", name := "worthOf", desc := "(II)I" } : Jvm.MethodName)) ∈ lw_all := lw_g (lw_at lw_m2 184 rfl) rfl
theorem q458 : (Jvm.Cond.methodLink "CakeTastes" (108 : Nat) ({ cls := "java/util/ArrayList", name := "isEmpty", desc := "()Z" } : Jvm.MethodName)) ∈ lw_all := lw_g (lw_at lw_m2 185 rfl) rfl
theorem q463 : (Jvm.Cond.instanceMethod ({ cls := "CakeTastes", name := "digest", desc := "()J" } : Jvm.MethodName)) ∈ lw_all := lw_g (lw_at lw_m2 190 rfl) rfl
theorem q464 : (Jvm.Cond.selects "CakeTastes" ({ cls := "CakeTastes", name := "digest", desc := "()J" } : Jvm.MethodName) ({ cls := "CakeTastes", name := "digest", desc := "()J" } : Jvm.MethodName)) ∈ lw_all := lw_g (lw_at lw_m2 191 rfl) rfl
theorem q465 : (Jvm.Cond.code ({ cls := "CakeTastes", name := "digest", desc := "()J" } : Jvm.MethodName) prog_1_method_33_code (8 : Nat) (Option.some Jvm.ClassFile.FieldType.long)) ∈ lw_all := lw_g (lw_at lw_m2 192 rfl) rfl
theorem q466 : (Jvm.Cond.constantLong "CakeTastes" (186 : Nat) (1439 : Int64)) ∈ lw_all := lw_g (lw_at lw_m2 193 rfl) rfl
theorem q467 : (Jvm.Cond.constantLong "CakeTastes" (188 : Nat) (31 : Int64)) ∈ lw_all := lw_g (lw_at lw_m2 194 rfl) rfl
theorem q468 : (Jvm.Cond.methodLink "CakeTastes" (166 : Nat) ({ cls := "CakeTastes", name := "counted", desc := "(I)I" } : Jvm.MethodName)) ∈ lw_all := lw_g (lw_at lw_m2 195 rfl) rfl
theorem q469 : (Jvm.Cond.privateMethod ({ cls := "CakeTastes", name := "counted", desc := "(I)I" } : Jvm.MethodName)) ∈ lw_tbl := lw_at lw_m2 196 rfl
theorem q470 : (Jvm.Cond.instanceMethod ({ cls := "CakeTastes", name := "counted", desc := "(I)I" } : Jvm.MethodName)) ∈ lw_all := lw_g (lw_at lw_m2 197 rfl) rfl
theorem q471 : (Jvm.Cond.code ({ cls := "CakeTastes", name := "counted", desc := "(I)I" } : Jvm.MethodName) prog_1_method_25_code (2 : Nat) (Option.some Jvm.ClassFile.FieldType.int)) ∈ lw_all := lw_g (lw_at lw_m2 198 rfl) rfl
theorem q472 : (Jvm.Cond.methodLink "CakeTastes" (105 : Nat) ({ cls := "CakeTastes$Table", name := "free", desc := "()I" } : Jvm.MethodName)) ∈ lw_all := lw_g (lw_at lw_m2 199 rfl) rfl
theorem q476 : (Jvm.Cond.methodLink "CakeTastes" (163 : Nat) ({ cls := "CakeTastes", name := "fair", desc := "()I" } : Jvm.MethodName)) ∈ lw_all := lw_g (lw_at lw_m2 203 rfl) rfl
theorem q477 : (Jvm.Cond.privateMethod ({ cls := "CakeTastes", name := "fair", desc := "()I" } : Jvm.MethodName)) ∈ lw_tbl := lw_at lw_m2 204 rfl
theorem q478 : (Jvm.Cond.instanceMethod ({ cls := "CakeTastes", name := "fair", desc := "()I" } : Jvm.MethodName)) ∈ lw_all := lw_g (lw_at lw_m2 205 rfl) rfl
theorem q479 : (Jvm.Cond.code ({ cls := "CakeTastes", name := "fair", desc := "()I" } : Jvm.MethodName) prog_1_method_24_code (3 : Nat) (Option.some Jvm.ClassFile.FieldType.int)) ∈ lw_all := lw_g (lw_at lw_m2 206 rfl) rfl
theorem q480 : (Jvm.Cond.methodLink "CakeTastes" (152 : Nat) ({ cls := "CakeTastes", name := "isFair", desc := "(I)Z" } : Jvm.MethodName)) ∈ lw_all := lw_g (lw_at lw_m2 207 rfl) rfl
theorem q481 : (Jvm.Cond.privateMethod ({ cls := "CakeTastes", name := "isFair", desc := "(I)Z" } : Jvm.MethodName)) ∈ lw_tbl := lw_at lw_m2 208 rfl
theorem q482 : (Jvm.Cond.instanceMethod ({ cls := "CakeTastes", name := "isFair", desc := "(I)Z" } : Jvm.MethodName)) ∈ lw_all := lw_g (lw_at lw_m2 209 rfl) rfl
theorem q483 : (Jvm.Cond.code ({ cls := "CakeTastes", name := "isFair", desc := "(I)Z" } : Jvm.MethodName) prog_1_method_20_code (2 : Nat) (Option.some Jvm.ClassFile.FieldType.boolean)) ∈ lw_all := lw_g (lw_at lw_m2 210 rfl) rfl
theorem q484 : (Jvm.Cond.methodLink "CakeTastes" (136 : Nat) ({ cls := "CakeTastes$Table", name := "whole", desc := "()LCakeTastes$Run;" } : Jvm.MethodName)) ∈ lw_all := lw_g (lw_at lw_m2 211 rfl) rfl
theorem q485 : (Jvm.Cond.methodLink "CakeTastes" (140 : Nat) ({ cls := "CakeTastes$Table", name := "worth", desc := "(ILCakeTastes$Run;)I" } : Jvm.MethodName)) ∈ lw_all := lw_g (lw_at lw_m2 212 rfl) rfl
theorem q486 : (Jvm.Cond.methodLink "CakeTastes" (127 : Nat) ({ cls := "java/util/ArrayList", name := "get", desc := "(I)Ljava/lang/Object;" } : Jvm.MethodName)) ∈ lw_all := lw_g (lw_at lw_m2 213 rfl) rfl
theorem q487 : (Jvm.Cond.classLink "CakeTastes" (74 : Nat) "CakeTastes$Eater") ∈ lw_all := lw_g (lw_at lw_m2 214 rfl) rfl
theorem q488 : (Jvm.Cond.methodLink "CakeTastes" (156 : Nat) ({ cls := "CakeTastes", name := "eaterTold", desc := "(II)I" } : Jvm.MethodName)) ∈ lw_all := lw_g (lw_at lw_m2 215 rfl) rfl
theorem q489 : (Jvm.Cond.privateMethod ({ cls := "CakeTastes", name := "eaterTold", desc := "(II)I" } : Jvm.MethodName)) ∈ lw_tbl := lw_at lw_m2 216 rfl
theorem q490 : (Jvm.Cond.instanceMethod ({ cls := "CakeTastes", name := "eaterTold", desc := "(II)I" } : Jvm.MethodName)) ∈ lw_all := lw_g (lw_at lw_m2 217 rfl) rfl
theorem q491 : (Jvm.Cond.code ({ cls := "CakeTastes", name := "eaterTold", desc := "(II)I" } : Jvm.MethodName) prog_1_method_21_code (3 : Nat) (Option.some Jvm.ClassFile.FieldType.int)) ∈ lw_all := lw_g (lw_at lw_m2 218 rfl) rfl
theorem q492 : (Jvm.Cond.methodLink "CakeTastes" (144 : Nat) ({ cls := "CakeTastes", name := "slicesOf", desc := "(I)I" } : Jvm.MethodName)) ∈ lw_all := lw_g (lw_at lw_m2 219 rfl) rfl
theorem q493 : (Jvm.Cond.privateMethod ({ cls := "CakeTastes", name := "slicesOf", desc := "(I)I" } : Jvm.MethodName)) ∈ lw_tbl := lw_at lw_m2 220 rfl
theorem q494 : (Jvm.Cond.instanceMethod ({ cls := "CakeTastes", name := "slicesOf", desc := "(I)I" } : Jvm.MethodName)) ∈ lw_all := lw_g (lw_at lw_m2 221 rfl) rfl
theorem q495 : (Jvm.Cond.code ({ cls := "CakeTastes", name := "slicesOf", desc := "(I)I" } : Jvm.MethodName) prog_1_method_18_code (4 : Nat) (Option.some Jvm.ClassFile.FieldType.int)) ∈ lw_all := lw_g (lw_at lw_m2 222 rfl) rfl
theorem q496 : (Jvm.Cond.methodLink "CakeTastes" (148 : Nat) ({ cls := "CakeTastes", name := "envied", desc := "(IZ)I" } : Jvm.MethodName)) ∈ lw_all := lw_g (lw_at lw_m2 223 rfl) rfl
theorem q497 : (Jvm.Cond.privateMethod ({ cls := "CakeTastes", name := "envied", desc := "(IZ)I" } : Jvm.MethodName)) ∈ lw_tbl := lw_at lw_m2 224 rfl
theorem q498 : (Jvm.Cond.instanceMethod ({ cls := "CakeTastes", name := "envied", desc := "(IZ)I" } : Jvm.MethodName)) ∈ lw_all := lw_g (lw_at lw_m2 225 rfl) rfl
theorem q499 : (Jvm.Cond.code ({ cls := "CakeTastes", name := "envied", desc := "(IZ)I" } : Jvm.MethodName) prog_1_method_19_code (6 : Nat) (Option.some Jvm.ClassFile.FieldType.int)) ∈ lw_all := lw_g (lw_at lw_m2 226 rfl) rfl
theorem q500 : (Jvm.Cond.methodLink "CakeTastes" (128 : Nat) ({ cls := "CakeTastes$Table", name := "envy", desc := "(II)I" } : Jvm.MethodName)) ∈ lw_all := lw_g (lw_at lw_m2 227 rfl) rfl
theorem q501 : (Jvm.Cond.methodLink "CakeTastes" (131 : Nat) ({ cls := "java/lang/Math", name := "max", desc := "(II)I" } : Jvm.MethodName)) ∈ lw_all := lw_g (lw_at lw_m2 228 rfl) rfl
theorem q507 : (Jvm.Cond.instanceMethod ({ cls := "CakeTastes", name := "bake", desc := "(I)I" } : Jvm.MethodName)) ∈ lw_all := lw_g (lw_at lw_m2 234 rfl) rfl
theorem q508 : (Jvm.Cond.selects "CakeTastes" ({ cls := "CakeTastes", name := "bake", desc := "(I)I" } : Jvm.MethodName) ({ cls := "CakeTastes", name := "bake", desc := "(I)I" } : Jvm.MethodName)) ∈ lw_all := lw_g (lw_at lw_m2 235 rfl) rfl
theorem q509 : (Jvm.Cond.code ({ cls := "CakeTastes", name := "bake", desc := "(I)I" } : Jvm.MethodName) prog_1_method_8_code (4 : Nat) (Option.some Jvm.ClassFile.FieldType.int)) ∈ lw_all := lw_g (lw_at lw_m2 236 rfl) rfl
theorem q510 : (Jvm.Cond.methodLink "CakeTastes" (59 : Nat) ({ cls := "CakeTastes", name := "require", desc := "(Z)V" } : Jvm.MethodName)) ∈ lw_all := lw_g (lw_at lw_m2 237 rfl) rfl
theorem q511 : (Jvm.Cond.static ({ cls := "CakeTastes", name := "require", desc := "(Z)V" } : Jvm.MethodName)) ∈ lw_all := lw_g (lw_at lw_m2 238 rfl) rfl
theorem q512 : (Jvm.Cond.code ({ cls := "CakeTastes", name := "require", desc := "(Z)V" } : Jvm.MethodName) prog_1_method_1_code (1 : Nat) (Option.none : Option Jvm.ClassFile.FieldType)) ∈ lw_all := lw_g (lw_at lw_m2 239 rfl) rfl
theorem q513 : (Jvm.Cond.classLink "CakeTastes" (1 : Nat) "java/lang/IllegalArgumentException") ∈ lw_all := lw_g (lw_at lw_m3 0 rfl) rfl
theorem q555 : (Jvm.Cond.methodLink "CakeTastes" (3 : Nat) ({ cls := "java/lang/IllegalArgumentException", name := "<init>", desc := "()V" } : Jvm.MethodName)) ∈ lw_all := lw_g (lw_at lw_m3 42 rfl) rfl
theorem q615 : (Jvm.Cond.instanceMethod ({ cls := "CakeTastes", name := "ice", desc := "(II)I" } : Jvm.MethodName)) ∈ lw_all := lw_g (lw_at lw_m3 102 rfl) rfl
theorem q616 : (Jvm.Cond.selects "CakeTastes" ({ cls := "CakeTastes", name := "ice", desc := "(II)I" } : Jvm.MethodName) ({ cls := "CakeTastes", name := "ice", desc := "(II)I" } : Jvm.MethodName)) ∈ lw_all := lw_g (lw_at lw_m3 103 rfl) rfl
theorem q617 : (Jvm.Cond.code ({ cls := "CakeTastes", name := "ice", desc := "(II)I" } : Jvm.MethodName) prog_1_method_9_code (5 : Nat) (Option.some Jvm.ClassFile.FieldType.int)) ∈ lw_all := lw_g (lw_at lw_m3 104 rfl) rfl
theorem q618 : (Jvm.Cond.methodLink "CakeTastes" (63 : Nat) ({ cls := "CakeTastes", name := "known", desc := "(Ljava/util/List;I)Ljava/lang/Object;" } : Jvm.MethodName)) ∈ lw_all := lw_g (lw_at lw_m3 105 rfl) rfl
theorem q619 : (Jvm.Cond.static ({ cls := "CakeTastes", name := "known", desc := "(Ljava/util/List;I)Ljava/lang/Object;" } : Jvm.MethodName)) ∈ lw_all := lw_g (lw_at lw_m3 106 rfl) rfl
theorem q620 : (Jvm.Cond.code ({ cls := "CakeTastes", name := "known", desc := "(Ljava/util/List;I)Ljava/lang/Object;" } : Jvm.MethodName) prog_1_method_5_code (2 : Nat) (Option.some (Jvm.ClassFile.FieldType.object "java/lang/Object"))) ∈ lw_all := lw_g (lw_at lw_m3 107 rfl) rfl
theorem q621 : (Jvm.Cond.interfaceEntry "CakeTastes" (19 : Nat)) ∈ lw_tbl := lw_at lw_m3 108 rfl
theorem q622 : (Jvm.Cond.methodLink "CakeTastes" (19 : Nat) ({ cls := "java/util/List", name := "size", desc := "()I" } : Jvm.MethodName)) ∈ lw_all := lw_g (lw_at lw_m3 109 rfl) rfl
theorem q623 : (Jvm.Cond.methodLink "CakeTastes" (13 : Nat) ({ cls := "CakeTastes", name := "requireIndex", desc := "(II)V" } : Jvm.MethodName)) ∈ lw_all := lw_g (lw_at lw_m3 110 rfl) rfl
theorem q624 : (Jvm.Cond.static ({ cls := "CakeTastes", name := "requireIndex", desc := "(II)V" } : Jvm.MethodName)) ∈ lw_all := lw_g (lw_at lw_m3 111 rfl) rfl
theorem q625 : (Jvm.Cond.code ({ cls := "CakeTastes", name := "requireIndex", desc := "(II)V" } : Jvm.MethodName) prog_1_method_3_code (2 : Nat) (Option.none : Option Jvm.ClassFile.FieldType)) ∈ lw_all := lw_g (lw_at lw_m3 112 rfl) rfl
theorem q626 : (Jvm.Cond.classLink "CakeTastes" (10 : Nat) "java/lang/IndexOutOfBoundsException") ∈ lw_all := lw_g (lw_at lw_m3 113 rfl) rfl
theorem q635 : (Jvm.Cond.methodLink "CakeTastes" (12 : Nat) ({ cls := "java/lang/IndexOutOfBoundsException", name := "<init>", desc := "()V" } : Jvm.MethodName)) ∈ lw_all := lw_g (lw_at lw_m3 122 rfl) rfl
theorem q641 : (Jvm.Cond.interfaceEntry "CakeTastes" (25 : Nat)) ∈ lw_tbl := lw_at lw_m3 128 rfl
theorem q642 : (Jvm.Cond.methodLink "CakeTastes" (25 : Nat) ({ cls := "java/util/List", name := "get", desc := "(I)Ljava/lang/Object;" } : Jvm.MethodName)) ∈ lw_all := lw_g (lw_at lw_m3 129 rfl) rfl
theorem q648 : (Jvm.Cond.instanceMethod ({ cls := "CakeTastes", name := "come", desc := "()I" } : Jvm.MethodName)) ∈ lw_all := lw_g (lw_at lw_m3 135 rfl) rfl
theorem q649 : (Jvm.Cond.selects "CakeTastes" ({ cls := "CakeTastes", name := "come", desc := "()I" } : Jvm.MethodName) ({ cls := "CakeTastes", name := "come", desc := "()I" } : Jvm.MethodName)) ∈ lw_all := lw_g (lw_at lw_m3 136 rfl) rfl
theorem q650 : (Jvm.Cond.code ({ cls := "CakeTastes", name := "come", desc := "()I" } : Jvm.MethodName) prog_1_method_10_code (1 : Nat) (Option.some Jvm.ClassFile.FieldType.int)) ∈ lw_all := lw_g (lw_at lw_m3 137 rfl) rfl
theorem q651 : (Jvm.Cond.methodLink "CakeTastes" (71 : Nat) ({ cls := "CakeTastes", name := "requireState", desc := "(Z)V" } : Jvm.MethodName)) ∈ lw_all := lw_g (lw_at lw_m3 138 rfl) rfl
theorem q652 : (Jvm.Cond.static ({ cls := "CakeTastes", name := "requireState", desc := "(Z)V" } : Jvm.MethodName)) ∈ lw_all := lw_g (lw_at lw_m3 139 rfl) rfl
theorem q653 : (Jvm.Cond.code ({ cls := "CakeTastes", name := "requireState", desc := "(Z)V" } : Jvm.MethodName) prog_1_method_2_code (1 : Nat) (Option.none : Option Jvm.ClassFile.FieldType)) ∈ lw_all := lw_g (lw_at lw_m3 140 rfl) rfl
theorem q654 : (Jvm.Cond.classLink "CakeTastes" (7 : Nat) "java/lang/IllegalStateException") ∈ lw_all := lw_g (lw_at lw_m3 141 rfl) rfl
theorem q663 : (Jvm.Cond.methodLink "CakeTastes" (9 : Nat) ({ cls := "java/lang/IllegalStateException", name := "<init>", desc := "()V" } : Jvm.MethodName)) ∈ lw_all := lw_g (lw_at lw_m3 150 rfl) rfl
theorem q670 : (Jvm.Cond.methodLink "CakeTastes" (76 : Nat) ({ cls := "CakeTastes$Eater", name := "<init>", desc := "()V" } : Jvm.MethodName)) ∈ lw_all := lw_g (lw_at lw_m3 157 rfl) rfl
theorem q676 : (Jvm.Cond.fieldLinkNest "CakeTastes" (77 : Nat) "CakeTastes$Eater" "tastes" "[I" "CakeTastes") ∈ lw_tbl := lw_at lw_m3 163 rfl
theorem q685 : (Jvm.Cond.instanceMethod ({ cls := "CakeTastes", name := "setTaste", desc := "(III)I" } : Jvm.MethodName)) ∈ lw_all := lw_g (lw_at lw_m3 172 rfl) rfl
theorem q686 : (Jvm.Cond.selects "CakeTastes" ({ cls := "CakeTastes", name := "setTaste", desc := "(III)I" } : Jvm.MethodName) ({ cls := "CakeTastes", name := "setTaste", desc := "(III)I" } : Jvm.MethodName)) ∈ lw_all := lw_g (lw_at lw_m3 173 rfl) rfl
theorem q687 : (Jvm.Cond.code ({ cls := "CakeTastes", name := "setTaste", desc := "(III)I" } : Jvm.MethodName) prog_1_method_11_code (6 : Nat) (Option.some Jvm.ClassFile.FieldType.int)) ∈ lw_all := lw_g (lw_at lw_m3 174 rfl) rfl
theorem q692 : (Jvm.Cond.instanceMethod ({ cls := "CakeTastes", name := "give", desc := "(II)I" } : Jvm.MethodName)) ∈ lw_all := lw_g (lw_at lw_m3 179 rfl) rfl
theorem q693 : (Jvm.Cond.selects "CakeTastes" ({ cls := "CakeTastes", name := "give", desc := "(II)I" } : Jvm.MethodName) ({ cls := "CakeTastes", name := "give", desc := "(II)I" } : Jvm.MethodName)) ∈ lw_all := lw_g (lw_at lw_m3 180 rfl) rfl
theorem q694 : (Jvm.Cond.code ({ cls := "CakeTastes", name := "give", desc := "(II)I" } : Jvm.MethodName) prog_1_method_12_code (5 : Nat) (Option.some Jvm.ClassFile.FieldType.int)) ∈ lw_all := lw_g (lw_at lw_m3 181 rfl) rfl
theorem q699 : (Jvm.Cond.instanceMethod ({ cls := "CakeTastes", name := "share", desc := "(I)I" } : Jvm.MethodName)) ∈ lw_all := lw_g (lw_at lw_m3 186 rfl) rfl
theorem q700 : (Jvm.Cond.selects "CakeTastes" ({ cls := "CakeTastes", name := "share", desc := "(I)I" } : Jvm.MethodName) ({ cls := "CakeTastes", name := "share", desc := "(I)I" } : Jvm.MethodName)) ∈ lw_all := lw_g (lw_at lw_m3 187 rfl) rfl
theorem q701 : (Jvm.Cond.code ({ cls := "CakeTastes", name := "share", desc := "(I)I" } : Jvm.MethodName) prog_1_method_13_code (3 : Nat) (Option.some Jvm.ClassFile.FieldType.int)) ∈ lw_all := lw_g (lw_at lw_m3 188 rfl) rfl
theorem q702 : (Jvm.Cond.methodLink "CakeTastes" (88 : Nat) ({ cls := "CakeTastes", name := "oneOf", desc := "([Ljava/lang/Object;I)Ljava/lang/Object;" } : Jvm.MethodName)) ∈ lw_all := lw_g (lw_at lw_m3 189 rfl) rfl
theorem q703 : (Jvm.Cond.static ({ cls := "CakeTastes", name := "oneOf", desc := "([Ljava/lang/Object;I)Ljava/lang/Object;" } : Jvm.MethodName)) ∈ lw_all := lw_g (lw_at lw_m3 190 rfl) rfl
theorem q704 : (Jvm.Cond.code ({ cls := "CakeTastes", name := "oneOf", desc := "([Ljava/lang/Object;I)Ljava/lang/Object;" } : Jvm.MethodName) prog_1_method_4_code (2 : Nat) (Option.some (Jvm.ClassFile.FieldType.object "java/lang/Object"))) ∈ lw_all := lw_g (lw_at lw_m3 191 rfl) rfl
theorem q705 : (Jvm.Cond.classLink "CakeTastes" (92 : Nat) "CakeTastes$Way") ∈ lw_all := lw_g (lw_at lw_m3 192 rfl) rfl
theorem q710 : (Jvm.Cond.instanceMethod ({ cls := "CakeTastes", name := "crumbs", desc := "()I" } : Jvm.MethodName)) ∈ lw_all := lw_g (lw_at lw_m3 197 rfl) rfl
theorem q711 : (Jvm.Cond.selects "CakeTastes" ({ cls := "CakeTastes", name := "crumbs", desc := "()I" } : Jvm.MethodName) ({ cls := "CakeTastes", name := "crumbs", desc := "()I" } : Jvm.MethodName)) ∈ lw_all := lw_g (lw_at lw_m3 198 rfl) rfl
theorem q712 : (Jvm.Cond.code ({ cls := "CakeTastes", name := "crumbs", desc := "()I" } : Jvm.MethodName) prog_1_method_14_code (4 : Nat) (Option.some Jvm.ClassFile.FieldType.int)) ∈ lw_all := lw_g (lw_at lw_m3 199 rfl) rfl
theorem q713 : (Jvm.Cond.methodLink "CakeTastes" (116 : Nat) ({ cls := "CakeTastes$Table", name := "takeTurns", desc := "(I)V" } : Jvm.MethodName)) ∈ lw_all := lw_g (lw_at lw_m3 200 rfl) rfl
theorem q718 : (Jvm.Cond.instanceMethod ({ cls := "CakeTastes", name := "swap", desc := "(II)Z" } : Jvm.MethodName)) ∈ lw_all := lw_g (lw_at lw_m3 205 rfl) rfl
theorem q719 : (Jvm.Cond.selects "CakeTastes" ({ cls := "CakeTastes", name := "swap", desc := "(II)Z" } : Jvm.MethodName) ({ cls := "CakeTastes", name := "swap", desc := "(II)Z" } : Jvm.MethodName)) ∈ lw_all := lw_g (lw_at lw_m3 206 rfl) rfl
theorem q720 : (Jvm.Cond.code ({ cls := "CakeTastes", name := "swap", desc := "(II)Z" } : Jvm.MethodName) prog_1_method_15_code (6 : Nat) (Option.some Jvm.ClassFile.FieldType.boolean)) ∈ lw_all := lw_g (lw_at lw_m3 207 rfl) rfl
theorem q721 : (Jvm.Cond.methodLink "CakeTastes" (120 : Nat) ({ cls := "CakeTastes", name := "requireEater", desc := "(I)V" } : Jvm.MethodName)) ∈ lw_all := lw_g (lw_at lw_m3 208 rfl) rfl
theorem q722 : (Jvm.Cond.privateMethod ({ cls := "CakeTastes", name := "requireEater", desc := "(I)V" } : Jvm.MethodName)) ∈ lw_tbl := lw_at lw_m3 209 rfl
theorem q723 : (Jvm.Cond.instanceMethod ({ cls := "CakeTastes", name := "requireEater", desc := "(I)V" } : Jvm.MethodName)) ∈ lw_all := lw_g (lw_at lw_m3 210 rfl) rfl
theorem q724 : (Jvm.Cond.code ({ cls := "CakeTastes", name := "requireEater", desc := "(I)V" } : Jvm.MethodName) prog_1_method_7_code (2 : Nat) (Option.none : Option Jvm.ClassFile.FieldType)) ∈ lw_all := lw_g (lw_at lw_m3 211 rfl) rfl
theorem q729 : (Jvm.Cond.instanceMethod ({ cls := "CakeTastes", name := "told", desc := "(II)I" } : Jvm.MethodName)) ∈ lw_all := lw_g (lw_at lw_m3 216 rfl) rfl
theorem q730 : (Jvm.Cond.selects "CakeTastes" ({ cls := "CakeTastes", name := "told", desc := "(II)I" } : Jvm.MethodName) ({ cls := "CakeTastes", name := "told", desc := "(II)I" } : Jvm.MethodName)) ∈ lw_all := lw_g (lw_at lw_m3 217 rfl) rfl
theorem q731 : (Jvm.Cond.code ({ cls := "CakeTastes", name := "told", desc := "(II)I" } : Jvm.MethodName) prog_1_method_16_code (4 : Nat) (Option.some Jvm.ClassFile.FieldType.int)) ∈ lw_all := lw_g (lw_at lw_m3 218 rfl) rfl
theorem q736 : (Jvm.Cond.instanceMethod ({ cls := "CakeTastes", name := "worth", desc := "(II)I" } : Jvm.MethodName)) ∈ lw_all := lw_g (lw_at lw_m3 223 rfl) rfl
theorem q737 : (Jvm.Cond.selects "CakeTastes" ({ cls := "CakeTastes", name := "worth", desc := "(II)I" } : Jvm.MethodName) ({ cls := "CakeTastes", name := "worth", desc := "(II)I" } : Jvm.MethodName)) ∈ lw_all := lw_g (lw_at lw_m3 224 rfl) rfl
theorem q738 : (Jvm.Cond.code ({ cls := "CakeTastes", name := "worth", desc := "(II)I" } : Jvm.MethodName) prog_1_method_17_code (3 : Nat) (Option.some Jvm.ClassFile.FieldType.int)) ∈ lw_all := lw_g (lw_at lw_m3 225 rfl) rfl
theorem q743 : (Jvm.Cond.instanceMethod ({ cls := "CakeTastes", name := "about", desc := "(II)I" } : Jvm.MethodName)) ∈ lw_all := lw_g (lw_at lw_m3 230 rfl) rfl
theorem q744 : (Jvm.Cond.selects "CakeTastes" ({ cls := "CakeTastes", name := "about", desc := "(II)I" } : Jvm.MethodName) ({ cls := "CakeTastes", name := "about", desc := "(II)I" } : Jvm.MethodName)) ∈ lw_all := lw_g (lw_at lw_m3 231 rfl) rfl
theorem q745 : (Jvm.Cond.code ({ cls := "CakeTastes", name := "about", desc := "(II)I" } : Jvm.MethodName) prog_1_method_22_code (3 : Nat) (Option.some Jvm.ClassFile.FieldType.int)) ∈ lw_all := lw_g (lw_at lw_m3 232 rfl) rfl
theorem q750 : (Jvm.Cond.instanceMethod ({ cls := "CakeTastes", name := "taste", desc := "(II)I" } : Jvm.MethodName)) ∈ lw_all := lw_g (lw_at lw_m3 237 rfl) rfl
theorem q751 : (Jvm.Cond.selects "CakeTastes" ({ cls := "CakeTastes", name := "taste", desc := "(II)I" } : Jvm.MethodName) ({ cls := "CakeTastes", name := "taste", desc := "(II)I" } : Jvm.MethodName)) ∈ lw_all := lw_g (lw_at lw_m3 238 rfl) rfl
theorem q752 : (Jvm.Cond.code ({ cls := "CakeTastes", name := "taste", desc := "(II)I" } : Jvm.MethodName) prog_1_method_23_code (4 : Nat) (Option.some Jvm.ClassFile.FieldType.int)) ∈ lw_all := lw_g (lw_at lw_m3 239 rfl) rfl
theorem q757 : (Jvm.Cond.instanceMethod ({ cls := "CakeTastes", name := "count", desc := "(I)I" } : Jvm.MethodName)) ∈ lw_all := lw_g (lw_at lw_m4 4 rfl) rfl
theorem q758 : (Jvm.Cond.selects "CakeTastes" ({ cls := "CakeTastes", name := "count", desc := "(I)I" } : Jvm.MethodName) ({ cls := "CakeTastes", name := "count", desc := "(I)I" } : Jvm.MethodName)) ∈ lw_all := lw_g (lw_at lw_m4 5 rfl) rfl
theorem q759 : (Jvm.Cond.code ({ cls := "CakeTastes", name := "count", desc := "(I)I" } : Jvm.MethodName) prog_1_method_26_code (2 : Nat) (Option.some Jvm.ClassFile.FieldType.int)) ∈ lw_all := lw_g (lw_at lw_m4 6 rfl) rfl
theorem q764 : (Jvm.Cond.instanceMethod ({ cls := "CakeTastes", name := "cuts", desc := "(III)I" } : Jvm.MethodName)) ∈ lw_all := lw_g (lw_at lw_m4 11 rfl) rfl
theorem q765 : (Jvm.Cond.selects "CakeTastes" ({ cls := "CakeTastes", name := "cuts", desc := "(III)I" } : Jvm.MethodName) ({ cls := "CakeTastes", name := "cuts", desc := "(III)I" } : Jvm.MethodName)) ∈ lw_all := lw_g (lw_at lw_m4 12 rfl) rfl
theorem q766 : (Jvm.Cond.code ({ cls := "CakeTastes", name := "cuts", desc := "(III)I" } : Jvm.MethodName) prog_1_method_27_code (4 : Nat) (Option.some Jvm.ClassFile.FieldType.int)) ∈ lw_all := lw_g (lw_at lw_m4 13 rfl) rfl
theorem q767 : (Jvm.Cond.methodLink "CakeTastes" (169 : Nat) ({ cls := "CakeTastes$Table", name := "cut", desc := "(ILCakeTastes$Run;I)[LCakeTastes$Run;" } : Jvm.MethodName)) ∈ lw_all := lw_g (lw_at lw_m4 14 rfl) rfl
theorem q768 : (Jvm.Cond.methodLink "CakeTastes" (173 : Nat) ({ cls := "CakeTastes$Run", name := "to", desc := "()I" } : Jvm.MethodName)) ∈ lw_all := lw_g (lw_at lw_m4 15 rfl) rfl
theorem q773 : (Jvm.Cond.instanceMethod ({ cls := "CakeTastes", name := "would", desc := "(I)I" } : Jvm.MethodName)) ∈ lw_all := lw_g (lw_at lw_m4 20 rfl) rfl
theorem q774 : (Jvm.Cond.selects "CakeTastes" ({ cls := "CakeTastes", name := "would", desc := "(I)I" } : Jvm.MethodName) ({ cls := "CakeTastes", name := "would", desc := "(I)I" } : Jvm.MethodName)) ∈ lw_all := lw_g (lw_at lw_m4 21 rfl) rfl
theorem q775 : (Jvm.Cond.code ({ cls := "CakeTastes", name := "would", desc := "(I)I" } : Jvm.MethodName) prog_1_method_29_code (2 : Nat) (Option.some Jvm.ClassFile.FieldType.int)) ∈ lw_all := lw_g (lw_at lw_m4 22 rfl) rfl
theorem q1001 : (Jvm.Cond.castable "CakeTastes" "java/lang/Object") ∈ lw_tbl := lw_at lw_m5 8 rfl
theorem in_X1 : ∀ w ∈ wsX10, w ∈ lw_all := lw_in wsX10 [197, 199, 201] (by decide +kernel) (by decide +kernel)
