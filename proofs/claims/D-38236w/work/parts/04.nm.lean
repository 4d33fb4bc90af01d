/-! VersorhallModel -/
set_option maxRecDepth 100000
def RX3 : String := "VersorhallModel"
def TX3 : u_T := fun k => match k with
  | 0 => ("VersorhallModel", "thrown", "I", false)
  | 1 => ("VersorhallModel", "p", "I", false)
  | 2 => ("VersorhallModel", "knocks", "I", false)
  | 3 => ("VersorhallModel", "algebras", "Ljava/util/List;", true)
  | _ => ("VersorhallModel", "elements", "Ljava/util/List;", true)
def tyX3 : Nat → FieldType := fun k => match k with
  | 0 => .int
  | 1 => .int
  | 2 => .int
  | 3 => .object "java/util/List"
  | _ => .object "java/util/List"
abbrev wsX30 : List Cond := u_ws RX3 TX3 5
theorem nmX3 : ∀ a, a < 5 → ∀ b, b < 5 → a ≠ b → (TX3 a).2.1 ≠ (TX3 b).2.1 := by decide +kernel
theorem tyX3_ok : ∀ k, k < 5 → parseFieldDescriptor (TX3 k).2.2.1 = some (tyX3 k) := by decide +kernel
abbrev cX3_init : ByteArray := prog_11_method_1_code
def yX3_init : MethodName := ⟨RX3, "<init>", "()V"⟩
def dkwX3_init_1 : List UInt8 := [187, 0, 13, 89, 183, 0, 15, 181, 0, 20, 177]
abbrev dktX3_init_1 : List UInt8 := dkwX3_init_1 ++ []
def dkwX3_init_0 : List UInt8 := [42, 183, 0, 1, 42, 16, 7, 181, 0, 7, 42, 187, 0, 13, 89, 183, 0, 15, 181, 0, 16, 42]
abbrev dktX3_init_0 : List UInt8 := dkwX3_init_0 ++ dktX3_init_1
theorem dksX3_init_0 : cX3_init.data.toList.drop 0 = dktX3_init_0 := by decide +kernel
theorem dksX3_init_1 : cX3_init.data.toList.drop 22 = dktX3_init_1 := dk_seg dksX3_init_0 22 rfl rfl
theorem dX3_init_0 : decode cX3_init 0 = .ok (.aload_n 0, 1) := dk_42 (dk_at dksX3_init_0 0 rfl rfl)
theorem dX3_init_1 : decode cX3_init 1 = .ok (.invokespecial 1, 3) := dk_183 0 1 (dk_at dksX3_init_0 1 rfl rfl)
theorem dX3_init_4 : decode cX3_init 4 = .ok (.aload_n 0, 1) := dk_42 (dk_at dksX3_init_0 4 rfl rfl)
theorem dX3_init_5 : decode cX3_init 5 = .ok (.bipush 7, 2) := dk_16 7 (dk_at dksX3_init_0 5 rfl rfl)
theorem dX3_init_7 : decode cX3_init 7 = .ok (.putfield 7, 3) := dk_181 0 7 (dk_at dksX3_init_0 7 rfl rfl)
theorem dX3_init_10 : decode cX3_init 10 = .ok (.aload_n 0, 1) := dk_42 (dk_at dksX3_init_0 10 rfl rfl)
theorem dX3_init_11 : decode cX3_init 11 = .ok (.new 13, 3) := dk_187 0 13 (dk_at dksX3_init_0 11 rfl rfl)
theorem dX3_init_14 : decode cX3_init 14 = .ok (.dup, 1) := dk_89 (dk_at dksX3_init_0 14 rfl rfl)
theorem dX3_init_15 : decode cX3_init 15 = .ok (.invokespecial 15, 3) := dk_183 0 15 (dk_at dksX3_init_0 15 rfl rfl)
theorem dX3_init_18 : decode cX3_init 18 = .ok (.putfield 16, 3) := dk_181 0 16 (dk_at dksX3_init_0 18 rfl rfl)
theorem dX3_init_21 : decode cX3_init 21 = .ok (.aload_n 0, 1) := dk_42 (dk_at dksX3_init_0 21 rfl rfl)
theorem dX3_init_22 : decode cX3_init 22 = .ok (.new 13, 3) := dk_187 0 13 (dk_at dksX3_init_1 0 rfl rfl)
theorem dX3_init_25 : decode cX3_init 25 = .ok (.dup, 1) := dk_89 (dk_at dksX3_init_1 3 rfl rfl)
theorem dX3_init_26 : decode cX3_init 26 = .ok (.invokespecial 15, 3) := dk_183 0 15 (dk_at dksX3_init_1 4 rfl rfl)
theorem dX3_init_29 : decode cX3_init 29 = .ok (.putfield 20, 3) := dk_181 0 20 (dk_at dksX3_init_1 7 rfl rfl)
theorem dX3_init_32 : decode cX3_init 32 = .ok (.return_, 1) := dk_177 (dk_at dksX3_init_1 10 rfl rfl)
abbrev cX3_thrown : ByteArray := prog_11_method_2_code
def yX3_thrown : MethodName := ⟨RX3, "thrown", "()I"⟩
theorem dX3_thrown_0 : decode cX3_thrown 0 = .ok (.aload_n 0, 1) := by decide +kernel
theorem dX3_thrown_1 : decode cX3_thrown 1 = .ok (.getfield 23, 3) := by decide +kernel
theorem dX3_thrown_4 : decode cX3_thrown 4 = .ok (.ireturn, 1) := by decide +kernel
abbrev cX3_prime : ByteArray := prog_11_method_17_code
def yX3_prime : MethodName := ⟨RX3, "prime", "(I)I"⟩
def dkwX3_prime_2 : List UInt8 := [180, 0, 7, 61, 42, 27, 181, 0, 7, 28, 172]
abbrev dktX3_prime_2 : List UInt8 := dkwX3_prime_2 ++ []
def dkwX3_prime_1 : List UInt8 := [182, 0, 58, 172, 42, 180, 0, 16, 185, 0, 30, 1, 0, 158, 0, 9, 42, 5, 182, 0, 58, 172, 42]
abbrev dktX3_prime_1 : List UInt8 := dkwX3_prime_1 ++ dktX3_prime_2
def dkwX3_prime_0 : List UInt8 := [42, 3, 181, 0, 23, 27, 6, 159, 0, 20, 27, 8, 159, 0, 15, 27, 16, 7, 159, 0, 9, 42, 4]
abbrev dktX3_prime_0 : List UInt8 := dkwX3_prime_0 ++ dktX3_prime_1
theorem dksX3_prime_0 : cX3_prime.data.toList.drop 0 = dktX3_prime_0 := by decide +kernel
theorem dksX3_prime_1 : cX3_prime.data.toList.drop 23 = dktX3_prime_1 := dk_seg dksX3_prime_0 23 rfl rfl
theorem dksX3_prime_2 : cX3_prime.data.toList.drop 46 = dktX3_prime_2 := dk_seg dksX3_prime_1 23 rfl rfl
theorem dX3_prime_0 : decode cX3_prime 0 = .ok (.aload_n 0, 1) := dk_42 (dk_at dksX3_prime_0 0 rfl rfl)
theorem dX3_prime_1 : decode cX3_prime 1 = .ok (.iconst 0, 1) := dk_3 (dk_at dksX3_prime_0 1 rfl rfl)
theorem dX3_prime_2 : decode cX3_prime 2 = .ok (.putfield 23, 3) := dk_181 0 23 (dk_at dksX3_prime_0 2 rfl rfl)
theorem dX3_prime_5 : decode cX3_prime 5 = .ok (.iload_n 1, 1) := dk_27 (dk_at dksX3_prime_0 5 rfl rfl)
theorem dX3_prime_6 : decode cX3_prime 6 = .ok (.iconst 3, 1) := dk_6 (dk_at dksX3_prime_0 6 rfl rfl)
theorem dX3_prime_7 : decode cX3_prime 7 = .ok (.if_icmp .eq 20, 3) := dk_159 0 20 (dk_at dksX3_prime_0 7 rfl rfl)
theorem dX3_prime_10 : decode cX3_prime 10 = .ok (.iload_n 1, 1) := dk_27 (dk_at dksX3_prime_0 10 rfl rfl)
theorem dX3_prime_11 : decode cX3_prime 11 = .ok (.iconst 5, 1) := dk_8 (dk_at dksX3_prime_0 11 rfl rfl)
theorem dX3_prime_12 : decode cX3_prime 12 = .ok (.if_icmp .eq 15, 3) := dk_159 0 15 (dk_at dksX3_prime_0 12 rfl rfl)
theorem dX3_prime_15 : decode cX3_prime 15 = .ok (.iload_n 1, 1) := dk_27 (dk_at dksX3_prime_0 15 rfl rfl)
theorem dX3_prime_16 : decode cX3_prime 16 = .ok (.bipush 7, 2) := dk_16 7 (dk_at dksX3_prime_0 16 rfl rfl)
theorem dX3_prime_18 : decode cX3_prime 18 = .ok (.if_icmp .eq 9, 3) := dk_159 0 9 (dk_at dksX3_prime_0 18 rfl rfl)
theorem dX3_prime_21 : decode cX3_prime 21 = .ok (.aload_n 0, 1) := dk_42 (dk_at dksX3_prime_0 21 rfl rfl)
theorem dX3_prime_22 : decode cX3_prime 22 = .ok (.iconst 1, 1) := dk_4 (dk_at dksX3_prime_0 22 rfl rfl)
theorem dX3_prime_23 : decode cX3_prime 23 = .ok (.invokevirtual 58, 3) := dk_182 0 58 (dk_at dksX3_prime_1 0 rfl rfl)
theorem dX3_prime_26 : decode cX3_prime 26 = .ok (.ireturn, 1) := dk_172 (dk_at dksX3_prime_1 3 rfl rfl)
theorem dX3_prime_27 : decode cX3_prime 27 = .ok (.aload_n 0, 1) := dk_42 (dk_at dksX3_prime_1 4 rfl rfl)
theorem dX3_prime_28 : decode cX3_prime 28 = .ok (.getfield 16, 3) := dk_180 0 16 (dk_at dksX3_prime_1 5 rfl rfl)
theorem dX3_prime_31 : decode cX3_prime 31 = .ok (.invokeinterface 30 1, 5) := by decide +kernel
theorem dX3_prime_36 : decode cX3_prime 36 = .ok (.ifCond .le 9, 3) := dk_158 0 9 (dk_at dksX3_prime_1 13 rfl rfl)
theorem dX3_prime_39 : decode cX3_prime 39 = .ok (.aload_n 0, 1) := dk_42 (dk_at dksX3_prime_1 16 rfl rfl)
theorem dX3_prime_40 : decode cX3_prime 40 = .ok (.iconst 2, 1) := dk_5 (dk_at dksX3_prime_1 17 rfl rfl)
theorem dX3_prime_41 : decode cX3_prime 41 = .ok (.invokevirtual 58, 3) := dk_182 0 58 (dk_at dksX3_prime_1 18 rfl rfl)
theorem dX3_prime_44 : decode cX3_prime 44 = .ok (.ireturn, 1) := dk_172 (dk_at dksX3_prime_1 21 rfl rfl)
theorem dX3_prime_45 : decode cX3_prime 45 = .ok (.aload_n 0, 1) := dk_42 (dk_at dksX3_prime_1 22 rfl rfl)
theorem dX3_prime_46 : decode cX3_prime 46 = .ok (.getfield 7, 3) := dk_180 0 7 (dk_at dksX3_prime_2 0 rfl rfl)
theorem dX3_prime_49 : decode cX3_prime 49 = .ok (.istore_n 2, 1) := dk_61 (dk_at dksX3_prime_2 3 rfl rfl)
theorem dX3_prime_50 : decode cX3_prime 50 = .ok (.aload_n 0, 1) := dk_42 (dk_at dksX3_prime_2 4 rfl rfl)
theorem dX3_prime_51 : decode cX3_prime 51 = .ok (.iload_n 1, 1) := dk_27 (dk_at dksX3_prime_2 5 rfl rfl)
theorem dX3_prime_52 : decode cX3_prime 52 = .ok (.putfield 7, 3) := dk_181 0 7 (dk_at dksX3_prime_2 6 rfl rfl)
theorem dX3_prime_55 : decode cX3_prime 55 = .ok (.iload_n 2, 1) := dk_28 (dk_at dksX3_prime_2 9 rfl rfl)
theorem dX3_prime_56 : decode cX3_prime 56 = .ok (.ireturn, 1) := dk_172 (dk_at dksX3_prime_2 10 rfl rfl)
abbrev cX3_no : ByteArray := prog_11_method_3_code
def yX3_no : MethodName := ⟨RX3, "no", "(I)I"⟩
def dkwX3_no_0 : List UInt8 := [42, 27, 181, 0, 23, 3, 172]
abbrev dktX3_no_0 : List UInt8 := dkwX3_no_0 ++ []
theorem dksX3_no_0 : cX3_no.data.toList.drop 0 = dktX3_no_0 := by decide +kernel
theorem dX3_no_0 : decode cX3_no 0 = .ok (.aload_n 0, 1) := dk_42 (dk_at dksX3_no_0 0 rfl rfl)
theorem dX3_no_1 : decode cX3_no 1 = .ok (.iload_n 1, 1) := dk_27 (dk_at dksX3_no_0 1 rfl rfl)
theorem dX3_no_2 : decode cX3_no 2 = .ok (.putfield 23, 3) := dk_181 0 23 (dk_at dksX3_no_0 2 rfl rfl)
theorem dX3_no_5 : decode cX3_no 5 = .ok (.iconst 0, 1) := dk_3 (dk_at dksX3_no_0 5 rfl rfl)
theorem dX3_no_6 : decode cX3_no 6 = .ok (.ireturn, 1) := dk_172 (dk_at dksX3_no_0 6 rfl rfl)
abbrev cX3_algebra : ByteArray := prog_11_method_18_code
def yX3_algebra : MethodName := ⟨RX3, "algebra", "(I)I"⟩
def dkwX3_algebra_2 : List UInt8 := [27, 183, 0, 61, 185, 0, 64, 2, 0, 87, 42, 180, 0, 16, 185, 0, 30, 1, 0, 4, 100, 172]
abbrev dktX3_algebra_2 : List UInt8 := dkwX3_algebra_2 ++ []
def dkwX3_algebra_1 : List UInt8 := [185, 0, 30, 1, 0, 7, 160, 0, 9, 42, 5, 182, 0, 58, 172, 42, 180, 0, 16, 187, 0, 53, 89, 42]
abbrev dktX3_algebra_1 : List UInt8 := dkwX3_algebra_1 ++ dktX3_algebra_2
def dkwX3_algebra_0 : List UInt8 := [42, 3, 181, 0, 23, 27, 3, 4, 184, 0, 36, 154, 0, 9, 42, 4, 182, 0, 58, 172, 42, 180, 0, 16]
abbrev dktX3_algebra_0 : List UInt8 := dkwX3_algebra_0 ++ dktX3_algebra_1
theorem dksX3_algebra_0 : cX3_algebra.data.toList.drop 0 = dktX3_algebra_0 := by decide +kernel
theorem dksX3_algebra_1 : cX3_algebra.data.toList.drop 24 = dktX3_algebra_1 := dk_seg dksX3_algebra_0 24 rfl rfl
theorem dksX3_algebra_2 : cX3_algebra.data.toList.drop 48 = dktX3_algebra_2 := dk_seg dksX3_algebra_1 24 rfl rfl
theorem dX3_algebra_0 : decode cX3_algebra 0 = .ok (.aload_n 0, 1) := dk_42 (dk_at dksX3_algebra_0 0 rfl rfl)
theorem dX3_algebra_1 : decode cX3_algebra 1 = .ok (.iconst 0, 1) := dk_3 (dk_at dksX3_algebra_0 1 rfl rfl)
theorem dX3_algebra_2 : decode cX3_algebra 2 = .ok (.putfield 23, 3) := dk_181 0 23 (dk_at dksX3_algebra_0 2 rfl rfl)
theorem dX3_algebra_5 : decode cX3_algebra 5 = .ok (.iload_n 1, 1) := dk_27 (dk_at dksX3_algebra_0 5 rfl rfl)
theorem dX3_algebra_6 : decode cX3_algebra 6 = .ok (.iconst 0, 1) := dk_3 (dk_at dksX3_algebra_0 6 rfl rfl)
theorem dX3_algebra_7 : decode cX3_algebra 7 = .ok (.iconst 1, 1) := dk_4 (dk_at dksX3_algebra_0 7 rfl rfl)
theorem dX3_algebra_8 : decode cX3_algebra 8 = .ok (.invokestatic 36, 3) := dk_184 0 36 (dk_at dksX3_algebra_0 8 rfl rfl)
theorem dX3_algebra_11 : decode cX3_algebra 11 = .ok (.ifCond .ne 9, 3) := dk_154 0 9 (dk_at dksX3_algebra_0 11 rfl rfl)
theorem dX3_algebra_14 : decode cX3_algebra 14 = .ok (.aload_n 0, 1) := dk_42 (dk_at dksX3_algebra_0 14 rfl rfl)
theorem dX3_algebra_15 : decode cX3_algebra 15 = .ok (.iconst 1, 1) := dk_4 (dk_at dksX3_algebra_0 15 rfl rfl)
theorem dX3_algebra_16 : decode cX3_algebra 16 = .ok (.invokevirtual 58, 3) := dk_182 0 58 (dk_at dksX3_algebra_0 16 rfl rfl)
theorem dX3_algebra_19 : decode cX3_algebra 19 = .ok (.ireturn, 1) := dk_172 (dk_at dksX3_algebra_0 19 rfl rfl)
theorem dX3_algebra_20 : decode cX3_algebra 20 = .ok (.aload_n 0, 1) := dk_42 (dk_at dksX3_algebra_0 20 rfl rfl)
theorem dX3_algebra_21 : decode cX3_algebra 21 = .ok (.getfield 16, 3) := dk_180 0 16 (dk_at dksX3_algebra_0 21 rfl rfl)
theorem dX3_algebra_24 : decode cX3_algebra 24 = .ok (.invokeinterface 30 1, 5) := by decide +kernel
theorem dX3_algebra_29 : decode cX3_algebra 29 = .ok (.iconst 4, 1) := dk_7 (dk_at dksX3_algebra_1 5 rfl rfl)
theorem dX3_algebra_30 : decode cX3_algebra 30 = .ok (.if_icmp .ne 9, 3) := dk_160 0 9 (dk_at dksX3_algebra_1 6 rfl rfl)
theorem dX3_algebra_33 : decode cX3_algebra 33 = .ok (.aload_n 0, 1) := dk_42 (dk_at dksX3_algebra_1 9 rfl rfl)
theorem dX3_algebra_34 : decode cX3_algebra 34 = .ok (.iconst 2, 1) := dk_5 (dk_at dksX3_algebra_1 10 rfl rfl)
theorem dX3_algebra_35 : decode cX3_algebra 35 = .ok (.invokevirtual 58, 3) := dk_182 0 58 (dk_at dksX3_algebra_1 11 rfl rfl)
theorem dX3_algebra_38 : decode cX3_algebra 38 = .ok (.ireturn, 1) := dk_172 (dk_at dksX3_algebra_1 14 rfl rfl)
theorem dX3_algebra_39 : decode cX3_algebra 39 = .ok (.aload_n 0, 1) := dk_42 (dk_at dksX3_algebra_1 15 rfl rfl)
theorem dX3_algebra_40 : decode cX3_algebra 40 = .ok (.getfield 16, 3) := dk_180 0 16 (dk_at dksX3_algebra_1 16 rfl rfl)
theorem dX3_algebra_43 : decode cX3_algebra 43 = .ok (.new 53, 3) := dk_187 0 53 (dk_at dksX3_algebra_1 19 rfl rfl)
theorem dX3_algebra_46 : decode cX3_algebra 46 = .ok (.dup, 1) := dk_89 (dk_at dksX3_algebra_1 22 rfl rfl)
theorem dX3_algebra_47 : decode cX3_algebra 47 = .ok (.aload_n 0, 1) := dk_42 (dk_at dksX3_algebra_1 23 rfl rfl)
theorem dX3_algebra_48 : decode cX3_algebra 48 = .ok (.iload_n 1, 1) := dk_27 (dk_at dksX3_algebra_2 0 rfl rfl)
theorem dX3_algebra_49 : decode cX3_algebra 49 = .ok (.invokespecial 61, 3) := dk_183 0 61 (dk_at dksX3_algebra_2 1 rfl rfl)
theorem dX3_algebra_52 : decode cX3_algebra 52 = .ok (.invokeinterface 64 2, 5) := by decide +kernel
theorem dX3_algebra_57 : decode cX3_algebra 57 = .ok (.pop, 1) := dk_87 (dk_at dksX3_algebra_2 9 rfl rfl)
theorem dX3_algebra_58 : decode cX3_algebra 58 = .ok (.aload_n 0, 1) := dk_42 (dk_at dksX3_algebra_2 10 rfl rfl)
theorem dX3_algebra_59 : decode cX3_algebra 59 = .ok (.getfield 16, 3) := dk_180 0 16 (dk_at dksX3_algebra_2 11 rfl rfl)
theorem dX3_algebra_62 : decode cX3_algebra 62 = .ok (.invokeinterface 30 1, 5) := by decide +kernel
theorem dX3_algebra_67 : decode cX3_algebra 67 = .ok (.iconst 1, 1) := dk_4 (dk_at dksX3_algebra_2 19 rfl rfl)
theorem dX3_algebra_68 : decode cX3_algebra 68 = .ok (.isub, 1) := dk_100 (dk_at dksX3_algebra_2 20 rfl rfl)
theorem dX3_algebra_69 : decode cX3_algebra 69 = .ok (.ireturn, 1) := dk_172 (dk_at dksX3_algebra_2 21 rfl rfl)
abbrev cX3_in : ByteArray := prog_11_method_4_code
def yX3_in : MethodName := ⟨RX3, "in", "(III)Z"⟩
def dkwX3_in_0 : List UInt8 := [26, 27, 161, 0, 12, 26, 28, 163, 0, 7, 4, 167, 0, 4, 3, 172]
abbrev dktX3_in_0 : List UInt8 := dkwX3_in_0 ++ []
theorem dksX3_in_0 : cX3_in.data.toList.drop 0 = dktX3_in_0 := by decide +kernel
theorem dX3_in_0 : decode cX3_in 0 = .ok (.iload_n 0, 1) := dk_26 (dk_at dksX3_in_0 0 rfl rfl)
theorem dX3_in_1 : decode cX3_in 1 = .ok (.iload_n 1, 1) := dk_27 (dk_at dksX3_in_0 1 rfl rfl)
theorem dX3_in_2 : decode cX3_in 2 = .ok (.if_icmp .lt 12, 3) := dk_161 0 12 (dk_at dksX3_in_0 2 rfl rfl)
theorem dX3_in_5 : decode cX3_in 5 = .ok (.iload_n 0, 1) := dk_26 (dk_at dksX3_in_0 5 rfl rfl)
theorem dX3_in_6 : decode cX3_in 6 = .ok (.iload_n 2, 1) := dk_28 (dk_at dksX3_in_0 6 rfl rfl)
theorem dX3_in_7 : decode cX3_in 7 = .ok (.if_icmp .gt 7, 3) := dk_163 0 7 (dk_at dksX3_in_0 7 rfl rfl)
theorem dX3_in_10 : decode cX3_in 10 = .ok (.iconst 1, 1) := dk_4 (dk_at dksX3_in_0 10 rfl rfl)
theorem dX3_in_11 : decode cX3_in 11 = .ok (.goto 4, 3) := dk_167 0 4 (dk_at dksX3_in_0 11 rfl rfl)
theorem dX3_in_14 : decode cX3_in 14 = .ok (.iconst 0, 1) := dk_3 (dk_at dksX3_in_0 14 rfl rfl)
theorem dX3_in_15 : decode cX3_in 15 = .ok (.ireturn, 1) := dk_172 (dk_at dksX3_in_0 15 rfl rfl)
abbrev cX3_dial : ByteArray := prog_11_method_20_code
def yX3_dial : MethodName := ⟨RX3, "dial", "(II)I"⟩
def dkwX3_dial_4 : List UInt8 := [180, 0, 16, 27, 185, 0, 40, 2, 0, 192, 0, 53, 182, 0, 82, 172]
abbrev dktX3_dial_4 : List UInt8 := dkwX3_dial_4 ++ []
def dkwX3_dial_3 : List UInt8 := [6, 182, 0, 58, 172, 42, 180, 0, 16, 27, 185, 0, 40, 2, 0, 192, 0, 53, 28, 182, 0, 78, 42]
abbrev dktX3_dial_3 : List UInt8 := dkwX3_dial_3 ++ dktX3_dial_4
def dkwX3_dial_2 : List UInt8 := [185, 0, 40, 2, 0, 192, 0, 53, 180, 0, 72, 7, 159, 0, 11, 42, 27, 182, 0, 75, 158, 0, 9, 42]
abbrev dktX3_dial_2 : List UInt8 := dkwX3_dial_2 ++ dktX3_dial_3
def dkwX3_dial_1 : List UInt8 := [180, 0, 7, 4, 100, 184, 0, 36, 154, 0, 9, 42, 5, 182, 0, 58, 172, 42, 180, 0, 16, 27]
abbrev dktX3_dial_1 : List UInt8 := dkwX3_dial_1 ++ dktX3_dial_2
def dkwX3_dial_0 : List UInt8 := [42, 3, 181, 0, 23, 42, 27, 182, 0, 68, 154, 0, 9, 42, 4, 182, 0, 58, 172, 28, 4, 42]
abbrev dktX3_dial_0 : List UInt8 := dkwX3_dial_0 ++ dktX3_dial_1
theorem dksX3_dial_0 : cX3_dial.data.toList.drop 0 = dktX3_dial_0 := by decide +kernel
theorem dksX3_dial_1 : cX3_dial.data.toList.drop 22 = dktX3_dial_1 := dk_seg dksX3_dial_0 22 rfl rfl
theorem dksX3_dial_2 : cX3_dial.data.toList.drop 44 = dktX3_dial_2 := dk_seg dksX3_dial_1 22 rfl rfl
theorem dksX3_dial_3 : cX3_dial.data.toList.drop 68 = dktX3_dial_3 := dk_seg dksX3_dial_2 24 rfl rfl
theorem dksX3_dial_4 : cX3_dial.data.toList.drop 91 = dktX3_dial_4 := dk_seg dksX3_dial_3 23 rfl rfl
theorem dX3_dial_0 : decode cX3_dial 0 = .ok (.aload_n 0, 1) := dk_42 (dk_at dksX3_dial_0 0 rfl rfl)
theorem dX3_dial_1 : decode cX3_dial 1 = .ok (.iconst 0, 1) := dk_3 (dk_at dksX3_dial_0 1 rfl rfl)
theorem dX3_dial_2 : decode cX3_dial 2 = .ok (.putfield 23, 3) := dk_181 0 23 (dk_at dksX3_dial_0 2 rfl rfl)
theorem dX3_dial_5 : decode cX3_dial 5 = .ok (.aload_n 0, 1) := dk_42 (dk_at dksX3_dial_0 5 rfl rfl)
theorem dX3_dial_6 : decode cX3_dial 6 = .ok (.iload_n 1, 1) := dk_27 (dk_at dksX3_dial_0 6 rfl rfl)
theorem dX3_dial_7 : decode cX3_dial 7 = .ok (.invokevirtual 68, 3) := dk_182 0 68 (dk_at dksX3_dial_0 7 rfl rfl)
theorem dX3_dial_10 : decode cX3_dial 10 = .ok (.ifCond .ne 9, 3) := dk_154 0 9 (dk_at dksX3_dial_0 10 rfl rfl)
theorem dX3_dial_13 : decode cX3_dial 13 = .ok (.aload_n 0, 1) := dk_42 (dk_at dksX3_dial_0 13 rfl rfl)
theorem dX3_dial_14 : decode cX3_dial 14 = .ok (.iconst 1, 1) := dk_4 (dk_at dksX3_dial_0 14 rfl rfl)
theorem dX3_dial_15 : decode cX3_dial 15 = .ok (.invokevirtual 58, 3) := dk_182 0 58 (dk_at dksX3_dial_0 15 rfl rfl)
theorem dX3_dial_18 : decode cX3_dial 18 = .ok (.ireturn, 1) := dk_172 (dk_at dksX3_dial_0 18 rfl rfl)
theorem dX3_dial_19 : decode cX3_dial 19 = .ok (.iload_n 2, 1) := dk_28 (dk_at dksX3_dial_0 19 rfl rfl)
theorem dX3_dial_20 : decode cX3_dial 20 = .ok (.iconst 1, 1) := dk_4 (dk_at dksX3_dial_0 20 rfl rfl)
theorem dX3_dial_21 : decode cX3_dial 21 = .ok (.aload_n 0, 1) := dk_42 (dk_at dksX3_dial_0 21 rfl rfl)
theorem dX3_dial_22 : decode cX3_dial 22 = .ok (.getfield 7, 3) := dk_180 0 7 (dk_at dksX3_dial_1 0 rfl rfl)
theorem dX3_dial_25 : decode cX3_dial 25 = .ok (.iconst 1, 1) := dk_4 (dk_at dksX3_dial_1 3 rfl rfl)
theorem dX3_dial_26 : decode cX3_dial 26 = .ok (.isub, 1) := dk_100 (dk_at dksX3_dial_1 4 rfl rfl)
theorem dX3_dial_27 : decode cX3_dial 27 = .ok (.invokestatic 36, 3) := dk_184 0 36 (dk_at dksX3_dial_1 5 rfl rfl)
theorem dX3_dial_30 : decode cX3_dial 30 = .ok (.ifCond .ne 9, 3) := dk_154 0 9 (dk_at dksX3_dial_1 8 rfl rfl)
theorem dX3_dial_33 : decode cX3_dial 33 = .ok (.aload_n 0, 1) := dk_42 (dk_at dksX3_dial_1 11 rfl rfl)
theorem dX3_dial_34 : decode cX3_dial 34 = .ok (.iconst 2, 1) := dk_5 (dk_at dksX3_dial_1 12 rfl rfl)
theorem dX3_dial_35 : decode cX3_dial 35 = .ok (.invokevirtual 58, 3) := dk_182 0 58 (dk_at dksX3_dial_1 13 rfl rfl)
theorem dX3_dial_38 : decode cX3_dial 38 = .ok (.ireturn, 1) := dk_172 (dk_at dksX3_dial_1 16 rfl rfl)
theorem dX3_dial_39 : decode cX3_dial 39 = .ok (.aload_n 0, 1) := dk_42 (dk_at dksX3_dial_1 17 rfl rfl)
theorem dX3_dial_40 : decode cX3_dial 40 = .ok (.getfield 16, 3) := dk_180 0 16 (dk_at dksX3_dial_1 18 rfl rfl)
theorem dX3_dial_43 : decode cX3_dial 43 = .ok (.iload_n 1, 1) := dk_27 (dk_at dksX3_dial_1 21 rfl rfl)
theorem dX3_dial_44 : decode cX3_dial 44 = .ok (.invokeinterface 40 2, 5) := by decide +kernel
theorem dX3_dial_49 : decode cX3_dial 49 = .ok (.checkcast 53, 3) := dk_192 0 53 (dk_at dksX3_dial_2 5 rfl rfl)
theorem dX3_dial_52 : decode cX3_dial 52 = .ok (.getfield 72, 3) := dk_180 0 72 (dk_at dksX3_dial_2 8 rfl rfl)
theorem dX3_dial_55 : decode cX3_dial 55 = .ok (.iconst 4, 1) := dk_7 (dk_at dksX3_dial_2 11 rfl rfl)
theorem dX3_dial_56 : decode cX3_dial 56 = .ok (.if_icmp .eq 11, 3) := dk_159 0 11 (dk_at dksX3_dial_2 12 rfl rfl)
theorem dX3_dial_59 : decode cX3_dial 59 = .ok (.aload_n 0, 1) := dk_42 (dk_at dksX3_dial_2 15 rfl rfl)
theorem dX3_dial_60 : decode cX3_dial 60 = .ok (.iload_n 1, 1) := dk_27 (dk_at dksX3_dial_2 16 rfl rfl)
theorem dX3_dial_61 : decode cX3_dial 61 = .ok (.invokevirtual 75, 3) := dk_182 0 75 (dk_at dksX3_dial_2 17 rfl rfl)
theorem dX3_dial_64 : decode cX3_dial 64 = .ok (.ifCond .le 9, 3) := dk_158 0 9 (dk_at dksX3_dial_2 20 rfl rfl)
theorem dX3_dial_67 : decode cX3_dial 67 = .ok (.aload_n 0, 1) := dk_42 (dk_at dksX3_dial_2 23 rfl rfl)
theorem dX3_dial_68 : decode cX3_dial 68 = .ok (.iconst 3, 1) := dk_6 (dk_at dksX3_dial_3 0 rfl rfl)
theorem dX3_dial_69 : decode cX3_dial 69 = .ok (.invokevirtual 58, 3) := dk_182 0 58 (dk_at dksX3_dial_3 1 rfl rfl)
theorem dX3_dial_72 : decode cX3_dial 72 = .ok (.ireturn, 1) := dk_172 (dk_at dksX3_dial_3 4 rfl rfl)
theorem dX3_dial_73 : decode cX3_dial 73 = .ok (.aload_n 0, 1) := dk_42 (dk_at dksX3_dial_3 5 rfl rfl)
theorem dX3_dial_74 : decode cX3_dial 74 = .ok (.getfield 16, 3) := dk_180 0 16 (dk_at dksX3_dial_3 6 rfl rfl)
theorem dX3_dial_77 : decode cX3_dial 77 = .ok (.iload_n 1, 1) := dk_27 (dk_at dksX3_dial_3 9 rfl rfl)
theorem dX3_dial_78 : decode cX3_dial 78 = .ok (.invokeinterface 40 2, 5) := by decide +kernel
theorem dX3_dial_83 : decode cX3_dial 83 = .ok (.checkcast 53, 3) := dk_192 0 53 (dk_at dksX3_dial_3 15 rfl rfl)
theorem dX3_dial_86 : decode cX3_dial 86 = .ok (.iload_n 2, 1) := dk_28 (dk_at dksX3_dial_3 18 rfl rfl)
theorem dX3_dial_87 : decode cX3_dial 87 = .ok (.invokevirtual 78, 3) := dk_182 0 78 (dk_at dksX3_dial_3 19 rfl rfl)
theorem dX3_dial_90 : decode cX3_dial 90 = .ok (.aload_n 0, 1) := dk_42 (dk_at dksX3_dial_3 22 rfl rfl)
theorem dX3_dial_91 : decode cX3_dial 91 = .ok (.getfield 16, 3) := dk_180 0 16 (dk_at dksX3_dial_4 0 rfl rfl)
theorem dX3_dial_94 : decode cX3_dial 94 = .ok (.iload_n 1, 1) := dk_27 (dk_at dksX3_dial_4 3 rfl rfl)
theorem dX3_dial_95 : decode cX3_dial 95 = .ok (.invokeinterface 40 2, 5) := by decide +kernel
theorem dX3_dial_100 : decode cX3_dial 100 = .ok (.checkcast 53, 3) := dk_192 0 53 (dk_at dksX3_dial_4 9 rfl rfl)
theorem dX3_dial_103 : decode cX3_dial 103 = .ok (.invokevirtual 82, 3) := dk_182 0 82 (dk_at dksX3_dial_4 12 rfl rfl)
theorem dX3_dial_106 : decode cX3_dial 106 = .ok (.ireturn, 1) := dk_172 (dk_at dksX3_dial_4 15 rfl rfl)
abbrev cX3_isAlgebra : ByteArray := prog_11_method_8_code
def yX3_isAlgebra : MethodName := ⟨RX3, "isAlgebra", "(I)Z"⟩
def dkwX3_isAlgebra_0 : List UInt8 := [27, 3, 42, 180, 0, 16, 185, 0, 30, 1, 0, 4, 100, 184, 0, 36, 172]
abbrev dktX3_isAlgebra_0 : List UInt8 := dkwX3_isAlgebra_0 ++ []
theorem dksX3_isAlgebra_0 : cX3_isAlgebra.data.toList.drop 0 = dktX3_isAlgebra_0 := by decide +kernel
theorem dX3_isAlgebra_0 : decode cX3_isAlgebra 0 = .ok (.iload_n 1, 1) := dk_27 (dk_at dksX3_isAlgebra_0 0 rfl rfl)
theorem dX3_isAlgebra_1 : decode cX3_isAlgebra 1 = .ok (.iconst 0, 1) := dk_3 (dk_at dksX3_isAlgebra_0 1 rfl rfl)
theorem dX3_isAlgebra_2 : decode cX3_isAlgebra 2 = .ok (.aload_n 0, 1) := dk_42 (dk_at dksX3_isAlgebra_0 2 rfl rfl)
theorem dX3_isAlgebra_3 : decode cX3_isAlgebra 3 = .ok (.getfield 16, 3) := dk_180 0 16 (dk_at dksX3_isAlgebra_0 3 rfl rfl)
theorem dX3_isAlgebra_6 : decode cX3_isAlgebra 6 = .ok (.invokeinterface 30 1, 5) := by decide +kernel
theorem dX3_isAlgebra_11 : decode cX3_isAlgebra 11 = .ok (.iconst 1, 1) := dk_4 (dk_at dksX3_isAlgebra_0 11 rfl rfl)
theorem dX3_isAlgebra_12 : decode cX3_isAlgebra 12 = .ok (.isub, 1) := dk_100 (dk_at dksX3_isAlgebra_0 12 rfl rfl)
theorem dX3_isAlgebra_13 : decode cX3_isAlgebra 13 = .ok (.invokestatic 36, 3) := dk_184 0 36 (dk_at dksX3_isAlgebra_0 13 rfl rfl)
theorem dX3_isAlgebra_16 : decode cX3_isAlgebra 16 = .ok (.ireturn, 1) := dk_172 (dk_at dksX3_isAlgebra_0 16 rfl rfl)
abbrev cX3_elementsOf : ByteArray := prog_11_method_19_code
def yX3_elementsOf : MethodName := ⟨RX3, "elementsOf", "(I)I"⟩
def dkwX3_elementsOf_2 : List UInt8 := [132, 3, 1, 167, 255, 212, 28, 172]
abbrev dktX3_elementsOf_2 : List UInt8 := dkwX3_elementsOf_2 ++ []
def dkwX3_elementsOf_1 : List UInt8 := [185, 0, 40, 2, 0, 192, 0, 44, 180, 0, 46, 27, 160, 0, 7, 4, 167, 0, 4, 3, 96, 61]
abbrev dktX3_elementsOf_1 : List UInt8 := dkwX3_elementsOf_1 ++ dktX3_elementsOf_2
def dkwX3_elementsOf_0 : List UInt8 := [3, 61, 3, 62, 29, 42, 180, 0, 20, 185, 0, 30, 1, 0, 162, 0, 37, 28, 42, 180, 0, 20, 29]
abbrev dktX3_elementsOf_0 : List UInt8 := dkwX3_elementsOf_0 ++ dktX3_elementsOf_1
theorem dksX3_elementsOf_0 : cX3_elementsOf.data.toList.drop 0 = dktX3_elementsOf_0 := by decide +kernel
theorem dksX3_elementsOf_1 : cX3_elementsOf.data.toList.drop 23 = dktX3_elementsOf_1 := dk_seg dksX3_elementsOf_0 23 rfl rfl
theorem dksX3_elementsOf_2 : cX3_elementsOf.data.toList.drop 45 = dktX3_elementsOf_2 := dk_seg dksX3_elementsOf_1 22 rfl rfl
theorem dX3_elementsOf_0 : decode cX3_elementsOf 0 = .ok (.iconst 0, 1) := dk_3 (dk_at dksX3_elementsOf_0 0 rfl rfl)
theorem dX3_elementsOf_1 : decode cX3_elementsOf 1 = .ok (.istore_n 2, 1) := dk_61 (dk_at dksX3_elementsOf_0 1 rfl rfl)
theorem dX3_elementsOf_2 : decode cX3_elementsOf 2 = .ok (.iconst 0, 1) := dk_3 (dk_at dksX3_elementsOf_0 2 rfl rfl)
theorem dX3_elementsOf_3 : decode cX3_elementsOf 3 = .ok (.istore_n 3, 1) := dk_62 (dk_at dksX3_elementsOf_0 3 rfl rfl)
theorem dX3_elementsOf_4 : decode cX3_elementsOf 4 = .ok (.iload_n 3, 1) := dk_29 (dk_at dksX3_elementsOf_0 4 rfl rfl)
theorem dX3_elementsOf_5 : decode cX3_elementsOf 5 = .ok (.aload_n 0, 1) := dk_42 (dk_at dksX3_elementsOf_0 5 rfl rfl)
theorem dX3_elementsOf_6 : decode cX3_elementsOf 6 = .ok (.getfield 20, 3) := dk_180 0 20 (dk_at dksX3_elementsOf_0 6 rfl rfl)
theorem dX3_elementsOf_9 : decode cX3_elementsOf 9 = .ok (.invokeinterface 30 1, 5) := by decide +kernel
theorem dX3_elementsOf_14 : decode cX3_elementsOf 14 = .ok (.if_icmp .ge 37, 3) := dk_162 0 37 (dk_at dksX3_elementsOf_0 14 rfl rfl)
theorem dX3_elementsOf_17 : decode cX3_elementsOf 17 = .ok (.iload_n 2, 1) := dk_28 (dk_at dksX3_elementsOf_0 17 rfl rfl)
theorem dX3_elementsOf_18 : decode cX3_elementsOf 18 = .ok (.aload_n 0, 1) := dk_42 (dk_at dksX3_elementsOf_0 18 rfl rfl)
theorem dX3_elementsOf_19 : decode cX3_elementsOf 19 = .ok (.getfield 20, 3) := dk_180 0 20 (dk_at dksX3_elementsOf_0 19 rfl rfl)
theorem dX3_elementsOf_22 : decode cX3_elementsOf 22 = .ok (.iload_n 3, 1) := dk_29 (dk_at dksX3_elementsOf_0 22 rfl rfl)
theorem dX3_elementsOf_23 : decode cX3_elementsOf 23 = .ok (.invokeinterface 40 2, 5) := by decide +kernel
theorem dX3_elementsOf_28 : decode cX3_elementsOf 28 = .ok (.checkcast 44, 3) := dk_192 0 44 (dk_at dksX3_elementsOf_1 5 rfl rfl)
theorem dX3_elementsOf_31 : decode cX3_elementsOf 31 = .ok (.getfield 46, 3) := dk_180 0 46 (dk_at dksX3_elementsOf_1 8 rfl rfl)
theorem dX3_elementsOf_34 : decode cX3_elementsOf 34 = .ok (.iload_n 1, 1) := dk_27 (dk_at dksX3_elementsOf_1 11 rfl rfl)
theorem dX3_elementsOf_35 : decode cX3_elementsOf 35 = .ok (.if_icmp .ne 7, 3) := dk_160 0 7 (dk_at dksX3_elementsOf_1 12 rfl rfl)
theorem dX3_elementsOf_38 : decode cX3_elementsOf 38 = .ok (.iconst 1, 1) := dk_4 (dk_at dksX3_elementsOf_1 15 rfl rfl)
theorem dX3_elementsOf_39 : decode cX3_elementsOf 39 = .ok (.goto 4, 3) := dk_167 0 4 (dk_at dksX3_elementsOf_1 16 rfl rfl)
theorem dX3_elementsOf_42 : decode cX3_elementsOf 42 = .ok (.iconst 0, 1) := dk_3 (dk_at dksX3_elementsOf_1 19 rfl rfl)
theorem dX3_elementsOf_43 : decode cX3_elementsOf 43 = .ok (.iadd, 1) := dk_96 (dk_at dksX3_elementsOf_1 20 rfl rfl)
theorem dX3_elementsOf_44 : decode cX3_elementsOf 44 = .ok (.istore_n 2, 1) := dk_61 (dk_at dksX3_elementsOf_1 21 rfl rfl)
theorem dX3_elementsOf_45 : decode cX3_elementsOf 45 = .ok (.iinc 3 1, 3) := dk_132 3 1 (dk_at dksX3_elementsOf_2 0 rfl rfl)
theorem dX3_elementsOf_48 : decode cX3_elementsOf 48 = .ok (.goto (-44), 3) := dk_167 255 212 (dk_at dksX3_elementsOf_2 3 rfl rfl)
theorem dX3_elementsOf_51 : decode cX3_elementsOf 51 = .ok (.iload_n 2, 1) := dk_28 (dk_at dksX3_elementsOf_2 6 rfl rfl)
theorem dX3_elementsOf_52 : decode cX3_elementsOf 52 = .ok (.ireturn, 1) := dk_172 (dk_at dksX3_elementsOf_2 7 rfl rfl)
abbrev cX3_grade : ByteArray := prog_11_method_7_code
def yX3_grade : MethodName := ⟨RX3, "grade", "(I)I"⟩
def dkwX3_grade_1 : List UInt8 := [172]
abbrev dktX3_grade_1 : List UInt8 := dkwX3_grade_1 ++ []
def dkwX3_grade_0 : List UInt8 := [3, 60, 3, 61, 28, 7, 162, 0, 17, 27, 26, 28, 122, 4, 126, 96, 60, 132, 2, 1, 167, 255, 240, 27]
abbrev dktX3_grade_0 : List UInt8 := dkwX3_grade_0 ++ dktX3_grade_1
theorem dksX3_grade_0 : cX3_grade.data.toList.drop 0 = dktX3_grade_0 := by decide +kernel
theorem dksX3_grade_1 : cX3_grade.data.toList.drop 24 = dktX3_grade_1 := dk_seg dksX3_grade_0 24 rfl rfl
theorem dX3_grade_0 : decode cX3_grade 0 = .ok (.iconst 0, 1) := dk_3 (dk_at dksX3_grade_0 0 rfl rfl)
theorem dX3_grade_1 : decode cX3_grade 1 = .ok (.istore_n 1, 1) := dk_60 (dk_at dksX3_grade_0 1 rfl rfl)
theorem dX3_grade_2 : decode cX3_grade 2 = .ok (.iconst 0, 1) := dk_3 (dk_at dksX3_grade_0 2 rfl rfl)
theorem dX3_grade_3 : decode cX3_grade 3 = .ok (.istore_n 2, 1) := dk_61 (dk_at dksX3_grade_0 3 rfl rfl)
theorem dX3_grade_4 : decode cX3_grade 4 = .ok (.iload_n 2, 1) := dk_28 (dk_at dksX3_grade_0 4 rfl rfl)
theorem dX3_grade_5 : decode cX3_grade 5 = .ok (.iconst 4, 1) := dk_7 (dk_at dksX3_grade_0 5 rfl rfl)
theorem dX3_grade_6 : decode cX3_grade 6 = .ok (.if_icmp .ge 17, 3) := dk_162 0 17 (dk_at dksX3_grade_0 6 rfl rfl)
theorem dX3_grade_9 : decode cX3_grade 9 = .ok (.iload_n 1, 1) := dk_27 (dk_at dksX3_grade_0 9 rfl rfl)
theorem dX3_grade_10 : decode cX3_grade 10 = .ok (.iload_n 0, 1) := dk_26 (dk_at dksX3_grade_0 10 rfl rfl)
theorem dX3_grade_11 : decode cX3_grade 11 = .ok (.iload_n 2, 1) := dk_28 (dk_at dksX3_grade_0 11 rfl rfl)
theorem dX3_grade_12 : decode cX3_grade 12 = .ok (.ishr, 1) := dk_122 (dk_at dksX3_grade_0 12 rfl rfl)
theorem dX3_grade_13 : decode cX3_grade 13 = .ok (.iconst 1, 1) := dk_4 (dk_at dksX3_grade_0 13 rfl rfl)
theorem dX3_grade_14 : decode cX3_grade 14 = .ok (.iand, 1) := dk_126 (dk_at dksX3_grade_0 14 rfl rfl)
theorem dX3_grade_15 : decode cX3_grade 15 = .ok (.iadd, 1) := dk_96 (dk_at dksX3_grade_0 15 rfl rfl)
theorem dX3_grade_16 : decode cX3_grade 16 = .ok (.istore_n 1, 1) := dk_60 (dk_at dksX3_grade_0 16 rfl rfl)
theorem dX3_grade_17 : decode cX3_grade 17 = .ok (.iinc 2 1, 3) := dk_132 2 1 (dk_at dksX3_grade_0 17 rfl rfl)
theorem dX3_grade_20 : decode cX3_grade 20 = .ok (.goto (-16), 3) := dk_167 255 240 (dk_at dksX3_grade_0 20 rfl rfl)
theorem dX3_grade_23 : decode cX3_grade 23 = .ok (.iload_n 1, 1) := dk_27 (dk_at dksX3_grade_0 23 rfl rfl)
theorem dX3_grade_24 : decode cX3_grade 24 = .ok (.ireturn, 1) := dk_172 (dk_at dksX3_grade_1 0 rfl rfl)
abbrev cX3_mod : ByteArray := prog_11_method_5_code
def yX3_mod : MethodName := ⟨RX3, "mod", "(I)I"⟩
def dkwX3_mod_0 : List UInt8 := [27, 42, 180, 0, 7, 112, 42, 180, 0, 7, 96, 42, 180, 0, 7, 112, 172]
abbrev dktX3_mod_0 : List UInt8 := dkwX3_mod_0 ++ []
theorem dksX3_mod_0 : cX3_mod.data.toList.drop 0 = dktX3_mod_0 := by decide +kernel
theorem dX3_mod_0 : decode cX3_mod 0 = .ok (.iload_n 1, 1) := dk_27 (dk_at dksX3_mod_0 0 rfl rfl)
theorem dX3_mod_1 : decode cX3_mod 1 = .ok (.aload_n 0, 1) := dk_42 (dk_at dksX3_mod_0 1 rfl rfl)
theorem dX3_mod_2 : decode cX3_mod 2 = .ok (.getfield 7, 3) := dk_180 0 7 (dk_at dksX3_mod_0 2 rfl rfl)
theorem dX3_mod_5 : decode cX3_mod 5 = .ok (.irem, 1) := dk_112 (dk_at dksX3_mod_0 5 rfl rfl)
theorem dX3_mod_6 : decode cX3_mod 6 = .ok (.aload_n 0, 1) := dk_42 (dk_at dksX3_mod_0 6 rfl rfl)
theorem dX3_mod_7 : decode cX3_mod 7 = .ok (.getfield 7, 3) := dk_180 0 7 (dk_at dksX3_mod_0 7 rfl rfl)
theorem dX3_mod_10 : decode cX3_mod 10 = .ok (.iadd, 1) := dk_96 (dk_at dksX3_mod_0 10 rfl rfl)
theorem dX3_mod_11 : decode cX3_mod 11 = .ok (.aload_n 0, 1) := dk_42 (dk_at dksX3_mod_0 11 rfl rfl)
theorem dX3_mod_12 : decode cX3_mod 12 = .ok (.getfield 7, 3) := dk_180 0 7 (dk_at dksX3_mod_0 12 rfl rfl)
theorem dX3_mod_15 : decode cX3_mod 15 = .ok (.irem, 1) := dk_112 (dk_at dksX3_mod_0 15 rfl rfl)
theorem dX3_mod_16 : decode cX3_mod 16 = .ok (.ireturn, 1) := dk_172 (dk_at dksX3_mod_0 16 rfl rfl)
abbrev cX3_element : ByteArray := prog_11_method_21_code
def yX3_element : MethodName := ⟨RX3, "element", "(I)I"⟩
def dkwX3_element_3 : List UInt8 := [185, 0, 64, 2, 0, 87, 42, 180, 0, 20, 185, 0, 30, 1, 0, 4, 100, 172]
abbrev dktX3_element_3 : List UInt8 := dkwX3_element_3 ++ []
def dkwX3_element_2 : List UInt8 := [27, 42, 180, 0, 16, 27, 185, 0, 40, 2, 0, 192, 0, 53, 182, 0, 82, 183, 0, 85]
abbrev dktX3_element_2 : List UInt8 := dkwX3_element_2 ++ dktX3_element_3
def dkwX3_element_1 : List UInt8 := [185, 0, 30, 1, 0, 16, 10, 160, 0, 9, 42, 5, 182, 0, 58, 172, 42, 180, 0, 20, 187, 0, 44, 89]
abbrev dktX3_element_1 : List UInt8 := dkwX3_element_1 ++ dktX3_element_2
def dkwX3_element_0 : List UInt8 := [42, 3, 181, 0, 23, 42, 27, 182, 0, 68, 154, 0, 9, 42, 4, 182, 0, 58, 172, 42, 180, 0, 20]
abbrev dktX3_element_0 : List UInt8 := dkwX3_element_0 ++ dktX3_element_1
theorem dksX3_element_0 : cX3_element.data.toList.drop 0 = dktX3_element_0 := by decide +kernel
theorem dksX3_element_1 : cX3_element.data.toList.drop 23 = dktX3_element_1 := dk_seg dksX3_element_0 23 rfl rfl
theorem dksX3_element_2 : cX3_element.data.toList.drop 47 = dktX3_element_2 := dk_seg dksX3_element_1 24 rfl rfl
theorem dksX3_element_3 : cX3_element.data.toList.drop 67 = dktX3_element_3 := dk_seg dksX3_element_2 20 rfl rfl
theorem dX3_element_0 : decode cX3_element 0 = .ok (.aload_n 0, 1) := dk_42 (dk_at dksX3_element_0 0 rfl rfl)
theorem dX3_element_1 : decode cX3_element 1 = .ok (.iconst 0, 1) := dk_3 (dk_at dksX3_element_0 1 rfl rfl)
theorem dX3_element_2 : decode cX3_element 2 = .ok (.putfield 23, 3) := dk_181 0 23 (dk_at dksX3_element_0 2 rfl rfl)
theorem dX3_element_5 : decode cX3_element 5 = .ok (.aload_n 0, 1) := dk_42 (dk_at dksX3_element_0 5 rfl rfl)
theorem dX3_element_6 : decode cX3_element 6 = .ok (.iload_n 1, 1) := dk_27 (dk_at dksX3_element_0 6 rfl rfl)
theorem dX3_element_7 : decode cX3_element 7 = .ok (.invokevirtual 68, 3) := dk_182 0 68 (dk_at dksX3_element_0 7 rfl rfl)
theorem dX3_element_10 : decode cX3_element 10 = .ok (.ifCond .ne 9, 3) := dk_154 0 9 (dk_at dksX3_element_0 10 rfl rfl)
theorem dX3_element_13 : decode cX3_element 13 = .ok (.aload_n 0, 1) := dk_42 (dk_at dksX3_element_0 13 rfl rfl)
theorem dX3_element_14 : decode cX3_element 14 = .ok (.iconst 1, 1) := dk_4 (dk_at dksX3_element_0 14 rfl rfl)
theorem dX3_element_15 : decode cX3_element 15 = .ok (.invokevirtual 58, 3) := dk_182 0 58 (dk_at dksX3_element_0 15 rfl rfl)
theorem dX3_element_18 : decode cX3_element 18 = .ok (.ireturn, 1) := dk_172 (dk_at dksX3_element_0 18 rfl rfl)
theorem dX3_element_19 : decode cX3_element 19 = .ok (.aload_n 0, 1) := dk_42 (dk_at dksX3_element_0 19 rfl rfl)
theorem dX3_element_20 : decode cX3_element 20 = .ok (.getfield 20, 3) := dk_180 0 20 (dk_at dksX3_element_0 20 rfl rfl)
theorem dX3_element_23 : decode cX3_element 23 = .ok (.invokeinterface 30 1, 5) := by decide +kernel
theorem dX3_element_28 : decode cX3_element 28 = .ok (.bipush 10, 2) := dk_16 10 (dk_at dksX3_element_1 5 rfl rfl)
theorem dX3_element_30 : decode cX3_element 30 = .ok (.if_icmp .ne 9, 3) := dk_160 0 9 (dk_at dksX3_element_1 7 rfl rfl)
theorem dX3_element_33 : decode cX3_element 33 = .ok (.aload_n 0, 1) := dk_42 (dk_at dksX3_element_1 10 rfl rfl)
theorem dX3_element_34 : decode cX3_element 34 = .ok (.iconst 2, 1) := dk_5 (dk_at dksX3_element_1 11 rfl rfl)
theorem dX3_element_35 : decode cX3_element 35 = .ok (.invokevirtual 58, 3) := dk_182 0 58 (dk_at dksX3_element_1 12 rfl rfl)
theorem dX3_element_38 : decode cX3_element 38 = .ok (.ireturn, 1) := dk_172 (dk_at dksX3_element_1 15 rfl rfl)
theorem dX3_element_39 : decode cX3_element 39 = .ok (.aload_n 0, 1) := dk_42 (dk_at dksX3_element_1 16 rfl rfl)
theorem dX3_element_40 : decode cX3_element 40 = .ok (.getfield 20, 3) := dk_180 0 20 (dk_at dksX3_element_1 17 rfl rfl)
theorem dX3_element_43 : decode cX3_element 43 = .ok (.new 44, 3) := dk_187 0 44 (dk_at dksX3_element_1 20 rfl rfl)
theorem dX3_element_46 : decode cX3_element 46 = .ok (.dup, 1) := dk_89 (dk_at dksX3_element_1 23 rfl rfl)
theorem dX3_element_47 : decode cX3_element 47 = .ok (.iload_n 1, 1) := dk_27 (dk_at dksX3_element_2 0 rfl rfl)
theorem dX3_element_48 : decode cX3_element 48 = .ok (.aload_n 0, 1) := dk_42 (dk_at dksX3_element_2 1 rfl rfl)
theorem dX3_element_49 : decode cX3_element 49 = .ok (.getfield 16, 3) := dk_180 0 16 (dk_at dksX3_element_2 2 rfl rfl)
theorem dX3_element_52 : decode cX3_element 52 = .ok (.iload_n 1, 1) := dk_27 (dk_at dksX3_element_2 5 rfl rfl)
theorem dX3_element_53 : decode cX3_element 53 = .ok (.invokeinterface 40 2, 5) := by decide +kernel
theorem dX3_element_58 : decode cX3_element 58 = .ok (.checkcast 53, 3) := dk_192 0 53 (dk_at dksX3_element_2 11 rfl rfl)
theorem dX3_element_61 : decode cX3_element 61 = .ok (.invokevirtual 82, 3) := dk_182 0 82 (dk_at dksX3_element_2 14 rfl rfl)
theorem dX3_element_64 : decode cX3_element 64 = .ok (.invokespecial 85, 3) := dk_183 0 85 (dk_at dksX3_element_2 17 rfl rfl)
theorem dX3_element_67 : decode cX3_element 67 = .ok (.invokeinterface 64 2, 5) := by decide +kernel
theorem dX3_element_72 : decode cX3_element 72 = .ok (.pop, 1) := dk_87 (dk_at dksX3_element_3 5 rfl rfl)
theorem dX3_element_73 : decode cX3_element 73 = .ok (.aload_n 0, 1) := dk_42 (dk_at dksX3_element_3 6 rfl rfl)
theorem dX3_element_74 : decode cX3_element 74 = .ok (.getfield 20, 3) := dk_180 0 20 (dk_at dksX3_element_3 7 rfl rfl)
theorem dX3_element_77 : decode cX3_element 77 = .ok (.invokeinterface 30 1, 5) := by decide +kernel
theorem dX3_element_82 : decode cX3_element 82 = .ok (.iconst 1, 1) := dk_4 (dk_at dksX3_element_3 15 rfl rfl)
theorem dX3_element_83 : decode cX3_element 83 = .ok (.isub, 1) := dk_100 (dk_at dksX3_element_3 16 rfl rfl)
theorem dX3_element_84 : decode cX3_element 84 = .ok (.ireturn, 1) := dk_172 (dk_at dksX3_element_3 17 rfl rfl)
abbrev cX3_set : ByteArray := prog_11_method_22_code
def yX3_set : MethodName := ⟨RX3, "set", "(III)I"⟩
def dkwX3_set_3 : List UInt8 := [29, 79, 21, 4, 172]
abbrev dktX3_set_3 : List UInt8 := dkwX3_set_3 ++ []
def dkwX3_set_2 : List UInt8 := [154, 0, 9, 42, 5, 182, 0, 58, 172, 42, 27, 182, 0, 91, 28, 46, 54, 4, 42, 27, 182, 0, 91, 28]
abbrev dktX3_set_2 : List UInt8 := dkwX3_set_2 ++ dktX3_set_3
def dkwX3_set_1 : List UInt8 := [184, 0, 36, 154, 0, 9, 42, 4, 182, 0, 58, 172, 29, 3, 42, 180, 0, 7, 4, 100, 184, 0, 36]
abbrev dktX3_set_1 : List UInt8 := dkwX3_set_1 ++ dktX3_set_2
def dkwX3_set_0 : List UInt8 := [42, 3, 181, 0, 23, 42, 27, 182, 0, 88, 153, 0, 19, 28, 3, 42, 27, 182, 0, 91, 190, 4, 100]
abbrev dktX3_set_0 : List UInt8 := dkwX3_set_0 ++ dktX3_set_1
theorem dksX3_set_0 : cX3_set.data.toList.drop 0 = dktX3_set_0 := by decide +kernel
theorem dksX3_set_1 : cX3_set.data.toList.drop 23 = dktX3_set_1 := dk_seg dksX3_set_0 23 rfl rfl
theorem dksX3_set_2 : cX3_set.data.toList.drop 46 = dktX3_set_2 := dk_seg dksX3_set_1 23 rfl rfl
theorem dksX3_set_3 : cX3_set.data.toList.drop 70 = dktX3_set_3 := dk_seg dksX3_set_2 24 rfl rfl
theorem dX3_set_0 : decode cX3_set 0 = .ok (.aload_n 0, 1) := dk_42 (dk_at dksX3_set_0 0 rfl rfl)
theorem dX3_set_1 : decode cX3_set 1 = .ok (.iconst 0, 1) := dk_3 (dk_at dksX3_set_0 1 rfl rfl)
theorem dX3_set_2 : decode cX3_set 2 = .ok (.putfield 23, 3) := dk_181 0 23 (dk_at dksX3_set_0 2 rfl rfl)
theorem dX3_set_5 : decode cX3_set 5 = .ok (.aload_n 0, 1) := dk_42 (dk_at dksX3_set_0 5 rfl rfl)
theorem dX3_set_6 : decode cX3_set 6 = .ok (.iload_n 1, 1) := dk_27 (dk_at dksX3_set_0 6 rfl rfl)
theorem dX3_set_7 : decode cX3_set 7 = .ok (.invokevirtual 88, 3) := dk_182 0 88 (dk_at dksX3_set_0 7 rfl rfl)
theorem dX3_set_10 : decode cX3_set 10 = .ok (.ifCond .eq 19, 3) := dk_153 0 19 (dk_at dksX3_set_0 10 rfl rfl)
theorem dX3_set_13 : decode cX3_set 13 = .ok (.iload_n 2, 1) := dk_28 (dk_at dksX3_set_0 13 rfl rfl)
theorem dX3_set_14 : decode cX3_set 14 = .ok (.iconst 0, 1) := dk_3 (dk_at dksX3_set_0 14 rfl rfl)
theorem dX3_set_15 : decode cX3_set 15 = .ok (.aload_n 0, 1) := dk_42 (dk_at dksX3_set_0 15 rfl rfl)
theorem dX3_set_16 : decode cX3_set 16 = .ok (.iload_n 1, 1) := dk_27 (dk_at dksX3_set_0 16 rfl rfl)
theorem dX3_set_17 : decode cX3_set 17 = .ok (.invokevirtual 91, 3) := dk_182 0 91 (dk_at dksX3_set_0 17 rfl rfl)
theorem dX3_set_20 : decode cX3_set 20 = .ok (.arraylength, 1) := dk_190 (dk_at dksX3_set_0 20 rfl rfl)
theorem dX3_set_21 : decode cX3_set 21 = .ok (.iconst 1, 1) := dk_4 (dk_at dksX3_set_0 21 rfl rfl)
theorem dX3_set_22 : decode cX3_set 22 = .ok (.isub, 1) := dk_100 (dk_at dksX3_set_0 22 rfl rfl)
theorem dX3_set_23 : decode cX3_set 23 = .ok (.invokestatic 36, 3) := dk_184 0 36 (dk_at dksX3_set_1 0 rfl rfl)
theorem dX3_set_26 : decode cX3_set 26 = .ok (.ifCond .ne 9, 3) := dk_154 0 9 (dk_at dksX3_set_1 3 rfl rfl)
theorem dX3_set_29 : decode cX3_set 29 = .ok (.aload_n 0, 1) := dk_42 (dk_at dksX3_set_1 6 rfl rfl)
theorem dX3_set_30 : decode cX3_set 30 = .ok (.iconst 1, 1) := dk_4 (dk_at dksX3_set_1 7 rfl rfl)
theorem dX3_set_31 : decode cX3_set 31 = .ok (.invokevirtual 58, 3) := dk_182 0 58 (dk_at dksX3_set_1 8 rfl rfl)
theorem dX3_set_34 : decode cX3_set 34 = .ok (.ireturn, 1) := dk_172 (dk_at dksX3_set_1 11 rfl rfl)
theorem dX3_set_35 : decode cX3_set 35 = .ok (.iload_n 3, 1) := dk_29 (dk_at dksX3_set_1 12 rfl rfl)
theorem dX3_set_36 : decode cX3_set 36 = .ok (.iconst 0, 1) := dk_3 (dk_at dksX3_set_1 13 rfl rfl)
theorem dX3_set_37 : decode cX3_set 37 = .ok (.aload_n 0, 1) := dk_42 (dk_at dksX3_set_1 14 rfl rfl)
theorem dX3_set_38 : decode cX3_set 38 = .ok (.getfield 7, 3) := dk_180 0 7 (dk_at dksX3_set_1 15 rfl rfl)
theorem dX3_set_41 : decode cX3_set 41 = .ok (.iconst 1, 1) := dk_4 (dk_at dksX3_set_1 18 rfl rfl)
theorem dX3_set_42 : decode cX3_set 42 = .ok (.isub, 1) := dk_100 (dk_at dksX3_set_1 19 rfl rfl)
theorem dX3_set_43 : decode cX3_set 43 = .ok (.invokestatic 36, 3) := dk_184 0 36 (dk_at dksX3_set_1 20 rfl rfl)
theorem dX3_set_46 : decode cX3_set 46 = .ok (.ifCond .ne 9, 3) := dk_154 0 9 (dk_at dksX3_set_2 0 rfl rfl)
theorem dX3_set_49 : decode cX3_set 49 = .ok (.aload_n 0, 1) := dk_42 (dk_at dksX3_set_2 3 rfl rfl)
theorem dX3_set_50 : decode cX3_set 50 = .ok (.iconst 2, 1) := dk_5 (dk_at dksX3_set_2 4 rfl rfl)
theorem dX3_set_51 : decode cX3_set 51 = .ok (.invokevirtual 58, 3) := dk_182 0 58 (dk_at dksX3_set_2 5 rfl rfl)
theorem dX3_set_54 : decode cX3_set 54 = .ok (.ireturn, 1) := dk_172 (dk_at dksX3_set_2 8 rfl rfl)
theorem dX3_set_55 : decode cX3_set 55 = .ok (.aload_n 0, 1) := dk_42 (dk_at dksX3_set_2 9 rfl rfl)
theorem dX3_set_56 : decode cX3_set 56 = .ok (.iload_n 1, 1) := dk_27 (dk_at dksX3_set_2 10 rfl rfl)
theorem dX3_set_57 : decode cX3_set 57 = .ok (.invokevirtual 91, 3) := dk_182 0 91 (dk_at dksX3_set_2 11 rfl rfl)
theorem dX3_set_60 : decode cX3_set 60 = .ok (.iload_n 2, 1) := dk_28 (dk_at dksX3_set_2 14 rfl rfl)
theorem dX3_set_61 : decode cX3_set 61 = .ok (.iaload, 1) := dk_46 (dk_at dksX3_set_2 15 rfl rfl)
theorem dX3_set_62 : decode cX3_set 62 = .ok (.istore 4, 2) := dk_54 4 (dk_at dksX3_set_2 16 rfl rfl)
theorem dX3_set_64 : decode cX3_set 64 = .ok (.aload_n 0, 1) := dk_42 (dk_at dksX3_set_2 18 rfl rfl)
theorem dX3_set_65 : decode cX3_set 65 = .ok (.iload_n 1, 1) := dk_27 (dk_at dksX3_set_2 19 rfl rfl)
theorem dX3_set_66 : decode cX3_set 66 = .ok (.invokevirtual 91, 3) := dk_182 0 91 (dk_at dksX3_set_2 20 rfl rfl)
theorem dX3_set_69 : decode cX3_set 69 = .ok (.iload_n 2, 1) := dk_28 (dk_at dksX3_set_2 23 rfl rfl)
theorem dX3_set_70 : decode cX3_set 70 = .ok (.iload_n 3, 1) := dk_29 (dk_at dksX3_set_3 0 rfl rfl)
theorem dX3_set_71 : decode cX3_set 71 = .ok (.iastore, 1) := dk_79 (dk_at dksX3_set_3 1 rfl rfl)
theorem dX3_set_72 : decode cX3_set 72 = .ok (.iload 4, 2) := dk_21 4 (dk_at dksX3_set_3 2 rfl rfl)
theorem dX3_set_74 : decode cX3_set 74 = .ok (.ireturn, 1) := dk_172 (dk_at dksX3_set_3 4 rfl rfl)
abbrev cX3_isElement : ByteArray := prog_11_method_9_code
def yX3_isElement : MethodName := ⟨RX3, "isElement", "(I)Z"⟩
def dkwX3_isElement_0 : List UInt8 := [27, 3, 42, 180, 0, 20, 185, 0, 30, 1, 0, 4, 100, 184, 0, 36, 172]
abbrev dktX3_isElement_0 : List UInt8 := dkwX3_isElement_0 ++ []
theorem dksX3_isElement_0 : cX3_isElement.data.toList.drop 0 = dktX3_isElement_0 := by decide +kernel
theorem dX3_isElement_0 : decode cX3_isElement 0 = .ok (.iload_n 1, 1) := dk_27 (dk_at dksX3_isElement_0 0 rfl rfl)
theorem dX3_isElement_1 : decode cX3_isElement 1 = .ok (.iconst 0, 1) := dk_3 (dk_at dksX3_isElement_0 1 rfl rfl)
theorem dX3_isElement_2 : decode cX3_isElement 2 = .ok (.aload_n 0, 1) := dk_42 (dk_at dksX3_isElement_0 2 rfl rfl)
theorem dX3_isElement_3 : decode cX3_isElement 3 = .ok (.getfield 20, 3) := dk_180 0 20 (dk_at dksX3_isElement_0 3 rfl rfl)
theorem dX3_isElement_6 : decode cX3_isElement 6 = .ok (.invokeinterface 30 1, 5) := by decide +kernel
theorem dX3_isElement_11 : decode cX3_isElement 11 = .ok (.iconst 1, 1) := dk_4 (dk_at dksX3_isElement_0 11 rfl rfl)
theorem dX3_isElement_12 : decode cX3_isElement 12 = .ok (.isub, 1) := dk_100 (dk_at dksX3_isElement_0 12 rfl rfl)
theorem dX3_isElement_13 : decode cX3_isElement 13 = .ok (.invokestatic 36, 3) := dk_184 0 36 (dk_at dksX3_isElement_0 13 rfl rfl)
theorem dX3_isElement_16 : decode cX3_isElement 16 = .ok (.ireturn, 1) := dk_172 (dk_at dksX3_isElement_0 16 rfl rfl)
abbrev cX3_row : ByteArray := prog_11_method_11_code
def yX3_row : MethodName := ⟨RX3, "row", "(I)[I"⟩
def dkwX3_row_0 : List UInt8 := [42, 180, 0, 20, 27, 185, 0, 40, 2, 0, 192, 0, 44, 180, 0, 49, 176]
abbrev dktX3_row_0 : List UInt8 := dkwX3_row_0 ++ []
theorem dksX3_row_0 : cX3_row.data.toList.drop 0 = dktX3_row_0 := by decide +kernel
theorem dX3_row_0 : decode cX3_row 0 = .ok (.aload_n 0, 1) := dk_42 (dk_at dksX3_row_0 0 rfl rfl)
theorem dX3_row_1 : decode cX3_row 1 = .ok (.getfield 20, 3) := dk_180 0 20 (dk_at dksX3_row_0 1 rfl rfl)
theorem dX3_row_4 : decode cX3_row 4 = .ok (.iload_n 1, 1) := dk_27 (dk_at dksX3_row_0 4 rfl rfl)
theorem dX3_row_5 : decode cX3_row 5 = .ok (.invokeinterface 40 2, 5) := by decide +kernel
theorem dX3_row_10 : decode cX3_row 10 = .ok (.checkcast 44, 3) := dk_192 0 44 (dk_at dksX3_row_0 10 rfl rfl)
theorem dX3_row_13 : decode cX3_row 13 = .ok (.getfield 49, 3) := dk_180 0 49 (dk_at dksX3_row_0 13 rfl rfl)
theorem dX3_row_16 : decode cX3_row 16 = .ok (.areturn, 1) := dk_176 (dk_at dksX3_row_0 16 rfl rfl)
abbrev cX3_sum : ByteArray := prog_11_method_23_code
def yX3_sum : MethodName := ⟨RX3, "sum", "(III)I"⟩
def dkwX3_sum_3 : List UInt8 := [182, 0, 91, 4, 182, 0, 98, 182, 0, 102, 172]
abbrev dktX3_sum_3 : List UInt8 := dkwX3_sum_3 ++ []
def dkwX3_sum_2 : List UInt8 := [182, 0, 94, 154, 0, 9, 42, 5, 182, 0, 58, 172, 42, 27, 42, 42, 28, 182, 0, 91, 42, 29]
abbrev dktX3_sum_2 : List UInt8 := dkwX3_sum_2 ++ dktX3_sum_3
def dkwX3_sum_1 : List UInt8 := [182, 0, 88, 154, 0, 9, 42, 4, 182, 0, 58, 172, 42, 27, 28, 182, 0, 94, 153, 0, 12, 42, 27, 29]
abbrev dktX3_sum_1 : List UInt8 := dkwX3_sum_1 ++ dktX3_sum_2
def dkwX3_sum_0 : List UInt8 := [42, 3, 181, 0, 23, 42, 27, 182, 0, 88, 153, 0, 19, 42, 28, 182, 0, 88, 153, 0, 11, 42, 29]
abbrev dktX3_sum_0 : List UInt8 := dkwX3_sum_0 ++ dktX3_sum_1
theorem dksX3_sum_0 : cX3_sum.data.toList.drop 0 = dktX3_sum_0 := by decide +kernel
theorem dksX3_sum_1 : cX3_sum.data.toList.drop 23 = dktX3_sum_1 := dk_seg dksX3_sum_0 23 rfl rfl
theorem dksX3_sum_2 : cX3_sum.data.toList.drop 47 = dktX3_sum_2 := dk_seg dksX3_sum_1 24 rfl rfl
theorem dksX3_sum_3 : cX3_sum.data.toList.drop 69 = dktX3_sum_3 := dk_seg dksX3_sum_2 22 rfl rfl
theorem dX3_sum_0 : decode cX3_sum 0 = .ok (.aload_n 0, 1) := dk_42 (dk_at dksX3_sum_0 0 rfl rfl)
theorem dX3_sum_1 : decode cX3_sum 1 = .ok (.iconst 0, 1) := dk_3 (dk_at dksX3_sum_0 1 rfl rfl)
theorem dX3_sum_2 : decode cX3_sum 2 = .ok (.putfield 23, 3) := dk_181 0 23 (dk_at dksX3_sum_0 2 rfl rfl)
theorem dX3_sum_5 : decode cX3_sum 5 = .ok (.aload_n 0, 1) := dk_42 (dk_at dksX3_sum_0 5 rfl rfl)
theorem dX3_sum_6 : decode cX3_sum 6 = .ok (.iload_n 1, 1) := dk_27 (dk_at dksX3_sum_0 6 rfl rfl)
theorem dX3_sum_7 : decode cX3_sum 7 = .ok (.invokevirtual 88, 3) := dk_182 0 88 (dk_at dksX3_sum_0 7 rfl rfl)
theorem dX3_sum_10 : decode cX3_sum 10 = .ok (.ifCond .eq 19, 3) := dk_153 0 19 (dk_at dksX3_sum_0 10 rfl rfl)
theorem dX3_sum_13 : decode cX3_sum 13 = .ok (.aload_n 0, 1) := dk_42 (dk_at dksX3_sum_0 13 rfl rfl)
theorem dX3_sum_14 : decode cX3_sum 14 = .ok (.iload_n 2, 1) := dk_28 (dk_at dksX3_sum_0 14 rfl rfl)
theorem dX3_sum_15 : decode cX3_sum 15 = .ok (.invokevirtual 88, 3) := dk_182 0 88 (dk_at dksX3_sum_0 15 rfl rfl)
theorem dX3_sum_18 : decode cX3_sum 18 = .ok (.ifCond .eq 11, 3) := dk_153 0 11 (dk_at dksX3_sum_0 18 rfl rfl)
theorem dX3_sum_21 : decode cX3_sum 21 = .ok (.aload_n 0, 1) := dk_42 (dk_at dksX3_sum_0 21 rfl rfl)
theorem dX3_sum_22 : decode cX3_sum 22 = .ok (.iload_n 3, 1) := dk_29 (dk_at dksX3_sum_0 22 rfl rfl)
theorem dX3_sum_23 : decode cX3_sum 23 = .ok (.invokevirtual 88, 3) := dk_182 0 88 (dk_at dksX3_sum_1 0 rfl rfl)
theorem dX3_sum_26 : decode cX3_sum 26 = .ok (.ifCond .ne 9, 3) := dk_154 0 9 (dk_at dksX3_sum_1 3 rfl rfl)
theorem dX3_sum_29 : decode cX3_sum 29 = .ok (.aload_n 0, 1) := dk_42 (dk_at dksX3_sum_1 6 rfl rfl)
theorem dX3_sum_30 : decode cX3_sum 30 = .ok (.iconst 1, 1) := dk_4 (dk_at dksX3_sum_1 7 rfl rfl)
theorem dX3_sum_31 : decode cX3_sum 31 = .ok (.invokevirtual 58, 3) := dk_182 0 58 (dk_at dksX3_sum_1 8 rfl rfl)
theorem dX3_sum_34 : decode cX3_sum 34 = .ok (.ireturn, 1) := dk_172 (dk_at dksX3_sum_1 11 rfl rfl)
theorem dX3_sum_35 : decode cX3_sum 35 = .ok (.aload_n 0, 1) := dk_42 (dk_at dksX3_sum_1 12 rfl rfl)
theorem dX3_sum_36 : decode cX3_sum 36 = .ok (.iload_n 1, 1) := dk_27 (dk_at dksX3_sum_1 13 rfl rfl)
theorem dX3_sum_37 : decode cX3_sum 37 = .ok (.iload_n 2, 1) := dk_28 (dk_at dksX3_sum_1 14 rfl rfl)
theorem dX3_sum_38 : decode cX3_sum 38 = .ok (.invokevirtual 94, 3) := dk_182 0 94 (dk_at dksX3_sum_1 15 rfl rfl)
theorem dX3_sum_41 : decode cX3_sum 41 = .ok (.ifCond .eq 12, 3) := dk_153 0 12 (dk_at dksX3_sum_1 18 rfl rfl)
theorem dX3_sum_44 : decode cX3_sum 44 = .ok (.aload_n 0, 1) := dk_42 (dk_at dksX3_sum_1 21 rfl rfl)
theorem dX3_sum_45 : decode cX3_sum 45 = .ok (.iload_n 1, 1) := dk_27 (dk_at dksX3_sum_1 22 rfl rfl)
theorem dX3_sum_46 : decode cX3_sum 46 = .ok (.iload_n 3, 1) := dk_29 (dk_at dksX3_sum_1 23 rfl rfl)
theorem dX3_sum_47 : decode cX3_sum 47 = .ok (.invokevirtual 94, 3) := dk_182 0 94 (dk_at dksX3_sum_2 0 rfl rfl)
theorem dX3_sum_50 : decode cX3_sum 50 = .ok (.ifCond .ne 9, 3) := dk_154 0 9 (dk_at dksX3_sum_2 3 rfl rfl)
theorem dX3_sum_53 : decode cX3_sum 53 = .ok (.aload_n 0, 1) := dk_42 (dk_at dksX3_sum_2 6 rfl rfl)
theorem dX3_sum_54 : decode cX3_sum 54 = .ok (.iconst 2, 1) := dk_5 (dk_at dksX3_sum_2 7 rfl rfl)
theorem dX3_sum_55 : decode cX3_sum 55 = .ok (.invokevirtual 58, 3) := dk_182 0 58 (dk_at dksX3_sum_2 8 rfl rfl)
theorem dX3_sum_58 : decode cX3_sum 58 = .ok (.ireturn, 1) := dk_172 (dk_at dksX3_sum_2 11 rfl rfl)
theorem dX3_sum_59 : decode cX3_sum 59 = .ok (.aload_n 0, 1) := dk_42 (dk_at dksX3_sum_2 12 rfl rfl)
theorem dX3_sum_60 : decode cX3_sum 60 = .ok (.iload_n 1, 1) := dk_27 (dk_at dksX3_sum_2 13 rfl rfl)
theorem dX3_sum_61 : decode cX3_sum 61 = .ok (.aload_n 0, 1) := dk_42 (dk_at dksX3_sum_2 14 rfl rfl)
theorem dX3_sum_62 : decode cX3_sum 62 = .ok (.aload_n 0, 1) := dk_42 (dk_at dksX3_sum_2 15 rfl rfl)
theorem dX3_sum_63 : decode cX3_sum 63 = .ok (.iload_n 2, 1) := dk_28 (dk_at dksX3_sum_2 16 rfl rfl)
theorem dX3_sum_64 : decode cX3_sum 64 = .ok (.invokevirtual 91, 3) := dk_182 0 91 (dk_at dksX3_sum_2 17 rfl rfl)
theorem dX3_sum_67 : decode cX3_sum 67 = .ok (.aload_n 0, 1) := dk_42 (dk_at dksX3_sum_2 20 rfl rfl)
theorem dX3_sum_68 : decode cX3_sum 68 = .ok (.iload_n 3, 1) := dk_29 (dk_at dksX3_sum_2 21 rfl rfl)
theorem dX3_sum_69 : decode cX3_sum 69 = .ok (.invokevirtual 91, 3) := dk_182 0 91 (dk_at dksX3_sum_3 0 rfl rfl)
theorem dX3_sum_72 : decode cX3_sum 72 = .ok (.iconst 1, 1) := dk_4 (dk_at dksX3_sum_3 3 rfl rfl)
theorem dX3_sum_73 : decode cX3_sum 73 = .ok (.invokevirtual 98, 3) := dk_182 0 98 (dk_at dksX3_sum_3 4 rfl rfl)
theorem dX3_sum_76 : decode cX3_sum 76 = .ok (.invokevirtual 102, 3) := dk_182 0 102 (dk_at dksX3_sum_3 7 rfl rfl)
theorem dX3_sum_79 : decode cX3_sum 79 = .ok (.ireturn, 1) := dk_172 (dk_at dksX3_sum_3 10 rfl rfl)
abbrev cX3_areOne : ByteArray := prog_11_method_10_code
def yX3_areOne : MethodName := ⟨RX3, "areOne", "(II)Z"⟩
def dkwX3_areOne_1 : List UInt8 := [185, 0, 40, 2, 0, 192, 0, 44, 180, 0, 46, 160, 0, 7, 4, 167, 0, 4, 3, 172]
abbrev dktX3_areOne_1 : List UInt8 := dkwX3_areOne_1 ++ []
def dkwX3_areOne_0 : List UInt8 := [42, 180, 0, 20, 27, 185, 0, 40, 2, 0, 192, 0, 44, 180, 0, 46, 42, 180, 0, 20, 28]
abbrev dktX3_areOne_0 : List UInt8 := dkwX3_areOne_0 ++ dktX3_areOne_1
theorem dksX3_areOne_0 : cX3_areOne.data.toList.drop 0 = dktX3_areOne_0 := by decide +kernel
theorem dksX3_areOne_1 : cX3_areOne.data.toList.drop 21 = dktX3_areOne_1 := dk_seg dksX3_areOne_0 21 rfl rfl
theorem dX3_areOne_0 : decode cX3_areOne 0 = .ok (.aload_n 0, 1) := dk_42 (dk_at dksX3_areOne_0 0 rfl rfl)
theorem dX3_areOne_1 : decode cX3_areOne 1 = .ok (.getfield 20, 3) := dk_180 0 20 (dk_at dksX3_areOne_0 1 rfl rfl)
theorem dX3_areOne_4 : decode cX3_areOne 4 = .ok (.iload_n 1, 1) := dk_27 (dk_at dksX3_areOne_0 4 rfl rfl)
theorem dX3_areOne_5 : decode cX3_areOne 5 = .ok (.invokeinterface 40 2, 5) := by decide +kernel
theorem dX3_areOne_10 : decode cX3_areOne 10 = .ok (.checkcast 44, 3) := dk_192 0 44 (dk_at dksX3_areOne_0 10 rfl rfl)
theorem dX3_areOne_13 : decode cX3_areOne 13 = .ok (.getfield 46, 3) := dk_180 0 46 (dk_at dksX3_areOne_0 13 rfl rfl)
theorem dX3_areOne_16 : decode cX3_areOne 16 = .ok (.aload_n 0, 1) := dk_42 (dk_at dksX3_areOne_0 16 rfl rfl)
theorem dX3_areOne_17 : decode cX3_areOne 17 = .ok (.getfield 20, 3) := dk_180 0 20 (dk_at dksX3_areOne_0 17 rfl rfl)
theorem dX3_areOne_20 : decode cX3_areOne 20 = .ok (.iload_n 2, 1) := dk_28 (dk_at dksX3_areOne_0 20 rfl rfl)
theorem dX3_areOne_21 : decode cX3_areOne 21 = .ok (.invokeinterface 40 2, 5) := by decide +kernel
theorem dX3_areOne_26 : decode cX3_areOne 26 = .ok (.checkcast 44, 3) := dk_192 0 44 (dk_at dksX3_areOne_1 5 rfl rfl)
theorem dX3_areOne_29 : decode cX3_areOne 29 = .ok (.getfield 46, 3) := dk_180 0 46 (dk_at dksX3_areOne_1 8 rfl rfl)
theorem dX3_areOne_32 : decode cX3_areOne 32 = .ok (.if_icmp .ne 7, 3) := dk_160 0 7 (dk_at dksX3_areOne_1 11 rfl rfl)
theorem dX3_areOne_35 : decode cX3_areOne 35 = .ok (.iconst 1, 1) := dk_4 (dk_at dksX3_areOne_1 14 rfl rfl)
theorem dX3_areOne_36 : decode cX3_areOne 36 = .ok (.goto 4, 3) := dk_167 0 4 (dk_at dksX3_areOne_1 15 rfl rfl)
theorem dX3_areOne_39 : decode cX3_areOne 39 = .ok (.iconst 0, 1) := dk_3 (dk_at dksX3_areOne_1 18 rfl rfl)
theorem dX3_areOne_40 : decode cX3_areOne 40 = .ok (.ireturn, 1) := dk_172 (dk_at dksX3_areOne_1 19 rfl rfl)
abbrev cX3_plus : ByteArray := prog_11_method_24_code
def yX3_plus : MethodName := ⟨RX3, "plus", "([I[II)[I"⟩
def dkwX3_plus_1 : List UInt8 := [21, 5, 46, 29, 44, 21, 5, 46, 104, 96, 182, 0, 26, 79, 132, 5, 1, 167, 255, 225, 25, 4, 176]
abbrev dktX3_plus_1 : List UInt8 := dkwX3_plus_1 ++ []
def dkwX3_plus_0 : List UInt8 := [43, 190, 188, 10, 58, 4, 3, 54, 5, 21, 5, 25, 4, 190, 162, 0, 29, 25, 4, 21, 5, 42, 43]
abbrev dktX3_plus_0 : List UInt8 := dkwX3_plus_0 ++ dktX3_plus_1
theorem dksX3_plus_0 : cX3_plus.data.toList.drop 0 = dktX3_plus_0 := by decide +kernel
theorem dksX3_plus_1 : cX3_plus.data.toList.drop 23 = dktX3_plus_1 := dk_seg dksX3_plus_0 23 rfl rfl
theorem dX3_plus_0 : decode cX3_plus 0 = .ok (.aload_n 1, 1) := dk_43 (dk_at dksX3_plus_0 0 rfl rfl)
theorem dX3_plus_1 : decode cX3_plus 1 = .ok (.arraylength, 1) := dk_190 (dk_at dksX3_plus_0 1 rfl rfl)
theorem dX3_plus_2 : decode cX3_plus 2 = .ok (.newarray .int, 2) := dk_188_10 (dk_at dksX3_plus_0 2 rfl rfl)
theorem dX3_plus_4 : decode cX3_plus 4 = .ok (.astore 4, 2) := dk_58 4 (dk_at dksX3_plus_0 4 rfl rfl)
theorem dX3_plus_6 : decode cX3_plus 6 = .ok (.iconst 0, 1) := dk_3 (dk_at dksX3_plus_0 6 rfl rfl)
theorem dX3_plus_7 : decode cX3_plus 7 = .ok (.istore 5, 2) := dk_54 5 (dk_at dksX3_plus_0 7 rfl rfl)
theorem dX3_plus_9 : decode cX3_plus 9 = .ok (.iload 5, 2) := dk_21 5 (dk_at dksX3_plus_0 9 rfl rfl)
theorem dX3_plus_11 : decode cX3_plus 11 = .ok (.aload 4, 2) := dk_25 4 (dk_at dksX3_plus_0 11 rfl rfl)
theorem dX3_plus_13 : decode cX3_plus 13 = .ok (.arraylength, 1) := dk_190 (dk_at dksX3_plus_0 13 rfl rfl)
theorem dX3_plus_14 : decode cX3_plus 14 = .ok (.if_icmp .ge 29, 3) := dk_162 0 29 (dk_at dksX3_plus_0 14 rfl rfl)
theorem dX3_plus_17 : decode cX3_plus 17 = .ok (.aload 4, 2) := dk_25 4 (dk_at dksX3_plus_0 17 rfl rfl)
theorem dX3_plus_19 : decode cX3_plus 19 = .ok (.iload 5, 2) := dk_21 5 (dk_at dksX3_plus_0 19 rfl rfl)
theorem dX3_plus_21 : decode cX3_plus 21 = .ok (.aload_n 0, 1) := dk_42 (dk_at dksX3_plus_0 21 rfl rfl)
theorem dX3_plus_22 : decode cX3_plus 22 = .ok (.aload_n 1, 1) := dk_43 (dk_at dksX3_plus_0 22 rfl rfl)
theorem dX3_plus_23 : decode cX3_plus 23 = .ok (.iload 5, 2) := dk_21 5 (dk_at dksX3_plus_1 0 rfl rfl)
theorem dX3_plus_25 : decode cX3_plus 25 = .ok (.iaload, 1) := dk_46 (dk_at dksX3_plus_1 2 rfl rfl)
theorem dX3_plus_26 : decode cX3_plus 26 = .ok (.iload_n 3, 1) := dk_29 (dk_at dksX3_plus_1 3 rfl rfl)
theorem dX3_plus_27 : decode cX3_plus 27 = .ok (.aload_n 2, 1) := dk_44 (dk_at dksX3_plus_1 4 rfl rfl)
theorem dX3_plus_28 : decode cX3_plus 28 = .ok (.iload 5, 2) := dk_21 5 (dk_at dksX3_plus_1 5 rfl rfl)
theorem dX3_plus_30 : decode cX3_plus 30 = .ok (.iaload, 1) := dk_46 (dk_at dksX3_plus_1 7 rfl rfl)
theorem dX3_plus_31 : decode cX3_plus 31 = .ok (.imul, 1) := dk_104 (dk_at dksX3_plus_1 8 rfl rfl)
theorem dX3_plus_32 : decode cX3_plus 32 = .ok (.iadd, 1) := dk_96 (dk_at dksX3_plus_1 9 rfl rfl)
theorem dX3_plus_33 : decode cX3_plus 33 = .ok (.invokevirtual 26, 3) := dk_182 0 26 (dk_at dksX3_plus_1 10 rfl rfl)
theorem dX3_plus_36 : decode cX3_plus 36 = .ok (.iastore, 1) := dk_79 (dk_at dksX3_plus_1 13 rfl rfl)
theorem dX3_plus_37 : decode cX3_plus 37 = .ok (.iinc 5 1, 3) := dk_132 5 1 (dk_at dksX3_plus_1 14 rfl rfl)
theorem dX3_plus_40 : decode cX3_plus 40 = .ok (.goto (-31), 3) := dk_167 255 225 (dk_at dksX3_plus_1 17 rfl rfl)
theorem dX3_plus_43 : decode cX3_plus 43 = .ok (.aload 4, 2) := dk_25 4 (dk_at dksX3_plus_1 20 rfl rfl)
theorem dX3_plus_45 : decode cX3_plus 45 = .ok (.areturn, 1) := dk_176 (dk_at dksX3_plus_1 22 rfl rfl)
abbrev cX3_put : ByteArray := prog_11_method_16_code
def yX3_put : MethodName := ⟨RX3, "put", "(I[I)I"⟩
def dkwX3_put_0 : List UInt8 := [42, 180, 0, 20, 27, 185, 0, 40, 2, 0, 192, 0, 44, 44, 181, 0, 49, 44, 184, 0, 55, 172]
abbrev dktX3_put_0 : List UInt8 := dkwX3_put_0 ++ []
theorem dksX3_put_0 : cX3_put.data.toList.drop 0 = dktX3_put_0 := by decide +kernel
theorem dX3_put_0 : decode cX3_put 0 = .ok (.aload_n 0, 1) := dk_42 (dk_at dksX3_put_0 0 rfl rfl)
theorem dX3_put_1 : decode cX3_put 1 = .ok (.getfield 20, 3) := dk_180 0 20 (dk_at dksX3_put_0 1 rfl rfl)
theorem dX3_put_4 : decode cX3_put 4 = .ok (.iload_n 1, 1) := dk_27 (dk_at dksX3_put_0 4 rfl rfl)
theorem dX3_put_5 : decode cX3_put 5 = .ok (.invokeinterface 40 2, 5) := by decide +kernel
theorem dX3_put_10 : decode cX3_put 10 = .ok (.checkcast 44, 3) := dk_192 0 44 (dk_at dksX3_put_0 10 rfl rfl)
theorem dX3_put_13 : decode cX3_put 13 = .ok (.aload_n 2, 1) := dk_44 (dk_at dksX3_put_0 13 rfl rfl)
theorem dX3_put_14 : decode cX3_put 14 = .ok (.putfield 49, 3) := dk_181 0 49 (dk_at dksX3_put_0 14 rfl rfl)
theorem dX3_put_17 : decode cX3_put 17 = .ok (.aload_n 2, 1) := dk_44 (dk_at dksX3_put_0 17 rfl rfl)
theorem dX3_put_18 : decode cX3_put 18 = .ok (.invokestatic 55, 3) := dk_184 0 55 (dk_at dksX3_put_0 18 rfl rfl)
theorem dX3_put_21 : decode cX3_put 21 = .ok (.ireturn, 1) := dk_172 (dk_at dksX3_put_0 21 rfl rfl)
abbrev cX3_size : ByteArray := prog_11_method_13_code
def yX3_size : MethodName := ⟨RX3, "size", "([I)I"⟩
def dkwX3_size_1 : List UInt8 := [21, 5, 158, 0, 7, 4, 167, 0, 4, 3, 96, 60, 132, 4, 1, 167, 255, 228, 27, 172]
abbrev dktX3_size_1 : List UInt8 := dkwX3_size_1 ++ []
def dkwX3_size_0 : List UInt8 := [3, 60, 42, 77, 44, 190, 62, 3, 54, 4, 21, 4, 29, 162, 0, 28, 44, 21, 4, 46, 54, 5, 27]
abbrev dktX3_size_0 : List UInt8 := dkwX3_size_0 ++ dktX3_size_1
theorem dksX3_size_0 : cX3_size.data.toList.drop 0 = dktX3_size_0 := by decide +kernel
theorem dksX3_size_1 : cX3_size.data.toList.drop 23 = dktX3_size_1 := dk_seg dksX3_size_0 23 rfl rfl
theorem dX3_size_0 : decode cX3_size 0 = .ok (.iconst 0, 1) := dk_3 (dk_at dksX3_size_0 0 rfl rfl)
theorem dX3_size_1 : decode cX3_size 1 = .ok (.istore_n 1, 1) := dk_60 (dk_at dksX3_size_0 1 rfl rfl)
theorem dX3_size_2 : decode cX3_size 2 = .ok (.aload_n 0, 1) := dk_42 (dk_at dksX3_size_0 2 rfl rfl)
theorem dX3_size_3 : decode cX3_size 3 = .ok (.astore_n 2, 1) := dk_77 (dk_at dksX3_size_0 3 rfl rfl)
theorem dX3_size_4 : decode cX3_size 4 = .ok (.aload_n 2, 1) := dk_44 (dk_at dksX3_size_0 4 rfl rfl)
theorem dX3_size_5 : decode cX3_size 5 = .ok (.arraylength, 1) := dk_190 (dk_at dksX3_size_0 5 rfl rfl)
theorem dX3_size_6 : decode cX3_size 6 = .ok (.istore_n 3, 1) := dk_62 (dk_at dksX3_size_0 6 rfl rfl)
theorem dX3_size_7 : decode cX3_size 7 = .ok (.iconst 0, 1) := dk_3 (dk_at dksX3_size_0 7 rfl rfl)
theorem dX3_size_8 : decode cX3_size 8 = .ok (.istore 4, 2) := dk_54 4 (dk_at dksX3_size_0 8 rfl rfl)
theorem dX3_size_10 : decode cX3_size 10 = .ok (.iload 4, 2) := dk_21 4 (dk_at dksX3_size_0 10 rfl rfl)
theorem dX3_size_12 : decode cX3_size 12 = .ok (.iload_n 3, 1) := dk_29 (dk_at dksX3_size_0 12 rfl rfl)
theorem dX3_size_13 : decode cX3_size 13 = .ok (.if_icmp .ge 28, 3) := dk_162 0 28 (dk_at dksX3_size_0 13 rfl rfl)
theorem dX3_size_16 : decode cX3_size 16 = .ok (.aload_n 2, 1) := dk_44 (dk_at dksX3_size_0 16 rfl rfl)
theorem dX3_size_17 : decode cX3_size 17 = .ok (.iload 4, 2) := dk_21 4 (dk_at dksX3_size_0 17 rfl rfl)
theorem dX3_size_19 : decode cX3_size 19 = .ok (.iaload, 1) := dk_46 (dk_at dksX3_size_0 19 rfl rfl)
theorem dX3_size_20 : decode cX3_size 20 = .ok (.istore 5, 2) := dk_54 5 (dk_at dksX3_size_0 20 rfl rfl)
theorem dX3_size_22 : decode cX3_size 22 = .ok (.iload_n 1, 1) := dk_27 (dk_at dksX3_size_0 22 rfl rfl)
theorem dX3_size_23 : decode cX3_size 23 = .ok (.iload 5, 2) := dk_21 5 (dk_at dksX3_size_1 0 rfl rfl)
theorem dX3_size_25 : decode cX3_size 25 = .ok (.ifCond .le 7, 3) := dk_158 0 7 (dk_at dksX3_size_1 2 rfl rfl)
theorem dX3_size_28 : decode cX3_size 28 = .ok (.iconst 1, 1) := dk_4 (dk_at dksX3_size_1 5 rfl rfl)
theorem dX3_size_29 : decode cX3_size 29 = .ok (.goto 4, 3) := dk_167 0 4 (dk_at dksX3_size_1 6 rfl rfl)
theorem dX3_size_32 : decode cX3_size 32 = .ok (.iconst 0, 1) := dk_3 (dk_at dksX3_size_1 9 rfl rfl)
theorem dX3_size_33 : decode cX3_size 33 = .ok (.iadd, 1) := dk_96 (dk_at dksX3_size_1 10 rfl rfl)
theorem dX3_size_34 : decode cX3_size 34 = .ok (.istore_n 1, 1) := dk_60 (dk_at dksX3_size_1 11 rfl rfl)
theorem dX3_size_35 : decode cX3_size 35 = .ok (.iinc 4 1, 3) := dk_132 4 1 (dk_at dksX3_size_1 12 rfl rfl)
theorem dX3_size_38 : decode cX3_size 38 = .ok (.goto (-28), 3) := dk_167 255 228 (dk_at dksX3_size_1 15 rfl rfl)
theorem dX3_size_41 : decode cX3_size 41 = .ok (.iload_n 1, 1) := dk_27 (dk_at dksX3_size_1 18 rfl rfl)
theorem dX3_size_42 : decode cX3_size 42 = .ok (.ireturn, 1) := dk_172 (dk_at dksX3_size_1 19 rfl rfl)
abbrev cX3_product : ByteArray := prog_11_method_25_code
def yX3_product : MethodName := ⟨RX3, "product", "(III)I"⟩
def dkwX3_product_3 : List UInt8 := [42, 29, 182, 0, 91, 182, 0, 110, 182, 0, 102, 172]
abbrev dktX3_product_3 : List UInt8 := dkwX3_product_3 ++ []
def dkwX3_product_2 : List UInt8 := [182, 0, 94, 154, 0, 9, 42, 5, 182, 0, 58, 172, 42, 27, 42, 27, 182, 0, 106, 42, 28, 182, 0, 91]
abbrev dktX3_product_2 : List UInt8 := dkwX3_product_2 ++ dktX3_product_3
def dkwX3_product_1 : List UInt8 := [182, 0, 88, 154, 0, 9, 42, 4, 182, 0, 58, 172, 42, 27, 28, 182, 0, 94, 153, 0, 12, 42, 27, 29]
abbrev dktX3_product_1 : List UInt8 := dkwX3_product_1 ++ dktX3_product_2
def dkwX3_product_0 : List UInt8 := [42, 3, 181, 0, 23, 42, 27, 182, 0, 88, 153, 0, 19, 42, 28, 182, 0, 88, 153, 0, 11, 42, 29]
abbrev dktX3_product_0 : List UInt8 := dkwX3_product_0 ++ dktX3_product_1
theorem dksX3_product_0 : cX3_product.data.toList.drop 0 = dktX3_product_0 := by decide +kernel
theorem dksX3_product_1 : cX3_product.data.toList.drop 23 = dktX3_product_1 := dk_seg dksX3_product_0 23 rfl rfl
theorem dksX3_product_2 : cX3_product.data.toList.drop 47 = dktX3_product_2 := dk_seg dksX3_product_1 24 rfl rfl
theorem dksX3_product_3 : cX3_product.data.toList.drop 71 = dktX3_product_3 := dk_seg dksX3_product_2 24 rfl rfl
theorem dX3_product_0 : decode cX3_product 0 = .ok (.aload_n 0, 1) := dk_42 (dk_at dksX3_product_0 0 rfl rfl)
theorem dX3_product_1 : decode cX3_product 1 = .ok (.iconst 0, 1) := dk_3 (dk_at dksX3_product_0 1 rfl rfl)
theorem dX3_product_2 : decode cX3_product 2 = .ok (.putfield 23, 3) := dk_181 0 23 (dk_at dksX3_product_0 2 rfl rfl)
theorem dX3_product_5 : decode cX3_product 5 = .ok (.aload_n 0, 1) := dk_42 (dk_at dksX3_product_0 5 rfl rfl)
theorem dX3_product_6 : decode cX3_product 6 = .ok (.iload_n 1, 1) := dk_27 (dk_at dksX3_product_0 6 rfl rfl)
theorem dX3_product_7 : decode cX3_product 7 = .ok (.invokevirtual 88, 3) := dk_182 0 88 (dk_at dksX3_product_0 7 rfl rfl)
theorem dX3_product_10 : decode cX3_product 10 = .ok (.ifCond .eq 19, 3) := dk_153 0 19 (dk_at dksX3_product_0 10 rfl rfl)
theorem dX3_product_13 : decode cX3_product 13 = .ok (.aload_n 0, 1) := dk_42 (dk_at dksX3_product_0 13 rfl rfl)
theorem dX3_product_14 : decode cX3_product 14 = .ok (.iload_n 2, 1) := dk_28 (dk_at dksX3_product_0 14 rfl rfl)
theorem dX3_product_15 : decode cX3_product 15 = .ok (.invokevirtual 88, 3) := dk_182 0 88 (dk_at dksX3_product_0 15 rfl rfl)
theorem dX3_product_18 : decode cX3_product 18 = .ok (.ifCond .eq 11, 3) := dk_153 0 11 (dk_at dksX3_product_0 18 rfl rfl)
theorem dX3_product_21 : decode cX3_product 21 = .ok (.aload_n 0, 1) := dk_42 (dk_at dksX3_product_0 21 rfl rfl)
theorem dX3_product_22 : decode cX3_product 22 = .ok (.iload_n 3, 1) := dk_29 (dk_at dksX3_product_0 22 rfl rfl)
theorem dX3_product_23 : decode cX3_product 23 = .ok (.invokevirtual 88, 3) := dk_182 0 88 (dk_at dksX3_product_1 0 rfl rfl)
theorem dX3_product_26 : decode cX3_product 26 = .ok (.ifCond .ne 9, 3) := dk_154 0 9 (dk_at dksX3_product_1 3 rfl rfl)
theorem dX3_product_29 : decode cX3_product 29 = .ok (.aload_n 0, 1) := dk_42 (dk_at dksX3_product_1 6 rfl rfl)
theorem dX3_product_30 : decode cX3_product 30 = .ok (.iconst 1, 1) := dk_4 (dk_at dksX3_product_1 7 rfl rfl)
theorem dX3_product_31 : decode cX3_product 31 = .ok (.invokevirtual 58, 3) := dk_182 0 58 (dk_at dksX3_product_1 8 rfl rfl)
theorem dX3_product_34 : decode cX3_product 34 = .ok (.ireturn, 1) := dk_172 (dk_at dksX3_product_1 11 rfl rfl)
theorem dX3_product_35 : decode cX3_product 35 = .ok (.aload_n 0, 1) := dk_42 (dk_at dksX3_product_1 12 rfl rfl)
theorem dX3_product_36 : decode cX3_product 36 = .ok (.iload_n 1, 1) := dk_27 (dk_at dksX3_product_1 13 rfl rfl)
theorem dX3_product_37 : decode cX3_product 37 = .ok (.iload_n 2, 1) := dk_28 (dk_at dksX3_product_1 14 rfl rfl)
theorem dX3_product_38 : decode cX3_product 38 = .ok (.invokevirtual 94, 3) := dk_182 0 94 (dk_at dksX3_product_1 15 rfl rfl)
theorem dX3_product_41 : decode cX3_product 41 = .ok (.ifCond .eq 12, 3) := dk_153 0 12 (dk_at dksX3_product_1 18 rfl rfl)
theorem dX3_product_44 : decode cX3_product 44 = .ok (.aload_n 0, 1) := dk_42 (dk_at dksX3_product_1 21 rfl rfl)
theorem dX3_product_45 : decode cX3_product 45 = .ok (.iload_n 1, 1) := dk_27 (dk_at dksX3_product_1 22 rfl rfl)
theorem dX3_product_46 : decode cX3_product 46 = .ok (.iload_n 3, 1) := dk_29 (dk_at dksX3_product_1 23 rfl rfl)
theorem dX3_product_47 : decode cX3_product 47 = .ok (.invokevirtual 94, 3) := dk_182 0 94 (dk_at dksX3_product_2 0 rfl rfl)
theorem dX3_product_50 : decode cX3_product 50 = .ok (.ifCond .ne 9, 3) := dk_154 0 9 (dk_at dksX3_product_2 3 rfl rfl)
theorem dX3_product_53 : decode cX3_product 53 = .ok (.aload_n 0, 1) := dk_42 (dk_at dksX3_product_2 6 rfl rfl)
theorem dX3_product_54 : decode cX3_product 54 = .ok (.iconst 2, 1) := dk_5 (dk_at dksX3_product_2 7 rfl rfl)
theorem dX3_product_55 : decode cX3_product 55 = .ok (.invokevirtual 58, 3) := dk_182 0 58 (dk_at dksX3_product_2 8 rfl rfl)
theorem dX3_product_58 : decode cX3_product 58 = .ok (.ireturn, 1) := dk_172 (dk_at dksX3_product_2 11 rfl rfl)
theorem dX3_product_59 : decode cX3_product 59 = .ok (.aload_n 0, 1) := dk_42 (dk_at dksX3_product_2 12 rfl rfl)
theorem dX3_product_60 : decode cX3_product 60 = .ok (.iload_n 1, 1) := dk_27 (dk_at dksX3_product_2 13 rfl rfl)
theorem dX3_product_61 : decode cX3_product 61 = .ok (.aload_n 0, 1) := dk_42 (dk_at dksX3_product_2 14 rfl rfl)
theorem dX3_product_62 : decode cX3_product 62 = .ok (.iload_n 1, 1) := dk_27 (dk_at dksX3_product_2 15 rfl rfl)
theorem dX3_product_63 : decode cX3_product 63 = .ok (.invokevirtual 106, 3) := dk_182 0 106 (dk_at dksX3_product_2 16 rfl rfl)
theorem dX3_product_66 : decode cX3_product 66 = .ok (.aload_n 0, 1) := dk_42 (dk_at dksX3_product_2 19 rfl rfl)
theorem dX3_product_67 : decode cX3_product 67 = .ok (.iload_n 2, 1) := dk_28 (dk_at dksX3_product_2 20 rfl rfl)
theorem dX3_product_68 : decode cX3_product 68 = .ok (.invokevirtual 91, 3) := dk_182 0 91 (dk_at dksX3_product_2 21 rfl rfl)
theorem dX3_product_71 : decode cX3_product 71 = .ok (.aload_n 0, 1) := dk_42 (dk_at dksX3_product_3 0 rfl rfl)
theorem dX3_product_72 : decode cX3_product 72 = .ok (.iload_n 3, 1) := dk_29 (dk_at dksX3_product_3 1 rfl rfl)
theorem dX3_product_73 : decode cX3_product 73 = .ok (.invokevirtual 91, 3) := dk_182 0 91 (dk_at dksX3_product_3 2 rfl rfl)
theorem dX3_product_76 : decode cX3_product 76 = .ok (.invokevirtual 110, 3) := dk_182 0 110 (dk_at dksX3_product_3 5 rfl rfl)
theorem dX3_product_79 : decode cX3_product 79 = .ok (.invokevirtual 102, 3) := dk_182 0 102 (dk_at dksX3_product_3 8 rfl rfl)
theorem dX3_product_82 : decode cX3_product 82 = .ok (.ireturn, 1) := dk_172 (dk_at dksX3_product_3 11 rfl rfl)
abbrev cX3_home : ByteArray := prog_11_method_12_code
def yX3_home : MethodName := ⟨RX3, "home", "(I)LVersorhallModel$Algebra;"⟩
def dkwX3_home_1 : List UInt8 := [185, 0, 40, 2, 0, 192, 0, 53, 176]
abbrev dktX3_home_1 : List UInt8 := dkwX3_home_1 ++ []
def dkwX3_home_0 : List UInt8 := [42, 180, 0, 16, 42, 180, 0, 20, 27, 185, 0, 40, 2, 0, 192, 0, 44, 180, 0, 46]
abbrev dktX3_home_0 : List UInt8 := dkwX3_home_0 ++ dktX3_home_1
theorem dksX3_home_0 : cX3_home.data.toList.drop 0 = dktX3_home_0 := by decide +kernel
theorem dksX3_home_1 : cX3_home.data.toList.drop 20 = dktX3_home_1 := dk_seg dksX3_home_0 20 rfl rfl
theorem dX3_home_0 : decode cX3_home 0 = .ok (.aload_n 0, 1) := dk_42 (dk_at dksX3_home_0 0 rfl rfl)
theorem dX3_home_1 : decode cX3_home 1 = .ok (.getfield 16, 3) := dk_180 0 16 (dk_at dksX3_home_0 1 rfl rfl)
theorem dX3_home_4 : decode cX3_home 4 = .ok (.aload_n 0, 1) := dk_42 (dk_at dksX3_home_0 4 rfl rfl)
theorem dX3_home_5 : decode cX3_home 5 = .ok (.getfield 20, 3) := dk_180 0 20 (dk_at dksX3_home_0 5 rfl rfl)
theorem dX3_home_8 : decode cX3_home 8 = .ok (.iload_n 1, 1) := dk_27 (dk_at dksX3_home_0 8 rfl rfl)
theorem dX3_home_9 : decode cX3_home 9 = .ok (.invokeinterface 40 2, 5) := by decide +kernel
theorem dX3_home_14 : decode cX3_home 14 = .ok (.checkcast 44, 3) := dk_192 0 44 (dk_at dksX3_home_0 14 rfl rfl)
theorem dX3_home_17 : decode cX3_home 17 = .ok (.getfield 46, 3) := dk_180 0 46 (dk_at dksX3_home_0 17 rfl rfl)
theorem dX3_home_20 : decode cX3_home 20 = .ok (.invokeinterface 40 2, 5) := by decide +kernel
theorem dX3_home_25 : decode cX3_home 25 = .ok (.checkcast 53, 3) := dk_192 0 53 (dk_at dksX3_home_1 5 rfl rfl)
theorem dX3_home_28 : decode cX3_home 28 = .ok (.areturn, 1) := dk_176 (dk_at dksX3_home_1 8 rfl rfl)
abbrev cX3_scale : ByteArray := prog_11_method_26_code
def yX3_scale : MethodName := ⟨RX3, "scale", "(III)I"⟩
def dkwX3_scale_3 : List UInt8 := [182, 0, 114, 182, 0, 102, 172]
abbrev dktX3_scale_3 : List UInt8 := dkwX3_scale_3 ++ []
def dkwX3_scale_2 : List UInt8 := [154, 0, 9, 42, 5, 182, 0, 58, 172, 42, 27, 42, 27, 182, 0, 106, 42, 28, 182, 0, 91, 29]
abbrev dktX3_scale_2 : List UInt8 := dkwX3_scale_2 ++ dktX3_scale_3
def dkwX3_scale_1 : List UInt8 := [182, 0, 58, 172, 42, 27, 28, 182, 0, 94, 153, 0, 17, 29, 3, 42, 180, 0, 7, 4, 100, 184, 0, 36]
abbrev dktX3_scale_1 : List UInt8 := dkwX3_scale_1 ++ dktX3_scale_2
def dkwX3_scale_0 : List UInt8 := [42, 3, 181, 0, 23, 42, 27, 182, 0, 88, 153, 0, 11, 42, 28, 182, 0, 88, 154, 0, 9, 42, 4]
abbrev dktX3_scale_0 : List UInt8 := dkwX3_scale_0 ++ dktX3_scale_1
theorem dksX3_scale_0 : cX3_scale.data.toList.drop 0 = dktX3_scale_0 := by decide +kernel
theorem dksX3_scale_1 : cX3_scale.data.toList.drop 23 = dktX3_scale_1 := dk_seg dksX3_scale_0 23 rfl rfl
theorem dksX3_scale_2 : cX3_scale.data.toList.drop 47 = dktX3_scale_2 := dk_seg dksX3_scale_1 24 rfl rfl
theorem dksX3_scale_3 : cX3_scale.data.toList.drop 69 = dktX3_scale_3 := dk_seg dksX3_scale_2 22 rfl rfl
theorem dX3_scale_0 : decode cX3_scale 0 = .ok (.aload_n 0, 1) := dk_42 (dk_at dksX3_scale_0 0 rfl rfl)
theorem dX3_scale_1 : decode cX3_scale 1 = .ok (.iconst 0, 1) := dk_3 (dk_at dksX3_scale_0 1 rfl rfl)
theorem dX3_scale_2 : decode cX3_scale 2 = .ok (.putfield 23, 3) := dk_181 0 23 (dk_at dksX3_scale_0 2 rfl rfl)
theorem dX3_scale_5 : decode cX3_scale 5 = .ok (.aload_n 0, 1) := dk_42 (dk_at dksX3_scale_0 5 rfl rfl)
theorem dX3_scale_6 : decode cX3_scale 6 = .ok (.iload_n 1, 1) := dk_27 (dk_at dksX3_scale_0 6 rfl rfl)
theorem dX3_scale_7 : decode cX3_scale 7 = .ok (.invokevirtual 88, 3) := dk_182 0 88 (dk_at dksX3_scale_0 7 rfl rfl)
theorem dX3_scale_10 : decode cX3_scale 10 = .ok (.ifCond .eq 11, 3) := dk_153 0 11 (dk_at dksX3_scale_0 10 rfl rfl)
theorem dX3_scale_13 : decode cX3_scale 13 = .ok (.aload_n 0, 1) := dk_42 (dk_at dksX3_scale_0 13 rfl rfl)
theorem dX3_scale_14 : decode cX3_scale 14 = .ok (.iload_n 2, 1) := dk_28 (dk_at dksX3_scale_0 14 rfl rfl)
theorem dX3_scale_15 : decode cX3_scale 15 = .ok (.invokevirtual 88, 3) := dk_182 0 88 (dk_at dksX3_scale_0 15 rfl rfl)
theorem dX3_scale_18 : decode cX3_scale 18 = .ok (.ifCond .ne 9, 3) := dk_154 0 9 (dk_at dksX3_scale_0 18 rfl rfl)
theorem dX3_scale_21 : decode cX3_scale 21 = .ok (.aload_n 0, 1) := dk_42 (dk_at dksX3_scale_0 21 rfl rfl)
theorem dX3_scale_22 : decode cX3_scale 22 = .ok (.iconst 1, 1) := dk_4 (dk_at dksX3_scale_0 22 rfl rfl)
theorem dX3_scale_23 : decode cX3_scale 23 = .ok (.invokevirtual 58, 3) := dk_182 0 58 (dk_at dksX3_scale_1 0 rfl rfl)
theorem dX3_scale_26 : decode cX3_scale 26 = .ok (.ireturn, 1) := dk_172 (dk_at dksX3_scale_1 3 rfl rfl)
theorem dX3_scale_27 : decode cX3_scale 27 = .ok (.aload_n 0, 1) := dk_42 (dk_at dksX3_scale_1 4 rfl rfl)
theorem dX3_scale_28 : decode cX3_scale 28 = .ok (.iload_n 1, 1) := dk_27 (dk_at dksX3_scale_1 5 rfl rfl)
theorem dX3_scale_29 : decode cX3_scale 29 = .ok (.iload_n 2, 1) := dk_28 (dk_at dksX3_scale_1 6 rfl rfl)
theorem dX3_scale_30 : decode cX3_scale 30 = .ok (.invokevirtual 94, 3) := dk_182 0 94 (dk_at dksX3_scale_1 7 rfl rfl)
theorem dX3_scale_33 : decode cX3_scale 33 = .ok (.ifCond .eq 17, 3) := dk_153 0 17 (dk_at dksX3_scale_1 10 rfl rfl)
theorem dX3_scale_36 : decode cX3_scale 36 = .ok (.iload_n 3, 1) := dk_29 (dk_at dksX3_scale_1 13 rfl rfl)
theorem dX3_scale_37 : decode cX3_scale 37 = .ok (.iconst 0, 1) := dk_3 (dk_at dksX3_scale_1 14 rfl rfl)
theorem dX3_scale_38 : decode cX3_scale 38 = .ok (.aload_n 0, 1) := dk_42 (dk_at dksX3_scale_1 15 rfl rfl)
theorem dX3_scale_39 : decode cX3_scale 39 = .ok (.getfield 7, 3) := dk_180 0 7 (dk_at dksX3_scale_1 16 rfl rfl)
theorem dX3_scale_42 : decode cX3_scale 42 = .ok (.iconst 1, 1) := dk_4 (dk_at dksX3_scale_1 19 rfl rfl)
theorem dX3_scale_43 : decode cX3_scale 43 = .ok (.isub, 1) := dk_100 (dk_at dksX3_scale_1 20 rfl rfl)
theorem dX3_scale_44 : decode cX3_scale 44 = .ok (.invokestatic 36, 3) := dk_184 0 36 (dk_at dksX3_scale_1 21 rfl rfl)
theorem dX3_scale_47 : decode cX3_scale 47 = .ok (.ifCond .ne 9, 3) := dk_154 0 9 (dk_at dksX3_scale_2 0 rfl rfl)
theorem dX3_scale_50 : decode cX3_scale 50 = .ok (.aload_n 0, 1) := dk_42 (dk_at dksX3_scale_2 3 rfl rfl)
theorem dX3_scale_51 : decode cX3_scale 51 = .ok (.iconst 2, 1) := dk_5 (dk_at dksX3_scale_2 4 rfl rfl)
theorem dX3_scale_52 : decode cX3_scale 52 = .ok (.invokevirtual 58, 3) := dk_182 0 58 (dk_at dksX3_scale_2 5 rfl rfl)
theorem dX3_scale_55 : decode cX3_scale 55 = .ok (.ireturn, 1) := dk_172 (dk_at dksX3_scale_2 8 rfl rfl)
theorem dX3_scale_56 : decode cX3_scale 56 = .ok (.aload_n 0, 1) := dk_42 (dk_at dksX3_scale_2 9 rfl rfl)
theorem dX3_scale_57 : decode cX3_scale 57 = .ok (.iload_n 1, 1) := dk_27 (dk_at dksX3_scale_2 10 rfl rfl)
theorem dX3_scale_58 : decode cX3_scale 58 = .ok (.aload_n 0, 1) := dk_42 (dk_at dksX3_scale_2 11 rfl rfl)
theorem dX3_scale_59 : decode cX3_scale 59 = .ok (.iload_n 1, 1) := dk_27 (dk_at dksX3_scale_2 12 rfl rfl)
theorem dX3_scale_60 : decode cX3_scale 60 = .ok (.invokevirtual 106, 3) := dk_182 0 106 (dk_at dksX3_scale_2 13 rfl rfl)
theorem dX3_scale_63 : decode cX3_scale 63 = .ok (.aload_n 0, 1) := dk_42 (dk_at dksX3_scale_2 16 rfl rfl)
theorem dX3_scale_64 : decode cX3_scale 64 = .ok (.iload_n 2, 1) := dk_28 (dk_at dksX3_scale_2 17 rfl rfl)
theorem dX3_scale_65 : decode cX3_scale 65 = .ok (.invokevirtual 91, 3) := dk_182 0 91 (dk_at dksX3_scale_2 18 rfl rfl)
theorem dX3_scale_68 : decode cX3_scale 68 = .ok (.iload_n 3, 1) := dk_29 (dk_at dksX3_scale_2 21 rfl rfl)
theorem dX3_scale_69 : decode cX3_scale 69 = .ok (.invokevirtual 114, 3) := dk_182 0 114 (dk_at dksX3_scale_3 0 rfl rfl)
theorem dX3_scale_72 : decode cX3_scale 72 = .ok (.invokevirtual 102, 3) := dk_182 0 102 (dk_at dksX3_scale_3 3 rfl rfl)
theorem dX3_scale_75 : decode cX3_scale 75 = .ok (.ireturn, 1) := dk_172 (dk_at dksX3_scale_3 6 rfl rfl)
abbrev cX3_conjugate : ByteArray := prog_11_method_27_code
def yX3_conjugate : MethodName := ⟨RX3, "conjugate", "(II)I"⟩
def dkwX3_conjugate_2 : List UInt8 := [182, 0, 106, 42, 28, 182, 0, 91, 182, 0, 118, 182, 0, 102, 172]
abbrev dktX3_conjugate_2 : List UInt8 := dkwX3_conjugate_2 ++ []
def dkwX3_conjugate_1 : List UInt8 := [182, 0, 58, 172, 42, 27, 28, 182, 0, 94, 154, 0, 9, 42, 5, 182, 0, 58, 172, 42, 27, 42, 27]
abbrev dktX3_conjugate_1 : List UInt8 := dkwX3_conjugate_1 ++ dktX3_conjugate_2
def dkwX3_conjugate_0 : List UInt8 := [42, 3, 181, 0, 23, 42, 27, 182, 0, 88, 153, 0, 11, 42, 28, 182, 0, 88, 154, 0, 9, 42, 4]
abbrev dktX3_conjugate_0 : List UInt8 := dkwX3_conjugate_0 ++ dktX3_conjugate_1
theorem dksX3_conjugate_0 : cX3_conjugate.data.toList.drop 0 = dktX3_conjugate_0 := by decide +kernel
theorem dksX3_conjugate_1 : cX3_conjugate.data.toList.drop 23 = dktX3_conjugate_1 := dk_seg dksX3_conjugate_0 23 rfl rfl
theorem dksX3_conjugate_2 : cX3_conjugate.data.toList.drop 46 = dktX3_conjugate_2 := dk_seg dksX3_conjugate_1 23 rfl rfl
theorem dX3_conjugate_0 : decode cX3_conjugate 0 = .ok (.aload_n 0, 1) := dk_42 (dk_at dksX3_conjugate_0 0 rfl rfl)
theorem dX3_conjugate_1 : decode cX3_conjugate 1 = .ok (.iconst 0, 1) := dk_3 (dk_at dksX3_conjugate_0 1 rfl rfl)
theorem dX3_conjugate_2 : decode cX3_conjugate 2 = .ok (.putfield 23, 3) := dk_181 0 23 (dk_at dksX3_conjugate_0 2 rfl rfl)
theorem dX3_conjugate_5 : decode cX3_conjugate 5 = .ok (.aload_n 0, 1) := dk_42 (dk_at dksX3_conjugate_0 5 rfl rfl)
theorem dX3_conjugate_6 : decode cX3_conjugate 6 = .ok (.iload_n 1, 1) := dk_27 (dk_at dksX3_conjugate_0 6 rfl rfl)
theorem dX3_conjugate_7 : decode cX3_conjugate 7 = .ok (.invokevirtual 88, 3) := dk_182 0 88 (dk_at dksX3_conjugate_0 7 rfl rfl)
theorem dX3_conjugate_10 : decode cX3_conjugate 10 = .ok (.ifCond .eq 11, 3) := dk_153 0 11 (dk_at dksX3_conjugate_0 10 rfl rfl)
theorem dX3_conjugate_13 : decode cX3_conjugate 13 = .ok (.aload_n 0, 1) := dk_42 (dk_at dksX3_conjugate_0 13 rfl rfl)
theorem dX3_conjugate_14 : decode cX3_conjugate 14 = .ok (.iload_n 2, 1) := dk_28 (dk_at dksX3_conjugate_0 14 rfl rfl)
theorem dX3_conjugate_15 : decode cX3_conjugate 15 = .ok (.invokevirtual 88, 3) := dk_182 0 88 (dk_at dksX3_conjugate_0 15 rfl rfl)
theorem dX3_conjugate_18 : decode cX3_conjugate 18 = .ok (.ifCond .ne 9, 3) := dk_154 0 9 (dk_at dksX3_conjugate_0 18 rfl rfl)
theorem dX3_conjugate_21 : decode cX3_conjugate 21 = .ok (.aload_n 0, 1) := dk_42 (dk_at dksX3_conjugate_0 21 rfl rfl)
theorem dX3_conjugate_22 : decode cX3_conjugate 22 = .ok (.iconst 1, 1) := dk_4 (dk_at dksX3_conjugate_0 22 rfl rfl)
theorem dX3_conjugate_23 : decode cX3_conjugate 23 = .ok (.invokevirtual 58, 3) := dk_182 0 58 (dk_at dksX3_conjugate_1 0 rfl rfl)
theorem dX3_conjugate_26 : decode cX3_conjugate 26 = .ok (.ireturn, 1) := dk_172 (dk_at dksX3_conjugate_1 3 rfl rfl)
theorem dX3_conjugate_27 : decode cX3_conjugate 27 = .ok (.aload_n 0, 1) := dk_42 (dk_at dksX3_conjugate_1 4 rfl rfl)
theorem dX3_conjugate_28 : decode cX3_conjugate 28 = .ok (.iload_n 1, 1) := dk_27 (dk_at dksX3_conjugate_1 5 rfl rfl)
theorem dX3_conjugate_29 : decode cX3_conjugate 29 = .ok (.iload_n 2, 1) := dk_28 (dk_at dksX3_conjugate_1 6 rfl rfl)
theorem dX3_conjugate_30 : decode cX3_conjugate 30 = .ok (.invokevirtual 94, 3) := dk_182 0 94 (dk_at dksX3_conjugate_1 7 rfl rfl)
theorem dX3_conjugate_33 : decode cX3_conjugate 33 = .ok (.ifCond .ne 9, 3) := dk_154 0 9 (dk_at dksX3_conjugate_1 10 rfl rfl)
theorem dX3_conjugate_36 : decode cX3_conjugate 36 = .ok (.aload_n 0, 1) := dk_42 (dk_at dksX3_conjugate_1 13 rfl rfl)
theorem dX3_conjugate_37 : decode cX3_conjugate 37 = .ok (.iconst 2, 1) := dk_5 (dk_at dksX3_conjugate_1 14 rfl rfl)
theorem dX3_conjugate_38 : decode cX3_conjugate 38 = .ok (.invokevirtual 58, 3) := dk_182 0 58 (dk_at dksX3_conjugate_1 15 rfl rfl)
theorem dX3_conjugate_41 : decode cX3_conjugate 41 = .ok (.ireturn, 1) := dk_172 (dk_at dksX3_conjugate_1 18 rfl rfl)
theorem dX3_conjugate_42 : decode cX3_conjugate 42 = .ok (.aload_n 0, 1) := dk_42 (dk_at dksX3_conjugate_1 19 rfl rfl)
theorem dX3_conjugate_43 : decode cX3_conjugate 43 = .ok (.iload_n 1, 1) := dk_27 (dk_at dksX3_conjugate_1 20 rfl rfl)
theorem dX3_conjugate_44 : decode cX3_conjugate 44 = .ok (.aload_n 0, 1) := dk_42 (dk_at dksX3_conjugate_1 21 rfl rfl)
theorem dX3_conjugate_45 : decode cX3_conjugate 45 = .ok (.iload_n 1, 1) := dk_27 (dk_at dksX3_conjugate_1 22 rfl rfl)
theorem dX3_conjugate_46 : decode cX3_conjugate 46 = .ok (.invokevirtual 106, 3) := dk_182 0 106 (dk_at dksX3_conjugate_2 0 rfl rfl)
theorem dX3_conjugate_49 : decode cX3_conjugate 49 = .ok (.aload_n 0, 1) := dk_42 (dk_at dksX3_conjugate_2 3 rfl rfl)
theorem dX3_conjugate_50 : decode cX3_conjugate 50 = .ok (.iload_n 2, 1) := dk_28 (dk_at dksX3_conjugate_2 4 rfl rfl)
theorem dX3_conjugate_51 : decode cX3_conjugate 51 = .ok (.invokevirtual 91, 3) := dk_182 0 91 (dk_at dksX3_conjugate_2 5 rfl rfl)
theorem dX3_conjugate_54 : decode cX3_conjugate 54 = .ok (.invokevirtual 118, 3) := dk_182 0 118 (dk_at dksX3_conjugate_2 8 rfl rfl)
theorem dX3_conjugate_57 : decode cX3_conjugate 57 = .ok (.invokevirtual 102, 3) := dk_182 0 102 (dk_at dksX3_conjugate_2 11 rfl rfl)
theorem dX3_conjugate_60 : decode cX3_conjugate 60 = .ok (.ireturn, 1) := dk_172 (dk_at dksX3_conjugate_2 14 rfl rfl)
abbrev cX3_power : ByteArray := prog_11_method_28_code
def yX3_power : MethodName := ⟨RX3, "power", "(III)I"⟩
def dkwX3_power_3 : List UInt8 := [172]
abbrev dktX3_power_3 : List UInt8 := dkwX3_power_3 ++ []
def dkwX3_power_2 : List UInt8 := [5, 182, 0, 58, 172, 42, 27, 42, 27, 182, 0, 106, 42, 28, 182, 0, 91, 29, 182, 0, 122, 182, 0, 102]
abbrev dktX3_power_2 : List UInt8 := dkwX3_power_2 ++ dktX3_power_3
def dkwX3_power_1 : List UInt8 := [182, 0, 58, 172, 42, 27, 28, 182, 0, 94, 153, 0, 13, 29, 3, 16, 60, 184, 0, 36, 154, 0, 9, 42]
abbrev dktX3_power_1 : List UInt8 := dkwX3_power_1 ++ dktX3_power_2
def dkwX3_power_0 : List UInt8 := [42, 3, 181, 0, 23, 42, 27, 182, 0, 88, 153, 0, 11, 42, 28, 182, 0, 88, 154, 0, 9, 42, 4]
abbrev dktX3_power_0 : List UInt8 := dkwX3_power_0 ++ dktX3_power_1
theorem dksX3_power_0 : cX3_power.data.toList.drop 0 = dktX3_power_0 := by decide +kernel
theorem dksX3_power_1 : cX3_power.data.toList.drop 23 = dktX3_power_1 := dk_seg dksX3_power_0 23 rfl rfl
theorem dksX3_power_2 : cX3_power.data.toList.drop 47 = dktX3_power_2 := dk_seg dksX3_power_1 24 rfl rfl
theorem dksX3_power_3 : cX3_power.data.toList.drop 71 = dktX3_power_3 := dk_seg dksX3_power_2 24 rfl rfl
theorem dX3_power_0 : decode cX3_power 0 = .ok (.aload_n 0, 1) := dk_42 (dk_at dksX3_power_0 0 rfl rfl)
theorem dX3_power_1 : decode cX3_power 1 = .ok (.iconst 0, 1) := dk_3 (dk_at dksX3_power_0 1 rfl rfl)
theorem dX3_power_2 : decode cX3_power 2 = .ok (.putfield 23, 3) := dk_181 0 23 (dk_at dksX3_power_0 2 rfl rfl)
theorem dX3_power_5 : decode cX3_power 5 = .ok (.aload_n 0, 1) := dk_42 (dk_at dksX3_power_0 5 rfl rfl)
theorem dX3_power_6 : decode cX3_power 6 = .ok (.iload_n 1, 1) := dk_27 (dk_at dksX3_power_0 6 rfl rfl)
theorem dX3_power_7 : decode cX3_power 7 = .ok (.invokevirtual 88, 3) := dk_182 0 88 (dk_at dksX3_power_0 7 rfl rfl)
theorem dX3_power_10 : decode cX3_power 10 = .ok (.ifCond .eq 11, 3) := dk_153 0 11 (dk_at dksX3_power_0 10 rfl rfl)
theorem dX3_power_13 : decode cX3_power 13 = .ok (.aload_n 0, 1) := dk_42 (dk_at dksX3_power_0 13 rfl rfl)
theorem dX3_power_14 : decode cX3_power 14 = .ok (.iload_n 2, 1) := dk_28 (dk_at dksX3_power_0 14 rfl rfl)
theorem dX3_power_15 : decode cX3_power 15 = .ok (.invokevirtual 88, 3) := dk_182 0 88 (dk_at dksX3_power_0 15 rfl rfl)
theorem dX3_power_18 : decode cX3_power 18 = .ok (.ifCond .ne 9, 3) := dk_154 0 9 (dk_at dksX3_power_0 18 rfl rfl)
theorem dX3_power_21 : decode cX3_power 21 = .ok (.aload_n 0, 1) := dk_42 (dk_at dksX3_power_0 21 rfl rfl)
theorem dX3_power_22 : decode cX3_power 22 = .ok (.iconst 1, 1) := dk_4 (dk_at dksX3_power_0 22 rfl rfl)
theorem dX3_power_23 : decode cX3_power 23 = .ok (.invokevirtual 58, 3) := dk_182 0 58 (dk_at dksX3_power_1 0 rfl rfl)
theorem dX3_power_26 : decode cX3_power 26 = .ok (.ireturn, 1) := dk_172 (dk_at dksX3_power_1 3 rfl rfl)
theorem dX3_power_27 : decode cX3_power 27 = .ok (.aload_n 0, 1) := dk_42 (dk_at dksX3_power_1 4 rfl rfl)
theorem dX3_power_28 : decode cX3_power 28 = .ok (.iload_n 1, 1) := dk_27 (dk_at dksX3_power_1 5 rfl rfl)
theorem dX3_power_29 : decode cX3_power 29 = .ok (.iload_n 2, 1) := dk_28 (dk_at dksX3_power_1 6 rfl rfl)
theorem dX3_power_30 : decode cX3_power 30 = .ok (.invokevirtual 94, 3) := dk_182 0 94 (dk_at dksX3_power_1 7 rfl rfl)
theorem dX3_power_33 : decode cX3_power 33 = .ok (.ifCond .eq 13, 3) := dk_153 0 13 (dk_at dksX3_power_1 10 rfl rfl)
theorem dX3_power_36 : decode cX3_power 36 = .ok (.iload_n 3, 1) := dk_29 (dk_at dksX3_power_1 13 rfl rfl)
theorem dX3_power_37 : decode cX3_power 37 = .ok (.iconst 0, 1) := dk_3 (dk_at dksX3_power_1 14 rfl rfl)
theorem dX3_power_38 : decode cX3_power 38 = .ok (.bipush 60, 2) := dk_16 60 (dk_at dksX3_power_1 15 rfl rfl)
theorem dX3_power_40 : decode cX3_power 40 = .ok (.invokestatic 36, 3) := dk_184 0 36 (dk_at dksX3_power_1 17 rfl rfl)
theorem dX3_power_43 : decode cX3_power 43 = .ok (.ifCond .ne 9, 3) := dk_154 0 9 (dk_at dksX3_power_1 20 rfl rfl)
theorem dX3_power_46 : decode cX3_power 46 = .ok (.aload_n 0, 1) := dk_42 (dk_at dksX3_power_1 23 rfl rfl)
theorem dX3_power_47 : decode cX3_power 47 = .ok (.iconst 2, 1) := dk_5 (dk_at dksX3_power_2 0 rfl rfl)
theorem dX3_power_48 : decode cX3_power 48 = .ok (.invokevirtual 58, 3) := dk_182 0 58 (dk_at dksX3_power_2 1 rfl rfl)
theorem dX3_power_51 : decode cX3_power 51 = .ok (.ireturn, 1) := dk_172 (dk_at dksX3_power_2 4 rfl rfl)
theorem dX3_power_52 : decode cX3_power 52 = .ok (.aload_n 0, 1) := dk_42 (dk_at dksX3_power_2 5 rfl rfl)
theorem dX3_power_53 : decode cX3_power 53 = .ok (.iload_n 1, 1) := dk_27 (dk_at dksX3_power_2 6 rfl rfl)
theorem dX3_power_54 : decode cX3_power 54 = .ok (.aload_n 0, 1) := dk_42 (dk_at dksX3_power_2 7 rfl rfl)
theorem dX3_power_55 : decode cX3_power 55 = .ok (.iload_n 1, 1) := dk_27 (dk_at dksX3_power_2 8 rfl rfl)
theorem dX3_power_56 : decode cX3_power 56 = .ok (.invokevirtual 106, 3) := dk_182 0 106 (dk_at dksX3_power_2 9 rfl rfl)
theorem dX3_power_59 : decode cX3_power 59 = .ok (.aload_n 0, 1) := dk_42 (dk_at dksX3_power_2 12 rfl rfl)
theorem dX3_power_60 : decode cX3_power 60 = .ok (.iload_n 2, 1) := dk_28 (dk_at dksX3_power_2 13 rfl rfl)
theorem dX3_power_61 : decode cX3_power 61 = .ok (.invokevirtual 91, 3) := dk_182 0 91 (dk_at dksX3_power_2 14 rfl rfl)
theorem dX3_power_64 : decode cX3_power 64 = .ok (.iload_n 3, 1) := dk_29 (dk_at dksX3_power_2 17 rfl rfl)
theorem dX3_power_65 : decode cX3_power 65 = .ok (.invokevirtual 122, 3) := dk_182 0 122 (dk_at dksX3_power_2 18 rfl rfl)
theorem dX3_power_68 : decode cX3_power 68 = .ok (.invokevirtual 102, 3) := dk_182 0 102 (dk_at dksX3_power_2 21 rfl rfl)
theorem dX3_power_71 : decode cX3_power 71 = .ok (.ireturn, 1) := dk_172 (dk_at dksX3_power_3 0 rfl rfl)
abbrev cX3_invert : ByteArray := prog_11_method_29_code
def yX3_invert : MethodName := ⟨RX3, "invert", "(II)I"⟩
def dkwX3_invert_4 : List UInt8 := [27, 42, 27, 182, 0, 106, 45, 42, 25, 4, 3, 46, 182, 0, 129, 182, 0, 114, 182, 0, 102, 172]
abbrev dktX3_invert_4 : List UInt8 := dkwX3_invert_4 ++ []
def dkwX3_invert_3 : List UInt8 := [58, 4, 25, 4, 184, 0, 125, 153, 0, 10, 25, 4, 3, 46, 154, 0, 9, 42, 6, 182, 0, 58, 172, 42]
abbrev dktX3_invert_3 : List UInt8 := dkwX3_invert_3 ++ dktX3_invert_4
def dkwX3_invert_2 : List UInt8 := [42, 28, 182, 0, 91, 182, 0, 118, 78, 42, 28, 182, 0, 106, 42, 28, 182, 0, 91, 45, 182, 0, 110]
abbrev dktX3_invert_2 : List UInt8 := dkwX3_invert_2 ++ dktX3_invert_3
def dkwX3_invert_1 : List UInt8 := [182, 0, 58, 172, 42, 27, 28, 182, 0, 94, 154, 0, 9, 42, 5, 182, 0, 58, 172, 42, 28, 182, 0, 106]
abbrev dktX3_invert_1 : List UInt8 := dkwX3_invert_1 ++ dktX3_invert_2
def dkwX3_invert_0 : List UInt8 := [42, 3, 181, 0, 23, 42, 27, 182, 0, 88, 153, 0, 11, 42, 28, 182, 0, 88, 154, 0, 9, 42, 4]
abbrev dktX3_invert_0 : List UInt8 := dkwX3_invert_0 ++ dktX3_invert_1
theorem dksX3_invert_0 : cX3_invert.data.toList.drop 0 = dktX3_invert_0 := by decide +kernel
theorem dksX3_invert_1 : cX3_invert.data.toList.drop 23 = dktX3_invert_1 := dk_seg dksX3_invert_0 23 rfl rfl
theorem dksX3_invert_2 : cX3_invert.data.toList.drop 47 = dktX3_invert_2 := dk_seg dksX3_invert_1 24 rfl rfl
theorem dksX3_invert_3 : cX3_invert.data.toList.drop 70 = dktX3_invert_3 := dk_seg dksX3_invert_2 23 rfl rfl
theorem dksX3_invert_4 : cX3_invert.data.toList.drop 94 = dktX3_invert_4 := dk_seg dksX3_invert_3 24 rfl rfl
theorem dX3_invert_0 : decode cX3_invert 0 = .ok (.aload_n 0, 1) := dk_42 (dk_at dksX3_invert_0 0 rfl rfl)
theorem dX3_invert_1 : decode cX3_invert 1 = .ok (.iconst 0, 1) := dk_3 (dk_at dksX3_invert_0 1 rfl rfl)
theorem dX3_invert_2 : decode cX3_invert 2 = .ok (.putfield 23, 3) := dk_181 0 23 (dk_at dksX3_invert_0 2 rfl rfl)
theorem dX3_invert_5 : decode cX3_invert 5 = .ok (.aload_n 0, 1) := dk_42 (dk_at dksX3_invert_0 5 rfl rfl)
theorem dX3_invert_6 : decode cX3_invert 6 = .ok (.iload_n 1, 1) := dk_27 (dk_at dksX3_invert_0 6 rfl rfl)
theorem dX3_invert_7 : decode cX3_invert 7 = .ok (.invokevirtual 88, 3) := dk_182 0 88 (dk_at dksX3_invert_0 7 rfl rfl)
theorem dX3_invert_10 : decode cX3_invert 10 = .ok (.ifCond .eq 11, 3) := dk_153 0 11 (dk_at dksX3_invert_0 10 rfl rfl)
theorem dX3_invert_13 : decode cX3_invert 13 = .ok (.aload_n 0, 1) := dk_42 (dk_at dksX3_invert_0 13 rfl rfl)
theorem dX3_invert_14 : decode cX3_invert 14 = .ok (.iload_n 2, 1) := dk_28 (dk_at dksX3_invert_0 14 rfl rfl)
theorem dX3_invert_15 : decode cX3_invert 15 = .ok (.invokevirtual 88, 3) := dk_182 0 88 (dk_at dksX3_invert_0 15 rfl rfl)
theorem dX3_invert_18 : decode cX3_invert 18 = .ok (.ifCond .ne 9, 3) := dk_154 0 9 (dk_at dksX3_invert_0 18 rfl rfl)
theorem dX3_invert_21 : decode cX3_invert 21 = .ok (.aload_n 0, 1) := dk_42 (dk_at dksX3_invert_0 21 rfl rfl)
theorem dX3_invert_22 : decode cX3_invert 22 = .ok (.iconst 1, 1) := dk_4 (dk_at dksX3_invert_0 22 rfl rfl)
theorem dX3_invert_23 : decode cX3_invert 23 = .ok (.invokevirtual 58, 3) := dk_182 0 58 (dk_at dksX3_invert_1 0 rfl rfl)
theorem dX3_invert_26 : decode cX3_invert 26 = .ok (.ireturn, 1) := dk_172 (dk_at dksX3_invert_1 3 rfl rfl)
theorem dX3_invert_27 : decode cX3_invert 27 = .ok (.aload_n 0, 1) := dk_42 (dk_at dksX3_invert_1 4 rfl rfl)
theorem dX3_invert_28 : decode cX3_invert 28 = .ok (.iload_n 1, 1) := dk_27 (dk_at dksX3_invert_1 5 rfl rfl)
theorem dX3_invert_29 : decode cX3_invert 29 = .ok (.iload_n 2, 1) := dk_28 (dk_at dksX3_invert_1 6 rfl rfl)
theorem dX3_invert_30 : decode cX3_invert 30 = .ok (.invokevirtual 94, 3) := dk_182 0 94 (dk_at dksX3_invert_1 7 rfl rfl)
theorem dX3_invert_33 : decode cX3_invert 33 = .ok (.ifCond .ne 9, 3) := dk_154 0 9 (dk_at dksX3_invert_1 10 rfl rfl)
theorem dX3_invert_36 : decode cX3_invert 36 = .ok (.aload_n 0, 1) := dk_42 (dk_at dksX3_invert_1 13 rfl rfl)
theorem dX3_invert_37 : decode cX3_invert 37 = .ok (.iconst 2, 1) := dk_5 (dk_at dksX3_invert_1 14 rfl rfl)
theorem dX3_invert_38 : decode cX3_invert 38 = .ok (.invokevirtual 58, 3) := dk_182 0 58 (dk_at dksX3_invert_1 15 rfl rfl)
theorem dX3_invert_41 : decode cX3_invert 41 = .ok (.ireturn, 1) := dk_172 (dk_at dksX3_invert_1 18 rfl rfl)
theorem dX3_invert_42 : decode cX3_invert 42 = .ok (.aload_n 0, 1) := dk_42 (dk_at dksX3_invert_1 19 rfl rfl)
theorem dX3_invert_43 : decode cX3_invert 43 = .ok (.iload_n 2, 1) := dk_28 (dk_at dksX3_invert_1 20 rfl rfl)
theorem dX3_invert_44 : decode cX3_invert 44 = .ok (.invokevirtual 106, 3) := dk_182 0 106 (dk_at dksX3_invert_1 21 rfl rfl)
theorem dX3_invert_47 : decode cX3_invert 47 = .ok (.aload_n 0, 1) := dk_42 (dk_at dksX3_invert_2 0 rfl rfl)
theorem dX3_invert_48 : decode cX3_invert 48 = .ok (.iload_n 2, 1) := dk_28 (dk_at dksX3_invert_2 1 rfl rfl)
theorem dX3_invert_49 : decode cX3_invert 49 = .ok (.invokevirtual 91, 3) := dk_182 0 91 (dk_at dksX3_invert_2 2 rfl rfl)
theorem dX3_invert_52 : decode cX3_invert 52 = .ok (.invokevirtual 118, 3) := dk_182 0 118 (dk_at dksX3_invert_2 5 rfl rfl)
theorem dX3_invert_55 : decode cX3_invert 55 = .ok (.astore_n 3, 1) := dk_78 (dk_at dksX3_invert_2 8 rfl rfl)
theorem dX3_invert_56 : decode cX3_invert 56 = .ok (.aload_n 0, 1) := dk_42 (dk_at dksX3_invert_2 9 rfl rfl)
theorem dX3_invert_57 : decode cX3_invert 57 = .ok (.iload_n 2, 1) := dk_28 (dk_at dksX3_invert_2 10 rfl rfl)
theorem dX3_invert_58 : decode cX3_invert 58 = .ok (.invokevirtual 106, 3) := dk_182 0 106 (dk_at dksX3_invert_2 11 rfl rfl)
theorem dX3_invert_61 : decode cX3_invert 61 = .ok (.aload_n 0, 1) := dk_42 (dk_at dksX3_invert_2 14 rfl rfl)
theorem dX3_invert_62 : decode cX3_invert 62 = .ok (.iload_n 2, 1) := dk_28 (dk_at dksX3_invert_2 15 rfl rfl)
theorem dX3_invert_63 : decode cX3_invert 63 = .ok (.invokevirtual 91, 3) := dk_182 0 91 (dk_at dksX3_invert_2 16 rfl rfl)
theorem dX3_invert_66 : decode cX3_invert 66 = .ok (.aload_n 3, 1) := dk_45 (dk_at dksX3_invert_2 19 rfl rfl)
theorem dX3_invert_67 : decode cX3_invert 67 = .ok (.invokevirtual 110, 3) := dk_182 0 110 (dk_at dksX3_invert_2 20 rfl rfl)
theorem dX3_invert_70 : decode cX3_invert 70 = .ok (.astore 4, 2) := dk_58 4 (dk_at dksX3_invert_3 0 rfl rfl)
theorem dX3_invert_72 : decode cX3_invert 72 = .ok (.aload 4, 2) := dk_25 4 (dk_at dksX3_invert_3 2 rfl rfl)
theorem dX3_invert_74 : decode cX3_invert 74 = .ok (.invokestatic 125, 3) := dk_184 0 125 (dk_at dksX3_invert_3 4 rfl rfl)
theorem dX3_invert_77 : decode cX3_invert 77 = .ok (.ifCond .eq 10, 3) := dk_153 0 10 (dk_at dksX3_invert_3 7 rfl rfl)
theorem dX3_invert_80 : decode cX3_invert 80 = .ok (.aload 4, 2) := dk_25 4 (dk_at dksX3_invert_3 10 rfl rfl)
theorem dX3_invert_82 : decode cX3_invert 82 = .ok (.iconst 0, 1) := dk_3 (dk_at dksX3_invert_3 12 rfl rfl)
theorem dX3_invert_83 : decode cX3_invert 83 = .ok (.iaload, 1) := dk_46 (dk_at dksX3_invert_3 13 rfl rfl)
theorem dX3_invert_84 : decode cX3_invert 84 = .ok (.ifCond .ne 9, 3) := dk_154 0 9 (dk_at dksX3_invert_3 14 rfl rfl)
theorem dX3_invert_87 : decode cX3_invert 87 = .ok (.aload_n 0, 1) := dk_42 (dk_at dksX3_invert_3 17 rfl rfl)
theorem dX3_invert_88 : decode cX3_invert 88 = .ok (.iconst 3, 1) := dk_6 (dk_at dksX3_invert_3 18 rfl rfl)
theorem dX3_invert_89 : decode cX3_invert 89 = .ok (.invokevirtual 58, 3) := dk_182 0 58 (dk_at dksX3_invert_3 19 rfl rfl)
theorem dX3_invert_92 : decode cX3_invert 92 = .ok (.ireturn, 1) := dk_172 (dk_at dksX3_invert_3 22 rfl rfl)
theorem dX3_invert_93 : decode cX3_invert 93 = .ok (.aload_n 0, 1) := dk_42 (dk_at dksX3_invert_3 23 rfl rfl)
theorem dX3_invert_94 : decode cX3_invert 94 = .ok (.iload_n 1, 1) := dk_27 (dk_at dksX3_invert_4 0 rfl rfl)
theorem dX3_invert_95 : decode cX3_invert 95 = .ok (.aload_n 0, 1) := dk_42 (dk_at dksX3_invert_4 1 rfl rfl)
theorem dX3_invert_96 : decode cX3_invert 96 = .ok (.iload_n 1, 1) := dk_27 (dk_at dksX3_invert_4 2 rfl rfl)
theorem dX3_invert_97 : decode cX3_invert 97 = .ok (.invokevirtual 106, 3) := dk_182 0 106 (dk_at dksX3_invert_4 3 rfl rfl)
theorem dX3_invert_100 : decode cX3_invert 100 = .ok (.aload_n 3, 1) := dk_45 (dk_at dksX3_invert_4 6 rfl rfl)
theorem dX3_invert_101 : decode cX3_invert 101 = .ok (.aload_n 0, 1) := dk_42 (dk_at dksX3_invert_4 7 rfl rfl)
theorem dX3_invert_102 : decode cX3_invert 102 = .ok (.aload 4, 2) := dk_25 4 (dk_at dksX3_invert_4 8 rfl rfl)
theorem dX3_invert_104 : decode cX3_invert 104 = .ok (.iconst 0, 1) := dk_3 (dk_at dksX3_invert_4 10 rfl rfl)
theorem dX3_invert_105 : decode cX3_invert 105 = .ok (.iaload, 1) := dk_46 (dk_at dksX3_invert_4 11 rfl rfl)
theorem dX3_invert_106 : decode cX3_invert 106 = .ok (.invokevirtual 129, 3) := dk_182 0 129 (dk_at dksX3_invert_4 12 rfl rfl)
theorem dX3_invert_109 : decode cX3_invert 109 = .ok (.invokevirtual 114, 3) := dk_182 0 114 (dk_at dksX3_invert_4 15 rfl rfl)
theorem dX3_invert_112 : decode cX3_invert 112 = .ok (.invokevirtual 102, 3) := dk_182 0 102 (dk_at dksX3_invert_4 18 rfl rfl)
theorem dX3_invert_115 : decode cX3_invert 115 = .ok (.ireturn, 1) := dk_172 (dk_at dksX3_invert_4 21 rfl rfl)
abbrev cX3_isPlain : ByteArray := prog_11_method_14_code
def yX3_isPlain : MethodName := ⟨RX3, "isPlain", "([I)Z"⟩
def dkwX3_isPlain_0 : List UInt8 := [42, 184, 0, 55, 42, 3, 46, 158, 0, 7, 4, 167, 0, 4, 3, 160, 0, 7, 4, 167, 0, 4, 3, 172]
abbrev dktX3_isPlain_0 : List UInt8 := dkwX3_isPlain_0 ++ []
theorem dksX3_isPlain_0 : cX3_isPlain.data.toList.drop 0 = dktX3_isPlain_0 := by decide +kernel
theorem dX3_isPlain_0 : decode cX3_isPlain 0 = .ok (.aload_n 0, 1) := dk_42 (dk_at dksX3_isPlain_0 0 rfl rfl)
theorem dX3_isPlain_1 : decode cX3_isPlain 1 = .ok (.invokestatic 55, 3) := dk_184 0 55 (dk_at dksX3_isPlain_0 1 rfl rfl)
theorem dX3_isPlain_4 : decode cX3_isPlain 4 = .ok (.aload_n 0, 1) := dk_42 (dk_at dksX3_isPlain_0 4 rfl rfl)
theorem dX3_isPlain_5 : decode cX3_isPlain 5 = .ok (.iconst 0, 1) := dk_3 (dk_at dksX3_isPlain_0 5 rfl rfl)
theorem dX3_isPlain_6 : decode cX3_isPlain 6 = .ok (.iaload, 1) := dk_46 (dk_at dksX3_isPlain_0 6 rfl rfl)
theorem dX3_isPlain_7 : decode cX3_isPlain 7 = .ok (.ifCond .le 7, 3) := dk_158 0 7 (dk_at dksX3_isPlain_0 7 rfl rfl)
theorem dX3_isPlain_10 : decode cX3_isPlain 10 = .ok (.iconst 1, 1) := dk_4 (dk_at dksX3_isPlain_0 10 rfl rfl)
theorem dX3_isPlain_11 : decode cX3_isPlain 11 = .ok (.goto 4, 3) := dk_167 0 4 (dk_at dksX3_isPlain_0 11 rfl rfl)
theorem dX3_isPlain_14 : decode cX3_isPlain 14 = .ok (.iconst 0, 1) := dk_3 (dk_at dksX3_isPlain_0 14 rfl rfl)
theorem dX3_isPlain_15 : decode cX3_isPlain 15 = .ok (.if_icmp .ne 7, 3) := dk_160 0 7 (dk_at dksX3_isPlain_0 15 rfl rfl)
theorem dX3_isPlain_18 : decode cX3_isPlain 18 = .ok (.iconst 1, 1) := dk_4 (dk_at dksX3_isPlain_0 18 rfl rfl)
theorem dX3_isPlain_19 : decode cX3_isPlain 19 = .ok (.goto 4, 3) := dk_167 0 4 (dk_at dksX3_isPlain_0 19 rfl rfl)
theorem dX3_isPlain_22 : decode cX3_isPlain 22 = .ok (.iconst 0, 1) := dk_3 (dk_at dksX3_isPlain_0 22 rfl rfl)
theorem dX3_isPlain_23 : decode cX3_isPlain 23 = .ok (.ireturn, 1) := dk_172 (dk_at dksX3_isPlain_0 23 rfl rfl)
abbrev cX3_inverse : ByteArray := prog_11_method_6_code
def yX3_inverse : MethodName := ⟨RX3, "inverse", "(I)I"⟩
def dkwX3_inverse_0 : List UInt8 := [4, 61, 42, 28, 27, 104, 182, 0, 26, 4, 159, 0, 9, 132, 2, 1, 167, 255, 242, 28, 172]
abbrev dktX3_inverse_0 : List UInt8 := dkwX3_inverse_0 ++ []
theorem dksX3_inverse_0 : cX3_inverse.data.toList.drop 0 = dktX3_inverse_0 := by decide +kernel
theorem dX3_inverse_0 : decode cX3_inverse 0 = .ok (.iconst 1, 1) := dk_4 (dk_at dksX3_inverse_0 0 rfl rfl)
theorem dX3_inverse_1 : decode cX3_inverse 1 = .ok (.istore_n 2, 1) := dk_61 (dk_at dksX3_inverse_0 1 rfl rfl)
theorem dX3_inverse_2 : decode cX3_inverse 2 = .ok (.aload_n 0, 1) := dk_42 (dk_at dksX3_inverse_0 2 rfl rfl)
theorem dX3_inverse_3 : decode cX3_inverse 3 = .ok (.iload_n 2, 1) := dk_28 (dk_at dksX3_inverse_0 3 rfl rfl)
theorem dX3_inverse_4 : decode cX3_inverse 4 = .ok (.iload_n 1, 1) := dk_27 (dk_at dksX3_inverse_0 4 rfl rfl)
theorem dX3_inverse_5 : decode cX3_inverse 5 = .ok (.imul, 1) := dk_104 (dk_at dksX3_inverse_0 5 rfl rfl)
theorem dX3_inverse_6 : decode cX3_inverse 6 = .ok (.invokevirtual 26, 3) := dk_182 0 26 (dk_at dksX3_inverse_0 6 rfl rfl)
theorem dX3_inverse_9 : decode cX3_inverse 9 = .ok (.iconst 1, 1) := dk_4 (dk_at dksX3_inverse_0 9 rfl rfl)
theorem dX3_inverse_10 : decode cX3_inverse 10 = .ok (.if_icmp .eq 9, 3) := dk_159 0 9 (dk_at dksX3_inverse_0 10 rfl rfl)
theorem dX3_inverse_13 : decode cX3_inverse 13 = .ok (.iinc 2 1, 3) := dk_132 2 1 (dk_at dksX3_inverse_0 13 rfl rfl)
theorem dX3_inverse_16 : decode cX3_inverse 16 = .ok (.goto (-14), 3) := dk_167 255 242 (dk_at dksX3_inverse_0 16 rfl rfl)
theorem dX3_inverse_19 : decode cX3_inverse 19 = .ok (.iload_n 2, 1) := dk_28 (dk_at dksX3_inverse_0 19 rfl rfl)
theorem dX3_inverse_20 : decode cX3_inverse 20 = .ok (.ireturn, 1) := dk_172 (dk_at dksX3_inverse_0 20 rfl rfl)
abbrev cX3_series : ByteArray := prog_11_method_31_code
def yX3_series : MethodName := ⟨RX3, "series", "(II)I"⟩
def dkwX3_series_5 : List UInt8 := [182, 0, 98, 58, 4, 132, 6, 1, 167, 255, 207, 42, 27, 25, 4, 182, 0, 102, 172]
abbrev dktX3_series_5 : List UInt8 := dkwX3_series_5 ++ []
def dkwX3_series_4 : List UInt8 := [54, 5, 42, 25, 4, 42, 28, 182, 0, 106, 42, 28, 182, 0, 91, 21, 6, 182, 0, 122, 21, 5]
abbrev dktX3_series_4 : List UInt8 := dkwX3_series_4 ++ dktX3_series_5
def dkwX3_series_3 : List UInt8 := [54, 5, 4, 54, 6, 21, 6, 29, 162, 0, 49, 42, 21, 5, 42, 21, 6, 182, 0, 129, 104, 182, 0, 26]
abbrev dktX3_series_3 : List UInt8 := dkwX3_series_3 ++ dktX3_series_4
def dkwX3_series_2 : List UInt8 := [62, 29, 2, 160, 0, 9, 42, 6, 182, 0, 58, 172, 42, 28, 182, 0, 106, 182, 0, 132, 58, 4, 4]
abbrev dktX3_series_2 : List UInt8 := dkwX3_series_2 ++ dktX3_series_3
def dkwX3_series_1 : List UInt8 := [182, 0, 58, 172, 42, 27, 28, 182, 0, 94, 154, 0, 9, 42, 5, 182, 0, 58, 172, 42, 28, 182, 0, 136]
abbrev dktX3_series_1 : List UInt8 := dkwX3_series_1 ++ dktX3_series_2
def dkwX3_series_0 : List UInt8 := [42, 3, 181, 0, 23, 42, 27, 182, 0, 88, 153, 0, 11, 42, 28, 182, 0, 88, 154, 0, 9, 42, 4]
abbrev dktX3_series_0 : List UInt8 := dkwX3_series_0 ++ dktX3_series_1
theorem dksX3_series_0 : cX3_series.data.toList.drop 0 = dktX3_series_0 := by decide +kernel
theorem dksX3_series_1 : cX3_series.data.toList.drop 23 = dktX3_series_1 := dk_seg dksX3_series_0 23 rfl rfl
theorem dksX3_series_2 : cX3_series.data.toList.drop 47 = dktX3_series_2 := dk_seg dksX3_series_1 24 rfl rfl
theorem dksX3_series_3 : cX3_series.data.toList.drop 70 = dktX3_series_3 := dk_seg dksX3_series_2 23 rfl rfl
theorem dksX3_series_4 : cX3_series.data.toList.drop 94 = dktX3_series_4 := dk_seg dksX3_series_3 24 rfl rfl
theorem dksX3_series_5 : cX3_series.data.toList.drop 116 = dktX3_series_5 := dk_seg dksX3_series_4 22 rfl rfl
theorem dX3_series_0 : decode cX3_series 0 = .ok (.aload_n 0, 1) := dk_42 (dk_at dksX3_series_0 0 rfl rfl)
theorem dX3_series_1 : decode cX3_series 1 = .ok (.iconst 0, 1) := dk_3 (dk_at dksX3_series_0 1 rfl rfl)
theorem dX3_series_2 : decode cX3_series 2 = .ok (.putfield 23, 3) := dk_181 0 23 (dk_at dksX3_series_0 2 rfl rfl)
theorem dX3_series_5 : decode cX3_series 5 = .ok (.aload_n 0, 1) := dk_42 (dk_at dksX3_series_0 5 rfl rfl)
theorem dX3_series_6 : decode cX3_series 6 = .ok (.iload_n 1, 1) := dk_27 (dk_at dksX3_series_0 6 rfl rfl)
theorem dX3_series_7 : decode cX3_series 7 = .ok (.invokevirtual 88, 3) := dk_182 0 88 (dk_at dksX3_series_0 7 rfl rfl)
theorem dX3_series_10 : decode cX3_series 10 = .ok (.ifCond .eq 11, 3) := dk_153 0 11 (dk_at dksX3_series_0 10 rfl rfl)
theorem dX3_series_13 : decode cX3_series 13 = .ok (.aload_n 0, 1) := dk_42 (dk_at dksX3_series_0 13 rfl rfl)
theorem dX3_series_14 : decode cX3_series 14 = .ok (.iload_n 2, 1) := dk_28 (dk_at dksX3_series_0 14 rfl rfl)
theorem dX3_series_15 : decode cX3_series 15 = .ok (.invokevirtual 88, 3) := dk_182 0 88 (dk_at dksX3_series_0 15 rfl rfl)
theorem dX3_series_18 : decode cX3_series 18 = .ok (.ifCond .ne 9, 3) := dk_154 0 9 (dk_at dksX3_series_0 18 rfl rfl)
theorem dX3_series_21 : decode cX3_series 21 = .ok (.aload_n 0, 1) := dk_42 (dk_at dksX3_series_0 21 rfl rfl)
theorem dX3_series_22 : decode cX3_series 22 = .ok (.iconst 1, 1) := dk_4 (dk_at dksX3_series_0 22 rfl rfl)
theorem dX3_series_23 : decode cX3_series 23 = .ok (.invokevirtual 58, 3) := dk_182 0 58 (dk_at dksX3_series_1 0 rfl rfl)
theorem dX3_series_26 : decode cX3_series 26 = .ok (.ireturn, 1) := dk_172 (dk_at dksX3_series_1 3 rfl rfl)
theorem dX3_series_27 : decode cX3_series 27 = .ok (.aload_n 0, 1) := dk_42 (dk_at dksX3_series_1 4 rfl rfl)
theorem dX3_series_28 : decode cX3_series 28 = .ok (.iload_n 1, 1) := dk_27 (dk_at dksX3_series_1 5 rfl rfl)
theorem dX3_series_29 : decode cX3_series 29 = .ok (.iload_n 2, 1) := dk_28 (dk_at dksX3_series_1 6 rfl rfl)
theorem dX3_series_30 : decode cX3_series 30 = .ok (.invokevirtual 94, 3) := dk_182 0 94 (dk_at dksX3_series_1 7 rfl rfl)
theorem dX3_series_33 : decode cX3_series 33 = .ok (.ifCond .ne 9, 3) := dk_154 0 9 (dk_at dksX3_series_1 10 rfl rfl)
theorem dX3_series_36 : decode cX3_series 36 = .ok (.aload_n 0, 1) := dk_42 (dk_at dksX3_series_1 13 rfl rfl)
theorem dX3_series_37 : decode cX3_series 37 = .ok (.iconst 2, 1) := dk_5 (dk_at dksX3_series_1 14 rfl rfl)
theorem dX3_series_38 : decode cX3_series 38 = .ok (.invokevirtual 58, 3) := dk_182 0 58 (dk_at dksX3_series_1 15 rfl rfl)
theorem dX3_series_41 : decode cX3_series 41 = .ok (.ireturn, 1) := dk_172 (dk_at dksX3_series_1 18 rfl rfl)
theorem dX3_series_42 : decode cX3_series 42 = .ok (.aload_n 0, 1) := dk_42 (dk_at dksX3_series_1 19 rfl rfl)
theorem dX3_series_43 : decode cX3_series 43 = .ok (.iload_n 2, 1) := dk_28 (dk_at dksX3_series_1 20 rfl rfl)
theorem dX3_series_44 : decode cX3_series 44 = .ok (.invokevirtual 136, 3) := dk_182 0 136 (dk_at dksX3_series_1 21 rfl rfl)
theorem dX3_series_47 : decode cX3_series 47 = .ok (.istore_n 3, 1) := dk_62 (dk_at dksX3_series_2 0 rfl rfl)
theorem dX3_series_48 : decode cX3_series 48 = .ok (.iload_n 3, 1) := dk_29 (dk_at dksX3_series_2 1 rfl rfl)
theorem dX3_series_49 : decode cX3_series 49 = .ok (.iconst (-1), 1) := dk_2 (dk_at dksX3_series_2 2 rfl rfl)
theorem dX3_series_50 : decode cX3_series 50 = .ok (.if_icmp .ne 9, 3) := dk_160 0 9 (dk_at dksX3_series_2 3 rfl rfl)
theorem dX3_series_53 : decode cX3_series 53 = .ok (.aload_n 0, 1) := dk_42 (dk_at dksX3_series_2 6 rfl rfl)
theorem dX3_series_54 : decode cX3_series 54 = .ok (.iconst 3, 1) := dk_6 (dk_at dksX3_series_2 7 rfl rfl)
theorem dX3_series_55 : decode cX3_series 55 = .ok (.invokevirtual 58, 3) := dk_182 0 58 (dk_at dksX3_series_2 8 rfl rfl)
theorem dX3_series_58 : decode cX3_series 58 = .ok (.ireturn, 1) := dk_172 (dk_at dksX3_series_2 11 rfl rfl)
theorem dX3_series_59 : decode cX3_series 59 = .ok (.aload_n 0, 1) := dk_42 (dk_at dksX3_series_2 12 rfl rfl)
theorem dX3_series_60 : decode cX3_series 60 = .ok (.iload_n 2, 1) := dk_28 (dk_at dksX3_series_2 13 rfl rfl)
theorem dX3_series_61 : decode cX3_series 61 = .ok (.invokevirtual 106, 3) := dk_182 0 106 (dk_at dksX3_series_2 14 rfl rfl)
theorem dX3_series_64 : decode cX3_series 64 = .ok (.invokevirtual 132, 3) := dk_182 0 132 (dk_at dksX3_series_2 17 rfl rfl)
theorem dX3_series_67 : decode cX3_series 67 = .ok (.astore 4, 2) := dk_58 4 (dk_at dksX3_series_2 20 rfl rfl)
theorem dX3_series_69 : decode cX3_series 69 = .ok (.iconst 1, 1) := dk_4 (dk_at dksX3_series_2 22 rfl rfl)
theorem dX3_series_70 : decode cX3_series 70 = .ok (.istore 5, 2) := dk_54 5 (dk_at dksX3_series_3 0 rfl rfl)
theorem dX3_series_72 : decode cX3_series 72 = .ok (.iconst 1, 1) := dk_4 (dk_at dksX3_series_3 2 rfl rfl)
theorem dX3_series_73 : decode cX3_series 73 = .ok (.istore 6, 2) := dk_54 6 (dk_at dksX3_series_3 3 rfl rfl)
theorem dX3_series_75 : decode cX3_series 75 = .ok (.iload 6, 2) := dk_21 6 (dk_at dksX3_series_3 5 rfl rfl)
theorem dX3_series_77 : decode cX3_series 77 = .ok (.iload_n 3, 1) := dk_29 (dk_at dksX3_series_3 7 rfl rfl)
theorem dX3_series_78 : decode cX3_series 78 = .ok (.if_icmp .ge 49, 3) := dk_162 0 49 (dk_at dksX3_series_3 8 rfl rfl)
theorem dX3_series_81 : decode cX3_series 81 = .ok (.aload_n 0, 1) := dk_42 (dk_at dksX3_series_3 11 rfl rfl)
theorem dX3_series_82 : decode cX3_series 82 = .ok (.iload 5, 2) := dk_21 5 (dk_at dksX3_series_3 12 rfl rfl)
theorem dX3_series_84 : decode cX3_series 84 = .ok (.aload_n 0, 1) := dk_42 (dk_at dksX3_series_3 14 rfl rfl)
theorem dX3_series_85 : decode cX3_series 85 = .ok (.iload 6, 2) := dk_21 6 (dk_at dksX3_series_3 15 rfl rfl)
theorem dX3_series_87 : decode cX3_series 87 = .ok (.invokevirtual 129, 3) := dk_182 0 129 (dk_at dksX3_series_3 17 rfl rfl)
theorem dX3_series_90 : decode cX3_series 90 = .ok (.imul, 1) := dk_104 (dk_at dksX3_series_3 20 rfl rfl)
theorem dX3_series_91 : decode cX3_series 91 = .ok (.invokevirtual 26, 3) := dk_182 0 26 (dk_at dksX3_series_3 21 rfl rfl)
theorem dX3_series_94 : decode cX3_series 94 = .ok (.istore 5, 2) := dk_54 5 (dk_at dksX3_series_4 0 rfl rfl)
theorem dX3_series_96 : decode cX3_series 96 = .ok (.aload_n 0, 1) := dk_42 (dk_at dksX3_series_4 2 rfl rfl)
theorem dX3_series_97 : decode cX3_series 97 = .ok (.aload 4, 2) := dk_25 4 (dk_at dksX3_series_4 3 rfl rfl)
theorem dX3_series_99 : decode cX3_series 99 = .ok (.aload_n 0, 1) := dk_42 (dk_at dksX3_series_4 5 rfl rfl)
theorem dX3_series_100 : decode cX3_series 100 = .ok (.iload_n 2, 1) := dk_28 (dk_at dksX3_series_4 6 rfl rfl)
theorem dX3_series_101 : decode cX3_series 101 = .ok (.invokevirtual 106, 3) := dk_182 0 106 (dk_at dksX3_series_4 7 rfl rfl)
theorem dX3_series_104 : decode cX3_series 104 = .ok (.aload_n 0, 1) := dk_42 (dk_at dksX3_series_4 10 rfl rfl)
theorem dX3_series_105 : decode cX3_series 105 = .ok (.iload_n 2, 1) := dk_28 (dk_at dksX3_series_4 11 rfl rfl)
theorem dX3_series_106 : decode cX3_series 106 = .ok (.invokevirtual 91, 3) := dk_182 0 91 (dk_at dksX3_series_4 12 rfl rfl)
theorem dX3_series_109 : decode cX3_series 109 = .ok (.iload 6, 2) := dk_21 6 (dk_at dksX3_series_4 15 rfl rfl)
theorem dX3_series_111 : decode cX3_series 111 = .ok (.invokevirtual 122, 3) := dk_182 0 122 (dk_at dksX3_series_4 17 rfl rfl)
theorem dX3_series_114 : decode cX3_series 114 = .ok (.iload 5, 2) := dk_21 5 (dk_at dksX3_series_4 20 rfl rfl)
theorem dX3_series_116 : decode cX3_series 116 = .ok (.invokevirtual 98, 3) := dk_182 0 98 (dk_at dksX3_series_5 0 rfl rfl)
theorem dX3_series_119 : decode cX3_series 119 = .ok (.astore 4, 2) := dk_58 4 (dk_at dksX3_series_5 3 rfl rfl)
theorem dX3_series_121 : decode cX3_series 121 = .ok (.iinc 6 1, 3) := dk_132 6 1 (dk_at dksX3_series_5 5 rfl rfl)
theorem dX3_series_124 : decode cX3_series 124 = .ok (.goto (-49), 3) := dk_167 255 207 (dk_at dksX3_series_5 8 rfl rfl)
theorem dX3_series_127 : decode cX3_series 127 = .ok (.aload_n 0, 1) := dk_42 (dk_at dksX3_series_5 11 rfl rfl)
theorem dX3_series_128 : decode cX3_series 128 = .ok (.iload_n 1, 1) := dk_27 (dk_at dksX3_series_5 12 rfl rfl)
theorem dX3_series_129 : decode cX3_series 129 = .ok (.aload 4, 2) := dk_25 4 (dk_at dksX3_series_5 13 rfl rfl)
theorem dX3_series_131 : decode cX3_series 131 = .ok (.invokevirtual 102, 3) := dk_182 0 102 (dk_at dksX3_series_5 15 rfl rfl)
theorem dX3_series_134 : decode cX3_series 134 = .ok (.ireturn, 1) := dk_172 (dk_at dksX3_series_5 18 rfl rfl)
abbrev cX3_nilOf : ByteArray := prog_11_method_30_code
def yX3_nilOf : MethodName := ⟨RX3, "nilOf", "(I)I"⟩
def dkwX3_nilOf_2 : List UInt8 := [167, 255, 221, 2, 172]
abbrev dktX3_nilOf_2 : List UInt8 := dkwX3_nilOf_2 ++ []
def dkwX3_nilOf_1 : List UInt8 := [44, 42, 27, 182, 0, 91, 182, 0, 110, 77, 44, 184, 0, 55, 154, 0, 5, 29, 172, 132, 3, 1]
abbrev dktX3_nilOf_1 : List UInt8 := dkwX3_nilOf_1 ++ dktX3_nilOf_2
def dkwX3_nilOf_0 : List UInt8 := [42, 27, 182, 0, 106, 182, 0, 132, 77, 4, 62, 29, 42, 180, 0, 7, 163, 0, 33, 42, 27, 182, 0, 106]
abbrev dktX3_nilOf_0 : List UInt8 := dkwX3_nilOf_0 ++ dktX3_nilOf_1
theorem dksX3_nilOf_0 : cX3_nilOf.data.toList.drop 0 = dktX3_nilOf_0 := by decide +kernel
theorem dksX3_nilOf_1 : cX3_nilOf.data.toList.drop 24 = dktX3_nilOf_1 := dk_seg dksX3_nilOf_0 24 rfl rfl
theorem dksX3_nilOf_2 : cX3_nilOf.data.toList.drop 46 = dktX3_nilOf_2 := dk_seg dksX3_nilOf_1 22 rfl rfl
theorem dX3_nilOf_0 : decode cX3_nilOf 0 = .ok (.aload_n 0, 1) := dk_42 (dk_at dksX3_nilOf_0 0 rfl rfl)
theorem dX3_nilOf_1 : decode cX3_nilOf 1 = .ok (.iload_n 1, 1) := dk_27 (dk_at dksX3_nilOf_0 1 rfl rfl)
theorem dX3_nilOf_2 : decode cX3_nilOf 2 = .ok (.invokevirtual 106, 3) := dk_182 0 106 (dk_at dksX3_nilOf_0 2 rfl rfl)
theorem dX3_nilOf_5 : decode cX3_nilOf 5 = .ok (.invokevirtual 132, 3) := dk_182 0 132 (dk_at dksX3_nilOf_0 5 rfl rfl)
theorem dX3_nilOf_8 : decode cX3_nilOf 8 = .ok (.astore_n 2, 1) := dk_77 (dk_at dksX3_nilOf_0 8 rfl rfl)
theorem dX3_nilOf_9 : decode cX3_nilOf 9 = .ok (.iconst 1, 1) := dk_4 (dk_at dksX3_nilOf_0 9 rfl rfl)
theorem dX3_nilOf_10 : decode cX3_nilOf 10 = .ok (.istore_n 3, 1) := dk_62 (dk_at dksX3_nilOf_0 10 rfl rfl)
theorem dX3_nilOf_11 : decode cX3_nilOf 11 = .ok (.iload_n 3, 1) := dk_29 (dk_at dksX3_nilOf_0 11 rfl rfl)
theorem dX3_nilOf_12 : decode cX3_nilOf 12 = .ok (.aload_n 0, 1) := dk_42 (dk_at dksX3_nilOf_0 12 rfl rfl)
theorem dX3_nilOf_13 : decode cX3_nilOf 13 = .ok (.getfield 7, 3) := dk_180 0 7 (dk_at dksX3_nilOf_0 13 rfl rfl)
theorem dX3_nilOf_16 : decode cX3_nilOf 16 = .ok (.if_icmp .gt 33, 3) := dk_163 0 33 (dk_at dksX3_nilOf_0 16 rfl rfl)
theorem dX3_nilOf_19 : decode cX3_nilOf 19 = .ok (.aload_n 0, 1) := dk_42 (dk_at dksX3_nilOf_0 19 rfl rfl)
theorem dX3_nilOf_20 : decode cX3_nilOf 20 = .ok (.iload_n 1, 1) := dk_27 (dk_at dksX3_nilOf_0 20 rfl rfl)
theorem dX3_nilOf_21 : decode cX3_nilOf 21 = .ok (.invokevirtual 106, 3) := dk_182 0 106 (dk_at dksX3_nilOf_0 21 rfl rfl)
theorem dX3_nilOf_24 : decode cX3_nilOf 24 = .ok (.aload_n 2, 1) := dk_44 (dk_at dksX3_nilOf_1 0 rfl rfl)
theorem dX3_nilOf_25 : decode cX3_nilOf 25 = .ok (.aload_n 0, 1) := dk_42 (dk_at dksX3_nilOf_1 1 rfl rfl)
theorem dX3_nilOf_26 : decode cX3_nilOf 26 = .ok (.iload_n 1, 1) := dk_27 (dk_at dksX3_nilOf_1 2 rfl rfl)
theorem dX3_nilOf_27 : decode cX3_nilOf 27 = .ok (.invokevirtual 91, 3) := dk_182 0 91 (dk_at dksX3_nilOf_1 3 rfl rfl)
theorem dX3_nilOf_30 : decode cX3_nilOf 30 = .ok (.invokevirtual 110, 3) := dk_182 0 110 (dk_at dksX3_nilOf_1 6 rfl rfl)
theorem dX3_nilOf_33 : decode cX3_nilOf 33 = .ok (.astore_n 2, 1) := dk_77 (dk_at dksX3_nilOf_1 9 rfl rfl)
theorem dX3_nilOf_34 : decode cX3_nilOf 34 = .ok (.aload_n 2, 1) := dk_44 (dk_at dksX3_nilOf_1 10 rfl rfl)
theorem dX3_nilOf_35 : decode cX3_nilOf 35 = .ok (.invokestatic 55, 3) := dk_184 0 55 (dk_at dksX3_nilOf_1 11 rfl rfl)
theorem dX3_nilOf_38 : decode cX3_nilOf 38 = .ok (.ifCond .ne 5, 3) := dk_154 0 5 (dk_at dksX3_nilOf_1 14 rfl rfl)
theorem dX3_nilOf_41 : decode cX3_nilOf 41 = .ok (.iload_n 3, 1) := dk_29 (dk_at dksX3_nilOf_1 17 rfl rfl)
theorem dX3_nilOf_42 : decode cX3_nilOf 42 = .ok (.ireturn, 1) := dk_172 (dk_at dksX3_nilOf_1 18 rfl rfl)
theorem dX3_nilOf_43 : decode cX3_nilOf 43 = .ok (.iinc 3 1, 3) := dk_132 3 1 (dk_at dksX3_nilOf_1 19 rfl rfl)
theorem dX3_nilOf_46 : decode cX3_nilOf 46 = .ok (.goto (-35), 3) := dk_167 255 221 (dk_at dksX3_nilOf_2 0 rfl rfl)
theorem dX3_nilOf_49 : decode cX3_nilOf 49 = .ok (.iconst (-1), 1) := dk_2 (dk_at dksX3_nilOf_2 3 rfl rfl)
theorem dX3_nilOf_50 : decode cX3_nilOf 50 = .ok (.ireturn, 1) := dk_172 (dk_at dksX3_nilOf_2 4 rfl rfl)
abbrev cX3_killer : ByteArray := prog_11_method_35_code
def yX3_killer : MethodName := ⟨RX3, "killer", "(II)I"⟩
def dkwX3_killer_5 : List UInt8 := [87, 21, 5, 172]
abbrev dktX3_killer_5 : List UInt8 := dkwX3_killer_5 ++ []
def dkwX3_killer_4 : List UInt8 := [54, 5, 21, 5, 29, 160, 0, 9, 42, 6, 182, 0, 58, 172, 42, 27, 25, 4, 21, 5, 50, 182, 0, 102]
abbrev dktX3_killer_4 : List UInt8 := dkwX3_killer_4 ++ dktX3_killer_5
def dkwX3_killer_3 : List UInt8 := [21, 5, 4, 79, 132, 5, 1, 167, 255, 238, 42, 42, 28, 4, 182, 0, 146, 25, 4, 4, 182, 0, 150]
abbrev dktX3_killer_3 : List UInt8 := dkwX3_killer_3 ++ dktX3_killer_4
def dkwX3_killer_2 : List UInt8 := [190, 62, 29, 29, 197, 0, 144, 2, 58, 4, 3, 54, 5, 21, 5, 29, 162, 0, 18, 25, 4, 21, 5, 50]
abbrev dktX3_killer_2 : List UInt8 := dkwX3_killer_2 ++ dktX3_killer_3
def dkwX3_killer_1 : List UInt8 := [182, 0, 58, 172, 42, 27, 28, 182, 0, 94, 154, 0, 9, 42, 5, 182, 0, 58, 172, 42, 28, 182, 0, 91]
abbrev dktX3_killer_1 : List UInt8 := dkwX3_killer_1 ++ dktX3_killer_2
def dkwX3_killer_0 : List UInt8 := [42, 3, 181, 0, 23, 42, 27, 182, 0, 88, 153, 0, 11, 42, 28, 182, 0, 88, 154, 0, 9, 42, 4]
abbrev dktX3_killer_0 : List UInt8 := dkwX3_killer_0 ++ dktX3_killer_1
theorem dksX3_killer_0 : cX3_killer.data.toList.drop 0 = dktX3_killer_0 := by decide +kernel
theorem dksX3_killer_1 : cX3_killer.data.toList.drop 23 = dktX3_killer_1 := dk_seg dksX3_killer_0 23 rfl rfl
theorem dksX3_killer_2 : cX3_killer.data.toList.drop 47 = dktX3_killer_2 := dk_seg dksX3_killer_1 24 rfl rfl
theorem dksX3_killer_3 : cX3_killer.data.toList.drop 71 = dktX3_killer_3 := dk_seg dksX3_killer_2 24 rfl rfl
theorem dksX3_killer_4 : cX3_killer.data.toList.drop 94 = dktX3_killer_4 := dk_seg dksX3_killer_3 23 rfl rfl
theorem dksX3_killer_5 : cX3_killer.data.toList.drop 118 = dktX3_killer_5 := dk_seg dksX3_killer_4 24 rfl rfl
theorem dX3_killer_0 : decode cX3_killer 0 = .ok (.aload_n 0, 1) := dk_42 (dk_at dksX3_killer_0 0 rfl rfl)
theorem dX3_killer_1 : decode cX3_killer 1 = .ok (.iconst 0, 1) := dk_3 (dk_at dksX3_killer_0 1 rfl rfl)
theorem dX3_killer_2 : decode cX3_killer 2 = .ok (.putfield 23, 3) := dk_181 0 23 (dk_at dksX3_killer_0 2 rfl rfl)
theorem dX3_killer_5 : decode cX3_killer 5 = .ok (.aload_n 0, 1) := dk_42 (dk_at dksX3_killer_0 5 rfl rfl)
theorem dX3_killer_6 : decode cX3_killer 6 = .ok (.iload_n 1, 1) := dk_27 (dk_at dksX3_killer_0 6 rfl rfl)
theorem dX3_killer_7 : decode cX3_killer 7 = .ok (.invokevirtual 88, 3) := dk_182 0 88 (dk_at dksX3_killer_0 7 rfl rfl)
theorem dX3_killer_10 : decode cX3_killer 10 = .ok (.ifCond .eq 11, 3) := dk_153 0 11 (dk_at dksX3_killer_0 10 rfl rfl)
theorem dX3_killer_13 : decode cX3_killer 13 = .ok (.aload_n 0, 1) := dk_42 (dk_at dksX3_killer_0 13 rfl rfl)
theorem dX3_killer_14 : decode cX3_killer 14 = .ok (.iload_n 2, 1) := dk_28 (dk_at dksX3_killer_0 14 rfl rfl)
theorem dX3_killer_15 : decode cX3_killer 15 = .ok (.invokevirtual 88, 3) := dk_182 0 88 (dk_at dksX3_killer_0 15 rfl rfl)
theorem dX3_killer_18 : decode cX3_killer 18 = .ok (.ifCond .ne 9, 3) := dk_154 0 9 (dk_at dksX3_killer_0 18 rfl rfl)
theorem dX3_killer_21 : decode cX3_killer 21 = .ok (.aload_n 0, 1) := dk_42 (dk_at dksX3_killer_0 21 rfl rfl)
theorem dX3_killer_22 : decode cX3_killer 22 = .ok (.iconst 1, 1) := dk_4 (dk_at dksX3_killer_0 22 rfl rfl)
theorem dX3_killer_23 : decode cX3_killer 23 = .ok (.invokevirtual 58, 3) := dk_182 0 58 (dk_at dksX3_killer_1 0 rfl rfl)
theorem dX3_killer_26 : decode cX3_killer 26 = .ok (.ireturn, 1) := dk_172 (dk_at dksX3_killer_1 3 rfl rfl)
theorem dX3_killer_27 : decode cX3_killer 27 = .ok (.aload_n 0, 1) := dk_42 (dk_at dksX3_killer_1 4 rfl rfl)
theorem dX3_killer_28 : decode cX3_killer 28 = .ok (.iload_n 1, 1) := dk_27 (dk_at dksX3_killer_1 5 rfl rfl)
theorem dX3_killer_29 : decode cX3_killer 29 = .ok (.iload_n 2, 1) := dk_28 (dk_at dksX3_killer_1 6 rfl rfl)
theorem dX3_killer_30 : decode cX3_killer 30 = .ok (.invokevirtual 94, 3) := dk_182 0 94 (dk_at dksX3_killer_1 7 rfl rfl)
theorem dX3_killer_33 : decode cX3_killer 33 = .ok (.ifCond .ne 9, 3) := dk_154 0 9 (dk_at dksX3_killer_1 10 rfl rfl)
theorem dX3_killer_36 : decode cX3_killer 36 = .ok (.aload_n 0, 1) := dk_42 (dk_at dksX3_killer_1 13 rfl rfl)
theorem dX3_killer_37 : decode cX3_killer 37 = .ok (.iconst 2, 1) := dk_5 (dk_at dksX3_killer_1 14 rfl rfl)
theorem dX3_killer_38 : decode cX3_killer 38 = .ok (.invokevirtual 58, 3) := dk_182 0 58 (dk_at dksX3_killer_1 15 rfl rfl)
theorem dX3_killer_41 : decode cX3_killer 41 = .ok (.ireturn, 1) := dk_172 (dk_at dksX3_killer_1 18 rfl rfl)
theorem dX3_killer_42 : decode cX3_killer 42 = .ok (.aload_n 0, 1) := dk_42 (dk_at dksX3_killer_1 19 rfl rfl)
theorem dX3_killer_43 : decode cX3_killer 43 = .ok (.iload_n 2, 1) := dk_28 (dk_at dksX3_killer_1 20 rfl rfl)
theorem dX3_killer_44 : decode cX3_killer 44 = .ok (.invokevirtual 91, 3) := dk_182 0 91 (dk_at dksX3_killer_1 21 rfl rfl)
theorem dX3_killer_47 : decode cX3_killer 47 = .ok (.arraylength, 1) := dk_190 (dk_at dksX3_killer_2 0 rfl rfl)
theorem dX3_killer_48 : decode cX3_killer 48 = .ok (.istore_n 3, 1) := dk_62 (dk_at dksX3_killer_2 1 rfl rfl)
theorem dX3_killer_49 : decode cX3_killer 49 = .ok (.iload_n 3, 1) := dk_29 (dk_at dksX3_killer_2 2 rfl rfl)
theorem dX3_killer_50 : decode cX3_killer 50 = .ok (.iload_n 3, 1) := dk_29 (dk_at dksX3_killer_2 3 rfl rfl)
theorem dX3_killer_51 : decode cX3_killer 51 = .ok (.multianewarray 144 2, 4) := by decide +kernel
theorem dX3_killer_55 : decode cX3_killer 55 = .ok (.astore 4, 2) := dk_58 4 (dk_at dksX3_killer_2 8 rfl rfl)
theorem dX3_killer_57 : decode cX3_killer 57 = .ok (.iconst 0, 1) := dk_3 (dk_at dksX3_killer_2 10 rfl rfl)
theorem dX3_killer_58 : decode cX3_killer 58 = .ok (.istore 5, 2) := dk_54 5 (dk_at dksX3_killer_2 11 rfl rfl)
theorem dX3_killer_60 : decode cX3_killer 60 = .ok (.iload 5, 2) := dk_21 5 (dk_at dksX3_killer_2 13 rfl rfl)
theorem dX3_killer_62 : decode cX3_killer 62 = .ok (.iload_n 3, 1) := dk_29 (dk_at dksX3_killer_2 15 rfl rfl)
theorem dX3_killer_63 : decode cX3_killer 63 = .ok (.if_icmp .ge 18, 3) := dk_162 0 18 (dk_at dksX3_killer_2 16 rfl rfl)
theorem dX3_killer_66 : decode cX3_killer 66 = .ok (.aload 4, 2) := dk_25 4 (dk_at dksX3_killer_2 19 rfl rfl)
theorem dX3_killer_68 : decode cX3_killer 68 = .ok (.iload 5, 2) := dk_21 5 (dk_at dksX3_killer_2 21 rfl rfl)
theorem dX3_killer_70 : decode cX3_killer 70 = .ok (.aaload, 1) := dk_50 (dk_at dksX3_killer_2 23 rfl rfl)
theorem dX3_killer_71 : decode cX3_killer 71 = .ok (.iload 5, 2) := dk_21 5 (dk_at dksX3_killer_3 0 rfl rfl)
theorem dX3_killer_73 : decode cX3_killer 73 = .ok (.iconst 1, 1) := dk_4 (dk_at dksX3_killer_3 2 rfl rfl)
theorem dX3_killer_74 : decode cX3_killer 74 = .ok (.iastore, 1) := dk_79 (dk_at dksX3_killer_3 3 rfl rfl)
theorem dX3_killer_75 : decode cX3_killer 75 = .ok (.iinc 5 1, 3) := dk_132 5 1 (dk_at dksX3_killer_3 4 rfl rfl)
theorem dX3_killer_78 : decode cX3_killer 78 = .ok (.goto (-18), 3) := dk_167 255 238 (dk_at dksX3_killer_3 7 rfl rfl)
theorem dX3_killer_81 : decode cX3_killer 81 = .ok (.aload_n 0, 1) := dk_42 (dk_at dksX3_killer_3 10 rfl rfl)
theorem dX3_killer_82 : decode cX3_killer 82 = .ok (.aload_n 0, 1) := dk_42 (dk_at dksX3_killer_3 11 rfl rfl)
theorem dX3_killer_83 : decode cX3_killer 83 = .ok (.iload_n 2, 1) := dk_28 (dk_at dksX3_killer_3 12 rfl rfl)
theorem dX3_killer_84 : decode cX3_killer 84 = .ok (.iconst 1, 1) := dk_4 (dk_at dksX3_killer_3 13 rfl rfl)
theorem dX3_killer_85 : decode cX3_killer 85 = .ok (.invokevirtual 146, 3) := dk_182 0 146 (dk_at dksX3_killer_3 14 rfl rfl)
theorem dX3_killer_88 : decode cX3_killer 88 = .ok (.aload 4, 2) := dk_25 4 (dk_at dksX3_killer_3 17 rfl rfl)
theorem dX3_killer_90 : decode cX3_killer 90 = .ok (.iconst 1, 1) := dk_4 (dk_at dksX3_killer_3 19 rfl rfl)
theorem dX3_killer_91 : decode cX3_killer 91 = .ok (.invokevirtual 150, 3) := dk_182 0 150 (dk_at dksX3_killer_3 20 rfl rfl)
theorem dX3_killer_94 : decode cX3_killer 94 = .ok (.istore 5, 2) := dk_54 5 (dk_at dksX3_killer_4 0 rfl rfl)
theorem dX3_killer_96 : decode cX3_killer 96 = .ok (.iload 5, 2) := dk_21 5 (dk_at dksX3_killer_4 2 rfl rfl)
theorem dX3_killer_98 : decode cX3_killer 98 = .ok (.iload_n 3, 1) := dk_29 (dk_at dksX3_killer_4 4 rfl rfl)
theorem dX3_killer_99 : decode cX3_killer 99 = .ok (.if_icmp .ne 9, 3) := dk_160 0 9 (dk_at dksX3_killer_4 5 rfl rfl)
theorem dX3_killer_102 : decode cX3_killer 102 = .ok (.aload_n 0, 1) := dk_42 (dk_at dksX3_killer_4 8 rfl rfl)
theorem dX3_killer_103 : decode cX3_killer 103 = .ok (.iconst 3, 1) := dk_6 (dk_at dksX3_killer_4 9 rfl rfl)
theorem dX3_killer_104 : decode cX3_killer 104 = .ok (.invokevirtual 58, 3) := dk_182 0 58 (dk_at dksX3_killer_4 10 rfl rfl)
theorem dX3_killer_107 : decode cX3_killer 107 = .ok (.ireturn, 1) := dk_172 (dk_at dksX3_killer_4 13 rfl rfl)
theorem dX3_killer_108 : decode cX3_killer 108 = .ok (.aload_n 0, 1) := dk_42 (dk_at dksX3_killer_4 14 rfl rfl)
theorem dX3_killer_109 : decode cX3_killer 109 = .ok (.iload_n 1, 1) := dk_27 (dk_at dksX3_killer_4 15 rfl rfl)
theorem dX3_killer_110 : decode cX3_killer 110 = .ok (.aload 4, 2) := dk_25 4 (dk_at dksX3_killer_4 16 rfl rfl)
theorem dX3_killer_112 : decode cX3_killer 112 = .ok (.iload 5, 2) := dk_21 5 (dk_at dksX3_killer_4 18 rfl rfl)
theorem dX3_killer_114 : decode cX3_killer 114 = .ok (.aaload, 1) := dk_50 (dk_at dksX3_killer_4 20 rfl rfl)
theorem dX3_killer_115 : decode cX3_killer 115 = .ok (.invokevirtual 102, 3) := dk_182 0 102 (dk_at dksX3_killer_4 21 rfl rfl)
theorem dX3_killer_118 : decode cX3_killer 118 = .ok (.pop, 1) := dk_87 (dk_at dksX3_killer_5 0 rfl rfl)
theorem dX3_killer_119 : decode cX3_killer 119 = .ok (.iload 5, 2) := dk_21 5 (dk_at dksX3_killer_5 1 rfl rfl)
theorem dX3_killer_121 : decode cX3_killer 121 = .ok (.ireturn, 1) := dk_172 (dk_at dksX3_killer_5 3 rfl rfl)
abbrev cX3_columns : ByteArray := prog_11_method_32_code
def yX3_columns : MethodName := ⟨RX3, "columns", "(IZ)[[I"⟩
def dkwX3_columns_3 : List UInt8 := [182, 0, 110, 83, 132, 5, 1, 167, 255, 194, 25, 4, 176]
abbrev dktX3_columns_3 : List UInt8 := dkwX3_columns_3 ++ []
def dkwX3_columns_2 : List UInt8 := [27, 182, 0, 91, 25, 6, 182, 0, 110, 167, 0, 18, 42, 27, 182, 0, 106, 25, 6, 42, 27, 182, 0, 91]
abbrev dktX3_columns_2 : List UInt8 := dkwX3_columns_2 ++ dktX3_columns_3
def dkwX3_columns_1 : List UInt8 := [188, 10, 58, 6, 25, 6, 21, 5, 4, 79, 25, 4, 21, 5, 28, 153, 0, 21, 42, 27, 182, 0, 106, 42]
abbrev dktX3_columns_1 : List UInt8 := dkwX3_columns_1 ++ dktX3_columns_2
def dkwX3_columns_0 : List UInt8 := [42, 27, 182, 0, 91, 190, 62, 29, 189, 0, 139, 58, 4, 3, 54, 5, 21, 5, 29, 162, 0, 62, 29]
abbrev dktX3_columns_0 : List UInt8 := dkwX3_columns_0 ++ dktX3_columns_1
theorem dksX3_columns_0 : cX3_columns.data.toList.drop 0 = dktX3_columns_0 := by decide +kernel
theorem dksX3_columns_1 : cX3_columns.data.toList.drop 23 = dktX3_columns_1 := dk_seg dksX3_columns_0 23 rfl rfl
theorem dksX3_columns_2 : cX3_columns.data.toList.drop 47 = dktX3_columns_2 := dk_seg dksX3_columns_1 24 rfl rfl
theorem dksX3_columns_3 : cX3_columns.data.toList.drop 71 = dktX3_columns_3 := dk_seg dksX3_columns_2 24 rfl rfl
theorem dX3_columns_0 : decode cX3_columns 0 = .ok (.aload_n 0, 1) := dk_42 (dk_at dksX3_columns_0 0 rfl rfl)
theorem dX3_columns_1 : decode cX3_columns 1 = .ok (.iload_n 1, 1) := dk_27 (dk_at dksX3_columns_0 1 rfl rfl)
theorem dX3_columns_2 : decode cX3_columns 2 = .ok (.invokevirtual 91, 3) := dk_182 0 91 (dk_at dksX3_columns_0 2 rfl rfl)
theorem dX3_columns_5 : decode cX3_columns 5 = .ok (.arraylength, 1) := dk_190 (dk_at dksX3_columns_0 5 rfl rfl)
theorem dX3_columns_6 : decode cX3_columns 6 = .ok (.istore_n 3, 1) := dk_62 (dk_at dksX3_columns_0 6 rfl rfl)
theorem dX3_columns_7 : decode cX3_columns 7 = .ok (.iload_n 3, 1) := dk_29 (dk_at dksX3_columns_0 7 rfl rfl)
theorem dX3_columns_8 : decode cX3_columns 8 = .ok (.anewarray 139, 3) := dk_189 0 139 (dk_at dksX3_columns_0 8 rfl rfl)
theorem dX3_columns_11 : decode cX3_columns 11 = .ok (.astore 4, 2) := dk_58 4 (dk_at dksX3_columns_0 11 rfl rfl)
theorem dX3_columns_13 : decode cX3_columns 13 = .ok (.iconst 0, 1) := dk_3 (dk_at dksX3_columns_0 13 rfl rfl)
theorem dX3_columns_14 : decode cX3_columns 14 = .ok (.istore 5, 2) := dk_54 5 (dk_at dksX3_columns_0 14 rfl rfl)
theorem dX3_columns_16 : decode cX3_columns 16 = .ok (.iload 5, 2) := dk_21 5 (dk_at dksX3_columns_0 16 rfl rfl)
theorem dX3_columns_18 : decode cX3_columns 18 = .ok (.iload_n 3, 1) := dk_29 (dk_at dksX3_columns_0 18 rfl rfl)
theorem dX3_columns_19 : decode cX3_columns 19 = .ok (.if_icmp .ge 62, 3) := dk_162 0 62 (dk_at dksX3_columns_0 19 rfl rfl)
theorem dX3_columns_22 : decode cX3_columns 22 = .ok (.iload_n 3, 1) := dk_29 (dk_at dksX3_columns_0 22 rfl rfl)
theorem dX3_columns_23 : decode cX3_columns 23 = .ok (.newarray .int, 2) := dk_188_10 (dk_at dksX3_columns_1 0 rfl rfl)
theorem dX3_columns_25 : decode cX3_columns 25 = .ok (.astore 6, 2) := dk_58 6 (dk_at dksX3_columns_1 2 rfl rfl)
theorem dX3_columns_27 : decode cX3_columns 27 = .ok (.aload 6, 2) := dk_25 6 (dk_at dksX3_columns_1 4 rfl rfl)
theorem dX3_columns_29 : decode cX3_columns 29 = .ok (.iload 5, 2) := dk_21 5 (dk_at dksX3_columns_1 6 rfl rfl)
theorem dX3_columns_31 : decode cX3_columns 31 = .ok (.iconst 1, 1) := dk_4 (dk_at dksX3_columns_1 8 rfl rfl)
theorem dX3_columns_32 : decode cX3_columns 32 = .ok (.iastore, 1) := dk_79 (dk_at dksX3_columns_1 9 rfl rfl)
theorem dX3_columns_33 : decode cX3_columns 33 = .ok (.aload 4, 2) := dk_25 4 (dk_at dksX3_columns_1 10 rfl rfl)
theorem dX3_columns_35 : decode cX3_columns 35 = .ok (.iload 5, 2) := dk_21 5 (dk_at dksX3_columns_1 12 rfl rfl)
theorem dX3_columns_37 : decode cX3_columns 37 = .ok (.iload_n 2, 1) := dk_28 (dk_at dksX3_columns_1 14 rfl rfl)
theorem dX3_columns_38 : decode cX3_columns 38 = .ok (.ifCond .eq 21, 3) := dk_153 0 21 (dk_at dksX3_columns_1 15 rfl rfl)
theorem dX3_columns_41 : decode cX3_columns 41 = .ok (.aload_n 0, 1) := dk_42 (dk_at dksX3_columns_1 18 rfl rfl)
theorem dX3_columns_42 : decode cX3_columns 42 = .ok (.iload_n 1, 1) := dk_27 (dk_at dksX3_columns_1 19 rfl rfl)
theorem dX3_columns_43 : decode cX3_columns 43 = .ok (.invokevirtual 106, 3) := dk_182 0 106 (dk_at dksX3_columns_1 20 rfl rfl)
theorem dX3_columns_46 : decode cX3_columns 46 = .ok (.aload_n 0, 1) := dk_42 (dk_at dksX3_columns_1 23 rfl rfl)
theorem dX3_columns_47 : decode cX3_columns 47 = .ok (.iload_n 1, 1) := dk_27 (dk_at dksX3_columns_2 0 rfl rfl)
theorem dX3_columns_48 : decode cX3_columns 48 = .ok (.invokevirtual 91, 3) := dk_182 0 91 (dk_at dksX3_columns_2 1 rfl rfl)
theorem dX3_columns_51 : decode cX3_columns 51 = .ok (.aload 6, 2) := dk_25 6 (dk_at dksX3_columns_2 4 rfl rfl)
theorem dX3_columns_53 : decode cX3_columns 53 = .ok (.invokevirtual 110, 3) := dk_182 0 110 (dk_at dksX3_columns_2 6 rfl rfl)
theorem dX3_columns_56 : decode cX3_columns 56 = .ok (.goto 18, 3) := dk_167 0 18 (dk_at dksX3_columns_2 9 rfl rfl)
theorem dX3_columns_59 : decode cX3_columns 59 = .ok (.aload_n 0, 1) := dk_42 (dk_at dksX3_columns_2 12 rfl rfl)
theorem dX3_columns_60 : decode cX3_columns 60 = .ok (.iload_n 1, 1) := dk_27 (dk_at dksX3_columns_2 13 rfl rfl)
theorem dX3_columns_61 : decode cX3_columns 61 = .ok (.invokevirtual 106, 3) := dk_182 0 106 (dk_at dksX3_columns_2 14 rfl rfl)
theorem dX3_columns_64 : decode cX3_columns 64 = .ok (.aload 6, 2) := dk_25 6 (dk_at dksX3_columns_2 17 rfl rfl)
theorem dX3_columns_66 : decode cX3_columns 66 = .ok (.aload_n 0, 1) := dk_42 (dk_at dksX3_columns_2 19 rfl rfl)
theorem dX3_columns_67 : decode cX3_columns 67 = .ok (.iload_n 1, 1) := dk_27 (dk_at dksX3_columns_2 20 rfl rfl)
theorem dX3_columns_68 : decode cX3_columns 68 = .ok (.invokevirtual 91, 3) := dk_182 0 91 (dk_at dksX3_columns_2 21 rfl rfl)
theorem dX3_columns_71 : decode cX3_columns 71 = .ok (.invokevirtual 110, 3) := dk_182 0 110 (dk_at dksX3_columns_3 0 rfl rfl)
theorem dX3_columns_74 : decode cX3_columns 74 = .ok (.aastore, 1) := dk_83 (dk_at dksX3_columns_3 3 rfl rfl)
theorem dX3_columns_75 : decode cX3_columns 75 = .ok (.iinc 5 1, 3) := dk_132 5 1 (dk_at dksX3_columns_3 4 rfl rfl)
theorem dX3_columns_78 : decode cX3_columns 78 = .ok (.goto (-62), 3) := dk_167 255 194 (dk_at dksX3_columns_3 7 rfl rfl)
theorem dX3_columns_81 : decode cX3_columns 81 = .ok (.aload 4, 2) := dk_25 4 (dk_at dksX3_columns_3 10 rfl rfl)
theorem dX3_columns_83 : decode cX3_columns 83 = .ok (.areturn, 1) := dk_176 (dk_at dksX3_columns_3 12 rfl rfl)
abbrev cX3_free : ByteArray := prog_11_method_34_code
def yX3_free : MethodName := ⟨RX3, "free", "([[I[[IZ)I"⟩
def dkwX3_free_8 : List UInt8 := [132, 7, 1, 167, 255, 80, 29, 153, 0, 8, 21, 4, 167, 0, 5, 21, 5, 172]
abbrev dktX3_free_8 : List UInt8 := dkwX3_free_8 ++ []
def dkwX3_free_7 : List UInt8 := [21, 7, 172, 21, 5, 25, 6, 21, 7, 46, 2, 160, 0, 7, 3, 167, 0, 4, 4, 96, 54, 5]
abbrev dktX3_free_7 : List UInt8 := dkwX3_free_7 ++ dktX3_free_8
def dkwX3_free_6 : List UInt8 := [21, 7, 21, 8, 79, 132, 8, 255, 167, 255, 231, 25, 6, 21, 7, 46, 2, 160, 0, 10, 29, 153, 0, 6]
abbrev dktX3_free_6 : List UInt8 := dkwX3_free_6 ++ dktX3_free_7
def dkwX3_free_5 : List UInt8 := [79, 21, 4, 4, 100, 54, 8, 21, 8, 155, 0, 26, 43, 21, 7, 50, 21, 8, 46, 158, 0, 10, 25, 6]
abbrev dktX3_free_5 : List UInt8 := dkwX3_free_5 ++ dktX3_free_6
def dkwX3_free_4 : List UInt8 := [44, 21, 7, 50, 44, 21, 8, 50, 21, 9, 182, 0, 140, 132, 8, 1, 167, 255, 171, 25, 6, 21, 7, 2]
abbrev dktX3_free_4 : List UInt8 := dkwX3_free_4 ++ dktX3_free_5
def dkwX3_free_3 : List UInt8 := [182, 0, 26, 54, 9, 42, 43, 21, 7, 50, 43, 21, 8, 50, 21, 9, 182, 0, 140, 29, 153, 0, 17, 42]
abbrev dktX3_free_3 : List UInt8 := dkwX3_free_3 ++ dktX3_free_4
def dkwX3_free_2 : List UInt8 := [21, 7, 50, 25, 6, 21, 8, 46, 46, 42, 43, 21, 8, 50, 25, 6, 21, 8, 46, 46, 182, 0, 129, 104]
abbrev dktX3_free_2 : List UInt8 := dkwX3_free_2 ++ dktX3_free_3
def dkwX3_free_1 : List UInt8 := [54, 8, 21, 8, 21, 7, 162, 0, 84, 25, 6, 21, 8, 46, 2, 160, 0, 6, 167, 0, 66, 42, 43]
abbrev dktX3_free_1 : List UInt8 := dkwX3_free_1 ++ dktX3_free_2
def dkwX3_free_0 : List UInt8 := [43, 190, 54, 4, 3, 54, 5, 21, 4, 188, 10, 58, 6, 3, 54, 7, 21, 7, 21, 4, 162, 0, 175, 3]
abbrev dktX3_free_0 : List UInt8 := dkwX3_free_0 ++ dktX3_free_1
theorem dksX3_free_0 : cX3_free.data.toList.drop 0 = dktX3_free_0 := by decide +kernel
theorem dksX3_free_1 : cX3_free.data.toList.drop 24 = dktX3_free_1 := dk_seg dksX3_free_0 24 rfl rfl
theorem dksX3_free_2 : cX3_free.data.toList.drop 47 = dktX3_free_2 := dk_seg dksX3_free_1 23 rfl rfl
theorem dksX3_free_3 : cX3_free.data.toList.drop 71 = dktX3_free_3 := dk_seg dksX3_free_2 24 rfl rfl
theorem dksX3_free_4 : cX3_free.data.toList.drop 95 = dktX3_free_4 := dk_seg dksX3_free_3 24 rfl rfl
theorem dksX3_free_5 : cX3_free.data.toList.drop 119 = dktX3_free_5 := dk_seg dksX3_free_4 24 rfl rfl
theorem dksX3_free_6 : cX3_free.data.toList.drop 143 = dktX3_free_6 := dk_seg dksX3_free_5 24 rfl rfl
theorem dksX3_free_7 : cX3_free.data.toList.drop 167 = dktX3_free_7 := dk_seg dksX3_free_6 24 rfl rfl
theorem dksX3_free_8 : cX3_free.data.toList.drop 189 = dktX3_free_8 := dk_seg dksX3_free_7 22 rfl rfl
theorem dX3_free_0 : decode cX3_free 0 = .ok (.aload_n 1, 1) := dk_43 (dk_at dksX3_free_0 0 rfl rfl)
theorem dX3_free_1 : decode cX3_free 1 = .ok (.arraylength, 1) := dk_190 (dk_at dksX3_free_0 1 rfl rfl)
theorem dX3_free_2 : decode cX3_free 2 = .ok (.istore 4, 2) := dk_54 4 (dk_at dksX3_free_0 2 rfl rfl)
theorem dX3_free_4 : decode cX3_free 4 = .ok (.iconst 0, 1) := dk_3 (dk_at dksX3_free_0 4 rfl rfl)
theorem dX3_free_5 : decode cX3_free 5 = .ok (.istore 5, 2) := dk_54 5 (dk_at dksX3_free_0 5 rfl rfl)
theorem dX3_free_7 : decode cX3_free 7 = .ok (.iload 4, 2) := dk_21 4 (dk_at dksX3_free_0 7 rfl rfl)
theorem dX3_free_9 : decode cX3_free 9 = .ok (.newarray .int, 2) := dk_188_10 (dk_at dksX3_free_0 9 rfl rfl)
theorem dX3_free_11 : decode cX3_free 11 = .ok (.astore 6, 2) := dk_58 6 (dk_at dksX3_free_0 11 rfl rfl)
theorem dX3_free_13 : decode cX3_free 13 = .ok (.iconst 0, 1) := dk_3 (dk_at dksX3_free_0 13 rfl rfl)
theorem dX3_free_14 : decode cX3_free 14 = .ok (.istore 7, 2) := dk_54 7 (dk_at dksX3_free_0 14 rfl rfl)
theorem dX3_free_16 : decode cX3_free 16 = .ok (.iload 7, 2) := dk_21 7 (dk_at dksX3_free_0 16 rfl rfl)
theorem dX3_free_18 : decode cX3_free 18 = .ok (.iload 4, 2) := dk_21 4 (dk_at dksX3_free_0 18 rfl rfl)
theorem dX3_free_20 : decode cX3_free 20 = .ok (.if_icmp .ge 175, 3) := dk_162 0 175 (dk_at dksX3_free_0 20 rfl rfl)
theorem dX3_free_23 : decode cX3_free 23 = .ok (.iconst 0, 1) := dk_3 (dk_at dksX3_free_0 23 rfl rfl)
theorem dX3_free_24 : decode cX3_free 24 = .ok (.istore 8, 2) := dk_54 8 (dk_at dksX3_free_1 0 rfl rfl)
theorem dX3_free_26 : decode cX3_free 26 = .ok (.iload 8, 2) := dk_21 8 (dk_at dksX3_free_1 2 rfl rfl)
theorem dX3_free_28 : decode cX3_free 28 = .ok (.iload 7, 2) := dk_21 7 (dk_at dksX3_free_1 4 rfl rfl)
theorem dX3_free_30 : decode cX3_free 30 = .ok (.if_icmp .ge 84, 3) := dk_162 0 84 (dk_at dksX3_free_1 6 rfl rfl)
theorem dX3_free_33 : decode cX3_free 33 = .ok (.aload 6, 2) := dk_25 6 (dk_at dksX3_free_1 9 rfl rfl)
theorem dX3_free_35 : decode cX3_free 35 = .ok (.iload 8, 2) := dk_21 8 (dk_at dksX3_free_1 11 rfl rfl)
theorem dX3_free_37 : decode cX3_free 37 = .ok (.iaload, 1) := dk_46 (dk_at dksX3_free_1 13 rfl rfl)
theorem dX3_free_38 : decode cX3_free 38 = .ok (.iconst (-1), 1) := dk_2 (dk_at dksX3_free_1 14 rfl rfl)
theorem dX3_free_39 : decode cX3_free 39 = .ok (.if_icmp .ne 6, 3) := dk_160 0 6 (dk_at dksX3_free_1 15 rfl rfl)
theorem dX3_free_42 : decode cX3_free 42 = .ok (.goto 66, 3) := dk_167 0 66 (dk_at dksX3_free_1 18 rfl rfl)
theorem dX3_free_45 : decode cX3_free 45 = .ok (.aload_n 0, 1) := dk_42 (dk_at dksX3_free_1 21 rfl rfl)
theorem dX3_free_46 : decode cX3_free 46 = .ok (.aload_n 1, 1) := dk_43 (dk_at dksX3_free_1 22 rfl rfl)
theorem dX3_free_47 : decode cX3_free 47 = .ok (.iload 7, 2) := dk_21 7 (dk_at dksX3_free_2 0 rfl rfl)
theorem dX3_free_49 : decode cX3_free 49 = .ok (.aaload, 1) := dk_50 (dk_at dksX3_free_2 2 rfl rfl)
theorem dX3_free_50 : decode cX3_free 50 = .ok (.aload 6, 2) := dk_25 6 (dk_at dksX3_free_2 3 rfl rfl)
theorem dX3_free_52 : decode cX3_free 52 = .ok (.iload 8, 2) := dk_21 8 (dk_at dksX3_free_2 5 rfl rfl)
theorem dX3_free_54 : decode cX3_free 54 = .ok (.iaload, 1) := dk_46 (dk_at dksX3_free_2 7 rfl rfl)
theorem dX3_free_55 : decode cX3_free 55 = .ok (.iaload, 1) := dk_46 (dk_at dksX3_free_2 8 rfl rfl)
theorem dX3_free_56 : decode cX3_free 56 = .ok (.aload_n 0, 1) := dk_42 (dk_at dksX3_free_2 9 rfl rfl)
theorem dX3_free_57 : decode cX3_free 57 = .ok (.aload_n 1, 1) := dk_43 (dk_at dksX3_free_2 10 rfl rfl)
theorem dX3_free_58 : decode cX3_free 58 = .ok (.iload 8, 2) := dk_21 8 (dk_at dksX3_free_2 11 rfl rfl)
theorem dX3_free_60 : decode cX3_free 60 = .ok (.aaload, 1) := dk_50 (dk_at dksX3_free_2 13 rfl rfl)
theorem dX3_free_61 : decode cX3_free 61 = .ok (.aload 6, 2) := dk_25 6 (dk_at dksX3_free_2 14 rfl rfl)
theorem dX3_free_63 : decode cX3_free 63 = .ok (.iload 8, 2) := dk_21 8 (dk_at dksX3_free_2 16 rfl rfl)
theorem dX3_free_65 : decode cX3_free 65 = .ok (.iaload, 1) := dk_46 (dk_at dksX3_free_2 18 rfl rfl)
theorem dX3_free_66 : decode cX3_free 66 = .ok (.iaload, 1) := dk_46 (dk_at dksX3_free_2 19 rfl rfl)
theorem dX3_free_67 : decode cX3_free 67 = .ok (.invokevirtual 129, 3) := dk_182 0 129 (dk_at dksX3_free_2 20 rfl rfl)
theorem dX3_free_70 : decode cX3_free 70 = .ok (.imul, 1) := dk_104 (dk_at dksX3_free_2 23 rfl rfl)
theorem dX3_free_71 : decode cX3_free 71 = .ok (.invokevirtual 26, 3) := dk_182 0 26 (dk_at dksX3_free_3 0 rfl rfl)
theorem dX3_free_74 : decode cX3_free 74 = .ok (.istore 9, 2) := dk_54 9 (dk_at dksX3_free_3 3 rfl rfl)
theorem dX3_free_76 : decode cX3_free 76 = .ok (.aload_n 0, 1) := dk_42 (dk_at dksX3_free_3 5 rfl rfl)
theorem dX3_free_77 : decode cX3_free 77 = .ok (.aload_n 1, 1) := dk_43 (dk_at dksX3_free_3 6 rfl rfl)
theorem dX3_free_78 : decode cX3_free 78 = .ok (.iload 7, 2) := dk_21 7 (dk_at dksX3_free_3 7 rfl rfl)
theorem dX3_free_80 : decode cX3_free 80 = .ok (.aaload, 1) := dk_50 (dk_at dksX3_free_3 9 rfl rfl)
theorem dX3_free_81 : decode cX3_free 81 = .ok (.aload_n 1, 1) := dk_43 (dk_at dksX3_free_3 10 rfl rfl)
theorem dX3_free_82 : decode cX3_free 82 = .ok (.iload 8, 2) := dk_21 8 (dk_at dksX3_free_3 11 rfl rfl)
theorem dX3_free_84 : decode cX3_free 84 = .ok (.aaload, 1) := dk_50 (dk_at dksX3_free_3 13 rfl rfl)
theorem dX3_free_85 : decode cX3_free 85 = .ok (.iload 9, 2) := dk_21 9 (dk_at dksX3_free_3 14 rfl rfl)
theorem dX3_free_87 : decode cX3_free 87 = .ok (.invokevirtual 140, 3) := dk_182 0 140 (dk_at dksX3_free_3 16 rfl rfl)
theorem dX3_free_90 : decode cX3_free 90 = .ok (.iload_n 3, 1) := dk_29 (dk_at dksX3_free_3 19 rfl rfl)
theorem dX3_free_91 : decode cX3_free 91 = .ok (.ifCond .eq 17, 3) := dk_153 0 17 (dk_at dksX3_free_3 20 rfl rfl)
theorem dX3_free_94 : decode cX3_free 94 = .ok (.aload_n 0, 1) := dk_42 (dk_at dksX3_free_3 23 rfl rfl)
theorem dX3_free_95 : decode cX3_free 95 = .ok (.aload_n 2, 1) := dk_44 (dk_at dksX3_free_4 0 rfl rfl)
theorem dX3_free_96 : decode cX3_free 96 = .ok (.iload 7, 2) := dk_21 7 (dk_at dksX3_free_4 1 rfl rfl)
theorem dX3_free_98 : decode cX3_free 98 = .ok (.aaload, 1) := dk_50 (dk_at dksX3_free_4 3 rfl rfl)
theorem dX3_free_99 : decode cX3_free 99 = .ok (.aload_n 2, 1) := dk_44 (dk_at dksX3_free_4 4 rfl rfl)
theorem dX3_free_100 : decode cX3_free 100 = .ok (.iload 8, 2) := dk_21 8 (dk_at dksX3_free_4 5 rfl rfl)
theorem dX3_free_102 : decode cX3_free 102 = .ok (.aaload, 1) := dk_50 (dk_at dksX3_free_4 7 rfl rfl)
theorem dX3_free_103 : decode cX3_free 103 = .ok (.iload 9, 2) := dk_21 9 (dk_at dksX3_free_4 8 rfl rfl)
theorem dX3_free_105 : decode cX3_free 105 = .ok (.invokevirtual 140, 3) := dk_182 0 140 (dk_at dksX3_free_4 10 rfl rfl)
theorem dX3_free_108 : decode cX3_free 108 = .ok (.iinc 8 1, 3) := dk_132 8 1 (dk_at dksX3_free_4 13 rfl rfl)
theorem dX3_free_111 : decode cX3_free 111 = .ok (.goto (-85), 3) := dk_167 255 171 (dk_at dksX3_free_4 16 rfl rfl)
theorem dX3_free_114 : decode cX3_free 114 = .ok (.aload 6, 2) := dk_25 6 (dk_at dksX3_free_4 19 rfl rfl)
theorem dX3_free_116 : decode cX3_free 116 = .ok (.iload 7, 2) := dk_21 7 (dk_at dksX3_free_4 21 rfl rfl)
theorem dX3_free_118 : decode cX3_free 118 = .ok (.iconst (-1), 1) := dk_2 (dk_at dksX3_free_4 23 rfl rfl)
theorem dX3_free_119 : decode cX3_free 119 = .ok (.iastore, 1) := dk_79 (dk_at dksX3_free_5 0 rfl rfl)
theorem dX3_free_120 : decode cX3_free 120 = .ok (.iload 4, 2) := dk_21 4 (dk_at dksX3_free_5 1 rfl rfl)
theorem dX3_free_122 : decode cX3_free 122 = .ok (.iconst 1, 1) := dk_4 (dk_at dksX3_free_5 3 rfl rfl)
theorem dX3_free_123 : decode cX3_free 123 = .ok (.isub, 1) := dk_100 (dk_at dksX3_free_5 4 rfl rfl)
theorem dX3_free_124 : decode cX3_free 124 = .ok (.istore 8, 2) := dk_54 8 (dk_at dksX3_free_5 5 rfl rfl)
theorem dX3_free_126 : decode cX3_free 126 = .ok (.iload 8, 2) := dk_21 8 (dk_at dksX3_free_5 7 rfl rfl)
theorem dX3_free_128 : decode cX3_free 128 = .ok (.ifCond .lt 26, 3) := dk_155 0 26 (dk_at dksX3_free_5 9 rfl rfl)
theorem dX3_free_131 : decode cX3_free 131 = .ok (.aload_n 1, 1) := dk_43 (dk_at dksX3_free_5 12 rfl rfl)
theorem dX3_free_132 : decode cX3_free 132 = .ok (.iload 7, 2) := dk_21 7 (dk_at dksX3_free_5 13 rfl rfl)
theorem dX3_free_134 : decode cX3_free 134 = .ok (.aaload, 1) := dk_50 (dk_at dksX3_free_5 15 rfl rfl)
theorem dX3_free_135 : decode cX3_free 135 = .ok (.iload 8, 2) := dk_21 8 (dk_at dksX3_free_5 16 rfl rfl)
theorem dX3_free_137 : decode cX3_free 137 = .ok (.iaload, 1) := dk_46 (dk_at dksX3_free_5 18 rfl rfl)
theorem dX3_free_138 : decode cX3_free 138 = .ok (.ifCond .le 10, 3) := dk_158 0 10 (dk_at dksX3_free_5 19 rfl rfl)
theorem dX3_free_141 : decode cX3_free 141 = .ok (.aload 6, 2) := dk_25 6 (dk_at dksX3_free_5 22 rfl rfl)
theorem dX3_free_143 : decode cX3_free 143 = .ok (.iload 7, 2) := dk_21 7 (dk_at dksX3_free_6 0 rfl rfl)
theorem dX3_free_145 : decode cX3_free 145 = .ok (.iload 8, 2) := dk_21 8 (dk_at dksX3_free_6 2 rfl rfl)
theorem dX3_free_147 : decode cX3_free 147 = .ok (.iastore, 1) := dk_79 (dk_at dksX3_free_6 4 rfl rfl)
theorem dX3_free_148 : decode cX3_free 148 = .ok (.iinc 8 (-1), 3) := dk_132 8 255 (dk_at dksX3_free_6 5 rfl rfl)
theorem dX3_free_151 : decode cX3_free 151 = .ok (.goto (-25), 3) := dk_167 255 231 (dk_at dksX3_free_6 8 rfl rfl)
theorem dX3_free_154 : decode cX3_free 154 = .ok (.aload 6, 2) := dk_25 6 (dk_at dksX3_free_6 11 rfl rfl)
theorem dX3_free_156 : decode cX3_free 156 = .ok (.iload 7, 2) := dk_21 7 (dk_at dksX3_free_6 13 rfl rfl)
theorem dX3_free_158 : decode cX3_free 158 = .ok (.iaload, 1) := dk_46 (dk_at dksX3_free_6 15 rfl rfl)
theorem dX3_free_159 : decode cX3_free 159 = .ok (.iconst (-1), 1) := dk_2 (dk_at dksX3_free_6 16 rfl rfl)
theorem dX3_free_160 : decode cX3_free 160 = .ok (.if_icmp .ne 10, 3) := dk_160 0 10 (dk_at dksX3_free_6 17 rfl rfl)
theorem dX3_free_163 : decode cX3_free 163 = .ok (.iload_n 3, 1) := dk_29 (dk_at dksX3_free_6 20 rfl rfl)
theorem dX3_free_164 : decode cX3_free 164 = .ok (.ifCond .eq 6, 3) := dk_153 0 6 (dk_at dksX3_free_6 21 rfl rfl)
theorem dX3_free_167 : decode cX3_free 167 = .ok (.iload 7, 2) := dk_21 7 (dk_at dksX3_free_7 0 rfl rfl)
theorem dX3_free_169 : decode cX3_free 169 = .ok (.ireturn, 1) := dk_172 (dk_at dksX3_free_7 2 rfl rfl)
theorem dX3_free_170 : decode cX3_free 170 = .ok (.iload 5, 2) := dk_21 5 (dk_at dksX3_free_7 3 rfl rfl)
theorem dX3_free_172 : decode cX3_free 172 = .ok (.aload 6, 2) := dk_25 6 (dk_at dksX3_free_7 5 rfl rfl)
theorem dX3_free_174 : decode cX3_free 174 = .ok (.iload 7, 2) := dk_21 7 (dk_at dksX3_free_7 7 rfl rfl)
theorem dX3_free_176 : decode cX3_free 176 = .ok (.iaload, 1) := dk_46 (dk_at dksX3_free_7 9 rfl rfl)
theorem dX3_free_177 : decode cX3_free 177 = .ok (.iconst (-1), 1) := dk_2 (dk_at dksX3_free_7 10 rfl rfl)
theorem dX3_free_178 : decode cX3_free 178 = .ok (.if_icmp .ne 7, 3) := dk_160 0 7 (dk_at dksX3_free_7 11 rfl rfl)
theorem dX3_free_181 : decode cX3_free 181 = .ok (.iconst 0, 1) := dk_3 (dk_at dksX3_free_7 14 rfl rfl)
theorem dX3_free_182 : decode cX3_free 182 = .ok (.goto 4, 3) := dk_167 0 4 (dk_at dksX3_free_7 15 rfl rfl)
theorem dX3_free_185 : decode cX3_free 185 = .ok (.iconst 1, 1) := dk_4 (dk_at dksX3_free_7 18 rfl rfl)
theorem dX3_free_186 : decode cX3_free 186 = .ok (.iadd, 1) := dk_96 (dk_at dksX3_free_7 19 rfl rfl)
theorem dX3_free_187 : decode cX3_free 187 = .ok (.istore 5, 2) := dk_54 5 (dk_at dksX3_free_7 20 rfl rfl)
theorem dX3_free_189 : decode cX3_free 189 = .ok (.iinc 7 1, 3) := dk_132 7 1 (dk_at dksX3_free_8 0 rfl rfl)
theorem dX3_free_192 : decode cX3_free 192 = .ok (.goto (-176), 3) := dk_167 255 80 (dk_at dksX3_free_8 3 rfl rfl)
theorem dX3_free_195 : decode cX3_free 195 = .ok (.iload_n 3, 1) := dk_29 (dk_at dksX3_free_8 6 rfl rfl)
theorem dX3_free_196 : decode cX3_free 196 = .ok (.ifCond .eq 8, 3) := dk_153 0 8 (dk_at dksX3_free_8 7 rfl rfl)
theorem dX3_free_199 : decode cX3_free 199 = .ok (.iload 4, 2) := dk_21 4 (dk_at dksX3_free_8 10 rfl rfl)
theorem dX3_free_201 : decode cX3_free 201 = .ok (.goto 5, 3) := dk_167 0 5 (dk_at dksX3_free_8 12 rfl rfl)
theorem dX3_free_204 : decode cX3_free 204 = .ok (.iload 5, 2) := dk_21 5 (dk_at dksX3_free_8 15 rfl rfl)
theorem dX3_free_206 : decode cX3_free 206 = .ok (.ireturn, 1) := dk_172 (dk_at dksX3_free_8 17 rfl rfl)
abbrev cX3_less : ByteArray := prog_11_method_33_code
def yX3_less : MethodName := ⟨RX3, "less", "([I[II)V"⟩
def dkwX3_less_1 : List UInt8 := [100, 182, 0, 26, 79, 132, 4, 1, 167, 255, 227, 177]
abbrev dktX3_less_1 : List UInt8 := dkwX3_less_1 ++ []
def dkwX3_less_0 : List UInt8 := [3, 54, 4, 21, 4, 43, 190, 162, 0, 28, 43, 21, 4, 42, 43, 21, 4, 46, 29, 44, 21, 4, 46, 104]
abbrev dktX3_less_0 : List UInt8 := dkwX3_less_0 ++ dktX3_less_1
theorem dksX3_less_0 : cX3_less.data.toList.drop 0 = dktX3_less_0 := by decide +kernel
theorem dksX3_less_1 : cX3_less.data.toList.drop 24 = dktX3_less_1 := dk_seg dksX3_less_0 24 rfl rfl
theorem dX3_less_0 : decode cX3_less 0 = .ok (.iconst 0, 1) := dk_3 (dk_at dksX3_less_0 0 rfl rfl)
theorem dX3_less_1 : decode cX3_less 1 = .ok (.istore 4, 2) := dk_54 4 (dk_at dksX3_less_0 1 rfl rfl)
theorem dX3_less_3 : decode cX3_less 3 = .ok (.iload 4, 2) := dk_21 4 (dk_at dksX3_less_0 3 rfl rfl)
theorem dX3_less_5 : decode cX3_less 5 = .ok (.aload_n 1, 1) := dk_43 (dk_at dksX3_less_0 5 rfl rfl)
theorem dX3_less_6 : decode cX3_less 6 = .ok (.arraylength, 1) := dk_190 (dk_at dksX3_less_0 6 rfl rfl)
theorem dX3_less_7 : decode cX3_less 7 = .ok (.if_icmp .ge 28, 3) := dk_162 0 28 (dk_at dksX3_less_0 7 rfl rfl)
theorem dX3_less_10 : decode cX3_less 10 = .ok (.aload_n 1, 1) := dk_43 (dk_at dksX3_less_0 10 rfl rfl)
theorem dX3_less_11 : decode cX3_less 11 = .ok (.iload 4, 2) := dk_21 4 (dk_at dksX3_less_0 11 rfl rfl)
theorem dX3_less_13 : decode cX3_less 13 = .ok (.aload_n 0, 1) := dk_42 (dk_at dksX3_less_0 13 rfl rfl)
theorem dX3_less_14 : decode cX3_less 14 = .ok (.aload_n 1, 1) := dk_43 (dk_at dksX3_less_0 14 rfl rfl)
theorem dX3_less_15 : decode cX3_less 15 = .ok (.iload 4, 2) := dk_21 4 (dk_at dksX3_less_0 15 rfl rfl)
theorem dX3_less_17 : decode cX3_less 17 = .ok (.iaload, 1) := dk_46 (dk_at dksX3_less_0 17 rfl rfl)
theorem dX3_less_18 : decode cX3_less 18 = .ok (.iload_n 3, 1) := dk_29 (dk_at dksX3_less_0 18 rfl rfl)
theorem dX3_less_19 : decode cX3_less 19 = .ok (.aload_n 2, 1) := dk_44 (dk_at dksX3_less_0 19 rfl rfl)
theorem dX3_less_20 : decode cX3_less 20 = .ok (.iload 4, 2) := dk_21 4 (dk_at dksX3_less_0 20 rfl rfl)
theorem dX3_less_22 : decode cX3_less 22 = .ok (.iaload, 1) := dk_46 (dk_at dksX3_less_0 22 rfl rfl)
theorem dX3_less_23 : decode cX3_less 23 = .ok (.imul, 1) := dk_104 (dk_at dksX3_less_0 23 rfl rfl)
theorem dX3_less_24 : decode cX3_less 24 = .ok (.isub, 1) := dk_100 (dk_at dksX3_less_1 0 rfl rfl)
theorem dX3_less_25 : decode cX3_less 25 = .ok (.invokevirtual 26, 3) := dk_182 0 26 (dk_at dksX3_less_1 1 rfl rfl)
theorem dX3_less_28 : decode cX3_less 28 = .ok (.iastore, 1) := dk_79 (dk_at dksX3_less_1 4 rfl rfl)
theorem dX3_less_29 : decode cX3_less 29 = .ok (.iinc 4 1, 3) := dk_132 4 1 (dk_at dksX3_less_1 5 rfl rfl)
theorem dX3_less_32 : decode cX3_less 32 = .ok (.goto (-29), 3) := dk_167 255 227 (dk_at dksX3_less_1 8 rfl rfl)
theorem dX3_less_35 : decode cX3_less 35 = .ok (.return_, 1) := dk_177 (dk_at dksX3_less_1 11 rfl rfl)
abbrev cX3_hang : ByteArray := prog_11_method_38_code
def yX3_hang : MethodName := ⟨RX3, "hang", "(I)I"⟩
def dkwX3_hang_3 : List UInt8 := [182, 0, 91, 4, 182, 0, 114, 185, 0, 64, 2, 0, 87, 44, 185, 0, 30, 1, 0, 172]
abbrev dktX3_hang_3 : List UInt8 := dkwX3_hang_3 ++ []
def dkwX3_hang_2 : List UInt8 := [185, 0, 30, 1, 0, 16, 6, 160, 0, 9, 42, 5, 182, 0, 58, 172, 44, 42, 27, 182, 0, 106, 42, 27]
abbrev dktX3_hang_2 : List UInt8 := dkwX3_hang_2 ++ dktX3_hang_3
def dkwX3_hang_1 : List UInt8 := [180, 0, 160, 77, 42, 27, 182, 0, 163, 153, 0, 22, 42, 27, 182, 0, 166, 153, 0, 14, 44]
abbrev dktX3_hang_1 : List UInt8 := dkwX3_hang_1 ++ dktX3_hang_2
def dkwX3_hang_0 : List UInt8 := [42, 3, 181, 0, 23, 42, 27, 182, 0, 88, 154, 0, 9, 42, 4, 182, 0, 58, 172, 42, 27, 182, 0, 106]
abbrev dktX3_hang_0 : List UInt8 := dkwX3_hang_0 ++ dktX3_hang_1
theorem dksX3_hang_0 : cX3_hang.data.toList.drop 0 = dktX3_hang_0 := by decide +kernel
theorem dksX3_hang_1 : cX3_hang.data.toList.drop 24 = dktX3_hang_1 := dk_seg dksX3_hang_0 24 rfl rfl
theorem dksX3_hang_2 : cX3_hang.data.toList.drop 45 = dktX3_hang_2 := dk_seg dksX3_hang_1 21 rfl rfl
theorem dksX3_hang_3 : cX3_hang.data.toList.drop 69 = dktX3_hang_3 := dk_seg dksX3_hang_2 24 rfl rfl
theorem dX3_hang_0 : decode cX3_hang 0 = .ok (.aload_n 0, 1) := dk_42 (dk_at dksX3_hang_0 0 rfl rfl)
theorem dX3_hang_1 : decode cX3_hang 1 = .ok (.iconst 0, 1) := dk_3 (dk_at dksX3_hang_0 1 rfl rfl)
theorem dX3_hang_2 : decode cX3_hang 2 = .ok (.putfield 23, 3) := dk_181 0 23 (dk_at dksX3_hang_0 2 rfl rfl)
theorem dX3_hang_5 : decode cX3_hang 5 = .ok (.aload_n 0, 1) := dk_42 (dk_at dksX3_hang_0 5 rfl rfl)
theorem dX3_hang_6 : decode cX3_hang 6 = .ok (.iload_n 1, 1) := dk_27 (dk_at dksX3_hang_0 6 rfl rfl)
theorem dX3_hang_7 : decode cX3_hang 7 = .ok (.invokevirtual 88, 3) := dk_182 0 88 (dk_at dksX3_hang_0 7 rfl rfl)
theorem dX3_hang_10 : decode cX3_hang 10 = .ok (.ifCond .ne 9, 3) := dk_154 0 9 (dk_at dksX3_hang_0 10 rfl rfl)
theorem dX3_hang_13 : decode cX3_hang 13 = .ok (.aload_n 0, 1) := dk_42 (dk_at dksX3_hang_0 13 rfl rfl)
theorem dX3_hang_14 : decode cX3_hang 14 = .ok (.iconst 1, 1) := dk_4 (dk_at dksX3_hang_0 14 rfl rfl)
theorem dX3_hang_15 : decode cX3_hang 15 = .ok (.invokevirtual 58, 3) := dk_182 0 58 (dk_at dksX3_hang_0 15 rfl rfl)
theorem dX3_hang_18 : decode cX3_hang 18 = .ok (.ireturn, 1) := dk_172 (dk_at dksX3_hang_0 18 rfl rfl)
theorem dX3_hang_19 : decode cX3_hang 19 = .ok (.aload_n 0, 1) := dk_42 (dk_at dksX3_hang_0 19 rfl rfl)
theorem dX3_hang_20 : decode cX3_hang 20 = .ok (.iload_n 1, 1) := dk_27 (dk_at dksX3_hang_0 20 rfl rfl)
theorem dX3_hang_21 : decode cX3_hang 21 = .ok (.invokevirtual 106, 3) := dk_182 0 106 (dk_at dksX3_hang_0 21 rfl rfl)
theorem dX3_hang_24 : decode cX3_hang 24 = .ok (.getfield 160, 3) := dk_180 0 160 (dk_at dksX3_hang_1 0 rfl rfl)
theorem dX3_hang_27 : decode cX3_hang 27 = .ok (.astore_n 2, 1) := dk_77 (dk_at dksX3_hang_1 3 rfl rfl)
theorem dX3_hang_28 : decode cX3_hang 28 = .ok (.aload_n 0, 1) := dk_42 (dk_at dksX3_hang_1 4 rfl rfl)
theorem dX3_hang_29 : decode cX3_hang 29 = .ok (.iload_n 1, 1) := dk_27 (dk_at dksX3_hang_1 5 rfl rfl)
theorem dX3_hang_30 : decode cX3_hang 30 = .ok (.invokevirtual 163, 3) := dk_182 0 163 (dk_at dksX3_hang_1 6 rfl rfl)
theorem dX3_hang_33 : decode cX3_hang 33 = .ok (.ifCond .eq 22, 3) := dk_153 0 22 (dk_at dksX3_hang_1 9 rfl rfl)
theorem dX3_hang_36 : decode cX3_hang 36 = .ok (.aload_n 0, 1) := dk_42 (dk_at dksX3_hang_1 12 rfl rfl)
theorem dX3_hang_37 : decode cX3_hang 37 = .ok (.iload_n 1, 1) := dk_27 (dk_at dksX3_hang_1 13 rfl rfl)
theorem dX3_hang_38 : decode cX3_hang 38 = .ok (.invokevirtual 166, 3) := dk_182 0 166 (dk_at dksX3_hang_1 14 rfl rfl)
theorem dX3_hang_41 : decode cX3_hang 41 = .ok (.ifCond .eq 14, 3) := dk_153 0 14 (dk_at dksX3_hang_1 17 rfl rfl)
theorem dX3_hang_44 : decode cX3_hang 44 = .ok (.aload_n 2, 1) := dk_44 (dk_at dksX3_hang_1 20 rfl rfl)
theorem dX3_hang_45 : decode cX3_hang 45 = .ok (.invokeinterface 30 1, 5) := by decide +kernel
theorem dX3_hang_50 : decode cX3_hang 50 = .ok (.bipush 6, 2) := dk_16 6 (dk_at dksX3_hang_2 5 rfl rfl)
theorem dX3_hang_52 : decode cX3_hang 52 = .ok (.if_icmp .ne 9, 3) := dk_160 0 9 (dk_at dksX3_hang_2 7 rfl rfl)
theorem dX3_hang_55 : decode cX3_hang 55 = .ok (.aload_n 0, 1) := dk_42 (dk_at dksX3_hang_2 10 rfl rfl)
theorem dX3_hang_56 : decode cX3_hang 56 = .ok (.iconst 2, 1) := dk_5 (dk_at dksX3_hang_2 11 rfl rfl)
theorem dX3_hang_57 : decode cX3_hang 57 = .ok (.invokevirtual 58, 3) := dk_182 0 58 (dk_at dksX3_hang_2 12 rfl rfl)
theorem dX3_hang_60 : decode cX3_hang 60 = .ok (.ireturn, 1) := dk_172 (dk_at dksX3_hang_2 15 rfl rfl)
theorem dX3_hang_61 : decode cX3_hang 61 = .ok (.aload_n 2, 1) := dk_44 (dk_at dksX3_hang_2 16 rfl rfl)
theorem dX3_hang_62 : decode cX3_hang 62 = .ok (.aload_n 0, 1) := dk_42 (dk_at dksX3_hang_2 17 rfl rfl)
theorem dX3_hang_63 : decode cX3_hang 63 = .ok (.iload_n 1, 1) := dk_27 (dk_at dksX3_hang_2 18 rfl rfl)
theorem dX3_hang_64 : decode cX3_hang 64 = .ok (.invokevirtual 106, 3) := dk_182 0 106 (dk_at dksX3_hang_2 19 rfl rfl)
theorem dX3_hang_67 : decode cX3_hang 67 = .ok (.aload_n 0, 1) := dk_42 (dk_at dksX3_hang_2 22 rfl rfl)
theorem dX3_hang_68 : decode cX3_hang 68 = .ok (.iload_n 1, 1) := dk_27 (dk_at dksX3_hang_2 23 rfl rfl)
theorem dX3_hang_69 : decode cX3_hang 69 = .ok (.invokevirtual 91, 3) := dk_182 0 91 (dk_at dksX3_hang_3 0 rfl rfl)
theorem dX3_hang_72 : decode cX3_hang 72 = .ok (.iconst 1, 1) := dk_4 (dk_at dksX3_hang_3 3 rfl rfl)
theorem dX3_hang_73 : decode cX3_hang 73 = .ok (.invokevirtual 114, 3) := dk_182 0 114 (dk_at dksX3_hang_3 4 rfl rfl)
theorem dX3_hang_76 : decode cX3_hang 76 = .ok (.invokeinterface 64 2, 5) := by decide +kernel
theorem dX3_hang_81 : decode cX3_hang 81 = .ok (.pop, 1) := dk_87 (dk_at dksX3_hang_3 12 rfl rfl)
theorem dX3_hang_82 : decode cX3_hang 82 = .ok (.aload_n 2, 1) := dk_44 (dk_at dksX3_hang_3 13 rfl rfl)
theorem dX3_hang_83 : decode cX3_hang 83 = .ok (.invokeinterface 30 1, 5) := by decide +kernel
theorem dX3_hang_88 : decode cX3_hang 88 = .ok (.ireturn, 1) := dk_172 (dk_at dksX3_hang_3 19 rfl rfl)
abbrev cX3_isVector : ByteArray := prog_11_method_36_code
def yX3_isVector : MethodName := ⟨RX3, "isVector", "(I)Z"⟩
def dkwX3_isVector_2 : List UInt8 := [3, 172, 132, 3, 1, 167, 255, 231, 4, 172]
abbrev dktX3_isVector_2 : List UInt8 := dkwX3_isVector_2 ++ []
def dkwX3_isVector_1 : List UInt8 := [3, 172, 3, 62, 29, 44, 190, 162, 0, 25, 44, 29, 46, 158, 0, 13, 29, 184, 0, 157, 4, 159, 0, 5]
abbrev dktX3_isVector_1 : List UInt8 := dkwX3_isVector_1 ++ dktX3_isVector_2
def dkwX3_isVector_0 : List UInt8 := [42, 27, 182, 0, 91, 77, 42, 27, 182, 0, 106, 180, 0, 154, 153, 0, 10, 44, 184, 0, 55, 154, 0, 5]
abbrev dktX3_isVector_0 : List UInt8 := dkwX3_isVector_0 ++ dktX3_isVector_1
theorem dksX3_isVector_0 : cX3_isVector.data.toList.drop 0 = dktX3_isVector_0 := by decide +kernel
theorem dksX3_isVector_1 : cX3_isVector.data.toList.drop 24 = dktX3_isVector_1 := dk_seg dksX3_isVector_0 24 rfl rfl
theorem dksX3_isVector_2 : cX3_isVector.data.toList.drop 48 = dktX3_isVector_2 := dk_seg dksX3_isVector_1 24 rfl rfl
theorem dX3_isVector_0 : decode cX3_isVector 0 = .ok (.aload_n 0, 1) := dk_42 (dk_at dksX3_isVector_0 0 rfl rfl)
theorem dX3_isVector_1 : decode cX3_isVector 1 = .ok (.iload_n 1, 1) := dk_27 (dk_at dksX3_isVector_0 1 rfl rfl)
theorem dX3_isVector_2 : decode cX3_isVector 2 = .ok (.invokevirtual 91, 3) := dk_182 0 91 (dk_at dksX3_isVector_0 2 rfl rfl)
theorem dX3_isVector_5 : decode cX3_isVector 5 = .ok (.astore_n 2, 1) := dk_77 (dk_at dksX3_isVector_0 5 rfl rfl)
theorem dX3_isVector_6 : decode cX3_isVector 6 = .ok (.aload_n 0, 1) := dk_42 (dk_at dksX3_isVector_0 6 rfl rfl)
theorem dX3_isVector_7 : decode cX3_isVector 7 = .ok (.iload_n 1, 1) := dk_27 (dk_at dksX3_isVector_0 7 rfl rfl)
theorem dX3_isVector_8 : decode cX3_isVector 8 = .ok (.invokevirtual 106, 3) := dk_182 0 106 (dk_at dksX3_isVector_0 8 rfl rfl)
theorem dX3_isVector_11 : decode cX3_isVector 11 = .ok (.getfield 154, 3) := dk_180 0 154 (dk_at dksX3_isVector_0 11 rfl rfl)
theorem dX3_isVector_14 : decode cX3_isVector 14 = .ok (.ifCond .eq 10, 3) := dk_153 0 10 (dk_at dksX3_isVector_0 14 rfl rfl)
theorem dX3_isVector_17 : decode cX3_isVector 17 = .ok (.aload_n 2, 1) := dk_44 (dk_at dksX3_isVector_0 17 rfl rfl)
theorem dX3_isVector_18 : decode cX3_isVector 18 = .ok (.invokestatic 55, 3) := dk_184 0 55 (dk_at dksX3_isVector_0 18 rfl rfl)
theorem dX3_isVector_21 : decode cX3_isVector 21 = .ok (.ifCond .ne 5, 3) := dk_154 0 5 (dk_at dksX3_isVector_0 21 rfl rfl)
theorem dX3_isVector_24 : decode cX3_isVector 24 = .ok (.iconst 0, 1) := dk_3 (dk_at dksX3_isVector_1 0 rfl rfl)
theorem dX3_isVector_25 : decode cX3_isVector 25 = .ok (.ireturn, 1) := dk_172 (dk_at dksX3_isVector_1 1 rfl rfl)
theorem dX3_isVector_26 : decode cX3_isVector 26 = .ok (.iconst 0, 1) := dk_3 (dk_at dksX3_isVector_1 2 rfl rfl)
theorem dX3_isVector_27 : decode cX3_isVector 27 = .ok (.istore_n 3, 1) := dk_62 (dk_at dksX3_isVector_1 3 rfl rfl)
theorem dX3_isVector_28 : decode cX3_isVector 28 = .ok (.iload_n 3, 1) := dk_29 (dk_at dksX3_isVector_1 4 rfl rfl)
theorem dX3_isVector_29 : decode cX3_isVector 29 = .ok (.aload_n 2, 1) := dk_44 (dk_at dksX3_isVector_1 5 rfl rfl)
theorem dX3_isVector_30 : decode cX3_isVector 30 = .ok (.arraylength, 1) := dk_190 (dk_at dksX3_isVector_1 6 rfl rfl)
theorem dX3_isVector_31 : decode cX3_isVector 31 = .ok (.if_icmp .ge 25, 3) := dk_162 0 25 (dk_at dksX3_isVector_1 7 rfl rfl)
theorem dX3_isVector_34 : decode cX3_isVector 34 = .ok (.aload_n 2, 1) := dk_44 (dk_at dksX3_isVector_1 10 rfl rfl)
theorem dX3_isVector_35 : decode cX3_isVector 35 = .ok (.iload_n 3, 1) := dk_29 (dk_at dksX3_isVector_1 11 rfl rfl)
theorem dX3_isVector_36 : decode cX3_isVector 36 = .ok (.iaload, 1) := dk_46 (dk_at dksX3_isVector_1 12 rfl rfl)
theorem dX3_isVector_37 : decode cX3_isVector 37 = .ok (.ifCond .le 13, 3) := dk_158 0 13 (dk_at dksX3_isVector_1 13 rfl rfl)
theorem dX3_isVector_40 : decode cX3_isVector 40 = .ok (.iload_n 3, 1) := dk_29 (dk_at dksX3_isVector_1 16 rfl rfl)
theorem dX3_isVector_41 : decode cX3_isVector 41 = .ok (.invokestatic 157, 3) := dk_184 0 157 (dk_at dksX3_isVector_1 17 rfl rfl)
theorem dX3_isVector_44 : decode cX3_isVector 44 = .ok (.iconst 1, 1) := dk_4 (dk_at dksX3_isVector_1 20 rfl rfl)
theorem dX3_isVector_45 : decode cX3_isVector 45 = .ok (.if_icmp .eq 5, 3) := dk_159 0 5 (dk_at dksX3_isVector_1 21 rfl rfl)
theorem dX3_isVector_48 : decode cX3_isVector 48 = .ok (.iconst 0, 1) := dk_3 (dk_at dksX3_isVector_2 0 rfl rfl)
theorem dX3_isVector_49 : decode cX3_isVector 49 = .ok (.ireturn, 1) := dk_172 (dk_at dksX3_isVector_2 1 rfl rfl)
theorem dX3_isVector_50 : decode cX3_isVector 50 = .ok (.iinc 3 1, 3) := dk_132 3 1 (dk_at dksX3_isVector_2 2 rfl rfl)
theorem dX3_isVector_53 : decode cX3_isVector 53 = .ok (.goto (-25), 3) := dk_167 255 231 (dk_at dksX3_isVector_2 5 rfl rfl)
theorem dX3_isVector_56 : decode cX3_isVector 56 = .ok (.iconst 1, 1) := dk_4 (dk_at dksX3_isVector_2 8 rfl rfl)
theorem dX3_isVector_57 : decode cX3_isVector 57 = .ok (.ireturn, 1) := dk_172 (dk_at dksX3_isVector_2 9 rfl rfl)
abbrev cX3_squareOf : ByteArray := prog_11_method_37_code
def yX3_squareOf : MethodName := ⟨RX3, "squareOf", "(I)I"⟩
def dkwX3_squareOf_0 : List UInt8 := [42, 27, 182, 0, 106, 42, 27, 182, 0, 91, 42, 27, 182, 0, 91, 182, 0, 110, 3, 46, 172]
abbrev dktX3_squareOf_0 : List UInt8 := dkwX3_squareOf_0 ++ []
theorem dksX3_squareOf_0 : cX3_squareOf.data.toList.drop 0 = dktX3_squareOf_0 := by decide +kernel
theorem dX3_squareOf_0 : decode cX3_squareOf 0 = .ok (.aload_n 0, 1) := dk_42 (dk_at dksX3_squareOf_0 0 rfl rfl)
theorem dX3_squareOf_1 : decode cX3_squareOf 1 = .ok (.iload_n 1, 1) := dk_27 (dk_at dksX3_squareOf_0 1 rfl rfl)
theorem dX3_squareOf_2 : decode cX3_squareOf 2 = .ok (.invokevirtual 106, 3) := dk_182 0 106 (dk_at dksX3_squareOf_0 2 rfl rfl)
theorem dX3_squareOf_5 : decode cX3_squareOf 5 = .ok (.aload_n 0, 1) := dk_42 (dk_at dksX3_squareOf_0 5 rfl rfl)
theorem dX3_squareOf_6 : decode cX3_squareOf 6 = .ok (.iload_n 1, 1) := dk_27 (dk_at dksX3_squareOf_0 6 rfl rfl)
theorem dX3_squareOf_7 : decode cX3_squareOf 7 = .ok (.invokevirtual 91, 3) := dk_182 0 91 (dk_at dksX3_squareOf_0 7 rfl rfl)
theorem dX3_squareOf_10 : decode cX3_squareOf 10 = .ok (.aload_n 0, 1) := dk_42 (dk_at dksX3_squareOf_0 10 rfl rfl)
theorem dX3_squareOf_11 : decode cX3_squareOf 11 = .ok (.iload_n 1, 1) := dk_27 (dk_at dksX3_squareOf_0 11 rfl rfl)
theorem dX3_squareOf_12 : decode cX3_squareOf 12 = .ok (.invokevirtual 91, 3) := dk_182 0 91 (dk_at dksX3_squareOf_0 12 rfl rfl)
theorem dX3_squareOf_15 : decode cX3_squareOf 15 = .ok (.invokevirtual 110, 3) := dk_182 0 110 (dk_at dksX3_squareOf_0 15 rfl rfl)
theorem dX3_squareOf_18 : decode cX3_squareOf 18 = .ok (.iconst 0, 1) := dk_3 (dk_at dksX3_squareOf_0 18 rfl rfl)
theorem dX3_squareOf_19 : decode cX3_squareOf 19 = .ok (.iaload, 1) := dk_46 (dk_at dksX3_squareOf_0 19 rfl rfl)
theorem dX3_squareOf_20 : decode cX3_squareOf 20 = .ok (.ireturn, 1) := dk_172 (dk_at dksX3_squareOf_0 20 rfl rfl)
abbrev cX3_clear : ByteArray := prog_11_method_39_code
def yX3_clear : MethodName := ⟨RX3, "clear", "(I)I"⟩
def dkwX3_clear_3 : List UInt8 := [185, 0, 30, 1, 0, 4, 100, 185, 0, 172, 2, 0, 87, 167, 255, 232, 29, 172]
abbrev dktX3_clear_3 : List UInt8 := dkwX3_clear_3 ++ []
def dkwX3_clear_2 : List UInt8 := [29, 154, 0, 7, 4, 167, 0, 4, 3, 96, 181, 0, 169, 44, 185, 0, 30, 1, 0, 158, 0, 21, 44, 44]
abbrev dktX3_clear_2 : List UInt8 := dkwX3_clear_2 ++ dktX3_clear_3
def dkwX3_clear_1 : List UInt8 := [185, 0, 40, 2, 0, 192, 0, 53, 180, 0, 160, 77, 44, 185, 0, 30, 1, 0, 62, 42, 89, 180, 0, 169]
abbrev dktX3_clear_1 : List UInt8 := dkwX3_clear_1 ++ dktX3_clear_2
def dkwX3_clear_0 : List UInt8 := [42, 3, 181, 0, 23, 42, 27, 182, 0, 68, 154, 0, 9, 42, 4, 182, 0, 58, 172, 42, 180, 0, 16, 27]
abbrev dktX3_clear_0 : List UInt8 := dkwX3_clear_0 ++ dktX3_clear_1
theorem dksX3_clear_0 : cX3_clear.data.toList.drop 0 = dktX3_clear_0 := by decide +kernel
theorem dksX3_clear_1 : cX3_clear.data.toList.drop 24 = dktX3_clear_1 := dk_seg dksX3_clear_0 24 rfl rfl
theorem dksX3_clear_2 : cX3_clear.data.toList.drop 48 = dktX3_clear_2 := dk_seg dksX3_clear_1 24 rfl rfl
theorem dksX3_clear_3 : cX3_clear.data.toList.drop 72 = dktX3_clear_3 := dk_seg dksX3_clear_2 24 rfl rfl
theorem dX3_clear_0 : decode cX3_clear 0 = .ok (.aload_n 0, 1) := dk_42 (dk_at dksX3_clear_0 0 rfl rfl)
theorem dX3_clear_1 : decode cX3_clear 1 = .ok (.iconst 0, 1) := dk_3 (dk_at dksX3_clear_0 1 rfl rfl)
theorem dX3_clear_2 : decode cX3_clear 2 = .ok (.putfield 23, 3) := dk_181 0 23 (dk_at dksX3_clear_0 2 rfl rfl)
theorem dX3_clear_5 : decode cX3_clear 5 = .ok (.aload_n 0, 1) := dk_42 (dk_at dksX3_clear_0 5 rfl rfl)
theorem dX3_clear_6 : decode cX3_clear 6 = .ok (.iload_n 1, 1) := dk_27 (dk_at dksX3_clear_0 6 rfl rfl)
theorem dX3_clear_7 : decode cX3_clear 7 = .ok (.invokevirtual 68, 3) := dk_182 0 68 (dk_at dksX3_clear_0 7 rfl rfl)
theorem dX3_clear_10 : decode cX3_clear 10 = .ok (.ifCond .ne 9, 3) := dk_154 0 9 (dk_at dksX3_clear_0 10 rfl rfl)
theorem dX3_clear_13 : decode cX3_clear 13 = .ok (.aload_n 0, 1) := dk_42 (dk_at dksX3_clear_0 13 rfl rfl)
theorem dX3_clear_14 : decode cX3_clear 14 = .ok (.iconst 1, 1) := dk_4 (dk_at dksX3_clear_0 14 rfl rfl)
theorem dX3_clear_15 : decode cX3_clear 15 = .ok (.invokevirtual 58, 3) := dk_182 0 58 (dk_at dksX3_clear_0 15 rfl rfl)
theorem dX3_clear_18 : decode cX3_clear 18 = .ok (.ireturn, 1) := dk_172 (dk_at dksX3_clear_0 18 rfl rfl)
theorem dX3_clear_19 : decode cX3_clear 19 = .ok (.aload_n 0, 1) := dk_42 (dk_at dksX3_clear_0 19 rfl rfl)
theorem dX3_clear_20 : decode cX3_clear 20 = .ok (.getfield 16, 3) := dk_180 0 16 (dk_at dksX3_clear_0 20 rfl rfl)
theorem dX3_clear_23 : decode cX3_clear 23 = .ok (.iload_n 1, 1) := dk_27 (dk_at dksX3_clear_0 23 rfl rfl)
theorem dX3_clear_24 : decode cX3_clear 24 = .ok (.invokeinterface 40 2, 5) := by decide +kernel
theorem dX3_clear_29 : decode cX3_clear 29 = .ok (.checkcast 53, 3) := dk_192 0 53 (dk_at dksX3_clear_1 5 rfl rfl)
theorem dX3_clear_32 : decode cX3_clear 32 = .ok (.getfield 160, 3) := dk_180 0 160 (dk_at dksX3_clear_1 8 rfl rfl)
theorem dX3_clear_35 : decode cX3_clear 35 = .ok (.astore_n 2, 1) := dk_77 (dk_at dksX3_clear_1 11 rfl rfl)
theorem dX3_clear_36 : decode cX3_clear 36 = .ok (.aload_n 2, 1) := dk_44 (dk_at dksX3_clear_1 12 rfl rfl)
theorem dX3_clear_37 : decode cX3_clear 37 = .ok (.invokeinterface 30 1, 5) := by decide +kernel
theorem dX3_clear_42 : decode cX3_clear 42 = .ok (.istore_n 3, 1) := dk_62 (dk_at dksX3_clear_1 18 rfl rfl)
theorem dX3_clear_43 : decode cX3_clear 43 = .ok (.aload_n 0, 1) := dk_42 (dk_at dksX3_clear_1 19 rfl rfl)
theorem dX3_clear_44 : decode cX3_clear 44 = .ok (.dup, 1) := dk_89 (dk_at dksX3_clear_1 20 rfl rfl)
theorem dX3_clear_45 : decode cX3_clear 45 = .ok (.getfield 169, 3) := dk_180 0 169 (dk_at dksX3_clear_1 21 rfl rfl)
theorem dX3_clear_48 : decode cX3_clear 48 = .ok (.iload_n 3, 1) := dk_29 (dk_at dksX3_clear_2 0 rfl rfl)
theorem dX3_clear_49 : decode cX3_clear 49 = .ok (.ifCond .ne 7, 3) := dk_154 0 7 (dk_at dksX3_clear_2 1 rfl rfl)
theorem dX3_clear_52 : decode cX3_clear 52 = .ok (.iconst 1, 1) := dk_4 (dk_at dksX3_clear_2 4 rfl rfl)
theorem dX3_clear_53 : decode cX3_clear 53 = .ok (.goto 4, 3) := dk_167 0 4 (dk_at dksX3_clear_2 5 rfl rfl)
theorem dX3_clear_56 : decode cX3_clear 56 = .ok (.iconst 0, 1) := dk_3 (dk_at dksX3_clear_2 8 rfl rfl)
theorem dX3_clear_57 : decode cX3_clear 57 = .ok (.iadd, 1) := dk_96 (dk_at dksX3_clear_2 9 rfl rfl)
theorem dX3_clear_58 : decode cX3_clear 58 = .ok (.putfield 169, 3) := dk_181 0 169 (dk_at dksX3_clear_2 10 rfl rfl)
theorem dX3_clear_61 : decode cX3_clear 61 = .ok (.aload_n 2, 1) := dk_44 (dk_at dksX3_clear_2 13 rfl rfl)
theorem dX3_clear_62 : decode cX3_clear 62 = .ok (.invokeinterface 30 1, 5) := by decide +kernel
theorem dX3_clear_67 : decode cX3_clear 67 = .ok (.ifCond .le 21, 3) := dk_158 0 21 (dk_at dksX3_clear_2 19 rfl rfl)
theorem dX3_clear_70 : decode cX3_clear 70 = .ok (.aload_n 2, 1) := dk_44 (dk_at dksX3_clear_2 22 rfl rfl)
theorem dX3_clear_71 : decode cX3_clear 71 = .ok (.aload_n 2, 1) := dk_44 (dk_at dksX3_clear_2 23 rfl rfl)
theorem dX3_clear_72 : decode cX3_clear 72 = .ok (.invokeinterface 30 1, 5) := by decide +kernel
theorem dX3_clear_77 : decode cX3_clear 77 = .ok (.iconst 1, 1) := dk_4 (dk_at dksX3_clear_3 5 rfl rfl)
theorem dX3_clear_78 : decode cX3_clear 78 = .ok (.isub, 1) := dk_100 (dk_at dksX3_clear_3 6 rfl rfl)
theorem dX3_clear_79 : decode cX3_clear 79 = .ok (.invokeinterface 172 2, 5) := by decide +kernel
theorem dX3_clear_84 : decode cX3_clear 84 = .ok (.pop, 1) := dk_87 (dk_at dksX3_clear_3 12 rfl rfl)
theorem dX3_clear_85 : decode cX3_clear 85 = .ok (.goto (-24), 3) := dk_167 255 232 (dk_at dksX3_clear_3 13 rfl rfl)
theorem dX3_clear_88 : decode cX3_clear 88 = .ok (.iload_n 3, 1) := dk_29 (dk_at dksX3_clear_3 16 rfl rfl)
theorem dX3_clear_89 : decode cX3_clear 89 = .ok (.ireturn, 1) := dk_172 (dk_at dksX3_clear_3 17 rfl rfl)
abbrev cX3_mirror : ByteArray := prog_11_method_40_code
def yX3_mirror : MethodName := ⟨RX3, "mirror", "(III)I"⟩
def dkwX3_mirror_4 : List UInt8 := [42, 29, 182, 0, 91, 182, 0, 175, 182, 0, 102, 172]
abbrev dktX3_mirror_4 : List UInt8 := dkwX3_mirror_4 ++ []
def dkwX3_mirror_3 : List UInt8 := [182, 0, 166, 154, 0, 9, 42, 6, 182, 0, 58, 172, 42, 27, 42, 27, 182, 0, 106, 42, 28, 182, 0, 91]
abbrev dktX3_mirror_3 : List UInt8 := dkwX3_mirror_3 ++ dktX3_mirror_4
def dkwX3_mirror_2 : List UInt8 := [182, 0, 94, 154, 0, 9, 42, 5, 182, 0, 58, 172, 42, 28, 182, 0, 163, 153, 0, 11, 42, 28]
abbrev dktX3_mirror_2 : List UInt8 := dkwX3_mirror_2 ++ dktX3_mirror_3
def dkwX3_mirror_1 : List UInt8 := [182, 0, 88, 154, 0, 9, 42, 4, 182, 0, 58, 172, 42, 27, 28, 182, 0, 94, 153, 0, 12, 42, 27, 29]
abbrev dktX3_mirror_1 : List UInt8 := dkwX3_mirror_1 ++ dktX3_mirror_2
def dkwX3_mirror_0 : List UInt8 := [42, 3, 181, 0, 23, 42, 27, 182, 0, 88, 153, 0, 19, 42, 28, 182, 0, 88, 153, 0, 11, 42, 29]
abbrev dktX3_mirror_0 : List UInt8 := dkwX3_mirror_0 ++ dktX3_mirror_1
theorem dksX3_mirror_0 : cX3_mirror.data.toList.drop 0 = dktX3_mirror_0 := by decide +kernel
theorem dksX3_mirror_1 : cX3_mirror.data.toList.drop 23 = dktX3_mirror_1 := dk_seg dksX3_mirror_0 23 rfl rfl
theorem dksX3_mirror_2 : cX3_mirror.data.toList.drop 47 = dktX3_mirror_2 := dk_seg dksX3_mirror_1 24 rfl rfl
theorem dksX3_mirror_3 : cX3_mirror.data.toList.drop 69 = dktX3_mirror_3 := dk_seg dksX3_mirror_2 22 rfl rfl
theorem dksX3_mirror_4 : cX3_mirror.data.toList.drop 93 = dktX3_mirror_4 := dk_seg dksX3_mirror_3 24 rfl rfl
theorem dX3_mirror_0 : decode cX3_mirror 0 = .ok (.aload_n 0, 1) := dk_42 (dk_at dksX3_mirror_0 0 rfl rfl)
theorem dX3_mirror_1 : decode cX3_mirror 1 = .ok (.iconst 0, 1) := dk_3 (dk_at dksX3_mirror_0 1 rfl rfl)
theorem dX3_mirror_2 : decode cX3_mirror 2 = .ok (.putfield 23, 3) := dk_181 0 23 (dk_at dksX3_mirror_0 2 rfl rfl)
theorem dX3_mirror_5 : decode cX3_mirror 5 = .ok (.aload_n 0, 1) := dk_42 (dk_at dksX3_mirror_0 5 rfl rfl)
theorem dX3_mirror_6 : decode cX3_mirror 6 = .ok (.iload_n 1, 1) := dk_27 (dk_at dksX3_mirror_0 6 rfl rfl)
theorem dX3_mirror_7 : decode cX3_mirror 7 = .ok (.invokevirtual 88, 3) := dk_182 0 88 (dk_at dksX3_mirror_0 7 rfl rfl)
theorem dX3_mirror_10 : decode cX3_mirror 10 = .ok (.ifCond .eq 19, 3) := dk_153 0 19 (dk_at dksX3_mirror_0 10 rfl rfl)
theorem dX3_mirror_13 : decode cX3_mirror 13 = .ok (.aload_n 0, 1) := dk_42 (dk_at dksX3_mirror_0 13 rfl rfl)
theorem dX3_mirror_14 : decode cX3_mirror 14 = .ok (.iload_n 2, 1) := dk_28 (dk_at dksX3_mirror_0 14 rfl rfl)
theorem dX3_mirror_15 : decode cX3_mirror 15 = .ok (.invokevirtual 88, 3) := dk_182 0 88 (dk_at dksX3_mirror_0 15 rfl rfl)
theorem dX3_mirror_18 : decode cX3_mirror 18 = .ok (.ifCond .eq 11, 3) := dk_153 0 11 (dk_at dksX3_mirror_0 18 rfl rfl)
theorem dX3_mirror_21 : decode cX3_mirror 21 = .ok (.aload_n 0, 1) := dk_42 (dk_at dksX3_mirror_0 21 rfl rfl)
theorem dX3_mirror_22 : decode cX3_mirror 22 = .ok (.iload_n 3, 1) := dk_29 (dk_at dksX3_mirror_0 22 rfl rfl)
theorem dX3_mirror_23 : decode cX3_mirror 23 = .ok (.invokevirtual 88, 3) := dk_182 0 88 (dk_at dksX3_mirror_1 0 rfl rfl)
theorem dX3_mirror_26 : decode cX3_mirror 26 = .ok (.ifCond .ne 9, 3) := dk_154 0 9 (dk_at dksX3_mirror_1 3 rfl rfl)
theorem dX3_mirror_29 : decode cX3_mirror 29 = .ok (.aload_n 0, 1) := dk_42 (dk_at dksX3_mirror_1 6 rfl rfl)
theorem dX3_mirror_30 : decode cX3_mirror 30 = .ok (.iconst 1, 1) := dk_4 (dk_at dksX3_mirror_1 7 rfl rfl)
theorem dX3_mirror_31 : decode cX3_mirror 31 = .ok (.invokevirtual 58, 3) := dk_182 0 58 (dk_at dksX3_mirror_1 8 rfl rfl)
theorem dX3_mirror_34 : decode cX3_mirror 34 = .ok (.ireturn, 1) := dk_172 (dk_at dksX3_mirror_1 11 rfl rfl)
theorem dX3_mirror_35 : decode cX3_mirror 35 = .ok (.aload_n 0, 1) := dk_42 (dk_at dksX3_mirror_1 12 rfl rfl)
theorem dX3_mirror_36 : decode cX3_mirror 36 = .ok (.iload_n 1, 1) := dk_27 (dk_at dksX3_mirror_1 13 rfl rfl)
theorem dX3_mirror_37 : decode cX3_mirror 37 = .ok (.iload_n 2, 1) := dk_28 (dk_at dksX3_mirror_1 14 rfl rfl)
theorem dX3_mirror_38 : decode cX3_mirror 38 = .ok (.invokevirtual 94, 3) := dk_182 0 94 (dk_at dksX3_mirror_1 15 rfl rfl)
theorem dX3_mirror_41 : decode cX3_mirror 41 = .ok (.ifCond .eq 12, 3) := dk_153 0 12 (dk_at dksX3_mirror_1 18 rfl rfl)
theorem dX3_mirror_44 : decode cX3_mirror 44 = .ok (.aload_n 0, 1) := dk_42 (dk_at dksX3_mirror_1 21 rfl rfl)
theorem dX3_mirror_45 : decode cX3_mirror 45 = .ok (.iload_n 1, 1) := dk_27 (dk_at dksX3_mirror_1 22 rfl rfl)
theorem dX3_mirror_46 : decode cX3_mirror 46 = .ok (.iload_n 3, 1) := dk_29 (dk_at dksX3_mirror_1 23 rfl rfl)
theorem dX3_mirror_47 : decode cX3_mirror 47 = .ok (.invokevirtual 94, 3) := dk_182 0 94 (dk_at dksX3_mirror_2 0 rfl rfl)
theorem dX3_mirror_50 : decode cX3_mirror 50 = .ok (.ifCond .ne 9, 3) := dk_154 0 9 (dk_at dksX3_mirror_2 3 rfl rfl)
theorem dX3_mirror_53 : decode cX3_mirror 53 = .ok (.aload_n 0, 1) := dk_42 (dk_at dksX3_mirror_2 6 rfl rfl)
theorem dX3_mirror_54 : decode cX3_mirror 54 = .ok (.iconst 2, 1) := dk_5 (dk_at dksX3_mirror_2 7 rfl rfl)
theorem dX3_mirror_55 : decode cX3_mirror 55 = .ok (.invokevirtual 58, 3) := dk_182 0 58 (dk_at dksX3_mirror_2 8 rfl rfl)
theorem dX3_mirror_58 : decode cX3_mirror 58 = .ok (.ireturn, 1) := dk_172 (dk_at dksX3_mirror_2 11 rfl rfl)
theorem dX3_mirror_59 : decode cX3_mirror 59 = .ok (.aload_n 0, 1) := dk_42 (dk_at dksX3_mirror_2 12 rfl rfl)
theorem dX3_mirror_60 : decode cX3_mirror 60 = .ok (.iload_n 2, 1) := dk_28 (dk_at dksX3_mirror_2 13 rfl rfl)
theorem dX3_mirror_61 : decode cX3_mirror 61 = .ok (.invokevirtual 163, 3) := dk_182 0 163 (dk_at dksX3_mirror_2 14 rfl rfl)
theorem dX3_mirror_64 : decode cX3_mirror 64 = .ok (.ifCond .eq 11, 3) := dk_153 0 11 (dk_at dksX3_mirror_2 17 rfl rfl)
theorem dX3_mirror_67 : decode cX3_mirror 67 = .ok (.aload_n 0, 1) := dk_42 (dk_at dksX3_mirror_2 20 rfl rfl)
theorem dX3_mirror_68 : decode cX3_mirror 68 = .ok (.iload_n 2, 1) := dk_28 (dk_at dksX3_mirror_2 21 rfl rfl)
theorem dX3_mirror_69 : decode cX3_mirror 69 = .ok (.invokevirtual 166, 3) := dk_182 0 166 (dk_at dksX3_mirror_3 0 rfl rfl)
theorem dX3_mirror_72 : decode cX3_mirror 72 = .ok (.ifCond .ne 9, 3) := dk_154 0 9 (dk_at dksX3_mirror_3 3 rfl rfl)
theorem dX3_mirror_75 : decode cX3_mirror 75 = .ok (.aload_n 0, 1) := dk_42 (dk_at dksX3_mirror_3 6 rfl rfl)
theorem dX3_mirror_76 : decode cX3_mirror 76 = .ok (.iconst 3, 1) := dk_6 (dk_at dksX3_mirror_3 7 rfl rfl)
theorem dX3_mirror_77 : decode cX3_mirror 77 = .ok (.invokevirtual 58, 3) := dk_182 0 58 (dk_at dksX3_mirror_3 8 rfl rfl)
theorem dX3_mirror_80 : decode cX3_mirror 80 = .ok (.ireturn, 1) := dk_172 (dk_at dksX3_mirror_3 11 rfl rfl)
theorem dX3_mirror_81 : decode cX3_mirror 81 = .ok (.aload_n 0, 1) := dk_42 (dk_at dksX3_mirror_3 12 rfl rfl)
theorem dX3_mirror_82 : decode cX3_mirror 82 = .ok (.iload_n 1, 1) := dk_27 (dk_at dksX3_mirror_3 13 rfl rfl)
theorem dX3_mirror_83 : decode cX3_mirror 83 = .ok (.aload_n 0, 1) := dk_42 (dk_at dksX3_mirror_3 14 rfl rfl)
theorem dX3_mirror_84 : decode cX3_mirror 84 = .ok (.iload_n 1, 1) := dk_27 (dk_at dksX3_mirror_3 15 rfl rfl)
theorem dX3_mirror_85 : decode cX3_mirror 85 = .ok (.invokevirtual 106, 3) := dk_182 0 106 (dk_at dksX3_mirror_3 16 rfl rfl)
theorem dX3_mirror_88 : decode cX3_mirror 88 = .ok (.aload_n 0, 1) := dk_42 (dk_at dksX3_mirror_3 19 rfl rfl)
theorem dX3_mirror_89 : decode cX3_mirror 89 = .ok (.iload_n 2, 1) := dk_28 (dk_at dksX3_mirror_3 20 rfl rfl)
theorem dX3_mirror_90 : decode cX3_mirror 90 = .ok (.invokevirtual 91, 3) := dk_182 0 91 (dk_at dksX3_mirror_3 21 rfl rfl)
theorem dX3_mirror_93 : decode cX3_mirror 93 = .ok (.aload_n 0, 1) := dk_42 (dk_at dksX3_mirror_4 0 rfl rfl)
theorem dX3_mirror_94 : decode cX3_mirror 94 = .ok (.iload_n 3, 1) := dk_29 (dk_at dksX3_mirror_4 1 rfl rfl)
theorem dX3_mirror_95 : decode cX3_mirror 95 = .ok (.invokevirtual 91, 3) := dk_182 0 91 (dk_at dksX3_mirror_4 2 rfl rfl)
theorem dX3_mirror_98 : decode cX3_mirror 98 = .ok (.invokevirtual 175, 3) := dk_182 0 175 (dk_at dksX3_mirror_4 5 rfl rfl)
theorem dX3_mirror_101 : decode cX3_mirror 101 = .ok (.invokevirtual 102, 3) := dk_182 0 102 (dk_at dksX3_mirror_4 8 rfl rfl)
theorem dX3_mirror_104 : decode cX3_mirror 104 = .ok (.ireturn, 1) := dk_172 (dk_at dksX3_mirror_4 11 rfl rfl)
abbrev cX3_turn : ByteArray := prog_11_method_41_code
def yX3_turn : MethodName := ⟨RX3, "turn", "(II)I"⟩
def dkwX3_turn_5 : List UInt8 := [27, 25, 4, 182, 0, 102, 172]
abbrev dktX3_turn_5 : List UInt8 := dkwX3_turn_5 ++ []
def dkwX3_turn_4 : List UInt8 := [21, 5, 185, 0, 40, 2, 0, 192, 0, 139, 25, 4, 182, 0, 175, 58, 4, 132, 5, 1, 167, 255, 217, 42]
abbrev dktX3_turn_4 : List UInt8 := dkwX3_turn_4 ++ dktX3_turn_5
def dkwX3_turn_3 : List UInt8 := [58, 4, 3, 54, 5, 21, 5, 45, 180, 0, 160, 185, 0, 30, 1, 0, 162, 0, 31, 45, 45, 180, 0, 160]
abbrev dktX3_turn_3 : List UInt8 := dkwX3_turn_3 ++ dktX3_turn_4
def dkwX3_turn_2 : List UInt8 := [78, 45, 180, 0, 154, 154, 0, 9, 42, 6, 182, 0, 58, 172, 45, 42, 28, 182, 0, 91, 4, 182, 0, 114]
abbrev dktX3_turn_2 : List UInt8 := dkwX3_turn_2 ++ dktX3_turn_3
def dkwX3_turn_1 : List UInt8 := [182, 0, 58, 172, 42, 27, 28, 182, 0, 94, 154, 0, 9, 42, 5, 182, 0, 58, 172, 42, 27, 182, 0, 106]
abbrev dktX3_turn_1 : List UInt8 := dkwX3_turn_1 ++ dktX3_turn_2
def dkwX3_turn_0 : List UInt8 := [42, 3, 181, 0, 23, 42, 27, 182, 0, 88, 153, 0, 11, 42, 28, 182, 0, 88, 154, 0, 9, 42, 4]
abbrev dktX3_turn_0 : List UInt8 := dkwX3_turn_0 ++ dktX3_turn_1
theorem dksX3_turn_0 : cX3_turn.data.toList.drop 0 = dktX3_turn_0 := by decide +kernel
theorem dksX3_turn_1 : cX3_turn.data.toList.drop 23 = dktX3_turn_1 := dk_seg dksX3_turn_0 23 rfl rfl
theorem dksX3_turn_2 : cX3_turn.data.toList.drop 47 = dktX3_turn_2 := dk_seg dksX3_turn_1 24 rfl rfl
theorem dksX3_turn_3 : cX3_turn.data.toList.drop 71 = dktX3_turn_3 := dk_seg dksX3_turn_2 24 rfl rfl
theorem dksX3_turn_4 : cX3_turn.data.toList.drop 95 = dktX3_turn_4 := dk_seg dksX3_turn_3 24 rfl rfl
theorem dksX3_turn_5 : cX3_turn.data.toList.drop 119 = dktX3_turn_5 := dk_seg dksX3_turn_4 24 rfl rfl
theorem dX3_turn_0 : decode cX3_turn 0 = .ok (.aload_n 0, 1) := dk_42 (dk_at dksX3_turn_0 0 rfl rfl)
theorem dX3_turn_1 : decode cX3_turn 1 = .ok (.iconst 0, 1) := dk_3 (dk_at dksX3_turn_0 1 rfl rfl)
theorem dX3_turn_2 : decode cX3_turn 2 = .ok (.putfield 23, 3) := dk_181 0 23 (dk_at dksX3_turn_0 2 rfl rfl)
theorem dX3_turn_5 : decode cX3_turn 5 = .ok (.aload_n 0, 1) := dk_42 (dk_at dksX3_turn_0 5 rfl rfl)
theorem dX3_turn_6 : decode cX3_turn 6 = .ok (.iload_n 1, 1) := dk_27 (dk_at dksX3_turn_0 6 rfl rfl)
theorem dX3_turn_7 : decode cX3_turn 7 = .ok (.invokevirtual 88, 3) := dk_182 0 88 (dk_at dksX3_turn_0 7 rfl rfl)
theorem dX3_turn_10 : decode cX3_turn 10 = .ok (.ifCond .eq 11, 3) := dk_153 0 11 (dk_at dksX3_turn_0 10 rfl rfl)
theorem dX3_turn_13 : decode cX3_turn 13 = .ok (.aload_n 0, 1) := dk_42 (dk_at dksX3_turn_0 13 rfl rfl)
theorem dX3_turn_14 : decode cX3_turn 14 = .ok (.iload_n 2, 1) := dk_28 (dk_at dksX3_turn_0 14 rfl rfl)
theorem dX3_turn_15 : decode cX3_turn 15 = .ok (.invokevirtual 88, 3) := dk_182 0 88 (dk_at dksX3_turn_0 15 rfl rfl)
theorem dX3_turn_18 : decode cX3_turn 18 = .ok (.ifCond .ne 9, 3) := dk_154 0 9 (dk_at dksX3_turn_0 18 rfl rfl)
theorem dX3_turn_21 : decode cX3_turn 21 = .ok (.aload_n 0, 1) := dk_42 (dk_at dksX3_turn_0 21 rfl rfl)
theorem dX3_turn_22 : decode cX3_turn 22 = .ok (.iconst 1, 1) := dk_4 (dk_at dksX3_turn_0 22 rfl rfl)
theorem dX3_turn_23 : decode cX3_turn 23 = .ok (.invokevirtual 58, 3) := dk_182 0 58 (dk_at dksX3_turn_1 0 rfl rfl)
theorem dX3_turn_26 : decode cX3_turn 26 = .ok (.ireturn, 1) := dk_172 (dk_at dksX3_turn_1 3 rfl rfl)
theorem dX3_turn_27 : decode cX3_turn 27 = .ok (.aload_n 0, 1) := dk_42 (dk_at dksX3_turn_1 4 rfl rfl)
theorem dX3_turn_28 : decode cX3_turn 28 = .ok (.iload_n 1, 1) := dk_27 (dk_at dksX3_turn_1 5 rfl rfl)
theorem dX3_turn_29 : decode cX3_turn 29 = .ok (.iload_n 2, 1) := dk_28 (dk_at dksX3_turn_1 6 rfl rfl)
theorem dX3_turn_30 : decode cX3_turn 30 = .ok (.invokevirtual 94, 3) := dk_182 0 94 (dk_at dksX3_turn_1 7 rfl rfl)
theorem dX3_turn_33 : decode cX3_turn 33 = .ok (.ifCond .ne 9, 3) := dk_154 0 9 (dk_at dksX3_turn_1 10 rfl rfl)
theorem dX3_turn_36 : decode cX3_turn 36 = .ok (.aload_n 0, 1) := dk_42 (dk_at dksX3_turn_1 13 rfl rfl)
theorem dX3_turn_37 : decode cX3_turn 37 = .ok (.iconst 2, 1) := dk_5 (dk_at dksX3_turn_1 14 rfl rfl)
theorem dX3_turn_38 : decode cX3_turn 38 = .ok (.invokevirtual 58, 3) := dk_182 0 58 (dk_at dksX3_turn_1 15 rfl rfl)
theorem dX3_turn_41 : decode cX3_turn 41 = .ok (.ireturn, 1) := dk_172 (dk_at dksX3_turn_1 18 rfl rfl)
theorem dX3_turn_42 : decode cX3_turn 42 = .ok (.aload_n 0, 1) := dk_42 (dk_at dksX3_turn_1 19 rfl rfl)
theorem dX3_turn_43 : decode cX3_turn 43 = .ok (.iload_n 1, 1) := dk_27 (dk_at dksX3_turn_1 20 rfl rfl)
theorem dX3_turn_44 : decode cX3_turn 44 = .ok (.invokevirtual 106, 3) := dk_182 0 106 (dk_at dksX3_turn_1 21 rfl rfl)
theorem dX3_turn_47 : decode cX3_turn 47 = .ok (.astore_n 3, 1) := dk_78 (dk_at dksX3_turn_2 0 rfl rfl)
theorem dX3_turn_48 : decode cX3_turn 48 = .ok (.aload_n 3, 1) := dk_45 (dk_at dksX3_turn_2 1 rfl rfl)
theorem dX3_turn_49 : decode cX3_turn 49 = .ok (.getfield 154, 3) := dk_180 0 154 (dk_at dksX3_turn_2 2 rfl rfl)
theorem dX3_turn_52 : decode cX3_turn 52 = .ok (.ifCond .ne 9, 3) := dk_154 0 9 (dk_at dksX3_turn_2 5 rfl rfl)
theorem dX3_turn_55 : decode cX3_turn 55 = .ok (.aload_n 0, 1) := dk_42 (dk_at dksX3_turn_2 8 rfl rfl)
theorem dX3_turn_56 : decode cX3_turn 56 = .ok (.iconst 3, 1) := dk_6 (dk_at dksX3_turn_2 9 rfl rfl)
theorem dX3_turn_57 : decode cX3_turn 57 = .ok (.invokevirtual 58, 3) := dk_182 0 58 (dk_at dksX3_turn_2 10 rfl rfl)
theorem dX3_turn_60 : decode cX3_turn 60 = .ok (.ireturn, 1) := dk_172 (dk_at dksX3_turn_2 13 rfl rfl)
theorem dX3_turn_61 : decode cX3_turn 61 = .ok (.aload_n 3, 1) := dk_45 (dk_at dksX3_turn_2 14 rfl rfl)
theorem dX3_turn_62 : decode cX3_turn 62 = .ok (.aload_n 0, 1) := dk_42 (dk_at dksX3_turn_2 15 rfl rfl)
theorem dX3_turn_63 : decode cX3_turn 63 = .ok (.iload_n 2, 1) := dk_28 (dk_at dksX3_turn_2 16 rfl rfl)
theorem dX3_turn_64 : decode cX3_turn 64 = .ok (.invokevirtual 91, 3) := dk_182 0 91 (dk_at dksX3_turn_2 17 rfl rfl)
theorem dX3_turn_67 : decode cX3_turn 67 = .ok (.iconst 1, 1) := dk_4 (dk_at dksX3_turn_2 20 rfl rfl)
theorem dX3_turn_68 : decode cX3_turn 68 = .ok (.invokevirtual 114, 3) := dk_182 0 114 (dk_at dksX3_turn_2 21 rfl rfl)
theorem dX3_turn_71 : decode cX3_turn 71 = .ok (.astore 4, 2) := dk_58 4 (dk_at dksX3_turn_3 0 rfl rfl)
theorem dX3_turn_73 : decode cX3_turn 73 = .ok (.iconst 0, 1) := dk_3 (dk_at dksX3_turn_3 2 rfl rfl)
theorem dX3_turn_74 : decode cX3_turn 74 = .ok (.istore 5, 2) := dk_54 5 (dk_at dksX3_turn_3 3 rfl rfl)
theorem dX3_turn_76 : decode cX3_turn 76 = .ok (.iload 5, 2) := dk_21 5 (dk_at dksX3_turn_3 5 rfl rfl)
theorem dX3_turn_78 : decode cX3_turn 78 = .ok (.aload_n 3, 1) := dk_45 (dk_at dksX3_turn_3 7 rfl rfl)
theorem dX3_turn_79 : decode cX3_turn 79 = .ok (.getfield 160, 3) := dk_180 0 160 (dk_at dksX3_turn_3 8 rfl rfl)
theorem dX3_turn_82 : decode cX3_turn 82 = .ok (.invokeinterface 30 1, 5) := by decide +kernel
theorem dX3_turn_87 : decode cX3_turn 87 = .ok (.if_icmp .ge 31, 3) := dk_162 0 31 (dk_at dksX3_turn_3 16 rfl rfl)
theorem dX3_turn_90 : decode cX3_turn 90 = .ok (.aload_n 3, 1) := dk_45 (dk_at dksX3_turn_3 19 rfl rfl)
theorem dX3_turn_91 : decode cX3_turn 91 = .ok (.aload_n 3, 1) := dk_45 (dk_at dksX3_turn_3 20 rfl rfl)
theorem dX3_turn_92 : decode cX3_turn 92 = .ok (.getfield 160, 3) := dk_180 0 160 (dk_at dksX3_turn_3 21 rfl rfl)
theorem dX3_turn_95 : decode cX3_turn 95 = .ok (.iload 5, 2) := dk_21 5 (dk_at dksX3_turn_4 0 rfl rfl)
theorem dX3_turn_97 : decode cX3_turn 97 = .ok (.invokeinterface 40 2, 5) := by decide +kernel
theorem dX3_turn_102 : decode cX3_turn 102 = .ok (.checkcast 139, 3) := dk_192 0 139 (dk_at dksX3_turn_4 7 rfl rfl)
theorem dX3_turn_105 : decode cX3_turn 105 = .ok (.aload 4, 2) := dk_25 4 (dk_at dksX3_turn_4 10 rfl rfl)
theorem dX3_turn_107 : decode cX3_turn 107 = .ok (.invokevirtual 175, 3) := dk_182 0 175 (dk_at dksX3_turn_4 12 rfl rfl)
theorem dX3_turn_110 : decode cX3_turn 110 = .ok (.astore 4, 2) := dk_58 4 (dk_at dksX3_turn_4 15 rfl rfl)
theorem dX3_turn_112 : decode cX3_turn 112 = .ok (.iinc 5 1, 3) := dk_132 5 1 (dk_at dksX3_turn_4 17 rfl rfl)
theorem dX3_turn_115 : decode cX3_turn 115 = .ok (.goto (-39), 3) := dk_167 255 217 (dk_at dksX3_turn_4 20 rfl rfl)
theorem dX3_turn_118 : decode cX3_turn 118 = .ok (.aload_n 0, 1) := dk_42 (dk_at dksX3_turn_4 23 rfl rfl)
theorem dX3_turn_119 : decode cX3_turn 119 = .ok (.iload_n 1, 1) := dk_27 (dk_at dksX3_turn_5 0 rfl rfl)
theorem dX3_turn_120 : decode cX3_turn 120 = .ok (.aload 4, 2) := dk_25 4 (dk_at dksX3_turn_5 1 rfl rfl)
theorem dX3_turn_122 : decode cX3_turn 122 = .ok (.invokevirtual 102, 3) := dk_182 0 102 (dk_at dksX3_turn_5 3 rfl rfl)
theorem dX3_turn_125 : decode cX3_turn 125 = .ok (.ireturn, 1) := dk_172 (dk_at dksX3_turn_5 6 rfl rfl)
abbrev cX3_versor : ByteArray := prog_11_method_42_code
def yX3_versor : MethodName := ⟨RX3, "versor", "(I)I"⟩
def dkwX3_versor_3 : List UInt8 := [192, 0, 139, 45, 182, 0, 110, 78, 132, 4, 1, 167, 255, 219, 42, 27, 45, 182, 0, 102, 172]
abbrev dktX3_versor_3 : List UInt8 := dkwX3_versor_3 ++ []
def dkwX3_versor_2 : List UInt8 := [44, 180, 0, 160, 185, 0, 30, 1, 0, 162, 0, 29, 44, 44, 180, 0, 160, 21, 4, 185, 0, 40, 2, 0]
abbrev dktX3_versor_2 : List UInt8 := dkwX3_versor_2 ++ dktX3_versor_3
def dkwX3_versor_1 : List UInt8 := [77, 44, 180, 0, 154, 154, 0, 9, 42, 5, 182, 0, 58, 172, 44, 182, 0, 132, 78, 3, 54, 4, 21, 4]
abbrev dktX3_versor_1 : List UInt8 := dkwX3_versor_1 ++ dktX3_versor_2
def dkwX3_versor_0 : List UInt8 := [42, 3, 181, 0, 23, 42, 27, 182, 0, 88, 154, 0, 9, 42, 4, 182, 0, 58, 172, 42, 27, 182, 0, 106]
abbrev dktX3_versor_0 : List UInt8 := dkwX3_versor_0 ++ dktX3_versor_1
theorem dksX3_versor_0 : cX3_versor.data.toList.drop 0 = dktX3_versor_0 := by decide +kernel
theorem dksX3_versor_1 : cX3_versor.data.toList.drop 24 = dktX3_versor_1 := dk_seg dksX3_versor_0 24 rfl rfl
theorem dksX3_versor_2 : cX3_versor.data.toList.drop 48 = dktX3_versor_2 := dk_seg dksX3_versor_1 24 rfl rfl
theorem dksX3_versor_3 : cX3_versor.data.toList.drop 72 = dktX3_versor_3 := dk_seg dksX3_versor_2 24 rfl rfl
theorem dX3_versor_0 : decode cX3_versor 0 = .ok (.aload_n 0, 1) := dk_42 (dk_at dksX3_versor_0 0 rfl rfl)
theorem dX3_versor_1 : decode cX3_versor 1 = .ok (.iconst 0, 1) := dk_3 (dk_at dksX3_versor_0 1 rfl rfl)
theorem dX3_versor_2 : decode cX3_versor 2 = .ok (.putfield 23, 3) := dk_181 0 23 (dk_at dksX3_versor_0 2 rfl rfl)
theorem dX3_versor_5 : decode cX3_versor 5 = .ok (.aload_n 0, 1) := dk_42 (dk_at dksX3_versor_0 5 rfl rfl)
theorem dX3_versor_6 : decode cX3_versor 6 = .ok (.iload_n 1, 1) := dk_27 (dk_at dksX3_versor_0 6 rfl rfl)
theorem dX3_versor_7 : decode cX3_versor 7 = .ok (.invokevirtual 88, 3) := dk_182 0 88 (dk_at dksX3_versor_0 7 rfl rfl)
theorem dX3_versor_10 : decode cX3_versor 10 = .ok (.ifCond .ne 9, 3) := dk_154 0 9 (dk_at dksX3_versor_0 10 rfl rfl)
theorem dX3_versor_13 : decode cX3_versor 13 = .ok (.aload_n 0, 1) := dk_42 (dk_at dksX3_versor_0 13 rfl rfl)
theorem dX3_versor_14 : decode cX3_versor 14 = .ok (.iconst 1, 1) := dk_4 (dk_at dksX3_versor_0 14 rfl rfl)
theorem dX3_versor_15 : decode cX3_versor 15 = .ok (.invokevirtual 58, 3) := dk_182 0 58 (dk_at dksX3_versor_0 15 rfl rfl)
theorem dX3_versor_18 : decode cX3_versor 18 = .ok (.ireturn, 1) := dk_172 (dk_at dksX3_versor_0 18 rfl rfl)
theorem dX3_versor_19 : decode cX3_versor 19 = .ok (.aload_n 0, 1) := dk_42 (dk_at dksX3_versor_0 19 rfl rfl)
theorem dX3_versor_20 : decode cX3_versor 20 = .ok (.iload_n 1, 1) := dk_27 (dk_at dksX3_versor_0 20 rfl rfl)
theorem dX3_versor_21 : decode cX3_versor 21 = .ok (.invokevirtual 106, 3) := dk_182 0 106 (dk_at dksX3_versor_0 21 rfl rfl)
theorem dX3_versor_24 : decode cX3_versor 24 = .ok (.astore_n 2, 1) := dk_77 (dk_at dksX3_versor_1 0 rfl rfl)
theorem dX3_versor_25 : decode cX3_versor 25 = .ok (.aload_n 2, 1) := dk_44 (dk_at dksX3_versor_1 1 rfl rfl)
theorem dX3_versor_26 : decode cX3_versor 26 = .ok (.getfield 154, 3) := dk_180 0 154 (dk_at dksX3_versor_1 2 rfl rfl)
theorem dX3_versor_29 : decode cX3_versor 29 = .ok (.ifCond .ne 9, 3) := dk_154 0 9 (dk_at dksX3_versor_1 5 rfl rfl)
theorem dX3_versor_32 : decode cX3_versor 32 = .ok (.aload_n 0, 1) := dk_42 (dk_at dksX3_versor_1 8 rfl rfl)
theorem dX3_versor_33 : decode cX3_versor 33 = .ok (.iconst 2, 1) := dk_5 (dk_at dksX3_versor_1 9 rfl rfl)
theorem dX3_versor_34 : decode cX3_versor 34 = .ok (.invokevirtual 58, 3) := dk_182 0 58 (dk_at dksX3_versor_1 10 rfl rfl)
theorem dX3_versor_37 : decode cX3_versor 37 = .ok (.ireturn, 1) := dk_172 (dk_at dksX3_versor_1 13 rfl rfl)
theorem dX3_versor_38 : decode cX3_versor 38 = .ok (.aload_n 2, 1) := dk_44 (dk_at dksX3_versor_1 14 rfl rfl)
theorem dX3_versor_39 : decode cX3_versor 39 = .ok (.invokevirtual 132, 3) := dk_182 0 132 (dk_at dksX3_versor_1 15 rfl rfl)
theorem dX3_versor_42 : decode cX3_versor 42 = .ok (.astore_n 3, 1) := dk_78 (dk_at dksX3_versor_1 18 rfl rfl)
theorem dX3_versor_43 : decode cX3_versor 43 = .ok (.iconst 0, 1) := dk_3 (dk_at dksX3_versor_1 19 rfl rfl)
theorem dX3_versor_44 : decode cX3_versor 44 = .ok (.istore 4, 2) := dk_54 4 (dk_at dksX3_versor_1 20 rfl rfl)
theorem dX3_versor_46 : decode cX3_versor 46 = .ok (.iload 4, 2) := dk_21 4 (dk_at dksX3_versor_1 22 rfl rfl)
theorem dX3_versor_48 : decode cX3_versor 48 = .ok (.aload_n 2, 1) := dk_44 (dk_at dksX3_versor_2 0 rfl rfl)
theorem dX3_versor_49 : decode cX3_versor 49 = .ok (.getfield 160, 3) := dk_180 0 160 (dk_at dksX3_versor_2 1 rfl rfl)
theorem dX3_versor_52 : decode cX3_versor 52 = .ok (.invokeinterface 30 1, 5) := by decide +kernel
theorem dX3_versor_57 : decode cX3_versor 57 = .ok (.if_icmp .ge 29, 3) := dk_162 0 29 (dk_at dksX3_versor_2 9 rfl rfl)
theorem dX3_versor_60 : decode cX3_versor 60 = .ok (.aload_n 2, 1) := dk_44 (dk_at dksX3_versor_2 12 rfl rfl)
theorem dX3_versor_61 : decode cX3_versor 61 = .ok (.aload_n 2, 1) := dk_44 (dk_at dksX3_versor_2 13 rfl rfl)
theorem dX3_versor_62 : decode cX3_versor 62 = .ok (.getfield 160, 3) := dk_180 0 160 (dk_at dksX3_versor_2 14 rfl rfl)
theorem dX3_versor_65 : decode cX3_versor 65 = .ok (.iload 4, 2) := dk_21 4 (dk_at dksX3_versor_2 17 rfl rfl)
theorem dX3_versor_67 : decode cX3_versor 67 = .ok (.invokeinterface 40 2, 5) := by decide +kernel
theorem dX3_versor_72 : decode cX3_versor 72 = .ok (.checkcast 139, 3) := dk_192 0 139 (dk_at dksX3_versor_3 0 rfl rfl)
theorem dX3_versor_75 : decode cX3_versor 75 = .ok (.aload_n 3, 1) := dk_45 (dk_at dksX3_versor_3 3 rfl rfl)
theorem dX3_versor_76 : decode cX3_versor 76 = .ok (.invokevirtual 110, 3) := dk_182 0 110 (dk_at dksX3_versor_3 4 rfl rfl)
theorem dX3_versor_79 : decode cX3_versor 79 = .ok (.astore_n 3, 1) := dk_78 (dk_at dksX3_versor_3 7 rfl rfl)
theorem dX3_versor_80 : decode cX3_versor 80 = .ok (.iinc 4 1, 3) := dk_132 4 1 (dk_at dksX3_versor_3 8 rfl rfl)
theorem dX3_versor_83 : decode cX3_versor 83 = .ok (.goto (-37), 3) := dk_167 255 219 (dk_at dksX3_versor_3 11 rfl rfl)
theorem dX3_versor_86 : decode cX3_versor 86 = .ok (.aload_n 0, 1) := dk_42 (dk_at dksX3_versor_3 14 rfl rfl)
theorem dX3_versor_87 : decode cX3_versor 87 = .ok (.iload_n 1, 1) := dk_27 (dk_at dksX3_versor_3 15 rfl rfl)
theorem dX3_versor_88 : decode cX3_versor 88 = .ok (.aload_n 3, 1) := dk_45 (dk_at dksX3_versor_3 16 rfl rfl)
theorem dX3_versor_89 : decode cX3_versor 89 = .ok (.invokevirtual 102, 3) := dk_182 0 102 (dk_at dksX3_versor_3 17 rfl rfl)
theorem dX3_versor_92 : decode cX3_versor 92 = .ok (.ireturn, 1) := dk_172 (dk_at dksX3_versor_3 20 rfl rfl)
abbrev cX3_run : ByteArray := prog_11_method_43_code
def yX3_run : MethodName := ⟨RX3, "run", "(II)I"⟩
def dkwX3_run_11 : List UInt8 := [5, 182, 0, 58, 172, 42, 27, 45, 25, 4, 3, 50, 4, 182, 0, 114, 182, 0, 102, 172]
abbrev dktX3_run_11 : List UInt8 := dkwX3_run_11 ++ []
def dkwX3_run_10 : List UInt8 := [160, 0, 7, 4, 167, 0, 4, 2, 182, 0, 98, 83, 21, 6, 157, 255, 57, 21, 5, 4, 159, 0, 9, 42]
abbrev dktX3_run_10 : List UInt8 := dkwX3_run_10 ++ dktX3_run_11
def dkwX3_run_9 : List UInt8 := [160, 0, 14, 45, 25, 10, 25, 9, 182, 0, 110, 167, 0, 23, 42, 25, 10, 25, 9, 21, 7, 16, 6]
abbrev dktX3_run_9 : List UInt8 := dkwX3_run_9 ++ dktX3_run_10
def dkwX3_run_8 : List UInt8 := [132, 5, 255, 25, 4, 21, 5, 4, 100, 50, 58, 10, 25, 4, 21, 5, 4, 100, 21, 7, 16, 7]
abbrev dktX3_run_8 : List UInt8 := dkwX3_run_8 ++ dktX3_run_9
def dkwX3_run_7 : List UInt8 := [21, 7, 16, 9, 160, 0, 19, 25, 4, 21, 5, 4, 100, 45, 25, 9, 182, 0, 118, 83, 167, 0, 60]
abbrev dktX3_run_7 : List UInt8 := dkwX3_run_7 ++ dktX3_run_8
def dkwX3_run_6 : List UInt8 := [21, 5, 132, 5, 1, 42, 21, 7, 182, 0, 91, 83, 167, 0, 92, 25, 4, 21, 5, 4, 100, 50, 58, 9]
abbrev dktX3_run_6 : List UInt8 := dkwX3_run_6 ++ dktX3_run_7
def dkwX3_run_5 : List UInt8 := [5, 167, 0, 4, 3, 162, 0, 9, 42, 5, 182, 0, 58, 172, 21, 7, 16, 6, 162, 0, 20, 25, 4]
abbrev dktX3_run_5 : List UInt8 := dkwX3_run_5 ++ dktX3_run_6
def dkwX3_run_4 : List UInt8 := [21, 8, 153, 0, 30, 21, 5, 21, 7, 16, 9, 160, 0, 7, 4, 167, 0, 14, 21, 7, 8, 164, 0, 7]
abbrev dktX3_run_4 : List UInt8 := dkwX3_run_4 ++ dktX3_run_5
def dkwX3_run_3 : List UInt8 := [182, 0, 88, 153, 0, 17, 42, 27, 21, 7, 182, 0, 94, 153, 0, 7, 4, 167, 0, 4, 3, 54, 8]
abbrev dktX3_run_3 : List UInt8 := dkwX3_run_3 ++ dktX3_run_4
def dkwX3_run_2 : List UInt8 := [21, 6, 16, 10, 112, 54, 7, 21, 6, 16, 10, 108, 54, 6, 21, 7, 8, 163, 0, 22, 42, 21, 7]
abbrev dktX3_run_2 : List UInt8 := dkwX3_run_2 ++ dktX3_run_3
def dkwX3_run_1 : List UInt8 := [5, 182, 0, 58, 172, 42, 27, 182, 0, 106, 78, 16, 12, 189, 0, 139, 58, 4, 3, 54, 5, 28, 54, 6]
abbrev dktX3_run_1 : List UInt8 := dkwX3_run_1 ++ dktX3_run_2
def dkwX3_run_0 : List UInt8 := [42, 3, 181, 0, 23, 42, 27, 182, 0, 88, 154, 0, 9, 42, 4, 182, 0, 58, 172, 28, 156, 0, 9, 42]
abbrev dktX3_run_0 : List UInt8 := dkwX3_run_0 ++ dktX3_run_1
theorem dksX3_run_0 : cX3_run.data.toList.drop 0 = dktX3_run_0 := by decide +kernel
theorem dksX3_run_1 : cX3_run.data.toList.drop 24 = dktX3_run_1 := dk_seg dksX3_run_0 24 rfl rfl
theorem dksX3_run_2 : cX3_run.data.toList.drop 48 = dktX3_run_2 := dk_seg dksX3_run_1 24 rfl rfl
theorem dksX3_run_3 : cX3_run.data.toList.drop 71 = dktX3_run_3 := dk_seg dksX3_run_2 23 rfl rfl
theorem dksX3_run_4 : cX3_run.data.toList.drop 94 = dktX3_run_4 := dk_seg dksX3_run_3 23 rfl rfl
theorem dksX3_run_5 : cX3_run.data.toList.drop 118 = dktX3_run_5 := dk_seg dksX3_run_4 24 rfl rfl
theorem dksX3_run_6 : cX3_run.data.toList.drop 141 = dktX3_run_6 := dk_seg dksX3_run_5 23 rfl rfl
theorem dksX3_run_7 : cX3_run.data.toList.drop 165 = dktX3_run_7 := dk_seg dksX3_run_6 24 rfl rfl
theorem dksX3_run_8 : cX3_run.data.toList.drop 188 = dktX3_run_8 := dk_seg dksX3_run_7 23 rfl rfl
theorem dksX3_run_9 : cX3_run.data.toList.drop 210 = dktX3_run_9 := dk_seg dksX3_run_8 22 rfl rfl
theorem dksX3_run_10 : cX3_run.data.toList.drop 233 = dktX3_run_10 := dk_seg dksX3_run_9 23 rfl rfl
theorem dksX3_run_11 : cX3_run.data.toList.drop 257 = dktX3_run_11 := dk_seg dksX3_run_10 24 rfl rfl
theorem dX3_run_0 : decode cX3_run 0 = .ok (.aload_n 0, 1) := dk_42 (dk_at dksX3_run_0 0 rfl rfl)
theorem dX3_run_1 : decode cX3_run 1 = .ok (.iconst 0, 1) := dk_3 (dk_at dksX3_run_0 1 rfl rfl)
theorem dX3_run_2 : decode cX3_run 2 = .ok (.putfield 23, 3) := dk_181 0 23 (dk_at dksX3_run_0 2 rfl rfl)
theorem dX3_run_5 : decode cX3_run 5 = .ok (.aload_n 0, 1) := dk_42 (dk_at dksX3_run_0 5 rfl rfl)
theorem dX3_run_6 : decode cX3_run 6 = .ok (.iload_n 1, 1) := dk_27 (dk_at dksX3_run_0 6 rfl rfl)
theorem dX3_run_7 : decode cX3_run 7 = .ok (.invokevirtual 88, 3) := dk_182 0 88 (dk_at dksX3_run_0 7 rfl rfl)
theorem dX3_run_10 : decode cX3_run 10 = .ok (.ifCond .ne 9, 3) := dk_154 0 9 (dk_at dksX3_run_0 10 rfl rfl)
theorem dX3_run_13 : decode cX3_run 13 = .ok (.aload_n 0, 1) := dk_42 (dk_at dksX3_run_0 13 rfl rfl)
theorem dX3_run_14 : decode cX3_run 14 = .ok (.iconst 1, 1) := dk_4 (dk_at dksX3_run_0 14 rfl rfl)
theorem dX3_run_15 : decode cX3_run 15 = .ok (.invokevirtual 58, 3) := dk_182 0 58 (dk_at dksX3_run_0 15 rfl rfl)
theorem dX3_run_18 : decode cX3_run 18 = .ok (.ireturn, 1) := dk_172 (dk_at dksX3_run_0 18 rfl rfl)
theorem dX3_run_19 : decode cX3_run 19 = .ok (.iload_n 2, 1) := dk_28 (dk_at dksX3_run_0 19 rfl rfl)
theorem dX3_run_20 : decode cX3_run 20 = .ok (.ifCond .ge 9, 3) := dk_156 0 9 (dk_at dksX3_run_0 20 rfl rfl)
theorem dX3_run_23 : decode cX3_run 23 = .ok (.aload_n 0, 1) := dk_42 (dk_at dksX3_run_0 23 rfl rfl)
theorem dX3_run_24 : decode cX3_run 24 = .ok (.iconst 2, 1) := dk_5 (dk_at dksX3_run_1 0 rfl rfl)
theorem dX3_run_25 : decode cX3_run 25 = .ok (.invokevirtual 58, 3) := dk_182 0 58 (dk_at dksX3_run_1 1 rfl rfl)
theorem dX3_run_28 : decode cX3_run 28 = .ok (.ireturn, 1) := dk_172 (dk_at dksX3_run_1 4 rfl rfl)
theorem dX3_run_29 : decode cX3_run 29 = .ok (.aload_n 0, 1) := dk_42 (dk_at dksX3_run_1 5 rfl rfl)
theorem dX3_run_30 : decode cX3_run 30 = .ok (.iload_n 1, 1) := dk_27 (dk_at dksX3_run_1 6 rfl rfl)
theorem dX3_run_31 : decode cX3_run 31 = .ok (.invokevirtual 106, 3) := dk_182 0 106 (dk_at dksX3_run_1 7 rfl rfl)
theorem dX3_run_34 : decode cX3_run 34 = .ok (.astore_n 3, 1) := dk_78 (dk_at dksX3_run_1 10 rfl rfl)
theorem dX3_run_35 : decode cX3_run 35 = .ok (.bipush 12, 2) := dk_16 12 (dk_at dksX3_run_1 11 rfl rfl)
theorem dX3_run_37 : decode cX3_run 37 = .ok (.anewarray 139, 3) := dk_189 0 139 (dk_at dksX3_run_1 13 rfl rfl)
theorem dX3_run_40 : decode cX3_run 40 = .ok (.astore 4, 2) := dk_58 4 (dk_at dksX3_run_1 16 rfl rfl)
theorem dX3_run_42 : decode cX3_run 42 = .ok (.iconst 0, 1) := dk_3 (dk_at dksX3_run_1 18 rfl rfl)
theorem dX3_run_43 : decode cX3_run 43 = .ok (.istore 5, 2) := dk_54 5 (dk_at dksX3_run_1 19 rfl rfl)
theorem dX3_run_45 : decode cX3_run 45 = .ok (.iload_n 2, 1) := dk_28 (dk_at dksX3_run_1 21 rfl rfl)
theorem dX3_run_46 : decode cX3_run 46 = .ok (.istore 6, 2) := dk_54 6 (dk_at dksX3_run_1 22 rfl rfl)
theorem dX3_run_48 : decode cX3_run 48 = .ok (.iload 6, 2) := dk_21 6 (dk_at dksX3_run_2 0 rfl rfl)
theorem dX3_run_50 : decode cX3_run 50 = .ok (.bipush 10, 2) := dk_16 10 (dk_at dksX3_run_2 2 rfl rfl)
theorem dX3_run_52 : decode cX3_run 52 = .ok (.irem, 1) := dk_112 (dk_at dksX3_run_2 4 rfl rfl)
theorem dX3_run_53 : decode cX3_run 53 = .ok (.istore 7, 2) := dk_54 7 (dk_at dksX3_run_2 5 rfl rfl)
theorem dX3_run_55 : decode cX3_run 55 = .ok (.iload 6, 2) := dk_21 6 (dk_at dksX3_run_2 7 rfl rfl)
theorem dX3_run_57 : decode cX3_run 57 = .ok (.bipush 10, 2) := dk_16 10 (dk_at dksX3_run_2 9 rfl rfl)
theorem dX3_run_59 : decode cX3_run 59 = .ok (.idiv, 1) := dk_108 (dk_at dksX3_run_2 11 rfl rfl)
theorem dX3_run_60 : decode cX3_run 60 = .ok (.istore 6, 2) := dk_54 6 (dk_at dksX3_run_2 12 rfl rfl)
theorem dX3_run_62 : decode cX3_run 62 = .ok (.iload 7, 2) := dk_21 7 (dk_at dksX3_run_2 14 rfl rfl)
theorem dX3_run_64 : decode cX3_run 64 = .ok (.iconst 5, 1) := dk_8 (dk_at dksX3_run_2 16 rfl rfl)
theorem dX3_run_65 : decode cX3_run 65 = .ok (.if_icmp .gt 22, 3) := dk_163 0 22 (dk_at dksX3_run_2 17 rfl rfl)
theorem dX3_run_68 : decode cX3_run 68 = .ok (.aload_n 0, 1) := dk_42 (dk_at dksX3_run_2 20 rfl rfl)
theorem dX3_run_69 : decode cX3_run 69 = .ok (.iload 7, 2) := dk_21 7 (dk_at dksX3_run_2 21 rfl rfl)
theorem dX3_run_71 : decode cX3_run 71 = .ok (.invokevirtual 88, 3) := dk_182 0 88 (dk_at dksX3_run_3 0 rfl rfl)
theorem dX3_run_74 : decode cX3_run 74 = .ok (.ifCond .eq 17, 3) := dk_153 0 17 (dk_at dksX3_run_3 3 rfl rfl)
theorem dX3_run_77 : decode cX3_run 77 = .ok (.aload_n 0, 1) := dk_42 (dk_at dksX3_run_3 6 rfl rfl)
theorem dX3_run_78 : decode cX3_run 78 = .ok (.iload_n 1, 1) := dk_27 (dk_at dksX3_run_3 7 rfl rfl)
theorem dX3_run_79 : decode cX3_run 79 = .ok (.iload 7, 2) := dk_21 7 (dk_at dksX3_run_3 8 rfl rfl)
theorem dX3_run_81 : decode cX3_run 81 = .ok (.invokevirtual 94, 3) := dk_182 0 94 (dk_at dksX3_run_3 10 rfl rfl)
theorem dX3_run_84 : decode cX3_run 84 = .ok (.ifCond .eq 7, 3) := dk_153 0 7 (dk_at dksX3_run_3 13 rfl rfl)
theorem dX3_run_87 : decode cX3_run 87 = .ok (.iconst 1, 1) := dk_4 (dk_at dksX3_run_3 16 rfl rfl)
theorem dX3_run_88 : decode cX3_run 88 = .ok (.goto 4, 3) := dk_167 0 4 (dk_at dksX3_run_3 17 rfl rfl)
theorem dX3_run_91 : decode cX3_run 91 = .ok (.iconst 0, 1) := dk_3 (dk_at dksX3_run_3 20 rfl rfl)
theorem dX3_run_92 : decode cX3_run 92 = .ok (.istore 8, 2) := dk_54 8 (dk_at dksX3_run_3 21 rfl rfl)
theorem dX3_run_94 : decode cX3_run 94 = .ok (.iload 8, 2) := dk_21 8 (dk_at dksX3_run_4 0 rfl rfl)
theorem dX3_run_96 : decode cX3_run 96 = .ok (.ifCond .eq 30, 3) := dk_153 0 30 (dk_at dksX3_run_4 2 rfl rfl)
theorem dX3_run_99 : decode cX3_run 99 = .ok (.iload 5, 2) := dk_21 5 (dk_at dksX3_run_4 5 rfl rfl)
theorem dX3_run_101 : decode cX3_run 101 = .ok (.iload 7, 2) := dk_21 7 (dk_at dksX3_run_4 7 rfl rfl)
theorem dX3_run_103 : decode cX3_run 103 = .ok (.bipush 9, 2) := dk_16 9 (dk_at dksX3_run_4 9 rfl rfl)
theorem dX3_run_105 : decode cX3_run 105 = .ok (.if_icmp .ne 7, 3) := dk_160 0 7 (dk_at dksX3_run_4 11 rfl rfl)
theorem dX3_run_108 : decode cX3_run 108 = .ok (.iconst 1, 1) := dk_4 (dk_at dksX3_run_4 14 rfl rfl)
theorem dX3_run_109 : decode cX3_run 109 = .ok (.goto 14, 3) := dk_167 0 14 (dk_at dksX3_run_4 15 rfl rfl)
theorem dX3_run_112 : decode cX3_run 112 = .ok (.iload 7, 2) := dk_21 7 (dk_at dksX3_run_4 18 rfl rfl)
theorem dX3_run_114 : decode cX3_run 114 = .ok (.iconst 5, 1) := dk_8 (dk_at dksX3_run_4 20 rfl rfl)
theorem dX3_run_115 : decode cX3_run 115 = .ok (.if_icmp .le 7, 3) := dk_164 0 7 (dk_at dksX3_run_4 21 rfl rfl)
theorem dX3_run_118 : decode cX3_run 118 = .ok (.iconst 2, 1) := dk_5 (dk_at dksX3_run_5 0 rfl rfl)
theorem dX3_run_119 : decode cX3_run 119 = .ok (.goto 4, 3) := dk_167 0 4 (dk_at dksX3_run_5 1 rfl rfl)
theorem dX3_run_122 : decode cX3_run 122 = .ok (.iconst 0, 1) := dk_3 (dk_at dksX3_run_5 4 rfl rfl)
theorem dX3_run_123 : decode cX3_run 123 = .ok (.if_icmp .ge 9, 3) := dk_162 0 9 (dk_at dksX3_run_5 5 rfl rfl)
theorem dX3_run_126 : decode cX3_run 126 = .ok (.aload_n 0, 1) := dk_42 (dk_at dksX3_run_5 8 rfl rfl)
theorem dX3_run_127 : decode cX3_run 127 = .ok (.iconst 2, 1) := dk_5 (dk_at dksX3_run_5 9 rfl rfl)
theorem dX3_run_128 : decode cX3_run 128 = .ok (.invokevirtual 58, 3) := dk_182 0 58 (dk_at dksX3_run_5 10 rfl rfl)
theorem dX3_run_131 : decode cX3_run 131 = .ok (.ireturn, 1) := dk_172 (dk_at dksX3_run_5 13 rfl rfl)
theorem dX3_run_132 : decode cX3_run 132 = .ok (.iload 7, 2) := dk_21 7 (dk_at dksX3_run_5 14 rfl rfl)
theorem dX3_run_134 : decode cX3_run 134 = .ok (.bipush 6, 2) := dk_16 6 (dk_at dksX3_run_5 16 rfl rfl)
theorem dX3_run_136 : decode cX3_run 136 = .ok (.if_icmp .ge 20, 3) := dk_162 0 20 (dk_at dksX3_run_5 18 rfl rfl)
theorem dX3_run_139 : decode cX3_run 139 = .ok (.aload 4, 2) := dk_25 4 (dk_at dksX3_run_5 21 rfl rfl)
theorem dX3_run_141 : decode cX3_run 141 = .ok (.iload 5, 2) := dk_21 5 (dk_at dksX3_run_6 0 rfl rfl)
theorem dX3_run_143 : decode cX3_run 143 = .ok (.iinc 5 1, 3) := dk_132 5 1 (dk_at dksX3_run_6 2 rfl rfl)
theorem dX3_run_146 : decode cX3_run 146 = .ok (.aload_n 0, 1) := dk_42 (dk_at dksX3_run_6 5 rfl rfl)
theorem dX3_run_147 : decode cX3_run 147 = .ok (.iload 7, 2) := dk_21 7 (dk_at dksX3_run_6 6 rfl rfl)
theorem dX3_run_149 : decode cX3_run 149 = .ok (.invokevirtual 91, 3) := dk_182 0 91 (dk_at dksX3_run_6 8 rfl rfl)
theorem dX3_run_152 : decode cX3_run 152 = .ok (.aastore, 1) := dk_83 (dk_at dksX3_run_6 11 rfl rfl)
theorem dX3_run_153 : decode cX3_run 153 = .ok (.goto 92, 3) := dk_167 0 92 (dk_at dksX3_run_6 12 rfl rfl)
theorem dX3_run_156 : decode cX3_run 156 = .ok (.aload 4, 2) := dk_25 4 (dk_at dksX3_run_6 15 rfl rfl)
theorem dX3_run_158 : decode cX3_run 158 = .ok (.iload 5, 2) := dk_21 5 (dk_at dksX3_run_6 17 rfl rfl)
theorem dX3_run_160 : decode cX3_run 160 = .ok (.iconst 1, 1) := dk_4 (dk_at dksX3_run_6 19 rfl rfl)
theorem dX3_run_161 : decode cX3_run 161 = .ok (.isub, 1) := dk_100 (dk_at dksX3_run_6 20 rfl rfl)
theorem dX3_run_162 : decode cX3_run 162 = .ok (.aaload, 1) := dk_50 (dk_at dksX3_run_6 21 rfl rfl)
theorem dX3_run_163 : decode cX3_run 163 = .ok (.astore 9, 2) := dk_58 9 (dk_at dksX3_run_6 22 rfl rfl)
theorem dX3_run_165 : decode cX3_run 165 = .ok (.iload 7, 2) := dk_21 7 (dk_at dksX3_run_7 0 rfl rfl)
theorem dX3_run_167 : decode cX3_run 167 = .ok (.bipush 9, 2) := dk_16 9 (dk_at dksX3_run_7 2 rfl rfl)
theorem dX3_run_169 : decode cX3_run 169 = .ok (.if_icmp .ne 19, 3) := dk_160 0 19 (dk_at dksX3_run_7 4 rfl rfl)
theorem dX3_run_172 : decode cX3_run 172 = .ok (.aload 4, 2) := dk_25 4 (dk_at dksX3_run_7 7 rfl rfl)
theorem dX3_run_174 : decode cX3_run 174 = .ok (.iload 5, 2) := dk_21 5 (dk_at dksX3_run_7 9 rfl rfl)
theorem dX3_run_176 : decode cX3_run 176 = .ok (.iconst 1, 1) := dk_4 (dk_at dksX3_run_7 11 rfl rfl)
theorem dX3_run_177 : decode cX3_run 177 = .ok (.isub, 1) := dk_100 (dk_at dksX3_run_7 12 rfl rfl)
theorem dX3_run_178 : decode cX3_run 178 = .ok (.aload_n 3, 1) := dk_45 (dk_at dksX3_run_7 13 rfl rfl)
theorem dX3_run_179 : decode cX3_run 179 = .ok (.aload 9, 2) := dk_25 9 (dk_at dksX3_run_7 14 rfl rfl)
theorem dX3_run_181 : decode cX3_run 181 = .ok (.invokevirtual 118, 3) := dk_182 0 118 (dk_at dksX3_run_7 16 rfl rfl)
theorem dX3_run_184 : decode cX3_run 184 = .ok (.aastore, 1) := dk_83 (dk_at dksX3_run_7 19 rfl rfl)
theorem dX3_run_185 : decode cX3_run 185 = .ok (.goto 60, 3) := dk_167 0 60 (dk_at dksX3_run_7 20 rfl rfl)
theorem dX3_run_188 : decode cX3_run 188 = .ok (.iinc 5 (-1), 3) := dk_132 5 255 (dk_at dksX3_run_8 0 rfl rfl)
theorem dX3_run_191 : decode cX3_run 191 = .ok (.aload 4, 2) := dk_25 4 (dk_at dksX3_run_8 3 rfl rfl)
theorem dX3_run_193 : decode cX3_run 193 = .ok (.iload 5, 2) := dk_21 5 (dk_at dksX3_run_8 5 rfl rfl)
theorem dX3_run_195 : decode cX3_run 195 = .ok (.iconst 1, 1) := dk_4 (dk_at dksX3_run_8 7 rfl rfl)
theorem dX3_run_196 : decode cX3_run 196 = .ok (.isub, 1) := dk_100 (dk_at dksX3_run_8 8 rfl rfl)
theorem dX3_run_197 : decode cX3_run 197 = .ok (.aaload, 1) := dk_50 (dk_at dksX3_run_8 9 rfl rfl)
theorem dX3_run_198 : decode cX3_run 198 = .ok (.astore 10, 2) := dk_58 10 (dk_at dksX3_run_8 10 rfl rfl)
theorem dX3_run_200 : decode cX3_run 200 = .ok (.aload 4, 2) := dk_25 4 (dk_at dksX3_run_8 12 rfl rfl)
theorem dX3_run_202 : decode cX3_run 202 = .ok (.iload 5, 2) := dk_21 5 (dk_at dksX3_run_8 14 rfl rfl)
theorem dX3_run_204 : decode cX3_run 204 = .ok (.iconst 1, 1) := dk_4 (dk_at dksX3_run_8 16 rfl rfl)
theorem dX3_run_205 : decode cX3_run 205 = .ok (.isub, 1) := dk_100 (dk_at dksX3_run_8 17 rfl rfl)
theorem dX3_run_206 : decode cX3_run 206 = .ok (.iload 7, 2) := dk_21 7 (dk_at dksX3_run_8 18 rfl rfl)
theorem dX3_run_208 : decode cX3_run 208 = .ok (.bipush 7, 2) := dk_16 7 (dk_at dksX3_run_8 20 rfl rfl)
theorem dX3_run_210 : decode cX3_run 210 = .ok (.if_icmp .ne 14, 3) := dk_160 0 14 (dk_at dksX3_run_9 0 rfl rfl)
theorem dX3_run_213 : decode cX3_run 213 = .ok (.aload_n 3, 1) := dk_45 (dk_at dksX3_run_9 3 rfl rfl)
theorem dX3_run_214 : decode cX3_run 214 = .ok (.aload 10, 2) := dk_25 10 (dk_at dksX3_run_9 4 rfl rfl)
theorem dX3_run_216 : decode cX3_run 216 = .ok (.aload 9, 2) := dk_25 9 (dk_at dksX3_run_9 6 rfl rfl)
theorem dX3_run_218 : decode cX3_run 218 = .ok (.invokevirtual 110, 3) := dk_182 0 110 (dk_at dksX3_run_9 8 rfl rfl)
theorem dX3_run_221 : decode cX3_run 221 = .ok (.goto 23, 3) := dk_167 0 23 (dk_at dksX3_run_9 11 rfl rfl)
theorem dX3_run_224 : decode cX3_run 224 = .ok (.aload_n 0, 1) := dk_42 (dk_at dksX3_run_9 14 rfl rfl)
theorem dX3_run_225 : decode cX3_run 225 = .ok (.aload 10, 2) := dk_25 10 (dk_at dksX3_run_9 15 rfl rfl)
theorem dX3_run_227 : decode cX3_run 227 = .ok (.aload 9, 2) := dk_25 9 (dk_at dksX3_run_9 17 rfl rfl)
theorem dX3_run_229 : decode cX3_run 229 = .ok (.iload 7, 2) := dk_21 7 (dk_at dksX3_run_9 19 rfl rfl)
theorem dX3_run_231 : decode cX3_run 231 = .ok (.bipush 6, 2) := dk_16 6 (dk_at dksX3_run_9 21 rfl rfl)
theorem dX3_run_233 : decode cX3_run 233 = .ok (.if_icmp .ne 7, 3) := dk_160 0 7 (dk_at dksX3_run_10 0 rfl rfl)
theorem dX3_run_236 : decode cX3_run 236 = .ok (.iconst 1, 1) := dk_4 (dk_at dksX3_run_10 3 rfl rfl)
theorem dX3_run_237 : decode cX3_run 237 = .ok (.goto 4, 3) := dk_167 0 4 (dk_at dksX3_run_10 4 rfl rfl)
theorem dX3_run_240 : decode cX3_run 240 = .ok (.iconst (-1), 1) := dk_2 (dk_at dksX3_run_10 7 rfl rfl)
theorem dX3_run_241 : decode cX3_run 241 = .ok (.invokevirtual 98, 3) := dk_182 0 98 (dk_at dksX3_run_10 8 rfl rfl)
theorem dX3_run_244 : decode cX3_run 244 = .ok (.aastore, 1) := dk_83 (dk_at dksX3_run_10 11 rfl rfl)
theorem dX3_run_245 : decode cX3_run 245 = .ok (.iload 6, 2) := dk_21 6 (dk_at dksX3_run_10 12 rfl rfl)
theorem dX3_run_247 : decode cX3_run 247 = .ok (.ifCond .gt (-199), 3) := dk_157 255 57 (dk_at dksX3_run_10 14 rfl rfl)
theorem dX3_run_250 : decode cX3_run 250 = .ok (.iload 5, 2) := dk_21 5 (dk_at dksX3_run_10 17 rfl rfl)
theorem dX3_run_252 : decode cX3_run 252 = .ok (.iconst 1, 1) := dk_4 (dk_at dksX3_run_10 19 rfl rfl)
theorem dX3_run_253 : decode cX3_run 253 = .ok (.if_icmp .eq 9, 3) := dk_159 0 9 (dk_at dksX3_run_10 20 rfl rfl)
theorem dX3_run_256 : decode cX3_run 256 = .ok (.aload_n 0, 1) := dk_42 (dk_at dksX3_run_10 23 rfl rfl)
theorem dX3_run_257 : decode cX3_run 257 = .ok (.iconst 2, 1) := dk_5 (dk_at dksX3_run_11 0 rfl rfl)
theorem dX3_run_258 : decode cX3_run 258 = .ok (.invokevirtual 58, 3) := dk_182 0 58 (dk_at dksX3_run_11 1 rfl rfl)
theorem dX3_run_261 : decode cX3_run 261 = .ok (.ireturn, 1) := dk_172 (dk_at dksX3_run_11 4 rfl rfl)
theorem dX3_run_262 : decode cX3_run 262 = .ok (.aload_n 0, 1) := dk_42 (dk_at dksX3_run_11 5 rfl rfl)
theorem dX3_run_263 : decode cX3_run 263 = .ok (.iload_n 1, 1) := dk_27 (dk_at dksX3_run_11 6 rfl rfl)
theorem dX3_run_264 : decode cX3_run 264 = .ok (.aload_n 3, 1) := dk_45 (dk_at dksX3_run_11 7 rfl rfl)
theorem dX3_run_265 : decode cX3_run 265 = .ok (.aload 4, 2) := dk_25 4 (dk_at dksX3_run_11 8 rfl rfl)
theorem dX3_run_267 : decode cX3_run 267 = .ok (.iconst 0, 1) := dk_3 (dk_at dksX3_run_11 10 rfl rfl)
theorem dX3_run_268 : decode cX3_run 268 = .ok (.aaload, 1) := dk_50 (dk_at dksX3_run_11 11 rfl rfl)
theorem dX3_run_269 : decode cX3_run 269 = .ok (.iconst 1, 1) := dk_4 (dk_at dksX3_run_11 12 rfl rfl)
theorem dX3_run_270 : decode cX3_run 270 = .ok (.invokevirtual 114, 3) := dk_182 0 114 (dk_at dksX3_run_11 13 rfl rfl)
theorem dX3_run_273 : decode cX3_run 273 = .ok (.invokevirtual 102, 3) := dk_182 0 102 (dk_at dksX3_run_11 16 rfl rfl)
theorem dX3_run_276 : decode cX3_run 276 = .ok (.ireturn, 1) := dk_172 (dk_at dksX3_run_11 19 rfl rfl)
abbrev cX3_at : ByteArray := prog_11_method_44_code
def yX3_at : MethodName := ⟨RX3, "at", "(II)I"⟩
def dkwX3_at_1 : List UInt8 := [184, 0, 36, 154, 0, 9, 42, 4, 182, 0, 58, 172, 42, 27, 182, 0, 91, 28, 46, 172]
abbrev dktX3_at_1 : List UInt8 := dkwX3_at_1 ++ []
def dkwX3_at_0 : List UInt8 := [42, 3, 181, 0, 23, 42, 27, 182, 0, 88, 153, 0, 19, 28, 3, 42, 27, 182, 0, 91, 190, 4, 100]
abbrev dktX3_at_0 : List UInt8 := dkwX3_at_0 ++ dktX3_at_1
theorem dksX3_at_0 : cX3_at.data.toList.drop 0 = dktX3_at_0 := by decide +kernel
theorem dksX3_at_1 : cX3_at.data.toList.drop 23 = dktX3_at_1 := dk_seg dksX3_at_0 23 rfl rfl
theorem dX3_at_0 : decode cX3_at 0 = .ok (.aload_n 0, 1) := dk_42 (dk_at dksX3_at_0 0 rfl rfl)
theorem dX3_at_1 : decode cX3_at 1 = .ok (.iconst 0, 1) := dk_3 (dk_at dksX3_at_0 1 rfl rfl)
theorem dX3_at_2 : decode cX3_at 2 = .ok (.putfield 23, 3) := dk_181 0 23 (dk_at dksX3_at_0 2 rfl rfl)
theorem dX3_at_5 : decode cX3_at 5 = .ok (.aload_n 0, 1) := dk_42 (dk_at dksX3_at_0 5 rfl rfl)
theorem dX3_at_6 : decode cX3_at 6 = .ok (.iload_n 1, 1) := dk_27 (dk_at dksX3_at_0 6 rfl rfl)
theorem dX3_at_7 : decode cX3_at 7 = .ok (.invokevirtual 88, 3) := dk_182 0 88 (dk_at dksX3_at_0 7 rfl rfl)
theorem dX3_at_10 : decode cX3_at 10 = .ok (.ifCond .eq 19, 3) := dk_153 0 19 (dk_at dksX3_at_0 10 rfl rfl)
theorem dX3_at_13 : decode cX3_at 13 = .ok (.iload_n 2, 1) := dk_28 (dk_at dksX3_at_0 13 rfl rfl)
theorem dX3_at_14 : decode cX3_at 14 = .ok (.iconst 0, 1) := dk_3 (dk_at dksX3_at_0 14 rfl rfl)
theorem dX3_at_15 : decode cX3_at 15 = .ok (.aload_n 0, 1) := dk_42 (dk_at dksX3_at_0 15 rfl rfl)
theorem dX3_at_16 : decode cX3_at 16 = .ok (.iload_n 1, 1) := dk_27 (dk_at dksX3_at_0 16 rfl rfl)
theorem dX3_at_17 : decode cX3_at 17 = .ok (.invokevirtual 91, 3) := dk_182 0 91 (dk_at dksX3_at_0 17 rfl rfl)
theorem dX3_at_20 : decode cX3_at 20 = .ok (.arraylength, 1) := dk_190 (dk_at dksX3_at_0 20 rfl rfl)
theorem dX3_at_21 : decode cX3_at 21 = .ok (.iconst 1, 1) := dk_4 (dk_at dksX3_at_0 21 rfl rfl)
theorem dX3_at_22 : decode cX3_at 22 = .ok (.isub, 1) := dk_100 (dk_at dksX3_at_0 22 rfl rfl)
theorem dX3_at_23 : decode cX3_at 23 = .ok (.invokestatic 36, 3) := dk_184 0 36 (dk_at dksX3_at_1 0 rfl rfl)
theorem dX3_at_26 : decode cX3_at 26 = .ok (.ifCond .ne 9, 3) := dk_154 0 9 (dk_at dksX3_at_1 3 rfl rfl)
theorem dX3_at_29 : decode cX3_at 29 = .ok (.aload_n 0, 1) := dk_42 (dk_at dksX3_at_1 6 rfl rfl)
theorem dX3_at_30 : decode cX3_at 30 = .ok (.iconst 1, 1) := dk_4 (dk_at dksX3_at_1 7 rfl rfl)
theorem dX3_at_31 : decode cX3_at 31 = .ok (.invokevirtual 58, 3) := dk_182 0 58 (dk_at dksX3_at_1 8 rfl rfl)
theorem dX3_at_34 : decode cX3_at 34 = .ok (.ireturn, 1) := dk_172 (dk_at dksX3_at_1 11 rfl rfl)
theorem dX3_at_35 : decode cX3_at 35 = .ok (.aload_n 0, 1) := dk_42 (dk_at dksX3_at_1 12 rfl rfl)
theorem dX3_at_36 : decode cX3_at 36 = .ok (.iload_n 1, 1) := dk_27 (dk_at dksX3_at_1 13 rfl rfl)
theorem dX3_at_37 : decode cX3_at 37 = .ok (.invokevirtual 91, 3) := dk_182 0 91 (dk_at dksX3_at_1 14 rfl rfl)
theorem dX3_at_40 : decode cX3_at 40 = .ok (.iload_n 2, 1) := dk_28 (dk_at dksX3_at_1 17 rfl rfl)
theorem dX3_at_41 : decode cX3_at 41 = .ok (.iaload, 1) := dk_46 (dk_at dksX3_at_1 18 rfl rfl)
theorem dX3_at_42 : decode cX3_at 42 = .ok (.ireturn, 1) := dk_172 (dk_at dksX3_at_1 19 rfl rfl)
abbrev cX3_ofElement : ByteArray := prog_11_method_48_code
def yX3_ofElement : MethodName := ⟨RX3, "ofElement", "(II)I"⟩
def dkwX3_ofElement_1 : List UInt8 := [184, 0, 36, 154, 0, 9, 42, 5, 182, 0, 58, 172, 42, 27, 28, 182, 0, 188, 172]
abbrev dktX3_ofElement_1 : List UInt8 := dkwX3_ofElement_1 ++ []
def dkwX3_ofElement_0 : List UInt8 := [42, 3, 181, 0, 23, 42, 27, 182, 0, 88, 154, 0, 9, 42, 4, 182, 0, 58, 172, 28, 3, 16, 9]
abbrev dktX3_ofElement_0 : List UInt8 := dkwX3_ofElement_0 ++ dktX3_ofElement_1
theorem dksX3_ofElement_0 : cX3_ofElement.data.toList.drop 0 = dktX3_ofElement_0 := by decide +kernel
theorem dksX3_ofElement_1 : cX3_ofElement.data.toList.drop 23 = dktX3_ofElement_1 := dk_seg dksX3_ofElement_0 23 rfl rfl
theorem dX3_ofElement_0 : decode cX3_ofElement 0 = .ok (.aload_n 0, 1) := dk_42 (dk_at dksX3_ofElement_0 0 rfl rfl)
theorem dX3_ofElement_1 : decode cX3_ofElement 1 = .ok (.iconst 0, 1) := dk_3 (dk_at dksX3_ofElement_0 1 rfl rfl)
theorem dX3_ofElement_2 : decode cX3_ofElement 2 = .ok (.putfield 23, 3) := dk_181 0 23 (dk_at dksX3_ofElement_0 2 rfl rfl)
theorem dX3_ofElement_5 : decode cX3_ofElement 5 = .ok (.aload_n 0, 1) := dk_42 (dk_at dksX3_ofElement_0 5 rfl rfl)
theorem dX3_ofElement_6 : decode cX3_ofElement 6 = .ok (.iload_n 1, 1) := dk_27 (dk_at dksX3_ofElement_0 6 rfl rfl)
theorem dX3_ofElement_7 : decode cX3_ofElement 7 = .ok (.invokevirtual 88, 3) := dk_182 0 88 (dk_at dksX3_ofElement_0 7 rfl rfl)
theorem dX3_ofElement_10 : decode cX3_ofElement 10 = .ok (.ifCond .ne 9, 3) := dk_154 0 9 (dk_at dksX3_ofElement_0 10 rfl rfl)
theorem dX3_ofElement_13 : decode cX3_ofElement 13 = .ok (.aload_n 0, 1) := dk_42 (dk_at dksX3_ofElement_0 13 rfl rfl)
theorem dX3_ofElement_14 : decode cX3_ofElement 14 = .ok (.iconst 1, 1) := dk_4 (dk_at dksX3_ofElement_0 14 rfl rfl)
theorem dX3_ofElement_15 : decode cX3_ofElement 15 = .ok (.invokevirtual 58, 3) := dk_182 0 58 (dk_at dksX3_ofElement_0 15 rfl rfl)
theorem dX3_ofElement_18 : decode cX3_ofElement 18 = .ok (.ireturn, 1) := dk_172 (dk_at dksX3_ofElement_0 18 rfl rfl)
theorem dX3_ofElement_19 : decode cX3_ofElement 19 = .ok (.iload_n 2, 1) := dk_28 (dk_at dksX3_ofElement_0 19 rfl rfl)
theorem dX3_ofElement_20 : decode cX3_ofElement 20 = .ok (.iconst 0, 1) := dk_3 (dk_at dksX3_ofElement_0 20 rfl rfl)
theorem dX3_ofElement_21 : decode cX3_ofElement 21 = .ok (.bipush 9, 2) := dk_16 9 (dk_at dksX3_ofElement_0 21 rfl rfl)
theorem dX3_ofElement_23 : decode cX3_ofElement 23 = .ok (.invokestatic 36, 3) := dk_184 0 36 (dk_at dksX3_ofElement_1 0 rfl rfl)
theorem dX3_ofElement_26 : decode cX3_ofElement 26 = .ok (.ifCond .ne 9, 3) := dk_154 0 9 (dk_at dksX3_ofElement_1 3 rfl rfl)
theorem dX3_ofElement_29 : decode cX3_ofElement 29 = .ok (.aload_n 0, 1) := dk_42 (dk_at dksX3_ofElement_1 6 rfl rfl)
theorem dX3_ofElement_30 : decode cX3_ofElement 30 = .ok (.iconst 2, 1) := dk_5 (dk_at dksX3_ofElement_1 7 rfl rfl)
theorem dX3_ofElement_31 : decode cX3_ofElement 31 = .ok (.invokevirtual 58, 3) := dk_182 0 58 (dk_at dksX3_ofElement_1 8 rfl rfl)
theorem dX3_ofElement_34 : decode cX3_ofElement 34 = .ok (.ireturn, 1) := dk_172 (dk_at dksX3_ofElement_1 11 rfl rfl)
theorem dX3_ofElement_35 : decode cX3_ofElement 35 = .ok (.aload_n 0, 1) := dk_42 (dk_at dksX3_ofElement_1 12 rfl rfl)
theorem dX3_ofElement_36 : decode cX3_ofElement 36 = .ok (.iload_n 1, 1) := dk_27 (dk_at dksX3_ofElement_1 13 rfl rfl)
theorem dX3_ofElement_37 : decode cX3_ofElement 37 = .ok (.iload_n 2, 1) := dk_28 (dk_at dksX3_ofElement_1 14 rfl rfl)
theorem dX3_ofElement_38 : decode cX3_ofElement 38 = .ok (.invokevirtual 188, 3) := dk_182 0 188 (dk_at dksX3_ofElement_1 15 rfl rfl)
theorem dX3_ofElement_41 : decode cX3_ofElement 41 = .ok (.ireturn, 1) := dk_172 (dk_at dksX3_ofElement_1 18 rfl rfl)
abbrev cX3_elementNow : ByteArray := prog_11_method_47_code
def yX3_elementNow : MethodName := ⟨RX3, "elementNow", "(II)I"⟩
def dkwX3_elementNow_8 : List UInt8 := [172]
abbrev dktX3_elementNow_8 : List UInt8 := dkwX3_elementNow_8 ++ []
def dkwX3_elementNow_7 : List UInt8 := [42, 27, 28, 16, 8, 160, 0, 7, 4, 167, 0, 4, 3, 182, 0, 146, 3, 189, 0, 139, 3, 182, 0, 150]
abbrev dktX3_elementNow_7 : List UInt8 := dkwX3_elementNow_7 ++ dktX3_elementNow_8
def dkwX3_elementNow_6 : List UInt8 := [167, 0, 4, 3, 172, 42, 27, 182, 0, 163, 153, 0, 11, 42, 27, 182, 0, 166, 167, 0, 4, 2, 172, 42]
abbrev dktX3_elementNow_6 : List UInt8 := dkwX3_elementNow_6 ++ dktX3_elementNow_7
def dkwX3_elementNow_5 : List UInt8 := [182, 0, 91, 42, 27, 182, 0, 91, 182, 0, 110, 42, 27, 182, 0, 91, 184, 0, 184, 153, 0, 7, 4]
abbrev dktX3_elementNow_5 : List UInt8 := dkwX3_elementNow_5 ++ dktX3_elementNow_6
def dkwX3_elementNow_4 : List UInt8 := [167, 0, 4, 3, 172, 42, 27, 182, 0, 181, 172, 42, 27, 182, 0, 136, 172, 42, 27, 182, 0, 106, 42, 27]
abbrev dktX3_elementNow_4 : List UInt8 := dkwX3_elementNow_4 ++ dktX3_elementNow_5
def dkwX3_elementNow_3 : List UInt8 := [184, 0, 55, 172, 42, 27, 182, 0, 178, 172, 42, 27, 182, 0, 91, 184, 0, 125, 153, 0, 7, 4]
abbrev dktX3_elementNow_3 : List UInt8 := dkwX3_elementNow_3 ++ dktX3_elementNow_4
def dkwX3_elementNow_2 : List UInt8 := [42, 180, 0, 20, 27, 185, 0, 40, 2, 0, 192, 0, 44, 180, 0, 46, 172, 42, 27, 182, 0, 91]
abbrev dktX3_elementNow_2 : List UInt8 := dkwX3_elementNow_2 ++ dktX3_elementNow_3
def dkwX3_elementNow_1 : List UInt8 := [170, 0, 0, 0, 0, 0, 161, 0, 0, 0, 0, 0, 0, 0, 7, 0, 0, 0, 47, 0, 0, 0, 64, 0, 0, 0, 73, 0, 0, 0, 79, 0, 0, 0, 96, 0, 0, 0, 102, 0, 0, 0, 108, 0, 0, 0, 143]
abbrev dktX3_elementNow_1 : List UInt8 := dkwX3_elementNow_1 ++ dktX3_elementNow_2
def dkwX3_elementNow_0 : List UInt8 := [28]
abbrev dktX3_elementNow_0 : List UInt8 := dkwX3_elementNow_0 ++ dktX3_elementNow_1
theorem dksX3_elementNow_0 : cX3_elementNow.data.toList.drop 0 = dktX3_elementNow_0 := by decide +kernel
theorem dksX3_elementNow_1 : cX3_elementNow.data.toList.drop 1 = dktX3_elementNow_1 := dk_seg dksX3_elementNow_0 1 rfl rfl
theorem dksX3_elementNow_2 : cX3_elementNow.data.toList.drop 48 = dktX3_elementNow_2 := dk_seg dksX3_elementNow_1 47 rfl rfl
theorem dksX3_elementNow_3 : cX3_elementNow.data.toList.drop 70 = dktX3_elementNow_3 := dk_seg dksX3_elementNow_2 22 rfl rfl
theorem dksX3_elementNow_4 : cX3_elementNow.data.toList.drop 92 = dktX3_elementNow_4 := dk_seg dksX3_elementNow_3 22 rfl rfl
theorem dksX3_elementNow_5 : cX3_elementNow.data.toList.drop 116 = dktX3_elementNow_5 := dk_seg dksX3_elementNow_4 24 rfl rfl
theorem dksX3_elementNow_6 : cX3_elementNow.data.toList.drop 139 = dktX3_elementNow_6 := dk_seg dksX3_elementNow_5 23 rfl rfl
theorem dksX3_elementNow_7 : cX3_elementNow.data.toList.drop 163 = dktX3_elementNow_7 := dk_seg dksX3_elementNow_6 24 rfl rfl
theorem dksX3_elementNow_8 : cX3_elementNow.data.toList.drop 187 = dktX3_elementNow_8 := dk_seg dksX3_elementNow_7 24 rfl rfl
theorem dX3_elementNow_0 : decode cX3_elementNow 0 = .ok (.iload_n 2, 1) := dk_28 (dk_at dksX3_elementNow_0 0 rfl rfl)
theorem dX3_elementNow_1 : decode cX3_elementNow 1 = .ok (.tableswitch 161 0 7 #[47, 64, 73, 79, 96, 102, 108, 143], 47) := by decide +kernel
theorem dX3_elementNow_48 : decode cX3_elementNow 48 = .ok (.aload_n 0, 1) := dk_42 (dk_at dksX3_elementNow_2 0 rfl rfl)
theorem dX3_elementNow_49 : decode cX3_elementNow 49 = .ok (.getfield 20, 3) := dk_180 0 20 (dk_at dksX3_elementNow_2 1 rfl rfl)
theorem dX3_elementNow_52 : decode cX3_elementNow 52 = .ok (.iload_n 1, 1) := dk_27 (dk_at dksX3_elementNow_2 4 rfl rfl)
theorem dX3_elementNow_53 : decode cX3_elementNow 53 = .ok (.invokeinterface 40 2, 5) := by decide +kernel
theorem dX3_elementNow_58 : decode cX3_elementNow 58 = .ok (.checkcast 44, 3) := dk_192 0 44 (dk_at dksX3_elementNow_2 10 rfl rfl)
theorem dX3_elementNow_61 : decode cX3_elementNow 61 = .ok (.getfield 46, 3) := dk_180 0 46 (dk_at dksX3_elementNow_2 13 rfl rfl)
theorem dX3_elementNow_64 : decode cX3_elementNow 64 = .ok (.ireturn, 1) := dk_172 (dk_at dksX3_elementNow_2 16 rfl rfl)
theorem dX3_elementNow_65 : decode cX3_elementNow 65 = .ok (.aload_n 0, 1) := dk_42 (dk_at dksX3_elementNow_2 17 rfl rfl)
theorem dX3_elementNow_66 : decode cX3_elementNow 66 = .ok (.iload_n 1, 1) := dk_27 (dk_at dksX3_elementNow_2 18 rfl rfl)
theorem dX3_elementNow_67 : decode cX3_elementNow 67 = .ok (.invokevirtual 91, 3) := dk_182 0 91 (dk_at dksX3_elementNow_2 19 rfl rfl)
theorem dX3_elementNow_70 : decode cX3_elementNow 70 = .ok (.invokestatic 55, 3) := dk_184 0 55 (dk_at dksX3_elementNow_3 0 rfl rfl)
theorem dX3_elementNow_73 : decode cX3_elementNow 73 = .ok (.ireturn, 1) := dk_172 (dk_at dksX3_elementNow_3 3 rfl rfl)
theorem dX3_elementNow_74 : decode cX3_elementNow 74 = .ok (.aload_n 0, 1) := dk_42 (dk_at dksX3_elementNow_3 4 rfl rfl)
theorem dX3_elementNow_75 : decode cX3_elementNow 75 = .ok (.iload_n 1, 1) := dk_27 (dk_at dksX3_elementNow_3 5 rfl rfl)
theorem dX3_elementNow_76 : decode cX3_elementNow 76 = .ok (.invokevirtual 178, 3) := dk_182 0 178 (dk_at dksX3_elementNow_3 6 rfl rfl)
theorem dX3_elementNow_79 : decode cX3_elementNow 79 = .ok (.ireturn, 1) := dk_172 (dk_at dksX3_elementNow_3 9 rfl rfl)
theorem dX3_elementNow_80 : decode cX3_elementNow 80 = .ok (.aload_n 0, 1) := dk_42 (dk_at dksX3_elementNow_3 10 rfl rfl)
theorem dX3_elementNow_81 : decode cX3_elementNow 81 = .ok (.iload_n 1, 1) := dk_27 (dk_at dksX3_elementNow_3 11 rfl rfl)
theorem dX3_elementNow_82 : decode cX3_elementNow 82 = .ok (.invokevirtual 91, 3) := dk_182 0 91 (dk_at dksX3_elementNow_3 12 rfl rfl)
theorem dX3_elementNow_85 : decode cX3_elementNow 85 = .ok (.invokestatic 125, 3) := dk_184 0 125 (dk_at dksX3_elementNow_3 15 rfl rfl)
theorem dX3_elementNow_88 : decode cX3_elementNow 88 = .ok (.ifCond .eq 7, 3) := dk_153 0 7 (dk_at dksX3_elementNow_3 18 rfl rfl)
theorem dX3_elementNow_91 : decode cX3_elementNow 91 = .ok (.iconst 1, 1) := dk_4 (dk_at dksX3_elementNow_3 21 rfl rfl)
theorem dX3_elementNow_92 : decode cX3_elementNow 92 = .ok (.goto 4, 3) := dk_167 0 4 (dk_at dksX3_elementNow_4 0 rfl rfl)
theorem dX3_elementNow_95 : decode cX3_elementNow 95 = .ok (.iconst 0, 1) := dk_3 (dk_at dksX3_elementNow_4 3 rfl rfl)
theorem dX3_elementNow_96 : decode cX3_elementNow 96 = .ok (.ireturn, 1) := dk_172 (dk_at dksX3_elementNow_4 4 rfl rfl)
theorem dX3_elementNow_97 : decode cX3_elementNow 97 = .ok (.aload_n 0, 1) := dk_42 (dk_at dksX3_elementNow_4 5 rfl rfl)
theorem dX3_elementNow_98 : decode cX3_elementNow 98 = .ok (.iload_n 1, 1) := dk_27 (dk_at dksX3_elementNow_4 6 rfl rfl)
theorem dX3_elementNow_99 : decode cX3_elementNow 99 = .ok (.invokevirtual 181, 3) := dk_182 0 181 (dk_at dksX3_elementNow_4 7 rfl rfl)
theorem dX3_elementNow_102 : decode cX3_elementNow 102 = .ok (.ireturn, 1) := dk_172 (dk_at dksX3_elementNow_4 10 rfl rfl)
theorem dX3_elementNow_103 : decode cX3_elementNow 103 = .ok (.aload_n 0, 1) := dk_42 (dk_at dksX3_elementNow_4 11 rfl rfl)
theorem dX3_elementNow_104 : decode cX3_elementNow 104 = .ok (.iload_n 1, 1) := dk_27 (dk_at dksX3_elementNow_4 12 rfl rfl)
theorem dX3_elementNow_105 : decode cX3_elementNow 105 = .ok (.invokevirtual 136, 3) := dk_182 0 136 (dk_at dksX3_elementNow_4 13 rfl rfl)
theorem dX3_elementNow_108 : decode cX3_elementNow 108 = .ok (.ireturn, 1) := dk_172 (dk_at dksX3_elementNow_4 16 rfl rfl)
theorem dX3_elementNow_109 : decode cX3_elementNow 109 = .ok (.aload_n 0, 1) := dk_42 (dk_at dksX3_elementNow_4 17 rfl rfl)
theorem dX3_elementNow_110 : decode cX3_elementNow 110 = .ok (.iload_n 1, 1) := dk_27 (dk_at dksX3_elementNow_4 18 rfl rfl)
theorem dX3_elementNow_111 : decode cX3_elementNow 111 = .ok (.invokevirtual 106, 3) := dk_182 0 106 (dk_at dksX3_elementNow_4 19 rfl rfl)
theorem dX3_elementNow_114 : decode cX3_elementNow 114 = .ok (.aload_n 0, 1) := dk_42 (dk_at dksX3_elementNow_4 22 rfl rfl)
theorem dX3_elementNow_115 : decode cX3_elementNow 115 = .ok (.iload_n 1, 1) := dk_27 (dk_at dksX3_elementNow_4 23 rfl rfl)
theorem dX3_elementNow_116 : decode cX3_elementNow 116 = .ok (.invokevirtual 91, 3) := dk_182 0 91 (dk_at dksX3_elementNow_5 0 rfl rfl)
theorem dX3_elementNow_119 : decode cX3_elementNow 119 = .ok (.aload_n 0, 1) := dk_42 (dk_at dksX3_elementNow_5 3 rfl rfl)
theorem dX3_elementNow_120 : decode cX3_elementNow 120 = .ok (.iload_n 1, 1) := dk_27 (dk_at dksX3_elementNow_5 4 rfl rfl)
theorem dX3_elementNow_121 : decode cX3_elementNow 121 = .ok (.invokevirtual 91, 3) := dk_182 0 91 (dk_at dksX3_elementNow_5 5 rfl rfl)
theorem dX3_elementNow_124 : decode cX3_elementNow 124 = .ok (.invokevirtual 110, 3) := dk_182 0 110 (dk_at dksX3_elementNow_5 8 rfl rfl)
theorem dX3_elementNow_127 : decode cX3_elementNow 127 = .ok (.aload_n 0, 1) := dk_42 (dk_at dksX3_elementNow_5 11 rfl rfl)
theorem dX3_elementNow_128 : decode cX3_elementNow 128 = .ok (.iload_n 1, 1) := dk_27 (dk_at dksX3_elementNow_5 12 rfl rfl)
theorem dX3_elementNow_129 : decode cX3_elementNow 129 = .ok (.invokevirtual 91, 3) := dk_182 0 91 (dk_at dksX3_elementNow_5 13 rfl rfl)
theorem dX3_elementNow_132 : decode cX3_elementNow 132 = .ok (.invokestatic 184, 3) := dk_184 0 184 (dk_at dksX3_elementNow_5 16 rfl rfl)
theorem dX3_elementNow_135 : decode cX3_elementNow 135 = .ok (.ifCond .eq 7, 3) := dk_153 0 7 (dk_at dksX3_elementNow_5 19 rfl rfl)
theorem dX3_elementNow_138 : decode cX3_elementNow 138 = .ok (.iconst 1, 1) := dk_4 (dk_at dksX3_elementNow_5 22 rfl rfl)
theorem dX3_elementNow_139 : decode cX3_elementNow 139 = .ok (.goto 4, 3) := dk_167 0 4 (dk_at dksX3_elementNow_6 0 rfl rfl)
theorem dX3_elementNow_142 : decode cX3_elementNow 142 = .ok (.iconst 0, 1) := dk_3 (dk_at dksX3_elementNow_6 3 rfl rfl)
theorem dX3_elementNow_143 : decode cX3_elementNow 143 = .ok (.ireturn, 1) := dk_172 (dk_at dksX3_elementNow_6 4 rfl rfl)
theorem dX3_elementNow_144 : decode cX3_elementNow 144 = .ok (.aload_n 0, 1) := dk_42 (dk_at dksX3_elementNow_6 5 rfl rfl)
theorem dX3_elementNow_145 : decode cX3_elementNow 145 = .ok (.iload_n 1, 1) := dk_27 (dk_at dksX3_elementNow_6 6 rfl rfl)
theorem dX3_elementNow_146 : decode cX3_elementNow 146 = .ok (.invokevirtual 163, 3) := dk_182 0 163 (dk_at dksX3_elementNow_6 7 rfl rfl)
theorem dX3_elementNow_149 : decode cX3_elementNow 149 = .ok (.ifCond .eq 11, 3) := dk_153 0 11 (dk_at dksX3_elementNow_6 10 rfl rfl)
theorem dX3_elementNow_152 : decode cX3_elementNow 152 = .ok (.aload_n 0, 1) := dk_42 (dk_at dksX3_elementNow_6 13 rfl rfl)
theorem dX3_elementNow_153 : decode cX3_elementNow 153 = .ok (.iload_n 1, 1) := dk_27 (dk_at dksX3_elementNow_6 14 rfl rfl)
theorem dX3_elementNow_154 : decode cX3_elementNow 154 = .ok (.invokevirtual 166, 3) := dk_182 0 166 (dk_at dksX3_elementNow_6 15 rfl rfl)
theorem dX3_elementNow_157 : decode cX3_elementNow 157 = .ok (.goto 4, 3) := dk_167 0 4 (dk_at dksX3_elementNow_6 18 rfl rfl)
theorem dX3_elementNow_160 : decode cX3_elementNow 160 = .ok (.iconst (-1), 1) := dk_2 (dk_at dksX3_elementNow_6 21 rfl rfl)
theorem dX3_elementNow_161 : decode cX3_elementNow 161 = .ok (.ireturn, 1) := dk_172 (dk_at dksX3_elementNow_6 22 rfl rfl)
theorem dX3_elementNow_162 : decode cX3_elementNow 162 = .ok (.aload_n 0, 1) := dk_42 (dk_at dksX3_elementNow_6 23 rfl rfl)
theorem dX3_elementNow_163 : decode cX3_elementNow 163 = .ok (.aload_n 0, 1) := dk_42 (dk_at dksX3_elementNow_7 0 rfl rfl)
theorem dX3_elementNow_164 : decode cX3_elementNow 164 = .ok (.iload_n 1, 1) := dk_27 (dk_at dksX3_elementNow_7 1 rfl rfl)
theorem dX3_elementNow_165 : decode cX3_elementNow 165 = .ok (.iload_n 2, 1) := dk_28 (dk_at dksX3_elementNow_7 2 rfl rfl)
theorem dX3_elementNow_166 : decode cX3_elementNow 166 = .ok (.bipush 8, 2) := dk_16 8 (dk_at dksX3_elementNow_7 3 rfl rfl)
theorem dX3_elementNow_168 : decode cX3_elementNow 168 = .ok (.if_icmp .ne 7, 3) := dk_160 0 7 (dk_at dksX3_elementNow_7 5 rfl rfl)
theorem dX3_elementNow_171 : decode cX3_elementNow 171 = .ok (.iconst 1, 1) := dk_4 (dk_at dksX3_elementNow_7 8 rfl rfl)
theorem dX3_elementNow_172 : decode cX3_elementNow 172 = .ok (.goto 4, 3) := dk_167 0 4 (dk_at dksX3_elementNow_7 9 rfl rfl)
theorem dX3_elementNow_175 : decode cX3_elementNow 175 = .ok (.iconst 0, 1) := dk_3 (dk_at dksX3_elementNow_7 12 rfl rfl)
theorem dX3_elementNow_176 : decode cX3_elementNow 176 = .ok (.invokevirtual 146, 3) := dk_182 0 146 (dk_at dksX3_elementNow_7 13 rfl rfl)
theorem dX3_elementNow_179 : decode cX3_elementNow 179 = .ok (.iconst 0, 1) := dk_3 (dk_at dksX3_elementNow_7 16 rfl rfl)
theorem dX3_elementNow_180 : decode cX3_elementNow 180 = .ok (.anewarray 139, 3) := dk_189 0 139 (dk_at dksX3_elementNow_7 17 rfl rfl)
theorem dX3_elementNow_183 : decode cX3_elementNow 183 = .ok (.iconst 0, 1) := dk_3 (dk_at dksX3_elementNow_7 20 rfl rfl)
theorem dX3_elementNow_184 : decode cX3_elementNow 184 = .ok (.invokevirtual 150, 3) := dk_182 0 150 (dk_at dksX3_elementNow_7 21 rfl rfl)
theorem dX3_elementNow_187 : decode cX3_elementNow 187 = .ok (.ireturn, 1) := dk_172 (dk_at dksX3_elementNow_8 0 rfl rfl)
abbrev cX3_normOf : ByteArray := prog_11_method_45_code
def yX3_normOf : MethodName := ⟨RX3, "normOf", "(I)I"⟩
def dkwX3_normOf_1 : List UInt8 := [182, 0, 110, 3, 46, 172]
abbrev dktX3_normOf_1 : List UInt8 := dkwX3_normOf_1 ++ []
def dkwX3_normOf_0 : List UInt8 := [42, 27, 182, 0, 106, 42, 27, 182, 0, 91, 42, 27, 182, 0, 106, 42, 27, 182, 0, 91, 182, 0, 118]
abbrev dktX3_normOf_0 : List UInt8 := dkwX3_normOf_0 ++ dktX3_normOf_1
theorem dksX3_normOf_0 : cX3_normOf.data.toList.drop 0 = dktX3_normOf_0 := by decide +kernel
theorem dksX3_normOf_1 : cX3_normOf.data.toList.drop 23 = dktX3_normOf_1 := dk_seg dksX3_normOf_0 23 rfl rfl
theorem dX3_normOf_0 : decode cX3_normOf 0 = .ok (.aload_n 0, 1) := dk_42 (dk_at dksX3_normOf_0 0 rfl rfl)
theorem dX3_normOf_1 : decode cX3_normOf 1 = .ok (.iload_n 1, 1) := dk_27 (dk_at dksX3_normOf_0 1 rfl rfl)
theorem dX3_normOf_2 : decode cX3_normOf 2 = .ok (.invokevirtual 106, 3) := dk_182 0 106 (dk_at dksX3_normOf_0 2 rfl rfl)
theorem dX3_normOf_5 : decode cX3_normOf 5 = .ok (.aload_n 0, 1) := dk_42 (dk_at dksX3_normOf_0 5 rfl rfl)
theorem dX3_normOf_6 : decode cX3_normOf 6 = .ok (.iload_n 1, 1) := dk_27 (dk_at dksX3_normOf_0 6 rfl rfl)
theorem dX3_normOf_7 : decode cX3_normOf 7 = .ok (.invokevirtual 91, 3) := dk_182 0 91 (dk_at dksX3_normOf_0 7 rfl rfl)
theorem dX3_normOf_10 : decode cX3_normOf 10 = .ok (.aload_n 0, 1) := dk_42 (dk_at dksX3_normOf_0 10 rfl rfl)
theorem dX3_normOf_11 : decode cX3_normOf 11 = .ok (.iload_n 1, 1) := dk_27 (dk_at dksX3_normOf_0 11 rfl rfl)
theorem dX3_normOf_12 : decode cX3_normOf 12 = .ok (.invokevirtual 106, 3) := dk_182 0 106 (dk_at dksX3_normOf_0 12 rfl rfl)
theorem dX3_normOf_15 : decode cX3_normOf 15 = .ok (.aload_n 0, 1) := dk_42 (dk_at dksX3_normOf_0 15 rfl rfl)
theorem dX3_normOf_16 : decode cX3_normOf 16 = .ok (.iload_n 1, 1) := dk_27 (dk_at dksX3_normOf_0 16 rfl rfl)
theorem dX3_normOf_17 : decode cX3_normOf 17 = .ok (.invokevirtual 91, 3) := dk_182 0 91 (dk_at dksX3_normOf_0 17 rfl rfl)
theorem dX3_normOf_20 : decode cX3_normOf 20 = .ok (.invokevirtual 118, 3) := dk_182 0 118 (dk_at dksX3_normOf_0 20 rfl rfl)
theorem dX3_normOf_23 : decode cX3_normOf 23 = .ok (.invokevirtual 110, 3) := dk_182 0 110 (dk_at dksX3_normOf_1 0 rfl rfl)
theorem dX3_normOf_26 : decode cX3_normOf 26 = .ok (.iconst 0, 1) := dk_3 (dk_at dksX3_normOf_1 3 rfl rfl)
theorem dX3_normOf_27 : decode cX3_normOf 27 = .ok (.iaload, 1) := dk_46 (dk_at dksX3_normOf_1 4 rfl rfl)
theorem dX3_normOf_28 : decode cX3_normOf 28 = .ok (.ireturn, 1) := dk_172 (dk_at dksX3_normOf_1 5 rfl rfl)
abbrev cX3_orderOf : ByteArray := prog_11_method_46_code
def yX3_orderOf : MethodName := ⟨RX3, "orderOf", "(I)I"⟩
def dkwX3_orderOf_2 : List UInt8 := [172, 132, 3, 1, 167, 255, 215, 2, 172]
abbrev dktX3_orderOf_2 : List UInt8 := dkwX3_orderOf_2 ++ []
def dkwX3_orderOf_1 : List UInt8 := [27, 182, 0, 91, 182, 0, 110, 77, 44, 3, 46, 4, 160, 0, 13, 44, 184, 0, 55, 4, 160, 0, 5, 29]
abbrev dktX3_orderOf_1 : List UInt8 := dkwX3_orderOf_1 ++ dktX3_orderOf_2
def dkwX3_orderOf_0 : List UInt8 := [42, 27, 182, 0, 106, 182, 0, 132, 77, 4, 62, 29, 16, 60, 163, 0, 41, 42, 27, 182, 0, 106, 44, 42]
abbrev dktX3_orderOf_0 : List UInt8 := dkwX3_orderOf_0 ++ dktX3_orderOf_1
theorem dksX3_orderOf_0 : cX3_orderOf.data.toList.drop 0 = dktX3_orderOf_0 := by decide +kernel
theorem dksX3_orderOf_1 : cX3_orderOf.data.toList.drop 24 = dktX3_orderOf_1 := dk_seg dksX3_orderOf_0 24 rfl rfl
theorem dksX3_orderOf_2 : cX3_orderOf.data.toList.drop 48 = dktX3_orderOf_2 := dk_seg dksX3_orderOf_1 24 rfl rfl
theorem dX3_orderOf_0 : decode cX3_orderOf 0 = .ok (.aload_n 0, 1) := dk_42 (dk_at dksX3_orderOf_0 0 rfl rfl)
theorem dX3_orderOf_1 : decode cX3_orderOf 1 = .ok (.iload_n 1, 1) := dk_27 (dk_at dksX3_orderOf_0 1 rfl rfl)
theorem dX3_orderOf_2 : decode cX3_orderOf 2 = .ok (.invokevirtual 106, 3) := dk_182 0 106 (dk_at dksX3_orderOf_0 2 rfl rfl)
theorem dX3_orderOf_5 : decode cX3_orderOf 5 = .ok (.invokevirtual 132, 3) := dk_182 0 132 (dk_at dksX3_orderOf_0 5 rfl rfl)
theorem dX3_orderOf_8 : decode cX3_orderOf 8 = .ok (.astore_n 2, 1) := dk_77 (dk_at dksX3_orderOf_0 8 rfl rfl)
theorem dX3_orderOf_9 : decode cX3_orderOf 9 = .ok (.iconst 1, 1) := dk_4 (dk_at dksX3_orderOf_0 9 rfl rfl)
theorem dX3_orderOf_10 : decode cX3_orderOf 10 = .ok (.istore_n 3, 1) := dk_62 (dk_at dksX3_orderOf_0 10 rfl rfl)
theorem dX3_orderOf_11 : decode cX3_orderOf 11 = .ok (.iload_n 3, 1) := dk_29 (dk_at dksX3_orderOf_0 11 rfl rfl)
theorem dX3_orderOf_12 : decode cX3_orderOf 12 = .ok (.bipush 60, 2) := dk_16 60 (dk_at dksX3_orderOf_0 12 rfl rfl)
theorem dX3_orderOf_14 : decode cX3_orderOf 14 = .ok (.if_icmp .gt 41, 3) := dk_163 0 41 (dk_at dksX3_orderOf_0 14 rfl rfl)
theorem dX3_orderOf_17 : decode cX3_orderOf 17 = .ok (.aload_n 0, 1) := dk_42 (dk_at dksX3_orderOf_0 17 rfl rfl)
theorem dX3_orderOf_18 : decode cX3_orderOf 18 = .ok (.iload_n 1, 1) := dk_27 (dk_at dksX3_orderOf_0 18 rfl rfl)
theorem dX3_orderOf_19 : decode cX3_orderOf 19 = .ok (.invokevirtual 106, 3) := dk_182 0 106 (dk_at dksX3_orderOf_0 19 rfl rfl)
theorem dX3_orderOf_22 : decode cX3_orderOf 22 = .ok (.aload_n 2, 1) := dk_44 (dk_at dksX3_orderOf_0 22 rfl rfl)
theorem dX3_orderOf_23 : decode cX3_orderOf 23 = .ok (.aload_n 0, 1) := dk_42 (dk_at dksX3_orderOf_0 23 rfl rfl)
theorem dX3_orderOf_24 : decode cX3_orderOf 24 = .ok (.iload_n 1, 1) := dk_27 (dk_at dksX3_orderOf_1 0 rfl rfl)
theorem dX3_orderOf_25 : decode cX3_orderOf 25 = .ok (.invokevirtual 91, 3) := dk_182 0 91 (dk_at dksX3_orderOf_1 1 rfl rfl)
theorem dX3_orderOf_28 : decode cX3_orderOf 28 = .ok (.invokevirtual 110, 3) := dk_182 0 110 (dk_at dksX3_orderOf_1 4 rfl rfl)
theorem dX3_orderOf_31 : decode cX3_orderOf 31 = .ok (.astore_n 2, 1) := dk_77 (dk_at dksX3_orderOf_1 7 rfl rfl)
theorem dX3_orderOf_32 : decode cX3_orderOf 32 = .ok (.aload_n 2, 1) := dk_44 (dk_at dksX3_orderOf_1 8 rfl rfl)
theorem dX3_orderOf_33 : decode cX3_orderOf 33 = .ok (.iconst 0, 1) := dk_3 (dk_at dksX3_orderOf_1 9 rfl rfl)
theorem dX3_orderOf_34 : decode cX3_orderOf 34 = .ok (.iaload, 1) := dk_46 (dk_at dksX3_orderOf_1 10 rfl rfl)
theorem dX3_orderOf_35 : decode cX3_orderOf 35 = .ok (.iconst 1, 1) := dk_4 (dk_at dksX3_orderOf_1 11 rfl rfl)
theorem dX3_orderOf_36 : decode cX3_orderOf 36 = .ok (.if_icmp .ne 13, 3) := dk_160 0 13 (dk_at dksX3_orderOf_1 12 rfl rfl)
theorem dX3_orderOf_39 : decode cX3_orderOf 39 = .ok (.aload_n 2, 1) := dk_44 (dk_at dksX3_orderOf_1 15 rfl rfl)
theorem dX3_orderOf_40 : decode cX3_orderOf 40 = .ok (.invokestatic 55, 3) := dk_184 0 55 (dk_at dksX3_orderOf_1 16 rfl rfl)
theorem dX3_orderOf_43 : decode cX3_orderOf 43 = .ok (.iconst 1, 1) := dk_4 (dk_at dksX3_orderOf_1 19 rfl rfl)
theorem dX3_orderOf_44 : decode cX3_orderOf 44 = .ok (.if_icmp .ne 5, 3) := dk_160 0 5 (dk_at dksX3_orderOf_1 20 rfl rfl)
theorem dX3_orderOf_47 : decode cX3_orderOf 47 = .ok (.iload_n 3, 1) := dk_29 (dk_at dksX3_orderOf_1 23 rfl rfl)
theorem dX3_orderOf_48 : decode cX3_orderOf 48 = .ok (.ireturn, 1) := dk_172 (dk_at dksX3_orderOf_2 0 rfl rfl)
theorem dX3_orderOf_49 : decode cX3_orderOf 49 = .ok (.iinc 3 1, 3) := dk_132 3 1 (dk_at dksX3_orderOf_2 1 rfl rfl)
theorem dX3_orderOf_52 : decode cX3_orderOf 52 = .ok (.goto (-41), 3) := dk_167 255 215 (dk_at dksX3_orderOf_2 4 rfl rfl)
theorem dX3_orderOf_55 : decode cX3_orderOf 55 = .ok (.iconst (-1), 1) := dk_2 (dk_at dksX3_orderOf_2 7 rfl rfl)
theorem dX3_orderOf_56 : decode cX3_orderOf 56 = .ok (.ireturn, 1) := dk_172 (dk_at dksX3_orderOf_2 8 rfl rfl)
abbrev cX3_isSame : ByteArray := prog_11_method_15_code
def yX3_isSame : MethodName := ⟨RX3, "isSame", "([I[I)Z"⟩
def dkwX3_isSame_1 : List UInt8 := [167, 255, 236, 4, 172]
abbrev dktX3_isSame_1 : List UInt8 := dkwX3_isSame_1 ++ []
def dkwX3_isSame_0 : List UInt8 := [3, 61, 28, 42, 190, 162, 0, 20, 42, 28, 46, 43, 28, 46, 159, 0, 5, 3, 172, 132, 2, 1]
abbrev dktX3_isSame_0 : List UInt8 := dkwX3_isSame_0 ++ dktX3_isSame_1
theorem dksX3_isSame_0 : cX3_isSame.data.toList.drop 0 = dktX3_isSame_0 := by decide +kernel
theorem dksX3_isSame_1 : cX3_isSame.data.toList.drop 22 = dktX3_isSame_1 := dk_seg dksX3_isSame_0 22 rfl rfl
theorem dX3_isSame_0 : decode cX3_isSame 0 = .ok (.iconst 0, 1) := dk_3 (dk_at dksX3_isSame_0 0 rfl rfl)
theorem dX3_isSame_1 : decode cX3_isSame 1 = .ok (.istore_n 2, 1) := dk_61 (dk_at dksX3_isSame_0 1 rfl rfl)
theorem dX3_isSame_2 : decode cX3_isSame 2 = .ok (.iload_n 2, 1) := dk_28 (dk_at dksX3_isSame_0 2 rfl rfl)
theorem dX3_isSame_3 : decode cX3_isSame 3 = .ok (.aload_n 0, 1) := dk_42 (dk_at dksX3_isSame_0 3 rfl rfl)
theorem dX3_isSame_4 : decode cX3_isSame 4 = .ok (.arraylength, 1) := dk_190 (dk_at dksX3_isSame_0 4 rfl rfl)
theorem dX3_isSame_5 : decode cX3_isSame 5 = .ok (.if_icmp .ge 20, 3) := dk_162 0 20 (dk_at dksX3_isSame_0 5 rfl rfl)
theorem dX3_isSame_8 : decode cX3_isSame 8 = .ok (.aload_n 0, 1) := dk_42 (dk_at dksX3_isSame_0 8 rfl rfl)
theorem dX3_isSame_9 : decode cX3_isSame 9 = .ok (.iload_n 2, 1) := dk_28 (dk_at dksX3_isSame_0 9 rfl rfl)
theorem dX3_isSame_10 : decode cX3_isSame 10 = .ok (.iaload, 1) := dk_46 (dk_at dksX3_isSame_0 10 rfl rfl)
theorem dX3_isSame_11 : decode cX3_isSame 11 = .ok (.aload_n 1, 1) := dk_43 (dk_at dksX3_isSame_0 11 rfl rfl)
theorem dX3_isSame_12 : decode cX3_isSame 12 = .ok (.iload_n 2, 1) := dk_28 (dk_at dksX3_isSame_0 12 rfl rfl)
theorem dX3_isSame_13 : decode cX3_isSame 13 = .ok (.iaload, 1) := dk_46 (dk_at dksX3_isSame_0 13 rfl rfl)
theorem dX3_isSame_14 : decode cX3_isSame 14 = .ok (.if_icmp .eq 5, 3) := dk_159 0 5 (dk_at dksX3_isSame_0 14 rfl rfl)
theorem dX3_isSame_17 : decode cX3_isSame 17 = .ok (.iconst 0, 1) := dk_3 (dk_at dksX3_isSame_0 17 rfl rfl)
theorem dX3_isSame_18 : decode cX3_isSame 18 = .ok (.ireturn, 1) := dk_172 (dk_at dksX3_isSame_0 18 rfl rfl)
theorem dX3_isSame_19 : decode cX3_isSame 19 = .ok (.iinc 2 1, 3) := dk_132 2 1 (dk_at dksX3_isSame_0 19 rfl rfl)
theorem dX3_isSame_22 : decode cX3_isSame 22 = .ok (.goto (-20), 3) := dk_167 255 236 (dk_at dksX3_isSame_1 0 rfl rfl)
theorem dX3_isSame_25 : decode cX3_isSame 25 = .ok (.iconst 1, 1) := dk_4 (dk_at dksX3_isSame_1 3 rfl rfl)
theorem dX3_isSame_26 : decode cX3_isSame 26 = .ok (.ireturn, 1) := dk_172 (dk_at dksX3_isSame_1 4 rfl rfl)
abbrev cX3_text : ByteArray := prog_11_method_50_code
def yX3_text : MethodName := ⟨RX3, "text", "(I)Ljava/lang/String;"⟩
def dkwX3_text_1 : List UInt8 := [182, 0, 213, 176]
abbrev dktX3_text_1 : List UInt8 := dkwX3_text_1 ++ []
def dkwX3_text_0 : List UInt8 := [42, 3, 181, 0, 23, 42, 27, 182, 0, 88, 154, 0, 11, 42, 4, 181, 0, 23, 18, 211, 176, 42, 27]
abbrev dktX3_text_0 : List UInt8 := dkwX3_text_0 ++ dktX3_text_1
theorem dksX3_text_0 : cX3_text.data.toList.drop 0 = dktX3_text_0 := by decide +kernel
theorem dksX3_text_1 : cX3_text.data.toList.drop 23 = dktX3_text_1 := dk_seg dksX3_text_0 23 rfl rfl
theorem dX3_text_0 : decode cX3_text 0 = .ok (.aload_n 0, 1) := dk_42 (dk_at dksX3_text_0 0 rfl rfl)
theorem dX3_text_1 : decode cX3_text 1 = .ok (.iconst 0, 1) := dk_3 (dk_at dksX3_text_0 1 rfl rfl)
theorem dX3_text_2 : decode cX3_text 2 = .ok (.putfield 23, 3) := dk_181 0 23 (dk_at dksX3_text_0 2 rfl rfl)
theorem dX3_text_5 : decode cX3_text 5 = .ok (.aload_n 0, 1) := dk_42 (dk_at dksX3_text_0 5 rfl rfl)
theorem dX3_text_6 : decode cX3_text 6 = .ok (.iload_n 1, 1) := dk_27 (dk_at dksX3_text_0 6 rfl rfl)
theorem dX3_text_7 : decode cX3_text 7 = .ok (.invokevirtual 88, 3) := dk_182 0 88 (dk_at dksX3_text_0 7 rfl rfl)
theorem dX3_text_10 : decode cX3_text 10 = .ok (.ifCond .ne 11, 3) := dk_154 0 11 (dk_at dksX3_text_0 10 rfl rfl)
theorem dX3_text_13 : decode cX3_text 13 = .ok (.aload_n 0, 1) := dk_42 (dk_at dksX3_text_0 13 rfl rfl)
theorem dX3_text_14 : decode cX3_text 14 = .ok (.iconst 1, 1) := dk_4 (dk_at dksX3_text_0 14 rfl rfl)
theorem dX3_text_15 : decode cX3_text 15 = .ok (.putfield 23, 3) := dk_181 0 23 (dk_at dksX3_text_0 15 rfl rfl)
theorem dX3_text_18 : decode cX3_text 18 = .ok (.ldc 211, 2) := dk_18 211 (dk_at dksX3_text_0 18 rfl rfl)
theorem dX3_text_20 : decode cX3_text 20 = .ok (.areturn, 1) := dk_176 (dk_at dksX3_text_0 20 rfl rfl)
theorem dX3_text_21 : decode cX3_text 21 = .ok (.aload_n 0, 1) := dk_42 (dk_at dksX3_text_0 21 rfl rfl)
theorem dX3_text_22 : decode cX3_text 22 = .ok (.iload_n 1, 1) := dk_27 (dk_at dksX3_text_0 22 rfl rfl)
theorem dX3_text_23 : decode cX3_text 23 = .ok (.invokevirtual 213, 3) := dk_182 0 213 (dk_at dksX3_text_1 0 rfl rfl)
theorem dX3_text_26 : decode cX3_text 26 = .ok (.areturn, 1) := dk_176 (dk_at dksX3_text_1 3 rfl rfl)
abbrev cX3_textNow : ByteArray := prog_11_method_49_code
def yX3_textNow : MethodName := ⟨RX3, "textNow", "(I)Ljava/lang/String;"⟩
def dkwX3_textNow_3 : List UInt8 := [132, 3, 1, 167, 255, 195, 44, 182, 0, 195, 154, 0, 8, 18, 205, 167, 0, 7, 44, 182, 0, 207, 176]
abbrev dktX3_textNow_3 : List UInt8 := dkwX3_textNow_3 ++ []
def dkwX3_textNow_2 : List UInt8 := [87, 44, 42, 27, 182, 0, 91, 29, 46, 182, 0, 202, 16, 101, 182, 0, 198, 29, 182, 0, 202, 87]
abbrev dktX3_textNow_2 : List UInt8 := dkwX3_textNow_2 ++ dktX3_textNow_3
def dkwX3_textNow_1 : List UInt8 := [182, 0, 91, 29, 46, 154, 0, 6, 167, 0, 38, 44, 182, 0, 195, 158, 0, 10, 44, 16, 43, 182, 0, 198]
abbrev dktX3_textNow_1 : List UInt8 := dkwX3_textNow_1 ++ dktX3_textNow_2
def dkwX3_textNow_0 : List UInt8 := [187, 0, 192, 89, 183, 0, 194, 77, 3, 62, 29, 42, 27, 182, 0, 91, 190, 162, 0, 57, 42, 27]
abbrev dktX3_textNow_0 : List UInt8 := dkwX3_textNow_0 ++ dktX3_textNow_1
theorem dksX3_textNow_0 : cX3_textNow.data.toList.drop 0 = dktX3_textNow_0 := by decide +kernel
theorem dksX3_textNow_1 : cX3_textNow.data.toList.drop 22 = dktX3_textNow_1 := dk_seg dksX3_textNow_0 22 rfl rfl
theorem dksX3_textNow_2 : cX3_textNow.data.toList.drop 46 = dktX3_textNow_2 := dk_seg dksX3_textNow_1 24 rfl rfl
theorem dksX3_textNow_3 : cX3_textNow.data.toList.drop 68 = dktX3_textNow_3 := dk_seg dksX3_textNow_2 22 rfl rfl
theorem dX3_textNow_0 : decode cX3_textNow 0 = .ok (.new 192, 3) := dk_187 0 192 (dk_at dksX3_textNow_0 0 rfl rfl)
theorem dX3_textNow_3 : decode cX3_textNow 3 = .ok (.dup, 1) := dk_89 (dk_at dksX3_textNow_0 3 rfl rfl)
theorem dX3_textNow_4 : decode cX3_textNow 4 = .ok (.invokespecial 194, 3) := dk_183 0 194 (dk_at dksX3_textNow_0 4 rfl rfl)
theorem dX3_textNow_7 : decode cX3_textNow 7 = .ok (.astore_n 2, 1) := dk_77 (dk_at dksX3_textNow_0 7 rfl rfl)
theorem dX3_textNow_8 : decode cX3_textNow 8 = .ok (.iconst 0, 1) := dk_3 (dk_at dksX3_textNow_0 8 rfl rfl)
theorem dX3_textNow_9 : decode cX3_textNow 9 = .ok (.istore_n 3, 1) := dk_62 (dk_at dksX3_textNow_0 9 rfl rfl)
theorem dX3_textNow_10 : decode cX3_textNow 10 = .ok (.iload_n 3, 1) := dk_29 (dk_at dksX3_textNow_0 10 rfl rfl)
theorem dX3_textNow_11 : decode cX3_textNow 11 = .ok (.aload_n 0, 1) := dk_42 (dk_at dksX3_textNow_0 11 rfl rfl)
theorem dX3_textNow_12 : decode cX3_textNow 12 = .ok (.iload_n 1, 1) := dk_27 (dk_at dksX3_textNow_0 12 rfl rfl)
theorem dX3_textNow_13 : decode cX3_textNow 13 = .ok (.invokevirtual 91, 3) := dk_182 0 91 (dk_at dksX3_textNow_0 13 rfl rfl)
theorem dX3_textNow_16 : decode cX3_textNow 16 = .ok (.arraylength, 1) := dk_190 (dk_at dksX3_textNow_0 16 rfl rfl)
theorem dX3_textNow_17 : decode cX3_textNow 17 = .ok (.if_icmp .ge 57, 3) := dk_162 0 57 (dk_at dksX3_textNow_0 17 rfl rfl)
theorem dX3_textNow_20 : decode cX3_textNow 20 = .ok (.aload_n 0, 1) := dk_42 (dk_at dksX3_textNow_0 20 rfl rfl)
theorem dX3_textNow_21 : decode cX3_textNow 21 = .ok (.iload_n 1, 1) := dk_27 (dk_at dksX3_textNow_0 21 rfl rfl)
theorem dX3_textNow_22 : decode cX3_textNow 22 = .ok (.invokevirtual 91, 3) := dk_182 0 91 (dk_at dksX3_textNow_1 0 rfl rfl)
theorem dX3_textNow_25 : decode cX3_textNow 25 = .ok (.iload_n 3, 1) := dk_29 (dk_at dksX3_textNow_1 3 rfl rfl)
theorem dX3_textNow_26 : decode cX3_textNow 26 = .ok (.iaload, 1) := dk_46 (dk_at dksX3_textNow_1 4 rfl rfl)
theorem dX3_textNow_27 : decode cX3_textNow 27 = .ok (.ifCond .ne 6, 3) := dk_154 0 6 (dk_at dksX3_textNow_1 5 rfl rfl)
theorem dX3_textNow_30 : decode cX3_textNow 30 = .ok (.goto 38, 3) := dk_167 0 38 (dk_at dksX3_textNow_1 8 rfl rfl)
theorem dX3_textNow_33 : decode cX3_textNow 33 = .ok (.aload_n 2, 1) := dk_44 (dk_at dksX3_textNow_1 11 rfl rfl)
theorem dX3_textNow_34 : decode cX3_textNow 34 = .ok (.invokevirtual 195, 3) := dk_182 0 195 (dk_at dksX3_textNow_1 12 rfl rfl)
theorem dX3_textNow_37 : decode cX3_textNow 37 = .ok (.ifCond .le 10, 3) := dk_158 0 10 (dk_at dksX3_textNow_1 15 rfl rfl)
theorem dX3_textNow_40 : decode cX3_textNow 40 = .ok (.aload_n 2, 1) := dk_44 (dk_at dksX3_textNow_1 18 rfl rfl)
theorem dX3_textNow_41 : decode cX3_textNow 41 = .ok (.bipush 43, 2) := dk_16 43 (dk_at dksX3_textNow_1 19 rfl rfl)
theorem dX3_textNow_43 : decode cX3_textNow 43 = .ok (.invokevirtual 198, 3) := dk_182 0 198 (dk_at dksX3_textNow_1 21 rfl rfl)
theorem dX3_textNow_46 : decode cX3_textNow 46 = .ok (.pop, 1) := dk_87 (dk_at dksX3_textNow_2 0 rfl rfl)
theorem dX3_textNow_47 : decode cX3_textNow 47 = .ok (.aload_n 2, 1) := dk_44 (dk_at dksX3_textNow_2 1 rfl rfl)
theorem dX3_textNow_48 : decode cX3_textNow 48 = .ok (.aload_n 0, 1) := dk_42 (dk_at dksX3_textNow_2 2 rfl rfl)
theorem dX3_textNow_49 : decode cX3_textNow 49 = .ok (.iload_n 1, 1) := dk_27 (dk_at dksX3_textNow_2 3 rfl rfl)
theorem dX3_textNow_50 : decode cX3_textNow 50 = .ok (.invokevirtual 91, 3) := dk_182 0 91 (dk_at dksX3_textNow_2 4 rfl rfl)
theorem dX3_textNow_53 : decode cX3_textNow 53 = .ok (.iload_n 3, 1) := dk_29 (dk_at dksX3_textNow_2 7 rfl rfl)
theorem dX3_textNow_54 : decode cX3_textNow 54 = .ok (.iaload, 1) := dk_46 (dk_at dksX3_textNow_2 8 rfl rfl)
theorem dX3_textNow_55 : decode cX3_textNow 55 = .ok (.invokevirtual 202, 3) := dk_182 0 202 (dk_at dksX3_textNow_2 9 rfl rfl)
theorem dX3_textNow_58 : decode cX3_textNow 58 = .ok (.bipush 101, 2) := dk_16 101 (dk_at dksX3_textNow_2 12 rfl rfl)
theorem dX3_textNow_60 : decode cX3_textNow 60 = .ok (.invokevirtual 198, 3) := dk_182 0 198 (dk_at dksX3_textNow_2 14 rfl rfl)
theorem dX3_textNow_63 : decode cX3_textNow 63 = .ok (.iload_n 3, 1) := dk_29 (dk_at dksX3_textNow_2 17 rfl rfl)
theorem dX3_textNow_64 : decode cX3_textNow 64 = .ok (.invokevirtual 202, 3) := dk_182 0 202 (dk_at dksX3_textNow_2 18 rfl rfl)
theorem dX3_textNow_67 : decode cX3_textNow 67 = .ok (.pop, 1) := dk_87 (dk_at dksX3_textNow_2 21 rfl rfl)
theorem dX3_textNow_68 : decode cX3_textNow 68 = .ok (.iinc 3 1, 3) := dk_132 3 1 (dk_at dksX3_textNow_3 0 rfl rfl)
theorem dX3_textNow_71 : decode cX3_textNow 71 = .ok (.goto (-61), 3) := dk_167 255 195 (dk_at dksX3_textNow_3 3 rfl rfl)
theorem dX3_textNow_74 : decode cX3_textNow 74 = .ok (.aload_n 2, 1) := dk_44 (dk_at dksX3_textNow_3 6 rfl rfl)
theorem dX3_textNow_75 : decode cX3_textNow 75 = .ok (.invokevirtual 195, 3) := dk_182 0 195 (dk_at dksX3_textNow_3 7 rfl rfl)
theorem dX3_textNow_78 : decode cX3_textNow 78 = .ok (.ifCond .ne 8, 3) := dk_154 0 8 (dk_at dksX3_textNow_3 10 rfl rfl)
theorem dX3_textNow_81 : decode cX3_textNow 81 = .ok (.ldc 205, 2) := dk_18 205 (dk_at dksX3_textNow_3 13 rfl rfl)
theorem dX3_textNow_83 : decode cX3_textNow 83 = .ok (.goto 7, 3) := dk_167 0 7 (dk_at dksX3_textNow_3 15 rfl rfl)
theorem dX3_textNow_86 : decode cX3_textNow 86 = .ok (.aload_n 2, 1) := dk_44 (dk_at dksX3_textNow_3 18 rfl rfl)
theorem dX3_textNow_87 : decode cX3_textNow 87 = .ok (.invokevirtual 207, 3) := dk_182 0 207 (dk_at dksX3_textNow_3 19 rfl rfl)
theorem dX3_textNow_90 : decode cX3_textNow 90 = .ok (.areturn, 1) := dk_176 (dk_at dksX3_textNow_3 22 rfl rfl)
abbrev cX3_ofAlgebra : ByteArray := prog_11_method_52_code
def yX3_ofAlgebra : MethodName := ⟨RX3, "ofAlgebra", "(II)I"⟩
def dkwX3_ofAlgebra_1 : List UInt8 := [184, 0, 36, 154, 0, 9, 42, 5, 182, 0, 58, 172, 42, 27, 28, 182, 0, 221, 172]
abbrev dktX3_ofAlgebra_1 : List UInt8 := dkwX3_ofAlgebra_1 ++ []
def dkwX3_ofAlgebra_0 : List UInt8 := [42, 3, 181, 0, 23, 42, 27, 182, 0, 68, 154, 0, 9, 42, 4, 182, 0, 58, 172, 28, 3, 8]
abbrev dktX3_ofAlgebra_0 : List UInt8 := dkwX3_ofAlgebra_0 ++ dktX3_ofAlgebra_1
theorem dksX3_ofAlgebra_0 : cX3_ofAlgebra.data.toList.drop 0 = dktX3_ofAlgebra_0 := by decide +kernel
theorem dksX3_ofAlgebra_1 : cX3_ofAlgebra.data.toList.drop 22 = dktX3_ofAlgebra_1 := dk_seg dksX3_ofAlgebra_0 22 rfl rfl
theorem dX3_ofAlgebra_0 : decode cX3_ofAlgebra 0 = .ok (.aload_n 0, 1) := dk_42 (dk_at dksX3_ofAlgebra_0 0 rfl rfl)
theorem dX3_ofAlgebra_1 : decode cX3_ofAlgebra 1 = .ok (.iconst 0, 1) := dk_3 (dk_at dksX3_ofAlgebra_0 1 rfl rfl)
theorem dX3_ofAlgebra_2 : decode cX3_ofAlgebra 2 = .ok (.putfield 23, 3) := dk_181 0 23 (dk_at dksX3_ofAlgebra_0 2 rfl rfl)
theorem dX3_ofAlgebra_5 : decode cX3_ofAlgebra 5 = .ok (.aload_n 0, 1) := dk_42 (dk_at dksX3_ofAlgebra_0 5 rfl rfl)
theorem dX3_ofAlgebra_6 : decode cX3_ofAlgebra 6 = .ok (.iload_n 1, 1) := dk_27 (dk_at dksX3_ofAlgebra_0 6 rfl rfl)
theorem dX3_ofAlgebra_7 : decode cX3_ofAlgebra 7 = .ok (.invokevirtual 68, 3) := dk_182 0 68 (dk_at dksX3_ofAlgebra_0 7 rfl rfl)
theorem dX3_ofAlgebra_10 : decode cX3_ofAlgebra 10 = .ok (.ifCond .ne 9, 3) := dk_154 0 9 (dk_at dksX3_ofAlgebra_0 10 rfl rfl)
theorem dX3_ofAlgebra_13 : decode cX3_ofAlgebra 13 = .ok (.aload_n 0, 1) := dk_42 (dk_at dksX3_ofAlgebra_0 13 rfl rfl)
theorem dX3_ofAlgebra_14 : decode cX3_ofAlgebra 14 = .ok (.iconst 1, 1) := dk_4 (dk_at dksX3_ofAlgebra_0 14 rfl rfl)
theorem dX3_ofAlgebra_15 : decode cX3_ofAlgebra 15 = .ok (.invokevirtual 58, 3) := dk_182 0 58 (dk_at dksX3_ofAlgebra_0 15 rfl rfl)
theorem dX3_ofAlgebra_18 : decode cX3_ofAlgebra 18 = .ok (.ireturn, 1) := dk_172 (dk_at dksX3_ofAlgebra_0 18 rfl rfl)
theorem dX3_ofAlgebra_19 : decode cX3_ofAlgebra 19 = .ok (.iload_n 2, 1) := dk_28 (dk_at dksX3_ofAlgebra_0 19 rfl rfl)
theorem dX3_ofAlgebra_20 : decode cX3_ofAlgebra 20 = .ok (.iconst 0, 1) := dk_3 (dk_at dksX3_ofAlgebra_0 20 rfl rfl)
theorem dX3_ofAlgebra_21 : decode cX3_ofAlgebra 21 = .ok (.iconst 5, 1) := dk_8 (dk_at dksX3_ofAlgebra_0 21 rfl rfl)
theorem dX3_ofAlgebra_22 : decode cX3_ofAlgebra 22 = .ok (.invokestatic 36, 3) := dk_184 0 36 (dk_at dksX3_ofAlgebra_1 0 rfl rfl)
theorem dX3_ofAlgebra_25 : decode cX3_ofAlgebra 25 = .ok (.ifCond .ne 9, 3) := dk_154 0 9 (dk_at dksX3_ofAlgebra_1 3 rfl rfl)
theorem dX3_ofAlgebra_28 : decode cX3_ofAlgebra 28 = .ok (.aload_n 0, 1) := dk_42 (dk_at dksX3_ofAlgebra_1 6 rfl rfl)
theorem dX3_ofAlgebra_29 : decode cX3_ofAlgebra 29 = .ok (.iconst 2, 1) := dk_5 (dk_at dksX3_ofAlgebra_1 7 rfl rfl)
theorem dX3_ofAlgebra_30 : decode cX3_ofAlgebra 30 = .ok (.invokevirtual 58, 3) := dk_182 0 58 (dk_at dksX3_ofAlgebra_1 8 rfl rfl)
theorem dX3_ofAlgebra_33 : decode cX3_ofAlgebra 33 = .ok (.ireturn, 1) := dk_172 (dk_at dksX3_ofAlgebra_1 11 rfl rfl)
theorem dX3_ofAlgebra_34 : decode cX3_ofAlgebra 34 = .ok (.aload_n 0, 1) := dk_42 (dk_at dksX3_ofAlgebra_1 12 rfl rfl)
theorem dX3_ofAlgebra_35 : decode cX3_ofAlgebra 35 = .ok (.iload_n 1, 1) := dk_27 (dk_at dksX3_ofAlgebra_1 13 rfl rfl)
theorem dX3_ofAlgebra_36 : decode cX3_ofAlgebra 36 = .ok (.iload_n 2, 1) := dk_28 (dk_at dksX3_ofAlgebra_1 14 rfl rfl)
theorem dX3_ofAlgebra_37 : decode cX3_ofAlgebra 37 = .ok (.invokevirtual 221, 3) := dk_182 0 221 (dk_at dksX3_ofAlgebra_1 15 rfl rfl)
theorem dX3_ofAlgebra_40 : decode cX3_ofAlgebra 40 = .ok (.ireturn, 1) := dk_172 (dk_at dksX3_ofAlgebra_1 18 rfl rfl)
abbrev cX3_algebraNow : ByteArray := prog_11_method_51_code
def yX3_algebraNow : MethodName := ⟨RX3, "algebraNow", "(II)I"⟩
def dkwX3_algebraNow_6 : List UInt8 := [25, 5, 28, 46, 172]
abbrev dktX3_algebraNow_6 : List UInt8 := dkwX3_algebraNow_6 ++ []
def dkwX3_algebraNow_5 : List UInt8 := [27, 182, 0, 75, 79, 89, 7, 21, 4, 79, 89, 8, 45, 180, 0, 160, 185, 0, 30, 1, 0, 79, 58, 5]
abbrev dktX3_algebraNow_5 : List UInt8 := dkwX3_algebraNow_5 ++ dktX3_algebraNow_6
def dkwX3_algebraNow_4 : List UInt8 := [89, 3, 45, 180, 0, 154, 79, 89, 4, 45, 180, 0, 72, 79, 89, 5, 45, 182, 0, 82, 79, 89, 6, 42]
abbrev dktX3_algebraNow_4 : List UInt8 := dkwX3_algebraNow_4 ++ dktX3_algebraNow_5
def dkwX3_algebraNow_3 : List UInt8 := [153, 0, 10, 4, 21, 5, 120, 167, 0, 4, 3, 128, 54, 4, 132, 5, 1, 167, 255, 190, 16, 6, 188, 10]
abbrev dktX3_algebraNow_3 : List UInt8 := dkwX3_algebraNow_3 ++ dktX3_algebraNow_4
def dkwX3_algebraNow_2 : List UInt8 := [3, 21, 5, 21, 7, 3, 182, 0, 217, 126, 54, 6, 132, 7, 1, 167, 255, 229, 21, 4, 21, 6]
abbrev dktX3_algebraNow_2 : List UInt8 := dkwX3_algebraNow_2 ++ dktX3_algebraNow_3
def dkwX3_algebraNow_1 : List UInt8 := [182, 0, 82, 162, 0, 63, 4, 54, 6, 3, 54, 7, 21, 7, 45, 182, 0, 82, 162, 0, 24, 21, 6, 45]
abbrev dktX3_algebraNow_1 : List UInt8 := dkwX3_algebraNow_1 ++ dktX3_algebraNow_2
def dkwX3_algebraNow_0 : List UInt8 := [42, 180, 0, 16, 27, 185, 0, 40, 2, 0, 192, 0, 53, 78, 3, 54, 4, 3, 54, 5, 21, 5, 45]
abbrev dktX3_algebraNow_0 : List UInt8 := dkwX3_algebraNow_0 ++ dktX3_algebraNow_1
theorem dksX3_algebraNow_0 : cX3_algebraNow.data.toList.drop 0 = dktX3_algebraNow_0 := by decide +kernel
theorem dksX3_algebraNow_1 : cX3_algebraNow.data.toList.drop 23 = dktX3_algebraNow_1 := dk_seg dksX3_algebraNow_0 23 rfl rfl
theorem dksX3_algebraNow_2 : cX3_algebraNow.data.toList.drop 47 = dktX3_algebraNow_2 := dk_seg dksX3_algebraNow_1 24 rfl rfl
theorem dksX3_algebraNow_3 : cX3_algebraNow.data.toList.drop 69 = dktX3_algebraNow_3 := dk_seg dksX3_algebraNow_2 22 rfl rfl
theorem dksX3_algebraNow_4 : cX3_algebraNow.data.toList.drop 93 = dktX3_algebraNow_4 := dk_seg dksX3_algebraNow_3 24 rfl rfl
theorem dksX3_algebraNow_5 : cX3_algebraNow.data.toList.drop 117 = dktX3_algebraNow_5 := dk_seg dksX3_algebraNow_4 24 rfl rfl
theorem dksX3_algebraNow_6 : cX3_algebraNow.data.toList.drop 141 = dktX3_algebraNow_6 := dk_seg dksX3_algebraNow_5 24 rfl rfl
theorem dX3_algebraNow_0 : decode cX3_algebraNow 0 = .ok (.aload_n 0, 1) := dk_42 (dk_at dksX3_algebraNow_0 0 rfl rfl)
theorem dX3_algebraNow_1 : decode cX3_algebraNow 1 = .ok (.getfield 16, 3) := dk_180 0 16 (dk_at dksX3_algebraNow_0 1 rfl rfl)
theorem dX3_algebraNow_4 : decode cX3_algebraNow 4 = .ok (.iload_n 1, 1) := dk_27 (dk_at dksX3_algebraNow_0 4 rfl rfl)
theorem dX3_algebraNow_5 : decode cX3_algebraNow 5 = .ok (.invokeinterface 40 2, 5) := by decide +kernel
theorem dX3_algebraNow_10 : decode cX3_algebraNow 10 = .ok (.checkcast 53, 3) := dk_192 0 53 (dk_at dksX3_algebraNow_0 10 rfl rfl)
theorem dX3_algebraNow_13 : decode cX3_algebraNow 13 = .ok (.astore_n 3, 1) := dk_78 (dk_at dksX3_algebraNow_0 13 rfl rfl)
theorem dX3_algebraNow_14 : decode cX3_algebraNow 14 = .ok (.iconst 0, 1) := dk_3 (dk_at dksX3_algebraNow_0 14 rfl rfl)
theorem dX3_algebraNow_15 : decode cX3_algebraNow 15 = .ok (.istore 4, 2) := dk_54 4 (dk_at dksX3_algebraNow_0 15 rfl rfl)
theorem dX3_algebraNow_17 : decode cX3_algebraNow 17 = .ok (.iconst 0, 1) := dk_3 (dk_at dksX3_algebraNow_0 17 rfl rfl)
theorem dX3_algebraNow_18 : decode cX3_algebraNow 18 = .ok (.istore 5, 2) := dk_54 5 (dk_at dksX3_algebraNow_0 18 rfl rfl)
theorem dX3_algebraNow_20 : decode cX3_algebraNow 20 = .ok (.iload 5, 2) := dk_21 5 (dk_at dksX3_algebraNow_0 20 rfl rfl)
theorem dX3_algebraNow_22 : decode cX3_algebraNow 22 = .ok (.aload_n 3, 1) := dk_45 (dk_at dksX3_algebraNow_0 22 rfl rfl)
theorem dX3_algebraNow_23 : decode cX3_algebraNow 23 = .ok (.invokevirtual 82, 3) := dk_182 0 82 (dk_at dksX3_algebraNow_1 0 rfl rfl)
theorem dX3_algebraNow_26 : decode cX3_algebraNow 26 = .ok (.if_icmp .ge 63, 3) := dk_162 0 63 (dk_at dksX3_algebraNow_1 3 rfl rfl)
theorem dX3_algebraNow_29 : decode cX3_algebraNow 29 = .ok (.iconst 1, 1) := dk_4 (dk_at dksX3_algebraNow_1 6 rfl rfl)
theorem dX3_algebraNow_30 : decode cX3_algebraNow 30 = .ok (.istore 6, 2) := dk_54 6 (dk_at dksX3_algebraNow_1 7 rfl rfl)
theorem dX3_algebraNow_32 : decode cX3_algebraNow 32 = .ok (.iconst 0, 1) := dk_3 (dk_at dksX3_algebraNow_1 9 rfl rfl)
theorem dX3_algebraNow_33 : decode cX3_algebraNow 33 = .ok (.istore 7, 2) := dk_54 7 (dk_at dksX3_algebraNow_1 10 rfl rfl)
theorem dX3_algebraNow_35 : decode cX3_algebraNow 35 = .ok (.iload 7, 2) := dk_21 7 (dk_at dksX3_algebraNow_1 12 rfl rfl)
theorem dX3_algebraNow_37 : decode cX3_algebraNow 37 = .ok (.aload_n 3, 1) := dk_45 (dk_at dksX3_algebraNow_1 14 rfl rfl)
theorem dX3_algebraNow_38 : decode cX3_algebraNow 38 = .ok (.invokevirtual 82, 3) := dk_182 0 82 (dk_at dksX3_algebraNow_1 15 rfl rfl)
theorem dX3_algebraNow_41 : decode cX3_algebraNow 41 = .ok (.if_icmp .ge 24, 3) := dk_162 0 24 (dk_at dksX3_algebraNow_1 18 rfl rfl)
theorem dX3_algebraNow_44 : decode cX3_algebraNow 44 = .ok (.iload 6, 2) := dk_21 6 (dk_at dksX3_algebraNow_1 21 rfl rfl)
theorem dX3_algebraNow_46 : decode cX3_algebraNow 46 = .ok (.aload_n 3, 1) := dk_45 (dk_at dksX3_algebraNow_1 23 rfl rfl)
theorem dX3_algebraNow_47 : decode cX3_algebraNow 47 = .ok (.iconst 0, 1) := dk_3 (dk_at dksX3_algebraNow_2 0 rfl rfl)
theorem dX3_algebraNow_48 : decode cX3_algebraNow 48 = .ok (.iload 5, 2) := dk_21 5 (dk_at dksX3_algebraNow_2 1 rfl rfl)
theorem dX3_algebraNow_50 : decode cX3_algebraNow 50 = .ok (.iload 7, 2) := dk_21 7 (dk_at dksX3_algebraNow_2 3 rfl rfl)
theorem dX3_algebraNow_52 : decode cX3_algebraNow 52 = .ok (.iconst 0, 1) := dk_3 (dk_at dksX3_algebraNow_2 5 rfl rfl)
theorem dX3_algebraNow_53 : decode cX3_algebraNow 53 = .ok (.invokevirtual 217, 3) := dk_182 0 217 (dk_at dksX3_algebraNow_2 6 rfl rfl)
theorem dX3_algebraNow_56 : decode cX3_algebraNow 56 = .ok (.iand, 1) := dk_126 (dk_at dksX3_algebraNow_2 9 rfl rfl)
theorem dX3_algebraNow_57 : decode cX3_algebraNow 57 = .ok (.istore 6, 2) := dk_54 6 (dk_at dksX3_algebraNow_2 10 rfl rfl)
theorem dX3_algebraNow_59 : decode cX3_algebraNow 59 = .ok (.iinc 7 1, 3) := dk_132 7 1 (dk_at dksX3_algebraNow_2 12 rfl rfl)
theorem dX3_algebraNow_62 : decode cX3_algebraNow 62 = .ok (.goto (-27), 3) := dk_167 255 229 (dk_at dksX3_algebraNow_2 15 rfl rfl)
theorem dX3_algebraNow_65 : decode cX3_algebraNow 65 = .ok (.iload 4, 2) := dk_21 4 (dk_at dksX3_algebraNow_2 18 rfl rfl)
theorem dX3_algebraNow_67 : decode cX3_algebraNow 67 = .ok (.iload 6, 2) := dk_21 6 (dk_at dksX3_algebraNow_2 20 rfl rfl)
theorem dX3_algebraNow_69 : decode cX3_algebraNow 69 = .ok (.ifCond .eq 10, 3) := dk_153 0 10 (dk_at dksX3_algebraNow_3 0 rfl rfl)
theorem dX3_algebraNow_72 : decode cX3_algebraNow 72 = .ok (.iconst 1, 1) := dk_4 (dk_at dksX3_algebraNow_3 3 rfl rfl)
theorem dX3_algebraNow_73 : decode cX3_algebraNow 73 = .ok (.iload 5, 2) := dk_21 5 (dk_at dksX3_algebraNow_3 4 rfl rfl)
theorem dX3_algebraNow_75 : decode cX3_algebraNow 75 = .ok (.ishl, 1) := dk_120 (dk_at dksX3_algebraNow_3 6 rfl rfl)
theorem dX3_algebraNow_76 : decode cX3_algebraNow 76 = .ok (.goto 4, 3) := dk_167 0 4 (dk_at dksX3_algebraNow_3 7 rfl rfl)
theorem dX3_algebraNow_79 : decode cX3_algebraNow 79 = .ok (.iconst 0, 1) := dk_3 (dk_at dksX3_algebraNow_3 10 rfl rfl)
theorem dX3_algebraNow_80 : decode cX3_algebraNow 80 = .ok (.ior, 1) := dk_128 (dk_at dksX3_algebraNow_3 11 rfl rfl)
theorem dX3_algebraNow_81 : decode cX3_algebraNow 81 = .ok (.istore 4, 2) := dk_54 4 (dk_at dksX3_algebraNow_3 12 rfl rfl)
theorem dX3_algebraNow_83 : decode cX3_algebraNow 83 = .ok (.iinc 5 1, 3) := dk_132 5 1 (dk_at dksX3_algebraNow_3 14 rfl rfl)
theorem dX3_algebraNow_86 : decode cX3_algebraNow 86 = .ok (.goto (-66), 3) := dk_167 255 190 (dk_at dksX3_algebraNow_3 17 rfl rfl)
theorem dX3_algebraNow_89 : decode cX3_algebraNow 89 = .ok (.bipush 6, 2) := dk_16 6 (dk_at dksX3_algebraNow_3 20 rfl rfl)
theorem dX3_algebraNow_91 : decode cX3_algebraNow 91 = .ok (.newarray .int, 2) := dk_188_10 (dk_at dksX3_algebraNow_3 22 rfl rfl)
theorem dX3_algebraNow_93 : decode cX3_algebraNow 93 = .ok (.dup, 1) := dk_89 (dk_at dksX3_algebraNow_4 0 rfl rfl)
theorem dX3_algebraNow_94 : decode cX3_algebraNow 94 = .ok (.iconst 0, 1) := dk_3 (dk_at dksX3_algebraNow_4 1 rfl rfl)
theorem dX3_algebraNow_95 : decode cX3_algebraNow 95 = .ok (.aload_n 3, 1) := dk_45 (dk_at dksX3_algebraNow_4 2 rfl rfl)
theorem dX3_algebraNow_96 : decode cX3_algebraNow 96 = .ok (.getfield 154, 3) := dk_180 0 154 (dk_at dksX3_algebraNow_4 3 rfl rfl)
theorem dX3_algebraNow_99 : decode cX3_algebraNow 99 = .ok (.iastore, 1) := dk_79 (dk_at dksX3_algebraNow_4 6 rfl rfl)
theorem dX3_algebraNow_100 : decode cX3_algebraNow 100 = .ok (.dup, 1) := dk_89 (dk_at dksX3_algebraNow_4 7 rfl rfl)
theorem dX3_algebraNow_101 : decode cX3_algebraNow 101 = .ok (.iconst 1, 1) := dk_4 (dk_at dksX3_algebraNow_4 8 rfl rfl)
theorem dX3_algebraNow_102 : decode cX3_algebraNow 102 = .ok (.aload_n 3, 1) := dk_45 (dk_at dksX3_algebraNow_4 9 rfl rfl)
theorem dX3_algebraNow_103 : decode cX3_algebraNow 103 = .ok (.getfield 72, 3) := dk_180 0 72 (dk_at dksX3_algebraNow_4 10 rfl rfl)
theorem dX3_algebraNow_106 : decode cX3_algebraNow 106 = .ok (.iastore, 1) := dk_79 (dk_at dksX3_algebraNow_4 13 rfl rfl)
theorem dX3_algebraNow_107 : decode cX3_algebraNow 107 = .ok (.dup, 1) := dk_89 (dk_at dksX3_algebraNow_4 14 rfl rfl)
theorem dX3_algebraNow_108 : decode cX3_algebraNow 108 = .ok (.iconst 2, 1) := dk_5 (dk_at dksX3_algebraNow_4 15 rfl rfl)
theorem dX3_algebraNow_109 : decode cX3_algebraNow 109 = .ok (.aload_n 3, 1) := dk_45 (dk_at dksX3_algebraNow_4 16 rfl rfl)
theorem dX3_algebraNow_110 : decode cX3_algebraNow 110 = .ok (.invokevirtual 82, 3) := dk_182 0 82 (dk_at dksX3_algebraNow_4 17 rfl rfl)
theorem dX3_algebraNow_113 : decode cX3_algebraNow 113 = .ok (.iastore, 1) := dk_79 (dk_at dksX3_algebraNow_4 20 rfl rfl)
theorem dX3_algebraNow_114 : decode cX3_algebraNow 114 = .ok (.dup, 1) := dk_89 (dk_at dksX3_algebraNow_4 21 rfl rfl)
theorem dX3_algebraNow_115 : decode cX3_algebraNow 115 = .ok (.iconst 3, 1) := dk_6 (dk_at dksX3_algebraNow_4 22 rfl rfl)
theorem dX3_algebraNow_116 : decode cX3_algebraNow 116 = .ok (.aload_n 0, 1) := dk_42 (dk_at dksX3_algebraNow_4 23 rfl rfl)
theorem dX3_algebraNow_117 : decode cX3_algebraNow 117 = .ok (.iload_n 1, 1) := dk_27 (dk_at dksX3_algebraNow_5 0 rfl rfl)
theorem dX3_algebraNow_118 : decode cX3_algebraNow 118 = .ok (.invokevirtual 75, 3) := dk_182 0 75 (dk_at dksX3_algebraNow_5 1 rfl rfl)
theorem dX3_algebraNow_121 : decode cX3_algebraNow 121 = .ok (.iastore, 1) := dk_79 (dk_at dksX3_algebraNow_5 4 rfl rfl)
theorem dX3_algebraNow_122 : decode cX3_algebraNow 122 = .ok (.dup, 1) := dk_89 (dk_at dksX3_algebraNow_5 5 rfl rfl)
theorem dX3_algebraNow_123 : decode cX3_algebraNow 123 = .ok (.iconst 4, 1) := dk_7 (dk_at dksX3_algebraNow_5 6 rfl rfl)
theorem dX3_algebraNow_124 : decode cX3_algebraNow 124 = .ok (.iload 4, 2) := dk_21 4 (dk_at dksX3_algebraNow_5 7 rfl rfl)
theorem dX3_algebraNow_126 : decode cX3_algebraNow 126 = .ok (.iastore, 1) := dk_79 (dk_at dksX3_algebraNow_5 9 rfl rfl)
theorem dX3_algebraNow_127 : decode cX3_algebraNow 127 = .ok (.dup, 1) := dk_89 (dk_at dksX3_algebraNow_5 10 rfl rfl)
theorem dX3_algebraNow_128 : decode cX3_algebraNow 128 = .ok (.iconst 5, 1) := dk_8 (dk_at dksX3_algebraNow_5 11 rfl rfl)
theorem dX3_algebraNow_129 : decode cX3_algebraNow 129 = .ok (.aload_n 3, 1) := dk_45 (dk_at dksX3_algebraNow_5 12 rfl rfl)
theorem dX3_algebraNow_130 : decode cX3_algebraNow 130 = .ok (.getfield 160, 3) := dk_180 0 160 (dk_at dksX3_algebraNow_5 13 rfl rfl)
theorem dX3_algebraNow_133 : decode cX3_algebraNow 133 = .ok (.invokeinterface 30 1, 5) := by decide +kernel
theorem dX3_algebraNow_138 : decode cX3_algebraNow 138 = .ok (.iastore, 1) := dk_79 (dk_at dksX3_algebraNow_5 21 rfl rfl)
theorem dX3_algebraNow_139 : decode cX3_algebraNow 139 = .ok (.astore 5, 2) := dk_58 5 (dk_at dksX3_algebraNow_5 22 rfl rfl)
theorem dX3_algebraNow_141 : decode cX3_algebraNow 141 = .ok (.aload 5, 2) := dk_25 5 (dk_at dksX3_algebraNow_6 0 rfl rfl)
theorem dX3_algebraNow_143 : decode cX3_algebraNow 143 = .ok (.iload_n 2, 1) := dk_28 (dk_at dksX3_algebraNow_6 2 rfl rfl)
theorem dX3_algebraNow_144 : decode cX3_algebraNow 144 = .ok (.iaload, 1) := dk_46 (dk_at dksX3_algebraNow_6 3 rfl rfl)
theorem dX3_algebraNow_145 : decode cX3_algebraNow 145 = .ok (.ireturn, 1) := dk_172 (dk_at dksX3_algebraNow_6 4 rfl rfl)
abbrev cX3_sign : ByteArray := prog_11_method_53_code
def yX3_sign : MethodName := ⟨RX3, "sign", "(III)I"⟩
def dkwX3_sign_4 : List UInt8 := [46, 172]
abbrev dktX3_sign_4 : List UInt8 := dkwX3_sign_4 ++ []
def dkwX3_sign_3 : List UInt8 := [4, 182, 0, 58, 172, 42, 180, 0, 16, 27, 185, 0, 40, 2, 0, 192, 0, 53, 180, 0, 224, 28, 50, 29]
abbrev dktX3_sign_3 : List UInt8 := dkwX3_sign_3 ++ dktX3_sign_4
def dkwX3_sign_2 : List UInt8 := [180, 0, 16, 27, 185, 0, 40, 2, 0, 192, 0, 53, 182, 0, 82, 4, 100, 184, 0, 36, 154, 0, 9, 42]
abbrev dktX3_sign_2 : List UInt8 := dkwX3_sign_2 ++ dktX3_sign_3
def dkwX3_sign_1 : List UInt8 := [185, 0, 40, 2, 0, 192, 0, 53, 182, 0, 82, 4, 100, 184, 0, 36, 153, 0, 29, 29, 3, 42]
abbrev dktX3_sign_1 : List UInt8 := dkwX3_sign_1 ++ dktX3_sign_2
def dkwX3_sign_0 : List UInt8 := [42, 3, 181, 0, 23, 42, 27, 182, 0, 68, 153, 0, 55, 28, 3, 42, 180, 0, 16, 27]
abbrev dktX3_sign_0 : List UInt8 := dkwX3_sign_0 ++ dktX3_sign_1
theorem dksX3_sign_0 : cX3_sign.data.toList.drop 0 = dktX3_sign_0 := by decide +kernel
theorem dksX3_sign_1 : cX3_sign.data.toList.drop 20 = dktX3_sign_1 := dk_seg dksX3_sign_0 20 rfl rfl
theorem dksX3_sign_2 : cX3_sign.data.toList.drop 42 = dktX3_sign_2 := dk_seg dksX3_sign_1 22 rfl rfl
theorem dksX3_sign_3 : cX3_sign.data.toList.drop 66 = dktX3_sign_3 := dk_seg dksX3_sign_2 24 rfl rfl
theorem dksX3_sign_4 : cX3_sign.data.toList.drop 90 = dktX3_sign_4 := dk_seg dksX3_sign_3 24 rfl rfl
theorem dX3_sign_0 : decode cX3_sign 0 = .ok (.aload_n 0, 1) := dk_42 (dk_at dksX3_sign_0 0 rfl rfl)
theorem dX3_sign_1 : decode cX3_sign 1 = .ok (.iconst 0, 1) := dk_3 (dk_at dksX3_sign_0 1 rfl rfl)
theorem dX3_sign_2 : decode cX3_sign 2 = .ok (.putfield 23, 3) := dk_181 0 23 (dk_at dksX3_sign_0 2 rfl rfl)
theorem dX3_sign_5 : decode cX3_sign 5 = .ok (.aload_n 0, 1) := dk_42 (dk_at dksX3_sign_0 5 rfl rfl)
theorem dX3_sign_6 : decode cX3_sign 6 = .ok (.iload_n 1, 1) := dk_27 (dk_at dksX3_sign_0 6 rfl rfl)
theorem dX3_sign_7 : decode cX3_sign 7 = .ok (.invokevirtual 68, 3) := dk_182 0 68 (dk_at dksX3_sign_0 7 rfl rfl)
theorem dX3_sign_10 : decode cX3_sign 10 = .ok (.ifCond .eq 55, 3) := dk_153 0 55 (dk_at dksX3_sign_0 10 rfl rfl)
theorem dX3_sign_13 : decode cX3_sign 13 = .ok (.iload_n 2, 1) := dk_28 (dk_at dksX3_sign_0 13 rfl rfl)
theorem dX3_sign_14 : decode cX3_sign 14 = .ok (.iconst 0, 1) := dk_3 (dk_at dksX3_sign_0 14 rfl rfl)
theorem dX3_sign_15 : decode cX3_sign 15 = .ok (.aload_n 0, 1) := dk_42 (dk_at dksX3_sign_0 15 rfl rfl)
theorem dX3_sign_16 : decode cX3_sign 16 = .ok (.getfield 16, 3) := dk_180 0 16 (dk_at dksX3_sign_0 16 rfl rfl)
theorem dX3_sign_19 : decode cX3_sign 19 = .ok (.iload_n 1, 1) := dk_27 (dk_at dksX3_sign_0 19 rfl rfl)
theorem dX3_sign_20 : decode cX3_sign 20 = .ok (.invokeinterface 40 2, 5) := by decide +kernel
theorem dX3_sign_25 : decode cX3_sign 25 = .ok (.checkcast 53, 3) := dk_192 0 53 (dk_at dksX3_sign_1 5 rfl rfl)
theorem dX3_sign_28 : decode cX3_sign 28 = .ok (.invokevirtual 82, 3) := dk_182 0 82 (dk_at dksX3_sign_1 8 rfl rfl)
theorem dX3_sign_31 : decode cX3_sign 31 = .ok (.iconst 1, 1) := dk_4 (dk_at dksX3_sign_1 11 rfl rfl)
theorem dX3_sign_32 : decode cX3_sign 32 = .ok (.isub, 1) := dk_100 (dk_at dksX3_sign_1 12 rfl rfl)
theorem dX3_sign_33 : decode cX3_sign 33 = .ok (.invokestatic 36, 3) := dk_184 0 36 (dk_at dksX3_sign_1 13 rfl rfl)
theorem dX3_sign_36 : decode cX3_sign 36 = .ok (.ifCond .eq 29, 3) := dk_153 0 29 (dk_at dksX3_sign_1 16 rfl rfl)
theorem dX3_sign_39 : decode cX3_sign 39 = .ok (.iload_n 3, 1) := dk_29 (dk_at dksX3_sign_1 19 rfl rfl)
theorem dX3_sign_40 : decode cX3_sign 40 = .ok (.iconst 0, 1) := dk_3 (dk_at dksX3_sign_1 20 rfl rfl)
theorem dX3_sign_41 : decode cX3_sign 41 = .ok (.aload_n 0, 1) := dk_42 (dk_at dksX3_sign_1 21 rfl rfl)
theorem dX3_sign_42 : decode cX3_sign 42 = .ok (.getfield 16, 3) := dk_180 0 16 (dk_at dksX3_sign_2 0 rfl rfl)
theorem dX3_sign_45 : decode cX3_sign 45 = .ok (.iload_n 1, 1) := dk_27 (dk_at dksX3_sign_2 3 rfl rfl)
theorem dX3_sign_46 : decode cX3_sign 46 = .ok (.invokeinterface 40 2, 5) := by decide +kernel
theorem dX3_sign_51 : decode cX3_sign 51 = .ok (.checkcast 53, 3) := dk_192 0 53 (dk_at dksX3_sign_2 9 rfl rfl)
theorem dX3_sign_54 : decode cX3_sign 54 = .ok (.invokevirtual 82, 3) := dk_182 0 82 (dk_at dksX3_sign_2 12 rfl rfl)
theorem dX3_sign_57 : decode cX3_sign 57 = .ok (.iconst 1, 1) := dk_4 (dk_at dksX3_sign_2 15 rfl rfl)
theorem dX3_sign_58 : decode cX3_sign 58 = .ok (.isub, 1) := dk_100 (dk_at dksX3_sign_2 16 rfl rfl)
theorem dX3_sign_59 : decode cX3_sign 59 = .ok (.invokestatic 36, 3) := dk_184 0 36 (dk_at dksX3_sign_2 17 rfl rfl)
theorem dX3_sign_62 : decode cX3_sign 62 = .ok (.ifCond .ne 9, 3) := dk_154 0 9 (dk_at dksX3_sign_2 20 rfl rfl)
theorem dX3_sign_65 : decode cX3_sign 65 = .ok (.aload_n 0, 1) := dk_42 (dk_at dksX3_sign_2 23 rfl rfl)
theorem dX3_sign_66 : decode cX3_sign 66 = .ok (.iconst 1, 1) := dk_4 (dk_at dksX3_sign_3 0 rfl rfl)
theorem dX3_sign_67 : decode cX3_sign 67 = .ok (.invokevirtual 58, 3) := dk_182 0 58 (dk_at dksX3_sign_3 1 rfl rfl)
theorem dX3_sign_70 : decode cX3_sign 70 = .ok (.ireturn, 1) := dk_172 (dk_at dksX3_sign_3 4 rfl rfl)
theorem dX3_sign_71 : decode cX3_sign 71 = .ok (.aload_n 0, 1) := dk_42 (dk_at dksX3_sign_3 5 rfl rfl)
theorem dX3_sign_72 : decode cX3_sign 72 = .ok (.getfield 16, 3) := dk_180 0 16 (dk_at dksX3_sign_3 6 rfl rfl)
theorem dX3_sign_75 : decode cX3_sign 75 = .ok (.iload_n 1, 1) := dk_27 (dk_at dksX3_sign_3 9 rfl rfl)
theorem dX3_sign_76 : decode cX3_sign 76 = .ok (.invokeinterface 40 2, 5) := by decide +kernel
theorem dX3_sign_81 : decode cX3_sign 81 = .ok (.checkcast 53, 3) := dk_192 0 53 (dk_at dksX3_sign_3 15 rfl rfl)
theorem dX3_sign_84 : decode cX3_sign 84 = .ok (.getfield 224, 3) := dk_180 0 224 (dk_at dksX3_sign_3 18 rfl rfl)
theorem dX3_sign_87 : decode cX3_sign 87 = .ok (.iload_n 2, 1) := dk_28 (dk_at dksX3_sign_3 21 rfl rfl)
theorem dX3_sign_88 : decode cX3_sign 88 = .ok (.aaload, 1) := dk_50 (dk_at dksX3_sign_3 22 rfl rfl)
theorem dX3_sign_89 : decode cX3_sign 89 = .ok (.iload_n 3, 1) := dk_29 (dk_at dksX3_sign_3 23 rfl rfl)
theorem dX3_sign_90 : decode cX3_sign 90 = .ok (.iaload, 1) := dk_46 (dk_at dksX3_sign_4 0 rfl rfl)
theorem dX3_sign_91 : decode cX3_sign 91 = .ok (.ireturn, 1) := dk_172 (dk_at dksX3_sign_4 1 rfl rfl)
abbrev cX3_breaks : ByteArray := prog_11_method_55_code
def yX3_breaks : MethodName := ⟨RX3, "breaks", "(II)I"⟩
def dkwX3_breaks_1 : List UInt8 := [182, 0, 58, 172, 42, 42, 180, 0, 16, 27, 185, 0, 40, 2, 0, 192, 0, 53, 28, 182, 0, 227, 172]
abbrev dktX3_breaks_1 : List UInt8 := dkwX3_breaks_1 ++ []
def dkwX3_breaks_0 : List UInt8 := [42, 3, 181, 0, 23, 42, 27, 182, 0, 68, 153, 0, 12, 28, 3, 6, 184, 0, 36, 154, 0, 9, 42, 4]
abbrev dktX3_breaks_0 : List UInt8 := dkwX3_breaks_0 ++ dktX3_breaks_1
theorem dksX3_breaks_0 : cX3_breaks.data.toList.drop 0 = dktX3_breaks_0 := by decide +kernel
theorem dksX3_breaks_1 : cX3_breaks.data.toList.drop 24 = dktX3_breaks_1 := dk_seg dksX3_breaks_0 24 rfl rfl
theorem dX3_breaks_0 : decode cX3_breaks 0 = .ok (.aload_n 0, 1) := dk_42 (dk_at dksX3_breaks_0 0 rfl rfl)
theorem dX3_breaks_1 : decode cX3_breaks 1 = .ok (.iconst 0, 1) := dk_3 (dk_at dksX3_breaks_0 1 rfl rfl)
theorem dX3_breaks_2 : decode cX3_breaks 2 = .ok (.putfield 23, 3) := dk_181 0 23 (dk_at dksX3_breaks_0 2 rfl rfl)
theorem dX3_breaks_5 : decode cX3_breaks 5 = .ok (.aload_n 0, 1) := dk_42 (dk_at dksX3_breaks_0 5 rfl rfl)
theorem dX3_breaks_6 : decode cX3_breaks 6 = .ok (.iload_n 1, 1) := dk_27 (dk_at dksX3_breaks_0 6 rfl rfl)
theorem dX3_breaks_7 : decode cX3_breaks 7 = .ok (.invokevirtual 68, 3) := dk_182 0 68 (dk_at dksX3_breaks_0 7 rfl rfl)
theorem dX3_breaks_10 : decode cX3_breaks 10 = .ok (.ifCond .eq 12, 3) := dk_153 0 12 (dk_at dksX3_breaks_0 10 rfl rfl)
theorem dX3_breaks_13 : decode cX3_breaks 13 = .ok (.iload_n 2, 1) := dk_28 (dk_at dksX3_breaks_0 13 rfl rfl)
theorem dX3_breaks_14 : decode cX3_breaks 14 = .ok (.iconst 0, 1) := dk_3 (dk_at dksX3_breaks_0 14 rfl rfl)
theorem dX3_breaks_15 : decode cX3_breaks 15 = .ok (.iconst 3, 1) := dk_6 (dk_at dksX3_breaks_0 15 rfl rfl)
theorem dX3_breaks_16 : decode cX3_breaks 16 = .ok (.invokestatic 36, 3) := dk_184 0 36 (dk_at dksX3_breaks_0 16 rfl rfl)
theorem dX3_breaks_19 : decode cX3_breaks 19 = .ok (.ifCond .ne 9, 3) := dk_154 0 9 (dk_at dksX3_breaks_0 19 rfl rfl)
theorem dX3_breaks_22 : decode cX3_breaks 22 = .ok (.aload_n 0, 1) := dk_42 (dk_at dksX3_breaks_0 22 rfl rfl)
theorem dX3_breaks_23 : decode cX3_breaks 23 = .ok (.iconst 1, 1) := dk_4 (dk_at dksX3_breaks_0 23 rfl rfl)
theorem dX3_breaks_24 : decode cX3_breaks 24 = .ok (.invokevirtual 58, 3) := dk_182 0 58 (dk_at dksX3_breaks_1 0 rfl rfl)
theorem dX3_breaks_27 : decode cX3_breaks 27 = .ok (.ireturn, 1) := dk_172 (dk_at dksX3_breaks_1 3 rfl rfl)
theorem dX3_breaks_28 : decode cX3_breaks 28 = .ok (.aload_n 0, 1) := dk_42 (dk_at dksX3_breaks_1 4 rfl rfl)
theorem dX3_breaks_29 : decode cX3_breaks 29 = .ok (.aload_n 0, 1) := dk_42 (dk_at dksX3_breaks_1 5 rfl rfl)
theorem dX3_breaks_30 : decode cX3_breaks 30 = .ok (.getfield 16, 3) := dk_180 0 16 (dk_at dksX3_breaks_1 6 rfl rfl)
theorem dX3_breaks_33 : decode cX3_breaks 33 = .ok (.iload_n 1, 1) := dk_27 (dk_at dksX3_breaks_1 9 rfl rfl)
theorem dX3_breaks_34 : decode cX3_breaks 34 = .ok (.invokeinterface 40 2, 5) := by decide +kernel
theorem dX3_breaks_39 : decode cX3_breaks 39 = .ok (.checkcast 53, 3) := dk_192 0 53 (dk_at dksX3_breaks_1 15 rfl rfl)
theorem dX3_breaks_42 : decode cX3_breaks 42 = .ok (.iload_n 2, 1) := dk_28 (dk_at dksX3_breaks_1 18 rfl rfl)
theorem dX3_breaks_43 : decode cX3_breaks 43 = .ok (.invokevirtual 227, 3) := dk_182 0 227 (dk_at dksX3_breaks_1 19 rfl rfl)
theorem dX3_breaks_46 : decode cX3_breaks 46 = .ok (.ireturn, 1) := dk_172 (dk_at dksX3_breaks_1 22 rfl rfl)
abbrev cX3_breakNow : ByteArray := prog_11_method_54_code
def yX3_breakNow : MethodName := ⟨RX3, "breakNow", "(LVersorhallModel$Algebra;I)I"⟩
def dkwX3_breakNow_3 : List UInt8 := [132, 6, 1, 167, 255, 209, 132, 5, 1, 167, 255, 194, 132, 4, 1, 167, 255, 179, 2, 172]
abbrev dktX3_breakNow_3 : List UInt8 := dkwX3_breakNow_3 ++ []
def dkwX3_breakNow_2 : List UInt8 := [182, 0, 217, 154, 0, 19, 17, 1, 0, 21, 4, 104, 16, 16, 21, 5, 104, 96, 21, 6, 96, 172]
abbrev dktX3_breakNow_2 : List UInt8 := dkwX3_breakNow_2 ++ dktX3_breakNow_3
def dkwX3_breakNow_1 : List UInt8 := [54, 6, 21, 6, 28, 154, 0, 7, 4, 167, 0, 4, 29, 162, 0, 39, 43, 28, 21, 4, 21, 5, 21, 6]
abbrev dktX3_breakNow_1 : List UInt8 := dkwX3_breakNow_1 ++ dktX3_breakNow_2
def dkwX3_breakNow_0 : List UInt8 := [43, 182, 0, 82, 62, 3, 54, 4, 21, 4, 29, 162, 0, 77, 3, 54, 5, 21, 5, 29, 162, 0, 62, 3]
abbrev dktX3_breakNow_0 : List UInt8 := dkwX3_breakNow_0 ++ dktX3_breakNow_1
theorem dksX3_breakNow_0 : cX3_breakNow.data.toList.drop 0 = dktX3_breakNow_0 := by decide +kernel
theorem dksX3_breakNow_1 : cX3_breakNow.data.toList.drop 24 = dktX3_breakNow_1 := dk_seg dksX3_breakNow_0 24 rfl rfl
theorem dksX3_breakNow_2 : cX3_breakNow.data.toList.drop 48 = dktX3_breakNow_2 := dk_seg dksX3_breakNow_1 24 rfl rfl
theorem dksX3_breakNow_3 : cX3_breakNow.data.toList.drop 70 = dktX3_breakNow_3 := dk_seg dksX3_breakNow_2 22 rfl rfl
theorem dX3_breakNow_0 : decode cX3_breakNow 0 = .ok (.aload_n 1, 1) := dk_43 (dk_at dksX3_breakNow_0 0 rfl rfl)
theorem dX3_breakNow_1 : decode cX3_breakNow 1 = .ok (.invokevirtual 82, 3) := dk_182 0 82 (dk_at dksX3_breakNow_0 1 rfl rfl)
theorem dX3_breakNow_4 : decode cX3_breakNow 4 = .ok (.istore_n 3, 1) := dk_62 (dk_at dksX3_breakNow_0 4 rfl rfl)
theorem dX3_breakNow_5 : decode cX3_breakNow 5 = .ok (.iconst 0, 1) := dk_3 (dk_at dksX3_breakNow_0 5 rfl rfl)
theorem dX3_breakNow_6 : decode cX3_breakNow 6 = .ok (.istore 4, 2) := dk_54 4 (dk_at dksX3_breakNow_0 6 rfl rfl)
theorem dX3_breakNow_8 : decode cX3_breakNow 8 = .ok (.iload 4, 2) := dk_21 4 (dk_at dksX3_breakNow_0 8 rfl rfl)
theorem dX3_breakNow_10 : decode cX3_breakNow 10 = .ok (.iload_n 3, 1) := dk_29 (dk_at dksX3_breakNow_0 10 rfl rfl)
theorem dX3_breakNow_11 : decode cX3_breakNow 11 = .ok (.if_icmp .ge 77, 3) := dk_162 0 77 (dk_at dksX3_breakNow_0 11 rfl rfl)
theorem dX3_breakNow_14 : decode cX3_breakNow 14 = .ok (.iconst 0, 1) := dk_3 (dk_at dksX3_breakNow_0 14 rfl rfl)
theorem dX3_breakNow_15 : decode cX3_breakNow 15 = .ok (.istore 5, 2) := dk_54 5 (dk_at dksX3_breakNow_0 15 rfl rfl)
theorem dX3_breakNow_17 : decode cX3_breakNow 17 = .ok (.iload 5, 2) := dk_21 5 (dk_at dksX3_breakNow_0 17 rfl rfl)
theorem dX3_breakNow_19 : decode cX3_breakNow 19 = .ok (.iload_n 3, 1) := dk_29 (dk_at dksX3_breakNow_0 19 rfl rfl)
theorem dX3_breakNow_20 : decode cX3_breakNow 20 = .ok (.if_icmp .ge 62, 3) := dk_162 0 62 (dk_at dksX3_breakNow_0 20 rfl rfl)
theorem dX3_breakNow_23 : decode cX3_breakNow 23 = .ok (.iconst 0, 1) := dk_3 (dk_at dksX3_breakNow_0 23 rfl rfl)
theorem dX3_breakNow_24 : decode cX3_breakNow 24 = .ok (.istore 6, 2) := dk_54 6 (dk_at dksX3_breakNow_1 0 rfl rfl)
theorem dX3_breakNow_26 : decode cX3_breakNow 26 = .ok (.iload 6, 2) := dk_21 6 (dk_at dksX3_breakNow_1 2 rfl rfl)
theorem dX3_breakNow_28 : decode cX3_breakNow 28 = .ok (.iload_n 2, 1) := dk_28 (dk_at dksX3_breakNow_1 4 rfl rfl)
theorem dX3_breakNow_29 : decode cX3_breakNow 29 = .ok (.ifCond .ne 7, 3) := dk_154 0 7 (dk_at dksX3_breakNow_1 5 rfl rfl)
theorem dX3_breakNow_32 : decode cX3_breakNow 32 = .ok (.iconst 1, 1) := dk_4 (dk_at dksX3_breakNow_1 8 rfl rfl)
theorem dX3_breakNow_33 : decode cX3_breakNow 33 = .ok (.goto 4, 3) := dk_167 0 4 (dk_at dksX3_breakNow_1 9 rfl rfl)
theorem dX3_breakNow_36 : decode cX3_breakNow 36 = .ok (.iload_n 3, 1) := dk_29 (dk_at dksX3_breakNow_1 12 rfl rfl)
theorem dX3_breakNow_37 : decode cX3_breakNow 37 = .ok (.if_icmp .ge 39, 3) := dk_162 0 39 (dk_at dksX3_breakNow_1 13 rfl rfl)
theorem dX3_breakNow_40 : decode cX3_breakNow 40 = .ok (.aload_n 1, 1) := dk_43 (dk_at dksX3_breakNow_1 16 rfl rfl)
theorem dX3_breakNow_41 : decode cX3_breakNow 41 = .ok (.iload_n 2, 1) := dk_28 (dk_at dksX3_breakNow_1 17 rfl rfl)
theorem dX3_breakNow_42 : decode cX3_breakNow 42 = .ok (.iload 4, 2) := dk_21 4 (dk_at dksX3_breakNow_1 18 rfl rfl)
theorem dX3_breakNow_44 : decode cX3_breakNow 44 = .ok (.iload 5, 2) := dk_21 5 (dk_at dksX3_breakNow_1 20 rfl rfl)
theorem dX3_breakNow_46 : decode cX3_breakNow 46 = .ok (.iload 6, 2) := dk_21 6 (dk_at dksX3_breakNow_1 22 rfl rfl)
theorem dX3_breakNow_48 : decode cX3_breakNow 48 = .ok (.invokevirtual 217, 3) := dk_182 0 217 (dk_at dksX3_breakNow_2 0 rfl rfl)
theorem dX3_breakNow_51 : decode cX3_breakNow 51 = .ok (.ifCond .ne 19, 3) := dk_154 0 19 (dk_at dksX3_breakNow_2 3 rfl rfl)
theorem dX3_breakNow_54 : decode cX3_breakNow 54 = .ok (.sipush 256, 3) := dk_17 1 0 (dk_at dksX3_breakNow_2 6 rfl rfl)
theorem dX3_breakNow_57 : decode cX3_breakNow 57 = .ok (.iload 4, 2) := dk_21 4 (dk_at dksX3_breakNow_2 9 rfl rfl)
theorem dX3_breakNow_59 : decode cX3_breakNow 59 = .ok (.imul, 1) := dk_104 (dk_at dksX3_breakNow_2 11 rfl rfl)
theorem dX3_breakNow_60 : decode cX3_breakNow 60 = .ok (.bipush 16, 2) := dk_16 16 (dk_at dksX3_breakNow_2 12 rfl rfl)
theorem dX3_breakNow_62 : decode cX3_breakNow 62 = .ok (.iload 5, 2) := dk_21 5 (dk_at dksX3_breakNow_2 14 rfl rfl)
theorem dX3_breakNow_64 : decode cX3_breakNow 64 = .ok (.imul, 1) := dk_104 (dk_at dksX3_breakNow_2 16 rfl rfl)
theorem dX3_breakNow_65 : decode cX3_breakNow 65 = .ok (.iadd, 1) := dk_96 (dk_at dksX3_breakNow_2 17 rfl rfl)
theorem dX3_breakNow_66 : decode cX3_breakNow 66 = .ok (.iload 6, 2) := dk_21 6 (dk_at dksX3_breakNow_2 18 rfl rfl)
theorem dX3_breakNow_68 : decode cX3_breakNow 68 = .ok (.iadd, 1) := dk_96 (dk_at dksX3_breakNow_2 20 rfl rfl)
theorem dX3_breakNow_69 : decode cX3_breakNow 69 = .ok (.ireturn, 1) := dk_172 (dk_at dksX3_breakNow_2 21 rfl rfl)
theorem dX3_breakNow_70 : decode cX3_breakNow 70 = .ok (.iinc 6 1, 3) := dk_132 6 1 (dk_at dksX3_breakNow_3 0 rfl rfl)
theorem dX3_breakNow_73 : decode cX3_breakNow 73 = .ok (.goto (-47), 3) := dk_167 255 209 (dk_at dksX3_breakNow_3 3 rfl rfl)
theorem dX3_breakNow_76 : decode cX3_breakNow 76 = .ok (.iinc 5 1, 3) := dk_132 5 1 (dk_at dksX3_breakNow_3 6 rfl rfl)
theorem dX3_breakNow_79 : decode cX3_breakNow 79 = .ok (.goto (-62), 3) := dk_167 255 194 (dk_at dksX3_breakNow_3 9 rfl rfl)
theorem dX3_breakNow_82 : decode cX3_breakNow 82 = .ok (.iinc 4 1, 3) := dk_132 4 1 (dk_at dksX3_breakNow_3 12 rfl rfl)
theorem dX3_breakNow_85 : decode cX3_breakNow 85 = .ok (.goto (-77), 3) := dk_167 255 179 (dk_at dksX3_breakNow_3 15 rfl rfl)
theorem dX3_breakNow_88 : decode cX3_breakNow 88 = .ok (.iconst (-1), 1) := dk_2 (dk_at dksX3_breakNow_3 18 rfl rfl)
theorem dX3_breakNow_89 : decode cX3_breakNow 89 = .ok (.ireturn, 1) := dk_172 (dk_at dksX3_breakNow_3 19 rfl rfl)
abbrev cX3_meanSize : ByteArray := prog_11_method_56_code
def yX3_meanSize : MethodName := ⟨RX3, "meanSize", "()D"⟩
def dkwX3_meanSize_2 : List UInt8 := [154, 0, 7, 14, 167, 0, 16, 27, 135, 42, 180, 0, 20, 185, 0, 30, 1, 0, 135, 111, 175]
abbrev dktX3_meanSize_2 : List UInt8 := dkwX3_meanSize_2 ++ []
def dkwX3_meanSize_1 : List UInt8 := [28, 182, 0, 91, 184, 0, 55, 96, 60, 132, 2, 1, 167, 255, 229, 42, 180, 0, 20, 185, 0, 30, 1, 0]
abbrev dktX3_meanSize_1 : List UInt8 := dkwX3_meanSize_1 ++ dktX3_meanSize_2
def dkwX3_meanSize_0 : List UInt8 := [42, 3, 181, 0, 23, 3, 60, 3, 61, 28, 42, 180, 0, 20, 185, 0, 30, 1, 0, 162, 0, 20, 27, 42]
abbrev dktX3_meanSize_0 : List UInt8 := dkwX3_meanSize_0 ++ dktX3_meanSize_1
theorem dksX3_meanSize_0 : cX3_meanSize.data.toList.drop 0 = dktX3_meanSize_0 := by decide +kernel
theorem dksX3_meanSize_1 : cX3_meanSize.data.toList.drop 24 = dktX3_meanSize_1 := dk_seg dksX3_meanSize_0 24 rfl rfl
theorem dksX3_meanSize_2 : cX3_meanSize.data.toList.drop 48 = dktX3_meanSize_2 := dk_seg dksX3_meanSize_1 24 rfl rfl
theorem dX3_meanSize_0 : decode cX3_meanSize 0 = .ok (.aload_n 0, 1) := dk_42 (dk_at dksX3_meanSize_0 0 rfl rfl)
theorem dX3_meanSize_1 : decode cX3_meanSize 1 = .ok (.iconst 0, 1) := dk_3 (dk_at dksX3_meanSize_0 1 rfl rfl)
theorem dX3_meanSize_2 : decode cX3_meanSize 2 = .ok (.putfield 23, 3) := dk_181 0 23 (dk_at dksX3_meanSize_0 2 rfl rfl)
theorem dX3_meanSize_5 : decode cX3_meanSize 5 = .ok (.iconst 0, 1) := dk_3 (dk_at dksX3_meanSize_0 5 rfl rfl)
theorem dX3_meanSize_6 : decode cX3_meanSize 6 = .ok (.istore_n 1, 1) := dk_60 (dk_at dksX3_meanSize_0 6 rfl rfl)
theorem dX3_meanSize_7 : decode cX3_meanSize 7 = .ok (.iconst 0, 1) := dk_3 (dk_at dksX3_meanSize_0 7 rfl rfl)
theorem dX3_meanSize_8 : decode cX3_meanSize 8 = .ok (.istore_n 2, 1) := dk_61 (dk_at dksX3_meanSize_0 8 rfl rfl)
theorem dX3_meanSize_9 : decode cX3_meanSize 9 = .ok (.iload_n 2, 1) := dk_28 (dk_at dksX3_meanSize_0 9 rfl rfl)
theorem dX3_meanSize_10 : decode cX3_meanSize 10 = .ok (.aload_n 0, 1) := dk_42 (dk_at dksX3_meanSize_0 10 rfl rfl)
theorem dX3_meanSize_11 : decode cX3_meanSize 11 = .ok (.getfield 20, 3) := dk_180 0 20 (dk_at dksX3_meanSize_0 11 rfl rfl)
theorem dX3_meanSize_14 : decode cX3_meanSize 14 = .ok (.invokeinterface 30 1, 5) := by decide +kernel
theorem dX3_meanSize_19 : decode cX3_meanSize 19 = .ok (.if_icmp .ge 20, 3) := dk_162 0 20 (dk_at dksX3_meanSize_0 19 rfl rfl)
theorem dX3_meanSize_22 : decode cX3_meanSize 22 = .ok (.iload_n 1, 1) := dk_27 (dk_at dksX3_meanSize_0 22 rfl rfl)
theorem dX3_meanSize_23 : decode cX3_meanSize 23 = .ok (.aload_n 0, 1) := dk_42 (dk_at dksX3_meanSize_0 23 rfl rfl)
theorem dX3_meanSize_24 : decode cX3_meanSize 24 = .ok (.iload_n 2, 1) := dk_28 (dk_at dksX3_meanSize_1 0 rfl rfl)
theorem dX3_meanSize_25 : decode cX3_meanSize 25 = .ok (.invokevirtual 91, 3) := dk_182 0 91 (dk_at dksX3_meanSize_1 1 rfl rfl)
theorem dX3_meanSize_28 : decode cX3_meanSize 28 = .ok (.invokestatic 55, 3) := dk_184 0 55 (dk_at dksX3_meanSize_1 4 rfl rfl)
theorem dX3_meanSize_31 : decode cX3_meanSize 31 = .ok (.iadd, 1) := dk_96 (dk_at dksX3_meanSize_1 7 rfl rfl)
theorem dX3_meanSize_32 : decode cX3_meanSize 32 = .ok (.istore_n 1, 1) := dk_60 (dk_at dksX3_meanSize_1 8 rfl rfl)
theorem dX3_meanSize_33 : decode cX3_meanSize 33 = .ok (.iinc 2 1, 3) := dk_132 2 1 (dk_at dksX3_meanSize_1 9 rfl rfl)
theorem dX3_meanSize_36 : decode cX3_meanSize 36 = .ok (.goto (-27), 3) := dk_167 255 229 (dk_at dksX3_meanSize_1 12 rfl rfl)
theorem dX3_meanSize_39 : decode cX3_meanSize 39 = .ok (.aload_n 0, 1) := dk_42 (dk_at dksX3_meanSize_1 15 rfl rfl)
theorem dX3_meanSize_40 : decode cX3_meanSize 40 = .ok (.getfield 20, 3) := dk_180 0 20 (dk_at dksX3_meanSize_1 16 rfl rfl)
theorem dX3_meanSize_43 : decode cX3_meanSize 43 = .ok (.invokeinterface 30 1, 5) := by decide +kernel
theorem dX3_meanSize_48 : decode cX3_meanSize 48 = .ok (.ifCond .ne 7, 3) := dk_154 0 7 (dk_at dksX3_meanSize_2 0 rfl rfl)
theorem dX3_meanSize_51 : decode cX3_meanSize 51 = .ok (.dconst 0, 1) := dk_14 (dk_at dksX3_meanSize_2 3 rfl rfl)
theorem dX3_meanSize_52 : decode cX3_meanSize 52 = .ok (.goto 16, 3) := dk_167 0 16 (dk_at dksX3_meanSize_2 4 rfl rfl)
theorem dX3_meanSize_55 : decode cX3_meanSize 55 = .ok (.iload_n 1, 1) := dk_27 (dk_at dksX3_meanSize_2 7 rfl rfl)
theorem dX3_meanSize_56 : decode cX3_meanSize 56 = .ok (.i2d, 1) := dk_135 (dk_at dksX3_meanSize_2 8 rfl rfl)
theorem dX3_meanSize_57 : decode cX3_meanSize 57 = .ok (.aload_n 0, 1) := dk_42 (dk_at dksX3_meanSize_2 9 rfl rfl)
theorem dX3_meanSize_58 : decode cX3_meanSize 58 = .ok (.getfield 20, 3) := dk_180 0 20 (dk_at dksX3_meanSize_2 10 rfl rfl)
theorem dX3_meanSize_61 : decode cX3_meanSize 61 = .ok (.invokeinterface 30 1, 5) := by decide +kernel
theorem dX3_meanSize_66 : decode cX3_meanSize 66 = .ok (.i2d, 1) := dk_135 (dk_at dksX3_meanSize_2 18 rfl rfl)
theorem dX3_meanSize_67 : decode cX3_meanSize 67 = .ok (.ddiv, 1) := dk_111 (dk_at dksX3_meanSize_2 19 rfl rfl)
theorem dX3_meanSize_68 : decode cX3_meanSize 68 = .ok (.dreturn, 1) := dk_175 (dk_at dksX3_meanSize_2 20 rfl rfl)
abbrev cX3_lean : ByteArray := prog_11_method_59_code
def yX3_lean : MethodName := ⟨RX3, "lean", "(I)D"⟩
def dkwX3_lean_1 : List UInt8 := [182, 0, 231, 135, 20, 0, 234, 111, 175]
abbrev dktX3_lean_1 : List UInt8 := dkwX3_lean_1 ++ []
def dkwX3_lean_0 : List UInt8 := [42, 3, 181, 0, 23, 42, 27, 182, 0, 88, 154, 0, 10, 42, 4, 181, 0, 23, 14, 175, 42, 27]
abbrev dktX3_lean_0 : List UInt8 := dkwX3_lean_0 ++ dktX3_lean_1
theorem dksX3_lean_0 : cX3_lean.data.toList.drop 0 = dktX3_lean_0 := by decide +kernel
theorem dksX3_lean_1 : cX3_lean.data.toList.drop 22 = dktX3_lean_1 := dk_seg dksX3_lean_0 22 rfl rfl
theorem dX3_lean_0 : decode cX3_lean 0 = .ok (.aload_n 0, 1) := dk_42 (dk_at dksX3_lean_0 0 rfl rfl)
theorem dX3_lean_1 : decode cX3_lean 1 = .ok (.iconst 0, 1) := dk_3 (dk_at dksX3_lean_0 1 rfl rfl)
theorem dX3_lean_2 : decode cX3_lean 2 = .ok (.putfield 23, 3) := dk_181 0 23 (dk_at dksX3_lean_0 2 rfl rfl)
theorem dX3_lean_5 : decode cX3_lean 5 = .ok (.aload_n 0, 1) := dk_42 (dk_at dksX3_lean_0 5 rfl rfl)
theorem dX3_lean_6 : decode cX3_lean 6 = .ok (.iload_n 1, 1) := dk_27 (dk_at dksX3_lean_0 6 rfl rfl)
theorem dX3_lean_7 : decode cX3_lean 7 = .ok (.invokevirtual 88, 3) := dk_182 0 88 (dk_at dksX3_lean_0 7 rfl rfl)
theorem dX3_lean_10 : decode cX3_lean 10 = .ok (.ifCond .ne 10, 3) := dk_154 0 10 (dk_at dksX3_lean_0 10 rfl rfl)
theorem dX3_lean_13 : decode cX3_lean 13 = .ok (.aload_n 0, 1) := dk_42 (dk_at dksX3_lean_0 13 rfl rfl)
theorem dX3_lean_14 : decode cX3_lean 14 = .ok (.iconst 1, 1) := dk_4 (dk_at dksX3_lean_0 14 rfl rfl)
theorem dX3_lean_15 : decode cX3_lean 15 = .ok (.putfield 23, 3) := dk_181 0 23 (dk_at dksX3_lean_0 15 rfl rfl)
theorem dX3_lean_18 : decode cX3_lean 18 = .ok (.dconst 0, 1) := dk_14 (dk_at dksX3_lean_0 18 rfl rfl)
theorem dX3_lean_19 : decode cX3_lean 19 = .ok (.dreturn, 1) := dk_175 (dk_at dksX3_lean_0 19 rfl rfl)
theorem dX3_lean_20 : decode cX3_lean 20 = .ok (.aload_n 0, 1) := dk_42 (dk_at dksX3_lean_0 20 rfl rfl)
theorem dX3_lean_21 : decode cX3_lean 21 = .ok (.iload_n 1, 1) := dk_27 (dk_at dksX3_lean_0 21 rfl rfl)
theorem dX3_lean_22 : decode cX3_lean 22 = .ok (.invokevirtual 231, 3) := dk_182 0 231 (dk_at dksX3_lean_1 0 rfl rfl)
theorem dX3_lean_25 : decode cX3_lean 25 = .ok (.i2d, 1) := dk_135 (dk_at dksX3_lean_1 3 rfl rfl)
theorem dX3_lean_26 : decode cX3_lean 26 = .ok (.ldc2_w 234, 3) := dk_20 0 234 (dk_at dksX3_lean_1 4 rfl rfl)
theorem dX3_lean_29 : decode cX3_lean 29 = .ok (.ddiv, 1) := dk_111 (dk_at dksX3_lean_1 7 rfl rfl)
theorem dX3_lean_30 : decode cX3_lean 30 = .ok (.dreturn, 1) := dk_175 (dk_at dksX3_lean_1 8 rfl rfl)
abbrev cX3_quarters : ByteArray := prog_11_method_57_code
def yX3_quarters : MethodName := ⟨RX3, "quarters", "(I)I"⟩
def dkwX3_quarters_3 : List UInt8 := [184, 0, 125, 153, 0, 11, 28, 16, 32, 112, 116, 167, 0, 7, 28, 16, 32, 112, 172]
abbrev dktX3_quarters_3 : List UInt8 := dkwX3_quarters_3 ++ []
def dkwX3_quarters_2 : List UInt8 := [27, 182, 0, 91, 29, 46, 29, 4, 96, 104, 96, 61, 132, 3, 1, 167, 255, 198, 42, 27, 182, 0, 91]
abbrev dktX3_quarters_2 : List UInt8 := dkwX3_quarters_2 ++ dktX3_quarters_3
def dkwX3_quarters_1 : List UInt8 := [180, 0, 7, 5, 108, 164, 0, 18, 42, 27, 182, 0, 91, 29, 46, 42, 180, 0, 7, 100, 167, 0, 10, 42]
abbrev dktX3_quarters_1 : List UInt8 := dkwX3_quarters_1 ++ dktX3_quarters_2
def dkwX3_quarters_0 : List UInt8 := [3, 61, 3, 62, 29, 42, 27, 182, 0, 91, 190, 162, 0, 54, 28, 42, 27, 182, 0, 91, 29, 46, 42]
abbrev dktX3_quarters_0 : List UInt8 := dkwX3_quarters_0 ++ dktX3_quarters_1
theorem dksX3_quarters_0 : cX3_quarters.data.toList.drop 0 = dktX3_quarters_0 := by decide +kernel
theorem dksX3_quarters_1 : cX3_quarters.data.toList.drop 23 = dktX3_quarters_1 := dk_seg dksX3_quarters_0 23 rfl rfl
theorem dksX3_quarters_2 : cX3_quarters.data.toList.drop 47 = dktX3_quarters_2 := dk_seg dksX3_quarters_1 24 rfl rfl
theorem dksX3_quarters_3 : cX3_quarters.data.toList.drop 70 = dktX3_quarters_3 := dk_seg dksX3_quarters_2 23 rfl rfl
theorem dX3_quarters_0 : decode cX3_quarters 0 = .ok (.iconst 0, 1) := dk_3 (dk_at dksX3_quarters_0 0 rfl rfl)
theorem dX3_quarters_1 : decode cX3_quarters 1 = .ok (.istore_n 2, 1) := dk_61 (dk_at dksX3_quarters_0 1 rfl rfl)
theorem dX3_quarters_2 : decode cX3_quarters 2 = .ok (.iconst 0, 1) := dk_3 (dk_at dksX3_quarters_0 2 rfl rfl)
theorem dX3_quarters_3 : decode cX3_quarters 3 = .ok (.istore_n 3, 1) := dk_62 (dk_at dksX3_quarters_0 3 rfl rfl)
theorem dX3_quarters_4 : decode cX3_quarters 4 = .ok (.iload_n 3, 1) := dk_29 (dk_at dksX3_quarters_0 4 rfl rfl)
theorem dX3_quarters_5 : decode cX3_quarters 5 = .ok (.aload_n 0, 1) := dk_42 (dk_at dksX3_quarters_0 5 rfl rfl)
theorem dX3_quarters_6 : decode cX3_quarters 6 = .ok (.iload_n 1, 1) := dk_27 (dk_at dksX3_quarters_0 6 rfl rfl)
theorem dX3_quarters_7 : decode cX3_quarters 7 = .ok (.invokevirtual 91, 3) := dk_182 0 91 (dk_at dksX3_quarters_0 7 rfl rfl)
theorem dX3_quarters_10 : decode cX3_quarters 10 = .ok (.arraylength, 1) := dk_190 (dk_at dksX3_quarters_0 10 rfl rfl)
theorem dX3_quarters_11 : decode cX3_quarters 11 = .ok (.if_icmp .ge 54, 3) := dk_162 0 54 (dk_at dksX3_quarters_0 11 rfl rfl)
theorem dX3_quarters_14 : decode cX3_quarters 14 = .ok (.iload_n 2, 1) := dk_28 (dk_at dksX3_quarters_0 14 rfl rfl)
theorem dX3_quarters_15 : decode cX3_quarters 15 = .ok (.aload_n 0, 1) := dk_42 (dk_at dksX3_quarters_0 15 rfl rfl)
theorem dX3_quarters_16 : decode cX3_quarters 16 = .ok (.iload_n 1, 1) := dk_27 (dk_at dksX3_quarters_0 16 rfl rfl)
theorem dX3_quarters_17 : decode cX3_quarters 17 = .ok (.invokevirtual 91, 3) := dk_182 0 91 (dk_at dksX3_quarters_0 17 rfl rfl)
theorem dX3_quarters_20 : decode cX3_quarters 20 = .ok (.iload_n 3, 1) := dk_29 (dk_at dksX3_quarters_0 20 rfl rfl)
theorem dX3_quarters_21 : decode cX3_quarters 21 = .ok (.iaload, 1) := dk_46 (dk_at dksX3_quarters_0 21 rfl rfl)
theorem dX3_quarters_22 : decode cX3_quarters 22 = .ok (.aload_n 0, 1) := dk_42 (dk_at dksX3_quarters_0 22 rfl rfl)
theorem dX3_quarters_23 : decode cX3_quarters 23 = .ok (.getfield 7, 3) := dk_180 0 7 (dk_at dksX3_quarters_1 0 rfl rfl)
theorem dX3_quarters_26 : decode cX3_quarters 26 = .ok (.iconst 2, 1) := dk_5 (dk_at dksX3_quarters_1 3 rfl rfl)
theorem dX3_quarters_27 : decode cX3_quarters 27 = .ok (.idiv, 1) := dk_108 (dk_at dksX3_quarters_1 4 rfl rfl)
theorem dX3_quarters_28 : decode cX3_quarters 28 = .ok (.if_icmp .le 18, 3) := dk_164 0 18 (dk_at dksX3_quarters_1 5 rfl rfl)
theorem dX3_quarters_31 : decode cX3_quarters 31 = .ok (.aload_n 0, 1) := dk_42 (dk_at dksX3_quarters_1 8 rfl rfl)
theorem dX3_quarters_32 : decode cX3_quarters 32 = .ok (.iload_n 1, 1) := dk_27 (dk_at dksX3_quarters_1 9 rfl rfl)
theorem dX3_quarters_33 : decode cX3_quarters 33 = .ok (.invokevirtual 91, 3) := dk_182 0 91 (dk_at dksX3_quarters_1 10 rfl rfl)
theorem dX3_quarters_36 : decode cX3_quarters 36 = .ok (.iload_n 3, 1) := dk_29 (dk_at dksX3_quarters_1 13 rfl rfl)
theorem dX3_quarters_37 : decode cX3_quarters 37 = .ok (.iaload, 1) := dk_46 (dk_at dksX3_quarters_1 14 rfl rfl)
theorem dX3_quarters_38 : decode cX3_quarters 38 = .ok (.aload_n 0, 1) := dk_42 (dk_at dksX3_quarters_1 15 rfl rfl)
theorem dX3_quarters_39 : decode cX3_quarters 39 = .ok (.getfield 7, 3) := dk_180 0 7 (dk_at dksX3_quarters_1 16 rfl rfl)
theorem dX3_quarters_42 : decode cX3_quarters 42 = .ok (.isub, 1) := dk_100 (dk_at dksX3_quarters_1 19 rfl rfl)
theorem dX3_quarters_43 : decode cX3_quarters 43 = .ok (.goto 10, 3) := dk_167 0 10 (dk_at dksX3_quarters_1 20 rfl rfl)
theorem dX3_quarters_46 : decode cX3_quarters 46 = .ok (.aload_n 0, 1) := dk_42 (dk_at dksX3_quarters_1 23 rfl rfl)
theorem dX3_quarters_47 : decode cX3_quarters 47 = .ok (.iload_n 1, 1) := dk_27 (dk_at dksX3_quarters_2 0 rfl rfl)
theorem dX3_quarters_48 : decode cX3_quarters 48 = .ok (.invokevirtual 91, 3) := dk_182 0 91 (dk_at dksX3_quarters_2 1 rfl rfl)
theorem dX3_quarters_51 : decode cX3_quarters 51 = .ok (.iload_n 3, 1) := dk_29 (dk_at dksX3_quarters_2 4 rfl rfl)
theorem dX3_quarters_52 : decode cX3_quarters 52 = .ok (.iaload, 1) := dk_46 (dk_at dksX3_quarters_2 5 rfl rfl)
theorem dX3_quarters_53 : decode cX3_quarters 53 = .ok (.iload_n 3, 1) := dk_29 (dk_at dksX3_quarters_2 6 rfl rfl)
theorem dX3_quarters_54 : decode cX3_quarters 54 = .ok (.iconst 1, 1) := dk_4 (dk_at dksX3_quarters_2 7 rfl rfl)
theorem dX3_quarters_55 : decode cX3_quarters 55 = .ok (.iadd, 1) := dk_96 (dk_at dksX3_quarters_2 8 rfl rfl)
theorem dX3_quarters_56 : decode cX3_quarters 56 = .ok (.imul, 1) := dk_104 (dk_at dksX3_quarters_2 9 rfl rfl)
theorem dX3_quarters_57 : decode cX3_quarters 57 = .ok (.iadd, 1) := dk_96 (dk_at dksX3_quarters_2 10 rfl rfl)
theorem dX3_quarters_58 : decode cX3_quarters 58 = .ok (.istore_n 2, 1) := dk_61 (dk_at dksX3_quarters_2 11 rfl rfl)
theorem dX3_quarters_59 : decode cX3_quarters 59 = .ok (.iinc 3 1, 3) := dk_132 3 1 (dk_at dksX3_quarters_2 12 rfl rfl)
theorem dX3_quarters_62 : decode cX3_quarters 62 = .ok (.goto (-58), 3) := dk_167 255 198 (dk_at dksX3_quarters_2 15 rfl rfl)
theorem dX3_quarters_65 : decode cX3_quarters 65 = .ok (.aload_n 0, 1) := dk_42 (dk_at dksX3_quarters_2 18 rfl rfl)
theorem dX3_quarters_66 : decode cX3_quarters 66 = .ok (.iload_n 1, 1) := dk_27 (dk_at dksX3_quarters_2 19 rfl rfl)
theorem dX3_quarters_67 : decode cX3_quarters 67 = .ok (.invokevirtual 91, 3) := dk_182 0 91 (dk_at dksX3_quarters_2 20 rfl rfl)
theorem dX3_quarters_70 : decode cX3_quarters 70 = .ok (.invokestatic 125, 3) := dk_184 0 125 (dk_at dksX3_quarters_3 0 rfl rfl)
theorem dX3_quarters_73 : decode cX3_quarters 73 = .ok (.ifCond .eq 11, 3) := dk_153 0 11 (dk_at dksX3_quarters_3 3 rfl rfl)
theorem dX3_quarters_76 : decode cX3_quarters 76 = .ok (.iload_n 2, 1) := dk_28 (dk_at dksX3_quarters_3 6 rfl rfl)
theorem dX3_quarters_77 : decode cX3_quarters 77 = .ok (.bipush 32, 2) := dk_16 32 (dk_at dksX3_quarters_3 7 rfl rfl)
theorem dX3_quarters_79 : decode cX3_quarters 79 = .ok (.irem, 1) := dk_112 (dk_at dksX3_quarters_3 9 rfl rfl)
theorem dX3_quarters_80 : decode cX3_quarters 80 = .ok (.ineg, 1) := dk_116 (dk_at dksX3_quarters_3 10 rfl rfl)
theorem dX3_quarters_81 : decode cX3_quarters 81 = .ok (.goto 7, 3) := dk_167 0 7 (dk_at dksX3_quarters_3 11 rfl rfl)
theorem dX3_quarters_84 : decode cX3_quarters 84 = .ok (.iload_n 2, 1) := dk_28 (dk_at dksX3_quarters_3 14 rfl rfl)
theorem dX3_quarters_85 : decode cX3_quarters 85 = .ok (.bipush 32, 2) := dk_16 32 (dk_at dksX3_quarters_3 15 rfl rfl)
theorem dX3_quarters_87 : decode cX3_quarters 87 = .ok (.irem, 1) := dk_112 (dk_at dksX3_quarters_3 17 rfl rfl)
theorem dX3_quarters_88 : decode cX3_quarters 88 = .ok (.ireturn, 1) := dk_172 (dk_at dksX3_quarters_3 18 rfl rfl)
abbrev cX3_poise : ByteArray := prog_11_method_60_code
def yX3_poise : MethodName := ⟨RX3, "poise", "()D"⟩
def dkwX3_poise_3 : List UInt8 := [160, 0, 6, 132, 4, 1, 28, 156, 0, 11, 3, 21, 4, 100, 135, 167, 0, 6, 21, 4, 135, 175]
abbrev dktX3_poise_3 : List UInt8 := dkwX3_poise_3 ++ []
def dkwX3_poise_2 : List UInt8 := [27, 112, 104, 54, 5, 21, 5, 27, 163, 0, 17, 21, 5, 27, 160, 0, 14, 21, 4, 5, 112, 4]
abbrev dktX3_poise_2 : List UInt8 := dkwX3_poise_2 ++ dktX3_poise_3
def dkwX3_poise_1 : List UInt8 := [185, 0, 30, 1, 0, 104, 60, 42, 182, 0, 236, 61, 28, 184, 0, 239, 62, 29, 27, 108, 54, 4, 5, 29]
abbrev dktX3_poise_1 : List UInt8 := dkwX3_poise_1 ++ dktX3_poise_2
def dkwX3_poise_0 : List UInt8 := [42, 3, 181, 0, 23, 42, 180, 0, 20, 185, 0, 30, 1, 0, 154, 0, 5, 14, 175, 7, 42, 180, 0, 20]
abbrev dktX3_poise_0 : List UInt8 := dkwX3_poise_0 ++ dktX3_poise_1
theorem dksX3_poise_0 : cX3_poise.data.toList.drop 0 = dktX3_poise_0 := by decide +kernel
theorem dksX3_poise_1 : cX3_poise.data.toList.drop 24 = dktX3_poise_1 := dk_seg dksX3_poise_0 24 rfl rfl
theorem dksX3_poise_2 : cX3_poise.data.toList.drop 48 = dktX3_poise_2 := dk_seg dksX3_poise_1 24 rfl rfl
theorem dksX3_poise_3 : cX3_poise.data.toList.drop 70 = dktX3_poise_3 := dk_seg dksX3_poise_2 22 rfl rfl
theorem dX3_poise_0 : decode cX3_poise 0 = .ok (.aload_n 0, 1) := dk_42 (dk_at dksX3_poise_0 0 rfl rfl)
theorem dX3_poise_1 : decode cX3_poise 1 = .ok (.iconst 0, 1) := dk_3 (dk_at dksX3_poise_0 1 rfl rfl)
theorem dX3_poise_2 : decode cX3_poise 2 = .ok (.putfield 23, 3) := dk_181 0 23 (dk_at dksX3_poise_0 2 rfl rfl)
theorem dX3_poise_5 : decode cX3_poise 5 = .ok (.aload_n 0, 1) := dk_42 (dk_at dksX3_poise_0 5 rfl rfl)
theorem dX3_poise_6 : decode cX3_poise 6 = .ok (.getfield 20, 3) := dk_180 0 20 (dk_at dksX3_poise_0 6 rfl rfl)
theorem dX3_poise_9 : decode cX3_poise 9 = .ok (.invokeinterface 30 1, 5) := by decide +kernel
theorem dX3_poise_14 : decode cX3_poise 14 = .ok (.ifCond .ne 5, 3) := dk_154 0 5 (dk_at dksX3_poise_0 14 rfl rfl)
theorem dX3_poise_17 : decode cX3_poise 17 = .ok (.dconst 0, 1) := dk_14 (dk_at dksX3_poise_0 17 rfl rfl)
theorem dX3_poise_18 : decode cX3_poise 18 = .ok (.dreturn, 1) := dk_175 (dk_at dksX3_poise_0 18 rfl rfl)
theorem dX3_poise_19 : decode cX3_poise 19 = .ok (.iconst 4, 1) := dk_7 (dk_at dksX3_poise_0 19 rfl rfl)
theorem dX3_poise_20 : decode cX3_poise 20 = .ok (.aload_n 0, 1) := dk_42 (dk_at dksX3_poise_0 20 rfl rfl)
theorem dX3_poise_21 : decode cX3_poise 21 = .ok (.getfield 20, 3) := dk_180 0 20 (dk_at dksX3_poise_0 21 rfl rfl)
theorem dX3_poise_24 : decode cX3_poise 24 = .ok (.invokeinterface 30 1, 5) := by decide +kernel
theorem dX3_poise_29 : decode cX3_poise 29 = .ok (.imul, 1) := dk_104 (dk_at dksX3_poise_1 5 rfl rfl)
theorem dX3_poise_30 : decode cX3_poise 30 = .ok (.istore_n 1, 1) := dk_60 (dk_at dksX3_poise_1 6 rfl rfl)
theorem dX3_poise_31 : decode cX3_poise 31 = .ok (.aload_n 0, 1) := dk_42 (dk_at dksX3_poise_1 7 rfl rfl)
theorem dX3_poise_32 : decode cX3_poise 32 = .ok (.invokevirtual 236, 3) := dk_182 0 236 (dk_at dksX3_poise_1 8 rfl rfl)
theorem dX3_poise_35 : decode cX3_poise 35 = .ok (.istore_n 2, 1) := dk_61 (dk_at dksX3_poise_1 11 rfl rfl)
theorem dX3_poise_36 : decode cX3_poise 36 = .ok (.iload_n 2, 1) := dk_28 (dk_at dksX3_poise_1 12 rfl rfl)
theorem dX3_poise_37 : decode cX3_poise 37 = .ok (.invokestatic 239, 3) := dk_184 0 239 (dk_at dksX3_poise_1 13 rfl rfl)
theorem dX3_poise_40 : decode cX3_poise 40 = .ok (.istore_n 3, 1) := dk_62 (dk_at dksX3_poise_1 16 rfl rfl)
theorem dX3_poise_41 : decode cX3_poise 41 = .ok (.iload_n 3, 1) := dk_29 (dk_at dksX3_poise_1 17 rfl rfl)
theorem dX3_poise_42 : decode cX3_poise 42 = .ok (.iload_n 1, 1) := dk_27 (dk_at dksX3_poise_1 18 rfl rfl)
theorem dX3_poise_43 : decode cX3_poise 43 = .ok (.idiv, 1) := dk_108 (dk_at dksX3_poise_1 19 rfl rfl)
theorem dX3_poise_44 : decode cX3_poise 44 = .ok (.istore 4, 2) := dk_54 4 (dk_at dksX3_poise_1 20 rfl rfl)
theorem dX3_poise_46 : decode cX3_poise 46 = .ok (.iconst 2, 1) := dk_5 (dk_at dksX3_poise_1 22 rfl rfl)
theorem dX3_poise_47 : decode cX3_poise 47 = .ok (.iload_n 3, 1) := dk_29 (dk_at dksX3_poise_1 23 rfl rfl)
theorem dX3_poise_48 : decode cX3_poise 48 = .ok (.iload_n 1, 1) := dk_27 (dk_at dksX3_poise_2 0 rfl rfl)
theorem dX3_poise_49 : decode cX3_poise 49 = .ok (.irem, 1) := dk_112 (dk_at dksX3_poise_2 1 rfl rfl)
theorem dX3_poise_50 : decode cX3_poise 50 = .ok (.imul, 1) := dk_104 (dk_at dksX3_poise_2 2 rfl rfl)
theorem dX3_poise_51 : decode cX3_poise 51 = .ok (.istore 5, 2) := dk_54 5 (dk_at dksX3_poise_2 3 rfl rfl)
theorem dX3_poise_53 : decode cX3_poise 53 = .ok (.iload 5, 2) := dk_21 5 (dk_at dksX3_poise_2 5 rfl rfl)
theorem dX3_poise_55 : decode cX3_poise 55 = .ok (.iload_n 1, 1) := dk_27 (dk_at dksX3_poise_2 7 rfl rfl)
theorem dX3_poise_56 : decode cX3_poise 56 = .ok (.if_icmp .gt 17, 3) := dk_163 0 17 (dk_at dksX3_poise_2 8 rfl rfl)
theorem dX3_poise_59 : decode cX3_poise 59 = .ok (.iload 5, 2) := dk_21 5 (dk_at dksX3_poise_2 11 rfl rfl)
theorem dX3_poise_61 : decode cX3_poise 61 = .ok (.iload_n 1, 1) := dk_27 (dk_at dksX3_poise_2 13 rfl rfl)
theorem dX3_poise_62 : decode cX3_poise 62 = .ok (.if_icmp .ne 14, 3) := dk_160 0 14 (dk_at dksX3_poise_2 14 rfl rfl)
theorem dX3_poise_65 : decode cX3_poise 65 = .ok (.iload 4, 2) := dk_21 4 (dk_at dksX3_poise_2 17 rfl rfl)
theorem dX3_poise_67 : decode cX3_poise 67 = .ok (.iconst 2, 1) := dk_5 (dk_at dksX3_poise_2 19 rfl rfl)
theorem dX3_poise_68 : decode cX3_poise 68 = .ok (.irem, 1) := dk_112 (dk_at dksX3_poise_2 20 rfl rfl)
theorem dX3_poise_69 : decode cX3_poise 69 = .ok (.iconst 1, 1) := dk_4 (dk_at dksX3_poise_2 21 rfl rfl)
theorem dX3_poise_70 : decode cX3_poise 70 = .ok (.if_icmp .ne 6, 3) := dk_160 0 6 (dk_at dksX3_poise_3 0 rfl rfl)
theorem dX3_poise_73 : decode cX3_poise 73 = .ok (.iinc 4 1, 3) := dk_132 4 1 (dk_at dksX3_poise_3 3 rfl rfl)
theorem dX3_poise_76 : decode cX3_poise 76 = .ok (.iload_n 2, 1) := dk_28 (dk_at dksX3_poise_3 6 rfl rfl)
theorem dX3_poise_77 : decode cX3_poise 77 = .ok (.ifCond .ge 11, 3) := dk_156 0 11 (dk_at dksX3_poise_3 7 rfl rfl)
theorem dX3_poise_80 : decode cX3_poise 80 = .ok (.iconst 0, 1) := dk_3 (dk_at dksX3_poise_3 10 rfl rfl)
theorem dX3_poise_81 : decode cX3_poise 81 = .ok (.iload 4, 2) := dk_21 4 (dk_at dksX3_poise_3 11 rfl rfl)
theorem dX3_poise_83 : decode cX3_poise 83 = .ok (.isub, 1) := dk_100 (dk_at dksX3_poise_3 13 rfl rfl)
theorem dX3_poise_84 : decode cX3_poise 84 = .ok (.i2d, 1) := dk_135 (dk_at dksX3_poise_3 14 rfl rfl)
theorem dX3_poise_85 : decode cX3_poise 85 = .ok (.goto 6, 3) := dk_167 0 6 (dk_at dksX3_poise_3 15 rfl rfl)
theorem dX3_poise_88 : decode cX3_poise 88 = .ok (.iload 4, 2) := dk_21 4 (dk_at dksX3_poise_3 18 rfl rfl)
theorem dX3_poise_90 : decode cX3_poise 90 = .ok (.i2d, 1) := dk_135 (dk_at dksX3_poise_3 20 rfl rfl)
theorem dX3_poise_91 : decode cX3_poise 91 = .ok (.dreturn, 1) := dk_175 (dk_at dksX3_poise_3 21 rfl rfl)
abbrev cX3_allQuarters : ByteArray := prog_11_method_58_code
def yX3_allQuarters : MethodName := ⟨RX3, "allQuarters", "()I"⟩
def dkwX3_allQuarters_1 : List UInt8 := [60, 132, 2, 1, 167, 255, 232, 27, 172]
abbrev dktX3_allQuarters_1 : List UInt8 := dkwX3_allQuarters_1 ++ []
def dkwX3_allQuarters_0 : List UInt8 := [3, 60, 3, 61, 28, 42, 180, 0, 20, 185, 0, 30, 1, 0, 162, 0, 17, 27, 42, 28, 182, 0, 231, 96]
abbrev dktX3_allQuarters_0 : List UInt8 := dkwX3_allQuarters_0 ++ dktX3_allQuarters_1
theorem dksX3_allQuarters_0 : cX3_allQuarters.data.toList.drop 0 = dktX3_allQuarters_0 := by decide +kernel
theorem dksX3_allQuarters_1 : cX3_allQuarters.data.toList.drop 24 = dktX3_allQuarters_1 := dk_seg dksX3_allQuarters_0 24 rfl rfl
theorem dX3_allQuarters_0 : decode cX3_allQuarters 0 = .ok (.iconst 0, 1) := dk_3 (dk_at dksX3_allQuarters_0 0 rfl rfl)
theorem dX3_allQuarters_1 : decode cX3_allQuarters 1 = .ok (.istore_n 1, 1) := dk_60 (dk_at dksX3_allQuarters_0 1 rfl rfl)
theorem dX3_allQuarters_2 : decode cX3_allQuarters 2 = .ok (.iconst 0, 1) := dk_3 (dk_at dksX3_allQuarters_0 2 rfl rfl)
theorem dX3_allQuarters_3 : decode cX3_allQuarters 3 = .ok (.istore_n 2, 1) := dk_61 (dk_at dksX3_allQuarters_0 3 rfl rfl)
theorem dX3_allQuarters_4 : decode cX3_allQuarters 4 = .ok (.iload_n 2, 1) := dk_28 (dk_at dksX3_allQuarters_0 4 rfl rfl)
theorem dX3_allQuarters_5 : decode cX3_allQuarters 5 = .ok (.aload_n 0, 1) := dk_42 (dk_at dksX3_allQuarters_0 5 rfl rfl)
theorem dX3_allQuarters_6 : decode cX3_allQuarters 6 = .ok (.getfield 20, 3) := dk_180 0 20 (dk_at dksX3_allQuarters_0 6 rfl rfl)
theorem dX3_allQuarters_9 : decode cX3_allQuarters 9 = .ok (.invokeinterface 30 1, 5) := by decide +kernel
theorem dX3_allQuarters_14 : decode cX3_allQuarters 14 = .ok (.if_icmp .ge 17, 3) := dk_162 0 17 (dk_at dksX3_allQuarters_0 14 rfl rfl)
theorem dX3_allQuarters_17 : decode cX3_allQuarters 17 = .ok (.iload_n 1, 1) := dk_27 (dk_at dksX3_allQuarters_0 17 rfl rfl)
theorem dX3_allQuarters_18 : decode cX3_allQuarters 18 = .ok (.aload_n 0, 1) := dk_42 (dk_at dksX3_allQuarters_0 18 rfl rfl)
theorem dX3_allQuarters_19 : decode cX3_allQuarters 19 = .ok (.iload_n 2, 1) := dk_28 (dk_at dksX3_allQuarters_0 19 rfl rfl)
theorem dX3_allQuarters_20 : decode cX3_allQuarters 20 = .ok (.invokevirtual 231, 3) := dk_182 0 231 (dk_at dksX3_allQuarters_0 20 rfl rfl)
theorem dX3_allQuarters_23 : decode cX3_allQuarters 23 = .ok (.iadd, 1) := dk_96 (dk_at dksX3_allQuarters_0 23 rfl rfl)
theorem dX3_allQuarters_24 : decode cX3_allQuarters 24 = .ok (.istore_n 1, 1) := dk_60 (dk_at dksX3_allQuarters_1 0 rfl rfl)
theorem dX3_allQuarters_25 : decode cX3_allQuarters 25 = .ok (.iinc 2 1, 3) := dk_132 2 1 (dk_at dksX3_allQuarters_1 1 rfl rfl)
theorem dX3_allQuarters_28 : decode cX3_allQuarters 28 = .ok (.goto (-24), 3) := dk_167 255 232 (dk_at dksX3_allQuarters_1 4 rfl rfl)
theorem dX3_allQuarters_31 : decode cX3_allQuarters 31 = .ok (.iload_n 1, 1) := dk_27 (dk_at dksX3_allQuarters_1 7 rfl rfl)
theorem dX3_allQuarters_32 : decode cX3_allQuarters 32 = .ok (.ireturn, 1) := dk_172 (dk_at dksX3_allQuarters_1 8 rfl rfl)
abbrev cX3_many : ByteArray := prog_11_method_62_code
def yX3_many : MethodName := ⟨RX3, "many", "(I)I"⟩
def dkwX3_many_1 : List UInt8 := [182, 0, 244, 172]
abbrev dktX3_many_1 : List UInt8 := dkwX3_many_1 ++ []
def dkwX3_many_0 : List UInt8 := [42, 3, 181, 0, 23, 27, 3, 16, 7, 184, 0, 36, 154, 0, 9, 42, 4, 182, 0, 58, 172, 42, 27]
abbrev dktX3_many_0 : List UInt8 := dkwX3_many_0 ++ dktX3_many_1
theorem dksX3_many_0 : cX3_many.data.toList.drop 0 = dktX3_many_0 := by decide +kernel
theorem dksX3_many_1 : cX3_many.data.toList.drop 23 = dktX3_many_1 := dk_seg dksX3_many_0 23 rfl rfl
theorem dX3_many_0 : decode cX3_many 0 = .ok (.aload_n 0, 1) := dk_42 (dk_at dksX3_many_0 0 rfl rfl)
theorem dX3_many_1 : decode cX3_many 1 = .ok (.iconst 0, 1) := dk_3 (dk_at dksX3_many_0 1 rfl rfl)
theorem dX3_many_2 : decode cX3_many 2 = .ok (.putfield 23, 3) := dk_181 0 23 (dk_at dksX3_many_0 2 rfl rfl)
theorem dX3_many_5 : decode cX3_many 5 = .ok (.iload_n 1, 1) := dk_27 (dk_at dksX3_many_0 5 rfl rfl)
theorem dX3_many_6 : decode cX3_many 6 = .ok (.iconst 0, 1) := dk_3 (dk_at dksX3_many_0 6 rfl rfl)
theorem dX3_many_7 : decode cX3_many 7 = .ok (.bipush 7, 2) := dk_16 7 (dk_at dksX3_many_0 7 rfl rfl)
theorem dX3_many_9 : decode cX3_many 9 = .ok (.invokestatic 36, 3) := dk_184 0 36 (dk_at dksX3_many_0 9 rfl rfl)
theorem dX3_many_12 : decode cX3_many 12 = .ok (.ifCond .ne 9, 3) := dk_154 0 9 (dk_at dksX3_many_0 12 rfl rfl)
theorem dX3_many_15 : decode cX3_many 15 = .ok (.aload_n 0, 1) := dk_42 (dk_at dksX3_many_0 15 rfl rfl)
theorem dX3_many_16 : decode cX3_many 16 = .ok (.iconst 1, 1) := dk_4 (dk_at dksX3_many_0 16 rfl rfl)
theorem dX3_many_17 : decode cX3_many 17 = .ok (.invokevirtual 58, 3) := dk_182 0 58 (dk_at dksX3_many_0 17 rfl rfl)
theorem dX3_many_20 : decode cX3_many 20 = .ok (.ireturn, 1) := dk_172 (dk_at dksX3_many_0 20 rfl rfl)
theorem dX3_many_21 : decode cX3_many 21 = .ok (.aload_n 0, 1) := dk_42 (dk_at dksX3_many_0 21 rfl rfl)
theorem dX3_many_22 : decode cX3_many 22 = .ok (.iload_n 1, 1) := dk_27 (dk_at dksX3_many_0 22 rfl rfl)
theorem dX3_many_23 : decode cX3_many 23 = .ok (.invokevirtual 244, 3) := dk_182 0 244 (dk_at dksX3_many_1 0 rfl rfl)
theorem dX3_many_26 : decode cX3_many 26 = .ok (.ireturn, 1) := dk_172 (dk_at dksX3_many_1 3 rfl rfl)
abbrev cX3_manyNow : ByteArray := prog_11_method_61_code
def yX3_manyNow : MethodName := ⟨RX3, "manyNow", "(I)I"⟩
def dkwX3_manyNow_7 : List UInt8 := [180, 0, 169, 79, 89, 16, 7, 42, 182, 0, 236, 7, 108, 79, 58, 5, 25, 5, 27, 46, 172]
abbrev dktX3_manyNow_7 : List UInt8 := dkwX3_manyNow_7 ++ []
def dkwX3_manyNow_6 : List UInt8 := [185, 0, 30, 1, 0, 79, 89, 6, 28, 79, 89, 7, 29, 79, 89, 8, 21, 4, 79, 89, 16, 6, 42]
abbrev dktX3_manyNow_6 : List UInt8 := dkwX3_manyNow_6 ++ dktX3_manyNow_7
def dkwX3_manyNow_5 : List UInt8 := [180, 0, 7, 79, 89, 4, 42, 180, 0, 16, 185, 0, 30, 1, 0, 79, 89, 5, 42, 180, 0, 20]
abbrev dktX3_manyNow_5 : List UInt8 := dkwX3_manyNow_5 ++ dktX3_manyNow_6
def dkwX3_manyNow_4 : List UInt8 := [154, 0, 7, 4, 167, 0, 4, 3, 96, 54, 4, 132, 5, 1, 167, 255, 200, 16, 8, 188, 10, 89, 3, 42]
abbrev dktX3_manyNow_4 : List UInt8 := dkwX3_manyNow_4 ++ dktX3_manyNow_5
def dkwX3_manyNow_3 : List UInt8 := [182, 0, 91, 184, 0, 125, 153, 0, 7, 4, 167, 0, 4, 3, 96, 62, 21, 4, 42, 21, 5, 182, 0, 178]
abbrev dktX3_manyNow_3 : List UInt8 := dkwX3_manyNow_3 ++ dktX3_manyNow_4
def dkwX3_manyNow_2 : List UInt8 := [167, 255, 219, 3, 54, 5, 21, 5, 42, 180, 0, 20, 185, 0, 30, 1, 0, 162, 0, 48, 29, 42, 21, 5]
abbrev dktX3_manyNow_2 : List UInt8 := dkwX3_manyNow_2 ++ dktX3_manyNow_3
def dkwX3_manyNow_1 : List UInt8 := [28, 42, 180, 0, 16, 21, 5, 185, 0, 40, 2, 0, 192, 0, 53, 182, 0, 82, 96, 61, 132, 5, 1]
abbrev dktX3_manyNow_1 : List UInt8 := dkwX3_manyNow_1 ++ dktX3_manyNow_2
def dkwX3_manyNow_0 : List UInt8 := [3, 61, 3, 62, 3, 54, 4, 3, 54, 5, 21, 5, 42, 180, 0, 16, 185, 0, 30, 1, 0, 162, 0, 29]
abbrev dktX3_manyNow_0 : List UInt8 := dkwX3_manyNow_0 ++ dktX3_manyNow_1
theorem dksX3_manyNow_0 : cX3_manyNow.data.toList.drop 0 = dktX3_manyNow_0 := by decide +kernel
theorem dksX3_manyNow_1 : cX3_manyNow.data.toList.drop 24 = dktX3_manyNow_1 := dk_seg dksX3_manyNow_0 24 rfl rfl
theorem dksX3_manyNow_2 : cX3_manyNow.data.toList.drop 47 = dktX3_manyNow_2 := dk_seg dksX3_manyNow_1 23 rfl rfl
theorem dksX3_manyNow_3 : cX3_manyNow.data.toList.drop 71 = dktX3_manyNow_3 := dk_seg dksX3_manyNow_2 24 rfl rfl
theorem dksX3_manyNow_4 : cX3_manyNow.data.toList.drop 95 = dktX3_manyNow_4 := dk_seg dksX3_manyNow_3 24 rfl rfl
theorem dksX3_manyNow_5 : cX3_manyNow.data.toList.drop 119 = dktX3_manyNow_5 := dk_seg dksX3_manyNow_4 24 rfl rfl
theorem dksX3_manyNow_6 : cX3_manyNow.data.toList.drop 141 = dktX3_manyNow_6 := dk_seg dksX3_manyNow_5 22 rfl rfl
theorem dksX3_manyNow_7 : cX3_manyNow.data.toList.drop 164 = dktX3_manyNow_7 := dk_seg dksX3_manyNow_6 23 rfl rfl
theorem dX3_manyNow_0 : decode cX3_manyNow 0 = .ok (.iconst 0, 1) := dk_3 (dk_at dksX3_manyNow_0 0 rfl rfl)
theorem dX3_manyNow_1 : decode cX3_manyNow 1 = .ok (.istore_n 2, 1) := dk_61 (dk_at dksX3_manyNow_0 1 rfl rfl)
theorem dX3_manyNow_2 : decode cX3_manyNow 2 = .ok (.iconst 0, 1) := dk_3 (dk_at dksX3_manyNow_0 2 rfl rfl)
theorem dX3_manyNow_3 : decode cX3_manyNow 3 = .ok (.istore_n 3, 1) := dk_62 (dk_at dksX3_manyNow_0 3 rfl rfl)
theorem dX3_manyNow_4 : decode cX3_manyNow 4 = .ok (.iconst 0, 1) := dk_3 (dk_at dksX3_manyNow_0 4 rfl rfl)
theorem dX3_manyNow_5 : decode cX3_manyNow 5 = .ok (.istore 4, 2) := dk_54 4 (dk_at dksX3_manyNow_0 5 rfl rfl)
theorem dX3_manyNow_7 : decode cX3_manyNow 7 = .ok (.iconst 0, 1) := dk_3 (dk_at dksX3_manyNow_0 7 rfl rfl)
theorem dX3_manyNow_8 : decode cX3_manyNow 8 = .ok (.istore 5, 2) := dk_54 5 (dk_at dksX3_manyNow_0 8 rfl rfl)
theorem dX3_manyNow_10 : decode cX3_manyNow 10 = .ok (.iload 5, 2) := dk_21 5 (dk_at dksX3_manyNow_0 10 rfl rfl)
theorem dX3_manyNow_12 : decode cX3_manyNow 12 = .ok (.aload_n 0, 1) := dk_42 (dk_at dksX3_manyNow_0 12 rfl rfl)
theorem dX3_manyNow_13 : decode cX3_manyNow 13 = .ok (.getfield 16, 3) := dk_180 0 16 (dk_at dksX3_manyNow_0 13 rfl rfl)
theorem dX3_manyNow_16 : decode cX3_manyNow 16 = .ok (.invokeinterface 30 1, 5) := by decide +kernel
theorem dX3_manyNow_21 : decode cX3_manyNow 21 = .ok (.if_icmp .ge 29, 3) := dk_162 0 29 (dk_at dksX3_manyNow_0 21 rfl rfl)
theorem dX3_manyNow_24 : decode cX3_manyNow 24 = .ok (.iload_n 2, 1) := dk_28 (dk_at dksX3_manyNow_1 0 rfl rfl)
theorem dX3_manyNow_25 : decode cX3_manyNow 25 = .ok (.aload_n 0, 1) := dk_42 (dk_at dksX3_manyNow_1 1 rfl rfl)
theorem dX3_manyNow_26 : decode cX3_manyNow 26 = .ok (.getfield 16, 3) := dk_180 0 16 (dk_at dksX3_manyNow_1 2 rfl rfl)
theorem dX3_manyNow_29 : decode cX3_manyNow 29 = .ok (.iload 5, 2) := dk_21 5 (dk_at dksX3_manyNow_1 5 rfl rfl)
theorem dX3_manyNow_31 : decode cX3_manyNow 31 = .ok (.invokeinterface 40 2, 5) := by decide +kernel
theorem dX3_manyNow_36 : decode cX3_manyNow 36 = .ok (.checkcast 53, 3) := dk_192 0 53 (dk_at dksX3_manyNow_1 12 rfl rfl)
theorem dX3_manyNow_39 : decode cX3_manyNow 39 = .ok (.invokevirtual 82, 3) := dk_182 0 82 (dk_at dksX3_manyNow_1 15 rfl rfl)
theorem dX3_manyNow_42 : decode cX3_manyNow 42 = .ok (.iadd, 1) := dk_96 (dk_at dksX3_manyNow_1 18 rfl rfl)
theorem dX3_manyNow_43 : decode cX3_manyNow 43 = .ok (.istore_n 2, 1) := dk_61 (dk_at dksX3_manyNow_1 19 rfl rfl)
theorem dX3_manyNow_44 : decode cX3_manyNow 44 = .ok (.iinc 5 1, 3) := dk_132 5 1 (dk_at dksX3_manyNow_1 20 rfl rfl)
theorem dX3_manyNow_47 : decode cX3_manyNow 47 = .ok (.goto (-37), 3) := dk_167 255 219 (dk_at dksX3_manyNow_2 0 rfl rfl)
theorem dX3_manyNow_50 : decode cX3_manyNow 50 = .ok (.iconst 0, 1) := dk_3 (dk_at dksX3_manyNow_2 3 rfl rfl)
theorem dX3_manyNow_51 : decode cX3_manyNow 51 = .ok (.istore 5, 2) := dk_54 5 (dk_at dksX3_manyNow_2 4 rfl rfl)
theorem dX3_manyNow_53 : decode cX3_manyNow 53 = .ok (.iload 5, 2) := dk_21 5 (dk_at dksX3_manyNow_2 6 rfl rfl)
theorem dX3_manyNow_55 : decode cX3_manyNow 55 = .ok (.aload_n 0, 1) := dk_42 (dk_at dksX3_manyNow_2 8 rfl rfl)
theorem dX3_manyNow_56 : decode cX3_manyNow 56 = .ok (.getfield 20, 3) := dk_180 0 20 (dk_at dksX3_manyNow_2 9 rfl rfl)
theorem dX3_manyNow_59 : decode cX3_manyNow 59 = .ok (.invokeinterface 30 1, 5) := by decide +kernel
theorem dX3_manyNow_64 : decode cX3_manyNow 64 = .ok (.if_icmp .ge 48, 3) := dk_162 0 48 (dk_at dksX3_manyNow_2 17 rfl rfl)
theorem dX3_manyNow_67 : decode cX3_manyNow 67 = .ok (.iload_n 3, 1) := dk_29 (dk_at dksX3_manyNow_2 20 rfl rfl)
theorem dX3_manyNow_68 : decode cX3_manyNow 68 = .ok (.aload_n 0, 1) := dk_42 (dk_at dksX3_manyNow_2 21 rfl rfl)
theorem dX3_manyNow_69 : decode cX3_manyNow 69 = .ok (.iload 5, 2) := dk_21 5 (dk_at dksX3_manyNow_2 22 rfl rfl)
theorem dX3_manyNow_71 : decode cX3_manyNow 71 = .ok (.invokevirtual 91, 3) := dk_182 0 91 (dk_at dksX3_manyNow_3 0 rfl rfl)
theorem dX3_manyNow_74 : decode cX3_manyNow 74 = .ok (.invokestatic 125, 3) := dk_184 0 125 (dk_at dksX3_manyNow_3 3 rfl rfl)
theorem dX3_manyNow_77 : decode cX3_manyNow 77 = .ok (.ifCond .eq 7, 3) := dk_153 0 7 (dk_at dksX3_manyNow_3 6 rfl rfl)
theorem dX3_manyNow_80 : decode cX3_manyNow 80 = .ok (.iconst 1, 1) := dk_4 (dk_at dksX3_manyNow_3 9 rfl rfl)
theorem dX3_manyNow_81 : decode cX3_manyNow 81 = .ok (.goto 4, 3) := dk_167 0 4 (dk_at dksX3_manyNow_3 10 rfl rfl)
theorem dX3_manyNow_84 : decode cX3_manyNow 84 = .ok (.iconst 0, 1) := dk_3 (dk_at dksX3_manyNow_3 13 rfl rfl)
theorem dX3_manyNow_85 : decode cX3_manyNow 85 = .ok (.iadd, 1) := dk_96 (dk_at dksX3_manyNow_3 14 rfl rfl)
theorem dX3_manyNow_86 : decode cX3_manyNow 86 = .ok (.istore_n 3, 1) := dk_62 (dk_at dksX3_manyNow_3 15 rfl rfl)
theorem dX3_manyNow_87 : decode cX3_manyNow 87 = .ok (.iload 4, 2) := dk_21 4 (dk_at dksX3_manyNow_3 16 rfl rfl)
theorem dX3_manyNow_89 : decode cX3_manyNow 89 = .ok (.aload_n 0, 1) := dk_42 (dk_at dksX3_manyNow_3 18 rfl rfl)
theorem dX3_manyNow_90 : decode cX3_manyNow 90 = .ok (.iload 5, 2) := dk_21 5 (dk_at dksX3_manyNow_3 19 rfl rfl)
theorem dX3_manyNow_92 : decode cX3_manyNow 92 = .ok (.invokevirtual 178, 3) := dk_182 0 178 (dk_at dksX3_manyNow_3 21 rfl rfl)
theorem dX3_manyNow_95 : decode cX3_manyNow 95 = .ok (.ifCond .ne 7, 3) := dk_154 0 7 (dk_at dksX3_manyNow_4 0 rfl rfl)
theorem dX3_manyNow_98 : decode cX3_manyNow 98 = .ok (.iconst 1, 1) := dk_4 (dk_at dksX3_manyNow_4 3 rfl rfl)
theorem dX3_manyNow_99 : decode cX3_manyNow 99 = .ok (.goto 4, 3) := dk_167 0 4 (dk_at dksX3_manyNow_4 4 rfl rfl)
theorem dX3_manyNow_102 : decode cX3_manyNow 102 = .ok (.iconst 0, 1) := dk_3 (dk_at dksX3_manyNow_4 7 rfl rfl)
theorem dX3_manyNow_103 : decode cX3_manyNow 103 = .ok (.iadd, 1) := dk_96 (dk_at dksX3_manyNow_4 8 rfl rfl)
theorem dX3_manyNow_104 : decode cX3_manyNow 104 = .ok (.istore 4, 2) := dk_54 4 (dk_at dksX3_manyNow_4 9 rfl rfl)
theorem dX3_manyNow_106 : decode cX3_manyNow 106 = .ok (.iinc 5 1, 3) := dk_132 5 1 (dk_at dksX3_manyNow_4 11 rfl rfl)
theorem dX3_manyNow_109 : decode cX3_manyNow 109 = .ok (.goto (-56), 3) := dk_167 255 200 (dk_at dksX3_manyNow_4 14 rfl rfl)
theorem dX3_manyNow_112 : decode cX3_manyNow 112 = .ok (.bipush 8, 2) := dk_16 8 (dk_at dksX3_manyNow_4 17 rfl rfl)
theorem dX3_manyNow_114 : decode cX3_manyNow 114 = .ok (.newarray .int, 2) := dk_188_10 (dk_at dksX3_manyNow_4 19 rfl rfl)
theorem dX3_manyNow_116 : decode cX3_manyNow 116 = .ok (.dup, 1) := dk_89 (dk_at dksX3_manyNow_4 21 rfl rfl)
theorem dX3_manyNow_117 : decode cX3_manyNow 117 = .ok (.iconst 0, 1) := dk_3 (dk_at dksX3_manyNow_4 22 rfl rfl)
theorem dX3_manyNow_118 : decode cX3_manyNow 118 = .ok (.aload_n 0, 1) := dk_42 (dk_at dksX3_manyNow_4 23 rfl rfl)
theorem dX3_manyNow_119 : decode cX3_manyNow 119 = .ok (.getfield 7, 3) := dk_180 0 7 (dk_at dksX3_manyNow_5 0 rfl rfl)
theorem dX3_manyNow_122 : decode cX3_manyNow 122 = .ok (.iastore, 1) := dk_79 (dk_at dksX3_manyNow_5 3 rfl rfl)
theorem dX3_manyNow_123 : decode cX3_manyNow 123 = .ok (.dup, 1) := dk_89 (dk_at dksX3_manyNow_5 4 rfl rfl)
theorem dX3_manyNow_124 : decode cX3_manyNow 124 = .ok (.iconst 1, 1) := dk_4 (dk_at dksX3_manyNow_5 5 rfl rfl)
theorem dX3_manyNow_125 : decode cX3_manyNow 125 = .ok (.aload_n 0, 1) := dk_42 (dk_at dksX3_manyNow_5 6 rfl rfl)
theorem dX3_manyNow_126 : decode cX3_manyNow 126 = .ok (.getfield 16, 3) := dk_180 0 16 (dk_at dksX3_manyNow_5 7 rfl rfl)
theorem dX3_manyNow_129 : decode cX3_manyNow 129 = .ok (.invokeinterface 30 1, 5) := by decide +kernel
theorem dX3_manyNow_134 : decode cX3_manyNow 134 = .ok (.iastore, 1) := dk_79 (dk_at dksX3_manyNow_5 15 rfl rfl)
theorem dX3_manyNow_135 : decode cX3_manyNow 135 = .ok (.dup, 1) := dk_89 (dk_at dksX3_manyNow_5 16 rfl rfl)
theorem dX3_manyNow_136 : decode cX3_manyNow 136 = .ok (.iconst 2, 1) := dk_5 (dk_at dksX3_manyNow_5 17 rfl rfl)
theorem dX3_manyNow_137 : decode cX3_manyNow 137 = .ok (.aload_n 0, 1) := dk_42 (dk_at dksX3_manyNow_5 18 rfl rfl)
theorem dX3_manyNow_138 : decode cX3_manyNow 138 = .ok (.getfield 20, 3) := dk_180 0 20 (dk_at dksX3_manyNow_5 19 rfl rfl)
theorem dX3_manyNow_141 : decode cX3_manyNow 141 = .ok (.invokeinterface 30 1, 5) := by decide +kernel
theorem dX3_manyNow_146 : decode cX3_manyNow 146 = .ok (.iastore, 1) := dk_79 (dk_at dksX3_manyNow_6 5 rfl rfl)
theorem dX3_manyNow_147 : decode cX3_manyNow 147 = .ok (.dup, 1) := dk_89 (dk_at dksX3_manyNow_6 6 rfl rfl)
theorem dX3_manyNow_148 : decode cX3_manyNow 148 = .ok (.iconst 3, 1) := dk_6 (dk_at dksX3_manyNow_6 7 rfl rfl)
theorem dX3_manyNow_149 : decode cX3_manyNow 149 = .ok (.iload_n 2, 1) := dk_28 (dk_at dksX3_manyNow_6 8 rfl rfl)
theorem dX3_manyNow_150 : decode cX3_manyNow 150 = .ok (.iastore, 1) := dk_79 (dk_at dksX3_manyNow_6 9 rfl rfl)
theorem dX3_manyNow_151 : decode cX3_manyNow 151 = .ok (.dup, 1) := dk_89 (dk_at dksX3_manyNow_6 10 rfl rfl)
theorem dX3_manyNow_152 : decode cX3_manyNow 152 = .ok (.iconst 4, 1) := dk_7 (dk_at dksX3_manyNow_6 11 rfl rfl)
theorem dX3_manyNow_153 : decode cX3_manyNow 153 = .ok (.iload_n 3, 1) := dk_29 (dk_at dksX3_manyNow_6 12 rfl rfl)
theorem dX3_manyNow_154 : decode cX3_manyNow 154 = .ok (.iastore, 1) := dk_79 (dk_at dksX3_manyNow_6 13 rfl rfl)
theorem dX3_manyNow_155 : decode cX3_manyNow 155 = .ok (.dup, 1) := dk_89 (dk_at dksX3_manyNow_6 14 rfl rfl)
theorem dX3_manyNow_156 : decode cX3_manyNow 156 = .ok (.iconst 5, 1) := dk_8 (dk_at dksX3_manyNow_6 15 rfl rfl)
theorem dX3_manyNow_157 : decode cX3_manyNow 157 = .ok (.iload 4, 2) := dk_21 4 (dk_at dksX3_manyNow_6 16 rfl rfl)
theorem dX3_manyNow_159 : decode cX3_manyNow 159 = .ok (.iastore, 1) := dk_79 (dk_at dksX3_manyNow_6 18 rfl rfl)
theorem dX3_manyNow_160 : decode cX3_manyNow 160 = .ok (.dup, 1) := dk_89 (dk_at dksX3_manyNow_6 19 rfl rfl)
theorem dX3_manyNow_161 : decode cX3_manyNow 161 = .ok (.bipush 6, 2) := dk_16 6 (dk_at dksX3_manyNow_6 20 rfl rfl)
theorem dX3_manyNow_163 : decode cX3_manyNow 163 = .ok (.aload_n 0, 1) := dk_42 (dk_at dksX3_manyNow_6 22 rfl rfl)
theorem dX3_manyNow_164 : decode cX3_manyNow 164 = .ok (.getfield 169, 3) := dk_180 0 169 (dk_at dksX3_manyNow_7 0 rfl rfl)
theorem dX3_manyNow_167 : decode cX3_manyNow 167 = .ok (.iastore, 1) := dk_79 (dk_at dksX3_manyNow_7 3 rfl rfl)
theorem dX3_manyNow_168 : decode cX3_manyNow 168 = .ok (.dup, 1) := dk_89 (dk_at dksX3_manyNow_7 4 rfl rfl)
theorem dX3_manyNow_169 : decode cX3_manyNow 169 = .ok (.bipush 7, 2) := dk_16 7 (dk_at dksX3_manyNow_7 5 rfl rfl)
theorem dX3_manyNow_171 : decode cX3_manyNow 171 = .ok (.aload_n 0, 1) := dk_42 (dk_at dksX3_manyNow_7 7 rfl rfl)
theorem dX3_manyNow_172 : decode cX3_manyNow 172 = .ok (.invokevirtual 236, 3) := dk_182 0 236 (dk_at dksX3_manyNow_7 8 rfl rfl)
theorem dX3_manyNow_175 : decode cX3_manyNow 175 = .ok (.iconst 4, 1) := dk_7 (dk_at dksX3_manyNow_7 11 rfl rfl)
theorem dX3_manyNow_176 : decode cX3_manyNow 176 = .ok (.idiv, 1) := dk_108 (dk_at dksX3_manyNow_7 12 rfl rfl)
theorem dX3_manyNow_177 : decode cX3_manyNow 177 = .ok (.iastore, 1) := dk_79 (dk_at dksX3_manyNow_7 13 rfl rfl)
theorem dX3_manyNow_178 : decode cX3_manyNow 178 = .ok (.astore 5, 2) := dk_58 5 (dk_at dksX3_manyNow_7 14 rfl rfl)
theorem dX3_manyNow_180 : decode cX3_manyNow 180 = .ok (.aload 5, 2) := dk_25 5 (dk_at dksX3_manyNow_7 16 rfl rfl)
theorem dX3_manyNow_182 : decode cX3_manyNow 182 = .ok (.iload_n 1, 1) := dk_27 (dk_at dksX3_manyNow_7 18 rfl rfl)
theorem dX3_manyNow_183 : decode cX3_manyNow 183 = .ok (.iaload, 1) := dk_46 (dk_at dksX3_manyNow_7 19 rfl rfl)
theorem dX3_manyNow_184 : decode cX3_manyNow 184 = .ok (.ireturn, 1) := dk_172 (dk_at dksX3_manyNow_7 20 rfl rfl)
abbrev cX3_apart : ByteArray := prog_11_method_63_code
def yX3_apart : MethodName := ⟨RX3, "apart", "(II)I"⟩
def dkwX3_apart_3 : List UInt8 := [182, 0, 91, 42, 27, 182, 0, 91, 182, 0, 110, 2, 182, 0, 98, 184, 0, 55, 172]
abbrev dktX3_apart_3 : List UInt8 := dkwX3_apart_3 ++ []
def dkwX3_apart_2 : List UInt8 := [182, 0, 106, 42, 27, 182, 0, 91, 42, 28, 182, 0, 91, 182, 0, 110, 42, 27, 182, 0, 106, 42, 28]
abbrev dktX3_apart_2 : List UInt8 := dkwX3_apart_2 ++ dktX3_apart_3
def dkwX3_apart_1 : List UInt8 := [182, 0, 58, 172, 42, 27, 28, 182, 0, 94, 154, 0, 9, 42, 5, 182, 0, 58, 172, 42, 42, 27]
abbrev dktX3_apart_1 : List UInt8 := dkwX3_apart_1 ++ dktX3_apart_2
def dkwX3_apart_0 : List UInt8 := [42, 3, 181, 0, 23, 42, 27, 182, 0, 88, 153, 0, 11, 42, 28, 182, 0, 88, 154, 0, 9, 42, 4]
abbrev dktX3_apart_0 : List UInt8 := dkwX3_apart_0 ++ dktX3_apart_1
theorem dksX3_apart_0 : cX3_apart.data.toList.drop 0 = dktX3_apart_0 := by decide +kernel
theorem dksX3_apart_1 : cX3_apart.data.toList.drop 23 = dktX3_apart_1 := dk_seg dksX3_apart_0 23 rfl rfl
theorem dksX3_apart_2 : cX3_apart.data.toList.drop 45 = dktX3_apart_2 := dk_seg dksX3_apart_1 22 rfl rfl
theorem dksX3_apart_3 : cX3_apart.data.toList.drop 68 = dktX3_apart_3 := dk_seg dksX3_apart_2 23 rfl rfl
theorem dX3_apart_0 : decode cX3_apart 0 = .ok (.aload_n 0, 1) := dk_42 (dk_at dksX3_apart_0 0 rfl rfl)
theorem dX3_apart_1 : decode cX3_apart 1 = .ok (.iconst 0, 1) := dk_3 (dk_at dksX3_apart_0 1 rfl rfl)
theorem dX3_apart_2 : decode cX3_apart 2 = .ok (.putfield 23, 3) := dk_181 0 23 (dk_at dksX3_apart_0 2 rfl rfl)
theorem dX3_apart_5 : decode cX3_apart 5 = .ok (.aload_n 0, 1) := dk_42 (dk_at dksX3_apart_0 5 rfl rfl)
theorem dX3_apart_6 : decode cX3_apart 6 = .ok (.iload_n 1, 1) := dk_27 (dk_at dksX3_apart_0 6 rfl rfl)
theorem dX3_apart_7 : decode cX3_apart 7 = .ok (.invokevirtual 88, 3) := dk_182 0 88 (dk_at dksX3_apart_0 7 rfl rfl)
theorem dX3_apart_10 : decode cX3_apart 10 = .ok (.ifCond .eq 11, 3) := dk_153 0 11 (dk_at dksX3_apart_0 10 rfl rfl)
theorem dX3_apart_13 : decode cX3_apart 13 = .ok (.aload_n 0, 1) := dk_42 (dk_at dksX3_apart_0 13 rfl rfl)
theorem dX3_apart_14 : decode cX3_apart 14 = .ok (.iload_n 2, 1) := dk_28 (dk_at dksX3_apart_0 14 rfl rfl)
theorem dX3_apart_15 : decode cX3_apart 15 = .ok (.invokevirtual 88, 3) := dk_182 0 88 (dk_at dksX3_apart_0 15 rfl rfl)
theorem dX3_apart_18 : decode cX3_apart 18 = .ok (.ifCond .ne 9, 3) := dk_154 0 9 (dk_at dksX3_apart_0 18 rfl rfl)
theorem dX3_apart_21 : decode cX3_apart 21 = .ok (.aload_n 0, 1) := dk_42 (dk_at dksX3_apart_0 21 rfl rfl)
theorem dX3_apart_22 : decode cX3_apart 22 = .ok (.iconst 1, 1) := dk_4 (dk_at dksX3_apart_0 22 rfl rfl)
theorem dX3_apart_23 : decode cX3_apart 23 = .ok (.invokevirtual 58, 3) := dk_182 0 58 (dk_at dksX3_apart_1 0 rfl rfl)
theorem dX3_apart_26 : decode cX3_apart 26 = .ok (.ireturn, 1) := dk_172 (dk_at dksX3_apart_1 3 rfl rfl)
theorem dX3_apart_27 : decode cX3_apart 27 = .ok (.aload_n 0, 1) := dk_42 (dk_at dksX3_apart_1 4 rfl rfl)
theorem dX3_apart_28 : decode cX3_apart 28 = .ok (.iload_n 1, 1) := dk_27 (dk_at dksX3_apart_1 5 rfl rfl)
theorem dX3_apart_29 : decode cX3_apart 29 = .ok (.iload_n 2, 1) := dk_28 (dk_at dksX3_apart_1 6 rfl rfl)
theorem dX3_apart_30 : decode cX3_apart 30 = .ok (.invokevirtual 94, 3) := dk_182 0 94 (dk_at dksX3_apart_1 7 rfl rfl)
theorem dX3_apart_33 : decode cX3_apart 33 = .ok (.ifCond .ne 9, 3) := dk_154 0 9 (dk_at dksX3_apart_1 10 rfl rfl)
theorem dX3_apart_36 : decode cX3_apart 36 = .ok (.aload_n 0, 1) := dk_42 (dk_at dksX3_apart_1 13 rfl rfl)
theorem dX3_apart_37 : decode cX3_apart 37 = .ok (.iconst 2, 1) := dk_5 (dk_at dksX3_apart_1 14 rfl rfl)
theorem dX3_apart_38 : decode cX3_apart 38 = .ok (.invokevirtual 58, 3) := dk_182 0 58 (dk_at dksX3_apart_1 15 rfl rfl)
theorem dX3_apart_41 : decode cX3_apart 41 = .ok (.ireturn, 1) := dk_172 (dk_at dksX3_apart_1 18 rfl rfl)
theorem dX3_apart_42 : decode cX3_apart 42 = .ok (.aload_n 0, 1) := dk_42 (dk_at dksX3_apart_1 19 rfl rfl)
theorem dX3_apart_43 : decode cX3_apart 43 = .ok (.aload_n 0, 1) := dk_42 (dk_at dksX3_apart_1 20 rfl rfl)
theorem dX3_apart_44 : decode cX3_apart 44 = .ok (.iload_n 1, 1) := dk_27 (dk_at dksX3_apart_1 21 rfl rfl)
theorem dX3_apart_45 : decode cX3_apart 45 = .ok (.invokevirtual 106, 3) := dk_182 0 106 (dk_at dksX3_apart_2 0 rfl rfl)
theorem dX3_apart_48 : decode cX3_apart 48 = .ok (.aload_n 0, 1) := dk_42 (dk_at dksX3_apart_2 3 rfl rfl)
theorem dX3_apart_49 : decode cX3_apart 49 = .ok (.iload_n 1, 1) := dk_27 (dk_at dksX3_apart_2 4 rfl rfl)
theorem dX3_apart_50 : decode cX3_apart 50 = .ok (.invokevirtual 91, 3) := dk_182 0 91 (dk_at dksX3_apart_2 5 rfl rfl)
theorem dX3_apart_53 : decode cX3_apart 53 = .ok (.aload_n 0, 1) := dk_42 (dk_at dksX3_apart_2 8 rfl rfl)
theorem dX3_apart_54 : decode cX3_apart 54 = .ok (.iload_n 2, 1) := dk_28 (dk_at dksX3_apart_2 9 rfl rfl)
theorem dX3_apart_55 : decode cX3_apart 55 = .ok (.invokevirtual 91, 3) := dk_182 0 91 (dk_at dksX3_apart_2 10 rfl rfl)
theorem dX3_apart_58 : decode cX3_apart 58 = .ok (.invokevirtual 110, 3) := dk_182 0 110 (dk_at dksX3_apart_2 13 rfl rfl)
theorem dX3_apart_61 : decode cX3_apart 61 = .ok (.aload_n 0, 1) := dk_42 (dk_at dksX3_apart_2 16 rfl rfl)
theorem dX3_apart_62 : decode cX3_apart 62 = .ok (.iload_n 1, 1) := dk_27 (dk_at dksX3_apart_2 17 rfl rfl)
theorem dX3_apart_63 : decode cX3_apart 63 = .ok (.invokevirtual 106, 3) := dk_182 0 106 (dk_at dksX3_apart_2 18 rfl rfl)
theorem dX3_apart_66 : decode cX3_apart 66 = .ok (.aload_n 0, 1) := dk_42 (dk_at dksX3_apart_2 21 rfl rfl)
theorem dX3_apart_67 : decode cX3_apart 67 = .ok (.iload_n 2, 1) := dk_28 (dk_at dksX3_apart_2 22 rfl rfl)
theorem dX3_apart_68 : decode cX3_apart 68 = .ok (.invokevirtual 91, 3) := dk_182 0 91 (dk_at dksX3_apart_3 0 rfl rfl)
theorem dX3_apart_71 : decode cX3_apart 71 = .ok (.aload_n 0, 1) := dk_42 (dk_at dksX3_apart_3 3 rfl rfl)
theorem dX3_apart_72 : decode cX3_apart 72 = .ok (.iload_n 1, 1) := dk_27 (dk_at dksX3_apart_3 4 rfl rfl)
theorem dX3_apart_73 : decode cX3_apart 73 = .ok (.invokevirtual 91, 3) := dk_182 0 91 (dk_at dksX3_apart_3 5 rfl rfl)
theorem dX3_apart_76 : decode cX3_apart 76 = .ok (.invokevirtual 110, 3) := dk_182 0 110 (dk_at dksX3_apart_3 8 rfl rfl)
theorem dX3_apart_79 : decode cX3_apart 79 = .ok (.iconst (-1), 1) := dk_2 (dk_at dksX3_apart_3 11 rfl rfl)
theorem dX3_apart_80 : decode cX3_apart 80 = .ok (.invokevirtual 98, 3) := dk_182 0 98 (dk_at dksX3_apart_3 12 rfl rfl)
theorem dX3_apart_83 : decode cX3_apart 83 = .ok (.invokestatic 55, 3) := dk_184 0 55 (dk_at dksX3_apart_3 15 rfl rfl)
theorem dX3_apart_86 : decode cX3_apart 86 = .ok (.ireturn, 1) := dk_172 (dk_at dksX3_apart_3 18 rfl rfl)
abbrev cX3_row_2 : ByteArray := prog_11_method_65_code
def yX3_row_2 : MethodName := ⟨RX3, "row", "(II)I"⟩
def dkwX3_row_2_2 : List UInt8 := [185, 0, 40, 2, 0, 192, 0, 53, 28, 182, 0, 250, 172]
abbrev dktX3_row_2_2 : List UInt8 := dkwX3_row_2_2 ++ []
def dkwX3_row_2_1 : List UInt8 := [180, 0, 7, 4, 100, 184, 0, 36, 154, 0, 9, 42, 5, 182, 0, 58, 172, 42, 42, 180, 0, 16, 27]
abbrev dktX3_row_2_1 : List UInt8 := dkwX3_row_2_1 ++ dktX3_row_2_2
def dkwX3_row_2_0 : List UInt8 := [42, 3, 181, 0, 23, 42, 27, 182, 0, 68, 154, 0, 9, 42, 4, 182, 0, 58, 172, 28, 3, 42]
abbrev dktX3_row_2_0 : List UInt8 := dkwX3_row_2_0 ++ dktX3_row_2_1
theorem dksX3_row_2_0 : cX3_row_2.data.toList.drop 0 = dktX3_row_2_0 := by decide +kernel
theorem dksX3_row_2_1 : cX3_row_2.data.toList.drop 22 = dktX3_row_2_1 := dk_seg dksX3_row_2_0 22 rfl rfl
theorem dksX3_row_2_2 : cX3_row_2.data.toList.drop 45 = dktX3_row_2_2 := dk_seg dksX3_row_2_1 23 rfl rfl
theorem dX3_row_2_0 : decode cX3_row_2 0 = .ok (.aload_n 0, 1) := dk_42 (dk_at dksX3_row_2_0 0 rfl rfl)
theorem dX3_row_2_1 : decode cX3_row_2 1 = .ok (.iconst 0, 1) := dk_3 (dk_at dksX3_row_2_0 1 rfl rfl)
theorem dX3_row_2_2 : decode cX3_row_2 2 = .ok (.putfield 23, 3) := dk_181 0 23 (dk_at dksX3_row_2_0 2 rfl rfl)
theorem dX3_row_2_5 : decode cX3_row_2 5 = .ok (.aload_n 0, 1) := dk_42 (dk_at dksX3_row_2_0 5 rfl rfl)
theorem dX3_row_2_6 : decode cX3_row_2 6 = .ok (.iload_n 1, 1) := dk_27 (dk_at dksX3_row_2_0 6 rfl rfl)
theorem dX3_row_2_7 : decode cX3_row_2 7 = .ok (.invokevirtual 68, 3) := dk_182 0 68 (dk_at dksX3_row_2_0 7 rfl rfl)
theorem dX3_row_2_10 : decode cX3_row_2 10 = .ok (.ifCond .ne 9, 3) := dk_154 0 9 (dk_at dksX3_row_2_0 10 rfl rfl)
theorem dX3_row_2_13 : decode cX3_row_2 13 = .ok (.aload_n 0, 1) := dk_42 (dk_at dksX3_row_2_0 13 rfl rfl)
theorem dX3_row_2_14 : decode cX3_row_2 14 = .ok (.iconst 1, 1) := dk_4 (dk_at dksX3_row_2_0 14 rfl rfl)
theorem dX3_row_2_15 : decode cX3_row_2 15 = .ok (.invokevirtual 58, 3) := dk_182 0 58 (dk_at dksX3_row_2_0 15 rfl rfl)
theorem dX3_row_2_18 : decode cX3_row_2 18 = .ok (.ireturn, 1) := dk_172 (dk_at dksX3_row_2_0 18 rfl rfl)
theorem dX3_row_2_19 : decode cX3_row_2 19 = .ok (.iload_n 2, 1) := dk_28 (dk_at dksX3_row_2_0 19 rfl rfl)
theorem dX3_row_2_20 : decode cX3_row_2 20 = .ok (.iconst 0, 1) := dk_3 (dk_at dksX3_row_2_0 20 rfl rfl)
theorem dX3_row_2_21 : decode cX3_row_2 21 = .ok (.aload_n 0, 1) := dk_42 (dk_at dksX3_row_2_0 21 rfl rfl)
theorem dX3_row_2_22 : decode cX3_row_2 22 = .ok (.getfield 7, 3) := dk_180 0 7 (dk_at dksX3_row_2_1 0 rfl rfl)
theorem dX3_row_2_25 : decode cX3_row_2 25 = .ok (.iconst 1, 1) := dk_4 (dk_at dksX3_row_2_1 3 rfl rfl)
theorem dX3_row_2_26 : decode cX3_row_2 26 = .ok (.isub, 1) := dk_100 (dk_at dksX3_row_2_1 4 rfl rfl)
theorem dX3_row_2_27 : decode cX3_row_2 27 = .ok (.invokestatic 36, 3) := dk_184 0 36 (dk_at dksX3_row_2_1 5 rfl rfl)
theorem dX3_row_2_30 : decode cX3_row_2 30 = .ok (.ifCond .ne 9, 3) := dk_154 0 9 (dk_at dksX3_row_2_1 8 rfl rfl)
theorem dX3_row_2_33 : decode cX3_row_2 33 = .ok (.aload_n 0, 1) := dk_42 (dk_at dksX3_row_2_1 11 rfl rfl)
theorem dX3_row_2_34 : decode cX3_row_2 34 = .ok (.iconst 2, 1) := dk_5 (dk_at dksX3_row_2_1 12 rfl rfl)
theorem dX3_row_2_35 : decode cX3_row_2 35 = .ok (.invokevirtual 58, 3) := dk_182 0 58 (dk_at dksX3_row_2_1 13 rfl rfl)
theorem dX3_row_2_38 : decode cX3_row_2 38 = .ok (.ireturn, 1) := dk_172 (dk_at dksX3_row_2_1 16 rfl rfl)
theorem dX3_row_2_39 : decode cX3_row_2 39 = .ok (.aload_n 0, 1) := dk_42 (dk_at dksX3_row_2_1 17 rfl rfl)
theorem dX3_row_2_40 : decode cX3_row_2 40 = .ok (.aload_n 0, 1) := dk_42 (dk_at dksX3_row_2_1 18 rfl rfl)
theorem dX3_row_2_41 : decode cX3_row_2 41 = .ok (.getfield 16, 3) := dk_180 0 16 (dk_at dksX3_row_2_1 19 rfl rfl)
theorem dX3_row_2_44 : decode cX3_row_2 44 = .ok (.iload_n 1, 1) := dk_27 (dk_at dksX3_row_2_1 22 rfl rfl)
theorem dX3_row_2_45 : decode cX3_row_2 45 = .ok (.invokeinterface 40 2, 5) := by decide +kernel
theorem dX3_row_2_50 : decode cX3_row_2 50 = .ok (.checkcast 53, 3) := dk_192 0 53 (dk_at dksX3_row_2_2 5 rfl rfl)
theorem dX3_row_2_53 : decode cX3_row_2 53 = .ok (.iload_n 2, 1) := dk_28 (dk_at dksX3_row_2_2 8 rfl rfl)
theorem dX3_row_2_54 : decode cX3_row_2 54 = .ok (.invokevirtual 250, 3) := dk_182 0 250 (dk_at dksX3_row_2_2 9 rfl rfl)
theorem dX3_row_2_57 : decode cX3_row_2 57 = .ok (.ireturn, 1) := dk_172 (dk_at dksX3_row_2_2 12 rfl rfl)
abbrev cX3_rowNow : ByteArray := prog_11_method_64_code
def yX3_rowNow : MethodName := ⟨RX3, "rowNow", "(LVersorhallModel$Algebra;I)I"⟩
def dkwX3_rowNow_2 : List UInt8 := [172, 132, 4, 1, 167, 255, 234, 2, 172]
abbrev dktX3_rowNow_2 : List UInt8 := dkwX3_rowNow_2 ++ []
def dkwX3_rowNow_1 : List UInt8 := [167, 255, 237, 4, 54, 4, 21, 4, 29, 162, 0, 22, 43, 21, 4, 182, 0, 247, 28, 160, 0, 6, 21, 4]
abbrev dktX3_rowNow_1 : List UInt8 := dkwX3_rowNow_1 ++ dktX3_rowNow_2
def dkwX3_rowNow_0 : List UInt8 := [4, 62, 3, 54, 4, 21, 4, 43, 180, 0, 72, 162, 0, 16, 29, 42, 180, 0, 7, 104, 62, 132, 4, 1]
abbrev dktX3_rowNow_0 : List UInt8 := dkwX3_rowNow_0 ++ dktX3_rowNow_1
theorem dksX3_rowNow_0 : cX3_rowNow.data.toList.drop 0 = dktX3_rowNow_0 := by decide +kernel
theorem dksX3_rowNow_1 : cX3_rowNow.data.toList.drop 24 = dktX3_rowNow_1 := dk_seg dksX3_rowNow_0 24 rfl rfl
theorem dksX3_rowNow_2 : cX3_rowNow.data.toList.drop 48 = dktX3_rowNow_2 := dk_seg dksX3_rowNow_1 24 rfl rfl
theorem dX3_rowNow_0 : decode cX3_rowNow 0 = .ok (.iconst 1, 1) := dk_4 (dk_at dksX3_rowNow_0 0 rfl rfl)
theorem dX3_rowNow_1 : decode cX3_rowNow 1 = .ok (.istore_n 3, 1) := dk_62 (dk_at dksX3_rowNow_0 1 rfl rfl)
theorem dX3_rowNow_2 : decode cX3_rowNow 2 = .ok (.iconst 0, 1) := dk_3 (dk_at dksX3_rowNow_0 2 rfl rfl)
theorem dX3_rowNow_3 : decode cX3_rowNow 3 = .ok (.istore 4, 2) := dk_54 4 (dk_at dksX3_rowNow_0 3 rfl rfl)
theorem dX3_rowNow_5 : decode cX3_rowNow 5 = .ok (.iload 4, 2) := dk_21 4 (dk_at dksX3_rowNow_0 5 rfl rfl)
theorem dX3_rowNow_7 : decode cX3_rowNow 7 = .ok (.aload_n 1, 1) := dk_43 (dk_at dksX3_rowNow_0 7 rfl rfl)
theorem dX3_rowNow_8 : decode cX3_rowNow 8 = .ok (.getfield 72, 3) := dk_180 0 72 (dk_at dksX3_rowNow_0 8 rfl rfl)
theorem dX3_rowNow_11 : decode cX3_rowNow 11 = .ok (.if_icmp .ge 16, 3) := dk_162 0 16 (dk_at dksX3_rowNow_0 11 rfl rfl)
theorem dX3_rowNow_14 : decode cX3_rowNow 14 = .ok (.iload_n 3, 1) := dk_29 (dk_at dksX3_rowNow_0 14 rfl rfl)
theorem dX3_rowNow_15 : decode cX3_rowNow 15 = .ok (.aload_n 0, 1) := dk_42 (dk_at dksX3_rowNow_0 15 rfl rfl)
theorem dX3_rowNow_16 : decode cX3_rowNow 16 = .ok (.getfield 7, 3) := dk_180 0 7 (dk_at dksX3_rowNow_0 16 rfl rfl)
theorem dX3_rowNow_19 : decode cX3_rowNow 19 = .ok (.imul, 1) := dk_104 (dk_at dksX3_rowNow_0 19 rfl rfl)
theorem dX3_rowNow_20 : decode cX3_rowNow 20 = .ok (.istore_n 3, 1) := dk_62 (dk_at dksX3_rowNow_0 20 rfl rfl)
theorem dX3_rowNow_21 : decode cX3_rowNow 21 = .ok (.iinc 4 1, 3) := dk_132 4 1 (dk_at dksX3_rowNow_0 21 rfl rfl)
theorem dX3_rowNow_24 : decode cX3_rowNow 24 = .ok (.goto (-19), 3) := dk_167 255 237 (dk_at dksX3_rowNow_1 0 rfl rfl)
theorem dX3_rowNow_27 : decode cX3_rowNow 27 = .ok (.iconst 1, 1) := dk_4 (dk_at dksX3_rowNow_1 3 rfl rfl)
theorem dX3_rowNow_28 : decode cX3_rowNow 28 = .ok (.istore 4, 2) := dk_54 4 (dk_at dksX3_rowNow_1 4 rfl rfl)
theorem dX3_rowNow_30 : decode cX3_rowNow 30 = .ok (.iload 4, 2) := dk_21 4 (dk_at dksX3_rowNow_1 6 rfl rfl)
theorem dX3_rowNow_32 : decode cX3_rowNow 32 = .ok (.iload_n 3, 1) := dk_29 (dk_at dksX3_rowNow_1 8 rfl rfl)
theorem dX3_rowNow_33 : decode cX3_rowNow 33 = .ok (.if_icmp .ge 22, 3) := dk_162 0 22 (dk_at dksX3_rowNow_1 9 rfl rfl)
theorem dX3_rowNow_36 : decode cX3_rowNow 36 = .ok (.aload_n 1, 1) := dk_43 (dk_at dksX3_rowNow_1 12 rfl rfl)
theorem dX3_rowNow_37 : decode cX3_rowNow 37 = .ok (.iload 4, 2) := dk_21 4 (dk_at dksX3_rowNow_1 13 rfl rfl)
theorem dX3_rowNow_39 : decode cX3_rowNow 39 = .ok (.invokevirtual 247, 3) := dk_182 0 247 (dk_at dksX3_rowNow_1 15 rfl rfl)
theorem dX3_rowNow_42 : decode cX3_rowNow 42 = .ok (.iload_n 2, 1) := dk_28 (dk_at dksX3_rowNow_1 18 rfl rfl)
theorem dX3_rowNow_43 : decode cX3_rowNow 43 = .ok (.if_icmp .ne 6, 3) := dk_160 0 6 (dk_at dksX3_rowNow_1 19 rfl rfl)
theorem dX3_rowNow_46 : decode cX3_rowNow 46 = .ok (.iload 4, 2) := dk_21 4 (dk_at dksX3_rowNow_1 22 rfl rfl)
theorem dX3_rowNow_48 : decode cX3_rowNow 48 = .ok (.ireturn, 1) := dk_172 (dk_at dksX3_rowNow_2 0 rfl rfl)
theorem dX3_rowNow_49 : decode cX3_rowNow 49 = .ok (.iinc 4 1, 3) := dk_132 4 1 (dk_at dksX3_rowNow_2 1 rfl rfl)
theorem dX3_rowNow_52 : decode cX3_rowNow 52 = .ok (.goto (-22), 3) := dk_167 255 234 (dk_at dksX3_rowNow_2 4 rfl rfl)
theorem dX3_rowNow_55 : decode cX3_rowNow 55 = .ok (.iconst (-1), 1) := dk_2 (dk_at dksX3_rowNow_2 7 rfl rfl)
theorem dX3_rowNow_56 : decode cX3_rowNow 56 = .ok (.ireturn, 1) := dk_172 (dk_at dksX3_rowNow_2 8 rfl rfl)
abbrev cX3_match : ByteArray := prog_11_method_69_code
def yX3_match : MethodName := ⟨RX3, "match", "(II)I"⟩
def dkwX3_match_1 : List UInt8 := [182, 0, 58, 172, 42, 27, 28, 182, 1, 7, 172]
abbrev dktX3_match_1 : List UInt8 := dkwX3_match_1 ++ []
def dkwX3_match_0 : List UInt8 := [42, 3, 181, 0, 23, 42, 27, 182, 0, 68, 153, 0, 11, 42, 28, 182, 0, 68, 154, 0, 9, 42, 4]
abbrev dktX3_match_0 : List UInt8 := dkwX3_match_0 ++ dktX3_match_1
theorem dksX3_match_0 : cX3_match.data.toList.drop 0 = dktX3_match_0 := by decide +kernel
theorem dksX3_match_1 : cX3_match.data.toList.drop 23 = dktX3_match_1 := dk_seg dksX3_match_0 23 rfl rfl
theorem dX3_match_0 : decode cX3_match 0 = .ok (.aload_n 0, 1) := dk_42 (dk_at dksX3_match_0 0 rfl rfl)
theorem dX3_match_1 : decode cX3_match 1 = .ok (.iconst 0, 1) := dk_3 (dk_at dksX3_match_0 1 rfl rfl)
theorem dX3_match_2 : decode cX3_match 2 = .ok (.putfield 23, 3) := dk_181 0 23 (dk_at dksX3_match_0 2 rfl rfl)
theorem dX3_match_5 : decode cX3_match 5 = .ok (.aload_n 0, 1) := dk_42 (dk_at dksX3_match_0 5 rfl rfl)
theorem dX3_match_6 : decode cX3_match 6 = .ok (.iload_n 1, 1) := dk_27 (dk_at dksX3_match_0 6 rfl rfl)
theorem dX3_match_7 : decode cX3_match 7 = .ok (.invokevirtual 68, 3) := dk_182 0 68 (dk_at dksX3_match_0 7 rfl rfl)
theorem dX3_match_10 : decode cX3_match 10 = .ok (.ifCond .eq 11, 3) := dk_153 0 11 (dk_at dksX3_match_0 10 rfl rfl)
theorem dX3_match_13 : decode cX3_match 13 = .ok (.aload_n 0, 1) := dk_42 (dk_at dksX3_match_0 13 rfl rfl)
theorem dX3_match_14 : decode cX3_match 14 = .ok (.iload_n 2, 1) := dk_28 (dk_at dksX3_match_0 14 rfl rfl)
theorem dX3_match_15 : decode cX3_match 15 = .ok (.invokevirtual 68, 3) := dk_182 0 68 (dk_at dksX3_match_0 15 rfl rfl)
theorem dX3_match_18 : decode cX3_match 18 = .ok (.ifCond .ne 9, 3) := dk_154 0 9 (dk_at dksX3_match_0 18 rfl rfl)
theorem dX3_match_21 : decode cX3_match 21 = .ok (.aload_n 0, 1) := dk_42 (dk_at dksX3_match_0 21 rfl rfl)
theorem dX3_match_22 : decode cX3_match 22 = .ok (.iconst 1, 1) := dk_4 (dk_at dksX3_match_0 22 rfl rfl)
theorem dX3_match_23 : decode cX3_match 23 = .ok (.invokevirtual 58, 3) := dk_182 0 58 (dk_at dksX3_match_1 0 rfl rfl)
theorem dX3_match_26 : decode cX3_match 26 = .ok (.ireturn, 1) := dk_172 (dk_at dksX3_match_1 3 rfl rfl)
theorem dX3_match_27 : decode cX3_match 27 = .ok (.aload_n 0, 1) := dk_42 (dk_at dksX3_match_1 4 rfl rfl)
theorem dX3_match_28 : decode cX3_match 28 = .ok (.iload_n 1, 1) := dk_27 (dk_at dksX3_match_1 5 rfl rfl)
theorem dX3_match_29 : decode cX3_match 29 = .ok (.iload_n 2, 1) := dk_28 (dk_at dksX3_match_1 6 rfl rfl)
theorem dX3_match_30 : decode cX3_match 30 = .ok (.invokevirtual 263, 3) := dk_182 1 7 (dk_at dksX3_match_1 7 rfl rfl)
theorem dX3_match_33 : decode cX3_match 33 = .ok (.ireturn, 1) := dk_172 (dk_at dksX3_match_1 10 rfl rfl)
abbrev cX3_matchNow : ByteArray := prog_11_method_68_code
def yX3_matchNow : MethodName := ⟨RX3, "matchNow", "(II)I"⟩
def dkwX3_matchNow_2 : List UInt8 := [25, 4, 180, 0, 72, 159, 0, 7, 2, 167, 0, 12, 42, 45, 25, 4, 3, 3, 182, 1, 3, 172]
abbrev dktX3_matchNow_2 : List UInt8 := dkwX3_matchNow_2 ++ []
def dkwX3_matchNow_1 : List UInt8 := [192, 0, 53, 58, 4, 45, 180, 0, 154, 153, 0, 23, 25, 4, 180, 0, 154, 153, 0, 15, 45, 180, 0, 72]
abbrev dktX3_matchNow_1 : List UInt8 := dkwX3_matchNow_1 ++ dktX3_matchNow_2
def dkwX3_matchNow_0 : List UInt8 := [42, 180, 0, 16, 27, 185, 0, 40, 2, 0, 192, 0, 53, 78, 42, 180, 0, 16, 28, 185, 0, 40, 2, 0]
abbrev dktX3_matchNow_0 : List UInt8 := dkwX3_matchNow_0 ++ dktX3_matchNow_1
theorem dksX3_matchNow_0 : cX3_matchNow.data.toList.drop 0 = dktX3_matchNow_0 := by decide +kernel
theorem dksX3_matchNow_1 : cX3_matchNow.data.toList.drop 24 = dktX3_matchNow_1 := dk_seg dksX3_matchNow_0 24 rfl rfl
theorem dksX3_matchNow_2 : cX3_matchNow.data.toList.drop 48 = dktX3_matchNow_2 := dk_seg dksX3_matchNow_1 24 rfl rfl
theorem dX3_matchNow_0 : decode cX3_matchNow 0 = .ok (.aload_n 0, 1) := dk_42 (dk_at dksX3_matchNow_0 0 rfl rfl)
theorem dX3_matchNow_1 : decode cX3_matchNow 1 = .ok (.getfield 16, 3) := dk_180 0 16 (dk_at dksX3_matchNow_0 1 rfl rfl)
theorem dX3_matchNow_4 : decode cX3_matchNow 4 = .ok (.iload_n 1, 1) := dk_27 (dk_at dksX3_matchNow_0 4 rfl rfl)
theorem dX3_matchNow_5 : decode cX3_matchNow 5 = .ok (.invokeinterface 40 2, 5) := by decide +kernel
theorem dX3_matchNow_10 : decode cX3_matchNow 10 = .ok (.checkcast 53, 3) := dk_192 0 53 (dk_at dksX3_matchNow_0 10 rfl rfl)
theorem dX3_matchNow_13 : decode cX3_matchNow 13 = .ok (.astore_n 3, 1) := dk_78 (dk_at dksX3_matchNow_0 13 rfl rfl)
theorem dX3_matchNow_14 : decode cX3_matchNow 14 = .ok (.aload_n 0, 1) := dk_42 (dk_at dksX3_matchNow_0 14 rfl rfl)
theorem dX3_matchNow_15 : decode cX3_matchNow 15 = .ok (.getfield 16, 3) := dk_180 0 16 (dk_at dksX3_matchNow_0 15 rfl rfl)
theorem dX3_matchNow_18 : decode cX3_matchNow 18 = .ok (.iload_n 2, 1) := dk_28 (dk_at dksX3_matchNow_0 18 rfl rfl)
theorem dX3_matchNow_19 : decode cX3_matchNow 19 = .ok (.invokeinterface 40 2, 5) := by decide +kernel
theorem dX3_matchNow_24 : decode cX3_matchNow 24 = .ok (.checkcast 53, 3) := dk_192 0 53 (dk_at dksX3_matchNow_1 0 rfl rfl)
theorem dX3_matchNow_27 : decode cX3_matchNow 27 = .ok (.astore 4, 2) := dk_58 4 (dk_at dksX3_matchNow_1 3 rfl rfl)
theorem dX3_matchNow_29 : decode cX3_matchNow 29 = .ok (.aload_n 3, 1) := dk_45 (dk_at dksX3_matchNow_1 5 rfl rfl)
theorem dX3_matchNow_30 : decode cX3_matchNow 30 = .ok (.getfield 154, 3) := dk_180 0 154 (dk_at dksX3_matchNow_1 6 rfl rfl)
theorem dX3_matchNow_33 : decode cX3_matchNow 33 = .ok (.ifCond .eq 23, 3) := dk_153 0 23 (dk_at dksX3_matchNow_1 9 rfl rfl)
theorem dX3_matchNow_36 : decode cX3_matchNow 36 = .ok (.aload 4, 2) := dk_25 4 (dk_at dksX3_matchNow_1 12 rfl rfl)
theorem dX3_matchNow_38 : decode cX3_matchNow 38 = .ok (.getfield 154, 3) := dk_180 0 154 (dk_at dksX3_matchNow_1 14 rfl rfl)
theorem dX3_matchNow_41 : decode cX3_matchNow 41 = .ok (.ifCond .eq 15, 3) := dk_153 0 15 (dk_at dksX3_matchNow_1 17 rfl rfl)
theorem dX3_matchNow_44 : decode cX3_matchNow 44 = .ok (.aload_n 3, 1) := dk_45 (dk_at dksX3_matchNow_1 20 rfl rfl)
theorem dX3_matchNow_45 : decode cX3_matchNow 45 = .ok (.getfield 72, 3) := dk_180 0 72 (dk_at dksX3_matchNow_1 21 rfl rfl)
theorem dX3_matchNow_48 : decode cX3_matchNow 48 = .ok (.aload 4, 2) := dk_25 4 (dk_at dksX3_matchNow_2 0 rfl rfl)
theorem dX3_matchNow_50 : decode cX3_matchNow 50 = .ok (.getfield 72, 3) := dk_180 0 72 (dk_at dksX3_matchNow_2 2 rfl rfl)
theorem dX3_matchNow_53 : decode cX3_matchNow 53 = .ok (.if_icmp .eq 7, 3) := dk_159 0 7 (dk_at dksX3_matchNow_2 5 rfl rfl)
theorem dX3_matchNow_56 : decode cX3_matchNow 56 = .ok (.iconst (-1), 1) := dk_2 (dk_at dksX3_matchNow_2 8 rfl rfl)
theorem dX3_matchNow_57 : decode cX3_matchNow 57 = .ok (.goto 12, 3) := dk_167 0 12 (dk_at dksX3_matchNow_2 9 rfl rfl)
theorem dX3_matchNow_60 : decode cX3_matchNow 60 = .ok (.aload_n 0, 1) := dk_42 (dk_at dksX3_matchNow_2 12 rfl rfl)
theorem dX3_matchNow_61 : decode cX3_matchNow 61 = .ok (.aload_n 3, 1) := dk_45 (dk_at dksX3_matchNow_2 13 rfl rfl)
theorem dX3_matchNow_62 : decode cX3_matchNow 62 = .ok (.aload 4, 2) := dk_25 4 (dk_at dksX3_matchNow_2 14 rfl rfl)
theorem dX3_matchNow_64 : decode cX3_matchNow 64 = .ok (.iconst 0, 1) := dk_3 (dk_at dksX3_matchNow_2 16 rfl rfl)
theorem dX3_matchNow_65 : decode cX3_matchNow 65 = .ok (.iconst 0, 1) := dk_3 (dk_at dksX3_matchNow_2 17 rfl rfl)
theorem dX3_matchNow_66 : decode cX3_matchNow 66 = .ok (.invokevirtual 259, 3) := dk_182 1 3 (dk_at dksX3_matchNow_2 18 rfl rfl)
theorem dX3_matchNow_69 : decode cX3_matchNow 69 = .ok (.ireturn, 1) := dk_172 (dk_at dksX3_matchNow_2 21 rfl rfl)
abbrev cX3_orderNow : ByteArray := prog_11_method_67_code
def yX3_orderNow : MethodName := ⟨RX3, "orderNow", "(LVersorhallModel$Algebra;LVersorhallModel$Algebra;II)I"⟩
def dkwX3_orderNow_5 : List UInt8 := [21, 7, 96, 172, 132, 6, 1, 167, 255, 176, 2, 172]
abbrev dktX3_orderNow_5 : List UInt8 := dkwX3_orderNow_5 ++ []
def dkwX3_orderNow_4 : List UInt8 := [21, 4, 4, 21, 6, 120, 128, 182, 1, 3, 54, 7, 21, 7, 2, 159, 0, 12, 21, 6, 21, 5, 104]
abbrev dktX3_orderNow_4 : List UInt8 := dkwX3_orderNow_4 ++ dktX3_orderNow_5
def dkwX3_orderNow_3 : List UInt8 := [44, 180, 0, 253, 21, 6, 46, 182, 1, 0, 2, 160, 0, 6, 167, 0, 36, 42, 43, 44, 29, 4, 96]
abbrev dktX3_orderNow_3 : List UInt8 := dkwX3_orderNow_3 ++ dktX3_orderNow_4
def dkwX3_orderNow_2 : List UInt8 := [180, 0, 72, 162, 0, 77, 21, 4, 21, 6, 122, 4, 126, 4, 159, 0, 60, 42, 43, 180, 0, 253, 29, 46]
abbrev dktX3_orderNow_2 : List UInt8 := dkwX3_orderNow_2 ++ dktX3_orderNow_3
def dkwX3_orderNow_1 : List UInt8 := [162, 0, 16, 21, 5, 16, 10, 104, 54, 5, 132, 6, 1, 167, 255, 237, 3, 54, 6, 21, 6, 44]
abbrev dktX3_orderNow_1 : List UInt8 := dkwX3_orderNow_1 ++ dktX3_orderNow_2
def dkwX3_orderNow_0 : List UInt8 := [29, 43, 180, 0, 72, 160, 0, 5, 3, 172, 4, 54, 5, 29, 4, 96, 54, 6, 21, 6, 43, 180, 0, 72]
abbrev dktX3_orderNow_0 : List UInt8 := dkwX3_orderNow_0 ++ dktX3_orderNow_1
theorem dksX3_orderNow_0 : cX3_orderNow.data.toList.drop 0 = dktX3_orderNow_0 := by decide +kernel
theorem dksX3_orderNow_1 : cX3_orderNow.data.toList.drop 24 = dktX3_orderNow_1 := dk_seg dksX3_orderNow_0 24 rfl rfl
theorem dksX3_orderNow_2 : cX3_orderNow.data.toList.drop 46 = dktX3_orderNow_2 := dk_seg dksX3_orderNow_1 22 rfl rfl
theorem dksX3_orderNow_3 : cX3_orderNow.data.toList.drop 70 = dktX3_orderNow_3 := dk_seg dksX3_orderNow_2 24 rfl rfl
theorem dksX3_orderNow_4 : cX3_orderNow.data.toList.drop 93 = dktX3_orderNow_4 := dk_seg dksX3_orderNow_3 23 rfl rfl
theorem dksX3_orderNow_5 : cX3_orderNow.data.toList.drop 116 = dktX3_orderNow_5 := dk_seg dksX3_orderNow_4 23 rfl rfl
theorem dX3_orderNow_0 : decode cX3_orderNow 0 = .ok (.iload_n 3, 1) := dk_29 (dk_at dksX3_orderNow_0 0 rfl rfl)
theorem dX3_orderNow_1 : decode cX3_orderNow 1 = .ok (.aload_n 1, 1) := dk_43 (dk_at dksX3_orderNow_0 1 rfl rfl)
theorem dX3_orderNow_2 : decode cX3_orderNow 2 = .ok (.getfield 72, 3) := dk_180 0 72 (dk_at dksX3_orderNow_0 2 rfl rfl)
theorem dX3_orderNow_5 : decode cX3_orderNow 5 = .ok (.if_icmp .ne 5, 3) := dk_160 0 5 (dk_at dksX3_orderNow_0 5 rfl rfl)
theorem dX3_orderNow_8 : decode cX3_orderNow 8 = .ok (.iconst 0, 1) := dk_3 (dk_at dksX3_orderNow_0 8 rfl rfl)
theorem dX3_orderNow_9 : decode cX3_orderNow 9 = .ok (.ireturn, 1) := dk_172 (dk_at dksX3_orderNow_0 9 rfl rfl)
theorem dX3_orderNow_10 : decode cX3_orderNow 10 = .ok (.iconst 1, 1) := dk_4 (dk_at dksX3_orderNow_0 10 rfl rfl)
theorem dX3_orderNow_11 : decode cX3_orderNow 11 = .ok (.istore 5, 2) := dk_54 5 (dk_at dksX3_orderNow_0 11 rfl rfl)
theorem dX3_orderNow_13 : decode cX3_orderNow 13 = .ok (.iload_n 3, 1) := dk_29 (dk_at dksX3_orderNow_0 13 rfl rfl)
theorem dX3_orderNow_14 : decode cX3_orderNow 14 = .ok (.iconst 1, 1) := dk_4 (dk_at dksX3_orderNow_0 14 rfl rfl)
theorem dX3_orderNow_15 : decode cX3_orderNow 15 = .ok (.iadd, 1) := dk_96 (dk_at dksX3_orderNow_0 15 rfl rfl)
theorem dX3_orderNow_16 : decode cX3_orderNow 16 = .ok (.istore 6, 2) := dk_54 6 (dk_at dksX3_orderNow_0 16 rfl rfl)
theorem dX3_orderNow_18 : decode cX3_orderNow 18 = .ok (.iload 6, 2) := dk_21 6 (dk_at dksX3_orderNow_0 18 rfl rfl)
theorem dX3_orderNow_20 : decode cX3_orderNow 20 = .ok (.aload_n 1, 1) := dk_43 (dk_at dksX3_orderNow_0 20 rfl rfl)
theorem dX3_orderNow_21 : decode cX3_orderNow 21 = .ok (.getfield 72, 3) := dk_180 0 72 (dk_at dksX3_orderNow_0 21 rfl rfl)
theorem dX3_orderNow_24 : decode cX3_orderNow 24 = .ok (.if_icmp .ge 16, 3) := dk_162 0 16 (dk_at dksX3_orderNow_1 0 rfl rfl)
theorem dX3_orderNow_27 : decode cX3_orderNow 27 = .ok (.iload 5, 2) := dk_21 5 (dk_at dksX3_orderNow_1 3 rfl rfl)
theorem dX3_orderNow_29 : decode cX3_orderNow 29 = .ok (.bipush 10, 2) := dk_16 10 (dk_at dksX3_orderNow_1 5 rfl rfl)
theorem dX3_orderNow_31 : decode cX3_orderNow 31 = .ok (.imul, 1) := dk_104 (dk_at dksX3_orderNow_1 7 rfl rfl)
theorem dX3_orderNow_32 : decode cX3_orderNow 32 = .ok (.istore 5, 2) := dk_54 5 (dk_at dksX3_orderNow_1 8 rfl rfl)
theorem dX3_orderNow_34 : decode cX3_orderNow 34 = .ok (.iinc 6 1, 3) := dk_132 6 1 (dk_at dksX3_orderNow_1 10 rfl rfl)
theorem dX3_orderNow_37 : decode cX3_orderNow 37 = .ok (.goto (-19), 3) := dk_167 255 237 (dk_at dksX3_orderNow_1 13 rfl rfl)
theorem dX3_orderNow_40 : decode cX3_orderNow 40 = .ok (.iconst 0, 1) := dk_3 (dk_at dksX3_orderNow_1 16 rfl rfl)
theorem dX3_orderNow_41 : decode cX3_orderNow 41 = .ok (.istore 6, 2) := dk_54 6 (dk_at dksX3_orderNow_1 17 rfl rfl)
theorem dX3_orderNow_43 : decode cX3_orderNow 43 = .ok (.iload 6, 2) := dk_21 6 (dk_at dksX3_orderNow_1 19 rfl rfl)
theorem dX3_orderNow_45 : decode cX3_orderNow 45 = .ok (.aload_n 2, 1) := dk_44 (dk_at dksX3_orderNow_1 21 rfl rfl)
theorem dX3_orderNow_46 : decode cX3_orderNow 46 = .ok (.getfield 72, 3) := dk_180 0 72 (dk_at dksX3_orderNow_2 0 rfl rfl)
theorem dX3_orderNow_49 : decode cX3_orderNow 49 = .ok (.if_icmp .ge 77, 3) := dk_162 0 77 (dk_at dksX3_orderNow_2 3 rfl rfl)
theorem dX3_orderNow_52 : decode cX3_orderNow 52 = .ok (.iload 4, 2) := dk_21 4 (dk_at dksX3_orderNow_2 6 rfl rfl)
theorem dX3_orderNow_54 : decode cX3_orderNow 54 = .ok (.iload 6, 2) := dk_21 6 (dk_at dksX3_orderNow_2 8 rfl rfl)
theorem dX3_orderNow_56 : decode cX3_orderNow 56 = .ok (.ishr, 1) := dk_122 (dk_at dksX3_orderNow_2 10 rfl rfl)
theorem dX3_orderNow_57 : decode cX3_orderNow 57 = .ok (.iconst 1, 1) := dk_4 (dk_at dksX3_orderNow_2 11 rfl rfl)
theorem dX3_orderNow_58 : decode cX3_orderNow 58 = .ok (.iand, 1) := dk_126 (dk_at dksX3_orderNow_2 12 rfl rfl)
theorem dX3_orderNow_59 : decode cX3_orderNow 59 = .ok (.iconst 1, 1) := dk_4 (dk_at dksX3_orderNow_2 13 rfl rfl)
theorem dX3_orderNow_60 : decode cX3_orderNow 60 = .ok (.if_icmp .eq 60, 3) := dk_159 0 60 (dk_at dksX3_orderNow_2 14 rfl rfl)
theorem dX3_orderNow_63 : decode cX3_orderNow 63 = .ok (.aload_n 0, 1) := dk_42 (dk_at dksX3_orderNow_2 17 rfl rfl)
theorem dX3_orderNow_64 : decode cX3_orderNow 64 = .ok (.aload_n 1, 1) := dk_43 (dk_at dksX3_orderNow_2 18 rfl rfl)
theorem dX3_orderNow_65 : decode cX3_orderNow 65 = .ok (.getfield 253, 3) := dk_180 0 253 (dk_at dksX3_orderNow_2 19 rfl rfl)
theorem dX3_orderNow_68 : decode cX3_orderNow 68 = .ok (.iload_n 3, 1) := dk_29 (dk_at dksX3_orderNow_2 22 rfl rfl)
theorem dX3_orderNow_69 : decode cX3_orderNow 69 = .ok (.iaload, 1) := dk_46 (dk_at dksX3_orderNow_2 23 rfl rfl)
theorem dX3_orderNow_70 : decode cX3_orderNow 70 = .ok (.aload_n 2, 1) := dk_44 (dk_at dksX3_orderNow_3 0 rfl rfl)
theorem dX3_orderNow_71 : decode cX3_orderNow 71 = .ok (.getfield 253, 3) := dk_180 0 253 (dk_at dksX3_orderNow_3 1 rfl rfl)
theorem dX3_orderNow_74 : decode cX3_orderNow 74 = .ok (.iload 6, 2) := dk_21 6 (dk_at dksX3_orderNow_3 4 rfl rfl)
theorem dX3_orderNow_76 : decode cX3_orderNow 76 = .ok (.iaload, 1) := dk_46 (dk_at dksX3_orderNow_3 6 rfl rfl)
theorem dX3_orderNow_77 : decode cX3_orderNow 77 = .ok (.invokevirtual 256, 3) := dk_182 1 0 (dk_at dksX3_orderNow_3 7 rfl rfl)
theorem dX3_orderNow_80 : decode cX3_orderNow 80 = .ok (.iconst (-1), 1) := dk_2 (dk_at dksX3_orderNow_3 10 rfl rfl)
theorem dX3_orderNow_81 : decode cX3_orderNow 81 = .ok (.if_icmp .ne 6, 3) := dk_160 0 6 (dk_at dksX3_orderNow_3 11 rfl rfl)
theorem dX3_orderNow_84 : decode cX3_orderNow 84 = .ok (.goto 36, 3) := dk_167 0 36 (dk_at dksX3_orderNow_3 14 rfl rfl)
theorem dX3_orderNow_87 : decode cX3_orderNow 87 = .ok (.aload_n 0, 1) := dk_42 (dk_at dksX3_orderNow_3 17 rfl rfl)
theorem dX3_orderNow_88 : decode cX3_orderNow 88 = .ok (.aload_n 1, 1) := dk_43 (dk_at dksX3_orderNow_3 18 rfl rfl)
theorem dX3_orderNow_89 : decode cX3_orderNow 89 = .ok (.aload_n 2, 1) := dk_44 (dk_at dksX3_orderNow_3 19 rfl rfl)
theorem dX3_orderNow_90 : decode cX3_orderNow 90 = .ok (.iload_n 3, 1) := dk_29 (dk_at dksX3_orderNow_3 20 rfl rfl)
theorem dX3_orderNow_91 : decode cX3_orderNow 91 = .ok (.iconst 1, 1) := dk_4 (dk_at dksX3_orderNow_3 21 rfl rfl)
theorem dX3_orderNow_92 : decode cX3_orderNow 92 = .ok (.iadd, 1) := dk_96 (dk_at dksX3_orderNow_3 22 rfl rfl)
theorem dX3_orderNow_93 : decode cX3_orderNow 93 = .ok (.iload 4, 2) := dk_21 4 (dk_at dksX3_orderNow_4 0 rfl rfl)
theorem dX3_orderNow_95 : decode cX3_orderNow 95 = .ok (.iconst 1, 1) := dk_4 (dk_at dksX3_orderNow_4 2 rfl rfl)
theorem dX3_orderNow_96 : decode cX3_orderNow 96 = .ok (.iload 6, 2) := dk_21 6 (dk_at dksX3_orderNow_4 3 rfl rfl)
theorem dX3_orderNow_98 : decode cX3_orderNow 98 = .ok (.ishl, 1) := dk_120 (dk_at dksX3_orderNow_4 5 rfl rfl)
theorem dX3_orderNow_99 : decode cX3_orderNow 99 = .ok (.ior, 1) := dk_128 (dk_at dksX3_orderNow_4 6 rfl rfl)
theorem dX3_orderNow_100 : decode cX3_orderNow 100 = .ok (.invokevirtual 259, 3) := dk_182 1 3 (dk_at dksX3_orderNow_4 7 rfl rfl)
theorem dX3_orderNow_103 : decode cX3_orderNow 103 = .ok (.istore 7, 2) := dk_54 7 (dk_at dksX3_orderNow_4 10 rfl rfl)
theorem dX3_orderNow_105 : decode cX3_orderNow 105 = .ok (.iload 7, 2) := dk_21 7 (dk_at dksX3_orderNow_4 12 rfl rfl)
theorem dX3_orderNow_107 : decode cX3_orderNow 107 = .ok (.iconst (-1), 1) := dk_2 (dk_at dksX3_orderNow_4 14 rfl rfl)
theorem dX3_orderNow_108 : decode cX3_orderNow 108 = .ok (.if_icmp .eq 12, 3) := dk_159 0 12 (dk_at dksX3_orderNow_4 15 rfl rfl)
theorem dX3_orderNow_111 : decode cX3_orderNow 111 = .ok (.iload 6, 2) := dk_21 6 (dk_at dksX3_orderNow_4 18 rfl rfl)
theorem dX3_orderNow_113 : decode cX3_orderNow 113 = .ok (.iload 5, 2) := dk_21 5 (dk_at dksX3_orderNow_4 20 rfl rfl)
theorem dX3_orderNow_115 : decode cX3_orderNow 115 = .ok (.imul, 1) := dk_104 (dk_at dksX3_orderNow_4 22 rfl rfl)
theorem dX3_orderNow_116 : decode cX3_orderNow 116 = .ok (.iload 7, 2) := dk_21 7 (dk_at dksX3_orderNow_5 0 rfl rfl)
theorem dX3_orderNow_118 : decode cX3_orderNow 118 = .ok (.iadd, 1) := dk_96 (dk_at dksX3_orderNow_5 2 rfl rfl)
theorem dX3_orderNow_119 : decode cX3_orderNow 119 = .ok (.ireturn, 1) := dk_172 (dk_at dksX3_orderNow_5 3 rfl rfl)
theorem dX3_orderNow_120 : decode cX3_orderNow 120 = .ok (.iinc 6 1, 3) := dk_132 6 1 (dk_at dksX3_orderNow_5 4 rfl rfl)
theorem dX3_orderNow_123 : decode cX3_orderNow 123 = .ok (.goto (-80), 3) := dk_167 255 176 (dk_at dksX3_orderNow_5 7 rfl rfl)
theorem dX3_orderNow_126 : decode cX3_orderNow 126 = .ok (.iconst (-1), 1) := dk_2 (dk_at dksX3_orderNow_5 10 rfl rfl)
theorem dX3_orderNow_127 : decode cX3_orderNow 127 = .ok (.ireturn, 1) := dk_172 (dk_at dksX3_orderNow_5 11 rfl rfl)
abbrev cX3_scaleNow : ByteArray := prog_11_method_66_code
def yX3_scaleNow : MethodName := ⟨RX3, "scaleNow", "(II)I"⟩
def dkwX3_scaleNow_1 : List UInt8 := [172, 132, 3, 1, 167, 255, 230, 2, 172]
abbrev dktX3_scaleNow_1 : List UInt8 := dkwX3_scaleNow_1 ++ []
def dkwX3_scaleNow_0 : List UInt8 := [4, 62, 29, 42, 180, 0, 7, 162, 0, 24, 42, 28, 29, 104, 29, 104, 182, 0, 26, 27, 160, 0, 5, 29]
abbrev dktX3_scaleNow_0 : List UInt8 := dkwX3_scaleNow_0 ++ dktX3_scaleNow_1
theorem dksX3_scaleNow_0 : cX3_scaleNow.data.toList.drop 0 = dktX3_scaleNow_0 := by decide +kernel
theorem dksX3_scaleNow_1 : cX3_scaleNow.data.toList.drop 24 = dktX3_scaleNow_1 := dk_seg dksX3_scaleNow_0 24 rfl rfl
theorem dX3_scaleNow_0 : decode cX3_scaleNow 0 = .ok (.iconst 1, 1) := dk_4 (dk_at dksX3_scaleNow_0 0 rfl rfl)
theorem dX3_scaleNow_1 : decode cX3_scaleNow 1 = .ok (.istore_n 3, 1) := dk_62 (dk_at dksX3_scaleNow_0 1 rfl rfl)
theorem dX3_scaleNow_2 : decode cX3_scaleNow 2 = .ok (.iload_n 3, 1) := dk_29 (dk_at dksX3_scaleNow_0 2 rfl rfl)
theorem dX3_scaleNow_3 : decode cX3_scaleNow 3 = .ok (.aload_n 0, 1) := dk_42 (dk_at dksX3_scaleNow_0 3 rfl rfl)
theorem dX3_scaleNow_4 : decode cX3_scaleNow 4 = .ok (.getfield 7, 3) := dk_180 0 7 (dk_at dksX3_scaleNow_0 4 rfl rfl)
theorem dX3_scaleNow_7 : decode cX3_scaleNow 7 = .ok (.if_icmp .ge 24, 3) := dk_162 0 24 (dk_at dksX3_scaleNow_0 7 rfl rfl)
theorem dX3_scaleNow_10 : decode cX3_scaleNow 10 = .ok (.aload_n 0, 1) := dk_42 (dk_at dksX3_scaleNow_0 10 rfl rfl)
theorem dX3_scaleNow_11 : decode cX3_scaleNow 11 = .ok (.iload_n 2, 1) := dk_28 (dk_at dksX3_scaleNow_0 11 rfl rfl)
theorem dX3_scaleNow_12 : decode cX3_scaleNow 12 = .ok (.iload_n 3, 1) := dk_29 (dk_at dksX3_scaleNow_0 12 rfl rfl)
theorem dX3_scaleNow_13 : decode cX3_scaleNow 13 = .ok (.imul, 1) := dk_104 (dk_at dksX3_scaleNow_0 13 rfl rfl)
theorem dX3_scaleNow_14 : decode cX3_scaleNow 14 = .ok (.iload_n 3, 1) := dk_29 (dk_at dksX3_scaleNow_0 14 rfl rfl)
theorem dX3_scaleNow_15 : decode cX3_scaleNow 15 = .ok (.imul, 1) := dk_104 (dk_at dksX3_scaleNow_0 15 rfl rfl)
theorem dX3_scaleNow_16 : decode cX3_scaleNow 16 = .ok (.invokevirtual 26, 3) := dk_182 0 26 (dk_at dksX3_scaleNow_0 16 rfl rfl)
theorem dX3_scaleNow_19 : decode cX3_scaleNow 19 = .ok (.iload_n 1, 1) := dk_27 (dk_at dksX3_scaleNow_0 19 rfl rfl)
theorem dX3_scaleNow_20 : decode cX3_scaleNow 20 = .ok (.if_icmp .ne 5, 3) := dk_160 0 5 (dk_at dksX3_scaleNow_0 20 rfl rfl)
theorem dX3_scaleNow_23 : decode cX3_scaleNow 23 = .ok (.iload_n 3, 1) := dk_29 (dk_at dksX3_scaleNow_0 23 rfl rfl)
theorem dX3_scaleNow_24 : decode cX3_scaleNow 24 = .ok (.ireturn, 1) := dk_172 (dk_at dksX3_scaleNow_1 0 rfl rfl)
theorem dX3_scaleNow_25 : decode cX3_scaleNow 25 = .ok (.iinc 3 1, 3) := dk_132 3 1 (dk_at dksX3_scaleNow_1 1 rfl rfl)
theorem dX3_scaleNow_28 : decode cX3_scaleNow 28 = .ok (.goto (-26), 3) := dk_167 255 230 (dk_at dksX3_scaleNow_1 4 rfl rfl)
theorem dX3_scaleNow_31 : decode cX3_scaleNow 31 = .ok (.iconst (-1), 1) := dk_2 (dk_at dksX3_scaleNow_1 7 rfl rfl)
theorem dX3_scaleNow_32 : decode cX3_scaleNow 32 = .ok (.ireturn, 1) := dk_172 (dk_at dksX3_scaleNow_1 8 rfl rfl)
abbrev cX3_scaleOf : ByteArray := prog_11_method_70_code
def yX3_scaleOf : MethodName := ⟨RX3, "scaleOf", "(III)I"⟩
def dkwX3_scaleOf_5 : List UInt8 := [185, 0, 40, 2, 0, 192, 0, 53, 180, 0, 253, 21, 4, 16, 10, 112, 46, 182, 1, 0, 172]
abbrev dktX3_scaleOf_5 : List UInt8 := dkwX3_scaleOf_5 ++ []
def dkwX3_scaleOf_4 : List UInt8 := [108, 54, 4, 132, 6, 255, 167, 255, 240, 42, 25, 5, 180, 0, 253, 29, 46, 42, 180, 0, 16, 28]
abbrev dktX3_scaleOf_4 : List UInt8 := dkwX3_scaleOf_4 ++ dktX3_scaleOf_5
def dkwX3_scaleOf_3 : List UInt8 := [154, 0, 5, 2, 172, 25, 5, 180, 0, 72, 4, 100, 54, 6, 21, 6, 29, 164, 0, 16, 21, 4, 16, 10]
abbrev dktX3_scaleOf_3 : List UInt8 := dkwX3_scaleOf_3 ++ dktX3_scaleOf_4
def dkwX3_scaleOf_2 : List UInt8 := [192, 0, 53, 58, 5, 21, 4, 2, 159, 0, 18, 29, 3, 25, 5, 180, 0, 72, 4, 100, 184, 0, 36]
abbrev dktX3_scaleOf_2 : List UInt8 := dkwX3_scaleOf_2 ++ dktX3_scaleOf_3
def dkwX3_scaleOf_1 : List UInt8 := [182, 0, 58, 172, 42, 27, 28, 182, 1, 7, 54, 4, 42, 180, 0, 16, 27, 185, 0, 40, 2, 0]
abbrev dktX3_scaleOf_1 : List UInt8 := dkwX3_scaleOf_1 ++ dktX3_scaleOf_2
def dkwX3_scaleOf_0 : List UInt8 := [42, 3, 181, 0, 23, 42, 27, 182, 0, 68, 153, 0, 11, 42, 28, 182, 0, 68, 154, 0, 9, 42, 4]
abbrev dktX3_scaleOf_0 : List UInt8 := dkwX3_scaleOf_0 ++ dktX3_scaleOf_1
theorem dksX3_scaleOf_0 : cX3_scaleOf.data.toList.drop 0 = dktX3_scaleOf_0 := by decide +kernel
theorem dksX3_scaleOf_1 : cX3_scaleOf.data.toList.drop 23 = dktX3_scaleOf_1 := dk_seg dksX3_scaleOf_0 23 rfl rfl
theorem dksX3_scaleOf_2 : cX3_scaleOf.data.toList.drop 45 = dktX3_scaleOf_2 := dk_seg dksX3_scaleOf_1 22 rfl rfl
theorem dksX3_scaleOf_3 : cX3_scaleOf.data.toList.drop 68 = dktX3_scaleOf_3 := dk_seg dksX3_scaleOf_2 23 rfl rfl
theorem dksX3_scaleOf_4 : cX3_scaleOf.data.toList.drop 92 = dktX3_scaleOf_4 := dk_seg dksX3_scaleOf_3 24 rfl rfl
theorem dksX3_scaleOf_5 : cX3_scaleOf.data.toList.drop 114 = dktX3_scaleOf_5 := dk_seg dksX3_scaleOf_4 22 rfl rfl
theorem dX3_scaleOf_0 : decode cX3_scaleOf 0 = .ok (.aload_n 0, 1) := dk_42 (dk_at dksX3_scaleOf_0 0 rfl rfl)
theorem dX3_scaleOf_1 : decode cX3_scaleOf 1 = .ok (.iconst 0, 1) := dk_3 (dk_at dksX3_scaleOf_0 1 rfl rfl)
theorem dX3_scaleOf_2 : decode cX3_scaleOf 2 = .ok (.putfield 23, 3) := dk_181 0 23 (dk_at dksX3_scaleOf_0 2 rfl rfl)
theorem dX3_scaleOf_5 : decode cX3_scaleOf 5 = .ok (.aload_n 0, 1) := dk_42 (dk_at dksX3_scaleOf_0 5 rfl rfl)
theorem dX3_scaleOf_6 : decode cX3_scaleOf 6 = .ok (.iload_n 1, 1) := dk_27 (dk_at dksX3_scaleOf_0 6 rfl rfl)
theorem dX3_scaleOf_7 : decode cX3_scaleOf 7 = .ok (.invokevirtual 68, 3) := dk_182 0 68 (dk_at dksX3_scaleOf_0 7 rfl rfl)
theorem dX3_scaleOf_10 : decode cX3_scaleOf 10 = .ok (.ifCond .eq 11, 3) := dk_153 0 11 (dk_at dksX3_scaleOf_0 10 rfl rfl)
theorem dX3_scaleOf_13 : decode cX3_scaleOf 13 = .ok (.aload_n 0, 1) := dk_42 (dk_at dksX3_scaleOf_0 13 rfl rfl)
theorem dX3_scaleOf_14 : decode cX3_scaleOf 14 = .ok (.iload_n 2, 1) := dk_28 (dk_at dksX3_scaleOf_0 14 rfl rfl)
theorem dX3_scaleOf_15 : decode cX3_scaleOf 15 = .ok (.invokevirtual 68, 3) := dk_182 0 68 (dk_at dksX3_scaleOf_0 15 rfl rfl)
theorem dX3_scaleOf_18 : decode cX3_scaleOf 18 = .ok (.ifCond .ne 9, 3) := dk_154 0 9 (dk_at dksX3_scaleOf_0 18 rfl rfl)
theorem dX3_scaleOf_21 : decode cX3_scaleOf 21 = .ok (.aload_n 0, 1) := dk_42 (dk_at dksX3_scaleOf_0 21 rfl rfl)
theorem dX3_scaleOf_22 : decode cX3_scaleOf 22 = .ok (.iconst 1, 1) := dk_4 (dk_at dksX3_scaleOf_0 22 rfl rfl)
theorem dX3_scaleOf_23 : decode cX3_scaleOf 23 = .ok (.invokevirtual 58, 3) := dk_182 0 58 (dk_at dksX3_scaleOf_1 0 rfl rfl)
theorem dX3_scaleOf_26 : decode cX3_scaleOf 26 = .ok (.ireturn, 1) := dk_172 (dk_at dksX3_scaleOf_1 3 rfl rfl)
theorem dX3_scaleOf_27 : decode cX3_scaleOf 27 = .ok (.aload_n 0, 1) := dk_42 (dk_at dksX3_scaleOf_1 4 rfl rfl)
theorem dX3_scaleOf_28 : decode cX3_scaleOf 28 = .ok (.iload_n 1, 1) := dk_27 (dk_at dksX3_scaleOf_1 5 rfl rfl)
theorem dX3_scaleOf_29 : decode cX3_scaleOf 29 = .ok (.iload_n 2, 1) := dk_28 (dk_at dksX3_scaleOf_1 6 rfl rfl)
theorem dX3_scaleOf_30 : decode cX3_scaleOf 30 = .ok (.invokevirtual 263, 3) := dk_182 1 7 (dk_at dksX3_scaleOf_1 7 rfl rfl)
theorem dX3_scaleOf_33 : decode cX3_scaleOf 33 = .ok (.istore 4, 2) := dk_54 4 (dk_at dksX3_scaleOf_1 10 rfl rfl)
theorem dX3_scaleOf_35 : decode cX3_scaleOf 35 = .ok (.aload_n 0, 1) := dk_42 (dk_at dksX3_scaleOf_1 12 rfl rfl)
theorem dX3_scaleOf_36 : decode cX3_scaleOf 36 = .ok (.getfield 16, 3) := dk_180 0 16 (dk_at dksX3_scaleOf_1 13 rfl rfl)
theorem dX3_scaleOf_39 : decode cX3_scaleOf 39 = .ok (.iload_n 1, 1) := dk_27 (dk_at dksX3_scaleOf_1 16 rfl rfl)
theorem dX3_scaleOf_40 : decode cX3_scaleOf 40 = .ok (.invokeinterface 40 2, 5) := by decide +kernel
theorem dX3_scaleOf_45 : decode cX3_scaleOf 45 = .ok (.checkcast 53, 3) := dk_192 0 53 (dk_at dksX3_scaleOf_2 0 rfl rfl)
theorem dX3_scaleOf_48 : decode cX3_scaleOf 48 = .ok (.astore 5, 2) := dk_58 5 (dk_at dksX3_scaleOf_2 3 rfl rfl)
theorem dX3_scaleOf_50 : decode cX3_scaleOf 50 = .ok (.iload 4, 2) := dk_21 4 (dk_at dksX3_scaleOf_2 5 rfl rfl)
theorem dX3_scaleOf_52 : decode cX3_scaleOf 52 = .ok (.iconst (-1), 1) := dk_2 (dk_at dksX3_scaleOf_2 7 rfl rfl)
theorem dX3_scaleOf_53 : decode cX3_scaleOf 53 = .ok (.if_icmp .eq 18, 3) := dk_159 0 18 (dk_at dksX3_scaleOf_2 8 rfl rfl)
theorem dX3_scaleOf_56 : decode cX3_scaleOf 56 = .ok (.iload_n 3, 1) := dk_29 (dk_at dksX3_scaleOf_2 11 rfl rfl)
theorem dX3_scaleOf_57 : decode cX3_scaleOf 57 = .ok (.iconst 0, 1) := dk_3 (dk_at dksX3_scaleOf_2 12 rfl rfl)
theorem dX3_scaleOf_58 : decode cX3_scaleOf 58 = .ok (.aload 5, 2) := dk_25 5 (dk_at dksX3_scaleOf_2 13 rfl rfl)
theorem dX3_scaleOf_60 : decode cX3_scaleOf 60 = .ok (.getfield 72, 3) := dk_180 0 72 (dk_at dksX3_scaleOf_2 15 rfl rfl)
theorem dX3_scaleOf_63 : decode cX3_scaleOf 63 = .ok (.iconst 1, 1) := dk_4 (dk_at dksX3_scaleOf_2 18 rfl rfl)
theorem dX3_scaleOf_64 : decode cX3_scaleOf 64 = .ok (.isub, 1) := dk_100 (dk_at dksX3_scaleOf_2 19 rfl rfl)
theorem dX3_scaleOf_65 : decode cX3_scaleOf 65 = .ok (.invokestatic 36, 3) := dk_184 0 36 (dk_at dksX3_scaleOf_2 20 rfl rfl)
theorem dX3_scaleOf_68 : decode cX3_scaleOf 68 = .ok (.ifCond .ne 5, 3) := dk_154 0 5 (dk_at dksX3_scaleOf_3 0 rfl rfl)
theorem dX3_scaleOf_71 : decode cX3_scaleOf 71 = .ok (.iconst (-1), 1) := dk_2 (dk_at dksX3_scaleOf_3 3 rfl rfl)
theorem dX3_scaleOf_72 : decode cX3_scaleOf 72 = .ok (.ireturn, 1) := dk_172 (dk_at dksX3_scaleOf_3 4 rfl rfl)
theorem dX3_scaleOf_73 : decode cX3_scaleOf 73 = .ok (.aload 5, 2) := dk_25 5 (dk_at dksX3_scaleOf_3 5 rfl rfl)
theorem dX3_scaleOf_75 : decode cX3_scaleOf 75 = .ok (.getfield 72, 3) := dk_180 0 72 (dk_at dksX3_scaleOf_3 7 rfl rfl)
theorem dX3_scaleOf_78 : decode cX3_scaleOf 78 = .ok (.iconst 1, 1) := dk_4 (dk_at dksX3_scaleOf_3 10 rfl rfl)
theorem dX3_scaleOf_79 : decode cX3_scaleOf 79 = .ok (.isub, 1) := dk_100 (dk_at dksX3_scaleOf_3 11 rfl rfl)
theorem dX3_scaleOf_80 : decode cX3_scaleOf 80 = .ok (.istore 6, 2) := dk_54 6 (dk_at dksX3_scaleOf_3 12 rfl rfl)
theorem dX3_scaleOf_82 : decode cX3_scaleOf 82 = .ok (.iload 6, 2) := dk_21 6 (dk_at dksX3_scaleOf_3 14 rfl rfl)
theorem dX3_scaleOf_84 : decode cX3_scaleOf 84 = .ok (.iload_n 3, 1) := dk_29 (dk_at dksX3_scaleOf_3 16 rfl rfl)
theorem dX3_scaleOf_85 : decode cX3_scaleOf 85 = .ok (.if_icmp .le 16, 3) := dk_164 0 16 (dk_at dksX3_scaleOf_3 17 rfl rfl)
theorem dX3_scaleOf_88 : decode cX3_scaleOf 88 = .ok (.iload 4, 2) := dk_21 4 (dk_at dksX3_scaleOf_3 20 rfl rfl)
theorem dX3_scaleOf_90 : decode cX3_scaleOf 90 = .ok (.bipush 10, 2) := dk_16 10 (dk_at dksX3_scaleOf_3 22 rfl rfl)
theorem dX3_scaleOf_92 : decode cX3_scaleOf 92 = .ok (.idiv, 1) := dk_108 (dk_at dksX3_scaleOf_4 0 rfl rfl)
theorem dX3_scaleOf_93 : decode cX3_scaleOf 93 = .ok (.istore 4, 2) := dk_54 4 (dk_at dksX3_scaleOf_4 1 rfl rfl)
theorem dX3_scaleOf_95 : decode cX3_scaleOf 95 = .ok (.iinc 6 (-1), 3) := dk_132 6 255 (dk_at dksX3_scaleOf_4 3 rfl rfl)
theorem dX3_scaleOf_98 : decode cX3_scaleOf 98 = .ok (.goto (-16), 3) := dk_167 255 240 (dk_at dksX3_scaleOf_4 6 rfl rfl)
theorem dX3_scaleOf_101 : decode cX3_scaleOf 101 = .ok (.aload_n 0, 1) := dk_42 (dk_at dksX3_scaleOf_4 9 rfl rfl)
theorem dX3_scaleOf_102 : decode cX3_scaleOf 102 = .ok (.aload 5, 2) := dk_25 5 (dk_at dksX3_scaleOf_4 10 rfl rfl)
theorem dX3_scaleOf_104 : decode cX3_scaleOf 104 = .ok (.getfield 253, 3) := dk_180 0 253 (dk_at dksX3_scaleOf_4 12 rfl rfl)
theorem dX3_scaleOf_107 : decode cX3_scaleOf 107 = .ok (.iload_n 3, 1) := dk_29 (dk_at dksX3_scaleOf_4 15 rfl rfl)
theorem dX3_scaleOf_108 : decode cX3_scaleOf 108 = .ok (.iaload, 1) := dk_46 (dk_at dksX3_scaleOf_4 16 rfl rfl)
theorem dX3_scaleOf_109 : decode cX3_scaleOf 109 = .ok (.aload_n 0, 1) := dk_42 (dk_at dksX3_scaleOf_4 17 rfl rfl)
theorem dX3_scaleOf_110 : decode cX3_scaleOf 110 = .ok (.getfield 16, 3) := dk_180 0 16 (dk_at dksX3_scaleOf_4 18 rfl rfl)
theorem dX3_scaleOf_113 : decode cX3_scaleOf 113 = .ok (.iload_n 2, 1) := dk_28 (dk_at dksX3_scaleOf_4 21 rfl rfl)
theorem dX3_scaleOf_114 : decode cX3_scaleOf 114 = .ok (.invokeinterface 40 2, 5) := by decide +kernel
theorem dX3_scaleOf_119 : decode cX3_scaleOf 119 = .ok (.checkcast 53, 3) := dk_192 0 53 (dk_at dksX3_scaleOf_5 5 rfl rfl)
theorem dX3_scaleOf_122 : decode cX3_scaleOf 122 = .ok (.getfield 253, 3) := dk_180 0 253 (dk_at dksX3_scaleOf_5 8 rfl rfl)
theorem dX3_scaleOf_125 : decode cX3_scaleOf 125 = .ok (.iload 4, 2) := dk_21 4 (dk_at dksX3_scaleOf_5 11 rfl rfl)
theorem dX3_scaleOf_127 : decode cX3_scaleOf 127 = .ok (.bipush 10, 2) := dk_16 10 (dk_at dksX3_scaleOf_5 13 rfl rfl)
theorem dX3_scaleOf_129 : decode cX3_scaleOf 129 = .ok (.irem, 1) := dk_112 (dk_at dksX3_scaleOf_5 15 rfl rfl)
theorem dX3_scaleOf_130 : decode cX3_scaleOf 130 = .ok (.iaload, 1) := dk_46 (dk_at dksX3_scaleOf_5 16 rfl rfl)
theorem dX3_scaleOf_131 : decode cX3_scaleOf 131 = .ok (.invokevirtual 256, 3) := dk_182 1 0 (dk_at dksX3_scaleOf_5 17 rfl rfl)
theorem dX3_scaleOf_134 : decode cX3_scaleOf 134 = .ok (.ireturn, 1) := dk_172 (dk_at dksX3_scaleOf_5 20 rfl rfl)
abbrev cX3_digest : ByteArray := prog_11_method_71_code
def yX3_digest : MethodName := ⟨RX3, "digest", "()J"⟩
def dkwX3_digest_13 : List UInt8 := [182, 0, 213, 182, 1, 14, 133, 97, 64, 132, 3, 1, 167, 255, 148, 31, 173]
abbrev dktX3_digest_13 : List UInt8 := dkwX3_digest_13 ++ []
def dkwX3_digest_12 : List UInt8 := [29, 21, 4, 182, 0, 188, 133, 97, 64, 132, 4, 1, 167, 255, 231, 31, 20, 1, 12, 105, 42, 29]
abbrev dktX3_digest_12 : List UInt8 := dkwX3_digest_12 ++ dktX3_digest_13
def dkwX3_digest_11 : List UInt8 := [97, 64, 132, 6, 1, 167, 255, 229, 3, 54, 4, 21, 4, 16, 9, 163, 0, 24, 31, 20, 1, 12, 105, 42]
abbrev dktX3_digest_11 : List UInt8 := dkwX3_digest_11 ++ dktX3_digest_12
def dkwX3_digest_10 : List UInt8 := [54, 6, 21, 6, 21, 5, 162, 0, 26, 25, 4, 21, 6, 46, 54, 7, 31, 20, 1, 12, 105, 21, 7, 133]
abbrev dktX3_digest_10 : List UInt8 := dkwX3_digest_10 ++ dktX3_digest_11
def dkwX3_digest_9 : List UInt8 := [180, 0, 20, 185, 0, 30, 1, 0, 162, 0, 101, 42, 29, 182, 0, 91, 58, 4, 25, 4, 190, 54, 5, 3]
abbrev dktX3_digest_9 : List UInt8 := dkwX3_digest_9 ++ dktX3_digest_10
def dkwX3_digest_8 : List UInt8 := [21, 4, 182, 1, 7, 133, 97, 64, 132, 4, 1, 167, 255, 224, 132, 3, 1, 167, 255, 88, 3, 62, 29, 42]
abbrev dktX3_digest_8 : List UInt8 := dkwX3_digest_8 ++ dktX3_digest_9
def dkwX3_digest_7 : List UInt8 := [54, 4, 21, 4, 42, 180, 0, 16, 185, 0, 30, 1, 0, 162, 0, 24, 31, 20, 1, 12, 105, 42, 29]
abbrev dktX3_digest_7 : List UInt8 := dkwX3_digest_7 ++ dktX3_digest_8
def dkwX3_digest_6 : List UInt8 := [185, 0, 40, 2, 0, 192, 0, 53, 21, 4, 182, 0, 250, 133, 97, 64, 132, 4, 1, 167, 255, 220, 3]
abbrev dktX3_digest_6 : List UInt8 := dkwX3_digest_6 ++ dktX3_digest_7
def dkwX3_digest_5 : List UInt8 := [167, 255, 220, 3, 54, 4, 21, 4, 4, 163, 0, 36, 31, 20, 1, 12, 105, 42, 42, 180, 0, 16, 29]
abbrev dktX3_digest_5 : List UInt8 := dkwX3_digest_5 ++ dktX3_digest_6
def dkwX3_digest_4 : List UInt8 := [42, 180, 0, 16, 29, 185, 0, 40, 2, 0, 192, 0, 53, 21, 4, 182, 0, 227, 133, 97, 64, 132, 4, 1]
abbrev dktX3_digest_4 : List UInt8 := dkwX3_digest_4 ++ dktX3_digest_5
def dkwX3_digest_3 : List UInt8 := [133, 97, 64, 132, 4, 1, 167, 255, 232, 3, 54, 4, 21, 4, 6, 163, 0, 36, 31, 20, 1, 12, 105, 42]
abbrev dktX3_digest_3 : List UInt8 := dkwX3_digest_3 ++ dktX3_digest_4
def dkwX3_digest_2 : List UInt8 := [162, 0, 161, 3, 54, 4, 21, 4, 8, 163, 0, 24, 31, 20, 1, 12, 105, 42, 29, 21, 4, 182, 0, 221]
abbrev dktX3_digest_2 : List UInt8 := dkwX3_digest_2 ++ dktX3_digest_3
def dkwX3_digest_1 : List UInt8 := [182, 0, 244, 133, 97, 64, 132, 3, 1, 167, 255, 234, 3, 62, 29, 42, 180, 0, 16, 185, 0, 30, 1, 0]
abbrev dktX3_digest_1 : List UInt8 := dkwX3_digest_1 ++ dktX3_digest_2
def dkwX3_digest_0 : List UInt8 := [42, 3, 181, 0, 23, 20, 1, 10, 64, 3, 62, 29, 16, 7, 163, 0, 22, 31, 20, 1, 12, 105, 42, 29]
abbrev dktX3_digest_0 : List UInt8 := dkwX3_digest_0 ++ dktX3_digest_1
theorem dksX3_digest_0 : cX3_digest.data.toList.drop 0 = dktX3_digest_0 := by decide +kernel
theorem dksX3_digest_1 : cX3_digest.data.toList.drop 24 = dktX3_digest_1 := dk_seg dksX3_digest_0 24 rfl rfl
theorem dksX3_digest_2 : cX3_digest.data.toList.drop 48 = dktX3_digest_2 := dk_seg dksX3_digest_1 24 rfl rfl
theorem dksX3_digest_3 : cX3_digest.data.toList.drop 72 = dktX3_digest_3 := dk_seg dksX3_digest_2 24 rfl rfl
theorem dksX3_digest_4 : cX3_digest.data.toList.drop 96 = dktX3_digest_4 := dk_seg dksX3_digest_3 24 rfl rfl
theorem dksX3_digest_5 : cX3_digest.data.toList.drop 120 = dktX3_digest_5 := dk_seg dksX3_digest_4 24 rfl rfl
theorem dksX3_digest_6 : cX3_digest.data.toList.drop 143 = dktX3_digest_6 := dk_seg dksX3_digest_5 23 rfl rfl
theorem dksX3_digest_7 : cX3_digest.data.toList.drop 166 = dktX3_digest_7 := dk_seg dksX3_digest_6 23 rfl rfl
theorem dksX3_digest_8 : cX3_digest.data.toList.drop 189 = dktX3_digest_8 := dk_seg dksX3_digest_7 23 rfl rfl
theorem dksX3_digest_9 : cX3_digest.data.toList.drop 213 = dktX3_digest_9 := dk_seg dksX3_digest_8 24 rfl rfl
theorem dksX3_digest_10 : cX3_digest.data.toList.drop 237 = dktX3_digest_10 := dk_seg dksX3_digest_9 24 rfl rfl
theorem dksX3_digest_11 : cX3_digest.data.toList.drop 261 = dktX3_digest_11 := dk_seg dksX3_digest_10 24 rfl rfl
theorem dksX3_digest_12 : cX3_digest.data.toList.drop 285 = dktX3_digest_12 := dk_seg dksX3_digest_11 24 rfl rfl
theorem dksX3_digest_13 : cX3_digest.data.toList.drop 307 = dktX3_digest_13 := dk_seg dksX3_digest_12 22 rfl rfl
theorem dX3_digest_0 : decode cX3_digest 0 = .ok (.aload_n 0, 1) := dk_42 (dk_at dksX3_digest_0 0 rfl rfl)
theorem dX3_digest_1 : decode cX3_digest 1 = .ok (.iconst 0, 1) := dk_3 (dk_at dksX3_digest_0 1 rfl rfl)
theorem dX3_digest_2 : decode cX3_digest 2 = .ok (.putfield 23, 3) := dk_181 0 23 (dk_at dksX3_digest_0 2 rfl rfl)
theorem dX3_digest_5 : decode cX3_digest 5 = .ok (.ldc2_w 266, 3) := dk_20 1 10 (dk_at dksX3_digest_0 5 rfl rfl)
theorem dX3_digest_8 : decode cX3_digest 8 = .ok (.lstore_n 1, 1) := dk_64 (dk_at dksX3_digest_0 8 rfl rfl)
theorem dX3_digest_9 : decode cX3_digest 9 = .ok (.iconst 0, 1) := dk_3 (dk_at dksX3_digest_0 9 rfl rfl)
theorem dX3_digest_10 : decode cX3_digest 10 = .ok (.istore_n 3, 1) := dk_62 (dk_at dksX3_digest_0 10 rfl rfl)
theorem dX3_digest_11 : decode cX3_digest 11 = .ok (.iload_n 3, 1) := dk_29 (dk_at dksX3_digest_0 11 rfl rfl)
theorem dX3_digest_12 : decode cX3_digest 12 = .ok (.bipush 7, 2) := dk_16 7 (dk_at dksX3_digest_0 12 rfl rfl)
theorem dX3_digest_14 : decode cX3_digest 14 = .ok (.if_icmp .gt 22, 3) := dk_163 0 22 (dk_at dksX3_digest_0 14 rfl rfl)
theorem dX3_digest_17 : decode cX3_digest 17 = .ok (.lload_n 1, 1) := dk_31 (dk_at dksX3_digest_0 17 rfl rfl)
theorem dX3_digest_18 : decode cX3_digest 18 = .ok (.ldc2_w 268, 3) := dk_20 1 12 (dk_at dksX3_digest_0 18 rfl rfl)
theorem dX3_digest_21 : decode cX3_digest 21 = .ok (.lmul, 1) := dk_105 (dk_at dksX3_digest_0 21 rfl rfl)
theorem dX3_digest_22 : decode cX3_digest 22 = .ok (.aload_n 0, 1) := dk_42 (dk_at dksX3_digest_0 22 rfl rfl)
theorem dX3_digest_23 : decode cX3_digest 23 = .ok (.iload_n 3, 1) := dk_29 (dk_at dksX3_digest_0 23 rfl rfl)
theorem dX3_digest_24 : decode cX3_digest 24 = .ok (.invokevirtual 244, 3) := dk_182 0 244 (dk_at dksX3_digest_1 0 rfl rfl)
theorem dX3_digest_27 : decode cX3_digest 27 = .ok (.i2l, 1) := dk_133 (dk_at dksX3_digest_1 3 rfl rfl)
theorem dX3_digest_28 : decode cX3_digest 28 = .ok (.ladd, 1) := dk_97 (dk_at dksX3_digest_1 4 rfl rfl)
theorem dX3_digest_29 : decode cX3_digest 29 = .ok (.lstore_n 1, 1) := dk_64 (dk_at dksX3_digest_1 5 rfl rfl)
theorem dX3_digest_30 : decode cX3_digest 30 = .ok (.iinc 3 1, 3) := dk_132 3 1 (dk_at dksX3_digest_1 6 rfl rfl)
theorem dX3_digest_33 : decode cX3_digest 33 = .ok (.goto (-22), 3) := dk_167 255 234 (dk_at dksX3_digest_1 9 rfl rfl)
theorem dX3_digest_36 : decode cX3_digest 36 = .ok (.iconst 0, 1) := dk_3 (dk_at dksX3_digest_1 12 rfl rfl)
theorem dX3_digest_37 : decode cX3_digest 37 = .ok (.istore_n 3, 1) := dk_62 (dk_at dksX3_digest_1 13 rfl rfl)
theorem dX3_digest_38 : decode cX3_digest 38 = .ok (.iload_n 3, 1) := dk_29 (dk_at dksX3_digest_1 14 rfl rfl)
theorem dX3_digest_39 : decode cX3_digest 39 = .ok (.aload_n 0, 1) := dk_42 (dk_at dksX3_digest_1 15 rfl rfl)
theorem dX3_digest_40 : decode cX3_digest 40 = .ok (.getfield 16, 3) := dk_180 0 16 (dk_at dksX3_digest_1 16 rfl rfl)
theorem dX3_digest_43 : decode cX3_digest 43 = .ok (.invokeinterface 30 1, 5) := by decide +kernel
theorem dX3_digest_48 : decode cX3_digest 48 = .ok (.if_icmp .ge 161, 3) := dk_162 0 161 (dk_at dksX3_digest_2 0 rfl rfl)
theorem dX3_digest_51 : decode cX3_digest 51 = .ok (.iconst 0, 1) := dk_3 (dk_at dksX3_digest_2 3 rfl rfl)
theorem dX3_digest_52 : decode cX3_digest 52 = .ok (.istore 4, 2) := dk_54 4 (dk_at dksX3_digest_2 4 rfl rfl)
theorem dX3_digest_54 : decode cX3_digest 54 = .ok (.iload 4, 2) := dk_21 4 (dk_at dksX3_digest_2 6 rfl rfl)
theorem dX3_digest_56 : decode cX3_digest 56 = .ok (.iconst 5, 1) := dk_8 (dk_at dksX3_digest_2 8 rfl rfl)
theorem dX3_digest_57 : decode cX3_digest 57 = .ok (.if_icmp .gt 24, 3) := dk_163 0 24 (dk_at dksX3_digest_2 9 rfl rfl)
theorem dX3_digest_60 : decode cX3_digest 60 = .ok (.lload_n 1, 1) := dk_31 (dk_at dksX3_digest_2 12 rfl rfl)
theorem dX3_digest_61 : decode cX3_digest 61 = .ok (.ldc2_w 268, 3) := dk_20 1 12 (dk_at dksX3_digest_2 13 rfl rfl)
theorem dX3_digest_64 : decode cX3_digest 64 = .ok (.lmul, 1) := dk_105 (dk_at dksX3_digest_2 16 rfl rfl)
theorem dX3_digest_65 : decode cX3_digest 65 = .ok (.aload_n 0, 1) := dk_42 (dk_at dksX3_digest_2 17 rfl rfl)
theorem dX3_digest_66 : decode cX3_digest 66 = .ok (.iload_n 3, 1) := dk_29 (dk_at dksX3_digest_2 18 rfl rfl)
theorem dX3_digest_67 : decode cX3_digest 67 = .ok (.iload 4, 2) := dk_21 4 (dk_at dksX3_digest_2 19 rfl rfl)
theorem dX3_digest_69 : decode cX3_digest 69 = .ok (.invokevirtual 221, 3) := dk_182 0 221 (dk_at dksX3_digest_2 21 rfl rfl)
theorem dX3_digest_72 : decode cX3_digest 72 = .ok (.i2l, 1) := dk_133 (dk_at dksX3_digest_3 0 rfl rfl)
theorem dX3_digest_73 : decode cX3_digest 73 = .ok (.ladd, 1) := dk_97 (dk_at dksX3_digest_3 1 rfl rfl)
theorem dX3_digest_74 : decode cX3_digest 74 = .ok (.lstore_n 1, 1) := dk_64 (dk_at dksX3_digest_3 2 rfl rfl)
theorem dX3_digest_75 : decode cX3_digest 75 = .ok (.iinc 4 1, 3) := dk_132 4 1 (dk_at dksX3_digest_3 3 rfl rfl)
theorem dX3_digest_78 : decode cX3_digest 78 = .ok (.goto (-24), 3) := dk_167 255 232 (dk_at dksX3_digest_3 6 rfl rfl)
theorem dX3_digest_81 : decode cX3_digest 81 = .ok (.iconst 0, 1) := dk_3 (dk_at dksX3_digest_3 9 rfl rfl)
theorem dX3_digest_82 : decode cX3_digest 82 = .ok (.istore 4, 2) := dk_54 4 (dk_at dksX3_digest_3 10 rfl rfl)
theorem dX3_digest_84 : decode cX3_digest 84 = .ok (.iload 4, 2) := dk_21 4 (dk_at dksX3_digest_3 12 rfl rfl)
theorem dX3_digest_86 : decode cX3_digest 86 = .ok (.iconst 3, 1) := dk_6 (dk_at dksX3_digest_3 14 rfl rfl)
theorem dX3_digest_87 : decode cX3_digest 87 = .ok (.if_icmp .gt 36, 3) := dk_163 0 36 (dk_at dksX3_digest_3 15 rfl rfl)
theorem dX3_digest_90 : decode cX3_digest 90 = .ok (.lload_n 1, 1) := dk_31 (dk_at dksX3_digest_3 18 rfl rfl)
theorem dX3_digest_91 : decode cX3_digest 91 = .ok (.ldc2_w 268, 3) := dk_20 1 12 (dk_at dksX3_digest_3 19 rfl rfl)
theorem dX3_digest_94 : decode cX3_digest 94 = .ok (.lmul, 1) := dk_105 (dk_at dksX3_digest_3 22 rfl rfl)
theorem dX3_digest_95 : decode cX3_digest 95 = .ok (.aload_n 0, 1) := dk_42 (dk_at dksX3_digest_3 23 rfl rfl)
theorem dX3_digest_96 : decode cX3_digest 96 = .ok (.aload_n 0, 1) := dk_42 (dk_at dksX3_digest_4 0 rfl rfl)
theorem dX3_digest_97 : decode cX3_digest 97 = .ok (.getfield 16, 3) := dk_180 0 16 (dk_at dksX3_digest_4 1 rfl rfl)
theorem dX3_digest_100 : decode cX3_digest 100 = .ok (.iload_n 3, 1) := dk_29 (dk_at dksX3_digest_4 4 rfl rfl)
theorem dX3_digest_101 : decode cX3_digest 101 = .ok (.invokeinterface 40 2, 5) := by decide +kernel
theorem dX3_digest_106 : decode cX3_digest 106 = .ok (.checkcast 53, 3) := dk_192 0 53 (dk_at dksX3_digest_4 10 rfl rfl)
theorem dX3_digest_109 : decode cX3_digest 109 = .ok (.iload 4, 2) := dk_21 4 (dk_at dksX3_digest_4 13 rfl rfl)
theorem dX3_digest_111 : decode cX3_digest 111 = .ok (.invokevirtual 227, 3) := dk_182 0 227 (dk_at dksX3_digest_4 15 rfl rfl)
theorem dX3_digest_114 : decode cX3_digest 114 = .ok (.i2l, 1) := dk_133 (dk_at dksX3_digest_4 18 rfl rfl)
theorem dX3_digest_115 : decode cX3_digest 115 = .ok (.ladd, 1) := dk_97 (dk_at dksX3_digest_4 19 rfl rfl)
theorem dX3_digest_116 : decode cX3_digest 116 = .ok (.lstore_n 1, 1) := dk_64 (dk_at dksX3_digest_4 20 rfl rfl)
theorem dX3_digest_117 : decode cX3_digest 117 = .ok (.iinc 4 1, 3) := dk_132 4 1 (dk_at dksX3_digest_4 21 rfl rfl)
theorem dX3_digest_120 : decode cX3_digest 120 = .ok (.goto (-36), 3) := dk_167 255 220 (dk_at dksX3_digest_5 0 rfl rfl)
theorem dX3_digest_123 : decode cX3_digest 123 = .ok (.iconst 0, 1) := dk_3 (dk_at dksX3_digest_5 3 rfl rfl)
theorem dX3_digest_124 : decode cX3_digest 124 = .ok (.istore 4, 2) := dk_54 4 (dk_at dksX3_digest_5 4 rfl rfl)
theorem dX3_digest_126 : decode cX3_digest 126 = .ok (.iload 4, 2) := dk_21 4 (dk_at dksX3_digest_5 6 rfl rfl)
theorem dX3_digest_128 : decode cX3_digest 128 = .ok (.iconst 1, 1) := dk_4 (dk_at dksX3_digest_5 8 rfl rfl)
theorem dX3_digest_129 : decode cX3_digest 129 = .ok (.if_icmp .gt 36, 3) := dk_163 0 36 (dk_at dksX3_digest_5 9 rfl rfl)
theorem dX3_digest_132 : decode cX3_digest 132 = .ok (.lload_n 1, 1) := dk_31 (dk_at dksX3_digest_5 12 rfl rfl)
theorem dX3_digest_133 : decode cX3_digest 133 = .ok (.ldc2_w 268, 3) := dk_20 1 12 (dk_at dksX3_digest_5 13 rfl rfl)
theorem dX3_digest_136 : decode cX3_digest 136 = .ok (.lmul, 1) := dk_105 (dk_at dksX3_digest_5 16 rfl rfl)
theorem dX3_digest_137 : decode cX3_digest 137 = .ok (.aload_n 0, 1) := dk_42 (dk_at dksX3_digest_5 17 rfl rfl)
theorem dX3_digest_138 : decode cX3_digest 138 = .ok (.aload_n 0, 1) := dk_42 (dk_at dksX3_digest_5 18 rfl rfl)
theorem dX3_digest_139 : decode cX3_digest 139 = .ok (.getfield 16, 3) := dk_180 0 16 (dk_at dksX3_digest_5 19 rfl rfl)
theorem dX3_digest_142 : decode cX3_digest 142 = .ok (.iload_n 3, 1) := dk_29 (dk_at dksX3_digest_5 22 rfl rfl)
theorem dX3_digest_143 : decode cX3_digest 143 = .ok (.invokeinterface 40 2, 5) := by decide +kernel
theorem dX3_digest_148 : decode cX3_digest 148 = .ok (.checkcast 53, 3) := dk_192 0 53 (dk_at dksX3_digest_6 5 rfl rfl)
theorem dX3_digest_151 : decode cX3_digest 151 = .ok (.iload 4, 2) := dk_21 4 (dk_at dksX3_digest_6 8 rfl rfl)
theorem dX3_digest_153 : decode cX3_digest 153 = .ok (.invokevirtual 250, 3) := dk_182 0 250 (dk_at dksX3_digest_6 10 rfl rfl)
theorem dX3_digest_156 : decode cX3_digest 156 = .ok (.i2l, 1) := dk_133 (dk_at dksX3_digest_6 13 rfl rfl)
theorem dX3_digest_157 : decode cX3_digest 157 = .ok (.ladd, 1) := dk_97 (dk_at dksX3_digest_6 14 rfl rfl)
theorem dX3_digest_158 : decode cX3_digest 158 = .ok (.lstore_n 1, 1) := dk_64 (dk_at dksX3_digest_6 15 rfl rfl)
theorem dX3_digest_159 : decode cX3_digest 159 = .ok (.iinc 4 1, 3) := dk_132 4 1 (dk_at dksX3_digest_6 16 rfl rfl)
theorem dX3_digest_162 : decode cX3_digest 162 = .ok (.goto (-36), 3) := dk_167 255 220 (dk_at dksX3_digest_6 19 rfl rfl)
theorem dX3_digest_165 : decode cX3_digest 165 = .ok (.iconst 0, 1) := dk_3 (dk_at dksX3_digest_6 22 rfl rfl)
theorem dX3_digest_166 : decode cX3_digest 166 = .ok (.istore 4, 2) := dk_54 4 (dk_at dksX3_digest_7 0 rfl rfl)
theorem dX3_digest_168 : decode cX3_digest 168 = .ok (.iload 4, 2) := dk_21 4 (dk_at dksX3_digest_7 2 rfl rfl)
theorem dX3_digest_170 : decode cX3_digest 170 = .ok (.aload_n 0, 1) := dk_42 (dk_at dksX3_digest_7 4 rfl rfl)
theorem dX3_digest_171 : decode cX3_digest 171 = .ok (.getfield 16, 3) := dk_180 0 16 (dk_at dksX3_digest_7 5 rfl rfl)
theorem dX3_digest_174 : decode cX3_digest 174 = .ok (.invokeinterface 30 1, 5) := by decide +kernel
theorem dX3_digest_179 : decode cX3_digest 179 = .ok (.if_icmp .ge 24, 3) := dk_162 0 24 (dk_at dksX3_digest_7 13 rfl rfl)
theorem dX3_digest_182 : decode cX3_digest 182 = .ok (.lload_n 1, 1) := dk_31 (dk_at dksX3_digest_7 16 rfl rfl)
theorem dX3_digest_183 : decode cX3_digest 183 = .ok (.ldc2_w 268, 3) := dk_20 1 12 (dk_at dksX3_digest_7 17 rfl rfl)
theorem dX3_digest_186 : decode cX3_digest 186 = .ok (.lmul, 1) := dk_105 (dk_at dksX3_digest_7 20 rfl rfl)
theorem dX3_digest_187 : decode cX3_digest 187 = .ok (.aload_n 0, 1) := dk_42 (dk_at dksX3_digest_7 21 rfl rfl)
theorem dX3_digest_188 : decode cX3_digest 188 = .ok (.iload_n 3, 1) := dk_29 (dk_at dksX3_digest_7 22 rfl rfl)
theorem dX3_digest_189 : decode cX3_digest 189 = .ok (.iload 4, 2) := dk_21 4 (dk_at dksX3_digest_8 0 rfl rfl)
theorem dX3_digest_191 : decode cX3_digest 191 = .ok (.invokevirtual 263, 3) := dk_182 1 7 (dk_at dksX3_digest_8 2 rfl rfl)
theorem dX3_digest_194 : decode cX3_digest 194 = .ok (.i2l, 1) := dk_133 (dk_at dksX3_digest_8 5 rfl rfl)
theorem dX3_digest_195 : decode cX3_digest 195 = .ok (.ladd, 1) := dk_97 (dk_at dksX3_digest_8 6 rfl rfl)
theorem dX3_digest_196 : decode cX3_digest 196 = .ok (.lstore_n 1, 1) := dk_64 (dk_at dksX3_digest_8 7 rfl rfl)
theorem dX3_digest_197 : decode cX3_digest 197 = .ok (.iinc 4 1, 3) := dk_132 4 1 (dk_at dksX3_digest_8 8 rfl rfl)
theorem dX3_digest_200 : decode cX3_digest 200 = .ok (.goto (-32), 3) := dk_167 255 224 (dk_at dksX3_digest_8 11 rfl rfl)
theorem dX3_digest_203 : decode cX3_digest 203 = .ok (.iinc 3 1, 3) := dk_132 3 1 (dk_at dksX3_digest_8 14 rfl rfl)
theorem dX3_digest_206 : decode cX3_digest 206 = .ok (.goto (-168), 3) := dk_167 255 88 (dk_at dksX3_digest_8 17 rfl rfl)
theorem dX3_digest_209 : decode cX3_digest 209 = .ok (.iconst 0, 1) := dk_3 (dk_at dksX3_digest_8 20 rfl rfl)
theorem dX3_digest_210 : decode cX3_digest 210 = .ok (.istore_n 3, 1) := dk_62 (dk_at dksX3_digest_8 21 rfl rfl)
theorem dX3_digest_211 : decode cX3_digest 211 = .ok (.iload_n 3, 1) := dk_29 (dk_at dksX3_digest_8 22 rfl rfl)
theorem dX3_digest_212 : decode cX3_digest 212 = .ok (.aload_n 0, 1) := dk_42 (dk_at dksX3_digest_8 23 rfl rfl)
theorem dX3_digest_213 : decode cX3_digest 213 = .ok (.getfield 20, 3) := dk_180 0 20 (dk_at dksX3_digest_9 0 rfl rfl)
theorem dX3_digest_216 : decode cX3_digest 216 = .ok (.invokeinterface 30 1, 5) := by decide +kernel
theorem dX3_digest_221 : decode cX3_digest 221 = .ok (.if_icmp .ge 101, 3) := dk_162 0 101 (dk_at dksX3_digest_9 8 rfl rfl)
theorem dX3_digest_224 : decode cX3_digest 224 = .ok (.aload_n 0, 1) := dk_42 (dk_at dksX3_digest_9 11 rfl rfl)
theorem dX3_digest_225 : decode cX3_digest 225 = .ok (.iload_n 3, 1) := dk_29 (dk_at dksX3_digest_9 12 rfl rfl)
theorem dX3_digest_226 : decode cX3_digest 226 = .ok (.invokevirtual 91, 3) := dk_182 0 91 (dk_at dksX3_digest_9 13 rfl rfl)
theorem dX3_digest_229 : decode cX3_digest 229 = .ok (.astore 4, 2) := dk_58 4 (dk_at dksX3_digest_9 16 rfl rfl)
theorem dX3_digest_231 : decode cX3_digest 231 = .ok (.aload 4, 2) := dk_25 4 (dk_at dksX3_digest_9 18 rfl rfl)
theorem dX3_digest_233 : decode cX3_digest 233 = .ok (.arraylength, 1) := dk_190 (dk_at dksX3_digest_9 20 rfl rfl)
theorem dX3_digest_234 : decode cX3_digest 234 = .ok (.istore 5, 2) := dk_54 5 (dk_at dksX3_digest_9 21 rfl rfl)
theorem dX3_digest_236 : decode cX3_digest 236 = .ok (.iconst 0, 1) := dk_3 (dk_at dksX3_digest_9 23 rfl rfl)
theorem dX3_digest_237 : decode cX3_digest 237 = .ok (.istore 6, 2) := dk_54 6 (dk_at dksX3_digest_10 0 rfl rfl)
theorem dX3_digest_239 : decode cX3_digest 239 = .ok (.iload 6, 2) := dk_21 6 (dk_at dksX3_digest_10 2 rfl rfl)
theorem dX3_digest_241 : decode cX3_digest 241 = .ok (.iload 5, 2) := dk_21 5 (dk_at dksX3_digest_10 4 rfl rfl)
theorem dX3_digest_243 : decode cX3_digest 243 = .ok (.if_icmp .ge 26, 3) := dk_162 0 26 (dk_at dksX3_digest_10 6 rfl rfl)
theorem dX3_digest_246 : decode cX3_digest 246 = .ok (.aload 4, 2) := dk_25 4 (dk_at dksX3_digest_10 9 rfl rfl)
theorem dX3_digest_248 : decode cX3_digest 248 = .ok (.iload 6, 2) := dk_21 6 (dk_at dksX3_digest_10 11 rfl rfl)
theorem dX3_digest_250 : decode cX3_digest 250 = .ok (.iaload, 1) := dk_46 (dk_at dksX3_digest_10 13 rfl rfl)
theorem dX3_digest_251 : decode cX3_digest 251 = .ok (.istore 7, 2) := dk_54 7 (dk_at dksX3_digest_10 14 rfl rfl)
theorem dX3_digest_253 : decode cX3_digest 253 = .ok (.lload_n 1, 1) := dk_31 (dk_at dksX3_digest_10 16 rfl rfl)
theorem dX3_digest_254 : decode cX3_digest 254 = .ok (.ldc2_w 268, 3) := dk_20 1 12 (dk_at dksX3_digest_10 17 rfl rfl)
theorem dX3_digest_257 : decode cX3_digest 257 = .ok (.lmul, 1) := dk_105 (dk_at dksX3_digest_10 20 rfl rfl)
theorem dX3_digest_258 : decode cX3_digest 258 = .ok (.iload 7, 2) := dk_21 7 (dk_at dksX3_digest_10 21 rfl rfl)
theorem dX3_digest_260 : decode cX3_digest 260 = .ok (.i2l, 1) := dk_133 (dk_at dksX3_digest_10 23 rfl rfl)
theorem dX3_digest_261 : decode cX3_digest 261 = .ok (.ladd, 1) := dk_97 (dk_at dksX3_digest_11 0 rfl rfl)
theorem dX3_digest_262 : decode cX3_digest 262 = .ok (.lstore_n 1, 1) := dk_64 (dk_at dksX3_digest_11 1 rfl rfl)
theorem dX3_digest_263 : decode cX3_digest 263 = .ok (.iinc 6 1, 3) := dk_132 6 1 (dk_at dksX3_digest_11 2 rfl rfl)
theorem dX3_digest_266 : decode cX3_digest 266 = .ok (.goto (-27), 3) := dk_167 255 229 (dk_at dksX3_digest_11 5 rfl rfl)
theorem dX3_digest_269 : decode cX3_digest 269 = .ok (.iconst 0, 1) := dk_3 (dk_at dksX3_digest_11 8 rfl rfl)
theorem dX3_digest_270 : decode cX3_digest 270 = .ok (.istore 4, 2) := dk_54 4 (dk_at dksX3_digest_11 9 rfl rfl)
theorem dX3_digest_272 : decode cX3_digest 272 = .ok (.iload 4, 2) := dk_21 4 (dk_at dksX3_digest_11 11 rfl rfl)
theorem dX3_digest_274 : decode cX3_digest 274 = .ok (.bipush 9, 2) := dk_16 9 (dk_at dksX3_digest_11 13 rfl rfl)
theorem dX3_digest_276 : decode cX3_digest 276 = .ok (.if_icmp .gt 24, 3) := dk_163 0 24 (dk_at dksX3_digest_11 15 rfl rfl)
theorem dX3_digest_279 : decode cX3_digest 279 = .ok (.lload_n 1, 1) := dk_31 (dk_at dksX3_digest_11 18 rfl rfl)
theorem dX3_digest_280 : decode cX3_digest 280 = .ok (.ldc2_w 268, 3) := dk_20 1 12 (dk_at dksX3_digest_11 19 rfl rfl)
theorem dX3_digest_283 : decode cX3_digest 283 = .ok (.lmul, 1) := dk_105 (dk_at dksX3_digest_11 22 rfl rfl)
theorem dX3_digest_284 : decode cX3_digest 284 = .ok (.aload_n 0, 1) := dk_42 (dk_at dksX3_digest_11 23 rfl rfl)
theorem dX3_digest_285 : decode cX3_digest 285 = .ok (.iload_n 3, 1) := dk_29 (dk_at dksX3_digest_12 0 rfl rfl)
theorem dX3_digest_286 : decode cX3_digest 286 = .ok (.iload 4, 2) := dk_21 4 (dk_at dksX3_digest_12 1 rfl rfl)
theorem dX3_digest_288 : decode cX3_digest 288 = .ok (.invokevirtual 188, 3) := dk_182 0 188 (dk_at dksX3_digest_12 3 rfl rfl)
theorem dX3_digest_291 : decode cX3_digest 291 = .ok (.i2l, 1) := dk_133 (dk_at dksX3_digest_12 6 rfl rfl)
theorem dX3_digest_292 : decode cX3_digest 292 = .ok (.ladd, 1) := dk_97 (dk_at dksX3_digest_12 7 rfl rfl)
theorem dX3_digest_293 : decode cX3_digest 293 = .ok (.lstore_n 1, 1) := dk_64 (dk_at dksX3_digest_12 8 rfl rfl)
theorem dX3_digest_294 : decode cX3_digest 294 = .ok (.iinc 4 1, 3) := dk_132 4 1 (dk_at dksX3_digest_12 9 rfl rfl)
theorem dX3_digest_297 : decode cX3_digest 297 = .ok (.goto (-25), 3) := dk_167 255 231 (dk_at dksX3_digest_12 12 rfl rfl)
theorem dX3_digest_300 : decode cX3_digest 300 = .ok (.lload_n 1, 1) := dk_31 (dk_at dksX3_digest_12 15 rfl rfl)
theorem dX3_digest_301 : decode cX3_digest 301 = .ok (.ldc2_w 268, 3) := dk_20 1 12 (dk_at dksX3_digest_12 16 rfl rfl)
theorem dX3_digest_304 : decode cX3_digest 304 = .ok (.lmul, 1) := dk_105 (dk_at dksX3_digest_12 19 rfl rfl)
theorem dX3_digest_305 : decode cX3_digest 305 = .ok (.aload_n 0, 1) := dk_42 (dk_at dksX3_digest_12 20 rfl rfl)
theorem dX3_digest_306 : decode cX3_digest 306 = .ok (.iload_n 3, 1) := dk_29 (dk_at dksX3_digest_12 21 rfl rfl)
theorem dX3_digest_307 : decode cX3_digest 307 = .ok (.invokevirtual 213, 3) := dk_182 0 213 (dk_at dksX3_digest_13 0 rfl rfl)
theorem dX3_digest_310 : decode cX3_digest 310 = .ok (.invokevirtual 270, 3) := dk_182 1 14 (dk_at dksX3_digest_13 3 rfl rfl)
theorem dX3_digest_313 : decode cX3_digest 313 = .ok (.i2l, 1) := dk_133 (dk_at dksX3_digest_13 6 rfl rfl)
theorem dX3_digest_314 : decode cX3_digest 314 = .ok (.ladd, 1) := dk_97 (dk_at dksX3_digest_13 7 rfl rfl)
theorem dX3_digest_315 : decode cX3_digest 315 = .ok (.lstore_n 1, 1) := dk_64 (dk_at dksX3_digest_13 8 rfl rfl)
theorem dX3_digest_316 : decode cX3_digest 316 = .ok (.iinc 3 1, 3) := dk_132 3 1 (dk_at dksX3_digest_13 9 rfl rfl)
theorem dX3_digest_319 : decode cX3_digest 319 = .ok (.goto (-108), 3) := dk_167 255 148 (dk_at dksX3_digest_13 12 rfl rfl)
theorem dX3_digest_322 : decode cX3_digest 322 = .ok (.lload_n 1, 1) := dk_31 (dk_at dksX3_digest_13 15 rfl rfl)
theorem dX3_digest_323 : decode cX3_digest 323 = .ok (.lreturn, 1) := dk_173 (dk_at dksX3_digest_13 16 rfl rfl)
theorem q67 : (Jvm.Cond.initialized "VersorhallModel") ∈ lw_all := lw_g (lw_at lw_m1 6 rfl) rfl
theorem q476 : (Jvm.Cond.selects "VersorhallModel" ({ cls := "java/lang/Object", name := "equals", desc := "(Ljava/lang/Object;)Z" } : Jvm.MethodName) ({ cls := "java/lang/Object", name := "equals", desc := "(Ljava/lang/Object;)Z" } : Jvm.MethodName)) ∈ lw_all := lw_g (lw_at lw_m2 175 rfl) rfl
theorem q1007 : (Jvm.Cond.selects "VersorhallModel" ({ cls := "java/lang/Object", name := "getClass", desc := "()Ljava/lang/Class;" } : Jvm.MethodName) ({ cls := "java/lang/Object", name := "getClass", desc := "()Ljava/lang/Class;" } : Jvm.MethodName)) ∈ lw_all := lw_g (lw_at lw_m4 226 rfl) rfl
theorem q1288 : (Jvm.Cond.selects "VersorhallModel" ({ cls := "java/lang/Object", name := "notifyAll", desc := "()V" } : Jvm.MethodName) ({ cls := "java/lang/Object", name := "notifyAll", desc := "()V" } : Jvm.MethodName)) ∈ lw_all := lw_g (lw_at lw_m6 27 rfl) rfl
theorem q1338 : (Jvm.Cond.selects "VersorhallModel" ({ cls := "java/lang/Object", name := "notify", desc := "()V" } : Jvm.MethodName) ({ cls := "java/lang/Object", name := "notify", desc := "()V" } : Jvm.MethodName)) ∈ lw_all := lw_g (lw_at lw_m6 77 rfl) rfl
theorem q1488 : (Jvm.Cond.instantiable "VersorhallModel" (5 : Nat)) ∈ lw_all := lw_g (lw_at lw_m6 227 rfl) rfl
theorem q1490 : (Jvm.Cond.instanceMethod ({ cls := "VersorhallModel", name := "<init>", desc := "()V" } : Jvm.MethodName)) ∈ lw_all := lw_g (lw_at lw_m6 229 rfl) rfl
theorem q1491 : (Jvm.Cond.code ({ cls := "VersorhallModel", name := "<init>", desc := "()V" } : Jvm.MethodName) prog_11_method_1_code (1 : Nat) (Option.none : Option Jvm.ClassFile.FieldType)) ∈ lw_all := lw_g (lw_at lw_m6 230 rfl) rfl
theorem q1492 : (Jvm.Cond.methodLink "VersorhallModel" (1 : Nat) ({ cls := "java/lang/Object", name := "<init>", desc := "()V" } : Jvm.MethodName)) ∈ lw_all := lw_g (lw_at lw_m6 231 rfl) rfl
theorem q1493 : (Jvm.Cond.classLink "VersorhallModel" (13 : Nat) "java/util/ArrayList") ∈ lw_all := lw_g (lw_at lw_m6 232 rfl) rfl
theorem q1494 : (Jvm.Cond.methodLink "VersorhallModel" (15 : Nat) ({ cls := "java/util/ArrayList", name := "<init>", desc := "()V" } : Jvm.MethodName)) ∈ lw_all := lw_g (lw_at lw_m6 233 rfl) rfl
theorem q1495 : (Jvm.Cond.fieldLink "VersorhallModel" (23 : Nat) "VersorhallModel" "thrown" "I") ∈ lw_all := lw_g (lw_at lw_m6 234 rfl) rfl
theorem q1496 : (Jvm.Cond.fieldLink "VersorhallModel" (7 : Nat) "VersorhallModel" "p" "I") ∈ lw_all := lw_g (lw_at lw_m6 235 rfl) rfl
theorem q1498 : (Jvm.Cond.fieldLink "VersorhallModel" (169 : Nat) "VersorhallModel" "knocks" "I") ∈ lw_all := lw_g (lw_at lw_m6 237 rfl) rfl
theorem q1499 : (Jvm.Cond.fieldLink "VersorhallModel" (16 : Nat) "VersorhallModel" "algebras" "Ljava/util/List;") ∈ lw_all := lw_g (lw_at lw_m6 238 rfl) rfl
theorem q1500 : (Jvm.Cond.fieldLink "VersorhallModel" (20 : Nat) "VersorhallModel" "elements" "Ljava/util/List;") ∈ lw_all := lw_g (lw_at lw_m6 239 rfl) rfl
theorem q1501 : (Jvm.Cond.lays "VersorhallModel" "VersorhallModel" "thrown" "I") ∈ lw_all := lw_g (lw_at lw_m7 0 rfl) rfl
theorem q1502 : (Jvm.Cond.soleField "VersorhallModel" "thrown") ∈ lw_all := lw_g (lw_at lw_m7 1 rfl) rfl
theorem q1503 : (Jvm.Cond.lays "VersorhallModel" "VersorhallModel" "p" "I") ∈ lw_all := lw_g (lw_at lw_m7 2 rfl) rfl
theorem q1504 : (Jvm.Cond.soleField "VersorhallModel" "p") ∈ lw_all := lw_g (lw_at lw_m7 3 rfl) rfl
theorem q1505 : (Jvm.Cond.lays "VersorhallModel" "VersorhallModel" "knocks" "I") ∈ lw_all := lw_g (lw_at lw_m7 4 rfl) rfl
theorem q1506 : (Jvm.Cond.soleField "VersorhallModel" "knocks") ∈ lw_all := lw_g (lw_at lw_m7 5 rfl) rfl
theorem q1507 : (Jvm.Cond.laysFinal "VersorhallModel" "VersorhallModel" "algebras" "Ljava/util/List;") ∈ lw_all := lw_g (lw_at lw_m7 6 rfl) rfl
theorem q1508 : (Jvm.Cond.soleField "VersorhallModel" "algebras") ∈ lw_all := lw_g (lw_at lw_m7 7 rfl) rfl
theorem q1509 : (Jvm.Cond.laysFinal "VersorhallModel" "VersorhallModel" "elements" "Ljava/util/List;") ∈ lw_all := lw_g (lw_at lw_m7 8 rfl) rfl
theorem q1510 : (Jvm.Cond.soleField "VersorhallModel" "elements") ∈ lw_all := lw_g (lw_at lw_m7 9 rfl) rfl
theorem q1511 : (Jvm.Cond.superclass "VersorhallModel" "java/lang/Object") ∈ lw_all := lw_g (lw_at lw_m7 10 rfl) rfl
theorem q1513 : (Jvm.Cond.instanceMethod ({ cls := "VersorhallModel", name := "thrown", desc := "()I" } : Jvm.MethodName)) ∈ lw_all := lw_g (lw_at lw_m7 12 rfl) rfl
theorem q1514 : (Jvm.Cond.selects "VersorhallModel" ({ cls := "VersorhallModel", name := "thrown", desc := "()I" } : Jvm.MethodName) ({ cls := "VersorhallModel", name := "thrown", desc := "()I" } : Jvm.MethodName)) ∈ lw_all := lw_g (lw_at lw_m7 13 rfl) rfl
theorem q1515 : (Jvm.Cond.code ({ cls := "VersorhallModel", name := "thrown", desc := "()I" } : Jvm.MethodName) prog_11_method_2_code (1 : Nat) (Option.some Jvm.ClassFile.FieldType.int)) ∈ lw_all := lw_g (lw_at lw_m7 14 rfl) rfl
theorem q1517 : (Jvm.Cond.instanceMethod ({ cls := "VersorhallModel", name := "prime", desc := "(I)I" } : Jvm.MethodName)) ∈ lw_all := lw_g (lw_at lw_m7 16 rfl) rfl
theorem q1518 : (Jvm.Cond.selects "VersorhallModel" ({ cls := "VersorhallModel", name := "prime", desc := "(I)I" } : Jvm.MethodName) ({ cls := "VersorhallModel", name := "prime", desc := "(I)I" } : Jvm.MethodName)) ∈ lw_all := lw_g (lw_at lw_m7 17 rfl) rfl
theorem q1519 : (Jvm.Cond.code ({ cls := "VersorhallModel", name := "prime", desc := "(I)I" } : Jvm.MethodName) prog_11_method_17_code (3 : Nat) (Option.some Jvm.ClassFile.FieldType.int)) ∈ lw_all := lw_g (lw_at lw_m7 18 rfl) rfl
theorem q1520 : (Jvm.Cond.methodLink "VersorhallModel" (58 : Nat) ({ cls := "VersorhallModel", name := "no", desc := "(I)I" } : Jvm.MethodName)) ∈ lw_all := lw_g (lw_at lw_m7 19 rfl) rfl
theorem q1521 : (Jvm.Cond.privateMethod ({ cls := "VersorhallModel", name := "no", desc := "(I)I" } : Jvm.MethodName)) ∈ lw_tbl := lw_at lw_m7 20 rfl
theorem q1522 : (Jvm.Cond.instanceMethod ({ cls := "VersorhallModel", name := "no", desc := "(I)I" } : Jvm.MethodName)) ∈ lw_all := lw_g (lw_at lw_m7 21 rfl) rfl
theorem q1523 : (Jvm.Cond.code ({ cls := "VersorhallModel", name := "no", desc := "(I)I" } : Jvm.MethodName) prog_11_method_3_code (2 : Nat) (Option.some Jvm.ClassFile.FieldType.int)) ∈ lw_all := lw_g (lw_at lw_m7 22 rfl) rfl
theorem q1524 : (Jvm.Cond.interfaceEntry "VersorhallModel" (30 : Nat)) ∈ lw_tbl := lw_at lw_m7 23 rfl
theorem q1525 : (Jvm.Cond.methodLink "VersorhallModel" (30 : Nat) ({ cls := "java/util/List", name := "size", desc := "()I" } : Jvm.MethodName)) ∈ lw_all := lw_g (lw_at lw_m7 24 rfl) rfl
theorem q1533 : (Jvm.Cond.instanceMethod ({ cls := "VersorhallModel", name := "algebra", desc := "(I)I" } : Jvm.MethodName)) ∈ lw_all := lw_g (lw_at lw_m7 32 rfl) rfl
theorem q1534 : (Jvm.Cond.selects "VersorhallModel" ({ cls := "VersorhallModel", name := "algebra", desc := "(I)I" } : Jvm.MethodName) ({ cls := "VersorhallModel", name := "algebra", desc := "(I)I" } : Jvm.MethodName)) ∈ lw_all := lw_g (lw_at lw_m7 33 rfl) rfl
theorem q1535 : (Jvm.Cond.code ({ cls := "VersorhallModel", name := "algebra", desc := "(I)I" } : Jvm.MethodName) prog_11_method_18_code (2 : Nat) (Option.some Jvm.ClassFile.FieldType.int)) ∈ lw_all := lw_g (lw_at lw_m7 34 rfl) rfl
theorem q1536 : (Jvm.Cond.methodLink "VersorhallModel" (36 : Nat) ({ cls := "VersorhallModel", name := "in", desc := "(III)Z" } : Jvm.MethodName)) ∈ lw_all := lw_g (lw_at lw_m7 35 rfl) rfl
theorem q1537 : (Jvm.Cond.static ({ cls := "VersorhallModel", name := "in", desc := "(III)Z" } : Jvm.MethodName)) ∈ lw_all := lw_g (lw_at lw_m7 36 rfl) rfl
theorem q1538 : (Jvm.Cond.code ({ cls := "VersorhallModel", name := "in", desc := "(III)Z" } : Jvm.MethodName) prog_11_method_4_code (3 : Nat) (Option.some Jvm.ClassFile.FieldType.boolean)) ∈ lw_all := lw_g (lw_at lw_m7 37 rfl) rfl
theorem q1539 : (Jvm.Cond.classLink "VersorhallModel" (53 : Nat) "VersorhallModel$Algebra") ∈ lw_all := lw_g (lw_at lw_m7 38 rfl) rfl
theorem q1541 : (Jvm.Cond.methodLink "VersorhallModel" (61 : Nat) ({ cls := "VersorhallModel$Algebra", name := "<init>", desc := "(LVersorhallModel;I)V" } : Jvm.MethodName)) ∈ lw_all := lw_g (lw_at lw_m7 40 rfl) rfl
theorem q1549 : (Jvm.Cond.fieldLink "VersorhallModel" (154 : Nat) "VersorhallModel$Algebra" "kind" "I") ∈ lw_all := lw_g (lw_at lw_m7 48 rfl) rfl
theorem q1551 : (Jvm.Cond.fieldLink "VersorhallModel" (253 : Nat) "VersorhallModel$Algebra" "dials" "[I") ∈ lw_all := lw_g (lw_at lw_m7 50 rfl) rfl
theorem q1553 : (Jvm.Cond.fieldLink "VersorhallModel" (224 : Nat) "VersorhallModel$Algebra" "signs" "[[I") ∈ lw_all := lw_g (lw_at lw_m7 52 rfl) rfl
theorem q1555 : (Jvm.Cond.fieldLink "VersorhallModel" (72 : Nat) "VersorhallModel$Algebra" "many" "I") ∈ lw_all := lw_g (lw_at lw_m7 54 rfl) rfl
theorem q1557 : (Jvm.Cond.fieldLink "VersorhallModel" (160 : Nat) "VersorhallModel$Algebra" "mirrors" "Ljava/util/List;") ∈ lw_all := lw_g (lw_at lw_m7 56 rfl) rfl
theorem q1572 : (Jvm.Cond.interfaceEntry "VersorhallModel" (64 : Nat)) ∈ lw_tbl := lw_at lw_m7 71 rfl
theorem q1573 : (Jvm.Cond.methodLink "VersorhallModel" (64 : Nat) ({ cls := "java/util/List", name := "add", desc := "(Ljava/lang/Object;)Z" } : Jvm.MethodName)) ∈ lw_all := lw_g (lw_at lw_m7 72 rfl) rfl
theorem q1580 : (Jvm.Cond.instanceMethod ({ cls := "VersorhallModel", name := "dial", desc := "(II)I" } : Jvm.MethodName)) ∈ lw_all := lw_g (lw_at lw_m7 79 rfl) rfl
theorem q1581 : (Jvm.Cond.selects "VersorhallModel" ({ cls := "VersorhallModel", name := "dial", desc := "(II)I" } : Jvm.MethodName) ({ cls := "VersorhallModel", name := "dial", desc := "(II)I" } : Jvm.MethodName)) ∈ lw_all := lw_g (lw_at lw_m7 80 rfl) rfl
theorem q1582 : (Jvm.Cond.code ({ cls := "VersorhallModel", name := "dial", desc := "(II)I" } : Jvm.MethodName) prog_11_method_20_code (3 : Nat) (Option.some Jvm.ClassFile.FieldType.int)) ∈ lw_all := lw_g (lw_at lw_m7 81 rfl) rfl
theorem q1583 : (Jvm.Cond.methodLink "VersorhallModel" (68 : Nat) ({ cls := "VersorhallModel", name := "isAlgebra", desc := "(I)Z" } : Jvm.MethodName)) ∈ lw_all := lw_g (lw_at lw_m7 82 rfl) rfl
theorem q1584 : (Jvm.Cond.privateMethod ({ cls := "VersorhallModel", name := "isAlgebra", desc := "(I)Z" } : Jvm.MethodName)) ∈ lw_tbl := lw_at lw_m7 83 rfl
theorem q1585 : (Jvm.Cond.instanceMethod ({ cls := "VersorhallModel", name := "isAlgebra", desc := "(I)Z" } : Jvm.MethodName)) ∈ lw_all := lw_g (lw_at lw_m7 84 rfl) rfl
theorem q1586 : (Jvm.Cond.code ({ cls := "VersorhallModel", name := "isAlgebra", desc := "(I)Z" } : Jvm.MethodName) prog_11_method_8_code (2 : Nat) (Option.some Jvm.ClassFile.FieldType.boolean)) ∈ lw_all := lw_g (lw_at lw_m7 85 rfl) rfl
theorem q1587 : (Jvm.Cond.interfaceEntry "VersorhallModel" (40 : Nat)) ∈ lw_tbl := lw_at lw_m7 86 rfl
theorem q1588 : (Jvm.Cond.methodLink "VersorhallModel" (40 : Nat) ({ cls := "java/util/List", name := "get", desc := "(I)Ljava/lang/Object;" } : Jvm.MethodName)) ∈ lw_all := lw_g (lw_at lw_m7 87 rfl) rfl
theorem q1594 : (Jvm.Cond.methodLink "VersorhallModel" (75 : Nat) ({ cls := "VersorhallModel", name := "elementsOf", desc := "(I)I" } : Jvm.MethodName)) ∈ lw_all := lw_g (lw_at lw_m7 93 rfl) rfl
theorem q1595 : (Jvm.Cond.privateMethod ({ cls := "VersorhallModel", name := "elementsOf", desc := "(I)I" } : Jvm.MethodName)) ∈ lw_tbl := lw_at lw_m7 94 rfl
theorem q1596 : (Jvm.Cond.instanceMethod ({ cls := "VersorhallModel", name := "elementsOf", desc := "(I)I" } : Jvm.MethodName)) ∈ lw_all := lw_g (lw_at lw_m7 95 rfl) rfl
theorem q1597 : (Jvm.Cond.code ({ cls := "VersorhallModel", name := "elementsOf", desc := "(I)I" } : Jvm.MethodName) prog_11_method_19_code (4 : Nat) (Option.some Jvm.ClassFile.FieldType.int)) ∈ lw_all := lw_g (lw_at lw_m7 96 rfl) rfl
theorem q1598 : (Jvm.Cond.classLink "VersorhallModel" (44 : Nat) "VersorhallModel$Element") ∈ lw_all := lw_g (lw_at lw_m7 97 rfl) rfl
theorem q1599 : (Jvm.Cond.methodLink "VersorhallModel" (78 : Nat) ({ cls := "VersorhallModel$Algebra", name := "dial", desc := "(I)V" } : Jvm.MethodName)) ∈ lw_all := lw_g (lw_at lw_m7 98 rfl) rfl
theorem q1617 : (Jvm.Cond.static ({ cls := "VersorhallModel", name := "grade", desc := "(I)I" } : Jvm.MethodName)) ∈ lw_all := lw_g (lw_at lw_m7 116 rfl) rfl
theorem q1618 : (Jvm.Cond.code ({ cls := "VersorhallModel", name := "grade", desc := "(I)I" } : Jvm.MethodName) prog_11_method_7_code (3 : Nat) (Option.some Jvm.ClassFile.FieldType.int)) ∈ lw_all := lw_g (lw_at lw_m7 117 rfl) rfl
theorem q1620 : (Jvm.Cond.privateMethod ({ cls := "VersorhallModel", name := "mod", desc := "(I)I" } : Jvm.MethodName)) ∈ lw_tbl := lw_at lw_m7 119 rfl
theorem q1621 : (Jvm.Cond.instanceMethod ({ cls := "VersorhallModel", name := "mod", desc := "(I)I" } : Jvm.MethodName)) ∈ lw_all := lw_g (lw_at lw_m7 120 rfl) rfl
theorem q1622 : (Jvm.Cond.code ({ cls := "VersorhallModel", name := "mod", desc := "(I)I" } : Jvm.MethodName) prog_11_method_5_code (2 : Nat) (Option.some Jvm.ClassFile.FieldType.int)) ∈ lw_all := lw_g (lw_at lw_m7 121 rfl) rfl
theorem q1627 : (Jvm.Cond.methodLink "VersorhallModel" (82 : Nat) ({ cls := "VersorhallModel$Algebra", name := "units", desc := "()I" } : Jvm.MethodName)) ∈ lw_all := lw_g (lw_at lw_m7 126 rfl) rfl
theorem q1629 : (Jvm.Cond.instanceMethod ({ cls := "VersorhallModel", name := "element", desc := "(I)I" } : Jvm.MethodName)) ∈ lw_all := lw_g (lw_at lw_m7 128 rfl) rfl
theorem q1630 : (Jvm.Cond.selects "VersorhallModel" ({ cls := "VersorhallModel", name := "element", desc := "(I)I" } : Jvm.MethodName) ({ cls := "VersorhallModel", name := "element", desc := "(I)I" } : Jvm.MethodName)) ∈ lw_all := lw_g (lw_at lw_m7 129 rfl) rfl
theorem q1631 : (Jvm.Cond.code ({ cls := "VersorhallModel", name := "element", desc := "(I)I" } : Jvm.MethodName) prog_11_method_21_code (2 : Nat) (Option.some Jvm.ClassFile.FieldType.int)) ∈ lw_all := lw_g (lw_at lw_m7 130 rfl) rfl
theorem q1633 : (Jvm.Cond.methodLink "VersorhallModel" (85 : Nat) ({ cls := "VersorhallModel$Element", name := "<init>", desc := "(II)V" } : Jvm.MethodName)) ∈ lw_all := lw_g (lw_at lw_m7 132 rfl) rfl
theorem q1638 : (Jvm.Cond.fieldLink "VersorhallModel" (46 : Nat) "VersorhallModel$Element" "algebra" "I") ∈ lw_all := lw_g (lw_at lw_m7 137 rfl) rfl
theorem q1640 : (Jvm.Cond.fieldLink "VersorhallModel" (49 : Nat) "VersorhallModel$Element" "row" "[I") ∈ lw_all := lw_g (lw_at lw_m7 139 rfl) rfl
theorem q1647 : (Jvm.Cond.instanceMethod ({ cls := "VersorhallModel", name := "set", desc := "(III)I" } : Jvm.MethodName)) ∈ lw_all := lw_g (lw_at lw_m7 146 rfl) rfl
theorem q1648 : (Jvm.Cond.selects "VersorhallModel" ({ cls := "VersorhallModel", name := "set", desc := "(III)I" } : Jvm.MethodName) ({ cls := "VersorhallModel", name := "set", desc := "(III)I" } : Jvm.MethodName)) ∈ lw_all := lw_g (lw_at lw_m7 147 rfl) rfl
theorem q1649 : (Jvm.Cond.code ({ cls := "VersorhallModel", name := "set", desc := "(III)I" } : Jvm.MethodName) prog_11_method_22_code (5 : Nat) (Option.some Jvm.ClassFile.FieldType.int)) ∈ lw_all := lw_g (lw_at lw_m7 148 rfl) rfl
theorem q1650 : (Jvm.Cond.methodLink "VersorhallModel" (88 : Nat) ({ cls := "VersorhallModel", name := "isElement", desc := "(I)Z" } : Jvm.MethodName)) ∈ lw_all := lw_g (lw_at lw_m7 149 rfl) rfl
theorem q1651 : (Jvm.Cond.privateMethod ({ cls := "VersorhallModel", name := "isElement", desc := "(I)Z" } : Jvm.MethodName)) ∈ lw_tbl := lw_at lw_m7 150 rfl
theorem q1652 : (Jvm.Cond.instanceMethod ({ cls := "VersorhallModel", name := "isElement", desc := "(I)Z" } : Jvm.MethodName)) ∈ lw_all := lw_g (lw_at lw_m7 151 rfl) rfl
theorem q1653 : (Jvm.Cond.code ({ cls := "VersorhallModel", name := "isElement", desc := "(I)Z" } : Jvm.MethodName) prog_11_method_9_code (2 : Nat) (Option.some Jvm.ClassFile.FieldType.boolean)) ∈ lw_all := lw_g (lw_at lw_m7 152 rfl) rfl
theorem q1654 : (Jvm.Cond.methodLink "VersorhallModel" (91 : Nat) ({ cls := "VersorhallModel", name := "row", desc := "(I)[I" } : Jvm.MethodName)) ∈ lw_all := lw_g (lw_at lw_m7 153 rfl) rfl
theorem q1655 : (Jvm.Cond.privateMethod ({ cls := "VersorhallModel", name := "row", desc := "(I)[I" } : Jvm.MethodName)) ∈ lw_tbl := lw_at lw_m7 154 rfl
theorem q1656 : (Jvm.Cond.instanceMethod ({ cls := "VersorhallModel", name := "row", desc := "(I)[I" } : Jvm.MethodName)) ∈ lw_all := lw_g (lw_at lw_m7 155 rfl) rfl
theorem q1657 : (Jvm.Cond.code ({ cls := "VersorhallModel", name := "row", desc := "(I)[I" } : Jvm.MethodName) prog_11_method_11_code (2 : Nat) (Option.some (Jvm.ClassFile.FieldType.array Jvm.ClassFile.FieldType.int))) ∈ lw_all := lw_g (lw_at lw_m7 156 rfl) rfl
theorem q1659 : (Jvm.Cond.instanceMethod ({ cls := "VersorhallModel", name := "sum", desc := "(III)I" } : Jvm.MethodName)) ∈ lw_all := lw_g (lw_at lw_m7 158 rfl) rfl
theorem q1660 : (Jvm.Cond.selects "VersorhallModel" ({ cls := "VersorhallModel", name := "sum", desc := "(III)I" } : Jvm.MethodName) ({ cls := "VersorhallModel", name := "sum", desc := "(III)I" } : Jvm.MethodName)) ∈ lw_all := lw_g (lw_at lw_m7 159 rfl) rfl
theorem q1661 : (Jvm.Cond.code ({ cls := "VersorhallModel", name := "sum", desc := "(III)I" } : Jvm.MethodName) prog_11_method_23_code (4 : Nat) (Option.some Jvm.ClassFile.FieldType.int)) ∈ lw_all := lw_g (lw_at lw_m7 160 rfl) rfl
theorem q1662 : (Jvm.Cond.methodLink "VersorhallModel" (94 : Nat) ({ cls := "VersorhallModel", name := "areOne", desc := "(II)Z" } : Jvm.MethodName)) ∈ lw_all := lw_g (lw_at lw_m7 161 rfl) rfl
theorem q1663 : (Jvm.Cond.privateMethod ({ cls := "VersorhallModel", name := "areOne", desc := "(II)Z" } : Jvm.MethodName)) ∈ lw_tbl := lw_at lw_m7 162 rfl
theorem q1664 : (Jvm.Cond.instanceMethod ({ cls := "VersorhallModel", name := "areOne", desc := "(II)Z" } : Jvm.MethodName)) ∈ lw_all := lw_g (lw_at lw_m7 163 rfl) rfl
theorem q1665 : (Jvm.Cond.code ({ cls := "VersorhallModel", name := "areOne", desc := "(II)Z" } : Jvm.MethodName) prog_11_method_10_code (3 : Nat) (Option.some Jvm.ClassFile.FieldType.boolean)) ∈ lw_all := lw_g (lw_at lw_m7 164 rfl) rfl
theorem q1666 : (Jvm.Cond.methodLink "VersorhallModel" (98 : Nat) ({ cls := "VersorhallModel", name := "plus", desc := "([I[II)[I" } : Jvm.MethodName)) ∈ lw_all := lw_g (lw_at lw_m7 165 rfl) rfl
theorem q1667 : (Jvm.Cond.privateMethod ({ cls := "VersorhallModel", name := "plus", desc := "([I[II)[I" } : Jvm.MethodName)) ∈ lw_tbl := lw_at lw_m7 166 rfl
theorem q1668 : (Jvm.Cond.instanceMethod ({ cls := "VersorhallModel", name := "plus", desc := "([I[II)[I" } : Jvm.MethodName)) ∈ lw_all := lw_g (lw_at lw_m7 167 rfl) rfl
theorem q1669 : (Jvm.Cond.code ({ cls := "VersorhallModel", name := "plus", desc := "([I[II)[I" } : Jvm.MethodName) prog_11_method_24_code (6 : Nat) (Option.some (Jvm.ClassFile.FieldType.array Jvm.ClassFile.FieldType.int))) ∈ lw_all := lw_g (lw_at lw_m7 168 rfl) rfl
theorem q1670 : (Jvm.Cond.methodLink "VersorhallModel" (26 : Nat) ({ cls := "VersorhallModel", name := "mod", desc := "(I)I" } : Jvm.MethodName)) ∈ lw_all := lw_g (lw_at lw_m7 169 rfl) rfl
theorem q1671 : (Jvm.Cond.methodLink "VersorhallModel" (102 : Nat) ({ cls := "VersorhallModel", name := "put", desc := "(I[I)I" } : Jvm.MethodName)) ∈ lw_all := lw_g (lw_at lw_m7 170 rfl) rfl
theorem q1672 : (Jvm.Cond.privateMethod ({ cls := "VersorhallModel", name := "put", desc := "(I[I)I" } : Jvm.MethodName)) ∈ lw_tbl := lw_at lw_m7 171 rfl
theorem q1673 : (Jvm.Cond.instanceMethod ({ cls := "VersorhallModel", name := "put", desc := "(I[I)I" } : Jvm.MethodName)) ∈ lw_all := lw_g (lw_at lw_m7 172 rfl) rfl
theorem q1674 : (Jvm.Cond.code ({ cls := "VersorhallModel", name := "put", desc := "(I[I)I" } : Jvm.MethodName) prog_11_method_16_code (3 : Nat) (Option.some Jvm.ClassFile.FieldType.int)) ∈ lw_all := lw_g (lw_at lw_m7 173 rfl) rfl
theorem q1675 : (Jvm.Cond.methodLink "VersorhallModel" (55 : Nat) ({ cls := "VersorhallModel", name := "size", desc := "([I)I" } : Jvm.MethodName)) ∈ lw_all := lw_g (lw_at lw_m7 174 rfl) rfl
theorem q1676 : (Jvm.Cond.static ({ cls := "VersorhallModel", name := "size", desc := "([I)I" } : Jvm.MethodName)) ∈ lw_all := lw_g (lw_at lw_m7 175 rfl) rfl
theorem q1677 : (Jvm.Cond.code ({ cls := "VersorhallModel", name := "size", desc := "([I)I" } : Jvm.MethodName) prog_11_method_13_code (6 : Nat) (Option.some Jvm.ClassFile.FieldType.int)) ∈ lw_all := lw_g (lw_at lw_m7 176 rfl) rfl
theorem q1679 : (Jvm.Cond.instanceMethod ({ cls := "VersorhallModel", name := "product", desc := "(III)I" } : Jvm.MethodName)) ∈ lw_all := lw_g (lw_at lw_m7 178 rfl) rfl
theorem q1680 : (Jvm.Cond.selects "VersorhallModel" ({ cls := "VersorhallModel", name := "product", desc := "(III)I" } : Jvm.MethodName) ({ cls := "VersorhallModel", name := "product", desc := "(III)I" } : Jvm.MethodName)) ∈ lw_all := lw_g (lw_at lw_m7 179 rfl) rfl
theorem q1681 : (Jvm.Cond.code ({ cls := "VersorhallModel", name := "product", desc := "(III)I" } : Jvm.MethodName) prog_11_method_25_code (4 : Nat) (Option.some Jvm.ClassFile.FieldType.int)) ∈ lw_all := lw_g (lw_at lw_m7 180 rfl) rfl
theorem q1682 : (Jvm.Cond.methodLink "VersorhallModel" (106 : Nat) ({ cls := "VersorhallModel", name := "home", desc := "(I)LVersorhallModel$Algebra;" } : Jvm.MethodName)) ∈ lw_all := lw_g (lw_at lw_m7 181 rfl) rfl
theorem q1683 : (Jvm.Cond.privateMethod ({ cls := "VersorhallModel", name := "home", desc := "(I)LVersorhallModel$Algebra;" } : Jvm.MethodName)) ∈ lw_tbl := lw_at lw_m7 182 rfl
theorem q1684 : (Jvm.Cond.instanceMethod ({ cls := "VersorhallModel", name := "home", desc := "(I)LVersorhallModel$Algebra;" } : Jvm.MethodName)) ∈ lw_all := lw_g (lw_at lw_m7 183 rfl) rfl
theorem q1685 : (Jvm.Cond.code ({ cls := "VersorhallModel", name := "home", desc := "(I)LVersorhallModel$Algebra;" } : Jvm.MethodName) prog_11_method_12_code (2 : Nat) (Option.some (Jvm.ClassFile.FieldType.object "VersorhallModel$Algebra"))) ∈ lw_all := lw_g (lw_at lw_m7 184 rfl) rfl
theorem q1686 : (Jvm.Cond.methodLink "VersorhallModel" (110 : Nat) ({ cls := "VersorhallModel$Algebra", name := "times", desc := "([I[I)[I" } : Jvm.MethodName)) ∈ lw_all := lw_g (lw_at lw_m7 185 rfl) rfl
theorem q1691 : (Jvm.Cond.instanceMethod ({ cls := "VersorhallModel", name := "scale", desc := "(III)I" } : Jvm.MethodName)) ∈ lw_all := lw_g (lw_at lw_m7 190 rfl) rfl
theorem q1692 : (Jvm.Cond.selects "VersorhallModel" ({ cls := "VersorhallModel", name := "scale", desc := "(III)I" } : Jvm.MethodName) ({ cls := "VersorhallModel", name := "scale", desc := "(III)I" } : Jvm.MethodName)) ∈ lw_all := lw_g (lw_at lw_m7 191 rfl) rfl
theorem q1693 : (Jvm.Cond.code ({ cls := "VersorhallModel", name := "scale", desc := "(III)I" } : Jvm.MethodName) prog_11_method_26_code (4 : Nat) (Option.some Jvm.ClassFile.FieldType.int)) ∈ lw_all := lw_g (lw_at lw_m7 192 rfl) rfl
theorem q1694 : (Jvm.Cond.methodLink "VersorhallModel" (114 : Nat) ({ cls := "VersorhallModel$Algebra", name := "scaled", desc := "([II)[I" } : Jvm.MethodName)) ∈ lw_all := lw_g (lw_at lw_m7 193 rfl) rfl
theorem q1699 : (Jvm.Cond.instanceMethod ({ cls := "VersorhallModel", name := "conjugate", desc := "(II)I" } : Jvm.MethodName)) ∈ lw_all := lw_g (lw_at lw_m7 198 rfl) rfl
theorem q1700 : (Jvm.Cond.selects "VersorhallModel" ({ cls := "VersorhallModel", name := "conjugate", desc := "(II)I" } : Jvm.MethodName) ({ cls := "VersorhallModel", name := "conjugate", desc := "(II)I" } : Jvm.MethodName)) ∈ lw_all := lw_g (lw_at lw_m7 199 rfl) rfl
theorem q1701 : (Jvm.Cond.code ({ cls := "VersorhallModel", name := "conjugate", desc := "(II)I" } : Jvm.MethodName) prog_11_method_27_code (3 : Nat) (Option.some Jvm.ClassFile.FieldType.int)) ∈ lw_all := lw_g (lw_at lw_m7 200 rfl) rfl
theorem q1702 : (Jvm.Cond.methodLink "VersorhallModel" (118 : Nat) ({ cls := "VersorhallModel$Algebra", name := "conjugated", desc := "([I)[I" } : Jvm.MethodName)) ∈ lw_all := lw_g (lw_at lw_m7 201 rfl) rfl
theorem q1707 : (Jvm.Cond.instanceMethod ({ cls := "VersorhallModel", name := "power", desc := "(III)I" } : Jvm.MethodName)) ∈ lw_all := lw_g (lw_at lw_m7 206 rfl) rfl
theorem q1708 : (Jvm.Cond.selects "VersorhallModel" ({ cls := "VersorhallModel", name := "power", desc := "(III)I" } : Jvm.MethodName) ({ cls := "VersorhallModel", name := "power", desc := "(III)I" } : Jvm.MethodName)) ∈ lw_all := lw_g (lw_at lw_m7 207 rfl) rfl
theorem q1709 : (Jvm.Cond.code ({ cls := "VersorhallModel", name := "power", desc := "(III)I" } : Jvm.MethodName) prog_11_method_28_code (4 : Nat) (Option.some Jvm.ClassFile.FieldType.int)) ∈ lw_all := lw_g (lw_at lw_m7 208 rfl) rfl
theorem q1710 : (Jvm.Cond.methodLink "VersorhallModel" (122 : Nat) ({ cls := "VersorhallModel$Algebra", name := "power", desc := "([II)[I" } : Jvm.MethodName)) ∈ lw_all := lw_g (lw_at lw_m7 209 rfl) rfl
theorem q1720 : (Jvm.Cond.instanceMethod ({ cls := "VersorhallModel", name := "invert", desc := "(II)I" } : Jvm.MethodName)) ∈ lw_all := lw_g (lw_at lw_m7 219 rfl) rfl
theorem q1721 : (Jvm.Cond.selects "VersorhallModel" ({ cls := "VersorhallModel", name := "invert", desc := "(II)I" } : Jvm.MethodName) ({ cls := "VersorhallModel", name := "invert", desc := "(II)I" } : Jvm.MethodName)) ∈ lw_all := lw_g (lw_at lw_m7 220 rfl) rfl
theorem q1722 : (Jvm.Cond.code ({ cls := "VersorhallModel", name := "invert", desc := "(II)I" } : Jvm.MethodName) prog_11_method_29_code (5 : Nat) (Option.some Jvm.ClassFile.FieldType.int)) ∈ lw_all := lw_g (lw_at lw_m7 221 rfl) rfl
theorem q1723 : (Jvm.Cond.methodLink "VersorhallModel" (125 : Nat) ({ cls := "VersorhallModel", name := "isPlain", desc := "([I)Z" } : Jvm.MethodName)) ∈ lw_all := lw_g (lw_at lw_m7 222 rfl) rfl
theorem q1724 : (Jvm.Cond.static ({ cls := "VersorhallModel", name := "isPlain", desc := "([I)Z" } : Jvm.MethodName)) ∈ lw_all := lw_g (lw_at lw_m7 223 rfl) rfl
theorem q1725 : (Jvm.Cond.code ({ cls := "VersorhallModel", name := "isPlain", desc := "([I)Z" } : Jvm.MethodName) prog_11_method_14_code (1 : Nat) (Option.some Jvm.ClassFile.FieldType.boolean)) ∈ lw_all := lw_g (lw_at lw_m7 224 rfl) rfl
theorem q1726 : (Jvm.Cond.methodLink "VersorhallModel" (129 : Nat) ({ cls := "VersorhallModel", name := "inverse", desc := "(I)I" } : Jvm.MethodName)) ∈ lw_all := lw_g (lw_at lw_m7 225 rfl) rfl
theorem q1727 : (Jvm.Cond.privateMethod ({ cls := "VersorhallModel", name := "inverse", desc := "(I)I" } : Jvm.MethodName)) ∈ lw_tbl := lw_at lw_m7 226 rfl
theorem q1728 : (Jvm.Cond.instanceMethod ({ cls := "VersorhallModel", name := "inverse", desc := "(I)I" } : Jvm.MethodName)) ∈ lw_all := lw_g (lw_at lw_m7 227 rfl) rfl
theorem q1729 : (Jvm.Cond.code ({ cls := "VersorhallModel", name := "inverse", desc := "(I)I" } : Jvm.MethodName) prog_11_method_6_code (3 : Nat) (Option.some Jvm.ClassFile.FieldType.int)) ∈ lw_all := lw_g (lw_at lw_m7 228 rfl) rfl
theorem q1731 : (Jvm.Cond.instanceMethod ({ cls := "VersorhallModel", name := "series", desc := "(II)I" } : Jvm.MethodName)) ∈ lw_all := lw_g (lw_at lw_m7 230 rfl) rfl
theorem q1732 : (Jvm.Cond.selects "VersorhallModel" ({ cls := "VersorhallModel", name := "series", desc := "(II)I" } : Jvm.MethodName) ({ cls := "VersorhallModel", name := "series", desc := "(II)I" } : Jvm.MethodName)) ∈ lw_all := lw_g (lw_at lw_m7 231 rfl) rfl
theorem q1733 : (Jvm.Cond.code ({ cls := "VersorhallModel", name := "series", desc := "(II)I" } : Jvm.MethodName) prog_11_method_31_code (7 : Nat) (Option.some Jvm.ClassFile.FieldType.int)) ∈ lw_all := lw_g (lw_at lw_m7 232 rfl) rfl
theorem q1734 : (Jvm.Cond.methodLink "VersorhallModel" (136 : Nat) ({ cls := "VersorhallModel", name := "nilOf", desc := "(I)I" } : Jvm.MethodName)) ∈ lw_all := lw_g (lw_at lw_m7 233 rfl) rfl
theorem q1735 : (Jvm.Cond.privateMethod ({ cls := "VersorhallModel", name := "nilOf", desc := "(I)I" } : Jvm.MethodName)) ∈ lw_tbl := lw_at lw_m7 234 rfl
theorem q1736 : (Jvm.Cond.instanceMethod ({ cls := "VersorhallModel", name := "nilOf", desc := "(I)I" } : Jvm.MethodName)) ∈ lw_all := lw_g (lw_at lw_m7 235 rfl) rfl
theorem q1737 : (Jvm.Cond.code ({ cls := "VersorhallModel", name := "nilOf", desc := "(I)I" } : Jvm.MethodName) prog_11_method_30_code (4 : Nat) (Option.some Jvm.ClassFile.FieldType.int)) ∈ lw_all := lw_g (lw_at lw_m7 236 rfl) rfl
theorem q1738 : (Jvm.Cond.methodLink "VersorhallModel" (132 : Nat) ({ cls := "VersorhallModel$Algebra", name := "one", desc := "()[I" } : Jvm.MethodName)) ∈ lw_all := lw_g (lw_at lw_m7 237 rfl) rfl
theorem q1740 : (Jvm.Cond.instanceMethod ({ cls := "VersorhallModel", name := "killer", desc := "(II)I" } : Jvm.MethodName)) ∈ lw_all := lw_g (lw_at lw_m7 239 rfl) rfl
theorem q1741 : (Jvm.Cond.selects "VersorhallModel" ({ cls := "VersorhallModel", name := "killer", desc := "(II)I" } : Jvm.MethodName) ({ cls := "VersorhallModel", name := "killer", desc := "(II)I" } : Jvm.MethodName)) ∈ lw_all := lw_g (lw_at lw_m8 0 rfl) rfl
theorem q1742 : (Jvm.Cond.code ({ cls := "VersorhallModel", name := "killer", desc := "(II)I" } : Jvm.MethodName) prog_11_method_35_code (6 : Nat) (Option.some Jvm.ClassFile.FieldType.int)) ∈ lw_all := lw_g (lw_at lw_m8 1 rfl) rfl
theorem q1743 : (Jvm.Cond.classLink "VersorhallModel" (144 : Nat) "[[I") ∈ lw_all := lw_g (lw_at lw_m8 2 rfl) rfl
theorem q1744 : (Jvm.Cond.methodLink "VersorhallModel" (146 : Nat) ({ cls := "VersorhallModel", name := "columns", desc := "(IZ)[[I" } : Jvm.MethodName)) ∈ lw_all := lw_g (lw_at lw_m8 3 rfl) rfl
theorem q1745 : (Jvm.Cond.privateMethod ({ cls := "VersorhallModel", name := "columns", desc := "(IZ)[[I" } : Jvm.MethodName)) ∈ lw_tbl := lw_at lw_m8 4 rfl
theorem q1746 : (Jvm.Cond.instanceMethod ({ cls := "VersorhallModel", name := "columns", desc := "(IZ)[[I" } : Jvm.MethodName)) ∈ lw_all := lw_g (lw_at lw_m8 5 rfl) rfl
theorem q1747 : (Jvm.Cond.code ({ cls := "VersorhallModel", name := "columns", desc := "(IZ)[[I" } : Jvm.MethodName) prog_11_method_32_code (7 : Nat) (Option.some (Jvm.ClassFile.FieldType.array (Jvm.ClassFile.FieldType.array Jvm.ClassFile.FieldType.int)))) ∈ lw_all := lw_g (lw_at lw_m8 6 rfl) rfl
theorem q1748 : (Jvm.Cond.classLink "VersorhallModel" (139 : Nat) "[I") ∈ lw_all := lw_g (lw_at lw_m8 7 rfl) rfl
theorem q1749 : (Jvm.Cond.methodLink "VersorhallModel" (150 : Nat) ({ cls := "VersorhallModel", name := "free", desc := "([[I[[IZ)I" } : Jvm.MethodName)) ∈ lw_all := lw_g (lw_at lw_m8 8 rfl) rfl
theorem q1750 : (Jvm.Cond.privateMethod ({ cls := "VersorhallModel", name := "free", desc := "([[I[[IZ)I" } : Jvm.MethodName)) ∈ lw_tbl := lw_at lw_m8 9 rfl
theorem q1751 : (Jvm.Cond.instanceMethod ({ cls := "VersorhallModel", name := "free", desc := "([[I[[IZ)I" } : Jvm.MethodName)) ∈ lw_all := lw_g (lw_at lw_m8 10 rfl) rfl
theorem q1752 : (Jvm.Cond.code ({ cls := "VersorhallModel", name := "free", desc := "([[I[[IZ)I" } : Jvm.MethodName) prog_11_method_34_code (10 : Nat) (Option.some Jvm.ClassFile.FieldType.int)) ∈ lw_all := lw_g (lw_at lw_m8 11 rfl) rfl
theorem q1753 : (Jvm.Cond.methodLink "VersorhallModel" (140 : Nat) ({ cls := "VersorhallModel", name := "less", desc := "([I[II)V" } : Jvm.MethodName)) ∈ lw_all := lw_g (lw_at lw_m8 12 rfl) rfl
theorem q1754 : (Jvm.Cond.privateMethod ({ cls := "VersorhallModel", name := "less", desc := "([I[II)V" } : Jvm.MethodName)) ∈ lw_tbl := lw_at lw_m8 13 rfl
theorem q1755 : (Jvm.Cond.instanceMethod ({ cls := "VersorhallModel", name := "less", desc := "([I[II)V" } : Jvm.MethodName)) ∈ lw_all := lw_g (lw_at lw_m8 14 rfl) rfl
theorem q1756 : (Jvm.Cond.code ({ cls := "VersorhallModel", name := "less", desc := "([I[II)V" } : Jvm.MethodName) prog_11_method_33_code (5 : Nat) (Option.none : Option Jvm.ClassFile.FieldType)) ∈ lw_all := lw_g (lw_at lw_m8 15 rfl) rfl
theorem q1758 : (Jvm.Cond.instanceMethod ({ cls := "VersorhallModel", name := "hang", desc := "(I)I" } : Jvm.MethodName)) ∈ lw_all := lw_g (lw_at lw_m8 17 rfl) rfl
theorem q1759 : (Jvm.Cond.selects "VersorhallModel" ({ cls := "VersorhallModel", name := "hang", desc := "(I)I" } : Jvm.MethodName) ({ cls := "VersorhallModel", name := "hang", desc := "(I)I" } : Jvm.MethodName)) ∈ lw_all := lw_g (lw_at lw_m8 18 rfl) rfl
theorem q1760 : (Jvm.Cond.code ({ cls := "VersorhallModel", name := "hang", desc := "(I)I" } : Jvm.MethodName) prog_11_method_38_code (3 : Nat) (Option.some Jvm.ClassFile.FieldType.int)) ∈ lw_all := lw_g (lw_at lw_m8 19 rfl) rfl
theorem q1761 : (Jvm.Cond.methodLink "VersorhallModel" (163 : Nat) ({ cls := "VersorhallModel", name := "isVector", desc := "(I)Z" } : Jvm.MethodName)) ∈ lw_all := lw_g (lw_at lw_m8 20 rfl) rfl
theorem q1762 : (Jvm.Cond.privateMethod ({ cls := "VersorhallModel", name := "isVector", desc := "(I)Z" } : Jvm.MethodName)) ∈ lw_tbl := lw_at lw_m8 21 rfl
theorem q1763 : (Jvm.Cond.instanceMethod ({ cls := "VersorhallModel", name := "isVector", desc := "(I)Z" } : Jvm.MethodName)) ∈ lw_all := lw_g (lw_at lw_m8 22 rfl) rfl
theorem q1764 : (Jvm.Cond.code ({ cls := "VersorhallModel", name := "isVector", desc := "(I)Z" } : Jvm.MethodName) prog_11_method_36_code (4 : Nat) (Option.some Jvm.ClassFile.FieldType.boolean)) ∈ lw_all := lw_g (lw_at lw_m8 23 rfl) rfl
theorem q1765 : (Jvm.Cond.methodLink "VersorhallModel" (157 : Nat) ({ cls := "VersorhallModel", name := "grade", desc := "(I)I" } : Jvm.MethodName)) ∈ lw_all := lw_g (lw_at lw_m8 24 rfl) rfl
theorem q1766 : (Jvm.Cond.methodLink "VersorhallModel" (166 : Nat) ({ cls := "VersorhallModel", name := "squareOf", desc := "(I)I" } : Jvm.MethodName)) ∈ lw_all := lw_g (lw_at lw_m8 25 rfl) rfl
theorem q1767 : (Jvm.Cond.privateMethod ({ cls := "VersorhallModel", name := "squareOf", desc := "(I)I" } : Jvm.MethodName)) ∈ lw_tbl := lw_at lw_m8 26 rfl
theorem q1768 : (Jvm.Cond.instanceMethod ({ cls := "VersorhallModel", name := "squareOf", desc := "(I)I" } : Jvm.MethodName)) ∈ lw_all := lw_g (lw_at lw_m8 27 rfl) rfl
theorem q1769 : (Jvm.Cond.code ({ cls := "VersorhallModel", name := "squareOf", desc := "(I)I" } : Jvm.MethodName) prog_11_method_37_code (2 : Nat) (Option.some Jvm.ClassFile.FieldType.int)) ∈ lw_all := lw_g (lw_at lw_m8 28 rfl) rfl
theorem q1771 : (Jvm.Cond.instanceMethod ({ cls := "VersorhallModel", name := "clear", desc := "(I)I" } : Jvm.MethodName)) ∈ lw_all := lw_g (lw_at lw_m8 30 rfl) rfl
theorem q1772 : (Jvm.Cond.selects "VersorhallModel" ({ cls := "VersorhallModel", name := "clear", desc := "(I)I" } : Jvm.MethodName) ({ cls := "VersorhallModel", name := "clear", desc := "(I)I" } : Jvm.MethodName)) ∈ lw_all := lw_g (lw_at lw_m8 31 rfl) rfl
theorem q1773 : (Jvm.Cond.code ({ cls := "VersorhallModel", name := "clear", desc := "(I)I" } : Jvm.MethodName) prog_11_method_39_code (4 : Nat) (Option.some Jvm.ClassFile.FieldType.int)) ∈ lw_all := lw_g (lw_at lw_m8 32 rfl) rfl
theorem q1774 : (Jvm.Cond.interfaceEntry "VersorhallModel" (172 : Nat)) ∈ lw_tbl := lw_at lw_m8 33 rfl
theorem q1775 : (Jvm.Cond.methodLink "VersorhallModel" (172 : Nat) ({ cls := "java/util/List", name := "remove", desc := "(I)Ljava/lang/Object;" } : Jvm.MethodName)) ∈ lw_all := lw_g (lw_at lw_m8 34 rfl) rfl
theorem q1782 : (Jvm.Cond.instanceMethod ({ cls := "VersorhallModel", name := "mirror", desc := "(III)I" } : Jvm.MethodName)) ∈ lw_all := lw_g (lw_at lw_m8 41 rfl) rfl
theorem q1783 : (Jvm.Cond.selects "VersorhallModel" ({ cls := "VersorhallModel", name := "mirror", desc := "(III)I" } : Jvm.MethodName) ({ cls := "VersorhallModel", name := "mirror", desc := "(III)I" } : Jvm.MethodName)) ∈ lw_all := lw_g (lw_at lw_m8 42 rfl) rfl
theorem q1784 : (Jvm.Cond.code ({ cls := "VersorhallModel", name := "mirror", desc := "(III)I" } : Jvm.MethodName) prog_11_method_40_code (4 : Nat) (Option.some Jvm.ClassFile.FieldType.int)) ∈ lw_all := lw_g (lw_at lw_m8 43 rfl) rfl
theorem q1785 : (Jvm.Cond.methodLink "VersorhallModel" (175 : Nat) ({ cls := "VersorhallModel$Algebra", name := "mirrored", desc := "([I[I)[I" } : Jvm.MethodName)) ∈ lw_all := lw_g (lw_at lw_m8 44 rfl) rfl
theorem q1792 : (Jvm.Cond.instanceMethod ({ cls := "VersorhallModel", name := "turn", desc := "(II)I" } : Jvm.MethodName)) ∈ lw_all := lw_g (lw_at lw_m8 51 rfl) rfl
theorem q1793 : (Jvm.Cond.selects "VersorhallModel" ({ cls := "VersorhallModel", name := "turn", desc := "(II)I" } : Jvm.MethodName) ({ cls := "VersorhallModel", name := "turn", desc := "(II)I" } : Jvm.MethodName)) ∈ lw_all := lw_g (lw_at lw_m8 52 rfl) rfl
theorem q1794 : (Jvm.Cond.code ({ cls := "VersorhallModel", name := "turn", desc := "(II)I" } : Jvm.MethodName) prog_11_method_41_code (6 : Nat) (Option.some Jvm.ClassFile.FieldType.int)) ∈ lw_all := lw_g (lw_at lw_m8 53 rfl) rfl
theorem q1796 : (Jvm.Cond.instanceMethod ({ cls := "VersorhallModel", name := "versor", desc := "(I)I" } : Jvm.MethodName)) ∈ lw_all := lw_g (lw_at lw_m8 55 rfl) rfl
theorem q1797 : (Jvm.Cond.selects "VersorhallModel" ({ cls := "VersorhallModel", name := "versor", desc := "(I)I" } : Jvm.MethodName) ({ cls := "VersorhallModel", name := "versor", desc := "(I)I" } : Jvm.MethodName)) ∈ lw_all := lw_g (lw_at lw_m8 56 rfl) rfl
theorem q1798 : (Jvm.Cond.code ({ cls := "VersorhallModel", name := "versor", desc := "(I)I" } : Jvm.MethodName) prog_11_method_42_code (5 : Nat) (Option.some Jvm.ClassFile.FieldType.int)) ∈ lw_all := lw_g (lw_at lw_m8 57 rfl) rfl
theorem q1800 : (Jvm.Cond.instanceMethod ({ cls := "VersorhallModel", name := "run", desc := "(II)I" } : Jvm.MethodName)) ∈ lw_all := lw_g (lw_at lw_m8 59 rfl) rfl
theorem q1801 : (Jvm.Cond.selects "VersorhallModel" ({ cls := "VersorhallModel", name := "run", desc := "(II)I" } : Jvm.MethodName) ({ cls := "VersorhallModel", name := "run", desc := "(II)I" } : Jvm.MethodName)) ∈ lw_all := lw_g (lw_at lw_m8 60 rfl) rfl
theorem q1802 : (Jvm.Cond.code ({ cls := "VersorhallModel", name := "run", desc := "(II)I" } : Jvm.MethodName) prog_11_method_43_code (11 : Nat) (Option.some Jvm.ClassFile.FieldType.int)) ∈ lw_all := lw_g (lw_at lw_m8 61 rfl) rfl
theorem q1804 : (Jvm.Cond.instanceMethod ({ cls := "VersorhallModel", name := "at", desc := "(II)I" } : Jvm.MethodName)) ∈ lw_all := lw_g (lw_at lw_m8 63 rfl) rfl
theorem q1805 : (Jvm.Cond.selects "VersorhallModel" ({ cls := "VersorhallModel", name := "at", desc := "(II)I" } : Jvm.MethodName) ({ cls := "VersorhallModel", name := "at", desc := "(II)I" } : Jvm.MethodName)) ∈ lw_all := lw_g (lw_at lw_m8 64 rfl) rfl
theorem q1806 : (Jvm.Cond.code ({ cls := "VersorhallModel", name := "at", desc := "(II)I" } : Jvm.MethodName) prog_11_method_44_code (3 : Nat) (Option.some Jvm.ClassFile.FieldType.int)) ∈ lw_all := lw_g (lw_at lw_m8 65 rfl) rfl
theorem q1808 : (Jvm.Cond.instanceMethod ({ cls := "VersorhallModel", name := "ofElement", desc := "(II)I" } : Jvm.MethodName)) ∈ lw_all := lw_g (lw_at lw_m8 67 rfl) rfl
theorem q1809 : (Jvm.Cond.selects "VersorhallModel" ({ cls := "VersorhallModel", name := "ofElement", desc := "(II)I" } : Jvm.MethodName) ({ cls := "VersorhallModel", name := "ofElement", desc := "(II)I" } : Jvm.MethodName)) ∈ lw_all := lw_g (lw_at lw_m8 68 rfl) rfl
theorem q1810 : (Jvm.Cond.code ({ cls := "VersorhallModel", name := "ofElement", desc := "(II)I" } : Jvm.MethodName) prog_11_method_48_code (3 : Nat) (Option.some Jvm.ClassFile.FieldType.int)) ∈ lw_all := lw_g (lw_at lw_m8 69 rfl) rfl
theorem q1811 : (Jvm.Cond.methodLink "VersorhallModel" (188 : Nat) ({ cls := "VersorhallModel", name := "elementNow", desc := "(II)I" } : Jvm.MethodName)) ∈ lw_all := lw_g (lw_at lw_m8 70 rfl) rfl
theorem q1812 : (Jvm.Cond.privateMethod ({ cls := "VersorhallModel", name := "elementNow", desc := "(II)I" } : Jvm.MethodName)) ∈ lw_tbl := lw_at lw_m8 71 rfl
theorem q1813 : (Jvm.Cond.instanceMethod ({ cls := "VersorhallModel", name := "elementNow", desc := "(II)I" } : Jvm.MethodName)) ∈ lw_all := lw_g (lw_at lw_m8 72 rfl) rfl
theorem q1814 : (Jvm.Cond.code ({ cls := "VersorhallModel", name := "elementNow", desc := "(II)I" } : Jvm.MethodName) prog_11_method_47_code (3 : Nat) (Option.some Jvm.ClassFile.FieldType.int)) ∈ lw_all := lw_g (lw_at lw_m8 73 rfl) rfl
theorem q1815 : (Jvm.Cond.methodLink "VersorhallModel" (178 : Nat) ({ cls := "VersorhallModel", name := "normOf", desc := "(I)I" } : Jvm.MethodName)) ∈ lw_all := lw_g (lw_at lw_m8 74 rfl) rfl
theorem q1816 : (Jvm.Cond.privateMethod ({ cls := "VersorhallModel", name := "normOf", desc := "(I)I" } : Jvm.MethodName)) ∈ lw_tbl := lw_at lw_m8 75 rfl
theorem q1817 : (Jvm.Cond.instanceMethod ({ cls := "VersorhallModel", name := "normOf", desc := "(I)I" } : Jvm.MethodName)) ∈ lw_all := lw_g (lw_at lw_m8 76 rfl) rfl
theorem q1818 : (Jvm.Cond.code ({ cls := "VersorhallModel", name := "normOf", desc := "(I)I" } : Jvm.MethodName) prog_11_method_45_code (2 : Nat) (Option.some Jvm.ClassFile.FieldType.int)) ∈ lw_all := lw_g (lw_at lw_m8 77 rfl) rfl
theorem q1819 : (Jvm.Cond.methodLink "VersorhallModel" (181 : Nat) ({ cls := "VersorhallModel", name := "orderOf", desc := "(I)I" } : Jvm.MethodName)) ∈ lw_all := lw_g (lw_at lw_m8 78 rfl) rfl
theorem q1820 : (Jvm.Cond.privateMethod ({ cls := "VersorhallModel", name := "orderOf", desc := "(I)I" } : Jvm.MethodName)) ∈ lw_tbl := lw_at lw_m8 79 rfl
theorem q1821 : (Jvm.Cond.instanceMethod ({ cls := "VersorhallModel", name := "orderOf", desc := "(I)I" } : Jvm.MethodName)) ∈ lw_all := lw_g (lw_at lw_m8 80 rfl) rfl
theorem q1822 : (Jvm.Cond.code ({ cls := "VersorhallModel", name := "orderOf", desc := "(I)I" } : Jvm.MethodName) prog_11_method_46_code (4 : Nat) (Option.some Jvm.ClassFile.FieldType.int)) ∈ lw_all := lw_g (lw_at lw_m8 81 rfl) rfl
theorem q1823 : (Jvm.Cond.methodLink "VersorhallModel" (184 : Nat) ({ cls := "VersorhallModel", name := "isSame", desc := "([I[I)Z" } : Jvm.MethodName)) ∈ lw_all := lw_g (lw_at lw_m8 82 rfl) rfl
theorem q1824 : (Jvm.Cond.static ({ cls := "VersorhallModel", name := "isSame", desc := "([I[I)Z" } : Jvm.MethodName)) ∈ lw_all := lw_g (lw_at lw_m8 83 rfl) rfl
theorem q1825 : (Jvm.Cond.code ({ cls := "VersorhallModel", name := "isSame", desc := "([I[I)Z" } : Jvm.MethodName) prog_11_method_15_code (3 : Nat) (Option.some Jvm.ClassFile.FieldType.boolean)) ∈ lw_all := lw_g (lw_at lw_m8 84 rfl) rfl
theorem q1827 : (Jvm.Cond.instanceMethod ({ cls := "VersorhallModel", name := "text", desc := "(I)Ljava/lang/String;" } : Jvm.MethodName)) ∈ lw_all := lw_g (lw_at lw_m8 86 rfl) rfl
theorem q1828 : (Jvm.Cond.selects "VersorhallModel" ({ cls := "VersorhallModel", name := "text", desc := "(I)Ljava/lang/String;" } : Jvm.MethodName) ({ cls := "VersorhallModel", name := "text", desc := "(I)Ljava/lang/String;" } : Jvm.MethodName)) ∈ lw_all := lw_g (lw_at lw_m8 87 rfl) rfl
theorem q1829 : (Jvm.Cond.code ({ cls := "VersorhallModel", name := "text", desc := "(I)Ljava/lang/String;" } : Jvm.MethodName) prog_11_method_50_code (2 : Nat) (Option.some (Jvm.ClassFile.FieldType.object "java/lang/String"))) ∈ lw_all := lw_g (lw_at lw_m8 88 rfl) rfl
theorem q1830 : (Jvm.Cond.stringRef "VersorhallModel" (211 : Nat) "") ∈ lw_tbl := lw_at lw_m8 89 rfl
theorem q1831 : (Jvm.Cond.methodLink "VersorhallModel" (213 : Nat) ({ cls := "VersorhallModel", name := "textNow", desc := "(I)Ljava/lang/String;" } : Jvm.MethodName)) ∈ lw_all := lw_g (lw_at lw_m8 90 rfl) rfl
theorem q1832 : (Jvm.Cond.privateMethod ({ cls := "VersorhallModel", name := "textNow", desc := "(I)Ljava/lang/String;" } : Jvm.MethodName)) ∈ lw_tbl := lw_at lw_m8 91 rfl
theorem q1833 : (Jvm.Cond.instanceMethod ({ cls := "VersorhallModel", name := "textNow", desc := "(I)Ljava/lang/String;" } : Jvm.MethodName)) ∈ lw_all := lw_g (lw_at lw_m8 92 rfl) rfl
theorem q1834 : (Jvm.Cond.code ({ cls := "VersorhallModel", name := "textNow", desc := "(I)Ljava/lang/String;" } : Jvm.MethodName) prog_11_method_49_code (4 : Nat) (Option.some (Jvm.ClassFile.FieldType.object "java/lang/String"))) ∈ lw_all := lw_g (lw_at lw_m8 93 rfl) rfl
theorem q1835 : (Jvm.Cond.classLink "VersorhallModel" (192 : Nat) "java/lang/StringBuilder") ∈ lw_all := lw_g (lw_at lw_m8 94 rfl) rfl
theorem q1836 : (Jvm.Cond.methodLink "VersorhallModel" (194 : Nat) ({ cls := "java/lang/StringBuilder", name := "<init>", desc := "()V" } : Jvm.MethodName)) ∈ lw_all := lw_g (lw_at lw_m8 95 rfl) rfl
theorem q1837 : (Jvm.Cond.methodLink "VersorhallModel" (195 : Nat) ({ cls := "java/lang/StringBuilder", name := "length", desc := "()I" } : Jvm.MethodName)) ∈ lw_all := lw_g (lw_at lw_m8 96 rfl) rfl
theorem q1838 : (Jvm.Cond.methodLink "VersorhallModel" (198 : Nat) ({ cls := "java/lang/StringBuilder", name := "append", desc := "(C)Ljava/lang/StringBuilder;" } : Jvm.MethodName)) ∈ lw_all := lw_g (lw_at lw_m8 97 rfl) rfl
theorem q1839 : (Jvm.Cond.methodLink "VersorhallModel" (202 : Nat) ({ cls := "java/lang/StringBuilder", name := "append", desc := "(I)Ljava/lang/StringBuilder;" } : Jvm.MethodName)) ∈ lw_all := lw_g (lw_at lw_m8 98 rfl) rfl
theorem q1840 : (Jvm.Cond.stringRef "VersorhallModel" (205 : Nat) "0") ∈ lw_tbl := lw_at lw_m8 99 rfl
theorem q1841 : (Jvm.Cond.methodLink "VersorhallModel" (207 : Nat) ({ cls := "java/lang/StringBuilder", name := "toString", desc := "()Ljava/lang/String;" } : Jvm.MethodName)) ∈ lw_all := lw_g (lw_at lw_m8 100 rfl) rfl
theorem q1843 : (Jvm.Cond.instanceMethod ({ cls := "VersorhallModel", name := "ofAlgebra", desc := "(II)I" } : Jvm.MethodName)) ∈ lw_all := lw_g (lw_at lw_m8 102 rfl) rfl
theorem q1844 : (Jvm.Cond.selects "VersorhallModel" ({ cls := "VersorhallModel", name := "ofAlgebra", desc := "(II)I" } : Jvm.MethodName) ({ cls := "VersorhallModel", name := "ofAlgebra", desc := "(II)I" } : Jvm.MethodName)) ∈ lw_all := lw_g (lw_at lw_m8 103 rfl) rfl
theorem q1845 : (Jvm.Cond.code ({ cls := "VersorhallModel", name := "ofAlgebra", desc := "(II)I" } : Jvm.MethodName) prog_11_method_52_code (3 : Nat) (Option.some Jvm.ClassFile.FieldType.int)) ∈ lw_all := lw_g (lw_at lw_m8 104 rfl) rfl
theorem q1846 : (Jvm.Cond.methodLink "VersorhallModel" (221 : Nat) ({ cls := "VersorhallModel", name := "algebraNow", desc := "(II)I" } : Jvm.MethodName)) ∈ lw_all := lw_g (lw_at lw_m8 105 rfl) rfl
theorem q1847 : (Jvm.Cond.privateMethod ({ cls := "VersorhallModel", name := "algebraNow", desc := "(II)I" } : Jvm.MethodName)) ∈ lw_tbl := lw_at lw_m8 106 rfl
theorem q1848 : (Jvm.Cond.instanceMethod ({ cls := "VersorhallModel", name := "algebraNow", desc := "(II)I" } : Jvm.MethodName)) ∈ lw_all := lw_g (lw_at lw_m8 107 rfl) rfl
theorem q1849 : (Jvm.Cond.code ({ cls := "VersorhallModel", name := "algebraNow", desc := "(II)I" } : Jvm.MethodName) prog_11_method_51_code (8 : Nat) (Option.some Jvm.ClassFile.FieldType.int)) ∈ lw_all := lw_g (lw_at lw_m8 108 rfl) rfl
theorem q1850 : (Jvm.Cond.methodLink "VersorhallModel" (217 : Nat) ({ cls := "VersorhallModel$Algebra", name := "keeps", desc := "(IIII)Z" } : Jvm.MethodName)) ∈ lw_all := lw_g (lw_at lw_m8 109 rfl) rfl
theorem q1859 : (Jvm.Cond.instanceMethod ({ cls := "VersorhallModel", name := "sign", desc := "(III)I" } : Jvm.MethodName)) ∈ lw_all := lw_g (lw_at lw_m8 118 rfl) rfl
theorem q1860 : (Jvm.Cond.selects "VersorhallModel" ({ cls := "VersorhallModel", name := "sign", desc := "(III)I" } : Jvm.MethodName) ({ cls := "VersorhallModel", name := "sign", desc := "(III)I" } : Jvm.MethodName)) ∈ lw_all := lw_g (lw_at lw_m8 119 rfl) rfl
theorem q1861 : (Jvm.Cond.code ({ cls := "VersorhallModel", name := "sign", desc := "(III)I" } : Jvm.MethodName) prog_11_method_53_code (4 : Nat) (Option.some Jvm.ClassFile.FieldType.int)) ∈ lw_all := lw_g (lw_at lw_m8 120 rfl) rfl
theorem q1863 : (Jvm.Cond.instanceMethod ({ cls := "VersorhallModel", name := "breaks", desc := "(II)I" } : Jvm.MethodName)) ∈ lw_all := lw_g (lw_at lw_m8 122 rfl) rfl
theorem q1864 : (Jvm.Cond.selects "VersorhallModel" ({ cls := "VersorhallModel", name := "breaks", desc := "(II)I" } : Jvm.MethodName) ({ cls := "VersorhallModel", name := "breaks", desc := "(II)I" } : Jvm.MethodName)) ∈ lw_all := lw_g (lw_at lw_m8 123 rfl) rfl
theorem q1865 : (Jvm.Cond.code ({ cls := "VersorhallModel", name := "breaks", desc := "(II)I" } : Jvm.MethodName) prog_11_method_55_code (3 : Nat) (Option.some Jvm.ClassFile.FieldType.int)) ∈ lw_all := lw_g (lw_at lw_m8 124 rfl) rfl
theorem q1866 : (Jvm.Cond.methodLink "VersorhallModel" (227 : Nat) ({ cls := "VersorhallModel", name := "breakNow", desc := "(LVersorhallModel$Algebra;I)I" } : Jvm.MethodName)) ∈ lw_all := lw_g (lw_at lw_m8 125 rfl) rfl
theorem q1867 : (Jvm.Cond.privateMethod ({ cls := "VersorhallModel", name := "breakNow", desc := "(LVersorhallModel$Algebra;I)I" } : Jvm.MethodName)) ∈ lw_tbl := lw_at lw_m8 126 rfl
theorem q1868 : (Jvm.Cond.instanceMethod ({ cls := "VersorhallModel", name := "breakNow", desc := "(LVersorhallModel$Algebra;I)I" } : Jvm.MethodName)) ∈ lw_all := lw_g (lw_at lw_m8 127 rfl) rfl
theorem q1869 : (Jvm.Cond.code ({ cls := "VersorhallModel", name := "breakNow", desc := "(LVersorhallModel$Algebra;I)I" } : Jvm.MethodName) prog_11_method_54_code (7 : Nat) (Option.some Jvm.ClassFile.FieldType.int)) ∈ lw_all := lw_g (lw_at lw_m8 128 rfl) rfl
theorem q1871 : (Jvm.Cond.instanceMethod ({ cls := "VersorhallModel", name := "meanSize", desc := "()D" } : Jvm.MethodName)) ∈ lw_all := lw_g (lw_at lw_m8 130 rfl) rfl
theorem q1872 : (Jvm.Cond.selects "VersorhallModel" ({ cls := "VersorhallModel", name := "meanSize", desc := "()D" } : Jvm.MethodName) ({ cls := "VersorhallModel", name := "meanSize", desc := "()D" } : Jvm.MethodName)) ∈ lw_all := lw_g (lw_at lw_m8 131 rfl) rfl
theorem q1873 : (Jvm.Cond.code ({ cls := "VersorhallModel", name := "meanSize", desc := "()D" } : Jvm.MethodName) prog_11_method_56_code (3 : Nat) (Option.some Jvm.ClassFile.FieldType.double)) ∈ lw_all := lw_g (lw_at lw_m8 132 rfl) rfl
theorem q1875 : (Jvm.Cond.instanceMethod ({ cls := "VersorhallModel", name := "lean", desc := "(I)D" } : Jvm.MethodName)) ∈ lw_all := lw_g (lw_at lw_m8 134 rfl) rfl
theorem q1876 : (Jvm.Cond.selects "VersorhallModel" ({ cls := "VersorhallModel", name := "lean", desc := "(I)D" } : Jvm.MethodName) ({ cls := "VersorhallModel", name := "lean", desc := "(I)D" } : Jvm.MethodName)) ∈ lw_all := lw_g (lw_at lw_m8 135 rfl) rfl
theorem q1877 : (Jvm.Cond.code ({ cls := "VersorhallModel", name := "lean", desc := "(I)D" } : Jvm.MethodName) prog_11_method_59_code (2 : Nat) (Option.some Jvm.ClassFile.FieldType.double)) ∈ lw_all := lw_g (lw_at lw_m8 136 rfl) rfl
theorem q1878 : (Jvm.Cond.methodLink "VersorhallModel" (231 : Nat) ({ cls := "VersorhallModel", name := "quarters", desc := "(I)I" } : Jvm.MethodName)) ∈ lw_all := lw_g (lw_at lw_m8 137 rfl) rfl
theorem q1879 : (Jvm.Cond.privateMethod ({ cls := "VersorhallModel", name := "quarters", desc := "(I)I" } : Jvm.MethodName)) ∈ lw_tbl := lw_at lw_m8 138 rfl
theorem q1880 : (Jvm.Cond.instanceMethod ({ cls := "VersorhallModel", name := "quarters", desc := "(I)I" } : Jvm.MethodName)) ∈ lw_all := lw_g (lw_at lw_m8 139 rfl) rfl
theorem q1881 : (Jvm.Cond.code ({ cls := "VersorhallModel", name := "quarters", desc := "(I)I" } : Jvm.MethodName) prog_11_method_57_code (4 : Nat) (Option.some Jvm.ClassFile.FieldType.int)) ∈ lw_all := lw_g (lw_at lw_m8 140 rfl) rfl
theorem q1882 : (Jvm.Cond.constantDouble "VersorhallModel" (234 : Nat) (4616189618054758400 : UInt64)) ∈ lw_all := lw_g (lw_at lw_m8 141 rfl) rfl
theorem q1884 : (Jvm.Cond.instanceMethod ({ cls := "VersorhallModel", name := "poise", desc := "()D" } : Jvm.MethodName)) ∈ lw_all := lw_g (lw_at lw_m8 143 rfl) rfl
theorem q1885 : (Jvm.Cond.selects "VersorhallModel" ({ cls := "VersorhallModel", name := "poise", desc := "()D" } : Jvm.MethodName) ({ cls := "VersorhallModel", name := "poise", desc := "()D" } : Jvm.MethodName)) ∈ lw_all := lw_g (lw_at lw_m8 144 rfl) rfl
theorem q1886 : (Jvm.Cond.code ({ cls := "VersorhallModel", name := "poise", desc := "()D" } : Jvm.MethodName) prog_11_method_60_code (6 : Nat) (Option.some Jvm.ClassFile.FieldType.double)) ∈ lw_all := lw_g (lw_at lw_m8 145 rfl) rfl
theorem q1887 : (Jvm.Cond.methodLink "VersorhallModel" (236 : Nat) ({ cls := "VersorhallModel", name := "allQuarters", desc := "()I" } : Jvm.MethodName)) ∈ lw_all := lw_g (lw_at lw_m8 146 rfl) rfl
theorem q1888 : (Jvm.Cond.privateMethod ({ cls := "VersorhallModel", name := "allQuarters", desc := "()I" } : Jvm.MethodName)) ∈ lw_tbl := lw_at lw_m8 147 rfl
theorem q1889 : (Jvm.Cond.instanceMethod ({ cls := "VersorhallModel", name := "allQuarters", desc := "()I" } : Jvm.MethodName)) ∈ lw_all := lw_g (lw_at lw_m8 148 rfl) rfl
theorem q1890 : (Jvm.Cond.code ({ cls := "VersorhallModel", name := "allQuarters", desc := "()I" } : Jvm.MethodName) prog_11_method_58_code (3 : Nat) (Option.some Jvm.ClassFile.FieldType.int)) ∈ lw_all := lw_g (lw_at lw_m8 149 rfl) rfl
theorem q1891 : (Jvm.Cond.methodLink "VersorhallModel" (239 : Nat) ({ cls := "java/lang/Math", name := "abs", desc := "(I)I" } : Jvm.MethodName)) ∈ lw_all := lw_g (lw_at lw_m8 150 rfl) rfl
theorem q1895 : (Jvm.Cond.instanceMethod ({ cls := "VersorhallModel", name := "many", desc := "(I)I" } : Jvm.MethodName)) ∈ lw_all := lw_g (lw_at lw_m8 154 rfl) rfl
theorem q1896 : (Jvm.Cond.selects "VersorhallModel" ({ cls := "VersorhallModel", name := "many", desc := "(I)I" } : Jvm.MethodName) ({ cls := "VersorhallModel", name := "many", desc := "(I)I" } : Jvm.MethodName)) ∈ lw_all := lw_g (lw_at lw_m8 155 rfl) rfl
theorem q1897 : (Jvm.Cond.code ({ cls := "VersorhallModel", name := "many", desc := "(I)I" } : Jvm.MethodName) prog_11_method_62_code (2 : Nat) (Option.some Jvm.ClassFile.FieldType.int)) ∈ lw_all := lw_g (lw_at lw_m8 156 rfl) rfl
theorem q1898 : (Jvm.Cond.methodLink "VersorhallModel" (244 : Nat) ({ cls := "VersorhallModel", name := "manyNow", desc := "(I)I" } : Jvm.MethodName)) ∈ lw_all := lw_g (lw_at lw_m8 157 rfl) rfl
theorem q1899 : (Jvm.Cond.privateMethod ({ cls := "VersorhallModel", name := "manyNow", desc := "(I)I" } : Jvm.MethodName)) ∈ lw_tbl := lw_at lw_m8 158 rfl
theorem q1900 : (Jvm.Cond.instanceMethod ({ cls := "VersorhallModel", name := "manyNow", desc := "(I)I" } : Jvm.MethodName)) ∈ lw_all := lw_g (lw_at lw_m8 159 rfl) rfl
theorem q1901 : (Jvm.Cond.code ({ cls := "VersorhallModel", name := "manyNow", desc := "(I)I" } : Jvm.MethodName) prog_11_method_61_code (6 : Nat) (Option.some Jvm.ClassFile.FieldType.int)) ∈ lw_all := lw_g (lw_at lw_m8 160 rfl) rfl
theorem q1903 : (Jvm.Cond.instanceMethod ({ cls := "VersorhallModel", name := "apart", desc := "(II)I" } : Jvm.MethodName)) ∈ lw_all := lw_g (lw_at lw_m8 162 rfl) rfl
theorem q1904 : (Jvm.Cond.selects "VersorhallModel" ({ cls := "VersorhallModel", name := "apart", desc := "(II)I" } : Jvm.MethodName) ({ cls := "VersorhallModel", name := "apart", desc := "(II)I" } : Jvm.MethodName)) ∈ lw_all := lw_g (lw_at lw_m8 163 rfl) rfl
theorem q1905 : (Jvm.Cond.code ({ cls := "VersorhallModel", name := "apart", desc := "(II)I" } : Jvm.MethodName) prog_11_method_63_code (3 : Nat) (Option.some Jvm.ClassFile.FieldType.int)) ∈ lw_all := lw_g (lw_at lw_m8 164 rfl) rfl
theorem q1907 : (Jvm.Cond.instanceMethod ({ cls := "VersorhallModel", name := "row", desc := "(II)I" } : Jvm.MethodName)) ∈ lw_all := lw_g (lw_at lw_m8 166 rfl) rfl
theorem q1908 : (Jvm.Cond.selects "VersorhallModel" ({ cls := "VersorhallModel", name := "row", desc := "(II)I" } : Jvm.MethodName) ({ cls := "VersorhallModel", name := "row", desc := "(II)I" } : Jvm.MethodName)) ∈ lw_all := lw_g (lw_at lw_m8 167 rfl) rfl
theorem q1909 : (Jvm.Cond.code ({ cls := "VersorhallModel", name := "row", desc := "(II)I" } : Jvm.MethodName) prog_11_method_65_code (3 : Nat) (Option.some Jvm.ClassFile.FieldType.int)) ∈ lw_all := lw_g (lw_at lw_m8 168 rfl) rfl
theorem q1910 : (Jvm.Cond.methodLink "VersorhallModel" (250 : Nat) ({ cls := "VersorhallModel", name := "rowNow", desc := "(LVersorhallModel$Algebra;I)I" } : Jvm.MethodName)) ∈ lw_all := lw_g (lw_at lw_m8 169 rfl) rfl
theorem q1911 : (Jvm.Cond.privateMethod ({ cls := "VersorhallModel", name := "rowNow", desc := "(LVersorhallModel$Algebra;I)I" } : Jvm.MethodName)) ∈ lw_tbl := lw_at lw_m8 170 rfl
theorem q1912 : (Jvm.Cond.instanceMethod ({ cls := "VersorhallModel", name := "rowNow", desc := "(LVersorhallModel$Algebra;I)I" } : Jvm.MethodName)) ∈ lw_all := lw_g (lw_at lw_m8 171 rfl) rfl
theorem q1913 : (Jvm.Cond.code ({ cls := "VersorhallModel", name := "rowNow", desc := "(LVersorhallModel$Algebra;I)I" } : Jvm.MethodName) prog_11_method_64_code (5 : Nat) (Option.some Jvm.ClassFile.FieldType.int)) ∈ lw_all := lw_g (lw_at lw_m8 172 rfl) rfl
theorem q1914 : (Jvm.Cond.methodLink "VersorhallModel" (247 : Nat) ({ cls := "VersorhallModel$Algebra", name := "form", desc := "(I)I" } : Jvm.MethodName)) ∈ lw_all := lw_g (lw_at lw_m8 173 rfl) rfl
theorem q1919 : (Jvm.Cond.instanceMethod ({ cls := "VersorhallModel", name := "match", desc := "(II)I" } : Jvm.MethodName)) ∈ lw_all := lw_g (lw_at lw_m8 178 rfl) rfl
theorem q1920 : (Jvm.Cond.selects "VersorhallModel" ({ cls := "VersorhallModel", name := "match", desc := "(II)I" } : Jvm.MethodName) ({ cls := "VersorhallModel", name := "match", desc := "(II)I" } : Jvm.MethodName)) ∈ lw_all := lw_g (lw_at lw_m8 179 rfl) rfl
theorem q1921 : (Jvm.Cond.code ({ cls := "VersorhallModel", name := "match", desc := "(II)I" } : Jvm.MethodName) prog_11_method_69_code (3 : Nat) (Option.some Jvm.ClassFile.FieldType.int)) ∈ lw_all := lw_g (lw_at lw_m8 180 rfl) rfl
theorem q1922 : (Jvm.Cond.methodLink "VersorhallModel" (263 : Nat) ({ cls := "VersorhallModel", name := "matchNow", desc := "(II)I" } : Jvm.MethodName)) ∈ lw_all := lw_g (lw_at lw_m8 181 rfl) rfl
theorem q1923 : (Jvm.Cond.privateMethod ({ cls := "VersorhallModel", name := "matchNow", desc := "(II)I" } : Jvm.MethodName)) ∈ lw_tbl := lw_at lw_m8 182 rfl
theorem q1924 : (Jvm.Cond.instanceMethod ({ cls := "VersorhallModel", name := "matchNow", desc := "(II)I" } : Jvm.MethodName)) ∈ lw_all := lw_g (lw_at lw_m8 183 rfl) rfl
theorem q1925 : (Jvm.Cond.code ({ cls := "VersorhallModel", name := "matchNow", desc := "(II)I" } : Jvm.MethodName) prog_11_method_68_code (5 : Nat) (Option.some Jvm.ClassFile.FieldType.int)) ∈ lw_all := lw_g (lw_at lw_m8 184 rfl) rfl
theorem q1926 : (Jvm.Cond.methodLink "VersorhallModel" (259 : Nat) ({ cls := "VersorhallModel", name := "orderNow", desc := "(LVersorhallModel$Algebra;LVersorhallModel$Algebra;II)I" } : Jvm.MethodName)) ∈ lw_all := lw_g (lw_at lw_m8 185 rfl) rfl
theorem q1927 : (Jvm.Cond.privateMethod ({ cls := "VersorhallModel", name := "orderNow", desc := "(LVersorhallModel$Algebra;LVersorhallModel$Algebra;II)I" } : Jvm.MethodName)) ∈ lw_tbl := lw_at lw_m8 186 rfl
theorem q1928 : (Jvm.Cond.instanceMethod ({ cls := "VersorhallModel", name := "orderNow", desc := "(LVersorhallModel$Algebra;LVersorhallModel$Algebra;II)I" } : Jvm.MethodName)) ∈ lw_all := lw_g (lw_at lw_m8 187 rfl) rfl
theorem q1929 : (Jvm.Cond.code ({ cls := "VersorhallModel", name := "orderNow", desc := "(LVersorhallModel$Algebra;LVersorhallModel$Algebra;II)I" } : Jvm.MethodName) prog_11_method_67_code (8 : Nat) (Option.some Jvm.ClassFile.FieldType.int)) ∈ lw_all := lw_g (lw_at lw_m8 188 rfl) rfl
theorem q1930 : (Jvm.Cond.methodLink "VersorhallModel" (256 : Nat) ({ cls := "VersorhallModel", name := "scaleNow", desc := "(II)I" } : Jvm.MethodName)) ∈ lw_all := lw_g (lw_at lw_m8 189 rfl) rfl
theorem q1931 : (Jvm.Cond.privateMethod ({ cls := "VersorhallModel", name := "scaleNow", desc := "(II)I" } : Jvm.MethodName)) ∈ lw_tbl := lw_at lw_m8 190 rfl
theorem q1932 : (Jvm.Cond.instanceMethod ({ cls := "VersorhallModel", name := "scaleNow", desc := "(II)I" } : Jvm.MethodName)) ∈ lw_all := lw_g (lw_at lw_m8 191 rfl) rfl
theorem q1933 : (Jvm.Cond.code ({ cls := "VersorhallModel", name := "scaleNow", desc := "(II)I" } : Jvm.MethodName) prog_11_method_66_code (4 : Nat) (Option.some Jvm.ClassFile.FieldType.int)) ∈ lw_all := lw_g (lw_at lw_m8 192 rfl) rfl
theorem q1935 : (Jvm.Cond.instanceMethod ({ cls := "VersorhallModel", name := "scaleOf", desc := "(III)I" } : Jvm.MethodName)) ∈ lw_all := lw_g (lw_at lw_m8 194 rfl) rfl
theorem q1936 : (Jvm.Cond.selects "VersorhallModel" ({ cls := "VersorhallModel", name := "scaleOf", desc := "(III)I" } : Jvm.MethodName) ({ cls := "VersorhallModel", name := "scaleOf", desc := "(III)I" } : Jvm.MethodName)) ∈ lw_all := lw_g (lw_at lw_m8 195 rfl) rfl
theorem q1937 : (Jvm.Cond.code ({ cls := "VersorhallModel", name := "scaleOf", desc := "(III)I" } : Jvm.MethodName) prog_11_method_70_code (7 : Nat) (Option.some Jvm.ClassFile.FieldType.int)) ∈ lw_all := lw_g (lw_at lw_m8 196 rfl) rfl
theorem q1939 : (Jvm.Cond.instanceMethod ({ cls := "VersorhallModel", name := "digest", desc := "()J" } : Jvm.MethodName)) ∈ lw_all := lw_g (lw_at lw_m8 198 rfl) rfl
theorem q1940 : (Jvm.Cond.selects "VersorhallModel" ({ cls := "VersorhallModel", name := "digest", desc := "()J" } : Jvm.MethodName) ({ cls := "VersorhallModel", name := "digest", desc := "()J" } : Jvm.MethodName)) ∈ lw_all := lw_g (lw_at lw_m8 199 rfl) rfl
theorem q1941 : (Jvm.Cond.code ({ cls := "VersorhallModel", name := "digest", desc := "()J" } : Jvm.MethodName) prog_11_method_71_code (8 : Nat) (Option.some Jvm.ClassFile.FieldType.long)) ∈ lw_all := lw_g (lw_at lw_m8 200 rfl) rfl
theorem q1942 : (Jvm.Cond.constantLong "VersorhallModel" (266 : Nat) (58236 : Int64)) ∈ lw_all := lw_g (lw_at lw_m8 201 rfl) rfl
theorem q1943 : (Jvm.Cond.constantLong "VersorhallModel" (268 : Nat) (31 : Int64)) ∈ lw_all := lw_g (lw_at lw_m8 202 rfl) rfl
theorem q1944 : (Jvm.Cond.methodLink "VersorhallModel" (270 : Nat) ({ cls := "java/lang/String", name := "length", desc := "()I" } : Jvm.MethodName)) ∈ lw_all := lw_g (lw_at lw_m8 203 rfl) rfl
theorem q1967 : (Jvm.Cond.castable "VersorhallModel" "java/lang/Object") ∈ lw_tbl := lw_at lw_m8 226 rfl
theorem in_X3 : ∀ w ∈ wsX30, w ∈ lw_all := lw_in wsX30 [1501, 1503, 1505, 1507, 1509] (by decide +kernel) (by decide +kernel)
/-! VersorhallModel$Algebra -/
set_option maxRecDepth 100000
def RX6 : String := "VersorhallModel$Algebra"
def TX6 : u_T := fun k => match k with
  | 0 => ("VersorhallModel$Algebra", "kind", "I", true)
  | 1 => ("VersorhallModel$Algebra", "dials", "[I", true)
  | 2 => ("VersorhallModel$Algebra", "signs", "[[I", false)
  | 3 => ("VersorhallModel$Algebra", "many", "I", false)
  | 4 => ("VersorhallModel$Algebra", "mirrors", "Ljava/util/List;", true)
  | _ => ("VersorhallModel$Algebra", "this$0", "LVersorhallModel;", true)
def tyX6 : Nat → FieldType := fun k => match k with
  | 0 => .int
  | 1 => .array .int
  | 2 => .array (.array .int)
  | 3 => .int
  | 4 => .object "java/util/List"
  | _ => .object "VersorhallModel"
abbrev wsX60 : List Cond := u_ws RX6 TX6 6
theorem nmX6 : ∀ a, a < 6 → ∀ b, b < 6 → a ≠ b → (TX6 a).2.1 ≠ (TX6 b).2.1 := by decide +kernel
theorem tyX6_ok : ∀ k, k < 6 → parseFieldDescriptor (TX6 k).2.2.1 = some (tyX6 k) := by decide +kernel
abbrev cX6_init : ByteArray := prog_12_method_1_code
def yX6_init : MethodName := ⟨RX6, "<init>", "(LVersorhallModel;I)V"⟩
def dkwX6_init_2 : List UInt8 := [181, 0, 31, 177]
abbrev dktX6_init_2 : List UInt8 := dkwX6_init_2 ++ []
def dkwX6_init_1 : List UInt8 := [188, 10, 89, 3, 4, 79, 83, 181, 0, 20, 42, 187, 0, 24, 89, 183, 0, 26, 181, 0, 27, 42, 28]
abbrev dktX6_init_1 : List UInt8 := dkwX6_init_1 ++ dktX6_init_2
def dkwX6_init_0 : List UInt8 := [42, 43, 181, 0, 3, 42, 183, 0, 9, 42, 7, 188, 10, 181, 0, 15, 42, 4, 189, 0, 19, 89, 3, 4]
abbrev dktX6_init_0 : List UInt8 := dkwX6_init_0 ++ dktX6_init_1
theorem dksX6_init_0 : cX6_init.data.toList.drop 0 = dktX6_init_0 := by decide +kernel
theorem dksX6_init_1 : cX6_init.data.toList.drop 24 = dktX6_init_1 := dk_seg dksX6_init_0 24 rfl rfl
theorem dksX6_init_2 : cX6_init.data.toList.drop 47 = dktX6_init_2 := dk_seg dksX6_init_1 23 rfl rfl
theorem dX6_init_0 : decode cX6_init 0 = .ok (.aload_n 0, 1) := dk_42 (dk_at dksX6_init_0 0 rfl rfl)
theorem dX6_init_1 : decode cX6_init 1 = .ok (.aload_n 1, 1) := dk_43 (dk_at dksX6_init_0 1 rfl rfl)
theorem dX6_init_2 : decode cX6_init 2 = .ok (.putfield 3, 3) := dk_181 0 3 (dk_at dksX6_init_0 2 rfl rfl)
theorem dX6_init_5 : decode cX6_init 5 = .ok (.aload_n 0, 1) := dk_42 (dk_at dksX6_init_0 5 rfl rfl)
theorem dX6_init_6 : decode cX6_init 6 = .ok (.invokespecial 9, 3) := dk_183 0 9 (dk_at dksX6_init_0 6 rfl rfl)
theorem dX6_init_9 : decode cX6_init 9 = .ok (.aload_n 0, 1) := dk_42 (dk_at dksX6_init_0 9 rfl rfl)
theorem dX6_init_10 : decode cX6_init 10 = .ok (.iconst 4, 1) := dk_7 (dk_at dksX6_init_0 10 rfl rfl)
theorem dX6_init_11 : decode cX6_init 11 = .ok (.newarray .int, 2) := dk_188_10 (dk_at dksX6_init_0 11 rfl rfl)
theorem dX6_init_13 : decode cX6_init 13 = .ok (.putfield 15, 3) := dk_181 0 15 (dk_at dksX6_init_0 13 rfl rfl)
theorem dX6_init_16 : decode cX6_init 16 = .ok (.aload_n 0, 1) := dk_42 (dk_at dksX6_init_0 16 rfl rfl)
theorem dX6_init_17 : decode cX6_init 17 = .ok (.iconst 1, 1) := dk_4 (dk_at dksX6_init_0 17 rfl rfl)
theorem dX6_init_18 : decode cX6_init 18 = .ok (.anewarray 19, 3) := dk_189 0 19 (dk_at dksX6_init_0 18 rfl rfl)
theorem dX6_init_21 : decode cX6_init 21 = .ok (.dup, 1) := dk_89 (dk_at dksX6_init_0 21 rfl rfl)
theorem dX6_init_22 : decode cX6_init 22 = .ok (.iconst 0, 1) := dk_3 (dk_at dksX6_init_0 22 rfl rfl)
theorem dX6_init_23 : decode cX6_init 23 = .ok (.iconst 1, 1) := dk_4 (dk_at dksX6_init_0 23 rfl rfl)
theorem dX6_init_24 : decode cX6_init 24 = .ok (.newarray .int, 2) := dk_188_10 (dk_at dksX6_init_1 0 rfl rfl)
theorem dX6_init_26 : decode cX6_init 26 = .ok (.dup, 1) := dk_89 (dk_at dksX6_init_1 2 rfl rfl)
theorem dX6_init_27 : decode cX6_init 27 = .ok (.iconst 0, 1) := dk_3 (dk_at dksX6_init_1 3 rfl rfl)
theorem dX6_init_28 : decode cX6_init 28 = .ok (.iconst 1, 1) := dk_4 (dk_at dksX6_init_1 4 rfl rfl)
theorem dX6_init_29 : decode cX6_init 29 = .ok (.iastore, 1) := dk_79 (dk_at dksX6_init_1 5 rfl rfl)
theorem dX6_init_30 : decode cX6_init 30 = .ok (.aastore, 1) := dk_83 (dk_at dksX6_init_1 6 rfl rfl)
theorem dX6_init_31 : decode cX6_init 31 = .ok (.putfield 20, 3) := dk_181 0 20 (dk_at dksX6_init_1 7 rfl rfl)
theorem dX6_init_34 : decode cX6_init 34 = .ok (.aload_n 0, 1) := dk_42 (dk_at dksX6_init_1 10 rfl rfl)
theorem dX6_init_35 : decode cX6_init 35 = .ok (.new 24, 3) := dk_187 0 24 (dk_at dksX6_init_1 11 rfl rfl)
theorem dX6_init_38 : decode cX6_init 38 = .ok (.dup, 1) := dk_89 (dk_at dksX6_init_1 14 rfl rfl)
theorem dX6_init_39 : decode cX6_init 39 = .ok (.invokespecial 26, 3) := dk_183 0 26 (dk_at dksX6_init_1 15 rfl rfl)
theorem dX6_init_42 : decode cX6_init 42 = .ok (.putfield 27, 3) := dk_181 0 27 (dk_at dksX6_init_1 18 rfl rfl)
theorem dX6_init_45 : decode cX6_init 45 = .ok (.aload_n 0, 1) := dk_42 (dk_at dksX6_init_1 21 rfl rfl)
theorem dX6_init_46 : decode cX6_init 46 = .ok (.iload_n 2, 1) := dk_28 (dk_at dksX6_init_1 22 rfl rfl)
theorem dX6_init_47 : decode cX6_init 47 = .ok (.putfield 31, 3) := dk_181 0 31 (dk_at dksX6_init_2 0 rfl rfl)
theorem dX6_init_50 : decode cX6_init 50 = .ok (.return_, 1) := dk_177 (dk_at dksX6_init_2 3 rfl rfl)
abbrev cX6_dial : ByteArray := prog_12_method_3_code
def yX6_dial : MethodName := ⟨RX6, "dial", "(I)V"⟩
def dkwX6_dial_4 : List UInt8 := [42, 45, 181, 0, 20, 177]
abbrev dktX6_dial_4 : List UInt8 := dkwX6_dial_4 ++ []
def dkwX6_dial_3 : List UInt8 := [167, 0, 11, 42, 21, 4, 21, 5, 182, 0, 47, 79, 132, 5, 1, 167, 255, 210, 132, 4, 1, 167, 255, 195]
abbrev dktX6_dial_3 : List UInt8 := dkwX6_dial_3 ++ dktX6_dial_4
def dkwX6_dial_2 : List UInt8 := [21, 4, 50, 21, 5, 42, 180, 0, 31, 154, 0, 18, 42, 21, 4, 21, 5, 28, 5, 108, 27, 182, 0, 43]
abbrev dktX6_dial_2 : List UInt8 := dkwX6_dial_2 ++ dktX6_dial_3
def dkwX6_dial_1 : List UInt8 := [197, 0, 42, 2, 78, 3, 54, 4, 21, 4, 28, 162, 0, 61, 3, 54, 5, 21, 5, 28, 162, 0, 46, 45]
abbrev dktX6_dial_1 : List UInt8 := dkwX6_dial_1 ++ dktX6_dial_2
def dkwX6_dial_0 : List UInt8 := [42, 180, 0, 15, 42, 89, 180, 0, 35, 90, 4, 96, 181, 0, 35, 27, 79, 42, 182, 0, 38, 61, 28, 28]
abbrev dktX6_dial_0 : List UInt8 := dkwX6_dial_0 ++ dktX6_dial_1
theorem dksX6_dial_0 : cX6_dial.data.toList.drop 0 = dktX6_dial_0 := by decide +kernel
theorem dksX6_dial_1 : cX6_dial.data.toList.drop 24 = dktX6_dial_1 := dk_seg dksX6_dial_0 24 rfl rfl
theorem dksX6_dial_2 : cX6_dial.data.toList.drop 48 = dktX6_dial_2 := dk_seg dksX6_dial_1 24 rfl rfl
theorem dksX6_dial_3 : cX6_dial.data.toList.drop 72 = dktX6_dial_3 := dk_seg dksX6_dial_2 24 rfl rfl
theorem dksX6_dial_4 : cX6_dial.data.toList.drop 96 = dktX6_dial_4 := dk_seg dksX6_dial_3 24 rfl rfl
theorem dX6_dial_0 : decode cX6_dial 0 = .ok (.aload_n 0, 1) := dk_42 (dk_at dksX6_dial_0 0 rfl rfl)
theorem dX6_dial_1 : decode cX6_dial 1 = .ok (.getfield 15, 3) := dk_180 0 15 (dk_at dksX6_dial_0 1 rfl rfl)
theorem dX6_dial_4 : decode cX6_dial 4 = .ok (.aload_n 0, 1) := dk_42 (dk_at dksX6_dial_0 4 rfl rfl)
theorem dX6_dial_5 : decode cX6_dial 5 = .ok (.dup, 1) := dk_89 (dk_at dksX6_dial_0 5 rfl rfl)
theorem dX6_dial_6 : decode cX6_dial 6 = .ok (.getfield 35, 3) := dk_180 0 35 (dk_at dksX6_dial_0 6 rfl rfl)
theorem dX6_dial_9 : decode cX6_dial 9 = .ok (.dup_x1, 1) := dk_90 (dk_at dksX6_dial_0 9 rfl rfl)
theorem dX6_dial_10 : decode cX6_dial 10 = .ok (.iconst 1, 1) := dk_4 (dk_at dksX6_dial_0 10 rfl rfl)
theorem dX6_dial_11 : decode cX6_dial 11 = .ok (.iadd, 1) := dk_96 (dk_at dksX6_dial_0 11 rfl rfl)
theorem dX6_dial_12 : decode cX6_dial 12 = .ok (.putfield 35, 3) := dk_181 0 35 (dk_at dksX6_dial_0 12 rfl rfl)
theorem dX6_dial_15 : decode cX6_dial 15 = .ok (.iload_n 1, 1) := dk_27 (dk_at dksX6_dial_0 15 rfl rfl)
theorem dX6_dial_16 : decode cX6_dial 16 = .ok (.iastore, 1) := dk_79 (dk_at dksX6_dial_0 16 rfl rfl)
theorem dX6_dial_17 : decode cX6_dial 17 = .ok (.aload_n 0, 1) := dk_42 (dk_at dksX6_dial_0 17 rfl rfl)
theorem dX6_dial_18 : decode cX6_dial 18 = .ok (.invokevirtual 38, 3) := dk_182 0 38 (dk_at dksX6_dial_0 18 rfl rfl)
theorem dX6_dial_21 : decode cX6_dial 21 = .ok (.istore_n 2, 1) := dk_61 (dk_at dksX6_dial_0 21 rfl rfl)
theorem dX6_dial_22 : decode cX6_dial 22 = .ok (.iload_n 2, 1) := dk_28 (dk_at dksX6_dial_0 22 rfl rfl)
theorem dX6_dial_23 : decode cX6_dial 23 = .ok (.iload_n 2, 1) := dk_28 (dk_at dksX6_dial_0 23 rfl rfl)
theorem dX6_dial_24 : decode cX6_dial 24 = .ok (.multianewarray 42 2, 4) := by decide +kernel
theorem dX6_dial_28 : decode cX6_dial 28 = .ok (.astore_n 3, 1) := dk_78 (dk_at dksX6_dial_1 4 rfl rfl)
theorem dX6_dial_29 : decode cX6_dial 29 = .ok (.iconst 0, 1) := dk_3 (dk_at dksX6_dial_1 5 rfl rfl)
theorem dX6_dial_30 : decode cX6_dial 30 = .ok (.istore 4, 2) := dk_54 4 (dk_at dksX6_dial_1 6 rfl rfl)
theorem dX6_dial_32 : decode cX6_dial 32 = .ok (.iload 4, 2) := dk_21 4 (dk_at dksX6_dial_1 8 rfl rfl)
theorem dX6_dial_34 : decode cX6_dial 34 = .ok (.iload_n 2, 1) := dk_28 (dk_at dksX6_dial_1 10 rfl rfl)
theorem dX6_dial_35 : decode cX6_dial 35 = .ok (.if_icmp .ge 61, 3) := dk_162 0 61 (dk_at dksX6_dial_1 11 rfl rfl)
theorem dX6_dial_38 : decode cX6_dial 38 = .ok (.iconst 0, 1) := dk_3 (dk_at dksX6_dial_1 14 rfl rfl)
theorem dX6_dial_39 : decode cX6_dial 39 = .ok (.istore 5, 2) := dk_54 5 (dk_at dksX6_dial_1 15 rfl rfl)
theorem dX6_dial_41 : decode cX6_dial 41 = .ok (.iload 5, 2) := dk_21 5 (dk_at dksX6_dial_1 17 rfl rfl)
theorem dX6_dial_43 : decode cX6_dial 43 = .ok (.iload_n 2, 1) := dk_28 (dk_at dksX6_dial_1 19 rfl rfl)
theorem dX6_dial_44 : decode cX6_dial 44 = .ok (.if_icmp .ge 46, 3) := dk_162 0 46 (dk_at dksX6_dial_1 20 rfl rfl)
theorem dX6_dial_47 : decode cX6_dial 47 = .ok (.aload_n 3, 1) := dk_45 (dk_at dksX6_dial_1 23 rfl rfl)
theorem dX6_dial_48 : decode cX6_dial 48 = .ok (.iload 4, 2) := dk_21 4 (dk_at dksX6_dial_2 0 rfl rfl)
theorem dX6_dial_50 : decode cX6_dial 50 = .ok (.aaload, 1) := dk_50 (dk_at dksX6_dial_2 2 rfl rfl)
theorem dX6_dial_51 : decode cX6_dial 51 = .ok (.iload 5, 2) := dk_21 5 (dk_at dksX6_dial_2 3 rfl rfl)
theorem dX6_dial_53 : decode cX6_dial 53 = .ok (.aload_n 0, 1) := dk_42 (dk_at dksX6_dial_2 5 rfl rfl)
theorem dX6_dial_54 : decode cX6_dial 54 = .ok (.getfield 31, 3) := dk_180 0 31 (dk_at dksX6_dial_2 6 rfl rfl)
theorem dX6_dial_57 : decode cX6_dial 57 = .ok (.ifCond .ne 18, 3) := dk_154 0 18 (dk_at dksX6_dial_2 9 rfl rfl)
theorem dX6_dial_60 : decode cX6_dial 60 = .ok (.aload_n 0, 1) := dk_42 (dk_at dksX6_dial_2 12 rfl rfl)
theorem dX6_dial_61 : decode cX6_dial 61 = .ok (.iload 4, 2) := dk_21 4 (dk_at dksX6_dial_2 13 rfl rfl)
theorem dX6_dial_63 : decode cX6_dial 63 = .ok (.iload 5, 2) := dk_21 5 (dk_at dksX6_dial_2 15 rfl rfl)
theorem dX6_dial_65 : decode cX6_dial 65 = .ok (.iload_n 2, 1) := dk_28 (dk_at dksX6_dial_2 17 rfl rfl)
theorem dX6_dial_66 : decode cX6_dial 66 = .ok (.iconst 2, 1) := dk_5 (dk_at dksX6_dial_2 18 rfl rfl)
theorem dX6_dial_67 : decode cX6_dial 67 = .ok (.idiv, 1) := dk_108 (dk_at dksX6_dial_2 19 rfl rfl)
theorem dX6_dial_68 : decode cX6_dial 68 = .ok (.iload_n 1, 1) := dk_27 (dk_at dksX6_dial_2 20 rfl rfl)
theorem dX6_dial_69 : decode cX6_dial 69 = .ok (.invokevirtual 43, 3) := dk_182 0 43 (dk_at dksX6_dial_2 21 rfl rfl)
theorem dX6_dial_72 : decode cX6_dial 72 = .ok (.goto 11, 3) := dk_167 0 11 (dk_at dksX6_dial_3 0 rfl rfl)
theorem dX6_dial_75 : decode cX6_dial 75 = .ok (.aload_n 0, 1) := dk_42 (dk_at dksX6_dial_3 3 rfl rfl)
theorem dX6_dial_76 : decode cX6_dial 76 = .ok (.iload 4, 2) := dk_21 4 (dk_at dksX6_dial_3 4 rfl rfl)
theorem dX6_dial_78 : decode cX6_dial 78 = .ok (.iload 5, 2) := dk_21 5 (dk_at dksX6_dial_3 6 rfl rfl)
theorem dX6_dial_80 : decode cX6_dial 80 = .ok (.invokevirtual 47, 3) := dk_182 0 47 (dk_at dksX6_dial_3 8 rfl rfl)
theorem dX6_dial_83 : decode cX6_dial 83 = .ok (.iastore, 1) := dk_79 (dk_at dksX6_dial_3 11 rfl rfl)
theorem dX6_dial_84 : decode cX6_dial 84 = .ok (.iinc 5 1, 3) := dk_132 5 1 (dk_at dksX6_dial_3 12 rfl rfl)
theorem dX6_dial_87 : decode cX6_dial 87 = .ok (.goto (-46), 3) := dk_167 255 210 (dk_at dksX6_dial_3 15 rfl rfl)
theorem dX6_dial_90 : decode cX6_dial 90 = .ok (.iinc 4 1, 3) := dk_132 4 1 (dk_at dksX6_dial_3 18 rfl rfl)
theorem dX6_dial_93 : decode cX6_dial 93 = .ok (.goto (-61), 3) := dk_167 255 195 (dk_at dksX6_dial_3 21 rfl rfl)
theorem dX6_dial_96 : decode cX6_dial 96 = .ok (.aload_n 0, 1) := dk_42 (dk_at dksX6_dial_4 0 rfl rfl)
theorem dX6_dial_97 : decode cX6_dial 97 = .ok (.aload_n 3, 1) := dk_45 (dk_at dksX6_dial_4 1 rfl rfl)
theorem dX6_dial_98 : decode cX6_dial 98 = .ok (.putfield 20, 3) := dk_181 0 20 (dk_at dksX6_dial_4 2 rfl rfl)
theorem dX6_dial_101 : decode cX6_dial 101 = .ok (.return_, 1) := dk_177 (dk_at dksX6_dial_4 5 rfl rfl)
abbrev cX6_units : ByteArray := prog_12_method_2_code
def yX6_units : MethodName := ⟨RX6, "units", "()I"⟩
def dkwX6_units_0 : List UInt8 := [4, 42, 180, 0, 35, 120, 172]
abbrev dktX6_units_0 : List UInt8 := dkwX6_units_0 ++ []
theorem dksX6_units_0 : cX6_units.data.toList.drop 0 = dktX6_units_0 := by decide +kernel
theorem dX6_units_0 : decode cX6_units 0 = .ok (.iconst 1, 1) := dk_4 (dk_at dksX6_units_0 0 rfl rfl)
theorem dX6_units_1 : decode cX6_units 1 = .ok (.aload_n 0, 1) := dk_42 (dk_at dksX6_units_0 1 rfl rfl)
theorem dX6_units_2 : decode cX6_units 2 = .ok (.getfield 35, 3) := dk_180 0 35 (dk_at dksX6_units_0 2 rfl rfl)
theorem dX6_units_5 : decode cX6_units 5 = .ok (.ishl, 1) := dk_120 (dk_at dksX6_units_0 5 rfl rfl)
theorem dX6_units_6 : decode cX6_units 6 = .ok (.ireturn, 1) := dk_172 (dk_at dksX6_units_0 6 rfl rfl)
abbrev cX6_doubled : ByteArray := prog_12_method_4_code
def yX6_doubled : MethodName := ⟨RX6, "doubled", "(IIII)I"⟩
def dkwX6_doubled_4 : List UInt8 := [21, 6, 50, 21, 5, 46, 104, 182, 0, 55, 172]
abbrev dktX6_doubled_4 : List UInt8 := dkwX6_doubled_4 ++ []
def dkwX6_doubled_3 : List UInt8 := [182, 0, 55, 167, 0, 30, 42, 180, 0, 3, 21, 4, 42, 21, 6, 182, 0, 51, 104, 42, 180, 0, 20]
abbrev dktX6_doubled_3 : List UInt8 := dkwX6_doubled_3 ++ dktX6_doubled_4
def dkwX6_doubled_2 : List UInt8 := [162, 0, 30, 42, 180, 0, 3, 42, 180, 0, 20, 21, 5, 50, 21, 6, 46, 42, 21, 6, 182, 0, 51, 104]
abbrev dktX6_doubled_2 : List UInt8 := dkwX6_doubled_2 ++ dktX6_doubled_3
def dkwX6_doubled_1 : List UInt8 := [21, 5, 50, 21, 6, 46, 167, 0, 13, 42, 180, 0, 20, 21, 6, 50, 21, 5, 46, 172, 28, 29]
abbrev dktX6_doubled_1 : List UInt8 := dkwX6_doubled_1 ++ dktX6_doubled_2
def dkwX6_doubled_0 : List UInt8 := [27, 29, 112, 54, 5, 28, 29, 112, 54, 6, 27, 29, 162, 0, 32, 28, 29, 162, 0, 16, 42, 180, 0, 20]
abbrev dktX6_doubled_0 : List UInt8 := dkwX6_doubled_0 ++ dktX6_doubled_1
theorem dksX6_doubled_0 : cX6_doubled.data.toList.drop 0 = dktX6_doubled_0 := by decide +kernel
theorem dksX6_doubled_1 : cX6_doubled.data.toList.drop 24 = dktX6_doubled_1 := dk_seg dksX6_doubled_0 24 rfl rfl
theorem dksX6_doubled_2 : cX6_doubled.data.toList.drop 46 = dktX6_doubled_2 := dk_seg dksX6_doubled_1 22 rfl rfl
theorem dksX6_doubled_3 : cX6_doubled.data.toList.drop 70 = dktX6_doubled_3 := dk_seg dksX6_doubled_2 24 rfl rfl
theorem dksX6_doubled_4 : cX6_doubled.data.toList.drop 93 = dktX6_doubled_4 := dk_seg dksX6_doubled_3 23 rfl rfl
theorem dX6_doubled_0 : decode cX6_doubled 0 = .ok (.iload_n 1, 1) := dk_27 (dk_at dksX6_doubled_0 0 rfl rfl)
theorem dX6_doubled_1 : decode cX6_doubled 1 = .ok (.iload_n 3, 1) := dk_29 (dk_at dksX6_doubled_0 1 rfl rfl)
theorem dX6_doubled_2 : decode cX6_doubled 2 = .ok (.irem, 1) := dk_112 (dk_at dksX6_doubled_0 2 rfl rfl)
theorem dX6_doubled_3 : decode cX6_doubled 3 = .ok (.istore 5, 2) := dk_54 5 (dk_at dksX6_doubled_0 3 rfl rfl)
theorem dX6_doubled_5 : decode cX6_doubled 5 = .ok (.iload_n 2, 1) := dk_28 (dk_at dksX6_doubled_0 5 rfl rfl)
theorem dX6_doubled_6 : decode cX6_doubled 6 = .ok (.iload_n 3, 1) := dk_29 (dk_at dksX6_doubled_0 6 rfl rfl)
theorem dX6_doubled_7 : decode cX6_doubled 7 = .ok (.irem, 1) := dk_112 (dk_at dksX6_doubled_0 7 rfl rfl)
theorem dX6_doubled_8 : decode cX6_doubled 8 = .ok (.istore 6, 2) := dk_54 6 (dk_at dksX6_doubled_0 8 rfl rfl)
theorem dX6_doubled_10 : decode cX6_doubled 10 = .ok (.iload_n 1, 1) := dk_27 (dk_at dksX6_doubled_0 10 rfl rfl)
theorem dX6_doubled_11 : decode cX6_doubled 11 = .ok (.iload_n 3, 1) := dk_29 (dk_at dksX6_doubled_0 11 rfl rfl)
theorem dX6_doubled_12 : decode cX6_doubled 12 = .ok (.if_icmp .ge 32, 3) := dk_162 0 32 (dk_at dksX6_doubled_0 12 rfl rfl)
theorem dX6_doubled_15 : decode cX6_doubled 15 = .ok (.iload_n 2, 1) := dk_28 (dk_at dksX6_doubled_0 15 rfl rfl)
theorem dX6_doubled_16 : decode cX6_doubled 16 = .ok (.iload_n 3, 1) := dk_29 (dk_at dksX6_doubled_0 16 rfl rfl)
theorem dX6_doubled_17 : decode cX6_doubled 17 = .ok (.if_icmp .ge 16, 3) := dk_162 0 16 (dk_at dksX6_doubled_0 17 rfl rfl)
theorem dX6_doubled_20 : decode cX6_doubled 20 = .ok (.aload_n 0, 1) := dk_42 (dk_at dksX6_doubled_0 20 rfl rfl)
theorem dX6_doubled_21 : decode cX6_doubled 21 = .ok (.getfield 20, 3) := dk_180 0 20 (dk_at dksX6_doubled_0 21 rfl rfl)
theorem dX6_doubled_24 : decode cX6_doubled 24 = .ok (.iload 5, 2) := dk_21 5 (dk_at dksX6_doubled_1 0 rfl rfl)
theorem dX6_doubled_26 : decode cX6_doubled 26 = .ok (.aaload, 1) := dk_50 (dk_at dksX6_doubled_1 2 rfl rfl)
theorem dX6_doubled_27 : decode cX6_doubled 27 = .ok (.iload 6, 2) := dk_21 6 (dk_at dksX6_doubled_1 3 rfl rfl)
theorem dX6_doubled_29 : decode cX6_doubled 29 = .ok (.iaload, 1) := dk_46 (dk_at dksX6_doubled_1 5 rfl rfl)
theorem dX6_doubled_30 : decode cX6_doubled 30 = .ok (.goto 13, 3) := dk_167 0 13 (dk_at dksX6_doubled_1 6 rfl rfl)
theorem dX6_doubled_33 : decode cX6_doubled 33 = .ok (.aload_n 0, 1) := dk_42 (dk_at dksX6_doubled_1 9 rfl rfl)
theorem dX6_doubled_34 : decode cX6_doubled 34 = .ok (.getfield 20, 3) := dk_180 0 20 (dk_at dksX6_doubled_1 10 rfl rfl)
theorem dX6_doubled_37 : decode cX6_doubled 37 = .ok (.iload 6, 2) := dk_21 6 (dk_at dksX6_doubled_1 13 rfl rfl)
theorem dX6_doubled_39 : decode cX6_doubled 39 = .ok (.aaload, 1) := dk_50 (dk_at dksX6_doubled_1 15 rfl rfl)
theorem dX6_doubled_40 : decode cX6_doubled 40 = .ok (.iload 5, 2) := dk_21 5 (dk_at dksX6_doubled_1 16 rfl rfl)
theorem dX6_doubled_42 : decode cX6_doubled 42 = .ok (.iaload, 1) := dk_46 (dk_at dksX6_doubled_1 18 rfl rfl)
theorem dX6_doubled_43 : decode cX6_doubled 43 = .ok (.ireturn, 1) := dk_172 (dk_at dksX6_doubled_1 19 rfl rfl)
theorem dX6_doubled_44 : decode cX6_doubled 44 = .ok (.iload_n 2, 1) := dk_28 (dk_at dksX6_doubled_1 20 rfl rfl)
theorem dX6_doubled_45 : decode cX6_doubled 45 = .ok (.iload_n 3, 1) := dk_29 (dk_at dksX6_doubled_1 21 rfl rfl)
theorem dX6_doubled_46 : decode cX6_doubled 46 = .ok (.if_icmp .ge 30, 3) := dk_162 0 30 (dk_at dksX6_doubled_2 0 rfl rfl)
theorem dX6_doubled_49 : decode cX6_doubled 49 = .ok (.aload_n 0, 1) := dk_42 (dk_at dksX6_doubled_2 3 rfl rfl)
theorem dX6_doubled_50 : decode cX6_doubled 50 = .ok (.getfield 3, 3) := dk_180 0 3 (dk_at dksX6_doubled_2 4 rfl rfl)
theorem dX6_doubled_53 : decode cX6_doubled 53 = .ok (.aload_n 0, 1) := dk_42 (dk_at dksX6_doubled_2 7 rfl rfl)
theorem dX6_doubled_54 : decode cX6_doubled 54 = .ok (.getfield 20, 3) := dk_180 0 20 (dk_at dksX6_doubled_2 8 rfl rfl)
theorem dX6_doubled_57 : decode cX6_doubled 57 = .ok (.iload 5, 2) := dk_21 5 (dk_at dksX6_doubled_2 11 rfl rfl)
theorem dX6_doubled_59 : decode cX6_doubled 59 = .ok (.aaload, 1) := dk_50 (dk_at dksX6_doubled_2 13 rfl rfl)
theorem dX6_doubled_60 : decode cX6_doubled 60 = .ok (.iload 6, 2) := dk_21 6 (dk_at dksX6_doubled_2 14 rfl rfl)
theorem dX6_doubled_62 : decode cX6_doubled 62 = .ok (.iaload, 1) := dk_46 (dk_at dksX6_doubled_2 16 rfl rfl)
theorem dX6_doubled_63 : decode cX6_doubled 63 = .ok (.aload_n 0, 1) := dk_42 (dk_at dksX6_doubled_2 17 rfl rfl)
theorem dX6_doubled_64 : decode cX6_doubled 64 = .ok (.iload 6, 2) := dk_21 6 (dk_at dksX6_doubled_2 18 rfl rfl)
theorem dX6_doubled_66 : decode cX6_doubled 66 = .ok (.invokevirtual 51, 3) := dk_182 0 51 (dk_at dksX6_doubled_2 20 rfl rfl)
theorem dX6_doubled_69 : decode cX6_doubled 69 = .ok (.imul, 1) := dk_104 (dk_at dksX6_doubled_2 23 rfl rfl)
theorem dX6_doubled_70 : decode cX6_doubled 70 = .ok (.invokevirtual 55, 3) := dk_182 0 55 (dk_at dksX6_doubled_3 0 rfl rfl)
theorem dX6_doubled_73 : decode cX6_doubled 73 = .ok (.goto 30, 3) := dk_167 0 30 (dk_at dksX6_doubled_3 3 rfl rfl)
theorem dX6_doubled_76 : decode cX6_doubled 76 = .ok (.aload_n 0, 1) := dk_42 (dk_at dksX6_doubled_3 6 rfl rfl)
theorem dX6_doubled_77 : decode cX6_doubled 77 = .ok (.getfield 3, 3) := dk_180 0 3 (dk_at dksX6_doubled_3 7 rfl rfl)
theorem dX6_doubled_80 : decode cX6_doubled 80 = .ok (.iload 4, 2) := dk_21 4 (dk_at dksX6_doubled_3 10 rfl rfl)
theorem dX6_doubled_82 : decode cX6_doubled 82 = .ok (.aload_n 0, 1) := dk_42 (dk_at dksX6_doubled_3 12 rfl rfl)
theorem dX6_doubled_83 : decode cX6_doubled 83 = .ok (.iload 6, 2) := dk_21 6 (dk_at dksX6_doubled_3 13 rfl rfl)
theorem dX6_doubled_85 : decode cX6_doubled 85 = .ok (.invokevirtual 51, 3) := dk_182 0 51 (dk_at dksX6_doubled_3 15 rfl rfl)
theorem dX6_doubled_88 : decode cX6_doubled 88 = .ok (.imul, 1) := dk_104 (dk_at dksX6_doubled_3 18 rfl rfl)
theorem dX6_doubled_89 : decode cX6_doubled 89 = .ok (.aload_n 0, 1) := dk_42 (dk_at dksX6_doubled_3 19 rfl rfl)
theorem dX6_doubled_90 : decode cX6_doubled 90 = .ok (.getfield 20, 3) := dk_180 0 20 (dk_at dksX6_doubled_3 20 rfl rfl)
theorem dX6_doubled_93 : decode cX6_doubled 93 = .ok (.iload 6, 2) := dk_21 6 (dk_at dksX6_doubled_4 0 rfl rfl)
theorem dX6_doubled_95 : decode cX6_doubled 95 = .ok (.aaload, 1) := dk_50 (dk_at dksX6_doubled_4 2 rfl rfl)
theorem dX6_doubled_96 : decode cX6_doubled 96 = .ok (.iload 5, 2) := dk_21 5 (dk_at dksX6_doubled_4 3 rfl rfl)
theorem dX6_doubled_98 : decode cX6_doubled 98 = .ok (.iaload, 1) := dk_46 (dk_at dksX6_doubled_4 5 rfl rfl)
theorem dX6_doubled_99 : decode cX6_doubled 99 = .ok (.imul, 1) := dk_104 (dk_at dksX6_doubled_4 6 rfl rfl)
theorem dX6_doubled_100 : decode cX6_doubled 100 = .ok (.invokevirtual 55, 3) := dk_182 0 55 (dk_at dksX6_doubled_4 7 rfl rfl)
theorem dX6_doubled_103 : decode cX6_doubled 103 = .ok (.ireturn, 1) := dk_172 (dk_at dksX6_doubled_4 10 rfl rfl)
abbrev cX6_conjugate : ByteArray := prog_12_method_6_code
def yX6_conjugate : MethodName := ⟨RX6, "conjugate", "(I)I"⟩
def dkwX6_conjugate_1 : List UInt8 := [28, 4, 159, 0, 8, 28, 5, 160, 0, 7, 2, 167, 0, 4, 4, 172]
abbrev dktX6_conjugate_1 : List UInt8 := dkwX6_conjugate_1 ++ []
def dkwX6_conjugate_0 : List UInt8 := [42, 180, 0, 31, 154, 0, 13, 27, 154, 0, 7, 4, 167, 0, 4, 2, 172, 27, 184, 0, 58, 7, 112, 61]
abbrev dktX6_conjugate_0 : List UInt8 := dkwX6_conjugate_0 ++ dktX6_conjugate_1
theorem dksX6_conjugate_0 : cX6_conjugate.data.toList.drop 0 = dktX6_conjugate_0 := by decide +kernel
theorem dksX6_conjugate_1 : cX6_conjugate.data.toList.drop 24 = dktX6_conjugate_1 := dk_seg dksX6_conjugate_0 24 rfl rfl
theorem dX6_conjugate_0 : decode cX6_conjugate 0 = .ok (.aload_n 0, 1) := dk_42 (dk_at dksX6_conjugate_0 0 rfl rfl)
theorem dX6_conjugate_1 : decode cX6_conjugate 1 = .ok (.getfield 31, 3) := dk_180 0 31 (dk_at dksX6_conjugate_0 1 rfl rfl)
theorem dX6_conjugate_4 : decode cX6_conjugate 4 = .ok (.ifCond .ne 13, 3) := dk_154 0 13 (dk_at dksX6_conjugate_0 4 rfl rfl)
theorem dX6_conjugate_7 : decode cX6_conjugate 7 = .ok (.iload_n 1, 1) := dk_27 (dk_at dksX6_conjugate_0 7 rfl rfl)
theorem dX6_conjugate_8 : decode cX6_conjugate 8 = .ok (.ifCond .ne 7, 3) := dk_154 0 7 (dk_at dksX6_conjugate_0 8 rfl rfl)
theorem dX6_conjugate_11 : decode cX6_conjugate 11 = .ok (.iconst 1, 1) := dk_4 (dk_at dksX6_conjugate_0 11 rfl rfl)
theorem dX6_conjugate_12 : decode cX6_conjugate 12 = .ok (.goto 4, 3) := dk_167 0 4 (dk_at dksX6_conjugate_0 12 rfl rfl)
theorem dX6_conjugate_15 : decode cX6_conjugate 15 = .ok (.iconst (-1), 1) := dk_2 (dk_at dksX6_conjugate_0 15 rfl rfl)
theorem dX6_conjugate_16 : decode cX6_conjugate 16 = .ok (.ireturn, 1) := dk_172 (dk_at dksX6_conjugate_0 16 rfl rfl)
theorem dX6_conjugate_17 : decode cX6_conjugate 17 = .ok (.iload_n 1, 1) := dk_27 (dk_at dksX6_conjugate_0 17 rfl rfl)
theorem dX6_conjugate_18 : decode cX6_conjugate 18 = .ok (.invokestatic 58, 3) := dk_184 0 58 (dk_at dksX6_conjugate_0 18 rfl rfl)
theorem dX6_conjugate_21 : decode cX6_conjugate 21 = .ok (.iconst 4, 1) := dk_7 (dk_at dksX6_conjugate_0 21 rfl rfl)
theorem dX6_conjugate_22 : decode cX6_conjugate 22 = .ok (.irem, 1) := dk_112 (dk_at dksX6_conjugate_0 22 rfl rfl)
theorem dX6_conjugate_23 : decode cX6_conjugate 23 = .ok (.istore_n 2, 1) := dk_61 (dk_at dksX6_conjugate_0 23 rfl rfl)
theorem dX6_conjugate_24 : decode cX6_conjugate 24 = .ok (.iload_n 2, 1) := dk_28 (dk_at dksX6_conjugate_1 0 rfl rfl)
theorem dX6_conjugate_25 : decode cX6_conjugate 25 = .ok (.iconst 1, 1) := dk_4 (dk_at dksX6_conjugate_1 1 rfl rfl)
theorem dX6_conjugate_26 : decode cX6_conjugate 26 = .ok (.if_icmp .eq 8, 3) := dk_159 0 8 (dk_at dksX6_conjugate_1 2 rfl rfl)
theorem dX6_conjugate_29 : decode cX6_conjugate 29 = .ok (.iload_n 2, 1) := dk_28 (dk_at dksX6_conjugate_1 5 rfl rfl)
theorem dX6_conjugate_30 : decode cX6_conjugate 30 = .ok (.iconst 2, 1) := dk_5 (dk_at dksX6_conjugate_1 6 rfl rfl)
theorem dX6_conjugate_31 : decode cX6_conjugate 31 = .ok (.if_icmp .ne 7, 3) := dk_160 0 7 (dk_at dksX6_conjugate_1 7 rfl rfl)
theorem dX6_conjugate_34 : decode cX6_conjugate 34 = .ok (.iconst (-1), 1) := dk_2 (dk_at dksX6_conjugate_1 10 rfl rfl)
theorem dX6_conjugate_35 : decode cX6_conjugate 35 = .ok (.goto 4, 3) := dk_167 0 4 (dk_at dksX6_conjugate_1 11 rfl rfl)
theorem dX6_conjugate_38 : decode cX6_conjugate 38 = .ok (.iconst 1, 1) := dk_4 (dk_at dksX6_conjugate_1 14 rfl rfl)
theorem dX6_conjugate_39 : decode cX6_conjugate 39 = .ok (.ireturn, 1) := dk_172 (dk_at dksX6_conjugate_1 15 rfl rfl)
abbrev cX6_blade : ByteArray := prog_12_method_5_code
def yX6_blade : MethodName := ⟨RX6, "blade", "(II)I"⟩
def dkwX6_blade_4 : List UInt8 := [167, 255, 167, 42, 180, 0, 3, 29, 182, 0, 55, 172]
abbrev dktX6_blade_4 : List UInt8 := dkwX6_blade_4 ++ []
def dkwX6_blade_3 : List UInt8 := [4, 160, 0, 13, 42, 180, 0, 15, 21, 4, 46, 167, 0, 4, 4, 104, 182, 0, 55, 62, 132, 4, 1]
abbrev dktX6_blade_3 : List UInt8 := dkwX6_blade_3 ++ dktX6_blade_4
def dkwX6_blade_2 : List UInt8 := [2, 167, 0, 4, 4, 104, 62, 132, 5, 1, 167, 255, 228, 42, 180, 0, 3, 29, 28, 21, 4, 122, 4, 126]
abbrev dktX6_blade_2 : List UInt8 := dkwX6_blade_2 ++ dktX6_blade_3
def dkwX6_blade_1 : List UInt8 := [167, 0, 68, 3, 54, 5, 21, 5, 21, 4, 162, 0, 27, 29, 28, 21, 5, 122, 4, 126, 4, 160, 0, 7]
abbrev dktX6_blade_1 : List UInt8 := dkwX6_blade_1 ++ dktX6_blade_2
def dkwX6_blade_0 : List UInt8 := [4, 62, 3, 54, 4, 21, 4, 42, 180, 0, 35, 162, 0, 86, 27, 21, 4, 122, 4, 126, 154, 0, 6]
abbrev dktX6_blade_0 : List UInt8 := dkwX6_blade_0 ++ dktX6_blade_1
theorem dksX6_blade_0 : cX6_blade.data.toList.drop 0 = dktX6_blade_0 := by decide +kernel
theorem dksX6_blade_1 : cX6_blade.data.toList.drop 23 = dktX6_blade_1 := dk_seg dksX6_blade_0 23 rfl rfl
theorem dksX6_blade_2 : cX6_blade.data.toList.drop 47 = dktX6_blade_2 := dk_seg dksX6_blade_1 24 rfl rfl
theorem dksX6_blade_3 : cX6_blade.data.toList.drop 71 = dktX6_blade_3 := dk_seg dksX6_blade_2 24 rfl rfl
theorem dksX6_blade_4 : cX6_blade.data.toList.drop 94 = dktX6_blade_4 := dk_seg dksX6_blade_3 23 rfl rfl
theorem dX6_blade_0 : decode cX6_blade 0 = .ok (.iconst 1, 1) := dk_4 (dk_at dksX6_blade_0 0 rfl rfl)
theorem dX6_blade_1 : decode cX6_blade 1 = .ok (.istore_n 3, 1) := dk_62 (dk_at dksX6_blade_0 1 rfl rfl)
theorem dX6_blade_2 : decode cX6_blade 2 = .ok (.iconst 0, 1) := dk_3 (dk_at dksX6_blade_0 2 rfl rfl)
theorem dX6_blade_3 : decode cX6_blade 3 = .ok (.istore 4, 2) := dk_54 4 (dk_at dksX6_blade_0 3 rfl rfl)
theorem dX6_blade_5 : decode cX6_blade 5 = .ok (.iload 4, 2) := dk_21 4 (dk_at dksX6_blade_0 5 rfl rfl)
theorem dX6_blade_7 : decode cX6_blade 7 = .ok (.aload_n 0, 1) := dk_42 (dk_at dksX6_blade_0 7 rfl rfl)
theorem dX6_blade_8 : decode cX6_blade 8 = .ok (.getfield 35, 3) := dk_180 0 35 (dk_at dksX6_blade_0 8 rfl rfl)
theorem dX6_blade_11 : decode cX6_blade 11 = .ok (.if_icmp .ge 86, 3) := dk_162 0 86 (dk_at dksX6_blade_0 11 rfl rfl)
theorem dX6_blade_14 : decode cX6_blade 14 = .ok (.iload_n 1, 1) := dk_27 (dk_at dksX6_blade_0 14 rfl rfl)
theorem dX6_blade_15 : decode cX6_blade 15 = .ok (.iload 4, 2) := dk_21 4 (dk_at dksX6_blade_0 15 rfl rfl)
theorem dX6_blade_17 : decode cX6_blade 17 = .ok (.ishr, 1) := dk_122 (dk_at dksX6_blade_0 17 rfl rfl)
theorem dX6_blade_18 : decode cX6_blade 18 = .ok (.iconst 1, 1) := dk_4 (dk_at dksX6_blade_0 18 rfl rfl)
theorem dX6_blade_19 : decode cX6_blade 19 = .ok (.iand, 1) := dk_126 (dk_at dksX6_blade_0 19 rfl rfl)
theorem dX6_blade_20 : decode cX6_blade 20 = .ok (.ifCond .ne 6, 3) := dk_154 0 6 (dk_at dksX6_blade_0 20 rfl rfl)
theorem dX6_blade_23 : decode cX6_blade 23 = .ok (.goto 68, 3) := dk_167 0 68 (dk_at dksX6_blade_1 0 rfl rfl)
theorem dX6_blade_26 : decode cX6_blade 26 = .ok (.iconst 0, 1) := dk_3 (dk_at dksX6_blade_1 3 rfl rfl)
theorem dX6_blade_27 : decode cX6_blade 27 = .ok (.istore 5, 2) := dk_54 5 (dk_at dksX6_blade_1 4 rfl rfl)
theorem dX6_blade_29 : decode cX6_blade 29 = .ok (.iload 5, 2) := dk_21 5 (dk_at dksX6_blade_1 6 rfl rfl)
theorem dX6_blade_31 : decode cX6_blade 31 = .ok (.iload 4, 2) := dk_21 4 (dk_at dksX6_blade_1 8 rfl rfl)
theorem dX6_blade_33 : decode cX6_blade 33 = .ok (.if_icmp .ge 27, 3) := dk_162 0 27 (dk_at dksX6_blade_1 10 rfl rfl)
theorem dX6_blade_36 : decode cX6_blade 36 = .ok (.iload_n 3, 1) := dk_29 (dk_at dksX6_blade_1 13 rfl rfl)
theorem dX6_blade_37 : decode cX6_blade 37 = .ok (.iload_n 2, 1) := dk_28 (dk_at dksX6_blade_1 14 rfl rfl)
theorem dX6_blade_38 : decode cX6_blade 38 = .ok (.iload 5, 2) := dk_21 5 (dk_at dksX6_blade_1 15 rfl rfl)
theorem dX6_blade_40 : decode cX6_blade 40 = .ok (.ishr, 1) := dk_122 (dk_at dksX6_blade_1 17 rfl rfl)
theorem dX6_blade_41 : decode cX6_blade 41 = .ok (.iconst 1, 1) := dk_4 (dk_at dksX6_blade_1 18 rfl rfl)
theorem dX6_blade_42 : decode cX6_blade 42 = .ok (.iand, 1) := dk_126 (dk_at dksX6_blade_1 19 rfl rfl)
theorem dX6_blade_43 : decode cX6_blade 43 = .ok (.iconst 1, 1) := dk_4 (dk_at dksX6_blade_1 20 rfl rfl)
theorem dX6_blade_44 : decode cX6_blade 44 = .ok (.if_icmp .ne 7, 3) := dk_160 0 7 (dk_at dksX6_blade_1 21 rfl rfl)
theorem dX6_blade_47 : decode cX6_blade 47 = .ok (.iconst (-1), 1) := dk_2 (dk_at dksX6_blade_2 0 rfl rfl)
theorem dX6_blade_48 : decode cX6_blade 48 = .ok (.goto 4, 3) := dk_167 0 4 (dk_at dksX6_blade_2 1 rfl rfl)
theorem dX6_blade_51 : decode cX6_blade 51 = .ok (.iconst 1, 1) := dk_4 (dk_at dksX6_blade_2 4 rfl rfl)
theorem dX6_blade_52 : decode cX6_blade 52 = .ok (.imul, 1) := dk_104 (dk_at dksX6_blade_2 5 rfl rfl)
theorem dX6_blade_53 : decode cX6_blade 53 = .ok (.istore_n 3, 1) := dk_62 (dk_at dksX6_blade_2 6 rfl rfl)
theorem dX6_blade_54 : decode cX6_blade 54 = .ok (.iinc 5 1, 3) := dk_132 5 1 (dk_at dksX6_blade_2 7 rfl rfl)
theorem dX6_blade_57 : decode cX6_blade 57 = .ok (.goto (-28), 3) := dk_167 255 228 (dk_at dksX6_blade_2 10 rfl rfl)
theorem dX6_blade_60 : decode cX6_blade 60 = .ok (.aload_n 0, 1) := dk_42 (dk_at dksX6_blade_2 13 rfl rfl)
theorem dX6_blade_61 : decode cX6_blade 61 = .ok (.getfield 3, 3) := dk_180 0 3 (dk_at dksX6_blade_2 14 rfl rfl)
theorem dX6_blade_64 : decode cX6_blade 64 = .ok (.iload_n 3, 1) := dk_29 (dk_at dksX6_blade_2 17 rfl rfl)
theorem dX6_blade_65 : decode cX6_blade 65 = .ok (.iload_n 2, 1) := dk_28 (dk_at dksX6_blade_2 18 rfl rfl)
theorem dX6_blade_66 : decode cX6_blade 66 = .ok (.iload 4, 2) := dk_21 4 (dk_at dksX6_blade_2 19 rfl rfl)
theorem dX6_blade_68 : decode cX6_blade 68 = .ok (.ishr, 1) := dk_122 (dk_at dksX6_blade_2 21 rfl rfl)
theorem dX6_blade_69 : decode cX6_blade 69 = .ok (.iconst 1, 1) := dk_4 (dk_at dksX6_blade_2 22 rfl rfl)
theorem dX6_blade_70 : decode cX6_blade 70 = .ok (.iand, 1) := dk_126 (dk_at dksX6_blade_2 23 rfl rfl)
theorem dX6_blade_71 : decode cX6_blade 71 = .ok (.iconst 1, 1) := dk_4 (dk_at dksX6_blade_3 0 rfl rfl)
theorem dX6_blade_72 : decode cX6_blade 72 = .ok (.if_icmp .ne 13, 3) := dk_160 0 13 (dk_at dksX6_blade_3 1 rfl rfl)
theorem dX6_blade_75 : decode cX6_blade 75 = .ok (.aload_n 0, 1) := dk_42 (dk_at dksX6_blade_3 4 rfl rfl)
theorem dX6_blade_76 : decode cX6_blade 76 = .ok (.getfield 15, 3) := dk_180 0 15 (dk_at dksX6_blade_3 5 rfl rfl)
theorem dX6_blade_79 : decode cX6_blade 79 = .ok (.iload 4, 2) := dk_21 4 (dk_at dksX6_blade_3 8 rfl rfl)
theorem dX6_blade_81 : decode cX6_blade 81 = .ok (.iaload, 1) := dk_46 (dk_at dksX6_blade_3 10 rfl rfl)
theorem dX6_blade_82 : decode cX6_blade 82 = .ok (.goto 4, 3) := dk_167 0 4 (dk_at dksX6_blade_3 11 rfl rfl)
theorem dX6_blade_85 : decode cX6_blade 85 = .ok (.iconst 1, 1) := dk_4 (dk_at dksX6_blade_3 14 rfl rfl)
theorem dX6_blade_86 : decode cX6_blade 86 = .ok (.imul, 1) := dk_104 (dk_at dksX6_blade_3 15 rfl rfl)
theorem dX6_blade_87 : decode cX6_blade 87 = .ok (.invokevirtual 55, 3) := dk_182 0 55 (dk_at dksX6_blade_3 16 rfl rfl)
theorem dX6_blade_90 : decode cX6_blade 90 = .ok (.istore_n 3, 1) := dk_62 (dk_at dksX6_blade_3 19 rfl rfl)
theorem dX6_blade_91 : decode cX6_blade 91 = .ok (.iinc 4 1, 3) := dk_132 4 1 (dk_at dksX6_blade_3 20 rfl rfl)
theorem dX6_blade_94 : decode cX6_blade 94 = .ok (.goto (-89), 3) := dk_167 255 167 (dk_at dksX6_blade_4 0 rfl rfl)
theorem dX6_blade_97 : decode cX6_blade 97 = .ok (.aload_n 0, 1) := dk_42 (dk_at dksX6_blade_4 3 rfl rfl)
theorem dX6_blade_98 : decode cX6_blade 98 = .ok (.getfield 3, 3) := dk_180 0 3 (dk_at dksX6_blade_4 4 rfl rfl)
theorem dX6_blade_101 : decode cX6_blade 101 = .ok (.iload_n 3, 1) := dk_29 (dk_at dksX6_blade_4 7 rfl rfl)
theorem dX6_blade_102 : decode cX6_blade 102 = .ok (.invokevirtual 55, 3) := dk_182 0 55 (dk_at dksX6_blade_4 8 rfl rfl)
theorem dX6_blade_105 : decode cX6_blade 105 = .ok (.ireturn, 1) := dk_172 (dk_at dksX6_blade_4 11 rfl rfl)
abbrev cX6_times : ByteArray := prog_12_method_7_code
def yX6_times : MethodName := ⟨RX6, "times", "([I[I)[I"⟩
def dkwX6_times_4 : List UInt8 := [167, 255, 173, 45, 176]
abbrev dktX6_times_4 : List UInt8 := dkwX6_times_4 ++ []
def dkwX6_times_3 : List UInt8 := [180, 0, 20, 21, 4, 50, 21, 5, 46, 104, 96, 182, 0, 55, 79, 132, 5, 1, 167, 255, 189, 132, 4, 1]
abbrev dktX6_times_3 : List UInt8 := dkwX6_times_3 ++ dktX6_times_4
def dkwX6_times_2 : List UInt8 := [21, 5, 130, 46, 43, 21, 4, 46, 44, 21, 5, 46, 104, 42, 180, 0, 3, 180, 0, 61, 112, 42]
abbrev dktX6_times_2 : List UInt8 := dkwX6_times_2 ++ dktX6_times_3
def dkwX6_times_1 : List UInt8 := [162, 0, 66, 43, 21, 4, 46, 158, 0, 59, 45, 21, 4, 21, 5, 130, 42, 180, 0, 3, 45, 21, 4]
abbrev dktX6_times_1 : List UInt8 := dkwX6_times_1 ++ dktX6_times_2
def dkwX6_times_0 : List UInt8 := [42, 182, 0, 38, 188, 10, 78, 3, 54, 4, 21, 4, 45, 190, 162, 0, 82, 3, 54, 5, 21, 5, 45, 190]
abbrev dktX6_times_0 : List UInt8 := dkwX6_times_0 ++ dktX6_times_1
theorem dksX6_times_0 : cX6_times.data.toList.drop 0 = dktX6_times_0 := by decide +kernel
theorem dksX6_times_1 : cX6_times.data.toList.drop 24 = dktX6_times_1 := dk_seg dksX6_times_0 24 rfl rfl
theorem dksX6_times_2 : cX6_times.data.toList.drop 47 = dktX6_times_2 := dk_seg dksX6_times_1 23 rfl rfl
theorem dksX6_times_3 : cX6_times.data.toList.drop 69 = dktX6_times_3 := dk_seg dksX6_times_2 22 rfl rfl
theorem dksX6_times_4 : cX6_times.data.toList.drop 93 = dktX6_times_4 := dk_seg dksX6_times_3 24 rfl rfl
theorem dX6_times_0 : decode cX6_times 0 = .ok (.aload_n 0, 1) := dk_42 (dk_at dksX6_times_0 0 rfl rfl)
theorem dX6_times_1 : decode cX6_times 1 = .ok (.invokevirtual 38, 3) := dk_182 0 38 (dk_at dksX6_times_0 1 rfl rfl)
theorem dX6_times_4 : decode cX6_times 4 = .ok (.newarray .int, 2) := dk_188_10 (dk_at dksX6_times_0 4 rfl rfl)
theorem dX6_times_6 : decode cX6_times 6 = .ok (.astore_n 3, 1) := dk_78 (dk_at dksX6_times_0 6 rfl rfl)
theorem dX6_times_7 : decode cX6_times 7 = .ok (.iconst 0, 1) := dk_3 (dk_at dksX6_times_0 7 rfl rfl)
theorem dX6_times_8 : decode cX6_times 8 = .ok (.istore 4, 2) := dk_54 4 (dk_at dksX6_times_0 8 rfl rfl)
theorem dX6_times_10 : decode cX6_times 10 = .ok (.iload 4, 2) := dk_21 4 (dk_at dksX6_times_0 10 rfl rfl)
theorem dX6_times_12 : decode cX6_times 12 = .ok (.aload_n 3, 1) := dk_45 (dk_at dksX6_times_0 12 rfl rfl)
theorem dX6_times_13 : decode cX6_times 13 = .ok (.arraylength, 1) := dk_190 (dk_at dksX6_times_0 13 rfl rfl)
theorem dX6_times_14 : decode cX6_times 14 = .ok (.if_icmp .ge 82, 3) := dk_162 0 82 (dk_at dksX6_times_0 14 rfl rfl)
theorem dX6_times_17 : decode cX6_times 17 = .ok (.iconst 0, 1) := dk_3 (dk_at dksX6_times_0 17 rfl rfl)
theorem dX6_times_18 : decode cX6_times 18 = .ok (.istore 5, 2) := dk_54 5 (dk_at dksX6_times_0 18 rfl rfl)
theorem dX6_times_20 : decode cX6_times 20 = .ok (.iload 5, 2) := dk_21 5 (dk_at dksX6_times_0 20 rfl rfl)
theorem dX6_times_22 : decode cX6_times 22 = .ok (.aload_n 3, 1) := dk_45 (dk_at dksX6_times_0 22 rfl rfl)
theorem dX6_times_23 : decode cX6_times 23 = .ok (.arraylength, 1) := dk_190 (dk_at dksX6_times_0 23 rfl rfl)
theorem dX6_times_24 : decode cX6_times 24 = .ok (.if_icmp .ge 66, 3) := dk_162 0 66 (dk_at dksX6_times_1 0 rfl rfl)
theorem dX6_times_27 : decode cX6_times 27 = .ok (.aload_n 1, 1) := dk_43 (dk_at dksX6_times_1 3 rfl rfl)
theorem dX6_times_28 : decode cX6_times 28 = .ok (.iload 4, 2) := dk_21 4 (dk_at dksX6_times_1 4 rfl rfl)
theorem dX6_times_30 : decode cX6_times 30 = .ok (.iaload, 1) := dk_46 (dk_at dksX6_times_1 6 rfl rfl)
theorem dX6_times_31 : decode cX6_times 31 = .ok (.ifCond .le 59, 3) := dk_158 0 59 (dk_at dksX6_times_1 7 rfl rfl)
theorem dX6_times_34 : decode cX6_times 34 = .ok (.aload_n 3, 1) := dk_45 (dk_at dksX6_times_1 10 rfl rfl)
theorem dX6_times_35 : decode cX6_times 35 = .ok (.iload 4, 2) := dk_21 4 (dk_at dksX6_times_1 11 rfl rfl)
theorem dX6_times_37 : decode cX6_times 37 = .ok (.iload 5, 2) := dk_21 5 (dk_at dksX6_times_1 13 rfl rfl)
theorem dX6_times_39 : decode cX6_times 39 = .ok (.ixor, 1) := dk_130 (dk_at dksX6_times_1 15 rfl rfl)
theorem dX6_times_40 : decode cX6_times 40 = .ok (.aload_n 0, 1) := dk_42 (dk_at dksX6_times_1 16 rfl rfl)
theorem dX6_times_41 : decode cX6_times 41 = .ok (.getfield 3, 3) := dk_180 0 3 (dk_at dksX6_times_1 17 rfl rfl)
theorem dX6_times_44 : decode cX6_times 44 = .ok (.aload_n 3, 1) := dk_45 (dk_at dksX6_times_1 20 rfl rfl)
theorem dX6_times_45 : decode cX6_times 45 = .ok (.iload 4, 2) := dk_21 4 (dk_at dksX6_times_1 21 rfl rfl)
theorem dX6_times_47 : decode cX6_times 47 = .ok (.iload 5, 2) := dk_21 5 (dk_at dksX6_times_2 0 rfl rfl)
theorem dX6_times_49 : decode cX6_times 49 = .ok (.ixor, 1) := dk_130 (dk_at dksX6_times_2 2 rfl rfl)
theorem dX6_times_50 : decode cX6_times 50 = .ok (.iaload, 1) := dk_46 (dk_at dksX6_times_2 3 rfl rfl)
theorem dX6_times_51 : decode cX6_times 51 = .ok (.aload_n 1, 1) := dk_43 (dk_at dksX6_times_2 4 rfl rfl)
theorem dX6_times_52 : decode cX6_times 52 = .ok (.iload 4, 2) := dk_21 4 (dk_at dksX6_times_2 5 rfl rfl)
theorem dX6_times_54 : decode cX6_times 54 = .ok (.iaload, 1) := dk_46 (dk_at dksX6_times_2 7 rfl rfl)
theorem dX6_times_55 : decode cX6_times 55 = .ok (.aload_n 2, 1) := dk_44 (dk_at dksX6_times_2 8 rfl rfl)
theorem dX6_times_56 : decode cX6_times 56 = .ok (.iload 5, 2) := dk_21 5 (dk_at dksX6_times_2 9 rfl rfl)
theorem dX6_times_58 : decode cX6_times 58 = .ok (.iaload, 1) := dk_46 (dk_at dksX6_times_2 11 rfl rfl)
theorem dX6_times_59 : decode cX6_times 59 = .ok (.imul, 1) := dk_104 (dk_at dksX6_times_2 12 rfl rfl)
theorem dX6_times_60 : decode cX6_times 60 = .ok (.aload_n 0, 1) := dk_42 (dk_at dksX6_times_2 13 rfl rfl)
theorem dX6_times_61 : decode cX6_times 61 = .ok (.getfield 3, 3) := dk_180 0 3 (dk_at dksX6_times_2 14 rfl rfl)
theorem dX6_times_64 : decode cX6_times 64 = .ok (.getfield 61, 3) := dk_180 0 61 (dk_at dksX6_times_2 17 rfl rfl)
theorem dX6_times_67 : decode cX6_times 67 = .ok (.irem, 1) := dk_112 (dk_at dksX6_times_2 20 rfl rfl)
theorem dX6_times_68 : decode cX6_times 68 = .ok (.aload_n 0, 1) := dk_42 (dk_at dksX6_times_2 21 rfl rfl)
theorem dX6_times_69 : decode cX6_times 69 = .ok (.getfield 20, 3) := dk_180 0 20 (dk_at dksX6_times_3 0 rfl rfl)
theorem dX6_times_72 : decode cX6_times 72 = .ok (.iload 4, 2) := dk_21 4 (dk_at dksX6_times_3 3 rfl rfl)
theorem dX6_times_74 : decode cX6_times 74 = .ok (.aaload, 1) := dk_50 (dk_at dksX6_times_3 5 rfl rfl)
theorem dX6_times_75 : decode cX6_times 75 = .ok (.iload 5, 2) := dk_21 5 (dk_at dksX6_times_3 6 rfl rfl)
theorem dX6_times_77 : decode cX6_times 77 = .ok (.iaload, 1) := dk_46 (dk_at dksX6_times_3 8 rfl rfl)
theorem dX6_times_78 : decode cX6_times 78 = .ok (.imul, 1) := dk_104 (dk_at dksX6_times_3 9 rfl rfl)
theorem dX6_times_79 : decode cX6_times 79 = .ok (.iadd, 1) := dk_96 (dk_at dksX6_times_3 10 rfl rfl)
theorem dX6_times_80 : decode cX6_times 80 = .ok (.invokevirtual 55, 3) := dk_182 0 55 (dk_at dksX6_times_3 11 rfl rfl)
theorem dX6_times_83 : decode cX6_times 83 = .ok (.iastore, 1) := dk_79 (dk_at dksX6_times_3 14 rfl rfl)
theorem dX6_times_84 : decode cX6_times 84 = .ok (.iinc 5 1, 3) := dk_132 5 1 (dk_at dksX6_times_3 15 rfl rfl)
theorem dX6_times_87 : decode cX6_times 87 = .ok (.goto (-67), 3) := dk_167 255 189 (dk_at dksX6_times_3 18 rfl rfl)
theorem dX6_times_90 : decode cX6_times 90 = .ok (.iinc 4 1, 3) := dk_132 4 1 (dk_at dksX6_times_3 21 rfl rfl)
theorem dX6_times_93 : decode cX6_times 93 = .ok (.goto (-83), 3) := dk_167 255 173 (dk_at dksX6_times_4 0 rfl rfl)
theorem dX6_times_96 : decode cX6_times 96 = .ok (.aload_n 3, 1) := dk_45 (dk_at dksX6_times_4 3 rfl rfl)
theorem dX6_times_97 : decode cX6_times 97 = .ok (.areturn, 1) := dk_176 (dk_at dksX6_times_4 4 rfl rfl)
abbrev cX6_scaled : ByteArray := prog_12_method_9_code
def yX6_scaled : MethodName := ⟨RX6, "scaled", "([II)[I"⟩
def dkwX6_scaled_1 : List UInt8 := [43, 21, 4, 46, 28, 104, 182, 0, 55, 79, 132, 4, 1, 167, 255, 229, 45, 176]
abbrev dktX6_scaled_1 : List UInt8 := dkwX6_scaled_1 ++ []
def dkwX6_scaled_0 : List UInt8 := [42, 182, 0, 38, 188, 10, 78, 3, 54, 4, 21, 4, 45, 190, 162, 0, 26, 45, 21, 4, 42, 180, 0, 3]
abbrev dktX6_scaled_0 : List UInt8 := dkwX6_scaled_0 ++ dktX6_scaled_1
theorem dksX6_scaled_0 : cX6_scaled.data.toList.drop 0 = dktX6_scaled_0 := by decide +kernel
theorem dksX6_scaled_1 : cX6_scaled.data.toList.drop 24 = dktX6_scaled_1 := dk_seg dksX6_scaled_0 24 rfl rfl
theorem dX6_scaled_0 : decode cX6_scaled 0 = .ok (.aload_n 0, 1) := dk_42 (dk_at dksX6_scaled_0 0 rfl rfl)
theorem dX6_scaled_1 : decode cX6_scaled 1 = .ok (.invokevirtual 38, 3) := dk_182 0 38 (dk_at dksX6_scaled_0 1 rfl rfl)
theorem dX6_scaled_4 : decode cX6_scaled 4 = .ok (.newarray .int, 2) := dk_188_10 (dk_at dksX6_scaled_0 4 rfl rfl)
theorem dX6_scaled_6 : decode cX6_scaled 6 = .ok (.astore_n 3, 1) := dk_78 (dk_at dksX6_scaled_0 6 rfl rfl)
theorem dX6_scaled_7 : decode cX6_scaled 7 = .ok (.iconst 0, 1) := dk_3 (dk_at dksX6_scaled_0 7 rfl rfl)
theorem dX6_scaled_8 : decode cX6_scaled 8 = .ok (.istore 4, 2) := dk_54 4 (dk_at dksX6_scaled_0 8 rfl rfl)
theorem dX6_scaled_10 : decode cX6_scaled 10 = .ok (.iload 4, 2) := dk_21 4 (dk_at dksX6_scaled_0 10 rfl rfl)
theorem dX6_scaled_12 : decode cX6_scaled 12 = .ok (.aload_n 3, 1) := dk_45 (dk_at dksX6_scaled_0 12 rfl rfl)
theorem dX6_scaled_13 : decode cX6_scaled 13 = .ok (.arraylength, 1) := dk_190 (dk_at dksX6_scaled_0 13 rfl rfl)
theorem dX6_scaled_14 : decode cX6_scaled 14 = .ok (.if_icmp .ge 26, 3) := dk_162 0 26 (dk_at dksX6_scaled_0 14 rfl rfl)
theorem dX6_scaled_17 : decode cX6_scaled 17 = .ok (.aload_n 3, 1) := dk_45 (dk_at dksX6_scaled_0 17 rfl rfl)
theorem dX6_scaled_18 : decode cX6_scaled 18 = .ok (.iload 4, 2) := dk_21 4 (dk_at dksX6_scaled_0 18 rfl rfl)
theorem dX6_scaled_20 : decode cX6_scaled 20 = .ok (.aload_n 0, 1) := dk_42 (dk_at dksX6_scaled_0 20 rfl rfl)
theorem dX6_scaled_21 : decode cX6_scaled 21 = .ok (.getfield 3, 3) := dk_180 0 3 (dk_at dksX6_scaled_0 21 rfl rfl)
theorem dX6_scaled_24 : decode cX6_scaled 24 = .ok (.aload_n 1, 1) := dk_43 (dk_at dksX6_scaled_1 0 rfl rfl)
theorem dX6_scaled_25 : decode cX6_scaled 25 = .ok (.iload 4, 2) := dk_21 4 (dk_at dksX6_scaled_1 1 rfl rfl)
theorem dX6_scaled_27 : decode cX6_scaled 27 = .ok (.iaload, 1) := dk_46 (dk_at dksX6_scaled_1 3 rfl rfl)
theorem dX6_scaled_28 : decode cX6_scaled 28 = .ok (.iload_n 2, 1) := dk_28 (dk_at dksX6_scaled_1 4 rfl rfl)
theorem dX6_scaled_29 : decode cX6_scaled 29 = .ok (.imul, 1) := dk_104 (dk_at dksX6_scaled_1 5 rfl rfl)
theorem dX6_scaled_30 : decode cX6_scaled 30 = .ok (.invokevirtual 55, 3) := dk_182 0 55 (dk_at dksX6_scaled_1 6 rfl rfl)
theorem dX6_scaled_33 : decode cX6_scaled 33 = .ok (.iastore, 1) := dk_79 (dk_at dksX6_scaled_1 9 rfl rfl)
theorem dX6_scaled_34 : decode cX6_scaled 34 = .ok (.iinc 4 1, 3) := dk_132 4 1 (dk_at dksX6_scaled_1 10 rfl rfl)
theorem dX6_scaled_37 : decode cX6_scaled 37 = .ok (.goto (-27), 3) := dk_167 255 229 (dk_at dksX6_scaled_1 13 rfl rfl)
theorem dX6_scaled_40 : decode cX6_scaled 40 = .ok (.aload_n 3, 1) := dk_45 (dk_at dksX6_scaled_1 16 rfl rfl)
theorem dX6_scaled_41 : decode cX6_scaled 41 = .ok (.areturn, 1) := dk_176 (dk_at dksX6_scaled_1 17 rfl rfl)
abbrev cX6_conjugated : ByteArray := prog_12_method_8_code
def yX6_conjugated : MethodName := ⟨RX6, "conjugated", "([I)[I"⟩
def dkwX6_conjugated_1 : List UInt8 := [42, 29, 182, 0, 51, 104, 182, 0, 55, 79, 132, 3, 1, 167, 255, 228, 44, 176]
abbrev dktX6_conjugated_1 : List UInt8 := dkwX6_conjugated_1 ++ []
def dkwX6_conjugated_0 : List UInt8 := [42, 182, 0, 38, 188, 10, 77, 3, 62, 29, 44, 190, 162, 0, 28, 44, 29, 42, 180, 0, 3, 43, 29, 46]
abbrev dktX6_conjugated_0 : List UInt8 := dkwX6_conjugated_0 ++ dktX6_conjugated_1
theorem dksX6_conjugated_0 : cX6_conjugated.data.toList.drop 0 = dktX6_conjugated_0 := by decide +kernel
theorem dksX6_conjugated_1 : cX6_conjugated.data.toList.drop 24 = dktX6_conjugated_1 := dk_seg dksX6_conjugated_0 24 rfl rfl
theorem dX6_conjugated_0 : decode cX6_conjugated 0 = .ok (.aload_n 0, 1) := dk_42 (dk_at dksX6_conjugated_0 0 rfl rfl)
theorem dX6_conjugated_1 : decode cX6_conjugated 1 = .ok (.invokevirtual 38, 3) := dk_182 0 38 (dk_at dksX6_conjugated_0 1 rfl rfl)
theorem dX6_conjugated_4 : decode cX6_conjugated 4 = .ok (.newarray .int, 2) := dk_188_10 (dk_at dksX6_conjugated_0 4 rfl rfl)
theorem dX6_conjugated_6 : decode cX6_conjugated 6 = .ok (.astore_n 2, 1) := dk_77 (dk_at dksX6_conjugated_0 6 rfl rfl)
theorem dX6_conjugated_7 : decode cX6_conjugated 7 = .ok (.iconst 0, 1) := dk_3 (dk_at dksX6_conjugated_0 7 rfl rfl)
theorem dX6_conjugated_8 : decode cX6_conjugated 8 = .ok (.istore_n 3, 1) := dk_62 (dk_at dksX6_conjugated_0 8 rfl rfl)
theorem dX6_conjugated_9 : decode cX6_conjugated 9 = .ok (.iload_n 3, 1) := dk_29 (dk_at dksX6_conjugated_0 9 rfl rfl)
theorem dX6_conjugated_10 : decode cX6_conjugated 10 = .ok (.aload_n 2, 1) := dk_44 (dk_at dksX6_conjugated_0 10 rfl rfl)
theorem dX6_conjugated_11 : decode cX6_conjugated 11 = .ok (.arraylength, 1) := dk_190 (dk_at dksX6_conjugated_0 11 rfl rfl)
theorem dX6_conjugated_12 : decode cX6_conjugated 12 = .ok (.if_icmp .ge 28, 3) := dk_162 0 28 (dk_at dksX6_conjugated_0 12 rfl rfl)
theorem dX6_conjugated_15 : decode cX6_conjugated 15 = .ok (.aload_n 2, 1) := dk_44 (dk_at dksX6_conjugated_0 15 rfl rfl)
theorem dX6_conjugated_16 : decode cX6_conjugated 16 = .ok (.iload_n 3, 1) := dk_29 (dk_at dksX6_conjugated_0 16 rfl rfl)
theorem dX6_conjugated_17 : decode cX6_conjugated 17 = .ok (.aload_n 0, 1) := dk_42 (dk_at dksX6_conjugated_0 17 rfl rfl)
theorem dX6_conjugated_18 : decode cX6_conjugated 18 = .ok (.getfield 3, 3) := dk_180 0 3 (dk_at dksX6_conjugated_0 18 rfl rfl)
theorem dX6_conjugated_21 : decode cX6_conjugated 21 = .ok (.aload_n 1, 1) := dk_43 (dk_at dksX6_conjugated_0 21 rfl rfl)
theorem dX6_conjugated_22 : decode cX6_conjugated 22 = .ok (.iload_n 3, 1) := dk_29 (dk_at dksX6_conjugated_0 22 rfl rfl)
theorem dX6_conjugated_23 : decode cX6_conjugated 23 = .ok (.iaload, 1) := dk_46 (dk_at dksX6_conjugated_0 23 rfl rfl)
theorem dX6_conjugated_24 : decode cX6_conjugated 24 = .ok (.aload_n 0, 1) := dk_42 (dk_at dksX6_conjugated_1 0 rfl rfl)
theorem dX6_conjugated_25 : decode cX6_conjugated 25 = .ok (.iload_n 3, 1) := dk_29 (dk_at dksX6_conjugated_1 1 rfl rfl)
theorem dX6_conjugated_26 : decode cX6_conjugated 26 = .ok (.invokevirtual 51, 3) := dk_182 0 51 (dk_at dksX6_conjugated_1 2 rfl rfl)
theorem dX6_conjugated_29 : decode cX6_conjugated 29 = .ok (.imul, 1) := dk_104 (dk_at dksX6_conjugated_1 5 rfl rfl)
theorem dX6_conjugated_30 : decode cX6_conjugated 30 = .ok (.invokevirtual 55, 3) := dk_182 0 55 (dk_at dksX6_conjugated_1 6 rfl rfl)
theorem dX6_conjugated_33 : decode cX6_conjugated 33 = .ok (.iastore, 1) := dk_79 (dk_at dksX6_conjugated_1 9 rfl rfl)
theorem dX6_conjugated_34 : decode cX6_conjugated 34 = .ok (.iinc 3 1, 3) := dk_132 3 1 (dk_at dksX6_conjugated_1 10 rfl rfl)
theorem dX6_conjugated_37 : decode cX6_conjugated 37 = .ok (.goto (-28), 3) := dk_167 255 228 (dk_at dksX6_conjugated_1 13 rfl rfl)
theorem dX6_conjugated_40 : decode cX6_conjugated 40 = .ok (.aload_n 2, 1) := dk_44 (dk_at dksX6_conjugated_1 16 rfl rfl)
theorem dX6_conjugated_41 : decode cX6_conjugated 41 = .ok (.areturn, 1) := dk_176 (dk_at dksX6_conjugated_1 17 rfl rfl)
abbrev cX6_power : ByteArray := prog_12_method_11_code
def yX6_power : MethodName := ⟨RX6, "power", "([II)[I"⟩
def dkwX6_power_1 : List UInt8 := [167, 255, 240, 45, 176]
abbrev dktX6_power_1 : List UInt8 := dkwX6_power_1 ++ []
def dkwX6_power_0 : List UInt8 := [42, 182, 0, 64, 78, 3, 54, 4, 21, 4, 28, 162, 0, 16, 42, 45, 43, 182, 0, 68, 78, 132, 4, 1]
abbrev dktX6_power_0 : List UInt8 := dkwX6_power_0 ++ dktX6_power_1
theorem dksX6_power_0 : cX6_power.data.toList.drop 0 = dktX6_power_0 := by decide +kernel
theorem dksX6_power_1 : cX6_power.data.toList.drop 24 = dktX6_power_1 := dk_seg dksX6_power_0 24 rfl rfl
theorem dX6_power_0 : decode cX6_power 0 = .ok (.aload_n 0, 1) := dk_42 (dk_at dksX6_power_0 0 rfl rfl)
theorem dX6_power_1 : decode cX6_power 1 = .ok (.invokevirtual 64, 3) := dk_182 0 64 (dk_at dksX6_power_0 1 rfl rfl)
theorem dX6_power_4 : decode cX6_power 4 = .ok (.astore_n 3, 1) := dk_78 (dk_at dksX6_power_0 4 rfl rfl)
theorem dX6_power_5 : decode cX6_power 5 = .ok (.iconst 0, 1) := dk_3 (dk_at dksX6_power_0 5 rfl rfl)
theorem dX6_power_6 : decode cX6_power 6 = .ok (.istore 4, 2) := dk_54 4 (dk_at dksX6_power_0 6 rfl rfl)
theorem dX6_power_8 : decode cX6_power 8 = .ok (.iload 4, 2) := dk_21 4 (dk_at dksX6_power_0 8 rfl rfl)
theorem dX6_power_10 : decode cX6_power 10 = .ok (.iload_n 2, 1) := dk_28 (dk_at dksX6_power_0 10 rfl rfl)
theorem dX6_power_11 : decode cX6_power 11 = .ok (.if_icmp .ge 16, 3) := dk_162 0 16 (dk_at dksX6_power_0 11 rfl rfl)
theorem dX6_power_14 : decode cX6_power 14 = .ok (.aload_n 0, 1) := dk_42 (dk_at dksX6_power_0 14 rfl rfl)
theorem dX6_power_15 : decode cX6_power 15 = .ok (.aload_n 3, 1) := dk_45 (dk_at dksX6_power_0 15 rfl rfl)
theorem dX6_power_16 : decode cX6_power 16 = .ok (.aload_n 1, 1) := dk_43 (dk_at dksX6_power_0 16 rfl rfl)
theorem dX6_power_17 : decode cX6_power 17 = .ok (.invokevirtual 68, 3) := dk_182 0 68 (dk_at dksX6_power_0 17 rfl rfl)
theorem dX6_power_20 : decode cX6_power 20 = .ok (.astore_n 3, 1) := dk_78 (dk_at dksX6_power_0 20 rfl rfl)
theorem dX6_power_21 : decode cX6_power 21 = .ok (.iinc 4 1, 3) := dk_132 4 1 (dk_at dksX6_power_0 21 rfl rfl)
theorem dX6_power_24 : decode cX6_power 24 = .ok (.goto (-16), 3) := dk_167 255 240 (dk_at dksX6_power_1 0 rfl rfl)
theorem dX6_power_27 : decode cX6_power 27 = .ok (.aload_n 3, 1) := dk_45 (dk_at dksX6_power_1 3 rfl rfl)
theorem dX6_power_28 : decode cX6_power 28 = .ok (.areturn, 1) := dk_176 (dk_at dksX6_power_1 4 rfl rfl)
abbrev cX6_one : ByteArray := prog_12_method_10_code
def yX6_one : MethodName := ⟨RX6, "one", "()[I"⟩
def dkwX6_one_0 : List UInt8 := [42, 182, 0, 38, 188, 10, 76, 43, 3, 4, 79, 43, 176]
abbrev dktX6_one_0 : List UInt8 := dkwX6_one_0 ++ []
theorem dksX6_one_0 : cX6_one.data.toList.drop 0 = dktX6_one_0 := by decide +kernel
theorem dX6_one_0 : decode cX6_one 0 = .ok (.aload_n 0, 1) := dk_42 (dk_at dksX6_one_0 0 rfl rfl)
theorem dX6_one_1 : decode cX6_one 1 = .ok (.invokevirtual 38, 3) := dk_182 0 38 (dk_at dksX6_one_0 1 rfl rfl)
theorem dX6_one_4 : decode cX6_one 4 = .ok (.newarray .int, 2) := dk_188_10 (dk_at dksX6_one_0 4 rfl rfl)
theorem dX6_one_6 : decode cX6_one 6 = .ok (.astore_n 1, 1) := dk_76 (dk_at dksX6_one_0 6 rfl rfl)
theorem dX6_one_7 : decode cX6_one 7 = .ok (.aload_n 1, 1) := dk_43 (dk_at dksX6_one_0 7 rfl rfl)
theorem dX6_one_8 : decode cX6_one 8 = .ok (.iconst 0, 1) := dk_3 (dk_at dksX6_one_0 8 rfl rfl)
theorem dX6_one_9 : decode cX6_one 9 = .ok (.iconst 1, 1) := dk_4 (dk_at dksX6_one_0 9 rfl rfl)
theorem dX6_one_10 : decode cX6_one 10 = .ok (.iastore, 1) := dk_79 (dk_at dksX6_one_0 10 rfl rfl)
theorem dX6_one_11 : decode cX6_one 11 = .ok (.aload_n 1, 1) := dk_43 (dk_at dksX6_one_0 11 rfl rfl)
theorem dX6_one_12 : decode cX6_one 12 = .ok (.areturn, 1) := dk_176 (dk_at dksX6_one_0 12 rfl rfl)
abbrev cX6_mirrored : ByteArray := prog_12_method_12_code
def yX6_mirrored : MethodName := ⟨RX6, "mirrored", "([I[I)[I"⟩
def dkwX6_mirrored_1 : List UInt8 := [43, 43, 182, 0, 68, 3, 46, 182, 0, 72, 100, 182, 0, 75, 176]
abbrev dktX6_mirrored_1 : List UInt8 := dkwX6_mirrored_1 ++ []
def dkwX6_mirrored_0 : List UInt8 := [42, 42, 42, 43, 44, 182, 0, 68, 43, 182, 0, 68, 42, 180, 0, 3, 180, 0, 61, 42, 180, 0, 3, 42]
abbrev dktX6_mirrored_0 : List UInt8 := dkwX6_mirrored_0 ++ dktX6_mirrored_1
theorem dksX6_mirrored_0 : cX6_mirrored.data.toList.drop 0 = dktX6_mirrored_0 := by decide +kernel
theorem dksX6_mirrored_1 : cX6_mirrored.data.toList.drop 24 = dktX6_mirrored_1 := dk_seg dksX6_mirrored_0 24 rfl rfl
theorem dX6_mirrored_0 : decode cX6_mirrored 0 = .ok (.aload_n 0, 1) := dk_42 (dk_at dksX6_mirrored_0 0 rfl rfl)
theorem dX6_mirrored_1 : decode cX6_mirrored 1 = .ok (.aload_n 0, 1) := dk_42 (dk_at dksX6_mirrored_0 1 rfl rfl)
theorem dX6_mirrored_2 : decode cX6_mirrored 2 = .ok (.aload_n 0, 1) := dk_42 (dk_at dksX6_mirrored_0 2 rfl rfl)
theorem dX6_mirrored_3 : decode cX6_mirrored 3 = .ok (.aload_n 1, 1) := dk_43 (dk_at dksX6_mirrored_0 3 rfl rfl)
theorem dX6_mirrored_4 : decode cX6_mirrored 4 = .ok (.aload_n 2, 1) := dk_44 (dk_at dksX6_mirrored_0 4 rfl rfl)
theorem dX6_mirrored_5 : decode cX6_mirrored 5 = .ok (.invokevirtual 68, 3) := dk_182 0 68 (dk_at dksX6_mirrored_0 5 rfl rfl)
theorem dX6_mirrored_8 : decode cX6_mirrored 8 = .ok (.aload_n 1, 1) := dk_43 (dk_at dksX6_mirrored_0 8 rfl rfl)
theorem dX6_mirrored_9 : decode cX6_mirrored 9 = .ok (.invokevirtual 68, 3) := dk_182 0 68 (dk_at dksX6_mirrored_0 9 rfl rfl)
theorem dX6_mirrored_12 : decode cX6_mirrored 12 = .ok (.aload_n 0, 1) := dk_42 (dk_at dksX6_mirrored_0 12 rfl rfl)
theorem dX6_mirrored_13 : decode cX6_mirrored 13 = .ok (.getfield 3, 3) := dk_180 0 3 (dk_at dksX6_mirrored_0 13 rfl rfl)
theorem dX6_mirrored_16 : decode cX6_mirrored 16 = .ok (.getfield 61, 3) := dk_180 0 61 (dk_at dksX6_mirrored_0 16 rfl rfl)
theorem dX6_mirrored_19 : decode cX6_mirrored 19 = .ok (.aload_n 0, 1) := dk_42 (dk_at dksX6_mirrored_0 19 rfl rfl)
theorem dX6_mirrored_20 : decode cX6_mirrored 20 = .ok (.getfield 3, 3) := dk_180 0 3 (dk_at dksX6_mirrored_0 20 rfl rfl)
theorem dX6_mirrored_23 : decode cX6_mirrored 23 = .ok (.aload_n 0, 1) := dk_42 (dk_at dksX6_mirrored_0 23 rfl rfl)
theorem dX6_mirrored_24 : decode cX6_mirrored 24 = .ok (.aload_n 1, 1) := dk_43 (dk_at dksX6_mirrored_1 0 rfl rfl)
theorem dX6_mirrored_25 : decode cX6_mirrored 25 = .ok (.aload_n 1, 1) := dk_43 (dk_at dksX6_mirrored_1 1 rfl rfl)
theorem dX6_mirrored_26 : decode cX6_mirrored 26 = .ok (.invokevirtual 68, 3) := dk_182 0 68 (dk_at dksX6_mirrored_1 2 rfl rfl)
theorem dX6_mirrored_29 : decode cX6_mirrored 29 = .ok (.iconst 0, 1) := dk_3 (dk_at dksX6_mirrored_1 5 rfl rfl)
theorem dX6_mirrored_30 : decode cX6_mirrored 30 = .ok (.iaload, 1) := dk_46 (dk_at dksX6_mirrored_1 6 rfl rfl)
theorem dX6_mirrored_31 : decode cX6_mirrored 31 = .ok (.invokevirtual 72, 3) := dk_182 0 72 (dk_at dksX6_mirrored_1 7 rfl rfl)
theorem dX6_mirrored_34 : decode cX6_mirrored 34 = .ok (.isub, 1) := dk_100 (dk_at dksX6_mirrored_1 10 rfl rfl)
theorem dX6_mirrored_35 : decode cX6_mirrored 35 = .ok (.invokevirtual 75, 3) := dk_182 0 75 (dk_at dksX6_mirrored_1 11 rfl rfl)
theorem dX6_mirrored_38 : decode cX6_mirrored 38 = .ok (.areturn, 1) := dk_176 (dk_at dksX6_mirrored_1 14 rfl rfl)
abbrev cX6_keeps : ByteArray := prog_12_method_14_code
def yX6_keeps : MethodName := ⟨RX6, "keeps", "(IIII)Z"⟩
def dkwX6_keeps_5 : List UInt8 := [29, 182, 0, 79, 96, 182, 0, 55, 154, 0, 7, 4, 167, 0, 4, 3, 172]
abbrev dktX6_keeps_5 : List UInt8 := dkwX6_keeps_5 ++ []
def dkwX6_keeps_4 : List UInt8 := [29, 28, 21, 4, 182, 0, 79, 96, 182, 0, 55, 154, 0, 28, 42, 180, 0, 3, 21, 5, 42, 28, 21, 4]
abbrev dktX6_keeps_4 : List UInt8 := dkwX6_keeps_4 ++ dktX6_keeps_5
def dkwX6_keeps_3 : List UInt8 := [28, 182, 0, 79, 96, 182, 0, 55, 154, 0, 7, 4, 167, 0, 4, 3, 172, 42, 180, 0, 3, 21, 5, 42]
abbrev dktX6_keeps_3 : List UInt8 := dkwX6_keeps_3 ++ dktX6_keeps_4
def dkwX6_keeps_2 : List UInt8 := [154, 0, 7, 4, 167, 0, 4, 3, 172, 27, 6, 160, 0, 30, 42, 180, 0, 3, 21, 5, 42, 21, 4, 29]
abbrev dktX6_keeps_2 : List UInt8 := dkwX6_keeps_2 ++ dktX6_keeps_3
def dkwX6_keeps_1 : List UInt8 := [167, 0, 4, 3, 172, 42, 28, 29, 21, 4, 182, 0, 79, 54, 5, 27, 4, 160, 0, 14, 21, 5]
abbrev dktX6_keeps_1 : List UInt8 := dkwX6_keeps_1 ++ dktX6_keeps_2
def dkwX6_keeps_0 : List UInt8 := [27, 154, 0, 28, 42, 180, 0, 20, 28, 50, 29, 46, 42, 180, 0, 20, 29, 50, 28, 46, 160, 0, 7, 4]
abbrev dktX6_keeps_0 : List UInt8 := dkwX6_keeps_0 ++ dktX6_keeps_1
theorem dksX6_keeps_0 : cX6_keeps.data.toList.drop 0 = dktX6_keeps_0 := by decide +kernel
theorem dksX6_keeps_1 : cX6_keeps.data.toList.drop 24 = dktX6_keeps_1 := dk_seg dksX6_keeps_0 24 rfl rfl
theorem dksX6_keeps_2 : cX6_keeps.data.toList.drop 46 = dktX6_keeps_2 := dk_seg dksX6_keeps_1 22 rfl rfl
theorem dksX6_keeps_3 : cX6_keeps.data.toList.drop 70 = dktX6_keeps_3 := dk_seg dksX6_keeps_2 24 rfl rfl
theorem dksX6_keeps_4 : cX6_keeps.data.toList.drop 94 = dktX6_keeps_4 := dk_seg dksX6_keeps_3 24 rfl rfl
theorem dksX6_keeps_5 : cX6_keeps.data.toList.drop 118 = dktX6_keeps_5 := dk_seg dksX6_keeps_4 24 rfl rfl
theorem dX6_keeps_0 : decode cX6_keeps 0 = .ok (.iload_n 1, 1) := dk_27 (dk_at dksX6_keeps_0 0 rfl rfl)
theorem dX6_keeps_1 : decode cX6_keeps 1 = .ok (.ifCond .ne 28, 3) := dk_154 0 28 (dk_at dksX6_keeps_0 1 rfl rfl)
theorem dX6_keeps_4 : decode cX6_keeps 4 = .ok (.aload_n 0, 1) := dk_42 (dk_at dksX6_keeps_0 4 rfl rfl)
theorem dX6_keeps_5 : decode cX6_keeps 5 = .ok (.getfield 20, 3) := dk_180 0 20 (dk_at dksX6_keeps_0 5 rfl rfl)
theorem dX6_keeps_8 : decode cX6_keeps 8 = .ok (.iload_n 2, 1) := dk_28 (dk_at dksX6_keeps_0 8 rfl rfl)
theorem dX6_keeps_9 : decode cX6_keeps 9 = .ok (.aaload, 1) := dk_50 (dk_at dksX6_keeps_0 9 rfl rfl)
theorem dX6_keeps_10 : decode cX6_keeps 10 = .ok (.iload_n 3, 1) := dk_29 (dk_at dksX6_keeps_0 10 rfl rfl)
theorem dX6_keeps_11 : decode cX6_keeps 11 = .ok (.iaload, 1) := dk_46 (dk_at dksX6_keeps_0 11 rfl rfl)
theorem dX6_keeps_12 : decode cX6_keeps 12 = .ok (.aload_n 0, 1) := dk_42 (dk_at dksX6_keeps_0 12 rfl rfl)
theorem dX6_keeps_13 : decode cX6_keeps 13 = .ok (.getfield 20, 3) := dk_180 0 20 (dk_at dksX6_keeps_0 13 rfl rfl)
theorem dX6_keeps_16 : decode cX6_keeps 16 = .ok (.iload_n 3, 1) := dk_29 (dk_at dksX6_keeps_0 16 rfl rfl)
theorem dX6_keeps_17 : decode cX6_keeps 17 = .ok (.aaload, 1) := dk_50 (dk_at dksX6_keeps_0 17 rfl rfl)
theorem dX6_keeps_18 : decode cX6_keeps 18 = .ok (.iload_n 2, 1) := dk_28 (dk_at dksX6_keeps_0 18 rfl rfl)
theorem dX6_keeps_19 : decode cX6_keeps 19 = .ok (.iaload, 1) := dk_46 (dk_at dksX6_keeps_0 19 rfl rfl)
theorem dX6_keeps_20 : decode cX6_keeps 20 = .ok (.if_icmp .ne 7, 3) := dk_160 0 7 (dk_at dksX6_keeps_0 20 rfl rfl)
theorem dX6_keeps_23 : decode cX6_keeps 23 = .ok (.iconst 1, 1) := dk_4 (dk_at dksX6_keeps_0 23 rfl rfl)
theorem dX6_keeps_24 : decode cX6_keeps 24 = .ok (.goto 4, 3) := dk_167 0 4 (dk_at dksX6_keeps_1 0 rfl rfl)
theorem dX6_keeps_27 : decode cX6_keeps 27 = .ok (.iconst 0, 1) := dk_3 (dk_at dksX6_keeps_1 3 rfl rfl)
theorem dX6_keeps_28 : decode cX6_keeps 28 = .ok (.ireturn, 1) := dk_172 (dk_at dksX6_keeps_1 4 rfl rfl)
theorem dX6_keeps_29 : decode cX6_keeps 29 = .ok (.aload_n 0, 1) := dk_42 (dk_at dksX6_keeps_1 5 rfl rfl)
theorem dX6_keeps_30 : decode cX6_keeps 30 = .ok (.iload_n 2, 1) := dk_28 (dk_at dksX6_keeps_1 6 rfl rfl)
theorem dX6_keeps_31 : decode cX6_keeps 31 = .ok (.iload_n 3, 1) := dk_29 (dk_at dksX6_keeps_1 7 rfl rfl)
theorem dX6_keeps_32 : decode cX6_keeps 32 = .ok (.iload 4, 2) := dk_21 4 (dk_at dksX6_keeps_1 8 rfl rfl)
theorem dX6_keeps_34 : decode cX6_keeps 34 = .ok (.invokevirtual 79, 3) := dk_182 0 79 (dk_at dksX6_keeps_1 10 rfl rfl)
theorem dX6_keeps_37 : decode cX6_keeps 37 = .ok (.istore 5, 2) := dk_54 5 (dk_at dksX6_keeps_1 13 rfl rfl)
theorem dX6_keeps_39 : decode cX6_keeps 39 = .ok (.iload_n 1, 1) := dk_27 (dk_at dksX6_keeps_1 15 rfl rfl)
theorem dX6_keeps_40 : decode cX6_keeps 40 = .ok (.iconst 1, 1) := dk_4 (dk_at dksX6_keeps_1 16 rfl rfl)
theorem dX6_keeps_41 : decode cX6_keeps 41 = .ok (.if_icmp .ne 14, 3) := dk_160 0 14 (dk_at dksX6_keeps_1 17 rfl rfl)
theorem dX6_keeps_44 : decode cX6_keeps 44 = .ok (.iload 5, 2) := dk_21 5 (dk_at dksX6_keeps_1 20 rfl rfl)
theorem dX6_keeps_46 : decode cX6_keeps 46 = .ok (.ifCond .ne 7, 3) := dk_154 0 7 (dk_at dksX6_keeps_2 0 rfl rfl)
theorem dX6_keeps_49 : decode cX6_keeps 49 = .ok (.iconst 1, 1) := dk_4 (dk_at dksX6_keeps_2 3 rfl rfl)
theorem dX6_keeps_50 : decode cX6_keeps 50 = .ok (.goto 4, 3) := dk_167 0 4 (dk_at dksX6_keeps_2 4 rfl rfl)
theorem dX6_keeps_53 : decode cX6_keeps 53 = .ok (.iconst 0, 1) := dk_3 (dk_at dksX6_keeps_2 7 rfl rfl)
theorem dX6_keeps_54 : decode cX6_keeps 54 = .ok (.ireturn, 1) := dk_172 (dk_at dksX6_keeps_2 8 rfl rfl)
theorem dX6_keeps_55 : decode cX6_keeps 55 = .ok (.iload_n 1, 1) := dk_27 (dk_at dksX6_keeps_2 9 rfl rfl)
theorem dX6_keeps_56 : decode cX6_keeps 56 = .ok (.iconst 3, 1) := dk_6 (dk_at dksX6_keeps_2 10 rfl rfl)
theorem dX6_keeps_57 : decode cX6_keeps 57 = .ok (.if_icmp .ne 30, 3) := dk_160 0 30 (dk_at dksX6_keeps_2 11 rfl rfl)
theorem dX6_keeps_60 : decode cX6_keeps 60 = .ok (.aload_n 0, 1) := dk_42 (dk_at dksX6_keeps_2 14 rfl rfl)
theorem dX6_keeps_61 : decode cX6_keeps 61 = .ok (.getfield 3, 3) := dk_180 0 3 (dk_at dksX6_keeps_2 15 rfl rfl)
theorem dX6_keeps_64 : decode cX6_keeps 64 = .ok (.iload 5, 2) := dk_21 5 (dk_at dksX6_keeps_2 18 rfl rfl)
theorem dX6_keeps_66 : decode cX6_keeps 66 = .ok (.aload_n 0, 1) := dk_42 (dk_at dksX6_keeps_2 20 rfl rfl)
theorem dX6_keeps_67 : decode cX6_keeps 67 = .ok (.iload 4, 2) := dk_21 4 (dk_at dksX6_keeps_2 21 rfl rfl)
theorem dX6_keeps_69 : decode cX6_keeps 69 = .ok (.iload_n 3, 1) := dk_29 (dk_at dksX6_keeps_2 23 rfl rfl)
theorem dX6_keeps_70 : decode cX6_keeps 70 = .ok (.iload_n 2, 1) := dk_28 (dk_at dksX6_keeps_3 0 rfl rfl)
theorem dX6_keeps_71 : decode cX6_keeps 71 = .ok (.invokevirtual 79, 3) := dk_182 0 79 (dk_at dksX6_keeps_3 1 rfl rfl)
theorem dX6_keeps_74 : decode cX6_keeps 74 = .ok (.iadd, 1) := dk_96 (dk_at dksX6_keeps_3 4 rfl rfl)
theorem dX6_keeps_75 : decode cX6_keeps 75 = .ok (.invokevirtual 55, 3) := dk_182 0 55 (dk_at dksX6_keeps_3 5 rfl rfl)
theorem dX6_keeps_78 : decode cX6_keeps 78 = .ok (.ifCond .ne 7, 3) := dk_154 0 7 (dk_at dksX6_keeps_3 8 rfl rfl)
theorem dX6_keeps_81 : decode cX6_keeps 81 = .ok (.iconst 1, 1) := dk_4 (dk_at dksX6_keeps_3 11 rfl rfl)
theorem dX6_keeps_82 : decode cX6_keeps 82 = .ok (.goto 4, 3) := dk_167 0 4 (dk_at dksX6_keeps_3 12 rfl rfl)
theorem dX6_keeps_85 : decode cX6_keeps 85 = .ok (.iconst 0, 1) := dk_3 (dk_at dksX6_keeps_3 15 rfl rfl)
theorem dX6_keeps_86 : decode cX6_keeps 86 = .ok (.ireturn, 1) := dk_172 (dk_at dksX6_keeps_3 16 rfl rfl)
theorem dX6_keeps_87 : decode cX6_keeps 87 = .ok (.aload_n 0, 1) := dk_42 (dk_at dksX6_keeps_3 17 rfl rfl)
theorem dX6_keeps_88 : decode cX6_keeps 88 = .ok (.getfield 3, 3) := dk_180 0 3 (dk_at dksX6_keeps_3 18 rfl rfl)
theorem dX6_keeps_91 : decode cX6_keeps 91 = .ok (.iload 5, 2) := dk_21 5 (dk_at dksX6_keeps_3 21 rfl rfl)
theorem dX6_keeps_93 : decode cX6_keeps 93 = .ok (.aload_n 0, 1) := dk_42 (dk_at dksX6_keeps_3 23 rfl rfl)
theorem dX6_keeps_94 : decode cX6_keeps 94 = .ok (.iload_n 3, 1) := dk_29 (dk_at dksX6_keeps_4 0 rfl rfl)
theorem dX6_keeps_95 : decode cX6_keeps 95 = .ok (.iload_n 2, 1) := dk_28 (dk_at dksX6_keeps_4 1 rfl rfl)
theorem dX6_keeps_96 : decode cX6_keeps 96 = .ok (.iload 4, 2) := dk_21 4 (dk_at dksX6_keeps_4 2 rfl rfl)
theorem dX6_keeps_98 : decode cX6_keeps 98 = .ok (.invokevirtual 79, 3) := dk_182 0 79 (dk_at dksX6_keeps_4 4 rfl rfl)
theorem dX6_keeps_101 : decode cX6_keeps 101 = .ok (.iadd, 1) := dk_96 (dk_at dksX6_keeps_4 7 rfl rfl)
theorem dX6_keeps_102 : decode cX6_keeps 102 = .ok (.invokevirtual 55, 3) := dk_182 0 55 (dk_at dksX6_keeps_4 8 rfl rfl)
theorem dX6_keeps_105 : decode cX6_keeps 105 = .ok (.ifCond .ne 28, 3) := dk_154 0 28 (dk_at dksX6_keeps_4 11 rfl rfl)
theorem dX6_keeps_108 : decode cX6_keeps 108 = .ok (.aload_n 0, 1) := dk_42 (dk_at dksX6_keeps_4 14 rfl rfl)
theorem dX6_keeps_109 : decode cX6_keeps 109 = .ok (.getfield 3, 3) := dk_180 0 3 (dk_at dksX6_keeps_4 15 rfl rfl)
theorem dX6_keeps_112 : decode cX6_keeps 112 = .ok (.iload 5, 2) := dk_21 5 (dk_at dksX6_keeps_4 18 rfl rfl)
theorem dX6_keeps_114 : decode cX6_keeps 114 = .ok (.aload_n 0, 1) := dk_42 (dk_at dksX6_keeps_4 20 rfl rfl)
theorem dX6_keeps_115 : decode cX6_keeps 115 = .ok (.iload_n 2, 1) := dk_28 (dk_at dksX6_keeps_4 21 rfl rfl)
theorem dX6_keeps_116 : decode cX6_keeps 116 = .ok (.iload 4, 2) := dk_21 4 (dk_at dksX6_keeps_4 22 rfl rfl)
theorem dX6_keeps_118 : decode cX6_keeps 118 = .ok (.iload_n 3, 1) := dk_29 (dk_at dksX6_keeps_5 0 rfl rfl)
theorem dX6_keeps_119 : decode cX6_keeps 119 = .ok (.invokevirtual 79, 3) := dk_182 0 79 (dk_at dksX6_keeps_5 1 rfl rfl)
theorem dX6_keeps_122 : decode cX6_keeps 122 = .ok (.iadd, 1) := dk_96 (dk_at dksX6_keeps_5 4 rfl rfl)
theorem dX6_keeps_123 : decode cX6_keeps 123 = .ok (.invokevirtual 55, 3) := dk_182 0 55 (dk_at dksX6_keeps_5 5 rfl rfl)
theorem dX6_keeps_126 : decode cX6_keeps 126 = .ok (.ifCond .ne 7, 3) := dk_154 0 7 (dk_at dksX6_keeps_5 8 rfl rfl)
theorem dX6_keeps_129 : decode cX6_keeps 129 = .ok (.iconst 1, 1) := dk_4 (dk_at dksX6_keeps_5 11 rfl rfl)
theorem dX6_keeps_130 : decode cX6_keeps 130 = .ok (.goto 4, 3) := dk_167 0 4 (dk_at dksX6_keeps_5 12 rfl rfl)
theorem dX6_keeps_133 : decode cX6_keeps 133 = .ok (.iconst 0, 1) := dk_3 (dk_at dksX6_keeps_5 15 rfl rfl)
theorem dX6_keeps_134 : decode cX6_keeps 134 = .ok (.ireturn, 1) := dk_172 (dk_at dksX6_keeps_5 16 rfl rfl)
abbrev cX6_gap : ByteArray := prog_12_method_13_code
def yX6_gap : MethodName := ⟨RX6, "gap", "(III)I"⟩
def dkwX6_gap_1 : List UInt8 := [180, 0, 20, 28, 50, 29, 46, 42, 180, 0, 20, 27, 50, 28, 29, 130, 46, 104, 100, 182, 0, 55, 172]
abbrev dktX6_gap_1 : List UInt8 := dkwX6_gap_1 ++ []
def dkwX6_gap_0 : List UInt8 := [42, 180, 0, 3, 42, 180, 0, 20, 27, 50, 28, 46, 42, 180, 0, 20, 27, 28, 130, 50, 29, 46, 104, 42]
abbrev dktX6_gap_0 : List UInt8 := dkwX6_gap_0 ++ dktX6_gap_1
theorem dksX6_gap_0 : cX6_gap.data.toList.drop 0 = dktX6_gap_0 := by decide +kernel
theorem dksX6_gap_1 : cX6_gap.data.toList.drop 24 = dktX6_gap_1 := dk_seg dksX6_gap_0 24 rfl rfl
theorem dX6_gap_0 : decode cX6_gap 0 = .ok (.aload_n 0, 1) := dk_42 (dk_at dksX6_gap_0 0 rfl rfl)
theorem dX6_gap_1 : decode cX6_gap 1 = .ok (.getfield 3, 3) := dk_180 0 3 (dk_at dksX6_gap_0 1 rfl rfl)
theorem dX6_gap_4 : decode cX6_gap 4 = .ok (.aload_n 0, 1) := dk_42 (dk_at dksX6_gap_0 4 rfl rfl)
theorem dX6_gap_5 : decode cX6_gap 5 = .ok (.getfield 20, 3) := dk_180 0 20 (dk_at dksX6_gap_0 5 rfl rfl)
theorem dX6_gap_8 : decode cX6_gap 8 = .ok (.iload_n 1, 1) := dk_27 (dk_at dksX6_gap_0 8 rfl rfl)
theorem dX6_gap_9 : decode cX6_gap 9 = .ok (.aaload, 1) := dk_50 (dk_at dksX6_gap_0 9 rfl rfl)
theorem dX6_gap_10 : decode cX6_gap 10 = .ok (.iload_n 2, 1) := dk_28 (dk_at dksX6_gap_0 10 rfl rfl)
theorem dX6_gap_11 : decode cX6_gap 11 = .ok (.iaload, 1) := dk_46 (dk_at dksX6_gap_0 11 rfl rfl)
theorem dX6_gap_12 : decode cX6_gap 12 = .ok (.aload_n 0, 1) := dk_42 (dk_at dksX6_gap_0 12 rfl rfl)
theorem dX6_gap_13 : decode cX6_gap 13 = .ok (.getfield 20, 3) := dk_180 0 20 (dk_at dksX6_gap_0 13 rfl rfl)
theorem dX6_gap_16 : decode cX6_gap 16 = .ok (.iload_n 1, 1) := dk_27 (dk_at dksX6_gap_0 16 rfl rfl)
theorem dX6_gap_17 : decode cX6_gap 17 = .ok (.iload_n 2, 1) := dk_28 (dk_at dksX6_gap_0 17 rfl rfl)
theorem dX6_gap_18 : decode cX6_gap 18 = .ok (.ixor, 1) := dk_130 (dk_at dksX6_gap_0 18 rfl rfl)
theorem dX6_gap_19 : decode cX6_gap 19 = .ok (.aaload, 1) := dk_50 (dk_at dksX6_gap_0 19 rfl rfl)
theorem dX6_gap_20 : decode cX6_gap 20 = .ok (.iload_n 3, 1) := dk_29 (dk_at dksX6_gap_0 20 rfl rfl)
theorem dX6_gap_21 : decode cX6_gap 21 = .ok (.iaload, 1) := dk_46 (dk_at dksX6_gap_0 21 rfl rfl)
theorem dX6_gap_22 : decode cX6_gap 22 = .ok (.imul, 1) := dk_104 (dk_at dksX6_gap_0 22 rfl rfl)
theorem dX6_gap_23 : decode cX6_gap 23 = .ok (.aload_n 0, 1) := dk_42 (dk_at dksX6_gap_0 23 rfl rfl)
theorem dX6_gap_24 : decode cX6_gap 24 = .ok (.getfield 20, 3) := dk_180 0 20 (dk_at dksX6_gap_1 0 rfl rfl)
theorem dX6_gap_27 : decode cX6_gap 27 = .ok (.iload_n 2, 1) := dk_28 (dk_at dksX6_gap_1 3 rfl rfl)
theorem dX6_gap_28 : decode cX6_gap 28 = .ok (.aaload, 1) := dk_50 (dk_at dksX6_gap_1 4 rfl rfl)
theorem dX6_gap_29 : decode cX6_gap 29 = .ok (.iload_n 3, 1) := dk_29 (dk_at dksX6_gap_1 5 rfl rfl)
theorem dX6_gap_30 : decode cX6_gap 30 = .ok (.iaload, 1) := dk_46 (dk_at dksX6_gap_1 6 rfl rfl)
theorem dX6_gap_31 : decode cX6_gap 31 = .ok (.aload_n 0, 1) := dk_42 (dk_at dksX6_gap_1 7 rfl rfl)
theorem dX6_gap_32 : decode cX6_gap 32 = .ok (.getfield 20, 3) := dk_180 0 20 (dk_at dksX6_gap_1 8 rfl rfl)
theorem dX6_gap_35 : decode cX6_gap 35 = .ok (.iload_n 1, 1) := dk_27 (dk_at dksX6_gap_1 11 rfl rfl)
theorem dX6_gap_36 : decode cX6_gap 36 = .ok (.aaload, 1) := dk_50 (dk_at dksX6_gap_1 12 rfl rfl)
theorem dX6_gap_37 : decode cX6_gap 37 = .ok (.iload_n 2, 1) := dk_28 (dk_at dksX6_gap_1 13 rfl rfl)
theorem dX6_gap_38 : decode cX6_gap 38 = .ok (.iload_n 3, 1) := dk_29 (dk_at dksX6_gap_1 14 rfl rfl)
theorem dX6_gap_39 : decode cX6_gap 39 = .ok (.ixor, 1) := dk_130 (dk_at dksX6_gap_1 15 rfl rfl)
theorem dX6_gap_40 : decode cX6_gap 40 = .ok (.iaload, 1) := dk_46 (dk_at dksX6_gap_1 16 rfl rfl)
theorem dX6_gap_41 : decode cX6_gap 41 = .ok (.imul, 1) := dk_104 (dk_at dksX6_gap_1 17 rfl rfl)
theorem dX6_gap_42 : decode cX6_gap 42 = .ok (.isub, 1) := dk_100 (dk_at dksX6_gap_1 18 rfl rfl)
theorem dX6_gap_43 : decode cX6_gap 43 = .ok (.invokevirtual 55, 3) := dk_182 0 55 (dk_at dksX6_gap_1 19 rfl rfl)
theorem dX6_gap_46 : decode cX6_gap 46 = .ok (.ireturn, 1) := dk_172 (dk_at dksX6_gap_1 22 rfl rfl)
abbrev cX6_form : ByteArray := prog_12_method_15_code
def yX6_form : MethodName := ⟨RX6, "form", "(I)I"⟩
def dkwX6_form_2 : List UInt8 := [42, 180, 0, 3, 180, 0, 61, 108, 62, 132, 4, 255, 167, 255, 208, 42, 180, 0, 3, 28, 182, 0, 55, 172]
abbrev dktX6_form_2 : List UInt8 := dkwX6_form_2 ++ []
def dkwX6_form_1 : List UInt8 := [46, 29, 42, 180, 0, 3, 180, 0, 61, 112, 104, 29, 42, 180, 0, 3, 180, 0, 61, 112, 104, 96, 61, 29]
abbrev dktX6_form_1 : List UInt8 := dkwX6_form_1 ++ dktX6_form_2
def dkwX6_form_0 : List UInt8 := [3, 61, 27, 62, 42, 180, 0, 35, 4, 100, 54, 4, 21, 4, 155, 0, 49, 28, 42, 180, 0, 15, 21, 4]
abbrev dktX6_form_0 : List UInt8 := dkwX6_form_0 ++ dktX6_form_1
theorem dksX6_form_0 : cX6_form.data.toList.drop 0 = dktX6_form_0 := by decide +kernel
theorem dksX6_form_1 : cX6_form.data.toList.drop 24 = dktX6_form_1 := dk_seg dksX6_form_0 24 rfl rfl
theorem dksX6_form_2 : cX6_form.data.toList.drop 48 = dktX6_form_2 := dk_seg dksX6_form_1 24 rfl rfl
theorem dX6_form_0 : decode cX6_form 0 = .ok (.iconst 0, 1) := dk_3 (dk_at dksX6_form_0 0 rfl rfl)
theorem dX6_form_1 : decode cX6_form 1 = .ok (.istore_n 2, 1) := dk_61 (dk_at dksX6_form_0 1 rfl rfl)
theorem dX6_form_2 : decode cX6_form 2 = .ok (.iload_n 1, 1) := dk_27 (dk_at dksX6_form_0 2 rfl rfl)
theorem dX6_form_3 : decode cX6_form 3 = .ok (.istore_n 3, 1) := dk_62 (dk_at dksX6_form_0 3 rfl rfl)
theorem dX6_form_4 : decode cX6_form 4 = .ok (.aload_n 0, 1) := dk_42 (dk_at dksX6_form_0 4 rfl rfl)
theorem dX6_form_5 : decode cX6_form 5 = .ok (.getfield 35, 3) := dk_180 0 35 (dk_at dksX6_form_0 5 rfl rfl)
theorem dX6_form_8 : decode cX6_form 8 = .ok (.iconst 1, 1) := dk_4 (dk_at dksX6_form_0 8 rfl rfl)
theorem dX6_form_9 : decode cX6_form 9 = .ok (.isub, 1) := dk_100 (dk_at dksX6_form_0 9 rfl rfl)
theorem dX6_form_10 : decode cX6_form 10 = .ok (.istore 4, 2) := dk_54 4 (dk_at dksX6_form_0 10 rfl rfl)
theorem dX6_form_12 : decode cX6_form 12 = .ok (.iload 4, 2) := dk_21 4 (dk_at dksX6_form_0 12 rfl rfl)
theorem dX6_form_14 : decode cX6_form 14 = .ok (.ifCond .lt 49, 3) := dk_155 0 49 (dk_at dksX6_form_0 14 rfl rfl)
theorem dX6_form_17 : decode cX6_form 17 = .ok (.iload_n 2, 1) := dk_28 (dk_at dksX6_form_0 17 rfl rfl)
theorem dX6_form_18 : decode cX6_form 18 = .ok (.aload_n 0, 1) := dk_42 (dk_at dksX6_form_0 18 rfl rfl)
theorem dX6_form_19 : decode cX6_form 19 = .ok (.getfield 15, 3) := dk_180 0 15 (dk_at dksX6_form_0 19 rfl rfl)
theorem dX6_form_22 : decode cX6_form 22 = .ok (.iload 4, 2) := dk_21 4 (dk_at dksX6_form_0 22 rfl rfl)
theorem dX6_form_24 : decode cX6_form 24 = .ok (.iaload, 1) := dk_46 (dk_at dksX6_form_1 0 rfl rfl)
theorem dX6_form_25 : decode cX6_form 25 = .ok (.iload_n 3, 1) := dk_29 (dk_at dksX6_form_1 1 rfl rfl)
theorem dX6_form_26 : decode cX6_form 26 = .ok (.aload_n 0, 1) := dk_42 (dk_at dksX6_form_1 2 rfl rfl)
theorem dX6_form_27 : decode cX6_form 27 = .ok (.getfield 3, 3) := dk_180 0 3 (dk_at dksX6_form_1 3 rfl rfl)
theorem dX6_form_30 : decode cX6_form 30 = .ok (.getfield 61, 3) := dk_180 0 61 (dk_at dksX6_form_1 6 rfl rfl)
theorem dX6_form_33 : decode cX6_form 33 = .ok (.irem, 1) := dk_112 (dk_at dksX6_form_1 9 rfl rfl)
theorem dX6_form_34 : decode cX6_form 34 = .ok (.imul, 1) := dk_104 (dk_at dksX6_form_1 10 rfl rfl)
theorem dX6_form_35 : decode cX6_form 35 = .ok (.iload_n 3, 1) := dk_29 (dk_at dksX6_form_1 11 rfl rfl)
theorem dX6_form_36 : decode cX6_form 36 = .ok (.aload_n 0, 1) := dk_42 (dk_at dksX6_form_1 12 rfl rfl)
theorem dX6_form_37 : decode cX6_form 37 = .ok (.getfield 3, 3) := dk_180 0 3 (dk_at dksX6_form_1 13 rfl rfl)
theorem dX6_form_40 : decode cX6_form 40 = .ok (.getfield 61, 3) := dk_180 0 61 (dk_at dksX6_form_1 16 rfl rfl)
theorem dX6_form_43 : decode cX6_form 43 = .ok (.irem, 1) := dk_112 (dk_at dksX6_form_1 19 rfl rfl)
theorem dX6_form_44 : decode cX6_form 44 = .ok (.imul, 1) := dk_104 (dk_at dksX6_form_1 20 rfl rfl)
theorem dX6_form_45 : decode cX6_form 45 = .ok (.iadd, 1) := dk_96 (dk_at dksX6_form_1 21 rfl rfl)
theorem dX6_form_46 : decode cX6_form 46 = .ok (.istore_n 2, 1) := dk_61 (dk_at dksX6_form_1 22 rfl rfl)
theorem dX6_form_47 : decode cX6_form 47 = .ok (.iload_n 3, 1) := dk_29 (dk_at dksX6_form_1 23 rfl rfl)
theorem dX6_form_48 : decode cX6_form 48 = .ok (.aload_n 0, 1) := dk_42 (dk_at dksX6_form_2 0 rfl rfl)
theorem dX6_form_49 : decode cX6_form 49 = .ok (.getfield 3, 3) := dk_180 0 3 (dk_at dksX6_form_2 1 rfl rfl)
theorem dX6_form_52 : decode cX6_form 52 = .ok (.getfield 61, 3) := dk_180 0 61 (dk_at dksX6_form_2 4 rfl rfl)
theorem dX6_form_55 : decode cX6_form 55 = .ok (.idiv, 1) := dk_108 (dk_at dksX6_form_2 7 rfl rfl)
theorem dX6_form_56 : decode cX6_form 56 = .ok (.istore_n 3, 1) := dk_62 (dk_at dksX6_form_2 8 rfl rfl)
theorem dX6_form_57 : decode cX6_form 57 = .ok (.iinc 4 (-1), 3) := dk_132 4 255 (dk_at dksX6_form_2 9 rfl rfl)
theorem dX6_form_60 : decode cX6_form 60 = .ok (.goto (-48), 3) := dk_167 255 208 (dk_at dksX6_form_2 12 rfl rfl)
theorem dX6_form_63 : decode cX6_form 63 = .ok (.aload_n 0, 1) := dk_42 (dk_at dksX6_form_2 15 rfl rfl)
theorem dX6_form_64 : decode cX6_form 64 = .ok (.getfield 3, 3) := dk_180 0 3 (dk_at dksX6_form_2 16 rfl rfl)
theorem dX6_form_67 : decode cX6_form 67 = .ok (.iload_n 2, 1) := dk_28 (dk_at dksX6_form_2 19 rfl rfl)
theorem dX6_form_68 : decode cX6_form 68 = .ok (.invokevirtual 55, 3) := dk_182 0 55 (dk_at dksX6_form_2 20 rfl rfl)
theorem dX6_form_71 : decode cX6_form 71 = .ok (.ireturn, 1) := dk_172 (dk_at dksX6_form_2 23 rfl rfl)
theorem q82 : (Jvm.Cond.initialized "VersorhallModel$Algebra") ∈ lw_all := lw_g (lw_at lw_m1 21 rfl) rfl
theorem q477 : (Jvm.Cond.selects "VersorhallModel$Algebra" ({ cls := "java/lang/Object", name := "equals", desc := "(Ljava/lang/Object;)Z" } : Jvm.MethodName) ({ cls := "java/lang/Object", name := "equals", desc := "(Ljava/lang/Object;)Z" } : Jvm.MethodName)) ∈ lw_all := lw_g (lw_at lw_m2 176 rfl) rfl
theorem q1008 : (Jvm.Cond.selects "VersorhallModel$Algebra" ({ cls := "java/lang/Object", name := "getClass", desc := "()Ljava/lang/Class;" } : Jvm.MethodName) ({ cls := "java/lang/Object", name := "getClass", desc := "()Ljava/lang/Class;" } : Jvm.MethodName)) ∈ lw_all := lw_g (lw_at lw_m4 227 rfl) rfl
theorem q1289 : (Jvm.Cond.selects "VersorhallModel$Algebra" ({ cls := "java/lang/Object", name := "notifyAll", desc := "()V" } : Jvm.MethodName) ({ cls := "java/lang/Object", name := "notifyAll", desc := "()V" } : Jvm.MethodName)) ∈ lw_all := lw_g (lw_at lw_m6 28 rfl) rfl
theorem q1339 : (Jvm.Cond.selects "VersorhallModel$Algebra" ({ cls := "java/lang/Object", name := "notify", desc := "()V" } : Jvm.MethodName) ({ cls := "java/lang/Object", name := "notify", desc := "()V" } : Jvm.MethodName)) ∈ lw_all := lw_g (lw_at lw_m6 78 rfl) rfl
theorem q1497 : (Jvm.Cond.fieldLinkNest "VersorhallModel$Algebra" (61 : Nat) "VersorhallModel" "p" "I" "VersorhallModel") ∈ lw_tbl := lw_at lw_m6 236 rfl
theorem q1540 : (Jvm.Cond.instantiable "VersorhallModel$Algebra" (6 : Nat)) ∈ lw_all := lw_g (lw_at lw_m7 39 rfl) rfl
theorem q1542 : (Jvm.Cond.instanceMethod ({ cls := "VersorhallModel$Algebra", name := "<init>", desc := "(LVersorhallModel;I)V" } : Jvm.MethodName)) ∈ lw_all := lw_g (lw_at lw_m7 41 rfl) rfl
theorem q1543 : (Jvm.Cond.code ({ cls := "VersorhallModel$Algebra", name := "<init>", desc := "(LVersorhallModel;I)V" } : Jvm.MethodName) prog_12_method_1_code (3 : Nat) (Option.none : Option Jvm.ClassFile.FieldType)) ∈ lw_all := lw_g (lw_at lw_m7 42 rfl) rfl
theorem q1544 : (Jvm.Cond.methodLink "VersorhallModel$Algebra" (9 : Nat) ({ cls := "java/lang/Object", name := "<init>", desc := "()V" } : Jvm.MethodName)) ∈ lw_all := lw_g (lw_at lw_m7 43 rfl) rfl
theorem q1545 : (Jvm.Cond.classLink "VersorhallModel$Algebra" (19 : Nat) "[I") ∈ lw_all := lw_g (lw_at lw_m7 44 rfl) rfl
theorem q1546 : (Jvm.Cond.classLink "VersorhallModel$Algebra" (24 : Nat) "java/util/ArrayList") ∈ lw_all := lw_g (lw_at lw_m7 45 rfl) rfl
theorem q1547 : (Jvm.Cond.methodLink "VersorhallModel$Algebra" (26 : Nat) ({ cls := "java/util/ArrayList", name := "<init>", desc := "()V" } : Jvm.MethodName)) ∈ lw_all := lw_g (lw_at lw_m7 46 rfl) rfl
theorem q1548 : (Jvm.Cond.fieldLink "VersorhallModel$Algebra" (31 : Nat) "VersorhallModel$Algebra" "kind" "I") ∈ lw_all := lw_g (lw_at lw_m7 47 rfl) rfl
theorem q1550 : (Jvm.Cond.fieldLink "VersorhallModel$Algebra" (15 : Nat) "VersorhallModel$Algebra" "dials" "[I") ∈ lw_all := lw_g (lw_at lw_m7 49 rfl) rfl
theorem q1552 : (Jvm.Cond.fieldLink "VersorhallModel$Algebra" (20 : Nat) "VersorhallModel$Algebra" "signs" "[[I") ∈ lw_all := lw_g (lw_at lw_m7 51 rfl) rfl
theorem q1554 : (Jvm.Cond.fieldLink "VersorhallModel$Algebra" (35 : Nat) "VersorhallModel$Algebra" "many" "I") ∈ lw_all := lw_g (lw_at lw_m7 53 rfl) rfl
theorem q1556 : (Jvm.Cond.fieldLink "VersorhallModel$Algebra" (27 : Nat) "VersorhallModel$Algebra" "mirrors" "Ljava/util/List;") ∈ lw_all := lw_g (lw_at lw_m7 55 rfl) rfl
theorem q1558 : (Jvm.Cond.fieldLink "VersorhallModel$Algebra" (3 : Nat) "VersorhallModel$Algebra" "this$0" "LVersorhallModel;") ∈ lw_all := lw_g (lw_at lw_m7 57 rfl) rfl
theorem q1559 : (Jvm.Cond.laysFinal "VersorhallModel$Algebra" "VersorhallModel$Algebra" "kind" "I") ∈ lw_all := lw_g (lw_at lw_m7 58 rfl) rfl
theorem q1560 : (Jvm.Cond.soleField "VersorhallModel$Algebra" "kind") ∈ lw_all := lw_g (lw_at lw_m7 59 rfl) rfl
theorem q1561 : (Jvm.Cond.laysFinal "VersorhallModel$Algebra" "VersorhallModel$Algebra" "dials" "[I") ∈ lw_all := lw_g (lw_at lw_m7 60 rfl) rfl
theorem q1562 : (Jvm.Cond.soleField "VersorhallModel$Algebra" "dials") ∈ lw_all := lw_g (lw_at lw_m7 61 rfl) rfl
theorem q1563 : (Jvm.Cond.lays "VersorhallModel$Algebra" "VersorhallModel$Algebra" "signs" "[[I") ∈ lw_all := lw_g (lw_at lw_m7 62 rfl) rfl
theorem q1564 : (Jvm.Cond.soleField "VersorhallModel$Algebra" "signs") ∈ lw_all := lw_g (lw_at lw_m7 63 rfl) rfl
theorem q1565 : (Jvm.Cond.lays "VersorhallModel$Algebra" "VersorhallModel$Algebra" "many" "I") ∈ lw_all := lw_g (lw_at lw_m7 64 rfl) rfl
theorem q1566 : (Jvm.Cond.soleField "VersorhallModel$Algebra" "many") ∈ lw_all := lw_g (lw_at lw_m7 65 rfl) rfl
theorem q1567 : (Jvm.Cond.laysFinal "VersorhallModel$Algebra" "VersorhallModel$Algebra" "mirrors" "Ljava/util/List;") ∈ lw_all := lw_g (lw_at lw_m7 66 rfl) rfl
theorem q1568 : (Jvm.Cond.soleField "VersorhallModel$Algebra" "mirrors") ∈ lw_all := lw_g (lw_at lw_m7 67 rfl) rfl
theorem q1569 : (Jvm.Cond.laysFinal "VersorhallModel$Algebra" "VersorhallModel$Algebra" "this$0" "LVersorhallModel;") ∈ lw_all := lw_g (lw_at lw_m7 68 rfl) rfl
theorem q1570 : (Jvm.Cond.soleField "VersorhallModel$Algebra" "this$0") ∈ lw_all := lw_g (lw_at lw_m7 69 rfl) rfl
theorem q1571 : (Jvm.Cond.superclass "VersorhallModel$Algebra" "java/lang/Object") ∈ lw_all := lw_g (lw_at lw_m7 70 rfl) rfl
theorem q1600 : (Jvm.Cond.instanceMethod ({ cls := "VersorhallModel$Algebra", name := "dial", desc := "(I)V" } : Jvm.MethodName)) ∈ lw_all := lw_g (lw_at lw_m7 99 rfl) rfl
theorem q1601 : (Jvm.Cond.selects "VersorhallModel$Algebra" ({ cls := "VersorhallModel$Algebra", name := "dial", desc := "(I)V" } : Jvm.MethodName) ({ cls := "VersorhallModel$Algebra", name := "dial", desc := "(I)V" } : Jvm.MethodName)) ∈ lw_all := lw_g (lw_at lw_m7 100 rfl) rfl
theorem q1602 : (Jvm.Cond.code ({ cls := "VersorhallModel$Algebra", name := "dial", desc := "(I)V" } : Jvm.MethodName) prog_12_method_3_code (6 : Nat) (Option.none : Option Jvm.ClassFile.FieldType)) ∈ lw_all := lw_g (lw_at lw_m7 101 rfl) rfl
theorem q1603 : (Jvm.Cond.methodLink "VersorhallModel$Algebra" (38 : Nat) ({ cls := "VersorhallModel$Algebra", name := "units", desc := "()I" } : Jvm.MethodName)) ∈ lw_all := lw_g (lw_at lw_m7 102 rfl) rfl
theorem q1604 : (Jvm.Cond.instanceMethod ({ cls := "VersorhallModel$Algebra", name := "units", desc := "()I" } : Jvm.MethodName)) ∈ lw_all := lw_g (lw_at lw_m7 103 rfl) rfl
theorem q1605 : (Jvm.Cond.selects "VersorhallModel$Algebra" ({ cls := "VersorhallModel$Algebra", name := "units", desc := "()I" } : Jvm.MethodName) ({ cls := "VersorhallModel$Algebra", name := "units", desc := "()I" } : Jvm.MethodName)) ∈ lw_all := lw_g (lw_at lw_m7 104 rfl) rfl
theorem q1606 : (Jvm.Cond.code ({ cls := "VersorhallModel$Algebra", name := "units", desc := "()I" } : Jvm.MethodName) prog_12_method_2_code (1 : Nat) (Option.some Jvm.ClassFile.FieldType.int)) ∈ lw_all := lw_g (lw_at lw_m7 105 rfl) rfl
theorem q1607 : (Jvm.Cond.classLink "VersorhallModel$Algebra" (42 : Nat) "[[I") ∈ lw_all := lw_g (lw_at lw_m7 106 rfl) rfl
theorem q1608 : (Jvm.Cond.methodLink "VersorhallModel$Algebra" (43 : Nat) ({ cls := "VersorhallModel$Algebra", name := "doubled", desc := "(IIII)I" } : Jvm.MethodName)) ∈ lw_all := lw_g (lw_at lw_m7 107 rfl) rfl
theorem q1609 : (Jvm.Cond.privateMethod ({ cls := "VersorhallModel$Algebra", name := "doubled", desc := "(IIII)I" } : Jvm.MethodName)) ∈ lw_tbl := lw_at lw_m7 108 rfl
theorem q1610 : (Jvm.Cond.instanceMethod ({ cls := "VersorhallModel$Algebra", name := "doubled", desc := "(IIII)I" } : Jvm.MethodName)) ∈ lw_all := lw_g (lw_at lw_m7 109 rfl) rfl
theorem q1611 : (Jvm.Cond.code ({ cls := "VersorhallModel$Algebra", name := "doubled", desc := "(IIII)I" } : Jvm.MethodName) prog_12_method_4_code (7 : Nat) (Option.some Jvm.ClassFile.FieldType.int)) ∈ lw_all := lw_g (lw_at lw_m7 110 rfl) rfl
theorem q1612 : (Jvm.Cond.methodLink "VersorhallModel$Algebra" (51 : Nat) ({ cls := "VersorhallModel$Algebra", name := "conjugate", desc := "(I)I" } : Jvm.MethodName)) ∈ lw_all := lw_g (lw_at lw_m7 111 rfl) rfl
theorem q1613 : (Jvm.Cond.instanceMethod ({ cls := "VersorhallModel$Algebra", name := "conjugate", desc := "(I)I" } : Jvm.MethodName)) ∈ lw_all := lw_g (lw_at lw_m7 112 rfl) rfl
theorem q1614 : (Jvm.Cond.selects "VersorhallModel$Algebra" ({ cls := "VersorhallModel$Algebra", name := "conjugate", desc := "(I)I" } : Jvm.MethodName) ({ cls := "VersorhallModel$Algebra", name := "conjugate", desc := "(I)I" } : Jvm.MethodName)) ∈ lw_all := lw_g (lw_at lw_m7 113 rfl) rfl
theorem q1615 : (Jvm.Cond.code ({ cls := "VersorhallModel$Algebra", name := "conjugate", desc := "(I)I" } : Jvm.MethodName) prog_12_method_6_code (3 : Nat) (Option.some Jvm.ClassFile.FieldType.int)) ∈ lw_all := lw_g (lw_at lw_m7 114 rfl) rfl
theorem q1616 : (Jvm.Cond.methodLinkNest "VersorhallModel$Algebra" (58 : Nat) ({ cls := "VersorhallModel", name := "grade", desc := "(I)I" } : Jvm.MethodName) "VersorhallModel") ∈ lw_tbl := lw_at lw_m7 115 rfl
theorem q1619 : (Jvm.Cond.methodLinkNest "VersorhallModel$Algebra" (55 : Nat) ({ cls := "VersorhallModel", name := "mod", desc := "(I)I" } : Jvm.MethodName) "VersorhallModel") ∈ lw_tbl := lw_at lw_m7 118 rfl
theorem q1623 : (Jvm.Cond.methodLink "VersorhallModel$Algebra" (47 : Nat) ({ cls := "VersorhallModel$Algebra", name := "blade", desc := "(II)I" } : Jvm.MethodName)) ∈ lw_all := lw_g (lw_at lw_m7 122 rfl) rfl
theorem q1624 : (Jvm.Cond.privateMethod ({ cls := "VersorhallModel$Algebra", name := "blade", desc := "(II)I" } : Jvm.MethodName)) ∈ lw_tbl := lw_at lw_m7 123 rfl
theorem q1625 : (Jvm.Cond.instanceMethod ({ cls := "VersorhallModel$Algebra", name := "blade", desc := "(II)I" } : Jvm.MethodName)) ∈ lw_all := lw_g (lw_at lw_m7 124 rfl) rfl
theorem q1626 : (Jvm.Cond.code ({ cls := "VersorhallModel$Algebra", name := "blade", desc := "(II)I" } : Jvm.MethodName) prog_12_method_5_code (6 : Nat) (Option.some Jvm.ClassFile.FieldType.int)) ∈ lw_all := lw_g (lw_at lw_m7 125 rfl) rfl
theorem q1687 : (Jvm.Cond.instanceMethod ({ cls := "VersorhallModel$Algebra", name := "times", desc := "([I[I)[I" } : Jvm.MethodName)) ∈ lw_all := lw_g (lw_at lw_m7 186 rfl) rfl
theorem q1688 : (Jvm.Cond.selects "VersorhallModel$Algebra" ({ cls := "VersorhallModel$Algebra", name := "times", desc := "([I[I)[I" } : Jvm.MethodName) ({ cls := "VersorhallModel$Algebra", name := "times", desc := "([I[I)[I" } : Jvm.MethodName)) ∈ lw_all := lw_g (lw_at lw_m7 187 rfl) rfl
theorem q1689 : (Jvm.Cond.code ({ cls := "VersorhallModel$Algebra", name := "times", desc := "([I[I)[I" } : Jvm.MethodName) prog_12_method_7_code (6 : Nat) (Option.some (Jvm.ClassFile.FieldType.array Jvm.ClassFile.FieldType.int))) ∈ lw_all := lw_g (lw_at lw_m7 188 rfl) rfl
theorem q1695 : (Jvm.Cond.instanceMethod ({ cls := "VersorhallModel$Algebra", name := "scaled", desc := "([II)[I" } : Jvm.MethodName)) ∈ lw_all := lw_g (lw_at lw_m7 194 rfl) rfl
theorem q1696 : (Jvm.Cond.selects "VersorhallModel$Algebra" ({ cls := "VersorhallModel$Algebra", name := "scaled", desc := "([II)[I" } : Jvm.MethodName) ({ cls := "VersorhallModel$Algebra", name := "scaled", desc := "([II)[I" } : Jvm.MethodName)) ∈ lw_all := lw_g (lw_at lw_m7 195 rfl) rfl
theorem q1697 : (Jvm.Cond.code ({ cls := "VersorhallModel$Algebra", name := "scaled", desc := "([II)[I" } : Jvm.MethodName) prog_12_method_9_code (5 : Nat) (Option.some (Jvm.ClassFile.FieldType.array Jvm.ClassFile.FieldType.int))) ∈ lw_all := lw_g (lw_at lw_m7 196 rfl) rfl
theorem q1703 : (Jvm.Cond.instanceMethod ({ cls := "VersorhallModel$Algebra", name := "conjugated", desc := "([I)[I" } : Jvm.MethodName)) ∈ lw_all := lw_g (lw_at lw_m7 202 rfl) rfl
theorem q1704 : (Jvm.Cond.selects "VersorhallModel$Algebra" ({ cls := "VersorhallModel$Algebra", name := "conjugated", desc := "([I)[I" } : Jvm.MethodName) ({ cls := "VersorhallModel$Algebra", name := "conjugated", desc := "([I)[I" } : Jvm.MethodName)) ∈ lw_all := lw_g (lw_at lw_m7 203 rfl) rfl
theorem q1705 : (Jvm.Cond.code ({ cls := "VersorhallModel$Algebra", name := "conjugated", desc := "([I)[I" } : Jvm.MethodName) prog_12_method_8_code (4 : Nat) (Option.some (Jvm.ClassFile.FieldType.array Jvm.ClassFile.FieldType.int))) ∈ lw_all := lw_g (lw_at lw_m7 204 rfl) rfl
theorem q1711 : (Jvm.Cond.instanceMethod ({ cls := "VersorhallModel$Algebra", name := "power", desc := "([II)[I" } : Jvm.MethodName)) ∈ lw_all := lw_g (lw_at lw_m7 210 rfl) rfl
theorem q1712 : (Jvm.Cond.selects "VersorhallModel$Algebra" ({ cls := "VersorhallModel$Algebra", name := "power", desc := "([II)[I" } : Jvm.MethodName) ({ cls := "VersorhallModel$Algebra", name := "power", desc := "([II)[I" } : Jvm.MethodName)) ∈ lw_all := lw_g (lw_at lw_m7 211 rfl) rfl
theorem q1713 : (Jvm.Cond.code ({ cls := "VersorhallModel$Algebra", name := "power", desc := "([II)[I" } : Jvm.MethodName) prog_12_method_11_code (5 : Nat) (Option.some (Jvm.ClassFile.FieldType.array Jvm.ClassFile.FieldType.int))) ∈ lw_all := lw_g (lw_at lw_m7 212 rfl) rfl
theorem q1714 : (Jvm.Cond.methodLink "VersorhallModel$Algebra" (64 : Nat) ({ cls := "VersorhallModel$Algebra", name := "one", desc := "()[I" } : Jvm.MethodName)) ∈ lw_all := lw_g (lw_at lw_m7 213 rfl) rfl
theorem q1715 : (Jvm.Cond.instanceMethod ({ cls := "VersorhallModel$Algebra", name := "one", desc := "()[I" } : Jvm.MethodName)) ∈ lw_all := lw_g (lw_at lw_m7 214 rfl) rfl
theorem q1716 : (Jvm.Cond.selects "VersorhallModel$Algebra" ({ cls := "VersorhallModel$Algebra", name := "one", desc := "()[I" } : Jvm.MethodName) ({ cls := "VersorhallModel$Algebra", name := "one", desc := "()[I" } : Jvm.MethodName)) ∈ lw_all := lw_g (lw_at lw_m7 215 rfl) rfl
theorem q1717 : (Jvm.Cond.code ({ cls := "VersorhallModel$Algebra", name := "one", desc := "()[I" } : Jvm.MethodName) prog_12_method_10_code (2 : Nat) (Option.some (Jvm.ClassFile.FieldType.array Jvm.ClassFile.FieldType.int))) ∈ lw_all := lw_g (lw_at lw_m7 216 rfl) rfl
theorem q1718 : (Jvm.Cond.methodLink "VersorhallModel$Algebra" (68 : Nat) ({ cls := "VersorhallModel$Algebra", name := "times", desc := "([I[I)[I" } : Jvm.MethodName)) ∈ lw_all := lw_g (lw_at lw_m7 217 rfl) rfl
theorem q1786 : (Jvm.Cond.instanceMethod ({ cls := "VersorhallModel$Algebra", name := "mirrored", desc := "([I[I)[I" } : Jvm.MethodName)) ∈ lw_all := lw_g (lw_at lw_m8 45 rfl) rfl
theorem q1787 : (Jvm.Cond.selects "VersorhallModel$Algebra" ({ cls := "VersorhallModel$Algebra", name := "mirrored", desc := "([I[I)[I" } : Jvm.MethodName) ({ cls := "VersorhallModel$Algebra", name := "mirrored", desc := "([I[I)[I" } : Jvm.MethodName)) ∈ lw_all := lw_g (lw_at lw_m8 46 rfl) rfl
theorem q1788 : (Jvm.Cond.code ({ cls := "VersorhallModel$Algebra", name := "mirrored", desc := "([I[I)[I" } : Jvm.MethodName) prog_12_method_12_code (3 : Nat) (Option.some (Jvm.ClassFile.FieldType.array Jvm.ClassFile.FieldType.int))) ∈ lw_all := lw_g (lw_at lw_m8 47 rfl) rfl
theorem q1789 : (Jvm.Cond.methodLinkNest "VersorhallModel$Algebra" (72 : Nat) ({ cls := "VersorhallModel", name := "inverse", desc := "(I)I" } : Jvm.MethodName) "VersorhallModel") ∈ lw_tbl := lw_at lw_m8 48 rfl
theorem q1790 : (Jvm.Cond.methodLink "VersorhallModel$Algebra" (75 : Nat) ({ cls := "VersorhallModel$Algebra", name := "scaled", desc := "([II)[I" } : Jvm.MethodName)) ∈ lw_all := lw_g (lw_at lw_m8 49 rfl) rfl
theorem q1851 : (Jvm.Cond.instanceMethod ({ cls := "VersorhallModel$Algebra", name := "keeps", desc := "(IIII)Z" } : Jvm.MethodName)) ∈ lw_all := lw_g (lw_at lw_m8 110 rfl) rfl
theorem q1852 : (Jvm.Cond.selects "VersorhallModel$Algebra" ({ cls := "VersorhallModel$Algebra", name := "keeps", desc := "(IIII)Z" } : Jvm.MethodName) ({ cls := "VersorhallModel$Algebra", name := "keeps", desc := "(IIII)Z" } : Jvm.MethodName)) ∈ lw_all := lw_g (lw_at lw_m8 111 rfl) rfl
theorem q1853 : (Jvm.Cond.code ({ cls := "VersorhallModel$Algebra", name := "keeps", desc := "(IIII)Z" } : Jvm.MethodName) prog_12_method_14_code (6 : Nat) (Option.some Jvm.ClassFile.FieldType.boolean)) ∈ lw_all := lw_g (lw_at lw_m8 112 rfl) rfl
theorem q1854 : (Jvm.Cond.methodLink "VersorhallModel$Algebra" (79 : Nat) ({ cls := "VersorhallModel$Algebra", name := "gap", desc := "(III)I" } : Jvm.MethodName)) ∈ lw_all := lw_g (lw_at lw_m8 113 rfl) rfl
theorem q1855 : (Jvm.Cond.instanceMethod ({ cls := "VersorhallModel$Algebra", name := "gap", desc := "(III)I" } : Jvm.MethodName)) ∈ lw_all := lw_g (lw_at lw_m8 114 rfl) rfl
theorem q1856 : (Jvm.Cond.selects "VersorhallModel$Algebra" ({ cls := "VersorhallModel$Algebra", name := "gap", desc := "(III)I" } : Jvm.MethodName) ({ cls := "VersorhallModel$Algebra", name := "gap", desc := "(III)I" } : Jvm.MethodName)) ∈ lw_all := lw_g (lw_at lw_m8 115 rfl) rfl
theorem q1857 : (Jvm.Cond.code ({ cls := "VersorhallModel$Algebra", name := "gap", desc := "(III)I" } : Jvm.MethodName) prog_12_method_13_code (4 : Nat) (Option.some Jvm.ClassFile.FieldType.int)) ∈ lw_all := lw_g (lw_at lw_m8 116 rfl) rfl
theorem q1915 : (Jvm.Cond.instanceMethod ({ cls := "VersorhallModel$Algebra", name := "form", desc := "(I)I" } : Jvm.MethodName)) ∈ lw_all := lw_g (lw_at lw_m8 174 rfl) rfl
theorem q1916 : (Jvm.Cond.selects "VersorhallModel$Algebra" ({ cls := "VersorhallModel$Algebra", name := "form", desc := "(I)I" } : Jvm.MethodName) ({ cls := "VersorhallModel$Algebra", name := "form", desc := "(I)I" } : Jvm.MethodName)) ∈ lw_all := lw_g (lw_at lw_m8 175 rfl) rfl
theorem q1917 : (Jvm.Cond.code ({ cls := "VersorhallModel$Algebra", name := "form", desc := "(I)I" } : Jvm.MethodName) prog_12_method_15_code (5 : Nat) (Option.some Jvm.ClassFile.FieldType.int)) ∈ lw_all := lw_g (lw_at lw_m8 176 rfl) rfl
theorem q1974 : (Jvm.Cond.castable "VersorhallModel$Algebra" "java/lang/Object") ∈ lw_tbl := lw_at lw_m8 233 rfl
theorem in_X6 : ∀ w ∈ wsX60, w ∈ lw_all := lw_in wsX60 [1559, 1561, 1563, 1565, 1567, 1569] (by decide +kernel) (by decide +kernel)
/-! VersorhallModel$Element -/
set_option maxRecDepth 100000
def RX8 : String := "VersorhallModel$Element"
def TX8 : u_T := fun k => match k with
  | 0 => ("VersorhallModel$Element", "algebra", "I", true)
  | _ => ("VersorhallModel$Element", "row", "[I", false)
def tyX8 : Nat → FieldType := fun k => match k with
  | 0 => .int
  | _ => .array .int
abbrev wsX80 : List Cond := u_ws RX8 TX8 2
theorem nmX8 : ∀ a, a < 2 → ∀ b, b < 2 → a ≠ b → (TX8 a).2.1 ≠ (TX8 b).2.1 := by decide +kernel
theorem tyX8_ok : ∀ k, k < 2 → parseFieldDescriptor (TX8 k).2.2.1 = some (tyX8 k) := by decide +kernel
abbrev cX8_init : ByteArray := prog_13_method_1_code
def yX8_init : MethodName := ⟨RX8, "<init>", "(II)V"⟩
def dkwX8_init_0 : List UInt8 := [42, 183, 0, 1, 42, 27, 181, 0, 7, 42, 28, 188, 10, 181, 0, 13, 177]
abbrev dktX8_init_0 : List UInt8 := dkwX8_init_0 ++ []
theorem dksX8_init_0 : cX8_init.data.toList.drop 0 = dktX8_init_0 := by decide +kernel
theorem dX8_init_0 : decode cX8_init 0 = .ok (.aload_n 0, 1) := dk_42 (dk_at dksX8_init_0 0 rfl rfl)
theorem dX8_init_1 : decode cX8_init 1 = .ok (.invokespecial 1, 3) := dk_183 0 1 (dk_at dksX8_init_0 1 rfl rfl)
theorem dX8_init_4 : decode cX8_init 4 = .ok (.aload_n 0, 1) := dk_42 (dk_at dksX8_init_0 4 rfl rfl)
theorem dX8_init_5 : decode cX8_init 5 = .ok (.iload_n 1, 1) := dk_27 (dk_at dksX8_init_0 5 rfl rfl)
theorem dX8_init_6 : decode cX8_init 6 = .ok (.putfield 7, 3) := dk_181 0 7 (dk_at dksX8_init_0 6 rfl rfl)
theorem dX8_init_9 : decode cX8_init 9 = .ok (.aload_n 0, 1) := dk_42 (dk_at dksX8_init_0 9 rfl rfl)
theorem dX8_init_10 : decode cX8_init 10 = .ok (.iload_n 2, 1) := dk_28 (dk_at dksX8_init_0 10 rfl rfl)
theorem dX8_init_11 : decode cX8_init 11 = .ok (.newarray .int, 2) := dk_188_10 (dk_at dksX8_init_0 11 rfl rfl)
theorem dX8_init_13 : decode cX8_init 13 = .ok (.putfield 13, 3) := dk_181 0 13 (dk_at dksX8_init_0 13 rfl rfl)
theorem dX8_init_16 : decode cX8_init 16 = .ok (.return_, 1) := dk_177 (dk_at dksX8_init_0 16 rfl rfl)
theorem q93 : (Jvm.Cond.initialized "VersorhallModel$Element") ∈ lw_all := lw_g (lw_at lw_m1 32 rfl) rfl
theorem q478 : (Jvm.Cond.selects "VersorhallModel$Element" ({ cls := "java/lang/Object", name := "equals", desc := "(Ljava/lang/Object;)Z" } : Jvm.MethodName) ({ cls := "java/lang/Object", name := "equals", desc := "(Ljava/lang/Object;)Z" } : Jvm.MethodName)) ∈ lw_all := lw_g (lw_at lw_m2 177 rfl) rfl
theorem q1009 : (Jvm.Cond.selects "VersorhallModel$Element" ({ cls := "java/lang/Object", name := "getClass", desc := "()Ljava/lang/Class;" } : Jvm.MethodName) ({ cls := "java/lang/Object", name := "getClass", desc := "()Ljava/lang/Class;" } : Jvm.MethodName)) ∈ lw_all := lw_g (lw_at lw_m4 228 rfl) rfl
theorem q1290 : (Jvm.Cond.selects "VersorhallModel$Element" ({ cls := "java/lang/Object", name := "notifyAll", desc := "()V" } : Jvm.MethodName) ({ cls := "java/lang/Object", name := "notifyAll", desc := "()V" } : Jvm.MethodName)) ∈ lw_all := lw_g (lw_at lw_m6 29 rfl) rfl
theorem q1340 : (Jvm.Cond.selects "VersorhallModel$Element" ({ cls := "java/lang/Object", name := "notify", desc := "()V" } : Jvm.MethodName) ({ cls := "java/lang/Object", name := "notify", desc := "()V" } : Jvm.MethodName)) ∈ lw_all := lw_g (lw_at lw_m6 79 rfl) rfl
theorem q1632 : (Jvm.Cond.instantiable "VersorhallModel$Element" (2 : Nat)) ∈ lw_all := lw_g (lw_at lw_m7 131 rfl) rfl
theorem q1634 : (Jvm.Cond.instanceMethod ({ cls := "VersorhallModel$Element", name := "<init>", desc := "(II)V" } : Jvm.MethodName)) ∈ lw_all := lw_g (lw_at lw_m7 133 rfl) rfl
theorem q1635 : (Jvm.Cond.code ({ cls := "VersorhallModel$Element", name := "<init>", desc := "(II)V" } : Jvm.MethodName) prog_13_method_1_code (3 : Nat) (Option.none : Option Jvm.ClassFile.FieldType)) ∈ lw_all := lw_g (lw_at lw_m7 134 rfl) rfl
theorem q1636 : (Jvm.Cond.methodLink "VersorhallModel$Element" (1 : Nat) ({ cls := "java/lang/Object", name := "<init>", desc := "()V" } : Jvm.MethodName)) ∈ lw_all := lw_g (lw_at lw_m7 135 rfl) rfl
theorem q1637 : (Jvm.Cond.fieldLink "VersorhallModel$Element" (7 : Nat) "VersorhallModel$Element" "algebra" "I") ∈ lw_all := lw_g (lw_at lw_m7 136 rfl) rfl
theorem q1639 : (Jvm.Cond.fieldLink "VersorhallModel$Element" (13 : Nat) "VersorhallModel$Element" "row" "[I") ∈ lw_all := lw_g (lw_at lw_m7 138 rfl) rfl
theorem q1641 : (Jvm.Cond.laysFinal "VersorhallModel$Element" "VersorhallModel$Element" "algebra" "I") ∈ lw_all := lw_g (lw_at lw_m7 140 rfl) rfl
theorem q1642 : (Jvm.Cond.soleField "VersorhallModel$Element" "algebra") ∈ lw_all := lw_g (lw_at lw_m7 141 rfl) rfl
theorem q1643 : (Jvm.Cond.lays "VersorhallModel$Element" "VersorhallModel$Element" "row" "[I") ∈ lw_all := lw_g (lw_at lw_m7 142 rfl) rfl
theorem q1644 : (Jvm.Cond.soleField "VersorhallModel$Element" "row") ∈ lw_all := lw_g (lw_at lw_m7 143 rfl) rfl
theorem q1645 : (Jvm.Cond.superclass "VersorhallModel$Element" "java/lang/Object") ∈ lw_all := lw_g (lw_at lw_m7 144 rfl) rfl
theorem q1980 : (Jvm.Cond.castable "VersorhallModel$Element" "java/lang/Object") ∈ lw_tbl := lw_at lw_m8 239 rfl
theorem in_X8 : ∀ w ∈ wsX80, w ∈ lw_all := lw_in wsX80 [1641, 1643] (by decide +kernel) (by decide +kernel)
