/-! VersorhallLaw$Out -/
set_option maxRecDepth 100000
def RX4 : String := "VersorhallLaw$Out"
def TX4 : u_T := fun k => match k with
  | 0 => ("VersorhallLaw$Out", "n", "J", false)
  | 1 => ("VersorhallLaw$Out", "d", "D", false)
  | _ => ("VersorhallLaw$Out", "s", "Ljava/lang/String;", false)
def tyX4 : Nat → FieldType := fun k => match k with
  | 0 => .long
  | 1 => .double
  | _ => .object "java/lang/String"
abbrev wsX40 : List Cond := u_ws RX4 TX4 3
theorem nmX4 : ∀ a, a < 3 → ∀ b, b < 3 → a ≠ b → (TX4 a).2.1 ≠ (TX4 b).2.1 := by decide +kernel
theorem tyX4_ok : ∀ k, k < 3 → parseFieldDescriptor (TX4 k).2.2.1 = some (tyX4 k) := by decide +kernel
abbrev cX4_init : ByteArray := prog_10_method_1_code
def yX4_init : MethodName := ⟨RX4, "<init>", "()V"⟩
theorem dX4_init_0 : decode cX4_init 0 = .ok (.aload_n 0, 1) := by decide +kernel
theorem dX4_init_1 : decode cX4_init 1 = .ok (.invokespecial 1, 3) := by decide +kernel
theorem dX4_init_4 : decode cX4_init 4 = .ok (.return_, 1) := by decide +kernel
theorem q68 : (Jvm.Cond.initialized "VersorhallLaw$Out") ∈ lw_all := lw_g (lw_at lw_m1 7 rfl) rfl
theorem q475 : (Jvm.Cond.selects "VersorhallLaw$Out" ({ cls := "java/lang/Object", name := "equals", desc := "(Ljava/lang/Object;)Z" } : Jvm.MethodName) ({ cls := "java/lang/Object", name := "equals", desc := "(Ljava/lang/Object;)Z" } : Jvm.MethodName)) ∈ lw_all := lw_g (lw_at lw_m2 174 rfl) rfl
theorem q881 : (Jvm.Cond.instantiable "VersorhallLaw$Out" (3 : Nat)) ∈ lw_all := lw_g (lw_at lw_m4 100 rfl) rfl
theorem q883 : (Jvm.Cond.instanceMethod ({ cls := "VersorhallLaw$Out", name := "<init>", desc := "()V" } : Jvm.MethodName)) ∈ lw_all := lw_g (lw_at lw_m4 102 rfl) rfl
theorem q884 : (Jvm.Cond.code ({ cls := "VersorhallLaw$Out", name := "<init>", desc := "()V" } : Jvm.MethodName) prog_10_method_1_code (1 : Nat) (Option.none : Option Jvm.ClassFile.FieldType)) ∈ lw_all := lw_g (lw_at lw_m4 103 rfl) rfl
theorem q885 : (Jvm.Cond.methodLink "VersorhallLaw$Out" (1 : Nat) ({ cls := "java/lang/Object", name := "<init>", desc := "()V" } : Jvm.MethodName)) ∈ lw_all := lw_g (lw_at lw_m4 104 rfl) rfl
theorem q889 : (Jvm.Cond.lays "VersorhallLaw$Out" "VersorhallLaw$Out" "n" "J") ∈ lw_all := lw_g (lw_at lw_m4 108 rfl) rfl
theorem q890 : (Jvm.Cond.soleField "VersorhallLaw$Out" "n") ∈ lw_all := lw_g (lw_at lw_m4 109 rfl) rfl
theorem q891 : (Jvm.Cond.lays "VersorhallLaw$Out" "VersorhallLaw$Out" "d" "D") ∈ lw_all := lw_g (lw_at lw_m4 110 rfl) rfl
theorem q892 : (Jvm.Cond.soleField "VersorhallLaw$Out" "d") ∈ lw_all := lw_g (lw_at lw_m4 111 rfl) rfl
theorem q893 : (Jvm.Cond.lays "VersorhallLaw$Out" "VersorhallLaw$Out" "s" "Ljava/lang/String;") ∈ lw_all := lw_g (lw_at lw_m4 112 rfl) rfl
theorem q894 : (Jvm.Cond.soleField "VersorhallLaw$Out" "s") ∈ lw_all := lw_g (lw_at lw_m4 113 rfl) rfl
theorem q895 : (Jvm.Cond.superclass "VersorhallLaw$Out" "java/lang/Object") ∈ lw_all := lw_g (lw_at lw_m4 114 rfl) rfl
theorem q1006 : (Jvm.Cond.selects "VersorhallLaw$Out" ({ cls := "java/lang/Object", name := "getClass", desc := "()Ljava/lang/Class;" } : Jvm.MethodName) ({ cls := "java/lang/Object", name := "getClass", desc := "()Ljava/lang/Class;" } : Jvm.MethodName)) ∈ lw_all := lw_g (lw_at lw_m4 225 rfl) rfl
theorem q1287 : (Jvm.Cond.selects "VersorhallLaw$Out" ({ cls := "java/lang/Object", name := "notifyAll", desc := "()V" } : Jvm.MethodName) ({ cls := "java/lang/Object", name := "notifyAll", desc := "()V" } : Jvm.MethodName)) ∈ lw_all := lw_g (lw_at lw_m6 26 rfl) rfl
theorem q1337 : (Jvm.Cond.selects "VersorhallLaw$Out" ({ cls := "java/lang/Object", name := "notify", desc := "()V" } : Jvm.MethodName) ({ cls := "java/lang/Object", name := "notify", desc := "()V" } : Jvm.MethodName)) ∈ lw_all := lw_g (lw_at lw_m6 76 rfl) rfl
theorem q1968 : (Jvm.Cond.castable "VersorhallLaw$Out" "java/lang/Object") ∈ lw_tbl := lw_at lw_m8 227 rfl
theorem in_X4 : ∀ w ∈ wsX40, w ∈ lw_all := lw_in wsX40 [889, 891, 893] (by decide +kernel) (by decide +kernel)
/-! VersorhallLaw -/
set_option maxRecDepth 100000
def RX0 : String := "VersorhallLaw"
abbrev cX0_prime : ByteArray := method_2_code
def yX0_prime : MethodName := ⟨RX0, "prime", "(LVersorhall;ILVersorhallLaw$Out;)I"⟩
def dkwX0_prime_0 : List UInt8 := [44, 42, 27, 182, 0, 7, 133, 181, 0, 13, 167, 0, 9, 78, 4, 172, 78, 5, 172, 3, 172]
abbrev dktX0_prime_0 : List UInt8 := dkwX0_prime_0 ++ []
theorem dksX0_prime_0 : cX0_prime.data.toList.drop 0 = dktX0_prime_0 := by decide +kernel
theorem dX0_prime_0 : decode cX0_prime 0 = .ok (.aload_n 2, 1) := dk_44 (dk_at dksX0_prime_0 0 rfl rfl)
theorem dX0_prime_1 : decode cX0_prime 1 = .ok (.aload_n 0, 1) := dk_42 (dk_at dksX0_prime_0 1 rfl rfl)
theorem dX0_prime_2 : decode cX0_prime 2 = .ok (.iload_n 1, 1) := dk_27 (dk_at dksX0_prime_0 2 rfl rfl)
theorem dX0_prime_3 : decode cX0_prime 3 = .ok (.invokevirtual 7, 3) := dk_182 0 7 (dk_at dksX0_prime_0 3 rfl rfl)
theorem dX0_prime_6 : decode cX0_prime 6 = .ok (.i2l, 1) := dk_133 (dk_at dksX0_prime_0 6 rfl rfl)
theorem dX0_prime_7 : decode cX0_prime 7 = .ok (.putfield 13, 3) := dk_181 0 13 (dk_at dksX0_prime_0 7 rfl rfl)
theorem dX0_prime_10 : decode cX0_prime 10 = .ok (.goto 9, 3) := dk_167 0 9 (dk_at dksX0_prime_0 10 rfl rfl)
theorem dX0_prime_13 : decode cX0_prime 13 = .ok (.astore_n 3, 1) := dk_78 (dk_at dksX0_prime_0 13 rfl rfl)
theorem dX0_prime_14 : decode cX0_prime 14 = .ok (.iconst 1, 1) := dk_4 (dk_at dksX0_prime_0 14 rfl rfl)
theorem dX0_prime_15 : decode cX0_prime 15 = .ok (.ireturn, 1) := dk_172 (dk_at dksX0_prime_0 15 rfl rfl)
theorem dX0_prime_16 : decode cX0_prime 16 = .ok (.astore_n 3, 1) := dk_78 (dk_at dksX0_prime_0 16 rfl rfl)
theorem dX0_prime_17 : decode cX0_prime 17 = .ok (.iconst 2, 1) := dk_5 (dk_at dksX0_prime_0 17 rfl rfl)
theorem dX0_prime_18 : decode cX0_prime 18 = .ok (.ireturn, 1) := dk_172 (dk_at dksX0_prime_0 18 rfl rfl)
theorem dX0_prime_19 : decode cX0_prime 19 = .ok (.iconst 0, 1) := dk_3 (dk_at dksX0_prime_0 19 rfl rfl)
theorem dX0_prime_20 : decode cX0_prime 20 = .ok (.ireturn, 1) := dk_172 (dk_at dksX0_prime_0 20 rfl rfl)
abbrev cX0_algebra : ByteArray := method_3_code
def yX0_algebra : MethodName := ⟨RX0, "algebra", "(LVersorhall;ILVersorhallLaw$Out;)I"⟩
def dkwX0_algebra_0 : List UInt8 := [44, 42, 27, 182, 0, 23, 133, 181, 0, 13, 167, 0, 9, 78, 4, 172, 78, 5, 172, 3, 172]
abbrev dktX0_algebra_0 : List UInt8 := dkwX0_algebra_0 ++ []
theorem dksX0_algebra_0 : cX0_algebra.data.toList.drop 0 = dktX0_algebra_0 := by decide +kernel
theorem dX0_algebra_0 : decode cX0_algebra 0 = .ok (.aload_n 2, 1) := dk_44 (dk_at dksX0_algebra_0 0 rfl rfl)
theorem dX0_algebra_1 : decode cX0_algebra 1 = .ok (.aload_n 0, 1) := dk_42 (dk_at dksX0_algebra_0 1 rfl rfl)
theorem dX0_algebra_2 : decode cX0_algebra 2 = .ok (.iload_n 1, 1) := dk_27 (dk_at dksX0_algebra_0 2 rfl rfl)
theorem dX0_algebra_3 : decode cX0_algebra 3 = .ok (.invokevirtual 23, 3) := dk_182 0 23 (dk_at dksX0_algebra_0 3 rfl rfl)
theorem dX0_algebra_6 : decode cX0_algebra 6 = .ok (.i2l, 1) := dk_133 (dk_at dksX0_algebra_0 6 rfl rfl)
theorem dX0_algebra_7 : decode cX0_algebra 7 = .ok (.putfield 13, 3) := dk_181 0 13 (dk_at dksX0_algebra_0 7 rfl rfl)
theorem dX0_algebra_10 : decode cX0_algebra 10 = .ok (.goto 9, 3) := dk_167 0 9 (dk_at dksX0_algebra_0 10 rfl rfl)
theorem dX0_algebra_13 : decode cX0_algebra 13 = .ok (.astore_n 3, 1) := dk_78 (dk_at dksX0_algebra_0 13 rfl rfl)
theorem dX0_algebra_14 : decode cX0_algebra 14 = .ok (.iconst 1, 1) := dk_4 (dk_at dksX0_algebra_0 14 rfl rfl)
theorem dX0_algebra_15 : decode cX0_algebra 15 = .ok (.ireturn, 1) := dk_172 (dk_at dksX0_algebra_0 15 rfl rfl)
theorem dX0_algebra_16 : decode cX0_algebra 16 = .ok (.astore_n 3, 1) := dk_78 (dk_at dksX0_algebra_0 16 rfl rfl)
theorem dX0_algebra_17 : decode cX0_algebra 17 = .ok (.iconst 2, 1) := dk_5 (dk_at dksX0_algebra_0 17 rfl rfl)
theorem dX0_algebra_18 : decode cX0_algebra 18 = .ok (.ireturn, 1) := dk_172 (dk_at dksX0_algebra_0 18 rfl rfl)
theorem dX0_algebra_19 : decode cX0_algebra 19 = .ok (.iconst 0, 1) := dk_3 (dk_at dksX0_algebra_0 19 rfl rfl)
theorem dX0_algebra_20 : decode cX0_algebra 20 = .ok (.ireturn, 1) := dk_172 (dk_at dksX0_algebra_0 20 rfl rfl)
abbrev cX0_dial : ByteArray := method_4_code
def yX0_dial : MethodName := ⟨RX0, "dial", "(LVersorhall;IILVersorhallLaw$Out;)I"⟩
def dkwX0_dial_1 : List UInt8 := [6, 172, 3, 172]
abbrev dktX0_dial_1 : List UInt8 := dkwX0_dial_1 ++ []
def dkwX0_dial_0 : List UInt8 := [45, 42, 27, 28, 182, 0, 26, 133, 181, 0, 13, 167, 0, 15, 58, 4, 4, 172, 58, 4, 5, 172, 58, 4]
abbrev dktX0_dial_0 : List UInt8 := dkwX0_dial_0 ++ dktX0_dial_1
theorem dksX0_dial_0 : cX0_dial.data.toList.drop 0 = dktX0_dial_0 := by decide +kernel
theorem dksX0_dial_1 : cX0_dial.data.toList.drop 24 = dktX0_dial_1 := dk_seg dksX0_dial_0 24 rfl rfl
theorem dX0_dial_0 : decode cX0_dial 0 = .ok (.aload_n 3, 1) := dk_45 (dk_at dksX0_dial_0 0 rfl rfl)
theorem dX0_dial_1 : decode cX0_dial 1 = .ok (.aload_n 0, 1) := dk_42 (dk_at dksX0_dial_0 1 rfl rfl)
theorem dX0_dial_2 : decode cX0_dial 2 = .ok (.iload_n 1, 1) := dk_27 (dk_at dksX0_dial_0 2 rfl rfl)
theorem dX0_dial_3 : decode cX0_dial 3 = .ok (.iload_n 2, 1) := dk_28 (dk_at dksX0_dial_0 3 rfl rfl)
theorem dX0_dial_4 : decode cX0_dial 4 = .ok (.invokevirtual 26, 3) := dk_182 0 26 (dk_at dksX0_dial_0 4 rfl rfl)
theorem dX0_dial_7 : decode cX0_dial 7 = .ok (.i2l, 1) := dk_133 (dk_at dksX0_dial_0 7 rfl rfl)
theorem dX0_dial_8 : decode cX0_dial 8 = .ok (.putfield 13, 3) := dk_181 0 13 (dk_at dksX0_dial_0 8 rfl rfl)
theorem dX0_dial_11 : decode cX0_dial 11 = .ok (.goto 15, 3) := dk_167 0 15 (dk_at dksX0_dial_0 11 rfl rfl)
theorem dX0_dial_14 : decode cX0_dial 14 = .ok (.astore 4, 2) := dk_58 4 (dk_at dksX0_dial_0 14 rfl rfl)
theorem dX0_dial_16 : decode cX0_dial 16 = .ok (.iconst 1, 1) := dk_4 (dk_at dksX0_dial_0 16 rfl rfl)
theorem dX0_dial_17 : decode cX0_dial 17 = .ok (.ireturn, 1) := dk_172 (dk_at dksX0_dial_0 17 rfl rfl)
theorem dX0_dial_18 : decode cX0_dial 18 = .ok (.astore 4, 2) := dk_58 4 (dk_at dksX0_dial_0 18 rfl rfl)
theorem dX0_dial_20 : decode cX0_dial 20 = .ok (.iconst 2, 1) := dk_5 (dk_at dksX0_dial_0 20 rfl rfl)
theorem dX0_dial_21 : decode cX0_dial 21 = .ok (.ireturn, 1) := dk_172 (dk_at dksX0_dial_0 21 rfl rfl)
theorem dX0_dial_22 : decode cX0_dial 22 = .ok (.astore 4, 2) := dk_58 4 (dk_at dksX0_dial_0 22 rfl rfl)
theorem dX0_dial_24 : decode cX0_dial 24 = .ok (.iconst 3, 1) := dk_6 (dk_at dksX0_dial_1 0 rfl rfl)
theorem dX0_dial_25 : decode cX0_dial 25 = .ok (.ireturn, 1) := dk_172 (dk_at dksX0_dial_1 1 rfl rfl)
theorem dX0_dial_26 : decode cX0_dial 26 = .ok (.iconst 0, 1) := dk_3 (dk_at dksX0_dial_1 2 rfl rfl)
theorem dX0_dial_27 : decode cX0_dial 27 = .ok (.ireturn, 1) := dk_172 (dk_at dksX0_dial_1 3 rfl rfl)
abbrev cX0_element : ByteArray := method_5_code
def yX0_element : MethodName := ⟨RX0, "element", "(LVersorhall;ILVersorhallLaw$Out;)I"⟩
def dkwX0_element_0 : List UInt8 := [44, 42, 27, 182, 0, 32, 133, 181, 0, 13, 167, 0, 9, 78, 4, 172, 78, 5, 172, 3, 172]
abbrev dktX0_element_0 : List UInt8 := dkwX0_element_0 ++ []
theorem dksX0_element_0 : cX0_element.data.toList.drop 0 = dktX0_element_0 := by decide +kernel
theorem dX0_element_0 : decode cX0_element 0 = .ok (.aload_n 2, 1) := dk_44 (dk_at dksX0_element_0 0 rfl rfl)
theorem dX0_element_1 : decode cX0_element 1 = .ok (.aload_n 0, 1) := dk_42 (dk_at dksX0_element_0 1 rfl rfl)
theorem dX0_element_2 : decode cX0_element 2 = .ok (.iload_n 1, 1) := dk_27 (dk_at dksX0_element_0 2 rfl rfl)
theorem dX0_element_3 : decode cX0_element 3 = .ok (.invokevirtual 32, 3) := dk_182 0 32 (dk_at dksX0_element_0 3 rfl rfl)
theorem dX0_element_6 : decode cX0_element 6 = .ok (.i2l, 1) := dk_133 (dk_at dksX0_element_0 6 rfl rfl)
theorem dX0_element_7 : decode cX0_element 7 = .ok (.putfield 13, 3) := dk_181 0 13 (dk_at dksX0_element_0 7 rfl rfl)
theorem dX0_element_10 : decode cX0_element 10 = .ok (.goto 9, 3) := dk_167 0 9 (dk_at dksX0_element_0 10 rfl rfl)
theorem dX0_element_13 : decode cX0_element 13 = .ok (.astore_n 3, 1) := dk_78 (dk_at dksX0_element_0 13 rfl rfl)
theorem dX0_element_14 : decode cX0_element 14 = .ok (.iconst 1, 1) := dk_4 (dk_at dksX0_element_0 14 rfl rfl)
theorem dX0_element_15 : decode cX0_element 15 = .ok (.ireturn, 1) := dk_172 (dk_at dksX0_element_0 15 rfl rfl)
theorem dX0_element_16 : decode cX0_element 16 = .ok (.astore_n 3, 1) := dk_78 (dk_at dksX0_element_0 16 rfl rfl)
theorem dX0_element_17 : decode cX0_element 17 = .ok (.iconst 2, 1) := dk_5 (dk_at dksX0_element_0 17 rfl rfl)
theorem dX0_element_18 : decode cX0_element 18 = .ok (.ireturn, 1) := dk_172 (dk_at dksX0_element_0 18 rfl rfl)
theorem dX0_element_19 : decode cX0_element 19 = .ok (.iconst 0, 1) := dk_3 (dk_at dksX0_element_0 19 rfl rfl)
theorem dX0_element_20 : decode cX0_element 20 = .ok (.ireturn, 1) := dk_172 (dk_at dksX0_element_0 20 rfl rfl)
abbrev cX0_set : ByteArray := method_6_code
def yX0_set : MethodName := ⟨RX0, "set", "(LVersorhall;IIILVersorhallLaw$Out;)I"⟩
def dkwX0_set_1 : List UInt8 := [3, 172]
abbrev dktX0_set_1 : List UInt8 := dkwX0_set_1 ++ []
def dkwX0_set_0 : List UInt8 := [25, 4, 42, 27, 28, 29, 182, 0, 35, 133, 181, 0, 13, 167, 0, 11, 58, 5, 4, 172, 58, 5, 5, 172]
abbrev dktX0_set_0 : List UInt8 := dkwX0_set_0 ++ dktX0_set_1
theorem dksX0_set_0 : cX0_set.data.toList.drop 0 = dktX0_set_0 := by decide +kernel
theorem dksX0_set_1 : cX0_set.data.toList.drop 24 = dktX0_set_1 := dk_seg dksX0_set_0 24 rfl rfl
theorem dX0_set_0 : decode cX0_set 0 = .ok (.aload 4, 2) := dk_25 4 (dk_at dksX0_set_0 0 rfl rfl)
theorem dX0_set_2 : decode cX0_set 2 = .ok (.aload_n 0, 1) := dk_42 (dk_at dksX0_set_0 2 rfl rfl)
theorem dX0_set_3 : decode cX0_set 3 = .ok (.iload_n 1, 1) := dk_27 (dk_at dksX0_set_0 3 rfl rfl)
theorem dX0_set_4 : decode cX0_set 4 = .ok (.iload_n 2, 1) := dk_28 (dk_at dksX0_set_0 4 rfl rfl)
theorem dX0_set_5 : decode cX0_set 5 = .ok (.iload_n 3, 1) := dk_29 (dk_at dksX0_set_0 5 rfl rfl)
theorem dX0_set_6 : decode cX0_set 6 = .ok (.invokevirtual 35, 3) := dk_182 0 35 (dk_at dksX0_set_0 6 rfl rfl)
theorem dX0_set_9 : decode cX0_set 9 = .ok (.i2l, 1) := dk_133 (dk_at dksX0_set_0 9 rfl rfl)
theorem dX0_set_10 : decode cX0_set 10 = .ok (.putfield 13, 3) := dk_181 0 13 (dk_at dksX0_set_0 10 rfl rfl)
theorem dX0_set_13 : decode cX0_set 13 = .ok (.goto 11, 3) := dk_167 0 11 (dk_at dksX0_set_0 13 rfl rfl)
theorem dX0_set_16 : decode cX0_set 16 = .ok (.astore 5, 2) := dk_58 5 (dk_at dksX0_set_0 16 rfl rfl)
theorem dX0_set_18 : decode cX0_set 18 = .ok (.iconst 1, 1) := dk_4 (dk_at dksX0_set_0 18 rfl rfl)
theorem dX0_set_19 : decode cX0_set 19 = .ok (.ireturn, 1) := dk_172 (dk_at dksX0_set_0 19 rfl rfl)
theorem dX0_set_20 : decode cX0_set 20 = .ok (.astore 5, 2) := dk_58 5 (dk_at dksX0_set_0 20 rfl rfl)
theorem dX0_set_22 : decode cX0_set 22 = .ok (.iconst 2, 1) := dk_5 (dk_at dksX0_set_0 22 rfl rfl)
theorem dX0_set_23 : decode cX0_set 23 = .ok (.ireturn, 1) := dk_172 (dk_at dksX0_set_0 23 rfl rfl)
theorem dX0_set_24 : decode cX0_set 24 = .ok (.iconst 0, 1) := dk_3 (dk_at dksX0_set_1 0 rfl rfl)
theorem dX0_set_25 : decode cX0_set 25 = .ok (.ireturn, 1) := dk_172 (dk_at dksX0_set_1 1 rfl rfl)
abbrev cX0_sum : ByteArray := method_7_code
def yX0_sum : MethodName := ⟨RX0, "sum", "(LVersorhall;IIILVersorhallLaw$Out;)I"⟩
def dkwX0_sum_1 : List UInt8 := [3, 172]
abbrev dktX0_sum_1 : List UInt8 := dkwX0_sum_1 ++ []
def dkwX0_sum_0 : List UInt8 := [25, 4, 42, 27, 28, 29, 182, 0, 39, 133, 181, 0, 13, 167, 0, 11, 58, 5, 4, 172, 58, 5, 5, 172]
abbrev dktX0_sum_0 : List UInt8 := dkwX0_sum_0 ++ dktX0_sum_1
theorem dksX0_sum_0 : cX0_sum.data.toList.drop 0 = dktX0_sum_0 := by decide +kernel
theorem dksX0_sum_1 : cX0_sum.data.toList.drop 24 = dktX0_sum_1 := dk_seg dksX0_sum_0 24 rfl rfl
theorem dX0_sum_0 : decode cX0_sum 0 = .ok (.aload 4, 2) := dk_25 4 (dk_at dksX0_sum_0 0 rfl rfl)
theorem dX0_sum_2 : decode cX0_sum 2 = .ok (.aload_n 0, 1) := dk_42 (dk_at dksX0_sum_0 2 rfl rfl)
theorem dX0_sum_3 : decode cX0_sum 3 = .ok (.iload_n 1, 1) := dk_27 (dk_at dksX0_sum_0 3 rfl rfl)
theorem dX0_sum_4 : decode cX0_sum 4 = .ok (.iload_n 2, 1) := dk_28 (dk_at dksX0_sum_0 4 rfl rfl)
theorem dX0_sum_5 : decode cX0_sum 5 = .ok (.iload_n 3, 1) := dk_29 (dk_at dksX0_sum_0 5 rfl rfl)
theorem dX0_sum_6 : decode cX0_sum 6 = .ok (.invokevirtual 39, 3) := dk_182 0 39 (dk_at dksX0_sum_0 6 rfl rfl)
theorem dX0_sum_9 : decode cX0_sum 9 = .ok (.i2l, 1) := dk_133 (dk_at dksX0_sum_0 9 rfl rfl)
theorem dX0_sum_10 : decode cX0_sum 10 = .ok (.putfield 13, 3) := dk_181 0 13 (dk_at dksX0_sum_0 10 rfl rfl)
theorem dX0_sum_13 : decode cX0_sum 13 = .ok (.goto 11, 3) := dk_167 0 11 (dk_at dksX0_sum_0 13 rfl rfl)
theorem dX0_sum_16 : decode cX0_sum 16 = .ok (.astore 5, 2) := dk_58 5 (dk_at dksX0_sum_0 16 rfl rfl)
theorem dX0_sum_18 : decode cX0_sum 18 = .ok (.iconst 1, 1) := dk_4 (dk_at dksX0_sum_0 18 rfl rfl)
theorem dX0_sum_19 : decode cX0_sum 19 = .ok (.ireturn, 1) := dk_172 (dk_at dksX0_sum_0 19 rfl rfl)
theorem dX0_sum_20 : decode cX0_sum 20 = .ok (.astore 5, 2) := dk_58 5 (dk_at dksX0_sum_0 20 rfl rfl)
theorem dX0_sum_22 : decode cX0_sum 22 = .ok (.iconst 2, 1) := dk_5 (dk_at dksX0_sum_0 22 rfl rfl)
theorem dX0_sum_23 : decode cX0_sum 23 = .ok (.ireturn, 1) := dk_172 (dk_at dksX0_sum_0 23 rfl rfl)
theorem dX0_sum_24 : decode cX0_sum 24 = .ok (.iconst 0, 1) := dk_3 (dk_at dksX0_sum_1 0 rfl rfl)
theorem dX0_sum_25 : decode cX0_sum 25 = .ok (.ireturn, 1) := dk_172 (dk_at dksX0_sum_1 1 rfl rfl)
abbrev cX0_product : ByteArray := method_8_code
def yX0_product : MethodName := ⟨RX0, "product", "(LVersorhall;IIILVersorhallLaw$Out;)I"⟩
def dkwX0_product_1 : List UInt8 := [3, 172]
abbrev dktX0_product_1 : List UInt8 := dkwX0_product_1 ++ []
def dkwX0_product_0 : List UInt8 := [25, 4, 42, 27, 28, 29, 182, 0, 42, 133, 181, 0, 13, 167, 0, 11, 58, 5, 4, 172, 58, 5, 5, 172]
abbrev dktX0_product_0 : List UInt8 := dkwX0_product_0 ++ dktX0_product_1
theorem dksX0_product_0 : cX0_product.data.toList.drop 0 = dktX0_product_0 := by decide +kernel
theorem dksX0_product_1 : cX0_product.data.toList.drop 24 = dktX0_product_1 := dk_seg dksX0_product_0 24 rfl rfl
theorem dX0_product_0 : decode cX0_product 0 = .ok (.aload 4, 2) := dk_25 4 (dk_at dksX0_product_0 0 rfl rfl)
theorem dX0_product_2 : decode cX0_product 2 = .ok (.aload_n 0, 1) := dk_42 (dk_at dksX0_product_0 2 rfl rfl)
theorem dX0_product_3 : decode cX0_product 3 = .ok (.iload_n 1, 1) := dk_27 (dk_at dksX0_product_0 3 rfl rfl)
theorem dX0_product_4 : decode cX0_product 4 = .ok (.iload_n 2, 1) := dk_28 (dk_at dksX0_product_0 4 rfl rfl)
theorem dX0_product_5 : decode cX0_product 5 = .ok (.iload_n 3, 1) := dk_29 (dk_at dksX0_product_0 5 rfl rfl)
theorem dX0_product_6 : decode cX0_product 6 = .ok (.invokevirtual 42, 3) := dk_182 0 42 (dk_at dksX0_product_0 6 rfl rfl)
theorem dX0_product_9 : decode cX0_product 9 = .ok (.i2l, 1) := dk_133 (dk_at dksX0_product_0 9 rfl rfl)
theorem dX0_product_10 : decode cX0_product 10 = .ok (.putfield 13, 3) := dk_181 0 13 (dk_at dksX0_product_0 10 rfl rfl)
theorem dX0_product_13 : decode cX0_product 13 = .ok (.goto 11, 3) := dk_167 0 11 (dk_at dksX0_product_0 13 rfl rfl)
theorem dX0_product_16 : decode cX0_product 16 = .ok (.astore 5, 2) := dk_58 5 (dk_at dksX0_product_0 16 rfl rfl)
theorem dX0_product_18 : decode cX0_product 18 = .ok (.iconst 1, 1) := dk_4 (dk_at dksX0_product_0 18 rfl rfl)
theorem dX0_product_19 : decode cX0_product 19 = .ok (.ireturn, 1) := dk_172 (dk_at dksX0_product_0 19 rfl rfl)
theorem dX0_product_20 : decode cX0_product 20 = .ok (.astore 5, 2) := dk_58 5 (dk_at dksX0_product_0 20 rfl rfl)
theorem dX0_product_22 : decode cX0_product 22 = .ok (.iconst 2, 1) := dk_5 (dk_at dksX0_product_0 22 rfl rfl)
theorem dX0_product_23 : decode cX0_product 23 = .ok (.ireturn, 1) := dk_172 (dk_at dksX0_product_0 23 rfl rfl)
theorem dX0_product_24 : decode cX0_product 24 = .ok (.iconst 0, 1) := dk_3 (dk_at dksX0_product_1 0 rfl rfl)
theorem dX0_product_25 : decode cX0_product 25 = .ok (.ireturn, 1) := dk_172 (dk_at dksX0_product_1 1 rfl rfl)
abbrev cX0_scale : ByteArray := method_9_code
def yX0_scale : MethodName := ⟨RX0, "scale", "(LVersorhall;IIILVersorhallLaw$Out;)I"⟩
def dkwX0_scale_1 : List UInt8 := [3, 172]
abbrev dktX0_scale_1 : List UInt8 := dkwX0_scale_1 ++ []
def dkwX0_scale_0 : List UInt8 := [25, 4, 42, 27, 28, 29, 182, 0, 45, 133, 181, 0, 13, 167, 0, 11, 58, 5, 4, 172, 58, 5, 5, 172]
abbrev dktX0_scale_0 : List UInt8 := dkwX0_scale_0 ++ dktX0_scale_1
theorem dksX0_scale_0 : cX0_scale.data.toList.drop 0 = dktX0_scale_0 := by decide +kernel
theorem dksX0_scale_1 : cX0_scale.data.toList.drop 24 = dktX0_scale_1 := dk_seg dksX0_scale_0 24 rfl rfl
theorem dX0_scale_0 : decode cX0_scale 0 = .ok (.aload 4, 2) := dk_25 4 (dk_at dksX0_scale_0 0 rfl rfl)
theorem dX0_scale_2 : decode cX0_scale 2 = .ok (.aload_n 0, 1) := dk_42 (dk_at dksX0_scale_0 2 rfl rfl)
theorem dX0_scale_3 : decode cX0_scale 3 = .ok (.iload_n 1, 1) := dk_27 (dk_at dksX0_scale_0 3 rfl rfl)
theorem dX0_scale_4 : decode cX0_scale 4 = .ok (.iload_n 2, 1) := dk_28 (dk_at dksX0_scale_0 4 rfl rfl)
theorem dX0_scale_5 : decode cX0_scale 5 = .ok (.iload_n 3, 1) := dk_29 (dk_at dksX0_scale_0 5 rfl rfl)
theorem dX0_scale_6 : decode cX0_scale 6 = .ok (.invokevirtual 45, 3) := dk_182 0 45 (dk_at dksX0_scale_0 6 rfl rfl)
theorem dX0_scale_9 : decode cX0_scale 9 = .ok (.i2l, 1) := dk_133 (dk_at dksX0_scale_0 9 rfl rfl)
theorem dX0_scale_10 : decode cX0_scale 10 = .ok (.putfield 13, 3) := dk_181 0 13 (dk_at dksX0_scale_0 10 rfl rfl)
theorem dX0_scale_13 : decode cX0_scale 13 = .ok (.goto 11, 3) := dk_167 0 11 (dk_at dksX0_scale_0 13 rfl rfl)
theorem dX0_scale_16 : decode cX0_scale 16 = .ok (.astore 5, 2) := dk_58 5 (dk_at dksX0_scale_0 16 rfl rfl)
theorem dX0_scale_18 : decode cX0_scale 18 = .ok (.iconst 1, 1) := dk_4 (dk_at dksX0_scale_0 18 rfl rfl)
theorem dX0_scale_19 : decode cX0_scale 19 = .ok (.ireturn, 1) := dk_172 (dk_at dksX0_scale_0 19 rfl rfl)
theorem dX0_scale_20 : decode cX0_scale 20 = .ok (.astore 5, 2) := dk_58 5 (dk_at dksX0_scale_0 20 rfl rfl)
theorem dX0_scale_22 : decode cX0_scale 22 = .ok (.iconst 2, 1) := dk_5 (dk_at dksX0_scale_0 22 rfl rfl)
theorem dX0_scale_23 : decode cX0_scale 23 = .ok (.ireturn, 1) := dk_172 (dk_at dksX0_scale_0 23 rfl rfl)
theorem dX0_scale_24 : decode cX0_scale 24 = .ok (.iconst 0, 1) := dk_3 (dk_at dksX0_scale_1 0 rfl rfl)
theorem dX0_scale_25 : decode cX0_scale 25 = .ok (.ireturn, 1) := dk_172 (dk_at dksX0_scale_1 1 rfl rfl)
abbrev cX0_conjugate : ByteArray := method_10_code
def yX0_conjugate : MethodName := ⟨RX0, "conjugate", "(LVersorhall;IILVersorhallLaw$Out;)I"⟩
def dkwX0_conjugate_0 : List UInt8 := [45, 42, 27, 28, 182, 0, 48, 133, 181, 0, 13, 167, 0, 11, 58, 4, 4, 172, 58, 4, 5, 172, 3, 172]
abbrev dktX0_conjugate_0 : List UInt8 := dkwX0_conjugate_0 ++ []
theorem dksX0_conjugate_0 : cX0_conjugate.data.toList.drop 0 = dktX0_conjugate_0 := by decide +kernel
theorem dX0_conjugate_0 : decode cX0_conjugate 0 = .ok (.aload_n 3, 1) := dk_45 (dk_at dksX0_conjugate_0 0 rfl rfl)
theorem dX0_conjugate_1 : decode cX0_conjugate 1 = .ok (.aload_n 0, 1) := dk_42 (dk_at dksX0_conjugate_0 1 rfl rfl)
theorem dX0_conjugate_2 : decode cX0_conjugate 2 = .ok (.iload_n 1, 1) := dk_27 (dk_at dksX0_conjugate_0 2 rfl rfl)
theorem dX0_conjugate_3 : decode cX0_conjugate 3 = .ok (.iload_n 2, 1) := dk_28 (dk_at dksX0_conjugate_0 3 rfl rfl)
theorem dX0_conjugate_4 : decode cX0_conjugate 4 = .ok (.invokevirtual 48, 3) := dk_182 0 48 (dk_at dksX0_conjugate_0 4 rfl rfl)
theorem dX0_conjugate_7 : decode cX0_conjugate 7 = .ok (.i2l, 1) := dk_133 (dk_at dksX0_conjugate_0 7 rfl rfl)
theorem dX0_conjugate_8 : decode cX0_conjugate 8 = .ok (.putfield 13, 3) := dk_181 0 13 (dk_at dksX0_conjugate_0 8 rfl rfl)
theorem dX0_conjugate_11 : decode cX0_conjugate 11 = .ok (.goto 11, 3) := dk_167 0 11 (dk_at dksX0_conjugate_0 11 rfl rfl)
theorem dX0_conjugate_14 : decode cX0_conjugate 14 = .ok (.astore 4, 2) := dk_58 4 (dk_at dksX0_conjugate_0 14 rfl rfl)
theorem dX0_conjugate_16 : decode cX0_conjugate 16 = .ok (.iconst 1, 1) := dk_4 (dk_at dksX0_conjugate_0 16 rfl rfl)
theorem dX0_conjugate_17 : decode cX0_conjugate 17 = .ok (.ireturn, 1) := dk_172 (dk_at dksX0_conjugate_0 17 rfl rfl)
theorem dX0_conjugate_18 : decode cX0_conjugate 18 = .ok (.astore 4, 2) := dk_58 4 (dk_at dksX0_conjugate_0 18 rfl rfl)
theorem dX0_conjugate_20 : decode cX0_conjugate 20 = .ok (.iconst 2, 1) := dk_5 (dk_at dksX0_conjugate_0 20 rfl rfl)
theorem dX0_conjugate_21 : decode cX0_conjugate 21 = .ok (.ireturn, 1) := dk_172 (dk_at dksX0_conjugate_0 21 rfl rfl)
theorem dX0_conjugate_22 : decode cX0_conjugate 22 = .ok (.iconst 0, 1) := dk_3 (dk_at dksX0_conjugate_0 22 rfl rfl)
theorem dX0_conjugate_23 : decode cX0_conjugate 23 = .ok (.ireturn, 1) := dk_172 (dk_at dksX0_conjugate_0 23 rfl rfl)
abbrev cX0_power : ByteArray := method_11_code
def yX0_power : MethodName := ⟨RX0, "power", "(LVersorhall;IIILVersorhallLaw$Out;)I"⟩
def dkwX0_power_1 : List UInt8 := [3, 172]
abbrev dktX0_power_1 : List UInt8 := dkwX0_power_1 ++ []
def dkwX0_power_0 : List UInt8 := [25, 4, 42, 27, 28, 29, 182, 0, 51, 133, 181, 0, 13, 167, 0, 11, 58, 5, 4, 172, 58, 5, 5, 172]
abbrev dktX0_power_0 : List UInt8 := dkwX0_power_0 ++ dktX0_power_1
theorem dksX0_power_0 : cX0_power.data.toList.drop 0 = dktX0_power_0 := by decide +kernel
theorem dksX0_power_1 : cX0_power.data.toList.drop 24 = dktX0_power_1 := dk_seg dksX0_power_0 24 rfl rfl
theorem dX0_power_0 : decode cX0_power 0 = .ok (.aload 4, 2) := dk_25 4 (dk_at dksX0_power_0 0 rfl rfl)
theorem dX0_power_2 : decode cX0_power 2 = .ok (.aload_n 0, 1) := dk_42 (dk_at dksX0_power_0 2 rfl rfl)
theorem dX0_power_3 : decode cX0_power 3 = .ok (.iload_n 1, 1) := dk_27 (dk_at dksX0_power_0 3 rfl rfl)
theorem dX0_power_4 : decode cX0_power 4 = .ok (.iload_n 2, 1) := dk_28 (dk_at dksX0_power_0 4 rfl rfl)
theorem dX0_power_5 : decode cX0_power 5 = .ok (.iload_n 3, 1) := dk_29 (dk_at dksX0_power_0 5 rfl rfl)
theorem dX0_power_6 : decode cX0_power 6 = .ok (.invokevirtual 51, 3) := dk_182 0 51 (dk_at dksX0_power_0 6 rfl rfl)
theorem dX0_power_9 : decode cX0_power 9 = .ok (.i2l, 1) := dk_133 (dk_at dksX0_power_0 9 rfl rfl)
theorem dX0_power_10 : decode cX0_power 10 = .ok (.putfield 13, 3) := dk_181 0 13 (dk_at dksX0_power_0 10 rfl rfl)
theorem dX0_power_13 : decode cX0_power 13 = .ok (.goto 11, 3) := dk_167 0 11 (dk_at dksX0_power_0 13 rfl rfl)
theorem dX0_power_16 : decode cX0_power 16 = .ok (.astore 5, 2) := dk_58 5 (dk_at dksX0_power_0 16 rfl rfl)
theorem dX0_power_18 : decode cX0_power 18 = .ok (.iconst 1, 1) := dk_4 (dk_at dksX0_power_0 18 rfl rfl)
theorem dX0_power_19 : decode cX0_power 19 = .ok (.ireturn, 1) := dk_172 (dk_at dksX0_power_0 19 rfl rfl)
theorem dX0_power_20 : decode cX0_power 20 = .ok (.astore 5, 2) := dk_58 5 (dk_at dksX0_power_0 20 rfl rfl)
theorem dX0_power_22 : decode cX0_power 22 = .ok (.iconst 2, 1) := dk_5 (dk_at dksX0_power_0 22 rfl rfl)
theorem dX0_power_23 : decode cX0_power 23 = .ok (.ireturn, 1) := dk_172 (dk_at dksX0_power_0 23 rfl rfl)
theorem dX0_power_24 : decode cX0_power 24 = .ok (.iconst 0, 1) := dk_3 (dk_at dksX0_power_1 0 rfl rfl)
theorem dX0_power_25 : decode cX0_power 25 = .ok (.ireturn, 1) := dk_172 (dk_at dksX0_power_1 1 rfl rfl)
abbrev cX0_invert : ByteArray := method_12_code
def yX0_invert : MethodName := ⟨RX0, "invert", "(LVersorhall;IILVersorhallLaw$Out;)I"⟩
def dkwX0_invert_1 : List UInt8 := [6, 172, 3, 172]
abbrev dktX0_invert_1 : List UInt8 := dkwX0_invert_1 ++ []
def dkwX0_invert_0 : List UInt8 := [45, 42, 27, 28, 182, 0, 54, 133, 181, 0, 13, 167, 0, 15, 58, 4, 4, 172, 58, 4, 5, 172, 58, 4]
abbrev dktX0_invert_0 : List UInt8 := dkwX0_invert_0 ++ dktX0_invert_1
theorem dksX0_invert_0 : cX0_invert.data.toList.drop 0 = dktX0_invert_0 := by decide +kernel
theorem dksX0_invert_1 : cX0_invert.data.toList.drop 24 = dktX0_invert_1 := dk_seg dksX0_invert_0 24 rfl rfl
theorem dX0_invert_0 : decode cX0_invert 0 = .ok (.aload_n 3, 1) := dk_45 (dk_at dksX0_invert_0 0 rfl rfl)
theorem dX0_invert_1 : decode cX0_invert 1 = .ok (.aload_n 0, 1) := dk_42 (dk_at dksX0_invert_0 1 rfl rfl)
theorem dX0_invert_2 : decode cX0_invert 2 = .ok (.iload_n 1, 1) := dk_27 (dk_at dksX0_invert_0 2 rfl rfl)
theorem dX0_invert_3 : decode cX0_invert 3 = .ok (.iload_n 2, 1) := dk_28 (dk_at dksX0_invert_0 3 rfl rfl)
theorem dX0_invert_4 : decode cX0_invert 4 = .ok (.invokevirtual 54, 3) := dk_182 0 54 (dk_at dksX0_invert_0 4 rfl rfl)
theorem dX0_invert_7 : decode cX0_invert 7 = .ok (.i2l, 1) := dk_133 (dk_at dksX0_invert_0 7 rfl rfl)
theorem dX0_invert_8 : decode cX0_invert 8 = .ok (.putfield 13, 3) := dk_181 0 13 (dk_at dksX0_invert_0 8 rfl rfl)
theorem dX0_invert_11 : decode cX0_invert 11 = .ok (.goto 15, 3) := dk_167 0 15 (dk_at dksX0_invert_0 11 rfl rfl)
theorem dX0_invert_14 : decode cX0_invert 14 = .ok (.astore 4, 2) := dk_58 4 (dk_at dksX0_invert_0 14 rfl rfl)
theorem dX0_invert_16 : decode cX0_invert 16 = .ok (.iconst 1, 1) := dk_4 (dk_at dksX0_invert_0 16 rfl rfl)
theorem dX0_invert_17 : decode cX0_invert 17 = .ok (.ireturn, 1) := dk_172 (dk_at dksX0_invert_0 17 rfl rfl)
theorem dX0_invert_18 : decode cX0_invert 18 = .ok (.astore 4, 2) := dk_58 4 (dk_at dksX0_invert_0 18 rfl rfl)
theorem dX0_invert_20 : decode cX0_invert 20 = .ok (.iconst 2, 1) := dk_5 (dk_at dksX0_invert_0 20 rfl rfl)
theorem dX0_invert_21 : decode cX0_invert 21 = .ok (.ireturn, 1) := dk_172 (dk_at dksX0_invert_0 21 rfl rfl)
theorem dX0_invert_22 : decode cX0_invert 22 = .ok (.astore 4, 2) := dk_58 4 (dk_at dksX0_invert_0 22 rfl rfl)
theorem dX0_invert_24 : decode cX0_invert 24 = .ok (.iconst 3, 1) := dk_6 (dk_at dksX0_invert_1 0 rfl rfl)
theorem dX0_invert_25 : decode cX0_invert 25 = .ok (.ireturn, 1) := dk_172 (dk_at dksX0_invert_1 1 rfl rfl)
theorem dX0_invert_26 : decode cX0_invert 26 = .ok (.iconst 0, 1) := dk_3 (dk_at dksX0_invert_1 2 rfl rfl)
theorem dX0_invert_27 : decode cX0_invert 27 = .ok (.ireturn, 1) := dk_172 (dk_at dksX0_invert_1 3 rfl rfl)
abbrev cX0_series : ByteArray := method_13_code
def yX0_series : MethodName := ⟨RX0, "series", "(LVersorhall;IILVersorhallLaw$Out;)I"⟩
def dkwX0_series_1 : List UInt8 := [6, 172, 3, 172]
abbrev dktX0_series_1 : List UInt8 := dkwX0_series_1 ++ []
def dkwX0_series_0 : List UInt8 := [45, 42, 27, 28, 182, 0, 57, 133, 181, 0, 13, 167, 0, 15, 58, 4, 4, 172, 58, 4, 5, 172, 58, 4]
abbrev dktX0_series_0 : List UInt8 := dkwX0_series_0 ++ dktX0_series_1
theorem dksX0_series_0 : cX0_series.data.toList.drop 0 = dktX0_series_0 := by decide +kernel
theorem dksX0_series_1 : cX0_series.data.toList.drop 24 = dktX0_series_1 := dk_seg dksX0_series_0 24 rfl rfl
theorem dX0_series_0 : decode cX0_series 0 = .ok (.aload_n 3, 1) := dk_45 (dk_at dksX0_series_0 0 rfl rfl)
theorem dX0_series_1 : decode cX0_series 1 = .ok (.aload_n 0, 1) := dk_42 (dk_at dksX0_series_0 1 rfl rfl)
theorem dX0_series_2 : decode cX0_series 2 = .ok (.iload_n 1, 1) := dk_27 (dk_at dksX0_series_0 2 rfl rfl)
theorem dX0_series_3 : decode cX0_series 3 = .ok (.iload_n 2, 1) := dk_28 (dk_at dksX0_series_0 3 rfl rfl)
theorem dX0_series_4 : decode cX0_series 4 = .ok (.invokevirtual 57, 3) := dk_182 0 57 (dk_at dksX0_series_0 4 rfl rfl)
theorem dX0_series_7 : decode cX0_series 7 = .ok (.i2l, 1) := dk_133 (dk_at dksX0_series_0 7 rfl rfl)
theorem dX0_series_8 : decode cX0_series 8 = .ok (.putfield 13, 3) := dk_181 0 13 (dk_at dksX0_series_0 8 rfl rfl)
theorem dX0_series_11 : decode cX0_series 11 = .ok (.goto 15, 3) := dk_167 0 15 (dk_at dksX0_series_0 11 rfl rfl)
theorem dX0_series_14 : decode cX0_series 14 = .ok (.astore 4, 2) := dk_58 4 (dk_at dksX0_series_0 14 rfl rfl)
theorem dX0_series_16 : decode cX0_series 16 = .ok (.iconst 1, 1) := dk_4 (dk_at dksX0_series_0 16 rfl rfl)
theorem dX0_series_17 : decode cX0_series 17 = .ok (.ireturn, 1) := dk_172 (dk_at dksX0_series_0 17 rfl rfl)
theorem dX0_series_18 : decode cX0_series 18 = .ok (.astore 4, 2) := dk_58 4 (dk_at dksX0_series_0 18 rfl rfl)
theorem dX0_series_20 : decode cX0_series 20 = .ok (.iconst 2, 1) := dk_5 (dk_at dksX0_series_0 20 rfl rfl)
theorem dX0_series_21 : decode cX0_series 21 = .ok (.ireturn, 1) := dk_172 (dk_at dksX0_series_0 21 rfl rfl)
theorem dX0_series_22 : decode cX0_series 22 = .ok (.astore 4, 2) := dk_58 4 (dk_at dksX0_series_0 22 rfl rfl)
theorem dX0_series_24 : decode cX0_series 24 = .ok (.iconst 3, 1) := dk_6 (dk_at dksX0_series_1 0 rfl rfl)
theorem dX0_series_25 : decode cX0_series 25 = .ok (.ireturn, 1) := dk_172 (dk_at dksX0_series_1 1 rfl rfl)
theorem dX0_series_26 : decode cX0_series 26 = .ok (.iconst 0, 1) := dk_3 (dk_at dksX0_series_1 2 rfl rfl)
theorem dX0_series_27 : decode cX0_series 27 = .ok (.ireturn, 1) := dk_172 (dk_at dksX0_series_1 3 rfl rfl)
abbrev cX0_killer : ByteArray := method_14_code
def yX0_killer : MethodName := ⟨RX0, "killer", "(LVersorhall;IILVersorhallLaw$Out;)I"⟩
def dkwX0_killer_1 : List UInt8 := [6, 172, 3, 172]
abbrev dktX0_killer_1 : List UInt8 := dkwX0_killer_1 ++ []
def dkwX0_killer_0 : List UInt8 := [45, 42, 27, 28, 182, 0, 60, 133, 181, 0, 13, 167, 0, 15, 58, 4, 4, 172, 58, 4, 5, 172, 58, 4]
abbrev dktX0_killer_0 : List UInt8 := dkwX0_killer_0 ++ dktX0_killer_1
theorem dksX0_killer_0 : cX0_killer.data.toList.drop 0 = dktX0_killer_0 := by decide +kernel
theorem dksX0_killer_1 : cX0_killer.data.toList.drop 24 = dktX0_killer_1 := dk_seg dksX0_killer_0 24 rfl rfl
theorem dX0_killer_0 : decode cX0_killer 0 = .ok (.aload_n 3, 1) := dk_45 (dk_at dksX0_killer_0 0 rfl rfl)
theorem dX0_killer_1 : decode cX0_killer 1 = .ok (.aload_n 0, 1) := dk_42 (dk_at dksX0_killer_0 1 rfl rfl)
theorem dX0_killer_2 : decode cX0_killer 2 = .ok (.iload_n 1, 1) := dk_27 (dk_at dksX0_killer_0 2 rfl rfl)
theorem dX0_killer_3 : decode cX0_killer 3 = .ok (.iload_n 2, 1) := dk_28 (dk_at dksX0_killer_0 3 rfl rfl)
theorem dX0_killer_4 : decode cX0_killer 4 = .ok (.invokevirtual 60, 3) := dk_182 0 60 (dk_at dksX0_killer_0 4 rfl rfl)
theorem dX0_killer_7 : decode cX0_killer 7 = .ok (.i2l, 1) := dk_133 (dk_at dksX0_killer_0 7 rfl rfl)
theorem dX0_killer_8 : decode cX0_killer 8 = .ok (.putfield 13, 3) := dk_181 0 13 (dk_at dksX0_killer_0 8 rfl rfl)
theorem dX0_killer_11 : decode cX0_killer 11 = .ok (.goto 15, 3) := dk_167 0 15 (dk_at dksX0_killer_0 11 rfl rfl)
theorem dX0_killer_14 : decode cX0_killer 14 = .ok (.astore 4, 2) := dk_58 4 (dk_at dksX0_killer_0 14 rfl rfl)
theorem dX0_killer_16 : decode cX0_killer 16 = .ok (.iconst 1, 1) := dk_4 (dk_at dksX0_killer_0 16 rfl rfl)
theorem dX0_killer_17 : decode cX0_killer 17 = .ok (.ireturn, 1) := dk_172 (dk_at dksX0_killer_0 17 rfl rfl)
theorem dX0_killer_18 : decode cX0_killer 18 = .ok (.astore 4, 2) := dk_58 4 (dk_at dksX0_killer_0 18 rfl rfl)
theorem dX0_killer_20 : decode cX0_killer 20 = .ok (.iconst 2, 1) := dk_5 (dk_at dksX0_killer_0 20 rfl rfl)
theorem dX0_killer_21 : decode cX0_killer 21 = .ok (.ireturn, 1) := dk_172 (dk_at dksX0_killer_0 21 rfl rfl)
theorem dX0_killer_22 : decode cX0_killer 22 = .ok (.astore 4, 2) := dk_58 4 (dk_at dksX0_killer_0 22 rfl rfl)
theorem dX0_killer_24 : decode cX0_killer 24 = .ok (.iconst 3, 1) := dk_6 (dk_at dksX0_killer_1 0 rfl rfl)
theorem dX0_killer_25 : decode cX0_killer 25 = .ok (.ireturn, 1) := dk_172 (dk_at dksX0_killer_1 1 rfl rfl)
theorem dX0_killer_26 : decode cX0_killer 26 = .ok (.iconst 0, 1) := dk_3 (dk_at dksX0_killer_1 2 rfl rfl)
theorem dX0_killer_27 : decode cX0_killer 27 = .ok (.ireturn, 1) := dk_172 (dk_at dksX0_killer_1 3 rfl rfl)
abbrev cX0_hang : ByteArray := method_15_code
def yX0_hang : MethodName := ⟨RX0, "hang", "(LVersorhall;ILVersorhallLaw$Out;)I"⟩
def dkwX0_hang_0 : List UInt8 := [44, 42, 27, 182, 0, 63, 133, 181, 0, 13, 167, 0, 9, 78, 4, 172, 78, 5, 172, 3, 172]
abbrev dktX0_hang_0 : List UInt8 := dkwX0_hang_0 ++ []
theorem dksX0_hang_0 : cX0_hang.data.toList.drop 0 = dktX0_hang_0 := by decide +kernel
theorem dX0_hang_0 : decode cX0_hang 0 = .ok (.aload_n 2, 1) := dk_44 (dk_at dksX0_hang_0 0 rfl rfl)
theorem dX0_hang_1 : decode cX0_hang 1 = .ok (.aload_n 0, 1) := dk_42 (dk_at dksX0_hang_0 1 rfl rfl)
theorem dX0_hang_2 : decode cX0_hang 2 = .ok (.iload_n 1, 1) := dk_27 (dk_at dksX0_hang_0 2 rfl rfl)
theorem dX0_hang_3 : decode cX0_hang 3 = .ok (.invokevirtual 63, 3) := dk_182 0 63 (dk_at dksX0_hang_0 3 rfl rfl)
theorem dX0_hang_6 : decode cX0_hang 6 = .ok (.i2l, 1) := dk_133 (dk_at dksX0_hang_0 6 rfl rfl)
theorem dX0_hang_7 : decode cX0_hang 7 = .ok (.putfield 13, 3) := dk_181 0 13 (dk_at dksX0_hang_0 7 rfl rfl)
theorem dX0_hang_10 : decode cX0_hang 10 = .ok (.goto 9, 3) := dk_167 0 9 (dk_at dksX0_hang_0 10 rfl rfl)
theorem dX0_hang_13 : decode cX0_hang 13 = .ok (.astore_n 3, 1) := dk_78 (dk_at dksX0_hang_0 13 rfl rfl)
theorem dX0_hang_14 : decode cX0_hang 14 = .ok (.iconst 1, 1) := dk_4 (dk_at dksX0_hang_0 14 rfl rfl)
theorem dX0_hang_15 : decode cX0_hang 15 = .ok (.ireturn, 1) := dk_172 (dk_at dksX0_hang_0 15 rfl rfl)
theorem dX0_hang_16 : decode cX0_hang 16 = .ok (.astore_n 3, 1) := dk_78 (dk_at dksX0_hang_0 16 rfl rfl)
theorem dX0_hang_17 : decode cX0_hang 17 = .ok (.iconst 2, 1) := dk_5 (dk_at dksX0_hang_0 17 rfl rfl)
theorem dX0_hang_18 : decode cX0_hang 18 = .ok (.ireturn, 1) := dk_172 (dk_at dksX0_hang_0 18 rfl rfl)
theorem dX0_hang_19 : decode cX0_hang 19 = .ok (.iconst 0, 1) := dk_3 (dk_at dksX0_hang_0 19 rfl rfl)
theorem dX0_hang_20 : decode cX0_hang 20 = .ok (.ireturn, 1) := dk_172 (dk_at dksX0_hang_0 20 rfl rfl)
abbrev cX0_clear : ByteArray := method_16_code
def yX0_clear : MethodName := ⟨RX0, "clear", "(LVersorhall;ILVersorhallLaw$Out;)I"⟩
def dkwX0_clear_0 : List UInt8 := [44, 42, 27, 182, 0, 66, 133, 181, 0, 13, 167, 0, 6, 78, 4, 172, 3, 172]
abbrev dktX0_clear_0 : List UInt8 := dkwX0_clear_0 ++ []
theorem dksX0_clear_0 : cX0_clear.data.toList.drop 0 = dktX0_clear_0 := by decide +kernel
theorem dX0_clear_0 : decode cX0_clear 0 = .ok (.aload_n 2, 1) := dk_44 (dk_at dksX0_clear_0 0 rfl rfl)
theorem dX0_clear_1 : decode cX0_clear 1 = .ok (.aload_n 0, 1) := dk_42 (dk_at dksX0_clear_0 1 rfl rfl)
theorem dX0_clear_2 : decode cX0_clear 2 = .ok (.iload_n 1, 1) := dk_27 (dk_at dksX0_clear_0 2 rfl rfl)
theorem dX0_clear_3 : decode cX0_clear 3 = .ok (.invokevirtual 66, 3) := dk_182 0 66 (dk_at dksX0_clear_0 3 rfl rfl)
theorem dX0_clear_6 : decode cX0_clear 6 = .ok (.i2l, 1) := dk_133 (dk_at dksX0_clear_0 6 rfl rfl)
theorem dX0_clear_7 : decode cX0_clear 7 = .ok (.putfield 13, 3) := dk_181 0 13 (dk_at dksX0_clear_0 7 rfl rfl)
theorem dX0_clear_10 : decode cX0_clear 10 = .ok (.goto 6, 3) := dk_167 0 6 (dk_at dksX0_clear_0 10 rfl rfl)
theorem dX0_clear_13 : decode cX0_clear 13 = .ok (.astore_n 3, 1) := dk_78 (dk_at dksX0_clear_0 13 rfl rfl)
theorem dX0_clear_14 : decode cX0_clear 14 = .ok (.iconst 1, 1) := dk_4 (dk_at dksX0_clear_0 14 rfl rfl)
theorem dX0_clear_15 : decode cX0_clear 15 = .ok (.ireturn, 1) := dk_172 (dk_at dksX0_clear_0 15 rfl rfl)
theorem dX0_clear_16 : decode cX0_clear 16 = .ok (.iconst 0, 1) := dk_3 (dk_at dksX0_clear_0 16 rfl rfl)
theorem dX0_clear_17 : decode cX0_clear 17 = .ok (.ireturn, 1) := dk_172 (dk_at dksX0_clear_0 17 rfl rfl)
abbrev cX0_mirror : ByteArray := method_17_code
def yX0_mirror : MethodName := ⟨RX0, "mirror", "(LVersorhall;IIILVersorhallLaw$Out;)I"⟩
def dkwX0_mirror_1 : List UInt8 := [58, 5, 6, 172, 3, 172]
abbrev dktX0_mirror_1 : List UInt8 := dkwX0_mirror_1 ++ []
def dkwX0_mirror_0 : List UInt8 := [25, 4, 42, 27, 28, 29, 182, 0, 69, 133, 181, 0, 13, 167, 0, 15, 58, 5, 4, 172, 58, 5, 5, 172]
abbrev dktX0_mirror_0 : List UInt8 := dkwX0_mirror_0 ++ dktX0_mirror_1
theorem dksX0_mirror_0 : cX0_mirror.data.toList.drop 0 = dktX0_mirror_0 := by decide +kernel
theorem dksX0_mirror_1 : cX0_mirror.data.toList.drop 24 = dktX0_mirror_1 := dk_seg dksX0_mirror_0 24 rfl rfl
theorem dX0_mirror_0 : decode cX0_mirror 0 = .ok (.aload 4, 2) := dk_25 4 (dk_at dksX0_mirror_0 0 rfl rfl)
theorem dX0_mirror_2 : decode cX0_mirror 2 = .ok (.aload_n 0, 1) := dk_42 (dk_at dksX0_mirror_0 2 rfl rfl)
theorem dX0_mirror_3 : decode cX0_mirror 3 = .ok (.iload_n 1, 1) := dk_27 (dk_at dksX0_mirror_0 3 rfl rfl)
theorem dX0_mirror_4 : decode cX0_mirror 4 = .ok (.iload_n 2, 1) := dk_28 (dk_at dksX0_mirror_0 4 rfl rfl)
theorem dX0_mirror_5 : decode cX0_mirror 5 = .ok (.iload_n 3, 1) := dk_29 (dk_at dksX0_mirror_0 5 rfl rfl)
theorem dX0_mirror_6 : decode cX0_mirror 6 = .ok (.invokevirtual 69, 3) := dk_182 0 69 (dk_at dksX0_mirror_0 6 rfl rfl)
theorem dX0_mirror_9 : decode cX0_mirror 9 = .ok (.i2l, 1) := dk_133 (dk_at dksX0_mirror_0 9 rfl rfl)
theorem dX0_mirror_10 : decode cX0_mirror 10 = .ok (.putfield 13, 3) := dk_181 0 13 (dk_at dksX0_mirror_0 10 rfl rfl)
theorem dX0_mirror_13 : decode cX0_mirror 13 = .ok (.goto 15, 3) := dk_167 0 15 (dk_at dksX0_mirror_0 13 rfl rfl)
theorem dX0_mirror_16 : decode cX0_mirror 16 = .ok (.astore 5, 2) := dk_58 5 (dk_at dksX0_mirror_0 16 rfl rfl)
theorem dX0_mirror_18 : decode cX0_mirror 18 = .ok (.iconst 1, 1) := dk_4 (dk_at dksX0_mirror_0 18 rfl rfl)
theorem dX0_mirror_19 : decode cX0_mirror 19 = .ok (.ireturn, 1) := dk_172 (dk_at dksX0_mirror_0 19 rfl rfl)
theorem dX0_mirror_20 : decode cX0_mirror 20 = .ok (.astore 5, 2) := dk_58 5 (dk_at dksX0_mirror_0 20 rfl rfl)
theorem dX0_mirror_22 : decode cX0_mirror 22 = .ok (.iconst 2, 1) := dk_5 (dk_at dksX0_mirror_0 22 rfl rfl)
theorem dX0_mirror_23 : decode cX0_mirror 23 = .ok (.ireturn, 1) := dk_172 (dk_at dksX0_mirror_0 23 rfl rfl)
theorem dX0_mirror_24 : decode cX0_mirror 24 = .ok (.astore 5, 2) := dk_58 5 (dk_at dksX0_mirror_1 0 rfl rfl)
theorem dX0_mirror_26 : decode cX0_mirror 26 = .ok (.iconst 3, 1) := dk_6 (dk_at dksX0_mirror_1 2 rfl rfl)
theorem dX0_mirror_27 : decode cX0_mirror 27 = .ok (.ireturn, 1) := dk_172 (dk_at dksX0_mirror_1 3 rfl rfl)
theorem dX0_mirror_28 : decode cX0_mirror 28 = .ok (.iconst 0, 1) := dk_3 (dk_at dksX0_mirror_1 4 rfl rfl)
theorem dX0_mirror_29 : decode cX0_mirror 29 = .ok (.ireturn, 1) := dk_172 (dk_at dksX0_mirror_1 5 rfl rfl)
abbrev cX0_turn : ByteArray := method_18_code
def yX0_turn : MethodName := ⟨RX0, "turn", "(LVersorhall;IILVersorhallLaw$Out;)I"⟩
def dkwX0_turn_1 : List UInt8 := [6, 172, 3, 172]
abbrev dktX0_turn_1 : List UInt8 := dkwX0_turn_1 ++ []
def dkwX0_turn_0 : List UInt8 := [45, 42, 27, 28, 182, 0, 72, 133, 181, 0, 13, 167, 0, 15, 58, 4, 4, 172, 58, 4, 5, 172, 58, 4]
abbrev dktX0_turn_0 : List UInt8 := dkwX0_turn_0 ++ dktX0_turn_1
theorem dksX0_turn_0 : cX0_turn.data.toList.drop 0 = dktX0_turn_0 := by decide +kernel
theorem dksX0_turn_1 : cX0_turn.data.toList.drop 24 = dktX0_turn_1 := dk_seg dksX0_turn_0 24 rfl rfl
theorem dX0_turn_0 : decode cX0_turn 0 = .ok (.aload_n 3, 1) := dk_45 (dk_at dksX0_turn_0 0 rfl rfl)
theorem dX0_turn_1 : decode cX0_turn 1 = .ok (.aload_n 0, 1) := dk_42 (dk_at dksX0_turn_0 1 rfl rfl)
theorem dX0_turn_2 : decode cX0_turn 2 = .ok (.iload_n 1, 1) := dk_27 (dk_at dksX0_turn_0 2 rfl rfl)
theorem dX0_turn_3 : decode cX0_turn 3 = .ok (.iload_n 2, 1) := dk_28 (dk_at dksX0_turn_0 3 rfl rfl)
theorem dX0_turn_4 : decode cX0_turn 4 = .ok (.invokevirtual 72, 3) := dk_182 0 72 (dk_at dksX0_turn_0 4 rfl rfl)
theorem dX0_turn_7 : decode cX0_turn 7 = .ok (.i2l, 1) := dk_133 (dk_at dksX0_turn_0 7 rfl rfl)
theorem dX0_turn_8 : decode cX0_turn 8 = .ok (.putfield 13, 3) := dk_181 0 13 (dk_at dksX0_turn_0 8 rfl rfl)
theorem dX0_turn_11 : decode cX0_turn 11 = .ok (.goto 15, 3) := dk_167 0 15 (dk_at dksX0_turn_0 11 rfl rfl)
theorem dX0_turn_14 : decode cX0_turn 14 = .ok (.astore 4, 2) := dk_58 4 (dk_at dksX0_turn_0 14 rfl rfl)
theorem dX0_turn_16 : decode cX0_turn 16 = .ok (.iconst 1, 1) := dk_4 (dk_at dksX0_turn_0 16 rfl rfl)
theorem dX0_turn_17 : decode cX0_turn 17 = .ok (.ireturn, 1) := dk_172 (dk_at dksX0_turn_0 17 rfl rfl)
theorem dX0_turn_18 : decode cX0_turn 18 = .ok (.astore 4, 2) := dk_58 4 (dk_at dksX0_turn_0 18 rfl rfl)
theorem dX0_turn_20 : decode cX0_turn 20 = .ok (.iconst 2, 1) := dk_5 (dk_at dksX0_turn_0 20 rfl rfl)
theorem dX0_turn_21 : decode cX0_turn 21 = .ok (.ireturn, 1) := dk_172 (dk_at dksX0_turn_0 21 rfl rfl)
theorem dX0_turn_22 : decode cX0_turn 22 = .ok (.astore 4, 2) := dk_58 4 (dk_at dksX0_turn_0 22 rfl rfl)
theorem dX0_turn_24 : decode cX0_turn 24 = .ok (.iconst 3, 1) := dk_6 (dk_at dksX0_turn_1 0 rfl rfl)
theorem dX0_turn_25 : decode cX0_turn 25 = .ok (.ireturn, 1) := dk_172 (dk_at dksX0_turn_1 1 rfl rfl)
theorem dX0_turn_26 : decode cX0_turn 26 = .ok (.iconst 0, 1) := dk_3 (dk_at dksX0_turn_1 2 rfl rfl)
theorem dX0_turn_27 : decode cX0_turn 27 = .ok (.ireturn, 1) := dk_172 (dk_at dksX0_turn_1 3 rfl rfl)
abbrev cX0_versor : ByteArray := method_19_code
def yX0_versor : MethodName := ⟨RX0, "versor", "(LVersorhall;ILVersorhallLaw$Out;)I"⟩
def dkwX0_versor_0 : List UInt8 := [44, 42, 27, 182, 0, 75, 133, 181, 0, 13, 167, 0, 9, 78, 4, 172, 78, 5, 172, 3, 172]
abbrev dktX0_versor_0 : List UInt8 := dkwX0_versor_0 ++ []
theorem dksX0_versor_0 : cX0_versor.data.toList.drop 0 = dktX0_versor_0 := by decide +kernel
theorem dX0_versor_0 : decode cX0_versor 0 = .ok (.aload_n 2, 1) := dk_44 (dk_at dksX0_versor_0 0 rfl rfl)
theorem dX0_versor_1 : decode cX0_versor 1 = .ok (.aload_n 0, 1) := dk_42 (dk_at dksX0_versor_0 1 rfl rfl)
theorem dX0_versor_2 : decode cX0_versor 2 = .ok (.iload_n 1, 1) := dk_27 (dk_at dksX0_versor_0 2 rfl rfl)
theorem dX0_versor_3 : decode cX0_versor 3 = .ok (.invokevirtual 75, 3) := dk_182 0 75 (dk_at dksX0_versor_0 3 rfl rfl)
theorem dX0_versor_6 : decode cX0_versor 6 = .ok (.i2l, 1) := dk_133 (dk_at dksX0_versor_0 6 rfl rfl)
theorem dX0_versor_7 : decode cX0_versor 7 = .ok (.putfield 13, 3) := dk_181 0 13 (dk_at dksX0_versor_0 7 rfl rfl)
theorem dX0_versor_10 : decode cX0_versor 10 = .ok (.goto 9, 3) := dk_167 0 9 (dk_at dksX0_versor_0 10 rfl rfl)
theorem dX0_versor_13 : decode cX0_versor 13 = .ok (.astore_n 3, 1) := dk_78 (dk_at dksX0_versor_0 13 rfl rfl)
theorem dX0_versor_14 : decode cX0_versor 14 = .ok (.iconst 1, 1) := dk_4 (dk_at dksX0_versor_0 14 rfl rfl)
theorem dX0_versor_15 : decode cX0_versor 15 = .ok (.ireturn, 1) := dk_172 (dk_at dksX0_versor_0 15 rfl rfl)
theorem dX0_versor_16 : decode cX0_versor 16 = .ok (.astore_n 3, 1) := dk_78 (dk_at dksX0_versor_0 16 rfl rfl)
theorem dX0_versor_17 : decode cX0_versor 17 = .ok (.iconst 2, 1) := dk_5 (dk_at dksX0_versor_0 17 rfl rfl)
theorem dX0_versor_18 : decode cX0_versor 18 = .ok (.ireturn, 1) := dk_172 (dk_at dksX0_versor_0 18 rfl rfl)
theorem dX0_versor_19 : decode cX0_versor 19 = .ok (.iconst 0, 1) := dk_3 (dk_at dksX0_versor_0 19 rfl rfl)
theorem dX0_versor_20 : decode cX0_versor 20 = .ok (.ireturn, 1) := dk_172 (dk_at dksX0_versor_0 20 rfl rfl)
abbrev cX0_run : ByteArray := method_20_code
def yX0_run : MethodName := ⟨RX0, "run", "(LVersorhall;IILVersorhallLaw$Out;)I"⟩
def dkwX0_run_0 : List UInt8 := [45, 42, 27, 28, 182, 0, 78, 133, 181, 0, 13, 167, 0, 11, 58, 4, 4, 172, 58, 4, 5, 172, 3, 172]
abbrev dktX0_run_0 : List UInt8 := dkwX0_run_0 ++ []
theorem dksX0_run_0 : cX0_run.data.toList.drop 0 = dktX0_run_0 := by decide +kernel
theorem dX0_run_0 : decode cX0_run 0 = .ok (.aload_n 3, 1) := dk_45 (dk_at dksX0_run_0 0 rfl rfl)
theorem dX0_run_1 : decode cX0_run 1 = .ok (.aload_n 0, 1) := dk_42 (dk_at dksX0_run_0 1 rfl rfl)
theorem dX0_run_2 : decode cX0_run 2 = .ok (.iload_n 1, 1) := dk_27 (dk_at dksX0_run_0 2 rfl rfl)
theorem dX0_run_3 : decode cX0_run 3 = .ok (.iload_n 2, 1) := dk_28 (dk_at dksX0_run_0 3 rfl rfl)
theorem dX0_run_4 : decode cX0_run 4 = .ok (.invokevirtual 78, 3) := dk_182 0 78 (dk_at dksX0_run_0 4 rfl rfl)
theorem dX0_run_7 : decode cX0_run 7 = .ok (.i2l, 1) := dk_133 (dk_at dksX0_run_0 7 rfl rfl)
theorem dX0_run_8 : decode cX0_run 8 = .ok (.putfield 13, 3) := dk_181 0 13 (dk_at dksX0_run_0 8 rfl rfl)
theorem dX0_run_11 : decode cX0_run 11 = .ok (.goto 11, 3) := dk_167 0 11 (dk_at dksX0_run_0 11 rfl rfl)
theorem dX0_run_14 : decode cX0_run 14 = .ok (.astore 4, 2) := dk_58 4 (dk_at dksX0_run_0 14 rfl rfl)
theorem dX0_run_16 : decode cX0_run 16 = .ok (.iconst 1, 1) := dk_4 (dk_at dksX0_run_0 16 rfl rfl)
theorem dX0_run_17 : decode cX0_run 17 = .ok (.ireturn, 1) := dk_172 (dk_at dksX0_run_0 17 rfl rfl)
theorem dX0_run_18 : decode cX0_run 18 = .ok (.astore 4, 2) := dk_58 4 (dk_at dksX0_run_0 18 rfl rfl)
theorem dX0_run_20 : decode cX0_run 20 = .ok (.iconst 2, 1) := dk_5 (dk_at dksX0_run_0 20 rfl rfl)
theorem dX0_run_21 : decode cX0_run 21 = .ok (.ireturn, 1) := dk_172 (dk_at dksX0_run_0 21 rfl rfl)
theorem dX0_run_22 : decode cX0_run 22 = .ok (.iconst 0, 1) := dk_3 (dk_at dksX0_run_0 22 rfl rfl)
theorem dX0_run_23 : decode cX0_run 23 = .ok (.ireturn, 1) := dk_172 (dk_at dksX0_run_0 23 rfl rfl)
abbrev cX0_at : ByteArray := method_21_code
def yX0_at : MethodName := ⟨RX0, "at", "(LVersorhall;IILVersorhallLaw$Out;)I"⟩
def dkwX0_at_0 : List UInt8 := [45, 42, 27, 28, 182, 0, 81, 133, 181, 0, 13, 167, 0, 7, 58, 4, 4, 172, 3, 172]
abbrev dktX0_at_0 : List UInt8 := dkwX0_at_0 ++ []
theorem dksX0_at_0 : cX0_at.data.toList.drop 0 = dktX0_at_0 := by decide +kernel
theorem dX0_at_0 : decode cX0_at 0 = .ok (.aload_n 3, 1) := dk_45 (dk_at dksX0_at_0 0 rfl rfl)
theorem dX0_at_1 : decode cX0_at 1 = .ok (.aload_n 0, 1) := dk_42 (dk_at dksX0_at_0 1 rfl rfl)
theorem dX0_at_2 : decode cX0_at 2 = .ok (.iload_n 1, 1) := dk_27 (dk_at dksX0_at_0 2 rfl rfl)
theorem dX0_at_3 : decode cX0_at 3 = .ok (.iload_n 2, 1) := dk_28 (dk_at dksX0_at_0 3 rfl rfl)
theorem dX0_at_4 : decode cX0_at 4 = .ok (.invokevirtual 81, 3) := dk_182 0 81 (dk_at dksX0_at_0 4 rfl rfl)
theorem dX0_at_7 : decode cX0_at 7 = .ok (.i2l, 1) := dk_133 (dk_at dksX0_at_0 7 rfl rfl)
theorem dX0_at_8 : decode cX0_at 8 = .ok (.putfield 13, 3) := dk_181 0 13 (dk_at dksX0_at_0 8 rfl rfl)
theorem dX0_at_11 : decode cX0_at 11 = .ok (.goto 7, 3) := dk_167 0 7 (dk_at dksX0_at_0 11 rfl rfl)
theorem dX0_at_14 : decode cX0_at 14 = .ok (.astore 4, 2) := dk_58 4 (dk_at dksX0_at_0 14 rfl rfl)
theorem dX0_at_16 : decode cX0_at 16 = .ok (.iconst 1, 1) := dk_4 (dk_at dksX0_at_0 16 rfl rfl)
theorem dX0_at_17 : decode cX0_at 17 = .ok (.ireturn, 1) := dk_172 (dk_at dksX0_at_0 17 rfl rfl)
theorem dX0_at_18 : decode cX0_at 18 = .ok (.iconst 0, 1) := dk_3 (dk_at dksX0_at_0 18 rfl rfl)
theorem dX0_at_19 : decode cX0_at 19 = .ok (.ireturn, 1) := dk_172 (dk_at dksX0_at_0 19 rfl rfl)
abbrev cX0_ofElement : ByteArray := method_22_code
def yX0_ofElement : MethodName := ⟨RX0, "ofElement", "(LVersorhall;IILVersorhallLaw$Out;)I"⟩
def dkwX0_ofElement_0 : List UInt8 := [45, 42, 27, 28, 182, 0, 84, 133, 181, 0, 13, 167, 0, 11, 58, 4, 4, 172, 58, 4, 5, 172, 3, 172]
abbrev dktX0_ofElement_0 : List UInt8 := dkwX0_ofElement_0 ++ []
theorem dksX0_ofElement_0 : cX0_ofElement.data.toList.drop 0 = dktX0_ofElement_0 := by decide +kernel
theorem dX0_ofElement_0 : decode cX0_ofElement 0 = .ok (.aload_n 3, 1) := dk_45 (dk_at dksX0_ofElement_0 0 rfl rfl)
theorem dX0_ofElement_1 : decode cX0_ofElement 1 = .ok (.aload_n 0, 1) := dk_42 (dk_at dksX0_ofElement_0 1 rfl rfl)
theorem dX0_ofElement_2 : decode cX0_ofElement 2 = .ok (.iload_n 1, 1) := dk_27 (dk_at dksX0_ofElement_0 2 rfl rfl)
theorem dX0_ofElement_3 : decode cX0_ofElement 3 = .ok (.iload_n 2, 1) := dk_28 (dk_at dksX0_ofElement_0 3 rfl rfl)
theorem dX0_ofElement_4 : decode cX0_ofElement 4 = .ok (.invokevirtual 84, 3) := dk_182 0 84 (dk_at dksX0_ofElement_0 4 rfl rfl)
theorem dX0_ofElement_7 : decode cX0_ofElement 7 = .ok (.i2l, 1) := dk_133 (dk_at dksX0_ofElement_0 7 rfl rfl)
theorem dX0_ofElement_8 : decode cX0_ofElement 8 = .ok (.putfield 13, 3) := dk_181 0 13 (dk_at dksX0_ofElement_0 8 rfl rfl)
theorem dX0_ofElement_11 : decode cX0_ofElement 11 = .ok (.goto 11, 3) := dk_167 0 11 (dk_at dksX0_ofElement_0 11 rfl rfl)
theorem dX0_ofElement_14 : decode cX0_ofElement 14 = .ok (.astore 4, 2) := dk_58 4 (dk_at dksX0_ofElement_0 14 rfl rfl)
theorem dX0_ofElement_16 : decode cX0_ofElement 16 = .ok (.iconst 1, 1) := dk_4 (dk_at dksX0_ofElement_0 16 rfl rfl)
theorem dX0_ofElement_17 : decode cX0_ofElement 17 = .ok (.ireturn, 1) := dk_172 (dk_at dksX0_ofElement_0 17 rfl rfl)
theorem dX0_ofElement_18 : decode cX0_ofElement 18 = .ok (.astore 4, 2) := dk_58 4 (dk_at dksX0_ofElement_0 18 rfl rfl)
theorem dX0_ofElement_20 : decode cX0_ofElement 20 = .ok (.iconst 2, 1) := dk_5 (dk_at dksX0_ofElement_0 20 rfl rfl)
theorem dX0_ofElement_21 : decode cX0_ofElement 21 = .ok (.ireturn, 1) := dk_172 (dk_at dksX0_ofElement_0 21 rfl rfl)
theorem dX0_ofElement_22 : decode cX0_ofElement 22 = .ok (.iconst 0, 1) := dk_3 (dk_at dksX0_ofElement_0 22 rfl rfl)
theorem dX0_ofElement_23 : decode cX0_ofElement 23 = .ok (.ireturn, 1) := dk_172 (dk_at dksX0_ofElement_0 23 rfl rfl)
abbrev cX0_text : ByteArray := method_23_code
def yX0_text : MethodName := ⟨RX0, "text", "(LVersorhall;ILVersorhallLaw$Out;)I"⟩
def dkwX0_text_0 : List UInt8 := [44, 42, 27, 182, 0, 87, 181, 0, 91, 167, 0, 6, 78, 4, 172, 3, 172]
abbrev dktX0_text_0 : List UInt8 := dkwX0_text_0 ++ []
theorem dksX0_text_0 : cX0_text.data.toList.drop 0 = dktX0_text_0 := by decide +kernel
theorem dX0_text_0 : decode cX0_text 0 = .ok (.aload_n 2, 1) := dk_44 (dk_at dksX0_text_0 0 rfl rfl)
theorem dX0_text_1 : decode cX0_text 1 = .ok (.aload_n 0, 1) := dk_42 (dk_at dksX0_text_0 1 rfl rfl)
theorem dX0_text_2 : decode cX0_text 2 = .ok (.iload_n 1, 1) := dk_27 (dk_at dksX0_text_0 2 rfl rfl)
theorem dX0_text_3 : decode cX0_text 3 = .ok (.invokevirtual 87, 3) := dk_182 0 87 (dk_at dksX0_text_0 3 rfl rfl)
theorem dX0_text_6 : decode cX0_text 6 = .ok (.putfield 91, 3) := dk_181 0 91 (dk_at dksX0_text_0 6 rfl rfl)
theorem dX0_text_9 : decode cX0_text 9 = .ok (.goto 6, 3) := dk_167 0 6 (dk_at dksX0_text_0 9 rfl rfl)
theorem dX0_text_12 : decode cX0_text 12 = .ok (.astore_n 3, 1) := dk_78 (dk_at dksX0_text_0 12 rfl rfl)
theorem dX0_text_13 : decode cX0_text 13 = .ok (.iconst 1, 1) := dk_4 (dk_at dksX0_text_0 13 rfl rfl)
theorem dX0_text_14 : decode cX0_text 14 = .ok (.ireturn, 1) := dk_172 (dk_at dksX0_text_0 14 rfl rfl)
theorem dX0_text_15 : decode cX0_text 15 = .ok (.iconst 0, 1) := dk_3 (dk_at dksX0_text_0 15 rfl rfl)
theorem dX0_text_16 : decode cX0_text 16 = .ok (.ireturn, 1) := dk_172 (dk_at dksX0_text_0 16 rfl rfl)
abbrev cX0_ofAlgebra : ByteArray := method_24_code
def yX0_ofAlgebra : MethodName := ⟨RX0, "ofAlgebra", "(LVersorhall;IILVersorhallLaw$Out;)I"⟩
def dkwX0_ofAlgebra_0 : List UInt8 := [45, 42, 27, 28, 182, 0, 95, 133, 181, 0, 13, 167, 0, 11, 58, 4, 4, 172, 58, 4, 5, 172, 3, 172]
abbrev dktX0_ofAlgebra_0 : List UInt8 := dkwX0_ofAlgebra_0 ++ []
theorem dksX0_ofAlgebra_0 : cX0_ofAlgebra.data.toList.drop 0 = dktX0_ofAlgebra_0 := by decide +kernel
theorem dX0_ofAlgebra_0 : decode cX0_ofAlgebra 0 = .ok (.aload_n 3, 1) := dk_45 (dk_at dksX0_ofAlgebra_0 0 rfl rfl)
theorem dX0_ofAlgebra_1 : decode cX0_ofAlgebra 1 = .ok (.aload_n 0, 1) := dk_42 (dk_at dksX0_ofAlgebra_0 1 rfl rfl)
theorem dX0_ofAlgebra_2 : decode cX0_ofAlgebra 2 = .ok (.iload_n 1, 1) := dk_27 (dk_at dksX0_ofAlgebra_0 2 rfl rfl)
theorem dX0_ofAlgebra_3 : decode cX0_ofAlgebra 3 = .ok (.iload_n 2, 1) := dk_28 (dk_at dksX0_ofAlgebra_0 3 rfl rfl)
theorem dX0_ofAlgebra_4 : decode cX0_ofAlgebra 4 = .ok (.invokevirtual 95, 3) := dk_182 0 95 (dk_at dksX0_ofAlgebra_0 4 rfl rfl)
theorem dX0_ofAlgebra_7 : decode cX0_ofAlgebra 7 = .ok (.i2l, 1) := dk_133 (dk_at dksX0_ofAlgebra_0 7 rfl rfl)
theorem dX0_ofAlgebra_8 : decode cX0_ofAlgebra 8 = .ok (.putfield 13, 3) := dk_181 0 13 (dk_at dksX0_ofAlgebra_0 8 rfl rfl)
theorem dX0_ofAlgebra_11 : decode cX0_ofAlgebra 11 = .ok (.goto 11, 3) := dk_167 0 11 (dk_at dksX0_ofAlgebra_0 11 rfl rfl)
theorem dX0_ofAlgebra_14 : decode cX0_ofAlgebra 14 = .ok (.astore 4, 2) := dk_58 4 (dk_at dksX0_ofAlgebra_0 14 rfl rfl)
theorem dX0_ofAlgebra_16 : decode cX0_ofAlgebra 16 = .ok (.iconst 1, 1) := dk_4 (dk_at dksX0_ofAlgebra_0 16 rfl rfl)
theorem dX0_ofAlgebra_17 : decode cX0_ofAlgebra 17 = .ok (.ireturn, 1) := dk_172 (dk_at dksX0_ofAlgebra_0 17 rfl rfl)
theorem dX0_ofAlgebra_18 : decode cX0_ofAlgebra 18 = .ok (.astore 4, 2) := dk_58 4 (dk_at dksX0_ofAlgebra_0 18 rfl rfl)
theorem dX0_ofAlgebra_20 : decode cX0_ofAlgebra 20 = .ok (.iconst 2, 1) := dk_5 (dk_at dksX0_ofAlgebra_0 20 rfl rfl)
theorem dX0_ofAlgebra_21 : decode cX0_ofAlgebra 21 = .ok (.ireturn, 1) := dk_172 (dk_at dksX0_ofAlgebra_0 21 rfl rfl)
theorem dX0_ofAlgebra_22 : decode cX0_ofAlgebra 22 = .ok (.iconst 0, 1) := dk_3 (dk_at dksX0_ofAlgebra_0 22 rfl rfl)
theorem dX0_ofAlgebra_23 : decode cX0_ofAlgebra 23 = .ok (.ireturn, 1) := dk_172 (dk_at dksX0_ofAlgebra_0 23 rfl rfl)
abbrev cX0_sign : ByteArray := method_25_code
def yX0_sign : MethodName := ⟨RX0, "sign", "(LVersorhall;IIILVersorhallLaw$Out;)I"⟩
def dkwX0_sign_0 : List UInt8 := [25, 4, 42, 27, 28, 29, 182, 0, 98, 133, 181, 0, 13, 167, 0, 7, 58, 5, 4, 172, 3, 172]
abbrev dktX0_sign_0 : List UInt8 := dkwX0_sign_0 ++ []
theorem dksX0_sign_0 : cX0_sign.data.toList.drop 0 = dktX0_sign_0 := by decide +kernel
theorem dX0_sign_0 : decode cX0_sign 0 = .ok (.aload 4, 2) := dk_25 4 (dk_at dksX0_sign_0 0 rfl rfl)
theorem dX0_sign_2 : decode cX0_sign 2 = .ok (.aload_n 0, 1) := dk_42 (dk_at dksX0_sign_0 2 rfl rfl)
theorem dX0_sign_3 : decode cX0_sign 3 = .ok (.iload_n 1, 1) := dk_27 (dk_at dksX0_sign_0 3 rfl rfl)
theorem dX0_sign_4 : decode cX0_sign 4 = .ok (.iload_n 2, 1) := dk_28 (dk_at dksX0_sign_0 4 rfl rfl)
theorem dX0_sign_5 : decode cX0_sign 5 = .ok (.iload_n 3, 1) := dk_29 (dk_at dksX0_sign_0 5 rfl rfl)
theorem dX0_sign_6 : decode cX0_sign 6 = .ok (.invokevirtual 98, 3) := dk_182 0 98 (dk_at dksX0_sign_0 6 rfl rfl)
theorem dX0_sign_9 : decode cX0_sign 9 = .ok (.i2l, 1) := dk_133 (dk_at dksX0_sign_0 9 rfl rfl)
theorem dX0_sign_10 : decode cX0_sign 10 = .ok (.putfield 13, 3) := dk_181 0 13 (dk_at dksX0_sign_0 10 rfl rfl)
theorem dX0_sign_13 : decode cX0_sign 13 = .ok (.goto 7, 3) := dk_167 0 7 (dk_at dksX0_sign_0 13 rfl rfl)
theorem dX0_sign_16 : decode cX0_sign 16 = .ok (.astore 5, 2) := dk_58 5 (dk_at dksX0_sign_0 16 rfl rfl)
theorem dX0_sign_18 : decode cX0_sign 18 = .ok (.iconst 1, 1) := dk_4 (dk_at dksX0_sign_0 18 rfl rfl)
theorem dX0_sign_19 : decode cX0_sign 19 = .ok (.ireturn, 1) := dk_172 (dk_at dksX0_sign_0 19 rfl rfl)
theorem dX0_sign_20 : decode cX0_sign 20 = .ok (.iconst 0, 1) := dk_3 (dk_at dksX0_sign_0 20 rfl rfl)
theorem dX0_sign_21 : decode cX0_sign 21 = .ok (.ireturn, 1) := dk_172 (dk_at dksX0_sign_0 21 rfl rfl)
abbrev cX0_breaks : ByteArray := method_26_code
def yX0_breaks : MethodName := ⟨RX0, "breaks", "(LVersorhall;IILVersorhallLaw$Out;)I"⟩
def dkwX0_breaks_0 : List UInt8 := [45, 42, 27, 28, 182, 0, 101, 133, 181, 0, 13, 167, 0, 7, 58, 4, 4, 172, 3, 172]
abbrev dktX0_breaks_0 : List UInt8 := dkwX0_breaks_0 ++ []
theorem dksX0_breaks_0 : cX0_breaks.data.toList.drop 0 = dktX0_breaks_0 := by decide +kernel
theorem dX0_breaks_0 : decode cX0_breaks 0 = .ok (.aload_n 3, 1) := dk_45 (dk_at dksX0_breaks_0 0 rfl rfl)
theorem dX0_breaks_1 : decode cX0_breaks 1 = .ok (.aload_n 0, 1) := dk_42 (dk_at dksX0_breaks_0 1 rfl rfl)
theorem dX0_breaks_2 : decode cX0_breaks 2 = .ok (.iload_n 1, 1) := dk_27 (dk_at dksX0_breaks_0 2 rfl rfl)
theorem dX0_breaks_3 : decode cX0_breaks 3 = .ok (.iload_n 2, 1) := dk_28 (dk_at dksX0_breaks_0 3 rfl rfl)
theorem dX0_breaks_4 : decode cX0_breaks 4 = .ok (.invokevirtual 101, 3) := dk_182 0 101 (dk_at dksX0_breaks_0 4 rfl rfl)
theorem dX0_breaks_7 : decode cX0_breaks 7 = .ok (.i2l, 1) := dk_133 (dk_at dksX0_breaks_0 7 rfl rfl)
theorem dX0_breaks_8 : decode cX0_breaks 8 = .ok (.putfield 13, 3) := dk_181 0 13 (dk_at dksX0_breaks_0 8 rfl rfl)
theorem dX0_breaks_11 : decode cX0_breaks 11 = .ok (.goto 7, 3) := dk_167 0 7 (dk_at dksX0_breaks_0 11 rfl rfl)
theorem dX0_breaks_14 : decode cX0_breaks 14 = .ok (.astore 4, 2) := dk_58 4 (dk_at dksX0_breaks_0 14 rfl rfl)
theorem dX0_breaks_16 : decode cX0_breaks 16 = .ok (.iconst 1, 1) := dk_4 (dk_at dksX0_breaks_0 16 rfl rfl)
theorem dX0_breaks_17 : decode cX0_breaks 17 = .ok (.ireturn, 1) := dk_172 (dk_at dksX0_breaks_0 17 rfl rfl)
theorem dX0_breaks_18 : decode cX0_breaks 18 = .ok (.iconst 0, 1) := dk_3 (dk_at dksX0_breaks_0 18 rfl rfl)
theorem dX0_breaks_19 : decode cX0_breaks 19 = .ok (.ireturn, 1) := dk_172 (dk_at dksX0_breaks_0 19 rfl rfl)
abbrev cX0_lean : ByteArray := method_27_code
def yX0_lean : MethodName := ⟨RX0, "lean", "(LVersorhall;ILVersorhallLaw$Out;)I"⟩
def dkwX0_lean_0 : List UInt8 := [44, 42, 27, 182, 0, 104, 181, 0, 108, 167, 0, 6, 78, 4, 172, 3, 172]
abbrev dktX0_lean_0 : List UInt8 := dkwX0_lean_0 ++ []
theorem dksX0_lean_0 : cX0_lean.data.toList.drop 0 = dktX0_lean_0 := by decide +kernel
theorem dX0_lean_0 : decode cX0_lean 0 = .ok (.aload_n 2, 1) := dk_44 (dk_at dksX0_lean_0 0 rfl rfl)
theorem dX0_lean_1 : decode cX0_lean 1 = .ok (.aload_n 0, 1) := dk_42 (dk_at dksX0_lean_0 1 rfl rfl)
theorem dX0_lean_2 : decode cX0_lean 2 = .ok (.iload_n 1, 1) := dk_27 (dk_at dksX0_lean_0 2 rfl rfl)
theorem dX0_lean_3 : decode cX0_lean 3 = .ok (.invokevirtual 104, 3) := dk_182 0 104 (dk_at dksX0_lean_0 3 rfl rfl)
theorem dX0_lean_6 : decode cX0_lean 6 = .ok (.putfield 108, 3) := dk_181 0 108 (dk_at dksX0_lean_0 6 rfl rfl)
theorem dX0_lean_9 : decode cX0_lean 9 = .ok (.goto 6, 3) := dk_167 0 6 (dk_at dksX0_lean_0 9 rfl rfl)
theorem dX0_lean_12 : decode cX0_lean 12 = .ok (.astore_n 3, 1) := dk_78 (dk_at dksX0_lean_0 12 rfl rfl)
theorem dX0_lean_13 : decode cX0_lean 13 = .ok (.iconst 1, 1) := dk_4 (dk_at dksX0_lean_0 13 rfl rfl)
theorem dX0_lean_14 : decode cX0_lean 14 = .ok (.ireturn, 1) := dk_172 (dk_at dksX0_lean_0 14 rfl rfl)
theorem dX0_lean_15 : decode cX0_lean 15 = .ok (.iconst 0, 1) := dk_3 (dk_at dksX0_lean_0 15 rfl rfl)
theorem dX0_lean_16 : decode cX0_lean 16 = .ok (.ireturn, 1) := dk_172 (dk_at dksX0_lean_0 16 rfl rfl)
abbrev cX0_many : ByteArray := method_28_code
def yX0_many : MethodName := ⟨RX0, "many", "(LVersorhall;ILVersorhallLaw$Out;)I"⟩
def dkwX0_many_0 : List UInt8 := [44, 42, 27, 182, 0, 112, 133, 181, 0, 13, 167, 0, 6, 78, 4, 172, 3, 172]
abbrev dktX0_many_0 : List UInt8 := dkwX0_many_0 ++ []
theorem dksX0_many_0 : cX0_many.data.toList.drop 0 = dktX0_many_0 := by decide +kernel
theorem dX0_many_0 : decode cX0_many 0 = .ok (.aload_n 2, 1) := dk_44 (dk_at dksX0_many_0 0 rfl rfl)
theorem dX0_many_1 : decode cX0_many 1 = .ok (.aload_n 0, 1) := dk_42 (dk_at dksX0_many_0 1 rfl rfl)
theorem dX0_many_2 : decode cX0_many 2 = .ok (.iload_n 1, 1) := dk_27 (dk_at dksX0_many_0 2 rfl rfl)
theorem dX0_many_3 : decode cX0_many 3 = .ok (.invokevirtual 112, 3) := dk_182 0 112 (dk_at dksX0_many_0 3 rfl rfl)
theorem dX0_many_6 : decode cX0_many 6 = .ok (.i2l, 1) := dk_133 (dk_at dksX0_many_0 6 rfl rfl)
theorem dX0_many_7 : decode cX0_many 7 = .ok (.putfield 13, 3) := dk_181 0 13 (dk_at dksX0_many_0 7 rfl rfl)
theorem dX0_many_10 : decode cX0_many 10 = .ok (.goto 6, 3) := dk_167 0 6 (dk_at dksX0_many_0 10 rfl rfl)
theorem dX0_many_13 : decode cX0_many 13 = .ok (.astore_n 3, 1) := dk_78 (dk_at dksX0_many_0 13 rfl rfl)
theorem dX0_many_14 : decode cX0_many 14 = .ok (.iconst 1, 1) := dk_4 (dk_at dksX0_many_0 14 rfl rfl)
theorem dX0_many_15 : decode cX0_many 15 = .ok (.ireturn, 1) := dk_172 (dk_at dksX0_many_0 15 rfl rfl)
theorem dX0_many_16 : decode cX0_many 16 = .ok (.iconst 0, 1) := dk_3 (dk_at dksX0_many_0 16 rfl rfl)
theorem dX0_many_17 : decode cX0_many 17 = .ok (.ireturn, 1) := dk_172 (dk_at dksX0_many_0 17 rfl rfl)
abbrev cX0_apart : ByteArray := method_29_code
def yX0_apart : MethodName := ⟨RX0, "apart", "(LVersorhall;IILVersorhallLaw$Out;)I"⟩
def dkwX0_apart_0 : List UInt8 := [45, 42, 27, 28, 182, 0, 115, 133, 181, 0, 13, 167, 0, 11, 58, 4, 4, 172, 58, 4, 5, 172, 3, 172]
abbrev dktX0_apart_0 : List UInt8 := dkwX0_apart_0 ++ []
theorem dksX0_apart_0 : cX0_apart.data.toList.drop 0 = dktX0_apart_0 := by decide +kernel
theorem dX0_apart_0 : decode cX0_apart 0 = .ok (.aload_n 3, 1) := dk_45 (dk_at dksX0_apart_0 0 rfl rfl)
theorem dX0_apart_1 : decode cX0_apart 1 = .ok (.aload_n 0, 1) := dk_42 (dk_at dksX0_apart_0 1 rfl rfl)
theorem dX0_apart_2 : decode cX0_apart 2 = .ok (.iload_n 1, 1) := dk_27 (dk_at dksX0_apart_0 2 rfl rfl)
theorem dX0_apart_3 : decode cX0_apart 3 = .ok (.iload_n 2, 1) := dk_28 (dk_at dksX0_apart_0 3 rfl rfl)
theorem dX0_apart_4 : decode cX0_apart 4 = .ok (.invokevirtual 115, 3) := dk_182 0 115 (dk_at dksX0_apart_0 4 rfl rfl)
theorem dX0_apart_7 : decode cX0_apart 7 = .ok (.i2l, 1) := dk_133 (dk_at dksX0_apart_0 7 rfl rfl)
theorem dX0_apart_8 : decode cX0_apart 8 = .ok (.putfield 13, 3) := dk_181 0 13 (dk_at dksX0_apart_0 8 rfl rfl)
theorem dX0_apart_11 : decode cX0_apart 11 = .ok (.goto 11, 3) := dk_167 0 11 (dk_at dksX0_apart_0 11 rfl rfl)
theorem dX0_apart_14 : decode cX0_apart 14 = .ok (.astore 4, 2) := dk_58 4 (dk_at dksX0_apart_0 14 rfl rfl)
theorem dX0_apart_16 : decode cX0_apart 16 = .ok (.iconst 1, 1) := dk_4 (dk_at dksX0_apart_0 16 rfl rfl)
theorem dX0_apart_17 : decode cX0_apart 17 = .ok (.ireturn, 1) := dk_172 (dk_at dksX0_apart_0 17 rfl rfl)
theorem dX0_apart_18 : decode cX0_apart 18 = .ok (.astore 4, 2) := dk_58 4 (dk_at dksX0_apart_0 18 rfl rfl)
theorem dX0_apart_20 : decode cX0_apart 20 = .ok (.iconst 2, 1) := dk_5 (dk_at dksX0_apart_0 20 rfl rfl)
theorem dX0_apart_21 : decode cX0_apart 21 = .ok (.ireturn, 1) := dk_172 (dk_at dksX0_apart_0 21 rfl rfl)
theorem dX0_apart_22 : decode cX0_apart 22 = .ok (.iconst 0, 1) := dk_3 (dk_at dksX0_apart_0 22 rfl rfl)
theorem dX0_apart_23 : decode cX0_apart 23 = .ok (.ireturn, 1) := dk_172 (dk_at dksX0_apart_0 23 rfl rfl)
abbrev cX0_row : ByteArray := method_30_code
def yX0_row : MethodName := ⟨RX0, "row", "(LVersorhall;IILVersorhallLaw$Out;)I"⟩
def dkwX0_row_0 : List UInt8 := [45, 42, 27, 28, 182, 0, 118, 133, 181, 0, 13, 167, 0, 11, 58, 4, 4, 172, 58, 4, 5, 172, 3, 172]
abbrev dktX0_row_0 : List UInt8 := dkwX0_row_0 ++ []
theorem dksX0_row_0 : cX0_row.data.toList.drop 0 = dktX0_row_0 := by decide +kernel
theorem dX0_row_0 : decode cX0_row 0 = .ok (.aload_n 3, 1) := dk_45 (dk_at dksX0_row_0 0 rfl rfl)
theorem dX0_row_1 : decode cX0_row 1 = .ok (.aload_n 0, 1) := dk_42 (dk_at dksX0_row_0 1 rfl rfl)
theorem dX0_row_2 : decode cX0_row 2 = .ok (.iload_n 1, 1) := dk_27 (dk_at dksX0_row_0 2 rfl rfl)
theorem dX0_row_3 : decode cX0_row 3 = .ok (.iload_n 2, 1) := dk_28 (dk_at dksX0_row_0 3 rfl rfl)
theorem dX0_row_4 : decode cX0_row 4 = .ok (.invokevirtual 118, 3) := dk_182 0 118 (dk_at dksX0_row_0 4 rfl rfl)
theorem dX0_row_7 : decode cX0_row 7 = .ok (.i2l, 1) := dk_133 (dk_at dksX0_row_0 7 rfl rfl)
theorem dX0_row_8 : decode cX0_row 8 = .ok (.putfield 13, 3) := dk_181 0 13 (dk_at dksX0_row_0 8 rfl rfl)
theorem dX0_row_11 : decode cX0_row 11 = .ok (.goto 11, 3) := dk_167 0 11 (dk_at dksX0_row_0 11 rfl rfl)
theorem dX0_row_14 : decode cX0_row 14 = .ok (.astore 4, 2) := dk_58 4 (dk_at dksX0_row_0 14 rfl rfl)
theorem dX0_row_16 : decode cX0_row 16 = .ok (.iconst 1, 1) := dk_4 (dk_at dksX0_row_0 16 rfl rfl)
theorem dX0_row_17 : decode cX0_row 17 = .ok (.ireturn, 1) := dk_172 (dk_at dksX0_row_0 17 rfl rfl)
theorem dX0_row_18 : decode cX0_row 18 = .ok (.astore 4, 2) := dk_58 4 (dk_at dksX0_row_0 18 rfl rfl)
theorem dX0_row_20 : decode cX0_row 20 = .ok (.iconst 2, 1) := dk_5 (dk_at dksX0_row_0 20 rfl rfl)
theorem dX0_row_21 : decode cX0_row 21 = .ok (.ireturn, 1) := dk_172 (dk_at dksX0_row_0 21 rfl rfl)
theorem dX0_row_22 : decode cX0_row 22 = .ok (.iconst 0, 1) := dk_3 (dk_at dksX0_row_0 22 rfl rfl)
theorem dX0_row_23 : decode cX0_row 23 = .ok (.ireturn, 1) := dk_172 (dk_at dksX0_row_0 23 rfl rfl)
abbrev cX0_match : ByteArray := method_31_code
def yX0_match : MethodName := ⟨RX0, "match", "(LVersorhall;IILVersorhallLaw$Out;)I"⟩
def dkwX0_match_0 : List UInt8 := [45, 42, 27, 28, 182, 0, 121, 133, 181, 0, 13, 167, 0, 7, 58, 4, 4, 172, 3, 172]
abbrev dktX0_match_0 : List UInt8 := dkwX0_match_0 ++ []
theorem dksX0_match_0 : cX0_match.data.toList.drop 0 = dktX0_match_0 := by decide +kernel
theorem dX0_match_0 : decode cX0_match 0 = .ok (.aload_n 3, 1) := dk_45 (dk_at dksX0_match_0 0 rfl rfl)
theorem dX0_match_1 : decode cX0_match 1 = .ok (.aload_n 0, 1) := dk_42 (dk_at dksX0_match_0 1 rfl rfl)
theorem dX0_match_2 : decode cX0_match 2 = .ok (.iload_n 1, 1) := dk_27 (dk_at dksX0_match_0 2 rfl rfl)
theorem dX0_match_3 : decode cX0_match 3 = .ok (.iload_n 2, 1) := dk_28 (dk_at dksX0_match_0 3 rfl rfl)
theorem dX0_match_4 : decode cX0_match 4 = .ok (.invokevirtual 121, 3) := dk_182 0 121 (dk_at dksX0_match_0 4 rfl rfl)
theorem dX0_match_7 : decode cX0_match 7 = .ok (.i2l, 1) := dk_133 (dk_at dksX0_match_0 7 rfl rfl)
theorem dX0_match_8 : decode cX0_match 8 = .ok (.putfield 13, 3) := dk_181 0 13 (dk_at dksX0_match_0 8 rfl rfl)
theorem dX0_match_11 : decode cX0_match 11 = .ok (.goto 7, 3) := dk_167 0 7 (dk_at dksX0_match_0 11 rfl rfl)
theorem dX0_match_14 : decode cX0_match 14 = .ok (.astore 4, 2) := dk_58 4 (dk_at dksX0_match_0 14 rfl rfl)
theorem dX0_match_16 : decode cX0_match 16 = .ok (.iconst 1, 1) := dk_4 (dk_at dksX0_match_0 16 rfl rfl)
theorem dX0_match_17 : decode cX0_match 17 = .ok (.ireturn, 1) := dk_172 (dk_at dksX0_match_0 17 rfl rfl)
theorem dX0_match_18 : decode cX0_match 18 = .ok (.iconst 0, 1) := dk_3 (dk_at dksX0_match_0 18 rfl rfl)
theorem dX0_match_19 : decode cX0_match 19 = .ok (.ireturn, 1) := dk_172 (dk_at dksX0_match_0 19 rfl rfl)
abbrev cX0_scaleOf : ByteArray := method_32_code
def yX0_scaleOf : MethodName := ⟨RX0, "scaleOf", "(LVersorhall;IIILVersorhallLaw$Out;)I"⟩
def dkwX0_scaleOf_0 : List UInt8 := [25, 4, 42, 27, 28, 29, 182, 0, 124, 133, 181, 0, 13, 167, 0, 7, 58, 5, 4, 172, 3, 172]
abbrev dktX0_scaleOf_0 : List UInt8 := dkwX0_scaleOf_0 ++ []
theorem dksX0_scaleOf_0 : cX0_scaleOf.data.toList.drop 0 = dktX0_scaleOf_0 := by decide +kernel
theorem dX0_scaleOf_0 : decode cX0_scaleOf 0 = .ok (.aload 4, 2) := dk_25 4 (dk_at dksX0_scaleOf_0 0 rfl rfl)
theorem dX0_scaleOf_2 : decode cX0_scaleOf 2 = .ok (.aload_n 0, 1) := dk_42 (dk_at dksX0_scaleOf_0 2 rfl rfl)
theorem dX0_scaleOf_3 : decode cX0_scaleOf 3 = .ok (.iload_n 1, 1) := dk_27 (dk_at dksX0_scaleOf_0 3 rfl rfl)
theorem dX0_scaleOf_4 : decode cX0_scaleOf 4 = .ok (.iload_n 2, 1) := dk_28 (dk_at dksX0_scaleOf_0 4 rfl rfl)
theorem dX0_scaleOf_5 : decode cX0_scaleOf 5 = .ok (.iload_n 3, 1) := dk_29 (dk_at dksX0_scaleOf_0 5 rfl rfl)
theorem dX0_scaleOf_6 : decode cX0_scaleOf 6 = .ok (.invokevirtual 124, 3) := dk_182 0 124 (dk_at dksX0_scaleOf_0 6 rfl rfl)
theorem dX0_scaleOf_9 : decode cX0_scaleOf 9 = .ok (.i2l, 1) := dk_133 (dk_at dksX0_scaleOf_0 9 rfl rfl)
theorem dX0_scaleOf_10 : decode cX0_scaleOf 10 = .ok (.putfield 13, 3) := dk_181 0 13 (dk_at dksX0_scaleOf_0 10 rfl rfl)
theorem dX0_scaleOf_13 : decode cX0_scaleOf 13 = .ok (.goto 7, 3) := dk_167 0 7 (dk_at dksX0_scaleOf_0 13 rfl rfl)
theorem dX0_scaleOf_16 : decode cX0_scaleOf 16 = .ok (.astore 5, 2) := dk_58 5 (dk_at dksX0_scaleOf_0 16 rfl rfl)
theorem dX0_scaleOf_18 : decode cX0_scaleOf 18 = .ok (.iconst 1, 1) := dk_4 (dk_at dksX0_scaleOf_0 18 rfl rfl)
theorem dX0_scaleOf_19 : decode cX0_scaleOf 19 = .ok (.ireturn, 1) := dk_172 (dk_at dksX0_scaleOf_0 19 rfl rfl)
theorem dX0_scaleOf_20 : decode cX0_scaleOf 20 = .ok (.iconst 0, 1) := dk_3 (dk_at dksX0_scaleOf_0 20 rfl rfl)
theorem dX0_scaleOf_21 : decode cX0_scaleOf 21 = .ok (.ireturn, 1) := dk_172 (dk_at dksX0_scaleOf_0 21 rfl rfl)
theorem q61 : (Jvm.Cond.initialized "VersorhallLaw") ∈ lw_all := lw_g (lw_at lw_m1 0 rfl) rfl
theorem q102 : (Jvm.Cond.classLink "VersorhallLaw" (8 : Nat) "Versorhall") ∈ lw_all := lw_g (lw_at lw_m1 41 rfl) rfl
theorem q104 : (Jvm.Cond.methodLink "VersorhallLaw" (127 : Nat) ({ cls := "Versorhall", name := "<init>", desc := "()V" } : Jvm.MethodName)) ∈ lw_all := lw_g (lw_at lw_m1 43 rfl) rfl
theorem q170 : (Jvm.Cond.methodLink "VersorhallLaw" (222 : Nat) ({ cls := "Versorhall", name := "meanSize", desc := "()D" } : Jvm.MethodName)) ∈ lw_all := lw_g (lw_at lw_m1 109 rfl) rfl
theorem q233 : (Jvm.Cond.methodLink "VersorhallLaw" (230 : Nat) ({ cls := "Versorhall", name := "poise", desc := "()D" } : Jvm.MethodName)) ∈ lw_all := lw_g (lw_at lw_m1 172 rfl) rfl
theorem q283 : (Jvm.Cond.methodLink "VersorhallLaw" (249 : Nat) ({ cls := "Versorhall", name := "digest", desc := "()J" } : Jvm.MethodName)) ∈ lw_all := lw_g (lw_at lw_m1 222 rfl) rfl
theorem q880 : (Jvm.Cond.classLink "VersorhallLaw" (14 : Nat) "VersorhallLaw$Out") ∈ lw_all := lw_g (lw_at lw_m4 99 rfl) rfl
theorem q882 : (Jvm.Cond.methodLinkNest "VersorhallLaw" (131 : Nat) ({ cls := "VersorhallLaw$Out", name := "<init>", desc := "()V" } : Jvm.MethodName) "VersorhallLaw") ∈ lw_tbl := lw_at lw_m4 101 rfl
theorem q886 : (Jvm.Cond.fieldLinkNest "VersorhallLaw" (13 : Nat) "VersorhallLaw$Out" "n" "J" "VersorhallLaw") ∈ lw_tbl := lw_at lw_m4 105 rfl
theorem q887 : (Jvm.Cond.fieldLinkNest "VersorhallLaw" (108 : Nat) "VersorhallLaw$Out" "d" "D" "VersorhallLaw") ∈ lw_tbl := lw_at lw_m4 106 rfl
theorem q888 : (Jvm.Cond.fieldLinkNest "VersorhallLaw" (91 : Nat) "VersorhallLaw$Out" "s" "Ljava/lang/String;" "VersorhallLaw") ∈ lw_tbl := lw_at lw_m4 107 rfl
theorem q896 : (Jvm.Cond.methodLink "VersorhallLaw" (132 : Nat) ({ cls := "VersorhallLaw", name := "prime", desc := "(LVersorhall;ILVersorhallLaw$Out;)I" } : Jvm.MethodName)) ∈ lw_all := lw_g (lw_at lw_m4 115 rfl) rfl
theorem q897 : (Jvm.Cond.static ({ cls := "VersorhallLaw", name := "prime", desc := "(LVersorhall;ILVersorhallLaw$Out;)I" } : Jvm.MethodName)) ∈ lw_all := lw_g (lw_at lw_m4 116 rfl) rfl
theorem q898 : (Jvm.Cond.codeWith ({ cls := "VersorhallLaw", name := "prime", desc := "(LVersorhall;ILVersorhallLaw$Out;)I" } : Jvm.MethodName) method_2_code (4 : Nat) (Option.some Jvm.ClassFile.FieldType.int) [((0 : Nat), (10 : Nat), (13 : Nat), (19 : Nat)), ((0 : Nat), (10 : Nat), (16 : Nat), (21 : Nat))]) ∈ lw_all := lw_g (lw_at lw_m4 117 rfl) rfl
theorem q899 : (Jvm.Cond.classLink "VersorhallLaw" (19 : Nat) "java/lang/IllegalArgumentException") ∈ lw_all := lw_g (lw_at lw_m4 118 rfl) rfl
theorem q900 : (Jvm.Cond.classLink "VersorhallLaw" (21 : Nat) "java/lang/IllegalStateException") ∈ lw_all := lw_g (lw_at lw_m4 119 rfl) rfl
theorem q901 : (Jvm.Cond.methodLink "VersorhallLaw" (7 : Nat) ({ cls := "Versorhall", name := "prime", desc := "(I)I" } : Jvm.MethodName)) ∈ lw_all := lw_g (lw_at lw_m4 120 rfl) rfl
theorem q937 : (Jvm.Cond.methodLink "VersorhallLaw" (142 : Nat) ({ cls := "VersorhallLaw", name := "algebra", desc := "(LVersorhall;ILVersorhallLaw$Out;)I" } : Jvm.MethodName)) ∈ lw_all := lw_g (lw_at lw_m4 156 rfl) rfl
theorem q938 : (Jvm.Cond.static ({ cls := "VersorhallLaw", name := "algebra", desc := "(LVersorhall;ILVersorhallLaw$Out;)I" } : Jvm.MethodName)) ∈ lw_all := lw_g (lw_at lw_m4 157 rfl) rfl
theorem q939 : (Jvm.Cond.codeWith ({ cls := "VersorhallLaw", name := "algebra", desc := "(LVersorhall;ILVersorhallLaw$Out;)I" } : Jvm.MethodName) method_3_code (4 : Nat) (Option.some Jvm.ClassFile.FieldType.int) [((0 : Nat), (10 : Nat), (13 : Nat), (19 : Nat)), ((0 : Nat), (10 : Nat), (16 : Nat), (21 : Nat))]) ∈ lw_all := lw_g (lw_at lw_m4 158 rfl) rfl
theorem q940 : (Jvm.Cond.methodLink "VersorhallLaw" (23 : Nat) ({ cls := "Versorhall", name := "algebra", desc := "(I)I" } : Jvm.MethodName)) ∈ lw_all := lw_g (lw_at lw_m4 159 rfl) rfl
theorem q1030 : (Jvm.Cond.methodLink "VersorhallLaw" (145 : Nat) ({ cls := "VersorhallLaw", name := "dial", desc := "(LVersorhall;IILVersorhallLaw$Out;)I" } : Jvm.MethodName)) ∈ lw_all := lw_g (lw_at lw_m5 9 rfl) rfl
theorem q1031 : (Jvm.Cond.static ({ cls := "VersorhallLaw", name := "dial", desc := "(LVersorhall;IILVersorhallLaw$Out;)I" } : Jvm.MethodName)) ∈ lw_all := lw_g (lw_at lw_m5 10 rfl) rfl
theorem q1032 : (Jvm.Cond.codeWith ({ cls := "VersorhallLaw", name := "dial", desc := "(LVersorhall;IILVersorhallLaw$Out;)I" } : Jvm.MethodName) method_4_code (5 : Nat) (Option.some Jvm.ClassFile.FieldType.int) [((0 : Nat), (11 : Nat), (14 : Nat), (30 : Nat)), ((0 : Nat), (11 : Nat), (18 : Nat), (19 : Nat)), ((0 : Nat), (11 : Nat), (22 : Nat), (21 : Nat))]) ∈ lw_all := lw_g (lw_at lw_m5 11 rfl) rfl
theorem q1033 : (Jvm.Cond.classLink "VersorhallLaw" (30 : Nat) "java/lang/IndexOutOfBoundsException") ∈ lw_all := lw_g (lw_at lw_m5 12 rfl) rfl
theorem q1052 : (Jvm.Cond.methodLink "VersorhallLaw" (26 : Nat) ({ cls := "Versorhall", name := "dial", desc := "(II)I" } : Jvm.MethodName)) ∈ lw_all := lw_g (lw_at lw_m5 31 rfl) rfl
theorem q1124 : (Jvm.Cond.methodLink "VersorhallLaw" (149 : Nat) ({ cls := "VersorhallLaw", name := "element", desc := "(LVersorhall;ILVersorhallLaw$Out;)I" } : Jvm.MethodName)) ∈ lw_all := lw_g (lw_at lw_m5 103 rfl) rfl
theorem q1125 : (Jvm.Cond.static ({ cls := "VersorhallLaw", name := "element", desc := "(LVersorhall;ILVersorhallLaw$Out;)I" } : Jvm.MethodName)) ∈ lw_all := lw_g (lw_at lw_m5 104 rfl) rfl
theorem q1126 : (Jvm.Cond.codeWith ({ cls := "VersorhallLaw", name := "element", desc := "(LVersorhall;ILVersorhallLaw$Out;)I" } : Jvm.MethodName) method_5_code (4 : Nat) (Option.some Jvm.ClassFile.FieldType.int) [((0 : Nat), (10 : Nat), (13 : Nat), (30 : Nat)), ((0 : Nat), (10 : Nat), (16 : Nat), (21 : Nat))]) ∈ lw_all := lw_g (lw_at lw_m5 105 rfl) rfl
theorem q1127 : (Jvm.Cond.methodLink "VersorhallLaw" (32 : Nat) ({ cls := "Versorhall", name := "element", desc := "(I)I" } : Jvm.MethodName)) ∈ lw_all := lw_g (lw_at lw_m5 106 rfl) rfl
theorem q1132 : (Jvm.Cond.methodLink "VersorhallLaw" (152 : Nat) ({ cls := "VersorhallLaw", name := "set", desc := "(LVersorhall;IIILVersorhallLaw$Out;)I" } : Jvm.MethodName)) ∈ lw_all := lw_g (lw_at lw_m5 111 rfl) rfl
theorem q1133 : (Jvm.Cond.static ({ cls := "VersorhallLaw", name := "set", desc := "(LVersorhall;IIILVersorhallLaw$Out;)I" } : Jvm.MethodName)) ∈ lw_all := lw_g (lw_at lw_m5 112 rfl) rfl
theorem q1134 : (Jvm.Cond.codeWith ({ cls := "VersorhallLaw", name := "set", desc := "(LVersorhall;IIILVersorhallLaw$Out;)I" } : Jvm.MethodName) method_6_code (6 : Nat) (Option.some Jvm.ClassFile.FieldType.int) [((0 : Nat), (13 : Nat), (16 : Nat), (30 : Nat)), ((0 : Nat), (13 : Nat), (20 : Nat), (19 : Nat))]) ∈ lw_all := lw_g (lw_at lw_m5 113 rfl) rfl
theorem q1135 : (Jvm.Cond.methodLink "VersorhallLaw" (35 : Nat) ({ cls := "Versorhall", name := "set", desc := "(III)I" } : Jvm.MethodName)) ∈ lw_all := lw_g (lw_at lw_m5 114 rfl) rfl
theorem q1143 : (Jvm.Cond.methodLink "VersorhallLaw" (156 : Nat) ({ cls := "VersorhallLaw", name := "sum", desc := "(LVersorhall;IIILVersorhallLaw$Out;)I" } : Jvm.MethodName)) ∈ lw_all := lw_g (lw_at lw_m5 122 rfl) rfl
theorem q1144 : (Jvm.Cond.static ({ cls := "VersorhallLaw", name := "sum", desc := "(LVersorhall;IIILVersorhallLaw$Out;)I" } : Jvm.MethodName)) ∈ lw_all := lw_g (lw_at lw_m5 123 rfl) rfl
theorem q1145 : (Jvm.Cond.codeWith ({ cls := "VersorhallLaw", name := "sum", desc := "(LVersorhall;IIILVersorhallLaw$Out;)I" } : Jvm.MethodName) method_7_code (6 : Nat) (Option.some Jvm.ClassFile.FieldType.int) [((0 : Nat), (13 : Nat), (16 : Nat), (30 : Nat)), ((0 : Nat), (13 : Nat), (20 : Nat), (19 : Nat))]) ∈ lw_all := lw_g (lw_at lw_m5 124 rfl) rfl
theorem q1146 : (Jvm.Cond.methodLink "VersorhallLaw" (39 : Nat) ({ cls := "Versorhall", name := "sum", desc := "(III)I" } : Jvm.MethodName)) ∈ lw_all := lw_g (lw_at lw_m5 125 rfl) rfl
theorem q1158 : (Jvm.Cond.methodLink "VersorhallLaw" (159 : Nat) ({ cls := "VersorhallLaw", name := "product", desc := "(LVersorhall;IIILVersorhallLaw$Out;)I" } : Jvm.MethodName)) ∈ lw_all := lw_g (lw_at lw_m5 137 rfl) rfl
theorem q1159 : (Jvm.Cond.static ({ cls := "VersorhallLaw", name := "product", desc := "(LVersorhall;IIILVersorhallLaw$Out;)I" } : Jvm.MethodName)) ∈ lw_all := lw_g (lw_at lw_m5 138 rfl) rfl
theorem q1160 : (Jvm.Cond.codeWith ({ cls := "VersorhallLaw", name := "product", desc := "(LVersorhall;IIILVersorhallLaw$Out;)I" } : Jvm.MethodName) method_8_code (6 : Nat) (Option.some Jvm.ClassFile.FieldType.int) [((0 : Nat), (13 : Nat), (16 : Nat), (30 : Nat)), ((0 : Nat), (13 : Nat), (20 : Nat), (19 : Nat))]) ∈ lw_all := lw_g (lw_at lw_m5 139 rfl) rfl
theorem q1161 : (Jvm.Cond.methodLink "VersorhallLaw" (42 : Nat) ({ cls := "Versorhall", name := "product", desc := "(III)I" } : Jvm.MethodName)) ∈ lw_all := lw_g (lw_at lw_m5 140 rfl) rfl
theorem q1165 : (Jvm.Cond.methodLink "VersorhallLaw" (162 : Nat) ({ cls := "VersorhallLaw", name := "scale", desc := "(LVersorhall;IIILVersorhallLaw$Out;)I" } : Jvm.MethodName)) ∈ lw_all := lw_g (lw_at lw_m5 144 rfl) rfl
theorem q1166 : (Jvm.Cond.static ({ cls := "VersorhallLaw", name := "scale", desc := "(LVersorhall;IIILVersorhallLaw$Out;)I" } : Jvm.MethodName)) ∈ lw_all := lw_g (lw_at lw_m5 145 rfl) rfl
theorem q1167 : (Jvm.Cond.codeWith ({ cls := "VersorhallLaw", name := "scale", desc := "(LVersorhall;IIILVersorhallLaw$Out;)I" } : Jvm.MethodName) method_9_code (6 : Nat) (Option.some Jvm.ClassFile.FieldType.int) [((0 : Nat), (13 : Nat), (16 : Nat), (30 : Nat)), ((0 : Nat), (13 : Nat), (20 : Nat), (19 : Nat))]) ∈ lw_all := lw_g (lw_at lw_m5 146 rfl) rfl
theorem q1168 : (Jvm.Cond.methodLink "VersorhallLaw" (45 : Nat) ({ cls := "Versorhall", name := "scale", desc := "(III)I" } : Jvm.MethodName)) ∈ lw_all := lw_g (lw_at lw_m5 147 rfl) rfl
theorem q1176 : (Jvm.Cond.methodLink "VersorhallLaw" (165 : Nat) ({ cls := "VersorhallLaw", name := "conjugate", desc := "(LVersorhall;IILVersorhallLaw$Out;)I" } : Jvm.MethodName)) ∈ lw_all := lw_g (lw_at lw_m5 155 rfl) rfl
theorem q1177 : (Jvm.Cond.static ({ cls := "VersorhallLaw", name := "conjugate", desc := "(LVersorhall;IILVersorhallLaw$Out;)I" } : Jvm.MethodName)) ∈ lw_all := lw_g (lw_at lw_m5 156 rfl) rfl
theorem q1178 : (Jvm.Cond.codeWith ({ cls := "VersorhallLaw", name := "conjugate", desc := "(LVersorhall;IILVersorhallLaw$Out;)I" } : Jvm.MethodName) method_10_code (5 : Nat) (Option.some Jvm.ClassFile.FieldType.int) [((0 : Nat), (11 : Nat), (14 : Nat), (30 : Nat)), ((0 : Nat), (11 : Nat), (18 : Nat), (19 : Nat))]) ∈ lw_all := lw_g (lw_at lw_m5 157 rfl) rfl
theorem q1179 : (Jvm.Cond.methodLink "VersorhallLaw" (48 : Nat) ({ cls := "Versorhall", name := "conjugate", desc := "(II)I" } : Jvm.MethodName)) ∈ lw_all := lw_g (lw_at lw_m5 158 rfl) rfl
theorem q1184 : (Jvm.Cond.methodLink "VersorhallLaw" (168 : Nat) ({ cls := "VersorhallLaw", name := "power", desc := "(LVersorhall;IIILVersorhallLaw$Out;)I" } : Jvm.MethodName)) ∈ lw_all := lw_g (lw_at lw_m5 163 rfl) rfl
theorem q1185 : (Jvm.Cond.static ({ cls := "VersorhallLaw", name := "power", desc := "(LVersorhall;IIILVersorhallLaw$Out;)I" } : Jvm.MethodName)) ∈ lw_all := lw_g (lw_at lw_m5 164 rfl) rfl
theorem q1186 : (Jvm.Cond.codeWith ({ cls := "VersorhallLaw", name := "power", desc := "(LVersorhall;IIILVersorhallLaw$Out;)I" } : Jvm.MethodName) method_11_code (6 : Nat) (Option.some Jvm.ClassFile.FieldType.int) [((0 : Nat), (13 : Nat), (16 : Nat), (30 : Nat)), ((0 : Nat), (13 : Nat), (20 : Nat), (19 : Nat))]) ∈ lw_all := lw_g (lw_at lw_m5 165 rfl) rfl
theorem q1187 : (Jvm.Cond.methodLink "VersorhallLaw" (51 : Nat) ({ cls := "Versorhall", name := "power", desc := "(III)I" } : Jvm.MethodName)) ∈ lw_all := lw_g (lw_at lw_m5 166 rfl) rfl
theorem q1195 : (Jvm.Cond.methodLink "VersorhallLaw" (171 : Nat) ({ cls := "VersorhallLaw", name := "invert", desc := "(LVersorhall;IILVersorhallLaw$Out;)I" } : Jvm.MethodName)) ∈ lw_all := lw_g (lw_at lw_m5 174 rfl) rfl
theorem q1196 : (Jvm.Cond.static ({ cls := "VersorhallLaw", name := "invert", desc := "(LVersorhall;IILVersorhallLaw$Out;)I" } : Jvm.MethodName)) ∈ lw_all := lw_g (lw_at lw_m5 175 rfl) rfl
theorem q1197 : (Jvm.Cond.codeWith ({ cls := "VersorhallLaw", name := "invert", desc := "(LVersorhall;IILVersorhallLaw$Out;)I" } : Jvm.MethodName) method_12_code (5 : Nat) (Option.some Jvm.ClassFile.FieldType.int) [((0 : Nat), (11 : Nat), (14 : Nat), (30 : Nat)), ((0 : Nat), (11 : Nat), (18 : Nat), (19 : Nat)), ((0 : Nat), (11 : Nat), (22 : Nat), (21 : Nat))]) ∈ lw_all := lw_g (lw_at lw_m5 176 rfl) rfl
theorem q1198 : (Jvm.Cond.methodLink "VersorhallLaw" (54 : Nat) ({ cls := "Versorhall", name := "invert", desc := "(II)I" } : Jvm.MethodName)) ∈ lw_all := lw_g (lw_at lw_m5 177 rfl) rfl
theorem q1239 : (Jvm.Cond.methodLink "VersorhallLaw" (174 : Nat) ({ cls := "VersorhallLaw", name := "series", desc := "(LVersorhall;IILVersorhallLaw$Out;)I" } : Jvm.MethodName)) ∈ lw_all := lw_g (lw_at lw_m5 218 rfl) rfl
theorem q1240 : (Jvm.Cond.static ({ cls := "VersorhallLaw", name := "series", desc := "(LVersorhall;IILVersorhallLaw$Out;)I" } : Jvm.MethodName)) ∈ lw_all := lw_g (lw_at lw_m5 219 rfl) rfl
theorem q1241 : (Jvm.Cond.codeWith ({ cls := "VersorhallLaw", name := "series", desc := "(LVersorhall;IILVersorhallLaw$Out;)I" } : Jvm.MethodName) method_13_code (5 : Nat) (Option.some Jvm.ClassFile.FieldType.int) [((0 : Nat), (11 : Nat), (14 : Nat), (30 : Nat)), ((0 : Nat), (11 : Nat), (18 : Nat), (19 : Nat)), ((0 : Nat), (11 : Nat), (22 : Nat), (21 : Nat))]) ∈ lw_all := lw_g (lw_at lw_m5 220 rfl) rfl
theorem q1242 : (Jvm.Cond.methodLink "VersorhallLaw" (57 : Nat) ({ cls := "Versorhall", name := "series", desc := "(II)I" } : Jvm.MethodName)) ∈ lw_all := lw_g (lw_at lw_m5 221 rfl) rfl
theorem q1251 : (Jvm.Cond.methodLink "VersorhallLaw" (177 : Nat) ({ cls := "VersorhallLaw", name := "killer", desc := "(LVersorhall;IILVersorhallLaw$Out;)I" } : Jvm.MethodName)) ∈ lw_all := lw_g (lw_at lw_m5 230 rfl) rfl
theorem q1252 : (Jvm.Cond.static ({ cls := "VersorhallLaw", name := "killer", desc := "(LVersorhall;IILVersorhallLaw$Out;)I" } : Jvm.MethodName)) ∈ lw_all := lw_g (lw_at lw_m5 231 rfl) rfl
theorem q1253 : (Jvm.Cond.codeWith ({ cls := "VersorhallLaw", name := "killer", desc := "(LVersorhall;IILVersorhallLaw$Out;)I" } : Jvm.MethodName) method_14_code (5 : Nat) (Option.some Jvm.ClassFile.FieldType.int) [((0 : Nat), (11 : Nat), (14 : Nat), (30 : Nat)), ((0 : Nat), (11 : Nat), (18 : Nat), (19 : Nat)), ((0 : Nat), (11 : Nat), (22 : Nat), (21 : Nat))]) ∈ lw_all := lw_g (lw_at lw_m5 232 rfl) rfl
theorem q1254 : (Jvm.Cond.methodLink "VersorhallLaw" (60 : Nat) ({ cls := "Versorhall", name := "killer", desc := "(II)I" } : Jvm.MethodName)) ∈ lw_all := lw_g (lw_at lw_m5 233 rfl) rfl
theorem q1266 : (Jvm.Cond.methodLink "VersorhallLaw" (180 : Nat) ({ cls := "VersorhallLaw", name := "hang", desc := "(LVersorhall;ILVersorhallLaw$Out;)I" } : Jvm.MethodName)) ∈ lw_all := lw_g (lw_at lw_m6 5 rfl) rfl
theorem q1267 : (Jvm.Cond.static ({ cls := "VersorhallLaw", name := "hang", desc := "(LVersorhall;ILVersorhallLaw$Out;)I" } : Jvm.MethodName)) ∈ lw_all := lw_g (lw_at lw_m6 6 rfl) rfl
theorem q1268 : (Jvm.Cond.codeWith ({ cls := "VersorhallLaw", name := "hang", desc := "(LVersorhall;ILVersorhallLaw$Out;)I" } : Jvm.MethodName) method_15_code (4 : Nat) (Option.some Jvm.ClassFile.FieldType.int) [((0 : Nat), (10 : Nat), (13 : Nat), (30 : Nat)), ((0 : Nat), (10 : Nat), (16 : Nat), (21 : Nat))]) ∈ lw_all := lw_g (lw_at lw_m6 7 rfl) rfl
theorem q1269 : (Jvm.Cond.methodLink "VersorhallLaw" (63 : Nat) ({ cls := "Versorhall", name := "hang", desc := "(I)I" } : Jvm.MethodName)) ∈ lw_all := lw_g (lw_at lw_m6 8 rfl) rfl
theorem q1303 : (Jvm.Cond.methodLink "VersorhallLaw" (183 : Nat) ({ cls := "VersorhallLaw", name := "clear", desc := "(LVersorhall;ILVersorhallLaw$Out;)I" } : Jvm.MethodName)) ∈ lw_all := lw_g (lw_at lw_m6 42 rfl) rfl
theorem q1304 : (Jvm.Cond.static ({ cls := "VersorhallLaw", name := "clear", desc := "(LVersorhall;ILVersorhallLaw$Out;)I" } : Jvm.MethodName)) ∈ lw_all := lw_g (lw_at lw_m6 43 rfl) rfl
theorem q1305 : (Jvm.Cond.codeWith ({ cls := "VersorhallLaw", name := "clear", desc := "(LVersorhall;ILVersorhallLaw$Out;)I" } : Jvm.MethodName) method_16_code (4 : Nat) (Option.some Jvm.ClassFile.FieldType.int) [((0 : Nat), (10 : Nat), (13 : Nat), (30 : Nat))]) ∈ lw_all := lw_g (lw_at lw_m6 44 rfl) rfl
theorem q1306 : (Jvm.Cond.methodLink "VersorhallLaw" (66 : Nat) ({ cls := "Versorhall", name := "clear", desc := "(I)I" } : Jvm.MethodName)) ∈ lw_all := lw_g (lw_at lw_m6 45 rfl) rfl
theorem q1353 : (Jvm.Cond.methodLink "VersorhallLaw" (186 : Nat) ({ cls := "VersorhallLaw", name := "mirror", desc := "(LVersorhall;IIILVersorhallLaw$Out;)I" } : Jvm.MethodName)) ∈ lw_all := lw_g (lw_at lw_m6 92 rfl) rfl
theorem q1354 : (Jvm.Cond.static ({ cls := "VersorhallLaw", name := "mirror", desc := "(LVersorhall;IIILVersorhallLaw$Out;)I" } : Jvm.MethodName)) ∈ lw_all := lw_g (lw_at lw_m6 93 rfl) rfl
theorem q1355 : (Jvm.Cond.codeWith ({ cls := "VersorhallLaw", name := "mirror", desc := "(LVersorhall;IIILVersorhallLaw$Out;)I" } : Jvm.MethodName) method_17_code (6 : Nat) (Option.some Jvm.ClassFile.FieldType.int) [((0 : Nat), (13 : Nat), (16 : Nat), (30 : Nat)), ((0 : Nat), (13 : Nat), (20 : Nat), (19 : Nat)), ((0 : Nat), (13 : Nat), (24 : Nat), (21 : Nat))]) ∈ lw_all := lw_g (lw_at lw_m6 94 rfl) rfl
theorem q1356 : (Jvm.Cond.methodLink "VersorhallLaw" (69 : Nat) ({ cls := "Versorhall", name := "mirror", desc := "(III)I" } : Jvm.MethodName)) ∈ lw_all := lw_g (lw_at lw_m6 95 rfl) rfl
theorem q1365 : (Jvm.Cond.methodLink "VersorhallLaw" (189 : Nat) ({ cls := "VersorhallLaw", name := "turn", desc := "(LVersorhall;IILVersorhallLaw$Out;)I" } : Jvm.MethodName)) ∈ lw_all := lw_g (lw_at lw_m6 104 rfl) rfl
theorem q1366 : (Jvm.Cond.static ({ cls := "VersorhallLaw", name := "turn", desc := "(LVersorhall;IILVersorhallLaw$Out;)I" } : Jvm.MethodName)) ∈ lw_all := lw_g (lw_at lw_m6 105 rfl) rfl
theorem q1367 : (Jvm.Cond.codeWith ({ cls := "VersorhallLaw", name := "turn", desc := "(LVersorhall;IILVersorhallLaw$Out;)I" } : Jvm.MethodName) method_18_code (5 : Nat) (Option.some Jvm.ClassFile.FieldType.int) [((0 : Nat), (11 : Nat), (14 : Nat), (30 : Nat)), ((0 : Nat), (11 : Nat), (18 : Nat), (19 : Nat)), ((0 : Nat), (11 : Nat), (22 : Nat), (21 : Nat))]) ∈ lw_all := lw_g (lw_at lw_m6 106 rfl) rfl
theorem q1368 : (Jvm.Cond.methodLink "VersorhallLaw" (72 : Nat) ({ cls := "Versorhall", name := "turn", desc := "(II)I" } : Jvm.MethodName)) ∈ lw_all := lw_g (lw_at lw_m6 107 rfl) rfl
theorem q1372 : (Jvm.Cond.methodLink "VersorhallLaw" (192 : Nat) ({ cls := "VersorhallLaw", name := "versor", desc := "(LVersorhall;ILVersorhallLaw$Out;)I" } : Jvm.MethodName)) ∈ lw_all := lw_g (lw_at lw_m6 111 rfl) rfl
theorem q1373 : (Jvm.Cond.static ({ cls := "VersorhallLaw", name := "versor", desc := "(LVersorhall;ILVersorhallLaw$Out;)I" } : Jvm.MethodName)) ∈ lw_all := lw_g (lw_at lw_m6 112 rfl) rfl
theorem q1374 : (Jvm.Cond.codeWith ({ cls := "VersorhallLaw", name := "versor", desc := "(LVersorhall;ILVersorhallLaw$Out;)I" } : Jvm.MethodName) method_19_code (4 : Nat) (Option.some Jvm.ClassFile.FieldType.int) [((0 : Nat), (10 : Nat), (13 : Nat), (30 : Nat)), ((0 : Nat), (10 : Nat), (16 : Nat), (21 : Nat))]) ∈ lw_all := lw_g (lw_at lw_m6 113 rfl) rfl
theorem q1375 : (Jvm.Cond.methodLink "VersorhallLaw" (75 : Nat) ({ cls := "Versorhall", name := "versor", desc := "(I)I" } : Jvm.MethodName)) ∈ lw_all := lw_g (lw_at lw_m6 114 rfl) rfl
theorem q1380 : (Jvm.Cond.methodLink "VersorhallLaw" (195 : Nat) ({ cls := "VersorhallLaw", name := "run", desc := "(LVersorhall;IILVersorhallLaw$Out;)I" } : Jvm.MethodName)) ∈ lw_all := lw_g (lw_at lw_m6 119 rfl) rfl
theorem q1381 : (Jvm.Cond.static ({ cls := "VersorhallLaw", name := "run", desc := "(LVersorhall;IILVersorhallLaw$Out;)I" } : Jvm.MethodName)) ∈ lw_all := lw_g (lw_at lw_m6 120 rfl) rfl
theorem q1382 : (Jvm.Cond.codeWith ({ cls := "VersorhallLaw", name := "run", desc := "(LVersorhall;IILVersorhallLaw$Out;)I" } : Jvm.MethodName) method_20_code (5 : Nat) (Option.some Jvm.ClassFile.FieldType.int) [((0 : Nat), (11 : Nat), (14 : Nat), (30 : Nat)), ((0 : Nat), (11 : Nat), (18 : Nat), (19 : Nat))]) ∈ lw_all := lw_g (lw_at lw_m6 121 rfl) rfl
theorem q1383 : (Jvm.Cond.methodLink "VersorhallLaw" (78 : Nat) ({ cls := "Versorhall", name := "run", desc := "(II)I" } : Jvm.MethodName)) ∈ lw_all := lw_g (lw_at lw_m6 122 rfl) rfl
theorem q1403 : (Jvm.Cond.methodLink "VersorhallLaw" (198 : Nat) ({ cls := "VersorhallLaw", name := "at", desc := "(LVersorhall;IILVersorhallLaw$Out;)I" } : Jvm.MethodName)) ∈ lw_all := lw_g (lw_at lw_m6 142 rfl) rfl
theorem q1404 : (Jvm.Cond.static ({ cls := "VersorhallLaw", name := "at", desc := "(LVersorhall;IILVersorhallLaw$Out;)I" } : Jvm.MethodName)) ∈ lw_all := lw_g (lw_at lw_m6 143 rfl) rfl
theorem q1405 : (Jvm.Cond.codeWith ({ cls := "VersorhallLaw", name := "at", desc := "(LVersorhall;IILVersorhallLaw$Out;)I" } : Jvm.MethodName) method_21_code (5 : Nat) (Option.some Jvm.ClassFile.FieldType.int) [((0 : Nat), (11 : Nat), (14 : Nat), (30 : Nat))]) ∈ lw_all := lw_g (lw_at lw_m6 144 rfl) rfl
theorem q1406 : (Jvm.Cond.methodLink "VersorhallLaw" (81 : Nat) ({ cls := "Versorhall", name := "at", desc := "(II)I" } : Jvm.MethodName)) ∈ lw_all := lw_g (lw_at lw_m6 145 rfl) rfl
theorem q1410 : (Jvm.Cond.methodLink "VersorhallLaw" (201 : Nat) ({ cls := "VersorhallLaw", name := "ofElement", desc := "(LVersorhall;IILVersorhallLaw$Out;)I" } : Jvm.MethodName)) ∈ lw_all := lw_g (lw_at lw_m6 149 rfl) rfl
theorem q1411 : (Jvm.Cond.static ({ cls := "VersorhallLaw", name := "ofElement", desc := "(LVersorhall;IILVersorhallLaw$Out;)I" } : Jvm.MethodName)) ∈ lw_all := lw_g (lw_at lw_m6 150 rfl) rfl
theorem q1412 : (Jvm.Cond.codeWith ({ cls := "VersorhallLaw", name := "ofElement", desc := "(LVersorhall;IILVersorhallLaw$Out;)I" } : Jvm.MethodName) method_22_code (5 : Nat) (Option.some Jvm.ClassFile.FieldType.int) [((0 : Nat), (11 : Nat), (14 : Nat), (30 : Nat)), ((0 : Nat), (11 : Nat), (18 : Nat), (19 : Nat))]) ∈ lw_all := lw_g (lw_at lw_m6 151 rfl) rfl
theorem q1413 : (Jvm.Cond.methodLink "VersorhallLaw" (84 : Nat) ({ cls := "Versorhall", name := "ofElement", desc := "(II)I" } : Jvm.MethodName)) ∈ lw_all := lw_g (lw_at lw_m6 152 rfl) rfl
theorem q1417 : (Jvm.Cond.methodLink "VersorhallLaw" (204 : Nat) ({ cls := "VersorhallLaw", name := "text", desc := "(LVersorhall;ILVersorhallLaw$Out;)I" } : Jvm.MethodName)) ∈ lw_all := lw_g (lw_at lw_m6 156 rfl) rfl
theorem q1418 : (Jvm.Cond.static ({ cls := "VersorhallLaw", name := "text", desc := "(LVersorhall;ILVersorhallLaw$Out;)I" } : Jvm.MethodName)) ∈ lw_all := lw_g (lw_at lw_m6 157 rfl) rfl
theorem q1419 : (Jvm.Cond.codeWith ({ cls := "VersorhallLaw", name := "text", desc := "(LVersorhall;ILVersorhallLaw$Out;)I" } : Jvm.MethodName) method_23_code (4 : Nat) (Option.some Jvm.ClassFile.FieldType.int) [((0 : Nat), (9 : Nat), (12 : Nat), (30 : Nat))]) ∈ lw_all := lw_g (lw_at lw_m6 158 rfl) rfl
theorem q1420 : (Jvm.Cond.methodLink "VersorhallLaw" (87 : Nat) ({ cls := "Versorhall", name := "text", desc := "(I)Ljava/lang/String;" } : Jvm.MethodName)) ∈ lw_all := lw_g (lw_at lw_m6 159 rfl) rfl
theorem q1424 : (Jvm.Cond.methodLink "VersorhallLaw" (213 : Nat) ({ cls := "VersorhallLaw", name := "ofAlgebra", desc := "(LVersorhall;IILVersorhallLaw$Out;)I" } : Jvm.MethodName)) ∈ lw_all := lw_g (lw_at lw_m6 163 rfl) rfl
theorem q1425 : (Jvm.Cond.static ({ cls := "VersorhallLaw", name := "ofAlgebra", desc := "(LVersorhall;IILVersorhallLaw$Out;)I" } : Jvm.MethodName)) ∈ lw_all := lw_g (lw_at lw_m6 164 rfl) rfl
theorem q1426 : (Jvm.Cond.codeWith ({ cls := "VersorhallLaw", name := "ofAlgebra", desc := "(LVersorhall;IILVersorhallLaw$Out;)I" } : Jvm.MethodName) method_24_code (5 : Nat) (Option.some Jvm.ClassFile.FieldType.int) [((0 : Nat), (11 : Nat), (14 : Nat), (30 : Nat)), ((0 : Nat), (11 : Nat), (18 : Nat), (19 : Nat))]) ∈ lw_all := lw_g (lw_at lw_m6 165 rfl) rfl
theorem q1427 : (Jvm.Cond.methodLink "VersorhallLaw" (95 : Nat) ({ cls := "Versorhall", name := "ofAlgebra", desc := "(II)I" } : Jvm.MethodName)) ∈ lw_all := lw_g (lw_at lw_m6 166 rfl) rfl
theorem q1431 : (Jvm.Cond.methodLink "VersorhallLaw" (216 : Nat) ({ cls := "VersorhallLaw", name := "sign", desc := "(LVersorhall;IIILVersorhallLaw$Out;)I" } : Jvm.MethodName)) ∈ lw_all := lw_g (lw_at lw_m6 170 rfl) rfl
theorem q1432 : (Jvm.Cond.static ({ cls := "VersorhallLaw", name := "sign", desc := "(LVersorhall;IIILVersorhallLaw$Out;)I" } : Jvm.MethodName)) ∈ lw_all := lw_g (lw_at lw_m6 171 rfl) rfl
theorem q1433 : (Jvm.Cond.codeWith ({ cls := "VersorhallLaw", name := "sign", desc := "(LVersorhall;IIILVersorhallLaw$Out;)I" } : Jvm.MethodName) method_25_code (6 : Nat) (Option.some Jvm.ClassFile.FieldType.int) [((0 : Nat), (13 : Nat), (16 : Nat), (30 : Nat))]) ∈ lw_all := lw_g (lw_at lw_m6 172 rfl) rfl
theorem q1434 : (Jvm.Cond.methodLink "VersorhallLaw" (98 : Nat) ({ cls := "Versorhall", name := "sign", desc := "(III)I" } : Jvm.MethodName)) ∈ lw_all := lw_g (lw_at lw_m6 173 rfl) rfl
theorem q1438 : (Jvm.Cond.methodLink "VersorhallLaw" (219 : Nat) ({ cls := "VersorhallLaw", name := "breaks", desc := "(LVersorhall;IILVersorhallLaw$Out;)I" } : Jvm.MethodName)) ∈ lw_all := lw_g (lw_at lw_m6 177 rfl) rfl
theorem q1439 : (Jvm.Cond.static ({ cls := "VersorhallLaw", name := "breaks", desc := "(LVersorhall;IILVersorhallLaw$Out;)I" } : Jvm.MethodName)) ∈ lw_all := lw_g (lw_at lw_m6 178 rfl) rfl
theorem q1440 : (Jvm.Cond.codeWith ({ cls := "VersorhallLaw", name := "breaks", desc := "(LVersorhall;IILVersorhallLaw$Out;)I" } : Jvm.MethodName) method_26_code (5 : Nat) (Option.some Jvm.ClassFile.FieldType.int) [((0 : Nat), (11 : Nat), (14 : Nat), (30 : Nat))]) ∈ lw_all := lw_g (lw_at lw_m6 179 rfl) rfl
theorem q1441 : (Jvm.Cond.methodLink "VersorhallLaw" (101 : Nat) ({ cls := "Versorhall", name := "breaks", desc := "(II)I" } : Jvm.MethodName)) ∈ lw_all := lw_g (lw_at lw_m6 180 rfl) rfl
theorem q1445 : (Jvm.Cond.methodLink "VersorhallLaw" (227 : Nat) ({ cls := "VersorhallLaw", name := "lean", desc := "(LVersorhall;ILVersorhallLaw$Out;)I" } : Jvm.MethodName)) ∈ lw_all := lw_g (lw_at lw_m6 184 rfl) rfl
theorem q1446 : (Jvm.Cond.static ({ cls := "VersorhallLaw", name := "lean", desc := "(LVersorhall;ILVersorhallLaw$Out;)I" } : Jvm.MethodName)) ∈ lw_all := lw_g (lw_at lw_m6 185 rfl) rfl
theorem q1447 : (Jvm.Cond.codeWith ({ cls := "VersorhallLaw", name := "lean", desc := "(LVersorhall;ILVersorhallLaw$Out;)I" } : Jvm.MethodName) method_27_code (4 : Nat) (Option.some Jvm.ClassFile.FieldType.int) [((0 : Nat), (9 : Nat), (12 : Nat), (30 : Nat))]) ∈ lw_all := lw_g (lw_at lw_m6 186 rfl) rfl
theorem q1448 : (Jvm.Cond.methodLink "VersorhallLaw" (104 : Nat) ({ cls := "Versorhall", name := "lean", desc := "(I)D" } : Jvm.MethodName)) ∈ lw_all := lw_g (lw_at lw_m6 187 rfl) rfl
theorem q1452 : (Jvm.Cond.methodLink "VersorhallLaw" (234 : Nat) ({ cls := "VersorhallLaw", name := "many", desc := "(LVersorhall;ILVersorhallLaw$Out;)I" } : Jvm.MethodName)) ∈ lw_all := lw_g (lw_at lw_m6 191 rfl) rfl
theorem q1453 : (Jvm.Cond.static ({ cls := "VersorhallLaw", name := "many", desc := "(LVersorhall;ILVersorhallLaw$Out;)I" } : Jvm.MethodName)) ∈ lw_all := lw_g (lw_at lw_m6 192 rfl) rfl
theorem q1454 : (Jvm.Cond.codeWith ({ cls := "VersorhallLaw", name := "many", desc := "(LVersorhall;ILVersorhallLaw$Out;)I" } : Jvm.MethodName) method_28_code (4 : Nat) (Option.some Jvm.ClassFile.FieldType.int) [((0 : Nat), (10 : Nat), (13 : Nat), (19 : Nat))]) ∈ lw_all := lw_g (lw_at lw_m6 193 rfl) rfl
theorem q1455 : (Jvm.Cond.methodLink "VersorhallLaw" (112 : Nat) ({ cls := "Versorhall", name := "many", desc := "(I)I" } : Jvm.MethodName)) ∈ lw_all := lw_g (lw_at lw_m6 194 rfl) rfl
theorem q1459 : (Jvm.Cond.methodLink "VersorhallLaw" (237 : Nat) ({ cls := "VersorhallLaw", name := "apart", desc := "(LVersorhall;IILVersorhallLaw$Out;)I" } : Jvm.MethodName)) ∈ lw_all := lw_g (lw_at lw_m6 198 rfl) rfl
theorem q1460 : (Jvm.Cond.static ({ cls := "VersorhallLaw", name := "apart", desc := "(LVersorhall;IILVersorhallLaw$Out;)I" } : Jvm.MethodName)) ∈ lw_all := lw_g (lw_at lw_m6 199 rfl) rfl
theorem q1461 : (Jvm.Cond.codeWith ({ cls := "VersorhallLaw", name := "apart", desc := "(LVersorhall;IILVersorhallLaw$Out;)I" } : Jvm.MethodName) method_29_code (5 : Nat) (Option.some Jvm.ClassFile.FieldType.int) [((0 : Nat), (11 : Nat), (14 : Nat), (30 : Nat)), ((0 : Nat), (11 : Nat), (18 : Nat), (19 : Nat))]) ∈ lw_all := lw_g (lw_at lw_m6 200 rfl) rfl
theorem q1462 : (Jvm.Cond.methodLink "VersorhallLaw" (115 : Nat) ({ cls := "Versorhall", name := "apart", desc := "(II)I" } : Jvm.MethodName)) ∈ lw_all := lw_g (lw_at lw_m6 201 rfl) rfl
theorem q1466 : (Jvm.Cond.methodLink "VersorhallLaw" (240 : Nat) ({ cls := "VersorhallLaw", name := "row", desc := "(LVersorhall;IILVersorhallLaw$Out;)I" } : Jvm.MethodName)) ∈ lw_all := lw_g (lw_at lw_m6 205 rfl) rfl
theorem q1467 : (Jvm.Cond.static ({ cls := "VersorhallLaw", name := "row", desc := "(LVersorhall;IILVersorhallLaw$Out;)I" } : Jvm.MethodName)) ∈ lw_all := lw_g (lw_at lw_m6 206 rfl) rfl
theorem q1468 : (Jvm.Cond.codeWith ({ cls := "VersorhallLaw", name := "row", desc := "(LVersorhall;IILVersorhallLaw$Out;)I" } : Jvm.MethodName) method_30_code (5 : Nat) (Option.some Jvm.ClassFile.FieldType.int) [((0 : Nat), (11 : Nat), (14 : Nat), (30 : Nat)), ((0 : Nat), (11 : Nat), (18 : Nat), (19 : Nat))]) ∈ lw_all := lw_g (lw_at lw_m6 207 rfl) rfl
theorem q1469 : (Jvm.Cond.methodLink "VersorhallLaw" (118 : Nat) ({ cls := "Versorhall", name := "row", desc := "(II)I" } : Jvm.MethodName)) ∈ lw_all := lw_g (lw_at lw_m6 208 rfl) rfl
theorem q1473 : (Jvm.Cond.methodLink "VersorhallLaw" (243 : Nat) ({ cls := "VersorhallLaw", name := "match", desc := "(LVersorhall;IILVersorhallLaw$Out;)I" } : Jvm.MethodName)) ∈ lw_all := lw_g (lw_at lw_m6 212 rfl) rfl
theorem q1474 : (Jvm.Cond.static ({ cls := "VersorhallLaw", name := "match", desc := "(LVersorhall;IILVersorhallLaw$Out;)I" } : Jvm.MethodName)) ∈ lw_all := lw_g (lw_at lw_m6 213 rfl) rfl
theorem q1475 : (Jvm.Cond.codeWith ({ cls := "VersorhallLaw", name := "match", desc := "(LVersorhall;IILVersorhallLaw$Out;)I" } : Jvm.MethodName) method_31_code (5 : Nat) (Option.some Jvm.ClassFile.FieldType.int) [((0 : Nat), (11 : Nat), (14 : Nat), (30 : Nat))]) ∈ lw_all := lw_g (lw_at lw_m6 214 rfl) rfl
theorem q1476 : (Jvm.Cond.methodLink "VersorhallLaw" (121 : Nat) ({ cls := "Versorhall", name := "match", desc := "(II)I" } : Jvm.MethodName)) ∈ lw_all := lw_g (lw_at lw_m6 215 rfl) rfl
theorem q1480 : (Jvm.Cond.methodLink "VersorhallLaw" (246 : Nat) ({ cls := "VersorhallLaw", name := "scaleOf", desc := "(LVersorhall;IIILVersorhallLaw$Out;)I" } : Jvm.MethodName)) ∈ lw_all := lw_g (lw_at lw_m6 219 rfl) rfl
theorem q1481 : (Jvm.Cond.static ({ cls := "VersorhallLaw", name := "scaleOf", desc := "(LVersorhall;IIILVersorhallLaw$Out;)I" } : Jvm.MethodName)) ∈ lw_all := lw_g (lw_at lw_m6 220 rfl) rfl
theorem q1482 : (Jvm.Cond.codeWith ({ cls := "VersorhallLaw", name := "scaleOf", desc := "(LVersorhall;IIILVersorhallLaw$Out;)I" } : Jvm.MethodName) method_32_code (6 : Nat) (Option.some Jvm.ClassFile.FieldType.int) [((0 : Nat), (13 : Nat), (16 : Nat), (30 : Nat))]) ∈ lw_all := lw_g (lw_at lw_m6 221 rfl) rfl
theorem q1483 : (Jvm.Cond.methodLink "VersorhallLaw" (124 : Nat) ({ cls := "Versorhall", name := "scaleOf", desc := "(III)I" } : Jvm.MethodName)) ∈ lw_all := lw_g (lw_at lw_m6 222 rfl) rfl
theorem q1487 : (Jvm.Cond.classLink "VersorhallLaw" (128 : Nat) "VersorhallModel") ∈ lw_all := lw_g (lw_at lw_m6 226 rfl) rfl
theorem q1489 : (Jvm.Cond.methodLink "VersorhallLaw" (130 : Nat) ({ cls := "VersorhallModel", name := "<init>", desc := "()V" } : Jvm.MethodName)) ∈ lw_all := lw_g (lw_at lw_m6 228 rfl) rfl
theorem q1512 : (Jvm.Cond.methodLink "VersorhallLaw" (138 : Nat) ({ cls := "VersorhallModel", name := "thrown", desc := "()I" } : Jvm.MethodName)) ∈ lw_all := lw_g (lw_at lw_m7 11 rfl) rfl
theorem q1516 : (Jvm.Cond.methodLink "VersorhallLaw" (137 : Nat) ({ cls := "VersorhallModel", name := "prime", desc := "(I)I" } : Jvm.MethodName)) ∈ lw_all := lw_g (lw_at lw_m7 15 rfl) rfl
theorem q1532 : (Jvm.Cond.methodLink "VersorhallLaw" (144 : Nat) ({ cls := "VersorhallModel", name := "algebra", desc := "(I)I" } : Jvm.MethodName)) ∈ lw_all := lw_g (lw_at lw_m7 31 rfl) rfl
theorem q1579 : (Jvm.Cond.methodLink "VersorhallLaw" (148 : Nat) ({ cls := "VersorhallModel", name := "dial", desc := "(II)I" } : Jvm.MethodName)) ∈ lw_all := lw_g (lw_at lw_m7 78 rfl) rfl
theorem q1628 : (Jvm.Cond.methodLink "VersorhallLaw" (151 : Nat) ({ cls := "VersorhallModel", name := "element", desc := "(I)I" } : Jvm.MethodName)) ∈ lw_all := lw_g (lw_at lw_m7 127 rfl) rfl
theorem q1646 : (Jvm.Cond.methodLink "VersorhallLaw" (155 : Nat) ({ cls := "VersorhallModel", name := "set", desc := "(III)I" } : Jvm.MethodName)) ∈ lw_all := lw_g (lw_at lw_m7 145 rfl) rfl
theorem q1658 : (Jvm.Cond.methodLink "VersorhallLaw" (158 : Nat) ({ cls := "VersorhallModel", name := "sum", desc := "(III)I" } : Jvm.MethodName)) ∈ lw_all := lw_g (lw_at lw_m7 157 rfl) rfl
theorem q1678 : (Jvm.Cond.methodLink "VersorhallLaw" (161 : Nat) ({ cls := "VersorhallModel", name := "product", desc := "(III)I" } : Jvm.MethodName)) ∈ lw_all := lw_g (lw_at lw_m7 177 rfl) rfl
theorem q1690 : (Jvm.Cond.methodLink "VersorhallLaw" (164 : Nat) ({ cls := "VersorhallModel", name := "scale", desc := "(III)I" } : Jvm.MethodName)) ∈ lw_all := lw_g (lw_at lw_m7 189 rfl) rfl
theorem q1698 : (Jvm.Cond.methodLink "VersorhallLaw" (167 : Nat) ({ cls := "VersorhallModel", name := "conjugate", desc := "(II)I" } : Jvm.MethodName)) ∈ lw_all := lw_g (lw_at lw_m7 197 rfl) rfl
theorem q1706 : (Jvm.Cond.methodLink "VersorhallLaw" (170 : Nat) ({ cls := "VersorhallModel", name := "power", desc := "(III)I" } : Jvm.MethodName)) ∈ lw_all := lw_g (lw_at lw_m7 205 rfl) rfl
theorem q1719 : (Jvm.Cond.methodLink "VersorhallLaw" (173 : Nat) ({ cls := "VersorhallModel", name := "invert", desc := "(II)I" } : Jvm.MethodName)) ∈ lw_all := lw_g (lw_at lw_m7 218 rfl) rfl
theorem q1730 : (Jvm.Cond.methodLink "VersorhallLaw" (176 : Nat) ({ cls := "VersorhallModel", name := "series", desc := "(II)I" } : Jvm.MethodName)) ∈ lw_all := lw_g (lw_at lw_m7 229 rfl) rfl
theorem q1739 : (Jvm.Cond.methodLink "VersorhallLaw" (179 : Nat) ({ cls := "VersorhallModel", name := "killer", desc := "(II)I" } : Jvm.MethodName)) ∈ lw_all := lw_g (lw_at lw_m7 238 rfl) rfl
theorem q1757 : (Jvm.Cond.methodLink "VersorhallLaw" (182 : Nat) ({ cls := "VersorhallModel", name := "hang", desc := "(I)I" } : Jvm.MethodName)) ∈ lw_all := lw_g (lw_at lw_m8 16 rfl) rfl
theorem q1770 : (Jvm.Cond.methodLink "VersorhallLaw" (185 : Nat) ({ cls := "VersorhallModel", name := "clear", desc := "(I)I" } : Jvm.MethodName)) ∈ lw_all := lw_g (lw_at lw_m8 29 rfl) rfl
theorem q1781 : (Jvm.Cond.methodLink "VersorhallLaw" (188 : Nat) ({ cls := "VersorhallModel", name := "mirror", desc := "(III)I" } : Jvm.MethodName)) ∈ lw_all := lw_g (lw_at lw_m8 40 rfl) rfl
theorem q1791 : (Jvm.Cond.methodLink "VersorhallLaw" (191 : Nat) ({ cls := "VersorhallModel", name := "turn", desc := "(II)I" } : Jvm.MethodName)) ∈ lw_all := lw_g (lw_at lw_m8 50 rfl) rfl
theorem q1795 : (Jvm.Cond.methodLink "VersorhallLaw" (194 : Nat) ({ cls := "VersorhallModel", name := "versor", desc := "(I)I" } : Jvm.MethodName)) ∈ lw_all := lw_g (lw_at lw_m8 54 rfl) rfl
theorem q1799 : (Jvm.Cond.methodLink "VersorhallLaw" (197 : Nat) ({ cls := "VersorhallModel", name := "run", desc := "(II)I" } : Jvm.MethodName)) ∈ lw_all := lw_g (lw_at lw_m8 58 rfl) rfl
theorem q1803 : (Jvm.Cond.methodLink "VersorhallLaw" (200 : Nat) ({ cls := "VersorhallModel", name := "at", desc := "(II)I" } : Jvm.MethodName)) ∈ lw_all := lw_g (lw_at lw_m8 62 rfl) rfl
theorem q1807 : (Jvm.Cond.methodLink "VersorhallLaw" (203 : Nat) ({ cls := "VersorhallModel", name := "ofElement", desc := "(II)I" } : Jvm.MethodName)) ∈ lw_all := lw_g (lw_at lw_m8 66 rfl) rfl
theorem q1826 : (Jvm.Cond.methodLink "VersorhallLaw" (206 : Nat) ({ cls := "VersorhallModel", name := "text", desc := "(I)Ljava/lang/String;" } : Jvm.MethodName)) ∈ lw_all := lw_g (lw_at lw_m8 85 rfl) rfl
theorem q1842 : (Jvm.Cond.methodLink "VersorhallLaw" (215 : Nat) ({ cls := "VersorhallModel", name := "ofAlgebra", desc := "(II)I" } : Jvm.MethodName)) ∈ lw_all := lw_g (lw_at lw_m8 101 rfl) rfl
theorem q1858 : (Jvm.Cond.methodLink "VersorhallLaw" (218 : Nat) ({ cls := "VersorhallModel", name := "sign", desc := "(III)I" } : Jvm.MethodName)) ∈ lw_all := lw_g (lw_at lw_m8 117 rfl) rfl
theorem q1862 : (Jvm.Cond.methodLink "VersorhallLaw" (221 : Nat) ({ cls := "VersorhallModel", name := "breaks", desc := "(II)I" } : Jvm.MethodName)) ∈ lw_all := lw_g (lw_at lw_m8 121 rfl) rfl
theorem q1870 : (Jvm.Cond.methodLink "VersorhallLaw" (226 : Nat) ({ cls := "VersorhallModel", name := "meanSize", desc := "()D" } : Jvm.MethodName)) ∈ lw_all := lw_g (lw_at lw_m8 129 rfl) rfl
theorem q1874 : (Jvm.Cond.methodLink "VersorhallLaw" (229 : Nat) ({ cls := "VersorhallModel", name := "lean", desc := "(I)D" } : Jvm.MethodName)) ∈ lw_all := lw_g (lw_at lw_m8 133 rfl) rfl
theorem q1883 : (Jvm.Cond.methodLink "VersorhallLaw" (233 : Nat) ({ cls := "VersorhallModel", name := "poise", desc := "()D" } : Jvm.MethodName)) ∈ lw_all := lw_g (lw_at lw_m8 142 rfl) rfl
theorem q1894 : (Jvm.Cond.methodLink "VersorhallLaw" (236 : Nat) ({ cls := "VersorhallModel", name := "many", desc := "(I)I" } : Jvm.MethodName)) ∈ lw_all := lw_g (lw_at lw_m8 153 rfl) rfl
theorem q1902 : (Jvm.Cond.methodLink "VersorhallLaw" (239 : Nat) ({ cls := "VersorhallModel", name := "apart", desc := "(II)I" } : Jvm.MethodName)) ∈ lw_all := lw_g (lw_at lw_m8 161 rfl) rfl
theorem q1906 : (Jvm.Cond.methodLink "VersorhallLaw" (242 : Nat) ({ cls := "VersorhallModel", name := "row", desc := "(II)I" } : Jvm.MethodName)) ∈ lw_all := lw_g (lw_at lw_m8 165 rfl) rfl
theorem q1918 : (Jvm.Cond.methodLink "VersorhallLaw" (245 : Nat) ({ cls := "VersorhallModel", name := "match", desc := "(II)I" } : Jvm.MethodName)) ∈ lw_all := lw_g (lw_at lw_m8 177 rfl) rfl
theorem q1934 : (Jvm.Cond.methodLink "VersorhallLaw" (248 : Nat) ({ cls := "VersorhallModel", name := "scaleOf", desc := "(III)I" } : Jvm.MethodName)) ∈ lw_all := lw_g (lw_at lw_m8 193 rfl) rfl
theorem q1938 : (Jvm.Cond.methodLink "VersorhallLaw" (253 : Nat) ({ cls := "VersorhallModel", name := "digest", desc := "()J" } : Jvm.MethodName)) ∈ lw_all := lw_g (lw_at lw_m8 197 rfl) rfl
theorem q1945 : (Jvm.Cond.methodLink "VersorhallLaw" (207 : Nat) ({ cls := "java/lang/String", name := "equals", desc := "(Ljava/lang/Object;)Z" } : Jvm.MethodName)) ∈ lw_all := lw_g (lw_at lw_m8 204 rfl) rfl
/-! the law's own entry -/
set_option maxRecDepth 100000
abbrev cL_law : ByteArray := code
def dkwL_law_100 : List UInt8 := [172]
abbrev dktL_law_100 : List UInt8 := dkwL_law_100 ++ []
def dkwL_law_99 : List UInt8 := [167, 0, 17, 43, 182, 0, 249, 44, 182, 0, 253, 148, 153, 0, 5, 3, 172, 132, 4, 4, 167, 246, 149, 4]
abbrev dktL_law_99 : List UInt8 := dkwL_law_99 ++ dktL_law_100
def dkwL_law_98 : List UInt8 := [159, 0, 5, 3, 172, 21, 5, 154, 0, 16, 45, 180, 0, 13, 21, 6, 133, 148, 153, 0, 5, 3, 172]
abbrev dktL_law_98 : List UInt8 := dkwL_law_98 ++ dktL_law_99
def dkwL_law_97 : List UInt8 := [42, 21, 4, 5, 96, 46, 42, 21, 4, 6, 96, 46, 182, 0, 248, 54, 6, 44, 182, 0, 138, 21, 5]
abbrev dktL_law_97 : List UInt8 := dkwL_law_97 ++ dktL_law_98
def dkwL_law_96 : List UInt8 := [21, 4, 5, 96, 46, 42, 21, 4, 6, 96, 46, 45, 184, 0, 246, 54, 5, 44, 42, 21, 4, 4, 96, 46]
abbrev dktL_law_96 : List UInt8 := dkwL_law_96 ++ dktL_law_97
def dkwL_law_95 : List UInt8 := [180, 0, 13, 21, 6, 133, 148, 153, 0, 5, 3, 172, 167, 0, 98, 43, 42, 21, 4, 4, 96, 46, 42]
abbrev dktL_law_95 : List UInt8 := dkwL_law_95 ++ dktL_law_96
def dkwL_law_94 : List UInt8 := [182, 0, 245, 54, 6, 44, 182, 0, 138, 21, 5, 159, 0, 5, 3, 172, 21, 5, 154, 0, 16, 45]
abbrev dktL_law_94 : List UInt8 := dkwL_law_94 ++ dktL_law_95
def dkwL_law_93 : List UInt8 := [21, 4, 5, 96, 46, 45, 184, 0, 243, 54, 5, 44, 42, 21, 4, 4, 96, 46, 42, 21, 4, 5, 96, 46]
abbrev dktL_law_93 : List UInt8 := dkwL_law_93 ++ dktL_law_94
def dkwL_law_92 : List UInt8 := [45, 180, 0, 13, 21, 6, 133, 148, 153, 0, 5, 3, 172, 167, 0, 167, 43, 42, 21, 4, 4, 96, 46, 42]
abbrev dktL_law_92 : List UInt8 := dkwL_law_92 ++ dktL_law_93
def dkwL_law_91 : List UInt8 := [5, 96, 46, 182, 0, 242, 54, 6, 44, 182, 0, 138, 21, 5, 159, 0, 5, 3, 172, 21, 5, 154, 0, 16]
abbrev dktL_law_91 : List UInt8 := dkwL_law_91 ++ dktL_law_92
def dkwL_law_90 : List UInt8 := [96, 46, 42, 21, 4, 5, 96, 46, 45, 184, 0, 240, 54, 5, 44, 42, 21, 4, 4, 96, 46, 42, 21, 4]
abbrev dktL_law_90 : List UInt8 := dkwL_law_90 ++ dktL_law_91
def dkwL_law_89 : List UInt8 := [154, 0, 16, 45, 180, 0, 13, 21, 6, 133, 148, 153, 0, 5, 3, 172, 167, 0, 236, 43, 42, 21, 4, 4]
abbrev dktL_law_89 : List UInt8 := dkwL_law_89 ++ dktL_law_90
def dkwL_law_88 : List UInt8 := [42, 21, 4, 5, 96, 46, 182, 0, 239, 54, 6, 44, 182, 0, 138, 21, 5, 159, 0, 5, 3, 172, 21, 5]
abbrev dktL_law_88 : List UInt8 := dkwL_law_88 ++ dktL_law_89
def dkwL_law_87 : List UInt8 := [21, 4, 4, 96, 46, 42, 21, 4, 5, 96, 46, 45, 184, 0, 237, 54, 5, 44, 42, 21, 4, 4, 96, 46]
abbrev dktL_law_87 : List UInt8 := dkwL_law_87 ++ dktL_law_88
def dkwL_law_86 : List UInt8 := [21, 5, 154, 0, 16, 45, 180, 0, 13, 21, 6, 133, 148, 153, 0, 5, 3, 172, 167, 1, 49, 43, 42]
abbrev dktL_law_86 : List UInt8 := dkwL_law_86 ++ dktL_law_87
def dkwL_law_85 : List UInt8 := [44, 42, 21, 4, 4, 96, 46, 182, 0, 236, 54, 6, 44, 182, 0, 138, 21, 5, 159, 0, 5, 3, 172]
abbrev dktL_law_85 : List UInt8 := dkwL_law_85 ++ dktL_law_86
def dkwL_law_84 : List UInt8 := [24, 7, 151, 154, 0, 5, 3, 172, 167, 1, 106, 43, 42, 21, 4, 4, 96, 46, 45, 184, 0, 234, 54, 5]
abbrev dktL_law_84 : List UInt8 := dkwL_law_84 ++ dktL_law_85
def dkwL_law_83 : List UInt8 := [182, 0, 233, 57, 7, 24, 5, 24, 7, 151, 153, 0, 21, 24, 5, 24, 5, 151, 153, 0, 11, 24, 7]
abbrev dktL_law_83 : List UInt8 := dkwL_law_83 ++ dktL_law_84
def dkwL_law_82 : List UInt8 := [153, 0, 11, 24, 6, 24, 6, 151, 154, 0, 5, 3, 172, 167, 1, 147, 43, 182, 0, 230, 57, 5, 44]
abbrev dktL_law_82 : List UInt8 := dkwL_law_82 ++ dktL_law_83
def dkwL_law_81 : List UInt8 := [21, 5, 154, 0, 35, 45, 180, 0, 108, 24, 6, 151, 153, 0, 25, 45, 180, 0, 108, 45, 180, 0, 108, 151]
abbrev dktL_law_81 : List UInt8 := dkwL_law_81 ++ dktL_law_82
def dkwL_law_80 : List UInt8 := [44, 42, 21, 4, 4, 96, 46, 182, 0, 229, 57, 6, 44, 182, 0, 138, 21, 5, 159, 0, 5, 3, 172]
abbrev dktL_law_80 : List UInt8 := dkwL_law_80 ++ dktL_law_81
def dkwL_law_79 : List UInt8 := [24, 7, 151, 154, 0, 5, 3, 172, 167, 1, 223, 43, 42, 21, 4, 4, 96, 46, 45, 184, 0, 227, 54, 5]
abbrev dktL_law_79 : List UInt8 := dkwL_law_79 ++ dktL_law_80
def dkwL_law_78 : List UInt8 := [182, 0, 226, 57, 7, 24, 5, 24, 7, 151, 153, 0, 21, 24, 5, 24, 5, 151, 153, 0, 11, 24, 7]
abbrev dktL_law_78 : List UInt8 := dkwL_law_78 ++ dktL_law_79
def dkwL_law_77 : List UInt8 := [180, 0, 13, 21, 6, 133, 148, 153, 0, 5, 3, 172, 167, 2, 8, 43, 182, 0, 222, 57, 5, 44]
abbrev dktL_law_77 : List UInt8 := dkwL_law_77 ++ dktL_law_78
def dkwL_law_76 : List UInt8 := [182, 0, 221, 54, 6, 44, 182, 0, 138, 21, 5, 159, 0, 5, 3, 172, 21, 5, 154, 0, 16, 45]
abbrev dktL_law_76 : List UInt8 := dkwL_law_76 ++ dktL_law_77
def dkwL_law_75 : List UInt8 := [21, 4, 5, 96, 46, 45, 184, 0, 219, 54, 5, 44, 42, 21, 4, 4, 96, 46, 42, 21, 4, 5, 96, 46]
abbrev dktL_law_75 : List UInt8 := dkwL_law_75 ++ dktL_law_76
def dkwL_law_74 : List UInt8 := [180, 0, 13, 21, 6, 133, 148, 153, 0, 5, 3, 172, 167, 2, 77, 43, 42, 21, 4, 4, 96, 46, 42]
abbrev dktL_law_74 : List UInt8 := dkwL_law_74 ++ dktL_law_75
def dkwL_law_73 : List UInt8 := [182, 0, 218, 54, 6, 44, 182, 0, 138, 21, 5, 159, 0, 5, 3, 172, 21, 5, 154, 0, 16, 45]
abbrev dktL_law_73 : List UInt8 := dkwL_law_73 ++ dktL_law_74
def dkwL_law_72 : List UInt8 := [184, 0, 216, 54, 5, 44, 42, 21, 4, 4, 96, 46, 42, 21, 4, 5, 96, 46, 42, 21, 4, 6, 96, 46]
abbrev dktL_law_72 : List UInt8 := dkwL_law_72 ++ dktL_law_73
def dkwL_law_71 : List UInt8 := [167, 2, 158, 43, 42, 21, 4, 4, 96, 46, 42, 21, 4, 5, 96, 46, 42, 21, 4, 6, 96, 46, 45]
abbrev dktL_law_71 : List UInt8 := dkwL_law_71 ++ dktL_law_72
def dkwL_law_70 : List UInt8 := [159, 0, 5, 3, 172, 21, 5, 154, 0, 16, 45, 180, 0, 13, 21, 6, 133, 148, 153, 0, 5, 3, 172]
abbrev dktL_law_70 : List UInt8 := dkwL_law_70 ++ dktL_law_71
def dkwL_law_69 : List UInt8 := [21, 4, 4, 96, 46, 42, 21, 4, 5, 96, 46, 182, 0, 215, 54, 6, 44, 182, 0, 138, 21, 5]
abbrev dktL_law_69 : List UInt8 := dkwL_law_69 ++ dktL_law_70
def dkwL_law_68 : List UInt8 := [167, 2, 227, 43, 42, 21, 4, 4, 96, 46, 42, 21, 4, 5, 96, 46, 45, 184, 0, 213, 54, 5, 44, 42]
abbrev dktL_law_68 : List UInt8 := dkwL_law_68 ++ dktL_law_69
def dkwL_law_67 : List UInt8 := [159, 0, 5, 3, 172, 21, 5, 154, 0, 17, 45, 180, 0, 91, 25, 6, 182, 0, 207, 154, 0, 5, 3, 172]
abbrev dktL_law_67 : List UInt8 := dkwL_law_67 ++ dktL_law_68
def dkwL_law_66 : List UInt8 := [184, 0, 204, 54, 5, 44, 42, 21, 4, 4, 96, 46, 182, 0, 206, 58, 6, 44, 182, 0, 138, 21, 5]
abbrev dktL_law_66 : List UInt8 := dkwL_law_66 ++ dktL_law_67
def dkwL_law_65 : List UInt8 := [180, 0, 13, 21, 6, 133, 148, 153, 0, 5, 3, 172, 167, 3, 29, 43, 42, 21, 4, 4, 96, 46, 45]
abbrev dktL_law_65 : List UInt8 := dkwL_law_65 ++ dktL_law_66
def dkwL_law_64 : List UInt8 := [182, 0, 203, 54, 6, 44, 182, 0, 138, 21, 5, 159, 0, 5, 3, 172, 21, 5, 154, 0, 16, 45]
abbrev dktL_law_64 : List UInt8 := dkwL_law_64 ++ dktL_law_65
def dkwL_law_63 : List UInt8 := [21, 4, 5, 96, 46, 45, 184, 0, 201, 54, 5, 44, 42, 21, 4, 4, 96, 46, 42, 21, 4, 5, 96, 46]
abbrev dktL_law_63 : List UInt8 := dkwL_law_63 ++ dktL_law_64
def dkwL_law_62 : List UInt8 := [180, 0, 13, 21, 6, 133, 148, 153, 0, 5, 3, 172, 167, 3, 98, 43, 42, 21, 4, 4, 96, 46, 42]
abbrev dktL_law_62 : List UInt8 := dkwL_law_62 ++ dktL_law_63
def dkwL_law_61 : List UInt8 := [182, 0, 200, 54, 6, 44, 182, 0, 138, 21, 5, 159, 0, 5, 3, 172, 21, 5, 154, 0, 16, 45]
abbrev dktL_law_61 : List UInt8 := dkwL_law_61 ++ dktL_law_62
def dkwL_law_60 : List UInt8 := [21, 4, 5, 96, 46, 45, 184, 0, 198, 54, 5, 44, 42, 21, 4, 4, 96, 46, 42, 21, 4, 5, 96, 46]
abbrev dktL_law_60 : List UInt8 := dkwL_law_60 ++ dktL_law_61
def dkwL_law_59 : List UInt8 := [180, 0, 13, 21, 6, 133, 148, 153, 0, 5, 3, 172, 167, 3, 167, 43, 42, 21, 4, 4, 96, 46, 42]
abbrev dktL_law_59 : List UInt8 := dkwL_law_59 ++ dktL_law_60
def dkwL_law_58 : List UInt8 := [182, 0, 197, 54, 6, 44, 182, 0, 138, 21, 5, 159, 0, 5, 3, 172, 21, 5, 154, 0, 16, 45]
abbrev dktL_law_58 : List UInt8 := dkwL_law_58 ++ dktL_law_59
def dkwL_law_57 : List UInt8 := [21, 4, 5, 96, 46, 45, 184, 0, 195, 54, 5, 44, 42, 21, 4, 4, 96, 46, 42, 21, 4, 5, 96, 46]
abbrev dktL_law_57 : List UInt8 := dkwL_law_57 ++ dktL_law_58
def dkwL_law_56 : List UInt8 := [180, 0, 13, 21, 6, 133, 148, 153, 0, 5, 3, 172, 167, 3, 236, 43, 42, 21, 4, 4, 96, 46, 42]
abbrev dktL_law_56 : List UInt8 := dkwL_law_56 ++ dktL_law_57
def dkwL_law_55 : List UInt8 := [182, 0, 194, 54, 6, 44, 182, 0, 138, 21, 5, 159, 0, 5, 3, 172, 21, 5, 154, 0, 16, 45]
abbrev dktL_law_55 : List UInt8 := dkwL_law_55 ++ dktL_law_56
def dkwL_law_54 : List UInt8 := [167, 4, 37, 43, 42, 21, 4, 4, 96, 46, 45, 184, 0, 192, 54, 5, 44, 42, 21, 4, 4, 96, 46]
abbrev dktL_law_54 : List UInt8 := dkwL_law_54 ++ dktL_law_55
def dkwL_law_53 : List UInt8 := [159, 0, 5, 3, 172, 21, 5, 154, 0, 16, 45, 180, 0, 13, 21, 6, 133, 148, 153, 0, 5, 3, 172]
abbrev dktL_law_53 : List UInt8 := dkwL_law_53 ++ dktL_law_54
def dkwL_law_52 : List UInt8 := [21, 4, 4, 96, 46, 42, 21, 4, 5, 96, 46, 182, 0, 191, 54, 6, 44, 182, 0, 138, 21, 5]
abbrev dktL_law_52 : List UInt8 := dkwL_law_52 ++ dktL_law_53
def dkwL_law_51 : List UInt8 := [167, 4, 106, 43, 42, 21, 4, 4, 96, 46, 42, 21, 4, 5, 96, 46, 45, 184, 0, 189, 54, 5, 44, 42]
abbrev dktL_law_51 : List UInt8 := dkwL_law_51 ++ dktL_law_52
def dkwL_law_50 : List UInt8 := [159, 0, 5, 3, 172, 21, 5, 154, 0, 16, 45, 180, 0, 13, 21, 6, 133, 148, 153, 0, 5, 3, 172]
abbrev dktL_law_50 : List UInt8 := dkwL_law_50 ++ dktL_law_51
def dkwL_law_49 : List UInt8 := [42, 21, 4, 5, 96, 46, 42, 21, 4, 6, 96, 46, 182, 0, 188, 54, 6, 44, 182, 0, 138, 21, 5]
abbrev dktL_law_49 : List UInt8 := dkwL_law_49 ++ dktL_law_50
def dkwL_law_48 : List UInt8 := [21, 4, 5, 96, 46, 42, 21, 4, 6, 96, 46, 45, 184, 0, 186, 54, 5, 44, 42, 21, 4, 4, 96, 46]
abbrev dktL_law_48 : List UInt8 := dkwL_law_48 ++ dktL_law_49
def dkwL_law_47 : List UInt8 := [180, 0, 13, 21, 6, 133, 148, 153, 0, 5, 3, 172, 167, 4, 187, 43, 42, 21, 4, 4, 96, 46, 42]
abbrev dktL_law_47 : List UInt8 := dkwL_law_47 ++ dktL_law_48
def dkwL_law_46 : List UInt8 := [182, 0, 185, 54, 6, 44, 182, 0, 138, 21, 5, 159, 0, 5, 3, 172, 21, 5, 154, 0, 16, 45]
abbrev dktL_law_46 : List UInt8 := dkwL_law_46 ++ dktL_law_47
def dkwL_law_45 : List UInt8 := [167, 4, 244, 43, 42, 21, 4, 4, 96, 46, 45, 184, 0, 183, 54, 5, 44, 42, 21, 4, 4, 96, 46]
abbrev dktL_law_45 : List UInt8 := dkwL_law_45 ++ dktL_law_46
def dkwL_law_44 : List UInt8 := [159, 0, 5, 3, 172, 21, 5, 154, 0, 16, 45, 180, 0, 13, 21, 6, 133, 148, 153, 0, 5, 3, 172]
abbrev dktL_law_44 : List UInt8 := dkwL_law_44 ++ dktL_law_45
def dkwL_law_43 : List UInt8 := [184, 0, 180, 54, 5, 44, 42, 21, 4, 4, 96, 46, 182, 0, 182, 54, 6, 44, 182, 0, 138, 21, 5]
abbrev dktL_law_43 : List UInt8 := dkwL_law_43 ++ dktL_law_44
def dkwL_law_42 : List UInt8 := [180, 0, 13, 21, 6, 133, 148, 153, 0, 5, 3, 172, 167, 5, 45, 43, 42, 21, 4, 4, 96, 46, 45]
abbrev dktL_law_42 : List UInt8 := dkwL_law_42 ++ dktL_law_43
def dkwL_law_41 : List UInt8 := [182, 0, 179, 54, 6, 44, 182, 0, 138, 21, 5, 159, 0, 5, 3, 172, 21, 5, 154, 0, 16, 45]
abbrev dktL_law_41 : List UInt8 := dkwL_law_41 ++ dktL_law_42
def dkwL_law_40 : List UInt8 := [21, 4, 5, 96, 46, 45, 184, 0, 177, 54, 5, 44, 42, 21, 4, 4, 96, 46, 42, 21, 4, 5, 96, 46]
abbrev dktL_law_40 : List UInt8 := dkwL_law_40 ++ dktL_law_41
def dkwL_law_39 : List UInt8 := [180, 0, 13, 21, 6, 133, 148, 153, 0, 5, 3, 172, 167, 5, 114, 43, 42, 21, 4, 4, 96, 46, 42]
abbrev dktL_law_39 : List UInt8 := dkwL_law_39 ++ dktL_law_40
def dkwL_law_38 : List UInt8 := [182, 0, 176, 54, 6, 44, 182, 0, 138, 21, 5, 159, 0, 5, 3, 172, 21, 5, 154, 0, 16, 45]
abbrev dktL_law_38 : List UInt8 := dkwL_law_38 ++ dktL_law_39
def dkwL_law_37 : List UInt8 := [21, 4, 5, 96, 46, 45, 184, 0, 174, 54, 5, 44, 42, 21, 4, 4, 96, 46, 42, 21, 4, 5, 96, 46]
abbrev dktL_law_37 : List UInt8 := dkwL_law_37 ++ dktL_law_38
def dkwL_law_36 : List UInt8 := [180, 0, 13, 21, 6, 133, 148, 153, 0, 5, 3, 172, 167, 5, 183, 43, 42, 21, 4, 4, 96, 46, 42]
abbrev dktL_law_36 : List UInt8 := dkwL_law_36 ++ dktL_law_37
def dkwL_law_35 : List UInt8 := [182, 0, 173, 54, 6, 44, 182, 0, 138, 21, 5, 159, 0, 5, 3, 172, 21, 5, 154, 0, 16, 45]
abbrev dktL_law_35 : List UInt8 := dkwL_law_35 ++ dktL_law_36
def dkwL_law_34 : List UInt8 := [21, 4, 5, 96, 46, 45, 184, 0, 171, 54, 5, 44, 42, 21, 4, 4, 96, 46, 42, 21, 4, 5, 96, 46]
abbrev dktL_law_34 : List UInt8 := dkwL_law_34 ++ dktL_law_35
def dkwL_law_33 : List UInt8 := [180, 0, 13, 21, 6, 133, 148, 153, 0, 5, 3, 172, 167, 5, 252, 43, 42, 21, 4, 4, 96, 46, 42]
abbrev dktL_law_33 : List UInt8 := dkwL_law_33 ++ dktL_law_34
def dkwL_law_32 : List UInt8 := [182, 0, 170, 54, 6, 44, 182, 0, 138, 21, 5, 159, 0, 5, 3, 172, 21, 5, 154, 0, 16, 45]
abbrev dktL_law_32 : List UInt8 := dkwL_law_32 ++ dktL_law_33
def dkwL_law_31 : List UInt8 := [184, 0, 168, 54, 5, 44, 42, 21, 4, 4, 96, 46, 42, 21, 4, 5, 96, 46, 42, 21, 4, 6, 96, 46]
abbrev dktL_law_31 : List UInt8 := dkwL_law_31 ++ dktL_law_32
def dkwL_law_30 : List UInt8 := [167, 6, 77, 43, 42, 21, 4, 4, 96, 46, 42, 21, 4, 5, 96, 46, 42, 21, 4, 6, 96, 46, 45]
abbrev dktL_law_30 : List UInt8 := dkwL_law_30 ++ dktL_law_31
def dkwL_law_29 : List UInt8 := [159, 0, 5, 3, 172, 21, 5, 154, 0, 16, 45, 180, 0, 13, 21, 6, 133, 148, 153, 0, 5, 3, 172]
abbrev dktL_law_29 : List UInt8 := dkwL_law_29 ++ dktL_law_30
def dkwL_law_28 : List UInt8 := [21, 4, 4, 96, 46, 42, 21, 4, 5, 96, 46, 182, 0, 167, 54, 6, 44, 182, 0, 138, 21, 5]
abbrev dktL_law_28 : List UInt8 := dkwL_law_28 ++ dktL_law_29
def dkwL_law_27 : List UInt8 := [167, 6, 146, 43, 42, 21, 4, 4, 96, 46, 42, 21, 4, 5, 96, 46, 45, 184, 0, 165, 54, 5, 44, 42]
abbrev dktL_law_27 : List UInt8 := dkwL_law_27 ++ dktL_law_28
def dkwL_law_26 : List UInt8 := [159, 0, 5, 3, 172, 21, 5, 154, 0, 16, 45, 180, 0, 13, 21, 6, 133, 148, 153, 0, 5, 3, 172]
abbrev dktL_law_26 : List UInt8 := dkwL_law_26 ++ dktL_law_27
def dkwL_law_25 : List UInt8 := [42, 21, 4, 5, 96, 46, 42, 21, 4, 6, 96, 46, 182, 0, 164, 54, 6, 44, 182, 0, 138, 21, 5]
abbrev dktL_law_25 : List UInt8 := dkwL_law_25 ++ dktL_law_26
def dkwL_law_24 : List UInt8 := [21, 4, 5, 96, 46, 42, 21, 4, 6, 96, 46, 45, 184, 0, 162, 54, 5, 44, 42, 21, 4, 4, 96, 46]
abbrev dktL_law_24 : List UInt8 := dkwL_law_24 ++ dktL_law_25
def dkwL_law_23 : List UInt8 := [180, 0, 13, 21, 6, 133, 148, 153, 0, 5, 3, 172, 167, 6, 227, 43, 42, 21, 4, 4, 96, 46, 42]
abbrev dktL_law_23 : List UInt8 := dkwL_law_23 ++ dktL_law_24
def dkwL_law_22 : List UInt8 := [182, 0, 161, 54, 6, 44, 182, 0, 138, 21, 5, 159, 0, 5, 3, 172, 21, 5, 154, 0, 16, 45]
abbrev dktL_law_22 : List UInt8 := dkwL_law_22 ++ dktL_law_23
def dkwL_law_21 : List UInt8 := [184, 0, 159, 54, 5, 44, 42, 21, 4, 4, 96, 46, 42, 21, 4, 5, 96, 46, 42, 21, 4, 6, 96, 46]
abbrev dktL_law_21 : List UInt8 := dkwL_law_21 ++ dktL_law_22
def dkwL_law_20 : List UInt8 := [167, 7, 52, 43, 42, 21, 4, 4, 96, 46, 42, 21, 4, 5, 96, 46, 42, 21, 4, 6, 96, 46, 45]
abbrev dktL_law_20 : List UInt8 := dkwL_law_20 ++ dktL_law_21
def dkwL_law_19 : List UInt8 := [159, 0, 5, 3, 172, 21, 5, 154, 0, 16, 45, 180, 0, 13, 21, 6, 133, 148, 153, 0, 5, 3, 172]
abbrev dktL_law_19 : List UInt8 := dkwL_law_19 ++ dktL_law_20
def dkwL_law_18 : List UInt8 := [42, 21, 4, 5, 96, 46, 42, 21, 4, 6, 96, 46, 182, 0, 158, 54, 6, 44, 182, 0, 138, 21, 5]
abbrev dktL_law_18 : List UInt8 := dkwL_law_18 ++ dktL_law_19
def dkwL_law_17 : List UInt8 := [21, 4, 5, 96, 46, 42, 21, 4, 6, 96, 46, 45, 184, 0, 156, 54, 5, 44, 42, 21, 4, 4, 96, 46]
abbrev dktL_law_17 : List UInt8 := dkwL_law_17 ++ dktL_law_18
def dkwL_law_16 : List UInt8 := [180, 0, 13, 21, 6, 133, 148, 153, 0, 5, 3, 172, 167, 7, 133, 43, 42, 21, 4, 4, 96, 46, 42]
abbrev dktL_law_16 : List UInt8 := dkwL_law_16 ++ dktL_law_17
def dkwL_law_15 : List UInt8 := [182, 0, 155, 54, 6, 44, 182, 0, 138, 21, 5, 159, 0, 5, 3, 172, 21, 5, 154, 0, 16, 45]
abbrev dktL_law_15 : List UInt8 := dkwL_law_15 ++ dktL_law_16
def dkwL_law_14 : List UInt8 := [184, 0, 152, 54, 5, 44, 42, 21, 4, 4, 96, 46, 42, 21, 4, 5, 96, 46, 42, 21, 4, 6, 96, 46]
abbrev dktL_law_14 : List UInt8 := dkwL_law_14 ++ dktL_law_15
def dkwL_law_13 : List UInt8 := [167, 7, 214, 43, 42, 21, 4, 4, 96, 46, 42, 21, 4, 5, 96, 46, 42, 21, 4, 6, 96, 46, 45]
abbrev dktL_law_13 : List UInt8 := dkwL_law_13 ++ dktL_law_14
def dkwL_law_12 : List UInt8 := [159, 0, 5, 3, 172, 21, 5, 154, 0, 16, 45, 180, 0, 13, 21, 6, 133, 148, 153, 0, 5, 3, 172]
abbrev dktL_law_12 : List UInt8 := dkwL_law_12 ++ dktL_law_13
def dkwL_law_11 : List UInt8 := [184, 0, 149, 54, 5, 44, 42, 21, 4, 4, 96, 46, 182, 0, 151, 54, 6, 44, 182, 0, 138, 21, 5]
abbrev dktL_law_11 : List UInt8 := dkwL_law_11 ++ dktL_law_12
def dkwL_law_10 : List UInt8 := [45, 180, 0, 13, 21, 6, 133, 148, 153, 0, 5, 3, 172, 167, 8, 15, 43, 42, 21, 4, 4, 96, 46, 45]
abbrev dktL_law_10 : List UInt8 := dkwL_law_10 ++ dktL_law_11
def dkwL_law_9 : List UInt8 := [5, 96, 46, 182, 0, 148, 54, 6, 44, 182, 0, 138, 21, 5, 159, 0, 5, 3, 172, 21, 5, 154, 0, 16]
abbrev dktL_law_9 : List UInt8 := dkwL_law_9 ++ dktL_law_10
def dkwL_law_8 : List UInt8 := [96, 46, 42, 21, 4, 5, 96, 46, 45, 184, 0, 145, 54, 5, 44, 42, 21, 4, 4, 96, 46, 42, 21, 4]
abbrev dktL_law_8 : List UInt8 := dkwL_law_8 ++ dktL_law_9
def dkwL_law_7 : List UInt8 := [154, 0, 16, 45, 180, 0, 13, 21, 6, 133, 148, 153, 0, 5, 3, 172, 167, 8, 84, 43, 42, 21, 4, 4]
abbrev dktL_law_7 : List UInt8 := dkwL_law_7 ++ dktL_law_8
def dkwL_law_6 : List UInt8 := [42, 21, 4, 4, 96, 46, 182, 0, 144, 54, 6, 44, 182, 0, 138, 21, 5, 159, 0, 5, 3, 172, 21, 5]
abbrev dktL_law_6 : List UInt8 := dkwL_law_6 ++ dktL_law_7
def dkwL_law_5 : List UInt8 := [133, 148, 153, 0, 5, 3, 172, 167, 8, 141, 43, 42, 21, 4, 4, 96, 46, 45, 184, 0, 142, 54, 5, 44]
abbrev dktL_law_5 : List UInt8 := dkwL_law_5 ++ dktL_law_6
def dkwL_law_4 : List UInt8 := [54, 6, 44, 182, 0, 138, 21, 5, 159, 0, 5, 3, 172, 21, 5, 154, 0, 16, 45, 180, 0, 13, 21, 6]
abbrev dktL_law_4 : List UInt8 := dkwL_law_4 ++ dktL_law_5
def dkwL_law_3 : List UInt8 := [43, 42, 21, 4, 4, 96, 46, 45, 184, 0, 132, 54, 5, 44, 42, 21, 4, 4, 96, 46, 182, 0, 137]
abbrev dktL_law_3 : List UInt8 := dkwL_law_3 ++ dktL_law_4
def dkwL_law_2 : List UInt8 := [170, 0, 0, 9, 88, 0, 0, 0, 0, 0, 0, 0, 33, 0, 0, 0, 149, 0, 0, 0, 206, 0, 0, 1, 7, 0, 0, 1, 76, 0, 0, 1, 133, 0, 0, 1, 214, 0, 0, 2, 39, 0, 0, 2, 120, 0, 0, 2, 201, 0, 0, 3, 14, 0, 0, 3, 95, 0, 0, 3, 164, 0, 0, 3, 233, 0, 0, 4, 46, 0, 0, 4, 103, 0, 0, 4, 160, 0, 0, 4, 241, 0, 0, 5, 54, 0, 0, 5, 111, 0, 0, 5, 180, 0, 0, 5, 249, 0, 0, 6, 62, 0, 0, 6, 120, 0, 0, 6, 189, 0, 0, 7, 14, 0, 0, 7, 83, 0, 0, 7, 124, 0, 0, 7, 200, 0, 0, 7, 241, 0, 0, 8, 42, 0, 0, 8, 111, 0, 0, 8, 180, 0, 0, 8, 249, 0, 0, 9, 74]
abbrev dktL_law_2 : List UInt8 := dkwL_law_2 ++ dktL_law_3
def dkwL_law_1 : List UInt8 := [3, 54, 4, 21, 4, 42, 190, 7, 100, 163, 9, 104, 42, 21, 4, 46, 16, 63, 126]
abbrev dktL_law_1 : List UInt8 := dkwL_law_1 ++ dktL_law_2
def dkwL_law_0 : List UInt8 := [187, 0, 8, 89, 183, 0, 127, 76, 187, 0, 128, 89, 183, 0, 130, 77, 187, 0, 14, 89, 183, 0, 131, 78]
abbrev dktL_law_0 : List UInt8 := dkwL_law_0 ++ dktL_law_1
theorem dksL_law_0 : cL_law.data.toList.drop 0 = dktL_law_0 := by decide +kernel
theorem dksL_law_1 : cL_law.data.toList.drop 24 = dktL_law_1 := dk_seg dksL_law_0 24 rfl rfl
theorem dksL_law_2 : cL_law.data.toList.drop 43 = dktL_law_2 := dk_seg dksL_law_1 19 rfl rfl
theorem dksL_law_3 : cL_law.data.toList.drop 192 = dktL_law_3 := dk_seg dksL_law_2 149 rfl rfl
theorem dksL_law_4 : cL_law.data.toList.drop 215 = dktL_law_4 := dk_seg dksL_law_3 23 rfl rfl
theorem dksL_law_5 : cL_law.data.toList.drop 239 = dktL_law_5 := dk_seg dksL_law_4 24 rfl rfl
theorem dksL_law_6 : cL_law.data.toList.drop 263 = dktL_law_6 := dk_seg dksL_law_5 24 rfl rfl
theorem dksL_law_7 : cL_law.data.toList.drop 287 = dktL_law_7 := dk_seg dksL_law_6 24 rfl rfl
theorem dksL_law_8 : cL_law.data.toList.drop 311 = dktL_law_8 := dk_seg dksL_law_7 24 rfl rfl
theorem dksL_law_9 : cL_law.data.toList.drop 335 = dktL_law_9 := dk_seg dksL_law_8 24 rfl rfl
theorem dksL_law_10 : cL_law.data.toList.drop 359 = dktL_law_10 := dk_seg dksL_law_9 24 rfl rfl
theorem dksL_law_11 : cL_law.data.toList.drop 383 = dktL_law_11 := dk_seg dksL_law_10 24 rfl rfl
theorem dksL_law_12 : cL_law.data.toList.drop 406 = dktL_law_12 := dk_seg dksL_law_11 23 rfl rfl
theorem dksL_law_13 : cL_law.data.toList.drop 429 = dktL_law_13 := dk_seg dksL_law_12 23 rfl rfl
theorem dksL_law_14 : cL_law.data.toList.drop 452 = dktL_law_14 := dk_seg dksL_law_13 23 rfl rfl
theorem dksL_law_15 : cL_law.data.toList.drop 476 = dktL_law_15 := dk_seg dksL_law_14 24 rfl rfl
theorem dksL_law_16 : cL_law.data.toList.drop 498 = dktL_law_16 := dk_seg dksL_law_15 22 rfl rfl
theorem dksL_law_17 : cL_law.data.toList.drop 521 = dktL_law_17 := dk_seg dksL_law_16 23 rfl rfl
theorem dksL_law_18 : cL_law.data.toList.drop 545 = dktL_law_18 := dk_seg dksL_law_17 24 rfl rfl
theorem dksL_law_19 : cL_law.data.toList.drop 568 = dktL_law_19 := dk_seg dksL_law_18 23 rfl rfl
theorem dksL_law_20 : cL_law.data.toList.drop 591 = dktL_law_20 := dk_seg dksL_law_19 23 rfl rfl
theorem dksL_law_21 : cL_law.data.toList.drop 614 = dktL_law_21 := dk_seg dksL_law_20 23 rfl rfl
theorem dksL_law_22 : cL_law.data.toList.drop 638 = dktL_law_22 := dk_seg dksL_law_21 24 rfl rfl
theorem dksL_law_23 : cL_law.data.toList.drop 660 = dktL_law_23 := dk_seg dksL_law_22 22 rfl rfl
theorem dksL_law_24 : cL_law.data.toList.drop 683 = dktL_law_24 := dk_seg dksL_law_23 23 rfl rfl
theorem dksL_law_25 : cL_law.data.toList.drop 707 = dktL_law_25 := dk_seg dksL_law_24 24 rfl rfl
theorem dksL_law_26 : cL_law.data.toList.drop 730 = dktL_law_26 := dk_seg dksL_law_25 23 rfl rfl
theorem dksL_law_27 : cL_law.data.toList.drop 753 = dktL_law_27 := dk_seg dksL_law_26 23 rfl rfl
theorem dksL_law_28 : cL_law.data.toList.drop 777 = dktL_law_28 := dk_seg dksL_law_27 24 rfl rfl
theorem dksL_law_29 : cL_law.data.toList.drop 799 = dktL_law_29 := dk_seg dksL_law_28 22 rfl rfl
theorem dksL_law_30 : cL_law.data.toList.drop 822 = dktL_law_30 := dk_seg dksL_law_29 23 rfl rfl
theorem dksL_law_31 : cL_law.data.toList.drop 845 = dktL_law_31 := dk_seg dksL_law_30 23 rfl rfl
theorem dksL_law_32 : cL_law.data.toList.drop 869 = dktL_law_32 := dk_seg dksL_law_31 24 rfl rfl
theorem dksL_law_33 : cL_law.data.toList.drop 891 = dktL_law_33 := dk_seg dksL_law_32 22 rfl rfl
theorem dksL_law_34 : cL_law.data.toList.drop 914 = dktL_law_34 := dk_seg dksL_law_33 23 rfl rfl
theorem dksL_law_35 : cL_law.data.toList.drop 938 = dktL_law_35 := dk_seg dksL_law_34 24 rfl rfl
theorem dksL_law_36 : cL_law.data.toList.drop 960 = dktL_law_36 := dk_seg dksL_law_35 22 rfl rfl
theorem dksL_law_37 : cL_law.data.toList.drop 983 = dktL_law_37 := dk_seg dksL_law_36 23 rfl rfl
theorem dksL_law_38 : cL_law.data.toList.drop 1007 = dktL_law_38 := dk_seg dksL_law_37 24 rfl rfl
theorem dksL_law_39 : cL_law.data.toList.drop 1029 = dktL_law_39 := dk_seg dksL_law_38 22 rfl rfl
theorem dksL_law_40 : cL_law.data.toList.drop 1052 = dktL_law_40 := dk_seg dksL_law_39 23 rfl rfl
theorem dksL_law_41 : cL_law.data.toList.drop 1076 = dktL_law_41 := dk_seg dksL_law_40 24 rfl rfl
theorem dksL_law_42 : cL_law.data.toList.drop 1098 = dktL_law_42 := dk_seg dksL_law_41 22 rfl rfl
theorem dksL_law_43 : cL_law.data.toList.drop 1121 = dktL_law_43 := dk_seg dksL_law_42 23 rfl rfl
theorem dksL_law_44 : cL_law.data.toList.drop 1144 = dktL_law_44 := dk_seg dksL_law_43 23 rfl rfl
theorem dksL_law_45 : cL_law.data.toList.drop 1167 = dktL_law_45 := dk_seg dksL_law_44 23 rfl rfl
theorem dksL_law_46 : cL_law.data.toList.drop 1190 = dktL_law_46 := dk_seg dksL_law_45 23 rfl rfl
theorem dksL_law_47 : cL_law.data.toList.drop 1212 = dktL_law_47 := dk_seg dksL_law_46 22 rfl rfl
theorem dksL_law_48 : cL_law.data.toList.drop 1235 = dktL_law_48 := dk_seg dksL_law_47 23 rfl rfl
theorem dksL_law_49 : cL_law.data.toList.drop 1259 = dktL_law_49 := dk_seg dksL_law_48 24 rfl rfl
theorem dksL_law_50 : cL_law.data.toList.drop 1282 = dktL_law_50 := dk_seg dksL_law_49 23 rfl rfl
theorem dksL_law_51 : cL_law.data.toList.drop 1305 = dktL_law_51 := dk_seg dksL_law_50 23 rfl rfl
theorem dksL_law_52 : cL_law.data.toList.drop 1329 = dktL_law_52 := dk_seg dksL_law_51 24 rfl rfl
theorem dksL_law_53 : cL_law.data.toList.drop 1351 = dktL_law_53 := dk_seg dksL_law_52 22 rfl rfl
theorem dksL_law_54 : cL_law.data.toList.drop 1374 = dktL_law_54 := dk_seg dksL_law_53 23 rfl rfl
theorem dksL_law_55 : cL_law.data.toList.drop 1397 = dktL_law_55 := dk_seg dksL_law_54 23 rfl rfl
theorem dksL_law_56 : cL_law.data.toList.drop 1419 = dktL_law_56 := dk_seg dksL_law_55 22 rfl rfl
theorem dksL_law_57 : cL_law.data.toList.drop 1442 = dktL_law_57 := dk_seg dksL_law_56 23 rfl rfl
theorem dksL_law_58 : cL_law.data.toList.drop 1466 = dktL_law_58 := dk_seg dksL_law_57 24 rfl rfl
theorem dksL_law_59 : cL_law.data.toList.drop 1488 = dktL_law_59 := dk_seg dksL_law_58 22 rfl rfl
theorem dksL_law_60 : cL_law.data.toList.drop 1511 = dktL_law_60 := dk_seg dksL_law_59 23 rfl rfl
theorem dksL_law_61 : cL_law.data.toList.drop 1535 = dktL_law_61 := dk_seg dksL_law_60 24 rfl rfl
theorem dksL_law_62 : cL_law.data.toList.drop 1557 = dktL_law_62 := dk_seg dksL_law_61 22 rfl rfl
theorem dksL_law_63 : cL_law.data.toList.drop 1580 = dktL_law_63 := dk_seg dksL_law_62 23 rfl rfl
theorem dksL_law_64 : cL_law.data.toList.drop 1604 = dktL_law_64 := dk_seg dksL_law_63 24 rfl rfl
theorem dksL_law_65 : cL_law.data.toList.drop 1626 = dktL_law_65 := dk_seg dksL_law_64 22 rfl rfl
theorem dksL_law_66 : cL_law.data.toList.drop 1649 = dktL_law_66 := dk_seg dksL_law_65 23 rfl rfl
theorem dksL_law_67 : cL_law.data.toList.drop 1672 = dktL_law_67 := dk_seg dksL_law_66 23 rfl rfl
theorem dksL_law_68 : cL_law.data.toList.drop 1696 = dktL_law_68 := dk_seg dksL_law_67 24 rfl rfl
theorem dksL_law_69 : cL_law.data.toList.drop 1720 = dktL_law_69 := dk_seg dksL_law_68 24 rfl rfl
theorem dksL_law_70 : cL_law.data.toList.drop 1742 = dktL_law_70 := dk_seg dksL_law_69 22 rfl rfl
theorem dksL_law_71 : cL_law.data.toList.drop 1765 = dktL_law_71 := dk_seg dksL_law_70 23 rfl rfl
theorem dksL_law_72 : cL_law.data.toList.drop 1788 = dktL_law_72 := dk_seg dksL_law_71 23 rfl rfl
theorem dksL_law_73 : cL_law.data.toList.drop 1812 = dktL_law_73 := dk_seg dksL_law_72 24 rfl rfl
theorem dksL_law_74 : cL_law.data.toList.drop 1834 = dktL_law_74 := dk_seg dksL_law_73 22 rfl rfl
theorem dksL_law_75 : cL_law.data.toList.drop 1857 = dktL_law_75 := dk_seg dksL_law_74 23 rfl rfl
theorem dksL_law_76 : cL_law.data.toList.drop 1881 = dktL_law_76 := dk_seg dksL_law_75 24 rfl rfl
theorem dksL_law_77 : cL_law.data.toList.drop 1903 = dktL_law_77 := dk_seg dksL_law_76 22 rfl rfl
theorem dksL_law_78 : cL_law.data.toList.drop 1925 = dktL_law_78 := dk_seg dksL_law_77 22 rfl rfl
theorem dksL_law_79 : cL_law.data.toList.drop 1948 = dktL_law_79 := dk_seg dksL_law_78 23 rfl rfl
theorem dksL_law_80 : cL_law.data.toList.drop 1972 = dktL_law_80 := dk_seg dksL_law_79 24 rfl rfl
theorem dksL_law_81 : cL_law.data.toList.drop 1995 = dktL_law_81 := dk_seg dksL_law_80 23 rfl rfl
theorem dksL_law_82 : cL_law.data.toList.drop 2019 = dktL_law_82 := dk_seg dksL_law_81 24 rfl rfl
theorem dksL_law_83 : cL_law.data.toList.drop 2042 = dktL_law_83 := dk_seg dksL_law_82 23 rfl rfl
theorem dksL_law_84 : cL_law.data.toList.drop 2065 = dktL_law_84 := dk_seg dksL_law_83 23 rfl rfl
theorem dksL_law_85 : cL_law.data.toList.drop 2089 = dktL_law_85 := dk_seg dksL_law_84 24 rfl rfl
theorem dksL_law_86 : cL_law.data.toList.drop 2112 = dktL_law_86 := dk_seg dksL_law_85 23 rfl rfl
theorem dksL_law_87 : cL_law.data.toList.drop 2135 = dktL_law_87 := dk_seg dksL_law_86 23 rfl rfl
theorem dksL_law_88 : cL_law.data.toList.drop 2159 = dktL_law_88 := dk_seg dksL_law_87 24 rfl rfl
theorem dksL_law_89 : cL_law.data.toList.drop 2183 = dktL_law_89 := dk_seg dksL_law_88 24 rfl rfl
theorem dksL_law_90 : cL_law.data.toList.drop 2207 = dktL_law_90 := dk_seg dksL_law_89 24 rfl rfl
theorem dksL_law_91 : cL_law.data.toList.drop 2231 = dktL_law_91 := dk_seg dksL_law_90 24 rfl rfl
theorem dksL_law_92 : cL_law.data.toList.drop 2255 = dktL_law_92 := dk_seg dksL_law_91 24 rfl rfl
theorem dksL_law_93 : cL_law.data.toList.drop 2279 = dktL_law_93 := dk_seg dksL_law_92 24 rfl rfl
theorem dksL_law_94 : cL_law.data.toList.drop 2303 = dktL_law_94 := dk_seg dksL_law_93 24 rfl rfl
theorem dksL_law_95 : cL_law.data.toList.drop 2325 = dktL_law_95 := dk_seg dksL_law_94 22 rfl rfl
theorem dksL_law_96 : cL_law.data.toList.drop 2348 = dktL_law_96 := dk_seg dksL_law_95 23 rfl rfl
theorem dksL_law_97 : cL_law.data.toList.drop 2372 = dktL_law_97 := dk_seg dksL_law_96 24 rfl rfl
theorem dksL_law_98 : cL_law.data.toList.drop 2395 = dktL_law_98 := dk_seg dksL_law_97 23 rfl rfl
theorem dksL_law_99 : cL_law.data.toList.drop 2418 = dktL_law_99 := dk_seg dksL_law_98 23 rfl rfl
theorem dksL_law_100 : cL_law.data.toList.drop 2442 = dktL_law_100 := dk_seg dksL_law_99 24 rfl rfl
theorem dL_law_0 : decode cL_law 0 = .ok (.new 8, 3) := dk_187 0 8 (dk_at dksL_law_0 0 rfl rfl)
theorem dL_law_3 : decode cL_law 3 = .ok (.dup, 1) := dk_89 (dk_at dksL_law_0 3 rfl rfl)
theorem dL_law_4 : decode cL_law 4 = .ok (.invokespecial 127, 3) := dk_183 0 127 (dk_at dksL_law_0 4 rfl rfl)
theorem dL_law_7 : decode cL_law 7 = .ok (.astore_n 1, 1) := dk_76 (dk_at dksL_law_0 7 rfl rfl)
theorem dL_law_8 : decode cL_law 8 = .ok (.new 128, 3) := dk_187 0 128 (dk_at dksL_law_0 8 rfl rfl)
theorem dL_law_11 : decode cL_law 11 = .ok (.dup, 1) := dk_89 (dk_at dksL_law_0 11 rfl rfl)
theorem dL_law_12 : decode cL_law 12 = .ok (.invokespecial 130, 3) := dk_183 0 130 (dk_at dksL_law_0 12 rfl rfl)
theorem dL_law_15 : decode cL_law 15 = .ok (.astore_n 2, 1) := dk_77 (dk_at dksL_law_0 15 rfl rfl)
theorem dL_law_16 : decode cL_law 16 = .ok (.new 14, 3) := dk_187 0 14 (dk_at dksL_law_0 16 rfl rfl)
theorem dL_law_19 : decode cL_law 19 = .ok (.dup, 1) := dk_89 (dk_at dksL_law_0 19 rfl rfl)
theorem dL_law_20 : decode cL_law 20 = .ok (.invokespecial 131, 3) := dk_183 0 131 (dk_at dksL_law_0 20 rfl rfl)
theorem dL_law_23 : decode cL_law 23 = .ok (.astore_n 3, 1) := dk_78 (dk_at dksL_law_0 23 rfl rfl)
theorem dL_law_24 : decode cL_law 24 = .ok (.iconst 0, 1) := dk_3 (dk_at dksL_law_1 0 rfl rfl)
theorem dL_law_25 : decode cL_law 25 = .ok (.istore 4, 2) := dk_54 4 (dk_at dksL_law_1 1 rfl rfl)
theorem dL_law_27 : decode cL_law 27 = .ok (.iload 4, 2) := dk_21 4 (dk_at dksL_law_1 3 rfl rfl)
theorem dL_law_29 : decode cL_law 29 = .ok (.aload_n 0, 1) := dk_42 (dk_at dksL_law_1 5 rfl rfl)
theorem dL_law_30 : decode cL_law 30 = .ok (.arraylength, 1) := dk_190 (dk_at dksL_law_1 6 rfl rfl)
theorem dL_law_31 : decode cL_law 31 = .ok (.iconst 4, 1) := dk_7 (dk_at dksL_law_1 7 rfl rfl)
theorem dL_law_32 : decode cL_law 32 = .ok (.isub, 1) := dk_100 (dk_at dksL_law_1 8 rfl rfl)
theorem dL_law_33 : decode cL_law 33 = .ok (.if_icmp .gt 2408, 3) := dk_163 9 104 (dk_at dksL_law_1 9 rfl rfl)
theorem dL_law_36 : decode cL_law 36 = .ok (.aload_n 0, 1) := dk_42 (dk_at dksL_law_1 12 rfl rfl)
theorem dL_law_37 : decode cL_law 37 = .ok (.iload 4, 2) := dk_21 4 (dk_at dksL_law_1 13 rfl rfl)
theorem dL_law_39 : decode cL_law 39 = .ok (.iaload, 1) := dk_46 (dk_at dksL_law_1 15 rfl rfl)
theorem dL_law_40 : decode cL_law 40 = .ok (.bipush 63, 2) := dk_16 63 (dk_at dksL_law_1 16 rfl rfl)
theorem dL_law_42 : decode cL_law 42 = .ok (.iand, 1) := dk_126 (dk_at dksL_law_1 18 rfl rfl)
theorem dL_law_43 : decode cL_law 43 = .ok (.tableswitch 2392 0 33 #[149, 206, 263, 332, 389, 470, 551, 632, 713, 782, 863, 932, 1001, 1070, 1127, 1184, 1265, 1334, 1391, 1460, 1529, 1598, 1656, 1725, 1806, 1875, 1916, 1992, 2033, 2090, 2159, 2228, 2297, 2378], 149) := by decide +kernel
theorem dL_law_192 : decode cL_law 192 = .ok (.aload_n 1, 1) := dk_43 (dk_at dksL_law_3 0 rfl rfl)
theorem dL_law_193 : decode cL_law 193 = .ok (.aload_n 0, 1) := dk_42 (dk_at dksL_law_3 1 rfl rfl)
theorem dL_law_194 : decode cL_law 194 = .ok (.iload 4, 2) := dk_21 4 (dk_at dksL_law_3 2 rfl rfl)
theorem dL_law_196 : decode cL_law 196 = .ok (.iconst 1, 1) := dk_4 (dk_at dksL_law_3 4 rfl rfl)
theorem dL_law_197 : decode cL_law 197 = .ok (.iadd, 1) := dk_96 (dk_at dksL_law_3 5 rfl rfl)
theorem dL_law_198 : decode cL_law 198 = .ok (.iaload, 1) := dk_46 (dk_at dksL_law_3 6 rfl rfl)
theorem dL_law_199 : decode cL_law 199 = .ok (.aload_n 3, 1) := dk_45 (dk_at dksL_law_3 7 rfl rfl)
theorem dL_law_200 : decode cL_law 200 = .ok (.invokestatic 132, 3) := dk_184 0 132 (dk_at dksL_law_3 8 rfl rfl)
theorem dL_law_203 : decode cL_law 203 = .ok (.istore 5, 2) := dk_54 5 (dk_at dksL_law_3 11 rfl rfl)
theorem dL_law_205 : decode cL_law 205 = .ok (.aload_n 2, 1) := dk_44 (dk_at dksL_law_3 13 rfl rfl)
theorem dL_law_206 : decode cL_law 206 = .ok (.aload_n 0, 1) := dk_42 (dk_at dksL_law_3 14 rfl rfl)
theorem dL_law_207 : decode cL_law 207 = .ok (.iload 4, 2) := dk_21 4 (dk_at dksL_law_3 15 rfl rfl)
theorem dL_law_209 : decode cL_law 209 = .ok (.iconst 1, 1) := dk_4 (dk_at dksL_law_3 17 rfl rfl)
theorem dL_law_210 : decode cL_law 210 = .ok (.iadd, 1) := dk_96 (dk_at dksL_law_3 18 rfl rfl)
theorem dL_law_211 : decode cL_law 211 = .ok (.iaload, 1) := dk_46 (dk_at dksL_law_3 19 rfl rfl)
theorem dL_law_212 : decode cL_law 212 = .ok (.invokevirtual 137, 3) := dk_182 0 137 (dk_at dksL_law_3 20 rfl rfl)
theorem dL_law_215 : decode cL_law 215 = .ok (.istore 6, 2) := dk_54 6 (dk_at dksL_law_4 0 rfl rfl)
theorem dL_law_217 : decode cL_law 217 = .ok (.aload_n 2, 1) := dk_44 (dk_at dksL_law_4 2 rfl rfl)
theorem dL_law_218 : decode cL_law 218 = .ok (.invokevirtual 138, 3) := dk_182 0 138 (dk_at dksL_law_4 3 rfl rfl)
theorem dL_law_221 : decode cL_law 221 = .ok (.iload 5, 2) := dk_21 5 (dk_at dksL_law_4 6 rfl rfl)
theorem dL_law_223 : decode cL_law 223 = .ok (.if_icmp .eq 5, 3) := dk_159 0 5 (dk_at dksL_law_4 8 rfl rfl)
theorem dL_law_226 : decode cL_law 226 = .ok (.iconst 0, 1) := dk_3 (dk_at dksL_law_4 11 rfl rfl)
theorem dL_law_227 : decode cL_law 227 = .ok (.ireturn, 1) := dk_172 (dk_at dksL_law_4 12 rfl rfl)
theorem dL_law_228 : decode cL_law 228 = .ok (.iload 5, 2) := dk_21 5 (dk_at dksL_law_4 13 rfl rfl)
theorem dL_law_230 : decode cL_law 230 = .ok (.ifCond .ne 16, 3) := dk_154 0 16 (dk_at dksL_law_4 15 rfl rfl)
theorem dL_law_233 : decode cL_law 233 = .ok (.aload_n 3, 1) := dk_45 (dk_at dksL_law_4 18 rfl rfl)
theorem dL_law_234 : decode cL_law 234 = .ok (.getfield 13, 3) := dk_180 0 13 (dk_at dksL_law_4 19 rfl rfl)
theorem dL_law_237 : decode cL_law 237 = .ok (.iload 6, 2) := dk_21 6 (dk_at dksL_law_4 22 rfl rfl)
theorem dL_law_239 : decode cL_law 239 = .ok (.i2l, 1) := dk_133 (dk_at dksL_law_5 0 rfl rfl)
theorem dL_law_240 : decode cL_law 240 = .ok (.lcmp, 1) := dk_148 (dk_at dksL_law_5 1 rfl rfl)
theorem dL_law_241 : decode cL_law 241 = .ok (.ifCond .eq 5, 3) := dk_153 0 5 (dk_at dksL_law_5 2 rfl rfl)
theorem dL_law_244 : decode cL_law 244 = .ok (.iconst 0, 1) := dk_3 (dk_at dksL_law_5 5 rfl rfl)
theorem dL_law_245 : decode cL_law 245 = .ok (.ireturn, 1) := dk_172 (dk_at dksL_law_5 6 rfl rfl)
theorem dL_law_246 : decode cL_law 246 = .ok (.goto 2189, 3) := dk_167 8 141 (dk_at dksL_law_5 7 rfl rfl)
theorem dL_law_249 : decode cL_law 249 = .ok (.aload_n 1, 1) := dk_43 (dk_at dksL_law_5 10 rfl rfl)
theorem dL_law_250 : decode cL_law 250 = .ok (.aload_n 0, 1) := dk_42 (dk_at dksL_law_5 11 rfl rfl)
theorem dL_law_251 : decode cL_law 251 = .ok (.iload 4, 2) := dk_21 4 (dk_at dksL_law_5 12 rfl rfl)
theorem dL_law_253 : decode cL_law 253 = .ok (.iconst 1, 1) := dk_4 (dk_at dksL_law_5 14 rfl rfl)
theorem dL_law_254 : decode cL_law 254 = .ok (.iadd, 1) := dk_96 (dk_at dksL_law_5 15 rfl rfl)
theorem dL_law_255 : decode cL_law 255 = .ok (.iaload, 1) := dk_46 (dk_at dksL_law_5 16 rfl rfl)
theorem dL_law_256 : decode cL_law 256 = .ok (.aload_n 3, 1) := dk_45 (dk_at dksL_law_5 17 rfl rfl)
theorem dL_law_257 : decode cL_law 257 = .ok (.invokestatic 142, 3) := dk_184 0 142 (dk_at dksL_law_5 18 rfl rfl)
theorem dL_law_260 : decode cL_law 260 = .ok (.istore 5, 2) := dk_54 5 (dk_at dksL_law_5 21 rfl rfl)
theorem dL_law_262 : decode cL_law 262 = .ok (.aload_n 2, 1) := dk_44 (dk_at dksL_law_5 23 rfl rfl)
theorem dL_law_263 : decode cL_law 263 = .ok (.aload_n 0, 1) := dk_42 (dk_at dksL_law_6 0 rfl rfl)
theorem dL_law_264 : decode cL_law 264 = .ok (.iload 4, 2) := dk_21 4 (dk_at dksL_law_6 1 rfl rfl)
theorem dL_law_266 : decode cL_law 266 = .ok (.iconst 1, 1) := dk_4 (dk_at dksL_law_6 3 rfl rfl)
theorem dL_law_267 : decode cL_law 267 = .ok (.iadd, 1) := dk_96 (dk_at dksL_law_6 4 rfl rfl)
theorem dL_law_268 : decode cL_law 268 = .ok (.iaload, 1) := dk_46 (dk_at dksL_law_6 5 rfl rfl)
theorem dL_law_269 : decode cL_law 269 = .ok (.invokevirtual 144, 3) := dk_182 0 144 (dk_at dksL_law_6 6 rfl rfl)
theorem dL_law_272 : decode cL_law 272 = .ok (.istore 6, 2) := dk_54 6 (dk_at dksL_law_6 9 rfl rfl)
theorem dL_law_274 : decode cL_law 274 = .ok (.aload_n 2, 1) := dk_44 (dk_at dksL_law_6 11 rfl rfl)
theorem dL_law_275 : decode cL_law 275 = .ok (.invokevirtual 138, 3) := dk_182 0 138 (dk_at dksL_law_6 12 rfl rfl)
theorem dL_law_278 : decode cL_law 278 = .ok (.iload 5, 2) := dk_21 5 (dk_at dksL_law_6 15 rfl rfl)
theorem dL_law_280 : decode cL_law 280 = .ok (.if_icmp .eq 5, 3) := dk_159 0 5 (dk_at dksL_law_6 17 rfl rfl)
theorem dL_law_283 : decode cL_law 283 = .ok (.iconst 0, 1) := dk_3 (dk_at dksL_law_6 20 rfl rfl)
theorem dL_law_284 : decode cL_law 284 = .ok (.ireturn, 1) := dk_172 (dk_at dksL_law_6 21 rfl rfl)
theorem dL_law_285 : decode cL_law 285 = .ok (.iload 5, 2) := dk_21 5 (dk_at dksL_law_6 22 rfl rfl)
theorem dL_law_287 : decode cL_law 287 = .ok (.ifCond .ne 16, 3) := dk_154 0 16 (dk_at dksL_law_7 0 rfl rfl)
theorem dL_law_290 : decode cL_law 290 = .ok (.aload_n 3, 1) := dk_45 (dk_at dksL_law_7 3 rfl rfl)
theorem dL_law_291 : decode cL_law 291 = .ok (.getfield 13, 3) := dk_180 0 13 (dk_at dksL_law_7 4 rfl rfl)
theorem dL_law_294 : decode cL_law 294 = .ok (.iload 6, 2) := dk_21 6 (dk_at dksL_law_7 7 rfl rfl)
theorem dL_law_296 : decode cL_law 296 = .ok (.i2l, 1) := dk_133 (dk_at dksL_law_7 9 rfl rfl)
theorem dL_law_297 : decode cL_law 297 = .ok (.lcmp, 1) := dk_148 (dk_at dksL_law_7 10 rfl rfl)
theorem dL_law_298 : decode cL_law 298 = .ok (.ifCond .eq 5, 3) := dk_153 0 5 (dk_at dksL_law_7 11 rfl rfl)
theorem dL_law_301 : decode cL_law 301 = .ok (.iconst 0, 1) := dk_3 (dk_at dksL_law_7 14 rfl rfl)
theorem dL_law_302 : decode cL_law 302 = .ok (.ireturn, 1) := dk_172 (dk_at dksL_law_7 15 rfl rfl)
theorem dL_law_303 : decode cL_law 303 = .ok (.goto 2132, 3) := dk_167 8 84 (dk_at dksL_law_7 16 rfl rfl)
theorem dL_law_306 : decode cL_law 306 = .ok (.aload_n 1, 1) := dk_43 (dk_at dksL_law_7 19 rfl rfl)
theorem dL_law_307 : decode cL_law 307 = .ok (.aload_n 0, 1) := dk_42 (dk_at dksL_law_7 20 rfl rfl)
theorem dL_law_308 : decode cL_law 308 = .ok (.iload 4, 2) := dk_21 4 (dk_at dksL_law_7 21 rfl rfl)
theorem dL_law_310 : decode cL_law 310 = .ok (.iconst 1, 1) := dk_4 (dk_at dksL_law_7 23 rfl rfl)
theorem dL_law_311 : decode cL_law 311 = .ok (.iadd, 1) := dk_96 (dk_at dksL_law_8 0 rfl rfl)
theorem dL_law_312 : decode cL_law 312 = .ok (.iaload, 1) := dk_46 (dk_at dksL_law_8 1 rfl rfl)
theorem dL_law_313 : decode cL_law 313 = .ok (.aload_n 0, 1) := dk_42 (dk_at dksL_law_8 2 rfl rfl)
theorem dL_law_314 : decode cL_law 314 = .ok (.iload 4, 2) := dk_21 4 (dk_at dksL_law_8 3 rfl rfl)
theorem dL_law_316 : decode cL_law 316 = .ok (.iconst 2, 1) := dk_5 (dk_at dksL_law_8 5 rfl rfl)
theorem dL_law_317 : decode cL_law 317 = .ok (.iadd, 1) := dk_96 (dk_at dksL_law_8 6 rfl rfl)
theorem dL_law_318 : decode cL_law 318 = .ok (.iaload, 1) := dk_46 (dk_at dksL_law_8 7 rfl rfl)
theorem dL_law_319 : decode cL_law 319 = .ok (.aload_n 3, 1) := dk_45 (dk_at dksL_law_8 8 rfl rfl)
theorem dL_law_320 : decode cL_law 320 = .ok (.invokestatic 145, 3) := dk_184 0 145 (dk_at dksL_law_8 9 rfl rfl)
theorem dL_law_323 : decode cL_law 323 = .ok (.istore 5, 2) := dk_54 5 (dk_at dksL_law_8 12 rfl rfl)
theorem dL_law_325 : decode cL_law 325 = .ok (.aload_n 2, 1) := dk_44 (dk_at dksL_law_8 14 rfl rfl)
theorem dL_law_326 : decode cL_law 326 = .ok (.aload_n 0, 1) := dk_42 (dk_at dksL_law_8 15 rfl rfl)
theorem dL_law_327 : decode cL_law 327 = .ok (.iload 4, 2) := dk_21 4 (dk_at dksL_law_8 16 rfl rfl)
theorem dL_law_329 : decode cL_law 329 = .ok (.iconst 1, 1) := dk_4 (dk_at dksL_law_8 18 rfl rfl)
theorem dL_law_330 : decode cL_law 330 = .ok (.iadd, 1) := dk_96 (dk_at dksL_law_8 19 rfl rfl)
theorem dL_law_331 : decode cL_law 331 = .ok (.iaload, 1) := dk_46 (dk_at dksL_law_8 20 rfl rfl)
theorem dL_law_332 : decode cL_law 332 = .ok (.aload_n 0, 1) := dk_42 (dk_at dksL_law_8 21 rfl rfl)
theorem dL_law_333 : decode cL_law 333 = .ok (.iload 4, 2) := dk_21 4 (dk_at dksL_law_8 22 rfl rfl)
theorem dL_law_335 : decode cL_law 335 = .ok (.iconst 2, 1) := dk_5 (dk_at dksL_law_9 0 rfl rfl)
theorem dL_law_336 : decode cL_law 336 = .ok (.iadd, 1) := dk_96 (dk_at dksL_law_9 1 rfl rfl)
theorem dL_law_337 : decode cL_law 337 = .ok (.iaload, 1) := dk_46 (dk_at dksL_law_9 2 rfl rfl)
theorem dL_law_338 : decode cL_law 338 = .ok (.invokevirtual 148, 3) := dk_182 0 148 (dk_at dksL_law_9 3 rfl rfl)
theorem dL_law_341 : decode cL_law 341 = .ok (.istore 6, 2) := dk_54 6 (dk_at dksL_law_9 6 rfl rfl)
theorem dL_law_343 : decode cL_law 343 = .ok (.aload_n 2, 1) := dk_44 (dk_at dksL_law_9 8 rfl rfl)
theorem dL_law_344 : decode cL_law 344 = .ok (.invokevirtual 138, 3) := dk_182 0 138 (dk_at dksL_law_9 9 rfl rfl)
theorem dL_law_347 : decode cL_law 347 = .ok (.iload 5, 2) := dk_21 5 (dk_at dksL_law_9 12 rfl rfl)
theorem dL_law_349 : decode cL_law 349 = .ok (.if_icmp .eq 5, 3) := dk_159 0 5 (dk_at dksL_law_9 14 rfl rfl)
theorem dL_law_352 : decode cL_law 352 = .ok (.iconst 0, 1) := dk_3 (dk_at dksL_law_9 17 rfl rfl)
theorem dL_law_353 : decode cL_law 353 = .ok (.ireturn, 1) := dk_172 (dk_at dksL_law_9 18 rfl rfl)
theorem dL_law_354 : decode cL_law 354 = .ok (.iload 5, 2) := dk_21 5 (dk_at dksL_law_9 19 rfl rfl)
theorem dL_law_356 : decode cL_law 356 = .ok (.ifCond .ne 16, 3) := dk_154 0 16 (dk_at dksL_law_9 21 rfl rfl)
theorem dL_law_359 : decode cL_law 359 = .ok (.aload_n 3, 1) := dk_45 (dk_at dksL_law_10 0 rfl rfl)
theorem dL_law_360 : decode cL_law 360 = .ok (.getfield 13, 3) := dk_180 0 13 (dk_at dksL_law_10 1 rfl rfl)
theorem dL_law_363 : decode cL_law 363 = .ok (.iload 6, 2) := dk_21 6 (dk_at dksL_law_10 4 rfl rfl)
theorem dL_law_365 : decode cL_law 365 = .ok (.i2l, 1) := dk_133 (dk_at dksL_law_10 6 rfl rfl)
theorem dL_law_366 : decode cL_law 366 = .ok (.lcmp, 1) := dk_148 (dk_at dksL_law_10 7 rfl rfl)
theorem dL_law_367 : decode cL_law 367 = .ok (.ifCond .eq 5, 3) := dk_153 0 5 (dk_at dksL_law_10 8 rfl rfl)
theorem dL_law_370 : decode cL_law 370 = .ok (.iconst 0, 1) := dk_3 (dk_at dksL_law_10 11 rfl rfl)
theorem dL_law_371 : decode cL_law 371 = .ok (.ireturn, 1) := dk_172 (dk_at dksL_law_10 12 rfl rfl)
theorem dL_law_372 : decode cL_law 372 = .ok (.goto 2063, 3) := dk_167 8 15 (dk_at dksL_law_10 13 rfl rfl)
theorem dL_law_375 : decode cL_law 375 = .ok (.aload_n 1, 1) := dk_43 (dk_at dksL_law_10 16 rfl rfl)
theorem dL_law_376 : decode cL_law 376 = .ok (.aload_n 0, 1) := dk_42 (dk_at dksL_law_10 17 rfl rfl)
theorem dL_law_377 : decode cL_law 377 = .ok (.iload 4, 2) := dk_21 4 (dk_at dksL_law_10 18 rfl rfl)
theorem dL_law_379 : decode cL_law 379 = .ok (.iconst 1, 1) := dk_4 (dk_at dksL_law_10 20 rfl rfl)
theorem dL_law_380 : decode cL_law 380 = .ok (.iadd, 1) := dk_96 (dk_at dksL_law_10 21 rfl rfl)
theorem dL_law_381 : decode cL_law 381 = .ok (.iaload, 1) := dk_46 (dk_at dksL_law_10 22 rfl rfl)
theorem dL_law_382 : decode cL_law 382 = .ok (.aload_n 3, 1) := dk_45 (dk_at dksL_law_10 23 rfl rfl)
theorem dL_law_383 : decode cL_law 383 = .ok (.invokestatic 149, 3) := dk_184 0 149 (dk_at dksL_law_11 0 rfl rfl)
theorem dL_law_386 : decode cL_law 386 = .ok (.istore 5, 2) := dk_54 5 (dk_at dksL_law_11 3 rfl rfl)
theorem dL_law_388 : decode cL_law 388 = .ok (.aload_n 2, 1) := dk_44 (dk_at dksL_law_11 5 rfl rfl)
theorem dL_law_389 : decode cL_law 389 = .ok (.aload_n 0, 1) := dk_42 (dk_at dksL_law_11 6 rfl rfl)
theorem dL_law_390 : decode cL_law 390 = .ok (.iload 4, 2) := dk_21 4 (dk_at dksL_law_11 7 rfl rfl)
theorem dL_law_392 : decode cL_law 392 = .ok (.iconst 1, 1) := dk_4 (dk_at dksL_law_11 9 rfl rfl)
theorem dL_law_393 : decode cL_law 393 = .ok (.iadd, 1) := dk_96 (dk_at dksL_law_11 10 rfl rfl)
theorem dL_law_394 : decode cL_law 394 = .ok (.iaload, 1) := dk_46 (dk_at dksL_law_11 11 rfl rfl)
theorem dL_law_395 : decode cL_law 395 = .ok (.invokevirtual 151, 3) := dk_182 0 151 (dk_at dksL_law_11 12 rfl rfl)
theorem dL_law_398 : decode cL_law 398 = .ok (.istore 6, 2) := dk_54 6 (dk_at dksL_law_11 15 rfl rfl)
theorem dL_law_400 : decode cL_law 400 = .ok (.aload_n 2, 1) := dk_44 (dk_at dksL_law_11 17 rfl rfl)
theorem dL_law_401 : decode cL_law 401 = .ok (.invokevirtual 138, 3) := dk_182 0 138 (dk_at dksL_law_11 18 rfl rfl)
theorem dL_law_404 : decode cL_law 404 = .ok (.iload 5, 2) := dk_21 5 (dk_at dksL_law_11 21 rfl rfl)
theorem dL_law_406 : decode cL_law 406 = .ok (.if_icmp .eq 5, 3) := dk_159 0 5 (dk_at dksL_law_12 0 rfl rfl)
theorem dL_law_409 : decode cL_law 409 = .ok (.iconst 0, 1) := dk_3 (dk_at dksL_law_12 3 rfl rfl)
theorem dL_law_410 : decode cL_law 410 = .ok (.ireturn, 1) := dk_172 (dk_at dksL_law_12 4 rfl rfl)
theorem dL_law_411 : decode cL_law 411 = .ok (.iload 5, 2) := dk_21 5 (dk_at dksL_law_12 5 rfl rfl)
theorem dL_law_413 : decode cL_law 413 = .ok (.ifCond .ne 16, 3) := dk_154 0 16 (dk_at dksL_law_12 7 rfl rfl)
theorem dL_law_416 : decode cL_law 416 = .ok (.aload_n 3, 1) := dk_45 (dk_at dksL_law_12 10 rfl rfl)
theorem dL_law_417 : decode cL_law 417 = .ok (.getfield 13, 3) := dk_180 0 13 (dk_at dksL_law_12 11 rfl rfl)
theorem dL_law_420 : decode cL_law 420 = .ok (.iload 6, 2) := dk_21 6 (dk_at dksL_law_12 14 rfl rfl)
theorem dL_law_422 : decode cL_law 422 = .ok (.i2l, 1) := dk_133 (dk_at dksL_law_12 16 rfl rfl)
theorem dL_law_423 : decode cL_law 423 = .ok (.lcmp, 1) := dk_148 (dk_at dksL_law_12 17 rfl rfl)
theorem dL_law_424 : decode cL_law 424 = .ok (.ifCond .eq 5, 3) := dk_153 0 5 (dk_at dksL_law_12 18 rfl rfl)
theorem dL_law_427 : decode cL_law 427 = .ok (.iconst 0, 1) := dk_3 (dk_at dksL_law_12 21 rfl rfl)
theorem dL_law_428 : decode cL_law 428 = .ok (.ireturn, 1) := dk_172 (dk_at dksL_law_12 22 rfl rfl)
theorem dL_law_429 : decode cL_law 429 = .ok (.goto 2006, 3) := dk_167 7 214 (dk_at dksL_law_13 0 rfl rfl)
theorem dL_law_432 : decode cL_law 432 = .ok (.aload_n 1, 1) := dk_43 (dk_at dksL_law_13 3 rfl rfl)
theorem dL_law_433 : decode cL_law 433 = .ok (.aload_n 0, 1) := dk_42 (dk_at dksL_law_13 4 rfl rfl)
theorem dL_law_434 : decode cL_law 434 = .ok (.iload 4, 2) := dk_21 4 (dk_at dksL_law_13 5 rfl rfl)
theorem dL_law_436 : decode cL_law 436 = .ok (.iconst 1, 1) := dk_4 (dk_at dksL_law_13 7 rfl rfl)
theorem dL_law_437 : decode cL_law 437 = .ok (.iadd, 1) := dk_96 (dk_at dksL_law_13 8 rfl rfl)
theorem dL_law_438 : decode cL_law 438 = .ok (.iaload, 1) := dk_46 (dk_at dksL_law_13 9 rfl rfl)
theorem dL_law_439 : decode cL_law 439 = .ok (.aload_n 0, 1) := dk_42 (dk_at dksL_law_13 10 rfl rfl)
theorem dL_law_440 : decode cL_law 440 = .ok (.iload 4, 2) := dk_21 4 (dk_at dksL_law_13 11 rfl rfl)
theorem dL_law_442 : decode cL_law 442 = .ok (.iconst 2, 1) := dk_5 (dk_at dksL_law_13 13 rfl rfl)
theorem dL_law_443 : decode cL_law 443 = .ok (.iadd, 1) := dk_96 (dk_at dksL_law_13 14 rfl rfl)
theorem dL_law_444 : decode cL_law 444 = .ok (.iaload, 1) := dk_46 (dk_at dksL_law_13 15 rfl rfl)
theorem dL_law_445 : decode cL_law 445 = .ok (.aload_n 0, 1) := dk_42 (dk_at dksL_law_13 16 rfl rfl)
theorem dL_law_446 : decode cL_law 446 = .ok (.iload 4, 2) := dk_21 4 (dk_at dksL_law_13 17 rfl rfl)
theorem dL_law_448 : decode cL_law 448 = .ok (.iconst 3, 1) := dk_6 (dk_at dksL_law_13 19 rfl rfl)
theorem dL_law_449 : decode cL_law 449 = .ok (.iadd, 1) := dk_96 (dk_at dksL_law_13 20 rfl rfl)
theorem dL_law_450 : decode cL_law 450 = .ok (.iaload, 1) := dk_46 (dk_at dksL_law_13 21 rfl rfl)
theorem dL_law_451 : decode cL_law 451 = .ok (.aload_n 3, 1) := dk_45 (dk_at dksL_law_13 22 rfl rfl)
theorem dL_law_452 : decode cL_law 452 = .ok (.invokestatic 152, 3) := dk_184 0 152 (dk_at dksL_law_14 0 rfl rfl)
theorem dL_law_455 : decode cL_law 455 = .ok (.istore 5, 2) := dk_54 5 (dk_at dksL_law_14 3 rfl rfl)
theorem dL_law_457 : decode cL_law 457 = .ok (.aload_n 2, 1) := dk_44 (dk_at dksL_law_14 5 rfl rfl)
theorem dL_law_458 : decode cL_law 458 = .ok (.aload_n 0, 1) := dk_42 (dk_at dksL_law_14 6 rfl rfl)
theorem dL_law_459 : decode cL_law 459 = .ok (.iload 4, 2) := dk_21 4 (dk_at dksL_law_14 7 rfl rfl)
theorem dL_law_461 : decode cL_law 461 = .ok (.iconst 1, 1) := dk_4 (dk_at dksL_law_14 9 rfl rfl)
theorem dL_law_462 : decode cL_law 462 = .ok (.iadd, 1) := dk_96 (dk_at dksL_law_14 10 rfl rfl)
theorem dL_law_463 : decode cL_law 463 = .ok (.iaload, 1) := dk_46 (dk_at dksL_law_14 11 rfl rfl)
theorem dL_law_464 : decode cL_law 464 = .ok (.aload_n 0, 1) := dk_42 (dk_at dksL_law_14 12 rfl rfl)
theorem dL_law_465 : decode cL_law 465 = .ok (.iload 4, 2) := dk_21 4 (dk_at dksL_law_14 13 rfl rfl)
theorem dL_law_467 : decode cL_law 467 = .ok (.iconst 2, 1) := dk_5 (dk_at dksL_law_14 15 rfl rfl)
theorem dL_law_468 : decode cL_law 468 = .ok (.iadd, 1) := dk_96 (dk_at dksL_law_14 16 rfl rfl)
theorem dL_law_469 : decode cL_law 469 = .ok (.iaload, 1) := dk_46 (dk_at dksL_law_14 17 rfl rfl)
theorem dL_law_470 : decode cL_law 470 = .ok (.aload_n 0, 1) := dk_42 (dk_at dksL_law_14 18 rfl rfl)
theorem dL_law_471 : decode cL_law 471 = .ok (.iload 4, 2) := dk_21 4 (dk_at dksL_law_14 19 rfl rfl)
theorem dL_law_473 : decode cL_law 473 = .ok (.iconst 3, 1) := dk_6 (dk_at dksL_law_14 21 rfl rfl)
theorem dL_law_474 : decode cL_law 474 = .ok (.iadd, 1) := dk_96 (dk_at dksL_law_14 22 rfl rfl)
theorem dL_law_475 : decode cL_law 475 = .ok (.iaload, 1) := dk_46 (dk_at dksL_law_14 23 rfl rfl)
theorem dL_law_476 : decode cL_law 476 = .ok (.invokevirtual 155, 3) := dk_182 0 155 (dk_at dksL_law_15 0 rfl rfl)
theorem dL_law_479 : decode cL_law 479 = .ok (.istore 6, 2) := dk_54 6 (dk_at dksL_law_15 3 rfl rfl)
theorem dL_law_481 : decode cL_law 481 = .ok (.aload_n 2, 1) := dk_44 (dk_at dksL_law_15 5 rfl rfl)
theorem dL_law_482 : decode cL_law 482 = .ok (.invokevirtual 138, 3) := dk_182 0 138 (dk_at dksL_law_15 6 rfl rfl)
theorem dL_law_485 : decode cL_law 485 = .ok (.iload 5, 2) := dk_21 5 (dk_at dksL_law_15 9 rfl rfl)
theorem dL_law_487 : decode cL_law 487 = .ok (.if_icmp .eq 5, 3) := dk_159 0 5 (dk_at dksL_law_15 11 rfl rfl)
theorem dL_law_490 : decode cL_law 490 = .ok (.iconst 0, 1) := dk_3 (dk_at dksL_law_15 14 rfl rfl)
theorem dL_law_491 : decode cL_law 491 = .ok (.ireturn, 1) := dk_172 (dk_at dksL_law_15 15 rfl rfl)
theorem dL_law_492 : decode cL_law 492 = .ok (.iload 5, 2) := dk_21 5 (dk_at dksL_law_15 16 rfl rfl)
theorem dL_law_494 : decode cL_law 494 = .ok (.ifCond .ne 16, 3) := dk_154 0 16 (dk_at dksL_law_15 18 rfl rfl)
theorem dL_law_497 : decode cL_law 497 = .ok (.aload_n 3, 1) := dk_45 (dk_at dksL_law_15 21 rfl rfl)
theorem dL_law_498 : decode cL_law 498 = .ok (.getfield 13, 3) := dk_180 0 13 (dk_at dksL_law_16 0 rfl rfl)
theorem dL_law_501 : decode cL_law 501 = .ok (.iload 6, 2) := dk_21 6 (dk_at dksL_law_16 3 rfl rfl)
theorem dL_law_503 : decode cL_law 503 = .ok (.i2l, 1) := dk_133 (dk_at dksL_law_16 5 rfl rfl)
theorem dL_law_504 : decode cL_law 504 = .ok (.lcmp, 1) := dk_148 (dk_at dksL_law_16 6 rfl rfl)
theorem dL_law_505 : decode cL_law 505 = .ok (.ifCond .eq 5, 3) := dk_153 0 5 (dk_at dksL_law_16 7 rfl rfl)
theorem dL_law_508 : decode cL_law 508 = .ok (.iconst 0, 1) := dk_3 (dk_at dksL_law_16 10 rfl rfl)
theorem dL_law_509 : decode cL_law 509 = .ok (.ireturn, 1) := dk_172 (dk_at dksL_law_16 11 rfl rfl)
theorem dL_law_510 : decode cL_law 510 = .ok (.goto 1925, 3) := dk_167 7 133 (dk_at dksL_law_16 12 rfl rfl)
theorem dL_law_513 : decode cL_law 513 = .ok (.aload_n 1, 1) := dk_43 (dk_at dksL_law_16 15 rfl rfl)
theorem dL_law_514 : decode cL_law 514 = .ok (.aload_n 0, 1) := dk_42 (dk_at dksL_law_16 16 rfl rfl)
theorem dL_law_515 : decode cL_law 515 = .ok (.iload 4, 2) := dk_21 4 (dk_at dksL_law_16 17 rfl rfl)
theorem dL_law_517 : decode cL_law 517 = .ok (.iconst 1, 1) := dk_4 (dk_at dksL_law_16 19 rfl rfl)
theorem dL_law_518 : decode cL_law 518 = .ok (.iadd, 1) := dk_96 (dk_at dksL_law_16 20 rfl rfl)
theorem dL_law_519 : decode cL_law 519 = .ok (.iaload, 1) := dk_46 (dk_at dksL_law_16 21 rfl rfl)
theorem dL_law_520 : decode cL_law 520 = .ok (.aload_n 0, 1) := dk_42 (dk_at dksL_law_16 22 rfl rfl)
theorem dL_law_521 : decode cL_law 521 = .ok (.iload 4, 2) := dk_21 4 (dk_at dksL_law_17 0 rfl rfl)
theorem dL_law_523 : decode cL_law 523 = .ok (.iconst 2, 1) := dk_5 (dk_at dksL_law_17 2 rfl rfl)
theorem dL_law_524 : decode cL_law 524 = .ok (.iadd, 1) := dk_96 (dk_at dksL_law_17 3 rfl rfl)
theorem dL_law_525 : decode cL_law 525 = .ok (.iaload, 1) := dk_46 (dk_at dksL_law_17 4 rfl rfl)
theorem dL_law_526 : decode cL_law 526 = .ok (.aload_n 0, 1) := dk_42 (dk_at dksL_law_17 5 rfl rfl)
theorem dL_law_527 : decode cL_law 527 = .ok (.iload 4, 2) := dk_21 4 (dk_at dksL_law_17 6 rfl rfl)
theorem dL_law_529 : decode cL_law 529 = .ok (.iconst 3, 1) := dk_6 (dk_at dksL_law_17 8 rfl rfl)
theorem dL_law_530 : decode cL_law 530 = .ok (.iadd, 1) := dk_96 (dk_at dksL_law_17 9 rfl rfl)
theorem dL_law_531 : decode cL_law 531 = .ok (.iaload, 1) := dk_46 (dk_at dksL_law_17 10 rfl rfl)
theorem dL_law_532 : decode cL_law 532 = .ok (.aload_n 3, 1) := dk_45 (dk_at dksL_law_17 11 rfl rfl)
theorem dL_law_533 : decode cL_law 533 = .ok (.invokestatic 156, 3) := dk_184 0 156 (dk_at dksL_law_17 12 rfl rfl)
theorem dL_law_536 : decode cL_law 536 = .ok (.istore 5, 2) := dk_54 5 (dk_at dksL_law_17 15 rfl rfl)
theorem dL_law_538 : decode cL_law 538 = .ok (.aload_n 2, 1) := dk_44 (dk_at dksL_law_17 17 rfl rfl)
theorem dL_law_539 : decode cL_law 539 = .ok (.aload_n 0, 1) := dk_42 (dk_at dksL_law_17 18 rfl rfl)
theorem dL_law_540 : decode cL_law 540 = .ok (.iload 4, 2) := dk_21 4 (dk_at dksL_law_17 19 rfl rfl)
theorem dL_law_542 : decode cL_law 542 = .ok (.iconst 1, 1) := dk_4 (dk_at dksL_law_17 21 rfl rfl)
theorem dL_law_543 : decode cL_law 543 = .ok (.iadd, 1) := dk_96 (dk_at dksL_law_17 22 rfl rfl)
theorem dL_law_544 : decode cL_law 544 = .ok (.iaload, 1) := dk_46 (dk_at dksL_law_17 23 rfl rfl)
theorem dL_law_545 : decode cL_law 545 = .ok (.aload_n 0, 1) := dk_42 (dk_at dksL_law_18 0 rfl rfl)
theorem dL_law_546 : decode cL_law 546 = .ok (.iload 4, 2) := dk_21 4 (dk_at dksL_law_18 1 rfl rfl)
theorem dL_law_548 : decode cL_law 548 = .ok (.iconst 2, 1) := dk_5 (dk_at dksL_law_18 3 rfl rfl)
theorem dL_law_549 : decode cL_law 549 = .ok (.iadd, 1) := dk_96 (dk_at dksL_law_18 4 rfl rfl)
theorem dL_law_550 : decode cL_law 550 = .ok (.iaload, 1) := dk_46 (dk_at dksL_law_18 5 rfl rfl)
theorem dL_law_551 : decode cL_law 551 = .ok (.aload_n 0, 1) := dk_42 (dk_at dksL_law_18 6 rfl rfl)
theorem dL_law_552 : decode cL_law 552 = .ok (.iload 4, 2) := dk_21 4 (dk_at dksL_law_18 7 rfl rfl)
theorem dL_law_554 : decode cL_law 554 = .ok (.iconst 3, 1) := dk_6 (dk_at dksL_law_18 9 rfl rfl)
theorem dL_law_555 : decode cL_law 555 = .ok (.iadd, 1) := dk_96 (dk_at dksL_law_18 10 rfl rfl)
theorem dL_law_556 : decode cL_law 556 = .ok (.iaload, 1) := dk_46 (dk_at dksL_law_18 11 rfl rfl)
theorem dL_law_557 : decode cL_law 557 = .ok (.invokevirtual 158, 3) := dk_182 0 158 (dk_at dksL_law_18 12 rfl rfl)
theorem dL_law_560 : decode cL_law 560 = .ok (.istore 6, 2) := dk_54 6 (dk_at dksL_law_18 15 rfl rfl)
theorem dL_law_562 : decode cL_law 562 = .ok (.aload_n 2, 1) := dk_44 (dk_at dksL_law_18 17 rfl rfl)
theorem dL_law_563 : decode cL_law 563 = .ok (.invokevirtual 138, 3) := dk_182 0 138 (dk_at dksL_law_18 18 rfl rfl)
theorem dL_law_566 : decode cL_law 566 = .ok (.iload 5, 2) := dk_21 5 (dk_at dksL_law_18 21 rfl rfl)
theorem dL_law_568 : decode cL_law 568 = .ok (.if_icmp .eq 5, 3) := dk_159 0 5 (dk_at dksL_law_19 0 rfl rfl)
theorem dL_law_571 : decode cL_law 571 = .ok (.iconst 0, 1) := dk_3 (dk_at dksL_law_19 3 rfl rfl)
theorem dL_law_572 : decode cL_law 572 = .ok (.ireturn, 1) := dk_172 (dk_at dksL_law_19 4 rfl rfl)
theorem dL_law_573 : decode cL_law 573 = .ok (.iload 5, 2) := dk_21 5 (dk_at dksL_law_19 5 rfl rfl)
theorem dL_law_575 : decode cL_law 575 = .ok (.ifCond .ne 16, 3) := dk_154 0 16 (dk_at dksL_law_19 7 rfl rfl)
theorem dL_law_578 : decode cL_law 578 = .ok (.aload_n 3, 1) := dk_45 (dk_at dksL_law_19 10 rfl rfl)
theorem dL_law_579 : decode cL_law 579 = .ok (.getfield 13, 3) := dk_180 0 13 (dk_at dksL_law_19 11 rfl rfl)
theorem dL_law_582 : decode cL_law 582 = .ok (.iload 6, 2) := dk_21 6 (dk_at dksL_law_19 14 rfl rfl)
theorem dL_law_584 : decode cL_law 584 = .ok (.i2l, 1) := dk_133 (dk_at dksL_law_19 16 rfl rfl)
theorem dL_law_585 : decode cL_law 585 = .ok (.lcmp, 1) := dk_148 (dk_at dksL_law_19 17 rfl rfl)
theorem dL_law_586 : decode cL_law 586 = .ok (.ifCond .eq 5, 3) := dk_153 0 5 (dk_at dksL_law_19 18 rfl rfl)
theorem dL_law_589 : decode cL_law 589 = .ok (.iconst 0, 1) := dk_3 (dk_at dksL_law_19 21 rfl rfl)
theorem dL_law_590 : decode cL_law 590 = .ok (.ireturn, 1) := dk_172 (dk_at dksL_law_19 22 rfl rfl)
theorem dL_law_591 : decode cL_law 591 = .ok (.goto 1844, 3) := dk_167 7 52 (dk_at dksL_law_20 0 rfl rfl)
theorem dL_law_594 : decode cL_law 594 = .ok (.aload_n 1, 1) := dk_43 (dk_at dksL_law_20 3 rfl rfl)
theorem dL_law_595 : decode cL_law 595 = .ok (.aload_n 0, 1) := dk_42 (dk_at dksL_law_20 4 rfl rfl)
theorem dL_law_596 : decode cL_law 596 = .ok (.iload 4, 2) := dk_21 4 (dk_at dksL_law_20 5 rfl rfl)
theorem dL_law_598 : decode cL_law 598 = .ok (.iconst 1, 1) := dk_4 (dk_at dksL_law_20 7 rfl rfl)
theorem dL_law_599 : decode cL_law 599 = .ok (.iadd, 1) := dk_96 (dk_at dksL_law_20 8 rfl rfl)
theorem dL_law_600 : decode cL_law 600 = .ok (.iaload, 1) := dk_46 (dk_at dksL_law_20 9 rfl rfl)
theorem dL_law_601 : decode cL_law 601 = .ok (.aload_n 0, 1) := dk_42 (dk_at dksL_law_20 10 rfl rfl)
theorem dL_law_602 : decode cL_law 602 = .ok (.iload 4, 2) := dk_21 4 (dk_at dksL_law_20 11 rfl rfl)
theorem dL_law_604 : decode cL_law 604 = .ok (.iconst 2, 1) := dk_5 (dk_at dksL_law_20 13 rfl rfl)
theorem dL_law_605 : decode cL_law 605 = .ok (.iadd, 1) := dk_96 (dk_at dksL_law_20 14 rfl rfl)
theorem dL_law_606 : decode cL_law 606 = .ok (.iaload, 1) := dk_46 (dk_at dksL_law_20 15 rfl rfl)
theorem dL_law_607 : decode cL_law 607 = .ok (.aload_n 0, 1) := dk_42 (dk_at dksL_law_20 16 rfl rfl)
theorem dL_law_608 : decode cL_law 608 = .ok (.iload 4, 2) := dk_21 4 (dk_at dksL_law_20 17 rfl rfl)
theorem dL_law_610 : decode cL_law 610 = .ok (.iconst 3, 1) := dk_6 (dk_at dksL_law_20 19 rfl rfl)
theorem dL_law_611 : decode cL_law 611 = .ok (.iadd, 1) := dk_96 (dk_at dksL_law_20 20 rfl rfl)
theorem dL_law_612 : decode cL_law 612 = .ok (.iaload, 1) := dk_46 (dk_at dksL_law_20 21 rfl rfl)
theorem dL_law_613 : decode cL_law 613 = .ok (.aload_n 3, 1) := dk_45 (dk_at dksL_law_20 22 rfl rfl)
theorem dL_law_614 : decode cL_law 614 = .ok (.invokestatic 159, 3) := dk_184 0 159 (dk_at dksL_law_21 0 rfl rfl)
theorem dL_law_617 : decode cL_law 617 = .ok (.istore 5, 2) := dk_54 5 (dk_at dksL_law_21 3 rfl rfl)
theorem dL_law_619 : decode cL_law 619 = .ok (.aload_n 2, 1) := dk_44 (dk_at dksL_law_21 5 rfl rfl)
theorem dL_law_620 : decode cL_law 620 = .ok (.aload_n 0, 1) := dk_42 (dk_at dksL_law_21 6 rfl rfl)
theorem dL_law_621 : decode cL_law 621 = .ok (.iload 4, 2) := dk_21 4 (dk_at dksL_law_21 7 rfl rfl)
theorem dL_law_623 : decode cL_law 623 = .ok (.iconst 1, 1) := dk_4 (dk_at dksL_law_21 9 rfl rfl)
theorem dL_law_624 : decode cL_law 624 = .ok (.iadd, 1) := dk_96 (dk_at dksL_law_21 10 rfl rfl)
theorem dL_law_625 : decode cL_law 625 = .ok (.iaload, 1) := dk_46 (dk_at dksL_law_21 11 rfl rfl)
theorem dL_law_626 : decode cL_law 626 = .ok (.aload_n 0, 1) := dk_42 (dk_at dksL_law_21 12 rfl rfl)
theorem dL_law_627 : decode cL_law 627 = .ok (.iload 4, 2) := dk_21 4 (dk_at dksL_law_21 13 rfl rfl)
theorem dL_law_629 : decode cL_law 629 = .ok (.iconst 2, 1) := dk_5 (dk_at dksL_law_21 15 rfl rfl)
theorem dL_law_630 : decode cL_law 630 = .ok (.iadd, 1) := dk_96 (dk_at dksL_law_21 16 rfl rfl)
theorem dL_law_631 : decode cL_law 631 = .ok (.iaload, 1) := dk_46 (dk_at dksL_law_21 17 rfl rfl)
theorem dL_law_632 : decode cL_law 632 = .ok (.aload_n 0, 1) := dk_42 (dk_at dksL_law_21 18 rfl rfl)
theorem dL_law_633 : decode cL_law 633 = .ok (.iload 4, 2) := dk_21 4 (dk_at dksL_law_21 19 rfl rfl)
theorem dL_law_635 : decode cL_law 635 = .ok (.iconst 3, 1) := dk_6 (dk_at dksL_law_21 21 rfl rfl)
theorem dL_law_636 : decode cL_law 636 = .ok (.iadd, 1) := dk_96 (dk_at dksL_law_21 22 rfl rfl)
theorem dL_law_637 : decode cL_law 637 = .ok (.iaload, 1) := dk_46 (dk_at dksL_law_21 23 rfl rfl)
theorem dL_law_638 : decode cL_law 638 = .ok (.invokevirtual 161, 3) := dk_182 0 161 (dk_at dksL_law_22 0 rfl rfl)
theorem dL_law_641 : decode cL_law 641 = .ok (.istore 6, 2) := dk_54 6 (dk_at dksL_law_22 3 rfl rfl)
theorem dL_law_643 : decode cL_law 643 = .ok (.aload_n 2, 1) := dk_44 (dk_at dksL_law_22 5 rfl rfl)
theorem dL_law_644 : decode cL_law 644 = .ok (.invokevirtual 138, 3) := dk_182 0 138 (dk_at dksL_law_22 6 rfl rfl)
theorem dL_law_647 : decode cL_law 647 = .ok (.iload 5, 2) := dk_21 5 (dk_at dksL_law_22 9 rfl rfl)
theorem dL_law_649 : decode cL_law 649 = .ok (.if_icmp .eq 5, 3) := dk_159 0 5 (dk_at dksL_law_22 11 rfl rfl)
theorem dL_law_652 : decode cL_law 652 = .ok (.iconst 0, 1) := dk_3 (dk_at dksL_law_22 14 rfl rfl)
theorem dL_law_653 : decode cL_law 653 = .ok (.ireturn, 1) := dk_172 (dk_at dksL_law_22 15 rfl rfl)
theorem dL_law_654 : decode cL_law 654 = .ok (.iload 5, 2) := dk_21 5 (dk_at dksL_law_22 16 rfl rfl)
theorem dL_law_656 : decode cL_law 656 = .ok (.ifCond .ne 16, 3) := dk_154 0 16 (dk_at dksL_law_22 18 rfl rfl)
theorem dL_law_659 : decode cL_law 659 = .ok (.aload_n 3, 1) := dk_45 (dk_at dksL_law_22 21 rfl rfl)
theorem dL_law_660 : decode cL_law 660 = .ok (.getfield 13, 3) := dk_180 0 13 (dk_at dksL_law_23 0 rfl rfl)
theorem dL_law_663 : decode cL_law 663 = .ok (.iload 6, 2) := dk_21 6 (dk_at dksL_law_23 3 rfl rfl)
theorem dL_law_665 : decode cL_law 665 = .ok (.i2l, 1) := dk_133 (dk_at dksL_law_23 5 rfl rfl)
theorem dL_law_666 : decode cL_law 666 = .ok (.lcmp, 1) := dk_148 (dk_at dksL_law_23 6 rfl rfl)
theorem dL_law_667 : decode cL_law 667 = .ok (.ifCond .eq 5, 3) := dk_153 0 5 (dk_at dksL_law_23 7 rfl rfl)
theorem dL_law_670 : decode cL_law 670 = .ok (.iconst 0, 1) := dk_3 (dk_at dksL_law_23 10 rfl rfl)
theorem dL_law_671 : decode cL_law 671 = .ok (.ireturn, 1) := dk_172 (dk_at dksL_law_23 11 rfl rfl)
theorem dL_law_672 : decode cL_law 672 = .ok (.goto 1763, 3) := dk_167 6 227 (dk_at dksL_law_23 12 rfl rfl)
theorem dL_law_675 : decode cL_law 675 = .ok (.aload_n 1, 1) := dk_43 (dk_at dksL_law_23 15 rfl rfl)
theorem dL_law_676 : decode cL_law 676 = .ok (.aload_n 0, 1) := dk_42 (dk_at dksL_law_23 16 rfl rfl)
theorem dL_law_677 : decode cL_law 677 = .ok (.iload 4, 2) := dk_21 4 (dk_at dksL_law_23 17 rfl rfl)
theorem dL_law_679 : decode cL_law 679 = .ok (.iconst 1, 1) := dk_4 (dk_at dksL_law_23 19 rfl rfl)
theorem dL_law_680 : decode cL_law 680 = .ok (.iadd, 1) := dk_96 (dk_at dksL_law_23 20 rfl rfl)
theorem dL_law_681 : decode cL_law 681 = .ok (.iaload, 1) := dk_46 (dk_at dksL_law_23 21 rfl rfl)
theorem dL_law_682 : decode cL_law 682 = .ok (.aload_n 0, 1) := dk_42 (dk_at dksL_law_23 22 rfl rfl)
theorem dL_law_683 : decode cL_law 683 = .ok (.iload 4, 2) := dk_21 4 (dk_at dksL_law_24 0 rfl rfl)
theorem dL_law_685 : decode cL_law 685 = .ok (.iconst 2, 1) := dk_5 (dk_at dksL_law_24 2 rfl rfl)
theorem dL_law_686 : decode cL_law 686 = .ok (.iadd, 1) := dk_96 (dk_at dksL_law_24 3 rfl rfl)
theorem dL_law_687 : decode cL_law 687 = .ok (.iaload, 1) := dk_46 (dk_at dksL_law_24 4 rfl rfl)
theorem dL_law_688 : decode cL_law 688 = .ok (.aload_n 0, 1) := dk_42 (dk_at dksL_law_24 5 rfl rfl)
theorem dL_law_689 : decode cL_law 689 = .ok (.iload 4, 2) := dk_21 4 (dk_at dksL_law_24 6 rfl rfl)
theorem dL_law_691 : decode cL_law 691 = .ok (.iconst 3, 1) := dk_6 (dk_at dksL_law_24 8 rfl rfl)
theorem dL_law_692 : decode cL_law 692 = .ok (.iadd, 1) := dk_96 (dk_at dksL_law_24 9 rfl rfl)
theorem dL_law_693 : decode cL_law 693 = .ok (.iaload, 1) := dk_46 (dk_at dksL_law_24 10 rfl rfl)
theorem dL_law_694 : decode cL_law 694 = .ok (.aload_n 3, 1) := dk_45 (dk_at dksL_law_24 11 rfl rfl)
theorem dL_law_695 : decode cL_law 695 = .ok (.invokestatic 162, 3) := dk_184 0 162 (dk_at dksL_law_24 12 rfl rfl)
theorem dL_law_698 : decode cL_law 698 = .ok (.istore 5, 2) := dk_54 5 (dk_at dksL_law_24 15 rfl rfl)
theorem dL_law_700 : decode cL_law 700 = .ok (.aload_n 2, 1) := dk_44 (dk_at dksL_law_24 17 rfl rfl)
theorem dL_law_701 : decode cL_law 701 = .ok (.aload_n 0, 1) := dk_42 (dk_at dksL_law_24 18 rfl rfl)
theorem dL_law_702 : decode cL_law 702 = .ok (.iload 4, 2) := dk_21 4 (dk_at dksL_law_24 19 rfl rfl)
theorem dL_law_704 : decode cL_law 704 = .ok (.iconst 1, 1) := dk_4 (dk_at dksL_law_24 21 rfl rfl)
theorem dL_law_705 : decode cL_law 705 = .ok (.iadd, 1) := dk_96 (dk_at dksL_law_24 22 rfl rfl)
theorem dL_law_706 : decode cL_law 706 = .ok (.iaload, 1) := dk_46 (dk_at dksL_law_24 23 rfl rfl)
theorem dL_law_707 : decode cL_law 707 = .ok (.aload_n 0, 1) := dk_42 (dk_at dksL_law_25 0 rfl rfl)
theorem dL_law_708 : decode cL_law 708 = .ok (.iload 4, 2) := dk_21 4 (dk_at dksL_law_25 1 rfl rfl)
theorem dL_law_710 : decode cL_law 710 = .ok (.iconst 2, 1) := dk_5 (dk_at dksL_law_25 3 rfl rfl)
theorem dL_law_711 : decode cL_law 711 = .ok (.iadd, 1) := dk_96 (dk_at dksL_law_25 4 rfl rfl)
theorem dL_law_712 : decode cL_law 712 = .ok (.iaload, 1) := dk_46 (dk_at dksL_law_25 5 rfl rfl)
theorem dL_law_713 : decode cL_law 713 = .ok (.aload_n 0, 1) := dk_42 (dk_at dksL_law_25 6 rfl rfl)
theorem dL_law_714 : decode cL_law 714 = .ok (.iload 4, 2) := dk_21 4 (dk_at dksL_law_25 7 rfl rfl)
theorem dL_law_716 : decode cL_law 716 = .ok (.iconst 3, 1) := dk_6 (dk_at dksL_law_25 9 rfl rfl)
theorem dL_law_717 : decode cL_law 717 = .ok (.iadd, 1) := dk_96 (dk_at dksL_law_25 10 rfl rfl)
theorem dL_law_718 : decode cL_law 718 = .ok (.iaload, 1) := dk_46 (dk_at dksL_law_25 11 rfl rfl)
theorem dL_law_719 : decode cL_law 719 = .ok (.invokevirtual 164, 3) := dk_182 0 164 (dk_at dksL_law_25 12 rfl rfl)
theorem dL_law_722 : decode cL_law 722 = .ok (.istore 6, 2) := dk_54 6 (dk_at dksL_law_25 15 rfl rfl)
theorem dL_law_724 : decode cL_law 724 = .ok (.aload_n 2, 1) := dk_44 (dk_at dksL_law_25 17 rfl rfl)
theorem dL_law_725 : decode cL_law 725 = .ok (.invokevirtual 138, 3) := dk_182 0 138 (dk_at dksL_law_25 18 rfl rfl)
theorem dL_law_728 : decode cL_law 728 = .ok (.iload 5, 2) := dk_21 5 (dk_at dksL_law_25 21 rfl rfl)
theorem dL_law_730 : decode cL_law 730 = .ok (.if_icmp .eq 5, 3) := dk_159 0 5 (dk_at dksL_law_26 0 rfl rfl)
theorem dL_law_733 : decode cL_law 733 = .ok (.iconst 0, 1) := dk_3 (dk_at dksL_law_26 3 rfl rfl)
theorem dL_law_734 : decode cL_law 734 = .ok (.ireturn, 1) := dk_172 (dk_at dksL_law_26 4 rfl rfl)
theorem dL_law_735 : decode cL_law 735 = .ok (.iload 5, 2) := dk_21 5 (dk_at dksL_law_26 5 rfl rfl)
theorem dL_law_737 : decode cL_law 737 = .ok (.ifCond .ne 16, 3) := dk_154 0 16 (dk_at dksL_law_26 7 rfl rfl)
theorem dL_law_740 : decode cL_law 740 = .ok (.aload_n 3, 1) := dk_45 (dk_at dksL_law_26 10 rfl rfl)
theorem dL_law_741 : decode cL_law 741 = .ok (.getfield 13, 3) := dk_180 0 13 (dk_at dksL_law_26 11 rfl rfl)
theorem dL_law_744 : decode cL_law 744 = .ok (.iload 6, 2) := dk_21 6 (dk_at dksL_law_26 14 rfl rfl)
theorem dL_law_746 : decode cL_law 746 = .ok (.i2l, 1) := dk_133 (dk_at dksL_law_26 16 rfl rfl)
theorem dL_law_747 : decode cL_law 747 = .ok (.lcmp, 1) := dk_148 (dk_at dksL_law_26 17 rfl rfl)
theorem dL_law_748 : decode cL_law 748 = .ok (.ifCond .eq 5, 3) := dk_153 0 5 (dk_at dksL_law_26 18 rfl rfl)
theorem dL_law_751 : decode cL_law 751 = .ok (.iconst 0, 1) := dk_3 (dk_at dksL_law_26 21 rfl rfl)
theorem dL_law_752 : decode cL_law 752 = .ok (.ireturn, 1) := dk_172 (dk_at dksL_law_26 22 rfl rfl)
theorem dL_law_753 : decode cL_law 753 = .ok (.goto 1682, 3) := dk_167 6 146 (dk_at dksL_law_27 0 rfl rfl)
theorem dL_law_756 : decode cL_law 756 = .ok (.aload_n 1, 1) := dk_43 (dk_at dksL_law_27 3 rfl rfl)
theorem dL_law_757 : decode cL_law 757 = .ok (.aload_n 0, 1) := dk_42 (dk_at dksL_law_27 4 rfl rfl)
theorem dL_law_758 : decode cL_law 758 = .ok (.iload 4, 2) := dk_21 4 (dk_at dksL_law_27 5 rfl rfl)
theorem dL_law_760 : decode cL_law 760 = .ok (.iconst 1, 1) := dk_4 (dk_at dksL_law_27 7 rfl rfl)
theorem dL_law_761 : decode cL_law 761 = .ok (.iadd, 1) := dk_96 (dk_at dksL_law_27 8 rfl rfl)
theorem dL_law_762 : decode cL_law 762 = .ok (.iaload, 1) := dk_46 (dk_at dksL_law_27 9 rfl rfl)
theorem dL_law_763 : decode cL_law 763 = .ok (.aload_n 0, 1) := dk_42 (dk_at dksL_law_27 10 rfl rfl)
theorem dL_law_764 : decode cL_law 764 = .ok (.iload 4, 2) := dk_21 4 (dk_at dksL_law_27 11 rfl rfl)
theorem dL_law_766 : decode cL_law 766 = .ok (.iconst 2, 1) := dk_5 (dk_at dksL_law_27 13 rfl rfl)
theorem dL_law_767 : decode cL_law 767 = .ok (.iadd, 1) := dk_96 (dk_at dksL_law_27 14 rfl rfl)
theorem dL_law_768 : decode cL_law 768 = .ok (.iaload, 1) := dk_46 (dk_at dksL_law_27 15 rfl rfl)
theorem dL_law_769 : decode cL_law 769 = .ok (.aload_n 3, 1) := dk_45 (dk_at dksL_law_27 16 rfl rfl)
theorem dL_law_770 : decode cL_law 770 = .ok (.invokestatic 165, 3) := dk_184 0 165 (dk_at dksL_law_27 17 rfl rfl)
theorem dL_law_773 : decode cL_law 773 = .ok (.istore 5, 2) := dk_54 5 (dk_at dksL_law_27 20 rfl rfl)
theorem dL_law_775 : decode cL_law 775 = .ok (.aload_n 2, 1) := dk_44 (dk_at dksL_law_27 22 rfl rfl)
theorem dL_law_776 : decode cL_law 776 = .ok (.aload_n 0, 1) := dk_42 (dk_at dksL_law_27 23 rfl rfl)
theorem dL_law_777 : decode cL_law 777 = .ok (.iload 4, 2) := dk_21 4 (dk_at dksL_law_28 0 rfl rfl)
theorem dL_law_779 : decode cL_law 779 = .ok (.iconst 1, 1) := dk_4 (dk_at dksL_law_28 2 rfl rfl)
theorem dL_law_780 : decode cL_law 780 = .ok (.iadd, 1) := dk_96 (dk_at dksL_law_28 3 rfl rfl)
theorem dL_law_781 : decode cL_law 781 = .ok (.iaload, 1) := dk_46 (dk_at dksL_law_28 4 rfl rfl)
theorem dL_law_782 : decode cL_law 782 = .ok (.aload_n 0, 1) := dk_42 (dk_at dksL_law_28 5 rfl rfl)
theorem dL_law_783 : decode cL_law 783 = .ok (.iload 4, 2) := dk_21 4 (dk_at dksL_law_28 6 rfl rfl)
theorem dL_law_785 : decode cL_law 785 = .ok (.iconst 2, 1) := dk_5 (dk_at dksL_law_28 8 rfl rfl)
theorem dL_law_786 : decode cL_law 786 = .ok (.iadd, 1) := dk_96 (dk_at dksL_law_28 9 rfl rfl)
theorem dL_law_787 : decode cL_law 787 = .ok (.iaload, 1) := dk_46 (dk_at dksL_law_28 10 rfl rfl)
theorem dL_law_788 : decode cL_law 788 = .ok (.invokevirtual 167, 3) := dk_182 0 167 (dk_at dksL_law_28 11 rfl rfl)
theorem dL_law_791 : decode cL_law 791 = .ok (.istore 6, 2) := dk_54 6 (dk_at dksL_law_28 14 rfl rfl)
theorem dL_law_793 : decode cL_law 793 = .ok (.aload_n 2, 1) := dk_44 (dk_at dksL_law_28 16 rfl rfl)
theorem dL_law_794 : decode cL_law 794 = .ok (.invokevirtual 138, 3) := dk_182 0 138 (dk_at dksL_law_28 17 rfl rfl)
theorem dL_law_797 : decode cL_law 797 = .ok (.iload 5, 2) := dk_21 5 (dk_at dksL_law_28 20 rfl rfl)
theorem dL_law_799 : decode cL_law 799 = .ok (.if_icmp .eq 5, 3) := dk_159 0 5 (dk_at dksL_law_29 0 rfl rfl)
theorem dL_law_802 : decode cL_law 802 = .ok (.iconst 0, 1) := dk_3 (dk_at dksL_law_29 3 rfl rfl)
theorem dL_law_803 : decode cL_law 803 = .ok (.ireturn, 1) := dk_172 (dk_at dksL_law_29 4 rfl rfl)
theorem dL_law_804 : decode cL_law 804 = .ok (.iload 5, 2) := dk_21 5 (dk_at dksL_law_29 5 rfl rfl)
theorem dL_law_806 : decode cL_law 806 = .ok (.ifCond .ne 16, 3) := dk_154 0 16 (dk_at dksL_law_29 7 rfl rfl)
theorem dL_law_809 : decode cL_law 809 = .ok (.aload_n 3, 1) := dk_45 (dk_at dksL_law_29 10 rfl rfl)
theorem dL_law_810 : decode cL_law 810 = .ok (.getfield 13, 3) := dk_180 0 13 (dk_at dksL_law_29 11 rfl rfl)
theorem dL_law_813 : decode cL_law 813 = .ok (.iload 6, 2) := dk_21 6 (dk_at dksL_law_29 14 rfl rfl)
theorem dL_law_815 : decode cL_law 815 = .ok (.i2l, 1) := dk_133 (dk_at dksL_law_29 16 rfl rfl)
theorem dL_law_816 : decode cL_law 816 = .ok (.lcmp, 1) := dk_148 (dk_at dksL_law_29 17 rfl rfl)
theorem dL_law_817 : decode cL_law 817 = .ok (.ifCond .eq 5, 3) := dk_153 0 5 (dk_at dksL_law_29 18 rfl rfl)
theorem dL_law_820 : decode cL_law 820 = .ok (.iconst 0, 1) := dk_3 (dk_at dksL_law_29 21 rfl rfl)
theorem dL_law_821 : decode cL_law 821 = .ok (.ireturn, 1) := dk_172 (dk_at dksL_law_29 22 rfl rfl)
theorem dL_law_822 : decode cL_law 822 = .ok (.goto 1613, 3) := dk_167 6 77 (dk_at dksL_law_30 0 rfl rfl)
theorem dL_law_825 : decode cL_law 825 = .ok (.aload_n 1, 1) := dk_43 (dk_at dksL_law_30 3 rfl rfl)
theorem dL_law_826 : decode cL_law 826 = .ok (.aload_n 0, 1) := dk_42 (dk_at dksL_law_30 4 rfl rfl)
theorem dL_law_827 : decode cL_law 827 = .ok (.iload 4, 2) := dk_21 4 (dk_at dksL_law_30 5 rfl rfl)
theorem dL_law_829 : decode cL_law 829 = .ok (.iconst 1, 1) := dk_4 (dk_at dksL_law_30 7 rfl rfl)
theorem dL_law_830 : decode cL_law 830 = .ok (.iadd, 1) := dk_96 (dk_at dksL_law_30 8 rfl rfl)
theorem dL_law_831 : decode cL_law 831 = .ok (.iaload, 1) := dk_46 (dk_at dksL_law_30 9 rfl rfl)
theorem dL_law_832 : decode cL_law 832 = .ok (.aload_n 0, 1) := dk_42 (dk_at dksL_law_30 10 rfl rfl)
theorem dL_law_833 : decode cL_law 833 = .ok (.iload 4, 2) := dk_21 4 (dk_at dksL_law_30 11 rfl rfl)
theorem dL_law_835 : decode cL_law 835 = .ok (.iconst 2, 1) := dk_5 (dk_at dksL_law_30 13 rfl rfl)
theorem dL_law_836 : decode cL_law 836 = .ok (.iadd, 1) := dk_96 (dk_at dksL_law_30 14 rfl rfl)
theorem dL_law_837 : decode cL_law 837 = .ok (.iaload, 1) := dk_46 (dk_at dksL_law_30 15 rfl rfl)
theorem dL_law_838 : decode cL_law 838 = .ok (.aload_n 0, 1) := dk_42 (dk_at dksL_law_30 16 rfl rfl)
theorem dL_law_839 : decode cL_law 839 = .ok (.iload 4, 2) := dk_21 4 (dk_at dksL_law_30 17 rfl rfl)
theorem dL_law_841 : decode cL_law 841 = .ok (.iconst 3, 1) := dk_6 (dk_at dksL_law_30 19 rfl rfl)
theorem dL_law_842 : decode cL_law 842 = .ok (.iadd, 1) := dk_96 (dk_at dksL_law_30 20 rfl rfl)
theorem dL_law_843 : decode cL_law 843 = .ok (.iaload, 1) := dk_46 (dk_at dksL_law_30 21 rfl rfl)
theorem dL_law_844 : decode cL_law 844 = .ok (.aload_n 3, 1) := dk_45 (dk_at dksL_law_30 22 rfl rfl)
theorem dL_law_845 : decode cL_law 845 = .ok (.invokestatic 168, 3) := dk_184 0 168 (dk_at dksL_law_31 0 rfl rfl)
theorem dL_law_848 : decode cL_law 848 = .ok (.istore 5, 2) := dk_54 5 (dk_at dksL_law_31 3 rfl rfl)
theorem dL_law_850 : decode cL_law 850 = .ok (.aload_n 2, 1) := dk_44 (dk_at dksL_law_31 5 rfl rfl)
theorem dL_law_851 : decode cL_law 851 = .ok (.aload_n 0, 1) := dk_42 (dk_at dksL_law_31 6 rfl rfl)
theorem dL_law_852 : decode cL_law 852 = .ok (.iload 4, 2) := dk_21 4 (dk_at dksL_law_31 7 rfl rfl)
theorem dL_law_854 : decode cL_law 854 = .ok (.iconst 1, 1) := dk_4 (dk_at dksL_law_31 9 rfl rfl)
theorem dL_law_855 : decode cL_law 855 = .ok (.iadd, 1) := dk_96 (dk_at dksL_law_31 10 rfl rfl)
theorem dL_law_856 : decode cL_law 856 = .ok (.iaload, 1) := dk_46 (dk_at dksL_law_31 11 rfl rfl)
theorem dL_law_857 : decode cL_law 857 = .ok (.aload_n 0, 1) := dk_42 (dk_at dksL_law_31 12 rfl rfl)
theorem dL_law_858 : decode cL_law 858 = .ok (.iload 4, 2) := dk_21 4 (dk_at dksL_law_31 13 rfl rfl)
theorem dL_law_860 : decode cL_law 860 = .ok (.iconst 2, 1) := dk_5 (dk_at dksL_law_31 15 rfl rfl)
theorem dL_law_861 : decode cL_law 861 = .ok (.iadd, 1) := dk_96 (dk_at dksL_law_31 16 rfl rfl)
theorem dL_law_862 : decode cL_law 862 = .ok (.iaload, 1) := dk_46 (dk_at dksL_law_31 17 rfl rfl)
theorem dL_law_863 : decode cL_law 863 = .ok (.aload_n 0, 1) := dk_42 (dk_at dksL_law_31 18 rfl rfl)
theorem dL_law_864 : decode cL_law 864 = .ok (.iload 4, 2) := dk_21 4 (dk_at dksL_law_31 19 rfl rfl)
theorem dL_law_866 : decode cL_law 866 = .ok (.iconst 3, 1) := dk_6 (dk_at dksL_law_31 21 rfl rfl)
theorem dL_law_867 : decode cL_law 867 = .ok (.iadd, 1) := dk_96 (dk_at dksL_law_31 22 rfl rfl)
theorem dL_law_868 : decode cL_law 868 = .ok (.iaload, 1) := dk_46 (dk_at dksL_law_31 23 rfl rfl)
theorem dL_law_869 : decode cL_law 869 = .ok (.invokevirtual 170, 3) := dk_182 0 170 (dk_at dksL_law_32 0 rfl rfl)
theorem dL_law_872 : decode cL_law 872 = .ok (.istore 6, 2) := dk_54 6 (dk_at dksL_law_32 3 rfl rfl)
theorem dL_law_874 : decode cL_law 874 = .ok (.aload_n 2, 1) := dk_44 (dk_at dksL_law_32 5 rfl rfl)
theorem dL_law_875 : decode cL_law 875 = .ok (.invokevirtual 138, 3) := dk_182 0 138 (dk_at dksL_law_32 6 rfl rfl)
theorem dL_law_878 : decode cL_law 878 = .ok (.iload 5, 2) := dk_21 5 (dk_at dksL_law_32 9 rfl rfl)
theorem dL_law_880 : decode cL_law 880 = .ok (.if_icmp .eq 5, 3) := dk_159 0 5 (dk_at dksL_law_32 11 rfl rfl)
theorem dL_law_883 : decode cL_law 883 = .ok (.iconst 0, 1) := dk_3 (dk_at dksL_law_32 14 rfl rfl)
theorem dL_law_884 : decode cL_law 884 = .ok (.ireturn, 1) := dk_172 (dk_at dksL_law_32 15 rfl rfl)
theorem dL_law_885 : decode cL_law 885 = .ok (.iload 5, 2) := dk_21 5 (dk_at dksL_law_32 16 rfl rfl)
theorem dL_law_887 : decode cL_law 887 = .ok (.ifCond .ne 16, 3) := dk_154 0 16 (dk_at dksL_law_32 18 rfl rfl)
theorem dL_law_890 : decode cL_law 890 = .ok (.aload_n 3, 1) := dk_45 (dk_at dksL_law_32 21 rfl rfl)
theorem dL_law_891 : decode cL_law 891 = .ok (.getfield 13, 3) := dk_180 0 13 (dk_at dksL_law_33 0 rfl rfl)
theorem dL_law_894 : decode cL_law 894 = .ok (.iload 6, 2) := dk_21 6 (dk_at dksL_law_33 3 rfl rfl)
theorem dL_law_896 : decode cL_law 896 = .ok (.i2l, 1) := dk_133 (dk_at dksL_law_33 5 rfl rfl)
theorem dL_law_897 : decode cL_law 897 = .ok (.lcmp, 1) := dk_148 (dk_at dksL_law_33 6 rfl rfl)
theorem dL_law_898 : decode cL_law 898 = .ok (.ifCond .eq 5, 3) := dk_153 0 5 (dk_at dksL_law_33 7 rfl rfl)
theorem dL_law_901 : decode cL_law 901 = .ok (.iconst 0, 1) := dk_3 (dk_at dksL_law_33 10 rfl rfl)
theorem dL_law_902 : decode cL_law 902 = .ok (.ireturn, 1) := dk_172 (dk_at dksL_law_33 11 rfl rfl)
theorem dL_law_903 : decode cL_law 903 = .ok (.goto 1532, 3) := dk_167 5 252 (dk_at dksL_law_33 12 rfl rfl)
theorem dL_law_906 : decode cL_law 906 = .ok (.aload_n 1, 1) := dk_43 (dk_at dksL_law_33 15 rfl rfl)
theorem dL_law_907 : decode cL_law 907 = .ok (.aload_n 0, 1) := dk_42 (dk_at dksL_law_33 16 rfl rfl)
theorem dL_law_908 : decode cL_law 908 = .ok (.iload 4, 2) := dk_21 4 (dk_at dksL_law_33 17 rfl rfl)
theorem dL_law_910 : decode cL_law 910 = .ok (.iconst 1, 1) := dk_4 (dk_at dksL_law_33 19 rfl rfl)
theorem dL_law_911 : decode cL_law 911 = .ok (.iadd, 1) := dk_96 (dk_at dksL_law_33 20 rfl rfl)
theorem dL_law_912 : decode cL_law 912 = .ok (.iaload, 1) := dk_46 (dk_at dksL_law_33 21 rfl rfl)
theorem dL_law_913 : decode cL_law 913 = .ok (.aload_n 0, 1) := dk_42 (dk_at dksL_law_33 22 rfl rfl)
theorem dL_law_914 : decode cL_law 914 = .ok (.iload 4, 2) := dk_21 4 (dk_at dksL_law_34 0 rfl rfl)
theorem dL_law_916 : decode cL_law 916 = .ok (.iconst 2, 1) := dk_5 (dk_at dksL_law_34 2 rfl rfl)
theorem dL_law_917 : decode cL_law 917 = .ok (.iadd, 1) := dk_96 (dk_at dksL_law_34 3 rfl rfl)
theorem dL_law_918 : decode cL_law 918 = .ok (.iaload, 1) := dk_46 (dk_at dksL_law_34 4 rfl rfl)
theorem dL_law_919 : decode cL_law 919 = .ok (.aload_n 3, 1) := dk_45 (dk_at dksL_law_34 5 rfl rfl)
theorem dL_law_920 : decode cL_law 920 = .ok (.invokestatic 171, 3) := dk_184 0 171 (dk_at dksL_law_34 6 rfl rfl)
theorem dL_law_923 : decode cL_law 923 = .ok (.istore 5, 2) := dk_54 5 (dk_at dksL_law_34 9 rfl rfl)
theorem dL_law_925 : decode cL_law 925 = .ok (.aload_n 2, 1) := dk_44 (dk_at dksL_law_34 11 rfl rfl)
theorem dL_law_926 : decode cL_law 926 = .ok (.aload_n 0, 1) := dk_42 (dk_at dksL_law_34 12 rfl rfl)
theorem dL_law_927 : decode cL_law 927 = .ok (.iload 4, 2) := dk_21 4 (dk_at dksL_law_34 13 rfl rfl)
theorem dL_law_929 : decode cL_law 929 = .ok (.iconst 1, 1) := dk_4 (dk_at dksL_law_34 15 rfl rfl)
theorem dL_law_930 : decode cL_law 930 = .ok (.iadd, 1) := dk_96 (dk_at dksL_law_34 16 rfl rfl)
theorem dL_law_931 : decode cL_law 931 = .ok (.iaload, 1) := dk_46 (dk_at dksL_law_34 17 rfl rfl)
theorem dL_law_932 : decode cL_law 932 = .ok (.aload_n 0, 1) := dk_42 (dk_at dksL_law_34 18 rfl rfl)
theorem dL_law_933 : decode cL_law 933 = .ok (.iload 4, 2) := dk_21 4 (dk_at dksL_law_34 19 rfl rfl)
theorem dL_law_935 : decode cL_law 935 = .ok (.iconst 2, 1) := dk_5 (dk_at dksL_law_34 21 rfl rfl)
theorem dL_law_936 : decode cL_law 936 = .ok (.iadd, 1) := dk_96 (dk_at dksL_law_34 22 rfl rfl)
theorem dL_law_937 : decode cL_law 937 = .ok (.iaload, 1) := dk_46 (dk_at dksL_law_34 23 rfl rfl)
theorem dL_law_938 : decode cL_law 938 = .ok (.invokevirtual 173, 3) := dk_182 0 173 (dk_at dksL_law_35 0 rfl rfl)
theorem dL_law_941 : decode cL_law 941 = .ok (.istore 6, 2) := dk_54 6 (dk_at dksL_law_35 3 rfl rfl)
theorem dL_law_943 : decode cL_law 943 = .ok (.aload_n 2, 1) := dk_44 (dk_at dksL_law_35 5 rfl rfl)
theorem dL_law_944 : decode cL_law 944 = .ok (.invokevirtual 138, 3) := dk_182 0 138 (dk_at dksL_law_35 6 rfl rfl)
theorem dL_law_947 : decode cL_law 947 = .ok (.iload 5, 2) := dk_21 5 (dk_at dksL_law_35 9 rfl rfl)
theorem dL_law_949 : decode cL_law 949 = .ok (.if_icmp .eq 5, 3) := dk_159 0 5 (dk_at dksL_law_35 11 rfl rfl)
theorem dL_law_952 : decode cL_law 952 = .ok (.iconst 0, 1) := dk_3 (dk_at dksL_law_35 14 rfl rfl)
theorem dL_law_953 : decode cL_law 953 = .ok (.ireturn, 1) := dk_172 (dk_at dksL_law_35 15 rfl rfl)
theorem dL_law_954 : decode cL_law 954 = .ok (.iload 5, 2) := dk_21 5 (dk_at dksL_law_35 16 rfl rfl)
theorem dL_law_956 : decode cL_law 956 = .ok (.ifCond .ne 16, 3) := dk_154 0 16 (dk_at dksL_law_35 18 rfl rfl)
theorem dL_law_959 : decode cL_law 959 = .ok (.aload_n 3, 1) := dk_45 (dk_at dksL_law_35 21 rfl rfl)
theorem dL_law_960 : decode cL_law 960 = .ok (.getfield 13, 3) := dk_180 0 13 (dk_at dksL_law_36 0 rfl rfl)
theorem dL_law_963 : decode cL_law 963 = .ok (.iload 6, 2) := dk_21 6 (dk_at dksL_law_36 3 rfl rfl)
theorem dL_law_965 : decode cL_law 965 = .ok (.i2l, 1) := dk_133 (dk_at dksL_law_36 5 rfl rfl)
theorem dL_law_966 : decode cL_law 966 = .ok (.lcmp, 1) := dk_148 (dk_at dksL_law_36 6 rfl rfl)
theorem dL_law_967 : decode cL_law 967 = .ok (.ifCond .eq 5, 3) := dk_153 0 5 (dk_at dksL_law_36 7 rfl rfl)
theorem dL_law_970 : decode cL_law 970 = .ok (.iconst 0, 1) := dk_3 (dk_at dksL_law_36 10 rfl rfl)
theorem dL_law_971 : decode cL_law 971 = .ok (.ireturn, 1) := dk_172 (dk_at dksL_law_36 11 rfl rfl)
theorem dL_law_972 : decode cL_law 972 = .ok (.goto 1463, 3) := dk_167 5 183 (dk_at dksL_law_36 12 rfl rfl)
theorem dL_law_975 : decode cL_law 975 = .ok (.aload_n 1, 1) := dk_43 (dk_at dksL_law_36 15 rfl rfl)
theorem dL_law_976 : decode cL_law 976 = .ok (.aload_n 0, 1) := dk_42 (dk_at dksL_law_36 16 rfl rfl)
theorem dL_law_977 : decode cL_law 977 = .ok (.iload 4, 2) := dk_21 4 (dk_at dksL_law_36 17 rfl rfl)
theorem dL_law_979 : decode cL_law 979 = .ok (.iconst 1, 1) := dk_4 (dk_at dksL_law_36 19 rfl rfl)
theorem dL_law_980 : decode cL_law 980 = .ok (.iadd, 1) := dk_96 (dk_at dksL_law_36 20 rfl rfl)
theorem dL_law_981 : decode cL_law 981 = .ok (.iaload, 1) := dk_46 (dk_at dksL_law_36 21 rfl rfl)
theorem dL_law_982 : decode cL_law 982 = .ok (.aload_n 0, 1) := dk_42 (dk_at dksL_law_36 22 rfl rfl)
theorem dL_law_983 : decode cL_law 983 = .ok (.iload 4, 2) := dk_21 4 (dk_at dksL_law_37 0 rfl rfl)
theorem dL_law_985 : decode cL_law 985 = .ok (.iconst 2, 1) := dk_5 (dk_at dksL_law_37 2 rfl rfl)
theorem dL_law_986 : decode cL_law 986 = .ok (.iadd, 1) := dk_96 (dk_at dksL_law_37 3 rfl rfl)
theorem dL_law_987 : decode cL_law 987 = .ok (.iaload, 1) := dk_46 (dk_at dksL_law_37 4 rfl rfl)
theorem dL_law_988 : decode cL_law 988 = .ok (.aload_n 3, 1) := dk_45 (dk_at dksL_law_37 5 rfl rfl)
theorem dL_law_989 : decode cL_law 989 = .ok (.invokestatic 174, 3) := dk_184 0 174 (dk_at dksL_law_37 6 rfl rfl)
theorem dL_law_992 : decode cL_law 992 = .ok (.istore 5, 2) := dk_54 5 (dk_at dksL_law_37 9 rfl rfl)
theorem dL_law_994 : decode cL_law 994 = .ok (.aload_n 2, 1) := dk_44 (dk_at dksL_law_37 11 rfl rfl)
theorem dL_law_995 : decode cL_law 995 = .ok (.aload_n 0, 1) := dk_42 (dk_at dksL_law_37 12 rfl rfl)
theorem dL_law_996 : decode cL_law 996 = .ok (.iload 4, 2) := dk_21 4 (dk_at dksL_law_37 13 rfl rfl)
theorem dL_law_998 : decode cL_law 998 = .ok (.iconst 1, 1) := dk_4 (dk_at dksL_law_37 15 rfl rfl)
theorem dL_law_999 : decode cL_law 999 = .ok (.iadd, 1) := dk_96 (dk_at dksL_law_37 16 rfl rfl)
theorem dL_law_1000 : decode cL_law 1000 = .ok (.iaload, 1) := dk_46 (dk_at dksL_law_37 17 rfl rfl)
theorem dL_law_1001 : decode cL_law 1001 = .ok (.aload_n 0, 1) := dk_42 (dk_at dksL_law_37 18 rfl rfl)
theorem dL_law_1002 : decode cL_law 1002 = .ok (.iload 4, 2) := dk_21 4 (dk_at dksL_law_37 19 rfl rfl)
theorem dL_law_1004 : decode cL_law 1004 = .ok (.iconst 2, 1) := dk_5 (dk_at dksL_law_37 21 rfl rfl)
theorem dL_law_1005 : decode cL_law 1005 = .ok (.iadd, 1) := dk_96 (dk_at dksL_law_37 22 rfl rfl)
theorem dL_law_1006 : decode cL_law 1006 = .ok (.iaload, 1) := dk_46 (dk_at dksL_law_37 23 rfl rfl)
theorem dL_law_1007 : decode cL_law 1007 = .ok (.invokevirtual 176, 3) := dk_182 0 176 (dk_at dksL_law_38 0 rfl rfl)
theorem dL_law_1010 : decode cL_law 1010 = .ok (.istore 6, 2) := dk_54 6 (dk_at dksL_law_38 3 rfl rfl)
theorem dL_law_1012 : decode cL_law 1012 = .ok (.aload_n 2, 1) := dk_44 (dk_at dksL_law_38 5 rfl rfl)
theorem dL_law_1013 : decode cL_law 1013 = .ok (.invokevirtual 138, 3) := dk_182 0 138 (dk_at dksL_law_38 6 rfl rfl)
theorem dL_law_1016 : decode cL_law 1016 = .ok (.iload 5, 2) := dk_21 5 (dk_at dksL_law_38 9 rfl rfl)
theorem dL_law_1018 : decode cL_law 1018 = .ok (.if_icmp .eq 5, 3) := dk_159 0 5 (dk_at dksL_law_38 11 rfl rfl)
theorem dL_law_1021 : decode cL_law 1021 = .ok (.iconst 0, 1) := dk_3 (dk_at dksL_law_38 14 rfl rfl)
theorem dL_law_1022 : decode cL_law 1022 = .ok (.ireturn, 1) := dk_172 (dk_at dksL_law_38 15 rfl rfl)
theorem dL_law_1023 : decode cL_law 1023 = .ok (.iload 5, 2) := dk_21 5 (dk_at dksL_law_38 16 rfl rfl)
theorem dL_law_1025 : decode cL_law 1025 = .ok (.ifCond .ne 16, 3) := dk_154 0 16 (dk_at dksL_law_38 18 rfl rfl)
theorem dL_law_1028 : decode cL_law 1028 = .ok (.aload_n 3, 1) := dk_45 (dk_at dksL_law_38 21 rfl rfl)
theorem dL_law_1029 : decode cL_law 1029 = .ok (.getfield 13, 3) := dk_180 0 13 (dk_at dksL_law_39 0 rfl rfl)
theorem dL_law_1032 : decode cL_law 1032 = .ok (.iload 6, 2) := dk_21 6 (dk_at dksL_law_39 3 rfl rfl)
theorem dL_law_1034 : decode cL_law 1034 = .ok (.i2l, 1) := dk_133 (dk_at dksL_law_39 5 rfl rfl)
theorem dL_law_1035 : decode cL_law 1035 = .ok (.lcmp, 1) := dk_148 (dk_at dksL_law_39 6 rfl rfl)
theorem dL_law_1036 : decode cL_law 1036 = .ok (.ifCond .eq 5, 3) := dk_153 0 5 (dk_at dksL_law_39 7 rfl rfl)
theorem dL_law_1039 : decode cL_law 1039 = .ok (.iconst 0, 1) := dk_3 (dk_at dksL_law_39 10 rfl rfl)
theorem dL_law_1040 : decode cL_law 1040 = .ok (.ireturn, 1) := dk_172 (dk_at dksL_law_39 11 rfl rfl)
theorem dL_law_1041 : decode cL_law 1041 = .ok (.goto 1394, 3) := dk_167 5 114 (dk_at dksL_law_39 12 rfl rfl)
theorem dL_law_1044 : decode cL_law 1044 = .ok (.aload_n 1, 1) := dk_43 (dk_at dksL_law_39 15 rfl rfl)
theorem dL_law_1045 : decode cL_law 1045 = .ok (.aload_n 0, 1) := dk_42 (dk_at dksL_law_39 16 rfl rfl)
theorem dL_law_1046 : decode cL_law 1046 = .ok (.iload 4, 2) := dk_21 4 (dk_at dksL_law_39 17 rfl rfl)
theorem dL_law_1048 : decode cL_law 1048 = .ok (.iconst 1, 1) := dk_4 (dk_at dksL_law_39 19 rfl rfl)
theorem dL_law_1049 : decode cL_law 1049 = .ok (.iadd, 1) := dk_96 (dk_at dksL_law_39 20 rfl rfl)
theorem dL_law_1050 : decode cL_law 1050 = .ok (.iaload, 1) := dk_46 (dk_at dksL_law_39 21 rfl rfl)
theorem dL_law_1051 : decode cL_law 1051 = .ok (.aload_n 0, 1) := dk_42 (dk_at dksL_law_39 22 rfl rfl)
theorem dL_law_1052 : decode cL_law 1052 = .ok (.iload 4, 2) := dk_21 4 (dk_at dksL_law_40 0 rfl rfl)
theorem dL_law_1054 : decode cL_law 1054 = .ok (.iconst 2, 1) := dk_5 (dk_at dksL_law_40 2 rfl rfl)
theorem dL_law_1055 : decode cL_law 1055 = .ok (.iadd, 1) := dk_96 (dk_at dksL_law_40 3 rfl rfl)
theorem dL_law_1056 : decode cL_law 1056 = .ok (.iaload, 1) := dk_46 (dk_at dksL_law_40 4 rfl rfl)
theorem dL_law_1057 : decode cL_law 1057 = .ok (.aload_n 3, 1) := dk_45 (dk_at dksL_law_40 5 rfl rfl)
theorem dL_law_1058 : decode cL_law 1058 = .ok (.invokestatic 177, 3) := dk_184 0 177 (dk_at dksL_law_40 6 rfl rfl)
theorem dL_law_1061 : decode cL_law 1061 = .ok (.istore 5, 2) := dk_54 5 (dk_at dksL_law_40 9 rfl rfl)
theorem dL_law_1063 : decode cL_law 1063 = .ok (.aload_n 2, 1) := dk_44 (dk_at dksL_law_40 11 rfl rfl)
theorem dL_law_1064 : decode cL_law 1064 = .ok (.aload_n 0, 1) := dk_42 (dk_at dksL_law_40 12 rfl rfl)
theorem dL_law_1065 : decode cL_law 1065 = .ok (.iload 4, 2) := dk_21 4 (dk_at dksL_law_40 13 rfl rfl)
theorem dL_law_1067 : decode cL_law 1067 = .ok (.iconst 1, 1) := dk_4 (dk_at dksL_law_40 15 rfl rfl)
theorem dL_law_1068 : decode cL_law 1068 = .ok (.iadd, 1) := dk_96 (dk_at dksL_law_40 16 rfl rfl)
theorem dL_law_1069 : decode cL_law 1069 = .ok (.iaload, 1) := dk_46 (dk_at dksL_law_40 17 rfl rfl)
theorem dL_law_1070 : decode cL_law 1070 = .ok (.aload_n 0, 1) := dk_42 (dk_at dksL_law_40 18 rfl rfl)
theorem dL_law_1071 : decode cL_law 1071 = .ok (.iload 4, 2) := dk_21 4 (dk_at dksL_law_40 19 rfl rfl)
theorem dL_law_1073 : decode cL_law 1073 = .ok (.iconst 2, 1) := dk_5 (dk_at dksL_law_40 21 rfl rfl)
theorem dL_law_1074 : decode cL_law 1074 = .ok (.iadd, 1) := dk_96 (dk_at dksL_law_40 22 rfl rfl)
theorem dL_law_1075 : decode cL_law 1075 = .ok (.iaload, 1) := dk_46 (dk_at dksL_law_40 23 rfl rfl)
theorem dL_law_1076 : decode cL_law 1076 = .ok (.invokevirtual 179, 3) := dk_182 0 179 (dk_at dksL_law_41 0 rfl rfl)
theorem dL_law_1079 : decode cL_law 1079 = .ok (.istore 6, 2) := dk_54 6 (dk_at dksL_law_41 3 rfl rfl)
theorem dL_law_1081 : decode cL_law 1081 = .ok (.aload_n 2, 1) := dk_44 (dk_at dksL_law_41 5 rfl rfl)
theorem dL_law_1082 : decode cL_law 1082 = .ok (.invokevirtual 138, 3) := dk_182 0 138 (dk_at dksL_law_41 6 rfl rfl)
theorem dL_law_1085 : decode cL_law 1085 = .ok (.iload 5, 2) := dk_21 5 (dk_at dksL_law_41 9 rfl rfl)
theorem dL_law_1087 : decode cL_law 1087 = .ok (.if_icmp .eq 5, 3) := dk_159 0 5 (dk_at dksL_law_41 11 rfl rfl)
theorem dL_law_1090 : decode cL_law 1090 = .ok (.iconst 0, 1) := dk_3 (dk_at dksL_law_41 14 rfl rfl)
theorem dL_law_1091 : decode cL_law 1091 = .ok (.ireturn, 1) := dk_172 (dk_at dksL_law_41 15 rfl rfl)
theorem dL_law_1092 : decode cL_law 1092 = .ok (.iload 5, 2) := dk_21 5 (dk_at dksL_law_41 16 rfl rfl)
theorem dL_law_1094 : decode cL_law 1094 = .ok (.ifCond .ne 16, 3) := dk_154 0 16 (dk_at dksL_law_41 18 rfl rfl)
theorem dL_law_1097 : decode cL_law 1097 = .ok (.aload_n 3, 1) := dk_45 (dk_at dksL_law_41 21 rfl rfl)
theorem dL_law_1098 : decode cL_law 1098 = .ok (.getfield 13, 3) := dk_180 0 13 (dk_at dksL_law_42 0 rfl rfl)
theorem dL_law_1101 : decode cL_law 1101 = .ok (.iload 6, 2) := dk_21 6 (dk_at dksL_law_42 3 rfl rfl)
theorem dL_law_1103 : decode cL_law 1103 = .ok (.i2l, 1) := dk_133 (dk_at dksL_law_42 5 rfl rfl)
theorem dL_law_1104 : decode cL_law 1104 = .ok (.lcmp, 1) := dk_148 (dk_at dksL_law_42 6 rfl rfl)
theorem dL_law_1105 : decode cL_law 1105 = .ok (.ifCond .eq 5, 3) := dk_153 0 5 (dk_at dksL_law_42 7 rfl rfl)
theorem dL_law_1108 : decode cL_law 1108 = .ok (.iconst 0, 1) := dk_3 (dk_at dksL_law_42 10 rfl rfl)
theorem dL_law_1109 : decode cL_law 1109 = .ok (.ireturn, 1) := dk_172 (dk_at dksL_law_42 11 rfl rfl)
theorem dL_law_1110 : decode cL_law 1110 = .ok (.goto 1325, 3) := dk_167 5 45 (dk_at dksL_law_42 12 rfl rfl)
theorem dL_law_1113 : decode cL_law 1113 = .ok (.aload_n 1, 1) := dk_43 (dk_at dksL_law_42 15 rfl rfl)
theorem dL_law_1114 : decode cL_law 1114 = .ok (.aload_n 0, 1) := dk_42 (dk_at dksL_law_42 16 rfl rfl)
theorem dL_law_1115 : decode cL_law 1115 = .ok (.iload 4, 2) := dk_21 4 (dk_at dksL_law_42 17 rfl rfl)
theorem dL_law_1117 : decode cL_law 1117 = .ok (.iconst 1, 1) := dk_4 (dk_at dksL_law_42 19 rfl rfl)
theorem dL_law_1118 : decode cL_law 1118 = .ok (.iadd, 1) := dk_96 (dk_at dksL_law_42 20 rfl rfl)
theorem dL_law_1119 : decode cL_law 1119 = .ok (.iaload, 1) := dk_46 (dk_at dksL_law_42 21 rfl rfl)
theorem dL_law_1120 : decode cL_law 1120 = .ok (.aload_n 3, 1) := dk_45 (dk_at dksL_law_42 22 rfl rfl)
theorem dL_law_1121 : decode cL_law 1121 = .ok (.invokestatic 180, 3) := dk_184 0 180 (dk_at dksL_law_43 0 rfl rfl)
theorem dL_law_1124 : decode cL_law 1124 = .ok (.istore 5, 2) := dk_54 5 (dk_at dksL_law_43 3 rfl rfl)
theorem dL_law_1126 : decode cL_law 1126 = .ok (.aload_n 2, 1) := dk_44 (dk_at dksL_law_43 5 rfl rfl)
theorem dL_law_1127 : decode cL_law 1127 = .ok (.aload_n 0, 1) := dk_42 (dk_at dksL_law_43 6 rfl rfl)
theorem dL_law_1128 : decode cL_law 1128 = .ok (.iload 4, 2) := dk_21 4 (dk_at dksL_law_43 7 rfl rfl)
theorem dL_law_1130 : decode cL_law 1130 = .ok (.iconst 1, 1) := dk_4 (dk_at dksL_law_43 9 rfl rfl)
theorem dL_law_1131 : decode cL_law 1131 = .ok (.iadd, 1) := dk_96 (dk_at dksL_law_43 10 rfl rfl)
theorem dL_law_1132 : decode cL_law 1132 = .ok (.iaload, 1) := dk_46 (dk_at dksL_law_43 11 rfl rfl)
theorem dL_law_1133 : decode cL_law 1133 = .ok (.invokevirtual 182, 3) := dk_182 0 182 (dk_at dksL_law_43 12 rfl rfl)
theorem dL_law_1136 : decode cL_law 1136 = .ok (.istore 6, 2) := dk_54 6 (dk_at dksL_law_43 15 rfl rfl)
theorem dL_law_1138 : decode cL_law 1138 = .ok (.aload_n 2, 1) := dk_44 (dk_at dksL_law_43 17 rfl rfl)
theorem dL_law_1139 : decode cL_law 1139 = .ok (.invokevirtual 138, 3) := dk_182 0 138 (dk_at dksL_law_43 18 rfl rfl)
theorem dL_law_1142 : decode cL_law 1142 = .ok (.iload 5, 2) := dk_21 5 (dk_at dksL_law_43 21 rfl rfl)
theorem dL_law_1144 : decode cL_law 1144 = .ok (.if_icmp .eq 5, 3) := dk_159 0 5 (dk_at dksL_law_44 0 rfl rfl)
theorem dL_law_1147 : decode cL_law 1147 = .ok (.iconst 0, 1) := dk_3 (dk_at dksL_law_44 3 rfl rfl)
theorem dL_law_1148 : decode cL_law 1148 = .ok (.ireturn, 1) := dk_172 (dk_at dksL_law_44 4 rfl rfl)
theorem dL_law_1149 : decode cL_law 1149 = .ok (.iload 5, 2) := dk_21 5 (dk_at dksL_law_44 5 rfl rfl)
theorem dL_law_1151 : decode cL_law 1151 = .ok (.ifCond .ne 16, 3) := dk_154 0 16 (dk_at dksL_law_44 7 rfl rfl)
theorem dL_law_1154 : decode cL_law 1154 = .ok (.aload_n 3, 1) := dk_45 (dk_at dksL_law_44 10 rfl rfl)
theorem dL_law_1155 : decode cL_law 1155 = .ok (.getfield 13, 3) := dk_180 0 13 (dk_at dksL_law_44 11 rfl rfl)
theorem dL_law_1158 : decode cL_law 1158 = .ok (.iload 6, 2) := dk_21 6 (dk_at dksL_law_44 14 rfl rfl)
theorem dL_law_1160 : decode cL_law 1160 = .ok (.i2l, 1) := dk_133 (dk_at dksL_law_44 16 rfl rfl)
theorem dL_law_1161 : decode cL_law 1161 = .ok (.lcmp, 1) := dk_148 (dk_at dksL_law_44 17 rfl rfl)
theorem dL_law_1162 : decode cL_law 1162 = .ok (.ifCond .eq 5, 3) := dk_153 0 5 (dk_at dksL_law_44 18 rfl rfl)
theorem dL_law_1165 : decode cL_law 1165 = .ok (.iconst 0, 1) := dk_3 (dk_at dksL_law_44 21 rfl rfl)
theorem dL_law_1166 : decode cL_law 1166 = .ok (.ireturn, 1) := dk_172 (dk_at dksL_law_44 22 rfl rfl)
theorem dL_law_1167 : decode cL_law 1167 = .ok (.goto 1268, 3) := dk_167 4 244 (dk_at dksL_law_45 0 rfl rfl)
theorem dL_law_1170 : decode cL_law 1170 = .ok (.aload_n 1, 1) := dk_43 (dk_at dksL_law_45 3 rfl rfl)
theorem dL_law_1171 : decode cL_law 1171 = .ok (.aload_n 0, 1) := dk_42 (dk_at dksL_law_45 4 rfl rfl)
theorem dL_law_1172 : decode cL_law 1172 = .ok (.iload 4, 2) := dk_21 4 (dk_at dksL_law_45 5 rfl rfl)
theorem dL_law_1174 : decode cL_law 1174 = .ok (.iconst 1, 1) := dk_4 (dk_at dksL_law_45 7 rfl rfl)
theorem dL_law_1175 : decode cL_law 1175 = .ok (.iadd, 1) := dk_96 (dk_at dksL_law_45 8 rfl rfl)
theorem dL_law_1176 : decode cL_law 1176 = .ok (.iaload, 1) := dk_46 (dk_at dksL_law_45 9 rfl rfl)
theorem dL_law_1177 : decode cL_law 1177 = .ok (.aload_n 3, 1) := dk_45 (dk_at dksL_law_45 10 rfl rfl)
theorem dL_law_1178 : decode cL_law 1178 = .ok (.invokestatic 183, 3) := dk_184 0 183 (dk_at dksL_law_45 11 rfl rfl)
theorem dL_law_1181 : decode cL_law 1181 = .ok (.istore 5, 2) := dk_54 5 (dk_at dksL_law_45 14 rfl rfl)
theorem dL_law_1183 : decode cL_law 1183 = .ok (.aload_n 2, 1) := dk_44 (dk_at dksL_law_45 16 rfl rfl)
theorem dL_law_1184 : decode cL_law 1184 = .ok (.aload_n 0, 1) := dk_42 (dk_at dksL_law_45 17 rfl rfl)
theorem dL_law_1185 : decode cL_law 1185 = .ok (.iload 4, 2) := dk_21 4 (dk_at dksL_law_45 18 rfl rfl)
theorem dL_law_1187 : decode cL_law 1187 = .ok (.iconst 1, 1) := dk_4 (dk_at dksL_law_45 20 rfl rfl)
theorem dL_law_1188 : decode cL_law 1188 = .ok (.iadd, 1) := dk_96 (dk_at dksL_law_45 21 rfl rfl)
theorem dL_law_1189 : decode cL_law 1189 = .ok (.iaload, 1) := dk_46 (dk_at dksL_law_45 22 rfl rfl)
theorem dL_law_1190 : decode cL_law 1190 = .ok (.invokevirtual 185, 3) := dk_182 0 185 (dk_at dksL_law_46 0 rfl rfl)
theorem dL_law_1193 : decode cL_law 1193 = .ok (.istore 6, 2) := dk_54 6 (dk_at dksL_law_46 3 rfl rfl)
theorem dL_law_1195 : decode cL_law 1195 = .ok (.aload_n 2, 1) := dk_44 (dk_at dksL_law_46 5 rfl rfl)
theorem dL_law_1196 : decode cL_law 1196 = .ok (.invokevirtual 138, 3) := dk_182 0 138 (dk_at dksL_law_46 6 rfl rfl)
theorem dL_law_1199 : decode cL_law 1199 = .ok (.iload 5, 2) := dk_21 5 (dk_at dksL_law_46 9 rfl rfl)
theorem dL_law_1201 : decode cL_law 1201 = .ok (.if_icmp .eq 5, 3) := dk_159 0 5 (dk_at dksL_law_46 11 rfl rfl)
theorem dL_law_1204 : decode cL_law 1204 = .ok (.iconst 0, 1) := dk_3 (dk_at dksL_law_46 14 rfl rfl)
theorem dL_law_1205 : decode cL_law 1205 = .ok (.ireturn, 1) := dk_172 (dk_at dksL_law_46 15 rfl rfl)
theorem dL_law_1206 : decode cL_law 1206 = .ok (.iload 5, 2) := dk_21 5 (dk_at dksL_law_46 16 rfl rfl)
theorem dL_law_1208 : decode cL_law 1208 = .ok (.ifCond .ne 16, 3) := dk_154 0 16 (dk_at dksL_law_46 18 rfl rfl)
theorem dL_law_1211 : decode cL_law 1211 = .ok (.aload_n 3, 1) := dk_45 (dk_at dksL_law_46 21 rfl rfl)
theorem dL_law_1212 : decode cL_law 1212 = .ok (.getfield 13, 3) := dk_180 0 13 (dk_at dksL_law_47 0 rfl rfl)
theorem dL_law_1215 : decode cL_law 1215 = .ok (.iload 6, 2) := dk_21 6 (dk_at dksL_law_47 3 rfl rfl)
theorem dL_law_1217 : decode cL_law 1217 = .ok (.i2l, 1) := dk_133 (dk_at dksL_law_47 5 rfl rfl)
theorem dL_law_1218 : decode cL_law 1218 = .ok (.lcmp, 1) := dk_148 (dk_at dksL_law_47 6 rfl rfl)
theorem dL_law_1219 : decode cL_law 1219 = .ok (.ifCond .eq 5, 3) := dk_153 0 5 (dk_at dksL_law_47 7 rfl rfl)
theorem dL_law_1222 : decode cL_law 1222 = .ok (.iconst 0, 1) := dk_3 (dk_at dksL_law_47 10 rfl rfl)
theorem dL_law_1223 : decode cL_law 1223 = .ok (.ireturn, 1) := dk_172 (dk_at dksL_law_47 11 rfl rfl)
theorem dL_law_1224 : decode cL_law 1224 = .ok (.goto 1211, 3) := dk_167 4 187 (dk_at dksL_law_47 12 rfl rfl)
theorem dL_law_1227 : decode cL_law 1227 = .ok (.aload_n 1, 1) := dk_43 (dk_at dksL_law_47 15 rfl rfl)
theorem dL_law_1228 : decode cL_law 1228 = .ok (.aload_n 0, 1) := dk_42 (dk_at dksL_law_47 16 rfl rfl)
theorem dL_law_1229 : decode cL_law 1229 = .ok (.iload 4, 2) := dk_21 4 (dk_at dksL_law_47 17 rfl rfl)
theorem dL_law_1231 : decode cL_law 1231 = .ok (.iconst 1, 1) := dk_4 (dk_at dksL_law_47 19 rfl rfl)
theorem dL_law_1232 : decode cL_law 1232 = .ok (.iadd, 1) := dk_96 (dk_at dksL_law_47 20 rfl rfl)
theorem dL_law_1233 : decode cL_law 1233 = .ok (.iaload, 1) := dk_46 (dk_at dksL_law_47 21 rfl rfl)
theorem dL_law_1234 : decode cL_law 1234 = .ok (.aload_n 0, 1) := dk_42 (dk_at dksL_law_47 22 rfl rfl)
theorem dL_law_1235 : decode cL_law 1235 = .ok (.iload 4, 2) := dk_21 4 (dk_at dksL_law_48 0 rfl rfl)
theorem dL_law_1237 : decode cL_law 1237 = .ok (.iconst 2, 1) := dk_5 (dk_at dksL_law_48 2 rfl rfl)
theorem dL_law_1238 : decode cL_law 1238 = .ok (.iadd, 1) := dk_96 (dk_at dksL_law_48 3 rfl rfl)
theorem dL_law_1239 : decode cL_law 1239 = .ok (.iaload, 1) := dk_46 (dk_at dksL_law_48 4 rfl rfl)
theorem dL_law_1240 : decode cL_law 1240 = .ok (.aload_n 0, 1) := dk_42 (dk_at dksL_law_48 5 rfl rfl)
theorem dL_law_1241 : decode cL_law 1241 = .ok (.iload 4, 2) := dk_21 4 (dk_at dksL_law_48 6 rfl rfl)
theorem dL_law_1243 : decode cL_law 1243 = .ok (.iconst 3, 1) := dk_6 (dk_at dksL_law_48 8 rfl rfl)
theorem dL_law_1244 : decode cL_law 1244 = .ok (.iadd, 1) := dk_96 (dk_at dksL_law_48 9 rfl rfl)
theorem dL_law_1245 : decode cL_law 1245 = .ok (.iaload, 1) := dk_46 (dk_at dksL_law_48 10 rfl rfl)
theorem dL_law_1246 : decode cL_law 1246 = .ok (.aload_n 3, 1) := dk_45 (dk_at dksL_law_48 11 rfl rfl)
theorem dL_law_1247 : decode cL_law 1247 = .ok (.invokestatic 186, 3) := dk_184 0 186 (dk_at dksL_law_48 12 rfl rfl)
theorem dL_law_1250 : decode cL_law 1250 = .ok (.istore 5, 2) := dk_54 5 (dk_at dksL_law_48 15 rfl rfl)
theorem dL_law_1252 : decode cL_law 1252 = .ok (.aload_n 2, 1) := dk_44 (dk_at dksL_law_48 17 rfl rfl)
theorem dL_law_1253 : decode cL_law 1253 = .ok (.aload_n 0, 1) := dk_42 (dk_at dksL_law_48 18 rfl rfl)
theorem dL_law_1254 : decode cL_law 1254 = .ok (.iload 4, 2) := dk_21 4 (dk_at dksL_law_48 19 rfl rfl)
theorem dL_law_1256 : decode cL_law 1256 = .ok (.iconst 1, 1) := dk_4 (dk_at dksL_law_48 21 rfl rfl)
theorem dL_law_1257 : decode cL_law 1257 = .ok (.iadd, 1) := dk_96 (dk_at dksL_law_48 22 rfl rfl)
theorem dL_law_1258 : decode cL_law 1258 = .ok (.iaload, 1) := dk_46 (dk_at dksL_law_48 23 rfl rfl)
theorem dL_law_1259 : decode cL_law 1259 = .ok (.aload_n 0, 1) := dk_42 (dk_at dksL_law_49 0 rfl rfl)
theorem dL_law_1260 : decode cL_law 1260 = .ok (.iload 4, 2) := dk_21 4 (dk_at dksL_law_49 1 rfl rfl)
theorem dL_law_1262 : decode cL_law 1262 = .ok (.iconst 2, 1) := dk_5 (dk_at dksL_law_49 3 rfl rfl)
theorem dL_law_1263 : decode cL_law 1263 = .ok (.iadd, 1) := dk_96 (dk_at dksL_law_49 4 rfl rfl)
theorem dL_law_1264 : decode cL_law 1264 = .ok (.iaload, 1) := dk_46 (dk_at dksL_law_49 5 rfl rfl)
theorem dL_law_1265 : decode cL_law 1265 = .ok (.aload_n 0, 1) := dk_42 (dk_at dksL_law_49 6 rfl rfl)
theorem dL_law_1266 : decode cL_law 1266 = .ok (.iload 4, 2) := dk_21 4 (dk_at dksL_law_49 7 rfl rfl)
theorem dL_law_1268 : decode cL_law 1268 = .ok (.iconst 3, 1) := dk_6 (dk_at dksL_law_49 9 rfl rfl)
theorem dL_law_1269 : decode cL_law 1269 = .ok (.iadd, 1) := dk_96 (dk_at dksL_law_49 10 rfl rfl)
theorem dL_law_1270 : decode cL_law 1270 = .ok (.iaload, 1) := dk_46 (dk_at dksL_law_49 11 rfl rfl)
theorem dL_law_1271 : decode cL_law 1271 = .ok (.invokevirtual 188, 3) := dk_182 0 188 (dk_at dksL_law_49 12 rfl rfl)
theorem dL_law_1274 : decode cL_law 1274 = .ok (.istore 6, 2) := dk_54 6 (dk_at dksL_law_49 15 rfl rfl)
theorem dL_law_1276 : decode cL_law 1276 = .ok (.aload_n 2, 1) := dk_44 (dk_at dksL_law_49 17 rfl rfl)
theorem dL_law_1277 : decode cL_law 1277 = .ok (.invokevirtual 138, 3) := dk_182 0 138 (dk_at dksL_law_49 18 rfl rfl)
theorem dL_law_1280 : decode cL_law 1280 = .ok (.iload 5, 2) := dk_21 5 (dk_at dksL_law_49 21 rfl rfl)
theorem dL_law_1282 : decode cL_law 1282 = .ok (.if_icmp .eq 5, 3) := dk_159 0 5 (dk_at dksL_law_50 0 rfl rfl)
theorem dL_law_1285 : decode cL_law 1285 = .ok (.iconst 0, 1) := dk_3 (dk_at dksL_law_50 3 rfl rfl)
theorem dL_law_1286 : decode cL_law 1286 = .ok (.ireturn, 1) := dk_172 (dk_at dksL_law_50 4 rfl rfl)
theorem dL_law_1287 : decode cL_law 1287 = .ok (.iload 5, 2) := dk_21 5 (dk_at dksL_law_50 5 rfl rfl)
theorem dL_law_1289 : decode cL_law 1289 = .ok (.ifCond .ne 16, 3) := dk_154 0 16 (dk_at dksL_law_50 7 rfl rfl)
theorem dL_law_1292 : decode cL_law 1292 = .ok (.aload_n 3, 1) := dk_45 (dk_at dksL_law_50 10 rfl rfl)
theorem dL_law_1293 : decode cL_law 1293 = .ok (.getfield 13, 3) := dk_180 0 13 (dk_at dksL_law_50 11 rfl rfl)
theorem dL_law_1296 : decode cL_law 1296 = .ok (.iload 6, 2) := dk_21 6 (dk_at dksL_law_50 14 rfl rfl)
theorem dL_law_1298 : decode cL_law 1298 = .ok (.i2l, 1) := dk_133 (dk_at dksL_law_50 16 rfl rfl)
theorem dL_law_1299 : decode cL_law 1299 = .ok (.lcmp, 1) := dk_148 (dk_at dksL_law_50 17 rfl rfl)
theorem dL_law_1300 : decode cL_law 1300 = .ok (.ifCond .eq 5, 3) := dk_153 0 5 (dk_at dksL_law_50 18 rfl rfl)
theorem dL_law_1303 : decode cL_law 1303 = .ok (.iconst 0, 1) := dk_3 (dk_at dksL_law_50 21 rfl rfl)
theorem dL_law_1304 : decode cL_law 1304 = .ok (.ireturn, 1) := dk_172 (dk_at dksL_law_50 22 rfl rfl)
theorem dL_law_1305 : decode cL_law 1305 = .ok (.goto 1130, 3) := dk_167 4 106 (dk_at dksL_law_51 0 rfl rfl)
theorem dL_law_1308 : decode cL_law 1308 = .ok (.aload_n 1, 1) := dk_43 (dk_at dksL_law_51 3 rfl rfl)
theorem dL_law_1309 : decode cL_law 1309 = .ok (.aload_n 0, 1) := dk_42 (dk_at dksL_law_51 4 rfl rfl)
theorem dL_law_1310 : decode cL_law 1310 = .ok (.iload 4, 2) := dk_21 4 (dk_at dksL_law_51 5 rfl rfl)
theorem dL_law_1312 : decode cL_law 1312 = .ok (.iconst 1, 1) := dk_4 (dk_at dksL_law_51 7 rfl rfl)
theorem dL_law_1313 : decode cL_law 1313 = .ok (.iadd, 1) := dk_96 (dk_at dksL_law_51 8 rfl rfl)
theorem dL_law_1314 : decode cL_law 1314 = .ok (.iaload, 1) := dk_46 (dk_at dksL_law_51 9 rfl rfl)
theorem dL_law_1315 : decode cL_law 1315 = .ok (.aload_n 0, 1) := dk_42 (dk_at dksL_law_51 10 rfl rfl)
theorem dL_law_1316 : decode cL_law 1316 = .ok (.iload 4, 2) := dk_21 4 (dk_at dksL_law_51 11 rfl rfl)
theorem dL_law_1318 : decode cL_law 1318 = .ok (.iconst 2, 1) := dk_5 (dk_at dksL_law_51 13 rfl rfl)
theorem dL_law_1319 : decode cL_law 1319 = .ok (.iadd, 1) := dk_96 (dk_at dksL_law_51 14 rfl rfl)
theorem dL_law_1320 : decode cL_law 1320 = .ok (.iaload, 1) := dk_46 (dk_at dksL_law_51 15 rfl rfl)
theorem dL_law_1321 : decode cL_law 1321 = .ok (.aload_n 3, 1) := dk_45 (dk_at dksL_law_51 16 rfl rfl)
theorem dL_law_1322 : decode cL_law 1322 = .ok (.invokestatic 189, 3) := dk_184 0 189 (dk_at dksL_law_51 17 rfl rfl)
theorem dL_law_1325 : decode cL_law 1325 = .ok (.istore 5, 2) := dk_54 5 (dk_at dksL_law_51 20 rfl rfl)
theorem dL_law_1327 : decode cL_law 1327 = .ok (.aload_n 2, 1) := dk_44 (dk_at dksL_law_51 22 rfl rfl)
theorem dL_law_1328 : decode cL_law 1328 = .ok (.aload_n 0, 1) := dk_42 (dk_at dksL_law_51 23 rfl rfl)
theorem dL_law_1329 : decode cL_law 1329 = .ok (.iload 4, 2) := dk_21 4 (dk_at dksL_law_52 0 rfl rfl)
theorem dL_law_1331 : decode cL_law 1331 = .ok (.iconst 1, 1) := dk_4 (dk_at dksL_law_52 2 rfl rfl)
theorem dL_law_1332 : decode cL_law 1332 = .ok (.iadd, 1) := dk_96 (dk_at dksL_law_52 3 rfl rfl)
theorem dL_law_1333 : decode cL_law 1333 = .ok (.iaload, 1) := dk_46 (dk_at dksL_law_52 4 rfl rfl)
theorem dL_law_1334 : decode cL_law 1334 = .ok (.aload_n 0, 1) := dk_42 (dk_at dksL_law_52 5 rfl rfl)
theorem dL_law_1335 : decode cL_law 1335 = .ok (.iload 4, 2) := dk_21 4 (dk_at dksL_law_52 6 rfl rfl)
theorem dL_law_1337 : decode cL_law 1337 = .ok (.iconst 2, 1) := dk_5 (dk_at dksL_law_52 8 rfl rfl)
theorem dL_law_1338 : decode cL_law 1338 = .ok (.iadd, 1) := dk_96 (dk_at dksL_law_52 9 rfl rfl)
theorem dL_law_1339 : decode cL_law 1339 = .ok (.iaload, 1) := dk_46 (dk_at dksL_law_52 10 rfl rfl)
theorem dL_law_1340 : decode cL_law 1340 = .ok (.invokevirtual 191, 3) := dk_182 0 191 (dk_at dksL_law_52 11 rfl rfl)
theorem dL_law_1343 : decode cL_law 1343 = .ok (.istore 6, 2) := dk_54 6 (dk_at dksL_law_52 14 rfl rfl)
theorem dL_law_1345 : decode cL_law 1345 = .ok (.aload_n 2, 1) := dk_44 (dk_at dksL_law_52 16 rfl rfl)
theorem dL_law_1346 : decode cL_law 1346 = .ok (.invokevirtual 138, 3) := dk_182 0 138 (dk_at dksL_law_52 17 rfl rfl)
theorem dL_law_1349 : decode cL_law 1349 = .ok (.iload 5, 2) := dk_21 5 (dk_at dksL_law_52 20 rfl rfl)
theorem dL_law_1351 : decode cL_law 1351 = .ok (.if_icmp .eq 5, 3) := dk_159 0 5 (dk_at dksL_law_53 0 rfl rfl)
theorem dL_law_1354 : decode cL_law 1354 = .ok (.iconst 0, 1) := dk_3 (dk_at dksL_law_53 3 rfl rfl)
theorem dL_law_1355 : decode cL_law 1355 = .ok (.ireturn, 1) := dk_172 (dk_at dksL_law_53 4 rfl rfl)
theorem dL_law_1356 : decode cL_law 1356 = .ok (.iload 5, 2) := dk_21 5 (dk_at dksL_law_53 5 rfl rfl)
theorem dL_law_1358 : decode cL_law 1358 = .ok (.ifCond .ne 16, 3) := dk_154 0 16 (dk_at dksL_law_53 7 rfl rfl)
theorem dL_law_1361 : decode cL_law 1361 = .ok (.aload_n 3, 1) := dk_45 (dk_at dksL_law_53 10 rfl rfl)
theorem dL_law_1362 : decode cL_law 1362 = .ok (.getfield 13, 3) := dk_180 0 13 (dk_at dksL_law_53 11 rfl rfl)
theorem dL_law_1365 : decode cL_law 1365 = .ok (.iload 6, 2) := dk_21 6 (dk_at dksL_law_53 14 rfl rfl)
theorem dL_law_1367 : decode cL_law 1367 = .ok (.i2l, 1) := dk_133 (dk_at dksL_law_53 16 rfl rfl)
theorem dL_law_1368 : decode cL_law 1368 = .ok (.lcmp, 1) := dk_148 (dk_at dksL_law_53 17 rfl rfl)
theorem dL_law_1369 : decode cL_law 1369 = .ok (.ifCond .eq 5, 3) := dk_153 0 5 (dk_at dksL_law_53 18 rfl rfl)
theorem dL_law_1372 : decode cL_law 1372 = .ok (.iconst 0, 1) := dk_3 (dk_at dksL_law_53 21 rfl rfl)
theorem dL_law_1373 : decode cL_law 1373 = .ok (.ireturn, 1) := dk_172 (dk_at dksL_law_53 22 rfl rfl)
theorem dL_law_1374 : decode cL_law 1374 = .ok (.goto 1061, 3) := dk_167 4 37 (dk_at dksL_law_54 0 rfl rfl)
theorem dL_law_1377 : decode cL_law 1377 = .ok (.aload_n 1, 1) := dk_43 (dk_at dksL_law_54 3 rfl rfl)
theorem dL_law_1378 : decode cL_law 1378 = .ok (.aload_n 0, 1) := dk_42 (dk_at dksL_law_54 4 rfl rfl)
theorem dL_law_1379 : decode cL_law 1379 = .ok (.iload 4, 2) := dk_21 4 (dk_at dksL_law_54 5 rfl rfl)
theorem dL_law_1381 : decode cL_law 1381 = .ok (.iconst 1, 1) := dk_4 (dk_at dksL_law_54 7 rfl rfl)
theorem dL_law_1382 : decode cL_law 1382 = .ok (.iadd, 1) := dk_96 (dk_at dksL_law_54 8 rfl rfl)
theorem dL_law_1383 : decode cL_law 1383 = .ok (.iaload, 1) := dk_46 (dk_at dksL_law_54 9 rfl rfl)
theorem dL_law_1384 : decode cL_law 1384 = .ok (.aload_n 3, 1) := dk_45 (dk_at dksL_law_54 10 rfl rfl)
theorem dL_law_1385 : decode cL_law 1385 = .ok (.invokestatic 192, 3) := dk_184 0 192 (dk_at dksL_law_54 11 rfl rfl)
theorem dL_law_1388 : decode cL_law 1388 = .ok (.istore 5, 2) := dk_54 5 (dk_at dksL_law_54 14 rfl rfl)
theorem dL_law_1390 : decode cL_law 1390 = .ok (.aload_n 2, 1) := dk_44 (dk_at dksL_law_54 16 rfl rfl)
theorem dL_law_1391 : decode cL_law 1391 = .ok (.aload_n 0, 1) := dk_42 (dk_at dksL_law_54 17 rfl rfl)
theorem dL_law_1392 : decode cL_law 1392 = .ok (.iload 4, 2) := dk_21 4 (dk_at dksL_law_54 18 rfl rfl)
theorem dL_law_1394 : decode cL_law 1394 = .ok (.iconst 1, 1) := dk_4 (dk_at dksL_law_54 20 rfl rfl)
theorem dL_law_1395 : decode cL_law 1395 = .ok (.iadd, 1) := dk_96 (dk_at dksL_law_54 21 rfl rfl)
theorem dL_law_1396 : decode cL_law 1396 = .ok (.iaload, 1) := dk_46 (dk_at dksL_law_54 22 rfl rfl)
theorem dL_law_1397 : decode cL_law 1397 = .ok (.invokevirtual 194, 3) := dk_182 0 194 (dk_at dksL_law_55 0 rfl rfl)
theorem dL_law_1400 : decode cL_law 1400 = .ok (.istore 6, 2) := dk_54 6 (dk_at dksL_law_55 3 rfl rfl)
theorem dL_law_1402 : decode cL_law 1402 = .ok (.aload_n 2, 1) := dk_44 (dk_at dksL_law_55 5 rfl rfl)
theorem dL_law_1403 : decode cL_law 1403 = .ok (.invokevirtual 138, 3) := dk_182 0 138 (dk_at dksL_law_55 6 rfl rfl)
theorem dL_law_1406 : decode cL_law 1406 = .ok (.iload 5, 2) := dk_21 5 (dk_at dksL_law_55 9 rfl rfl)
theorem dL_law_1408 : decode cL_law 1408 = .ok (.if_icmp .eq 5, 3) := dk_159 0 5 (dk_at dksL_law_55 11 rfl rfl)
theorem dL_law_1411 : decode cL_law 1411 = .ok (.iconst 0, 1) := dk_3 (dk_at dksL_law_55 14 rfl rfl)
theorem dL_law_1412 : decode cL_law 1412 = .ok (.ireturn, 1) := dk_172 (dk_at dksL_law_55 15 rfl rfl)
theorem dL_law_1413 : decode cL_law 1413 = .ok (.iload 5, 2) := dk_21 5 (dk_at dksL_law_55 16 rfl rfl)
theorem dL_law_1415 : decode cL_law 1415 = .ok (.ifCond .ne 16, 3) := dk_154 0 16 (dk_at dksL_law_55 18 rfl rfl)
theorem dL_law_1418 : decode cL_law 1418 = .ok (.aload_n 3, 1) := dk_45 (dk_at dksL_law_55 21 rfl rfl)
theorem dL_law_1419 : decode cL_law 1419 = .ok (.getfield 13, 3) := dk_180 0 13 (dk_at dksL_law_56 0 rfl rfl)
theorem dL_law_1422 : decode cL_law 1422 = .ok (.iload 6, 2) := dk_21 6 (dk_at dksL_law_56 3 rfl rfl)
theorem dL_law_1424 : decode cL_law 1424 = .ok (.i2l, 1) := dk_133 (dk_at dksL_law_56 5 rfl rfl)
theorem dL_law_1425 : decode cL_law 1425 = .ok (.lcmp, 1) := dk_148 (dk_at dksL_law_56 6 rfl rfl)
theorem dL_law_1426 : decode cL_law 1426 = .ok (.ifCond .eq 5, 3) := dk_153 0 5 (dk_at dksL_law_56 7 rfl rfl)
theorem dL_law_1429 : decode cL_law 1429 = .ok (.iconst 0, 1) := dk_3 (dk_at dksL_law_56 10 rfl rfl)
theorem dL_law_1430 : decode cL_law 1430 = .ok (.ireturn, 1) := dk_172 (dk_at dksL_law_56 11 rfl rfl)
theorem dL_law_1431 : decode cL_law 1431 = .ok (.goto 1004, 3) := dk_167 3 236 (dk_at dksL_law_56 12 rfl rfl)
theorem dL_law_1434 : decode cL_law 1434 = .ok (.aload_n 1, 1) := dk_43 (dk_at dksL_law_56 15 rfl rfl)
theorem dL_law_1435 : decode cL_law 1435 = .ok (.aload_n 0, 1) := dk_42 (dk_at dksL_law_56 16 rfl rfl)
theorem dL_law_1436 : decode cL_law 1436 = .ok (.iload 4, 2) := dk_21 4 (dk_at dksL_law_56 17 rfl rfl)
theorem dL_law_1438 : decode cL_law 1438 = .ok (.iconst 1, 1) := dk_4 (dk_at dksL_law_56 19 rfl rfl)
theorem dL_law_1439 : decode cL_law 1439 = .ok (.iadd, 1) := dk_96 (dk_at dksL_law_56 20 rfl rfl)
theorem dL_law_1440 : decode cL_law 1440 = .ok (.iaload, 1) := dk_46 (dk_at dksL_law_56 21 rfl rfl)
theorem dL_law_1441 : decode cL_law 1441 = .ok (.aload_n 0, 1) := dk_42 (dk_at dksL_law_56 22 rfl rfl)
theorem dL_law_1442 : decode cL_law 1442 = .ok (.iload 4, 2) := dk_21 4 (dk_at dksL_law_57 0 rfl rfl)
theorem dL_law_1444 : decode cL_law 1444 = .ok (.iconst 2, 1) := dk_5 (dk_at dksL_law_57 2 rfl rfl)
theorem dL_law_1445 : decode cL_law 1445 = .ok (.iadd, 1) := dk_96 (dk_at dksL_law_57 3 rfl rfl)
theorem dL_law_1446 : decode cL_law 1446 = .ok (.iaload, 1) := dk_46 (dk_at dksL_law_57 4 rfl rfl)
theorem dL_law_1447 : decode cL_law 1447 = .ok (.aload_n 3, 1) := dk_45 (dk_at dksL_law_57 5 rfl rfl)
theorem dL_law_1448 : decode cL_law 1448 = .ok (.invokestatic 195, 3) := dk_184 0 195 (dk_at dksL_law_57 6 rfl rfl)
theorem dL_law_1451 : decode cL_law 1451 = .ok (.istore 5, 2) := dk_54 5 (dk_at dksL_law_57 9 rfl rfl)
theorem dL_law_1453 : decode cL_law 1453 = .ok (.aload_n 2, 1) := dk_44 (dk_at dksL_law_57 11 rfl rfl)
theorem dL_law_1454 : decode cL_law 1454 = .ok (.aload_n 0, 1) := dk_42 (dk_at dksL_law_57 12 rfl rfl)
theorem dL_law_1455 : decode cL_law 1455 = .ok (.iload 4, 2) := dk_21 4 (dk_at dksL_law_57 13 rfl rfl)
theorem dL_law_1457 : decode cL_law 1457 = .ok (.iconst 1, 1) := dk_4 (dk_at dksL_law_57 15 rfl rfl)
theorem dL_law_1458 : decode cL_law 1458 = .ok (.iadd, 1) := dk_96 (dk_at dksL_law_57 16 rfl rfl)
theorem dL_law_1459 : decode cL_law 1459 = .ok (.iaload, 1) := dk_46 (dk_at dksL_law_57 17 rfl rfl)
theorem dL_law_1460 : decode cL_law 1460 = .ok (.aload_n 0, 1) := dk_42 (dk_at dksL_law_57 18 rfl rfl)
theorem dL_law_1461 : decode cL_law 1461 = .ok (.iload 4, 2) := dk_21 4 (dk_at dksL_law_57 19 rfl rfl)
theorem dL_law_1463 : decode cL_law 1463 = .ok (.iconst 2, 1) := dk_5 (dk_at dksL_law_57 21 rfl rfl)
theorem dL_law_1464 : decode cL_law 1464 = .ok (.iadd, 1) := dk_96 (dk_at dksL_law_57 22 rfl rfl)
theorem dL_law_1465 : decode cL_law 1465 = .ok (.iaload, 1) := dk_46 (dk_at dksL_law_57 23 rfl rfl)
theorem dL_law_1466 : decode cL_law 1466 = .ok (.invokevirtual 197, 3) := dk_182 0 197 (dk_at dksL_law_58 0 rfl rfl)
theorem dL_law_1469 : decode cL_law 1469 = .ok (.istore 6, 2) := dk_54 6 (dk_at dksL_law_58 3 rfl rfl)
theorem dL_law_1471 : decode cL_law 1471 = .ok (.aload_n 2, 1) := dk_44 (dk_at dksL_law_58 5 rfl rfl)
theorem dL_law_1472 : decode cL_law 1472 = .ok (.invokevirtual 138, 3) := dk_182 0 138 (dk_at dksL_law_58 6 rfl rfl)
theorem dL_law_1475 : decode cL_law 1475 = .ok (.iload 5, 2) := dk_21 5 (dk_at dksL_law_58 9 rfl rfl)
theorem dL_law_1477 : decode cL_law 1477 = .ok (.if_icmp .eq 5, 3) := dk_159 0 5 (dk_at dksL_law_58 11 rfl rfl)
theorem dL_law_1480 : decode cL_law 1480 = .ok (.iconst 0, 1) := dk_3 (dk_at dksL_law_58 14 rfl rfl)
theorem dL_law_1481 : decode cL_law 1481 = .ok (.ireturn, 1) := dk_172 (dk_at dksL_law_58 15 rfl rfl)
theorem dL_law_1482 : decode cL_law 1482 = .ok (.iload 5, 2) := dk_21 5 (dk_at dksL_law_58 16 rfl rfl)
theorem dL_law_1484 : decode cL_law 1484 = .ok (.ifCond .ne 16, 3) := dk_154 0 16 (dk_at dksL_law_58 18 rfl rfl)
theorem dL_law_1487 : decode cL_law 1487 = .ok (.aload_n 3, 1) := dk_45 (dk_at dksL_law_58 21 rfl rfl)
theorem dL_law_1488 : decode cL_law 1488 = .ok (.getfield 13, 3) := dk_180 0 13 (dk_at dksL_law_59 0 rfl rfl)
theorem dL_law_1491 : decode cL_law 1491 = .ok (.iload 6, 2) := dk_21 6 (dk_at dksL_law_59 3 rfl rfl)
theorem dL_law_1493 : decode cL_law 1493 = .ok (.i2l, 1) := dk_133 (dk_at dksL_law_59 5 rfl rfl)
theorem dL_law_1494 : decode cL_law 1494 = .ok (.lcmp, 1) := dk_148 (dk_at dksL_law_59 6 rfl rfl)
theorem dL_law_1495 : decode cL_law 1495 = .ok (.ifCond .eq 5, 3) := dk_153 0 5 (dk_at dksL_law_59 7 rfl rfl)
theorem dL_law_1498 : decode cL_law 1498 = .ok (.iconst 0, 1) := dk_3 (dk_at dksL_law_59 10 rfl rfl)
theorem dL_law_1499 : decode cL_law 1499 = .ok (.ireturn, 1) := dk_172 (dk_at dksL_law_59 11 rfl rfl)
theorem dL_law_1500 : decode cL_law 1500 = .ok (.goto 935, 3) := dk_167 3 167 (dk_at dksL_law_59 12 rfl rfl)
theorem dL_law_1503 : decode cL_law 1503 = .ok (.aload_n 1, 1) := dk_43 (dk_at dksL_law_59 15 rfl rfl)
theorem dL_law_1504 : decode cL_law 1504 = .ok (.aload_n 0, 1) := dk_42 (dk_at dksL_law_59 16 rfl rfl)
theorem dL_law_1505 : decode cL_law 1505 = .ok (.iload 4, 2) := dk_21 4 (dk_at dksL_law_59 17 rfl rfl)
theorem dL_law_1507 : decode cL_law 1507 = .ok (.iconst 1, 1) := dk_4 (dk_at dksL_law_59 19 rfl rfl)
theorem dL_law_1508 : decode cL_law 1508 = .ok (.iadd, 1) := dk_96 (dk_at dksL_law_59 20 rfl rfl)
theorem dL_law_1509 : decode cL_law 1509 = .ok (.iaload, 1) := dk_46 (dk_at dksL_law_59 21 rfl rfl)
theorem dL_law_1510 : decode cL_law 1510 = .ok (.aload_n 0, 1) := dk_42 (dk_at dksL_law_59 22 rfl rfl)
theorem dL_law_1511 : decode cL_law 1511 = .ok (.iload 4, 2) := dk_21 4 (dk_at dksL_law_60 0 rfl rfl)
theorem dL_law_1513 : decode cL_law 1513 = .ok (.iconst 2, 1) := dk_5 (dk_at dksL_law_60 2 rfl rfl)
theorem dL_law_1514 : decode cL_law 1514 = .ok (.iadd, 1) := dk_96 (dk_at dksL_law_60 3 rfl rfl)
theorem dL_law_1515 : decode cL_law 1515 = .ok (.iaload, 1) := dk_46 (dk_at dksL_law_60 4 rfl rfl)
theorem dL_law_1516 : decode cL_law 1516 = .ok (.aload_n 3, 1) := dk_45 (dk_at dksL_law_60 5 rfl rfl)
theorem dL_law_1517 : decode cL_law 1517 = .ok (.invokestatic 198, 3) := dk_184 0 198 (dk_at dksL_law_60 6 rfl rfl)
theorem dL_law_1520 : decode cL_law 1520 = .ok (.istore 5, 2) := dk_54 5 (dk_at dksL_law_60 9 rfl rfl)
theorem dL_law_1522 : decode cL_law 1522 = .ok (.aload_n 2, 1) := dk_44 (dk_at dksL_law_60 11 rfl rfl)
theorem dL_law_1523 : decode cL_law 1523 = .ok (.aload_n 0, 1) := dk_42 (dk_at dksL_law_60 12 rfl rfl)
theorem dL_law_1524 : decode cL_law 1524 = .ok (.iload 4, 2) := dk_21 4 (dk_at dksL_law_60 13 rfl rfl)
theorem dL_law_1526 : decode cL_law 1526 = .ok (.iconst 1, 1) := dk_4 (dk_at dksL_law_60 15 rfl rfl)
theorem dL_law_1527 : decode cL_law 1527 = .ok (.iadd, 1) := dk_96 (dk_at dksL_law_60 16 rfl rfl)
theorem dL_law_1528 : decode cL_law 1528 = .ok (.iaload, 1) := dk_46 (dk_at dksL_law_60 17 rfl rfl)
theorem dL_law_1529 : decode cL_law 1529 = .ok (.aload_n 0, 1) := dk_42 (dk_at dksL_law_60 18 rfl rfl)
theorem dL_law_1530 : decode cL_law 1530 = .ok (.iload 4, 2) := dk_21 4 (dk_at dksL_law_60 19 rfl rfl)
theorem dL_law_1532 : decode cL_law 1532 = .ok (.iconst 2, 1) := dk_5 (dk_at dksL_law_60 21 rfl rfl)
theorem dL_law_1533 : decode cL_law 1533 = .ok (.iadd, 1) := dk_96 (dk_at dksL_law_60 22 rfl rfl)
theorem dL_law_1534 : decode cL_law 1534 = .ok (.iaload, 1) := dk_46 (dk_at dksL_law_60 23 rfl rfl)
theorem dL_law_1535 : decode cL_law 1535 = .ok (.invokevirtual 200, 3) := dk_182 0 200 (dk_at dksL_law_61 0 rfl rfl)
theorem dL_law_1538 : decode cL_law 1538 = .ok (.istore 6, 2) := dk_54 6 (dk_at dksL_law_61 3 rfl rfl)
theorem dL_law_1540 : decode cL_law 1540 = .ok (.aload_n 2, 1) := dk_44 (dk_at dksL_law_61 5 rfl rfl)
theorem dL_law_1541 : decode cL_law 1541 = .ok (.invokevirtual 138, 3) := dk_182 0 138 (dk_at dksL_law_61 6 rfl rfl)
theorem dL_law_1544 : decode cL_law 1544 = .ok (.iload 5, 2) := dk_21 5 (dk_at dksL_law_61 9 rfl rfl)
theorem dL_law_1546 : decode cL_law 1546 = .ok (.if_icmp .eq 5, 3) := dk_159 0 5 (dk_at dksL_law_61 11 rfl rfl)
theorem dL_law_1549 : decode cL_law 1549 = .ok (.iconst 0, 1) := dk_3 (dk_at dksL_law_61 14 rfl rfl)
theorem dL_law_1550 : decode cL_law 1550 = .ok (.ireturn, 1) := dk_172 (dk_at dksL_law_61 15 rfl rfl)
theorem dL_law_1551 : decode cL_law 1551 = .ok (.iload 5, 2) := dk_21 5 (dk_at dksL_law_61 16 rfl rfl)
theorem dL_law_1553 : decode cL_law 1553 = .ok (.ifCond .ne 16, 3) := dk_154 0 16 (dk_at dksL_law_61 18 rfl rfl)
theorem dL_law_1556 : decode cL_law 1556 = .ok (.aload_n 3, 1) := dk_45 (dk_at dksL_law_61 21 rfl rfl)
theorem dL_law_1557 : decode cL_law 1557 = .ok (.getfield 13, 3) := dk_180 0 13 (dk_at dksL_law_62 0 rfl rfl)
theorem dL_law_1560 : decode cL_law 1560 = .ok (.iload 6, 2) := dk_21 6 (dk_at dksL_law_62 3 rfl rfl)
theorem dL_law_1562 : decode cL_law 1562 = .ok (.i2l, 1) := dk_133 (dk_at dksL_law_62 5 rfl rfl)
theorem dL_law_1563 : decode cL_law 1563 = .ok (.lcmp, 1) := dk_148 (dk_at dksL_law_62 6 rfl rfl)
theorem dL_law_1564 : decode cL_law 1564 = .ok (.ifCond .eq 5, 3) := dk_153 0 5 (dk_at dksL_law_62 7 rfl rfl)
theorem dL_law_1567 : decode cL_law 1567 = .ok (.iconst 0, 1) := dk_3 (dk_at dksL_law_62 10 rfl rfl)
theorem dL_law_1568 : decode cL_law 1568 = .ok (.ireturn, 1) := dk_172 (dk_at dksL_law_62 11 rfl rfl)
theorem dL_law_1569 : decode cL_law 1569 = .ok (.goto 866, 3) := dk_167 3 98 (dk_at dksL_law_62 12 rfl rfl)
theorem dL_law_1572 : decode cL_law 1572 = .ok (.aload_n 1, 1) := dk_43 (dk_at dksL_law_62 15 rfl rfl)
theorem dL_law_1573 : decode cL_law 1573 = .ok (.aload_n 0, 1) := dk_42 (dk_at dksL_law_62 16 rfl rfl)
theorem dL_law_1574 : decode cL_law 1574 = .ok (.iload 4, 2) := dk_21 4 (dk_at dksL_law_62 17 rfl rfl)
theorem dL_law_1576 : decode cL_law 1576 = .ok (.iconst 1, 1) := dk_4 (dk_at dksL_law_62 19 rfl rfl)
theorem dL_law_1577 : decode cL_law 1577 = .ok (.iadd, 1) := dk_96 (dk_at dksL_law_62 20 rfl rfl)
theorem dL_law_1578 : decode cL_law 1578 = .ok (.iaload, 1) := dk_46 (dk_at dksL_law_62 21 rfl rfl)
theorem dL_law_1579 : decode cL_law 1579 = .ok (.aload_n 0, 1) := dk_42 (dk_at dksL_law_62 22 rfl rfl)
theorem dL_law_1580 : decode cL_law 1580 = .ok (.iload 4, 2) := dk_21 4 (dk_at dksL_law_63 0 rfl rfl)
theorem dL_law_1582 : decode cL_law 1582 = .ok (.iconst 2, 1) := dk_5 (dk_at dksL_law_63 2 rfl rfl)
theorem dL_law_1583 : decode cL_law 1583 = .ok (.iadd, 1) := dk_96 (dk_at dksL_law_63 3 rfl rfl)
theorem dL_law_1584 : decode cL_law 1584 = .ok (.iaload, 1) := dk_46 (dk_at dksL_law_63 4 rfl rfl)
theorem dL_law_1585 : decode cL_law 1585 = .ok (.aload_n 3, 1) := dk_45 (dk_at dksL_law_63 5 rfl rfl)
theorem dL_law_1586 : decode cL_law 1586 = .ok (.invokestatic 201, 3) := dk_184 0 201 (dk_at dksL_law_63 6 rfl rfl)
theorem dL_law_1589 : decode cL_law 1589 = .ok (.istore 5, 2) := dk_54 5 (dk_at dksL_law_63 9 rfl rfl)
theorem dL_law_1591 : decode cL_law 1591 = .ok (.aload_n 2, 1) := dk_44 (dk_at dksL_law_63 11 rfl rfl)
theorem dL_law_1592 : decode cL_law 1592 = .ok (.aload_n 0, 1) := dk_42 (dk_at dksL_law_63 12 rfl rfl)
theorem dL_law_1593 : decode cL_law 1593 = .ok (.iload 4, 2) := dk_21 4 (dk_at dksL_law_63 13 rfl rfl)
theorem dL_law_1595 : decode cL_law 1595 = .ok (.iconst 1, 1) := dk_4 (dk_at dksL_law_63 15 rfl rfl)
theorem dL_law_1596 : decode cL_law 1596 = .ok (.iadd, 1) := dk_96 (dk_at dksL_law_63 16 rfl rfl)
theorem dL_law_1597 : decode cL_law 1597 = .ok (.iaload, 1) := dk_46 (dk_at dksL_law_63 17 rfl rfl)
theorem dL_law_1598 : decode cL_law 1598 = .ok (.aload_n 0, 1) := dk_42 (dk_at dksL_law_63 18 rfl rfl)
theorem dL_law_1599 : decode cL_law 1599 = .ok (.iload 4, 2) := dk_21 4 (dk_at dksL_law_63 19 rfl rfl)
theorem dL_law_1601 : decode cL_law 1601 = .ok (.iconst 2, 1) := dk_5 (dk_at dksL_law_63 21 rfl rfl)
theorem dL_law_1602 : decode cL_law 1602 = .ok (.iadd, 1) := dk_96 (dk_at dksL_law_63 22 rfl rfl)
theorem dL_law_1603 : decode cL_law 1603 = .ok (.iaload, 1) := dk_46 (dk_at dksL_law_63 23 rfl rfl)
theorem dL_law_1604 : decode cL_law 1604 = .ok (.invokevirtual 203, 3) := dk_182 0 203 (dk_at dksL_law_64 0 rfl rfl)
theorem dL_law_1607 : decode cL_law 1607 = .ok (.istore 6, 2) := dk_54 6 (dk_at dksL_law_64 3 rfl rfl)
theorem dL_law_1609 : decode cL_law 1609 = .ok (.aload_n 2, 1) := dk_44 (dk_at dksL_law_64 5 rfl rfl)
theorem dL_law_1610 : decode cL_law 1610 = .ok (.invokevirtual 138, 3) := dk_182 0 138 (dk_at dksL_law_64 6 rfl rfl)
theorem dL_law_1613 : decode cL_law 1613 = .ok (.iload 5, 2) := dk_21 5 (dk_at dksL_law_64 9 rfl rfl)
theorem dL_law_1615 : decode cL_law 1615 = .ok (.if_icmp .eq 5, 3) := dk_159 0 5 (dk_at dksL_law_64 11 rfl rfl)
theorem dL_law_1618 : decode cL_law 1618 = .ok (.iconst 0, 1) := dk_3 (dk_at dksL_law_64 14 rfl rfl)
theorem dL_law_1619 : decode cL_law 1619 = .ok (.ireturn, 1) := dk_172 (dk_at dksL_law_64 15 rfl rfl)
theorem dL_law_1620 : decode cL_law 1620 = .ok (.iload 5, 2) := dk_21 5 (dk_at dksL_law_64 16 rfl rfl)
theorem dL_law_1622 : decode cL_law 1622 = .ok (.ifCond .ne 16, 3) := dk_154 0 16 (dk_at dksL_law_64 18 rfl rfl)
theorem dL_law_1625 : decode cL_law 1625 = .ok (.aload_n 3, 1) := dk_45 (dk_at dksL_law_64 21 rfl rfl)
theorem dL_law_1626 : decode cL_law 1626 = .ok (.getfield 13, 3) := dk_180 0 13 (dk_at dksL_law_65 0 rfl rfl)
theorem dL_law_1629 : decode cL_law 1629 = .ok (.iload 6, 2) := dk_21 6 (dk_at dksL_law_65 3 rfl rfl)
theorem dL_law_1631 : decode cL_law 1631 = .ok (.i2l, 1) := dk_133 (dk_at dksL_law_65 5 rfl rfl)
theorem dL_law_1632 : decode cL_law 1632 = .ok (.lcmp, 1) := dk_148 (dk_at dksL_law_65 6 rfl rfl)
theorem dL_law_1633 : decode cL_law 1633 = .ok (.ifCond .eq 5, 3) := dk_153 0 5 (dk_at dksL_law_65 7 rfl rfl)
theorem dL_law_1636 : decode cL_law 1636 = .ok (.iconst 0, 1) := dk_3 (dk_at dksL_law_65 10 rfl rfl)
theorem dL_law_1637 : decode cL_law 1637 = .ok (.ireturn, 1) := dk_172 (dk_at dksL_law_65 11 rfl rfl)
theorem dL_law_1638 : decode cL_law 1638 = .ok (.goto 797, 3) := dk_167 3 29 (dk_at dksL_law_65 12 rfl rfl)
theorem dL_law_1641 : decode cL_law 1641 = .ok (.aload_n 1, 1) := dk_43 (dk_at dksL_law_65 15 rfl rfl)
theorem dL_law_1642 : decode cL_law 1642 = .ok (.aload_n 0, 1) := dk_42 (dk_at dksL_law_65 16 rfl rfl)
theorem dL_law_1643 : decode cL_law 1643 = .ok (.iload 4, 2) := dk_21 4 (dk_at dksL_law_65 17 rfl rfl)
theorem dL_law_1645 : decode cL_law 1645 = .ok (.iconst 1, 1) := dk_4 (dk_at dksL_law_65 19 rfl rfl)
theorem dL_law_1646 : decode cL_law 1646 = .ok (.iadd, 1) := dk_96 (dk_at dksL_law_65 20 rfl rfl)
theorem dL_law_1647 : decode cL_law 1647 = .ok (.iaload, 1) := dk_46 (dk_at dksL_law_65 21 rfl rfl)
theorem dL_law_1648 : decode cL_law 1648 = .ok (.aload_n 3, 1) := dk_45 (dk_at dksL_law_65 22 rfl rfl)
theorem dL_law_1649 : decode cL_law 1649 = .ok (.invokestatic 204, 3) := dk_184 0 204 (dk_at dksL_law_66 0 rfl rfl)
theorem dL_law_1652 : decode cL_law 1652 = .ok (.istore 5, 2) := dk_54 5 (dk_at dksL_law_66 3 rfl rfl)
theorem dL_law_1654 : decode cL_law 1654 = .ok (.aload_n 2, 1) := dk_44 (dk_at dksL_law_66 5 rfl rfl)
theorem dL_law_1655 : decode cL_law 1655 = .ok (.aload_n 0, 1) := dk_42 (dk_at dksL_law_66 6 rfl rfl)
theorem dL_law_1656 : decode cL_law 1656 = .ok (.iload 4, 2) := dk_21 4 (dk_at dksL_law_66 7 rfl rfl)
theorem dL_law_1658 : decode cL_law 1658 = .ok (.iconst 1, 1) := dk_4 (dk_at dksL_law_66 9 rfl rfl)
theorem dL_law_1659 : decode cL_law 1659 = .ok (.iadd, 1) := dk_96 (dk_at dksL_law_66 10 rfl rfl)
theorem dL_law_1660 : decode cL_law 1660 = .ok (.iaload, 1) := dk_46 (dk_at dksL_law_66 11 rfl rfl)
theorem dL_law_1661 : decode cL_law 1661 = .ok (.invokevirtual 206, 3) := dk_182 0 206 (dk_at dksL_law_66 12 rfl rfl)
theorem dL_law_1664 : decode cL_law 1664 = .ok (.astore 6, 2) := dk_58 6 (dk_at dksL_law_66 15 rfl rfl)
theorem dL_law_1666 : decode cL_law 1666 = .ok (.aload_n 2, 1) := dk_44 (dk_at dksL_law_66 17 rfl rfl)
theorem dL_law_1667 : decode cL_law 1667 = .ok (.invokevirtual 138, 3) := dk_182 0 138 (dk_at dksL_law_66 18 rfl rfl)
theorem dL_law_1670 : decode cL_law 1670 = .ok (.iload 5, 2) := dk_21 5 (dk_at dksL_law_66 21 rfl rfl)
theorem dL_law_1672 : decode cL_law 1672 = .ok (.if_icmp .eq 5, 3) := dk_159 0 5 (dk_at dksL_law_67 0 rfl rfl)
theorem dL_law_1675 : decode cL_law 1675 = .ok (.iconst 0, 1) := dk_3 (dk_at dksL_law_67 3 rfl rfl)
theorem dL_law_1676 : decode cL_law 1676 = .ok (.ireturn, 1) := dk_172 (dk_at dksL_law_67 4 rfl rfl)
theorem dL_law_1677 : decode cL_law 1677 = .ok (.iload 5, 2) := dk_21 5 (dk_at dksL_law_67 5 rfl rfl)
theorem dL_law_1679 : decode cL_law 1679 = .ok (.ifCond .ne 17, 3) := dk_154 0 17 (dk_at dksL_law_67 7 rfl rfl)
theorem dL_law_1682 : decode cL_law 1682 = .ok (.aload_n 3, 1) := dk_45 (dk_at dksL_law_67 10 rfl rfl)
theorem dL_law_1683 : decode cL_law 1683 = .ok (.getfield 91, 3) := dk_180 0 91 (dk_at dksL_law_67 11 rfl rfl)
theorem dL_law_1686 : decode cL_law 1686 = .ok (.aload 6, 2) := dk_25 6 (dk_at dksL_law_67 14 rfl rfl)
theorem dL_law_1688 : decode cL_law 1688 = .ok (.invokevirtual 207, 3) := dk_182 0 207 (dk_at dksL_law_67 16 rfl rfl)
theorem dL_law_1691 : decode cL_law 1691 = .ok (.ifCond .ne 5, 3) := dk_154 0 5 (dk_at dksL_law_67 19 rfl rfl)
theorem dL_law_1694 : decode cL_law 1694 = .ok (.iconst 0, 1) := dk_3 (dk_at dksL_law_67 22 rfl rfl)
theorem dL_law_1695 : decode cL_law 1695 = .ok (.ireturn, 1) := dk_172 (dk_at dksL_law_67 23 rfl rfl)
theorem dL_law_1696 : decode cL_law 1696 = .ok (.goto 739, 3) := dk_167 2 227 (dk_at dksL_law_68 0 rfl rfl)
theorem dL_law_1699 : decode cL_law 1699 = .ok (.aload_n 1, 1) := dk_43 (dk_at dksL_law_68 3 rfl rfl)
theorem dL_law_1700 : decode cL_law 1700 = .ok (.aload_n 0, 1) := dk_42 (dk_at dksL_law_68 4 rfl rfl)
theorem dL_law_1701 : decode cL_law 1701 = .ok (.iload 4, 2) := dk_21 4 (dk_at dksL_law_68 5 rfl rfl)
theorem dL_law_1703 : decode cL_law 1703 = .ok (.iconst 1, 1) := dk_4 (dk_at dksL_law_68 7 rfl rfl)
theorem dL_law_1704 : decode cL_law 1704 = .ok (.iadd, 1) := dk_96 (dk_at dksL_law_68 8 rfl rfl)
theorem dL_law_1705 : decode cL_law 1705 = .ok (.iaload, 1) := dk_46 (dk_at dksL_law_68 9 rfl rfl)
theorem dL_law_1706 : decode cL_law 1706 = .ok (.aload_n 0, 1) := dk_42 (dk_at dksL_law_68 10 rfl rfl)
theorem dL_law_1707 : decode cL_law 1707 = .ok (.iload 4, 2) := dk_21 4 (dk_at dksL_law_68 11 rfl rfl)
theorem dL_law_1709 : decode cL_law 1709 = .ok (.iconst 2, 1) := dk_5 (dk_at dksL_law_68 13 rfl rfl)
theorem dL_law_1710 : decode cL_law 1710 = .ok (.iadd, 1) := dk_96 (dk_at dksL_law_68 14 rfl rfl)
theorem dL_law_1711 : decode cL_law 1711 = .ok (.iaload, 1) := dk_46 (dk_at dksL_law_68 15 rfl rfl)
theorem dL_law_1712 : decode cL_law 1712 = .ok (.aload_n 3, 1) := dk_45 (dk_at dksL_law_68 16 rfl rfl)
theorem dL_law_1713 : decode cL_law 1713 = .ok (.invokestatic 213, 3) := dk_184 0 213 (dk_at dksL_law_68 17 rfl rfl)
theorem dL_law_1716 : decode cL_law 1716 = .ok (.istore 5, 2) := dk_54 5 (dk_at dksL_law_68 20 rfl rfl)
theorem dL_law_1718 : decode cL_law 1718 = .ok (.aload_n 2, 1) := dk_44 (dk_at dksL_law_68 22 rfl rfl)
theorem dL_law_1719 : decode cL_law 1719 = .ok (.aload_n 0, 1) := dk_42 (dk_at dksL_law_68 23 rfl rfl)
theorem dL_law_1720 : decode cL_law 1720 = .ok (.iload 4, 2) := dk_21 4 (dk_at dksL_law_69 0 rfl rfl)
theorem dL_law_1722 : decode cL_law 1722 = .ok (.iconst 1, 1) := dk_4 (dk_at dksL_law_69 2 rfl rfl)
theorem dL_law_1723 : decode cL_law 1723 = .ok (.iadd, 1) := dk_96 (dk_at dksL_law_69 3 rfl rfl)
theorem dL_law_1724 : decode cL_law 1724 = .ok (.iaload, 1) := dk_46 (dk_at dksL_law_69 4 rfl rfl)
theorem dL_law_1725 : decode cL_law 1725 = .ok (.aload_n 0, 1) := dk_42 (dk_at dksL_law_69 5 rfl rfl)
theorem dL_law_1726 : decode cL_law 1726 = .ok (.iload 4, 2) := dk_21 4 (dk_at dksL_law_69 6 rfl rfl)
theorem dL_law_1728 : decode cL_law 1728 = .ok (.iconst 2, 1) := dk_5 (dk_at dksL_law_69 8 rfl rfl)
theorem dL_law_1729 : decode cL_law 1729 = .ok (.iadd, 1) := dk_96 (dk_at dksL_law_69 9 rfl rfl)
theorem dL_law_1730 : decode cL_law 1730 = .ok (.iaload, 1) := dk_46 (dk_at dksL_law_69 10 rfl rfl)
theorem dL_law_1731 : decode cL_law 1731 = .ok (.invokevirtual 215, 3) := dk_182 0 215 (dk_at dksL_law_69 11 rfl rfl)
theorem dL_law_1734 : decode cL_law 1734 = .ok (.istore 6, 2) := dk_54 6 (dk_at dksL_law_69 14 rfl rfl)
theorem dL_law_1736 : decode cL_law 1736 = .ok (.aload_n 2, 1) := dk_44 (dk_at dksL_law_69 16 rfl rfl)
theorem dL_law_1737 : decode cL_law 1737 = .ok (.invokevirtual 138, 3) := dk_182 0 138 (dk_at dksL_law_69 17 rfl rfl)
theorem dL_law_1740 : decode cL_law 1740 = .ok (.iload 5, 2) := dk_21 5 (dk_at dksL_law_69 20 rfl rfl)
theorem dL_law_1742 : decode cL_law 1742 = .ok (.if_icmp .eq 5, 3) := dk_159 0 5 (dk_at dksL_law_70 0 rfl rfl)
theorem dL_law_1745 : decode cL_law 1745 = .ok (.iconst 0, 1) := dk_3 (dk_at dksL_law_70 3 rfl rfl)
theorem dL_law_1746 : decode cL_law 1746 = .ok (.ireturn, 1) := dk_172 (dk_at dksL_law_70 4 rfl rfl)
theorem dL_law_1747 : decode cL_law 1747 = .ok (.iload 5, 2) := dk_21 5 (dk_at dksL_law_70 5 rfl rfl)
theorem dL_law_1749 : decode cL_law 1749 = .ok (.ifCond .ne 16, 3) := dk_154 0 16 (dk_at dksL_law_70 7 rfl rfl)
theorem dL_law_1752 : decode cL_law 1752 = .ok (.aload_n 3, 1) := dk_45 (dk_at dksL_law_70 10 rfl rfl)
theorem dL_law_1753 : decode cL_law 1753 = .ok (.getfield 13, 3) := dk_180 0 13 (dk_at dksL_law_70 11 rfl rfl)
theorem dL_law_1756 : decode cL_law 1756 = .ok (.iload 6, 2) := dk_21 6 (dk_at dksL_law_70 14 rfl rfl)
theorem dL_law_1758 : decode cL_law 1758 = .ok (.i2l, 1) := dk_133 (dk_at dksL_law_70 16 rfl rfl)
theorem dL_law_1759 : decode cL_law 1759 = .ok (.lcmp, 1) := dk_148 (dk_at dksL_law_70 17 rfl rfl)
theorem dL_law_1760 : decode cL_law 1760 = .ok (.ifCond .eq 5, 3) := dk_153 0 5 (dk_at dksL_law_70 18 rfl rfl)
theorem dL_law_1763 : decode cL_law 1763 = .ok (.iconst 0, 1) := dk_3 (dk_at dksL_law_70 21 rfl rfl)
theorem dL_law_1764 : decode cL_law 1764 = .ok (.ireturn, 1) := dk_172 (dk_at dksL_law_70 22 rfl rfl)
theorem dL_law_1765 : decode cL_law 1765 = .ok (.goto 670, 3) := dk_167 2 158 (dk_at dksL_law_71 0 rfl rfl)
theorem dL_law_1768 : decode cL_law 1768 = .ok (.aload_n 1, 1) := dk_43 (dk_at dksL_law_71 3 rfl rfl)
theorem dL_law_1769 : decode cL_law 1769 = .ok (.aload_n 0, 1) := dk_42 (dk_at dksL_law_71 4 rfl rfl)
theorem dL_law_1770 : decode cL_law 1770 = .ok (.iload 4, 2) := dk_21 4 (dk_at dksL_law_71 5 rfl rfl)
theorem dL_law_1772 : decode cL_law 1772 = .ok (.iconst 1, 1) := dk_4 (dk_at dksL_law_71 7 rfl rfl)
theorem dL_law_1773 : decode cL_law 1773 = .ok (.iadd, 1) := dk_96 (dk_at dksL_law_71 8 rfl rfl)
theorem dL_law_1774 : decode cL_law 1774 = .ok (.iaload, 1) := dk_46 (dk_at dksL_law_71 9 rfl rfl)
theorem dL_law_1775 : decode cL_law 1775 = .ok (.aload_n 0, 1) := dk_42 (dk_at dksL_law_71 10 rfl rfl)
theorem dL_law_1776 : decode cL_law 1776 = .ok (.iload 4, 2) := dk_21 4 (dk_at dksL_law_71 11 rfl rfl)
theorem dL_law_1778 : decode cL_law 1778 = .ok (.iconst 2, 1) := dk_5 (dk_at dksL_law_71 13 rfl rfl)
theorem dL_law_1779 : decode cL_law 1779 = .ok (.iadd, 1) := dk_96 (dk_at dksL_law_71 14 rfl rfl)
theorem dL_law_1780 : decode cL_law 1780 = .ok (.iaload, 1) := dk_46 (dk_at dksL_law_71 15 rfl rfl)
theorem dL_law_1781 : decode cL_law 1781 = .ok (.aload_n 0, 1) := dk_42 (dk_at dksL_law_71 16 rfl rfl)
theorem dL_law_1782 : decode cL_law 1782 = .ok (.iload 4, 2) := dk_21 4 (dk_at dksL_law_71 17 rfl rfl)
theorem dL_law_1784 : decode cL_law 1784 = .ok (.iconst 3, 1) := dk_6 (dk_at dksL_law_71 19 rfl rfl)
theorem dL_law_1785 : decode cL_law 1785 = .ok (.iadd, 1) := dk_96 (dk_at dksL_law_71 20 rfl rfl)
theorem dL_law_1786 : decode cL_law 1786 = .ok (.iaload, 1) := dk_46 (dk_at dksL_law_71 21 rfl rfl)
theorem dL_law_1787 : decode cL_law 1787 = .ok (.aload_n 3, 1) := dk_45 (dk_at dksL_law_71 22 rfl rfl)
theorem dL_law_1788 : decode cL_law 1788 = .ok (.invokestatic 216, 3) := dk_184 0 216 (dk_at dksL_law_72 0 rfl rfl)
theorem dL_law_1791 : decode cL_law 1791 = .ok (.istore 5, 2) := dk_54 5 (dk_at dksL_law_72 3 rfl rfl)
theorem dL_law_1793 : decode cL_law 1793 = .ok (.aload_n 2, 1) := dk_44 (dk_at dksL_law_72 5 rfl rfl)
theorem dL_law_1794 : decode cL_law 1794 = .ok (.aload_n 0, 1) := dk_42 (dk_at dksL_law_72 6 rfl rfl)
theorem dL_law_1795 : decode cL_law 1795 = .ok (.iload 4, 2) := dk_21 4 (dk_at dksL_law_72 7 rfl rfl)
theorem dL_law_1797 : decode cL_law 1797 = .ok (.iconst 1, 1) := dk_4 (dk_at dksL_law_72 9 rfl rfl)
theorem dL_law_1798 : decode cL_law 1798 = .ok (.iadd, 1) := dk_96 (dk_at dksL_law_72 10 rfl rfl)
theorem dL_law_1799 : decode cL_law 1799 = .ok (.iaload, 1) := dk_46 (dk_at dksL_law_72 11 rfl rfl)
theorem dL_law_1800 : decode cL_law 1800 = .ok (.aload_n 0, 1) := dk_42 (dk_at dksL_law_72 12 rfl rfl)
theorem dL_law_1801 : decode cL_law 1801 = .ok (.iload 4, 2) := dk_21 4 (dk_at dksL_law_72 13 rfl rfl)
theorem dL_law_1803 : decode cL_law 1803 = .ok (.iconst 2, 1) := dk_5 (dk_at dksL_law_72 15 rfl rfl)
theorem dL_law_1804 : decode cL_law 1804 = .ok (.iadd, 1) := dk_96 (dk_at dksL_law_72 16 rfl rfl)
theorem dL_law_1805 : decode cL_law 1805 = .ok (.iaload, 1) := dk_46 (dk_at dksL_law_72 17 rfl rfl)
theorem dL_law_1806 : decode cL_law 1806 = .ok (.aload_n 0, 1) := dk_42 (dk_at dksL_law_72 18 rfl rfl)
theorem dL_law_1807 : decode cL_law 1807 = .ok (.iload 4, 2) := dk_21 4 (dk_at dksL_law_72 19 rfl rfl)
theorem dL_law_1809 : decode cL_law 1809 = .ok (.iconst 3, 1) := dk_6 (dk_at dksL_law_72 21 rfl rfl)
theorem dL_law_1810 : decode cL_law 1810 = .ok (.iadd, 1) := dk_96 (dk_at dksL_law_72 22 rfl rfl)
theorem dL_law_1811 : decode cL_law 1811 = .ok (.iaload, 1) := dk_46 (dk_at dksL_law_72 23 rfl rfl)
theorem dL_law_1812 : decode cL_law 1812 = .ok (.invokevirtual 218, 3) := dk_182 0 218 (dk_at dksL_law_73 0 rfl rfl)
theorem dL_law_1815 : decode cL_law 1815 = .ok (.istore 6, 2) := dk_54 6 (dk_at dksL_law_73 3 rfl rfl)
theorem dL_law_1817 : decode cL_law 1817 = .ok (.aload_n 2, 1) := dk_44 (dk_at dksL_law_73 5 rfl rfl)
theorem dL_law_1818 : decode cL_law 1818 = .ok (.invokevirtual 138, 3) := dk_182 0 138 (dk_at dksL_law_73 6 rfl rfl)
theorem dL_law_1821 : decode cL_law 1821 = .ok (.iload 5, 2) := dk_21 5 (dk_at dksL_law_73 9 rfl rfl)
theorem dL_law_1823 : decode cL_law 1823 = .ok (.if_icmp .eq 5, 3) := dk_159 0 5 (dk_at dksL_law_73 11 rfl rfl)
theorem dL_law_1826 : decode cL_law 1826 = .ok (.iconst 0, 1) := dk_3 (dk_at dksL_law_73 14 rfl rfl)
theorem dL_law_1827 : decode cL_law 1827 = .ok (.ireturn, 1) := dk_172 (dk_at dksL_law_73 15 rfl rfl)
theorem dL_law_1828 : decode cL_law 1828 = .ok (.iload 5, 2) := dk_21 5 (dk_at dksL_law_73 16 rfl rfl)
theorem dL_law_1830 : decode cL_law 1830 = .ok (.ifCond .ne 16, 3) := dk_154 0 16 (dk_at dksL_law_73 18 rfl rfl)
theorem dL_law_1833 : decode cL_law 1833 = .ok (.aload_n 3, 1) := dk_45 (dk_at dksL_law_73 21 rfl rfl)
theorem dL_law_1834 : decode cL_law 1834 = .ok (.getfield 13, 3) := dk_180 0 13 (dk_at dksL_law_74 0 rfl rfl)
theorem dL_law_1837 : decode cL_law 1837 = .ok (.iload 6, 2) := dk_21 6 (dk_at dksL_law_74 3 rfl rfl)
theorem dL_law_1839 : decode cL_law 1839 = .ok (.i2l, 1) := dk_133 (dk_at dksL_law_74 5 rfl rfl)
theorem dL_law_1840 : decode cL_law 1840 = .ok (.lcmp, 1) := dk_148 (dk_at dksL_law_74 6 rfl rfl)
theorem dL_law_1841 : decode cL_law 1841 = .ok (.ifCond .eq 5, 3) := dk_153 0 5 (dk_at dksL_law_74 7 rfl rfl)
theorem dL_law_1844 : decode cL_law 1844 = .ok (.iconst 0, 1) := dk_3 (dk_at dksL_law_74 10 rfl rfl)
theorem dL_law_1845 : decode cL_law 1845 = .ok (.ireturn, 1) := dk_172 (dk_at dksL_law_74 11 rfl rfl)
theorem dL_law_1846 : decode cL_law 1846 = .ok (.goto 589, 3) := dk_167 2 77 (dk_at dksL_law_74 12 rfl rfl)
theorem dL_law_1849 : decode cL_law 1849 = .ok (.aload_n 1, 1) := dk_43 (dk_at dksL_law_74 15 rfl rfl)
theorem dL_law_1850 : decode cL_law 1850 = .ok (.aload_n 0, 1) := dk_42 (dk_at dksL_law_74 16 rfl rfl)
theorem dL_law_1851 : decode cL_law 1851 = .ok (.iload 4, 2) := dk_21 4 (dk_at dksL_law_74 17 rfl rfl)
theorem dL_law_1853 : decode cL_law 1853 = .ok (.iconst 1, 1) := dk_4 (dk_at dksL_law_74 19 rfl rfl)
theorem dL_law_1854 : decode cL_law 1854 = .ok (.iadd, 1) := dk_96 (dk_at dksL_law_74 20 rfl rfl)
theorem dL_law_1855 : decode cL_law 1855 = .ok (.iaload, 1) := dk_46 (dk_at dksL_law_74 21 rfl rfl)
theorem dL_law_1856 : decode cL_law 1856 = .ok (.aload_n 0, 1) := dk_42 (dk_at dksL_law_74 22 rfl rfl)
theorem dL_law_1857 : decode cL_law 1857 = .ok (.iload 4, 2) := dk_21 4 (dk_at dksL_law_75 0 rfl rfl)
theorem dL_law_1859 : decode cL_law 1859 = .ok (.iconst 2, 1) := dk_5 (dk_at dksL_law_75 2 rfl rfl)
theorem dL_law_1860 : decode cL_law 1860 = .ok (.iadd, 1) := dk_96 (dk_at dksL_law_75 3 rfl rfl)
theorem dL_law_1861 : decode cL_law 1861 = .ok (.iaload, 1) := dk_46 (dk_at dksL_law_75 4 rfl rfl)
theorem dL_law_1862 : decode cL_law 1862 = .ok (.aload_n 3, 1) := dk_45 (dk_at dksL_law_75 5 rfl rfl)
theorem dL_law_1863 : decode cL_law 1863 = .ok (.invokestatic 219, 3) := dk_184 0 219 (dk_at dksL_law_75 6 rfl rfl)
theorem dL_law_1866 : decode cL_law 1866 = .ok (.istore 5, 2) := dk_54 5 (dk_at dksL_law_75 9 rfl rfl)
theorem dL_law_1868 : decode cL_law 1868 = .ok (.aload_n 2, 1) := dk_44 (dk_at dksL_law_75 11 rfl rfl)
theorem dL_law_1869 : decode cL_law 1869 = .ok (.aload_n 0, 1) := dk_42 (dk_at dksL_law_75 12 rfl rfl)
theorem dL_law_1870 : decode cL_law 1870 = .ok (.iload 4, 2) := dk_21 4 (dk_at dksL_law_75 13 rfl rfl)
theorem dL_law_1872 : decode cL_law 1872 = .ok (.iconst 1, 1) := dk_4 (dk_at dksL_law_75 15 rfl rfl)
theorem dL_law_1873 : decode cL_law 1873 = .ok (.iadd, 1) := dk_96 (dk_at dksL_law_75 16 rfl rfl)
theorem dL_law_1874 : decode cL_law 1874 = .ok (.iaload, 1) := dk_46 (dk_at dksL_law_75 17 rfl rfl)
theorem dL_law_1875 : decode cL_law 1875 = .ok (.aload_n 0, 1) := dk_42 (dk_at dksL_law_75 18 rfl rfl)
theorem dL_law_1876 : decode cL_law 1876 = .ok (.iload 4, 2) := dk_21 4 (dk_at dksL_law_75 19 rfl rfl)
theorem dL_law_1878 : decode cL_law 1878 = .ok (.iconst 2, 1) := dk_5 (dk_at dksL_law_75 21 rfl rfl)
theorem dL_law_1879 : decode cL_law 1879 = .ok (.iadd, 1) := dk_96 (dk_at dksL_law_75 22 rfl rfl)
theorem dL_law_1880 : decode cL_law 1880 = .ok (.iaload, 1) := dk_46 (dk_at dksL_law_75 23 rfl rfl)
theorem dL_law_1881 : decode cL_law 1881 = .ok (.invokevirtual 221, 3) := dk_182 0 221 (dk_at dksL_law_76 0 rfl rfl)
theorem dL_law_1884 : decode cL_law 1884 = .ok (.istore 6, 2) := dk_54 6 (dk_at dksL_law_76 3 rfl rfl)
theorem dL_law_1886 : decode cL_law 1886 = .ok (.aload_n 2, 1) := dk_44 (dk_at dksL_law_76 5 rfl rfl)
theorem dL_law_1887 : decode cL_law 1887 = .ok (.invokevirtual 138, 3) := dk_182 0 138 (dk_at dksL_law_76 6 rfl rfl)
theorem dL_law_1890 : decode cL_law 1890 = .ok (.iload 5, 2) := dk_21 5 (dk_at dksL_law_76 9 rfl rfl)
theorem dL_law_1892 : decode cL_law 1892 = .ok (.if_icmp .eq 5, 3) := dk_159 0 5 (dk_at dksL_law_76 11 rfl rfl)
theorem dL_law_1895 : decode cL_law 1895 = .ok (.iconst 0, 1) := dk_3 (dk_at dksL_law_76 14 rfl rfl)
theorem dL_law_1896 : decode cL_law 1896 = .ok (.ireturn, 1) := dk_172 (dk_at dksL_law_76 15 rfl rfl)
theorem dL_law_1897 : decode cL_law 1897 = .ok (.iload 5, 2) := dk_21 5 (dk_at dksL_law_76 16 rfl rfl)
theorem dL_law_1899 : decode cL_law 1899 = .ok (.ifCond .ne 16, 3) := dk_154 0 16 (dk_at dksL_law_76 18 rfl rfl)
theorem dL_law_1902 : decode cL_law 1902 = .ok (.aload_n 3, 1) := dk_45 (dk_at dksL_law_76 21 rfl rfl)
theorem dL_law_1903 : decode cL_law 1903 = .ok (.getfield 13, 3) := dk_180 0 13 (dk_at dksL_law_77 0 rfl rfl)
theorem dL_law_1906 : decode cL_law 1906 = .ok (.iload 6, 2) := dk_21 6 (dk_at dksL_law_77 3 rfl rfl)
theorem dL_law_1908 : decode cL_law 1908 = .ok (.i2l, 1) := dk_133 (dk_at dksL_law_77 5 rfl rfl)
theorem dL_law_1909 : decode cL_law 1909 = .ok (.lcmp, 1) := dk_148 (dk_at dksL_law_77 6 rfl rfl)
theorem dL_law_1910 : decode cL_law 1910 = .ok (.ifCond .eq 5, 3) := dk_153 0 5 (dk_at dksL_law_77 7 rfl rfl)
theorem dL_law_1913 : decode cL_law 1913 = .ok (.iconst 0, 1) := dk_3 (dk_at dksL_law_77 10 rfl rfl)
theorem dL_law_1914 : decode cL_law 1914 = .ok (.ireturn, 1) := dk_172 (dk_at dksL_law_77 11 rfl rfl)
theorem dL_law_1915 : decode cL_law 1915 = .ok (.goto 520, 3) := dk_167 2 8 (dk_at dksL_law_77 12 rfl rfl)
theorem dL_law_1918 : decode cL_law 1918 = .ok (.aload_n 1, 1) := dk_43 (dk_at dksL_law_77 15 rfl rfl)
theorem dL_law_1919 : decode cL_law 1919 = .ok (.invokevirtual 222, 3) := dk_182 0 222 (dk_at dksL_law_77 16 rfl rfl)
theorem dL_law_1922 : decode cL_law 1922 = .ok (.dstore 5, 2) := dk_57 5 (dk_at dksL_law_77 19 rfl rfl)
theorem dL_law_1924 : decode cL_law 1924 = .ok (.aload_n 2, 1) := dk_44 (dk_at dksL_law_77 21 rfl rfl)
theorem dL_law_1925 : decode cL_law 1925 = .ok (.invokevirtual 226, 3) := dk_182 0 226 (dk_at dksL_law_78 0 rfl rfl)
theorem dL_law_1928 : decode cL_law 1928 = .ok (.dstore 7, 2) := dk_57 7 (dk_at dksL_law_78 3 rfl rfl)
theorem dL_law_1930 : decode cL_law 1930 = .ok (.dload 5, 2) := dk_24 5 (dk_at dksL_law_78 5 rfl rfl)
theorem dL_law_1932 : decode cL_law 1932 = .ok (.dload 7, 2) := dk_24 7 (dk_at dksL_law_78 7 rfl rfl)
theorem dL_law_1934 : decode cL_law 1934 = .ok (.dcmp .l, 1) := dk_151 (dk_at dksL_law_78 9 rfl rfl)
theorem dL_law_1935 : decode cL_law 1935 = .ok (.ifCond .eq 21, 3) := dk_153 0 21 (dk_at dksL_law_78 10 rfl rfl)
theorem dL_law_1938 : decode cL_law 1938 = .ok (.dload 5, 2) := dk_24 5 (dk_at dksL_law_78 13 rfl rfl)
theorem dL_law_1940 : decode cL_law 1940 = .ok (.dload 5, 2) := dk_24 5 (dk_at dksL_law_78 15 rfl rfl)
theorem dL_law_1942 : decode cL_law 1942 = .ok (.dcmp .l, 1) := dk_151 (dk_at dksL_law_78 17 rfl rfl)
theorem dL_law_1943 : decode cL_law 1943 = .ok (.ifCond .eq 11, 3) := dk_153 0 11 (dk_at dksL_law_78 18 rfl rfl)
theorem dL_law_1946 : decode cL_law 1946 = .ok (.dload 7, 2) := dk_24 7 (dk_at dksL_law_78 21 rfl rfl)
theorem dL_law_1948 : decode cL_law 1948 = .ok (.dload 7, 2) := dk_24 7 (dk_at dksL_law_79 0 rfl rfl)
theorem dL_law_1950 : decode cL_law 1950 = .ok (.dcmp .l, 1) := dk_151 (dk_at dksL_law_79 2 rfl rfl)
theorem dL_law_1951 : decode cL_law 1951 = .ok (.ifCond .ne 5, 3) := dk_154 0 5 (dk_at dksL_law_79 3 rfl rfl)
theorem dL_law_1954 : decode cL_law 1954 = .ok (.iconst 0, 1) := dk_3 (dk_at dksL_law_79 6 rfl rfl)
theorem dL_law_1955 : decode cL_law 1955 = .ok (.ireturn, 1) := dk_172 (dk_at dksL_law_79 7 rfl rfl)
theorem dL_law_1956 : decode cL_law 1956 = .ok (.goto 479, 3) := dk_167 1 223 (dk_at dksL_law_79 8 rfl rfl)
theorem dL_law_1959 : decode cL_law 1959 = .ok (.aload_n 1, 1) := dk_43 (dk_at dksL_law_79 11 rfl rfl)
theorem dL_law_1960 : decode cL_law 1960 = .ok (.aload_n 0, 1) := dk_42 (dk_at dksL_law_79 12 rfl rfl)
theorem dL_law_1961 : decode cL_law 1961 = .ok (.iload 4, 2) := dk_21 4 (dk_at dksL_law_79 13 rfl rfl)
theorem dL_law_1963 : decode cL_law 1963 = .ok (.iconst 1, 1) := dk_4 (dk_at dksL_law_79 15 rfl rfl)
theorem dL_law_1964 : decode cL_law 1964 = .ok (.iadd, 1) := dk_96 (dk_at dksL_law_79 16 rfl rfl)
theorem dL_law_1965 : decode cL_law 1965 = .ok (.iaload, 1) := dk_46 (dk_at dksL_law_79 17 rfl rfl)
theorem dL_law_1966 : decode cL_law 1966 = .ok (.aload_n 3, 1) := dk_45 (dk_at dksL_law_79 18 rfl rfl)
theorem dL_law_1967 : decode cL_law 1967 = .ok (.invokestatic 227, 3) := dk_184 0 227 (dk_at dksL_law_79 19 rfl rfl)
theorem dL_law_1970 : decode cL_law 1970 = .ok (.istore 5, 2) := dk_54 5 (dk_at dksL_law_79 22 rfl rfl)
theorem dL_law_1972 : decode cL_law 1972 = .ok (.aload_n 2, 1) := dk_44 (dk_at dksL_law_80 0 rfl rfl)
theorem dL_law_1973 : decode cL_law 1973 = .ok (.aload_n 0, 1) := dk_42 (dk_at dksL_law_80 1 rfl rfl)
theorem dL_law_1974 : decode cL_law 1974 = .ok (.iload 4, 2) := dk_21 4 (dk_at dksL_law_80 2 rfl rfl)
theorem dL_law_1976 : decode cL_law 1976 = .ok (.iconst 1, 1) := dk_4 (dk_at dksL_law_80 4 rfl rfl)
theorem dL_law_1977 : decode cL_law 1977 = .ok (.iadd, 1) := dk_96 (dk_at dksL_law_80 5 rfl rfl)
theorem dL_law_1978 : decode cL_law 1978 = .ok (.iaload, 1) := dk_46 (dk_at dksL_law_80 6 rfl rfl)
theorem dL_law_1979 : decode cL_law 1979 = .ok (.invokevirtual 229, 3) := dk_182 0 229 (dk_at dksL_law_80 7 rfl rfl)
theorem dL_law_1982 : decode cL_law 1982 = .ok (.dstore 6, 2) := dk_57 6 (dk_at dksL_law_80 10 rfl rfl)
theorem dL_law_1984 : decode cL_law 1984 = .ok (.aload_n 2, 1) := dk_44 (dk_at dksL_law_80 12 rfl rfl)
theorem dL_law_1985 : decode cL_law 1985 = .ok (.invokevirtual 138, 3) := dk_182 0 138 (dk_at dksL_law_80 13 rfl rfl)
theorem dL_law_1988 : decode cL_law 1988 = .ok (.iload 5, 2) := dk_21 5 (dk_at dksL_law_80 16 rfl rfl)
theorem dL_law_1990 : decode cL_law 1990 = .ok (.if_icmp .eq 5, 3) := dk_159 0 5 (dk_at dksL_law_80 18 rfl rfl)
theorem dL_law_1993 : decode cL_law 1993 = .ok (.iconst 0, 1) := dk_3 (dk_at dksL_law_80 21 rfl rfl)
theorem dL_law_1994 : decode cL_law 1994 = .ok (.ireturn, 1) := dk_172 (dk_at dksL_law_80 22 rfl rfl)
theorem dL_law_1995 : decode cL_law 1995 = .ok (.iload 5, 2) := dk_21 5 (dk_at dksL_law_81 0 rfl rfl)
theorem dL_law_1997 : decode cL_law 1997 = .ok (.ifCond .ne 35, 3) := dk_154 0 35 (dk_at dksL_law_81 2 rfl rfl)
theorem dL_law_2000 : decode cL_law 2000 = .ok (.aload_n 3, 1) := dk_45 (dk_at dksL_law_81 5 rfl rfl)
theorem dL_law_2001 : decode cL_law 2001 = .ok (.getfield 108, 3) := dk_180 0 108 (dk_at dksL_law_81 6 rfl rfl)
theorem dL_law_2004 : decode cL_law 2004 = .ok (.dload 6, 2) := dk_24 6 (dk_at dksL_law_81 9 rfl rfl)
theorem dL_law_2006 : decode cL_law 2006 = .ok (.dcmp .l, 1) := dk_151 (dk_at dksL_law_81 11 rfl rfl)
theorem dL_law_2007 : decode cL_law 2007 = .ok (.ifCond .eq 25, 3) := dk_153 0 25 (dk_at dksL_law_81 12 rfl rfl)
theorem dL_law_2010 : decode cL_law 2010 = .ok (.aload_n 3, 1) := dk_45 (dk_at dksL_law_81 15 rfl rfl)
theorem dL_law_2011 : decode cL_law 2011 = .ok (.getfield 108, 3) := dk_180 0 108 (dk_at dksL_law_81 16 rfl rfl)
theorem dL_law_2014 : decode cL_law 2014 = .ok (.aload_n 3, 1) := dk_45 (dk_at dksL_law_81 19 rfl rfl)
theorem dL_law_2015 : decode cL_law 2015 = .ok (.getfield 108, 3) := dk_180 0 108 (dk_at dksL_law_81 20 rfl rfl)
theorem dL_law_2018 : decode cL_law 2018 = .ok (.dcmp .l, 1) := dk_151 (dk_at dksL_law_81 23 rfl rfl)
theorem dL_law_2019 : decode cL_law 2019 = .ok (.ifCond .eq 11, 3) := dk_153 0 11 (dk_at dksL_law_82 0 rfl rfl)
theorem dL_law_2022 : decode cL_law 2022 = .ok (.dload 6, 2) := dk_24 6 (dk_at dksL_law_82 3 rfl rfl)
theorem dL_law_2024 : decode cL_law 2024 = .ok (.dload 6, 2) := dk_24 6 (dk_at dksL_law_82 5 rfl rfl)
theorem dL_law_2026 : decode cL_law 2026 = .ok (.dcmp .l, 1) := dk_151 (dk_at dksL_law_82 7 rfl rfl)
theorem dL_law_2027 : decode cL_law 2027 = .ok (.ifCond .ne 5, 3) := dk_154 0 5 (dk_at dksL_law_82 8 rfl rfl)
theorem dL_law_2030 : decode cL_law 2030 = .ok (.iconst 0, 1) := dk_3 (dk_at dksL_law_82 11 rfl rfl)
theorem dL_law_2031 : decode cL_law 2031 = .ok (.ireturn, 1) := dk_172 (dk_at dksL_law_82 12 rfl rfl)
theorem dL_law_2032 : decode cL_law 2032 = .ok (.goto 403, 3) := dk_167 1 147 (dk_at dksL_law_82 13 rfl rfl)
theorem dL_law_2035 : decode cL_law 2035 = .ok (.aload_n 1, 1) := dk_43 (dk_at dksL_law_82 16 rfl rfl)
theorem dL_law_2036 : decode cL_law 2036 = .ok (.invokevirtual 230, 3) := dk_182 0 230 (dk_at dksL_law_82 17 rfl rfl)
theorem dL_law_2039 : decode cL_law 2039 = .ok (.dstore 5, 2) := dk_57 5 (dk_at dksL_law_82 20 rfl rfl)
theorem dL_law_2041 : decode cL_law 2041 = .ok (.aload_n 2, 1) := dk_44 (dk_at dksL_law_82 22 rfl rfl)
theorem dL_law_2042 : decode cL_law 2042 = .ok (.invokevirtual 233, 3) := dk_182 0 233 (dk_at dksL_law_83 0 rfl rfl)
theorem dL_law_2045 : decode cL_law 2045 = .ok (.dstore 7, 2) := dk_57 7 (dk_at dksL_law_83 3 rfl rfl)
theorem dL_law_2047 : decode cL_law 2047 = .ok (.dload 5, 2) := dk_24 5 (dk_at dksL_law_83 5 rfl rfl)
theorem dL_law_2049 : decode cL_law 2049 = .ok (.dload 7, 2) := dk_24 7 (dk_at dksL_law_83 7 rfl rfl)
theorem dL_law_2051 : decode cL_law 2051 = .ok (.dcmp .l, 1) := dk_151 (dk_at dksL_law_83 9 rfl rfl)
theorem dL_law_2052 : decode cL_law 2052 = .ok (.ifCond .eq 21, 3) := dk_153 0 21 (dk_at dksL_law_83 10 rfl rfl)
theorem dL_law_2055 : decode cL_law 2055 = .ok (.dload 5, 2) := dk_24 5 (dk_at dksL_law_83 13 rfl rfl)
theorem dL_law_2057 : decode cL_law 2057 = .ok (.dload 5, 2) := dk_24 5 (dk_at dksL_law_83 15 rfl rfl)
theorem dL_law_2059 : decode cL_law 2059 = .ok (.dcmp .l, 1) := dk_151 (dk_at dksL_law_83 17 rfl rfl)
theorem dL_law_2060 : decode cL_law 2060 = .ok (.ifCond .eq 11, 3) := dk_153 0 11 (dk_at dksL_law_83 18 rfl rfl)
theorem dL_law_2063 : decode cL_law 2063 = .ok (.dload 7, 2) := dk_24 7 (dk_at dksL_law_83 21 rfl rfl)
theorem dL_law_2065 : decode cL_law 2065 = .ok (.dload 7, 2) := dk_24 7 (dk_at dksL_law_84 0 rfl rfl)
theorem dL_law_2067 : decode cL_law 2067 = .ok (.dcmp .l, 1) := dk_151 (dk_at dksL_law_84 2 rfl rfl)
theorem dL_law_2068 : decode cL_law 2068 = .ok (.ifCond .ne 5, 3) := dk_154 0 5 (dk_at dksL_law_84 3 rfl rfl)
theorem dL_law_2071 : decode cL_law 2071 = .ok (.iconst 0, 1) := dk_3 (dk_at dksL_law_84 6 rfl rfl)
theorem dL_law_2072 : decode cL_law 2072 = .ok (.ireturn, 1) := dk_172 (dk_at dksL_law_84 7 rfl rfl)
theorem dL_law_2073 : decode cL_law 2073 = .ok (.goto 362, 3) := dk_167 1 106 (dk_at dksL_law_84 8 rfl rfl)
theorem dL_law_2076 : decode cL_law 2076 = .ok (.aload_n 1, 1) := dk_43 (dk_at dksL_law_84 11 rfl rfl)
theorem dL_law_2077 : decode cL_law 2077 = .ok (.aload_n 0, 1) := dk_42 (dk_at dksL_law_84 12 rfl rfl)
theorem dL_law_2078 : decode cL_law 2078 = .ok (.iload 4, 2) := dk_21 4 (dk_at dksL_law_84 13 rfl rfl)
theorem dL_law_2080 : decode cL_law 2080 = .ok (.iconst 1, 1) := dk_4 (dk_at dksL_law_84 15 rfl rfl)
theorem dL_law_2081 : decode cL_law 2081 = .ok (.iadd, 1) := dk_96 (dk_at dksL_law_84 16 rfl rfl)
theorem dL_law_2082 : decode cL_law 2082 = .ok (.iaload, 1) := dk_46 (dk_at dksL_law_84 17 rfl rfl)
theorem dL_law_2083 : decode cL_law 2083 = .ok (.aload_n 3, 1) := dk_45 (dk_at dksL_law_84 18 rfl rfl)
theorem dL_law_2084 : decode cL_law 2084 = .ok (.invokestatic 234, 3) := dk_184 0 234 (dk_at dksL_law_84 19 rfl rfl)
theorem dL_law_2087 : decode cL_law 2087 = .ok (.istore 5, 2) := dk_54 5 (dk_at dksL_law_84 22 rfl rfl)
theorem dL_law_2089 : decode cL_law 2089 = .ok (.aload_n 2, 1) := dk_44 (dk_at dksL_law_85 0 rfl rfl)
theorem dL_law_2090 : decode cL_law 2090 = .ok (.aload_n 0, 1) := dk_42 (dk_at dksL_law_85 1 rfl rfl)
theorem dL_law_2091 : decode cL_law 2091 = .ok (.iload 4, 2) := dk_21 4 (dk_at dksL_law_85 2 rfl rfl)
theorem dL_law_2093 : decode cL_law 2093 = .ok (.iconst 1, 1) := dk_4 (dk_at dksL_law_85 4 rfl rfl)
theorem dL_law_2094 : decode cL_law 2094 = .ok (.iadd, 1) := dk_96 (dk_at dksL_law_85 5 rfl rfl)
theorem dL_law_2095 : decode cL_law 2095 = .ok (.iaload, 1) := dk_46 (dk_at dksL_law_85 6 rfl rfl)
theorem dL_law_2096 : decode cL_law 2096 = .ok (.invokevirtual 236, 3) := dk_182 0 236 (dk_at dksL_law_85 7 rfl rfl)
theorem dL_law_2099 : decode cL_law 2099 = .ok (.istore 6, 2) := dk_54 6 (dk_at dksL_law_85 10 rfl rfl)
theorem dL_law_2101 : decode cL_law 2101 = .ok (.aload_n 2, 1) := dk_44 (dk_at dksL_law_85 12 rfl rfl)
theorem dL_law_2102 : decode cL_law 2102 = .ok (.invokevirtual 138, 3) := dk_182 0 138 (dk_at dksL_law_85 13 rfl rfl)
theorem dL_law_2105 : decode cL_law 2105 = .ok (.iload 5, 2) := dk_21 5 (dk_at dksL_law_85 16 rfl rfl)
theorem dL_law_2107 : decode cL_law 2107 = .ok (.if_icmp .eq 5, 3) := dk_159 0 5 (dk_at dksL_law_85 18 rfl rfl)
theorem dL_law_2110 : decode cL_law 2110 = .ok (.iconst 0, 1) := dk_3 (dk_at dksL_law_85 21 rfl rfl)
theorem dL_law_2111 : decode cL_law 2111 = .ok (.ireturn, 1) := dk_172 (dk_at dksL_law_85 22 rfl rfl)
theorem dL_law_2112 : decode cL_law 2112 = .ok (.iload 5, 2) := dk_21 5 (dk_at dksL_law_86 0 rfl rfl)
theorem dL_law_2114 : decode cL_law 2114 = .ok (.ifCond .ne 16, 3) := dk_154 0 16 (dk_at dksL_law_86 2 rfl rfl)
theorem dL_law_2117 : decode cL_law 2117 = .ok (.aload_n 3, 1) := dk_45 (dk_at dksL_law_86 5 rfl rfl)
theorem dL_law_2118 : decode cL_law 2118 = .ok (.getfield 13, 3) := dk_180 0 13 (dk_at dksL_law_86 6 rfl rfl)
theorem dL_law_2121 : decode cL_law 2121 = .ok (.iload 6, 2) := dk_21 6 (dk_at dksL_law_86 9 rfl rfl)
theorem dL_law_2123 : decode cL_law 2123 = .ok (.i2l, 1) := dk_133 (dk_at dksL_law_86 11 rfl rfl)
theorem dL_law_2124 : decode cL_law 2124 = .ok (.lcmp, 1) := dk_148 (dk_at dksL_law_86 12 rfl rfl)
theorem dL_law_2125 : decode cL_law 2125 = .ok (.ifCond .eq 5, 3) := dk_153 0 5 (dk_at dksL_law_86 13 rfl rfl)
theorem dL_law_2128 : decode cL_law 2128 = .ok (.iconst 0, 1) := dk_3 (dk_at dksL_law_86 16 rfl rfl)
theorem dL_law_2129 : decode cL_law 2129 = .ok (.ireturn, 1) := dk_172 (dk_at dksL_law_86 17 rfl rfl)
theorem dL_law_2130 : decode cL_law 2130 = .ok (.goto 305, 3) := dk_167 1 49 (dk_at dksL_law_86 18 rfl rfl)
theorem dL_law_2133 : decode cL_law 2133 = .ok (.aload_n 1, 1) := dk_43 (dk_at dksL_law_86 21 rfl rfl)
theorem dL_law_2134 : decode cL_law 2134 = .ok (.aload_n 0, 1) := dk_42 (dk_at dksL_law_86 22 rfl rfl)
theorem dL_law_2135 : decode cL_law 2135 = .ok (.iload 4, 2) := dk_21 4 (dk_at dksL_law_87 0 rfl rfl)
theorem dL_law_2137 : decode cL_law 2137 = .ok (.iconst 1, 1) := dk_4 (dk_at dksL_law_87 2 rfl rfl)
theorem dL_law_2138 : decode cL_law 2138 = .ok (.iadd, 1) := dk_96 (dk_at dksL_law_87 3 rfl rfl)
theorem dL_law_2139 : decode cL_law 2139 = .ok (.iaload, 1) := dk_46 (dk_at dksL_law_87 4 rfl rfl)
theorem dL_law_2140 : decode cL_law 2140 = .ok (.aload_n 0, 1) := dk_42 (dk_at dksL_law_87 5 rfl rfl)
theorem dL_law_2141 : decode cL_law 2141 = .ok (.iload 4, 2) := dk_21 4 (dk_at dksL_law_87 6 rfl rfl)
theorem dL_law_2143 : decode cL_law 2143 = .ok (.iconst 2, 1) := dk_5 (dk_at dksL_law_87 8 rfl rfl)
theorem dL_law_2144 : decode cL_law 2144 = .ok (.iadd, 1) := dk_96 (dk_at dksL_law_87 9 rfl rfl)
theorem dL_law_2145 : decode cL_law 2145 = .ok (.iaload, 1) := dk_46 (dk_at dksL_law_87 10 rfl rfl)
theorem dL_law_2146 : decode cL_law 2146 = .ok (.aload_n 3, 1) := dk_45 (dk_at dksL_law_87 11 rfl rfl)
theorem dL_law_2147 : decode cL_law 2147 = .ok (.invokestatic 237, 3) := dk_184 0 237 (dk_at dksL_law_87 12 rfl rfl)
theorem dL_law_2150 : decode cL_law 2150 = .ok (.istore 5, 2) := dk_54 5 (dk_at dksL_law_87 15 rfl rfl)
theorem dL_law_2152 : decode cL_law 2152 = .ok (.aload_n 2, 1) := dk_44 (dk_at dksL_law_87 17 rfl rfl)
theorem dL_law_2153 : decode cL_law 2153 = .ok (.aload_n 0, 1) := dk_42 (dk_at dksL_law_87 18 rfl rfl)
theorem dL_law_2154 : decode cL_law 2154 = .ok (.iload 4, 2) := dk_21 4 (dk_at dksL_law_87 19 rfl rfl)
theorem dL_law_2156 : decode cL_law 2156 = .ok (.iconst 1, 1) := dk_4 (dk_at dksL_law_87 21 rfl rfl)
theorem dL_law_2157 : decode cL_law 2157 = .ok (.iadd, 1) := dk_96 (dk_at dksL_law_87 22 rfl rfl)
theorem dL_law_2158 : decode cL_law 2158 = .ok (.iaload, 1) := dk_46 (dk_at dksL_law_87 23 rfl rfl)
theorem dL_law_2159 : decode cL_law 2159 = .ok (.aload_n 0, 1) := dk_42 (dk_at dksL_law_88 0 rfl rfl)
theorem dL_law_2160 : decode cL_law 2160 = .ok (.iload 4, 2) := dk_21 4 (dk_at dksL_law_88 1 rfl rfl)
theorem dL_law_2162 : decode cL_law 2162 = .ok (.iconst 2, 1) := dk_5 (dk_at dksL_law_88 3 rfl rfl)
theorem dL_law_2163 : decode cL_law 2163 = .ok (.iadd, 1) := dk_96 (dk_at dksL_law_88 4 rfl rfl)
theorem dL_law_2164 : decode cL_law 2164 = .ok (.iaload, 1) := dk_46 (dk_at dksL_law_88 5 rfl rfl)
theorem dL_law_2165 : decode cL_law 2165 = .ok (.invokevirtual 239, 3) := dk_182 0 239 (dk_at dksL_law_88 6 rfl rfl)
theorem dL_law_2168 : decode cL_law 2168 = .ok (.istore 6, 2) := dk_54 6 (dk_at dksL_law_88 9 rfl rfl)
theorem dL_law_2170 : decode cL_law 2170 = .ok (.aload_n 2, 1) := dk_44 (dk_at dksL_law_88 11 rfl rfl)
theorem dL_law_2171 : decode cL_law 2171 = .ok (.invokevirtual 138, 3) := dk_182 0 138 (dk_at dksL_law_88 12 rfl rfl)
theorem dL_law_2174 : decode cL_law 2174 = .ok (.iload 5, 2) := dk_21 5 (dk_at dksL_law_88 15 rfl rfl)
theorem dL_law_2176 : decode cL_law 2176 = .ok (.if_icmp .eq 5, 3) := dk_159 0 5 (dk_at dksL_law_88 17 rfl rfl)
theorem dL_law_2179 : decode cL_law 2179 = .ok (.iconst 0, 1) := dk_3 (dk_at dksL_law_88 20 rfl rfl)
theorem dL_law_2180 : decode cL_law 2180 = .ok (.ireturn, 1) := dk_172 (dk_at dksL_law_88 21 rfl rfl)
theorem dL_law_2181 : decode cL_law 2181 = .ok (.iload 5, 2) := dk_21 5 (dk_at dksL_law_88 22 rfl rfl)
theorem dL_law_2183 : decode cL_law 2183 = .ok (.ifCond .ne 16, 3) := dk_154 0 16 (dk_at dksL_law_89 0 rfl rfl)
theorem dL_law_2186 : decode cL_law 2186 = .ok (.aload_n 3, 1) := dk_45 (dk_at dksL_law_89 3 rfl rfl)
theorem dL_law_2187 : decode cL_law 2187 = .ok (.getfield 13, 3) := dk_180 0 13 (dk_at dksL_law_89 4 rfl rfl)
theorem dL_law_2190 : decode cL_law 2190 = .ok (.iload 6, 2) := dk_21 6 (dk_at dksL_law_89 7 rfl rfl)
theorem dL_law_2192 : decode cL_law 2192 = .ok (.i2l, 1) := dk_133 (dk_at dksL_law_89 9 rfl rfl)
theorem dL_law_2193 : decode cL_law 2193 = .ok (.lcmp, 1) := dk_148 (dk_at dksL_law_89 10 rfl rfl)
theorem dL_law_2194 : decode cL_law 2194 = .ok (.ifCond .eq 5, 3) := dk_153 0 5 (dk_at dksL_law_89 11 rfl rfl)
theorem dL_law_2197 : decode cL_law 2197 = .ok (.iconst 0, 1) := dk_3 (dk_at dksL_law_89 14 rfl rfl)
theorem dL_law_2198 : decode cL_law 2198 = .ok (.ireturn, 1) := dk_172 (dk_at dksL_law_89 15 rfl rfl)
theorem dL_law_2199 : decode cL_law 2199 = .ok (.goto 236, 3) := dk_167 0 236 (dk_at dksL_law_89 16 rfl rfl)
theorem dL_law_2202 : decode cL_law 2202 = .ok (.aload_n 1, 1) := dk_43 (dk_at dksL_law_89 19 rfl rfl)
theorem dL_law_2203 : decode cL_law 2203 = .ok (.aload_n 0, 1) := dk_42 (dk_at dksL_law_89 20 rfl rfl)
theorem dL_law_2204 : decode cL_law 2204 = .ok (.iload 4, 2) := dk_21 4 (dk_at dksL_law_89 21 rfl rfl)
theorem dL_law_2206 : decode cL_law 2206 = .ok (.iconst 1, 1) := dk_4 (dk_at dksL_law_89 23 rfl rfl)
theorem dL_law_2207 : decode cL_law 2207 = .ok (.iadd, 1) := dk_96 (dk_at dksL_law_90 0 rfl rfl)
theorem dL_law_2208 : decode cL_law 2208 = .ok (.iaload, 1) := dk_46 (dk_at dksL_law_90 1 rfl rfl)
theorem dL_law_2209 : decode cL_law 2209 = .ok (.aload_n 0, 1) := dk_42 (dk_at dksL_law_90 2 rfl rfl)
theorem dL_law_2210 : decode cL_law 2210 = .ok (.iload 4, 2) := dk_21 4 (dk_at dksL_law_90 3 rfl rfl)
theorem dL_law_2212 : decode cL_law 2212 = .ok (.iconst 2, 1) := dk_5 (dk_at dksL_law_90 5 rfl rfl)
theorem dL_law_2213 : decode cL_law 2213 = .ok (.iadd, 1) := dk_96 (dk_at dksL_law_90 6 rfl rfl)
theorem dL_law_2214 : decode cL_law 2214 = .ok (.iaload, 1) := dk_46 (dk_at dksL_law_90 7 rfl rfl)
theorem dL_law_2215 : decode cL_law 2215 = .ok (.aload_n 3, 1) := dk_45 (dk_at dksL_law_90 8 rfl rfl)
theorem dL_law_2216 : decode cL_law 2216 = .ok (.invokestatic 240, 3) := dk_184 0 240 (dk_at dksL_law_90 9 rfl rfl)
theorem dL_law_2219 : decode cL_law 2219 = .ok (.istore 5, 2) := dk_54 5 (dk_at dksL_law_90 12 rfl rfl)
theorem dL_law_2221 : decode cL_law 2221 = .ok (.aload_n 2, 1) := dk_44 (dk_at dksL_law_90 14 rfl rfl)
theorem dL_law_2222 : decode cL_law 2222 = .ok (.aload_n 0, 1) := dk_42 (dk_at dksL_law_90 15 rfl rfl)
theorem dL_law_2223 : decode cL_law 2223 = .ok (.iload 4, 2) := dk_21 4 (dk_at dksL_law_90 16 rfl rfl)
theorem dL_law_2225 : decode cL_law 2225 = .ok (.iconst 1, 1) := dk_4 (dk_at dksL_law_90 18 rfl rfl)
theorem dL_law_2226 : decode cL_law 2226 = .ok (.iadd, 1) := dk_96 (dk_at dksL_law_90 19 rfl rfl)
theorem dL_law_2227 : decode cL_law 2227 = .ok (.iaload, 1) := dk_46 (dk_at dksL_law_90 20 rfl rfl)
theorem dL_law_2228 : decode cL_law 2228 = .ok (.aload_n 0, 1) := dk_42 (dk_at dksL_law_90 21 rfl rfl)
theorem dL_law_2229 : decode cL_law 2229 = .ok (.iload 4, 2) := dk_21 4 (dk_at dksL_law_90 22 rfl rfl)
theorem dL_law_2231 : decode cL_law 2231 = .ok (.iconst 2, 1) := dk_5 (dk_at dksL_law_91 0 rfl rfl)
theorem dL_law_2232 : decode cL_law 2232 = .ok (.iadd, 1) := dk_96 (dk_at dksL_law_91 1 rfl rfl)
theorem dL_law_2233 : decode cL_law 2233 = .ok (.iaload, 1) := dk_46 (dk_at dksL_law_91 2 rfl rfl)
theorem dL_law_2234 : decode cL_law 2234 = .ok (.invokevirtual 242, 3) := dk_182 0 242 (dk_at dksL_law_91 3 rfl rfl)
theorem dL_law_2237 : decode cL_law 2237 = .ok (.istore 6, 2) := dk_54 6 (dk_at dksL_law_91 6 rfl rfl)
theorem dL_law_2239 : decode cL_law 2239 = .ok (.aload_n 2, 1) := dk_44 (dk_at dksL_law_91 8 rfl rfl)
theorem dL_law_2240 : decode cL_law 2240 = .ok (.invokevirtual 138, 3) := dk_182 0 138 (dk_at dksL_law_91 9 rfl rfl)
theorem dL_law_2243 : decode cL_law 2243 = .ok (.iload 5, 2) := dk_21 5 (dk_at dksL_law_91 12 rfl rfl)
theorem dL_law_2245 : decode cL_law 2245 = .ok (.if_icmp .eq 5, 3) := dk_159 0 5 (dk_at dksL_law_91 14 rfl rfl)
theorem dL_law_2248 : decode cL_law 2248 = .ok (.iconst 0, 1) := dk_3 (dk_at dksL_law_91 17 rfl rfl)
theorem dL_law_2249 : decode cL_law 2249 = .ok (.ireturn, 1) := dk_172 (dk_at dksL_law_91 18 rfl rfl)
theorem dL_law_2250 : decode cL_law 2250 = .ok (.iload 5, 2) := dk_21 5 (dk_at dksL_law_91 19 rfl rfl)
theorem dL_law_2252 : decode cL_law 2252 = .ok (.ifCond .ne 16, 3) := dk_154 0 16 (dk_at dksL_law_91 21 rfl rfl)
theorem dL_law_2255 : decode cL_law 2255 = .ok (.aload_n 3, 1) := dk_45 (dk_at dksL_law_92 0 rfl rfl)
theorem dL_law_2256 : decode cL_law 2256 = .ok (.getfield 13, 3) := dk_180 0 13 (dk_at dksL_law_92 1 rfl rfl)
theorem dL_law_2259 : decode cL_law 2259 = .ok (.iload 6, 2) := dk_21 6 (dk_at dksL_law_92 4 rfl rfl)
theorem dL_law_2261 : decode cL_law 2261 = .ok (.i2l, 1) := dk_133 (dk_at dksL_law_92 6 rfl rfl)
theorem dL_law_2262 : decode cL_law 2262 = .ok (.lcmp, 1) := dk_148 (dk_at dksL_law_92 7 rfl rfl)
theorem dL_law_2263 : decode cL_law 2263 = .ok (.ifCond .eq 5, 3) := dk_153 0 5 (dk_at dksL_law_92 8 rfl rfl)
theorem dL_law_2266 : decode cL_law 2266 = .ok (.iconst 0, 1) := dk_3 (dk_at dksL_law_92 11 rfl rfl)
theorem dL_law_2267 : decode cL_law 2267 = .ok (.ireturn, 1) := dk_172 (dk_at dksL_law_92 12 rfl rfl)
theorem dL_law_2268 : decode cL_law 2268 = .ok (.goto 167, 3) := dk_167 0 167 (dk_at dksL_law_92 13 rfl rfl)
theorem dL_law_2271 : decode cL_law 2271 = .ok (.aload_n 1, 1) := dk_43 (dk_at dksL_law_92 16 rfl rfl)
theorem dL_law_2272 : decode cL_law 2272 = .ok (.aload_n 0, 1) := dk_42 (dk_at dksL_law_92 17 rfl rfl)
theorem dL_law_2273 : decode cL_law 2273 = .ok (.iload 4, 2) := dk_21 4 (dk_at dksL_law_92 18 rfl rfl)
theorem dL_law_2275 : decode cL_law 2275 = .ok (.iconst 1, 1) := dk_4 (dk_at dksL_law_92 20 rfl rfl)
theorem dL_law_2276 : decode cL_law 2276 = .ok (.iadd, 1) := dk_96 (dk_at dksL_law_92 21 rfl rfl)
theorem dL_law_2277 : decode cL_law 2277 = .ok (.iaload, 1) := dk_46 (dk_at dksL_law_92 22 rfl rfl)
theorem dL_law_2278 : decode cL_law 2278 = .ok (.aload_n 0, 1) := dk_42 (dk_at dksL_law_92 23 rfl rfl)
theorem dL_law_2279 : decode cL_law 2279 = .ok (.iload 4, 2) := dk_21 4 (dk_at dksL_law_93 0 rfl rfl)
theorem dL_law_2281 : decode cL_law 2281 = .ok (.iconst 2, 1) := dk_5 (dk_at dksL_law_93 2 rfl rfl)
theorem dL_law_2282 : decode cL_law 2282 = .ok (.iadd, 1) := dk_96 (dk_at dksL_law_93 3 rfl rfl)
theorem dL_law_2283 : decode cL_law 2283 = .ok (.iaload, 1) := dk_46 (dk_at dksL_law_93 4 rfl rfl)
theorem dL_law_2284 : decode cL_law 2284 = .ok (.aload_n 3, 1) := dk_45 (dk_at dksL_law_93 5 rfl rfl)
theorem dL_law_2285 : decode cL_law 2285 = .ok (.invokestatic 243, 3) := dk_184 0 243 (dk_at dksL_law_93 6 rfl rfl)
theorem dL_law_2288 : decode cL_law 2288 = .ok (.istore 5, 2) := dk_54 5 (dk_at dksL_law_93 9 rfl rfl)
theorem dL_law_2290 : decode cL_law 2290 = .ok (.aload_n 2, 1) := dk_44 (dk_at dksL_law_93 11 rfl rfl)
theorem dL_law_2291 : decode cL_law 2291 = .ok (.aload_n 0, 1) := dk_42 (dk_at dksL_law_93 12 rfl rfl)
theorem dL_law_2292 : decode cL_law 2292 = .ok (.iload 4, 2) := dk_21 4 (dk_at dksL_law_93 13 rfl rfl)
theorem dL_law_2294 : decode cL_law 2294 = .ok (.iconst 1, 1) := dk_4 (dk_at dksL_law_93 15 rfl rfl)
theorem dL_law_2295 : decode cL_law 2295 = .ok (.iadd, 1) := dk_96 (dk_at dksL_law_93 16 rfl rfl)
theorem dL_law_2296 : decode cL_law 2296 = .ok (.iaload, 1) := dk_46 (dk_at dksL_law_93 17 rfl rfl)
theorem dL_law_2297 : decode cL_law 2297 = .ok (.aload_n 0, 1) := dk_42 (dk_at dksL_law_93 18 rfl rfl)
theorem dL_law_2298 : decode cL_law 2298 = .ok (.iload 4, 2) := dk_21 4 (dk_at dksL_law_93 19 rfl rfl)
theorem dL_law_2300 : decode cL_law 2300 = .ok (.iconst 2, 1) := dk_5 (dk_at dksL_law_93 21 rfl rfl)
theorem dL_law_2301 : decode cL_law 2301 = .ok (.iadd, 1) := dk_96 (dk_at dksL_law_93 22 rfl rfl)
theorem dL_law_2302 : decode cL_law 2302 = .ok (.iaload, 1) := dk_46 (dk_at dksL_law_93 23 rfl rfl)
theorem dL_law_2303 : decode cL_law 2303 = .ok (.invokevirtual 245, 3) := dk_182 0 245 (dk_at dksL_law_94 0 rfl rfl)
theorem dL_law_2306 : decode cL_law 2306 = .ok (.istore 6, 2) := dk_54 6 (dk_at dksL_law_94 3 rfl rfl)
theorem dL_law_2308 : decode cL_law 2308 = .ok (.aload_n 2, 1) := dk_44 (dk_at dksL_law_94 5 rfl rfl)
theorem dL_law_2309 : decode cL_law 2309 = .ok (.invokevirtual 138, 3) := dk_182 0 138 (dk_at dksL_law_94 6 rfl rfl)
theorem dL_law_2312 : decode cL_law 2312 = .ok (.iload 5, 2) := dk_21 5 (dk_at dksL_law_94 9 rfl rfl)
theorem dL_law_2314 : decode cL_law 2314 = .ok (.if_icmp .eq 5, 3) := dk_159 0 5 (dk_at dksL_law_94 11 rfl rfl)
theorem dL_law_2317 : decode cL_law 2317 = .ok (.iconst 0, 1) := dk_3 (dk_at dksL_law_94 14 rfl rfl)
theorem dL_law_2318 : decode cL_law 2318 = .ok (.ireturn, 1) := dk_172 (dk_at dksL_law_94 15 rfl rfl)
theorem dL_law_2319 : decode cL_law 2319 = .ok (.iload 5, 2) := dk_21 5 (dk_at dksL_law_94 16 rfl rfl)
theorem dL_law_2321 : decode cL_law 2321 = .ok (.ifCond .ne 16, 3) := dk_154 0 16 (dk_at dksL_law_94 18 rfl rfl)
theorem dL_law_2324 : decode cL_law 2324 = .ok (.aload_n 3, 1) := dk_45 (dk_at dksL_law_94 21 rfl rfl)
theorem dL_law_2325 : decode cL_law 2325 = .ok (.getfield 13, 3) := dk_180 0 13 (dk_at dksL_law_95 0 rfl rfl)
theorem dL_law_2328 : decode cL_law 2328 = .ok (.iload 6, 2) := dk_21 6 (dk_at dksL_law_95 3 rfl rfl)
theorem dL_law_2330 : decode cL_law 2330 = .ok (.i2l, 1) := dk_133 (dk_at dksL_law_95 5 rfl rfl)
theorem dL_law_2331 : decode cL_law 2331 = .ok (.lcmp, 1) := dk_148 (dk_at dksL_law_95 6 rfl rfl)
theorem dL_law_2332 : decode cL_law 2332 = .ok (.ifCond .eq 5, 3) := dk_153 0 5 (dk_at dksL_law_95 7 rfl rfl)
theorem dL_law_2335 : decode cL_law 2335 = .ok (.iconst 0, 1) := dk_3 (dk_at dksL_law_95 10 rfl rfl)
theorem dL_law_2336 : decode cL_law 2336 = .ok (.ireturn, 1) := dk_172 (dk_at dksL_law_95 11 rfl rfl)
theorem dL_law_2337 : decode cL_law 2337 = .ok (.goto 98, 3) := dk_167 0 98 (dk_at dksL_law_95 12 rfl rfl)
theorem dL_law_2340 : decode cL_law 2340 = .ok (.aload_n 1, 1) := dk_43 (dk_at dksL_law_95 15 rfl rfl)
theorem dL_law_2341 : decode cL_law 2341 = .ok (.aload_n 0, 1) := dk_42 (dk_at dksL_law_95 16 rfl rfl)
theorem dL_law_2342 : decode cL_law 2342 = .ok (.iload 4, 2) := dk_21 4 (dk_at dksL_law_95 17 rfl rfl)
theorem dL_law_2344 : decode cL_law 2344 = .ok (.iconst 1, 1) := dk_4 (dk_at dksL_law_95 19 rfl rfl)
theorem dL_law_2345 : decode cL_law 2345 = .ok (.iadd, 1) := dk_96 (dk_at dksL_law_95 20 rfl rfl)
theorem dL_law_2346 : decode cL_law 2346 = .ok (.iaload, 1) := dk_46 (dk_at dksL_law_95 21 rfl rfl)
theorem dL_law_2347 : decode cL_law 2347 = .ok (.aload_n 0, 1) := dk_42 (dk_at dksL_law_95 22 rfl rfl)
theorem dL_law_2348 : decode cL_law 2348 = .ok (.iload 4, 2) := dk_21 4 (dk_at dksL_law_96 0 rfl rfl)
theorem dL_law_2350 : decode cL_law 2350 = .ok (.iconst 2, 1) := dk_5 (dk_at dksL_law_96 2 rfl rfl)
theorem dL_law_2351 : decode cL_law 2351 = .ok (.iadd, 1) := dk_96 (dk_at dksL_law_96 3 rfl rfl)
theorem dL_law_2352 : decode cL_law 2352 = .ok (.iaload, 1) := dk_46 (dk_at dksL_law_96 4 rfl rfl)
theorem dL_law_2353 : decode cL_law 2353 = .ok (.aload_n 0, 1) := dk_42 (dk_at dksL_law_96 5 rfl rfl)
theorem dL_law_2354 : decode cL_law 2354 = .ok (.iload 4, 2) := dk_21 4 (dk_at dksL_law_96 6 rfl rfl)
theorem dL_law_2356 : decode cL_law 2356 = .ok (.iconst 3, 1) := dk_6 (dk_at dksL_law_96 8 rfl rfl)
theorem dL_law_2357 : decode cL_law 2357 = .ok (.iadd, 1) := dk_96 (dk_at dksL_law_96 9 rfl rfl)
theorem dL_law_2358 : decode cL_law 2358 = .ok (.iaload, 1) := dk_46 (dk_at dksL_law_96 10 rfl rfl)
theorem dL_law_2359 : decode cL_law 2359 = .ok (.aload_n 3, 1) := dk_45 (dk_at dksL_law_96 11 rfl rfl)
theorem dL_law_2360 : decode cL_law 2360 = .ok (.invokestatic 246, 3) := dk_184 0 246 (dk_at dksL_law_96 12 rfl rfl)
theorem dL_law_2363 : decode cL_law 2363 = .ok (.istore 5, 2) := dk_54 5 (dk_at dksL_law_96 15 rfl rfl)
theorem dL_law_2365 : decode cL_law 2365 = .ok (.aload_n 2, 1) := dk_44 (dk_at dksL_law_96 17 rfl rfl)
theorem dL_law_2366 : decode cL_law 2366 = .ok (.aload_n 0, 1) := dk_42 (dk_at dksL_law_96 18 rfl rfl)
theorem dL_law_2367 : decode cL_law 2367 = .ok (.iload 4, 2) := dk_21 4 (dk_at dksL_law_96 19 rfl rfl)
theorem dL_law_2369 : decode cL_law 2369 = .ok (.iconst 1, 1) := dk_4 (dk_at dksL_law_96 21 rfl rfl)
theorem dL_law_2370 : decode cL_law 2370 = .ok (.iadd, 1) := dk_96 (dk_at dksL_law_96 22 rfl rfl)
theorem dL_law_2371 : decode cL_law 2371 = .ok (.iaload, 1) := dk_46 (dk_at dksL_law_96 23 rfl rfl)
theorem dL_law_2372 : decode cL_law 2372 = .ok (.aload_n 0, 1) := dk_42 (dk_at dksL_law_97 0 rfl rfl)
theorem dL_law_2373 : decode cL_law 2373 = .ok (.iload 4, 2) := dk_21 4 (dk_at dksL_law_97 1 rfl rfl)
theorem dL_law_2375 : decode cL_law 2375 = .ok (.iconst 2, 1) := dk_5 (dk_at dksL_law_97 3 rfl rfl)
theorem dL_law_2376 : decode cL_law 2376 = .ok (.iadd, 1) := dk_96 (dk_at dksL_law_97 4 rfl rfl)
theorem dL_law_2377 : decode cL_law 2377 = .ok (.iaload, 1) := dk_46 (dk_at dksL_law_97 5 rfl rfl)
theorem dL_law_2378 : decode cL_law 2378 = .ok (.aload_n 0, 1) := dk_42 (dk_at dksL_law_97 6 rfl rfl)
theorem dL_law_2379 : decode cL_law 2379 = .ok (.iload 4, 2) := dk_21 4 (dk_at dksL_law_97 7 rfl rfl)
theorem dL_law_2381 : decode cL_law 2381 = .ok (.iconst 3, 1) := dk_6 (dk_at dksL_law_97 9 rfl rfl)
theorem dL_law_2382 : decode cL_law 2382 = .ok (.iadd, 1) := dk_96 (dk_at dksL_law_97 10 rfl rfl)
theorem dL_law_2383 : decode cL_law 2383 = .ok (.iaload, 1) := dk_46 (dk_at dksL_law_97 11 rfl rfl)
theorem dL_law_2384 : decode cL_law 2384 = .ok (.invokevirtual 248, 3) := dk_182 0 248 (dk_at dksL_law_97 12 rfl rfl)
theorem dL_law_2387 : decode cL_law 2387 = .ok (.istore 6, 2) := dk_54 6 (dk_at dksL_law_97 15 rfl rfl)
theorem dL_law_2389 : decode cL_law 2389 = .ok (.aload_n 2, 1) := dk_44 (dk_at dksL_law_97 17 rfl rfl)
theorem dL_law_2390 : decode cL_law 2390 = .ok (.invokevirtual 138, 3) := dk_182 0 138 (dk_at dksL_law_97 18 rfl rfl)
theorem dL_law_2393 : decode cL_law 2393 = .ok (.iload 5, 2) := dk_21 5 (dk_at dksL_law_97 21 rfl rfl)
theorem dL_law_2395 : decode cL_law 2395 = .ok (.if_icmp .eq 5, 3) := dk_159 0 5 (dk_at dksL_law_98 0 rfl rfl)
theorem dL_law_2398 : decode cL_law 2398 = .ok (.iconst 0, 1) := dk_3 (dk_at dksL_law_98 3 rfl rfl)
theorem dL_law_2399 : decode cL_law 2399 = .ok (.ireturn, 1) := dk_172 (dk_at dksL_law_98 4 rfl rfl)
theorem dL_law_2400 : decode cL_law 2400 = .ok (.iload 5, 2) := dk_21 5 (dk_at dksL_law_98 5 rfl rfl)
theorem dL_law_2402 : decode cL_law 2402 = .ok (.ifCond .ne 16, 3) := dk_154 0 16 (dk_at dksL_law_98 7 rfl rfl)
theorem dL_law_2405 : decode cL_law 2405 = .ok (.aload_n 3, 1) := dk_45 (dk_at dksL_law_98 10 rfl rfl)
theorem dL_law_2406 : decode cL_law 2406 = .ok (.getfield 13, 3) := dk_180 0 13 (dk_at dksL_law_98 11 rfl rfl)
theorem dL_law_2409 : decode cL_law 2409 = .ok (.iload 6, 2) := dk_21 6 (dk_at dksL_law_98 14 rfl rfl)
theorem dL_law_2411 : decode cL_law 2411 = .ok (.i2l, 1) := dk_133 (dk_at dksL_law_98 16 rfl rfl)
theorem dL_law_2412 : decode cL_law 2412 = .ok (.lcmp, 1) := dk_148 (dk_at dksL_law_98 17 rfl rfl)
theorem dL_law_2413 : decode cL_law 2413 = .ok (.ifCond .eq 5, 3) := dk_153 0 5 (dk_at dksL_law_98 18 rfl rfl)
theorem dL_law_2416 : decode cL_law 2416 = .ok (.iconst 0, 1) := dk_3 (dk_at dksL_law_98 21 rfl rfl)
theorem dL_law_2417 : decode cL_law 2417 = .ok (.ireturn, 1) := dk_172 (dk_at dksL_law_98 22 rfl rfl)
theorem dL_law_2418 : decode cL_law 2418 = .ok (.goto 17, 3) := dk_167 0 17 (dk_at dksL_law_99 0 rfl rfl)
theorem dL_law_2421 : decode cL_law 2421 = .ok (.aload_n 1, 1) := dk_43 (dk_at dksL_law_99 3 rfl rfl)
theorem dL_law_2422 : decode cL_law 2422 = .ok (.invokevirtual 249, 3) := dk_182 0 249 (dk_at dksL_law_99 4 rfl rfl)
theorem dL_law_2425 : decode cL_law 2425 = .ok (.aload_n 2, 1) := dk_44 (dk_at dksL_law_99 7 rfl rfl)
theorem dL_law_2426 : decode cL_law 2426 = .ok (.invokevirtual 253, 3) := dk_182 0 253 (dk_at dksL_law_99 8 rfl rfl)
theorem dL_law_2429 : decode cL_law 2429 = .ok (.lcmp, 1) := dk_148 (dk_at dksL_law_99 11 rfl rfl)
theorem dL_law_2430 : decode cL_law 2430 = .ok (.ifCond .eq 5, 3) := dk_153 0 5 (dk_at dksL_law_99 12 rfl rfl)
theorem dL_law_2433 : decode cL_law 2433 = .ok (.iconst 0, 1) := dk_3 (dk_at dksL_law_99 15 rfl rfl)
theorem dL_law_2434 : decode cL_law 2434 = .ok (.ireturn, 1) := dk_172 (dk_at dksL_law_99 16 rfl rfl)
theorem dL_law_2435 : decode cL_law 2435 = .ok (.iinc 4 4, 3) := dk_132 4 4 (dk_at dksL_law_99 17 rfl rfl)
theorem dL_law_2438 : decode cL_law 2438 = .ok (.goto (-2411), 3) := dk_167 246 149 (dk_at dksL_law_99 20 rfl rfl)
theorem dL_law_2441 : decode cL_law 2441 = .ok (.iconst 1, 1) := dk_4 (dk_at dksL_law_99 23 rfl rfl)
theorem dL_law_2442 : decode cL_law 2442 = .ok (.ireturn, 1) := dk_172 (dk_at dksL_law_100 0 rfl rfl)
