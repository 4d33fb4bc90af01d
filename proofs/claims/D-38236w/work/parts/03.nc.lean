/-! Versorhall -/
set_option maxRecDepth 100000
def RX1 : String := "Versorhall"
def TX1 : u_T := fun k => match k with
  | 0 => ("Versorhall", "prime", "I", false)
  | 1 => ("Versorhall", "algebras", "Ljava/util/ArrayList;", true)
  | 2 => ("Versorhall", "elements", "Ljava/util/ArrayList;", true)
  | 3 => ("Versorhall", "door", "LVersorhall$Door;", true)
  | 4 => ("Versorhall", "knocks", "I", false)
  | _ => ("Versorhall", "sum", "J", false)
def tyX1 : Nat → FieldType := fun k => match k with
  | 0 => .int
  | 1 => .object "java/util/ArrayList"
  | 2 => .object "java/util/ArrayList"
  | 3 => .object "Versorhall$Door"
  | 4 => .int
  | _ => .long
abbrev wsX10 : List Cond := u_ws RX1 TX1 6
theorem nmX1 : ∀ a, a < 6 → ∀ b, b < 6 → a ≠ b → (TX1 a).2.1 ≠ (TX1 b).2.1 := by decide +kernel
theorem tyX1_ok : ∀ k, k < 6 → parseFieldDescriptor (TX1 k).2.2.1 = some (tyX1 k) := by decide +kernel
abbrev cX1_init : ByteArray := prog_1_method_8_code
def yX1_init : MethodName := ⟨RX1, "<init>", "()V"⟩
def dkwX1_init_1 : List UInt8 := [187, 0, 32, 89, 183, 0, 34, 181, 0, 39, 42, 187, 0, 42, 89, 183, 0, 44, 181, 0, 45, 177]
abbrev dktX1_init_1 : List UInt8 := dkwX1_init_1 ++ []
def dkwX1_init_0 : List UInt8 := [42, 183, 0, 29, 42, 16, 7, 181, 0, 13, 42, 187, 0, 32, 89, 183, 0, 34, 181, 0, 35, 42]
abbrev dktX1_init_0 : List UInt8 := dkwX1_init_0 ++ dktX1_init_1
theorem dksX1_init_0 : cX1_init.data.toList.drop 0 = dktX1_init_0 := by decide +kernel
theorem dksX1_init_1 : cX1_init.data.toList.drop 22 = dktX1_init_1 := dk_seg dksX1_init_0 22 rfl rfl
theorem dX1_init_0 : decode cX1_init 0 = .ok (.aload_n 0, 1) := dk_42 (dk_at dksX1_init_0 0 rfl rfl)
theorem dX1_init_1 : decode cX1_init 1 = .ok (.invokespecial 29, 3) := dk_183 0 29 (dk_at dksX1_init_0 1 rfl rfl)
theorem dX1_init_4 : decode cX1_init 4 = .ok (.aload_n 0, 1) := dk_42 (dk_at dksX1_init_0 4 rfl rfl)
theorem dX1_init_5 : decode cX1_init 5 = .ok (.bipush 7, 2) := dk_16 7 (dk_at dksX1_init_0 5 rfl rfl)
theorem dX1_init_7 : decode cX1_init 7 = .ok (.putfield 13, 3) := dk_181 0 13 (dk_at dksX1_init_0 7 rfl rfl)
theorem dX1_init_10 : decode cX1_init 10 = .ok (.aload_n 0, 1) := dk_42 (dk_at dksX1_init_0 10 rfl rfl)
theorem dX1_init_11 : decode cX1_init 11 = .ok (.new 32, 3) := dk_187 0 32 (dk_at dksX1_init_0 11 rfl rfl)
theorem dX1_init_14 : decode cX1_init 14 = .ok (.dup, 1) := dk_89 (dk_at dksX1_init_0 14 rfl rfl)
theorem dX1_init_15 : decode cX1_init 15 = .ok (.invokespecial 34, 3) := dk_183 0 34 (dk_at dksX1_init_0 15 rfl rfl)
theorem dX1_init_18 : decode cX1_init 18 = .ok (.putfield 35, 3) := dk_181 0 35 (dk_at dksX1_init_0 18 rfl rfl)
theorem dX1_init_21 : decode cX1_init 21 = .ok (.aload_n 0, 1) := dk_42 (dk_at dksX1_init_0 21 rfl rfl)
theorem dX1_init_22 : decode cX1_init 22 = .ok (.new 32, 3) := dk_187 0 32 (dk_at dksX1_init_1 0 rfl rfl)
theorem dX1_init_25 : decode cX1_init 25 = .ok (.dup, 1) := dk_89 (dk_at dksX1_init_1 3 rfl rfl)
theorem dX1_init_26 : decode cX1_init 26 = .ok (.invokespecial 34, 3) := dk_183 0 34 (dk_at dksX1_init_1 4 rfl rfl)
theorem dX1_init_29 : decode cX1_init 29 = .ok (.putfield 39, 3) := dk_181 0 39 (dk_at dksX1_init_1 7 rfl rfl)
theorem dX1_init_32 : decode cX1_init 32 = .ok (.aload_n 0, 1) := dk_42 (dk_at dksX1_init_1 10 rfl rfl)
theorem dX1_init_33 : decode cX1_init 33 = .ok (.new 42, 3) := dk_187 0 42 (dk_at dksX1_init_1 11 rfl rfl)
theorem dX1_init_36 : decode cX1_init 36 = .ok (.dup, 1) := dk_89 (dk_at dksX1_init_1 14 rfl rfl)
theorem dX1_init_37 : decode cX1_init 37 = .ok (.invokespecial 44, 3) := dk_183 0 44 (dk_at dksX1_init_1 15 rfl rfl)
theorem dX1_init_40 : decode cX1_init 40 = .ok (.putfield 45, 3) := dk_181 0 45 (dk_at dksX1_init_1 18 rfl rfl)
theorem dX1_init_43 : decode cX1_init 43 = .ok (.return_, 1) := dk_177 (dk_at dksX1_init_1 21 rfl rfl)
abbrev cX1_meanSize : ByteArray := prog_1_method_45_code
def yX1_meanSize : MethodName := ⟨RX1, "meanSize", "()D"⟩
def dkwX1_meanSize_2 : List UInt8 := [182, 0, 53, 153, 0, 7, 14, 167, 0, 14, 27, 135, 42, 180, 0, 39, 182, 0, 60, 135, 111, 175]
abbrev dktX1_meanSize_2 : List UInt8 := dkwX1_meanSize_2 ++ []
def dkwX1_meanSize_1 : List UInt8 := [185, 0, 105, 1, 0, 192, 0, 74, 78, 27, 45, 182, 0, 145, 96, 60, 167, 255, 230, 42, 180, 0, 39]
abbrev dktX1_meanSize_1 : List UInt8 := dkwX1_meanSize_1 ++ dktX1_meanSize_2
def dkwX1_meanSize_0 : List UInt8 := [3, 60, 42, 180, 0, 39, 182, 0, 96, 77, 44, 185, 0, 100, 1, 0, 153, 0, 23, 44]
abbrev dktX1_meanSize_0 : List UInt8 := dkwX1_meanSize_0 ++ dktX1_meanSize_1
theorem dksX1_meanSize_0 : cX1_meanSize.data.toList.drop 0 = dktX1_meanSize_0 := by decide +kernel
theorem dksX1_meanSize_1 : cX1_meanSize.data.toList.drop 20 = dktX1_meanSize_1 := dk_seg dksX1_meanSize_0 20 rfl rfl
theorem dksX1_meanSize_2 : cX1_meanSize.data.toList.drop 43 = dktX1_meanSize_2 := dk_seg dksX1_meanSize_1 23 rfl rfl
theorem dX1_meanSize_0 : decode cX1_meanSize 0 = .ok (.iconst 0, 1) := dk_3 (dk_at dksX1_meanSize_0 0 rfl rfl)
theorem dX1_meanSize_1 : decode cX1_meanSize 1 = .ok (.istore_n 1, 1) := dk_60 (dk_at dksX1_meanSize_0 1 rfl rfl)
theorem dX1_meanSize_2 : decode cX1_meanSize 2 = .ok (.aload_n 0, 1) := dk_42 (dk_at dksX1_meanSize_0 2 rfl rfl)
theorem dX1_meanSize_3 : decode cX1_meanSize 3 = .ok (.getfield 39, 3) := dk_180 0 39 (dk_at dksX1_meanSize_0 3 rfl rfl)
theorem dX1_meanSize_6 : decode cX1_meanSize 6 = .ok (.invokevirtual 96, 3) := dk_182 0 96 (dk_at dksX1_meanSize_0 6 rfl rfl)
theorem dX1_meanSize_9 : decode cX1_meanSize 9 = .ok (.astore_n 2, 1) := dk_77 (dk_at dksX1_meanSize_0 9 rfl rfl)
theorem dX1_meanSize_10 : decode cX1_meanSize 10 = .ok (.aload_n 2, 1) := dk_44 (dk_at dksX1_meanSize_0 10 rfl rfl)
theorem dX1_meanSize_11 : decode cX1_meanSize 11 = .ok (.invokeinterface 100 1, 5) := by decide +kernel
theorem dX1_meanSize_16 : decode cX1_meanSize 16 = .ok (.ifCond .eq 23, 3) := dk_153 0 23 (dk_at dksX1_meanSize_0 16 rfl rfl)
theorem dX1_meanSize_19 : decode cX1_meanSize 19 = .ok (.aload_n 2, 1) := dk_44 (dk_at dksX1_meanSize_0 19 rfl rfl)
theorem dX1_meanSize_20 : decode cX1_meanSize 20 = .ok (.invokeinterface 105 1, 5) := by decide +kernel
theorem dX1_meanSize_25 : decode cX1_meanSize 25 = .ok (.checkcast 74, 3) := dk_192 0 74 (dk_at dksX1_meanSize_1 5 rfl rfl)
theorem dX1_meanSize_28 : decode cX1_meanSize 28 = .ok (.astore_n 3, 1) := dk_78 (dk_at dksX1_meanSize_1 8 rfl rfl)
theorem dX1_meanSize_29 : decode cX1_meanSize 29 = .ok (.iload_n 1, 1) := dk_27 (dk_at dksX1_meanSize_1 9 rfl rfl)
theorem dX1_meanSize_30 : decode cX1_meanSize 30 = .ok (.aload_n 3, 1) := dk_45 (dk_at dksX1_meanSize_1 10 rfl rfl)
theorem dX1_meanSize_31 : decode cX1_meanSize 31 = .ok (.invokevirtual 145, 3) := dk_182 0 145 (dk_at dksX1_meanSize_1 11 rfl rfl)
theorem dX1_meanSize_34 : decode cX1_meanSize 34 = .ok (.iadd, 1) := dk_96 (dk_at dksX1_meanSize_1 14 rfl rfl)
theorem dX1_meanSize_35 : decode cX1_meanSize 35 = .ok (.istore_n 1, 1) := dk_60 (dk_at dksX1_meanSize_1 15 rfl rfl)
theorem dX1_meanSize_36 : decode cX1_meanSize 36 = .ok (.goto (-26), 3) := dk_167 255 230 (dk_at dksX1_meanSize_1 16 rfl rfl)
theorem dX1_meanSize_39 : decode cX1_meanSize 39 = .ok (.aload_n 0, 1) := dk_42 (dk_at dksX1_meanSize_1 19 rfl rfl)
theorem dX1_meanSize_40 : decode cX1_meanSize 40 = .ok (.getfield 39, 3) := dk_180 0 39 (dk_at dksX1_meanSize_1 20 rfl rfl)
theorem dX1_meanSize_43 : decode cX1_meanSize 43 = .ok (.invokevirtual 53, 3) := dk_182 0 53 (dk_at dksX1_meanSize_2 0 rfl rfl)
theorem dX1_meanSize_46 : decode cX1_meanSize 46 = .ok (.ifCond .eq 7, 3) := dk_153 0 7 (dk_at dksX1_meanSize_2 3 rfl rfl)
theorem dX1_meanSize_49 : decode cX1_meanSize 49 = .ok (.dconst 0, 1) := dk_14 (dk_at dksX1_meanSize_2 6 rfl rfl)
theorem dX1_meanSize_50 : decode cX1_meanSize 50 = .ok (.goto 14, 3) := dk_167 0 14 (dk_at dksX1_meanSize_2 7 rfl rfl)
theorem dX1_meanSize_53 : decode cX1_meanSize 53 = .ok (.iload_n 1, 1) := dk_27 (dk_at dksX1_meanSize_2 10 rfl rfl)
theorem dX1_meanSize_54 : decode cX1_meanSize 54 = .ok (.i2d, 1) := dk_135 (dk_at dksX1_meanSize_2 11 rfl rfl)
theorem dX1_meanSize_55 : decode cX1_meanSize 55 = .ok (.aload_n 0, 1) := dk_42 (dk_at dksX1_meanSize_2 12 rfl rfl)
theorem dX1_meanSize_56 : decode cX1_meanSize 56 = .ok (.getfield 39, 3) := dk_180 0 39 (dk_at dksX1_meanSize_2 13 rfl rfl)
theorem dX1_meanSize_59 : decode cX1_meanSize 59 = .ok (.invokevirtual 60, 3) := dk_182 0 60 (dk_at dksX1_meanSize_2 16 rfl rfl)
theorem dX1_meanSize_62 : decode cX1_meanSize 62 = .ok (.i2d, 1) := dk_135 (dk_at dksX1_meanSize_2 19 rfl rfl)
theorem dX1_meanSize_63 : decode cX1_meanSize 63 = .ok (.ddiv, 1) := dk_111 (dk_at dksX1_meanSize_2 20 rfl rfl)
theorem dX1_meanSize_64 : decode cX1_meanSize 64 = .ok (.dreturn, 1) := dk_175 (dk_at dksX1_meanSize_2 21 rfl rfl)
abbrev cX1_poise : ByteArray := prog_1_method_48_code
def yX1_poise : MethodName := ⟨RX1, "poise", "()D"⟩
def dkwX1_poise_1 : List UInt8 := [182, 0, 60, 135, 111, 184, 1, 39, 14, 99, 175]
abbrev dktX1_poise_1 : List UInt8 := dkwX1_poise_1 ++ []
def dkwX1_poise_0 : List UInt8 := [42, 180, 0, 39, 182, 0, 53, 153, 0, 7, 14, 167, 0, 22, 42, 182, 1, 36, 141, 42, 180, 0, 39]
abbrev dktX1_poise_0 : List UInt8 := dkwX1_poise_0 ++ dktX1_poise_1
theorem dksX1_poise_0 : cX1_poise.data.toList.drop 0 = dktX1_poise_0 := by decide +kernel
theorem dksX1_poise_1 : cX1_poise.data.toList.drop 23 = dktX1_poise_1 := dk_seg dksX1_poise_0 23 rfl rfl
theorem dX1_poise_0 : decode cX1_poise 0 = .ok (.aload_n 0, 1) := dk_42 (dk_at dksX1_poise_0 0 rfl rfl)
theorem dX1_poise_1 : decode cX1_poise 1 = .ok (.getfield 39, 3) := dk_180 0 39 (dk_at dksX1_poise_0 1 rfl rfl)
theorem dX1_poise_4 : decode cX1_poise 4 = .ok (.invokevirtual 53, 3) := dk_182 0 53 (dk_at dksX1_poise_0 4 rfl rfl)
theorem dX1_poise_7 : decode cX1_poise 7 = .ok (.ifCond .eq 7, 3) := dk_153 0 7 (dk_at dksX1_poise_0 7 rfl rfl)
theorem dX1_poise_10 : decode cX1_poise 10 = .ok (.dconst 0, 1) := dk_14 (dk_at dksX1_poise_0 10 rfl rfl)
theorem dX1_poise_11 : decode cX1_poise 11 = .ok (.goto 22, 3) := dk_167 0 22 (dk_at dksX1_poise_0 11 rfl rfl)
theorem dX1_poise_14 : decode cX1_poise 14 = .ok (.aload_n 0, 1) := dk_42 (dk_at dksX1_poise_0 14 rfl rfl)
theorem dX1_poise_15 : decode cX1_poise 15 = .ok (.invokevirtual 292, 3) := dk_182 1 36 (dk_at dksX1_poise_0 15 rfl rfl)
theorem dX1_poise_18 : decode cX1_poise 18 = .ok (.f2d, 1) := dk_141 (dk_at dksX1_poise_0 18 rfl rfl)
theorem dX1_poise_19 : decode cX1_poise 19 = .ok (.aload_n 0, 1) := dk_42 (dk_at dksX1_poise_0 19 rfl rfl)
theorem dX1_poise_20 : decode cX1_poise 20 = .ok (.getfield 39, 3) := dk_180 0 39 (dk_at dksX1_poise_0 20 rfl rfl)
theorem dX1_poise_23 : decode cX1_poise 23 = .ok (.invokevirtual 60, 3) := dk_182 0 60 (dk_at dksX1_poise_1 0 rfl rfl)
theorem dX1_poise_26 : decode cX1_poise 26 = .ok (.i2d, 1) := dk_135 (dk_at dksX1_poise_1 3 rfl rfl)
theorem dX1_poise_27 : decode cX1_poise 27 = .ok (.ddiv, 1) := dk_111 (dk_at dksX1_poise_1 4 rfl rfl)
theorem dX1_poise_28 : decode cX1_poise 28 = .ok (.invokestatic 295, 3) := dk_184 1 39 (dk_at dksX1_poise_1 5 rfl rfl)
theorem dX1_poise_31 : decode cX1_poise 31 = .ok (.dconst 0, 1) := dk_14 (dk_at dksX1_poise_1 8 rfl rfl)
theorem dX1_poise_32 : decode cX1_poise 32 = .ok (.dadd, 1) := dk_99 (dk_at dksX1_poise_1 9 rfl rfl)
theorem dX1_poise_33 : decode cX1_poise 33 = .ok (.dreturn, 1) := dk_175 (dk_at dksX1_poise_1 10 rfl rfl)
abbrev cX1_leans : ByteArray := prog_1_method_47_code
def yX1_leans : MethodName := ⟨RX1, "leans", "()F"⟩
def dkwX1_leans_1 : List UInt8 := [185, 0, 105, 1, 0, 192, 0, 74, 78, 35, 45, 182, 1, 32, 98, 68, 167, 255, 230, 35, 174]
abbrev dktX1_leans_1 : List UInt8 := dkwX1_leans_1 ++ []
def dkwX1_leans_0 : List UInt8 := [11, 68, 42, 180, 0, 39, 182, 0, 96, 77, 44, 185, 0, 100, 1, 0, 153, 0, 23, 44]
abbrev dktX1_leans_0 : List UInt8 := dkwX1_leans_0 ++ dktX1_leans_1
theorem dksX1_leans_0 : cX1_leans.data.toList.drop 0 = dktX1_leans_0 := by decide +kernel
theorem dksX1_leans_1 : cX1_leans.data.toList.drop 20 = dktX1_leans_1 := dk_seg dksX1_leans_0 20 rfl rfl
theorem dX1_leans_0 : decode cX1_leans 0 = .ok (.fconst 0, 1) := dk_11 (dk_at dksX1_leans_0 0 rfl rfl)
theorem dX1_leans_1 : decode cX1_leans 1 = .ok (.fstore_n 1, 1) := dk_68 (dk_at dksX1_leans_0 1 rfl rfl)
theorem dX1_leans_2 : decode cX1_leans 2 = .ok (.aload_n 0, 1) := dk_42 (dk_at dksX1_leans_0 2 rfl rfl)
theorem dX1_leans_3 : decode cX1_leans 3 = .ok (.getfield 39, 3) := dk_180 0 39 (dk_at dksX1_leans_0 3 rfl rfl)
theorem dX1_leans_6 : decode cX1_leans 6 = .ok (.invokevirtual 96, 3) := dk_182 0 96 (dk_at dksX1_leans_0 6 rfl rfl)
theorem dX1_leans_9 : decode cX1_leans 9 = .ok (.astore_n 2, 1) := dk_77 (dk_at dksX1_leans_0 9 rfl rfl)
theorem dX1_leans_10 : decode cX1_leans 10 = .ok (.aload_n 2, 1) := dk_44 (dk_at dksX1_leans_0 10 rfl rfl)
theorem dX1_leans_11 : decode cX1_leans 11 = .ok (.invokeinterface 100 1, 5) := by decide +kernel
theorem dX1_leans_16 : decode cX1_leans 16 = .ok (.ifCond .eq 23, 3) := dk_153 0 23 (dk_at dksX1_leans_0 16 rfl rfl)
theorem dX1_leans_19 : decode cX1_leans 19 = .ok (.aload_n 2, 1) := dk_44 (dk_at dksX1_leans_0 19 rfl rfl)
theorem dX1_leans_20 : decode cX1_leans 20 = .ok (.invokeinterface 105 1, 5) := by decide +kernel
theorem dX1_leans_25 : decode cX1_leans 25 = .ok (.checkcast 74, 3) := dk_192 0 74 (dk_at dksX1_leans_1 5 rfl rfl)
theorem dX1_leans_28 : decode cX1_leans 28 = .ok (.astore_n 3, 1) := dk_78 (dk_at dksX1_leans_1 8 rfl rfl)
theorem dX1_leans_29 : decode cX1_leans 29 = .ok (.fload_n 1, 1) := dk_35 (dk_at dksX1_leans_1 9 rfl rfl)
theorem dX1_leans_30 : decode cX1_leans 30 = .ok (.aload_n 3, 1) := dk_45 (dk_at dksX1_leans_1 10 rfl rfl)
theorem dX1_leans_31 : decode cX1_leans 31 = .ok (.invokevirtual 288, 3) := dk_182 1 32 (dk_at dksX1_leans_1 11 rfl rfl)
theorem dX1_leans_34 : decode cX1_leans 34 = .ok (.fadd, 1) := dk_98 (dk_at dksX1_leans_1 14 rfl rfl)
theorem dX1_leans_35 : decode cX1_leans 35 = .ok (.fstore_n 1, 1) := dk_68 (dk_at dksX1_leans_1 15 rfl rfl)
theorem dX1_leans_36 : decode cX1_leans 36 = .ok (.goto (-26), 3) := dk_167 255 230 (dk_at dksX1_leans_1 16 rfl rfl)
theorem dX1_leans_39 : decode cX1_leans 39 = .ok (.fload_n 1, 1) := dk_35 (dk_at dksX1_leans_1 19 rfl rfl)
theorem dX1_leans_40 : decode cX1_leans 40 = .ok (.freturn, 1) := dk_174 (dk_at dksX1_leans_1 20 rfl rfl)
abbrev cX1_signed : ByteArray := prog_1_method_7_code
def yX1_signed : MethodName := ⟨RX1, "signed", "(I)I"⟩
def dkwX1_signed_0 : List UInt8 := [27, 42, 180, 0, 13, 5, 108, 164, 0, 12, 27, 42, 180, 0, 13, 100, 167, 0, 4, 27, 172]
abbrev dktX1_signed_0 : List UInt8 := dkwX1_signed_0 ++ []
theorem dksX1_signed_0 : cX1_signed.data.toList.drop 0 = dktX1_signed_0 := by decide +kernel
theorem dX1_signed_0 : decode cX1_signed 0 = .ok (.iload_n 1, 1) := dk_27 (dk_at dksX1_signed_0 0 rfl rfl)
theorem dX1_signed_1 : decode cX1_signed 1 = .ok (.aload_n 0, 1) := dk_42 (dk_at dksX1_signed_0 1 rfl rfl)
theorem dX1_signed_2 : decode cX1_signed 2 = .ok (.getfield 13, 3) := dk_180 0 13 (dk_at dksX1_signed_0 2 rfl rfl)
theorem dX1_signed_5 : decode cX1_signed 5 = .ok (.iconst 2, 1) := dk_5 (dk_at dksX1_signed_0 5 rfl rfl)
theorem dX1_signed_6 : decode cX1_signed 6 = .ok (.idiv, 1) := dk_108 (dk_at dksX1_signed_0 6 rfl rfl)
theorem dX1_signed_7 : decode cX1_signed 7 = .ok (.if_icmp .le 12, 3) := dk_164 0 12 (dk_at dksX1_signed_0 7 rfl rfl)
theorem dX1_signed_10 : decode cX1_signed 10 = .ok (.iload_n 1, 1) := dk_27 (dk_at dksX1_signed_0 10 rfl rfl)
theorem dX1_signed_11 : decode cX1_signed 11 = .ok (.aload_n 0, 1) := dk_42 (dk_at dksX1_signed_0 11 rfl rfl)
theorem dX1_signed_12 : decode cX1_signed 12 = .ok (.getfield 13, 3) := dk_180 0 13 (dk_at dksX1_signed_0 12 rfl rfl)
theorem dX1_signed_15 : decode cX1_signed 15 = .ok (.isub, 1) := dk_100 (dk_at dksX1_signed_0 15 rfl rfl)
theorem dX1_signed_16 : decode cX1_signed 16 = .ok (.goto 4, 3) := dk_167 0 4 (dk_at dksX1_signed_0 16 rfl rfl)
theorem dX1_signed_19 : decode cX1_signed 19 = .ok (.iload_n 1, 1) := dk_27 (dk_at dksX1_signed_0 19 rfl rfl)
theorem dX1_signed_20 : decode cX1_signed 20 = .ok (.ireturn, 1) := dk_172 (dk_at dksX1_signed_0 20 rfl rfl)
abbrev cX1_digest : ByteArray := prog_1_method_61_code
def yX1_digest : MethodName := ⟨RX1, "digest", "()J"⟩
def dkwX1_digest_13 : List UInt8 := [167, 255, 149, 42, 180, 1, 71, 173]
abbrev dktX1_digest_13 : List UInt8 := dkwX1_digest_13 ++ []
def dkwX1_digest_12 : List UInt8 := [42, 180, 0, 39, 27, 182, 0, 68, 192, 0, 74, 182, 1, 9, 182, 1, 82, 182, 1, 79, 88, 132, 1, 1]
abbrev dktX1_digest_12 : List UInt8 := dkwX1_digest_12 ++ dktX1_digest_13
def dkwX1_digest_11 : List UInt8 := [28, 16, 9, 163, 0, 20, 42, 42, 27, 28, 182, 1, 6, 182, 1, 79, 88, 132, 2, 1, 167, 255, 236, 42]
abbrev dktX1_digest_11 : List UInt8 := dkwX1_digest_11 ++ dktX1_digest_12
def dkwX1_digest_10 : List UInt8 := [162, 0, 22, 44, 21, 4, 46, 54, 5, 42, 21, 5, 182, 1, 79, 88, 132, 4, 1, 167, 255, 234, 3, 61]
abbrev dktX1_digest_10 : List UInt8 := dkwX1_digest_10 ++ dktX1_digest_11
def dkwX1_digest_9 : List UInt8 := [180, 0, 39, 27, 182, 0, 68, 192, 0, 74, 180, 0, 141, 77, 44, 190, 62, 3, 54, 4, 21, 4, 29]
abbrev dktX1_digest_9 : List UInt8 := dkwX1_digest_9 ++ dktX1_digest_10
def dkwX1_digest_8 : List UInt8 := [167, 255, 211, 132, 1, 1, 167, 255, 95, 3, 60, 27, 42, 180, 0, 39, 182, 0, 60, 162, 0, 102, 42]
abbrev dktX1_digest_8 : List UInt8 := dkwX1_digest_8 ++ dktX1_digest_9
def dkwX1_digest_7 : List UInt8 := [192, 0, 72, 42, 180, 0, 35, 28, 182, 0, 68, 192, 0, 72, 182, 1, 67, 182, 1, 79, 88, 132, 2, 1]
abbrev dktX1_digest_7 : List UInt8 := dkwX1_digest_7 ++ dktX1_digest_8
def dkwX1_digest_6 : List UInt8 := [3, 61, 28, 42, 180, 0, 35, 182, 0, 60, 162, 0, 40, 42, 42, 42, 180, 0, 35, 27, 182, 0, 68]
abbrev dktX1_digest_6 : List UInt8 := dkwX1_digest_6 ++ dktX1_digest_7
def dkwX1_digest_5 : List UInt8 := [182, 1, 79, 88, 42, 42, 180, 0, 35, 27, 182, 0, 68, 192, 0, 72, 4, 182, 1, 52, 182, 1, 79, 88]
abbrev dktX1_digest_5 : List UInt8 := dkwX1_digest_5 ++ dktX1_digest_6
def dkwX1_digest_4 : List UInt8 := [132, 2, 1, 167, 255, 228, 42, 42, 180, 0, 35, 27, 182, 0, 68, 192, 0, 72, 3, 182, 1, 52]
abbrev dktX1_digest_4 : List UInt8 := dkwX1_digest_4 ++ dktX1_digest_5
def dkwX1_digest_3 : List UInt8 := [162, 0, 29, 42, 42, 180, 0, 35, 27, 182, 0, 68, 192, 0, 72, 28, 182, 1, 29, 182, 1, 79, 88]
abbrev dktX1_digest_3 : List UInt8 := dkwX1_digest_3 ++ dktX1_digest_4
def dkwX1_digest_2 : List UInt8 := [163, 0, 20, 42, 42, 27, 28, 182, 1, 22, 182, 1, 79, 88, 132, 2, 1, 167, 255, 237, 3, 61, 28, 7]
abbrev dktX1_digest_2 : List UInt8 := dkwX1_digest_2 ++ dktX1_digest_3
def dkwX1_digest_1 : List UInt8 := [88, 132, 1, 1, 167, 255, 237, 3, 60, 27, 42, 180, 0, 35, 182, 0, 60, 162, 0, 156, 3, 61, 28, 8]
abbrev dktX1_digest_1 : List UInt8 := dkwX1_digest_1 ++ dktX1_digest_2
def dkwX1_digest_0 : List UInt8 := [42, 20, 1, 77, 181, 1, 71, 3, 60, 27, 16, 7, 163, 0, 19, 42, 42, 27, 182, 1, 49, 182, 1, 79]
abbrev dktX1_digest_0 : List UInt8 := dkwX1_digest_0 ++ dktX1_digest_1
theorem dksX1_digest_0 : cX1_digest.data.toList.drop 0 = dktX1_digest_0 := by decide +kernel
theorem dksX1_digest_1 : cX1_digest.data.toList.drop 24 = dktX1_digest_1 := dk_seg dksX1_digest_0 24 rfl rfl
theorem dksX1_digest_2 : cX1_digest.data.toList.drop 48 = dktX1_digest_2 := dk_seg dksX1_digest_1 24 rfl rfl
theorem dksX1_digest_3 : cX1_digest.data.toList.drop 72 = dktX1_digest_3 := dk_seg dksX1_digest_2 24 rfl rfl
theorem dksX1_digest_4 : cX1_digest.data.toList.drop 95 = dktX1_digest_4 := dk_seg dksX1_digest_3 23 rfl rfl
theorem dksX1_digest_5 : cX1_digest.data.toList.drop 117 = dktX1_digest_5 := dk_seg dksX1_digest_4 22 rfl rfl
theorem dksX1_digest_6 : cX1_digest.data.toList.drop 141 = dktX1_digest_6 := dk_seg dksX1_digest_5 24 rfl rfl
theorem dksX1_digest_7 : cX1_digest.data.toList.drop 164 = dktX1_digest_7 := dk_seg dksX1_digest_6 23 rfl rfl
theorem dksX1_digest_8 : cX1_digest.data.toList.drop 188 = dktX1_digest_8 := dk_seg dksX1_digest_7 24 rfl rfl
theorem dksX1_digest_9 : cX1_digest.data.toList.drop 211 = dktX1_digest_9 := dk_seg dksX1_digest_8 23 rfl rfl
theorem dksX1_digest_10 : cX1_digest.data.toList.drop 234 = dktX1_digest_10 := dk_seg dksX1_digest_9 23 rfl rfl
theorem dksX1_digest_11 : cX1_digest.data.toList.drop 258 = dktX1_digest_11 := dk_seg dksX1_digest_10 24 rfl rfl
theorem dksX1_digest_12 : cX1_digest.data.toList.drop 282 = dktX1_digest_12 := dk_seg dksX1_digest_11 24 rfl rfl
theorem dksX1_digest_13 : cX1_digest.data.toList.drop 306 = dktX1_digest_13 := dk_seg dksX1_digest_12 24 rfl rfl
theorem dX1_digest_0 : decode cX1_digest 0 = .ok (.aload_n 0, 1) := dk_42 (dk_at dksX1_digest_0 0 rfl rfl)
theorem dX1_digest_1 : decode cX1_digest 1 = .ok (.ldc2_w 333, 3) := dk_20 1 77 (dk_at dksX1_digest_0 1 rfl rfl)
theorem dX1_digest_4 : decode cX1_digest 4 = .ok (.putfield 327, 3) := dk_181 1 71 (dk_at dksX1_digest_0 4 rfl rfl)
theorem dX1_digest_7 : decode cX1_digest 7 = .ok (.iconst 0, 1) := dk_3 (dk_at dksX1_digest_0 7 rfl rfl)
theorem dX1_digest_8 : decode cX1_digest 8 = .ok (.istore_n 1, 1) := dk_60 (dk_at dksX1_digest_0 8 rfl rfl)
theorem dX1_digest_9 : decode cX1_digest 9 = .ok (.iload_n 1, 1) := dk_27 (dk_at dksX1_digest_0 9 rfl rfl)
theorem dX1_digest_10 : decode cX1_digest 10 = .ok (.bipush 7, 2) := dk_16 7 (dk_at dksX1_digest_0 10 rfl rfl)
theorem dX1_digest_12 : decode cX1_digest 12 = .ok (.if_icmp .gt 19, 3) := dk_163 0 19 (dk_at dksX1_digest_0 12 rfl rfl)
theorem dX1_digest_15 : decode cX1_digest 15 = .ok (.aload_n 0, 1) := dk_42 (dk_at dksX1_digest_0 15 rfl rfl)
theorem dX1_digest_16 : decode cX1_digest 16 = .ok (.aload_n 0, 1) := dk_42 (dk_at dksX1_digest_0 16 rfl rfl)
theorem dX1_digest_17 : decode cX1_digest 17 = .ok (.iload_n 1, 1) := dk_27 (dk_at dksX1_digest_0 17 rfl rfl)
theorem dX1_digest_18 : decode cX1_digest 18 = .ok (.invokevirtual 305, 3) := dk_182 1 49 (dk_at dksX1_digest_0 18 rfl rfl)
theorem dX1_digest_21 : decode cX1_digest 21 = .ok (.invokevirtual 335, 3) := dk_182 1 79 (dk_at dksX1_digest_0 21 rfl rfl)
theorem dX1_digest_24 : decode cX1_digest 24 = .ok (.pop2, 1) := dk_88 (dk_at dksX1_digest_1 0 rfl rfl)
theorem dX1_digest_25 : decode cX1_digest 25 = .ok (.iinc 1 1, 3) := dk_132 1 1 (dk_at dksX1_digest_1 1 rfl rfl)
theorem dX1_digest_28 : decode cX1_digest 28 = .ok (.goto (-19), 3) := dk_167 255 237 (dk_at dksX1_digest_1 4 rfl rfl)
theorem dX1_digest_31 : decode cX1_digest 31 = .ok (.iconst 0, 1) := dk_3 (dk_at dksX1_digest_1 7 rfl rfl)
theorem dX1_digest_32 : decode cX1_digest 32 = .ok (.istore_n 1, 1) := dk_60 (dk_at dksX1_digest_1 8 rfl rfl)
theorem dX1_digest_33 : decode cX1_digest 33 = .ok (.iload_n 1, 1) := dk_27 (dk_at dksX1_digest_1 9 rfl rfl)
theorem dX1_digest_34 : decode cX1_digest 34 = .ok (.aload_n 0, 1) := dk_42 (dk_at dksX1_digest_1 10 rfl rfl)
theorem dX1_digest_35 : decode cX1_digest 35 = .ok (.getfield 35, 3) := dk_180 0 35 (dk_at dksX1_digest_1 11 rfl rfl)
theorem dX1_digest_38 : decode cX1_digest 38 = .ok (.invokevirtual 60, 3) := dk_182 0 60 (dk_at dksX1_digest_1 14 rfl rfl)
theorem dX1_digest_41 : decode cX1_digest 41 = .ok (.if_icmp .ge 156, 3) := dk_162 0 156 (dk_at dksX1_digest_1 17 rfl rfl)
theorem dX1_digest_44 : decode cX1_digest 44 = .ok (.iconst 0, 1) := dk_3 (dk_at dksX1_digest_1 20 rfl rfl)
theorem dX1_digest_45 : decode cX1_digest 45 = .ok (.istore_n 2, 1) := dk_61 (dk_at dksX1_digest_1 21 rfl rfl)
theorem dX1_digest_46 : decode cX1_digest 46 = .ok (.iload_n 2, 1) := dk_28 (dk_at dksX1_digest_1 22 rfl rfl)
theorem dX1_digest_47 : decode cX1_digest 47 = .ok (.iconst 5, 1) := dk_8 (dk_at dksX1_digest_1 23 rfl rfl)
theorem dX1_digest_48 : decode cX1_digest 48 = .ok (.if_icmp .gt 20, 3) := dk_163 0 20 (dk_at dksX1_digest_2 0 rfl rfl)
theorem dX1_digest_51 : decode cX1_digest 51 = .ok (.aload_n 0, 1) := dk_42 (dk_at dksX1_digest_2 3 rfl rfl)
theorem dX1_digest_52 : decode cX1_digest 52 = .ok (.aload_n 0, 1) := dk_42 (dk_at dksX1_digest_2 4 rfl rfl)
theorem dX1_digest_53 : decode cX1_digest 53 = .ok (.iload_n 1, 1) := dk_27 (dk_at dksX1_digest_2 5 rfl rfl)
theorem dX1_digest_54 : decode cX1_digest 54 = .ok (.iload_n 2, 1) := dk_28 (dk_at dksX1_digest_2 6 rfl rfl)
theorem dX1_digest_55 : decode cX1_digest 55 = .ok (.invokevirtual 278, 3) := dk_182 1 22 (dk_at dksX1_digest_2 7 rfl rfl)
theorem dX1_digest_58 : decode cX1_digest 58 = .ok (.invokevirtual 335, 3) := dk_182 1 79 (dk_at dksX1_digest_2 10 rfl rfl)
theorem dX1_digest_61 : decode cX1_digest 61 = .ok (.pop2, 1) := dk_88 (dk_at dksX1_digest_2 13 rfl rfl)
theorem dX1_digest_62 : decode cX1_digest 62 = .ok (.iinc 2 1, 3) := dk_132 2 1 (dk_at dksX1_digest_2 14 rfl rfl)
theorem dX1_digest_65 : decode cX1_digest 65 = .ok (.goto (-19), 3) := dk_167 255 237 (dk_at dksX1_digest_2 17 rfl rfl)
theorem dX1_digest_68 : decode cX1_digest 68 = .ok (.iconst 0, 1) := dk_3 (dk_at dksX1_digest_2 20 rfl rfl)
theorem dX1_digest_69 : decode cX1_digest 69 = .ok (.istore_n 2, 1) := dk_61 (dk_at dksX1_digest_2 21 rfl rfl)
theorem dX1_digest_70 : decode cX1_digest 70 = .ok (.iload_n 2, 1) := dk_28 (dk_at dksX1_digest_2 22 rfl rfl)
theorem dX1_digest_71 : decode cX1_digest 71 = .ok (.iconst 4, 1) := dk_7 (dk_at dksX1_digest_2 23 rfl rfl)
theorem dX1_digest_72 : decode cX1_digest 72 = .ok (.if_icmp .ge 29, 3) := dk_162 0 29 (dk_at dksX1_digest_3 0 rfl rfl)
theorem dX1_digest_75 : decode cX1_digest 75 = .ok (.aload_n 0, 1) := dk_42 (dk_at dksX1_digest_3 3 rfl rfl)
theorem dX1_digest_76 : decode cX1_digest 76 = .ok (.aload_n 0, 1) := dk_42 (dk_at dksX1_digest_3 4 rfl rfl)
theorem dX1_digest_77 : decode cX1_digest 77 = .ok (.getfield 35, 3) := dk_180 0 35 (dk_at dksX1_digest_3 5 rfl rfl)
theorem dX1_digest_80 : decode cX1_digest 80 = .ok (.iload_n 1, 1) := dk_27 (dk_at dksX1_digest_3 8 rfl rfl)
theorem dX1_digest_81 : decode cX1_digest 81 = .ok (.invokevirtual 68, 3) := dk_182 0 68 (dk_at dksX1_digest_3 9 rfl rfl)
theorem dX1_digest_84 : decode cX1_digest 84 = .ok (.checkcast 72, 3) := dk_192 0 72 (dk_at dksX1_digest_3 12 rfl rfl)
theorem dX1_digest_87 : decode cX1_digest 87 = .ok (.iload_n 2, 1) := dk_28 (dk_at dksX1_digest_3 15 rfl rfl)
theorem dX1_digest_88 : decode cX1_digest 88 = .ok (.invokevirtual 285, 3) := dk_182 1 29 (dk_at dksX1_digest_3 16 rfl rfl)
theorem dX1_digest_91 : decode cX1_digest 91 = .ok (.invokevirtual 335, 3) := dk_182 1 79 (dk_at dksX1_digest_3 19 rfl rfl)
theorem dX1_digest_94 : decode cX1_digest 94 = .ok (.pop2, 1) := dk_88 (dk_at dksX1_digest_3 22 rfl rfl)
theorem dX1_digest_95 : decode cX1_digest 95 = .ok (.iinc 2 1, 3) := dk_132 2 1 (dk_at dksX1_digest_4 0 rfl rfl)
theorem dX1_digest_98 : decode cX1_digest 98 = .ok (.goto (-28), 3) := dk_167 255 228 (dk_at dksX1_digest_4 3 rfl rfl)
theorem dX1_digest_101 : decode cX1_digest 101 = .ok (.aload_n 0, 1) := dk_42 (dk_at dksX1_digest_4 6 rfl rfl)
theorem dX1_digest_102 : decode cX1_digest 102 = .ok (.aload_n 0, 1) := dk_42 (dk_at dksX1_digest_4 7 rfl rfl)
theorem dX1_digest_103 : decode cX1_digest 103 = .ok (.getfield 35, 3) := dk_180 0 35 (dk_at dksX1_digest_4 8 rfl rfl)
theorem dX1_digest_106 : decode cX1_digest 106 = .ok (.iload_n 1, 1) := dk_27 (dk_at dksX1_digest_4 11 rfl rfl)
theorem dX1_digest_107 : decode cX1_digest 107 = .ok (.invokevirtual 68, 3) := dk_182 0 68 (dk_at dksX1_digest_4 12 rfl rfl)
theorem dX1_digest_110 : decode cX1_digest 110 = .ok (.checkcast 72, 3) := dk_192 0 72 (dk_at dksX1_digest_4 15 rfl rfl)
theorem dX1_digest_113 : decode cX1_digest 113 = .ok (.iconst 0, 1) := dk_3 (dk_at dksX1_digest_4 18 rfl rfl)
theorem dX1_digest_114 : decode cX1_digest 114 = .ok (.invokevirtual 308, 3) := dk_182 1 52 (dk_at dksX1_digest_4 19 rfl rfl)
theorem dX1_digest_117 : decode cX1_digest 117 = .ok (.invokevirtual 335, 3) := dk_182 1 79 (dk_at dksX1_digest_5 0 rfl rfl)
theorem dX1_digest_120 : decode cX1_digest 120 = .ok (.pop2, 1) := dk_88 (dk_at dksX1_digest_5 3 rfl rfl)
theorem dX1_digest_121 : decode cX1_digest 121 = .ok (.aload_n 0, 1) := dk_42 (dk_at dksX1_digest_5 4 rfl rfl)
theorem dX1_digest_122 : decode cX1_digest 122 = .ok (.aload_n 0, 1) := dk_42 (dk_at dksX1_digest_5 5 rfl rfl)
theorem dX1_digest_123 : decode cX1_digest 123 = .ok (.getfield 35, 3) := dk_180 0 35 (dk_at dksX1_digest_5 6 rfl rfl)
theorem dX1_digest_126 : decode cX1_digest 126 = .ok (.iload_n 1, 1) := dk_27 (dk_at dksX1_digest_5 9 rfl rfl)
theorem dX1_digest_127 : decode cX1_digest 127 = .ok (.invokevirtual 68, 3) := dk_182 0 68 (dk_at dksX1_digest_5 10 rfl rfl)
theorem dX1_digest_130 : decode cX1_digest 130 = .ok (.checkcast 72, 3) := dk_192 0 72 (dk_at dksX1_digest_5 13 rfl rfl)
theorem dX1_digest_133 : decode cX1_digest 133 = .ok (.iconst 1, 1) := dk_4 (dk_at dksX1_digest_5 16 rfl rfl)
theorem dX1_digest_134 : decode cX1_digest 134 = .ok (.invokevirtual 308, 3) := dk_182 1 52 (dk_at dksX1_digest_5 17 rfl rfl)
theorem dX1_digest_137 : decode cX1_digest 137 = .ok (.invokevirtual 335, 3) := dk_182 1 79 (dk_at dksX1_digest_5 20 rfl rfl)
theorem dX1_digest_140 : decode cX1_digest 140 = .ok (.pop2, 1) := dk_88 (dk_at dksX1_digest_5 23 rfl rfl)
theorem dX1_digest_141 : decode cX1_digest 141 = .ok (.iconst 0, 1) := dk_3 (dk_at dksX1_digest_6 0 rfl rfl)
theorem dX1_digest_142 : decode cX1_digest 142 = .ok (.istore_n 2, 1) := dk_61 (dk_at dksX1_digest_6 1 rfl rfl)
theorem dX1_digest_143 : decode cX1_digest 143 = .ok (.iload_n 2, 1) := dk_28 (dk_at dksX1_digest_6 2 rfl rfl)
theorem dX1_digest_144 : decode cX1_digest 144 = .ok (.aload_n 0, 1) := dk_42 (dk_at dksX1_digest_6 3 rfl rfl)
theorem dX1_digest_145 : decode cX1_digest 145 = .ok (.getfield 35, 3) := dk_180 0 35 (dk_at dksX1_digest_6 4 rfl rfl)
theorem dX1_digest_148 : decode cX1_digest 148 = .ok (.invokevirtual 60, 3) := dk_182 0 60 (dk_at dksX1_digest_6 7 rfl rfl)
theorem dX1_digest_151 : decode cX1_digest 151 = .ok (.if_icmp .ge 40, 3) := dk_162 0 40 (dk_at dksX1_digest_6 10 rfl rfl)
theorem dX1_digest_154 : decode cX1_digest 154 = .ok (.aload_n 0, 1) := dk_42 (dk_at dksX1_digest_6 13 rfl rfl)
theorem dX1_digest_155 : decode cX1_digest 155 = .ok (.aload_n 0, 1) := dk_42 (dk_at dksX1_digest_6 14 rfl rfl)
theorem dX1_digest_156 : decode cX1_digest 156 = .ok (.aload_n 0, 1) := dk_42 (dk_at dksX1_digest_6 15 rfl rfl)
theorem dX1_digest_157 : decode cX1_digest 157 = .ok (.getfield 35, 3) := dk_180 0 35 (dk_at dksX1_digest_6 16 rfl rfl)
theorem dX1_digest_160 : decode cX1_digest 160 = .ok (.iload_n 1, 1) := dk_27 (dk_at dksX1_digest_6 19 rfl rfl)
theorem dX1_digest_161 : decode cX1_digest 161 = .ok (.invokevirtual 68, 3) := dk_182 0 68 (dk_at dksX1_digest_6 20 rfl rfl)
theorem dX1_digest_164 : decode cX1_digest 164 = .ok (.checkcast 72, 3) := dk_192 0 72 (dk_at dksX1_digest_7 0 rfl rfl)
theorem dX1_digest_167 : decode cX1_digest 167 = .ok (.aload_n 0, 1) := dk_42 (dk_at dksX1_digest_7 3 rfl rfl)
theorem dX1_digest_168 : decode cX1_digest 168 = .ok (.getfield 35, 3) := dk_180 0 35 (dk_at dksX1_digest_7 4 rfl rfl)
theorem dX1_digest_171 : decode cX1_digest 171 = .ok (.iload_n 2, 1) := dk_28 (dk_at dksX1_digest_7 7 rfl rfl)
theorem dX1_digest_172 : decode cX1_digest 172 = .ok (.invokevirtual 68, 3) := dk_182 0 68 (dk_at dksX1_digest_7 8 rfl rfl)
theorem dX1_digest_175 : decode cX1_digest 175 = .ok (.checkcast 72, 3) := dk_192 0 72 (dk_at dksX1_digest_7 11 rfl rfl)
theorem dX1_digest_178 : decode cX1_digest 178 = .ok (.invokevirtual 323, 3) := dk_182 1 67 (dk_at dksX1_digest_7 14 rfl rfl)
theorem dX1_digest_181 : decode cX1_digest 181 = .ok (.invokevirtual 335, 3) := dk_182 1 79 (dk_at dksX1_digest_7 17 rfl rfl)
theorem dX1_digest_184 : decode cX1_digest 184 = .ok (.pop2, 1) := dk_88 (dk_at dksX1_digest_7 20 rfl rfl)
theorem dX1_digest_185 : decode cX1_digest 185 = .ok (.iinc 2 1, 3) := dk_132 2 1 (dk_at dksX1_digest_7 21 rfl rfl)
theorem dX1_digest_188 : decode cX1_digest 188 = .ok (.goto (-45), 3) := dk_167 255 211 (dk_at dksX1_digest_8 0 rfl rfl)
theorem dX1_digest_191 : decode cX1_digest 191 = .ok (.iinc 1 1, 3) := dk_132 1 1 (dk_at dksX1_digest_8 3 rfl rfl)
theorem dX1_digest_194 : decode cX1_digest 194 = .ok (.goto (-161), 3) := dk_167 255 95 (dk_at dksX1_digest_8 6 rfl rfl)
theorem dX1_digest_197 : decode cX1_digest 197 = .ok (.iconst 0, 1) := dk_3 (dk_at dksX1_digest_8 9 rfl rfl)
theorem dX1_digest_198 : decode cX1_digest 198 = .ok (.istore_n 1, 1) := dk_60 (dk_at dksX1_digest_8 10 rfl rfl)
theorem dX1_digest_199 : decode cX1_digest 199 = .ok (.iload_n 1, 1) := dk_27 (dk_at dksX1_digest_8 11 rfl rfl)
theorem dX1_digest_200 : decode cX1_digest 200 = .ok (.aload_n 0, 1) := dk_42 (dk_at dksX1_digest_8 12 rfl rfl)
theorem dX1_digest_201 : decode cX1_digest 201 = .ok (.getfield 39, 3) := dk_180 0 39 (dk_at dksX1_digest_8 13 rfl rfl)
theorem dX1_digest_204 : decode cX1_digest 204 = .ok (.invokevirtual 60, 3) := dk_182 0 60 (dk_at dksX1_digest_8 16 rfl rfl)
theorem dX1_digest_207 : decode cX1_digest 207 = .ok (.if_icmp .ge 102, 3) := dk_162 0 102 (dk_at dksX1_digest_8 19 rfl rfl)
theorem dX1_digest_210 : decode cX1_digest 210 = .ok (.aload_n 0, 1) := dk_42 (dk_at dksX1_digest_8 22 rfl rfl)
theorem dX1_digest_211 : decode cX1_digest 211 = .ok (.getfield 39, 3) := dk_180 0 39 (dk_at dksX1_digest_9 0 rfl rfl)
theorem dX1_digest_214 : decode cX1_digest 214 = .ok (.iload_n 1, 1) := dk_27 (dk_at dksX1_digest_9 3 rfl rfl)
theorem dX1_digest_215 : decode cX1_digest 215 = .ok (.invokevirtual 68, 3) := dk_182 0 68 (dk_at dksX1_digest_9 4 rfl rfl)
theorem dX1_digest_218 : decode cX1_digest 218 = .ok (.checkcast 74, 3) := dk_192 0 74 (dk_at dksX1_digest_9 7 rfl rfl)
theorem dX1_digest_221 : decode cX1_digest 221 = .ok (.getfield 141, 3) := dk_180 0 141 (dk_at dksX1_digest_9 10 rfl rfl)
theorem dX1_digest_224 : decode cX1_digest 224 = .ok (.astore_n 2, 1) := dk_77 (dk_at dksX1_digest_9 13 rfl rfl)
theorem dX1_digest_225 : decode cX1_digest 225 = .ok (.aload_n 2, 1) := dk_44 (dk_at dksX1_digest_9 14 rfl rfl)
theorem dX1_digest_226 : decode cX1_digest 226 = .ok (.arraylength, 1) := dk_190 (dk_at dksX1_digest_9 15 rfl rfl)
theorem dX1_digest_227 : decode cX1_digest 227 = .ok (.istore_n 3, 1) := dk_62 (dk_at dksX1_digest_9 16 rfl rfl)
theorem dX1_digest_228 : decode cX1_digest 228 = .ok (.iconst 0, 1) := dk_3 (dk_at dksX1_digest_9 17 rfl rfl)
theorem dX1_digest_229 : decode cX1_digest 229 = .ok (.istore 4, 2) := dk_54 4 (dk_at dksX1_digest_9 18 rfl rfl)
theorem dX1_digest_231 : decode cX1_digest 231 = .ok (.iload 4, 2) := dk_21 4 (dk_at dksX1_digest_9 20 rfl rfl)
theorem dX1_digest_233 : decode cX1_digest 233 = .ok (.iload_n 3, 1) := dk_29 (dk_at dksX1_digest_9 22 rfl rfl)
theorem dX1_digest_234 : decode cX1_digest 234 = .ok (.if_icmp .ge 22, 3) := dk_162 0 22 (dk_at dksX1_digest_10 0 rfl rfl)
theorem dX1_digest_237 : decode cX1_digest 237 = .ok (.aload_n 2, 1) := dk_44 (dk_at dksX1_digest_10 3 rfl rfl)
theorem dX1_digest_238 : decode cX1_digest 238 = .ok (.iload 4, 2) := dk_21 4 (dk_at dksX1_digest_10 4 rfl rfl)
theorem dX1_digest_240 : decode cX1_digest 240 = .ok (.iaload, 1) := dk_46 (dk_at dksX1_digest_10 6 rfl rfl)
theorem dX1_digest_241 : decode cX1_digest 241 = .ok (.istore 5, 2) := dk_54 5 (dk_at dksX1_digest_10 7 rfl rfl)
theorem dX1_digest_243 : decode cX1_digest 243 = .ok (.aload_n 0, 1) := dk_42 (dk_at dksX1_digest_10 9 rfl rfl)
theorem dX1_digest_244 : decode cX1_digest 244 = .ok (.iload 5, 2) := dk_21 5 (dk_at dksX1_digest_10 10 rfl rfl)
theorem dX1_digest_246 : decode cX1_digest 246 = .ok (.invokevirtual 335, 3) := dk_182 1 79 (dk_at dksX1_digest_10 12 rfl rfl)
theorem dX1_digest_249 : decode cX1_digest 249 = .ok (.pop2, 1) := dk_88 (dk_at dksX1_digest_10 15 rfl rfl)
theorem dX1_digest_250 : decode cX1_digest 250 = .ok (.iinc 4 1, 3) := dk_132 4 1 (dk_at dksX1_digest_10 16 rfl rfl)
theorem dX1_digest_253 : decode cX1_digest 253 = .ok (.goto (-22), 3) := dk_167 255 234 (dk_at dksX1_digest_10 19 rfl rfl)
theorem dX1_digest_256 : decode cX1_digest 256 = .ok (.iconst 0, 1) := dk_3 (dk_at dksX1_digest_10 22 rfl rfl)
theorem dX1_digest_257 : decode cX1_digest 257 = .ok (.istore_n 2, 1) := dk_61 (dk_at dksX1_digest_10 23 rfl rfl)
theorem dX1_digest_258 : decode cX1_digest 258 = .ok (.iload_n 2, 1) := dk_28 (dk_at dksX1_digest_11 0 rfl rfl)
theorem dX1_digest_259 : decode cX1_digest 259 = .ok (.bipush 9, 2) := dk_16 9 (dk_at dksX1_digest_11 1 rfl rfl)
theorem dX1_digest_261 : decode cX1_digest 261 = .ok (.if_icmp .gt 20, 3) := dk_163 0 20 (dk_at dksX1_digest_11 3 rfl rfl)
theorem dX1_digest_264 : decode cX1_digest 264 = .ok (.aload_n 0, 1) := dk_42 (dk_at dksX1_digest_11 6 rfl rfl)
theorem dX1_digest_265 : decode cX1_digest 265 = .ok (.aload_n 0, 1) := dk_42 (dk_at dksX1_digest_11 7 rfl rfl)
theorem dX1_digest_266 : decode cX1_digest 266 = .ok (.iload_n 1, 1) := dk_27 (dk_at dksX1_digest_11 8 rfl rfl)
theorem dX1_digest_267 : decode cX1_digest 267 = .ok (.iload_n 2, 1) := dk_28 (dk_at dksX1_digest_11 9 rfl rfl)
theorem dX1_digest_268 : decode cX1_digest 268 = .ok (.invokevirtual 262, 3) := dk_182 1 6 (dk_at dksX1_digest_11 10 rfl rfl)
theorem dX1_digest_271 : decode cX1_digest 271 = .ok (.invokevirtual 335, 3) := dk_182 1 79 (dk_at dksX1_digest_11 13 rfl rfl)
theorem dX1_digest_274 : decode cX1_digest 274 = .ok (.pop2, 1) := dk_88 (dk_at dksX1_digest_11 16 rfl rfl)
theorem dX1_digest_275 : decode cX1_digest 275 = .ok (.iinc 2 1, 3) := dk_132 2 1 (dk_at dksX1_digest_11 17 rfl rfl)
theorem dX1_digest_278 : decode cX1_digest 278 = .ok (.goto (-20), 3) := dk_167 255 236 (dk_at dksX1_digest_11 20 rfl rfl)
theorem dX1_digest_281 : decode cX1_digest 281 = .ok (.aload_n 0, 1) := dk_42 (dk_at dksX1_digest_11 23 rfl rfl)
theorem dX1_digest_282 : decode cX1_digest 282 = .ok (.aload_n 0, 1) := dk_42 (dk_at dksX1_digest_12 0 rfl rfl)
theorem dX1_digest_283 : decode cX1_digest 283 = .ok (.getfield 39, 3) := dk_180 0 39 (dk_at dksX1_digest_12 1 rfl rfl)
theorem dX1_digest_286 : decode cX1_digest 286 = .ok (.iload_n 1, 1) := dk_27 (dk_at dksX1_digest_12 4 rfl rfl)
theorem dX1_digest_287 : decode cX1_digest 287 = .ok (.invokevirtual 68, 3) := dk_182 0 68 (dk_at dksX1_digest_12 5 rfl rfl)
theorem dX1_digest_290 : decode cX1_digest 290 = .ok (.checkcast 74, 3) := dk_192 0 74 (dk_at dksX1_digest_12 8 rfl rfl)
theorem dX1_digest_293 : decode cX1_digest 293 = .ok (.invokevirtual 265, 3) := dk_182 1 9 (dk_at dksX1_digest_12 11 rfl rfl)
theorem dX1_digest_296 : decode cX1_digest 296 = .ok (.invokevirtual 338, 3) := dk_182 1 82 (dk_at dksX1_digest_12 14 rfl rfl)
theorem dX1_digest_299 : decode cX1_digest 299 = .ok (.invokevirtual 335, 3) := dk_182 1 79 (dk_at dksX1_digest_12 17 rfl rfl)
theorem dX1_digest_302 : decode cX1_digest 302 = .ok (.pop2, 1) := dk_88 (dk_at dksX1_digest_12 20 rfl rfl)
theorem dX1_digest_303 : decode cX1_digest 303 = .ok (.iinc 1 1, 3) := dk_132 1 1 (dk_at dksX1_digest_12 21 rfl rfl)
theorem dX1_digest_306 : decode cX1_digest 306 = .ok (.goto (-107), 3) := dk_167 255 149 (dk_at dksX1_digest_13 0 rfl rfl)
theorem dX1_digest_309 : decode cX1_digest 309 = .ok (.aload_n 0, 1) := dk_42 (dk_at dksX1_digest_13 3 rfl rfl)
theorem dX1_digest_310 : decode cX1_digest 310 = .ok (.getfield 327, 3) := dk_180 1 71 (dk_at dksX1_digest_13 4 rfl rfl)
theorem dX1_digest_313 : decode cX1_digest 313 = .ok (.lreturn, 1) := dk_173 (dk_at dksX1_digest_13 7 rfl rfl)
abbrev cX1_manyNow : ByteArray := prog_1_method_51_code
def yX1_manyNow : MethodName := ⟨RX1, "manyNow", "(I)I"⟩
def dkwX1_manyNow_4 : List UInt8 := [182, 1, 36, 140, 136, 172]
abbrev dktX1_manyNow_4 : List UInt8 := dkwX1_manyNow_4 ++ []
def dkwX1_manyNow_3 : List UInt8 := [182, 1, 43, 172, 42, 4, 182, 1, 46, 172, 42, 3, 182, 1, 46, 172, 42, 180, 0, 217, 172, 42]
abbrev dktX1_manyNow_3 : List UInt8 := dkwX1_manyNow_3 ++ dktX1_manyNow_4
def dkwX1_manyNow_2 : List UInt8 := [42, 180, 0, 13, 172, 42, 180, 0, 35, 182, 0, 60, 172, 42, 180, 0, 39, 182, 0, 60, 172, 42]
abbrev dktX1_manyNow_2 : List UInt8 := dkwX1_manyNow_2 ++ dktX1_manyNow_3
def dkwX1_manyNow_1 : List UInt8 := [170, 0, 0, 0, 0, 0, 86, 0, 0, 0, 0, 0, 0, 0, 6, 0, 0, 0, 43, 0, 0, 0, 48, 0, 0, 0, 56, 0, 0, 0, 64, 0, 0, 0, 69, 0, 0, 0, 75, 0, 0, 0, 81]
abbrev dktX1_manyNow_1 : List UInt8 := dkwX1_manyNow_1 ++ dktX1_manyNow_2
def dkwX1_manyNow_0 : List UInt8 := [27]
abbrev dktX1_manyNow_0 : List UInt8 := dkwX1_manyNow_0 ++ dktX1_manyNow_1
theorem dksX1_manyNow_0 : cX1_manyNow.data.toList.drop 0 = dktX1_manyNow_0 := by decide +kernel
theorem dksX1_manyNow_1 : cX1_manyNow.data.toList.drop 1 = dktX1_manyNow_1 := dk_seg dksX1_manyNow_0 1 rfl rfl
theorem dksX1_manyNow_2 : cX1_manyNow.data.toList.drop 44 = dktX1_manyNow_2 := dk_seg dksX1_manyNow_1 43 rfl rfl
theorem dksX1_manyNow_3 : cX1_manyNow.data.toList.drop 66 = dktX1_manyNow_3 := dk_seg dksX1_manyNow_2 22 rfl rfl
theorem dksX1_manyNow_4 : cX1_manyNow.data.toList.drop 88 = dktX1_manyNow_4 := dk_seg dksX1_manyNow_3 22 rfl rfl
theorem dX1_manyNow_0 : decode cX1_manyNow 0 = .ok (.iload_n 1, 1) := dk_27 (dk_at dksX1_manyNow_0 0 rfl rfl)
theorem dX1_manyNow_1 : decode cX1_manyNow 1 = .ok (.tableswitch 86 0 6 #[43, 48, 56, 64, 69, 75, 81], 43) := by decide +kernel
theorem dX1_manyNow_44 : decode cX1_manyNow 44 = .ok (.aload_n 0, 1) := dk_42 (dk_at dksX1_manyNow_2 0 rfl rfl)
theorem dX1_manyNow_45 : decode cX1_manyNow 45 = .ok (.getfield 13, 3) := dk_180 0 13 (dk_at dksX1_manyNow_2 1 rfl rfl)
theorem dX1_manyNow_48 : decode cX1_manyNow 48 = .ok (.ireturn, 1) := dk_172 (dk_at dksX1_manyNow_2 4 rfl rfl)
theorem dX1_manyNow_49 : decode cX1_manyNow 49 = .ok (.aload_n 0, 1) := dk_42 (dk_at dksX1_manyNow_2 5 rfl rfl)
theorem dX1_manyNow_50 : decode cX1_manyNow 50 = .ok (.getfield 35, 3) := dk_180 0 35 (dk_at dksX1_manyNow_2 6 rfl rfl)
theorem dX1_manyNow_53 : decode cX1_manyNow 53 = .ok (.invokevirtual 60, 3) := dk_182 0 60 (dk_at dksX1_manyNow_2 9 rfl rfl)
theorem dX1_manyNow_56 : decode cX1_manyNow 56 = .ok (.ireturn, 1) := dk_172 (dk_at dksX1_manyNow_2 12 rfl rfl)
theorem dX1_manyNow_57 : decode cX1_manyNow 57 = .ok (.aload_n 0, 1) := dk_42 (dk_at dksX1_manyNow_2 13 rfl rfl)
theorem dX1_manyNow_58 : decode cX1_manyNow 58 = .ok (.getfield 39, 3) := dk_180 0 39 (dk_at dksX1_manyNow_2 14 rfl rfl)
theorem dX1_manyNow_61 : decode cX1_manyNow 61 = .ok (.invokevirtual 60, 3) := dk_182 0 60 (dk_at dksX1_manyNow_2 17 rfl rfl)
theorem dX1_manyNow_64 : decode cX1_manyNow 64 = .ok (.ireturn, 1) := dk_172 (dk_at dksX1_manyNow_2 20 rfl rfl)
theorem dX1_manyNow_65 : decode cX1_manyNow 65 = .ok (.aload_n 0, 1) := dk_42 (dk_at dksX1_manyNow_2 21 rfl rfl)
theorem dX1_manyNow_66 : decode cX1_manyNow 66 = .ok (.invokevirtual 299, 3) := dk_182 1 43 (dk_at dksX1_manyNow_3 0 rfl rfl)
theorem dX1_manyNow_69 : decode cX1_manyNow 69 = .ok (.ireturn, 1) := dk_172 (dk_at dksX1_manyNow_3 3 rfl rfl)
theorem dX1_manyNow_70 : decode cX1_manyNow 70 = .ok (.aload_n 0, 1) := dk_42 (dk_at dksX1_manyNow_3 4 rfl rfl)
theorem dX1_manyNow_71 : decode cX1_manyNow 71 = .ok (.iconst 1, 1) := dk_4 (dk_at dksX1_manyNow_3 5 rfl rfl)
theorem dX1_manyNow_72 : decode cX1_manyNow 72 = .ok (.invokevirtual 302, 3) := dk_182 1 46 (dk_at dksX1_manyNow_3 6 rfl rfl)
theorem dX1_manyNow_75 : decode cX1_manyNow 75 = .ok (.ireturn, 1) := dk_172 (dk_at dksX1_manyNow_3 9 rfl rfl)
theorem dX1_manyNow_76 : decode cX1_manyNow 76 = .ok (.aload_n 0, 1) := dk_42 (dk_at dksX1_manyNow_3 10 rfl rfl)
theorem dX1_manyNow_77 : decode cX1_manyNow 77 = .ok (.iconst 0, 1) := dk_3 (dk_at dksX1_manyNow_3 11 rfl rfl)
theorem dX1_manyNow_78 : decode cX1_manyNow 78 = .ok (.invokevirtual 302, 3) := dk_182 1 46 (dk_at dksX1_manyNow_3 12 rfl rfl)
theorem dX1_manyNow_81 : decode cX1_manyNow 81 = .ok (.ireturn, 1) := dk_172 (dk_at dksX1_manyNow_3 15 rfl rfl)
theorem dX1_manyNow_82 : decode cX1_manyNow 82 = .ok (.aload_n 0, 1) := dk_42 (dk_at dksX1_manyNow_3 16 rfl rfl)
theorem dX1_manyNow_83 : decode cX1_manyNow 83 = .ok (.getfield 217, 3) := dk_180 0 217 (dk_at dksX1_manyNow_3 17 rfl rfl)
theorem dX1_manyNow_86 : decode cX1_manyNow 86 = .ok (.ireturn, 1) := dk_172 (dk_at dksX1_manyNow_3 20 rfl rfl)
theorem dX1_manyNow_87 : decode cX1_manyNow 87 = .ok (.aload_n 0, 1) := dk_42 (dk_at dksX1_manyNow_3 21 rfl rfl)
theorem dX1_manyNow_88 : decode cX1_manyNow 88 = .ok (.invokevirtual 292, 3) := dk_182 1 36 (dk_at dksX1_manyNow_4 0 rfl rfl)
theorem dX1_manyNow_91 : decode cX1_manyNow 91 = .ok (.f2l, 1) := dk_140 (dk_at dksX1_manyNow_4 3 rfl rfl)
theorem dX1_manyNow_92 : decode cX1_manyNow 92 = .ok (.l2i, 1) := dk_136 (dk_at dksX1_manyNow_4 4 rfl rfl)
theorem dX1_manyNow_93 : decode cX1_manyNow 93 = .ok (.ireturn, 1) := dk_172 (dk_at dksX1_manyNow_4 5 rfl rfl)
abbrev cX1_unitsNow : ByteArray := prog_1_method_49_code
def yX1_unitsNow : MethodName := ⟨RX1, "unitsNow", "()I"⟩
def dkwX1_unitsNow_1 : List UInt8 := [185, 0, 105, 1, 0, 192, 0, 72, 78, 27, 45, 182, 0, 131, 96, 60, 167, 255, 230, 27, 172]
abbrev dktX1_unitsNow_1 : List UInt8 := dkwX1_unitsNow_1 ++ []
def dkwX1_unitsNow_0 : List UInt8 := [3, 60, 42, 180, 0, 35, 182, 0, 96, 77, 44, 185, 0, 100, 1, 0, 153, 0, 23, 44]
abbrev dktX1_unitsNow_0 : List UInt8 := dkwX1_unitsNow_0 ++ dktX1_unitsNow_1
theorem dksX1_unitsNow_0 : cX1_unitsNow.data.toList.drop 0 = dktX1_unitsNow_0 := by decide +kernel
theorem dksX1_unitsNow_1 : cX1_unitsNow.data.toList.drop 20 = dktX1_unitsNow_1 := dk_seg dksX1_unitsNow_0 20 rfl rfl
theorem dX1_unitsNow_0 : decode cX1_unitsNow 0 = .ok (.iconst 0, 1) := dk_3 (dk_at dksX1_unitsNow_0 0 rfl rfl)
theorem dX1_unitsNow_1 : decode cX1_unitsNow 1 = .ok (.istore_n 1, 1) := dk_60 (dk_at dksX1_unitsNow_0 1 rfl rfl)
theorem dX1_unitsNow_2 : decode cX1_unitsNow 2 = .ok (.aload_n 0, 1) := dk_42 (dk_at dksX1_unitsNow_0 2 rfl rfl)
theorem dX1_unitsNow_3 : decode cX1_unitsNow 3 = .ok (.getfield 35, 3) := dk_180 0 35 (dk_at dksX1_unitsNow_0 3 rfl rfl)
theorem dX1_unitsNow_6 : decode cX1_unitsNow 6 = .ok (.invokevirtual 96, 3) := dk_182 0 96 (dk_at dksX1_unitsNow_0 6 rfl rfl)
theorem dX1_unitsNow_9 : decode cX1_unitsNow 9 = .ok (.astore_n 2, 1) := dk_77 (dk_at dksX1_unitsNow_0 9 rfl rfl)
theorem dX1_unitsNow_10 : decode cX1_unitsNow 10 = .ok (.aload_n 2, 1) := dk_44 (dk_at dksX1_unitsNow_0 10 rfl rfl)
theorem dX1_unitsNow_11 : decode cX1_unitsNow 11 = .ok (.invokeinterface 100 1, 5) := by decide +kernel
theorem dX1_unitsNow_16 : decode cX1_unitsNow 16 = .ok (.ifCond .eq 23, 3) := dk_153 0 23 (dk_at dksX1_unitsNow_0 16 rfl rfl)
theorem dX1_unitsNow_19 : decode cX1_unitsNow 19 = .ok (.aload_n 2, 1) := dk_44 (dk_at dksX1_unitsNow_0 19 rfl rfl)
theorem dX1_unitsNow_20 : decode cX1_unitsNow 20 = .ok (.invokeinterface 105 1, 5) := by decide +kernel
theorem dX1_unitsNow_25 : decode cX1_unitsNow 25 = .ok (.checkcast 72, 3) := dk_192 0 72 (dk_at dksX1_unitsNow_1 5 rfl rfl)
theorem dX1_unitsNow_28 : decode cX1_unitsNow 28 = .ok (.astore_n 3, 1) := dk_78 (dk_at dksX1_unitsNow_1 8 rfl rfl)
theorem dX1_unitsNow_29 : decode cX1_unitsNow 29 = .ok (.iload_n 1, 1) := dk_27 (dk_at dksX1_unitsNow_1 9 rfl rfl)
theorem dX1_unitsNow_30 : decode cX1_unitsNow 30 = .ok (.aload_n 3, 1) := dk_45 (dk_at dksX1_unitsNow_1 10 rfl rfl)
theorem dX1_unitsNow_31 : decode cX1_unitsNow 31 = .ok (.invokevirtual 131, 3) := dk_182 0 131 (dk_at dksX1_unitsNow_1 11 rfl rfl)
theorem dX1_unitsNow_34 : decode cX1_unitsNow 34 = .ok (.iadd, 1) := dk_96 (dk_at dksX1_unitsNow_1 14 rfl rfl)
theorem dX1_unitsNow_35 : decode cX1_unitsNow 35 = .ok (.istore_n 1, 1) := dk_60 (dk_at dksX1_unitsNow_1 15 rfl rfl)
theorem dX1_unitsNow_36 : decode cX1_unitsNow 36 = .ok (.goto (-26), 3) := dk_167 255 230 (dk_at dksX1_unitsNow_1 16 rfl rfl)
theorem dX1_unitsNow_39 : decode cX1_unitsNow 39 = .ok (.iload_n 1, 1) := dk_27 (dk_at dksX1_unitsNow_1 19 rfl rfl)
theorem dX1_unitsNow_40 : decode cX1_unitsNow 40 = .ok (.ireturn, 1) := dk_172 (dk_at dksX1_unitsNow_1 20 rfl rfl)
abbrev cX1_elementsNow : ByteArray := prog_1_method_50_code
def yX1_elementsNow : MethodName := ⟨RX1, "elementsNow", "(Z)I"⟩
def dkwX1_elementsNow_2 : List UInt8 := [167, 0, 11, 25, 4, 182, 0, 244, 154, 0, 7, 4, 167, 0, 4, 3, 96, 61, 167, 255, 205, 28, 172]
abbrev dktX1_elementsNow_2 : List UInt8 := dkwX1_elementsNow_2 ++ []
def dkwX1_elementsNow_1 : List UInt8 := [185, 0, 105, 1, 0, 192, 0, 74, 58, 4, 28, 27, 153, 0, 14, 25, 4, 182, 0, 247, 153, 0, 18]
abbrev dktX1_elementsNow_1 : List UInt8 := dkwX1_elementsNow_1 ++ dktX1_elementsNow_2
def dkwX1_elementsNow_0 : List UInt8 := [3, 61, 42, 180, 0, 39, 182, 0, 96, 78, 45, 185, 0, 100, 1, 0, 153, 0, 48, 45]
abbrev dktX1_elementsNow_0 : List UInt8 := dkwX1_elementsNow_0 ++ dktX1_elementsNow_1
theorem dksX1_elementsNow_0 : cX1_elementsNow.data.toList.drop 0 = dktX1_elementsNow_0 := by decide +kernel
theorem dksX1_elementsNow_1 : cX1_elementsNow.data.toList.drop 20 = dktX1_elementsNow_1 := dk_seg dksX1_elementsNow_0 20 rfl rfl
theorem dksX1_elementsNow_2 : cX1_elementsNow.data.toList.drop 43 = dktX1_elementsNow_2 := dk_seg dksX1_elementsNow_1 23 rfl rfl
theorem dX1_elementsNow_0 : decode cX1_elementsNow 0 = .ok (.iconst 0, 1) := dk_3 (dk_at dksX1_elementsNow_0 0 rfl rfl)
theorem dX1_elementsNow_1 : decode cX1_elementsNow 1 = .ok (.istore_n 2, 1) := dk_61 (dk_at dksX1_elementsNow_0 1 rfl rfl)
theorem dX1_elementsNow_2 : decode cX1_elementsNow 2 = .ok (.aload_n 0, 1) := dk_42 (dk_at dksX1_elementsNow_0 2 rfl rfl)
theorem dX1_elementsNow_3 : decode cX1_elementsNow 3 = .ok (.getfield 39, 3) := dk_180 0 39 (dk_at dksX1_elementsNow_0 3 rfl rfl)
theorem dX1_elementsNow_6 : decode cX1_elementsNow 6 = .ok (.invokevirtual 96, 3) := dk_182 0 96 (dk_at dksX1_elementsNow_0 6 rfl rfl)
theorem dX1_elementsNow_9 : decode cX1_elementsNow 9 = .ok (.astore_n 3, 1) := dk_78 (dk_at dksX1_elementsNow_0 9 rfl rfl)
theorem dX1_elementsNow_10 : decode cX1_elementsNow 10 = .ok (.aload_n 3, 1) := dk_45 (dk_at dksX1_elementsNow_0 10 rfl rfl)
theorem dX1_elementsNow_11 : decode cX1_elementsNow 11 = .ok (.invokeinterface 100 1, 5) := by decide +kernel
theorem dX1_elementsNow_16 : decode cX1_elementsNow 16 = .ok (.ifCond .eq 48, 3) := dk_153 0 48 (dk_at dksX1_elementsNow_0 16 rfl rfl)
theorem dX1_elementsNow_19 : decode cX1_elementsNow 19 = .ok (.aload_n 3, 1) := dk_45 (dk_at dksX1_elementsNow_0 19 rfl rfl)
theorem dX1_elementsNow_20 : decode cX1_elementsNow 20 = .ok (.invokeinterface 105 1, 5) := by decide +kernel
theorem dX1_elementsNow_25 : decode cX1_elementsNow 25 = .ok (.checkcast 74, 3) := dk_192 0 74 (dk_at dksX1_elementsNow_1 5 rfl rfl)
theorem dX1_elementsNow_28 : decode cX1_elementsNow 28 = .ok (.astore 4, 2) := dk_58 4 (dk_at dksX1_elementsNow_1 8 rfl rfl)
theorem dX1_elementsNow_30 : decode cX1_elementsNow 30 = .ok (.iload_n 2, 1) := dk_28 (dk_at dksX1_elementsNow_1 10 rfl rfl)
theorem dX1_elementsNow_31 : decode cX1_elementsNow 31 = .ok (.iload_n 1, 1) := dk_27 (dk_at dksX1_elementsNow_1 11 rfl rfl)
theorem dX1_elementsNow_32 : decode cX1_elementsNow 32 = .ok (.ifCond .eq 14, 3) := dk_153 0 14 (dk_at dksX1_elementsNow_1 12 rfl rfl)
theorem dX1_elementsNow_35 : decode cX1_elementsNow 35 = .ok (.aload 4, 2) := dk_25 4 (dk_at dksX1_elementsNow_1 15 rfl rfl)
theorem dX1_elementsNow_37 : decode cX1_elementsNow 37 = .ok (.invokevirtual 247, 3) := dk_182 0 247 (dk_at dksX1_elementsNow_1 17 rfl rfl)
theorem dX1_elementsNow_40 : decode cX1_elementsNow 40 = .ok (.ifCond .eq 18, 3) := dk_153 0 18 (dk_at dksX1_elementsNow_1 20 rfl rfl)
theorem dX1_elementsNow_43 : decode cX1_elementsNow 43 = .ok (.goto 11, 3) := dk_167 0 11 (dk_at dksX1_elementsNow_2 0 rfl rfl)
theorem dX1_elementsNow_46 : decode cX1_elementsNow 46 = .ok (.aload 4, 2) := dk_25 4 (dk_at dksX1_elementsNow_2 3 rfl rfl)
theorem dX1_elementsNow_48 : decode cX1_elementsNow 48 = .ok (.invokevirtual 244, 3) := dk_182 0 244 (dk_at dksX1_elementsNow_2 5 rfl rfl)
theorem dX1_elementsNow_51 : decode cX1_elementsNow 51 = .ok (.ifCond .ne 7, 3) := dk_154 0 7 (dk_at dksX1_elementsNow_2 8 rfl rfl)
theorem dX1_elementsNow_54 : decode cX1_elementsNow 54 = .ok (.iconst 1, 1) := dk_4 (dk_at dksX1_elementsNow_2 11 rfl rfl)
theorem dX1_elementsNow_55 : decode cX1_elementsNow 55 = .ok (.goto 4, 3) := dk_167 0 4 (dk_at dksX1_elementsNow_2 12 rfl rfl)
theorem dX1_elementsNow_58 : decode cX1_elementsNow 58 = .ok (.iconst 0, 1) := dk_3 (dk_at dksX1_elementsNow_2 15 rfl rfl)
theorem dX1_elementsNow_59 : decode cX1_elementsNow 59 = .ok (.iadd, 1) := dk_96 (dk_at dksX1_elementsNow_2 16 rfl rfl)
theorem dX1_elementsNow_60 : decode cX1_elementsNow 60 = .ok (.istore_n 2, 1) := dk_61 (dk_at dksX1_elementsNow_2 17 rfl rfl)
theorem dX1_elementsNow_61 : decode cX1_elementsNow 61 = .ok (.goto (-51), 3) := dk_167 255 205 (dk_at dksX1_elementsNow_2 18 rfl rfl)
theorem dX1_elementsNow_64 : decode cX1_elementsNow 64 = .ok (.iload_n 2, 1) := dk_28 (dk_at dksX1_elementsNow_2 21 rfl rfl)
theorem dX1_elementsNow_65 : decode cX1_elementsNow 65 = .ok (.ireturn, 1) := dk_172 (dk_at dksX1_elementsNow_2 22 rfl rfl)
abbrev cX1_isFrom : ByteArray := prog_1_method_4_code
def yX1_isFrom : MethodName := ⟨RX1, "isFrom", "(III)Z"⟩
def dkwX1_isFrom_0 : List UInt8 := [28, 26, 161, 0, 12, 28, 27, 163, 0, 7, 4, 167, 0, 4, 3, 172]
abbrev dktX1_isFrom_0 : List UInt8 := dkwX1_isFrom_0 ++ []
theorem dksX1_isFrom_0 : cX1_isFrom.data.toList.drop 0 = dktX1_isFrom_0 := by decide +kernel
theorem dX1_isFrom_0 : decode cX1_isFrom 0 = .ok (.iload_n 2, 1) := dk_28 (dk_at dksX1_isFrom_0 0 rfl rfl)
theorem dX1_isFrom_1 : decode cX1_isFrom 1 = .ok (.iload_n 0, 1) := dk_26 (dk_at dksX1_isFrom_0 1 rfl rfl)
theorem dX1_isFrom_2 : decode cX1_isFrom 2 = .ok (.if_icmp .lt 12, 3) := dk_161 0 12 (dk_at dksX1_isFrom_0 2 rfl rfl)
theorem dX1_isFrom_5 : decode cX1_isFrom 5 = .ok (.iload_n 2, 1) := dk_28 (dk_at dksX1_isFrom_0 5 rfl rfl)
theorem dX1_isFrom_6 : decode cX1_isFrom 6 = .ok (.iload_n 1, 1) := dk_27 (dk_at dksX1_isFrom_0 6 rfl rfl)
theorem dX1_isFrom_7 : decode cX1_isFrom 7 = .ok (.if_icmp .gt 7, 3) := dk_163 0 7 (dk_at dksX1_isFrom_0 7 rfl rfl)
theorem dX1_isFrom_10 : decode cX1_isFrom 10 = .ok (.iconst 1, 1) := dk_4 (dk_at dksX1_isFrom_0 10 rfl rfl)
theorem dX1_isFrom_11 : decode cX1_isFrom 11 = .ok (.goto 4, 3) := dk_167 0 4 (dk_at dksX1_isFrom_0 11 rfl rfl)
theorem dX1_isFrom_14 : decode cX1_isFrom 14 = .ok (.iconst 0, 1) := dk_3 (dk_at dksX1_isFrom_0 14 rfl rfl)
theorem dX1_isFrom_15 : decode cX1_isFrom 15 = .ok (.ireturn, 1) := dk_172 (dk_at dksX1_isFrom_0 15 rfl rfl)
abbrev cX1_mod : ByteArray := prog_1_method_5_code
def yX1_mod : MethodName := ⟨RX1, "mod", "(I)I"⟩
def dkwX1_mod_0 : List UInt8 := [27, 42, 180, 0, 13, 184, 0, 19, 172]
abbrev dktX1_mod_0 : List UInt8 := dkwX1_mod_0 ++ []
theorem dksX1_mod_0 : cX1_mod.data.toList.drop 0 = dktX1_mod_0 := by decide +kernel
theorem dX1_mod_0 : decode cX1_mod 0 = .ok (.iload_n 1, 1) := dk_27 (dk_at dksX1_mod_0 0 rfl rfl)
theorem dX1_mod_1 : decode cX1_mod 1 = .ok (.aload_n 0, 1) := dk_42 (dk_at dksX1_mod_0 1 rfl rfl)
theorem dX1_mod_2 : decode cX1_mod 2 = .ok (.getfield 13, 3) := dk_180 0 13 (dk_at dksX1_mod_0 2 rfl rfl)
theorem dX1_mod_5 : decode cX1_mod 5 = .ok (.invokestatic 19, 3) := dk_184 0 19 (dk_at dksX1_mod_0 5 rfl rfl)
theorem dX1_mod_8 : decode cX1_mod 8 = .ok (.ireturn, 1) := dk_172 (dk_at dksX1_mod_0 8 rfl rfl)
abbrev cX1_add : ByteArray := prog_1_method_60_code
def yX1_add : MethodName := ⟨RX1, "add", "(I)J"⟩
def dkwX1_add_0 : List UInt8 := [42, 42, 180, 1, 71, 20, 1, 75, 105, 27, 133, 97, 93, 181, 1, 71, 65, 32, 173]
abbrev dktX1_add_0 : List UInt8 := dkwX1_add_0 ++ []
theorem dksX1_add_0 : cX1_add.data.toList.drop 0 = dktX1_add_0 := by decide +kernel
theorem dX1_add_0 : decode cX1_add 0 = .ok (.aload_n 0, 1) := dk_42 (dk_at dksX1_add_0 0 rfl rfl)
theorem dX1_add_1 : decode cX1_add 1 = .ok (.aload_n 0, 1) := dk_42 (dk_at dksX1_add_0 1 rfl rfl)
theorem dX1_add_2 : decode cX1_add 2 = .ok (.getfield 327, 3) := dk_180 1 71 (dk_at dksX1_add_0 2 rfl rfl)
theorem dX1_add_5 : decode cX1_add 5 = .ok (.ldc2_w 331, 3) := dk_20 1 75 (dk_at dksX1_add_0 5 rfl rfl)
theorem dX1_add_8 : decode cX1_add 8 = .ok (.lmul, 1) := dk_105 (dk_at dksX1_add_0 8 rfl rfl)
theorem dX1_add_9 : decode cX1_add 9 = .ok (.iload_n 1, 1) := dk_27 (dk_at dksX1_add_0 9 rfl rfl)
theorem dX1_add_10 : decode cX1_add 10 = .ok (.i2l, 1) := dk_133 (dk_at dksX1_add_0 10 rfl rfl)
theorem dX1_add_11 : decode cX1_add 11 = .ok (.ladd, 1) := dk_97 (dk_at dksX1_add_0 11 rfl rfl)
theorem dX1_add_12 : decode cX1_add 12 = .ok (.dup2_x1, 1) := dk_93 (dk_at dksX1_add_0 12 rfl rfl)
theorem dX1_add_13 : decode cX1_add 13 = .ok (.putfield 327, 3) := dk_181 1 71 (dk_at dksX1_add_0 13 rfl rfl)
theorem dX1_add_16 : decode cX1_add 16 = .ok (.lstore_n 2, 1) := dk_65 (dk_at dksX1_add_0 16 rfl rfl)
theorem dX1_add_17 : decode cX1_add 17 = .ok (.lload_n 2, 1) := dk_32 (dk_at dksX1_add_0 17 rfl rfl)
theorem dX1_add_18 : decode cX1_add 18 = .ok (.lreturn, 1) := dk_173 (dk_at dksX1_add_0 18 rfl rfl)
abbrev cX1_ofAlgebraNow : ByteArray := prog_1_method_41_code
def yX1_ofAlgebraNow : MethodName := ⟨RX1, "ofAlgebraNow", "(II)I"⟩
def dkwX1_ofAlgebraNow_3 : List UInt8 := [182, 0, 124, 172, 45, 182, 1, 19, 172, 45, 180, 0, 195, 182, 0, 60, 172]
abbrev dktX1_ofAlgebraNow_3 : List UInt8 := dkwX1_ofAlgebraNow_3 ++ []
def dkwX1_ofAlgebraNow_2 : List UInt8 := [45, 180, 1, 13, 182, 1, 16, 172, 45, 180, 0, 121, 182, 0, 60, 172, 45, 182, 0, 131, 172, 42, 45]
abbrev dktX1_ofAlgebraNow_2 : List UInt8 := dkwX1_ofAlgebraNow_2 ++ dktX1_ofAlgebraNow_3
def dkwX1_ofAlgebraNow_1 : List UInt8 := [170, 0, 0, 0, 0, 0, 67, 0, 0, 0, 0, 0, 0, 0, 4, 0, 0, 0, 35, 0, 0, 0, 43, 0, 0, 0, 51, 0, 0, 0, 56, 0, 0, 0, 62]
abbrev dktX1_ofAlgebraNow_1 : List UInt8 := dkwX1_ofAlgebraNow_1 ++ dktX1_ofAlgebraNow_2
def dkwX1_ofAlgebraNow_0 : List UInt8 := [42, 180, 0, 35, 27, 182, 0, 68, 192, 0, 72, 78, 28]
abbrev dktX1_ofAlgebraNow_0 : List UInt8 := dkwX1_ofAlgebraNow_0 ++ dktX1_ofAlgebraNow_1
theorem dksX1_ofAlgebraNow_0 : cX1_ofAlgebraNow.data.toList.drop 0 = dktX1_ofAlgebraNow_0 := by decide +kernel
theorem dksX1_ofAlgebraNow_1 : cX1_ofAlgebraNow.data.toList.drop 13 = dktX1_ofAlgebraNow_1 := dk_seg dksX1_ofAlgebraNow_0 13 rfl rfl
theorem dksX1_ofAlgebraNow_2 : cX1_ofAlgebraNow.data.toList.drop 48 = dktX1_ofAlgebraNow_2 := dk_seg dksX1_ofAlgebraNow_1 35 rfl rfl
theorem dksX1_ofAlgebraNow_3 : cX1_ofAlgebraNow.data.toList.drop 71 = dktX1_ofAlgebraNow_3 := dk_seg dksX1_ofAlgebraNow_2 23 rfl rfl
theorem dX1_ofAlgebraNow_0 : decode cX1_ofAlgebraNow 0 = .ok (.aload_n 0, 1) := dk_42 (dk_at dksX1_ofAlgebraNow_0 0 rfl rfl)
theorem dX1_ofAlgebraNow_1 : decode cX1_ofAlgebraNow 1 = .ok (.getfield 35, 3) := dk_180 0 35 (dk_at dksX1_ofAlgebraNow_0 1 rfl rfl)
theorem dX1_ofAlgebraNow_4 : decode cX1_ofAlgebraNow 4 = .ok (.iload_n 1, 1) := dk_27 (dk_at dksX1_ofAlgebraNow_0 4 rfl rfl)
theorem dX1_ofAlgebraNow_5 : decode cX1_ofAlgebraNow 5 = .ok (.invokevirtual 68, 3) := dk_182 0 68 (dk_at dksX1_ofAlgebraNow_0 5 rfl rfl)
theorem dX1_ofAlgebraNow_8 : decode cX1_ofAlgebraNow 8 = .ok (.checkcast 72, 3) := dk_192 0 72 (dk_at dksX1_ofAlgebraNow_0 8 rfl rfl)
theorem dX1_ofAlgebraNow_11 : decode cX1_ofAlgebraNow 11 = .ok (.astore_n 3, 1) := dk_78 (dk_at dksX1_ofAlgebraNow_0 11 rfl rfl)
theorem dX1_ofAlgebraNow_12 : decode cX1_ofAlgebraNow 12 = .ok (.iload_n 2, 1) := dk_28 (dk_at dksX1_ofAlgebraNow_0 12 rfl rfl)
theorem dX1_ofAlgebraNow_13 : decode cX1_ofAlgebraNow 13 = .ok (.tableswitch 67 0 4 #[35, 43, 51, 56, 62], 35) := by decide +kernel
theorem dX1_ofAlgebraNow_48 : decode cX1_ofAlgebraNow 48 = .ok (.aload_n 3, 1) := dk_45 (dk_at dksX1_ofAlgebraNow_2 0 rfl rfl)
theorem dX1_ofAlgebraNow_49 : decode cX1_ofAlgebraNow 49 = .ok (.getfield 269, 3) := dk_180 1 13 (dk_at dksX1_ofAlgebraNow_2 1 rfl rfl)
theorem dX1_ofAlgebraNow_52 : decode cX1_ofAlgebraNow 52 = .ok (.invokevirtual 272, 3) := dk_182 1 16 (dk_at dksX1_ofAlgebraNow_2 4 rfl rfl)
theorem dX1_ofAlgebraNow_55 : decode cX1_ofAlgebraNow 55 = .ok (.ireturn, 1) := dk_172 (dk_at dksX1_ofAlgebraNow_2 7 rfl rfl)
theorem dX1_ofAlgebraNow_56 : decode cX1_ofAlgebraNow 56 = .ok (.aload_n 3, 1) := dk_45 (dk_at dksX1_ofAlgebraNow_2 8 rfl rfl)
theorem dX1_ofAlgebraNow_57 : decode cX1_ofAlgebraNow 57 = .ok (.getfield 121, 3) := dk_180 0 121 (dk_at dksX1_ofAlgebraNow_2 9 rfl rfl)
theorem dX1_ofAlgebraNow_60 : decode cX1_ofAlgebraNow 60 = .ok (.invokevirtual 60, 3) := dk_182 0 60 (dk_at dksX1_ofAlgebraNow_2 12 rfl rfl)
theorem dX1_ofAlgebraNow_63 : decode cX1_ofAlgebraNow 63 = .ok (.ireturn, 1) := dk_172 (dk_at dksX1_ofAlgebraNow_2 15 rfl rfl)
theorem dX1_ofAlgebraNow_64 : decode cX1_ofAlgebraNow 64 = .ok (.aload_n 3, 1) := dk_45 (dk_at dksX1_ofAlgebraNow_2 16 rfl rfl)
theorem dX1_ofAlgebraNow_65 : decode cX1_ofAlgebraNow 65 = .ok (.invokevirtual 131, 3) := dk_182 0 131 (dk_at dksX1_ofAlgebraNow_2 17 rfl rfl)
theorem dX1_ofAlgebraNow_68 : decode cX1_ofAlgebraNow 68 = .ok (.ireturn, 1) := dk_172 (dk_at dksX1_ofAlgebraNow_2 20 rfl rfl)
theorem dX1_ofAlgebraNow_69 : decode cX1_ofAlgebraNow 69 = .ok (.aload_n 0, 1) := dk_42 (dk_at dksX1_ofAlgebraNow_2 21 rfl rfl)
theorem dX1_ofAlgebraNow_70 : decode cX1_ofAlgebraNow 70 = .ok (.aload_n 3, 1) := dk_45 (dk_at dksX1_ofAlgebraNow_2 22 rfl rfl)
theorem dX1_ofAlgebraNow_71 : decode cX1_ofAlgebraNow 71 = .ok (.invokevirtual 124, 3) := dk_182 0 124 (dk_at dksX1_ofAlgebraNow_3 0 rfl rfl)
theorem dX1_ofAlgebraNow_74 : decode cX1_ofAlgebraNow 74 = .ok (.ireturn, 1) := dk_172 (dk_at dksX1_ofAlgebraNow_3 3 rfl rfl)
theorem dX1_ofAlgebraNow_75 : decode cX1_ofAlgebraNow 75 = .ok (.aload_n 3, 1) := dk_45 (dk_at dksX1_ofAlgebraNow_3 4 rfl rfl)
theorem dX1_ofAlgebraNow_76 : decode cX1_ofAlgebraNow 76 = .ok (.invokevirtual 275, 3) := dk_182 1 19 (dk_at dksX1_ofAlgebraNow_3 5 rfl rfl)
theorem dX1_ofAlgebraNow_79 : decode cX1_ofAlgebraNow 79 = .ok (.ireturn, 1) := dk_172 (dk_at dksX1_ofAlgebraNow_3 8 rfl rfl)
theorem dX1_ofAlgebraNow_80 : decode cX1_ofAlgebraNow 80 = .ok (.aload_n 3, 1) := dk_45 (dk_at dksX1_ofAlgebraNow_3 9 rfl rfl)
theorem dX1_ofAlgebraNow_81 : decode cX1_ofAlgebraNow 81 = .ok (.getfield 195, 3) := dk_180 0 195 (dk_at dksX1_ofAlgebraNow_3 10 rfl rfl)
theorem dX1_ofAlgebraNow_84 : decode cX1_ofAlgebraNow 84 = .ok (.invokevirtual 60, 3) := dk_182 0 60 (dk_at dksX1_ofAlgebraNow_3 13 rfl rfl)
theorem dX1_ofAlgebraNow_87 : decode cX1_ofAlgebraNow 87 = .ok (.ireturn, 1) := dk_172 (dk_at dksX1_ofAlgebraNow_3 16 rfl rfl)
abbrev cX1_elementsOf : ByteArray := prog_1_method_13_code
def yX1_elementsOf : MethodName := ⟨RX1, "elementsOf", "(LVersorhall$Algebra;)I"⟩
def dkwX1_elementsOf_2 : List UInt8 := [3, 96, 61, 167, 255, 219, 28, 172]
abbrev dktX1_elementsOf_2 : List UInt8 := dkwX1_elementsOf_2 ++ []
def dkwX1_elementsOf_1 : List UInt8 := [185, 0, 105, 1, 0, 192, 0, 74, 58, 4, 28, 25, 4, 180, 0, 109, 43, 166, 0, 7, 4, 167, 0, 4]
abbrev dktX1_elementsOf_1 : List UInt8 := dkwX1_elementsOf_1 ++ dktX1_elementsOf_2
def dkwX1_elementsOf_0 : List UInt8 := [3, 61, 42, 180, 0, 39, 182, 0, 96, 78, 45, 185, 0, 100, 1, 0, 153, 0, 34, 45]
abbrev dktX1_elementsOf_0 : List UInt8 := dkwX1_elementsOf_0 ++ dktX1_elementsOf_1
theorem dksX1_elementsOf_0 : cX1_elementsOf.data.toList.drop 0 = dktX1_elementsOf_0 := by decide +kernel
theorem dksX1_elementsOf_1 : cX1_elementsOf.data.toList.drop 20 = dktX1_elementsOf_1 := dk_seg dksX1_elementsOf_0 20 rfl rfl
theorem dksX1_elementsOf_2 : cX1_elementsOf.data.toList.drop 44 = dktX1_elementsOf_2 := dk_seg dksX1_elementsOf_1 24 rfl rfl
theorem dX1_elementsOf_0 : decode cX1_elementsOf 0 = .ok (.iconst 0, 1) := dk_3 (dk_at dksX1_elementsOf_0 0 rfl rfl)
theorem dX1_elementsOf_1 : decode cX1_elementsOf 1 = .ok (.istore_n 2, 1) := dk_61 (dk_at dksX1_elementsOf_0 1 rfl rfl)
theorem dX1_elementsOf_2 : decode cX1_elementsOf 2 = .ok (.aload_n 0, 1) := dk_42 (dk_at dksX1_elementsOf_0 2 rfl rfl)
theorem dX1_elementsOf_3 : decode cX1_elementsOf 3 = .ok (.getfield 39, 3) := dk_180 0 39 (dk_at dksX1_elementsOf_0 3 rfl rfl)
theorem dX1_elementsOf_6 : decode cX1_elementsOf 6 = .ok (.invokevirtual 96, 3) := dk_182 0 96 (dk_at dksX1_elementsOf_0 6 rfl rfl)
theorem dX1_elementsOf_9 : decode cX1_elementsOf 9 = .ok (.astore_n 3, 1) := dk_78 (dk_at dksX1_elementsOf_0 9 rfl rfl)
theorem dX1_elementsOf_10 : decode cX1_elementsOf 10 = .ok (.aload_n 3, 1) := dk_45 (dk_at dksX1_elementsOf_0 10 rfl rfl)
theorem dX1_elementsOf_11 : decode cX1_elementsOf 11 = .ok (.invokeinterface 100 1, 5) := by decide +kernel
theorem dX1_elementsOf_16 : decode cX1_elementsOf 16 = .ok (.ifCond .eq 34, 3) := dk_153 0 34 (dk_at dksX1_elementsOf_0 16 rfl rfl)
theorem dX1_elementsOf_19 : decode cX1_elementsOf 19 = .ok (.aload_n 3, 1) := dk_45 (dk_at dksX1_elementsOf_0 19 rfl rfl)
theorem dX1_elementsOf_20 : decode cX1_elementsOf 20 = .ok (.invokeinterface 105 1, 5) := by decide +kernel
theorem dX1_elementsOf_25 : decode cX1_elementsOf 25 = .ok (.checkcast 74, 3) := dk_192 0 74 (dk_at dksX1_elementsOf_1 5 rfl rfl)
theorem dX1_elementsOf_28 : decode cX1_elementsOf 28 = .ok (.astore 4, 2) := dk_58 4 (dk_at dksX1_elementsOf_1 8 rfl rfl)
theorem dX1_elementsOf_30 : decode cX1_elementsOf 30 = .ok (.iload_n 2, 1) := dk_28 (dk_at dksX1_elementsOf_1 10 rfl rfl)
theorem dX1_elementsOf_31 : decode cX1_elementsOf 31 = .ok (.aload 4, 2) := dk_25 4 (dk_at dksX1_elementsOf_1 11 rfl rfl)
theorem dX1_elementsOf_33 : decode cX1_elementsOf 33 = .ok (.getfield 109, 3) := dk_180 0 109 (dk_at dksX1_elementsOf_1 13 rfl rfl)
theorem dX1_elementsOf_36 : decode cX1_elementsOf 36 = .ok (.aload_n 1, 1) := dk_43 (dk_at dksX1_elementsOf_1 16 rfl rfl)
theorem dX1_elementsOf_37 : decode cX1_elementsOf 37 = .ok (.if_acmp .ne 7, 3) := dk_166 0 7 (dk_at dksX1_elementsOf_1 17 rfl rfl)
theorem dX1_elementsOf_40 : decode cX1_elementsOf 40 = .ok (.iconst 1, 1) := dk_4 (dk_at dksX1_elementsOf_1 20 rfl rfl)
theorem dX1_elementsOf_41 : decode cX1_elementsOf 41 = .ok (.goto 4, 3) := dk_167 0 4 (dk_at dksX1_elementsOf_1 21 rfl rfl)
theorem dX1_elementsOf_44 : decode cX1_elementsOf 44 = .ok (.iconst 0, 1) := dk_3 (dk_at dksX1_elementsOf_2 0 rfl rfl)
theorem dX1_elementsOf_45 : decode cX1_elementsOf 45 = .ok (.iadd, 1) := dk_96 (dk_at dksX1_elementsOf_2 1 rfl rfl)
theorem dX1_elementsOf_46 : decode cX1_elementsOf 46 = .ok (.istore_n 2, 1) := dk_61 (dk_at dksX1_elementsOf_2 2 rfl rfl)
theorem dX1_elementsOf_47 : decode cX1_elementsOf 47 = .ok (.goto (-37), 3) := dk_167 255 219 (dk_at dksX1_elementsOf_2 3 rfl rfl)
theorem dX1_elementsOf_50 : decode cX1_elementsOf 50 = .ok (.iload_n 2, 1) := dk_28 (dk_at dksX1_elementsOf_2 6 rfl rfl)
theorem dX1_elementsOf_51 : decode cX1_elementsOf 51 = .ok (.ireturn, 1) := dk_172 (dk_at dksX1_elementsOf_2 7 rfl rfl)
abbrev cX1_matchNow : ByteArray := prog_1_method_57_code
def yX1_matchNow : MethodName := ⟨RX1, "matchNow", "(LVersorhall$Algebra;LVersorhall$Algebra;)I"⟩
def dkwX1_matchNow_1 : List UInt8 := [180, 0, 121, 182, 0, 60, 159, 0, 5, 2, 172, 42, 43, 44, 3, 3, 3, 182, 1, 63, 172]
abbrev dktX1_matchNow_1 : List UInt8 := dkwX1_matchNow_1 ++ []
def dkwX1_matchNow_0 : List UInt8 := [43, 182, 0, 223, 153, 0, 27, 44, 182, 0, 223, 153, 0, 20, 43, 180, 0, 121, 182, 0, 60, 44]
abbrev dktX1_matchNow_0 : List UInt8 := dkwX1_matchNow_0 ++ dktX1_matchNow_1
theorem dksX1_matchNow_0 : cX1_matchNow.data.toList.drop 0 = dktX1_matchNow_0 := by decide +kernel
theorem dksX1_matchNow_1 : cX1_matchNow.data.toList.drop 22 = dktX1_matchNow_1 := dk_seg dksX1_matchNow_0 22 rfl rfl
theorem dX1_matchNow_0 : decode cX1_matchNow 0 = .ok (.aload_n 1, 1) := dk_43 (dk_at dksX1_matchNow_0 0 rfl rfl)
theorem dX1_matchNow_1 : decode cX1_matchNow 1 = .ok (.invokevirtual 223, 3) := dk_182 0 223 (dk_at dksX1_matchNow_0 1 rfl rfl)
theorem dX1_matchNow_4 : decode cX1_matchNow 4 = .ok (.ifCond .eq 27, 3) := dk_153 0 27 (dk_at dksX1_matchNow_0 4 rfl rfl)
theorem dX1_matchNow_7 : decode cX1_matchNow 7 = .ok (.aload_n 2, 1) := dk_44 (dk_at dksX1_matchNow_0 7 rfl rfl)
theorem dX1_matchNow_8 : decode cX1_matchNow 8 = .ok (.invokevirtual 223, 3) := dk_182 0 223 (dk_at dksX1_matchNow_0 8 rfl rfl)
theorem dX1_matchNow_11 : decode cX1_matchNow 11 = .ok (.ifCond .eq 20, 3) := dk_153 0 20 (dk_at dksX1_matchNow_0 11 rfl rfl)
theorem dX1_matchNow_14 : decode cX1_matchNow 14 = .ok (.aload_n 1, 1) := dk_43 (dk_at dksX1_matchNow_0 14 rfl rfl)
theorem dX1_matchNow_15 : decode cX1_matchNow 15 = .ok (.getfield 121, 3) := dk_180 0 121 (dk_at dksX1_matchNow_0 15 rfl rfl)
theorem dX1_matchNow_18 : decode cX1_matchNow 18 = .ok (.invokevirtual 60, 3) := dk_182 0 60 (dk_at dksX1_matchNow_0 18 rfl rfl)
theorem dX1_matchNow_21 : decode cX1_matchNow 21 = .ok (.aload_n 2, 1) := dk_44 (dk_at dksX1_matchNow_0 21 rfl rfl)
theorem dX1_matchNow_22 : decode cX1_matchNow 22 = .ok (.getfield 121, 3) := dk_180 0 121 (dk_at dksX1_matchNow_1 0 rfl rfl)
theorem dX1_matchNow_25 : decode cX1_matchNow 25 = .ok (.invokevirtual 60, 3) := dk_182 0 60 (dk_at dksX1_matchNow_1 3 rfl rfl)
theorem dX1_matchNow_28 : decode cX1_matchNow 28 = .ok (.if_icmp .eq 5, 3) := dk_159 0 5 (dk_at dksX1_matchNow_1 6 rfl rfl)
theorem dX1_matchNow_31 : decode cX1_matchNow 31 = .ok (.iconst (-1), 1) := dk_2 (dk_at dksX1_matchNow_1 9 rfl rfl)
theorem dX1_matchNow_32 : decode cX1_matchNow 32 = .ok (.ireturn, 1) := dk_172 (dk_at dksX1_matchNow_1 10 rfl rfl)
theorem dX1_matchNow_33 : decode cX1_matchNow 33 = .ok (.aload_n 0, 1) := dk_42 (dk_at dksX1_matchNow_1 11 rfl rfl)
theorem dX1_matchNow_34 : decode cX1_matchNow 34 = .ok (.aload_n 1, 1) := dk_43 (dk_at dksX1_matchNow_1 12 rfl rfl)
theorem dX1_matchNow_35 : decode cX1_matchNow 35 = .ok (.aload_n 2, 1) := dk_44 (dk_at dksX1_matchNow_1 13 rfl rfl)
theorem dX1_matchNow_36 : decode cX1_matchNow 36 = .ok (.iconst 0, 1) := dk_3 (dk_at dksX1_matchNow_1 14 rfl rfl)
theorem dX1_matchNow_37 : decode cX1_matchNow 37 = .ok (.iconst 0, 1) := dk_3 (dk_at dksX1_matchNow_1 15 rfl rfl)
theorem dX1_matchNow_38 : decode cX1_matchNow 38 = .ok (.iconst 0, 1) := dk_3 (dk_at dksX1_matchNow_1 16 rfl rfl)
theorem dX1_matchNow_39 : decode cX1_matchNow 39 = .ok (.invokevirtual 319, 3) := dk_182 1 63 (dk_at dksX1_matchNow_1 17 rfl rfl)
theorem dX1_matchNow_42 : decode cX1_matchNow 42 = .ok (.ireturn, 1) := dk_172 (dk_at dksX1_matchNow_1 20 rfl rfl)
abbrev cX1_matchFrom : ByteArray := prog_1_method_56_code
def yX1_matchFrom : MethodName := ⟨RX1, "matchFrom", "(LVersorhall$Algebra;LVersorhall$Algebra;III)I"⟩
def dkwX1_matchFrom_5 : List UInt8 := [132, 6, 1, 167, 255, 155, 2, 172]
abbrev dktX1_matchFrom_5 : List UInt8 := dkwX1_matchFrom_5 ++ []
def dkwX1_matchFrom_4 : List UInt8 := [16, 10, 21, 5, 104, 21, 6, 96, 182, 1, 63, 54, 7, 21, 7, 2, 159, 0, 6, 21, 7, 172]
abbrev dktX1_matchFrom_4 : List UInt8 := dkwX1_matchFrom_4 ++ dktX1_matchFrom_5
def dkwX1_matchFrom_3 : List UInt8 := [182, 1, 60, 2, 160, 0, 6, 167, 0, 38, 42, 43, 44, 29, 4, 96, 21, 4, 4, 21, 6, 120, 128]
abbrev dktX1_matchFrom_3 : List UInt8 := dkwX1_matchFrom_3 ++ dktX1_matchFrom_4
def dkwX1_matchFrom_2 : List UInt8 := [182, 0, 68, 192, 1, 55, 182, 1, 57, 44, 180, 0, 121, 21, 6, 182, 0, 68, 192, 1, 55, 182, 1, 57]
abbrev dktX1_matchFrom_2 : List UInt8 := dkwX1_matchFrom_2 ++ dktX1_matchFrom_3
def dkwX1_matchFrom_1 : List UInt8 := [182, 0, 60, 162, 0, 95, 21, 4, 21, 6, 122, 4, 126, 4, 159, 0, 78, 42, 43, 180, 0, 121, 29]
abbrev dktX1_matchFrom_1 : List UInt8 := dkwX1_matchFrom_1 ++ dktX1_matchFrom_2
def dkwX1_matchFrom_0 : List UInt8 := [29, 43, 180, 0, 121, 182, 0, 60, 160, 0, 6, 21, 5, 172, 3, 54, 6, 21, 6, 44, 180, 0, 121]
abbrev dktX1_matchFrom_0 : List UInt8 := dkwX1_matchFrom_0 ++ dktX1_matchFrom_1
theorem dksX1_matchFrom_0 : cX1_matchFrom.data.toList.drop 0 = dktX1_matchFrom_0 := by decide +kernel
theorem dksX1_matchFrom_1 : cX1_matchFrom.data.toList.drop 23 = dktX1_matchFrom_1 := dk_seg dksX1_matchFrom_0 23 rfl rfl
theorem dksX1_matchFrom_2 : cX1_matchFrom.data.toList.drop 46 = dktX1_matchFrom_2 := dk_seg dksX1_matchFrom_1 23 rfl rfl
theorem dksX1_matchFrom_3 : cX1_matchFrom.data.toList.drop 70 = dktX1_matchFrom_3 := dk_seg dksX1_matchFrom_2 24 rfl rfl
theorem dksX1_matchFrom_4 : cX1_matchFrom.data.toList.drop 93 = dktX1_matchFrom_4 := dk_seg dksX1_matchFrom_3 23 rfl rfl
theorem dksX1_matchFrom_5 : cX1_matchFrom.data.toList.drop 115 = dktX1_matchFrom_5 := dk_seg dksX1_matchFrom_4 22 rfl rfl
theorem dX1_matchFrom_0 : decode cX1_matchFrom 0 = .ok (.iload_n 3, 1) := dk_29 (dk_at dksX1_matchFrom_0 0 rfl rfl)
theorem dX1_matchFrom_1 : decode cX1_matchFrom 1 = .ok (.aload_n 1, 1) := dk_43 (dk_at dksX1_matchFrom_0 1 rfl rfl)
theorem dX1_matchFrom_2 : decode cX1_matchFrom 2 = .ok (.getfield 121, 3) := dk_180 0 121 (dk_at dksX1_matchFrom_0 2 rfl rfl)
theorem dX1_matchFrom_5 : decode cX1_matchFrom 5 = .ok (.invokevirtual 60, 3) := dk_182 0 60 (dk_at dksX1_matchFrom_0 5 rfl rfl)
theorem dX1_matchFrom_8 : decode cX1_matchFrom 8 = .ok (.if_icmp .ne 6, 3) := dk_160 0 6 (dk_at dksX1_matchFrom_0 8 rfl rfl)
theorem dX1_matchFrom_11 : decode cX1_matchFrom 11 = .ok (.iload 5, 2) := dk_21 5 (dk_at dksX1_matchFrom_0 11 rfl rfl)
theorem dX1_matchFrom_13 : decode cX1_matchFrom 13 = .ok (.ireturn, 1) := dk_172 (dk_at dksX1_matchFrom_0 13 rfl rfl)
theorem dX1_matchFrom_14 : decode cX1_matchFrom 14 = .ok (.iconst 0, 1) := dk_3 (dk_at dksX1_matchFrom_0 14 rfl rfl)
theorem dX1_matchFrom_15 : decode cX1_matchFrom 15 = .ok (.istore 6, 2) := dk_54 6 (dk_at dksX1_matchFrom_0 15 rfl rfl)
theorem dX1_matchFrom_17 : decode cX1_matchFrom 17 = .ok (.iload 6, 2) := dk_21 6 (dk_at dksX1_matchFrom_0 17 rfl rfl)
theorem dX1_matchFrom_19 : decode cX1_matchFrom 19 = .ok (.aload_n 2, 1) := dk_44 (dk_at dksX1_matchFrom_0 19 rfl rfl)
theorem dX1_matchFrom_20 : decode cX1_matchFrom 20 = .ok (.getfield 121, 3) := dk_180 0 121 (dk_at dksX1_matchFrom_0 20 rfl rfl)
theorem dX1_matchFrom_23 : decode cX1_matchFrom 23 = .ok (.invokevirtual 60, 3) := dk_182 0 60 (dk_at dksX1_matchFrom_1 0 rfl rfl)
theorem dX1_matchFrom_26 : decode cX1_matchFrom 26 = .ok (.if_icmp .ge 95, 3) := dk_162 0 95 (dk_at dksX1_matchFrom_1 3 rfl rfl)
theorem dX1_matchFrom_29 : decode cX1_matchFrom 29 = .ok (.iload 4, 2) := dk_21 4 (dk_at dksX1_matchFrom_1 6 rfl rfl)
theorem dX1_matchFrom_31 : decode cX1_matchFrom 31 = .ok (.iload 6, 2) := dk_21 6 (dk_at dksX1_matchFrom_1 8 rfl rfl)
theorem dX1_matchFrom_33 : decode cX1_matchFrom 33 = .ok (.ishr, 1) := dk_122 (dk_at dksX1_matchFrom_1 10 rfl rfl)
theorem dX1_matchFrom_34 : decode cX1_matchFrom 34 = .ok (.iconst 1, 1) := dk_4 (dk_at dksX1_matchFrom_1 11 rfl rfl)
theorem dX1_matchFrom_35 : decode cX1_matchFrom 35 = .ok (.iand, 1) := dk_126 (dk_at dksX1_matchFrom_1 12 rfl rfl)
theorem dX1_matchFrom_36 : decode cX1_matchFrom 36 = .ok (.iconst 1, 1) := dk_4 (dk_at dksX1_matchFrom_1 13 rfl rfl)
theorem dX1_matchFrom_37 : decode cX1_matchFrom 37 = .ok (.if_icmp .eq 78, 3) := dk_159 0 78 (dk_at dksX1_matchFrom_1 14 rfl rfl)
theorem dX1_matchFrom_40 : decode cX1_matchFrom 40 = .ok (.aload_n 0, 1) := dk_42 (dk_at dksX1_matchFrom_1 17 rfl rfl)
theorem dX1_matchFrom_41 : decode cX1_matchFrom 41 = .ok (.aload_n 1, 1) := dk_43 (dk_at dksX1_matchFrom_1 18 rfl rfl)
theorem dX1_matchFrom_42 : decode cX1_matchFrom 42 = .ok (.getfield 121, 3) := dk_180 0 121 (dk_at dksX1_matchFrom_1 19 rfl rfl)
theorem dX1_matchFrom_45 : decode cX1_matchFrom 45 = .ok (.iload_n 3, 1) := dk_29 (dk_at dksX1_matchFrom_1 22 rfl rfl)
theorem dX1_matchFrom_46 : decode cX1_matchFrom 46 = .ok (.invokevirtual 68, 3) := dk_182 0 68 (dk_at dksX1_matchFrom_2 0 rfl rfl)
theorem dX1_matchFrom_49 : decode cX1_matchFrom 49 = .ok (.checkcast 311, 3) := dk_192 1 55 (dk_at dksX1_matchFrom_2 3 rfl rfl)
theorem dX1_matchFrom_52 : decode cX1_matchFrom 52 = .ok (.invokevirtual 313, 3) := dk_182 1 57 (dk_at dksX1_matchFrom_2 6 rfl rfl)
theorem dX1_matchFrom_55 : decode cX1_matchFrom 55 = .ok (.aload_n 2, 1) := dk_44 (dk_at dksX1_matchFrom_2 9 rfl rfl)
theorem dX1_matchFrom_56 : decode cX1_matchFrom 56 = .ok (.getfield 121, 3) := dk_180 0 121 (dk_at dksX1_matchFrom_2 10 rfl rfl)
theorem dX1_matchFrom_59 : decode cX1_matchFrom 59 = .ok (.iload 6, 2) := dk_21 6 (dk_at dksX1_matchFrom_2 13 rfl rfl)
theorem dX1_matchFrom_61 : decode cX1_matchFrom 61 = .ok (.invokevirtual 68, 3) := dk_182 0 68 (dk_at dksX1_matchFrom_2 15 rfl rfl)
theorem dX1_matchFrom_64 : decode cX1_matchFrom 64 = .ok (.checkcast 311, 3) := dk_192 1 55 (dk_at dksX1_matchFrom_2 18 rfl rfl)
theorem dX1_matchFrom_67 : decode cX1_matchFrom 67 = .ok (.invokevirtual 313, 3) := dk_182 1 57 (dk_at dksX1_matchFrom_2 21 rfl rfl)
theorem dX1_matchFrom_70 : decode cX1_matchFrom 70 = .ok (.invokevirtual 316, 3) := dk_182 1 60 (dk_at dksX1_matchFrom_3 0 rfl rfl)
theorem dX1_matchFrom_73 : decode cX1_matchFrom 73 = .ok (.iconst (-1), 1) := dk_2 (dk_at dksX1_matchFrom_3 3 rfl rfl)
theorem dX1_matchFrom_74 : decode cX1_matchFrom 74 = .ok (.if_icmp .ne 6, 3) := dk_160 0 6 (dk_at dksX1_matchFrom_3 4 rfl rfl)
theorem dX1_matchFrom_77 : decode cX1_matchFrom 77 = .ok (.goto 38, 3) := dk_167 0 38 (dk_at dksX1_matchFrom_3 7 rfl rfl)
theorem dX1_matchFrom_80 : decode cX1_matchFrom 80 = .ok (.aload_n 0, 1) := dk_42 (dk_at dksX1_matchFrom_3 10 rfl rfl)
theorem dX1_matchFrom_81 : decode cX1_matchFrom 81 = .ok (.aload_n 1, 1) := dk_43 (dk_at dksX1_matchFrom_3 11 rfl rfl)
theorem dX1_matchFrom_82 : decode cX1_matchFrom 82 = .ok (.aload_n 2, 1) := dk_44 (dk_at dksX1_matchFrom_3 12 rfl rfl)
theorem dX1_matchFrom_83 : decode cX1_matchFrom 83 = .ok (.iload_n 3, 1) := dk_29 (dk_at dksX1_matchFrom_3 13 rfl rfl)
theorem dX1_matchFrom_84 : decode cX1_matchFrom 84 = .ok (.iconst 1, 1) := dk_4 (dk_at dksX1_matchFrom_3 14 rfl rfl)
theorem dX1_matchFrom_85 : decode cX1_matchFrom 85 = .ok (.iadd, 1) := dk_96 (dk_at dksX1_matchFrom_3 15 rfl rfl)
theorem dX1_matchFrom_86 : decode cX1_matchFrom 86 = .ok (.iload 4, 2) := dk_21 4 (dk_at dksX1_matchFrom_3 16 rfl rfl)
theorem dX1_matchFrom_88 : decode cX1_matchFrom 88 = .ok (.iconst 1, 1) := dk_4 (dk_at dksX1_matchFrom_3 18 rfl rfl)
theorem dX1_matchFrom_89 : decode cX1_matchFrom 89 = .ok (.iload 6, 2) := dk_21 6 (dk_at dksX1_matchFrom_3 19 rfl rfl)
theorem dX1_matchFrom_91 : decode cX1_matchFrom 91 = .ok (.ishl, 1) := dk_120 (dk_at dksX1_matchFrom_3 21 rfl rfl)
theorem dX1_matchFrom_92 : decode cX1_matchFrom 92 = .ok (.ior, 1) := dk_128 (dk_at dksX1_matchFrom_3 22 rfl rfl)
theorem dX1_matchFrom_93 : decode cX1_matchFrom 93 = .ok (.bipush 10, 2) := dk_16 10 (dk_at dksX1_matchFrom_4 0 rfl rfl)
theorem dX1_matchFrom_95 : decode cX1_matchFrom 95 = .ok (.iload 5, 2) := dk_21 5 (dk_at dksX1_matchFrom_4 2 rfl rfl)
theorem dX1_matchFrom_97 : decode cX1_matchFrom 97 = .ok (.imul, 1) := dk_104 (dk_at dksX1_matchFrom_4 4 rfl rfl)
theorem dX1_matchFrom_98 : decode cX1_matchFrom 98 = .ok (.iload 6, 2) := dk_21 6 (dk_at dksX1_matchFrom_4 5 rfl rfl)
theorem dX1_matchFrom_100 : decode cX1_matchFrom 100 = .ok (.iadd, 1) := dk_96 (dk_at dksX1_matchFrom_4 7 rfl rfl)
theorem dX1_matchFrom_101 : decode cX1_matchFrom 101 = .ok (.invokevirtual 319, 3) := dk_182 1 63 (dk_at dksX1_matchFrom_4 8 rfl rfl)
theorem dX1_matchFrom_104 : decode cX1_matchFrom 104 = .ok (.istore 7, 2) := dk_54 7 (dk_at dksX1_matchFrom_4 11 rfl rfl)
theorem dX1_matchFrom_106 : decode cX1_matchFrom 106 = .ok (.iload 7, 2) := dk_21 7 (dk_at dksX1_matchFrom_4 13 rfl rfl)
theorem dX1_matchFrom_108 : decode cX1_matchFrom 108 = .ok (.iconst (-1), 1) := dk_2 (dk_at dksX1_matchFrom_4 15 rfl rfl)
theorem dX1_matchFrom_109 : decode cX1_matchFrom 109 = .ok (.if_icmp .eq 6, 3) := dk_159 0 6 (dk_at dksX1_matchFrom_4 16 rfl rfl)
theorem dX1_matchFrom_112 : decode cX1_matchFrom 112 = .ok (.iload 7, 2) := dk_21 7 (dk_at dksX1_matchFrom_4 19 rfl rfl)
theorem dX1_matchFrom_114 : decode cX1_matchFrom 114 = .ok (.ireturn, 1) := dk_172 (dk_at dksX1_matchFrom_4 21 rfl rfl)
theorem dX1_matchFrom_115 : decode cX1_matchFrom 115 = .ok (.iinc 6 1, 3) := dk_132 6 1 (dk_at dksX1_matchFrom_5 0 rfl rfl)
theorem dX1_matchFrom_118 : decode cX1_matchFrom 118 = .ok (.goto (-101), 3) := dk_167 255 155 (dk_at dksX1_matchFrom_5 3 rfl rfl)
theorem dX1_matchFrom_121 : decode cX1_matchFrom 121 = .ok (.iconst (-1), 1) := dk_2 (dk_at dksX1_matchFrom_5 6 rfl rfl)
theorem dX1_matchFrom_122 : decode cX1_matchFrom 122 = .ok (.ireturn, 1) := dk_172 (dk_at dksX1_matchFrom_5 7 rfl rfl)
abbrev cX1_scaleNow : ByteArray := prog_1_method_55_code
def yX1_scaleNow : MethodName := ⟨RX1, "scaleNow", "(II)I"⟩
def dkwX1_scaleNow_1 : List UInt8 := [172, 132, 3, 1, 167, 255, 230, 2, 172]
abbrev dktX1_scaleNow_1 : List UInt8 := dkwX1_scaleNow_1 ++ []
def dkwX1_scaleNow_0 : List UInt8 := [4, 62, 29, 42, 180, 0, 13, 162, 0, 24, 42, 28, 29, 104, 29, 104, 182, 0, 25, 27, 160, 0, 5, 29]
abbrev dktX1_scaleNow_0 : List UInt8 := dkwX1_scaleNow_0 ++ dktX1_scaleNow_1
theorem dksX1_scaleNow_0 : cX1_scaleNow.data.toList.drop 0 = dktX1_scaleNow_0 := by decide +kernel
theorem dksX1_scaleNow_1 : cX1_scaleNow.data.toList.drop 24 = dktX1_scaleNow_1 := dk_seg dksX1_scaleNow_0 24 rfl rfl
theorem dX1_scaleNow_0 : decode cX1_scaleNow 0 = .ok (.iconst 1, 1) := dk_4 (dk_at dksX1_scaleNow_0 0 rfl rfl)
theorem dX1_scaleNow_1 : decode cX1_scaleNow 1 = .ok (.istore_n 3, 1) := dk_62 (dk_at dksX1_scaleNow_0 1 rfl rfl)
theorem dX1_scaleNow_2 : decode cX1_scaleNow 2 = .ok (.iload_n 3, 1) := dk_29 (dk_at dksX1_scaleNow_0 2 rfl rfl)
theorem dX1_scaleNow_3 : decode cX1_scaleNow 3 = .ok (.aload_n 0, 1) := dk_42 (dk_at dksX1_scaleNow_0 3 rfl rfl)
theorem dX1_scaleNow_4 : decode cX1_scaleNow 4 = .ok (.getfield 13, 3) := dk_180 0 13 (dk_at dksX1_scaleNow_0 4 rfl rfl)
theorem dX1_scaleNow_7 : decode cX1_scaleNow 7 = .ok (.if_icmp .ge 24, 3) := dk_162 0 24 (dk_at dksX1_scaleNow_0 7 rfl rfl)
theorem dX1_scaleNow_10 : decode cX1_scaleNow 10 = .ok (.aload_n 0, 1) := dk_42 (dk_at dksX1_scaleNow_0 10 rfl rfl)
theorem dX1_scaleNow_11 : decode cX1_scaleNow 11 = .ok (.iload_n 2, 1) := dk_28 (dk_at dksX1_scaleNow_0 11 rfl rfl)
theorem dX1_scaleNow_12 : decode cX1_scaleNow 12 = .ok (.iload_n 3, 1) := dk_29 (dk_at dksX1_scaleNow_0 12 rfl rfl)
theorem dX1_scaleNow_13 : decode cX1_scaleNow 13 = .ok (.imul, 1) := dk_104 (dk_at dksX1_scaleNow_0 13 rfl rfl)
theorem dX1_scaleNow_14 : decode cX1_scaleNow 14 = .ok (.iload_n 3, 1) := dk_29 (dk_at dksX1_scaleNow_0 14 rfl rfl)
theorem dX1_scaleNow_15 : decode cX1_scaleNow 15 = .ok (.imul, 1) := dk_104 (dk_at dksX1_scaleNow_0 15 rfl rfl)
theorem dX1_scaleNow_16 : decode cX1_scaleNow 16 = .ok (.invokevirtual 25, 3) := dk_182 0 25 (dk_at dksX1_scaleNow_0 16 rfl rfl)
theorem dX1_scaleNow_19 : decode cX1_scaleNow 19 = .ok (.iload_n 1, 1) := dk_27 (dk_at dksX1_scaleNow_0 19 rfl rfl)
theorem dX1_scaleNow_20 : decode cX1_scaleNow 20 = .ok (.if_icmp .ne 5, 3) := dk_160 0 5 (dk_at dksX1_scaleNow_0 20 rfl rfl)
theorem dX1_scaleNow_23 : decode cX1_scaleNow 23 = .ok (.iload_n 3, 1) := dk_29 (dk_at dksX1_scaleNow_0 23 rfl rfl)
theorem dX1_scaleNow_24 : decode cX1_scaleNow 24 = .ok (.ireturn, 1) := dk_172 (dk_at dksX1_scaleNow_1 0 rfl rfl)
theorem dX1_scaleNow_25 : decode cX1_scaleNow 25 = .ok (.iinc 3 1, 3) := dk_132 3 1 (dk_at dksX1_scaleNow_1 1 rfl rfl)
theorem dX1_scaleNow_28 : decode cX1_scaleNow 28 = .ok (.goto (-26), 3) := dk_167 255 230 (dk_at dksX1_scaleNow_1 4 rfl rfl)
theorem dX1_scaleNow_31 : decode cX1_scaleNow 31 = .ok (.iconst (-1), 1) := dk_2 (dk_at dksX1_scaleNow_1 7 rfl rfl)
theorem dX1_scaleNow_32 : decode cX1_scaleNow 32 = .ok (.ireturn, 1) := dk_172 (dk_at dksX1_scaleNow_1 8 rfl rfl)
abbrev cX1_ofElementNow : ByteArray := prog_1_method_38_code
def yX1_ofElementNow : MethodName := ⟨RX1, "ofElementNow", "(II)I"⟩
def dkwX1_ofElementNow_5 : List UInt8 := [3, 172, 45, 182, 0, 198, 172, 45, 28, 16, 8, 160, 0, 7, 4, 167, 0, 4, 3, 182, 1, 2, 172]
abbrev dktX1_ofElementNow_5 : List UInt8 := dkwX1_ofElementNow_5 ++ []
def dkwX1_ofElementNow_4 : List UInt8 := [180, 0, 13, 3, 182, 0, 250, 172, 45, 45, 182, 0, 158, 45, 182, 0, 254, 153, 0, 7, 4, 167, 0, 4]
abbrev dktX1_ofElementNow_4 : List UInt8 := dkwX1_ofElementNow_4 ++ dktX1_ofElementNow_5
def dkwX1_ofElementNow_3 : List UInt8 := [182, 0, 247, 153, 0, 7, 4, 167, 0, 4, 3, 172, 45, 16, 60, 4, 182, 0, 250, 172, 45, 42]
abbrev dktX1_ofElementNow_3 : List UInt8 := dkwX1_ofElementNow_3 ++ dktX1_ofElementNow_4
def dkwX1_ofElementNow_2 : List UInt8 := [42, 180, 0, 35, 45, 180, 0, 109, 182, 0, 240, 172, 45, 182, 0, 145, 172, 45, 182, 0, 244, 172, 45]
abbrev dktX1_ofElementNow_2 : List UInt8 := dkwX1_ofElementNow_2 ++ dktX1_ofElementNow_3
def dkwX1_ofElementNow_1 : List UInt8 := [170, 0, 0, 0, 0, 0, 123, 0, 0, 0, 0, 0, 0, 0, 7, 0, 0, 0, 47, 0, 0, 0, 59, 0, 0, 0, 64, 0, 0, 0, 69, 0, 0, 0, 82, 0, 0, 0, 90, 0, 0, 0, 100, 0, 0, 0, 118]
abbrev dktX1_ofElementNow_1 : List UInt8 := dkwX1_ofElementNow_1 ++ dktX1_ofElementNow_2
def dkwX1_ofElementNow_0 : List UInt8 := [42, 180, 0, 39, 27, 182, 0, 68, 192, 0, 74, 78, 28]
abbrev dktX1_ofElementNow_0 : List UInt8 := dkwX1_ofElementNow_0 ++ dktX1_ofElementNow_1
theorem dksX1_ofElementNow_0 : cX1_ofElementNow.data.toList.drop 0 = dktX1_ofElementNow_0 := by decide +kernel
theorem dksX1_ofElementNow_1 : cX1_ofElementNow.data.toList.drop 13 = dktX1_ofElementNow_1 := dk_seg dksX1_ofElementNow_0 13 rfl rfl
theorem dksX1_ofElementNow_2 : cX1_ofElementNow.data.toList.drop 60 = dktX1_ofElementNow_2 := dk_seg dksX1_ofElementNow_1 47 rfl rfl
theorem dksX1_ofElementNow_3 : cX1_ofElementNow.data.toList.drop 83 = dktX1_ofElementNow_3 := dk_seg dksX1_ofElementNow_2 23 rfl rfl
theorem dksX1_ofElementNow_4 : cX1_ofElementNow.data.toList.drop 105 = dktX1_ofElementNow_4 := dk_seg dksX1_ofElementNow_3 22 rfl rfl
theorem dksX1_ofElementNow_5 : cX1_ofElementNow.data.toList.drop 129 = dktX1_ofElementNow_5 := dk_seg dksX1_ofElementNow_4 24 rfl rfl
theorem dX1_ofElementNow_0 : decode cX1_ofElementNow 0 = .ok (.aload_n 0, 1) := dk_42 (dk_at dksX1_ofElementNow_0 0 rfl rfl)
theorem dX1_ofElementNow_1 : decode cX1_ofElementNow 1 = .ok (.getfield 39, 3) := dk_180 0 39 (dk_at dksX1_ofElementNow_0 1 rfl rfl)
theorem dX1_ofElementNow_4 : decode cX1_ofElementNow 4 = .ok (.iload_n 1, 1) := dk_27 (dk_at dksX1_ofElementNow_0 4 rfl rfl)
theorem dX1_ofElementNow_5 : decode cX1_ofElementNow 5 = .ok (.invokevirtual 68, 3) := dk_182 0 68 (dk_at dksX1_ofElementNow_0 5 rfl rfl)
theorem dX1_ofElementNow_8 : decode cX1_ofElementNow 8 = .ok (.checkcast 74, 3) := dk_192 0 74 (dk_at dksX1_ofElementNow_0 8 rfl rfl)
theorem dX1_ofElementNow_11 : decode cX1_ofElementNow 11 = .ok (.astore_n 3, 1) := dk_78 (dk_at dksX1_ofElementNow_0 11 rfl rfl)
theorem dX1_ofElementNow_12 : decode cX1_ofElementNow 12 = .ok (.iload_n 2, 1) := dk_28 (dk_at dksX1_ofElementNow_0 12 rfl rfl)
theorem dX1_ofElementNow_13 : decode cX1_ofElementNow 13 = .ok (.tableswitch 123 0 7 #[47, 59, 64, 69, 82, 90, 100, 118], 47) := by decide +kernel
theorem dX1_ofElementNow_60 : decode cX1_ofElementNow 60 = .ok (.aload_n 0, 1) := dk_42 (dk_at dksX1_ofElementNow_2 0 rfl rfl)
theorem dX1_ofElementNow_61 : decode cX1_ofElementNow 61 = .ok (.getfield 35, 3) := dk_180 0 35 (dk_at dksX1_ofElementNow_2 1 rfl rfl)
theorem dX1_ofElementNow_64 : decode cX1_ofElementNow 64 = .ok (.aload_n 3, 1) := dk_45 (dk_at dksX1_ofElementNow_2 4 rfl rfl)
theorem dX1_ofElementNow_65 : decode cX1_ofElementNow 65 = .ok (.getfield 109, 3) := dk_180 0 109 (dk_at dksX1_ofElementNow_2 5 rfl rfl)
theorem dX1_ofElementNow_68 : decode cX1_ofElementNow 68 = .ok (.invokevirtual 240, 3) := dk_182 0 240 (dk_at dksX1_ofElementNow_2 8 rfl rfl)
theorem dX1_ofElementNow_71 : decode cX1_ofElementNow 71 = .ok (.ireturn, 1) := dk_172 (dk_at dksX1_ofElementNow_2 11 rfl rfl)
theorem dX1_ofElementNow_72 : decode cX1_ofElementNow 72 = .ok (.aload_n 3, 1) := dk_45 (dk_at dksX1_ofElementNow_2 12 rfl rfl)
theorem dX1_ofElementNow_73 : decode cX1_ofElementNow 73 = .ok (.invokevirtual 145, 3) := dk_182 0 145 (dk_at dksX1_ofElementNow_2 13 rfl rfl)
theorem dX1_ofElementNow_76 : decode cX1_ofElementNow 76 = .ok (.ireturn, 1) := dk_172 (dk_at dksX1_ofElementNow_2 16 rfl rfl)
theorem dX1_ofElementNow_77 : decode cX1_ofElementNow 77 = .ok (.aload_n 3, 1) := dk_45 (dk_at dksX1_ofElementNow_2 17 rfl rfl)
theorem dX1_ofElementNow_78 : decode cX1_ofElementNow 78 = .ok (.invokevirtual 244, 3) := dk_182 0 244 (dk_at dksX1_ofElementNow_2 18 rfl rfl)
theorem dX1_ofElementNow_81 : decode cX1_ofElementNow 81 = .ok (.ireturn, 1) := dk_172 (dk_at dksX1_ofElementNow_2 21 rfl rfl)
theorem dX1_ofElementNow_82 : decode cX1_ofElementNow 82 = .ok (.aload_n 3, 1) := dk_45 (dk_at dksX1_ofElementNow_2 22 rfl rfl)
theorem dX1_ofElementNow_83 : decode cX1_ofElementNow 83 = .ok (.invokevirtual 247, 3) := dk_182 0 247 (dk_at dksX1_ofElementNow_3 0 rfl rfl)
theorem dX1_ofElementNow_86 : decode cX1_ofElementNow 86 = .ok (.ifCond .eq 7, 3) := dk_153 0 7 (dk_at dksX1_ofElementNow_3 3 rfl rfl)
theorem dX1_ofElementNow_89 : decode cX1_ofElementNow 89 = .ok (.iconst 1, 1) := dk_4 (dk_at dksX1_ofElementNow_3 6 rfl rfl)
theorem dX1_ofElementNow_90 : decode cX1_ofElementNow 90 = .ok (.goto 4, 3) := dk_167 0 4 (dk_at dksX1_ofElementNow_3 7 rfl rfl)
theorem dX1_ofElementNow_93 : decode cX1_ofElementNow 93 = .ok (.iconst 0, 1) := dk_3 (dk_at dksX1_ofElementNow_3 10 rfl rfl)
theorem dX1_ofElementNow_94 : decode cX1_ofElementNow 94 = .ok (.ireturn, 1) := dk_172 (dk_at dksX1_ofElementNow_3 11 rfl rfl)
theorem dX1_ofElementNow_95 : decode cX1_ofElementNow 95 = .ok (.aload_n 3, 1) := dk_45 (dk_at dksX1_ofElementNow_3 12 rfl rfl)
theorem dX1_ofElementNow_96 : decode cX1_ofElementNow 96 = .ok (.bipush 60, 2) := dk_16 60 (dk_at dksX1_ofElementNow_3 13 rfl rfl)
theorem dX1_ofElementNow_98 : decode cX1_ofElementNow 98 = .ok (.iconst 1, 1) := dk_4 (dk_at dksX1_ofElementNow_3 15 rfl rfl)
theorem dX1_ofElementNow_99 : decode cX1_ofElementNow 99 = .ok (.invokevirtual 250, 3) := dk_182 0 250 (dk_at dksX1_ofElementNow_3 16 rfl rfl)
theorem dX1_ofElementNow_102 : decode cX1_ofElementNow 102 = .ok (.ireturn, 1) := dk_172 (dk_at dksX1_ofElementNow_3 19 rfl rfl)
theorem dX1_ofElementNow_103 : decode cX1_ofElementNow 103 = .ok (.aload_n 3, 1) := dk_45 (dk_at dksX1_ofElementNow_3 20 rfl rfl)
theorem dX1_ofElementNow_104 : decode cX1_ofElementNow 104 = .ok (.aload_n 0, 1) := dk_42 (dk_at dksX1_ofElementNow_3 21 rfl rfl)
theorem dX1_ofElementNow_105 : decode cX1_ofElementNow 105 = .ok (.getfield 13, 3) := dk_180 0 13 (dk_at dksX1_ofElementNow_4 0 rfl rfl)
theorem dX1_ofElementNow_108 : decode cX1_ofElementNow 108 = .ok (.iconst 0, 1) := dk_3 (dk_at dksX1_ofElementNow_4 3 rfl rfl)
theorem dX1_ofElementNow_109 : decode cX1_ofElementNow 109 = .ok (.invokevirtual 250, 3) := dk_182 0 250 (dk_at dksX1_ofElementNow_4 4 rfl rfl)
theorem dX1_ofElementNow_112 : decode cX1_ofElementNow 112 = .ok (.ireturn, 1) := dk_172 (dk_at dksX1_ofElementNow_4 7 rfl rfl)
theorem dX1_ofElementNow_113 : decode cX1_ofElementNow 113 = .ok (.aload_n 3, 1) := dk_45 (dk_at dksX1_ofElementNow_4 8 rfl rfl)
theorem dX1_ofElementNow_114 : decode cX1_ofElementNow 114 = .ok (.aload_n 3, 1) := dk_45 (dk_at dksX1_ofElementNow_4 9 rfl rfl)
theorem dX1_ofElementNow_115 : decode cX1_ofElementNow 115 = .ok (.invokevirtual 158, 3) := dk_182 0 158 (dk_at dksX1_ofElementNow_4 10 rfl rfl)
theorem dX1_ofElementNow_118 : decode cX1_ofElementNow 118 = .ok (.aload_n 3, 1) := dk_45 (dk_at dksX1_ofElementNow_4 13 rfl rfl)
theorem dX1_ofElementNow_119 : decode cX1_ofElementNow 119 = .ok (.invokevirtual 254, 3) := dk_182 0 254 (dk_at dksX1_ofElementNow_4 14 rfl rfl)
theorem dX1_ofElementNow_122 : decode cX1_ofElementNow 122 = .ok (.ifCond .eq 7, 3) := dk_153 0 7 (dk_at dksX1_ofElementNow_4 17 rfl rfl)
theorem dX1_ofElementNow_125 : decode cX1_ofElementNow 125 = .ok (.iconst 1, 1) := dk_4 (dk_at dksX1_ofElementNow_4 20 rfl rfl)
theorem dX1_ofElementNow_126 : decode cX1_ofElementNow 126 = .ok (.goto 4, 3) := dk_167 0 4 (dk_at dksX1_ofElementNow_4 21 rfl rfl)
theorem dX1_ofElementNow_129 : decode cX1_ofElementNow 129 = .ok (.iconst 0, 1) := dk_3 (dk_at dksX1_ofElementNow_5 0 rfl rfl)
theorem dX1_ofElementNow_130 : decode cX1_ofElementNow 130 = .ok (.ireturn, 1) := dk_172 (dk_at dksX1_ofElementNow_5 1 rfl rfl)
theorem dX1_ofElementNow_131 : decode cX1_ofElementNow 131 = .ok (.aload_n 3, 1) := dk_45 (dk_at dksX1_ofElementNow_5 2 rfl rfl)
theorem dX1_ofElementNow_132 : decode cX1_ofElementNow 132 = .ok (.invokevirtual 198, 3) := dk_182 0 198 (dk_at dksX1_ofElementNow_5 3 rfl rfl)
theorem dX1_ofElementNow_135 : decode cX1_ofElementNow 135 = .ok (.ireturn, 1) := dk_172 (dk_at dksX1_ofElementNow_5 6 rfl rfl)
theorem dX1_ofElementNow_136 : decode cX1_ofElementNow 136 = .ok (.aload_n 3, 1) := dk_45 (dk_at dksX1_ofElementNow_5 7 rfl rfl)
theorem dX1_ofElementNow_137 : decode cX1_ofElementNow 137 = .ok (.iload_n 2, 1) := dk_28 (dk_at dksX1_ofElementNow_5 8 rfl rfl)
theorem dX1_ofElementNow_138 : decode cX1_ofElementNow 138 = .ok (.bipush 8, 2) := dk_16 8 (dk_at dksX1_ofElementNow_5 9 rfl rfl)
theorem dX1_ofElementNow_140 : decode cX1_ofElementNow 140 = .ok (.if_icmp .ne 7, 3) := dk_160 0 7 (dk_at dksX1_ofElementNow_5 11 rfl rfl)
theorem dX1_ofElementNow_143 : decode cX1_ofElementNow 143 = .ok (.iconst 1, 1) := dk_4 (dk_at dksX1_ofElementNow_5 14 rfl rfl)
theorem dX1_ofElementNow_144 : decode cX1_ofElementNow 144 = .ok (.goto 4, 3) := dk_167 0 4 (dk_at dksX1_ofElementNow_5 15 rfl rfl)
theorem dX1_ofElementNow_147 : decode cX1_ofElementNow 147 = .ok (.iconst 0, 1) := dk_3 (dk_at dksX1_ofElementNow_5 18 rfl rfl)
theorem dX1_ofElementNow_148 : decode cX1_ofElementNow 148 = .ok (.invokevirtual 258, 3) := dk_182 1 2 (dk_at dksX1_ofElementNow_5 19 rfl rfl)
theorem dX1_ofElementNow_151 : decode cX1_ofElementNow 151 = .ok (.ireturn, 1) := dk_172 (dk_at dksX1_ofElementNow_5 22 rfl rfl)
abbrev cX1_inverseOf : ByteArray := prog_1_method_6_code
def yX1_inverseOf : MethodName := ⟨RX1, "inverseOf", "(I)I"⟩
def dkwX1_inverseOf_0 : List UInt8 := [4, 61, 42, 28, 27, 104, 182, 0, 25, 4, 159, 0, 9, 132, 2, 1, 167, 255, 242, 28, 172]
abbrev dktX1_inverseOf_0 : List UInt8 := dkwX1_inverseOf_0 ++ []
theorem dksX1_inverseOf_0 : cX1_inverseOf.data.toList.drop 0 = dktX1_inverseOf_0 := by decide +kernel
theorem dX1_inverseOf_0 : decode cX1_inverseOf 0 = .ok (.iconst 1, 1) := dk_4 (dk_at dksX1_inverseOf_0 0 rfl rfl)
theorem dX1_inverseOf_1 : decode cX1_inverseOf 1 = .ok (.istore_n 2, 1) := dk_61 (dk_at dksX1_inverseOf_0 1 rfl rfl)
theorem dX1_inverseOf_2 : decode cX1_inverseOf 2 = .ok (.aload_n 0, 1) := dk_42 (dk_at dksX1_inverseOf_0 2 rfl rfl)
theorem dX1_inverseOf_3 : decode cX1_inverseOf 3 = .ok (.iload_n 2, 1) := dk_28 (dk_at dksX1_inverseOf_0 3 rfl rfl)
theorem dX1_inverseOf_4 : decode cX1_inverseOf 4 = .ok (.iload_n 1, 1) := dk_27 (dk_at dksX1_inverseOf_0 4 rfl rfl)
theorem dX1_inverseOf_5 : decode cX1_inverseOf 5 = .ok (.imul, 1) := dk_104 (dk_at dksX1_inverseOf_0 5 rfl rfl)
theorem dX1_inverseOf_6 : decode cX1_inverseOf 6 = .ok (.invokevirtual 25, 3) := dk_182 0 25 (dk_at dksX1_inverseOf_0 6 rfl rfl)
theorem dX1_inverseOf_9 : decode cX1_inverseOf 9 = .ok (.iconst 1, 1) := dk_4 (dk_at dksX1_inverseOf_0 9 rfl rfl)
theorem dX1_inverseOf_10 : decode cX1_inverseOf 10 = .ok (.if_icmp .eq 9, 3) := dk_159 0 9 (dk_at dksX1_inverseOf_0 10 rfl rfl)
theorem dX1_inverseOf_13 : decode cX1_inverseOf 13 = .ok (.iinc 2 1, 3) := dk_132 2 1 (dk_at dksX1_inverseOf_0 13 rfl rfl)
theorem dX1_inverseOf_16 : decode cX1_inverseOf 16 = .ok (.goto (-14), 3) := dk_167 255 242 (dk_at dksX1_inverseOf_0 16 rfl rfl)
theorem dX1_inverseOf_19 : decode cX1_inverseOf 19 = .ok (.iload_n 2, 1) := dk_28 (dk_at dksX1_inverseOf_0 19 rfl rfl)
theorem dX1_inverseOf_20 : decode cX1_inverseOf 20 = .ok (.ireturn, 1) := dk_172 (dk_at dksX1_inverseOf_0 20 rfl rfl)
abbrev cX1_prime : ByteArray := prog_1_method_9_code
def yX1_prime : MethodName := ⟨RX1, "prime", "(I)I"⟩
def dkwX1_prime_1 : List UInt8 := [42, 180, 0, 35, 182, 0, 53, 184, 0, 57, 42, 180, 0, 13, 61, 42, 27, 181, 0, 13, 28, 172]
abbrev dktX1_prime_1 : List UInt8 := dkwX1_prime_1 ++ []
def dkwX1_prime_0 : List UInt8 := [27, 6, 159, 0, 14, 27, 8, 159, 0, 9, 27, 16, 7, 160, 0, 7, 4, 167, 0, 4, 3, 184, 0, 49]
abbrev dktX1_prime_0 : List UInt8 := dkwX1_prime_0 ++ dktX1_prime_1
theorem dksX1_prime_0 : cX1_prime.data.toList.drop 0 = dktX1_prime_0 := by decide +kernel
theorem dksX1_prime_1 : cX1_prime.data.toList.drop 24 = dktX1_prime_1 := dk_seg dksX1_prime_0 24 rfl rfl
theorem dX1_prime_0 : decode cX1_prime 0 = .ok (.iload_n 1, 1) := dk_27 (dk_at dksX1_prime_0 0 rfl rfl)
theorem dX1_prime_1 : decode cX1_prime 1 = .ok (.iconst 3, 1) := dk_6 (dk_at dksX1_prime_0 1 rfl rfl)
theorem dX1_prime_2 : decode cX1_prime 2 = .ok (.if_icmp .eq 14, 3) := dk_159 0 14 (dk_at dksX1_prime_0 2 rfl rfl)
theorem dX1_prime_5 : decode cX1_prime 5 = .ok (.iload_n 1, 1) := dk_27 (dk_at dksX1_prime_0 5 rfl rfl)
theorem dX1_prime_6 : decode cX1_prime 6 = .ok (.iconst 5, 1) := dk_8 (dk_at dksX1_prime_0 6 rfl rfl)
theorem dX1_prime_7 : decode cX1_prime 7 = .ok (.if_icmp .eq 9, 3) := dk_159 0 9 (dk_at dksX1_prime_0 7 rfl rfl)
theorem dX1_prime_10 : decode cX1_prime 10 = .ok (.iload_n 1, 1) := dk_27 (dk_at dksX1_prime_0 10 rfl rfl)
theorem dX1_prime_11 : decode cX1_prime 11 = .ok (.bipush 7, 2) := dk_16 7 (dk_at dksX1_prime_0 11 rfl rfl)
theorem dX1_prime_13 : decode cX1_prime 13 = .ok (.if_icmp .ne 7, 3) := dk_160 0 7 (dk_at dksX1_prime_0 13 rfl rfl)
theorem dX1_prime_16 : decode cX1_prime 16 = .ok (.iconst 1, 1) := dk_4 (dk_at dksX1_prime_0 16 rfl rfl)
theorem dX1_prime_17 : decode cX1_prime 17 = .ok (.goto 4, 3) := dk_167 0 4 (dk_at dksX1_prime_0 17 rfl rfl)
theorem dX1_prime_20 : decode cX1_prime 20 = .ok (.iconst 0, 1) := dk_3 (dk_at dksX1_prime_0 20 rfl rfl)
theorem dX1_prime_21 : decode cX1_prime 21 = .ok (.invokestatic 49, 3) := dk_184 0 49 (dk_at dksX1_prime_0 21 rfl rfl)
theorem dX1_prime_24 : decode cX1_prime 24 = .ok (.aload_n 0, 1) := dk_42 (dk_at dksX1_prime_1 0 rfl rfl)
theorem dX1_prime_25 : decode cX1_prime 25 = .ok (.getfield 35, 3) := dk_180 0 35 (dk_at dksX1_prime_1 1 rfl rfl)
theorem dX1_prime_28 : decode cX1_prime 28 = .ok (.invokevirtual 53, 3) := dk_182 0 53 (dk_at dksX1_prime_1 4 rfl rfl)
theorem dX1_prime_31 : decode cX1_prime 31 = .ok (.invokestatic 57, 3) := dk_184 0 57 (dk_at dksX1_prime_1 7 rfl rfl)
theorem dX1_prime_34 : decode cX1_prime 34 = .ok (.aload_n 0, 1) := dk_42 (dk_at dksX1_prime_1 10 rfl rfl)
theorem dX1_prime_35 : decode cX1_prime 35 = .ok (.getfield 13, 3) := dk_180 0 13 (dk_at dksX1_prime_1 11 rfl rfl)
theorem dX1_prime_38 : decode cX1_prime 38 = .ok (.istore_n 2, 1) := dk_61 (dk_at dksX1_prime_1 14 rfl rfl)
theorem dX1_prime_39 : decode cX1_prime 39 = .ok (.aload_n 0, 1) := dk_42 (dk_at dksX1_prime_1 15 rfl rfl)
theorem dX1_prime_40 : decode cX1_prime 40 = .ok (.iload_n 1, 1) := dk_27 (dk_at dksX1_prime_1 16 rfl rfl)
theorem dX1_prime_41 : decode cX1_prime 41 = .ok (.putfield 13, 3) := dk_181 0 13 (dk_at dksX1_prime_1 17 rfl rfl)
theorem dX1_prime_44 : decode cX1_prime 44 = .ok (.iload_n 2, 1) := dk_28 (dk_at dksX1_prime_1 20 rfl rfl)
theorem dX1_prime_45 : decode cX1_prime 45 = .ok (.ireturn, 1) := dk_172 (dk_at dksX1_prime_1 21 rfl rfl)
abbrev cX1_require : ByteArray := prog_1_method_1_code
def yX1_require : MethodName := ⟨RX1, "require", "(Z)V"⟩
def dkwX1_require_0 : List UInt8 := [26, 154, 0, 11, 187, 0, 1, 89, 183, 0, 3, 191, 177]
abbrev dktX1_require_0 : List UInt8 := dkwX1_require_0 ++ []
theorem dksX1_require_0 : cX1_require.data.toList.drop 0 = dktX1_require_0 := by decide +kernel
theorem dX1_require_0 : decode cX1_require 0 = .ok (.iload_n 0, 1) := dk_26 (dk_at dksX1_require_0 0 rfl rfl)
theorem dX1_require_1 : decode cX1_require 1 = .ok (.ifCond .ne 11, 3) := dk_154 0 11 (dk_at dksX1_require_0 1 rfl rfl)
theorem dX1_require_4 : decode cX1_require 4 = .ok (.new 1, 3) := dk_187 0 1 (dk_at dksX1_require_0 4 rfl rfl)
theorem dX1_require_7 : decode cX1_require 7 = .ok (.dup, 1) := dk_89 (dk_at dksX1_require_0 7 rfl rfl)
theorem dX1_require_8 : decode cX1_require 8 = .ok (.invokespecial 3, 3) := dk_183 0 3 (dk_at dksX1_require_0 8 rfl rfl)
theorem dX1_require_11 : decode cX1_require 11 = .ok (.athrow, 1) := dk_191 (dk_at dksX1_require_0 11 rfl rfl)
theorem dX1_require_12 : decode cX1_require 12 = .ok (.return_, 1) := dk_177 (dk_at dksX1_require_0 12 rfl rfl)
abbrev cX1_requireState : ByteArray := prog_1_method_2_code
def yX1_requireState : MethodName := ⟨RX1, "requireState", "(Z)V"⟩
def dkwX1_requireState_0 : List UInt8 := [26, 154, 0, 11, 187, 0, 7, 89, 183, 0, 9, 191, 177]
abbrev dktX1_requireState_0 : List UInt8 := dkwX1_requireState_0 ++ []
theorem dksX1_requireState_0 : cX1_requireState.data.toList.drop 0 = dktX1_requireState_0 := by decide +kernel
theorem dX1_requireState_0 : decode cX1_requireState 0 = .ok (.iload_n 0, 1) := dk_26 (dk_at dksX1_requireState_0 0 rfl rfl)
theorem dX1_requireState_1 : decode cX1_requireState 1 = .ok (.ifCond .ne 11, 3) := dk_154 0 11 (dk_at dksX1_requireState_0 1 rfl rfl)
theorem dX1_requireState_4 : decode cX1_requireState 4 = .ok (.new 7, 3) := dk_187 0 7 (dk_at dksX1_requireState_0 4 rfl rfl)
theorem dX1_requireState_7 : decode cX1_requireState 7 = .ok (.dup, 1) := dk_89 (dk_at dksX1_requireState_0 7 rfl rfl)
theorem dX1_requireState_8 : decode cX1_requireState 8 = .ok (.invokespecial 9, 3) := dk_183 0 9 (dk_at dksX1_requireState_0 8 rfl rfl)
theorem dX1_requireState_11 : decode cX1_requireState 11 = .ok (.athrow, 1) := dk_191 (dk_at dksX1_requireState_0 11 rfl rfl)
theorem dX1_requireState_12 : decode cX1_requireState 12 = .ok (.return_, 1) := dk_177 (dk_at dksX1_requireState_0 12 rfl rfl)
abbrev cX1_algebra : ByteArray := prog_1_method_12_code
def yX1_algebra : MethodName := ⟨RX1, "algebra", "(I)I"⟩
def dkwX1_algebra_2 : List UInt8 := [178, 0, 86, 183, 0, 89, 182, 0, 92, 87, 42, 180, 0, 35, 182, 0, 60, 4, 100, 172]
abbrev dktX1_algebra_2 : List UInt8 := dkwX1_algebra_2 ++ []
def dkwX1_algebra_1 : List UInt8 := [3, 184, 0, 57, 42, 180, 0, 35, 187, 0, 72, 89, 42, 27, 154, 0, 9, 178, 0, 80, 167, 0, 6]
abbrev dktX1_algebra_1 : List UInt8 := dkwX1_algebra_1 ++ dktX1_algebra_2
def dkwX1_algebra_0 : List UInt8 := [3, 4, 27, 184, 0, 76, 184, 0, 49, 42, 180, 0, 35, 182, 0, 60, 7, 162, 0, 7, 4, 167, 0, 4]
abbrev dktX1_algebra_0 : List UInt8 := dkwX1_algebra_0 ++ dktX1_algebra_1
theorem dksX1_algebra_0 : cX1_algebra.data.toList.drop 0 = dktX1_algebra_0 := by decide +kernel
theorem dksX1_algebra_1 : cX1_algebra.data.toList.drop 24 = dktX1_algebra_1 := dk_seg dksX1_algebra_0 24 rfl rfl
theorem dksX1_algebra_2 : cX1_algebra.data.toList.drop 47 = dktX1_algebra_2 := dk_seg dksX1_algebra_1 23 rfl rfl
theorem dX1_algebra_0 : decode cX1_algebra 0 = .ok (.iconst 0, 1) := dk_3 (dk_at dksX1_algebra_0 0 rfl rfl)
theorem dX1_algebra_1 : decode cX1_algebra 1 = .ok (.iconst 1, 1) := dk_4 (dk_at dksX1_algebra_0 1 rfl rfl)
theorem dX1_algebra_2 : decode cX1_algebra 2 = .ok (.iload_n 1, 1) := dk_27 (dk_at dksX1_algebra_0 2 rfl rfl)
theorem dX1_algebra_3 : decode cX1_algebra 3 = .ok (.invokestatic 76, 3) := dk_184 0 76 (dk_at dksX1_algebra_0 3 rfl rfl)
theorem dX1_algebra_6 : decode cX1_algebra 6 = .ok (.invokestatic 49, 3) := dk_184 0 49 (dk_at dksX1_algebra_0 6 rfl rfl)
theorem dX1_algebra_9 : decode cX1_algebra 9 = .ok (.aload_n 0, 1) := dk_42 (dk_at dksX1_algebra_0 9 rfl rfl)
theorem dX1_algebra_10 : decode cX1_algebra 10 = .ok (.getfield 35, 3) := dk_180 0 35 (dk_at dksX1_algebra_0 10 rfl rfl)
theorem dX1_algebra_13 : decode cX1_algebra 13 = .ok (.invokevirtual 60, 3) := dk_182 0 60 (dk_at dksX1_algebra_0 13 rfl rfl)
theorem dX1_algebra_16 : decode cX1_algebra 16 = .ok (.iconst 4, 1) := dk_7 (dk_at dksX1_algebra_0 16 rfl rfl)
theorem dX1_algebra_17 : decode cX1_algebra 17 = .ok (.if_icmp .ge 7, 3) := dk_162 0 7 (dk_at dksX1_algebra_0 17 rfl rfl)
theorem dX1_algebra_20 : decode cX1_algebra 20 = .ok (.iconst 1, 1) := dk_4 (dk_at dksX1_algebra_0 20 rfl rfl)
theorem dX1_algebra_21 : decode cX1_algebra 21 = .ok (.goto 4, 3) := dk_167 0 4 (dk_at dksX1_algebra_0 21 rfl rfl)
theorem dX1_algebra_24 : decode cX1_algebra 24 = .ok (.iconst 0, 1) := dk_3 (dk_at dksX1_algebra_1 0 rfl rfl)
theorem dX1_algebra_25 : decode cX1_algebra 25 = .ok (.invokestatic 57, 3) := dk_184 0 57 (dk_at dksX1_algebra_1 1 rfl rfl)
theorem dX1_algebra_28 : decode cX1_algebra 28 = .ok (.aload_n 0, 1) := dk_42 (dk_at dksX1_algebra_1 4 rfl rfl)
theorem dX1_algebra_29 : decode cX1_algebra 29 = .ok (.getfield 35, 3) := dk_180 0 35 (dk_at dksX1_algebra_1 5 rfl rfl)
theorem dX1_algebra_32 : decode cX1_algebra 32 = .ok (.new 72, 3) := dk_187 0 72 (dk_at dksX1_algebra_1 8 rfl rfl)
theorem dX1_algebra_35 : decode cX1_algebra 35 = .ok (.dup, 1) := dk_89 (dk_at dksX1_algebra_1 11 rfl rfl)
theorem dX1_algebra_36 : decode cX1_algebra 36 = .ok (.aload_n 0, 1) := dk_42 (dk_at dksX1_algebra_1 12 rfl rfl)
theorem dX1_algebra_37 : decode cX1_algebra 37 = .ok (.iload_n 1, 1) := dk_27 (dk_at dksX1_algebra_1 13 rfl rfl)
theorem dX1_algebra_38 : decode cX1_algebra 38 = .ok (.ifCond .ne 9, 3) := dk_154 0 9 (dk_at dksX1_algebra_1 14 rfl rfl)
theorem dX1_algebra_41 : decode cX1_algebra 41 = .ok (.getstatic 80, 3) := dk_178 0 80 (dk_at dksX1_algebra_1 17 rfl rfl)
theorem dX1_algebra_44 : decode cX1_algebra 44 = .ok (.goto 6, 3) := dk_167 0 6 (dk_at dksX1_algebra_1 20 rfl rfl)
theorem dX1_algebra_47 : decode cX1_algebra 47 = .ok (.getstatic 86, 3) := dk_178 0 86 (dk_at dksX1_algebra_2 0 rfl rfl)
theorem dX1_algebra_50 : decode cX1_algebra 50 = .ok (.invokespecial 89, 3) := dk_183 0 89 (dk_at dksX1_algebra_2 3 rfl rfl)
theorem dX1_algebra_53 : decode cX1_algebra 53 = .ok (.invokevirtual 92, 3) := dk_182 0 92 (dk_at dksX1_algebra_2 6 rfl rfl)
theorem dX1_algebra_56 : decode cX1_algebra 56 = .ok (.pop, 1) := dk_87 (dk_at dksX1_algebra_2 9 rfl rfl)
theorem dX1_algebra_57 : decode cX1_algebra 57 = .ok (.aload_n 0, 1) := dk_42 (dk_at dksX1_algebra_2 10 rfl rfl)
theorem dX1_algebra_58 : decode cX1_algebra 58 = .ok (.getfield 35, 3) := dk_180 0 35 (dk_at dksX1_algebra_2 11 rfl rfl)
theorem dX1_algebra_61 : decode cX1_algebra 61 = .ok (.invokevirtual 60, 3) := dk_182 0 60 (dk_at dksX1_algebra_2 14 rfl rfl)
theorem dX1_algebra_64 : decode cX1_algebra 64 = .ok (.iconst 1, 1) := dk_4 (dk_at dksX1_algebra_2 17 rfl rfl)
theorem dX1_algebra_65 : decode cX1_algebra 65 = .ok (.isub, 1) := dk_100 (dk_at dksX1_algebra_2 18 rfl rfl)
theorem dX1_algebra_66 : decode cX1_algebra 66 = .ok (.ireturn, 1) := dk_172 (dk_at dksX1_algebra_2 19 rfl rfl)
abbrev cX1_dial : ByteArray := prog_1_method_15_code
def yX1_dial : MethodName := ⟨RX1, "dial", "(II)I"⟩
def dkwX1_dial_2 : List UInt8 := [167, 0, 4, 3, 184, 0, 57, 45, 28, 182, 0, 128, 45, 182, 0, 131, 172]
abbrev dktX1_dial_2 : List UInt8 := dkwX1_dial_2 ++ []
def dkwX1_dial_1 : List UInt8 := [184, 0, 49, 45, 180, 0, 121, 182, 0, 60, 7, 162, 0, 15, 42, 45, 182, 0, 124, 154, 0, 7, 4]
abbrev dktX1_dial_1 : List UInt8 := dkwX1_dial_1 ++ dktX1_dial_2
def dkwX1_dial_0 : List UInt8 := [42, 27, 182, 0, 113, 78, 42, 28, 182, 0, 117, 153, 0, 11, 28, 158, 0, 7, 4, 167, 0, 4, 3]
abbrev dktX1_dial_0 : List UInt8 := dkwX1_dial_0 ++ dktX1_dial_1
theorem dksX1_dial_0 : cX1_dial.data.toList.drop 0 = dktX1_dial_0 := by decide +kernel
theorem dksX1_dial_1 : cX1_dial.data.toList.drop 23 = dktX1_dial_1 := dk_seg dksX1_dial_0 23 rfl rfl
theorem dksX1_dial_2 : cX1_dial.data.toList.drop 46 = dktX1_dial_2 := dk_seg dksX1_dial_1 23 rfl rfl
theorem dX1_dial_0 : decode cX1_dial 0 = .ok (.aload_n 0, 1) := dk_42 (dk_at dksX1_dial_0 0 rfl rfl)
theorem dX1_dial_1 : decode cX1_dial 1 = .ok (.iload_n 1, 1) := dk_27 (dk_at dksX1_dial_0 1 rfl rfl)
theorem dX1_dial_2 : decode cX1_dial 2 = .ok (.invokevirtual 113, 3) := dk_182 0 113 (dk_at dksX1_dial_0 2 rfl rfl)
theorem dX1_dial_5 : decode cX1_dial 5 = .ok (.astore_n 3, 1) := dk_78 (dk_at dksX1_dial_0 5 rfl rfl)
theorem dX1_dial_6 : decode cX1_dial 6 = .ok (.aload_n 0, 1) := dk_42 (dk_at dksX1_dial_0 6 rfl rfl)
theorem dX1_dial_7 : decode cX1_dial 7 = .ok (.iload_n 2, 1) := dk_28 (dk_at dksX1_dial_0 7 rfl rfl)
theorem dX1_dial_8 : decode cX1_dial 8 = .ok (.invokevirtual 117, 3) := dk_182 0 117 (dk_at dksX1_dial_0 8 rfl rfl)
theorem dX1_dial_11 : decode cX1_dial 11 = .ok (.ifCond .eq 11, 3) := dk_153 0 11 (dk_at dksX1_dial_0 11 rfl rfl)
theorem dX1_dial_14 : decode cX1_dial 14 = .ok (.iload_n 2, 1) := dk_28 (dk_at dksX1_dial_0 14 rfl rfl)
theorem dX1_dial_15 : decode cX1_dial 15 = .ok (.ifCond .le 7, 3) := dk_158 0 7 (dk_at dksX1_dial_0 15 rfl rfl)
theorem dX1_dial_18 : decode cX1_dial 18 = .ok (.iconst 1, 1) := dk_4 (dk_at dksX1_dial_0 18 rfl rfl)
theorem dX1_dial_19 : decode cX1_dial 19 = .ok (.goto 4, 3) := dk_167 0 4 (dk_at dksX1_dial_0 19 rfl rfl)
theorem dX1_dial_22 : decode cX1_dial 22 = .ok (.iconst 0, 1) := dk_3 (dk_at dksX1_dial_0 22 rfl rfl)
theorem dX1_dial_23 : decode cX1_dial 23 = .ok (.invokestatic 49, 3) := dk_184 0 49 (dk_at dksX1_dial_1 0 rfl rfl)
theorem dX1_dial_26 : decode cX1_dial 26 = .ok (.aload_n 3, 1) := dk_45 (dk_at dksX1_dial_1 3 rfl rfl)
theorem dX1_dial_27 : decode cX1_dial 27 = .ok (.getfield 121, 3) := dk_180 0 121 (dk_at dksX1_dial_1 4 rfl rfl)
theorem dX1_dial_30 : decode cX1_dial 30 = .ok (.invokevirtual 60, 3) := dk_182 0 60 (dk_at dksX1_dial_1 7 rfl rfl)
theorem dX1_dial_33 : decode cX1_dial 33 = .ok (.iconst 4, 1) := dk_7 (dk_at dksX1_dial_1 10 rfl rfl)
theorem dX1_dial_34 : decode cX1_dial 34 = .ok (.if_icmp .ge 15, 3) := dk_162 0 15 (dk_at dksX1_dial_1 11 rfl rfl)
theorem dX1_dial_37 : decode cX1_dial 37 = .ok (.aload_n 0, 1) := dk_42 (dk_at dksX1_dial_1 14 rfl rfl)
theorem dX1_dial_38 : decode cX1_dial 38 = .ok (.aload_n 3, 1) := dk_45 (dk_at dksX1_dial_1 15 rfl rfl)
theorem dX1_dial_39 : decode cX1_dial 39 = .ok (.invokevirtual 124, 3) := dk_182 0 124 (dk_at dksX1_dial_1 16 rfl rfl)
theorem dX1_dial_42 : decode cX1_dial 42 = .ok (.ifCond .ne 7, 3) := dk_154 0 7 (dk_at dksX1_dial_1 19 rfl rfl)
theorem dX1_dial_45 : decode cX1_dial 45 = .ok (.iconst 1, 1) := dk_4 (dk_at dksX1_dial_1 22 rfl rfl)
theorem dX1_dial_46 : decode cX1_dial 46 = .ok (.goto 4, 3) := dk_167 0 4 (dk_at dksX1_dial_2 0 rfl rfl)
theorem dX1_dial_49 : decode cX1_dial 49 = .ok (.iconst 0, 1) := dk_3 (dk_at dksX1_dial_2 3 rfl rfl)
theorem dX1_dial_50 : decode cX1_dial 50 = .ok (.invokestatic 57, 3) := dk_184 0 57 (dk_at dksX1_dial_2 4 rfl rfl)
theorem dX1_dial_53 : decode cX1_dial 53 = .ok (.aload_n 3, 1) := dk_45 (dk_at dksX1_dial_2 7 rfl rfl)
theorem dX1_dial_54 : decode cX1_dial 54 = .ok (.iload_n 2, 1) := dk_28 (dk_at dksX1_dial_2 8 rfl rfl)
theorem dX1_dial_55 : decode cX1_dial 55 = .ok (.invokevirtual 128, 3) := dk_182 0 128 (dk_at dksX1_dial_2 9 rfl rfl)
theorem dX1_dial_58 : decode cX1_dial 58 = .ok (.aload_n 3, 1) := dk_45 (dk_at dksX1_dial_2 12 rfl rfl)
theorem dX1_dial_59 : decode cX1_dial 59 = .ok (.invokevirtual 131, 3) := dk_182 0 131 (dk_at dksX1_dial_2 13 rfl rfl)
theorem dX1_dial_62 : decode cX1_dial 62 = .ok (.ireturn, 1) := dk_172 (dk_at dksX1_dial_2 16 rfl rfl)
abbrev cX1_algebraAt : ByteArray := prog_1_method_10_code
def yX1_algebraAt : MethodName := ⟨RX1, "algebraAt", "(I)LVersorhall$Algebra;"⟩
def dkwX1_algebraAt_0 : List UInt8 := [27, 42, 180, 0, 35, 182, 0, 60, 184, 0, 64, 42, 180, 0, 35, 27, 182, 0, 68, 192, 0, 72, 176]
abbrev dktX1_algebraAt_0 : List UInt8 := dkwX1_algebraAt_0 ++ []
theorem dksX1_algebraAt_0 : cX1_algebraAt.data.toList.drop 0 = dktX1_algebraAt_0 := by decide +kernel
theorem dX1_algebraAt_0 : decode cX1_algebraAt 0 = .ok (.iload_n 1, 1) := dk_27 (dk_at dksX1_algebraAt_0 0 rfl rfl)
theorem dX1_algebraAt_1 : decode cX1_algebraAt 1 = .ok (.aload_n 0, 1) := dk_42 (dk_at dksX1_algebraAt_0 1 rfl rfl)
theorem dX1_algebraAt_2 : decode cX1_algebraAt 2 = .ok (.getfield 35, 3) := dk_180 0 35 (dk_at dksX1_algebraAt_0 2 rfl rfl)
theorem dX1_algebraAt_5 : decode cX1_algebraAt 5 = .ok (.invokevirtual 60, 3) := dk_182 0 60 (dk_at dksX1_algebraAt_0 5 rfl rfl)
theorem dX1_algebraAt_8 : decode cX1_algebraAt 8 = .ok (.invokestatic 64, 3) := dk_184 0 64 (dk_at dksX1_algebraAt_0 8 rfl rfl)
theorem dX1_algebraAt_11 : decode cX1_algebraAt 11 = .ok (.aload_n 0, 1) := dk_42 (dk_at dksX1_algebraAt_0 11 rfl rfl)
theorem dX1_algebraAt_12 : decode cX1_algebraAt 12 = .ok (.getfield 35, 3) := dk_180 0 35 (dk_at dksX1_algebraAt_0 12 rfl rfl)
theorem dX1_algebraAt_15 : decode cX1_algebraAt 15 = .ok (.iload_n 1, 1) := dk_27 (dk_at dksX1_algebraAt_0 15 rfl rfl)
theorem dX1_algebraAt_16 : decode cX1_algebraAt 16 = .ok (.invokevirtual 68, 3) := dk_182 0 68 (dk_at dksX1_algebraAt_0 16 rfl rfl)
theorem dX1_algebraAt_19 : decode cX1_algebraAt 19 = .ok (.checkcast 72, 3) := dk_192 0 72 (dk_at dksX1_algebraAt_0 19 rfl rfl)
theorem dX1_algebraAt_22 : decode cX1_algebraAt 22 = .ok (.areturn, 1) := dk_176 (dk_at dksX1_algebraAt_0 22 rfl rfl)
abbrev cX1_requireIndex : ByteArray := prog_1_method_3_code
def yX1_requireIndex : MethodName := ⟨RX1, "requireIndex", "(II)V"⟩
def dkwX1_requireIndex_0 : List UInt8 := [26, 155, 0, 8, 26, 27, 161, 0, 11, 187, 0, 10, 89, 183, 0, 12, 191, 177]
abbrev dktX1_requireIndex_0 : List UInt8 := dkwX1_requireIndex_0 ++ []
theorem dksX1_requireIndex_0 : cX1_requireIndex.data.toList.drop 0 = dktX1_requireIndex_0 := by decide +kernel
theorem dX1_requireIndex_0 : decode cX1_requireIndex 0 = .ok (.iload_n 0, 1) := dk_26 (dk_at dksX1_requireIndex_0 0 rfl rfl)
theorem dX1_requireIndex_1 : decode cX1_requireIndex 1 = .ok (.ifCond .lt 8, 3) := dk_155 0 8 (dk_at dksX1_requireIndex_0 1 rfl rfl)
theorem dX1_requireIndex_4 : decode cX1_requireIndex 4 = .ok (.iload_n 0, 1) := dk_26 (dk_at dksX1_requireIndex_0 4 rfl rfl)
theorem dX1_requireIndex_5 : decode cX1_requireIndex 5 = .ok (.iload_n 1, 1) := dk_27 (dk_at dksX1_requireIndex_0 5 rfl rfl)
theorem dX1_requireIndex_6 : decode cX1_requireIndex 6 = .ok (.if_icmp .lt 11, 3) := dk_161 0 11 (dk_at dksX1_requireIndex_0 6 rfl rfl)
theorem dX1_requireIndex_9 : decode cX1_requireIndex 9 = .ok (.new 10, 3) := dk_187 0 10 (dk_at dksX1_requireIndex_0 9 rfl rfl)
theorem dX1_requireIndex_12 : decode cX1_requireIndex 12 = .ok (.dup, 1) := dk_89 (dk_at dksX1_requireIndex_0 12 rfl rfl)
theorem dX1_requireIndex_13 : decode cX1_requireIndex 13 = .ok (.invokespecial 12, 3) := dk_183 0 12 (dk_at dksX1_requireIndex_0 13 rfl rfl)
theorem dX1_requireIndex_16 : decode cX1_requireIndex 16 = .ok (.athrow, 1) := dk_191 (dk_at dksX1_requireIndex_0 16 rfl rfl)
theorem dX1_requireIndex_17 : decode cX1_requireIndex 17 = .ok (.return_, 1) := dk_177 (dk_at dksX1_requireIndex_0 17 rfl rfl)
abbrev cX1_isNumber : ByteArray := prog_1_method_14_code
def yX1_isNumber : MethodName := ⟨RX1, "isNumber", "(I)Z"⟩
def dkwX1_isNumber_0 : List UInt8 := [3, 42, 180, 0, 13, 4, 100, 27, 184, 0, 76, 172]
abbrev dktX1_isNumber_0 : List UInt8 := dkwX1_isNumber_0 ++ []
theorem dksX1_isNumber_0 : cX1_isNumber.data.toList.drop 0 = dktX1_isNumber_0 := by decide +kernel
theorem dX1_isNumber_0 : decode cX1_isNumber 0 = .ok (.iconst 0, 1) := dk_3 (dk_at dksX1_isNumber_0 0 rfl rfl)
theorem dX1_isNumber_1 : decode cX1_isNumber 1 = .ok (.aload_n 0, 1) := dk_42 (dk_at dksX1_isNumber_0 1 rfl rfl)
theorem dX1_isNumber_2 : decode cX1_isNumber 2 = .ok (.getfield 13, 3) := dk_180 0 13 (dk_at dksX1_isNumber_0 2 rfl rfl)
theorem dX1_isNumber_5 : decode cX1_isNumber 5 = .ok (.iconst 1, 1) := dk_4 (dk_at dksX1_isNumber_0 5 rfl rfl)
theorem dX1_isNumber_6 : decode cX1_isNumber 6 = .ok (.isub, 1) := dk_100 (dk_at dksX1_isNumber_0 6 rfl rfl)
theorem dX1_isNumber_7 : decode cX1_isNumber 7 = .ok (.iload_n 1, 1) := dk_27 (dk_at dksX1_isNumber_0 7 rfl rfl)
theorem dX1_isNumber_8 : decode cX1_isNumber 8 = .ok (.invokestatic 76, 3) := dk_184 0 76 (dk_at dksX1_isNumber_0 8 rfl rfl)
theorem dX1_isNumber_11 : decode cX1_isNumber 11 = .ok (.ireturn, 1) := dk_172 (dk_at dksX1_isNumber_0 11 rfl rfl)
abbrev cX1_element : ByteArray := prog_1_method_16_code
def yX1_element : MethodName := ⟨RX1, "element", "(I)I"⟩
def dkwX1_element_2 : List UInt8 := [182, 0, 60, 4, 100, 172]
abbrev dktX1_element_2 : List UInt8 := dkwX1_element_2 ++ []
def dkwX1_element_1 : List UInt8 := [184, 0, 57, 42, 180, 0, 39, 187, 0, 74, 89, 42, 44, 183, 0, 134, 182, 0, 92, 87, 42, 180, 0, 39]
abbrev dktX1_element_1 : List UInt8 := dkwX1_element_1 ++ dktX1_element_2
def dkwX1_element_0 : List UInt8 := [42, 27, 182, 0, 113, 77, 42, 180, 0, 39, 182, 0, 60, 16, 10, 162, 0, 7, 4, 167, 0, 4, 3]
abbrev dktX1_element_0 : List UInt8 := dkwX1_element_0 ++ dktX1_element_1
theorem dksX1_element_0 : cX1_element.data.toList.drop 0 = dktX1_element_0 := by decide +kernel
theorem dksX1_element_1 : cX1_element.data.toList.drop 23 = dktX1_element_1 := dk_seg dksX1_element_0 23 rfl rfl
theorem dksX1_element_2 : cX1_element.data.toList.drop 47 = dktX1_element_2 := dk_seg dksX1_element_1 24 rfl rfl
theorem dX1_element_0 : decode cX1_element 0 = .ok (.aload_n 0, 1) := dk_42 (dk_at dksX1_element_0 0 rfl rfl)
theorem dX1_element_1 : decode cX1_element 1 = .ok (.iload_n 1, 1) := dk_27 (dk_at dksX1_element_0 1 rfl rfl)
theorem dX1_element_2 : decode cX1_element 2 = .ok (.invokevirtual 113, 3) := dk_182 0 113 (dk_at dksX1_element_0 2 rfl rfl)
theorem dX1_element_5 : decode cX1_element 5 = .ok (.astore_n 2, 1) := dk_77 (dk_at dksX1_element_0 5 rfl rfl)
theorem dX1_element_6 : decode cX1_element 6 = .ok (.aload_n 0, 1) := dk_42 (dk_at dksX1_element_0 6 rfl rfl)
theorem dX1_element_7 : decode cX1_element 7 = .ok (.getfield 39, 3) := dk_180 0 39 (dk_at dksX1_element_0 7 rfl rfl)
theorem dX1_element_10 : decode cX1_element 10 = .ok (.invokevirtual 60, 3) := dk_182 0 60 (dk_at dksX1_element_0 10 rfl rfl)
theorem dX1_element_13 : decode cX1_element 13 = .ok (.bipush 10, 2) := dk_16 10 (dk_at dksX1_element_0 13 rfl rfl)
theorem dX1_element_15 : decode cX1_element 15 = .ok (.if_icmp .ge 7, 3) := dk_162 0 7 (dk_at dksX1_element_0 15 rfl rfl)
theorem dX1_element_18 : decode cX1_element 18 = .ok (.iconst 1, 1) := dk_4 (dk_at dksX1_element_0 18 rfl rfl)
theorem dX1_element_19 : decode cX1_element 19 = .ok (.goto 4, 3) := dk_167 0 4 (dk_at dksX1_element_0 19 rfl rfl)
theorem dX1_element_22 : decode cX1_element 22 = .ok (.iconst 0, 1) := dk_3 (dk_at dksX1_element_0 22 rfl rfl)
theorem dX1_element_23 : decode cX1_element 23 = .ok (.invokestatic 57, 3) := dk_184 0 57 (dk_at dksX1_element_1 0 rfl rfl)
theorem dX1_element_26 : decode cX1_element 26 = .ok (.aload_n 0, 1) := dk_42 (dk_at dksX1_element_1 3 rfl rfl)
theorem dX1_element_27 : decode cX1_element 27 = .ok (.getfield 39, 3) := dk_180 0 39 (dk_at dksX1_element_1 4 rfl rfl)
theorem dX1_element_30 : decode cX1_element 30 = .ok (.new 74, 3) := dk_187 0 74 (dk_at dksX1_element_1 7 rfl rfl)
theorem dX1_element_33 : decode cX1_element 33 = .ok (.dup, 1) := dk_89 (dk_at dksX1_element_1 10 rfl rfl)
theorem dX1_element_34 : decode cX1_element 34 = .ok (.aload_n 0, 1) := dk_42 (dk_at dksX1_element_1 11 rfl rfl)
theorem dX1_element_35 : decode cX1_element 35 = .ok (.aload_n 2, 1) := dk_44 (dk_at dksX1_element_1 12 rfl rfl)
theorem dX1_element_36 : decode cX1_element 36 = .ok (.invokespecial 134, 3) := dk_183 0 134 (dk_at dksX1_element_1 13 rfl rfl)
theorem dX1_element_39 : decode cX1_element 39 = .ok (.invokevirtual 92, 3) := dk_182 0 92 (dk_at dksX1_element_1 16 rfl rfl)
theorem dX1_element_42 : decode cX1_element 42 = .ok (.pop, 1) := dk_87 (dk_at dksX1_element_1 19 rfl rfl)
theorem dX1_element_43 : decode cX1_element 43 = .ok (.aload_n 0, 1) := dk_42 (dk_at dksX1_element_1 20 rfl rfl)
theorem dX1_element_44 : decode cX1_element 44 = .ok (.getfield 39, 3) := dk_180 0 39 (dk_at dksX1_element_1 21 rfl rfl)
theorem dX1_element_47 : decode cX1_element 47 = .ok (.invokevirtual 60, 3) := dk_182 0 60 (dk_at dksX1_element_2 0 rfl rfl)
theorem dX1_element_50 : decode cX1_element 50 = .ok (.iconst 1, 1) := dk_4 (dk_at dksX1_element_2 3 rfl rfl)
theorem dX1_element_51 : decode cX1_element 51 = .ok (.isub, 1) := dk_100 (dk_at dksX1_element_2 4 rfl rfl)
theorem dX1_element_52 : decode cX1_element 52 = .ok (.ireturn, 1) := dk_172 (dk_at dksX1_element_2 5 rfl rfl)
abbrev cX1_set : ByteArray := prog_1_method_17_code
def yX1_set : MethodName := ⟨RX1, "set", "(III)I"⟩
def dkwX1_set_1 : List UInt8 := [184, 0, 49, 25, 4, 180, 0, 141, 28, 46, 54, 5, 25, 4, 180, 0, 141, 28, 29, 79, 21, 5, 172]
abbrev dktX1_set_1 : List UInt8 := dkwX1_set_1 ++ []
def dkwX1_set_0 : List UInt8 := [42, 27, 182, 0, 137, 58, 4, 28, 25, 4, 180, 0, 141, 190, 184, 0, 64, 42, 29, 182, 0, 117]
abbrev dktX1_set_0 : List UInt8 := dkwX1_set_0 ++ dktX1_set_1
theorem dksX1_set_0 : cX1_set.data.toList.drop 0 = dktX1_set_0 := by decide +kernel
theorem dksX1_set_1 : cX1_set.data.toList.drop 22 = dktX1_set_1 := dk_seg dksX1_set_0 22 rfl rfl
theorem dX1_set_0 : decode cX1_set 0 = .ok (.aload_n 0, 1) := dk_42 (dk_at dksX1_set_0 0 rfl rfl)
theorem dX1_set_1 : decode cX1_set 1 = .ok (.iload_n 1, 1) := dk_27 (dk_at dksX1_set_0 1 rfl rfl)
theorem dX1_set_2 : decode cX1_set 2 = .ok (.invokevirtual 137, 3) := dk_182 0 137 (dk_at dksX1_set_0 2 rfl rfl)
theorem dX1_set_5 : decode cX1_set 5 = .ok (.astore 4, 2) := dk_58 4 (dk_at dksX1_set_0 5 rfl rfl)
theorem dX1_set_7 : decode cX1_set 7 = .ok (.iload_n 2, 1) := dk_28 (dk_at dksX1_set_0 7 rfl rfl)
theorem dX1_set_8 : decode cX1_set 8 = .ok (.aload 4, 2) := dk_25 4 (dk_at dksX1_set_0 8 rfl rfl)
theorem dX1_set_10 : decode cX1_set 10 = .ok (.getfield 141, 3) := dk_180 0 141 (dk_at dksX1_set_0 10 rfl rfl)
theorem dX1_set_13 : decode cX1_set 13 = .ok (.arraylength, 1) := dk_190 (dk_at dksX1_set_0 13 rfl rfl)
theorem dX1_set_14 : decode cX1_set 14 = .ok (.invokestatic 64, 3) := dk_184 0 64 (dk_at dksX1_set_0 14 rfl rfl)
theorem dX1_set_17 : decode cX1_set 17 = .ok (.aload_n 0, 1) := dk_42 (dk_at dksX1_set_0 17 rfl rfl)
theorem dX1_set_18 : decode cX1_set 18 = .ok (.iload_n 3, 1) := dk_29 (dk_at dksX1_set_0 18 rfl rfl)
theorem dX1_set_19 : decode cX1_set 19 = .ok (.invokevirtual 117, 3) := dk_182 0 117 (dk_at dksX1_set_0 19 rfl rfl)
theorem dX1_set_22 : decode cX1_set 22 = .ok (.invokestatic 49, 3) := dk_184 0 49 (dk_at dksX1_set_1 0 rfl rfl)
theorem dX1_set_25 : decode cX1_set 25 = .ok (.aload 4, 2) := dk_25 4 (dk_at dksX1_set_1 3 rfl rfl)
theorem dX1_set_27 : decode cX1_set 27 = .ok (.getfield 141, 3) := dk_180 0 141 (dk_at dksX1_set_1 5 rfl rfl)
theorem dX1_set_30 : decode cX1_set 30 = .ok (.iload_n 2, 1) := dk_28 (dk_at dksX1_set_1 8 rfl rfl)
theorem dX1_set_31 : decode cX1_set 31 = .ok (.iaload, 1) := dk_46 (dk_at dksX1_set_1 9 rfl rfl)
theorem dX1_set_32 : decode cX1_set 32 = .ok (.istore 5, 2) := dk_54 5 (dk_at dksX1_set_1 10 rfl rfl)
theorem dX1_set_34 : decode cX1_set 34 = .ok (.aload 4, 2) := dk_25 4 (dk_at dksX1_set_1 12 rfl rfl)
theorem dX1_set_36 : decode cX1_set 36 = .ok (.getfield 141, 3) := dk_180 0 141 (dk_at dksX1_set_1 14 rfl rfl)
theorem dX1_set_39 : decode cX1_set 39 = .ok (.iload_n 2, 1) := dk_28 (dk_at dksX1_set_1 17 rfl rfl)
theorem dX1_set_40 : decode cX1_set 40 = .ok (.iload_n 3, 1) := dk_29 (dk_at dksX1_set_1 18 rfl rfl)
theorem dX1_set_41 : decode cX1_set 41 = .ok (.iastore, 1) := dk_79 (dk_at dksX1_set_1 19 rfl rfl)
theorem dX1_set_42 : decode cX1_set 42 = .ok (.iload 5, 2) := dk_21 5 (dk_at dksX1_set_1 20 rfl rfl)
theorem dX1_set_44 : decode cX1_set 44 = .ok (.ireturn, 1) := dk_172 (dk_at dksX1_set_1 22 rfl rfl)
abbrev cX1_elementAt : ByteArray := prog_1_method_11_code
def yX1_elementAt : MethodName := ⟨RX1, "elementAt", "(I)LVersorhall$Element;"⟩
def dkwX1_elementAt_0 : List UInt8 := [27, 42, 180, 0, 39, 182, 0, 60, 184, 0, 64, 42, 180, 0, 39, 27, 182, 0, 68, 192, 0, 74, 176]
abbrev dktX1_elementAt_0 : List UInt8 := dkwX1_elementAt_0 ++ []
theorem dksX1_elementAt_0 : cX1_elementAt.data.toList.drop 0 = dktX1_elementAt_0 := by decide +kernel
theorem dX1_elementAt_0 : decode cX1_elementAt 0 = .ok (.iload_n 1, 1) := dk_27 (dk_at dksX1_elementAt_0 0 rfl rfl)
theorem dX1_elementAt_1 : decode cX1_elementAt 1 = .ok (.aload_n 0, 1) := dk_42 (dk_at dksX1_elementAt_0 1 rfl rfl)
theorem dX1_elementAt_2 : decode cX1_elementAt 2 = .ok (.getfield 39, 3) := dk_180 0 39 (dk_at dksX1_elementAt_0 2 rfl rfl)
theorem dX1_elementAt_5 : decode cX1_elementAt 5 = .ok (.invokevirtual 60, 3) := dk_182 0 60 (dk_at dksX1_elementAt_0 5 rfl rfl)
theorem dX1_elementAt_8 : decode cX1_elementAt 8 = .ok (.invokestatic 64, 3) := dk_184 0 64 (dk_at dksX1_elementAt_0 8 rfl rfl)
theorem dX1_elementAt_11 : decode cX1_elementAt 11 = .ok (.aload_n 0, 1) := dk_42 (dk_at dksX1_elementAt_0 11 rfl rfl)
theorem dX1_elementAt_12 : decode cX1_elementAt 12 = .ok (.getfield 39, 3) := dk_180 0 39 (dk_at dksX1_elementAt_0 12 rfl rfl)
theorem dX1_elementAt_15 : decode cX1_elementAt 15 = .ok (.iload_n 1, 1) := dk_27 (dk_at dksX1_elementAt_0 15 rfl rfl)
theorem dX1_elementAt_16 : decode cX1_elementAt 16 = .ok (.invokevirtual 68, 3) := dk_182 0 68 (dk_at dksX1_elementAt_0 16 rfl rfl)
theorem dX1_elementAt_19 : decode cX1_elementAt 19 = .ok (.checkcast 74, 3) := dk_192 0 74 (dk_at dksX1_elementAt_0 19 rfl rfl)
theorem dX1_elementAt_22 : decode cX1_elementAt 22 = .ok (.areturn, 1) := dk_176 (dk_at dksX1_elementAt_0 22 rfl rfl)
abbrev cX1_sum : ByteArray := prog_1_method_20_code
def yX1_sum : MethodName := ⟨RX1, "sum", "(III)I"⟩
def dkwX1_sum_2 : List UInt8 := [184, 0, 154, 172]
abbrev dktX1_sum_2 : List UInt8 := dkwX1_sum_2 ++ []
def dkwX1_sum_1 : List UInt8 := [25, 5, 182, 0, 146, 42, 25, 4, 25, 6, 182, 0, 146, 25, 4, 25, 5, 25, 6, 4, 182, 0, 150]
abbrev dktX1_sum_1 : List UInt8 := dkwX1_sum_1 ++ dktX1_sum_2
def dkwX1_sum_0 : List UInt8 := [42, 27, 182, 0, 137, 58, 4, 42, 28, 182, 0, 137, 58, 5, 42, 29, 182, 0, 137, 58, 6, 42, 25, 4]
abbrev dktX1_sum_0 : List UInt8 := dkwX1_sum_0 ++ dktX1_sum_1
theorem dksX1_sum_0 : cX1_sum.data.toList.drop 0 = dktX1_sum_0 := by decide +kernel
theorem dksX1_sum_1 : cX1_sum.data.toList.drop 24 = dktX1_sum_1 := dk_seg dksX1_sum_0 24 rfl rfl
theorem dksX1_sum_2 : cX1_sum.data.toList.drop 47 = dktX1_sum_2 := dk_seg dksX1_sum_1 23 rfl rfl
theorem dX1_sum_0 : decode cX1_sum 0 = .ok (.aload_n 0, 1) := dk_42 (dk_at dksX1_sum_0 0 rfl rfl)
theorem dX1_sum_1 : decode cX1_sum 1 = .ok (.iload_n 1, 1) := dk_27 (dk_at dksX1_sum_0 1 rfl rfl)
theorem dX1_sum_2 : decode cX1_sum 2 = .ok (.invokevirtual 137, 3) := dk_182 0 137 (dk_at dksX1_sum_0 2 rfl rfl)
theorem dX1_sum_5 : decode cX1_sum 5 = .ok (.astore 4, 2) := dk_58 4 (dk_at dksX1_sum_0 5 rfl rfl)
theorem dX1_sum_7 : decode cX1_sum 7 = .ok (.aload_n 0, 1) := dk_42 (dk_at dksX1_sum_0 7 rfl rfl)
theorem dX1_sum_8 : decode cX1_sum 8 = .ok (.iload_n 2, 1) := dk_28 (dk_at dksX1_sum_0 8 rfl rfl)
theorem dX1_sum_9 : decode cX1_sum 9 = .ok (.invokevirtual 137, 3) := dk_182 0 137 (dk_at dksX1_sum_0 9 rfl rfl)
theorem dX1_sum_12 : decode cX1_sum 12 = .ok (.astore 5, 2) := dk_58 5 (dk_at dksX1_sum_0 12 rfl rfl)
theorem dX1_sum_14 : decode cX1_sum 14 = .ok (.aload_n 0, 1) := dk_42 (dk_at dksX1_sum_0 14 rfl rfl)
theorem dX1_sum_15 : decode cX1_sum 15 = .ok (.iload_n 3, 1) := dk_29 (dk_at dksX1_sum_0 15 rfl rfl)
theorem dX1_sum_16 : decode cX1_sum 16 = .ok (.invokevirtual 137, 3) := dk_182 0 137 (dk_at dksX1_sum_0 16 rfl rfl)
theorem dX1_sum_19 : decode cX1_sum 19 = .ok (.astore 6, 2) := dk_58 6 (dk_at dksX1_sum_0 19 rfl rfl)
theorem dX1_sum_21 : decode cX1_sum 21 = .ok (.aload_n 0, 1) := dk_42 (dk_at dksX1_sum_0 21 rfl rfl)
theorem dX1_sum_22 : decode cX1_sum 22 = .ok (.aload 4, 2) := dk_25 4 (dk_at dksX1_sum_0 22 rfl rfl)
theorem dX1_sum_24 : decode cX1_sum 24 = .ok (.aload 5, 2) := dk_25 5 (dk_at dksX1_sum_1 0 rfl rfl)
theorem dX1_sum_26 : decode cX1_sum 26 = .ok (.invokevirtual 146, 3) := dk_182 0 146 (dk_at dksX1_sum_1 2 rfl rfl)
theorem dX1_sum_29 : decode cX1_sum 29 = .ok (.aload_n 0, 1) := dk_42 (dk_at dksX1_sum_1 5 rfl rfl)
theorem dX1_sum_30 : decode cX1_sum 30 = .ok (.aload 4, 2) := dk_25 4 (dk_at dksX1_sum_1 6 rfl rfl)
theorem dX1_sum_32 : decode cX1_sum 32 = .ok (.aload 6, 2) := dk_25 6 (dk_at dksX1_sum_1 8 rfl rfl)
theorem dX1_sum_34 : decode cX1_sum 34 = .ok (.invokevirtual 146, 3) := dk_182 0 146 (dk_at dksX1_sum_1 10 rfl rfl)
theorem dX1_sum_37 : decode cX1_sum 37 = .ok (.aload 4, 2) := dk_25 4 (dk_at dksX1_sum_1 13 rfl rfl)
theorem dX1_sum_39 : decode cX1_sum 39 = .ok (.aload 5, 2) := dk_25 5 (dk_at dksX1_sum_1 15 rfl rfl)
theorem dX1_sum_41 : decode cX1_sum 41 = .ok (.aload 6, 2) := dk_25 6 (dk_at dksX1_sum_1 17 rfl rfl)
theorem dX1_sum_43 : decode cX1_sum 43 = .ok (.iconst 1, 1) := dk_4 (dk_at dksX1_sum_1 19 rfl rfl)
theorem dX1_sum_44 : decode cX1_sum 44 = .ok (.invokevirtual 150, 3) := dk_182 0 150 (dk_at dksX1_sum_1 20 rfl rfl)
theorem dX1_sum_47 : decode cX1_sum 47 = .ok (.invokestatic 154, 3) := dk_184 0 154 (dk_at dksX1_sum_2 0 rfl rfl)
theorem dX1_sum_50 : decode cX1_sum 50 = .ok (.ireturn, 1) := dk_172 (dk_at dksX1_sum_2 3 rfl rfl)
abbrev cX1_requireOne : ByteArray := prog_1_method_18_code
def yX1_requireOne : MethodName := ⟨RX1, "requireOne", "(LVersorhall$Element;LVersorhall$Element;)V"⟩
def dkwX1_requireOne_0 : List UInt8 := [43, 180, 0, 109, 44, 180, 0, 109, 166, 0, 7, 4, 167, 0, 4, 3, 184, 0, 49, 177]
abbrev dktX1_requireOne_0 : List UInt8 := dkwX1_requireOne_0 ++ []
theorem dksX1_requireOne_0 : cX1_requireOne.data.toList.drop 0 = dktX1_requireOne_0 := by decide +kernel
theorem dX1_requireOne_0 : decode cX1_requireOne 0 = .ok (.aload_n 1, 1) := dk_43 (dk_at dksX1_requireOne_0 0 rfl rfl)
theorem dX1_requireOne_1 : decode cX1_requireOne 1 = .ok (.getfield 109, 3) := dk_180 0 109 (dk_at dksX1_requireOne_0 1 rfl rfl)
theorem dX1_requireOne_4 : decode cX1_requireOne 4 = .ok (.aload_n 2, 1) := dk_44 (dk_at dksX1_requireOne_0 4 rfl rfl)
theorem dX1_requireOne_5 : decode cX1_requireOne 5 = .ok (.getfield 109, 3) := dk_180 0 109 (dk_at dksX1_requireOne_0 5 rfl rfl)
theorem dX1_requireOne_8 : decode cX1_requireOne 8 = .ok (.if_acmp .ne 7, 3) := dk_166 0 7 (dk_at dksX1_requireOne_0 8 rfl rfl)
theorem dX1_requireOne_11 : decode cX1_requireOne 11 = .ok (.iconst 1, 1) := dk_4 (dk_at dksX1_requireOne_0 11 rfl rfl)
theorem dX1_requireOne_12 : decode cX1_requireOne 12 = .ok (.goto 4, 3) := dk_167 0 4 (dk_at dksX1_requireOne_0 12 rfl rfl)
theorem dX1_requireOne_15 : decode cX1_requireOne 15 = .ok (.iconst 0, 1) := dk_3 (dk_at dksX1_requireOne_0 15 rfl rfl)
theorem dX1_requireOne_16 : decode cX1_requireOne 16 = .ok (.invokestatic 49, 3) := dk_184 0 49 (dk_at dksX1_requireOne_0 16 rfl rfl)
theorem dX1_requireOne_19 : decode cX1_requireOne 19 = .ok (.return_, 1) := dk_177 (dk_at dksX1_requireOne_0 19 rfl rfl)
abbrev cX1_keep : ByteArray := prog_1_method_19_code
def yX1_keep : MethodName := ⟨RX1, "keep", "(LVersorhall$Element;LVersorhall$Element;)I"⟩
def dkwX1_keep_0 : List UInt8 := [42, 43, 180, 0, 141, 181, 0, 141, 42, 182, 0, 145, 172]
abbrev dktX1_keep_0 : List UInt8 := dkwX1_keep_0 ++ []
theorem dksX1_keep_0 : cX1_keep.data.toList.drop 0 = dktX1_keep_0 := by decide +kernel
theorem dX1_keep_0 : decode cX1_keep 0 = .ok (.aload_n 0, 1) := dk_42 (dk_at dksX1_keep_0 0 rfl rfl)
theorem dX1_keep_1 : decode cX1_keep 1 = .ok (.aload_n 1, 1) := dk_43 (dk_at dksX1_keep_0 1 rfl rfl)
theorem dX1_keep_2 : decode cX1_keep 2 = .ok (.getfield 141, 3) := dk_180 0 141 (dk_at dksX1_keep_0 2 rfl rfl)
theorem dX1_keep_5 : decode cX1_keep 5 = .ok (.putfield 141, 3) := dk_181 0 141 (dk_at dksX1_keep_0 5 rfl rfl)
theorem dX1_keep_8 : decode cX1_keep 8 = .ok (.aload_n 0, 1) := dk_42 (dk_at dksX1_keep_0 8 rfl rfl)
theorem dX1_keep_9 : decode cX1_keep 9 = .ok (.invokevirtual 145, 3) := dk_182 0 145 (dk_at dksX1_keep_0 9 rfl rfl)
theorem dX1_keep_12 : decode cX1_keep 12 = .ok (.ireturn, 1) := dk_172 (dk_at dksX1_keep_0 12 rfl rfl)
abbrev cX1_product : ByteArray := prog_1_method_21_code
def yX1_product : MethodName := ⟨RX1, "product", "(III)I"⟩
def dkwX1_product_2 : List UInt8 := [184, 0, 154, 172]
abbrev dktX1_product_2 : List UInt8 := dkwX1_product_2 ++ []
def dkwX1_product_1 : List UInt8 := [25, 5, 182, 0, 146, 42, 25, 4, 25, 6, 182, 0, 146, 25, 4, 25, 5, 25, 6, 182, 0, 158]
abbrev dktX1_product_1 : List UInt8 := dkwX1_product_1 ++ dktX1_product_2
def dkwX1_product_0 : List UInt8 := [42, 27, 182, 0, 137, 58, 4, 42, 28, 182, 0, 137, 58, 5, 42, 29, 182, 0, 137, 58, 6, 42, 25, 4]
abbrev dktX1_product_0 : List UInt8 := dkwX1_product_0 ++ dktX1_product_1
theorem dksX1_product_0 : cX1_product.data.toList.drop 0 = dktX1_product_0 := by decide +kernel
theorem dksX1_product_1 : cX1_product.data.toList.drop 24 = dktX1_product_1 := dk_seg dksX1_product_0 24 rfl rfl
theorem dksX1_product_2 : cX1_product.data.toList.drop 46 = dktX1_product_2 := dk_seg dksX1_product_1 22 rfl rfl
theorem dX1_product_0 : decode cX1_product 0 = .ok (.aload_n 0, 1) := dk_42 (dk_at dksX1_product_0 0 rfl rfl)
theorem dX1_product_1 : decode cX1_product 1 = .ok (.iload_n 1, 1) := dk_27 (dk_at dksX1_product_0 1 rfl rfl)
theorem dX1_product_2 : decode cX1_product 2 = .ok (.invokevirtual 137, 3) := dk_182 0 137 (dk_at dksX1_product_0 2 rfl rfl)
theorem dX1_product_5 : decode cX1_product 5 = .ok (.astore 4, 2) := dk_58 4 (dk_at dksX1_product_0 5 rfl rfl)
theorem dX1_product_7 : decode cX1_product 7 = .ok (.aload_n 0, 1) := dk_42 (dk_at dksX1_product_0 7 rfl rfl)
theorem dX1_product_8 : decode cX1_product 8 = .ok (.iload_n 2, 1) := dk_28 (dk_at dksX1_product_0 8 rfl rfl)
theorem dX1_product_9 : decode cX1_product 9 = .ok (.invokevirtual 137, 3) := dk_182 0 137 (dk_at dksX1_product_0 9 rfl rfl)
theorem dX1_product_12 : decode cX1_product 12 = .ok (.astore 5, 2) := dk_58 5 (dk_at dksX1_product_0 12 rfl rfl)
theorem dX1_product_14 : decode cX1_product 14 = .ok (.aload_n 0, 1) := dk_42 (dk_at dksX1_product_0 14 rfl rfl)
theorem dX1_product_15 : decode cX1_product 15 = .ok (.iload_n 3, 1) := dk_29 (dk_at dksX1_product_0 15 rfl rfl)
theorem dX1_product_16 : decode cX1_product 16 = .ok (.invokevirtual 137, 3) := dk_182 0 137 (dk_at dksX1_product_0 16 rfl rfl)
theorem dX1_product_19 : decode cX1_product 19 = .ok (.astore 6, 2) := dk_58 6 (dk_at dksX1_product_0 19 rfl rfl)
theorem dX1_product_21 : decode cX1_product 21 = .ok (.aload_n 0, 1) := dk_42 (dk_at dksX1_product_0 21 rfl rfl)
theorem dX1_product_22 : decode cX1_product 22 = .ok (.aload 4, 2) := dk_25 4 (dk_at dksX1_product_0 22 rfl rfl)
theorem dX1_product_24 : decode cX1_product 24 = .ok (.aload 5, 2) := dk_25 5 (dk_at dksX1_product_1 0 rfl rfl)
theorem dX1_product_26 : decode cX1_product 26 = .ok (.invokevirtual 146, 3) := dk_182 0 146 (dk_at dksX1_product_1 2 rfl rfl)
theorem dX1_product_29 : decode cX1_product 29 = .ok (.aload_n 0, 1) := dk_42 (dk_at dksX1_product_1 5 rfl rfl)
theorem dX1_product_30 : decode cX1_product 30 = .ok (.aload 4, 2) := dk_25 4 (dk_at dksX1_product_1 6 rfl rfl)
theorem dX1_product_32 : decode cX1_product 32 = .ok (.aload 6, 2) := dk_25 6 (dk_at dksX1_product_1 8 rfl rfl)
theorem dX1_product_34 : decode cX1_product 34 = .ok (.invokevirtual 146, 3) := dk_182 0 146 (dk_at dksX1_product_1 10 rfl rfl)
theorem dX1_product_37 : decode cX1_product 37 = .ok (.aload 4, 2) := dk_25 4 (dk_at dksX1_product_1 13 rfl rfl)
theorem dX1_product_39 : decode cX1_product 39 = .ok (.aload 5, 2) := dk_25 5 (dk_at dksX1_product_1 15 rfl rfl)
theorem dX1_product_41 : decode cX1_product 41 = .ok (.aload 6, 2) := dk_25 6 (dk_at dksX1_product_1 17 rfl rfl)
theorem dX1_product_43 : decode cX1_product 43 = .ok (.invokevirtual 158, 3) := dk_182 0 158 (dk_at dksX1_product_1 19 rfl rfl)
theorem dX1_product_46 : decode cX1_product 46 = .ok (.invokestatic 154, 3) := dk_184 0 154 (dk_at dksX1_product_2 0 rfl rfl)
theorem dX1_product_49 : decode cX1_product 49 = .ok (.ireturn, 1) := dk_172 (dk_at dksX1_product_2 3 rfl rfl)
abbrev cX1_scale : ByteArray := prog_1_method_22_code
def yX1_scale : MethodName := ⟨RX1, "scale", "(III)I"⟩
def dkwX1_scale_1 : List UInt8 := [182, 0, 117, 184, 0, 49, 25, 4, 25, 5, 29, 182, 0, 162, 184, 0, 154, 172]
abbrev dktX1_scale_1 : List UInt8 := dkwX1_scale_1 ++ []
def dkwX1_scale_0 : List UInt8 := [42, 27, 182, 0, 137, 58, 4, 42, 28, 182, 0, 137, 58, 5, 42, 25, 4, 25, 5, 182, 0, 146, 42, 29]
abbrev dktX1_scale_0 : List UInt8 := dkwX1_scale_0 ++ dktX1_scale_1
theorem dksX1_scale_0 : cX1_scale.data.toList.drop 0 = dktX1_scale_0 := by decide +kernel
theorem dksX1_scale_1 : cX1_scale.data.toList.drop 24 = dktX1_scale_1 := dk_seg dksX1_scale_0 24 rfl rfl
theorem dX1_scale_0 : decode cX1_scale 0 = .ok (.aload_n 0, 1) := dk_42 (dk_at dksX1_scale_0 0 rfl rfl)
theorem dX1_scale_1 : decode cX1_scale 1 = .ok (.iload_n 1, 1) := dk_27 (dk_at dksX1_scale_0 1 rfl rfl)
theorem dX1_scale_2 : decode cX1_scale 2 = .ok (.invokevirtual 137, 3) := dk_182 0 137 (dk_at dksX1_scale_0 2 rfl rfl)
theorem dX1_scale_5 : decode cX1_scale 5 = .ok (.astore 4, 2) := dk_58 4 (dk_at dksX1_scale_0 5 rfl rfl)
theorem dX1_scale_7 : decode cX1_scale 7 = .ok (.aload_n 0, 1) := dk_42 (dk_at dksX1_scale_0 7 rfl rfl)
theorem dX1_scale_8 : decode cX1_scale 8 = .ok (.iload_n 2, 1) := dk_28 (dk_at dksX1_scale_0 8 rfl rfl)
theorem dX1_scale_9 : decode cX1_scale 9 = .ok (.invokevirtual 137, 3) := dk_182 0 137 (dk_at dksX1_scale_0 9 rfl rfl)
theorem dX1_scale_12 : decode cX1_scale 12 = .ok (.astore 5, 2) := dk_58 5 (dk_at dksX1_scale_0 12 rfl rfl)
theorem dX1_scale_14 : decode cX1_scale 14 = .ok (.aload_n 0, 1) := dk_42 (dk_at dksX1_scale_0 14 rfl rfl)
theorem dX1_scale_15 : decode cX1_scale 15 = .ok (.aload 4, 2) := dk_25 4 (dk_at dksX1_scale_0 15 rfl rfl)
theorem dX1_scale_17 : decode cX1_scale 17 = .ok (.aload 5, 2) := dk_25 5 (dk_at dksX1_scale_0 17 rfl rfl)
theorem dX1_scale_19 : decode cX1_scale 19 = .ok (.invokevirtual 146, 3) := dk_182 0 146 (dk_at dksX1_scale_0 19 rfl rfl)
theorem dX1_scale_22 : decode cX1_scale 22 = .ok (.aload_n 0, 1) := dk_42 (dk_at dksX1_scale_0 22 rfl rfl)
theorem dX1_scale_23 : decode cX1_scale 23 = .ok (.iload_n 3, 1) := dk_29 (dk_at dksX1_scale_0 23 rfl rfl)
theorem dX1_scale_24 : decode cX1_scale 24 = .ok (.invokevirtual 117, 3) := dk_182 0 117 (dk_at dksX1_scale_1 0 rfl rfl)
theorem dX1_scale_27 : decode cX1_scale 27 = .ok (.invokestatic 49, 3) := dk_184 0 49 (dk_at dksX1_scale_1 3 rfl rfl)
theorem dX1_scale_30 : decode cX1_scale 30 = .ok (.aload 4, 2) := dk_25 4 (dk_at dksX1_scale_1 6 rfl rfl)
theorem dX1_scale_32 : decode cX1_scale 32 = .ok (.aload 5, 2) := dk_25 5 (dk_at dksX1_scale_1 8 rfl rfl)
theorem dX1_scale_34 : decode cX1_scale 34 = .ok (.iload_n 3, 1) := dk_29 (dk_at dksX1_scale_1 10 rfl rfl)
theorem dX1_scale_35 : decode cX1_scale 35 = .ok (.invokevirtual 162, 3) := dk_182 0 162 (dk_at dksX1_scale_1 11 rfl rfl)
theorem dX1_scale_38 : decode cX1_scale 38 = .ok (.invokestatic 154, 3) := dk_184 0 154 (dk_at dksX1_scale_1 14 rfl rfl)
theorem dX1_scale_41 : decode cX1_scale 41 = .ok (.ireturn, 1) := dk_172 (dk_at dksX1_scale_1 17 rfl rfl)
abbrev cX1_conjugate : ByteArray := prog_1_method_23_code
def yX1_conjugate : MethodName := ⟨RX1, "conjugate", "(II)I"⟩
def dkwX1_conjugate_1 : List UInt8 := [182, 0, 164, 184, 0, 154, 172]
abbrev dktX1_conjugate_1 : List UInt8 := dkwX1_conjugate_1 ++ []
def dkwX1_conjugate_0 : List UInt8 := [42, 27, 182, 0, 137, 78, 42, 28, 182, 0, 137, 58, 4, 42, 45, 25, 4, 182, 0, 146, 45, 25, 4]
abbrev dktX1_conjugate_0 : List UInt8 := dkwX1_conjugate_0 ++ dktX1_conjugate_1
theorem dksX1_conjugate_0 : cX1_conjugate.data.toList.drop 0 = dktX1_conjugate_0 := by decide +kernel
theorem dksX1_conjugate_1 : cX1_conjugate.data.toList.drop 23 = dktX1_conjugate_1 := dk_seg dksX1_conjugate_0 23 rfl rfl
theorem dX1_conjugate_0 : decode cX1_conjugate 0 = .ok (.aload_n 0, 1) := dk_42 (dk_at dksX1_conjugate_0 0 rfl rfl)
theorem dX1_conjugate_1 : decode cX1_conjugate 1 = .ok (.iload_n 1, 1) := dk_27 (dk_at dksX1_conjugate_0 1 rfl rfl)
theorem dX1_conjugate_2 : decode cX1_conjugate 2 = .ok (.invokevirtual 137, 3) := dk_182 0 137 (dk_at dksX1_conjugate_0 2 rfl rfl)
theorem dX1_conjugate_5 : decode cX1_conjugate 5 = .ok (.astore_n 3, 1) := dk_78 (dk_at dksX1_conjugate_0 5 rfl rfl)
theorem dX1_conjugate_6 : decode cX1_conjugate 6 = .ok (.aload_n 0, 1) := dk_42 (dk_at dksX1_conjugate_0 6 rfl rfl)
theorem dX1_conjugate_7 : decode cX1_conjugate 7 = .ok (.iload_n 2, 1) := dk_28 (dk_at dksX1_conjugate_0 7 rfl rfl)
theorem dX1_conjugate_8 : decode cX1_conjugate 8 = .ok (.invokevirtual 137, 3) := dk_182 0 137 (dk_at dksX1_conjugate_0 8 rfl rfl)
theorem dX1_conjugate_11 : decode cX1_conjugate 11 = .ok (.astore 4, 2) := dk_58 4 (dk_at dksX1_conjugate_0 11 rfl rfl)
theorem dX1_conjugate_13 : decode cX1_conjugate 13 = .ok (.aload_n 0, 1) := dk_42 (dk_at dksX1_conjugate_0 13 rfl rfl)
theorem dX1_conjugate_14 : decode cX1_conjugate 14 = .ok (.aload_n 3, 1) := dk_45 (dk_at dksX1_conjugate_0 14 rfl rfl)
theorem dX1_conjugate_15 : decode cX1_conjugate 15 = .ok (.aload 4, 2) := dk_25 4 (dk_at dksX1_conjugate_0 15 rfl rfl)
theorem dX1_conjugate_17 : decode cX1_conjugate 17 = .ok (.invokevirtual 146, 3) := dk_182 0 146 (dk_at dksX1_conjugate_0 17 rfl rfl)
theorem dX1_conjugate_20 : decode cX1_conjugate 20 = .ok (.aload_n 3, 1) := dk_45 (dk_at dksX1_conjugate_0 20 rfl rfl)
theorem dX1_conjugate_21 : decode cX1_conjugate 21 = .ok (.aload 4, 2) := dk_25 4 (dk_at dksX1_conjugate_0 21 rfl rfl)
theorem dX1_conjugate_23 : decode cX1_conjugate 23 = .ok (.invokevirtual 164, 3) := dk_182 0 164 (dk_at dksX1_conjugate_1 0 rfl rfl)
theorem dX1_conjugate_26 : decode cX1_conjugate 26 = .ok (.invokestatic 154, 3) := dk_184 0 154 (dk_at dksX1_conjugate_1 3 rfl rfl)
theorem dX1_conjugate_29 : decode cX1_conjugate 29 = .ok (.ireturn, 1) := dk_172 (dk_at dksX1_conjugate_1 6 rfl rfl)
abbrev cX1_power : ByteArray := prog_1_method_24_code
def yX1_power : MethodName := ⟨RX1, "power", "(III)I"⟩
def dkwX1_power_1 : List UInt8 := [16, 60, 29, 184, 0, 76, 184, 0, 49, 25, 4, 25, 5, 29, 182, 0, 168, 184, 0, 154, 172]
abbrev dktX1_power_1 : List UInt8 := dkwX1_power_1 ++ []
def dkwX1_power_0 : List UInt8 := [42, 27, 182, 0, 137, 58, 4, 42, 28, 182, 0, 137, 58, 5, 42, 25, 4, 25, 5, 182, 0, 146, 3]
abbrev dktX1_power_0 : List UInt8 := dkwX1_power_0 ++ dktX1_power_1
theorem dksX1_power_0 : cX1_power.data.toList.drop 0 = dktX1_power_0 := by decide +kernel
theorem dksX1_power_1 : cX1_power.data.toList.drop 23 = dktX1_power_1 := dk_seg dksX1_power_0 23 rfl rfl
theorem dX1_power_0 : decode cX1_power 0 = .ok (.aload_n 0, 1) := dk_42 (dk_at dksX1_power_0 0 rfl rfl)
theorem dX1_power_1 : decode cX1_power 1 = .ok (.iload_n 1, 1) := dk_27 (dk_at dksX1_power_0 1 rfl rfl)
theorem dX1_power_2 : decode cX1_power 2 = .ok (.invokevirtual 137, 3) := dk_182 0 137 (dk_at dksX1_power_0 2 rfl rfl)
theorem dX1_power_5 : decode cX1_power 5 = .ok (.astore 4, 2) := dk_58 4 (dk_at dksX1_power_0 5 rfl rfl)
theorem dX1_power_7 : decode cX1_power 7 = .ok (.aload_n 0, 1) := dk_42 (dk_at dksX1_power_0 7 rfl rfl)
theorem dX1_power_8 : decode cX1_power 8 = .ok (.iload_n 2, 1) := dk_28 (dk_at dksX1_power_0 8 rfl rfl)
theorem dX1_power_9 : decode cX1_power 9 = .ok (.invokevirtual 137, 3) := dk_182 0 137 (dk_at dksX1_power_0 9 rfl rfl)
theorem dX1_power_12 : decode cX1_power 12 = .ok (.astore 5, 2) := dk_58 5 (dk_at dksX1_power_0 12 rfl rfl)
theorem dX1_power_14 : decode cX1_power 14 = .ok (.aload_n 0, 1) := dk_42 (dk_at dksX1_power_0 14 rfl rfl)
theorem dX1_power_15 : decode cX1_power 15 = .ok (.aload 4, 2) := dk_25 4 (dk_at dksX1_power_0 15 rfl rfl)
theorem dX1_power_17 : decode cX1_power 17 = .ok (.aload 5, 2) := dk_25 5 (dk_at dksX1_power_0 17 rfl rfl)
theorem dX1_power_19 : decode cX1_power 19 = .ok (.invokevirtual 146, 3) := dk_182 0 146 (dk_at dksX1_power_0 19 rfl rfl)
theorem dX1_power_22 : decode cX1_power 22 = .ok (.iconst 0, 1) := dk_3 (dk_at dksX1_power_0 22 rfl rfl)
theorem dX1_power_23 : decode cX1_power 23 = .ok (.bipush 60, 2) := dk_16 60 (dk_at dksX1_power_1 0 rfl rfl)
theorem dX1_power_25 : decode cX1_power 25 = .ok (.iload_n 3, 1) := dk_29 (dk_at dksX1_power_1 2 rfl rfl)
theorem dX1_power_26 : decode cX1_power 26 = .ok (.invokestatic 76, 3) := dk_184 0 76 (dk_at dksX1_power_1 3 rfl rfl)
theorem dX1_power_29 : decode cX1_power 29 = .ok (.invokestatic 49, 3) := dk_184 0 49 (dk_at dksX1_power_1 6 rfl rfl)
theorem dX1_power_32 : decode cX1_power 32 = .ok (.aload 4, 2) := dk_25 4 (dk_at dksX1_power_1 9 rfl rfl)
theorem dX1_power_34 : decode cX1_power 34 = .ok (.aload 5, 2) := dk_25 5 (dk_at dksX1_power_1 11 rfl rfl)
theorem dX1_power_36 : decode cX1_power 36 = .ok (.iload_n 3, 1) := dk_29 (dk_at dksX1_power_1 13 rfl rfl)
theorem dX1_power_37 : decode cX1_power 37 = .ok (.invokevirtual 168, 3) := dk_182 0 168 (dk_at dksX1_power_1 14 rfl rfl)
theorem dX1_power_40 : decode cX1_power 40 = .ok (.invokestatic 154, 3) := dk_184 0 154 (dk_at dksX1_power_1 17 rfl rfl)
theorem dX1_power_43 : decode cX1_power 43 = .ok (.ireturn, 1) := dk_172 (dk_at dksX1_power_1 20 rfl rfl)
abbrev cX1_invert : ByteArray := prog_1_method_26_code
def yX1_invert : MethodName := ⟨RX1, "invert", "(II)I"⟩
def dkwX1_invert_1 : List UInt8 := [182, 0, 178, 184, 0, 182, 184, 0, 154, 172]
abbrev dktX1_invert_1 : List UInt8 := dkwX1_invert_1 ++ []
def dkwX1_invert_0 : List UInt8 := [42, 27, 182, 0, 137, 78, 42, 28, 182, 0, 137, 58, 4, 42, 45, 25, 4, 182, 0, 146, 45, 25, 4]
abbrev dktX1_invert_0 : List UInt8 := dkwX1_invert_0 ++ dktX1_invert_1
theorem dksX1_invert_0 : cX1_invert.data.toList.drop 0 = dktX1_invert_0 := by decide +kernel
theorem dksX1_invert_1 : cX1_invert.data.toList.drop 23 = dktX1_invert_1 := dk_seg dksX1_invert_0 23 rfl rfl
theorem dX1_invert_0 : decode cX1_invert 0 = .ok (.aload_n 0, 1) := dk_42 (dk_at dksX1_invert_0 0 rfl rfl)
theorem dX1_invert_1 : decode cX1_invert 1 = .ok (.iload_n 1, 1) := dk_27 (dk_at dksX1_invert_0 1 rfl rfl)
theorem dX1_invert_2 : decode cX1_invert 2 = .ok (.invokevirtual 137, 3) := dk_182 0 137 (dk_at dksX1_invert_0 2 rfl rfl)
theorem dX1_invert_5 : decode cX1_invert 5 = .ok (.astore_n 3, 1) := dk_78 (dk_at dksX1_invert_0 5 rfl rfl)
theorem dX1_invert_6 : decode cX1_invert 6 = .ok (.aload_n 0, 1) := dk_42 (dk_at dksX1_invert_0 6 rfl rfl)
theorem dX1_invert_7 : decode cX1_invert 7 = .ok (.iload_n 2, 1) := dk_28 (dk_at dksX1_invert_0 7 rfl rfl)
theorem dX1_invert_8 : decode cX1_invert 8 = .ok (.invokevirtual 137, 3) := dk_182 0 137 (dk_at dksX1_invert_0 8 rfl rfl)
theorem dX1_invert_11 : decode cX1_invert 11 = .ok (.astore 4, 2) := dk_58 4 (dk_at dksX1_invert_0 11 rfl rfl)
theorem dX1_invert_13 : decode cX1_invert 13 = .ok (.aload_n 0, 1) := dk_42 (dk_at dksX1_invert_0 13 rfl rfl)
theorem dX1_invert_14 : decode cX1_invert 14 = .ok (.aload_n 3, 1) := dk_45 (dk_at dksX1_invert_0 14 rfl rfl)
theorem dX1_invert_15 : decode cX1_invert 15 = .ok (.aload 4, 2) := dk_25 4 (dk_at dksX1_invert_0 15 rfl rfl)
theorem dX1_invert_17 : decode cX1_invert 17 = .ok (.invokevirtual 146, 3) := dk_182 0 146 (dk_at dksX1_invert_0 17 rfl rfl)
theorem dX1_invert_20 : decode cX1_invert 20 = .ok (.aload_n 3, 1) := dk_45 (dk_at dksX1_invert_0 20 rfl rfl)
theorem dX1_invert_21 : decode cX1_invert 21 = .ok (.aload 4, 2) := dk_25 4 (dk_at dksX1_invert_0 21 rfl rfl)
theorem dX1_invert_23 : decode cX1_invert 23 = .ok (.invokevirtual 178, 3) := dk_182 0 178 (dk_at dksX1_invert_1 0 rfl rfl)
theorem dX1_invert_26 : decode cX1_invert 26 = .ok (.invokestatic 182, 3) := dk_184 0 182 (dk_at dksX1_invert_1 3 rfl rfl)
theorem dX1_invert_29 : decode cX1_invert 29 = .ok (.invokestatic 154, 3) := dk_184 0 154 (dk_at dksX1_invert_1 6 rfl rfl)
theorem dX1_invert_32 : decode cX1_invert 32 = .ok (.ireturn, 1) := dk_172 (dk_at dksX1_invert_1 9 rfl rfl)
abbrev cX1_found : ByteArray := prog_1_method_25_code
def yX1_found : MethodName := ⟨RX1, "found", "(Ljava/util/Optional;)LVersorhall$Element;"⟩
def dkwX1_found_0 : List UInt8 := [42, 182, 0, 171, 184, 0, 57, 42, 182, 0, 176, 192, 0, 74, 176]
abbrev dktX1_found_0 : List UInt8 := dkwX1_found_0 ++ []
theorem dksX1_found_0 : cX1_found.data.toList.drop 0 = dktX1_found_0 := by decide +kernel
theorem dX1_found_0 : decode cX1_found 0 = .ok (.aload_n 0, 1) := dk_42 (dk_at dksX1_found_0 0 rfl rfl)
theorem dX1_found_1 : decode cX1_found 1 = .ok (.invokevirtual 171, 3) := dk_182 0 171 (dk_at dksX1_found_0 1 rfl rfl)
theorem dX1_found_4 : decode cX1_found 4 = .ok (.invokestatic 57, 3) := dk_184 0 57 (dk_at dksX1_found_0 4 rfl rfl)
theorem dX1_found_7 : decode cX1_found 7 = .ok (.aload_n 0, 1) := dk_42 (dk_at dksX1_found_0 7 rfl rfl)
theorem dX1_found_8 : decode cX1_found 8 = .ok (.invokevirtual 176, 3) := dk_182 0 176 (dk_at dksX1_found_0 8 rfl rfl)
theorem dX1_found_11 : decode cX1_found 11 = .ok (.checkcast 74, 3) := dk_192 0 74 (dk_at dksX1_found_0 11 rfl rfl)
theorem dX1_found_14 : decode cX1_found 14 = .ok (.areturn, 1) := dk_176 (dk_at dksX1_found_0 14 rfl rfl)
abbrev cX1_series : ByteArray := prog_1_method_27_code
def yX1_series : MethodName := ⟨RX1, "series", "(II)I"⟩
def dkwX1_series_1 : List UInt8 := [182, 0, 186, 184, 0, 182, 184, 0, 154, 172]
abbrev dktX1_series_1 : List UInt8 := dkwX1_series_1 ++ []
def dkwX1_series_0 : List UInt8 := [42, 27, 182, 0, 137, 78, 42, 28, 182, 0, 137, 58, 4, 42, 45, 25, 4, 182, 0, 146, 45, 25, 4]
abbrev dktX1_series_0 : List UInt8 := dkwX1_series_0 ++ dktX1_series_1
theorem dksX1_series_0 : cX1_series.data.toList.drop 0 = dktX1_series_0 := by decide +kernel
theorem dksX1_series_1 : cX1_series.data.toList.drop 23 = dktX1_series_1 := dk_seg dksX1_series_0 23 rfl rfl
theorem dX1_series_0 : decode cX1_series 0 = .ok (.aload_n 0, 1) := dk_42 (dk_at dksX1_series_0 0 rfl rfl)
theorem dX1_series_1 : decode cX1_series 1 = .ok (.iload_n 1, 1) := dk_27 (dk_at dksX1_series_0 1 rfl rfl)
theorem dX1_series_2 : decode cX1_series 2 = .ok (.invokevirtual 137, 3) := dk_182 0 137 (dk_at dksX1_series_0 2 rfl rfl)
theorem dX1_series_5 : decode cX1_series 5 = .ok (.astore_n 3, 1) := dk_78 (dk_at dksX1_series_0 5 rfl rfl)
theorem dX1_series_6 : decode cX1_series 6 = .ok (.aload_n 0, 1) := dk_42 (dk_at dksX1_series_0 6 rfl rfl)
theorem dX1_series_7 : decode cX1_series 7 = .ok (.iload_n 2, 1) := dk_28 (dk_at dksX1_series_0 7 rfl rfl)
theorem dX1_series_8 : decode cX1_series 8 = .ok (.invokevirtual 137, 3) := dk_182 0 137 (dk_at dksX1_series_0 8 rfl rfl)
theorem dX1_series_11 : decode cX1_series 11 = .ok (.astore 4, 2) := dk_58 4 (dk_at dksX1_series_0 11 rfl rfl)
theorem dX1_series_13 : decode cX1_series 13 = .ok (.aload_n 0, 1) := dk_42 (dk_at dksX1_series_0 13 rfl rfl)
theorem dX1_series_14 : decode cX1_series 14 = .ok (.aload_n 3, 1) := dk_45 (dk_at dksX1_series_0 14 rfl rfl)
theorem dX1_series_15 : decode cX1_series 15 = .ok (.aload 4, 2) := dk_25 4 (dk_at dksX1_series_0 15 rfl rfl)
theorem dX1_series_17 : decode cX1_series 17 = .ok (.invokevirtual 146, 3) := dk_182 0 146 (dk_at dksX1_series_0 17 rfl rfl)
theorem dX1_series_20 : decode cX1_series 20 = .ok (.aload_n 3, 1) := dk_45 (dk_at dksX1_series_0 20 rfl rfl)
theorem dX1_series_21 : decode cX1_series 21 = .ok (.aload 4, 2) := dk_25 4 (dk_at dksX1_series_0 21 rfl rfl)
theorem dX1_series_23 : decode cX1_series 23 = .ok (.invokevirtual 186, 3) := dk_182 0 186 (dk_at dksX1_series_1 0 rfl rfl)
theorem dX1_series_26 : decode cX1_series 26 = .ok (.invokestatic 182, 3) := dk_184 0 182 (dk_at dksX1_series_1 3 rfl rfl)
theorem dX1_series_29 : decode cX1_series 29 = .ok (.invokestatic 154, 3) := dk_184 0 154 (dk_at dksX1_series_1 6 rfl rfl)
theorem dX1_series_32 : decode cX1_series 32 = .ok (.ireturn, 1) := dk_172 (dk_at dksX1_series_1 9 rfl rfl)
abbrev cX1_killer : ByteArray := prog_1_method_28_code
def yX1_killer : MethodName := ⟨RX1, "killer", "(II)I"⟩
def dkwX1_killer_1 : List UInt8 := [182, 0, 189, 184, 0, 182, 184, 0, 154, 87, 45, 182, 0, 192, 172]
abbrev dktX1_killer_1 : List UInt8 := dkwX1_killer_1 ++ []
def dkwX1_killer_0 : List UInt8 := [42, 27, 182, 0, 137, 78, 42, 28, 182, 0, 137, 58, 4, 42, 45, 25, 4, 182, 0, 146, 45, 25, 4]
abbrev dktX1_killer_0 : List UInt8 := dkwX1_killer_0 ++ dktX1_killer_1
theorem dksX1_killer_0 : cX1_killer.data.toList.drop 0 = dktX1_killer_0 := by decide +kernel
theorem dksX1_killer_1 : cX1_killer.data.toList.drop 23 = dktX1_killer_1 := dk_seg dksX1_killer_0 23 rfl rfl
theorem dX1_killer_0 : decode cX1_killer 0 = .ok (.aload_n 0, 1) := dk_42 (dk_at dksX1_killer_0 0 rfl rfl)
theorem dX1_killer_1 : decode cX1_killer 1 = .ok (.iload_n 1, 1) := dk_27 (dk_at dksX1_killer_0 1 rfl rfl)
theorem dX1_killer_2 : decode cX1_killer 2 = .ok (.invokevirtual 137, 3) := dk_182 0 137 (dk_at dksX1_killer_0 2 rfl rfl)
theorem dX1_killer_5 : decode cX1_killer 5 = .ok (.astore_n 3, 1) := dk_78 (dk_at dksX1_killer_0 5 rfl rfl)
theorem dX1_killer_6 : decode cX1_killer 6 = .ok (.aload_n 0, 1) := dk_42 (dk_at dksX1_killer_0 6 rfl rfl)
theorem dX1_killer_7 : decode cX1_killer 7 = .ok (.iload_n 2, 1) := dk_28 (dk_at dksX1_killer_0 7 rfl rfl)
theorem dX1_killer_8 : decode cX1_killer 8 = .ok (.invokevirtual 137, 3) := dk_182 0 137 (dk_at dksX1_killer_0 8 rfl rfl)
theorem dX1_killer_11 : decode cX1_killer 11 = .ok (.astore 4, 2) := dk_58 4 (dk_at dksX1_killer_0 11 rfl rfl)
theorem dX1_killer_13 : decode cX1_killer 13 = .ok (.aload_n 0, 1) := dk_42 (dk_at dksX1_killer_0 13 rfl rfl)
theorem dX1_killer_14 : decode cX1_killer 14 = .ok (.aload_n 3, 1) := dk_45 (dk_at dksX1_killer_0 14 rfl rfl)
theorem dX1_killer_15 : decode cX1_killer 15 = .ok (.aload 4, 2) := dk_25 4 (dk_at dksX1_killer_0 15 rfl rfl)
theorem dX1_killer_17 : decode cX1_killer 17 = .ok (.invokevirtual 146, 3) := dk_182 0 146 (dk_at dksX1_killer_0 17 rfl rfl)
theorem dX1_killer_20 : decode cX1_killer 20 = .ok (.aload_n 3, 1) := dk_45 (dk_at dksX1_killer_0 20 rfl rfl)
theorem dX1_killer_21 : decode cX1_killer 21 = .ok (.aload 4, 2) := dk_25 4 (dk_at dksX1_killer_0 21 rfl rfl)
theorem dX1_killer_23 : decode cX1_killer 23 = .ok (.invokevirtual 189, 3) := dk_182 0 189 (dk_at dksX1_killer_1 0 rfl rfl)
theorem dX1_killer_26 : decode cX1_killer 26 = .ok (.invokestatic 182, 3) := dk_184 0 182 (dk_at dksX1_killer_1 3 rfl rfl)
theorem dX1_killer_29 : decode cX1_killer 29 = .ok (.invokestatic 154, 3) := dk_184 0 154 (dk_at dksX1_killer_1 6 rfl rfl)
theorem dX1_killer_32 : decode cX1_killer 32 = .ok (.pop, 1) := dk_87 (dk_at dksX1_killer_1 9 rfl rfl)
theorem dX1_killer_33 : decode cX1_killer 33 = .ok (.aload_n 3, 1) := dk_45 (dk_at dksX1_killer_1 10 rfl rfl)
theorem dX1_killer_34 : decode cX1_killer 34 = .ok (.invokevirtual 192, 3) := dk_182 0 192 (dk_at dksX1_killer_1 11 rfl rfl)
theorem dX1_killer_37 : decode cX1_killer 37 = .ok (.ireturn, 1) := dk_172 (dk_at dksX1_killer_1 14 rfl rfl)
abbrev cX1_hang : ByteArray := prog_1_method_29_code
def yX1_hang : MethodName := ⟨RX1, "hang", "(I)I"⟩
def dkwX1_hang_3 : List UInt8 := [180, 0, 45, 182, 0, 206, 45, 182, 0, 60, 25, 4, 195, 172, 58, 5, 25, 4, 195, 25, 5, 191]
abbrev dktX1_hang_3 : List UInt8 := dkwX1_hang_3 ++ []
def dkwX1_hang_2 : List UInt8 := [45, 44, 182, 0, 201, 182, 0, 92, 87, 42, 180, 0, 45, 89, 180, 0, 204, 4, 96, 181, 0, 204, 42]
abbrev dktX1_hang_2 : List UInt8 := dkwX1_hang_2 ++ dktX1_hang_3
def dkwX1_hang_1 : List UInt8 := [182, 0, 60, 16, 6, 162, 0, 7, 4, 167, 0, 4, 3, 184, 0, 57, 42, 180, 0, 45, 89, 58, 4, 194]
abbrev dktX1_hang_1 : List UInt8 := dkwX1_hang_1 ++ dktX1_hang_2
def dkwX1_hang_0 : List UInt8 := [42, 27, 182, 0, 137, 77, 44, 180, 0, 109, 180, 0, 195, 78, 44, 182, 0, 198, 158, 0, 16, 45]
abbrev dktX1_hang_0 : List UInt8 := dkwX1_hang_0 ++ dktX1_hang_1
theorem dksX1_hang_0 : cX1_hang.data.toList.drop 0 = dktX1_hang_0 := by decide +kernel
theorem dksX1_hang_1 : cX1_hang.data.toList.drop 22 = dktX1_hang_1 := dk_seg dksX1_hang_0 22 rfl rfl
theorem dksX1_hang_2 : cX1_hang.data.toList.drop 46 = dktX1_hang_2 := dk_seg dksX1_hang_1 24 rfl rfl
theorem dksX1_hang_3 : cX1_hang.data.toList.drop 69 = dktX1_hang_3 := dk_seg dksX1_hang_2 23 rfl rfl
theorem dX1_hang_0 : decode cX1_hang 0 = .ok (.aload_n 0, 1) := dk_42 (dk_at dksX1_hang_0 0 rfl rfl)
theorem dX1_hang_1 : decode cX1_hang 1 = .ok (.iload_n 1, 1) := dk_27 (dk_at dksX1_hang_0 1 rfl rfl)
theorem dX1_hang_2 : decode cX1_hang 2 = .ok (.invokevirtual 137, 3) := dk_182 0 137 (dk_at dksX1_hang_0 2 rfl rfl)
theorem dX1_hang_5 : decode cX1_hang 5 = .ok (.astore_n 2, 1) := dk_77 (dk_at dksX1_hang_0 5 rfl rfl)
theorem dX1_hang_6 : decode cX1_hang 6 = .ok (.aload_n 2, 1) := dk_44 (dk_at dksX1_hang_0 6 rfl rfl)
theorem dX1_hang_7 : decode cX1_hang 7 = .ok (.getfield 109, 3) := dk_180 0 109 (dk_at dksX1_hang_0 7 rfl rfl)
theorem dX1_hang_10 : decode cX1_hang 10 = .ok (.getfield 195, 3) := dk_180 0 195 (dk_at dksX1_hang_0 10 rfl rfl)
theorem dX1_hang_13 : decode cX1_hang 13 = .ok (.astore_n 3, 1) := dk_78 (dk_at dksX1_hang_0 13 rfl rfl)
theorem dX1_hang_14 : decode cX1_hang 14 = .ok (.aload_n 2, 1) := dk_44 (dk_at dksX1_hang_0 14 rfl rfl)
theorem dX1_hang_15 : decode cX1_hang 15 = .ok (.invokevirtual 198, 3) := dk_182 0 198 (dk_at dksX1_hang_0 15 rfl rfl)
theorem dX1_hang_18 : decode cX1_hang 18 = .ok (.ifCond .le 16, 3) := dk_158 0 16 (dk_at dksX1_hang_0 18 rfl rfl)
theorem dX1_hang_21 : decode cX1_hang 21 = .ok (.aload_n 3, 1) := dk_45 (dk_at dksX1_hang_0 21 rfl rfl)
theorem dX1_hang_22 : decode cX1_hang 22 = .ok (.invokevirtual 60, 3) := dk_182 0 60 (dk_at dksX1_hang_1 0 rfl rfl)
theorem dX1_hang_25 : decode cX1_hang 25 = .ok (.bipush 6, 2) := dk_16 6 (dk_at dksX1_hang_1 3 rfl rfl)
theorem dX1_hang_27 : decode cX1_hang 27 = .ok (.if_icmp .ge 7, 3) := dk_162 0 7 (dk_at dksX1_hang_1 5 rfl rfl)
theorem dX1_hang_30 : decode cX1_hang 30 = .ok (.iconst 1, 1) := dk_4 (dk_at dksX1_hang_1 8 rfl rfl)
theorem dX1_hang_31 : decode cX1_hang 31 = .ok (.goto 4, 3) := dk_167 0 4 (dk_at dksX1_hang_1 9 rfl rfl)
theorem dX1_hang_34 : decode cX1_hang 34 = .ok (.iconst 0, 1) := dk_3 (dk_at dksX1_hang_1 12 rfl rfl)
theorem dX1_hang_35 : decode cX1_hang 35 = .ok (.invokestatic 57, 3) := dk_184 0 57 (dk_at dksX1_hang_1 13 rfl rfl)
theorem dX1_hang_38 : decode cX1_hang 38 = .ok (.aload_n 0, 1) := dk_42 (dk_at dksX1_hang_1 16 rfl rfl)
theorem dX1_hang_39 : decode cX1_hang 39 = .ok (.getfield 45, 3) := dk_180 0 45 (dk_at dksX1_hang_1 17 rfl rfl)
theorem dX1_hang_42 : decode cX1_hang 42 = .ok (.dup, 1) := dk_89 (dk_at dksX1_hang_1 20 rfl rfl)
theorem dX1_hang_43 : decode cX1_hang 43 = .ok (.astore 4, 2) := dk_58 4 (dk_at dksX1_hang_1 21 rfl rfl)
theorem dX1_hang_45 : decode cX1_hang 45 = .ok (.monitorenter, 1) := dk_194 (dk_at dksX1_hang_1 23 rfl rfl)
theorem dX1_hang_46 : decode cX1_hang 46 = .ok (.aload_n 3, 1) := dk_45 (dk_at dksX1_hang_2 0 rfl rfl)
theorem dX1_hang_47 : decode cX1_hang 47 = .ok (.aload_n 2, 1) := dk_44 (dk_at dksX1_hang_2 1 rfl rfl)
theorem dX1_hang_48 : decode cX1_hang 48 = .ok (.invokevirtual 201, 3) := dk_182 0 201 (dk_at dksX1_hang_2 2 rfl rfl)
theorem dX1_hang_51 : decode cX1_hang 51 = .ok (.invokevirtual 92, 3) := dk_182 0 92 (dk_at dksX1_hang_2 5 rfl rfl)
theorem dX1_hang_54 : decode cX1_hang 54 = .ok (.pop, 1) := dk_87 (dk_at dksX1_hang_2 8 rfl rfl)
theorem dX1_hang_55 : decode cX1_hang 55 = .ok (.aload_n 0, 1) := dk_42 (dk_at dksX1_hang_2 9 rfl rfl)
theorem dX1_hang_56 : decode cX1_hang 56 = .ok (.getfield 45, 3) := dk_180 0 45 (dk_at dksX1_hang_2 10 rfl rfl)
theorem dX1_hang_59 : decode cX1_hang 59 = .ok (.dup, 1) := dk_89 (dk_at dksX1_hang_2 13 rfl rfl)
theorem dX1_hang_60 : decode cX1_hang 60 = .ok (.getfield 204, 3) := dk_180 0 204 (dk_at dksX1_hang_2 14 rfl rfl)
theorem dX1_hang_63 : decode cX1_hang 63 = .ok (.iconst 1, 1) := dk_4 (dk_at dksX1_hang_2 17 rfl rfl)
theorem dX1_hang_64 : decode cX1_hang 64 = .ok (.iadd, 1) := dk_96 (dk_at dksX1_hang_2 18 rfl rfl)
theorem dX1_hang_65 : decode cX1_hang 65 = .ok (.putfield 204, 3) := dk_181 0 204 (dk_at dksX1_hang_2 19 rfl rfl)
theorem dX1_hang_68 : decode cX1_hang 68 = .ok (.aload_n 0, 1) := dk_42 (dk_at dksX1_hang_2 22 rfl rfl)
theorem dX1_hang_69 : decode cX1_hang 69 = .ok (.getfield 45, 3) := dk_180 0 45 (dk_at dksX1_hang_3 0 rfl rfl)
theorem dX1_hang_72 : decode cX1_hang 72 = .ok (.invokevirtual 206, 3) := dk_182 0 206 (dk_at dksX1_hang_3 3 rfl rfl)
theorem dX1_hang_75 : decode cX1_hang 75 = .ok (.aload_n 3, 1) := dk_45 (dk_at dksX1_hang_3 6 rfl rfl)
theorem dX1_hang_76 : decode cX1_hang 76 = .ok (.invokevirtual 60, 3) := dk_182 0 60 (dk_at dksX1_hang_3 7 rfl rfl)
theorem dX1_hang_79 : decode cX1_hang 79 = .ok (.aload 4, 2) := dk_25 4 (dk_at dksX1_hang_3 10 rfl rfl)
theorem dX1_hang_81 : decode cX1_hang 81 = .ok (.monitorexit, 1) := dk_195 (dk_at dksX1_hang_3 12 rfl rfl)
theorem dX1_hang_82 : decode cX1_hang 82 = .ok (.ireturn, 1) := dk_172 (dk_at dksX1_hang_3 13 rfl rfl)
theorem dX1_hang_83 : decode cX1_hang 83 = .ok (.astore 5, 2) := dk_58 5 (dk_at dksX1_hang_3 14 rfl rfl)
theorem dX1_hang_85 : decode cX1_hang 85 = .ok (.aload 4, 2) := dk_25 4 (dk_at dksX1_hang_3 16 rfl rfl)
theorem dX1_hang_87 : decode cX1_hang 87 = .ok (.monitorexit, 1) := dk_195 (dk_at dksX1_hang_3 18 rfl rfl)
theorem dX1_hang_88 : decode cX1_hang 88 = .ok (.aload 5, 2) := dk_25 5 (dk_at dksX1_hang_3 19 rfl rfl)
theorem dX1_hang_90 : decode cX1_hang 90 = .ok (.athrow, 1) := dk_191 (dk_at dksX1_hang_3 21 rfl rfl)
abbrev cX1_clear : ByteArray := prog_1_method_30_code
def yX1_clear : MethodName := ⟨RX1, "clear", "(I)I"⟩
def dkwX1_clear_3 : List UInt8 := [182, 0, 212, 167, 0, 15, 58, 4, 42, 89, 180, 0, 217, 4, 96, 181, 0, 217, 3, 172]
abbrev dktX1_clear_3 : List UInt8 := dkwX1_clear_3 ++ []
def dkwX1_clear_2 : List UInt8 := [182, 0, 212, 25, 4, 195, 167, 0, 11, 58, 5, 25, 4, 195, 25, 5, 191, 29, 172, 42, 180, 0, 45]
abbrev dktX1_clear_2 : List UInt8 := dkwX1_clear_2 ++ dktX1_clear_3
def dkwX1_clear_1 : List UInt8 := [58, 4, 194, 44, 182, 0, 209, 42, 180, 0, 45, 89, 180, 0, 204, 4, 96, 181, 0, 204, 42, 180, 0, 45]
abbrev dktX1_clear_1 : List UInt8 := dkwX1_clear_1 ++ dktX1_clear_2
def dkwX1_clear_0 : List UInt8 := [42, 27, 182, 0, 113, 180, 0, 195, 77, 44, 182, 0, 60, 62, 29, 158, 0, 51, 42, 180, 0, 45, 89]
abbrev dktX1_clear_0 : List UInt8 := dkwX1_clear_0 ++ dktX1_clear_1
theorem dksX1_clear_0 : cX1_clear.data.toList.drop 0 = dktX1_clear_0 := by decide +kernel
theorem dksX1_clear_1 : cX1_clear.data.toList.drop 23 = dktX1_clear_1 := dk_seg dksX1_clear_0 23 rfl rfl
theorem dksX1_clear_2 : cX1_clear.data.toList.drop 47 = dktX1_clear_2 := dk_seg dksX1_clear_1 24 rfl rfl
theorem dksX1_clear_3 : cX1_clear.data.toList.drop 70 = dktX1_clear_3 := dk_seg dksX1_clear_2 23 rfl rfl
theorem dX1_clear_0 : decode cX1_clear 0 = .ok (.aload_n 0, 1) := dk_42 (dk_at dksX1_clear_0 0 rfl rfl)
theorem dX1_clear_1 : decode cX1_clear 1 = .ok (.iload_n 1, 1) := dk_27 (dk_at dksX1_clear_0 1 rfl rfl)
theorem dX1_clear_2 : decode cX1_clear 2 = .ok (.invokevirtual 113, 3) := dk_182 0 113 (dk_at dksX1_clear_0 2 rfl rfl)
theorem dX1_clear_5 : decode cX1_clear 5 = .ok (.getfield 195, 3) := dk_180 0 195 (dk_at dksX1_clear_0 5 rfl rfl)
theorem dX1_clear_8 : decode cX1_clear 8 = .ok (.astore_n 2, 1) := dk_77 (dk_at dksX1_clear_0 8 rfl rfl)
theorem dX1_clear_9 : decode cX1_clear 9 = .ok (.aload_n 2, 1) := dk_44 (dk_at dksX1_clear_0 9 rfl rfl)
theorem dX1_clear_10 : decode cX1_clear 10 = .ok (.invokevirtual 60, 3) := dk_182 0 60 (dk_at dksX1_clear_0 10 rfl rfl)
theorem dX1_clear_13 : decode cX1_clear 13 = .ok (.istore_n 3, 1) := dk_62 (dk_at dksX1_clear_0 13 rfl rfl)
theorem dX1_clear_14 : decode cX1_clear 14 = .ok (.iload_n 3, 1) := dk_29 (dk_at dksX1_clear_0 14 rfl rfl)
theorem dX1_clear_15 : decode cX1_clear 15 = .ok (.ifCond .le 51, 3) := dk_158 0 51 (dk_at dksX1_clear_0 15 rfl rfl)
theorem dX1_clear_18 : decode cX1_clear 18 = .ok (.aload_n 0, 1) := dk_42 (dk_at dksX1_clear_0 18 rfl rfl)
theorem dX1_clear_19 : decode cX1_clear 19 = .ok (.getfield 45, 3) := dk_180 0 45 (dk_at dksX1_clear_0 19 rfl rfl)
theorem dX1_clear_22 : decode cX1_clear 22 = .ok (.dup, 1) := dk_89 (dk_at dksX1_clear_0 22 rfl rfl)
theorem dX1_clear_23 : decode cX1_clear 23 = .ok (.astore 4, 2) := dk_58 4 (dk_at dksX1_clear_1 0 rfl rfl)
theorem dX1_clear_25 : decode cX1_clear 25 = .ok (.monitorenter, 1) := dk_194 (dk_at dksX1_clear_1 2 rfl rfl)
theorem dX1_clear_26 : decode cX1_clear 26 = .ok (.aload_n 2, 1) := dk_44 (dk_at dksX1_clear_1 3 rfl rfl)
theorem dX1_clear_27 : decode cX1_clear 27 = .ok (.invokevirtual 209, 3) := dk_182 0 209 (dk_at dksX1_clear_1 4 rfl rfl)
theorem dX1_clear_30 : decode cX1_clear 30 = .ok (.aload_n 0, 1) := dk_42 (dk_at dksX1_clear_1 7 rfl rfl)
theorem dX1_clear_31 : decode cX1_clear 31 = .ok (.getfield 45, 3) := dk_180 0 45 (dk_at dksX1_clear_1 8 rfl rfl)
theorem dX1_clear_34 : decode cX1_clear 34 = .ok (.dup, 1) := dk_89 (dk_at dksX1_clear_1 11 rfl rfl)
theorem dX1_clear_35 : decode cX1_clear 35 = .ok (.getfield 204, 3) := dk_180 0 204 (dk_at dksX1_clear_1 12 rfl rfl)
theorem dX1_clear_38 : decode cX1_clear 38 = .ok (.iconst 1, 1) := dk_4 (dk_at dksX1_clear_1 15 rfl rfl)
theorem dX1_clear_39 : decode cX1_clear 39 = .ok (.iadd, 1) := dk_96 (dk_at dksX1_clear_1 16 rfl rfl)
theorem dX1_clear_40 : decode cX1_clear 40 = .ok (.putfield 204, 3) := dk_181 0 204 (dk_at dksX1_clear_1 17 rfl rfl)
theorem dX1_clear_43 : decode cX1_clear 43 = .ok (.aload_n 0, 1) := dk_42 (dk_at dksX1_clear_1 20 rfl rfl)
theorem dX1_clear_44 : decode cX1_clear 44 = .ok (.getfield 45, 3) := dk_180 0 45 (dk_at dksX1_clear_1 21 rfl rfl)
theorem dX1_clear_47 : decode cX1_clear 47 = .ok (.invokevirtual 212, 3) := dk_182 0 212 (dk_at dksX1_clear_2 0 rfl rfl)
theorem dX1_clear_50 : decode cX1_clear 50 = .ok (.aload 4, 2) := dk_25 4 (dk_at dksX1_clear_2 3 rfl rfl)
theorem dX1_clear_52 : decode cX1_clear 52 = .ok (.monitorexit, 1) := dk_195 (dk_at dksX1_clear_2 5 rfl rfl)
theorem dX1_clear_53 : decode cX1_clear 53 = .ok (.goto 11, 3) := dk_167 0 11 (dk_at dksX1_clear_2 6 rfl rfl)
theorem dX1_clear_56 : decode cX1_clear 56 = .ok (.astore 5, 2) := dk_58 5 (dk_at dksX1_clear_2 9 rfl rfl)
theorem dX1_clear_58 : decode cX1_clear 58 = .ok (.aload 4, 2) := dk_25 4 (dk_at dksX1_clear_2 11 rfl rfl)
theorem dX1_clear_60 : decode cX1_clear 60 = .ok (.monitorexit, 1) := dk_195 (dk_at dksX1_clear_2 13 rfl rfl)
theorem dX1_clear_61 : decode cX1_clear 61 = .ok (.aload 5, 2) := dk_25 5 (dk_at dksX1_clear_2 14 rfl rfl)
theorem dX1_clear_63 : decode cX1_clear 63 = .ok (.athrow, 1) := dk_191 (dk_at dksX1_clear_2 16 rfl rfl)
theorem dX1_clear_64 : decode cX1_clear 64 = .ok (.iload_n 3, 1) := dk_29 (dk_at dksX1_clear_2 17 rfl rfl)
theorem dX1_clear_65 : decode cX1_clear 65 = .ok (.ireturn, 1) := dk_172 (dk_at dksX1_clear_2 18 rfl rfl)
theorem dX1_clear_66 : decode cX1_clear 66 = .ok (.aload_n 0, 1) := dk_42 (dk_at dksX1_clear_2 19 rfl rfl)
theorem dX1_clear_67 : decode cX1_clear 67 = .ok (.getfield 45, 3) := dk_180 0 45 (dk_at dksX1_clear_2 20 rfl rfl)
theorem dX1_clear_70 : decode cX1_clear 70 = .ok (.invokevirtual 212, 3) := dk_182 0 212 (dk_at dksX1_clear_3 0 rfl rfl)
theorem dX1_clear_73 : decode cX1_clear 73 = .ok (.goto 15, 3) := dk_167 0 15 (dk_at dksX1_clear_3 3 rfl rfl)
theorem dX1_clear_76 : decode cX1_clear 76 = .ok (.astore 4, 2) := dk_58 4 (dk_at dksX1_clear_3 6 rfl rfl)
theorem dX1_clear_78 : decode cX1_clear 78 = .ok (.aload_n 0, 1) := dk_42 (dk_at dksX1_clear_3 8 rfl rfl)
theorem dX1_clear_79 : decode cX1_clear 79 = .ok (.dup, 1) := dk_89 (dk_at dksX1_clear_3 9 rfl rfl)
theorem dX1_clear_80 : decode cX1_clear 80 = .ok (.getfield 217, 3) := dk_180 0 217 (dk_at dksX1_clear_3 10 rfl rfl)
theorem dX1_clear_83 : decode cX1_clear 83 = .ok (.iconst 1, 1) := dk_4 (dk_at dksX1_clear_3 13 rfl rfl)
theorem dX1_clear_84 : decode cX1_clear 84 = .ok (.iadd, 1) := dk_96 (dk_at dksX1_clear_3 14 rfl rfl)
theorem dX1_clear_85 : decode cX1_clear 85 = .ok (.putfield 217, 3) := dk_181 0 217 (dk_at dksX1_clear_3 15 rfl rfl)
theorem dX1_clear_88 : decode cX1_clear 88 = .ok (.iconst 0, 1) := dk_3 (dk_at dksX1_clear_3 18 rfl rfl)
theorem dX1_clear_89 : decode cX1_clear 89 = .ok (.ireturn, 1) := dk_172 (dk_at dksX1_clear_3 19 rfl rfl)
abbrev cX1_mirror : ByteArray := prog_1_method_31_code
def yX1_mirror : MethodName := ⟨RX1, "mirror", "(III)I"⟩
def dkwX1_mirror_2 : List UInt8 := [167, 0, 4, 3, 184, 0, 57, 25, 4, 25, 5, 25, 6, 182, 0, 220, 184, 0, 154, 172]
abbrev dktX1_mirror_2 : List UInt8 := dkwX1_mirror_2 ++ []
def dkwX1_mirror_1 : List UInt8 := [25, 5, 182, 0, 146, 42, 25, 4, 25, 6, 182, 0, 146, 25, 5, 182, 0, 198, 158, 0, 7, 4]
abbrev dktX1_mirror_1 : List UInt8 := dkwX1_mirror_1 ++ dktX1_mirror_2
def dkwX1_mirror_0 : List UInt8 := [42, 27, 182, 0, 137, 58, 4, 42, 28, 182, 0, 137, 58, 5, 42, 29, 182, 0, 137, 58, 6, 42, 25, 4]
abbrev dktX1_mirror_0 : List UInt8 := dkwX1_mirror_0 ++ dktX1_mirror_1
theorem dksX1_mirror_0 : cX1_mirror.data.toList.drop 0 = dktX1_mirror_0 := by decide +kernel
theorem dksX1_mirror_1 : cX1_mirror.data.toList.drop 24 = dktX1_mirror_1 := dk_seg dksX1_mirror_0 24 rfl rfl
theorem dksX1_mirror_2 : cX1_mirror.data.toList.drop 46 = dktX1_mirror_2 := dk_seg dksX1_mirror_1 22 rfl rfl
theorem dX1_mirror_0 : decode cX1_mirror 0 = .ok (.aload_n 0, 1) := dk_42 (dk_at dksX1_mirror_0 0 rfl rfl)
theorem dX1_mirror_1 : decode cX1_mirror 1 = .ok (.iload_n 1, 1) := dk_27 (dk_at dksX1_mirror_0 1 rfl rfl)
theorem dX1_mirror_2 : decode cX1_mirror 2 = .ok (.invokevirtual 137, 3) := dk_182 0 137 (dk_at dksX1_mirror_0 2 rfl rfl)
theorem dX1_mirror_5 : decode cX1_mirror 5 = .ok (.astore 4, 2) := dk_58 4 (dk_at dksX1_mirror_0 5 rfl rfl)
theorem dX1_mirror_7 : decode cX1_mirror 7 = .ok (.aload_n 0, 1) := dk_42 (dk_at dksX1_mirror_0 7 rfl rfl)
theorem dX1_mirror_8 : decode cX1_mirror 8 = .ok (.iload_n 2, 1) := dk_28 (dk_at dksX1_mirror_0 8 rfl rfl)
theorem dX1_mirror_9 : decode cX1_mirror 9 = .ok (.invokevirtual 137, 3) := dk_182 0 137 (dk_at dksX1_mirror_0 9 rfl rfl)
theorem dX1_mirror_12 : decode cX1_mirror 12 = .ok (.astore 5, 2) := dk_58 5 (dk_at dksX1_mirror_0 12 rfl rfl)
theorem dX1_mirror_14 : decode cX1_mirror 14 = .ok (.aload_n 0, 1) := dk_42 (dk_at dksX1_mirror_0 14 rfl rfl)
theorem dX1_mirror_15 : decode cX1_mirror 15 = .ok (.iload_n 3, 1) := dk_29 (dk_at dksX1_mirror_0 15 rfl rfl)
theorem dX1_mirror_16 : decode cX1_mirror 16 = .ok (.invokevirtual 137, 3) := dk_182 0 137 (dk_at dksX1_mirror_0 16 rfl rfl)
theorem dX1_mirror_19 : decode cX1_mirror 19 = .ok (.astore 6, 2) := dk_58 6 (dk_at dksX1_mirror_0 19 rfl rfl)
theorem dX1_mirror_21 : decode cX1_mirror 21 = .ok (.aload_n 0, 1) := dk_42 (dk_at dksX1_mirror_0 21 rfl rfl)
theorem dX1_mirror_22 : decode cX1_mirror 22 = .ok (.aload 4, 2) := dk_25 4 (dk_at dksX1_mirror_0 22 rfl rfl)
theorem dX1_mirror_24 : decode cX1_mirror 24 = .ok (.aload 5, 2) := dk_25 5 (dk_at dksX1_mirror_1 0 rfl rfl)
theorem dX1_mirror_26 : decode cX1_mirror 26 = .ok (.invokevirtual 146, 3) := dk_182 0 146 (dk_at dksX1_mirror_1 2 rfl rfl)
theorem dX1_mirror_29 : decode cX1_mirror 29 = .ok (.aload_n 0, 1) := dk_42 (dk_at dksX1_mirror_1 5 rfl rfl)
theorem dX1_mirror_30 : decode cX1_mirror 30 = .ok (.aload 4, 2) := dk_25 4 (dk_at dksX1_mirror_1 6 rfl rfl)
theorem dX1_mirror_32 : decode cX1_mirror 32 = .ok (.aload 6, 2) := dk_25 6 (dk_at dksX1_mirror_1 8 rfl rfl)
theorem dX1_mirror_34 : decode cX1_mirror 34 = .ok (.invokevirtual 146, 3) := dk_182 0 146 (dk_at dksX1_mirror_1 10 rfl rfl)
theorem dX1_mirror_37 : decode cX1_mirror 37 = .ok (.aload 5, 2) := dk_25 5 (dk_at dksX1_mirror_1 13 rfl rfl)
theorem dX1_mirror_39 : decode cX1_mirror 39 = .ok (.invokevirtual 198, 3) := dk_182 0 198 (dk_at dksX1_mirror_1 15 rfl rfl)
theorem dX1_mirror_42 : decode cX1_mirror 42 = .ok (.ifCond .le 7, 3) := dk_158 0 7 (dk_at dksX1_mirror_1 18 rfl rfl)
theorem dX1_mirror_45 : decode cX1_mirror 45 = .ok (.iconst 1, 1) := dk_4 (dk_at dksX1_mirror_1 21 rfl rfl)
theorem dX1_mirror_46 : decode cX1_mirror 46 = .ok (.goto 4, 3) := dk_167 0 4 (dk_at dksX1_mirror_2 0 rfl rfl)
theorem dX1_mirror_49 : decode cX1_mirror 49 = .ok (.iconst 0, 1) := dk_3 (dk_at dksX1_mirror_2 3 rfl rfl)
theorem dX1_mirror_50 : decode cX1_mirror 50 = .ok (.invokestatic 57, 3) := dk_184 0 57 (dk_at dksX1_mirror_2 4 rfl rfl)
theorem dX1_mirror_53 : decode cX1_mirror 53 = .ok (.aload 4, 2) := dk_25 4 (dk_at dksX1_mirror_2 7 rfl rfl)
theorem dX1_mirror_55 : decode cX1_mirror 55 = .ok (.aload 5, 2) := dk_25 5 (dk_at dksX1_mirror_2 9 rfl rfl)
theorem dX1_mirror_57 : decode cX1_mirror 57 = .ok (.aload 6, 2) := dk_25 6 (dk_at dksX1_mirror_2 11 rfl rfl)
theorem dX1_mirror_59 : decode cX1_mirror 59 = .ok (.invokevirtual 220, 3) := dk_182 0 220 (dk_at dksX1_mirror_2 13 rfl rfl)
theorem dX1_mirror_62 : decode cX1_mirror 62 = .ok (.invokestatic 154, 3) := dk_184 0 154 (dk_at dksX1_mirror_2 16 rfl rfl)
theorem dX1_mirror_65 : decode cX1_mirror 65 = .ok (.ireturn, 1) := dk_172 (dk_at dksX1_mirror_2 19 rfl rfl)
abbrev cX1_turn : ByteArray := prog_1_method_32_code
def yX1_turn : MethodName := ⟨RX1, "turn", "(II)I"⟩
def dkwX1_turn_3 : List UInt8 := [192, 0, 74, 58, 7, 25, 7, 25, 5, 182, 0, 220, 58, 5, 167, 255, 225, 45, 25, 5, 184, 0, 154, 172]
abbrev dktX1_turn_3 : List UInt8 := dkwX1_turn_3 ++ []
def dkwX1_turn_2 : List UInt8 := [182, 0, 96, 58, 6, 25, 6, 185, 0, 100, 1, 0, 153, 0, 27, 25, 6, 185, 0, 105, 1, 0]
abbrev dktX1_turn_2 : List UInt8 := dkwX1_turn_2 ++ dktX1_turn_3
def dkwX1_turn_1 : List UInt8 := [180, 0, 109, 182, 0, 223, 184, 0, 57, 25, 4, 182, 0, 201, 58, 5, 25, 4, 180, 0, 109, 180, 0, 195]
abbrev dktX1_turn_1 : List UInt8 := dkwX1_turn_1 ++ dktX1_turn_2
def dkwX1_turn_0 : List UInt8 := [42, 27, 182, 0, 137, 78, 42, 28, 182, 0, 137, 58, 4, 42, 45, 25, 4, 182, 0, 146, 25, 4]
abbrev dktX1_turn_0 : List UInt8 := dkwX1_turn_0 ++ dktX1_turn_1
theorem dksX1_turn_0 : cX1_turn.data.toList.drop 0 = dktX1_turn_0 := by decide +kernel
theorem dksX1_turn_1 : cX1_turn.data.toList.drop 22 = dktX1_turn_1 := dk_seg dksX1_turn_0 22 rfl rfl
theorem dksX1_turn_2 : cX1_turn.data.toList.drop 46 = dktX1_turn_2 := dk_seg dksX1_turn_1 24 rfl rfl
theorem dksX1_turn_3 : cX1_turn.data.toList.drop 68 = dktX1_turn_3 := dk_seg dksX1_turn_2 22 rfl rfl
theorem dX1_turn_0 : decode cX1_turn 0 = .ok (.aload_n 0, 1) := dk_42 (dk_at dksX1_turn_0 0 rfl rfl)
theorem dX1_turn_1 : decode cX1_turn 1 = .ok (.iload_n 1, 1) := dk_27 (dk_at dksX1_turn_0 1 rfl rfl)
theorem dX1_turn_2 : decode cX1_turn 2 = .ok (.invokevirtual 137, 3) := dk_182 0 137 (dk_at dksX1_turn_0 2 rfl rfl)
theorem dX1_turn_5 : decode cX1_turn 5 = .ok (.astore_n 3, 1) := dk_78 (dk_at dksX1_turn_0 5 rfl rfl)
theorem dX1_turn_6 : decode cX1_turn 6 = .ok (.aload_n 0, 1) := dk_42 (dk_at dksX1_turn_0 6 rfl rfl)
theorem dX1_turn_7 : decode cX1_turn 7 = .ok (.iload_n 2, 1) := dk_28 (dk_at dksX1_turn_0 7 rfl rfl)
theorem dX1_turn_8 : decode cX1_turn 8 = .ok (.invokevirtual 137, 3) := dk_182 0 137 (dk_at dksX1_turn_0 8 rfl rfl)
theorem dX1_turn_11 : decode cX1_turn 11 = .ok (.astore 4, 2) := dk_58 4 (dk_at dksX1_turn_0 11 rfl rfl)
theorem dX1_turn_13 : decode cX1_turn 13 = .ok (.aload_n 0, 1) := dk_42 (dk_at dksX1_turn_0 13 rfl rfl)
theorem dX1_turn_14 : decode cX1_turn 14 = .ok (.aload_n 3, 1) := dk_45 (dk_at dksX1_turn_0 14 rfl rfl)
theorem dX1_turn_15 : decode cX1_turn 15 = .ok (.aload 4, 2) := dk_25 4 (dk_at dksX1_turn_0 15 rfl rfl)
theorem dX1_turn_17 : decode cX1_turn 17 = .ok (.invokevirtual 146, 3) := dk_182 0 146 (dk_at dksX1_turn_0 17 rfl rfl)
theorem dX1_turn_20 : decode cX1_turn 20 = .ok (.aload 4, 2) := dk_25 4 (dk_at dksX1_turn_0 20 rfl rfl)
theorem dX1_turn_22 : decode cX1_turn 22 = .ok (.getfield 109, 3) := dk_180 0 109 (dk_at dksX1_turn_1 0 rfl rfl)
theorem dX1_turn_25 : decode cX1_turn 25 = .ok (.invokevirtual 223, 3) := dk_182 0 223 (dk_at dksX1_turn_1 3 rfl rfl)
theorem dX1_turn_28 : decode cX1_turn 28 = .ok (.invokestatic 57, 3) := dk_184 0 57 (dk_at dksX1_turn_1 6 rfl rfl)
theorem dX1_turn_31 : decode cX1_turn 31 = .ok (.aload 4, 2) := dk_25 4 (dk_at dksX1_turn_1 9 rfl rfl)
theorem dX1_turn_33 : decode cX1_turn 33 = .ok (.invokevirtual 201, 3) := dk_182 0 201 (dk_at dksX1_turn_1 11 rfl rfl)
theorem dX1_turn_36 : decode cX1_turn 36 = .ok (.astore 5, 2) := dk_58 5 (dk_at dksX1_turn_1 14 rfl rfl)
theorem dX1_turn_38 : decode cX1_turn 38 = .ok (.aload 4, 2) := dk_25 4 (dk_at dksX1_turn_1 16 rfl rfl)
theorem dX1_turn_40 : decode cX1_turn 40 = .ok (.getfield 109, 3) := dk_180 0 109 (dk_at dksX1_turn_1 18 rfl rfl)
theorem dX1_turn_43 : decode cX1_turn 43 = .ok (.getfield 195, 3) := dk_180 0 195 (dk_at dksX1_turn_1 21 rfl rfl)
theorem dX1_turn_46 : decode cX1_turn 46 = .ok (.invokevirtual 96, 3) := dk_182 0 96 (dk_at dksX1_turn_2 0 rfl rfl)
theorem dX1_turn_49 : decode cX1_turn 49 = .ok (.astore 6, 2) := dk_58 6 (dk_at dksX1_turn_2 3 rfl rfl)
theorem dX1_turn_51 : decode cX1_turn 51 = .ok (.aload 6, 2) := dk_25 6 (dk_at dksX1_turn_2 5 rfl rfl)
theorem dX1_turn_53 : decode cX1_turn 53 = .ok (.invokeinterface 100 1, 5) := by decide +kernel
theorem dX1_turn_58 : decode cX1_turn 58 = .ok (.ifCond .eq 27, 3) := dk_153 0 27 (dk_at dksX1_turn_2 12 rfl rfl)
theorem dX1_turn_61 : decode cX1_turn 61 = .ok (.aload 6, 2) := dk_25 6 (dk_at dksX1_turn_2 15 rfl rfl)
theorem dX1_turn_63 : decode cX1_turn 63 = .ok (.invokeinterface 105 1, 5) := by decide +kernel
theorem dX1_turn_68 : decode cX1_turn 68 = .ok (.checkcast 74, 3) := dk_192 0 74 (dk_at dksX1_turn_3 0 rfl rfl)
theorem dX1_turn_71 : decode cX1_turn 71 = .ok (.astore 7, 2) := dk_58 7 (dk_at dksX1_turn_3 3 rfl rfl)
theorem dX1_turn_73 : decode cX1_turn 73 = .ok (.aload 7, 2) := dk_25 7 (dk_at dksX1_turn_3 5 rfl rfl)
theorem dX1_turn_75 : decode cX1_turn 75 = .ok (.aload 5, 2) := dk_25 5 (dk_at dksX1_turn_3 7 rfl rfl)
theorem dX1_turn_77 : decode cX1_turn 77 = .ok (.invokevirtual 220, 3) := dk_182 0 220 (dk_at dksX1_turn_3 9 rfl rfl)
theorem dX1_turn_80 : decode cX1_turn 80 = .ok (.astore 5, 2) := dk_58 5 (dk_at dksX1_turn_3 12 rfl rfl)
theorem dX1_turn_82 : decode cX1_turn 82 = .ok (.goto (-31), 3) := dk_167 255 225 (dk_at dksX1_turn_3 14 rfl rfl)
theorem dX1_turn_85 : decode cX1_turn 85 = .ok (.aload_n 3, 1) := dk_45 (dk_at dksX1_turn_3 17 rfl rfl)
theorem dX1_turn_86 : decode cX1_turn 86 = .ok (.aload 5, 2) := dk_25 5 (dk_at dksX1_turn_3 18 rfl rfl)
theorem dX1_turn_88 : decode cX1_turn 88 = .ok (.invokestatic 154, 3) := dk_184 0 154 (dk_at dksX1_turn_3 20 rfl rfl)
theorem dX1_turn_91 : decode cX1_turn 91 = .ok (.ireturn, 1) := dk_172 (dk_at dksX1_turn_3 23 rfl rfl)
abbrev cX1_versor : ByteArray := prog_1_method_33_code
def yX1_versor : MethodName := ⟨RX1, "versor", "(I)I"⟩
def dkwX1_versor_3 : List UInt8 := [184, 0, 154, 172]
abbrev dktX1_versor_3 : List UInt8 := dkwX1_versor_3 ++ []
def dkwX1_versor_2 : List UInt8 := [185, 0, 105, 1, 0, 192, 0, 74, 58, 5, 25, 5, 45, 182, 0, 158, 78, 167, 255, 227, 44, 45]
abbrev dktX1_versor_2 : List UInt8 := dkwX1_versor_2 ++ dktX1_versor_3
def dkwX1_versor_1 : List UInt8 := [180, 0, 109, 180, 0, 195, 182, 0, 96, 58, 4, 25, 4, 185, 0, 100, 1, 0, 153, 0, 25, 25, 4]
abbrev dktX1_versor_1 : List UInt8 := dkwX1_versor_1 ++ dktX1_versor_2
def dkwX1_versor_0 : List UInt8 := [42, 27, 182, 0, 137, 77, 44, 180, 0, 109, 182, 0, 223, 184, 0, 57, 44, 182, 0, 226, 78, 44]
abbrev dktX1_versor_0 : List UInt8 := dkwX1_versor_0 ++ dktX1_versor_1
theorem dksX1_versor_0 : cX1_versor.data.toList.drop 0 = dktX1_versor_0 := by decide +kernel
theorem dksX1_versor_1 : cX1_versor.data.toList.drop 22 = dktX1_versor_1 := dk_seg dksX1_versor_0 22 rfl rfl
theorem dksX1_versor_2 : cX1_versor.data.toList.drop 45 = dktX1_versor_2 := dk_seg dksX1_versor_1 23 rfl rfl
theorem dksX1_versor_3 : cX1_versor.data.toList.drop 67 = dktX1_versor_3 := dk_seg dksX1_versor_2 22 rfl rfl
theorem dX1_versor_0 : decode cX1_versor 0 = .ok (.aload_n 0, 1) := dk_42 (dk_at dksX1_versor_0 0 rfl rfl)
theorem dX1_versor_1 : decode cX1_versor 1 = .ok (.iload_n 1, 1) := dk_27 (dk_at dksX1_versor_0 1 rfl rfl)
theorem dX1_versor_2 : decode cX1_versor 2 = .ok (.invokevirtual 137, 3) := dk_182 0 137 (dk_at dksX1_versor_0 2 rfl rfl)
theorem dX1_versor_5 : decode cX1_versor 5 = .ok (.astore_n 2, 1) := dk_77 (dk_at dksX1_versor_0 5 rfl rfl)
theorem dX1_versor_6 : decode cX1_versor 6 = .ok (.aload_n 2, 1) := dk_44 (dk_at dksX1_versor_0 6 rfl rfl)
theorem dX1_versor_7 : decode cX1_versor 7 = .ok (.getfield 109, 3) := dk_180 0 109 (dk_at dksX1_versor_0 7 rfl rfl)
theorem dX1_versor_10 : decode cX1_versor 10 = .ok (.invokevirtual 223, 3) := dk_182 0 223 (dk_at dksX1_versor_0 10 rfl rfl)
theorem dX1_versor_13 : decode cX1_versor 13 = .ok (.invokestatic 57, 3) := dk_184 0 57 (dk_at dksX1_versor_0 13 rfl rfl)
theorem dX1_versor_16 : decode cX1_versor 16 = .ok (.aload_n 2, 1) := dk_44 (dk_at dksX1_versor_0 16 rfl rfl)
theorem dX1_versor_17 : decode cX1_versor 17 = .ok (.invokevirtual 226, 3) := dk_182 0 226 (dk_at dksX1_versor_0 17 rfl rfl)
theorem dX1_versor_20 : decode cX1_versor 20 = .ok (.astore_n 3, 1) := dk_78 (dk_at dksX1_versor_0 20 rfl rfl)
theorem dX1_versor_21 : decode cX1_versor 21 = .ok (.aload_n 2, 1) := dk_44 (dk_at dksX1_versor_0 21 rfl rfl)
theorem dX1_versor_22 : decode cX1_versor 22 = .ok (.getfield 109, 3) := dk_180 0 109 (dk_at dksX1_versor_1 0 rfl rfl)
theorem dX1_versor_25 : decode cX1_versor 25 = .ok (.getfield 195, 3) := dk_180 0 195 (dk_at dksX1_versor_1 3 rfl rfl)
theorem dX1_versor_28 : decode cX1_versor 28 = .ok (.invokevirtual 96, 3) := dk_182 0 96 (dk_at dksX1_versor_1 6 rfl rfl)
theorem dX1_versor_31 : decode cX1_versor 31 = .ok (.astore 4, 2) := dk_58 4 (dk_at dksX1_versor_1 9 rfl rfl)
theorem dX1_versor_33 : decode cX1_versor 33 = .ok (.aload 4, 2) := dk_25 4 (dk_at dksX1_versor_1 11 rfl rfl)
theorem dX1_versor_35 : decode cX1_versor 35 = .ok (.invokeinterface 100 1, 5) := by decide +kernel
theorem dX1_versor_40 : decode cX1_versor 40 = .ok (.ifCond .eq 25, 3) := dk_153 0 25 (dk_at dksX1_versor_1 18 rfl rfl)
theorem dX1_versor_43 : decode cX1_versor 43 = .ok (.aload 4, 2) := dk_25 4 (dk_at dksX1_versor_1 21 rfl rfl)
theorem dX1_versor_45 : decode cX1_versor 45 = .ok (.invokeinterface 105 1, 5) := by decide +kernel
theorem dX1_versor_50 : decode cX1_versor 50 = .ok (.checkcast 74, 3) := dk_192 0 74 (dk_at dksX1_versor_2 5 rfl rfl)
theorem dX1_versor_53 : decode cX1_versor 53 = .ok (.astore 5, 2) := dk_58 5 (dk_at dksX1_versor_2 8 rfl rfl)
theorem dX1_versor_55 : decode cX1_versor 55 = .ok (.aload 5, 2) := dk_25 5 (dk_at dksX1_versor_2 10 rfl rfl)
theorem dX1_versor_57 : decode cX1_versor 57 = .ok (.aload_n 3, 1) := dk_45 (dk_at dksX1_versor_2 12 rfl rfl)
theorem dX1_versor_58 : decode cX1_versor 58 = .ok (.invokevirtual 158, 3) := dk_182 0 158 (dk_at dksX1_versor_2 13 rfl rfl)
theorem dX1_versor_61 : decode cX1_versor 61 = .ok (.astore_n 3, 1) := dk_78 (dk_at dksX1_versor_2 16 rfl rfl)
theorem dX1_versor_62 : decode cX1_versor 62 = .ok (.goto (-29), 3) := dk_167 255 227 (dk_at dksX1_versor_2 17 rfl rfl)
theorem dX1_versor_65 : decode cX1_versor 65 = .ok (.aload_n 2, 1) := dk_44 (dk_at dksX1_versor_2 20 rfl rfl)
theorem dX1_versor_66 : decode cX1_versor 66 = .ok (.aload_n 3, 1) := dk_45 (dk_at dksX1_versor_2 21 rfl rfl)
theorem dX1_versor_67 : decode cX1_versor 67 = .ok (.invokestatic 154, 3) := dk_184 0 154 (dk_at dksX1_versor_3 0 rfl rfl)
theorem dX1_versor_70 : decode cX1_versor 70 = .ok (.ireturn, 1) := dk_172 (dk_at dksX1_versor_3 3 rfl rfl)
abbrev cX1_run : ByteArray := prog_1_method_34_code
def yX1_run : MethodName := ⟨RX1, "run", "(II)I"⟩
def dkwX1_run_3 : List UInt8 := [167, 0, 4, 3, 184, 0, 49, 45, 25, 4, 3, 182, 0, 68, 192, 0, 74, 182, 0, 201, 184, 0, 154, 172]
abbrev dktX1_run_3 : List UInt8 := dkwX1_run_3 ++ []
def dkwX1_run_2 : List UInt8 := [21, 5, 16, 10, 108, 54, 5, 21, 5, 157, 255, 232, 25, 4, 182, 0, 60, 4, 160, 0, 7, 4]
abbrev dktX1_run_2 : List UInt8 := dkwX1_run_2 ++ dktX1_run_3
def dkwX1_run_1 : List UInt8 := [183, 0, 34, 58, 4, 28, 54, 5, 42, 25, 4, 45, 180, 0, 109, 21, 5, 16, 10, 112, 182, 0, 229]
abbrev dktX1_run_1 : List UInt8 := dkwX1_run_1 ++ dktX1_run_2
def dkwX1_run_0 : List UInt8 := [42, 27, 182, 0, 137, 78, 28, 155, 0, 7, 4, 167, 0, 4, 3, 184, 0, 49, 187, 0, 32, 89]
abbrev dktX1_run_0 : List UInt8 := dkwX1_run_0 ++ dktX1_run_1
theorem dksX1_run_0 : cX1_run.data.toList.drop 0 = dktX1_run_0 := by decide +kernel
theorem dksX1_run_1 : cX1_run.data.toList.drop 22 = dktX1_run_1 := dk_seg dksX1_run_0 22 rfl rfl
theorem dksX1_run_2 : cX1_run.data.toList.drop 45 = dktX1_run_2 := dk_seg dksX1_run_1 23 rfl rfl
theorem dksX1_run_3 : cX1_run.data.toList.drop 67 = dktX1_run_3 := dk_seg dksX1_run_2 22 rfl rfl
theorem dX1_run_0 : decode cX1_run 0 = .ok (.aload_n 0, 1) := dk_42 (dk_at dksX1_run_0 0 rfl rfl)
theorem dX1_run_1 : decode cX1_run 1 = .ok (.iload_n 1, 1) := dk_27 (dk_at dksX1_run_0 1 rfl rfl)
theorem dX1_run_2 : decode cX1_run 2 = .ok (.invokevirtual 137, 3) := dk_182 0 137 (dk_at dksX1_run_0 2 rfl rfl)
theorem dX1_run_5 : decode cX1_run 5 = .ok (.astore_n 3, 1) := dk_78 (dk_at dksX1_run_0 5 rfl rfl)
theorem dX1_run_6 : decode cX1_run 6 = .ok (.iload_n 2, 1) := dk_28 (dk_at dksX1_run_0 6 rfl rfl)
theorem dX1_run_7 : decode cX1_run 7 = .ok (.ifCond .lt 7, 3) := dk_155 0 7 (dk_at dksX1_run_0 7 rfl rfl)
theorem dX1_run_10 : decode cX1_run 10 = .ok (.iconst 1, 1) := dk_4 (dk_at dksX1_run_0 10 rfl rfl)
theorem dX1_run_11 : decode cX1_run 11 = .ok (.goto 4, 3) := dk_167 0 4 (dk_at dksX1_run_0 11 rfl rfl)
theorem dX1_run_14 : decode cX1_run 14 = .ok (.iconst 0, 1) := dk_3 (dk_at dksX1_run_0 14 rfl rfl)
theorem dX1_run_15 : decode cX1_run 15 = .ok (.invokestatic 49, 3) := dk_184 0 49 (dk_at dksX1_run_0 15 rfl rfl)
theorem dX1_run_18 : decode cX1_run 18 = .ok (.new 32, 3) := dk_187 0 32 (dk_at dksX1_run_0 18 rfl rfl)
theorem dX1_run_21 : decode cX1_run 21 = .ok (.dup, 1) := dk_89 (dk_at dksX1_run_0 21 rfl rfl)
theorem dX1_run_22 : decode cX1_run 22 = .ok (.invokespecial 34, 3) := dk_183 0 34 (dk_at dksX1_run_1 0 rfl rfl)
theorem dX1_run_25 : decode cX1_run 25 = .ok (.astore 4, 2) := dk_58 4 (dk_at dksX1_run_1 3 rfl rfl)
theorem dX1_run_27 : decode cX1_run 27 = .ok (.iload_n 2, 1) := dk_28 (dk_at dksX1_run_1 5 rfl rfl)
theorem dX1_run_28 : decode cX1_run 28 = .ok (.istore 5, 2) := dk_54 5 (dk_at dksX1_run_1 6 rfl rfl)
theorem dX1_run_30 : decode cX1_run 30 = .ok (.aload_n 0, 1) := dk_42 (dk_at dksX1_run_1 8 rfl rfl)
theorem dX1_run_31 : decode cX1_run 31 = .ok (.aload 4, 2) := dk_25 4 (dk_at dksX1_run_1 9 rfl rfl)
theorem dX1_run_33 : decode cX1_run 33 = .ok (.aload_n 3, 1) := dk_45 (dk_at dksX1_run_1 11 rfl rfl)
theorem dX1_run_34 : decode cX1_run 34 = .ok (.getfield 109, 3) := dk_180 0 109 (dk_at dksX1_run_1 12 rfl rfl)
theorem dX1_run_37 : decode cX1_run 37 = .ok (.iload 5, 2) := dk_21 5 (dk_at dksX1_run_1 15 rfl rfl)
theorem dX1_run_39 : decode cX1_run 39 = .ok (.bipush 10, 2) := dk_16 10 (dk_at dksX1_run_1 17 rfl rfl)
theorem dX1_run_41 : decode cX1_run 41 = .ok (.irem, 1) := dk_112 (dk_at dksX1_run_1 19 rfl rfl)
theorem dX1_run_42 : decode cX1_run 42 = .ok (.invokevirtual 229, 3) := dk_182 0 229 (dk_at dksX1_run_1 20 rfl rfl)
theorem dX1_run_45 : decode cX1_run 45 = .ok (.iload 5, 2) := dk_21 5 (dk_at dksX1_run_2 0 rfl rfl)
theorem dX1_run_47 : decode cX1_run 47 = .ok (.bipush 10, 2) := dk_16 10 (dk_at dksX1_run_2 2 rfl rfl)
theorem dX1_run_49 : decode cX1_run 49 = .ok (.idiv, 1) := dk_108 (dk_at dksX1_run_2 4 rfl rfl)
theorem dX1_run_50 : decode cX1_run 50 = .ok (.istore 5, 2) := dk_54 5 (dk_at dksX1_run_2 5 rfl rfl)
theorem dX1_run_52 : decode cX1_run 52 = .ok (.iload 5, 2) := dk_21 5 (dk_at dksX1_run_2 7 rfl rfl)
theorem dX1_run_54 : decode cX1_run 54 = .ok (.ifCond .gt (-24), 3) := dk_157 255 232 (dk_at dksX1_run_2 9 rfl rfl)
theorem dX1_run_57 : decode cX1_run 57 = .ok (.aload 4, 2) := dk_25 4 (dk_at dksX1_run_2 12 rfl rfl)
theorem dX1_run_59 : decode cX1_run 59 = .ok (.invokevirtual 60, 3) := dk_182 0 60 (dk_at dksX1_run_2 14 rfl rfl)
theorem dX1_run_62 : decode cX1_run 62 = .ok (.iconst 1, 1) := dk_4 (dk_at dksX1_run_2 17 rfl rfl)
theorem dX1_run_63 : decode cX1_run 63 = .ok (.if_icmp .ne 7, 3) := dk_160 0 7 (dk_at dksX1_run_2 18 rfl rfl)
theorem dX1_run_66 : decode cX1_run 66 = .ok (.iconst 1, 1) := dk_4 (dk_at dksX1_run_2 21 rfl rfl)
theorem dX1_run_67 : decode cX1_run 67 = .ok (.goto 4, 3) := dk_167 0 4 (dk_at dksX1_run_3 0 rfl rfl)
theorem dX1_run_70 : decode cX1_run 70 = .ok (.iconst 0, 1) := dk_3 (dk_at dksX1_run_3 3 rfl rfl)
theorem dX1_run_71 : decode cX1_run 71 = .ok (.invokestatic 49, 3) := dk_184 0 49 (dk_at dksX1_run_3 4 rfl rfl)
theorem dX1_run_74 : decode cX1_run 74 = .ok (.aload_n 3, 1) := dk_45 (dk_at dksX1_run_3 7 rfl rfl)
theorem dX1_run_75 : decode cX1_run 75 = .ok (.aload 4, 2) := dk_25 4 (dk_at dksX1_run_3 8 rfl rfl)
theorem dX1_run_77 : decode cX1_run 77 = .ok (.iconst 0, 1) := dk_3 (dk_at dksX1_run_3 10 rfl rfl)
theorem dX1_run_78 : decode cX1_run 78 = .ok (.invokevirtual 68, 3) := dk_182 0 68 (dk_at dksX1_run_3 11 rfl rfl)
theorem dX1_run_81 : decode cX1_run 81 = .ok (.checkcast 74, 3) := dk_192 0 74 (dk_at dksX1_run_3 14 rfl rfl)
theorem dX1_run_84 : decode cX1_run 84 = .ok (.invokevirtual 201, 3) := dk_182 0 201 (dk_at dksX1_run_3 17 rfl rfl)
theorem dX1_run_87 : decode cX1_run 87 = .ok (.invokestatic 154, 3) := dk_184 0 154 (dk_at dksX1_run_3 20 rfl rfl)
theorem dX1_run_90 : decode cX1_run 90 = .ok (.ireturn, 1) := dk_172 (dk_at dksX1_run_3 23 rfl rfl)
abbrev cX1_step : ByteArray := prog_1_method_36_code
def yX1_step : MethodName := ⟨RX1, "step", "(Ljava/util/ArrayList;LVersorhall$Algebra;I)V"⟩
def dkwX1_step_5 : List UInt8 := [167, 0, 4, 2, 182, 0, 150, 182, 0, 92, 87, 177]
abbrev dktX1_step_5 : List UInt8 := dkwX1_step_5 ++ []
def dkwX1_step_4 : List UInt8 := [160, 0, 13, 25, 5, 25, 4, 182, 0, 158, 167, 0, 21, 25, 5, 25, 4, 29, 16, 6, 160, 0, 7, 4]
abbrev dktX1_step_4 : List UInt8 := dkwX1_step_4 ++ dktX1_step_5
def dkwX1_step_3 : List UInt8 := [160, 0, 14, 43, 25, 4, 182, 0, 164, 182, 0, 92, 87, 177, 43, 184, 0, 236, 58, 5, 43, 29, 16, 7]
abbrev dktX1_step_3 : List UInt8 := dkwX1_step_3 ++ dktX1_step_4
def dkwX1_step_2 : List UInt8 := [180, 0, 39, 29, 182, 0, 68, 192, 0, 74, 182, 0, 92, 87, 177, 43, 184, 0, 236, 58, 4, 29, 16, 9]
abbrev dktX1_step_2 : List UInt8 := dkwX1_step_2 ++ dktX1_step_3
def dkwX1_step_1 : List UInt8 := [182, 0, 68, 192, 0, 74, 180, 0, 109, 44, 166, 0, 7, 4, 167, 0, 4, 3, 184, 0, 49, 43, 42]
abbrev dktX1_step_1 : List UInt8 := dkwX1_step_1 ++ dktX1_step_2
def dkwX1_step_0 : List UInt8 := [29, 16, 6, 162, 0, 57, 29, 42, 180, 0, 39, 182, 0, 60, 162, 0, 25, 42, 180, 0, 39, 29]
abbrev dktX1_step_0 : List UInt8 := dkwX1_step_0 ++ dktX1_step_1
theorem dksX1_step_0 : cX1_step.data.toList.drop 0 = dktX1_step_0 := by decide +kernel
theorem dksX1_step_1 : cX1_step.data.toList.drop 22 = dktX1_step_1 := dk_seg dksX1_step_0 22 rfl rfl
theorem dksX1_step_2 : cX1_step.data.toList.drop 45 = dktX1_step_2 := dk_seg dksX1_step_1 23 rfl rfl
theorem dksX1_step_3 : cX1_step.data.toList.drop 69 = dktX1_step_3 := dk_seg dksX1_step_2 24 rfl rfl
theorem dksX1_step_4 : cX1_step.data.toList.drop 93 = dktX1_step_4 := dk_seg dksX1_step_3 24 rfl rfl
theorem dksX1_step_5 : cX1_step.data.toList.drop 117 = dktX1_step_5 := dk_seg dksX1_step_4 24 rfl rfl
theorem dX1_step_0 : decode cX1_step 0 = .ok (.iload_n 3, 1) := dk_29 (dk_at dksX1_step_0 0 rfl rfl)
theorem dX1_step_1 : decode cX1_step 1 = .ok (.bipush 6, 2) := dk_16 6 (dk_at dksX1_step_0 1 rfl rfl)
theorem dX1_step_3 : decode cX1_step 3 = .ok (.if_icmp .ge 57, 3) := dk_162 0 57 (dk_at dksX1_step_0 3 rfl rfl)
theorem dX1_step_6 : decode cX1_step 6 = .ok (.iload_n 3, 1) := dk_29 (dk_at dksX1_step_0 6 rfl rfl)
theorem dX1_step_7 : decode cX1_step 7 = .ok (.aload_n 0, 1) := dk_42 (dk_at dksX1_step_0 7 rfl rfl)
theorem dX1_step_8 : decode cX1_step 8 = .ok (.getfield 39, 3) := dk_180 0 39 (dk_at dksX1_step_0 8 rfl rfl)
theorem dX1_step_11 : decode cX1_step 11 = .ok (.invokevirtual 60, 3) := dk_182 0 60 (dk_at dksX1_step_0 11 rfl rfl)
theorem dX1_step_14 : decode cX1_step 14 = .ok (.if_icmp .ge 25, 3) := dk_162 0 25 (dk_at dksX1_step_0 14 rfl rfl)
theorem dX1_step_17 : decode cX1_step 17 = .ok (.aload_n 0, 1) := dk_42 (dk_at dksX1_step_0 17 rfl rfl)
theorem dX1_step_18 : decode cX1_step 18 = .ok (.getfield 39, 3) := dk_180 0 39 (dk_at dksX1_step_0 18 rfl rfl)
theorem dX1_step_21 : decode cX1_step 21 = .ok (.iload_n 3, 1) := dk_29 (dk_at dksX1_step_0 21 rfl rfl)
theorem dX1_step_22 : decode cX1_step 22 = .ok (.invokevirtual 68, 3) := dk_182 0 68 (dk_at dksX1_step_1 0 rfl rfl)
theorem dX1_step_25 : decode cX1_step 25 = .ok (.checkcast 74, 3) := dk_192 0 74 (dk_at dksX1_step_1 3 rfl rfl)
theorem dX1_step_28 : decode cX1_step 28 = .ok (.getfield 109, 3) := dk_180 0 109 (dk_at dksX1_step_1 6 rfl rfl)
theorem dX1_step_31 : decode cX1_step 31 = .ok (.aload_n 2, 1) := dk_44 (dk_at dksX1_step_1 9 rfl rfl)
theorem dX1_step_32 : decode cX1_step 32 = .ok (.if_acmp .ne 7, 3) := dk_166 0 7 (dk_at dksX1_step_1 10 rfl rfl)
theorem dX1_step_35 : decode cX1_step 35 = .ok (.iconst 1, 1) := dk_4 (dk_at dksX1_step_1 13 rfl rfl)
theorem dX1_step_36 : decode cX1_step 36 = .ok (.goto 4, 3) := dk_167 0 4 (dk_at dksX1_step_1 14 rfl rfl)
theorem dX1_step_39 : decode cX1_step 39 = .ok (.iconst 0, 1) := dk_3 (dk_at dksX1_step_1 17 rfl rfl)
theorem dX1_step_40 : decode cX1_step 40 = .ok (.invokestatic 49, 3) := dk_184 0 49 (dk_at dksX1_step_1 18 rfl rfl)
theorem dX1_step_43 : decode cX1_step 43 = .ok (.aload_n 1, 1) := dk_43 (dk_at dksX1_step_1 21 rfl rfl)
theorem dX1_step_44 : decode cX1_step 44 = .ok (.aload_n 0, 1) := dk_42 (dk_at dksX1_step_1 22 rfl rfl)
theorem dX1_step_45 : decode cX1_step 45 = .ok (.getfield 39, 3) := dk_180 0 39 (dk_at dksX1_step_2 0 rfl rfl)
theorem dX1_step_48 : decode cX1_step 48 = .ok (.iload_n 3, 1) := dk_29 (dk_at dksX1_step_2 3 rfl rfl)
theorem dX1_step_49 : decode cX1_step 49 = .ok (.invokevirtual 68, 3) := dk_182 0 68 (dk_at dksX1_step_2 4 rfl rfl)
theorem dX1_step_52 : decode cX1_step 52 = .ok (.checkcast 74, 3) := dk_192 0 74 (dk_at dksX1_step_2 7 rfl rfl)
theorem dX1_step_55 : decode cX1_step 55 = .ok (.invokevirtual 92, 3) := dk_182 0 92 (dk_at dksX1_step_2 10 rfl rfl)
theorem dX1_step_58 : decode cX1_step 58 = .ok (.pop, 1) := dk_87 (dk_at dksX1_step_2 13 rfl rfl)
theorem dX1_step_59 : decode cX1_step 59 = .ok (.return_, 1) := dk_177 (dk_at dksX1_step_2 14 rfl rfl)
theorem dX1_step_60 : decode cX1_step 60 = .ok (.aload_n 1, 1) := dk_43 (dk_at dksX1_step_2 15 rfl rfl)
theorem dX1_step_61 : decode cX1_step 61 = .ok (.invokestatic 236, 3) := dk_184 0 236 (dk_at dksX1_step_2 16 rfl rfl)
theorem dX1_step_64 : decode cX1_step 64 = .ok (.astore 4, 2) := dk_58 4 (dk_at dksX1_step_2 19 rfl rfl)
theorem dX1_step_66 : decode cX1_step 66 = .ok (.iload_n 3, 1) := dk_29 (dk_at dksX1_step_2 21 rfl rfl)
theorem dX1_step_67 : decode cX1_step 67 = .ok (.bipush 9, 2) := dk_16 9 (dk_at dksX1_step_2 22 rfl rfl)
theorem dX1_step_69 : decode cX1_step 69 = .ok (.if_icmp .ne 14, 3) := dk_160 0 14 (dk_at dksX1_step_3 0 rfl rfl)
theorem dX1_step_72 : decode cX1_step 72 = .ok (.aload_n 1, 1) := dk_43 (dk_at dksX1_step_3 3 rfl rfl)
theorem dX1_step_73 : decode cX1_step 73 = .ok (.aload 4, 2) := dk_25 4 (dk_at dksX1_step_3 4 rfl rfl)
theorem dX1_step_75 : decode cX1_step 75 = .ok (.invokevirtual 164, 3) := dk_182 0 164 (dk_at dksX1_step_3 6 rfl rfl)
theorem dX1_step_78 : decode cX1_step 78 = .ok (.invokevirtual 92, 3) := dk_182 0 92 (dk_at dksX1_step_3 9 rfl rfl)
theorem dX1_step_81 : decode cX1_step 81 = .ok (.pop, 1) := dk_87 (dk_at dksX1_step_3 12 rfl rfl)
theorem dX1_step_82 : decode cX1_step 82 = .ok (.return_, 1) := dk_177 (dk_at dksX1_step_3 13 rfl rfl)
theorem dX1_step_83 : decode cX1_step 83 = .ok (.aload_n 1, 1) := dk_43 (dk_at dksX1_step_3 14 rfl rfl)
theorem dX1_step_84 : decode cX1_step 84 = .ok (.invokestatic 236, 3) := dk_184 0 236 (dk_at dksX1_step_3 15 rfl rfl)
theorem dX1_step_87 : decode cX1_step 87 = .ok (.astore 5, 2) := dk_58 5 (dk_at dksX1_step_3 18 rfl rfl)
theorem dX1_step_89 : decode cX1_step 89 = .ok (.aload_n 1, 1) := dk_43 (dk_at dksX1_step_3 20 rfl rfl)
theorem dX1_step_90 : decode cX1_step 90 = .ok (.iload_n 3, 1) := dk_29 (dk_at dksX1_step_3 21 rfl rfl)
theorem dX1_step_91 : decode cX1_step 91 = .ok (.bipush 7, 2) := dk_16 7 (dk_at dksX1_step_3 22 rfl rfl)
theorem dX1_step_93 : decode cX1_step 93 = .ok (.if_icmp .ne 13, 3) := dk_160 0 13 (dk_at dksX1_step_4 0 rfl rfl)
theorem dX1_step_96 : decode cX1_step 96 = .ok (.aload 5, 2) := dk_25 5 (dk_at dksX1_step_4 3 rfl rfl)
theorem dX1_step_98 : decode cX1_step 98 = .ok (.aload 4, 2) := dk_25 4 (dk_at dksX1_step_4 5 rfl rfl)
theorem dX1_step_100 : decode cX1_step 100 = .ok (.invokevirtual 158, 3) := dk_182 0 158 (dk_at dksX1_step_4 7 rfl rfl)
theorem dX1_step_103 : decode cX1_step 103 = .ok (.goto 21, 3) := dk_167 0 21 (dk_at dksX1_step_4 10 rfl rfl)
theorem dX1_step_106 : decode cX1_step 106 = .ok (.aload 5, 2) := dk_25 5 (dk_at dksX1_step_4 13 rfl rfl)
theorem dX1_step_108 : decode cX1_step 108 = .ok (.aload 4, 2) := dk_25 4 (dk_at dksX1_step_4 15 rfl rfl)
theorem dX1_step_110 : decode cX1_step 110 = .ok (.iload_n 3, 1) := dk_29 (dk_at dksX1_step_4 17 rfl rfl)
theorem dX1_step_111 : decode cX1_step 111 = .ok (.bipush 6, 2) := dk_16 6 (dk_at dksX1_step_4 18 rfl rfl)
theorem dX1_step_113 : decode cX1_step 113 = .ok (.if_icmp .ne 7, 3) := dk_160 0 7 (dk_at dksX1_step_4 20 rfl rfl)
theorem dX1_step_116 : decode cX1_step 116 = .ok (.iconst 1, 1) := dk_4 (dk_at dksX1_step_4 23 rfl rfl)
theorem dX1_step_117 : decode cX1_step 117 = .ok (.goto 4, 3) := dk_167 0 4 (dk_at dksX1_step_5 0 rfl rfl)
theorem dX1_step_120 : decode cX1_step 120 = .ok (.iconst (-1), 1) := dk_2 (dk_at dksX1_step_5 3 rfl rfl)
theorem dX1_step_121 : decode cX1_step 121 = .ok (.invokevirtual 150, 3) := dk_182 0 150 (dk_at dksX1_step_5 4 rfl rfl)
theorem dX1_step_124 : decode cX1_step 124 = .ok (.invokevirtual 92, 3) := dk_182 0 92 (dk_at dksX1_step_5 7 rfl rfl)
theorem dX1_step_127 : decode cX1_step 127 = .ok (.pop, 1) := dk_87 (dk_at dksX1_step_5 10 rfl rfl)
theorem dX1_step_128 : decode cX1_step 128 = .ok (.return_, 1) := dk_177 (dk_at dksX1_step_5 11 rfl rfl)
abbrev cX1_pop : ByteArray := prog_1_method_35_code
def yX1_pop : MethodName := ⟨RX1, "pop", "(Ljava/util/ArrayList;)LVersorhall$Element;"⟩
def dkwX1_pop_1 : List UInt8 := [182, 0, 233, 192, 0, 74, 176]
abbrev dktX1_pop_1 : List UInt8 := dkwX1_pop_1 ++ []
def dkwX1_pop_0 : List UInt8 := [42, 182, 0, 53, 154, 0, 7, 4, 167, 0, 4, 3, 184, 0, 49, 42, 42, 182, 0, 60, 4, 100]
abbrev dktX1_pop_0 : List UInt8 := dkwX1_pop_0 ++ dktX1_pop_1
theorem dksX1_pop_0 : cX1_pop.data.toList.drop 0 = dktX1_pop_0 := by decide +kernel
theorem dksX1_pop_1 : cX1_pop.data.toList.drop 22 = dktX1_pop_1 := dk_seg dksX1_pop_0 22 rfl rfl
theorem dX1_pop_0 : decode cX1_pop 0 = .ok (.aload_n 0, 1) := dk_42 (dk_at dksX1_pop_0 0 rfl rfl)
theorem dX1_pop_1 : decode cX1_pop 1 = .ok (.invokevirtual 53, 3) := dk_182 0 53 (dk_at dksX1_pop_0 1 rfl rfl)
theorem dX1_pop_4 : decode cX1_pop 4 = .ok (.ifCond .ne 7, 3) := dk_154 0 7 (dk_at dksX1_pop_0 4 rfl rfl)
theorem dX1_pop_7 : decode cX1_pop 7 = .ok (.iconst 1, 1) := dk_4 (dk_at dksX1_pop_0 7 rfl rfl)
theorem dX1_pop_8 : decode cX1_pop 8 = .ok (.goto 4, 3) := dk_167 0 4 (dk_at dksX1_pop_0 8 rfl rfl)
theorem dX1_pop_11 : decode cX1_pop 11 = .ok (.iconst 0, 1) := dk_3 (dk_at dksX1_pop_0 11 rfl rfl)
theorem dX1_pop_12 : decode cX1_pop 12 = .ok (.invokestatic 49, 3) := dk_184 0 49 (dk_at dksX1_pop_0 12 rfl rfl)
theorem dX1_pop_15 : decode cX1_pop 15 = .ok (.aload_n 0, 1) := dk_42 (dk_at dksX1_pop_0 15 rfl rfl)
theorem dX1_pop_16 : decode cX1_pop 16 = .ok (.aload_n 0, 1) := dk_42 (dk_at dksX1_pop_0 16 rfl rfl)
theorem dX1_pop_17 : decode cX1_pop 17 = .ok (.invokevirtual 60, 3) := dk_182 0 60 (dk_at dksX1_pop_0 17 rfl rfl)
theorem dX1_pop_20 : decode cX1_pop 20 = .ok (.iconst 1, 1) := dk_4 (dk_at dksX1_pop_0 20 rfl rfl)
theorem dX1_pop_21 : decode cX1_pop 21 = .ok (.isub, 1) := dk_100 (dk_at dksX1_pop_0 21 rfl rfl)
theorem dX1_pop_22 : decode cX1_pop 22 = .ok (.invokevirtual 233, 3) := dk_182 0 233 (dk_at dksX1_pop_1 0 rfl rfl)
theorem dX1_pop_25 : decode cX1_pop 25 = .ok (.checkcast 74, 3) := dk_192 0 74 (dk_at dksX1_pop_1 3 rfl rfl)
theorem dX1_pop_28 : decode cX1_pop 28 = .ok (.areturn, 1) := dk_176 (dk_at dksX1_pop_1 6 rfl rfl)
abbrev cX1_at : ByteArray := prog_1_method_37_code
def yX1_at : MethodName := ⟨RX1, "at", "(II)I"⟩
def dkwX1_at_0 : List UInt8 := [42, 27, 182, 0, 137, 78, 28, 45, 180, 0, 141, 190, 184, 0, 64, 45, 180, 0, 141, 28, 46, 172]
abbrev dktX1_at_0 : List UInt8 := dkwX1_at_0 ++ []
theorem dksX1_at_0 : cX1_at.data.toList.drop 0 = dktX1_at_0 := by decide +kernel
theorem dX1_at_0 : decode cX1_at 0 = .ok (.aload_n 0, 1) := dk_42 (dk_at dksX1_at_0 0 rfl rfl)
theorem dX1_at_1 : decode cX1_at 1 = .ok (.iload_n 1, 1) := dk_27 (dk_at dksX1_at_0 1 rfl rfl)
theorem dX1_at_2 : decode cX1_at 2 = .ok (.invokevirtual 137, 3) := dk_182 0 137 (dk_at dksX1_at_0 2 rfl rfl)
theorem dX1_at_5 : decode cX1_at 5 = .ok (.astore_n 3, 1) := dk_78 (dk_at dksX1_at_0 5 rfl rfl)
theorem dX1_at_6 : decode cX1_at 6 = .ok (.iload_n 2, 1) := dk_28 (dk_at dksX1_at_0 6 rfl rfl)
theorem dX1_at_7 : decode cX1_at 7 = .ok (.aload_n 3, 1) := dk_45 (dk_at dksX1_at_0 7 rfl rfl)
theorem dX1_at_8 : decode cX1_at 8 = .ok (.getfield 141, 3) := dk_180 0 141 (dk_at dksX1_at_0 8 rfl rfl)
theorem dX1_at_11 : decode cX1_at 11 = .ok (.arraylength, 1) := dk_190 (dk_at dksX1_at_0 11 rfl rfl)
theorem dX1_at_12 : decode cX1_at 12 = .ok (.invokestatic 64, 3) := dk_184 0 64 (dk_at dksX1_at_0 12 rfl rfl)
theorem dX1_at_15 : decode cX1_at 15 = .ok (.aload_n 3, 1) := dk_45 (dk_at dksX1_at_0 15 rfl rfl)
theorem dX1_at_16 : decode cX1_at 16 = .ok (.getfield 141, 3) := dk_180 0 141 (dk_at dksX1_at_0 16 rfl rfl)
theorem dX1_at_19 : decode cX1_at 19 = .ok (.iload_n 2, 1) := dk_28 (dk_at dksX1_at_0 19 rfl rfl)
theorem dX1_at_20 : decode cX1_at 20 = .ok (.iaload, 1) := dk_46 (dk_at dksX1_at_0 20 rfl rfl)
theorem dX1_at_21 : decode cX1_at 21 = .ok (.ireturn, 1) := dk_172 (dk_at dksX1_at_0 21 rfl rfl)
abbrev cX1_ofElement : ByteArray := prog_1_method_39_code
def yX1_ofElement : MethodName := ⟨RX1, "ofElement", "(II)I"⟩
def dkwX1_ofElement_0 : List UInt8 := [42, 27, 182, 0, 137, 87, 3, 16, 9, 28, 184, 0, 76, 184, 0, 49, 42, 27, 28, 182, 1, 6, 172]
abbrev dktX1_ofElement_0 : List UInt8 := dkwX1_ofElement_0 ++ []
theorem dksX1_ofElement_0 : cX1_ofElement.data.toList.drop 0 = dktX1_ofElement_0 := by decide +kernel
theorem dX1_ofElement_0 : decode cX1_ofElement 0 = .ok (.aload_n 0, 1) := dk_42 (dk_at dksX1_ofElement_0 0 rfl rfl)
theorem dX1_ofElement_1 : decode cX1_ofElement 1 = .ok (.iload_n 1, 1) := dk_27 (dk_at dksX1_ofElement_0 1 rfl rfl)
theorem dX1_ofElement_2 : decode cX1_ofElement 2 = .ok (.invokevirtual 137, 3) := dk_182 0 137 (dk_at dksX1_ofElement_0 2 rfl rfl)
theorem dX1_ofElement_5 : decode cX1_ofElement 5 = .ok (.pop, 1) := dk_87 (dk_at dksX1_ofElement_0 5 rfl rfl)
theorem dX1_ofElement_6 : decode cX1_ofElement 6 = .ok (.iconst 0, 1) := dk_3 (dk_at dksX1_ofElement_0 6 rfl rfl)
theorem dX1_ofElement_7 : decode cX1_ofElement 7 = .ok (.bipush 9, 2) := dk_16 9 (dk_at dksX1_ofElement_0 7 rfl rfl)
theorem dX1_ofElement_9 : decode cX1_ofElement 9 = .ok (.iload_n 2, 1) := dk_28 (dk_at dksX1_ofElement_0 9 rfl rfl)
theorem dX1_ofElement_10 : decode cX1_ofElement 10 = .ok (.invokestatic 76, 3) := dk_184 0 76 (dk_at dksX1_ofElement_0 10 rfl rfl)
theorem dX1_ofElement_13 : decode cX1_ofElement 13 = .ok (.invokestatic 49, 3) := dk_184 0 49 (dk_at dksX1_ofElement_0 13 rfl rfl)
theorem dX1_ofElement_16 : decode cX1_ofElement 16 = .ok (.aload_n 0, 1) := dk_42 (dk_at dksX1_ofElement_0 16 rfl rfl)
theorem dX1_ofElement_17 : decode cX1_ofElement 17 = .ok (.iload_n 1, 1) := dk_27 (dk_at dksX1_ofElement_0 17 rfl rfl)
theorem dX1_ofElement_18 : decode cX1_ofElement 18 = .ok (.iload_n 2, 1) := dk_28 (dk_at dksX1_ofElement_0 18 rfl rfl)
theorem dX1_ofElement_19 : decode cX1_ofElement 19 = .ok (.invokevirtual 262, 3) := dk_182 1 6 (dk_at dksX1_ofElement_0 19 rfl rfl)
theorem dX1_ofElement_22 : decode cX1_ofElement 22 = .ok (.ireturn, 1) := dk_172 (dk_at dksX1_ofElement_0 22 rfl rfl)
abbrev cX1_text : ByteArray := prog_1_method_40_code
def yX1_text : MethodName := ⟨RX1, "text", "(I)Ljava/lang/String;"⟩
def dkwX1_text_0 : List UInt8 := [42, 27, 182, 0, 137, 182, 1, 9, 176]
abbrev dktX1_text_0 : List UInt8 := dkwX1_text_0 ++ []
theorem dksX1_text_0 : cX1_text.data.toList.drop 0 = dktX1_text_0 := by decide +kernel
theorem dX1_text_0 : decode cX1_text 0 = .ok (.aload_n 0, 1) := dk_42 (dk_at dksX1_text_0 0 rfl rfl)
theorem dX1_text_1 : decode cX1_text 1 = .ok (.iload_n 1, 1) := dk_27 (dk_at dksX1_text_0 1 rfl rfl)
theorem dX1_text_2 : decode cX1_text 2 = .ok (.invokevirtual 137, 3) := dk_182 0 137 (dk_at dksX1_text_0 2 rfl rfl)
theorem dX1_text_5 : decode cX1_text 5 = .ok (.invokevirtual 265, 3) := dk_182 1 9 (dk_at dksX1_text_0 5 rfl rfl)
theorem dX1_text_8 : decode cX1_text 8 = .ok (.areturn, 1) := dk_176 (dk_at dksX1_text_0 8 rfl rfl)
abbrev cX1_ofAlgebra : ByteArray := prog_1_method_42_code
def yX1_ofAlgebra : MethodName := ⟨RX1, "ofAlgebra", "(II)I"⟩
def dkwX1_ofAlgebra_0 : List UInt8 := [42, 27, 182, 0, 113, 87, 3, 8, 28, 184, 0, 76, 184, 0, 49, 42, 27, 28, 182, 1, 22, 172]
abbrev dktX1_ofAlgebra_0 : List UInt8 := dkwX1_ofAlgebra_0 ++ []
theorem dksX1_ofAlgebra_0 : cX1_ofAlgebra.data.toList.drop 0 = dktX1_ofAlgebra_0 := by decide +kernel
theorem dX1_ofAlgebra_0 : decode cX1_ofAlgebra 0 = .ok (.aload_n 0, 1) := dk_42 (dk_at dksX1_ofAlgebra_0 0 rfl rfl)
theorem dX1_ofAlgebra_1 : decode cX1_ofAlgebra 1 = .ok (.iload_n 1, 1) := dk_27 (dk_at dksX1_ofAlgebra_0 1 rfl rfl)
theorem dX1_ofAlgebra_2 : decode cX1_ofAlgebra 2 = .ok (.invokevirtual 113, 3) := dk_182 0 113 (dk_at dksX1_ofAlgebra_0 2 rfl rfl)
theorem dX1_ofAlgebra_5 : decode cX1_ofAlgebra 5 = .ok (.pop, 1) := dk_87 (dk_at dksX1_ofAlgebra_0 5 rfl rfl)
theorem dX1_ofAlgebra_6 : decode cX1_ofAlgebra 6 = .ok (.iconst 0, 1) := dk_3 (dk_at dksX1_ofAlgebra_0 6 rfl rfl)
theorem dX1_ofAlgebra_7 : decode cX1_ofAlgebra 7 = .ok (.iconst 5, 1) := dk_8 (dk_at dksX1_ofAlgebra_0 7 rfl rfl)
theorem dX1_ofAlgebra_8 : decode cX1_ofAlgebra 8 = .ok (.iload_n 2, 1) := dk_28 (dk_at dksX1_ofAlgebra_0 8 rfl rfl)
theorem dX1_ofAlgebra_9 : decode cX1_ofAlgebra 9 = .ok (.invokestatic 76, 3) := dk_184 0 76 (dk_at dksX1_ofAlgebra_0 9 rfl rfl)
theorem dX1_ofAlgebra_12 : decode cX1_ofAlgebra 12 = .ok (.invokestatic 49, 3) := dk_184 0 49 (dk_at dksX1_ofAlgebra_0 12 rfl rfl)
theorem dX1_ofAlgebra_15 : decode cX1_ofAlgebra 15 = .ok (.aload_n 0, 1) := dk_42 (dk_at dksX1_ofAlgebra_0 15 rfl rfl)
theorem dX1_ofAlgebra_16 : decode cX1_ofAlgebra 16 = .ok (.iload_n 1, 1) := dk_27 (dk_at dksX1_ofAlgebra_0 16 rfl rfl)
theorem dX1_ofAlgebra_17 : decode cX1_ofAlgebra 17 = .ok (.iload_n 2, 1) := dk_28 (dk_at dksX1_ofAlgebra_0 17 rfl rfl)
theorem dX1_ofAlgebra_18 : decode cX1_ofAlgebra 18 = .ok (.invokevirtual 278, 3) := dk_182 1 22 (dk_at dksX1_ofAlgebra_0 18 rfl rfl)
theorem dX1_ofAlgebra_21 : decode cX1_ofAlgebra 21 = .ok (.ireturn, 1) := dk_172 (dk_at dksX1_ofAlgebra_0 21 rfl rfl)
abbrev cX1_sign : ByteArray := prog_1_method_43_code
def yX1_sign : MethodName := ⟨RX1, "sign", "(III)I"⟩
def dkwX1_sign_1 : List UInt8 := [184, 0, 64, 25, 4, 180, 1, 25, 28, 50, 29, 46, 172]
abbrev dktX1_sign_1 : List UInt8 := dkwX1_sign_1 ++ []
def dkwX1_sign_0 : List UInt8 := [42, 27, 182, 0, 113, 58, 4, 28, 25, 4, 182, 0, 131, 184, 0, 64, 29, 25, 4, 182, 0, 131]
abbrev dktX1_sign_0 : List UInt8 := dkwX1_sign_0 ++ dktX1_sign_1
theorem dksX1_sign_0 : cX1_sign.data.toList.drop 0 = dktX1_sign_0 := by decide +kernel
theorem dksX1_sign_1 : cX1_sign.data.toList.drop 22 = dktX1_sign_1 := dk_seg dksX1_sign_0 22 rfl rfl
theorem dX1_sign_0 : decode cX1_sign 0 = .ok (.aload_n 0, 1) := dk_42 (dk_at dksX1_sign_0 0 rfl rfl)
theorem dX1_sign_1 : decode cX1_sign 1 = .ok (.iload_n 1, 1) := dk_27 (dk_at dksX1_sign_0 1 rfl rfl)
theorem dX1_sign_2 : decode cX1_sign 2 = .ok (.invokevirtual 113, 3) := dk_182 0 113 (dk_at dksX1_sign_0 2 rfl rfl)
theorem dX1_sign_5 : decode cX1_sign 5 = .ok (.astore 4, 2) := dk_58 4 (dk_at dksX1_sign_0 5 rfl rfl)
theorem dX1_sign_7 : decode cX1_sign 7 = .ok (.iload_n 2, 1) := dk_28 (dk_at dksX1_sign_0 7 rfl rfl)
theorem dX1_sign_8 : decode cX1_sign 8 = .ok (.aload 4, 2) := dk_25 4 (dk_at dksX1_sign_0 8 rfl rfl)
theorem dX1_sign_10 : decode cX1_sign 10 = .ok (.invokevirtual 131, 3) := dk_182 0 131 (dk_at dksX1_sign_0 10 rfl rfl)
theorem dX1_sign_13 : decode cX1_sign 13 = .ok (.invokestatic 64, 3) := dk_184 0 64 (dk_at dksX1_sign_0 13 rfl rfl)
theorem dX1_sign_16 : decode cX1_sign 16 = .ok (.iload_n 3, 1) := dk_29 (dk_at dksX1_sign_0 16 rfl rfl)
theorem dX1_sign_17 : decode cX1_sign 17 = .ok (.aload 4, 2) := dk_25 4 (dk_at dksX1_sign_0 17 rfl rfl)
theorem dX1_sign_19 : decode cX1_sign 19 = .ok (.invokevirtual 131, 3) := dk_182 0 131 (dk_at dksX1_sign_0 19 rfl rfl)
theorem dX1_sign_22 : decode cX1_sign 22 = .ok (.invokestatic 64, 3) := dk_184 0 64 (dk_at dksX1_sign_1 0 rfl rfl)
theorem dX1_sign_25 : decode cX1_sign 25 = .ok (.aload 4, 2) := dk_25 4 (dk_at dksX1_sign_1 3 rfl rfl)
theorem dX1_sign_27 : decode cX1_sign 27 = .ok (.getfield 281, 3) := dk_180 1 25 (dk_at dksX1_sign_1 5 rfl rfl)
theorem dX1_sign_30 : decode cX1_sign 30 = .ok (.iload_n 2, 1) := dk_28 (dk_at dksX1_sign_1 8 rfl rfl)
theorem dX1_sign_31 : decode cX1_sign 31 = .ok (.aaload, 1) := dk_50 (dk_at dksX1_sign_1 9 rfl rfl)
theorem dX1_sign_32 : decode cX1_sign 32 = .ok (.iload_n 3, 1) := dk_29 (dk_at dksX1_sign_1 10 rfl rfl)
theorem dX1_sign_33 : decode cX1_sign 33 = .ok (.iaload, 1) := dk_46 (dk_at dksX1_sign_1 11 rfl rfl)
theorem dX1_sign_34 : decode cX1_sign 34 = .ok (.ireturn, 1) := dk_172 (dk_at dksX1_sign_1 12 rfl rfl)
abbrev cX1_breaks : ByteArray := prog_1_method_44_code
def yX1_breaks : MethodName := ⟨RX1, "breaks", "(II)I"⟩
def dkwX1_breaks_0 : List UInt8 := [42, 27, 182, 0, 113, 78, 28, 7, 184, 0, 64, 45, 28, 182, 1, 29, 172]
abbrev dktX1_breaks_0 : List UInt8 := dkwX1_breaks_0 ++ []
theorem dksX1_breaks_0 : cX1_breaks.data.toList.drop 0 = dktX1_breaks_0 := by decide +kernel
theorem dX1_breaks_0 : decode cX1_breaks 0 = .ok (.aload_n 0, 1) := dk_42 (dk_at dksX1_breaks_0 0 rfl rfl)
theorem dX1_breaks_1 : decode cX1_breaks 1 = .ok (.iload_n 1, 1) := dk_27 (dk_at dksX1_breaks_0 1 rfl rfl)
theorem dX1_breaks_2 : decode cX1_breaks 2 = .ok (.invokevirtual 113, 3) := dk_182 0 113 (dk_at dksX1_breaks_0 2 rfl rfl)
theorem dX1_breaks_5 : decode cX1_breaks 5 = .ok (.astore_n 3, 1) := dk_78 (dk_at dksX1_breaks_0 5 rfl rfl)
theorem dX1_breaks_6 : decode cX1_breaks 6 = .ok (.iload_n 2, 1) := dk_28 (dk_at dksX1_breaks_0 6 rfl rfl)
theorem dX1_breaks_7 : decode cX1_breaks 7 = .ok (.iconst 4, 1) := dk_7 (dk_at dksX1_breaks_0 7 rfl rfl)
theorem dX1_breaks_8 : decode cX1_breaks 8 = .ok (.invokestatic 64, 3) := dk_184 0 64 (dk_at dksX1_breaks_0 8 rfl rfl)
theorem dX1_breaks_11 : decode cX1_breaks 11 = .ok (.aload_n 3, 1) := dk_45 (dk_at dksX1_breaks_0 11 rfl rfl)
theorem dX1_breaks_12 : decode cX1_breaks 12 = .ok (.iload_n 2, 1) := dk_28 (dk_at dksX1_breaks_0 12 rfl rfl)
theorem dX1_breaks_13 : decode cX1_breaks 13 = .ok (.invokevirtual 285, 3) := dk_182 1 29 (dk_at dksX1_breaks_0 13 rfl rfl)
theorem dX1_breaks_16 : decode cX1_breaks 16 = .ok (.ireturn, 1) := dk_172 (dk_at dksX1_breaks_0 16 rfl rfl)
abbrev cX1_lean : ByteArray := prog_1_method_46_code
def yX1_lean : MethodName := ⟨RX1, "lean", "(I)D"⟩
def dkwX1_lean_0 : List UInt8 := [42, 27, 182, 0, 137, 182, 1, 32, 141, 175]
abbrev dktX1_lean_0 : List UInt8 := dkwX1_lean_0 ++ []
theorem dksX1_lean_0 : cX1_lean.data.toList.drop 0 = dktX1_lean_0 := by decide +kernel
theorem dX1_lean_0 : decode cX1_lean 0 = .ok (.aload_n 0, 1) := dk_42 (dk_at dksX1_lean_0 0 rfl rfl)
theorem dX1_lean_1 : decode cX1_lean 1 = .ok (.iload_n 1, 1) := dk_27 (dk_at dksX1_lean_0 1 rfl rfl)
theorem dX1_lean_2 : decode cX1_lean 2 = .ok (.invokevirtual 137, 3) := dk_182 0 137 (dk_at dksX1_lean_0 2 rfl rfl)
theorem dX1_lean_5 : decode cX1_lean 5 = .ok (.invokevirtual 288, 3) := dk_182 1 32 (dk_at dksX1_lean_0 5 rfl rfl)
theorem dX1_lean_8 : decode cX1_lean 8 = .ok (.f2d, 1) := dk_141 (dk_at dksX1_lean_0 8 rfl rfl)
theorem dX1_lean_9 : decode cX1_lean 9 = .ok (.dreturn, 1) := dk_175 (dk_at dksX1_lean_0 9 rfl rfl)
abbrev cX1_many : ByteArray := prog_1_method_52_code
def yX1_many : MethodName := ⟨RX1, "many", "(I)I"⟩
def dkwX1_many_0 : List UInt8 := [3, 16, 7, 27, 184, 0, 76, 184, 0, 49, 42, 27, 182, 1, 49, 172]
abbrev dktX1_many_0 : List UInt8 := dkwX1_many_0 ++ []
theorem dksX1_many_0 : cX1_many.data.toList.drop 0 = dktX1_many_0 := by decide +kernel
theorem dX1_many_0 : decode cX1_many 0 = .ok (.iconst 0, 1) := dk_3 (dk_at dksX1_many_0 0 rfl rfl)
theorem dX1_many_1 : decode cX1_many 1 = .ok (.bipush 7, 2) := dk_16 7 (dk_at dksX1_many_0 1 rfl rfl)
theorem dX1_many_3 : decode cX1_many 3 = .ok (.iload_n 1, 1) := dk_27 (dk_at dksX1_many_0 3 rfl rfl)
theorem dX1_many_4 : decode cX1_many 4 = .ok (.invokestatic 76, 3) := dk_184 0 76 (dk_at dksX1_many_0 4 rfl rfl)
theorem dX1_many_7 : decode cX1_many 7 = .ok (.invokestatic 49, 3) := dk_184 0 49 (dk_at dksX1_many_0 7 rfl rfl)
theorem dX1_many_10 : decode cX1_many 10 = .ok (.aload_n 0, 1) := dk_42 (dk_at dksX1_many_0 10 rfl rfl)
theorem dX1_many_11 : decode cX1_many 11 = .ok (.iload_n 1, 1) := dk_27 (dk_at dksX1_many_0 11 rfl rfl)
theorem dX1_many_12 : decode cX1_many 12 = .ok (.invokevirtual 305, 3) := dk_182 1 49 (dk_at dksX1_many_0 12 rfl rfl)
theorem dX1_many_15 : decode cX1_many 15 = .ok (.ireturn, 1) := dk_172 (dk_at dksX1_many_0 15 rfl rfl)
abbrev cX1_apart : ByteArray := prog_1_method_53_code
def yX1_apart : MethodName := ⟨RX1, "apart", "(II)I"⟩
def dkwX1_apart_1 : List UInt8 := [182, 0, 158, 25, 4, 45, 182, 0, 158, 2, 182, 0, 150, 182, 0, 145, 172]
abbrev dktX1_apart_1 : List UInt8 := dkwX1_apart_1 ++ []
def dkwX1_apart_0 : List UInt8 := [42, 27, 182, 0, 137, 78, 42, 28, 182, 0, 137, 58, 4, 42, 45, 25, 4, 182, 0, 146, 45, 25, 4]
abbrev dktX1_apart_0 : List UInt8 := dkwX1_apart_0 ++ dktX1_apart_1
theorem dksX1_apart_0 : cX1_apart.data.toList.drop 0 = dktX1_apart_0 := by decide +kernel
theorem dksX1_apart_1 : cX1_apart.data.toList.drop 23 = dktX1_apart_1 := dk_seg dksX1_apart_0 23 rfl rfl
theorem dX1_apart_0 : decode cX1_apart 0 = .ok (.aload_n 0, 1) := dk_42 (dk_at dksX1_apart_0 0 rfl rfl)
theorem dX1_apart_1 : decode cX1_apart 1 = .ok (.iload_n 1, 1) := dk_27 (dk_at dksX1_apart_0 1 rfl rfl)
theorem dX1_apart_2 : decode cX1_apart 2 = .ok (.invokevirtual 137, 3) := dk_182 0 137 (dk_at dksX1_apart_0 2 rfl rfl)
theorem dX1_apart_5 : decode cX1_apart 5 = .ok (.astore_n 3, 1) := dk_78 (dk_at dksX1_apart_0 5 rfl rfl)
theorem dX1_apart_6 : decode cX1_apart 6 = .ok (.aload_n 0, 1) := dk_42 (dk_at dksX1_apart_0 6 rfl rfl)
theorem dX1_apart_7 : decode cX1_apart 7 = .ok (.iload_n 2, 1) := dk_28 (dk_at dksX1_apart_0 7 rfl rfl)
theorem dX1_apart_8 : decode cX1_apart 8 = .ok (.invokevirtual 137, 3) := dk_182 0 137 (dk_at dksX1_apart_0 8 rfl rfl)
theorem dX1_apart_11 : decode cX1_apart 11 = .ok (.astore 4, 2) := dk_58 4 (dk_at dksX1_apart_0 11 rfl rfl)
theorem dX1_apart_13 : decode cX1_apart 13 = .ok (.aload_n 0, 1) := dk_42 (dk_at dksX1_apart_0 13 rfl rfl)
theorem dX1_apart_14 : decode cX1_apart 14 = .ok (.aload_n 3, 1) := dk_45 (dk_at dksX1_apart_0 14 rfl rfl)
theorem dX1_apart_15 : decode cX1_apart 15 = .ok (.aload 4, 2) := dk_25 4 (dk_at dksX1_apart_0 15 rfl rfl)
theorem dX1_apart_17 : decode cX1_apart 17 = .ok (.invokevirtual 146, 3) := dk_182 0 146 (dk_at dksX1_apart_0 17 rfl rfl)
theorem dX1_apart_20 : decode cX1_apart 20 = .ok (.aload_n 3, 1) := dk_45 (dk_at dksX1_apart_0 20 rfl rfl)
theorem dX1_apart_21 : decode cX1_apart 21 = .ok (.aload 4, 2) := dk_25 4 (dk_at dksX1_apart_0 21 rfl rfl)
theorem dX1_apart_23 : decode cX1_apart 23 = .ok (.invokevirtual 158, 3) := dk_182 0 158 (dk_at dksX1_apart_1 0 rfl rfl)
theorem dX1_apart_26 : decode cX1_apart 26 = .ok (.aload 4, 2) := dk_25 4 (dk_at dksX1_apart_1 3 rfl rfl)
theorem dX1_apart_28 : decode cX1_apart 28 = .ok (.aload_n 3, 1) := dk_45 (dk_at dksX1_apart_1 5 rfl rfl)
theorem dX1_apart_29 : decode cX1_apart 29 = .ok (.invokevirtual 158, 3) := dk_182 0 158 (dk_at dksX1_apart_1 6 rfl rfl)
theorem dX1_apart_32 : decode cX1_apart 32 = .ok (.iconst (-1), 1) := dk_2 (dk_at dksX1_apart_1 9 rfl rfl)
theorem dX1_apart_33 : decode cX1_apart 33 = .ok (.invokevirtual 150, 3) := dk_182 0 150 (dk_at dksX1_apart_1 10 rfl rfl)
theorem dX1_apart_36 : decode cX1_apart 36 = .ok (.invokevirtual 145, 3) := dk_182 0 145 (dk_at dksX1_apart_1 13 rfl rfl)
theorem dX1_apart_39 : decode cX1_apart 39 = .ok (.ireturn, 1) := dk_172 (dk_at dksX1_apart_1 16 rfl rfl)
abbrev cX1_row : ByteArray := prog_1_method_54_code
def yX1_row : MethodName := ⟨RX1, "row", "(II)I"⟩
def dkwX1_row_0 : List UInt8 := [42, 27, 182, 0, 113, 78, 42, 28, 182, 0, 117, 184, 0, 49, 45, 28, 182, 1, 52, 172]
abbrev dktX1_row_0 : List UInt8 := dkwX1_row_0 ++ []
theorem dksX1_row_0 : cX1_row.data.toList.drop 0 = dktX1_row_0 := by decide +kernel
theorem dX1_row_0 : decode cX1_row 0 = .ok (.aload_n 0, 1) := dk_42 (dk_at dksX1_row_0 0 rfl rfl)
theorem dX1_row_1 : decode cX1_row 1 = .ok (.iload_n 1, 1) := dk_27 (dk_at dksX1_row_0 1 rfl rfl)
theorem dX1_row_2 : decode cX1_row 2 = .ok (.invokevirtual 113, 3) := dk_182 0 113 (dk_at dksX1_row_0 2 rfl rfl)
theorem dX1_row_5 : decode cX1_row 5 = .ok (.astore_n 3, 1) := dk_78 (dk_at dksX1_row_0 5 rfl rfl)
theorem dX1_row_6 : decode cX1_row 6 = .ok (.aload_n 0, 1) := dk_42 (dk_at dksX1_row_0 6 rfl rfl)
theorem dX1_row_7 : decode cX1_row 7 = .ok (.iload_n 2, 1) := dk_28 (dk_at dksX1_row_0 7 rfl rfl)
theorem dX1_row_8 : decode cX1_row 8 = .ok (.invokevirtual 117, 3) := dk_182 0 117 (dk_at dksX1_row_0 8 rfl rfl)
theorem dX1_row_11 : decode cX1_row 11 = .ok (.invokestatic 49, 3) := dk_184 0 49 (dk_at dksX1_row_0 11 rfl rfl)
theorem dX1_row_14 : decode cX1_row 14 = .ok (.aload_n 3, 1) := dk_45 (dk_at dksX1_row_0 14 rfl rfl)
theorem dX1_row_15 : decode cX1_row 15 = .ok (.iload_n 2, 1) := dk_28 (dk_at dksX1_row_0 15 rfl rfl)
theorem dX1_row_16 : decode cX1_row 16 = .ok (.invokevirtual 308, 3) := dk_182 1 52 (dk_at dksX1_row_0 16 rfl rfl)
theorem dX1_row_19 : decode cX1_row 19 = .ok (.ireturn, 1) := dk_172 (dk_at dksX1_row_0 19 rfl rfl)
abbrev cX1_match : ByteArray := prog_1_method_58_code
def yX1_match : MethodName := ⟨RX1, "match", "(II)I"⟩
def dkwX1_match_0 : List UInt8 := [42, 42, 27, 182, 0, 113, 42, 28, 182, 0, 113, 182, 1, 67, 172]
abbrev dktX1_match_0 : List UInt8 := dkwX1_match_0 ++ []
theorem dksX1_match_0 : cX1_match.data.toList.drop 0 = dktX1_match_0 := by decide +kernel
theorem dX1_match_0 : decode cX1_match 0 = .ok (.aload_n 0, 1) := dk_42 (dk_at dksX1_match_0 0 rfl rfl)
theorem dX1_match_1 : decode cX1_match 1 = .ok (.aload_n 0, 1) := dk_42 (dk_at dksX1_match_0 1 rfl rfl)
theorem dX1_match_2 : decode cX1_match 2 = .ok (.iload_n 1, 1) := dk_27 (dk_at dksX1_match_0 2 rfl rfl)
theorem dX1_match_3 : decode cX1_match 3 = .ok (.invokevirtual 113, 3) := dk_182 0 113 (dk_at dksX1_match_0 3 rfl rfl)
theorem dX1_match_6 : decode cX1_match 6 = .ok (.aload_n 0, 1) := dk_42 (dk_at dksX1_match_0 6 rfl rfl)
theorem dX1_match_7 : decode cX1_match 7 = .ok (.iload_n 2, 1) := dk_28 (dk_at dksX1_match_0 7 rfl rfl)
theorem dX1_match_8 : decode cX1_match 8 = .ok (.invokevirtual 113, 3) := dk_182 0 113 (dk_at dksX1_match_0 8 rfl rfl)
theorem dX1_match_11 : decode cX1_match 11 = .ok (.invokevirtual 323, 3) := dk_182 1 67 (dk_at dksX1_match_0 11 rfl rfl)
theorem dX1_match_14 : decode cX1_match 14 = .ok (.ireturn, 1) := dk_172 (dk_at dksX1_match_0 14 rfl rfl)
abbrev cX1_scaleOf : ByteArray := prog_1_method_59_code
def yX1_scaleOf : MethodName := ⟨RX1, "scaleOf", "(III)I"⟩
def dkwX1_scaleOf_5 : List UInt8 := [182, 1, 60, 172]
abbrev dktX1_scaleOf_5 : List UInt8 := dkwX1_scaleOf_5 ++ []
def dkwX1_scaleOf_4 : List UInt8 := [182, 1, 57, 25, 5, 180, 0, 121, 21, 6, 16, 10, 112, 182, 0, 68, 192, 1, 55, 182, 1, 57]
abbrev dktX1_scaleOf_4 : List UInt8 := dkwX1_scaleOf_4 ++ dktX1_scaleOf_5
def dkwX1_scaleOf_3 : List UInt8 := [108, 54, 6, 132, 7, 255, 167, 255, 240, 42, 25, 4, 180, 0, 121, 29, 182, 0, 68, 192, 1, 55]
abbrev dktX1_scaleOf_3 : List UInt8 := dkwX1_scaleOf_3 ++ dktX1_scaleOf_4
def dkwX1_scaleOf_2 : List UInt8 := [2, 172, 25, 4, 180, 0, 121, 182, 0, 60, 4, 100, 54, 7, 21, 7, 29, 164, 0, 16, 21, 6, 16, 10]
abbrev dktX1_scaleOf_2 : List UInt8 := dkwX1_scaleOf_2 ++ dktX1_scaleOf_3
def dkwX1_scaleOf_1 : List UInt8 := [21, 6, 2, 159, 0, 21, 3, 25, 4, 180, 0, 121, 182, 0, 60, 4, 100, 29, 184, 0, 76, 154, 0, 5]
abbrev dktX1_scaleOf_1 : List UInt8 := dkwX1_scaleOf_1 ++ dktX1_scaleOf_2
def dkwX1_scaleOf_0 : List UInt8 := [42, 27, 182, 0, 113, 58, 4, 42, 28, 182, 0, 113, 58, 5, 42, 25, 4, 25, 5, 182, 1, 67, 54, 6]
abbrev dktX1_scaleOf_0 : List UInt8 := dkwX1_scaleOf_0 ++ dktX1_scaleOf_1
theorem dksX1_scaleOf_0 : cX1_scaleOf.data.toList.drop 0 = dktX1_scaleOf_0 := by decide +kernel
theorem dksX1_scaleOf_1 : cX1_scaleOf.data.toList.drop 24 = dktX1_scaleOf_1 := dk_seg dksX1_scaleOf_0 24 rfl rfl
theorem dksX1_scaleOf_2 : cX1_scaleOf.data.toList.drop 48 = dktX1_scaleOf_2 := dk_seg dksX1_scaleOf_1 24 rfl rfl
theorem dksX1_scaleOf_3 : cX1_scaleOf.data.toList.drop 72 = dktX1_scaleOf_3 := dk_seg dksX1_scaleOf_2 24 rfl rfl
theorem dksX1_scaleOf_4 : cX1_scaleOf.data.toList.drop 94 = dktX1_scaleOf_4 := dk_seg dksX1_scaleOf_3 22 rfl rfl
theorem dksX1_scaleOf_5 : cX1_scaleOf.data.toList.drop 116 = dktX1_scaleOf_5 := dk_seg dksX1_scaleOf_4 22 rfl rfl
theorem dX1_scaleOf_0 : decode cX1_scaleOf 0 = .ok (.aload_n 0, 1) := dk_42 (dk_at dksX1_scaleOf_0 0 rfl rfl)
theorem dX1_scaleOf_1 : decode cX1_scaleOf 1 = .ok (.iload_n 1, 1) := dk_27 (dk_at dksX1_scaleOf_0 1 rfl rfl)
theorem dX1_scaleOf_2 : decode cX1_scaleOf 2 = .ok (.invokevirtual 113, 3) := dk_182 0 113 (dk_at dksX1_scaleOf_0 2 rfl rfl)
theorem dX1_scaleOf_5 : decode cX1_scaleOf 5 = .ok (.astore 4, 2) := dk_58 4 (dk_at dksX1_scaleOf_0 5 rfl rfl)
theorem dX1_scaleOf_7 : decode cX1_scaleOf 7 = .ok (.aload_n 0, 1) := dk_42 (dk_at dksX1_scaleOf_0 7 rfl rfl)
theorem dX1_scaleOf_8 : decode cX1_scaleOf 8 = .ok (.iload_n 2, 1) := dk_28 (dk_at dksX1_scaleOf_0 8 rfl rfl)
theorem dX1_scaleOf_9 : decode cX1_scaleOf 9 = .ok (.invokevirtual 113, 3) := dk_182 0 113 (dk_at dksX1_scaleOf_0 9 rfl rfl)
theorem dX1_scaleOf_12 : decode cX1_scaleOf 12 = .ok (.astore 5, 2) := dk_58 5 (dk_at dksX1_scaleOf_0 12 rfl rfl)
theorem dX1_scaleOf_14 : decode cX1_scaleOf 14 = .ok (.aload_n 0, 1) := dk_42 (dk_at dksX1_scaleOf_0 14 rfl rfl)
theorem dX1_scaleOf_15 : decode cX1_scaleOf 15 = .ok (.aload 4, 2) := dk_25 4 (dk_at dksX1_scaleOf_0 15 rfl rfl)
theorem dX1_scaleOf_17 : decode cX1_scaleOf 17 = .ok (.aload 5, 2) := dk_25 5 (dk_at dksX1_scaleOf_0 17 rfl rfl)
theorem dX1_scaleOf_19 : decode cX1_scaleOf 19 = .ok (.invokevirtual 323, 3) := dk_182 1 67 (dk_at dksX1_scaleOf_0 19 rfl rfl)
theorem dX1_scaleOf_22 : decode cX1_scaleOf 22 = .ok (.istore 6, 2) := dk_54 6 (dk_at dksX1_scaleOf_0 22 rfl rfl)
theorem dX1_scaleOf_24 : decode cX1_scaleOf 24 = .ok (.iload 6, 2) := dk_21 6 (dk_at dksX1_scaleOf_1 0 rfl rfl)
theorem dX1_scaleOf_26 : decode cX1_scaleOf 26 = .ok (.iconst (-1), 1) := dk_2 (dk_at dksX1_scaleOf_1 2 rfl rfl)
theorem dX1_scaleOf_27 : decode cX1_scaleOf 27 = .ok (.if_icmp .eq 21, 3) := dk_159 0 21 (dk_at dksX1_scaleOf_1 3 rfl rfl)
theorem dX1_scaleOf_30 : decode cX1_scaleOf 30 = .ok (.iconst 0, 1) := dk_3 (dk_at dksX1_scaleOf_1 6 rfl rfl)
theorem dX1_scaleOf_31 : decode cX1_scaleOf 31 = .ok (.aload 4, 2) := dk_25 4 (dk_at dksX1_scaleOf_1 7 rfl rfl)
theorem dX1_scaleOf_33 : decode cX1_scaleOf 33 = .ok (.getfield 121, 3) := dk_180 0 121 (dk_at dksX1_scaleOf_1 9 rfl rfl)
theorem dX1_scaleOf_36 : decode cX1_scaleOf 36 = .ok (.invokevirtual 60, 3) := dk_182 0 60 (dk_at dksX1_scaleOf_1 12 rfl rfl)
theorem dX1_scaleOf_39 : decode cX1_scaleOf 39 = .ok (.iconst 1, 1) := dk_4 (dk_at dksX1_scaleOf_1 15 rfl rfl)
theorem dX1_scaleOf_40 : decode cX1_scaleOf 40 = .ok (.isub, 1) := dk_100 (dk_at dksX1_scaleOf_1 16 rfl rfl)
theorem dX1_scaleOf_41 : decode cX1_scaleOf 41 = .ok (.iload_n 3, 1) := dk_29 (dk_at dksX1_scaleOf_1 17 rfl rfl)
theorem dX1_scaleOf_42 : decode cX1_scaleOf 42 = .ok (.invokestatic 76, 3) := dk_184 0 76 (dk_at dksX1_scaleOf_1 18 rfl rfl)
theorem dX1_scaleOf_45 : decode cX1_scaleOf 45 = .ok (.ifCond .ne 5, 3) := dk_154 0 5 (dk_at dksX1_scaleOf_1 21 rfl rfl)
theorem dX1_scaleOf_48 : decode cX1_scaleOf 48 = .ok (.iconst (-1), 1) := dk_2 (dk_at dksX1_scaleOf_2 0 rfl rfl)
theorem dX1_scaleOf_49 : decode cX1_scaleOf 49 = .ok (.ireturn, 1) := dk_172 (dk_at dksX1_scaleOf_2 1 rfl rfl)
theorem dX1_scaleOf_50 : decode cX1_scaleOf 50 = .ok (.aload 4, 2) := dk_25 4 (dk_at dksX1_scaleOf_2 2 rfl rfl)
theorem dX1_scaleOf_52 : decode cX1_scaleOf 52 = .ok (.getfield 121, 3) := dk_180 0 121 (dk_at dksX1_scaleOf_2 4 rfl rfl)
theorem dX1_scaleOf_55 : decode cX1_scaleOf 55 = .ok (.invokevirtual 60, 3) := dk_182 0 60 (dk_at dksX1_scaleOf_2 7 rfl rfl)
theorem dX1_scaleOf_58 : decode cX1_scaleOf 58 = .ok (.iconst 1, 1) := dk_4 (dk_at dksX1_scaleOf_2 10 rfl rfl)
theorem dX1_scaleOf_59 : decode cX1_scaleOf 59 = .ok (.isub, 1) := dk_100 (dk_at dksX1_scaleOf_2 11 rfl rfl)
theorem dX1_scaleOf_60 : decode cX1_scaleOf 60 = .ok (.istore 7, 2) := dk_54 7 (dk_at dksX1_scaleOf_2 12 rfl rfl)
theorem dX1_scaleOf_62 : decode cX1_scaleOf 62 = .ok (.iload 7, 2) := dk_21 7 (dk_at dksX1_scaleOf_2 14 rfl rfl)
theorem dX1_scaleOf_64 : decode cX1_scaleOf 64 = .ok (.iload_n 3, 1) := dk_29 (dk_at dksX1_scaleOf_2 16 rfl rfl)
theorem dX1_scaleOf_65 : decode cX1_scaleOf 65 = .ok (.if_icmp .le 16, 3) := dk_164 0 16 (dk_at dksX1_scaleOf_2 17 rfl rfl)
theorem dX1_scaleOf_68 : decode cX1_scaleOf 68 = .ok (.iload 6, 2) := dk_21 6 (dk_at dksX1_scaleOf_2 20 rfl rfl)
theorem dX1_scaleOf_70 : decode cX1_scaleOf 70 = .ok (.bipush 10, 2) := dk_16 10 (dk_at dksX1_scaleOf_2 22 rfl rfl)
theorem dX1_scaleOf_72 : decode cX1_scaleOf 72 = .ok (.idiv, 1) := dk_108 (dk_at dksX1_scaleOf_3 0 rfl rfl)
theorem dX1_scaleOf_73 : decode cX1_scaleOf 73 = .ok (.istore 6, 2) := dk_54 6 (dk_at dksX1_scaleOf_3 1 rfl rfl)
theorem dX1_scaleOf_75 : decode cX1_scaleOf 75 = .ok (.iinc 7 (-1), 3) := dk_132 7 255 (dk_at dksX1_scaleOf_3 3 rfl rfl)
theorem dX1_scaleOf_78 : decode cX1_scaleOf 78 = .ok (.goto (-16), 3) := dk_167 255 240 (dk_at dksX1_scaleOf_3 6 rfl rfl)
theorem dX1_scaleOf_81 : decode cX1_scaleOf 81 = .ok (.aload_n 0, 1) := dk_42 (dk_at dksX1_scaleOf_3 9 rfl rfl)
theorem dX1_scaleOf_82 : decode cX1_scaleOf 82 = .ok (.aload 4, 2) := dk_25 4 (dk_at dksX1_scaleOf_3 10 rfl rfl)
theorem dX1_scaleOf_84 : decode cX1_scaleOf 84 = .ok (.getfield 121, 3) := dk_180 0 121 (dk_at dksX1_scaleOf_3 12 rfl rfl)
theorem dX1_scaleOf_87 : decode cX1_scaleOf 87 = .ok (.iload_n 3, 1) := dk_29 (dk_at dksX1_scaleOf_3 15 rfl rfl)
theorem dX1_scaleOf_88 : decode cX1_scaleOf 88 = .ok (.invokevirtual 68, 3) := dk_182 0 68 (dk_at dksX1_scaleOf_3 16 rfl rfl)
theorem dX1_scaleOf_91 : decode cX1_scaleOf 91 = .ok (.checkcast 311, 3) := dk_192 1 55 (dk_at dksX1_scaleOf_3 19 rfl rfl)
theorem dX1_scaleOf_94 : decode cX1_scaleOf 94 = .ok (.invokevirtual 313, 3) := dk_182 1 57 (dk_at dksX1_scaleOf_4 0 rfl rfl)
theorem dX1_scaleOf_97 : decode cX1_scaleOf 97 = .ok (.aload 5, 2) := dk_25 5 (dk_at dksX1_scaleOf_4 3 rfl rfl)
theorem dX1_scaleOf_99 : decode cX1_scaleOf 99 = .ok (.getfield 121, 3) := dk_180 0 121 (dk_at dksX1_scaleOf_4 5 rfl rfl)
theorem dX1_scaleOf_102 : decode cX1_scaleOf 102 = .ok (.iload 6, 2) := dk_21 6 (dk_at dksX1_scaleOf_4 8 rfl rfl)
theorem dX1_scaleOf_104 : decode cX1_scaleOf 104 = .ok (.bipush 10, 2) := dk_16 10 (dk_at dksX1_scaleOf_4 10 rfl rfl)
theorem dX1_scaleOf_106 : decode cX1_scaleOf 106 = .ok (.irem, 1) := dk_112 (dk_at dksX1_scaleOf_4 12 rfl rfl)
theorem dX1_scaleOf_107 : decode cX1_scaleOf 107 = .ok (.invokevirtual 68, 3) := dk_182 0 68 (dk_at dksX1_scaleOf_4 13 rfl rfl)
theorem dX1_scaleOf_110 : decode cX1_scaleOf 110 = .ok (.checkcast 311, 3) := dk_192 1 55 (dk_at dksX1_scaleOf_4 16 rfl rfl)
theorem dX1_scaleOf_113 : decode cX1_scaleOf 113 = .ok (.invokevirtual 313, 3) := dk_182 1 57 (dk_at dksX1_scaleOf_4 19 rfl rfl)
theorem dX1_scaleOf_116 : decode cX1_scaleOf 116 = .ok (.invokevirtual 316, 3) := dk_182 1 60 (dk_at dksX1_scaleOf_5 0 rfl rfl)
theorem dX1_scaleOf_119 : decode cX1_scaleOf 119 = .ok (.ireturn, 1) := dk_172 (dk_at dksX1_scaleOf_5 3 rfl rfl)
theorem q62 : (Jvm.Cond.initialized "Versorhall") ∈ lw_all := lw_g (lw_at lw_m1 1 rfl) rfl
theorem q103 : (Jvm.Cond.instantiable "Versorhall" (6 : Nat)) ∈ lw_all := lw_g (lw_at lw_m1 42 rfl) rfl
theorem q105 : (Jvm.Cond.instanceMethod ({ cls := "Versorhall", name := "<init>", desc := "()V" } : Jvm.MethodName)) ∈ lw_all := lw_g (lw_at lw_m1 44 rfl) rfl
theorem q106 : (Jvm.Cond.code ({ cls := "Versorhall", name := "<init>", desc := "()V" } : Jvm.MethodName) prog_1_method_8_code (1 : Nat) (Option.none : Option Jvm.ClassFile.FieldType)) ∈ lw_all := lw_g (lw_at lw_m1 45 rfl) rfl
theorem q107 : (Jvm.Cond.methodLink "Versorhall" (29 : Nat) ({ cls := "java/lang/Object", name := "<init>", desc := "()V" } : Jvm.MethodName)) ∈ lw_all := lw_g (lw_at lw_m1 46 rfl) rfl
theorem q110 : (Jvm.Cond.classLink "Versorhall" (32 : Nat) "java/util/ArrayList") ∈ lw_all := lw_g (lw_at lw_m1 49 rfl) rfl
theorem q112 : (Jvm.Cond.methodLink "Versorhall" (34 : Nat) ({ cls := "java/util/ArrayList", name := "<init>", desc := "()V" } : Jvm.MethodName)) ∈ lw_all := lw_g (lw_at lw_m1 51 rfl) rfl
theorem q139 : (Jvm.Cond.classLink "Versorhall" (42 : Nat) "Versorhall$Door") ∈ lw_all := lw_g (lw_at lw_m1 78 rfl) rfl
theorem q141 : (Jvm.Cond.methodLinkNest "Versorhall" (44 : Nat) ({ cls := "Versorhall$Door", name := "<init>", desc := "()V" } : Jvm.MethodName) "Versorhall") ∈ lw_tbl := lw_at lw_m1 80 rfl
theorem q145 : (Jvm.Cond.fieldLinkNest "Versorhall" (204 : Nat) "Versorhall$Door" "times" "I" "Versorhall") ∈ lw_tbl := lw_at lw_m1 84 rfl
theorem q149 : (Jvm.Cond.fieldLink "Versorhall" (13 : Nat) "Versorhall" "prime" "I") ∈ lw_all := lw_g (lw_at lw_m1 88 rfl) rfl
theorem q152 : (Jvm.Cond.fieldLink "Versorhall" (35 : Nat) "Versorhall" "algebras" "Ljava/util/ArrayList;") ∈ lw_all := lw_g (lw_at lw_m1 91 rfl) rfl
theorem q153 : (Jvm.Cond.fieldLink "Versorhall" (39 : Nat) "Versorhall" "elements" "Ljava/util/ArrayList;") ∈ lw_all := lw_g (lw_at lw_m1 92 rfl) rfl
theorem q154 : (Jvm.Cond.fieldLink "Versorhall" (45 : Nat) "Versorhall" "door" "LVersorhall$Door;") ∈ lw_all := lw_g (lw_at lw_m1 93 rfl) rfl
theorem q155 : (Jvm.Cond.fieldLink "Versorhall" (217 : Nat) "Versorhall" "knocks" "I") ∈ lw_all := lw_g (lw_at lw_m1 94 rfl) rfl
theorem q156 : (Jvm.Cond.fieldLink "Versorhall" (327 : Nat) "Versorhall" "sum" "J") ∈ lw_all := lw_g (lw_at lw_m1 95 rfl) rfl
theorem q157 : (Jvm.Cond.lays "Versorhall" "Versorhall" "prime" "I") ∈ lw_all := lw_g (lw_at lw_m1 96 rfl) rfl
theorem q158 : (Jvm.Cond.soleField "Versorhall" "prime") ∈ lw_all := lw_g (lw_at lw_m1 97 rfl) rfl
theorem q159 : (Jvm.Cond.laysFinal "Versorhall" "Versorhall" "algebras" "Ljava/util/ArrayList;") ∈ lw_all := lw_g (lw_at lw_m1 98 rfl) rfl
theorem q160 : (Jvm.Cond.soleField "Versorhall" "algebras") ∈ lw_all := lw_g (lw_at lw_m1 99 rfl) rfl
theorem q161 : (Jvm.Cond.laysFinal "Versorhall" "Versorhall" "elements" "Ljava/util/ArrayList;") ∈ lw_all := lw_g (lw_at lw_m1 100 rfl) rfl
theorem q162 : (Jvm.Cond.soleField "Versorhall" "elements") ∈ lw_all := lw_g (lw_at lw_m1 101 rfl) rfl
theorem q163 : (Jvm.Cond.laysFinal "Versorhall" "Versorhall" "door" "LVersorhall$Door;") ∈ lw_all := lw_g (lw_at lw_m1 102 rfl) rfl
theorem q164 : (Jvm.Cond.soleField "Versorhall" "door") ∈ lw_all := lw_g (lw_at lw_m1 103 rfl) rfl
theorem q165 : (Jvm.Cond.lays "Versorhall" "Versorhall" "knocks" "I") ∈ lw_all := lw_g (lw_at lw_m1 104 rfl) rfl
theorem q166 : (Jvm.Cond.soleField "Versorhall" "knocks") ∈ lw_all := lw_g (lw_at lw_m1 105 rfl) rfl
theorem q167 : (Jvm.Cond.lays "Versorhall" "Versorhall" "sum" "J") ∈ lw_all := lw_g (lw_at lw_m1 106 rfl) rfl
theorem q168 : (Jvm.Cond.soleField "Versorhall" "sum") ∈ lw_all := lw_g (lw_at lw_m1 107 rfl) rfl
theorem q169 : (Jvm.Cond.superclass "Versorhall" "java/lang/Object") ∈ lw_all := lw_g (lw_at lw_m1 108 rfl) rfl
theorem q171 : (Jvm.Cond.instanceMethod ({ cls := "Versorhall", name := "meanSize", desc := "()D" } : Jvm.MethodName)) ∈ lw_all := lw_g (lw_at lw_m1 110 rfl) rfl
theorem q172 : (Jvm.Cond.selects "Versorhall" ({ cls := "Versorhall", name := "meanSize", desc := "()D" } : Jvm.MethodName) ({ cls := "Versorhall", name := "meanSize", desc := "()D" } : Jvm.MethodName)) ∈ lw_all := lw_g (lw_at lw_m1 111 rfl) rfl
theorem q173 : (Jvm.Cond.code ({ cls := "Versorhall", name := "meanSize", desc := "()D" } : Jvm.MethodName) prog_1_method_45_code (4 : Nat) (Option.some Jvm.ClassFile.FieldType.double)) ∈ lw_all := lw_g (lw_at lw_m1 112 rfl) rfl
theorem q174 : (Jvm.Cond.methodLink "Versorhall" (96 : Nat) ({ cls := "java/util/ArrayList", name := "iterator", desc := "()Ljava/util/Iterator;" } : Jvm.MethodName)) ∈ lw_all := lw_g (lw_at lw_m1 113 rfl) rfl
theorem q197 : (Jvm.Cond.interfaceEntry "Versorhall" (100 : Nat)) ∈ lw_tbl := lw_at lw_m1 136 rfl
theorem q198 : (Jvm.Cond.methodLink "Versorhall" (100 : Nat) ({ cls := "java/util/Iterator", name := "hasNext", desc := "()Z" } : Jvm.MethodName)) ∈ lw_all := lw_g (lw_at lw_m1 137 rfl) rfl
theorem q207 : (Jvm.Cond.interfaceEntry "Versorhall" (105 : Nat)) ∈ lw_tbl := lw_at lw_m1 146 rfl
theorem q208 : (Jvm.Cond.methodLink "Versorhall" (105 : Nat) ({ cls := "java/util/Iterator", name := "next", desc := "()Ljava/lang/Object;" } : Jvm.MethodName)) ∈ lw_all := lw_g (lw_at lw_m1 147 rfl) rfl
theorem q220 : (Jvm.Cond.classLink "Versorhall" (74 : Nat) "Versorhall$Element") ∈ lw_all := lw_g (lw_at lw_m1 159 rfl) rfl
theorem q221 : (Jvm.Cond.methodLink "Versorhall" (145 : Nat) ({ cls := "Versorhall$Element", name := "size", desc := "()I" } : Jvm.MethodName)) ∈ lw_all := lw_g (lw_at lw_m1 160 rfl) rfl
theorem q225 : (Jvm.Cond.methodLink "Versorhall" (53 : Nat) ({ cls := "java/util/ArrayList", name := "isEmpty", desc := "()Z" } : Jvm.MethodName)) ∈ lw_all := lw_g (lw_at lw_m1 164 rfl) rfl
theorem q229 : (Jvm.Cond.methodLink "Versorhall" (60 : Nat) ({ cls := "java/util/ArrayList", name := "size", desc := "()I" } : Jvm.MethodName)) ∈ lw_all := lw_g (lw_at lw_m1 168 rfl) rfl
theorem q234 : (Jvm.Cond.instanceMethod ({ cls := "Versorhall", name := "poise", desc := "()D" } : Jvm.MethodName)) ∈ lw_all := lw_g (lw_at lw_m1 173 rfl) rfl
theorem q235 : (Jvm.Cond.selects "Versorhall" ({ cls := "Versorhall", name := "poise", desc := "()D" } : Jvm.MethodName) ({ cls := "Versorhall", name := "poise", desc := "()D" } : Jvm.MethodName)) ∈ lw_all := lw_g (lw_at lw_m1 174 rfl) rfl
theorem q236 : (Jvm.Cond.code ({ cls := "Versorhall", name := "poise", desc := "()D" } : Jvm.MethodName) prog_1_method_48_code (1 : Nat) (Option.some Jvm.ClassFile.FieldType.double)) ∈ lw_all := lw_g (lw_at lw_m1 175 rfl) rfl
theorem q237 : (Jvm.Cond.methodLink "Versorhall" (292 : Nat) ({ cls := "Versorhall", name := "leans", desc := "()F" } : Jvm.MethodName)) ∈ lw_all := lw_g (lw_at lw_m1 176 rfl) rfl
theorem q238 : (Jvm.Cond.privateMethod ({ cls := "Versorhall", name := "leans", desc := "()F" } : Jvm.MethodName)) ∈ lw_tbl := lw_at lw_m1 177 rfl
theorem q239 : (Jvm.Cond.instanceMethod ({ cls := "Versorhall", name := "leans", desc := "()F" } : Jvm.MethodName)) ∈ lw_all := lw_g (lw_at lw_m1 178 rfl) rfl
theorem q240 : (Jvm.Cond.code ({ cls := "Versorhall", name := "leans", desc := "()F" } : Jvm.MethodName) prog_1_method_47_code (4 : Nat) (Option.some Jvm.ClassFile.FieldType.float)) ∈ lw_all := lw_g (lw_at lw_m1 179 rfl) rfl
theorem q241 : (Jvm.Cond.methodLink "Versorhall" (288 : Nat) ({ cls := "Versorhall$Element", name := "lean", desc := "()F" } : Jvm.MethodName)) ∈ lw_all := lw_g (lw_at lw_m1 180 rfl) rfl
theorem q246 : (Jvm.Cond.privateMethod ({ cls := "Versorhall", name := "signed", desc := "(I)I" } : Jvm.MethodName)) ∈ lw_tbl := lw_at lw_m1 185 rfl
theorem q247 : (Jvm.Cond.instanceMethod ({ cls := "Versorhall", name := "signed", desc := "(I)I" } : Jvm.MethodName)) ∈ lw_all := lw_g (lw_at lw_m1 186 rfl) rfl
theorem q248 : (Jvm.Cond.code ({ cls := "Versorhall", name := "signed", desc := "(I)I" } : Jvm.MethodName) prog_1_method_7_code (2 : Nat) (Option.some Jvm.ClassFile.FieldType.int)) ∈ lw_all := lw_g (lw_at lw_m1 187 rfl) rfl
theorem q262 : (Jvm.Cond.methodLink "Versorhall" (295 : Nat) ({ cls := "java/lang/Math", name := "rint", desc := "(D)D" } : Jvm.MethodName)) ∈ lw_all := lw_g (lw_at lw_m1 201 rfl) rfl
theorem q284 : (Jvm.Cond.instanceMethod ({ cls := "Versorhall", name := "digest", desc := "()J" } : Jvm.MethodName)) ∈ lw_all := lw_g (lw_at lw_m1 223 rfl) rfl
theorem q285 : (Jvm.Cond.selects "Versorhall" ({ cls := "Versorhall", name := "digest", desc := "()J" } : Jvm.MethodName) ({ cls := "Versorhall", name := "digest", desc := "()J" } : Jvm.MethodName)) ∈ lw_all := lw_g (lw_at lw_m1 224 rfl) rfl
theorem q286 : (Jvm.Cond.code ({ cls := "Versorhall", name := "digest", desc := "()J" } : Jvm.MethodName) prog_1_method_61_code (6 : Nat) (Option.some Jvm.ClassFile.FieldType.long)) ∈ lw_all := lw_g (lw_at lw_m1 225 rfl) rfl
theorem q287 : (Jvm.Cond.constantLong "Versorhall" (333 : Nat) (58236 : Int64)) ∈ lw_all := lw_g (lw_at lw_m1 226 rfl) rfl
theorem q288 : (Jvm.Cond.methodLink "Versorhall" (305 : Nat) ({ cls := "Versorhall", name := "manyNow", desc := "(I)I" } : Jvm.MethodName)) ∈ lw_all := lw_g (lw_at lw_m1 227 rfl) rfl
theorem q289 : (Jvm.Cond.privateMethod ({ cls := "Versorhall", name := "manyNow", desc := "(I)I" } : Jvm.MethodName)) ∈ lw_tbl := lw_at lw_m1 228 rfl
theorem q290 : (Jvm.Cond.instanceMethod ({ cls := "Versorhall", name := "manyNow", desc := "(I)I" } : Jvm.MethodName)) ∈ lw_all := lw_g (lw_at lw_m1 229 rfl) rfl
theorem q291 : (Jvm.Cond.code ({ cls := "Versorhall", name := "manyNow", desc := "(I)I" } : Jvm.MethodName) prog_1_method_51_code (2 : Nat) (Option.some Jvm.ClassFile.FieldType.int)) ∈ lw_all := lw_g (lw_at lw_m1 230 rfl) rfl
theorem q292 : (Jvm.Cond.methodLink "Versorhall" (299 : Nat) ({ cls := "Versorhall", name := "unitsNow", desc := "()I" } : Jvm.MethodName)) ∈ lw_all := lw_g (lw_at lw_m1 231 rfl) rfl
theorem q293 : (Jvm.Cond.privateMethod ({ cls := "Versorhall", name := "unitsNow", desc := "()I" } : Jvm.MethodName)) ∈ lw_tbl := lw_at lw_m1 232 rfl
theorem q294 : (Jvm.Cond.instanceMethod ({ cls := "Versorhall", name := "unitsNow", desc := "()I" } : Jvm.MethodName)) ∈ lw_all := lw_g (lw_at lw_m1 233 rfl) rfl
theorem q295 : (Jvm.Cond.code ({ cls := "Versorhall", name := "unitsNow", desc := "()I" } : Jvm.MethodName) prog_1_method_49_code (4 : Nat) (Option.some Jvm.ClassFile.FieldType.int)) ∈ lw_all := lw_g (lw_at lw_m1 234 rfl) rfl
theorem q296 : (Jvm.Cond.classLink "Versorhall" (72 : Nat) "Versorhall$Algebra") ∈ lw_all := lw_g (lw_at lw_m1 235 rfl) rfl
theorem q297 : (Jvm.Cond.methodLink "Versorhall" (131 : Nat) ({ cls := "Versorhall$Algebra", name := "units", desc := "()I" } : Jvm.MethodName)) ∈ lw_all := lw_g (lw_at lw_m1 236 rfl) rfl
theorem q302 : (Jvm.Cond.methodLink "Versorhall" (302 : Nat) ({ cls := "Versorhall", name := "elementsNow", desc := "(Z)I" } : Jvm.MethodName)) ∈ lw_all := lw_g (lw_at lw_m2 1 rfl) rfl
theorem q303 : (Jvm.Cond.privateMethod ({ cls := "Versorhall", name := "elementsNow", desc := "(Z)I" } : Jvm.MethodName)) ∈ lw_tbl := lw_at lw_m2 2 rfl
theorem q304 : (Jvm.Cond.instanceMethod ({ cls := "Versorhall", name := "elementsNow", desc := "(Z)I" } : Jvm.MethodName)) ∈ lw_all := lw_g (lw_at lw_m2 3 rfl) rfl
theorem q305 : (Jvm.Cond.code ({ cls := "Versorhall", name := "elementsNow", desc := "(Z)I" } : Jvm.MethodName) prog_1_method_50_code (5 : Nat) (Option.some Jvm.ClassFile.FieldType.int)) ∈ lw_all := lw_g (lw_at lw_m2 4 rfl) rfl
theorem q306 : (Jvm.Cond.methodLink "Versorhall" (247 : Nat) ({ cls := "Versorhall$Element", name := "isPlain", desc := "()Z" } : Jvm.MethodName)) ∈ lw_all := lw_g (lw_at lw_m2 5 rfl) rfl
theorem q307 : (Jvm.Cond.methodLink "Versorhall" (244 : Nat) ({ cls := "Versorhall$Element", name := "norm", desc := "()I" } : Jvm.MethodName)) ∈ lw_all := lw_g (lw_at lw_m2 6 rfl) rfl
theorem q323 : (Jvm.Cond.fieldLinkNest "Versorhall" (109 : Nat) "Versorhall$Element" "algebra" "LVersorhall$Algebra;" "Versorhall") ∈ lw_tbl := lw_at lw_m2 22 rfl
theorem q325 : (Jvm.Cond.fieldLinkNest "Versorhall" (141 : Nat) "Versorhall$Element" "numbers" "[I" "Versorhall") ∈ lw_tbl := lw_at lw_m2 24 rfl
theorem q350 : (Jvm.Cond.static ({ cls := "Versorhall", name := "isFrom", desc := "(III)Z" } : Jvm.MethodName)) ∈ lw_all := lw_g (lw_at lw_m2 49 rfl) rfl
theorem q351 : (Jvm.Cond.code ({ cls := "Versorhall", name := "isFrom", desc := "(III)Z" } : Jvm.MethodName) prog_1_method_4_code (3 : Nat) (Option.some Jvm.ClassFile.FieldType.boolean)) ∈ lw_all := lw_g (lw_at lw_m2 50 rfl) rfl
theorem q353 : (Jvm.Cond.privateMethod ({ cls := "Versorhall", name := "mod", desc := "(I)I" } : Jvm.MethodName)) ∈ lw_tbl := lw_at lw_m2 52 rfl
theorem q354 : (Jvm.Cond.instanceMethod ({ cls := "Versorhall", name := "mod", desc := "(I)I" } : Jvm.MethodName)) ∈ lw_all := lw_g (lw_at lw_m2 53 rfl) rfl
theorem q355 : (Jvm.Cond.code ({ cls := "Versorhall", name := "mod", desc := "(I)I" } : Jvm.MethodName) prog_1_method_5_code (2 : Nat) (Option.some Jvm.ClassFile.FieldType.int)) ∈ lw_all := lw_g (lw_at lw_m2 54 rfl) rfl
theorem q356 : (Jvm.Cond.methodLink "Versorhall" (19 : Nat) ({ cls := "java/lang/Math", name := "floorMod", desc := "(II)I" } : Jvm.MethodName)) ∈ lw_all := lw_g (lw_at lw_m2 55 rfl) rfl
theorem q363 : (Jvm.Cond.methodLink "Versorhall" (335 : Nat) ({ cls := "Versorhall", name := "add", desc := "(I)J" } : Jvm.MethodName)) ∈ lw_all := lw_g (lw_at lw_m2 62 rfl) rfl
theorem q364 : (Jvm.Cond.privateMethod ({ cls := "Versorhall", name := "add", desc := "(I)J" } : Jvm.MethodName)) ∈ lw_tbl := lw_at lw_m2 63 rfl
theorem q365 : (Jvm.Cond.instanceMethod ({ cls := "Versorhall", name := "add", desc := "(I)J" } : Jvm.MethodName)) ∈ lw_all := lw_g (lw_at lw_m2 64 rfl) rfl
theorem q366 : (Jvm.Cond.code ({ cls := "Versorhall", name := "add", desc := "(I)J" } : Jvm.MethodName) prog_1_method_60_code (4 : Nat) (Option.some Jvm.ClassFile.FieldType.long)) ∈ lw_all := lw_g (lw_at lw_m2 65 rfl) rfl
theorem q367 : (Jvm.Cond.constantLong "Versorhall" (331 : Nat) (31 : Int64)) ∈ lw_all := lw_g (lw_at lw_m2 66 rfl) rfl
theorem q368 : (Jvm.Cond.methodLink "Versorhall" (278 : Nat) ({ cls := "Versorhall", name := "ofAlgebraNow", desc := "(II)I" } : Jvm.MethodName)) ∈ lw_all := lw_g (lw_at lw_m2 67 rfl) rfl
theorem q369 : (Jvm.Cond.privateMethod ({ cls := "Versorhall", name := "ofAlgebraNow", desc := "(II)I" } : Jvm.MethodName)) ∈ lw_tbl := lw_at lw_m2 68 rfl
theorem q370 : (Jvm.Cond.instanceMethod ({ cls := "Versorhall", name := "ofAlgebraNow", desc := "(II)I" } : Jvm.MethodName)) ∈ lw_all := lw_g (lw_at lw_m2 69 rfl) rfl
theorem q371 : (Jvm.Cond.code ({ cls := "Versorhall", name := "ofAlgebraNow", desc := "(II)I" } : Jvm.MethodName) prog_1_method_41_code (4 : Nat) (Option.some Jvm.ClassFile.FieldType.int)) ∈ lw_all := lw_g (lw_at lw_m2 70 rfl) rfl
theorem q372 : (Jvm.Cond.methodLink "Versorhall" (68 : Nat) ({ cls := "java/util/ArrayList", name := "get", desc := "(I)Ljava/lang/Object;" } : Jvm.MethodName)) ∈ lw_all := lw_g (lw_at lw_m2 71 rfl) rfl
theorem q386 : (Jvm.Cond.methodLink "Versorhall" (272 : Nat) ({ cls := "Versorhall$Kind", name := "ordinal", desc := "()I" } : Jvm.MethodName)) ∈ lw_all := lw_g (lw_at lw_m2 85 rfl) rfl
theorem q393 : (Jvm.Cond.methodLink "Versorhall" (124 : Nat) ({ cls := "Versorhall", name := "elementsOf", desc := "(LVersorhall$Algebra;)I" } : Jvm.MethodName)) ∈ lw_all := lw_g (lw_at lw_m2 92 rfl) rfl
theorem q394 : (Jvm.Cond.privateMethod ({ cls := "Versorhall", name := "elementsOf", desc := "(LVersorhall$Algebra;)I" } : Jvm.MethodName)) ∈ lw_tbl := lw_at lw_m2 93 rfl
theorem q395 : (Jvm.Cond.instanceMethod ({ cls := "Versorhall", name := "elementsOf", desc := "(LVersorhall$Algebra;)I" } : Jvm.MethodName)) ∈ lw_all := lw_g (lw_at lw_m2 94 rfl) rfl
theorem q396 : (Jvm.Cond.code ({ cls := "Versorhall", name := "elementsOf", desc := "(LVersorhall$Algebra;)I" } : Jvm.MethodName) prog_1_method_13_code (5 : Nat) (Option.some Jvm.ClassFile.FieldType.int)) ∈ lw_all := lw_g (lw_at lw_m2 95 rfl) rfl
theorem q397 : (Jvm.Cond.methodLink "Versorhall" (275 : Nat) ({ cls := "Versorhall$Algebra", name := "centre", desc := "()I" } : Jvm.MethodName)) ∈ lw_all := lw_g (lw_at lw_m2 96 rfl) rfl
theorem q406 : (Jvm.Cond.methodLink "Versorhall" (285 : Nat) ({ cls := "Versorhall$Algebra", name := "breaks", desc := "(I)I" } : Jvm.MethodName)) ∈ lw_all := lw_g (lw_at lw_m2 105 rfl) rfl
theorem q420 : (Jvm.Cond.methodLink "Versorhall" (308 : Nat) ({ cls := "Versorhall$Algebra", name := "row", desc := "(I)I" } : Jvm.MethodName)) ∈ lw_all := lw_g (lw_at lw_m2 119 rfl) rfl
theorem q430 : (Jvm.Cond.methodLink "Versorhall" (323 : Nat) ({ cls := "Versorhall", name := "matchNow", desc := "(LVersorhall$Algebra;LVersorhall$Algebra;)I" } : Jvm.MethodName)) ∈ lw_all := lw_g (lw_at lw_m2 129 rfl) rfl
theorem q431 : (Jvm.Cond.privateMethod ({ cls := "Versorhall", name := "matchNow", desc := "(LVersorhall$Algebra;LVersorhall$Algebra;)I" } : Jvm.MethodName)) ∈ lw_tbl := lw_at lw_m2 130 rfl
theorem q432 : (Jvm.Cond.instanceMethod ({ cls := "Versorhall", name := "matchNow", desc := "(LVersorhall$Algebra;LVersorhall$Algebra;)I" } : Jvm.MethodName)) ∈ lw_all := lw_g (lw_at lw_m2 131 rfl) rfl
theorem q433 : (Jvm.Cond.code ({ cls := "Versorhall", name := "matchNow", desc := "(LVersorhall$Algebra;LVersorhall$Algebra;)I" } : Jvm.MethodName) prog_1_method_57_code (3 : Nat) (Option.some Jvm.ClassFile.FieldType.int)) ∈ lw_all := lw_g (lw_at lw_m2 132 rfl) rfl
theorem q434 : (Jvm.Cond.methodLink "Versorhall" (223 : Nat) ({ cls := "Versorhall$Algebra", name := "isBlades", desc := "()Z" } : Jvm.MethodName)) ∈ lw_all := lw_g (lw_at lw_m2 133 rfl) rfl
theorem q440 : (Jvm.Cond.methodLink "Versorhall" (319 : Nat) ({ cls := "Versorhall", name := "matchFrom", desc := "(LVersorhall$Algebra;LVersorhall$Algebra;III)I" } : Jvm.MethodName)) ∈ lw_all := lw_g (lw_at lw_m2 139 rfl) rfl
theorem q441 : (Jvm.Cond.privateMethod ({ cls := "Versorhall", name := "matchFrom", desc := "(LVersorhall$Algebra;LVersorhall$Algebra;III)I" } : Jvm.MethodName)) ∈ lw_tbl := lw_at lw_m2 140 rfl
theorem q442 : (Jvm.Cond.instanceMethod ({ cls := "Versorhall", name := "matchFrom", desc := "(LVersorhall$Algebra;LVersorhall$Algebra;III)I" } : Jvm.MethodName)) ∈ lw_all := lw_g (lw_at lw_m2 141 rfl) rfl
theorem q443 : (Jvm.Cond.code ({ cls := "Versorhall", name := "matchFrom", desc := "(LVersorhall$Algebra;LVersorhall$Algebra;III)I" } : Jvm.MethodName) prog_1_method_56_code (8 : Nat) (Option.some Jvm.ClassFile.FieldType.int)) ∈ lw_all := lw_g (lw_at lw_m2 142 rfl) rfl
theorem q444 : (Jvm.Cond.classLink "Versorhall" (311 : Nat) "java/lang/Integer") ∈ lw_all := lw_g (lw_at lw_m2 143 rfl) rfl
theorem q445 : (Jvm.Cond.methodLink "Versorhall" (313 : Nat) ({ cls := "java/lang/Integer", name := "intValue", desc := "()I" } : Jvm.MethodName)) ∈ lw_all := lw_g (lw_at lw_m2 144 rfl) rfl
theorem q446 : (Jvm.Cond.methodLink "Versorhall" (316 : Nat) ({ cls := "Versorhall", name := "scaleNow", desc := "(II)I" } : Jvm.MethodName)) ∈ lw_all := lw_g (lw_at lw_m2 145 rfl) rfl
theorem q447 : (Jvm.Cond.privateMethod ({ cls := "Versorhall", name := "scaleNow", desc := "(II)I" } : Jvm.MethodName)) ∈ lw_tbl := lw_at lw_m2 146 rfl
theorem q448 : (Jvm.Cond.instanceMethod ({ cls := "Versorhall", name := "scaleNow", desc := "(II)I" } : Jvm.MethodName)) ∈ lw_all := lw_g (lw_at lw_m2 147 rfl) rfl
theorem q449 : (Jvm.Cond.code ({ cls := "Versorhall", name := "scaleNow", desc := "(II)I" } : Jvm.MethodName) prog_1_method_55_code (4 : Nat) (Option.some Jvm.ClassFile.FieldType.int)) ∈ lw_all := lw_g (lw_at lw_m2 148 rfl) rfl
theorem q450 : (Jvm.Cond.methodLink "Versorhall" (25 : Nat) ({ cls := "Versorhall", name := "mod", desc := "(I)I" } : Jvm.MethodName)) ∈ lw_all := lw_g (lw_at lw_m2 149 rfl) rfl
theorem q451 : (Jvm.Cond.methodLink "Versorhall" (262 : Nat) ({ cls := "Versorhall", name := "ofElementNow", desc := "(II)I" } : Jvm.MethodName)) ∈ lw_all := lw_g (lw_at lw_m2 150 rfl) rfl
theorem q452 : (Jvm.Cond.privateMethod ({ cls := "Versorhall", name := "ofElementNow", desc := "(II)I" } : Jvm.MethodName)) ∈ lw_tbl := lw_at lw_m2 151 rfl
theorem q453 : (Jvm.Cond.instanceMethod ({ cls := "Versorhall", name := "ofElementNow", desc := "(II)I" } : Jvm.MethodName)) ∈ lw_all := lw_g (lw_at lw_m2 152 rfl) rfl
theorem q454 : (Jvm.Cond.code ({ cls := "Versorhall", name := "ofElementNow", desc := "(II)I" } : Jvm.MethodName) prog_1_method_38_code (4 : Nat) (Option.some Jvm.ClassFile.FieldType.int)) ∈ lw_all := lw_g (lw_at lw_m2 153 rfl) rfl
theorem q455 : (Jvm.Cond.methodLink "Versorhall" (240 : Nat) ({ cls := "java/util/ArrayList", name := "indexOf", desc := "(Ljava/lang/Object;)I" } : Jvm.MethodName)) ∈ lw_all := lw_g (lw_at lw_m2 154 rfl) rfl
theorem q467 : (Jvm.Cond.selects "Versorhall" ({ cls := "java/lang/Object", name := "equals", desc := "(Ljava/lang/Object;)Z" } : Jvm.MethodName) ({ cls := "java/lang/Object", name := "equals", desc := "(Ljava/lang/Object;)Z" } : Jvm.MethodName)) ∈ lw_all := lw_g (lw_at lw_m2 166 rfl) rfl
theorem q500 : (Jvm.Cond.methodLink "Versorhall" (250 : Nat) ({ cls := "Versorhall$Element", name := "firstPower", desc := "(IZ)I" } : Jvm.MethodName)) ∈ lw_all := lw_g (lw_at lw_m2 199 rfl) rfl
theorem q512 : (Jvm.Cond.methodLink "Versorhall" (158 : Nat) ({ cls := "Versorhall$Element", name := "times", desc := "(LVersorhall$Element;)LVersorhall$Element;" } : Jvm.MethodName)) ∈ lw_all := lw_g (lw_at lw_m2 211 rfl) rfl
theorem q513 : (Jvm.Cond.methodLink "Versorhall" (254 : Nat) ({ cls := "Versorhall$Element", name := "isSame", desc := "(LVersorhall$Element;)Z" } : Jvm.MethodName)) ∈ lw_all := lw_g (lw_at lw_m2 212 rfl) rfl
theorem q521 : (Jvm.Cond.methodLink "Versorhall" (198 : Nat) ({ cls := "Versorhall$Element", name := "square", desc := "()I" } : Jvm.MethodName)) ∈ lw_all := lw_g (lw_at lw_m2 220 rfl) rfl
theorem q527 : (Jvm.Cond.methodLink "Versorhall" (258 : Nat) ({ cls := "Versorhall$Element", name := "rank", desc := "(Z)I" } : Jvm.MethodName)) ∈ lw_all := lw_g (lw_at lw_m2 226 rfl) rfl
theorem q542 : (Jvm.Cond.privateMethod ({ cls := "Versorhall", name := "inverseOf", desc := "(I)I" } : Jvm.MethodName)) ∈ lw_tbl := lw_at lw_m3 1 rfl
theorem q543 : (Jvm.Cond.instanceMethod ({ cls := "Versorhall", name := "inverseOf", desc := "(I)I" } : Jvm.MethodName)) ∈ lw_all := lw_g (lw_at lw_m3 2 rfl) rfl
theorem q544 : (Jvm.Cond.code ({ cls := "Versorhall", name := "inverseOf", desc := "(I)I" } : Jvm.MethodName) prog_1_method_6_code (3 : Nat) (Option.some Jvm.ClassFile.FieldType.int)) ∈ lw_all := lw_g (lw_at lw_m3 3 rfl) rfl
theorem q545 : (Jvm.Cond.methodLink "Versorhall" (265 : Nat) ({ cls := "Versorhall$Element", name := "toString", desc := "()Ljava/lang/String;" } : Jvm.MethodName)) ∈ lw_all := lw_g (lw_at lw_m3 4 rfl) rfl
theorem q879 : (Jvm.Cond.methodLink "Versorhall" (338 : Nat) ({ cls := "java/lang/String", name := "length", desc := "()I" } : Jvm.MethodName)) ∈ lw_all := lw_g (lw_at lw_m4 98 rfl) rfl
theorem q902 : (Jvm.Cond.instanceMethod ({ cls := "Versorhall", name := "prime", desc := "(I)I" } : Jvm.MethodName)) ∈ lw_all := lw_g (lw_at lw_m4 121 rfl) rfl
theorem q903 : (Jvm.Cond.selects "Versorhall" ({ cls := "Versorhall", name := "prime", desc := "(I)I" } : Jvm.MethodName) ({ cls := "Versorhall", name := "prime", desc := "(I)I" } : Jvm.MethodName)) ∈ lw_all := lw_g (lw_at lw_m4 122 rfl) rfl
theorem q904 : (Jvm.Cond.code ({ cls := "Versorhall", name := "prime", desc := "(I)I" } : Jvm.MethodName) prog_1_method_9_code (3 : Nat) (Option.some Jvm.ClassFile.FieldType.int)) ∈ lw_all := lw_g (lw_at lw_m4 123 rfl) rfl
theorem q905 : (Jvm.Cond.methodLink "Versorhall" (49 : Nat) ({ cls := "Versorhall", name := "require", desc := "(Z)V" } : Jvm.MethodName)) ∈ lw_all := lw_g (lw_at lw_m4 124 rfl) rfl
theorem q906 : (Jvm.Cond.static ({ cls := "Versorhall", name := "require", desc := "(Z)V" } : Jvm.MethodName)) ∈ lw_all := lw_g (lw_at lw_m4 125 rfl) rfl
theorem q907 : (Jvm.Cond.code ({ cls := "Versorhall", name := "require", desc := "(Z)V" } : Jvm.MethodName) prog_1_method_1_code (1 : Nat) (Option.none : Option Jvm.ClassFile.FieldType)) ∈ lw_all := lw_g (lw_at lw_m4 126 rfl) rfl
theorem q908 : (Jvm.Cond.classLink "Versorhall" (1 : Nat) "java/lang/IllegalArgumentException") ∈ lw_all := lw_g (lw_at lw_m4 127 rfl) rfl
theorem q909 : (Jvm.Cond.methodLink "Versorhall" (3 : Nat) ({ cls := "java/lang/IllegalArgumentException", name := "<init>", desc := "()V" } : Jvm.MethodName)) ∈ lw_all := lw_g (lw_at lw_m4 128 rfl) rfl
theorem q919 : (Jvm.Cond.methodLink "Versorhall" (57 : Nat) ({ cls := "Versorhall", name := "requireState", desc := "(Z)V" } : Jvm.MethodName)) ∈ lw_all := lw_g (lw_at lw_m4 138 rfl) rfl
theorem q920 : (Jvm.Cond.static ({ cls := "Versorhall", name := "requireState", desc := "(Z)V" } : Jvm.MethodName)) ∈ lw_all := lw_g (lw_at lw_m4 139 rfl) rfl
theorem q921 : (Jvm.Cond.code ({ cls := "Versorhall", name := "requireState", desc := "(Z)V" } : Jvm.MethodName) prog_1_method_2_code (1 : Nat) (Option.none : Option Jvm.ClassFile.FieldType)) ∈ lw_all := lw_g (lw_at lw_m4 140 rfl) rfl
theorem q922 : (Jvm.Cond.classLink "Versorhall" (7 : Nat) "java/lang/IllegalStateException") ∈ lw_all := lw_g (lw_at lw_m4 141 rfl) rfl
theorem q931 : (Jvm.Cond.methodLink "Versorhall" (9 : Nat) ({ cls := "java/lang/IllegalStateException", name := "<init>", desc := "()V" } : Jvm.MethodName)) ∈ lw_all := lw_g (lw_at lw_m4 150 rfl) rfl
theorem q941 : (Jvm.Cond.instanceMethod ({ cls := "Versorhall", name := "algebra", desc := "(I)I" } : Jvm.MethodName)) ∈ lw_all := lw_g (lw_at lw_m4 160 rfl) rfl
theorem q942 : (Jvm.Cond.selects "Versorhall" ({ cls := "Versorhall", name := "algebra", desc := "(I)I" } : Jvm.MethodName) ({ cls := "Versorhall", name := "algebra", desc := "(I)I" } : Jvm.MethodName)) ∈ lw_all := lw_g (lw_at lw_m4 161 rfl) rfl
theorem q943 : (Jvm.Cond.code ({ cls := "Versorhall", name := "algebra", desc := "(I)I" } : Jvm.MethodName) prog_1_method_12_code (2 : Nat) (Option.some Jvm.ClassFile.FieldType.int)) ∈ lw_all := lw_g (lw_at lw_m4 162 rfl) rfl
theorem q944 : (Jvm.Cond.methodLink "Versorhall" (76 : Nat) ({ cls := "Versorhall", name := "isFrom", desc := "(III)Z" } : Jvm.MethodName)) ∈ lw_all := lw_g (lw_at lw_m4 163 rfl) rfl
theorem q945 : (Jvm.Cond.fieldLink "Versorhall" (80 : Nat) "Versorhall$Kind" "DOUBLED" "LVersorhall$Kind;") ∈ lw_all := lw_g (lw_at lw_m4 164 rfl) rfl
theorem q947 : (Jvm.Cond.fieldLink "Versorhall" (86 : Nat) "Versorhall$Kind" "BLADES" "LVersorhall$Kind;") ∈ lw_all := lw_g (lw_at lw_m4 166 rfl) rfl
theorem q948 : (Jvm.Cond.methodLink "Versorhall" (89 : Nat) ({ cls := "Versorhall$Algebra", name := "<init>", desc := "(LVersorhall;LVersorhall$Kind;)V" } : Jvm.MethodName)) ∈ lw_all := lw_g (lw_at lw_m4 167 rfl) rfl
theorem q957 : (Jvm.Cond.fieldLinkNest "Versorhall" (269 : Nat) "Versorhall$Algebra" "kind" "LVersorhall$Kind;" "Versorhall") ∈ lw_tbl := lw_at lw_m4 176 rfl
theorem q959 : (Jvm.Cond.fieldLinkNest "Versorhall" (121 : Nat) "Versorhall$Algebra" "dials" "Ljava/util/ArrayList;" "Versorhall") ∈ lw_tbl := lw_at lw_m4 178 rfl
theorem q961 : (Jvm.Cond.fieldLinkNest "Versorhall" (195 : Nat) "Versorhall$Algebra" "mirrors" "Ljava/util/ArrayList;" "Versorhall") ∈ lw_tbl := lw_at lw_m4 180 rfl
theorem q964 : (Jvm.Cond.fieldLinkNest "Versorhall" (281 : Nat) "Versorhall$Algebra" "signs" "[[I" "Versorhall") ∈ lw_tbl := lw_at lw_m4 183 rfl
theorem q977 : (Jvm.Cond.methodLink "Versorhall" (92 : Nat) ({ cls := "java/util/ArrayList", name := "add", desc := "(Ljava/lang/Object;)Z" } : Jvm.MethodName)) ∈ lw_all := lw_g (lw_at lw_m4 196 rfl) rfl
theorem q1000 : (Jvm.Cond.selects "Versorhall" ({ cls := "java/lang/Object", name := "getClass", desc := "()Ljava/lang/Class;" } : Jvm.MethodName) ({ cls := "java/lang/Object", name := "getClass", desc := "()Ljava/lang/Class;" } : Jvm.MethodName)) ∈ lw_all := lw_g (lw_at lw_m4 219 rfl) rfl
theorem q1053 : (Jvm.Cond.instanceMethod ({ cls := "Versorhall", name := "dial", desc := "(II)I" } : Jvm.MethodName)) ∈ lw_all := lw_g (lw_at lw_m5 32 rfl) rfl
theorem q1054 : (Jvm.Cond.selects "Versorhall" ({ cls := "Versorhall", name := "dial", desc := "(II)I" } : Jvm.MethodName) ({ cls := "Versorhall", name := "dial", desc := "(II)I" } : Jvm.MethodName)) ∈ lw_all := lw_g (lw_at lw_m5 33 rfl) rfl
theorem q1055 : (Jvm.Cond.code ({ cls := "Versorhall", name := "dial", desc := "(II)I" } : Jvm.MethodName) prog_1_method_15_code (4 : Nat) (Option.some Jvm.ClassFile.FieldType.int)) ∈ lw_all := lw_g (lw_at lw_m5 34 rfl) rfl
theorem q1056 : (Jvm.Cond.methodLink "Versorhall" (113 : Nat) ({ cls := "Versorhall", name := "algebraAt", desc := "(I)LVersorhall$Algebra;" } : Jvm.MethodName)) ∈ lw_all := lw_g (lw_at lw_m5 35 rfl) rfl
theorem q1057 : (Jvm.Cond.privateMethod ({ cls := "Versorhall", name := "algebraAt", desc := "(I)LVersorhall$Algebra;" } : Jvm.MethodName)) ∈ lw_tbl := lw_at lw_m5 36 rfl
theorem q1058 : (Jvm.Cond.instanceMethod ({ cls := "Versorhall", name := "algebraAt", desc := "(I)LVersorhall$Algebra;" } : Jvm.MethodName)) ∈ lw_all := lw_g (lw_at lw_m5 37 rfl) rfl
theorem q1059 : (Jvm.Cond.code ({ cls := "Versorhall", name := "algebraAt", desc := "(I)LVersorhall$Algebra;" } : Jvm.MethodName) prog_1_method_10_code (2 : Nat) (Option.some (Jvm.ClassFile.FieldType.object "Versorhall$Algebra"))) ∈ lw_all := lw_g (lw_at lw_m5 38 rfl) rfl
theorem q1060 : (Jvm.Cond.methodLink "Versorhall" (64 : Nat) ({ cls := "Versorhall", name := "requireIndex", desc := "(II)V" } : Jvm.MethodName)) ∈ lw_all := lw_g (lw_at lw_m5 39 rfl) rfl
theorem q1061 : (Jvm.Cond.static ({ cls := "Versorhall", name := "requireIndex", desc := "(II)V" } : Jvm.MethodName)) ∈ lw_all := lw_g (lw_at lw_m5 40 rfl) rfl
theorem q1062 : (Jvm.Cond.code ({ cls := "Versorhall", name := "requireIndex", desc := "(II)V" } : Jvm.MethodName) prog_1_method_3_code (2 : Nat) (Option.none : Option Jvm.ClassFile.FieldType)) ∈ lw_all := lw_g (lw_at lw_m5 41 rfl) rfl
theorem q1063 : (Jvm.Cond.classLink "Versorhall" (10 : Nat) "java/lang/IndexOutOfBoundsException") ∈ lw_all := lw_g (lw_at lw_m5 42 rfl) rfl
theorem q1072 : (Jvm.Cond.methodLink "Versorhall" (12 : Nat) ({ cls := "java/lang/IndexOutOfBoundsException", name := "<init>", desc := "()V" } : Jvm.MethodName)) ∈ lw_all := lw_g (lw_at lw_m5 51 rfl) rfl
theorem q1078 : (Jvm.Cond.methodLink "Versorhall" (117 : Nat) ({ cls := "Versorhall", name := "isNumber", desc := "(I)Z" } : Jvm.MethodName)) ∈ lw_all := lw_g (lw_at lw_m5 57 rfl) rfl
theorem q1079 : (Jvm.Cond.privateMethod ({ cls := "Versorhall", name := "isNumber", desc := "(I)Z" } : Jvm.MethodName)) ∈ lw_tbl := lw_at lw_m5 58 rfl
theorem q1080 : (Jvm.Cond.instanceMethod ({ cls := "Versorhall", name := "isNumber", desc := "(I)Z" } : Jvm.MethodName)) ∈ lw_all := lw_g (lw_at lw_m5 59 rfl) rfl
theorem q1081 : (Jvm.Cond.code ({ cls := "Versorhall", name := "isNumber", desc := "(I)Z" } : Jvm.MethodName) prog_1_method_14_code (2 : Nat) (Option.some Jvm.ClassFile.FieldType.boolean)) ∈ lw_all := lw_g (lw_at lw_m5 60 rfl) rfl
theorem q1082 : (Jvm.Cond.methodLink "Versorhall" (128 : Nat) ({ cls := "Versorhall$Algebra", name := "add", desc := "(I)V" } : Jvm.MethodName)) ∈ lw_all := lw_g (lw_at lw_m5 61 rfl) rfl
theorem q1128 : (Jvm.Cond.instanceMethod ({ cls := "Versorhall", name := "element", desc := "(I)I" } : Jvm.MethodName)) ∈ lw_all := lw_g (lw_at lw_m5 107 rfl) rfl
theorem q1129 : (Jvm.Cond.selects "Versorhall" ({ cls := "Versorhall", name := "element", desc := "(I)I" } : Jvm.MethodName) ({ cls := "Versorhall", name := "element", desc := "(I)I" } : Jvm.MethodName)) ∈ lw_all := lw_g (lw_at lw_m5 108 rfl) rfl
theorem q1130 : (Jvm.Cond.code ({ cls := "Versorhall", name := "element", desc := "(I)I" } : Jvm.MethodName) prog_1_method_16_code (3 : Nat) (Option.some Jvm.ClassFile.FieldType.int)) ∈ lw_all := lw_g (lw_at lw_m5 109 rfl) rfl
theorem q1131 : (Jvm.Cond.methodLink "Versorhall" (134 : Nat) ({ cls := "Versorhall$Element", name := "<init>", desc := "(LVersorhall;LVersorhall$Algebra;)V" } : Jvm.MethodName)) ∈ lw_all := lw_g (lw_at lw_m5 110 rfl) rfl
theorem q1136 : (Jvm.Cond.instanceMethod ({ cls := "Versorhall", name := "set", desc := "(III)I" } : Jvm.MethodName)) ∈ lw_all := lw_g (lw_at lw_m5 115 rfl) rfl
theorem q1137 : (Jvm.Cond.selects "Versorhall" ({ cls := "Versorhall", name := "set", desc := "(III)I" } : Jvm.MethodName) ({ cls := "Versorhall", name := "set", desc := "(III)I" } : Jvm.MethodName)) ∈ lw_all := lw_g (lw_at lw_m5 116 rfl) rfl
theorem q1138 : (Jvm.Cond.code ({ cls := "Versorhall", name := "set", desc := "(III)I" } : Jvm.MethodName) prog_1_method_17_code (6 : Nat) (Option.some Jvm.ClassFile.FieldType.int)) ∈ lw_all := lw_g (lw_at lw_m5 117 rfl) rfl
theorem q1139 : (Jvm.Cond.methodLink "Versorhall" (137 : Nat) ({ cls := "Versorhall", name := "elementAt", desc := "(I)LVersorhall$Element;" } : Jvm.MethodName)) ∈ lw_all := lw_g (lw_at lw_m5 118 rfl) rfl
theorem q1140 : (Jvm.Cond.privateMethod ({ cls := "Versorhall", name := "elementAt", desc := "(I)LVersorhall$Element;" } : Jvm.MethodName)) ∈ lw_tbl := lw_at lw_m5 119 rfl
theorem q1141 : (Jvm.Cond.instanceMethod ({ cls := "Versorhall", name := "elementAt", desc := "(I)LVersorhall$Element;" } : Jvm.MethodName)) ∈ lw_all := lw_g (lw_at lw_m5 120 rfl) rfl
theorem q1142 : (Jvm.Cond.code ({ cls := "Versorhall", name := "elementAt", desc := "(I)LVersorhall$Element;" } : Jvm.MethodName) prog_1_method_11_code (2 : Nat) (Option.some (Jvm.ClassFile.FieldType.object "Versorhall$Element"))) ∈ lw_all := lw_g (lw_at lw_m5 121 rfl) rfl
theorem q1147 : (Jvm.Cond.instanceMethod ({ cls := "Versorhall", name := "sum", desc := "(III)I" } : Jvm.MethodName)) ∈ lw_all := lw_g (lw_at lw_m5 126 rfl) rfl
theorem q1148 : (Jvm.Cond.selects "Versorhall" ({ cls := "Versorhall", name := "sum", desc := "(III)I" } : Jvm.MethodName) ({ cls := "Versorhall", name := "sum", desc := "(III)I" } : Jvm.MethodName)) ∈ lw_all := lw_g (lw_at lw_m5 127 rfl) rfl
theorem q1149 : (Jvm.Cond.code ({ cls := "Versorhall", name := "sum", desc := "(III)I" } : Jvm.MethodName) prog_1_method_20_code (7 : Nat) (Option.some Jvm.ClassFile.FieldType.int)) ∈ lw_all := lw_g (lw_at lw_m5 128 rfl) rfl
theorem q1150 : (Jvm.Cond.methodLink "Versorhall" (146 : Nat) ({ cls := "Versorhall", name := "requireOne", desc := "(LVersorhall$Element;LVersorhall$Element;)V" } : Jvm.MethodName)) ∈ lw_all := lw_g (lw_at lw_m5 129 rfl) rfl
theorem q1151 : (Jvm.Cond.privateMethod ({ cls := "Versorhall", name := "requireOne", desc := "(LVersorhall$Element;LVersorhall$Element;)V" } : Jvm.MethodName)) ∈ lw_tbl := lw_at lw_m5 130 rfl
theorem q1152 : (Jvm.Cond.instanceMethod ({ cls := "Versorhall", name := "requireOne", desc := "(LVersorhall$Element;LVersorhall$Element;)V" } : Jvm.MethodName)) ∈ lw_all := lw_g (lw_at lw_m5 131 rfl) rfl
theorem q1153 : (Jvm.Cond.code ({ cls := "Versorhall", name := "requireOne", desc := "(LVersorhall$Element;LVersorhall$Element;)V" } : Jvm.MethodName) prog_1_method_18_code (3 : Nat) (Option.none : Option Jvm.ClassFile.FieldType)) ∈ lw_all := lw_g (lw_at lw_m5 132 rfl) rfl
theorem q1154 : (Jvm.Cond.methodLink "Versorhall" (150 : Nat) ({ cls := "Versorhall$Element", name := "plus", desc := "(LVersorhall$Element;I)LVersorhall$Element;" } : Jvm.MethodName)) ∈ lw_all := lw_g (lw_at lw_m5 133 rfl) rfl
theorem q1155 : (Jvm.Cond.methodLink "Versorhall" (154 : Nat) ({ cls := "Versorhall", name := "keep", desc := "(LVersorhall$Element;LVersorhall$Element;)I" } : Jvm.MethodName)) ∈ lw_all := lw_g (lw_at lw_m5 134 rfl) rfl
theorem q1156 : (Jvm.Cond.static ({ cls := "Versorhall", name := "keep", desc := "(LVersorhall$Element;LVersorhall$Element;)I" } : Jvm.MethodName)) ∈ lw_all := lw_g (lw_at lw_m5 135 rfl) rfl
theorem q1157 : (Jvm.Cond.code ({ cls := "Versorhall", name := "keep", desc := "(LVersorhall$Element;LVersorhall$Element;)I" } : Jvm.MethodName) prog_1_method_19_code (2 : Nat) (Option.some Jvm.ClassFile.FieldType.int)) ∈ lw_all := lw_g (lw_at lw_m5 136 rfl) rfl
theorem q1162 : (Jvm.Cond.instanceMethod ({ cls := "Versorhall", name := "product", desc := "(III)I" } : Jvm.MethodName)) ∈ lw_all := lw_g (lw_at lw_m5 141 rfl) rfl
theorem q1163 : (Jvm.Cond.selects "Versorhall" ({ cls := "Versorhall", name := "product", desc := "(III)I" } : Jvm.MethodName) ({ cls := "Versorhall", name := "product", desc := "(III)I" } : Jvm.MethodName)) ∈ lw_all := lw_g (lw_at lw_m5 142 rfl) rfl
theorem q1164 : (Jvm.Cond.code ({ cls := "Versorhall", name := "product", desc := "(III)I" } : Jvm.MethodName) prog_1_method_21_code (7 : Nat) (Option.some Jvm.ClassFile.FieldType.int)) ∈ lw_all := lw_g (lw_at lw_m5 143 rfl) rfl
theorem q1169 : (Jvm.Cond.instanceMethod ({ cls := "Versorhall", name := "scale", desc := "(III)I" } : Jvm.MethodName)) ∈ lw_all := lw_g (lw_at lw_m5 148 rfl) rfl
theorem q1170 : (Jvm.Cond.selects "Versorhall" ({ cls := "Versorhall", name := "scale", desc := "(III)I" } : Jvm.MethodName) ({ cls := "Versorhall", name := "scale", desc := "(III)I" } : Jvm.MethodName)) ∈ lw_all := lw_g (lw_at lw_m5 149 rfl) rfl
theorem q1171 : (Jvm.Cond.code ({ cls := "Versorhall", name := "scale", desc := "(III)I" } : Jvm.MethodName) prog_1_method_22_code (6 : Nat) (Option.some Jvm.ClassFile.FieldType.int)) ∈ lw_all := lw_g (lw_at lw_m5 150 rfl) rfl
theorem q1172 : (Jvm.Cond.methodLink "Versorhall" (162 : Nat) ({ cls := "Versorhall$Element", name := "times", desc := "(I)LVersorhall$Element;" } : Jvm.MethodName)) ∈ lw_all := lw_g (lw_at lw_m5 151 rfl) rfl
theorem q1180 : (Jvm.Cond.instanceMethod ({ cls := "Versorhall", name := "conjugate", desc := "(II)I" } : Jvm.MethodName)) ∈ lw_all := lw_g (lw_at lw_m5 159 rfl) rfl
theorem q1181 : (Jvm.Cond.selects "Versorhall" ({ cls := "Versorhall", name := "conjugate", desc := "(II)I" } : Jvm.MethodName) ({ cls := "Versorhall", name := "conjugate", desc := "(II)I" } : Jvm.MethodName)) ∈ lw_all := lw_g (lw_at lw_m5 160 rfl) rfl
theorem q1182 : (Jvm.Cond.code ({ cls := "Versorhall", name := "conjugate", desc := "(II)I" } : Jvm.MethodName) prog_1_method_23_code (5 : Nat) (Option.some Jvm.ClassFile.FieldType.int)) ∈ lw_all := lw_g (lw_at lw_m5 161 rfl) rfl
theorem q1183 : (Jvm.Cond.methodLink "Versorhall" (164 : Nat) ({ cls := "Versorhall$Element", name := "conjugate", desc := "()LVersorhall$Element;" } : Jvm.MethodName)) ∈ lw_all := lw_g (lw_at lw_m5 162 rfl) rfl
theorem q1188 : (Jvm.Cond.instanceMethod ({ cls := "Versorhall", name := "power", desc := "(III)I" } : Jvm.MethodName)) ∈ lw_all := lw_g (lw_at lw_m5 167 rfl) rfl
theorem q1189 : (Jvm.Cond.selects "Versorhall" ({ cls := "Versorhall", name := "power", desc := "(III)I" } : Jvm.MethodName) ({ cls := "Versorhall", name := "power", desc := "(III)I" } : Jvm.MethodName)) ∈ lw_all := lw_g (lw_at lw_m5 168 rfl) rfl
theorem q1190 : (Jvm.Cond.code ({ cls := "Versorhall", name := "power", desc := "(III)I" } : Jvm.MethodName) prog_1_method_24_code (6 : Nat) (Option.some Jvm.ClassFile.FieldType.int)) ∈ lw_all := lw_g (lw_at lw_m5 169 rfl) rfl
theorem q1191 : (Jvm.Cond.methodLink "Versorhall" (168 : Nat) ({ cls := "Versorhall$Element", name := "power", desc := "(I)LVersorhall$Element;" } : Jvm.MethodName)) ∈ lw_all := lw_g (lw_at lw_m5 170 rfl) rfl
theorem q1199 : (Jvm.Cond.instanceMethod ({ cls := "Versorhall", name := "invert", desc := "(II)I" } : Jvm.MethodName)) ∈ lw_all := lw_g (lw_at lw_m5 178 rfl) rfl
theorem q1200 : (Jvm.Cond.selects "Versorhall" ({ cls := "Versorhall", name := "invert", desc := "(II)I" } : Jvm.MethodName) ({ cls := "Versorhall", name := "invert", desc := "(II)I" } : Jvm.MethodName)) ∈ lw_all := lw_g (lw_at lw_m5 179 rfl) rfl
theorem q1201 : (Jvm.Cond.code ({ cls := "Versorhall", name := "invert", desc := "(II)I" } : Jvm.MethodName) prog_1_method_26_code (5 : Nat) (Option.some Jvm.ClassFile.FieldType.int)) ∈ lw_all := lw_g (lw_at lw_m5 180 rfl) rfl
theorem q1202 : (Jvm.Cond.methodLink "Versorhall" (178 : Nat) ({ cls := "Versorhall$Element", name := "inverse", desc := "()Ljava/util/Optional;" } : Jvm.MethodName)) ∈ lw_all := lw_g (lw_at lw_m5 181 rfl) rfl
theorem q1228 : (Jvm.Cond.methodLink "Versorhall" (182 : Nat) ({ cls := "Versorhall", name := "found", desc := "(Ljava/util/Optional;)LVersorhall$Element;" } : Jvm.MethodName)) ∈ lw_all := lw_g (lw_at lw_m5 207 rfl) rfl
theorem q1229 : (Jvm.Cond.static ({ cls := "Versorhall", name := "found", desc := "(Ljava/util/Optional;)LVersorhall$Element;" } : Jvm.MethodName)) ∈ lw_all := lw_g (lw_at lw_m5 208 rfl) rfl
theorem q1230 : (Jvm.Cond.code ({ cls := "Versorhall", name := "found", desc := "(Ljava/util/Optional;)LVersorhall$Element;" } : Jvm.MethodName) prog_1_method_25_code (1 : Nat) (Option.some (Jvm.ClassFile.FieldType.object "Versorhall$Element"))) ∈ lw_all := lw_g (lw_at lw_m5 209 rfl) rfl
theorem q1231 : (Jvm.Cond.methodLink "Versorhall" (171 : Nat) ({ cls := "java/util/Optional", name := "isPresent", desc := "()Z" } : Jvm.MethodName)) ∈ lw_all := lw_g (lw_at lw_m5 210 rfl) rfl
theorem q1235 : (Jvm.Cond.methodLink "Versorhall" (176 : Nat) ({ cls := "java/util/Optional", name := "get", desc := "()Ljava/lang/Object;" } : Jvm.MethodName)) ∈ lw_all := lw_g (lw_at lw_m5 214 rfl) rfl
theorem q1243 : (Jvm.Cond.instanceMethod ({ cls := "Versorhall", name := "series", desc := "(II)I" } : Jvm.MethodName)) ∈ lw_all := lw_g (lw_at lw_m5 222 rfl) rfl
theorem q1244 : (Jvm.Cond.selects "Versorhall" ({ cls := "Versorhall", name := "series", desc := "(II)I" } : Jvm.MethodName) ({ cls := "Versorhall", name := "series", desc := "(II)I" } : Jvm.MethodName)) ∈ lw_all := lw_g (lw_at lw_m5 223 rfl) rfl
theorem q1245 : (Jvm.Cond.code ({ cls := "Versorhall", name := "series", desc := "(II)I" } : Jvm.MethodName) prog_1_method_27_code (5 : Nat) (Option.some Jvm.ClassFile.FieldType.int)) ∈ lw_all := lw_g (lw_at lw_m5 224 rfl) rfl
theorem q1246 : (Jvm.Cond.methodLink "Versorhall" (186 : Nat) ({ cls := "Versorhall$Element", name := "series", desc := "()Ljava/util/Optional;" } : Jvm.MethodName)) ∈ lw_all := lw_g (lw_at lw_m5 225 rfl) rfl
theorem q1255 : (Jvm.Cond.instanceMethod ({ cls := "Versorhall", name := "killer", desc := "(II)I" } : Jvm.MethodName)) ∈ lw_all := lw_g (lw_at lw_m5 234 rfl) rfl
theorem q1256 : (Jvm.Cond.selects "Versorhall" ({ cls := "Versorhall", name := "killer", desc := "(II)I" } : Jvm.MethodName) ({ cls := "Versorhall", name := "killer", desc := "(II)I" } : Jvm.MethodName)) ∈ lw_all := lw_g (lw_at lw_m5 235 rfl) rfl
theorem q1257 : (Jvm.Cond.code ({ cls := "Versorhall", name := "killer", desc := "(II)I" } : Jvm.MethodName) prog_1_method_28_code (5 : Nat) (Option.some Jvm.ClassFile.FieldType.int)) ∈ lw_all := lw_g (lw_at lw_m5 236 rfl) rfl
theorem q1258 : (Jvm.Cond.methodLink "Versorhall" (189 : Nat) ({ cls := "Versorhall$Element", name := "killer", desc := "()Ljava/util/Optional;" } : Jvm.MethodName)) ∈ lw_all := lw_g (lw_at lw_m5 237 rfl) rfl
theorem q1262 : (Jvm.Cond.methodLink "Versorhall" (192 : Nat) ({ cls := "Versorhall$Element", name := "last", desc := "()I" } : Jvm.MethodName)) ∈ lw_all := lw_g (lw_at lw_m6 1 rfl) rfl
theorem q1270 : (Jvm.Cond.instanceMethod ({ cls := "Versorhall", name := "hang", desc := "(I)I" } : Jvm.MethodName)) ∈ lw_all := lw_g (lw_at lw_m6 9 rfl) rfl
theorem q1271 : (Jvm.Cond.selects "Versorhall" ({ cls := "Versorhall", name := "hang", desc := "(I)I" } : Jvm.MethodName) ({ cls := "Versorhall", name := "hang", desc := "(I)I" } : Jvm.MethodName)) ∈ lw_all := lw_g (lw_at lw_m6 10 rfl) rfl
theorem q1272 : (Jvm.Cond.codeWith ({ cls := "Versorhall", name := "hang", desc := "(I)I" } : Jvm.MethodName) prog_1_method_29_code (6 : Nat) (Option.some Jvm.ClassFile.FieldType.int) [((46 : Nat), (82 : Nat), (83 : Nat), (0 : Nat)), ((83 : Nat), (88 : Nat), (83 : Nat), (0 : Nat))]) ∈ lw_all := lw_g (lw_at lw_m6 11 rfl) rfl
theorem q1273 : (Jvm.Cond.methodLink "Versorhall" (201 : Nat) ({ cls := "Versorhall$Element", name := "copy", desc := "()LVersorhall$Element;" } : Jvm.MethodName)) ∈ lw_all := lw_g (lw_at lw_m6 12 rfl) rfl
theorem q1278 : (Jvm.Cond.methodLink "Versorhall" (206 : Nat) ({ cls := "java/lang/Object", name := "notifyAll", desc := "()V" } : Jvm.MethodName)) ∈ lw_all := lw_g (lw_at lw_m6 17 rfl) rfl
theorem q1281 : (Jvm.Cond.selects "Versorhall" ({ cls := "java/lang/Object", name := "notifyAll", desc := "()V" } : Jvm.MethodName) ({ cls := "java/lang/Object", name := "notifyAll", desc := "()V" } : Jvm.MethodName)) ∈ lw_all := lw_g (lw_at lw_m6 20 rfl) rfl
theorem q1307 : (Jvm.Cond.instanceMethod ({ cls := "Versorhall", name := "clear", desc := "(I)I" } : Jvm.MethodName)) ∈ lw_all := lw_g (lw_at lw_m6 46 rfl) rfl
theorem q1308 : (Jvm.Cond.selects "Versorhall" ({ cls := "Versorhall", name := "clear", desc := "(I)I" } : Jvm.MethodName) ({ cls := "Versorhall", name := "clear", desc := "(I)I" } : Jvm.MethodName)) ∈ lw_all := lw_g (lw_at lw_m6 47 rfl) rfl
theorem q1309 : (Jvm.Cond.codeWith ({ cls := "Versorhall", name := "clear", desc := "(I)I" } : Jvm.MethodName) prog_1_method_30_code (6 : Nat) (Option.some Jvm.ClassFile.FieldType.int) [((26 : Nat), (53 : Nat), (56 : Nat), (0 : Nat)), ((56 : Nat), (61 : Nat), (56 : Nat), (0 : Nat)), ((66 : Nat), (73 : Nat), (76 : Nat), (215 : Nat))]) ∈ lw_all := lw_g (lw_at lw_m6 48 rfl) rfl
theorem q1310 : (Jvm.Cond.classLink "Versorhall" (215 : Nat) "java/lang/IllegalMonitorStateException") ∈ lw_all := lw_g (lw_at lw_m6 49 rfl) rfl
theorem q1324 : (Jvm.Cond.methodLink "Versorhall" (209 : Nat) ({ cls := "java/util/ArrayList", name := "clear", desc := "()V" } : Jvm.MethodName)) ∈ lw_all := lw_g (lw_at lw_m6 63 rfl) rfl
theorem q1328 : (Jvm.Cond.methodLink "Versorhall" (212 : Nat) ({ cls := "java/lang/Object", name := "notify", desc := "()V" } : Jvm.MethodName)) ∈ lw_all := lw_g (lw_at lw_m6 67 rfl) rfl
theorem q1331 : (Jvm.Cond.selects "Versorhall" ({ cls := "java/lang/Object", name := "notify", desc := "()V" } : Jvm.MethodName) ({ cls := "java/lang/Object", name := "notify", desc := "()V" } : Jvm.MethodName)) ∈ lw_all := lw_g (lw_at lw_m6 70 rfl) rfl
theorem q1357 : (Jvm.Cond.instanceMethod ({ cls := "Versorhall", name := "mirror", desc := "(III)I" } : Jvm.MethodName)) ∈ lw_all := lw_g (lw_at lw_m6 96 rfl) rfl
theorem q1358 : (Jvm.Cond.selects "Versorhall" ({ cls := "Versorhall", name := "mirror", desc := "(III)I" } : Jvm.MethodName) ({ cls := "Versorhall", name := "mirror", desc := "(III)I" } : Jvm.MethodName)) ∈ lw_all := lw_g (lw_at lw_m6 97 rfl) rfl
theorem q1359 : (Jvm.Cond.code ({ cls := "Versorhall", name := "mirror", desc := "(III)I" } : Jvm.MethodName) prog_1_method_31_code (7 : Nat) (Option.some Jvm.ClassFile.FieldType.int)) ∈ lw_all := lw_g (lw_at lw_m6 98 rfl) rfl
theorem q1360 : (Jvm.Cond.methodLink "Versorhall" (220 : Nat) ({ cls := "Versorhall$Element", name := "mirrored", desc := "(LVersorhall$Element;)LVersorhall$Element;" } : Jvm.MethodName)) ∈ lw_all := lw_g (lw_at lw_m6 99 rfl) rfl
theorem q1369 : (Jvm.Cond.instanceMethod ({ cls := "Versorhall", name := "turn", desc := "(II)I" } : Jvm.MethodName)) ∈ lw_all := lw_g (lw_at lw_m6 108 rfl) rfl
theorem q1370 : (Jvm.Cond.selects "Versorhall" ({ cls := "Versorhall", name := "turn", desc := "(II)I" } : Jvm.MethodName) ({ cls := "Versorhall", name := "turn", desc := "(II)I" } : Jvm.MethodName)) ∈ lw_all := lw_g (lw_at lw_m6 109 rfl) rfl
theorem q1371 : (Jvm.Cond.code ({ cls := "Versorhall", name := "turn", desc := "(II)I" } : Jvm.MethodName) prog_1_method_32_code (8 : Nat) (Option.some Jvm.ClassFile.FieldType.int)) ∈ lw_all := lw_g (lw_at lw_m6 110 rfl) rfl
theorem q1376 : (Jvm.Cond.instanceMethod ({ cls := "Versorhall", name := "versor", desc := "(I)I" } : Jvm.MethodName)) ∈ lw_all := lw_g (lw_at lw_m6 115 rfl) rfl
theorem q1377 : (Jvm.Cond.selects "Versorhall" ({ cls := "Versorhall", name := "versor", desc := "(I)I" } : Jvm.MethodName) ({ cls := "Versorhall", name := "versor", desc := "(I)I" } : Jvm.MethodName)) ∈ lw_all := lw_g (lw_at lw_m6 116 rfl) rfl
theorem q1378 : (Jvm.Cond.code ({ cls := "Versorhall", name := "versor", desc := "(I)I" } : Jvm.MethodName) prog_1_method_33_code (6 : Nat) (Option.some Jvm.ClassFile.FieldType.int)) ∈ lw_all := lw_g (lw_at lw_m6 117 rfl) rfl
theorem q1379 : (Jvm.Cond.methodLinkNest "Versorhall" (226 : Nat) ({ cls := "Versorhall$Element", name := "one", desc := "()LVersorhall$Element;" } : Jvm.MethodName) "Versorhall") ∈ lw_tbl := lw_at lw_m6 118 rfl
theorem q1384 : (Jvm.Cond.instanceMethod ({ cls := "Versorhall", name := "run", desc := "(II)I" } : Jvm.MethodName)) ∈ lw_all := lw_g (lw_at lw_m6 123 rfl) rfl
theorem q1385 : (Jvm.Cond.selects "Versorhall" ({ cls := "Versorhall", name := "run", desc := "(II)I" } : Jvm.MethodName) ({ cls := "Versorhall", name := "run", desc := "(II)I" } : Jvm.MethodName)) ∈ lw_all := lw_g (lw_at lw_m6 124 rfl) rfl
theorem q1386 : (Jvm.Cond.code ({ cls := "Versorhall", name := "run", desc := "(II)I" } : Jvm.MethodName) prog_1_method_34_code (6 : Nat) (Option.some Jvm.ClassFile.FieldType.int)) ∈ lw_all := lw_g (lw_at lw_m6 125 rfl) rfl
theorem q1387 : (Jvm.Cond.methodLink "Versorhall" (229 : Nat) ({ cls := "Versorhall", name := "step", desc := "(Ljava/util/ArrayList;LVersorhall$Algebra;I)V" } : Jvm.MethodName)) ∈ lw_all := lw_g (lw_at lw_m6 126 rfl) rfl
theorem q1388 : (Jvm.Cond.privateMethod ({ cls := "Versorhall", name := "step", desc := "(Ljava/util/ArrayList;LVersorhall$Algebra;I)V" } : Jvm.MethodName)) ∈ lw_tbl := lw_at lw_m6 127 rfl
theorem q1389 : (Jvm.Cond.instanceMethod ({ cls := "Versorhall", name := "step", desc := "(Ljava/util/ArrayList;LVersorhall$Algebra;I)V" } : Jvm.MethodName)) ∈ lw_all := lw_g (lw_at lw_m6 128 rfl) rfl
theorem q1390 : (Jvm.Cond.code ({ cls := "Versorhall", name := "step", desc := "(Ljava/util/ArrayList;LVersorhall$Algebra;I)V" } : Jvm.MethodName) prog_1_method_36_code (6 : Nat) (Option.none : Option Jvm.ClassFile.FieldType)) ∈ lw_all := lw_g (lw_at lw_m6 129 rfl) rfl
theorem q1391 : (Jvm.Cond.methodLink "Versorhall" (236 : Nat) ({ cls := "Versorhall", name := "pop", desc := "(Ljava/util/ArrayList;)LVersorhall$Element;" } : Jvm.MethodName)) ∈ lw_all := lw_g (lw_at lw_m6 130 rfl) rfl
theorem q1392 : (Jvm.Cond.static ({ cls := "Versorhall", name := "pop", desc := "(Ljava/util/ArrayList;)LVersorhall$Element;" } : Jvm.MethodName)) ∈ lw_all := lw_g (lw_at lw_m6 131 rfl) rfl
theorem q1393 : (Jvm.Cond.code ({ cls := "Versorhall", name := "pop", desc := "(Ljava/util/ArrayList;)LVersorhall$Element;" } : Jvm.MethodName) prog_1_method_35_code (1 : Nat) (Option.some (Jvm.ClassFile.FieldType.object "Versorhall$Element"))) ∈ lw_all := lw_g (lw_at lw_m6 132 rfl) rfl
theorem q1394 : (Jvm.Cond.methodLink "Versorhall" (233 : Nat) ({ cls := "java/util/ArrayList", name := "remove", desc := "(I)Ljava/lang/Object;" } : Jvm.MethodName)) ∈ lw_all := lw_g (lw_at lw_m6 133 rfl) rfl
theorem q1407 : (Jvm.Cond.instanceMethod ({ cls := "Versorhall", name := "at", desc := "(II)I" } : Jvm.MethodName)) ∈ lw_all := lw_g (lw_at lw_m6 146 rfl) rfl
theorem q1408 : (Jvm.Cond.selects "Versorhall" ({ cls := "Versorhall", name := "at", desc := "(II)I" } : Jvm.MethodName) ({ cls := "Versorhall", name := "at", desc := "(II)I" } : Jvm.MethodName)) ∈ lw_all := lw_g (lw_at lw_m6 147 rfl) rfl
theorem q1409 : (Jvm.Cond.code ({ cls := "Versorhall", name := "at", desc := "(II)I" } : Jvm.MethodName) prog_1_method_37_code (4 : Nat) (Option.some Jvm.ClassFile.FieldType.int)) ∈ lw_all := lw_g (lw_at lw_m6 148 rfl) rfl
theorem q1414 : (Jvm.Cond.instanceMethod ({ cls := "Versorhall", name := "ofElement", desc := "(II)I" } : Jvm.MethodName)) ∈ lw_all := lw_g (lw_at lw_m6 153 rfl) rfl
theorem q1415 : (Jvm.Cond.selects "Versorhall" ({ cls := "Versorhall", name := "ofElement", desc := "(II)I" } : Jvm.MethodName) ({ cls := "Versorhall", name := "ofElement", desc := "(II)I" } : Jvm.MethodName)) ∈ lw_all := lw_g (lw_at lw_m6 154 rfl) rfl
theorem q1416 : (Jvm.Cond.code ({ cls := "Versorhall", name := "ofElement", desc := "(II)I" } : Jvm.MethodName) prog_1_method_39_code (3 : Nat) (Option.some Jvm.ClassFile.FieldType.int)) ∈ lw_all := lw_g (lw_at lw_m6 155 rfl) rfl
theorem q1421 : (Jvm.Cond.instanceMethod ({ cls := "Versorhall", name := "text", desc := "(I)Ljava/lang/String;" } : Jvm.MethodName)) ∈ lw_all := lw_g (lw_at lw_m6 160 rfl) rfl
theorem q1422 : (Jvm.Cond.selects "Versorhall" ({ cls := "Versorhall", name := "text", desc := "(I)Ljava/lang/String;" } : Jvm.MethodName) ({ cls := "Versorhall", name := "text", desc := "(I)Ljava/lang/String;" } : Jvm.MethodName)) ∈ lw_all := lw_g (lw_at lw_m6 161 rfl) rfl
theorem q1423 : (Jvm.Cond.code ({ cls := "Versorhall", name := "text", desc := "(I)Ljava/lang/String;" } : Jvm.MethodName) prog_1_method_40_code (2 : Nat) (Option.some (Jvm.ClassFile.FieldType.object "java/lang/String"))) ∈ lw_all := lw_g (lw_at lw_m6 162 rfl) rfl
theorem q1428 : (Jvm.Cond.instanceMethod ({ cls := "Versorhall", name := "ofAlgebra", desc := "(II)I" } : Jvm.MethodName)) ∈ lw_all := lw_g (lw_at lw_m6 167 rfl) rfl
theorem q1429 : (Jvm.Cond.selects "Versorhall" ({ cls := "Versorhall", name := "ofAlgebra", desc := "(II)I" } : Jvm.MethodName) ({ cls := "Versorhall", name := "ofAlgebra", desc := "(II)I" } : Jvm.MethodName)) ∈ lw_all := lw_g (lw_at lw_m6 168 rfl) rfl
theorem q1430 : (Jvm.Cond.code ({ cls := "Versorhall", name := "ofAlgebra", desc := "(II)I" } : Jvm.MethodName) prog_1_method_42_code (3 : Nat) (Option.some Jvm.ClassFile.FieldType.int)) ∈ lw_all := lw_g (lw_at lw_m6 169 rfl) rfl
theorem q1435 : (Jvm.Cond.instanceMethod ({ cls := "Versorhall", name := "sign", desc := "(III)I" } : Jvm.MethodName)) ∈ lw_all := lw_g (lw_at lw_m6 174 rfl) rfl
theorem q1436 : (Jvm.Cond.selects "Versorhall" ({ cls := "Versorhall", name := "sign", desc := "(III)I" } : Jvm.MethodName) ({ cls := "Versorhall", name := "sign", desc := "(III)I" } : Jvm.MethodName)) ∈ lw_all := lw_g (lw_at lw_m6 175 rfl) rfl
theorem q1437 : (Jvm.Cond.code ({ cls := "Versorhall", name := "sign", desc := "(III)I" } : Jvm.MethodName) prog_1_method_43_code (5 : Nat) (Option.some Jvm.ClassFile.FieldType.int)) ∈ lw_all := lw_g (lw_at lw_m6 176 rfl) rfl
theorem q1442 : (Jvm.Cond.instanceMethod ({ cls := "Versorhall", name := "breaks", desc := "(II)I" } : Jvm.MethodName)) ∈ lw_all := lw_g (lw_at lw_m6 181 rfl) rfl
theorem q1443 : (Jvm.Cond.selects "Versorhall" ({ cls := "Versorhall", name := "breaks", desc := "(II)I" } : Jvm.MethodName) ({ cls := "Versorhall", name := "breaks", desc := "(II)I" } : Jvm.MethodName)) ∈ lw_all := lw_g (lw_at lw_m6 182 rfl) rfl
theorem q1444 : (Jvm.Cond.code ({ cls := "Versorhall", name := "breaks", desc := "(II)I" } : Jvm.MethodName) prog_1_method_44_code (4 : Nat) (Option.some Jvm.ClassFile.FieldType.int)) ∈ lw_all := lw_g (lw_at lw_m6 183 rfl) rfl
theorem q1449 : (Jvm.Cond.instanceMethod ({ cls := "Versorhall", name := "lean", desc := "(I)D" } : Jvm.MethodName)) ∈ lw_all := lw_g (lw_at lw_m6 188 rfl) rfl
theorem q1450 : (Jvm.Cond.selects "Versorhall" ({ cls := "Versorhall", name := "lean", desc := "(I)D" } : Jvm.MethodName) ({ cls := "Versorhall", name := "lean", desc := "(I)D" } : Jvm.MethodName)) ∈ lw_all := lw_g (lw_at lw_m6 189 rfl) rfl
theorem q1451 : (Jvm.Cond.code ({ cls := "Versorhall", name := "lean", desc := "(I)D" } : Jvm.MethodName) prog_1_method_46_code (2 : Nat) (Option.some Jvm.ClassFile.FieldType.double)) ∈ lw_all := lw_g (lw_at lw_m6 190 rfl) rfl
theorem q1456 : (Jvm.Cond.instanceMethod ({ cls := "Versorhall", name := "many", desc := "(I)I" } : Jvm.MethodName)) ∈ lw_all := lw_g (lw_at lw_m6 195 rfl) rfl
theorem q1457 : (Jvm.Cond.selects "Versorhall" ({ cls := "Versorhall", name := "many", desc := "(I)I" } : Jvm.MethodName) ({ cls := "Versorhall", name := "many", desc := "(I)I" } : Jvm.MethodName)) ∈ lw_all := lw_g (lw_at lw_m6 196 rfl) rfl
theorem q1458 : (Jvm.Cond.code ({ cls := "Versorhall", name := "many", desc := "(I)I" } : Jvm.MethodName) prog_1_method_52_code (2 : Nat) (Option.some Jvm.ClassFile.FieldType.int)) ∈ lw_all := lw_g (lw_at lw_m6 197 rfl) rfl
theorem q1463 : (Jvm.Cond.instanceMethod ({ cls := "Versorhall", name := "apart", desc := "(II)I" } : Jvm.MethodName)) ∈ lw_all := lw_g (lw_at lw_m6 202 rfl) rfl
theorem q1464 : (Jvm.Cond.selects "Versorhall" ({ cls := "Versorhall", name := "apart", desc := "(II)I" } : Jvm.MethodName) ({ cls := "Versorhall", name := "apart", desc := "(II)I" } : Jvm.MethodName)) ∈ lw_all := lw_g (lw_at lw_m6 203 rfl) rfl
theorem q1465 : (Jvm.Cond.code ({ cls := "Versorhall", name := "apart", desc := "(II)I" } : Jvm.MethodName) prog_1_method_53_code (5 : Nat) (Option.some Jvm.ClassFile.FieldType.int)) ∈ lw_all := lw_g (lw_at lw_m6 204 rfl) rfl
theorem q1470 : (Jvm.Cond.instanceMethod ({ cls := "Versorhall", name := "row", desc := "(II)I" } : Jvm.MethodName)) ∈ lw_all := lw_g (lw_at lw_m6 209 rfl) rfl
theorem q1471 : (Jvm.Cond.selects "Versorhall" ({ cls := "Versorhall", name := "row", desc := "(II)I" } : Jvm.MethodName) ({ cls := "Versorhall", name := "row", desc := "(II)I" } : Jvm.MethodName)) ∈ lw_all := lw_g (lw_at lw_m6 210 rfl) rfl
theorem q1472 : (Jvm.Cond.code ({ cls := "Versorhall", name := "row", desc := "(II)I" } : Jvm.MethodName) prog_1_method_54_code (4 : Nat) (Option.some Jvm.ClassFile.FieldType.int)) ∈ lw_all := lw_g (lw_at lw_m6 211 rfl) rfl
theorem q1477 : (Jvm.Cond.instanceMethod ({ cls := "Versorhall", name := "match", desc := "(II)I" } : Jvm.MethodName)) ∈ lw_all := lw_g (lw_at lw_m6 216 rfl) rfl
theorem q1478 : (Jvm.Cond.selects "Versorhall" ({ cls := "Versorhall", name := "match", desc := "(II)I" } : Jvm.MethodName) ({ cls := "Versorhall", name := "match", desc := "(II)I" } : Jvm.MethodName)) ∈ lw_all := lw_g (lw_at lw_m6 217 rfl) rfl
theorem q1479 : (Jvm.Cond.code ({ cls := "Versorhall", name := "match", desc := "(II)I" } : Jvm.MethodName) prog_1_method_58_code (3 : Nat) (Option.some Jvm.ClassFile.FieldType.int)) ∈ lw_all := lw_g (lw_at lw_m6 218 rfl) rfl
theorem q1484 : (Jvm.Cond.instanceMethod ({ cls := "Versorhall", name := "scaleOf", desc := "(III)I" } : Jvm.MethodName)) ∈ lw_all := lw_g (lw_at lw_m6 223 rfl) rfl
theorem q1485 : (Jvm.Cond.selects "Versorhall" ({ cls := "Versorhall", name := "scaleOf", desc := "(III)I" } : Jvm.MethodName) ({ cls := "Versorhall", name := "scaleOf", desc := "(III)I" } : Jvm.MethodName)) ∈ lw_all := lw_g (lw_at lw_m6 224 rfl) rfl
theorem q1486 : (Jvm.Cond.code ({ cls := "Versorhall", name := "scaleOf", desc := "(III)I" } : Jvm.MethodName) prog_1_method_59_code (8 : Nat) (Option.some Jvm.ClassFile.FieldType.int)) ∈ lw_all := lw_g (lw_at lw_m6 225 rfl) rfl
theorem q1964 : (Jvm.Cond.castable "Versorhall" "java/lang/Object") ∈ lw_tbl := lw_at lw_m8 223 rfl
theorem in_X1 : ∀ w ∈ wsX10, w ∈ lw_all := lw_in wsX10 [157, 159, 161, 163, 165, 167] (by decide +kernel) (by decide +kernel)
/-! Versorhall$Door -/
set_option maxRecDepth 100000
def RX2 : String := "Versorhall$Door"
def TX2 : u_T := fun k => match k with
  | _ => ("Versorhall$Door", "times", "I", false)
def tyX2 : Nat → FieldType := fun k => match k with
  | _ => .int
abbrev wsX20 : List Cond := u_ws RX2 TX2 1
theorem nmX2 : ∀ a, a < 1 → ∀ b, b < 1 → a ≠ b → (TX2 a).2.1 ≠ (TX2 b).2.1 := by decide +kernel
theorem tyX2_ok : ∀ k, k < 1 → parseFieldDescriptor (TX2 k).2.2.1 = some (tyX2 k) := by decide +kernel
abbrev cX2_init : ByteArray := prog_3_method_1_code
def yX2_init : MethodName := ⟨RX2, "<init>", "()V"⟩
theorem dX2_init_0 : decode cX2_init 0 = .ok (.aload_n 0, 1) := by decide +kernel
theorem dX2_init_1 : decode cX2_init 1 = .ok (.invokespecial 1, 3) := by decide +kernel
theorem dX2_init_4 : decode cX2_init 4 = .ok (.return_, 1) := by decide +kernel
theorem q66 : (Jvm.Cond.initialized "Versorhall$Door") ∈ lw_all := lw_g (lw_at lw_m1 5 rfl) rfl
theorem q140 : (Jvm.Cond.instantiable "Versorhall$Door" (1 : Nat)) ∈ lw_all := lw_g (lw_at lw_m1 79 rfl) rfl
theorem q142 : (Jvm.Cond.instanceMethod ({ cls := "Versorhall$Door", name := "<init>", desc := "()V" } : Jvm.MethodName)) ∈ lw_all := lw_g (lw_at lw_m1 81 rfl) rfl
theorem q143 : (Jvm.Cond.code ({ cls := "Versorhall$Door", name := "<init>", desc := "()V" } : Jvm.MethodName) prog_3_method_1_code (1 : Nat) (Option.none : Option Jvm.ClassFile.FieldType)) ∈ lw_all := lw_g (lw_at lw_m1 82 rfl) rfl
theorem q144 : (Jvm.Cond.methodLink "Versorhall$Door" (1 : Nat) ({ cls := "java/lang/Object", name := "<init>", desc := "()V" } : Jvm.MethodName)) ∈ lw_all := lw_g (lw_at lw_m1 83 rfl) rfl
theorem q146 : (Jvm.Cond.lays "Versorhall$Door" "Versorhall$Door" "times" "I") ∈ lw_all := lw_g (lw_at lw_m1 85 rfl) rfl
theorem q147 : (Jvm.Cond.soleField "Versorhall$Door" "times") ∈ lw_all := lw_g (lw_at lw_m1 86 rfl) rfl
theorem q148 : (Jvm.Cond.superclass "Versorhall$Door" "java/lang/Object") ∈ lw_all := lw_g (lw_at lw_m1 87 rfl) rfl
theorem q469 : (Jvm.Cond.selects "Versorhall$Door" ({ cls := "java/lang/Object", name := "equals", desc := "(Ljava/lang/Object;)Z" } : Jvm.MethodName) ({ cls := "java/lang/Object", name := "equals", desc := "(Ljava/lang/Object;)Z" } : Jvm.MethodName)) ∈ lw_all := lw_g (lw_at lw_m2 168 rfl) rfl
theorem q1002 : (Jvm.Cond.selects "Versorhall$Door" ({ cls := "java/lang/Object", name := "getClass", desc := "()Ljava/lang/Class;" } : Jvm.MethodName) ({ cls := "java/lang/Object", name := "getClass", desc := "()Ljava/lang/Class;" } : Jvm.MethodName)) ∈ lw_all := lw_g (lw_at lw_m4 221 rfl) rfl
theorem q1283 : (Jvm.Cond.selects "Versorhall$Door" ({ cls := "java/lang/Object", name := "notifyAll", desc := "()V" } : Jvm.MethodName) ({ cls := "java/lang/Object", name := "notifyAll", desc := "()V" } : Jvm.MethodName)) ∈ lw_all := lw_g (lw_at lw_m6 22 rfl) rfl
theorem q1333 : (Jvm.Cond.selects "Versorhall$Door" ({ cls := "java/lang/Object", name := "notify", desc := "()V" } : Jvm.MethodName) ({ cls := "java/lang/Object", name := "notify", desc := "()V" } : Jvm.MethodName)) ∈ lw_all := lw_g (lw_at lw_m6 72 rfl) rfl
theorem q1966 : (Jvm.Cond.castable "Versorhall$Door" "java/lang/Object") ∈ lw_tbl := lw_at lw_m8 225 rfl
theorem in_X2 : ∀ w ∈ wsX20, w ∈ lw_all := lw_in wsX20 [146] (by decide +kernel) (by decide +kernel)
/-! Versorhall$Algebra -/
set_option maxRecDepth 100000
def RX5 : String := "Versorhall$Algebra"
def TX5 : u_T := fun k => match k with
  | 0 => ("Versorhall$Algebra", "kind", "LVersorhall$Kind;", true)
  | 1 => ("Versorhall$Algebra", "dials", "Ljava/util/ArrayList;", true)
  | 2 => ("Versorhall$Algebra", "mirrors", "Ljava/util/ArrayList;", true)
  | 3 => ("Versorhall$Algebra", "signs", "[[I", false)
  | _ => ("Versorhall$Algebra", "this$0", "LVersorhall;", true)
def tyX5 : Nat → FieldType := fun k => match k with
  | 0 => .object "Versorhall$Kind"
  | 1 => .object "java/util/ArrayList"
  | 2 => .object "java/util/ArrayList"
  | 3 => .array (.array .int)
  | _ => .object "Versorhall"
abbrev wsX50 : List Cond := u_ws RX5 TX5 5
theorem nmX5 : ∀ a, a < 5 → ∀ b, b < 5 → a ≠ b → (TX5 a).2.1 ≠ (TX5 b).2.1 := by decide +kernel
theorem tyX5_ok : ∀ k, k < 5 → parseFieldDescriptor (TX5 k).2.2.1 = some (tyX5 k) := by decide +kernel
abbrev cX5_units : ByteArray := prog_2_method_2_code
def yX5_units : MethodName := ⟨RX5, "units", "()I"⟩
def dkwX5_units_0 : List UInt8 := [4, 42, 180, 0, 18, 182, 0, 35, 120, 172]
abbrev dktX5_units_0 : List UInt8 := dkwX5_units_0 ++ []
theorem dksX5_units_0 : cX5_units.data.toList.drop 0 = dktX5_units_0 := by decide +kernel
theorem dX5_units_0 : decode cX5_units 0 = .ok (.iconst 1, 1) := dk_4 (dk_at dksX5_units_0 0 rfl rfl)
theorem dX5_units_1 : decode cX5_units 1 = .ok (.aload_n 0, 1) := dk_42 (dk_at dksX5_units_0 1 rfl rfl)
theorem dX5_units_2 : decode cX5_units 2 = .ok (.getfield 18, 3) := dk_180 0 18 (dk_at dksX5_units_0 2 rfl rfl)
theorem dX5_units_5 : decode cX5_units 5 = .ok (.invokevirtual 35, 3) := dk_182 0 35 (dk_at dksX5_units_0 5 rfl rfl)
theorem dX5_units_8 : decode cX5_units 8 = .ok (.ishl, 1) := dk_120 (dk_at dksX5_units_0 8 rfl rfl)
theorem dX5_units_9 : decode cX5_units 9 = .ok (.ireturn, 1) := dk_172 (dk_at dksX5_units_0 9 rfl rfl)
abbrev cX5_centre : ByteArray := prog_2_method_6_code
def yX5_centre : MethodName := ⟨RX5, "centre", "()I"⟩
def dkwX5_centre_2 : List UInt8 := [4, 28, 120, 128, 60, 132, 2, 1, 167, 255, 205, 27, 172]
abbrev dktX5_centre_2 : List UInt8 := dkwX5_centre_2 ++ []
def dkwX5_centre_1 : List UInt8 := [162, 0, 19, 29, 42, 28, 21, 4, 182, 0, 66, 126, 62, 132, 4, 1, 167, 255, 234, 29, 153, 0, 9, 27]
abbrev dktX5_centre_1 : List UInt8 := dkwX5_centre_1 ++ dktX5_centre_2
def dkwX5_centre_0 : List UInt8 := [3, 60, 3, 61, 28, 42, 182, 0, 49, 162, 0, 49, 4, 62, 3, 54, 4, 21, 4, 42, 182, 0, 49]
abbrev dktX5_centre_0 : List UInt8 := dkwX5_centre_0 ++ dktX5_centre_1
theorem dksX5_centre_0 : cX5_centre.data.toList.drop 0 = dktX5_centre_0 := by decide +kernel
theorem dksX5_centre_1 : cX5_centre.data.toList.drop 23 = dktX5_centre_1 := dk_seg dksX5_centre_0 23 rfl rfl
theorem dksX5_centre_2 : cX5_centre.data.toList.drop 47 = dktX5_centre_2 := dk_seg dksX5_centre_1 24 rfl rfl
theorem dX5_centre_0 : decode cX5_centre 0 = .ok (.iconst 0, 1) := dk_3 (dk_at dksX5_centre_0 0 rfl rfl)
theorem dX5_centre_1 : decode cX5_centre 1 = .ok (.istore_n 1, 1) := dk_60 (dk_at dksX5_centre_0 1 rfl rfl)
theorem dX5_centre_2 : decode cX5_centre 2 = .ok (.iconst 0, 1) := dk_3 (dk_at dksX5_centre_0 2 rfl rfl)
theorem dX5_centre_3 : decode cX5_centre 3 = .ok (.istore_n 2, 1) := dk_61 (dk_at dksX5_centre_0 3 rfl rfl)
theorem dX5_centre_4 : decode cX5_centre 4 = .ok (.iload_n 2, 1) := dk_28 (dk_at dksX5_centre_0 4 rfl rfl)
theorem dX5_centre_5 : decode cX5_centre 5 = .ok (.aload_n 0, 1) := dk_42 (dk_at dksX5_centre_0 5 rfl rfl)
theorem dX5_centre_6 : decode cX5_centre 6 = .ok (.invokevirtual 49, 3) := dk_182 0 49 (dk_at dksX5_centre_0 6 rfl rfl)
theorem dX5_centre_9 : decode cX5_centre 9 = .ok (.if_icmp .ge 49, 3) := dk_162 0 49 (dk_at dksX5_centre_0 9 rfl rfl)
theorem dX5_centre_12 : decode cX5_centre 12 = .ok (.iconst 1, 1) := dk_4 (dk_at dksX5_centre_0 12 rfl rfl)
theorem dX5_centre_13 : decode cX5_centre 13 = .ok (.istore_n 3, 1) := dk_62 (dk_at dksX5_centre_0 13 rfl rfl)
theorem dX5_centre_14 : decode cX5_centre 14 = .ok (.iconst 0, 1) := dk_3 (dk_at dksX5_centre_0 14 rfl rfl)
theorem dX5_centre_15 : decode cX5_centre 15 = .ok (.istore 4, 2) := dk_54 4 (dk_at dksX5_centre_0 15 rfl rfl)
theorem dX5_centre_17 : decode cX5_centre 17 = .ok (.iload 4, 2) := dk_21 4 (dk_at dksX5_centre_0 17 rfl rfl)
theorem dX5_centre_19 : decode cX5_centre 19 = .ok (.aload_n 0, 1) := dk_42 (dk_at dksX5_centre_0 19 rfl rfl)
theorem dX5_centre_20 : decode cX5_centre 20 = .ok (.invokevirtual 49, 3) := dk_182 0 49 (dk_at dksX5_centre_0 20 rfl rfl)
theorem dX5_centre_23 : decode cX5_centre 23 = .ok (.if_icmp .ge 19, 3) := dk_162 0 19 (dk_at dksX5_centre_1 0 rfl rfl)
theorem dX5_centre_26 : decode cX5_centre 26 = .ok (.iload_n 3, 1) := dk_29 (dk_at dksX5_centre_1 3 rfl rfl)
theorem dX5_centre_27 : decode cX5_centre 27 = .ok (.aload_n 0, 1) := dk_42 (dk_at dksX5_centre_1 4 rfl rfl)
theorem dX5_centre_28 : decode cX5_centre 28 = .ok (.iload_n 2, 1) := dk_28 (dk_at dksX5_centre_1 5 rfl rfl)
theorem dX5_centre_29 : decode cX5_centre 29 = .ok (.iload 4, 2) := dk_21 4 (dk_at dksX5_centre_1 6 rfl rfl)
theorem dX5_centre_31 : decode cX5_centre 31 = .ok (.invokevirtual 66, 3) := dk_182 0 66 (dk_at dksX5_centre_1 8 rfl rfl)
theorem dX5_centre_34 : decode cX5_centre 34 = .ok (.iand, 1) := dk_126 (dk_at dksX5_centre_1 11 rfl rfl)
theorem dX5_centre_35 : decode cX5_centre 35 = .ok (.istore_n 3, 1) := dk_62 (dk_at dksX5_centre_1 12 rfl rfl)
theorem dX5_centre_36 : decode cX5_centre 36 = .ok (.iinc 4 1, 3) := dk_132 4 1 (dk_at dksX5_centre_1 13 rfl rfl)
theorem dX5_centre_39 : decode cX5_centre 39 = .ok (.goto (-22), 3) := dk_167 255 234 (dk_at dksX5_centre_1 16 rfl rfl)
theorem dX5_centre_42 : decode cX5_centre 42 = .ok (.iload_n 3, 1) := dk_29 (dk_at dksX5_centre_1 19 rfl rfl)
theorem dX5_centre_43 : decode cX5_centre 43 = .ok (.ifCond .eq 9, 3) := dk_153 0 9 (dk_at dksX5_centre_1 20 rfl rfl)
theorem dX5_centre_46 : decode cX5_centre 46 = .ok (.iload_n 1, 1) := dk_27 (dk_at dksX5_centre_1 23 rfl rfl)
theorem dX5_centre_47 : decode cX5_centre 47 = .ok (.iconst 1, 1) := dk_4 (dk_at dksX5_centre_2 0 rfl rfl)
theorem dX5_centre_48 : decode cX5_centre 48 = .ok (.iload_n 2, 1) := dk_28 (dk_at dksX5_centre_2 1 rfl rfl)
theorem dX5_centre_49 : decode cX5_centre 49 = .ok (.ishl, 1) := dk_120 (dk_at dksX5_centre_2 2 rfl rfl)
theorem dX5_centre_50 : decode cX5_centre 50 = .ok (.ior, 1) := dk_128 (dk_at dksX5_centre_2 3 rfl rfl)
theorem dX5_centre_51 : decode cX5_centre 51 = .ok (.istore_n 1, 1) := dk_60 (dk_at dksX5_centre_2 4 rfl rfl)
theorem dX5_centre_52 : decode cX5_centre 52 = .ok (.iinc 2 1, 3) := dk_132 2 1 (dk_at dksX5_centre_2 5 rfl rfl)
theorem dX5_centre_55 : decode cX5_centre 55 = .ok (.goto (-51), 3) := dk_167 255 205 (dk_at dksX5_centre_2 8 rfl rfl)
theorem dX5_centre_58 : decode cX5_centre 58 = .ok (.iload_n 1, 1) := dk_27 (dk_at dksX5_centre_2 11 rfl rfl)
theorem dX5_centre_59 : decode cX5_centre 59 = .ok (.ireturn, 1) := dk_172 (dk_at dksX5_centre_2 12 rfl rfl)
abbrev cX5_commute : ByteArray := prog_2_method_5_code
def yX5_commute : MethodName := ⟨RX5, "commute", "(II)Z"⟩
def dkwX5_commute_1 : List UInt8 := [172]
abbrev dktX5_commute_1 : List UInt8 := dkwX5_commute_1 ++ []
def dkwX5_commute_0 : List UInt8 := [42, 180, 0, 27, 27, 50, 28, 46, 42, 180, 0, 27, 28, 50, 27, 46, 160, 0, 7, 4, 167, 0, 4, 3]
abbrev dktX5_commute_0 : List UInt8 := dkwX5_commute_0 ++ dktX5_commute_1
theorem dksX5_commute_0 : cX5_commute.data.toList.drop 0 = dktX5_commute_0 := by decide +kernel
theorem dksX5_commute_1 : cX5_commute.data.toList.drop 24 = dktX5_commute_1 := dk_seg dksX5_commute_0 24 rfl rfl
theorem dX5_commute_0 : decode cX5_commute 0 = .ok (.aload_n 0, 1) := dk_42 (dk_at dksX5_commute_0 0 rfl rfl)
theorem dX5_commute_1 : decode cX5_commute 1 = .ok (.getfield 27, 3) := dk_180 0 27 (dk_at dksX5_commute_0 1 rfl rfl)
theorem dX5_commute_4 : decode cX5_commute 4 = .ok (.iload_n 1, 1) := dk_27 (dk_at dksX5_commute_0 4 rfl rfl)
theorem dX5_commute_5 : decode cX5_commute 5 = .ok (.aaload, 1) := dk_50 (dk_at dksX5_commute_0 5 rfl rfl)
theorem dX5_commute_6 : decode cX5_commute 6 = .ok (.iload_n 2, 1) := dk_28 (dk_at dksX5_commute_0 6 rfl rfl)
theorem dX5_commute_7 : decode cX5_commute 7 = .ok (.iaload, 1) := dk_46 (dk_at dksX5_commute_0 7 rfl rfl)
theorem dX5_commute_8 : decode cX5_commute 8 = .ok (.aload_n 0, 1) := dk_42 (dk_at dksX5_commute_0 8 rfl rfl)
theorem dX5_commute_9 : decode cX5_commute 9 = .ok (.getfield 27, 3) := dk_180 0 27 (dk_at dksX5_commute_0 9 rfl rfl)
theorem dX5_commute_12 : decode cX5_commute 12 = .ok (.iload_n 2, 1) := dk_28 (dk_at dksX5_commute_0 12 rfl rfl)
theorem dX5_commute_13 : decode cX5_commute 13 = .ok (.aaload, 1) := dk_50 (dk_at dksX5_commute_0 13 rfl rfl)
theorem dX5_commute_14 : decode cX5_commute 14 = .ok (.iload_n 1, 1) := dk_27 (dk_at dksX5_commute_0 14 rfl rfl)
theorem dX5_commute_15 : decode cX5_commute 15 = .ok (.iaload, 1) := dk_46 (dk_at dksX5_commute_0 15 rfl rfl)
theorem dX5_commute_16 : decode cX5_commute 16 = .ok (.if_icmp .ne 7, 3) := dk_160 0 7 (dk_at dksX5_commute_0 16 rfl rfl)
theorem dX5_commute_19 : decode cX5_commute 19 = .ok (.iconst 1, 1) := dk_4 (dk_at dksX5_commute_0 19 rfl rfl)
theorem dX5_commute_20 : decode cX5_commute 20 = .ok (.goto 4, 3) := dk_167 0 4 (dk_at dksX5_commute_0 20 rfl rfl)
theorem dX5_commute_23 : decode cX5_commute 23 = .ok (.iconst 0, 1) := dk_3 (dk_at dksX5_commute_0 23 rfl rfl)
theorem dX5_commute_24 : decode cX5_commute 24 = .ok (.ireturn, 1) := dk_172 (dk_at dksX5_commute_1 0 rfl rfl)
abbrev cX5_breaks : ByteArray := prog_2_method_9_code
def yX5_breaks : MethodName := ⟨RX5, "breaks", "(I)I"⟩
def dkwX5_breaks_4 : List UInt8 := [132, 3, 1, 167, 255, 173, 132, 2, 1, 167, 255, 157, 2, 172]
abbrev dktX5_breaks_4 : List UInt8 := dkwX5_breaks_4 ++ []
def dkwX5_breaks_3 : List UInt8 := [154, 0, 17, 17, 1, 0, 28, 104, 16, 16, 29, 104, 96, 21, 4, 96, 172, 132, 4, 1, 167, 255, 214]
abbrev dktX5_breaks_3 : List UInt8 := dkwX5_breaks_3 ++ dktX5_breaks_4
def dkwX5_breaks_2 : List UInt8 := [21, 4, 42, 182, 0, 49, 162, 0, 39, 27, 158, 0, 35, 42, 27, 28, 29, 21, 4, 182, 0, 74]
abbrev dktX5_breaks_2 : List UInt8 := dkwX5_breaks_2 ++ dktX5_breaks_3
def dkwX5_breaks_1 : List UInt8 := [42, 28, 29, 182, 0, 66, 154, 0, 14, 17, 1, 0, 28, 104, 16, 16, 29, 104, 96, 172, 3, 54, 4]
abbrev dktX5_breaks_1 : List UInt8 := dkwX5_breaks_1 ++ dktX5_breaks_2
def dkwX5_breaks_0 : List UInt8 := [3, 61, 28, 42, 182, 0, 49, 162, 0, 97, 3, 62, 29, 42, 182, 0, 49, 162, 0, 81, 27, 154, 0, 23]
abbrev dktX5_breaks_0 : List UInt8 := dkwX5_breaks_0 ++ dktX5_breaks_1
theorem dksX5_breaks_0 : cX5_breaks.data.toList.drop 0 = dktX5_breaks_0 := by decide +kernel
theorem dksX5_breaks_1 : cX5_breaks.data.toList.drop 24 = dktX5_breaks_1 := dk_seg dksX5_breaks_0 24 rfl rfl
theorem dksX5_breaks_2 : cX5_breaks.data.toList.drop 47 = dktX5_breaks_2 := dk_seg dksX5_breaks_1 23 rfl rfl
theorem dksX5_breaks_3 : cX5_breaks.data.toList.drop 69 = dktX5_breaks_3 := dk_seg dksX5_breaks_2 22 rfl rfl
theorem dksX5_breaks_4 : cX5_breaks.data.toList.drop 92 = dktX5_breaks_4 := dk_seg dksX5_breaks_3 23 rfl rfl
theorem dX5_breaks_0 : decode cX5_breaks 0 = .ok (.iconst 0, 1) := dk_3 (dk_at dksX5_breaks_0 0 rfl rfl)
theorem dX5_breaks_1 : decode cX5_breaks 1 = .ok (.istore_n 2, 1) := dk_61 (dk_at dksX5_breaks_0 1 rfl rfl)
theorem dX5_breaks_2 : decode cX5_breaks 2 = .ok (.iload_n 2, 1) := dk_28 (dk_at dksX5_breaks_0 2 rfl rfl)
theorem dX5_breaks_3 : decode cX5_breaks 3 = .ok (.aload_n 0, 1) := dk_42 (dk_at dksX5_breaks_0 3 rfl rfl)
theorem dX5_breaks_4 : decode cX5_breaks 4 = .ok (.invokevirtual 49, 3) := dk_182 0 49 (dk_at dksX5_breaks_0 4 rfl rfl)
theorem dX5_breaks_7 : decode cX5_breaks 7 = .ok (.if_icmp .ge 97, 3) := dk_162 0 97 (dk_at dksX5_breaks_0 7 rfl rfl)
theorem dX5_breaks_10 : decode cX5_breaks 10 = .ok (.iconst 0, 1) := dk_3 (dk_at dksX5_breaks_0 10 rfl rfl)
theorem dX5_breaks_11 : decode cX5_breaks 11 = .ok (.istore_n 3, 1) := dk_62 (dk_at dksX5_breaks_0 11 rfl rfl)
theorem dX5_breaks_12 : decode cX5_breaks 12 = .ok (.iload_n 3, 1) := dk_29 (dk_at dksX5_breaks_0 12 rfl rfl)
theorem dX5_breaks_13 : decode cX5_breaks 13 = .ok (.aload_n 0, 1) := dk_42 (dk_at dksX5_breaks_0 13 rfl rfl)
theorem dX5_breaks_14 : decode cX5_breaks 14 = .ok (.invokevirtual 49, 3) := dk_182 0 49 (dk_at dksX5_breaks_0 14 rfl rfl)
theorem dX5_breaks_17 : decode cX5_breaks 17 = .ok (.if_icmp .ge 81, 3) := dk_162 0 81 (dk_at dksX5_breaks_0 17 rfl rfl)
theorem dX5_breaks_20 : decode cX5_breaks 20 = .ok (.iload_n 1, 1) := dk_27 (dk_at dksX5_breaks_0 20 rfl rfl)
theorem dX5_breaks_21 : decode cX5_breaks 21 = .ok (.ifCond .ne 23, 3) := dk_154 0 23 (dk_at dksX5_breaks_0 21 rfl rfl)
theorem dX5_breaks_24 : decode cX5_breaks 24 = .ok (.aload_n 0, 1) := dk_42 (dk_at dksX5_breaks_1 0 rfl rfl)
theorem dX5_breaks_25 : decode cX5_breaks 25 = .ok (.iload_n 2, 1) := dk_28 (dk_at dksX5_breaks_1 1 rfl rfl)
theorem dX5_breaks_26 : decode cX5_breaks 26 = .ok (.iload_n 3, 1) := dk_29 (dk_at dksX5_breaks_1 2 rfl rfl)
theorem dX5_breaks_27 : decode cX5_breaks 27 = .ok (.invokevirtual 66, 3) := dk_182 0 66 (dk_at dksX5_breaks_1 3 rfl rfl)
theorem dX5_breaks_30 : decode cX5_breaks 30 = .ok (.ifCond .ne 14, 3) := dk_154 0 14 (dk_at dksX5_breaks_1 6 rfl rfl)
theorem dX5_breaks_33 : decode cX5_breaks 33 = .ok (.sipush 256, 3) := dk_17 1 0 (dk_at dksX5_breaks_1 9 rfl rfl)
theorem dX5_breaks_36 : decode cX5_breaks 36 = .ok (.iload_n 2, 1) := dk_28 (dk_at dksX5_breaks_1 12 rfl rfl)
theorem dX5_breaks_37 : decode cX5_breaks 37 = .ok (.imul, 1) := dk_104 (dk_at dksX5_breaks_1 13 rfl rfl)
theorem dX5_breaks_38 : decode cX5_breaks 38 = .ok (.bipush 16, 2) := dk_16 16 (dk_at dksX5_breaks_1 14 rfl rfl)
theorem dX5_breaks_40 : decode cX5_breaks 40 = .ok (.iload_n 3, 1) := dk_29 (dk_at dksX5_breaks_1 16 rfl rfl)
theorem dX5_breaks_41 : decode cX5_breaks 41 = .ok (.imul, 1) := dk_104 (dk_at dksX5_breaks_1 17 rfl rfl)
theorem dX5_breaks_42 : decode cX5_breaks 42 = .ok (.iadd, 1) := dk_96 (dk_at dksX5_breaks_1 18 rfl rfl)
theorem dX5_breaks_43 : decode cX5_breaks 43 = .ok (.ireturn, 1) := dk_172 (dk_at dksX5_breaks_1 19 rfl rfl)
theorem dX5_breaks_44 : decode cX5_breaks 44 = .ok (.iconst 0, 1) := dk_3 (dk_at dksX5_breaks_1 20 rfl rfl)
theorem dX5_breaks_45 : decode cX5_breaks 45 = .ok (.istore 4, 2) := dk_54 4 (dk_at dksX5_breaks_1 21 rfl rfl)
theorem dX5_breaks_47 : decode cX5_breaks 47 = .ok (.iload 4, 2) := dk_21 4 (dk_at dksX5_breaks_2 0 rfl rfl)
theorem dX5_breaks_49 : decode cX5_breaks 49 = .ok (.aload_n 0, 1) := dk_42 (dk_at dksX5_breaks_2 2 rfl rfl)
theorem dX5_breaks_50 : decode cX5_breaks 50 = .ok (.invokevirtual 49, 3) := dk_182 0 49 (dk_at dksX5_breaks_2 3 rfl rfl)
theorem dX5_breaks_53 : decode cX5_breaks 53 = .ok (.if_icmp .ge 39, 3) := dk_162 0 39 (dk_at dksX5_breaks_2 6 rfl rfl)
theorem dX5_breaks_56 : decode cX5_breaks 56 = .ok (.iload_n 1, 1) := dk_27 (dk_at dksX5_breaks_2 9 rfl rfl)
theorem dX5_breaks_57 : decode cX5_breaks 57 = .ok (.ifCond .le 35, 3) := dk_158 0 35 (dk_at dksX5_breaks_2 10 rfl rfl)
theorem dX5_breaks_60 : decode cX5_breaks 60 = .ok (.aload_n 0, 1) := dk_42 (dk_at dksX5_breaks_2 13 rfl rfl)
theorem dX5_breaks_61 : decode cX5_breaks 61 = .ok (.iload_n 1, 1) := dk_27 (dk_at dksX5_breaks_2 14 rfl rfl)
theorem dX5_breaks_62 : decode cX5_breaks 62 = .ok (.iload_n 2, 1) := dk_28 (dk_at dksX5_breaks_2 15 rfl rfl)
theorem dX5_breaks_63 : decode cX5_breaks 63 = .ok (.iload_n 3, 1) := dk_29 (dk_at dksX5_breaks_2 16 rfl rfl)
theorem dX5_breaks_64 : decode cX5_breaks 64 = .ok (.iload 4, 2) := dk_21 4 (dk_at dksX5_breaks_2 17 rfl rfl)
theorem dX5_breaks_66 : decode cX5_breaks 66 = .ok (.invokevirtual 74, 3) := dk_182 0 74 (dk_at dksX5_breaks_2 19 rfl rfl)
theorem dX5_breaks_69 : decode cX5_breaks 69 = .ok (.ifCond .ne 17, 3) := dk_154 0 17 (dk_at dksX5_breaks_3 0 rfl rfl)
theorem dX5_breaks_72 : decode cX5_breaks 72 = .ok (.sipush 256, 3) := dk_17 1 0 (dk_at dksX5_breaks_3 3 rfl rfl)
theorem dX5_breaks_75 : decode cX5_breaks 75 = .ok (.iload_n 2, 1) := dk_28 (dk_at dksX5_breaks_3 6 rfl rfl)
theorem dX5_breaks_76 : decode cX5_breaks 76 = .ok (.imul, 1) := dk_104 (dk_at dksX5_breaks_3 7 rfl rfl)
theorem dX5_breaks_77 : decode cX5_breaks 77 = .ok (.bipush 16, 2) := dk_16 16 (dk_at dksX5_breaks_3 8 rfl rfl)
theorem dX5_breaks_79 : decode cX5_breaks 79 = .ok (.iload_n 3, 1) := dk_29 (dk_at dksX5_breaks_3 10 rfl rfl)
theorem dX5_breaks_80 : decode cX5_breaks 80 = .ok (.imul, 1) := dk_104 (dk_at dksX5_breaks_3 11 rfl rfl)
theorem dX5_breaks_81 : decode cX5_breaks 81 = .ok (.iadd, 1) := dk_96 (dk_at dksX5_breaks_3 12 rfl rfl)
theorem dX5_breaks_82 : decode cX5_breaks 82 = .ok (.iload 4, 2) := dk_21 4 (dk_at dksX5_breaks_3 13 rfl rfl)
theorem dX5_breaks_84 : decode cX5_breaks 84 = .ok (.iadd, 1) := dk_96 (dk_at dksX5_breaks_3 15 rfl rfl)
theorem dX5_breaks_85 : decode cX5_breaks 85 = .ok (.ireturn, 1) := dk_172 (dk_at dksX5_breaks_3 16 rfl rfl)
theorem dX5_breaks_86 : decode cX5_breaks 86 = .ok (.iinc 4 1, 3) := dk_132 4 1 (dk_at dksX5_breaks_3 17 rfl rfl)
theorem dX5_breaks_89 : decode cX5_breaks 89 = .ok (.goto (-42), 3) := dk_167 255 214 (dk_at dksX5_breaks_3 20 rfl rfl)
theorem dX5_breaks_92 : decode cX5_breaks 92 = .ok (.iinc 3 1, 3) := dk_132 3 1 (dk_at dksX5_breaks_4 0 rfl rfl)
theorem dX5_breaks_95 : decode cX5_breaks 95 = .ok (.goto (-83), 3) := dk_167 255 173 (dk_at dksX5_breaks_4 3 rfl rfl)
theorem dX5_breaks_98 : decode cX5_breaks 98 = .ok (.iinc 2 1, 3) := dk_132 2 1 (dk_at dksX5_breaks_4 6 rfl rfl)
theorem dX5_breaks_101 : decode cX5_breaks 101 = .ok (.goto (-99), 3) := dk_167 255 157 (dk_at dksX5_breaks_4 9 rfl rfl)
theorem dX5_breaks_104 : decode cX5_breaks 104 = .ok (.iconst (-1), 1) := dk_2 (dk_at dksX5_breaks_4 12 rfl rfl)
theorem dX5_breaks_105 : decode cX5_breaks 105 = .ok (.ireturn, 1) := dk_172 (dk_at dksX5_breaks_4 13 rfl rfl)
abbrev cX5_isKept : ByteArray := prog_2_method_8_code
def yX5_isKept : MethodName := ⟨RX5, "isKept", "(IIII)Z"⟩
def dkwX5_isKept_5 : List UInt8 := [154, 0, 7, 4, 167, 0, 4, 3, 172]
abbrev dktX5_isKept_5 : List UInt8 := dkwX5_isKept_5 ++ []
def dkwX5_isKept_4 : List UInt8 := [180, 0, 3, 42, 28, 29, 21, 4, 182, 0, 70, 42, 28, 21, 4, 29, 182, 0, 70, 96, 182, 0, 59]
abbrev dktX5_isKept_4 : List UInt8 := dkwX5_isKept_4 ++ dktX5_isKept_5
def dkwX5_isKept_3 : List UInt8 := [42, 28, 29, 21, 4, 182, 0, 70, 42, 29, 28, 21, 4, 182, 0, 70, 96, 182, 0, 59, 154, 0, 34, 42]
abbrev dktX5_isKept_3 : List UInt8 := dkwX5_isKept_3 ++ dktX5_isKept_4
def dkwX5_isKept_2 : List UInt8 := [21, 4, 29, 28, 182, 0, 70, 96, 182, 0, 59, 154, 0, 7, 4, 167, 0, 4, 3, 172, 42, 180, 0, 3]
abbrev dktX5_isKept_2 : List UInt8 := dkwX5_isKept_2 ++ dktX5_isKept_3
def dkwX5_isKept_1 : List UInt8 := [167, 0, 4, 3, 172, 27, 6, 160, 0, 36, 42, 180, 0, 3, 42, 28, 29, 21, 4, 182, 0, 70, 42]
abbrev dktX5_isKept_1 : List UInt8 := dkwX5_isKept_1 ++ dktX5_isKept_2
def dkwX5_isKept_0 : List UInt8 := [27, 4, 160, 0, 27, 42, 180, 0, 3, 42, 28, 29, 21, 4, 182, 0, 70, 182, 0, 59, 154, 0, 7, 4]
abbrev dktX5_isKept_0 : List UInt8 := dkwX5_isKept_0 ++ dktX5_isKept_1
theorem dksX5_isKept_0 : cX5_isKept.data.toList.drop 0 = dktX5_isKept_0 := by decide +kernel
theorem dksX5_isKept_1 : cX5_isKept.data.toList.drop 24 = dktX5_isKept_1 := dk_seg dksX5_isKept_0 24 rfl rfl
theorem dksX5_isKept_2 : cX5_isKept.data.toList.drop 47 = dktX5_isKept_2 := dk_seg dksX5_isKept_1 23 rfl rfl
theorem dksX5_isKept_3 : cX5_isKept.data.toList.drop 71 = dktX5_isKept_3 := dk_seg dksX5_isKept_2 24 rfl rfl
theorem dksX5_isKept_4 : cX5_isKept.data.toList.drop 95 = dktX5_isKept_4 := dk_seg dksX5_isKept_3 24 rfl rfl
theorem dksX5_isKept_5 : cX5_isKept.data.toList.drop 118 = dktX5_isKept_5 := dk_seg dksX5_isKept_4 23 rfl rfl
theorem dX5_isKept_0 : decode cX5_isKept 0 = .ok (.iload_n 1, 1) := dk_27 (dk_at dksX5_isKept_0 0 rfl rfl)
theorem dX5_isKept_1 : decode cX5_isKept 1 = .ok (.iconst 1, 1) := dk_4 (dk_at dksX5_isKept_0 1 rfl rfl)
theorem dX5_isKept_2 : decode cX5_isKept 2 = .ok (.if_icmp .ne 27, 3) := dk_160 0 27 (dk_at dksX5_isKept_0 2 rfl rfl)
theorem dX5_isKept_5 : decode cX5_isKept 5 = .ok (.aload_n 0, 1) := dk_42 (dk_at dksX5_isKept_0 5 rfl rfl)
theorem dX5_isKept_6 : decode cX5_isKept 6 = .ok (.getfield 3, 3) := dk_180 0 3 (dk_at dksX5_isKept_0 6 rfl rfl)
theorem dX5_isKept_9 : decode cX5_isKept 9 = .ok (.aload_n 0, 1) := dk_42 (dk_at dksX5_isKept_0 9 rfl rfl)
theorem dX5_isKept_10 : decode cX5_isKept 10 = .ok (.iload_n 2, 1) := dk_28 (dk_at dksX5_isKept_0 10 rfl rfl)
theorem dX5_isKept_11 : decode cX5_isKept 11 = .ok (.iload_n 3, 1) := dk_29 (dk_at dksX5_isKept_0 11 rfl rfl)
theorem dX5_isKept_12 : decode cX5_isKept 12 = .ok (.iload 4, 2) := dk_21 4 (dk_at dksX5_isKept_0 12 rfl rfl)
theorem dX5_isKept_14 : decode cX5_isKept 14 = .ok (.invokevirtual 70, 3) := dk_182 0 70 (dk_at dksX5_isKept_0 14 rfl rfl)
theorem dX5_isKept_17 : decode cX5_isKept 17 = .ok (.invokevirtual 59, 3) := dk_182 0 59 (dk_at dksX5_isKept_0 17 rfl rfl)
theorem dX5_isKept_20 : decode cX5_isKept 20 = .ok (.ifCond .ne 7, 3) := dk_154 0 7 (dk_at dksX5_isKept_0 20 rfl rfl)
theorem dX5_isKept_23 : decode cX5_isKept 23 = .ok (.iconst 1, 1) := dk_4 (dk_at dksX5_isKept_0 23 rfl rfl)
theorem dX5_isKept_24 : decode cX5_isKept 24 = .ok (.goto 4, 3) := dk_167 0 4 (dk_at dksX5_isKept_1 0 rfl rfl)
theorem dX5_isKept_27 : decode cX5_isKept 27 = .ok (.iconst 0, 1) := dk_3 (dk_at dksX5_isKept_1 3 rfl rfl)
theorem dX5_isKept_28 : decode cX5_isKept 28 = .ok (.ireturn, 1) := dk_172 (dk_at dksX5_isKept_1 4 rfl rfl)
theorem dX5_isKept_29 : decode cX5_isKept 29 = .ok (.iload_n 1, 1) := dk_27 (dk_at dksX5_isKept_1 5 rfl rfl)
theorem dX5_isKept_30 : decode cX5_isKept 30 = .ok (.iconst 3, 1) := dk_6 (dk_at dksX5_isKept_1 6 rfl rfl)
theorem dX5_isKept_31 : decode cX5_isKept 31 = .ok (.if_icmp .ne 36, 3) := dk_160 0 36 (dk_at dksX5_isKept_1 7 rfl rfl)
theorem dX5_isKept_34 : decode cX5_isKept 34 = .ok (.aload_n 0, 1) := dk_42 (dk_at dksX5_isKept_1 10 rfl rfl)
theorem dX5_isKept_35 : decode cX5_isKept 35 = .ok (.getfield 3, 3) := dk_180 0 3 (dk_at dksX5_isKept_1 11 rfl rfl)
theorem dX5_isKept_38 : decode cX5_isKept 38 = .ok (.aload_n 0, 1) := dk_42 (dk_at dksX5_isKept_1 14 rfl rfl)
theorem dX5_isKept_39 : decode cX5_isKept 39 = .ok (.iload_n 2, 1) := dk_28 (dk_at dksX5_isKept_1 15 rfl rfl)
theorem dX5_isKept_40 : decode cX5_isKept 40 = .ok (.iload_n 3, 1) := dk_29 (dk_at dksX5_isKept_1 16 rfl rfl)
theorem dX5_isKept_41 : decode cX5_isKept 41 = .ok (.iload 4, 2) := dk_21 4 (dk_at dksX5_isKept_1 17 rfl rfl)
theorem dX5_isKept_43 : decode cX5_isKept 43 = .ok (.invokevirtual 70, 3) := dk_182 0 70 (dk_at dksX5_isKept_1 19 rfl rfl)
theorem dX5_isKept_46 : decode cX5_isKept 46 = .ok (.aload_n 0, 1) := dk_42 (dk_at dksX5_isKept_1 22 rfl rfl)
theorem dX5_isKept_47 : decode cX5_isKept 47 = .ok (.iload 4, 2) := dk_21 4 (dk_at dksX5_isKept_2 0 rfl rfl)
theorem dX5_isKept_49 : decode cX5_isKept 49 = .ok (.iload_n 3, 1) := dk_29 (dk_at dksX5_isKept_2 2 rfl rfl)
theorem dX5_isKept_50 : decode cX5_isKept 50 = .ok (.iload_n 2, 1) := dk_28 (dk_at dksX5_isKept_2 3 rfl rfl)
theorem dX5_isKept_51 : decode cX5_isKept 51 = .ok (.invokevirtual 70, 3) := dk_182 0 70 (dk_at dksX5_isKept_2 4 rfl rfl)
theorem dX5_isKept_54 : decode cX5_isKept 54 = .ok (.iadd, 1) := dk_96 (dk_at dksX5_isKept_2 7 rfl rfl)
theorem dX5_isKept_55 : decode cX5_isKept 55 = .ok (.invokevirtual 59, 3) := dk_182 0 59 (dk_at dksX5_isKept_2 8 rfl rfl)
theorem dX5_isKept_58 : decode cX5_isKept 58 = .ok (.ifCond .ne 7, 3) := dk_154 0 7 (dk_at dksX5_isKept_2 11 rfl rfl)
theorem dX5_isKept_61 : decode cX5_isKept 61 = .ok (.iconst 1, 1) := dk_4 (dk_at dksX5_isKept_2 14 rfl rfl)
theorem dX5_isKept_62 : decode cX5_isKept 62 = .ok (.goto 4, 3) := dk_167 0 4 (dk_at dksX5_isKept_2 15 rfl rfl)
theorem dX5_isKept_65 : decode cX5_isKept 65 = .ok (.iconst 0, 1) := dk_3 (dk_at dksX5_isKept_2 18 rfl rfl)
theorem dX5_isKept_66 : decode cX5_isKept 66 = .ok (.ireturn, 1) := dk_172 (dk_at dksX5_isKept_2 19 rfl rfl)
theorem dX5_isKept_67 : decode cX5_isKept 67 = .ok (.aload_n 0, 1) := dk_42 (dk_at dksX5_isKept_2 20 rfl rfl)
theorem dX5_isKept_68 : decode cX5_isKept 68 = .ok (.getfield 3, 3) := dk_180 0 3 (dk_at dksX5_isKept_2 21 rfl rfl)
theorem dX5_isKept_71 : decode cX5_isKept 71 = .ok (.aload_n 0, 1) := dk_42 (dk_at dksX5_isKept_3 0 rfl rfl)
theorem dX5_isKept_72 : decode cX5_isKept 72 = .ok (.iload_n 2, 1) := dk_28 (dk_at dksX5_isKept_3 1 rfl rfl)
theorem dX5_isKept_73 : decode cX5_isKept 73 = .ok (.iload_n 3, 1) := dk_29 (dk_at dksX5_isKept_3 2 rfl rfl)
theorem dX5_isKept_74 : decode cX5_isKept 74 = .ok (.iload 4, 2) := dk_21 4 (dk_at dksX5_isKept_3 3 rfl rfl)
theorem dX5_isKept_76 : decode cX5_isKept 76 = .ok (.invokevirtual 70, 3) := dk_182 0 70 (dk_at dksX5_isKept_3 5 rfl rfl)
theorem dX5_isKept_79 : decode cX5_isKept 79 = .ok (.aload_n 0, 1) := dk_42 (dk_at dksX5_isKept_3 8 rfl rfl)
theorem dX5_isKept_80 : decode cX5_isKept 80 = .ok (.iload_n 3, 1) := dk_29 (dk_at dksX5_isKept_3 9 rfl rfl)
theorem dX5_isKept_81 : decode cX5_isKept 81 = .ok (.iload_n 2, 1) := dk_28 (dk_at dksX5_isKept_3 10 rfl rfl)
theorem dX5_isKept_82 : decode cX5_isKept 82 = .ok (.iload 4, 2) := dk_21 4 (dk_at dksX5_isKept_3 11 rfl rfl)
theorem dX5_isKept_84 : decode cX5_isKept 84 = .ok (.invokevirtual 70, 3) := dk_182 0 70 (dk_at dksX5_isKept_3 13 rfl rfl)
theorem dX5_isKept_87 : decode cX5_isKept 87 = .ok (.iadd, 1) := dk_96 (dk_at dksX5_isKept_3 16 rfl rfl)
theorem dX5_isKept_88 : decode cX5_isKept 88 = .ok (.invokevirtual 59, 3) := dk_182 0 59 (dk_at dksX5_isKept_3 17 rfl rfl)
theorem dX5_isKept_91 : decode cX5_isKept 91 = .ok (.ifCond .ne 34, 3) := dk_154 0 34 (dk_at dksX5_isKept_3 20 rfl rfl)
theorem dX5_isKept_94 : decode cX5_isKept 94 = .ok (.aload_n 0, 1) := dk_42 (dk_at dksX5_isKept_3 23 rfl rfl)
theorem dX5_isKept_95 : decode cX5_isKept 95 = .ok (.getfield 3, 3) := dk_180 0 3 (dk_at dksX5_isKept_4 0 rfl rfl)
theorem dX5_isKept_98 : decode cX5_isKept 98 = .ok (.aload_n 0, 1) := dk_42 (dk_at dksX5_isKept_4 3 rfl rfl)
theorem dX5_isKept_99 : decode cX5_isKept 99 = .ok (.iload_n 2, 1) := dk_28 (dk_at dksX5_isKept_4 4 rfl rfl)
theorem dX5_isKept_100 : decode cX5_isKept 100 = .ok (.iload_n 3, 1) := dk_29 (dk_at dksX5_isKept_4 5 rfl rfl)
theorem dX5_isKept_101 : decode cX5_isKept 101 = .ok (.iload 4, 2) := dk_21 4 (dk_at dksX5_isKept_4 6 rfl rfl)
theorem dX5_isKept_103 : decode cX5_isKept 103 = .ok (.invokevirtual 70, 3) := dk_182 0 70 (dk_at dksX5_isKept_4 8 rfl rfl)
theorem dX5_isKept_106 : decode cX5_isKept 106 = .ok (.aload_n 0, 1) := dk_42 (dk_at dksX5_isKept_4 11 rfl rfl)
theorem dX5_isKept_107 : decode cX5_isKept 107 = .ok (.iload_n 2, 1) := dk_28 (dk_at dksX5_isKept_4 12 rfl rfl)
theorem dX5_isKept_108 : decode cX5_isKept 108 = .ok (.iload 4, 2) := dk_21 4 (dk_at dksX5_isKept_4 13 rfl rfl)
theorem dX5_isKept_110 : decode cX5_isKept 110 = .ok (.iload_n 3, 1) := dk_29 (dk_at dksX5_isKept_4 15 rfl rfl)
theorem dX5_isKept_111 : decode cX5_isKept 111 = .ok (.invokevirtual 70, 3) := dk_182 0 70 (dk_at dksX5_isKept_4 16 rfl rfl)
theorem dX5_isKept_114 : decode cX5_isKept 114 = .ok (.iadd, 1) := dk_96 (dk_at dksX5_isKept_4 19 rfl rfl)
theorem dX5_isKept_115 : decode cX5_isKept 115 = .ok (.invokevirtual 59, 3) := dk_182 0 59 (dk_at dksX5_isKept_4 20 rfl rfl)
theorem dX5_isKept_118 : decode cX5_isKept 118 = .ok (.ifCond .ne 7, 3) := dk_154 0 7 (dk_at dksX5_isKept_5 0 rfl rfl)
theorem dX5_isKept_121 : decode cX5_isKept 121 = .ok (.iconst 1, 1) := dk_4 (dk_at dksX5_isKept_5 3 rfl rfl)
theorem dX5_isKept_122 : decode cX5_isKept 122 = .ok (.goto 4, 3) := dk_167 0 4 (dk_at dksX5_isKept_5 4 rfl rfl)
theorem dX5_isKept_125 : decode cX5_isKept 125 = .ok (.iconst 0, 1) := dk_3 (dk_at dksX5_isKept_5 7 rfl rfl)
theorem dX5_isKept_126 : decode cX5_isKept 126 = .ok (.ireturn, 1) := dk_172 (dk_at dksX5_isKept_5 8 rfl rfl)
abbrev cX5_gap : ByteArray := prog_2_method_7_code
def yX5_gap : MethodName := ⟨RX5, "gap", "(III)I"⟩
def dkwX5_gap_1 : List UInt8 := [50, 29, 46, 42, 180, 0, 27, 27, 50, 28, 29, 130, 46, 104, 100, 172]
abbrev dktX5_gap_1 : List UInt8 := dkwX5_gap_1 ++ []
def dkwX5_gap_0 : List UInt8 := [42, 180, 0, 27, 27, 50, 28, 46, 42, 180, 0, 27, 27, 28, 130, 50, 29, 46, 104, 42, 180, 0, 27, 28]
abbrev dktX5_gap_0 : List UInt8 := dkwX5_gap_0 ++ dktX5_gap_1
theorem dksX5_gap_0 : cX5_gap.data.toList.drop 0 = dktX5_gap_0 := by decide +kernel
theorem dksX5_gap_1 : cX5_gap.data.toList.drop 24 = dktX5_gap_1 := dk_seg dksX5_gap_0 24 rfl rfl
theorem dX5_gap_0 : decode cX5_gap 0 = .ok (.aload_n 0, 1) := dk_42 (dk_at dksX5_gap_0 0 rfl rfl)
theorem dX5_gap_1 : decode cX5_gap 1 = .ok (.getfield 27, 3) := dk_180 0 27 (dk_at dksX5_gap_0 1 rfl rfl)
theorem dX5_gap_4 : decode cX5_gap 4 = .ok (.iload_n 1, 1) := dk_27 (dk_at dksX5_gap_0 4 rfl rfl)
theorem dX5_gap_5 : decode cX5_gap 5 = .ok (.aaload, 1) := dk_50 (dk_at dksX5_gap_0 5 rfl rfl)
theorem dX5_gap_6 : decode cX5_gap 6 = .ok (.iload_n 2, 1) := dk_28 (dk_at dksX5_gap_0 6 rfl rfl)
theorem dX5_gap_7 : decode cX5_gap 7 = .ok (.iaload, 1) := dk_46 (dk_at dksX5_gap_0 7 rfl rfl)
theorem dX5_gap_8 : decode cX5_gap 8 = .ok (.aload_n 0, 1) := dk_42 (dk_at dksX5_gap_0 8 rfl rfl)
theorem dX5_gap_9 : decode cX5_gap 9 = .ok (.getfield 27, 3) := dk_180 0 27 (dk_at dksX5_gap_0 9 rfl rfl)
theorem dX5_gap_12 : decode cX5_gap 12 = .ok (.iload_n 1, 1) := dk_27 (dk_at dksX5_gap_0 12 rfl rfl)
theorem dX5_gap_13 : decode cX5_gap 13 = .ok (.iload_n 2, 1) := dk_28 (dk_at dksX5_gap_0 13 rfl rfl)
theorem dX5_gap_14 : decode cX5_gap 14 = .ok (.ixor, 1) := dk_130 (dk_at dksX5_gap_0 14 rfl rfl)
theorem dX5_gap_15 : decode cX5_gap 15 = .ok (.aaload, 1) := dk_50 (dk_at dksX5_gap_0 15 rfl rfl)
theorem dX5_gap_16 : decode cX5_gap 16 = .ok (.iload_n 3, 1) := dk_29 (dk_at dksX5_gap_0 16 rfl rfl)
theorem dX5_gap_17 : decode cX5_gap 17 = .ok (.iaload, 1) := dk_46 (dk_at dksX5_gap_0 17 rfl rfl)
theorem dX5_gap_18 : decode cX5_gap 18 = .ok (.imul, 1) := dk_104 (dk_at dksX5_gap_0 18 rfl rfl)
theorem dX5_gap_19 : decode cX5_gap 19 = .ok (.aload_n 0, 1) := dk_42 (dk_at dksX5_gap_0 19 rfl rfl)
theorem dX5_gap_20 : decode cX5_gap 20 = .ok (.getfield 27, 3) := dk_180 0 27 (dk_at dksX5_gap_0 20 rfl rfl)
theorem dX5_gap_23 : decode cX5_gap 23 = .ok (.iload_n 2, 1) := dk_28 (dk_at dksX5_gap_0 23 rfl rfl)
theorem dX5_gap_24 : decode cX5_gap 24 = .ok (.aaload, 1) := dk_50 (dk_at dksX5_gap_1 0 rfl rfl)
theorem dX5_gap_25 : decode cX5_gap 25 = .ok (.iload_n 3, 1) := dk_29 (dk_at dksX5_gap_1 1 rfl rfl)
theorem dX5_gap_26 : decode cX5_gap 26 = .ok (.iaload, 1) := dk_46 (dk_at dksX5_gap_1 2 rfl rfl)
theorem dX5_gap_27 : decode cX5_gap 27 = .ok (.aload_n 0, 1) := dk_42 (dk_at dksX5_gap_1 3 rfl rfl)
theorem dX5_gap_28 : decode cX5_gap 28 = .ok (.getfield 27, 3) := dk_180 0 27 (dk_at dksX5_gap_1 4 rfl rfl)
theorem dX5_gap_31 : decode cX5_gap 31 = .ok (.iload_n 1, 1) := dk_27 (dk_at dksX5_gap_1 7 rfl rfl)
theorem dX5_gap_32 : decode cX5_gap 32 = .ok (.aaload, 1) := dk_50 (dk_at dksX5_gap_1 8 rfl rfl)
theorem dX5_gap_33 : decode cX5_gap 33 = .ok (.iload_n 2, 1) := dk_28 (dk_at dksX5_gap_1 9 rfl rfl)
theorem dX5_gap_34 : decode cX5_gap 34 = .ok (.iload_n 3, 1) := dk_29 (dk_at dksX5_gap_1 10 rfl rfl)
theorem dX5_gap_35 : decode cX5_gap 35 = .ok (.ixor, 1) := dk_130 (dk_at dksX5_gap_1 11 rfl rfl)
theorem dX5_gap_36 : decode cX5_gap 36 = .ok (.iaload, 1) := dk_46 (dk_at dksX5_gap_1 12 rfl rfl)
theorem dX5_gap_37 : decode cX5_gap 37 = .ok (.imul, 1) := dk_104 (dk_at dksX5_gap_1 13 rfl rfl)
theorem dX5_gap_38 : decode cX5_gap 38 = .ok (.isub, 1) := dk_100 (dk_at dksX5_gap_1 14 rfl rfl)
theorem dX5_gap_39 : decode cX5_gap 39 = .ok (.ireturn, 1) := dk_172 (dk_at dksX5_gap_1 15 rfl rfl)
abbrev cX5_row : ByteArray := prog_2_method_10_code
def yX5_row : MethodName := ⟨RX5, "row", "(I)I"⟩
def dkwX5_row_6 : List UInt8 := [180, 0, 78, 133, 113, 27, 133, 148, 154, 0, 6, 21, 4, 172, 132, 4, 1, 167, 255, 136, 2, 172]
abbrev dktX5_row_6 : List UInt8 := dkwX5_row_6 ++ []
def dkwX5_row_5 : List UInt8 := [21, 5, 42, 180, 0, 3, 180, 0, 78, 108, 54, 5, 132, 8, 255, 167, 255, 186, 22, 6, 42, 180, 0, 3]
abbrev dktX5_row_5 : List UInt8 := dkwX5_row_5 ++ dktX5_row_6
def dkwX5_row_4 : List UInt8 := [182, 0, 86, 133, 21, 9, 133, 105, 21, 9, 133, 105, 94, 80, 55, 10, 22, 6, 22, 10, 97, 55, 6]
abbrev dktX5_row_4 : List UInt8 := dkwX5_row_4 ++ dktX5_row_5
def dkwX5_row_3 : List UInt8 := [180, 0, 3, 180, 0, 78, 112, 54, 9, 45, 21, 8, 42, 180, 0, 18, 21, 8, 182, 0, 82, 192, 0, 40]
abbrev dktX5_row_3 : List UInt8 := dkwX5_row_3 ++ dktX5_row_4
def dkwX5_row_2 : List UInt8 := [9, 55, 6, 42, 180, 0, 18, 182, 0, 35, 4, 100, 54, 8, 21, 8, 155, 0, 71, 21, 5, 42]
abbrev dktX5_row_2 : List UInt8 := dkwX5_row_2 ++ dktX5_row_3
def dkwX5_row_1 : List UInt8 := [61, 132, 3, 1, 167, 255, 232, 7, 188, 11, 78, 4, 54, 4, 21, 4, 28, 162, 0, 120, 21, 4, 54, 5]
abbrev dktX5_row_1 : List UInt8 := dkwX5_row_1 ++ dktX5_row_2
def dkwX5_row_0 : List UInt8 := [4, 61, 3, 62, 29, 42, 180, 0, 18, 182, 0, 35, 162, 0, 19, 28, 42, 180, 0, 3, 180, 0, 78, 104]
abbrev dktX5_row_0 : List UInt8 := dkwX5_row_0 ++ dktX5_row_1
theorem dksX5_row_0 : cX5_row.data.toList.drop 0 = dktX5_row_0 := by decide +kernel
theorem dksX5_row_1 : cX5_row.data.toList.drop 24 = dktX5_row_1 := dk_seg dksX5_row_0 24 rfl rfl
theorem dksX5_row_2 : cX5_row.data.toList.drop 48 = dktX5_row_2 := dk_seg dksX5_row_1 24 rfl rfl
theorem dksX5_row_3 : cX5_row.data.toList.drop 70 = dktX5_row_3 := dk_seg dksX5_row_2 22 rfl rfl
theorem dksX5_row_4 : cX5_row.data.toList.drop 94 = dktX5_row_4 := dk_seg dksX5_row_3 24 rfl rfl
theorem dksX5_row_5 : cX5_row.data.toList.drop 117 = dktX5_row_5 := dk_seg dksX5_row_4 23 rfl rfl
theorem dksX5_row_6 : cX5_row.data.toList.drop 141 = dktX5_row_6 := dk_seg dksX5_row_5 24 rfl rfl
theorem dX5_row_0 : decode cX5_row 0 = .ok (.iconst 1, 1) := dk_4 (dk_at dksX5_row_0 0 rfl rfl)
theorem dX5_row_1 : decode cX5_row 1 = .ok (.istore_n 2, 1) := dk_61 (dk_at dksX5_row_0 1 rfl rfl)
theorem dX5_row_2 : decode cX5_row 2 = .ok (.iconst 0, 1) := dk_3 (dk_at dksX5_row_0 2 rfl rfl)
theorem dX5_row_3 : decode cX5_row 3 = .ok (.istore_n 3, 1) := dk_62 (dk_at dksX5_row_0 3 rfl rfl)
theorem dX5_row_4 : decode cX5_row 4 = .ok (.iload_n 3, 1) := dk_29 (dk_at dksX5_row_0 4 rfl rfl)
theorem dX5_row_5 : decode cX5_row 5 = .ok (.aload_n 0, 1) := dk_42 (dk_at dksX5_row_0 5 rfl rfl)
theorem dX5_row_6 : decode cX5_row 6 = .ok (.getfield 18, 3) := dk_180 0 18 (dk_at dksX5_row_0 6 rfl rfl)
theorem dX5_row_9 : decode cX5_row 9 = .ok (.invokevirtual 35, 3) := dk_182 0 35 (dk_at dksX5_row_0 9 rfl rfl)
theorem dX5_row_12 : decode cX5_row 12 = .ok (.if_icmp .ge 19, 3) := dk_162 0 19 (dk_at dksX5_row_0 12 rfl rfl)
theorem dX5_row_15 : decode cX5_row 15 = .ok (.iload_n 2, 1) := dk_28 (dk_at dksX5_row_0 15 rfl rfl)
theorem dX5_row_16 : decode cX5_row 16 = .ok (.aload_n 0, 1) := dk_42 (dk_at dksX5_row_0 16 rfl rfl)
theorem dX5_row_17 : decode cX5_row 17 = .ok (.getfield 3, 3) := dk_180 0 3 (dk_at dksX5_row_0 17 rfl rfl)
theorem dX5_row_20 : decode cX5_row 20 = .ok (.getfield 78, 3) := dk_180 0 78 (dk_at dksX5_row_0 20 rfl rfl)
theorem dX5_row_23 : decode cX5_row 23 = .ok (.imul, 1) := dk_104 (dk_at dksX5_row_0 23 rfl rfl)
theorem dX5_row_24 : decode cX5_row 24 = .ok (.istore_n 2, 1) := dk_61 (dk_at dksX5_row_1 0 rfl rfl)
theorem dX5_row_25 : decode cX5_row 25 = .ok (.iinc 3 1, 3) := dk_132 3 1 (dk_at dksX5_row_1 1 rfl rfl)
theorem dX5_row_28 : decode cX5_row 28 = .ok (.goto (-24), 3) := dk_167 255 232 (dk_at dksX5_row_1 4 rfl rfl)
theorem dX5_row_31 : decode cX5_row 31 = .ok (.iconst 4, 1) := dk_7 (dk_at dksX5_row_1 7 rfl rfl)
theorem dX5_row_32 : decode cX5_row 32 = .ok (.newarray .long, 2) := dk_188_11 (dk_at dksX5_row_1 8 rfl rfl)
theorem dX5_row_34 : decode cX5_row 34 = .ok (.astore_n 3, 1) := dk_78 (dk_at dksX5_row_1 10 rfl rfl)
theorem dX5_row_35 : decode cX5_row 35 = .ok (.iconst 1, 1) := dk_4 (dk_at dksX5_row_1 11 rfl rfl)
theorem dX5_row_36 : decode cX5_row 36 = .ok (.istore 4, 2) := dk_54 4 (dk_at dksX5_row_1 12 rfl rfl)
theorem dX5_row_38 : decode cX5_row 38 = .ok (.iload 4, 2) := dk_21 4 (dk_at dksX5_row_1 14 rfl rfl)
theorem dX5_row_40 : decode cX5_row 40 = .ok (.iload_n 2, 1) := dk_28 (dk_at dksX5_row_1 16 rfl rfl)
theorem dX5_row_41 : decode cX5_row 41 = .ok (.if_icmp .ge 120, 3) := dk_162 0 120 (dk_at dksX5_row_1 17 rfl rfl)
theorem dX5_row_44 : decode cX5_row 44 = .ok (.iload 4, 2) := dk_21 4 (dk_at dksX5_row_1 20 rfl rfl)
theorem dX5_row_46 : decode cX5_row 46 = .ok (.istore 5, 2) := dk_54 5 (dk_at dksX5_row_1 22 rfl rfl)
theorem dX5_row_48 : decode cX5_row 48 = .ok (.lconst 0, 1) := dk_9 (dk_at dksX5_row_2 0 rfl rfl)
theorem dX5_row_49 : decode cX5_row 49 = .ok (.lstore 6, 2) := dk_55 6 (dk_at dksX5_row_2 1 rfl rfl)
theorem dX5_row_51 : decode cX5_row 51 = .ok (.aload_n 0, 1) := dk_42 (dk_at dksX5_row_2 3 rfl rfl)
theorem dX5_row_52 : decode cX5_row 52 = .ok (.getfield 18, 3) := dk_180 0 18 (dk_at dksX5_row_2 4 rfl rfl)
theorem dX5_row_55 : decode cX5_row 55 = .ok (.invokevirtual 35, 3) := dk_182 0 35 (dk_at dksX5_row_2 7 rfl rfl)
theorem dX5_row_58 : decode cX5_row 58 = .ok (.iconst 1, 1) := dk_4 (dk_at dksX5_row_2 10 rfl rfl)
theorem dX5_row_59 : decode cX5_row 59 = .ok (.isub, 1) := dk_100 (dk_at dksX5_row_2 11 rfl rfl)
theorem dX5_row_60 : decode cX5_row 60 = .ok (.istore 8, 2) := dk_54 8 (dk_at dksX5_row_2 12 rfl rfl)
theorem dX5_row_62 : decode cX5_row 62 = .ok (.iload 8, 2) := dk_21 8 (dk_at dksX5_row_2 14 rfl rfl)
theorem dX5_row_64 : decode cX5_row 64 = .ok (.ifCond .lt 71, 3) := dk_155 0 71 (dk_at dksX5_row_2 16 rfl rfl)
theorem dX5_row_67 : decode cX5_row 67 = .ok (.iload 5, 2) := dk_21 5 (dk_at dksX5_row_2 19 rfl rfl)
theorem dX5_row_69 : decode cX5_row 69 = .ok (.aload_n 0, 1) := dk_42 (dk_at dksX5_row_2 21 rfl rfl)
theorem dX5_row_70 : decode cX5_row 70 = .ok (.getfield 3, 3) := dk_180 0 3 (dk_at dksX5_row_3 0 rfl rfl)
theorem dX5_row_73 : decode cX5_row 73 = .ok (.getfield 78, 3) := dk_180 0 78 (dk_at dksX5_row_3 3 rfl rfl)
theorem dX5_row_76 : decode cX5_row 76 = .ok (.irem, 1) := dk_112 (dk_at dksX5_row_3 6 rfl rfl)
theorem dX5_row_77 : decode cX5_row 77 = .ok (.istore 9, 2) := dk_54 9 (dk_at dksX5_row_3 7 rfl rfl)
theorem dX5_row_79 : decode cX5_row 79 = .ok (.aload_n 3, 1) := dk_45 (dk_at dksX5_row_3 9 rfl rfl)
theorem dX5_row_80 : decode cX5_row 80 = .ok (.iload 8, 2) := dk_21 8 (dk_at dksX5_row_3 10 rfl rfl)
theorem dX5_row_82 : decode cX5_row 82 = .ok (.aload_n 0, 1) := dk_42 (dk_at dksX5_row_3 12 rfl rfl)
theorem dX5_row_83 : decode cX5_row 83 = .ok (.getfield 18, 3) := dk_180 0 18 (dk_at dksX5_row_3 13 rfl rfl)
theorem dX5_row_86 : decode cX5_row 86 = .ok (.iload 8, 2) := dk_21 8 (dk_at dksX5_row_3 16 rfl rfl)
theorem dX5_row_88 : decode cX5_row 88 = .ok (.invokevirtual 82, 3) := dk_182 0 82 (dk_at dksX5_row_3 18 rfl rfl)
theorem dX5_row_91 : decode cX5_row 91 = .ok (.checkcast 40, 3) := dk_192 0 40 (dk_at dksX5_row_3 21 rfl rfl)
theorem dX5_row_94 : decode cX5_row 94 = .ok (.invokevirtual 86, 3) := dk_182 0 86 (dk_at dksX5_row_4 0 rfl rfl)
theorem dX5_row_97 : decode cX5_row 97 = .ok (.i2l, 1) := dk_133 (dk_at dksX5_row_4 3 rfl rfl)
theorem dX5_row_98 : decode cX5_row 98 = .ok (.iload 9, 2) := dk_21 9 (dk_at dksX5_row_4 4 rfl rfl)
theorem dX5_row_100 : decode cX5_row 100 = .ok (.i2l, 1) := dk_133 (dk_at dksX5_row_4 6 rfl rfl)
theorem dX5_row_101 : decode cX5_row 101 = .ok (.lmul, 1) := dk_105 (dk_at dksX5_row_4 7 rfl rfl)
theorem dX5_row_102 : decode cX5_row 102 = .ok (.iload 9, 2) := dk_21 9 (dk_at dksX5_row_4 8 rfl rfl)
theorem dX5_row_104 : decode cX5_row 104 = .ok (.i2l, 1) := dk_133 (dk_at dksX5_row_4 10 rfl rfl)
theorem dX5_row_105 : decode cX5_row 105 = .ok (.lmul, 1) := dk_105 (dk_at dksX5_row_4 11 rfl rfl)
theorem dX5_row_106 : decode cX5_row 106 = .ok (.dup2_x2, 1) := dk_94 (dk_at dksX5_row_4 12 rfl rfl)
theorem dX5_row_107 : decode cX5_row 107 = .ok (.lastore, 1) := dk_80 (dk_at dksX5_row_4 13 rfl rfl)
theorem dX5_row_108 : decode cX5_row 108 = .ok (.lstore 10, 2) := dk_55 10 (dk_at dksX5_row_4 14 rfl rfl)
theorem dX5_row_110 : decode cX5_row 110 = .ok (.lload 6, 2) := dk_22 6 (dk_at dksX5_row_4 16 rfl rfl)
theorem dX5_row_112 : decode cX5_row 112 = .ok (.lload 10, 2) := dk_22 10 (dk_at dksX5_row_4 18 rfl rfl)
theorem dX5_row_114 : decode cX5_row 114 = .ok (.ladd, 1) := dk_97 (dk_at dksX5_row_4 20 rfl rfl)
theorem dX5_row_115 : decode cX5_row 115 = .ok (.lstore 6, 2) := dk_55 6 (dk_at dksX5_row_4 21 rfl rfl)
theorem dX5_row_117 : decode cX5_row 117 = .ok (.iload 5, 2) := dk_21 5 (dk_at dksX5_row_5 0 rfl rfl)
theorem dX5_row_119 : decode cX5_row 119 = .ok (.aload_n 0, 1) := dk_42 (dk_at dksX5_row_5 2 rfl rfl)
theorem dX5_row_120 : decode cX5_row 120 = .ok (.getfield 3, 3) := dk_180 0 3 (dk_at dksX5_row_5 3 rfl rfl)
theorem dX5_row_123 : decode cX5_row 123 = .ok (.getfield 78, 3) := dk_180 0 78 (dk_at dksX5_row_5 6 rfl rfl)
theorem dX5_row_126 : decode cX5_row 126 = .ok (.idiv, 1) := dk_108 (dk_at dksX5_row_5 9 rfl rfl)
theorem dX5_row_127 : decode cX5_row 127 = .ok (.istore 5, 2) := dk_54 5 (dk_at dksX5_row_5 10 rfl rfl)
theorem dX5_row_129 : decode cX5_row 129 = .ok (.iinc 8 (-1), 3) := dk_132 8 255 (dk_at dksX5_row_5 12 rfl rfl)
theorem dX5_row_132 : decode cX5_row 132 = .ok (.goto (-70), 3) := dk_167 255 186 (dk_at dksX5_row_5 15 rfl rfl)
theorem dX5_row_135 : decode cX5_row 135 = .ok (.lload 6, 2) := dk_22 6 (dk_at dksX5_row_5 18 rfl rfl)
theorem dX5_row_137 : decode cX5_row 137 = .ok (.aload_n 0, 1) := dk_42 (dk_at dksX5_row_5 20 rfl rfl)
theorem dX5_row_138 : decode cX5_row 138 = .ok (.getfield 3, 3) := dk_180 0 3 (dk_at dksX5_row_5 21 rfl rfl)
theorem dX5_row_141 : decode cX5_row 141 = .ok (.getfield 78, 3) := dk_180 0 78 (dk_at dksX5_row_6 0 rfl rfl)
theorem dX5_row_144 : decode cX5_row 144 = .ok (.i2l, 1) := dk_133 (dk_at dksX5_row_6 3 rfl rfl)
theorem dX5_row_145 : decode cX5_row 145 = .ok (.lrem, 1) := dk_113 (dk_at dksX5_row_6 4 rfl rfl)
theorem dX5_row_146 : decode cX5_row 146 = .ok (.iload_n 1, 1) := dk_27 (dk_at dksX5_row_6 5 rfl rfl)
theorem dX5_row_147 : decode cX5_row 147 = .ok (.i2l, 1) := dk_133 (dk_at dksX5_row_6 6 rfl rfl)
theorem dX5_row_148 : decode cX5_row 148 = .ok (.lcmp, 1) := dk_148 (dk_at dksX5_row_6 7 rfl rfl)
theorem dX5_row_149 : decode cX5_row 149 = .ok (.ifCond .ne 6, 3) := dk_154 0 6 (dk_at dksX5_row_6 8 rfl rfl)
theorem dX5_row_152 : decode cX5_row 152 = .ok (.iload 4, 2) := dk_21 4 (dk_at dksX5_row_6 11 rfl rfl)
theorem dX5_row_154 : decode cX5_row 154 = .ok (.ireturn, 1) := dk_172 (dk_at dksX5_row_6 13 rfl rfl)
theorem dX5_row_155 : decode cX5_row 155 = .ok (.iinc 4 1, 3) := dk_132 4 1 (dk_at dksX5_row_6 14 rfl rfl)
theorem dX5_row_158 : decode cX5_row 158 = .ok (.goto (-120), 3) := dk_167 255 136 (dk_at dksX5_row_6 17 rfl rfl)
theorem dX5_row_161 : decode cX5_row 161 = .ok (.iconst (-1), 1) := dk_2 (dk_at dksX5_row_6 20 rfl rfl)
theorem dX5_row_162 : decode cX5_row 162 = .ok (.ireturn, 1) := dk_172 (dk_at dksX5_row_6 21 rfl rfl)
abbrev cX5_isBlades : ByteArray := prog_2_method_4_code
def yX5_isBlades : MethodName := ⟨RX5, "isBlades", "()Z"⟩
def dkwX5_isBlades_0 : List UInt8 := [42, 180, 0, 31, 178, 0, 63, 166, 0, 7, 4, 167, 0, 4, 3, 172]
abbrev dktX5_isBlades_0 : List UInt8 := dkwX5_isBlades_0 ++ []
theorem dksX5_isBlades_0 : cX5_isBlades.data.toList.drop 0 = dktX5_isBlades_0 := by decide +kernel
theorem dX5_isBlades_0 : decode cX5_isBlades 0 = .ok (.aload_n 0, 1) := dk_42 (dk_at dksX5_isBlades_0 0 rfl rfl)
theorem dX5_isBlades_1 : decode cX5_isBlades 1 = .ok (.getfield 31, 3) := dk_180 0 31 (dk_at dksX5_isBlades_0 1 rfl rfl)
theorem dX5_isBlades_4 : decode cX5_isBlades 4 = .ok (.getstatic 63, 3) := dk_178 0 63 (dk_at dksX5_isBlades_0 4 rfl rfl)
theorem dX5_isBlades_7 : decode cX5_isBlades 7 = .ok (.if_acmp .ne 7, 3) := dk_166 0 7 (dk_at dksX5_isBlades_0 7 rfl rfl)
theorem dX5_isBlades_10 : decode cX5_isBlades 10 = .ok (.iconst 1, 1) := dk_4 (dk_at dksX5_isBlades_0 10 rfl rfl)
theorem dX5_isBlades_11 : decode cX5_isBlades 11 = .ok (.goto 4, 3) := dk_167 0 4 (dk_at dksX5_isBlades_0 11 rfl rfl)
theorem dX5_isBlades_14 : decode cX5_isBlades 14 = .ok (.iconst 0, 1) := dk_3 (dk_at dksX5_isBlades_0 14 rfl rfl)
theorem dX5_isBlades_15 : decode cX5_isBlades 15 = .ok (.ireturn, 1) := dk_172 (dk_at dksX5_isBlades_0 15 rfl rfl)
abbrev cX5_init : ByteArray := prog_2_method_1_code
def yX5_init : MethodName := ⟨RX5, "<init>", "(LVersorhall;LVersorhall$Kind;)V"⟩
def dkwX5_init_2 : List UInt8 := [181, 0, 27, 42, 44, 181, 0, 31, 177]
abbrev dktX5_init_2 : List UInt8 := dkwX5_init_2 ++ []
def dkwX5_init_1 : List UInt8 := [89, 183, 0, 17, 181, 0, 22, 42, 4, 189, 0, 25, 89, 3, 4, 188, 10, 89, 3, 4, 79, 83]
abbrev dktX5_init_1 : List UInt8 := dkwX5_init_1 ++ dktX5_init_2
def dkwX5_init_0 : List UInt8 := [42, 43, 181, 0, 3, 42, 183, 0, 9, 42, 187, 0, 15, 89, 183, 0, 17, 181, 0, 18, 42, 187, 0, 15]
abbrev dktX5_init_0 : List UInt8 := dkwX5_init_0 ++ dktX5_init_1
theorem dksX5_init_0 : cX5_init.data.toList.drop 0 = dktX5_init_0 := by decide +kernel
theorem dksX5_init_1 : cX5_init.data.toList.drop 24 = dktX5_init_1 := dk_seg dksX5_init_0 24 rfl rfl
theorem dksX5_init_2 : cX5_init.data.toList.drop 46 = dktX5_init_2 := dk_seg dksX5_init_1 22 rfl rfl
theorem dX5_init_0 : decode cX5_init 0 = .ok (.aload_n 0, 1) := dk_42 (dk_at dksX5_init_0 0 rfl rfl)
theorem dX5_init_1 : decode cX5_init 1 = .ok (.aload_n 1, 1) := dk_43 (dk_at dksX5_init_0 1 rfl rfl)
theorem dX5_init_2 : decode cX5_init 2 = .ok (.putfield 3, 3) := dk_181 0 3 (dk_at dksX5_init_0 2 rfl rfl)
theorem dX5_init_5 : decode cX5_init 5 = .ok (.aload_n 0, 1) := dk_42 (dk_at dksX5_init_0 5 rfl rfl)
theorem dX5_init_6 : decode cX5_init 6 = .ok (.invokespecial 9, 3) := dk_183 0 9 (dk_at dksX5_init_0 6 rfl rfl)
theorem dX5_init_9 : decode cX5_init 9 = .ok (.aload_n 0, 1) := dk_42 (dk_at dksX5_init_0 9 rfl rfl)
theorem dX5_init_10 : decode cX5_init 10 = .ok (.new 15, 3) := dk_187 0 15 (dk_at dksX5_init_0 10 rfl rfl)
theorem dX5_init_13 : decode cX5_init 13 = .ok (.dup, 1) := dk_89 (dk_at dksX5_init_0 13 rfl rfl)
theorem dX5_init_14 : decode cX5_init 14 = .ok (.invokespecial 17, 3) := dk_183 0 17 (dk_at dksX5_init_0 14 rfl rfl)
theorem dX5_init_17 : decode cX5_init 17 = .ok (.putfield 18, 3) := dk_181 0 18 (dk_at dksX5_init_0 17 rfl rfl)
theorem dX5_init_20 : decode cX5_init 20 = .ok (.aload_n 0, 1) := dk_42 (dk_at dksX5_init_0 20 rfl rfl)
theorem dX5_init_21 : decode cX5_init 21 = .ok (.new 15, 3) := dk_187 0 15 (dk_at dksX5_init_0 21 rfl rfl)
theorem dX5_init_24 : decode cX5_init 24 = .ok (.dup, 1) := dk_89 (dk_at dksX5_init_1 0 rfl rfl)
theorem dX5_init_25 : decode cX5_init 25 = .ok (.invokespecial 17, 3) := dk_183 0 17 (dk_at dksX5_init_1 1 rfl rfl)
theorem dX5_init_28 : decode cX5_init 28 = .ok (.putfield 22, 3) := dk_181 0 22 (dk_at dksX5_init_1 4 rfl rfl)
theorem dX5_init_31 : decode cX5_init 31 = .ok (.aload_n 0, 1) := dk_42 (dk_at dksX5_init_1 7 rfl rfl)
theorem dX5_init_32 : decode cX5_init 32 = .ok (.iconst 1, 1) := dk_4 (dk_at dksX5_init_1 8 rfl rfl)
theorem dX5_init_33 : decode cX5_init 33 = .ok (.anewarray 25, 3) := dk_189 0 25 (dk_at dksX5_init_1 9 rfl rfl)
theorem dX5_init_36 : decode cX5_init 36 = .ok (.dup, 1) := dk_89 (dk_at dksX5_init_1 12 rfl rfl)
theorem dX5_init_37 : decode cX5_init 37 = .ok (.iconst 0, 1) := dk_3 (dk_at dksX5_init_1 13 rfl rfl)
theorem dX5_init_38 : decode cX5_init 38 = .ok (.iconst 1, 1) := dk_4 (dk_at dksX5_init_1 14 rfl rfl)
theorem dX5_init_39 : decode cX5_init 39 = .ok (.newarray .int, 2) := dk_188_10 (dk_at dksX5_init_1 15 rfl rfl)
theorem dX5_init_41 : decode cX5_init 41 = .ok (.dup, 1) := dk_89 (dk_at dksX5_init_1 17 rfl rfl)
theorem dX5_init_42 : decode cX5_init 42 = .ok (.iconst 0, 1) := dk_3 (dk_at dksX5_init_1 18 rfl rfl)
theorem dX5_init_43 : decode cX5_init 43 = .ok (.iconst 1, 1) := dk_4 (dk_at dksX5_init_1 19 rfl rfl)
theorem dX5_init_44 : decode cX5_init 44 = .ok (.iastore, 1) := dk_79 (dk_at dksX5_init_1 20 rfl rfl)
theorem dX5_init_45 : decode cX5_init 45 = .ok (.aastore, 1) := dk_83 (dk_at dksX5_init_1 21 rfl rfl)
theorem dX5_init_46 : decode cX5_init 46 = .ok (.putfield 27, 3) := dk_181 0 27 (dk_at dksX5_init_2 0 rfl rfl)
theorem dX5_init_49 : decode cX5_init 49 = .ok (.aload_n 0, 1) := dk_42 (dk_at dksX5_init_2 3 rfl rfl)
theorem dX5_init_50 : decode cX5_init 50 = .ok (.aload_n 2, 1) := dk_44 (dk_at dksX5_init_2 4 rfl rfl)
theorem dX5_init_51 : decode cX5_init 51 = .ok (.putfield 31, 3) := dk_181 0 31 (dk_at dksX5_init_2 5 rfl rfl)
theorem dX5_init_54 : decode cX5_init 54 = .ok (.return_, 1) := dk_177 (dk_at dksX5_init_2 8 rfl rfl)
abbrev cX5_add : ByteArray := prog_2_method_3_code
def yX5_add : MethodName := ⟨RX5, "add", "(I)V"⟩
def dkwX5_add_4 : List UInt8 := [167, 255, 194, 177]
abbrev dktX5_add_4 : List UInt8 := dkwX5_add_4 ++ []
def dkwX5_add_3 : List UInt8 := [180, 0, 18, 182, 0, 35, 28, 29, 182, 0, 53, 182, 0, 59, 79, 132, 3, 1, 167, 255, 210, 132, 2, 1]
abbrev dktX5_add_3 : List UInt8 := dkwX5_add_3 ++ dktX5_add_4
def dkwX5_add_2 : List UInt8 := [162, 0, 44, 42, 180, 0, 27, 28, 50, 29, 42, 180, 0, 3, 42, 180, 0, 31, 42, 180, 0, 18, 42]
abbrev dktX5_add_2 : List UInt8 := dkwX5_add_2 ++ dktX5_add_3
def dkwX5_add_1 : List UInt8 := [197, 0, 52, 2, 181, 0, 27, 3, 61, 28, 42, 182, 0, 49, 162, 0, 60, 3, 62, 29, 42, 182, 0, 49]
abbrev dktX5_add_1 : List UInt8 := dkwX5_add_1 ++ dktX5_add_2
def dkwX5_add_0 : List UInt8 := [42, 180, 0, 18, 27, 184, 0, 39, 182, 0, 45, 87, 42, 42, 182, 0, 49, 42, 182, 0, 49]
abbrev dktX5_add_0 : List UInt8 := dkwX5_add_0 ++ dktX5_add_1
theorem dksX5_add_0 : cX5_add.data.toList.drop 0 = dktX5_add_0 := by decide +kernel
theorem dksX5_add_1 : cX5_add.data.toList.drop 21 = dktX5_add_1 := dk_seg dksX5_add_0 21 rfl rfl
theorem dksX5_add_2 : cX5_add.data.toList.drop 45 = dktX5_add_2 := dk_seg dksX5_add_1 24 rfl rfl
theorem dksX5_add_3 : cX5_add.data.toList.drop 68 = dktX5_add_3 := dk_seg dksX5_add_2 23 rfl rfl
theorem dksX5_add_4 : cX5_add.data.toList.drop 92 = dktX5_add_4 := dk_seg dksX5_add_3 24 rfl rfl
theorem dX5_add_0 : decode cX5_add 0 = .ok (.aload_n 0, 1) := dk_42 (dk_at dksX5_add_0 0 rfl rfl)
theorem dX5_add_1 : decode cX5_add 1 = .ok (.getfield 18, 3) := dk_180 0 18 (dk_at dksX5_add_0 1 rfl rfl)
theorem dX5_add_4 : decode cX5_add 4 = .ok (.iload_n 1, 1) := dk_27 (dk_at dksX5_add_0 4 rfl rfl)
theorem dX5_add_5 : decode cX5_add 5 = .ok (.invokestatic 39, 3) := dk_184 0 39 (dk_at dksX5_add_0 5 rfl rfl)
theorem dX5_add_8 : decode cX5_add 8 = .ok (.invokevirtual 45, 3) := dk_182 0 45 (dk_at dksX5_add_0 8 rfl rfl)
theorem dX5_add_11 : decode cX5_add 11 = .ok (.pop, 1) := dk_87 (dk_at dksX5_add_0 11 rfl rfl)
theorem dX5_add_12 : decode cX5_add 12 = .ok (.aload_n 0, 1) := dk_42 (dk_at dksX5_add_0 12 rfl rfl)
theorem dX5_add_13 : decode cX5_add 13 = .ok (.aload_n 0, 1) := dk_42 (dk_at dksX5_add_0 13 rfl rfl)
theorem dX5_add_14 : decode cX5_add 14 = .ok (.invokevirtual 49, 3) := dk_182 0 49 (dk_at dksX5_add_0 14 rfl rfl)
theorem dX5_add_17 : decode cX5_add 17 = .ok (.aload_n 0, 1) := dk_42 (dk_at dksX5_add_0 17 rfl rfl)
theorem dX5_add_18 : decode cX5_add 18 = .ok (.invokevirtual 49, 3) := dk_182 0 49 (dk_at dksX5_add_0 18 rfl rfl)
theorem dX5_add_21 : decode cX5_add 21 = .ok (.multianewarray 52 2, 4) := by decide +kernel
theorem dX5_add_25 : decode cX5_add 25 = .ok (.putfield 27, 3) := dk_181 0 27 (dk_at dksX5_add_1 4 rfl rfl)
theorem dX5_add_28 : decode cX5_add 28 = .ok (.iconst 0, 1) := dk_3 (dk_at dksX5_add_1 7 rfl rfl)
theorem dX5_add_29 : decode cX5_add 29 = .ok (.istore_n 2, 1) := dk_61 (dk_at dksX5_add_1 8 rfl rfl)
theorem dX5_add_30 : decode cX5_add 30 = .ok (.iload_n 2, 1) := dk_28 (dk_at dksX5_add_1 9 rfl rfl)
theorem dX5_add_31 : decode cX5_add 31 = .ok (.aload_n 0, 1) := dk_42 (dk_at dksX5_add_1 10 rfl rfl)
theorem dX5_add_32 : decode cX5_add 32 = .ok (.invokevirtual 49, 3) := dk_182 0 49 (dk_at dksX5_add_1 11 rfl rfl)
theorem dX5_add_35 : decode cX5_add 35 = .ok (.if_icmp .ge 60, 3) := dk_162 0 60 (dk_at dksX5_add_1 14 rfl rfl)
theorem dX5_add_38 : decode cX5_add 38 = .ok (.iconst 0, 1) := dk_3 (dk_at dksX5_add_1 17 rfl rfl)
theorem dX5_add_39 : decode cX5_add 39 = .ok (.istore_n 3, 1) := dk_62 (dk_at dksX5_add_1 18 rfl rfl)
theorem dX5_add_40 : decode cX5_add 40 = .ok (.iload_n 3, 1) := dk_29 (dk_at dksX5_add_1 19 rfl rfl)
theorem dX5_add_41 : decode cX5_add 41 = .ok (.aload_n 0, 1) := dk_42 (dk_at dksX5_add_1 20 rfl rfl)
theorem dX5_add_42 : decode cX5_add 42 = .ok (.invokevirtual 49, 3) := dk_182 0 49 (dk_at dksX5_add_1 21 rfl rfl)
theorem dX5_add_45 : decode cX5_add 45 = .ok (.if_icmp .ge 44, 3) := dk_162 0 44 (dk_at dksX5_add_2 0 rfl rfl)
theorem dX5_add_48 : decode cX5_add 48 = .ok (.aload_n 0, 1) := dk_42 (dk_at dksX5_add_2 3 rfl rfl)
theorem dX5_add_49 : decode cX5_add 49 = .ok (.getfield 27, 3) := dk_180 0 27 (dk_at dksX5_add_2 4 rfl rfl)
theorem dX5_add_52 : decode cX5_add 52 = .ok (.iload_n 2, 1) := dk_28 (dk_at dksX5_add_2 7 rfl rfl)
theorem dX5_add_53 : decode cX5_add 53 = .ok (.aaload, 1) := dk_50 (dk_at dksX5_add_2 8 rfl rfl)
theorem dX5_add_54 : decode cX5_add 54 = .ok (.iload_n 3, 1) := dk_29 (dk_at dksX5_add_2 9 rfl rfl)
theorem dX5_add_55 : decode cX5_add 55 = .ok (.aload_n 0, 1) := dk_42 (dk_at dksX5_add_2 10 rfl rfl)
theorem dX5_add_56 : decode cX5_add 56 = .ok (.getfield 3, 3) := dk_180 0 3 (dk_at dksX5_add_2 11 rfl rfl)
theorem dX5_add_59 : decode cX5_add 59 = .ok (.aload_n 0, 1) := dk_42 (dk_at dksX5_add_2 14 rfl rfl)
theorem dX5_add_60 : decode cX5_add 60 = .ok (.getfield 31, 3) := dk_180 0 31 (dk_at dksX5_add_2 15 rfl rfl)
theorem dX5_add_63 : decode cX5_add 63 = .ok (.aload_n 0, 1) := dk_42 (dk_at dksX5_add_2 18 rfl rfl)
theorem dX5_add_64 : decode cX5_add 64 = .ok (.getfield 18, 3) := dk_180 0 18 (dk_at dksX5_add_2 19 rfl rfl)
theorem dX5_add_67 : decode cX5_add 67 = .ok (.aload_n 0, 1) := dk_42 (dk_at dksX5_add_2 22 rfl rfl)
theorem dX5_add_68 : decode cX5_add 68 = .ok (.getfield 18, 3) := dk_180 0 18 (dk_at dksX5_add_3 0 rfl rfl)
theorem dX5_add_71 : decode cX5_add 71 = .ok (.invokevirtual 35, 3) := dk_182 0 35 (dk_at dksX5_add_3 3 rfl rfl)
theorem dX5_add_74 : decode cX5_add 74 = .ok (.iload_n 2, 1) := dk_28 (dk_at dksX5_add_3 6 rfl rfl)
theorem dX5_add_75 : decode cX5_add 75 = .ok (.iload_n 3, 1) := dk_29 (dk_at dksX5_add_3 7 rfl rfl)
theorem dX5_add_76 : decode cX5_add 76 = .ok (.invokevirtual 53, 3) := dk_182 0 53 (dk_at dksX5_add_3 8 rfl rfl)
theorem dX5_add_79 : decode cX5_add 79 = .ok (.invokevirtual 59, 3) := dk_182 0 59 (dk_at dksX5_add_3 11 rfl rfl)
theorem dX5_add_82 : decode cX5_add 82 = .ok (.iastore, 1) := dk_79 (dk_at dksX5_add_3 14 rfl rfl)
theorem dX5_add_83 : decode cX5_add 83 = .ok (.iinc 3 1, 3) := dk_132 3 1 (dk_at dksX5_add_3 15 rfl rfl)
theorem dX5_add_86 : decode cX5_add 86 = .ok (.goto (-46), 3) := dk_167 255 210 (dk_at dksX5_add_3 18 rfl rfl)
theorem dX5_add_89 : decode cX5_add 89 = .ok (.iinc 2 1, 3) := dk_132 2 1 (dk_at dksX5_add_3 21 rfl rfl)
theorem dX5_add_92 : decode cX5_add 92 = .ok (.goto (-62), 3) := dk_167 255 194 (dk_at dksX5_add_4 0 rfl rfl)
theorem dX5_add_95 : decode cX5_add 95 = .ok (.return_, 1) := dk_177 (dk_at dksX5_add_4 3 rfl rfl)
theorem q74 : (Jvm.Cond.initialized "Versorhall$Algebra") ∈ lw_all := lw_g (lw_at lw_m1 13 rfl) rfl
theorem q150 : (Jvm.Cond.fieldLinkNest "Versorhall$Algebra" (78 : Nat) "Versorhall" "prime" "I" "Versorhall") ∈ lw_tbl := lw_at lw_m1 89 rfl
theorem q298 : (Jvm.Cond.instanceMethod ({ cls := "Versorhall$Algebra", name := "units", desc := "()I" } : Jvm.MethodName)) ∈ lw_all := lw_g (lw_at lw_m1 237 rfl) rfl
theorem q299 : (Jvm.Cond.selects "Versorhall$Algebra" ({ cls := "Versorhall$Algebra", name := "units", desc := "()I" } : Jvm.MethodName) ({ cls := "Versorhall$Algebra", name := "units", desc := "()I" } : Jvm.MethodName)) ∈ lw_all := lw_g (lw_at lw_m1 238 rfl) rfl
theorem q300 : (Jvm.Cond.code ({ cls := "Versorhall$Algebra", name := "units", desc := "()I" } : Jvm.MethodName) prog_2_method_2_code (1 : Nat) (Option.some Jvm.ClassFile.FieldType.int)) ∈ lw_all := lw_g (lw_at lw_m1 239 rfl) rfl
theorem q301 : (Jvm.Cond.methodLink "Versorhall$Algebra" (35 : Nat) ({ cls := "java/util/ArrayList", name := "size", desc := "()I" } : Jvm.MethodName)) ∈ lw_all := lw_g (lw_at lw_m2 0 rfl) rfl
theorem q398 : (Jvm.Cond.instanceMethod ({ cls := "Versorhall$Algebra", name := "centre", desc := "()I" } : Jvm.MethodName)) ∈ lw_all := lw_g (lw_at lw_m2 97 rfl) rfl
theorem q399 : (Jvm.Cond.selects "Versorhall$Algebra" ({ cls := "Versorhall$Algebra", name := "centre", desc := "()I" } : Jvm.MethodName) ({ cls := "Versorhall$Algebra", name := "centre", desc := "()I" } : Jvm.MethodName)) ∈ lw_all := lw_g (lw_at lw_m2 98 rfl) rfl
theorem q400 : (Jvm.Cond.code ({ cls := "Versorhall$Algebra", name := "centre", desc := "()I" } : Jvm.MethodName) prog_2_method_6_code (5 : Nat) (Option.some Jvm.ClassFile.FieldType.int)) ∈ lw_all := lw_g (lw_at lw_m2 99 rfl) rfl
theorem q401 : (Jvm.Cond.methodLink "Versorhall$Algebra" (49 : Nat) ({ cls := "Versorhall$Algebra", name := "units", desc := "()I" } : Jvm.MethodName)) ∈ lw_all := lw_g (lw_at lw_m2 100 rfl) rfl
theorem q402 : (Jvm.Cond.methodLink "Versorhall$Algebra" (66 : Nat) ({ cls := "Versorhall$Algebra", name := "commute", desc := "(II)Z" } : Jvm.MethodName)) ∈ lw_all := lw_g (lw_at lw_m2 101 rfl) rfl
theorem q403 : (Jvm.Cond.instanceMethod ({ cls := "Versorhall$Algebra", name := "commute", desc := "(II)Z" } : Jvm.MethodName)) ∈ lw_all := lw_g (lw_at lw_m2 102 rfl) rfl
theorem q404 : (Jvm.Cond.selects "Versorhall$Algebra" ({ cls := "Versorhall$Algebra", name := "commute", desc := "(II)Z" } : Jvm.MethodName) ({ cls := "Versorhall$Algebra", name := "commute", desc := "(II)Z" } : Jvm.MethodName)) ∈ lw_all := lw_g (lw_at lw_m2 103 rfl) rfl
theorem q405 : (Jvm.Cond.code ({ cls := "Versorhall$Algebra", name := "commute", desc := "(II)Z" } : Jvm.MethodName) prog_2_method_5_code (3 : Nat) (Option.some Jvm.ClassFile.FieldType.boolean)) ∈ lw_all := lw_g (lw_at lw_m2 104 rfl) rfl
theorem q407 : (Jvm.Cond.instanceMethod ({ cls := "Versorhall$Algebra", name := "breaks", desc := "(I)I" } : Jvm.MethodName)) ∈ lw_all := lw_g (lw_at lw_m2 106 rfl) rfl
theorem q408 : (Jvm.Cond.selects "Versorhall$Algebra" ({ cls := "Versorhall$Algebra", name := "breaks", desc := "(I)I" } : Jvm.MethodName) ({ cls := "Versorhall$Algebra", name := "breaks", desc := "(I)I" } : Jvm.MethodName)) ∈ lw_all := lw_g (lw_at lw_m2 107 rfl) rfl
theorem q409 : (Jvm.Cond.code ({ cls := "Versorhall$Algebra", name := "breaks", desc := "(I)I" } : Jvm.MethodName) prog_2_method_9_code (5 : Nat) (Option.some Jvm.ClassFile.FieldType.int)) ∈ lw_all := lw_g (lw_at lw_m2 108 rfl) rfl
theorem q410 : (Jvm.Cond.methodLink "Versorhall$Algebra" (74 : Nat) ({ cls := "Versorhall$Algebra", name := "isKept", desc := "(IIII)Z" } : Jvm.MethodName)) ∈ lw_all := lw_g (lw_at lw_m2 109 rfl) rfl
theorem q411 : (Jvm.Cond.privateMethod ({ cls := "Versorhall$Algebra", name := "isKept", desc := "(IIII)Z" } : Jvm.MethodName)) ∈ lw_tbl := lw_at lw_m2 110 rfl
theorem q412 : (Jvm.Cond.instanceMethod ({ cls := "Versorhall$Algebra", name := "isKept", desc := "(IIII)Z" } : Jvm.MethodName)) ∈ lw_all := lw_g (lw_at lw_m2 111 rfl) rfl
theorem q413 : (Jvm.Cond.instantiable "Versorhall$Algebra" (5 : Nat)) ∈ lw_all := lw_g (lw_at lw_m2 112 rfl) rfl
theorem q414 : (Jvm.Cond.code ({ cls := "Versorhall$Algebra", name := "isKept", desc := "(IIII)Z" } : Jvm.MethodName) prog_2_method_8_code (5 : Nat) (Option.some Jvm.ClassFile.FieldType.boolean)) ∈ lw_all := lw_g (lw_at lw_m2 113 rfl) rfl
theorem q415 : (Jvm.Cond.methodLink "Versorhall$Algebra" (70 : Nat) ({ cls := "Versorhall$Algebra", name := "gap", desc := "(III)I" } : Jvm.MethodName)) ∈ lw_all := lw_g (lw_at lw_m2 114 rfl) rfl
theorem q416 : (Jvm.Cond.privateMethod ({ cls := "Versorhall$Algebra", name := "gap", desc := "(III)I" } : Jvm.MethodName)) ∈ lw_tbl := lw_at lw_m2 115 rfl
theorem q417 : (Jvm.Cond.instanceMethod ({ cls := "Versorhall$Algebra", name := "gap", desc := "(III)I" } : Jvm.MethodName)) ∈ lw_all := lw_g (lw_at lw_m2 116 rfl) rfl
theorem q418 : (Jvm.Cond.code ({ cls := "Versorhall$Algebra", name := "gap", desc := "(III)I" } : Jvm.MethodName) prog_2_method_7_code (4 : Nat) (Option.some Jvm.ClassFile.FieldType.int)) ∈ lw_all := lw_g (lw_at lw_m2 117 rfl) rfl
theorem q419 : (Jvm.Cond.methodLinkNest "Versorhall$Algebra" (59 : Nat) ({ cls := "Versorhall", name := "mod", desc := "(I)I" } : Jvm.MethodName) "Versorhall") ∈ lw_tbl := lw_at lw_m2 118 rfl
theorem q421 : (Jvm.Cond.instanceMethod ({ cls := "Versorhall$Algebra", name := "row", desc := "(I)I" } : Jvm.MethodName)) ∈ lw_all := lw_g (lw_at lw_m2 120 rfl) rfl
theorem q422 : (Jvm.Cond.selects "Versorhall$Algebra" ({ cls := "Versorhall$Algebra", name := "row", desc := "(I)I" } : Jvm.MethodName) ({ cls := "Versorhall$Algebra", name := "row", desc := "(I)I" } : Jvm.MethodName)) ∈ lw_all := lw_g (lw_at lw_m2 121 rfl) rfl
theorem q423 : (Jvm.Cond.code ({ cls := "Versorhall$Algebra", name := "row", desc := "(I)I" } : Jvm.MethodName) prog_2_method_10_code (12 : Nat) (Option.some Jvm.ClassFile.FieldType.int)) ∈ lw_all := lw_g (lw_at lw_m2 122 rfl) rfl
theorem q424 : (Jvm.Cond.methodLink "Versorhall$Algebra" (82 : Nat) ({ cls := "java/util/ArrayList", name := "get", desc := "(I)Ljava/lang/Object;" } : Jvm.MethodName)) ∈ lw_all := lw_g (lw_at lw_m2 123 rfl) rfl
theorem q425 : (Jvm.Cond.classLink "Versorhall$Algebra" (40 : Nat) "java/lang/Integer") ∈ lw_all := lw_g (lw_at lw_m2 124 rfl) rfl
theorem q426 : (Jvm.Cond.methodLink "Versorhall$Algebra" (86 : Nat) ({ cls := "java/lang/Integer", name := "intValue", desc := "()I" } : Jvm.MethodName)) ∈ lw_all := lw_g (lw_at lw_m2 125 rfl) rfl
theorem q435 : (Jvm.Cond.instanceMethod ({ cls := "Versorhall$Algebra", name := "isBlades", desc := "()Z" } : Jvm.MethodName)) ∈ lw_all := lw_g (lw_at lw_m2 134 rfl) rfl
theorem q436 : (Jvm.Cond.selects "Versorhall$Algebra" ({ cls := "Versorhall$Algebra", name := "isBlades", desc := "()Z" } : Jvm.MethodName) ({ cls := "Versorhall$Algebra", name := "isBlades", desc := "()Z" } : Jvm.MethodName)) ∈ lw_all := lw_g (lw_at lw_m2 135 rfl) rfl
theorem q437 : (Jvm.Cond.code ({ cls := "Versorhall$Algebra", name := "isBlades", desc := "()Z" } : Jvm.MethodName) prog_2_method_4_code (1 : Nat) (Option.some Jvm.ClassFile.FieldType.boolean)) ∈ lw_all := lw_g (lw_at lw_m2 136 rfl) rfl
theorem q438 : (Jvm.Cond.fieldLink "Versorhall$Algebra" (63 : Nat) "Versorhall$Kind" "BLADES" "LVersorhall$Kind;") ∈ lw_all := lw_g (lw_at lw_m2 137 rfl) rfl
theorem q468 : (Jvm.Cond.selects "Versorhall$Algebra" ({ cls := "java/lang/Object", name := "equals", desc := "(Ljava/lang/Object;)Z" } : Jvm.MethodName) ({ cls := "java/lang/Object", name := "equals", desc := "(Ljava/lang/Object;)Z" } : Jvm.MethodName)) ∈ lw_all := lw_g (lw_at lw_m2 167 rfl) rfl
theorem q949 : (Jvm.Cond.instanceMethod ({ cls := "Versorhall$Algebra", name := "<init>", desc := "(LVersorhall;LVersorhall$Kind;)V" } : Jvm.MethodName)) ∈ lw_all := lw_g (lw_at lw_m4 168 rfl) rfl
theorem q950 : (Jvm.Cond.code ({ cls := "Versorhall$Algebra", name := "<init>", desc := "(LVersorhall;LVersorhall$Kind;)V" } : Jvm.MethodName) prog_2_method_1_code (3 : Nat) (Option.none : Option Jvm.ClassFile.FieldType)) ∈ lw_all := lw_g (lw_at lw_m4 169 rfl) rfl
theorem q951 : (Jvm.Cond.methodLink "Versorhall$Algebra" (9 : Nat) ({ cls := "java/lang/Object", name := "<init>", desc := "()V" } : Jvm.MethodName)) ∈ lw_all := lw_g (lw_at lw_m4 170 rfl) rfl
theorem q952 : (Jvm.Cond.classLink "Versorhall$Algebra" (15 : Nat) "java/util/ArrayList") ∈ lw_all := lw_g (lw_at lw_m4 171 rfl) rfl
theorem q953 : (Jvm.Cond.methodLink "Versorhall$Algebra" (17 : Nat) ({ cls := "java/util/ArrayList", name := "<init>", desc := "()V" } : Jvm.MethodName)) ∈ lw_all := lw_g (lw_at lw_m4 172 rfl) rfl
theorem q954 : (Jvm.Cond.classLink "Versorhall$Algebra" (25 : Nat) "[I") ∈ lw_all := lw_g (lw_at lw_m4 173 rfl) rfl
theorem q955 : (Jvm.Cond.fieldLink "Versorhall$Algebra" (31 : Nat) "Versorhall$Algebra" "kind" "LVersorhall$Kind;") ∈ lw_all := lw_g (lw_at lw_m4 174 rfl) rfl
theorem q958 : (Jvm.Cond.fieldLink "Versorhall$Algebra" (18 : Nat) "Versorhall$Algebra" "dials" "Ljava/util/ArrayList;") ∈ lw_all := lw_g (lw_at lw_m4 177 rfl) rfl
theorem q960 : (Jvm.Cond.fieldLink "Versorhall$Algebra" (22 : Nat) "Versorhall$Algebra" "mirrors" "Ljava/util/ArrayList;") ∈ lw_all := lw_g (lw_at lw_m4 179 rfl) rfl
theorem q962 : (Jvm.Cond.fieldLink "Versorhall$Algebra" (27 : Nat) "Versorhall$Algebra" "signs" "[[I") ∈ lw_all := lw_g (lw_at lw_m4 181 rfl) rfl
theorem q965 : (Jvm.Cond.fieldLink "Versorhall$Algebra" (3 : Nat) "Versorhall$Algebra" "this$0" "LVersorhall;") ∈ lw_all := lw_g (lw_at lw_m4 184 rfl) rfl
theorem q966 : (Jvm.Cond.laysFinal "Versorhall$Algebra" "Versorhall$Algebra" "kind" "LVersorhall$Kind;") ∈ lw_all := lw_g (lw_at lw_m4 185 rfl) rfl
theorem q967 : (Jvm.Cond.soleField "Versorhall$Algebra" "kind") ∈ lw_all := lw_g (lw_at lw_m4 186 rfl) rfl
theorem q968 : (Jvm.Cond.laysFinal "Versorhall$Algebra" "Versorhall$Algebra" "dials" "Ljava/util/ArrayList;") ∈ lw_all := lw_g (lw_at lw_m4 187 rfl) rfl
theorem q969 : (Jvm.Cond.soleField "Versorhall$Algebra" "dials") ∈ lw_all := lw_g (lw_at lw_m4 188 rfl) rfl
theorem q970 : (Jvm.Cond.laysFinal "Versorhall$Algebra" "Versorhall$Algebra" "mirrors" "Ljava/util/ArrayList;") ∈ lw_all := lw_g (lw_at lw_m4 189 rfl) rfl
theorem q971 : (Jvm.Cond.soleField "Versorhall$Algebra" "mirrors") ∈ lw_all := lw_g (lw_at lw_m4 190 rfl) rfl
theorem q972 : (Jvm.Cond.lays "Versorhall$Algebra" "Versorhall$Algebra" "signs" "[[I") ∈ lw_all := lw_g (lw_at lw_m4 191 rfl) rfl
theorem q973 : (Jvm.Cond.soleField "Versorhall$Algebra" "signs") ∈ lw_all := lw_g (lw_at lw_m4 192 rfl) rfl
theorem q974 : (Jvm.Cond.laysFinal "Versorhall$Algebra" "Versorhall$Algebra" "this$0" "LVersorhall;") ∈ lw_all := lw_g (lw_at lw_m4 193 rfl) rfl
theorem q975 : (Jvm.Cond.soleField "Versorhall$Algebra" "this$0") ∈ lw_all := lw_g (lw_at lw_m4 194 rfl) rfl
theorem q976 : (Jvm.Cond.superclass "Versorhall$Algebra" "java/lang/Object") ∈ lw_all := lw_g (lw_at lw_m4 195 rfl) rfl
theorem q1001 : (Jvm.Cond.selects "Versorhall$Algebra" ({ cls := "java/lang/Object", name := "getClass", desc := "()Ljava/lang/Class;" } : Jvm.MethodName) ({ cls := "java/lang/Object", name := "getClass", desc := "()Ljava/lang/Class;" } : Jvm.MethodName)) ∈ lw_all := lw_g (lw_at lw_m4 220 rfl) rfl
theorem q1083 : (Jvm.Cond.instanceMethod ({ cls := "Versorhall$Algebra", name := "add", desc := "(I)V" } : Jvm.MethodName)) ∈ lw_all := lw_g (lw_at lw_m5 62 rfl) rfl
theorem q1084 : (Jvm.Cond.selects "Versorhall$Algebra" ({ cls := "Versorhall$Algebra", name := "add", desc := "(I)V" } : Jvm.MethodName) ({ cls := "Versorhall$Algebra", name := "add", desc := "(I)V" } : Jvm.MethodName)) ∈ lw_all := lw_g (lw_at lw_m5 63 rfl) rfl
theorem q1085 : (Jvm.Cond.code ({ cls := "Versorhall$Algebra", name := "add", desc := "(I)V" } : Jvm.MethodName) prog_2_method_3_code (4 : Nat) (Option.none : Option Jvm.ClassFile.FieldType)) ∈ lw_all := lw_g (lw_at lw_m5 64 rfl) rfl
theorem q1086 : (Jvm.Cond.methodLink "Versorhall$Algebra" (39 : Nat) ({ cls := "java/lang/Integer", name := "valueOf", desc := "(I)Ljava/lang/Integer;" } : Jvm.MethodName)) ∈ lw_all := lw_g (lw_at lw_m5 65 rfl) rfl
theorem q1105 : (Jvm.Cond.methodLink "Versorhall$Algebra" (45 : Nat) ({ cls := "java/util/ArrayList", name := "add", desc := "(Ljava/lang/Object;)Z" } : Jvm.MethodName)) ∈ lw_all := lw_g (lw_at lw_m5 84 rfl) rfl
theorem q1106 : (Jvm.Cond.classLink "Versorhall$Algebra" (52 : Nat) "[[I") ∈ lw_all := lw_g (lw_at lw_m5 85 rfl) rfl
theorem q1107 : (Jvm.Cond.methodLink "Versorhall$Algebra" (53 : Nat) ({ cls := "Versorhall$Kind", name := "sign", desc := "(Ljava/util/ArrayList;III)I" } : Jvm.MethodName)) ∈ lw_all := lw_g (lw_at lw_m5 86 rfl) rfl
theorem q1282 : (Jvm.Cond.selects "Versorhall$Algebra" ({ cls := "java/lang/Object", name := "notifyAll", desc := "()V" } : Jvm.MethodName) ({ cls := "java/lang/Object", name := "notifyAll", desc := "()V" } : Jvm.MethodName)) ∈ lw_all := lw_g (lw_at lw_m6 21 rfl) rfl
theorem q1332 : (Jvm.Cond.selects "Versorhall$Algebra" ({ cls := "java/lang/Object", name := "notify", desc := "()V" } : Jvm.MethodName) ({ cls := "java/lang/Object", name := "notify", desc := "()V" } : Jvm.MethodName)) ∈ lw_all := lw_g (lw_at lw_m6 71 rfl) rfl
theorem q1971 : (Jvm.Cond.castable "Versorhall$Algebra" "java/lang/Object") ∈ lw_tbl := lw_at lw_m8 230 rfl
theorem in_X5 : ∀ w ∈ wsX50, w ∈ lw_all := lw_in wsX50 [966, 968, 970, 972, 974] (by decide +kernel) (by decide +kernel)
/-! Versorhall$Element -/
set_option maxRecDepth 100000
def RX7 : String := "Versorhall$Element"
def TX7 : u_T := fun k => match k with
  | 0 => ("Versorhall$Element", "algebra", "LVersorhall$Algebra;", true)
  | 1 => ("Versorhall$Element", "numbers", "[I", false)
  | _ => ("Versorhall$Element", "this$0", "LVersorhall;", true)
def tyX7 : Nat → FieldType := fun k => match k with
  | 0 => .object "Versorhall$Algebra"
  | 1 => .array .int
  | _ => .object "Versorhall"
abbrev wsX70 : List Cond := u_ws RX7 TX7 3
theorem nmX7 : ∀ a, a < 3 → ∀ b, b < 3 → a ≠ b → (TX7 a).2.1 ≠ (TX7 b).2.1 := by decide +kernel
theorem tyX7_ok : ∀ k, k < 3 → parseFieldDescriptor (TX7 k).2.2.1 = some (tyX7 k) := by decide +kernel
abbrev cX7_size : ByteArray := prog_4_method_9_code
def yX7_size : MethodName := ⟨RX7, "size", "()I"⟩
def dkwX7_size_1 : List UInt8 := [54, 5, 27, 21, 5, 154, 0, 7, 3, 167, 0, 4, 4, 96, 60, 132, 4, 1, 167, 255, 228, 27, 172]
abbrev dktX7_size_1 : List UInt8 := dkwX7_size_1 ++ []
def dkwX7_size_0 : List UInt8 := [3, 60, 42, 180, 0, 25, 77, 44, 190, 62, 3, 54, 4, 21, 4, 29, 162, 0, 28, 44, 21, 4, 46]
abbrev dktX7_size_0 : List UInt8 := dkwX7_size_0 ++ dktX7_size_1
theorem dksX7_size_0 : cX7_size.data.toList.drop 0 = dktX7_size_0 := by decide +kernel
theorem dksX7_size_1 : cX7_size.data.toList.drop 23 = dktX7_size_1 := dk_seg dksX7_size_0 23 rfl rfl
theorem dX7_size_0 : decode cX7_size 0 = .ok (.iconst 0, 1) := dk_3 (dk_at dksX7_size_0 0 rfl rfl)
theorem dX7_size_1 : decode cX7_size 1 = .ok (.istore_n 1, 1) := dk_60 (dk_at dksX7_size_0 1 rfl rfl)
theorem dX7_size_2 : decode cX7_size 2 = .ok (.aload_n 0, 1) := dk_42 (dk_at dksX7_size_0 2 rfl rfl)
theorem dX7_size_3 : decode cX7_size 3 = .ok (.getfield 25, 3) := dk_180 0 25 (dk_at dksX7_size_0 3 rfl rfl)
theorem dX7_size_6 : decode cX7_size 6 = .ok (.astore_n 2, 1) := dk_77 (dk_at dksX7_size_0 6 rfl rfl)
theorem dX7_size_7 : decode cX7_size 7 = .ok (.aload_n 2, 1) := dk_44 (dk_at dksX7_size_0 7 rfl rfl)
theorem dX7_size_8 : decode cX7_size 8 = .ok (.arraylength, 1) := dk_190 (dk_at dksX7_size_0 8 rfl rfl)
theorem dX7_size_9 : decode cX7_size 9 = .ok (.istore_n 3, 1) := dk_62 (dk_at dksX7_size_0 9 rfl rfl)
theorem dX7_size_10 : decode cX7_size 10 = .ok (.iconst 0, 1) := dk_3 (dk_at dksX7_size_0 10 rfl rfl)
theorem dX7_size_11 : decode cX7_size 11 = .ok (.istore 4, 2) := dk_54 4 (dk_at dksX7_size_0 11 rfl rfl)
theorem dX7_size_13 : decode cX7_size 13 = .ok (.iload 4, 2) := dk_21 4 (dk_at dksX7_size_0 13 rfl rfl)
theorem dX7_size_15 : decode cX7_size 15 = .ok (.iload_n 3, 1) := dk_29 (dk_at dksX7_size_0 15 rfl rfl)
theorem dX7_size_16 : decode cX7_size 16 = .ok (.if_icmp .ge 28, 3) := dk_162 0 28 (dk_at dksX7_size_0 16 rfl rfl)
theorem dX7_size_19 : decode cX7_size 19 = .ok (.aload_n 2, 1) := dk_44 (dk_at dksX7_size_0 19 rfl rfl)
theorem dX7_size_20 : decode cX7_size 20 = .ok (.iload 4, 2) := dk_21 4 (dk_at dksX7_size_0 20 rfl rfl)
theorem dX7_size_22 : decode cX7_size 22 = .ok (.iaload, 1) := dk_46 (dk_at dksX7_size_0 22 rfl rfl)
theorem dX7_size_23 : decode cX7_size 23 = .ok (.istore 5, 2) := dk_54 5 (dk_at dksX7_size_1 0 rfl rfl)
theorem dX7_size_25 : decode cX7_size 25 = .ok (.iload_n 1, 1) := dk_27 (dk_at dksX7_size_1 2 rfl rfl)
theorem dX7_size_26 : decode cX7_size 26 = .ok (.iload 5, 2) := dk_21 5 (dk_at dksX7_size_1 3 rfl rfl)
theorem dX7_size_28 : decode cX7_size 28 = .ok (.ifCond .ne 7, 3) := dk_154 0 7 (dk_at dksX7_size_1 5 rfl rfl)
theorem dX7_size_31 : decode cX7_size 31 = .ok (.iconst 0, 1) := dk_3 (dk_at dksX7_size_1 8 rfl rfl)
theorem dX7_size_32 : decode cX7_size 32 = .ok (.goto 4, 3) := dk_167 0 4 (dk_at dksX7_size_1 9 rfl rfl)
theorem dX7_size_35 : decode cX7_size 35 = .ok (.iconst 1, 1) := dk_4 (dk_at dksX7_size_1 12 rfl rfl)
theorem dX7_size_36 : decode cX7_size 36 = .ok (.iadd, 1) := dk_96 (dk_at dksX7_size_1 13 rfl rfl)
theorem dX7_size_37 : decode cX7_size 37 = .ok (.istore_n 1, 1) := dk_60 (dk_at dksX7_size_1 14 rfl rfl)
theorem dX7_size_38 : decode cX7_size 38 = .ok (.iinc 4 1, 3) := dk_132 4 1 (dk_at dksX7_size_1 15 rfl rfl)
theorem dX7_size_41 : decode cX7_size 41 = .ok (.goto (-28), 3) := dk_167 255 228 (dk_at dksX7_size_1 18 rfl rfl)
theorem dX7_size_44 : decode cX7_size 44 = .ok (.iload_n 1, 1) := dk_27 (dk_at dksX7_size_1 21 rfl rfl)
theorem dX7_size_45 : decode cX7_size 45 = .ok (.ireturn, 1) := dk_172 (dk_at dksX7_size_1 22 rfl rfl)
abbrev cX7_lean : ByteArray := prog_4_method_24_code
def yX7_lean : MethodName := ⟨RX7, "lean", "()F"⟩
def dkwX7_lean_2 : List UInt8 := [114, 69, 36, 11, 149, 154, 0, 5, 11, 174, 42, 182, 0, 77, 153, 0, 8, 36, 118, 167, 0, 4, 36, 174]
abbrev dktX7_lean_2 : List UInt8 := dkwX7_lean_2 ++ []
def dkwX7_lean_1 : List UInt8 := [180, 0, 25, 28, 46, 182, 0, 124, 104, 96, 60, 132, 2, 1, 167, 255, 224, 42, 27, 182, 0, 127, 18, 131]
abbrev dktX7_lean_1 : List UInt8 := dkwX7_lean_1 ++ dktX7_lean_2
def dkwX7_lean_0 : List UInt8 := [3, 60, 3, 61, 28, 42, 180, 0, 25, 190, 162, 0, 29, 27, 28, 4, 96, 42, 180, 0, 3, 42]
abbrev dktX7_lean_0 : List UInt8 := dkwX7_lean_0 ++ dktX7_lean_1
theorem dksX7_lean_0 : cX7_lean.data.toList.drop 0 = dktX7_lean_0 := by decide +kernel
theorem dksX7_lean_1 : cX7_lean.data.toList.drop 22 = dktX7_lean_1 := dk_seg dksX7_lean_0 22 rfl rfl
theorem dksX7_lean_2 : cX7_lean.data.toList.drop 46 = dktX7_lean_2 := dk_seg dksX7_lean_1 24 rfl rfl
theorem dX7_lean_0 : decode cX7_lean 0 = .ok (.iconst 0, 1) := dk_3 (dk_at dksX7_lean_0 0 rfl rfl)
theorem dX7_lean_1 : decode cX7_lean 1 = .ok (.istore_n 1, 1) := dk_60 (dk_at dksX7_lean_0 1 rfl rfl)
theorem dX7_lean_2 : decode cX7_lean 2 = .ok (.iconst 0, 1) := dk_3 (dk_at dksX7_lean_0 2 rfl rfl)
theorem dX7_lean_3 : decode cX7_lean 3 = .ok (.istore_n 2, 1) := dk_61 (dk_at dksX7_lean_0 3 rfl rfl)
theorem dX7_lean_4 : decode cX7_lean 4 = .ok (.iload_n 2, 1) := dk_28 (dk_at dksX7_lean_0 4 rfl rfl)
theorem dX7_lean_5 : decode cX7_lean 5 = .ok (.aload_n 0, 1) := dk_42 (dk_at dksX7_lean_0 5 rfl rfl)
theorem dX7_lean_6 : decode cX7_lean 6 = .ok (.getfield 25, 3) := dk_180 0 25 (dk_at dksX7_lean_0 6 rfl rfl)
theorem dX7_lean_9 : decode cX7_lean 9 = .ok (.arraylength, 1) := dk_190 (dk_at dksX7_lean_0 9 rfl rfl)
theorem dX7_lean_10 : decode cX7_lean 10 = .ok (.if_icmp .ge 29, 3) := dk_162 0 29 (dk_at dksX7_lean_0 10 rfl rfl)
theorem dX7_lean_13 : decode cX7_lean 13 = .ok (.iload_n 1, 1) := dk_27 (dk_at dksX7_lean_0 13 rfl rfl)
theorem dX7_lean_14 : decode cX7_lean 14 = .ok (.iload_n 2, 1) := dk_28 (dk_at dksX7_lean_0 14 rfl rfl)
theorem dX7_lean_15 : decode cX7_lean 15 = .ok (.iconst 1, 1) := dk_4 (dk_at dksX7_lean_0 15 rfl rfl)
theorem dX7_lean_16 : decode cX7_lean 16 = .ok (.iadd, 1) := dk_96 (dk_at dksX7_lean_0 16 rfl rfl)
theorem dX7_lean_17 : decode cX7_lean 17 = .ok (.aload_n 0, 1) := dk_42 (dk_at dksX7_lean_0 17 rfl rfl)
theorem dX7_lean_18 : decode cX7_lean 18 = .ok (.getfield 3, 3) := dk_180 0 3 (dk_at dksX7_lean_0 18 rfl rfl)
theorem dX7_lean_21 : decode cX7_lean 21 = .ok (.aload_n 0, 1) := dk_42 (dk_at dksX7_lean_0 21 rfl rfl)
theorem dX7_lean_22 : decode cX7_lean 22 = .ok (.getfield 25, 3) := dk_180 0 25 (dk_at dksX7_lean_1 0 rfl rfl)
theorem dX7_lean_25 : decode cX7_lean 25 = .ok (.iload_n 2, 1) := dk_28 (dk_at dksX7_lean_1 3 rfl rfl)
theorem dX7_lean_26 : decode cX7_lean 26 = .ok (.iaload, 1) := dk_46 (dk_at dksX7_lean_1 4 rfl rfl)
theorem dX7_lean_27 : decode cX7_lean 27 = .ok (.invokevirtual 124, 3) := dk_182 0 124 (dk_at dksX7_lean_1 5 rfl rfl)
theorem dX7_lean_30 : decode cX7_lean 30 = .ok (.imul, 1) := dk_104 (dk_at dksX7_lean_1 8 rfl rfl)
theorem dX7_lean_31 : decode cX7_lean 31 = .ok (.iadd, 1) := dk_96 (dk_at dksX7_lean_1 9 rfl rfl)
theorem dX7_lean_32 : decode cX7_lean 32 = .ok (.istore_n 1, 1) := dk_60 (dk_at dksX7_lean_1 10 rfl rfl)
theorem dX7_lean_33 : decode cX7_lean 33 = .ok (.iinc 2 1, 3) := dk_132 2 1 (dk_at dksX7_lean_1 11 rfl rfl)
theorem dX7_lean_36 : decode cX7_lean 36 = .ok (.goto (-32), 3) := dk_167 255 224 (dk_at dksX7_lean_1 14 rfl rfl)
theorem dX7_lean_39 : decode cX7_lean 39 = .ok (.aload_n 0, 1) := dk_42 (dk_at dksX7_lean_1 17 rfl rfl)
theorem dX7_lean_40 : decode cX7_lean 40 = .ok (.iload_n 1, 1) := dk_27 (dk_at dksX7_lean_1 18 rfl rfl)
theorem dX7_lean_41 : decode cX7_lean 41 = .ok (.invokevirtual 127, 3) := dk_182 0 127 (dk_at dksX7_lean_1 19 rfl rfl)
theorem dX7_lean_44 : decode cX7_lean 44 = .ok (.ldc 131, 2) := dk_18 131 (dk_at dksX7_lean_1 22 rfl rfl)
theorem dX7_lean_46 : decode cX7_lean 46 = .ok (.frem, 1) := dk_114 (dk_at dksX7_lean_2 0 rfl rfl)
theorem dX7_lean_47 : decode cX7_lean 47 = .ok (.fstore_n 2, 1) := dk_69 (dk_at dksX7_lean_2 1 rfl rfl)
theorem dX7_lean_48 : decode cX7_lean 48 = .ok (.fload_n 2, 1) := dk_36 (dk_at dksX7_lean_2 2 rfl rfl)
theorem dX7_lean_49 : decode cX7_lean 49 = .ok (.fconst 0, 1) := dk_11 (dk_at dksX7_lean_2 3 rfl rfl)
theorem dX7_lean_50 : decode cX7_lean 50 = .ok (.fcmp .l, 1) := dk_149 (dk_at dksX7_lean_2 4 rfl rfl)
theorem dX7_lean_51 : decode cX7_lean 51 = .ok (.ifCond .ne 5, 3) := dk_154 0 5 (dk_at dksX7_lean_2 5 rfl rfl)
theorem dX7_lean_54 : decode cX7_lean 54 = .ok (.fconst 0, 1) := dk_11 (dk_at dksX7_lean_2 8 rfl rfl)
theorem dX7_lean_55 : decode cX7_lean 55 = .ok (.freturn, 1) := dk_174 (dk_at dksX7_lean_2 9 rfl rfl)
theorem dX7_lean_56 : decode cX7_lean 56 = .ok (.aload_n 0, 1) := dk_42 (dk_at dksX7_lean_2 10 rfl rfl)
theorem dX7_lean_57 : decode cX7_lean 57 = .ok (.invokevirtual 77, 3) := dk_182 0 77 (dk_at dksX7_lean_2 11 rfl rfl)
theorem dX7_lean_60 : decode cX7_lean 60 = .ok (.ifCond .eq 8, 3) := dk_153 0 8 (dk_at dksX7_lean_2 14 rfl rfl)
theorem dX7_lean_63 : decode cX7_lean 63 = .ok (.fload_n 2, 1) := dk_36 (dk_at dksX7_lean_2 17 rfl rfl)
theorem dX7_lean_64 : decode cX7_lean 64 = .ok (.fneg, 1) := dk_118 (dk_at dksX7_lean_2 18 rfl rfl)
theorem dX7_lean_65 : decode cX7_lean 65 = .ok (.goto 4, 3) := dk_167 0 4 (dk_at dksX7_lean_2 19 rfl rfl)
theorem dX7_lean_68 : decode cX7_lean 68 = .ok (.fload_n 2, 1) := dk_36 (dk_at dksX7_lean_2 22 rfl rfl)
theorem dX7_lean_69 : decode cX7_lean 69 = .ok (.freturn, 1) := dk_174 (dk_at dksX7_lean_2 23 rfl rfl)
abbrev cX7_isPlain : ByteArray := prog_4_method_11_code
def yX7_isPlain : MethodName := ⟨RX7, "isPlain", "()Z"⟩
def dkwX7_isPlain_1 : List UInt8 := [4, 167, 0, 4, 3, 172]
abbrev dktX7_isPlain_1 : List UInt8 := dkwX7_isPlain_1 ++ []
def dkwX7_isPlain_0 : List UInt8 := [42, 182, 0, 63, 153, 0, 20, 42, 182, 0, 63, 4, 160, 0, 16, 42, 180, 0, 25, 3, 46, 153, 0, 7]
abbrev dktX7_isPlain_0 : List UInt8 := dkwX7_isPlain_0 ++ dktX7_isPlain_1
theorem dksX7_isPlain_0 : cX7_isPlain.data.toList.drop 0 = dktX7_isPlain_0 := by decide +kernel
theorem dksX7_isPlain_1 : cX7_isPlain.data.toList.drop 24 = dktX7_isPlain_1 := dk_seg dksX7_isPlain_0 24 rfl rfl
theorem dX7_isPlain_0 : decode cX7_isPlain 0 = .ok (.aload_n 0, 1) := dk_42 (dk_at dksX7_isPlain_0 0 rfl rfl)
theorem dX7_isPlain_1 : decode cX7_isPlain 1 = .ok (.invokevirtual 63, 3) := dk_182 0 63 (dk_at dksX7_isPlain_0 1 rfl rfl)
theorem dX7_isPlain_4 : decode cX7_isPlain 4 = .ok (.ifCond .eq 20, 3) := dk_153 0 20 (dk_at dksX7_isPlain_0 4 rfl rfl)
theorem dX7_isPlain_7 : decode cX7_isPlain 7 = .ok (.aload_n 0, 1) := dk_42 (dk_at dksX7_isPlain_0 7 rfl rfl)
theorem dX7_isPlain_8 : decode cX7_isPlain 8 = .ok (.invokevirtual 63, 3) := dk_182 0 63 (dk_at dksX7_isPlain_0 8 rfl rfl)
theorem dX7_isPlain_11 : decode cX7_isPlain 11 = .ok (.iconst 1, 1) := dk_4 (dk_at dksX7_isPlain_0 11 rfl rfl)
theorem dX7_isPlain_12 : decode cX7_isPlain 12 = .ok (.if_icmp .ne 16, 3) := dk_160 0 16 (dk_at dksX7_isPlain_0 12 rfl rfl)
theorem dX7_isPlain_15 : decode cX7_isPlain 15 = .ok (.aload_n 0, 1) := dk_42 (dk_at dksX7_isPlain_0 15 rfl rfl)
theorem dX7_isPlain_16 : decode cX7_isPlain 16 = .ok (.getfield 25, 3) := dk_180 0 25 (dk_at dksX7_isPlain_0 16 rfl rfl)
theorem dX7_isPlain_19 : decode cX7_isPlain 19 = .ok (.iconst 0, 1) := dk_3 (dk_at dksX7_isPlain_0 19 rfl rfl)
theorem dX7_isPlain_20 : decode cX7_isPlain 20 = .ok (.iaload, 1) := dk_46 (dk_at dksX7_isPlain_0 20 rfl rfl)
theorem dX7_isPlain_21 : decode cX7_isPlain 21 = .ok (.ifCond .eq 7, 3) := dk_153 0 7 (dk_at dksX7_isPlain_0 21 rfl rfl)
theorem dX7_isPlain_24 : decode cX7_isPlain 24 = .ok (.iconst 1, 1) := dk_4 (dk_at dksX7_isPlain_1 0 rfl rfl)
theorem dX7_isPlain_25 : decode cX7_isPlain 25 = .ok (.goto 4, 3) := dk_167 0 4 (dk_at dksX7_isPlain_1 1 rfl rfl)
theorem dX7_isPlain_28 : decode cX7_isPlain 28 = .ok (.iconst 0, 1) := dk_3 (dk_at dksX7_isPlain_1 4 rfl rfl)
theorem dX7_isPlain_29 : decode cX7_isPlain 29 = .ok (.ireturn, 1) := dk_172 (dk_at dksX7_isPlain_1 5 rfl rfl)
abbrev cX7_norm : ByteArray := prog_4_method_13_code
def yX7_norm : MethodName := ⟨RX7, "norm", "()I"⟩
def dkwX7_norm_0 : List UInt8 := [42, 42, 182, 0, 74, 182, 0, 59, 180, 0, 25, 3, 46, 172]
abbrev dktX7_norm_0 : List UInt8 := dkwX7_norm_0 ++ []
theorem dksX7_norm_0 : cX7_norm.data.toList.drop 0 = dktX7_norm_0 := by decide +kernel
theorem dX7_norm_0 : decode cX7_norm 0 = .ok (.aload_n 0, 1) := dk_42 (dk_at dksX7_norm_0 0 rfl rfl)
theorem dX7_norm_1 : decode cX7_norm 1 = .ok (.aload_n 0, 1) := dk_42 (dk_at dksX7_norm_0 1 rfl rfl)
theorem dX7_norm_2 : decode cX7_norm 2 = .ok (.invokevirtual 74, 3) := dk_182 0 74 (dk_at dksX7_norm_0 2 rfl rfl)
theorem dX7_norm_5 : decode cX7_norm 5 = .ok (.invokevirtual 59, 3) := dk_182 0 59 (dk_at dksX7_norm_0 5 rfl rfl)
theorem dX7_norm_8 : decode cX7_norm 8 = .ok (.getfield 25, 3) := dk_180 0 25 (dk_at dksX7_norm_0 8 rfl rfl)
theorem dX7_norm_11 : decode cX7_norm 11 = .ok (.iconst 0, 1) := dk_3 (dk_at dksX7_norm_0 11 rfl rfl)
theorem dX7_norm_12 : decode cX7_norm 12 = .ok (.iaload, 1) := dk_46 (dk_at dksX7_norm_0 12 rfl rfl)
theorem dX7_norm_13 : decode cX7_norm 13 = .ok (.ireturn, 1) := dk_172 (dk_at dksX7_norm_0 13 rfl rfl)
abbrev cX7_conjugate : ByteArray := prog_4_method_7_code
def yX7_conjugate : MethodName := ⟨RX7, "conjugate", "()LVersorhall$Element;"⟩
def dkwX7_conjugate_2 : List UInt8 := [180, 0, 25, 28, 46, 104, 182, 0, 38, 79, 132, 2, 1, 167, 255, 213, 43, 176]
abbrev dktX7_conjugate_2 : List UInt8 := dkwX7_conjugate_2 ++ []
def dkwX7_conjugate_1 : List UInt8 := [162, 0, 40, 43, 180, 0, 25, 28, 42, 180, 0, 3, 42, 180, 0, 15, 180, 0, 46, 28, 182, 0, 50, 42]
abbrev dktX7_conjugate_1 : List UInt8 := dkwX7_conjugate_1 ++ dktX7_conjugate_2
def dkwX7_conjugate_0 : List UInt8 := [187, 0, 4, 89, 42, 180, 0, 3, 42, 180, 0, 15, 183, 0, 29, 76, 3, 61, 28, 42, 180, 0, 25, 190]
abbrev dktX7_conjugate_0 : List UInt8 := dkwX7_conjugate_0 ++ dktX7_conjugate_1
theorem dksX7_conjugate_0 : cX7_conjugate.data.toList.drop 0 = dktX7_conjugate_0 := by decide +kernel
theorem dksX7_conjugate_1 : cX7_conjugate.data.toList.drop 24 = dktX7_conjugate_1 := dk_seg dksX7_conjugate_0 24 rfl rfl
theorem dksX7_conjugate_2 : cX7_conjugate.data.toList.drop 48 = dktX7_conjugate_2 := dk_seg dksX7_conjugate_1 24 rfl rfl
theorem dX7_conjugate_0 : decode cX7_conjugate 0 = .ok (.new 4, 3) := dk_187 0 4 (dk_at dksX7_conjugate_0 0 rfl rfl)
theorem dX7_conjugate_3 : decode cX7_conjugate 3 = .ok (.dup, 1) := dk_89 (dk_at dksX7_conjugate_0 3 rfl rfl)
theorem dX7_conjugate_4 : decode cX7_conjugate 4 = .ok (.aload_n 0, 1) := dk_42 (dk_at dksX7_conjugate_0 4 rfl rfl)
theorem dX7_conjugate_5 : decode cX7_conjugate 5 = .ok (.getfield 3, 3) := dk_180 0 3 (dk_at dksX7_conjugate_0 5 rfl rfl)
theorem dX7_conjugate_8 : decode cX7_conjugate 8 = .ok (.aload_n 0, 1) := dk_42 (dk_at dksX7_conjugate_0 8 rfl rfl)
theorem dX7_conjugate_9 : decode cX7_conjugate 9 = .ok (.getfield 15, 3) := dk_180 0 15 (dk_at dksX7_conjugate_0 9 rfl rfl)
theorem dX7_conjugate_12 : decode cX7_conjugate 12 = .ok (.invokespecial 29, 3) := dk_183 0 29 (dk_at dksX7_conjugate_0 12 rfl rfl)
theorem dX7_conjugate_15 : decode cX7_conjugate 15 = .ok (.astore_n 1, 1) := dk_76 (dk_at dksX7_conjugate_0 15 rfl rfl)
theorem dX7_conjugate_16 : decode cX7_conjugate 16 = .ok (.iconst 0, 1) := dk_3 (dk_at dksX7_conjugate_0 16 rfl rfl)
theorem dX7_conjugate_17 : decode cX7_conjugate 17 = .ok (.istore_n 2, 1) := dk_61 (dk_at dksX7_conjugate_0 17 rfl rfl)
theorem dX7_conjugate_18 : decode cX7_conjugate 18 = .ok (.iload_n 2, 1) := dk_28 (dk_at dksX7_conjugate_0 18 rfl rfl)
theorem dX7_conjugate_19 : decode cX7_conjugate 19 = .ok (.aload_n 0, 1) := dk_42 (dk_at dksX7_conjugate_0 19 rfl rfl)
theorem dX7_conjugate_20 : decode cX7_conjugate 20 = .ok (.getfield 25, 3) := dk_180 0 25 (dk_at dksX7_conjugate_0 20 rfl rfl)
theorem dX7_conjugate_23 : decode cX7_conjugate 23 = .ok (.arraylength, 1) := dk_190 (dk_at dksX7_conjugate_0 23 rfl rfl)
theorem dX7_conjugate_24 : decode cX7_conjugate 24 = .ok (.if_icmp .ge 40, 3) := dk_162 0 40 (dk_at dksX7_conjugate_1 0 rfl rfl)
theorem dX7_conjugate_27 : decode cX7_conjugate 27 = .ok (.aload_n 1, 1) := dk_43 (dk_at dksX7_conjugate_1 3 rfl rfl)
theorem dX7_conjugate_28 : decode cX7_conjugate 28 = .ok (.getfield 25, 3) := dk_180 0 25 (dk_at dksX7_conjugate_1 4 rfl rfl)
theorem dX7_conjugate_31 : decode cX7_conjugate 31 = .ok (.iload_n 2, 1) := dk_28 (dk_at dksX7_conjugate_1 7 rfl rfl)
theorem dX7_conjugate_32 : decode cX7_conjugate 32 = .ok (.aload_n 0, 1) := dk_42 (dk_at dksX7_conjugate_1 8 rfl rfl)
theorem dX7_conjugate_33 : decode cX7_conjugate 33 = .ok (.getfield 3, 3) := dk_180 0 3 (dk_at dksX7_conjugate_1 9 rfl rfl)
theorem dX7_conjugate_36 : decode cX7_conjugate 36 = .ok (.aload_n 0, 1) := dk_42 (dk_at dksX7_conjugate_1 12 rfl rfl)
theorem dX7_conjugate_37 : decode cX7_conjugate 37 = .ok (.getfield 15, 3) := dk_180 0 15 (dk_at dksX7_conjugate_1 13 rfl rfl)
theorem dX7_conjugate_40 : decode cX7_conjugate 40 = .ok (.getfield 46, 3) := dk_180 0 46 (dk_at dksX7_conjugate_1 16 rfl rfl)
theorem dX7_conjugate_43 : decode cX7_conjugate 43 = .ok (.iload_n 2, 1) := dk_28 (dk_at dksX7_conjugate_1 19 rfl rfl)
theorem dX7_conjugate_44 : decode cX7_conjugate 44 = .ok (.invokevirtual 50, 3) := dk_182 0 50 (dk_at dksX7_conjugate_1 20 rfl rfl)
theorem dX7_conjugate_47 : decode cX7_conjugate 47 = .ok (.aload_n 0, 1) := dk_42 (dk_at dksX7_conjugate_1 23 rfl rfl)
theorem dX7_conjugate_48 : decode cX7_conjugate 48 = .ok (.getfield 25, 3) := dk_180 0 25 (dk_at dksX7_conjugate_2 0 rfl rfl)
theorem dX7_conjugate_51 : decode cX7_conjugate 51 = .ok (.iload_n 2, 1) := dk_28 (dk_at dksX7_conjugate_2 3 rfl rfl)
theorem dX7_conjugate_52 : decode cX7_conjugate 52 = .ok (.iaload, 1) := dk_46 (dk_at dksX7_conjugate_2 4 rfl rfl)
theorem dX7_conjugate_53 : decode cX7_conjugate 53 = .ok (.imul, 1) := dk_104 (dk_at dksX7_conjugate_2 5 rfl rfl)
theorem dX7_conjugate_54 : decode cX7_conjugate 54 = .ok (.invokevirtual 38, 3) := dk_182 0 38 (dk_at dksX7_conjugate_2 6 rfl rfl)
theorem dX7_conjugate_57 : decode cX7_conjugate 57 = .ok (.iastore, 1) := dk_79 (dk_at dksX7_conjugate_2 9 rfl rfl)
theorem dX7_conjugate_58 : decode cX7_conjugate 58 = .ok (.iinc 2 1, 3) := dk_132 2 1 (dk_at dksX7_conjugate_2 10 rfl rfl)
theorem dX7_conjugate_61 : decode cX7_conjugate 61 = .ok (.goto (-43), 3) := dk_167 255 213 (dk_at dksX7_conjugate_2 13 rfl rfl)
theorem dX7_conjugate_64 : decode cX7_conjugate 64 = .ok (.aload_n 1, 1) := dk_43 (dk_at dksX7_conjugate_2 16 rfl rfl)
theorem dX7_conjugate_65 : decode cX7_conjugate 65 = .ok (.areturn, 1) := dk_176 (dk_at dksX7_conjugate_2 17 rfl rfl)
abbrev cX7_init : ByteArray := prog_4_method_1_code
def yX7_init : MethodName := ⟨RX7, "<init>", "(LVersorhall;LVersorhall$Algebra;)V"⟩
def dkwX7_init_1 : List UInt8 := [177]
abbrev dktX7_init_1 : List UInt8 := dkwX7_init_1 ++ []
def dkwX7_init_0 : List UInt8 := [42, 43, 181, 0, 3, 42, 183, 0, 9, 42, 44, 181, 0, 15, 42, 44, 182, 0, 19, 188, 10, 181, 0, 25]
abbrev dktX7_init_0 : List UInt8 := dkwX7_init_0 ++ dktX7_init_1
theorem dksX7_init_0 : cX7_init.data.toList.drop 0 = dktX7_init_0 := by decide +kernel
theorem dksX7_init_1 : cX7_init.data.toList.drop 24 = dktX7_init_1 := dk_seg dksX7_init_0 24 rfl rfl
theorem dX7_init_0 : decode cX7_init 0 = .ok (.aload_n 0, 1) := dk_42 (dk_at dksX7_init_0 0 rfl rfl)
theorem dX7_init_1 : decode cX7_init 1 = .ok (.aload_n 1, 1) := dk_43 (dk_at dksX7_init_0 1 rfl rfl)
theorem dX7_init_2 : decode cX7_init 2 = .ok (.putfield 3, 3) := dk_181 0 3 (dk_at dksX7_init_0 2 rfl rfl)
theorem dX7_init_5 : decode cX7_init 5 = .ok (.aload_n 0, 1) := dk_42 (dk_at dksX7_init_0 5 rfl rfl)
theorem dX7_init_6 : decode cX7_init 6 = .ok (.invokespecial 9, 3) := dk_183 0 9 (dk_at dksX7_init_0 6 rfl rfl)
theorem dX7_init_9 : decode cX7_init 9 = .ok (.aload_n 0, 1) := dk_42 (dk_at dksX7_init_0 9 rfl rfl)
theorem dX7_init_10 : decode cX7_init 10 = .ok (.aload_n 2, 1) := dk_44 (dk_at dksX7_init_0 10 rfl rfl)
theorem dX7_init_11 : decode cX7_init 11 = .ok (.putfield 15, 3) := dk_181 0 15 (dk_at dksX7_init_0 11 rfl rfl)
theorem dX7_init_14 : decode cX7_init 14 = .ok (.aload_n 0, 1) := dk_42 (dk_at dksX7_init_0 14 rfl rfl)
theorem dX7_init_15 : decode cX7_init 15 = .ok (.aload_n 2, 1) := dk_44 (dk_at dksX7_init_0 15 rfl rfl)
theorem dX7_init_16 : decode cX7_init 16 = .ok (.invokevirtual 19, 3) := dk_182 0 19 (dk_at dksX7_init_0 16 rfl rfl)
theorem dX7_init_19 : decode cX7_init 19 = .ok (.newarray .int, 2) := dk_188_10 (dk_at dksX7_init_0 19 rfl rfl)
theorem dX7_init_21 : decode cX7_init 21 = .ok (.putfield 25, 3) := dk_181 0 25 (dk_at dksX7_init_0 21 rfl rfl)
theorem dX7_init_24 : decode cX7_init 24 = .ok (.return_, 1) := dk_177 (dk_at dksX7_init_1 0 rfl rfl)
abbrev cX7_times : ByteArray := prog_4_method_6_code
def yX7_times : MethodName := ⟨RX7, "times", "(LVersorhall$Element;)LVersorhall$Element;"⟩
def dkwX7_times_4 : List UInt8 := [21, 4, 46, 104, 96, 182, 0, 38, 79, 132, 4, 1, 167, 255, 181, 132, 3, 1, 167, 255, 163, 44, 176]
abbrev dktX7_times_4 : List UInt8 := dkwX7_times_4 ++ []
def dkwX7_times_3 : List UInt8 := [42, 180, 0, 25, 29, 46, 43, 180, 0, 25, 21, 4, 46, 104, 42, 180, 0, 15, 180, 0, 42, 29, 50]
abbrev dktX7_times_3 : List UInt8 := dkwX7_times_3 ++ dktX7_times_4
def dkwX7_times_2 : List UInt8 := [153, 0, 62, 44, 180, 0, 25, 29, 21, 4, 130, 42, 180, 0, 3, 44, 180, 0, 25, 29, 21, 4, 130, 46]
abbrev dktX7_times_2 : List UInt8 := dkwX7_times_2 ++ dktX7_times_3
def dkwX7_times_1 : List UInt8 := [162, 0, 90, 3, 54, 4, 21, 4, 42, 180, 0, 25, 190, 162, 0, 71, 42, 180, 0, 25, 29, 46]
abbrev dktX7_times_1 : List UInt8 := dkwX7_times_1 ++ dktX7_times_2
def dkwX7_times_0 : List UInt8 := [187, 0, 4, 89, 42, 180, 0, 3, 42, 180, 0, 15, 183, 0, 29, 77, 3, 62, 29, 42, 180, 0, 25, 190]
abbrev dktX7_times_0 : List UInt8 := dkwX7_times_0 ++ dktX7_times_1
theorem dksX7_times_0 : cX7_times.data.toList.drop 0 = dktX7_times_0 := by decide +kernel
theorem dksX7_times_1 : cX7_times.data.toList.drop 24 = dktX7_times_1 := dk_seg dksX7_times_0 24 rfl rfl
theorem dksX7_times_2 : cX7_times.data.toList.drop 46 = dktX7_times_2 := dk_seg dksX7_times_1 22 rfl rfl
theorem dksX7_times_3 : cX7_times.data.toList.drop 70 = dktX7_times_3 := dk_seg dksX7_times_2 24 rfl rfl
theorem dksX7_times_4 : cX7_times.data.toList.drop 93 = dktX7_times_4 := dk_seg dksX7_times_3 23 rfl rfl
theorem dX7_times_0 : decode cX7_times 0 = .ok (.new 4, 3) := dk_187 0 4 (dk_at dksX7_times_0 0 rfl rfl)
theorem dX7_times_3 : decode cX7_times 3 = .ok (.dup, 1) := dk_89 (dk_at dksX7_times_0 3 rfl rfl)
theorem dX7_times_4 : decode cX7_times 4 = .ok (.aload_n 0, 1) := dk_42 (dk_at dksX7_times_0 4 rfl rfl)
theorem dX7_times_5 : decode cX7_times 5 = .ok (.getfield 3, 3) := dk_180 0 3 (dk_at dksX7_times_0 5 rfl rfl)
theorem dX7_times_8 : decode cX7_times 8 = .ok (.aload_n 0, 1) := dk_42 (dk_at dksX7_times_0 8 rfl rfl)
theorem dX7_times_9 : decode cX7_times 9 = .ok (.getfield 15, 3) := dk_180 0 15 (dk_at dksX7_times_0 9 rfl rfl)
theorem dX7_times_12 : decode cX7_times 12 = .ok (.invokespecial 29, 3) := dk_183 0 29 (dk_at dksX7_times_0 12 rfl rfl)
theorem dX7_times_15 : decode cX7_times 15 = .ok (.astore_n 2, 1) := dk_77 (dk_at dksX7_times_0 15 rfl rfl)
theorem dX7_times_16 : decode cX7_times 16 = .ok (.iconst 0, 1) := dk_3 (dk_at dksX7_times_0 16 rfl rfl)
theorem dX7_times_17 : decode cX7_times 17 = .ok (.istore_n 3, 1) := dk_62 (dk_at dksX7_times_0 17 rfl rfl)
theorem dX7_times_18 : decode cX7_times 18 = .ok (.iload_n 3, 1) := dk_29 (dk_at dksX7_times_0 18 rfl rfl)
theorem dX7_times_19 : decode cX7_times 19 = .ok (.aload_n 0, 1) := dk_42 (dk_at dksX7_times_0 19 rfl rfl)
theorem dX7_times_20 : decode cX7_times 20 = .ok (.getfield 25, 3) := dk_180 0 25 (dk_at dksX7_times_0 20 rfl rfl)
theorem dX7_times_23 : decode cX7_times 23 = .ok (.arraylength, 1) := dk_190 (dk_at dksX7_times_0 23 rfl rfl)
theorem dX7_times_24 : decode cX7_times 24 = .ok (.if_icmp .ge 90, 3) := dk_162 0 90 (dk_at dksX7_times_1 0 rfl rfl)
theorem dX7_times_27 : decode cX7_times 27 = .ok (.iconst 0, 1) := dk_3 (dk_at dksX7_times_1 3 rfl rfl)
theorem dX7_times_28 : decode cX7_times 28 = .ok (.istore 4, 2) := dk_54 4 (dk_at dksX7_times_1 4 rfl rfl)
theorem dX7_times_30 : decode cX7_times 30 = .ok (.iload 4, 2) := dk_21 4 (dk_at dksX7_times_1 6 rfl rfl)
theorem dX7_times_32 : decode cX7_times 32 = .ok (.aload_n 0, 1) := dk_42 (dk_at dksX7_times_1 8 rfl rfl)
theorem dX7_times_33 : decode cX7_times 33 = .ok (.getfield 25, 3) := dk_180 0 25 (dk_at dksX7_times_1 9 rfl rfl)
theorem dX7_times_36 : decode cX7_times 36 = .ok (.arraylength, 1) := dk_190 (dk_at dksX7_times_1 12 rfl rfl)
theorem dX7_times_37 : decode cX7_times 37 = .ok (.if_icmp .ge 71, 3) := dk_162 0 71 (dk_at dksX7_times_1 13 rfl rfl)
theorem dX7_times_40 : decode cX7_times 40 = .ok (.aload_n 0, 1) := dk_42 (dk_at dksX7_times_1 16 rfl rfl)
theorem dX7_times_41 : decode cX7_times 41 = .ok (.getfield 25, 3) := dk_180 0 25 (dk_at dksX7_times_1 17 rfl rfl)
theorem dX7_times_44 : decode cX7_times 44 = .ok (.iload_n 3, 1) := dk_29 (dk_at dksX7_times_1 20 rfl rfl)
theorem dX7_times_45 : decode cX7_times 45 = .ok (.iaload, 1) := dk_46 (dk_at dksX7_times_1 21 rfl rfl)
theorem dX7_times_46 : decode cX7_times 46 = .ok (.ifCond .eq 62, 3) := dk_153 0 62 (dk_at dksX7_times_2 0 rfl rfl)
theorem dX7_times_49 : decode cX7_times 49 = .ok (.aload_n 2, 1) := dk_44 (dk_at dksX7_times_2 3 rfl rfl)
theorem dX7_times_50 : decode cX7_times 50 = .ok (.getfield 25, 3) := dk_180 0 25 (dk_at dksX7_times_2 4 rfl rfl)
theorem dX7_times_53 : decode cX7_times 53 = .ok (.iload_n 3, 1) := dk_29 (dk_at dksX7_times_2 7 rfl rfl)
theorem dX7_times_54 : decode cX7_times 54 = .ok (.iload 4, 2) := dk_21 4 (dk_at dksX7_times_2 8 rfl rfl)
theorem dX7_times_56 : decode cX7_times 56 = .ok (.ixor, 1) := dk_130 (dk_at dksX7_times_2 10 rfl rfl)
theorem dX7_times_57 : decode cX7_times 57 = .ok (.aload_n 0, 1) := dk_42 (dk_at dksX7_times_2 11 rfl rfl)
theorem dX7_times_58 : decode cX7_times 58 = .ok (.getfield 3, 3) := dk_180 0 3 (dk_at dksX7_times_2 12 rfl rfl)
theorem dX7_times_61 : decode cX7_times 61 = .ok (.aload_n 2, 1) := dk_44 (dk_at dksX7_times_2 15 rfl rfl)
theorem dX7_times_62 : decode cX7_times 62 = .ok (.getfield 25, 3) := dk_180 0 25 (dk_at dksX7_times_2 16 rfl rfl)
theorem dX7_times_65 : decode cX7_times 65 = .ok (.iload_n 3, 1) := dk_29 (dk_at dksX7_times_2 19 rfl rfl)
theorem dX7_times_66 : decode cX7_times 66 = .ok (.iload 4, 2) := dk_21 4 (dk_at dksX7_times_2 20 rfl rfl)
theorem dX7_times_68 : decode cX7_times 68 = .ok (.ixor, 1) := dk_130 (dk_at dksX7_times_2 22 rfl rfl)
theorem dX7_times_69 : decode cX7_times 69 = .ok (.iaload, 1) := dk_46 (dk_at dksX7_times_2 23 rfl rfl)
theorem dX7_times_70 : decode cX7_times 70 = .ok (.aload_n 0, 1) := dk_42 (dk_at dksX7_times_3 0 rfl rfl)
theorem dX7_times_71 : decode cX7_times 71 = .ok (.getfield 25, 3) := dk_180 0 25 (dk_at dksX7_times_3 1 rfl rfl)
theorem dX7_times_74 : decode cX7_times 74 = .ok (.iload_n 3, 1) := dk_29 (dk_at dksX7_times_3 4 rfl rfl)
theorem dX7_times_75 : decode cX7_times 75 = .ok (.iaload, 1) := dk_46 (dk_at dksX7_times_3 5 rfl rfl)
theorem dX7_times_76 : decode cX7_times 76 = .ok (.aload_n 1, 1) := dk_43 (dk_at dksX7_times_3 6 rfl rfl)
theorem dX7_times_77 : decode cX7_times 77 = .ok (.getfield 25, 3) := dk_180 0 25 (dk_at dksX7_times_3 7 rfl rfl)
theorem dX7_times_80 : decode cX7_times 80 = .ok (.iload 4, 2) := dk_21 4 (dk_at dksX7_times_3 10 rfl rfl)
theorem dX7_times_82 : decode cX7_times 82 = .ok (.iaload, 1) := dk_46 (dk_at dksX7_times_3 12 rfl rfl)
theorem dX7_times_83 : decode cX7_times 83 = .ok (.imul, 1) := dk_104 (dk_at dksX7_times_3 13 rfl rfl)
theorem dX7_times_84 : decode cX7_times 84 = .ok (.aload_n 0, 1) := dk_42 (dk_at dksX7_times_3 14 rfl rfl)
theorem dX7_times_85 : decode cX7_times 85 = .ok (.getfield 15, 3) := dk_180 0 15 (dk_at dksX7_times_3 15 rfl rfl)
theorem dX7_times_88 : decode cX7_times 88 = .ok (.getfield 42, 3) := dk_180 0 42 (dk_at dksX7_times_3 18 rfl rfl)
theorem dX7_times_91 : decode cX7_times 91 = .ok (.iload_n 3, 1) := dk_29 (dk_at dksX7_times_3 21 rfl rfl)
theorem dX7_times_92 : decode cX7_times 92 = .ok (.aaload, 1) := dk_50 (dk_at dksX7_times_3 22 rfl rfl)
theorem dX7_times_93 : decode cX7_times 93 = .ok (.iload 4, 2) := dk_21 4 (dk_at dksX7_times_4 0 rfl rfl)
theorem dX7_times_95 : decode cX7_times 95 = .ok (.iaload, 1) := dk_46 (dk_at dksX7_times_4 2 rfl rfl)
theorem dX7_times_96 : decode cX7_times 96 = .ok (.imul, 1) := dk_104 (dk_at dksX7_times_4 3 rfl rfl)
theorem dX7_times_97 : decode cX7_times 97 = .ok (.iadd, 1) := dk_96 (dk_at dksX7_times_4 4 rfl rfl)
theorem dX7_times_98 : decode cX7_times 98 = .ok (.invokevirtual 38, 3) := dk_182 0 38 (dk_at dksX7_times_4 5 rfl rfl)
theorem dX7_times_101 : decode cX7_times 101 = .ok (.iastore, 1) := dk_79 (dk_at dksX7_times_4 8 rfl rfl)
theorem dX7_times_102 : decode cX7_times 102 = .ok (.iinc 4 1, 3) := dk_132 4 1 (dk_at dksX7_times_4 9 rfl rfl)
theorem dX7_times_105 : decode cX7_times 105 = .ok (.goto (-75), 3) := dk_167 255 181 (dk_at dksX7_times_4 12 rfl rfl)
theorem dX7_times_108 : decode cX7_times 108 = .ok (.iinc 3 1, 3) := dk_132 3 1 (dk_at dksX7_times_4 15 rfl rfl)
theorem dX7_times_111 : decode cX7_times 111 = .ok (.goto (-93), 3) := dk_167 255 163 (dk_at dksX7_times_4 18 rfl rfl)
theorem dX7_times_114 : decode cX7_times 114 = .ok (.aload_n 2, 1) := dk_44 (dk_at dksX7_times_4 21 rfl rfl)
theorem dX7_times_115 : decode cX7_times 115 = .ok (.areturn, 1) := dk_176 (dk_at dksX7_times_4 22 rfl rfl)
abbrev cX7_firstPower : ByteArray := prog_4_method_15_code
def yX7_firstPower : MethodName := ⟨RX7, "firstPower", "(IZ)I"⟩
def dkwX7_firstPower_2 : List UInt8 := [153, 0, 6, 21, 4, 172, 132, 4, 1, 167, 255, 207, 2, 172]
abbrev dktX7_firstPower_2 : List UInt8 := dkwX7_firstPower_2 ++ []
def dkwX7_firstPower_1 : List UInt8 := [45, 182, 0, 77, 153, 0, 26, 45, 180, 0, 25, 3, 46, 4, 160, 0, 16, 167, 0, 10, 45, 182, 0, 70]
abbrev dktX7_firstPower_1 : List UInt8 := dkwX7_firstPower_1 ++ dktX7_firstPower_2
def dkwX7_firstPower_0 : List UInt8 := [42, 182, 0, 55, 78, 4, 54, 4, 21, 4, 27, 163, 0, 49, 45, 42, 182, 0, 59, 78, 28, 153, 0, 23]
abbrev dktX7_firstPower_0 : List UInt8 := dkwX7_firstPower_0 ++ dktX7_firstPower_1
theorem dksX7_firstPower_0 : cX7_firstPower.data.toList.drop 0 = dktX7_firstPower_0 := by decide +kernel
theorem dksX7_firstPower_1 : cX7_firstPower.data.toList.drop 24 = dktX7_firstPower_1 := dk_seg dksX7_firstPower_0 24 rfl rfl
theorem dksX7_firstPower_2 : cX7_firstPower.data.toList.drop 48 = dktX7_firstPower_2 := dk_seg dksX7_firstPower_1 24 rfl rfl
theorem dX7_firstPower_0 : decode cX7_firstPower 0 = .ok (.aload_n 0, 1) := dk_42 (dk_at dksX7_firstPower_0 0 rfl rfl)
theorem dX7_firstPower_1 : decode cX7_firstPower 1 = .ok (.invokevirtual 55, 3) := dk_182 0 55 (dk_at dksX7_firstPower_0 1 rfl rfl)
theorem dX7_firstPower_4 : decode cX7_firstPower 4 = .ok (.astore_n 3, 1) := dk_78 (dk_at dksX7_firstPower_0 4 rfl rfl)
theorem dX7_firstPower_5 : decode cX7_firstPower 5 = .ok (.iconst 1, 1) := dk_4 (dk_at dksX7_firstPower_0 5 rfl rfl)
theorem dX7_firstPower_6 : decode cX7_firstPower 6 = .ok (.istore 4, 2) := dk_54 4 (dk_at dksX7_firstPower_0 6 rfl rfl)
theorem dX7_firstPower_8 : decode cX7_firstPower 8 = .ok (.iload 4, 2) := dk_21 4 (dk_at dksX7_firstPower_0 8 rfl rfl)
theorem dX7_firstPower_10 : decode cX7_firstPower 10 = .ok (.iload_n 1, 1) := dk_27 (dk_at dksX7_firstPower_0 10 rfl rfl)
theorem dX7_firstPower_11 : decode cX7_firstPower 11 = .ok (.if_icmp .gt 49, 3) := dk_163 0 49 (dk_at dksX7_firstPower_0 11 rfl rfl)
theorem dX7_firstPower_14 : decode cX7_firstPower 14 = .ok (.aload_n 3, 1) := dk_45 (dk_at dksX7_firstPower_0 14 rfl rfl)
theorem dX7_firstPower_15 : decode cX7_firstPower 15 = .ok (.aload_n 0, 1) := dk_42 (dk_at dksX7_firstPower_0 15 rfl rfl)
theorem dX7_firstPower_16 : decode cX7_firstPower 16 = .ok (.invokevirtual 59, 3) := dk_182 0 59 (dk_at dksX7_firstPower_0 16 rfl rfl)
theorem dX7_firstPower_19 : decode cX7_firstPower 19 = .ok (.astore_n 3, 1) := dk_78 (dk_at dksX7_firstPower_0 19 rfl rfl)
theorem dX7_firstPower_20 : decode cX7_firstPower 20 = .ok (.iload_n 2, 1) := dk_28 (dk_at dksX7_firstPower_0 20 rfl rfl)
theorem dX7_firstPower_21 : decode cX7_firstPower 21 = .ok (.ifCond .eq 23, 3) := dk_153 0 23 (dk_at dksX7_firstPower_0 21 rfl rfl)
theorem dX7_firstPower_24 : decode cX7_firstPower 24 = .ok (.aload_n 3, 1) := dk_45 (dk_at dksX7_firstPower_1 0 rfl rfl)
theorem dX7_firstPower_25 : decode cX7_firstPower 25 = .ok (.invokevirtual 77, 3) := dk_182 0 77 (dk_at dksX7_firstPower_1 1 rfl rfl)
theorem dX7_firstPower_28 : decode cX7_firstPower 28 = .ok (.ifCond .eq 26, 3) := dk_153 0 26 (dk_at dksX7_firstPower_1 4 rfl rfl)
theorem dX7_firstPower_31 : decode cX7_firstPower 31 = .ok (.aload_n 3, 1) := dk_45 (dk_at dksX7_firstPower_1 7 rfl rfl)
theorem dX7_firstPower_32 : decode cX7_firstPower 32 = .ok (.getfield 25, 3) := dk_180 0 25 (dk_at dksX7_firstPower_1 8 rfl rfl)
theorem dX7_firstPower_35 : decode cX7_firstPower 35 = .ok (.iconst 0, 1) := dk_3 (dk_at dksX7_firstPower_1 11 rfl rfl)
theorem dX7_firstPower_36 : decode cX7_firstPower 36 = .ok (.iaload, 1) := dk_46 (dk_at dksX7_firstPower_1 12 rfl rfl)
theorem dX7_firstPower_37 : decode cX7_firstPower 37 = .ok (.iconst 1, 1) := dk_4 (dk_at dksX7_firstPower_1 13 rfl rfl)
theorem dX7_firstPower_38 : decode cX7_firstPower 38 = .ok (.if_icmp .ne 16, 3) := dk_160 0 16 (dk_at dksX7_firstPower_1 14 rfl rfl)
theorem dX7_firstPower_41 : decode cX7_firstPower 41 = .ok (.goto 10, 3) := dk_167 0 10 (dk_at dksX7_firstPower_1 17 rfl rfl)
theorem dX7_firstPower_44 : decode cX7_firstPower 44 = .ok (.aload_n 3, 1) := dk_45 (dk_at dksX7_firstPower_1 20 rfl rfl)
theorem dX7_firstPower_45 : decode cX7_firstPower 45 = .ok (.invokevirtual 70, 3) := dk_182 0 70 (dk_at dksX7_firstPower_1 21 rfl rfl)
theorem dX7_firstPower_48 : decode cX7_firstPower 48 = .ok (.ifCond .eq 6, 3) := dk_153 0 6 (dk_at dksX7_firstPower_2 0 rfl rfl)
theorem dX7_firstPower_51 : decode cX7_firstPower 51 = .ok (.iload 4, 2) := dk_21 4 (dk_at dksX7_firstPower_2 3 rfl rfl)
theorem dX7_firstPower_53 : decode cX7_firstPower 53 = .ok (.ireturn, 1) := dk_172 (dk_at dksX7_firstPower_2 5 rfl rfl)
theorem dX7_firstPower_54 : decode cX7_firstPower 54 = .ok (.iinc 4 1, 3) := dk_132 4 1 (dk_at dksX7_firstPower_2 6 rfl rfl)
theorem dX7_firstPower_57 : decode cX7_firstPower 57 = .ok (.goto (-49), 3) := dk_167 255 207 (dk_at dksX7_firstPower_2 9 rfl rfl)
theorem dX7_firstPower_60 : decode cX7_firstPower 60 = .ok (.iconst (-1), 1) := dk_2 (dk_at dksX7_firstPower_2 12 rfl rfl)
theorem dX7_firstPower_61 : decode cX7_firstPower 61 = .ok (.ireturn, 1) := dk_172 (dk_at dksX7_firstPower_2 13 rfl rfl)
abbrev cX7_one : ByteArray := prog_4_method_3_code
def yX7_one : MethodName := ⟨RX7, "one", "()LVersorhall$Element;"⟩
def dkwX7_one_1 : List UInt8 := [176]
abbrev dktX7_one_1 : List UInt8 := dkwX7_one_1 ++ []
def dkwX7_one_0 : List UInt8 := [187, 0, 4, 89, 42, 180, 0, 3, 42, 180, 0, 15, 183, 0, 29, 76, 43, 180, 0, 25, 3, 4, 79, 43]
abbrev dktX7_one_0 : List UInt8 := dkwX7_one_0 ++ dktX7_one_1
theorem dksX7_one_0 : cX7_one.data.toList.drop 0 = dktX7_one_0 := by decide +kernel
theorem dksX7_one_1 : cX7_one.data.toList.drop 24 = dktX7_one_1 := dk_seg dksX7_one_0 24 rfl rfl
theorem dX7_one_0 : decode cX7_one 0 = .ok (.new 4, 3) := dk_187 0 4 (dk_at dksX7_one_0 0 rfl rfl)
theorem dX7_one_3 : decode cX7_one 3 = .ok (.dup, 1) := dk_89 (dk_at dksX7_one_0 3 rfl rfl)
theorem dX7_one_4 : decode cX7_one 4 = .ok (.aload_n 0, 1) := dk_42 (dk_at dksX7_one_0 4 rfl rfl)
theorem dX7_one_5 : decode cX7_one 5 = .ok (.getfield 3, 3) := dk_180 0 3 (dk_at dksX7_one_0 5 rfl rfl)
theorem dX7_one_8 : decode cX7_one 8 = .ok (.aload_n 0, 1) := dk_42 (dk_at dksX7_one_0 8 rfl rfl)
theorem dX7_one_9 : decode cX7_one 9 = .ok (.getfield 15, 3) := dk_180 0 15 (dk_at dksX7_one_0 9 rfl rfl)
theorem dX7_one_12 : decode cX7_one 12 = .ok (.invokespecial 29, 3) := dk_183 0 29 (dk_at dksX7_one_0 12 rfl rfl)
theorem dX7_one_15 : decode cX7_one 15 = .ok (.astore_n 1, 1) := dk_76 (dk_at dksX7_one_0 15 rfl rfl)
theorem dX7_one_16 : decode cX7_one 16 = .ok (.aload_n 1, 1) := dk_43 (dk_at dksX7_one_0 16 rfl rfl)
theorem dX7_one_17 : decode cX7_one 17 = .ok (.getfield 25, 3) := dk_180 0 25 (dk_at dksX7_one_0 17 rfl rfl)
theorem dX7_one_20 : decode cX7_one 20 = .ok (.iconst 0, 1) := dk_3 (dk_at dksX7_one_0 20 rfl rfl)
theorem dX7_one_21 : decode cX7_one 21 = .ok (.iconst 1, 1) := dk_4 (dk_at dksX7_one_0 21 rfl rfl)
theorem dX7_one_22 : decode cX7_one 22 = .ok (.iastore, 1) := dk_79 (dk_at dksX7_one_0 22 rfl rfl)
theorem dX7_one_23 : decode cX7_one 23 = .ok (.aload_n 1, 1) := dk_43 (dk_at dksX7_one_0 23 rfl rfl)
theorem dX7_one_24 : decode cX7_one 24 = .ok (.areturn, 1) := dk_176 (dk_at dksX7_one_1 0 rfl rfl)
abbrev cX7_isZero : ByteArray := prog_4_method_10_code
def yX7_isZero : MethodName := ⟨RX7, "isZero", "()Z"⟩
def dkwX7_isZero_0 : List UInt8 := [42, 182, 0, 63, 154, 0, 7, 4, 167, 0, 4, 3, 172]
abbrev dktX7_isZero_0 : List UInt8 := dkwX7_isZero_0 ++ []
theorem dksX7_isZero_0 : cX7_isZero.data.toList.drop 0 = dktX7_isZero_0 := by decide +kernel
theorem dX7_isZero_0 : decode cX7_isZero 0 = .ok (.aload_n 0, 1) := dk_42 (dk_at dksX7_isZero_0 0 rfl rfl)
theorem dX7_isZero_1 : decode cX7_isZero 1 = .ok (.invokevirtual 63, 3) := dk_182 0 63 (dk_at dksX7_isZero_0 1 rfl rfl)
theorem dX7_isZero_4 : decode cX7_isZero 4 = .ok (.ifCond .ne 7, 3) := dk_154 0 7 (dk_at dksX7_isZero_0 4 rfl rfl)
theorem dX7_isZero_7 : decode cX7_isZero 7 = .ok (.iconst 1, 1) := dk_4 (dk_at dksX7_isZero_0 7 rfl rfl)
theorem dX7_isZero_8 : decode cX7_isZero 8 = .ok (.goto 4, 3) := dk_167 0 4 (dk_at dksX7_isZero_0 8 rfl rfl)
theorem dX7_isZero_11 : decode cX7_isZero 11 = .ok (.iconst 0, 1) := dk_3 (dk_at dksX7_isZero_0 11 rfl rfl)
theorem dX7_isZero_12 : decode cX7_isZero 12 = .ok (.ireturn, 1) := dk_172 (dk_at dksX7_isZero_0 12 rfl rfl)
abbrev cX7_isSame : ByteArray := prog_4_method_12_code
def yX7_isSame : MethodName := ⟨RX7, "isSame", "(LVersorhall$Element;)Z"⟩
def dkwX7_isSame_0 : List UInt8 := [42, 43, 2, 182, 0, 66, 182, 0, 70, 172]
abbrev dktX7_isSame_0 : List UInt8 := dkwX7_isSame_0 ++ []
theorem dksX7_isSame_0 : cX7_isSame.data.toList.drop 0 = dktX7_isSame_0 := by decide +kernel
theorem dX7_isSame_0 : decode cX7_isSame 0 = .ok (.aload_n 0, 1) := dk_42 (dk_at dksX7_isSame_0 0 rfl rfl)
theorem dX7_isSame_1 : decode cX7_isSame 1 = .ok (.aload_n 1, 1) := dk_43 (dk_at dksX7_isSame_0 1 rfl rfl)
theorem dX7_isSame_2 : decode cX7_isSame 2 = .ok (.iconst (-1), 1) := dk_2 (dk_at dksX7_isSame_0 2 rfl rfl)
theorem dX7_isSame_3 : decode cX7_isSame 3 = .ok (.invokevirtual 66, 3) := dk_182 0 66 (dk_at dksX7_isSame_0 3 rfl rfl)
theorem dX7_isSame_6 : decode cX7_isSame 6 = .ok (.invokevirtual 70, 3) := dk_182 0 70 (dk_at dksX7_isSame_0 6 rfl rfl)
theorem dX7_isSame_9 : decode cX7_isSame 9 = .ok (.ireturn, 1) := dk_172 (dk_at dksX7_isSame_0 9 rfl rfl)
abbrev cX7_plus : ByteArray := prog_4_method_4_code
def yX7_plus : MethodName := ⟨RX7, "plus", "(LVersorhall$Element;I)LVersorhall$Element;"⟩
def dkwX7_plus_2 : List UInt8 := [28, 43, 180, 0, 25, 21, 4, 46, 104, 96, 182, 0, 38, 79, 132, 4, 1, 167, 255, 212, 45, 176]
abbrev dktX7_plus_2 : List UInt8 := dkwX7_plus_2 ++ []
def dkwX7_plus_1 : List UInt8 := [180, 0, 25, 190, 162, 0, 40, 45, 180, 0, 25, 21, 4, 42, 180, 0, 3, 42, 180, 0, 25, 21, 4, 46]
abbrev dktX7_plus_1 : List UInt8 := dkwX7_plus_1 ++ dktX7_plus_2
def dkwX7_plus_0 : List UInt8 := [187, 0, 4, 89, 42, 180, 0, 3, 42, 180, 0, 15, 183, 0, 29, 78, 3, 54, 4, 21, 4, 42]
abbrev dktX7_plus_0 : List UInt8 := dkwX7_plus_0 ++ dktX7_plus_1
theorem dksX7_plus_0 : cX7_plus.data.toList.drop 0 = dktX7_plus_0 := by decide +kernel
theorem dksX7_plus_1 : cX7_plus.data.toList.drop 22 = dktX7_plus_1 := dk_seg dksX7_plus_0 22 rfl rfl
theorem dksX7_plus_2 : cX7_plus.data.toList.drop 46 = dktX7_plus_2 := dk_seg dksX7_plus_1 24 rfl rfl
theorem dX7_plus_0 : decode cX7_plus 0 = .ok (.new 4, 3) := dk_187 0 4 (dk_at dksX7_plus_0 0 rfl rfl)
theorem dX7_plus_3 : decode cX7_plus 3 = .ok (.dup, 1) := dk_89 (dk_at dksX7_plus_0 3 rfl rfl)
theorem dX7_plus_4 : decode cX7_plus 4 = .ok (.aload_n 0, 1) := dk_42 (dk_at dksX7_plus_0 4 rfl rfl)
theorem dX7_plus_5 : decode cX7_plus 5 = .ok (.getfield 3, 3) := dk_180 0 3 (dk_at dksX7_plus_0 5 rfl rfl)
theorem dX7_plus_8 : decode cX7_plus 8 = .ok (.aload_n 0, 1) := dk_42 (dk_at dksX7_plus_0 8 rfl rfl)
theorem dX7_plus_9 : decode cX7_plus 9 = .ok (.getfield 15, 3) := dk_180 0 15 (dk_at dksX7_plus_0 9 rfl rfl)
theorem dX7_plus_12 : decode cX7_plus 12 = .ok (.invokespecial 29, 3) := dk_183 0 29 (dk_at dksX7_plus_0 12 rfl rfl)
theorem dX7_plus_15 : decode cX7_plus 15 = .ok (.astore_n 3, 1) := dk_78 (dk_at dksX7_plus_0 15 rfl rfl)
theorem dX7_plus_16 : decode cX7_plus 16 = .ok (.iconst 0, 1) := dk_3 (dk_at dksX7_plus_0 16 rfl rfl)
theorem dX7_plus_17 : decode cX7_plus 17 = .ok (.istore 4, 2) := dk_54 4 (dk_at dksX7_plus_0 17 rfl rfl)
theorem dX7_plus_19 : decode cX7_plus 19 = .ok (.iload 4, 2) := dk_21 4 (dk_at dksX7_plus_0 19 rfl rfl)
theorem dX7_plus_21 : decode cX7_plus 21 = .ok (.aload_n 0, 1) := dk_42 (dk_at dksX7_plus_0 21 rfl rfl)
theorem dX7_plus_22 : decode cX7_plus 22 = .ok (.getfield 25, 3) := dk_180 0 25 (dk_at dksX7_plus_1 0 rfl rfl)
theorem dX7_plus_25 : decode cX7_plus 25 = .ok (.arraylength, 1) := dk_190 (dk_at dksX7_plus_1 3 rfl rfl)
theorem dX7_plus_26 : decode cX7_plus 26 = .ok (.if_icmp .ge 40, 3) := dk_162 0 40 (dk_at dksX7_plus_1 4 rfl rfl)
theorem dX7_plus_29 : decode cX7_plus 29 = .ok (.aload_n 3, 1) := dk_45 (dk_at dksX7_plus_1 7 rfl rfl)
theorem dX7_plus_30 : decode cX7_plus 30 = .ok (.getfield 25, 3) := dk_180 0 25 (dk_at dksX7_plus_1 8 rfl rfl)
theorem dX7_plus_33 : decode cX7_plus 33 = .ok (.iload 4, 2) := dk_21 4 (dk_at dksX7_plus_1 11 rfl rfl)
theorem dX7_plus_35 : decode cX7_plus 35 = .ok (.aload_n 0, 1) := dk_42 (dk_at dksX7_plus_1 13 rfl rfl)
theorem dX7_plus_36 : decode cX7_plus 36 = .ok (.getfield 3, 3) := dk_180 0 3 (dk_at dksX7_plus_1 14 rfl rfl)
theorem dX7_plus_39 : decode cX7_plus 39 = .ok (.aload_n 0, 1) := dk_42 (dk_at dksX7_plus_1 17 rfl rfl)
theorem dX7_plus_40 : decode cX7_plus 40 = .ok (.getfield 25, 3) := dk_180 0 25 (dk_at dksX7_plus_1 18 rfl rfl)
theorem dX7_plus_43 : decode cX7_plus 43 = .ok (.iload 4, 2) := dk_21 4 (dk_at dksX7_plus_1 21 rfl rfl)
theorem dX7_plus_45 : decode cX7_plus 45 = .ok (.iaload, 1) := dk_46 (dk_at dksX7_plus_1 23 rfl rfl)
theorem dX7_plus_46 : decode cX7_plus 46 = .ok (.iload_n 2, 1) := dk_28 (dk_at dksX7_plus_2 0 rfl rfl)
theorem dX7_plus_47 : decode cX7_plus 47 = .ok (.aload_n 1, 1) := dk_43 (dk_at dksX7_plus_2 1 rfl rfl)
theorem dX7_plus_48 : decode cX7_plus 48 = .ok (.getfield 25, 3) := dk_180 0 25 (dk_at dksX7_plus_2 2 rfl rfl)
theorem dX7_plus_51 : decode cX7_plus 51 = .ok (.iload 4, 2) := dk_21 4 (dk_at dksX7_plus_2 5 rfl rfl)
theorem dX7_plus_53 : decode cX7_plus 53 = .ok (.iaload, 1) := dk_46 (dk_at dksX7_plus_2 7 rfl rfl)
theorem dX7_plus_54 : decode cX7_plus 54 = .ok (.imul, 1) := dk_104 (dk_at dksX7_plus_2 8 rfl rfl)
theorem dX7_plus_55 : decode cX7_plus 55 = .ok (.iadd, 1) := dk_96 (dk_at dksX7_plus_2 9 rfl rfl)
theorem dX7_plus_56 : decode cX7_plus 56 = .ok (.invokevirtual 38, 3) := dk_182 0 38 (dk_at dksX7_plus_2 10 rfl rfl)
theorem dX7_plus_59 : decode cX7_plus 59 = .ok (.iastore, 1) := dk_79 (dk_at dksX7_plus_2 13 rfl rfl)
theorem dX7_plus_60 : decode cX7_plus 60 = .ok (.iinc 4 1, 3) := dk_132 4 1 (dk_at dksX7_plus_2 14 rfl rfl)
theorem dX7_plus_63 : decode cX7_plus 63 = .ok (.goto (-44), 3) := dk_167 255 212 (dk_at dksX7_plus_2 17 rfl rfl)
theorem dX7_plus_66 : decode cX7_plus 66 = .ok (.aload_n 3, 1) := dk_45 (dk_at dksX7_plus_2 20 rfl rfl)
theorem dX7_plus_67 : decode cX7_plus 67 = .ok (.areturn, 1) := dk_176 (dk_at dksX7_plus_2 21 rfl rfl)
abbrev cX7_square : ByteArray := prog_4_method_22_code
def yX7_square : MethodName := ⟨RX7, "square", "()I"⟩
def dkwX7_square_2 : List UInt8 := [2, 172, 132, 1, 1, 167, 255, 225, 42, 42, 182, 0, 59, 180, 0, 25, 3, 46, 172]
abbrev dktX7_square_2 : List UInt8 := dkwX7_square_2 ++ []
def dkwX7_square_1 : List UInt8 := [180, 0, 25, 190, 162, 0, 28, 42, 180, 0, 25, 27, 46, 153, 0, 13, 27, 184, 0, 116, 4, 159, 0, 5]
abbrev dktX7_square_1 : List UInt8 := dkwX7_square_1 ++ dktX7_square_2
def dkwX7_square_0 : List UInt8 := [42, 180, 0, 15, 182, 0, 113, 153, 0, 10, 42, 182, 0, 70, 153, 0, 5, 2, 172, 3, 60, 27, 42]
abbrev dktX7_square_0 : List UInt8 := dkwX7_square_0 ++ dktX7_square_1
theorem dksX7_square_0 : cX7_square.data.toList.drop 0 = dktX7_square_0 := by decide +kernel
theorem dksX7_square_1 : cX7_square.data.toList.drop 23 = dktX7_square_1 := dk_seg dksX7_square_0 23 rfl rfl
theorem dksX7_square_2 : cX7_square.data.toList.drop 47 = dktX7_square_2 := dk_seg dksX7_square_1 24 rfl rfl
theorem dX7_square_0 : decode cX7_square 0 = .ok (.aload_n 0, 1) := dk_42 (dk_at dksX7_square_0 0 rfl rfl)
theorem dX7_square_1 : decode cX7_square 1 = .ok (.getfield 15, 3) := dk_180 0 15 (dk_at dksX7_square_0 1 rfl rfl)
theorem dX7_square_4 : decode cX7_square 4 = .ok (.invokevirtual 113, 3) := dk_182 0 113 (dk_at dksX7_square_0 4 rfl rfl)
theorem dX7_square_7 : decode cX7_square 7 = .ok (.ifCond .eq 10, 3) := dk_153 0 10 (dk_at dksX7_square_0 7 rfl rfl)
theorem dX7_square_10 : decode cX7_square 10 = .ok (.aload_n 0, 1) := dk_42 (dk_at dksX7_square_0 10 rfl rfl)
theorem dX7_square_11 : decode cX7_square 11 = .ok (.invokevirtual 70, 3) := dk_182 0 70 (dk_at dksX7_square_0 11 rfl rfl)
theorem dX7_square_14 : decode cX7_square 14 = .ok (.ifCond .eq 5, 3) := dk_153 0 5 (dk_at dksX7_square_0 14 rfl rfl)
theorem dX7_square_17 : decode cX7_square 17 = .ok (.iconst (-1), 1) := dk_2 (dk_at dksX7_square_0 17 rfl rfl)
theorem dX7_square_18 : decode cX7_square 18 = .ok (.ireturn, 1) := dk_172 (dk_at dksX7_square_0 18 rfl rfl)
theorem dX7_square_19 : decode cX7_square 19 = .ok (.iconst 0, 1) := dk_3 (dk_at dksX7_square_0 19 rfl rfl)
theorem dX7_square_20 : decode cX7_square 20 = .ok (.istore_n 1, 1) := dk_60 (dk_at dksX7_square_0 20 rfl rfl)
theorem dX7_square_21 : decode cX7_square 21 = .ok (.iload_n 1, 1) := dk_27 (dk_at dksX7_square_0 21 rfl rfl)
theorem dX7_square_22 : decode cX7_square 22 = .ok (.aload_n 0, 1) := dk_42 (dk_at dksX7_square_0 22 rfl rfl)
theorem dX7_square_23 : decode cX7_square 23 = .ok (.getfield 25, 3) := dk_180 0 25 (dk_at dksX7_square_1 0 rfl rfl)
theorem dX7_square_26 : decode cX7_square 26 = .ok (.arraylength, 1) := dk_190 (dk_at dksX7_square_1 3 rfl rfl)
theorem dX7_square_27 : decode cX7_square 27 = .ok (.if_icmp .ge 28, 3) := dk_162 0 28 (dk_at dksX7_square_1 4 rfl rfl)
theorem dX7_square_30 : decode cX7_square 30 = .ok (.aload_n 0, 1) := dk_42 (dk_at dksX7_square_1 7 rfl rfl)
theorem dX7_square_31 : decode cX7_square 31 = .ok (.getfield 25, 3) := dk_180 0 25 (dk_at dksX7_square_1 8 rfl rfl)
theorem dX7_square_34 : decode cX7_square 34 = .ok (.iload_n 1, 1) := dk_27 (dk_at dksX7_square_1 11 rfl rfl)
theorem dX7_square_35 : decode cX7_square 35 = .ok (.iaload, 1) := dk_46 (dk_at dksX7_square_1 12 rfl rfl)
theorem dX7_square_36 : decode cX7_square 36 = .ok (.ifCond .eq 13, 3) := dk_153 0 13 (dk_at dksX7_square_1 13 rfl rfl)
theorem dX7_square_39 : decode cX7_square 39 = .ok (.iload_n 1, 1) := dk_27 (dk_at dksX7_square_1 16 rfl rfl)
theorem dX7_square_40 : decode cX7_square 40 = .ok (.invokestatic 116, 3) := dk_184 0 116 (dk_at dksX7_square_1 17 rfl rfl)
theorem dX7_square_43 : decode cX7_square 43 = .ok (.iconst 1, 1) := dk_4 (dk_at dksX7_square_1 20 rfl rfl)
theorem dX7_square_44 : decode cX7_square 44 = .ok (.if_icmp .eq 5, 3) := dk_159 0 5 (dk_at dksX7_square_1 21 rfl rfl)
theorem dX7_square_47 : decode cX7_square 47 = .ok (.iconst (-1), 1) := dk_2 (dk_at dksX7_square_2 0 rfl rfl)
theorem dX7_square_48 : decode cX7_square 48 = .ok (.ireturn, 1) := dk_172 (dk_at dksX7_square_2 1 rfl rfl)
theorem dX7_square_49 : decode cX7_square 49 = .ok (.iinc 1 1, 3) := dk_132 1 1 (dk_at dksX7_square_2 2 rfl rfl)
theorem dX7_square_52 : decode cX7_square 52 = .ok (.goto (-31), 3) := dk_167 255 225 (dk_at dksX7_square_2 5 rfl rfl)
theorem dX7_square_55 : decode cX7_square 55 = .ok (.aload_n 0, 1) := dk_42 (dk_at dksX7_square_2 8 rfl rfl)
theorem dX7_square_56 : decode cX7_square 56 = .ok (.aload_n 0, 1) := dk_42 (dk_at dksX7_square_2 9 rfl rfl)
theorem dX7_square_57 : decode cX7_square 57 = .ok (.invokevirtual 59, 3) := dk_182 0 59 (dk_at dksX7_square_2 10 rfl rfl)
theorem dX7_square_60 : decode cX7_square 60 = .ok (.getfield 25, 3) := dk_180 0 25 (dk_at dksX7_square_2 13 rfl rfl)
theorem dX7_square_63 : decode cX7_square 63 = .ok (.iconst 0, 1) := dk_3 (dk_at dksX7_square_2 16 rfl rfl)
theorem dX7_square_64 : decode cX7_square 64 = .ok (.iaload, 1) := dk_46 (dk_at dksX7_square_2 17 rfl rfl)
theorem dX7_square_65 : decode cX7_square 65 = .ok (.ireturn, 1) := dk_172 (dk_at dksX7_square_2 18 rfl rfl)
abbrev cX7_rank : ByteArray := prog_4_method_19_code
def yX7_rank : MethodName := ⟨RX7, "rank", "(Z)I"⟩
def dkwX7_rank_2 : List UInt8 := [132, 5, 1, 167, 255, 226, 28, 172]
abbrev dktX7_rank_2 : List UInt8 := dkwX7_rank_2 ++ []
def dkwX7_rank_1 : List UInt8 := [162, 0, 29, 45, 21, 5, 46, 54, 6, 28, 21, 6, 2, 160, 0, 7, 3, 167, 0, 4, 4, 96, 61]
abbrev dktX7_rank_1 : List UInt8 := dkwX7_rank_1 ++ dktX7_rank_2
def dkwX7_rank_0 : List UInt8 := [3, 61, 42, 42, 27, 182, 0, 105, 182, 0, 109, 78, 45, 190, 54, 4, 3, 54, 5, 21, 5, 21, 4]
abbrev dktX7_rank_0 : List UInt8 := dkwX7_rank_0 ++ dktX7_rank_1
theorem dksX7_rank_0 : cX7_rank.data.toList.drop 0 = dktX7_rank_0 := by decide +kernel
theorem dksX7_rank_1 : cX7_rank.data.toList.drop 23 = dktX7_rank_1 := dk_seg dksX7_rank_0 23 rfl rfl
theorem dksX7_rank_2 : cX7_rank.data.toList.drop 46 = dktX7_rank_2 := dk_seg dksX7_rank_1 23 rfl rfl
theorem dX7_rank_0 : decode cX7_rank 0 = .ok (.iconst 0, 1) := dk_3 (dk_at dksX7_rank_0 0 rfl rfl)
theorem dX7_rank_1 : decode cX7_rank 1 = .ok (.istore_n 2, 1) := dk_61 (dk_at dksX7_rank_0 1 rfl rfl)
theorem dX7_rank_2 : decode cX7_rank 2 = .ok (.aload_n 0, 1) := dk_42 (dk_at dksX7_rank_0 2 rfl rfl)
theorem dX7_rank_3 : decode cX7_rank 3 = .ok (.aload_n 0, 1) := dk_42 (dk_at dksX7_rank_0 3 rfl rfl)
theorem dX7_rank_4 : decode cX7_rank 4 = .ok (.iload_n 1, 1) := dk_27 (dk_at dksX7_rank_0 4 rfl rfl)
theorem dX7_rank_5 : decode cX7_rank 5 = .ok (.invokevirtual 105, 3) := dk_182 0 105 (dk_at dksX7_rank_0 5 rfl rfl)
theorem dX7_rank_8 : decode cX7_rank 8 = .ok (.invokevirtual 109, 3) := dk_182 0 109 (dk_at dksX7_rank_0 8 rfl rfl)
theorem dX7_rank_11 : decode cX7_rank 11 = .ok (.astore_n 3, 1) := dk_78 (dk_at dksX7_rank_0 11 rfl rfl)
theorem dX7_rank_12 : decode cX7_rank 12 = .ok (.aload_n 3, 1) := dk_45 (dk_at dksX7_rank_0 12 rfl rfl)
theorem dX7_rank_13 : decode cX7_rank 13 = .ok (.arraylength, 1) := dk_190 (dk_at dksX7_rank_0 13 rfl rfl)
theorem dX7_rank_14 : decode cX7_rank 14 = .ok (.istore 4, 2) := dk_54 4 (dk_at dksX7_rank_0 14 rfl rfl)
theorem dX7_rank_16 : decode cX7_rank 16 = .ok (.iconst 0, 1) := dk_3 (dk_at dksX7_rank_0 16 rfl rfl)
theorem dX7_rank_17 : decode cX7_rank 17 = .ok (.istore 5, 2) := dk_54 5 (dk_at dksX7_rank_0 17 rfl rfl)
theorem dX7_rank_19 : decode cX7_rank 19 = .ok (.iload 5, 2) := dk_21 5 (dk_at dksX7_rank_0 19 rfl rfl)
theorem dX7_rank_21 : decode cX7_rank 21 = .ok (.iload 4, 2) := dk_21 4 (dk_at dksX7_rank_0 21 rfl rfl)
theorem dX7_rank_23 : decode cX7_rank 23 = .ok (.if_icmp .ge 29, 3) := dk_162 0 29 (dk_at dksX7_rank_1 0 rfl rfl)
theorem dX7_rank_26 : decode cX7_rank 26 = .ok (.aload_n 3, 1) := dk_45 (dk_at dksX7_rank_1 3 rfl rfl)
theorem dX7_rank_27 : decode cX7_rank 27 = .ok (.iload 5, 2) := dk_21 5 (dk_at dksX7_rank_1 4 rfl rfl)
theorem dX7_rank_29 : decode cX7_rank 29 = .ok (.iaload, 1) := dk_46 (dk_at dksX7_rank_1 6 rfl rfl)
theorem dX7_rank_30 : decode cX7_rank 30 = .ok (.istore 6, 2) := dk_54 6 (dk_at dksX7_rank_1 7 rfl rfl)
theorem dX7_rank_32 : decode cX7_rank 32 = .ok (.iload_n 2, 1) := dk_28 (dk_at dksX7_rank_1 9 rfl rfl)
theorem dX7_rank_33 : decode cX7_rank 33 = .ok (.iload 6, 2) := dk_21 6 (dk_at dksX7_rank_1 10 rfl rfl)
theorem dX7_rank_35 : decode cX7_rank 35 = .ok (.iconst (-1), 1) := dk_2 (dk_at dksX7_rank_1 12 rfl rfl)
theorem dX7_rank_36 : decode cX7_rank 36 = .ok (.if_icmp .ne 7, 3) := dk_160 0 7 (dk_at dksX7_rank_1 13 rfl rfl)
theorem dX7_rank_39 : decode cX7_rank 39 = .ok (.iconst 0, 1) := dk_3 (dk_at dksX7_rank_1 16 rfl rfl)
theorem dX7_rank_40 : decode cX7_rank 40 = .ok (.goto 4, 3) := dk_167 0 4 (dk_at dksX7_rank_1 17 rfl rfl)
theorem dX7_rank_43 : decode cX7_rank 43 = .ok (.iconst 1, 1) := dk_4 (dk_at dksX7_rank_1 20 rfl rfl)
theorem dX7_rank_44 : decode cX7_rank 44 = .ok (.iadd, 1) := dk_96 (dk_at dksX7_rank_1 21 rfl rfl)
theorem dX7_rank_45 : decode cX7_rank 45 = .ok (.istore_n 2, 1) := dk_61 (dk_at dksX7_rank_1 22 rfl rfl)
theorem dX7_rank_46 : decode cX7_rank 46 = .ok (.iinc 5 1, 3) := dk_132 5 1 (dk_at dksX7_rank_2 0 rfl rfl)
theorem dX7_rank_49 : decode cX7_rank 49 = .ok (.goto (-30), 3) := dk_167 255 226 (dk_at dksX7_rank_2 3 rfl rfl)
theorem dX7_rank_52 : decode cX7_rank 52 = .ok (.iload_n 2, 1) := dk_28 (dk_at dksX7_rank_2 6 rfl rfl)
theorem dX7_rank_53 : decode cX7_rank 53 = .ok (.ireturn, 1) := dk_172 (dk_at dksX7_rank_2 7 rfl rfl)
abbrev cX7_matrix : ByteArray := prog_4_method_17_code
def yX7_matrix : MethodName := ⟨RX7, "matrix", "(Z)[[I"⟩
def dkwX7_matrix_4 : List UInt8 := [167, 255, 189, 132, 4, 1, 167, 255, 174, 45, 176]
abbrev dktX7_matrix_4 : List UInt8 := dkwX7_matrix_4 ++ []
def dkwX7_matrix_3 : List UInt8 := [167, 0, 16, 42, 180, 0, 15, 180, 0, 42, 21, 5, 50, 21, 4, 46, 104, 182, 0, 38, 79, 132, 5, 1]
abbrev dktX7_matrix_3 : List UInt8 := dkwX7_matrix_3 ++ dktX7_matrix_4
def dkwX7_matrix_2 : List UInt8 := [180, 0, 25, 21, 4, 46, 27, 153, 0, 19, 42, 180, 0, 15, 180, 0, 42, 21, 4, 50, 21, 5, 46]
abbrev dktX7_matrix_2 : List UInt8 := dkwX7_matrix_2 ++ dktX7_matrix_3
def dkwX7_matrix_1 : List UInt8 := [54, 5, 21, 5, 28, 162, 0, 67, 45, 21, 4, 21, 5, 130, 50, 21, 5, 42, 180, 0, 3, 42]
abbrev dktX7_matrix_1 : List UInt8 := dkwX7_matrix_1 ++ dktX7_matrix_2
def dkwX7_matrix_0 : List UInt8 := [42, 180, 0, 25, 190, 61, 28, 28, 197, 0, 104, 2, 78, 3, 54, 4, 21, 4, 28, 162, 0, 82, 3]
abbrev dktX7_matrix_0 : List UInt8 := dkwX7_matrix_0 ++ dktX7_matrix_1
theorem dksX7_matrix_0 : cX7_matrix.data.toList.drop 0 = dktX7_matrix_0 := by decide +kernel
theorem dksX7_matrix_1 : cX7_matrix.data.toList.drop 23 = dktX7_matrix_1 := dk_seg dksX7_matrix_0 23 rfl rfl
theorem dksX7_matrix_2 : cX7_matrix.data.toList.drop 45 = dktX7_matrix_2 := dk_seg dksX7_matrix_1 22 rfl rfl
theorem dksX7_matrix_3 : cX7_matrix.data.toList.drop 68 = dktX7_matrix_3 := dk_seg dksX7_matrix_2 23 rfl rfl
theorem dksX7_matrix_4 : cX7_matrix.data.toList.drop 92 = dktX7_matrix_4 := dk_seg dksX7_matrix_3 24 rfl rfl
theorem dX7_matrix_0 : decode cX7_matrix 0 = .ok (.aload_n 0, 1) := dk_42 (dk_at dksX7_matrix_0 0 rfl rfl)
theorem dX7_matrix_1 : decode cX7_matrix 1 = .ok (.getfield 25, 3) := dk_180 0 25 (dk_at dksX7_matrix_0 1 rfl rfl)
theorem dX7_matrix_4 : decode cX7_matrix 4 = .ok (.arraylength, 1) := dk_190 (dk_at dksX7_matrix_0 4 rfl rfl)
theorem dX7_matrix_5 : decode cX7_matrix 5 = .ok (.istore_n 2, 1) := dk_61 (dk_at dksX7_matrix_0 5 rfl rfl)
theorem dX7_matrix_6 : decode cX7_matrix 6 = .ok (.iload_n 2, 1) := dk_28 (dk_at dksX7_matrix_0 6 rfl rfl)
theorem dX7_matrix_7 : decode cX7_matrix 7 = .ok (.iload_n 2, 1) := dk_28 (dk_at dksX7_matrix_0 7 rfl rfl)
theorem dX7_matrix_8 : decode cX7_matrix 8 = .ok (.multianewarray 104 2, 4) := by decide +kernel
theorem dX7_matrix_12 : decode cX7_matrix 12 = .ok (.astore_n 3, 1) := dk_78 (dk_at dksX7_matrix_0 12 rfl rfl)
theorem dX7_matrix_13 : decode cX7_matrix 13 = .ok (.iconst 0, 1) := dk_3 (dk_at dksX7_matrix_0 13 rfl rfl)
theorem dX7_matrix_14 : decode cX7_matrix 14 = .ok (.istore 4, 2) := dk_54 4 (dk_at dksX7_matrix_0 14 rfl rfl)
theorem dX7_matrix_16 : decode cX7_matrix 16 = .ok (.iload 4, 2) := dk_21 4 (dk_at dksX7_matrix_0 16 rfl rfl)
theorem dX7_matrix_18 : decode cX7_matrix 18 = .ok (.iload_n 2, 1) := dk_28 (dk_at dksX7_matrix_0 18 rfl rfl)
theorem dX7_matrix_19 : decode cX7_matrix 19 = .ok (.if_icmp .ge 82, 3) := dk_162 0 82 (dk_at dksX7_matrix_0 19 rfl rfl)
theorem dX7_matrix_22 : decode cX7_matrix 22 = .ok (.iconst 0, 1) := dk_3 (dk_at dksX7_matrix_0 22 rfl rfl)
theorem dX7_matrix_23 : decode cX7_matrix 23 = .ok (.istore 5, 2) := dk_54 5 (dk_at dksX7_matrix_1 0 rfl rfl)
theorem dX7_matrix_25 : decode cX7_matrix 25 = .ok (.iload 5, 2) := dk_21 5 (dk_at dksX7_matrix_1 2 rfl rfl)
theorem dX7_matrix_27 : decode cX7_matrix 27 = .ok (.iload_n 2, 1) := dk_28 (dk_at dksX7_matrix_1 4 rfl rfl)
theorem dX7_matrix_28 : decode cX7_matrix 28 = .ok (.if_icmp .ge 67, 3) := dk_162 0 67 (dk_at dksX7_matrix_1 5 rfl rfl)
theorem dX7_matrix_31 : decode cX7_matrix 31 = .ok (.aload_n 3, 1) := dk_45 (dk_at dksX7_matrix_1 8 rfl rfl)
theorem dX7_matrix_32 : decode cX7_matrix 32 = .ok (.iload 4, 2) := dk_21 4 (dk_at dksX7_matrix_1 9 rfl rfl)
theorem dX7_matrix_34 : decode cX7_matrix 34 = .ok (.iload 5, 2) := dk_21 5 (dk_at dksX7_matrix_1 11 rfl rfl)
theorem dX7_matrix_36 : decode cX7_matrix 36 = .ok (.ixor, 1) := dk_130 (dk_at dksX7_matrix_1 13 rfl rfl)
theorem dX7_matrix_37 : decode cX7_matrix 37 = .ok (.aaload, 1) := dk_50 (dk_at dksX7_matrix_1 14 rfl rfl)
theorem dX7_matrix_38 : decode cX7_matrix 38 = .ok (.iload 5, 2) := dk_21 5 (dk_at dksX7_matrix_1 15 rfl rfl)
theorem dX7_matrix_40 : decode cX7_matrix 40 = .ok (.aload_n 0, 1) := dk_42 (dk_at dksX7_matrix_1 17 rfl rfl)
theorem dX7_matrix_41 : decode cX7_matrix 41 = .ok (.getfield 3, 3) := dk_180 0 3 (dk_at dksX7_matrix_1 18 rfl rfl)
theorem dX7_matrix_44 : decode cX7_matrix 44 = .ok (.aload_n 0, 1) := dk_42 (dk_at dksX7_matrix_1 21 rfl rfl)
theorem dX7_matrix_45 : decode cX7_matrix 45 = .ok (.getfield 25, 3) := dk_180 0 25 (dk_at dksX7_matrix_2 0 rfl rfl)
theorem dX7_matrix_48 : decode cX7_matrix 48 = .ok (.iload 4, 2) := dk_21 4 (dk_at dksX7_matrix_2 3 rfl rfl)
theorem dX7_matrix_50 : decode cX7_matrix 50 = .ok (.iaload, 1) := dk_46 (dk_at dksX7_matrix_2 5 rfl rfl)
theorem dX7_matrix_51 : decode cX7_matrix 51 = .ok (.iload_n 1, 1) := dk_27 (dk_at dksX7_matrix_2 6 rfl rfl)
theorem dX7_matrix_52 : decode cX7_matrix 52 = .ok (.ifCond .eq 19, 3) := dk_153 0 19 (dk_at dksX7_matrix_2 7 rfl rfl)
theorem dX7_matrix_55 : decode cX7_matrix 55 = .ok (.aload_n 0, 1) := dk_42 (dk_at dksX7_matrix_2 10 rfl rfl)
theorem dX7_matrix_56 : decode cX7_matrix 56 = .ok (.getfield 15, 3) := dk_180 0 15 (dk_at dksX7_matrix_2 11 rfl rfl)
theorem dX7_matrix_59 : decode cX7_matrix 59 = .ok (.getfield 42, 3) := dk_180 0 42 (dk_at dksX7_matrix_2 14 rfl rfl)
theorem dX7_matrix_62 : decode cX7_matrix 62 = .ok (.iload 4, 2) := dk_21 4 (dk_at dksX7_matrix_2 17 rfl rfl)
theorem dX7_matrix_64 : decode cX7_matrix 64 = .ok (.aaload, 1) := dk_50 (dk_at dksX7_matrix_2 19 rfl rfl)
theorem dX7_matrix_65 : decode cX7_matrix 65 = .ok (.iload 5, 2) := dk_21 5 (dk_at dksX7_matrix_2 20 rfl rfl)
theorem dX7_matrix_67 : decode cX7_matrix 67 = .ok (.iaload, 1) := dk_46 (dk_at dksX7_matrix_2 22 rfl rfl)
theorem dX7_matrix_68 : decode cX7_matrix 68 = .ok (.goto 16, 3) := dk_167 0 16 (dk_at dksX7_matrix_3 0 rfl rfl)
theorem dX7_matrix_71 : decode cX7_matrix 71 = .ok (.aload_n 0, 1) := dk_42 (dk_at dksX7_matrix_3 3 rfl rfl)
theorem dX7_matrix_72 : decode cX7_matrix 72 = .ok (.getfield 15, 3) := dk_180 0 15 (dk_at dksX7_matrix_3 4 rfl rfl)
theorem dX7_matrix_75 : decode cX7_matrix 75 = .ok (.getfield 42, 3) := dk_180 0 42 (dk_at dksX7_matrix_3 7 rfl rfl)
theorem dX7_matrix_78 : decode cX7_matrix 78 = .ok (.iload 5, 2) := dk_21 5 (dk_at dksX7_matrix_3 10 rfl rfl)
theorem dX7_matrix_80 : decode cX7_matrix 80 = .ok (.aaload, 1) := dk_50 (dk_at dksX7_matrix_3 12 rfl rfl)
theorem dX7_matrix_81 : decode cX7_matrix 81 = .ok (.iload 4, 2) := dk_21 4 (dk_at dksX7_matrix_3 13 rfl rfl)
theorem dX7_matrix_83 : decode cX7_matrix 83 = .ok (.iaload, 1) := dk_46 (dk_at dksX7_matrix_3 15 rfl rfl)
theorem dX7_matrix_84 : decode cX7_matrix 84 = .ok (.imul, 1) := dk_104 (dk_at dksX7_matrix_3 16 rfl rfl)
theorem dX7_matrix_85 : decode cX7_matrix 85 = .ok (.invokevirtual 38, 3) := dk_182 0 38 (dk_at dksX7_matrix_3 17 rfl rfl)
theorem dX7_matrix_88 : decode cX7_matrix 88 = .ok (.iastore, 1) := dk_79 (dk_at dksX7_matrix_3 20 rfl rfl)
theorem dX7_matrix_89 : decode cX7_matrix 89 = .ok (.iinc 5 1, 3) := dk_132 5 1 (dk_at dksX7_matrix_3 21 rfl rfl)
theorem dX7_matrix_92 : decode cX7_matrix 92 = .ok (.goto (-67), 3) := dk_167 255 189 (dk_at dksX7_matrix_4 0 rfl rfl)
theorem dX7_matrix_95 : decode cX7_matrix 95 = .ok (.iinc 4 1, 3) := dk_132 4 1 (dk_at dksX7_matrix_4 3 rfl rfl)
theorem dX7_matrix_98 : decode cX7_matrix 98 = .ok (.goto (-82), 3) := dk_167 255 174 (dk_at dksX7_matrix_4 6 rfl rfl)
theorem dX7_matrix_101 : decode cX7_matrix 101 = .ok (.aload_n 3, 1) := dk_45 (dk_at dksX7_matrix_4 9 rfl rfl)
theorem dX7_matrix_102 : decode cX7_matrix 102 = .ok (.areturn, 1) := dk_176 (dk_at dksX7_matrix_4 10 rfl rfl)
abbrev cX7_solve : ByteArray := prog_4_method_18_code
def yX7_solve : MethodName := ⟨RX7, "solve", "([[I)[I"⟩
def dkwX7_solve_9 : List UInt8 := [167, 255, 205, 132, 9, 1, 167, 255, 181, 132, 4, 1, 132, 5, 1, 167, 255, 43, 45, 176]
abbrev dktX7_solve_9 : List UInt8 := dkwX7_solve_9 ++ []
def dkwX7_solve_8 : List UInt8 := [21, 9, 50, 21, 11, 46, 21, 10, 25, 7, 21, 11, 46, 104, 100, 182, 0, 38, 79, 132, 11, 1]
abbrev dktX7_solve_8 : List UInt8 := dkwX7_solve_8 ++ dktX7_solve_9
def dkwX7_solve_7 : List UInt8 := [21, 9, 21, 4, 159, 0, 44, 21, 10, 153, 0, 39, 43, 21, 9, 50, 21, 11, 42, 180, 0, 3, 43]
abbrev dktX7_solve_7 : List UInt8 := dkwX7_solve_7 ++ dktX7_solve_8
def dkwX7_solve_6 : List UInt8 := [21, 9, 28, 162, 0, 75, 43, 21, 9, 50, 21, 5, 46, 54, 10, 3, 54, 11, 21, 11, 28, 162, 0, 51]
abbrev dktX7_solve_6 : List UInt8 := dkwX7_solve_6 ++ dktX7_solve_7
def dkwX7_solve_5 : List UInt8 := [180, 0, 3, 21, 8, 25, 7, 21, 9, 46, 104, 182, 0, 38, 79, 132, 9, 1, 167, 255, 227, 3, 54, 9]
abbrev dktX7_solve_5 : List UInt8 := dkwX7_solve_5 ++ dktX7_solve_6
def dkwX7_solve_4 : List UInt8 := [25, 7, 21, 5, 46, 182, 0, 80, 54, 8, 3, 54, 9, 21, 9, 28, 162, 0, 29, 25, 7, 21, 9, 42]
abbrev dktX7_solve_4 : List UInt8 := dkwX7_solve_4 ++ dktX7_solve_5
def dkwX7_solve_3 : List UInt8 := [43, 21, 6, 50, 58, 7, 43, 21, 6, 43, 21, 4, 50, 83, 43, 21, 4, 25, 7, 83, 42, 180, 0, 3]
abbrev dktX7_solve_3 : List UInt8 := dkwX7_solve_3 ++ dktX7_solve_4
def dkwX7_solve_2 : List UInt8 := [21, 5, 21, 6, 28, 162, 0, 8, 21, 4, 167, 0, 4, 2, 79, 21, 6, 28, 160, 0, 6, 167, 0, 156]
abbrev dktX7_solve_2 : List UInt8 := dkwX7_solve_2 ++ dktX7_solve_3
def dkwX7_solve_1 : List UInt8 := [21, 6, 28, 162, 0, 19, 43, 21, 6, 50, 21, 5, 46, 154, 0, 9, 132, 6, 1, 167, 255, 237, 45]
abbrev dktX7_solve_1 : List UInt8 := dkwX7_solve_1 ++ dktX7_solve_2
def dkwX7_solve_0 : List UInt8 := [43, 190, 61, 28, 188, 10, 78, 3, 54, 4, 3, 54, 5, 21, 5, 28, 162, 0, 213, 21, 4, 54, 6]
abbrev dktX7_solve_0 : List UInt8 := dkwX7_solve_0 ++ dktX7_solve_1
theorem dksX7_solve_0 : cX7_solve.data.toList.drop 0 = dktX7_solve_0 := by decide +kernel
theorem dksX7_solve_1 : cX7_solve.data.toList.drop 23 = dktX7_solve_1 := dk_seg dksX7_solve_0 23 rfl rfl
theorem dksX7_solve_2 : cX7_solve.data.toList.drop 46 = dktX7_solve_2 := dk_seg dksX7_solve_1 23 rfl rfl
theorem dksX7_solve_3 : cX7_solve.data.toList.drop 70 = dktX7_solve_3 := dk_seg dksX7_solve_2 24 rfl rfl
theorem dksX7_solve_4 : cX7_solve.data.toList.drop 94 = dktX7_solve_4 := dk_seg dksX7_solve_3 24 rfl rfl
theorem dksX7_solve_5 : cX7_solve.data.toList.drop 118 = dktX7_solve_5 := dk_seg dksX7_solve_4 24 rfl rfl
theorem dksX7_solve_6 : cX7_solve.data.toList.drop 142 = dktX7_solve_6 := dk_seg dksX7_solve_5 24 rfl rfl
theorem dksX7_solve_7 : cX7_solve.data.toList.drop 166 = dktX7_solve_7 := dk_seg dksX7_solve_6 24 rfl rfl
theorem dksX7_solve_8 : cX7_solve.data.toList.drop 189 = dktX7_solve_8 := dk_seg dksX7_solve_7 23 rfl rfl
theorem dksX7_solve_9 : cX7_solve.data.toList.drop 211 = dktX7_solve_9 := dk_seg dksX7_solve_8 22 rfl rfl
theorem dX7_solve_0 : decode cX7_solve 0 = .ok (.aload_n 1, 1) := dk_43 (dk_at dksX7_solve_0 0 rfl rfl)
theorem dX7_solve_1 : decode cX7_solve 1 = .ok (.arraylength, 1) := dk_190 (dk_at dksX7_solve_0 1 rfl rfl)
theorem dX7_solve_2 : decode cX7_solve 2 = .ok (.istore_n 2, 1) := dk_61 (dk_at dksX7_solve_0 2 rfl rfl)
theorem dX7_solve_3 : decode cX7_solve 3 = .ok (.iload_n 2, 1) := dk_28 (dk_at dksX7_solve_0 3 rfl rfl)
theorem dX7_solve_4 : decode cX7_solve 4 = .ok (.newarray .int, 2) := dk_188_10 (dk_at dksX7_solve_0 4 rfl rfl)
theorem dX7_solve_6 : decode cX7_solve 6 = .ok (.astore_n 3, 1) := dk_78 (dk_at dksX7_solve_0 6 rfl rfl)
theorem dX7_solve_7 : decode cX7_solve 7 = .ok (.iconst 0, 1) := dk_3 (dk_at dksX7_solve_0 7 rfl rfl)
theorem dX7_solve_8 : decode cX7_solve 8 = .ok (.istore 4, 2) := dk_54 4 (dk_at dksX7_solve_0 8 rfl rfl)
theorem dX7_solve_10 : decode cX7_solve 10 = .ok (.iconst 0, 1) := dk_3 (dk_at dksX7_solve_0 10 rfl rfl)
theorem dX7_solve_11 : decode cX7_solve 11 = .ok (.istore 5, 2) := dk_54 5 (dk_at dksX7_solve_0 11 rfl rfl)
theorem dX7_solve_13 : decode cX7_solve 13 = .ok (.iload 5, 2) := dk_21 5 (dk_at dksX7_solve_0 13 rfl rfl)
theorem dX7_solve_15 : decode cX7_solve 15 = .ok (.iload_n 2, 1) := dk_28 (dk_at dksX7_solve_0 15 rfl rfl)
theorem dX7_solve_16 : decode cX7_solve 16 = .ok (.if_icmp .ge 213, 3) := dk_162 0 213 (dk_at dksX7_solve_0 16 rfl rfl)
theorem dX7_solve_19 : decode cX7_solve 19 = .ok (.iload 4, 2) := dk_21 4 (dk_at dksX7_solve_0 19 rfl rfl)
theorem dX7_solve_21 : decode cX7_solve 21 = .ok (.istore 6, 2) := dk_54 6 (dk_at dksX7_solve_0 21 rfl rfl)
theorem dX7_solve_23 : decode cX7_solve 23 = .ok (.iload 6, 2) := dk_21 6 (dk_at dksX7_solve_1 0 rfl rfl)
theorem dX7_solve_25 : decode cX7_solve 25 = .ok (.iload_n 2, 1) := dk_28 (dk_at dksX7_solve_1 2 rfl rfl)
theorem dX7_solve_26 : decode cX7_solve 26 = .ok (.if_icmp .ge 19, 3) := dk_162 0 19 (dk_at dksX7_solve_1 3 rfl rfl)
theorem dX7_solve_29 : decode cX7_solve 29 = .ok (.aload_n 1, 1) := dk_43 (dk_at dksX7_solve_1 6 rfl rfl)
theorem dX7_solve_30 : decode cX7_solve 30 = .ok (.iload 6, 2) := dk_21 6 (dk_at dksX7_solve_1 7 rfl rfl)
theorem dX7_solve_32 : decode cX7_solve 32 = .ok (.aaload, 1) := dk_50 (dk_at dksX7_solve_1 9 rfl rfl)
theorem dX7_solve_33 : decode cX7_solve 33 = .ok (.iload 5, 2) := dk_21 5 (dk_at dksX7_solve_1 10 rfl rfl)
theorem dX7_solve_35 : decode cX7_solve 35 = .ok (.iaload, 1) := dk_46 (dk_at dksX7_solve_1 12 rfl rfl)
theorem dX7_solve_36 : decode cX7_solve 36 = .ok (.ifCond .ne 9, 3) := dk_154 0 9 (dk_at dksX7_solve_1 13 rfl rfl)
theorem dX7_solve_39 : decode cX7_solve 39 = .ok (.iinc 6 1, 3) := dk_132 6 1 (dk_at dksX7_solve_1 16 rfl rfl)
theorem dX7_solve_42 : decode cX7_solve 42 = .ok (.goto (-19), 3) := dk_167 255 237 (dk_at dksX7_solve_1 19 rfl rfl)
theorem dX7_solve_45 : decode cX7_solve 45 = .ok (.aload_n 3, 1) := dk_45 (dk_at dksX7_solve_1 22 rfl rfl)
theorem dX7_solve_46 : decode cX7_solve 46 = .ok (.iload 5, 2) := dk_21 5 (dk_at dksX7_solve_2 0 rfl rfl)
theorem dX7_solve_48 : decode cX7_solve 48 = .ok (.iload 6, 2) := dk_21 6 (dk_at dksX7_solve_2 2 rfl rfl)
theorem dX7_solve_50 : decode cX7_solve 50 = .ok (.iload_n 2, 1) := dk_28 (dk_at dksX7_solve_2 4 rfl rfl)
theorem dX7_solve_51 : decode cX7_solve 51 = .ok (.if_icmp .ge 8, 3) := dk_162 0 8 (dk_at dksX7_solve_2 5 rfl rfl)
theorem dX7_solve_54 : decode cX7_solve 54 = .ok (.iload 4, 2) := dk_21 4 (dk_at dksX7_solve_2 8 rfl rfl)
theorem dX7_solve_56 : decode cX7_solve 56 = .ok (.goto 4, 3) := dk_167 0 4 (dk_at dksX7_solve_2 10 rfl rfl)
theorem dX7_solve_59 : decode cX7_solve 59 = .ok (.iconst (-1), 1) := dk_2 (dk_at dksX7_solve_2 13 rfl rfl)
theorem dX7_solve_60 : decode cX7_solve 60 = .ok (.iastore, 1) := dk_79 (dk_at dksX7_solve_2 14 rfl rfl)
theorem dX7_solve_61 : decode cX7_solve 61 = .ok (.iload 6, 2) := dk_21 6 (dk_at dksX7_solve_2 15 rfl rfl)
theorem dX7_solve_63 : decode cX7_solve 63 = .ok (.iload_n 2, 1) := dk_28 (dk_at dksX7_solve_2 17 rfl rfl)
theorem dX7_solve_64 : decode cX7_solve 64 = .ok (.if_icmp .ne 6, 3) := dk_160 0 6 (dk_at dksX7_solve_2 18 rfl rfl)
theorem dX7_solve_67 : decode cX7_solve 67 = .ok (.goto 156, 3) := dk_167 0 156 (dk_at dksX7_solve_2 21 rfl rfl)
theorem dX7_solve_70 : decode cX7_solve 70 = .ok (.aload_n 1, 1) := dk_43 (dk_at dksX7_solve_3 0 rfl rfl)
theorem dX7_solve_71 : decode cX7_solve 71 = .ok (.iload 6, 2) := dk_21 6 (dk_at dksX7_solve_3 1 rfl rfl)
theorem dX7_solve_73 : decode cX7_solve 73 = .ok (.aaload, 1) := dk_50 (dk_at dksX7_solve_3 3 rfl rfl)
theorem dX7_solve_74 : decode cX7_solve 74 = .ok (.astore 7, 2) := dk_58 7 (dk_at dksX7_solve_3 4 rfl rfl)
theorem dX7_solve_76 : decode cX7_solve 76 = .ok (.aload_n 1, 1) := dk_43 (dk_at dksX7_solve_3 6 rfl rfl)
theorem dX7_solve_77 : decode cX7_solve 77 = .ok (.iload 6, 2) := dk_21 6 (dk_at dksX7_solve_3 7 rfl rfl)
theorem dX7_solve_79 : decode cX7_solve 79 = .ok (.aload_n 1, 1) := dk_43 (dk_at dksX7_solve_3 9 rfl rfl)
theorem dX7_solve_80 : decode cX7_solve 80 = .ok (.iload 4, 2) := dk_21 4 (dk_at dksX7_solve_3 10 rfl rfl)
theorem dX7_solve_82 : decode cX7_solve 82 = .ok (.aaload, 1) := dk_50 (dk_at dksX7_solve_3 12 rfl rfl)
theorem dX7_solve_83 : decode cX7_solve 83 = .ok (.aastore, 1) := dk_83 (dk_at dksX7_solve_3 13 rfl rfl)
theorem dX7_solve_84 : decode cX7_solve 84 = .ok (.aload_n 1, 1) := dk_43 (dk_at dksX7_solve_3 14 rfl rfl)
theorem dX7_solve_85 : decode cX7_solve 85 = .ok (.iload 4, 2) := dk_21 4 (dk_at dksX7_solve_3 15 rfl rfl)
theorem dX7_solve_87 : decode cX7_solve 87 = .ok (.aload 7, 2) := dk_25 7 (dk_at dksX7_solve_3 17 rfl rfl)
theorem dX7_solve_89 : decode cX7_solve 89 = .ok (.aastore, 1) := dk_83 (dk_at dksX7_solve_3 19 rfl rfl)
theorem dX7_solve_90 : decode cX7_solve 90 = .ok (.aload_n 0, 1) := dk_42 (dk_at dksX7_solve_3 20 rfl rfl)
theorem dX7_solve_91 : decode cX7_solve 91 = .ok (.getfield 3, 3) := dk_180 0 3 (dk_at dksX7_solve_3 21 rfl rfl)
theorem dX7_solve_94 : decode cX7_solve 94 = .ok (.aload 7, 2) := dk_25 7 (dk_at dksX7_solve_4 0 rfl rfl)
theorem dX7_solve_96 : decode cX7_solve 96 = .ok (.iload 5, 2) := dk_21 5 (dk_at dksX7_solve_4 2 rfl rfl)
theorem dX7_solve_98 : decode cX7_solve 98 = .ok (.iaload, 1) := dk_46 (dk_at dksX7_solve_4 4 rfl rfl)
theorem dX7_solve_99 : decode cX7_solve 99 = .ok (.invokevirtual 80, 3) := dk_182 0 80 (dk_at dksX7_solve_4 5 rfl rfl)
theorem dX7_solve_102 : decode cX7_solve 102 = .ok (.istore 8, 2) := dk_54 8 (dk_at dksX7_solve_4 8 rfl rfl)
theorem dX7_solve_104 : decode cX7_solve 104 = .ok (.iconst 0, 1) := dk_3 (dk_at dksX7_solve_4 10 rfl rfl)
theorem dX7_solve_105 : decode cX7_solve 105 = .ok (.istore 9, 2) := dk_54 9 (dk_at dksX7_solve_4 11 rfl rfl)
theorem dX7_solve_107 : decode cX7_solve 107 = .ok (.iload 9, 2) := dk_21 9 (dk_at dksX7_solve_4 13 rfl rfl)
theorem dX7_solve_109 : decode cX7_solve 109 = .ok (.iload_n 2, 1) := dk_28 (dk_at dksX7_solve_4 15 rfl rfl)
theorem dX7_solve_110 : decode cX7_solve 110 = .ok (.if_icmp .ge 29, 3) := dk_162 0 29 (dk_at dksX7_solve_4 16 rfl rfl)
theorem dX7_solve_113 : decode cX7_solve 113 = .ok (.aload 7, 2) := dk_25 7 (dk_at dksX7_solve_4 19 rfl rfl)
theorem dX7_solve_115 : decode cX7_solve 115 = .ok (.iload 9, 2) := dk_21 9 (dk_at dksX7_solve_4 21 rfl rfl)
theorem dX7_solve_117 : decode cX7_solve 117 = .ok (.aload_n 0, 1) := dk_42 (dk_at dksX7_solve_4 23 rfl rfl)
theorem dX7_solve_118 : decode cX7_solve 118 = .ok (.getfield 3, 3) := dk_180 0 3 (dk_at dksX7_solve_5 0 rfl rfl)
theorem dX7_solve_121 : decode cX7_solve 121 = .ok (.iload 8, 2) := dk_21 8 (dk_at dksX7_solve_5 3 rfl rfl)
theorem dX7_solve_123 : decode cX7_solve 123 = .ok (.aload 7, 2) := dk_25 7 (dk_at dksX7_solve_5 5 rfl rfl)
theorem dX7_solve_125 : decode cX7_solve 125 = .ok (.iload 9, 2) := dk_21 9 (dk_at dksX7_solve_5 7 rfl rfl)
theorem dX7_solve_127 : decode cX7_solve 127 = .ok (.iaload, 1) := dk_46 (dk_at dksX7_solve_5 9 rfl rfl)
theorem dX7_solve_128 : decode cX7_solve 128 = .ok (.imul, 1) := dk_104 (dk_at dksX7_solve_5 10 rfl rfl)
theorem dX7_solve_129 : decode cX7_solve 129 = .ok (.invokevirtual 38, 3) := dk_182 0 38 (dk_at dksX7_solve_5 11 rfl rfl)
theorem dX7_solve_132 : decode cX7_solve 132 = .ok (.iastore, 1) := dk_79 (dk_at dksX7_solve_5 14 rfl rfl)
theorem dX7_solve_133 : decode cX7_solve 133 = .ok (.iinc 9 1, 3) := dk_132 9 1 (dk_at dksX7_solve_5 15 rfl rfl)
theorem dX7_solve_136 : decode cX7_solve 136 = .ok (.goto (-29), 3) := dk_167 255 227 (dk_at dksX7_solve_5 18 rfl rfl)
theorem dX7_solve_139 : decode cX7_solve 139 = .ok (.iconst 0, 1) := dk_3 (dk_at dksX7_solve_5 21 rfl rfl)
theorem dX7_solve_140 : decode cX7_solve 140 = .ok (.istore 9, 2) := dk_54 9 (dk_at dksX7_solve_5 22 rfl rfl)
theorem dX7_solve_142 : decode cX7_solve 142 = .ok (.iload 9, 2) := dk_21 9 (dk_at dksX7_solve_6 0 rfl rfl)
theorem dX7_solve_144 : decode cX7_solve 144 = .ok (.iload_n 2, 1) := dk_28 (dk_at dksX7_solve_6 2 rfl rfl)
theorem dX7_solve_145 : decode cX7_solve 145 = .ok (.if_icmp .ge 75, 3) := dk_162 0 75 (dk_at dksX7_solve_6 3 rfl rfl)
theorem dX7_solve_148 : decode cX7_solve 148 = .ok (.aload_n 1, 1) := dk_43 (dk_at dksX7_solve_6 6 rfl rfl)
theorem dX7_solve_149 : decode cX7_solve 149 = .ok (.iload 9, 2) := dk_21 9 (dk_at dksX7_solve_6 7 rfl rfl)
theorem dX7_solve_151 : decode cX7_solve 151 = .ok (.aaload, 1) := dk_50 (dk_at dksX7_solve_6 9 rfl rfl)
theorem dX7_solve_152 : decode cX7_solve 152 = .ok (.iload 5, 2) := dk_21 5 (dk_at dksX7_solve_6 10 rfl rfl)
theorem dX7_solve_154 : decode cX7_solve 154 = .ok (.iaload, 1) := dk_46 (dk_at dksX7_solve_6 12 rfl rfl)
theorem dX7_solve_155 : decode cX7_solve 155 = .ok (.istore 10, 2) := dk_54 10 (dk_at dksX7_solve_6 13 rfl rfl)
theorem dX7_solve_157 : decode cX7_solve 157 = .ok (.iconst 0, 1) := dk_3 (dk_at dksX7_solve_6 15 rfl rfl)
theorem dX7_solve_158 : decode cX7_solve 158 = .ok (.istore 11, 2) := dk_54 11 (dk_at dksX7_solve_6 16 rfl rfl)
theorem dX7_solve_160 : decode cX7_solve 160 = .ok (.iload 11, 2) := dk_21 11 (dk_at dksX7_solve_6 18 rfl rfl)
theorem dX7_solve_162 : decode cX7_solve 162 = .ok (.iload_n 2, 1) := dk_28 (dk_at dksX7_solve_6 20 rfl rfl)
theorem dX7_solve_163 : decode cX7_solve 163 = .ok (.if_icmp .ge 51, 3) := dk_162 0 51 (dk_at dksX7_solve_6 21 rfl rfl)
theorem dX7_solve_166 : decode cX7_solve 166 = .ok (.iload 9, 2) := dk_21 9 (dk_at dksX7_solve_7 0 rfl rfl)
theorem dX7_solve_168 : decode cX7_solve 168 = .ok (.iload 4, 2) := dk_21 4 (dk_at dksX7_solve_7 2 rfl rfl)
theorem dX7_solve_170 : decode cX7_solve 170 = .ok (.if_icmp .eq 44, 3) := dk_159 0 44 (dk_at dksX7_solve_7 4 rfl rfl)
theorem dX7_solve_173 : decode cX7_solve 173 = .ok (.iload 10, 2) := dk_21 10 (dk_at dksX7_solve_7 7 rfl rfl)
theorem dX7_solve_175 : decode cX7_solve 175 = .ok (.ifCond .eq 39, 3) := dk_153 0 39 (dk_at dksX7_solve_7 9 rfl rfl)
theorem dX7_solve_178 : decode cX7_solve 178 = .ok (.aload_n 1, 1) := dk_43 (dk_at dksX7_solve_7 12 rfl rfl)
theorem dX7_solve_179 : decode cX7_solve 179 = .ok (.iload 9, 2) := dk_21 9 (dk_at dksX7_solve_7 13 rfl rfl)
theorem dX7_solve_181 : decode cX7_solve 181 = .ok (.aaload, 1) := dk_50 (dk_at dksX7_solve_7 15 rfl rfl)
theorem dX7_solve_182 : decode cX7_solve 182 = .ok (.iload 11, 2) := dk_21 11 (dk_at dksX7_solve_7 16 rfl rfl)
theorem dX7_solve_184 : decode cX7_solve 184 = .ok (.aload_n 0, 1) := dk_42 (dk_at dksX7_solve_7 18 rfl rfl)
theorem dX7_solve_185 : decode cX7_solve 185 = .ok (.getfield 3, 3) := dk_180 0 3 (dk_at dksX7_solve_7 19 rfl rfl)
theorem dX7_solve_188 : decode cX7_solve 188 = .ok (.aload_n 1, 1) := dk_43 (dk_at dksX7_solve_7 22 rfl rfl)
theorem dX7_solve_189 : decode cX7_solve 189 = .ok (.iload 9, 2) := dk_21 9 (dk_at dksX7_solve_8 0 rfl rfl)
theorem dX7_solve_191 : decode cX7_solve 191 = .ok (.aaload, 1) := dk_50 (dk_at dksX7_solve_8 2 rfl rfl)
theorem dX7_solve_192 : decode cX7_solve 192 = .ok (.iload 11, 2) := dk_21 11 (dk_at dksX7_solve_8 3 rfl rfl)
theorem dX7_solve_194 : decode cX7_solve 194 = .ok (.iaload, 1) := dk_46 (dk_at dksX7_solve_8 5 rfl rfl)
theorem dX7_solve_195 : decode cX7_solve 195 = .ok (.iload 10, 2) := dk_21 10 (dk_at dksX7_solve_8 6 rfl rfl)
theorem dX7_solve_197 : decode cX7_solve 197 = .ok (.aload 7, 2) := dk_25 7 (dk_at dksX7_solve_8 8 rfl rfl)
theorem dX7_solve_199 : decode cX7_solve 199 = .ok (.iload 11, 2) := dk_21 11 (dk_at dksX7_solve_8 10 rfl rfl)
theorem dX7_solve_201 : decode cX7_solve 201 = .ok (.iaload, 1) := dk_46 (dk_at dksX7_solve_8 12 rfl rfl)
theorem dX7_solve_202 : decode cX7_solve 202 = .ok (.imul, 1) := dk_104 (dk_at dksX7_solve_8 13 rfl rfl)
theorem dX7_solve_203 : decode cX7_solve 203 = .ok (.isub, 1) := dk_100 (dk_at dksX7_solve_8 14 rfl rfl)
theorem dX7_solve_204 : decode cX7_solve 204 = .ok (.invokevirtual 38, 3) := dk_182 0 38 (dk_at dksX7_solve_8 15 rfl rfl)
theorem dX7_solve_207 : decode cX7_solve 207 = .ok (.iastore, 1) := dk_79 (dk_at dksX7_solve_8 18 rfl rfl)
theorem dX7_solve_208 : decode cX7_solve 208 = .ok (.iinc 11 1, 3) := dk_132 11 1 (dk_at dksX7_solve_8 19 rfl rfl)
theorem dX7_solve_211 : decode cX7_solve 211 = .ok (.goto (-51), 3) := dk_167 255 205 (dk_at dksX7_solve_9 0 rfl rfl)
theorem dX7_solve_214 : decode cX7_solve 214 = .ok (.iinc 9 1, 3) := dk_132 9 1 (dk_at dksX7_solve_9 3 rfl rfl)
theorem dX7_solve_217 : decode cX7_solve 217 = .ok (.goto (-75), 3) := dk_167 255 181 (dk_at dksX7_solve_9 6 rfl rfl)
theorem dX7_solve_220 : decode cX7_solve 220 = .ok (.iinc 4 1, 3) := dk_132 4 1 (dk_at dksX7_solve_9 9 rfl rfl)
theorem dX7_solve_223 : decode cX7_solve 223 = .ok (.iinc 5 1, 3) := dk_132 5 1 (dk_at dksX7_solve_9 12 rfl rfl)
theorem dX7_solve_226 : decode cX7_solve 226 = .ok (.goto (-213), 3) := dk_167 255 43 (dk_at dksX7_solve_9 15 rfl rfl)
theorem dX7_solve_229 : decode cX7_solve 229 = .ok (.aload_n 3, 1) := dk_45 (dk_at dksX7_solve_9 18 rfl rfl)
theorem dX7_solve_230 : decode cX7_solve 230 = .ok (.areturn, 1) := dk_176 (dk_at dksX7_solve_9 19 rfl rfl)
abbrev cX7_toString : ByteArray := prog_4_method_25_code
def yX7_toString : MethodName := ⟨RX7, "toString", "()Ljava/lang/String;"⟩
def dkwX7_toString_3 : List UInt8 := [43, 182, 0, 135, 154, 0, 8, 18, 145, 167, 0, 7, 43, 182, 0, 147, 176]
abbrev dktX7_toString_3 : List UInt8 := dkwX7_toString_3 ++ []
def dkwX7_toString_2 : List UInt8 := [180, 0, 25, 28, 46, 182, 0, 142, 16, 101, 182, 0, 138, 28, 182, 0, 142, 87, 132, 2, 1, 167, 255, 198]
abbrev dktX7_toString_2 : List UInt8 := dkwX7_toString_2 ++ dktX7_toString_3
def dkwX7_toString_1 : List UInt8 := [46, 154, 0, 6, 167, 0, 37, 43, 182, 0, 135, 158, 0, 10, 43, 16, 43, 182, 0, 138, 87, 43, 42]
abbrev dktX7_toString_1 : List UInt8 := dkwX7_toString_1 ++ dktX7_toString_2
def dkwX7_toString_0 : List UInt8 := [187, 0, 132, 89, 183, 0, 134, 76, 3, 61, 28, 42, 180, 0, 25, 190, 162, 0, 55, 42, 180, 0, 25, 28]
abbrev dktX7_toString_0 : List UInt8 := dkwX7_toString_0 ++ dktX7_toString_1
theorem dksX7_toString_0 : cX7_toString.data.toList.drop 0 = dktX7_toString_0 := by decide +kernel
theorem dksX7_toString_1 : cX7_toString.data.toList.drop 24 = dktX7_toString_1 := dk_seg dksX7_toString_0 24 rfl rfl
theorem dksX7_toString_2 : cX7_toString.data.toList.drop 47 = dktX7_toString_2 := dk_seg dksX7_toString_1 23 rfl rfl
theorem dksX7_toString_3 : cX7_toString.data.toList.drop 71 = dktX7_toString_3 := dk_seg dksX7_toString_2 24 rfl rfl
theorem dX7_toString_0 : decode cX7_toString 0 = .ok (.new 132, 3) := dk_187 0 132 (dk_at dksX7_toString_0 0 rfl rfl)
theorem dX7_toString_3 : decode cX7_toString 3 = .ok (.dup, 1) := dk_89 (dk_at dksX7_toString_0 3 rfl rfl)
theorem dX7_toString_4 : decode cX7_toString 4 = .ok (.invokespecial 134, 3) := dk_183 0 134 (dk_at dksX7_toString_0 4 rfl rfl)
theorem dX7_toString_7 : decode cX7_toString 7 = .ok (.astore_n 1, 1) := dk_76 (dk_at dksX7_toString_0 7 rfl rfl)
theorem dX7_toString_8 : decode cX7_toString 8 = .ok (.iconst 0, 1) := dk_3 (dk_at dksX7_toString_0 8 rfl rfl)
theorem dX7_toString_9 : decode cX7_toString 9 = .ok (.istore_n 2, 1) := dk_61 (dk_at dksX7_toString_0 9 rfl rfl)
theorem dX7_toString_10 : decode cX7_toString 10 = .ok (.iload_n 2, 1) := dk_28 (dk_at dksX7_toString_0 10 rfl rfl)
theorem dX7_toString_11 : decode cX7_toString 11 = .ok (.aload_n 0, 1) := dk_42 (dk_at dksX7_toString_0 11 rfl rfl)
theorem dX7_toString_12 : decode cX7_toString 12 = .ok (.getfield 25, 3) := dk_180 0 25 (dk_at dksX7_toString_0 12 rfl rfl)
theorem dX7_toString_15 : decode cX7_toString 15 = .ok (.arraylength, 1) := dk_190 (dk_at dksX7_toString_0 15 rfl rfl)
theorem dX7_toString_16 : decode cX7_toString 16 = .ok (.if_icmp .ge 55, 3) := dk_162 0 55 (dk_at dksX7_toString_0 16 rfl rfl)
theorem dX7_toString_19 : decode cX7_toString 19 = .ok (.aload_n 0, 1) := dk_42 (dk_at dksX7_toString_0 19 rfl rfl)
theorem dX7_toString_20 : decode cX7_toString 20 = .ok (.getfield 25, 3) := dk_180 0 25 (dk_at dksX7_toString_0 20 rfl rfl)
theorem dX7_toString_23 : decode cX7_toString 23 = .ok (.iload_n 2, 1) := dk_28 (dk_at dksX7_toString_0 23 rfl rfl)
theorem dX7_toString_24 : decode cX7_toString 24 = .ok (.iaload, 1) := dk_46 (dk_at dksX7_toString_1 0 rfl rfl)
theorem dX7_toString_25 : decode cX7_toString 25 = .ok (.ifCond .ne 6, 3) := dk_154 0 6 (dk_at dksX7_toString_1 1 rfl rfl)
theorem dX7_toString_28 : decode cX7_toString 28 = .ok (.goto 37, 3) := dk_167 0 37 (dk_at dksX7_toString_1 4 rfl rfl)
theorem dX7_toString_31 : decode cX7_toString 31 = .ok (.aload_n 1, 1) := dk_43 (dk_at dksX7_toString_1 7 rfl rfl)
theorem dX7_toString_32 : decode cX7_toString 32 = .ok (.invokevirtual 135, 3) := dk_182 0 135 (dk_at dksX7_toString_1 8 rfl rfl)
theorem dX7_toString_35 : decode cX7_toString 35 = .ok (.ifCond .le 10, 3) := dk_158 0 10 (dk_at dksX7_toString_1 11 rfl rfl)
theorem dX7_toString_38 : decode cX7_toString 38 = .ok (.aload_n 1, 1) := dk_43 (dk_at dksX7_toString_1 14 rfl rfl)
theorem dX7_toString_39 : decode cX7_toString 39 = .ok (.bipush 43, 2) := dk_16 43 (dk_at dksX7_toString_1 15 rfl rfl)
theorem dX7_toString_41 : decode cX7_toString 41 = .ok (.invokevirtual 138, 3) := dk_182 0 138 (dk_at dksX7_toString_1 17 rfl rfl)
theorem dX7_toString_44 : decode cX7_toString 44 = .ok (.pop, 1) := dk_87 (dk_at dksX7_toString_1 20 rfl rfl)
theorem dX7_toString_45 : decode cX7_toString 45 = .ok (.aload_n 1, 1) := dk_43 (dk_at dksX7_toString_1 21 rfl rfl)
theorem dX7_toString_46 : decode cX7_toString 46 = .ok (.aload_n 0, 1) := dk_42 (dk_at dksX7_toString_1 22 rfl rfl)
theorem dX7_toString_47 : decode cX7_toString 47 = .ok (.getfield 25, 3) := dk_180 0 25 (dk_at dksX7_toString_2 0 rfl rfl)
theorem dX7_toString_50 : decode cX7_toString 50 = .ok (.iload_n 2, 1) := dk_28 (dk_at dksX7_toString_2 3 rfl rfl)
theorem dX7_toString_51 : decode cX7_toString 51 = .ok (.iaload, 1) := dk_46 (dk_at dksX7_toString_2 4 rfl rfl)
theorem dX7_toString_52 : decode cX7_toString 52 = .ok (.invokevirtual 142, 3) := dk_182 0 142 (dk_at dksX7_toString_2 5 rfl rfl)
theorem dX7_toString_55 : decode cX7_toString 55 = .ok (.bipush 101, 2) := dk_16 101 (dk_at dksX7_toString_2 8 rfl rfl)
theorem dX7_toString_57 : decode cX7_toString 57 = .ok (.invokevirtual 138, 3) := dk_182 0 138 (dk_at dksX7_toString_2 10 rfl rfl)
theorem dX7_toString_60 : decode cX7_toString 60 = .ok (.iload_n 2, 1) := dk_28 (dk_at dksX7_toString_2 13 rfl rfl)
theorem dX7_toString_61 : decode cX7_toString 61 = .ok (.invokevirtual 142, 3) := dk_182 0 142 (dk_at dksX7_toString_2 14 rfl rfl)
theorem dX7_toString_64 : decode cX7_toString 64 = .ok (.pop, 1) := dk_87 (dk_at dksX7_toString_2 17 rfl rfl)
theorem dX7_toString_65 : decode cX7_toString 65 = .ok (.iinc 2 1, 3) := dk_132 2 1 (dk_at dksX7_toString_2 18 rfl rfl)
theorem dX7_toString_68 : decode cX7_toString 68 = .ok (.goto (-58), 3) := dk_167 255 198 (dk_at dksX7_toString_2 21 rfl rfl)
theorem dX7_toString_71 : decode cX7_toString 71 = .ok (.aload_n 1, 1) := dk_43 (dk_at dksX7_toString_3 0 rfl rfl)
theorem dX7_toString_72 : decode cX7_toString 72 = .ok (.invokevirtual 135, 3) := dk_182 0 135 (dk_at dksX7_toString_3 1 rfl rfl)
theorem dX7_toString_75 : decode cX7_toString 75 = .ok (.ifCond .ne 8, 3) := dk_154 0 8 (dk_at dksX7_toString_3 4 rfl rfl)
theorem dX7_toString_78 : decode cX7_toString 78 = .ok (.ldc 145, 2) := dk_18 145 (dk_at dksX7_toString_3 7 rfl rfl)
theorem dX7_toString_80 : decode cX7_toString 80 = .ok (.goto 7, 3) := dk_167 0 7 (dk_at dksX7_toString_3 9 rfl rfl)
theorem dX7_toString_83 : decode cX7_toString 83 = .ok (.aload_n 1, 1) := dk_43 (dk_at dksX7_toString_3 12 rfl rfl)
theorem dX7_toString_84 : decode cX7_toString 84 = .ok (.invokevirtual 147, 3) := dk_182 0 147 (dk_at dksX7_toString_3 13 rfl rfl)
theorem dX7_toString_87 : decode cX7_toString 87 = .ok (.areturn, 1) := dk_176 (dk_at dksX7_toString_3 16 rfl rfl)
abbrev cX7_times_2 : ByteArray := prog_4_method_5_code
def yX7_times_2 : MethodName := ⟨RX7, "times", "(I)LVersorhall$Element;"⟩
def dkwX7_times_2_2 : List UInt8 := [132, 3, 1, 167, 255, 223, 44, 176]
abbrev dktX7_times_2_2 : List UInt8 := dkwX7_times_2_2 ++ []
def dkwX7_times_2_1 : List UInt8 := [162, 0, 30, 44, 180, 0, 25, 29, 42, 180, 0, 3, 27, 42, 180, 0, 25, 29, 46, 104, 182, 0, 38, 79]
abbrev dktX7_times_2_1 : List UInt8 := dkwX7_times_2_1 ++ dktX7_times_2_2
def dkwX7_times_2_0 : List UInt8 := [187, 0, 4, 89, 42, 180, 0, 3, 42, 180, 0, 15, 183, 0, 29, 77, 3, 62, 29, 42, 180, 0, 25, 190]
abbrev dktX7_times_2_0 : List UInt8 := dkwX7_times_2_0 ++ dktX7_times_2_1
theorem dksX7_times_2_0 : cX7_times_2.data.toList.drop 0 = dktX7_times_2_0 := by decide +kernel
theorem dksX7_times_2_1 : cX7_times_2.data.toList.drop 24 = dktX7_times_2_1 := dk_seg dksX7_times_2_0 24 rfl rfl
theorem dksX7_times_2_2 : cX7_times_2.data.toList.drop 48 = dktX7_times_2_2 := dk_seg dksX7_times_2_1 24 rfl rfl
theorem dX7_times_2_0 : decode cX7_times_2 0 = .ok (.new 4, 3) := dk_187 0 4 (dk_at dksX7_times_2_0 0 rfl rfl)
theorem dX7_times_2_3 : decode cX7_times_2 3 = .ok (.dup, 1) := dk_89 (dk_at dksX7_times_2_0 3 rfl rfl)
theorem dX7_times_2_4 : decode cX7_times_2 4 = .ok (.aload_n 0, 1) := dk_42 (dk_at dksX7_times_2_0 4 rfl rfl)
theorem dX7_times_2_5 : decode cX7_times_2 5 = .ok (.getfield 3, 3) := dk_180 0 3 (dk_at dksX7_times_2_0 5 rfl rfl)
theorem dX7_times_2_8 : decode cX7_times_2 8 = .ok (.aload_n 0, 1) := dk_42 (dk_at dksX7_times_2_0 8 rfl rfl)
theorem dX7_times_2_9 : decode cX7_times_2 9 = .ok (.getfield 15, 3) := dk_180 0 15 (dk_at dksX7_times_2_0 9 rfl rfl)
theorem dX7_times_2_12 : decode cX7_times_2 12 = .ok (.invokespecial 29, 3) := dk_183 0 29 (dk_at dksX7_times_2_0 12 rfl rfl)
theorem dX7_times_2_15 : decode cX7_times_2 15 = .ok (.astore_n 2, 1) := dk_77 (dk_at dksX7_times_2_0 15 rfl rfl)
theorem dX7_times_2_16 : decode cX7_times_2 16 = .ok (.iconst 0, 1) := dk_3 (dk_at dksX7_times_2_0 16 rfl rfl)
theorem dX7_times_2_17 : decode cX7_times_2 17 = .ok (.istore_n 3, 1) := dk_62 (dk_at dksX7_times_2_0 17 rfl rfl)
theorem dX7_times_2_18 : decode cX7_times_2 18 = .ok (.iload_n 3, 1) := dk_29 (dk_at dksX7_times_2_0 18 rfl rfl)
theorem dX7_times_2_19 : decode cX7_times_2 19 = .ok (.aload_n 0, 1) := dk_42 (dk_at dksX7_times_2_0 19 rfl rfl)
theorem dX7_times_2_20 : decode cX7_times_2 20 = .ok (.getfield 25, 3) := dk_180 0 25 (dk_at dksX7_times_2_0 20 rfl rfl)
theorem dX7_times_2_23 : decode cX7_times_2 23 = .ok (.arraylength, 1) := dk_190 (dk_at dksX7_times_2_0 23 rfl rfl)
theorem dX7_times_2_24 : decode cX7_times_2 24 = .ok (.if_icmp .ge 30, 3) := dk_162 0 30 (dk_at dksX7_times_2_1 0 rfl rfl)
theorem dX7_times_2_27 : decode cX7_times_2 27 = .ok (.aload_n 2, 1) := dk_44 (dk_at dksX7_times_2_1 3 rfl rfl)
theorem dX7_times_2_28 : decode cX7_times_2 28 = .ok (.getfield 25, 3) := dk_180 0 25 (dk_at dksX7_times_2_1 4 rfl rfl)
theorem dX7_times_2_31 : decode cX7_times_2 31 = .ok (.iload_n 3, 1) := dk_29 (dk_at dksX7_times_2_1 7 rfl rfl)
theorem dX7_times_2_32 : decode cX7_times_2 32 = .ok (.aload_n 0, 1) := dk_42 (dk_at dksX7_times_2_1 8 rfl rfl)
theorem dX7_times_2_33 : decode cX7_times_2 33 = .ok (.getfield 3, 3) := dk_180 0 3 (dk_at dksX7_times_2_1 9 rfl rfl)
theorem dX7_times_2_36 : decode cX7_times_2 36 = .ok (.iload_n 1, 1) := dk_27 (dk_at dksX7_times_2_1 12 rfl rfl)
theorem dX7_times_2_37 : decode cX7_times_2 37 = .ok (.aload_n 0, 1) := dk_42 (dk_at dksX7_times_2_1 13 rfl rfl)
theorem dX7_times_2_38 : decode cX7_times_2 38 = .ok (.getfield 25, 3) := dk_180 0 25 (dk_at dksX7_times_2_1 14 rfl rfl)
theorem dX7_times_2_41 : decode cX7_times_2 41 = .ok (.iload_n 3, 1) := dk_29 (dk_at dksX7_times_2_1 17 rfl rfl)
theorem dX7_times_2_42 : decode cX7_times_2 42 = .ok (.iaload, 1) := dk_46 (dk_at dksX7_times_2_1 18 rfl rfl)
theorem dX7_times_2_43 : decode cX7_times_2 43 = .ok (.imul, 1) := dk_104 (dk_at dksX7_times_2_1 19 rfl rfl)
theorem dX7_times_2_44 : decode cX7_times_2 44 = .ok (.invokevirtual 38, 3) := dk_182 0 38 (dk_at dksX7_times_2_1 20 rfl rfl)
theorem dX7_times_2_47 : decode cX7_times_2 47 = .ok (.iastore, 1) := dk_79 (dk_at dksX7_times_2_1 23 rfl rfl)
theorem dX7_times_2_48 : decode cX7_times_2 48 = .ok (.iinc 3 1, 3) := dk_132 3 1 (dk_at dksX7_times_2_2 0 rfl rfl)
theorem dX7_times_2_51 : decode cX7_times_2 51 = .ok (.goto (-33), 3) := dk_167 255 223 (dk_at dksX7_times_2_2 3 rfl rfl)
theorem dX7_times_2_54 : decode cX7_times_2 54 = .ok (.aload_n 2, 1) := dk_44 (dk_at dksX7_times_2_2 6 rfl rfl)
theorem dX7_times_2_55 : decode cX7_times_2 55 = .ok (.areturn, 1) := dk_176 (dk_at dksX7_times_2_2 7 rfl rfl)
abbrev cX7_power : ByteArray := prog_4_method_8_code
def yX7_power : MethodName := ⟨RX7, "power", "(I)LVersorhall$Element;"⟩
def dkwX7_power_1 : List UInt8 := [44, 176]
abbrev dktX7_power_1 : List UInt8 := dkwX7_power_1 ++ []
def dkwX7_power_0 : List UInt8 := [42, 182, 0, 55, 77, 3, 62, 29, 27, 162, 0, 15, 44, 42, 182, 0, 59, 77, 132, 3, 1, 167, 255, 242]
abbrev dktX7_power_0 : List UInt8 := dkwX7_power_0 ++ dktX7_power_1
theorem dksX7_power_0 : cX7_power.data.toList.drop 0 = dktX7_power_0 := by decide +kernel
theorem dksX7_power_1 : cX7_power.data.toList.drop 24 = dktX7_power_1 := dk_seg dksX7_power_0 24 rfl rfl
theorem dX7_power_0 : decode cX7_power 0 = .ok (.aload_n 0, 1) := dk_42 (dk_at dksX7_power_0 0 rfl rfl)
theorem dX7_power_1 : decode cX7_power 1 = .ok (.invokevirtual 55, 3) := dk_182 0 55 (dk_at dksX7_power_0 1 rfl rfl)
theorem dX7_power_4 : decode cX7_power 4 = .ok (.astore_n 2, 1) := dk_77 (dk_at dksX7_power_0 4 rfl rfl)
theorem dX7_power_5 : decode cX7_power 5 = .ok (.iconst 0, 1) := dk_3 (dk_at dksX7_power_0 5 rfl rfl)
theorem dX7_power_6 : decode cX7_power 6 = .ok (.istore_n 3, 1) := dk_62 (dk_at dksX7_power_0 6 rfl rfl)
theorem dX7_power_7 : decode cX7_power 7 = .ok (.iload_n 3, 1) := dk_29 (dk_at dksX7_power_0 7 rfl rfl)
theorem dX7_power_8 : decode cX7_power 8 = .ok (.iload_n 1, 1) := dk_27 (dk_at dksX7_power_0 8 rfl rfl)
theorem dX7_power_9 : decode cX7_power 9 = .ok (.if_icmp .ge 15, 3) := dk_162 0 15 (dk_at dksX7_power_0 9 rfl rfl)
theorem dX7_power_12 : decode cX7_power 12 = .ok (.aload_n 2, 1) := dk_44 (dk_at dksX7_power_0 12 rfl rfl)
theorem dX7_power_13 : decode cX7_power 13 = .ok (.aload_n 0, 1) := dk_42 (dk_at dksX7_power_0 13 rfl rfl)
theorem dX7_power_14 : decode cX7_power 14 = .ok (.invokevirtual 59, 3) := dk_182 0 59 (dk_at dksX7_power_0 14 rfl rfl)
theorem dX7_power_17 : decode cX7_power 17 = .ok (.astore_n 2, 1) := dk_77 (dk_at dksX7_power_0 17 rfl rfl)
theorem dX7_power_18 : decode cX7_power 18 = .ok (.iinc 3 1, 3) := dk_132 3 1 (dk_at dksX7_power_0 18 rfl rfl)
theorem dX7_power_21 : decode cX7_power 21 = .ok (.goto (-14), 3) := dk_167 255 242 (dk_at dksX7_power_0 21 rfl rfl)
theorem dX7_power_24 : decode cX7_power 24 = .ok (.aload_n 2, 1) := dk_44 (dk_at dksX7_power_1 0 rfl rfl)
theorem dX7_power_25 : decode cX7_power 25 = .ok (.areturn, 1) := dk_176 (dk_at dksX7_power_1 1 rfl rfl)
abbrev cX7_inverse : ByteArray := prog_4_method_14_code
def yX7_inverse : MethodName := ⟨RX7, "inverse", "()Ljava/util/Optional;"⟩
def dkwX7_inverse_2 : List UInt8 := [167, 0, 6, 184, 0, 92, 176]
abbrev dktX7_inverse_2 : List UInt8 := dkwX7_inverse_2 ++ []
def dkwX7_inverse_1 : List UInt8 := [182, 0, 74, 42, 180, 0, 3, 43, 180, 0, 25, 3, 46, 182, 0, 80, 182, 0, 83, 184, 0, 86]
abbrev dktX7_inverse_1 : List UInt8 := dkwX7_inverse_1 ++ dktX7_inverse_2
def dkwX7_inverse_0 : List UInt8 := [42, 42, 182, 0, 74, 182, 0, 59, 76, 43, 182, 0, 77, 153, 0, 36, 43, 182, 0, 70, 154, 0, 29, 42]
abbrev dktX7_inverse_0 : List UInt8 := dkwX7_inverse_0 ++ dktX7_inverse_1
theorem dksX7_inverse_0 : cX7_inverse.data.toList.drop 0 = dktX7_inverse_0 := by decide +kernel
theorem dksX7_inverse_1 : cX7_inverse.data.toList.drop 24 = dktX7_inverse_1 := dk_seg dksX7_inverse_0 24 rfl rfl
theorem dksX7_inverse_2 : cX7_inverse.data.toList.drop 46 = dktX7_inverse_2 := dk_seg dksX7_inverse_1 22 rfl rfl
theorem dX7_inverse_0 : decode cX7_inverse 0 = .ok (.aload_n 0, 1) := dk_42 (dk_at dksX7_inverse_0 0 rfl rfl)
theorem dX7_inverse_1 : decode cX7_inverse 1 = .ok (.aload_n 0, 1) := dk_42 (dk_at dksX7_inverse_0 1 rfl rfl)
theorem dX7_inverse_2 : decode cX7_inverse 2 = .ok (.invokevirtual 74, 3) := dk_182 0 74 (dk_at dksX7_inverse_0 2 rfl rfl)
theorem dX7_inverse_5 : decode cX7_inverse 5 = .ok (.invokevirtual 59, 3) := dk_182 0 59 (dk_at dksX7_inverse_0 5 rfl rfl)
theorem dX7_inverse_8 : decode cX7_inverse 8 = .ok (.astore_n 1, 1) := dk_76 (dk_at dksX7_inverse_0 8 rfl rfl)
theorem dX7_inverse_9 : decode cX7_inverse 9 = .ok (.aload_n 1, 1) := dk_43 (dk_at dksX7_inverse_0 9 rfl rfl)
theorem dX7_inverse_10 : decode cX7_inverse 10 = .ok (.invokevirtual 77, 3) := dk_182 0 77 (dk_at dksX7_inverse_0 10 rfl rfl)
theorem dX7_inverse_13 : decode cX7_inverse 13 = .ok (.ifCond .eq 36, 3) := dk_153 0 36 (dk_at dksX7_inverse_0 13 rfl rfl)
theorem dX7_inverse_16 : decode cX7_inverse 16 = .ok (.aload_n 1, 1) := dk_43 (dk_at dksX7_inverse_0 16 rfl rfl)
theorem dX7_inverse_17 : decode cX7_inverse 17 = .ok (.invokevirtual 70, 3) := dk_182 0 70 (dk_at dksX7_inverse_0 17 rfl rfl)
theorem dX7_inverse_20 : decode cX7_inverse 20 = .ok (.ifCond .ne 29, 3) := dk_154 0 29 (dk_at dksX7_inverse_0 20 rfl rfl)
theorem dX7_inverse_23 : decode cX7_inverse 23 = .ok (.aload_n 0, 1) := dk_42 (dk_at dksX7_inverse_0 23 rfl rfl)
theorem dX7_inverse_24 : decode cX7_inverse 24 = .ok (.invokevirtual 74, 3) := dk_182 0 74 (dk_at dksX7_inverse_1 0 rfl rfl)
theorem dX7_inverse_27 : decode cX7_inverse 27 = .ok (.aload_n 0, 1) := dk_42 (dk_at dksX7_inverse_1 3 rfl rfl)
theorem dX7_inverse_28 : decode cX7_inverse 28 = .ok (.getfield 3, 3) := dk_180 0 3 (dk_at dksX7_inverse_1 4 rfl rfl)
theorem dX7_inverse_31 : decode cX7_inverse 31 = .ok (.aload_n 1, 1) := dk_43 (dk_at dksX7_inverse_1 7 rfl rfl)
theorem dX7_inverse_32 : decode cX7_inverse 32 = .ok (.getfield 25, 3) := dk_180 0 25 (dk_at dksX7_inverse_1 8 rfl rfl)
theorem dX7_inverse_35 : decode cX7_inverse 35 = .ok (.iconst 0, 1) := dk_3 (dk_at dksX7_inverse_1 11 rfl rfl)
theorem dX7_inverse_36 : decode cX7_inverse 36 = .ok (.iaload, 1) := dk_46 (dk_at dksX7_inverse_1 12 rfl rfl)
theorem dX7_inverse_37 : decode cX7_inverse 37 = .ok (.invokevirtual 80, 3) := dk_182 0 80 (dk_at dksX7_inverse_1 13 rfl rfl)
theorem dX7_inverse_40 : decode cX7_inverse 40 = .ok (.invokevirtual 83, 3) := dk_182 0 83 (dk_at dksX7_inverse_1 16 rfl rfl)
theorem dX7_inverse_43 : decode cX7_inverse 43 = .ok (.invokestatic 86, 3) := dk_184 0 86 (dk_at dksX7_inverse_1 19 rfl rfl)
theorem dX7_inverse_46 : decode cX7_inverse 46 = .ok (.goto 6, 3) := dk_167 0 6 (dk_at dksX7_inverse_2 0 rfl rfl)
theorem dX7_inverse_49 : decode cX7_inverse 49 = .ok (.invokestatic 92, 3) := dk_184 0 92 (dk_at dksX7_inverse_2 3 rfl rfl)
theorem dX7_inverse_52 : decode cX7_inverse 52 = .ok (.areturn, 1) := dk_176 (dk_at dksX7_inverse_2 6 rfl rfl)
abbrev cX7_series : ByteArray := prog_4_method_16_code
def yX7_series : MethodName := ⟨RX7, "series", "()Ljava/util/Optional;"⟩
def dkwX7_series_4 : List UInt8 := [182, 0, 83, 78, 132, 4, 1, 167, 255, 202, 44, 184, 0, 86, 176]
abbrev dktX7_series_4 : List UInt8 := dkwX7_series_4 ++ []
def dkwX7_series_3 : List UInt8 := [4, 96, 42, 180, 0, 3, 180, 0, 96, 160, 0, 7, 4, 167, 0, 7, 21, 4, 4, 96, 182, 0, 80]
abbrev dktX7_series_3 : List UInt8 := dkwX7_series_3 ++ dktX7_series_4
def dkwX7_series_2 : List UInt8 := [21, 4, 27, 162, 0, 54, 44, 45, 4, 182, 0, 66, 77, 45, 42, 182, 0, 59, 42, 180, 0, 3, 21, 4]
abbrev dktX7_series_2 : List UInt8 := dkwX7_series_2 ++ dktX7_series_3
def dkwX7_series_1 : List UInt8 := [187, 0, 4, 89, 42, 180, 0, 3, 42, 180, 0, 15, 183, 0, 29, 77, 42, 182, 0, 55, 78, 3, 54, 4]
abbrev dktX7_series_1 : List UInt8 := dkwX7_series_1 ++ dktX7_series_2
def dkwX7_series_0 : List UInt8 := [42, 42, 180, 0, 3, 180, 0, 96, 3, 182, 0, 100, 60, 27, 2, 160, 0, 7, 184, 0, 92, 176]
abbrev dktX7_series_0 : List UInt8 := dkwX7_series_0 ++ dktX7_series_1
theorem dksX7_series_0 : cX7_series.data.toList.drop 0 = dktX7_series_0 := by decide +kernel
theorem dksX7_series_1 : cX7_series.data.toList.drop 22 = dktX7_series_1 := dk_seg dksX7_series_0 22 rfl rfl
theorem dksX7_series_2 : cX7_series.data.toList.drop 46 = dktX7_series_2 := dk_seg dksX7_series_1 24 rfl rfl
theorem dksX7_series_3 : cX7_series.data.toList.drop 70 = dktX7_series_3 := dk_seg dksX7_series_2 24 rfl rfl
theorem dksX7_series_4 : cX7_series.data.toList.drop 93 = dktX7_series_4 := dk_seg dksX7_series_3 23 rfl rfl
theorem dX7_series_0 : decode cX7_series 0 = .ok (.aload_n 0, 1) := dk_42 (dk_at dksX7_series_0 0 rfl rfl)
theorem dX7_series_1 : decode cX7_series 1 = .ok (.aload_n 0, 1) := dk_42 (dk_at dksX7_series_0 1 rfl rfl)
theorem dX7_series_2 : decode cX7_series 2 = .ok (.getfield 3, 3) := dk_180 0 3 (dk_at dksX7_series_0 2 rfl rfl)
theorem dX7_series_5 : decode cX7_series 5 = .ok (.getfield 96, 3) := dk_180 0 96 (dk_at dksX7_series_0 5 rfl rfl)
theorem dX7_series_8 : decode cX7_series 8 = .ok (.iconst 0, 1) := dk_3 (dk_at dksX7_series_0 8 rfl rfl)
theorem dX7_series_9 : decode cX7_series 9 = .ok (.invokevirtual 100, 3) := dk_182 0 100 (dk_at dksX7_series_0 9 rfl rfl)
theorem dX7_series_12 : decode cX7_series 12 = .ok (.istore_n 1, 1) := dk_60 (dk_at dksX7_series_0 12 rfl rfl)
theorem dX7_series_13 : decode cX7_series 13 = .ok (.iload_n 1, 1) := dk_27 (dk_at dksX7_series_0 13 rfl rfl)
theorem dX7_series_14 : decode cX7_series 14 = .ok (.iconst (-1), 1) := dk_2 (dk_at dksX7_series_0 14 rfl rfl)
theorem dX7_series_15 : decode cX7_series 15 = .ok (.if_icmp .ne 7, 3) := dk_160 0 7 (dk_at dksX7_series_0 15 rfl rfl)
theorem dX7_series_18 : decode cX7_series 18 = .ok (.invokestatic 92, 3) := dk_184 0 92 (dk_at dksX7_series_0 18 rfl rfl)
theorem dX7_series_21 : decode cX7_series 21 = .ok (.areturn, 1) := dk_176 (dk_at dksX7_series_0 21 rfl rfl)
theorem dX7_series_22 : decode cX7_series 22 = .ok (.new 4, 3) := dk_187 0 4 (dk_at dksX7_series_1 0 rfl rfl)
theorem dX7_series_25 : decode cX7_series 25 = .ok (.dup, 1) := dk_89 (dk_at dksX7_series_1 3 rfl rfl)
theorem dX7_series_26 : decode cX7_series 26 = .ok (.aload_n 0, 1) := dk_42 (dk_at dksX7_series_1 4 rfl rfl)
theorem dX7_series_27 : decode cX7_series 27 = .ok (.getfield 3, 3) := dk_180 0 3 (dk_at dksX7_series_1 5 rfl rfl)
theorem dX7_series_30 : decode cX7_series 30 = .ok (.aload_n 0, 1) := dk_42 (dk_at dksX7_series_1 8 rfl rfl)
theorem dX7_series_31 : decode cX7_series 31 = .ok (.getfield 15, 3) := dk_180 0 15 (dk_at dksX7_series_1 9 rfl rfl)
theorem dX7_series_34 : decode cX7_series 34 = .ok (.invokespecial 29, 3) := dk_183 0 29 (dk_at dksX7_series_1 12 rfl rfl)
theorem dX7_series_37 : decode cX7_series 37 = .ok (.astore_n 2, 1) := dk_77 (dk_at dksX7_series_1 15 rfl rfl)
theorem dX7_series_38 : decode cX7_series 38 = .ok (.aload_n 0, 1) := dk_42 (dk_at dksX7_series_1 16 rfl rfl)
theorem dX7_series_39 : decode cX7_series 39 = .ok (.invokevirtual 55, 3) := dk_182 0 55 (dk_at dksX7_series_1 17 rfl rfl)
theorem dX7_series_42 : decode cX7_series 42 = .ok (.astore_n 3, 1) := dk_78 (dk_at dksX7_series_1 20 rfl rfl)
theorem dX7_series_43 : decode cX7_series 43 = .ok (.iconst 0, 1) := dk_3 (dk_at dksX7_series_1 21 rfl rfl)
theorem dX7_series_44 : decode cX7_series 44 = .ok (.istore 4, 2) := dk_54 4 (dk_at dksX7_series_1 22 rfl rfl)
theorem dX7_series_46 : decode cX7_series 46 = .ok (.iload 4, 2) := dk_21 4 (dk_at dksX7_series_2 0 rfl rfl)
theorem dX7_series_48 : decode cX7_series 48 = .ok (.iload_n 1, 1) := dk_27 (dk_at dksX7_series_2 2 rfl rfl)
theorem dX7_series_49 : decode cX7_series 49 = .ok (.if_icmp .ge 54, 3) := dk_162 0 54 (dk_at dksX7_series_2 3 rfl rfl)
theorem dX7_series_52 : decode cX7_series 52 = .ok (.aload_n 2, 1) := dk_44 (dk_at dksX7_series_2 6 rfl rfl)
theorem dX7_series_53 : decode cX7_series 53 = .ok (.aload_n 3, 1) := dk_45 (dk_at dksX7_series_2 7 rfl rfl)
theorem dX7_series_54 : decode cX7_series 54 = .ok (.iconst 1, 1) := dk_4 (dk_at dksX7_series_2 8 rfl rfl)
theorem dX7_series_55 : decode cX7_series 55 = .ok (.invokevirtual 66, 3) := dk_182 0 66 (dk_at dksX7_series_2 9 rfl rfl)
theorem dX7_series_58 : decode cX7_series 58 = .ok (.astore_n 2, 1) := dk_77 (dk_at dksX7_series_2 12 rfl rfl)
theorem dX7_series_59 : decode cX7_series 59 = .ok (.aload_n 3, 1) := dk_45 (dk_at dksX7_series_2 13 rfl rfl)
theorem dX7_series_60 : decode cX7_series 60 = .ok (.aload_n 0, 1) := dk_42 (dk_at dksX7_series_2 14 rfl rfl)
theorem dX7_series_61 : decode cX7_series 61 = .ok (.invokevirtual 59, 3) := dk_182 0 59 (dk_at dksX7_series_2 15 rfl rfl)
theorem dX7_series_64 : decode cX7_series 64 = .ok (.aload_n 0, 1) := dk_42 (dk_at dksX7_series_2 18 rfl rfl)
theorem dX7_series_65 : decode cX7_series 65 = .ok (.getfield 3, 3) := dk_180 0 3 (dk_at dksX7_series_2 19 rfl rfl)
theorem dX7_series_68 : decode cX7_series 68 = .ok (.iload 4, 2) := dk_21 4 (dk_at dksX7_series_2 22 rfl rfl)
theorem dX7_series_70 : decode cX7_series 70 = .ok (.iconst 1, 1) := dk_4 (dk_at dksX7_series_3 0 rfl rfl)
theorem dX7_series_71 : decode cX7_series 71 = .ok (.iadd, 1) := dk_96 (dk_at dksX7_series_3 1 rfl rfl)
theorem dX7_series_72 : decode cX7_series 72 = .ok (.aload_n 0, 1) := dk_42 (dk_at dksX7_series_3 2 rfl rfl)
theorem dX7_series_73 : decode cX7_series 73 = .ok (.getfield 3, 3) := dk_180 0 3 (dk_at dksX7_series_3 3 rfl rfl)
theorem dX7_series_76 : decode cX7_series 76 = .ok (.getfield 96, 3) := dk_180 0 96 (dk_at dksX7_series_3 6 rfl rfl)
theorem dX7_series_79 : decode cX7_series 79 = .ok (.if_icmp .ne 7, 3) := dk_160 0 7 (dk_at dksX7_series_3 9 rfl rfl)
theorem dX7_series_82 : decode cX7_series 82 = .ok (.iconst 1, 1) := dk_4 (dk_at dksX7_series_3 12 rfl rfl)
theorem dX7_series_83 : decode cX7_series 83 = .ok (.goto 7, 3) := dk_167 0 7 (dk_at dksX7_series_3 13 rfl rfl)
theorem dX7_series_86 : decode cX7_series 86 = .ok (.iload 4, 2) := dk_21 4 (dk_at dksX7_series_3 16 rfl rfl)
theorem dX7_series_88 : decode cX7_series 88 = .ok (.iconst 1, 1) := dk_4 (dk_at dksX7_series_3 18 rfl rfl)
theorem dX7_series_89 : decode cX7_series 89 = .ok (.iadd, 1) := dk_96 (dk_at dksX7_series_3 19 rfl rfl)
theorem dX7_series_90 : decode cX7_series 90 = .ok (.invokevirtual 80, 3) := dk_182 0 80 (dk_at dksX7_series_3 20 rfl rfl)
theorem dX7_series_93 : decode cX7_series 93 = .ok (.invokevirtual 83, 3) := dk_182 0 83 (dk_at dksX7_series_4 0 rfl rfl)
theorem dX7_series_96 : decode cX7_series 96 = .ok (.astore_n 3, 1) := dk_78 (dk_at dksX7_series_4 3 rfl rfl)
theorem dX7_series_97 : decode cX7_series 97 = .ok (.iinc 4 1, 3) := dk_132 4 1 (dk_at dksX7_series_4 4 rfl rfl)
theorem dX7_series_100 : decode cX7_series 100 = .ok (.goto (-54), 3) := dk_167 255 202 (dk_at dksX7_series_4 7 rfl rfl)
theorem dX7_series_103 : decode cX7_series 103 = .ok (.aload_n 2, 1) := dk_44 (dk_at dksX7_series_4 10 rfl rfl)
theorem dX7_series_104 : decode cX7_series 104 = .ok (.invokestatic 86, 3) := dk_184 0 86 (dk_at dksX7_series_4 11 rfl rfl)
theorem dX7_series_107 : decode cX7_series 107 = .ok (.areturn, 1) := dk_176 (dk_at dksX7_series_4 14 rfl rfl)
abbrev cX7_killer : ByteArray := prog_4_method_20_code
def yX7_killer : MethodName := ⟨RX7, "killer", "()Ljava/util/Optional;"⟩
def dkwX7_killer_5 : List UInt8 := [184, 0, 92, 176]
abbrev dktX7_killer_5 : List UInt8 := dkwX7_killer_5 ++ []
def dkwX7_killer_4 : List UInt8 := [182, 0, 38, 79, 132, 5, 1, 167, 255, 215, 25, 4, 184, 0, 86, 176, 132, 3, 1, 167, 255, 159]
abbrev dktX7_killer_4 : List UInt8 := dkwX7_killer_4 ++ dktX7_killer_5
def dkwX7_killer_3 : List UInt8 := [159, 0, 27, 25, 4, 180, 0, 25, 21, 5, 42, 180, 0, 3, 43, 44, 21, 5, 46, 50, 29, 46, 116]
abbrev dktX7_killer_3 : List UInt8 := dkwX7_killer_3 ++ dktX7_killer_4
def dkwX7_killer_2 : List UInt8 := [25, 4, 180, 0, 25, 29, 4, 79, 3, 54, 5, 21, 5, 29, 162, 0, 41, 44, 21, 5, 46, 2]
abbrev dktX7_killer_2 : List UInt8 := dkwX7_killer_2 ++ dktX7_killer_3
def dkwX7_killer_1 : List UInt8 := [159, 0, 6, 167, 0, 81, 187, 0, 4, 89, 42, 180, 0, 3, 42, 180, 0, 15, 183, 0, 29, 58, 4]
abbrev dktX7_killer_1 : List UInt8 := dkwX7_killer_1 ++ dktX7_killer_2
def dkwX7_killer_0 : List UInt8 := [42, 4, 182, 0, 105, 76, 42, 43, 182, 0, 109, 77, 3, 62, 29, 44, 190, 162, 0, 97, 44, 29, 46, 2]
abbrev dktX7_killer_0 : List UInt8 := dkwX7_killer_0 ++ dktX7_killer_1
theorem dksX7_killer_0 : cX7_killer.data.toList.drop 0 = dktX7_killer_0 := by decide +kernel
theorem dksX7_killer_1 : cX7_killer.data.toList.drop 24 = dktX7_killer_1 := dk_seg dksX7_killer_0 24 rfl rfl
theorem dksX7_killer_2 : cX7_killer.data.toList.drop 47 = dktX7_killer_2 := dk_seg dksX7_killer_1 23 rfl rfl
theorem dksX7_killer_3 : cX7_killer.data.toList.drop 69 = dktX7_killer_3 := dk_seg dksX7_killer_2 22 rfl rfl
theorem dksX7_killer_4 : cX7_killer.data.toList.drop 92 = dktX7_killer_4 := dk_seg dksX7_killer_3 23 rfl rfl
theorem dksX7_killer_5 : cX7_killer.data.toList.drop 114 = dktX7_killer_5 := dk_seg dksX7_killer_4 22 rfl rfl
theorem dX7_killer_0 : decode cX7_killer 0 = .ok (.aload_n 0, 1) := dk_42 (dk_at dksX7_killer_0 0 rfl rfl)
theorem dX7_killer_1 : decode cX7_killer 1 = .ok (.iconst 1, 1) := dk_4 (dk_at dksX7_killer_0 1 rfl rfl)
theorem dX7_killer_2 : decode cX7_killer 2 = .ok (.invokevirtual 105, 3) := dk_182 0 105 (dk_at dksX7_killer_0 2 rfl rfl)
theorem dX7_killer_5 : decode cX7_killer 5 = .ok (.astore_n 1, 1) := dk_76 (dk_at dksX7_killer_0 5 rfl rfl)
theorem dX7_killer_6 : decode cX7_killer 6 = .ok (.aload_n 0, 1) := dk_42 (dk_at dksX7_killer_0 6 rfl rfl)
theorem dX7_killer_7 : decode cX7_killer 7 = .ok (.aload_n 1, 1) := dk_43 (dk_at dksX7_killer_0 7 rfl rfl)
theorem dX7_killer_8 : decode cX7_killer 8 = .ok (.invokevirtual 109, 3) := dk_182 0 109 (dk_at dksX7_killer_0 8 rfl rfl)
theorem dX7_killer_11 : decode cX7_killer 11 = .ok (.astore_n 2, 1) := dk_77 (dk_at dksX7_killer_0 11 rfl rfl)
theorem dX7_killer_12 : decode cX7_killer 12 = .ok (.iconst 0, 1) := dk_3 (dk_at dksX7_killer_0 12 rfl rfl)
theorem dX7_killer_13 : decode cX7_killer 13 = .ok (.istore_n 3, 1) := dk_62 (dk_at dksX7_killer_0 13 rfl rfl)
theorem dX7_killer_14 : decode cX7_killer 14 = .ok (.iload_n 3, 1) := dk_29 (dk_at dksX7_killer_0 14 rfl rfl)
theorem dX7_killer_15 : decode cX7_killer 15 = .ok (.aload_n 2, 1) := dk_44 (dk_at dksX7_killer_0 15 rfl rfl)
theorem dX7_killer_16 : decode cX7_killer 16 = .ok (.arraylength, 1) := dk_190 (dk_at dksX7_killer_0 16 rfl rfl)
theorem dX7_killer_17 : decode cX7_killer 17 = .ok (.if_icmp .ge 97, 3) := dk_162 0 97 (dk_at dksX7_killer_0 17 rfl rfl)
theorem dX7_killer_20 : decode cX7_killer 20 = .ok (.aload_n 2, 1) := dk_44 (dk_at dksX7_killer_0 20 rfl rfl)
theorem dX7_killer_21 : decode cX7_killer 21 = .ok (.iload_n 3, 1) := dk_29 (dk_at dksX7_killer_0 21 rfl rfl)
theorem dX7_killer_22 : decode cX7_killer 22 = .ok (.iaload, 1) := dk_46 (dk_at dksX7_killer_0 22 rfl rfl)
theorem dX7_killer_23 : decode cX7_killer 23 = .ok (.iconst (-1), 1) := dk_2 (dk_at dksX7_killer_0 23 rfl rfl)
theorem dX7_killer_24 : decode cX7_killer 24 = .ok (.if_icmp .eq 6, 3) := dk_159 0 6 (dk_at dksX7_killer_1 0 rfl rfl)
theorem dX7_killer_27 : decode cX7_killer 27 = .ok (.goto 81, 3) := dk_167 0 81 (dk_at dksX7_killer_1 3 rfl rfl)
theorem dX7_killer_30 : decode cX7_killer 30 = .ok (.new 4, 3) := dk_187 0 4 (dk_at dksX7_killer_1 6 rfl rfl)
theorem dX7_killer_33 : decode cX7_killer 33 = .ok (.dup, 1) := dk_89 (dk_at dksX7_killer_1 9 rfl rfl)
theorem dX7_killer_34 : decode cX7_killer 34 = .ok (.aload_n 0, 1) := dk_42 (dk_at dksX7_killer_1 10 rfl rfl)
theorem dX7_killer_35 : decode cX7_killer 35 = .ok (.getfield 3, 3) := dk_180 0 3 (dk_at dksX7_killer_1 11 rfl rfl)
theorem dX7_killer_38 : decode cX7_killer 38 = .ok (.aload_n 0, 1) := dk_42 (dk_at dksX7_killer_1 14 rfl rfl)
theorem dX7_killer_39 : decode cX7_killer 39 = .ok (.getfield 15, 3) := dk_180 0 15 (dk_at dksX7_killer_1 15 rfl rfl)
theorem dX7_killer_42 : decode cX7_killer 42 = .ok (.invokespecial 29, 3) := dk_183 0 29 (dk_at dksX7_killer_1 18 rfl rfl)
theorem dX7_killer_45 : decode cX7_killer 45 = .ok (.astore 4, 2) := dk_58 4 (dk_at dksX7_killer_1 21 rfl rfl)
theorem dX7_killer_47 : decode cX7_killer 47 = .ok (.aload 4, 2) := dk_25 4 (dk_at dksX7_killer_2 0 rfl rfl)
theorem dX7_killer_49 : decode cX7_killer 49 = .ok (.getfield 25, 3) := dk_180 0 25 (dk_at dksX7_killer_2 2 rfl rfl)
theorem dX7_killer_52 : decode cX7_killer 52 = .ok (.iload_n 3, 1) := dk_29 (dk_at dksX7_killer_2 5 rfl rfl)
theorem dX7_killer_53 : decode cX7_killer 53 = .ok (.iconst 1, 1) := dk_4 (dk_at dksX7_killer_2 6 rfl rfl)
theorem dX7_killer_54 : decode cX7_killer 54 = .ok (.iastore, 1) := dk_79 (dk_at dksX7_killer_2 7 rfl rfl)
theorem dX7_killer_55 : decode cX7_killer 55 = .ok (.iconst 0, 1) := dk_3 (dk_at dksX7_killer_2 8 rfl rfl)
theorem dX7_killer_56 : decode cX7_killer 56 = .ok (.istore 5, 2) := dk_54 5 (dk_at dksX7_killer_2 9 rfl rfl)
theorem dX7_killer_58 : decode cX7_killer 58 = .ok (.iload 5, 2) := dk_21 5 (dk_at dksX7_killer_2 11 rfl rfl)
theorem dX7_killer_60 : decode cX7_killer 60 = .ok (.iload_n 3, 1) := dk_29 (dk_at dksX7_killer_2 13 rfl rfl)
theorem dX7_killer_61 : decode cX7_killer 61 = .ok (.if_icmp .ge 41, 3) := dk_162 0 41 (dk_at dksX7_killer_2 14 rfl rfl)
theorem dX7_killer_64 : decode cX7_killer 64 = .ok (.aload_n 2, 1) := dk_44 (dk_at dksX7_killer_2 17 rfl rfl)
theorem dX7_killer_65 : decode cX7_killer 65 = .ok (.iload 5, 2) := dk_21 5 (dk_at dksX7_killer_2 18 rfl rfl)
theorem dX7_killer_67 : decode cX7_killer 67 = .ok (.iaload, 1) := dk_46 (dk_at dksX7_killer_2 20 rfl rfl)
theorem dX7_killer_68 : decode cX7_killer 68 = .ok (.iconst (-1), 1) := dk_2 (dk_at dksX7_killer_2 21 rfl rfl)
theorem dX7_killer_69 : decode cX7_killer 69 = .ok (.if_icmp .eq 27, 3) := dk_159 0 27 (dk_at dksX7_killer_3 0 rfl rfl)
theorem dX7_killer_72 : decode cX7_killer 72 = .ok (.aload 4, 2) := dk_25 4 (dk_at dksX7_killer_3 3 rfl rfl)
theorem dX7_killer_74 : decode cX7_killer 74 = .ok (.getfield 25, 3) := dk_180 0 25 (dk_at dksX7_killer_3 5 rfl rfl)
theorem dX7_killer_77 : decode cX7_killer 77 = .ok (.iload 5, 2) := dk_21 5 (dk_at dksX7_killer_3 8 rfl rfl)
theorem dX7_killer_79 : decode cX7_killer 79 = .ok (.aload_n 0, 1) := dk_42 (dk_at dksX7_killer_3 10 rfl rfl)
theorem dX7_killer_80 : decode cX7_killer 80 = .ok (.getfield 3, 3) := dk_180 0 3 (dk_at dksX7_killer_3 11 rfl rfl)
theorem dX7_killer_83 : decode cX7_killer 83 = .ok (.aload_n 1, 1) := dk_43 (dk_at dksX7_killer_3 14 rfl rfl)
theorem dX7_killer_84 : decode cX7_killer 84 = .ok (.aload_n 2, 1) := dk_44 (dk_at dksX7_killer_3 15 rfl rfl)
theorem dX7_killer_85 : decode cX7_killer 85 = .ok (.iload 5, 2) := dk_21 5 (dk_at dksX7_killer_3 16 rfl rfl)
theorem dX7_killer_87 : decode cX7_killer 87 = .ok (.iaload, 1) := dk_46 (dk_at dksX7_killer_3 18 rfl rfl)
theorem dX7_killer_88 : decode cX7_killer 88 = .ok (.aaload, 1) := dk_50 (dk_at dksX7_killer_3 19 rfl rfl)
theorem dX7_killer_89 : decode cX7_killer 89 = .ok (.iload_n 3, 1) := dk_29 (dk_at dksX7_killer_3 20 rfl rfl)
theorem dX7_killer_90 : decode cX7_killer 90 = .ok (.iaload, 1) := dk_46 (dk_at dksX7_killer_3 21 rfl rfl)
theorem dX7_killer_91 : decode cX7_killer 91 = .ok (.ineg, 1) := dk_116 (dk_at dksX7_killer_3 22 rfl rfl)
theorem dX7_killer_92 : decode cX7_killer 92 = .ok (.invokevirtual 38, 3) := dk_182 0 38 (dk_at dksX7_killer_4 0 rfl rfl)
theorem dX7_killer_95 : decode cX7_killer 95 = .ok (.iastore, 1) := dk_79 (dk_at dksX7_killer_4 3 rfl rfl)
theorem dX7_killer_96 : decode cX7_killer 96 = .ok (.iinc 5 1, 3) := dk_132 5 1 (dk_at dksX7_killer_4 4 rfl rfl)
theorem dX7_killer_99 : decode cX7_killer 99 = .ok (.goto (-41), 3) := dk_167 255 215 (dk_at dksX7_killer_4 7 rfl rfl)
theorem dX7_killer_102 : decode cX7_killer 102 = .ok (.aload 4, 2) := dk_25 4 (dk_at dksX7_killer_4 10 rfl rfl)
theorem dX7_killer_104 : decode cX7_killer 104 = .ok (.invokestatic 86, 3) := dk_184 0 86 (dk_at dksX7_killer_4 12 rfl rfl)
theorem dX7_killer_107 : decode cX7_killer 107 = .ok (.areturn, 1) := dk_176 (dk_at dksX7_killer_4 15 rfl rfl)
theorem dX7_killer_108 : decode cX7_killer 108 = .ok (.iinc 3 1, 3) := dk_132 3 1 (dk_at dksX7_killer_4 16 rfl rfl)
theorem dX7_killer_111 : decode cX7_killer 111 = .ok (.goto (-97), 3) := dk_167 255 159 (dk_at dksX7_killer_4 19 rfl rfl)
theorem dX7_killer_114 : decode cX7_killer 114 = .ok (.invokestatic 92, 3) := dk_184 0 92 (dk_at dksX7_killer_5 0 rfl rfl)
theorem dX7_killer_117 : decode cX7_killer 117 = .ok (.areturn, 1) := dk_176 (dk_at dksX7_killer_5 3 rfl rfl)
abbrev cX7_last : ByteArray := prog_4_method_21_code
def yX7_last : MethodName := ⟨RX7, "last", "()I"⟩
def dkwX7_last_1 : List UInt8 := [132, 2, 1, 167, 255, 233, 27, 172]
abbrev dktX7_last_1 : List UInt8 := dkwX7_last_1 ++ []
def dkwX7_last_0 : List UInt8 := [2, 60, 3, 61, 28, 42, 180, 0, 25, 190, 162, 0, 20, 42, 180, 0, 25, 28, 46, 153, 0, 5, 28, 60]
abbrev dktX7_last_0 : List UInt8 := dkwX7_last_0 ++ dktX7_last_1
theorem dksX7_last_0 : cX7_last.data.toList.drop 0 = dktX7_last_0 := by decide +kernel
theorem dksX7_last_1 : cX7_last.data.toList.drop 24 = dktX7_last_1 := dk_seg dksX7_last_0 24 rfl rfl
theorem dX7_last_0 : decode cX7_last 0 = .ok (.iconst (-1), 1) := dk_2 (dk_at dksX7_last_0 0 rfl rfl)
theorem dX7_last_1 : decode cX7_last 1 = .ok (.istore_n 1, 1) := dk_60 (dk_at dksX7_last_0 1 rfl rfl)
theorem dX7_last_2 : decode cX7_last 2 = .ok (.iconst 0, 1) := dk_3 (dk_at dksX7_last_0 2 rfl rfl)
theorem dX7_last_3 : decode cX7_last 3 = .ok (.istore_n 2, 1) := dk_61 (dk_at dksX7_last_0 3 rfl rfl)
theorem dX7_last_4 : decode cX7_last 4 = .ok (.iload_n 2, 1) := dk_28 (dk_at dksX7_last_0 4 rfl rfl)
theorem dX7_last_5 : decode cX7_last 5 = .ok (.aload_n 0, 1) := dk_42 (dk_at dksX7_last_0 5 rfl rfl)
theorem dX7_last_6 : decode cX7_last 6 = .ok (.getfield 25, 3) := dk_180 0 25 (dk_at dksX7_last_0 6 rfl rfl)
theorem dX7_last_9 : decode cX7_last 9 = .ok (.arraylength, 1) := dk_190 (dk_at dksX7_last_0 9 rfl rfl)
theorem dX7_last_10 : decode cX7_last 10 = .ok (.if_icmp .ge 20, 3) := dk_162 0 20 (dk_at dksX7_last_0 10 rfl rfl)
theorem dX7_last_13 : decode cX7_last 13 = .ok (.aload_n 0, 1) := dk_42 (dk_at dksX7_last_0 13 rfl rfl)
theorem dX7_last_14 : decode cX7_last 14 = .ok (.getfield 25, 3) := dk_180 0 25 (dk_at dksX7_last_0 14 rfl rfl)
theorem dX7_last_17 : decode cX7_last 17 = .ok (.iload_n 2, 1) := dk_28 (dk_at dksX7_last_0 17 rfl rfl)
theorem dX7_last_18 : decode cX7_last 18 = .ok (.iaload, 1) := dk_46 (dk_at dksX7_last_0 18 rfl rfl)
theorem dX7_last_19 : decode cX7_last 19 = .ok (.ifCond .eq 5, 3) := dk_153 0 5 (dk_at dksX7_last_0 19 rfl rfl)
theorem dX7_last_22 : decode cX7_last 22 = .ok (.iload_n 2, 1) := dk_28 (dk_at dksX7_last_0 22 rfl rfl)
theorem dX7_last_23 : decode cX7_last 23 = .ok (.istore_n 1, 1) := dk_60 (dk_at dksX7_last_0 23 rfl rfl)
theorem dX7_last_24 : decode cX7_last 24 = .ok (.iinc 2 1, 3) := dk_132 2 1 (dk_at dksX7_last_1 0 rfl rfl)
theorem dX7_last_27 : decode cX7_last 27 = .ok (.goto (-23), 3) := dk_167 255 233 (dk_at dksX7_last_1 3 rfl rfl)
theorem dX7_last_30 : decode cX7_last 30 = .ok (.iload_n 1, 1) := dk_27 (dk_at dksX7_last_1 6 rfl rfl)
theorem dX7_last_31 : decode cX7_last 31 = .ok (.ireturn, 1) := dk_172 (dk_at dksX7_last_1 7 rfl rfl)
abbrev cX7_copy : ByteArray := prog_4_method_2_code
def yX7_copy : MethodName := ⟨RX7, "copy", "()LVersorhall$Element;"⟩
def dkwX7_copy_1 : List UInt8 := [180, 0, 25, 3, 42, 180, 0, 25, 190, 184, 0, 32, 43, 176]
abbrev dktX7_copy_1 : List UInt8 := dkwX7_copy_1 ++ []
def dkwX7_copy_0 : List UInt8 := [187, 0, 4, 89, 42, 180, 0, 3, 42, 180, 0, 15, 183, 0, 29, 76, 42, 180, 0, 25, 3, 43]
abbrev dktX7_copy_0 : List UInt8 := dkwX7_copy_0 ++ dktX7_copy_1
theorem dksX7_copy_0 : cX7_copy.data.toList.drop 0 = dktX7_copy_0 := by decide +kernel
theorem dksX7_copy_1 : cX7_copy.data.toList.drop 22 = dktX7_copy_1 := dk_seg dksX7_copy_0 22 rfl rfl
theorem dX7_copy_0 : decode cX7_copy 0 = .ok (.new 4, 3) := dk_187 0 4 (dk_at dksX7_copy_0 0 rfl rfl)
theorem dX7_copy_3 : decode cX7_copy 3 = .ok (.dup, 1) := dk_89 (dk_at dksX7_copy_0 3 rfl rfl)
theorem dX7_copy_4 : decode cX7_copy 4 = .ok (.aload_n 0, 1) := dk_42 (dk_at dksX7_copy_0 4 rfl rfl)
theorem dX7_copy_5 : decode cX7_copy 5 = .ok (.getfield 3, 3) := dk_180 0 3 (dk_at dksX7_copy_0 5 rfl rfl)
theorem dX7_copy_8 : decode cX7_copy 8 = .ok (.aload_n 0, 1) := dk_42 (dk_at dksX7_copy_0 8 rfl rfl)
theorem dX7_copy_9 : decode cX7_copy 9 = .ok (.getfield 15, 3) := dk_180 0 15 (dk_at dksX7_copy_0 9 rfl rfl)
theorem dX7_copy_12 : decode cX7_copy 12 = .ok (.invokespecial 29, 3) := dk_183 0 29 (dk_at dksX7_copy_0 12 rfl rfl)
theorem dX7_copy_15 : decode cX7_copy 15 = .ok (.astore_n 1, 1) := dk_76 (dk_at dksX7_copy_0 15 rfl rfl)
theorem dX7_copy_16 : decode cX7_copy 16 = .ok (.aload_n 0, 1) := dk_42 (dk_at dksX7_copy_0 16 rfl rfl)
theorem dX7_copy_17 : decode cX7_copy 17 = .ok (.getfield 25, 3) := dk_180 0 25 (dk_at dksX7_copy_0 17 rfl rfl)
theorem dX7_copy_20 : decode cX7_copy 20 = .ok (.iconst 0, 1) := dk_3 (dk_at dksX7_copy_0 20 rfl rfl)
theorem dX7_copy_21 : decode cX7_copy 21 = .ok (.aload_n 1, 1) := dk_43 (dk_at dksX7_copy_0 21 rfl rfl)
theorem dX7_copy_22 : decode cX7_copy 22 = .ok (.getfield 25, 3) := dk_180 0 25 (dk_at dksX7_copy_1 0 rfl rfl)
theorem dX7_copy_25 : decode cX7_copy 25 = .ok (.iconst 0, 1) := dk_3 (dk_at dksX7_copy_1 3 rfl rfl)
theorem dX7_copy_26 : decode cX7_copy 26 = .ok (.aload_n 0, 1) := dk_42 (dk_at dksX7_copy_1 4 rfl rfl)
theorem dX7_copy_27 : decode cX7_copy 27 = .ok (.getfield 25, 3) := dk_180 0 25 (dk_at dksX7_copy_1 5 rfl rfl)
theorem dX7_copy_30 : decode cX7_copy 30 = .ok (.arraylength, 1) := dk_190 (dk_at dksX7_copy_1 8 rfl rfl)
theorem dX7_copy_31 : decode cX7_copy 31 = .ok (.invokestatic 32, 3) := dk_184 0 32 (dk_at dksX7_copy_1 9 rfl rfl)
theorem dX7_copy_34 : decode cX7_copy 34 = .ok (.aload_n 1, 1) := dk_43 (dk_at dksX7_copy_1 12 rfl rfl)
theorem dX7_copy_35 : decode cX7_copy 35 = .ok (.areturn, 1) := dk_176 (dk_at dksX7_copy_1 13 rfl rfl)
abbrev cX7_mirrored : ByteArray := prog_4_method_23_code
def yX7_mirrored : MethodName := ⟨RX7, "mirrored", "(LVersorhall$Element;)LVersorhall$Element;"⟩
def dkwX7_mirrored_1 : List UInt8 := [176]
abbrev dktX7_mirrored_1 : List UInt8 := dkwX7_mirrored_1 ++ []
def dkwX7_mirrored_0 : List UInt8 := [42, 43, 182, 0, 59, 42, 182, 0, 59, 42, 180, 0, 3, 42, 182, 0, 121, 182, 0, 80, 116, 182, 0, 83]
abbrev dktX7_mirrored_0 : List UInt8 := dkwX7_mirrored_0 ++ dktX7_mirrored_1
theorem dksX7_mirrored_0 : cX7_mirrored.data.toList.drop 0 = dktX7_mirrored_0 := by decide +kernel
theorem dksX7_mirrored_1 : cX7_mirrored.data.toList.drop 24 = dktX7_mirrored_1 := dk_seg dksX7_mirrored_0 24 rfl rfl
theorem dX7_mirrored_0 : decode cX7_mirrored 0 = .ok (.aload_n 0, 1) := dk_42 (dk_at dksX7_mirrored_0 0 rfl rfl)
theorem dX7_mirrored_1 : decode cX7_mirrored 1 = .ok (.aload_n 1, 1) := dk_43 (dk_at dksX7_mirrored_0 1 rfl rfl)
theorem dX7_mirrored_2 : decode cX7_mirrored 2 = .ok (.invokevirtual 59, 3) := dk_182 0 59 (dk_at dksX7_mirrored_0 2 rfl rfl)
theorem dX7_mirrored_5 : decode cX7_mirrored 5 = .ok (.aload_n 0, 1) := dk_42 (dk_at dksX7_mirrored_0 5 rfl rfl)
theorem dX7_mirrored_6 : decode cX7_mirrored 6 = .ok (.invokevirtual 59, 3) := dk_182 0 59 (dk_at dksX7_mirrored_0 6 rfl rfl)
theorem dX7_mirrored_9 : decode cX7_mirrored 9 = .ok (.aload_n 0, 1) := dk_42 (dk_at dksX7_mirrored_0 9 rfl rfl)
theorem dX7_mirrored_10 : decode cX7_mirrored 10 = .ok (.getfield 3, 3) := dk_180 0 3 (dk_at dksX7_mirrored_0 10 rfl rfl)
theorem dX7_mirrored_13 : decode cX7_mirrored 13 = .ok (.aload_n 0, 1) := dk_42 (dk_at dksX7_mirrored_0 13 rfl rfl)
theorem dX7_mirrored_14 : decode cX7_mirrored 14 = .ok (.invokevirtual 121, 3) := dk_182 0 121 (dk_at dksX7_mirrored_0 14 rfl rfl)
theorem dX7_mirrored_17 : decode cX7_mirrored 17 = .ok (.invokevirtual 80, 3) := dk_182 0 80 (dk_at dksX7_mirrored_0 17 rfl rfl)
theorem dX7_mirrored_20 : decode cX7_mirrored 20 = .ok (.ineg, 1) := dk_116 (dk_at dksX7_mirrored_0 20 rfl rfl)
theorem dX7_mirrored_21 : decode cX7_mirrored 21 = .ok (.invokevirtual 83, 3) := dk_182 0 83 (dk_at dksX7_mirrored_0 21 rfl rfl)
theorem dX7_mirrored_24 : decode cX7_mirrored 24 = .ok (.areturn, 1) := dk_176 (dk_at dksX7_mirrored_1 0 rfl rfl)
theorem q92 : (Jvm.Cond.initialized "Versorhall$Element") ∈ lw_all := lw_g (lw_at lw_m1 31 rfl) rfl
theorem q151 : (Jvm.Cond.fieldLinkNest "Versorhall$Element" (96 : Nat) "Versorhall" "prime" "I" "Versorhall") ∈ lw_tbl := lw_at lw_m1 90 rfl
theorem q222 : (Jvm.Cond.instanceMethod ({ cls := "Versorhall$Element", name := "size", desc := "()I" } : Jvm.MethodName)) ∈ lw_all := lw_g (lw_at lw_m1 161 rfl) rfl
theorem q223 : (Jvm.Cond.selects "Versorhall$Element" ({ cls := "Versorhall$Element", name := "size", desc := "()I" } : Jvm.MethodName) ({ cls := "Versorhall$Element", name := "size", desc := "()I" } : Jvm.MethodName)) ∈ lw_all := lw_g (lw_at lw_m1 162 rfl) rfl
theorem q224 : (Jvm.Cond.code ({ cls := "Versorhall$Element", name := "size", desc := "()I" } : Jvm.MethodName) prog_4_method_9_code (6 : Nat) (Option.some Jvm.ClassFile.FieldType.int)) ∈ lw_all := lw_g (lw_at lw_m1 163 rfl) rfl
theorem q242 : (Jvm.Cond.instanceMethod ({ cls := "Versorhall$Element", name := "lean", desc := "()F" } : Jvm.MethodName)) ∈ lw_all := lw_g (lw_at lw_m1 181 rfl) rfl
theorem q243 : (Jvm.Cond.selects "Versorhall$Element" ({ cls := "Versorhall$Element", name := "lean", desc := "()F" } : Jvm.MethodName) ({ cls := "Versorhall$Element", name := "lean", desc := "()F" } : Jvm.MethodName)) ∈ lw_all := lw_g (lw_at lw_m1 182 rfl) rfl
theorem q244 : (Jvm.Cond.code ({ cls := "Versorhall$Element", name := "lean", desc := "()F" } : Jvm.MethodName) prog_4_method_24_code (3 : Nat) (Option.some Jvm.ClassFile.FieldType.float)) ∈ lw_all := lw_g (lw_at lw_m1 183 rfl) rfl
theorem q245 : (Jvm.Cond.methodLinkNest "Versorhall$Element" (124 : Nat) ({ cls := "Versorhall", name := "signed", desc := "(I)I" } : Jvm.MethodName) "Versorhall") ∈ lw_tbl := lw_at lw_m1 184 rfl
theorem q249 : (Jvm.Cond.superclass "Versorhall$Element" "java/lang/Object") ∈ lw_all := lw_g (lw_at lw_m1 188 rfl) rfl
theorem q251 : (Jvm.Cond.unhidden "Versorhall$Element" "quarter" "(I)F") ∈ lw_tbl := lw_at lw_m1 190 rfl
theorem q256 : (Jvm.Cond.constantFloat "Versorhall$Element" (131 : Nat) (1090519040 : UInt32)) ∈ lw_all := lw_g (lw_at lw_m1 195 rfl) rfl
theorem q257 : (Jvm.Cond.methodLink "Versorhall$Element" (77 : Nat) ({ cls := "Versorhall$Element", name := "isPlain", desc := "()Z" } : Jvm.MethodName)) ∈ lw_all := lw_g (lw_at lw_m1 196 rfl) rfl
theorem q258 : (Jvm.Cond.instanceMethod ({ cls := "Versorhall$Element", name := "isPlain", desc := "()Z" } : Jvm.MethodName)) ∈ lw_all := lw_g (lw_at lw_m1 197 rfl) rfl
theorem q259 : (Jvm.Cond.selects "Versorhall$Element" ({ cls := "Versorhall$Element", name := "isPlain", desc := "()Z" } : Jvm.MethodName) ({ cls := "Versorhall$Element", name := "isPlain", desc := "()Z" } : Jvm.MethodName)) ∈ lw_all := lw_g (lw_at lw_m1 198 rfl) rfl
theorem q260 : (Jvm.Cond.code ({ cls := "Versorhall$Element", name := "isPlain", desc := "()Z" } : Jvm.MethodName) prog_4_method_11_code (1 : Nat) (Option.some Jvm.ClassFile.FieldType.boolean)) ∈ lw_all := lw_g (lw_at lw_m1 199 rfl) rfl
theorem q261 : (Jvm.Cond.methodLink "Versorhall$Element" (63 : Nat) ({ cls := "Versorhall$Element", name := "size", desc := "()I" } : Jvm.MethodName)) ∈ lw_all := lw_g (lw_at lw_m1 200 rfl) rfl
theorem q308 : (Jvm.Cond.instanceMethod ({ cls := "Versorhall$Element", name := "norm", desc := "()I" } : Jvm.MethodName)) ∈ lw_all := lw_g (lw_at lw_m2 7 rfl) rfl
theorem q309 : (Jvm.Cond.selects "Versorhall$Element" ({ cls := "Versorhall$Element", name := "norm", desc := "()I" } : Jvm.MethodName) ({ cls := "Versorhall$Element", name := "norm", desc := "()I" } : Jvm.MethodName)) ∈ lw_all := lw_g (lw_at lw_m2 8 rfl) rfl
theorem q310 : (Jvm.Cond.code ({ cls := "Versorhall$Element", name := "norm", desc := "()I" } : Jvm.MethodName) prog_4_method_13_code (1 : Nat) (Option.some Jvm.ClassFile.FieldType.int)) ∈ lw_all := lw_g (lw_at lw_m2 9 rfl) rfl
theorem q311 : (Jvm.Cond.methodLink "Versorhall$Element" (74 : Nat) ({ cls := "Versorhall$Element", name := "conjugate", desc := "()LVersorhall$Element;" } : Jvm.MethodName)) ∈ lw_all := lw_g (lw_at lw_m2 10 rfl) rfl
theorem q312 : (Jvm.Cond.instanceMethod ({ cls := "Versorhall$Element", name := "conjugate", desc := "()LVersorhall$Element;" } : Jvm.MethodName)) ∈ lw_all := lw_g (lw_at lw_m2 11 rfl) rfl
theorem q313 : (Jvm.Cond.selects "Versorhall$Element" ({ cls := "Versorhall$Element", name := "conjugate", desc := "()LVersorhall$Element;" } : Jvm.MethodName) ({ cls := "Versorhall$Element", name := "conjugate", desc := "()LVersorhall$Element;" } : Jvm.MethodName)) ∈ lw_all := lw_g (lw_at lw_m2 12 rfl) rfl
theorem q314 : (Jvm.Cond.code ({ cls := "Versorhall$Element", name := "conjugate", desc := "()LVersorhall$Element;" } : Jvm.MethodName) prog_4_method_7_code (3 : Nat) (Option.some (Jvm.ClassFile.FieldType.object "Versorhall$Element"))) ∈ lw_all := lw_g (lw_at lw_m2 13 rfl) rfl
theorem q315 : (Jvm.Cond.classLink "Versorhall$Element" (4 : Nat) "Versorhall$Element") ∈ lw_all := lw_g (lw_at lw_m2 14 rfl) rfl
theorem q316 : (Jvm.Cond.instantiable "Versorhall$Element" (3 : Nat)) ∈ lw_all := lw_g (lw_at lw_m2 15 rfl) rfl
theorem q317 : (Jvm.Cond.methodLink "Versorhall$Element" (29 : Nat) ({ cls := "Versorhall$Element", name := "<init>", desc := "(LVersorhall;LVersorhall$Algebra;)V" } : Jvm.MethodName)) ∈ lw_all := lw_g (lw_at lw_m2 16 rfl) rfl
theorem q318 : (Jvm.Cond.instanceMethod ({ cls := "Versorhall$Element", name := "<init>", desc := "(LVersorhall;LVersorhall$Algebra;)V" } : Jvm.MethodName)) ∈ lw_all := lw_g (lw_at lw_m2 17 rfl) rfl
theorem q319 : (Jvm.Cond.code ({ cls := "Versorhall$Element", name := "<init>", desc := "(LVersorhall;LVersorhall$Algebra;)V" } : Jvm.MethodName) prog_4_method_1_code (3 : Nat) (Option.none : Option Jvm.ClassFile.FieldType)) ∈ lw_all := lw_g (lw_at lw_m2 18 rfl) rfl
theorem q320 : (Jvm.Cond.methodLink "Versorhall$Element" (9 : Nat) ({ cls := "java/lang/Object", name := "<init>", desc := "()V" } : Jvm.MethodName)) ∈ lw_all := lw_g (lw_at lw_m2 19 rfl) rfl
theorem q321 : (Jvm.Cond.methodLink "Versorhall$Element" (19 : Nat) ({ cls := "Versorhall$Algebra", name := "units", desc := "()I" } : Jvm.MethodName)) ∈ lw_all := lw_g (lw_at lw_m2 20 rfl) rfl
theorem q322 : (Jvm.Cond.fieldLink "Versorhall$Element" (15 : Nat) "Versorhall$Element" "algebra" "LVersorhall$Algebra;") ∈ lw_all := lw_g (lw_at lw_m2 21 rfl) rfl
theorem q324 : (Jvm.Cond.fieldLink "Versorhall$Element" (25 : Nat) "Versorhall$Element" "numbers" "[I") ∈ lw_all := lw_g (lw_at lw_m2 23 rfl) rfl
theorem q326 : (Jvm.Cond.fieldLink "Versorhall$Element" (3 : Nat) "Versorhall$Element" "this$0" "LVersorhall;") ∈ lw_all := lw_g (lw_at lw_m2 25 rfl) rfl
theorem q327 : (Jvm.Cond.laysFinal "Versorhall$Element" "Versorhall$Element" "algebra" "LVersorhall$Algebra;") ∈ lw_all := lw_g (lw_at lw_m2 26 rfl) rfl
theorem q328 : (Jvm.Cond.soleField "Versorhall$Element" "algebra") ∈ lw_all := lw_g (lw_at lw_m2 27 rfl) rfl
theorem q329 : (Jvm.Cond.lays "Versorhall$Element" "Versorhall$Element" "numbers" "[I") ∈ lw_all := lw_g (lw_at lw_m2 28 rfl) rfl
theorem q330 : (Jvm.Cond.soleField "Versorhall$Element" "numbers") ∈ lw_all := lw_g (lw_at lw_m2 29 rfl) rfl
theorem q331 : (Jvm.Cond.laysFinal "Versorhall$Element" "Versorhall$Element" "this$0" "LVersorhall;") ∈ lw_all := lw_g (lw_at lw_m2 30 rfl) rfl
theorem q332 : (Jvm.Cond.soleField "Versorhall$Element" "this$0") ∈ lw_all := lw_g (lw_at lw_m2 31 rfl) rfl
theorem q334 : (Jvm.Cond.methodLink "Versorhall$Element" (50 : Nat) ({ cls := "Versorhall$Kind", name := "turned", desc := "(I)I" } : Jvm.MethodName)) ∈ lw_all := lw_g (lw_at lw_m2 33 rfl) rfl
theorem q352 : (Jvm.Cond.methodLinkNest "Versorhall$Element" (38 : Nat) ({ cls := "Versorhall", name := "mod", desc := "(I)I" } : Jvm.MethodName) "Versorhall") ∈ lw_tbl := lw_at lw_m2 51 rfl
theorem q359 : (Jvm.Cond.methodLink "Versorhall$Element" (59 : Nat) ({ cls := "Versorhall$Element", name := "times", desc := "(LVersorhall$Element;)LVersorhall$Element;" } : Jvm.MethodName)) ∈ lw_all := lw_g (lw_at lw_m2 58 rfl) rfl
theorem q360 : (Jvm.Cond.instanceMethod ({ cls := "Versorhall$Element", name := "times", desc := "(LVersorhall$Element;)LVersorhall$Element;" } : Jvm.MethodName)) ∈ lw_all := lw_g (lw_at lw_m2 59 rfl) rfl
theorem q361 : (Jvm.Cond.selects "Versorhall$Element" ({ cls := "Versorhall$Element", name := "times", desc := "(LVersorhall$Element;)LVersorhall$Element;" } : Jvm.MethodName) ({ cls := "Versorhall$Element", name := "times", desc := "(LVersorhall$Element;)LVersorhall$Element;" } : Jvm.MethodName)) ∈ lw_all := lw_g (lw_at lw_m2 60 rfl) rfl
theorem q362 : (Jvm.Cond.code ({ cls := "Versorhall$Element", name := "times", desc := "(LVersorhall$Element;)LVersorhall$Element;" } : Jvm.MethodName) prog_4_method_6_code (5 : Nat) (Option.some (Jvm.ClassFile.FieldType.object "Versorhall$Element"))) ∈ lw_all := lw_g (lw_at lw_m2 61 rfl) rfl
theorem q470 : (Jvm.Cond.selects "Versorhall$Element" ({ cls := "java/lang/Object", name := "equals", desc := "(Ljava/lang/Object;)Z" } : Jvm.MethodName) ({ cls := "java/lang/Object", name := "equals", desc := "(Ljava/lang/Object;)Z" } : Jvm.MethodName)) ∈ lw_all := lw_g (lw_at lw_m2 169 rfl) rfl
theorem q501 : (Jvm.Cond.instanceMethod ({ cls := "Versorhall$Element", name := "firstPower", desc := "(IZ)I" } : Jvm.MethodName)) ∈ lw_all := lw_g (lw_at lw_m2 200 rfl) rfl
theorem q502 : (Jvm.Cond.selects "Versorhall$Element" ({ cls := "Versorhall$Element", name := "firstPower", desc := "(IZ)I" } : Jvm.MethodName) ({ cls := "Versorhall$Element", name := "firstPower", desc := "(IZ)I" } : Jvm.MethodName)) ∈ lw_all := lw_g (lw_at lw_m2 201 rfl) rfl
theorem q503 : (Jvm.Cond.code ({ cls := "Versorhall$Element", name := "firstPower", desc := "(IZ)I" } : Jvm.MethodName) prog_4_method_15_code (5 : Nat) (Option.some Jvm.ClassFile.FieldType.int)) ∈ lw_all := lw_g (lw_at lw_m2 202 rfl) rfl
theorem q504 : (Jvm.Cond.methodLink "Versorhall$Element" (55 : Nat) ({ cls := "Versorhall$Element", name := "one", desc := "()LVersorhall$Element;" } : Jvm.MethodName)) ∈ lw_all := lw_g (lw_at lw_m2 203 rfl) rfl
theorem q505 : (Jvm.Cond.privateMethod ({ cls := "Versorhall$Element", name := "one", desc := "()LVersorhall$Element;" } : Jvm.MethodName)) ∈ lw_tbl := lw_at lw_m2 204 rfl
theorem q506 : (Jvm.Cond.instanceMethod ({ cls := "Versorhall$Element", name := "one", desc := "()LVersorhall$Element;" } : Jvm.MethodName)) ∈ lw_all := lw_g (lw_at lw_m2 205 rfl) rfl
theorem q507 : (Jvm.Cond.code ({ cls := "Versorhall$Element", name := "one", desc := "()LVersorhall$Element;" } : Jvm.MethodName) prog_4_method_3_code (2 : Nat) (Option.some (Jvm.ClassFile.FieldType.object "Versorhall$Element"))) ∈ lw_all := lw_g (lw_at lw_m2 206 rfl) rfl
theorem q508 : (Jvm.Cond.methodLink "Versorhall$Element" (70 : Nat) ({ cls := "Versorhall$Element", name := "isZero", desc := "()Z" } : Jvm.MethodName)) ∈ lw_all := lw_g (lw_at lw_m2 207 rfl) rfl
theorem q509 : (Jvm.Cond.instanceMethod ({ cls := "Versorhall$Element", name := "isZero", desc := "()Z" } : Jvm.MethodName)) ∈ lw_all := lw_g (lw_at lw_m2 208 rfl) rfl
theorem q510 : (Jvm.Cond.selects "Versorhall$Element" ({ cls := "Versorhall$Element", name := "isZero", desc := "()Z" } : Jvm.MethodName) ({ cls := "Versorhall$Element", name := "isZero", desc := "()Z" } : Jvm.MethodName)) ∈ lw_all := lw_g (lw_at lw_m2 209 rfl) rfl
theorem q511 : (Jvm.Cond.code ({ cls := "Versorhall$Element", name := "isZero", desc := "()Z" } : Jvm.MethodName) prog_4_method_10_code (1 : Nat) (Option.some Jvm.ClassFile.FieldType.boolean)) ∈ lw_all := lw_g (lw_at lw_m2 210 rfl) rfl
theorem q514 : (Jvm.Cond.instanceMethod ({ cls := "Versorhall$Element", name := "isSame", desc := "(LVersorhall$Element;)Z" } : Jvm.MethodName)) ∈ lw_all := lw_g (lw_at lw_m2 213 rfl) rfl
theorem q515 : (Jvm.Cond.selects "Versorhall$Element" ({ cls := "Versorhall$Element", name := "isSame", desc := "(LVersorhall$Element;)Z" } : Jvm.MethodName) ({ cls := "Versorhall$Element", name := "isSame", desc := "(LVersorhall$Element;)Z" } : Jvm.MethodName)) ∈ lw_all := lw_g (lw_at lw_m2 214 rfl) rfl
theorem q516 : (Jvm.Cond.code ({ cls := "Versorhall$Element", name := "isSame", desc := "(LVersorhall$Element;)Z" } : Jvm.MethodName) prog_4_method_12_code (2 : Nat) (Option.some Jvm.ClassFile.FieldType.boolean)) ∈ lw_all := lw_g (lw_at lw_m2 215 rfl) rfl
theorem q517 : (Jvm.Cond.methodLink "Versorhall$Element" (66 : Nat) ({ cls := "Versorhall$Element", name := "plus", desc := "(LVersorhall$Element;I)LVersorhall$Element;" } : Jvm.MethodName)) ∈ lw_all := lw_g (lw_at lw_m2 216 rfl) rfl
theorem q518 : (Jvm.Cond.instanceMethod ({ cls := "Versorhall$Element", name := "plus", desc := "(LVersorhall$Element;I)LVersorhall$Element;" } : Jvm.MethodName)) ∈ lw_all := lw_g (lw_at lw_m2 217 rfl) rfl
theorem q519 : (Jvm.Cond.selects "Versorhall$Element" ({ cls := "Versorhall$Element", name := "plus", desc := "(LVersorhall$Element;I)LVersorhall$Element;" } : Jvm.MethodName) ({ cls := "Versorhall$Element", name := "plus", desc := "(LVersorhall$Element;I)LVersorhall$Element;" } : Jvm.MethodName)) ∈ lw_all := lw_g (lw_at lw_m2 218 rfl) rfl
theorem q520 : (Jvm.Cond.code ({ cls := "Versorhall$Element", name := "plus", desc := "(LVersorhall$Element;I)LVersorhall$Element;" } : Jvm.MethodName) prog_4_method_4_code (5 : Nat) (Option.some (Jvm.ClassFile.FieldType.object "Versorhall$Element"))) ∈ lw_all := lw_g (lw_at lw_m2 219 rfl) rfl
theorem q522 : (Jvm.Cond.instanceMethod ({ cls := "Versorhall$Element", name := "square", desc := "()I" } : Jvm.MethodName)) ∈ lw_all := lw_g (lw_at lw_m2 221 rfl) rfl
theorem q523 : (Jvm.Cond.selects "Versorhall$Element" ({ cls := "Versorhall$Element", name := "square", desc := "()I" } : Jvm.MethodName) ({ cls := "Versorhall$Element", name := "square", desc := "()I" } : Jvm.MethodName)) ∈ lw_all := lw_g (lw_at lw_m2 222 rfl) rfl
theorem q524 : (Jvm.Cond.code ({ cls := "Versorhall$Element", name := "square", desc := "()I" } : Jvm.MethodName) prog_4_method_22_code (2 : Nat) (Option.some Jvm.ClassFile.FieldType.int)) ∈ lw_all := lw_g (lw_at lw_m2 223 rfl) rfl
theorem q525 : (Jvm.Cond.methodLink "Versorhall$Element" (113 : Nat) ({ cls := "Versorhall$Algebra", name := "isBlades", desc := "()Z" } : Jvm.MethodName)) ∈ lw_all := lw_g (lw_at lw_m2 224 rfl) rfl
theorem q526 : (Jvm.Cond.methodLink "Versorhall$Element" (116 : Nat) ({ cls := "java/lang/Integer", name := "bitCount", desc := "(I)I" } : Jvm.MethodName)) ∈ lw_all := lw_g (lw_at lw_m2 225 rfl) rfl
theorem q528 : (Jvm.Cond.instanceMethod ({ cls := "Versorhall$Element", name := "rank", desc := "(Z)I" } : Jvm.MethodName)) ∈ lw_all := lw_g (lw_at lw_m2 227 rfl) rfl
theorem q529 : (Jvm.Cond.selects "Versorhall$Element" ({ cls := "Versorhall$Element", name := "rank", desc := "(Z)I" } : Jvm.MethodName) ({ cls := "Versorhall$Element", name := "rank", desc := "(Z)I" } : Jvm.MethodName)) ∈ lw_all := lw_g (lw_at lw_m2 228 rfl) rfl
theorem q530 : (Jvm.Cond.code ({ cls := "Versorhall$Element", name := "rank", desc := "(Z)I" } : Jvm.MethodName) prog_4_method_19_code (7 : Nat) (Option.some Jvm.ClassFile.FieldType.int)) ∈ lw_all := lw_g (lw_at lw_m2 229 rfl) rfl
theorem q531 : (Jvm.Cond.methodLink "Versorhall$Element" (105 : Nat) ({ cls := "Versorhall$Element", name := "matrix", desc := "(Z)[[I" } : Jvm.MethodName)) ∈ lw_all := lw_g (lw_at lw_m2 230 rfl) rfl
theorem q532 : (Jvm.Cond.privateMethod ({ cls := "Versorhall$Element", name := "matrix", desc := "(Z)[[I" } : Jvm.MethodName)) ∈ lw_tbl := lw_at lw_m2 231 rfl
theorem q533 : (Jvm.Cond.instanceMethod ({ cls := "Versorhall$Element", name := "matrix", desc := "(Z)[[I" } : Jvm.MethodName)) ∈ lw_all := lw_g (lw_at lw_m2 232 rfl) rfl
theorem q534 : (Jvm.Cond.code ({ cls := "Versorhall$Element", name := "matrix", desc := "(Z)[[I" } : Jvm.MethodName) prog_4_method_17_code (6 : Nat) (Option.some (Jvm.ClassFile.FieldType.array (Jvm.ClassFile.FieldType.array Jvm.ClassFile.FieldType.int)))) ∈ lw_all := lw_g (lw_at lw_m2 233 rfl) rfl
theorem q535 : (Jvm.Cond.classLink "Versorhall$Element" (104 : Nat) "[[I") ∈ lw_all := lw_g (lw_at lw_m2 234 rfl) rfl
theorem q537 : (Jvm.Cond.methodLink "Versorhall$Element" (109 : Nat) ({ cls := "Versorhall$Element", name := "solve", desc := "([[I)[I" } : Jvm.MethodName)) ∈ lw_all := lw_g (lw_at lw_m2 236 rfl) rfl
theorem q538 : (Jvm.Cond.privateMethod ({ cls := "Versorhall$Element", name := "solve", desc := "([[I)[I" } : Jvm.MethodName)) ∈ lw_tbl := lw_at lw_m2 237 rfl
theorem q539 : (Jvm.Cond.instanceMethod ({ cls := "Versorhall$Element", name := "solve", desc := "([[I)[I" } : Jvm.MethodName)) ∈ lw_all := lw_g (lw_at lw_m2 238 rfl) rfl
theorem q540 : (Jvm.Cond.code ({ cls := "Versorhall$Element", name := "solve", desc := "([[I)[I" } : Jvm.MethodName) prog_4_method_18_code (12 : Nat) (Option.some (Jvm.ClassFile.FieldType.array Jvm.ClassFile.FieldType.int))) ∈ lw_all := lw_g (lw_at lw_m2 239 rfl) rfl
theorem q541 : (Jvm.Cond.methodLinkNest "Versorhall$Element" (80 : Nat) ({ cls := "Versorhall", name := "inverseOf", desc := "(I)I" } : Jvm.MethodName) "Versorhall") ∈ lw_tbl := lw_at lw_m3 0 rfl
theorem q546 : (Jvm.Cond.instanceMethod ({ cls := "Versorhall$Element", name := "toString", desc := "()Ljava/lang/String;" } : Jvm.MethodName)) ∈ lw_all := lw_g (lw_at lw_m3 5 rfl) rfl
theorem q547 : (Jvm.Cond.selects "Versorhall$Element" ({ cls := "Versorhall$Element", name := "toString", desc := "()Ljava/lang/String;" } : Jvm.MethodName) ({ cls := "Versorhall$Element", name := "toString", desc := "()Ljava/lang/String;" } : Jvm.MethodName)) ∈ lw_all := lw_g (lw_at lw_m3 6 rfl) rfl
theorem q548 : (Jvm.Cond.code ({ cls := "Versorhall$Element", name := "toString", desc := "()Ljava/lang/String;" } : Jvm.MethodName) prog_4_method_25_code (3 : Nat) (Option.some (Jvm.ClassFile.FieldType.object "java/lang/String"))) ∈ lw_all := lw_g (lw_at lw_m3 7 rfl) rfl
theorem q549 : (Jvm.Cond.classLink "Versorhall$Element" (132 : Nat) "java/lang/StringBuilder") ∈ lw_all := lw_g (lw_at lw_m3 8 rfl) rfl
theorem q551 : (Jvm.Cond.methodLink "Versorhall$Element" (134 : Nat) ({ cls := "java/lang/StringBuilder", name := "<init>", desc := "()V" } : Jvm.MethodName)) ∈ lw_all := lw_g (lw_at lw_m3 10 rfl) rfl
theorem q581 : (Jvm.Cond.methodLink "Versorhall$Element" (135 : Nat) ({ cls := "java/lang/StringBuilder", name := "length", desc := "()I" } : Jvm.MethodName)) ∈ lw_all := lw_g (lw_at lw_m3 40 rfl) rfl
theorem q588 : (Jvm.Cond.methodLink "Versorhall$Element" (138 : Nat) ({ cls := "java/lang/StringBuilder", name := "append", desc := "(C)Ljava/lang/StringBuilder;" } : Jvm.MethodName)) ∈ lw_all := lw_g (lw_at lw_m3 47 rfl) rfl
theorem q681 : (Jvm.Cond.methodLink "Versorhall$Element" (142 : Nat) ({ cls := "java/lang/StringBuilder", name := "append", desc := "(I)Ljava/lang/StringBuilder;" } : Jvm.MethodName)) ∈ lw_all := lw_g (lw_at lw_m3 140 rfl) rfl
theorem q715 : (Jvm.Cond.stringRef "Versorhall$Element" (145 : Nat) "0") ∈ lw_tbl := lw_at lw_m3 174 rfl
theorem q716 : (Jvm.Cond.methodLink "Versorhall$Element" (147 : Nat) ({ cls := "java/lang/StringBuilder", name := "toString", desc := "()Ljava/lang/String;" } : Jvm.MethodName)) ∈ lw_all := lw_g (lw_at lw_m3 175 rfl) rfl
theorem q956 : (Jvm.Cond.fieldLinkNest "Versorhall$Element" (46 : Nat) "Versorhall$Algebra" "kind" "LVersorhall$Kind;" "Versorhall") ∈ lw_tbl := lw_at lw_m4 175 rfl
theorem q963 : (Jvm.Cond.fieldLinkNest "Versorhall$Element" (42 : Nat) "Versorhall$Algebra" "signs" "[[I" "Versorhall") ∈ lw_tbl := lw_at lw_m4 182 rfl
theorem q1003 : (Jvm.Cond.selects "Versorhall$Element" ({ cls := "java/lang/Object", name := "getClass", desc := "()Ljava/lang/Class;" } : Jvm.MethodName) ({ cls := "java/lang/Object", name := "getClass", desc := "()Ljava/lang/Class;" } : Jvm.MethodName)) ∈ lw_all := lw_g (lw_at lw_m4 222 rfl) rfl
theorem q1173 : (Jvm.Cond.instanceMethod ({ cls := "Versorhall$Element", name := "times", desc := "(I)LVersorhall$Element;" } : Jvm.MethodName)) ∈ lw_all := lw_g (lw_at lw_m5 152 rfl) rfl
theorem q1174 : (Jvm.Cond.selects "Versorhall$Element" ({ cls := "Versorhall$Element", name := "times", desc := "(I)LVersorhall$Element;" } : Jvm.MethodName) ({ cls := "Versorhall$Element", name := "times", desc := "(I)LVersorhall$Element;" } : Jvm.MethodName)) ∈ lw_all := lw_g (lw_at lw_m5 153 rfl) rfl
theorem q1175 : (Jvm.Cond.code ({ cls := "Versorhall$Element", name := "times", desc := "(I)LVersorhall$Element;" } : Jvm.MethodName) prog_4_method_5_code (4 : Nat) (Option.some (Jvm.ClassFile.FieldType.object "Versorhall$Element"))) ∈ lw_all := lw_g (lw_at lw_m5 154 rfl) rfl
theorem q1192 : (Jvm.Cond.instanceMethod ({ cls := "Versorhall$Element", name := "power", desc := "(I)LVersorhall$Element;" } : Jvm.MethodName)) ∈ lw_all := lw_g (lw_at lw_m5 171 rfl) rfl
theorem q1193 : (Jvm.Cond.selects "Versorhall$Element" ({ cls := "Versorhall$Element", name := "power", desc := "(I)LVersorhall$Element;" } : Jvm.MethodName) ({ cls := "Versorhall$Element", name := "power", desc := "(I)LVersorhall$Element;" } : Jvm.MethodName)) ∈ lw_all := lw_g (lw_at lw_m5 172 rfl) rfl
theorem q1194 : (Jvm.Cond.code ({ cls := "Versorhall$Element", name := "power", desc := "(I)LVersorhall$Element;" } : Jvm.MethodName) prog_4_method_8_code (4 : Nat) (Option.some (Jvm.ClassFile.FieldType.object "Versorhall$Element"))) ∈ lw_all := lw_g (lw_at lw_m5 173 rfl) rfl
theorem q1203 : (Jvm.Cond.instanceMethod ({ cls := "Versorhall$Element", name := "inverse", desc := "()Ljava/util/Optional;" } : Jvm.MethodName)) ∈ lw_all := lw_g (lw_at lw_m5 182 rfl) rfl
theorem q1204 : (Jvm.Cond.selects "Versorhall$Element" ({ cls := "Versorhall$Element", name := "inverse", desc := "()Ljava/util/Optional;" } : Jvm.MethodName) ({ cls := "Versorhall$Element", name := "inverse", desc := "()Ljava/util/Optional;" } : Jvm.MethodName)) ∈ lw_all := lw_g (lw_at lw_m5 183 rfl) rfl
theorem q1205 : (Jvm.Cond.code ({ cls := "Versorhall$Element", name := "inverse", desc := "()Ljava/util/Optional;" } : Jvm.MethodName) prog_4_method_14_code (2 : Nat) (Option.some (Jvm.ClassFile.FieldType.object "java/util/Optional"))) ∈ lw_all := lw_g (lw_at lw_m5 184 rfl) rfl
theorem q1206 : (Jvm.Cond.methodLink "Versorhall$Element" (83 : Nat) ({ cls := "Versorhall$Element", name := "times", desc := "(I)LVersorhall$Element;" } : Jvm.MethodName)) ∈ lw_all := lw_g (lw_at lw_m5 185 rfl) rfl
theorem q1207 : (Jvm.Cond.methodLink "Versorhall$Element" (86 : Nat) ({ cls := "java/util/Optional", name := "of", desc := "(Ljava/lang/Object;)Ljava/util/Optional;" } : Jvm.MethodName)) ∈ lw_all := lw_g (lw_at lw_m5 186 rfl) rfl
theorem q1223 : (Jvm.Cond.methodLink "Versorhall$Element" (92 : Nat) ({ cls := "java/util/Optional", name := "empty", desc := "()Ljava/util/Optional;" } : Jvm.MethodName)) ∈ lw_all := lw_g (lw_at lw_m5 202 rfl) rfl
theorem q1247 : (Jvm.Cond.instanceMethod ({ cls := "Versorhall$Element", name := "series", desc := "()Ljava/util/Optional;" } : Jvm.MethodName)) ∈ lw_all := lw_g (lw_at lw_m5 226 rfl) rfl
theorem q1248 : (Jvm.Cond.selects "Versorhall$Element" ({ cls := "Versorhall$Element", name := "series", desc := "()Ljava/util/Optional;" } : Jvm.MethodName) ({ cls := "Versorhall$Element", name := "series", desc := "()Ljava/util/Optional;" } : Jvm.MethodName)) ∈ lw_all := lw_g (lw_at lw_m5 227 rfl) rfl
theorem q1249 : (Jvm.Cond.code ({ cls := "Versorhall$Element", name := "series", desc := "()Ljava/util/Optional;" } : Jvm.MethodName) prog_4_method_16_code (5 : Nat) (Option.some (Jvm.ClassFile.FieldType.object "java/util/Optional"))) ∈ lw_all := lw_g (lw_at lw_m5 228 rfl) rfl
theorem q1250 : (Jvm.Cond.methodLink "Versorhall$Element" (100 : Nat) ({ cls := "Versorhall$Element", name := "firstPower", desc := "(IZ)I" } : Jvm.MethodName)) ∈ lw_all := lw_g (lw_at lw_m5 229 rfl) rfl
theorem q1259 : (Jvm.Cond.instanceMethod ({ cls := "Versorhall$Element", name := "killer", desc := "()Ljava/util/Optional;" } : Jvm.MethodName)) ∈ lw_all := lw_g (lw_at lw_m5 238 rfl) rfl
theorem q1260 : (Jvm.Cond.selects "Versorhall$Element" ({ cls := "Versorhall$Element", name := "killer", desc := "()Ljava/util/Optional;" } : Jvm.MethodName) ({ cls := "Versorhall$Element", name := "killer", desc := "()Ljava/util/Optional;" } : Jvm.MethodName)) ∈ lw_all := lw_g (lw_at lw_m5 239 rfl) rfl
theorem q1261 : (Jvm.Cond.code ({ cls := "Versorhall$Element", name := "killer", desc := "()Ljava/util/Optional;" } : Jvm.MethodName) prog_4_method_20_code (6 : Nat) (Option.some (Jvm.ClassFile.FieldType.object "java/util/Optional"))) ∈ lw_all := lw_g (lw_at lw_m6 0 rfl) rfl
theorem q1263 : (Jvm.Cond.instanceMethod ({ cls := "Versorhall$Element", name := "last", desc := "()I" } : Jvm.MethodName)) ∈ lw_all := lw_g (lw_at lw_m6 2 rfl) rfl
theorem q1264 : (Jvm.Cond.selects "Versorhall$Element" ({ cls := "Versorhall$Element", name := "last", desc := "()I" } : Jvm.MethodName) ({ cls := "Versorhall$Element", name := "last", desc := "()I" } : Jvm.MethodName)) ∈ lw_all := lw_g (lw_at lw_m6 3 rfl) rfl
theorem q1265 : (Jvm.Cond.code ({ cls := "Versorhall$Element", name := "last", desc := "()I" } : Jvm.MethodName) prog_4_method_21_code (3 : Nat) (Option.some Jvm.ClassFile.FieldType.int)) ∈ lw_all := lw_g (lw_at lw_m6 4 rfl) rfl
theorem q1274 : (Jvm.Cond.instanceMethod ({ cls := "Versorhall$Element", name := "copy", desc := "()LVersorhall$Element;" } : Jvm.MethodName)) ∈ lw_all := lw_g (lw_at lw_m6 13 rfl) rfl
theorem q1275 : (Jvm.Cond.selects "Versorhall$Element" ({ cls := "Versorhall$Element", name := "copy", desc := "()LVersorhall$Element;" } : Jvm.MethodName) ({ cls := "Versorhall$Element", name := "copy", desc := "()LVersorhall$Element;" } : Jvm.MethodName)) ∈ lw_all := lw_g (lw_at lw_m6 14 rfl) rfl
theorem q1276 : (Jvm.Cond.code ({ cls := "Versorhall$Element", name := "copy", desc := "()LVersorhall$Element;" } : Jvm.MethodName) prog_4_method_2_code (2 : Nat) (Option.some (Jvm.ClassFile.FieldType.object "Versorhall$Element"))) ∈ lw_all := lw_g (lw_at lw_m6 15 rfl) rfl
theorem q1277 : (Jvm.Cond.methodLink "Versorhall$Element" (32 : Nat) ({ cls := "java/lang/System", name := "arraycopy", desc := "(Ljava/lang/Object;ILjava/lang/Object;II)V" } : Jvm.MethodName)) ∈ lw_all := lw_g (lw_at lw_m6 16 rfl) rfl
theorem q1284 : (Jvm.Cond.selects "Versorhall$Element" ({ cls := "java/lang/Object", name := "notifyAll", desc := "()V" } : Jvm.MethodName) ({ cls := "java/lang/Object", name := "notifyAll", desc := "()V" } : Jvm.MethodName)) ∈ lw_all := lw_g (lw_at lw_m6 23 rfl) rfl
theorem q1334 : (Jvm.Cond.selects "Versorhall$Element" ({ cls := "java/lang/Object", name := "notify", desc := "()V" } : Jvm.MethodName) ({ cls := "java/lang/Object", name := "notify", desc := "()V" } : Jvm.MethodName)) ∈ lw_all := lw_g (lw_at lw_m6 73 rfl) rfl
theorem q1361 : (Jvm.Cond.instanceMethod ({ cls := "Versorhall$Element", name := "mirrored", desc := "(LVersorhall$Element;)LVersorhall$Element;" } : Jvm.MethodName)) ∈ lw_all := lw_g (lw_at lw_m6 100 rfl) rfl
theorem q1362 : (Jvm.Cond.selects "Versorhall$Element" ({ cls := "Versorhall$Element", name := "mirrored", desc := "(LVersorhall$Element;)LVersorhall$Element;" } : Jvm.MethodName) ({ cls := "Versorhall$Element", name := "mirrored", desc := "(LVersorhall$Element;)LVersorhall$Element;" } : Jvm.MethodName)) ∈ lw_all := lw_g (lw_at lw_m6 101 rfl) rfl
theorem q1363 : (Jvm.Cond.code ({ cls := "Versorhall$Element", name := "mirrored", desc := "(LVersorhall$Element;)LVersorhall$Element;" } : Jvm.MethodName) prog_4_method_23_code (2 : Nat) (Option.some (Jvm.ClassFile.FieldType.object "Versorhall$Element"))) ∈ lw_all := lw_g (lw_at lw_m6 102 rfl) rfl
theorem q1364 : (Jvm.Cond.methodLink "Versorhall$Element" (121 : Nat) ({ cls := "Versorhall$Element", name := "square", desc := "()I" } : Jvm.MethodName)) ∈ lw_all := lw_g (lw_at lw_m6 103 rfl) rfl
theorem q1979 : (Jvm.Cond.castable "Versorhall$Element" "java/lang/Object") ∈ lw_tbl := lw_at lw_m8 238 rfl
theorem in_X7 : ∀ w ∈ wsX70, w ∈ lw_all := lw_in wsX70 [327, 329, 331] (by decide +kernel) (by decide +kernel)
/-! Versorhall$Weighed -/
set_option maxRecDepth 100000
def RX9 : String := "Versorhall$Weighed"
abbrev cX9_quarter : ByteArray := prog_8_method_1_code
def yX9_quarter : MethodName := ⟨RX9, "quarter", "(I)F"⟩
def dkwX9_quarter_0 : List UInt8 := [18, 1, 27, 134, 106, 174]
abbrev dktX9_quarter_0 : List UInt8 := dkwX9_quarter_0 ++ []
theorem dksX9_quarter_0 : cX9_quarter.data.toList.drop 0 = dktX9_quarter_0 := by decide +kernel
theorem dX9_quarter_0 : decode cX9_quarter 0 = .ok (.ldc 1, 2) := dk_18 1 (dk_at dksX9_quarter_0 0 rfl rfl)
theorem dX9_quarter_2 : decode cX9_quarter 2 = .ok (.iload_n 1, 1) := dk_27 (dk_at dksX9_quarter_0 2 rfl rfl)
theorem dX9_quarter_3 : decode cX9_quarter 3 = .ok (.i2f, 1) := dk_134 (dk_at dksX9_quarter_0 3 rfl rfl)
theorem dX9_quarter_4 : decode cX9_quarter 4 = .ok (.fmul, 1) := dk_106 (dk_at dksX9_quarter_0 4 rfl rfl)
theorem dX9_quarter_5 : decode cX9_quarter 5 = .ok (.freturn, 1) := dk_174 (dk_at dksX9_quarter_0 5 rfl rfl)
theorem q250 : (Jvm.Cond.declares ({ cls := "Versorhall$Weighed", name := "quarter", desc := "(I)F" } : Jvm.MethodName)) ∈ lw_tbl := lw_at lw_m1 189 rfl
theorem q252 : (Jvm.Cond.instanceMethod ({ cls := "Versorhall$Weighed", name := "quarter", desc := "(I)F" } : Jvm.MethodName)) ∈ lw_all := lw_g (lw_at lw_m1 191 rfl) rfl
theorem q253 : (Jvm.Cond.publicMethod ({ cls := "Versorhall$Weighed", name := "quarter", desc := "(I)F" } : Jvm.MethodName)) ∈ lw_tbl := lw_at lw_m1 192 rfl
theorem q254 : (Jvm.Cond.code ({ cls := "Versorhall$Weighed", name := "quarter", desc := "(I)F" } : Jvm.MethodName) prog_8_method_1_code (2 : Nat) (Option.some Jvm.ClassFile.FieldType.float)) ∈ lw_all := lw_g (lw_at lw_m1 193 rfl) rfl
theorem q255 : (Jvm.Cond.constantFloat "Versorhall$Weighed" (1 : Nat) (1048576000 : UInt32)) ∈ lw_all := lw_g (lw_at lw_m1 194 rfl) rfl
theorem q1962 : (Jvm.Cond.initialized "Versorhall$Weighed") ∈ lw_all := lw_g (lw_at lw_m8 221 rfl) rfl
/-! Versorhall$Kind$1 -/
set_option maxRecDepth 100000
def RX10 : String := "Versorhall$Kind$1"
abbrev cX10_turned : ByteArray := prog_6_method_3_code
def yX10_turned : MethodName := ⟨RX10, "turned", "(I)I"⟩
def dkwX10_turned_0 : List UInt8 := [27, 154, 0, 7, 4, 167, 0, 4, 2, 172]
abbrev dktX10_turned_0 : List UInt8 := dkwX10_turned_0 ++ []
theorem dksX10_turned_0 : cX10_turned.data.toList.drop 0 = dktX10_turned_0 := by decide +kernel
theorem dX10_turned_0 : decode cX10_turned 0 = .ok (.iload_n 1, 1) := dk_27 (dk_at dksX10_turned_0 0 rfl rfl)
theorem dX10_turned_1 : decode cX10_turned 1 = .ok (.ifCond .ne 7, 3) := dk_154 0 7 (dk_at dksX10_turned_0 1 rfl rfl)
theorem dX10_turned_4 : decode cX10_turned 4 = .ok (.iconst 1, 1) := dk_4 (dk_at dksX10_turned_0 4 rfl rfl)
theorem dX10_turned_5 : decode cX10_turned 5 = .ok (.goto 4, 3) := dk_167 0 4 (dk_at dksX10_turned_0 5 rfl rfl)
theorem dX10_turned_8 : decode cX10_turned 8 = .ok (.iconst (-1), 1) := dk_2 (dk_at dksX10_turned_0 8 rfl rfl)
theorem dX10_turned_9 : decode cX10_turned 9 = .ok (.ireturn, 1) := dk_172 (dk_at dksX10_turned_0 9 rfl rfl)
abbrev cX10_sign : ByteArray := prog_6_method_2_code
def yX10_sign : MethodName := ⟨RX10, "sign", "(Ljava/util/ArrayList;III)I"⟩
def dkwX10_sign_5 : List UInt8 := [182, 0, 25, 42, 43, 21, 5, 21, 8, 21, 7, 182, 0, 7, 104, 42, 21, 8, 182, 0, 13, 104, 172]
abbrev dktX10_sign_5 : List UInt8 := dkwX10_sign_5 ++ []
def dkwX10_sign_4 : List UInt8 := [21, 8, 182, 0, 7, 42, 21, 8, 182, 0, 13, 104, 172, 43, 21, 5, 182, 0, 17, 192, 0, 23]
abbrev dktX10_sign_4 : List UInt8 := dkwX10_sign_4 ++ dktX10_sign_5
def dkwX10_sign_3 : List UInt8 := [21, 5, 21, 8, 21, 7, 182, 0, 7, 172, 21, 4, 21, 6, 126, 154, 0, 22, 42, 43, 21, 5, 21, 7]
abbrev dktX10_sign_3 : List UInt8 := dkwX10_sign_3 ++ dktX10_sign_4
def dkwX10_sign_2 : List UInt8 := [154, 0, 15, 42, 43, 21, 5, 21, 7, 21, 8, 182, 0, 7, 172, 29, 21, 6, 126, 154, 0, 15, 42, 43]
abbrev dktX10_sign_2 : List UInt8 := dkwX10_sign_2 ++ dktX10_sign_3
def dkwX10_sign_1 : List UInt8 := [54, 7, 21, 4, 21, 6, 4, 100, 126, 54, 8, 29, 21, 6, 126, 154, 0, 23, 21, 4, 21, 6, 126]
abbrev dktX10_sign_1 : List UInt8 := dkwX10_sign_1 ++ dktX10_sign_2
def dkwX10_sign_0 : List UInt8 := [28, 154, 0, 5, 4, 172, 28, 4, 100, 54, 5, 4, 21, 5, 120, 54, 6, 29, 21, 6, 4, 100, 126]
abbrev dktX10_sign_0 : List UInt8 := dkwX10_sign_0 ++ dktX10_sign_1
theorem dksX10_sign_0 : cX10_sign.data.toList.drop 0 = dktX10_sign_0 := by decide +kernel
theorem dksX10_sign_1 : cX10_sign.data.toList.drop 23 = dktX10_sign_1 := dk_seg dksX10_sign_0 23 rfl rfl
theorem dksX10_sign_2 : cX10_sign.data.toList.drop 46 = dktX10_sign_2 := dk_seg dksX10_sign_1 23 rfl rfl
theorem dksX10_sign_3 : cX10_sign.data.toList.drop 70 = dktX10_sign_3 := dk_seg dksX10_sign_2 24 rfl rfl
theorem dksX10_sign_4 : cX10_sign.data.toList.drop 94 = dktX10_sign_4 := dk_seg dksX10_sign_3 24 rfl rfl
theorem dksX10_sign_5 : cX10_sign.data.toList.drop 116 = dktX10_sign_5 := dk_seg dksX10_sign_4 22 rfl rfl
theorem dX10_sign_0 : decode cX10_sign 0 = .ok (.iload_n 2, 1) := dk_28 (dk_at dksX10_sign_0 0 rfl rfl)
theorem dX10_sign_1 : decode cX10_sign 1 = .ok (.ifCond .ne 5, 3) := dk_154 0 5 (dk_at dksX10_sign_0 1 rfl rfl)
theorem dX10_sign_4 : decode cX10_sign 4 = .ok (.iconst 1, 1) := dk_4 (dk_at dksX10_sign_0 4 rfl rfl)
theorem dX10_sign_5 : decode cX10_sign 5 = .ok (.ireturn, 1) := dk_172 (dk_at dksX10_sign_0 5 rfl rfl)
theorem dX10_sign_6 : decode cX10_sign 6 = .ok (.iload_n 2, 1) := dk_28 (dk_at dksX10_sign_0 6 rfl rfl)
theorem dX10_sign_7 : decode cX10_sign 7 = .ok (.iconst 1, 1) := dk_4 (dk_at dksX10_sign_0 7 rfl rfl)
theorem dX10_sign_8 : decode cX10_sign 8 = .ok (.isub, 1) := dk_100 (dk_at dksX10_sign_0 8 rfl rfl)
theorem dX10_sign_9 : decode cX10_sign 9 = .ok (.istore 5, 2) := dk_54 5 (dk_at dksX10_sign_0 9 rfl rfl)
theorem dX10_sign_11 : decode cX10_sign 11 = .ok (.iconst 1, 1) := dk_4 (dk_at dksX10_sign_0 11 rfl rfl)
theorem dX10_sign_12 : decode cX10_sign 12 = .ok (.iload 5, 2) := dk_21 5 (dk_at dksX10_sign_0 12 rfl rfl)
theorem dX10_sign_14 : decode cX10_sign 14 = .ok (.ishl, 1) := dk_120 (dk_at dksX10_sign_0 14 rfl rfl)
theorem dX10_sign_15 : decode cX10_sign 15 = .ok (.istore 6, 2) := dk_54 6 (dk_at dksX10_sign_0 15 rfl rfl)
theorem dX10_sign_17 : decode cX10_sign 17 = .ok (.iload_n 3, 1) := dk_29 (dk_at dksX10_sign_0 17 rfl rfl)
theorem dX10_sign_18 : decode cX10_sign 18 = .ok (.iload 6, 2) := dk_21 6 (dk_at dksX10_sign_0 18 rfl rfl)
theorem dX10_sign_20 : decode cX10_sign 20 = .ok (.iconst 1, 1) := dk_4 (dk_at dksX10_sign_0 20 rfl rfl)
theorem dX10_sign_21 : decode cX10_sign 21 = .ok (.isub, 1) := dk_100 (dk_at dksX10_sign_0 21 rfl rfl)
theorem dX10_sign_22 : decode cX10_sign 22 = .ok (.iand, 1) := dk_126 (dk_at dksX10_sign_0 22 rfl rfl)
theorem dX10_sign_23 : decode cX10_sign 23 = .ok (.istore 7, 2) := dk_54 7 (dk_at dksX10_sign_1 0 rfl rfl)
theorem dX10_sign_25 : decode cX10_sign 25 = .ok (.iload 4, 2) := dk_21 4 (dk_at dksX10_sign_1 2 rfl rfl)
theorem dX10_sign_27 : decode cX10_sign 27 = .ok (.iload 6, 2) := dk_21 6 (dk_at dksX10_sign_1 4 rfl rfl)
theorem dX10_sign_29 : decode cX10_sign 29 = .ok (.iconst 1, 1) := dk_4 (dk_at dksX10_sign_1 6 rfl rfl)
theorem dX10_sign_30 : decode cX10_sign 30 = .ok (.isub, 1) := dk_100 (dk_at dksX10_sign_1 7 rfl rfl)
theorem dX10_sign_31 : decode cX10_sign 31 = .ok (.iand, 1) := dk_126 (dk_at dksX10_sign_1 8 rfl rfl)
theorem dX10_sign_32 : decode cX10_sign 32 = .ok (.istore 8, 2) := dk_54 8 (dk_at dksX10_sign_1 9 rfl rfl)
theorem dX10_sign_34 : decode cX10_sign 34 = .ok (.iload_n 3, 1) := dk_29 (dk_at dksX10_sign_1 11 rfl rfl)
theorem dX10_sign_35 : decode cX10_sign 35 = .ok (.iload 6, 2) := dk_21 6 (dk_at dksX10_sign_1 12 rfl rfl)
theorem dX10_sign_37 : decode cX10_sign 37 = .ok (.iand, 1) := dk_126 (dk_at dksX10_sign_1 14 rfl rfl)
theorem dX10_sign_38 : decode cX10_sign 38 = .ok (.ifCond .ne 23, 3) := dk_154 0 23 (dk_at dksX10_sign_1 15 rfl rfl)
theorem dX10_sign_41 : decode cX10_sign 41 = .ok (.iload 4, 2) := dk_21 4 (dk_at dksX10_sign_1 18 rfl rfl)
theorem dX10_sign_43 : decode cX10_sign 43 = .ok (.iload 6, 2) := dk_21 6 (dk_at dksX10_sign_1 20 rfl rfl)
theorem dX10_sign_45 : decode cX10_sign 45 = .ok (.iand, 1) := dk_126 (dk_at dksX10_sign_1 22 rfl rfl)
theorem dX10_sign_46 : decode cX10_sign 46 = .ok (.ifCond .ne 15, 3) := dk_154 0 15 (dk_at dksX10_sign_2 0 rfl rfl)
theorem dX10_sign_49 : decode cX10_sign 49 = .ok (.aload_n 0, 1) := dk_42 (dk_at dksX10_sign_2 3 rfl rfl)
theorem dX10_sign_50 : decode cX10_sign 50 = .ok (.aload_n 1, 1) := dk_43 (dk_at dksX10_sign_2 4 rfl rfl)
theorem dX10_sign_51 : decode cX10_sign 51 = .ok (.iload 5, 2) := dk_21 5 (dk_at dksX10_sign_2 5 rfl rfl)
theorem dX10_sign_53 : decode cX10_sign 53 = .ok (.iload 7, 2) := dk_21 7 (dk_at dksX10_sign_2 7 rfl rfl)
theorem dX10_sign_55 : decode cX10_sign 55 = .ok (.iload 8, 2) := dk_21 8 (dk_at dksX10_sign_2 9 rfl rfl)
theorem dX10_sign_57 : decode cX10_sign 57 = .ok (.invokevirtual 7, 3) := dk_182 0 7 (dk_at dksX10_sign_2 11 rfl rfl)
theorem dX10_sign_60 : decode cX10_sign 60 = .ok (.ireturn, 1) := dk_172 (dk_at dksX10_sign_2 14 rfl rfl)
theorem dX10_sign_61 : decode cX10_sign 61 = .ok (.iload_n 3, 1) := dk_29 (dk_at dksX10_sign_2 15 rfl rfl)
theorem dX10_sign_62 : decode cX10_sign 62 = .ok (.iload 6, 2) := dk_21 6 (dk_at dksX10_sign_2 16 rfl rfl)
theorem dX10_sign_64 : decode cX10_sign 64 = .ok (.iand, 1) := dk_126 (dk_at dksX10_sign_2 18 rfl rfl)
theorem dX10_sign_65 : decode cX10_sign 65 = .ok (.ifCond .ne 15, 3) := dk_154 0 15 (dk_at dksX10_sign_2 19 rfl rfl)
theorem dX10_sign_68 : decode cX10_sign 68 = .ok (.aload_n 0, 1) := dk_42 (dk_at dksX10_sign_2 22 rfl rfl)
theorem dX10_sign_69 : decode cX10_sign 69 = .ok (.aload_n 1, 1) := dk_43 (dk_at dksX10_sign_2 23 rfl rfl)
theorem dX10_sign_70 : decode cX10_sign 70 = .ok (.iload 5, 2) := dk_21 5 (dk_at dksX10_sign_3 0 rfl rfl)
theorem dX10_sign_72 : decode cX10_sign 72 = .ok (.iload 8, 2) := dk_21 8 (dk_at dksX10_sign_3 2 rfl rfl)
theorem dX10_sign_74 : decode cX10_sign 74 = .ok (.iload 7, 2) := dk_21 7 (dk_at dksX10_sign_3 4 rfl rfl)
theorem dX10_sign_76 : decode cX10_sign 76 = .ok (.invokevirtual 7, 3) := dk_182 0 7 (dk_at dksX10_sign_3 6 rfl rfl)
theorem dX10_sign_79 : decode cX10_sign 79 = .ok (.ireturn, 1) := dk_172 (dk_at dksX10_sign_3 9 rfl rfl)
theorem dX10_sign_80 : decode cX10_sign 80 = .ok (.iload 4, 2) := dk_21 4 (dk_at dksX10_sign_3 10 rfl rfl)
theorem dX10_sign_82 : decode cX10_sign 82 = .ok (.iload 6, 2) := dk_21 6 (dk_at dksX10_sign_3 12 rfl rfl)
theorem dX10_sign_84 : decode cX10_sign 84 = .ok (.iand, 1) := dk_126 (dk_at dksX10_sign_3 14 rfl rfl)
theorem dX10_sign_85 : decode cX10_sign 85 = .ok (.ifCond .ne 22, 3) := dk_154 0 22 (dk_at dksX10_sign_3 15 rfl rfl)
theorem dX10_sign_88 : decode cX10_sign 88 = .ok (.aload_n 0, 1) := dk_42 (dk_at dksX10_sign_3 18 rfl rfl)
theorem dX10_sign_89 : decode cX10_sign 89 = .ok (.aload_n 1, 1) := dk_43 (dk_at dksX10_sign_3 19 rfl rfl)
theorem dX10_sign_90 : decode cX10_sign 90 = .ok (.iload 5, 2) := dk_21 5 (dk_at dksX10_sign_3 20 rfl rfl)
theorem dX10_sign_92 : decode cX10_sign 92 = .ok (.iload 7, 2) := dk_21 7 (dk_at dksX10_sign_3 22 rfl rfl)
theorem dX10_sign_94 : decode cX10_sign 94 = .ok (.iload 8, 2) := dk_21 8 (dk_at dksX10_sign_4 0 rfl rfl)
theorem dX10_sign_96 : decode cX10_sign 96 = .ok (.invokevirtual 7, 3) := dk_182 0 7 (dk_at dksX10_sign_4 2 rfl rfl)
theorem dX10_sign_99 : decode cX10_sign 99 = .ok (.aload_n 0, 1) := dk_42 (dk_at dksX10_sign_4 5 rfl rfl)
theorem dX10_sign_100 : decode cX10_sign 100 = .ok (.iload 8, 2) := dk_21 8 (dk_at dksX10_sign_4 6 rfl rfl)
theorem dX10_sign_102 : decode cX10_sign 102 = .ok (.invokevirtual 13, 3) := dk_182 0 13 (dk_at dksX10_sign_4 8 rfl rfl)
theorem dX10_sign_105 : decode cX10_sign 105 = .ok (.imul, 1) := dk_104 (dk_at dksX10_sign_4 11 rfl rfl)
theorem dX10_sign_106 : decode cX10_sign 106 = .ok (.ireturn, 1) := dk_172 (dk_at dksX10_sign_4 12 rfl rfl)
theorem dX10_sign_107 : decode cX10_sign 107 = .ok (.aload_n 1, 1) := dk_43 (dk_at dksX10_sign_4 13 rfl rfl)
theorem dX10_sign_108 : decode cX10_sign 108 = .ok (.iload 5, 2) := dk_21 5 (dk_at dksX10_sign_4 14 rfl rfl)
theorem dX10_sign_110 : decode cX10_sign 110 = .ok (.invokevirtual 17, 3) := dk_182 0 17 (dk_at dksX10_sign_4 16 rfl rfl)
theorem dX10_sign_113 : decode cX10_sign 113 = .ok (.checkcast 23, 3) := dk_192 0 23 (dk_at dksX10_sign_4 19 rfl rfl)
theorem dX10_sign_116 : decode cX10_sign 116 = .ok (.invokevirtual 25, 3) := dk_182 0 25 (dk_at dksX10_sign_5 0 rfl rfl)
theorem dX10_sign_119 : decode cX10_sign 119 = .ok (.aload_n 0, 1) := dk_42 (dk_at dksX10_sign_5 3 rfl rfl)
theorem dX10_sign_120 : decode cX10_sign 120 = .ok (.aload_n 1, 1) := dk_43 (dk_at dksX10_sign_5 4 rfl rfl)
theorem dX10_sign_121 : decode cX10_sign 121 = .ok (.iload 5, 2) := dk_21 5 (dk_at dksX10_sign_5 5 rfl rfl)
theorem dX10_sign_123 : decode cX10_sign 123 = .ok (.iload 8, 2) := dk_21 8 (dk_at dksX10_sign_5 7 rfl rfl)
theorem dX10_sign_125 : decode cX10_sign 125 = .ok (.iload 7, 2) := dk_21 7 (dk_at dksX10_sign_5 9 rfl rfl)
theorem dX10_sign_127 : decode cX10_sign 127 = .ok (.invokevirtual 7, 3) := dk_182 0 7 (dk_at dksX10_sign_5 11 rfl rfl)
theorem dX10_sign_130 : decode cX10_sign 130 = .ok (.imul, 1) := dk_104 (dk_at dksX10_sign_5 14 rfl rfl)
theorem dX10_sign_131 : decode cX10_sign 131 = .ok (.aload_n 0, 1) := dk_42 (dk_at dksX10_sign_5 15 rfl rfl)
theorem dX10_sign_132 : decode cX10_sign 132 = .ok (.iload 8, 2) := dk_21 8 (dk_at dksX10_sign_5 16 rfl rfl)
theorem dX10_sign_134 : decode cX10_sign 134 = .ok (.invokevirtual 13, 3) := dk_182 0 13 (dk_at dksX10_sign_5 18 rfl rfl)
theorem dX10_sign_137 : decode cX10_sign 137 = .ok (.imul, 1) := dk_104 (dk_at dksX10_sign_5 21 rfl rfl)
theorem dX10_sign_138 : decode cX10_sign 138 = .ok (.ireturn, 1) := dk_172 (dk_at dksX10_sign_5 22 rfl rfl)
theorem q337 : (Jvm.Cond.selects "Versorhall$Kind$1" ({ cls := "Versorhall$Kind", name := "turned", desc := "(I)I" } : Jvm.MethodName) ({ cls := "Versorhall$Kind$1", name := "turned", desc := "(I)I" } : Jvm.MethodName)) ∈ lw_all := lw_g (lw_at lw_m2 36 rfl) rfl
theorem q338 : (Jvm.Cond.instanceMethod ({ cls := "Versorhall$Kind$1", name := "turned", desc := "(I)I" } : Jvm.MethodName)) ∈ lw_all := lw_g (lw_at lw_m2 37 rfl) rfl
theorem q339 : (Jvm.Cond.code ({ cls := "Versorhall$Kind$1", name := "turned", desc := "(I)I" } : Jvm.MethodName) prog_6_method_3_code (2 : Nat) (Option.some Jvm.ClassFile.FieldType.int)) ∈ lw_all := lw_g (lw_at lw_m2 38 rfl) rfl
theorem q389 : (Jvm.Cond.selects "Versorhall$Kind$1" ({ cls := "Versorhall$Kind", name := "ordinal", desc := "()I" } : Jvm.MethodName) ({ cls := "java/lang/Enum", name := "ordinal", desc := "()I" } : Jvm.MethodName)) ∈ lw_all := lw_g (lw_at lw_m2 88 rfl) rfl
theorem q471 : (Jvm.Cond.selects "Versorhall$Kind$1" ({ cls := "java/lang/Object", name := "equals", desc := "(Ljava/lang/Object;)Z" } : Jvm.MethodName) ({ cls := "java/lang/Enum", name := "equals", desc := "(Ljava/lang/Object;)Z" } : Jvm.MethodName)) ∈ lw_all := lw_g (lw_at lw_m2 170 rfl) rfl
theorem q1004 : (Jvm.Cond.selects "Versorhall$Kind$1" ({ cls := "java/lang/Object", name := "getClass", desc := "()Ljava/lang/Class;" } : Jvm.MethodName) ({ cls := "java/lang/Object", name := "getClass", desc := "()Ljava/lang/Class;" } : Jvm.MethodName)) ∈ lw_all := lw_g (lw_at lw_m4 223 rfl) rfl
theorem q1110 : (Jvm.Cond.selects "Versorhall$Kind$1" ({ cls := "Versorhall$Kind", name := "sign", desc := "(Ljava/util/ArrayList;III)I" } : Jvm.MethodName) ({ cls := "Versorhall$Kind$1", name := "sign", desc := "(Ljava/util/ArrayList;III)I" } : Jvm.MethodName)) ∈ lw_all := lw_g (lw_at lw_m5 89 rfl) rfl
theorem q1111 : (Jvm.Cond.instanceMethod ({ cls := "Versorhall$Kind$1", name := "sign", desc := "(Ljava/util/ArrayList;III)I" } : Jvm.MethodName)) ∈ lw_all := lw_g (lw_at lw_m5 90 rfl) rfl
theorem q1112 : (Jvm.Cond.code ({ cls := "Versorhall$Kind$1", name := "sign", desc := "(Ljava/util/ArrayList;III)I" } : Jvm.MethodName) prog_6_method_2_code (9 : Nat) (Option.some Jvm.ClassFile.FieldType.int)) ∈ lw_all := lw_g (lw_at lw_m5 91 rfl) rfl
theorem q1113 : (Jvm.Cond.methodLink "Versorhall$Kind$1" (7 : Nat) ({ cls := "Versorhall$Kind$1", name := "sign", desc := "(Ljava/util/ArrayList;III)I" } : Jvm.MethodName)) ∈ lw_all := lw_g (lw_at lw_m5 92 rfl) rfl
theorem q1114 : (Jvm.Cond.methodLink "Versorhall$Kind$1" (13 : Nat) ({ cls := "Versorhall$Kind$1", name := "turned", desc := "(I)I" } : Jvm.MethodName)) ∈ lw_all := lw_g (lw_at lw_m5 93 rfl) rfl
theorem q1115 : (Jvm.Cond.methodLink "Versorhall$Kind$1" (17 : Nat) ({ cls := "java/util/ArrayList", name := "get", desc := "(I)Ljava/lang/Object;" } : Jvm.MethodName)) ∈ lw_all := lw_g (lw_at lw_m5 94 rfl) rfl
theorem q1116 : (Jvm.Cond.classLink "Versorhall$Kind$1" (23 : Nat) "java/lang/Integer") ∈ lw_all := lw_g (lw_at lw_m5 95 rfl) rfl
theorem q1117 : (Jvm.Cond.methodLink "Versorhall$Kind$1" (25 : Nat) ({ cls := "java/lang/Integer", name := "intValue", desc := "()I" } : Jvm.MethodName)) ∈ lw_all := lw_g (lw_at lw_m5 96 rfl) rfl
theorem q1285 : (Jvm.Cond.selects "Versorhall$Kind$1" ({ cls := "java/lang/Object", name := "notifyAll", desc := "()V" } : Jvm.MethodName) ({ cls := "java/lang/Object", name := "notifyAll", desc := "()V" } : Jvm.MethodName)) ∈ lw_all := lw_g (lw_at lw_m6 24 rfl) rfl
theorem q1335 : (Jvm.Cond.selects "Versorhall$Kind$1" ({ cls := "java/lang/Object", name := "notify", desc := "()V" } : Jvm.MethodName) ({ cls := "java/lang/Object", name := "notify", desc := "()V" } : Jvm.MethodName)) ∈ lw_all := lw_g (lw_at lw_m6 74 rfl) rfl
theorem q1958 : (Jvm.Cond.selects "Versorhall$Kind$1" ({ cls := "Versorhall$Kind$1", name := "sign", desc := "(Ljava/util/ArrayList;III)I" } : Jvm.MethodName) ({ cls := "Versorhall$Kind$1", name := "sign", desc := "(Ljava/util/ArrayList;III)I" } : Jvm.MethodName)) ∈ lw_all := lw_g (lw_at lw_m8 217 rfl) rfl
theorem q1959 : (Jvm.Cond.selects "Versorhall$Kind$1" ({ cls := "Versorhall$Kind$1", name := "turned", desc := "(I)I" } : Jvm.MethodName) ({ cls := "Versorhall$Kind$1", name := "turned", desc := "(I)I" } : Jvm.MethodName)) ∈ lw_all := lw_g (lw_at lw_m8 218 rfl) rfl
theorem q1972 : (Jvm.Cond.castable "Versorhall$Kind$1" "java/lang/Object") ∈ lw_tbl := lw_at lw_m8 231 rfl
/-! Versorhall$Kind$2 -/
set_option maxRecDepth 100000
def RX11 : String := "Versorhall$Kind$2"
abbrev cX11_turned : ByteArray := prog_7_method_3_code
def yX11_turned : MethodName := ⟨RX11, "turned", "(I)I"⟩
def dkwX11_turned_0 : List UInt8 := [4, 5, 27, 184, 0, 7, 7, 112, 184, 0, 23, 153, 0, 7, 2, 167, 0, 4, 4, 172]
abbrev dktX11_turned_0 : List UInt8 := dkwX11_turned_0 ++ []
theorem dksX11_turned_0 : cX11_turned.data.toList.drop 0 = dktX11_turned_0 := by decide +kernel
theorem dX11_turned_0 : decode cX11_turned 0 = .ok (.iconst 1, 1) := dk_4 (dk_at dksX11_turned_0 0 rfl rfl)
theorem dX11_turned_1 : decode cX11_turned 1 = .ok (.iconst 2, 1) := dk_5 (dk_at dksX11_turned_0 1 rfl rfl)
theorem dX11_turned_2 : decode cX11_turned 2 = .ok (.iload_n 1, 1) := dk_27 (dk_at dksX11_turned_0 2 rfl rfl)
theorem dX11_turned_3 : decode cX11_turned 3 = .ok (.invokestatic 7, 3) := dk_184 0 7 (dk_at dksX11_turned_0 3 rfl rfl)
theorem dX11_turned_6 : decode cX11_turned 6 = .ok (.iconst 4, 1) := dk_7 (dk_at dksX11_turned_0 6 rfl rfl)
theorem dX11_turned_7 : decode cX11_turned 7 = .ok (.irem, 1) := dk_112 (dk_at dksX11_turned_0 7 rfl rfl)
theorem dX11_turned_8 : decode cX11_turned 8 = .ok (.invokestatic 23, 3) := dk_184 0 23 (dk_at dksX11_turned_0 8 rfl rfl)
theorem dX11_turned_11 : decode cX11_turned 11 = .ok (.ifCond .eq 7, 3) := dk_153 0 7 (dk_at dksX11_turned_0 11 rfl rfl)
theorem dX11_turned_14 : decode cX11_turned 14 = .ok (.iconst (-1), 1) := dk_2 (dk_at dksX11_turned_0 14 rfl rfl)
theorem dX11_turned_15 : decode cX11_turned 15 = .ok (.goto 4, 3) := dk_167 0 4 (dk_at dksX11_turned_0 15 rfl rfl)
theorem dX11_turned_18 : decode cX11_turned 18 = .ok (.iconst 1, 1) := dk_4 (dk_at dksX11_turned_0 18 rfl rfl)
theorem dX11_turned_19 : decode cX11_turned 19 = .ok (.ireturn, 1) := dk_172 (dk_at dksX11_turned_0 19 rfl rfl)
abbrev cX11_sign : ByteArray := prog_7_method_2_code
def yX11_sign : MethodName := ⟨RX11, "sign", "(Ljava/util/ArrayList;III)I"⟩
def dkwX11_sign_3 : List UInt8 := [182, 0, 19, 104, 54, 5, 132, 6, 1, 167, 255, 184, 21, 5, 172]
abbrev dktX11_sign_3 : List UInt8 := dkwX11_sign_3 ++ []
def dkwX11_sign_2 : List UInt8 := [21, 4, 21, 6, 122, 4, 126, 4, 160, 0, 20, 21, 5, 43, 21, 6, 182, 0, 13, 192, 0, 8]
abbrev dktX11_sign_2 : List UInt8 := dkwX11_sign_2 ++ dktX11_sign_3
def dkwX11_sign_1 : List UInt8 := [21, 4, 4, 21, 6, 120, 4, 100, 126, 184, 0, 7, 5, 112, 4, 160, 0, 8, 21, 5, 116, 54, 5]
abbrev dktX11_sign_1 : List UInt8 := dkwX11_sign_1 ++ dktX11_sign_2
def dkwX11_sign_0 : List UInt8 := [4, 54, 5, 3, 54, 6, 21, 6, 28, 162, 0, 72, 29, 21, 6, 122, 4, 126, 154, 0, 6, 167, 0, 54]
abbrev dktX11_sign_0 : List UInt8 := dkwX11_sign_0 ++ dktX11_sign_1
theorem dksX11_sign_0 : cX11_sign.data.toList.drop 0 = dktX11_sign_0 := by decide +kernel
theorem dksX11_sign_1 : cX11_sign.data.toList.drop 24 = dktX11_sign_1 := dk_seg dksX11_sign_0 24 rfl rfl
theorem dksX11_sign_2 : cX11_sign.data.toList.drop 47 = dktX11_sign_2 := dk_seg dksX11_sign_1 23 rfl rfl
theorem dksX11_sign_3 : cX11_sign.data.toList.drop 69 = dktX11_sign_3 := dk_seg dksX11_sign_2 22 rfl rfl
theorem dX11_sign_0 : decode cX11_sign 0 = .ok (.iconst 1, 1) := dk_4 (dk_at dksX11_sign_0 0 rfl rfl)
theorem dX11_sign_1 : decode cX11_sign 1 = .ok (.istore 5, 2) := dk_54 5 (dk_at dksX11_sign_0 1 rfl rfl)
theorem dX11_sign_3 : decode cX11_sign 3 = .ok (.iconst 0, 1) := dk_3 (dk_at dksX11_sign_0 3 rfl rfl)
theorem dX11_sign_4 : decode cX11_sign 4 = .ok (.istore 6, 2) := dk_54 6 (dk_at dksX11_sign_0 4 rfl rfl)
theorem dX11_sign_6 : decode cX11_sign 6 = .ok (.iload 6, 2) := dk_21 6 (dk_at dksX11_sign_0 6 rfl rfl)
theorem dX11_sign_8 : decode cX11_sign 8 = .ok (.iload_n 2, 1) := dk_28 (dk_at dksX11_sign_0 8 rfl rfl)
theorem dX11_sign_9 : decode cX11_sign 9 = .ok (.if_icmp .ge 72, 3) := dk_162 0 72 (dk_at dksX11_sign_0 9 rfl rfl)
theorem dX11_sign_12 : decode cX11_sign 12 = .ok (.iload_n 3, 1) := dk_29 (dk_at dksX11_sign_0 12 rfl rfl)
theorem dX11_sign_13 : decode cX11_sign 13 = .ok (.iload 6, 2) := dk_21 6 (dk_at dksX11_sign_0 13 rfl rfl)
theorem dX11_sign_15 : decode cX11_sign 15 = .ok (.ishr, 1) := dk_122 (dk_at dksX11_sign_0 15 rfl rfl)
theorem dX11_sign_16 : decode cX11_sign 16 = .ok (.iconst 1, 1) := dk_4 (dk_at dksX11_sign_0 16 rfl rfl)
theorem dX11_sign_17 : decode cX11_sign 17 = .ok (.iand, 1) := dk_126 (dk_at dksX11_sign_0 17 rfl rfl)
theorem dX11_sign_18 : decode cX11_sign 18 = .ok (.ifCond .ne 6, 3) := dk_154 0 6 (dk_at dksX11_sign_0 18 rfl rfl)
theorem dX11_sign_21 : decode cX11_sign 21 = .ok (.goto 54, 3) := dk_167 0 54 (dk_at dksX11_sign_0 21 rfl rfl)
theorem dX11_sign_24 : decode cX11_sign 24 = .ok (.iload 4, 2) := dk_21 4 (dk_at dksX11_sign_1 0 rfl rfl)
theorem dX11_sign_26 : decode cX11_sign 26 = .ok (.iconst 1, 1) := dk_4 (dk_at dksX11_sign_1 2 rfl rfl)
theorem dX11_sign_27 : decode cX11_sign 27 = .ok (.iload 6, 2) := dk_21 6 (dk_at dksX11_sign_1 3 rfl rfl)
theorem dX11_sign_29 : decode cX11_sign 29 = .ok (.ishl, 1) := dk_120 (dk_at dksX11_sign_1 5 rfl rfl)
theorem dX11_sign_30 : decode cX11_sign 30 = .ok (.iconst 1, 1) := dk_4 (dk_at dksX11_sign_1 6 rfl rfl)
theorem dX11_sign_31 : decode cX11_sign 31 = .ok (.isub, 1) := dk_100 (dk_at dksX11_sign_1 7 rfl rfl)
theorem dX11_sign_32 : decode cX11_sign 32 = .ok (.iand, 1) := dk_126 (dk_at dksX11_sign_1 8 rfl rfl)
theorem dX11_sign_33 : decode cX11_sign 33 = .ok (.invokestatic 7, 3) := dk_184 0 7 (dk_at dksX11_sign_1 9 rfl rfl)
theorem dX11_sign_36 : decode cX11_sign 36 = .ok (.iconst 2, 1) := dk_5 (dk_at dksX11_sign_1 12 rfl rfl)
theorem dX11_sign_37 : decode cX11_sign 37 = .ok (.irem, 1) := dk_112 (dk_at dksX11_sign_1 13 rfl rfl)
theorem dX11_sign_38 : decode cX11_sign 38 = .ok (.iconst 1, 1) := dk_4 (dk_at dksX11_sign_1 14 rfl rfl)
theorem dX11_sign_39 : decode cX11_sign 39 = .ok (.if_icmp .ne 8, 3) := dk_160 0 8 (dk_at dksX11_sign_1 15 rfl rfl)
theorem dX11_sign_42 : decode cX11_sign 42 = .ok (.iload 5, 2) := dk_21 5 (dk_at dksX11_sign_1 18 rfl rfl)
theorem dX11_sign_44 : decode cX11_sign 44 = .ok (.ineg, 1) := dk_116 (dk_at dksX11_sign_1 20 rfl rfl)
theorem dX11_sign_45 : decode cX11_sign 45 = .ok (.istore 5, 2) := dk_54 5 (dk_at dksX11_sign_1 21 rfl rfl)
theorem dX11_sign_47 : decode cX11_sign 47 = .ok (.iload 4, 2) := dk_21 4 (dk_at dksX11_sign_2 0 rfl rfl)
theorem dX11_sign_49 : decode cX11_sign 49 = .ok (.iload 6, 2) := dk_21 6 (dk_at dksX11_sign_2 2 rfl rfl)
theorem dX11_sign_51 : decode cX11_sign 51 = .ok (.ishr, 1) := dk_122 (dk_at dksX11_sign_2 4 rfl rfl)
theorem dX11_sign_52 : decode cX11_sign 52 = .ok (.iconst 1, 1) := dk_4 (dk_at dksX11_sign_2 5 rfl rfl)
theorem dX11_sign_53 : decode cX11_sign 53 = .ok (.iand, 1) := dk_126 (dk_at dksX11_sign_2 6 rfl rfl)
theorem dX11_sign_54 : decode cX11_sign 54 = .ok (.iconst 1, 1) := dk_4 (dk_at dksX11_sign_2 7 rfl rfl)
theorem dX11_sign_55 : decode cX11_sign 55 = .ok (.if_icmp .ne 20, 3) := dk_160 0 20 (dk_at dksX11_sign_2 8 rfl rfl)
theorem dX11_sign_58 : decode cX11_sign 58 = .ok (.iload 5, 2) := dk_21 5 (dk_at dksX11_sign_2 11 rfl rfl)
theorem dX11_sign_60 : decode cX11_sign 60 = .ok (.aload_n 1, 1) := dk_43 (dk_at dksX11_sign_2 13 rfl rfl)
theorem dX11_sign_61 : decode cX11_sign 61 = .ok (.iload 6, 2) := dk_21 6 (dk_at dksX11_sign_2 14 rfl rfl)
theorem dX11_sign_63 : decode cX11_sign 63 = .ok (.invokevirtual 13, 3) := dk_182 0 13 (dk_at dksX11_sign_2 16 rfl rfl)
theorem dX11_sign_66 : decode cX11_sign 66 = .ok (.checkcast 8, 3) := dk_192 0 8 (dk_at dksX11_sign_2 19 rfl rfl)
theorem dX11_sign_69 : decode cX11_sign 69 = .ok (.invokevirtual 19, 3) := dk_182 0 19 (dk_at dksX11_sign_3 0 rfl rfl)
theorem dX11_sign_72 : decode cX11_sign 72 = .ok (.imul, 1) := dk_104 (dk_at dksX11_sign_3 3 rfl rfl)
theorem dX11_sign_73 : decode cX11_sign 73 = .ok (.istore 5, 2) := dk_54 5 (dk_at dksX11_sign_3 4 rfl rfl)
theorem dX11_sign_75 : decode cX11_sign 75 = .ok (.iinc 6 1, 3) := dk_132 6 1 (dk_at dksX11_sign_3 6 rfl rfl)
theorem dX11_sign_78 : decode cX11_sign 78 = .ok (.goto (-72), 3) := dk_167 255 184 (dk_at dksX11_sign_3 9 rfl rfl)
theorem dX11_sign_81 : decode cX11_sign 81 = .ok (.iload 5, 2) := dk_21 5 (dk_at dksX11_sign_3 12 rfl rfl)
theorem dX11_sign_83 : decode cX11_sign 83 = .ok (.ireturn, 1) := dk_172 (dk_at dksX11_sign_3 14 rfl rfl)
theorem q340 : (Jvm.Cond.selects "Versorhall$Kind$2" ({ cls := "Versorhall$Kind", name := "turned", desc := "(I)I" } : Jvm.MethodName) ({ cls := "Versorhall$Kind$2", name := "turned", desc := "(I)I" } : Jvm.MethodName)) ∈ lw_all := lw_g (lw_at lw_m2 39 rfl) rfl
theorem q341 : (Jvm.Cond.instanceMethod ({ cls := "Versorhall$Kind$2", name := "turned", desc := "(I)I" } : Jvm.MethodName)) ∈ lw_all := lw_g (lw_at lw_m2 40 rfl) rfl
theorem q342 : (Jvm.Cond.code ({ cls := "Versorhall$Kind$2", name := "turned", desc := "(I)I" } : Jvm.MethodName) prog_7_method_3_code (2 : Nat) (Option.some Jvm.ClassFile.FieldType.int)) ∈ lw_all := lw_g (lw_at lw_m2 41 rfl) rfl
theorem q343 : (Jvm.Cond.methodLink "Versorhall$Kind$2" (7 : Nat) ({ cls := "java/lang/Integer", name := "bitCount", desc := "(I)I" } : Jvm.MethodName)) ∈ lw_all := lw_g (lw_at lw_m2 42 rfl) rfl
theorem q349 : (Jvm.Cond.methodLinkNest "Versorhall$Kind$2" (23 : Nat) ({ cls := "Versorhall", name := "isFrom", desc := "(III)Z" } : Jvm.MethodName) "Versorhall") ∈ lw_tbl := lw_at lw_m2 48 rfl
theorem q390 : (Jvm.Cond.selects "Versorhall$Kind$2" ({ cls := "Versorhall$Kind", name := "ordinal", desc := "()I" } : Jvm.MethodName) ({ cls := "java/lang/Enum", name := "ordinal", desc := "()I" } : Jvm.MethodName)) ∈ lw_all := lw_g (lw_at lw_m2 89 rfl) rfl
theorem q474 : (Jvm.Cond.selects "Versorhall$Kind$2" ({ cls := "java/lang/Object", name := "equals", desc := "(Ljava/lang/Object;)Z" } : Jvm.MethodName) ({ cls := "java/lang/Enum", name := "equals", desc := "(Ljava/lang/Object;)Z" } : Jvm.MethodName)) ∈ lw_all := lw_g (lw_at lw_m2 173 rfl) rfl
theorem q1005 : (Jvm.Cond.selects "Versorhall$Kind$2" ({ cls := "java/lang/Object", name := "getClass", desc := "()Ljava/lang/Class;" } : Jvm.MethodName) ({ cls := "java/lang/Object", name := "getClass", desc := "()Ljava/lang/Class;" } : Jvm.MethodName)) ∈ lw_all := lw_g (lw_at lw_m4 224 rfl) rfl
theorem q1118 : (Jvm.Cond.selects "Versorhall$Kind$2" ({ cls := "Versorhall$Kind", name := "sign", desc := "(Ljava/util/ArrayList;III)I" } : Jvm.MethodName) ({ cls := "Versorhall$Kind$2", name := "sign", desc := "(Ljava/util/ArrayList;III)I" } : Jvm.MethodName)) ∈ lw_all := lw_g (lw_at lw_m5 97 rfl) rfl
theorem q1119 : (Jvm.Cond.instanceMethod ({ cls := "Versorhall$Kind$2", name := "sign", desc := "(Ljava/util/ArrayList;III)I" } : Jvm.MethodName)) ∈ lw_all := lw_g (lw_at lw_m5 98 rfl) rfl
theorem q1120 : (Jvm.Cond.code ({ cls := "Versorhall$Kind$2", name := "sign", desc := "(Ljava/util/ArrayList;III)I" } : Jvm.MethodName) prog_7_method_2_code (7 : Nat) (Option.some Jvm.ClassFile.FieldType.int)) ∈ lw_all := lw_g (lw_at lw_m5 99 rfl) rfl
theorem q1121 : (Jvm.Cond.methodLink "Versorhall$Kind$2" (13 : Nat) ({ cls := "java/util/ArrayList", name := "get", desc := "(I)Ljava/lang/Object;" } : Jvm.MethodName)) ∈ lw_all := lw_g (lw_at lw_m5 100 rfl) rfl
theorem q1122 : (Jvm.Cond.classLink "Versorhall$Kind$2" (8 : Nat) "java/lang/Integer") ∈ lw_all := lw_g (lw_at lw_m5 101 rfl) rfl
theorem q1123 : (Jvm.Cond.methodLink "Versorhall$Kind$2" (19 : Nat) ({ cls := "java/lang/Integer", name := "intValue", desc := "()I" } : Jvm.MethodName)) ∈ lw_all := lw_g (lw_at lw_m5 102 rfl) rfl
theorem q1286 : (Jvm.Cond.selects "Versorhall$Kind$2" ({ cls := "java/lang/Object", name := "notifyAll", desc := "()V" } : Jvm.MethodName) ({ cls := "java/lang/Object", name := "notifyAll", desc := "()V" } : Jvm.MethodName)) ∈ lw_all := lw_g (lw_at lw_m6 25 rfl) rfl
theorem q1336 : (Jvm.Cond.selects "Versorhall$Kind$2" ({ cls := "java/lang/Object", name := "notify", desc := "()V" } : Jvm.MethodName) ({ cls := "java/lang/Object", name := "notify", desc := "()V" } : Jvm.MethodName)) ∈ lw_all := lw_g (lw_at lw_m6 75 rfl) rfl
theorem q1973 : (Jvm.Cond.castable "Versorhall$Kind$2" "java/lang/Object") ∈ lw_tbl := lw_at lw_m8 232 rfl
