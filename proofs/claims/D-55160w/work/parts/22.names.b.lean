/-! PaperStore$Store -/
set_option maxRecDepth 100000
def RX2 : String := "PaperStore$Store"
def TX2 : u_T := fun k => match k with
  | 0 => ("PaperStore$Store", "aisles", "[LPaperStore$Aisle;", true)
  | 1 => ("PaperStore$Store", "ladders", "Ljava/util/ArrayList;", true)
  | 2 => ("PaperStore$Store", "orders", "Ljava/util/ArrayList;", true)
  | 3 => ("PaperStore$Store", "carts", "Ljava/util/ArrayList;", true)
  | 4 => ("PaperStore$Store", "reams", "Ljava/util/ArrayList;", true)
  | 5 => ("PaperStore$Store", "sent", "Ljava/util/HashMap;", true)
  | 6 => ("PaperStore$Store", "quiresSent", "I", false)
  | 7 => ("PaperStore$Store", "lost", "I", false)
  | 8 => ("PaperStore$Store", "coins", "I", false)
  | _ => ("PaperStore$Store", "day", "I", false)
def tyX2 : Nat → FieldType := fun k => match k with
  | 0 => .array (.object "PaperStore$Aisle")
  | 1 => .object "java/util/ArrayList"
  | 2 => .object "java/util/ArrayList"
  | 3 => .object "java/util/ArrayList"
  | 4 => .object "java/util/ArrayList"
  | 5 => .object "java/util/HashMap"
  | 6 => .int
  | 7 => .int
  | 8 => .int
  | _ => .int
abbrev wsX20 : List Cond := u_ws RX2 TX2 10
theorem nmX2 : ∀ a, a < 10 → ∀ b, b < 10 → a ≠ b → (TX2 a).2.1 ≠ (TX2 b).2.1 := by decide +kernel
theorem tyX2_ok : ∀ k, k < 10 → parseFieldDescriptor (TX2 k).2.2.1 = some (tyX2 k) := by decide +kernel
abbrev cX2_init : ByteArray := prog_13_method_1_code
def yX2_init : MethodName := ⟨RX2, "<init>", "()V"⟩
def dkwX2_init_3 : List UInt8 := [8, 162, 0, 22, 42, 180, 0, 11, 27, 187, 0, 9, 89, 183, 0, 40, 83, 132, 1, 1, 167, 255, 235, 177]
abbrev dktX2_init_3 : List UInt8 := dkwX2_init_3 ++ []
def dkwX2_init_2 : List UInt8 := [187, 0, 17, 89, 183, 0, 19, 181, 0, 30, 42, 187, 0, 33, 89, 183, 0, 35, 181, 0, 36, 3, 60, 27]
abbrev dktX2_init_2 : List UInt8 := dkwX2_init_2 ++ dktX2_init_3
def dkwX2_init_1 : List UInt8 := [187, 0, 17, 89, 183, 0, 19, 181, 0, 24, 42, 187, 0, 17, 89, 183, 0, 19, 181, 0, 27, 42]
abbrev dktX2_init_1 : List UInt8 := dkwX2_init_1 ++ dktX2_init_2
def dkwX2_init_0 : List UInt8 := [42, 183, 0, 3, 42, 8, 189, 0, 9, 181, 0, 11, 42, 187, 0, 17, 89, 183, 0, 19, 181, 0, 20, 42]
abbrev dktX2_init_0 : List UInt8 := dkwX2_init_0 ++ dktX2_init_1
theorem dksX2_init_0 : cX2_init.data.toList.drop 0 = dktX2_init_0 := by decide +kernel
theorem dksX2_init_1 : cX2_init.data.toList.drop 24 = dktX2_init_1 := dk_seg dksX2_init_0 24 rfl rfl
theorem dksX2_init_2 : cX2_init.data.toList.drop 46 = dktX2_init_2 := dk_seg dksX2_init_1 22 rfl rfl
theorem dksX2_init_3 : cX2_init.data.toList.drop 70 = dktX2_init_3 := dk_seg dksX2_init_2 24 rfl rfl
theorem dX2_init_0 : decode cX2_init 0 = .ok (.aload_n 0, 1) := dk_42 (dk_at dksX2_init_0 0 rfl rfl)
theorem dX2_init_1 : decode cX2_init 1 = .ok (.invokespecial 3, 3) := dk_183 0 3 (dk_at dksX2_init_0 1 rfl rfl)
theorem dX2_init_4 : decode cX2_init 4 = .ok (.aload_n 0, 1) := dk_42 (dk_at dksX2_init_0 4 rfl rfl)
theorem dX2_init_5 : decode cX2_init 5 = .ok (.iconst 5, 1) := dk_8 (dk_at dksX2_init_0 5 rfl rfl)
theorem dX2_init_6 : decode cX2_init 6 = .ok (.anewarray 9, 3) := dk_189 0 9 (dk_at dksX2_init_0 6 rfl rfl)
theorem dX2_init_9 : decode cX2_init 9 = .ok (.putfield 11, 3) := dk_181 0 11 (dk_at dksX2_init_0 9 rfl rfl)
theorem dX2_init_12 : decode cX2_init 12 = .ok (.aload_n 0, 1) := dk_42 (dk_at dksX2_init_0 12 rfl rfl)
theorem dX2_init_13 : decode cX2_init 13 = .ok (.new 17, 3) := dk_187 0 17 (dk_at dksX2_init_0 13 rfl rfl)
theorem dX2_init_16 : decode cX2_init 16 = .ok (.dup, 1) := dk_89 (dk_at dksX2_init_0 16 rfl rfl)
theorem dX2_init_17 : decode cX2_init 17 = .ok (.invokespecial 19, 3) := dk_183 0 19 (dk_at dksX2_init_0 17 rfl rfl)
theorem dX2_init_20 : decode cX2_init 20 = .ok (.putfield 20, 3) := dk_181 0 20 (dk_at dksX2_init_0 20 rfl rfl)
theorem dX2_init_23 : decode cX2_init 23 = .ok (.aload_n 0, 1) := dk_42 (dk_at dksX2_init_0 23 rfl rfl)
theorem dX2_init_24 : decode cX2_init 24 = .ok (.new 17, 3) := dk_187 0 17 (dk_at dksX2_init_1 0 rfl rfl)
theorem dX2_init_27 : decode cX2_init 27 = .ok (.dup, 1) := dk_89 (dk_at dksX2_init_1 3 rfl rfl)
theorem dX2_init_28 : decode cX2_init 28 = .ok (.invokespecial 19, 3) := dk_183 0 19 (dk_at dksX2_init_1 4 rfl rfl)
theorem dX2_init_31 : decode cX2_init 31 = .ok (.putfield 24, 3) := dk_181 0 24 (dk_at dksX2_init_1 7 rfl rfl)
theorem dX2_init_34 : decode cX2_init 34 = .ok (.aload_n 0, 1) := dk_42 (dk_at dksX2_init_1 10 rfl rfl)
theorem dX2_init_35 : decode cX2_init 35 = .ok (.new 17, 3) := dk_187 0 17 (dk_at dksX2_init_1 11 rfl rfl)
theorem dX2_init_38 : decode cX2_init 38 = .ok (.dup, 1) := dk_89 (dk_at dksX2_init_1 14 rfl rfl)
theorem dX2_init_39 : decode cX2_init 39 = .ok (.invokespecial 19, 3) := dk_183 0 19 (dk_at dksX2_init_1 15 rfl rfl)
theorem dX2_init_42 : decode cX2_init 42 = .ok (.putfield 27, 3) := dk_181 0 27 (dk_at dksX2_init_1 18 rfl rfl)
theorem dX2_init_45 : decode cX2_init 45 = .ok (.aload_n 0, 1) := dk_42 (dk_at dksX2_init_1 21 rfl rfl)
theorem dX2_init_46 : decode cX2_init 46 = .ok (.new 17, 3) := dk_187 0 17 (dk_at dksX2_init_2 0 rfl rfl)
theorem dX2_init_49 : decode cX2_init 49 = .ok (.dup, 1) := dk_89 (dk_at dksX2_init_2 3 rfl rfl)
theorem dX2_init_50 : decode cX2_init 50 = .ok (.invokespecial 19, 3) := dk_183 0 19 (dk_at dksX2_init_2 4 rfl rfl)
theorem dX2_init_53 : decode cX2_init 53 = .ok (.putfield 30, 3) := dk_181 0 30 (dk_at dksX2_init_2 7 rfl rfl)
theorem dX2_init_56 : decode cX2_init 56 = .ok (.aload_n 0, 1) := dk_42 (dk_at dksX2_init_2 10 rfl rfl)
theorem dX2_init_57 : decode cX2_init 57 = .ok (.new 33, 3) := dk_187 0 33 (dk_at dksX2_init_2 11 rfl rfl)
theorem dX2_init_60 : decode cX2_init 60 = .ok (.dup, 1) := dk_89 (dk_at dksX2_init_2 14 rfl rfl)
theorem dX2_init_61 : decode cX2_init 61 = .ok (.invokespecial 35, 3) := dk_183 0 35 (dk_at dksX2_init_2 15 rfl rfl)
theorem dX2_init_64 : decode cX2_init 64 = .ok (.putfield 36, 3) := dk_181 0 36 (dk_at dksX2_init_2 18 rfl rfl)
theorem dX2_init_67 : decode cX2_init 67 = .ok (.iconst 0, 1) := dk_3 (dk_at dksX2_init_2 21 rfl rfl)
theorem dX2_init_68 : decode cX2_init 68 = .ok (.istore_n 1, 1) := dk_60 (dk_at dksX2_init_2 22 rfl rfl)
theorem dX2_init_69 : decode cX2_init 69 = .ok (.iload_n 1, 1) := dk_27 (dk_at dksX2_init_2 23 rfl rfl)
theorem dX2_init_70 : decode cX2_init 70 = .ok (.iconst 5, 1) := dk_8 (dk_at dksX2_init_3 0 rfl rfl)
theorem dX2_init_71 : decode cX2_init 71 = .ok (.if_icmp .ge 22, 3) := dk_162 0 22 (dk_at dksX2_init_3 1 rfl rfl)
theorem dX2_init_74 : decode cX2_init 74 = .ok (.aload_n 0, 1) := dk_42 (dk_at dksX2_init_3 4 rfl rfl)
theorem dX2_init_75 : decode cX2_init 75 = .ok (.getfield 11, 3) := dk_180 0 11 (dk_at dksX2_init_3 5 rfl rfl)
theorem dX2_init_78 : decode cX2_init 78 = .ok (.iload_n 1, 1) := dk_27 (dk_at dksX2_init_3 8 rfl rfl)
theorem dX2_init_79 : decode cX2_init 79 = .ok (.new 9, 3) := dk_187 0 9 (dk_at dksX2_init_3 9 rfl rfl)
theorem dX2_init_82 : decode cX2_init 82 = .ok (.dup, 1) := dk_89 (dk_at dksX2_init_3 12 rfl rfl)
theorem dX2_init_83 : decode cX2_init 83 = .ok (.invokespecial 40, 3) := dk_183 0 40 (dk_at dksX2_init_3 13 rfl rfl)
theorem dX2_init_86 : decode cX2_init 86 = .ok (.aastore, 1) := dk_83 (dk_at dksX2_init_3 16 rfl rfl)
theorem dX2_init_87 : decode cX2_init 87 = .ok (.iinc 1 1, 3) := dk_132 1 1 (dk_at dksX2_init_3 17 rfl rfl)
theorem dX2_init_90 : decode cX2_init 90 = .ok (.goto (-21), 3) := dk_167 255 235 (dk_at dksX2_init_3 20 rfl rfl)
theorem dX2_init_93 : decode cX2_init 93 = .ok (.return_, 1) := dk_177 (dk_at dksX2_init_3 23 rfl rfl)
abbrev cX2_lying : ByteArray := prog_13_method_6_code
def yX2_lying : MethodName := ⟨RX2, "lying", "()Ljava/util/List;"⟩
def dkwX2_lying_2 : List UInt8 := [167, 255, 231, 43, 176]
abbrev dktX2_lying_2 : List UInt8 := dkwX2_lying_2 ++ []
def dkwX2_lying_1 : List UInt8 := [162, 0, 25, 44, 21, 4, 50, 58, 5, 43, 25, 5, 182, 0, 50, 182, 0, 42, 87, 132, 4, 1]
abbrev dktX2_lying_1 : List UInt8 := dkwX2_lying_1 ++ dktX2_lying_2
def dkwX2_lying_0 : List UInt8 := [187, 0, 17, 89, 183, 0, 19, 76, 42, 180, 0, 11, 77, 44, 190, 62, 3, 54, 4, 21, 4, 29]
abbrev dktX2_lying_0 : List UInt8 := dkwX2_lying_0 ++ dktX2_lying_1
theorem dksX2_lying_0 : cX2_lying.data.toList.drop 0 = dktX2_lying_0 := by decide +kernel
theorem dksX2_lying_1 : cX2_lying.data.toList.drop 22 = dktX2_lying_1 := dk_seg dksX2_lying_0 22 rfl rfl
theorem dksX2_lying_2 : cX2_lying.data.toList.drop 44 = dktX2_lying_2 := dk_seg dksX2_lying_1 22 rfl rfl
theorem dX2_lying_0 : decode cX2_lying 0 = .ok (.new 17, 3) := dk_187 0 17 (dk_at dksX2_lying_0 0 rfl rfl)
theorem dX2_lying_3 : decode cX2_lying 3 = .ok (.dup, 1) := dk_89 (dk_at dksX2_lying_0 3 rfl rfl)
theorem dX2_lying_4 : decode cX2_lying 4 = .ok (.invokespecial 19, 3) := dk_183 0 19 (dk_at dksX2_lying_0 4 rfl rfl)
theorem dX2_lying_7 : decode cX2_lying 7 = .ok (.astore_n 1, 1) := dk_76 (dk_at dksX2_lying_0 7 rfl rfl)
theorem dX2_lying_8 : decode cX2_lying 8 = .ok (.aload_n 0, 1) := dk_42 (dk_at dksX2_lying_0 8 rfl rfl)
theorem dX2_lying_9 : decode cX2_lying 9 = .ok (.getfield 11, 3) := dk_180 0 11 (dk_at dksX2_lying_0 9 rfl rfl)
theorem dX2_lying_12 : decode cX2_lying 12 = .ok (.astore_n 2, 1) := dk_77 (dk_at dksX2_lying_0 12 rfl rfl)
theorem dX2_lying_13 : decode cX2_lying 13 = .ok (.aload_n 2, 1) := dk_44 (dk_at dksX2_lying_0 13 rfl rfl)
theorem dX2_lying_14 : decode cX2_lying 14 = .ok (.arraylength, 1) := dk_190 (dk_at dksX2_lying_0 14 rfl rfl)
theorem dX2_lying_15 : decode cX2_lying 15 = .ok (.istore_n 3, 1) := dk_62 (dk_at dksX2_lying_0 15 rfl rfl)
theorem dX2_lying_16 : decode cX2_lying 16 = .ok (.iconst 0, 1) := dk_3 (dk_at dksX2_lying_0 16 rfl rfl)
theorem dX2_lying_17 : decode cX2_lying 17 = .ok (.istore 4, 2) := dk_54 4 (dk_at dksX2_lying_0 17 rfl rfl)
theorem dX2_lying_19 : decode cX2_lying 19 = .ok (.iload 4, 2) := dk_21 4 (dk_at dksX2_lying_0 19 rfl rfl)
theorem dX2_lying_21 : decode cX2_lying 21 = .ok (.iload_n 3, 1) := dk_29 (dk_at dksX2_lying_0 21 rfl rfl)
theorem dX2_lying_22 : decode cX2_lying 22 = .ok (.if_icmp .ge 25, 3) := dk_162 0 25 (dk_at dksX2_lying_1 0 rfl rfl)
theorem dX2_lying_25 : decode cX2_lying 25 = .ok (.aload_n 2, 1) := dk_44 (dk_at dksX2_lying_1 3 rfl rfl)
theorem dX2_lying_26 : decode cX2_lying 26 = .ok (.iload 4, 2) := dk_21 4 (dk_at dksX2_lying_1 4 rfl rfl)
theorem dX2_lying_28 : decode cX2_lying 28 = .ok (.aaload, 1) := dk_50 (dk_at dksX2_lying_1 6 rfl rfl)
theorem dX2_lying_29 : decode cX2_lying 29 = .ok (.astore 5, 2) := dk_58 5 (dk_at dksX2_lying_1 7 rfl rfl)
theorem dX2_lying_31 : decode cX2_lying 31 = .ok (.aload_n 1, 1) := dk_43 (dk_at dksX2_lying_1 9 rfl rfl)
theorem dX2_lying_32 : decode cX2_lying 32 = .ok (.aload 5, 2) := dk_25 5 (dk_at dksX2_lying_1 10 rfl rfl)
theorem dX2_lying_34 : decode cX2_lying 34 = .ok (.invokevirtual 50, 3) := dk_182 0 50 (dk_at dksX2_lying_1 12 rfl rfl)
theorem dX2_lying_37 : decode cX2_lying 37 = .ok (.invokevirtual 42, 3) := dk_182 0 42 (dk_at dksX2_lying_1 15 rfl rfl)
theorem dX2_lying_40 : decode cX2_lying 40 = .ok (.pop, 1) := dk_87 (dk_at dksX2_lying_1 18 rfl rfl)
theorem dX2_lying_41 : decode cX2_lying 41 = .ok (.iinc 4 1, 3) := dk_132 4 1 (dk_at dksX2_lying_1 19 rfl rfl)
theorem dX2_lying_44 : decode cX2_lying 44 = .ok (.goto (-25), 3) := dk_167 255 231 (dk_at dksX2_lying_2 0 rfl rfl)
theorem dX2_lying_47 : decode cX2_lying 47 = .ok (.aload_n 1, 1) := dk_43 (dk_at dksX2_lying_2 3 rfl rfl)
theorem dX2_lying_48 : decode cX2_lying 48 = .ok (.areturn, 1) := dk_176 (dk_at dksX2_lying_2 4 rfl rfl)
abbrev cX2_onCarts : ByteArray := prog_13_method_9_code
def yX2_onCarts : MethodName := ⟨RX2, "onCarts", "()I"⟩
def dkwX2_onCarts_1 : List UInt8 := [185, 0, 65, 1, 0, 192, 0, 100, 78, 27, 45, 180, 0, 150, 96, 60, 167, 255, 230, 27, 172]
abbrev dktX2_onCarts_1 : List UInt8 := dkwX2_onCarts_1 ++ []
def dkwX2_onCarts_0 : List UInt8 := [3, 60, 42, 180, 0, 27, 182, 0, 79, 77, 44, 185, 0, 59, 1, 0, 153, 0, 23, 44]
abbrev dktX2_onCarts_0 : List UInt8 := dkwX2_onCarts_0 ++ dktX2_onCarts_1
theorem dksX2_onCarts_0 : cX2_onCarts.data.toList.drop 0 = dktX2_onCarts_0 := by decide +kernel
theorem dksX2_onCarts_1 : cX2_onCarts.data.toList.drop 20 = dktX2_onCarts_1 := dk_seg dksX2_onCarts_0 20 rfl rfl
theorem dX2_onCarts_0 : decode cX2_onCarts 0 = .ok (.iconst 0, 1) := dk_3 (dk_at dksX2_onCarts_0 0 rfl rfl)
theorem dX2_onCarts_1 : decode cX2_onCarts 1 = .ok (.istore_n 1, 1) := dk_60 (dk_at dksX2_onCarts_0 1 rfl rfl)
theorem dX2_onCarts_2 : decode cX2_onCarts 2 = .ok (.aload_n 0, 1) := dk_42 (dk_at dksX2_onCarts_0 2 rfl rfl)
theorem dX2_onCarts_3 : decode cX2_onCarts 3 = .ok (.getfield 27, 3) := dk_180 0 27 (dk_at dksX2_onCarts_0 3 rfl rfl)
theorem dX2_onCarts_6 : decode cX2_onCarts 6 = .ok (.invokevirtual 79, 3) := dk_182 0 79 (dk_at dksX2_onCarts_0 6 rfl rfl)
theorem dX2_onCarts_9 : decode cX2_onCarts 9 = .ok (.astore_n 2, 1) := dk_77 (dk_at dksX2_onCarts_0 9 rfl rfl)
theorem dX2_onCarts_10 : decode cX2_onCarts 10 = .ok (.aload_n 2, 1) := dk_44 (dk_at dksX2_onCarts_0 10 rfl rfl)
theorem dX2_onCarts_11 : decode cX2_onCarts 11 = .ok (.invokeinterface 59 1, 5) := by decide +kernel
theorem dX2_onCarts_16 : decode cX2_onCarts 16 = .ok (.ifCond .eq 23, 3) := dk_153 0 23 (dk_at dksX2_onCarts_0 16 rfl rfl)
theorem dX2_onCarts_19 : decode cX2_onCarts 19 = .ok (.aload_n 2, 1) := dk_44 (dk_at dksX2_onCarts_0 19 rfl rfl)
theorem dX2_onCarts_20 : decode cX2_onCarts 20 = .ok (.invokeinterface 65 1, 5) := by decide +kernel
theorem dX2_onCarts_25 : decode cX2_onCarts 25 = .ok (.checkcast 100, 3) := dk_192 0 100 (dk_at dksX2_onCarts_1 5 rfl rfl)
theorem dX2_onCarts_28 : decode cX2_onCarts 28 = .ok (.astore_n 3, 1) := dk_78 (dk_at dksX2_onCarts_1 8 rfl rfl)
theorem dX2_onCarts_29 : decode cX2_onCarts 29 = .ok (.iload_n 1, 1) := dk_27 (dk_at dksX2_onCarts_1 9 rfl rfl)
theorem dX2_onCarts_30 : decode cX2_onCarts 30 = .ok (.aload_n 3, 1) := dk_45 (dk_at dksX2_onCarts_1 10 rfl rfl)
theorem dX2_onCarts_31 : decode cX2_onCarts 31 = .ok (.getfield 150, 3) := dk_180 0 150 (dk_at dksX2_onCarts_1 11 rfl rfl)
theorem dX2_onCarts_34 : decode cX2_onCarts 34 = .ok (.iadd, 1) := dk_96 (dk_at dksX2_onCarts_1 14 rfl rfl)
theorem dX2_onCarts_35 : decode cX2_onCarts 35 = .ok (.istore_n 1, 1) := dk_60 (dk_at dksX2_onCarts_1 15 rfl rfl)
theorem dX2_onCarts_36 : decode cX2_onCarts 36 = .ok (.goto (-26), 3) := dk_167 255 230 (dk_at dksX2_onCarts_1 16 rfl rfl)
theorem dX2_onCarts_39 : decode cX2_onCarts 39 = .ok (.iload_n 1, 1) := dk_27 (dk_at dksX2_onCarts_1 19 rfl rfl)
theorem dX2_onCarts_40 : decode cX2_onCarts 40 = .ok (.ireturn, 1) := dk_172 (dk_at dksX2_onCarts_1 20 rfl rfl)
abbrev cX2_ofAisles : ByteArray := prog_13_method_11_code
def yX2_ofAisles : MethodName := ⟨RX2, "ofAisles", "(I)I"⟩
def dkwX2_ofAisles_2 : List UInt8 := [180, 0, 157, 167, 0, 8, 25, 6, 180, 0, 160, 96, 61, 132, 5, 1, 167, 255, 207, 28, 172]
abbrev dktX2_ofAisles_2 : List UInt8 := dkwX2_ofAisles_2 ++ []
def dkwX2_ofAisles_1 : List UInt8 := [50, 58, 6, 28, 27, 154, 0, 11, 25, 6, 180, 0, 154, 167, 0, 21, 27, 4, 160, 0, 11, 25, 6]
abbrev dktX2_ofAisles_1 : List UInt8 := dkwX2_ofAisles_1 ++ dktX2_ofAisles_2
def dkwX2_ofAisles_0 : List UInt8 := [3, 61, 42, 180, 0, 11, 78, 45, 190, 54, 4, 3, 54, 5, 21, 5, 21, 4, 162, 0, 48, 45, 21, 5]
abbrev dktX2_ofAisles_0 : List UInt8 := dkwX2_ofAisles_0 ++ dktX2_ofAisles_1
theorem dksX2_ofAisles_0 : cX2_ofAisles.data.toList.drop 0 = dktX2_ofAisles_0 := by decide +kernel
theorem dksX2_ofAisles_1 : cX2_ofAisles.data.toList.drop 24 = dktX2_ofAisles_1 := dk_seg dksX2_ofAisles_0 24 rfl rfl
theorem dksX2_ofAisles_2 : cX2_ofAisles.data.toList.drop 47 = dktX2_ofAisles_2 := dk_seg dksX2_ofAisles_1 23 rfl rfl
theorem dX2_ofAisles_0 : decode cX2_ofAisles 0 = .ok (.iconst 0, 1) := dk_3 (dk_at dksX2_ofAisles_0 0 rfl rfl)
theorem dX2_ofAisles_1 : decode cX2_ofAisles 1 = .ok (.istore_n 2, 1) := dk_61 (dk_at dksX2_ofAisles_0 1 rfl rfl)
theorem dX2_ofAisles_2 : decode cX2_ofAisles 2 = .ok (.aload_n 0, 1) := dk_42 (dk_at dksX2_ofAisles_0 2 rfl rfl)
theorem dX2_ofAisles_3 : decode cX2_ofAisles 3 = .ok (.getfield 11, 3) := dk_180 0 11 (dk_at dksX2_ofAisles_0 3 rfl rfl)
theorem dX2_ofAisles_6 : decode cX2_ofAisles 6 = .ok (.astore_n 3, 1) := dk_78 (dk_at dksX2_ofAisles_0 6 rfl rfl)
theorem dX2_ofAisles_7 : decode cX2_ofAisles 7 = .ok (.aload_n 3, 1) := dk_45 (dk_at dksX2_ofAisles_0 7 rfl rfl)
theorem dX2_ofAisles_8 : decode cX2_ofAisles 8 = .ok (.arraylength, 1) := dk_190 (dk_at dksX2_ofAisles_0 8 rfl rfl)
theorem dX2_ofAisles_9 : decode cX2_ofAisles 9 = .ok (.istore 4, 2) := dk_54 4 (dk_at dksX2_ofAisles_0 9 rfl rfl)
theorem dX2_ofAisles_11 : decode cX2_ofAisles 11 = .ok (.iconst 0, 1) := dk_3 (dk_at dksX2_ofAisles_0 11 rfl rfl)
theorem dX2_ofAisles_12 : decode cX2_ofAisles 12 = .ok (.istore 5, 2) := dk_54 5 (dk_at dksX2_ofAisles_0 12 rfl rfl)
theorem dX2_ofAisles_14 : decode cX2_ofAisles 14 = .ok (.iload 5, 2) := dk_21 5 (dk_at dksX2_ofAisles_0 14 rfl rfl)
theorem dX2_ofAisles_16 : decode cX2_ofAisles 16 = .ok (.iload 4, 2) := dk_21 4 (dk_at dksX2_ofAisles_0 16 rfl rfl)
theorem dX2_ofAisles_18 : decode cX2_ofAisles 18 = .ok (.if_icmp .ge 48, 3) := dk_162 0 48 (dk_at dksX2_ofAisles_0 18 rfl rfl)
theorem dX2_ofAisles_21 : decode cX2_ofAisles 21 = .ok (.aload_n 3, 1) := dk_45 (dk_at dksX2_ofAisles_0 21 rfl rfl)
theorem dX2_ofAisles_22 : decode cX2_ofAisles 22 = .ok (.iload 5, 2) := dk_21 5 (dk_at dksX2_ofAisles_0 22 rfl rfl)
theorem dX2_ofAisles_24 : decode cX2_ofAisles 24 = .ok (.aaload, 1) := dk_50 (dk_at dksX2_ofAisles_1 0 rfl rfl)
theorem dX2_ofAisles_25 : decode cX2_ofAisles 25 = .ok (.astore 6, 2) := dk_58 6 (dk_at dksX2_ofAisles_1 1 rfl rfl)
theorem dX2_ofAisles_27 : decode cX2_ofAisles 27 = .ok (.iload_n 2, 1) := dk_28 (dk_at dksX2_ofAisles_1 3 rfl rfl)
theorem dX2_ofAisles_28 : decode cX2_ofAisles 28 = .ok (.iload_n 1, 1) := dk_27 (dk_at dksX2_ofAisles_1 4 rfl rfl)
theorem dX2_ofAisles_29 : decode cX2_ofAisles 29 = .ok (.ifCond .ne 11, 3) := dk_154 0 11 (dk_at dksX2_ofAisles_1 5 rfl rfl)
theorem dX2_ofAisles_32 : decode cX2_ofAisles 32 = .ok (.aload 6, 2) := dk_25 6 (dk_at dksX2_ofAisles_1 8 rfl rfl)
theorem dX2_ofAisles_34 : decode cX2_ofAisles 34 = .ok (.getfield 154, 3) := dk_180 0 154 (dk_at dksX2_ofAisles_1 10 rfl rfl)
theorem dX2_ofAisles_37 : decode cX2_ofAisles 37 = .ok (.goto 21, 3) := dk_167 0 21 (dk_at dksX2_ofAisles_1 13 rfl rfl)
theorem dX2_ofAisles_40 : decode cX2_ofAisles 40 = .ok (.iload_n 1, 1) := dk_27 (dk_at dksX2_ofAisles_1 16 rfl rfl)
theorem dX2_ofAisles_41 : decode cX2_ofAisles 41 = .ok (.iconst 1, 1) := dk_4 (dk_at dksX2_ofAisles_1 17 rfl rfl)
theorem dX2_ofAisles_42 : decode cX2_ofAisles 42 = .ok (.if_icmp .ne 11, 3) := dk_160 0 11 (dk_at dksX2_ofAisles_1 18 rfl rfl)
theorem dX2_ofAisles_45 : decode cX2_ofAisles 45 = .ok (.aload 6, 2) := dk_25 6 (dk_at dksX2_ofAisles_1 21 rfl rfl)
theorem dX2_ofAisles_47 : decode cX2_ofAisles 47 = .ok (.getfield 157, 3) := dk_180 0 157 (dk_at dksX2_ofAisles_2 0 rfl rfl)
theorem dX2_ofAisles_50 : decode cX2_ofAisles 50 = .ok (.goto 8, 3) := dk_167 0 8 (dk_at dksX2_ofAisles_2 3 rfl rfl)
theorem dX2_ofAisles_53 : decode cX2_ofAisles 53 = .ok (.aload 6, 2) := dk_25 6 (dk_at dksX2_ofAisles_2 6 rfl rfl)
theorem dX2_ofAisles_55 : decode cX2_ofAisles 55 = .ok (.getfield 160, 3) := dk_180 0 160 (dk_at dksX2_ofAisles_2 8 rfl rfl)
theorem dX2_ofAisles_58 : decode cX2_ofAisles 58 = .ok (.iadd, 1) := dk_96 (dk_at dksX2_ofAisles_2 11 rfl rfl)
theorem dX2_ofAisles_59 : decode cX2_ofAisles 59 = .ok (.istore_n 2, 1) := dk_61 (dk_at dksX2_ofAisles_2 12 rfl rfl)
theorem dX2_ofAisles_60 : decode cX2_ofAisles 60 = .ok (.iinc 5 1, 3) := dk_132 5 1 (dk_at dksX2_ofAisles_2 13 rfl rfl)
theorem dX2_ofAisles_63 : decode cX2_ofAisles 63 = .ok (.goto (-49), 3) := dk_167 255 207 (dk_at dksX2_ofAisles_2 16 rfl rfl)
theorem dX2_ofAisles_66 : decode cX2_ofAisles 66 = .ok (.iload_n 2, 1) := dk_28 (dk_at dksX2_ofAisles_2 19 rfl rfl)
theorem dX2_ofAisles_67 : decode cX2_ofAisles 67 = .ok (.ireturn, 1) := dk_172 (dk_at dksX2_ofAisles_2 20 rfl rfl)
abbrev cX2_copy : ByteArray := prog_13_method_2_code
def yX2_copy : MethodName := ⟨RX2, "copy", "()LPaperStore$Store;"⟩
def dkwX2_copy_12 : List UInt8 := [180, 0, 118, 181, 0, 118, 43, 176]
abbrev dktX2_copy_12 : List UInt8 := dkwX2_copy_12 ++ []
def dkwX2_copy_11 : List UInt8 := [180, 0, 109, 181, 0, 109, 43, 42, 180, 0, 112, 181, 0, 112, 43, 42, 180, 0, 115, 181, 0, 115, 43, 42]
abbrev dktX2_copy_11 : List UInt8 := dkwX2_copy_11 ++ dktX2_copy_12
def dkwX2_copy_10 : List UInt8 := [182, 0, 102, 182, 0, 91, 87, 167, 255, 225, 43, 180, 0, 36, 42, 180, 0, 36, 182, 0, 105, 43, 42]
abbrev dktX2_copy_10 : List UInt8 := dkwX2_copy_10 ++ dktX2_copy_11
def dkwX2_copy_9 : List UInt8 := [185, 0, 59, 1, 0, 153, 0, 28, 44, 185, 0, 65, 1, 0, 192, 0, 100, 78, 43, 180, 0, 27, 45]
abbrev dktX2_copy_9 : List UInt8 := dkwX2_copy_9 ++ dktX2_copy_10
def dkwX2_copy_8 : List UInt8 := [45, 182, 0, 97, 182, 0, 91, 87, 167, 255, 225, 42, 180, 0, 27, 182, 0, 79, 77, 44]
abbrev dktX2_copy_8 : List UInt8 := dkwX2_copy_8 ++ dktX2_copy_9
def dkwX2_copy_7 : List UInt8 := [77, 44, 185, 0, 59, 1, 0, 153, 0, 28, 44, 185, 0, 65, 1, 0, 192, 0, 95, 78, 43, 180, 0, 24]
abbrev dktX2_copy_7 : List UInt8 := dkwX2_copy_7 ++ dktX2_copy_8
def dkwX2_copy_6 : List UInt8 := [180, 0, 82, 45, 180, 0, 85, 183, 0, 88, 182, 0, 91, 87, 167, 255, 214, 42, 180, 0, 24, 182, 0, 79]
abbrev dktX2_copy_6 : List UInt8 := dkwX2_copy_6 ++ dktX2_copy_7
def dkwX2_copy_5 : List UInt8 := [153, 0, 39, 44, 185, 0, 65, 1, 0, 192, 0, 80, 78, 43, 180, 0, 20, 187, 0, 80, 89, 45]
abbrev dktX2_copy_5 : List UInt8 := dkwX2_copy_5 ++ dktX2_copy_6
def dkwX2_copy_4 : List UInt8 := [167, 255, 217, 132, 2, 1, 167, 255, 176, 42, 180, 0, 20, 182, 0, 79, 77, 44, 185, 0, 59, 1, 0]
abbrev dktX2_copy_4 : List UInt8 := dkwX2_copy_4 ++ dktX2_copy_5
def dkwX2_copy_3 : List UInt8 := [192, 0, 69, 58, 4, 43, 180, 0, 30, 25, 4, 180, 0, 71, 25, 4, 182, 0, 75, 192, 0, 69, 58, 5]
abbrev dktX2_copy_3 : List UInt8 := dkwX2_copy_3 ++ dktX2_copy_4
def dkwX2_copy_2 : List UInt8 := [182, 0, 50, 185, 0, 53, 1, 0, 78, 45, 185, 0, 59, 1, 0, 153, 0, 36, 45, 185, 0, 65, 1, 0]
abbrev dktX2_copy_2 : List UInt8 := dkwX2_copy_2 ++ dktX2_copy_3
def dkwX2_copy_1 : List UInt8 := [162, 0, 81, 43, 180, 0, 11, 28, 42, 180, 0, 11, 28, 50, 182, 0, 46, 83, 43, 180, 0, 11, 28, 50]
abbrev dktX2_copy_1 : List UInt8 := dkwX2_copy_1 ++ dktX2_copy_2
def dkwX2_copy_0 : List UInt8 := [187, 0, 12, 89, 183, 0, 41, 76, 43, 180, 0, 30, 42, 180, 0, 30, 182, 0, 42, 87, 3, 61, 28, 8]
abbrev dktX2_copy_0 : List UInt8 := dkwX2_copy_0 ++ dktX2_copy_1
theorem dksX2_copy_0 : cX2_copy.data.toList.drop 0 = dktX2_copy_0 := by decide +kernel
theorem dksX2_copy_1 : cX2_copy.data.toList.drop 24 = dktX2_copy_1 := dk_seg dksX2_copy_0 24 rfl rfl
theorem dksX2_copy_2 : cX2_copy.data.toList.drop 48 = dktX2_copy_2 := dk_seg dksX2_copy_1 24 rfl rfl
theorem dksX2_copy_3 : cX2_copy.data.toList.drop 72 = dktX2_copy_3 := dk_seg dksX2_copy_2 24 rfl rfl
theorem dksX2_copy_4 : cX2_copy.data.toList.drop 96 = dktX2_copy_4 := dk_seg dksX2_copy_3 24 rfl rfl
theorem dksX2_copy_5 : cX2_copy.data.toList.drop 119 = dktX2_copy_5 := dk_seg dksX2_copy_4 23 rfl rfl
theorem dksX2_copy_6 : cX2_copy.data.toList.drop 141 = dktX2_copy_6 := dk_seg dksX2_copy_5 22 rfl rfl
theorem dksX2_copy_7 : cX2_copy.data.toList.drop 165 = dktX2_copy_7 := dk_seg dksX2_copy_6 24 rfl rfl
theorem dksX2_copy_8 : cX2_copy.data.toList.drop 189 = dktX2_copy_8 := dk_seg dksX2_copy_7 24 rfl rfl
theorem dksX2_copy_9 : cX2_copy.data.toList.drop 209 = dktX2_copy_9 := dk_seg dksX2_copy_8 20 rfl rfl
theorem dksX2_copy_10 : cX2_copy.data.toList.drop 232 = dktX2_copy_10 := dk_seg dksX2_copy_9 23 rfl rfl
theorem dksX2_copy_11 : cX2_copy.data.toList.drop 255 = dktX2_copy_11 := dk_seg dksX2_copy_10 23 rfl rfl
theorem dksX2_copy_12 : cX2_copy.data.toList.drop 279 = dktX2_copy_12 := dk_seg dksX2_copy_11 24 rfl rfl
theorem dX2_copy_0 : decode cX2_copy 0 = .ok (.new 12, 3) := dk_187 0 12 (dk_at dksX2_copy_0 0 rfl rfl)
theorem dX2_copy_3 : decode cX2_copy 3 = .ok (.dup, 1) := dk_89 (dk_at dksX2_copy_0 3 rfl rfl)
theorem dX2_copy_4 : decode cX2_copy 4 = .ok (.invokespecial 41, 3) := dk_183 0 41 (dk_at dksX2_copy_0 4 rfl rfl)
theorem dX2_copy_7 : decode cX2_copy 7 = .ok (.astore_n 1, 1) := dk_76 (dk_at dksX2_copy_0 7 rfl rfl)
theorem dX2_copy_8 : decode cX2_copy 8 = .ok (.aload_n 1, 1) := dk_43 (dk_at dksX2_copy_0 8 rfl rfl)
theorem dX2_copy_9 : decode cX2_copy 9 = .ok (.getfield 30, 3) := dk_180 0 30 (dk_at dksX2_copy_0 9 rfl rfl)
theorem dX2_copy_12 : decode cX2_copy 12 = .ok (.aload_n 0, 1) := dk_42 (dk_at dksX2_copy_0 12 rfl rfl)
theorem dX2_copy_13 : decode cX2_copy 13 = .ok (.getfield 30, 3) := dk_180 0 30 (dk_at dksX2_copy_0 13 rfl rfl)
theorem dX2_copy_16 : decode cX2_copy 16 = .ok (.invokevirtual 42, 3) := dk_182 0 42 (dk_at dksX2_copy_0 16 rfl rfl)
theorem dX2_copy_19 : decode cX2_copy 19 = .ok (.pop, 1) := dk_87 (dk_at dksX2_copy_0 19 rfl rfl)
theorem dX2_copy_20 : decode cX2_copy 20 = .ok (.iconst 0, 1) := dk_3 (dk_at dksX2_copy_0 20 rfl rfl)
theorem dX2_copy_21 : decode cX2_copy 21 = .ok (.istore_n 2, 1) := dk_61 (dk_at dksX2_copy_0 21 rfl rfl)
theorem dX2_copy_22 : decode cX2_copy 22 = .ok (.iload_n 2, 1) := dk_28 (dk_at dksX2_copy_0 22 rfl rfl)
theorem dX2_copy_23 : decode cX2_copy 23 = .ok (.iconst 5, 1) := dk_8 (dk_at dksX2_copy_0 23 rfl rfl)
theorem dX2_copy_24 : decode cX2_copy 24 = .ok (.if_icmp .ge 81, 3) := dk_162 0 81 (dk_at dksX2_copy_1 0 rfl rfl)
theorem dX2_copy_27 : decode cX2_copy 27 = .ok (.aload_n 1, 1) := dk_43 (dk_at dksX2_copy_1 3 rfl rfl)
theorem dX2_copy_28 : decode cX2_copy 28 = .ok (.getfield 11, 3) := dk_180 0 11 (dk_at dksX2_copy_1 4 rfl rfl)
theorem dX2_copy_31 : decode cX2_copy 31 = .ok (.iload_n 2, 1) := dk_28 (dk_at dksX2_copy_1 7 rfl rfl)
theorem dX2_copy_32 : decode cX2_copy 32 = .ok (.aload_n 0, 1) := dk_42 (dk_at dksX2_copy_1 8 rfl rfl)
theorem dX2_copy_33 : decode cX2_copy 33 = .ok (.getfield 11, 3) := dk_180 0 11 (dk_at dksX2_copy_1 9 rfl rfl)
theorem dX2_copy_36 : decode cX2_copy 36 = .ok (.iload_n 2, 1) := dk_28 (dk_at dksX2_copy_1 12 rfl rfl)
theorem dX2_copy_37 : decode cX2_copy 37 = .ok (.aaload, 1) := dk_50 (dk_at dksX2_copy_1 13 rfl rfl)
theorem dX2_copy_38 : decode cX2_copy 38 = .ok (.invokevirtual 46, 3) := dk_182 0 46 (dk_at dksX2_copy_1 14 rfl rfl)
theorem dX2_copy_41 : decode cX2_copy 41 = .ok (.aastore, 1) := dk_83 (dk_at dksX2_copy_1 17 rfl rfl)
theorem dX2_copy_42 : decode cX2_copy 42 = .ok (.aload_n 1, 1) := dk_43 (dk_at dksX2_copy_1 18 rfl rfl)
theorem dX2_copy_43 : decode cX2_copy 43 = .ok (.getfield 11, 3) := dk_180 0 11 (dk_at dksX2_copy_1 19 rfl rfl)
theorem dX2_copy_46 : decode cX2_copy 46 = .ok (.iload_n 2, 1) := dk_28 (dk_at dksX2_copy_1 22 rfl rfl)
theorem dX2_copy_47 : decode cX2_copy 47 = .ok (.aaload, 1) := dk_50 (dk_at dksX2_copy_1 23 rfl rfl)
theorem dX2_copy_48 : decode cX2_copy 48 = .ok (.invokevirtual 50, 3) := dk_182 0 50 (dk_at dksX2_copy_2 0 rfl rfl)
theorem dX2_copy_51 : decode cX2_copy 51 = .ok (.invokeinterface 53 1, 5) := by decide +kernel
theorem dX2_copy_56 : decode cX2_copy 56 = .ok (.astore_n 3, 1) := dk_78 (dk_at dksX2_copy_2 8 rfl rfl)
theorem dX2_copy_57 : decode cX2_copy 57 = .ok (.aload_n 3, 1) := dk_45 (dk_at dksX2_copy_2 9 rfl rfl)
theorem dX2_copy_58 : decode cX2_copy 58 = .ok (.invokeinterface 59 1, 5) := by decide +kernel
theorem dX2_copy_63 : decode cX2_copy 63 = .ok (.ifCond .eq 36, 3) := dk_153 0 36 (dk_at dksX2_copy_2 15 rfl rfl)
theorem dX2_copy_66 : decode cX2_copy 66 = .ok (.aload_n 3, 1) := dk_45 (dk_at dksX2_copy_2 18 rfl rfl)
theorem dX2_copy_67 : decode cX2_copy 67 = .ok (.invokeinterface 65 1, 5) := by decide +kernel
theorem dX2_copy_72 : decode cX2_copy 72 = .ok (.checkcast 69, 3) := dk_192 0 69 (dk_at dksX2_copy_3 0 rfl rfl)
theorem dX2_copy_75 : decode cX2_copy 75 = .ok (.astore 4, 2) := dk_58 4 (dk_at dksX2_copy_3 3 rfl rfl)
theorem dX2_copy_77 : decode cX2_copy 77 = .ok (.aload_n 1, 1) := dk_43 (dk_at dksX2_copy_3 5 rfl rfl)
theorem dX2_copy_78 : decode cX2_copy 78 = .ok (.getfield 30, 3) := dk_180 0 30 (dk_at dksX2_copy_3 6 rfl rfl)
theorem dX2_copy_81 : decode cX2_copy 81 = .ok (.aload 4, 2) := dk_25 4 (dk_at dksX2_copy_3 9 rfl rfl)
theorem dX2_copy_83 : decode cX2_copy 83 = .ok (.getfield 71, 3) := dk_180 0 71 (dk_at dksX2_copy_3 11 rfl rfl)
theorem dX2_copy_86 : decode cX2_copy 86 = .ok (.aload 4, 2) := dk_25 4 (dk_at dksX2_copy_3 14 rfl rfl)
theorem dX2_copy_88 : decode cX2_copy 88 = .ok (.invokevirtual 75, 3) := dk_182 0 75 (dk_at dksX2_copy_3 16 rfl rfl)
theorem dX2_copy_91 : decode cX2_copy 91 = .ok (.checkcast 69, 3) := dk_192 0 69 (dk_at dksX2_copy_3 19 rfl rfl)
theorem dX2_copy_94 : decode cX2_copy 94 = .ok (.astore 5, 2) := dk_58 5 (dk_at dksX2_copy_3 22 rfl rfl)
theorem dX2_copy_96 : decode cX2_copy 96 = .ok (.goto (-39), 3) := dk_167 255 217 (dk_at dksX2_copy_4 0 rfl rfl)
theorem dX2_copy_99 : decode cX2_copy 99 = .ok (.iinc 2 1, 3) := dk_132 2 1 (dk_at dksX2_copy_4 3 rfl rfl)
theorem dX2_copy_102 : decode cX2_copy 102 = .ok (.goto (-80), 3) := dk_167 255 176 (dk_at dksX2_copy_4 6 rfl rfl)
theorem dX2_copy_105 : decode cX2_copy 105 = .ok (.aload_n 0, 1) := dk_42 (dk_at dksX2_copy_4 9 rfl rfl)
theorem dX2_copy_106 : decode cX2_copy 106 = .ok (.getfield 20, 3) := dk_180 0 20 (dk_at dksX2_copy_4 10 rfl rfl)
theorem dX2_copy_109 : decode cX2_copy 109 = .ok (.invokevirtual 79, 3) := dk_182 0 79 (dk_at dksX2_copy_4 13 rfl rfl)
theorem dX2_copy_112 : decode cX2_copy 112 = .ok (.astore_n 2, 1) := dk_77 (dk_at dksX2_copy_4 16 rfl rfl)
theorem dX2_copy_113 : decode cX2_copy 113 = .ok (.aload_n 2, 1) := dk_44 (dk_at dksX2_copy_4 17 rfl rfl)
theorem dX2_copy_114 : decode cX2_copy 114 = .ok (.invokeinterface 59 1, 5) := by decide +kernel
theorem dX2_copy_119 : decode cX2_copy 119 = .ok (.ifCond .eq 39, 3) := dk_153 0 39 (dk_at dksX2_copy_5 0 rfl rfl)
theorem dX2_copy_122 : decode cX2_copy 122 = .ok (.aload_n 2, 1) := dk_44 (dk_at dksX2_copy_5 3 rfl rfl)
theorem dX2_copy_123 : decode cX2_copy 123 = .ok (.invokeinterface 65 1, 5) := by decide +kernel
theorem dX2_copy_128 : decode cX2_copy 128 = .ok (.checkcast 80, 3) := dk_192 0 80 (dk_at dksX2_copy_5 9 rfl rfl)
theorem dX2_copy_131 : decode cX2_copy 131 = .ok (.astore_n 3, 1) := dk_78 (dk_at dksX2_copy_5 12 rfl rfl)
theorem dX2_copy_132 : decode cX2_copy 132 = .ok (.aload_n 1, 1) := dk_43 (dk_at dksX2_copy_5 13 rfl rfl)
theorem dX2_copy_133 : decode cX2_copy 133 = .ok (.getfield 20, 3) := dk_180 0 20 (dk_at dksX2_copy_5 14 rfl rfl)
theorem dX2_copy_136 : decode cX2_copy 136 = .ok (.new 80, 3) := dk_187 0 80 (dk_at dksX2_copy_5 17 rfl rfl)
theorem dX2_copy_139 : decode cX2_copy 139 = .ok (.dup, 1) := dk_89 (dk_at dksX2_copy_5 20 rfl rfl)
theorem dX2_copy_140 : decode cX2_copy 140 = .ok (.aload_n 3, 1) := dk_45 (dk_at dksX2_copy_5 21 rfl rfl)
theorem dX2_copy_141 : decode cX2_copy 141 = .ok (.getfield 82, 3) := dk_180 0 82 (dk_at dksX2_copy_6 0 rfl rfl)
theorem dX2_copy_144 : decode cX2_copy 144 = .ok (.aload_n 3, 1) := dk_45 (dk_at dksX2_copy_6 3 rfl rfl)
theorem dX2_copy_145 : decode cX2_copy 145 = .ok (.getfield 85, 3) := dk_180 0 85 (dk_at dksX2_copy_6 4 rfl rfl)
theorem dX2_copy_148 : decode cX2_copy 148 = .ok (.invokespecial 88, 3) := dk_183 0 88 (dk_at dksX2_copy_6 7 rfl rfl)
theorem dX2_copy_151 : decode cX2_copy 151 = .ok (.invokevirtual 91, 3) := dk_182 0 91 (dk_at dksX2_copy_6 10 rfl rfl)
theorem dX2_copy_154 : decode cX2_copy 154 = .ok (.pop, 1) := dk_87 (dk_at dksX2_copy_6 13 rfl rfl)
theorem dX2_copy_155 : decode cX2_copy 155 = .ok (.goto (-42), 3) := dk_167 255 214 (dk_at dksX2_copy_6 14 rfl rfl)
theorem dX2_copy_158 : decode cX2_copy 158 = .ok (.aload_n 0, 1) := dk_42 (dk_at dksX2_copy_6 17 rfl rfl)
theorem dX2_copy_159 : decode cX2_copy 159 = .ok (.getfield 24, 3) := dk_180 0 24 (dk_at dksX2_copy_6 18 rfl rfl)
theorem dX2_copy_162 : decode cX2_copy 162 = .ok (.invokevirtual 79, 3) := dk_182 0 79 (dk_at dksX2_copy_6 21 rfl rfl)
theorem dX2_copy_165 : decode cX2_copy 165 = .ok (.astore_n 2, 1) := dk_77 (dk_at dksX2_copy_7 0 rfl rfl)
theorem dX2_copy_166 : decode cX2_copy 166 = .ok (.aload_n 2, 1) := dk_44 (dk_at dksX2_copy_7 1 rfl rfl)
theorem dX2_copy_167 : decode cX2_copy 167 = .ok (.invokeinterface 59 1, 5) := by decide +kernel
theorem dX2_copy_172 : decode cX2_copy 172 = .ok (.ifCond .eq 28, 3) := dk_153 0 28 (dk_at dksX2_copy_7 7 rfl rfl)
theorem dX2_copy_175 : decode cX2_copy 175 = .ok (.aload_n 2, 1) := dk_44 (dk_at dksX2_copy_7 10 rfl rfl)
theorem dX2_copy_176 : decode cX2_copy 176 = .ok (.invokeinterface 65 1, 5) := by decide +kernel
theorem dX2_copy_181 : decode cX2_copy 181 = .ok (.checkcast 95, 3) := dk_192 0 95 (dk_at dksX2_copy_7 16 rfl rfl)
theorem dX2_copy_184 : decode cX2_copy 184 = .ok (.astore_n 3, 1) := dk_78 (dk_at dksX2_copy_7 19 rfl rfl)
theorem dX2_copy_185 : decode cX2_copy 185 = .ok (.aload_n 1, 1) := dk_43 (dk_at dksX2_copy_7 20 rfl rfl)
theorem dX2_copy_186 : decode cX2_copy 186 = .ok (.getfield 24, 3) := dk_180 0 24 (dk_at dksX2_copy_7 21 rfl rfl)
theorem dX2_copy_189 : decode cX2_copy 189 = .ok (.aload_n 3, 1) := dk_45 (dk_at dksX2_copy_8 0 rfl rfl)
theorem dX2_copy_190 : decode cX2_copy 190 = .ok (.invokevirtual 97, 3) := dk_182 0 97 (dk_at dksX2_copy_8 1 rfl rfl)
theorem dX2_copy_193 : decode cX2_copy 193 = .ok (.invokevirtual 91, 3) := dk_182 0 91 (dk_at dksX2_copy_8 4 rfl rfl)
theorem dX2_copy_196 : decode cX2_copy 196 = .ok (.pop, 1) := dk_87 (dk_at dksX2_copy_8 7 rfl rfl)
theorem dX2_copy_197 : decode cX2_copy 197 = .ok (.goto (-31), 3) := dk_167 255 225 (dk_at dksX2_copy_8 8 rfl rfl)
theorem dX2_copy_200 : decode cX2_copy 200 = .ok (.aload_n 0, 1) := dk_42 (dk_at dksX2_copy_8 11 rfl rfl)
theorem dX2_copy_201 : decode cX2_copy 201 = .ok (.getfield 27, 3) := dk_180 0 27 (dk_at dksX2_copy_8 12 rfl rfl)
theorem dX2_copy_204 : decode cX2_copy 204 = .ok (.invokevirtual 79, 3) := dk_182 0 79 (dk_at dksX2_copy_8 15 rfl rfl)
theorem dX2_copy_207 : decode cX2_copy 207 = .ok (.astore_n 2, 1) := dk_77 (dk_at dksX2_copy_8 18 rfl rfl)
theorem dX2_copy_208 : decode cX2_copy 208 = .ok (.aload_n 2, 1) := dk_44 (dk_at dksX2_copy_8 19 rfl rfl)
theorem dX2_copy_209 : decode cX2_copy 209 = .ok (.invokeinterface 59 1, 5) := by decide +kernel
theorem dX2_copy_214 : decode cX2_copy 214 = .ok (.ifCond .eq 28, 3) := dk_153 0 28 (dk_at dksX2_copy_9 5 rfl rfl)
theorem dX2_copy_217 : decode cX2_copy 217 = .ok (.aload_n 2, 1) := dk_44 (dk_at dksX2_copy_9 8 rfl rfl)
theorem dX2_copy_218 : decode cX2_copy 218 = .ok (.invokeinterface 65 1, 5) := by decide +kernel
theorem dX2_copy_223 : decode cX2_copy 223 = .ok (.checkcast 100, 3) := dk_192 0 100 (dk_at dksX2_copy_9 14 rfl rfl)
theorem dX2_copy_226 : decode cX2_copy 226 = .ok (.astore_n 3, 1) := dk_78 (dk_at dksX2_copy_9 17 rfl rfl)
theorem dX2_copy_227 : decode cX2_copy 227 = .ok (.aload_n 1, 1) := dk_43 (dk_at dksX2_copy_9 18 rfl rfl)
theorem dX2_copy_228 : decode cX2_copy 228 = .ok (.getfield 27, 3) := dk_180 0 27 (dk_at dksX2_copy_9 19 rfl rfl)
theorem dX2_copy_231 : decode cX2_copy 231 = .ok (.aload_n 3, 1) := dk_45 (dk_at dksX2_copy_9 22 rfl rfl)
theorem dX2_copy_232 : decode cX2_copy 232 = .ok (.invokevirtual 102, 3) := dk_182 0 102 (dk_at dksX2_copy_10 0 rfl rfl)
theorem dX2_copy_235 : decode cX2_copy 235 = .ok (.invokevirtual 91, 3) := dk_182 0 91 (dk_at dksX2_copy_10 3 rfl rfl)
theorem dX2_copy_238 : decode cX2_copy 238 = .ok (.pop, 1) := dk_87 (dk_at dksX2_copy_10 6 rfl rfl)
theorem dX2_copy_239 : decode cX2_copy 239 = .ok (.goto (-31), 3) := dk_167 255 225 (dk_at dksX2_copy_10 7 rfl rfl)
theorem dX2_copy_242 : decode cX2_copy 242 = .ok (.aload_n 1, 1) := dk_43 (dk_at dksX2_copy_10 10 rfl rfl)
theorem dX2_copy_243 : decode cX2_copy 243 = .ok (.getfield 36, 3) := dk_180 0 36 (dk_at dksX2_copy_10 11 rfl rfl)
theorem dX2_copy_246 : decode cX2_copy 246 = .ok (.aload_n 0, 1) := dk_42 (dk_at dksX2_copy_10 14 rfl rfl)
theorem dX2_copy_247 : decode cX2_copy 247 = .ok (.getfield 36, 3) := dk_180 0 36 (dk_at dksX2_copy_10 15 rfl rfl)
theorem dX2_copy_250 : decode cX2_copy 250 = .ok (.invokevirtual 105, 3) := dk_182 0 105 (dk_at dksX2_copy_10 18 rfl rfl)
theorem dX2_copy_253 : decode cX2_copy 253 = .ok (.aload_n 1, 1) := dk_43 (dk_at dksX2_copy_10 21 rfl rfl)
theorem dX2_copy_254 : decode cX2_copy 254 = .ok (.aload_n 0, 1) := dk_42 (dk_at dksX2_copy_10 22 rfl rfl)
theorem dX2_copy_255 : decode cX2_copy 255 = .ok (.getfield 109, 3) := dk_180 0 109 (dk_at dksX2_copy_11 0 rfl rfl)
theorem dX2_copy_258 : decode cX2_copy 258 = .ok (.putfield 109, 3) := dk_181 0 109 (dk_at dksX2_copy_11 3 rfl rfl)
theorem dX2_copy_261 : decode cX2_copy 261 = .ok (.aload_n 1, 1) := dk_43 (dk_at dksX2_copy_11 6 rfl rfl)
theorem dX2_copy_262 : decode cX2_copy 262 = .ok (.aload_n 0, 1) := dk_42 (dk_at dksX2_copy_11 7 rfl rfl)
theorem dX2_copy_263 : decode cX2_copy 263 = .ok (.getfield 112, 3) := dk_180 0 112 (dk_at dksX2_copy_11 8 rfl rfl)
theorem dX2_copy_266 : decode cX2_copy 266 = .ok (.putfield 112, 3) := dk_181 0 112 (dk_at dksX2_copy_11 11 rfl rfl)
theorem dX2_copy_269 : decode cX2_copy 269 = .ok (.aload_n 1, 1) := dk_43 (dk_at dksX2_copy_11 14 rfl rfl)
theorem dX2_copy_270 : decode cX2_copy 270 = .ok (.aload_n 0, 1) := dk_42 (dk_at dksX2_copy_11 15 rfl rfl)
theorem dX2_copy_271 : decode cX2_copy 271 = .ok (.getfield 115, 3) := dk_180 0 115 (dk_at dksX2_copy_11 16 rfl rfl)
theorem dX2_copy_274 : decode cX2_copy 274 = .ok (.putfield 115, 3) := dk_181 0 115 (dk_at dksX2_copy_11 19 rfl rfl)
theorem dX2_copy_277 : decode cX2_copy 277 = .ok (.aload_n 1, 1) := dk_43 (dk_at dksX2_copy_11 22 rfl rfl)
theorem dX2_copy_278 : decode cX2_copy 278 = .ok (.aload_n 0, 1) := dk_42 (dk_at dksX2_copy_11 23 rfl rfl)
theorem dX2_copy_279 : decode cX2_copy 279 = .ok (.getfield 118, 3) := dk_180 0 118 (dk_at dksX2_copy_12 0 rfl rfl)
theorem dX2_copy_282 : decode cX2_copy 282 = .ok (.putfield 118, 3) := dk_181 0 118 (dk_at dksX2_copy_12 3 rfl rfl)
theorem dX2_copy_285 : decode cX2_copy 285 = .ok (.aload_n 1, 1) := dk_43 (dk_at dksX2_copy_12 6 rfl rfl)
theorem dX2_copy_286 : decode cX2_copy 286 = .ok (.areturn, 1) := dk_176 (dk_at dksX2_copy_12 7 rfl rfl)
abbrev cX2_addLadder : ByteArray := prog_13_method_14_code
def yX2_addLadder : MethodName := ⟨RX2, "addLadder", "(I)I"⟩
def dkwX2_addLadder_2 : List UInt8 := [183, 0, 88, 182, 0, 91, 87, 42, 180, 0, 20, 182, 0, 121, 4, 100, 172]
abbrev dktX2_addLadder_2 : List UInt8 := dkwX2_addLadder_2 ++ []
def dkwX2_addLadder_1 : List UInt8 := [28, 182, 0, 174, 2, 159, 0, 9, 132, 2, 1, 167, 255, 244, 42, 180, 0, 20, 187, 0, 80, 89, 27, 28]
abbrev dktX2_addLadder_1 : List UInt8 := dkwX2_addLadder_1 ++ dktX2_addLadder_2
def dkwX2_addLadder_0 : List UInt8 := [42, 180, 0, 20, 182, 0, 121, 6, 160, 0, 7, 4, 167, 0, 4, 3, 4, 6, 184, 0, 170, 3, 61, 42]
abbrev dktX2_addLadder_0 : List UInt8 := dkwX2_addLadder_0 ++ dktX2_addLadder_1
theorem dksX2_addLadder_0 : cX2_addLadder.data.toList.drop 0 = dktX2_addLadder_0 := by decide +kernel
theorem dksX2_addLadder_1 : cX2_addLadder.data.toList.drop 24 = dktX2_addLadder_1 := dk_seg dksX2_addLadder_0 24 rfl rfl
theorem dksX2_addLadder_2 : cX2_addLadder.data.toList.drop 48 = dktX2_addLadder_2 := dk_seg dksX2_addLadder_1 24 rfl rfl
theorem dX2_addLadder_0 : decode cX2_addLadder 0 = .ok (.aload_n 0, 1) := dk_42 (dk_at dksX2_addLadder_0 0 rfl rfl)
theorem dX2_addLadder_1 : decode cX2_addLadder 1 = .ok (.getfield 20, 3) := dk_180 0 20 (dk_at dksX2_addLadder_0 1 rfl rfl)
theorem dX2_addLadder_4 : decode cX2_addLadder 4 = .ok (.invokevirtual 121, 3) := dk_182 0 121 (dk_at dksX2_addLadder_0 4 rfl rfl)
theorem dX2_addLadder_7 : decode cX2_addLadder 7 = .ok (.iconst 3, 1) := dk_6 (dk_at dksX2_addLadder_0 7 rfl rfl)
theorem dX2_addLadder_8 : decode cX2_addLadder 8 = .ok (.if_icmp .ne 7, 3) := dk_160 0 7 (dk_at dksX2_addLadder_0 8 rfl rfl)
theorem dX2_addLadder_11 : decode cX2_addLadder 11 = .ok (.iconst 1, 1) := dk_4 (dk_at dksX2_addLadder_0 11 rfl rfl)
theorem dX2_addLadder_12 : decode cX2_addLadder 12 = .ok (.goto 4, 3) := dk_167 0 4 (dk_at dksX2_addLadder_0 12 rfl rfl)
theorem dX2_addLadder_15 : decode cX2_addLadder 15 = .ok (.iconst 0, 1) := dk_3 (dk_at dksX2_addLadder_0 15 rfl rfl)
theorem dX2_addLadder_16 : decode cX2_addLadder 16 = .ok (.iconst 1, 1) := dk_4 (dk_at dksX2_addLadder_0 16 rfl rfl)
theorem dX2_addLadder_17 : decode cX2_addLadder 17 = .ok (.iconst 3, 1) := dk_6 (dk_at dksX2_addLadder_0 17 rfl rfl)
theorem dX2_addLadder_18 : decode cX2_addLadder 18 = .ok (.invokestatic 170, 3) := dk_184 0 170 (dk_at dksX2_addLadder_0 18 rfl rfl)
theorem dX2_addLadder_21 : decode cX2_addLadder 21 = .ok (.iconst 0, 1) := dk_3 (dk_at dksX2_addLadder_0 21 rfl rfl)
theorem dX2_addLadder_22 : decode cX2_addLadder 22 = .ok (.istore_n 2, 1) := dk_61 (dk_at dksX2_addLadder_0 22 rfl rfl)
theorem dX2_addLadder_23 : decode cX2_addLadder 23 = .ok (.aload_n 0, 1) := dk_42 (dk_at dksX2_addLadder_0 23 rfl rfl)
theorem dX2_addLadder_24 : decode cX2_addLadder 24 = .ok (.iload_n 2, 1) := dk_28 (dk_at dksX2_addLadder_1 0 rfl rfl)
theorem dX2_addLadder_25 : decode cX2_addLadder 25 = .ok (.invokevirtual 174, 3) := dk_182 0 174 (dk_at dksX2_addLadder_1 1 rfl rfl)
theorem dX2_addLadder_28 : decode cX2_addLadder 28 = .ok (.iconst (-1), 1) := dk_2 (dk_at dksX2_addLadder_1 4 rfl rfl)
theorem dX2_addLadder_29 : decode cX2_addLadder 29 = .ok (.if_icmp .eq 9, 3) := dk_159 0 9 (dk_at dksX2_addLadder_1 5 rfl rfl)
theorem dX2_addLadder_32 : decode cX2_addLadder 32 = .ok (.iinc 2 1, 3) := dk_132 2 1 (dk_at dksX2_addLadder_1 8 rfl rfl)
theorem dX2_addLadder_35 : decode cX2_addLadder 35 = .ok (.goto (-12), 3) := dk_167 255 244 (dk_at dksX2_addLadder_1 11 rfl rfl)
theorem dX2_addLadder_38 : decode cX2_addLadder 38 = .ok (.aload_n 0, 1) := dk_42 (dk_at dksX2_addLadder_1 14 rfl rfl)
theorem dX2_addLadder_39 : decode cX2_addLadder 39 = .ok (.getfield 20, 3) := dk_180 0 20 (dk_at dksX2_addLadder_1 15 rfl rfl)
theorem dX2_addLadder_42 : decode cX2_addLadder 42 = .ok (.new 80, 3) := dk_187 0 80 (dk_at dksX2_addLadder_1 18 rfl rfl)
theorem dX2_addLadder_45 : decode cX2_addLadder 45 = .ok (.dup, 1) := dk_89 (dk_at dksX2_addLadder_1 21 rfl rfl)
theorem dX2_addLadder_46 : decode cX2_addLadder 46 = .ok (.iload_n 1, 1) := dk_27 (dk_at dksX2_addLadder_1 22 rfl rfl)
theorem dX2_addLadder_47 : decode cX2_addLadder 47 = .ok (.iload_n 2, 1) := dk_28 (dk_at dksX2_addLadder_1 23 rfl rfl)
theorem dX2_addLadder_48 : decode cX2_addLadder 48 = .ok (.invokespecial 88, 3) := dk_183 0 88 (dk_at dksX2_addLadder_2 0 rfl rfl)
theorem dX2_addLadder_51 : decode cX2_addLadder 51 = .ok (.invokevirtual 91, 3) := dk_182 0 91 (dk_at dksX2_addLadder_2 3 rfl rfl)
theorem dX2_addLadder_54 : decode cX2_addLadder 54 = .ok (.pop, 1) := dk_87 (dk_at dksX2_addLadder_2 6 rfl rfl)
theorem dX2_addLadder_55 : decode cX2_addLadder 55 = .ok (.aload_n 0, 1) := dk_42 (dk_at dksX2_addLadder_2 7 rfl rfl)
theorem dX2_addLadder_56 : decode cX2_addLadder 56 = .ok (.getfield 20, 3) := dk_180 0 20 (dk_at dksX2_addLadder_2 8 rfl rfl)
theorem dX2_addLadder_59 : decode cX2_addLadder 59 = .ok (.invokevirtual 121, 3) := dk_182 0 121 (dk_at dksX2_addLadder_2 11 rfl rfl)
theorem dX2_addLadder_62 : decode cX2_addLadder 62 = .ok (.iconst 1, 1) := dk_4 (dk_at dksX2_addLadder_2 14 rfl rfl)
theorem dX2_addLadder_63 : decode cX2_addLadder 63 = .ok (.isub, 1) := dk_100 (dk_at dksX2_addLadder_2 15 rfl rfl)
theorem dX2_addLadder_64 : decode cX2_addLadder 64 = .ok (.ireturn, 1) := dk_172 (dk_at dksX2_addLadder_2 16 rfl rfl)
abbrev cX2_ladderAt : ByteArray := prog_13_method_12_code
def yX2_ladderAt : MethodName := ⟨RX2, "ladderAt", "(I)I"⟩
def dkwX2_ladderAt_1 : List UInt8 := [180, 0, 85, 27, 160, 0, 5, 28, 172, 132, 2, 1, 167, 255, 222, 2, 172]
abbrev dktX2_ladderAt_1 : List UInt8 := dkwX2_ladderAt_1 ++ []
def dkwX2_ladderAt_0 : List UInt8 := [3, 61, 28, 42, 180, 0, 20, 182, 0, 121, 162, 0, 29, 42, 180, 0, 20, 28, 182, 0, 163, 192, 0, 80]
abbrev dktX2_ladderAt_0 : List UInt8 := dkwX2_ladderAt_0 ++ dktX2_ladderAt_1
theorem dksX2_ladderAt_0 : cX2_ladderAt.data.toList.drop 0 = dktX2_ladderAt_0 := by decide +kernel
theorem dksX2_ladderAt_1 : cX2_ladderAt.data.toList.drop 24 = dktX2_ladderAt_1 := dk_seg dksX2_ladderAt_0 24 rfl rfl
theorem dX2_ladderAt_0 : decode cX2_ladderAt 0 = .ok (.iconst 0, 1) := dk_3 (dk_at dksX2_ladderAt_0 0 rfl rfl)
theorem dX2_ladderAt_1 : decode cX2_ladderAt 1 = .ok (.istore_n 2, 1) := dk_61 (dk_at dksX2_ladderAt_0 1 rfl rfl)
theorem dX2_ladderAt_2 : decode cX2_ladderAt 2 = .ok (.iload_n 2, 1) := dk_28 (dk_at dksX2_ladderAt_0 2 rfl rfl)
theorem dX2_ladderAt_3 : decode cX2_ladderAt 3 = .ok (.aload_n 0, 1) := dk_42 (dk_at dksX2_ladderAt_0 3 rfl rfl)
theorem dX2_ladderAt_4 : decode cX2_ladderAt 4 = .ok (.getfield 20, 3) := dk_180 0 20 (dk_at dksX2_ladderAt_0 4 rfl rfl)
theorem dX2_ladderAt_7 : decode cX2_ladderAt 7 = .ok (.invokevirtual 121, 3) := dk_182 0 121 (dk_at dksX2_ladderAt_0 7 rfl rfl)
theorem dX2_ladderAt_10 : decode cX2_ladderAt 10 = .ok (.if_icmp .ge 29, 3) := dk_162 0 29 (dk_at dksX2_ladderAt_0 10 rfl rfl)
theorem dX2_ladderAt_13 : decode cX2_ladderAt 13 = .ok (.aload_n 0, 1) := dk_42 (dk_at dksX2_ladderAt_0 13 rfl rfl)
theorem dX2_ladderAt_14 : decode cX2_ladderAt 14 = .ok (.getfield 20, 3) := dk_180 0 20 (dk_at dksX2_ladderAt_0 14 rfl rfl)
theorem dX2_ladderAt_17 : decode cX2_ladderAt 17 = .ok (.iload_n 2, 1) := dk_28 (dk_at dksX2_ladderAt_0 17 rfl rfl)
theorem dX2_ladderAt_18 : decode cX2_ladderAt 18 = .ok (.invokevirtual 163, 3) := dk_182 0 163 (dk_at dksX2_ladderAt_0 18 rfl rfl)
theorem dX2_ladderAt_21 : decode cX2_ladderAt 21 = .ok (.checkcast 80, 3) := dk_192 0 80 (dk_at dksX2_ladderAt_0 21 rfl rfl)
theorem dX2_ladderAt_24 : decode cX2_ladderAt 24 = .ok (.getfield 85, 3) := dk_180 0 85 (dk_at dksX2_ladderAt_1 0 rfl rfl)
theorem dX2_ladderAt_27 : decode cX2_ladderAt 27 = .ok (.iload_n 1, 1) := dk_27 (dk_at dksX2_ladderAt_1 3 rfl rfl)
theorem dX2_ladderAt_28 : decode cX2_ladderAt 28 = .ok (.if_icmp .ne 5, 3) := dk_160 0 5 (dk_at dksX2_ladderAt_1 4 rfl rfl)
theorem dX2_ladderAt_31 : decode cX2_ladderAt 31 = .ok (.iload_n 2, 1) := dk_28 (dk_at dksX2_ladderAt_1 7 rfl rfl)
theorem dX2_ladderAt_32 : decode cX2_ladderAt 32 = .ok (.ireturn, 1) := dk_172 (dk_at dksX2_ladderAt_1 8 rfl rfl)
theorem dX2_ladderAt_33 : decode cX2_ladderAt 33 = .ok (.iinc 2 1, 3) := dk_132 2 1 (dk_at dksX2_ladderAt_1 9 rfl rfl)
theorem dX2_ladderAt_36 : decode cX2_ladderAt 36 = .ok (.goto (-34), 3) := dk_167 255 222 (dk_at dksX2_ladderAt_1 12 rfl rfl)
theorem dX2_ladderAt_39 : decode cX2_ladderAt 39 = .ok (.iconst (-1), 1) := dk_2 (dk_at dksX2_ladderAt_1 15 rfl rfl)
theorem dX2_ladderAt_40 : decode cX2_ladderAt 40 = .ok (.ireturn, 1) := dk_172 (dk_at dksX2_ladderAt_1 16 rfl rfl)
abbrev cX2_isLadder : ByteArray := prog_13_method_3_code
def yX2_isLadder : MethodName := ⟨RX2, "isLadder", "(I)Z"⟩
def dkwX2_isLadder_0 : List UInt8 := [27, 3, 42, 180, 0, 20, 182, 0, 121, 4, 100, 184, 0, 125, 172]
abbrev dktX2_isLadder_0 : List UInt8 := dkwX2_isLadder_0 ++ []
theorem dksX2_isLadder_0 : cX2_isLadder.data.toList.drop 0 = dktX2_isLadder_0 := by decide +kernel
theorem dX2_isLadder_0 : decode cX2_isLadder 0 = .ok (.iload_n 1, 1) := dk_27 (dk_at dksX2_isLadder_0 0 rfl rfl)
theorem dX2_isLadder_1 : decode cX2_isLadder 1 = .ok (.iconst 0, 1) := dk_3 (dk_at dksX2_isLadder_0 1 rfl rfl)
theorem dX2_isLadder_2 : decode cX2_isLadder 2 = .ok (.aload_n 0, 1) := dk_42 (dk_at dksX2_isLadder_0 2 rfl rfl)
theorem dX2_isLadder_3 : decode cX2_isLadder 3 = .ok (.getfield 20, 3) := dk_180 0 20 (dk_at dksX2_isLadder_0 3 rfl rfl)
theorem dX2_isLadder_6 : decode cX2_isLadder 6 = .ok (.invokevirtual 121, 3) := dk_182 0 121 (dk_at dksX2_isLadder_0 6 rfl rfl)
theorem dX2_isLadder_9 : decode cX2_isLadder 9 = .ok (.iconst 1, 1) := dk_4 (dk_at dksX2_isLadder_0 9 rfl rfl)
theorem dX2_isLadder_10 : decode cX2_isLadder 10 = .ok (.isub, 1) := dk_100 (dk_at dksX2_isLadder_0 10 rfl rfl)
theorem dX2_isLadder_11 : decode cX2_isLadder 11 = .ok (.invokestatic 125, 3) := dk_184 0 125 (dk_at dksX2_isLadder_0 11 rfl rfl)
theorem dX2_isLadder_14 : decode cX2_isLadder 14 = .ok (.ireturn, 1) := dk_172 (dk_at dksX2_isLadder_0 14 rfl rfl)
abbrev cX2_push : ByteArray := prog_13_method_15_code
def yX2_push : MethodName := ⟨RX2, "push", "(II)I"⟩
def dkwX2_push_2 : List UInt8 := [25, 4, 28, 181, 0, 85, 21, 5, 172]
abbrev dktX2_push_2 : List UInt8 := dkwX2_push_2 ++ []
def dkwX2_push_1 : List UInt8 := [184, 0, 170, 42, 180, 0, 20, 27, 182, 0, 163, 192, 0, 80, 58, 4, 25, 4, 180, 0, 85, 54, 5]
abbrev dktX2_push_1 : List UInt8 := dkwX2_push_1 ++ dktX2_push_2
def dkwX2_push_0 : List UInt8 := [42, 28, 182, 0, 174, 62, 29, 2, 159, 0, 12, 29, 27, 159, 0, 7, 4, 167, 0, 4, 3, 7, 29]
abbrev dktX2_push_0 : List UInt8 := dkwX2_push_0 ++ dktX2_push_1
theorem dksX2_push_0 : cX2_push.data.toList.drop 0 = dktX2_push_0 := by decide +kernel
theorem dksX2_push_1 : cX2_push.data.toList.drop 23 = dktX2_push_1 := dk_seg dksX2_push_0 23 rfl rfl
theorem dksX2_push_2 : cX2_push.data.toList.drop 46 = dktX2_push_2 := dk_seg dksX2_push_1 23 rfl rfl
theorem dX2_push_0 : decode cX2_push 0 = .ok (.aload_n 0, 1) := dk_42 (dk_at dksX2_push_0 0 rfl rfl)
theorem dX2_push_1 : decode cX2_push 1 = .ok (.iload_n 2, 1) := dk_28 (dk_at dksX2_push_0 1 rfl rfl)
theorem dX2_push_2 : decode cX2_push 2 = .ok (.invokevirtual 174, 3) := dk_182 0 174 (dk_at dksX2_push_0 2 rfl rfl)
theorem dX2_push_5 : decode cX2_push 5 = .ok (.istore_n 3, 1) := dk_62 (dk_at dksX2_push_0 5 rfl rfl)
theorem dX2_push_6 : decode cX2_push 6 = .ok (.iload_n 3, 1) := dk_29 (dk_at dksX2_push_0 6 rfl rfl)
theorem dX2_push_7 : decode cX2_push 7 = .ok (.iconst (-1), 1) := dk_2 (dk_at dksX2_push_0 7 rfl rfl)
theorem dX2_push_8 : decode cX2_push 8 = .ok (.if_icmp .eq 12, 3) := dk_159 0 12 (dk_at dksX2_push_0 8 rfl rfl)
theorem dX2_push_11 : decode cX2_push 11 = .ok (.iload_n 3, 1) := dk_29 (dk_at dksX2_push_0 11 rfl rfl)
theorem dX2_push_12 : decode cX2_push 12 = .ok (.iload_n 1, 1) := dk_27 (dk_at dksX2_push_0 12 rfl rfl)
theorem dX2_push_13 : decode cX2_push 13 = .ok (.if_icmp .eq 7, 3) := dk_159 0 7 (dk_at dksX2_push_0 13 rfl rfl)
theorem dX2_push_16 : decode cX2_push 16 = .ok (.iconst 1, 1) := dk_4 (dk_at dksX2_push_0 16 rfl rfl)
theorem dX2_push_17 : decode cX2_push 17 = .ok (.goto 4, 3) := dk_167 0 4 (dk_at dksX2_push_0 17 rfl rfl)
theorem dX2_push_20 : decode cX2_push 20 = .ok (.iconst 0, 1) := dk_3 (dk_at dksX2_push_0 20 rfl rfl)
theorem dX2_push_21 : decode cX2_push 21 = .ok (.iconst 4, 1) := dk_7 (dk_at dksX2_push_0 21 rfl rfl)
theorem dX2_push_22 : decode cX2_push 22 = .ok (.iload_n 3, 1) := dk_29 (dk_at dksX2_push_0 22 rfl rfl)
theorem dX2_push_23 : decode cX2_push 23 = .ok (.invokestatic 170, 3) := dk_184 0 170 (dk_at dksX2_push_1 0 rfl rfl)
theorem dX2_push_26 : decode cX2_push 26 = .ok (.aload_n 0, 1) := dk_42 (dk_at dksX2_push_1 3 rfl rfl)
theorem dX2_push_27 : decode cX2_push 27 = .ok (.getfield 20, 3) := dk_180 0 20 (dk_at dksX2_push_1 4 rfl rfl)
theorem dX2_push_30 : decode cX2_push 30 = .ok (.iload_n 1, 1) := dk_27 (dk_at dksX2_push_1 7 rfl rfl)
theorem dX2_push_31 : decode cX2_push 31 = .ok (.invokevirtual 163, 3) := dk_182 0 163 (dk_at dksX2_push_1 8 rfl rfl)
theorem dX2_push_34 : decode cX2_push 34 = .ok (.checkcast 80, 3) := dk_192 0 80 (dk_at dksX2_push_1 11 rfl rfl)
theorem dX2_push_37 : decode cX2_push 37 = .ok (.astore 4, 2) := dk_58 4 (dk_at dksX2_push_1 14 rfl rfl)
theorem dX2_push_39 : decode cX2_push 39 = .ok (.aload 4, 2) := dk_25 4 (dk_at dksX2_push_1 16 rfl rfl)
theorem dX2_push_41 : decode cX2_push 41 = .ok (.getfield 85, 3) := dk_180 0 85 (dk_at dksX2_push_1 18 rfl rfl)
theorem dX2_push_44 : decode cX2_push 44 = .ok (.istore 5, 2) := dk_54 5 (dk_at dksX2_push_1 21 rfl rfl)
theorem dX2_push_46 : decode cX2_push 46 = .ok (.aload 4, 2) := dk_25 4 (dk_at dksX2_push_2 0 rfl rfl)
theorem dX2_push_48 : decode cX2_push 48 = .ok (.iload_n 2, 1) := dk_28 (dk_at dksX2_push_2 2 rfl rfl)
theorem dX2_push_49 : decode cX2_push 49 = .ok (.putfield 85, 3) := dk_181 0 85 (dk_at dksX2_push_2 3 rfl rfl)
theorem dX2_push_52 : decode cX2_push 52 = .ok (.iload 5, 2) := dk_21 5 (dk_at dksX2_push_2 6 rfl rfl)
theorem dX2_push_54 : decode cX2_push 54 = .ok (.ireturn, 1) := dk_172 (dk_at dksX2_push_2 8 rfl rfl)
abbrev cX2_store : ByteArray := prog_13_method_16_code
def yX2_store : MethodName := ⟨RX2, "store", "(IILPaperStore$Paper;I)I"⟩
def dkwX2_store_5 : List UInt8 := [180, 0, 30, 25, 7, 182, 0, 91, 87, 25, 6, 25, 7, 182, 0, 91, 87, 25, 7, 180, 0, 71, 172]
abbrev dktX2_store_5 : List UInt8 := dkwX2_store_5 ++ []
def dkwX2_store_4 : List UInt8 := [184, 0, 170, 187, 0, 69, 89, 42, 180, 0, 30, 182, 0, 121, 45, 21, 4, 183, 0, 185, 58, 7, 42]
abbrev dktX2_store_4 : List UInt8 := dkwX2_store_4 ++ dktX2_store_5
def dkwX2_store_3 : List UInt8 := [28, 184, 0, 170, 42, 180, 0, 30, 182, 0, 121, 16, 30, 160, 0, 7, 4, 167, 0, 4, 3, 4, 16, 30]
abbrev dktX2_store_3 : List UInt8 := dkwX2_store_3 ++ dktX2_store_4
def dkwX2_store_2 : List UInt8 := [5, 25, 5, 180, 0, 82, 184, 0, 170, 25, 6, 182, 0, 121, 6, 160, 0, 7, 4, 167, 0, 4, 3, 6]
abbrev dktX2_store_2 : List UInt8 := dkwX2_store_2 ++ dktX2_store_3
def dkwX2_store_1 : List UInt8 := [180, 0, 178, 28, 50, 180, 0, 182, 58, 6, 28, 25, 5, 180, 0, 82, 161, 0, 7, 4, 167, 0, 4, 3]
abbrev dktX2_store_1 : List UInt8 := dkwX2_store_1 ++ dktX2_store_2
def dkwX2_store_0 : List UInt8 := [42, 180, 0, 20, 27, 182, 0, 163, 192, 0, 80, 58, 5, 42, 180, 0, 11, 25, 5, 180, 0, 85, 50]
abbrev dktX2_store_0 : List UInt8 := dkwX2_store_0 ++ dktX2_store_1
theorem dksX2_store_0 : cX2_store.data.toList.drop 0 = dktX2_store_0 := by decide +kernel
theorem dksX2_store_1 : cX2_store.data.toList.drop 23 = dktX2_store_1 := dk_seg dksX2_store_0 23 rfl rfl
theorem dksX2_store_2 : cX2_store.data.toList.drop 47 = dktX2_store_2 := dk_seg dksX2_store_1 24 rfl rfl
theorem dksX2_store_3 : cX2_store.data.toList.drop 71 = dktX2_store_3 := dk_seg dksX2_store_2 24 rfl rfl
theorem dksX2_store_4 : cX2_store.data.toList.drop 95 = dktX2_store_4 := dk_seg dksX2_store_3 24 rfl rfl
theorem dksX2_store_5 : cX2_store.data.toList.drop 118 = dktX2_store_5 := dk_seg dksX2_store_4 23 rfl rfl
theorem dX2_store_0 : decode cX2_store 0 = .ok (.aload_n 0, 1) := dk_42 (dk_at dksX2_store_0 0 rfl rfl)
theorem dX2_store_1 : decode cX2_store 1 = .ok (.getfield 20, 3) := dk_180 0 20 (dk_at dksX2_store_0 1 rfl rfl)
theorem dX2_store_4 : decode cX2_store 4 = .ok (.iload_n 1, 1) := dk_27 (dk_at dksX2_store_0 4 rfl rfl)
theorem dX2_store_5 : decode cX2_store 5 = .ok (.invokevirtual 163, 3) := dk_182 0 163 (dk_at dksX2_store_0 5 rfl rfl)
theorem dX2_store_8 : decode cX2_store 8 = .ok (.checkcast 80, 3) := dk_192 0 80 (dk_at dksX2_store_0 8 rfl rfl)
theorem dX2_store_11 : decode cX2_store 11 = .ok (.astore 5, 2) := dk_58 5 (dk_at dksX2_store_0 11 rfl rfl)
theorem dX2_store_13 : decode cX2_store 13 = .ok (.aload_n 0, 1) := dk_42 (dk_at dksX2_store_0 13 rfl rfl)
theorem dX2_store_14 : decode cX2_store 14 = .ok (.getfield 11, 3) := dk_180 0 11 (dk_at dksX2_store_0 14 rfl rfl)
theorem dX2_store_17 : decode cX2_store 17 = .ok (.aload 5, 2) := dk_25 5 (dk_at dksX2_store_0 17 rfl rfl)
theorem dX2_store_19 : decode cX2_store 19 = .ok (.getfield 85, 3) := dk_180 0 85 (dk_at dksX2_store_0 19 rfl rfl)
theorem dX2_store_22 : decode cX2_store 22 = .ok (.aaload, 1) := dk_50 (dk_at dksX2_store_0 22 rfl rfl)
theorem dX2_store_23 : decode cX2_store 23 = .ok (.getfield 178, 3) := dk_180 0 178 (dk_at dksX2_store_1 0 rfl rfl)
theorem dX2_store_26 : decode cX2_store 26 = .ok (.iload_n 2, 1) := dk_28 (dk_at dksX2_store_1 3 rfl rfl)
theorem dX2_store_27 : decode cX2_store 27 = .ok (.aaload, 1) := dk_50 (dk_at dksX2_store_1 4 rfl rfl)
theorem dX2_store_28 : decode cX2_store 28 = .ok (.getfield 182, 3) := dk_180 0 182 (dk_at dksX2_store_1 5 rfl rfl)
theorem dX2_store_31 : decode cX2_store 31 = .ok (.astore 6, 2) := dk_58 6 (dk_at dksX2_store_1 8 rfl rfl)
theorem dX2_store_33 : decode cX2_store 33 = .ok (.iload_n 2, 1) := dk_28 (dk_at dksX2_store_1 10 rfl rfl)
theorem dX2_store_34 : decode cX2_store 34 = .ok (.aload 5, 2) := dk_25 5 (dk_at dksX2_store_1 11 rfl rfl)
theorem dX2_store_36 : decode cX2_store 36 = .ok (.getfield 82, 3) := dk_180 0 82 (dk_at dksX2_store_1 13 rfl rfl)
theorem dX2_store_39 : decode cX2_store 39 = .ok (.if_icmp .lt 7, 3) := dk_161 0 7 (dk_at dksX2_store_1 16 rfl rfl)
theorem dX2_store_42 : decode cX2_store 42 = .ok (.iconst 1, 1) := dk_4 (dk_at dksX2_store_1 19 rfl rfl)
theorem dX2_store_43 : decode cX2_store 43 = .ok (.goto 4, 3) := dk_167 0 4 (dk_at dksX2_store_1 20 rfl rfl)
theorem dX2_store_46 : decode cX2_store 46 = .ok (.iconst 0, 1) := dk_3 (dk_at dksX2_store_1 23 rfl rfl)
theorem dX2_store_47 : decode cX2_store 47 = .ok (.iconst 2, 1) := dk_5 (dk_at dksX2_store_2 0 rfl rfl)
theorem dX2_store_48 : decode cX2_store 48 = .ok (.aload 5, 2) := dk_25 5 (dk_at dksX2_store_2 1 rfl rfl)
theorem dX2_store_50 : decode cX2_store 50 = .ok (.getfield 82, 3) := dk_180 0 82 (dk_at dksX2_store_2 3 rfl rfl)
theorem dX2_store_53 : decode cX2_store 53 = .ok (.invokestatic 170, 3) := dk_184 0 170 (dk_at dksX2_store_2 6 rfl rfl)
theorem dX2_store_56 : decode cX2_store 56 = .ok (.aload 6, 2) := dk_25 6 (dk_at dksX2_store_2 9 rfl rfl)
theorem dX2_store_58 : decode cX2_store 58 = .ok (.invokevirtual 121, 3) := dk_182 0 121 (dk_at dksX2_store_2 11 rfl rfl)
theorem dX2_store_61 : decode cX2_store 61 = .ok (.iconst 3, 1) := dk_6 (dk_at dksX2_store_2 14 rfl rfl)
theorem dX2_store_62 : decode cX2_store 62 = .ok (.if_icmp .ne 7, 3) := dk_160 0 7 (dk_at dksX2_store_2 15 rfl rfl)
theorem dX2_store_65 : decode cX2_store 65 = .ok (.iconst 1, 1) := dk_4 (dk_at dksX2_store_2 18 rfl rfl)
theorem dX2_store_66 : decode cX2_store 66 = .ok (.goto 4, 3) := dk_167 0 4 (dk_at dksX2_store_2 19 rfl rfl)
theorem dX2_store_69 : decode cX2_store 69 = .ok (.iconst 0, 1) := dk_3 (dk_at dksX2_store_2 22 rfl rfl)
theorem dX2_store_70 : decode cX2_store 70 = .ok (.iconst 3, 1) := dk_6 (dk_at dksX2_store_2 23 rfl rfl)
theorem dX2_store_71 : decode cX2_store 71 = .ok (.iload_n 2, 1) := dk_28 (dk_at dksX2_store_3 0 rfl rfl)
theorem dX2_store_72 : decode cX2_store 72 = .ok (.invokestatic 170, 3) := dk_184 0 170 (dk_at dksX2_store_3 1 rfl rfl)
theorem dX2_store_75 : decode cX2_store 75 = .ok (.aload_n 0, 1) := dk_42 (dk_at dksX2_store_3 4 rfl rfl)
theorem dX2_store_76 : decode cX2_store 76 = .ok (.getfield 30, 3) := dk_180 0 30 (dk_at dksX2_store_3 5 rfl rfl)
theorem dX2_store_79 : decode cX2_store 79 = .ok (.invokevirtual 121, 3) := dk_182 0 121 (dk_at dksX2_store_3 8 rfl rfl)
theorem dX2_store_82 : decode cX2_store 82 = .ok (.bipush 30, 2) := dk_16 30 (dk_at dksX2_store_3 11 rfl rfl)
theorem dX2_store_84 : decode cX2_store 84 = .ok (.if_icmp .ne 7, 3) := dk_160 0 7 (dk_at dksX2_store_3 13 rfl rfl)
theorem dX2_store_87 : decode cX2_store 87 = .ok (.iconst 1, 1) := dk_4 (dk_at dksX2_store_3 16 rfl rfl)
theorem dX2_store_88 : decode cX2_store 88 = .ok (.goto 4, 3) := dk_167 0 4 (dk_at dksX2_store_3 17 rfl rfl)
theorem dX2_store_91 : decode cX2_store 91 = .ok (.iconst 0, 1) := dk_3 (dk_at dksX2_store_3 20 rfl rfl)
theorem dX2_store_92 : decode cX2_store 92 = .ok (.iconst 1, 1) := dk_4 (dk_at dksX2_store_3 21 rfl rfl)
theorem dX2_store_93 : decode cX2_store 93 = .ok (.bipush 30, 2) := dk_16 30 (dk_at dksX2_store_3 22 rfl rfl)
theorem dX2_store_95 : decode cX2_store 95 = .ok (.invokestatic 170, 3) := dk_184 0 170 (dk_at dksX2_store_4 0 rfl rfl)
theorem dX2_store_98 : decode cX2_store 98 = .ok (.new 69, 3) := dk_187 0 69 (dk_at dksX2_store_4 3 rfl rfl)
theorem dX2_store_101 : decode cX2_store 101 = .ok (.dup, 1) := dk_89 (dk_at dksX2_store_4 6 rfl rfl)
theorem dX2_store_102 : decode cX2_store 102 = .ok (.aload_n 0, 1) := dk_42 (dk_at dksX2_store_4 7 rfl rfl)
theorem dX2_store_103 : decode cX2_store 103 = .ok (.getfield 30, 3) := dk_180 0 30 (dk_at dksX2_store_4 8 rfl rfl)
theorem dX2_store_106 : decode cX2_store 106 = .ok (.invokevirtual 121, 3) := dk_182 0 121 (dk_at dksX2_store_4 11 rfl rfl)
theorem dX2_store_109 : decode cX2_store 109 = .ok (.aload_n 3, 1) := dk_45 (dk_at dksX2_store_4 14 rfl rfl)
theorem dX2_store_110 : decode cX2_store 110 = .ok (.iload 4, 2) := dk_21 4 (dk_at dksX2_store_4 15 rfl rfl)
theorem dX2_store_112 : decode cX2_store 112 = .ok (.invokespecial 185, 3) := dk_183 0 185 (dk_at dksX2_store_4 17 rfl rfl)
theorem dX2_store_115 : decode cX2_store 115 = .ok (.astore 7, 2) := dk_58 7 (dk_at dksX2_store_4 20 rfl rfl)
theorem dX2_store_117 : decode cX2_store 117 = .ok (.aload_n 0, 1) := dk_42 (dk_at dksX2_store_4 22 rfl rfl)
theorem dX2_store_118 : decode cX2_store 118 = .ok (.getfield 30, 3) := dk_180 0 30 (dk_at dksX2_store_5 0 rfl rfl)
theorem dX2_store_121 : decode cX2_store 121 = .ok (.aload 7, 2) := dk_25 7 (dk_at dksX2_store_5 3 rfl rfl)
theorem dX2_store_123 : decode cX2_store 123 = .ok (.invokevirtual 91, 3) := dk_182 0 91 (dk_at dksX2_store_5 5 rfl rfl)
theorem dX2_store_126 : decode cX2_store 126 = .ok (.pop, 1) := dk_87 (dk_at dksX2_store_5 8 rfl rfl)
theorem dX2_store_127 : decode cX2_store 127 = .ok (.aload 6, 2) := dk_25 6 (dk_at dksX2_store_5 9 rfl rfl)
theorem dX2_store_129 : decode cX2_store 129 = .ok (.aload 7, 2) := dk_25 7 (dk_at dksX2_store_5 11 rfl rfl)
theorem dX2_store_131 : decode cX2_store 131 = .ok (.invokevirtual 91, 3) := dk_182 0 91 (dk_at dksX2_store_5 13 rfl rfl)
theorem dX2_store_134 : decode cX2_store 134 = .ok (.pop, 1) := dk_87 (dk_at dksX2_store_5 16 rfl rfl)
theorem dX2_store_135 : decode cX2_store 135 = .ok (.aload 7, 2) := dk_25 7 (dk_at dksX2_store_5 17 rfl rfl)
theorem dX2_store_137 : decode cX2_store 137 = .ok (.getfield 71, 3) := dk_180 0 71 (dk_at dksX2_store_5 19 rfl rfl)
theorem dX2_store_140 : decode cX2_store 140 = .ok (.ireturn, 1) := dk_172 (dk_at dksX2_store_5 22 rfl rfl)
abbrev cX2_aisleOf : ByteArray := prog_13_method_13_code
def yX2_aisleOf : MethodName := ⟨RX2, "aisleOf", "(LPaperStore$Ream;)I"⟩
def dkwX2_aisleOf_1 : List UInt8 := [153, 0, 5, 28, 172, 132, 2, 1, 167, 255, 228, 2, 172]
abbrev dktX2_aisleOf_1 : List UInt8 := dkwX2_aisleOf_1 ++ []
def dkwX2_aisleOf_0 : List UInt8 := [3, 61, 28, 8, 162, 0, 29, 42, 180, 0, 11, 28, 50, 182, 0, 50, 43, 185, 0, 167, 2, 0]
abbrev dktX2_aisleOf_0 : List UInt8 := dkwX2_aisleOf_0 ++ dktX2_aisleOf_1
theorem dksX2_aisleOf_0 : cX2_aisleOf.data.toList.drop 0 = dktX2_aisleOf_0 := by decide +kernel
theorem dksX2_aisleOf_1 : cX2_aisleOf.data.toList.drop 22 = dktX2_aisleOf_1 := dk_seg dksX2_aisleOf_0 22 rfl rfl
theorem dX2_aisleOf_0 : decode cX2_aisleOf 0 = .ok (.iconst 0, 1) := dk_3 (dk_at dksX2_aisleOf_0 0 rfl rfl)
theorem dX2_aisleOf_1 : decode cX2_aisleOf 1 = .ok (.istore_n 2, 1) := dk_61 (dk_at dksX2_aisleOf_0 1 rfl rfl)
theorem dX2_aisleOf_2 : decode cX2_aisleOf 2 = .ok (.iload_n 2, 1) := dk_28 (dk_at dksX2_aisleOf_0 2 rfl rfl)
theorem dX2_aisleOf_3 : decode cX2_aisleOf 3 = .ok (.iconst 5, 1) := dk_8 (dk_at dksX2_aisleOf_0 3 rfl rfl)
theorem dX2_aisleOf_4 : decode cX2_aisleOf 4 = .ok (.if_icmp .ge 29, 3) := dk_162 0 29 (dk_at dksX2_aisleOf_0 4 rfl rfl)
theorem dX2_aisleOf_7 : decode cX2_aisleOf 7 = .ok (.aload_n 0, 1) := dk_42 (dk_at dksX2_aisleOf_0 7 rfl rfl)
theorem dX2_aisleOf_8 : decode cX2_aisleOf 8 = .ok (.getfield 11, 3) := dk_180 0 11 (dk_at dksX2_aisleOf_0 8 rfl rfl)
theorem dX2_aisleOf_11 : decode cX2_aisleOf 11 = .ok (.iload_n 2, 1) := dk_28 (dk_at dksX2_aisleOf_0 11 rfl rfl)
theorem dX2_aisleOf_12 : decode cX2_aisleOf 12 = .ok (.aaload, 1) := dk_50 (dk_at dksX2_aisleOf_0 12 rfl rfl)
theorem dX2_aisleOf_13 : decode cX2_aisleOf 13 = .ok (.invokevirtual 50, 3) := dk_182 0 50 (dk_at dksX2_aisleOf_0 13 rfl rfl)
theorem dX2_aisleOf_16 : decode cX2_aisleOf 16 = .ok (.aload_n 1, 1) := dk_43 (dk_at dksX2_aisleOf_0 16 rfl rfl)
theorem dX2_aisleOf_17 : decode cX2_aisleOf 17 = .ok (.invokeinterface 167 2, 5) := by decide +kernel
theorem dX2_aisleOf_22 : decode cX2_aisleOf 22 = .ok (.ifCond .eq 5, 3) := dk_153 0 5 (dk_at dksX2_aisleOf_1 0 rfl rfl)
theorem dX2_aisleOf_25 : decode cX2_aisleOf 25 = .ok (.iload_n 2, 1) := dk_28 (dk_at dksX2_aisleOf_1 3 rfl rfl)
theorem dX2_aisleOf_26 : decode cX2_aisleOf 26 = .ok (.ireturn, 1) := dk_172 (dk_at dksX2_aisleOf_1 4 rfl rfl)
theorem dX2_aisleOf_27 : decode cX2_aisleOf 27 = .ok (.iinc 2 1, 3) := dk_132 2 1 (dk_at dksX2_aisleOf_1 5 rfl rfl)
theorem dX2_aisleOf_30 : decode cX2_aisleOf 30 = .ok (.goto (-28), 3) := dk_167 255 228 (dk_at dksX2_aisleOf_1 8 rfl rfl)
theorem dX2_aisleOf_33 : decode cX2_aisleOf 33 = .ok (.iconst (-1), 1) := dk_2 (dk_at dksX2_aisleOf_1 11 rfl rfl)
theorem dX2_aisleOf_34 : decode cX2_aisleOf 34 = .ok (.ireturn, 1) := dk_172 (dk_at dksX2_aisleOf_1 12 rfl rfl)
abbrev cX2_air : ByteArray := prog_13_method_17_code
def yX2_air : MethodName := ⟨RX2, "air", "(II)I"⟩
def dkwX2_air_0 : List UInt8 := [42, 180, 0, 11, 27, 50, 180, 0, 188, 62, 42, 180, 0, 11, 27, 50, 28, 181, 0, 188, 29, 172]
abbrev dktX2_air_0 : List UInt8 := dkwX2_air_0 ++ []
theorem dksX2_air_0 : cX2_air.data.toList.drop 0 = dktX2_air_0 := by decide +kernel
theorem dX2_air_0 : decode cX2_air 0 = .ok (.aload_n 0, 1) := dk_42 (dk_at dksX2_air_0 0 rfl rfl)
theorem dX2_air_1 : decode cX2_air 1 = .ok (.getfield 11, 3) := dk_180 0 11 (dk_at dksX2_air_0 1 rfl rfl)
theorem dX2_air_4 : decode cX2_air 4 = .ok (.iload_n 1, 1) := dk_27 (dk_at dksX2_air_0 4 rfl rfl)
theorem dX2_air_5 : decode cX2_air 5 = .ok (.aaload, 1) := dk_50 (dk_at dksX2_air_0 5 rfl rfl)
theorem dX2_air_6 : decode cX2_air 6 = .ok (.getfield 188, 3) := dk_180 0 188 (dk_at dksX2_air_0 6 rfl rfl)
theorem dX2_air_9 : decode cX2_air 9 = .ok (.istore_n 3, 1) := dk_62 (dk_at dksX2_air_0 9 rfl rfl)
theorem dX2_air_10 : decode cX2_air 10 = .ok (.aload_n 0, 1) := dk_42 (dk_at dksX2_air_0 10 rfl rfl)
theorem dX2_air_11 : decode cX2_air 11 = .ok (.getfield 11, 3) := dk_180 0 11 (dk_at dksX2_air_0 11 rfl rfl)
theorem dX2_air_14 : decode cX2_air 14 = .ok (.iload_n 1, 1) := dk_27 (dk_at dksX2_air_0 14 rfl rfl)
theorem dX2_air_15 : decode cX2_air 15 = .ok (.aaload, 1) := dk_50 (dk_at dksX2_air_0 15 rfl rfl)
theorem dX2_air_16 : decode cX2_air 16 = .ok (.iload_n 2, 1) := dk_28 (dk_at dksX2_air_0 16 rfl rfl)
theorem dX2_air_17 : decode cX2_air 17 = .ok (.putfield 188, 3) := dk_181 0 188 (dk_at dksX2_air_0 17 rfl rfl)
theorem dX2_air_20 : decode cX2_air 20 = .ok (.iload_n 3, 1) := dk_29 (dk_at dksX2_air_0 20 rfl rfl)
theorem dX2_air_21 : decode cX2_air 21 = .ok (.ireturn, 1) := dk_172 (dk_at dksX2_air_0 21 rfl rfl)
abbrev cX2_mice : ByteArray := prog_13_method_18_code
def yX2_mice : MethodName := ⟨RX2, "mice", "(II)I"⟩
def dkwX2_mice_1 : List UInt8 := [181, 0, 157, 42, 180, 0, 11, 27, 50, 180, 0, 157, 172]
abbrev dktX2_mice_1 : List UInt8 := dkwX2_mice_1 ++ []
def dkwX2_mice_0 : List UInt8 := [42, 180, 0, 11, 27, 50, 16, 40, 42, 180, 0, 11, 27, 50, 180, 0, 157, 28, 96, 184, 0, 191]
abbrev dktX2_mice_0 : List UInt8 := dkwX2_mice_0 ++ dktX2_mice_1
theorem dksX2_mice_0 : cX2_mice.data.toList.drop 0 = dktX2_mice_0 := by decide +kernel
theorem dksX2_mice_1 : cX2_mice.data.toList.drop 22 = dktX2_mice_1 := dk_seg dksX2_mice_0 22 rfl rfl
theorem dX2_mice_0 : decode cX2_mice 0 = .ok (.aload_n 0, 1) := dk_42 (dk_at dksX2_mice_0 0 rfl rfl)
theorem dX2_mice_1 : decode cX2_mice 1 = .ok (.getfield 11, 3) := dk_180 0 11 (dk_at dksX2_mice_0 1 rfl rfl)
theorem dX2_mice_4 : decode cX2_mice 4 = .ok (.iload_n 1, 1) := dk_27 (dk_at dksX2_mice_0 4 rfl rfl)
theorem dX2_mice_5 : decode cX2_mice 5 = .ok (.aaload, 1) := dk_50 (dk_at dksX2_mice_0 5 rfl rfl)
theorem dX2_mice_6 : decode cX2_mice 6 = .ok (.bipush 40, 2) := dk_16 40 (dk_at dksX2_mice_0 6 rfl rfl)
theorem dX2_mice_8 : decode cX2_mice 8 = .ok (.aload_n 0, 1) := dk_42 (dk_at dksX2_mice_0 8 rfl rfl)
theorem dX2_mice_9 : decode cX2_mice 9 = .ok (.getfield 11, 3) := dk_180 0 11 (dk_at dksX2_mice_0 9 rfl rfl)
theorem dX2_mice_12 : decode cX2_mice 12 = .ok (.iload_n 1, 1) := dk_27 (dk_at dksX2_mice_0 12 rfl rfl)
theorem dX2_mice_13 : decode cX2_mice 13 = .ok (.aaload, 1) := dk_50 (dk_at dksX2_mice_0 13 rfl rfl)
theorem dX2_mice_14 : decode cX2_mice 14 = .ok (.getfield 157, 3) := dk_180 0 157 (dk_at dksX2_mice_0 14 rfl rfl)
theorem dX2_mice_17 : decode cX2_mice 17 = .ok (.iload_n 2, 1) := dk_28 (dk_at dksX2_mice_0 17 rfl rfl)
theorem dX2_mice_18 : decode cX2_mice 18 = .ok (.iadd, 1) := dk_96 (dk_at dksX2_mice_0 18 rfl rfl)
theorem dX2_mice_19 : decode cX2_mice 19 = .ok (.invokestatic 191, 3) := dk_184 0 191 (dk_at dksX2_mice_0 19 rfl rfl)
theorem dX2_mice_22 : decode cX2_mice 22 = .ok (.putfield 157, 3) := dk_181 0 157 (dk_at dksX2_mice_1 0 rfl rfl)
theorem dX2_mice_25 : decode cX2_mice 25 = .ok (.aload_n 0, 1) := dk_42 (dk_at dksX2_mice_1 3 rfl rfl)
theorem dX2_mice_26 : decode cX2_mice 26 = .ok (.getfield 11, 3) := dk_180 0 11 (dk_at dksX2_mice_1 4 rfl rfl)
theorem dX2_mice_29 : decode cX2_mice 29 = .ok (.iload_n 1, 1) := dk_27 (dk_at dksX2_mice_1 7 rfl rfl)
theorem dX2_mice_30 : decode cX2_mice 30 = .ok (.aaload, 1) := dk_50 (dk_at dksX2_mice_1 8 rfl rfl)
theorem dX2_mice_31 : decode cX2_mice 31 = .ok (.getfield 157, 3) := dk_180 0 157 (dk_at dksX2_mice_1 9 rfl rfl)
theorem dX2_mice_34 : decode cX2_mice 34 = .ok (.ireturn, 1) := dk_172 (dk_at dksX2_mice_1 12 rfl rfl)
abbrev cX2_trap : ByteArray := prog_13_method_19_code
def yX2_trap : MethodName := ⟨RX2, "trap", "(II)I"⟩
def dkwX2_trap_0 : List UInt8 := [42, 180, 0, 11, 27, 50, 180, 0, 197, 62, 42, 180, 0, 11, 27, 50, 28, 181, 0, 197, 29, 172]
abbrev dktX2_trap_0 : List UInt8 := dkwX2_trap_0 ++ []
theorem dksX2_trap_0 : cX2_trap.data.toList.drop 0 = dktX2_trap_0 := by decide +kernel
theorem dX2_trap_0 : decode cX2_trap 0 = .ok (.aload_n 0, 1) := dk_42 (dk_at dksX2_trap_0 0 rfl rfl)
theorem dX2_trap_1 : decode cX2_trap 1 = .ok (.getfield 11, 3) := dk_180 0 11 (dk_at dksX2_trap_0 1 rfl rfl)
theorem dX2_trap_4 : decode cX2_trap 4 = .ok (.iload_n 1, 1) := dk_27 (dk_at dksX2_trap_0 4 rfl rfl)
theorem dX2_trap_5 : decode cX2_trap 5 = .ok (.aaload, 1) := dk_50 (dk_at dksX2_trap_0 5 rfl rfl)
theorem dX2_trap_6 : decode cX2_trap 6 = .ok (.getfield 197, 3) := dk_180 0 197 (dk_at dksX2_trap_0 6 rfl rfl)
theorem dX2_trap_9 : decode cX2_trap 9 = .ok (.istore_n 3, 1) := dk_62 (dk_at dksX2_trap_0 9 rfl rfl)
theorem dX2_trap_10 : decode cX2_trap 10 = .ok (.aload_n 0, 1) := dk_42 (dk_at dksX2_trap_0 10 rfl rfl)
theorem dX2_trap_11 : decode cX2_trap 11 = .ok (.getfield 11, 3) := dk_180 0 11 (dk_at dksX2_trap_0 11 rfl rfl)
theorem dX2_trap_14 : decode cX2_trap 14 = .ok (.iload_n 1, 1) := dk_27 (dk_at dksX2_trap_0 14 rfl rfl)
theorem dX2_trap_15 : decode cX2_trap 15 = .ok (.aaload, 1) := dk_50 (dk_at dksX2_trap_0 15 rfl rfl)
theorem dX2_trap_16 : decode cX2_trap 16 = .ok (.iload_n 2, 1) := dk_28 (dk_at dksX2_trap_0 16 rfl rfl)
theorem dX2_trap_17 : decode cX2_trap 17 = .ok (.putfield 197, 3) := dk_181 0 197 (dk_at dksX2_trap_0 17 rfl rfl)
theorem dX2_trap_20 : decode cX2_trap 20 = .ok (.iload_n 3, 1) := dk_29 (dk_at dksX2_trap_0 20 rfl rfl)
theorem dX2_trap_21 : decode cX2_trap 21 = .ok (.ireturn, 1) := dk_172 (dk_at dksX2_trap_0 21 rfl rfl)
abbrev cX2_isAhead : ByteArray := prog_13_method_20_code
def yX2_isAhead : MethodName := ⟨RX2, "isAhead", "(II)Z"⟩
def dkwX2_isAhead_3 : List UInt8 := [167, 0, 17, 3, 167, 0, 13, 27, 28, 162, 0, 7, 4, 167, 0, 4, 3, 172]
abbrev dktX2_isAhead_3 : List UInt8 := dkwX2_isAhead_3 ++ []
def dkwX2_isAhead_2 : List UInt8 := [158, 0, 7, 4, 167, 0, 35, 3, 167, 0, 31, 21, 4, 153, 0, 16, 21, 4, 156, 0, 7, 4]
abbrev dktX2_isAhead_2 : List UInt8 := dkwX2_isAhead_2 ++ dktX2_isAhead_3
def dkwX2_isAhead_1 : List UInt8 := [27, 50, 180, 0, 157, 42, 180, 0, 11, 28, 50, 180, 0, 157, 100, 54, 4, 29, 153, 0, 15, 29]
abbrev dktX2_isAhead_1 : List UInt8 := dkwX2_isAhead_1 ++ dktX2_isAhead_2
def dkwX2_isAhead_0 : List UInt8 := [42, 180, 0, 11, 27, 50, 182, 0, 148, 42, 180, 0, 11, 28, 50, 182, 0, 148, 100, 62, 42, 180, 0, 11]
abbrev dktX2_isAhead_0 : List UInt8 := dkwX2_isAhead_0 ++ dktX2_isAhead_1
theorem dksX2_isAhead_0 : cX2_isAhead.data.toList.drop 0 = dktX2_isAhead_0 := by decide +kernel
theorem dksX2_isAhead_1 : cX2_isAhead.data.toList.drop 24 = dktX2_isAhead_1 := dk_seg dksX2_isAhead_0 24 rfl rfl
theorem dksX2_isAhead_2 : cX2_isAhead.data.toList.drop 46 = dktX2_isAhead_2 := dk_seg dksX2_isAhead_1 22 rfl rfl
theorem dksX2_isAhead_3 : cX2_isAhead.data.toList.drop 68 = dktX2_isAhead_3 := dk_seg dksX2_isAhead_2 22 rfl rfl
theorem dX2_isAhead_0 : decode cX2_isAhead 0 = .ok (.aload_n 0, 1) := dk_42 (dk_at dksX2_isAhead_0 0 rfl rfl)
theorem dX2_isAhead_1 : decode cX2_isAhead 1 = .ok (.getfield 11, 3) := dk_180 0 11 (dk_at dksX2_isAhead_0 1 rfl rfl)
theorem dX2_isAhead_4 : decode cX2_isAhead 4 = .ok (.iload_n 1, 1) := dk_27 (dk_at dksX2_isAhead_0 4 rfl rfl)
theorem dX2_isAhead_5 : decode cX2_isAhead 5 = .ok (.aaload, 1) := dk_50 (dk_at dksX2_isAhead_0 5 rfl rfl)
theorem dX2_isAhead_6 : decode cX2_isAhead 6 = .ok (.invokevirtual 148, 3) := dk_182 0 148 (dk_at dksX2_isAhead_0 6 rfl rfl)
theorem dX2_isAhead_9 : decode cX2_isAhead 9 = .ok (.aload_n 0, 1) := dk_42 (dk_at dksX2_isAhead_0 9 rfl rfl)
theorem dX2_isAhead_10 : decode cX2_isAhead 10 = .ok (.getfield 11, 3) := dk_180 0 11 (dk_at dksX2_isAhead_0 10 rfl rfl)
theorem dX2_isAhead_13 : decode cX2_isAhead 13 = .ok (.iload_n 2, 1) := dk_28 (dk_at dksX2_isAhead_0 13 rfl rfl)
theorem dX2_isAhead_14 : decode cX2_isAhead 14 = .ok (.aaload, 1) := dk_50 (dk_at dksX2_isAhead_0 14 rfl rfl)
theorem dX2_isAhead_15 : decode cX2_isAhead 15 = .ok (.invokevirtual 148, 3) := dk_182 0 148 (dk_at dksX2_isAhead_0 15 rfl rfl)
theorem dX2_isAhead_18 : decode cX2_isAhead 18 = .ok (.isub, 1) := dk_100 (dk_at dksX2_isAhead_0 18 rfl rfl)
theorem dX2_isAhead_19 : decode cX2_isAhead 19 = .ok (.istore_n 3, 1) := dk_62 (dk_at dksX2_isAhead_0 19 rfl rfl)
theorem dX2_isAhead_20 : decode cX2_isAhead 20 = .ok (.aload_n 0, 1) := dk_42 (dk_at dksX2_isAhead_0 20 rfl rfl)
theorem dX2_isAhead_21 : decode cX2_isAhead 21 = .ok (.getfield 11, 3) := dk_180 0 11 (dk_at dksX2_isAhead_0 21 rfl rfl)
theorem dX2_isAhead_24 : decode cX2_isAhead 24 = .ok (.iload_n 1, 1) := dk_27 (dk_at dksX2_isAhead_1 0 rfl rfl)
theorem dX2_isAhead_25 : decode cX2_isAhead 25 = .ok (.aaload, 1) := dk_50 (dk_at dksX2_isAhead_1 1 rfl rfl)
theorem dX2_isAhead_26 : decode cX2_isAhead 26 = .ok (.getfield 157, 3) := dk_180 0 157 (dk_at dksX2_isAhead_1 2 rfl rfl)
theorem dX2_isAhead_29 : decode cX2_isAhead 29 = .ok (.aload_n 0, 1) := dk_42 (dk_at dksX2_isAhead_1 5 rfl rfl)
theorem dX2_isAhead_30 : decode cX2_isAhead 30 = .ok (.getfield 11, 3) := dk_180 0 11 (dk_at dksX2_isAhead_1 6 rfl rfl)
theorem dX2_isAhead_33 : decode cX2_isAhead 33 = .ok (.iload_n 2, 1) := dk_28 (dk_at dksX2_isAhead_1 9 rfl rfl)
theorem dX2_isAhead_34 : decode cX2_isAhead 34 = .ok (.aaload, 1) := dk_50 (dk_at dksX2_isAhead_1 10 rfl rfl)
theorem dX2_isAhead_35 : decode cX2_isAhead 35 = .ok (.getfield 157, 3) := dk_180 0 157 (dk_at dksX2_isAhead_1 11 rfl rfl)
theorem dX2_isAhead_38 : decode cX2_isAhead 38 = .ok (.isub, 1) := dk_100 (dk_at dksX2_isAhead_1 14 rfl rfl)
theorem dX2_isAhead_39 : decode cX2_isAhead 39 = .ok (.istore 4, 2) := dk_54 4 (dk_at dksX2_isAhead_1 15 rfl rfl)
theorem dX2_isAhead_41 : decode cX2_isAhead 41 = .ok (.iload_n 3, 1) := dk_29 (dk_at dksX2_isAhead_1 17 rfl rfl)
theorem dX2_isAhead_42 : decode cX2_isAhead 42 = .ok (.ifCond .eq 15, 3) := dk_153 0 15 (dk_at dksX2_isAhead_1 18 rfl rfl)
theorem dX2_isAhead_45 : decode cX2_isAhead 45 = .ok (.iload_n 3, 1) := dk_29 (dk_at dksX2_isAhead_1 21 rfl rfl)
theorem dX2_isAhead_46 : decode cX2_isAhead 46 = .ok (.ifCond .le 7, 3) := dk_158 0 7 (dk_at dksX2_isAhead_2 0 rfl rfl)
theorem dX2_isAhead_49 : decode cX2_isAhead 49 = .ok (.iconst 1, 1) := dk_4 (dk_at dksX2_isAhead_2 3 rfl rfl)
theorem dX2_isAhead_50 : decode cX2_isAhead 50 = .ok (.goto 35, 3) := dk_167 0 35 (dk_at dksX2_isAhead_2 4 rfl rfl)
theorem dX2_isAhead_53 : decode cX2_isAhead 53 = .ok (.iconst 0, 1) := dk_3 (dk_at dksX2_isAhead_2 7 rfl rfl)
theorem dX2_isAhead_54 : decode cX2_isAhead 54 = .ok (.goto 31, 3) := dk_167 0 31 (dk_at dksX2_isAhead_2 8 rfl rfl)
theorem dX2_isAhead_57 : decode cX2_isAhead 57 = .ok (.iload 4, 2) := dk_21 4 (dk_at dksX2_isAhead_2 11 rfl rfl)
theorem dX2_isAhead_59 : decode cX2_isAhead 59 = .ok (.ifCond .eq 16, 3) := dk_153 0 16 (dk_at dksX2_isAhead_2 13 rfl rfl)
theorem dX2_isAhead_62 : decode cX2_isAhead 62 = .ok (.iload 4, 2) := dk_21 4 (dk_at dksX2_isAhead_2 16 rfl rfl)
theorem dX2_isAhead_64 : decode cX2_isAhead 64 = .ok (.ifCond .ge 7, 3) := dk_156 0 7 (dk_at dksX2_isAhead_2 18 rfl rfl)
theorem dX2_isAhead_67 : decode cX2_isAhead 67 = .ok (.iconst 1, 1) := dk_4 (dk_at dksX2_isAhead_2 21 rfl rfl)
theorem dX2_isAhead_68 : decode cX2_isAhead 68 = .ok (.goto 17, 3) := dk_167 0 17 (dk_at dksX2_isAhead_3 0 rfl rfl)
theorem dX2_isAhead_71 : decode cX2_isAhead 71 = .ok (.iconst 0, 1) := dk_3 (dk_at dksX2_isAhead_3 3 rfl rfl)
theorem dX2_isAhead_72 : decode cX2_isAhead 72 = .ok (.goto 13, 3) := dk_167 0 13 (dk_at dksX2_isAhead_3 4 rfl rfl)
theorem dX2_isAhead_75 : decode cX2_isAhead 75 = .ok (.iload_n 1, 1) := dk_27 (dk_at dksX2_isAhead_3 7 rfl rfl)
theorem dX2_isAhead_76 : decode cX2_isAhead 76 = .ok (.iload_n 2, 1) := dk_28 (dk_at dksX2_isAhead_3 8 rfl rfl)
theorem dX2_isAhead_77 : decode cX2_isAhead 77 = .ok (.if_icmp .ge 7, 3) := dk_162 0 7 (dk_at dksX2_isAhead_3 9 rfl rfl)
theorem dX2_isAhead_80 : decode cX2_isAhead 80 = .ok (.iconst 1, 1) := dk_4 (dk_at dksX2_isAhead_3 12 rfl rfl)
theorem dX2_isAhead_81 : decode cX2_isAhead 81 = .ok (.goto 4, 3) := dk_167 0 4 (dk_at dksX2_isAhead_3 13 rfl rfl)
theorem dX2_isAhead_84 : decode cX2_isAhead 84 = .ok (.iconst 0, 1) := dk_3 (dk_at dksX2_isAhead_3 16 rfl rfl)
theorem dX2_isAhead_85 : decode cX2_isAhead 85 = .ok (.ireturn, 1) := dk_172 (dk_at dksX2_isAhead_3 17 rfl rfl)
abbrev cX2_addOrder : ByteArray := prog_13_method_21_code
def yX2_addOrder : MethodName := ⟨RX2, "addOrder", "(LPaperStore$Paper;I)I"⟩
def dkwX2_addOrder_2 : List UInt8 := [100, 172]
abbrev dktX2_addOrder_2 : List UInt8 := dkwX2_addOrder_2 ++ []
def dkwX2_addOrder_1 : List UInt8 := [180, 0, 24, 187, 0, 95, 89, 43, 28, 183, 0, 200, 182, 0, 91, 87, 42, 180, 0, 24, 182, 0, 121, 4]
abbrev dktX2_addOrder_1 : List UInt8 := dkwX2_addOrder_1 ++ dktX2_addOrder_2
def dkwX2_addOrder_0 : List UInt8 := [42, 180, 0, 24, 182, 0, 121, 16, 20, 160, 0, 7, 4, 167, 0, 4, 3, 4, 16, 20, 184, 0, 170, 42]
abbrev dktX2_addOrder_0 : List UInt8 := dkwX2_addOrder_0 ++ dktX2_addOrder_1
theorem dksX2_addOrder_0 : cX2_addOrder.data.toList.drop 0 = dktX2_addOrder_0 := by decide +kernel
theorem dksX2_addOrder_1 : cX2_addOrder.data.toList.drop 24 = dktX2_addOrder_1 := dk_seg dksX2_addOrder_0 24 rfl rfl
theorem dksX2_addOrder_2 : cX2_addOrder.data.toList.drop 48 = dktX2_addOrder_2 := dk_seg dksX2_addOrder_1 24 rfl rfl
theorem dX2_addOrder_0 : decode cX2_addOrder 0 = .ok (.aload_n 0, 1) := dk_42 (dk_at dksX2_addOrder_0 0 rfl rfl)
theorem dX2_addOrder_1 : decode cX2_addOrder 1 = .ok (.getfield 24, 3) := dk_180 0 24 (dk_at dksX2_addOrder_0 1 rfl rfl)
theorem dX2_addOrder_4 : decode cX2_addOrder 4 = .ok (.invokevirtual 121, 3) := dk_182 0 121 (dk_at dksX2_addOrder_0 4 rfl rfl)
theorem dX2_addOrder_7 : decode cX2_addOrder 7 = .ok (.bipush 20, 2) := dk_16 20 (dk_at dksX2_addOrder_0 7 rfl rfl)
theorem dX2_addOrder_9 : decode cX2_addOrder 9 = .ok (.if_icmp .ne 7, 3) := dk_160 0 7 (dk_at dksX2_addOrder_0 9 rfl rfl)
theorem dX2_addOrder_12 : decode cX2_addOrder 12 = .ok (.iconst 1, 1) := dk_4 (dk_at dksX2_addOrder_0 12 rfl rfl)
theorem dX2_addOrder_13 : decode cX2_addOrder 13 = .ok (.goto 4, 3) := dk_167 0 4 (dk_at dksX2_addOrder_0 13 rfl rfl)
theorem dX2_addOrder_16 : decode cX2_addOrder 16 = .ok (.iconst 0, 1) := dk_3 (dk_at dksX2_addOrder_0 16 rfl rfl)
theorem dX2_addOrder_17 : decode cX2_addOrder 17 = .ok (.iconst 1, 1) := dk_4 (dk_at dksX2_addOrder_0 17 rfl rfl)
theorem dX2_addOrder_18 : decode cX2_addOrder 18 = .ok (.bipush 20, 2) := dk_16 20 (dk_at dksX2_addOrder_0 18 rfl rfl)
theorem dX2_addOrder_20 : decode cX2_addOrder 20 = .ok (.invokestatic 170, 3) := dk_184 0 170 (dk_at dksX2_addOrder_0 20 rfl rfl)
theorem dX2_addOrder_23 : decode cX2_addOrder 23 = .ok (.aload_n 0, 1) := dk_42 (dk_at dksX2_addOrder_0 23 rfl rfl)
theorem dX2_addOrder_24 : decode cX2_addOrder 24 = .ok (.getfield 24, 3) := dk_180 0 24 (dk_at dksX2_addOrder_1 0 rfl rfl)
theorem dX2_addOrder_27 : decode cX2_addOrder 27 = .ok (.new 95, 3) := dk_187 0 95 (dk_at dksX2_addOrder_1 3 rfl rfl)
theorem dX2_addOrder_30 : decode cX2_addOrder 30 = .ok (.dup, 1) := dk_89 (dk_at dksX2_addOrder_1 6 rfl rfl)
theorem dX2_addOrder_31 : decode cX2_addOrder 31 = .ok (.aload_n 1, 1) := dk_43 (dk_at dksX2_addOrder_1 7 rfl rfl)
theorem dX2_addOrder_32 : decode cX2_addOrder 32 = .ok (.iload_n 2, 1) := dk_28 (dk_at dksX2_addOrder_1 8 rfl rfl)
theorem dX2_addOrder_33 : decode cX2_addOrder 33 = .ok (.invokespecial 200, 3) := dk_183 0 200 (dk_at dksX2_addOrder_1 9 rfl rfl)
theorem dX2_addOrder_36 : decode cX2_addOrder 36 = .ok (.invokevirtual 91, 3) := dk_182 0 91 (dk_at dksX2_addOrder_1 12 rfl rfl)
theorem dX2_addOrder_39 : decode cX2_addOrder 39 = .ok (.pop, 1) := dk_87 (dk_at dksX2_addOrder_1 15 rfl rfl)
theorem dX2_addOrder_40 : decode cX2_addOrder 40 = .ok (.aload_n 0, 1) := dk_42 (dk_at dksX2_addOrder_1 16 rfl rfl)
theorem dX2_addOrder_41 : decode cX2_addOrder 41 = .ok (.getfield 24, 3) := dk_180 0 24 (dk_at dksX2_addOrder_1 17 rfl rfl)
theorem dX2_addOrder_44 : decode cX2_addOrder 44 = .ok (.invokevirtual 121, 3) := dk_182 0 121 (dk_at dksX2_addOrder_1 20 rfl rfl)
theorem dX2_addOrder_47 : decode cX2_addOrder 47 = .ok (.iconst 1, 1) := dk_4 (dk_at dksX2_addOrder_1 23 rfl rfl)
theorem dX2_addOrder_48 : decode cX2_addOrder 48 = .ok (.isub, 1) := dk_100 (dk_at dksX2_addOrder_2 0 rfl rfl)
theorem dX2_addOrder_49 : decode cX2_addOrder 49 = .ok (.ireturn, 1) := dk_172 (dk_at dksX2_addOrder_2 1 rfl rfl)
abbrev cX2_isOrder : ByteArray := prog_13_method_4_code
def yX2_isOrder : MethodName := ⟨RX2, "isOrder", "(I)Z"⟩
def dkwX2_isOrder_0 : List UInt8 := [27, 3, 42, 180, 0, 24, 182, 0, 121, 4, 100, 184, 0, 125, 172]
abbrev dktX2_isOrder_0 : List UInt8 := dkwX2_isOrder_0 ++ []
theorem dksX2_isOrder_0 : cX2_isOrder.data.toList.drop 0 = dktX2_isOrder_0 := by decide +kernel
theorem dX2_isOrder_0 : decode cX2_isOrder 0 = .ok (.iload_n 1, 1) := dk_27 (dk_at dksX2_isOrder_0 0 rfl rfl)
theorem dX2_isOrder_1 : decode cX2_isOrder 1 = .ok (.iconst 0, 1) := dk_3 (dk_at dksX2_isOrder_0 1 rfl rfl)
theorem dX2_isOrder_2 : decode cX2_isOrder 2 = .ok (.aload_n 0, 1) := dk_42 (dk_at dksX2_isOrder_0 2 rfl rfl)
theorem dX2_isOrder_3 : decode cX2_isOrder 3 = .ok (.getfield 24, 3) := dk_180 0 24 (dk_at dksX2_isOrder_0 3 rfl rfl)
theorem dX2_isOrder_6 : decode cX2_isOrder 6 = .ok (.invokevirtual 121, 3) := dk_182 0 121 (dk_at dksX2_isOrder_0 6 rfl rfl)
theorem dX2_isOrder_9 : decode cX2_isOrder 9 = .ok (.iconst 1, 1) := dk_4 (dk_at dksX2_isOrder_0 9 rfl rfl)
theorem dX2_isOrder_10 : decode cX2_isOrder 10 = .ok (.isub, 1) := dk_100 (dk_at dksX2_isOrder_0 10 rfl rfl)
theorem dX2_isOrder_11 : decode cX2_isOrder 11 = .ok (.invokestatic 125, 3) := dk_184 0 125 (dk_at dksX2_isOrder_0 11 rfl rfl)
theorem dX2_isOrder_14 : decode cX2_isOrder 14 = .ok (.ireturn, 1) := dk_172 (dk_at dksX2_isOrder_0 14 rfl rfl)
abbrev cX2_cancel : ByteArray := prog_13_method_23_code
def yX2_cancel : MethodName := ⟨RX2, "cancel", "(I)I"⟩
def dkwX2_cancel_2 : List UInt8 := [181, 0, 112, 29, 172]
abbrev dktX2_cancel_2 : List UInt8 := dkwX2_cancel_2 ++ []
def dkwX2_cancel_1 : List UInt8 := [180, 0, 213, 182, 0, 163, 192, 0, 100, 182, 0, 216, 44, 5, 182, 0, 219, 42, 89, 180, 0, 112, 29, 96]
abbrev dktX2_cancel_1 : List UInt8 := dkwX2_cancel_1 ++ dktX2_cancel_2
def dkwX2_cancel_0 : List UInt8 := [42, 27, 182, 0, 206, 77, 44, 180, 0, 210, 62, 44, 180, 0, 213, 2, 159, 0, 20, 42, 180, 0, 27, 44]
abbrev dktX2_cancel_0 : List UInt8 := dkwX2_cancel_0 ++ dktX2_cancel_1
theorem dksX2_cancel_0 : cX2_cancel.data.toList.drop 0 = dktX2_cancel_0 := by decide +kernel
theorem dksX2_cancel_1 : cX2_cancel.data.toList.drop 24 = dktX2_cancel_1 := dk_seg dksX2_cancel_0 24 rfl rfl
theorem dksX2_cancel_2 : cX2_cancel.data.toList.drop 48 = dktX2_cancel_2 := dk_seg dksX2_cancel_1 24 rfl rfl
theorem dX2_cancel_0 : decode cX2_cancel 0 = .ok (.aload_n 0, 1) := dk_42 (dk_at dksX2_cancel_0 0 rfl rfl)
theorem dX2_cancel_1 : decode cX2_cancel 1 = .ok (.iload_n 1, 1) := dk_27 (dk_at dksX2_cancel_0 1 rfl rfl)
theorem dX2_cancel_2 : decode cX2_cancel 2 = .ok (.invokevirtual 206, 3) := dk_182 0 206 (dk_at dksX2_cancel_0 2 rfl rfl)
theorem dX2_cancel_5 : decode cX2_cancel 5 = .ok (.astore_n 2, 1) := dk_77 (dk_at dksX2_cancel_0 5 rfl rfl)
theorem dX2_cancel_6 : decode cX2_cancel 6 = .ok (.aload_n 2, 1) := dk_44 (dk_at dksX2_cancel_0 6 rfl rfl)
theorem dX2_cancel_7 : decode cX2_cancel 7 = .ok (.getfield 210, 3) := dk_180 0 210 (dk_at dksX2_cancel_0 7 rfl rfl)
theorem dX2_cancel_10 : decode cX2_cancel 10 = .ok (.istore_n 3, 1) := dk_62 (dk_at dksX2_cancel_0 10 rfl rfl)
theorem dX2_cancel_11 : decode cX2_cancel 11 = .ok (.aload_n 2, 1) := dk_44 (dk_at dksX2_cancel_0 11 rfl rfl)
theorem dX2_cancel_12 : decode cX2_cancel 12 = .ok (.getfield 213, 3) := dk_180 0 213 (dk_at dksX2_cancel_0 12 rfl rfl)
theorem dX2_cancel_15 : decode cX2_cancel 15 = .ok (.iconst (-1), 1) := dk_2 (dk_at dksX2_cancel_0 15 rfl rfl)
theorem dX2_cancel_16 : decode cX2_cancel 16 = .ok (.if_icmp .eq 20, 3) := dk_159 0 20 (dk_at dksX2_cancel_0 16 rfl rfl)
theorem dX2_cancel_19 : decode cX2_cancel 19 = .ok (.aload_n 0, 1) := dk_42 (dk_at dksX2_cancel_0 19 rfl rfl)
theorem dX2_cancel_20 : decode cX2_cancel 20 = .ok (.getfield 27, 3) := dk_180 0 27 (dk_at dksX2_cancel_0 20 rfl rfl)
theorem dX2_cancel_23 : decode cX2_cancel 23 = .ok (.aload_n 2, 1) := dk_44 (dk_at dksX2_cancel_0 23 rfl rfl)
theorem dX2_cancel_24 : decode cX2_cancel 24 = .ok (.getfield 213, 3) := dk_180 0 213 (dk_at dksX2_cancel_1 0 rfl rfl)
theorem dX2_cancel_27 : decode cX2_cancel 27 = .ok (.invokevirtual 163, 3) := dk_182 0 163 (dk_at dksX2_cancel_1 3 rfl rfl)
theorem dX2_cancel_30 : decode cX2_cancel 30 = .ok (.checkcast 100, 3) := dk_192 0 100 (dk_at dksX2_cancel_1 6 rfl rfl)
theorem dX2_cancel_33 : decode cX2_cancel 33 = .ok (.invokevirtual 216, 3) := dk_182 0 216 (dk_at dksX2_cancel_1 9 rfl rfl)
theorem dX2_cancel_36 : decode cX2_cancel 36 = .ok (.aload_n 2, 1) := dk_44 (dk_at dksX2_cancel_1 12 rfl rfl)
theorem dX2_cancel_37 : decode cX2_cancel 37 = .ok (.iconst 2, 1) := dk_5 (dk_at dksX2_cancel_1 13 rfl rfl)
theorem dX2_cancel_38 : decode cX2_cancel 38 = .ok (.invokevirtual 219, 3) := dk_182 0 219 (dk_at dksX2_cancel_1 14 rfl rfl)
theorem dX2_cancel_41 : decode cX2_cancel 41 = .ok (.aload_n 0, 1) := dk_42 (dk_at dksX2_cancel_1 17 rfl rfl)
theorem dX2_cancel_42 : decode cX2_cancel 42 = .ok (.dup, 1) := dk_89 (dk_at dksX2_cancel_1 18 rfl rfl)
theorem dX2_cancel_43 : decode cX2_cancel 43 = .ok (.getfield 112, 3) := dk_180 0 112 (dk_at dksX2_cancel_1 19 rfl rfl)
theorem dX2_cancel_46 : decode cX2_cancel 46 = .ok (.iload_n 3, 1) := dk_29 (dk_at dksX2_cancel_1 22 rfl rfl)
theorem dX2_cancel_47 : decode cX2_cancel 47 = .ok (.iadd, 1) := dk_96 (dk_at dksX2_cancel_1 23 rfl rfl)
theorem dX2_cancel_48 : decode cX2_cancel 48 = .ok (.putfield 112, 3) := dk_181 0 112 (dk_at dksX2_cancel_2 0 rfl rfl)
theorem dX2_cancel_51 : decode cX2_cancel 51 = .ok (.iload_n 3, 1) := dk_29 (dk_at dksX2_cancel_2 3 rfl rfl)
theorem dX2_cancel_52 : decode cX2_cancel 52 = .ok (.ireturn, 1) := dk_172 (dk_at dksX2_cancel_2 4 rfl rfl)
abbrev cX2_waiting : ByteArray := prog_13_method_22_code
def yX2_waiting : MethodName := ⟨RX2, "waiting", "(I)LPaperStore$Order;"⟩
def dkwX2_waiting_1 : List UInt8 := [8, 44, 180, 0, 151, 184, 0, 170, 44, 176]
abbrev dktX2_waiting_1 : List UInt8 := dkwX2_waiting_1 ++ []
def dkwX2_waiting_0 : List UInt8 := [42, 180, 0, 24, 27, 182, 0, 163, 192, 0, 95, 77, 44, 182, 0, 203, 154, 0, 7, 4, 167, 0, 4, 3]
abbrev dktX2_waiting_0 : List UInt8 := dkwX2_waiting_0 ++ dktX2_waiting_1
theorem dksX2_waiting_0 : cX2_waiting.data.toList.drop 0 = dktX2_waiting_0 := by decide +kernel
theorem dksX2_waiting_1 : cX2_waiting.data.toList.drop 24 = dktX2_waiting_1 := dk_seg dksX2_waiting_0 24 rfl rfl
theorem dX2_waiting_0 : decode cX2_waiting 0 = .ok (.aload_n 0, 1) := dk_42 (dk_at dksX2_waiting_0 0 rfl rfl)
theorem dX2_waiting_1 : decode cX2_waiting 1 = .ok (.getfield 24, 3) := dk_180 0 24 (dk_at dksX2_waiting_0 1 rfl rfl)
theorem dX2_waiting_4 : decode cX2_waiting 4 = .ok (.iload_n 1, 1) := dk_27 (dk_at dksX2_waiting_0 4 rfl rfl)
theorem dX2_waiting_5 : decode cX2_waiting 5 = .ok (.invokevirtual 163, 3) := dk_182 0 163 (dk_at dksX2_waiting_0 5 rfl rfl)
theorem dX2_waiting_8 : decode cX2_waiting 8 = .ok (.checkcast 95, 3) := dk_192 0 95 (dk_at dksX2_waiting_0 8 rfl rfl)
theorem dX2_waiting_11 : decode cX2_waiting 11 = .ok (.astore_n 2, 1) := dk_77 (dk_at dksX2_waiting_0 11 rfl rfl)
theorem dX2_waiting_12 : decode cX2_waiting 12 = .ok (.aload_n 2, 1) := dk_44 (dk_at dksX2_waiting_0 12 rfl rfl)
theorem dX2_waiting_13 : decode cX2_waiting 13 = .ok (.invokevirtual 203, 3) := dk_182 0 203 (dk_at dksX2_waiting_0 13 rfl rfl)
theorem dX2_waiting_16 : decode cX2_waiting 16 = .ok (.ifCond .ne 7, 3) := dk_154 0 7 (dk_at dksX2_waiting_0 16 rfl rfl)
theorem dX2_waiting_19 : decode cX2_waiting 19 = .ok (.iconst 1, 1) := dk_4 (dk_at dksX2_waiting_0 19 rfl rfl)
theorem dX2_waiting_20 : decode cX2_waiting 20 = .ok (.goto 4, 3) := dk_167 0 4 (dk_at dksX2_waiting_0 20 rfl rfl)
theorem dX2_waiting_23 : decode cX2_waiting 23 = .ok (.iconst 0, 1) := dk_3 (dk_at dksX2_waiting_0 23 rfl rfl)
theorem dX2_waiting_24 : decode cX2_waiting 24 = .ok (.iconst 5, 1) := dk_8 (dk_at dksX2_waiting_1 0 rfl rfl)
theorem dX2_waiting_25 : decode cX2_waiting 25 = .ok (.aload_n 2, 1) := dk_44 (dk_at dksX2_waiting_1 1 rfl rfl)
theorem dX2_waiting_26 : decode cX2_waiting 26 = .ok (.getfield 151, 3) := dk_180 0 151 (dk_at dksX2_waiting_1 2 rfl rfl)
theorem dX2_waiting_29 : decode cX2_waiting 29 = .ok (.invokestatic 170, 3) := dk_184 0 170 (dk_at dksX2_waiting_1 5 rfl rfl)
theorem dX2_waiting_32 : decode cX2_waiting 32 = .ok (.aload_n 2, 1) := dk_44 (dk_at dksX2_waiting_1 8 rfl rfl)
theorem dX2_waiting_33 : decode cX2_waiting 33 = .ok (.areturn, 1) := dk_176 (dk_at dksX2_waiting_1 9 rfl rfl)
abbrev cX2_addCart : ByteArray := prog_13_method_24_code
def yX2_addCart : MethodName := ⟨RX2, "addCart", "(I)I"⟩
def dkwX2_addCart_2 : List UInt8 := [172]
abbrev dktX2_addCart_2 : List UInt8 := dkwX2_addCart_2 ++ []
def dkwX2_addCart_1 : List UInt8 := [180, 0, 27, 187, 0, 100, 89, 27, 183, 0, 223, 182, 0, 91, 87, 42, 180, 0, 27, 182, 0, 121, 4, 100]
abbrev dktX2_addCart_1 : List UInt8 := dkwX2_addCart_1 ++ dktX2_addCart_2
def dkwX2_addCart_0 : List UInt8 := [42, 180, 0, 27, 182, 0, 121, 6, 160, 0, 7, 4, 167, 0, 4, 3, 4, 6, 184, 0, 170, 42]
abbrev dktX2_addCart_0 : List UInt8 := dkwX2_addCart_0 ++ dktX2_addCart_1
theorem dksX2_addCart_0 : cX2_addCart.data.toList.drop 0 = dktX2_addCart_0 := by decide +kernel
theorem dksX2_addCart_1 : cX2_addCart.data.toList.drop 22 = dktX2_addCart_1 := dk_seg dksX2_addCart_0 22 rfl rfl
theorem dksX2_addCart_2 : cX2_addCart.data.toList.drop 46 = dktX2_addCart_2 := dk_seg dksX2_addCart_1 24 rfl rfl
theorem dX2_addCart_0 : decode cX2_addCart 0 = .ok (.aload_n 0, 1) := dk_42 (dk_at dksX2_addCart_0 0 rfl rfl)
theorem dX2_addCart_1 : decode cX2_addCart 1 = .ok (.getfield 27, 3) := dk_180 0 27 (dk_at dksX2_addCart_0 1 rfl rfl)
theorem dX2_addCart_4 : decode cX2_addCart 4 = .ok (.invokevirtual 121, 3) := dk_182 0 121 (dk_at dksX2_addCart_0 4 rfl rfl)
theorem dX2_addCart_7 : decode cX2_addCart 7 = .ok (.iconst 3, 1) := dk_6 (dk_at dksX2_addCart_0 7 rfl rfl)
theorem dX2_addCart_8 : decode cX2_addCart 8 = .ok (.if_icmp .ne 7, 3) := dk_160 0 7 (dk_at dksX2_addCart_0 8 rfl rfl)
theorem dX2_addCart_11 : decode cX2_addCart 11 = .ok (.iconst 1, 1) := dk_4 (dk_at dksX2_addCart_0 11 rfl rfl)
theorem dX2_addCart_12 : decode cX2_addCart 12 = .ok (.goto 4, 3) := dk_167 0 4 (dk_at dksX2_addCart_0 12 rfl rfl)
theorem dX2_addCart_15 : decode cX2_addCart 15 = .ok (.iconst 0, 1) := dk_3 (dk_at dksX2_addCart_0 15 rfl rfl)
theorem dX2_addCart_16 : decode cX2_addCart 16 = .ok (.iconst 1, 1) := dk_4 (dk_at dksX2_addCart_0 16 rfl rfl)
theorem dX2_addCart_17 : decode cX2_addCart 17 = .ok (.iconst 3, 1) := dk_6 (dk_at dksX2_addCart_0 17 rfl rfl)
theorem dX2_addCart_18 : decode cX2_addCart 18 = .ok (.invokestatic 170, 3) := dk_184 0 170 (dk_at dksX2_addCart_0 18 rfl rfl)
theorem dX2_addCart_21 : decode cX2_addCart 21 = .ok (.aload_n 0, 1) := dk_42 (dk_at dksX2_addCart_0 21 rfl rfl)
theorem dX2_addCart_22 : decode cX2_addCart 22 = .ok (.getfield 27, 3) := dk_180 0 27 (dk_at dksX2_addCart_1 0 rfl rfl)
theorem dX2_addCart_25 : decode cX2_addCart 25 = .ok (.new 100, 3) := dk_187 0 100 (dk_at dksX2_addCart_1 3 rfl rfl)
theorem dX2_addCart_28 : decode cX2_addCart 28 = .ok (.dup, 1) := dk_89 (dk_at dksX2_addCart_1 6 rfl rfl)
theorem dX2_addCart_29 : decode cX2_addCart 29 = .ok (.iload_n 1, 1) := dk_27 (dk_at dksX2_addCart_1 7 rfl rfl)
theorem dX2_addCart_30 : decode cX2_addCart 30 = .ok (.invokespecial 223, 3) := dk_183 0 223 (dk_at dksX2_addCart_1 8 rfl rfl)
theorem dX2_addCart_33 : decode cX2_addCart 33 = .ok (.invokevirtual 91, 3) := dk_182 0 91 (dk_at dksX2_addCart_1 11 rfl rfl)
theorem dX2_addCart_36 : decode cX2_addCart 36 = .ok (.pop, 1) := dk_87 (dk_at dksX2_addCart_1 14 rfl rfl)
theorem dX2_addCart_37 : decode cX2_addCart 37 = .ok (.aload_n 0, 1) := dk_42 (dk_at dksX2_addCart_1 15 rfl rfl)
theorem dX2_addCart_38 : decode cX2_addCart 38 = .ok (.getfield 27, 3) := dk_180 0 27 (dk_at dksX2_addCart_1 16 rfl rfl)
theorem dX2_addCart_41 : decode cX2_addCart 41 = .ok (.invokevirtual 121, 3) := dk_182 0 121 (dk_at dksX2_addCart_1 19 rfl rfl)
theorem dX2_addCart_44 : decode cX2_addCart 44 = .ok (.iconst 1, 1) := dk_4 (dk_at dksX2_addCart_1 22 rfl rfl)
theorem dX2_addCart_45 : decode cX2_addCart 45 = .ok (.isub, 1) := dk_100 (dk_at dksX2_addCart_1 23 rfl rfl)
theorem dX2_addCart_46 : decode cX2_addCart 46 = .ok (.ireturn, 1) := dk_172 (dk_at dksX2_addCart_2 0 rfl rfl)
abbrev cX2_isCart : ByteArray := prog_13_method_5_code
def yX2_isCart : MethodName := ⟨RX2, "isCart", "(I)Z"⟩
def dkwX2_isCart_0 : List UInt8 := [27, 3, 42, 180, 0, 27, 182, 0, 121, 4, 100, 184, 0, 125, 172]
abbrev dktX2_isCart_0 : List UInt8 := dkwX2_isCart_0 ++ []
theorem dksX2_isCart_0 : cX2_isCart.data.toList.drop 0 = dktX2_isCart_0 := by decide +kernel
theorem dX2_isCart_0 : decode cX2_isCart 0 = .ok (.iload_n 1, 1) := dk_27 (dk_at dksX2_isCart_0 0 rfl rfl)
theorem dX2_isCart_1 : decode cX2_isCart 1 = .ok (.iconst 0, 1) := dk_3 (dk_at dksX2_isCart_0 1 rfl rfl)
theorem dX2_isCart_2 : decode cX2_isCart 2 = .ok (.aload_n 0, 1) := dk_42 (dk_at dksX2_isCart_0 2 rfl rfl)
theorem dX2_isCart_3 : decode cX2_isCart 3 = .ok (.getfield 27, 3) := dk_180 0 27 (dk_at dksX2_isCart_0 3 rfl rfl)
theorem dX2_isCart_6 : decode cX2_isCart 6 = .ok (.invokevirtual 121, 3) := dk_182 0 121 (dk_at dksX2_isCart_0 6 rfl rfl)
theorem dX2_isCart_9 : decode cX2_isCart 9 = .ok (.iconst 1, 1) := dk_4 (dk_at dksX2_isCart_0 9 rfl rfl)
theorem dX2_isCart_10 : decode cX2_isCart 10 = .ok (.isub, 1) := dk_100 (dk_at dksX2_isCart_0 10 rfl rfl)
theorem dX2_isCart_11 : decode cX2_isCart 11 = .ok (.invokestatic 125, 3) := dk_184 0 125 (dk_at dksX2_isCart_0 11 rfl rfl)
theorem dX2_isCart_14 : decode cX2_isCart 14 = .ok (.ireturn, 1) := dk_172 (dk_at dksX2_isCart_0 14 rfl rfl)
abbrev cX2_gather : ByteArray := prog_13_method_25_code
def yX2_gather : MethodName := ⟨RX2, "gather", "(III)I"⟩
def dkwX2_gather_10 : List UInt8 := [180, 0, 150, 21, 8, 96, 181, 0, 150, 25, 5, 27, 181, 0, 225, 21, 8, 172]
abbrev dktX2_gather_10 : List UInt8 := dkwX2_gather_10 ++ []
def dkwX2_gather_9 : List UInt8 := [184, 0, 170, 25, 4, 89, 180, 0, 210, 21, 8, 96, 181, 0, 210, 25, 4, 28, 181, 0, 213, 25, 5, 89]
abbrev dktX2_gather_9 : List UInt8 := dkwX2_gather_9 ++ dktX2_gather_10
def dkwX2_gather_8 : List UInt8 := [182, 0, 235, 54, 8, 21, 8, 154, 0, 7, 4, 167, 0, 4, 3, 16, 10, 25, 6, 180, 0, 85]
abbrev dktX2_gather_8 : List UInt8 := dkwX2_gather_8 ++ dktX2_gather_9
def dkwX2_gather_7 : List UInt8 := [42, 180, 0, 11, 25, 6, 180, 0, 85, 50, 25, 4, 180, 0, 234, 25, 6, 180, 0, 82, 21, 7, 4]
abbrev dktX2_gather_7 : List UInt8 := dkwX2_gather_7 ++ dktX2_gather_8
def dkwX2_gather_6 : List UInt8 := [184, 0, 170, 25, 4, 182, 0, 228, 25, 5, 180, 0, 231, 25, 5, 180, 0, 150, 100, 184, 0, 191, 54, 7]
abbrev dktX2_gather_6 : List UInt8 := dkwX2_gather_6 ++ dktX2_gather_7
def dkwX2_gather_5 : List UInt8 := [180, 0, 150, 25, 5, 180, 0, 231, 160, 0, 7, 4, 167, 0, 4, 3, 16, 9, 25, 5, 180, 0, 150]
abbrev dktX2_gather_5 : List UInt8 := dkwX2_gather_5 ++ dktX2_gather_6
def dkwX2_gather_4 : List UInt8 := [184, 0, 170, 25, 4, 182, 0, 228, 154, 0, 7, 4, 167, 0, 4, 3, 16, 8, 27, 184, 0, 170, 25, 5]
abbrev dktX2_gather_4 : List UInt8 := dkwX2_gather_4 ++ dktX2_gather_5
def dkwX2_gather_3 : List UInt8 := [159, 0, 16, 25, 4, 180, 0, 213, 28, 159, 0, 7, 4, 167, 0, 4, 3, 16, 7, 25, 4, 180, 0, 213]
abbrev dktX2_gather_3 : List UInt8 := dkwX2_gather_3 ++ dktX2_gather_4
def dkwX2_gather_2 : List UInt8 := [159, 0, 7, 4, 167, 0, 4, 3, 16, 6, 25, 5, 180, 0, 225, 184, 0, 170, 25, 4, 180, 0, 213, 2]
abbrev dktX2_gather_2 : List UInt8 := dkwX2_gather_2 ++ dktX2_gather_3
def dkwX2_gather_1 : List UInt8 := [29, 182, 0, 163, 192, 0, 80, 58, 6, 25, 5, 180, 0, 225, 2, 159, 0, 16, 25, 5, 180, 0, 225, 27]
abbrev dktX2_gather_1 : List UInt8 := dkwX2_gather_1 ++ dktX2_gather_2
def dkwX2_gather_0 : List UInt8 := [42, 27, 182, 0, 206, 58, 4, 42, 180, 0, 27, 28, 182, 0, 163, 192, 0, 100, 58, 5, 42, 180, 0, 20]
abbrev dktX2_gather_0 : List UInt8 := dkwX2_gather_0 ++ dktX2_gather_1
theorem dksX2_gather_0 : cX2_gather.data.toList.drop 0 = dktX2_gather_0 := by decide +kernel
theorem dksX2_gather_1 : cX2_gather.data.toList.drop 24 = dktX2_gather_1 := dk_seg dksX2_gather_0 24 rfl rfl
theorem dksX2_gather_2 : cX2_gather.data.toList.drop 48 = dktX2_gather_2 := dk_seg dksX2_gather_1 24 rfl rfl
theorem dksX2_gather_3 : cX2_gather.data.toList.drop 72 = dktX2_gather_3 := dk_seg dksX2_gather_2 24 rfl rfl
theorem dksX2_gather_4 : cX2_gather.data.toList.drop 96 = dktX2_gather_4 := dk_seg dksX2_gather_3 24 rfl rfl
theorem dksX2_gather_5 : cX2_gather.data.toList.drop 120 = dktX2_gather_5 := dk_seg dksX2_gather_4 24 rfl rfl
theorem dksX2_gather_6 : cX2_gather.data.toList.drop 143 = dktX2_gather_6 := dk_seg dksX2_gather_5 23 rfl rfl
theorem dksX2_gather_7 : cX2_gather.data.toList.drop 167 = dktX2_gather_7 := dk_seg dksX2_gather_6 24 rfl rfl
theorem dksX2_gather_8 : cX2_gather.data.toList.drop 190 = dktX2_gather_8 := dk_seg dksX2_gather_7 23 rfl rfl
theorem dksX2_gather_9 : cX2_gather.data.toList.drop 212 = dktX2_gather_9 := dk_seg dksX2_gather_8 22 rfl rfl
theorem dksX2_gather_10 : cX2_gather.data.toList.drop 236 = dktX2_gather_10 := dk_seg dksX2_gather_9 24 rfl rfl
theorem dX2_gather_0 : decode cX2_gather 0 = .ok (.aload_n 0, 1) := dk_42 (dk_at dksX2_gather_0 0 rfl rfl)
theorem dX2_gather_1 : decode cX2_gather 1 = .ok (.iload_n 1, 1) := dk_27 (dk_at dksX2_gather_0 1 rfl rfl)
theorem dX2_gather_2 : decode cX2_gather 2 = .ok (.invokevirtual 206, 3) := dk_182 0 206 (dk_at dksX2_gather_0 2 rfl rfl)
theorem dX2_gather_5 : decode cX2_gather 5 = .ok (.astore 4, 2) := dk_58 4 (dk_at dksX2_gather_0 5 rfl rfl)
theorem dX2_gather_7 : decode cX2_gather 7 = .ok (.aload_n 0, 1) := dk_42 (dk_at dksX2_gather_0 7 rfl rfl)
theorem dX2_gather_8 : decode cX2_gather 8 = .ok (.getfield 27, 3) := dk_180 0 27 (dk_at dksX2_gather_0 8 rfl rfl)
theorem dX2_gather_11 : decode cX2_gather 11 = .ok (.iload_n 2, 1) := dk_28 (dk_at dksX2_gather_0 11 rfl rfl)
theorem dX2_gather_12 : decode cX2_gather 12 = .ok (.invokevirtual 163, 3) := dk_182 0 163 (dk_at dksX2_gather_0 12 rfl rfl)
theorem dX2_gather_15 : decode cX2_gather 15 = .ok (.checkcast 100, 3) := dk_192 0 100 (dk_at dksX2_gather_0 15 rfl rfl)
theorem dX2_gather_18 : decode cX2_gather 18 = .ok (.astore 5, 2) := dk_58 5 (dk_at dksX2_gather_0 18 rfl rfl)
theorem dX2_gather_20 : decode cX2_gather 20 = .ok (.aload_n 0, 1) := dk_42 (dk_at dksX2_gather_0 20 rfl rfl)
theorem dX2_gather_21 : decode cX2_gather 21 = .ok (.getfield 20, 3) := dk_180 0 20 (dk_at dksX2_gather_0 21 rfl rfl)
theorem dX2_gather_24 : decode cX2_gather 24 = .ok (.iload_n 3, 1) := dk_29 (dk_at dksX2_gather_1 0 rfl rfl)
theorem dX2_gather_25 : decode cX2_gather 25 = .ok (.invokevirtual 163, 3) := dk_182 0 163 (dk_at dksX2_gather_1 1 rfl rfl)
theorem dX2_gather_28 : decode cX2_gather 28 = .ok (.checkcast 80, 3) := dk_192 0 80 (dk_at dksX2_gather_1 4 rfl rfl)
theorem dX2_gather_31 : decode cX2_gather 31 = .ok (.astore 6, 2) := dk_58 6 (dk_at dksX2_gather_1 7 rfl rfl)
theorem dX2_gather_33 : decode cX2_gather 33 = .ok (.aload 5, 2) := dk_25 5 (dk_at dksX2_gather_1 9 rfl rfl)
theorem dX2_gather_35 : decode cX2_gather 35 = .ok (.getfield 225, 3) := dk_180 0 225 (dk_at dksX2_gather_1 11 rfl rfl)
theorem dX2_gather_38 : decode cX2_gather 38 = .ok (.iconst (-1), 1) := dk_2 (dk_at dksX2_gather_1 14 rfl rfl)
theorem dX2_gather_39 : decode cX2_gather 39 = .ok (.if_icmp .eq 16, 3) := dk_159 0 16 (dk_at dksX2_gather_1 15 rfl rfl)
theorem dX2_gather_42 : decode cX2_gather 42 = .ok (.aload 5, 2) := dk_25 5 (dk_at dksX2_gather_1 18 rfl rfl)
theorem dX2_gather_44 : decode cX2_gather 44 = .ok (.getfield 225, 3) := dk_180 0 225 (dk_at dksX2_gather_1 20 rfl rfl)
theorem dX2_gather_47 : decode cX2_gather 47 = .ok (.iload_n 1, 1) := dk_27 (dk_at dksX2_gather_1 23 rfl rfl)
theorem dX2_gather_48 : decode cX2_gather 48 = .ok (.if_icmp .eq 7, 3) := dk_159 0 7 (dk_at dksX2_gather_2 0 rfl rfl)
theorem dX2_gather_51 : decode cX2_gather 51 = .ok (.iconst 1, 1) := dk_4 (dk_at dksX2_gather_2 3 rfl rfl)
theorem dX2_gather_52 : decode cX2_gather 52 = .ok (.goto 4, 3) := dk_167 0 4 (dk_at dksX2_gather_2 4 rfl rfl)
theorem dX2_gather_55 : decode cX2_gather 55 = .ok (.iconst 0, 1) := dk_3 (dk_at dksX2_gather_2 7 rfl rfl)
theorem dX2_gather_56 : decode cX2_gather 56 = .ok (.bipush 6, 2) := dk_16 6 (dk_at dksX2_gather_2 8 rfl rfl)
theorem dX2_gather_58 : decode cX2_gather 58 = .ok (.aload 5, 2) := dk_25 5 (dk_at dksX2_gather_2 10 rfl rfl)
theorem dX2_gather_60 : decode cX2_gather 60 = .ok (.getfield 225, 3) := dk_180 0 225 (dk_at dksX2_gather_2 12 rfl rfl)
theorem dX2_gather_63 : decode cX2_gather 63 = .ok (.invokestatic 170, 3) := dk_184 0 170 (dk_at dksX2_gather_2 15 rfl rfl)
theorem dX2_gather_66 : decode cX2_gather 66 = .ok (.aload 4, 2) := dk_25 4 (dk_at dksX2_gather_2 18 rfl rfl)
theorem dX2_gather_68 : decode cX2_gather 68 = .ok (.getfield 213, 3) := dk_180 0 213 (dk_at dksX2_gather_2 20 rfl rfl)
theorem dX2_gather_71 : decode cX2_gather 71 = .ok (.iconst (-1), 1) := dk_2 (dk_at dksX2_gather_2 23 rfl rfl)
theorem dX2_gather_72 : decode cX2_gather 72 = .ok (.if_icmp .eq 16, 3) := dk_159 0 16 (dk_at dksX2_gather_3 0 rfl rfl)
theorem dX2_gather_75 : decode cX2_gather 75 = .ok (.aload 4, 2) := dk_25 4 (dk_at dksX2_gather_3 3 rfl rfl)
theorem dX2_gather_77 : decode cX2_gather 77 = .ok (.getfield 213, 3) := dk_180 0 213 (dk_at dksX2_gather_3 5 rfl rfl)
theorem dX2_gather_80 : decode cX2_gather 80 = .ok (.iload_n 2, 1) := dk_28 (dk_at dksX2_gather_3 8 rfl rfl)
theorem dX2_gather_81 : decode cX2_gather 81 = .ok (.if_icmp .eq 7, 3) := dk_159 0 7 (dk_at dksX2_gather_3 9 rfl rfl)
theorem dX2_gather_84 : decode cX2_gather 84 = .ok (.iconst 1, 1) := dk_4 (dk_at dksX2_gather_3 12 rfl rfl)
theorem dX2_gather_85 : decode cX2_gather 85 = .ok (.goto 4, 3) := dk_167 0 4 (dk_at dksX2_gather_3 13 rfl rfl)
theorem dX2_gather_88 : decode cX2_gather 88 = .ok (.iconst 0, 1) := dk_3 (dk_at dksX2_gather_3 16 rfl rfl)
theorem dX2_gather_89 : decode cX2_gather 89 = .ok (.bipush 7, 2) := dk_16 7 (dk_at dksX2_gather_3 17 rfl rfl)
theorem dX2_gather_91 : decode cX2_gather 91 = .ok (.aload 4, 2) := dk_25 4 (dk_at dksX2_gather_3 19 rfl rfl)
theorem dX2_gather_93 : decode cX2_gather 93 = .ok (.getfield 213, 3) := dk_180 0 213 (dk_at dksX2_gather_3 21 rfl rfl)
theorem dX2_gather_96 : decode cX2_gather 96 = .ok (.invokestatic 170, 3) := dk_184 0 170 (dk_at dksX2_gather_4 0 rfl rfl)
theorem dX2_gather_99 : decode cX2_gather 99 = .ok (.aload 4, 2) := dk_25 4 (dk_at dksX2_gather_4 3 rfl rfl)
theorem dX2_gather_101 : decode cX2_gather 101 = .ok (.invokevirtual 228, 3) := dk_182 0 228 (dk_at dksX2_gather_4 5 rfl rfl)
theorem dX2_gather_104 : decode cX2_gather 104 = .ok (.ifCond .ne 7, 3) := dk_154 0 7 (dk_at dksX2_gather_4 8 rfl rfl)
theorem dX2_gather_107 : decode cX2_gather 107 = .ok (.iconst 1, 1) := dk_4 (dk_at dksX2_gather_4 11 rfl rfl)
theorem dX2_gather_108 : decode cX2_gather 108 = .ok (.goto 4, 3) := dk_167 0 4 (dk_at dksX2_gather_4 12 rfl rfl)
theorem dX2_gather_111 : decode cX2_gather 111 = .ok (.iconst 0, 1) := dk_3 (dk_at dksX2_gather_4 15 rfl rfl)
theorem dX2_gather_112 : decode cX2_gather 112 = .ok (.bipush 8, 2) := dk_16 8 (dk_at dksX2_gather_4 16 rfl rfl)
theorem dX2_gather_114 : decode cX2_gather 114 = .ok (.iload_n 1, 1) := dk_27 (dk_at dksX2_gather_4 18 rfl rfl)
theorem dX2_gather_115 : decode cX2_gather 115 = .ok (.invokestatic 170, 3) := dk_184 0 170 (dk_at dksX2_gather_4 19 rfl rfl)
theorem dX2_gather_118 : decode cX2_gather 118 = .ok (.aload 5, 2) := dk_25 5 (dk_at dksX2_gather_4 22 rfl rfl)
theorem dX2_gather_120 : decode cX2_gather 120 = .ok (.getfield 150, 3) := dk_180 0 150 (dk_at dksX2_gather_5 0 rfl rfl)
theorem dX2_gather_123 : decode cX2_gather 123 = .ok (.aload 5, 2) := dk_25 5 (dk_at dksX2_gather_5 3 rfl rfl)
theorem dX2_gather_125 : decode cX2_gather 125 = .ok (.getfield 231, 3) := dk_180 0 231 (dk_at dksX2_gather_5 5 rfl rfl)
theorem dX2_gather_128 : decode cX2_gather 128 = .ok (.if_icmp .ne 7, 3) := dk_160 0 7 (dk_at dksX2_gather_5 8 rfl rfl)
theorem dX2_gather_131 : decode cX2_gather 131 = .ok (.iconst 1, 1) := dk_4 (dk_at dksX2_gather_5 11 rfl rfl)
theorem dX2_gather_132 : decode cX2_gather 132 = .ok (.goto 4, 3) := dk_167 0 4 (dk_at dksX2_gather_5 12 rfl rfl)
theorem dX2_gather_135 : decode cX2_gather 135 = .ok (.iconst 0, 1) := dk_3 (dk_at dksX2_gather_5 15 rfl rfl)
theorem dX2_gather_136 : decode cX2_gather 136 = .ok (.bipush 9, 2) := dk_16 9 (dk_at dksX2_gather_5 16 rfl rfl)
theorem dX2_gather_138 : decode cX2_gather 138 = .ok (.aload 5, 2) := dk_25 5 (dk_at dksX2_gather_5 18 rfl rfl)
theorem dX2_gather_140 : decode cX2_gather 140 = .ok (.getfield 150, 3) := dk_180 0 150 (dk_at dksX2_gather_5 20 rfl rfl)
theorem dX2_gather_143 : decode cX2_gather 143 = .ok (.invokestatic 170, 3) := dk_184 0 170 (dk_at dksX2_gather_6 0 rfl rfl)
theorem dX2_gather_146 : decode cX2_gather 146 = .ok (.aload 4, 2) := dk_25 4 (dk_at dksX2_gather_6 3 rfl rfl)
theorem dX2_gather_148 : decode cX2_gather 148 = .ok (.invokevirtual 228, 3) := dk_182 0 228 (dk_at dksX2_gather_6 5 rfl rfl)
theorem dX2_gather_151 : decode cX2_gather 151 = .ok (.aload 5, 2) := dk_25 5 (dk_at dksX2_gather_6 8 rfl rfl)
theorem dX2_gather_153 : decode cX2_gather 153 = .ok (.getfield 231, 3) := dk_180 0 231 (dk_at dksX2_gather_6 10 rfl rfl)
theorem dX2_gather_156 : decode cX2_gather 156 = .ok (.aload 5, 2) := dk_25 5 (dk_at dksX2_gather_6 13 rfl rfl)
theorem dX2_gather_158 : decode cX2_gather 158 = .ok (.getfield 150, 3) := dk_180 0 150 (dk_at dksX2_gather_6 15 rfl rfl)
theorem dX2_gather_161 : decode cX2_gather 161 = .ok (.isub, 1) := dk_100 (dk_at dksX2_gather_6 18 rfl rfl)
theorem dX2_gather_162 : decode cX2_gather 162 = .ok (.invokestatic 191, 3) := dk_184 0 191 (dk_at dksX2_gather_6 19 rfl rfl)
theorem dX2_gather_165 : decode cX2_gather 165 = .ok (.istore 7, 2) := dk_54 7 (dk_at dksX2_gather_6 22 rfl rfl)
theorem dX2_gather_167 : decode cX2_gather 167 = .ok (.aload_n 0, 1) := dk_42 (dk_at dksX2_gather_7 0 rfl rfl)
theorem dX2_gather_168 : decode cX2_gather 168 = .ok (.getfield 11, 3) := dk_180 0 11 (dk_at dksX2_gather_7 1 rfl rfl)
theorem dX2_gather_171 : decode cX2_gather 171 = .ok (.aload 6, 2) := dk_25 6 (dk_at dksX2_gather_7 4 rfl rfl)
theorem dX2_gather_173 : decode cX2_gather 173 = .ok (.getfield 85, 3) := dk_180 0 85 (dk_at dksX2_gather_7 6 rfl rfl)
theorem dX2_gather_176 : decode cX2_gather 176 = .ok (.aaload, 1) := dk_50 (dk_at dksX2_gather_7 9 rfl rfl)
theorem dX2_gather_177 : decode cX2_gather 177 = .ok (.aload 4, 2) := dk_25 4 (dk_at dksX2_gather_7 10 rfl rfl)
theorem dX2_gather_179 : decode cX2_gather 179 = .ok (.getfield 234, 3) := dk_180 0 234 (dk_at dksX2_gather_7 12 rfl rfl)
theorem dX2_gather_182 : decode cX2_gather 182 = .ok (.aload 6, 2) := dk_25 6 (dk_at dksX2_gather_7 15 rfl rfl)
theorem dX2_gather_184 : decode cX2_gather 184 = .ok (.getfield 82, 3) := dk_180 0 82 (dk_at dksX2_gather_7 17 rfl rfl)
theorem dX2_gather_187 : decode cX2_gather 187 = .ok (.iload 7, 2) := dk_21 7 (dk_at dksX2_gather_7 20 rfl rfl)
theorem dX2_gather_189 : decode cX2_gather 189 = .ok (.iconst 1, 1) := dk_4 (dk_at dksX2_gather_7 22 rfl rfl)
theorem dX2_gather_190 : decode cX2_gather 190 = .ok (.invokevirtual 235, 3) := dk_182 0 235 (dk_at dksX2_gather_8 0 rfl rfl)
theorem dX2_gather_193 : decode cX2_gather 193 = .ok (.istore 8, 2) := dk_54 8 (dk_at dksX2_gather_8 3 rfl rfl)
theorem dX2_gather_195 : decode cX2_gather 195 = .ok (.iload 8, 2) := dk_21 8 (dk_at dksX2_gather_8 5 rfl rfl)
theorem dX2_gather_197 : decode cX2_gather 197 = .ok (.ifCond .ne 7, 3) := dk_154 0 7 (dk_at dksX2_gather_8 7 rfl rfl)
theorem dX2_gather_200 : decode cX2_gather 200 = .ok (.iconst 1, 1) := dk_4 (dk_at dksX2_gather_8 10 rfl rfl)
theorem dX2_gather_201 : decode cX2_gather 201 = .ok (.goto 4, 3) := dk_167 0 4 (dk_at dksX2_gather_8 11 rfl rfl)
theorem dX2_gather_204 : decode cX2_gather 204 = .ok (.iconst 0, 1) := dk_3 (dk_at dksX2_gather_8 14 rfl rfl)
theorem dX2_gather_205 : decode cX2_gather 205 = .ok (.bipush 10, 2) := dk_16 10 (dk_at dksX2_gather_8 15 rfl rfl)
theorem dX2_gather_207 : decode cX2_gather 207 = .ok (.aload 6, 2) := dk_25 6 (dk_at dksX2_gather_8 17 rfl rfl)
theorem dX2_gather_209 : decode cX2_gather 209 = .ok (.getfield 85, 3) := dk_180 0 85 (dk_at dksX2_gather_8 19 rfl rfl)
theorem dX2_gather_212 : decode cX2_gather 212 = .ok (.invokestatic 170, 3) := dk_184 0 170 (dk_at dksX2_gather_9 0 rfl rfl)
theorem dX2_gather_215 : decode cX2_gather 215 = .ok (.aload 4, 2) := dk_25 4 (dk_at dksX2_gather_9 3 rfl rfl)
theorem dX2_gather_217 : decode cX2_gather 217 = .ok (.dup, 1) := dk_89 (dk_at dksX2_gather_9 5 rfl rfl)
theorem dX2_gather_218 : decode cX2_gather 218 = .ok (.getfield 210, 3) := dk_180 0 210 (dk_at dksX2_gather_9 6 rfl rfl)
theorem dX2_gather_221 : decode cX2_gather 221 = .ok (.iload 8, 2) := dk_21 8 (dk_at dksX2_gather_9 9 rfl rfl)
theorem dX2_gather_223 : decode cX2_gather 223 = .ok (.iadd, 1) := dk_96 (dk_at dksX2_gather_9 11 rfl rfl)
theorem dX2_gather_224 : decode cX2_gather 224 = .ok (.putfield 210, 3) := dk_181 0 210 (dk_at dksX2_gather_9 12 rfl rfl)
theorem dX2_gather_227 : decode cX2_gather 227 = .ok (.aload 4, 2) := dk_25 4 (dk_at dksX2_gather_9 15 rfl rfl)
theorem dX2_gather_229 : decode cX2_gather 229 = .ok (.iload_n 2, 1) := dk_28 (dk_at dksX2_gather_9 17 rfl rfl)
theorem dX2_gather_230 : decode cX2_gather 230 = .ok (.putfield 213, 3) := dk_181 0 213 (dk_at dksX2_gather_9 18 rfl rfl)
theorem dX2_gather_233 : decode cX2_gather 233 = .ok (.aload 5, 2) := dk_25 5 (dk_at dksX2_gather_9 21 rfl rfl)
theorem dX2_gather_235 : decode cX2_gather 235 = .ok (.dup, 1) := dk_89 (dk_at dksX2_gather_9 23 rfl rfl)
theorem dX2_gather_236 : decode cX2_gather 236 = .ok (.getfield 150, 3) := dk_180 0 150 (dk_at dksX2_gather_10 0 rfl rfl)
theorem dX2_gather_239 : decode cX2_gather 239 = .ok (.iload 8, 2) := dk_21 8 (dk_at dksX2_gather_10 3 rfl rfl)
theorem dX2_gather_241 : decode cX2_gather 241 = .ok (.iadd, 1) := dk_96 (dk_at dksX2_gather_10 5 rfl rfl)
theorem dX2_gather_242 : decode cX2_gather 242 = .ok (.putfield 150, 3) := dk_181 0 150 (dk_at dksX2_gather_10 6 rfl rfl)
theorem dX2_gather_245 : decode cX2_gather 245 = .ok (.aload 5, 2) := dk_25 5 (dk_at dksX2_gather_10 9 rfl rfl)
theorem dX2_gather_247 : decode cX2_gather 247 = .ok (.iload_n 1, 1) := dk_27 (dk_at dksX2_gather_10 11 rfl rfl)
theorem dX2_gather_248 : decode cX2_gather 248 = .ok (.putfield 225, 3) := dk_181 0 225 (dk_at dksX2_gather_10 12 rfl rfl)
theorem dX2_gather_251 : decode cX2_gather 251 = .ok (.iload 8, 2) := dk_21 8 (dk_at dksX2_gather_10 15 rfl rfl)
theorem dX2_gather_253 : decode cX2_gather 253 = .ok (.ireturn, 1) := dk_172 (dk_at dksX2_gather_10 17 rfl rfl)
abbrev cX2_send : ByteArray := prog_13_method_26_code
def yX2_send : MethodName := ⟨RX2, "send", "(I)I"⟩
def dkwX2_send_7 : List UInt8 := [21, 4, 96, 181, 0, 115, 45, 4, 182, 0, 219, 44, 182, 0, 216, 21, 4, 172]
abbrev dktX2_send_7 : List UInt8 := dkwX2_send_7 ++ []
def dkwX2_send_6 : List UInt8 := [192, 0, 248, 58, 6, 42, 89, 180, 0, 109, 45, 180, 0, 239, 96, 181, 0, 109, 42, 89, 180, 0, 115]
abbrev dktX2_send_6 : List UInt8 := dkwX2_send_6 ++ dktX2_send_7
def dkwX2_send_5 : List UInt8 := [54, 5, 42, 180, 0, 36, 45, 180, 0, 234, 21, 5, 45, 180, 0, 239, 96, 184, 0, 253, 182, 1, 1]
abbrev dktX2_send_5 : List UInt8 := dkwX2_send_5 ++ dktX2_send_6
def dkwX2_send_4 : List UInt8 := [153, 0, 23, 42, 180, 0, 36, 45, 180, 0, 234, 182, 0, 245, 192, 0, 248, 182, 0, 250, 167, 0, 4, 3]
abbrev dktX2_send_4 : List UInt8 := dkwX2_send_4 ++ dktX2_send_5
def dkwX2_send_3 : List UInt8 := [45, 180, 0, 234, 180, 0, 240, 4, 96, 104, 54, 4, 42, 180, 0, 36, 45, 180, 0, 234, 182, 0, 242]
abbrev dktX2_send_3 : List UInt8 := dkwX2_send_3 ++ dktX2_send_4
def dkwX2_send_2 : List UInt8 := [182, 0, 228, 158, 0, 7, 4, 167, 0, 4, 3, 16, 12, 45, 182, 0, 228, 184, 0, 170, 45, 180, 0, 239]
abbrev dktX2_send_2 : List UInt8 := dkwX2_send_2 ++ dktX2_send_3
def dkwX2_send_1 : List UInt8 := [3, 16, 11, 27, 184, 0, 170, 42, 180, 0, 24, 44, 180, 0, 225, 182, 0, 163, 192, 0, 95, 78, 45]
abbrev dktX2_send_1 : List UInt8 := dkwX2_send_1 ++ dktX2_send_2
def dkwX2_send_0 : List UInt8 := [42, 180, 0, 27, 27, 182, 0, 163, 192, 0, 100, 77, 44, 180, 0, 225, 2, 160, 0, 7, 4, 167, 0, 4]
abbrev dktX2_send_0 : List UInt8 := dkwX2_send_0 ++ dktX2_send_1
theorem dksX2_send_0 : cX2_send.data.toList.drop 0 = dktX2_send_0 := by decide +kernel
theorem dksX2_send_1 : cX2_send.data.toList.drop 24 = dktX2_send_1 := dk_seg dksX2_send_0 24 rfl rfl
theorem dksX2_send_2 : cX2_send.data.toList.drop 47 = dktX2_send_2 := dk_seg dksX2_send_1 23 rfl rfl
theorem dksX2_send_3 : cX2_send.data.toList.drop 71 = dktX2_send_3 := dk_seg dksX2_send_2 24 rfl rfl
theorem dksX2_send_4 : cX2_send.data.toList.drop 94 = dktX2_send_4 := dk_seg dksX2_send_3 23 rfl rfl
theorem dksX2_send_5 : cX2_send.data.toList.drop 118 = dktX2_send_5 := dk_seg dksX2_send_4 24 rfl rfl
theorem dksX2_send_6 : cX2_send.data.toList.drop 141 = dktX2_send_6 := dk_seg dksX2_send_5 23 rfl rfl
theorem dksX2_send_7 : cX2_send.data.toList.drop 164 = dktX2_send_7 := dk_seg dksX2_send_6 23 rfl rfl
theorem dX2_send_0 : decode cX2_send 0 = .ok (.aload_n 0, 1) := dk_42 (dk_at dksX2_send_0 0 rfl rfl)
theorem dX2_send_1 : decode cX2_send 1 = .ok (.getfield 27, 3) := dk_180 0 27 (dk_at dksX2_send_0 1 rfl rfl)
theorem dX2_send_4 : decode cX2_send 4 = .ok (.iload_n 1, 1) := dk_27 (dk_at dksX2_send_0 4 rfl rfl)
theorem dX2_send_5 : decode cX2_send 5 = .ok (.invokevirtual 163, 3) := dk_182 0 163 (dk_at dksX2_send_0 5 rfl rfl)
theorem dX2_send_8 : decode cX2_send 8 = .ok (.checkcast 100, 3) := dk_192 0 100 (dk_at dksX2_send_0 8 rfl rfl)
theorem dX2_send_11 : decode cX2_send 11 = .ok (.astore_n 2, 1) := dk_77 (dk_at dksX2_send_0 11 rfl rfl)
theorem dX2_send_12 : decode cX2_send 12 = .ok (.aload_n 2, 1) := dk_44 (dk_at dksX2_send_0 12 rfl rfl)
theorem dX2_send_13 : decode cX2_send 13 = .ok (.getfield 225, 3) := dk_180 0 225 (dk_at dksX2_send_0 13 rfl rfl)
theorem dX2_send_16 : decode cX2_send 16 = .ok (.iconst (-1), 1) := dk_2 (dk_at dksX2_send_0 16 rfl rfl)
theorem dX2_send_17 : decode cX2_send 17 = .ok (.if_icmp .ne 7, 3) := dk_160 0 7 (dk_at dksX2_send_0 17 rfl rfl)
theorem dX2_send_20 : decode cX2_send 20 = .ok (.iconst 1, 1) := dk_4 (dk_at dksX2_send_0 20 rfl rfl)
theorem dX2_send_21 : decode cX2_send 21 = .ok (.goto 4, 3) := dk_167 0 4 (dk_at dksX2_send_0 21 rfl rfl)
theorem dX2_send_24 : decode cX2_send 24 = .ok (.iconst 0, 1) := dk_3 (dk_at dksX2_send_1 0 rfl rfl)
theorem dX2_send_25 : decode cX2_send 25 = .ok (.bipush 11, 2) := dk_16 11 (dk_at dksX2_send_1 1 rfl rfl)
theorem dX2_send_27 : decode cX2_send 27 = .ok (.iload_n 1, 1) := dk_27 (dk_at dksX2_send_1 3 rfl rfl)
theorem dX2_send_28 : decode cX2_send 28 = .ok (.invokestatic 170, 3) := dk_184 0 170 (dk_at dksX2_send_1 4 rfl rfl)
theorem dX2_send_31 : decode cX2_send 31 = .ok (.aload_n 0, 1) := dk_42 (dk_at dksX2_send_1 7 rfl rfl)
theorem dX2_send_32 : decode cX2_send 32 = .ok (.getfield 24, 3) := dk_180 0 24 (dk_at dksX2_send_1 8 rfl rfl)
theorem dX2_send_35 : decode cX2_send 35 = .ok (.aload_n 2, 1) := dk_44 (dk_at dksX2_send_1 11 rfl rfl)
theorem dX2_send_36 : decode cX2_send 36 = .ok (.getfield 225, 3) := dk_180 0 225 (dk_at dksX2_send_1 12 rfl rfl)
theorem dX2_send_39 : decode cX2_send 39 = .ok (.invokevirtual 163, 3) := dk_182 0 163 (dk_at dksX2_send_1 15 rfl rfl)
theorem dX2_send_42 : decode cX2_send 42 = .ok (.checkcast 95, 3) := dk_192 0 95 (dk_at dksX2_send_1 18 rfl rfl)
theorem dX2_send_45 : decode cX2_send 45 = .ok (.astore_n 3, 1) := dk_78 (dk_at dksX2_send_1 21 rfl rfl)
theorem dX2_send_46 : decode cX2_send 46 = .ok (.aload_n 3, 1) := dk_45 (dk_at dksX2_send_1 22 rfl rfl)
theorem dX2_send_47 : decode cX2_send 47 = .ok (.invokevirtual 228, 3) := dk_182 0 228 (dk_at dksX2_send_2 0 rfl rfl)
theorem dX2_send_50 : decode cX2_send 50 = .ok (.ifCond .le 7, 3) := dk_158 0 7 (dk_at dksX2_send_2 3 rfl rfl)
theorem dX2_send_53 : decode cX2_send 53 = .ok (.iconst 1, 1) := dk_4 (dk_at dksX2_send_2 6 rfl rfl)
theorem dX2_send_54 : decode cX2_send 54 = .ok (.goto 4, 3) := dk_167 0 4 (dk_at dksX2_send_2 7 rfl rfl)
theorem dX2_send_57 : decode cX2_send 57 = .ok (.iconst 0, 1) := dk_3 (dk_at dksX2_send_2 10 rfl rfl)
theorem dX2_send_58 : decode cX2_send 58 = .ok (.bipush 12, 2) := dk_16 12 (dk_at dksX2_send_2 11 rfl rfl)
theorem dX2_send_60 : decode cX2_send 60 = .ok (.aload_n 3, 1) := dk_45 (dk_at dksX2_send_2 13 rfl rfl)
theorem dX2_send_61 : decode cX2_send 61 = .ok (.invokevirtual 228, 3) := dk_182 0 228 (dk_at dksX2_send_2 14 rfl rfl)
theorem dX2_send_64 : decode cX2_send 64 = .ok (.invokestatic 170, 3) := dk_184 0 170 (dk_at dksX2_send_2 17 rfl rfl)
theorem dX2_send_67 : decode cX2_send 67 = .ok (.aload_n 3, 1) := dk_45 (dk_at dksX2_send_2 20 rfl rfl)
theorem dX2_send_68 : decode cX2_send 68 = .ok (.getfield 239, 3) := dk_180 0 239 (dk_at dksX2_send_2 21 rfl rfl)
theorem dX2_send_71 : decode cX2_send 71 = .ok (.aload_n 3, 1) := dk_45 (dk_at dksX2_send_3 0 rfl rfl)
theorem dX2_send_72 : decode cX2_send 72 = .ok (.getfield 234, 3) := dk_180 0 234 (dk_at dksX2_send_3 1 rfl rfl)
theorem dX2_send_75 : decode cX2_send 75 = .ok (.getfield 240, 3) := dk_180 0 240 (dk_at dksX2_send_3 4 rfl rfl)
theorem dX2_send_78 : decode cX2_send 78 = .ok (.iconst 1, 1) := dk_4 (dk_at dksX2_send_3 7 rfl rfl)
theorem dX2_send_79 : decode cX2_send 79 = .ok (.iadd, 1) := dk_96 (dk_at dksX2_send_3 8 rfl rfl)
theorem dX2_send_80 : decode cX2_send 80 = .ok (.imul, 1) := dk_104 (dk_at dksX2_send_3 9 rfl rfl)
theorem dX2_send_81 : decode cX2_send 81 = .ok (.istore 4, 2) := dk_54 4 (dk_at dksX2_send_3 10 rfl rfl)
theorem dX2_send_83 : decode cX2_send 83 = .ok (.aload_n 0, 1) := dk_42 (dk_at dksX2_send_3 12 rfl rfl)
theorem dX2_send_84 : decode cX2_send 84 = .ok (.getfield 36, 3) := dk_180 0 36 (dk_at dksX2_send_3 13 rfl rfl)
theorem dX2_send_87 : decode cX2_send 87 = .ok (.aload_n 3, 1) := dk_45 (dk_at dksX2_send_3 16 rfl rfl)
theorem dX2_send_88 : decode cX2_send 88 = .ok (.getfield 234, 3) := dk_180 0 234 (dk_at dksX2_send_3 17 rfl rfl)
theorem dX2_send_91 : decode cX2_send 91 = .ok (.invokevirtual 242, 3) := dk_182 0 242 (dk_at dksX2_send_3 20 rfl rfl)
theorem dX2_send_94 : decode cX2_send 94 = .ok (.ifCond .eq 23, 3) := dk_153 0 23 (dk_at dksX2_send_4 0 rfl rfl)
theorem dX2_send_97 : decode cX2_send 97 = .ok (.aload_n 0, 1) := dk_42 (dk_at dksX2_send_4 3 rfl rfl)
theorem dX2_send_98 : decode cX2_send 98 = .ok (.getfield 36, 3) := dk_180 0 36 (dk_at dksX2_send_4 4 rfl rfl)
theorem dX2_send_101 : decode cX2_send 101 = .ok (.aload_n 3, 1) := dk_45 (dk_at dksX2_send_4 7 rfl rfl)
theorem dX2_send_102 : decode cX2_send 102 = .ok (.getfield 234, 3) := dk_180 0 234 (dk_at dksX2_send_4 8 rfl rfl)
theorem dX2_send_105 : decode cX2_send 105 = .ok (.invokevirtual 245, 3) := dk_182 0 245 (dk_at dksX2_send_4 11 rfl rfl)
theorem dX2_send_108 : decode cX2_send 108 = .ok (.checkcast 248, 3) := dk_192 0 248 (dk_at dksX2_send_4 14 rfl rfl)
theorem dX2_send_111 : decode cX2_send 111 = .ok (.invokevirtual 250, 3) := dk_182 0 250 (dk_at dksX2_send_4 17 rfl rfl)
theorem dX2_send_114 : decode cX2_send 114 = .ok (.goto 4, 3) := dk_167 0 4 (dk_at dksX2_send_4 20 rfl rfl)
theorem dX2_send_117 : decode cX2_send 117 = .ok (.iconst 0, 1) := dk_3 (dk_at dksX2_send_4 23 rfl rfl)
theorem dX2_send_118 : decode cX2_send 118 = .ok (.istore 5, 2) := dk_54 5 (dk_at dksX2_send_5 0 rfl rfl)
theorem dX2_send_120 : decode cX2_send 120 = .ok (.aload_n 0, 1) := dk_42 (dk_at dksX2_send_5 2 rfl rfl)
theorem dX2_send_121 : decode cX2_send 121 = .ok (.getfield 36, 3) := dk_180 0 36 (dk_at dksX2_send_5 3 rfl rfl)
theorem dX2_send_124 : decode cX2_send 124 = .ok (.aload_n 3, 1) := dk_45 (dk_at dksX2_send_5 6 rfl rfl)
theorem dX2_send_125 : decode cX2_send 125 = .ok (.getfield 234, 3) := dk_180 0 234 (dk_at dksX2_send_5 7 rfl rfl)
theorem dX2_send_128 : decode cX2_send 128 = .ok (.iload 5, 2) := dk_21 5 (dk_at dksX2_send_5 10 rfl rfl)
theorem dX2_send_130 : decode cX2_send 130 = .ok (.aload_n 3, 1) := dk_45 (dk_at dksX2_send_5 12 rfl rfl)
theorem dX2_send_131 : decode cX2_send 131 = .ok (.getfield 239, 3) := dk_180 0 239 (dk_at dksX2_send_5 13 rfl rfl)
theorem dX2_send_134 : decode cX2_send 134 = .ok (.iadd, 1) := dk_96 (dk_at dksX2_send_5 16 rfl rfl)
theorem dX2_send_135 : decode cX2_send 135 = .ok (.invokestatic 253, 3) := dk_184 0 253 (dk_at dksX2_send_5 17 rfl rfl)
theorem dX2_send_138 : decode cX2_send 138 = .ok (.invokevirtual 257, 3) := dk_182 1 1 (dk_at dksX2_send_5 20 rfl rfl)
theorem dX2_send_141 : decode cX2_send 141 = .ok (.checkcast 248, 3) := dk_192 0 248 (dk_at dksX2_send_6 0 rfl rfl)
theorem dX2_send_144 : decode cX2_send 144 = .ok (.astore 6, 2) := dk_58 6 (dk_at dksX2_send_6 3 rfl rfl)
theorem dX2_send_146 : decode cX2_send 146 = .ok (.aload_n 0, 1) := dk_42 (dk_at dksX2_send_6 5 rfl rfl)
theorem dX2_send_147 : decode cX2_send 147 = .ok (.dup, 1) := dk_89 (dk_at dksX2_send_6 6 rfl rfl)
theorem dX2_send_148 : decode cX2_send 148 = .ok (.getfield 109, 3) := dk_180 0 109 (dk_at dksX2_send_6 7 rfl rfl)
theorem dX2_send_151 : decode cX2_send 151 = .ok (.aload_n 3, 1) := dk_45 (dk_at dksX2_send_6 10 rfl rfl)
theorem dX2_send_152 : decode cX2_send 152 = .ok (.getfield 239, 3) := dk_180 0 239 (dk_at dksX2_send_6 11 rfl rfl)
theorem dX2_send_155 : decode cX2_send 155 = .ok (.iadd, 1) := dk_96 (dk_at dksX2_send_6 14 rfl rfl)
theorem dX2_send_156 : decode cX2_send 156 = .ok (.putfield 109, 3) := dk_181 0 109 (dk_at dksX2_send_6 15 rfl rfl)
theorem dX2_send_159 : decode cX2_send 159 = .ok (.aload_n 0, 1) := dk_42 (dk_at dksX2_send_6 18 rfl rfl)
theorem dX2_send_160 : decode cX2_send 160 = .ok (.dup, 1) := dk_89 (dk_at dksX2_send_6 19 rfl rfl)
theorem dX2_send_161 : decode cX2_send 161 = .ok (.getfield 115, 3) := dk_180 0 115 (dk_at dksX2_send_6 20 rfl rfl)
theorem dX2_send_164 : decode cX2_send 164 = .ok (.iload 4, 2) := dk_21 4 (dk_at dksX2_send_7 0 rfl rfl)
theorem dX2_send_166 : decode cX2_send 166 = .ok (.iadd, 1) := dk_96 (dk_at dksX2_send_7 2 rfl rfl)
theorem dX2_send_167 : decode cX2_send 167 = .ok (.putfield 115, 3) := dk_181 0 115 (dk_at dksX2_send_7 3 rfl rfl)
theorem dX2_send_170 : decode cX2_send 170 = .ok (.aload_n 3, 1) := dk_45 (dk_at dksX2_send_7 6 rfl rfl)
theorem dX2_send_171 : decode cX2_send 171 = .ok (.iconst 1, 1) := dk_4 (dk_at dksX2_send_7 7 rfl rfl)
theorem dX2_send_172 : decode cX2_send 172 = .ok (.invokevirtual 219, 3) := dk_182 0 219 (dk_at dksX2_send_7 8 rfl rfl)
theorem dX2_send_175 : decode cX2_send 175 = .ok (.aload_n 2, 1) := dk_44 (dk_at dksX2_send_7 11 rfl rfl)
theorem dX2_send_176 : decode cX2_send 176 = .ok (.invokevirtual 216, 3) := dk_182 0 216 (dk_at dksX2_send_7 12 rfl rfl)
theorem dX2_send_179 : decode cX2_send 179 = .ok (.iload 4, 2) := dk_21 4 (dk_at dksX2_send_7 15 rfl rfl)
theorem dX2_send_181 : decode cX2_send 181 = .ok (.ireturn, 1) := dk_172 (dk_at dksX2_send_7 17 rfl rfl)
abbrev cX2_lacking : ByteArray := prog_13_method_27_code
def yX2_lacking : MethodName := ⟨RX2, "lacking", "(I)I"⟩
def dkwX2_lacking_1 : List UInt8 := [42, 44, 180, 0, 234, 4, 182, 1, 5, 100, 184, 1, 9, 167, 0, 4, 3, 172]
abbrev dktX2_lacking_1 : List UInt8 := dkwX2_lacking_1 ++ []
def dkwX2_lacking_0 : List UInt8 := [42, 180, 0, 24, 27, 182, 0, 163, 192, 0, 95, 77, 44, 182, 0, 203, 153, 0, 24, 3, 44, 182, 0, 228]
abbrev dktX2_lacking_0 : List UInt8 := dkwX2_lacking_0 ++ dktX2_lacking_1
theorem dksX2_lacking_0 : cX2_lacking.data.toList.drop 0 = dktX2_lacking_0 := by decide +kernel
theorem dksX2_lacking_1 : cX2_lacking.data.toList.drop 24 = dktX2_lacking_1 := dk_seg dksX2_lacking_0 24 rfl rfl
theorem dX2_lacking_0 : decode cX2_lacking 0 = .ok (.aload_n 0, 1) := dk_42 (dk_at dksX2_lacking_0 0 rfl rfl)
theorem dX2_lacking_1 : decode cX2_lacking 1 = .ok (.getfield 24, 3) := dk_180 0 24 (dk_at dksX2_lacking_0 1 rfl rfl)
theorem dX2_lacking_4 : decode cX2_lacking 4 = .ok (.iload_n 1, 1) := dk_27 (dk_at dksX2_lacking_0 4 rfl rfl)
theorem dX2_lacking_5 : decode cX2_lacking 5 = .ok (.invokevirtual 163, 3) := dk_182 0 163 (dk_at dksX2_lacking_0 5 rfl rfl)
theorem dX2_lacking_8 : decode cX2_lacking 8 = .ok (.checkcast 95, 3) := dk_192 0 95 (dk_at dksX2_lacking_0 8 rfl rfl)
theorem dX2_lacking_11 : decode cX2_lacking 11 = .ok (.astore_n 2, 1) := dk_77 (dk_at dksX2_lacking_0 11 rfl rfl)
theorem dX2_lacking_12 : decode cX2_lacking 12 = .ok (.aload_n 2, 1) := dk_44 (dk_at dksX2_lacking_0 12 rfl rfl)
theorem dX2_lacking_13 : decode cX2_lacking 13 = .ok (.invokevirtual 203, 3) := dk_182 0 203 (dk_at dksX2_lacking_0 13 rfl rfl)
theorem dX2_lacking_16 : decode cX2_lacking 16 = .ok (.ifCond .eq 24, 3) := dk_153 0 24 (dk_at dksX2_lacking_0 16 rfl rfl)
theorem dX2_lacking_19 : decode cX2_lacking 19 = .ok (.iconst 0, 1) := dk_3 (dk_at dksX2_lacking_0 19 rfl rfl)
theorem dX2_lacking_20 : decode cX2_lacking 20 = .ok (.aload_n 2, 1) := dk_44 (dk_at dksX2_lacking_0 20 rfl rfl)
theorem dX2_lacking_21 : decode cX2_lacking 21 = .ok (.invokevirtual 228, 3) := dk_182 0 228 (dk_at dksX2_lacking_0 21 rfl rfl)
theorem dX2_lacking_24 : decode cX2_lacking 24 = .ok (.aload_n 0, 1) := dk_42 (dk_at dksX2_lacking_1 0 rfl rfl)
theorem dX2_lacking_25 : decode cX2_lacking 25 = .ok (.aload_n 2, 1) := dk_44 (dk_at dksX2_lacking_1 1 rfl rfl)
theorem dX2_lacking_26 : decode cX2_lacking 26 = .ok (.getfield 234, 3) := dk_180 0 234 (dk_at dksX2_lacking_1 2 rfl rfl)
theorem dX2_lacking_29 : decode cX2_lacking 29 = .ok (.iconst 1, 1) := dk_4 (dk_at dksX2_lacking_1 5 rfl rfl)
theorem dX2_lacking_30 : decode cX2_lacking 30 = .ok (.invokevirtual 261, 3) := dk_182 1 5 (dk_at dksX2_lacking_1 6 rfl rfl)
theorem dX2_lacking_33 : decode cX2_lacking 33 = .ok (.isub, 1) := dk_100 (dk_at dksX2_lacking_1 9 rfl rfl)
theorem dX2_lacking_34 : decode cX2_lacking 34 = .ok (.invokestatic 265, 3) := dk_184 1 9 (dk_at dksX2_lacking_1 10 rfl rfl)
theorem dX2_lacking_37 : decode cX2_lacking 37 = .ok (.goto 4, 3) := dk_167 0 4 (dk_at dksX2_lacking_1 13 rfl rfl)
theorem dX2_lacking_40 : decode cX2_lacking 40 = .ok (.iconst 0, 1) := dk_3 (dk_at dksX2_lacking_1 16 rfl rfl)
theorem dX2_lacking_41 : decode cX2_lacking 41 = .ok (.ireturn, 1) := dk_172 (dk_at dksX2_lacking_1 17 rfl rfl)
abbrev cX2_stock : ByteArray := prog_13_method_7_code
def yX2_stock : MethodName := ⟨RX2, "stock", "(LPaperStore$Paper;Z)I"⟩
def dkwX2_stock_3 : List UInt8 := [180, 0, 145, 167, 0, 4, 3, 96, 62, 167, 255, 193, 29, 172]
abbrev dktX2_stock_3 : List UInt8 := dkwX2_stock_3 ++ []
def dkwX2_stock_2 : List UInt8 := [167, 0, 12, 25, 5, 180, 0, 136, 43, 182, 0, 140, 54, 6, 29, 21, 6, 153, 0, 11, 25, 5]
abbrev dktX2_stock_2 : List UInt8 := dkwX2_stock_2 ++ dktX2_stock_3
def dkwX2_stock_1 : List UInt8 := [25, 4, 185, 0, 65, 1, 0, 192, 0, 69, 58, 5, 28, 153, 0, 12, 25, 5, 43, 182, 0, 132]
abbrev dktX2_stock_1 : List UInt8 := dkwX2_stock_1 ++ dktX2_stock_2
def dkwX2_stock_0 : List UInt8 := [3, 62, 42, 182, 0, 129, 185, 0, 53, 1, 0, 58, 4, 25, 4, 185, 0, 59, 1, 0, 153, 0, 59]
abbrev dktX2_stock_0 : List UInt8 := dkwX2_stock_0 ++ dktX2_stock_1
theorem dksX2_stock_0 : cX2_stock.data.toList.drop 0 = dktX2_stock_0 := by decide +kernel
theorem dksX2_stock_1 : cX2_stock.data.toList.drop 23 = dktX2_stock_1 := dk_seg dksX2_stock_0 23 rfl rfl
theorem dksX2_stock_2 : cX2_stock.data.toList.drop 45 = dktX2_stock_2 := dk_seg dksX2_stock_1 22 rfl rfl
theorem dksX2_stock_3 : cX2_stock.data.toList.drop 67 = dktX2_stock_3 := dk_seg dksX2_stock_2 22 rfl rfl
theorem dX2_stock_0 : decode cX2_stock 0 = .ok (.iconst 0, 1) := dk_3 (dk_at dksX2_stock_0 0 rfl rfl)
theorem dX2_stock_1 : decode cX2_stock 1 = .ok (.istore_n 3, 1) := dk_62 (dk_at dksX2_stock_0 1 rfl rfl)
theorem dX2_stock_2 : decode cX2_stock 2 = .ok (.aload_n 0, 1) := dk_42 (dk_at dksX2_stock_0 2 rfl rfl)
theorem dX2_stock_3 : decode cX2_stock 3 = .ok (.invokevirtual 129, 3) := dk_182 0 129 (dk_at dksX2_stock_0 3 rfl rfl)
theorem dX2_stock_6 : decode cX2_stock 6 = .ok (.invokeinterface 53 1, 5) := by decide +kernel
theorem dX2_stock_11 : decode cX2_stock 11 = .ok (.astore 4, 2) := dk_58 4 (dk_at dksX2_stock_0 11 rfl rfl)
theorem dX2_stock_13 : decode cX2_stock 13 = .ok (.aload 4, 2) := dk_25 4 (dk_at dksX2_stock_0 13 rfl rfl)
theorem dX2_stock_15 : decode cX2_stock 15 = .ok (.invokeinterface 59 1, 5) := by decide +kernel
theorem dX2_stock_20 : decode cX2_stock 20 = .ok (.ifCond .eq 59, 3) := dk_153 0 59 (dk_at dksX2_stock_0 20 rfl rfl)
theorem dX2_stock_23 : decode cX2_stock 23 = .ok (.aload 4, 2) := dk_25 4 (dk_at dksX2_stock_1 0 rfl rfl)
theorem dX2_stock_25 : decode cX2_stock 25 = .ok (.invokeinterface 65 1, 5) := by decide +kernel
theorem dX2_stock_30 : decode cX2_stock 30 = .ok (.checkcast 69, 3) := dk_192 0 69 (dk_at dksX2_stock_1 7 rfl rfl)
theorem dX2_stock_33 : decode cX2_stock 33 = .ok (.astore 5, 2) := dk_58 5 (dk_at dksX2_stock_1 10 rfl rfl)
theorem dX2_stock_35 : decode cX2_stock 35 = .ok (.iload_n 2, 1) := dk_28 (dk_at dksX2_stock_1 12 rfl rfl)
theorem dX2_stock_36 : decode cX2_stock 36 = .ok (.ifCond .eq 12, 3) := dk_153 0 12 (dk_at dksX2_stock_1 13 rfl rfl)
theorem dX2_stock_39 : decode cX2_stock 39 = .ok (.aload 5, 2) := dk_25 5 (dk_at dksX2_stock_1 16 rfl rfl)
theorem dX2_stock_41 : decode cX2_stock 41 = .ok (.aload_n 1, 1) := dk_43 (dk_at dksX2_stock_1 18 rfl rfl)
theorem dX2_stock_42 : decode cX2_stock 42 = .ok (.invokevirtual 132, 3) := dk_182 0 132 (dk_at dksX2_stock_1 19 rfl rfl)
theorem dX2_stock_45 : decode cX2_stock 45 = .ok (.goto 12, 3) := dk_167 0 12 (dk_at dksX2_stock_2 0 rfl rfl)
theorem dX2_stock_48 : decode cX2_stock 48 = .ok (.aload 5, 2) := dk_25 5 (dk_at dksX2_stock_2 3 rfl rfl)
theorem dX2_stock_50 : decode cX2_stock 50 = .ok (.getfield 136, 3) := dk_180 0 136 (dk_at dksX2_stock_2 5 rfl rfl)
theorem dX2_stock_53 : decode cX2_stock 53 = .ok (.aload_n 1, 1) := dk_43 (dk_at dksX2_stock_2 8 rfl rfl)
theorem dX2_stock_54 : decode cX2_stock 54 = .ok (.invokevirtual 140, 3) := dk_182 0 140 (dk_at dksX2_stock_2 9 rfl rfl)
theorem dX2_stock_57 : decode cX2_stock 57 = .ok (.istore 6, 2) := dk_54 6 (dk_at dksX2_stock_2 12 rfl rfl)
theorem dX2_stock_59 : decode cX2_stock 59 = .ok (.iload_n 3, 1) := dk_29 (dk_at dksX2_stock_2 14 rfl rfl)
theorem dX2_stock_60 : decode cX2_stock 60 = .ok (.iload 6, 2) := dk_21 6 (dk_at dksX2_stock_2 15 rfl rfl)
theorem dX2_stock_62 : decode cX2_stock 62 = .ok (.ifCond .eq 11, 3) := dk_153 0 11 (dk_at dksX2_stock_2 17 rfl rfl)
theorem dX2_stock_65 : decode cX2_stock 65 = .ok (.aload 5, 2) := dk_25 5 (dk_at dksX2_stock_2 20 rfl rfl)
theorem dX2_stock_67 : decode cX2_stock 67 = .ok (.getfield 145, 3) := dk_180 0 145 (dk_at dksX2_stock_3 0 rfl rfl)
theorem dX2_stock_70 : decode cX2_stock 70 = .ok (.goto 4, 3) := dk_167 0 4 (dk_at dksX2_stock_3 3 rfl rfl)
theorem dX2_stock_73 : decode cX2_stock 73 = .ok (.iconst 0, 1) := dk_3 (dk_at dksX2_stock_3 6 rfl rfl)
theorem dX2_stock_74 : decode cX2_stock 74 = .ok (.iadd, 1) := dk_96 (dk_at dksX2_stock_3 7 rfl rfl)
theorem dX2_stock_75 : decode cX2_stock 75 = .ok (.istore_n 3, 1) := dk_62 (dk_at dksX2_stock_3 8 rfl rfl)
theorem dX2_stock_76 : decode cX2_stock 76 = .ok (.goto (-63), 3) := dk_167 255 193 (dk_at dksX2_stock_3 9 rfl rfl)
theorem dX2_stock_79 : decode cX2_stock 79 = .ok (.iload_n 3, 1) := dk_29 (dk_at dksX2_stock_3 12 rfl rfl)
theorem dX2_stock_80 : decode cX2_stock 80 = .ok (.ireturn, 1) := dk_172 (dk_at dksX2_stock_3 13 rfl rfl)
abbrev cX2_bestLadder : ByteArray := prog_13_method_28_code
def yX2_bestLadder : MethodName := ⟨RX2, "bestLadder", "(I)I"⟩
def dkwX2_bestLadder_4 : List UInt8 := [167, 0, 4, 29, 62, 21, 4, 21, 7, 184, 1, 9, 54, 4, 132, 5, 1, 167, 255, 168, 29, 172]
abbrev dktX2_bestLadder_4 : List UInt8 := dkwX2_bestLadder_4 ++ []
def dkwX2_bestLadder_3 : List UInt8 := [180, 0, 82, 44, 182, 0, 228, 3, 182, 0, 235, 54, 7, 21, 7, 21, 4, 164, 0, 8, 21, 5]
abbrev dktX2_bestLadder_3 : List UInt8 := dkwX2_bestLadder_3 ++ dktX2_bestLadder_4
def dkwX2_bestLadder_2 : List UInt8 := [182, 0, 163, 192, 0, 80, 58, 6, 42, 180, 0, 11, 25, 6, 180, 0, 85, 50, 44, 180, 0, 234, 25, 6]
abbrev dktX2_bestLadder_2 : List UInt8 := dkwX2_bestLadder_2 ++ dktX2_bestLadder_3
def dkwX2_bestLadder_1 : List UInt8 := [180, 0, 20, 182, 0, 121, 162, 0, 82, 44, 182, 0, 203, 153, 0, 75, 42, 180, 0, 20, 21, 5]
abbrev dktX2_bestLadder_1 : List UInt8 := dkwX2_bestLadder_1 ++ dktX2_bestLadder_2
def dkwX2_bestLadder_0 : List UInt8 := [42, 180, 0, 24, 27, 182, 0, 163, 192, 0, 95, 77, 2, 62, 3, 54, 4, 3, 54, 5, 21, 5, 42]
abbrev dktX2_bestLadder_0 : List UInt8 := dkwX2_bestLadder_0 ++ dktX2_bestLadder_1
theorem dksX2_bestLadder_0 : cX2_bestLadder.data.toList.drop 0 = dktX2_bestLadder_0 := by decide +kernel
theorem dksX2_bestLadder_1 : cX2_bestLadder.data.toList.drop 23 = dktX2_bestLadder_1 := dk_seg dksX2_bestLadder_0 23 rfl rfl
theorem dksX2_bestLadder_2 : cX2_bestLadder.data.toList.drop 45 = dktX2_bestLadder_2 := dk_seg dksX2_bestLadder_1 22 rfl rfl
theorem dksX2_bestLadder_3 : cX2_bestLadder.data.toList.drop 69 = dktX2_bestLadder_3 := dk_seg dksX2_bestLadder_2 24 rfl rfl
theorem dksX2_bestLadder_4 : cX2_bestLadder.data.toList.drop 91 = dktX2_bestLadder_4 := dk_seg dksX2_bestLadder_3 22 rfl rfl
theorem dX2_bestLadder_0 : decode cX2_bestLadder 0 = .ok (.aload_n 0, 1) := dk_42 (dk_at dksX2_bestLadder_0 0 rfl rfl)
theorem dX2_bestLadder_1 : decode cX2_bestLadder 1 = .ok (.getfield 24, 3) := dk_180 0 24 (dk_at dksX2_bestLadder_0 1 rfl rfl)
theorem dX2_bestLadder_4 : decode cX2_bestLadder 4 = .ok (.iload_n 1, 1) := dk_27 (dk_at dksX2_bestLadder_0 4 rfl rfl)
theorem dX2_bestLadder_5 : decode cX2_bestLadder 5 = .ok (.invokevirtual 163, 3) := dk_182 0 163 (dk_at dksX2_bestLadder_0 5 rfl rfl)
theorem dX2_bestLadder_8 : decode cX2_bestLadder 8 = .ok (.checkcast 95, 3) := dk_192 0 95 (dk_at dksX2_bestLadder_0 8 rfl rfl)
theorem dX2_bestLadder_11 : decode cX2_bestLadder 11 = .ok (.astore_n 2, 1) := dk_77 (dk_at dksX2_bestLadder_0 11 rfl rfl)
theorem dX2_bestLadder_12 : decode cX2_bestLadder 12 = .ok (.iconst (-1), 1) := dk_2 (dk_at dksX2_bestLadder_0 12 rfl rfl)
theorem dX2_bestLadder_13 : decode cX2_bestLadder 13 = .ok (.istore_n 3, 1) := dk_62 (dk_at dksX2_bestLadder_0 13 rfl rfl)
theorem dX2_bestLadder_14 : decode cX2_bestLadder 14 = .ok (.iconst 0, 1) := dk_3 (dk_at dksX2_bestLadder_0 14 rfl rfl)
theorem dX2_bestLadder_15 : decode cX2_bestLadder 15 = .ok (.istore 4, 2) := dk_54 4 (dk_at dksX2_bestLadder_0 15 rfl rfl)
theorem dX2_bestLadder_17 : decode cX2_bestLadder 17 = .ok (.iconst 0, 1) := dk_3 (dk_at dksX2_bestLadder_0 17 rfl rfl)
theorem dX2_bestLadder_18 : decode cX2_bestLadder 18 = .ok (.istore 5, 2) := dk_54 5 (dk_at dksX2_bestLadder_0 18 rfl rfl)
theorem dX2_bestLadder_20 : decode cX2_bestLadder 20 = .ok (.iload 5, 2) := dk_21 5 (dk_at dksX2_bestLadder_0 20 rfl rfl)
theorem dX2_bestLadder_22 : decode cX2_bestLadder 22 = .ok (.aload_n 0, 1) := dk_42 (dk_at dksX2_bestLadder_0 22 rfl rfl)
theorem dX2_bestLadder_23 : decode cX2_bestLadder 23 = .ok (.getfield 20, 3) := dk_180 0 20 (dk_at dksX2_bestLadder_1 0 rfl rfl)
theorem dX2_bestLadder_26 : decode cX2_bestLadder 26 = .ok (.invokevirtual 121, 3) := dk_182 0 121 (dk_at dksX2_bestLadder_1 3 rfl rfl)
theorem dX2_bestLadder_29 : decode cX2_bestLadder 29 = .ok (.if_icmp .ge 82, 3) := dk_162 0 82 (dk_at dksX2_bestLadder_1 6 rfl rfl)
theorem dX2_bestLadder_32 : decode cX2_bestLadder 32 = .ok (.aload_n 2, 1) := dk_44 (dk_at dksX2_bestLadder_1 9 rfl rfl)
theorem dX2_bestLadder_33 : decode cX2_bestLadder 33 = .ok (.invokevirtual 203, 3) := dk_182 0 203 (dk_at dksX2_bestLadder_1 10 rfl rfl)
theorem dX2_bestLadder_36 : decode cX2_bestLadder 36 = .ok (.ifCond .eq 75, 3) := dk_153 0 75 (dk_at dksX2_bestLadder_1 13 rfl rfl)
theorem dX2_bestLadder_39 : decode cX2_bestLadder 39 = .ok (.aload_n 0, 1) := dk_42 (dk_at dksX2_bestLadder_1 16 rfl rfl)
theorem dX2_bestLadder_40 : decode cX2_bestLadder 40 = .ok (.getfield 20, 3) := dk_180 0 20 (dk_at dksX2_bestLadder_1 17 rfl rfl)
theorem dX2_bestLadder_43 : decode cX2_bestLadder 43 = .ok (.iload 5, 2) := dk_21 5 (dk_at dksX2_bestLadder_1 20 rfl rfl)
theorem dX2_bestLadder_45 : decode cX2_bestLadder 45 = .ok (.invokevirtual 163, 3) := dk_182 0 163 (dk_at dksX2_bestLadder_2 0 rfl rfl)
theorem dX2_bestLadder_48 : decode cX2_bestLadder 48 = .ok (.checkcast 80, 3) := dk_192 0 80 (dk_at dksX2_bestLadder_2 3 rfl rfl)
theorem dX2_bestLadder_51 : decode cX2_bestLadder 51 = .ok (.astore 6, 2) := dk_58 6 (dk_at dksX2_bestLadder_2 6 rfl rfl)
theorem dX2_bestLadder_53 : decode cX2_bestLadder 53 = .ok (.aload_n 0, 1) := dk_42 (dk_at dksX2_bestLadder_2 8 rfl rfl)
theorem dX2_bestLadder_54 : decode cX2_bestLadder 54 = .ok (.getfield 11, 3) := dk_180 0 11 (dk_at dksX2_bestLadder_2 9 rfl rfl)
theorem dX2_bestLadder_57 : decode cX2_bestLadder 57 = .ok (.aload 6, 2) := dk_25 6 (dk_at dksX2_bestLadder_2 12 rfl rfl)
theorem dX2_bestLadder_59 : decode cX2_bestLadder 59 = .ok (.getfield 85, 3) := dk_180 0 85 (dk_at dksX2_bestLadder_2 14 rfl rfl)
theorem dX2_bestLadder_62 : decode cX2_bestLadder 62 = .ok (.aaload, 1) := dk_50 (dk_at dksX2_bestLadder_2 17 rfl rfl)
theorem dX2_bestLadder_63 : decode cX2_bestLadder 63 = .ok (.aload_n 2, 1) := dk_44 (dk_at dksX2_bestLadder_2 18 rfl rfl)
theorem dX2_bestLadder_64 : decode cX2_bestLadder 64 = .ok (.getfield 234, 3) := dk_180 0 234 (dk_at dksX2_bestLadder_2 19 rfl rfl)
theorem dX2_bestLadder_67 : decode cX2_bestLadder 67 = .ok (.aload 6, 2) := dk_25 6 (dk_at dksX2_bestLadder_2 22 rfl rfl)
theorem dX2_bestLadder_69 : decode cX2_bestLadder 69 = .ok (.getfield 82, 3) := dk_180 0 82 (dk_at dksX2_bestLadder_3 0 rfl rfl)
theorem dX2_bestLadder_72 : decode cX2_bestLadder 72 = .ok (.aload_n 2, 1) := dk_44 (dk_at dksX2_bestLadder_3 3 rfl rfl)
theorem dX2_bestLadder_73 : decode cX2_bestLadder 73 = .ok (.invokevirtual 228, 3) := dk_182 0 228 (dk_at dksX2_bestLadder_3 4 rfl rfl)
theorem dX2_bestLadder_76 : decode cX2_bestLadder 76 = .ok (.iconst 0, 1) := dk_3 (dk_at dksX2_bestLadder_3 7 rfl rfl)
theorem dX2_bestLadder_77 : decode cX2_bestLadder 77 = .ok (.invokevirtual 235, 3) := dk_182 0 235 (dk_at dksX2_bestLadder_3 8 rfl rfl)
theorem dX2_bestLadder_80 : decode cX2_bestLadder 80 = .ok (.istore 7, 2) := dk_54 7 (dk_at dksX2_bestLadder_3 11 rfl rfl)
theorem dX2_bestLadder_82 : decode cX2_bestLadder 82 = .ok (.iload 7, 2) := dk_21 7 (dk_at dksX2_bestLadder_3 13 rfl rfl)
theorem dX2_bestLadder_84 : decode cX2_bestLadder 84 = .ok (.iload 4, 2) := dk_21 4 (dk_at dksX2_bestLadder_3 15 rfl rfl)
theorem dX2_bestLadder_86 : decode cX2_bestLadder 86 = .ok (.if_icmp .le 8, 3) := dk_164 0 8 (dk_at dksX2_bestLadder_3 17 rfl rfl)
theorem dX2_bestLadder_89 : decode cX2_bestLadder 89 = .ok (.iload 5, 2) := dk_21 5 (dk_at dksX2_bestLadder_3 20 rfl rfl)
theorem dX2_bestLadder_91 : decode cX2_bestLadder 91 = .ok (.goto 4, 3) := dk_167 0 4 (dk_at dksX2_bestLadder_4 0 rfl rfl)
theorem dX2_bestLadder_94 : decode cX2_bestLadder 94 = .ok (.iload_n 3, 1) := dk_29 (dk_at dksX2_bestLadder_4 3 rfl rfl)
theorem dX2_bestLadder_95 : decode cX2_bestLadder 95 = .ok (.istore_n 3, 1) := dk_62 (dk_at dksX2_bestLadder_4 4 rfl rfl)
theorem dX2_bestLadder_96 : decode cX2_bestLadder 96 = .ok (.iload 4, 2) := dk_21 4 (dk_at dksX2_bestLadder_4 5 rfl rfl)
theorem dX2_bestLadder_98 : decode cX2_bestLadder 98 = .ok (.iload 7, 2) := dk_21 7 (dk_at dksX2_bestLadder_4 7 rfl rfl)
theorem dX2_bestLadder_100 : decode cX2_bestLadder 100 = .ok (.invokestatic 265, 3) := dk_184 1 9 (dk_at dksX2_bestLadder_4 9 rfl rfl)
theorem dX2_bestLadder_103 : decode cX2_bestLadder 103 = .ok (.istore 4, 2) := dk_54 4 (dk_at dksX2_bestLadder_4 12 rfl rfl)
theorem dX2_bestLadder_105 : decode cX2_bestLadder 105 = .ok (.iinc 5 1, 3) := dk_132 5 1 (dk_at dksX2_bestLadder_4 14 rfl rfl)
theorem dX2_bestLadder_108 : decode cX2_bestLadder 108 = .ok (.goto (-88), 3) := dk_167 255 168 (dk_at dksX2_bestLadder_4 17 rfl rfl)
theorem dX2_bestLadder_111 : decode cX2_bestLadder 111 = .ok (.iload_n 3, 1) := dk_29 (dk_at dksX2_bestLadder_4 20 rfl rfl)
theorem dX2_bestLadder_112 : decode cX2_bestLadder 112 = .ok (.ireturn, 1) := dk_172 (dk_at dksX2_bestLadder_4 21 rfl rfl)
abbrev cX2_bestPaper : ByteArray := prog_13_method_29_code
def yX2_bestPaper : MethodName := ⟨RX2, "bestPaper", "()I"⟩
def dkwX2_bestPaper_4 : List UInt8 := [153, 0, 8, 21, 5, 167, 0, 4, 27, 60, 28, 21, 6, 184, 1, 9, 61, 167, 255, 162, 27, 172]
abbrev dktX2_bestPaper_4 : List UInt8 := dkwX2_bestPaper_4 ++ []
def dkwX2_bestPaper_3 : List UInt8 := [163, 0, 15, 21, 6, 28, 160, 0, 13, 21, 5, 27, 162, 0, 7, 4, 167, 0, 4, 3, 54, 7, 21, 7]
abbrev dktX2_bestPaper_3 : List UInt8 := dkwX2_bestPaper_3 ++ dktX2_bestPaper_4
def dkwX2_bestPaper_2 : List UInt8 := [182, 1, 24, 54, 5, 25, 4, 185, 1, 26, 1, 0, 192, 0, 248, 182, 0, 250, 54, 6, 21, 6, 28]
abbrev dktX2_bestPaper_2 : List UInt8 := dkwX2_bestPaper_2 ++ dktX2_bestPaper_3
def dkwX2_bestPaper_1 : List UInt8 := [153, 0, 91, 45, 185, 0, 65, 1, 0, 192, 1, 19, 58, 4, 25, 4, 185, 1, 21, 1, 0, 192, 0, 141]
abbrev dktX2_bestPaper_1 : List UInt8 := dkwX2_bestPaper_1 ++ dktX2_bestPaper_2
def dkwX2_bestPaper_0 : List UInt8 := [2, 60, 3, 61, 42, 180, 0, 36, 182, 1, 12, 185, 1, 16, 1, 0, 78, 45, 185, 0, 59, 1, 0]
abbrev dktX2_bestPaper_0 : List UInt8 := dkwX2_bestPaper_0 ++ dktX2_bestPaper_1
theorem dksX2_bestPaper_0 : cX2_bestPaper.data.toList.drop 0 = dktX2_bestPaper_0 := by decide +kernel
theorem dksX2_bestPaper_1 : cX2_bestPaper.data.toList.drop 23 = dktX2_bestPaper_1 := dk_seg dksX2_bestPaper_0 23 rfl rfl
theorem dksX2_bestPaper_2 : cX2_bestPaper.data.toList.drop 47 = dktX2_bestPaper_2 := dk_seg dksX2_bestPaper_1 24 rfl rfl
theorem dksX2_bestPaper_3 : cX2_bestPaper.data.toList.drop 70 = dktX2_bestPaper_3 := dk_seg dksX2_bestPaper_2 23 rfl rfl
theorem dksX2_bestPaper_4 : cX2_bestPaper.data.toList.drop 94 = dktX2_bestPaper_4 := dk_seg dksX2_bestPaper_3 24 rfl rfl
theorem dX2_bestPaper_0 : decode cX2_bestPaper 0 = .ok (.iconst (-1), 1) := dk_2 (dk_at dksX2_bestPaper_0 0 rfl rfl)
theorem dX2_bestPaper_1 : decode cX2_bestPaper 1 = .ok (.istore_n 1, 1) := dk_60 (dk_at dksX2_bestPaper_0 1 rfl rfl)
theorem dX2_bestPaper_2 : decode cX2_bestPaper 2 = .ok (.iconst 0, 1) := dk_3 (dk_at dksX2_bestPaper_0 2 rfl rfl)
theorem dX2_bestPaper_3 : decode cX2_bestPaper 3 = .ok (.istore_n 2, 1) := dk_61 (dk_at dksX2_bestPaper_0 3 rfl rfl)
theorem dX2_bestPaper_4 : decode cX2_bestPaper 4 = .ok (.aload_n 0, 1) := dk_42 (dk_at dksX2_bestPaper_0 4 rfl rfl)
theorem dX2_bestPaper_5 : decode cX2_bestPaper 5 = .ok (.getfield 36, 3) := dk_180 0 36 (dk_at dksX2_bestPaper_0 5 rfl rfl)
theorem dX2_bestPaper_8 : decode cX2_bestPaper 8 = .ok (.invokevirtual 268, 3) := dk_182 1 12 (dk_at dksX2_bestPaper_0 8 rfl rfl)
theorem dX2_bestPaper_11 : decode cX2_bestPaper 11 = .ok (.invokeinterface 272 1, 5) := by decide +kernel
theorem dX2_bestPaper_16 : decode cX2_bestPaper 16 = .ok (.astore_n 3, 1) := dk_78 (dk_at dksX2_bestPaper_0 16 rfl rfl)
theorem dX2_bestPaper_17 : decode cX2_bestPaper 17 = .ok (.aload_n 3, 1) := dk_45 (dk_at dksX2_bestPaper_0 17 rfl rfl)
theorem dX2_bestPaper_18 : decode cX2_bestPaper 18 = .ok (.invokeinterface 59 1, 5) := by decide +kernel
theorem dX2_bestPaper_23 : decode cX2_bestPaper 23 = .ok (.ifCond .eq 91, 3) := dk_153 0 91 (dk_at dksX2_bestPaper_1 0 rfl rfl)
theorem dX2_bestPaper_26 : decode cX2_bestPaper 26 = .ok (.aload_n 3, 1) := dk_45 (dk_at dksX2_bestPaper_1 3 rfl rfl)
theorem dX2_bestPaper_27 : decode cX2_bestPaper 27 = .ok (.invokeinterface 65 1, 5) := by decide +kernel
theorem dX2_bestPaper_32 : decode cX2_bestPaper 32 = .ok (.checkcast 275, 3) := dk_192 1 19 (dk_at dksX2_bestPaper_1 9 rfl rfl)
theorem dX2_bestPaper_35 : decode cX2_bestPaper 35 = .ok (.astore 4, 2) := dk_58 4 (dk_at dksX2_bestPaper_1 12 rfl rfl)
theorem dX2_bestPaper_37 : decode cX2_bestPaper 37 = .ok (.aload 4, 2) := dk_25 4 (dk_at dksX2_bestPaper_1 14 rfl rfl)
theorem dX2_bestPaper_39 : decode cX2_bestPaper 39 = .ok (.invokeinterface 277 1, 5) := by decide +kernel
theorem dX2_bestPaper_44 : decode cX2_bestPaper 44 = .ok (.checkcast 141, 3) := dk_192 0 141 (dk_at dksX2_bestPaper_1 21 rfl rfl)
theorem dX2_bestPaper_47 : decode cX2_bestPaper 47 = .ok (.invokevirtual 280, 3) := dk_182 1 24 (dk_at dksX2_bestPaper_2 0 rfl rfl)
theorem dX2_bestPaper_50 : decode cX2_bestPaper 50 = .ok (.istore 5, 2) := dk_54 5 (dk_at dksX2_bestPaper_2 3 rfl rfl)
theorem dX2_bestPaper_52 : decode cX2_bestPaper 52 = .ok (.aload 4, 2) := dk_25 4 (dk_at dksX2_bestPaper_2 5 rfl rfl)
theorem dX2_bestPaper_54 : decode cX2_bestPaper 54 = .ok (.invokeinterface 282 1, 5) := by decide +kernel
theorem dX2_bestPaper_59 : decode cX2_bestPaper 59 = .ok (.checkcast 248, 3) := dk_192 0 248 (dk_at dksX2_bestPaper_2 12 rfl rfl)
theorem dX2_bestPaper_62 : decode cX2_bestPaper 62 = .ok (.invokevirtual 250, 3) := dk_182 0 250 (dk_at dksX2_bestPaper_2 15 rfl rfl)
theorem dX2_bestPaper_65 : decode cX2_bestPaper 65 = .ok (.istore 6, 2) := dk_54 6 (dk_at dksX2_bestPaper_2 18 rfl rfl)
theorem dX2_bestPaper_67 : decode cX2_bestPaper 67 = .ok (.iload 6, 2) := dk_21 6 (dk_at dksX2_bestPaper_2 20 rfl rfl)
theorem dX2_bestPaper_69 : decode cX2_bestPaper 69 = .ok (.iload_n 2, 1) := dk_28 (dk_at dksX2_bestPaper_2 22 rfl rfl)
theorem dX2_bestPaper_70 : decode cX2_bestPaper 70 = .ok (.if_icmp .gt 15, 3) := dk_163 0 15 (dk_at dksX2_bestPaper_3 0 rfl rfl)
theorem dX2_bestPaper_73 : decode cX2_bestPaper 73 = .ok (.iload 6, 2) := dk_21 6 (dk_at dksX2_bestPaper_3 3 rfl rfl)
theorem dX2_bestPaper_75 : decode cX2_bestPaper 75 = .ok (.iload_n 2, 1) := dk_28 (dk_at dksX2_bestPaper_3 5 rfl rfl)
theorem dX2_bestPaper_76 : decode cX2_bestPaper 76 = .ok (.if_icmp .ne 13, 3) := dk_160 0 13 (dk_at dksX2_bestPaper_3 6 rfl rfl)
theorem dX2_bestPaper_79 : decode cX2_bestPaper 79 = .ok (.iload 5, 2) := dk_21 5 (dk_at dksX2_bestPaper_3 9 rfl rfl)
theorem dX2_bestPaper_81 : decode cX2_bestPaper 81 = .ok (.iload_n 1, 1) := dk_27 (dk_at dksX2_bestPaper_3 11 rfl rfl)
theorem dX2_bestPaper_82 : decode cX2_bestPaper 82 = .ok (.if_icmp .ge 7, 3) := dk_162 0 7 (dk_at dksX2_bestPaper_3 12 rfl rfl)
theorem dX2_bestPaper_85 : decode cX2_bestPaper 85 = .ok (.iconst 1, 1) := dk_4 (dk_at dksX2_bestPaper_3 15 rfl rfl)
theorem dX2_bestPaper_86 : decode cX2_bestPaper 86 = .ok (.goto 4, 3) := dk_167 0 4 (dk_at dksX2_bestPaper_3 16 rfl rfl)
theorem dX2_bestPaper_89 : decode cX2_bestPaper 89 = .ok (.iconst 0, 1) := dk_3 (dk_at dksX2_bestPaper_3 19 rfl rfl)
theorem dX2_bestPaper_90 : decode cX2_bestPaper 90 = .ok (.istore 7, 2) := dk_54 7 (dk_at dksX2_bestPaper_3 20 rfl rfl)
theorem dX2_bestPaper_92 : decode cX2_bestPaper 92 = .ok (.iload 7, 2) := dk_21 7 (dk_at dksX2_bestPaper_3 22 rfl rfl)
theorem dX2_bestPaper_94 : decode cX2_bestPaper 94 = .ok (.ifCond .eq 8, 3) := dk_153 0 8 (dk_at dksX2_bestPaper_4 0 rfl rfl)
theorem dX2_bestPaper_97 : decode cX2_bestPaper 97 = .ok (.iload 5, 2) := dk_21 5 (dk_at dksX2_bestPaper_4 3 rfl rfl)
theorem dX2_bestPaper_99 : decode cX2_bestPaper 99 = .ok (.goto 4, 3) := dk_167 0 4 (dk_at dksX2_bestPaper_4 5 rfl rfl)
theorem dX2_bestPaper_102 : decode cX2_bestPaper 102 = .ok (.iload_n 1, 1) := dk_27 (dk_at dksX2_bestPaper_4 8 rfl rfl)
theorem dX2_bestPaper_103 : decode cX2_bestPaper 103 = .ok (.istore_n 1, 1) := dk_60 (dk_at dksX2_bestPaper_4 9 rfl rfl)
theorem dX2_bestPaper_104 : decode cX2_bestPaper 104 = .ok (.iload_n 2, 1) := dk_28 (dk_at dksX2_bestPaper_4 10 rfl rfl)
theorem dX2_bestPaper_105 : decode cX2_bestPaper 105 = .ok (.iload 6, 2) := dk_21 6 (dk_at dksX2_bestPaper_4 11 rfl rfl)
theorem dX2_bestPaper_107 : decode cX2_bestPaper 107 = .ok (.invokestatic 265, 3) := dk_184 1 9 (dk_at dksX2_bestPaper_4 13 rfl rfl)
theorem dX2_bestPaper_110 : decode cX2_bestPaper 110 = .ok (.istore_n 2, 1) := dk_61 (dk_at dksX2_bestPaper_4 16 rfl rfl)
theorem dX2_bestPaper_111 : decode cX2_bestPaper 111 = .ok (.goto (-94), 3) := dk_167 255 162 (dk_at dksX2_bestPaper_4 17 rfl rfl)
theorem dX2_bestPaper_114 : decode cX2_bestPaper 114 = .ok (.iload_n 1, 1) := dk_27 (dk_at dksX2_bestPaper_4 20 rfl rfl)
theorem dX2_bestPaper_115 : decode cX2_bestPaper 115 = .ok (.ireturn, 1) := dk_172 (dk_at dksX2_bestPaper_4 21 rfl rfl)
abbrev cX2_days : ByteArray := prog_13_method_31_code
def yX2_days : MethodName := ⟨RX2, "days", "(I)I"⟩
def dkwX2_days_0 : List UInt8 := [3, 61, 3, 62, 29, 27, 162, 0, 16, 28, 42, 182, 1, 35, 96, 61, 132, 3, 1, 167, 255, 241, 28, 172]
abbrev dktX2_days_0 : List UInt8 := dkwX2_days_0 ++ []
theorem dksX2_days_0 : cX2_days.data.toList.drop 0 = dktX2_days_0 := by decide +kernel
theorem dX2_days_0 : decode cX2_days 0 = .ok (.iconst 0, 1) := dk_3 (dk_at dksX2_days_0 0 rfl rfl)
theorem dX2_days_1 : decode cX2_days 1 = .ok (.istore_n 2, 1) := dk_61 (dk_at dksX2_days_0 1 rfl rfl)
theorem dX2_days_2 : decode cX2_days 2 = .ok (.iconst 0, 1) := dk_3 (dk_at dksX2_days_0 2 rfl rfl)
theorem dX2_days_3 : decode cX2_days 3 = .ok (.istore_n 3, 1) := dk_62 (dk_at dksX2_days_0 3 rfl rfl)
theorem dX2_days_4 : decode cX2_days 4 = .ok (.iload_n 3, 1) := dk_29 (dk_at dksX2_days_0 4 rfl rfl)
theorem dX2_days_5 : decode cX2_days 5 = .ok (.iload_n 1, 1) := dk_27 (dk_at dksX2_days_0 5 rfl rfl)
theorem dX2_days_6 : decode cX2_days 6 = .ok (.if_icmp .ge 16, 3) := dk_162 0 16 (dk_at dksX2_days_0 6 rfl rfl)
theorem dX2_days_9 : decode cX2_days 9 = .ok (.iload_n 2, 1) := dk_28 (dk_at dksX2_days_0 9 rfl rfl)
theorem dX2_days_10 : decode cX2_days 10 = .ok (.aload_n 0, 1) := dk_42 (dk_at dksX2_days_0 10 rfl rfl)
theorem dX2_days_11 : decode cX2_days 11 = .ok (.invokevirtual 291, 3) := dk_182 1 35 (dk_at dksX2_days_0 11 rfl rfl)
theorem dX2_days_14 : decode cX2_days 14 = .ok (.iadd, 1) := dk_96 (dk_at dksX2_days_0 14 rfl rfl)
theorem dX2_days_15 : decode cX2_days 15 = .ok (.istore_n 2, 1) := dk_61 (dk_at dksX2_days_0 15 rfl rfl)
theorem dX2_days_16 : decode cX2_days 16 = .ok (.iinc 3 1, 3) := dk_132 3 1 (dk_at dksX2_days_0 16 rfl rfl)
theorem dX2_days_19 : decode cX2_days 19 = .ok (.goto (-15), 3) := dk_167 255 241 (dk_at dksX2_days_0 19 rfl rfl)
theorem dX2_days_22 : decode cX2_days 22 = .ok (.iload_n 2, 1) := dk_28 (dk_at dksX2_days_0 22 rfl rfl)
theorem dX2_days_23 : decode cX2_days 23 = .ok (.ireturn, 1) := dk_172 (dk_at dksX2_days_0 23 rfl rfl)
abbrev cX2_dayGoesBy : ByteArray := prog_13_method_30_code
def yX2_dayGoesBy : MethodName := ⟨RX2, "dayGoesBy", "()I"⟩
def dkwX2_dayGoesBy_3 : List UInt8 := [42, 89, 180, 0, 118, 4, 96, 181, 0, 118, 27, 172]
abbrev dktX2_dayGoesBy_3 : List UInt8 := dkwX2_dayGoesBy_3 ++ []
def dkwX2_dayGoesBy_2 : List UInt8 := [29, 162, 0, 23, 44, 21, 4, 50, 58, 5, 27, 25, 5, 182, 1, 32, 96, 60, 132, 4, 1, 167, 255, 233]
abbrev dktX2_dayGoesBy_2 : List UInt8 := dkwX2_dayGoesBy_2 ++ dktX2_dayGoesBy_3
def dkwX2_dayGoesBy_1 : List UInt8 := [182, 1, 29, 132, 3, 1, 167, 255, 238, 3, 60, 42, 180, 0, 11, 77, 44, 190, 62, 3, 54, 4, 21, 4]
abbrev dktX2_dayGoesBy_1 : List UInt8 := dkwX2_dayGoesBy_1 ++ dktX2_dayGoesBy_2
def dkwX2_dayGoesBy_0 : List UInt8 := [42, 180, 0, 11, 76, 43, 190, 61, 3, 62, 29, 28, 162, 0, 19, 43, 29, 50, 58, 4, 25, 4]
abbrev dktX2_dayGoesBy_0 : List UInt8 := dkwX2_dayGoesBy_0 ++ dktX2_dayGoesBy_1
theorem dksX2_dayGoesBy_0 : cX2_dayGoesBy.data.toList.drop 0 = dktX2_dayGoesBy_0 := by decide +kernel
theorem dksX2_dayGoesBy_1 : cX2_dayGoesBy.data.toList.drop 22 = dktX2_dayGoesBy_1 := dk_seg dksX2_dayGoesBy_0 22 rfl rfl
theorem dksX2_dayGoesBy_2 : cX2_dayGoesBy.data.toList.drop 46 = dktX2_dayGoesBy_2 := dk_seg dksX2_dayGoesBy_1 24 rfl rfl
theorem dksX2_dayGoesBy_3 : cX2_dayGoesBy.data.toList.drop 70 = dktX2_dayGoesBy_3 := dk_seg dksX2_dayGoesBy_2 24 rfl rfl
theorem dX2_dayGoesBy_0 : decode cX2_dayGoesBy 0 = .ok (.aload_n 0, 1) := dk_42 (dk_at dksX2_dayGoesBy_0 0 rfl rfl)
theorem dX2_dayGoesBy_1 : decode cX2_dayGoesBy 1 = .ok (.getfield 11, 3) := dk_180 0 11 (dk_at dksX2_dayGoesBy_0 1 rfl rfl)
theorem dX2_dayGoesBy_4 : decode cX2_dayGoesBy 4 = .ok (.astore_n 1, 1) := dk_76 (dk_at dksX2_dayGoesBy_0 4 rfl rfl)
theorem dX2_dayGoesBy_5 : decode cX2_dayGoesBy 5 = .ok (.aload_n 1, 1) := dk_43 (dk_at dksX2_dayGoesBy_0 5 rfl rfl)
theorem dX2_dayGoesBy_6 : decode cX2_dayGoesBy 6 = .ok (.arraylength, 1) := dk_190 (dk_at dksX2_dayGoesBy_0 6 rfl rfl)
theorem dX2_dayGoesBy_7 : decode cX2_dayGoesBy 7 = .ok (.istore_n 2, 1) := dk_61 (dk_at dksX2_dayGoesBy_0 7 rfl rfl)
theorem dX2_dayGoesBy_8 : decode cX2_dayGoesBy 8 = .ok (.iconst 0, 1) := dk_3 (dk_at dksX2_dayGoesBy_0 8 rfl rfl)
theorem dX2_dayGoesBy_9 : decode cX2_dayGoesBy 9 = .ok (.istore_n 3, 1) := dk_62 (dk_at dksX2_dayGoesBy_0 9 rfl rfl)
theorem dX2_dayGoesBy_10 : decode cX2_dayGoesBy 10 = .ok (.iload_n 3, 1) := dk_29 (dk_at dksX2_dayGoesBy_0 10 rfl rfl)
theorem dX2_dayGoesBy_11 : decode cX2_dayGoesBy 11 = .ok (.iload_n 2, 1) := dk_28 (dk_at dksX2_dayGoesBy_0 11 rfl rfl)
theorem dX2_dayGoesBy_12 : decode cX2_dayGoesBy 12 = .ok (.if_icmp .ge 19, 3) := dk_162 0 19 (dk_at dksX2_dayGoesBy_0 12 rfl rfl)
theorem dX2_dayGoesBy_15 : decode cX2_dayGoesBy 15 = .ok (.aload_n 1, 1) := dk_43 (dk_at dksX2_dayGoesBy_0 15 rfl rfl)
theorem dX2_dayGoesBy_16 : decode cX2_dayGoesBy 16 = .ok (.iload_n 3, 1) := dk_29 (dk_at dksX2_dayGoesBy_0 16 rfl rfl)
theorem dX2_dayGoesBy_17 : decode cX2_dayGoesBy 17 = .ok (.aaload, 1) := dk_50 (dk_at dksX2_dayGoesBy_0 17 rfl rfl)
theorem dX2_dayGoesBy_18 : decode cX2_dayGoesBy 18 = .ok (.astore 4, 2) := dk_58 4 (dk_at dksX2_dayGoesBy_0 18 rfl rfl)
theorem dX2_dayGoesBy_20 : decode cX2_dayGoesBy 20 = .ok (.aload 4, 2) := dk_25 4 (dk_at dksX2_dayGoesBy_0 20 rfl rfl)
theorem dX2_dayGoesBy_22 : decode cX2_dayGoesBy 22 = .ok (.invokevirtual 285, 3) := dk_182 1 29 (dk_at dksX2_dayGoesBy_1 0 rfl rfl)
theorem dX2_dayGoesBy_25 : decode cX2_dayGoesBy 25 = .ok (.iinc 3 1, 3) := dk_132 3 1 (dk_at dksX2_dayGoesBy_1 3 rfl rfl)
theorem dX2_dayGoesBy_28 : decode cX2_dayGoesBy 28 = .ok (.goto (-18), 3) := dk_167 255 238 (dk_at dksX2_dayGoesBy_1 6 rfl rfl)
theorem dX2_dayGoesBy_31 : decode cX2_dayGoesBy 31 = .ok (.iconst 0, 1) := dk_3 (dk_at dksX2_dayGoesBy_1 9 rfl rfl)
theorem dX2_dayGoesBy_32 : decode cX2_dayGoesBy 32 = .ok (.istore_n 1, 1) := dk_60 (dk_at dksX2_dayGoesBy_1 10 rfl rfl)
theorem dX2_dayGoesBy_33 : decode cX2_dayGoesBy 33 = .ok (.aload_n 0, 1) := dk_42 (dk_at dksX2_dayGoesBy_1 11 rfl rfl)
theorem dX2_dayGoesBy_34 : decode cX2_dayGoesBy 34 = .ok (.getfield 11, 3) := dk_180 0 11 (dk_at dksX2_dayGoesBy_1 12 rfl rfl)
theorem dX2_dayGoesBy_37 : decode cX2_dayGoesBy 37 = .ok (.astore_n 2, 1) := dk_77 (dk_at dksX2_dayGoesBy_1 15 rfl rfl)
theorem dX2_dayGoesBy_38 : decode cX2_dayGoesBy 38 = .ok (.aload_n 2, 1) := dk_44 (dk_at dksX2_dayGoesBy_1 16 rfl rfl)
theorem dX2_dayGoesBy_39 : decode cX2_dayGoesBy 39 = .ok (.arraylength, 1) := dk_190 (dk_at dksX2_dayGoesBy_1 17 rfl rfl)
theorem dX2_dayGoesBy_40 : decode cX2_dayGoesBy 40 = .ok (.istore_n 3, 1) := dk_62 (dk_at dksX2_dayGoesBy_1 18 rfl rfl)
theorem dX2_dayGoesBy_41 : decode cX2_dayGoesBy 41 = .ok (.iconst 0, 1) := dk_3 (dk_at dksX2_dayGoesBy_1 19 rfl rfl)
theorem dX2_dayGoesBy_42 : decode cX2_dayGoesBy 42 = .ok (.istore 4, 2) := dk_54 4 (dk_at dksX2_dayGoesBy_1 20 rfl rfl)
theorem dX2_dayGoesBy_44 : decode cX2_dayGoesBy 44 = .ok (.iload 4, 2) := dk_21 4 (dk_at dksX2_dayGoesBy_1 22 rfl rfl)
theorem dX2_dayGoesBy_46 : decode cX2_dayGoesBy 46 = .ok (.iload_n 3, 1) := dk_29 (dk_at dksX2_dayGoesBy_2 0 rfl rfl)
theorem dX2_dayGoesBy_47 : decode cX2_dayGoesBy 47 = .ok (.if_icmp .ge 23, 3) := dk_162 0 23 (dk_at dksX2_dayGoesBy_2 1 rfl rfl)
theorem dX2_dayGoesBy_50 : decode cX2_dayGoesBy 50 = .ok (.aload_n 2, 1) := dk_44 (dk_at dksX2_dayGoesBy_2 4 rfl rfl)
theorem dX2_dayGoesBy_51 : decode cX2_dayGoesBy 51 = .ok (.iload 4, 2) := dk_21 4 (dk_at dksX2_dayGoesBy_2 5 rfl rfl)
theorem dX2_dayGoesBy_53 : decode cX2_dayGoesBy 53 = .ok (.aaload, 1) := dk_50 (dk_at dksX2_dayGoesBy_2 7 rfl rfl)
theorem dX2_dayGoesBy_54 : decode cX2_dayGoesBy 54 = .ok (.astore 5, 2) := dk_58 5 (dk_at dksX2_dayGoesBy_2 8 rfl rfl)
theorem dX2_dayGoesBy_56 : decode cX2_dayGoesBy 56 = .ok (.iload_n 1, 1) := dk_27 (dk_at dksX2_dayGoesBy_2 10 rfl rfl)
theorem dX2_dayGoesBy_57 : decode cX2_dayGoesBy 57 = .ok (.aload 5, 2) := dk_25 5 (dk_at dksX2_dayGoesBy_2 11 rfl rfl)
theorem dX2_dayGoesBy_59 : decode cX2_dayGoesBy 59 = .ok (.invokevirtual 288, 3) := dk_182 1 32 (dk_at dksX2_dayGoesBy_2 13 rfl rfl)
theorem dX2_dayGoesBy_62 : decode cX2_dayGoesBy 62 = .ok (.iadd, 1) := dk_96 (dk_at dksX2_dayGoesBy_2 16 rfl rfl)
theorem dX2_dayGoesBy_63 : decode cX2_dayGoesBy 63 = .ok (.istore_n 1, 1) := dk_60 (dk_at dksX2_dayGoesBy_2 17 rfl rfl)
theorem dX2_dayGoesBy_64 : decode cX2_dayGoesBy 64 = .ok (.iinc 4 1, 3) := dk_132 4 1 (dk_at dksX2_dayGoesBy_2 18 rfl rfl)
theorem dX2_dayGoesBy_67 : decode cX2_dayGoesBy 67 = .ok (.goto (-23), 3) := dk_167 255 233 (dk_at dksX2_dayGoesBy_2 21 rfl rfl)
theorem dX2_dayGoesBy_70 : decode cX2_dayGoesBy 70 = .ok (.aload_n 0, 1) := dk_42 (dk_at dksX2_dayGoesBy_3 0 rfl rfl)
theorem dX2_dayGoesBy_71 : decode cX2_dayGoesBy 71 = .ok (.dup, 1) := dk_89 (dk_at dksX2_dayGoesBy_3 1 rfl rfl)
theorem dX2_dayGoesBy_72 : decode cX2_dayGoesBy 72 = .ok (.getfield 118, 3) := dk_180 0 118 (dk_at dksX2_dayGoesBy_3 2 rfl rfl)
theorem dX2_dayGoesBy_75 : decode cX2_dayGoesBy 75 = .ok (.iconst 1, 1) := dk_4 (dk_at dksX2_dayGoesBy_3 5 rfl rfl)
theorem dX2_dayGoesBy_76 : decode cX2_dayGoesBy 76 = .ok (.iadd, 1) := dk_96 (dk_at dksX2_dayGoesBy_3 6 rfl rfl)
theorem dX2_dayGoesBy_77 : decode cX2_dayGoesBy 77 = .ok (.putfield 118, 3) := dk_181 0 118 (dk_at dksX2_dayGoesBy_3 7 rfl rfl)
theorem dX2_dayGoesBy_80 : decode cX2_dayGoesBy 80 = .ok (.iload_n 1, 1) := dk_27 (dk_at dksX2_dayGoesBy_3 10 rfl rfl)
theorem dX2_dayGoesBy_81 : decode cX2_dayGoesBy 81 = .ok (.ireturn, 1) := dk_172 (dk_at dksX2_dayGoesBy_3 11 rfl rfl)
abbrev cX2_quires : ByteArray := prog_13_method_8_code
def yX2_quires : MethodName := ⟨RX2, "quires", "()I"⟩
def dkwX2_quires_1 : List UInt8 := [58, 5, 27, 25, 5, 182, 0, 148, 96, 60, 132, 4, 1, 167, 255, 233, 27, 172]
abbrev dktX2_quires_1 : List UInt8 := dkwX2_quires_1 ++ []
def dkwX2_quires_0 : List UInt8 := [3, 60, 42, 180, 0, 11, 77, 44, 190, 62, 3, 54, 4, 21, 4, 29, 162, 0, 23, 44, 21, 4, 50]
abbrev dktX2_quires_0 : List UInt8 := dkwX2_quires_0 ++ dktX2_quires_1
theorem dksX2_quires_0 : cX2_quires.data.toList.drop 0 = dktX2_quires_0 := by decide +kernel
theorem dksX2_quires_1 : cX2_quires.data.toList.drop 23 = dktX2_quires_1 := dk_seg dksX2_quires_0 23 rfl rfl
theorem dX2_quires_0 : decode cX2_quires 0 = .ok (.iconst 0, 1) := dk_3 (dk_at dksX2_quires_0 0 rfl rfl)
theorem dX2_quires_1 : decode cX2_quires 1 = .ok (.istore_n 1, 1) := dk_60 (dk_at dksX2_quires_0 1 rfl rfl)
theorem dX2_quires_2 : decode cX2_quires 2 = .ok (.aload_n 0, 1) := dk_42 (dk_at dksX2_quires_0 2 rfl rfl)
theorem dX2_quires_3 : decode cX2_quires 3 = .ok (.getfield 11, 3) := dk_180 0 11 (dk_at dksX2_quires_0 3 rfl rfl)
theorem dX2_quires_6 : decode cX2_quires 6 = .ok (.astore_n 2, 1) := dk_77 (dk_at dksX2_quires_0 6 rfl rfl)
theorem dX2_quires_7 : decode cX2_quires 7 = .ok (.aload_n 2, 1) := dk_44 (dk_at dksX2_quires_0 7 rfl rfl)
theorem dX2_quires_8 : decode cX2_quires 8 = .ok (.arraylength, 1) := dk_190 (dk_at dksX2_quires_0 8 rfl rfl)
theorem dX2_quires_9 : decode cX2_quires 9 = .ok (.istore_n 3, 1) := dk_62 (dk_at dksX2_quires_0 9 rfl rfl)
theorem dX2_quires_10 : decode cX2_quires 10 = .ok (.iconst 0, 1) := dk_3 (dk_at dksX2_quires_0 10 rfl rfl)
theorem dX2_quires_11 : decode cX2_quires 11 = .ok (.istore 4, 2) := dk_54 4 (dk_at dksX2_quires_0 11 rfl rfl)
theorem dX2_quires_13 : decode cX2_quires 13 = .ok (.iload 4, 2) := dk_21 4 (dk_at dksX2_quires_0 13 rfl rfl)
theorem dX2_quires_15 : decode cX2_quires 15 = .ok (.iload_n 3, 1) := dk_29 (dk_at dksX2_quires_0 15 rfl rfl)
theorem dX2_quires_16 : decode cX2_quires 16 = .ok (.if_icmp .ge 23, 3) := dk_162 0 23 (dk_at dksX2_quires_0 16 rfl rfl)
theorem dX2_quires_19 : decode cX2_quires 19 = .ok (.aload_n 2, 1) := dk_44 (dk_at dksX2_quires_0 19 rfl rfl)
theorem dX2_quires_20 : decode cX2_quires 20 = .ok (.iload 4, 2) := dk_21 4 (dk_at dksX2_quires_0 20 rfl rfl)
theorem dX2_quires_22 : decode cX2_quires 22 = .ok (.aaload, 1) := dk_50 (dk_at dksX2_quires_0 22 rfl rfl)
theorem dX2_quires_23 : decode cX2_quires 23 = .ok (.astore 5, 2) := dk_58 5 (dk_at dksX2_quires_1 0 rfl rfl)
theorem dX2_quires_25 : decode cX2_quires 25 = .ok (.iload_n 1, 1) := dk_27 (dk_at dksX2_quires_1 2 rfl rfl)
theorem dX2_quires_26 : decode cX2_quires 26 = .ok (.aload 5, 2) := dk_25 5 (dk_at dksX2_quires_1 3 rfl rfl)
theorem dX2_quires_28 : decode cX2_quires 28 = .ok (.invokevirtual 148, 3) := dk_182 0 148 (dk_at dksX2_quires_1 5 rfl rfl)
theorem dX2_quires_31 : decode cX2_quires 31 = .ok (.iadd, 1) := dk_96 (dk_at dksX2_quires_1 8 rfl rfl)
theorem dX2_quires_32 : decode cX2_quires 32 = .ok (.istore_n 1, 1) := dk_60 (dk_at dksX2_quires_1 9 rfl rfl)
theorem dX2_quires_33 : decode cX2_quires 33 = .ok (.iinc 4 1, 3) := dk_132 4 1 (dk_at dksX2_quires_1 10 rfl rfl)
theorem dX2_quires_36 : decode cX2_quires 36 = .ok (.goto (-23), 3) := dk_167 255 233 (dk_at dksX2_quires_1 13 rfl rfl)
theorem dX2_quires_39 : decode cX2_quires 39 = .ok (.iload_n 1, 1) := dk_27 (dk_at dksX2_quires_1 16 rfl rfl)
theorem dX2_quires_40 : decode cX2_quires 40 = .ok (.ireturn, 1) := dk_172 (dk_at dksX2_quires_1 17 rfl rfl)
abbrev cX2_ordersIn : ByteArray := prog_13_method_10_code
def yX2_ordersIn : MethodName := ⟨RX2, "ordersIn", "(I)I"⟩
def dkwX2_ordersIn_2 : List UInt8 := [3, 96, 61, 167, 255, 219, 28, 172]
abbrev dktX2_ordersIn_2 : List UInt8 := dkwX2_ordersIn_2 ++ []
def dkwX2_ordersIn_1 : List UInt8 := [185, 0, 65, 1, 0, 192, 0, 95, 58, 4, 28, 25, 4, 180, 0, 151, 27, 160, 0, 7, 4, 167, 0, 4]
abbrev dktX2_ordersIn_1 : List UInt8 := dkwX2_ordersIn_1 ++ dktX2_ordersIn_2
def dkwX2_ordersIn_0 : List UInt8 := [3, 61, 42, 180, 0, 24, 182, 0, 79, 78, 45, 185, 0, 59, 1, 0, 153, 0, 34, 45]
abbrev dktX2_ordersIn_0 : List UInt8 := dkwX2_ordersIn_0 ++ dktX2_ordersIn_1
theorem dksX2_ordersIn_0 : cX2_ordersIn.data.toList.drop 0 = dktX2_ordersIn_0 := by decide +kernel
theorem dksX2_ordersIn_1 : cX2_ordersIn.data.toList.drop 20 = dktX2_ordersIn_1 := dk_seg dksX2_ordersIn_0 20 rfl rfl
theorem dksX2_ordersIn_2 : cX2_ordersIn.data.toList.drop 44 = dktX2_ordersIn_2 := dk_seg dksX2_ordersIn_1 24 rfl rfl
theorem dX2_ordersIn_0 : decode cX2_ordersIn 0 = .ok (.iconst 0, 1) := dk_3 (dk_at dksX2_ordersIn_0 0 rfl rfl)
theorem dX2_ordersIn_1 : decode cX2_ordersIn 1 = .ok (.istore_n 2, 1) := dk_61 (dk_at dksX2_ordersIn_0 1 rfl rfl)
theorem dX2_ordersIn_2 : decode cX2_ordersIn 2 = .ok (.aload_n 0, 1) := dk_42 (dk_at dksX2_ordersIn_0 2 rfl rfl)
theorem dX2_ordersIn_3 : decode cX2_ordersIn 3 = .ok (.getfield 24, 3) := dk_180 0 24 (dk_at dksX2_ordersIn_0 3 rfl rfl)
theorem dX2_ordersIn_6 : decode cX2_ordersIn 6 = .ok (.invokevirtual 79, 3) := dk_182 0 79 (dk_at dksX2_ordersIn_0 6 rfl rfl)
theorem dX2_ordersIn_9 : decode cX2_ordersIn 9 = .ok (.astore_n 3, 1) := dk_78 (dk_at dksX2_ordersIn_0 9 rfl rfl)
theorem dX2_ordersIn_10 : decode cX2_ordersIn 10 = .ok (.aload_n 3, 1) := dk_45 (dk_at dksX2_ordersIn_0 10 rfl rfl)
theorem dX2_ordersIn_11 : decode cX2_ordersIn 11 = .ok (.invokeinterface 59 1, 5) := by decide +kernel
theorem dX2_ordersIn_16 : decode cX2_ordersIn 16 = .ok (.ifCond .eq 34, 3) := dk_153 0 34 (dk_at dksX2_ordersIn_0 16 rfl rfl)
theorem dX2_ordersIn_19 : decode cX2_ordersIn 19 = .ok (.aload_n 3, 1) := dk_45 (dk_at dksX2_ordersIn_0 19 rfl rfl)
theorem dX2_ordersIn_20 : decode cX2_ordersIn 20 = .ok (.invokeinterface 65 1, 5) := by decide +kernel
theorem dX2_ordersIn_25 : decode cX2_ordersIn 25 = .ok (.checkcast 95, 3) := dk_192 0 95 (dk_at dksX2_ordersIn_1 5 rfl rfl)
theorem dX2_ordersIn_28 : decode cX2_ordersIn 28 = .ok (.astore 4, 2) := dk_58 4 (dk_at dksX2_ordersIn_1 8 rfl rfl)
theorem dX2_ordersIn_30 : decode cX2_ordersIn 30 = .ok (.iload_n 2, 1) := dk_28 (dk_at dksX2_ordersIn_1 10 rfl rfl)
theorem dX2_ordersIn_31 : decode cX2_ordersIn 31 = .ok (.aload 4, 2) := dk_25 4 (dk_at dksX2_ordersIn_1 11 rfl rfl)
theorem dX2_ordersIn_33 : decode cX2_ordersIn 33 = .ok (.getfield 151, 3) := dk_180 0 151 (dk_at dksX2_ordersIn_1 13 rfl rfl)
theorem dX2_ordersIn_36 : decode cX2_ordersIn 36 = .ok (.iload_n 1, 1) := dk_27 (dk_at dksX2_ordersIn_1 16 rfl rfl)
theorem dX2_ordersIn_37 : decode cX2_ordersIn 37 = .ok (.if_icmp .ne 7, 3) := dk_160 0 7 (dk_at dksX2_ordersIn_1 17 rfl rfl)
theorem dX2_ordersIn_40 : decode cX2_ordersIn 40 = .ok (.iconst 1, 1) := dk_4 (dk_at dksX2_ordersIn_1 20 rfl rfl)
theorem dX2_ordersIn_41 : decode cX2_ordersIn 41 = .ok (.goto 4, 3) := dk_167 0 4 (dk_at dksX2_ordersIn_1 21 rfl rfl)
theorem dX2_ordersIn_44 : decode cX2_ordersIn 44 = .ok (.iconst 0, 1) := dk_3 (dk_at dksX2_ordersIn_2 0 rfl rfl)
theorem dX2_ordersIn_45 : decode cX2_ordersIn 45 = .ok (.iadd, 1) := dk_96 (dk_at dksX2_ordersIn_2 1 rfl rfl)
theorem dX2_ordersIn_46 : decode cX2_ordersIn 46 = .ok (.istore_n 2, 1) := dk_61 (dk_at dksX2_ordersIn_2 2 rfl rfl)
theorem dX2_ordersIn_47 : decode cX2_ordersIn 47 = .ok (.goto (-37), 3) := dk_167 255 219 (dk_at dksX2_ordersIn_2 3 rfl rfl)
theorem dX2_ordersIn_50 : decode cX2_ordersIn 50 = .ok (.iload_n 2, 1) := dk_28 (dk_at dksX2_ordersIn_2 6 rfl rfl)
theorem dX2_ordersIn_51 : decode cX2_ordersIn 51 = .ok (.ireturn, 1) := dk_172 (dk_at dksX2_ordersIn_2 7 rfl rfl)
theorem q101 : (Jvm.Cond.initialized "PaperStore$Store") ∈ lw_all := lw_g (lw_at lw_m1 2 rfl) rfl
theorem q182 : (Jvm.Cond.instantiable "PaperStore$Store" (10 : Nat)) ∈ lw_all := lw_g (lw_at lw_m1 83 rfl) rfl
theorem q184 : (Jvm.Cond.instanceMethod ({ cls := "PaperStore$Store", name := "<init>", desc := "()V" } : Jvm.MethodName)) ∈ lw_all := lw_g (lw_at lw_m1 85 rfl) rfl
theorem q185 : (Jvm.Cond.code ({ cls := "PaperStore$Store", name := "<init>", desc := "()V" } : Jvm.MethodName) prog_13_method_1_code (2 : Nat) (Option.none : Option Jvm.ClassFile.FieldType)) ∈ lw_all := lw_g (lw_at lw_m1 86 rfl) rfl
theorem q186 : (Jvm.Cond.methodLink "PaperStore$Store" (3 : Nat) ({ cls := "java/lang/Object", name := "<init>", desc := "()V" } : Jvm.MethodName)) ∈ lw_all := lw_g (lw_at lw_m1 87 rfl) rfl
theorem q187 : (Jvm.Cond.classLink "PaperStore$Store" (9 : Nat) "PaperStore$Aisle") ∈ lw_all := lw_g (lw_at lw_m1 88 rfl) rfl
theorem q189 : (Jvm.Cond.classLink "PaperStore$Store" (17 : Nat) "java/util/ArrayList") ∈ lw_all := lw_g (lw_at lw_m1 90 rfl) rfl
theorem q191 : (Jvm.Cond.methodLink "PaperStore$Store" (19 : Nat) ({ cls := "java/util/ArrayList", name := "<init>", desc := "()V" } : Jvm.MethodName)) ∈ lw_all := lw_g (lw_at lw_m1 92 rfl) rfl
theorem q218 : (Jvm.Cond.classLink "PaperStore$Store" (33 : Nat) "java/util/HashMap") ∈ lw_all := lw_g (lw_at lw_m1 119 rfl) rfl
theorem q220 : (Jvm.Cond.methodLink "PaperStore$Store" (35 : Nat) ({ cls := "java/util/HashMap", name := "<init>", desc := "()V" } : Jvm.MethodName)) ∈ lw_all := lw_g (lw_at lw_m1 121 rfl) rfl
theorem q259 : (Jvm.Cond.methodLink "PaperStore$Store" (40 : Nat) ({ cls := "PaperStore$Aisle", name := "<init>", desc := "()V" } : Jvm.MethodName)) ∈ lw_all := lw_g (lw_at lw_m1 160 rfl) rfl
theorem q274 : (Jvm.Cond.fieldLinkNest "PaperStore$Store" (182 : Nat) "PaperStore$Shelf" "reams" "Ljava/util/ArrayList;" "PaperStore") ∈ lw_tbl := lw_at lw_m1 175 rfl
theorem q280 : (Jvm.Cond.fieldLinkNest "PaperStore$Store" (178 : Nat) "PaperStore$Aisle" "shelves" "[LPaperStore$Shelf;" "PaperStore") ∈ lw_tbl := lw_at lw_m1 181 rfl
theorem q283 : (Jvm.Cond.fieldLinkNest "PaperStore$Store" (188 : Nat) "PaperStore$Aisle" "damp" "I" "PaperStore") ∈ lw_tbl := lw_at lw_m1 184 rfl
theorem q286 : (Jvm.Cond.fieldLinkNest "PaperStore$Store" (157 : Nat) "PaperStore$Aisle" "mice" "I" "PaperStore") ∈ lw_tbl := lw_at lw_m1 187 rfl
theorem q289 : (Jvm.Cond.fieldLinkNest "PaperStore$Store" (197 : Nat) "PaperStore$Aisle" "traps" "I" "PaperStore") ∈ lw_tbl := lw_at lw_m1 190 rfl
theorem q292 : (Jvm.Cond.fieldLinkNest "PaperStore$Store" (154 : Nat) "PaperStore$Aisle" "eaten" "I" "PaperStore") ∈ lw_tbl := lw_at lw_m1 193 rfl
theorem q295 : (Jvm.Cond.fieldLinkNest "PaperStore$Store" (160 : Nat) "PaperStore$Aisle" "caught" "I" "PaperStore") ∈ lw_tbl := lw_at lw_m1 196 rfl
theorem q310 : (Jvm.Cond.fieldLink "PaperStore$Store" (11 : Nat) "PaperStore$Store" "aisles" "[LPaperStore$Aisle;") ∈ lw_all := lw_g (lw_at lw_m1 211 rfl) rfl
theorem q312 : (Jvm.Cond.fieldLink "PaperStore$Store" (20 : Nat) "PaperStore$Store" "ladders" "Ljava/util/ArrayList;") ∈ lw_all := lw_g (lw_at lw_m1 213 rfl) rfl
theorem q314 : (Jvm.Cond.fieldLink "PaperStore$Store" (24 : Nat) "PaperStore$Store" "orders" "Ljava/util/ArrayList;") ∈ lw_all := lw_g (lw_at lw_m1 215 rfl) rfl
theorem q316 : (Jvm.Cond.fieldLink "PaperStore$Store" (27 : Nat) "PaperStore$Store" "carts" "Ljava/util/ArrayList;") ∈ lw_all := lw_g (lw_at lw_m1 217 rfl) rfl
theorem q318 : (Jvm.Cond.fieldLink "PaperStore$Store" (30 : Nat) "PaperStore$Store" "reams" "Ljava/util/ArrayList;") ∈ lw_all := lw_g (lw_at lw_m1 219 rfl) rfl
theorem q320 : (Jvm.Cond.fieldLink "PaperStore$Store" (36 : Nat) "PaperStore$Store" "sent" "Ljava/util/HashMap;") ∈ lw_all := lw_g (lw_at lw_m1 221 rfl) rfl
theorem q322 : (Jvm.Cond.fieldLink "PaperStore$Store" (109 : Nat) "PaperStore$Store" "quiresSent" "I") ∈ lw_all := lw_g (lw_at lw_m1 223 rfl) rfl
theorem q324 : (Jvm.Cond.fieldLink "PaperStore$Store" (112 : Nat) "PaperStore$Store" "lost" "I") ∈ lw_all := lw_g (lw_at lw_m1 225 rfl) rfl
theorem q326 : (Jvm.Cond.fieldLink "PaperStore$Store" (115 : Nat) "PaperStore$Store" "coins" "I") ∈ lw_all := lw_g (lw_at lw_m1 227 rfl) rfl
theorem q328 : (Jvm.Cond.fieldLink "PaperStore$Store" (118 : Nat) "PaperStore$Store" "day" "I") ∈ lw_all := lw_g (lw_at lw_m1 229 rfl) rfl
theorem q330 : (Jvm.Cond.laysFinal "PaperStore$Store" "PaperStore$Store" "aisles" "[LPaperStore$Aisle;") ∈ lw_all := lw_g (lw_at lw_m1 231 rfl) rfl
theorem q331 : (Jvm.Cond.soleField "PaperStore$Store" "aisles") ∈ lw_all := lw_g (lw_at lw_m1 232 rfl) rfl
theorem q332 : (Jvm.Cond.laysFinal "PaperStore$Store" "PaperStore$Store" "ladders" "Ljava/util/ArrayList;") ∈ lw_all := lw_g (lw_at lw_m1 233 rfl) rfl
theorem q333 : (Jvm.Cond.soleField "PaperStore$Store" "ladders") ∈ lw_all := lw_g (lw_at lw_m1 234 rfl) rfl
theorem q334 : (Jvm.Cond.laysFinal "PaperStore$Store" "PaperStore$Store" "orders" "Ljava/util/ArrayList;") ∈ lw_all := lw_g (lw_at lw_m1 235 rfl) rfl
theorem q335 : (Jvm.Cond.soleField "PaperStore$Store" "orders") ∈ lw_all := lw_g (lw_at lw_m1 236 rfl) rfl
theorem q336 : (Jvm.Cond.laysFinal "PaperStore$Store" "PaperStore$Store" "carts" "Ljava/util/ArrayList;") ∈ lw_all := lw_g (lw_at lw_m1 237 rfl) rfl
theorem q337 : (Jvm.Cond.soleField "PaperStore$Store" "carts") ∈ lw_all := lw_g (lw_at lw_m1 238 rfl) rfl
theorem q338 : (Jvm.Cond.laysFinal "PaperStore$Store" "PaperStore$Store" "reams" "Ljava/util/ArrayList;") ∈ lw_all := lw_g (lw_at lw_m1 239 rfl) rfl
theorem q339 : (Jvm.Cond.soleField "PaperStore$Store" "reams") ∈ lw_all := lw_g (lw_at lw_m2 0 rfl) rfl
theorem q340 : (Jvm.Cond.laysFinal "PaperStore$Store" "PaperStore$Store" "sent" "Ljava/util/HashMap;") ∈ lw_all := lw_g (lw_at lw_m2 1 rfl) rfl
theorem q341 : (Jvm.Cond.soleField "PaperStore$Store" "sent") ∈ lw_all := lw_g (lw_at lw_m2 2 rfl) rfl
theorem q342 : (Jvm.Cond.lays "PaperStore$Store" "PaperStore$Store" "quiresSent" "I") ∈ lw_all := lw_g (lw_at lw_m2 3 rfl) rfl
theorem q343 : (Jvm.Cond.soleField "PaperStore$Store" "quiresSent") ∈ lw_all := lw_g (lw_at lw_m2 4 rfl) rfl
theorem q344 : (Jvm.Cond.lays "PaperStore$Store" "PaperStore$Store" "lost" "I") ∈ lw_all := lw_g (lw_at lw_m2 5 rfl) rfl
theorem q345 : (Jvm.Cond.soleField "PaperStore$Store" "lost") ∈ lw_all := lw_g (lw_at lw_m2 6 rfl) rfl
theorem q346 : (Jvm.Cond.lays "PaperStore$Store" "PaperStore$Store" "coins" "I") ∈ lw_all := lw_g (lw_at lw_m2 7 rfl) rfl
theorem q347 : (Jvm.Cond.soleField "PaperStore$Store" "coins") ∈ lw_all := lw_g (lw_at lw_m2 8 rfl) rfl
theorem q348 : (Jvm.Cond.lays "PaperStore$Store" "PaperStore$Store" "day" "I") ∈ lw_all := lw_g (lw_at lw_m2 9 rfl) rfl
theorem q349 : (Jvm.Cond.soleField "PaperStore$Store" "day") ∈ lw_all := lw_g (lw_at lw_m2 10 rfl) rfl
theorem q350 : (Jvm.Cond.superclass "PaperStore$Store" "java/lang/Object") ∈ lw_all := lw_g (lw_at lw_m2 11 rfl) rfl
theorem q441 : (Jvm.Cond.instanceMethod ({ cls := "PaperStore$Store", name := "lying", desc := "()Ljava/util/List;" } : Jvm.MethodName)) ∈ lw_all := lw_g (lw_at lw_m2 102 rfl) rfl
theorem q442 : (Jvm.Cond.selects "PaperStore$Store" ({ cls := "PaperStore$Store", name := "lying", desc := "()Ljava/util/List;" } : Jvm.MethodName) ({ cls := "PaperStore$Store", name := "lying", desc := "()Ljava/util/List;" } : Jvm.MethodName)) ∈ lw_all := lw_g (lw_at lw_m2 103 rfl) rfl
theorem q443 : (Jvm.Cond.code ({ cls := "PaperStore$Store", name := "lying", desc := "()Ljava/util/List;" } : Jvm.MethodName) prog_13_method_6_code (6 : Nat) (Option.some (Jvm.ClassFile.FieldType.object "java/util/List"))) ∈ lw_all := lw_g (lw_at lw_m2 104 rfl) rfl
theorem q444 : (Jvm.Cond.methodLink "PaperStore$Store" (50 : Nat) ({ cls := "PaperStore$Aisle", name := "reams", desc := "()Ljava/util/List;" } : Jvm.MethodName)) ∈ lw_all := lw_g (lw_at lw_m2 105 rfl) rfl
theorem q482 : (Jvm.Cond.selects "PaperStore$Store" ({ cls := "java/lang/Object", name := "getClass", desc := "()Ljava/lang/Class;" } : Jvm.MethodName) ({ cls := "java/lang/Object", name := "getClass", desc := "()Ljava/lang/Class;" } : Jvm.MethodName)) ∈ lw_all := lw_g (lw_at lw_m2 143 rfl) rfl
theorem q1166 : (Jvm.Cond.methodLink "PaperStore$Store" (42 : Nat) ({ cls := "java/util/ArrayList", name := "addAll", desc := "(Ljava/util/Collection;)Z" } : Jvm.MethodName)) ∈ lw_all := lw_g (lw_at lw_m5 107 rfl) rfl
theorem q1242 : (Jvm.Cond.instanceMethod ({ cls := "PaperStore$Store", name := "onCarts", desc := "()I" } : Jvm.MethodName)) ∈ lw_all := lw_g (lw_at lw_m5 183 rfl) rfl
theorem q1243 : (Jvm.Cond.selects "PaperStore$Store" ({ cls := "PaperStore$Store", name := "onCarts", desc := "()I" } : Jvm.MethodName) ({ cls := "PaperStore$Store", name := "onCarts", desc := "()I" } : Jvm.MethodName)) ∈ lw_all := lw_g (lw_at lw_m5 184 rfl) rfl
theorem q1244 : (Jvm.Cond.code ({ cls := "PaperStore$Store", name := "onCarts", desc := "()I" } : Jvm.MethodName) prog_13_method_9_code (4 : Nat) (Option.some Jvm.ClassFile.FieldType.int)) ∈ lw_all := lw_g (lw_at lw_m5 185 rfl) rfl
theorem q1245 : (Jvm.Cond.methodLink "PaperStore$Store" (79 : Nat) ({ cls := "java/util/ArrayList", name := "iterator", desc := "()Ljava/util/Iterator;" } : Jvm.MethodName)) ∈ lw_all := lw_g (lw_at lw_m5 186 rfl) rfl
theorem q1246 : (Jvm.Cond.interfaceEntry "PaperStore$Store" (59 : Nat)) ∈ lw_tbl := lw_at lw_m5 187 rfl
theorem q1247 : (Jvm.Cond.methodLink "PaperStore$Store" (59 : Nat) ({ cls := "java/util/Iterator", name := "hasNext", desc := "()Z" } : Jvm.MethodName)) ∈ lw_all := lw_g (lw_at lw_m5 188 rfl) rfl
theorem q1248 : (Jvm.Cond.interfaceEntry "PaperStore$Store" (65 : Nat)) ∈ lw_tbl := lw_at lw_m5 189 rfl
theorem q1249 : (Jvm.Cond.methodLink "PaperStore$Store" (65 : Nat) ({ cls := "java/util/Iterator", name := "next", desc := "()Ljava/lang/Object;" } : Jvm.MethodName)) ∈ lw_all := lw_g (lw_at lw_m5 190 rfl) rfl
theorem q1250 : (Jvm.Cond.classLink "PaperStore$Store" (100 : Nat) "PaperStore$Cart") ∈ lw_all := lw_g (lw_at lw_m5 191 rfl) rfl
theorem q1252 : (Jvm.Cond.instanceMethod ({ cls := "PaperStore$Store", name := "ofAisles", desc := "(I)I" } : Jvm.MethodName)) ∈ lw_all := lw_g (lw_at lw_m5 193 rfl) rfl
theorem q1253 : (Jvm.Cond.selects "PaperStore$Store" ({ cls := "PaperStore$Store", name := "ofAisles", desc := "(I)I" } : Jvm.MethodName) ({ cls := "PaperStore$Store", name := "ofAisles", desc := "(I)I" } : Jvm.MethodName)) ∈ lw_all := lw_g (lw_at lw_m5 194 rfl) rfl
theorem q1254 : (Jvm.Cond.code ({ cls := "PaperStore$Store", name := "ofAisles", desc := "(I)I" } : Jvm.MethodName) prog_13_method_11_code (7 : Nat) (Option.some Jvm.ClassFile.FieldType.int)) ∈ lw_all := lw_g (lw_at lw_m5 195 rfl) rfl
theorem q1260 : (Jvm.Cond.instanceMethod ({ cls := "PaperStore$Store", name := "copy", desc := "()LPaperStore$Store;" } : Jvm.MethodName)) ∈ lw_all := lw_g (lw_at lw_m5 201 rfl) rfl
theorem q1261 : (Jvm.Cond.selects "PaperStore$Store" ({ cls := "PaperStore$Store", name := "copy", desc := "()LPaperStore$Store;" } : Jvm.MethodName) ({ cls := "PaperStore$Store", name := "copy", desc := "()LPaperStore$Store;" } : Jvm.MethodName)) ∈ lw_all := lw_g (lw_at lw_m5 202 rfl) rfl
theorem q1262 : (Jvm.Cond.code ({ cls := "PaperStore$Store", name := "copy", desc := "()LPaperStore$Store;" } : Jvm.MethodName) prog_13_method_2_code (6 : Nat) (Option.some (Jvm.ClassFile.FieldType.object "PaperStore$Store"))) ∈ lw_all := lw_g (lw_at lw_m5 203 rfl) rfl
theorem q1263 : (Jvm.Cond.classLink "PaperStore$Store" (12 : Nat) "PaperStore$Store") ∈ lw_all := lw_g (lw_at lw_m5 204 rfl) rfl
theorem q1264 : (Jvm.Cond.methodLink "PaperStore$Store" (41 : Nat) ({ cls := "PaperStore$Store", name := "<init>", desc := "()V" } : Jvm.MethodName)) ∈ lw_all := lw_g (lw_at lw_m5 205 rfl) rfl
theorem q1265 : (Jvm.Cond.methodLink "PaperStore$Store" (46 : Nat) ({ cls := "PaperStore$Aisle", name := "copy", desc := "()LPaperStore$Aisle;" } : Jvm.MethodName)) ∈ lw_all := lw_g (lw_at lw_m5 206 rfl) rfl
theorem q1294 : (Jvm.Cond.fieldLinkNest "PaperStore$Store" (71 : Nat) "PaperStore$Ream" "number" "I" "PaperStore") ∈ lw_tbl := lw_at lw_m5 235 rfl
theorem q1297 : (Jvm.Cond.fieldLinkNest "PaperStore$Store" (136 : Nat) "PaperStore$Ream" "paper" "LPaperStore$Paper;" "PaperStore") ∈ lw_tbl := lw_at lw_m5 238 rfl
theorem q1302 : (Jvm.Cond.fieldLinkNest "PaperStore$Store" (145 : Nat) "PaperStore$Ream" "quires" "I" "PaperStore") ∈ lw_tbl := lw_at lw_m6 3 rfl
theorem q1332 : (Jvm.Cond.interfaceEntry "PaperStore$Store" (53 : Nat)) ∈ lw_tbl := lw_at lw_m6 33 rfl
theorem q1333 : (Jvm.Cond.methodLink "PaperStore$Store" (53 : Nat) ({ cls := "java/util/List", name := "iterator", desc := "()Ljava/util/Iterator;" } : Jvm.MethodName)) ∈ lw_all := lw_g (lw_at lw_m6 34 rfl) rfl
theorem q1334 : (Jvm.Cond.classLink "PaperStore$Store" (69 : Nat) "PaperStore$Ream") ∈ lw_all := lw_g (lw_at lw_m6 35 rfl) rfl
theorem q1335 : (Jvm.Cond.methodLink "PaperStore$Store" (75 : Nat) ({ cls := "java/util/ArrayList", name := "set", desc := "(ILjava/lang/Object;)Ljava/lang/Object;" } : Jvm.MethodName)) ∈ lw_all := lw_g (lw_at lw_m6 36 rfl) rfl
theorem q1339 : (Jvm.Cond.classLink "PaperStore$Store" (80 : Nat) "PaperStore$Ladder") ∈ lw_all := lw_g (lw_at lw_m6 40 rfl) rfl
theorem q1341 : (Jvm.Cond.methodLink "PaperStore$Store" (88 : Nat) ({ cls := "PaperStore$Ladder", name := "<init>", desc := "(II)V" } : Jvm.MethodName)) ∈ lw_all := lw_g (lw_at lw_m6 42 rfl) rfl
theorem q1346 : (Jvm.Cond.fieldLinkNest "PaperStore$Store" (82 : Nat) "PaperStore$Ladder" "reach" "I" "PaperStore") ∈ lw_tbl := lw_at lw_m6 47 rfl
theorem q1349 : (Jvm.Cond.fieldLinkNest "PaperStore$Store" (85 : Nat) "PaperStore$Ladder" "aisle" "I" "PaperStore") ∈ lw_tbl := lw_at lw_m6 50 rfl
theorem q1356 : (Jvm.Cond.methodLink "PaperStore$Store" (91 : Nat) ({ cls := "java/util/ArrayList", name := "add", desc := "(Ljava/lang/Object;)Z" } : Jvm.MethodName)) ∈ lw_all := lw_g (lw_at lw_m6 57 rfl) rfl
theorem q1357 : (Jvm.Cond.classLink "PaperStore$Store" (95 : Nat) "PaperStore$Order") ∈ lw_all := lw_g (lw_at lw_m6 58 rfl) rfl
theorem q1358 : (Jvm.Cond.methodLink "PaperStore$Store" (97 : Nat) ({ cls := "PaperStore$Order", name := "copy", desc := "()LPaperStore$Order;" } : Jvm.MethodName)) ∈ lw_all := lw_g (lw_at lw_m6 59 rfl) rfl
theorem q1369 : (Jvm.Cond.fieldLinkNest "PaperStore$Store" (234 : Nat) "PaperStore$Order" "paper" "LPaperStore$Paper;" "PaperStore") ∈ lw_tbl := lw_at lw_m6 70 rfl
theorem q1372 : (Jvm.Cond.fieldLinkNest "PaperStore$Store" (239 : Nat) "PaperStore$Order" "quires" "I" "PaperStore") ∈ lw_tbl := lw_at lw_m6 73 rfl
theorem q1375 : (Jvm.Cond.fieldLinkNest "PaperStore$Store" (151 : Nat) "PaperStore$Order" "state" "I" "PaperStore") ∈ lw_tbl := lw_at lw_m6 76 rfl
theorem q1378 : (Jvm.Cond.fieldLinkNest "PaperStore$Store" (210 : Nat) "PaperStore$Order" "has" "I" "PaperStore") ∈ lw_tbl := lw_at lw_m6 79 rfl
theorem q1381 : (Jvm.Cond.fieldLinkNest "PaperStore$Store" (213 : Nat) "PaperStore$Order" "cart" "I" "PaperStore") ∈ lw_tbl := lw_at lw_m6 82 rfl
theorem q1394 : (Jvm.Cond.methodLink "PaperStore$Store" (102 : Nat) ({ cls := "PaperStore$Cart", name := "copy", desc := "()LPaperStore$Cart;" } : Jvm.MethodName)) ∈ lw_all := lw_g (lw_at lw_m6 95 rfl) rfl
theorem q1405 : (Jvm.Cond.fieldLinkNest "PaperStore$Store" (231 : Nat) "PaperStore$Cart" "room" "I" "PaperStore") ∈ lw_tbl := lw_at lw_m6 106 rfl
theorem q1408 : (Jvm.Cond.fieldLinkNest "PaperStore$Store" (150 : Nat) "PaperStore$Cart" "quires" "I" "PaperStore") ∈ lw_tbl := lw_at lw_m6 109 rfl
theorem q1411 : (Jvm.Cond.fieldLinkNest "PaperStore$Store" (225 : Nat) "PaperStore$Cart" "order" "I" "PaperStore") ∈ lw_tbl := lw_at lw_m6 112 rfl
theorem q1420 : (Jvm.Cond.methodLink "PaperStore$Store" (105 : Nat) ({ cls := "java/util/HashMap", name := "putAll", desc := "(Ljava/util/Map;)V" } : Jvm.MethodName)) ∈ lw_all := lw_g (lw_at lw_m6 121 rfl) rfl
theorem q1811 : (Jvm.Cond.selects "PaperStore$Store" ({ cls := "java/lang/Object", name := "hashCode", desc := "()I" } : Jvm.MethodName) ({ cls := "java/lang/Object", name := "hashCode", desc := "()I" } : Jvm.MethodName)) ∈ lw_all := lw_g (lw_at lw_m8 32 rfl) rfl
theorem q1919 : (Jvm.Cond.selects "PaperStore$Store" ({ cls := "java/lang/Object", name := "equals", desc := "(Ljava/lang/Object;)Z" } : Jvm.MethodName) ({ cls := "java/lang/Object", name := "equals", desc := "(Ljava/lang/Object;)Z" } : Jvm.MethodName)) ∈ lw_all := lw_g (lw_at lw_m8 140 rfl) rfl
theorem q2036 : (Jvm.Cond.instanceMethod ({ cls := "PaperStore$Store", name := "addLadder", desc := "(I)I" } : Jvm.MethodName)) ∈ lw_all := lw_g (lw_at lw_m9 17 rfl) rfl
theorem q2037 : (Jvm.Cond.selects "PaperStore$Store" ({ cls := "PaperStore$Store", name := "addLadder", desc := "(I)I" } : Jvm.MethodName) ({ cls := "PaperStore$Store", name := "addLadder", desc := "(I)I" } : Jvm.MethodName)) ∈ lw_all := lw_g (lw_at lw_m9 18 rfl) rfl
theorem q2038 : (Jvm.Cond.code ({ cls := "PaperStore$Store", name := "addLadder", desc := "(I)I" } : Jvm.MethodName) prog_13_method_14_code (3 : Nat) (Option.some Jvm.ClassFile.FieldType.int)) ∈ lw_all := lw_g (lw_at lw_m9 19 rfl) rfl
theorem q2039 : (Jvm.Cond.methodLink "PaperStore$Store" (121 : Nat) ({ cls := "java/util/ArrayList", name := "size", desc := "()I" } : Jvm.MethodName)) ∈ lw_all := lw_g (lw_at lw_m9 20 rfl) rfl
theorem q2040 : (Jvm.Cond.methodLinkNest "PaperStore$Store" (170 : Nat) ({ cls := "PaperStore", name := "refuse", desc := "(ZII)V" } : Jvm.MethodName) "PaperStore") ∈ lw_tbl := lw_at lw_m9 21 rfl
theorem q2065 : (Jvm.Cond.methodLink "PaperStore$Store" (174 : Nat) ({ cls := "PaperStore$Store", name := "ladderAt", desc := "(I)I" } : Jvm.MethodName)) ∈ lw_all := lw_g (lw_at lw_m9 46 rfl) rfl
theorem q2066 : (Jvm.Cond.instanceMethod ({ cls := "PaperStore$Store", name := "ladderAt", desc := "(I)I" } : Jvm.MethodName)) ∈ lw_all := lw_g (lw_at lw_m9 47 rfl) rfl
theorem q2067 : (Jvm.Cond.selects "PaperStore$Store" ({ cls := "PaperStore$Store", name := "ladderAt", desc := "(I)I" } : Jvm.MethodName) ({ cls := "PaperStore$Store", name := "ladderAt", desc := "(I)I" } : Jvm.MethodName)) ∈ lw_all := lw_g (lw_at lw_m9 48 rfl) rfl
theorem q2068 : (Jvm.Cond.code ({ cls := "PaperStore$Store", name := "ladderAt", desc := "(I)I" } : Jvm.MethodName) prog_13_method_12_code (3 : Nat) (Option.some Jvm.ClassFile.FieldType.int)) ∈ lw_all := lw_g (lw_at lw_m9 49 rfl) rfl
theorem q2069 : (Jvm.Cond.methodLink "PaperStore$Store" (163 : Nat) ({ cls := "java/util/ArrayList", name := "get", desc := "(I)Ljava/lang/Object;" } : Jvm.MethodName)) ∈ lw_all := lw_g (lw_at lw_m9 50 rfl) rfl
theorem q2130 : (Jvm.Cond.instanceMethod ({ cls := "PaperStore$Store", name := "isLadder", desc := "(I)Z" } : Jvm.MethodName)) ∈ lw_all := lw_g (lw_at lw_m9 111 rfl) rfl
theorem q2131 : (Jvm.Cond.selects "PaperStore$Store" ({ cls := "PaperStore$Store", name := "isLadder", desc := "(I)Z" } : Jvm.MethodName) ({ cls := "PaperStore$Store", name := "isLadder", desc := "(I)Z" } : Jvm.MethodName)) ∈ lw_all := lw_g (lw_at lw_m9 112 rfl) rfl
theorem q2132 : (Jvm.Cond.code ({ cls := "PaperStore$Store", name := "isLadder", desc := "(I)Z" } : Jvm.MethodName) prog_13_method_3_code (2 : Nat) (Option.some Jvm.ClassFile.FieldType.boolean)) ∈ lw_all := lw_g (lw_at lw_m9 113 rfl) rfl
theorem q2133 : (Jvm.Cond.methodLinkNest "PaperStore$Store" (125 : Nat) ({ cls := "PaperStore", name := "isIn", desc := "(III)Z" } : Jvm.MethodName) "PaperStore") ∈ lw_tbl := lw_at lw_m9 114 rfl
theorem q2148 : (Jvm.Cond.instanceMethod ({ cls := "PaperStore$Store", name := "push", desc := "(II)I" } : Jvm.MethodName)) ∈ lw_all := lw_g (lw_at lw_m9 129 rfl) rfl
theorem q2149 : (Jvm.Cond.selects "PaperStore$Store" ({ cls := "PaperStore$Store", name := "push", desc := "(II)I" } : Jvm.MethodName) ({ cls := "PaperStore$Store", name := "push", desc := "(II)I" } : Jvm.MethodName)) ∈ lw_all := lw_g (lw_at lw_m9 130 rfl) rfl
theorem q2150 : (Jvm.Cond.code ({ cls := "PaperStore$Store", name := "push", desc := "(II)I" } : Jvm.MethodName) prog_13_method_15_code (6 : Nat) (Option.some Jvm.ClassFile.FieldType.int)) ∈ lw_all := lw_g (lw_at lw_m9 131 rfl) rfl
theorem q2172 : (Jvm.Cond.fieldLinkNest "PaperStore$Store" (240 : Nat) "PaperStore$Paper" "size" "I" "PaperStore") ∈ lw_tbl := lw_at lw_m9 153 rfl
theorem q2181 : (Jvm.Cond.instanceMethod ({ cls := "PaperStore$Store", name := "store", desc := "(IILPaperStore$Paper;I)I" } : Jvm.MethodName)) ∈ lw_all := lw_g (lw_at lw_m9 162 rfl) rfl
theorem q2182 : (Jvm.Cond.selects "PaperStore$Store" ({ cls := "PaperStore$Store", name := "store", desc := "(IILPaperStore$Paper;I)I" } : Jvm.MethodName) ({ cls := "PaperStore$Store", name := "store", desc := "(IILPaperStore$Paper;I)I" } : Jvm.MethodName)) ∈ lw_all := lw_g (lw_at lw_m9 163 rfl) rfl
theorem q2183 : (Jvm.Cond.code ({ cls := "PaperStore$Store", name := "store", desc := "(IILPaperStore$Paper;I)I" } : Jvm.MethodName) prog_13_method_16_code (8 : Nat) (Option.some Jvm.ClassFile.FieldType.int)) ∈ lw_all := lw_g (lw_at lw_m9 164 rfl) rfl
theorem q2184 : (Jvm.Cond.methodLink "PaperStore$Store" (185 : Nat) ({ cls := "PaperStore$Ream", name := "<init>", desc := "(ILPaperStore$Paper;I)V" } : Jvm.MethodName)) ∈ lw_all := lw_g (lw_at lw_m9 165 rfl) rfl
theorem q2208 : (Jvm.Cond.instanceMethod ({ cls := "PaperStore$Store", name := "aisleOf", desc := "(LPaperStore$Ream;)I" } : Jvm.MethodName)) ∈ lw_all := lw_g (lw_at lw_m9 189 rfl) rfl
theorem q2209 : (Jvm.Cond.selects "PaperStore$Store" ({ cls := "PaperStore$Store", name := "aisleOf", desc := "(LPaperStore$Ream;)I" } : Jvm.MethodName) ({ cls := "PaperStore$Store", name := "aisleOf", desc := "(LPaperStore$Ream;)I" } : Jvm.MethodName)) ∈ lw_all := lw_g (lw_at lw_m9 190 rfl) rfl
theorem q2210 : (Jvm.Cond.code ({ cls := "PaperStore$Store", name := "aisleOf", desc := "(LPaperStore$Ream;)I" } : Jvm.MethodName) prog_13_method_13_code (3 : Nat) (Option.some Jvm.ClassFile.FieldType.int)) ∈ lw_all := lw_g (lw_at lw_m9 191 rfl) rfl
theorem q2211 : (Jvm.Cond.interfaceEntry "PaperStore$Store" (167 : Nat)) ∈ lw_tbl := lw_at lw_m9 192 rfl
theorem q2212 : (Jvm.Cond.methodLink "PaperStore$Store" (167 : Nat) ({ cls := "java/util/List", name := "contains", desc := "(Ljava/lang/Object;)Z" } : Jvm.MethodName)) ∈ lw_all := lw_g (lw_at lw_m9 193 rfl) rfl
theorem q2300 : (Jvm.Cond.instanceMethod ({ cls := "PaperStore$Store", name := "air", desc := "(II)I" } : Jvm.MethodName)) ∈ lw_all := lw_g (lw_at lw_m10 41 rfl) rfl
theorem q2301 : (Jvm.Cond.selects "PaperStore$Store" ({ cls := "PaperStore$Store", name := "air", desc := "(II)I" } : Jvm.MethodName) ({ cls := "PaperStore$Store", name := "air", desc := "(II)I" } : Jvm.MethodName)) ∈ lw_all := lw_g (lw_at lw_m10 42 rfl) rfl
theorem q2302 : (Jvm.Cond.code ({ cls := "PaperStore$Store", name := "air", desc := "(II)I" } : Jvm.MethodName) prog_13_method_17_code (4 : Nat) (Option.some Jvm.ClassFile.FieldType.int)) ∈ lw_all := lw_g (lw_at lw_m10 43 rfl) rfl
theorem q2311 : (Jvm.Cond.instanceMethod ({ cls := "PaperStore$Store", name := "mice", desc := "(II)I" } : Jvm.MethodName)) ∈ lw_all := lw_g (lw_at lw_m10 52 rfl) rfl
theorem q2312 : (Jvm.Cond.selects "PaperStore$Store" ({ cls := "PaperStore$Store", name := "mice", desc := "(II)I" } : Jvm.MethodName) ({ cls := "PaperStore$Store", name := "mice", desc := "(II)I" } : Jvm.MethodName)) ∈ lw_all := lw_g (lw_at lw_m10 53 rfl) rfl
theorem q2313 : (Jvm.Cond.code ({ cls := "PaperStore$Store", name := "mice", desc := "(II)I" } : Jvm.MethodName) prog_13_method_18_code (3 : Nat) (Option.some Jvm.ClassFile.FieldType.int)) ∈ lw_all := lw_g (lw_at lw_m10 54 rfl) rfl
theorem q2314 : (Jvm.Cond.methodLink "PaperStore$Store" (191 : Nat) ({ cls := "java/lang/Math", name := "min", desc := "(II)I" } : Jvm.MethodName)) ∈ lw_all := lw_g (lw_at lw_m10 55 rfl) rfl
theorem q2323 : (Jvm.Cond.instanceMethod ({ cls := "PaperStore$Store", name := "trap", desc := "(II)I" } : Jvm.MethodName)) ∈ lw_all := lw_g (lw_at lw_m10 64 rfl) rfl
theorem q2324 : (Jvm.Cond.selects "PaperStore$Store" ({ cls := "PaperStore$Store", name := "trap", desc := "(II)I" } : Jvm.MethodName) ({ cls := "PaperStore$Store", name := "trap", desc := "(II)I" } : Jvm.MethodName)) ∈ lw_all := lw_g (lw_at lw_m10 65 rfl) rfl
theorem q2325 : (Jvm.Cond.code ({ cls := "PaperStore$Store", name := "trap", desc := "(II)I" } : Jvm.MethodName) prog_13_method_19_code (4 : Nat) (Option.some Jvm.ClassFile.FieldType.int)) ∈ lw_all := lw_g (lw_at lw_m10 66 rfl) rfl
theorem q2397 : (Jvm.Cond.instanceMethod ({ cls := "PaperStore$Store", name := "isAhead", desc := "(II)Z" } : Jvm.MethodName)) ∈ lw_all := lw_g (lw_at lw_m10 138 rfl) rfl
theorem q2398 : (Jvm.Cond.selects "PaperStore$Store" ({ cls := "PaperStore$Store", name := "isAhead", desc := "(II)Z" } : Jvm.MethodName) ({ cls := "PaperStore$Store", name := "isAhead", desc := "(II)Z" } : Jvm.MethodName)) ∈ lw_all := lw_g (lw_at lw_m10 139 rfl) rfl
theorem q2399 : (Jvm.Cond.code ({ cls := "PaperStore$Store", name := "isAhead", desc := "(II)Z" } : Jvm.MethodName) prog_13_method_20_code (5 : Nat) (Option.some Jvm.ClassFile.FieldType.boolean)) ∈ lw_all := lw_g (lw_at lw_m10 140 rfl) rfl
theorem q2400 : (Jvm.Cond.methodLink "PaperStore$Store" (148 : Nat) ({ cls := "PaperStore$Aisle", name := "quires", desc := "()I" } : Jvm.MethodName)) ∈ lw_all := lw_g (lw_at lw_m10 141 rfl) rfl
theorem q2409 : (Jvm.Cond.instanceMethod ({ cls := "PaperStore$Store", name := "addOrder", desc := "(LPaperStore$Paper;I)I" } : Jvm.MethodName)) ∈ lw_all := lw_g (lw_at lw_m10 150 rfl) rfl
theorem q2410 : (Jvm.Cond.selects "PaperStore$Store" ({ cls := "PaperStore$Store", name := "addOrder", desc := "(LPaperStore$Paper;I)I" } : Jvm.MethodName) ({ cls := "PaperStore$Store", name := "addOrder", desc := "(LPaperStore$Paper;I)I" } : Jvm.MethodName)) ∈ lw_all := lw_g (lw_at lw_m10 151 rfl) rfl
theorem q2411 : (Jvm.Cond.code ({ cls := "PaperStore$Store", name := "addOrder", desc := "(LPaperStore$Paper;I)I" } : Jvm.MethodName) prog_13_method_21_code (3 : Nat) (Option.some Jvm.ClassFile.FieldType.int)) ∈ lw_all := lw_g (lw_at lw_m10 152 rfl) rfl
theorem q2412 : (Jvm.Cond.methodLink "PaperStore$Store" (200 : Nat) ({ cls := "PaperStore$Order", name := "<init>", desc := "(LPaperStore$Paper;I)V" } : Jvm.MethodName)) ∈ lw_all := lw_g (lw_at lw_m10 153 rfl) rfl
theorem q2425 : (Jvm.Cond.instanceMethod ({ cls := "PaperStore$Store", name := "isOrder", desc := "(I)Z" } : Jvm.MethodName)) ∈ lw_all := lw_g (lw_at lw_m10 166 rfl) rfl
theorem q2426 : (Jvm.Cond.selects "PaperStore$Store" ({ cls := "PaperStore$Store", name := "isOrder", desc := "(I)Z" } : Jvm.MethodName) ({ cls := "PaperStore$Store", name := "isOrder", desc := "(I)Z" } : Jvm.MethodName)) ∈ lw_all := lw_g (lw_at lw_m10 167 rfl) rfl
theorem q2427 : (Jvm.Cond.code ({ cls := "PaperStore$Store", name := "isOrder", desc := "(I)Z" } : Jvm.MethodName) prog_13_method_4_code (2 : Nat) (Option.some Jvm.ClassFile.FieldType.boolean)) ∈ lw_all := lw_g (lw_at lw_m10 168 rfl) rfl
theorem q2430 : (Jvm.Cond.instanceMethod ({ cls := "PaperStore$Store", name := "cancel", desc := "(I)I" } : Jvm.MethodName)) ∈ lw_all := lw_g (lw_at lw_m10 171 rfl) rfl
theorem q2431 : (Jvm.Cond.selects "PaperStore$Store" ({ cls := "PaperStore$Store", name := "cancel", desc := "(I)I" } : Jvm.MethodName) ({ cls := "PaperStore$Store", name := "cancel", desc := "(I)I" } : Jvm.MethodName)) ∈ lw_all := lw_g (lw_at lw_m10 172 rfl) rfl
theorem q2432 : (Jvm.Cond.code ({ cls := "PaperStore$Store", name := "cancel", desc := "(I)I" } : Jvm.MethodName) prog_13_method_23_code (4 : Nat) (Option.some Jvm.ClassFile.FieldType.int)) ∈ lw_all := lw_g (lw_at lw_m10 173 rfl) rfl
theorem q2433 : (Jvm.Cond.methodLink "PaperStore$Store" (206 : Nat) ({ cls := "PaperStore$Store", name := "waiting", desc := "(I)LPaperStore$Order;" } : Jvm.MethodName)) ∈ lw_all := lw_g (lw_at lw_m10 174 rfl) rfl
theorem q2434 : (Jvm.Cond.privateMethod ({ cls := "PaperStore$Store", name := "waiting", desc := "(I)LPaperStore$Order;" } : Jvm.MethodName)) ∈ lw_tbl := lw_at lw_m10 175 rfl
theorem q2435 : (Jvm.Cond.instanceMethod ({ cls := "PaperStore$Store", name := "waiting", desc := "(I)LPaperStore$Order;" } : Jvm.MethodName)) ∈ lw_all := lw_g (lw_at lw_m10 176 rfl) rfl
theorem q2436 : (Jvm.Cond.code ({ cls := "PaperStore$Store", name := "waiting", desc := "(I)LPaperStore$Order;" } : Jvm.MethodName) prog_13_method_22_code (3 : Nat) (Option.some (Jvm.ClassFile.FieldType.object "PaperStore$Order"))) ∈ lw_all := lw_g (lw_at lw_m10 177 rfl) rfl
theorem q2437 : (Jvm.Cond.methodLink "PaperStore$Store" (203 : Nat) ({ cls := "PaperStore$Order", name := "waits", desc := "()Z" } : Jvm.MethodName)) ∈ lw_all := lw_g (lw_at lw_m10 178 rfl) rfl
theorem q2441 : (Jvm.Cond.methodLink "PaperStore$Store" (216 : Nat) ({ cls := "PaperStore$Cart", name := "empties", desc := "()V" } : Jvm.MethodName)) ∈ lw_all := lw_g (lw_at lw_m10 182 rfl) rfl
theorem q2445 : (Jvm.Cond.methodLink "PaperStore$Store" (219 : Nat) ({ cls := "PaperStore$Order", name := "ends", desc := "(I)V" } : Jvm.MethodName)) ∈ lw_all := lw_g (lw_at lw_m10 186 rfl) rfl
theorem q2457 : (Jvm.Cond.instanceMethod ({ cls := "PaperStore$Store", name := "addCart", desc := "(I)I" } : Jvm.MethodName)) ∈ lw_all := lw_g (lw_at lw_m10 198 rfl) rfl
theorem q2458 : (Jvm.Cond.selects "PaperStore$Store" ({ cls := "PaperStore$Store", name := "addCart", desc := "(I)I" } : Jvm.MethodName) ({ cls := "PaperStore$Store", name := "addCart", desc := "(I)I" } : Jvm.MethodName)) ∈ lw_all := lw_g (lw_at lw_m10 199 rfl) rfl
theorem q2459 : (Jvm.Cond.code ({ cls := "PaperStore$Store", name := "addCart", desc := "(I)I" } : Jvm.MethodName) prog_13_method_24_code (2 : Nat) (Option.some Jvm.ClassFile.FieldType.int)) ∈ lw_all := lw_g (lw_at lw_m10 200 rfl) rfl
theorem q2460 : (Jvm.Cond.methodLink "PaperStore$Store" (223 : Nat) ({ cls := "PaperStore$Cart", name := "<init>", desc := "(I)V" } : Jvm.MethodName)) ∈ lw_all := lw_g (lw_at lw_m10 201 rfl) rfl
theorem q2469 : (Jvm.Cond.instanceMethod ({ cls := "PaperStore$Store", name := "isCart", desc := "(I)Z" } : Jvm.MethodName)) ∈ lw_all := lw_g (lw_at lw_m10 210 rfl) rfl
theorem q2470 : (Jvm.Cond.selects "PaperStore$Store" ({ cls := "PaperStore$Store", name := "isCart", desc := "(I)Z" } : Jvm.MethodName) ({ cls := "PaperStore$Store", name := "isCart", desc := "(I)Z" } : Jvm.MethodName)) ∈ lw_all := lw_g (lw_at lw_m10 211 rfl) rfl
theorem q2471 : (Jvm.Cond.code ({ cls := "PaperStore$Store", name := "isCart", desc := "(I)Z" } : Jvm.MethodName) prog_13_method_5_code (2 : Nat) (Option.some Jvm.ClassFile.FieldType.boolean)) ∈ lw_all := lw_g (lw_at lw_m10 212 rfl) rfl
theorem q2473 : (Jvm.Cond.instanceMethod ({ cls := "PaperStore$Store", name := "gather", desc := "(III)I" } : Jvm.MethodName)) ∈ lw_all := lw_g (lw_at lw_m10 214 rfl) rfl
theorem q2474 : (Jvm.Cond.selects "PaperStore$Store" ({ cls := "PaperStore$Store", name := "gather", desc := "(III)I" } : Jvm.MethodName) ({ cls := "PaperStore$Store", name := "gather", desc := "(III)I" } : Jvm.MethodName)) ∈ lw_all := lw_g (lw_at lw_m10 215 rfl) rfl
theorem q2475 : (Jvm.Cond.code ({ cls := "PaperStore$Store", name := "gather", desc := "(III)I" } : Jvm.MethodName) prog_13_method_25_code (9 : Nat) (Option.some Jvm.ClassFile.FieldType.int)) ∈ lw_all := lw_g (lw_at lw_m10 216 rfl) rfl
theorem q2476 : (Jvm.Cond.methodLink "PaperStore$Store" (228 : Nat) ({ cls := "PaperStore$Order", name := "lacks", desc := "()I" } : Jvm.MethodName)) ∈ lw_all := lw_g (lw_at lw_m10 217 rfl) rfl
theorem q2480 : (Jvm.Cond.methodLink "PaperStore$Store" (235 : Nat) ({ cls := "PaperStore$Aisle", name := "gathers", desc := "(LPaperStore$Paper;IIZ)I" } : Jvm.MethodName)) ∈ lw_all := lw_g (lw_at lw_m10 221 rfl) rfl
theorem q2509 : (Jvm.Cond.instanceMethod ({ cls := "PaperStore$Store", name := "send", desc := "(I)I" } : Jvm.MethodName)) ∈ lw_all := lw_g (lw_at lw_m11 10 rfl) rfl
theorem q2510 : (Jvm.Cond.selects "PaperStore$Store" ({ cls := "PaperStore$Store", name := "send", desc := "(I)I" } : Jvm.MethodName) ({ cls := "PaperStore$Store", name := "send", desc := "(I)I" } : Jvm.MethodName)) ∈ lw_all := lw_g (lw_at lw_m11 11 rfl) rfl
theorem q2511 : (Jvm.Cond.code ({ cls := "PaperStore$Store", name := "send", desc := "(I)I" } : Jvm.MethodName) prog_13_method_26_code (7 : Nat) (Option.some Jvm.ClassFile.FieldType.int)) ∈ lw_all := lw_g (lw_at lw_m11 12 rfl) rfl
theorem q2512 : (Jvm.Cond.methodLink "PaperStore$Store" (242 : Nat) ({ cls := "java/util/HashMap", name := "containsKey", desc := "(Ljava/lang/Object;)Z" } : Jvm.MethodName)) ∈ lw_all := lw_g (lw_at lw_m11 13 rfl) rfl
theorem q2524 : (Jvm.Cond.methodLink "PaperStore$Store" (245 : Nat) ({ cls := "java/util/HashMap", name := "get", desc := "(Ljava/lang/Object;)Ljava/lang/Object;" } : Jvm.MethodName)) ∈ lw_all := lw_g (lw_at lw_m11 25 rfl) rfl
theorem q2528 : (Jvm.Cond.classLink "PaperStore$Store" (248 : Nat) "java/lang/Integer") ∈ lw_all := lw_g (lw_at lw_m11 29 rfl) rfl
theorem q2529 : (Jvm.Cond.methodLink "PaperStore$Store" (250 : Nat) ({ cls := "java/lang/Integer", name := "intValue", desc := "()I" } : Jvm.MethodName)) ∈ lw_all := lw_g (lw_at lw_m11 30 rfl) rfl
theorem q2530 : (Jvm.Cond.methodLink "PaperStore$Store" (253 : Nat) ({ cls := "java/lang/Integer", name := "valueOf", desc := "(I)Ljava/lang/Integer;" } : Jvm.MethodName)) ∈ lw_all := lw_g (lw_at lw_m11 31 rfl) rfl
theorem q2549 : (Jvm.Cond.methodLink "PaperStore$Store" (257 : Nat) ({ cls := "java/util/HashMap", name := "put", desc := "(Ljava/lang/Object;Ljava/lang/Object;)Ljava/lang/Object;" } : Jvm.MethodName)) ∈ lw_all := lw_g (lw_at lw_m11 50 rfl) rfl
theorem q2568 : (Jvm.Cond.instanceMethod ({ cls := "PaperStore$Store", name := "lacking", desc := "(I)I" } : Jvm.MethodName)) ∈ lw_all := lw_g (lw_at lw_m11 69 rfl) rfl
theorem q2569 : (Jvm.Cond.selects "PaperStore$Store" ({ cls := "PaperStore$Store", name := "lacking", desc := "(I)I" } : Jvm.MethodName) ({ cls := "PaperStore$Store", name := "lacking", desc := "(I)I" } : Jvm.MethodName)) ∈ lw_all := lw_g (lw_at lw_m11 70 rfl) rfl
theorem q2570 : (Jvm.Cond.code ({ cls := "PaperStore$Store", name := "lacking", desc := "(I)I" } : Jvm.MethodName) prog_13_method_27_code (3 : Nat) (Option.some Jvm.ClassFile.FieldType.int)) ∈ lw_all := lw_g (lw_at lw_m11 71 rfl) rfl
theorem q2571 : (Jvm.Cond.methodLink "PaperStore$Store" (261 : Nat) ({ cls := "PaperStore$Store", name := "stock", desc := "(LPaperStore$Paper;Z)I" } : Jvm.MethodName)) ∈ lw_all := lw_g (lw_at lw_m11 72 rfl) rfl
theorem q2572 : (Jvm.Cond.instanceMethod ({ cls := "PaperStore$Store", name := "stock", desc := "(LPaperStore$Paper;Z)I" } : Jvm.MethodName)) ∈ lw_all := lw_g (lw_at lw_m11 73 rfl) rfl
theorem q2573 : (Jvm.Cond.selects "PaperStore$Store" ({ cls := "PaperStore$Store", name := "stock", desc := "(LPaperStore$Paper;Z)I" } : Jvm.MethodName) ({ cls := "PaperStore$Store", name := "stock", desc := "(LPaperStore$Paper;Z)I" } : Jvm.MethodName)) ∈ lw_all := lw_g (lw_at lw_m11 74 rfl) rfl
theorem q2574 : (Jvm.Cond.code ({ cls := "PaperStore$Store", name := "stock", desc := "(LPaperStore$Paper;Z)I" } : Jvm.MethodName) prog_13_method_7_code (7 : Nat) (Option.some Jvm.ClassFile.FieldType.int)) ∈ lw_all := lw_g (lw_at lw_m11 75 rfl) rfl
theorem q2575 : (Jvm.Cond.methodLink "PaperStore$Store" (129 : Nat) ({ cls := "PaperStore$Store", name := "lying", desc := "()Ljava/util/List;" } : Jvm.MethodName)) ∈ lw_all := lw_g (lw_at lw_m11 76 rfl) rfl
theorem q2576 : (Jvm.Cond.methodLink "PaperStore$Store" (132 : Nat) ({ cls := "PaperStore$Ream", name := "isGood", desc := "(LPaperStore$Paper;)Z" } : Jvm.MethodName)) ∈ lw_all := lw_g (lw_at lw_m11 77 rfl) rfl
theorem q2577 : (Jvm.Cond.methodLink "PaperStore$Store" (140 : Nat) ({ cls := "PaperStore$Paper", name := "equals", desc := "(Ljava/lang/Object;)Z" } : Jvm.MethodName)) ∈ lw_all := lw_g (lw_at lw_m11 78 rfl) rfl
theorem q2578 : (Jvm.Cond.methodLink "PaperStore$Store" (265 : Nat) ({ cls := "java/lang/Math", name := "max", desc := "(II)I" } : Jvm.MethodName)) ∈ lw_all := lw_g (lw_at lw_m11 79 rfl) rfl
theorem q2587 : (Jvm.Cond.instanceMethod ({ cls := "PaperStore$Store", name := "bestLadder", desc := "(I)I" } : Jvm.MethodName)) ∈ lw_all := lw_g (lw_at lw_m11 88 rfl) rfl
theorem q2588 : (Jvm.Cond.selects "PaperStore$Store" ({ cls := "PaperStore$Store", name := "bestLadder", desc := "(I)I" } : Jvm.MethodName) ({ cls := "PaperStore$Store", name := "bestLadder", desc := "(I)I" } : Jvm.MethodName)) ∈ lw_all := lw_g (lw_at lw_m11 89 rfl) rfl
theorem q2589 : (Jvm.Cond.code ({ cls := "PaperStore$Store", name := "bestLadder", desc := "(I)I" } : Jvm.MethodName) prog_13_method_28_code (8 : Nat) (Option.some Jvm.ClassFile.FieldType.int)) ∈ lw_all := lw_g (lw_at lw_m11 90 rfl) rfl
theorem q2623 : (Jvm.Cond.instanceMethod ({ cls := "PaperStore$Store", name := "bestPaper", desc := "()I" } : Jvm.MethodName)) ∈ lw_all := lw_g (lw_at lw_m11 124 rfl) rfl
theorem q2624 : (Jvm.Cond.selects "PaperStore$Store" ({ cls := "PaperStore$Store", name := "bestPaper", desc := "()I" } : Jvm.MethodName) ({ cls := "PaperStore$Store", name := "bestPaper", desc := "()I" } : Jvm.MethodName)) ∈ lw_all := lw_g (lw_at lw_m11 125 rfl) rfl
theorem q2625 : (Jvm.Cond.code ({ cls := "PaperStore$Store", name := "bestPaper", desc := "()I" } : Jvm.MethodName) prog_13_method_29_code (8 : Nat) (Option.some Jvm.ClassFile.FieldType.int)) ∈ lw_all := lw_g (lw_at lw_m11 126 rfl) rfl
theorem q2626 : (Jvm.Cond.methodLink "PaperStore$Store" (268 : Nat) ({ cls := "java/util/HashMap", name := "entrySet", desc := "()Ljava/util/Set;" } : Jvm.MethodName)) ∈ lw_all := lw_g (lw_at lw_m11 127 rfl) rfl
theorem q2627 : (Jvm.Cond.interfaceEntry "PaperStore$Store" (272 : Nat)) ∈ lw_tbl := lw_at lw_m11 128 rfl
theorem q2628 : (Jvm.Cond.methodLink "PaperStore$Store" (272 : Nat) ({ cls := "java/util/Set", name := "iterator", desc := "()Ljava/util/Iterator;" } : Jvm.MethodName)) ∈ lw_all := lw_g (lw_at lw_m11 129 rfl) rfl
theorem q2629 : (Jvm.Cond.classLink "PaperStore$Store" (275 : Nat) "java/util/Map$Entry") ∈ lw_all := lw_g (lw_at lw_m11 130 rfl) rfl
theorem q2630 : (Jvm.Cond.interfaceEntry "PaperStore$Store" (277 : Nat)) ∈ lw_tbl := lw_at lw_m11 131 rfl
theorem q2631 : (Jvm.Cond.methodLink "PaperStore$Store" (277 : Nat) ({ cls := "java/util/Map$Entry", name := "getKey", desc := "()Ljava/lang/Object;" } : Jvm.MethodName)) ∈ lw_all := lw_g (lw_at lw_m11 132 rfl) rfl
theorem q2632 : (Jvm.Cond.classLink "PaperStore$Store" (141 : Nat) "PaperStore$Paper") ∈ lw_all := lw_g (lw_at lw_m11 133 rfl) rfl
theorem q2633 : (Jvm.Cond.methodLink "PaperStore$Store" (280 : Nat) ({ cls := "PaperStore$Paper", name := "number", desc := "()I" } : Jvm.MethodName)) ∈ lw_all := lw_g (lw_at lw_m11 134 rfl) rfl
theorem q2634 : (Jvm.Cond.interfaceEntry "PaperStore$Store" (282 : Nat)) ∈ lw_tbl := lw_at lw_m11 135 rfl
theorem q2635 : (Jvm.Cond.methodLink "PaperStore$Store" (282 : Nat) ({ cls := "java/util/Map$Entry", name := "getValue", desc := "()Ljava/lang/Object;" } : Jvm.MethodName)) ∈ lw_all := lw_g (lw_at lw_m11 136 rfl) rfl
theorem q2644 : (Jvm.Cond.instanceMethod ({ cls := "PaperStore$Store", name := "days", desc := "(I)I" } : Jvm.MethodName)) ∈ lw_all := lw_g (lw_at lw_m11 145 rfl) rfl
theorem q2645 : (Jvm.Cond.selects "PaperStore$Store" ({ cls := "PaperStore$Store", name := "days", desc := "(I)I" } : Jvm.MethodName) ({ cls := "PaperStore$Store", name := "days", desc := "(I)I" } : Jvm.MethodName)) ∈ lw_all := lw_g (lw_at lw_m11 146 rfl) rfl
theorem q2646 : (Jvm.Cond.code ({ cls := "PaperStore$Store", name := "days", desc := "(I)I" } : Jvm.MethodName) prog_13_method_31_code (4 : Nat) (Option.some Jvm.ClassFile.FieldType.int)) ∈ lw_all := lw_g (lw_at lw_m11 147 rfl) rfl
theorem q2647 : (Jvm.Cond.methodLink "PaperStore$Store" (291 : Nat) ({ cls := "PaperStore$Store", name := "dayGoesBy", desc := "()I" } : Jvm.MethodName)) ∈ lw_all := lw_g (lw_at lw_m11 148 rfl) rfl
theorem q2648 : (Jvm.Cond.privateMethod ({ cls := "PaperStore$Store", name := "dayGoesBy", desc := "()I" } : Jvm.MethodName)) ∈ lw_tbl := lw_at lw_m11 149 rfl
theorem q2649 : (Jvm.Cond.instanceMethod ({ cls := "PaperStore$Store", name := "dayGoesBy", desc := "()I" } : Jvm.MethodName)) ∈ lw_all := lw_g (lw_at lw_m11 150 rfl) rfl
theorem q2650 : (Jvm.Cond.code ({ cls := "PaperStore$Store", name := "dayGoesBy", desc := "()I" } : Jvm.MethodName) prog_13_method_30_code (6 : Nat) (Option.some Jvm.ClassFile.FieldType.int)) ∈ lw_all := lw_g (lw_at lw_m11 151 rfl) rfl
theorem q2651 : (Jvm.Cond.methodLink "PaperStore$Store" (285 : Nat) ({ cls := "PaperStore$Aisle", name := "airs", desc := "()V" } : Jvm.MethodName)) ∈ lw_all := lw_g (lw_at lw_m11 152 rfl) rfl
theorem q2660 : (Jvm.Cond.methodLink "PaperStore$Store" (288 : Nat) ({ cls := "PaperStore$Aisle", name := "isEaten", desc := "()I" } : Jvm.MethodName)) ∈ lw_all := lw_g (lw_at lw_m11 161 rfl) rfl
theorem q2798 : (Jvm.Cond.instanceMethod ({ cls := "PaperStore$Store", name := "quires", desc := "()I" } : Jvm.MethodName)) ∈ lw_all := lw_g (lw_at lw_m12 59 rfl) rfl
theorem q2799 : (Jvm.Cond.selects "PaperStore$Store" ({ cls := "PaperStore$Store", name := "quires", desc := "()I" } : Jvm.MethodName) ({ cls := "PaperStore$Store", name := "quires", desc := "()I" } : Jvm.MethodName)) ∈ lw_all := lw_g (lw_at lw_m12 60 rfl) rfl
theorem q2800 : (Jvm.Cond.code ({ cls := "PaperStore$Store", name := "quires", desc := "()I" } : Jvm.MethodName) prog_13_method_8_code (6 : Nat) (Option.some Jvm.ClassFile.FieldType.int)) ∈ lw_all := lw_g (lw_at lw_m12 61 rfl) rfl
theorem q2806 : (Jvm.Cond.instanceMethod ({ cls := "PaperStore$Store", name := "ordersIn", desc := "(I)I" } : Jvm.MethodName)) ∈ lw_all := lw_g (lw_at lw_m12 67 rfl) rfl
theorem q2807 : (Jvm.Cond.selects "PaperStore$Store" ({ cls := "PaperStore$Store", name := "ordersIn", desc := "(I)I" } : Jvm.MethodName) ({ cls := "PaperStore$Store", name := "ordersIn", desc := "(I)I" } : Jvm.MethodName)) ∈ lw_all := lw_g (lw_at lw_m12 68 rfl) rfl
theorem q2808 : (Jvm.Cond.code ({ cls := "PaperStore$Store", name := "ordersIn", desc := "(I)I" } : Jvm.MethodName) prog_13_method_10_code (5 : Nat) (Option.some Jvm.ClassFile.FieldType.int)) ∈ lw_all := lw_g (lw_at lw_m12 69 rfl) rfl
theorem q3338 : (Jvm.Cond.selects "PaperStore$Store" ({ cls := "java/lang/Object", name := "toString", desc := "()Ljava/lang/String;" } : Jvm.MethodName) ({ cls := "java/lang/Object", name := "toString", desc := "()Ljava/lang/String;" } : Jvm.MethodName)) ∈ lw_all := lw_g (lw_at lw_m14 119 rfl) rfl
theorem q4156 : (Jvm.Cond.castable "PaperStore$Store" "java/lang/Object") ∈ lw_tbl := lw_at lw_m17 217 rfl
theorem in_X2 : ∀ w ∈ wsX20, w ∈ lw_all := lw_in wsX20 [330, 332, 334, 336, 338, 340, 342, 344, 346, 348] (by decide +kernel) (by decide +kernel)
/-! PaperStore$Aisle -/
set_option maxRecDepth 100000
def RX3 : String := "PaperStore$Aisle"
def TX3 : u_T := fun k => match k with
  | 0 => ("PaperStore$Aisle", "shelves", "[LPaperStore$Shelf;", true)
  | 1 => ("PaperStore$Aisle", "damp", "I", false)
  | 2 => ("PaperStore$Aisle", "mice", "I", false)
  | 3 => ("PaperStore$Aisle", "traps", "I", false)
  | 4 => ("PaperStore$Aisle", "eaten", "I", false)
  | _ => ("PaperStore$Aisle", "caught", "I", false)
def tyX3 : Nat → FieldType := fun k => match k with
  | 0 => .array (.object "PaperStore$Shelf")
  | 1 => .int
  | 2 => .int
  | 3 => .int
  | 4 => .int
  | _ => .int
abbrev wsX30 : List Cond := u_ws RX3 TX3 6
theorem nmX3 : ∀ a, a < 6 → ∀ b, b < 6 → a ≠ b → (TX3 a).2.1 ≠ (TX3 b).2.1 := by decide +kernel
theorem tyX3_ok : ∀ k, k < 6 → parseFieldDescriptor (TX3 k).2.2.1 = some (tyX3 k) := by decide +kernel
abbrev cX3_init : ByteArray := prog_2_method_1_code
def yX3_init : MethodName := ⟨RX3, "<init>", "()V"⟩
def dkwX3_init_1 : List UInt8 := [162, 0, 22, 42, 180, 0, 11, 27, 187, 0, 9, 89, 183, 0, 21, 83, 132, 1, 1, 167, 255, 234, 177]
abbrev dktX3_init_1 : List UInt8 := dkwX3_init_1 ++ []
def dkwX3_init_0 : List UInt8 := [42, 183, 0, 3, 42, 16, 6, 189, 0, 9, 181, 0, 11, 42, 7, 181, 0, 17, 3, 60, 27, 16, 6]
abbrev dktX3_init_0 : List UInt8 := dkwX3_init_0 ++ dktX3_init_1
theorem dksX3_init_0 : cX3_init.data.toList.drop 0 = dktX3_init_0 := by decide +kernel
theorem dksX3_init_1 : cX3_init.data.toList.drop 23 = dktX3_init_1 := dk_seg dksX3_init_0 23 rfl rfl
theorem dX3_init_0 : decode cX3_init 0 = .ok (.aload_n 0, 1) := dk_42 (dk_at dksX3_init_0 0 rfl rfl)
theorem dX3_init_1 : decode cX3_init 1 = .ok (.invokespecial 3, 3) := dk_183 0 3 (dk_at dksX3_init_0 1 rfl rfl)
theorem dX3_init_4 : decode cX3_init 4 = .ok (.aload_n 0, 1) := dk_42 (dk_at dksX3_init_0 4 rfl rfl)
theorem dX3_init_5 : decode cX3_init 5 = .ok (.bipush 6, 2) := dk_16 6 (dk_at dksX3_init_0 5 rfl rfl)
theorem dX3_init_7 : decode cX3_init 7 = .ok (.anewarray 9, 3) := dk_189 0 9 (dk_at dksX3_init_0 7 rfl rfl)
theorem dX3_init_10 : decode cX3_init 10 = .ok (.putfield 11, 3) := dk_181 0 11 (dk_at dksX3_init_0 10 rfl rfl)
theorem dX3_init_13 : decode cX3_init 13 = .ok (.aload_n 0, 1) := dk_42 (dk_at dksX3_init_0 13 rfl rfl)
theorem dX3_init_14 : decode cX3_init 14 = .ok (.iconst 4, 1) := dk_7 (dk_at dksX3_init_0 14 rfl rfl)
theorem dX3_init_15 : decode cX3_init 15 = .ok (.putfield 17, 3) := dk_181 0 17 (dk_at dksX3_init_0 15 rfl rfl)
theorem dX3_init_18 : decode cX3_init 18 = .ok (.iconst 0, 1) := dk_3 (dk_at dksX3_init_0 18 rfl rfl)
theorem dX3_init_19 : decode cX3_init 19 = .ok (.istore_n 1, 1) := dk_60 (dk_at dksX3_init_0 19 rfl rfl)
theorem dX3_init_20 : decode cX3_init 20 = .ok (.iload_n 1, 1) := dk_27 (dk_at dksX3_init_0 20 rfl rfl)
theorem dX3_init_21 : decode cX3_init 21 = .ok (.bipush 6, 2) := dk_16 6 (dk_at dksX3_init_0 21 rfl rfl)
theorem dX3_init_23 : decode cX3_init 23 = .ok (.if_icmp .ge 22, 3) := dk_162 0 22 (dk_at dksX3_init_1 0 rfl rfl)
theorem dX3_init_26 : decode cX3_init 26 = .ok (.aload_n 0, 1) := dk_42 (dk_at dksX3_init_1 3 rfl rfl)
theorem dX3_init_27 : decode cX3_init 27 = .ok (.getfield 11, 3) := dk_180 0 11 (dk_at dksX3_init_1 4 rfl rfl)
theorem dX3_init_30 : decode cX3_init 30 = .ok (.iload_n 1, 1) := dk_27 (dk_at dksX3_init_1 7 rfl rfl)
theorem dX3_init_31 : decode cX3_init 31 = .ok (.new 9, 3) := dk_187 0 9 (dk_at dksX3_init_1 8 rfl rfl)
theorem dX3_init_34 : decode cX3_init 34 = .ok (.dup, 1) := dk_89 (dk_at dksX3_init_1 11 rfl rfl)
theorem dX3_init_35 : decode cX3_init 35 = .ok (.invokespecial 21, 3) := dk_183 0 21 (dk_at dksX3_init_1 12 rfl rfl)
theorem dX3_init_38 : decode cX3_init 38 = .ok (.aastore, 1) := dk_83 (dk_at dksX3_init_1 15 rfl rfl)
theorem dX3_init_39 : decode cX3_init 39 = .ok (.iinc 1 1, 3) := dk_132 1 1 (dk_at dksX3_init_1 16 rfl rfl)
theorem dX3_init_42 : decode cX3_init 42 = .ok (.goto (-22), 3) := dk_167 255 234 (dk_at dksX3_init_1 19 rfl rfl)
theorem dX3_init_45 : decode cX3_init 45 = .ok (.return_, 1) := dk_177 (dk_at dksX3_init_1 22 rfl rfl)
abbrev cX3_reams : ByteArray := prog_2_method_3_code
def yX3_reams : MethodName := ⟨RX3, "reams", "()Ljava/util/List;"⟩
def dkwX3_reams_2 : List UInt8 := [167, 255, 231, 43, 176]
abbrev dktX3_reams_2 : List UInt8 := dkwX3_reams_2 ++ []
def dkwX3_reams_1 : List UInt8 := [162, 0, 25, 44, 21, 4, 50, 58, 5, 43, 25, 5, 180, 0, 42, 182, 0, 46, 87, 132, 4, 1]
abbrev dktX3_reams_1 : List UInt8 := dkwX3_reams_1 ++ dktX3_reams_2
def dkwX3_reams_0 : List UInt8 := [187, 0, 39, 89, 183, 0, 41, 76, 42, 180, 0, 11, 77, 44, 190, 62, 3, 54, 4, 21, 4, 29]
abbrev dktX3_reams_0 : List UInt8 := dkwX3_reams_0 ++ dktX3_reams_1
theorem dksX3_reams_0 : cX3_reams.data.toList.drop 0 = dktX3_reams_0 := by decide +kernel
theorem dksX3_reams_1 : cX3_reams.data.toList.drop 22 = dktX3_reams_1 := dk_seg dksX3_reams_0 22 rfl rfl
theorem dksX3_reams_2 : cX3_reams.data.toList.drop 44 = dktX3_reams_2 := dk_seg dksX3_reams_1 22 rfl rfl
theorem dX3_reams_0 : decode cX3_reams 0 = .ok (.new 39, 3) := dk_187 0 39 (dk_at dksX3_reams_0 0 rfl rfl)
theorem dX3_reams_3 : decode cX3_reams 3 = .ok (.dup, 1) := dk_89 (dk_at dksX3_reams_0 3 rfl rfl)
theorem dX3_reams_4 : decode cX3_reams 4 = .ok (.invokespecial 41, 3) := dk_183 0 41 (dk_at dksX3_reams_0 4 rfl rfl)
theorem dX3_reams_7 : decode cX3_reams 7 = .ok (.astore_n 1, 1) := dk_76 (dk_at dksX3_reams_0 7 rfl rfl)
theorem dX3_reams_8 : decode cX3_reams 8 = .ok (.aload_n 0, 1) := dk_42 (dk_at dksX3_reams_0 8 rfl rfl)
theorem dX3_reams_9 : decode cX3_reams 9 = .ok (.getfield 11, 3) := dk_180 0 11 (dk_at dksX3_reams_0 9 rfl rfl)
theorem dX3_reams_12 : decode cX3_reams 12 = .ok (.astore_n 2, 1) := dk_77 (dk_at dksX3_reams_0 12 rfl rfl)
theorem dX3_reams_13 : decode cX3_reams 13 = .ok (.aload_n 2, 1) := dk_44 (dk_at dksX3_reams_0 13 rfl rfl)
theorem dX3_reams_14 : decode cX3_reams 14 = .ok (.arraylength, 1) := dk_190 (dk_at dksX3_reams_0 14 rfl rfl)
theorem dX3_reams_15 : decode cX3_reams 15 = .ok (.istore_n 3, 1) := dk_62 (dk_at dksX3_reams_0 15 rfl rfl)
theorem dX3_reams_16 : decode cX3_reams 16 = .ok (.iconst 0, 1) := dk_3 (dk_at dksX3_reams_0 16 rfl rfl)
theorem dX3_reams_17 : decode cX3_reams 17 = .ok (.istore 4, 2) := dk_54 4 (dk_at dksX3_reams_0 17 rfl rfl)
theorem dX3_reams_19 : decode cX3_reams 19 = .ok (.iload 4, 2) := dk_21 4 (dk_at dksX3_reams_0 19 rfl rfl)
theorem dX3_reams_21 : decode cX3_reams 21 = .ok (.iload_n 3, 1) := dk_29 (dk_at dksX3_reams_0 21 rfl rfl)
theorem dX3_reams_22 : decode cX3_reams 22 = .ok (.if_icmp .ge 25, 3) := dk_162 0 25 (dk_at dksX3_reams_1 0 rfl rfl)
theorem dX3_reams_25 : decode cX3_reams 25 = .ok (.aload_n 2, 1) := dk_44 (dk_at dksX3_reams_1 3 rfl rfl)
theorem dX3_reams_26 : decode cX3_reams 26 = .ok (.iload 4, 2) := dk_21 4 (dk_at dksX3_reams_1 4 rfl rfl)
theorem dX3_reams_28 : decode cX3_reams 28 = .ok (.aaload, 1) := dk_50 (dk_at dksX3_reams_1 6 rfl rfl)
theorem dX3_reams_29 : decode cX3_reams 29 = .ok (.astore 5, 2) := dk_58 5 (dk_at dksX3_reams_1 7 rfl rfl)
theorem dX3_reams_31 : decode cX3_reams 31 = .ok (.aload_n 1, 1) := dk_43 (dk_at dksX3_reams_1 9 rfl rfl)
theorem dX3_reams_32 : decode cX3_reams 32 = .ok (.aload 5, 2) := dk_25 5 (dk_at dksX3_reams_1 10 rfl rfl)
theorem dX3_reams_34 : decode cX3_reams 34 = .ok (.getfield 42, 3) := dk_180 0 42 (dk_at dksX3_reams_1 12 rfl rfl)
theorem dX3_reams_37 : decode cX3_reams 37 = .ok (.invokevirtual 46, 3) := dk_182 0 46 (dk_at dksX3_reams_1 15 rfl rfl)
theorem dX3_reams_40 : decode cX3_reams 40 = .ok (.pop, 1) := dk_87 (dk_at dksX3_reams_1 18 rfl rfl)
theorem dX3_reams_41 : decode cX3_reams 41 = .ok (.iinc 4 1, 3) := dk_132 4 1 (dk_at dksX3_reams_1 19 rfl rfl)
theorem dX3_reams_44 : decode cX3_reams 44 = .ok (.goto (-25), 3) := dk_167 255 231 (dk_at dksX3_reams_2 0 rfl rfl)
theorem dX3_reams_47 : decode cX3_reams 47 = .ok (.aload_n 1, 1) := dk_43 (dk_at dksX3_reams_2 3 rfl rfl)
theorem dX3_reams_48 : decode cX3_reams 48 = .ok (.areturn, 1) := dk_176 (dk_at dksX3_reams_2 4 rfl rfl)
abbrev cX3_copy : ByteArray := prog_2_method_2_code
def yX3_copy : MethodName := ⟨RX3, "copy", "()LPaperStore$Aisle;"⟩
def dkwX3_copy_3 : List UInt8 := [42, 180, 0, 36, 181, 0, 36, 43, 176]
abbrev dktX3_copy_3 : List UInt8 := dkwX3_copy_3 ++ []
def dkwX3_copy_2 : List UInt8 := [42, 180, 0, 27, 181, 0, 27, 43, 42, 180, 0, 30, 181, 0, 30, 43, 42, 180, 0, 33, 181, 0, 33, 43]
abbrev dktX3_copy_2 : List UInt8 := dkwX3_copy_2 ++ dktX3_copy_3
def dkwX3_copy_1 : List UInt8 := [180, 0, 11, 28, 50, 182, 0, 23, 83, 132, 2, 1, 167, 255, 232, 43, 42, 180, 0, 17, 181, 0, 17, 43]
abbrev dktX3_copy_1 : List UInt8 := dkwX3_copy_1 ++ dktX3_copy_2
def dkwX3_copy_0 : List UInt8 := [187, 0, 12, 89, 183, 0, 22, 76, 3, 61, 28, 16, 6, 162, 0, 24, 43, 180, 0, 11, 28, 42]
abbrev dktX3_copy_0 : List UInt8 := dkwX3_copy_0 ++ dktX3_copy_1
theorem dksX3_copy_0 : cX3_copy.data.toList.drop 0 = dktX3_copy_0 := by decide +kernel
theorem dksX3_copy_1 : cX3_copy.data.toList.drop 22 = dktX3_copy_1 := dk_seg dksX3_copy_0 22 rfl rfl
theorem dksX3_copy_2 : cX3_copy.data.toList.drop 46 = dktX3_copy_2 := dk_seg dksX3_copy_1 24 rfl rfl
theorem dksX3_copy_3 : cX3_copy.data.toList.drop 70 = dktX3_copy_3 := dk_seg dksX3_copy_2 24 rfl rfl
theorem dX3_copy_0 : decode cX3_copy 0 = .ok (.new 12, 3) := dk_187 0 12 (dk_at dksX3_copy_0 0 rfl rfl)
theorem dX3_copy_3 : decode cX3_copy 3 = .ok (.dup, 1) := dk_89 (dk_at dksX3_copy_0 3 rfl rfl)
theorem dX3_copy_4 : decode cX3_copy 4 = .ok (.invokespecial 22, 3) := dk_183 0 22 (dk_at dksX3_copy_0 4 rfl rfl)
theorem dX3_copy_7 : decode cX3_copy 7 = .ok (.astore_n 1, 1) := dk_76 (dk_at dksX3_copy_0 7 rfl rfl)
theorem dX3_copy_8 : decode cX3_copy 8 = .ok (.iconst 0, 1) := dk_3 (dk_at dksX3_copy_0 8 rfl rfl)
theorem dX3_copy_9 : decode cX3_copy 9 = .ok (.istore_n 2, 1) := dk_61 (dk_at dksX3_copy_0 9 rfl rfl)
theorem dX3_copy_10 : decode cX3_copy 10 = .ok (.iload_n 2, 1) := dk_28 (dk_at dksX3_copy_0 10 rfl rfl)
theorem dX3_copy_11 : decode cX3_copy 11 = .ok (.bipush 6, 2) := dk_16 6 (dk_at dksX3_copy_0 11 rfl rfl)
theorem dX3_copy_13 : decode cX3_copy 13 = .ok (.if_icmp .ge 24, 3) := dk_162 0 24 (dk_at dksX3_copy_0 13 rfl rfl)
theorem dX3_copy_16 : decode cX3_copy 16 = .ok (.aload_n 1, 1) := dk_43 (dk_at dksX3_copy_0 16 rfl rfl)
theorem dX3_copy_17 : decode cX3_copy 17 = .ok (.getfield 11, 3) := dk_180 0 11 (dk_at dksX3_copy_0 17 rfl rfl)
theorem dX3_copy_20 : decode cX3_copy 20 = .ok (.iload_n 2, 1) := dk_28 (dk_at dksX3_copy_0 20 rfl rfl)
theorem dX3_copy_21 : decode cX3_copy 21 = .ok (.aload_n 0, 1) := dk_42 (dk_at dksX3_copy_0 21 rfl rfl)
theorem dX3_copy_22 : decode cX3_copy 22 = .ok (.getfield 11, 3) := dk_180 0 11 (dk_at dksX3_copy_1 0 rfl rfl)
theorem dX3_copy_25 : decode cX3_copy 25 = .ok (.iload_n 2, 1) := dk_28 (dk_at dksX3_copy_1 3 rfl rfl)
theorem dX3_copy_26 : decode cX3_copy 26 = .ok (.aaload, 1) := dk_50 (dk_at dksX3_copy_1 4 rfl rfl)
theorem dX3_copy_27 : decode cX3_copy 27 = .ok (.invokevirtual 23, 3) := dk_182 0 23 (dk_at dksX3_copy_1 5 rfl rfl)
theorem dX3_copy_30 : decode cX3_copy 30 = .ok (.aastore, 1) := dk_83 (dk_at dksX3_copy_1 8 rfl rfl)
theorem dX3_copy_31 : decode cX3_copy 31 = .ok (.iinc 2 1, 3) := dk_132 2 1 (dk_at dksX3_copy_1 9 rfl rfl)
theorem dX3_copy_34 : decode cX3_copy 34 = .ok (.goto (-24), 3) := dk_167 255 232 (dk_at dksX3_copy_1 12 rfl rfl)
theorem dX3_copy_37 : decode cX3_copy 37 = .ok (.aload_n 1, 1) := dk_43 (dk_at dksX3_copy_1 15 rfl rfl)
theorem dX3_copy_38 : decode cX3_copy 38 = .ok (.aload_n 0, 1) := dk_42 (dk_at dksX3_copy_1 16 rfl rfl)
theorem dX3_copy_39 : decode cX3_copy 39 = .ok (.getfield 17, 3) := dk_180 0 17 (dk_at dksX3_copy_1 17 rfl rfl)
theorem dX3_copy_42 : decode cX3_copy 42 = .ok (.putfield 17, 3) := dk_181 0 17 (dk_at dksX3_copy_1 20 rfl rfl)
theorem dX3_copy_45 : decode cX3_copy 45 = .ok (.aload_n 1, 1) := dk_43 (dk_at dksX3_copy_1 23 rfl rfl)
theorem dX3_copy_46 : decode cX3_copy 46 = .ok (.aload_n 0, 1) := dk_42 (dk_at dksX3_copy_2 0 rfl rfl)
theorem dX3_copy_47 : decode cX3_copy 47 = .ok (.getfield 27, 3) := dk_180 0 27 (dk_at dksX3_copy_2 1 rfl rfl)
theorem dX3_copy_50 : decode cX3_copy 50 = .ok (.putfield 27, 3) := dk_181 0 27 (dk_at dksX3_copy_2 4 rfl rfl)
theorem dX3_copy_53 : decode cX3_copy 53 = .ok (.aload_n 1, 1) := dk_43 (dk_at dksX3_copy_2 7 rfl rfl)
theorem dX3_copy_54 : decode cX3_copy 54 = .ok (.aload_n 0, 1) := dk_42 (dk_at dksX3_copy_2 8 rfl rfl)
theorem dX3_copy_55 : decode cX3_copy 55 = .ok (.getfield 30, 3) := dk_180 0 30 (dk_at dksX3_copy_2 9 rfl rfl)
theorem dX3_copy_58 : decode cX3_copy 58 = .ok (.putfield 30, 3) := dk_181 0 30 (dk_at dksX3_copy_2 12 rfl rfl)
theorem dX3_copy_61 : decode cX3_copy 61 = .ok (.aload_n 1, 1) := dk_43 (dk_at dksX3_copy_2 15 rfl rfl)
theorem dX3_copy_62 : decode cX3_copy 62 = .ok (.aload_n 0, 1) := dk_42 (dk_at dksX3_copy_2 16 rfl rfl)
theorem dX3_copy_63 : decode cX3_copy 63 = .ok (.getfield 33, 3) := dk_180 0 33 (dk_at dksX3_copy_2 17 rfl rfl)
theorem dX3_copy_66 : decode cX3_copy 66 = .ok (.putfield 33, 3) := dk_181 0 33 (dk_at dksX3_copy_2 20 rfl rfl)
theorem dX3_copy_69 : decode cX3_copy 69 = .ok (.aload_n 1, 1) := dk_43 (dk_at dksX3_copy_2 23 rfl rfl)
theorem dX3_copy_70 : decode cX3_copy 70 = .ok (.aload_n 0, 1) := dk_42 (dk_at dksX3_copy_3 0 rfl rfl)
theorem dX3_copy_71 : decode cX3_copy 71 = .ok (.getfield 36, 3) := dk_180 0 36 (dk_at dksX3_copy_3 1 rfl rfl)
theorem dX3_copy_74 : decode cX3_copy 74 = .ok (.putfield 36, 3) := dk_181 0 36 (dk_at dksX3_copy_3 4 rfl rfl)
theorem dX3_copy_77 : decode cX3_copy 77 = .ok (.aload_n 1, 1) := dk_43 (dk_at dksX3_copy_3 7 rfl rfl)
theorem dX3_copy_78 : decode cX3_copy 78 = .ok (.areturn, 1) := dk_176 (dk_at dksX3_copy_3 8 rfl rfl)
abbrev cX3_quires : ByteArray := prog_2_method_4_code
def yX3_quires : MethodName := ⟨RX3, "quires", "()I"⟩
def dkwX3_quires_1 : List UInt8 := [185, 0, 65, 1, 0, 192, 0, 69, 78, 27, 45, 180, 0, 71, 96, 60, 167, 255, 230, 27, 172]
abbrev dktX3_quires_1 : List UInt8 := dkwX3_quires_1 ++ []
def dkwX3_quires_0 : List UInt8 := [3, 60, 42, 182, 0, 50, 185, 0, 53, 1, 0, 77, 44, 185, 0, 59, 1, 0, 153, 0, 23, 44]
abbrev dktX3_quires_0 : List UInt8 := dkwX3_quires_0 ++ dktX3_quires_1
theorem dksX3_quires_0 : cX3_quires.data.toList.drop 0 = dktX3_quires_0 := by decide +kernel
theorem dksX3_quires_1 : cX3_quires.data.toList.drop 22 = dktX3_quires_1 := dk_seg dksX3_quires_0 22 rfl rfl
theorem dX3_quires_0 : decode cX3_quires 0 = .ok (.iconst 0, 1) := dk_3 (dk_at dksX3_quires_0 0 rfl rfl)
theorem dX3_quires_1 : decode cX3_quires 1 = .ok (.istore_n 1, 1) := dk_60 (dk_at dksX3_quires_0 1 rfl rfl)
theorem dX3_quires_2 : decode cX3_quires 2 = .ok (.aload_n 0, 1) := dk_42 (dk_at dksX3_quires_0 2 rfl rfl)
theorem dX3_quires_3 : decode cX3_quires 3 = .ok (.invokevirtual 50, 3) := dk_182 0 50 (dk_at dksX3_quires_0 3 rfl rfl)
theorem dX3_quires_6 : decode cX3_quires 6 = .ok (.invokeinterface 53 1, 5) := by decide +kernel
theorem dX3_quires_11 : decode cX3_quires 11 = .ok (.astore_n 2, 1) := dk_77 (dk_at dksX3_quires_0 11 rfl rfl)
theorem dX3_quires_12 : decode cX3_quires 12 = .ok (.aload_n 2, 1) := dk_44 (dk_at dksX3_quires_0 12 rfl rfl)
theorem dX3_quires_13 : decode cX3_quires 13 = .ok (.invokeinterface 59 1, 5) := by decide +kernel
theorem dX3_quires_18 : decode cX3_quires 18 = .ok (.ifCond .eq 23, 3) := dk_153 0 23 (dk_at dksX3_quires_0 18 rfl rfl)
theorem dX3_quires_21 : decode cX3_quires 21 = .ok (.aload_n 2, 1) := dk_44 (dk_at dksX3_quires_0 21 rfl rfl)
theorem dX3_quires_22 : decode cX3_quires 22 = .ok (.invokeinterface 65 1, 5) := by decide +kernel
theorem dX3_quires_27 : decode cX3_quires 27 = .ok (.checkcast 69, 3) := dk_192 0 69 (dk_at dksX3_quires_1 5 rfl rfl)
theorem dX3_quires_30 : decode cX3_quires 30 = .ok (.astore_n 3, 1) := dk_78 (dk_at dksX3_quires_1 8 rfl rfl)
theorem dX3_quires_31 : decode cX3_quires 31 = .ok (.iload_n 1, 1) := dk_27 (dk_at dksX3_quires_1 9 rfl rfl)
theorem dX3_quires_32 : decode cX3_quires 32 = .ok (.aload_n 3, 1) := dk_45 (dk_at dksX3_quires_1 10 rfl rfl)
theorem dX3_quires_33 : decode cX3_quires 33 = .ok (.getfield 71, 3) := dk_180 0 71 (dk_at dksX3_quires_1 11 rfl rfl)
theorem dX3_quires_36 : decode cX3_quires 36 = .ok (.iadd, 1) := dk_96 (dk_at dksX3_quires_1 14 rfl rfl)
theorem dX3_quires_37 : decode cX3_quires 37 = .ok (.istore_n 1, 1) := dk_60 (dk_at dksX3_quires_1 15 rfl rfl)
theorem dX3_quires_38 : decode cX3_quires 38 = .ok (.goto (-26), 3) := dk_167 255 230 (dk_at dksX3_quires_1 16 rfl rfl)
theorem dX3_quires_41 : decode cX3_quires 41 = .ok (.iload_n 1, 1) := dk_27 (dk_at dksX3_quires_1 19 rfl rfl)
theorem dX3_quires_42 : decode cX3_quires 42 = .ok (.ireturn, 1) := dk_172 (dk_at dksX3_quires_1 20 rfl rfl)
abbrev cX3_isEaten : ByteArray := prog_2_method_6_code
def yX3_isEaten : MethodName := ⟨RX3, "isEaten", "()I"⟩
def dkwX3_isEaten_6 : List UInt8 := [96, 181, 0, 36, 28, 172]
abbrev dktX3_isEaten_6 : List UInt8 := dkwX3_isEaten_6 ++ []
def dkwX3_isEaten_5 : List UInt8 := [180, 0, 30, 104, 184, 0, 82, 62, 42, 89, 180, 0, 27, 29, 100, 181, 0, 27, 42, 89, 180, 0, 36, 29]
abbrev dktX3_isEaten_5 : List UInt8 := dkwX3_isEaten_5 ++ dktX3_isEaten_6
def dkwX3_isEaten_4 : List UInt8 := [167, 0, 13, 3, 42, 180, 0, 27, 4, 100, 184, 0, 88, 181, 0, 27, 42, 180, 0, 27, 5, 42]
abbrev dktX3_isEaten_4 : List UInt8 := dkwX3_isEaten_4 ++ dktX3_isEaten_5
def dkwX3_isEaten_3 : List UInt8 := [181, 0, 33, 42, 28, 158, 0, 22, 16, 40, 42, 180, 0, 27, 42, 180, 0, 27, 7, 108, 96, 184, 0, 82]
abbrev dktX3_isEaten_3 : List UInt8 := dkwX3_isEaten_3 ++ dktX3_isEaten_4
def dkwX3_isEaten_2 : List UInt8 := [21, 7, 96, 61, 27, 21, 7, 100, 60, 132, 5, 1, 167, 255, 222, 42, 89, 180, 0, 33, 28, 96]
abbrev dktX3_isEaten_2 : List UInt8 := dkwX3_isEaten_2 ++ dktX3_isEaten_3
def dkwX3_isEaten_1 : List UInt8 := [54, 5, 21, 5, 21, 4, 162, 0, 33, 45, 21, 5, 50, 58, 6, 25, 6, 27, 182, 0, 78, 54, 7, 28]
abbrev dktX3_isEaten_1 : List UInt8 := dkwX3_isEaten_1 ++ dktX3_isEaten_2
def dkwX3_isEaten_0 : List UInt8 := [42, 180, 0, 27, 6, 96, 4, 100, 6, 108, 60, 3, 61, 42, 180, 0, 11, 78, 45, 190, 54, 4, 3]
abbrev dktX3_isEaten_0 : List UInt8 := dkwX3_isEaten_0 ++ dktX3_isEaten_1
theorem dksX3_isEaten_0 : cX3_isEaten.data.toList.drop 0 = dktX3_isEaten_0 := by decide +kernel
theorem dksX3_isEaten_1 : cX3_isEaten.data.toList.drop 23 = dktX3_isEaten_1 := dk_seg dksX3_isEaten_0 23 rfl rfl
theorem dksX3_isEaten_2 : cX3_isEaten.data.toList.drop 47 = dktX3_isEaten_2 := dk_seg dksX3_isEaten_1 24 rfl rfl
theorem dksX3_isEaten_3 : cX3_isEaten.data.toList.drop 69 = dktX3_isEaten_3 := dk_seg dksX3_isEaten_2 22 rfl rfl
theorem dksX3_isEaten_4 : cX3_isEaten.data.toList.drop 93 = dktX3_isEaten_4 := dk_seg dksX3_isEaten_3 24 rfl rfl
theorem dksX3_isEaten_5 : cX3_isEaten.data.toList.drop 115 = dktX3_isEaten_5 := dk_seg dksX3_isEaten_4 22 rfl rfl
theorem dksX3_isEaten_6 : cX3_isEaten.data.toList.drop 139 = dktX3_isEaten_6 := dk_seg dksX3_isEaten_5 24 rfl rfl
theorem dX3_isEaten_0 : decode cX3_isEaten 0 = .ok (.aload_n 0, 1) := dk_42 (dk_at dksX3_isEaten_0 0 rfl rfl)
theorem dX3_isEaten_1 : decode cX3_isEaten 1 = .ok (.getfield 27, 3) := dk_180 0 27 (dk_at dksX3_isEaten_0 1 rfl rfl)
theorem dX3_isEaten_4 : decode cX3_isEaten 4 = .ok (.iconst 3, 1) := dk_6 (dk_at dksX3_isEaten_0 4 rfl rfl)
theorem dX3_isEaten_5 : decode cX3_isEaten 5 = .ok (.iadd, 1) := dk_96 (dk_at dksX3_isEaten_0 5 rfl rfl)
theorem dX3_isEaten_6 : decode cX3_isEaten 6 = .ok (.iconst 1, 1) := dk_4 (dk_at dksX3_isEaten_0 6 rfl rfl)
theorem dX3_isEaten_7 : decode cX3_isEaten 7 = .ok (.isub, 1) := dk_100 (dk_at dksX3_isEaten_0 7 rfl rfl)
theorem dX3_isEaten_8 : decode cX3_isEaten 8 = .ok (.iconst 3, 1) := dk_6 (dk_at dksX3_isEaten_0 8 rfl rfl)
theorem dX3_isEaten_9 : decode cX3_isEaten 9 = .ok (.idiv, 1) := dk_108 (dk_at dksX3_isEaten_0 9 rfl rfl)
theorem dX3_isEaten_10 : decode cX3_isEaten 10 = .ok (.istore_n 1, 1) := dk_60 (dk_at dksX3_isEaten_0 10 rfl rfl)
theorem dX3_isEaten_11 : decode cX3_isEaten 11 = .ok (.iconst 0, 1) := dk_3 (dk_at dksX3_isEaten_0 11 rfl rfl)
theorem dX3_isEaten_12 : decode cX3_isEaten 12 = .ok (.istore_n 2, 1) := dk_61 (dk_at dksX3_isEaten_0 12 rfl rfl)
theorem dX3_isEaten_13 : decode cX3_isEaten 13 = .ok (.aload_n 0, 1) := dk_42 (dk_at dksX3_isEaten_0 13 rfl rfl)
theorem dX3_isEaten_14 : decode cX3_isEaten 14 = .ok (.getfield 11, 3) := dk_180 0 11 (dk_at dksX3_isEaten_0 14 rfl rfl)
theorem dX3_isEaten_17 : decode cX3_isEaten 17 = .ok (.astore_n 3, 1) := dk_78 (dk_at dksX3_isEaten_0 17 rfl rfl)
theorem dX3_isEaten_18 : decode cX3_isEaten 18 = .ok (.aload_n 3, 1) := dk_45 (dk_at dksX3_isEaten_0 18 rfl rfl)
theorem dX3_isEaten_19 : decode cX3_isEaten 19 = .ok (.arraylength, 1) := dk_190 (dk_at dksX3_isEaten_0 19 rfl rfl)
theorem dX3_isEaten_20 : decode cX3_isEaten 20 = .ok (.istore 4, 2) := dk_54 4 (dk_at dksX3_isEaten_0 20 rfl rfl)
theorem dX3_isEaten_22 : decode cX3_isEaten 22 = .ok (.iconst 0, 1) := dk_3 (dk_at dksX3_isEaten_0 22 rfl rfl)
theorem dX3_isEaten_23 : decode cX3_isEaten 23 = .ok (.istore 5, 2) := dk_54 5 (dk_at dksX3_isEaten_1 0 rfl rfl)
theorem dX3_isEaten_25 : decode cX3_isEaten 25 = .ok (.iload 5, 2) := dk_21 5 (dk_at dksX3_isEaten_1 2 rfl rfl)
theorem dX3_isEaten_27 : decode cX3_isEaten 27 = .ok (.iload 4, 2) := dk_21 4 (dk_at dksX3_isEaten_1 4 rfl rfl)
theorem dX3_isEaten_29 : decode cX3_isEaten 29 = .ok (.if_icmp .ge 33, 3) := dk_162 0 33 (dk_at dksX3_isEaten_1 6 rfl rfl)
theorem dX3_isEaten_32 : decode cX3_isEaten 32 = .ok (.aload_n 3, 1) := dk_45 (dk_at dksX3_isEaten_1 9 rfl rfl)
theorem dX3_isEaten_33 : decode cX3_isEaten 33 = .ok (.iload 5, 2) := dk_21 5 (dk_at dksX3_isEaten_1 10 rfl rfl)
theorem dX3_isEaten_35 : decode cX3_isEaten 35 = .ok (.aaload, 1) := dk_50 (dk_at dksX3_isEaten_1 12 rfl rfl)
theorem dX3_isEaten_36 : decode cX3_isEaten 36 = .ok (.astore 6, 2) := dk_58 6 (dk_at dksX3_isEaten_1 13 rfl rfl)
theorem dX3_isEaten_38 : decode cX3_isEaten 38 = .ok (.aload 6, 2) := dk_25 6 (dk_at dksX3_isEaten_1 15 rfl rfl)
theorem dX3_isEaten_40 : decode cX3_isEaten 40 = .ok (.iload_n 1, 1) := dk_27 (dk_at dksX3_isEaten_1 17 rfl rfl)
theorem dX3_isEaten_41 : decode cX3_isEaten 41 = .ok (.invokevirtual 78, 3) := dk_182 0 78 (dk_at dksX3_isEaten_1 18 rfl rfl)
theorem dX3_isEaten_44 : decode cX3_isEaten 44 = .ok (.istore 7, 2) := dk_54 7 (dk_at dksX3_isEaten_1 21 rfl rfl)
theorem dX3_isEaten_46 : decode cX3_isEaten 46 = .ok (.iload_n 2, 1) := dk_28 (dk_at dksX3_isEaten_1 23 rfl rfl)
theorem dX3_isEaten_47 : decode cX3_isEaten 47 = .ok (.iload 7, 2) := dk_21 7 (dk_at dksX3_isEaten_2 0 rfl rfl)
theorem dX3_isEaten_49 : decode cX3_isEaten 49 = .ok (.iadd, 1) := dk_96 (dk_at dksX3_isEaten_2 2 rfl rfl)
theorem dX3_isEaten_50 : decode cX3_isEaten 50 = .ok (.istore_n 2, 1) := dk_61 (dk_at dksX3_isEaten_2 3 rfl rfl)
theorem dX3_isEaten_51 : decode cX3_isEaten 51 = .ok (.iload_n 1, 1) := dk_27 (dk_at dksX3_isEaten_2 4 rfl rfl)
theorem dX3_isEaten_52 : decode cX3_isEaten 52 = .ok (.iload 7, 2) := dk_21 7 (dk_at dksX3_isEaten_2 5 rfl rfl)
theorem dX3_isEaten_54 : decode cX3_isEaten 54 = .ok (.isub, 1) := dk_100 (dk_at dksX3_isEaten_2 7 rfl rfl)
theorem dX3_isEaten_55 : decode cX3_isEaten 55 = .ok (.istore_n 1, 1) := dk_60 (dk_at dksX3_isEaten_2 8 rfl rfl)
theorem dX3_isEaten_56 : decode cX3_isEaten 56 = .ok (.iinc 5 1, 3) := dk_132 5 1 (dk_at dksX3_isEaten_2 9 rfl rfl)
theorem dX3_isEaten_59 : decode cX3_isEaten 59 = .ok (.goto (-34), 3) := dk_167 255 222 (dk_at dksX3_isEaten_2 12 rfl rfl)
theorem dX3_isEaten_62 : decode cX3_isEaten 62 = .ok (.aload_n 0, 1) := dk_42 (dk_at dksX3_isEaten_2 15 rfl rfl)
theorem dX3_isEaten_63 : decode cX3_isEaten 63 = .ok (.dup, 1) := dk_89 (dk_at dksX3_isEaten_2 16 rfl rfl)
theorem dX3_isEaten_64 : decode cX3_isEaten 64 = .ok (.getfield 33, 3) := dk_180 0 33 (dk_at dksX3_isEaten_2 17 rfl rfl)
theorem dX3_isEaten_67 : decode cX3_isEaten 67 = .ok (.iload_n 2, 1) := dk_28 (dk_at dksX3_isEaten_2 20 rfl rfl)
theorem dX3_isEaten_68 : decode cX3_isEaten 68 = .ok (.iadd, 1) := dk_96 (dk_at dksX3_isEaten_2 21 rfl rfl)
theorem dX3_isEaten_69 : decode cX3_isEaten 69 = .ok (.putfield 33, 3) := dk_181 0 33 (dk_at dksX3_isEaten_3 0 rfl rfl)
theorem dX3_isEaten_72 : decode cX3_isEaten 72 = .ok (.aload_n 0, 1) := dk_42 (dk_at dksX3_isEaten_3 3 rfl rfl)
theorem dX3_isEaten_73 : decode cX3_isEaten 73 = .ok (.iload_n 2, 1) := dk_28 (dk_at dksX3_isEaten_3 4 rfl rfl)
theorem dX3_isEaten_74 : decode cX3_isEaten 74 = .ok (.ifCond .le 22, 3) := dk_158 0 22 (dk_at dksX3_isEaten_3 5 rfl rfl)
theorem dX3_isEaten_77 : decode cX3_isEaten 77 = .ok (.bipush 40, 2) := dk_16 40 (dk_at dksX3_isEaten_3 8 rfl rfl)
theorem dX3_isEaten_79 : decode cX3_isEaten 79 = .ok (.aload_n 0, 1) := dk_42 (dk_at dksX3_isEaten_3 10 rfl rfl)
theorem dX3_isEaten_80 : decode cX3_isEaten 80 = .ok (.getfield 27, 3) := dk_180 0 27 (dk_at dksX3_isEaten_3 11 rfl rfl)
theorem dX3_isEaten_83 : decode cX3_isEaten 83 = .ok (.aload_n 0, 1) := dk_42 (dk_at dksX3_isEaten_3 14 rfl rfl)
theorem dX3_isEaten_84 : decode cX3_isEaten 84 = .ok (.getfield 27, 3) := dk_180 0 27 (dk_at dksX3_isEaten_3 15 rfl rfl)
theorem dX3_isEaten_87 : decode cX3_isEaten 87 = .ok (.iconst 4, 1) := dk_7 (dk_at dksX3_isEaten_3 18 rfl rfl)
theorem dX3_isEaten_88 : decode cX3_isEaten 88 = .ok (.idiv, 1) := dk_108 (dk_at dksX3_isEaten_3 19 rfl rfl)
theorem dX3_isEaten_89 : decode cX3_isEaten 89 = .ok (.iadd, 1) := dk_96 (dk_at dksX3_isEaten_3 20 rfl rfl)
theorem dX3_isEaten_90 : decode cX3_isEaten 90 = .ok (.invokestatic 82, 3) := dk_184 0 82 (dk_at dksX3_isEaten_3 21 rfl rfl)
theorem dX3_isEaten_93 : decode cX3_isEaten 93 = .ok (.goto 13, 3) := dk_167 0 13 (dk_at dksX3_isEaten_4 0 rfl rfl)
theorem dX3_isEaten_96 : decode cX3_isEaten 96 = .ok (.iconst 0, 1) := dk_3 (dk_at dksX3_isEaten_4 3 rfl rfl)
theorem dX3_isEaten_97 : decode cX3_isEaten 97 = .ok (.aload_n 0, 1) := dk_42 (dk_at dksX3_isEaten_4 4 rfl rfl)
theorem dX3_isEaten_98 : decode cX3_isEaten 98 = .ok (.getfield 27, 3) := dk_180 0 27 (dk_at dksX3_isEaten_4 5 rfl rfl)
theorem dX3_isEaten_101 : decode cX3_isEaten 101 = .ok (.iconst 1, 1) := dk_4 (dk_at dksX3_isEaten_4 8 rfl rfl)
theorem dX3_isEaten_102 : decode cX3_isEaten 102 = .ok (.isub, 1) := dk_100 (dk_at dksX3_isEaten_4 9 rfl rfl)
theorem dX3_isEaten_103 : decode cX3_isEaten 103 = .ok (.invokestatic 88, 3) := dk_184 0 88 (dk_at dksX3_isEaten_4 10 rfl rfl)
theorem dX3_isEaten_106 : decode cX3_isEaten 106 = .ok (.putfield 27, 3) := dk_181 0 27 (dk_at dksX3_isEaten_4 13 rfl rfl)
theorem dX3_isEaten_109 : decode cX3_isEaten 109 = .ok (.aload_n 0, 1) := dk_42 (dk_at dksX3_isEaten_4 16 rfl rfl)
theorem dX3_isEaten_110 : decode cX3_isEaten 110 = .ok (.getfield 27, 3) := dk_180 0 27 (dk_at dksX3_isEaten_4 17 rfl rfl)
theorem dX3_isEaten_113 : decode cX3_isEaten 113 = .ok (.iconst 2, 1) := dk_5 (dk_at dksX3_isEaten_4 20 rfl rfl)
theorem dX3_isEaten_114 : decode cX3_isEaten 114 = .ok (.aload_n 0, 1) := dk_42 (dk_at dksX3_isEaten_4 21 rfl rfl)
theorem dX3_isEaten_115 : decode cX3_isEaten 115 = .ok (.getfield 30, 3) := dk_180 0 30 (dk_at dksX3_isEaten_5 0 rfl rfl)
theorem dX3_isEaten_118 : decode cX3_isEaten 118 = .ok (.imul, 1) := dk_104 (dk_at dksX3_isEaten_5 3 rfl rfl)
theorem dX3_isEaten_119 : decode cX3_isEaten 119 = .ok (.invokestatic 82, 3) := dk_184 0 82 (dk_at dksX3_isEaten_5 4 rfl rfl)
theorem dX3_isEaten_122 : decode cX3_isEaten 122 = .ok (.istore_n 3, 1) := dk_62 (dk_at dksX3_isEaten_5 7 rfl rfl)
theorem dX3_isEaten_123 : decode cX3_isEaten 123 = .ok (.aload_n 0, 1) := dk_42 (dk_at dksX3_isEaten_5 8 rfl rfl)
theorem dX3_isEaten_124 : decode cX3_isEaten 124 = .ok (.dup, 1) := dk_89 (dk_at dksX3_isEaten_5 9 rfl rfl)
theorem dX3_isEaten_125 : decode cX3_isEaten 125 = .ok (.getfield 27, 3) := dk_180 0 27 (dk_at dksX3_isEaten_5 10 rfl rfl)
theorem dX3_isEaten_128 : decode cX3_isEaten 128 = .ok (.iload_n 3, 1) := dk_29 (dk_at dksX3_isEaten_5 13 rfl rfl)
theorem dX3_isEaten_129 : decode cX3_isEaten 129 = .ok (.isub, 1) := dk_100 (dk_at dksX3_isEaten_5 14 rfl rfl)
theorem dX3_isEaten_130 : decode cX3_isEaten 130 = .ok (.putfield 27, 3) := dk_181 0 27 (dk_at dksX3_isEaten_5 15 rfl rfl)
theorem dX3_isEaten_133 : decode cX3_isEaten 133 = .ok (.aload_n 0, 1) := dk_42 (dk_at dksX3_isEaten_5 18 rfl rfl)
theorem dX3_isEaten_134 : decode cX3_isEaten 134 = .ok (.dup, 1) := dk_89 (dk_at dksX3_isEaten_5 19 rfl rfl)
theorem dX3_isEaten_135 : decode cX3_isEaten 135 = .ok (.getfield 36, 3) := dk_180 0 36 (dk_at dksX3_isEaten_5 20 rfl rfl)
theorem dX3_isEaten_138 : decode cX3_isEaten 138 = .ok (.iload_n 3, 1) := dk_29 (dk_at dksX3_isEaten_5 23 rfl rfl)
theorem dX3_isEaten_139 : decode cX3_isEaten 139 = .ok (.iadd, 1) := dk_96 (dk_at dksX3_isEaten_6 0 rfl rfl)
theorem dX3_isEaten_140 : decode cX3_isEaten 140 = .ok (.putfield 36, 3) := dk_181 0 36 (dk_at dksX3_isEaten_6 1 rfl rfl)
theorem dX3_isEaten_143 : decode cX3_isEaten 143 = .ok (.iload_n 2, 1) := dk_28 (dk_at dksX3_isEaten_6 4 rfl rfl)
theorem dX3_isEaten_144 : decode cX3_isEaten 144 = .ok (.ireturn, 1) := dk_172 (dk_at dksX3_isEaten_6 5 rfl rfl)
abbrev cX3_gathers : ByteArray := prog_2_method_7_code
def yX3_gathers : MethodName := ⟨RX3, "gathers", "(LPaperStore$Paper;IIZ)I"⟩
def dkwX3_gathers_3 : List UInt8 := [132, 6, 1, 167, 255, 188, 21, 5, 172]
abbrev dktX3_gathers_3 : List UInt8 := dkwX3_gathers_3 ++ []
def dkwX3_gathers_2 : List UInt8 := [50, 42, 180, 0, 11, 21, 6, 50, 182, 0, 95, 21, 7, 182, 0, 99, 21, 5, 21, 7, 96, 54, 5]
abbrev dktX3_gathers_2 : List UInt8 := dkwX3_gathers_2 ++ dktX3_gathers_3
def dkwX3_gathers_1 : List UInt8 := [182, 0, 91, 184, 0, 82, 54, 7, 21, 4, 153, 0, 30, 21, 7, 158, 0, 25, 42, 180, 0, 11, 21, 6]
abbrev dktX3_gathers_1 : List UInt8 := dkwX3_gathers_1 ++ dktX3_gathers_2
def dkwX3_gathers_0 : List UInt8 := [3, 54, 5, 3, 54, 6, 21, 6, 28, 162, 0, 68, 29, 21, 5, 100, 42, 180, 0, 11, 21, 6, 50, 43]
abbrev dktX3_gathers_0 : List UInt8 := dkwX3_gathers_0 ++ dktX3_gathers_1
theorem dksX3_gathers_0 : cX3_gathers.data.toList.drop 0 = dktX3_gathers_0 := by decide +kernel
theorem dksX3_gathers_1 : cX3_gathers.data.toList.drop 24 = dktX3_gathers_1 := dk_seg dksX3_gathers_0 24 rfl rfl
theorem dksX3_gathers_2 : cX3_gathers.data.toList.drop 48 = dktX3_gathers_2 := dk_seg dksX3_gathers_1 24 rfl rfl
theorem dksX3_gathers_3 : cX3_gathers.data.toList.drop 71 = dktX3_gathers_3 := dk_seg dksX3_gathers_2 23 rfl rfl
theorem dX3_gathers_0 : decode cX3_gathers 0 = .ok (.iconst 0, 1) := dk_3 (dk_at dksX3_gathers_0 0 rfl rfl)
theorem dX3_gathers_1 : decode cX3_gathers 1 = .ok (.istore 5, 2) := dk_54 5 (dk_at dksX3_gathers_0 1 rfl rfl)
theorem dX3_gathers_3 : decode cX3_gathers 3 = .ok (.iconst 0, 1) := dk_3 (dk_at dksX3_gathers_0 3 rfl rfl)
theorem dX3_gathers_4 : decode cX3_gathers 4 = .ok (.istore 6, 2) := dk_54 6 (dk_at dksX3_gathers_0 4 rfl rfl)
theorem dX3_gathers_6 : decode cX3_gathers 6 = .ok (.iload 6, 2) := dk_21 6 (dk_at dksX3_gathers_0 6 rfl rfl)
theorem dX3_gathers_8 : decode cX3_gathers 8 = .ok (.iload_n 2, 1) := dk_28 (dk_at dksX3_gathers_0 8 rfl rfl)
theorem dX3_gathers_9 : decode cX3_gathers 9 = .ok (.if_icmp .ge 68, 3) := dk_162 0 68 (dk_at dksX3_gathers_0 9 rfl rfl)
theorem dX3_gathers_12 : decode cX3_gathers 12 = .ok (.iload_n 3, 1) := dk_29 (dk_at dksX3_gathers_0 12 rfl rfl)
theorem dX3_gathers_13 : decode cX3_gathers 13 = .ok (.iload 5, 2) := dk_21 5 (dk_at dksX3_gathers_0 13 rfl rfl)
theorem dX3_gathers_15 : decode cX3_gathers 15 = .ok (.isub, 1) := dk_100 (dk_at dksX3_gathers_0 15 rfl rfl)
theorem dX3_gathers_16 : decode cX3_gathers 16 = .ok (.aload_n 0, 1) := dk_42 (dk_at dksX3_gathers_0 16 rfl rfl)
theorem dX3_gathers_17 : decode cX3_gathers 17 = .ok (.getfield 11, 3) := dk_180 0 11 (dk_at dksX3_gathers_0 17 rfl rfl)
theorem dX3_gathers_20 : decode cX3_gathers 20 = .ok (.iload 6, 2) := dk_21 6 (dk_at dksX3_gathers_0 20 rfl rfl)
theorem dX3_gathers_22 : decode cX3_gathers 22 = .ok (.aaload, 1) := dk_50 (dk_at dksX3_gathers_0 22 rfl rfl)
theorem dX3_gathers_23 : decode cX3_gathers 23 = .ok (.aload_n 1, 1) := dk_43 (dk_at dksX3_gathers_0 23 rfl rfl)
theorem dX3_gathers_24 : decode cX3_gathers 24 = .ok (.invokevirtual 91, 3) := dk_182 0 91 (dk_at dksX3_gathers_1 0 rfl rfl)
theorem dX3_gathers_27 : decode cX3_gathers 27 = .ok (.invokestatic 82, 3) := dk_184 0 82 (dk_at dksX3_gathers_1 3 rfl rfl)
theorem dX3_gathers_30 : decode cX3_gathers 30 = .ok (.istore 7, 2) := dk_54 7 (dk_at dksX3_gathers_1 6 rfl rfl)
theorem dX3_gathers_32 : decode cX3_gathers 32 = .ok (.iload 4, 2) := dk_21 4 (dk_at dksX3_gathers_1 8 rfl rfl)
theorem dX3_gathers_34 : decode cX3_gathers 34 = .ok (.ifCond .eq 30, 3) := dk_153 0 30 (dk_at dksX3_gathers_1 10 rfl rfl)
theorem dX3_gathers_37 : decode cX3_gathers 37 = .ok (.iload 7, 2) := dk_21 7 (dk_at dksX3_gathers_1 13 rfl rfl)
theorem dX3_gathers_39 : decode cX3_gathers 39 = .ok (.ifCond .le 25, 3) := dk_158 0 25 (dk_at dksX3_gathers_1 15 rfl rfl)
theorem dX3_gathers_42 : decode cX3_gathers 42 = .ok (.aload_n 0, 1) := dk_42 (dk_at dksX3_gathers_1 18 rfl rfl)
theorem dX3_gathers_43 : decode cX3_gathers 43 = .ok (.getfield 11, 3) := dk_180 0 11 (dk_at dksX3_gathers_1 19 rfl rfl)
theorem dX3_gathers_46 : decode cX3_gathers 46 = .ok (.iload 6, 2) := dk_21 6 (dk_at dksX3_gathers_1 22 rfl rfl)
theorem dX3_gathers_48 : decode cX3_gathers 48 = .ok (.aaload, 1) := dk_50 (dk_at dksX3_gathers_2 0 rfl rfl)
theorem dX3_gathers_49 : decode cX3_gathers 49 = .ok (.aload_n 0, 1) := dk_42 (dk_at dksX3_gathers_2 1 rfl rfl)
theorem dX3_gathers_50 : decode cX3_gathers 50 = .ok (.getfield 11, 3) := dk_180 0 11 (dk_at dksX3_gathers_2 2 rfl rfl)
theorem dX3_gathers_53 : decode cX3_gathers 53 = .ok (.iload 6, 2) := dk_21 6 (dk_at dksX3_gathers_2 5 rfl rfl)
theorem dX3_gathers_55 : decode cX3_gathers 55 = .ok (.aaload, 1) := dk_50 (dk_at dksX3_gathers_2 7 rfl rfl)
theorem dX3_gathers_56 : decode cX3_gathers 56 = .ok (.invokevirtual 95, 3) := dk_182 0 95 (dk_at dksX3_gathers_2 8 rfl rfl)
theorem dX3_gathers_59 : decode cX3_gathers 59 = .ok (.iload 7, 2) := dk_21 7 (dk_at dksX3_gathers_2 11 rfl rfl)
theorem dX3_gathers_61 : decode cX3_gathers 61 = .ok (.invokevirtual 99, 3) := dk_182 0 99 (dk_at dksX3_gathers_2 13 rfl rfl)
theorem dX3_gathers_64 : decode cX3_gathers 64 = .ok (.iload 5, 2) := dk_21 5 (dk_at dksX3_gathers_2 16 rfl rfl)
theorem dX3_gathers_66 : decode cX3_gathers 66 = .ok (.iload 7, 2) := dk_21 7 (dk_at dksX3_gathers_2 18 rfl rfl)
theorem dX3_gathers_68 : decode cX3_gathers 68 = .ok (.iadd, 1) := dk_96 (dk_at dksX3_gathers_2 20 rfl rfl)
theorem dX3_gathers_69 : decode cX3_gathers 69 = .ok (.istore 5, 2) := dk_54 5 (dk_at dksX3_gathers_2 21 rfl rfl)
theorem dX3_gathers_71 : decode cX3_gathers 71 = .ok (.iinc 6 1, 3) := dk_132 6 1 (dk_at dksX3_gathers_3 0 rfl rfl)
theorem dX3_gathers_74 : decode cX3_gathers 74 = .ok (.goto (-68), 3) := dk_167 255 188 (dk_at dksX3_gathers_3 3 rfl rfl)
theorem dX3_gathers_77 : decode cX3_gathers 77 = .ok (.iload 5, 2) := dk_21 5 (dk_at dksX3_gathers_3 6 rfl rfl)
theorem dX3_gathers_79 : decode cX3_gathers 79 = .ok (.ireturn, 1) := dk_172 (dk_at dksX3_gathers_3 8 rfl rfl)
abbrev cX3_airs : ByteArray := prog_2_method_5_code
def yX3_airs : MethodName := ⟨RX3, "airs", "()V"⟩
def dkwX3_airs_1 : List UInt8 := [185, 0, 65, 1, 0, 192, 0, 69, 77, 44, 42, 180, 0, 17, 182, 0, 74, 167, 255, 229, 177]
abbrev dktX3_airs_1 : List UInt8 := dkwX3_airs_1 ++ []
def dkwX3_airs_0 : List UInt8 := [42, 182, 0, 50, 185, 0, 53, 1, 0, 76, 43, 185, 0, 59, 1, 0, 153, 0, 24, 43]
abbrev dktX3_airs_0 : List UInt8 := dkwX3_airs_0 ++ dktX3_airs_1
theorem dksX3_airs_0 : cX3_airs.data.toList.drop 0 = dktX3_airs_0 := by decide +kernel
theorem dksX3_airs_1 : cX3_airs.data.toList.drop 20 = dktX3_airs_1 := dk_seg dksX3_airs_0 20 rfl rfl
theorem dX3_airs_0 : decode cX3_airs 0 = .ok (.aload_n 0, 1) := dk_42 (dk_at dksX3_airs_0 0 rfl rfl)
theorem dX3_airs_1 : decode cX3_airs 1 = .ok (.invokevirtual 50, 3) := dk_182 0 50 (dk_at dksX3_airs_0 1 rfl rfl)
theorem dX3_airs_4 : decode cX3_airs 4 = .ok (.invokeinterface 53 1, 5) := by decide +kernel
theorem dX3_airs_9 : decode cX3_airs 9 = .ok (.astore_n 1, 1) := dk_76 (dk_at dksX3_airs_0 9 rfl rfl)
theorem dX3_airs_10 : decode cX3_airs 10 = .ok (.aload_n 1, 1) := dk_43 (dk_at dksX3_airs_0 10 rfl rfl)
theorem dX3_airs_11 : decode cX3_airs 11 = .ok (.invokeinterface 59 1, 5) := by decide +kernel
theorem dX3_airs_16 : decode cX3_airs 16 = .ok (.ifCond .eq 24, 3) := dk_153 0 24 (dk_at dksX3_airs_0 16 rfl rfl)
theorem dX3_airs_19 : decode cX3_airs 19 = .ok (.aload_n 1, 1) := dk_43 (dk_at dksX3_airs_0 19 rfl rfl)
theorem dX3_airs_20 : decode cX3_airs 20 = .ok (.invokeinterface 65 1, 5) := by decide +kernel
theorem dX3_airs_25 : decode cX3_airs 25 = .ok (.checkcast 69, 3) := dk_192 0 69 (dk_at dksX3_airs_1 5 rfl rfl)
theorem dX3_airs_28 : decode cX3_airs 28 = .ok (.astore_n 2, 1) := dk_77 (dk_at dksX3_airs_1 8 rfl rfl)
theorem dX3_airs_29 : decode cX3_airs 29 = .ok (.aload_n 2, 1) := dk_44 (dk_at dksX3_airs_1 9 rfl rfl)
theorem dX3_airs_30 : decode cX3_airs 30 = .ok (.aload_n 0, 1) := dk_42 (dk_at dksX3_airs_1 10 rfl rfl)
theorem dX3_airs_31 : decode cX3_airs 31 = .ok (.getfield 17, 3) := dk_180 0 17 (dk_at dksX3_airs_1 11 rfl rfl)
theorem dX3_airs_34 : decode cX3_airs 34 = .ok (.invokevirtual 74, 3) := dk_182 0 74 (dk_at dksX3_airs_1 14 rfl rfl)
theorem dX3_airs_37 : decode cX3_airs 37 = .ok (.goto (-27), 3) := dk_167 255 229 (dk_at dksX3_airs_1 17 rfl rfl)
theorem dX3_airs_40 : decode cX3_airs 40 = .ok (.return_, 1) := dk_177 (dk_at dksX3_airs_1 20 rfl rfl)
theorem q107 : (Jvm.Cond.initialized "PaperStore$Aisle") ∈ lw_all := lw_g (lw_at lw_m1 8 rfl) rfl
theorem q258 : (Jvm.Cond.instantiable "PaperStore$Aisle" (6 : Nat)) ∈ lw_all := lw_g (lw_at lw_m1 159 rfl) rfl
theorem q260 : (Jvm.Cond.instanceMethod ({ cls := "PaperStore$Aisle", name := "<init>", desc := "()V" } : Jvm.MethodName)) ∈ lw_all := lw_g (lw_at lw_m1 161 rfl) rfl
theorem q261 : (Jvm.Cond.code ({ cls := "PaperStore$Aisle", name := "<init>", desc := "()V" } : Jvm.MethodName) prog_2_method_1_code (2 : Nat) (Option.none : Option Jvm.ClassFile.FieldType)) ∈ lw_all := lw_g (lw_at lw_m1 162 rfl) rfl
theorem q262 : (Jvm.Cond.methodLink "PaperStore$Aisle" (3 : Nat) ({ cls := "java/lang/Object", name := "<init>", desc := "()V" } : Jvm.MethodName)) ∈ lw_all := lw_g (lw_at lw_m1 163 rfl) rfl
theorem q263 : (Jvm.Cond.classLink "PaperStore$Aisle" (9 : Nat) "PaperStore$Shelf") ∈ lw_all := lw_g (lw_at lw_m1 164 rfl) rfl
theorem q266 : (Jvm.Cond.methodLinkNest "PaperStore$Aisle" (21 : Nat) ({ cls := "PaperStore$Shelf", name := "<init>", desc := "()V" } : Jvm.MethodName) "PaperStore") ∈ lw_tbl := lw_at lw_m1 167 rfl
theorem q273 : (Jvm.Cond.fieldLinkNest "PaperStore$Aisle" (42 : Nat) "PaperStore$Shelf" "reams" "Ljava/util/ArrayList;" "PaperStore") ∈ lw_tbl := lw_at lw_m1 174 rfl
theorem q279 : (Jvm.Cond.fieldLink "PaperStore$Aisle" (11 : Nat) "PaperStore$Aisle" "shelves" "[LPaperStore$Shelf;") ∈ lw_all := lw_g (lw_at lw_m1 180 rfl) rfl
theorem q282 : (Jvm.Cond.fieldLink "PaperStore$Aisle" (17 : Nat) "PaperStore$Aisle" "damp" "I") ∈ lw_all := lw_g (lw_at lw_m1 183 rfl) rfl
theorem q285 : (Jvm.Cond.fieldLink "PaperStore$Aisle" (27 : Nat) "PaperStore$Aisle" "mice" "I") ∈ lw_all := lw_g (lw_at lw_m1 186 rfl) rfl
theorem q288 : (Jvm.Cond.fieldLink "PaperStore$Aisle" (30 : Nat) "PaperStore$Aisle" "traps" "I") ∈ lw_all := lw_g (lw_at lw_m1 189 rfl) rfl
theorem q291 : (Jvm.Cond.fieldLink "PaperStore$Aisle" (33 : Nat) "PaperStore$Aisle" "eaten" "I") ∈ lw_all := lw_g (lw_at lw_m1 192 rfl) rfl
theorem q294 : (Jvm.Cond.fieldLink "PaperStore$Aisle" (36 : Nat) "PaperStore$Aisle" "caught" "I") ∈ lw_all := lw_g (lw_at lw_m1 195 rfl) rfl
theorem q297 : (Jvm.Cond.laysFinal "PaperStore$Aisle" "PaperStore$Aisle" "shelves" "[LPaperStore$Shelf;") ∈ lw_all := lw_g (lw_at lw_m1 198 rfl) rfl
theorem q298 : (Jvm.Cond.soleField "PaperStore$Aisle" "shelves") ∈ lw_all := lw_g (lw_at lw_m1 199 rfl) rfl
theorem q299 : (Jvm.Cond.lays "PaperStore$Aisle" "PaperStore$Aisle" "damp" "I") ∈ lw_all := lw_g (lw_at lw_m1 200 rfl) rfl
theorem q300 : (Jvm.Cond.soleField "PaperStore$Aisle" "damp") ∈ lw_all := lw_g (lw_at lw_m1 201 rfl) rfl
theorem q301 : (Jvm.Cond.lays "PaperStore$Aisle" "PaperStore$Aisle" "mice" "I") ∈ lw_all := lw_g (lw_at lw_m1 202 rfl) rfl
theorem q302 : (Jvm.Cond.soleField "PaperStore$Aisle" "mice") ∈ lw_all := lw_g (lw_at lw_m1 203 rfl) rfl
theorem q303 : (Jvm.Cond.lays "PaperStore$Aisle" "PaperStore$Aisle" "traps" "I") ∈ lw_all := lw_g (lw_at lw_m1 204 rfl) rfl
theorem q304 : (Jvm.Cond.soleField "PaperStore$Aisle" "traps") ∈ lw_all := lw_g (lw_at lw_m1 205 rfl) rfl
theorem q305 : (Jvm.Cond.lays "PaperStore$Aisle" "PaperStore$Aisle" "eaten" "I") ∈ lw_all := lw_g (lw_at lw_m1 206 rfl) rfl
theorem q306 : (Jvm.Cond.soleField "PaperStore$Aisle" "eaten") ∈ lw_all := lw_g (lw_at lw_m1 207 rfl) rfl
theorem q307 : (Jvm.Cond.lays "PaperStore$Aisle" "PaperStore$Aisle" "caught" "I") ∈ lw_all := lw_g (lw_at lw_m1 208 rfl) rfl
theorem q308 : (Jvm.Cond.soleField "PaperStore$Aisle" "caught") ∈ lw_all := lw_g (lw_at lw_m1 209 rfl) rfl
theorem q309 : (Jvm.Cond.superclass "PaperStore$Aisle" "java/lang/Object") ∈ lw_all := lw_g (lw_at lw_m1 210 rfl) rfl
theorem q445 : (Jvm.Cond.instanceMethod ({ cls := "PaperStore$Aisle", name := "reams", desc := "()Ljava/util/List;" } : Jvm.MethodName)) ∈ lw_all := lw_g (lw_at lw_m2 106 rfl) rfl
theorem q446 : (Jvm.Cond.selects "PaperStore$Aisle" ({ cls := "PaperStore$Aisle", name := "reams", desc := "()Ljava/util/List;" } : Jvm.MethodName) ({ cls := "PaperStore$Aisle", name := "reams", desc := "()Ljava/util/List;" } : Jvm.MethodName)) ∈ lw_all := lw_g (lw_at lw_m2 107 rfl) rfl
theorem q447 : (Jvm.Cond.code ({ cls := "PaperStore$Aisle", name := "reams", desc := "()Ljava/util/List;" } : Jvm.MethodName) prog_2_method_3_code (6 : Nat) (Option.some (Jvm.ClassFile.FieldType.object "java/util/List"))) ∈ lw_all := lw_g (lw_at lw_m2 108 rfl) rfl
theorem q448 : (Jvm.Cond.classLink "PaperStore$Aisle" (39 : Nat) "java/util/ArrayList") ∈ lw_all := lw_g (lw_at lw_m2 109 rfl) rfl
theorem q449 : (Jvm.Cond.methodLink "PaperStore$Aisle" (41 : Nat) ({ cls := "java/util/ArrayList", name := "<init>", desc := "()V" } : Jvm.MethodName)) ∈ lw_all := lw_g (lw_at lw_m2 110 rfl) rfl
theorem q450 : (Jvm.Cond.methodLink "PaperStore$Aisle" (46 : Nat) ({ cls := "java/util/ArrayList", name := "addAll", desc := "(Ljava/util/Collection;)Z" } : Jvm.MethodName)) ∈ lw_all := lw_g (lw_at lw_m2 111 rfl) rfl
theorem q471 : (Jvm.Cond.selects "PaperStore$Aisle" ({ cls := "java/lang/Object", name := "getClass", desc := "()Ljava/lang/Class;" } : Jvm.MethodName) ({ cls := "java/lang/Object", name := "getClass", desc := "()Ljava/lang/Class;" } : Jvm.MethodName)) ∈ lw_all := lw_g (lw_at lw_m2 132 rfl) rfl
theorem q1266 : (Jvm.Cond.instanceMethod ({ cls := "PaperStore$Aisle", name := "copy", desc := "()LPaperStore$Aisle;" } : Jvm.MethodName)) ∈ lw_all := lw_g (lw_at lw_m5 207 rfl) rfl
theorem q1267 : (Jvm.Cond.selects "PaperStore$Aisle" ({ cls := "PaperStore$Aisle", name := "copy", desc := "()LPaperStore$Aisle;" } : Jvm.MethodName) ({ cls := "PaperStore$Aisle", name := "copy", desc := "()LPaperStore$Aisle;" } : Jvm.MethodName)) ∈ lw_all := lw_g (lw_at lw_m5 208 rfl) rfl
theorem q1268 : (Jvm.Cond.code ({ cls := "PaperStore$Aisle", name := "copy", desc := "()LPaperStore$Aisle;" } : Jvm.MethodName) prog_2_method_2_code (3 : Nat) (Option.some (Jvm.ClassFile.FieldType.object "PaperStore$Aisle"))) ∈ lw_all := lw_g (lw_at lw_m5 209 rfl) rfl
theorem q1269 : (Jvm.Cond.classLink "PaperStore$Aisle" (12 : Nat) "PaperStore$Aisle") ∈ lw_all := lw_g (lw_at lw_m5 210 rfl) rfl
theorem q1270 : (Jvm.Cond.methodLink "PaperStore$Aisle" (22 : Nat) ({ cls := "PaperStore$Aisle", name := "<init>", desc := "()V" } : Jvm.MethodName)) ∈ lw_all := lw_g (lw_at lw_m5 211 rfl) rfl
theorem q1271 : (Jvm.Cond.methodLink "PaperStore$Aisle" (23 : Nat) ({ cls := "PaperStore$Shelf", name := "copy", desc := "()LPaperStore$Shelf;" } : Jvm.MethodName)) ∈ lw_all := lw_g (lw_at lw_m5 212 rfl) rfl
theorem q1301 : (Jvm.Cond.fieldLinkNest "PaperStore$Aisle" (71 : Nat) "PaperStore$Ream" "quires" "I" "PaperStore") ∈ lw_tbl := lw_at lw_m6 2 rfl
theorem q1798 : (Jvm.Cond.selects "PaperStore$Aisle" ({ cls := "java/lang/Object", name := "hashCode", desc := "()I" } : Jvm.MethodName) ({ cls := "java/lang/Object", name := "hashCode", desc := "()I" } : Jvm.MethodName)) ∈ lw_all := lw_g (lw_at lw_m8 19 rfl) rfl
theorem q1905 : (Jvm.Cond.selects "PaperStore$Aisle" ({ cls := "java/lang/Object", name := "equals", desc := "(Ljava/lang/Object;)Z" } : Jvm.MethodName) ({ cls := "java/lang/Object", name := "equals", desc := "(Ljava/lang/Object;)Z" } : Jvm.MethodName)) ∈ lw_all := lw_g (lw_at lw_m8 126 rfl) rfl
theorem q2348 : (Jvm.Cond.instanceMethod ({ cls := "PaperStore$Aisle", name := "quires", desc := "()I" } : Jvm.MethodName)) ∈ lw_all := lw_g (lw_at lw_m10 89 rfl) rfl
theorem q2349 : (Jvm.Cond.selects "PaperStore$Aisle" ({ cls := "PaperStore$Aisle", name := "quires", desc := "()I" } : Jvm.MethodName) ({ cls := "PaperStore$Aisle", name := "quires", desc := "()I" } : Jvm.MethodName)) ∈ lw_all := lw_g (lw_at lw_m10 90 rfl) rfl
theorem q2350 : (Jvm.Cond.code ({ cls := "PaperStore$Aisle", name := "quires", desc := "()I" } : Jvm.MethodName) prog_2_method_4_code (4 : Nat) (Option.some Jvm.ClassFile.FieldType.int)) ∈ lw_all := lw_g (lw_at lw_m10 91 rfl) rfl
theorem q2351 : (Jvm.Cond.methodLink "PaperStore$Aisle" (50 : Nat) ({ cls := "PaperStore$Aisle", name := "reams", desc := "()Ljava/util/List;" } : Jvm.MethodName)) ∈ lw_all := lw_g (lw_at lw_m10 92 rfl) rfl
theorem q2352 : (Jvm.Cond.interfaceEntry "PaperStore$Aisle" (53 : Nat)) ∈ lw_tbl := lw_at lw_m10 93 rfl
theorem q2353 : (Jvm.Cond.methodLink "PaperStore$Aisle" (53 : Nat) ({ cls := "java/util/List", name := "iterator", desc := "()Ljava/util/Iterator;" } : Jvm.MethodName)) ∈ lw_all := lw_g (lw_at lw_m10 94 rfl) rfl
theorem q2354 : (Jvm.Cond.interfaceEntry "PaperStore$Aisle" (59 : Nat)) ∈ lw_tbl := lw_at lw_m10 95 rfl
theorem q2355 : (Jvm.Cond.methodLink "PaperStore$Aisle" (59 : Nat) ({ cls := "java/util/Iterator", name := "hasNext", desc := "()Z" } : Jvm.MethodName)) ∈ lw_all := lw_g (lw_at lw_m10 96 rfl) rfl
theorem q2356 : (Jvm.Cond.interfaceEntry "PaperStore$Aisle" (65 : Nat)) ∈ lw_tbl := lw_at lw_m10 97 rfl
theorem q2357 : (Jvm.Cond.methodLink "PaperStore$Aisle" (65 : Nat) ({ cls := "java/util/Iterator", name := "next", desc := "()Ljava/lang/Object;" } : Jvm.MethodName)) ∈ lw_all := lw_g (lw_at lw_m10 98 rfl) rfl
theorem q2358 : (Jvm.Cond.classLink "PaperStore$Aisle" (69 : Nat) "PaperStore$Ream") ∈ lw_all := lw_g (lw_at lw_m10 99 rfl) rfl
theorem q2369 : (Jvm.Cond.instanceMethod ({ cls := "PaperStore$Aisle", name := "isEaten", desc := "()I" } : Jvm.MethodName)) ∈ lw_all := lw_g (lw_at lw_m10 110 rfl) rfl
theorem q2370 : (Jvm.Cond.selects "PaperStore$Aisle" ({ cls := "PaperStore$Aisle", name := "isEaten", desc := "()I" } : Jvm.MethodName) ({ cls := "PaperStore$Aisle", name := "isEaten", desc := "()I" } : Jvm.MethodName)) ∈ lw_all := lw_g (lw_at lw_m10 111 rfl) rfl
theorem q2371 : (Jvm.Cond.code ({ cls := "PaperStore$Aisle", name := "isEaten", desc := "()I" } : Jvm.MethodName) prog_2_method_6_code (8 : Nat) (Option.some Jvm.ClassFile.FieldType.int)) ∈ lw_all := lw_g (lw_at lw_m10 112 rfl) rfl
theorem q2372 : (Jvm.Cond.methodLink "PaperStore$Aisle" (78 : Nat) ({ cls := "PaperStore$Shelf", name := "isEaten", desc := "(I)I" } : Jvm.MethodName)) ∈ lw_all := lw_g (lw_at lw_m10 113 rfl) rfl
theorem q2387 : (Jvm.Cond.methodLink "PaperStore$Aisle" (82 : Nat) ({ cls := "java/lang/Math", name := "min", desc := "(II)I" } : Jvm.MethodName)) ∈ lw_all := lw_g (lw_at lw_m10 128 rfl) rfl
theorem q2388 : (Jvm.Cond.methodLink "PaperStore$Aisle" (88 : Nat) ({ cls := "java/lang/Math", name := "max", desc := "(II)I" } : Jvm.MethodName)) ∈ lw_all := lw_g (lw_at lw_m10 129 rfl) rfl
theorem q2481 : (Jvm.Cond.instanceMethod ({ cls := "PaperStore$Aisle", name := "gathers", desc := "(LPaperStore$Paper;IIZ)I" } : Jvm.MethodName)) ∈ lw_all := lw_g (lw_at lw_m10 222 rfl) rfl
theorem q2482 : (Jvm.Cond.selects "PaperStore$Aisle" ({ cls := "PaperStore$Aisle", name := "gathers", desc := "(LPaperStore$Paper;IIZ)I" } : Jvm.MethodName) ({ cls := "PaperStore$Aisle", name := "gathers", desc := "(LPaperStore$Paper;IIZ)I" } : Jvm.MethodName)) ∈ lw_all := lw_g (lw_at lw_m10 223 rfl) rfl
theorem q2483 : (Jvm.Cond.code ({ cls := "PaperStore$Aisle", name := "gathers", desc := "(LPaperStore$Paper;IIZ)I" } : Jvm.MethodName) prog_2_method_7_code (8 : Nat) (Option.some Jvm.ClassFile.FieldType.int)) ∈ lw_all := lw_g (lw_at lw_m10 224 rfl) rfl
theorem q2484 : (Jvm.Cond.methodLink "PaperStore$Aisle" (91 : Nat) ({ cls := "PaperStore$Shelf", name := "offers", desc := "(LPaperStore$Paper;)I" } : Jvm.MethodName)) ∈ lw_all := lw_g (lw_at lw_m10 225 rfl) rfl
theorem q2494 : (Jvm.Cond.methodLink "PaperStore$Aisle" (95 : Nat) ({ cls := "PaperStore$Shelf", name := "top", desc := "()LPaperStore$Ream;" } : Jvm.MethodName)) ∈ lw_all := lw_g (lw_at lw_m10 235 rfl) rfl
theorem q2495 : (Jvm.Cond.methodLink "PaperStore$Aisle" (99 : Nat) ({ cls := "PaperStore$Shelf", name := "takes", desc := "(LPaperStore$Ream;I)V" } : Jvm.MethodName)) ∈ lw_all := lw_g (lw_at lw_m10 236 rfl) rfl
theorem q2652 : (Jvm.Cond.instanceMethod ({ cls := "PaperStore$Aisle", name := "airs", desc := "()V" } : Jvm.MethodName)) ∈ lw_all := lw_g (lw_at lw_m11 153 rfl) rfl
theorem q2653 : (Jvm.Cond.selects "PaperStore$Aisle" ({ cls := "PaperStore$Aisle", name := "airs", desc := "()V" } : Jvm.MethodName) ({ cls := "PaperStore$Aisle", name := "airs", desc := "()V" } : Jvm.MethodName)) ∈ lw_all := lw_g (lw_at lw_m11 154 rfl) rfl
theorem q2654 : (Jvm.Cond.code ({ cls := "PaperStore$Aisle", name := "airs", desc := "()V" } : Jvm.MethodName) prog_2_method_5_code (3 : Nat) (Option.none : Option Jvm.ClassFile.FieldType)) ∈ lw_all := lw_g (lw_at lw_m11 155 rfl) rfl
theorem q2655 : (Jvm.Cond.methodLink "PaperStore$Aisle" (74 : Nat) ({ cls := "PaperStore$Ream", name := "comesNear", desc := "(I)V" } : Jvm.MethodName)) ∈ lw_all := lw_g (lw_at lw_m11 156 rfl) rfl
theorem q3289 : (Jvm.Cond.selects "PaperStore$Aisle" ({ cls := "java/lang/Object", name := "toString", desc := "()Ljava/lang/String;" } : Jvm.MethodName) ({ cls := "java/lang/Object", name := "toString", desc := "()Ljava/lang/String;" } : Jvm.MethodName)) ∈ lw_all := lw_g (lw_at lw_m14 70 rfl) rfl
theorem q4152 : (Jvm.Cond.castable "PaperStore$Aisle" "java/lang/Object") ∈ lw_tbl := lw_at lw_m17 213 rfl
theorem in_X3 : ∀ w ∈ wsX30, w ∈ lw_all := lw_in wsX30 [297, 299, 301, 303, 305, 307] (by decide +kernel) (by decide +kernel)
/-! PaperStore$Shelf -/
set_option maxRecDepth 100000
def RX4 : String := "PaperStore$Shelf"
def TX4 : u_T := fun k => match k with
  | _ => ("PaperStore$Shelf", "reams", "Ljava/util/ArrayList;", true)
def tyX4 : Nat → FieldType := fun k => match k with
  | _ => .object "java/util/ArrayList"
abbrev wsX40 : List Cond := u_ws RX4 TX4 1
theorem nmX4 : ∀ a, a < 1 → ∀ b, b < 1 → a ≠ b → (TX4 a).2.1 ≠ (TX4 b).2.1 := by decide +kernel
theorem tyX4_ok : ∀ k, k < 1 → parseFieldDescriptor (TX4 k).2.2.1 = some (tyX4 k) := by decide +kernel
abbrev cX4_init : ByteArray := prog_12_method_1_code
def yX4_init : MethodName := ⟨RX4, "<init>", "()V"⟩
def dkwX4_init_0 : List UInt8 := [42, 183, 0, 1, 42, 187, 0, 7, 89, 183, 0, 9, 181, 0, 10, 177]
abbrev dktX4_init_0 : List UInt8 := dkwX4_init_0 ++ []
theorem dksX4_init_0 : cX4_init.data.toList.drop 0 = dktX4_init_0 := by decide +kernel
theorem dX4_init_0 : decode cX4_init 0 = .ok (.aload_n 0, 1) := dk_42 (dk_at dksX4_init_0 0 rfl rfl)
theorem dX4_init_1 : decode cX4_init 1 = .ok (.invokespecial 1, 3) := dk_183 0 1 (dk_at dksX4_init_0 1 rfl rfl)
theorem dX4_init_4 : decode cX4_init 4 = .ok (.aload_n 0, 1) := dk_42 (dk_at dksX4_init_0 4 rfl rfl)
theorem dX4_init_5 : decode cX4_init 5 = .ok (.new 7, 3) := dk_187 0 7 (dk_at dksX4_init_0 5 rfl rfl)
theorem dX4_init_8 : decode cX4_init 8 = .ok (.dup, 1) := dk_89 (dk_at dksX4_init_0 8 rfl rfl)
theorem dX4_init_9 : decode cX4_init 9 = .ok (.invokespecial 9, 3) := dk_183 0 9 (dk_at dksX4_init_0 9 rfl rfl)
theorem dX4_init_12 : decode cX4_init 12 = .ok (.putfield 10, 3) := dk_181 0 10 (dk_at dksX4_init_0 12 rfl rfl)
theorem dX4_init_15 : decode cX4_init 15 = .ok (.return_, 1) := dk_177 (dk_at dksX4_init_0 15 rfl rfl)
abbrev cX4_copy : ByteArray := prog_12_method_2_code
def yX4_copy : MethodName := ⟨RX4, "copy", "()LPaperStore$Shelf;"⟩
def dkwX4_copy_2 : List UInt8 := [87, 167, 255, 225, 43, 176]
abbrev dktX4_copy_2 : List UInt8 := dkwX4_copy_2 ++ []
def dkwX4_copy_1 : List UInt8 := [153, 0, 28, 44, 185, 0, 27, 1, 0, 192, 0, 31, 78, 43, 180, 0, 10, 45, 182, 0, 33, 182, 0, 37]
abbrev dktX4_copy_1 : List UInt8 := dkwX4_copy_1 ++ dktX4_copy_2
def dkwX4_copy_0 : List UInt8 := [187, 0, 11, 89, 183, 0, 16, 76, 42, 180, 0, 10, 182, 0, 17, 77, 44, 185, 0, 21, 1, 0]
abbrev dktX4_copy_0 : List UInt8 := dkwX4_copy_0 ++ dktX4_copy_1
theorem dksX4_copy_0 : cX4_copy.data.toList.drop 0 = dktX4_copy_0 := by decide +kernel
theorem dksX4_copy_1 : cX4_copy.data.toList.drop 22 = dktX4_copy_1 := dk_seg dksX4_copy_0 22 rfl rfl
theorem dksX4_copy_2 : cX4_copy.data.toList.drop 46 = dktX4_copy_2 := dk_seg dksX4_copy_1 24 rfl rfl
theorem dX4_copy_0 : decode cX4_copy 0 = .ok (.new 11, 3) := dk_187 0 11 (dk_at dksX4_copy_0 0 rfl rfl)
theorem dX4_copy_3 : decode cX4_copy 3 = .ok (.dup, 1) := dk_89 (dk_at dksX4_copy_0 3 rfl rfl)
theorem dX4_copy_4 : decode cX4_copy 4 = .ok (.invokespecial 16, 3) := dk_183 0 16 (dk_at dksX4_copy_0 4 rfl rfl)
theorem dX4_copy_7 : decode cX4_copy 7 = .ok (.astore_n 1, 1) := dk_76 (dk_at dksX4_copy_0 7 rfl rfl)
theorem dX4_copy_8 : decode cX4_copy 8 = .ok (.aload_n 0, 1) := dk_42 (dk_at dksX4_copy_0 8 rfl rfl)
theorem dX4_copy_9 : decode cX4_copy 9 = .ok (.getfield 10, 3) := dk_180 0 10 (dk_at dksX4_copy_0 9 rfl rfl)
theorem dX4_copy_12 : decode cX4_copy 12 = .ok (.invokevirtual 17, 3) := dk_182 0 17 (dk_at dksX4_copy_0 12 rfl rfl)
theorem dX4_copy_15 : decode cX4_copy 15 = .ok (.astore_n 2, 1) := dk_77 (dk_at dksX4_copy_0 15 rfl rfl)
theorem dX4_copy_16 : decode cX4_copy 16 = .ok (.aload_n 2, 1) := dk_44 (dk_at dksX4_copy_0 16 rfl rfl)
theorem dX4_copy_17 : decode cX4_copy 17 = .ok (.invokeinterface 21 1, 5) := by decide +kernel
theorem dX4_copy_22 : decode cX4_copy 22 = .ok (.ifCond .eq 28, 3) := dk_153 0 28 (dk_at dksX4_copy_1 0 rfl rfl)
theorem dX4_copy_25 : decode cX4_copy 25 = .ok (.aload_n 2, 1) := dk_44 (dk_at dksX4_copy_1 3 rfl rfl)
theorem dX4_copy_26 : decode cX4_copy 26 = .ok (.invokeinterface 27 1, 5) := by decide +kernel
theorem dX4_copy_31 : decode cX4_copy 31 = .ok (.checkcast 31, 3) := dk_192 0 31 (dk_at dksX4_copy_1 9 rfl rfl)
theorem dX4_copy_34 : decode cX4_copy 34 = .ok (.astore_n 3, 1) := dk_78 (dk_at dksX4_copy_1 12 rfl rfl)
theorem dX4_copy_35 : decode cX4_copy 35 = .ok (.aload_n 1, 1) := dk_43 (dk_at dksX4_copy_1 13 rfl rfl)
theorem dX4_copy_36 : decode cX4_copy 36 = .ok (.getfield 10, 3) := dk_180 0 10 (dk_at dksX4_copy_1 14 rfl rfl)
theorem dX4_copy_39 : decode cX4_copy 39 = .ok (.aload_n 3, 1) := dk_45 (dk_at dksX4_copy_1 17 rfl rfl)
theorem dX4_copy_40 : decode cX4_copy 40 = .ok (.invokevirtual 33, 3) := dk_182 0 33 (dk_at dksX4_copy_1 18 rfl rfl)
theorem dX4_copy_43 : decode cX4_copy 43 = .ok (.invokevirtual 37, 3) := dk_182 0 37 (dk_at dksX4_copy_1 21 rfl rfl)
theorem dX4_copy_46 : decode cX4_copy 46 = .ok (.pop, 1) := dk_87 (dk_at dksX4_copy_2 0 rfl rfl)
theorem dX4_copy_47 : decode cX4_copy 47 = .ok (.goto (-31), 3) := dk_167 255 225 (dk_at dksX4_copy_2 1 rfl rfl)
theorem dX4_copy_50 : decode cX4_copy 50 = .ok (.aload_n 1, 1) := dk_43 (dk_at dksX4_copy_2 4 rfl rfl)
theorem dX4_copy_51 : decode cX4_copy 51 = .ok (.areturn, 1) := dk_176 (dk_at dksX4_copy_2 5 rfl rfl)
abbrev cX4_top : ByteArray := prog_12_method_3_code
def yX4_top : MethodName := ⟨RX4, "top", "()LPaperStore$Ream;"⟩
def dkwX4_top_1 : List UInt8 := [182, 0, 44, 4, 100, 182, 0, 48, 192, 0, 31, 176]
abbrev dktX4_top_1 : List UInt8 := dkwX4_top_1 ++ []
def dkwX4_top_0 : List UInt8 := [42, 180, 0, 10, 182, 0, 41, 153, 0, 7, 1, 167, 0, 22, 42, 180, 0, 10, 42, 180, 0, 10]
abbrev dktX4_top_0 : List UInt8 := dkwX4_top_0 ++ dktX4_top_1
theorem dksX4_top_0 : cX4_top.data.toList.drop 0 = dktX4_top_0 := by decide +kernel
theorem dksX4_top_1 : cX4_top.data.toList.drop 22 = dktX4_top_1 := dk_seg dksX4_top_0 22 rfl rfl
theorem dX4_top_0 : decode cX4_top 0 = .ok (.aload_n 0, 1) := dk_42 (dk_at dksX4_top_0 0 rfl rfl)
theorem dX4_top_1 : decode cX4_top 1 = .ok (.getfield 10, 3) := dk_180 0 10 (dk_at dksX4_top_0 1 rfl rfl)
theorem dX4_top_4 : decode cX4_top 4 = .ok (.invokevirtual 41, 3) := dk_182 0 41 (dk_at dksX4_top_0 4 rfl rfl)
theorem dX4_top_7 : decode cX4_top 7 = .ok (.ifCond .eq 7, 3) := dk_153 0 7 (dk_at dksX4_top_0 7 rfl rfl)
theorem dX4_top_10 : decode cX4_top 10 = .ok (.aconst_null, 1) := dk_1 (dk_at dksX4_top_0 10 rfl rfl)
theorem dX4_top_11 : decode cX4_top 11 = .ok (.goto 22, 3) := dk_167 0 22 (dk_at dksX4_top_0 11 rfl rfl)
theorem dX4_top_14 : decode cX4_top 14 = .ok (.aload_n 0, 1) := dk_42 (dk_at dksX4_top_0 14 rfl rfl)
theorem dX4_top_15 : decode cX4_top 15 = .ok (.getfield 10, 3) := dk_180 0 10 (dk_at dksX4_top_0 15 rfl rfl)
theorem dX4_top_18 : decode cX4_top 18 = .ok (.aload_n 0, 1) := dk_42 (dk_at dksX4_top_0 18 rfl rfl)
theorem dX4_top_19 : decode cX4_top 19 = .ok (.getfield 10, 3) := dk_180 0 10 (dk_at dksX4_top_0 19 rfl rfl)
theorem dX4_top_22 : decode cX4_top 22 = .ok (.invokevirtual 44, 3) := dk_182 0 44 (dk_at dksX4_top_1 0 rfl rfl)
theorem dX4_top_25 : decode cX4_top 25 = .ok (.iconst 1, 1) := dk_4 (dk_at dksX4_top_1 3 rfl rfl)
theorem dX4_top_26 : decode cX4_top 26 = .ok (.isub, 1) := dk_100 (dk_at dksX4_top_1 4 rfl rfl)
theorem dX4_top_27 : decode cX4_top 27 = .ok (.invokevirtual 48, 3) := dk_182 0 48 (dk_at dksX4_top_1 5 rfl rfl)
theorem dX4_top_30 : decode cX4_top 30 = .ok (.checkcast 31, 3) := dk_192 0 31 (dk_at dksX4_top_1 8 rfl rfl)
theorem dX4_top_33 : decode cX4_top 33 = .ok (.areturn, 1) := dk_176 (dk_at dksX4_top_1 11 rfl rfl)
abbrev cX4_isEaten : ByteArray := prog_12_method_5_code
def yX4_isEaten : MethodName := ⟨RX4, "isEaten", "(I)I"⟩
def dkwX4_isEaten_2 : List UInt8 := [182, 0, 74, 28, 21, 4, 100, 61, 167, 255, 204, 27, 28, 100, 172]
abbrev dktX4_isEaten_2 : List UInt8 := dkwX4_isEaten_2 ++ []
def dkwX4_isEaten_1 : List UInt8 := [180, 0, 52, 184, 0, 65, 54, 4, 45, 89, 180, 0, 71, 21, 4, 96, 181, 0, 71, 42, 45, 21, 4]
abbrev dktX4_isEaten_1 : List UInt8 := dkwX4_isEaten_1 ++ dktX4_isEaten_2
def dkwX4_isEaten_0 : List UInt8 := [27, 61, 28, 158, 0, 54, 42, 180, 0, 10, 182, 0, 41, 154, 0, 44, 42, 182, 0, 62, 78, 28, 45]
abbrev dktX4_isEaten_0 : List UInt8 := dkwX4_isEaten_0 ++ dktX4_isEaten_1
theorem dksX4_isEaten_0 : cX4_isEaten.data.toList.drop 0 = dktX4_isEaten_0 := by decide +kernel
theorem dksX4_isEaten_1 : cX4_isEaten.data.toList.drop 23 = dktX4_isEaten_1 := dk_seg dksX4_isEaten_0 23 rfl rfl
theorem dksX4_isEaten_2 : cX4_isEaten.data.toList.drop 46 = dktX4_isEaten_2 := dk_seg dksX4_isEaten_1 23 rfl rfl
theorem dX4_isEaten_0 : decode cX4_isEaten 0 = .ok (.iload_n 1, 1) := dk_27 (dk_at dksX4_isEaten_0 0 rfl rfl)
theorem dX4_isEaten_1 : decode cX4_isEaten 1 = .ok (.istore_n 2, 1) := dk_61 (dk_at dksX4_isEaten_0 1 rfl rfl)
theorem dX4_isEaten_2 : decode cX4_isEaten 2 = .ok (.iload_n 2, 1) := dk_28 (dk_at dksX4_isEaten_0 2 rfl rfl)
theorem dX4_isEaten_3 : decode cX4_isEaten 3 = .ok (.ifCond .le 54, 3) := dk_158 0 54 (dk_at dksX4_isEaten_0 3 rfl rfl)
theorem dX4_isEaten_6 : decode cX4_isEaten 6 = .ok (.aload_n 0, 1) := dk_42 (dk_at dksX4_isEaten_0 6 rfl rfl)
theorem dX4_isEaten_7 : decode cX4_isEaten 7 = .ok (.getfield 10, 3) := dk_180 0 10 (dk_at dksX4_isEaten_0 7 rfl rfl)
theorem dX4_isEaten_10 : decode cX4_isEaten 10 = .ok (.invokevirtual 41, 3) := dk_182 0 41 (dk_at dksX4_isEaten_0 10 rfl rfl)
theorem dX4_isEaten_13 : decode cX4_isEaten 13 = .ok (.ifCond .ne 44, 3) := dk_154 0 44 (dk_at dksX4_isEaten_0 13 rfl rfl)
theorem dX4_isEaten_16 : decode cX4_isEaten 16 = .ok (.aload_n 0, 1) := dk_42 (dk_at dksX4_isEaten_0 16 rfl rfl)
theorem dX4_isEaten_17 : decode cX4_isEaten 17 = .ok (.invokevirtual 62, 3) := dk_182 0 62 (dk_at dksX4_isEaten_0 17 rfl rfl)
theorem dX4_isEaten_20 : decode cX4_isEaten 20 = .ok (.astore_n 3, 1) := dk_78 (dk_at dksX4_isEaten_0 20 rfl rfl)
theorem dX4_isEaten_21 : decode cX4_isEaten 21 = .ok (.iload_n 2, 1) := dk_28 (dk_at dksX4_isEaten_0 21 rfl rfl)
theorem dX4_isEaten_22 : decode cX4_isEaten 22 = .ok (.aload_n 3, 1) := dk_45 (dk_at dksX4_isEaten_0 22 rfl rfl)
theorem dX4_isEaten_23 : decode cX4_isEaten 23 = .ok (.getfield 52, 3) := dk_180 0 52 (dk_at dksX4_isEaten_1 0 rfl rfl)
theorem dX4_isEaten_26 : decode cX4_isEaten 26 = .ok (.invokestatic 65, 3) := dk_184 0 65 (dk_at dksX4_isEaten_1 3 rfl rfl)
theorem dX4_isEaten_29 : decode cX4_isEaten 29 = .ok (.istore 4, 2) := dk_54 4 (dk_at dksX4_isEaten_1 6 rfl rfl)
theorem dX4_isEaten_31 : decode cX4_isEaten 31 = .ok (.aload_n 3, 1) := dk_45 (dk_at dksX4_isEaten_1 8 rfl rfl)
theorem dX4_isEaten_32 : decode cX4_isEaten 32 = .ok (.dup, 1) := dk_89 (dk_at dksX4_isEaten_1 9 rfl rfl)
theorem dX4_isEaten_33 : decode cX4_isEaten 33 = .ok (.getfield 71, 3) := dk_180 0 71 (dk_at dksX4_isEaten_1 10 rfl rfl)
theorem dX4_isEaten_36 : decode cX4_isEaten 36 = .ok (.iload 4, 2) := dk_21 4 (dk_at dksX4_isEaten_1 13 rfl rfl)
theorem dX4_isEaten_38 : decode cX4_isEaten 38 = .ok (.iadd, 1) := dk_96 (dk_at dksX4_isEaten_1 15 rfl rfl)
theorem dX4_isEaten_39 : decode cX4_isEaten 39 = .ok (.putfield 71, 3) := dk_181 0 71 (dk_at dksX4_isEaten_1 16 rfl rfl)
theorem dX4_isEaten_42 : decode cX4_isEaten 42 = .ok (.aload_n 0, 1) := dk_42 (dk_at dksX4_isEaten_1 19 rfl rfl)
theorem dX4_isEaten_43 : decode cX4_isEaten 43 = .ok (.aload_n 3, 1) := dk_45 (dk_at dksX4_isEaten_1 20 rfl rfl)
theorem dX4_isEaten_44 : decode cX4_isEaten 44 = .ok (.iload 4, 2) := dk_21 4 (dk_at dksX4_isEaten_1 21 rfl rfl)
theorem dX4_isEaten_46 : decode cX4_isEaten 46 = .ok (.invokevirtual 74, 3) := dk_182 0 74 (dk_at dksX4_isEaten_2 0 rfl rfl)
theorem dX4_isEaten_49 : decode cX4_isEaten 49 = .ok (.iload_n 2, 1) := dk_28 (dk_at dksX4_isEaten_2 3 rfl rfl)
theorem dX4_isEaten_50 : decode cX4_isEaten 50 = .ok (.iload 4, 2) := dk_21 4 (dk_at dksX4_isEaten_2 4 rfl rfl)
theorem dX4_isEaten_52 : decode cX4_isEaten 52 = .ok (.isub, 1) := dk_100 (dk_at dksX4_isEaten_2 6 rfl rfl)
theorem dX4_isEaten_53 : decode cX4_isEaten 53 = .ok (.istore_n 2, 1) := dk_61 (dk_at dksX4_isEaten_2 7 rfl rfl)
theorem dX4_isEaten_54 : decode cX4_isEaten 54 = .ok (.goto (-52), 3) := dk_167 255 204 (dk_at dksX4_isEaten_2 8 rfl rfl)
theorem dX4_isEaten_57 : decode cX4_isEaten 57 = .ok (.iload_n 1, 1) := dk_27 (dk_at dksX4_isEaten_2 11 rfl rfl)
theorem dX4_isEaten_58 : decode cX4_isEaten 58 = .ok (.iload_n 2, 1) := dk_28 (dk_at dksX4_isEaten_2 12 rfl rfl)
theorem dX4_isEaten_59 : decode cX4_isEaten 59 = .ok (.isub, 1) := dk_100 (dk_at dksX4_isEaten_2 13 rfl rfl)
theorem dX4_isEaten_60 : decode cX4_isEaten 60 = .ok (.ireturn, 1) := dk_172 (dk_at dksX4_isEaten_2 14 rfl rfl)
abbrev cX4_takes : ByteArray := prog_12_method_4_code
def yX4_takes : MethodName := ⟨RX4, "takes", "(LPaperStore$Ream;I)V"⟩
def dkwX4_takes_1 : List UInt8 := [182, 0, 59, 62, 177]
abbrev dktX4_takes_1 : List UInt8 := dkwX4_takes_1 ++ []
def dkwX4_takes_0 : List UInt8 := [43, 89, 180, 0, 52, 28, 100, 181, 0, 52, 43, 182, 0, 56, 153, 0, 12, 42, 180, 0, 10, 43]
abbrev dktX4_takes_0 : List UInt8 := dkwX4_takes_0 ++ dktX4_takes_1
theorem dksX4_takes_0 : cX4_takes.data.toList.drop 0 = dktX4_takes_0 := by decide +kernel
theorem dksX4_takes_1 : cX4_takes.data.toList.drop 22 = dktX4_takes_1 := dk_seg dksX4_takes_0 22 rfl rfl
theorem dX4_takes_0 : decode cX4_takes 0 = .ok (.aload_n 1, 1) := dk_43 (dk_at dksX4_takes_0 0 rfl rfl)
theorem dX4_takes_1 : decode cX4_takes 1 = .ok (.dup, 1) := dk_89 (dk_at dksX4_takes_0 1 rfl rfl)
theorem dX4_takes_2 : decode cX4_takes 2 = .ok (.getfield 52, 3) := dk_180 0 52 (dk_at dksX4_takes_0 2 rfl rfl)
theorem dX4_takes_5 : decode cX4_takes 5 = .ok (.iload_n 2, 1) := dk_28 (dk_at dksX4_takes_0 5 rfl rfl)
theorem dX4_takes_6 : decode cX4_takes 6 = .ok (.isub, 1) := dk_100 (dk_at dksX4_takes_0 6 rfl rfl)
theorem dX4_takes_7 : decode cX4_takes 7 = .ok (.putfield 52, 3) := dk_181 0 52 (dk_at dksX4_takes_0 7 rfl rfl)
theorem dX4_takes_10 : decode cX4_takes 10 = .ok (.aload_n 1, 1) := dk_43 (dk_at dksX4_takes_0 10 rfl rfl)
theorem dX4_takes_11 : decode cX4_takes 11 = .ok (.invokevirtual 56, 3) := dk_182 0 56 (dk_at dksX4_takes_0 11 rfl rfl)
theorem dX4_takes_14 : decode cX4_takes 14 = .ok (.ifCond .eq 12, 3) := dk_153 0 12 (dk_at dksX4_takes_0 14 rfl rfl)
theorem dX4_takes_17 : decode cX4_takes 17 = .ok (.aload_n 0, 1) := dk_42 (dk_at dksX4_takes_0 17 rfl rfl)
theorem dX4_takes_18 : decode cX4_takes 18 = .ok (.getfield 10, 3) := dk_180 0 10 (dk_at dksX4_takes_0 18 rfl rfl)
theorem dX4_takes_21 : decode cX4_takes 21 = .ok (.aload_n 1, 1) := dk_43 (dk_at dksX4_takes_0 21 rfl rfl)
theorem dX4_takes_22 : decode cX4_takes 22 = .ok (.invokevirtual 59, 3) := dk_182 0 59 (dk_at dksX4_takes_1 0 rfl rfl)
theorem dX4_takes_25 : decode cX4_takes 25 = .ok (.istore_n 3, 1) := dk_62 (dk_at dksX4_takes_1 3 rfl rfl)
theorem dX4_takes_26 : decode cX4_takes 26 = .ok (.return_, 1) := dk_177 (dk_at dksX4_takes_1 4 rfl rfl)
abbrev cX4_offers : ByteArray := prog_12_method_6_code
def yX4_offers : MethodName := ⟨RX4, "offers", "(LPaperStore$Paper;)I"⟩
def dkwX4_offers_1 : List UInt8 := [3, 172]
abbrev dktX4_offers_1 : List UInt8 := dkwX4_offers_1 ++ []
def dkwX4_offers_0 : List UInt8 := [42, 182, 0, 62, 77, 44, 198, 0, 18, 44, 43, 182, 0, 78, 153, 0, 10, 44, 180, 0, 52, 167, 0, 4]
abbrev dktX4_offers_0 : List UInt8 := dkwX4_offers_0 ++ dktX4_offers_1
theorem dksX4_offers_0 : cX4_offers.data.toList.drop 0 = dktX4_offers_0 := by decide +kernel
theorem dksX4_offers_1 : cX4_offers.data.toList.drop 24 = dktX4_offers_1 := dk_seg dksX4_offers_0 24 rfl rfl
theorem dX4_offers_0 : decode cX4_offers 0 = .ok (.aload_n 0, 1) := dk_42 (dk_at dksX4_offers_0 0 rfl rfl)
theorem dX4_offers_1 : decode cX4_offers 1 = .ok (.invokevirtual 62, 3) := dk_182 0 62 (dk_at dksX4_offers_0 1 rfl rfl)
theorem dX4_offers_4 : decode cX4_offers 4 = .ok (.astore_n 2, 1) := dk_77 (dk_at dksX4_offers_0 4 rfl rfl)
theorem dX4_offers_5 : decode cX4_offers 5 = .ok (.aload_n 2, 1) := dk_44 (dk_at dksX4_offers_0 5 rfl rfl)
theorem dX4_offers_6 : decode cX4_offers 6 = .ok (.ifnull 18, 3) := dk_198 0 18 (dk_at dksX4_offers_0 6 rfl rfl)
theorem dX4_offers_9 : decode cX4_offers 9 = .ok (.aload_n 2, 1) := dk_44 (dk_at dksX4_offers_0 9 rfl rfl)
theorem dX4_offers_10 : decode cX4_offers 10 = .ok (.aload_n 1, 1) := dk_43 (dk_at dksX4_offers_0 10 rfl rfl)
theorem dX4_offers_11 : decode cX4_offers 11 = .ok (.invokevirtual 78, 3) := dk_182 0 78 (dk_at dksX4_offers_0 11 rfl rfl)
theorem dX4_offers_14 : decode cX4_offers 14 = .ok (.ifCond .eq 10, 3) := dk_153 0 10 (dk_at dksX4_offers_0 14 rfl rfl)
theorem dX4_offers_17 : decode cX4_offers 17 = .ok (.aload_n 2, 1) := dk_44 (dk_at dksX4_offers_0 17 rfl rfl)
theorem dX4_offers_18 : decode cX4_offers 18 = .ok (.getfield 52, 3) := dk_180 0 52 (dk_at dksX4_offers_0 18 rfl rfl)
theorem dX4_offers_21 : decode cX4_offers 21 = .ok (.goto 4, 3) := dk_167 0 4 (dk_at dksX4_offers_0 21 rfl rfl)
theorem dX4_offers_24 : decode cX4_offers 24 = .ok (.iconst 0, 1) := dk_3 (dk_at dksX4_offers_1 0 rfl rfl)
theorem dX4_offers_25 : decode cX4_offers 25 = .ok (.ireturn, 1) := dk_172 (dk_at dksX4_offers_1 1 rfl rfl)
theorem q108 : (Jvm.Cond.initialized "PaperStore$Shelf") ∈ lw_all := lw_g (lw_at lw_m1 9 rfl) rfl
theorem q265 : (Jvm.Cond.instantiable "PaperStore$Shelf" (1 : Nat)) ∈ lw_all := lw_g (lw_at lw_m1 166 rfl) rfl
theorem q267 : (Jvm.Cond.instanceMethod ({ cls := "PaperStore$Shelf", name := "<init>", desc := "()V" } : Jvm.MethodName)) ∈ lw_all := lw_g (lw_at lw_m1 168 rfl) rfl
theorem q268 : (Jvm.Cond.code ({ cls := "PaperStore$Shelf", name := "<init>", desc := "()V" } : Jvm.MethodName) prog_12_method_1_code (1 : Nat) (Option.none : Option Jvm.ClassFile.FieldType)) ∈ lw_all := lw_g (lw_at lw_m1 169 rfl) rfl
theorem q269 : (Jvm.Cond.methodLink "PaperStore$Shelf" (1 : Nat) ({ cls := "java/lang/Object", name := "<init>", desc := "()V" } : Jvm.MethodName)) ∈ lw_all := lw_g (lw_at lw_m1 170 rfl) rfl
theorem q270 : (Jvm.Cond.classLink "PaperStore$Shelf" (7 : Nat) "java/util/ArrayList") ∈ lw_all := lw_g (lw_at lw_m1 171 rfl) rfl
theorem q271 : (Jvm.Cond.methodLink "PaperStore$Shelf" (9 : Nat) ({ cls := "java/util/ArrayList", name := "<init>", desc := "()V" } : Jvm.MethodName)) ∈ lw_all := lw_g (lw_at lw_m1 172 rfl) rfl
theorem q272 : (Jvm.Cond.fieldLink "PaperStore$Shelf" (10 : Nat) "PaperStore$Shelf" "reams" "Ljava/util/ArrayList;") ∈ lw_all := lw_g (lw_at lw_m1 173 rfl) rfl
theorem q276 : (Jvm.Cond.laysFinal "PaperStore$Shelf" "PaperStore$Shelf" "reams" "Ljava/util/ArrayList;") ∈ lw_all := lw_g (lw_at lw_m1 177 rfl) rfl
theorem q277 : (Jvm.Cond.soleField "PaperStore$Shelf" "reams") ∈ lw_all := lw_g (lw_at lw_m1 178 rfl) rfl
theorem q278 : (Jvm.Cond.superclass "PaperStore$Shelf" "java/lang/Object") ∈ lw_all := lw_g (lw_at lw_m1 179 rfl) rfl
theorem q481 : (Jvm.Cond.selects "PaperStore$Shelf" ({ cls := "java/lang/Object", name := "getClass", desc := "()Ljava/lang/Class;" } : Jvm.MethodName) ({ cls := "java/lang/Object", name := "getClass", desc := "()Ljava/lang/Class;" } : Jvm.MethodName)) ∈ lw_all := lw_g (lw_at lw_m2 142 rfl) rfl
theorem q1272 : (Jvm.Cond.instanceMethod ({ cls := "PaperStore$Shelf", name := "copy", desc := "()LPaperStore$Shelf;" } : Jvm.MethodName)) ∈ lw_all := lw_g (lw_at lw_m5 213 rfl) rfl
theorem q1273 : (Jvm.Cond.selects "PaperStore$Shelf" ({ cls := "PaperStore$Shelf", name := "copy", desc := "()LPaperStore$Shelf;" } : Jvm.MethodName) ({ cls := "PaperStore$Shelf", name := "copy", desc := "()LPaperStore$Shelf;" } : Jvm.MethodName)) ∈ lw_all := lw_g (lw_at lw_m5 214 rfl) rfl
theorem q1274 : (Jvm.Cond.code ({ cls := "PaperStore$Shelf", name := "copy", desc := "()LPaperStore$Shelf;" } : Jvm.MethodName) prog_12_method_2_code (4 : Nat) (Option.some (Jvm.ClassFile.FieldType.object "PaperStore$Shelf"))) ∈ lw_all := lw_g (lw_at lw_m5 215 rfl) rfl
theorem q1275 : (Jvm.Cond.classLink "PaperStore$Shelf" (11 : Nat) "PaperStore$Shelf") ∈ lw_all := lw_g (lw_at lw_m5 216 rfl) rfl
theorem q1276 : (Jvm.Cond.methodLink "PaperStore$Shelf" (16 : Nat) ({ cls := "PaperStore$Shelf", name := "<init>", desc := "()V" } : Jvm.MethodName)) ∈ lw_all := lw_g (lw_at lw_m5 217 rfl) rfl
theorem q1277 : (Jvm.Cond.methodLink "PaperStore$Shelf" (17 : Nat) ({ cls := "java/util/ArrayList", name := "iterator", desc := "()Ljava/util/Iterator;" } : Jvm.MethodName)) ∈ lw_all := lw_g (lw_at lw_m5 218 rfl) rfl
theorem q1278 : (Jvm.Cond.interfaceEntry "PaperStore$Shelf" (21 : Nat)) ∈ lw_tbl := lw_at lw_m5 219 rfl
theorem q1279 : (Jvm.Cond.methodLink "PaperStore$Shelf" (21 : Nat) ({ cls := "java/util/Iterator", name := "hasNext", desc := "()Z" } : Jvm.MethodName)) ∈ lw_all := lw_g (lw_at lw_m5 220 rfl) rfl
theorem q1280 : (Jvm.Cond.interfaceEntry "PaperStore$Shelf" (27 : Nat)) ∈ lw_tbl := lw_at lw_m5 221 rfl
theorem q1281 : (Jvm.Cond.methodLink "PaperStore$Shelf" (27 : Nat) ({ cls := "java/util/Iterator", name := "next", desc := "()Ljava/lang/Object;" } : Jvm.MethodName)) ∈ lw_all := lw_g (lw_at lw_m5 222 rfl) rfl
theorem q1282 : (Jvm.Cond.classLink "PaperStore$Shelf" (31 : Nat) "PaperStore$Ream") ∈ lw_all := lw_g (lw_at lw_m5 223 rfl) rfl
theorem q1283 : (Jvm.Cond.methodLink "PaperStore$Shelf" (33 : Nat) ({ cls := "PaperStore$Ream", name := "copy", desc := "()LPaperStore$Ream;" } : Jvm.MethodName)) ∈ lw_all := lw_g (lw_at lw_m5 224 rfl) rfl
theorem q1300 : (Jvm.Cond.fieldLinkNest "PaperStore$Shelf" (52 : Nat) "PaperStore$Ream" "quires" "I" "PaperStore") ∈ lw_tbl := lw_at lw_m6 1 rfl
theorem q1307 : (Jvm.Cond.fieldLinkNest "PaperStore$Shelf" (71 : Nat) "PaperStore$Ream" "eaten" "I" "PaperStore") ∈ lw_tbl := lw_at lw_m6 8 rfl
theorem q1320 : (Jvm.Cond.methodLink "PaperStore$Shelf" (37 : Nat) ({ cls := "java/util/ArrayList", name := "add", desc := "(Ljava/lang/Object;)Z" } : Jvm.MethodName)) ∈ lw_all := lw_g (lw_at lw_m6 21 rfl) rfl
theorem q1810 : (Jvm.Cond.selects "PaperStore$Shelf" ({ cls := "java/lang/Object", name := "hashCode", desc := "()I" } : Jvm.MethodName) ({ cls := "java/lang/Object", name := "hashCode", desc := "()I" } : Jvm.MethodName)) ∈ lw_all := lw_g (lw_at lw_m8 31 rfl) rfl
theorem q1918 : (Jvm.Cond.selects "PaperStore$Shelf" ({ cls := "java/lang/Object", name := "equals", desc := "(Ljava/lang/Object;)Z" } : Jvm.MethodName) ({ cls := "java/lang/Object", name := "equals", desc := "(Ljava/lang/Object;)Z" } : Jvm.MethodName)) ∈ lw_all := lw_g (lw_at lw_m8 139 rfl) rfl
theorem q2262 : (Jvm.Cond.instanceMethod ({ cls := "PaperStore$Shelf", name := "top", desc := "()LPaperStore$Ream;" } : Jvm.MethodName)) ∈ lw_all := lw_g (lw_at lw_m10 3 rfl) rfl
theorem q2263 : (Jvm.Cond.selects "PaperStore$Shelf" ({ cls := "PaperStore$Shelf", name := "top", desc := "()LPaperStore$Ream;" } : Jvm.MethodName) ({ cls := "PaperStore$Shelf", name := "top", desc := "()LPaperStore$Ream;" } : Jvm.MethodName)) ∈ lw_all := lw_g (lw_at lw_m10 4 rfl) rfl
theorem q2264 : (Jvm.Cond.code ({ cls := "PaperStore$Shelf", name := "top", desc := "()LPaperStore$Ream;" } : Jvm.MethodName) prog_12_method_3_code (1 : Nat) (Option.some (Jvm.ClassFile.FieldType.object "PaperStore$Ream"))) ∈ lw_all := lw_g (lw_at lw_m10 5 rfl) rfl
theorem q2265 : (Jvm.Cond.methodLink "PaperStore$Shelf" (41 : Nat) ({ cls := "java/util/ArrayList", name := "isEmpty", desc := "()Z" } : Jvm.MethodName)) ∈ lw_all := lw_g (lw_at lw_m10 6 rfl) rfl
theorem q2269 : (Jvm.Cond.methodLink "PaperStore$Shelf" (44 : Nat) ({ cls := "java/util/ArrayList", name := "size", desc := "()I" } : Jvm.MethodName)) ∈ lw_all := lw_g (lw_at lw_m10 10 rfl) rfl
theorem q2270 : (Jvm.Cond.methodLink "PaperStore$Shelf" (48 : Nat) ({ cls := "java/util/ArrayList", name := "get", desc := "(I)Ljava/lang/Object;" } : Jvm.MethodName)) ∈ lw_all := lw_g (lw_at lw_m10 11 rfl) rfl
theorem q2373 : (Jvm.Cond.instanceMethod ({ cls := "PaperStore$Shelf", name := "isEaten", desc := "(I)I" } : Jvm.MethodName)) ∈ lw_all := lw_g (lw_at lw_m10 114 rfl) rfl
theorem q2374 : (Jvm.Cond.selects "PaperStore$Shelf" ({ cls := "PaperStore$Shelf", name := "isEaten", desc := "(I)I" } : Jvm.MethodName) ({ cls := "PaperStore$Shelf", name := "isEaten", desc := "(I)I" } : Jvm.MethodName)) ∈ lw_all := lw_g (lw_at lw_m10 115 rfl) rfl
theorem q2375 : (Jvm.Cond.code ({ cls := "PaperStore$Shelf", name := "isEaten", desc := "(I)I" } : Jvm.MethodName) prog_12_method_5_code (5 : Nat) (Option.some Jvm.ClassFile.FieldType.int)) ∈ lw_all := lw_g (lw_at lw_m10 116 rfl) rfl
theorem q2376 : (Jvm.Cond.methodLink "PaperStore$Shelf" (62 : Nat) ({ cls := "PaperStore$Shelf", name := "top", desc := "()LPaperStore$Ream;" } : Jvm.MethodName)) ∈ lw_all := lw_g (lw_at lw_m10 117 rfl) rfl
theorem q2377 : (Jvm.Cond.methodLink "PaperStore$Shelf" (65 : Nat) ({ cls := "java/lang/Math", name := "min", desc := "(II)I" } : Jvm.MethodName)) ∈ lw_all := lw_g (lw_at lw_m10 118 rfl) rfl
theorem q2378 : (Jvm.Cond.methodLink "PaperStore$Shelf" (74 : Nat) ({ cls := "PaperStore$Shelf", name := "takes", desc := "(LPaperStore$Ream;I)V" } : Jvm.MethodName)) ∈ lw_all := lw_g (lw_at lw_m10 119 rfl) rfl
theorem q2379 : (Jvm.Cond.instanceMethod ({ cls := "PaperStore$Shelf", name := "takes", desc := "(LPaperStore$Ream;I)V" } : Jvm.MethodName)) ∈ lw_all := lw_g (lw_at lw_m10 120 rfl) rfl
theorem q2380 : (Jvm.Cond.selects "PaperStore$Shelf" ({ cls := "PaperStore$Shelf", name := "takes", desc := "(LPaperStore$Ream;I)V" } : Jvm.MethodName) ({ cls := "PaperStore$Shelf", name := "takes", desc := "(LPaperStore$Ream;I)V" } : Jvm.MethodName)) ∈ lw_all := lw_g (lw_at lw_m10 121 rfl) rfl
theorem q2381 : (Jvm.Cond.code ({ cls := "PaperStore$Shelf", name := "takes", desc := "(LPaperStore$Ream;I)V" } : Jvm.MethodName) prog_12_method_4_code (4 : Nat) (Option.none : Option Jvm.ClassFile.FieldType)) ∈ lw_all := lw_g (lw_at lw_m10 122 rfl) rfl
theorem q2382 : (Jvm.Cond.methodLink "PaperStore$Shelf" (56 : Nat) ({ cls := "PaperStore$Ream", name := "isGone", desc := "()Z" } : Jvm.MethodName)) ∈ lw_all := lw_g (lw_at lw_m10 123 rfl) rfl
theorem q2383 : (Jvm.Cond.methodLink "PaperStore$Shelf" (59 : Nat) ({ cls := "java/util/ArrayList", name := "remove", desc := "(Ljava/lang/Object;)Z" } : Jvm.MethodName)) ∈ lw_all := lw_g (lw_at lw_m10 124 rfl) rfl
theorem q2485 : (Jvm.Cond.instanceMethod ({ cls := "PaperStore$Shelf", name := "offers", desc := "(LPaperStore$Paper;)I" } : Jvm.MethodName)) ∈ lw_all := lw_g (lw_at lw_m10 226 rfl) rfl
theorem q2486 : (Jvm.Cond.selects "PaperStore$Shelf" ({ cls := "PaperStore$Shelf", name := "offers", desc := "(LPaperStore$Paper;)I" } : Jvm.MethodName) ({ cls := "PaperStore$Shelf", name := "offers", desc := "(LPaperStore$Paper;)I" } : Jvm.MethodName)) ∈ lw_all := lw_g (lw_at lw_m10 227 rfl) rfl
theorem q2487 : (Jvm.Cond.code ({ cls := "PaperStore$Shelf", name := "offers", desc := "(LPaperStore$Paper;)I" } : Jvm.MethodName) prog_12_method_6_code (3 : Nat) (Option.some Jvm.ClassFile.FieldType.int)) ∈ lw_all := lw_g (lw_at lw_m10 228 rfl) rfl
theorem q2488 : (Jvm.Cond.methodLink "PaperStore$Shelf" (78 : Nat) ({ cls := "PaperStore$Ream", name := "isGood", desc := "(LPaperStore$Paper;)Z" } : Jvm.MethodName)) ∈ lw_all := lw_g (lw_at lw_m10 229 rfl) rfl
theorem q3337 : (Jvm.Cond.selects "PaperStore$Shelf" ({ cls := "java/lang/Object", name := "toString", desc := "()Ljava/lang/String;" } : Jvm.MethodName) ({ cls := "java/lang/Object", name := "toString", desc := "()Ljava/lang/String;" } : Jvm.MethodName)) ∈ lw_all := lw_g (lw_at lw_m14 118 rfl) rfl
theorem q4153 : (Jvm.Cond.castable "PaperStore$Shelf" "java/lang/Object") ∈ lw_tbl := lw_at lw_m17 214 rfl
theorem in_X4 : ∀ w ∈ wsX40, w ∈ lw_all := lw_in wsX40 [276] (by decide +kernel) (by decide +kernel)
/-! PaperStore$Ream -/
set_option maxRecDepth 100000
def RX6 : String := "PaperStore$Ream"
def TX6 : u_T := fun k => match k with
  | 0 => ("PaperStore$Ream", "number", "I", true)
  | 1 => ("PaperStore$Ream", "paper", "LPaperStore$Paper;", true)
  | 2 => ("PaperStore$Ream", "quires", "I", false)
  | 3 => ("PaperStore$Ream", "damp", "I", false)
  | _ => ("PaperStore$Ream", "eaten", "I", false)
def tyX6 : Nat → FieldType := fun k => match k with
  | 0 => .int
  | 1 => .object "PaperStore$Paper"
  | 2 => .int
  | 3 => .int
  | _ => .int
abbrev wsX60 : List Cond := u_ws RX6 TX6 5
theorem nmX6 : ∀ a, a < 5 → ∀ b, b < 5 → a ≠ b → (TX6 a).2.1 ≠ (TX6 b).2.1 := by decide +kernel
theorem tyX6_ok : ∀ k, k < 5 → parseFieldDescriptor (TX6 k).2.2.1 = some (tyX6 k) := by decide +kernel
abbrev cX6_copy : ByteArray := prog_10_method_2_code
def yX6_copy : MethodName := ⟨RX6, "copy", "()LPaperStore$Ream;"⟩
def dkwX6_copy_1 : List UInt8 := [180, 0, 9, 181, 0, 9, 43, 42, 180, 0, 28, 181, 0, 28, 43, 176]
abbrev dktX6_copy_1 : List UInt8 := dkwX6_copy_1 ++ []
def dkwX6_copy_0 : List UInt8 := [187, 0, 10, 89, 42, 180, 0, 15, 42, 180, 0, 18, 42, 180, 0, 22, 183, 0, 25, 76, 43, 42]
abbrev dktX6_copy_0 : List UInt8 := dkwX6_copy_0 ++ dktX6_copy_1
theorem dksX6_copy_0 : cX6_copy.data.toList.drop 0 = dktX6_copy_0 := by decide +kernel
theorem dksX6_copy_1 : cX6_copy.data.toList.drop 22 = dktX6_copy_1 := dk_seg dksX6_copy_0 22 rfl rfl
theorem dX6_copy_0 : decode cX6_copy 0 = .ok (.new 10, 3) := dk_187 0 10 (dk_at dksX6_copy_0 0 rfl rfl)
theorem dX6_copy_3 : decode cX6_copy 3 = .ok (.dup, 1) := dk_89 (dk_at dksX6_copy_0 3 rfl rfl)
theorem dX6_copy_4 : decode cX6_copy 4 = .ok (.aload_n 0, 1) := dk_42 (dk_at dksX6_copy_0 4 rfl rfl)
theorem dX6_copy_5 : decode cX6_copy 5 = .ok (.getfield 15, 3) := dk_180 0 15 (dk_at dksX6_copy_0 5 rfl rfl)
theorem dX6_copy_8 : decode cX6_copy 8 = .ok (.aload_n 0, 1) := dk_42 (dk_at dksX6_copy_0 8 rfl rfl)
theorem dX6_copy_9 : decode cX6_copy 9 = .ok (.getfield 18, 3) := dk_180 0 18 (dk_at dksX6_copy_0 9 rfl rfl)
theorem dX6_copy_12 : decode cX6_copy 12 = .ok (.aload_n 0, 1) := dk_42 (dk_at dksX6_copy_0 12 rfl rfl)
theorem dX6_copy_13 : decode cX6_copy 13 = .ok (.getfield 22, 3) := dk_180 0 22 (dk_at dksX6_copy_0 13 rfl rfl)
theorem dX6_copy_16 : decode cX6_copy 16 = .ok (.invokespecial 25, 3) := dk_183 0 25 (dk_at dksX6_copy_0 16 rfl rfl)
theorem dX6_copy_19 : decode cX6_copy 19 = .ok (.astore_n 1, 1) := dk_76 (dk_at dksX6_copy_0 19 rfl rfl)
theorem dX6_copy_20 : decode cX6_copy 20 = .ok (.aload_n 1, 1) := dk_43 (dk_at dksX6_copy_0 20 rfl rfl)
theorem dX6_copy_21 : decode cX6_copy 21 = .ok (.aload_n 0, 1) := dk_42 (dk_at dksX6_copy_0 21 rfl rfl)
theorem dX6_copy_22 : decode cX6_copy 22 = .ok (.getfield 9, 3) := dk_180 0 9 (dk_at dksX6_copy_1 0 rfl rfl)
theorem dX6_copy_25 : decode cX6_copy 25 = .ok (.putfield 9, 3) := dk_181 0 9 (dk_at dksX6_copy_1 3 rfl rfl)
theorem dX6_copy_28 : decode cX6_copy 28 = .ok (.aload_n 1, 1) := dk_43 (dk_at dksX6_copy_1 6 rfl rfl)
theorem dX6_copy_29 : decode cX6_copy 29 = .ok (.aload_n 0, 1) := dk_42 (dk_at dksX6_copy_1 7 rfl rfl)
theorem dX6_copy_30 : decode cX6_copy 30 = .ok (.getfield 28, 3) := dk_180 0 28 (dk_at dksX6_copy_1 8 rfl rfl)
theorem dX6_copy_33 : decode cX6_copy 33 = .ok (.putfield 28, 3) := dk_181 0 28 (dk_at dksX6_copy_1 11 rfl rfl)
theorem dX6_copy_36 : decode cX6_copy 36 = .ok (.aload_n 1, 1) := dk_43 (dk_at dksX6_copy_1 14 rfl rfl)
theorem dX6_copy_37 : decode cX6_copy 37 = .ok (.areturn, 1) := dk_176 (dk_at dksX6_copy_1 15 rfl rfl)
abbrev cX6_init : ByteArray := prog_10_method_1_code
def yX6_init : MethodName := ⟨RX6, "<init>", "(ILPaperStore$Paper;I)V"⟩
def dkwX6_init_1 : List UInt8 := [181, 0, 22, 177]
abbrev dktX6_init_1 : List UInt8 := dkwX6_init_1 ++ []
def dkwX6_init_0 : List UInt8 := [42, 183, 0, 3, 42, 16, 20, 181, 0, 9, 42, 27, 181, 0, 15, 42, 44, 181, 0, 18, 42, 29]
abbrev dktX6_init_0 : List UInt8 := dkwX6_init_0 ++ dktX6_init_1
theorem dksX6_init_0 : cX6_init.data.toList.drop 0 = dktX6_init_0 := by decide +kernel
theorem dksX6_init_1 : cX6_init.data.toList.drop 22 = dktX6_init_1 := dk_seg dksX6_init_0 22 rfl rfl
theorem dX6_init_0 : decode cX6_init 0 = .ok (.aload_n 0, 1) := dk_42 (dk_at dksX6_init_0 0 rfl rfl)
theorem dX6_init_1 : decode cX6_init 1 = .ok (.invokespecial 3, 3) := dk_183 0 3 (dk_at dksX6_init_0 1 rfl rfl)
theorem dX6_init_4 : decode cX6_init 4 = .ok (.aload_n 0, 1) := dk_42 (dk_at dksX6_init_0 4 rfl rfl)
theorem dX6_init_5 : decode cX6_init 5 = .ok (.bipush 20, 2) := dk_16 20 (dk_at dksX6_init_0 5 rfl rfl)
theorem dX6_init_7 : decode cX6_init 7 = .ok (.putfield 9, 3) := dk_181 0 9 (dk_at dksX6_init_0 7 rfl rfl)
theorem dX6_init_10 : decode cX6_init 10 = .ok (.aload_n 0, 1) := dk_42 (dk_at dksX6_init_0 10 rfl rfl)
theorem dX6_init_11 : decode cX6_init 11 = .ok (.iload_n 1, 1) := dk_27 (dk_at dksX6_init_0 11 rfl rfl)
theorem dX6_init_12 : decode cX6_init 12 = .ok (.putfield 15, 3) := dk_181 0 15 (dk_at dksX6_init_0 12 rfl rfl)
theorem dX6_init_15 : decode cX6_init 15 = .ok (.aload_n 0, 1) := dk_42 (dk_at dksX6_init_0 15 rfl rfl)
theorem dX6_init_16 : decode cX6_init 16 = .ok (.aload_n 2, 1) := dk_44 (dk_at dksX6_init_0 16 rfl rfl)
theorem dX6_init_17 : decode cX6_init 17 = .ok (.putfield 18, 3) := dk_181 0 18 (dk_at dksX6_init_0 17 rfl rfl)
theorem dX6_init_20 : decode cX6_init 20 = .ok (.aload_n 0, 1) := dk_42 (dk_at dksX6_init_0 20 rfl rfl)
theorem dX6_init_21 : decode cX6_init 21 = .ok (.iload_n 3, 1) := dk_29 (dk_at dksX6_init_0 21 rfl rfl)
theorem dX6_init_22 : decode cX6_init 22 = .ok (.putfield 22, 3) := dk_181 0 22 (dk_at dksX6_init_1 0 rfl rfl)
theorem dX6_init_25 : decode cX6_init 25 = .ok (.return_, 1) := dk_177 (dk_at dksX6_init_1 3 rfl rfl)
abbrev cX6_isGone : ByteArray := prog_10_method_3_code
def yX6_isGone : MethodName := ⟨RX6, "isGone", "()Z"⟩
def dkwX6_isGone_0 : List UInt8 := [42, 180, 0, 9, 154, 0, 7, 4, 167, 0, 4, 3, 172]
abbrev dktX6_isGone_0 : List UInt8 := dkwX6_isGone_0 ++ []
theorem dksX6_isGone_0 : cX6_isGone.data.toList.drop 0 = dktX6_isGone_0 := by decide +kernel
theorem dX6_isGone_0 : decode cX6_isGone 0 = .ok (.aload_n 0, 1) := dk_42 (dk_at dksX6_isGone_0 0 rfl rfl)
theorem dX6_isGone_1 : decode cX6_isGone 1 = .ok (.getfield 9, 3) := dk_180 0 9 (dk_at dksX6_isGone_0 1 rfl rfl)
theorem dX6_isGone_4 : decode cX6_isGone 4 = .ok (.ifCond .ne 7, 3) := dk_154 0 7 (dk_at dksX6_isGone_0 4 rfl rfl)
theorem dX6_isGone_7 : decode cX6_isGone 7 = .ok (.iconst 1, 1) := dk_4 (dk_at dksX6_isGone_0 7 rfl rfl)
theorem dX6_isGone_8 : decode cX6_isGone 8 = .ok (.goto 4, 3) := dk_167 0 4 (dk_at dksX6_isGone_0 8 rfl rfl)
theorem dX6_isGone_11 : decode cX6_isGone 11 = .ok (.iconst 0, 1) := dk_3 (dk_at dksX6_isGone_0 11 rfl rfl)
theorem dX6_isGone_12 : decode cX6_isGone 12 = .ok (.ireturn, 1) := dk_172 (dk_at dksX6_isGone_0 12 rfl rfl)
abbrev cX6_isWavy : ByteArray := prog_10_method_4_code
def yX6_isWavy : MethodName := ⟨RX6, "isWavy", "()Z"⟩
def dkwX6_isWavy_0 : List UInt8 := [42, 180, 0, 22, 16, 7, 161, 0, 7, 4, 167, 0, 4, 3, 172]
abbrev dktX6_isWavy_0 : List UInt8 := dkwX6_isWavy_0 ++ []
theorem dksX6_isWavy_0 : cX6_isWavy.data.toList.drop 0 = dktX6_isWavy_0 := by decide +kernel
theorem dX6_isWavy_0 : decode cX6_isWavy 0 = .ok (.aload_n 0, 1) := dk_42 (dk_at dksX6_isWavy_0 0 rfl rfl)
theorem dX6_isWavy_1 : decode cX6_isWavy 1 = .ok (.getfield 22, 3) := dk_180 0 22 (dk_at dksX6_isWavy_0 1 rfl rfl)
theorem dX6_isWavy_4 : decode cX6_isWavy 4 = .ok (.bipush 7, 2) := dk_16 7 (dk_at dksX6_isWavy_0 4 rfl rfl)
theorem dX6_isWavy_6 : decode cX6_isWavy 6 = .ok (.if_icmp .lt 7, 3) := dk_161 0 7 (dk_at dksX6_isWavy_0 6 rfl rfl)
theorem dX6_isWavy_9 : decode cX6_isWavy 9 = .ok (.iconst 1, 1) := dk_4 (dk_at dksX6_isWavy_0 9 rfl rfl)
theorem dX6_isWavy_10 : decode cX6_isWavy 10 = .ok (.goto 4, 3) := dk_167 0 4 (dk_at dksX6_isWavy_0 10 rfl rfl)
theorem dX6_isWavy_13 : decode cX6_isWavy 13 = .ok (.iconst 0, 1) := dk_3 (dk_at dksX6_isWavy_0 13 rfl rfl)
theorem dX6_isWavy_14 : decode cX6_isWavy 14 = .ok (.ireturn, 1) := dk_172 (dk_at dksX6_isWavy_0 14 rfl rfl)
abbrev cX6_isGood : ByteArray := prog_10_method_5_code
def yX6_isGood : MethodName := ⟨RX6, "isGood", "(LPaperStore$Paper;)Z"⟩
def dkwX6_isGood_0 : List UInt8 := [42, 180, 0, 18, 43, 182, 0, 31, 153, 0, 14, 42, 182, 0, 37, 154, 0, 7, 4, 167, 0, 4, 3, 172]
abbrev dktX6_isGood_0 : List UInt8 := dkwX6_isGood_0 ++ []
theorem dksX6_isGood_0 : cX6_isGood.data.toList.drop 0 = dktX6_isGood_0 := by decide +kernel
theorem dX6_isGood_0 : decode cX6_isGood 0 = .ok (.aload_n 0, 1) := dk_42 (dk_at dksX6_isGood_0 0 rfl rfl)
theorem dX6_isGood_1 : decode cX6_isGood 1 = .ok (.getfield 18, 3) := dk_180 0 18 (dk_at dksX6_isGood_0 1 rfl rfl)
theorem dX6_isGood_4 : decode cX6_isGood 4 = .ok (.aload_n 1, 1) := dk_43 (dk_at dksX6_isGood_0 4 rfl rfl)
theorem dX6_isGood_5 : decode cX6_isGood 5 = .ok (.invokevirtual 31, 3) := dk_182 0 31 (dk_at dksX6_isGood_0 5 rfl rfl)
theorem dX6_isGood_8 : decode cX6_isGood 8 = .ok (.ifCond .eq 14, 3) := dk_153 0 14 (dk_at dksX6_isGood_0 8 rfl rfl)
theorem dX6_isGood_11 : decode cX6_isGood 11 = .ok (.aload_n 0, 1) := dk_42 (dk_at dksX6_isGood_0 11 rfl rfl)
theorem dX6_isGood_12 : decode cX6_isGood 12 = .ok (.invokevirtual 37, 3) := dk_182 0 37 (dk_at dksX6_isGood_0 12 rfl rfl)
theorem dX6_isGood_15 : decode cX6_isGood 15 = .ok (.ifCond .ne 7, 3) := dk_154 0 7 (dk_at dksX6_isGood_0 15 rfl rfl)
theorem dX6_isGood_18 : decode cX6_isGood 18 = .ok (.iconst 1, 1) := dk_4 (dk_at dksX6_isGood_0 18 rfl rfl)
theorem dX6_isGood_19 : decode cX6_isGood 19 = .ok (.goto 4, 3) := dk_167 0 4 (dk_at dksX6_isGood_0 19 rfl rfl)
theorem dX6_isGood_22 : decode cX6_isGood 22 = .ok (.iconst 0, 1) := dk_3 (dk_at dksX6_isGood_0 22 rfl rfl)
theorem dX6_isGood_23 : decode cX6_isGood 23 = .ok (.ireturn, 1) := dk_172 (dk_at dksX6_isGood_0 23 rfl rfl)
abbrev cX6_comesNear : ByteArray := prog_10_method_6_code
def yX6_comesNear : MethodName := ⟨RX6, "comesNear", "(I)V"⟩
def dkwX6_comesNear_0 : List UInt8 := [42, 89, 180, 0, 22, 27, 42, 180, 0, 22, 184, 0, 41, 96, 181, 0, 22, 177]
abbrev dktX6_comesNear_0 : List UInt8 := dkwX6_comesNear_0 ++ []
theorem dksX6_comesNear_0 : cX6_comesNear.data.toList.drop 0 = dktX6_comesNear_0 := by decide +kernel
theorem dX6_comesNear_0 : decode cX6_comesNear 0 = .ok (.aload_n 0, 1) := dk_42 (dk_at dksX6_comesNear_0 0 rfl rfl)
theorem dX6_comesNear_1 : decode cX6_comesNear 1 = .ok (.dup, 1) := dk_89 (dk_at dksX6_comesNear_0 1 rfl rfl)
theorem dX6_comesNear_2 : decode cX6_comesNear 2 = .ok (.getfield 22, 3) := dk_180 0 22 (dk_at dksX6_comesNear_0 2 rfl rfl)
theorem dX6_comesNear_5 : decode cX6_comesNear 5 = .ok (.iload_n 1, 1) := dk_27 (dk_at dksX6_comesNear_0 5 rfl rfl)
theorem dX6_comesNear_6 : decode cX6_comesNear 6 = .ok (.aload_n 0, 1) := dk_42 (dk_at dksX6_comesNear_0 6 rfl rfl)
theorem dX6_comesNear_7 : decode cX6_comesNear 7 = .ok (.getfield 22, 3) := dk_180 0 22 (dk_at dksX6_comesNear_0 7 rfl rfl)
theorem dX6_comesNear_10 : decode cX6_comesNear 10 = .ok (.invokestatic 41, 3) := dk_184 0 41 (dk_at dksX6_comesNear_0 10 rfl rfl)
theorem dX6_comesNear_13 : decode cX6_comesNear 13 = .ok (.iadd, 1) := dk_96 (dk_at dksX6_comesNear_0 13 rfl rfl)
theorem dX6_comesNear_14 : decode cX6_comesNear 14 = .ok (.putfield 22, 3) := dk_181 0 22 (dk_at dksX6_comesNear_0 14 rfl rfl)
theorem dX6_comesNear_17 : decode cX6_comesNear 17 = .ok (.return_, 1) := dk_177 (dk_at dksX6_comesNear_0 17 rfl rfl)
theorem q137 : (Jvm.Cond.initialized "PaperStore$Ream") ∈ lw_all := lw_g (lw_at lw_m1 38 rfl) rfl
theorem q479 : (Jvm.Cond.selects "PaperStore$Ream" ({ cls := "java/lang/Object", name := "getClass", desc := "()Ljava/lang/Class;" } : Jvm.MethodName) ({ cls := "java/lang/Object", name := "getClass", desc := "()Ljava/lang/Class;" } : Jvm.MethodName)) ∈ lw_all := lw_g (lw_at lw_m2 140 rfl) rfl
theorem q1284 : (Jvm.Cond.instanceMethod ({ cls := "PaperStore$Ream", name := "copy", desc := "()LPaperStore$Ream;" } : Jvm.MethodName)) ∈ lw_all := lw_g (lw_at lw_m5 225 rfl) rfl
theorem q1285 : (Jvm.Cond.selects "PaperStore$Ream" ({ cls := "PaperStore$Ream", name := "copy", desc := "()LPaperStore$Ream;" } : Jvm.MethodName) ({ cls := "PaperStore$Ream", name := "copy", desc := "()LPaperStore$Ream;" } : Jvm.MethodName)) ∈ lw_all := lw_g (lw_at lw_m5 226 rfl) rfl
theorem q1286 : (Jvm.Cond.code ({ cls := "PaperStore$Ream", name := "copy", desc := "()LPaperStore$Ream;" } : Jvm.MethodName) prog_10_method_2_code (2 : Nat) (Option.some (Jvm.ClassFile.FieldType.object "PaperStore$Ream"))) ∈ lw_all := lw_g (lw_at lw_m5 227 rfl) rfl
theorem q1287 : (Jvm.Cond.classLink "PaperStore$Ream" (10 : Nat) "PaperStore$Ream") ∈ lw_all := lw_g (lw_at lw_m5 228 rfl) rfl
theorem q1288 : (Jvm.Cond.instantiable "PaperStore$Ream" (5 : Nat)) ∈ lw_all := lw_g (lw_at lw_m5 229 rfl) rfl
theorem q1289 : (Jvm.Cond.methodLink "PaperStore$Ream" (25 : Nat) ({ cls := "PaperStore$Ream", name := "<init>", desc := "(ILPaperStore$Paper;I)V" } : Jvm.MethodName)) ∈ lw_all := lw_g (lw_at lw_m5 230 rfl) rfl
theorem q1290 : (Jvm.Cond.instanceMethod ({ cls := "PaperStore$Ream", name := "<init>", desc := "(ILPaperStore$Paper;I)V" } : Jvm.MethodName)) ∈ lw_all := lw_g (lw_at lw_m5 231 rfl) rfl
theorem q1291 : (Jvm.Cond.code ({ cls := "PaperStore$Ream", name := "<init>", desc := "(ILPaperStore$Paper;I)V" } : Jvm.MethodName) prog_10_method_1_code (4 : Nat) (Option.none : Option Jvm.ClassFile.FieldType)) ∈ lw_all := lw_g (lw_at lw_m5 232 rfl) rfl
theorem q1292 : (Jvm.Cond.methodLink "PaperStore$Ream" (3 : Nat) ({ cls := "java/lang/Object", name := "<init>", desc := "()V" } : Jvm.MethodName)) ∈ lw_all := lw_g (lw_at lw_m5 233 rfl) rfl
theorem q1293 : (Jvm.Cond.fieldLink "PaperStore$Ream" (15 : Nat) "PaperStore$Ream" "number" "I") ∈ lw_all := lw_g (lw_at lw_m5 234 rfl) rfl
theorem q1296 : (Jvm.Cond.fieldLink "PaperStore$Ream" (18 : Nat) "PaperStore$Ream" "paper" "LPaperStore$Paper;") ∈ lw_all := lw_g (lw_at lw_m5 237 rfl) rfl
theorem q1299 : (Jvm.Cond.fieldLink "PaperStore$Ream" (9 : Nat) "PaperStore$Ream" "quires" "I") ∈ lw_all := lw_g (lw_at lw_m6 0 rfl) rfl
theorem q1304 : (Jvm.Cond.fieldLink "PaperStore$Ream" (22 : Nat) "PaperStore$Ream" "damp" "I") ∈ lw_all := lw_g (lw_at lw_m6 5 rfl) rfl
theorem q1306 : (Jvm.Cond.fieldLink "PaperStore$Ream" (28 : Nat) "PaperStore$Ream" "eaten" "I") ∈ lw_all := lw_g (lw_at lw_m6 7 rfl) rfl
theorem q1309 : (Jvm.Cond.laysFinal "PaperStore$Ream" "PaperStore$Ream" "number" "I") ∈ lw_all := lw_g (lw_at lw_m6 10 rfl) rfl
theorem q1310 : (Jvm.Cond.soleField "PaperStore$Ream" "number") ∈ lw_all := lw_g (lw_at lw_m6 11 rfl) rfl
theorem q1311 : (Jvm.Cond.laysFinal "PaperStore$Ream" "PaperStore$Ream" "paper" "LPaperStore$Paper;") ∈ lw_all := lw_g (lw_at lw_m6 12 rfl) rfl
theorem q1312 : (Jvm.Cond.soleField "PaperStore$Ream" "paper") ∈ lw_all := lw_g (lw_at lw_m6 13 rfl) rfl
theorem q1313 : (Jvm.Cond.lays "PaperStore$Ream" "PaperStore$Ream" "quires" "I") ∈ lw_all := lw_g (lw_at lw_m6 14 rfl) rfl
theorem q1314 : (Jvm.Cond.soleField "PaperStore$Ream" "quires") ∈ lw_all := lw_g (lw_at lw_m6 15 rfl) rfl
theorem q1315 : (Jvm.Cond.lays "PaperStore$Ream" "PaperStore$Ream" "damp" "I") ∈ lw_all := lw_g (lw_at lw_m6 16 rfl) rfl
theorem q1316 : (Jvm.Cond.soleField "PaperStore$Ream" "damp") ∈ lw_all := lw_g (lw_at lw_m6 17 rfl) rfl
theorem q1317 : (Jvm.Cond.lays "PaperStore$Ream" "PaperStore$Ream" "eaten" "I") ∈ lw_all := lw_g (lw_at lw_m6 18 rfl) rfl
theorem q1318 : (Jvm.Cond.soleField "PaperStore$Ream" "eaten") ∈ lw_all := lw_g (lw_at lw_m6 19 rfl) rfl
theorem q1319 : (Jvm.Cond.superclass "PaperStore$Ream" "java/lang/Object") ∈ lw_all := lw_g (lw_at lw_m6 20 rfl) rfl
theorem q1808 : (Jvm.Cond.selects "PaperStore$Ream" ({ cls := "java/lang/Object", name := "hashCode", desc := "()I" } : Jvm.MethodName) ({ cls := "java/lang/Object", name := "hashCode", desc := "()I" } : Jvm.MethodName)) ∈ lw_all := lw_g (lw_at lw_m8 29 rfl) rfl
theorem q1916 : (Jvm.Cond.selects "PaperStore$Ream" ({ cls := "java/lang/Object", name := "equals", desc := "(Ljava/lang/Object;)Z" } : Jvm.MethodName) ({ cls := "java/lang/Object", name := "equals", desc := "(Ljava/lang/Object;)Z" } : Jvm.MethodName)) ∈ lw_all := lw_g (lw_at lw_m8 137 rfl) rfl
theorem q2284 : (Jvm.Cond.instanceMethod ({ cls := "PaperStore$Ream", name := "isGone", desc := "()Z" } : Jvm.MethodName)) ∈ lw_all := lw_g (lw_at lw_m10 25 rfl) rfl
theorem q2285 : (Jvm.Cond.selects "PaperStore$Ream" ({ cls := "PaperStore$Ream", name := "isGone", desc := "()Z" } : Jvm.MethodName) ({ cls := "PaperStore$Ream", name := "isGone", desc := "()Z" } : Jvm.MethodName)) ∈ lw_all := lw_g (lw_at lw_m10 26 rfl) rfl
theorem q2286 : (Jvm.Cond.code ({ cls := "PaperStore$Ream", name := "isGone", desc := "()Z" } : Jvm.MethodName) prog_10_method_3_code (1 : Nat) (Option.some Jvm.ClassFile.FieldType.boolean)) ∈ lw_all := lw_g (lw_at lw_m10 27 rfl) rfl
theorem q2288 : (Jvm.Cond.instanceMethod ({ cls := "PaperStore$Ream", name := "isWavy", desc := "()Z" } : Jvm.MethodName)) ∈ lw_all := lw_g (lw_at lw_m10 29 rfl) rfl
theorem q2289 : (Jvm.Cond.selects "PaperStore$Ream" ({ cls := "PaperStore$Ream", name := "isWavy", desc := "()Z" } : Jvm.MethodName) ({ cls := "PaperStore$Ream", name := "isWavy", desc := "()Z" } : Jvm.MethodName)) ∈ lw_all := lw_g (lw_at lw_m10 30 rfl) rfl
theorem q2290 : (Jvm.Cond.code ({ cls := "PaperStore$Ream", name := "isWavy", desc := "()Z" } : Jvm.MethodName) prog_10_method_4_code (1 : Nat) (Option.some Jvm.ClassFile.FieldType.boolean)) ∈ lw_all := lw_g (lw_at lw_m10 31 rfl) rfl
theorem q2489 : (Jvm.Cond.instanceMethod ({ cls := "PaperStore$Ream", name := "isGood", desc := "(LPaperStore$Paper;)Z" } : Jvm.MethodName)) ∈ lw_all := lw_g (lw_at lw_m10 230 rfl) rfl
theorem q2490 : (Jvm.Cond.selects "PaperStore$Ream" ({ cls := "PaperStore$Ream", name := "isGood", desc := "(LPaperStore$Paper;)Z" } : Jvm.MethodName) ({ cls := "PaperStore$Ream", name := "isGood", desc := "(LPaperStore$Paper;)Z" } : Jvm.MethodName)) ∈ lw_all := lw_g (lw_at lw_m10 231 rfl) rfl
theorem q2491 : (Jvm.Cond.code ({ cls := "PaperStore$Ream", name := "isGood", desc := "(LPaperStore$Paper;)Z" } : Jvm.MethodName) prog_10_method_5_code (2 : Nat) (Option.some Jvm.ClassFile.FieldType.boolean)) ∈ lw_all := lw_g (lw_at lw_m10 232 rfl) rfl
theorem q2492 : (Jvm.Cond.methodLink "PaperStore$Ream" (31 : Nat) ({ cls := "PaperStore$Paper", name := "equals", desc := "(Ljava/lang/Object;)Z" } : Jvm.MethodName)) ∈ lw_all := lw_g (lw_at lw_m10 233 rfl) rfl
theorem q2493 : (Jvm.Cond.methodLink "PaperStore$Ream" (37 : Nat) ({ cls := "PaperStore$Ream", name := "isWavy", desc := "()Z" } : Jvm.MethodName)) ∈ lw_all := lw_g (lw_at lw_m10 234 rfl) rfl
theorem q2656 : (Jvm.Cond.instanceMethod ({ cls := "PaperStore$Ream", name := "comesNear", desc := "(I)V" } : Jvm.MethodName)) ∈ lw_all := lw_g (lw_at lw_m11 157 rfl) rfl
theorem q2657 : (Jvm.Cond.selects "PaperStore$Ream" ({ cls := "PaperStore$Ream", name := "comesNear", desc := "(I)V" } : Jvm.MethodName) ({ cls := "PaperStore$Ream", name := "comesNear", desc := "(I)V" } : Jvm.MethodName)) ∈ lw_all := lw_g (lw_at lw_m11 158 rfl) rfl
theorem q2658 : (Jvm.Cond.code ({ cls := "PaperStore$Ream", name := "comesNear", desc := "(I)V" } : Jvm.MethodName) prog_10_method_6_code (2 : Nat) (Option.none : Option Jvm.ClassFile.FieldType)) ∈ lw_all := lw_g (lw_at lw_m11 159 rfl) rfl
theorem q2659 : (Jvm.Cond.methodLink "PaperStore$Ream" (41 : Nat) ({ cls := "java/lang/Integer", name := "compare", desc := "(II)I" } : Jvm.MethodName)) ∈ lw_all := lw_g (lw_at lw_m11 160 rfl) rfl
theorem q3335 : (Jvm.Cond.selects "PaperStore$Ream" ({ cls := "java/lang/Object", name := "toString", desc := "()Ljava/lang/String;" } : Jvm.MethodName) ({ cls := "java/lang/Object", name := "toString", desc := "()Ljava/lang/String;" } : Jvm.MethodName)) ∈ lw_all := lw_g (lw_at lw_m14 116 rfl) rfl
theorem q4164 : (Jvm.Cond.castable "PaperStore$Ream" "java/lang/Object") ∈ lw_tbl := lw_at lw_m17 225 rfl
theorem in_X6 : ∀ w ∈ wsX60, w ∈ lw_all := lw_in wsX60 [1309, 1311, 1313, 1315, 1317] (by decide +kernel) (by decide +kernel)
/-! PaperStore$Ladder -/
set_option maxRecDepth 100000
def RX7 : String := "PaperStore$Ladder"
def TX7 : u_T := fun k => match k with
  | 0 => ("PaperStore$Ladder", "reach", "I", true)
  | _ => ("PaperStore$Ladder", "aisle", "I", false)
def tyX7 : Nat → FieldType := fun k => match k with
  | 0 => .int
  | _ => .int
abbrev wsX70 : List Cond := u_ws RX7 TX7 2
theorem nmX7 : ∀ a, a < 2 → ∀ b, b < 2 → a ≠ b → (TX7 a).2.1 ≠ (TX7 b).2.1 := by decide +kernel
theorem tyX7_ok : ∀ k, k < 2 → parseFieldDescriptor (TX7 k).2.2.1 = some (tyX7 k) := by decide +kernel
abbrev cX7_init : ByteArray := prog_6_method_1_code
def yX7_init : MethodName := ⟨RX7, "<init>", "(II)V"⟩
def dkwX7_init_0 : List UInt8 := [42, 183, 0, 1, 42, 27, 181, 0, 7, 42, 28, 181, 0, 13, 177]
abbrev dktX7_init_0 : List UInt8 := dkwX7_init_0 ++ []
theorem dksX7_init_0 : cX7_init.data.toList.drop 0 = dktX7_init_0 := by decide +kernel
theorem dX7_init_0 : decode cX7_init 0 = .ok (.aload_n 0, 1) := dk_42 (dk_at dksX7_init_0 0 rfl rfl)
theorem dX7_init_1 : decode cX7_init 1 = .ok (.invokespecial 1, 3) := dk_183 0 1 (dk_at dksX7_init_0 1 rfl rfl)
theorem dX7_init_4 : decode cX7_init 4 = .ok (.aload_n 0, 1) := dk_42 (dk_at dksX7_init_0 4 rfl rfl)
theorem dX7_init_5 : decode cX7_init 5 = .ok (.iload_n 1, 1) := dk_27 (dk_at dksX7_init_0 5 rfl rfl)
theorem dX7_init_6 : decode cX7_init 6 = .ok (.putfield 7, 3) := dk_181 0 7 (dk_at dksX7_init_0 6 rfl rfl)
theorem dX7_init_9 : decode cX7_init 9 = .ok (.aload_n 0, 1) := dk_42 (dk_at dksX7_init_0 9 rfl rfl)
theorem dX7_init_10 : decode cX7_init 10 = .ok (.iload_n 2, 1) := dk_28 (dk_at dksX7_init_0 10 rfl rfl)
theorem dX7_init_11 : decode cX7_init 11 = .ok (.putfield 13, 3) := dk_181 0 13 (dk_at dksX7_init_0 11 rfl rfl)
theorem dX7_init_14 : decode cX7_init 14 = .ok (.return_, 1) := dk_177 (dk_at dksX7_init_0 14 rfl rfl)
theorem q138 : (Jvm.Cond.initialized "PaperStore$Ladder") ∈ lw_all := lw_g (lw_at lw_m1 39 rfl) rfl
theorem q475 : (Jvm.Cond.selects "PaperStore$Ladder" ({ cls := "java/lang/Object", name := "getClass", desc := "()Ljava/lang/Class;" } : Jvm.MethodName) ({ cls := "java/lang/Object", name := "getClass", desc := "()Ljava/lang/Class;" } : Jvm.MethodName)) ∈ lw_all := lw_g (lw_at lw_m2 136 rfl) rfl
theorem q1340 : (Jvm.Cond.instantiable "PaperStore$Ladder" (2 : Nat)) ∈ lw_all := lw_g (lw_at lw_m6 41 rfl) rfl
theorem q1342 : (Jvm.Cond.instanceMethod ({ cls := "PaperStore$Ladder", name := "<init>", desc := "(II)V" } : Jvm.MethodName)) ∈ lw_all := lw_g (lw_at lw_m6 43 rfl) rfl
theorem q1343 : (Jvm.Cond.code ({ cls := "PaperStore$Ladder", name := "<init>", desc := "(II)V" } : Jvm.MethodName) prog_6_method_1_code (3 : Nat) (Option.none : Option Jvm.ClassFile.FieldType)) ∈ lw_all := lw_g (lw_at lw_m6 44 rfl) rfl
theorem q1344 : (Jvm.Cond.methodLink "PaperStore$Ladder" (1 : Nat) ({ cls := "java/lang/Object", name := "<init>", desc := "()V" } : Jvm.MethodName)) ∈ lw_all := lw_g (lw_at lw_m6 45 rfl) rfl
theorem q1345 : (Jvm.Cond.fieldLink "PaperStore$Ladder" (7 : Nat) "PaperStore$Ladder" "reach" "I") ∈ lw_all := lw_g (lw_at lw_m6 46 rfl) rfl
theorem q1348 : (Jvm.Cond.fieldLink "PaperStore$Ladder" (13 : Nat) "PaperStore$Ladder" "aisle" "I") ∈ lw_all := lw_g (lw_at lw_m6 49 rfl) rfl
theorem q1351 : (Jvm.Cond.laysFinal "PaperStore$Ladder" "PaperStore$Ladder" "reach" "I") ∈ lw_all := lw_g (lw_at lw_m6 52 rfl) rfl
theorem q1352 : (Jvm.Cond.soleField "PaperStore$Ladder" "reach") ∈ lw_all := lw_g (lw_at lw_m6 53 rfl) rfl
theorem q1353 : (Jvm.Cond.lays "PaperStore$Ladder" "PaperStore$Ladder" "aisle" "I") ∈ lw_all := lw_g (lw_at lw_m6 54 rfl) rfl
theorem q1354 : (Jvm.Cond.soleField "PaperStore$Ladder" "aisle") ∈ lw_all := lw_g (lw_at lw_m6 55 rfl) rfl
theorem q1355 : (Jvm.Cond.superclass "PaperStore$Ladder" "java/lang/Object") ∈ lw_all := lw_g (lw_at lw_m6 56 rfl) rfl
theorem q1802 : (Jvm.Cond.selects "PaperStore$Ladder" ({ cls := "java/lang/Object", name := "hashCode", desc := "()I" } : Jvm.MethodName) ({ cls := "java/lang/Object", name := "hashCode", desc := "()I" } : Jvm.MethodName)) ∈ lw_all := lw_g (lw_at lw_m8 23 rfl) rfl
theorem q1909 : (Jvm.Cond.selects "PaperStore$Ladder" ({ cls := "java/lang/Object", name := "equals", desc := "(Ljava/lang/Object;)Z" } : Jvm.MethodName) ({ cls := "java/lang/Object", name := "equals", desc := "(Ljava/lang/Object;)Z" } : Jvm.MethodName)) ∈ lw_all := lw_g (lw_at lw_m8 130 rfl) rfl
theorem q3331 : (Jvm.Cond.selects "PaperStore$Ladder" ({ cls := "java/lang/Object", name := "toString", desc := "()Ljava/lang/String;" } : Jvm.MethodName) ({ cls := "java/lang/Object", name := "toString", desc := "()Ljava/lang/String;" } : Jvm.MethodName)) ∈ lw_all := lw_g (lw_at lw_m14 112 rfl) rfl
theorem q4165 : (Jvm.Cond.castable "PaperStore$Ladder" "java/lang/Object") ∈ lw_tbl := lw_at lw_m17 226 rfl
theorem in_X7 : ∀ w ∈ wsX70, w ∈ lw_all := lw_in wsX70 [1351, 1353] (by decide +kernel) (by decide +kernel)
/-! PaperStore$Order -/
set_option maxRecDepth 100000
def RX8 : String := "PaperStore$Order"
def TX8 : u_T := fun k => match k with
  | 0 => ("PaperStore$Order", "paper", "LPaperStore$Paper;", true)
  | 1 => ("PaperStore$Order", "quires", "I", true)
  | 2 => ("PaperStore$Order", "state", "I", false)
  | 3 => ("PaperStore$Order", "has", "I", false)
  | _ => ("PaperStore$Order", "cart", "I", false)
def tyX8 : Nat → FieldType := fun k => match k with
  | 0 => .object "PaperStore$Paper"
  | 1 => .int
  | 2 => .int
  | 3 => .int
  | _ => .int
abbrev wsX80 : List Cond := u_ws RX8 TX8 5
theorem nmX8 : ∀ a, a < 5 → ∀ b, b < 5 → a ≠ b → (TX8 a).2.1 ≠ (TX8 b).2.1 := by decide +kernel
theorem tyX8_ok : ∀ k, k < 5 → parseFieldDescriptor (TX8 k).2.2.1 = some (tyX8 k) := by decide +kernel
abbrev cX8_copy : ByteArray := prog_7_method_2_code
def yX8_copy : MethodName := ⟨RX8, "copy", "()LPaperStore$Order;"⟩
def dkwX8_copy_1 : List UInt8 := [43, 42, 180, 0, 28, 181, 0, 28, 43, 42, 180, 0, 9, 181, 0, 9, 43, 176]
abbrev dktX8_copy_1 : List UInt8 := dkwX8_copy_1 ++ []
def dkwX8_copy_0 : List UInt8 := [187, 0, 10, 89, 42, 180, 0, 15, 42, 180, 0, 19, 183, 0, 22, 76, 43, 42, 180, 0, 25, 181, 0, 25]
abbrev dktX8_copy_0 : List UInt8 := dkwX8_copy_0 ++ dktX8_copy_1
theorem dksX8_copy_0 : cX8_copy.data.toList.drop 0 = dktX8_copy_0 := by decide +kernel
theorem dksX8_copy_1 : cX8_copy.data.toList.drop 24 = dktX8_copy_1 := dk_seg dksX8_copy_0 24 rfl rfl
theorem dX8_copy_0 : decode cX8_copy 0 = .ok (.new 10, 3) := dk_187 0 10 (dk_at dksX8_copy_0 0 rfl rfl)
theorem dX8_copy_3 : decode cX8_copy 3 = .ok (.dup, 1) := dk_89 (dk_at dksX8_copy_0 3 rfl rfl)
theorem dX8_copy_4 : decode cX8_copy 4 = .ok (.aload_n 0, 1) := dk_42 (dk_at dksX8_copy_0 4 rfl rfl)
theorem dX8_copy_5 : decode cX8_copy 5 = .ok (.getfield 15, 3) := dk_180 0 15 (dk_at dksX8_copy_0 5 rfl rfl)
theorem dX8_copy_8 : decode cX8_copy 8 = .ok (.aload_n 0, 1) := dk_42 (dk_at dksX8_copy_0 8 rfl rfl)
theorem dX8_copy_9 : decode cX8_copy 9 = .ok (.getfield 19, 3) := dk_180 0 19 (dk_at dksX8_copy_0 9 rfl rfl)
theorem dX8_copy_12 : decode cX8_copy 12 = .ok (.invokespecial 22, 3) := dk_183 0 22 (dk_at dksX8_copy_0 12 rfl rfl)
theorem dX8_copy_15 : decode cX8_copy 15 = .ok (.astore_n 1, 1) := dk_76 (dk_at dksX8_copy_0 15 rfl rfl)
theorem dX8_copy_16 : decode cX8_copy 16 = .ok (.aload_n 1, 1) := dk_43 (dk_at dksX8_copy_0 16 rfl rfl)
theorem dX8_copy_17 : decode cX8_copy 17 = .ok (.aload_n 0, 1) := dk_42 (dk_at dksX8_copy_0 17 rfl rfl)
theorem dX8_copy_18 : decode cX8_copy 18 = .ok (.getfield 25, 3) := dk_180 0 25 (dk_at dksX8_copy_0 18 rfl rfl)
theorem dX8_copy_21 : decode cX8_copy 21 = .ok (.putfield 25, 3) := dk_181 0 25 (dk_at dksX8_copy_0 21 rfl rfl)
theorem dX8_copy_24 : decode cX8_copy 24 = .ok (.aload_n 1, 1) := dk_43 (dk_at dksX8_copy_1 0 rfl rfl)
theorem dX8_copy_25 : decode cX8_copy 25 = .ok (.aload_n 0, 1) := dk_42 (dk_at dksX8_copy_1 1 rfl rfl)
theorem dX8_copy_26 : decode cX8_copy 26 = .ok (.getfield 28, 3) := dk_180 0 28 (dk_at dksX8_copy_1 2 rfl rfl)
theorem dX8_copy_29 : decode cX8_copy 29 = .ok (.putfield 28, 3) := dk_181 0 28 (dk_at dksX8_copy_1 5 rfl rfl)
theorem dX8_copy_32 : decode cX8_copy 32 = .ok (.aload_n 1, 1) := dk_43 (dk_at dksX8_copy_1 8 rfl rfl)
theorem dX8_copy_33 : decode cX8_copy 33 = .ok (.aload_n 0, 1) := dk_42 (dk_at dksX8_copy_1 9 rfl rfl)
theorem dX8_copy_34 : decode cX8_copy 34 = .ok (.getfield 9, 3) := dk_180 0 9 (dk_at dksX8_copy_1 10 rfl rfl)
theorem dX8_copy_37 : decode cX8_copy 37 = .ok (.putfield 9, 3) := dk_181 0 9 (dk_at dksX8_copy_1 13 rfl rfl)
theorem dX8_copy_40 : decode cX8_copy 40 = .ok (.aload_n 1, 1) := dk_43 (dk_at dksX8_copy_1 16 rfl rfl)
theorem dX8_copy_41 : decode cX8_copy 41 = .ok (.areturn, 1) := dk_176 (dk_at dksX8_copy_1 17 rfl rfl)
abbrev cX8_init : ByteArray := prog_7_method_1_code
def yX8_init : MethodName := ⟨RX8, "<init>", "(LPaperStore$Paper;I)V"⟩
def dkwX8_init_0 : List UInt8 := [42, 183, 0, 3, 42, 2, 181, 0, 9, 42, 43, 181, 0, 15, 42, 28, 181, 0, 19, 177]
abbrev dktX8_init_0 : List UInt8 := dkwX8_init_0 ++ []
theorem dksX8_init_0 : cX8_init.data.toList.drop 0 = dktX8_init_0 := by decide +kernel
theorem dX8_init_0 : decode cX8_init 0 = .ok (.aload_n 0, 1) := dk_42 (dk_at dksX8_init_0 0 rfl rfl)
theorem dX8_init_1 : decode cX8_init 1 = .ok (.invokespecial 3, 3) := dk_183 0 3 (dk_at dksX8_init_0 1 rfl rfl)
theorem dX8_init_4 : decode cX8_init 4 = .ok (.aload_n 0, 1) := dk_42 (dk_at dksX8_init_0 4 rfl rfl)
theorem dX8_init_5 : decode cX8_init 5 = .ok (.iconst (-1), 1) := dk_2 (dk_at dksX8_init_0 5 rfl rfl)
theorem dX8_init_6 : decode cX8_init 6 = .ok (.putfield 9, 3) := dk_181 0 9 (dk_at dksX8_init_0 6 rfl rfl)
theorem dX8_init_9 : decode cX8_init 9 = .ok (.aload_n 0, 1) := dk_42 (dk_at dksX8_init_0 9 rfl rfl)
theorem dX8_init_10 : decode cX8_init 10 = .ok (.aload_n 1, 1) := dk_43 (dk_at dksX8_init_0 10 rfl rfl)
theorem dX8_init_11 : decode cX8_init 11 = .ok (.putfield 15, 3) := dk_181 0 15 (dk_at dksX8_init_0 11 rfl rfl)
theorem dX8_init_14 : decode cX8_init 14 = .ok (.aload_n 0, 1) := dk_42 (dk_at dksX8_init_0 14 rfl rfl)
theorem dX8_init_15 : decode cX8_init 15 = .ok (.iload_n 2, 1) := dk_28 (dk_at dksX8_init_0 15 rfl rfl)
theorem dX8_init_16 : decode cX8_init 16 = .ok (.putfield 19, 3) := dk_181 0 19 (dk_at dksX8_init_0 16 rfl rfl)
theorem dX8_init_19 : decode cX8_init 19 = .ok (.return_, 1) := dk_177 (dk_at dksX8_init_0 19 rfl rfl)
abbrev cX8_waits : ByteArray := prog_7_method_3_code
def yX8_waits : MethodName := ⟨RX8, "waits", "()Z"⟩
def dkwX8_waits_0 : List UInt8 := [42, 180, 0, 25, 154, 0, 7, 4, 167, 0, 4, 3, 172]
abbrev dktX8_waits_0 : List UInt8 := dkwX8_waits_0 ++ []
theorem dksX8_waits_0 : cX8_waits.data.toList.drop 0 = dktX8_waits_0 := by decide +kernel
theorem dX8_waits_0 : decode cX8_waits 0 = .ok (.aload_n 0, 1) := dk_42 (dk_at dksX8_waits_0 0 rfl rfl)
theorem dX8_waits_1 : decode cX8_waits 1 = .ok (.getfield 25, 3) := dk_180 0 25 (dk_at dksX8_waits_0 1 rfl rfl)
theorem dX8_waits_4 : decode cX8_waits 4 = .ok (.ifCond .ne 7, 3) := dk_154 0 7 (dk_at dksX8_waits_0 4 rfl rfl)
theorem dX8_waits_7 : decode cX8_waits 7 = .ok (.iconst 1, 1) := dk_4 (dk_at dksX8_waits_0 7 rfl rfl)
theorem dX8_waits_8 : decode cX8_waits 8 = .ok (.goto 4, 3) := dk_167 0 4 (dk_at dksX8_waits_0 8 rfl rfl)
theorem dX8_waits_11 : decode cX8_waits 11 = .ok (.iconst 0, 1) := dk_3 (dk_at dksX8_waits_0 11 rfl rfl)
theorem dX8_waits_12 : decode cX8_waits 12 = .ok (.ireturn, 1) := dk_172 (dk_at dksX8_waits_0 12 rfl rfl)
abbrev cX8_ends : ByteArray := prog_7_method_5_code
def yX8_ends : MethodName := ⟨RX8, "ends", "(I)V"⟩
def dkwX8_ends_0 : List UInt8 := [42, 27, 181, 0, 25, 42, 3, 181, 0, 28, 42, 2, 181, 0, 9, 177]
abbrev dktX8_ends_0 : List UInt8 := dkwX8_ends_0 ++ []
theorem dksX8_ends_0 : cX8_ends.data.toList.drop 0 = dktX8_ends_0 := by decide +kernel
theorem dX8_ends_0 : decode cX8_ends 0 = .ok (.aload_n 0, 1) := dk_42 (dk_at dksX8_ends_0 0 rfl rfl)
theorem dX8_ends_1 : decode cX8_ends 1 = .ok (.iload_n 1, 1) := dk_27 (dk_at dksX8_ends_0 1 rfl rfl)
theorem dX8_ends_2 : decode cX8_ends 2 = .ok (.putfield 25, 3) := dk_181 0 25 (dk_at dksX8_ends_0 2 rfl rfl)
theorem dX8_ends_5 : decode cX8_ends 5 = .ok (.aload_n 0, 1) := dk_42 (dk_at dksX8_ends_0 5 rfl rfl)
theorem dX8_ends_6 : decode cX8_ends 6 = .ok (.iconst 0, 1) := dk_3 (dk_at dksX8_ends_0 6 rfl rfl)
theorem dX8_ends_7 : decode cX8_ends 7 = .ok (.putfield 28, 3) := dk_181 0 28 (dk_at dksX8_ends_0 7 rfl rfl)
theorem dX8_ends_10 : decode cX8_ends 10 = .ok (.aload_n 0, 1) := dk_42 (dk_at dksX8_ends_0 10 rfl rfl)
theorem dX8_ends_11 : decode cX8_ends 11 = .ok (.iconst (-1), 1) := dk_2 (dk_at dksX8_ends_0 11 rfl rfl)
theorem dX8_ends_12 : decode cX8_ends 12 = .ok (.putfield 9, 3) := dk_181 0 9 (dk_at dksX8_ends_0 12 rfl rfl)
theorem dX8_ends_15 : decode cX8_ends 15 = .ok (.return_, 1) := dk_177 (dk_at dksX8_ends_0 15 rfl rfl)
abbrev cX8_lacks : ByteArray := prog_7_method_4_code
def yX8_lacks : MethodName := ⟨RX8, "lacks", "()I"⟩
def dkwX8_lacks_0 : List UInt8 := [42, 180, 0, 19, 42, 180, 0, 28, 100, 172]
abbrev dktX8_lacks_0 : List UInt8 := dkwX8_lacks_0 ++ []
theorem dksX8_lacks_0 : cX8_lacks.data.toList.drop 0 = dktX8_lacks_0 := by decide +kernel
theorem dX8_lacks_0 : decode cX8_lacks 0 = .ok (.aload_n 0, 1) := dk_42 (dk_at dksX8_lacks_0 0 rfl rfl)
theorem dX8_lacks_1 : decode cX8_lacks 1 = .ok (.getfield 19, 3) := dk_180 0 19 (dk_at dksX8_lacks_0 1 rfl rfl)
theorem dX8_lacks_4 : decode cX8_lacks 4 = .ok (.aload_n 0, 1) := dk_42 (dk_at dksX8_lacks_0 4 rfl rfl)
theorem dX8_lacks_5 : decode cX8_lacks 5 = .ok (.getfield 28, 3) := dk_180 0 28 (dk_at dksX8_lacks_0 5 rfl rfl)
theorem dX8_lacks_8 : decode cX8_lacks 8 = .ok (.isub, 1) := dk_100 (dk_at dksX8_lacks_0 8 rfl rfl)
theorem dX8_lacks_9 : decode cX8_lacks 9 = .ok (.ireturn, 1) := dk_172 (dk_at dksX8_lacks_0 9 rfl rfl)
theorem q139 : (Jvm.Cond.initialized "PaperStore$Order") ∈ lw_all := lw_g (lw_at lw_m1 40 rfl) rfl
theorem q476 : (Jvm.Cond.selects "PaperStore$Order" ({ cls := "java/lang/Object", name := "getClass", desc := "()Ljava/lang/Class;" } : Jvm.MethodName) ({ cls := "java/lang/Object", name := "getClass", desc := "()Ljava/lang/Class;" } : Jvm.MethodName)) ∈ lw_all := lw_g (lw_at lw_m2 137 rfl) rfl
theorem q1359 : (Jvm.Cond.instanceMethod ({ cls := "PaperStore$Order", name := "copy", desc := "()LPaperStore$Order;" } : Jvm.MethodName)) ∈ lw_all := lw_g (lw_at lw_m6 60 rfl) rfl
theorem q1360 : (Jvm.Cond.selects "PaperStore$Order" ({ cls := "PaperStore$Order", name := "copy", desc := "()LPaperStore$Order;" } : Jvm.MethodName) ({ cls := "PaperStore$Order", name := "copy", desc := "()LPaperStore$Order;" } : Jvm.MethodName)) ∈ lw_all := lw_g (lw_at lw_m6 61 rfl) rfl
theorem q1361 : (Jvm.Cond.code ({ cls := "PaperStore$Order", name := "copy", desc := "()LPaperStore$Order;" } : Jvm.MethodName) prog_7_method_2_code (2 : Nat) (Option.some (Jvm.ClassFile.FieldType.object "PaperStore$Order"))) ∈ lw_all := lw_g (lw_at lw_m6 62 rfl) rfl
theorem q1362 : (Jvm.Cond.classLink "PaperStore$Order" (10 : Nat) "PaperStore$Order") ∈ lw_all := lw_g (lw_at lw_m6 63 rfl) rfl
theorem q1363 : (Jvm.Cond.instantiable "PaperStore$Order" (5 : Nat)) ∈ lw_all := lw_g (lw_at lw_m6 64 rfl) rfl
theorem q1364 : (Jvm.Cond.methodLink "PaperStore$Order" (22 : Nat) ({ cls := "PaperStore$Order", name := "<init>", desc := "(LPaperStore$Paper;I)V" } : Jvm.MethodName)) ∈ lw_all := lw_g (lw_at lw_m6 65 rfl) rfl
theorem q1365 : (Jvm.Cond.instanceMethod ({ cls := "PaperStore$Order", name := "<init>", desc := "(LPaperStore$Paper;I)V" } : Jvm.MethodName)) ∈ lw_all := lw_g (lw_at lw_m6 66 rfl) rfl
theorem q1366 : (Jvm.Cond.code ({ cls := "PaperStore$Order", name := "<init>", desc := "(LPaperStore$Paper;I)V" } : Jvm.MethodName) prog_7_method_1_code (3 : Nat) (Option.none : Option Jvm.ClassFile.FieldType)) ∈ lw_all := lw_g (lw_at lw_m6 67 rfl) rfl
theorem q1367 : (Jvm.Cond.methodLink "PaperStore$Order" (3 : Nat) ({ cls := "java/lang/Object", name := "<init>", desc := "()V" } : Jvm.MethodName)) ∈ lw_all := lw_g (lw_at lw_m6 68 rfl) rfl
theorem q1368 : (Jvm.Cond.fieldLink "PaperStore$Order" (15 : Nat) "PaperStore$Order" "paper" "LPaperStore$Paper;") ∈ lw_all := lw_g (lw_at lw_m6 69 rfl) rfl
theorem q1371 : (Jvm.Cond.fieldLink "PaperStore$Order" (19 : Nat) "PaperStore$Order" "quires" "I") ∈ lw_all := lw_g (lw_at lw_m6 72 rfl) rfl
theorem q1374 : (Jvm.Cond.fieldLink "PaperStore$Order" (25 : Nat) "PaperStore$Order" "state" "I") ∈ lw_all := lw_g (lw_at lw_m6 75 rfl) rfl
theorem q1377 : (Jvm.Cond.fieldLink "PaperStore$Order" (28 : Nat) "PaperStore$Order" "has" "I") ∈ lw_all := lw_g (lw_at lw_m6 78 rfl) rfl
theorem q1380 : (Jvm.Cond.fieldLink "PaperStore$Order" (9 : Nat) "PaperStore$Order" "cart" "I") ∈ lw_all := lw_g (lw_at lw_m6 81 rfl) rfl
theorem q1383 : (Jvm.Cond.laysFinal "PaperStore$Order" "PaperStore$Order" "paper" "LPaperStore$Paper;") ∈ lw_all := lw_g (lw_at lw_m6 84 rfl) rfl
theorem q1384 : (Jvm.Cond.soleField "PaperStore$Order" "paper") ∈ lw_all := lw_g (lw_at lw_m6 85 rfl) rfl
theorem q1385 : (Jvm.Cond.laysFinal "PaperStore$Order" "PaperStore$Order" "quires" "I") ∈ lw_all := lw_g (lw_at lw_m6 86 rfl) rfl
theorem q1386 : (Jvm.Cond.soleField "PaperStore$Order" "quires") ∈ lw_all := lw_g (lw_at lw_m6 87 rfl) rfl
theorem q1387 : (Jvm.Cond.lays "PaperStore$Order" "PaperStore$Order" "state" "I") ∈ lw_all := lw_g (lw_at lw_m6 88 rfl) rfl
theorem q1388 : (Jvm.Cond.soleField "PaperStore$Order" "state") ∈ lw_all := lw_g (lw_at lw_m6 89 rfl) rfl
theorem q1389 : (Jvm.Cond.lays "PaperStore$Order" "PaperStore$Order" "has" "I") ∈ lw_all := lw_g (lw_at lw_m6 90 rfl) rfl
theorem q1390 : (Jvm.Cond.soleField "PaperStore$Order" "has") ∈ lw_all := lw_g (lw_at lw_m6 91 rfl) rfl
theorem q1391 : (Jvm.Cond.lays "PaperStore$Order" "PaperStore$Order" "cart" "I") ∈ lw_all := lw_g (lw_at lw_m6 92 rfl) rfl
theorem q1392 : (Jvm.Cond.soleField "PaperStore$Order" "cart") ∈ lw_all := lw_g (lw_at lw_m6 93 rfl) rfl
theorem q1393 : (Jvm.Cond.superclass "PaperStore$Order" "java/lang/Object") ∈ lw_all := lw_g (lw_at lw_m6 94 rfl) rfl
theorem q1803 : (Jvm.Cond.selects "PaperStore$Order" ({ cls := "java/lang/Object", name := "hashCode", desc := "()I" } : Jvm.MethodName) ({ cls := "java/lang/Object", name := "hashCode", desc := "()I" } : Jvm.MethodName)) ∈ lw_all := lw_g (lw_at lw_m8 24 rfl) rfl
theorem q1910 : (Jvm.Cond.selects "PaperStore$Order" ({ cls := "java/lang/Object", name := "equals", desc := "(Ljava/lang/Object;)Z" } : Jvm.MethodName) ({ cls := "java/lang/Object", name := "equals", desc := "(Ljava/lang/Object;)Z" } : Jvm.MethodName)) ∈ lw_all := lw_g (lw_at lw_m8 131 rfl) rfl
theorem q2438 : (Jvm.Cond.instanceMethod ({ cls := "PaperStore$Order", name := "waits", desc := "()Z" } : Jvm.MethodName)) ∈ lw_all := lw_g (lw_at lw_m10 179 rfl) rfl
theorem q2439 : (Jvm.Cond.selects "PaperStore$Order" ({ cls := "PaperStore$Order", name := "waits", desc := "()Z" } : Jvm.MethodName) ({ cls := "PaperStore$Order", name := "waits", desc := "()Z" } : Jvm.MethodName)) ∈ lw_all := lw_g (lw_at lw_m10 180 rfl) rfl
theorem q2440 : (Jvm.Cond.code ({ cls := "PaperStore$Order", name := "waits", desc := "()Z" } : Jvm.MethodName) prog_7_method_3_code (1 : Nat) (Option.some Jvm.ClassFile.FieldType.boolean)) ∈ lw_all := lw_g (lw_at lw_m10 181 rfl) rfl
theorem q2446 : (Jvm.Cond.instanceMethod ({ cls := "PaperStore$Order", name := "ends", desc := "(I)V" } : Jvm.MethodName)) ∈ lw_all := lw_g (lw_at lw_m10 187 rfl) rfl
theorem q2447 : (Jvm.Cond.selects "PaperStore$Order" ({ cls := "PaperStore$Order", name := "ends", desc := "(I)V" } : Jvm.MethodName) ({ cls := "PaperStore$Order", name := "ends", desc := "(I)V" } : Jvm.MethodName)) ∈ lw_all := lw_g (lw_at lw_m10 188 rfl) rfl
theorem q2448 : (Jvm.Cond.code ({ cls := "PaperStore$Order", name := "ends", desc := "(I)V" } : Jvm.MethodName) prog_7_method_5_code (2 : Nat) (Option.none : Option Jvm.ClassFile.FieldType)) ∈ lw_all := lw_g (lw_at lw_m10 189 rfl) rfl
theorem q2477 : (Jvm.Cond.instanceMethod ({ cls := "PaperStore$Order", name := "lacks", desc := "()I" } : Jvm.MethodName)) ∈ lw_all := lw_g (lw_at lw_m10 218 rfl) rfl
theorem q2478 : (Jvm.Cond.selects "PaperStore$Order" ({ cls := "PaperStore$Order", name := "lacks", desc := "()I" } : Jvm.MethodName) ({ cls := "PaperStore$Order", name := "lacks", desc := "()I" } : Jvm.MethodName)) ∈ lw_all := lw_g (lw_at lw_m10 219 rfl) rfl
theorem q2479 : (Jvm.Cond.code ({ cls := "PaperStore$Order", name := "lacks", desc := "()I" } : Jvm.MethodName) prog_7_method_4_code (1 : Nat) (Option.some Jvm.ClassFile.FieldType.int)) ∈ lw_all := lw_g (lw_at lw_m10 220 rfl) rfl
theorem q3332 : (Jvm.Cond.selects "PaperStore$Order" ({ cls := "java/lang/Object", name := "toString", desc := "()Ljava/lang/String;" } : Jvm.MethodName) ({ cls := "java/lang/Object", name := "toString", desc := "()Ljava/lang/String;" } : Jvm.MethodName)) ∈ lw_all := lw_g (lw_at lw_m14 113 rfl) rfl
theorem q4166 : (Jvm.Cond.castable "PaperStore$Order" "java/lang/Object") ∈ lw_tbl := lw_at lw_m17 227 rfl
theorem in_X8 : ∀ w ∈ wsX80, w ∈ lw_all := lw_in wsX80 [1383, 1385, 1387, 1389, 1391] (by decide +kernel) (by decide +kernel)
/-! PaperStore$Cart -/
set_option maxRecDepth 100000
def RX9 : String := "PaperStore$Cart"
def TX9 : u_T := fun k => match k with
  | 0 => ("PaperStore$Cart", "room", "I", true)
  | 1 => ("PaperStore$Cart", "quires", "I", false)
  | _ => ("PaperStore$Cart", "order", "I", false)
def tyX9 : Nat → FieldType := fun k => match k with
  | 0 => .int
  | 1 => .int
  | _ => .int
abbrev wsX90 : List Cond := u_ws RX9 TX9 3
theorem nmX9 : ∀ a, a < 3 → ∀ b, b < 3 → a ≠ b → (TX9 a).2.1 ≠ (TX9 b).2.1 := by decide +kernel
theorem tyX9_ok : ∀ k, k < 3 → parseFieldDescriptor (TX9 k).2.2.1 = some (tyX9 k) := by decide +kernel
abbrev cX9_copy : ByteArray := prog_4_method_2_code
def yX9_copy : MethodName := ⟨RX9, "copy", "()LPaperStore$Cart;"⟩
def dkwX9_copy_1 : List UInt8 := [180, 0, 9, 181, 0, 9, 43, 176]
abbrev dktX9_copy_1 : List UInt8 := dkwX9_copy_1 ++ []
def dkwX9_copy_0 : List UInt8 := [187, 0, 10, 89, 42, 180, 0, 15, 183, 0, 18, 76, 43, 42, 180, 0, 21, 181, 0, 21, 43, 42]
abbrev dktX9_copy_0 : List UInt8 := dkwX9_copy_0 ++ dktX9_copy_1
theorem dksX9_copy_0 : cX9_copy.data.toList.drop 0 = dktX9_copy_0 := by decide +kernel
theorem dksX9_copy_1 : cX9_copy.data.toList.drop 22 = dktX9_copy_1 := dk_seg dksX9_copy_0 22 rfl rfl
theorem dX9_copy_0 : decode cX9_copy 0 = .ok (.new 10, 3) := dk_187 0 10 (dk_at dksX9_copy_0 0 rfl rfl)
theorem dX9_copy_3 : decode cX9_copy 3 = .ok (.dup, 1) := dk_89 (dk_at dksX9_copy_0 3 rfl rfl)
theorem dX9_copy_4 : decode cX9_copy 4 = .ok (.aload_n 0, 1) := dk_42 (dk_at dksX9_copy_0 4 rfl rfl)
theorem dX9_copy_5 : decode cX9_copy 5 = .ok (.getfield 15, 3) := dk_180 0 15 (dk_at dksX9_copy_0 5 rfl rfl)
theorem dX9_copy_8 : decode cX9_copy 8 = .ok (.invokespecial 18, 3) := dk_183 0 18 (dk_at dksX9_copy_0 8 rfl rfl)
theorem dX9_copy_11 : decode cX9_copy 11 = .ok (.astore_n 1, 1) := dk_76 (dk_at dksX9_copy_0 11 rfl rfl)
theorem dX9_copy_12 : decode cX9_copy 12 = .ok (.aload_n 1, 1) := dk_43 (dk_at dksX9_copy_0 12 rfl rfl)
theorem dX9_copy_13 : decode cX9_copy 13 = .ok (.aload_n 0, 1) := dk_42 (dk_at dksX9_copy_0 13 rfl rfl)
theorem dX9_copy_14 : decode cX9_copy 14 = .ok (.getfield 21, 3) := dk_180 0 21 (dk_at dksX9_copy_0 14 rfl rfl)
theorem dX9_copy_17 : decode cX9_copy 17 = .ok (.putfield 21, 3) := dk_181 0 21 (dk_at dksX9_copy_0 17 rfl rfl)
theorem dX9_copy_20 : decode cX9_copy 20 = .ok (.aload_n 1, 1) := dk_43 (dk_at dksX9_copy_0 20 rfl rfl)
theorem dX9_copy_21 : decode cX9_copy 21 = .ok (.aload_n 0, 1) := dk_42 (dk_at dksX9_copy_0 21 rfl rfl)
theorem dX9_copy_22 : decode cX9_copy 22 = .ok (.getfield 9, 3) := dk_180 0 9 (dk_at dksX9_copy_1 0 rfl rfl)
theorem dX9_copy_25 : decode cX9_copy 25 = .ok (.putfield 9, 3) := dk_181 0 9 (dk_at dksX9_copy_1 3 rfl rfl)
theorem dX9_copy_28 : decode cX9_copy 28 = .ok (.aload_n 1, 1) := dk_43 (dk_at dksX9_copy_1 6 rfl rfl)
theorem dX9_copy_29 : decode cX9_copy 29 = .ok (.areturn, 1) := dk_176 (dk_at dksX9_copy_1 7 rfl rfl)
abbrev cX9_init : ByteArray := prog_4_method_1_code
def yX9_init : MethodName := ⟨RX9, "<init>", "(I)V"⟩
def dkwX9_init_0 : List UInt8 := [42, 183, 0, 3, 42, 2, 181, 0, 9, 42, 27, 181, 0, 15, 177]
abbrev dktX9_init_0 : List UInt8 := dkwX9_init_0 ++ []
theorem dksX9_init_0 : cX9_init.data.toList.drop 0 = dktX9_init_0 := by decide +kernel
theorem dX9_init_0 : decode cX9_init 0 = .ok (.aload_n 0, 1) := dk_42 (dk_at dksX9_init_0 0 rfl rfl)
theorem dX9_init_1 : decode cX9_init 1 = .ok (.invokespecial 3, 3) := dk_183 0 3 (dk_at dksX9_init_0 1 rfl rfl)
theorem dX9_init_4 : decode cX9_init 4 = .ok (.aload_n 0, 1) := dk_42 (dk_at dksX9_init_0 4 rfl rfl)
theorem dX9_init_5 : decode cX9_init 5 = .ok (.iconst (-1), 1) := dk_2 (dk_at dksX9_init_0 5 rfl rfl)
theorem dX9_init_6 : decode cX9_init 6 = .ok (.putfield 9, 3) := dk_181 0 9 (dk_at dksX9_init_0 6 rfl rfl)
theorem dX9_init_9 : decode cX9_init 9 = .ok (.aload_n 0, 1) := dk_42 (dk_at dksX9_init_0 9 rfl rfl)
theorem dX9_init_10 : decode cX9_init 10 = .ok (.iload_n 1, 1) := dk_27 (dk_at dksX9_init_0 10 rfl rfl)
theorem dX9_init_11 : decode cX9_init 11 = .ok (.putfield 15, 3) := dk_181 0 15 (dk_at dksX9_init_0 11 rfl rfl)
theorem dX9_init_14 : decode cX9_init 14 = .ok (.return_, 1) := dk_177 (dk_at dksX9_init_0 14 rfl rfl)
abbrev cX9_empties : ByteArray := prog_4_method_3_code
def yX9_empties : MethodName := ⟨RX9, "empties", "()V"⟩
def dkwX9_empties_0 : List UInt8 := [42, 3, 181, 0, 21, 42, 2, 181, 0, 9, 177]
abbrev dktX9_empties_0 : List UInt8 := dkwX9_empties_0 ++ []
theorem dksX9_empties_0 : cX9_empties.data.toList.drop 0 = dktX9_empties_0 := by decide +kernel
theorem dX9_empties_0 : decode cX9_empties 0 = .ok (.aload_n 0, 1) := dk_42 (dk_at dksX9_empties_0 0 rfl rfl)
theorem dX9_empties_1 : decode cX9_empties 1 = .ok (.iconst 0, 1) := dk_3 (dk_at dksX9_empties_0 1 rfl rfl)
theorem dX9_empties_2 : decode cX9_empties 2 = .ok (.putfield 21, 3) := dk_181 0 21 (dk_at dksX9_empties_0 2 rfl rfl)
theorem dX9_empties_5 : decode cX9_empties 5 = .ok (.aload_n 0, 1) := dk_42 (dk_at dksX9_empties_0 5 rfl rfl)
theorem dX9_empties_6 : decode cX9_empties 6 = .ok (.iconst (-1), 1) := dk_2 (dk_at dksX9_empties_0 6 rfl rfl)
theorem dX9_empties_7 : decode cX9_empties 7 = .ok (.putfield 9, 3) := dk_181 0 9 (dk_at dksX9_empties_0 7 rfl rfl)
theorem dX9_empties_10 : decode cX9_empties 10 = .ok (.return_, 1) := dk_177 (dk_at dksX9_empties_0 10 rfl rfl)
theorem q140 : (Jvm.Cond.initialized "PaperStore$Cart") ∈ lw_all := lw_g (lw_at lw_m1 41 rfl) rfl
theorem q473 : (Jvm.Cond.selects "PaperStore$Cart" ({ cls := "java/lang/Object", name := "getClass", desc := "()Ljava/lang/Class;" } : Jvm.MethodName) ({ cls := "java/lang/Object", name := "getClass", desc := "()Ljava/lang/Class;" } : Jvm.MethodName)) ∈ lw_all := lw_g (lw_at lw_m2 134 rfl) rfl
theorem q1395 : (Jvm.Cond.instanceMethod ({ cls := "PaperStore$Cart", name := "copy", desc := "()LPaperStore$Cart;" } : Jvm.MethodName)) ∈ lw_all := lw_g (lw_at lw_m6 96 rfl) rfl
theorem q1396 : (Jvm.Cond.selects "PaperStore$Cart" ({ cls := "PaperStore$Cart", name := "copy", desc := "()LPaperStore$Cart;" } : Jvm.MethodName) ({ cls := "PaperStore$Cart", name := "copy", desc := "()LPaperStore$Cart;" } : Jvm.MethodName)) ∈ lw_all := lw_g (lw_at lw_m6 97 rfl) rfl
theorem q1397 : (Jvm.Cond.code ({ cls := "PaperStore$Cart", name := "copy", desc := "()LPaperStore$Cart;" } : Jvm.MethodName) prog_4_method_2_code (2 : Nat) (Option.some (Jvm.ClassFile.FieldType.object "PaperStore$Cart"))) ∈ lw_all := lw_g (lw_at lw_m6 98 rfl) rfl
theorem q1398 : (Jvm.Cond.classLink "PaperStore$Cart" (10 : Nat) "PaperStore$Cart") ∈ lw_all := lw_g (lw_at lw_m6 99 rfl) rfl
theorem q1399 : (Jvm.Cond.instantiable "PaperStore$Cart" (3 : Nat)) ∈ lw_all := lw_g (lw_at lw_m6 100 rfl) rfl
theorem q1400 : (Jvm.Cond.methodLink "PaperStore$Cart" (18 : Nat) ({ cls := "PaperStore$Cart", name := "<init>", desc := "(I)V" } : Jvm.MethodName)) ∈ lw_all := lw_g (lw_at lw_m6 101 rfl) rfl
theorem q1401 : (Jvm.Cond.instanceMethod ({ cls := "PaperStore$Cart", name := "<init>", desc := "(I)V" } : Jvm.MethodName)) ∈ lw_all := lw_g (lw_at lw_m6 102 rfl) rfl
theorem q1402 : (Jvm.Cond.code ({ cls := "PaperStore$Cart", name := "<init>", desc := "(I)V" } : Jvm.MethodName) prog_4_method_1_code (2 : Nat) (Option.none : Option Jvm.ClassFile.FieldType)) ∈ lw_all := lw_g (lw_at lw_m6 103 rfl) rfl
theorem q1403 : (Jvm.Cond.methodLink "PaperStore$Cart" (3 : Nat) ({ cls := "java/lang/Object", name := "<init>", desc := "()V" } : Jvm.MethodName)) ∈ lw_all := lw_g (lw_at lw_m6 104 rfl) rfl
theorem q1404 : (Jvm.Cond.fieldLink "PaperStore$Cart" (15 : Nat) "PaperStore$Cart" "room" "I") ∈ lw_all := lw_g (lw_at lw_m6 105 rfl) rfl
theorem q1407 : (Jvm.Cond.fieldLink "PaperStore$Cart" (21 : Nat) "PaperStore$Cart" "quires" "I") ∈ lw_all := lw_g (lw_at lw_m6 108 rfl) rfl
theorem q1410 : (Jvm.Cond.fieldLink "PaperStore$Cart" (9 : Nat) "PaperStore$Cart" "order" "I") ∈ lw_all := lw_g (lw_at lw_m6 111 rfl) rfl
theorem q1413 : (Jvm.Cond.laysFinal "PaperStore$Cart" "PaperStore$Cart" "room" "I") ∈ lw_all := lw_g (lw_at lw_m6 114 rfl) rfl
theorem q1414 : (Jvm.Cond.soleField "PaperStore$Cart" "room") ∈ lw_all := lw_g (lw_at lw_m6 115 rfl) rfl
theorem q1415 : (Jvm.Cond.lays "PaperStore$Cart" "PaperStore$Cart" "quires" "I") ∈ lw_all := lw_g (lw_at lw_m6 116 rfl) rfl
theorem q1416 : (Jvm.Cond.soleField "PaperStore$Cart" "quires") ∈ lw_all := lw_g (lw_at lw_m6 117 rfl) rfl
theorem q1417 : (Jvm.Cond.lays "PaperStore$Cart" "PaperStore$Cart" "order" "I") ∈ lw_all := lw_g (lw_at lw_m6 118 rfl) rfl
theorem q1418 : (Jvm.Cond.soleField "PaperStore$Cart" "order") ∈ lw_all := lw_g (lw_at lw_m6 119 rfl) rfl
theorem q1419 : (Jvm.Cond.superclass "PaperStore$Cart" "java/lang/Object") ∈ lw_all := lw_g (lw_at lw_m6 120 rfl) rfl
theorem q1800 : (Jvm.Cond.selects "PaperStore$Cart" ({ cls := "java/lang/Object", name := "hashCode", desc := "()I" } : Jvm.MethodName) ({ cls := "java/lang/Object", name := "hashCode", desc := "()I" } : Jvm.MethodName)) ∈ lw_all := lw_g (lw_at lw_m8 21 rfl) rfl
theorem q1907 : (Jvm.Cond.selects "PaperStore$Cart" ({ cls := "java/lang/Object", name := "equals", desc := "(Ljava/lang/Object;)Z" } : Jvm.MethodName) ({ cls := "java/lang/Object", name := "equals", desc := "(Ljava/lang/Object;)Z" } : Jvm.MethodName)) ∈ lw_all := lw_g (lw_at lw_m8 128 rfl) rfl
theorem q2442 : (Jvm.Cond.instanceMethod ({ cls := "PaperStore$Cart", name := "empties", desc := "()V" } : Jvm.MethodName)) ∈ lw_all := lw_g (lw_at lw_m10 183 rfl) rfl
theorem q2443 : (Jvm.Cond.selects "PaperStore$Cart" ({ cls := "PaperStore$Cart", name := "empties", desc := "()V" } : Jvm.MethodName) ({ cls := "PaperStore$Cart", name := "empties", desc := "()V" } : Jvm.MethodName)) ∈ lw_all := lw_g (lw_at lw_m10 184 rfl) rfl
theorem q2444 : (Jvm.Cond.code ({ cls := "PaperStore$Cart", name := "empties", desc := "()V" } : Jvm.MethodName) prog_4_method_3_code (1 : Nat) (Option.none : Option Jvm.ClassFile.FieldType)) ∈ lw_all := lw_g (lw_at lw_m10 185 rfl) rfl
theorem q3329 : (Jvm.Cond.selects "PaperStore$Cart" ({ cls := "java/lang/Object", name := "toString", desc := "()Ljava/lang/String;" } : Jvm.MethodName) ({ cls := "java/lang/Object", name := "toString", desc := "()Ljava/lang/String;" } : Jvm.MethodName)) ∈ lw_all := lw_g (lw_at lw_m14 110 rfl) rfl
theorem q4167 : (Jvm.Cond.castable "PaperStore$Cart" "java/lang/Object") ∈ lw_tbl := lw_at lw_m17 228 rfl
theorem in_X9 : ∀ w ∈ wsX90, w ∈ lw_all := lw_in wsX90 [1413, 1415, 1417] (by decide +kernel) (by decide +kernel)
/-! PaperStore$Refusal -/
set_option maxRecDepth 100000
def RX10 : String := "PaperStore$Refusal"
def TX10 : u_T := fun k => match k with
  | 0 => ("java/lang/Throwable", "cause", "Ljava/lang/Throwable;", false)
  | 1 => ("java/lang/Throwable", "stackTrace", "[Ljava/lang/StackTraceElement;", false)
  | 2 => ("java/lang/Throwable", "suppressedExceptions", "Ljava/util/List;", false)
  | 3 => ("java/lang/Throwable", "detailMessage", "Ljava/lang/String;", false)
  | 4 => ("java/lang/Throwable", "backtrace", "Ljava/lang/Object;", false)
  | 5 => ("java/lang/Throwable", "depth", "I", false)
  | 6 => ("PaperStore$Refusal", "reason", "I", true)
  | _ => ("PaperStore$Refusal", "detail", "I", true)
def tyX10 : Nat → FieldType := fun k => match k with
  | 0 => .object "java/lang/Throwable"
  | 1 => .array (.object "java/lang/StackTraceElement")
  | 2 => .object "java/util/List"
  | 3 => .object "java/lang/String"
  | 4 => .object "java/lang/Object"
  | 5 => .int
  | 6 => .int
  | _ => .int
abbrev wsX100 : List Cond := u_ws RX10 TX10 8
theorem nmX10 : ∀ a, a < 8 → ∀ b, b < 8 → a ≠ b → (TX10 a).2.1 ≠ (TX10 b).2.1 := by decide +kernel
theorem tyX10_ok : ∀ k, k < 8 → parseFieldDescriptor (TX10 k).2.2.1 = some (tyX10 k) := by decide +kernel
abbrev cX10_init : ByteArray := prog_11_method_1_code
def yX10_init : MethodName := ⟨RX10, "<init>", "(II)V"⟩
def dkwX10_init_0 : List UInt8 := [42, 183, 0, 1, 42, 27, 181, 0, 7, 42, 28, 181, 0, 13, 177]
abbrev dktX10_init_0 : List UInt8 := dkwX10_init_0 ++ []
theorem dksX10_init_0 : cX10_init.data.toList.drop 0 = dktX10_init_0 := by decide +kernel
theorem dX10_init_0 : decode cX10_init 0 = .ok (.aload_n 0, 1) := dk_42 (dk_at dksX10_init_0 0 rfl rfl)
theorem dX10_init_1 : decode cX10_init 1 = .ok (.invokespecial 1, 3) := dk_183 0 1 (dk_at dksX10_init_0 1 rfl rfl)
theorem dX10_init_4 : decode cX10_init 4 = .ok (.aload_n 0, 1) := dk_42 (dk_at dksX10_init_0 4 rfl rfl)
theorem dX10_init_5 : decode cX10_init 5 = .ok (.iload_n 1, 1) := dk_27 (dk_at dksX10_init_0 5 rfl rfl)
theorem dX10_init_6 : decode cX10_init 6 = .ok (.putfield 7, 3) := dk_181 0 7 (dk_at dksX10_init_0 6 rfl rfl)
theorem dX10_init_9 : decode cX10_init 9 = .ok (.aload_n 0, 1) := dk_42 (dk_at dksX10_init_0 9 rfl rfl)
theorem dX10_init_10 : decode cX10_init 10 = .ok (.iload_n 2, 1) := dk_28 (dk_at dksX10_init_0 10 rfl rfl)
theorem dX10_init_11 : decode cX10_init 11 = .ok (.putfield 13, 3) := dk_181 0 13 (dk_at dksX10_init_0 11 rfl rfl)
theorem dX10_init_14 : decode cX10_init 14 = .ok (.return_, 1) := dk_177 (dk_at dksX10_init_0 14 rfl rfl)
theorem q150 : (Jvm.Cond.initialized "PaperStore$Refusal") ∈ lw_all := lw_g (lw_at lw_m1 51 rfl) rfl
theorem q480 : (Jvm.Cond.selects "PaperStore$Refusal" ({ cls := "java/lang/Object", name := "getClass", desc := "()Ljava/lang/Class;" } : Jvm.MethodName) ({ cls := "java/lang/Object", name := "getClass", desc := "()Ljava/lang/Class;" } : Jvm.MethodName)) ∈ lw_all := lw_g (lw_at lw_m2 141 rfl) rfl
theorem q764 : (Jvm.Cond.selects "PaperStore$Refusal" ({ cls := "java/lang/Throwable", name := "fillInStackTrace", desc := "()Ljava/lang/Throwable;" } : Jvm.MethodName) ({ cls := "java/lang/Throwable", name := "fillInStackTrace", desc := "()Ljava/lang/Throwable;" } : Jvm.MethodName)) ∈ lw_all := lw_g (lw_at lw_m3 185 rfl) rfl
theorem q1809 : (Jvm.Cond.selects "PaperStore$Refusal" ({ cls := "java/lang/Object", name := "hashCode", desc := "()I" } : Jvm.MethodName) ({ cls := "java/lang/Object", name := "hashCode", desc := "()I" } : Jvm.MethodName)) ∈ lw_all := lw_g (lw_at lw_m8 30 rfl) rfl
theorem q1917 : (Jvm.Cond.selects "PaperStore$Refusal" ({ cls := "java/lang/Object", name := "equals", desc := "(Ljava/lang/Object;)Z" } : Jvm.MethodName) ({ cls := "java/lang/Object", name := "equals", desc := "(Ljava/lang/Object;)Z" } : Jvm.MethodName)) ∈ lw_all := lw_g (lw_at lw_m8 138 rfl) rfl
theorem q2043 : (Jvm.Cond.instantiable "PaperStore$Refusal" (8 : Nat)) ∈ lw_all := lw_g (lw_at lw_m9 24 rfl) rfl
theorem q2044 : (Jvm.Cond.castable "PaperStore$Refusal" "PaperStore$Refusal") ∈ lw_tbl := lw_at lw_m9 25 rfl
theorem q2045 : (Jvm.Cond.selects "PaperStore$Refusal" ({ cls := "java/lang/Throwable", name := "fillInStackTrace", desc := "(I)Ljava/lang/Throwable;" } : Jvm.MethodName) ({ cls := "java/lang/Throwable", name := "fillInStackTrace", desc := "(I)Ljava/lang/Throwable;" } : Jvm.MethodName)) ∈ lw_all := lw_g (lw_at lw_m9 26 rfl) rfl
theorem q2046 : (Jvm.Cond.lays "PaperStore$Refusal" "java/lang/Throwable" "cause" "Ljava/lang/Throwable;") ∈ lw_all := lw_g (lw_at lw_m9 27 rfl) rfl
theorem q2047 : (Jvm.Cond.lays "PaperStore$Refusal" "java/lang/Throwable" "stackTrace" "[Ljava/lang/StackTraceElement;") ∈ lw_all := lw_g (lw_at lw_m9 28 rfl) rfl
theorem q2048 : (Jvm.Cond.lays "PaperStore$Refusal" "java/lang/Throwable" "suppressedExceptions" "Ljava/util/List;") ∈ lw_all := lw_g (lw_at lw_m9 29 rfl) rfl
theorem q2049 : (Jvm.Cond.lays "PaperStore$Refusal" "java/lang/Throwable" "detailMessage" "Ljava/lang/String;") ∈ lw_all := lw_g (lw_at lw_m9 30 rfl) rfl
theorem q2050 : (Jvm.Cond.lays "PaperStore$Refusal" "java/lang/Throwable" "backtrace" "Ljava/lang/Object;") ∈ lw_all := lw_g (lw_at lw_m9 31 rfl) rfl
theorem q2052 : (Jvm.Cond.instanceMethod ({ cls := "PaperStore$Refusal", name := "<init>", desc := "(II)V" } : Jvm.MethodName)) ∈ lw_all := lw_g (lw_at lw_m9 33 rfl) rfl
theorem q2053 : (Jvm.Cond.code ({ cls := "PaperStore$Refusal", name := "<init>", desc := "(II)V" } : Jvm.MethodName) prog_11_method_1_code (3 : Nat) (Option.none : Option Jvm.ClassFile.FieldType)) ∈ lw_all := lw_g (lw_at lw_m9 34 rfl) rfl
theorem q2054 : (Jvm.Cond.methodLink "PaperStore$Refusal" (1 : Nat) ({ cls := "java/lang/Exception", name := "<init>", desc := "()V" } : Jvm.MethodName)) ∈ lw_all := lw_g (lw_at lw_m9 35 rfl) rfl
theorem q2055 : (Jvm.Cond.fieldLink "PaperStore$Refusal" (7 : Nat) "PaperStore$Refusal" "reason" "I") ∈ lw_all := lw_g (lw_at lw_m9 36 rfl) rfl
theorem q2057 : (Jvm.Cond.fieldLink "PaperStore$Refusal" (13 : Nat) "PaperStore$Refusal" "detail" "I") ∈ lw_all := lw_g (lw_at lw_m9 38 rfl) rfl
theorem q2059 : (Jvm.Cond.laysFinal "PaperStore$Refusal" "PaperStore$Refusal" "reason" "I") ∈ lw_all := lw_g (lw_at lw_m9 40 rfl) rfl
theorem q2060 : (Jvm.Cond.soleField "PaperStore$Refusal" "reason") ∈ lw_all := lw_g (lw_at lw_m9 41 rfl) rfl
theorem q2061 : (Jvm.Cond.laysFinal "PaperStore$Refusal" "PaperStore$Refusal" "detail" "I") ∈ lw_all := lw_g (lw_at lw_m9 42 rfl) rfl
theorem q2062 : (Jvm.Cond.soleField "PaperStore$Refusal" "detail") ∈ lw_all := lw_g (lw_at lw_m9 43 rfl) rfl
theorem q2063 : (Jvm.Cond.lays "PaperStore$Refusal" "java/lang/Throwable" "depth" "I") ∈ lw_all := lw_g (lw_at lw_m9 44 rfl) rfl
theorem q2064 : (Jvm.Cond.superclass "PaperStore$Refusal" "java/lang/Exception") ∈ lw_all := lw_g (lw_at lw_m9 45 rfl) rfl
theorem q3298 : (Jvm.Cond.selects "PaperStore$Refusal" ({ cls := "java/lang/Throwable", name := "getLocalizedMessage", desc := "()Ljava/lang/String;" } : Jvm.MethodName) ({ cls := "java/lang/Throwable", name := "getLocalizedMessage", desc := "()Ljava/lang/String;" } : Jvm.MethodName)) ∈ lw_all := lw_g (lw_at lw_m14 79 rfl) rfl
theorem q3313 : (Jvm.Cond.selects "PaperStore$Refusal" ({ cls := "java/lang/Throwable", name := "getMessage", desc := "()Ljava/lang/String;" } : Jvm.MethodName) ({ cls := "java/lang/Throwable", name := "getMessage", desc := "()Ljava/lang/String;" } : Jvm.MethodName)) ∈ lw_all := lw_g (lw_at lw_m14 94 rfl) rfl
theorem q3336 : (Jvm.Cond.selects "PaperStore$Refusal" ({ cls := "java/lang/Object", name := "toString", desc := "()Ljava/lang/String;" } : Jvm.MethodName) ({ cls := "java/lang/Throwable", name := "toString", desc := "()Ljava/lang/String;" } : Jvm.MethodName)) ∈ lw_all := lw_g (lw_at lw_m14 117 rfl) rfl
theorem q4142 : (Jvm.Cond.castable "PaperStore$Refusal" "java/lang/Throwable") ∈ lw_tbl := lw_at lw_m17 203 rfl
theorem q4172 : (Jvm.Cond.castable "PaperStore$Refusal" "java/lang/Object") ∈ lw_tbl := lw_at lw_m17 233 rfl
theorem in_X10 : ∀ w ∈ wsX100, w ∈ lw_all := lw_in wsX100 [2046, 2047, 2048, 2049, 2050, 2063, 2059, 2061] (by decide +kernel) (by decide +kernel)
/-! PaperStore$Paper -/
set_option maxRecDepth 100000
def RX11 : String := "PaperStore$Paper"
def TX11 : u_T := fun k => match k with
  | 0 => ("PaperStore$Paper", "size", "I", true)
  | _ => ("PaperStore$Paper", "colour", "I", true)
def tyX11 : Nat → FieldType := fun k => match k with
  | 0 => .int
  | _ => .int
abbrev wsX110 : List Cond := u_ws RX11 TX11 2
theorem nmX11 : ∀ a, a < 2 → ∀ b, b < 2 → a ≠ b → (TX11 a).2.1 ≠ (TX11 b).2.1 := by decide +kernel
theorem tyX11_ok : ∀ k, k < 2 → parseFieldDescriptor (TX11 k).2.2.1 = some (tyX11 k) := by decide +kernel
abbrev cX11_number : ByteArray := prog_8_method_2_code
def yX11_number : MethodName := ⟨RX11, "number", "()I"⟩
def dkwX11_number_0 : List UInt8 := [6, 42, 180, 0, 9, 104, 42, 180, 0, 15, 96, 172]
abbrev dktX11_number_0 : List UInt8 := dkwX11_number_0 ++ []
theorem dksX11_number_0 : cX11_number.data.toList.drop 0 = dktX11_number_0 := by decide +kernel
theorem dX11_number_0 : decode cX11_number 0 = .ok (.iconst 3, 1) := dk_6 (dk_at dksX11_number_0 0 rfl rfl)
theorem dX11_number_1 : decode cX11_number 1 = .ok (.aload_n 0, 1) := dk_42 (dk_at dksX11_number_0 1 rfl rfl)
theorem dX11_number_2 : decode cX11_number 2 = .ok (.getfield 9, 3) := dk_180 0 9 (dk_at dksX11_number_0 2 rfl rfl)
theorem dX11_number_5 : decode cX11_number 5 = .ok (.imul, 1) := dk_104 (dk_at dksX11_number_0 5 rfl rfl)
theorem dX11_number_6 : decode cX11_number 6 = .ok (.aload_n 0, 1) := dk_42 (dk_at dksX11_number_0 6 rfl rfl)
theorem dX11_number_7 : decode cX11_number 7 = .ok (.getfield 15, 3) := dk_180 0 15 (dk_at dksX11_number_0 7 rfl rfl)
theorem dX11_number_10 : decode cX11_number 10 = .ok (.iadd, 1) := dk_96 (dk_at dksX11_number_0 10 rfl rfl)
theorem dX11_number_11 : decode cX11_number 11 = .ok (.ireturn, 1) := dk_172 (dk_at dksX11_number_0 11 rfl rfl)
abbrev cX11_hashCode : ByteArray := prog_8_method_4_code
def yX11_hashCode : MethodName := ⟨RX11, "hashCode", "()I"⟩
def dkwX11_hashCode_0 : List UInt8 := [16, 31, 42, 180, 0, 15, 104, 42, 180, 0, 9, 96, 172]
abbrev dktX11_hashCode_0 : List UInt8 := dkwX11_hashCode_0 ++ []
theorem dksX11_hashCode_0 : cX11_hashCode.data.toList.drop 0 = dktX11_hashCode_0 := by decide +kernel
theorem dX11_hashCode_0 : decode cX11_hashCode 0 = .ok (.bipush 31, 2) := dk_16 31 (dk_at dksX11_hashCode_0 0 rfl rfl)
theorem dX11_hashCode_2 : decode cX11_hashCode 2 = .ok (.aload_n 0, 1) := dk_42 (dk_at dksX11_hashCode_0 2 rfl rfl)
theorem dX11_hashCode_3 : decode cX11_hashCode 3 = .ok (.getfield 15, 3) := dk_180 0 15 (dk_at dksX11_hashCode_0 3 rfl rfl)
theorem dX11_hashCode_6 : decode cX11_hashCode 6 = .ok (.imul, 1) := dk_104 (dk_at dksX11_hashCode_0 6 rfl rfl)
theorem dX11_hashCode_7 : decode cX11_hashCode 7 = .ok (.aload_n 0, 1) := dk_42 (dk_at dksX11_hashCode_0 7 rfl rfl)
theorem dX11_hashCode_8 : decode cX11_hashCode 8 = .ok (.getfield 9, 3) := dk_180 0 9 (dk_at dksX11_hashCode_0 8 rfl rfl)
theorem dX11_hashCode_11 : decode cX11_hashCode 11 = .ok (.iadd, 1) := dk_96 (dk_at dksX11_hashCode_0 11 rfl rfl)
theorem dX11_hashCode_12 : decode cX11_hashCode 12 = .ok (.ireturn, 1) := dk_172 (dk_at dksX11_hashCode_0 12 rfl rfl)
abbrev cX11_equals : ByteArray := prog_8_method_3_code
def yX11_equals : MethodName := ⟨RX11, "equals", "(Ljava/lang/Object;)Z"⟩
def dkwX11_equals_1 : List UInt8 := [180, 0, 15, 42, 180, 0, 15, 160, 0, 7, 4, 167, 0, 4, 3, 172]
abbrev dktX11_equals_1 : List UInt8 := dkwX11_equals_1 ++ []
def dkwX11_equals_0 : List UInt8 := [43, 193, 0, 10, 153, 0, 34, 43, 192, 0, 10, 77, 44, 180, 0, 9, 42, 180, 0, 9, 160, 0, 18, 44]
abbrev dktX11_equals_0 : List UInt8 := dkwX11_equals_0 ++ dktX11_equals_1
theorem dksX11_equals_0 : cX11_equals.data.toList.drop 0 = dktX11_equals_0 := by decide +kernel
theorem dksX11_equals_1 : cX11_equals.data.toList.drop 24 = dktX11_equals_1 := dk_seg dksX11_equals_0 24 rfl rfl
theorem dX11_equals_0 : decode cX11_equals 0 = .ok (.aload_n 1, 1) := dk_43 (dk_at dksX11_equals_0 0 rfl rfl)
theorem dX11_equals_1 : decode cX11_equals 1 = .ok (.instanceof 10, 3) := dk_193 0 10 (dk_at dksX11_equals_0 1 rfl rfl)
theorem dX11_equals_4 : decode cX11_equals 4 = .ok (.ifCond .eq 34, 3) := dk_153 0 34 (dk_at dksX11_equals_0 4 rfl rfl)
theorem dX11_equals_7 : decode cX11_equals 7 = .ok (.aload_n 1, 1) := dk_43 (dk_at dksX11_equals_0 7 rfl rfl)
theorem dX11_equals_8 : decode cX11_equals 8 = .ok (.checkcast 10, 3) := dk_192 0 10 (dk_at dksX11_equals_0 8 rfl rfl)
theorem dX11_equals_11 : decode cX11_equals 11 = .ok (.astore_n 2, 1) := dk_77 (dk_at dksX11_equals_0 11 rfl rfl)
theorem dX11_equals_12 : decode cX11_equals 12 = .ok (.aload_n 2, 1) := dk_44 (dk_at dksX11_equals_0 12 rfl rfl)
theorem dX11_equals_13 : decode cX11_equals 13 = .ok (.getfield 9, 3) := dk_180 0 9 (dk_at dksX11_equals_0 13 rfl rfl)
theorem dX11_equals_16 : decode cX11_equals 16 = .ok (.aload_n 0, 1) := dk_42 (dk_at dksX11_equals_0 16 rfl rfl)
theorem dX11_equals_17 : decode cX11_equals 17 = .ok (.getfield 9, 3) := dk_180 0 9 (dk_at dksX11_equals_0 17 rfl rfl)
theorem dX11_equals_20 : decode cX11_equals 20 = .ok (.if_icmp .ne 18, 3) := dk_160 0 18 (dk_at dksX11_equals_0 20 rfl rfl)
theorem dX11_equals_23 : decode cX11_equals 23 = .ok (.aload_n 2, 1) := dk_44 (dk_at dksX11_equals_0 23 rfl rfl)
theorem dX11_equals_24 : decode cX11_equals 24 = .ok (.getfield 15, 3) := dk_180 0 15 (dk_at dksX11_equals_1 0 rfl rfl)
theorem dX11_equals_27 : decode cX11_equals 27 = .ok (.aload_n 0, 1) := dk_42 (dk_at dksX11_equals_1 3 rfl rfl)
theorem dX11_equals_28 : decode cX11_equals 28 = .ok (.getfield 15, 3) := dk_180 0 15 (dk_at dksX11_equals_1 4 rfl rfl)
theorem dX11_equals_31 : decode cX11_equals 31 = .ok (.if_icmp .ne 7, 3) := dk_160 0 7 (dk_at dksX11_equals_1 7 rfl rfl)
theorem dX11_equals_34 : decode cX11_equals 34 = .ok (.iconst 1, 1) := dk_4 (dk_at dksX11_equals_1 10 rfl rfl)
theorem dX11_equals_35 : decode cX11_equals 35 = .ok (.goto 4, 3) := dk_167 0 4 (dk_at dksX11_equals_1 11 rfl rfl)
theorem dX11_equals_38 : decode cX11_equals 38 = .ok (.iconst 0, 1) := dk_3 (dk_at dksX11_equals_1 14 rfl rfl)
theorem dX11_equals_39 : decode cX11_equals 39 = .ok (.ireturn, 1) := dk_172 (dk_at dksX11_equals_1 15 rfl rfl)
abbrev cX11_init : ByteArray := prog_8_method_1_code
def yX11_init : MethodName := ⟨RX11, "<init>", "(II)V"⟩
def dkwX11_init_0 : List UInt8 := [42, 183, 0, 3, 42, 27, 181, 0, 9, 42, 28, 181, 0, 15, 177]
abbrev dktX11_init_0 : List UInt8 := dkwX11_init_0 ++ []
theorem dksX11_init_0 : cX11_init.data.toList.drop 0 = dktX11_init_0 := by decide +kernel
theorem dX11_init_0 : decode cX11_init 0 = .ok (.aload_n 0, 1) := dk_42 (dk_at dksX11_init_0 0 rfl rfl)
theorem dX11_init_1 : decode cX11_init 1 = .ok (.invokespecial 3, 3) := dk_183 0 3 (dk_at dksX11_init_0 1 rfl rfl)
theorem dX11_init_4 : decode cX11_init 4 = .ok (.aload_n 0, 1) := dk_42 (dk_at dksX11_init_0 4 rfl rfl)
theorem dX11_init_5 : decode cX11_init 5 = .ok (.iload_n 1, 1) := dk_27 (dk_at dksX11_init_0 5 rfl rfl)
theorem dX11_init_6 : decode cX11_init 6 = .ok (.putfield 9, 3) := dk_181 0 9 (dk_at dksX11_init_0 6 rfl rfl)
theorem dX11_init_9 : decode cX11_init 9 = .ok (.aload_n 0, 1) := dk_42 (dk_at dksX11_init_0 9 rfl rfl)
theorem dX11_init_10 : decode cX11_init 10 = .ok (.iload_n 2, 1) := dk_28 (dk_at dksX11_init_0 10 rfl rfl)
theorem dX11_init_11 : decode cX11_init 11 = .ok (.putfield 15, 3) := dk_181 0 15 (dk_at dksX11_init_0 11 rfl rfl)
theorem dX11_init_14 : decode cX11_init 14 = .ok (.return_, 1) := dk_177 (dk_at dksX11_init_0 14 rfl rfl)
theorem q153 : (Jvm.Cond.initialized "PaperStore$Paper") ∈ lw_all := lw_g (lw_at lw_m1 54 rfl) rfl
theorem q477 : (Jvm.Cond.selects "PaperStore$Paper" ({ cls := "java/lang/Object", name := "getClass", desc := "()Ljava/lang/Class;" } : Jvm.MethodName) ({ cls := "java/lang/Object", name := "getClass", desc := "()Ljava/lang/Class;" } : Jvm.MethodName)) ∈ lw_all := lw_g (lw_at lw_m2 138 rfl) rfl
theorem q1185 : (Jvm.Cond.instanceMethod ({ cls := "PaperStore$Paper", name := "number", desc := "()I" } : Jvm.MethodName)) ∈ lw_all := lw_g (lw_at lw_m5 126 rfl) rfl
theorem q1186 : (Jvm.Cond.selects "PaperStore$Paper" ({ cls := "PaperStore$Paper", name := "number", desc := "()I" } : Jvm.MethodName) ({ cls := "PaperStore$Paper", name := "number", desc := "()I" } : Jvm.MethodName)) ∈ lw_all := lw_g (lw_at lw_m5 127 rfl) rfl
theorem q1187 : (Jvm.Cond.code ({ cls := "PaperStore$Paper", name := "number", desc := "()I" } : Jvm.MethodName) prog_8_method_2_code (1 : Nat) (Option.some Jvm.ClassFile.FieldType.int)) ∈ lw_all := lw_g (lw_at lw_m5 128 rfl) rfl
theorem q1804 : (Jvm.Cond.selects "PaperStore$Paper" ({ cls := "java/lang/Object", name := "hashCode", desc := "()I" } : Jvm.MethodName) ({ cls := "PaperStore$Paper", name := "hashCode", desc := "()I" } : Jvm.MethodName)) ∈ lw_all := lw_g (lw_at lw_m8 25 rfl) rfl
theorem q1805 : (Jvm.Cond.instanceMethod ({ cls := "PaperStore$Paper", name := "hashCode", desc := "()I" } : Jvm.MethodName)) ∈ lw_all := lw_g (lw_at lw_m8 26 rfl) rfl
theorem q1806 : (Jvm.Cond.code ({ cls := "PaperStore$Paper", name := "hashCode", desc := "()I" } : Jvm.MethodName) prog_8_method_4_code (1 : Nat) (Option.some Jvm.ClassFile.FieldType.int)) ∈ lw_all := lw_g (lw_at lw_m8 27 rfl) rfl
theorem q1911 : (Jvm.Cond.selects "PaperStore$Paper" ({ cls := "java/lang/Object", name := "equals", desc := "(Ljava/lang/Object;)Z" } : Jvm.MethodName) ({ cls := "PaperStore$Paper", name := "equals", desc := "(Ljava/lang/Object;)Z" } : Jvm.MethodName)) ∈ lw_all := lw_g (lw_at lw_m8 132 rfl) rfl
theorem q1912 : (Jvm.Cond.instanceMethod ({ cls := "PaperStore$Paper", name := "equals", desc := "(Ljava/lang/Object;)Z" } : Jvm.MethodName)) ∈ lw_all := lw_g (lw_at lw_m8 133 rfl) rfl
theorem q1913 : (Jvm.Cond.code ({ cls := "PaperStore$Paper", name := "equals", desc := "(Ljava/lang/Object;)Z" } : Jvm.MethodName) prog_8_method_3_code (3 : Nat) (Option.some Jvm.ClassFile.FieldType.boolean)) ∈ lw_all := lw_g (lw_at lw_m8 134 rfl) rfl
theorem q1914 : (Jvm.Cond.classLink "PaperStore$Paper" (10 : Nat) "PaperStore$Paper") ∈ lw_all := lw_g (lw_at lw_m8 135 rfl) rfl
theorem q2165 : (Jvm.Cond.instantiable "PaperStore$Paper" (2 : Nat)) ∈ lw_all := lw_g (lw_at lw_m9 146 rfl) rfl
theorem q2167 : (Jvm.Cond.instanceMethod ({ cls := "PaperStore$Paper", name := "<init>", desc := "(II)V" } : Jvm.MethodName)) ∈ lw_all := lw_g (lw_at lw_m9 148 rfl) rfl
theorem q2168 : (Jvm.Cond.code ({ cls := "PaperStore$Paper", name := "<init>", desc := "(II)V" } : Jvm.MethodName) prog_8_method_1_code (3 : Nat) (Option.none : Option Jvm.ClassFile.FieldType)) ∈ lw_all := lw_g (lw_at lw_m9 149 rfl) rfl
theorem q2169 : (Jvm.Cond.methodLink "PaperStore$Paper" (3 : Nat) ({ cls := "java/lang/Object", name := "<init>", desc := "()V" } : Jvm.MethodName)) ∈ lw_all := lw_g (lw_at lw_m9 150 rfl) rfl
theorem q2170 : (Jvm.Cond.fieldLink "PaperStore$Paper" (9 : Nat) "PaperStore$Paper" "size" "I") ∈ lw_all := lw_g (lw_at lw_m9 151 rfl) rfl
theorem q2173 : (Jvm.Cond.fieldLink "PaperStore$Paper" (15 : Nat) "PaperStore$Paper" "colour" "I") ∈ lw_all := lw_g (lw_at lw_m9 154 rfl) rfl
theorem q2175 : (Jvm.Cond.laysFinal "PaperStore$Paper" "PaperStore$Paper" "size" "I") ∈ lw_all := lw_g (lw_at lw_m9 156 rfl) rfl
theorem q2176 : (Jvm.Cond.soleField "PaperStore$Paper" "size") ∈ lw_all := lw_g (lw_at lw_m9 157 rfl) rfl
theorem q2177 : (Jvm.Cond.laysFinal "PaperStore$Paper" "PaperStore$Paper" "colour" "I") ∈ lw_all := lw_g (lw_at lw_m9 158 rfl) rfl
theorem q2178 : (Jvm.Cond.soleField "PaperStore$Paper" "colour") ∈ lw_all := lw_g (lw_at lw_m9 159 rfl) rfl
theorem q2179 : (Jvm.Cond.superclass "PaperStore$Paper" "java/lang/Object") ∈ lw_all := lw_g (lw_at lw_m9 160 rfl) rfl
theorem q3333 : (Jvm.Cond.selects "PaperStore$Paper" ({ cls := "java/lang/Object", name := "toString", desc := "()Ljava/lang/String;" } : Jvm.MethodName) ({ cls := "java/lang/Object", name := "toString", desc := "()Ljava/lang/String;" } : Jvm.MethodName)) ∈ lw_all := lw_g (lw_at lw_m14 114 rfl) rfl
theorem q4121 : (Jvm.Cond.selects "PaperStore$Paper" ({ cls := "PaperStore$Paper", name := "equals", desc := "(Ljava/lang/Object;)Z" } : Jvm.MethodName) ({ cls := "PaperStore$Paper", name := "equals", desc := "(Ljava/lang/Object;)Z" } : Jvm.MethodName)) ∈ lw_all := lw_g (lw_at lw_m17 182 rfl) rfl
theorem q4176 : (Jvm.Cond.castable "PaperStore$Paper" "java/lang/Object") ∈ lw_tbl := lw_at lw_m17 237 rfl
theorem in_X11 : ∀ w ∈ wsX110, w ∈ lw_all := lw_in wsX110 [2175, 2177] (by decide +kernel) (by decide +kernel)
/-! PaperStore$Parser -/
set_option maxRecDepth 100000
def RX12 : String := "PaperStore$Parser"
def TX12 : u_T := fun k => match k with
  | 0 => ("PaperStore$Parser", "text", "[C", true)
  | 1 => ("PaperStore$Parser", "length", "I", true)
  | 2 => ("PaperStore$Parser", "commands", "Ljava/util/ArrayList;", true)
  | _ => ("PaperStore$Parser", "at", "I", false)
def tyX12 : Nat → FieldType := fun k => match k with
  | 0 => .array .char
  | 1 => .int
  | 2 => .object "java/util/ArrayList"
  | _ => .int
abbrev wsX120 : List Cond := u_ws RX12 TX12 4
theorem nmX12 : ∀ a, a < 4 → ∀ b, b < 4 → a ≠ b → (TX12 a).2.1 ≠ (TX12 b).2.1 := by decide +kernel
theorem tyX12_ok : ∀ k, k < 4 → parseFieldDescriptor (TX12 k).2.2.1 = some (tyX12 k) := by decide +kernel
abbrev cX12_init : ByteArray := prog_9_method_1_code
def yX12_init : MethodName := ⟨RX12, "<init>", "([CI)V"⟩
def dkwX12_init_1 : List UInt8 := [181, 0, 20, 177]
abbrev dktX12_init_1 : List UInt8 := dkwX12_init_1 ++ []
def dkwX12_init_0 : List UInt8 := [42, 183, 0, 1, 42, 187, 0, 7, 89, 183, 0, 9, 181, 0, 10, 42, 43, 181, 0, 16, 42, 28]
abbrev dktX12_init_0 : List UInt8 := dkwX12_init_0 ++ dktX12_init_1
theorem dksX12_init_0 : cX12_init.data.toList.drop 0 = dktX12_init_0 := by decide +kernel
theorem dksX12_init_1 : cX12_init.data.toList.drop 22 = dktX12_init_1 := dk_seg dksX12_init_0 22 rfl rfl
theorem dX12_init_0 : decode cX12_init 0 = .ok (.aload_n 0, 1) := dk_42 (dk_at dksX12_init_0 0 rfl rfl)
theorem dX12_init_1 : decode cX12_init 1 = .ok (.invokespecial 1, 3) := dk_183 0 1 (dk_at dksX12_init_0 1 rfl rfl)
theorem dX12_init_4 : decode cX12_init 4 = .ok (.aload_n 0, 1) := dk_42 (dk_at dksX12_init_0 4 rfl rfl)
theorem dX12_init_5 : decode cX12_init 5 = .ok (.new 7, 3) := dk_187 0 7 (dk_at dksX12_init_0 5 rfl rfl)
theorem dX12_init_8 : decode cX12_init 8 = .ok (.dup, 1) := dk_89 (dk_at dksX12_init_0 8 rfl rfl)
theorem dX12_init_9 : decode cX12_init 9 = .ok (.invokespecial 9, 3) := dk_183 0 9 (dk_at dksX12_init_0 9 rfl rfl)
theorem dX12_init_12 : decode cX12_init 12 = .ok (.putfield 10, 3) := dk_181 0 10 (dk_at dksX12_init_0 12 rfl rfl)
theorem dX12_init_15 : decode cX12_init 15 = .ok (.aload_n 0, 1) := dk_42 (dk_at dksX12_init_0 15 rfl rfl)
theorem dX12_init_16 : decode cX12_init 16 = .ok (.aload_n 1, 1) := dk_43 (dk_at dksX12_init_0 16 rfl rfl)
theorem dX12_init_17 : decode cX12_init 17 = .ok (.putfield 16, 3) := dk_181 0 16 (dk_at dksX12_init_0 17 rfl rfl)
theorem dX12_init_20 : decode cX12_init 20 = .ok (.aload_n 0, 1) := dk_42 (dk_at dksX12_init_0 20 rfl rfl)
theorem dX12_init_21 : decode cX12_init 21 = .ok (.iload_n 2, 1) := dk_28 (dk_at dksX12_init_0 21 rfl rfl)
theorem dX12_init_22 : decode cX12_init 22 = .ok (.putfield 20, 3) := dk_181 0 20 (dk_at dksX12_init_1 0 rfl rfl)
theorem dX12_init_25 : decode cX12_init 25 = .ok (.return_, 1) := dk_177 (dk_at dksX12_init_1 3 rfl rfl)
abbrev cX12_all : ByteArray := prog_9_method_9_code
def yX12_all : MethodName := ⟨RX12, "all", "()V"⟩
def dkwX12_all_1 : List UInt8 := [16, 59, 16, 59, 182, 0, 42, 60, 42, 180, 0, 10, 42, 182, 0, 131, 182, 0, 135, 87, 167, 255, 224, 177]
abbrev dktX12_all_1 : List UInt8 := dkwX12_all_1 ++ []
def dkwX12_all_0 : List UInt8 := [42, 180, 0, 10, 42, 182, 0, 131, 182, 0, 135, 87, 42, 180, 0, 24, 42, 180, 0, 20, 162, 0, 27, 42]
abbrev dktX12_all_0 : List UInt8 := dkwX12_all_0 ++ dktX12_all_1
theorem dksX12_all_0 : cX12_all.data.toList.drop 0 = dktX12_all_0 := by decide +kernel
theorem dksX12_all_1 : cX12_all.data.toList.drop 24 = dktX12_all_1 := dk_seg dksX12_all_0 24 rfl rfl
theorem dX12_all_0 : decode cX12_all 0 = .ok (.aload_n 0, 1) := dk_42 (dk_at dksX12_all_0 0 rfl rfl)
theorem dX12_all_1 : decode cX12_all 1 = .ok (.getfield 10, 3) := dk_180 0 10 (dk_at dksX12_all_0 1 rfl rfl)
theorem dX12_all_4 : decode cX12_all 4 = .ok (.aload_n 0, 1) := dk_42 (dk_at dksX12_all_0 4 rfl rfl)
theorem dX12_all_5 : decode cX12_all 5 = .ok (.invokevirtual 131, 3) := dk_182 0 131 (dk_at dksX12_all_0 5 rfl rfl)
theorem dX12_all_8 : decode cX12_all 8 = .ok (.invokevirtual 135, 3) := dk_182 0 135 (dk_at dksX12_all_0 8 rfl rfl)
theorem dX12_all_11 : decode cX12_all 11 = .ok (.pop, 1) := dk_87 (dk_at dksX12_all_0 11 rfl rfl)
theorem dX12_all_12 : decode cX12_all 12 = .ok (.aload_n 0, 1) := dk_42 (dk_at dksX12_all_0 12 rfl rfl)
theorem dX12_all_13 : decode cX12_all 13 = .ok (.getfield 24, 3) := dk_180 0 24 (dk_at dksX12_all_0 13 rfl rfl)
theorem dX12_all_16 : decode cX12_all 16 = .ok (.aload_n 0, 1) := dk_42 (dk_at dksX12_all_0 16 rfl rfl)
theorem dX12_all_17 : decode cX12_all 17 = .ok (.getfield 20, 3) := dk_180 0 20 (dk_at dksX12_all_0 17 rfl rfl)
theorem dX12_all_20 : decode cX12_all 20 = .ok (.if_icmp .ge 27, 3) := dk_162 0 27 (dk_at dksX12_all_0 20 rfl rfl)
theorem dX12_all_23 : decode cX12_all 23 = .ok (.aload_n 0, 1) := dk_42 (dk_at dksX12_all_0 23 rfl rfl)
theorem dX12_all_24 : decode cX12_all 24 = .ok (.bipush 59, 2) := dk_16 59 (dk_at dksX12_all_1 0 rfl rfl)
theorem dX12_all_26 : decode cX12_all 26 = .ok (.bipush 59, 2) := dk_16 59 (dk_at dksX12_all_1 2 rfl rfl)
theorem dX12_all_28 : decode cX12_all 28 = .ok (.invokevirtual 42, 3) := dk_182 0 42 (dk_at dksX12_all_1 4 rfl rfl)
theorem dX12_all_31 : decode cX12_all 31 = .ok (.istore_n 1, 1) := dk_60 (dk_at dksX12_all_1 7 rfl rfl)
theorem dX12_all_32 : decode cX12_all 32 = .ok (.aload_n 0, 1) := dk_42 (dk_at dksX12_all_1 8 rfl rfl)
theorem dX12_all_33 : decode cX12_all 33 = .ok (.getfield 10, 3) := dk_180 0 10 (dk_at dksX12_all_1 9 rfl rfl)
theorem dX12_all_36 : decode cX12_all 36 = .ok (.aload_n 0, 1) := dk_42 (dk_at dksX12_all_1 12 rfl rfl)
theorem dX12_all_37 : decode cX12_all 37 = .ok (.invokevirtual 131, 3) := dk_182 0 131 (dk_at dksX12_all_1 13 rfl rfl)
theorem dX12_all_40 : decode cX12_all 40 = .ok (.invokevirtual 135, 3) := dk_182 0 135 (dk_at dksX12_all_1 16 rfl rfl)
theorem dX12_all_43 : decode cX12_all 43 = .ok (.pop, 1) := dk_87 (dk_at dksX12_all_1 19 rfl rfl)
theorem dX12_all_44 : decode cX12_all 44 = .ok (.goto (-32), 3) := dk_167 255 224 (dk_at dksX12_all_1 20 rfl rfl)
theorem dX12_all_47 : decode cX12_all 47 = .ok (.return_, 1) := dk_177 (dk_at dksX12_all_1 23 rfl rfl)
abbrev cX12_command : ByteArray := prog_9_method_8_code
def yX12_command : MethodName := ⟨RX12, "command", "()LPaperStore$Command;"⟩
def dkwX12_command_1 : List UInt8 := [182, 0, 123, 79, 132, 3, 1, 167, 255, 240, 187, 0, 126, 89, 43, 44, 183, 0, 128, 176]
abbrev dktX12_command_1 : List UInt8 := dkwX12_command_1 ++ []
def dkwX12_command_0 : List UInt8 := [42, 182, 0, 116, 76, 43, 184, 0, 119, 188, 10, 77, 3, 62, 29, 44, 190, 162, 0, 16, 44, 29, 42]
abbrev dktX12_command_0 : List UInt8 := dkwX12_command_0 ++ dktX12_command_1
theorem dksX12_command_0 : cX12_command.data.toList.drop 0 = dktX12_command_0 := by decide +kernel
theorem dksX12_command_1 : cX12_command.data.toList.drop 23 = dktX12_command_1 := dk_seg dksX12_command_0 23 rfl rfl
theorem dX12_command_0 : decode cX12_command 0 = .ok (.aload_n 0, 1) := dk_42 (dk_at dksX12_command_0 0 rfl rfl)
theorem dX12_command_1 : decode cX12_command 1 = .ok (.invokevirtual 116, 3) := dk_182 0 116 (dk_at dksX12_command_0 1 rfl rfl)
theorem dX12_command_4 : decode cX12_command 4 = .ok (.astore_n 1, 1) := dk_76 (dk_at dksX12_command_0 4 rfl rfl)
theorem dX12_command_5 : decode cX12_command 5 = .ok (.aload_n 1, 1) := dk_43 (dk_at dksX12_command_0 5 rfl rfl)
theorem dX12_command_6 : decode cX12_command 6 = .ok (.invokestatic 119, 3) := dk_184 0 119 (dk_at dksX12_command_0 6 rfl rfl)
theorem dX12_command_9 : decode cX12_command 9 = .ok (.newarray .int, 2) := dk_188_10 (dk_at dksX12_command_0 9 rfl rfl)
theorem dX12_command_11 : decode cX12_command 11 = .ok (.astore_n 2, 1) := dk_77 (dk_at dksX12_command_0 11 rfl rfl)
theorem dX12_command_12 : decode cX12_command 12 = .ok (.iconst 0, 1) := dk_3 (dk_at dksX12_command_0 12 rfl rfl)
theorem dX12_command_13 : decode cX12_command 13 = .ok (.istore_n 3, 1) := dk_62 (dk_at dksX12_command_0 13 rfl rfl)
theorem dX12_command_14 : decode cX12_command 14 = .ok (.iload_n 3, 1) := dk_29 (dk_at dksX12_command_0 14 rfl rfl)
theorem dX12_command_15 : decode cX12_command 15 = .ok (.aload_n 2, 1) := dk_44 (dk_at dksX12_command_0 15 rfl rfl)
theorem dX12_command_16 : decode cX12_command 16 = .ok (.arraylength, 1) := dk_190 (dk_at dksX12_command_0 16 rfl rfl)
theorem dX12_command_17 : decode cX12_command 17 = .ok (.if_icmp .ge 16, 3) := dk_162 0 16 (dk_at dksX12_command_0 17 rfl rfl)
theorem dX12_command_20 : decode cX12_command 20 = .ok (.aload_n 2, 1) := dk_44 (dk_at dksX12_command_0 20 rfl rfl)
theorem dX12_command_21 : decode cX12_command 21 = .ok (.iload_n 3, 1) := dk_29 (dk_at dksX12_command_0 21 rfl rfl)
theorem dX12_command_22 : decode cX12_command 22 = .ok (.aload_n 0, 1) := dk_42 (dk_at dksX12_command_0 22 rfl rfl)
theorem dX12_command_23 : decode cX12_command 23 = .ok (.invokevirtual 123, 3) := dk_182 0 123 (dk_at dksX12_command_1 0 rfl rfl)
theorem dX12_command_26 : decode cX12_command 26 = .ok (.iastore, 1) := dk_79 (dk_at dksX12_command_1 3 rfl rfl)
theorem dX12_command_27 : decode cX12_command 27 = .ok (.iinc 3 1, 3) := dk_132 3 1 (dk_at dksX12_command_1 4 rfl rfl)
theorem dX12_command_30 : decode cX12_command 30 = .ok (.goto (-16), 3) := dk_167 255 240 (dk_at dksX12_command_1 7 rfl rfl)
theorem dX12_command_33 : decode cX12_command 33 = .ok (.new 126, 3) := dk_187 0 126 (dk_at dksX12_command_1 10 rfl rfl)
theorem dX12_command_36 : decode cX12_command 36 = .ok (.dup, 1) := dk_89 (dk_at dksX12_command_1 13 rfl rfl)
theorem dX12_command_37 : decode cX12_command 37 = .ok (.aload_n 1, 1) := dk_43 (dk_at dksX12_command_1 14 rfl rfl)
theorem dX12_command_38 : decode cX12_command 38 = .ok (.aload_n 2, 1) := dk_44 (dk_at dksX12_command_1 15 rfl rfl)
theorem dX12_command_39 : decode cX12_command 39 = .ok (.invokespecial 128, 3) := dk_183 0 128 (dk_at dksX12_command_1 16 rfl rfl)
theorem dX12_command_42 : decode cX12_command 42 = .ok (.areturn, 1) := dk_176 (dk_at dksX12_command_1 19 rfl rfl)
abbrev cX12_word : ByteArray := prog_9_method_6_code
def yX12_word : MethodName := ⟨RX12, "word", "()Ljava/lang/String;"⟩
def dkwX12_word_3 : List UInt8 := [183, 0, 39, 191, 42, 89, 180, 0, 24, 4, 96, 181, 0, 24, 167, 255, 203, 44, 182, 0, 93, 176]
abbrev dktX12_word_3 : List UInt8 := dkwX12_word_3 ++ []
def dkwX12_word_2 : List UInt8 := [182, 0, 27, 182, 0, 101, 182, 0, 93, 184, 0, 105, 154, 0, 15, 187, 0, 37, 89, 42, 180, 0, 24]
abbrev dktX12_word_2 : List UInt8 := dkwX12_word_2 ++ dktX12_word_3
def dkwX12_word_1 : List UInt8 := [187, 0, 90, 89, 183, 0, 92, 77, 43, 44, 182, 0, 93, 185, 0, 97, 2, 0, 154, 0, 46, 43, 44, 42]
abbrev dktX12_word_1 : List UInt8 := dkwX12_word_1 ++ dktX12_word_2
def dkwX12_word_0 : List UInt8 := [187, 0, 67, 89, 18, 69, 18, 71, 18, 73, 18, 75, 18, 77, 18, 79, 184, 0, 81, 183, 0, 87, 76]
abbrev dktX12_word_0 : List UInt8 := dkwX12_word_0 ++ dktX12_word_1
theorem dksX12_word_0 : cX12_word.data.toList.drop 0 = dktX12_word_0 := by decide +kernel
theorem dksX12_word_1 : cX12_word.data.toList.drop 23 = dktX12_word_1 := dk_seg dksX12_word_0 23 rfl rfl
theorem dksX12_word_2 : cX12_word.data.toList.drop 47 = dktX12_word_2 := dk_seg dksX12_word_1 24 rfl rfl
theorem dksX12_word_3 : cX12_word.data.toList.drop 70 = dktX12_word_3 := dk_seg dksX12_word_2 23 rfl rfl
theorem dX12_word_0 : decode cX12_word 0 = .ok (.new 67, 3) := dk_187 0 67 (dk_at dksX12_word_0 0 rfl rfl)
theorem dX12_word_3 : decode cX12_word 3 = .ok (.dup, 1) := dk_89 (dk_at dksX12_word_0 3 rfl rfl)
theorem dX12_word_4 : decode cX12_word 4 = .ok (.ldc 69, 2) := dk_18 69 (dk_at dksX12_word_0 4 rfl rfl)
theorem dX12_word_6 : decode cX12_word 6 = .ok (.ldc 71, 2) := dk_18 71 (dk_at dksX12_word_0 6 rfl rfl)
theorem dX12_word_8 : decode cX12_word 8 = .ok (.ldc 73, 2) := dk_18 73 (dk_at dksX12_word_0 8 rfl rfl)
theorem dX12_word_10 : decode cX12_word 10 = .ok (.ldc 75, 2) := dk_18 75 (dk_at dksX12_word_0 10 rfl rfl)
theorem dX12_word_12 : decode cX12_word 12 = .ok (.ldc 77, 2) := dk_18 77 (dk_at dksX12_word_0 12 rfl rfl)
theorem dX12_word_14 : decode cX12_word 14 = .ok (.ldc 79, 2) := dk_18 79 (dk_at dksX12_word_0 14 rfl rfl)
theorem dX12_word_16 : decode cX12_word 16 = .ok (.invokestatic 81, 3) := dk_184 0 81 (dk_at dksX12_word_0 16 rfl rfl)
theorem dX12_word_19 : decode cX12_word 19 = .ok (.invokespecial 87, 3) := dk_183 0 87 (dk_at dksX12_word_0 19 rfl rfl)
theorem dX12_word_22 : decode cX12_word 22 = .ok (.astore_n 1, 1) := dk_76 (dk_at dksX12_word_0 22 rfl rfl)
theorem dX12_word_23 : decode cX12_word 23 = .ok (.new 90, 3) := dk_187 0 90 (dk_at dksX12_word_1 0 rfl rfl)
theorem dX12_word_26 : decode cX12_word 26 = .ok (.dup, 1) := dk_89 (dk_at dksX12_word_1 3 rfl rfl)
theorem dX12_word_27 : decode cX12_word 27 = .ok (.invokespecial 92, 3) := dk_183 0 92 (dk_at dksX12_word_1 4 rfl rfl)
theorem dX12_word_30 : decode cX12_word 30 = .ok (.astore_n 2, 1) := dk_77 (dk_at dksX12_word_1 7 rfl rfl)
theorem dX12_word_31 : decode cX12_word 31 = .ok (.aload_n 1, 1) := dk_43 (dk_at dksX12_word_1 8 rfl rfl)
theorem dX12_word_32 : decode cX12_word 32 = .ok (.aload_n 2, 1) := dk_44 (dk_at dksX12_word_1 9 rfl rfl)
theorem dX12_word_33 : decode cX12_word 33 = .ok (.invokevirtual 93, 3) := dk_182 0 93 (dk_at dksX12_word_1 10 rfl rfl)
theorem dX12_word_36 : decode cX12_word 36 = .ok (.invokeinterface 97 2, 5) := by decide +kernel
theorem dX12_word_41 : decode cX12_word 41 = .ok (.ifCond .ne 46, 3) := dk_154 0 46 (dk_at dksX12_word_1 18 rfl rfl)
theorem dX12_word_44 : decode cX12_word 44 = .ok (.aload_n 1, 1) := dk_43 (dk_at dksX12_word_1 21 rfl rfl)
theorem dX12_word_45 : decode cX12_word 45 = .ok (.aload_n 2, 1) := dk_44 (dk_at dksX12_word_1 22 rfl rfl)
theorem dX12_word_46 : decode cX12_word 46 = .ok (.aload_n 0, 1) := dk_42 (dk_at dksX12_word_1 23 rfl rfl)
theorem dX12_word_47 : decode cX12_word 47 = .ok (.invokevirtual 27, 3) := dk_182 0 27 (dk_at dksX12_word_2 0 rfl rfl)
theorem dX12_word_50 : decode cX12_word 50 = .ok (.invokevirtual 101, 3) := dk_182 0 101 (dk_at dksX12_word_2 3 rfl rfl)
theorem dX12_word_53 : decode cX12_word 53 = .ok (.invokevirtual 93, 3) := dk_182 0 93 (dk_at dksX12_word_2 6 rfl rfl)
theorem dX12_word_56 : decode cX12_word 56 = .ok (.invokestatic 105, 3) := dk_184 0 105 (dk_at dksX12_word_2 9 rfl rfl)
theorem dX12_word_59 : decode cX12_word 59 = .ok (.ifCond .ne 15, 3) := dk_154 0 15 (dk_at dksX12_word_2 12 rfl rfl)
theorem dX12_word_62 : decode cX12_word 62 = .ok (.new 37, 3) := dk_187 0 37 (dk_at dksX12_word_2 15 rfl rfl)
theorem dX12_word_65 : decode cX12_word 65 = .ok (.dup, 1) := dk_89 (dk_at dksX12_word_2 18 rfl rfl)
theorem dX12_word_66 : decode cX12_word 66 = .ok (.aload_n 0, 1) := dk_42 (dk_at dksX12_word_2 19 rfl rfl)
theorem dX12_word_67 : decode cX12_word 67 = .ok (.getfield 24, 3) := dk_180 0 24 (dk_at dksX12_word_2 20 rfl rfl)
theorem dX12_word_70 : decode cX12_word 70 = .ok (.invokespecial 39, 3) := dk_183 0 39 (dk_at dksX12_word_3 0 rfl rfl)
theorem dX12_word_73 : decode cX12_word 73 = .ok (.athrow, 1) := dk_191 (dk_at dksX12_word_3 3 rfl rfl)
theorem dX12_word_74 : decode cX12_word 74 = .ok (.aload_n 0, 1) := dk_42 (dk_at dksX12_word_3 4 rfl rfl)
theorem dX12_word_75 : decode cX12_word 75 = .ok (.dup, 1) := dk_89 (dk_at dksX12_word_3 5 rfl rfl)
theorem dX12_word_76 : decode cX12_word 76 = .ok (.getfield 24, 3) := dk_180 0 24 (dk_at dksX12_word_3 6 rfl rfl)
theorem dX12_word_79 : decode cX12_word 79 = .ok (.iconst 1, 1) := dk_4 (dk_at dksX12_word_3 9 rfl rfl)
theorem dX12_word_80 : decode cX12_word 80 = .ok (.iadd, 1) := dk_96 (dk_at dksX12_word_3 10 rfl rfl)
theorem dX12_word_81 : decode cX12_word 81 = .ok (.putfield 24, 3) := dk_181 0 24 (dk_at dksX12_word_3 11 rfl rfl)
theorem dX12_word_84 : decode cX12_word 84 = .ok (.goto (-53), 3) := dk_167 255 203 (dk_at dksX12_word_3 14 rfl rfl)
theorem dX12_word_87 : decode cX12_word 87 = .ok (.aload_n 2, 1) := dk_44 (dk_at dksX12_word_3 17 rfl rfl)
theorem dX12_word_88 : decode cX12_word 88 = .ok (.invokevirtual 93, 3) := dk_182 0 93 (dk_at dksX12_word_3 18 rfl rfl)
theorem dX12_word_91 : decode cX12_word 91 = .ok (.areturn, 1) := dk_176 (dk_at dksX12_word_3 21 rfl rfl)
abbrev cX12_peek : ByteArray := prog_9_method_2_code
def yX12_peek : MethodName := ⟨RX12, "peek", "()C"⟩
def dkwX12_peek_1 : List UInt8 := [172]
abbrev dktX12_peek_1 : List UInt8 := dkwX12_peek_1 ++ []
def dkwX12_peek_0 : List UInt8 := [42, 180, 0, 24, 42, 180, 0, 20, 162, 0, 15, 42, 180, 0, 16, 42, 180, 0, 24, 52, 167, 0, 4, 3]
abbrev dktX12_peek_0 : List UInt8 := dkwX12_peek_0 ++ dktX12_peek_1
theorem dksX12_peek_0 : cX12_peek.data.toList.drop 0 = dktX12_peek_0 := by decide +kernel
theorem dksX12_peek_1 : cX12_peek.data.toList.drop 24 = dktX12_peek_1 := dk_seg dksX12_peek_0 24 rfl rfl
theorem dX12_peek_0 : decode cX12_peek 0 = .ok (.aload_n 0, 1) := dk_42 (dk_at dksX12_peek_0 0 rfl rfl)
theorem dX12_peek_1 : decode cX12_peek 1 = .ok (.getfield 24, 3) := dk_180 0 24 (dk_at dksX12_peek_0 1 rfl rfl)
theorem dX12_peek_4 : decode cX12_peek 4 = .ok (.aload_n 0, 1) := dk_42 (dk_at dksX12_peek_0 4 rfl rfl)
theorem dX12_peek_5 : decode cX12_peek 5 = .ok (.getfield 20, 3) := dk_180 0 20 (dk_at dksX12_peek_0 5 rfl rfl)
theorem dX12_peek_8 : decode cX12_peek 8 = .ok (.if_icmp .ge 15, 3) := dk_162 0 15 (dk_at dksX12_peek_0 8 rfl rfl)
theorem dX12_peek_11 : decode cX12_peek 11 = .ok (.aload_n 0, 1) := dk_42 (dk_at dksX12_peek_0 11 rfl rfl)
theorem dX12_peek_12 : decode cX12_peek 12 = .ok (.getfield 16, 3) := dk_180 0 16 (dk_at dksX12_peek_0 12 rfl rfl)
theorem dX12_peek_15 : decode cX12_peek 15 = .ok (.aload_n 0, 1) := dk_42 (dk_at dksX12_peek_0 15 rfl rfl)
theorem dX12_peek_16 : decode cX12_peek 16 = .ok (.getfield 24, 3) := dk_180 0 24 (dk_at dksX12_peek_0 16 rfl rfl)
theorem dX12_peek_19 : decode cX12_peek 19 = .ok (.caload, 1) := dk_52 (dk_at dksX12_peek_0 19 rfl rfl)
theorem dX12_peek_20 : decode cX12_peek 20 = .ok (.goto 4, 3) := dk_167 0 4 (dk_at dksX12_peek_0 20 rfl rfl)
theorem dX12_peek_23 : decode cX12_peek 23 = .ok (.iconst 0, 1) := dk_3 (dk_at dksX12_peek_0 23 rfl rfl)
theorem dX12_peek_24 : decode cX12_peek 24 = .ok (.ireturn, 1) := dk_172 (dk_at dksX12_peek_1 0 rfl rfl)
abbrev cX12_isBegun : ByteArray := prog_9_method_5_code
def yX12_isBegun : MethodName := ⟨RX12, "isBegun", "(Ljava/util/Set;Ljava/lang/String;)Z"⟩
def dkwX12_isBegun_1 : List UInt8 := [192, 0, 61, 78, 45, 43, 182, 0, 63, 153, 0, 5, 4, 172, 167, 255, 227, 3, 172]
abbrev dktX12_isBegun_1 : List UInt8 := dkwX12_isBegun_1 ++ []
def dkwX12_isBegun_0 : List UInt8 := [42, 185, 0, 46, 1, 0, 77, 44, 185, 0, 52, 1, 0, 153, 0, 26, 44, 185, 0, 58, 1, 0]
abbrev dktX12_isBegun_0 : List UInt8 := dkwX12_isBegun_0 ++ dktX12_isBegun_1
theorem dksX12_isBegun_0 : cX12_isBegun.data.toList.drop 0 = dktX12_isBegun_0 := by decide +kernel
theorem dksX12_isBegun_1 : cX12_isBegun.data.toList.drop 22 = dktX12_isBegun_1 := dk_seg dksX12_isBegun_0 22 rfl rfl
theorem dX12_isBegun_0 : decode cX12_isBegun 0 = .ok (.aload_n 0, 1) := dk_42 (dk_at dksX12_isBegun_0 0 rfl rfl)
theorem dX12_isBegun_1 : decode cX12_isBegun 1 = .ok (.invokeinterface 46 1, 5) := by decide +kernel
theorem dX12_isBegun_6 : decode cX12_isBegun 6 = .ok (.astore_n 2, 1) := dk_77 (dk_at dksX12_isBegun_0 6 rfl rfl)
theorem dX12_isBegun_7 : decode cX12_isBegun 7 = .ok (.aload_n 2, 1) := dk_44 (dk_at dksX12_isBegun_0 7 rfl rfl)
theorem dX12_isBegun_8 : decode cX12_isBegun 8 = .ok (.invokeinterface 52 1, 5) := by decide +kernel
theorem dX12_isBegun_13 : decode cX12_isBegun 13 = .ok (.ifCond .eq 26, 3) := dk_153 0 26 (dk_at dksX12_isBegun_0 13 rfl rfl)
theorem dX12_isBegun_16 : decode cX12_isBegun 16 = .ok (.aload_n 2, 1) := dk_44 (dk_at dksX12_isBegun_0 16 rfl rfl)
theorem dX12_isBegun_17 : decode cX12_isBegun 17 = .ok (.invokeinterface 58 1, 5) := by decide +kernel
theorem dX12_isBegun_22 : decode cX12_isBegun 22 = .ok (.checkcast 61, 3) := dk_192 0 61 (dk_at dksX12_isBegun_1 0 rfl rfl)
theorem dX12_isBegun_25 : decode cX12_isBegun 25 = .ok (.astore_n 3, 1) := dk_78 (dk_at dksX12_isBegun_1 3 rfl rfl)
theorem dX12_isBegun_26 : decode cX12_isBegun 26 = .ok (.aload_n 3, 1) := dk_45 (dk_at dksX12_isBegun_1 4 rfl rfl)
theorem dX12_isBegun_27 : decode cX12_isBegun 27 = .ok (.aload_n 1, 1) := dk_43 (dk_at dksX12_isBegun_1 5 rfl rfl)
theorem dX12_isBegun_28 : decode cX12_isBegun 28 = .ok (.invokevirtual 63, 3) := dk_182 0 63 (dk_at dksX12_isBegun_1 6 rfl rfl)
theorem dX12_isBegun_31 : decode cX12_isBegun 31 = .ok (.ifCond .eq 5, 3) := dk_153 0 5 (dk_at dksX12_isBegun_1 9 rfl rfl)
theorem dX12_isBegun_34 : decode cX12_isBegun 34 = .ok (.iconst 1, 1) := dk_4 (dk_at dksX12_isBegun_1 12 rfl rfl)
theorem dX12_isBegun_35 : decode cX12_isBegun 35 = .ok (.ireturn, 1) := dk_172 (dk_at dksX12_isBegun_1 13 rfl rfl)
theorem dX12_isBegun_36 : decode cX12_isBegun 36 = .ok (.goto (-29), 3) := dk_167 255 227 (dk_at dksX12_isBegun_1 14 rfl rfl)
theorem dX12_isBegun_39 : decode cX12_isBegun 39 = .ok (.iconst 0, 1) := dk_3 (dk_at dksX12_isBegun_1 17 rfl rfl)
theorem dX12_isBegun_40 : decode cX12_isBegun 40 = .ok (.ireturn, 1) := dk_172 (dk_at dksX12_isBegun_1 18 rfl rfl)
abbrev cX12_manyNumbers : ByteArray := prog_9_method_7_code
def yX12_manyNumbers : MethodName := ⟨RX12, "manyNumbers", "(Ljava/lang/String;)I"⟩
def dkwX12_manyNumbers_5 : List UInt8 := [6, 172, 4, 172, 5, 172]
abbrev dktX12_manyNumbers_5 : List UInt8 := dkwX12_manyNumbers_5 ++ []
def dkwX12_manyNumbers_4 : List UInt8 := [170, 0, 0, 0, 0, 0, 0, 32, 0, 0, 0, 0, 0, 0, 0, 2, 0, 0, 0, 28, 0, 0, 0, 30, 0, 0, 0, 30]
abbrev dktX12_manyNumbers_4 : List UInt8 := dkwX12_manyNumbers_4 ++ dktX12_manyNumbers_5
def dkwX12_manyNumbers_3 : List UInt8 := [61, 167, 0, 14, 43, 18, 79, 182, 0, 113, 153, 0, 5, 5, 61, 28]
abbrev dktX12_manyNumbers_3 : List UInt8 := dkwX12_manyNumbers_3 ++ dktX12_manyNumbers_4
def dkwX12_manyNumbers_2 : List UInt8 := [43, 18, 71, 182, 0, 113, 153, 0, 33, 3, 61, 167, 0, 28, 43, 18, 73, 182, 0, 113, 153, 0, 19, 4]
abbrev dktX12_manyNumbers_2 : List UInt8 := dkwX12_manyNumbers_2 ++ dktX12_manyNumbers_3
def dkwX12_manyNumbers_1 : List UInt8 := [171, 0, 0, 0, 0, 0, 0, 75, 0, 0, 0, 3, 181, 80, 93, 251, 0, 0, 0, 36, 0, 46, 240, 87, 0, 0, 0, 64, 0, 53, 207, 136, 0, 0, 0, 50]
abbrev dktX12_manyNumbers_1 : List UInt8 := dkwX12_manyNumbers_1 ++ dktX12_manyNumbers_2
def dkwX12_manyNumbers_0 : List UInt8 := [42, 76, 2, 61, 43, 182, 0, 109]
abbrev dktX12_manyNumbers_0 : List UInt8 := dkwX12_manyNumbers_0 ++ dktX12_manyNumbers_1
theorem dksX12_manyNumbers_0 : cX12_manyNumbers.data.toList.drop 0 = dktX12_manyNumbers_0 := by decide +kernel
theorem dksX12_manyNumbers_1 : cX12_manyNumbers.data.toList.drop 8 = dktX12_manyNumbers_1 := dk_seg dksX12_manyNumbers_0 8 rfl rfl
theorem dksX12_manyNumbers_2 : cX12_manyNumbers.data.toList.drop 44 = dktX12_manyNumbers_2 := dk_seg dksX12_manyNumbers_1 36 rfl rfl
theorem dksX12_manyNumbers_3 : cX12_manyNumbers.data.toList.drop 68 = dktX12_manyNumbers_3 := dk_seg dksX12_manyNumbers_2 24 rfl rfl
theorem dksX12_manyNumbers_4 : cX12_manyNumbers.data.toList.drop 84 = dktX12_manyNumbers_4 := dk_seg dksX12_manyNumbers_3 16 rfl rfl
theorem dksX12_manyNumbers_5 : cX12_manyNumbers.data.toList.drop 112 = dktX12_manyNumbers_5 := dk_seg dksX12_manyNumbers_4 28 rfl rfl
theorem dX12_manyNumbers_0 : decode cX12_manyNumbers 0 = .ok (.aload_n 0, 1) := dk_42 (dk_at dksX12_manyNumbers_0 0 rfl rfl)
theorem dX12_manyNumbers_1 : decode cX12_manyNumbers 1 = .ok (.astore_n 1, 1) := dk_76 (dk_at dksX12_manyNumbers_0 1 rfl rfl)
theorem dX12_manyNumbers_2 : decode cX12_manyNumbers 2 = .ok (.iconst (-1), 1) := dk_2 (dk_at dksX12_manyNumbers_0 2 rfl rfl)
theorem dX12_manyNumbers_3 : decode cX12_manyNumbers 3 = .ok (.istore_n 2, 1) := dk_61 (dk_at dksX12_manyNumbers_0 3 rfl rfl)
theorem dX12_manyNumbers_4 : decode cX12_manyNumbers 4 = .ok (.aload_n 1, 1) := dk_43 (dk_at dksX12_manyNumbers_0 4 rfl rfl)
theorem dX12_manyNumbers_5 : decode cX12_manyNumbers 5 = .ok (.invokevirtual 109, 3) := dk_182 0 109 (dk_at dksX12_manyNumbers_0 5 rfl rfl)
theorem dX12_manyNumbers_8 : decode cX12_manyNumbers 8 = .ok (.lookupswitch 75 #[(-1253024261, 36), (3076183, 64), (3526536, 50)], 36) := by decide +kernel
theorem dX12_manyNumbers_44 : decode cX12_manyNumbers 44 = .ok (.aload_n 1, 1) := dk_43 (dk_at dksX12_manyNumbers_2 0 rfl rfl)
theorem dX12_manyNumbers_45 : decode cX12_manyNumbers 45 = .ok (.ldc 71, 2) := dk_18 71 (dk_at dksX12_manyNumbers_2 1 rfl rfl)
theorem dX12_manyNumbers_47 : decode cX12_manyNumbers 47 = .ok (.invokevirtual 113, 3) := dk_182 0 113 (dk_at dksX12_manyNumbers_2 3 rfl rfl)
theorem dX12_manyNumbers_50 : decode cX12_manyNumbers 50 = .ok (.ifCond .eq 33, 3) := dk_153 0 33 (dk_at dksX12_manyNumbers_2 6 rfl rfl)
theorem dX12_manyNumbers_53 : decode cX12_manyNumbers 53 = .ok (.iconst 0, 1) := dk_3 (dk_at dksX12_manyNumbers_2 9 rfl rfl)
theorem dX12_manyNumbers_54 : decode cX12_manyNumbers 54 = .ok (.istore_n 2, 1) := dk_61 (dk_at dksX12_manyNumbers_2 10 rfl rfl)
theorem dX12_manyNumbers_55 : decode cX12_manyNumbers 55 = .ok (.goto 28, 3) := dk_167 0 28 (dk_at dksX12_manyNumbers_2 11 rfl rfl)
theorem dX12_manyNumbers_58 : decode cX12_manyNumbers 58 = .ok (.aload_n 1, 1) := dk_43 (dk_at dksX12_manyNumbers_2 14 rfl rfl)
theorem dX12_manyNumbers_59 : decode cX12_manyNumbers 59 = .ok (.ldc 73, 2) := dk_18 73 (dk_at dksX12_manyNumbers_2 15 rfl rfl)
theorem dX12_manyNumbers_61 : decode cX12_manyNumbers 61 = .ok (.invokevirtual 113, 3) := dk_182 0 113 (dk_at dksX12_manyNumbers_2 17 rfl rfl)
theorem dX12_manyNumbers_64 : decode cX12_manyNumbers 64 = .ok (.ifCond .eq 19, 3) := dk_153 0 19 (dk_at dksX12_manyNumbers_2 20 rfl rfl)
theorem dX12_manyNumbers_67 : decode cX12_manyNumbers 67 = .ok (.iconst 1, 1) := dk_4 (dk_at dksX12_manyNumbers_2 23 rfl rfl)
theorem dX12_manyNumbers_68 : decode cX12_manyNumbers 68 = .ok (.istore_n 2, 1) := dk_61 (dk_at dksX12_manyNumbers_3 0 rfl rfl)
theorem dX12_manyNumbers_69 : decode cX12_manyNumbers 69 = .ok (.goto 14, 3) := dk_167 0 14 (dk_at dksX12_manyNumbers_3 1 rfl rfl)
theorem dX12_manyNumbers_72 : decode cX12_manyNumbers 72 = .ok (.aload_n 1, 1) := dk_43 (dk_at dksX12_manyNumbers_3 4 rfl rfl)
theorem dX12_manyNumbers_73 : decode cX12_manyNumbers 73 = .ok (.ldc 79, 2) := dk_18 79 (dk_at dksX12_manyNumbers_3 5 rfl rfl)
theorem dX12_manyNumbers_75 : decode cX12_manyNumbers 75 = .ok (.invokevirtual 113, 3) := dk_182 0 113 (dk_at dksX12_manyNumbers_3 7 rfl rfl)
theorem dX12_manyNumbers_78 : decode cX12_manyNumbers 78 = .ok (.ifCond .eq 5, 3) := dk_153 0 5 (dk_at dksX12_manyNumbers_3 10 rfl rfl)
theorem dX12_manyNumbers_81 : decode cX12_manyNumbers 81 = .ok (.iconst 2, 1) := dk_5 (dk_at dksX12_manyNumbers_3 13 rfl rfl)
theorem dX12_manyNumbers_82 : decode cX12_manyNumbers 82 = .ok (.istore_n 2, 1) := dk_61 (dk_at dksX12_manyNumbers_3 14 rfl rfl)
theorem dX12_manyNumbers_83 : decode cX12_manyNumbers 83 = .ok (.iload_n 2, 1) := dk_28 (dk_at dksX12_manyNumbers_3 15 rfl rfl)
theorem dX12_manyNumbers_84 : decode cX12_manyNumbers 84 = .ok (.tableswitch 32 0 2 #[28, 30, 30], 28) := by decide +kernel
theorem dX12_manyNumbers_112 : decode cX12_manyNumbers 112 = .ok (.iconst 3, 1) := dk_6 (dk_at dksX12_manyNumbers_5 0 rfl rfl)
theorem dX12_manyNumbers_113 : decode cX12_manyNumbers 113 = .ok (.ireturn, 1) := dk_172 (dk_at dksX12_manyNumbers_5 1 rfl rfl)
theorem dX12_manyNumbers_114 : decode cX12_manyNumbers 114 = .ok (.iconst 1, 1) := dk_4 (dk_at dksX12_manyNumbers_5 2 rfl rfl)
theorem dX12_manyNumbers_115 : decode cX12_manyNumbers 115 = .ok (.ireturn, 1) := dk_172 (dk_at dksX12_manyNumbers_5 3 rfl rfl)
theorem dX12_manyNumbers_116 : decode cX12_manyNumbers 116 = .ok (.iconst 2, 1) := dk_5 (dk_at dksX12_manyNumbers_5 4 rfl rfl)
theorem dX12_manyNumbers_117 : decode cX12_manyNumbers 117 = .ok (.ireturn, 1) := dk_172 (dk_at dksX12_manyNumbers_5 5 rfl rfl)
abbrev cX12_number : ByteArray := prog_9_method_4_code
def yX12_number : MethodName := ⟨RX12, "number", "()I"⟩
def dkwX12_number_2 : List UInt8 := [28, 172]
abbrev dktX12_number_2 : List UInt8 := dkwX12_number_2 ++ []
def dkwX12_number_1 : List UInt8 := [16, 57, 184, 0, 31, 153, 0, 19, 16, 10, 28, 104, 42, 16, 48, 16, 57, 182, 0, 42, 96, 167, 0, 4]
abbrev dktX12_number_1 : List UInt8 := dkwX12_number_1 ++ dktX12_number_2
def dkwX12_number_0 : List UInt8 := [42, 16, 32, 16, 32, 182, 0, 42, 60, 42, 16, 48, 16, 57, 182, 0, 42, 61, 42, 182, 0, 27, 16, 48]
abbrev dktX12_number_0 : List UInt8 := dkwX12_number_0 ++ dktX12_number_1
theorem dksX12_number_0 : cX12_number.data.toList.drop 0 = dktX12_number_0 := by decide +kernel
theorem dksX12_number_1 : cX12_number.data.toList.drop 24 = dktX12_number_1 := dk_seg dksX12_number_0 24 rfl rfl
theorem dksX12_number_2 : cX12_number.data.toList.drop 48 = dktX12_number_2 := dk_seg dksX12_number_1 24 rfl rfl
theorem dX12_number_0 : decode cX12_number 0 = .ok (.aload_n 0, 1) := dk_42 (dk_at dksX12_number_0 0 rfl rfl)
theorem dX12_number_1 : decode cX12_number 1 = .ok (.bipush 32, 2) := dk_16 32 (dk_at dksX12_number_0 1 rfl rfl)
theorem dX12_number_3 : decode cX12_number 3 = .ok (.bipush 32, 2) := dk_16 32 (dk_at dksX12_number_0 3 rfl rfl)
theorem dX12_number_5 : decode cX12_number 5 = .ok (.invokevirtual 42, 3) := dk_182 0 42 (dk_at dksX12_number_0 5 rfl rfl)
theorem dX12_number_8 : decode cX12_number 8 = .ok (.istore_n 1, 1) := dk_60 (dk_at dksX12_number_0 8 rfl rfl)
theorem dX12_number_9 : decode cX12_number 9 = .ok (.aload_n 0, 1) := dk_42 (dk_at dksX12_number_0 9 rfl rfl)
theorem dX12_number_10 : decode cX12_number 10 = .ok (.bipush 48, 2) := dk_16 48 (dk_at dksX12_number_0 10 rfl rfl)
theorem dX12_number_12 : decode cX12_number 12 = .ok (.bipush 57, 2) := dk_16 57 (dk_at dksX12_number_0 12 rfl rfl)
theorem dX12_number_14 : decode cX12_number 14 = .ok (.invokevirtual 42, 3) := dk_182 0 42 (dk_at dksX12_number_0 14 rfl rfl)
theorem dX12_number_17 : decode cX12_number 17 = .ok (.istore_n 2, 1) := dk_61 (dk_at dksX12_number_0 17 rfl rfl)
theorem dX12_number_18 : decode cX12_number 18 = .ok (.aload_n 0, 1) := dk_42 (dk_at dksX12_number_0 18 rfl rfl)
theorem dX12_number_19 : decode cX12_number 19 = .ok (.invokevirtual 27, 3) := dk_182 0 27 (dk_at dksX12_number_0 19 rfl rfl)
theorem dX12_number_22 : decode cX12_number 22 = .ok (.bipush 48, 2) := dk_16 48 (dk_at dksX12_number_0 22 rfl rfl)
theorem dX12_number_24 : decode cX12_number 24 = .ok (.bipush 57, 2) := dk_16 57 (dk_at dksX12_number_1 0 rfl rfl)
theorem dX12_number_26 : decode cX12_number 26 = .ok (.invokestatic 31, 3) := dk_184 0 31 (dk_at dksX12_number_1 2 rfl rfl)
theorem dX12_number_29 : decode cX12_number 29 = .ok (.ifCond .eq 19, 3) := dk_153 0 19 (dk_at dksX12_number_1 5 rfl rfl)
theorem dX12_number_32 : decode cX12_number 32 = .ok (.bipush 10, 2) := dk_16 10 (dk_at dksX12_number_1 8 rfl rfl)
theorem dX12_number_34 : decode cX12_number 34 = .ok (.iload_n 2, 1) := dk_28 (dk_at dksX12_number_1 10 rfl rfl)
theorem dX12_number_35 : decode cX12_number 35 = .ok (.imul, 1) := dk_104 (dk_at dksX12_number_1 11 rfl rfl)
theorem dX12_number_36 : decode cX12_number 36 = .ok (.aload_n 0, 1) := dk_42 (dk_at dksX12_number_1 12 rfl rfl)
theorem dX12_number_37 : decode cX12_number 37 = .ok (.bipush 48, 2) := dk_16 48 (dk_at dksX12_number_1 13 rfl rfl)
theorem dX12_number_39 : decode cX12_number 39 = .ok (.bipush 57, 2) := dk_16 57 (dk_at dksX12_number_1 15 rfl rfl)
theorem dX12_number_41 : decode cX12_number 41 = .ok (.invokevirtual 42, 3) := dk_182 0 42 (dk_at dksX12_number_1 17 rfl rfl)
theorem dX12_number_44 : decode cX12_number 44 = .ok (.iadd, 1) := dk_96 (dk_at dksX12_number_1 20 rfl rfl)
theorem dX12_number_45 : decode cX12_number 45 = .ok (.goto 4, 3) := dk_167 0 4 (dk_at dksX12_number_1 21 rfl rfl)
theorem dX12_number_48 : decode cX12_number 48 = .ok (.iload_n 2, 1) := dk_28 (dk_at dksX12_number_2 0 rfl rfl)
theorem dX12_number_49 : decode cX12_number 49 = .ok (.ireturn, 1) := dk_172 (dk_at dksX12_number_2 1 rfl rfl)
abbrev cX12_next : ByteArray := prog_9_method_3_code
def yX12_next : MethodName := ⟨RX12, "next", "(CC)I"⟩
def dkwX12_next_2 : List UInt8 := [172]
abbrev dktX12_next_2 : List UInt8 := dkwX12_next_2 ++ []
def dkwX12_next_1 : List UInt8 := [42, 89, 180, 0, 24, 4, 96, 181, 0, 24, 42, 180, 0, 16, 42, 180, 0, 24, 4, 100, 52, 16, 48, 100]
abbrev dktX12_next_1 : List UInt8 := dkwX12_next_1 ++ dktX12_next_2
def dkwX12_next_0 : List UInt8 := [42, 182, 0, 27, 27, 28, 184, 0, 31, 154, 0, 15, 187, 0, 37, 89, 42, 180, 0, 24, 183, 0, 39, 191]
abbrev dktX12_next_0 : List UInt8 := dkwX12_next_0 ++ dktX12_next_1
theorem dksX12_next_0 : cX12_next.data.toList.drop 0 = dktX12_next_0 := by decide +kernel
theorem dksX12_next_1 : cX12_next.data.toList.drop 24 = dktX12_next_1 := dk_seg dksX12_next_0 24 rfl rfl
theorem dksX12_next_2 : cX12_next.data.toList.drop 48 = dktX12_next_2 := dk_seg dksX12_next_1 24 rfl rfl
theorem dX12_next_0 : decode cX12_next 0 = .ok (.aload_n 0, 1) := dk_42 (dk_at dksX12_next_0 0 rfl rfl)
theorem dX12_next_1 : decode cX12_next 1 = .ok (.invokevirtual 27, 3) := dk_182 0 27 (dk_at dksX12_next_0 1 rfl rfl)
theorem dX12_next_4 : decode cX12_next 4 = .ok (.iload_n 1, 1) := dk_27 (dk_at dksX12_next_0 4 rfl rfl)
theorem dX12_next_5 : decode cX12_next 5 = .ok (.iload_n 2, 1) := dk_28 (dk_at dksX12_next_0 5 rfl rfl)
theorem dX12_next_6 : decode cX12_next 6 = .ok (.invokestatic 31, 3) := dk_184 0 31 (dk_at dksX12_next_0 6 rfl rfl)
theorem dX12_next_9 : decode cX12_next 9 = .ok (.ifCond .ne 15, 3) := dk_154 0 15 (dk_at dksX12_next_0 9 rfl rfl)
theorem dX12_next_12 : decode cX12_next 12 = .ok (.new 37, 3) := dk_187 0 37 (dk_at dksX12_next_0 12 rfl rfl)
theorem dX12_next_15 : decode cX12_next 15 = .ok (.dup, 1) := dk_89 (dk_at dksX12_next_0 15 rfl rfl)
theorem dX12_next_16 : decode cX12_next 16 = .ok (.aload_n 0, 1) := dk_42 (dk_at dksX12_next_0 16 rfl rfl)
theorem dX12_next_17 : decode cX12_next 17 = .ok (.getfield 24, 3) := dk_180 0 24 (dk_at dksX12_next_0 17 rfl rfl)
theorem dX12_next_20 : decode cX12_next 20 = .ok (.invokespecial 39, 3) := dk_183 0 39 (dk_at dksX12_next_0 20 rfl rfl)
theorem dX12_next_23 : decode cX12_next 23 = .ok (.athrow, 1) := dk_191 (dk_at dksX12_next_0 23 rfl rfl)
theorem dX12_next_24 : decode cX12_next 24 = .ok (.aload_n 0, 1) := dk_42 (dk_at dksX12_next_1 0 rfl rfl)
theorem dX12_next_25 : decode cX12_next 25 = .ok (.dup, 1) := dk_89 (dk_at dksX12_next_1 1 rfl rfl)
theorem dX12_next_26 : decode cX12_next 26 = .ok (.getfield 24, 3) := dk_180 0 24 (dk_at dksX12_next_1 2 rfl rfl)
theorem dX12_next_29 : decode cX12_next 29 = .ok (.iconst 1, 1) := dk_4 (dk_at dksX12_next_1 5 rfl rfl)
theorem dX12_next_30 : decode cX12_next 30 = .ok (.iadd, 1) := dk_96 (dk_at dksX12_next_1 6 rfl rfl)
theorem dX12_next_31 : decode cX12_next 31 = .ok (.putfield 24, 3) := dk_181 0 24 (dk_at dksX12_next_1 7 rfl rfl)
theorem dX12_next_34 : decode cX12_next 34 = .ok (.aload_n 0, 1) := dk_42 (dk_at dksX12_next_1 10 rfl rfl)
theorem dX12_next_35 : decode cX12_next 35 = .ok (.getfield 16, 3) := dk_180 0 16 (dk_at dksX12_next_1 11 rfl rfl)
theorem dX12_next_38 : decode cX12_next 38 = .ok (.aload_n 0, 1) := dk_42 (dk_at dksX12_next_1 14 rfl rfl)
theorem dX12_next_39 : decode cX12_next 39 = .ok (.getfield 24, 3) := dk_180 0 24 (dk_at dksX12_next_1 15 rfl rfl)
theorem dX12_next_42 : decode cX12_next 42 = .ok (.iconst 1, 1) := dk_4 (dk_at dksX12_next_1 18 rfl rfl)
theorem dX12_next_43 : decode cX12_next 43 = .ok (.isub, 1) := dk_100 (dk_at dksX12_next_1 19 rfl rfl)
theorem dX12_next_44 : decode cX12_next 44 = .ok (.caload, 1) := dk_52 (dk_at dksX12_next_1 20 rfl rfl)
theorem dX12_next_45 : decode cX12_next 45 = .ok (.bipush 48, 2) := dk_16 48 (dk_at dksX12_next_1 21 rfl rfl)
theorem dX12_next_47 : decode cX12_next 47 = .ok (.isub, 1) := dk_100 (dk_at dksX12_next_1 23 rfl rfl)
theorem dX12_next_48 : decode cX12_next 48 = .ok (.ireturn, 1) := dk_172 (dk_at dksX12_next_2 0 rfl rfl)
theorem q159 : (Jvm.Cond.initialized "PaperStore$Parser") ∈ lw_all := lw_g (lw_at lw_m1 60 rfl) rfl
theorem q478 : (Jvm.Cond.selects "PaperStore$Parser" ({ cls := "java/lang/Object", name := "getClass", desc := "()Ljava/lang/Class;" } : Jvm.MethodName) ({ cls := "java/lang/Object", name := "getClass", desc := "()Ljava/lang/Class;" } : Jvm.MethodName)) ∈ lw_all := lw_g (lw_at lw_m2 139 rfl) rfl
theorem q1807 : (Jvm.Cond.selects "PaperStore$Parser" ({ cls := "java/lang/Object", name := "hashCode", desc := "()I" } : Jvm.MethodName) ({ cls := "java/lang/Object", name := "hashCode", desc := "()I" } : Jvm.MethodName)) ∈ lw_all := lw_g (lw_at lw_m8 28 rfl) rfl
theorem q1915 : (Jvm.Cond.selects "PaperStore$Parser" ({ cls := "java/lang/Object", name := "equals", desc := "(Ljava/lang/Object;)Z" } : Jvm.MethodName) ({ cls := "java/lang/Object", name := "equals", desc := "(Ljava/lang/Object;)Z" } : Jvm.MethodName)) ∈ lw_all := lw_g (lw_at lw_m8 136 rfl) rfl
theorem q2844 : (Jvm.Cond.instantiable "PaperStore$Parser" (4 : Nat)) ∈ lw_all := lw_g (lw_at lw_m12 105 rfl) rfl
theorem q2846 : (Jvm.Cond.instanceMethod ({ cls := "PaperStore$Parser", name := "<init>", desc := "([CI)V" } : Jvm.MethodName)) ∈ lw_all := lw_g (lw_at lw_m12 107 rfl) rfl
theorem q2847 : (Jvm.Cond.code ({ cls := "PaperStore$Parser", name := "<init>", desc := "([CI)V" } : Jvm.MethodName) prog_9_method_1_code (3 : Nat) (Option.none : Option Jvm.ClassFile.FieldType)) ∈ lw_all := lw_g (lw_at lw_m12 108 rfl) rfl
theorem q2848 : (Jvm.Cond.methodLink "PaperStore$Parser" (1 : Nat) ({ cls := "java/lang/Object", name := "<init>", desc := "()V" } : Jvm.MethodName)) ∈ lw_all := lw_g (lw_at lw_m12 109 rfl) rfl
theorem q2849 : (Jvm.Cond.classLink "PaperStore$Parser" (7 : Nat) "java/util/ArrayList") ∈ lw_all := lw_g (lw_at lw_m12 110 rfl) rfl
theorem q2850 : (Jvm.Cond.methodLink "PaperStore$Parser" (9 : Nat) ({ cls := "java/util/ArrayList", name := "<init>", desc := "()V" } : Jvm.MethodName)) ∈ lw_all := lw_g (lw_at lw_m12 111 rfl) rfl
theorem q2851 : (Jvm.Cond.fieldLink "PaperStore$Parser" (16 : Nat) "PaperStore$Parser" "text" "[C") ∈ lw_all := lw_g (lw_at lw_m12 112 rfl) rfl
theorem q2852 : (Jvm.Cond.fieldLink "PaperStore$Parser" (20 : Nat) "PaperStore$Parser" "length" "I") ∈ lw_all := lw_g (lw_at lw_m12 113 rfl) rfl
theorem q2853 : (Jvm.Cond.fieldLink "PaperStore$Parser" (10 : Nat) "PaperStore$Parser" "commands" "Ljava/util/ArrayList;") ∈ lw_all := lw_g (lw_at lw_m12 114 rfl) rfl
theorem q2855 : (Jvm.Cond.fieldLink "PaperStore$Parser" (24 : Nat) "PaperStore$Parser" "at" "I") ∈ lw_all := lw_g (lw_at lw_m12 116 rfl) rfl
theorem q2856 : (Jvm.Cond.laysFinal "PaperStore$Parser" "PaperStore$Parser" "text" "[C") ∈ lw_all := lw_g (lw_at lw_m12 117 rfl) rfl
theorem q2857 : (Jvm.Cond.soleField "PaperStore$Parser" "text") ∈ lw_all := lw_g (lw_at lw_m12 118 rfl) rfl
theorem q2858 : (Jvm.Cond.laysFinal "PaperStore$Parser" "PaperStore$Parser" "length" "I") ∈ lw_all := lw_g (lw_at lw_m12 119 rfl) rfl
theorem q2859 : (Jvm.Cond.soleField "PaperStore$Parser" "length") ∈ lw_all := lw_g (lw_at lw_m12 120 rfl) rfl
theorem q2860 : (Jvm.Cond.laysFinal "PaperStore$Parser" "PaperStore$Parser" "commands" "Ljava/util/ArrayList;") ∈ lw_all := lw_g (lw_at lw_m12 121 rfl) rfl
theorem q2861 : (Jvm.Cond.soleField "PaperStore$Parser" "commands") ∈ lw_all := lw_g (lw_at lw_m12 122 rfl) rfl
theorem q2862 : (Jvm.Cond.lays "PaperStore$Parser" "PaperStore$Parser" "at" "I") ∈ lw_all := lw_g (lw_at lw_m12 123 rfl) rfl
theorem q2863 : (Jvm.Cond.soleField "PaperStore$Parser" "at") ∈ lw_all := lw_g (lw_at lw_m12 124 rfl) rfl
theorem q2864 : (Jvm.Cond.superclass "PaperStore$Parser" "java/lang/Object") ∈ lw_all := lw_g (lw_at lw_m12 125 rfl) rfl
theorem q2866 : (Jvm.Cond.instanceMethod ({ cls := "PaperStore$Parser", name := "all", desc := "()V" } : Jvm.MethodName)) ∈ lw_all := lw_g (lw_at lw_m12 127 rfl) rfl
theorem q2867 : (Jvm.Cond.selects "PaperStore$Parser" ({ cls := "PaperStore$Parser", name := "all", desc := "()V" } : Jvm.MethodName) ({ cls := "PaperStore$Parser", name := "all", desc := "()V" } : Jvm.MethodName)) ∈ lw_all := lw_g (lw_at lw_m12 128 rfl) rfl
theorem q2868 : (Jvm.Cond.code ({ cls := "PaperStore$Parser", name := "all", desc := "()V" } : Jvm.MethodName) prog_9_method_9_code (2 : Nat) (Option.none : Option Jvm.ClassFile.FieldType)) ∈ lw_all := lw_g (lw_at lw_m12 129 rfl) rfl
theorem q2869 : (Jvm.Cond.methodLink "PaperStore$Parser" (131 : Nat) ({ cls := "PaperStore$Parser", name := "command", desc := "()LPaperStore$Command;" } : Jvm.MethodName)) ∈ lw_all := lw_g (lw_at lw_m12 130 rfl) rfl
theorem q2870 : (Jvm.Cond.privateMethod ({ cls := "PaperStore$Parser", name := "command", desc := "()LPaperStore$Command;" } : Jvm.MethodName)) ∈ lw_tbl := lw_at lw_m12 131 rfl
theorem q2871 : (Jvm.Cond.instanceMethod ({ cls := "PaperStore$Parser", name := "command", desc := "()LPaperStore$Command;" } : Jvm.MethodName)) ∈ lw_all := lw_g (lw_at lw_m12 132 rfl) rfl
theorem q2872 : (Jvm.Cond.code ({ cls := "PaperStore$Parser", name := "command", desc := "()LPaperStore$Command;" } : Jvm.MethodName) prog_9_method_8_code (4 : Nat) (Option.some (Jvm.ClassFile.FieldType.object "PaperStore$Command"))) ∈ lw_all := lw_g (lw_at lw_m12 133 rfl) rfl
theorem q2873 : (Jvm.Cond.methodLink "PaperStore$Parser" (116 : Nat) ({ cls := "PaperStore$Parser", name := "word", desc := "()Ljava/lang/String;" } : Jvm.MethodName)) ∈ lw_all := lw_g (lw_at lw_m12 134 rfl) rfl
theorem q2874 : (Jvm.Cond.privateMethod ({ cls := "PaperStore$Parser", name := "word", desc := "()Ljava/lang/String;" } : Jvm.MethodName)) ∈ lw_tbl := lw_at lw_m12 135 rfl
theorem q2875 : (Jvm.Cond.instanceMethod ({ cls := "PaperStore$Parser", name := "word", desc := "()Ljava/lang/String;" } : Jvm.MethodName)) ∈ lw_all := lw_g (lw_at lw_m12 136 rfl) rfl
theorem q2876 : (Jvm.Cond.code ({ cls := "PaperStore$Parser", name := "word", desc := "()Ljava/lang/String;" } : Jvm.MethodName) prog_9_method_6_code (3 : Nat) (Option.some (Jvm.ClassFile.FieldType.object "java/lang/String"))) ∈ lw_all := lw_g (lw_at lw_m12 137 rfl) rfl
theorem q2877 : (Jvm.Cond.classLink "PaperStore$Parser" (67 : Nat) "java/util/HashSet") ∈ lw_all := lw_g (lw_at lw_m12 138 rfl) rfl
theorem q2879 : (Jvm.Cond.stringRef "PaperStore$Parser" (69 : Nat) "push") ∈ lw_tbl := lw_at lw_m12 140 rfl
theorem q2880 : (Jvm.Cond.stringRef "PaperStore$Parser" (71 : Nat) "gather") ∈ lw_tbl := lw_at lw_m12 141 rfl
theorem q2881 : (Jvm.Cond.stringRef "PaperStore$Parser" (73 : Nat) "send") ∈ lw_tbl := lw_at lw_m12 142 rfl
theorem q2882 : (Jvm.Cond.stringRef "PaperStore$Parser" (75 : Nat) "trap") ∈ lw_tbl := lw_at lw_m12 143 rfl
theorem q2883 : (Jvm.Cond.stringRef "PaperStore$Parser" (77 : Nat) "air") ∈ lw_tbl := lw_at lw_m12 144 rfl
theorem q2884 : (Jvm.Cond.stringRef "PaperStore$Parser" (79 : Nat) "days") ∈ lw_tbl := lw_at lw_m12 145 rfl
theorem q2885 : (Jvm.Cond.methodLink "PaperStore$Parser" (81 : Nat) ({ cls := "java/util/List", name := "of", desc := "(Ljava/lang/Object;Ljava/lang/Object;Ljava/lang/Object;Ljava/lang/Object;Ljava/lang/Object;Ljava/lang/Object;)Ljava/util/List;" } : Jvm.MethodName)) ∈ lw_all := lw_g (lw_at lw_m12 146 rfl) rfl
theorem q2934 : (Jvm.Cond.methodLink "PaperStore$Parser" (87 : Nat) ({ cls := "java/util/HashSet", name := "<init>", desc := "(Ljava/util/Collection;)V" } : Jvm.MethodName)) ∈ lw_all := lw_g (lw_at lw_m12 195 rfl) rfl
theorem q3334 : (Jvm.Cond.selects "PaperStore$Parser" ({ cls := "java/lang/Object", name := "toString", desc := "()Ljava/lang/String;" } : Jvm.MethodName) ({ cls := "java/lang/Object", name := "toString", desc := "()Ljava/lang/String;" } : Jvm.MethodName)) ∈ lw_all := lw_g (lw_at lw_m14 115 rfl) rfl
theorem q3454 : (Jvm.Cond.classLink "PaperStore$Parser" (90 : Nat) "java/lang/StringBuilder") ∈ lw_all := lw_g (lw_at lw_m14 235 rfl) rfl
theorem q3455 : (Jvm.Cond.methodLink "PaperStore$Parser" (92 : Nat) ({ cls := "java/lang/StringBuilder", name := "<init>", desc := "()V" } : Jvm.MethodName)) ∈ lw_all := lw_g (lw_at lw_m14 236 rfl) rfl
theorem q3456 : (Jvm.Cond.methodLink "PaperStore$Parser" (93 : Nat) ({ cls := "java/lang/StringBuilder", name := "toString", desc := "()Ljava/lang/String;" } : Jvm.MethodName)) ∈ lw_all := lw_g (lw_at lw_m14 237 rfl) rfl
theorem q3457 : (Jvm.Cond.interfaceEntry "PaperStore$Parser" (97 : Nat)) ∈ lw_tbl := lw_at lw_m14 238 rfl
theorem q3458 : (Jvm.Cond.methodLink "PaperStore$Parser" (97 : Nat) ({ cls := "java/util/Set", name := "contains", desc := "(Ljava/lang/Object;)Z" } : Jvm.MethodName)) ∈ lw_all := lw_g (lw_at lw_m14 239 rfl) rfl
theorem q3494 : (Jvm.Cond.methodLink "PaperStore$Parser" (27 : Nat) ({ cls := "PaperStore$Parser", name := "peek", desc := "()C" } : Jvm.MethodName)) ∈ lw_all := lw_g (lw_at lw_m15 35 rfl) rfl
theorem q3495 : (Jvm.Cond.privateMethod ({ cls := "PaperStore$Parser", name := "peek", desc := "()C" } : Jvm.MethodName)) ∈ lw_tbl := lw_at lw_m15 36 rfl
theorem q3496 : (Jvm.Cond.instanceMethod ({ cls := "PaperStore$Parser", name := "peek", desc := "()C" } : Jvm.MethodName)) ∈ lw_all := lw_g (lw_at lw_m15 37 rfl) rfl
theorem q3497 : (Jvm.Cond.code ({ cls := "PaperStore$Parser", name := "peek", desc := "()C" } : Jvm.MethodName) prog_9_method_2_code (1 : Nat) (Option.some Jvm.ClassFile.FieldType.char)) ∈ lw_all := lw_g (lw_at lw_m15 38 rfl) rfl
theorem q3498 : (Jvm.Cond.methodLink "PaperStore$Parser" (101 : Nat) ({ cls := "java/lang/StringBuilder", name := "append", desc := "(C)Ljava/lang/StringBuilder;" } : Jvm.MethodName)) ∈ lw_all := lw_g (lw_at lw_m15 39 rfl) rfl
theorem q3499 : (Jvm.Cond.methodLink "PaperStore$Parser" (105 : Nat) ({ cls := "PaperStore$Parser", name := "isBegun", desc := "(Ljava/util/Set;Ljava/lang/String;)Z" } : Jvm.MethodName)) ∈ lw_all := lw_g (lw_at lw_m15 40 rfl) rfl
theorem q3500 : (Jvm.Cond.static ({ cls := "PaperStore$Parser", name := "isBegun", desc := "(Ljava/util/Set;Ljava/lang/String;)Z" } : Jvm.MethodName)) ∈ lw_all := lw_g (lw_at lw_m15 41 rfl) rfl
theorem q3501 : (Jvm.Cond.code ({ cls := "PaperStore$Parser", name := "isBegun", desc := "(Ljava/util/Set;Ljava/lang/String;)Z" } : Jvm.MethodName) prog_9_method_5_code (4 : Nat) (Option.some Jvm.ClassFile.FieldType.boolean)) ∈ lw_all := lw_g (lw_at lw_m15 42 rfl) rfl
theorem q3502 : (Jvm.Cond.interfaceEntry "PaperStore$Parser" (46 : Nat)) ∈ lw_tbl := lw_at lw_m15 43 rfl
theorem q3503 : (Jvm.Cond.methodLink "PaperStore$Parser" (46 : Nat) ({ cls := "java/util/Set", name := "iterator", desc := "()Ljava/util/Iterator;" } : Jvm.MethodName)) ∈ lw_all := lw_g (lw_at lw_m15 44 rfl) rfl
theorem q3504 : (Jvm.Cond.interfaceEntry "PaperStore$Parser" (52 : Nat)) ∈ lw_tbl := lw_at lw_m15 45 rfl
theorem q3505 : (Jvm.Cond.methodLink "PaperStore$Parser" (52 : Nat) ({ cls := "java/util/Iterator", name := "hasNext", desc := "()Z" } : Jvm.MethodName)) ∈ lw_all := lw_g (lw_at lw_m15 46 rfl) rfl
theorem q3506 : (Jvm.Cond.interfaceEntry "PaperStore$Parser" (58 : Nat)) ∈ lw_tbl := lw_at lw_m15 47 rfl
theorem q3507 : (Jvm.Cond.methodLink "PaperStore$Parser" (58 : Nat) ({ cls := "java/util/Iterator", name := "next", desc := "()Ljava/lang/Object;" } : Jvm.MethodName)) ∈ lw_all := lw_g (lw_at lw_m15 48 rfl) rfl
theorem q3508 : (Jvm.Cond.classLink "PaperStore$Parser" (61 : Nat) "java/lang/String") ∈ lw_all := lw_g (lw_at lw_m15 49 rfl) rfl
theorem q3509 : (Jvm.Cond.methodLink "PaperStore$Parser" (63 : Nat) ({ cls := "java/lang/String", name := "startsWith", desc := "(Ljava/lang/String;)Z" } : Jvm.MethodName)) ∈ lw_all := lw_g (lw_at lw_m15 50 rfl) rfl
theorem q3522 : (Jvm.Cond.classLink "PaperStore$Parser" (37 : Nat) "PaperStore$BadText") ∈ lw_all := lw_g (lw_at lw_m15 63 rfl) rfl
theorem q3531 : (Jvm.Cond.methodLink "PaperStore$Parser" (39 : Nat) ({ cls := "PaperStore$BadText", name := "<init>", desc := "(I)V" } : Jvm.MethodName)) ∈ lw_all := lw_g (lw_at lw_m15 72 rfl) rfl
theorem q3541 : (Jvm.Cond.methodLink "PaperStore$Parser" (119 : Nat) ({ cls := "PaperStore$Parser", name := "manyNumbers", desc := "(Ljava/lang/String;)I" } : Jvm.MethodName)) ∈ lw_all := lw_g (lw_at lw_m15 82 rfl) rfl
theorem q3542 : (Jvm.Cond.static ({ cls := "PaperStore$Parser", name := "manyNumbers", desc := "(Ljava/lang/String;)I" } : Jvm.MethodName)) ∈ lw_all := lw_g (lw_at lw_m15 83 rfl) rfl
theorem q3543 : (Jvm.Cond.code ({ cls := "PaperStore$Parser", name := "manyNumbers", desc := "(Ljava/lang/String;)I" } : Jvm.MethodName) prog_9_method_7_code (3 : Nat) (Option.some Jvm.ClassFile.FieldType.int)) ∈ lw_all := lw_g (lw_at lw_m15 84 rfl) rfl
theorem q3544 : (Jvm.Cond.methodLink "PaperStore$Parser" (109 : Nat) ({ cls := "java/lang/String", name := "hashCode", desc := "()I" } : Jvm.MethodName)) ∈ lw_all := lw_g (lw_at lw_m15 85 rfl) rfl
theorem q3545 : (Jvm.Cond.methodLink "PaperStore$Parser" (113 : Nat) ({ cls := "java/lang/String", name := "equals", desc := "(Ljava/lang/Object;)Z" } : Jvm.MethodName)) ∈ lw_all := lw_g (lw_at lw_m15 86 rfl) rfl
theorem q3546 : (Jvm.Cond.methodLink "PaperStore$Parser" (123 : Nat) ({ cls := "PaperStore$Parser", name := "number", desc := "()I" } : Jvm.MethodName)) ∈ lw_all := lw_g (lw_at lw_m15 87 rfl) rfl
theorem q3547 : (Jvm.Cond.privateMethod ({ cls := "PaperStore$Parser", name := "number", desc := "()I" } : Jvm.MethodName)) ∈ lw_tbl := lw_at lw_m15 88 rfl
theorem q3548 : (Jvm.Cond.instanceMethod ({ cls := "PaperStore$Parser", name := "number", desc := "()I" } : Jvm.MethodName)) ∈ lw_all := lw_g (lw_at lw_m15 89 rfl) rfl
theorem q3549 : (Jvm.Cond.code ({ cls := "PaperStore$Parser", name := "number", desc := "()I" } : Jvm.MethodName) prog_9_method_4_code (3 : Nat) (Option.some Jvm.ClassFile.FieldType.int)) ∈ lw_all := lw_g (lw_at lw_m15 90 rfl) rfl
theorem q3550 : (Jvm.Cond.methodLink "PaperStore$Parser" (42 : Nat) ({ cls := "PaperStore$Parser", name := "next", desc := "(CC)I" } : Jvm.MethodName)) ∈ lw_all := lw_g (lw_at lw_m15 91 rfl) rfl
theorem q3551 : (Jvm.Cond.privateMethod ({ cls := "PaperStore$Parser", name := "next", desc := "(CC)I" } : Jvm.MethodName)) ∈ lw_tbl := lw_at lw_m15 92 rfl
theorem q3552 : (Jvm.Cond.instanceMethod ({ cls := "PaperStore$Parser", name := "next", desc := "(CC)I" } : Jvm.MethodName)) ∈ lw_all := lw_g (lw_at lw_m15 93 rfl) rfl
theorem q3553 : (Jvm.Cond.code ({ cls := "PaperStore$Parser", name := "next", desc := "(CC)I" } : Jvm.MethodName) prog_9_method_3_code (3 : Nat) (Option.some Jvm.ClassFile.FieldType.int)) ∈ lw_all := lw_g (lw_at lw_m15 94 rfl) rfl
theorem q3554 : (Jvm.Cond.methodLinkNest "PaperStore$Parser" (31 : Nat) ({ cls := "PaperStore", name := "isIn", desc := "(III)Z" } : Jvm.MethodName) "PaperStore") ∈ lw_tbl := lw_at lw_m15 95 rfl
theorem q3555 : (Jvm.Cond.classLink "PaperStore$Parser" (126 : Nat) "PaperStore$Command") ∈ lw_all := lw_g (lw_at lw_m15 96 rfl) rfl
theorem q3557 : (Jvm.Cond.methodLink "PaperStore$Parser" (128 : Nat) ({ cls := "PaperStore$Command", name := "<init>", desc := "(Ljava/lang/String;[I)V" } : Jvm.MethodName)) ∈ lw_all := lw_g (lw_at lw_m15 98 rfl) rfl
theorem q3569 : (Jvm.Cond.methodLink "PaperStore$Parser" (135 : Nat) ({ cls := "java/util/ArrayList", name := "add", desc := "(Ljava/lang/Object;)Z" } : Jvm.MethodName)) ∈ lw_all := lw_g (lw_at lw_m15 110 rfl) rfl
theorem q4183 : (Jvm.Cond.castable "PaperStore$Parser" "java/lang/Object") ∈ lw_tbl := lw_at lw_m18 4 rfl
theorem in_X12 : ∀ w ∈ wsX120, w ∈ lw_all := lw_in wsX120 [2856, 2858, 2860, 2862] (by decide +kernel) (by decide +kernel)
/-! PaperStore$BadText -/
set_option maxRecDepth 100000
def RX13 : String := "PaperStore$BadText"
def TX13 : u_T := fun k => match k with
  | 0 => ("java/lang/Throwable", "cause", "Ljava/lang/Throwable;", false)
  | 1 => ("java/lang/Throwable", "stackTrace", "[Ljava/lang/StackTraceElement;", false)
  | 2 => ("java/lang/Throwable", "suppressedExceptions", "Ljava/util/List;", false)
  | 3 => ("java/lang/Throwable", "detailMessage", "Ljava/lang/String;", false)
  | 4 => ("java/lang/Throwable", "backtrace", "Ljava/lang/Object;", false)
  | 5 => ("java/lang/Throwable", "depth", "I", false)
  | _ => ("PaperStore$BadText", "position", "I", true)
def tyX13 : Nat → FieldType := fun k => match k with
  | 0 => .object "java/lang/Throwable"
  | 1 => .array (.object "java/lang/StackTraceElement")
  | 2 => .object "java/util/List"
  | 3 => .object "java/lang/String"
  | 4 => .object "java/lang/Object"
  | 5 => .int
  | _ => .int
abbrev wsX130 : List Cond := u_ws RX13 TX13 7
theorem nmX13 : ∀ a, a < 7 → ∀ b, b < 7 → a ≠ b → (TX13 a).2.1 ≠ (TX13 b).2.1 := by decide +kernel
theorem tyX13_ok : ∀ k, k < 7 → parseFieldDescriptor (TX13 k).2.2.1 = some (tyX13 k) := by decide +kernel
abbrev cX13_init : ByteArray := prog_3_method_1_code
def yX13_init : MethodName := ⟨RX13, "<init>", "(I)V"⟩
def dkwX13_init_0 : List UInt8 := [42, 183, 0, 1, 42, 27, 181, 0, 7, 177]
abbrev dktX13_init_0 : List UInt8 := dkwX13_init_0 ++ []
theorem dksX13_init_0 : cX13_init.data.toList.drop 0 = dktX13_init_0 := by decide +kernel
theorem dX13_init_0 : decode cX13_init 0 = .ok (.aload_n 0, 1) := dk_42 (dk_at dksX13_init_0 0 rfl rfl)
theorem dX13_init_1 : decode cX13_init 1 = .ok (.invokespecial 1, 3) := dk_183 0 1 (dk_at dksX13_init_0 1 rfl rfl)
theorem dX13_init_4 : decode cX13_init 4 = .ok (.aload_n 0, 1) := dk_42 (dk_at dksX13_init_0 4 rfl rfl)
theorem dX13_init_5 : decode cX13_init 5 = .ok (.iload_n 1, 1) := dk_27 (dk_at dksX13_init_0 5 rfl rfl)
theorem dX13_init_6 : decode cX13_init 6 = .ok (.putfield 7, 3) := dk_181 0 7 (dk_at dksX13_init_0 6 rfl rfl)
theorem dX13_init_9 : decode cX13_init 9 = .ok (.return_, 1) := dk_177 (dk_at dksX13_init_0 9 rfl rfl)
theorem q171 : (Jvm.Cond.initialized "PaperStore$BadText") ∈ lw_all := lw_g (lw_at lw_m1 72 rfl) rfl
theorem q472 : (Jvm.Cond.selects "PaperStore$BadText" ({ cls := "java/lang/Object", name := "getClass", desc := "()Ljava/lang/Class;" } : Jvm.MethodName) ({ cls := "java/lang/Object", name := "getClass", desc := "()Ljava/lang/Class;" } : Jvm.MethodName)) ∈ lw_all := lw_g (lw_at lw_m2 133 rfl) rfl
theorem q763 : (Jvm.Cond.selects "PaperStore$BadText" ({ cls := "java/lang/Throwable", name := "fillInStackTrace", desc := "()Ljava/lang/Throwable;" } : Jvm.MethodName) ({ cls := "java/lang/Throwable", name := "fillInStackTrace", desc := "()Ljava/lang/Throwable;" } : Jvm.MethodName)) ∈ lw_all := lw_g (lw_at lw_m3 184 rfl) rfl
theorem q1799 : (Jvm.Cond.selects "PaperStore$BadText" ({ cls := "java/lang/Object", name := "hashCode", desc := "()I" } : Jvm.MethodName) ({ cls := "java/lang/Object", name := "hashCode", desc := "()I" } : Jvm.MethodName)) ∈ lw_all := lw_g (lw_at lw_m8 20 rfl) rfl
theorem q1906 : (Jvm.Cond.selects "PaperStore$BadText" ({ cls := "java/lang/Object", name := "equals", desc := "(Ljava/lang/Object;)Z" } : Jvm.MethodName) ({ cls := "java/lang/Object", name := "equals", desc := "(Ljava/lang/Object;)Z" } : Jvm.MethodName)) ∈ lw_all := lw_g (lw_at lw_m8 127 rfl) rfl
theorem q3290 : (Jvm.Cond.selects "PaperStore$BadText" ({ cls := "java/lang/Object", name := "toString", desc := "()Ljava/lang/String;" } : Jvm.MethodName) ({ cls := "java/lang/Throwable", name := "toString", desc := "()Ljava/lang/String;" } : Jvm.MethodName)) ∈ lw_all := lw_g (lw_at lw_m14 71 rfl) rfl
theorem q3297 : (Jvm.Cond.selects "PaperStore$BadText" ({ cls := "java/lang/Throwable", name := "getLocalizedMessage", desc := "()Ljava/lang/String;" } : Jvm.MethodName) ({ cls := "java/lang/Throwable", name := "getLocalizedMessage", desc := "()Ljava/lang/String;" } : Jvm.MethodName)) ∈ lw_all := lw_g (lw_at lw_m14 78 rfl) rfl
theorem q3312 : (Jvm.Cond.selects "PaperStore$BadText" ({ cls := "java/lang/Throwable", name := "getMessage", desc := "()Ljava/lang/String;" } : Jvm.MethodName) ({ cls := "java/lang/Throwable", name := "getMessage", desc := "()Ljava/lang/String;" } : Jvm.MethodName)) ∈ lw_all := lw_g (lw_at lw_m14 93 rfl) rfl
theorem q3523 : (Jvm.Cond.instantiable "PaperStore$BadText" (7 : Nat)) ∈ lw_all := lw_g (lw_at lw_m15 64 rfl) rfl
theorem q3524 : (Jvm.Cond.castable "PaperStore$BadText" "PaperStore$BadText") ∈ lw_tbl := lw_at lw_m15 65 rfl
theorem q3525 : (Jvm.Cond.selects "PaperStore$BadText" ({ cls := "java/lang/Throwable", name := "fillInStackTrace", desc := "(I)Ljava/lang/Throwable;" } : Jvm.MethodName) ({ cls := "java/lang/Throwable", name := "fillInStackTrace", desc := "(I)Ljava/lang/Throwable;" } : Jvm.MethodName)) ∈ lw_all := lw_g (lw_at lw_m15 66 rfl) rfl
theorem q3526 : (Jvm.Cond.lays "PaperStore$BadText" "java/lang/Throwable" "cause" "Ljava/lang/Throwable;") ∈ lw_all := lw_g (lw_at lw_m15 67 rfl) rfl
theorem q3527 : (Jvm.Cond.lays "PaperStore$BadText" "java/lang/Throwable" "stackTrace" "[Ljava/lang/StackTraceElement;") ∈ lw_all := lw_g (lw_at lw_m15 68 rfl) rfl
theorem q3528 : (Jvm.Cond.lays "PaperStore$BadText" "java/lang/Throwable" "suppressedExceptions" "Ljava/util/List;") ∈ lw_all := lw_g (lw_at lw_m15 69 rfl) rfl
theorem q3529 : (Jvm.Cond.lays "PaperStore$BadText" "java/lang/Throwable" "detailMessage" "Ljava/lang/String;") ∈ lw_all := lw_g (lw_at lw_m15 70 rfl) rfl
theorem q3530 : (Jvm.Cond.lays "PaperStore$BadText" "java/lang/Throwable" "backtrace" "Ljava/lang/Object;") ∈ lw_all := lw_g (lw_at lw_m15 71 rfl) rfl
theorem q3532 : (Jvm.Cond.instanceMethod ({ cls := "PaperStore$BadText", name := "<init>", desc := "(I)V" } : Jvm.MethodName)) ∈ lw_all := lw_g (lw_at lw_m15 73 rfl) rfl
theorem q3533 : (Jvm.Cond.code ({ cls := "PaperStore$BadText", name := "<init>", desc := "(I)V" } : Jvm.MethodName) prog_3_method_1_code (2 : Nat) (Option.none : Option Jvm.ClassFile.FieldType)) ∈ lw_all := lw_g (lw_at lw_m15 74 rfl) rfl
theorem q3534 : (Jvm.Cond.methodLink "PaperStore$BadText" (1 : Nat) ({ cls := "java/lang/Exception", name := "<init>", desc := "()V" } : Jvm.MethodName)) ∈ lw_all := lw_g (lw_at lw_m15 75 rfl) rfl
theorem q3535 : (Jvm.Cond.fieldLink "PaperStore$BadText" (7 : Nat) "PaperStore$BadText" "position" "I") ∈ lw_all := lw_g (lw_at lw_m15 76 rfl) rfl
theorem q3537 : (Jvm.Cond.laysFinal "PaperStore$BadText" "PaperStore$BadText" "position" "I") ∈ lw_all := lw_g (lw_at lw_m15 78 rfl) rfl
theorem q3538 : (Jvm.Cond.soleField "PaperStore$BadText" "position") ∈ lw_all := lw_g (lw_at lw_m15 79 rfl) rfl
theorem q3539 : (Jvm.Cond.lays "PaperStore$BadText" "java/lang/Throwable" "depth" "I") ∈ lw_all := lw_g (lw_at lw_m15 80 rfl) rfl
theorem q3540 : (Jvm.Cond.superclass "PaperStore$BadText" "java/lang/Exception") ∈ lw_all := lw_g (lw_at lw_m15 81 rfl) rfl
theorem q4141 : (Jvm.Cond.castable "PaperStore$BadText" "java/lang/Throwable") ∈ lw_tbl := lw_at lw_m17 202 rfl
theorem q4193 : (Jvm.Cond.castable "PaperStore$BadText" "java/lang/Object") ∈ lw_tbl := lw_at lw_m18 14 rfl
theorem in_X13 : ∀ w ∈ wsX130, w ∈ lw_all := lw_in wsX130 [3526, 3527, 3528, 3529, 3530, 3539, 3537] (by decide +kernel) (by decide +kernel)
/-! PaperStore$Command -/
set_option maxRecDepth 100000
def RX14 : String := "PaperStore$Command"
def TX14 : u_T := fun k => match k with
  | 0 => ("PaperStore$Command", "word", "Ljava/lang/String;", true)
  | _ => ("PaperStore$Command", "numbers", "[I", true)
def tyX14 : Nat → FieldType := fun k => match k with
  | 0 => .object "java/lang/String"
  | _ => .array .int
abbrev wsX140 : List Cond := u_ws RX14 TX14 2
theorem nmX14 : ∀ a, a < 2 → ∀ b, b < 2 → a ≠ b → (TX14 a).2.1 ≠ (TX14 b).2.1 := by decide +kernel
theorem tyX14_ok : ∀ k, k < 2 → parseFieldDescriptor (TX14 k).2.2.1 = some (tyX14 k) := by decide +kernel
abbrev cX14_init : ByteArray := prog_5_method_1_code
def yX14_init : MethodName := ⟨RX14, "<init>", "(Ljava/lang/String;[I)V"⟩
def dkwX14_init_0 : List UInt8 := [42, 183, 0, 3, 42, 43, 181, 0, 9, 42, 44, 181, 0, 15, 177]
abbrev dktX14_init_0 : List UInt8 := dkwX14_init_0 ++ []
theorem dksX14_init_0 : cX14_init.data.toList.drop 0 = dktX14_init_0 := by decide +kernel
theorem dX14_init_0 : decode cX14_init 0 = .ok (.aload_n 0, 1) := dk_42 (dk_at dksX14_init_0 0 rfl rfl)
theorem dX14_init_1 : decode cX14_init 1 = .ok (.invokespecial 3, 3) := dk_183 0 3 (dk_at dksX14_init_0 1 rfl rfl)
theorem dX14_init_4 : decode cX14_init 4 = .ok (.aload_n 0, 1) := dk_42 (dk_at dksX14_init_0 4 rfl rfl)
theorem dX14_init_5 : decode cX14_init 5 = .ok (.aload_n 1, 1) := dk_43 (dk_at dksX14_init_0 5 rfl rfl)
theorem dX14_init_6 : decode cX14_init 6 = .ok (.putfield 9, 3) := dk_181 0 9 (dk_at dksX14_init_0 6 rfl rfl)
theorem dX14_init_9 : decode cX14_init 9 = .ok (.aload_n 0, 1) := dk_42 (dk_at dksX14_init_0 9 rfl rfl)
theorem dX14_init_10 : decode cX14_init 10 = .ok (.aload_n 2, 1) := dk_44 (dk_at dksX14_init_0 10 rfl rfl)
theorem dX14_init_11 : decode cX14_init 11 = .ok (.putfield 15, 3) := dk_181 0 15 (dk_at dksX14_init_0 11 rfl rfl)
theorem dX14_init_14 : decode cX14_init 14 = .ok (.return_, 1) := dk_177 (dk_at dksX14_init_0 14 rfl rfl)
abbrev cX14_in : ByteArray := prog_5_method_2_code
def yX14_in : MethodName := ⟨RX14, "in", "(LPaperStore$Store;)I"⟩
def dkwX14_in_15 : List UInt8 := [4, 16, 30, 184, 0, 71, 184, 0, 48, 43, 28, 182, 0, 75, 172]
abbrev dktX14_in_15 : List UInt8 := dkwX14_in_15 ++ []
def dkwX14_in_14 : List UInt8 := [163, 0, 7, 4, 167, 0, 4, 3, 184, 0, 48, 43, 28, 42, 180, 0, 15, 4, 46, 182, 0, 69, 172, 28]
abbrev dktX14_in_14 : List UInt8 := dkwX14_in_14 ++ dktX14_in_15
def dkwX14_in_13 : List UInt8 := [180, 0, 15, 4, 46, 182, 0, 67, 172, 28, 184, 0, 45, 153, 0, 18, 42, 180, 0, 15, 4, 46, 16, 9]
abbrev dktX14_in_13 : List UInt8 := dkwX14_in_13 ++ dktX14_in_14
def dkwX14_in_12 : List UInt8 := [153, 0, 17, 42, 180, 0, 15, 4, 46, 8, 163, 0, 7, 4, 167, 0, 4, 3, 184, 0, 48, 43, 28, 42]
abbrev dktX14_in_12 : List UInt8 := dkwX14_in_12 ++ dktX14_in_13
def dkwX14_in_11 : List UInt8 := [46, 182, 0, 61, 172, 43, 28, 182, 0, 58, 184, 0, 48, 43, 28, 182, 0, 64, 172, 28, 184, 0, 45]
abbrev dktX14_in_11 : List UInt8 := dkwX14_in_11 ++ dktX14_in_12
def dkwX14_in_10 : List UInt8 := [153, 0, 7, 4, 167, 0, 4, 3, 184, 0, 48, 43, 28, 42, 180, 0, 15, 4, 46, 42, 180, 0, 15, 5]
abbrev dktX14_in_10 : List UInt8 := dkwX14_in_10 ++ dktX14_in_11
def dkwX14_in_9 : List UInt8 := [43, 42, 180, 0, 15, 4, 46, 182, 0, 58, 153, 0, 20, 43, 42, 180, 0, 15, 5, 46, 182, 0, 39]
abbrev dktX14_in_9 : List UInt8 := dkwX14_in_9 ++ dktX14_in_10
def dkwX14_in_8 : List UInt8 := [3, 184, 0, 48, 43, 28, 42, 180, 0, 15, 4, 46, 182, 0, 52, 172, 43, 28, 182, 0, 55, 153, 0, 33]
abbrev dktX14_in_8 : List UInt8 := dkwX14_in_8 ++ dktX14_in_9
def dkwX14_in_7 : List UInt8 := [43, 28, 182, 0, 39, 153, 0, 19, 42, 180, 0, 15, 4, 46, 184, 0, 45, 153, 0, 7, 4, 167, 0, 4]
abbrev dktX14_in_7 : List UInt8 := dkwX14_in_7 ++ dktX14_in_8
def dkwX14_in_6 : List UInt8 := [170, 0, 0, 0, 0, 223, 0, 0, 0, 0, 0, 0, 0, 4, 0, 0, 0, 34, 0, 0, 0, 74, 0, 0, 0, 134, 0, 0, 0, 148, 0, 0, 0, 185]
abbrev dktX14_in_6 : List UInt8 := dkwX14_in_6 ++ dktX14_in_7
def dkwX14_in_5 : List UInt8 := [21, 4]
abbrev dktX14_in_5 : List UInt8 := dkwX14_in_5 ++ dktX14_in_6
def dkwX14_in_4 : List UInt8 := [182, 0, 27, 153, 0, 21, 6, 54, 4, 167, 0, 15, 45, 18, 37, 182, 0, 27, 153, 0, 6, 7, 54, 4]
abbrev dktX14_in_4 : List UInt8 := dkwX14_in_4 ++ dktX14_in_5
def dkwX14_in_3 : List UInt8 := [4, 54, 4, 167, 0, 45, 45, 18, 33, 182, 0, 27, 153, 0, 36, 5, 54, 4, 167, 0, 30, 45, 18, 35]
abbrev dktX14_in_3 : List UInt8 := dkwX14_in_3 ++ dktX14_in_4
def dkwX14_in_2 : List UInt8 := [45, 18, 25, 182, 0, 27, 153, 0, 66, 3, 54, 4, 167, 0, 60, 45, 18, 31, 182, 0, 27, 153, 0, 51]
abbrev dktX14_in_2 : List UInt8 := dkwX14_in_2 ++ dktX14_in_3
def dkwX14_in_1 : List UInt8 := [171, 0, 0, 0, 121, 0, 0, 0, 5, 181, 80, 93, 251, 0, 0, 0, 64, 0, 1, 121, 74, 0, 0, 0, 109, 0, 52, 175, 26, 0, 0, 0, 49, 0, 53, 207, 136, 0, 0, 0, 79, 0, 54, 115, 45, 0, 0, 0, 94]
abbrev dktX14_in_1 : List UInt8 := dkwX14_in_1 ++ dktX14_in_2
def dkwX14_in_0 : List UInt8 := [42, 180, 0, 15, 3, 46, 61, 42, 180, 0, 9, 78, 2, 54, 4, 45, 182, 0, 19]
abbrev dktX14_in_0 : List UInt8 := dkwX14_in_0 ++ dktX14_in_1
theorem dksX14_in_0 : cX14_in.data.toList.drop 0 = dktX14_in_0 := by decide +kernel
theorem dksX14_in_1 : cX14_in.data.toList.drop 19 = dktX14_in_1 := dk_seg dksX14_in_0 19 rfl rfl
theorem dksX14_in_2 : cX14_in.data.toList.drop 68 = dktX14_in_2 := dk_seg dksX14_in_1 49 rfl rfl
theorem dksX14_in_3 : cX14_in.data.toList.drop 92 = dktX14_in_3 := dk_seg dksX14_in_2 24 rfl rfl
theorem dksX14_in_4 : cX14_in.data.toList.drop 116 = dktX14_in_4 := dk_seg dksX14_in_3 24 rfl rfl
theorem dksX14_in_5 : cX14_in.data.toList.drop 140 = dktX14_in_5 := dk_seg dksX14_in_4 24 rfl rfl
theorem dksX14_in_6 : cX14_in.data.toList.drop 142 = dktX14_in_6 := dk_seg dksX14_in_5 2 rfl rfl
theorem dksX14_in_7 : cX14_in.data.toList.drop 176 = dktX14_in_7 := dk_seg dksX14_in_6 34 rfl rfl
theorem dksX14_in_8 : cX14_in.data.toList.drop 200 = dktX14_in_8 := dk_seg dksX14_in_7 24 rfl rfl
theorem dksX14_in_9 : cX14_in.data.toList.drop 224 = dktX14_in_9 := dk_seg dksX14_in_8 24 rfl rfl
theorem dksX14_in_10 : cX14_in.data.toList.drop 247 = dktX14_in_10 := dk_seg dksX14_in_9 23 rfl rfl
theorem dksX14_in_11 : cX14_in.data.toList.drop 271 = dktX14_in_11 := dk_seg dksX14_in_10 24 rfl rfl
theorem dksX14_in_12 : cX14_in.data.toList.drop 294 = dktX14_in_12 := dk_seg dksX14_in_11 23 rfl rfl
theorem dksX14_in_13 : cX14_in.data.toList.drop 318 = dktX14_in_13 := dk_seg dksX14_in_12 24 rfl rfl
theorem dksX14_in_14 : cX14_in.data.toList.drop 342 = dktX14_in_14 := dk_seg dksX14_in_13 24 rfl rfl
theorem dksX14_in_15 : cX14_in.data.toList.drop 366 = dktX14_in_15 := dk_seg dksX14_in_14 24 rfl rfl
theorem dX14_in_0 : decode cX14_in 0 = .ok (.aload_n 0, 1) := dk_42 (dk_at dksX14_in_0 0 rfl rfl)
theorem dX14_in_1 : decode cX14_in 1 = .ok (.getfield 15, 3) := dk_180 0 15 (dk_at dksX14_in_0 1 rfl rfl)
theorem dX14_in_4 : decode cX14_in 4 = .ok (.iconst 0, 1) := dk_3 (dk_at dksX14_in_0 4 rfl rfl)
theorem dX14_in_5 : decode cX14_in 5 = .ok (.iaload, 1) := dk_46 (dk_at dksX14_in_0 5 rfl rfl)
theorem dX14_in_6 : decode cX14_in 6 = .ok (.istore_n 2, 1) := dk_61 (dk_at dksX14_in_0 6 rfl rfl)
theorem dX14_in_7 : decode cX14_in 7 = .ok (.aload_n 0, 1) := dk_42 (dk_at dksX14_in_0 7 rfl rfl)
theorem dX14_in_8 : decode cX14_in 8 = .ok (.getfield 9, 3) := dk_180 0 9 (dk_at dksX14_in_0 8 rfl rfl)
theorem dX14_in_11 : decode cX14_in 11 = .ok (.astore_n 3, 1) := dk_78 (dk_at dksX14_in_0 11 rfl rfl)
theorem dX14_in_12 : decode cX14_in 12 = .ok (.iconst (-1), 1) := dk_2 (dk_at dksX14_in_0 12 rfl rfl)
theorem dX14_in_13 : decode cX14_in 13 = .ok (.istore 4, 2) := dk_54 4 (dk_at dksX14_in_0 13 rfl rfl)
theorem dX14_in_15 : decode cX14_in 15 = .ok (.aload_n 3, 1) := dk_45 (dk_at dksX14_in_0 15 rfl rfl)
theorem dX14_in_16 : decode cX14_in 16 = .ok (.invokevirtual 19, 3) := dk_182 0 19 (dk_at dksX14_in_0 16 rfl rfl)
theorem dX14_in_19 : decode cX14_in 19 = .ok (.lookupswitch 121 #[(-1253024261, 64), (96586, 109), (3452698, 49), (3526536, 79), (3568429, 94)], 49) := by decide +kernel
theorem dX14_in_68 : decode cX14_in 68 = .ok (.aload_n 3, 1) := dk_45 (dk_at dksX14_in_2 0 rfl rfl)
theorem dX14_in_69 : decode cX14_in 69 = .ok (.ldc 25, 2) := dk_18 25 (dk_at dksX14_in_2 1 rfl rfl)
theorem dX14_in_71 : decode cX14_in 71 = .ok (.invokevirtual 27, 3) := dk_182 0 27 (dk_at dksX14_in_2 3 rfl rfl)
theorem dX14_in_74 : decode cX14_in 74 = .ok (.ifCond .eq 66, 3) := dk_153 0 66 (dk_at dksX14_in_2 6 rfl rfl)
theorem dX14_in_77 : decode cX14_in 77 = .ok (.iconst 0, 1) := dk_3 (dk_at dksX14_in_2 9 rfl rfl)
theorem dX14_in_78 : decode cX14_in 78 = .ok (.istore 4, 2) := dk_54 4 (dk_at dksX14_in_2 10 rfl rfl)
theorem dX14_in_80 : decode cX14_in 80 = .ok (.goto 60, 3) := dk_167 0 60 (dk_at dksX14_in_2 12 rfl rfl)
theorem dX14_in_83 : decode cX14_in 83 = .ok (.aload_n 3, 1) := dk_45 (dk_at dksX14_in_2 15 rfl rfl)
theorem dX14_in_84 : decode cX14_in 84 = .ok (.ldc 31, 2) := dk_18 31 (dk_at dksX14_in_2 16 rfl rfl)
theorem dX14_in_86 : decode cX14_in 86 = .ok (.invokevirtual 27, 3) := dk_182 0 27 (dk_at dksX14_in_2 18 rfl rfl)
theorem dX14_in_89 : decode cX14_in 89 = .ok (.ifCond .eq 51, 3) := dk_153 0 51 (dk_at dksX14_in_2 21 rfl rfl)
theorem dX14_in_92 : decode cX14_in 92 = .ok (.iconst 1, 1) := dk_4 (dk_at dksX14_in_3 0 rfl rfl)
theorem dX14_in_93 : decode cX14_in 93 = .ok (.istore 4, 2) := dk_54 4 (dk_at dksX14_in_3 1 rfl rfl)
theorem dX14_in_95 : decode cX14_in 95 = .ok (.goto 45, 3) := dk_167 0 45 (dk_at dksX14_in_3 3 rfl rfl)
theorem dX14_in_98 : decode cX14_in 98 = .ok (.aload_n 3, 1) := dk_45 (dk_at dksX14_in_3 6 rfl rfl)
theorem dX14_in_99 : decode cX14_in 99 = .ok (.ldc 33, 2) := dk_18 33 (dk_at dksX14_in_3 7 rfl rfl)
theorem dX14_in_101 : decode cX14_in 101 = .ok (.invokevirtual 27, 3) := dk_182 0 27 (dk_at dksX14_in_3 9 rfl rfl)
theorem dX14_in_104 : decode cX14_in 104 = .ok (.ifCond .eq 36, 3) := dk_153 0 36 (dk_at dksX14_in_3 12 rfl rfl)
theorem dX14_in_107 : decode cX14_in 107 = .ok (.iconst 2, 1) := dk_5 (dk_at dksX14_in_3 15 rfl rfl)
theorem dX14_in_108 : decode cX14_in 108 = .ok (.istore 4, 2) := dk_54 4 (dk_at dksX14_in_3 16 rfl rfl)
theorem dX14_in_110 : decode cX14_in 110 = .ok (.goto 30, 3) := dk_167 0 30 (dk_at dksX14_in_3 18 rfl rfl)
theorem dX14_in_113 : decode cX14_in 113 = .ok (.aload_n 3, 1) := dk_45 (dk_at dksX14_in_3 21 rfl rfl)
theorem dX14_in_114 : decode cX14_in 114 = .ok (.ldc 35, 2) := dk_18 35 (dk_at dksX14_in_3 22 rfl rfl)
theorem dX14_in_116 : decode cX14_in 116 = .ok (.invokevirtual 27, 3) := dk_182 0 27 (dk_at dksX14_in_4 0 rfl rfl)
theorem dX14_in_119 : decode cX14_in 119 = .ok (.ifCond .eq 21, 3) := dk_153 0 21 (dk_at dksX14_in_4 3 rfl rfl)
theorem dX14_in_122 : decode cX14_in 122 = .ok (.iconst 3, 1) := dk_6 (dk_at dksX14_in_4 6 rfl rfl)
theorem dX14_in_123 : decode cX14_in 123 = .ok (.istore 4, 2) := dk_54 4 (dk_at dksX14_in_4 7 rfl rfl)
theorem dX14_in_125 : decode cX14_in 125 = .ok (.goto 15, 3) := dk_167 0 15 (dk_at dksX14_in_4 9 rfl rfl)
theorem dX14_in_128 : decode cX14_in 128 = .ok (.aload_n 3, 1) := dk_45 (dk_at dksX14_in_4 12 rfl rfl)
theorem dX14_in_129 : decode cX14_in 129 = .ok (.ldc 37, 2) := dk_18 37 (dk_at dksX14_in_4 13 rfl rfl)
theorem dX14_in_131 : decode cX14_in 131 = .ok (.invokevirtual 27, 3) := dk_182 0 27 (dk_at dksX14_in_4 15 rfl rfl)
theorem dX14_in_134 : decode cX14_in 134 = .ok (.ifCond .eq 6, 3) := dk_153 0 6 (dk_at dksX14_in_4 18 rfl rfl)
theorem dX14_in_137 : decode cX14_in 137 = .ok (.iconst 4, 1) := dk_7 (dk_at dksX14_in_4 21 rfl rfl)
theorem dX14_in_138 : decode cX14_in 138 = .ok (.istore 4, 2) := dk_54 4 (dk_at dksX14_in_4 22 rfl rfl)
theorem dX14_in_140 : decode cX14_in 140 = .ok (.iload 4, 2) := dk_21 4 (dk_at dksX14_in_5 0 rfl rfl)
theorem dX14_in_142 : decode cX14_in 142 = .ok (.tableswitch 223 0 4 #[34, 74, 134, 148, 185], 34) := by decide +kernel
theorem dX14_in_176 : decode cX14_in 176 = .ok (.aload_n 1, 1) := dk_43 (dk_at dksX14_in_7 0 rfl rfl)
theorem dX14_in_177 : decode cX14_in 177 = .ok (.iload_n 2, 1) := dk_28 (dk_at dksX14_in_7 1 rfl rfl)
theorem dX14_in_178 : decode cX14_in 178 = .ok (.invokevirtual 39, 3) := dk_182 0 39 (dk_at dksX14_in_7 2 rfl rfl)
theorem dX14_in_181 : decode cX14_in 181 = .ok (.ifCond .eq 19, 3) := dk_153 0 19 (dk_at dksX14_in_7 5 rfl rfl)
theorem dX14_in_184 : decode cX14_in 184 = .ok (.aload_n 0, 1) := dk_42 (dk_at dksX14_in_7 8 rfl rfl)
theorem dX14_in_185 : decode cX14_in 185 = .ok (.getfield 15, 3) := dk_180 0 15 (dk_at dksX14_in_7 9 rfl rfl)
theorem dX14_in_188 : decode cX14_in 188 = .ok (.iconst 1, 1) := dk_4 (dk_at dksX14_in_7 12 rfl rfl)
theorem dX14_in_189 : decode cX14_in 189 = .ok (.iaload, 1) := dk_46 (dk_at dksX14_in_7 13 rfl rfl)
theorem dX14_in_190 : decode cX14_in 190 = .ok (.invokestatic 45, 3) := dk_184 0 45 (dk_at dksX14_in_7 14 rfl rfl)
theorem dX14_in_193 : decode cX14_in 193 = .ok (.ifCond .eq 7, 3) := dk_153 0 7 (dk_at dksX14_in_7 17 rfl rfl)
theorem dX14_in_196 : decode cX14_in 196 = .ok (.iconst 1, 1) := dk_4 (dk_at dksX14_in_7 20 rfl rfl)
theorem dX14_in_197 : decode cX14_in 197 = .ok (.goto 4, 3) := dk_167 0 4 (dk_at dksX14_in_7 21 rfl rfl)
theorem dX14_in_200 : decode cX14_in 200 = .ok (.iconst 0, 1) := dk_3 (dk_at dksX14_in_8 0 rfl rfl)
theorem dX14_in_201 : decode cX14_in 201 = .ok (.invokestatic 48, 3) := dk_184 0 48 (dk_at dksX14_in_8 1 rfl rfl)
theorem dX14_in_204 : decode cX14_in 204 = .ok (.aload_n 1, 1) := dk_43 (dk_at dksX14_in_8 4 rfl rfl)
theorem dX14_in_205 : decode cX14_in 205 = .ok (.iload_n 2, 1) := dk_28 (dk_at dksX14_in_8 5 rfl rfl)
theorem dX14_in_206 : decode cX14_in 206 = .ok (.aload_n 0, 1) := dk_42 (dk_at dksX14_in_8 6 rfl rfl)
theorem dX14_in_207 : decode cX14_in 207 = .ok (.getfield 15, 3) := dk_180 0 15 (dk_at dksX14_in_8 7 rfl rfl)
theorem dX14_in_210 : decode cX14_in 210 = .ok (.iconst 1, 1) := dk_4 (dk_at dksX14_in_8 10 rfl rfl)
theorem dX14_in_211 : decode cX14_in 211 = .ok (.iaload, 1) := dk_46 (dk_at dksX14_in_8 11 rfl rfl)
theorem dX14_in_212 : decode cX14_in 212 = .ok (.invokevirtual 52, 3) := dk_182 0 52 (dk_at dksX14_in_8 12 rfl rfl)
theorem dX14_in_215 : decode cX14_in 215 = .ok (.ireturn, 1) := dk_172 (dk_at dksX14_in_8 15 rfl rfl)
theorem dX14_in_216 : decode cX14_in 216 = .ok (.aload_n 1, 1) := dk_43 (dk_at dksX14_in_8 16 rfl rfl)
theorem dX14_in_217 : decode cX14_in 217 = .ok (.iload_n 2, 1) := dk_28 (dk_at dksX14_in_8 17 rfl rfl)
theorem dX14_in_218 : decode cX14_in 218 = .ok (.invokevirtual 55, 3) := dk_182 0 55 (dk_at dksX14_in_8 18 rfl rfl)
theorem dX14_in_221 : decode cX14_in 221 = .ok (.ifCond .eq 33, 3) := dk_153 0 33 (dk_at dksX14_in_8 21 rfl rfl)
theorem dX14_in_224 : decode cX14_in 224 = .ok (.aload_n 1, 1) := dk_43 (dk_at dksX14_in_9 0 rfl rfl)
theorem dX14_in_225 : decode cX14_in 225 = .ok (.aload_n 0, 1) := dk_42 (dk_at dksX14_in_9 1 rfl rfl)
theorem dX14_in_226 : decode cX14_in 226 = .ok (.getfield 15, 3) := dk_180 0 15 (dk_at dksX14_in_9 2 rfl rfl)
theorem dX14_in_229 : decode cX14_in 229 = .ok (.iconst 1, 1) := dk_4 (dk_at dksX14_in_9 5 rfl rfl)
theorem dX14_in_230 : decode cX14_in 230 = .ok (.iaload, 1) := dk_46 (dk_at dksX14_in_9 6 rfl rfl)
theorem dX14_in_231 : decode cX14_in 231 = .ok (.invokevirtual 58, 3) := dk_182 0 58 (dk_at dksX14_in_9 7 rfl rfl)
theorem dX14_in_234 : decode cX14_in 234 = .ok (.ifCond .eq 20, 3) := dk_153 0 20 (dk_at dksX14_in_9 10 rfl rfl)
theorem dX14_in_237 : decode cX14_in 237 = .ok (.aload_n 1, 1) := dk_43 (dk_at dksX14_in_9 13 rfl rfl)
theorem dX14_in_238 : decode cX14_in 238 = .ok (.aload_n 0, 1) := dk_42 (dk_at dksX14_in_9 14 rfl rfl)
theorem dX14_in_239 : decode cX14_in 239 = .ok (.getfield 15, 3) := dk_180 0 15 (dk_at dksX14_in_9 15 rfl rfl)
theorem dX14_in_242 : decode cX14_in 242 = .ok (.iconst 2, 1) := dk_5 (dk_at dksX14_in_9 18 rfl rfl)
theorem dX14_in_243 : decode cX14_in 243 = .ok (.iaload, 1) := dk_46 (dk_at dksX14_in_9 19 rfl rfl)
theorem dX14_in_244 : decode cX14_in 244 = .ok (.invokevirtual 39, 3) := dk_182 0 39 (dk_at dksX14_in_9 20 rfl rfl)
theorem dX14_in_247 : decode cX14_in 247 = .ok (.ifCond .eq 7, 3) := dk_153 0 7 (dk_at dksX14_in_10 0 rfl rfl)
theorem dX14_in_250 : decode cX14_in 250 = .ok (.iconst 1, 1) := dk_4 (dk_at dksX14_in_10 3 rfl rfl)
theorem dX14_in_251 : decode cX14_in 251 = .ok (.goto 4, 3) := dk_167 0 4 (dk_at dksX14_in_10 4 rfl rfl)
theorem dX14_in_254 : decode cX14_in 254 = .ok (.iconst 0, 1) := dk_3 (dk_at dksX14_in_10 7 rfl rfl)
theorem dX14_in_255 : decode cX14_in 255 = .ok (.invokestatic 48, 3) := dk_184 0 48 (dk_at dksX14_in_10 8 rfl rfl)
theorem dX14_in_258 : decode cX14_in 258 = .ok (.aload_n 1, 1) := dk_43 (dk_at dksX14_in_10 11 rfl rfl)
theorem dX14_in_259 : decode cX14_in 259 = .ok (.iload_n 2, 1) := dk_28 (dk_at dksX14_in_10 12 rfl rfl)
theorem dX14_in_260 : decode cX14_in 260 = .ok (.aload_n 0, 1) := dk_42 (dk_at dksX14_in_10 13 rfl rfl)
theorem dX14_in_261 : decode cX14_in 261 = .ok (.getfield 15, 3) := dk_180 0 15 (dk_at dksX14_in_10 14 rfl rfl)
theorem dX14_in_264 : decode cX14_in 264 = .ok (.iconst 1, 1) := dk_4 (dk_at dksX14_in_10 17 rfl rfl)
theorem dX14_in_265 : decode cX14_in 265 = .ok (.iaload, 1) := dk_46 (dk_at dksX14_in_10 18 rfl rfl)
theorem dX14_in_266 : decode cX14_in 266 = .ok (.aload_n 0, 1) := dk_42 (dk_at dksX14_in_10 19 rfl rfl)
theorem dX14_in_267 : decode cX14_in 267 = .ok (.getfield 15, 3) := dk_180 0 15 (dk_at dksX14_in_10 20 rfl rfl)
theorem dX14_in_270 : decode cX14_in 270 = .ok (.iconst 2, 1) := dk_5 (dk_at dksX14_in_10 23 rfl rfl)
theorem dX14_in_271 : decode cX14_in 271 = .ok (.iaload, 1) := dk_46 (dk_at dksX14_in_11 0 rfl rfl)
theorem dX14_in_272 : decode cX14_in 272 = .ok (.invokevirtual 61, 3) := dk_182 0 61 (dk_at dksX14_in_11 1 rfl rfl)
theorem dX14_in_275 : decode cX14_in 275 = .ok (.ireturn, 1) := dk_172 (dk_at dksX14_in_11 4 rfl rfl)
theorem dX14_in_276 : decode cX14_in 276 = .ok (.aload_n 1, 1) := dk_43 (dk_at dksX14_in_11 5 rfl rfl)
theorem dX14_in_277 : decode cX14_in 277 = .ok (.iload_n 2, 1) := dk_28 (dk_at dksX14_in_11 6 rfl rfl)
theorem dX14_in_278 : decode cX14_in 278 = .ok (.invokevirtual 58, 3) := dk_182 0 58 (dk_at dksX14_in_11 7 rfl rfl)
theorem dX14_in_281 : decode cX14_in 281 = .ok (.invokestatic 48, 3) := dk_184 0 48 (dk_at dksX14_in_11 10 rfl rfl)
theorem dX14_in_284 : decode cX14_in 284 = .ok (.aload_n 1, 1) := dk_43 (dk_at dksX14_in_11 13 rfl rfl)
theorem dX14_in_285 : decode cX14_in 285 = .ok (.iload_n 2, 1) := dk_28 (dk_at dksX14_in_11 14 rfl rfl)
theorem dX14_in_286 : decode cX14_in 286 = .ok (.invokevirtual 64, 3) := dk_182 0 64 (dk_at dksX14_in_11 15 rfl rfl)
theorem dX14_in_289 : decode cX14_in 289 = .ok (.ireturn, 1) := dk_172 (dk_at dksX14_in_11 18 rfl rfl)
theorem dX14_in_290 : decode cX14_in 290 = .ok (.iload_n 2, 1) := dk_28 (dk_at dksX14_in_11 19 rfl rfl)
theorem dX14_in_291 : decode cX14_in 291 = .ok (.invokestatic 45, 3) := dk_184 0 45 (dk_at dksX14_in_11 20 rfl rfl)
theorem dX14_in_294 : decode cX14_in 294 = .ok (.ifCond .eq 17, 3) := dk_153 0 17 (dk_at dksX14_in_12 0 rfl rfl)
theorem dX14_in_297 : decode cX14_in 297 = .ok (.aload_n 0, 1) := dk_42 (dk_at dksX14_in_12 3 rfl rfl)
theorem dX14_in_298 : decode cX14_in 298 = .ok (.getfield 15, 3) := dk_180 0 15 (dk_at dksX14_in_12 4 rfl rfl)
theorem dX14_in_301 : decode cX14_in 301 = .ok (.iconst 1, 1) := dk_4 (dk_at dksX14_in_12 7 rfl rfl)
theorem dX14_in_302 : decode cX14_in 302 = .ok (.iaload, 1) := dk_46 (dk_at dksX14_in_12 8 rfl rfl)
theorem dX14_in_303 : decode cX14_in 303 = .ok (.iconst 5, 1) := dk_8 (dk_at dksX14_in_12 9 rfl rfl)
theorem dX14_in_304 : decode cX14_in 304 = .ok (.if_icmp .gt 7, 3) := dk_163 0 7 (dk_at dksX14_in_12 10 rfl rfl)
theorem dX14_in_307 : decode cX14_in 307 = .ok (.iconst 1, 1) := dk_4 (dk_at dksX14_in_12 13 rfl rfl)
theorem dX14_in_308 : decode cX14_in 308 = .ok (.goto 4, 3) := dk_167 0 4 (dk_at dksX14_in_12 14 rfl rfl)
theorem dX14_in_311 : decode cX14_in 311 = .ok (.iconst 0, 1) := dk_3 (dk_at dksX14_in_12 17 rfl rfl)
theorem dX14_in_312 : decode cX14_in 312 = .ok (.invokestatic 48, 3) := dk_184 0 48 (dk_at dksX14_in_12 18 rfl rfl)
theorem dX14_in_315 : decode cX14_in 315 = .ok (.aload_n 1, 1) := dk_43 (dk_at dksX14_in_12 21 rfl rfl)
theorem dX14_in_316 : decode cX14_in 316 = .ok (.iload_n 2, 1) := dk_28 (dk_at dksX14_in_12 22 rfl rfl)
theorem dX14_in_317 : decode cX14_in 317 = .ok (.aload_n 0, 1) := dk_42 (dk_at dksX14_in_12 23 rfl rfl)
theorem dX14_in_318 : decode cX14_in 318 = .ok (.getfield 15, 3) := dk_180 0 15 (dk_at dksX14_in_13 0 rfl rfl)
theorem dX14_in_321 : decode cX14_in 321 = .ok (.iconst 1, 1) := dk_4 (dk_at dksX14_in_13 3 rfl rfl)
theorem dX14_in_322 : decode cX14_in 322 = .ok (.iaload, 1) := dk_46 (dk_at dksX14_in_13 4 rfl rfl)
theorem dX14_in_323 : decode cX14_in 323 = .ok (.invokevirtual 67, 3) := dk_182 0 67 (dk_at dksX14_in_13 5 rfl rfl)
theorem dX14_in_326 : decode cX14_in 326 = .ok (.ireturn, 1) := dk_172 (dk_at dksX14_in_13 8 rfl rfl)
theorem dX14_in_327 : decode cX14_in 327 = .ok (.iload_n 2, 1) := dk_28 (dk_at dksX14_in_13 9 rfl rfl)
theorem dX14_in_328 : decode cX14_in 328 = .ok (.invokestatic 45, 3) := dk_184 0 45 (dk_at dksX14_in_13 10 rfl rfl)
theorem dX14_in_331 : decode cX14_in 331 = .ok (.ifCond .eq 18, 3) := dk_153 0 18 (dk_at dksX14_in_13 13 rfl rfl)
theorem dX14_in_334 : decode cX14_in 334 = .ok (.aload_n 0, 1) := dk_42 (dk_at dksX14_in_13 16 rfl rfl)
theorem dX14_in_335 : decode cX14_in 335 = .ok (.getfield 15, 3) := dk_180 0 15 (dk_at dksX14_in_13 17 rfl rfl)
theorem dX14_in_338 : decode cX14_in 338 = .ok (.iconst 1, 1) := dk_4 (dk_at dksX14_in_13 20 rfl rfl)
theorem dX14_in_339 : decode cX14_in 339 = .ok (.iaload, 1) := dk_46 (dk_at dksX14_in_13 21 rfl rfl)
theorem dX14_in_340 : decode cX14_in 340 = .ok (.bipush 9, 2) := dk_16 9 (dk_at dksX14_in_13 22 rfl rfl)
theorem dX14_in_342 : decode cX14_in 342 = .ok (.if_icmp .gt 7, 3) := dk_163 0 7 (dk_at dksX14_in_14 0 rfl rfl)
theorem dX14_in_345 : decode cX14_in 345 = .ok (.iconst 1, 1) := dk_4 (dk_at dksX14_in_14 3 rfl rfl)
theorem dX14_in_346 : decode cX14_in 346 = .ok (.goto 4, 3) := dk_167 0 4 (dk_at dksX14_in_14 4 rfl rfl)
theorem dX14_in_349 : decode cX14_in 349 = .ok (.iconst 0, 1) := dk_3 (dk_at dksX14_in_14 7 rfl rfl)
theorem dX14_in_350 : decode cX14_in 350 = .ok (.invokestatic 48, 3) := dk_184 0 48 (dk_at dksX14_in_14 8 rfl rfl)
theorem dX14_in_353 : decode cX14_in 353 = .ok (.aload_n 1, 1) := dk_43 (dk_at dksX14_in_14 11 rfl rfl)
theorem dX14_in_354 : decode cX14_in 354 = .ok (.iload_n 2, 1) := dk_28 (dk_at dksX14_in_14 12 rfl rfl)
theorem dX14_in_355 : decode cX14_in 355 = .ok (.aload_n 0, 1) := dk_42 (dk_at dksX14_in_14 13 rfl rfl)
theorem dX14_in_356 : decode cX14_in 356 = .ok (.getfield 15, 3) := dk_180 0 15 (dk_at dksX14_in_14 14 rfl rfl)
theorem dX14_in_359 : decode cX14_in 359 = .ok (.iconst 1, 1) := dk_4 (dk_at dksX14_in_14 17 rfl rfl)
theorem dX14_in_360 : decode cX14_in 360 = .ok (.iaload, 1) := dk_46 (dk_at dksX14_in_14 18 rfl rfl)
theorem dX14_in_361 : decode cX14_in 361 = .ok (.invokevirtual 69, 3) := dk_182 0 69 (dk_at dksX14_in_14 19 rfl rfl)
theorem dX14_in_364 : decode cX14_in 364 = .ok (.ireturn, 1) := dk_172 (dk_at dksX14_in_14 22 rfl rfl)
theorem dX14_in_365 : decode cX14_in 365 = .ok (.iload_n 2, 1) := dk_28 (dk_at dksX14_in_14 23 rfl rfl)
theorem dX14_in_366 : decode cX14_in 366 = .ok (.iconst 1, 1) := dk_4 (dk_at dksX14_in_15 0 rfl rfl)
theorem dX14_in_367 : decode cX14_in 367 = .ok (.bipush 30, 2) := dk_16 30 (dk_at dksX14_in_15 1 rfl rfl)
theorem dX14_in_369 : decode cX14_in 369 = .ok (.invokestatic 71, 3) := dk_184 0 71 (dk_at dksX14_in_15 3 rfl rfl)
theorem dX14_in_372 : decode cX14_in 372 = .ok (.invokestatic 48, 3) := dk_184 0 48 (dk_at dksX14_in_15 6 rfl rfl)
theorem dX14_in_375 : decode cX14_in 375 = .ok (.aload_n 1, 1) := dk_43 (dk_at dksX14_in_15 9 rfl rfl)
theorem dX14_in_376 : decode cX14_in 376 = .ok (.iload_n 2, 1) := dk_28 (dk_at dksX14_in_15 10 rfl rfl)
theorem dX14_in_377 : decode cX14_in 377 = .ok (.invokevirtual 75, 3) := dk_182 0 75 (dk_at dksX14_in_15 11 rfl rfl)
theorem dX14_in_380 : decode cX14_in 380 = .ok (.ireturn, 1) := dk_172 (dk_at dksX14_in_15 14 rfl rfl)
theorem q172 : (Jvm.Cond.initialized "PaperStore$Command") ∈ lw_all := lw_g (lw_at lw_m1 73 rfl) rfl
theorem q474 : (Jvm.Cond.selects "PaperStore$Command" ({ cls := "java/lang/Object", name := "getClass", desc := "()Ljava/lang/Class;" } : Jvm.MethodName) ({ cls := "java/lang/Object", name := "getClass", desc := "()Ljava/lang/Class;" } : Jvm.MethodName)) ∈ lw_all := lw_g (lw_at lw_m2 135 rfl) rfl
theorem q1801 : (Jvm.Cond.selects "PaperStore$Command" ({ cls := "java/lang/Object", name := "hashCode", desc := "()I" } : Jvm.MethodName) ({ cls := "java/lang/Object", name := "hashCode", desc := "()I" } : Jvm.MethodName)) ∈ lw_all := lw_g (lw_at lw_m8 22 rfl) rfl
theorem q1908 : (Jvm.Cond.selects "PaperStore$Command" ({ cls := "java/lang/Object", name := "equals", desc := "(Ljava/lang/Object;)Z" } : Jvm.MethodName) ({ cls := "java/lang/Object", name := "equals", desc := "(Ljava/lang/Object;)Z" } : Jvm.MethodName)) ∈ lw_all := lw_g (lw_at lw_m8 129 rfl) rfl
theorem q3330 : (Jvm.Cond.selects "PaperStore$Command" ({ cls := "java/lang/Object", name := "toString", desc := "()Ljava/lang/String;" } : Jvm.MethodName) ({ cls := "java/lang/Object", name := "toString", desc := "()Ljava/lang/String;" } : Jvm.MethodName)) ∈ lw_all := lw_g (lw_at lw_m14 111 rfl) rfl
theorem q3556 : (Jvm.Cond.instantiable "PaperStore$Command" (2 : Nat)) ∈ lw_all := lw_g (lw_at lw_m15 97 rfl) rfl
theorem q3558 : (Jvm.Cond.instanceMethod ({ cls := "PaperStore$Command", name := "<init>", desc := "(Ljava/lang/String;[I)V" } : Jvm.MethodName)) ∈ lw_all := lw_g (lw_at lw_m15 99 rfl) rfl
theorem q3559 : (Jvm.Cond.code ({ cls := "PaperStore$Command", name := "<init>", desc := "(Ljava/lang/String;[I)V" } : Jvm.MethodName) prog_5_method_1_code (3 : Nat) (Option.none : Option Jvm.ClassFile.FieldType)) ∈ lw_all := lw_g (lw_at lw_m15 100 rfl) rfl
theorem q3560 : (Jvm.Cond.methodLink "PaperStore$Command" (3 : Nat) ({ cls := "java/lang/Object", name := "<init>", desc := "()V" } : Jvm.MethodName)) ∈ lw_all := lw_g (lw_at lw_m15 101 rfl) rfl
theorem q3561 : (Jvm.Cond.fieldLink "PaperStore$Command" (9 : Nat) "PaperStore$Command" "word" "Ljava/lang/String;") ∈ lw_all := lw_g (lw_at lw_m15 102 rfl) rfl
theorem q3562 : (Jvm.Cond.fieldLink "PaperStore$Command" (15 : Nat) "PaperStore$Command" "numbers" "[I") ∈ lw_all := lw_g (lw_at lw_m15 103 rfl) rfl
theorem q3563 : (Jvm.Cond.laysFinal "PaperStore$Command" "PaperStore$Command" "word" "Ljava/lang/String;") ∈ lw_all := lw_g (lw_at lw_m15 104 rfl) rfl
theorem q3564 : (Jvm.Cond.soleField "PaperStore$Command" "word") ∈ lw_all := lw_g (lw_at lw_m15 105 rfl) rfl
theorem q3565 : (Jvm.Cond.laysFinal "PaperStore$Command" "PaperStore$Command" "numbers" "[I") ∈ lw_all := lw_g (lw_at lw_m15 106 rfl) rfl
theorem q3566 : (Jvm.Cond.soleField "PaperStore$Command" "numbers") ∈ lw_all := lw_g (lw_at lw_m15 107 rfl) rfl
theorem q3567 : (Jvm.Cond.superclass "PaperStore$Command" "java/lang/Object") ∈ lw_all := lw_g (lw_at lw_m15 108 rfl) rfl
theorem q3572 : (Jvm.Cond.instanceMethod ({ cls := "PaperStore$Command", name := "in", desc := "(LPaperStore$Store;)I" } : Jvm.MethodName)) ∈ lw_all := lw_g (lw_at lw_m15 113 rfl) rfl
theorem q3573 : (Jvm.Cond.selects "PaperStore$Command" ({ cls := "PaperStore$Command", name := "in", desc := "(LPaperStore$Store;)I" } : Jvm.MethodName) ({ cls := "PaperStore$Command", name := "in", desc := "(LPaperStore$Store;)I" } : Jvm.MethodName)) ∈ lw_all := lw_g (lw_at lw_m15 114 rfl) rfl
theorem q3574 : (Jvm.Cond.code ({ cls := "PaperStore$Command", name := "in", desc := "(LPaperStore$Store;)I" } : Jvm.MethodName) prog_5_method_2_code (5 : Nat) (Option.some Jvm.ClassFile.FieldType.int)) ∈ lw_all := lw_g (lw_at lw_m15 115 rfl) rfl
theorem q3575 : (Jvm.Cond.methodLink "PaperStore$Command" (19 : Nat) ({ cls := "java/lang/String", name := "hashCode", desc := "()I" } : Jvm.MethodName)) ∈ lw_all := lw_g (lw_at lw_m15 116 rfl) rfl
theorem q3576 : (Jvm.Cond.stringRef "PaperStore$Command" (25 : Nat) "push") ∈ lw_tbl := lw_at lw_m15 117 rfl
theorem q3577 : (Jvm.Cond.methodLink "PaperStore$Command" (27 : Nat) ({ cls := "java/lang/String", name := "equals", desc := "(Ljava/lang/Object;)Z" } : Jvm.MethodName)) ∈ lw_all := lw_g (lw_at lw_m15 118 rfl) rfl
theorem q3578 : (Jvm.Cond.stringRef "PaperStore$Command" (31 : Nat) "gather") ∈ lw_tbl := lw_at lw_m15 119 rfl
theorem q3579 : (Jvm.Cond.stringRef "PaperStore$Command" (33 : Nat) "send") ∈ lw_tbl := lw_at lw_m15 120 rfl
theorem q3580 : (Jvm.Cond.stringRef "PaperStore$Command" (35 : Nat) "trap") ∈ lw_tbl := lw_at lw_m15 121 rfl
theorem q3581 : (Jvm.Cond.stringRef "PaperStore$Command" (37 : Nat) "air") ∈ lw_tbl := lw_at lw_m15 122 rfl
theorem q3582 : (Jvm.Cond.methodLink "PaperStore$Command" (39 : Nat) ({ cls := "PaperStore$Store", name := "isLadder", desc := "(I)Z" } : Jvm.MethodName)) ∈ lw_all := lw_g (lw_at lw_m15 123 rfl) rfl
theorem q3583 : (Jvm.Cond.methodLinkNest "PaperStore$Command" (45 : Nat) ({ cls := "PaperStore", name := "isAisle", desc := "(I)Z" } : Jvm.MethodName) "PaperStore") ∈ lw_tbl := lw_at lw_m15 124 rfl
theorem q3584 : (Jvm.Cond.methodLinkNest "PaperStore$Command" (48 : Nat) ({ cls := "PaperStore", name := "checkState", desc := "(Z)V" } : Jvm.MethodName) "PaperStore") ∈ lw_tbl := lw_at lw_m15 125 rfl
theorem q3585 : (Jvm.Cond.methodLink "PaperStore$Command" (52 : Nat) ({ cls := "PaperStore$Store", name := "push", desc := "(II)I" } : Jvm.MethodName)) ∈ lw_all := lw_g (lw_at lw_m15 126 rfl) rfl
theorem q3586 : (Jvm.Cond.methodLink "PaperStore$Command" (55 : Nat) ({ cls := "PaperStore$Store", name := "isOrder", desc := "(I)Z" } : Jvm.MethodName)) ∈ lw_all := lw_g (lw_at lw_m15 127 rfl) rfl
theorem q3587 : (Jvm.Cond.methodLink "PaperStore$Command" (58 : Nat) ({ cls := "PaperStore$Store", name := "isCart", desc := "(I)Z" } : Jvm.MethodName)) ∈ lw_all := lw_g (lw_at lw_m15 128 rfl) rfl
theorem q3588 : (Jvm.Cond.methodLink "PaperStore$Command" (61 : Nat) ({ cls := "PaperStore$Store", name := "gather", desc := "(III)I" } : Jvm.MethodName)) ∈ lw_all := lw_g (lw_at lw_m15 129 rfl) rfl
theorem q3589 : (Jvm.Cond.methodLink "PaperStore$Command" (64 : Nat) ({ cls := "PaperStore$Store", name := "send", desc := "(I)I" } : Jvm.MethodName)) ∈ lw_all := lw_g (lw_at lw_m15 130 rfl) rfl
theorem q3590 : (Jvm.Cond.methodLink "PaperStore$Command" (67 : Nat) ({ cls := "PaperStore$Store", name := "trap", desc := "(II)I" } : Jvm.MethodName)) ∈ lw_all := lw_g (lw_at lw_m15 131 rfl) rfl
theorem q3591 : (Jvm.Cond.methodLink "PaperStore$Command" (69 : Nat) ({ cls := "PaperStore$Store", name := "air", desc := "(II)I" } : Jvm.MethodName)) ∈ lw_all := lw_g (lw_at lw_m15 132 rfl) rfl
theorem q3592 : (Jvm.Cond.methodLinkNest "PaperStore$Command" (71 : Nat) ({ cls := "PaperStore", name := "isIn", desc := "(III)Z" } : Jvm.MethodName) "PaperStore") ∈ lw_tbl := lw_at lw_m15 133 rfl
theorem q3593 : (Jvm.Cond.methodLink "PaperStore$Command" (75 : Nat) ({ cls := "PaperStore$Store", name := "days", desc := "(I)I" } : Jvm.MethodName)) ∈ lw_all := lw_g (lw_at lw_m15 134 rfl) rfl
theorem q4194 : (Jvm.Cond.castable "PaperStore$Command" "java/lang/Object") ∈ lw_tbl := lw_at lw_m18 15 rfl
theorem in_X14 : ∀ w ∈ wsX140, w ∈ lw_all := lw_in wsX140 [3563, 3565] (by decide +kernel) (by decide +kernel)
