/-! PaperStoreModel -/
set_option maxRecDepth 100000
def RX5 : String := "PaperStoreModel"
def TX5 : u_T := fun k => match k with
  | 0 => ("PaperStoreModel", "thrown", "I", false)
  | 1 => ("PaperStoreModel", "all", "[I", true)
  | 2 => ("PaperStoreModel", "changes", "I", false)
  | 3 => ("PaperStoreModel", "isSaved", "Z", false)
  | 4 => ("PaperStoreModel", "result", "I", false)
  | 5 => ("PaperStoreModel", "reason", "I", false)
  | 6 => ("PaperStoreModel", "detail", "I", false)
  | 7 => ("PaperStoreModel", "line", "[C", true)
  | 8 => ("PaperStoreModel", "lineSize", "I", false)
  | 9 => ("PaperStoreModel", "text", "[C", true)
  | 10 => ("PaperStoreModel", "texted", "I", false)
  | 11 => ("PaperStoreModel", "here", "I", false)
  | 12 => ("PaperStoreModel", "fault", "I", false)
  | 13 => ("PaperStoreModel", "errorAt", "I", false)
  | 14 => ("PaperStoreModel", "commands", "[I", true)
  | _ => ("PaperStoreModel", "commandMany", "I", false)
def tyX5 : Nat → FieldType := fun k => match k with
  | 0 => .int
  | 1 => .array .int
  | 2 => .int
  | 3 => .boolean
  | 4 => .int
  | 5 => .int
  | 6 => .int
  | 7 => .array .char
  | 8 => .int
  | 9 => .array .char
  | 10 => .int
  | 11 => .int
  | 12 => .int
  | 13 => .int
  | 14 => .array .int
  | _ => .int
abbrev wsX50 : List Cond := u_ws RX5 TX5 16
set_option maxRecDepth 100000 in
theorem nmX5 : ∀ a, a < 16 → ∀ b, b < 16 → a ≠ b → (TX5 a).2.1 ≠ (TX5 b).2.1 := by decide +kernel
set_option maxRecDepth 100000 in
theorem tyX5_ok : ∀ k, k < 16 → parseFieldDescriptor (TX5 k).2.2.1 = some (tyX5 k) := by decide +kernel
abbrev cX5_init : ByteArray := prog_15_method_1_code
def yX5_init : MethodName := ⟨RX5, "<init>", "()V"⟩
def dkwX5_init_3 : List UInt8 := [177]
abbrev dktX5_init_3 : List UInt8 := dkwX5_init_3 ++ []
def dkwX5_init_2 : List UInt8 := [162, 0, 24, 42, 180, 0, 9, 17, 0, 249, 8, 27, 104, 96, 3, 96, 7, 79, 132, 1, 1, 167, 255, 233]
abbrev dktX5_init_2 : List UInt8 := dkwX5_init_2 ++ dktX5_init_3
def dkwX5_init_1 : List UInt8 := [188, 5, 181, 0, 17, 42, 2, 181, 0, 20, 42, 17, 0, 244, 188, 10, 181, 0, 24, 3, 60, 27, 8]
abbrev dktX5_init_1 : List UInt8 := dkwX5_init_1 ++ dktX5_init_2
def dkwX5_init_0 : List UInt8 := [42, 183, 0, 1, 42, 17, 14, 226, 188, 10, 181, 0, 9, 42, 16, 100, 188, 5, 181, 0, 13, 42, 16, 60]
abbrev dktX5_init_0 : List UInt8 := dkwX5_init_0 ++ dktX5_init_1
theorem dksX5_init_0 : cX5_init.data.toList.drop 0 = dktX5_init_0 := by decide +kernel
theorem dksX5_init_1 : cX5_init.data.toList.drop 24 = dktX5_init_1 := dk_seg dksX5_init_0 24 rfl rfl
theorem dksX5_init_2 : cX5_init.data.toList.drop 47 = dktX5_init_2 := dk_seg dksX5_init_1 23 rfl rfl
theorem dksX5_init_3 : cX5_init.data.toList.drop 71 = dktX5_init_3 := dk_seg dksX5_init_2 24 rfl rfl
theorem dX5_init_0 : decode cX5_init 0 = .ok (.aload_n 0, 1) := dk_42 (dk_at dksX5_init_0 0 rfl rfl)
theorem dX5_init_1 : decode cX5_init 1 = .ok (.invokespecial 1, 3) := dk_183 0 1 (dk_at dksX5_init_0 1 rfl rfl)
theorem dX5_init_4 : decode cX5_init 4 = .ok (.aload_n 0, 1) := dk_42 (dk_at dksX5_init_0 4 rfl rfl)
theorem dX5_init_5 : decode cX5_init 5 = .ok (.sipush 3810, 3) := dk_17 14 226 (dk_at dksX5_init_0 5 rfl rfl)
theorem dX5_init_8 : decode cX5_init 8 = .ok (.newarray .int, 2) := dk_188_10 (dk_at dksX5_init_0 8 rfl rfl)
theorem dX5_init_10 : decode cX5_init 10 = .ok (.putfield 9, 3) := dk_181 0 9 (dk_at dksX5_init_0 10 rfl rfl)
theorem dX5_init_13 : decode cX5_init 13 = .ok (.aload_n 0, 1) := dk_42 (dk_at dksX5_init_0 13 rfl rfl)
theorem dX5_init_14 : decode cX5_init 14 = .ok (.bipush 100, 2) := dk_16 100 (dk_at dksX5_init_0 14 rfl rfl)
theorem dX5_init_16 : decode cX5_init 16 = .ok (.newarray .char, 2) := dk_188_5 (dk_at dksX5_init_0 16 rfl rfl)
theorem dX5_init_18 : decode cX5_init 18 = .ok (.putfield 13, 3) := dk_181 0 13 (dk_at dksX5_init_0 18 rfl rfl)
theorem dX5_init_21 : decode cX5_init 21 = .ok (.aload_n 0, 1) := dk_42 (dk_at dksX5_init_0 21 rfl rfl)
theorem dX5_init_22 : decode cX5_init 22 = .ok (.bipush 60, 2) := dk_16 60 (dk_at dksX5_init_0 22 rfl rfl)
theorem dX5_init_24 : decode cX5_init 24 = .ok (.newarray .char, 2) := dk_188_5 (dk_at dksX5_init_1 0 rfl rfl)
theorem dX5_init_26 : decode cX5_init 26 = .ok (.putfield 17, 3) := dk_181 0 17 (dk_at dksX5_init_1 2 rfl rfl)
theorem dX5_init_29 : decode cX5_init 29 = .ok (.aload_n 0, 1) := dk_42 (dk_at dksX5_init_1 5 rfl rfl)
theorem dX5_init_30 : decode cX5_init 30 = .ok (.iconst (-1), 1) := dk_2 (dk_at dksX5_init_1 6 rfl rfl)
theorem dX5_init_31 : decode cX5_init 31 = .ok (.putfield 20, 3) := dk_181 0 20 (dk_at dksX5_init_1 7 rfl rfl)
theorem dX5_init_34 : decode cX5_init 34 = .ok (.aload_n 0, 1) := dk_42 (dk_at dksX5_init_1 10 rfl rfl)
theorem dX5_init_35 : decode cX5_init 35 = .ok (.sipush 244, 3) := dk_17 0 244 (dk_at dksX5_init_1 11 rfl rfl)
theorem dX5_init_38 : decode cX5_init 38 = .ok (.newarray .int, 2) := dk_188_10 (dk_at dksX5_init_1 14 rfl rfl)
theorem dX5_init_40 : decode cX5_init 40 = .ok (.putfield 24, 3) := dk_181 0 24 (dk_at dksX5_init_1 16 rfl rfl)
theorem dX5_init_43 : decode cX5_init 43 = .ok (.iconst 0, 1) := dk_3 (dk_at dksX5_init_1 19 rfl rfl)
theorem dX5_init_44 : decode cX5_init 44 = .ok (.istore_n 1, 1) := dk_60 (dk_at dksX5_init_1 20 rfl rfl)
theorem dX5_init_45 : decode cX5_init 45 = .ok (.iload_n 1, 1) := dk_27 (dk_at dksX5_init_1 21 rfl rfl)
theorem dX5_init_46 : decode cX5_init 46 = .ok (.iconst 5, 1) := dk_8 (dk_at dksX5_init_1 22 rfl rfl)
theorem dX5_init_47 : decode cX5_init 47 = .ok (.if_icmp .ge 24, 3) := dk_162 0 24 (dk_at dksX5_init_2 0 rfl rfl)
theorem dX5_init_50 : decode cX5_init 50 = .ok (.aload_n 0, 1) := dk_42 (dk_at dksX5_init_2 3 rfl rfl)
theorem dX5_init_51 : decode cX5_init 51 = .ok (.getfield 9, 3) := dk_180 0 9 (dk_at dksX5_init_2 4 rfl rfl)
theorem dX5_init_54 : decode cX5_init 54 = .ok (.sipush 249, 3) := dk_17 0 249 (dk_at dksX5_init_2 7 rfl rfl)
theorem dX5_init_57 : decode cX5_init 57 = .ok (.iconst 5, 1) := dk_8 (dk_at dksX5_init_2 10 rfl rfl)
theorem dX5_init_58 : decode cX5_init 58 = .ok (.iload_n 1, 1) := dk_27 (dk_at dksX5_init_2 11 rfl rfl)
theorem dX5_init_59 : decode cX5_init 59 = .ok (.imul, 1) := dk_104 (dk_at dksX5_init_2 12 rfl rfl)
theorem dX5_init_60 : decode cX5_init 60 = .ok (.iadd, 1) := dk_96 (dk_at dksX5_init_2 13 rfl rfl)
theorem dX5_init_61 : decode cX5_init 61 = .ok (.iconst 0, 1) := dk_3 (dk_at dksX5_init_2 14 rfl rfl)
theorem dX5_init_62 : decode cX5_init 62 = .ok (.iadd, 1) := dk_96 (dk_at dksX5_init_2 15 rfl rfl)
theorem dX5_init_63 : decode cX5_init 63 = .ok (.iconst 4, 1) := dk_7 (dk_at dksX5_init_2 16 rfl rfl)
theorem dX5_init_64 : decode cX5_init 64 = .ok (.iastore, 1) := dk_79 (dk_at dksX5_init_2 17 rfl rfl)
theorem dX5_init_65 : decode cX5_init 65 = .ok (.iinc 1 1, 3) := dk_132 1 1 (dk_at dksX5_init_2 18 rfl rfl)
theorem dX5_init_68 : decode cX5_init 68 = .ok (.goto (-23), 3) := dk_167 255 233 (dk_at dksX5_init_2 21 rfl rfl)
theorem dX5_init_71 : decode cX5_init 71 = .ok (.return_, 1) := dk_177 (dk_at dksX5_init_3 0 rfl rfl)
abbrev cX5_thrown : ByteArray := prog_15_method_2_code
def yX5_thrown : MethodName := ⟨RX5, "thrown", "()I"⟩
theorem dX5_thrown_0 : decode cX5_thrown 0 = .ok (.aload_n 0, 1) := by decide +kernel
theorem dX5_thrown_1 : decode cX5_thrown 1 = .ok (.getfield 27, 3) := by decide +kernel
theorem dX5_thrown_4 : decode cX5_thrown 4 = .ok (.ireturn, 1) := by decide +kernel
abbrev cX5_reason : ByteArray := prog_15_method_11_code
def yX5_reason : MethodName := ⟨RX5, "reason", "(Z)I"⟩
def dkwX5_reason_1 : List UInt8 := [167, 0, 18, 27, 153, 0, 10, 42, 180, 0, 46, 167, 0, 7, 42, 180, 0, 43, 172]
abbrev dktX5_reason_1 : List UInt8 := dkwX5_reason_1 ++ []
def dkwX5_reason_0 : List UInt8 := [42, 42, 180, 0, 43, 154, 0, 7, 4, 167, 0, 4, 3, 181, 0, 27, 42, 180, 0, 27, 153, 0, 7, 3]
abbrev dktX5_reason_0 : List UInt8 := dkwX5_reason_0 ++ dktX5_reason_1
theorem dksX5_reason_0 : cX5_reason.data.toList.drop 0 = dktX5_reason_0 := by decide +kernel
theorem dksX5_reason_1 : cX5_reason.data.toList.drop 24 = dktX5_reason_1 := dk_seg dksX5_reason_0 24 rfl rfl
theorem dX5_reason_0 : decode cX5_reason 0 = .ok (.aload_n 0, 1) := dk_42 (dk_at dksX5_reason_0 0 rfl rfl)
theorem dX5_reason_1 : decode cX5_reason 1 = .ok (.aload_n 0, 1) := dk_42 (dk_at dksX5_reason_0 1 rfl rfl)
theorem dX5_reason_2 : decode cX5_reason 2 = .ok (.getfield 43, 3) := dk_180 0 43 (dk_at dksX5_reason_0 2 rfl rfl)
theorem dX5_reason_5 : decode cX5_reason 5 = .ok (.ifCond .ne 7, 3) := dk_154 0 7 (dk_at dksX5_reason_0 5 rfl rfl)
theorem dX5_reason_8 : decode cX5_reason 8 = .ok (.iconst 1, 1) := dk_4 (dk_at dksX5_reason_0 8 rfl rfl)
theorem dX5_reason_9 : decode cX5_reason 9 = .ok (.goto 4, 3) := dk_167 0 4 (dk_at dksX5_reason_0 9 rfl rfl)
theorem dX5_reason_12 : decode cX5_reason 12 = .ok (.iconst 0, 1) := dk_3 (dk_at dksX5_reason_0 12 rfl rfl)
theorem dX5_reason_13 : decode cX5_reason 13 = .ok (.putfield 27, 3) := dk_181 0 27 (dk_at dksX5_reason_0 13 rfl rfl)
theorem dX5_reason_16 : decode cX5_reason 16 = .ok (.aload_n 0, 1) := dk_42 (dk_at dksX5_reason_0 16 rfl rfl)
theorem dX5_reason_17 : decode cX5_reason 17 = .ok (.getfield 27, 3) := dk_180 0 27 (dk_at dksX5_reason_0 17 rfl rfl)
theorem dX5_reason_20 : decode cX5_reason 20 = .ok (.ifCond .eq 7, 3) := dk_153 0 7 (dk_at dksX5_reason_0 20 rfl rfl)
theorem dX5_reason_23 : decode cX5_reason 23 = .ok (.iconst 0, 1) := dk_3 (dk_at dksX5_reason_0 23 rfl rfl)
theorem dX5_reason_24 : decode cX5_reason 24 = .ok (.goto 18, 3) := dk_167 0 18 (dk_at dksX5_reason_1 0 rfl rfl)
theorem dX5_reason_27 : decode cX5_reason 27 = .ok (.iload_n 1, 1) := dk_27 (dk_at dksX5_reason_1 3 rfl rfl)
theorem dX5_reason_28 : decode cX5_reason 28 = .ok (.ifCond .eq 10, 3) := dk_153 0 10 (dk_at dksX5_reason_1 4 rfl rfl)
theorem dX5_reason_31 : decode cX5_reason 31 = .ok (.aload_n 0, 1) := dk_42 (dk_at dksX5_reason_1 7 rfl rfl)
theorem dX5_reason_32 : decode cX5_reason 32 = .ok (.getfield 46, 3) := dk_180 0 46 (dk_at dksX5_reason_1 8 rfl rfl)
theorem dX5_reason_35 : decode cX5_reason 35 = .ok (.goto 7, 3) := dk_167 0 7 (dk_at dksX5_reason_1 11 rfl rfl)
theorem dX5_reason_38 : decode cX5_reason 38 = .ok (.aload_n 0, 1) := dk_42 (dk_at dksX5_reason_1 14 rfl rfl)
theorem dX5_reason_39 : decode cX5_reason 39 = .ok (.getfield 43, 3) := dk_180 0 43 (dk_at dksX5_reason_1 15 rfl rfl)
theorem dX5_reason_42 : decode cX5_reason 42 = .ok (.ireturn, 1) := dk_172 (dk_at dksX5_reason_1 18 rfl rfl)
abbrev cX5_ladder : ByteArray := prog_15_method_16_code
def yX5_ladder : MethodName := ⟨RX5, "ladder", "(I)I"⟩
def dkwX5_ladder_5 : List UInt8 := [16, 6, 92, 46, 4, 96, 79, 42, 182, 0, 37, 28, 172]
abbrev dktX5_ladder_5 : List UInt8 := dkwX5_ladder_5 ++ []
def dkwX5_ladder_4 : List UInt8 := [96, 3, 96, 27, 79, 42, 180, 0, 9, 17, 1, 18, 5, 28, 104, 96, 4, 96, 29, 79, 42, 180, 0, 9]
abbrev dktX5_ladder_4 : List UInt8 := dkwX5_ladder_4 ++ dktX5_ladder_5
def dkwX5_ladder_3 : List UInt8 := [29, 182, 0, 64, 2, 159, 0, 9, 132, 3, 1, 167, 255, 244, 42, 180, 0, 9, 17, 1, 18, 5, 28, 104]
abbrev dktX5_ladder_3 : List UInt8 := dkwX5_ladder_3 ++ dktX5_ladder_4
def dkwX5_ladder_2 : List UInt8 := [42, 180, 0, 27, 153, 0, 5, 3, 172, 42, 182, 0, 61, 42, 180, 0, 9, 16, 6, 46, 61, 3, 62, 42]
abbrev dktX5_ladder_2 : List UInt8 := dkwX5_ladder_2 ++ dktX5_ladder_3
def dkwX5_ladder_1 : List UInt8 := [160, 0, 7, 4, 167, 0, 4, 3, 4, 6, 182, 0, 57, 153, 0, 7, 5, 167, 0, 4, 3, 181, 0, 27]
abbrev dktX5_ladder_1 : List UInt8 := dkwX5_ladder_1 ++ dktX5_ladder_2
def dkwX5_ladder_0 : List UInt8 := [42, 27, 4, 16, 6, 184, 0, 49, 154, 0, 7, 4, 167, 0, 33, 42, 42, 180, 0, 9, 16, 6, 46, 6]
abbrev dktX5_ladder_0 : List UInt8 := dkwX5_ladder_0 ++ dktX5_ladder_1
theorem dksX5_ladder_0 : cX5_ladder.data.toList.drop 0 = dktX5_ladder_0 := by decide +kernel
theorem dksX5_ladder_1 : cX5_ladder.data.toList.drop 24 = dktX5_ladder_1 := dk_seg dksX5_ladder_0 24 rfl rfl
theorem dksX5_ladder_2 : cX5_ladder.data.toList.drop 48 = dktX5_ladder_2 := dk_seg dksX5_ladder_1 24 rfl rfl
theorem dksX5_ladder_3 : cX5_ladder.data.toList.drop 72 = dktX5_ladder_3 := dk_seg dksX5_ladder_2 24 rfl rfl
theorem dksX5_ladder_4 : cX5_ladder.data.toList.drop 96 = dktX5_ladder_4 := dk_seg dksX5_ladder_3 24 rfl rfl
theorem dksX5_ladder_5 : cX5_ladder.data.toList.drop 120 = dktX5_ladder_5 := dk_seg dksX5_ladder_4 24 rfl rfl
theorem dX5_ladder_0 : decode cX5_ladder 0 = .ok (.aload_n 0, 1) := dk_42 (dk_at dksX5_ladder_0 0 rfl rfl)
theorem dX5_ladder_1 : decode cX5_ladder 1 = .ok (.iload_n 1, 1) := dk_27 (dk_at dksX5_ladder_0 1 rfl rfl)
theorem dX5_ladder_2 : decode cX5_ladder 2 = .ok (.iconst 1, 1) := dk_4 (dk_at dksX5_ladder_0 2 rfl rfl)
theorem dX5_ladder_3 : decode cX5_ladder 3 = .ok (.bipush 6, 2) := dk_16 6 (dk_at dksX5_ladder_0 3 rfl rfl)
theorem dX5_ladder_5 : decode cX5_ladder 5 = .ok (.invokestatic 49, 3) := dk_184 0 49 (dk_at dksX5_ladder_0 5 rfl rfl)
theorem dX5_ladder_8 : decode cX5_ladder 8 = .ok (.ifCond .ne 7, 3) := dk_154 0 7 (dk_at dksX5_ladder_0 8 rfl rfl)
theorem dX5_ladder_11 : decode cX5_ladder 11 = .ok (.iconst 1, 1) := dk_4 (dk_at dksX5_ladder_0 11 rfl rfl)
theorem dX5_ladder_12 : decode cX5_ladder 12 = .ok (.goto 33, 3) := dk_167 0 33 (dk_at dksX5_ladder_0 12 rfl rfl)
theorem dX5_ladder_15 : decode cX5_ladder 15 = .ok (.aload_n 0, 1) := dk_42 (dk_at dksX5_ladder_0 15 rfl rfl)
theorem dX5_ladder_16 : decode cX5_ladder 16 = .ok (.aload_n 0, 1) := dk_42 (dk_at dksX5_ladder_0 16 rfl rfl)
theorem dX5_ladder_17 : decode cX5_ladder 17 = .ok (.getfield 9, 3) := dk_180 0 9 (dk_at dksX5_ladder_0 17 rfl rfl)
theorem dX5_ladder_20 : decode cX5_ladder 20 = .ok (.bipush 6, 2) := dk_16 6 (dk_at dksX5_ladder_0 20 rfl rfl)
theorem dX5_ladder_22 : decode cX5_ladder 22 = .ok (.iaload, 1) := dk_46 (dk_at dksX5_ladder_0 22 rfl rfl)
theorem dX5_ladder_23 : decode cX5_ladder 23 = .ok (.iconst 3, 1) := dk_6 (dk_at dksX5_ladder_0 23 rfl rfl)
theorem dX5_ladder_24 : decode cX5_ladder 24 = .ok (.if_icmp .ne 7, 3) := dk_160 0 7 (dk_at dksX5_ladder_1 0 rfl rfl)
theorem dX5_ladder_27 : decode cX5_ladder 27 = .ok (.iconst 1, 1) := dk_4 (dk_at dksX5_ladder_1 3 rfl rfl)
theorem dX5_ladder_28 : decode cX5_ladder 28 = .ok (.goto 4, 3) := dk_167 0 4 (dk_at dksX5_ladder_1 4 rfl rfl)
theorem dX5_ladder_31 : decode cX5_ladder 31 = .ok (.iconst 0, 1) := dk_3 (dk_at dksX5_ladder_1 7 rfl rfl)
theorem dX5_ladder_32 : decode cX5_ladder 32 = .ok (.iconst 1, 1) := dk_4 (dk_at dksX5_ladder_1 8 rfl rfl)
theorem dX5_ladder_33 : decode cX5_ladder 33 = .ok (.iconst 3, 1) := dk_6 (dk_at dksX5_ladder_1 9 rfl rfl)
theorem dX5_ladder_34 : decode cX5_ladder 34 = .ok (.invokevirtual 57, 3) := dk_182 0 57 (dk_at dksX5_ladder_1 10 rfl rfl)
theorem dX5_ladder_37 : decode cX5_ladder 37 = .ok (.ifCond .eq 7, 3) := dk_153 0 7 (dk_at dksX5_ladder_1 13 rfl rfl)
theorem dX5_ladder_40 : decode cX5_ladder 40 = .ok (.iconst 2, 1) := dk_5 (dk_at dksX5_ladder_1 16 rfl rfl)
theorem dX5_ladder_41 : decode cX5_ladder 41 = .ok (.goto 4, 3) := dk_167 0 4 (dk_at dksX5_ladder_1 17 rfl rfl)
theorem dX5_ladder_44 : decode cX5_ladder 44 = .ok (.iconst 0, 1) := dk_3 (dk_at dksX5_ladder_1 20 rfl rfl)
theorem dX5_ladder_45 : decode cX5_ladder 45 = .ok (.putfield 27, 3) := dk_181 0 27 (dk_at dksX5_ladder_1 21 rfl rfl)
theorem dX5_ladder_48 : decode cX5_ladder 48 = .ok (.aload_n 0, 1) := dk_42 (dk_at dksX5_ladder_2 0 rfl rfl)
theorem dX5_ladder_49 : decode cX5_ladder 49 = .ok (.getfield 27, 3) := dk_180 0 27 (dk_at dksX5_ladder_2 1 rfl rfl)
theorem dX5_ladder_52 : decode cX5_ladder 52 = .ok (.ifCond .eq 5, 3) := dk_153 0 5 (dk_at dksX5_ladder_2 4 rfl rfl)
theorem dX5_ladder_55 : decode cX5_ladder 55 = .ok (.iconst 0, 1) := dk_3 (dk_at dksX5_ladder_2 7 rfl rfl)
theorem dX5_ladder_56 : decode cX5_ladder 56 = .ok (.ireturn, 1) := dk_172 (dk_at dksX5_ladder_2 8 rfl rfl)
theorem dX5_ladder_57 : decode cX5_ladder 57 = .ok (.aload_n 0, 1) := dk_42 (dk_at dksX5_ladder_2 9 rfl rfl)
theorem dX5_ladder_58 : decode cX5_ladder 58 = .ok (.invokevirtual 61, 3) := dk_182 0 61 (dk_at dksX5_ladder_2 10 rfl rfl)
theorem dX5_ladder_61 : decode cX5_ladder 61 = .ok (.aload_n 0, 1) := dk_42 (dk_at dksX5_ladder_2 13 rfl rfl)
theorem dX5_ladder_62 : decode cX5_ladder 62 = .ok (.getfield 9, 3) := dk_180 0 9 (dk_at dksX5_ladder_2 14 rfl rfl)
theorem dX5_ladder_65 : decode cX5_ladder 65 = .ok (.bipush 6, 2) := dk_16 6 (dk_at dksX5_ladder_2 17 rfl rfl)
theorem dX5_ladder_67 : decode cX5_ladder 67 = .ok (.iaload, 1) := dk_46 (dk_at dksX5_ladder_2 19 rfl rfl)
theorem dX5_ladder_68 : decode cX5_ladder 68 = .ok (.istore_n 2, 1) := dk_61 (dk_at dksX5_ladder_2 20 rfl rfl)
theorem dX5_ladder_69 : decode cX5_ladder 69 = .ok (.iconst 0, 1) := dk_3 (dk_at dksX5_ladder_2 21 rfl rfl)
theorem dX5_ladder_70 : decode cX5_ladder 70 = .ok (.istore_n 3, 1) := dk_62 (dk_at dksX5_ladder_2 22 rfl rfl)
theorem dX5_ladder_71 : decode cX5_ladder 71 = .ok (.aload_n 0, 1) := dk_42 (dk_at dksX5_ladder_2 23 rfl rfl)
theorem dX5_ladder_72 : decode cX5_ladder 72 = .ok (.iload_n 3, 1) := dk_29 (dk_at dksX5_ladder_3 0 rfl rfl)
theorem dX5_ladder_73 : decode cX5_ladder 73 = .ok (.invokevirtual 64, 3) := dk_182 0 64 (dk_at dksX5_ladder_3 1 rfl rfl)
theorem dX5_ladder_76 : decode cX5_ladder 76 = .ok (.iconst (-1), 1) := dk_2 (dk_at dksX5_ladder_3 4 rfl rfl)
theorem dX5_ladder_77 : decode cX5_ladder 77 = .ok (.if_icmp .eq 9, 3) := dk_159 0 9 (dk_at dksX5_ladder_3 5 rfl rfl)
theorem dX5_ladder_80 : decode cX5_ladder 80 = .ok (.iinc 3 1, 3) := dk_132 3 1 (dk_at dksX5_ladder_3 8 rfl rfl)
theorem dX5_ladder_83 : decode cX5_ladder 83 = .ok (.goto (-12), 3) := dk_167 255 244 (dk_at dksX5_ladder_3 11 rfl rfl)
theorem dX5_ladder_86 : decode cX5_ladder 86 = .ok (.aload_n 0, 1) := dk_42 (dk_at dksX5_ladder_3 14 rfl rfl)
theorem dX5_ladder_87 : decode cX5_ladder 87 = .ok (.getfield 9, 3) := dk_180 0 9 (dk_at dksX5_ladder_3 15 rfl rfl)
theorem dX5_ladder_90 : decode cX5_ladder 90 = .ok (.sipush 274, 3) := dk_17 1 18 (dk_at dksX5_ladder_3 18 rfl rfl)
theorem dX5_ladder_93 : decode cX5_ladder 93 = .ok (.iconst 2, 1) := dk_5 (dk_at dksX5_ladder_3 21 rfl rfl)
theorem dX5_ladder_94 : decode cX5_ladder 94 = .ok (.iload_n 2, 1) := dk_28 (dk_at dksX5_ladder_3 22 rfl rfl)
theorem dX5_ladder_95 : decode cX5_ladder 95 = .ok (.imul, 1) := dk_104 (dk_at dksX5_ladder_3 23 rfl rfl)
theorem dX5_ladder_96 : decode cX5_ladder 96 = .ok (.iadd, 1) := dk_96 (dk_at dksX5_ladder_4 0 rfl rfl)
theorem dX5_ladder_97 : decode cX5_ladder 97 = .ok (.iconst 0, 1) := dk_3 (dk_at dksX5_ladder_4 1 rfl rfl)
theorem dX5_ladder_98 : decode cX5_ladder 98 = .ok (.iadd, 1) := dk_96 (dk_at dksX5_ladder_4 2 rfl rfl)
theorem dX5_ladder_99 : decode cX5_ladder 99 = .ok (.iload_n 1, 1) := dk_27 (dk_at dksX5_ladder_4 3 rfl rfl)
theorem dX5_ladder_100 : decode cX5_ladder 100 = .ok (.iastore, 1) := dk_79 (dk_at dksX5_ladder_4 4 rfl rfl)
theorem dX5_ladder_101 : decode cX5_ladder 101 = .ok (.aload_n 0, 1) := dk_42 (dk_at dksX5_ladder_4 5 rfl rfl)
theorem dX5_ladder_102 : decode cX5_ladder 102 = .ok (.getfield 9, 3) := dk_180 0 9 (dk_at dksX5_ladder_4 6 rfl rfl)
theorem dX5_ladder_105 : decode cX5_ladder 105 = .ok (.sipush 274, 3) := dk_17 1 18 (dk_at dksX5_ladder_4 9 rfl rfl)
theorem dX5_ladder_108 : decode cX5_ladder 108 = .ok (.iconst 2, 1) := dk_5 (dk_at dksX5_ladder_4 12 rfl rfl)
theorem dX5_ladder_109 : decode cX5_ladder 109 = .ok (.iload_n 2, 1) := dk_28 (dk_at dksX5_ladder_4 13 rfl rfl)
theorem dX5_ladder_110 : decode cX5_ladder 110 = .ok (.imul, 1) := dk_104 (dk_at dksX5_ladder_4 14 rfl rfl)
theorem dX5_ladder_111 : decode cX5_ladder 111 = .ok (.iadd, 1) := dk_96 (dk_at dksX5_ladder_4 15 rfl rfl)
theorem dX5_ladder_112 : decode cX5_ladder 112 = .ok (.iconst 1, 1) := dk_4 (dk_at dksX5_ladder_4 16 rfl rfl)
theorem dX5_ladder_113 : decode cX5_ladder 113 = .ok (.iadd, 1) := dk_96 (dk_at dksX5_ladder_4 17 rfl rfl)
theorem dX5_ladder_114 : decode cX5_ladder 114 = .ok (.iload_n 3, 1) := dk_29 (dk_at dksX5_ladder_4 18 rfl rfl)
theorem dX5_ladder_115 : decode cX5_ladder 115 = .ok (.iastore, 1) := dk_79 (dk_at dksX5_ladder_4 19 rfl rfl)
theorem dX5_ladder_116 : decode cX5_ladder 116 = .ok (.aload_n 0, 1) := dk_42 (dk_at dksX5_ladder_4 20 rfl rfl)
theorem dX5_ladder_117 : decode cX5_ladder 117 = .ok (.getfield 9, 3) := dk_180 0 9 (dk_at dksX5_ladder_4 21 rfl rfl)
theorem dX5_ladder_120 : decode cX5_ladder 120 = .ok (.bipush 6, 2) := dk_16 6 (dk_at dksX5_ladder_5 0 rfl rfl)
theorem dX5_ladder_122 : decode cX5_ladder 122 = .ok (.dup2, 1) := dk_92 (dk_at dksX5_ladder_5 2 rfl rfl)
theorem dX5_ladder_123 : decode cX5_ladder 123 = .ok (.iaload, 1) := dk_46 (dk_at dksX5_ladder_5 3 rfl rfl)
theorem dX5_ladder_124 : decode cX5_ladder 124 = .ok (.iconst 1, 1) := dk_4 (dk_at dksX5_ladder_5 4 rfl rfl)
theorem dX5_ladder_125 : decode cX5_ladder 125 = .ok (.iadd, 1) := dk_96 (dk_at dksX5_ladder_5 5 rfl rfl)
theorem dX5_ladder_126 : decode cX5_ladder 126 = .ok (.iastore, 1) := dk_79 (dk_at dksX5_ladder_5 6 rfl rfl)
theorem dX5_ladder_127 : decode cX5_ladder 127 = .ok (.aload_n 0, 1) := dk_42 (dk_at dksX5_ladder_5 7 rfl rfl)
theorem dX5_ladder_128 : decode cX5_ladder 128 = .ok (.invokevirtual 37, 3) := dk_182 0 37 (dk_at dksX5_ladder_5 8 rfl rfl)
theorem dX5_ladder_131 : decode cX5_ladder 131 = .ok (.iload_n 2, 1) := dk_28 (dk_at dksX5_ladder_5 11 rfl rfl)
theorem dX5_ladder_132 : decode cX5_ladder 132 = .ok (.ireturn, 1) := dk_172 (dk_at dksX5_ladder_5 12 rfl rfl)
abbrev cX5_in : ByteArray := prog_15_method_3_code
def yX5_in : MethodName := ⟨RX5, "in", "(III)Z"⟩
def dkwX5_in_0 : List UInt8 := [26, 27, 161, 0, 12, 26, 28, 163, 0, 7, 4, 167, 0, 4, 3, 172]
abbrev dktX5_in_0 : List UInt8 := dkwX5_in_0 ++ []
theorem dksX5_in_0 : cX5_in.data.toList.drop 0 = dktX5_in_0 := by decide +kernel
theorem dX5_in_0 : decode cX5_in 0 = .ok (.iload_n 0, 1) := dk_26 (dk_at dksX5_in_0 0 rfl rfl)
theorem dX5_in_1 : decode cX5_in 1 = .ok (.iload_n 1, 1) := dk_27 (dk_at dksX5_in_0 1 rfl rfl)
theorem dX5_in_2 : decode cX5_in 2 = .ok (.if_icmp .lt 12, 3) := dk_161 0 12 (dk_at dksX5_in_0 2 rfl rfl)
theorem dX5_in_5 : decode cX5_in 5 = .ok (.iload_n 0, 1) := dk_26 (dk_at dksX5_in_0 5 rfl rfl)
theorem dX5_in_6 : decode cX5_in 6 = .ok (.iload_n 2, 1) := dk_28 (dk_at dksX5_in_0 6 rfl rfl)
theorem dX5_in_7 : decode cX5_in 7 = .ok (.if_icmp .gt 7, 3) := dk_163 0 7 (dk_at dksX5_in_0 7 rfl rfl)
theorem dX5_in_10 : decode cX5_in 10 = .ok (.iconst 1, 1) := dk_4 (dk_at dksX5_in_0 10 rfl rfl)
theorem dX5_in_11 : decode cX5_in 11 = .ok (.goto 4, 3) := dk_167 0 4 (dk_at dksX5_in_0 11 rfl rfl)
theorem dX5_in_14 : decode cX5_in 14 = .ok (.iconst 0, 1) := dk_3 (dk_at dksX5_in_0 14 rfl rfl)
theorem dX5_in_15 : decode cX5_in 15 = .ok (.ireturn, 1) := dk_172 (dk_at dksX5_in_0 15 rfl rfl)
abbrev cX5_refuses : ByteArray := prog_15_method_10_code
def yX5_refuses : MethodName := ⟨RX5, "refuses", "(ZII)Z"⟩
def dkwX5_refuses_0 : List UInt8 := [27, 153, 0, 13, 42, 28, 181, 0, 43, 42, 29, 181, 0, 46, 27, 172]
abbrev dktX5_refuses_0 : List UInt8 := dkwX5_refuses_0 ++ []
theorem dksX5_refuses_0 : cX5_refuses.data.toList.drop 0 = dktX5_refuses_0 := by decide +kernel
theorem dX5_refuses_0 : decode cX5_refuses 0 = .ok (.iload_n 1, 1) := dk_27 (dk_at dksX5_refuses_0 0 rfl rfl)
theorem dX5_refuses_1 : decode cX5_refuses 1 = .ok (.ifCond .eq 13, 3) := dk_153 0 13 (dk_at dksX5_refuses_0 1 rfl rfl)
theorem dX5_refuses_4 : decode cX5_refuses 4 = .ok (.aload_n 0, 1) := dk_42 (dk_at dksX5_refuses_0 4 rfl rfl)
theorem dX5_refuses_5 : decode cX5_refuses 5 = .ok (.iload_n 2, 1) := dk_28 (dk_at dksX5_refuses_0 5 rfl rfl)
theorem dX5_refuses_6 : decode cX5_refuses 6 = .ok (.putfield 43, 3) := dk_181 0 43 (dk_at dksX5_refuses_0 6 rfl rfl)
theorem dX5_refuses_9 : decode cX5_refuses 9 = .ok (.aload_n 0, 1) := dk_42 (dk_at dksX5_refuses_0 9 rfl rfl)
theorem dX5_refuses_10 : decode cX5_refuses 10 = .ok (.iload_n 3, 1) := dk_29 (dk_at dksX5_refuses_0 10 rfl rfl)
theorem dX5_refuses_11 : decode cX5_refuses 11 = .ok (.putfield 46, 3) := dk_181 0 46 (dk_at dksX5_refuses_0 11 rfl rfl)
theorem dX5_refuses_14 : decode cX5_refuses 14 = .ok (.iload_n 1, 1) := dk_27 (dk_at dksX5_refuses_0 14 rfl rfl)
theorem dX5_refuses_15 : decode cX5_refuses 15 = .ok (.ireturn, 1) := dk_172 (dk_at dksX5_refuses_0 15 rfl rfl)
abbrev cX5_begins : ByteArray := prog_15_method_7_code
def yX5_begins : MethodName := ⟨RX5, "begins", "()V"⟩
def dkwX5_begins_0 : List UInt8 := [42, 3, 16, 8, 182, 0, 30, 177]
abbrev dktX5_begins_0 : List UInt8 := dkwX5_begins_0 ++ []
theorem dksX5_begins_0 : cX5_begins.data.toList.drop 0 = dktX5_begins_0 := by decide +kernel
theorem dX5_begins_0 : decode cX5_begins 0 = .ok (.aload_n 0, 1) := dk_42 (dk_at dksX5_begins_0 0 rfl rfl)
theorem dX5_begins_1 : decode cX5_begins 1 = .ok (.iconst 0, 1) := dk_3 (dk_at dksX5_begins_0 1 rfl rfl)
theorem dX5_begins_2 : decode cX5_begins 2 = .ok (.bipush 8, 2) := dk_16 8 (dk_at dksX5_begins_0 2 rfl rfl)
theorem dX5_begins_4 : decode cX5_begins 4 = .ok (.invokevirtual 30, 3) := dk_182 0 30 (dk_at dksX5_begins_0 4 rfl rfl)
theorem dX5_begins_7 : decode cX5_begins 7 = .ok (.return_, 1) := dk_177 (dk_at dksX5_begins_0 7 rfl rfl)
abbrev cX5_copies : ByteArray := prog_15_method_6_code
def yX5_copies : MethodName := ⟨RX5, "copies", "(II)V"⟩
def dkwX5_copies_1 : List UInt8 := [17, 1, 125, 27, 104, 29, 96, 46, 79, 132, 3, 1, 167, 255, 222, 177]
abbrev dktX5_copies_1 : List UInt8 := dkwX5_copies_1 ++ []
def dkwX5_copies_0 : List UInt8 := [3, 62, 29, 17, 1, 125, 162, 0, 33, 42, 180, 0, 9, 17, 1, 125, 28, 104, 29, 96, 42, 180, 0, 9]
abbrev dktX5_copies_0 : List UInt8 := dkwX5_copies_0 ++ dktX5_copies_1
theorem dksX5_copies_0 : cX5_copies.data.toList.drop 0 = dktX5_copies_0 := by decide +kernel
theorem dksX5_copies_1 : cX5_copies.data.toList.drop 24 = dktX5_copies_1 := dk_seg dksX5_copies_0 24 rfl rfl
theorem dX5_copies_0 : decode cX5_copies 0 = .ok (.iconst 0, 1) := dk_3 (dk_at dksX5_copies_0 0 rfl rfl)
theorem dX5_copies_1 : decode cX5_copies 1 = .ok (.istore_n 3, 1) := dk_62 (dk_at dksX5_copies_0 1 rfl rfl)
theorem dX5_copies_2 : decode cX5_copies 2 = .ok (.iload_n 3, 1) := dk_29 (dk_at dksX5_copies_0 2 rfl rfl)
theorem dX5_copies_3 : decode cX5_copies 3 = .ok (.sipush 381, 3) := dk_17 1 125 (dk_at dksX5_copies_0 3 rfl rfl)
theorem dX5_copies_6 : decode cX5_copies 6 = .ok (.if_icmp .ge 33, 3) := dk_162 0 33 (dk_at dksX5_copies_0 6 rfl rfl)
theorem dX5_copies_9 : decode cX5_copies 9 = .ok (.aload_n 0, 1) := dk_42 (dk_at dksX5_copies_0 9 rfl rfl)
theorem dX5_copies_10 : decode cX5_copies 10 = .ok (.getfield 9, 3) := dk_180 0 9 (dk_at dksX5_copies_0 10 rfl rfl)
theorem dX5_copies_13 : decode cX5_copies 13 = .ok (.sipush 381, 3) := dk_17 1 125 (dk_at dksX5_copies_0 13 rfl rfl)
theorem dX5_copies_16 : decode cX5_copies 16 = .ok (.iload_n 2, 1) := dk_28 (dk_at dksX5_copies_0 16 rfl rfl)
theorem dX5_copies_17 : decode cX5_copies 17 = .ok (.imul, 1) := dk_104 (dk_at dksX5_copies_0 17 rfl rfl)
theorem dX5_copies_18 : decode cX5_copies 18 = .ok (.iload_n 3, 1) := dk_29 (dk_at dksX5_copies_0 18 rfl rfl)
theorem dX5_copies_19 : decode cX5_copies 19 = .ok (.iadd, 1) := dk_96 (dk_at dksX5_copies_0 19 rfl rfl)
theorem dX5_copies_20 : decode cX5_copies 20 = .ok (.aload_n 0, 1) := dk_42 (dk_at dksX5_copies_0 20 rfl rfl)
theorem dX5_copies_21 : decode cX5_copies 21 = .ok (.getfield 9, 3) := dk_180 0 9 (dk_at dksX5_copies_0 21 rfl rfl)
theorem dX5_copies_24 : decode cX5_copies 24 = .ok (.sipush 381, 3) := dk_17 1 125 (dk_at dksX5_copies_1 0 rfl rfl)
theorem dX5_copies_27 : decode cX5_copies 27 = .ok (.iload_n 1, 1) := dk_27 (dk_at dksX5_copies_1 3 rfl rfl)
theorem dX5_copies_28 : decode cX5_copies 28 = .ok (.imul, 1) := dk_104 (dk_at dksX5_copies_1 4 rfl rfl)
theorem dX5_copies_29 : decode cX5_copies 29 = .ok (.iload_n 3, 1) := dk_29 (dk_at dksX5_copies_1 5 rfl rfl)
theorem dX5_copies_30 : decode cX5_copies 30 = .ok (.iadd, 1) := dk_96 (dk_at dksX5_copies_1 6 rfl rfl)
theorem dX5_copies_31 : decode cX5_copies 31 = .ok (.iaload, 1) := dk_46 (dk_at dksX5_copies_1 7 rfl rfl)
theorem dX5_copies_32 : decode cX5_copies 32 = .ok (.iastore, 1) := dk_79 (dk_at dksX5_copies_1 8 rfl rfl)
theorem dX5_copies_33 : decode cX5_copies 33 = .ok (.iinc 3 1, 3) := dk_132 3 1 (dk_at dksX5_copies_1 9 rfl rfl)
theorem dX5_copies_36 : decode cX5_copies 36 = .ok (.goto (-34), 3) := dk_167 255 222 (dk_at dksX5_copies_1 12 rfl rfl)
theorem dX5_copies_39 : decode cX5_copies 39 = .ok (.return_, 1) := dk_177 (dk_at dksX5_copies_1 15 rfl rfl)
abbrev cX5_ladderAt : ByteArray := prog_15_method_15_code
def yX5_ladderAt : MethodName := ⟨RX5, "ladderAt", "(I)I"⟩
def dkwX5_ladderAt_1 : List UInt8 := [172, 132, 2, 1, 167, 255, 230, 2, 172]
abbrev dktX5_ladderAt_1 : List UInt8 := dkwX5_ladderAt_1 ++ []
def dkwX5_ladderAt_0 : List UInt8 := [3, 61, 28, 42, 180, 0, 9, 16, 6, 46, 162, 0, 21, 42, 28, 4, 182, 0, 53, 27, 160, 0, 5, 28]
abbrev dktX5_ladderAt_0 : List UInt8 := dkwX5_ladderAt_0 ++ dktX5_ladderAt_1
theorem dksX5_ladderAt_0 : cX5_ladderAt.data.toList.drop 0 = dktX5_ladderAt_0 := by decide +kernel
theorem dksX5_ladderAt_1 : cX5_ladderAt.data.toList.drop 24 = dktX5_ladderAt_1 := dk_seg dksX5_ladderAt_0 24 rfl rfl
theorem dX5_ladderAt_0 : decode cX5_ladderAt 0 = .ok (.iconst 0, 1) := dk_3 (dk_at dksX5_ladderAt_0 0 rfl rfl)
theorem dX5_ladderAt_1 : decode cX5_ladderAt 1 = .ok (.istore_n 2, 1) := dk_61 (dk_at dksX5_ladderAt_0 1 rfl rfl)
theorem dX5_ladderAt_2 : decode cX5_ladderAt 2 = .ok (.iload_n 2, 1) := dk_28 (dk_at dksX5_ladderAt_0 2 rfl rfl)
theorem dX5_ladderAt_3 : decode cX5_ladderAt 3 = .ok (.aload_n 0, 1) := dk_42 (dk_at dksX5_ladderAt_0 3 rfl rfl)
theorem dX5_ladderAt_4 : decode cX5_ladderAt 4 = .ok (.getfield 9, 3) := dk_180 0 9 (dk_at dksX5_ladderAt_0 4 rfl rfl)
theorem dX5_ladderAt_7 : decode cX5_ladderAt 7 = .ok (.bipush 6, 2) := dk_16 6 (dk_at dksX5_ladderAt_0 7 rfl rfl)
theorem dX5_ladderAt_9 : decode cX5_ladderAt 9 = .ok (.iaload, 1) := dk_46 (dk_at dksX5_ladderAt_0 9 rfl rfl)
theorem dX5_ladderAt_10 : decode cX5_ladderAt 10 = .ok (.if_icmp .ge 21, 3) := dk_162 0 21 (dk_at dksX5_ladderAt_0 10 rfl rfl)
theorem dX5_ladderAt_13 : decode cX5_ladderAt 13 = .ok (.aload_n 0, 1) := dk_42 (dk_at dksX5_ladderAt_0 13 rfl rfl)
theorem dX5_ladderAt_14 : decode cX5_ladderAt 14 = .ok (.iload_n 2, 1) := dk_28 (dk_at dksX5_ladderAt_0 14 rfl rfl)
theorem dX5_ladderAt_15 : decode cX5_ladderAt 15 = .ok (.iconst 1, 1) := dk_4 (dk_at dksX5_ladderAt_0 15 rfl rfl)
theorem dX5_ladderAt_16 : decode cX5_ladderAt 16 = .ok (.invokevirtual 53, 3) := dk_182 0 53 (dk_at dksX5_ladderAt_0 16 rfl rfl)
theorem dX5_ladderAt_19 : decode cX5_ladderAt 19 = .ok (.iload_n 1, 1) := dk_27 (dk_at dksX5_ladderAt_0 19 rfl rfl)
theorem dX5_ladderAt_20 : decode cX5_ladderAt 20 = .ok (.if_icmp .ne 5, 3) := dk_160 0 5 (dk_at dksX5_ladderAt_0 20 rfl rfl)
theorem dX5_ladderAt_23 : decode cX5_ladderAt 23 = .ok (.iload_n 2, 1) := dk_28 (dk_at dksX5_ladderAt_0 23 rfl rfl)
theorem dX5_ladderAt_24 : decode cX5_ladderAt 24 = .ok (.ireturn, 1) := dk_172 (dk_at dksX5_ladderAt_1 0 rfl rfl)
theorem dX5_ladderAt_25 : decode cX5_ladderAt 25 = .ok (.iinc 2 1, 3) := dk_132 2 1 (dk_at dksX5_ladderAt_1 1 rfl rfl)
theorem dX5_ladderAt_28 : decode cX5_ladderAt 28 = .ok (.goto (-26), 3) := dk_167 255 230 (dk_at dksX5_ladderAt_1 4 rfl rfl)
theorem dX5_ladderAt_31 : decode cX5_ladderAt 31 = .ok (.iconst (-1), 1) := dk_2 (dk_at dksX5_ladderAt_1 7 rfl rfl)
theorem dX5_ladderAt_32 : decode cX5_ladderAt 32 = .ok (.ireturn, 1) := dk_172 (dk_at dksX5_ladderAt_1 8 rfl rfl)
abbrev cX5_l : ByteArray := prog_15_method_14_code
def yX5_l : MethodName := ⟨RX5, "l", "(II)I"⟩
def dkwX5_l_0 : List UInt8 := [42, 180, 0, 9, 17, 1, 18, 5, 27, 104, 96, 28, 96, 46, 172]
abbrev dktX5_l_0 : List UInt8 := dkwX5_l_0 ++ []
theorem dksX5_l_0 : cX5_l.data.toList.drop 0 = dktX5_l_0 := by decide +kernel
theorem dX5_l_0 : decode cX5_l 0 = .ok (.aload_n 0, 1) := dk_42 (dk_at dksX5_l_0 0 rfl rfl)
theorem dX5_l_1 : decode cX5_l 1 = .ok (.getfield 9, 3) := dk_180 0 9 (dk_at dksX5_l_0 1 rfl rfl)
theorem dX5_l_4 : decode cX5_l 4 = .ok (.sipush 274, 3) := dk_17 1 18 (dk_at dksX5_l_0 4 rfl rfl)
theorem dX5_l_7 : decode cX5_l 7 = .ok (.iconst 2, 1) := dk_5 (dk_at dksX5_l_0 7 rfl rfl)
theorem dX5_l_8 : decode cX5_l 8 = .ok (.iload_n 1, 1) := dk_27 (dk_at dksX5_l_0 8 rfl rfl)
theorem dX5_l_9 : decode cX5_l 9 = .ok (.imul, 1) := dk_104 (dk_at dksX5_l_0 9 rfl rfl)
theorem dX5_l_10 : decode cX5_l 10 = .ok (.iadd, 1) := dk_96 (dk_at dksX5_l_0 10 rfl rfl)
theorem dX5_l_11 : decode cX5_l 11 = .ok (.iload_n 2, 1) := dk_28 (dk_at dksX5_l_0 11 rfl rfl)
theorem dX5_l_12 : decode cX5_l 12 = .ok (.iadd, 1) := dk_96 (dk_at dksX5_l_0 12 rfl rfl)
theorem dX5_l_13 : decode cX5_l 13 = .ok (.iaload, 1) := dk_46 (dk_at dksX5_l_0 13 rfl rfl)
theorem dX5_l_14 : decode cX5_l 14 = .ok (.ireturn, 1) := dk_172 (dk_at dksX5_l_0 14 rfl rfl)
abbrev cX5_keeps : ByteArray := prog_15_method_8_code
def yX5_keeps : MethodName := ⟨RX5, "keeps", "()V"⟩
def dkwX5_keeps_2 : List UInt8 := [4, 96, 181, 0, 34, 42, 16, 8, 42, 180, 0, 34, 182, 0, 30, 177]
abbrev dktX5_keeps_2 : List UInt8 := dkwX5_keeps_2 ++ []
def dkwX5_keeps_1 : List UInt8 := [182, 0, 30, 132, 1, 1, 167, 255, 239, 42, 89, 180, 0, 34, 4, 100, 181, 0, 34, 42, 89, 180, 0, 34]
abbrev dktX5_keeps_1 : List UInt8 := dkwX5_keeps_1 ++ dktX5_keeps_2
def dkwX5_keeps_0 : List UInt8 := [42, 180, 0, 34, 16, 6, 160, 0, 35, 4, 60, 27, 16, 6, 162, 0, 17, 42, 27, 4, 96, 27]
abbrev dktX5_keeps_0 : List UInt8 := dkwX5_keeps_0 ++ dktX5_keeps_1
theorem dksX5_keeps_0 : cX5_keeps.data.toList.drop 0 = dktX5_keeps_0 := by decide +kernel
theorem dksX5_keeps_1 : cX5_keeps.data.toList.drop 22 = dktX5_keeps_1 := dk_seg dksX5_keeps_0 22 rfl rfl
theorem dksX5_keeps_2 : cX5_keeps.data.toList.drop 46 = dktX5_keeps_2 := dk_seg dksX5_keeps_1 24 rfl rfl
theorem dX5_keeps_0 : decode cX5_keeps 0 = .ok (.aload_n 0, 1) := dk_42 (dk_at dksX5_keeps_0 0 rfl rfl)
theorem dX5_keeps_1 : decode cX5_keeps 1 = .ok (.getfield 34, 3) := dk_180 0 34 (dk_at dksX5_keeps_0 1 rfl rfl)
theorem dX5_keeps_4 : decode cX5_keeps 4 = .ok (.bipush 6, 2) := dk_16 6 (dk_at dksX5_keeps_0 4 rfl rfl)
theorem dX5_keeps_6 : decode cX5_keeps 6 = .ok (.if_icmp .ne 35, 3) := dk_160 0 35 (dk_at dksX5_keeps_0 6 rfl rfl)
theorem dX5_keeps_9 : decode cX5_keeps 9 = .ok (.iconst 1, 1) := dk_4 (dk_at dksX5_keeps_0 9 rfl rfl)
theorem dX5_keeps_10 : decode cX5_keeps 10 = .ok (.istore_n 1, 1) := dk_60 (dk_at dksX5_keeps_0 10 rfl rfl)
theorem dX5_keeps_11 : decode cX5_keeps 11 = .ok (.iload_n 1, 1) := dk_27 (dk_at dksX5_keeps_0 11 rfl rfl)
theorem dX5_keeps_12 : decode cX5_keeps 12 = .ok (.bipush 6, 2) := dk_16 6 (dk_at dksX5_keeps_0 12 rfl rfl)
theorem dX5_keeps_14 : decode cX5_keeps 14 = .ok (.if_icmp .ge 17, 3) := dk_162 0 17 (dk_at dksX5_keeps_0 14 rfl rfl)
theorem dX5_keeps_17 : decode cX5_keeps 17 = .ok (.aload_n 0, 1) := dk_42 (dk_at dksX5_keeps_0 17 rfl rfl)
theorem dX5_keeps_18 : decode cX5_keeps 18 = .ok (.iload_n 1, 1) := dk_27 (dk_at dksX5_keeps_0 18 rfl rfl)
theorem dX5_keeps_19 : decode cX5_keeps 19 = .ok (.iconst 1, 1) := dk_4 (dk_at dksX5_keeps_0 19 rfl rfl)
theorem dX5_keeps_20 : decode cX5_keeps 20 = .ok (.iadd, 1) := dk_96 (dk_at dksX5_keeps_0 20 rfl rfl)
theorem dX5_keeps_21 : decode cX5_keeps 21 = .ok (.iload_n 1, 1) := dk_27 (dk_at dksX5_keeps_0 21 rfl rfl)
theorem dX5_keeps_22 : decode cX5_keeps 22 = .ok (.invokevirtual 30, 3) := dk_182 0 30 (dk_at dksX5_keeps_1 0 rfl rfl)
theorem dX5_keeps_25 : decode cX5_keeps 25 = .ok (.iinc 1 1, 3) := dk_132 1 1 (dk_at dksX5_keeps_1 3 rfl rfl)
theorem dX5_keeps_28 : decode cX5_keeps 28 = .ok (.goto (-17), 3) := dk_167 255 239 (dk_at dksX5_keeps_1 6 rfl rfl)
theorem dX5_keeps_31 : decode cX5_keeps 31 = .ok (.aload_n 0, 1) := dk_42 (dk_at dksX5_keeps_1 9 rfl rfl)
theorem dX5_keeps_32 : decode cX5_keeps 32 = .ok (.dup, 1) := dk_89 (dk_at dksX5_keeps_1 10 rfl rfl)
theorem dX5_keeps_33 : decode cX5_keeps 33 = .ok (.getfield 34, 3) := dk_180 0 34 (dk_at dksX5_keeps_1 11 rfl rfl)
theorem dX5_keeps_36 : decode cX5_keeps 36 = .ok (.iconst 1, 1) := dk_4 (dk_at dksX5_keeps_1 14 rfl rfl)
theorem dX5_keeps_37 : decode cX5_keeps 37 = .ok (.isub, 1) := dk_100 (dk_at dksX5_keeps_1 15 rfl rfl)
theorem dX5_keeps_38 : decode cX5_keeps 38 = .ok (.putfield 34, 3) := dk_181 0 34 (dk_at dksX5_keeps_1 16 rfl rfl)
theorem dX5_keeps_41 : decode cX5_keeps 41 = .ok (.aload_n 0, 1) := dk_42 (dk_at dksX5_keeps_1 19 rfl rfl)
theorem dX5_keeps_42 : decode cX5_keeps 42 = .ok (.dup, 1) := dk_89 (dk_at dksX5_keeps_1 20 rfl rfl)
theorem dX5_keeps_43 : decode cX5_keeps 43 = .ok (.getfield 34, 3) := dk_180 0 34 (dk_at dksX5_keeps_1 21 rfl rfl)
theorem dX5_keeps_46 : decode cX5_keeps 46 = .ok (.iconst 1, 1) := dk_4 (dk_at dksX5_keeps_2 0 rfl rfl)
theorem dX5_keeps_47 : decode cX5_keeps 47 = .ok (.iadd, 1) := dk_96 (dk_at dksX5_keeps_2 1 rfl rfl)
theorem dX5_keeps_48 : decode cX5_keeps 48 = .ok (.putfield 34, 3) := dk_181 0 34 (dk_at dksX5_keeps_2 2 rfl rfl)
theorem dX5_keeps_51 : decode cX5_keeps 51 = .ok (.aload_n 0, 1) := dk_42 (dk_at dksX5_keeps_2 5 rfl rfl)
theorem dX5_keeps_52 : decode cX5_keeps 52 = .ok (.bipush 8, 2) := dk_16 8 (dk_at dksX5_keeps_2 6 rfl rfl)
theorem dX5_keeps_54 : decode cX5_keeps 54 = .ok (.aload_n 0, 1) := dk_42 (dk_at dksX5_keeps_2 8 rfl rfl)
theorem dX5_keeps_55 : decode cX5_keeps 55 = .ok (.getfield 34, 3) := dk_180 0 34 (dk_at dksX5_keeps_2 9 rfl rfl)
theorem dX5_keeps_58 : decode cX5_keeps 58 = .ok (.invokevirtual 30, 3) := dk_182 0 30 (dk_at dksX5_keeps_2 12 rfl rfl)
theorem dX5_keeps_61 : decode cX5_keeps 61 = .ok (.return_, 1) := dk_177 (dk_at dksX5_keeps_2 15 rfl rfl)
abbrev cX5_push : ByteArray := prog_15_method_18_code
def yX5_push : MethodName := ⟨RX5, "push", "(II)I"⟩
def dkwX5_push_0 : List UInt8 := [42, 182, 0, 61, 42, 42, 27, 28, 182, 0, 75, 4, 5, 6, 182, 0, 78, 172]
abbrev dktX5_push_0 : List UInt8 := dkwX5_push_0 ++ []
theorem dksX5_push_0 : cX5_push.data.toList.drop 0 = dktX5_push_0 := by decide +kernel
theorem dX5_push_0 : decode cX5_push 0 = .ok (.aload_n 0, 1) := dk_42 (dk_at dksX5_push_0 0 rfl rfl)
theorem dX5_push_1 : decode cX5_push 1 = .ok (.invokevirtual 61, 3) := dk_182 0 61 (dk_at dksX5_push_0 1 rfl rfl)
theorem dX5_push_4 : decode cX5_push 4 = .ok (.aload_n 0, 1) := dk_42 (dk_at dksX5_push_0 4 rfl rfl)
theorem dX5_push_5 : decode cX5_push 5 = .ok (.aload_n 0, 1) := dk_42 (dk_at dksX5_push_0 5 rfl rfl)
theorem dX5_push_6 : decode cX5_push 6 = .ok (.iload_n 1, 1) := dk_27 (dk_at dksX5_push_0 6 rfl rfl)
theorem dX5_push_7 : decode cX5_push 7 = .ok (.iload_n 2, 1) := dk_28 (dk_at dksX5_push_0 7 rfl rfl)
theorem dX5_push_8 : decode cX5_push 8 = .ok (.invokevirtual 75, 3) := dk_182 0 75 (dk_at dksX5_push_0 8 rfl rfl)
theorem dX5_push_11 : decode cX5_push 11 = .ok (.iconst 1, 1) := dk_4 (dk_at dksX5_push_0 11 rfl rfl)
theorem dX5_push_12 : decode cX5_push 12 = .ok (.iconst 2, 1) := dk_5 (dk_at dksX5_push_0 12 rfl rfl)
theorem dX5_push_13 : decode cX5_push 13 = .ok (.iconst 3, 1) := dk_6 (dk_at dksX5_push_0 13 rfl rfl)
theorem dX5_push_14 : decode cX5_push 14 = .ok (.invokevirtual 78, 3) := dk_182 0 78 (dk_at dksX5_push_0 14 rfl rfl)
theorem dX5_push_17 : decode cX5_push 17 = .ok (.ireturn, 1) := dk_172 (dk_at dksX5_push_0 17 rfl rfl)
abbrev cX5_pushes : ByteArray := prog_15_method_17_code
def yX5_pushes : MethodName := ⟨RX5, "pushes", "(II)I"⟩
def dkwX5_pushes_3 : List UInt8 := [104, 96, 4, 96, 28, 79, 3, 172]
abbrev dktX5_pushes_3 : List UInt8 := dkwX5_pushes_3 ++ []
def dkwX5_pushes_2 : List UInt8 := [153, 0, 5, 6, 172, 42, 42, 27, 4, 182, 0, 53, 181, 0, 40, 42, 180, 0, 9, 17, 1, 18, 5, 27]
abbrev dktX5_pushes_2 : List UInt8 := dkwX5_pushes_2 ++ dktX5_pushes_3
def dkwX5_pushes_1 : List UInt8 := [62, 42, 29, 2, 159, 0, 12, 29, 27, 159, 0, 7, 4, 167, 0, 4, 3, 7, 29, 182, 0, 57]
abbrev dktX5_pushes_1 : List UInt8 := dkwX5_pushes_1 ++ dktX5_pushes_2
def dkwX5_pushes_0 : List UInt8 := [42, 27, 182, 0, 68, 154, 0, 5, 4, 172, 28, 184, 0, 72, 154, 0, 5, 5, 172, 42, 28, 182, 0, 64]
abbrev dktX5_pushes_0 : List UInt8 := dkwX5_pushes_0 ++ dktX5_pushes_1
theorem dksX5_pushes_0 : cX5_pushes.data.toList.drop 0 = dktX5_pushes_0 := by decide +kernel
theorem dksX5_pushes_1 : cX5_pushes.data.toList.drop 24 = dktX5_pushes_1 := dk_seg dksX5_pushes_0 24 rfl rfl
theorem dksX5_pushes_2 : cX5_pushes.data.toList.drop 46 = dktX5_pushes_2 := dk_seg dksX5_pushes_1 22 rfl rfl
theorem dksX5_pushes_3 : cX5_pushes.data.toList.drop 70 = dktX5_pushes_3 := dk_seg dksX5_pushes_2 24 rfl rfl
theorem dX5_pushes_0 : decode cX5_pushes 0 = .ok (.aload_n 0, 1) := dk_42 (dk_at dksX5_pushes_0 0 rfl rfl)
theorem dX5_pushes_1 : decode cX5_pushes 1 = .ok (.iload_n 1, 1) := dk_27 (dk_at dksX5_pushes_0 1 rfl rfl)
theorem dX5_pushes_2 : decode cX5_pushes 2 = .ok (.invokevirtual 68, 3) := dk_182 0 68 (dk_at dksX5_pushes_0 2 rfl rfl)
theorem dX5_pushes_5 : decode cX5_pushes 5 = .ok (.ifCond .ne 5, 3) := dk_154 0 5 (dk_at dksX5_pushes_0 5 rfl rfl)
theorem dX5_pushes_8 : decode cX5_pushes 8 = .ok (.iconst 1, 1) := dk_4 (dk_at dksX5_pushes_0 8 rfl rfl)
theorem dX5_pushes_9 : decode cX5_pushes 9 = .ok (.ireturn, 1) := dk_172 (dk_at dksX5_pushes_0 9 rfl rfl)
theorem dX5_pushes_10 : decode cX5_pushes 10 = .ok (.iload_n 2, 1) := dk_28 (dk_at dksX5_pushes_0 10 rfl rfl)
theorem dX5_pushes_11 : decode cX5_pushes 11 = .ok (.invokestatic 72, 3) := dk_184 0 72 (dk_at dksX5_pushes_0 11 rfl rfl)
theorem dX5_pushes_14 : decode cX5_pushes 14 = .ok (.ifCond .ne 5, 3) := dk_154 0 5 (dk_at dksX5_pushes_0 14 rfl rfl)
theorem dX5_pushes_17 : decode cX5_pushes 17 = .ok (.iconst 2, 1) := dk_5 (dk_at dksX5_pushes_0 17 rfl rfl)
theorem dX5_pushes_18 : decode cX5_pushes 18 = .ok (.ireturn, 1) := dk_172 (dk_at dksX5_pushes_0 18 rfl rfl)
theorem dX5_pushes_19 : decode cX5_pushes 19 = .ok (.aload_n 0, 1) := dk_42 (dk_at dksX5_pushes_0 19 rfl rfl)
theorem dX5_pushes_20 : decode cX5_pushes 20 = .ok (.iload_n 2, 1) := dk_28 (dk_at dksX5_pushes_0 20 rfl rfl)
theorem dX5_pushes_21 : decode cX5_pushes 21 = .ok (.invokevirtual 64, 3) := dk_182 0 64 (dk_at dksX5_pushes_0 21 rfl rfl)
theorem dX5_pushes_24 : decode cX5_pushes 24 = .ok (.istore_n 3, 1) := dk_62 (dk_at dksX5_pushes_1 0 rfl rfl)
theorem dX5_pushes_25 : decode cX5_pushes 25 = .ok (.aload_n 0, 1) := dk_42 (dk_at dksX5_pushes_1 1 rfl rfl)
theorem dX5_pushes_26 : decode cX5_pushes 26 = .ok (.iload_n 3, 1) := dk_29 (dk_at dksX5_pushes_1 2 rfl rfl)
theorem dX5_pushes_27 : decode cX5_pushes 27 = .ok (.iconst (-1), 1) := dk_2 (dk_at dksX5_pushes_1 3 rfl rfl)
theorem dX5_pushes_28 : decode cX5_pushes 28 = .ok (.if_icmp .eq 12, 3) := dk_159 0 12 (dk_at dksX5_pushes_1 4 rfl rfl)
theorem dX5_pushes_31 : decode cX5_pushes 31 = .ok (.iload_n 3, 1) := dk_29 (dk_at dksX5_pushes_1 7 rfl rfl)
theorem dX5_pushes_32 : decode cX5_pushes 32 = .ok (.iload_n 1, 1) := dk_27 (dk_at dksX5_pushes_1 8 rfl rfl)
theorem dX5_pushes_33 : decode cX5_pushes 33 = .ok (.if_icmp .eq 7, 3) := dk_159 0 7 (dk_at dksX5_pushes_1 9 rfl rfl)
theorem dX5_pushes_36 : decode cX5_pushes 36 = .ok (.iconst 1, 1) := dk_4 (dk_at dksX5_pushes_1 12 rfl rfl)
theorem dX5_pushes_37 : decode cX5_pushes 37 = .ok (.goto 4, 3) := dk_167 0 4 (dk_at dksX5_pushes_1 13 rfl rfl)
theorem dX5_pushes_40 : decode cX5_pushes 40 = .ok (.iconst 0, 1) := dk_3 (dk_at dksX5_pushes_1 16 rfl rfl)
theorem dX5_pushes_41 : decode cX5_pushes 41 = .ok (.iconst 4, 1) := dk_7 (dk_at dksX5_pushes_1 17 rfl rfl)
theorem dX5_pushes_42 : decode cX5_pushes 42 = .ok (.iload_n 3, 1) := dk_29 (dk_at dksX5_pushes_1 18 rfl rfl)
theorem dX5_pushes_43 : decode cX5_pushes 43 = .ok (.invokevirtual 57, 3) := dk_182 0 57 (dk_at dksX5_pushes_1 19 rfl rfl)
theorem dX5_pushes_46 : decode cX5_pushes 46 = .ok (.ifCond .eq 5, 3) := dk_153 0 5 (dk_at dksX5_pushes_2 0 rfl rfl)
theorem dX5_pushes_49 : decode cX5_pushes 49 = .ok (.iconst 3, 1) := dk_6 (dk_at dksX5_pushes_2 3 rfl rfl)
theorem dX5_pushes_50 : decode cX5_pushes 50 = .ok (.ireturn, 1) := dk_172 (dk_at dksX5_pushes_2 4 rfl rfl)
theorem dX5_pushes_51 : decode cX5_pushes 51 = .ok (.aload_n 0, 1) := dk_42 (dk_at dksX5_pushes_2 5 rfl rfl)
theorem dX5_pushes_52 : decode cX5_pushes 52 = .ok (.aload_n 0, 1) := dk_42 (dk_at dksX5_pushes_2 6 rfl rfl)
theorem dX5_pushes_53 : decode cX5_pushes 53 = .ok (.iload_n 1, 1) := dk_27 (dk_at dksX5_pushes_2 7 rfl rfl)
theorem dX5_pushes_54 : decode cX5_pushes 54 = .ok (.iconst 1, 1) := dk_4 (dk_at dksX5_pushes_2 8 rfl rfl)
theorem dX5_pushes_55 : decode cX5_pushes 55 = .ok (.invokevirtual 53, 3) := dk_182 0 53 (dk_at dksX5_pushes_2 9 rfl rfl)
theorem dX5_pushes_58 : decode cX5_pushes 58 = .ok (.putfield 40, 3) := dk_181 0 40 (dk_at dksX5_pushes_2 12 rfl rfl)
theorem dX5_pushes_61 : decode cX5_pushes 61 = .ok (.aload_n 0, 1) := dk_42 (dk_at dksX5_pushes_2 15 rfl rfl)
theorem dX5_pushes_62 : decode cX5_pushes 62 = .ok (.getfield 9, 3) := dk_180 0 9 (dk_at dksX5_pushes_2 16 rfl rfl)
theorem dX5_pushes_65 : decode cX5_pushes 65 = .ok (.sipush 274, 3) := dk_17 1 18 (dk_at dksX5_pushes_2 19 rfl rfl)
theorem dX5_pushes_68 : decode cX5_pushes 68 = .ok (.iconst 2, 1) := dk_5 (dk_at dksX5_pushes_2 22 rfl rfl)
theorem dX5_pushes_69 : decode cX5_pushes 69 = .ok (.iload_n 1, 1) := dk_27 (dk_at dksX5_pushes_2 23 rfl rfl)
theorem dX5_pushes_70 : decode cX5_pushes 70 = .ok (.imul, 1) := dk_104 (dk_at dksX5_pushes_3 0 rfl rfl)
theorem dX5_pushes_71 : decode cX5_pushes 71 = .ok (.iadd, 1) := dk_96 (dk_at dksX5_pushes_3 1 rfl rfl)
theorem dX5_pushes_72 : decode cX5_pushes 72 = .ok (.iconst 1, 1) := dk_4 (dk_at dksX5_pushes_3 2 rfl rfl)
theorem dX5_pushes_73 : decode cX5_pushes 73 = .ok (.iadd, 1) := dk_96 (dk_at dksX5_pushes_3 3 rfl rfl)
theorem dX5_pushes_74 : decode cX5_pushes 74 = .ok (.iload_n 2, 1) := dk_28 (dk_at dksX5_pushes_3 4 rfl rfl)
theorem dX5_pushes_75 : decode cX5_pushes 75 = .ok (.iastore, 1) := dk_79 (dk_at dksX5_pushes_3 5 rfl rfl)
theorem dX5_pushes_76 : decode cX5_pushes 76 = .ok (.iconst 0, 1) := dk_3 (dk_at dksX5_pushes_3 6 rfl rfl)
theorem dX5_pushes_77 : decode cX5_pushes 77 = .ok (.ireturn, 1) := dk_172 (dk_at dksX5_pushes_3 7 rfl rfl)
abbrev cX5_isLadder : ByteArray := prog_15_method_13_code
def yX5_isLadder : MethodName := ⟨RX5, "isLadder", "(I)Z"⟩
def dkwX5_isLadder_0 : List UInt8 := [27, 3, 42, 180, 0, 9, 16, 6, 46, 4, 100, 184, 0, 49, 172]
abbrev dktX5_isLadder_0 : List UInt8 := dkwX5_isLadder_0 ++ []
theorem dksX5_isLadder_0 : cX5_isLadder.data.toList.drop 0 = dktX5_isLadder_0 := by decide +kernel
theorem dX5_isLadder_0 : decode cX5_isLadder 0 = .ok (.iload_n 1, 1) := dk_27 (dk_at dksX5_isLadder_0 0 rfl rfl)
theorem dX5_isLadder_1 : decode cX5_isLadder 1 = .ok (.iconst 0, 1) := dk_3 (dk_at dksX5_isLadder_0 1 rfl rfl)
theorem dX5_isLadder_2 : decode cX5_isLadder 2 = .ok (.aload_n 0, 1) := dk_42 (dk_at dksX5_isLadder_0 2 rfl rfl)
theorem dX5_isLadder_3 : decode cX5_isLadder 3 = .ok (.getfield 9, 3) := dk_180 0 9 (dk_at dksX5_isLadder_0 3 rfl rfl)
theorem dX5_isLadder_6 : decode cX5_isLadder 6 = .ok (.bipush 6, 2) := dk_16 6 (dk_at dksX5_isLadder_0 6 rfl rfl)
theorem dX5_isLadder_8 : decode cX5_isLadder 8 = .ok (.iaload, 1) := dk_46 (dk_at dksX5_isLadder_0 8 rfl rfl)
theorem dX5_isLadder_9 : decode cX5_isLadder 9 = .ok (.iconst 1, 1) := dk_4 (dk_at dksX5_isLadder_0 9 rfl rfl)
theorem dX5_isLadder_10 : decode cX5_isLadder 10 = .ok (.isub, 1) := dk_100 (dk_at dksX5_isLadder_0 10 rfl rfl)
theorem dX5_isLadder_11 : decode cX5_isLadder 11 = .ok (.invokestatic 49, 3) := dk_184 0 49 (dk_at dksX5_isLadder_0 11 rfl rfl)
theorem dX5_isLadder_14 : decode cX5_isLadder 14 = .ok (.ireturn, 1) := dk_172 (dk_at dksX5_isLadder_0 14 rfl rfl)
abbrev cX5_isAisle : ByteArray := prog_15_method_12_code
def yX5_isAisle : MethodName := ⟨RX5, "isAisle", "(I)Z"⟩
def dkwX5_isAisle_0 : List UInt8 := [26, 3, 7, 184, 0, 49, 172]
abbrev dktX5_isAisle_0 : List UInt8 := dkwX5_isAisle_0 ++ []
theorem dksX5_isAisle_0 : cX5_isAisle.data.toList.drop 0 = dktX5_isAisle_0 := by decide +kernel
theorem dX5_isAisle_0 : decode cX5_isAisle 0 = .ok (.iload_n 0, 1) := dk_26 (dk_at dksX5_isAisle_0 0 rfl rfl)
theorem dX5_isAisle_1 : decode cX5_isAisle 1 = .ok (.iconst 0, 1) := dk_3 (dk_at dksX5_isAisle_0 1 rfl rfl)
theorem dX5_isAisle_2 : decode cX5_isAisle 2 = .ok (.iconst 4, 1) := dk_7 (dk_at dksX5_isAisle_0 2 rfl rfl)
theorem dX5_isAisle_3 : decode cX5_isAisle 3 = .ok (.invokestatic 49, 3) := dk_184 0 49 (dk_at dksX5_isAisle_0 3 rfl rfl)
theorem dX5_isAisle_6 : decode cX5_isAisle 6 = .ok (.ireturn, 1) := dk_172 (dk_at dksX5_isAisle_0 6 rfl rfl)
abbrev cX5_ends : ByteArray := prog_15_method_9_code
def yX5_ends : MethodName := ⟨RX5, "ends", "(IIII)I"⟩
def dkwX5_ends_2 : List UInt8 := [182, 0, 37, 42, 180, 0, 40, 172]
abbrev dktX5_ends_2 : List UInt8 := dkwX5_ends_2 ++ []
def dkwX5_ends_1 : List UInt8 := [167, 0, 5, 21, 4, 181, 0, 27, 27, 153, 0, 12, 42, 16, 8, 3, 182, 0, 30, 3, 172, 42]
abbrev dktX5_ends_1 : List UInt8 := dkwX5_ends_1 ++ dktX5_ends_2
def dkwX5_ends_0 : List UInt8 := [42, 27, 154, 0, 7, 3, 167, 0, 23, 27, 4, 160, 0, 7, 28, 167, 0, 14, 27, 5, 160, 0, 7, 29]
abbrev dktX5_ends_0 : List UInt8 := dkwX5_ends_0 ++ dktX5_ends_1
theorem dksX5_ends_0 : cX5_ends.data.toList.drop 0 = dktX5_ends_0 := by decide +kernel
theorem dksX5_ends_1 : cX5_ends.data.toList.drop 24 = dktX5_ends_1 := dk_seg dksX5_ends_0 24 rfl rfl
theorem dksX5_ends_2 : cX5_ends.data.toList.drop 46 = dktX5_ends_2 := dk_seg dksX5_ends_1 22 rfl rfl
theorem dX5_ends_0 : decode cX5_ends 0 = .ok (.aload_n 0, 1) := dk_42 (dk_at dksX5_ends_0 0 rfl rfl)
theorem dX5_ends_1 : decode cX5_ends 1 = .ok (.iload_n 1, 1) := dk_27 (dk_at dksX5_ends_0 1 rfl rfl)
theorem dX5_ends_2 : decode cX5_ends 2 = .ok (.ifCond .ne 7, 3) := dk_154 0 7 (dk_at dksX5_ends_0 2 rfl rfl)
theorem dX5_ends_5 : decode cX5_ends 5 = .ok (.iconst 0, 1) := dk_3 (dk_at dksX5_ends_0 5 rfl rfl)
theorem dX5_ends_6 : decode cX5_ends 6 = .ok (.goto 23, 3) := dk_167 0 23 (dk_at dksX5_ends_0 6 rfl rfl)
theorem dX5_ends_9 : decode cX5_ends 9 = .ok (.iload_n 1, 1) := dk_27 (dk_at dksX5_ends_0 9 rfl rfl)
theorem dX5_ends_10 : decode cX5_ends 10 = .ok (.iconst 1, 1) := dk_4 (dk_at dksX5_ends_0 10 rfl rfl)
theorem dX5_ends_11 : decode cX5_ends 11 = .ok (.if_icmp .ne 7, 3) := dk_160 0 7 (dk_at dksX5_ends_0 11 rfl rfl)
theorem dX5_ends_14 : decode cX5_ends 14 = .ok (.iload_n 2, 1) := dk_28 (dk_at dksX5_ends_0 14 rfl rfl)
theorem dX5_ends_15 : decode cX5_ends 15 = .ok (.goto 14, 3) := dk_167 0 14 (dk_at dksX5_ends_0 15 rfl rfl)
theorem dX5_ends_18 : decode cX5_ends 18 = .ok (.iload_n 1, 1) := dk_27 (dk_at dksX5_ends_0 18 rfl rfl)
theorem dX5_ends_19 : decode cX5_ends 19 = .ok (.iconst 2, 1) := dk_5 (dk_at dksX5_ends_0 19 rfl rfl)
theorem dX5_ends_20 : decode cX5_ends 20 = .ok (.if_icmp .ne 7, 3) := dk_160 0 7 (dk_at dksX5_ends_0 20 rfl rfl)
theorem dX5_ends_23 : decode cX5_ends 23 = .ok (.iload_n 3, 1) := dk_29 (dk_at dksX5_ends_0 23 rfl rfl)
theorem dX5_ends_24 : decode cX5_ends 24 = .ok (.goto 5, 3) := dk_167 0 5 (dk_at dksX5_ends_1 0 rfl rfl)
theorem dX5_ends_27 : decode cX5_ends 27 = .ok (.iload 4, 2) := dk_21 4 (dk_at dksX5_ends_1 3 rfl rfl)
theorem dX5_ends_29 : decode cX5_ends 29 = .ok (.putfield 27, 3) := dk_181 0 27 (dk_at dksX5_ends_1 5 rfl rfl)
theorem dX5_ends_32 : decode cX5_ends 32 = .ok (.iload_n 1, 1) := dk_27 (dk_at dksX5_ends_1 8 rfl rfl)
theorem dX5_ends_33 : decode cX5_ends 33 = .ok (.ifCond .eq 12, 3) := dk_153 0 12 (dk_at dksX5_ends_1 9 rfl rfl)
theorem dX5_ends_36 : decode cX5_ends 36 = .ok (.aload_n 0, 1) := dk_42 (dk_at dksX5_ends_1 12 rfl rfl)
theorem dX5_ends_37 : decode cX5_ends 37 = .ok (.bipush 8, 2) := dk_16 8 (dk_at dksX5_ends_1 13 rfl rfl)
theorem dX5_ends_39 : decode cX5_ends 39 = .ok (.iconst 0, 1) := dk_3 (dk_at dksX5_ends_1 15 rfl rfl)
theorem dX5_ends_40 : decode cX5_ends 40 = .ok (.invokevirtual 30, 3) := dk_182 0 30 (dk_at dksX5_ends_1 16 rfl rfl)
theorem dX5_ends_43 : decode cX5_ends 43 = .ok (.iconst 0, 1) := dk_3 (dk_at dksX5_ends_1 19 rfl rfl)
theorem dX5_ends_44 : decode cX5_ends 44 = .ok (.ireturn, 1) := dk_172 (dk_at dksX5_ends_1 20 rfl rfl)
theorem dX5_ends_45 : decode cX5_ends 45 = .ok (.aload_n 0, 1) := dk_42 (dk_at dksX5_ends_1 21 rfl rfl)
theorem dX5_ends_46 : decode cX5_ends 46 = .ok (.invokevirtual 37, 3) := dk_182 0 37 (dk_at dksX5_ends_2 0 rfl rfl)
theorem dX5_ends_49 : decode cX5_ends 49 = .ok (.aload_n 0, 1) := dk_42 (dk_at dksX5_ends_2 3 rfl rfl)
theorem dX5_ends_50 : decode cX5_ends 50 = .ok (.getfield 40, 3) := dk_180 0 40 (dk_at dksX5_ends_2 4 rfl rfl)
theorem dX5_ends_53 : decode cX5_ends 53 = .ok (.ireturn, 1) := dk_172 (dk_at dksX5_ends_2 7 rfl rfl)
abbrev cX5_ladderOf : ByteArray := prog_15_method_19_code
def yX5_ladderOf : MethodName := ⟨RX5, "ladderOf", "(IZ)I"⟩
def dkwX5_ladderOf_1 : List UInt8 := [42, 27, 28, 153, 0, 7, 3, 167, 0, 4, 4, 182, 0, 53, 167, 0, 4, 3, 172]
abbrev dktX5_ladderOf_1 : List UInt8 := dkwX5_ladderOf_1 ++ []
def dkwX5_ladderOf_0 : List UInt8 := [42, 42, 27, 182, 0, 68, 153, 0, 7, 3, 167, 0, 4, 4, 181, 0, 27, 42, 180, 0, 27, 154, 0, 20]
abbrev dktX5_ladderOf_0 : List UInt8 := dkwX5_ladderOf_0 ++ dktX5_ladderOf_1
theorem dksX5_ladderOf_0 : cX5_ladderOf.data.toList.drop 0 = dktX5_ladderOf_0 := by decide +kernel
theorem dksX5_ladderOf_1 : cX5_ladderOf.data.toList.drop 24 = dktX5_ladderOf_1 := dk_seg dksX5_ladderOf_0 24 rfl rfl
theorem dX5_ladderOf_0 : decode cX5_ladderOf 0 = .ok (.aload_n 0, 1) := dk_42 (dk_at dksX5_ladderOf_0 0 rfl rfl)
theorem dX5_ladderOf_1 : decode cX5_ladderOf 1 = .ok (.aload_n 0, 1) := dk_42 (dk_at dksX5_ladderOf_0 1 rfl rfl)
theorem dX5_ladderOf_2 : decode cX5_ladderOf 2 = .ok (.iload_n 1, 1) := dk_27 (dk_at dksX5_ladderOf_0 2 rfl rfl)
theorem dX5_ladderOf_3 : decode cX5_ladderOf 3 = .ok (.invokevirtual 68, 3) := dk_182 0 68 (dk_at dksX5_ladderOf_0 3 rfl rfl)
theorem dX5_ladderOf_6 : decode cX5_ladderOf 6 = .ok (.ifCond .eq 7, 3) := dk_153 0 7 (dk_at dksX5_ladderOf_0 6 rfl rfl)
theorem dX5_ladderOf_9 : decode cX5_ladderOf 9 = .ok (.iconst 0, 1) := dk_3 (dk_at dksX5_ladderOf_0 9 rfl rfl)
theorem dX5_ladderOf_10 : decode cX5_ladderOf 10 = .ok (.goto 4, 3) := dk_167 0 4 (dk_at dksX5_ladderOf_0 10 rfl rfl)
theorem dX5_ladderOf_13 : decode cX5_ladderOf 13 = .ok (.iconst 1, 1) := dk_4 (dk_at dksX5_ladderOf_0 13 rfl rfl)
theorem dX5_ladderOf_14 : decode cX5_ladderOf 14 = .ok (.putfield 27, 3) := dk_181 0 27 (dk_at dksX5_ladderOf_0 14 rfl rfl)
theorem dX5_ladderOf_17 : decode cX5_ladderOf 17 = .ok (.aload_n 0, 1) := dk_42 (dk_at dksX5_ladderOf_0 17 rfl rfl)
theorem dX5_ladderOf_18 : decode cX5_ladderOf 18 = .ok (.getfield 27, 3) := dk_180 0 27 (dk_at dksX5_ladderOf_0 18 rfl rfl)
theorem dX5_ladderOf_21 : decode cX5_ladderOf 21 = .ok (.ifCond .ne 20, 3) := dk_154 0 20 (dk_at dksX5_ladderOf_0 21 rfl rfl)
theorem dX5_ladderOf_24 : decode cX5_ladderOf 24 = .ok (.aload_n 0, 1) := dk_42 (dk_at dksX5_ladderOf_1 0 rfl rfl)
theorem dX5_ladderOf_25 : decode cX5_ladderOf 25 = .ok (.iload_n 1, 1) := dk_27 (dk_at dksX5_ladderOf_1 1 rfl rfl)
theorem dX5_ladderOf_26 : decode cX5_ladderOf 26 = .ok (.iload_n 2, 1) := dk_28 (dk_at dksX5_ladderOf_1 2 rfl rfl)
theorem dX5_ladderOf_27 : decode cX5_ladderOf 27 = .ok (.ifCond .eq 7, 3) := dk_153 0 7 (dk_at dksX5_ladderOf_1 3 rfl rfl)
theorem dX5_ladderOf_30 : decode cX5_ladderOf 30 = .ok (.iconst 0, 1) := dk_3 (dk_at dksX5_ladderOf_1 6 rfl rfl)
theorem dX5_ladderOf_31 : decode cX5_ladderOf 31 = .ok (.goto 4, 3) := dk_167 0 4 (dk_at dksX5_ladderOf_1 7 rfl rfl)
theorem dX5_ladderOf_34 : decode cX5_ladderOf 34 = .ok (.iconst 1, 1) := dk_4 (dk_at dksX5_ladderOf_1 10 rfl rfl)
theorem dX5_ladderOf_35 : decode cX5_ladderOf 35 = .ok (.invokevirtual 53, 3) := dk_182 0 53 (dk_at dksX5_ladderOf_1 11 rfl rfl)
theorem dX5_ladderOf_38 : decode cX5_ladderOf 38 = .ok (.goto 4, 3) := dk_167 0 4 (dk_at dksX5_ladderOf_1 14 rfl rfl)
theorem dX5_ladderOf_41 : decode cX5_ladderOf 41 = .ok (.iconst 0, 1) := dk_3 (dk_at dksX5_ladderOf_1 17 rfl rfl)
theorem dX5_ladderOf_42 : decode cX5_ladderOf 42 = .ok (.ireturn, 1) := dk_172 (dk_at dksX5_ladderOf_1 18 rfl rfl)
abbrev cX5_store : ByteArray := prog_15_method_28_code
def yX5_store : MethodName := ⟨RX5, "store", "(IIIII)I"⟩
def dkwX5_store_0 : List UInt8 := [42, 182, 0, 61, 42, 42, 27, 28, 29, 21, 4, 21, 5, 182, 0, 103, 4, 5, 6, 182, 0, 78, 172]
abbrev dktX5_store_0 : List UInt8 := dkwX5_store_0 ++ []
theorem dksX5_store_0 : cX5_store.data.toList.drop 0 = dktX5_store_0 := by decide +kernel
theorem dX5_store_0 : decode cX5_store 0 = .ok (.aload_n 0, 1) := dk_42 (dk_at dksX5_store_0 0 rfl rfl)
theorem dX5_store_1 : decode cX5_store 1 = .ok (.invokevirtual 61, 3) := dk_182 0 61 (dk_at dksX5_store_0 1 rfl rfl)
theorem dX5_store_4 : decode cX5_store 4 = .ok (.aload_n 0, 1) := dk_42 (dk_at dksX5_store_0 4 rfl rfl)
theorem dX5_store_5 : decode cX5_store 5 = .ok (.aload_n 0, 1) := dk_42 (dk_at dksX5_store_0 5 rfl rfl)
theorem dX5_store_6 : decode cX5_store 6 = .ok (.iload_n 1, 1) := dk_27 (dk_at dksX5_store_0 6 rfl rfl)
theorem dX5_store_7 : decode cX5_store 7 = .ok (.iload_n 2, 1) := dk_28 (dk_at dksX5_store_0 7 rfl rfl)
theorem dX5_store_8 : decode cX5_store 8 = .ok (.iload_n 3, 1) := dk_29 (dk_at dksX5_store_0 8 rfl rfl)
theorem dX5_store_9 : decode cX5_store 9 = .ok (.iload 4, 2) := dk_21 4 (dk_at dksX5_store_0 9 rfl rfl)
theorem dX5_store_11 : decode cX5_store 11 = .ok (.iload 5, 2) := dk_21 5 (dk_at dksX5_store_0 11 rfl rfl)
theorem dX5_store_13 : decode cX5_store 13 = .ok (.invokevirtual 103, 3) := dk_182 0 103 (dk_at dksX5_store_0 13 rfl rfl)
theorem dX5_store_16 : decode cX5_store 16 = .ok (.iconst 1, 1) := dk_4 (dk_at dksX5_store_0 16 rfl rfl)
theorem dX5_store_17 : decode cX5_store 17 = .ok (.iconst 2, 1) := dk_5 (dk_at dksX5_store_0 17 rfl rfl)
theorem dX5_store_18 : decode cX5_store 18 = .ok (.iconst 3, 1) := dk_6 (dk_at dksX5_store_0 18 rfl rfl)
theorem dX5_store_19 : decode cX5_store 19 = .ok (.invokevirtual 78, 3) := dk_182 0 78 (dk_at dksX5_store_0 19 rfl rfl)
theorem dX5_store_22 : decode cX5_store 22 = .ok (.ireturn, 1) := dk_172 (dk_at dksX5_store_0 22 rfl rfl)
abbrev cX5_stores : ByteArray := prog_15_method_27_code
def yX5_stores : MethodName := ⟨RX5, "stores", "(IIIII)I"⟩
def dkwX5_stores_9 : List UInt8 := [180, 0, 9, 8, 92, 46, 4, 96, 79, 42, 21, 6, 181, 0, 40, 3, 172]
abbrev dktX5_stores_9 : List UInt8 := dkwX5_stores_9 ++ []
def dkwX5_stores_8 : List UInt8 := [182, 0, 99, 42, 21, 6, 16, 6, 21, 8, 182, 0, 99, 42, 21, 6, 16, 7, 3, 182, 0, 99, 42]
abbrev dktX5_stores_8 : List UInt8 := dkwX5_stores_8 ++ dktX5_stores_9
def dkwX5_stores_7 : List UInt8 := [21, 6, 6, 21, 5, 182, 0, 99, 42, 21, 6, 7, 21, 7, 182, 0, 99, 42, 21, 6, 8, 28]
abbrev dktX5_stores_7 : List UInt8 := dkwX5_stores_7 ++ dktX5_stores_8
def dkwX5_stores_6 : List UInt8 := [3, 29, 182, 0, 99, 42, 21, 6, 4, 21, 4, 182, 0, 99, 42, 21, 6, 5, 16, 20, 182, 0, 99, 42]
abbrev dktX5_stores_6 : List UInt8 := dkwX5_stores_6 ++ dktX5_stores_7
def dkwX5_stores_5 : List UInt8 := [16, 30, 160, 0, 7, 4, 167, 0, 4, 3, 4, 16, 30, 182, 0, 57, 153, 0, 5, 6, 172, 42, 21, 6]
abbrev dktX5_stores_5 : List UInt8 := dkwX5_stores_5 ++ dktX5_stores_6
def dkwX5_stores_4 : List UInt8 := [42, 21, 8, 6, 160, 0, 7, 4, 167, 0, 4, 3, 6, 28, 182, 0, 57, 154, 0, 25, 42, 21, 6]
abbrev dktX5_stores_4 : List UInt8 := dkwX5_stores_4 ++ dktX5_stores_5
def dkwX5_stores_3 : List UInt8 := [182, 0, 53, 161, 0, 7, 4, 167, 0, 4, 3, 5, 42, 27, 3, 182, 0, 53, 182, 0, 57, 154, 0, 45]
abbrev dktX5_stores_3 : List UInt8 := dkwX5_stores_3 ++ dktX5_stores_4
def dkwX5_stores_2 : List UInt8 := [42, 27, 4, 182, 0, 53, 54, 7, 42, 21, 7, 28, 182, 0, 85, 54, 8, 42, 28, 42, 27, 3]
abbrev dktX5_stores_2 : List UInt8 := dkwX5_stores_2 ++ dktX5_stores_3
def dkwX5_stores_1 : List UInt8 := [153, 0, 14, 21, 5, 3, 16, 9, 184, 0, 49, 154, 0, 5, 5, 172, 42, 180, 0, 9, 8, 46, 54, 6]
abbrev dktX5_stores_1 : List UInt8 := dkwX5_stores_1 ++ dktX5_stores_2
def dkwX5_stores_0 : List UInt8 := [42, 27, 182, 0, 68, 154, 0, 5, 4, 172, 28, 184, 0, 92, 153, 0, 23, 29, 21, 4, 184, 0, 95]
abbrev dktX5_stores_0 : List UInt8 := dkwX5_stores_0 ++ dktX5_stores_1
theorem dksX5_stores_0 : cX5_stores.data.toList.drop 0 = dktX5_stores_0 := by decide +kernel
theorem dksX5_stores_1 : cX5_stores.data.toList.drop 23 = dktX5_stores_1 := dk_seg dksX5_stores_0 23 rfl rfl
theorem dksX5_stores_2 : cX5_stores.data.toList.drop 47 = dktX5_stores_2 := dk_seg dksX5_stores_1 24 rfl rfl
theorem dksX5_stores_3 : cX5_stores.data.toList.drop 69 = dktX5_stores_3 := dk_seg dksX5_stores_2 22 rfl rfl
theorem dksX5_stores_4 : cX5_stores.data.toList.drop 93 = dktX5_stores_4 := dk_seg dksX5_stores_3 24 rfl rfl
theorem dksX5_stores_5 : cX5_stores.data.toList.drop 116 = dktX5_stores_5 := dk_seg dksX5_stores_4 23 rfl rfl
theorem dksX5_stores_6 : cX5_stores.data.toList.drop 140 = dktX5_stores_6 := dk_seg dksX5_stores_5 24 rfl rfl
theorem dksX5_stores_7 : cX5_stores.data.toList.drop 164 = dktX5_stores_7 := dk_seg dksX5_stores_6 24 rfl rfl
theorem dksX5_stores_8 : cX5_stores.data.toList.drop 186 = dktX5_stores_8 := dk_seg dksX5_stores_7 22 rfl rfl
theorem dksX5_stores_9 : cX5_stores.data.toList.drop 209 = dktX5_stores_9 := dk_seg dksX5_stores_8 23 rfl rfl
theorem dX5_stores_0 : decode cX5_stores 0 = .ok (.aload_n 0, 1) := dk_42 (dk_at dksX5_stores_0 0 rfl rfl)
theorem dX5_stores_1 : decode cX5_stores 1 = .ok (.iload_n 1, 1) := dk_27 (dk_at dksX5_stores_0 1 rfl rfl)
theorem dX5_stores_2 : decode cX5_stores 2 = .ok (.invokevirtual 68, 3) := dk_182 0 68 (dk_at dksX5_stores_0 2 rfl rfl)
theorem dX5_stores_5 : decode cX5_stores 5 = .ok (.ifCond .ne 5, 3) := dk_154 0 5 (dk_at dksX5_stores_0 5 rfl rfl)
theorem dX5_stores_8 : decode cX5_stores 8 = .ok (.iconst 1, 1) := dk_4 (dk_at dksX5_stores_0 8 rfl rfl)
theorem dX5_stores_9 : decode cX5_stores 9 = .ok (.ireturn, 1) := dk_172 (dk_at dksX5_stores_0 9 rfl rfl)
theorem dX5_stores_10 : decode cX5_stores 10 = .ok (.iload_n 2, 1) := dk_28 (dk_at dksX5_stores_0 10 rfl rfl)
theorem dX5_stores_11 : decode cX5_stores 11 = .ok (.invokestatic 92, 3) := dk_184 0 92 (dk_at dksX5_stores_0 11 rfl rfl)
theorem dX5_stores_14 : decode cX5_stores 14 = .ok (.ifCond .eq 23, 3) := dk_153 0 23 (dk_at dksX5_stores_0 14 rfl rfl)
theorem dX5_stores_17 : decode cX5_stores 17 = .ok (.iload_n 3, 1) := dk_29 (dk_at dksX5_stores_0 17 rfl rfl)
theorem dX5_stores_18 : decode cX5_stores 18 = .ok (.iload 4, 2) := dk_21 4 (dk_at dksX5_stores_0 18 rfl rfl)
theorem dX5_stores_20 : decode cX5_stores 20 = .ok (.invokestatic 95, 3) := dk_184 0 95 (dk_at dksX5_stores_0 20 rfl rfl)
theorem dX5_stores_23 : decode cX5_stores 23 = .ok (.ifCond .eq 14, 3) := dk_153 0 14 (dk_at dksX5_stores_1 0 rfl rfl)
theorem dX5_stores_26 : decode cX5_stores 26 = .ok (.iload 5, 2) := dk_21 5 (dk_at dksX5_stores_1 3 rfl rfl)
theorem dX5_stores_28 : decode cX5_stores 28 = .ok (.iconst 0, 1) := dk_3 (dk_at dksX5_stores_1 5 rfl rfl)
theorem dX5_stores_29 : decode cX5_stores 29 = .ok (.bipush 9, 2) := dk_16 9 (dk_at dksX5_stores_1 6 rfl rfl)
theorem dX5_stores_31 : decode cX5_stores 31 = .ok (.invokestatic 49, 3) := dk_184 0 49 (dk_at dksX5_stores_1 8 rfl rfl)
theorem dX5_stores_34 : decode cX5_stores 34 = .ok (.ifCond .ne 5, 3) := dk_154 0 5 (dk_at dksX5_stores_1 11 rfl rfl)
theorem dX5_stores_37 : decode cX5_stores 37 = .ok (.iconst 2, 1) := dk_5 (dk_at dksX5_stores_1 14 rfl rfl)
theorem dX5_stores_38 : decode cX5_stores 38 = .ok (.ireturn, 1) := dk_172 (dk_at dksX5_stores_1 15 rfl rfl)
theorem dX5_stores_39 : decode cX5_stores 39 = .ok (.aload_n 0, 1) := dk_42 (dk_at dksX5_stores_1 16 rfl rfl)
theorem dX5_stores_40 : decode cX5_stores 40 = .ok (.getfield 9, 3) := dk_180 0 9 (dk_at dksX5_stores_1 17 rfl rfl)
theorem dX5_stores_43 : decode cX5_stores 43 = .ok (.iconst 5, 1) := dk_8 (dk_at dksX5_stores_1 20 rfl rfl)
theorem dX5_stores_44 : decode cX5_stores 44 = .ok (.iaload, 1) := dk_46 (dk_at dksX5_stores_1 21 rfl rfl)
theorem dX5_stores_45 : decode cX5_stores 45 = .ok (.istore 6, 2) := dk_54 6 (dk_at dksX5_stores_1 22 rfl rfl)
theorem dX5_stores_47 : decode cX5_stores 47 = .ok (.aload_n 0, 1) := dk_42 (dk_at dksX5_stores_2 0 rfl rfl)
theorem dX5_stores_48 : decode cX5_stores 48 = .ok (.iload_n 1, 1) := dk_27 (dk_at dksX5_stores_2 1 rfl rfl)
theorem dX5_stores_49 : decode cX5_stores 49 = .ok (.iconst 1, 1) := dk_4 (dk_at dksX5_stores_2 2 rfl rfl)
theorem dX5_stores_50 : decode cX5_stores 50 = .ok (.invokevirtual 53, 3) := dk_182 0 53 (dk_at dksX5_stores_2 3 rfl rfl)
theorem dX5_stores_53 : decode cX5_stores 53 = .ok (.istore 7, 2) := dk_54 7 (dk_at dksX5_stores_2 6 rfl rfl)
theorem dX5_stores_55 : decode cX5_stores 55 = .ok (.aload_n 0, 1) := dk_42 (dk_at dksX5_stores_2 8 rfl rfl)
theorem dX5_stores_56 : decode cX5_stores 56 = .ok (.iload 7, 2) := dk_21 7 (dk_at dksX5_stores_2 9 rfl rfl)
theorem dX5_stores_58 : decode cX5_stores 58 = .ok (.iload_n 2, 1) := dk_28 (dk_at dksX5_stores_2 11 rfl rfl)
theorem dX5_stores_59 : decode cX5_stores 59 = .ok (.invokevirtual 85, 3) := dk_182 0 85 (dk_at dksX5_stores_2 12 rfl rfl)
theorem dX5_stores_62 : decode cX5_stores 62 = .ok (.istore 8, 2) := dk_54 8 (dk_at dksX5_stores_2 15 rfl rfl)
theorem dX5_stores_64 : decode cX5_stores 64 = .ok (.aload_n 0, 1) := dk_42 (dk_at dksX5_stores_2 17 rfl rfl)
theorem dX5_stores_65 : decode cX5_stores 65 = .ok (.iload_n 2, 1) := dk_28 (dk_at dksX5_stores_2 18 rfl rfl)
theorem dX5_stores_66 : decode cX5_stores 66 = .ok (.aload_n 0, 1) := dk_42 (dk_at dksX5_stores_2 19 rfl rfl)
theorem dX5_stores_67 : decode cX5_stores 67 = .ok (.iload_n 1, 1) := dk_27 (dk_at dksX5_stores_2 20 rfl rfl)
theorem dX5_stores_68 : decode cX5_stores 68 = .ok (.iconst 0, 1) := dk_3 (dk_at dksX5_stores_2 21 rfl rfl)
theorem dX5_stores_69 : decode cX5_stores 69 = .ok (.invokevirtual 53, 3) := dk_182 0 53 (dk_at dksX5_stores_3 0 rfl rfl)
theorem dX5_stores_72 : decode cX5_stores 72 = .ok (.if_icmp .lt 7, 3) := dk_161 0 7 (dk_at dksX5_stores_3 3 rfl rfl)
theorem dX5_stores_75 : decode cX5_stores 75 = .ok (.iconst 1, 1) := dk_4 (dk_at dksX5_stores_3 6 rfl rfl)
theorem dX5_stores_76 : decode cX5_stores 76 = .ok (.goto 4, 3) := dk_167 0 4 (dk_at dksX5_stores_3 7 rfl rfl)
theorem dX5_stores_79 : decode cX5_stores 79 = .ok (.iconst 0, 1) := dk_3 (dk_at dksX5_stores_3 10 rfl rfl)
theorem dX5_stores_80 : decode cX5_stores 80 = .ok (.iconst 2, 1) := dk_5 (dk_at dksX5_stores_3 11 rfl rfl)
theorem dX5_stores_81 : decode cX5_stores 81 = .ok (.aload_n 0, 1) := dk_42 (dk_at dksX5_stores_3 12 rfl rfl)
theorem dX5_stores_82 : decode cX5_stores 82 = .ok (.iload_n 1, 1) := dk_27 (dk_at dksX5_stores_3 13 rfl rfl)
theorem dX5_stores_83 : decode cX5_stores 83 = .ok (.iconst 0, 1) := dk_3 (dk_at dksX5_stores_3 14 rfl rfl)
theorem dX5_stores_84 : decode cX5_stores 84 = .ok (.invokevirtual 53, 3) := dk_182 0 53 (dk_at dksX5_stores_3 15 rfl rfl)
theorem dX5_stores_87 : decode cX5_stores 87 = .ok (.invokevirtual 57, 3) := dk_182 0 57 (dk_at dksX5_stores_3 18 rfl rfl)
theorem dX5_stores_90 : decode cX5_stores 90 = .ok (.ifCond .ne 45, 3) := dk_154 0 45 (dk_at dksX5_stores_3 21 rfl rfl)
theorem dX5_stores_93 : decode cX5_stores 93 = .ok (.aload_n 0, 1) := dk_42 (dk_at dksX5_stores_4 0 rfl rfl)
theorem dX5_stores_94 : decode cX5_stores 94 = .ok (.iload 8, 2) := dk_21 8 (dk_at dksX5_stores_4 1 rfl rfl)
theorem dX5_stores_96 : decode cX5_stores 96 = .ok (.iconst 3, 1) := dk_6 (dk_at dksX5_stores_4 3 rfl rfl)
theorem dX5_stores_97 : decode cX5_stores 97 = .ok (.if_icmp .ne 7, 3) := dk_160 0 7 (dk_at dksX5_stores_4 4 rfl rfl)
theorem dX5_stores_100 : decode cX5_stores 100 = .ok (.iconst 1, 1) := dk_4 (dk_at dksX5_stores_4 7 rfl rfl)
theorem dX5_stores_101 : decode cX5_stores 101 = .ok (.goto 4, 3) := dk_167 0 4 (dk_at dksX5_stores_4 8 rfl rfl)
theorem dX5_stores_104 : decode cX5_stores 104 = .ok (.iconst 0, 1) := dk_3 (dk_at dksX5_stores_4 11 rfl rfl)
theorem dX5_stores_105 : decode cX5_stores 105 = .ok (.iconst 3, 1) := dk_6 (dk_at dksX5_stores_4 12 rfl rfl)
theorem dX5_stores_106 : decode cX5_stores 106 = .ok (.iload_n 2, 1) := dk_28 (dk_at dksX5_stores_4 13 rfl rfl)
theorem dX5_stores_107 : decode cX5_stores 107 = .ok (.invokevirtual 57, 3) := dk_182 0 57 (dk_at dksX5_stores_4 14 rfl rfl)
theorem dX5_stores_110 : decode cX5_stores 110 = .ok (.ifCond .ne 25, 3) := dk_154 0 25 (dk_at dksX5_stores_4 17 rfl rfl)
theorem dX5_stores_113 : decode cX5_stores 113 = .ok (.aload_n 0, 1) := dk_42 (dk_at dksX5_stores_4 20 rfl rfl)
theorem dX5_stores_114 : decode cX5_stores 114 = .ok (.iload 6, 2) := dk_21 6 (dk_at dksX5_stores_4 21 rfl rfl)
theorem dX5_stores_116 : decode cX5_stores 116 = .ok (.bipush 30, 2) := dk_16 30 (dk_at dksX5_stores_5 0 rfl rfl)
theorem dX5_stores_118 : decode cX5_stores 118 = .ok (.if_icmp .ne 7, 3) := dk_160 0 7 (dk_at dksX5_stores_5 2 rfl rfl)
theorem dX5_stores_121 : decode cX5_stores 121 = .ok (.iconst 1, 1) := dk_4 (dk_at dksX5_stores_5 5 rfl rfl)
theorem dX5_stores_122 : decode cX5_stores 122 = .ok (.goto 4, 3) := dk_167 0 4 (dk_at dksX5_stores_5 6 rfl rfl)
theorem dX5_stores_125 : decode cX5_stores 125 = .ok (.iconst 0, 1) := dk_3 (dk_at dksX5_stores_5 9 rfl rfl)
theorem dX5_stores_126 : decode cX5_stores 126 = .ok (.iconst 1, 1) := dk_4 (dk_at dksX5_stores_5 10 rfl rfl)
theorem dX5_stores_127 : decode cX5_stores 127 = .ok (.bipush 30, 2) := dk_16 30 (dk_at dksX5_stores_5 11 rfl rfl)
theorem dX5_stores_129 : decode cX5_stores 129 = .ok (.invokevirtual 57, 3) := dk_182 0 57 (dk_at dksX5_stores_5 13 rfl rfl)
theorem dX5_stores_132 : decode cX5_stores 132 = .ok (.ifCond .eq 5, 3) := dk_153 0 5 (dk_at dksX5_stores_5 16 rfl rfl)
theorem dX5_stores_135 : decode cX5_stores 135 = .ok (.iconst 3, 1) := dk_6 (dk_at dksX5_stores_5 19 rfl rfl)
theorem dX5_stores_136 : decode cX5_stores 136 = .ok (.ireturn, 1) := dk_172 (dk_at dksX5_stores_5 20 rfl rfl)
theorem dX5_stores_137 : decode cX5_stores 137 = .ok (.aload_n 0, 1) := dk_42 (dk_at dksX5_stores_5 21 rfl rfl)
theorem dX5_stores_138 : decode cX5_stores 138 = .ok (.iload 6, 2) := dk_21 6 (dk_at dksX5_stores_5 22 rfl rfl)
theorem dX5_stores_140 : decode cX5_stores 140 = .ok (.iconst 0, 1) := dk_3 (dk_at dksX5_stores_6 0 rfl rfl)
theorem dX5_stores_141 : decode cX5_stores 141 = .ok (.iload_n 3, 1) := dk_29 (dk_at dksX5_stores_6 1 rfl rfl)
theorem dX5_stores_142 : decode cX5_stores 142 = .ok (.invokevirtual 99, 3) := dk_182 0 99 (dk_at dksX5_stores_6 2 rfl rfl)
theorem dX5_stores_145 : decode cX5_stores 145 = .ok (.aload_n 0, 1) := dk_42 (dk_at dksX5_stores_6 5 rfl rfl)
theorem dX5_stores_146 : decode cX5_stores 146 = .ok (.iload 6, 2) := dk_21 6 (dk_at dksX5_stores_6 6 rfl rfl)
theorem dX5_stores_148 : decode cX5_stores 148 = .ok (.iconst 1, 1) := dk_4 (dk_at dksX5_stores_6 8 rfl rfl)
theorem dX5_stores_149 : decode cX5_stores 149 = .ok (.iload 4, 2) := dk_21 4 (dk_at dksX5_stores_6 9 rfl rfl)
theorem dX5_stores_151 : decode cX5_stores 151 = .ok (.invokevirtual 99, 3) := dk_182 0 99 (dk_at dksX5_stores_6 11 rfl rfl)
theorem dX5_stores_154 : decode cX5_stores 154 = .ok (.aload_n 0, 1) := dk_42 (dk_at dksX5_stores_6 14 rfl rfl)
theorem dX5_stores_155 : decode cX5_stores 155 = .ok (.iload 6, 2) := dk_21 6 (dk_at dksX5_stores_6 15 rfl rfl)
theorem dX5_stores_157 : decode cX5_stores 157 = .ok (.iconst 2, 1) := dk_5 (dk_at dksX5_stores_6 17 rfl rfl)
theorem dX5_stores_158 : decode cX5_stores 158 = .ok (.bipush 20, 2) := dk_16 20 (dk_at dksX5_stores_6 18 rfl rfl)
theorem dX5_stores_160 : decode cX5_stores 160 = .ok (.invokevirtual 99, 3) := dk_182 0 99 (dk_at dksX5_stores_6 20 rfl rfl)
theorem dX5_stores_163 : decode cX5_stores 163 = .ok (.aload_n 0, 1) := dk_42 (dk_at dksX5_stores_6 23 rfl rfl)
theorem dX5_stores_164 : decode cX5_stores 164 = .ok (.iload 6, 2) := dk_21 6 (dk_at dksX5_stores_7 0 rfl rfl)
theorem dX5_stores_166 : decode cX5_stores 166 = .ok (.iconst 3, 1) := dk_6 (dk_at dksX5_stores_7 2 rfl rfl)
theorem dX5_stores_167 : decode cX5_stores 167 = .ok (.iload 5, 2) := dk_21 5 (dk_at dksX5_stores_7 3 rfl rfl)
theorem dX5_stores_169 : decode cX5_stores 169 = .ok (.invokevirtual 99, 3) := dk_182 0 99 (dk_at dksX5_stores_7 5 rfl rfl)
theorem dX5_stores_172 : decode cX5_stores 172 = .ok (.aload_n 0, 1) := dk_42 (dk_at dksX5_stores_7 8 rfl rfl)
theorem dX5_stores_173 : decode cX5_stores 173 = .ok (.iload 6, 2) := dk_21 6 (dk_at dksX5_stores_7 9 rfl rfl)
theorem dX5_stores_175 : decode cX5_stores 175 = .ok (.iconst 4, 1) := dk_7 (dk_at dksX5_stores_7 11 rfl rfl)
theorem dX5_stores_176 : decode cX5_stores 176 = .ok (.iload 7, 2) := dk_21 7 (dk_at dksX5_stores_7 12 rfl rfl)
theorem dX5_stores_178 : decode cX5_stores 178 = .ok (.invokevirtual 99, 3) := dk_182 0 99 (dk_at dksX5_stores_7 14 rfl rfl)
theorem dX5_stores_181 : decode cX5_stores 181 = .ok (.aload_n 0, 1) := dk_42 (dk_at dksX5_stores_7 17 rfl rfl)
theorem dX5_stores_182 : decode cX5_stores 182 = .ok (.iload 6, 2) := dk_21 6 (dk_at dksX5_stores_7 18 rfl rfl)
theorem dX5_stores_184 : decode cX5_stores 184 = .ok (.iconst 5, 1) := dk_8 (dk_at dksX5_stores_7 20 rfl rfl)
theorem dX5_stores_185 : decode cX5_stores 185 = .ok (.iload_n 2, 1) := dk_28 (dk_at dksX5_stores_7 21 rfl rfl)
theorem dX5_stores_186 : decode cX5_stores 186 = .ok (.invokevirtual 99, 3) := dk_182 0 99 (dk_at dksX5_stores_8 0 rfl rfl)
theorem dX5_stores_189 : decode cX5_stores 189 = .ok (.aload_n 0, 1) := dk_42 (dk_at dksX5_stores_8 3 rfl rfl)
theorem dX5_stores_190 : decode cX5_stores 190 = .ok (.iload 6, 2) := dk_21 6 (dk_at dksX5_stores_8 4 rfl rfl)
theorem dX5_stores_192 : decode cX5_stores 192 = .ok (.bipush 6, 2) := dk_16 6 (dk_at dksX5_stores_8 6 rfl rfl)
theorem dX5_stores_194 : decode cX5_stores 194 = .ok (.iload 8, 2) := dk_21 8 (dk_at dksX5_stores_8 8 rfl rfl)
theorem dX5_stores_196 : decode cX5_stores 196 = .ok (.invokevirtual 99, 3) := dk_182 0 99 (dk_at dksX5_stores_8 10 rfl rfl)
theorem dX5_stores_199 : decode cX5_stores 199 = .ok (.aload_n 0, 1) := dk_42 (dk_at dksX5_stores_8 13 rfl rfl)
theorem dX5_stores_200 : decode cX5_stores 200 = .ok (.iload 6, 2) := dk_21 6 (dk_at dksX5_stores_8 14 rfl rfl)
theorem dX5_stores_202 : decode cX5_stores 202 = .ok (.bipush 7, 2) := dk_16 7 (dk_at dksX5_stores_8 16 rfl rfl)
theorem dX5_stores_204 : decode cX5_stores 204 = .ok (.iconst 0, 1) := dk_3 (dk_at dksX5_stores_8 18 rfl rfl)
theorem dX5_stores_205 : decode cX5_stores 205 = .ok (.invokevirtual 99, 3) := dk_182 0 99 (dk_at dksX5_stores_8 19 rfl rfl)
theorem dX5_stores_208 : decode cX5_stores 208 = .ok (.aload_n 0, 1) := dk_42 (dk_at dksX5_stores_8 22 rfl rfl)
theorem dX5_stores_209 : decode cX5_stores 209 = .ok (.getfield 9, 3) := dk_180 0 9 (dk_at dksX5_stores_9 0 rfl rfl)
theorem dX5_stores_212 : decode cX5_stores 212 = .ok (.iconst 5, 1) := dk_8 (dk_at dksX5_stores_9 3 rfl rfl)
theorem dX5_stores_213 : decode cX5_stores 213 = .ok (.dup2, 1) := dk_92 (dk_at dksX5_stores_9 4 rfl rfl)
theorem dX5_stores_214 : decode cX5_stores 214 = .ok (.iaload, 1) := dk_46 (dk_at dksX5_stores_9 5 rfl rfl)
theorem dX5_stores_215 : decode cX5_stores 215 = .ok (.iconst 1, 1) := dk_4 (dk_at dksX5_stores_9 6 rfl rfl)
theorem dX5_stores_216 : decode cX5_stores 216 = .ok (.iadd, 1) := dk_96 (dk_at dksX5_stores_9 7 rfl rfl)
theorem dX5_stores_217 : decode cX5_stores 217 = .ok (.iastore, 1) := dk_79 (dk_at dksX5_stores_9 8 rfl rfl)
theorem dX5_stores_218 : decode cX5_stores 218 = .ok (.aload_n 0, 1) := dk_42 (dk_at dksX5_stores_9 9 rfl rfl)
theorem dX5_stores_219 : decode cX5_stores 219 = .ok (.iload 6, 2) := dk_21 6 (dk_at dksX5_stores_9 10 rfl rfl)
theorem dX5_stores_221 : decode cX5_stores 221 = .ok (.putfield 40, 3) := dk_181 0 40 (dk_at dksX5_stores_9 12 rfl rfl)
theorem dX5_stores_224 : decode cX5_stores 224 = .ok (.iconst 0, 1) := dk_3 (dk_at dksX5_stores_9 15 rfl rfl)
theorem dX5_stores_225 : decode cX5_stores 225 = .ok (.ireturn, 1) := dk_172 (dk_at dksX5_stores_9 16 rfl rfl)
abbrev cX5_isShelf : ByteArray := prog_15_method_21_code
def yX5_isShelf : MethodName := ⟨RX5, "isShelf", "(I)Z"⟩
def dkwX5_isShelf_0 : List UInt8 := [26, 3, 8, 184, 0, 49, 172]
abbrev dktX5_isShelf_0 : List UInt8 := dkwX5_isShelf_0 ++ []
theorem dksX5_isShelf_0 : cX5_isShelf.data.toList.drop 0 = dktX5_isShelf_0 := by decide +kernel
theorem dX5_isShelf_0 : decode cX5_isShelf 0 = .ok (.iload_n 0, 1) := dk_26 (dk_at dksX5_isShelf_0 0 rfl rfl)
theorem dX5_isShelf_1 : decode cX5_isShelf 1 = .ok (.iconst 0, 1) := dk_3 (dk_at dksX5_isShelf_0 1 rfl rfl)
theorem dX5_isShelf_2 : decode cX5_isShelf 2 = .ok (.iconst 5, 1) := dk_8 (dk_at dksX5_isShelf_0 2 rfl rfl)
theorem dX5_isShelf_3 : decode cX5_isShelf 3 = .ok (.invokestatic 49, 3) := dk_184 0 49 (dk_at dksX5_isShelf_0 3 rfl rfl)
theorem dX5_isShelf_6 : decode cX5_isShelf 6 = .ok (.ireturn, 1) := dk_172 (dk_at dksX5_isShelf_0 6 rfl rfl)
abbrev cX5_isPaper : ByteArray := prog_15_method_20_code
def yX5_isPaper : MethodName := ⟨RX5, "isPaper", "(II)Z"⟩
def dkwX5_isPaper_0 : List UInt8 := [26, 3, 6, 184, 0, 49, 153, 0, 16, 27, 3, 5, 184, 0, 49, 153, 0, 7, 4, 167, 0, 4, 3, 172]
abbrev dktX5_isPaper_0 : List UInt8 := dkwX5_isPaper_0 ++ []
theorem dksX5_isPaper_0 : cX5_isPaper.data.toList.drop 0 = dktX5_isPaper_0 := by decide +kernel
theorem dX5_isPaper_0 : decode cX5_isPaper 0 = .ok (.iload_n 0, 1) := dk_26 (dk_at dksX5_isPaper_0 0 rfl rfl)
theorem dX5_isPaper_1 : decode cX5_isPaper 1 = .ok (.iconst 0, 1) := dk_3 (dk_at dksX5_isPaper_0 1 rfl rfl)
theorem dX5_isPaper_2 : decode cX5_isPaper 2 = .ok (.iconst 3, 1) := dk_6 (dk_at dksX5_isPaper_0 2 rfl rfl)
theorem dX5_isPaper_3 : decode cX5_isPaper 3 = .ok (.invokestatic 49, 3) := dk_184 0 49 (dk_at dksX5_isPaper_0 3 rfl rfl)
theorem dX5_isPaper_6 : decode cX5_isPaper 6 = .ok (.ifCond .eq 16, 3) := dk_153 0 16 (dk_at dksX5_isPaper_0 6 rfl rfl)
theorem dX5_isPaper_9 : decode cX5_isPaper 9 = .ok (.iload_n 1, 1) := dk_27 (dk_at dksX5_isPaper_0 9 rfl rfl)
theorem dX5_isPaper_10 : decode cX5_isPaper 10 = .ok (.iconst 0, 1) := dk_3 (dk_at dksX5_isPaper_0 10 rfl rfl)
theorem dX5_isPaper_11 : decode cX5_isPaper 11 = .ok (.iconst 2, 1) := dk_5 (dk_at dksX5_isPaper_0 11 rfl rfl)
theorem dX5_isPaper_12 : decode cX5_isPaper 12 = .ok (.invokestatic 49, 3) := dk_184 0 49 (dk_at dksX5_isPaper_0 12 rfl rfl)
theorem dX5_isPaper_15 : decode cX5_isPaper 15 = .ok (.ifCond .eq 7, 3) := dk_153 0 7 (dk_at dksX5_isPaper_0 15 rfl rfl)
theorem dX5_isPaper_18 : decode cX5_isPaper 18 = .ok (.iconst 1, 1) := dk_4 (dk_at dksX5_isPaper_0 18 rfl rfl)
theorem dX5_isPaper_19 : decode cX5_isPaper 19 = .ok (.goto 4, 3) := dk_167 0 4 (dk_at dksX5_isPaper_0 19 rfl rfl)
theorem dX5_isPaper_22 : decode cX5_isPaper 22 = .ok (.iconst 0, 1) := dk_3 (dk_at dksX5_isPaper_0 22 rfl rfl)
theorem dX5_isPaper_23 : decode cX5_isPaper 23 = .ok (.ireturn, 1) := dk_172 (dk_at dksX5_isPaper_0 23 rfl rfl)
abbrev cX5_heightOf : ByteArray := prog_15_method_24_code
def yX5_heightOf : MethodName := ⟨RX5, "heightOf", "(II)I"⟩
def dkwX5_heightOf_2 : List UInt8 := [132, 4, 1, 167, 255, 212, 29, 172]
abbrev dktX5_heightOf_2 : List UInt8 := dkwX5_heightOf_2 ++ []
def dkwX5_heightOf_1 : List UInt8 := [27, 160, 0, 18, 42, 21, 4, 8, 182, 0, 82, 28, 160, 0, 7, 4, 167, 0, 4, 3, 96, 62]
abbrev dktX5_heightOf_1 : List UInt8 := dkwX5_heightOf_1 ++ dktX5_heightOf_2
def dkwX5_heightOf_0 : List UInt8 := [3, 62, 3, 54, 4, 21, 4, 42, 180, 0, 9, 8, 46, 162, 0, 39, 29, 42, 21, 4, 7, 182, 0, 82]
abbrev dktX5_heightOf_0 : List UInt8 := dkwX5_heightOf_0 ++ dktX5_heightOf_1
theorem dksX5_heightOf_0 : cX5_heightOf.data.toList.drop 0 = dktX5_heightOf_0 := by decide +kernel
theorem dksX5_heightOf_1 : cX5_heightOf.data.toList.drop 24 = dktX5_heightOf_1 := dk_seg dksX5_heightOf_0 24 rfl rfl
theorem dksX5_heightOf_2 : cX5_heightOf.data.toList.drop 46 = dktX5_heightOf_2 := dk_seg dksX5_heightOf_1 22 rfl rfl
theorem dX5_heightOf_0 : decode cX5_heightOf 0 = .ok (.iconst 0, 1) := dk_3 (dk_at dksX5_heightOf_0 0 rfl rfl)
theorem dX5_heightOf_1 : decode cX5_heightOf 1 = .ok (.istore_n 3, 1) := dk_62 (dk_at dksX5_heightOf_0 1 rfl rfl)
theorem dX5_heightOf_2 : decode cX5_heightOf 2 = .ok (.iconst 0, 1) := dk_3 (dk_at dksX5_heightOf_0 2 rfl rfl)
theorem dX5_heightOf_3 : decode cX5_heightOf 3 = .ok (.istore 4, 2) := dk_54 4 (dk_at dksX5_heightOf_0 3 rfl rfl)
theorem dX5_heightOf_5 : decode cX5_heightOf 5 = .ok (.iload 4, 2) := dk_21 4 (dk_at dksX5_heightOf_0 5 rfl rfl)
theorem dX5_heightOf_7 : decode cX5_heightOf 7 = .ok (.aload_n 0, 1) := dk_42 (dk_at dksX5_heightOf_0 7 rfl rfl)
theorem dX5_heightOf_8 : decode cX5_heightOf 8 = .ok (.getfield 9, 3) := dk_180 0 9 (dk_at dksX5_heightOf_0 8 rfl rfl)
theorem dX5_heightOf_11 : decode cX5_heightOf 11 = .ok (.iconst 5, 1) := dk_8 (dk_at dksX5_heightOf_0 11 rfl rfl)
theorem dX5_heightOf_12 : decode cX5_heightOf 12 = .ok (.iaload, 1) := dk_46 (dk_at dksX5_heightOf_0 12 rfl rfl)
theorem dX5_heightOf_13 : decode cX5_heightOf 13 = .ok (.if_icmp .ge 39, 3) := dk_162 0 39 (dk_at dksX5_heightOf_0 13 rfl rfl)
theorem dX5_heightOf_16 : decode cX5_heightOf 16 = .ok (.iload_n 3, 1) := dk_29 (dk_at dksX5_heightOf_0 16 rfl rfl)
theorem dX5_heightOf_17 : decode cX5_heightOf 17 = .ok (.aload_n 0, 1) := dk_42 (dk_at dksX5_heightOf_0 17 rfl rfl)
theorem dX5_heightOf_18 : decode cX5_heightOf 18 = .ok (.iload 4, 2) := dk_21 4 (dk_at dksX5_heightOf_0 18 rfl rfl)
theorem dX5_heightOf_20 : decode cX5_heightOf 20 = .ok (.iconst 4, 1) := dk_7 (dk_at dksX5_heightOf_0 20 rfl rfl)
theorem dX5_heightOf_21 : decode cX5_heightOf 21 = .ok (.invokevirtual 82, 3) := dk_182 0 82 (dk_at dksX5_heightOf_0 21 rfl rfl)
theorem dX5_heightOf_24 : decode cX5_heightOf 24 = .ok (.iload_n 1, 1) := dk_27 (dk_at dksX5_heightOf_1 0 rfl rfl)
theorem dX5_heightOf_25 : decode cX5_heightOf 25 = .ok (.if_icmp .ne 18, 3) := dk_160 0 18 (dk_at dksX5_heightOf_1 1 rfl rfl)
theorem dX5_heightOf_28 : decode cX5_heightOf 28 = .ok (.aload_n 0, 1) := dk_42 (dk_at dksX5_heightOf_1 4 rfl rfl)
theorem dX5_heightOf_29 : decode cX5_heightOf 29 = .ok (.iload 4, 2) := dk_21 4 (dk_at dksX5_heightOf_1 5 rfl rfl)
theorem dX5_heightOf_31 : decode cX5_heightOf 31 = .ok (.iconst 5, 1) := dk_8 (dk_at dksX5_heightOf_1 7 rfl rfl)
theorem dX5_heightOf_32 : decode cX5_heightOf 32 = .ok (.invokevirtual 82, 3) := dk_182 0 82 (dk_at dksX5_heightOf_1 8 rfl rfl)
theorem dX5_heightOf_35 : decode cX5_heightOf 35 = .ok (.iload_n 2, 1) := dk_28 (dk_at dksX5_heightOf_1 11 rfl rfl)
theorem dX5_heightOf_36 : decode cX5_heightOf 36 = .ok (.if_icmp .ne 7, 3) := dk_160 0 7 (dk_at dksX5_heightOf_1 12 rfl rfl)
theorem dX5_heightOf_39 : decode cX5_heightOf 39 = .ok (.iconst 1, 1) := dk_4 (dk_at dksX5_heightOf_1 15 rfl rfl)
theorem dX5_heightOf_40 : decode cX5_heightOf 40 = .ok (.goto 4, 3) := dk_167 0 4 (dk_at dksX5_heightOf_1 16 rfl rfl)
theorem dX5_heightOf_43 : decode cX5_heightOf 43 = .ok (.iconst 0, 1) := dk_3 (dk_at dksX5_heightOf_1 19 rfl rfl)
theorem dX5_heightOf_44 : decode cX5_heightOf 44 = .ok (.iadd, 1) := dk_96 (dk_at dksX5_heightOf_1 20 rfl rfl)
theorem dX5_heightOf_45 : decode cX5_heightOf 45 = .ok (.istore_n 3, 1) := dk_62 (dk_at dksX5_heightOf_1 21 rfl rfl)
theorem dX5_heightOf_46 : decode cX5_heightOf 46 = .ok (.iinc 4 1, 3) := dk_132 4 1 (dk_at dksX5_heightOf_2 0 rfl rfl)
theorem dX5_heightOf_49 : decode cX5_heightOf 49 = .ok (.goto (-44), 3) := dk_167 255 212 (dk_at dksX5_heightOf_2 3 rfl rfl)
theorem dX5_heightOf_52 : decode cX5_heightOf 52 = .ok (.iload_n 3, 1) := dk_29 (dk_at dksX5_heightOf_2 6 rfl rfl)
theorem dX5_heightOf_53 : decode cX5_heightOf 53 = .ok (.ireturn, 1) := dk_172 (dk_at dksX5_heightOf_2 7 rfl rfl)
abbrev cX5_r : ByteArray := prog_15_method_22_code
def yX5_r : MethodName := ⟨RX5, "r", "(II)I"⟩
def dkwX5_r_0 : List UInt8 := [42, 180, 0, 9, 16, 9, 16, 8, 27, 104, 96, 28, 96, 46, 172]
abbrev dktX5_r_0 : List UInt8 := dkwX5_r_0 ++ []
theorem dksX5_r_0 : cX5_r.data.toList.drop 0 = dktX5_r_0 := by decide +kernel
theorem dX5_r_0 : decode cX5_r 0 = .ok (.aload_n 0, 1) := dk_42 (dk_at dksX5_r_0 0 rfl rfl)
theorem dX5_r_1 : decode cX5_r 1 = .ok (.getfield 9, 3) := dk_180 0 9 (dk_at dksX5_r_0 1 rfl rfl)
theorem dX5_r_4 : decode cX5_r 4 = .ok (.bipush 9, 2) := dk_16 9 (dk_at dksX5_r_0 4 rfl rfl)
theorem dX5_r_6 : decode cX5_r 6 = .ok (.bipush 8, 2) := dk_16 8 (dk_at dksX5_r_0 6 rfl rfl)
theorem dX5_r_8 : decode cX5_r 8 = .ok (.iload_n 1, 1) := dk_27 (dk_at dksX5_r_0 8 rfl rfl)
theorem dX5_r_9 : decode cX5_r 9 = .ok (.imul, 1) := dk_104 (dk_at dksX5_r_0 9 rfl rfl)
theorem dX5_r_10 : decode cX5_r 10 = .ok (.iadd, 1) := dk_96 (dk_at dksX5_r_0 10 rfl rfl)
theorem dX5_r_11 : decode cX5_r 11 = .ok (.iload_n 2, 1) := dk_28 (dk_at dksX5_r_0 11 rfl rfl)
theorem dX5_r_12 : decode cX5_r 12 = .ok (.iadd, 1) := dk_96 (dk_at dksX5_r_0 12 rfl rfl)
theorem dX5_r_13 : decode cX5_r 13 = .ok (.iaload, 1) := dk_46 (dk_at dksX5_r_0 13 rfl rfl)
theorem dX5_r_14 : decode cX5_r 14 = .ok (.ireturn, 1) := dk_172 (dk_at dksX5_r_0 14 rfl rfl)
abbrev cX5_setReam : ByteArray := prog_15_method_23_code
def yX5_setReam : MethodName := ⟨RX5, "setReam", "(III)V"⟩
def dkwX5_setReam_0 : List UInt8 := [42, 180, 0, 9, 16, 9, 16, 8, 27, 104, 96, 28, 96, 29, 79, 177]
abbrev dktX5_setReam_0 : List UInt8 := dkwX5_setReam_0 ++ []
theorem dksX5_setReam_0 : cX5_setReam.data.toList.drop 0 = dktX5_setReam_0 := by decide +kernel
theorem dX5_setReam_0 : decode cX5_setReam 0 = .ok (.aload_n 0, 1) := dk_42 (dk_at dksX5_setReam_0 0 rfl rfl)
theorem dX5_setReam_1 : decode cX5_setReam 1 = .ok (.getfield 9, 3) := dk_180 0 9 (dk_at dksX5_setReam_0 1 rfl rfl)
theorem dX5_setReam_4 : decode cX5_setReam 4 = .ok (.bipush 9, 2) := dk_16 9 (dk_at dksX5_setReam_0 4 rfl rfl)
theorem dX5_setReam_6 : decode cX5_setReam 6 = .ok (.bipush 8, 2) := dk_16 8 (dk_at dksX5_setReam_0 6 rfl rfl)
theorem dX5_setReam_8 : decode cX5_setReam 8 = .ok (.iload_n 1, 1) := dk_27 (dk_at dksX5_setReam_0 8 rfl rfl)
theorem dX5_setReam_9 : decode cX5_setReam 9 = .ok (.imul, 1) := dk_104 (dk_at dksX5_setReam_0 9 rfl rfl)
theorem dX5_setReam_10 : decode cX5_setReam 10 = .ok (.iadd, 1) := dk_96 (dk_at dksX5_setReam_0 10 rfl rfl)
theorem dX5_setReam_11 : decode cX5_setReam 11 = .ok (.iload_n 2, 1) := dk_28 (dk_at dksX5_setReam_0 11 rfl rfl)
theorem dX5_setReam_12 : decode cX5_setReam 12 = .ok (.iadd, 1) := dk_96 (dk_at dksX5_setReam_0 12 rfl rfl)
theorem dX5_setReam_13 : decode cX5_setReam 13 = .ok (.iload_n 3, 1) := dk_29 (dk_at dksX5_setReam_0 13 rfl rfl)
theorem dX5_setReam_14 : decode cX5_setReam 14 = .ok (.iastore, 1) := dk_79 (dk_at dksX5_setReam_0 14 rfl rfl)
theorem dX5_setReam_15 : decode cX5_setReam 15 = .ok (.return_, 1) := dk_177 (dk_at dksX5_setReam_0 15 rfl rfl)
abbrev cX5_reamOf : ByteArray := prog_15_method_30_code
def yX5_reamOf : MethodName := ⟨RX5, "reamOf", "(II)I"⟩
def dkwX5_reamOf_2 : List UInt8 := [172]
abbrev dktX5_reamOf_2 : List UInt8 := dkwX5_reamOf_2 ++ []
def dkwX5_reamOf_1 : List UInt8 := [167, 0, 4, 5, 181, 0, 27, 42, 180, 0, 27, 154, 0, 12, 42, 27, 28, 182, 0, 82, 167, 0, 4, 3]
abbrev dktX5_reamOf_1 : List UInt8 := dkwX5_reamOf_1 ++ dktX5_reamOf_2
def dkwX5_reamOf_0 : List UInt8 := [42, 42, 27, 182, 0, 107, 154, 0, 7, 4, 167, 0, 18, 28, 3, 16, 7, 184, 0, 49, 153, 0, 7, 3]
abbrev dktX5_reamOf_0 : List UInt8 := dkwX5_reamOf_0 ++ dktX5_reamOf_1
theorem dksX5_reamOf_0 : cX5_reamOf.data.toList.drop 0 = dktX5_reamOf_0 := by decide +kernel
theorem dksX5_reamOf_1 : cX5_reamOf.data.toList.drop 24 = dktX5_reamOf_1 := dk_seg dksX5_reamOf_0 24 rfl rfl
theorem dksX5_reamOf_2 : cX5_reamOf.data.toList.drop 48 = dktX5_reamOf_2 := dk_seg dksX5_reamOf_1 24 rfl rfl
theorem dX5_reamOf_0 : decode cX5_reamOf 0 = .ok (.aload_n 0, 1) := dk_42 (dk_at dksX5_reamOf_0 0 rfl rfl)
theorem dX5_reamOf_1 : decode cX5_reamOf 1 = .ok (.aload_n 0, 1) := dk_42 (dk_at dksX5_reamOf_0 1 rfl rfl)
theorem dX5_reamOf_2 : decode cX5_reamOf 2 = .ok (.iload_n 1, 1) := dk_27 (dk_at dksX5_reamOf_0 2 rfl rfl)
theorem dX5_reamOf_3 : decode cX5_reamOf 3 = .ok (.invokevirtual 107, 3) := dk_182 0 107 (dk_at dksX5_reamOf_0 3 rfl rfl)
theorem dX5_reamOf_6 : decode cX5_reamOf 6 = .ok (.ifCond .ne 7, 3) := dk_154 0 7 (dk_at dksX5_reamOf_0 6 rfl rfl)
theorem dX5_reamOf_9 : decode cX5_reamOf 9 = .ok (.iconst 1, 1) := dk_4 (dk_at dksX5_reamOf_0 9 rfl rfl)
theorem dX5_reamOf_10 : decode cX5_reamOf 10 = .ok (.goto 18, 3) := dk_167 0 18 (dk_at dksX5_reamOf_0 10 rfl rfl)
theorem dX5_reamOf_13 : decode cX5_reamOf 13 = .ok (.iload_n 2, 1) := dk_28 (dk_at dksX5_reamOf_0 13 rfl rfl)
theorem dX5_reamOf_14 : decode cX5_reamOf 14 = .ok (.iconst 0, 1) := dk_3 (dk_at dksX5_reamOf_0 14 rfl rfl)
theorem dX5_reamOf_15 : decode cX5_reamOf 15 = .ok (.bipush 7, 2) := dk_16 7 (dk_at dksX5_reamOf_0 15 rfl rfl)
theorem dX5_reamOf_17 : decode cX5_reamOf 17 = .ok (.invokestatic 49, 3) := dk_184 0 49 (dk_at dksX5_reamOf_0 17 rfl rfl)
theorem dX5_reamOf_20 : decode cX5_reamOf 20 = .ok (.ifCond .eq 7, 3) := dk_153 0 7 (dk_at dksX5_reamOf_0 20 rfl rfl)
theorem dX5_reamOf_23 : decode cX5_reamOf 23 = .ok (.iconst 0, 1) := dk_3 (dk_at dksX5_reamOf_0 23 rfl rfl)
theorem dX5_reamOf_24 : decode cX5_reamOf 24 = .ok (.goto 4, 3) := dk_167 0 4 (dk_at dksX5_reamOf_1 0 rfl rfl)
theorem dX5_reamOf_27 : decode cX5_reamOf 27 = .ok (.iconst 2, 1) := dk_5 (dk_at dksX5_reamOf_1 3 rfl rfl)
theorem dX5_reamOf_28 : decode cX5_reamOf 28 = .ok (.putfield 27, 3) := dk_181 0 27 (dk_at dksX5_reamOf_1 4 rfl rfl)
theorem dX5_reamOf_31 : decode cX5_reamOf 31 = .ok (.aload_n 0, 1) := dk_42 (dk_at dksX5_reamOf_1 7 rfl rfl)
theorem dX5_reamOf_32 : decode cX5_reamOf 32 = .ok (.getfield 27, 3) := dk_180 0 27 (dk_at dksX5_reamOf_1 8 rfl rfl)
theorem dX5_reamOf_35 : decode cX5_reamOf 35 = .ok (.ifCond .ne 12, 3) := dk_154 0 12 (dk_at dksX5_reamOf_1 11 rfl rfl)
theorem dX5_reamOf_38 : decode cX5_reamOf 38 = .ok (.aload_n 0, 1) := dk_42 (dk_at dksX5_reamOf_1 14 rfl rfl)
theorem dX5_reamOf_39 : decode cX5_reamOf 39 = .ok (.iload_n 1, 1) := dk_27 (dk_at dksX5_reamOf_1 15 rfl rfl)
theorem dX5_reamOf_40 : decode cX5_reamOf 40 = .ok (.iload_n 2, 1) := dk_28 (dk_at dksX5_reamOf_1 16 rfl rfl)
theorem dX5_reamOf_41 : decode cX5_reamOf 41 = .ok (.invokevirtual 82, 3) := dk_182 0 82 (dk_at dksX5_reamOf_1 17 rfl rfl)
theorem dX5_reamOf_44 : decode cX5_reamOf 44 = .ok (.goto 4, 3) := dk_167 0 4 (dk_at dksX5_reamOf_1 20 rfl rfl)
theorem dX5_reamOf_47 : decode cX5_reamOf 47 = .ok (.iconst 0, 1) := dk_3 (dk_at dksX5_reamOf_1 23 rfl rfl)
theorem dX5_reamOf_48 : decode cX5_reamOf 48 = .ok (.ireturn, 1) := dk_172 (dk_at dksX5_reamOf_2 0 rfl rfl)
abbrev cX5_isReam : ByteArray := prog_15_method_29_code
def yX5_isReam : MethodName := ⟨RX5, "isReam", "(I)Z"⟩
def dkwX5_isReam_0 : List UInt8 := [27, 3, 42, 180, 0, 9, 8, 46, 4, 100, 184, 0, 49, 172]
abbrev dktX5_isReam_0 : List UInt8 := dkwX5_isReam_0 ++ []
theorem dksX5_isReam_0 : cX5_isReam.data.toList.drop 0 = dktX5_isReam_0 := by decide +kernel
theorem dX5_isReam_0 : decode cX5_isReam 0 = .ok (.iload_n 1, 1) := dk_27 (dk_at dksX5_isReam_0 0 rfl rfl)
theorem dX5_isReam_1 : decode cX5_isReam 1 = .ok (.iconst 0, 1) := dk_3 (dk_at dksX5_isReam_0 1 rfl rfl)
theorem dX5_isReam_2 : decode cX5_isReam 2 = .ok (.aload_n 0, 1) := dk_42 (dk_at dksX5_isReam_0 2 rfl rfl)
theorem dX5_isReam_3 : decode cX5_isReam 3 = .ok (.getfield 9, 3) := dk_180 0 9 (dk_at dksX5_isReam_0 3 rfl rfl)
theorem dX5_isReam_6 : decode cX5_isReam 6 = .ok (.iconst 5, 1) := dk_8 (dk_at dksX5_isReam_0 6 rfl rfl)
theorem dX5_isReam_7 : decode cX5_isReam 7 = .ok (.iaload, 1) := dk_46 (dk_at dksX5_isReam_0 7 rfl rfl)
theorem dX5_isReam_8 : decode cX5_isReam 8 = .ok (.iconst 1, 1) := dk_4 (dk_at dksX5_isReam_0 8 rfl rfl)
theorem dX5_isReam_9 : decode cX5_isReam 9 = .ok (.isub, 1) := dk_100 (dk_at dksX5_isReam_0 9 rfl rfl)
theorem dX5_isReam_10 : decode cX5_isReam 10 = .ok (.invokestatic 49, 3) := dk_184 0 49 (dk_at dksX5_isReam_0 10 rfl rfl)
theorem dX5_isReam_13 : decode cX5_isReam 13 = .ok (.ireturn, 1) := dk_172 (dk_at dksX5_isReam_0 13 rfl rfl)
abbrev cX5_top : ByteArray := prog_15_method_31_code
def yX5_top : MethodName := ⟨RX5, "top", "(II)I"⟩
def dkwX5_top_2 : List UInt8 := [182, 0, 110, 167, 0, 4, 3, 172]
abbrev dktX5_top_2 : List UInt8 := dkwX5_top_2 ++ []
def dkwX5_top_1 : List UInt8 := [182, 0, 85, 154, 0, 7, 5, 167, 0, 4, 3, 181, 0, 27, 42, 180, 0, 27, 154, 0, 12, 42, 27, 28]
abbrev dktX5_top_1 : List UInt8 := dkwX5_top_1 ++ dktX5_top_2
def dkwX5_top_0 : List UInt8 := [42, 27, 184, 0, 72, 153, 0, 10, 28, 184, 0, 92, 154, 0, 7, 4, 167, 0, 17, 42, 27, 28]
abbrev dktX5_top_0 : List UInt8 := dkwX5_top_0 ++ dktX5_top_1
theorem dksX5_top_0 : cX5_top.data.toList.drop 0 = dktX5_top_0 := by decide +kernel
theorem dksX5_top_1 : cX5_top.data.toList.drop 22 = dktX5_top_1 := dk_seg dksX5_top_0 22 rfl rfl
theorem dksX5_top_2 : cX5_top.data.toList.drop 46 = dktX5_top_2 := dk_seg dksX5_top_1 24 rfl rfl
theorem dX5_top_0 : decode cX5_top 0 = .ok (.aload_n 0, 1) := dk_42 (dk_at dksX5_top_0 0 rfl rfl)
theorem dX5_top_1 : decode cX5_top 1 = .ok (.iload_n 1, 1) := dk_27 (dk_at dksX5_top_0 1 rfl rfl)
theorem dX5_top_2 : decode cX5_top 2 = .ok (.invokestatic 72, 3) := dk_184 0 72 (dk_at dksX5_top_0 2 rfl rfl)
theorem dX5_top_5 : decode cX5_top 5 = .ok (.ifCond .eq 10, 3) := dk_153 0 10 (dk_at dksX5_top_0 5 rfl rfl)
theorem dX5_top_8 : decode cX5_top 8 = .ok (.iload_n 2, 1) := dk_28 (dk_at dksX5_top_0 8 rfl rfl)
theorem dX5_top_9 : decode cX5_top 9 = .ok (.invokestatic 92, 3) := dk_184 0 92 (dk_at dksX5_top_0 9 rfl rfl)
theorem dX5_top_12 : decode cX5_top 12 = .ok (.ifCond .ne 7, 3) := dk_154 0 7 (dk_at dksX5_top_0 12 rfl rfl)
theorem dX5_top_15 : decode cX5_top 15 = .ok (.iconst 1, 1) := dk_4 (dk_at dksX5_top_0 15 rfl rfl)
theorem dX5_top_16 : decode cX5_top 16 = .ok (.goto 17, 3) := dk_167 0 17 (dk_at dksX5_top_0 16 rfl rfl)
theorem dX5_top_19 : decode cX5_top 19 = .ok (.aload_n 0, 1) := dk_42 (dk_at dksX5_top_0 19 rfl rfl)
theorem dX5_top_20 : decode cX5_top 20 = .ok (.iload_n 1, 1) := dk_27 (dk_at dksX5_top_0 20 rfl rfl)
theorem dX5_top_21 : decode cX5_top 21 = .ok (.iload_n 2, 1) := dk_28 (dk_at dksX5_top_0 21 rfl rfl)
theorem dX5_top_22 : decode cX5_top 22 = .ok (.invokevirtual 85, 3) := dk_182 0 85 (dk_at dksX5_top_1 0 rfl rfl)
theorem dX5_top_25 : decode cX5_top 25 = .ok (.ifCond .ne 7, 3) := dk_154 0 7 (dk_at dksX5_top_1 3 rfl rfl)
theorem dX5_top_28 : decode cX5_top 28 = .ok (.iconst 2, 1) := dk_5 (dk_at dksX5_top_1 6 rfl rfl)
theorem dX5_top_29 : decode cX5_top 29 = .ok (.goto 4, 3) := dk_167 0 4 (dk_at dksX5_top_1 7 rfl rfl)
theorem dX5_top_32 : decode cX5_top 32 = .ok (.iconst 0, 1) := dk_3 (dk_at dksX5_top_1 10 rfl rfl)
theorem dX5_top_33 : decode cX5_top 33 = .ok (.putfield 27, 3) := dk_181 0 27 (dk_at dksX5_top_1 11 rfl rfl)
theorem dX5_top_36 : decode cX5_top 36 = .ok (.aload_n 0, 1) := dk_42 (dk_at dksX5_top_1 14 rfl rfl)
theorem dX5_top_37 : decode cX5_top 37 = .ok (.getfield 27, 3) := dk_180 0 27 (dk_at dksX5_top_1 15 rfl rfl)
theorem dX5_top_40 : decode cX5_top 40 = .ok (.ifCond .ne 12, 3) := dk_154 0 12 (dk_at dksX5_top_1 18 rfl rfl)
theorem dX5_top_43 : decode cX5_top 43 = .ok (.aload_n 0, 1) := dk_42 (dk_at dksX5_top_1 21 rfl rfl)
theorem dX5_top_44 : decode cX5_top 44 = .ok (.iload_n 1, 1) := dk_27 (dk_at dksX5_top_1 22 rfl rfl)
theorem dX5_top_45 : decode cX5_top 45 = .ok (.iload_n 2, 1) := dk_28 (dk_at dksX5_top_1 23 rfl rfl)
theorem dX5_top_46 : decode cX5_top 46 = .ok (.invokevirtual 110, 3) := dk_182 0 110 (dk_at dksX5_top_2 0 rfl rfl)
theorem dX5_top_49 : decode cX5_top 49 = .ok (.goto 4, 3) := dk_167 0 4 (dk_at dksX5_top_2 3 rfl rfl)
theorem dX5_top_52 : decode cX5_top 52 = .ok (.iconst 0, 1) := dk_3 (dk_at dksX5_top_2 6 rfl rfl)
theorem dX5_top_53 : decode cX5_top 53 = .ok (.ireturn, 1) := dk_172 (dk_at dksX5_top_2 7 rfl rfl)
abbrev cX5_topOf : ByteArray := prog_15_method_26_code
def yX5_topOf : MethodName := ⟨RX5, "topOf", "(II)I"⟩
def dkwX5_topOf_0 : List UInt8 := [42, 27, 28, 42, 27, 28, 182, 0, 85, 4, 100, 182, 0, 88, 172]
abbrev dktX5_topOf_0 : List UInt8 := dkwX5_topOf_0 ++ []
theorem dksX5_topOf_0 : cX5_topOf.data.toList.drop 0 = dktX5_topOf_0 := by decide +kernel
theorem dX5_topOf_0 : decode cX5_topOf 0 = .ok (.aload_n 0, 1) := dk_42 (dk_at dksX5_topOf_0 0 rfl rfl)
theorem dX5_topOf_1 : decode cX5_topOf 1 = .ok (.iload_n 1, 1) := dk_27 (dk_at dksX5_topOf_0 1 rfl rfl)
theorem dX5_topOf_2 : decode cX5_topOf 2 = .ok (.iload_n 2, 1) := dk_28 (dk_at dksX5_topOf_0 2 rfl rfl)
theorem dX5_topOf_3 : decode cX5_topOf 3 = .ok (.aload_n 0, 1) := dk_42 (dk_at dksX5_topOf_0 3 rfl rfl)
theorem dX5_topOf_4 : decode cX5_topOf 4 = .ok (.iload_n 1, 1) := dk_27 (dk_at dksX5_topOf_0 4 rfl rfl)
theorem dX5_topOf_5 : decode cX5_topOf 5 = .ok (.iload_n 2, 1) := dk_28 (dk_at dksX5_topOf_0 5 rfl rfl)
theorem dX5_topOf_6 : decode cX5_topOf 6 = .ok (.invokevirtual 85, 3) := dk_182 0 85 (dk_at dksX5_topOf_0 6 rfl rfl)
theorem dX5_topOf_9 : decode cX5_topOf 9 = .ok (.iconst 1, 1) := dk_4 (dk_at dksX5_topOf_0 9 rfl rfl)
theorem dX5_topOf_10 : decode cX5_topOf 10 = .ok (.isub, 1) := dk_100 (dk_at dksX5_topOf_0 10 rfl rfl)
theorem dX5_topOf_11 : decode cX5_topOf 11 = .ok (.invokevirtual 88, 3) := dk_182 0 88 (dk_at dksX5_topOf_0 11 rfl rfl)
theorem dX5_topOf_14 : decode cX5_topOf 14 = .ok (.ireturn, 1) := dk_172 (dk_at dksX5_topOf_0 14 rfl rfl)
abbrev cX5_reamAt : ByteArray := prog_15_method_25_code
def yX5_reamAt : MethodName := ⟨RX5, "reamAt", "(III)I"⟩
def dkwX5_reamAt_2 : List UInt8 := [160, 0, 6, 21, 4, 172, 132, 4, 1, 167, 255, 205, 2, 172]
abbrev dktX5_reamAt_2 : List UInt8 := dkwX5_reamAt_2 ++ []
def dkwX5_reamAt_1 : List UInt8 := [160, 0, 29, 42, 21, 4, 8, 182, 0, 82, 28, 160, 0, 18, 42, 21, 4, 16, 6, 182, 0, 82, 29]
abbrev dktX5_reamAt_1 : List UInt8 := dkwX5_reamAt_1 ++ dktX5_reamAt_2
def dkwX5_reamAt_0 : List UInt8 := [3, 54, 4, 21, 4, 42, 180, 0, 9, 8, 46, 162, 0, 46, 42, 21, 4, 7, 182, 0, 82, 27]
abbrev dktX5_reamAt_0 : List UInt8 := dkwX5_reamAt_0 ++ dktX5_reamAt_1
theorem dksX5_reamAt_0 : cX5_reamAt.data.toList.drop 0 = dktX5_reamAt_0 := by decide +kernel
theorem dksX5_reamAt_1 : cX5_reamAt.data.toList.drop 22 = dktX5_reamAt_1 := dk_seg dksX5_reamAt_0 22 rfl rfl
theorem dksX5_reamAt_2 : cX5_reamAt.data.toList.drop 45 = dktX5_reamAt_2 := dk_seg dksX5_reamAt_1 23 rfl rfl
theorem dX5_reamAt_0 : decode cX5_reamAt 0 = .ok (.iconst 0, 1) := dk_3 (dk_at dksX5_reamAt_0 0 rfl rfl)
theorem dX5_reamAt_1 : decode cX5_reamAt 1 = .ok (.istore 4, 2) := dk_54 4 (dk_at dksX5_reamAt_0 1 rfl rfl)
theorem dX5_reamAt_3 : decode cX5_reamAt 3 = .ok (.iload 4, 2) := dk_21 4 (dk_at dksX5_reamAt_0 3 rfl rfl)
theorem dX5_reamAt_5 : decode cX5_reamAt 5 = .ok (.aload_n 0, 1) := dk_42 (dk_at dksX5_reamAt_0 5 rfl rfl)
theorem dX5_reamAt_6 : decode cX5_reamAt 6 = .ok (.getfield 9, 3) := dk_180 0 9 (dk_at dksX5_reamAt_0 6 rfl rfl)
theorem dX5_reamAt_9 : decode cX5_reamAt 9 = .ok (.iconst 5, 1) := dk_8 (dk_at dksX5_reamAt_0 9 rfl rfl)
theorem dX5_reamAt_10 : decode cX5_reamAt 10 = .ok (.iaload, 1) := dk_46 (dk_at dksX5_reamAt_0 10 rfl rfl)
theorem dX5_reamAt_11 : decode cX5_reamAt 11 = .ok (.if_icmp .ge 46, 3) := dk_162 0 46 (dk_at dksX5_reamAt_0 11 rfl rfl)
theorem dX5_reamAt_14 : decode cX5_reamAt 14 = .ok (.aload_n 0, 1) := dk_42 (dk_at dksX5_reamAt_0 14 rfl rfl)
theorem dX5_reamAt_15 : decode cX5_reamAt 15 = .ok (.iload 4, 2) := dk_21 4 (dk_at dksX5_reamAt_0 15 rfl rfl)
theorem dX5_reamAt_17 : decode cX5_reamAt 17 = .ok (.iconst 4, 1) := dk_7 (dk_at dksX5_reamAt_0 17 rfl rfl)
theorem dX5_reamAt_18 : decode cX5_reamAt 18 = .ok (.invokevirtual 82, 3) := dk_182 0 82 (dk_at dksX5_reamAt_0 18 rfl rfl)
theorem dX5_reamAt_21 : decode cX5_reamAt 21 = .ok (.iload_n 1, 1) := dk_27 (dk_at dksX5_reamAt_0 21 rfl rfl)
theorem dX5_reamAt_22 : decode cX5_reamAt 22 = .ok (.if_icmp .ne 29, 3) := dk_160 0 29 (dk_at dksX5_reamAt_1 0 rfl rfl)
theorem dX5_reamAt_25 : decode cX5_reamAt 25 = .ok (.aload_n 0, 1) := dk_42 (dk_at dksX5_reamAt_1 3 rfl rfl)
theorem dX5_reamAt_26 : decode cX5_reamAt 26 = .ok (.iload 4, 2) := dk_21 4 (dk_at dksX5_reamAt_1 4 rfl rfl)
theorem dX5_reamAt_28 : decode cX5_reamAt 28 = .ok (.iconst 5, 1) := dk_8 (dk_at dksX5_reamAt_1 6 rfl rfl)
theorem dX5_reamAt_29 : decode cX5_reamAt 29 = .ok (.invokevirtual 82, 3) := dk_182 0 82 (dk_at dksX5_reamAt_1 7 rfl rfl)
theorem dX5_reamAt_32 : decode cX5_reamAt 32 = .ok (.iload_n 2, 1) := dk_28 (dk_at dksX5_reamAt_1 10 rfl rfl)
theorem dX5_reamAt_33 : decode cX5_reamAt 33 = .ok (.if_icmp .ne 18, 3) := dk_160 0 18 (dk_at dksX5_reamAt_1 11 rfl rfl)
theorem dX5_reamAt_36 : decode cX5_reamAt 36 = .ok (.aload_n 0, 1) := dk_42 (dk_at dksX5_reamAt_1 14 rfl rfl)
theorem dX5_reamAt_37 : decode cX5_reamAt 37 = .ok (.iload 4, 2) := dk_21 4 (dk_at dksX5_reamAt_1 15 rfl rfl)
theorem dX5_reamAt_39 : decode cX5_reamAt 39 = .ok (.bipush 6, 2) := dk_16 6 (dk_at dksX5_reamAt_1 17 rfl rfl)
theorem dX5_reamAt_41 : decode cX5_reamAt 41 = .ok (.invokevirtual 82, 3) := dk_182 0 82 (dk_at dksX5_reamAt_1 19 rfl rfl)
theorem dX5_reamAt_44 : decode cX5_reamAt 44 = .ok (.iload_n 3, 1) := dk_29 (dk_at dksX5_reamAt_1 22 rfl rfl)
theorem dX5_reamAt_45 : decode cX5_reamAt 45 = .ok (.if_icmp .ne 6, 3) := dk_160 0 6 (dk_at dksX5_reamAt_2 0 rfl rfl)
theorem dX5_reamAt_48 : decode cX5_reamAt 48 = .ok (.iload 4, 2) := dk_21 4 (dk_at dksX5_reamAt_2 3 rfl rfl)
theorem dX5_reamAt_50 : decode cX5_reamAt 50 = .ok (.ireturn, 1) := dk_172 (dk_at dksX5_reamAt_2 5 rfl rfl)
theorem dX5_reamAt_51 : decode cX5_reamAt 51 = .ok (.iinc 4 1, 3) := dk_132 4 1 (dk_at dksX5_reamAt_2 6 rfl rfl)
theorem dX5_reamAt_54 : decode cX5_reamAt 54 = .ok (.goto (-51), 3) := dk_167 255 205 (dk_at dksX5_reamAt_2 9 rfl rfl)
theorem dX5_reamAt_57 : decode cX5_reamAt 57 = .ok (.iconst (-1), 1) := dk_2 (dk_at dksX5_reamAt_2 12 rfl rfl)
theorem dX5_reamAt_58 : decode cX5_reamAt 58 = .ok (.ireturn, 1) := dk_172 (dk_at dksX5_reamAt_2 13 rfl rfl)
abbrev cX5_wavyIn : ByteArray := prog_15_method_33_code
def yX5_wavyIn : MethodName := ⟨RX5, "wavyIn", "(I)I"⟩
def dkwX5_wavyIn_3 : List UInt8 := [180, 0, 27, 154, 0, 19, 3, 16, 7, 42, 27, 6, 182, 0, 82, 100, 184, 0, 119, 167, 0, 4, 3, 172]
abbrev dktX5_wavyIn_3 : List UInt8 := dkwX5_wavyIn_3 ++ []
def dkwX5_wavyIn_2 : List UInt8 := [7, 182, 0, 82, 3, 182, 0, 116, 16, 7, 162, 0, 7, 5, 167, 0, 4, 3, 181, 0, 27, 42]
abbrev dktX5_wavyIn_2 : List UInt8 := dkwX5_wavyIn_2 ++ dktX5_wavyIn_3
def dkwX5_wavyIn_1 : List UInt8 := [3, 172, 42, 42, 27, 7, 182, 0, 82, 2, 159, 0, 27, 42, 27, 182, 0, 113, 154, 0, 23, 42, 42, 27]
abbrev dktX5_wavyIn_1 : List UInt8 := dkwX5_wavyIn_1 ++ dktX5_wavyIn_2
def dkwX5_wavyIn_0 : List UInt8 := [42, 42, 27, 182, 0, 107, 153, 0, 7, 3, 167, 0, 4, 4, 181, 0, 27, 42, 180, 0, 27, 153, 0, 5]
abbrev dktX5_wavyIn_0 : List UInt8 := dkwX5_wavyIn_0 ++ dktX5_wavyIn_1
theorem dksX5_wavyIn_0 : cX5_wavyIn.data.toList.drop 0 = dktX5_wavyIn_0 := by decide +kernel
theorem dksX5_wavyIn_1 : cX5_wavyIn.data.toList.drop 24 = dktX5_wavyIn_1 := dk_seg dksX5_wavyIn_0 24 rfl rfl
theorem dksX5_wavyIn_2 : cX5_wavyIn.data.toList.drop 48 = dktX5_wavyIn_2 := dk_seg dksX5_wavyIn_1 24 rfl rfl
theorem dksX5_wavyIn_3 : cX5_wavyIn.data.toList.drop 70 = dktX5_wavyIn_3 := dk_seg dksX5_wavyIn_2 22 rfl rfl
theorem dX5_wavyIn_0 : decode cX5_wavyIn 0 = .ok (.aload_n 0, 1) := dk_42 (dk_at dksX5_wavyIn_0 0 rfl rfl)
theorem dX5_wavyIn_1 : decode cX5_wavyIn 1 = .ok (.aload_n 0, 1) := dk_42 (dk_at dksX5_wavyIn_0 1 rfl rfl)
theorem dX5_wavyIn_2 : decode cX5_wavyIn 2 = .ok (.iload_n 1, 1) := dk_27 (dk_at dksX5_wavyIn_0 2 rfl rfl)
theorem dX5_wavyIn_3 : decode cX5_wavyIn 3 = .ok (.invokevirtual 107, 3) := dk_182 0 107 (dk_at dksX5_wavyIn_0 3 rfl rfl)
theorem dX5_wavyIn_6 : decode cX5_wavyIn 6 = .ok (.ifCond .eq 7, 3) := dk_153 0 7 (dk_at dksX5_wavyIn_0 6 rfl rfl)
theorem dX5_wavyIn_9 : decode cX5_wavyIn 9 = .ok (.iconst 0, 1) := dk_3 (dk_at dksX5_wavyIn_0 9 rfl rfl)
theorem dX5_wavyIn_10 : decode cX5_wavyIn 10 = .ok (.goto 4, 3) := dk_167 0 4 (dk_at dksX5_wavyIn_0 10 rfl rfl)
theorem dX5_wavyIn_13 : decode cX5_wavyIn 13 = .ok (.iconst 1, 1) := dk_4 (dk_at dksX5_wavyIn_0 13 rfl rfl)
theorem dX5_wavyIn_14 : decode cX5_wavyIn 14 = .ok (.putfield 27, 3) := dk_181 0 27 (dk_at dksX5_wavyIn_0 14 rfl rfl)
theorem dX5_wavyIn_17 : decode cX5_wavyIn 17 = .ok (.aload_n 0, 1) := dk_42 (dk_at dksX5_wavyIn_0 17 rfl rfl)
theorem dX5_wavyIn_18 : decode cX5_wavyIn 18 = .ok (.getfield 27, 3) := dk_180 0 27 (dk_at dksX5_wavyIn_0 18 rfl rfl)
theorem dX5_wavyIn_21 : decode cX5_wavyIn 21 = .ok (.ifCond .eq 5, 3) := dk_153 0 5 (dk_at dksX5_wavyIn_0 21 rfl rfl)
theorem dX5_wavyIn_24 : decode cX5_wavyIn 24 = .ok (.iconst 0, 1) := dk_3 (dk_at dksX5_wavyIn_1 0 rfl rfl)
theorem dX5_wavyIn_25 : decode cX5_wavyIn 25 = .ok (.ireturn, 1) := dk_172 (dk_at dksX5_wavyIn_1 1 rfl rfl)
theorem dX5_wavyIn_26 : decode cX5_wavyIn 26 = .ok (.aload_n 0, 1) := dk_42 (dk_at dksX5_wavyIn_1 2 rfl rfl)
theorem dX5_wavyIn_27 : decode cX5_wavyIn 27 = .ok (.aload_n 0, 1) := dk_42 (dk_at dksX5_wavyIn_1 3 rfl rfl)
theorem dX5_wavyIn_28 : decode cX5_wavyIn 28 = .ok (.iload_n 1, 1) := dk_27 (dk_at dksX5_wavyIn_1 4 rfl rfl)
theorem dX5_wavyIn_29 : decode cX5_wavyIn 29 = .ok (.iconst 4, 1) := dk_7 (dk_at dksX5_wavyIn_1 5 rfl rfl)
theorem dX5_wavyIn_30 : decode cX5_wavyIn 30 = .ok (.invokevirtual 82, 3) := dk_182 0 82 (dk_at dksX5_wavyIn_1 6 rfl rfl)
theorem dX5_wavyIn_33 : decode cX5_wavyIn 33 = .ok (.iconst (-1), 1) := dk_2 (dk_at dksX5_wavyIn_1 9 rfl rfl)
theorem dX5_wavyIn_34 : decode cX5_wavyIn 34 = .ok (.if_icmp .eq 27, 3) := dk_159 0 27 (dk_at dksX5_wavyIn_1 10 rfl rfl)
theorem dX5_wavyIn_37 : decode cX5_wavyIn 37 = .ok (.aload_n 0, 1) := dk_42 (dk_at dksX5_wavyIn_1 13 rfl rfl)
theorem dX5_wavyIn_38 : decode cX5_wavyIn 38 = .ok (.iload_n 1, 1) := dk_27 (dk_at dksX5_wavyIn_1 14 rfl rfl)
theorem dX5_wavyIn_39 : decode cX5_wavyIn 39 = .ok (.invokevirtual 113, 3) := dk_182 0 113 (dk_at dksX5_wavyIn_1 15 rfl rfl)
theorem dX5_wavyIn_42 : decode cX5_wavyIn 42 = .ok (.ifCond .ne 23, 3) := dk_154 0 23 (dk_at dksX5_wavyIn_1 18 rfl rfl)
theorem dX5_wavyIn_45 : decode cX5_wavyIn 45 = .ok (.aload_n 0, 1) := dk_42 (dk_at dksX5_wavyIn_1 21 rfl rfl)
theorem dX5_wavyIn_46 : decode cX5_wavyIn 46 = .ok (.aload_n 0, 1) := dk_42 (dk_at dksX5_wavyIn_1 22 rfl rfl)
theorem dX5_wavyIn_47 : decode cX5_wavyIn 47 = .ok (.iload_n 1, 1) := dk_27 (dk_at dksX5_wavyIn_1 23 rfl rfl)
theorem dX5_wavyIn_48 : decode cX5_wavyIn 48 = .ok (.iconst 4, 1) := dk_7 (dk_at dksX5_wavyIn_2 0 rfl rfl)
theorem dX5_wavyIn_49 : decode cX5_wavyIn 49 = .ok (.invokevirtual 82, 3) := dk_182 0 82 (dk_at dksX5_wavyIn_2 1 rfl rfl)
theorem dX5_wavyIn_52 : decode cX5_wavyIn 52 = .ok (.iconst 0, 1) := dk_3 (dk_at dksX5_wavyIn_2 4 rfl rfl)
theorem dX5_wavyIn_53 : decode cX5_wavyIn 53 = .ok (.invokevirtual 116, 3) := dk_182 0 116 (dk_at dksX5_wavyIn_2 5 rfl rfl)
theorem dX5_wavyIn_56 : decode cX5_wavyIn 56 = .ok (.bipush 7, 2) := dk_16 7 (dk_at dksX5_wavyIn_2 8 rfl rfl)
theorem dX5_wavyIn_58 : decode cX5_wavyIn 58 = .ok (.if_icmp .ge 7, 3) := dk_162 0 7 (dk_at dksX5_wavyIn_2 10 rfl rfl)
theorem dX5_wavyIn_61 : decode cX5_wavyIn 61 = .ok (.iconst 2, 1) := dk_5 (dk_at dksX5_wavyIn_2 13 rfl rfl)
theorem dX5_wavyIn_62 : decode cX5_wavyIn 62 = .ok (.goto 4, 3) := dk_167 0 4 (dk_at dksX5_wavyIn_2 14 rfl rfl)
theorem dX5_wavyIn_65 : decode cX5_wavyIn 65 = .ok (.iconst 0, 1) := dk_3 (dk_at dksX5_wavyIn_2 17 rfl rfl)
theorem dX5_wavyIn_66 : decode cX5_wavyIn 66 = .ok (.putfield 27, 3) := dk_181 0 27 (dk_at dksX5_wavyIn_2 18 rfl rfl)
theorem dX5_wavyIn_69 : decode cX5_wavyIn 69 = .ok (.aload_n 0, 1) := dk_42 (dk_at dksX5_wavyIn_2 21 rfl rfl)
theorem dX5_wavyIn_70 : decode cX5_wavyIn 70 = .ok (.getfield 27, 3) := dk_180 0 27 (dk_at dksX5_wavyIn_3 0 rfl rfl)
theorem dX5_wavyIn_73 : decode cX5_wavyIn 73 = .ok (.ifCond .ne 19, 3) := dk_154 0 19 (dk_at dksX5_wavyIn_3 3 rfl rfl)
theorem dX5_wavyIn_76 : decode cX5_wavyIn 76 = .ok (.iconst 0, 1) := dk_3 (dk_at dksX5_wavyIn_3 6 rfl rfl)
theorem dX5_wavyIn_77 : decode cX5_wavyIn 77 = .ok (.bipush 7, 2) := dk_16 7 (dk_at dksX5_wavyIn_3 7 rfl rfl)
theorem dX5_wavyIn_79 : decode cX5_wavyIn 79 = .ok (.aload_n 0, 1) := dk_42 (dk_at dksX5_wavyIn_3 9 rfl rfl)
theorem dX5_wavyIn_80 : decode cX5_wavyIn 80 = .ok (.iload_n 1, 1) := dk_27 (dk_at dksX5_wavyIn_3 10 rfl rfl)
theorem dX5_wavyIn_81 : decode cX5_wavyIn 81 = .ok (.iconst 3, 1) := dk_6 (dk_at dksX5_wavyIn_3 11 rfl rfl)
theorem dX5_wavyIn_82 : decode cX5_wavyIn 82 = .ok (.invokevirtual 82, 3) := dk_182 0 82 (dk_at dksX5_wavyIn_3 12 rfl rfl)
theorem dX5_wavyIn_85 : decode cX5_wavyIn 85 = .ok (.isub, 1) := dk_100 (dk_at dksX5_wavyIn_3 15 rfl rfl)
theorem dX5_wavyIn_86 : decode cX5_wavyIn 86 = .ok (.invokestatic 119, 3) := dk_184 0 119 (dk_at dksX5_wavyIn_3 16 rfl rfl)
theorem dX5_wavyIn_89 : decode cX5_wavyIn 89 = .ok (.goto 4, 3) := dk_167 0 4 (dk_at dksX5_wavyIn_3 19 rfl rfl)
theorem dX5_wavyIn_92 : decode cX5_wavyIn 92 = .ok (.iconst 0, 1) := dk_3 (dk_at dksX5_wavyIn_3 22 rfl rfl)
theorem dX5_wavyIn_93 : decode cX5_wavyIn 93 = .ok (.ireturn, 1) := dk_172 (dk_at dksX5_wavyIn_3 23 rfl rfl)
abbrev cX5_isWavy : ByteArray := prog_15_method_32_code
def yX5_isWavy : MethodName := ⟨RX5, "isWavy", "(I)Z"⟩
def dkwX5_isWavy_0 : List UInt8 := [42, 27, 6, 182, 0, 82, 16, 7, 161, 0, 7, 4, 167, 0, 4, 3, 172]
abbrev dktX5_isWavy_0 : List UInt8 := dkwX5_isWavy_0 ++ []
theorem dksX5_isWavy_0 : cX5_isWavy.data.toList.drop 0 = dktX5_isWavy_0 := by decide +kernel
theorem dX5_isWavy_0 : decode cX5_isWavy 0 = .ok (.aload_n 0, 1) := dk_42 (dk_at dksX5_isWavy_0 0 rfl rfl)
theorem dX5_isWavy_1 : decode cX5_isWavy 1 = .ok (.iload_n 1, 1) := dk_27 (dk_at dksX5_isWavy_0 1 rfl rfl)
theorem dX5_isWavy_2 : decode cX5_isWavy 2 = .ok (.iconst 3, 1) := dk_6 (dk_at dksX5_isWavy_0 2 rfl rfl)
theorem dX5_isWavy_3 : decode cX5_isWavy 3 = .ok (.invokevirtual 82, 3) := dk_182 0 82 (dk_at dksX5_isWavy_0 3 rfl rfl)
theorem dX5_isWavy_6 : decode cX5_isWavy 6 = .ok (.bipush 7, 2) := dk_16 7 (dk_at dksX5_isWavy_0 6 rfl rfl)
theorem dX5_isWavy_8 : decode cX5_isWavy 8 = .ok (.if_icmp .lt 7, 3) := dk_161 0 7 (dk_at dksX5_isWavy_0 8 rfl rfl)
theorem dX5_isWavy_11 : decode cX5_isWavy 11 = .ok (.iconst 1, 1) := dk_4 (dk_at dksX5_isWavy_0 11 rfl rfl)
theorem dX5_isWavy_12 : decode cX5_isWavy 12 = .ok (.goto 4, 3) := dk_167 0 4 (dk_at dksX5_isWavy_0 12 rfl rfl)
theorem dX5_isWavy_15 : decode cX5_isWavy 15 = .ok (.iconst 0, 1) := dk_3 (dk_at dksX5_isWavy_0 15 rfl rfl)
theorem dX5_isWavy_16 : decode cX5_isWavy 16 = .ok (.ireturn, 1) := dk_172 (dk_at dksX5_isWavy_0 16 rfl rfl)
abbrev cX5_a : ByteArray := prog_15_method_35_code
def yX5_a : MethodName := ⟨RX5, "a", "(II)I"⟩
def dkwX5_a_0 : List UInt8 := [42, 180, 0, 9, 17, 0, 249, 8, 27, 104, 96, 28, 96, 46, 172]
abbrev dktX5_a_0 : List UInt8 := dkwX5_a_0 ++ []
theorem dksX5_a_0 : cX5_a.data.toList.drop 0 = dktX5_a_0 := by decide +kernel
theorem dX5_a_0 : decode cX5_a 0 = .ok (.aload_n 0, 1) := dk_42 (dk_at dksX5_a_0 0 rfl rfl)
theorem dX5_a_1 : decode cX5_a 1 = .ok (.getfield 9, 3) := dk_180 0 9 (dk_at dksX5_a_0 1 rfl rfl)
theorem dX5_a_4 : decode cX5_a 4 = .ok (.sipush 249, 3) := dk_17 0 249 (dk_at dksX5_a_0 4 rfl rfl)
theorem dX5_a_7 : decode cX5_a 7 = .ok (.iconst 5, 1) := dk_8 (dk_at dksX5_a_0 7 rfl rfl)
theorem dX5_a_8 : decode cX5_a 8 = .ok (.iload_n 1, 1) := dk_27 (dk_at dksX5_a_0 8 rfl rfl)
theorem dX5_a_9 : decode cX5_a 9 = .ok (.imul, 1) := dk_104 (dk_at dksX5_a_0 9 rfl rfl)
theorem dX5_a_10 : decode cX5_a 10 = .ok (.iadd, 1) := dk_96 (dk_at dksX5_a_0 10 rfl rfl)
theorem dX5_a_11 : decode cX5_a 11 = .ok (.iload_n 2, 1) := dk_28 (dk_at dksX5_a_0 11 rfl rfl)
theorem dX5_a_12 : decode cX5_a 12 = .ok (.iadd, 1) := dk_96 (dk_at dksX5_a_0 12 rfl rfl)
theorem dX5_a_13 : decode cX5_a 13 = .ok (.iaload, 1) := dk_46 (dk_at dksX5_a_0 13 rfl rfl)
theorem dX5_a_14 : decode cX5_a 14 = .ok (.ireturn, 1) := dk_172 (dk_at dksX5_a_0 14 rfl rfl)
abbrev cX5_most : ByteArray := prog_15_method_5_code
def yX5_most : MethodName := ⟨RX5, "most", "(II)I"⟩
def dkwX5_most_0 : List UInt8 := [26, 27, 164, 0, 7, 26, 167, 0, 4, 27, 172]
abbrev dktX5_most_0 : List UInt8 := dkwX5_most_0 ++ []
theorem dksX5_most_0 : cX5_most.data.toList.drop 0 = dktX5_most_0 := by decide +kernel
theorem dX5_most_0 : decode cX5_most 0 = .ok (.iload_n 0, 1) := dk_26 (dk_at dksX5_most_0 0 rfl rfl)
theorem dX5_most_1 : decode cX5_most 1 = .ok (.iload_n 1, 1) := dk_27 (dk_at dksX5_most_0 1 rfl rfl)
theorem dX5_most_2 : decode cX5_most 2 = .ok (.if_icmp .le 7, 3) := dk_164 0 7 (dk_at dksX5_most_0 2 rfl rfl)
theorem dX5_most_5 : decode cX5_most 5 = .ok (.iload_n 0, 1) := dk_26 (dk_at dksX5_most_0 5 rfl rfl)
theorem dX5_most_6 : decode cX5_most 6 = .ok (.goto 4, 3) := dk_167 0 4 (dk_at dksX5_most_0 6 rfl rfl)
theorem dX5_most_9 : decode cX5_most 9 = .ok (.iload_n 1, 1) := dk_27 (dk_at dksX5_most_0 9 rfl rfl)
theorem dX5_most_10 : decode cX5_most 10 = .ok (.ireturn, 1) := dk_172 (dk_at dksX5_most_0 10 rfl rfl)
abbrev cX5_air : ByteArray := prog_15_method_39_code
def yX5_air : MethodName := ⟨RX5, "air", "(II)I"⟩
def dkwX5_air_0 : List UInt8 := [42, 182, 0, 61, 42, 42, 27, 28, 182, 0, 128, 3, 4, 3, 182, 0, 78, 172]
abbrev dktX5_air_0 : List UInt8 := dkwX5_air_0 ++ []
theorem dksX5_air_0 : cX5_air.data.toList.drop 0 = dktX5_air_0 := by decide +kernel
theorem dX5_air_0 : decode cX5_air 0 = .ok (.aload_n 0, 1) := dk_42 (dk_at dksX5_air_0 0 rfl rfl)
theorem dX5_air_1 : decode cX5_air 1 = .ok (.invokevirtual 61, 3) := dk_182 0 61 (dk_at dksX5_air_0 1 rfl rfl)
theorem dX5_air_4 : decode cX5_air 4 = .ok (.aload_n 0, 1) := dk_42 (dk_at dksX5_air_0 4 rfl rfl)
theorem dX5_air_5 : decode cX5_air 5 = .ok (.aload_n 0, 1) := dk_42 (dk_at dksX5_air_0 5 rfl rfl)
theorem dX5_air_6 : decode cX5_air 6 = .ok (.iload_n 1, 1) := dk_27 (dk_at dksX5_air_0 6 rfl rfl)
theorem dX5_air_7 : decode cX5_air 7 = .ok (.iload_n 2, 1) := dk_28 (dk_at dksX5_air_0 7 rfl rfl)
theorem dX5_air_8 : decode cX5_air 8 = .ok (.invokevirtual 128, 3) := dk_182 0 128 (dk_at dksX5_air_0 8 rfl rfl)
theorem dX5_air_11 : decode cX5_air 11 = .ok (.iconst 0, 1) := dk_3 (dk_at dksX5_air_0 11 rfl rfl)
theorem dX5_air_12 : decode cX5_air 12 = .ok (.iconst 1, 1) := dk_4 (dk_at dksX5_air_0 12 rfl rfl)
theorem dX5_air_13 : decode cX5_air 13 = .ok (.iconst 0, 1) := dk_3 (dk_at dksX5_air_0 13 rfl rfl)
theorem dX5_air_14 : decode cX5_air 14 = .ok (.invokevirtual 78, 3) := dk_182 0 78 (dk_at dksX5_air_0 14 rfl rfl)
theorem dX5_air_17 : decode cX5_air 17 = .ok (.ireturn, 1) := dk_172 (dk_at dksX5_air_0 17 rfl rfl)
abbrev cX5_airs : ByteArray := prog_15_method_38_code
def yX5_airs : MethodName := ⟨RX5, "airs", "(II)I"⟩
def dkwX5_airs_1 : List UInt8 := [28, 182, 0, 125, 172]
abbrev dktX5_airs_1 : List UInt8 := dkwX5_airs_1 ++ []
def dkwX5_airs_0 : List UInt8 := [27, 184, 0, 72, 153, 0, 13, 28, 3, 16, 9, 184, 0, 49, 154, 0, 7, 5, 167, 0, 10, 42, 27, 3]
abbrev dktX5_airs_0 : List UInt8 := dkwX5_airs_0 ++ dktX5_airs_1
theorem dksX5_airs_0 : cX5_airs.data.toList.drop 0 = dktX5_airs_0 := by decide +kernel
theorem dksX5_airs_1 : cX5_airs.data.toList.drop 24 = dktX5_airs_1 := dk_seg dksX5_airs_0 24 rfl rfl
theorem dX5_airs_0 : decode cX5_airs 0 = .ok (.iload_n 1, 1) := dk_27 (dk_at dksX5_airs_0 0 rfl rfl)
theorem dX5_airs_1 : decode cX5_airs 1 = .ok (.invokestatic 72, 3) := dk_184 0 72 (dk_at dksX5_airs_0 1 rfl rfl)
theorem dX5_airs_4 : decode cX5_airs 4 = .ok (.ifCond .eq 13, 3) := dk_153 0 13 (dk_at dksX5_airs_0 4 rfl rfl)
theorem dX5_airs_7 : decode cX5_airs 7 = .ok (.iload_n 2, 1) := dk_28 (dk_at dksX5_airs_0 7 rfl rfl)
theorem dX5_airs_8 : decode cX5_airs 8 = .ok (.iconst 0, 1) := dk_3 (dk_at dksX5_airs_0 8 rfl rfl)
theorem dX5_airs_9 : decode cX5_airs 9 = .ok (.bipush 9, 2) := dk_16 9 (dk_at dksX5_airs_0 9 rfl rfl)
theorem dX5_airs_11 : decode cX5_airs 11 = .ok (.invokestatic 49, 3) := dk_184 0 49 (dk_at dksX5_airs_0 11 rfl rfl)
theorem dX5_airs_14 : decode cX5_airs 14 = .ok (.ifCond .ne 7, 3) := dk_154 0 7 (dk_at dksX5_airs_0 14 rfl rfl)
theorem dX5_airs_17 : decode cX5_airs 17 = .ok (.iconst 2, 1) := dk_5 (dk_at dksX5_airs_0 17 rfl rfl)
theorem dX5_airs_18 : decode cX5_airs 18 = .ok (.goto 10, 3) := dk_167 0 10 (dk_at dksX5_airs_0 18 rfl rfl)
theorem dX5_airs_21 : decode cX5_airs 21 = .ok (.aload_n 0, 1) := dk_42 (dk_at dksX5_airs_0 21 rfl rfl)
theorem dX5_airs_22 : decode cX5_airs 22 = .ok (.iload_n 1, 1) := dk_27 (dk_at dksX5_airs_0 22 rfl rfl)
theorem dX5_airs_23 : decode cX5_airs 23 = .ok (.iconst 0, 1) := dk_3 (dk_at dksX5_airs_0 23 rfl rfl)
theorem dX5_airs_24 : decode cX5_airs 24 = .ok (.iload_n 2, 1) := dk_28 (dk_at dksX5_airs_1 0 rfl rfl)
theorem dX5_airs_25 : decode cX5_airs 25 = .ok (.invokevirtual 125, 3) := dk_182 0 125 (dk_at dksX5_airs_1 1 rfl rfl)
theorem dX5_airs_28 : decode cX5_airs 28 = .ok (.ireturn, 1) := dk_172 (dk_at dksX5_airs_1 4 rfl rfl)
abbrev cX5_sets : ByteArray := prog_15_method_37_code
def yX5_sets : MethodName := ⟨RX5, "sets", "(III)I"⟩
def dkwX5_sets_0 : List UInt8 := [42, 42, 27, 28, 182, 0, 116, 181, 0, 40, 42, 27, 28, 29, 182, 0, 122, 3, 172]
abbrev dktX5_sets_0 : List UInt8 := dkwX5_sets_0 ++ []
theorem dksX5_sets_0 : cX5_sets.data.toList.drop 0 = dktX5_sets_0 := by decide +kernel
theorem dX5_sets_0 : decode cX5_sets 0 = .ok (.aload_n 0, 1) := dk_42 (dk_at dksX5_sets_0 0 rfl rfl)
theorem dX5_sets_1 : decode cX5_sets 1 = .ok (.aload_n 0, 1) := dk_42 (dk_at dksX5_sets_0 1 rfl rfl)
theorem dX5_sets_2 : decode cX5_sets 2 = .ok (.iload_n 1, 1) := dk_27 (dk_at dksX5_sets_0 2 rfl rfl)
theorem dX5_sets_3 : decode cX5_sets 3 = .ok (.iload_n 2, 1) := dk_28 (dk_at dksX5_sets_0 3 rfl rfl)
theorem dX5_sets_4 : decode cX5_sets 4 = .ok (.invokevirtual 116, 3) := dk_182 0 116 (dk_at dksX5_sets_0 4 rfl rfl)
theorem dX5_sets_7 : decode cX5_sets 7 = .ok (.putfield 40, 3) := dk_181 0 40 (dk_at dksX5_sets_0 7 rfl rfl)
theorem dX5_sets_10 : decode cX5_sets 10 = .ok (.aload_n 0, 1) := dk_42 (dk_at dksX5_sets_0 10 rfl rfl)
theorem dX5_sets_11 : decode cX5_sets 11 = .ok (.iload_n 1, 1) := dk_27 (dk_at dksX5_sets_0 11 rfl rfl)
theorem dX5_sets_12 : decode cX5_sets 12 = .ok (.iload_n 2, 1) := dk_28 (dk_at dksX5_sets_0 12 rfl rfl)
theorem dX5_sets_13 : decode cX5_sets 13 = .ok (.iload_n 3, 1) := dk_29 (dk_at dksX5_sets_0 13 rfl rfl)
theorem dX5_sets_14 : decode cX5_sets 14 = .ok (.invokevirtual 122, 3) := dk_182 0 122 (dk_at dksX5_sets_0 14 rfl rfl)
theorem dX5_sets_17 : decode cX5_sets 17 = .ok (.iconst 0, 1) := dk_3 (dk_at dksX5_sets_0 17 rfl rfl)
theorem dX5_sets_18 : decode cX5_sets 18 = .ok (.ireturn, 1) := dk_172 (dk_at dksX5_sets_0 18 rfl rfl)
abbrev cX5_setAisle : ByteArray := prog_15_method_36_code
def yX5_setAisle : MethodName := ⟨RX5, "setAisle", "(III)V"⟩
def dkwX5_setAisle_0 : List UInt8 := [42, 180, 0, 9, 17, 0, 249, 8, 27, 104, 96, 28, 96, 29, 79, 177]
abbrev dktX5_setAisle_0 : List UInt8 := dkwX5_setAisle_0 ++ []
theorem dksX5_setAisle_0 : cX5_setAisle.data.toList.drop 0 = dktX5_setAisle_0 := by decide +kernel
theorem dX5_setAisle_0 : decode cX5_setAisle 0 = .ok (.aload_n 0, 1) := dk_42 (dk_at dksX5_setAisle_0 0 rfl rfl)
theorem dX5_setAisle_1 : decode cX5_setAisle 1 = .ok (.getfield 9, 3) := dk_180 0 9 (dk_at dksX5_setAisle_0 1 rfl rfl)
theorem dX5_setAisle_4 : decode cX5_setAisle 4 = .ok (.sipush 249, 3) := dk_17 0 249 (dk_at dksX5_setAisle_0 4 rfl rfl)
theorem dX5_setAisle_7 : decode cX5_setAisle 7 = .ok (.iconst 5, 1) := dk_8 (dk_at dksX5_setAisle_0 7 rfl rfl)
theorem dX5_setAisle_8 : decode cX5_setAisle 8 = .ok (.iload_n 1, 1) := dk_27 (dk_at dksX5_setAisle_0 8 rfl rfl)
theorem dX5_setAisle_9 : decode cX5_setAisle 9 = .ok (.imul, 1) := dk_104 (dk_at dksX5_setAisle_0 9 rfl rfl)
theorem dX5_setAisle_10 : decode cX5_setAisle 10 = .ok (.iadd, 1) := dk_96 (dk_at dksX5_setAisle_0 10 rfl rfl)
theorem dX5_setAisle_11 : decode cX5_setAisle 11 = .ok (.iload_n 2, 1) := dk_28 (dk_at dksX5_setAisle_0 11 rfl rfl)
theorem dX5_setAisle_12 : decode cX5_setAisle 12 = .ok (.iadd, 1) := dk_96 (dk_at dksX5_setAisle_0 12 rfl rfl)
theorem dX5_setAisle_13 : decode cX5_setAisle 13 = .ok (.iload_n 3, 1) := dk_29 (dk_at dksX5_setAisle_0 13 rfl rfl)
theorem dX5_setAisle_14 : decode cX5_setAisle 14 = .ok (.iastore, 1) := dk_79 (dk_at dksX5_setAisle_0 14 rfl rfl)
theorem dX5_setAisle_15 : decode cX5_setAisle 15 = .ok (.return_, 1) := dk_177 (dk_at dksX5_setAisle_0 15 rfl rfl)
abbrev cX5_mice : ByteArray := prog_15_method_41_code
def yX5_mice : MethodName := ⟨RX5, "mice", "(II)I"⟩
def dkwX5_mice_0 : List UInt8 := [42, 182, 0, 61, 42, 42, 27, 28, 182, 0, 134, 3, 4, 3, 182, 0, 78, 172]
abbrev dktX5_mice_0 : List UInt8 := dkwX5_mice_0 ++ []
theorem dksX5_mice_0 : cX5_mice.data.toList.drop 0 = dktX5_mice_0 := by decide +kernel
theorem dX5_mice_0 : decode cX5_mice 0 = .ok (.aload_n 0, 1) := dk_42 (dk_at dksX5_mice_0 0 rfl rfl)
theorem dX5_mice_1 : decode cX5_mice 1 = .ok (.invokevirtual 61, 3) := dk_182 0 61 (dk_at dksX5_mice_0 1 rfl rfl)
theorem dX5_mice_4 : decode cX5_mice 4 = .ok (.aload_n 0, 1) := dk_42 (dk_at dksX5_mice_0 4 rfl rfl)
theorem dX5_mice_5 : decode cX5_mice 5 = .ok (.aload_n 0, 1) := dk_42 (dk_at dksX5_mice_0 5 rfl rfl)
theorem dX5_mice_6 : decode cX5_mice 6 = .ok (.iload_n 1, 1) := dk_27 (dk_at dksX5_mice_0 6 rfl rfl)
theorem dX5_mice_7 : decode cX5_mice 7 = .ok (.iload_n 2, 1) := dk_28 (dk_at dksX5_mice_0 7 rfl rfl)
theorem dX5_mice_8 : decode cX5_mice 8 = .ok (.invokevirtual 134, 3) := dk_182 0 134 (dk_at dksX5_mice_0 8 rfl rfl)
theorem dX5_mice_11 : decode cX5_mice 11 = .ok (.iconst 0, 1) := dk_3 (dk_at dksX5_mice_0 11 rfl rfl)
theorem dX5_mice_12 : decode cX5_mice 12 = .ok (.iconst 1, 1) := dk_4 (dk_at dksX5_mice_0 12 rfl rfl)
theorem dX5_mice_13 : decode cX5_mice 13 = .ok (.iconst 0, 1) := dk_3 (dk_at dksX5_mice_0 13 rfl rfl)
theorem dX5_mice_14 : decode cX5_mice 14 = .ok (.invokevirtual 78, 3) := dk_182 0 78 (dk_at dksX5_mice_0 14 rfl rfl)
theorem dX5_mice_17 : decode cX5_mice 17 = .ok (.ireturn, 1) := dk_172 (dk_at dksX5_mice_0 17 rfl rfl)
abbrev cX5_comes : ByteArray := prog_15_method_40_code
def yX5_comes : MethodName := ⟨RX5, "comes", "(II)I"⟩
def dkwX5_comes_2 : List UInt8 := [3, 172]
abbrev dktX5_comes_2 : List UInt8 := dkwX5_comes_2 ++ []
def dkwX5_comes_1 : List UInt8 := [42, 27, 4, 182, 0, 116, 28, 96, 184, 0, 131, 182, 0, 122, 42, 42, 27, 4, 182, 0, 116, 181, 0, 40]
abbrev dktX5_comes_1 : List UInt8 := dkwX5_comes_1 ++ dktX5_comes_2
def dkwX5_comes_0 : List UInt8 := [27, 184, 0, 72, 153, 0, 13, 28, 4, 16, 40, 184, 0, 49, 154, 0, 5, 5, 172, 42, 27, 4, 16, 40]
abbrev dktX5_comes_0 : List UInt8 := dkwX5_comes_0 ++ dktX5_comes_1
theorem dksX5_comes_0 : cX5_comes.data.toList.drop 0 = dktX5_comes_0 := by decide +kernel
theorem dksX5_comes_1 : cX5_comes.data.toList.drop 24 = dktX5_comes_1 := dk_seg dksX5_comes_0 24 rfl rfl
theorem dksX5_comes_2 : cX5_comes.data.toList.drop 48 = dktX5_comes_2 := dk_seg dksX5_comes_1 24 rfl rfl
theorem dX5_comes_0 : decode cX5_comes 0 = .ok (.iload_n 1, 1) := dk_27 (dk_at dksX5_comes_0 0 rfl rfl)
theorem dX5_comes_1 : decode cX5_comes 1 = .ok (.invokestatic 72, 3) := dk_184 0 72 (dk_at dksX5_comes_0 1 rfl rfl)
theorem dX5_comes_4 : decode cX5_comes 4 = .ok (.ifCond .eq 13, 3) := dk_153 0 13 (dk_at dksX5_comes_0 4 rfl rfl)
theorem dX5_comes_7 : decode cX5_comes 7 = .ok (.iload_n 2, 1) := dk_28 (dk_at dksX5_comes_0 7 rfl rfl)
theorem dX5_comes_8 : decode cX5_comes 8 = .ok (.iconst 1, 1) := dk_4 (dk_at dksX5_comes_0 8 rfl rfl)
theorem dX5_comes_9 : decode cX5_comes 9 = .ok (.bipush 40, 2) := dk_16 40 (dk_at dksX5_comes_0 9 rfl rfl)
theorem dX5_comes_11 : decode cX5_comes 11 = .ok (.invokestatic 49, 3) := dk_184 0 49 (dk_at dksX5_comes_0 11 rfl rfl)
theorem dX5_comes_14 : decode cX5_comes 14 = .ok (.ifCond .ne 5, 3) := dk_154 0 5 (dk_at dksX5_comes_0 14 rfl rfl)
theorem dX5_comes_17 : decode cX5_comes 17 = .ok (.iconst 2, 1) := dk_5 (dk_at dksX5_comes_0 17 rfl rfl)
theorem dX5_comes_18 : decode cX5_comes 18 = .ok (.ireturn, 1) := dk_172 (dk_at dksX5_comes_0 18 rfl rfl)
theorem dX5_comes_19 : decode cX5_comes 19 = .ok (.aload_n 0, 1) := dk_42 (dk_at dksX5_comes_0 19 rfl rfl)
theorem dX5_comes_20 : decode cX5_comes 20 = .ok (.iload_n 1, 1) := dk_27 (dk_at dksX5_comes_0 20 rfl rfl)
theorem dX5_comes_21 : decode cX5_comes 21 = .ok (.iconst 1, 1) := dk_4 (dk_at dksX5_comes_0 21 rfl rfl)
theorem dX5_comes_22 : decode cX5_comes 22 = .ok (.bipush 40, 2) := dk_16 40 (dk_at dksX5_comes_0 22 rfl rfl)
theorem dX5_comes_24 : decode cX5_comes 24 = .ok (.aload_n 0, 1) := dk_42 (dk_at dksX5_comes_1 0 rfl rfl)
theorem dX5_comes_25 : decode cX5_comes 25 = .ok (.iload_n 1, 1) := dk_27 (dk_at dksX5_comes_1 1 rfl rfl)
theorem dX5_comes_26 : decode cX5_comes 26 = .ok (.iconst 1, 1) := dk_4 (dk_at dksX5_comes_1 2 rfl rfl)
theorem dX5_comes_27 : decode cX5_comes 27 = .ok (.invokevirtual 116, 3) := dk_182 0 116 (dk_at dksX5_comes_1 3 rfl rfl)
theorem dX5_comes_30 : decode cX5_comes 30 = .ok (.iload_n 2, 1) := dk_28 (dk_at dksX5_comes_1 6 rfl rfl)
theorem dX5_comes_31 : decode cX5_comes 31 = .ok (.iadd, 1) := dk_96 (dk_at dksX5_comes_1 7 rfl rfl)
theorem dX5_comes_32 : decode cX5_comes 32 = .ok (.invokestatic 131, 3) := dk_184 0 131 (dk_at dksX5_comes_1 8 rfl rfl)
theorem dX5_comes_35 : decode cX5_comes 35 = .ok (.invokevirtual 122, 3) := dk_182 0 122 (dk_at dksX5_comes_1 11 rfl rfl)
theorem dX5_comes_38 : decode cX5_comes 38 = .ok (.aload_n 0, 1) := dk_42 (dk_at dksX5_comes_1 14 rfl rfl)
theorem dX5_comes_39 : decode cX5_comes 39 = .ok (.aload_n 0, 1) := dk_42 (dk_at dksX5_comes_1 15 rfl rfl)
theorem dX5_comes_40 : decode cX5_comes 40 = .ok (.iload_n 1, 1) := dk_27 (dk_at dksX5_comes_1 16 rfl rfl)
theorem dX5_comes_41 : decode cX5_comes 41 = .ok (.iconst 1, 1) := dk_4 (dk_at dksX5_comes_1 17 rfl rfl)
theorem dX5_comes_42 : decode cX5_comes 42 = .ok (.invokevirtual 116, 3) := dk_182 0 116 (dk_at dksX5_comes_1 18 rfl rfl)
theorem dX5_comes_45 : decode cX5_comes 45 = .ok (.putfield 40, 3) := dk_181 0 40 (dk_at dksX5_comes_1 21 rfl rfl)
theorem dX5_comes_48 : decode cX5_comes 48 = .ok (.iconst 0, 1) := dk_3 (dk_at dksX5_comes_2 0 rfl rfl)
theorem dX5_comes_49 : decode cX5_comes 49 = .ok (.ireturn, 1) := dk_172 (dk_at dksX5_comes_2 1 rfl rfl)
abbrev cX5_least : ByteArray := prog_15_method_4_code
def yX5_least : MethodName := ⟨RX5, "least", "(II)I"⟩
def dkwX5_least_0 : List UInt8 := [26, 27, 162, 0, 7, 26, 167, 0, 4, 27, 172]
abbrev dktX5_least_0 : List UInt8 := dkwX5_least_0 ++ []
theorem dksX5_least_0 : cX5_least.data.toList.drop 0 = dktX5_least_0 := by decide +kernel
theorem dX5_least_0 : decode cX5_least 0 = .ok (.iload_n 0, 1) := dk_26 (dk_at dksX5_least_0 0 rfl rfl)
theorem dX5_least_1 : decode cX5_least 1 = .ok (.iload_n 1, 1) := dk_27 (dk_at dksX5_least_0 1 rfl rfl)
theorem dX5_least_2 : decode cX5_least 2 = .ok (.if_icmp .ge 7, 3) := dk_162 0 7 (dk_at dksX5_least_0 2 rfl rfl)
theorem dX5_least_5 : decode cX5_least 5 = .ok (.iload_n 0, 1) := dk_26 (dk_at dksX5_least_0 5 rfl rfl)
theorem dX5_least_6 : decode cX5_least 6 = .ok (.goto 4, 3) := dk_167 0 4 (dk_at dksX5_least_0 6 rfl rfl)
theorem dX5_least_9 : decode cX5_least 9 = .ok (.iload_n 1, 1) := dk_27 (dk_at dksX5_least_0 9 rfl rfl)
theorem dX5_least_10 : decode cX5_least 10 = .ok (.ireturn, 1) := dk_172 (dk_at dksX5_least_0 10 rfl rfl)
abbrev cX5_trap : ByteArray := prog_15_method_43_code
def yX5_trap : MethodName := ⟨RX5, "trap", "(II)I"⟩
def dkwX5_trap_0 : List UInt8 := [42, 182, 0, 61, 42, 42, 27, 28, 182, 0, 137, 3, 4, 3, 182, 0, 78, 172]
abbrev dktX5_trap_0 : List UInt8 := dkwX5_trap_0 ++ []
theorem dksX5_trap_0 : cX5_trap.data.toList.drop 0 = dktX5_trap_0 := by decide +kernel
theorem dX5_trap_0 : decode cX5_trap 0 = .ok (.aload_n 0, 1) := dk_42 (dk_at dksX5_trap_0 0 rfl rfl)
theorem dX5_trap_1 : decode cX5_trap 1 = .ok (.invokevirtual 61, 3) := dk_182 0 61 (dk_at dksX5_trap_0 1 rfl rfl)
theorem dX5_trap_4 : decode cX5_trap 4 = .ok (.aload_n 0, 1) := dk_42 (dk_at dksX5_trap_0 4 rfl rfl)
theorem dX5_trap_5 : decode cX5_trap 5 = .ok (.aload_n 0, 1) := dk_42 (dk_at dksX5_trap_0 5 rfl rfl)
theorem dX5_trap_6 : decode cX5_trap 6 = .ok (.iload_n 1, 1) := dk_27 (dk_at dksX5_trap_0 6 rfl rfl)
theorem dX5_trap_7 : decode cX5_trap 7 = .ok (.iload_n 2, 1) := dk_28 (dk_at dksX5_trap_0 7 rfl rfl)
theorem dX5_trap_8 : decode cX5_trap 8 = .ok (.invokevirtual 137, 3) := dk_182 0 137 (dk_at dksX5_trap_0 8 rfl rfl)
theorem dX5_trap_11 : decode cX5_trap 11 = .ok (.iconst 0, 1) := dk_3 (dk_at dksX5_trap_0 11 rfl rfl)
theorem dX5_trap_12 : decode cX5_trap 12 = .ok (.iconst 1, 1) := dk_4 (dk_at dksX5_trap_0 12 rfl rfl)
theorem dX5_trap_13 : decode cX5_trap 13 = .ok (.iconst 0, 1) := dk_3 (dk_at dksX5_trap_0 13 rfl rfl)
theorem dX5_trap_14 : decode cX5_trap 14 = .ok (.invokevirtual 78, 3) := dk_182 0 78 (dk_at dksX5_trap_0 14 rfl rfl)
theorem dX5_trap_17 : decode cX5_trap 17 = .ok (.ireturn, 1) := dk_172 (dk_at dksX5_trap_0 17 rfl rfl)
abbrev cX5_setsTraps : ByteArray := prog_15_method_42_code
def yX5_setsTraps : MethodName := ⟨RX5, "setsTraps", "(II)I"⟩
def dkwX5_setsTraps_1 : List UInt8 := [182, 0, 125, 172]
abbrev dktX5_setsTraps_1 : List UInt8 := dkwX5_setsTraps_1 ++ []
def dkwX5_setsTraps_0 : List UInt8 := [27, 184, 0, 72, 153, 0, 12, 28, 3, 8, 184, 0, 49, 154, 0, 7, 5, 167, 0, 10, 42, 27, 5, 28]
abbrev dktX5_setsTraps_0 : List UInt8 := dkwX5_setsTraps_0 ++ dktX5_setsTraps_1
theorem dksX5_setsTraps_0 : cX5_setsTraps.data.toList.drop 0 = dktX5_setsTraps_0 := by decide +kernel
theorem dksX5_setsTraps_1 : cX5_setsTraps.data.toList.drop 24 = dktX5_setsTraps_1 := dk_seg dksX5_setsTraps_0 24 rfl rfl
theorem dX5_setsTraps_0 : decode cX5_setsTraps 0 = .ok (.iload_n 1, 1) := dk_27 (dk_at dksX5_setsTraps_0 0 rfl rfl)
theorem dX5_setsTraps_1 : decode cX5_setsTraps 1 = .ok (.invokestatic 72, 3) := dk_184 0 72 (dk_at dksX5_setsTraps_0 1 rfl rfl)
theorem dX5_setsTraps_4 : decode cX5_setsTraps 4 = .ok (.ifCond .eq 12, 3) := dk_153 0 12 (dk_at dksX5_setsTraps_0 4 rfl rfl)
theorem dX5_setsTraps_7 : decode cX5_setsTraps 7 = .ok (.iload_n 2, 1) := dk_28 (dk_at dksX5_setsTraps_0 7 rfl rfl)
theorem dX5_setsTraps_8 : decode cX5_setsTraps 8 = .ok (.iconst 0, 1) := dk_3 (dk_at dksX5_setsTraps_0 8 rfl rfl)
theorem dX5_setsTraps_9 : decode cX5_setsTraps 9 = .ok (.iconst 5, 1) := dk_8 (dk_at dksX5_setsTraps_0 9 rfl rfl)
theorem dX5_setsTraps_10 : decode cX5_setsTraps 10 = .ok (.invokestatic 49, 3) := dk_184 0 49 (dk_at dksX5_setsTraps_0 10 rfl rfl)
theorem dX5_setsTraps_13 : decode cX5_setsTraps 13 = .ok (.ifCond .ne 7, 3) := dk_154 0 7 (dk_at dksX5_setsTraps_0 13 rfl rfl)
theorem dX5_setsTraps_16 : decode cX5_setsTraps 16 = .ok (.iconst 2, 1) := dk_5 (dk_at dksX5_setsTraps_0 16 rfl rfl)
theorem dX5_setsTraps_17 : decode cX5_setsTraps 17 = .ok (.goto 10, 3) := dk_167 0 10 (dk_at dksX5_setsTraps_0 17 rfl rfl)
theorem dX5_setsTraps_20 : decode cX5_setsTraps 20 = .ok (.aload_n 0, 1) := dk_42 (dk_at dksX5_setsTraps_0 20 rfl rfl)
theorem dX5_setsTraps_21 : decode cX5_setsTraps 21 = .ok (.iload_n 1, 1) := dk_27 (dk_at dksX5_setsTraps_0 21 rfl rfl)
theorem dX5_setsTraps_22 : decode cX5_setsTraps 22 = .ok (.iconst 2, 1) := dk_5 (dk_at dksX5_setsTraps_0 22 rfl rfl)
theorem dX5_setsTraps_23 : decode cX5_setsTraps 23 = .ok (.iload_n 2, 1) := dk_28 (dk_at dksX5_setsTraps_0 23 rfl rfl)
theorem dX5_setsTraps_24 : decode cX5_setsTraps 24 = .ok (.invokevirtual 125, 3) := dk_182 0 125 (dk_at dksX5_setsTraps_1 0 rfl rfl)
theorem dX5_setsTraps_27 : decode cX5_setsTraps 27 = .ok (.ireturn, 1) := dk_172 (dk_at dksX5_setsTraps_1 3 rfl rfl)
abbrev cX5_aisleOf : ByteArray := prog_15_method_45_code
def yX5_aisleOf : MethodName := ⟨RX5, "aisleOf", "(II)I"⟩
def dkwX5_aisleOf_4 : List UInt8 := [182, 0, 116, 172, 42, 27, 7, 182, 0, 116, 172, 42, 27, 28, 182, 0, 116, 172]
abbrev dktX5_aisleOf_4 : List UInt8 := dkwX5_aisleOf_4 ++ []
def dkwX5_aisleOf_3 : List UInt8 := [42, 27, 3, 182, 0, 140, 172, 42, 27, 4, 182, 0, 140, 172, 42, 27, 182, 0, 64, 172, 42, 27, 6]
abbrev dktX5_aisleOf_3 : List UInt8 := dkwX5_aisleOf_3 ++ dktX5_aisleOf_4
def dkwX5_aisleOf_2 : List UInt8 := [170, 0, 0, 0, 0, 0, 0, 70, 0, 0, 0, 3, 0, 0, 0, 7, 0, 0, 0, 36, 0, 0, 0, 43, 0, 0, 0, 50, 0, 0, 0, 56, 0, 0, 0, 63]
abbrev dktX5_aisleOf_2 : List UInt8 := dkwX5_aisleOf_2 ++ dktX5_aisleOf_3
def dkwX5_aisleOf_1 : List UInt8 := [181, 0, 27, 42, 180, 0, 27, 153, 0, 5, 3, 172, 28]
abbrev dktX5_aisleOf_1 : List UInt8 := dkwX5_aisleOf_1 ++ dktX5_aisleOf_2
def dkwX5_aisleOf_0 : List UInt8 := [42, 27, 184, 0, 72, 153, 0, 17, 28, 3, 16, 7, 184, 0, 49, 153, 0, 7, 3, 167, 0, 4, 4]
abbrev dktX5_aisleOf_0 : List UInt8 := dkwX5_aisleOf_0 ++ dktX5_aisleOf_1
theorem dksX5_aisleOf_0 : cX5_aisleOf.data.toList.drop 0 = dktX5_aisleOf_0 := by decide +kernel
theorem dksX5_aisleOf_1 : cX5_aisleOf.data.toList.drop 23 = dktX5_aisleOf_1 := dk_seg dksX5_aisleOf_0 23 rfl rfl
theorem dksX5_aisleOf_2 : cX5_aisleOf.data.toList.drop 36 = dktX5_aisleOf_2 := dk_seg dksX5_aisleOf_1 13 rfl rfl
theorem dksX5_aisleOf_3 : cX5_aisleOf.data.toList.drop 72 = dktX5_aisleOf_3 := dk_seg dksX5_aisleOf_2 36 rfl rfl
theorem dksX5_aisleOf_4 : cX5_aisleOf.data.toList.drop 95 = dktX5_aisleOf_4 := dk_seg dksX5_aisleOf_3 23 rfl rfl
theorem dX5_aisleOf_0 : decode cX5_aisleOf 0 = .ok (.aload_n 0, 1) := dk_42 (dk_at dksX5_aisleOf_0 0 rfl rfl)
theorem dX5_aisleOf_1 : decode cX5_aisleOf 1 = .ok (.iload_n 1, 1) := dk_27 (dk_at dksX5_aisleOf_0 1 rfl rfl)
theorem dX5_aisleOf_2 : decode cX5_aisleOf 2 = .ok (.invokestatic 72, 3) := dk_184 0 72 (dk_at dksX5_aisleOf_0 2 rfl rfl)
theorem dX5_aisleOf_5 : decode cX5_aisleOf 5 = .ok (.ifCond .eq 17, 3) := dk_153 0 17 (dk_at dksX5_aisleOf_0 5 rfl rfl)
theorem dX5_aisleOf_8 : decode cX5_aisleOf 8 = .ok (.iload_n 2, 1) := dk_28 (dk_at dksX5_aisleOf_0 8 rfl rfl)
theorem dX5_aisleOf_9 : decode cX5_aisleOf 9 = .ok (.iconst 0, 1) := dk_3 (dk_at dksX5_aisleOf_0 9 rfl rfl)
theorem dX5_aisleOf_10 : decode cX5_aisleOf 10 = .ok (.bipush 7, 2) := dk_16 7 (dk_at dksX5_aisleOf_0 10 rfl rfl)
theorem dX5_aisleOf_12 : decode cX5_aisleOf 12 = .ok (.invokestatic 49, 3) := dk_184 0 49 (dk_at dksX5_aisleOf_0 12 rfl rfl)
theorem dX5_aisleOf_15 : decode cX5_aisleOf 15 = .ok (.ifCond .eq 7, 3) := dk_153 0 7 (dk_at dksX5_aisleOf_0 15 rfl rfl)
theorem dX5_aisleOf_18 : decode cX5_aisleOf 18 = .ok (.iconst 0, 1) := dk_3 (dk_at dksX5_aisleOf_0 18 rfl rfl)
theorem dX5_aisleOf_19 : decode cX5_aisleOf 19 = .ok (.goto 4, 3) := dk_167 0 4 (dk_at dksX5_aisleOf_0 19 rfl rfl)
theorem dX5_aisleOf_22 : decode cX5_aisleOf 22 = .ok (.iconst 1, 1) := dk_4 (dk_at dksX5_aisleOf_0 22 rfl rfl)
theorem dX5_aisleOf_23 : decode cX5_aisleOf 23 = .ok (.putfield 27, 3) := dk_181 0 27 (dk_at dksX5_aisleOf_1 0 rfl rfl)
theorem dX5_aisleOf_26 : decode cX5_aisleOf 26 = .ok (.aload_n 0, 1) := dk_42 (dk_at dksX5_aisleOf_1 3 rfl rfl)
theorem dX5_aisleOf_27 : decode cX5_aisleOf 27 = .ok (.getfield 27, 3) := dk_180 0 27 (dk_at dksX5_aisleOf_1 4 rfl rfl)
theorem dX5_aisleOf_30 : decode cX5_aisleOf 30 = .ok (.ifCond .eq 5, 3) := dk_153 0 5 (dk_at dksX5_aisleOf_1 7 rfl rfl)
theorem dX5_aisleOf_33 : decode cX5_aisleOf 33 = .ok (.iconst 0, 1) := dk_3 (dk_at dksX5_aisleOf_1 10 rfl rfl)
theorem dX5_aisleOf_34 : decode cX5_aisleOf 34 = .ok (.ireturn, 1) := dk_172 (dk_at dksX5_aisleOf_1 11 rfl rfl)
theorem dX5_aisleOf_35 : decode cX5_aisleOf 35 = .ok (.iload_n 2, 1) := dk_28 (dk_at dksX5_aisleOf_1 12 rfl rfl)
theorem dX5_aisleOf_36 : decode cX5_aisleOf 36 = .ok (.tableswitch 70 3 7 #[36, 43, 50, 56, 63], 36) := by decide +kernel
theorem dX5_aisleOf_72 : decode cX5_aisleOf 72 = .ok (.aload_n 0, 1) := dk_42 (dk_at dksX5_aisleOf_3 0 rfl rfl)
theorem dX5_aisleOf_73 : decode cX5_aisleOf 73 = .ok (.iload_n 1, 1) := dk_27 (dk_at dksX5_aisleOf_3 1 rfl rfl)
theorem dX5_aisleOf_74 : decode cX5_aisleOf 74 = .ok (.iconst 0, 1) := dk_3 (dk_at dksX5_aisleOf_3 2 rfl rfl)
theorem dX5_aisleOf_75 : decode cX5_aisleOf 75 = .ok (.invokevirtual 140, 3) := dk_182 0 140 (dk_at dksX5_aisleOf_3 3 rfl rfl)
theorem dX5_aisleOf_78 : decode cX5_aisleOf 78 = .ok (.ireturn, 1) := dk_172 (dk_at dksX5_aisleOf_3 6 rfl rfl)
theorem dX5_aisleOf_79 : decode cX5_aisleOf 79 = .ok (.aload_n 0, 1) := dk_42 (dk_at dksX5_aisleOf_3 7 rfl rfl)
theorem dX5_aisleOf_80 : decode cX5_aisleOf 80 = .ok (.iload_n 1, 1) := dk_27 (dk_at dksX5_aisleOf_3 8 rfl rfl)
theorem dX5_aisleOf_81 : decode cX5_aisleOf 81 = .ok (.iconst 1, 1) := dk_4 (dk_at dksX5_aisleOf_3 9 rfl rfl)
theorem dX5_aisleOf_82 : decode cX5_aisleOf 82 = .ok (.invokevirtual 140, 3) := dk_182 0 140 (dk_at dksX5_aisleOf_3 10 rfl rfl)
theorem dX5_aisleOf_85 : decode cX5_aisleOf 85 = .ok (.ireturn, 1) := dk_172 (dk_at dksX5_aisleOf_3 13 rfl rfl)
theorem dX5_aisleOf_86 : decode cX5_aisleOf 86 = .ok (.aload_n 0, 1) := dk_42 (dk_at dksX5_aisleOf_3 14 rfl rfl)
theorem dX5_aisleOf_87 : decode cX5_aisleOf 87 = .ok (.iload_n 1, 1) := dk_27 (dk_at dksX5_aisleOf_3 15 rfl rfl)
theorem dX5_aisleOf_88 : decode cX5_aisleOf 88 = .ok (.invokevirtual 64, 3) := dk_182 0 64 (dk_at dksX5_aisleOf_3 16 rfl rfl)
theorem dX5_aisleOf_91 : decode cX5_aisleOf 91 = .ok (.ireturn, 1) := dk_172 (dk_at dksX5_aisleOf_3 19 rfl rfl)
theorem dX5_aisleOf_92 : decode cX5_aisleOf 92 = .ok (.aload_n 0, 1) := dk_42 (dk_at dksX5_aisleOf_3 20 rfl rfl)
theorem dX5_aisleOf_93 : decode cX5_aisleOf 93 = .ok (.iload_n 1, 1) := dk_27 (dk_at dksX5_aisleOf_3 21 rfl rfl)
theorem dX5_aisleOf_94 : decode cX5_aisleOf 94 = .ok (.iconst 3, 1) := dk_6 (dk_at dksX5_aisleOf_3 22 rfl rfl)
theorem dX5_aisleOf_95 : decode cX5_aisleOf 95 = .ok (.invokevirtual 116, 3) := dk_182 0 116 (dk_at dksX5_aisleOf_4 0 rfl rfl)
theorem dX5_aisleOf_98 : decode cX5_aisleOf 98 = .ok (.ireturn, 1) := dk_172 (dk_at dksX5_aisleOf_4 3 rfl rfl)
theorem dX5_aisleOf_99 : decode cX5_aisleOf 99 = .ok (.aload_n 0, 1) := dk_42 (dk_at dksX5_aisleOf_4 4 rfl rfl)
theorem dX5_aisleOf_100 : decode cX5_aisleOf 100 = .ok (.iload_n 1, 1) := dk_27 (dk_at dksX5_aisleOf_4 5 rfl rfl)
theorem dX5_aisleOf_101 : decode cX5_aisleOf 101 = .ok (.iconst 4, 1) := dk_7 (dk_at dksX5_aisleOf_4 6 rfl rfl)
theorem dX5_aisleOf_102 : decode cX5_aisleOf 102 = .ok (.invokevirtual 116, 3) := dk_182 0 116 (dk_at dksX5_aisleOf_4 7 rfl rfl)
theorem dX5_aisleOf_105 : decode cX5_aisleOf 105 = .ok (.ireturn, 1) := dk_172 (dk_at dksX5_aisleOf_4 10 rfl rfl)
theorem dX5_aisleOf_106 : decode cX5_aisleOf 106 = .ok (.aload_n 0, 1) := dk_42 (dk_at dksX5_aisleOf_4 11 rfl rfl)
theorem dX5_aisleOf_107 : decode cX5_aisleOf 107 = .ok (.iload_n 1, 1) := dk_27 (dk_at dksX5_aisleOf_4 12 rfl rfl)
theorem dX5_aisleOf_108 : decode cX5_aisleOf 108 = .ok (.iload_n 2, 1) := dk_28 (dk_at dksX5_aisleOf_4 13 rfl rfl)
theorem dX5_aisleOf_109 : decode cX5_aisleOf 109 = .ok (.invokevirtual 116, 3) := dk_182 0 116 (dk_at dksX5_aisleOf_4 14 rfl rfl)
theorem dX5_aisleOf_112 : decode cX5_aisleOf 112 = .ok (.ireturn, 1) := dk_172 (dk_at dksX5_aisleOf_4 17 rfl rfl)
abbrev cX5_reamsAt : ByteArray := prog_15_method_44_code
def yX5_reamsAt : MethodName := ⟨RX5, "reamsAt", "(IZ)I"⟩
def dkwX5_reamsAt_2 : List UInt8 := [62, 132, 4, 1, 167, 255, 209, 29, 172]
abbrev dktX5_reamsAt_2 : List UInt8 := dkwX5_reamsAt_2 ++ []
def dkwX5_reamsAt_1 : List UInt8 := [27, 159, 0, 7, 3, 167, 0, 18, 28, 153, 0, 13, 42, 21, 4, 5, 182, 0, 82, 167, 0, 4, 4, 96]
abbrev dktX5_reamsAt_1 : List UInt8 := dkwX5_reamsAt_1 ++ dktX5_reamsAt_2
def dkwX5_reamsAt_0 : List UInt8 := [3, 62, 3, 54, 4, 21, 4, 42, 180, 0, 9, 8, 46, 162, 0, 42, 29, 42, 21, 4, 7, 182, 0, 82]
abbrev dktX5_reamsAt_0 : List UInt8 := dkwX5_reamsAt_0 ++ dktX5_reamsAt_1
theorem dksX5_reamsAt_0 : cX5_reamsAt.data.toList.drop 0 = dktX5_reamsAt_0 := by decide +kernel
theorem dksX5_reamsAt_1 : cX5_reamsAt.data.toList.drop 24 = dktX5_reamsAt_1 := dk_seg dksX5_reamsAt_0 24 rfl rfl
theorem dksX5_reamsAt_2 : cX5_reamsAt.data.toList.drop 48 = dktX5_reamsAt_2 := dk_seg dksX5_reamsAt_1 24 rfl rfl
theorem dX5_reamsAt_0 : decode cX5_reamsAt 0 = .ok (.iconst 0, 1) := dk_3 (dk_at dksX5_reamsAt_0 0 rfl rfl)
theorem dX5_reamsAt_1 : decode cX5_reamsAt 1 = .ok (.istore_n 3, 1) := dk_62 (dk_at dksX5_reamsAt_0 1 rfl rfl)
theorem dX5_reamsAt_2 : decode cX5_reamsAt 2 = .ok (.iconst 0, 1) := dk_3 (dk_at dksX5_reamsAt_0 2 rfl rfl)
theorem dX5_reamsAt_3 : decode cX5_reamsAt 3 = .ok (.istore 4, 2) := dk_54 4 (dk_at dksX5_reamsAt_0 3 rfl rfl)
theorem dX5_reamsAt_5 : decode cX5_reamsAt 5 = .ok (.iload 4, 2) := dk_21 4 (dk_at dksX5_reamsAt_0 5 rfl rfl)
theorem dX5_reamsAt_7 : decode cX5_reamsAt 7 = .ok (.aload_n 0, 1) := dk_42 (dk_at dksX5_reamsAt_0 7 rfl rfl)
theorem dX5_reamsAt_8 : decode cX5_reamsAt 8 = .ok (.getfield 9, 3) := dk_180 0 9 (dk_at dksX5_reamsAt_0 8 rfl rfl)
theorem dX5_reamsAt_11 : decode cX5_reamsAt 11 = .ok (.iconst 5, 1) := dk_8 (dk_at dksX5_reamsAt_0 11 rfl rfl)
theorem dX5_reamsAt_12 : decode cX5_reamsAt 12 = .ok (.iaload, 1) := dk_46 (dk_at dksX5_reamsAt_0 12 rfl rfl)
theorem dX5_reamsAt_13 : decode cX5_reamsAt 13 = .ok (.if_icmp .ge 42, 3) := dk_162 0 42 (dk_at dksX5_reamsAt_0 13 rfl rfl)
theorem dX5_reamsAt_16 : decode cX5_reamsAt 16 = .ok (.iload_n 3, 1) := dk_29 (dk_at dksX5_reamsAt_0 16 rfl rfl)
theorem dX5_reamsAt_17 : decode cX5_reamsAt 17 = .ok (.aload_n 0, 1) := dk_42 (dk_at dksX5_reamsAt_0 17 rfl rfl)
theorem dX5_reamsAt_18 : decode cX5_reamsAt 18 = .ok (.iload 4, 2) := dk_21 4 (dk_at dksX5_reamsAt_0 18 rfl rfl)
theorem dX5_reamsAt_20 : decode cX5_reamsAt 20 = .ok (.iconst 4, 1) := dk_7 (dk_at dksX5_reamsAt_0 20 rfl rfl)
theorem dX5_reamsAt_21 : decode cX5_reamsAt 21 = .ok (.invokevirtual 82, 3) := dk_182 0 82 (dk_at dksX5_reamsAt_0 21 rfl rfl)
theorem dX5_reamsAt_24 : decode cX5_reamsAt 24 = .ok (.iload_n 1, 1) := dk_27 (dk_at dksX5_reamsAt_1 0 rfl rfl)
theorem dX5_reamsAt_25 : decode cX5_reamsAt 25 = .ok (.if_icmp .eq 7, 3) := dk_159 0 7 (dk_at dksX5_reamsAt_1 1 rfl rfl)
theorem dX5_reamsAt_28 : decode cX5_reamsAt 28 = .ok (.iconst 0, 1) := dk_3 (dk_at dksX5_reamsAt_1 4 rfl rfl)
theorem dX5_reamsAt_29 : decode cX5_reamsAt 29 = .ok (.goto 18, 3) := dk_167 0 18 (dk_at dksX5_reamsAt_1 5 rfl rfl)
theorem dX5_reamsAt_32 : decode cX5_reamsAt 32 = .ok (.iload_n 2, 1) := dk_28 (dk_at dksX5_reamsAt_1 8 rfl rfl)
theorem dX5_reamsAt_33 : decode cX5_reamsAt 33 = .ok (.ifCond .eq 13, 3) := dk_153 0 13 (dk_at dksX5_reamsAt_1 9 rfl rfl)
theorem dX5_reamsAt_36 : decode cX5_reamsAt 36 = .ok (.aload_n 0, 1) := dk_42 (dk_at dksX5_reamsAt_1 12 rfl rfl)
theorem dX5_reamsAt_37 : decode cX5_reamsAt 37 = .ok (.iload 4, 2) := dk_21 4 (dk_at dksX5_reamsAt_1 13 rfl rfl)
theorem dX5_reamsAt_39 : decode cX5_reamsAt 39 = .ok (.iconst 2, 1) := dk_5 (dk_at dksX5_reamsAt_1 15 rfl rfl)
theorem dX5_reamsAt_40 : decode cX5_reamsAt 40 = .ok (.invokevirtual 82, 3) := dk_182 0 82 (dk_at dksX5_reamsAt_1 16 rfl rfl)
theorem dX5_reamsAt_43 : decode cX5_reamsAt 43 = .ok (.goto 4, 3) := dk_167 0 4 (dk_at dksX5_reamsAt_1 19 rfl rfl)
theorem dX5_reamsAt_46 : decode cX5_reamsAt 46 = .ok (.iconst 1, 1) := dk_4 (dk_at dksX5_reamsAt_1 22 rfl rfl)
theorem dX5_reamsAt_47 : decode cX5_reamsAt 47 = .ok (.iadd, 1) := dk_96 (dk_at dksX5_reamsAt_1 23 rfl rfl)
theorem dX5_reamsAt_48 : decode cX5_reamsAt 48 = .ok (.istore_n 3, 1) := dk_62 (dk_at dksX5_reamsAt_2 0 rfl rfl)
theorem dX5_reamsAt_49 : decode cX5_reamsAt 49 = .ok (.iinc 4 1, 3) := dk_132 4 1 (dk_at dksX5_reamsAt_2 1 rfl rfl)
theorem dX5_reamsAt_52 : decode cX5_reamsAt 52 = .ok (.goto (-47), 3) := dk_167 255 209 (dk_at dksX5_reamsAt_2 4 rfl rfl)
theorem dX5_reamsAt_55 : decode cX5_reamsAt 55 = .ok (.iload_n 3, 1) := dk_29 (dk_at dksX5_reamsAt_2 7 rfl rfl)
theorem dX5_reamsAt_56 : decode cX5_reamsAt 56 = .ok (.ireturn, 1) := dk_172 (dk_at dksX5_reamsAt_2 8 rfl rfl)
abbrev cX5_eatenIn : ByteArray := prog_15_method_49_code
def yX5_eatenIn : MethodName := ⟨RX5, "eatenIn", "(II)I"⟩
def dkwX5_eatenIn_3 : List UInt8 := [167, 255, 241, 42, 27, 6, 182, 0, 116, 29, 100, 54, 4, 42, 16, 9, 3, 182, 0, 30, 21, 4, 172]
abbrev dktX5_eatenIn_3 : List UInt8 := dkwX5_eatenIn_3 ++ []
def dkwX5_eatenIn_2 : List UInt8 := [182, 0, 116, 62, 3, 54, 4, 21, 4, 28, 162, 0, 15, 42, 182, 0, 154, 54, 5, 132, 4, 1]
abbrev dktX5_eatenIn_2 : List UInt8 := dkwX5_eatenIn_2 ++ dktX5_eatenIn_3
def dkwX5_eatenIn_1 : List UInt8 := [181, 0, 27, 42, 180, 0, 27, 153, 0, 5, 3, 172, 42, 3, 16, 9, 182, 0, 30, 42, 27, 6]
abbrev dktX5_eatenIn_1 : List UInt8 := dkwX5_eatenIn_1 ++ dktX5_eatenIn_2
def dkwX5_eatenIn_0 : List UInt8 := [42, 27, 184, 0, 72, 153, 0, 17, 28, 3, 16, 30, 184, 0, 49, 153, 0, 7, 3, 167, 0, 4, 4]
abbrev dktX5_eatenIn_0 : List UInt8 := dkwX5_eatenIn_0 ++ dktX5_eatenIn_1
theorem dksX5_eatenIn_0 : cX5_eatenIn.data.toList.drop 0 = dktX5_eatenIn_0 := by decide +kernel
theorem dksX5_eatenIn_1 : cX5_eatenIn.data.toList.drop 23 = dktX5_eatenIn_1 := dk_seg dksX5_eatenIn_0 23 rfl rfl
theorem dksX5_eatenIn_2 : cX5_eatenIn.data.toList.drop 45 = dktX5_eatenIn_2 := dk_seg dksX5_eatenIn_1 22 rfl rfl
theorem dksX5_eatenIn_3 : cX5_eatenIn.data.toList.drop 67 = dktX5_eatenIn_3 := dk_seg dksX5_eatenIn_2 22 rfl rfl
theorem dX5_eatenIn_0 : decode cX5_eatenIn 0 = .ok (.aload_n 0, 1) := dk_42 (dk_at dksX5_eatenIn_0 0 rfl rfl)
theorem dX5_eatenIn_1 : decode cX5_eatenIn 1 = .ok (.iload_n 1, 1) := dk_27 (dk_at dksX5_eatenIn_0 1 rfl rfl)
theorem dX5_eatenIn_2 : decode cX5_eatenIn 2 = .ok (.invokestatic 72, 3) := dk_184 0 72 (dk_at dksX5_eatenIn_0 2 rfl rfl)
theorem dX5_eatenIn_5 : decode cX5_eatenIn 5 = .ok (.ifCond .eq 17, 3) := dk_153 0 17 (dk_at dksX5_eatenIn_0 5 rfl rfl)
theorem dX5_eatenIn_8 : decode cX5_eatenIn 8 = .ok (.iload_n 2, 1) := dk_28 (dk_at dksX5_eatenIn_0 8 rfl rfl)
theorem dX5_eatenIn_9 : decode cX5_eatenIn 9 = .ok (.iconst 0, 1) := dk_3 (dk_at dksX5_eatenIn_0 9 rfl rfl)
theorem dX5_eatenIn_10 : decode cX5_eatenIn 10 = .ok (.bipush 30, 2) := dk_16 30 (dk_at dksX5_eatenIn_0 10 rfl rfl)
theorem dX5_eatenIn_12 : decode cX5_eatenIn 12 = .ok (.invokestatic 49, 3) := dk_184 0 49 (dk_at dksX5_eatenIn_0 12 rfl rfl)
theorem dX5_eatenIn_15 : decode cX5_eatenIn 15 = .ok (.ifCond .eq 7, 3) := dk_153 0 7 (dk_at dksX5_eatenIn_0 15 rfl rfl)
theorem dX5_eatenIn_18 : decode cX5_eatenIn 18 = .ok (.iconst 0, 1) := dk_3 (dk_at dksX5_eatenIn_0 18 rfl rfl)
theorem dX5_eatenIn_19 : decode cX5_eatenIn 19 = .ok (.goto 4, 3) := dk_167 0 4 (dk_at dksX5_eatenIn_0 19 rfl rfl)
theorem dX5_eatenIn_22 : decode cX5_eatenIn 22 = .ok (.iconst 1, 1) := dk_4 (dk_at dksX5_eatenIn_0 22 rfl rfl)
theorem dX5_eatenIn_23 : decode cX5_eatenIn 23 = .ok (.putfield 27, 3) := dk_181 0 27 (dk_at dksX5_eatenIn_1 0 rfl rfl)
theorem dX5_eatenIn_26 : decode cX5_eatenIn 26 = .ok (.aload_n 0, 1) := dk_42 (dk_at dksX5_eatenIn_1 3 rfl rfl)
theorem dX5_eatenIn_27 : decode cX5_eatenIn 27 = .ok (.getfield 27, 3) := dk_180 0 27 (dk_at dksX5_eatenIn_1 4 rfl rfl)
theorem dX5_eatenIn_30 : decode cX5_eatenIn 30 = .ok (.ifCond .eq 5, 3) := dk_153 0 5 (dk_at dksX5_eatenIn_1 7 rfl rfl)
theorem dX5_eatenIn_33 : decode cX5_eatenIn 33 = .ok (.iconst 0, 1) := dk_3 (dk_at dksX5_eatenIn_1 10 rfl rfl)
theorem dX5_eatenIn_34 : decode cX5_eatenIn 34 = .ok (.ireturn, 1) := dk_172 (dk_at dksX5_eatenIn_1 11 rfl rfl)
theorem dX5_eatenIn_35 : decode cX5_eatenIn 35 = .ok (.aload_n 0, 1) := dk_42 (dk_at dksX5_eatenIn_1 12 rfl rfl)
theorem dX5_eatenIn_36 : decode cX5_eatenIn 36 = .ok (.iconst 0, 1) := dk_3 (dk_at dksX5_eatenIn_1 13 rfl rfl)
theorem dX5_eatenIn_37 : decode cX5_eatenIn 37 = .ok (.bipush 9, 2) := dk_16 9 (dk_at dksX5_eatenIn_1 14 rfl rfl)
theorem dX5_eatenIn_39 : decode cX5_eatenIn 39 = .ok (.invokevirtual 30, 3) := dk_182 0 30 (dk_at dksX5_eatenIn_1 16 rfl rfl)
theorem dX5_eatenIn_42 : decode cX5_eatenIn 42 = .ok (.aload_n 0, 1) := dk_42 (dk_at dksX5_eatenIn_1 19 rfl rfl)
theorem dX5_eatenIn_43 : decode cX5_eatenIn 43 = .ok (.iload_n 1, 1) := dk_27 (dk_at dksX5_eatenIn_1 20 rfl rfl)
theorem dX5_eatenIn_44 : decode cX5_eatenIn 44 = .ok (.iconst 3, 1) := dk_6 (dk_at dksX5_eatenIn_1 21 rfl rfl)
theorem dX5_eatenIn_45 : decode cX5_eatenIn 45 = .ok (.invokevirtual 116, 3) := dk_182 0 116 (dk_at dksX5_eatenIn_2 0 rfl rfl)
theorem dX5_eatenIn_48 : decode cX5_eatenIn 48 = .ok (.istore_n 3, 1) := dk_62 (dk_at dksX5_eatenIn_2 3 rfl rfl)
theorem dX5_eatenIn_49 : decode cX5_eatenIn 49 = .ok (.iconst 0, 1) := dk_3 (dk_at dksX5_eatenIn_2 4 rfl rfl)
theorem dX5_eatenIn_50 : decode cX5_eatenIn 50 = .ok (.istore 4, 2) := dk_54 4 (dk_at dksX5_eatenIn_2 5 rfl rfl)
theorem dX5_eatenIn_52 : decode cX5_eatenIn 52 = .ok (.iload 4, 2) := dk_21 4 (dk_at dksX5_eatenIn_2 7 rfl rfl)
theorem dX5_eatenIn_54 : decode cX5_eatenIn 54 = .ok (.iload_n 2, 1) := dk_28 (dk_at dksX5_eatenIn_2 9 rfl rfl)
theorem dX5_eatenIn_55 : decode cX5_eatenIn 55 = .ok (.if_icmp .ge 15, 3) := dk_162 0 15 (dk_at dksX5_eatenIn_2 10 rfl rfl)
theorem dX5_eatenIn_58 : decode cX5_eatenIn 58 = .ok (.aload_n 0, 1) := dk_42 (dk_at dksX5_eatenIn_2 13 rfl rfl)
theorem dX5_eatenIn_59 : decode cX5_eatenIn 59 = .ok (.invokevirtual 154, 3) := dk_182 0 154 (dk_at dksX5_eatenIn_2 14 rfl rfl)
theorem dX5_eatenIn_62 : decode cX5_eatenIn 62 = .ok (.istore 5, 2) := dk_54 5 (dk_at dksX5_eatenIn_2 17 rfl rfl)
theorem dX5_eatenIn_64 : decode cX5_eatenIn 64 = .ok (.iinc 4 1, 3) := dk_132 4 1 (dk_at dksX5_eatenIn_2 19 rfl rfl)
theorem dX5_eatenIn_67 : decode cX5_eatenIn 67 = .ok (.goto (-15), 3) := dk_167 255 241 (dk_at dksX5_eatenIn_3 0 rfl rfl)
theorem dX5_eatenIn_70 : decode cX5_eatenIn 70 = .ok (.aload_n 0, 1) := dk_42 (dk_at dksX5_eatenIn_3 3 rfl rfl)
theorem dX5_eatenIn_71 : decode cX5_eatenIn 71 = .ok (.iload_n 1, 1) := dk_27 (dk_at dksX5_eatenIn_3 4 rfl rfl)
theorem dX5_eatenIn_72 : decode cX5_eatenIn 72 = .ok (.iconst 3, 1) := dk_6 (dk_at dksX5_eatenIn_3 5 rfl rfl)
theorem dX5_eatenIn_73 : decode cX5_eatenIn 73 = .ok (.invokevirtual 116, 3) := dk_182 0 116 (dk_at dksX5_eatenIn_3 6 rfl rfl)
theorem dX5_eatenIn_76 : decode cX5_eatenIn 76 = .ok (.iload_n 3, 1) := dk_29 (dk_at dksX5_eatenIn_3 9 rfl rfl)
theorem dX5_eatenIn_77 : decode cX5_eatenIn 77 = .ok (.isub, 1) := dk_100 (dk_at dksX5_eatenIn_3 10 rfl rfl)
theorem dX5_eatenIn_78 : decode cX5_eatenIn 78 = .ok (.istore 4, 2) := dk_54 4 (dk_at dksX5_eatenIn_3 11 rfl rfl)
theorem dX5_eatenIn_80 : decode cX5_eatenIn 80 = .ok (.aload_n 0, 1) := dk_42 (dk_at dksX5_eatenIn_3 13 rfl rfl)
theorem dX5_eatenIn_81 : decode cX5_eatenIn 81 = .ok (.bipush 9, 2) := dk_16 9 (dk_at dksX5_eatenIn_3 14 rfl rfl)
theorem dX5_eatenIn_83 : decode cX5_eatenIn 83 = .ok (.iconst 0, 1) := dk_3 (dk_at dksX5_eatenIn_3 16 rfl rfl)
theorem dX5_eatenIn_84 : decode cX5_eatenIn 84 = .ok (.invokevirtual 30, 3) := dk_182 0 30 (dk_at dksX5_eatenIn_3 17 rfl rfl)
theorem dX5_eatenIn_87 : decode cX5_eatenIn 87 = .ok (.iload 4, 2) := dk_21 4 (dk_at dksX5_eatenIn_3 20 rfl rfl)
theorem dX5_eatenIn_89 : decode cX5_eatenIn 89 = .ok (.ireturn, 1) := dk_172 (dk_at dksX5_eatenIn_3 22 rfl rfl)
abbrev cX5_dayGoes : ByteArray := prog_15_method_48_code
def yX5_dayGoes : MethodName := ⟨RX5, "dayGoes", "()I"⟩
def dkwX5_dayGoes_5 : List UInt8 := [42, 180, 0, 9, 3, 92, 46, 4, 96, 79, 27, 172]
abbrev dktX5_dayGoes_5 : List UInt8 := dkwX5_dayGoes_5 ++ []
def dkwX5_dayGoes_4 : List UInt8 := [42, 28, 29, 158, 0, 7, 4, 167, 0, 4, 3, 182, 0, 150, 27, 29, 96, 60, 132, 2, 1, 167, 255, 224]
abbrev dktX5_dayGoes_4 : List UInt8 := dkwX5_dayGoes_4 ++ dktX5_dayGoes_5
def dkwX5_dayGoes_3 : List UInt8 := [182, 0, 99, 132, 1, 1, 167, 255, 182, 3, 60, 3, 61, 28, 8, 162, 0, 33, 42, 28, 182, 0, 147, 62]
abbrev dktX5_dayGoes_3 : List UInt8 := dkwX5_dayGoes_3 ++ dktX5_dayGoes_4
def dkwX5_dayGoes_2 : List UInt8 := [6, 29, 28, 162, 0, 9, 29, 4, 96, 167, 0, 15, 29, 28, 164, 0, 9, 29, 4, 100, 167, 0, 4, 29]
abbrev dktX5_dayGoes_2 : List UInt8 := dkwX5_dayGoes_2 ++ dktX5_dayGoes_3
def dkwX5_dayGoes_1 : List UInt8 := [167, 0, 51, 42, 42, 27, 7, 182, 0, 82, 3, 182, 0, 116, 61, 42, 27, 6, 182, 0, 82, 62, 42, 27]
abbrev dktX5_dayGoes_1 : List UInt8 := dkwX5_dayGoes_1 ++ dktX5_dayGoes_2
def dkwX5_dayGoes_0 : List UInt8 := [3, 60, 27, 42, 180, 0, 9, 8, 46, 162, 0, 70, 42, 27, 7, 182, 0, 82, 2, 160, 0, 6]
abbrev dktX5_dayGoes_0 : List UInt8 := dkwX5_dayGoes_0 ++ dktX5_dayGoes_1
theorem dksX5_dayGoes_0 : cX5_dayGoes.data.toList.drop 0 = dktX5_dayGoes_0 := by decide +kernel
theorem dksX5_dayGoes_1 : cX5_dayGoes.data.toList.drop 22 = dktX5_dayGoes_1 := dk_seg dksX5_dayGoes_0 22 rfl rfl
theorem dksX5_dayGoes_2 : cX5_dayGoes.data.toList.drop 46 = dktX5_dayGoes_2 := dk_seg dksX5_dayGoes_1 24 rfl rfl
theorem dksX5_dayGoes_3 : cX5_dayGoes.data.toList.drop 70 = dktX5_dayGoes_3 := dk_seg dksX5_dayGoes_2 24 rfl rfl
theorem dksX5_dayGoes_4 : cX5_dayGoes.data.toList.drop 94 = dktX5_dayGoes_4 := dk_seg dksX5_dayGoes_3 24 rfl rfl
theorem dksX5_dayGoes_5 : cX5_dayGoes.data.toList.drop 118 = dktX5_dayGoes_5 := dk_seg dksX5_dayGoes_4 24 rfl rfl
theorem dX5_dayGoes_0 : decode cX5_dayGoes 0 = .ok (.iconst 0, 1) := dk_3 (dk_at dksX5_dayGoes_0 0 rfl rfl)
theorem dX5_dayGoes_1 : decode cX5_dayGoes 1 = .ok (.istore_n 1, 1) := dk_60 (dk_at dksX5_dayGoes_0 1 rfl rfl)
theorem dX5_dayGoes_2 : decode cX5_dayGoes 2 = .ok (.iload_n 1, 1) := dk_27 (dk_at dksX5_dayGoes_0 2 rfl rfl)
theorem dX5_dayGoes_3 : decode cX5_dayGoes 3 = .ok (.aload_n 0, 1) := dk_42 (dk_at dksX5_dayGoes_0 3 rfl rfl)
theorem dX5_dayGoes_4 : decode cX5_dayGoes 4 = .ok (.getfield 9, 3) := dk_180 0 9 (dk_at dksX5_dayGoes_0 4 rfl rfl)
theorem dX5_dayGoes_7 : decode cX5_dayGoes 7 = .ok (.iconst 5, 1) := dk_8 (dk_at dksX5_dayGoes_0 7 rfl rfl)
theorem dX5_dayGoes_8 : decode cX5_dayGoes 8 = .ok (.iaload, 1) := dk_46 (dk_at dksX5_dayGoes_0 8 rfl rfl)
theorem dX5_dayGoes_9 : decode cX5_dayGoes 9 = .ok (.if_icmp .ge 70, 3) := dk_162 0 70 (dk_at dksX5_dayGoes_0 9 rfl rfl)
theorem dX5_dayGoes_12 : decode cX5_dayGoes 12 = .ok (.aload_n 0, 1) := dk_42 (dk_at dksX5_dayGoes_0 12 rfl rfl)
theorem dX5_dayGoes_13 : decode cX5_dayGoes 13 = .ok (.iload_n 1, 1) := dk_27 (dk_at dksX5_dayGoes_0 13 rfl rfl)
theorem dX5_dayGoes_14 : decode cX5_dayGoes 14 = .ok (.iconst 4, 1) := dk_7 (dk_at dksX5_dayGoes_0 14 rfl rfl)
theorem dX5_dayGoes_15 : decode cX5_dayGoes 15 = .ok (.invokevirtual 82, 3) := dk_182 0 82 (dk_at dksX5_dayGoes_0 15 rfl rfl)
theorem dX5_dayGoes_18 : decode cX5_dayGoes 18 = .ok (.iconst (-1), 1) := dk_2 (dk_at dksX5_dayGoes_0 18 rfl rfl)
theorem dX5_dayGoes_19 : decode cX5_dayGoes 19 = .ok (.if_icmp .ne 6, 3) := dk_160 0 6 (dk_at dksX5_dayGoes_0 19 rfl rfl)
theorem dX5_dayGoes_22 : decode cX5_dayGoes 22 = .ok (.goto 51, 3) := dk_167 0 51 (dk_at dksX5_dayGoes_1 0 rfl rfl)
theorem dX5_dayGoes_25 : decode cX5_dayGoes 25 = .ok (.aload_n 0, 1) := dk_42 (dk_at dksX5_dayGoes_1 3 rfl rfl)
theorem dX5_dayGoes_26 : decode cX5_dayGoes 26 = .ok (.aload_n 0, 1) := dk_42 (dk_at dksX5_dayGoes_1 4 rfl rfl)
theorem dX5_dayGoes_27 : decode cX5_dayGoes 27 = .ok (.iload_n 1, 1) := dk_27 (dk_at dksX5_dayGoes_1 5 rfl rfl)
theorem dX5_dayGoes_28 : decode cX5_dayGoes 28 = .ok (.iconst 4, 1) := dk_7 (dk_at dksX5_dayGoes_1 6 rfl rfl)
theorem dX5_dayGoes_29 : decode cX5_dayGoes 29 = .ok (.invokevirtual 82, 3) := dk_182 0 82 (dk_at dksX5_dayGoes_1 7 rfl rfl)
theorem dX5_dayGoes_32 : decode cX5_dayGoes 32 = .ok (.iconst 0, 1) := dk_3 (dk_at dksX5_dayGoes_1 10 rfl rfl)
theorem dX5_dayGoes_33 : decode cX5_dayGoes 33 = .ok (.invokevirtual 116, 3) := dk_182 0 116 (dk_at dksX5_dayGoes_1 11 rfl rfl)
theorem dX5_dayGoes_36 : decode cX5_dayGoes 36 = .ok (.istore_n 2, 1) := dk_61 (dk_at dksX5_dayGoes_1 14 rfl rfl)
theorem dX5_dayGoes_37 : decode cX5_dayGoes 37 = .ok (.aload_n 0, 1) := dk_42 (dk_at dksX5_dayGoes_1 15 rfl rfl)
theorem dX5_dayGoes_38 : decode cX5_dayGoes 38 = .ok (.iload_n 1, 1) := dk_27 (dk_at dksX5_dayGoes_1 16 rfl rfl)
theorem dX5_dayGoes_39 : decode cX5_dayGoes 39 = .ok (.iconst 3, 1) := dk_6 (dk_at dksX5_dayGoes_1 17 rfl rfl)
theorem dX5_dayGoes_40 : decode cX5_dayGoes 40 = .ok (.invokevirtual 82, 3) := dk_182 0 82 (dk_at dksX5_dayGoes_1 18 rfl rfl)
theorem dX5_dayGoes_43 : decode cX5_dayGoes 43 = .ok (.istore_n 3, 1) := dk_62 (dk_at dksX5_dayGoes_1 21 rfl rfl)
theorem dX5_dayGoes_44 : decode cX5_dayGoes 44 = .ok (.aload_n 0, 1) := dk_42 (dk_at dksX5_dayGoes_1 22 rfl rfl)
theorem dX5_dayGoes_45 : decode cX5_dayGoes 45 = .ok (.iload_n 1, 1) := dk_27 (dk_at dksX5_dayGoes_1 23 rfl rfl)
theorem dX5_dayGoes_46 : decode cX5_dayGoes 46 = .ok (.iconst 3, 1) := dk_6 (dk_at dksX5_dayGoes_2 0 rfl rfl)
theorem dX5_dayGoes_47 : decode cX5_dayGoes 47 = .ok (.iload_n 3, 1) := dk_29 (dk_at dksX5_dayGoes_2 1 rfl rfl)
theorem dX5_dayGoes_48 : decode cX5_dayGoes 48 = .ok (.iload_n 2, 1) := dk_28 (dk_at dksX5_dayGoes_2 2 rfl rfl)
theorem dX5_dayGoes_49 : decode cX5_dayGoes 49 = .ok (.if_icmp .ge 9, 3) := dk_162 0 9 (dk_at dksX5_dayGoes_2 3 rfl rfl)
theorem dX5_dayGoes_52 : decode cX5_dayGoes 52 = .ok (.iload_n 3, 1) := dk_29 (dk_at dksX5_dayGoes_2 6 rfl rfl)
theorem dX5_dayGoes_53 : decode cX5_dayGoes 53 = .ok (.iconst 1, 1) := dk_4 (dk_at dksX5_dayGoes_2 7 rfl rfl)
theorem dX5_dayGoes_54 : decode cX5_dayGoes 54 = .ok (.iadd, 1) := dk_96 (dk_at dksX5_dayGoes_2 8 rfl rfl)
theorem dX5_dayGoes_55 : decode cX5_dayGoes 55 = .ok (.goto 15, 3) := dk_167 0 15 (dk_at dksX5_dayGoes_2 9 rfl rfl)
theorem dX5_dayGoes_58 : decode cX5_dayGoes 58 = .ok (.iload_n 3, 1) := dk_29 (dk_at dksX5_dayGoes_2 12 rfl rfl)
theorem dX5_dayGoes_59 : decode cX5_dayGoes 59 = .ok (.iload_n 2, 1) := dk_28 (dk_at dksX5_dayGoes_2 13 rfl rfl)
theorem dX5_dayGoes_60 : decode cX5_dayGoes 60 = .ok (.if_icmp .le 9, 3) := dk_164 0 9 (dk_at dksX5_dayGoes_2 14 rfl rfl)
theorem dX5_dayGoes_63 : decode cX5_dayGoes 63 = .ok (.iload_n 3, 1) := dk_29 (dk_at dksX5_dayGoes_2 17 rfl rfl)
theorem dX5_dayGoes_64 : decode cX5_dayGoes 64 = .ok (.iconst 1, 1) := dk_4 (dk_at dksX5_dayGoes_2 18 rfl rfl)
theorem dX5_dayGoes_65 : decode cX5_dayGoes 65 = .ok (.isub, 1) := dk_100 (dk_at dksX5_dayGoes_2 19 rfl rfl)
theorem dX5_dayGoes_66 : decode cX5_dayGoes 66 = .ok (.goto 4, 3) := dk_167 0 4 (dk_at dksX5_dayGoes_2 20 rfl rfl)
theorem dX5_dayGoes_69 : decode cX5_dayGoes 69 = .ok (.iload_n 3, 1) := dk_29 (dk_at dksX5_dayGoes_2 23 rfl rfl)
theorem dX5_dayGoes_70 : decode cX5_dayGoes 70 = .ok (.invokevirtual 99, 3) := dk_182 0 99 (dk_at dksX5_dayGoes_3 0 rfl rfl)
theorem dX5_dayGoes_73 : decode cX5_dayGoes 73 = .ok (.iinc 1 1, 3) := dk_132 1 1 (dk_at dksX5_dayGoes_3 3 rfl rfl)
theorem dX5_dayGoes_76 : decode cX5_dayGoes 76 = .ok (.goto (-74), 3) := dk_167 255 182 (dk_at dksX5_dayGoes_3 6 rfl rfl)
theorem dX5_dayGoes_79 : decode cX5_dayGoes 79 = .ok (.iconst 0, 1) := dk_3 (dk_at dksX5_dayGoes_3 9 rfl rfl)
theorem dX5_dayGoes_80 : decode cX5_dayGoes 80 = .ok (.istore_n 1, 1) := dk_60 (dk_at dksX5_dayGoes_3 10 rfl rfl)
theorem dX5_dayGoes_81 : decode cX5_dayGoes 81 = .ok (.iconst 0, 1) := dk_3 (dk_at dksX5_dayGoes_3 11 rfl rfl)
theorem dX5_dayGoes_82 : decode cX5_dayGoes 82 = .ok (.istore_n 2, 1) := dk_61 (dk_at dksX5_dayGoes_3 12 rfl rfl)
theorem dX5_dayGoes_83 : decode cX5_dayGoes 83 = .ok (.iload_n 2, 1) := dk_28 (dk_at dksX5_dayGoes_3 13 rfl rfl)
theorem dX5_dayGoes_84 : decode cX5_dayGoes 84 = .ok (.iconst 5, 1) := dk_8 (dk_at dksX5_dayGoes_3 14 rfl rfl)
theorem dX5_dayGoes_85 : decode cX5_dayGoes 85 = .ok (.if_icmp .ge 33, 3) := dk_162 0 33 (dk_at dksX5_dayGoes_3 15 rfl rfl)
theorem dX5_dayGoes_88 : decode cX5_dayGoes 88 = .ok (.aload_n 0, 1) := dk_42 (dk_at dksX5_dayGoes_3 18 rfl rfl)
theorem dX5_dayGoes_89 : decode cX5_dayGoes 89 = .ok (.iload_n 2, 1) := dk_28 (dk_at dksX5_dayGoes_3 19 rfl rfl)
theorem dX5_dayGoes_90 : decode cX5_dayGoes 90 = .ok (.invokevirtual 147, 3) := dk_182 0 147 (dk_at dksX5_dayGoes_3 20 rfl rfl)
theorem dX5_dayGoes_93 : decode cX5_dayGoes 93 = .ok (.istore_n 3, 1) := dk_62 (dk_at dksX5_dayGoes_3 23 rfl rfl)
theorem dX5_dayGoes_94 : decode cX5_dayGoes 94 = .ok (.aload_n 0, 1) := dk_42 (dk_at dksX5_dayGoes_4 0 rfl rfl)
theorem dX5_dayGoes_95 : decode cX5_dayGoes 95 = .ok (.iload_n 2, 1) := dk_28 (dk_at dksX5_dayGoes_4 1 rfl rfl)
theorem dX5_dayGoes_96 : decode cX5_dayGoes 96 = .ok (.iload_n 3, 1) := dk_29 (dk_at dksX5_dayGoes_4 2 rfl rfl)
theorem dX5_dayGoes_97 : decode cX5_dayGoes 97 = .ok (.ifCond .le 7, 3) := dk_158 0 7 (dk_at dksX5_dayGoes_4 3 rfl rfl)
theorem dX5_dayGoes_100 : decode cX5_dayGoes 100 = .ok (.iconst 1, 1) := dk_4 (dk_at dksX5_dayGoes_4 6 rfl rfl)
theorem dX5_dayGoes_101 : decode cX5_dayGoes 101 = .ok (.goto 4, 3) := dk_167 0 4 (dk_at dksX5_dayGoes_4 7 rfl rfl)
theorem dX5_dayGoes_104 : decode cX5_dayGoes 104 = .ok (.iconst 0, 1) := dk_3 (dk_at dksX5_dayGoes_4 10 rfl rfl)
theorem dX5_dayGoes_105 : decode cX5_dayGoes 105 = .ok (.invokevirtual 150, 3) := dk_182 0 150 (dk_at dksX5_dayGoes_4 11 rfl rfl)
theorem dX5_dayGoes_108 : decode cX5_dayGoes 108 = .ok (.iload_n 1, 1) := dk_27 (dk_at dksX5_dayGoes_4 14 rfl rfl)
theorem dX5_dayGoes_109 : decode cX5_dayGoes 109 = .ok (.iload_n 3, 1) := dk_29 (dk_at dksX5_dayGoes_4 15 rfl rfl)
theorem dX5_dayGoes_110 : decode cX5_dayGoes 110 = .ok (.iadd, 1) := dk_96 (dk_at dksX5_dayGoes_4 16 rfl rfl)
theorem dX5_dayGoes_111 : decode cX5_dayGoes 111 = .ok (.istore_n 1, 1) := dk_60 (dk_at dksX5_dayGoes_4 17 rfl rfl)
theorem dX5_dayGoes_112 : decode cX5_dayGoes 112 = .ok (.iinc 2 1, 3) := dk_132 2 1 (dk_at dksX5_dayGoes_4 18 rfl rfl)
theorem dX5_dayGoes_115 : decode cX5_dayGoes 115 = .ok (.goto (-32), 3) := dk_167 255 224 (dk_at dksX5_dayGoes_4 21 rfl rfl)
theorem dX5_dayGoes_118 : decode cX5_dayGoes 118 = .ok (.aload_n 0, 1) := dk_42 (dk_at dksX5_dayGoes_5 0 rfl rfl)
theorem dX5_dayGoes_119 : decode cX5_dayGoes 119 = .ok (.getfield 9, 3) := dk_180 0 9 (dk_at dksX5_dayGoes_5 1 rfl rfl)
theorem dX5_dayGoes_122 : decode cX5_dayGoes 122 = .ok (.iconst 0, 1) := dk_3 (dk_at dksX5_dayGoes_5 4 rfl rfl)
theorem dX5_dayGoes_123 : decode cX5_dayGoes 123 = .ok (.dup2, 1) := dk_92 (dk_at dksX5_dayGoes_5 5 rfl rfl)
theorem dX5_dayGoes_124 : decode cX5_dayGoes 124 = .ok (.iaload, 1) := dk_46 (dk_at dksX5_dayGoes_5 6 rfl rfl)
theorem dX5_dayGoes_125 : decode cX5_dayGoes 125 = .ok (.iconst 1, 1) := dk_4 (dk_at dksX5_dayGoes_5 7 rfl rfl)
theorem dX5_dayGoes_126 : decode cX5_dayGoes 126 = .ok (.iadd, 1) := dk_96 (dk_at dksX5_dayGoes_5 8 rfl rfl)
theorem dX5_dayGoes_127 : decode cX5_dayGoes 127 = .ok (.iastore, 1) := dk_79 (dk_at dksX5_dayGoes_5 9 rfl rfl)
theorem dX5_dayGoes_128 : decode cX5_dayGoes 128 = .ok (.iload_n 1, 1) := dk_27 (dk_at dksX5_dayGoes_5 10 rfl rfl)
theorem dX5_dayGoes_129 : decode cX5_dayGoes 129 = .ok (.ireturn, 1) := dk_172 (dk_at dksX5_dayGoes_5 11 rfl rfl)
abbrev cX5_eats : ByteArray := prog_15_method_46_code
def yX5_eats : MethodName := ⟨RX5, "eats", "(I)I"⟩
def dkwX5_eats_5 : List UInt8 := [6, 42, 27, 6, 182, 0, 116, 29, 96, 182, 0, 122, 42, 180, 0, 9, 4, 92, 46, 29, 96, 79, 29, 172]
abbrev dktX5_eats_5 : List UInt8 := dkwX5_eats_5 ++ []
def dkwX5_eats_4 : List UInt8 := [28, 21, 7, 100, 61, 29, 21, 7, 96, 62, 132, 5, 255, 167, 255, 183, 132, 4, 1, 167, 255, 159, 42, 27]
abbrev dktX5_eats_4 : List UInt8 := dkwX5_eats_4 ++ dktX5_eats_5
def dkwX5_eats_3 : List UInt8 := [16, 7, 42, 21, 6, 16, 7, 182, 0, 82, 21, 7, 96, 182, 0, 99, 42, 21, 6, 21, 7, 182, 0, 144]
abbrev dktX5_eats_3 : List UInt8 := dkwX5_eats_3 ++ dktX5_eats_4
def dkwX5_eats_2 : List UInt8 := [21, 5, 182, 0, 88, 54, 6, 28, 42, 21, 6, 5, 182, 0, 82, 184, 0, 131, 54, 7, 42, 21, 6]
abbrev dktX5_eats_2 : List UInt8 := dkwX5_eats_2 ++ dktX5_eats_3
def dkwX5_eats_1 : List UInt8 := [27, 21, 4, 182, 0, 85, 4, 100, 54, 5, 21, 5, 155, 0, 74, 28, 158, 0, 70, 42, 27, 21, 4]
abbrev dktX5_eats_1 : List UInt8 := dkwX5_eats_1 ++ dktX5_eats_2
def dkwX5_eats_0 : List UInt8 := [42, 27, 4, 182, 0, 116, 5, 96, 6, 108, 61, 3, 62, 3, 54, 4, 21, 4, 16, 6, 162, 0, 96, 42]
abbrev dktX5_eats_0 : List UInt8 := dkwX5_eats_0 ++ dktX5_eats_1
theorem dksX5_eats_0 : cX5_eats.data.toList.drop 0 = dktX5_eats_0 := by decide +kernel
theorem dksX5_eats_1 : cX5_eats.data.toList.drop 24 = dktX5_eats_1 := dk_seg dksX5_eats_0 24 rfl rfl
theorem dksX5_eats_2 : cX5_eats.data.toList.drop 47 = dktX5_eats_2 := dk_seg dksX5_eats_1 23 rfl rfl
theorem dksX5_eats_3 : cX5_eats.data.toList.drop 70 = dktX5_eats_3 := dk_seg dksX5_eats_2 23 rfl rfl
theorem dksX5_eats_4 : cX5_eats.data.toList.drop 94 = dktX5_eats_4 := dk_seg dksX5_eats_3 24 rfl rfl
theorem dksX5_eats_5 : cX5_eats.data.toList.drop 118 = dktX5_eats_5 := dk_seg dksX5_eats_4 24 rfl rfl
theorem dX5_eats_0 : decode cX5_eats 0 = .ok (.aload_n 0, 1) := dk_42 (dk_at dksX5_eats_0 0 rfl rfl)
theorem dX5_eats_1 : decode cX5_eats 1 = .ok (.iload_n 1, 1) := dk_27 (dk_at dksX5_eats_0 1 rfl rfl)
theorem dX5_eats_2 : decode cX5_eats 2 = .ok (.iconst 1, 1) := dk_4 (dk_at dksX5_eats_0 2 rfl rfl)
theorem dX5_eats_3 : decode cX5_eats 3 = .ok (.invokevirtual 116, 3) := dk_182 0 116 (dk_at dksX5_eats_0 3 rfl rfl)
theorem dX5_eats_6 : decode cX5_eats 6 = .ok (.iconst 2, 1) := dk_5 (dk_at dksX5_eats_0 6 rfl rfl)
theorem dX5_eats_7 : decode cX5_eats 7 = .ok (.iadd, 1) := dk_96 (dk_at dksX5_eats_0 7 rfl rfl)
theorem dX5_eats_8 : decode cX5_eats 8 = .ok (.iconst 3, 1) := dk_6 (dk_at dksX5_eats_0 8 rfl rfl)
theorem dX5_eats_9 : decode cX5_eats 9 = .ok (.idiv, 1) := dk_108 (dk_at dksX5_eats_0 9 rfl rfl)
theorem dX5_eats_10 : decode cX5_eats 10 = .ok (.istore_n 2, 1) := dk_61 (dk_at dksX5_eats_0 10 rfl rfl)
theorem dX5_eats_11 : decode cX5_eats 11 = .ok (.iconst 0, 1) := dk_3 (dk_at dksX5_eats_0 11 rfl rfl)
theorem dX5_eats_12 : decode cX5_eats 12 = .ok (.istore_n 3, 1) := dk_62 (dk_at dksX5_eats_0 12 rfl rfl)
theorem dX5_eats_13 : decode cX5_eats 13 = .ok (.iconst 0, 1) := dk_3 (dk_at dksX5_eats_0 13 rfl rfl)
theorem dX5_eats_14 : decode cX5_eats 14 = .ok (.istore 4, 2) := dk_54 4 (dk_at dksX5_eats_0 14 rfl rfl)
theorem dX5_eats_16 : decode cX5_eats 16 = .ok (.iload 4, 2) := dk_21 4 (dk_at dksX5_eats_0 16 rfl rfl)
theorem dX5_eats_18 : decode cX5_eats 18 = .ok (.bipush 6, 2) := dk_16 6 (dk_at dksX5_eats_0 18 rfl rfl)
theorem dX5_eats_20 : decode cX5_eats 20 = .ok (.if_icmp .ge 96, 3) := dk_162 0 96 (dk_at dksX5_eats_0 20 rfl rfl)
theorem dX5_eats_23 : decode cX5_eats 23 = .ok (.aload_n 0, 1) := dk_42 (dk_at dksX5_eats_0 23 rfl rfl)
theorem dX5_eats_24 : decode cX5_eats 24 = .ok (.iload_n 1, 1) := dk_27 (dk_at dksX5_eats_1 0 rfl rfl)
theorem dX5_eats_25 : decode cX5_eats 25 = .ok (.iload 4, 2) := dk_21 4 (dk_at dksX5_eats_1 1 rfl rfl)
theorem dX5_eats_27 : decode cX5_eats 27 = .ok (.invokevirtual 85, 3) := dk_182 0 85 (dk_at dksX5_eats_1 3 rfl rfl)
theorem dX5_eats_30 : decode cX5_eats 30 = .ok (.iconst 1, 1) := dk_4 (dk_at dksX5_eats_1 6 rfl rfl)
theorem dX5_eats_31 : decode cX5_eats 31 = .ok (.isub, 1) := dk_100 (dk_at dksX5_eats_1 7 rfl rfl)
theorem dX5_eats_32 : decode cX5_eats 32 = .ok (.istore 5, 2) := dk_54 5 (dk_at dksX5_eats_1 8 rfl rfl)
theorem dX5_eats_34 : decode cX5_eats 34 = .ok (.iload 5, 2) := dk_21 5 (dk_at dksX5_eats_1 10 rfl rfl)
theorem dX5_eats_36 : decode cX5_eats 36 = .ok (.ifCond .lt 74, 3) := dk_155 0 74 (dk_at dksX5_eats_1 12 rfl rfl)
theorem dX5_eats_39 : decode cX5_eats 39 = .ok (.iload_n 2, 1) := dk_28 (dk_at dksX5_eats_1 15 rfl rfl)
theorem dX5_eats_40 : decode cX5_eats 40 = .ok (.ifCond .le 70, 3) := dk_158 0 70 (dk_at dksX5_eats_1 16 rfl rfl)
theorem dX5_eats_43 : decode cX5_eats 43 = .ok (.aload_n 0, 1) := dk_42 (dk_at dksX5_eats_1 19 rfl rfl)
theorem dX5_eats_44 : decode cX5_eats 44 = .ok (.iload_n 1, 1) := dk_27 (dk_at dksX5_eats_1 20 rfl rfl)
theorem dX5_eats_45 : decode cX5_eats 45 = .ok (.iload 4, 2) := dk_21 4 (dk_at dksX5_eats_1 21 rfl rfl)
theorem dX5_eats_47 : decode cX5_eats 47 = .ok (.iload 5, 2) := dk_21 5 (dk_at dksX5_eats_2 0 rfl rfl)
theorem dX5_eats_49 : decode cX5_eats 49 = .ok (.invokevirtual 88, 3) := dk_182 0 88 (dk_at dksX5_eats_2 2 rfl rfl)
theorem dX5_eats_52 : decode cX5_eats 52 = .ok (.istore 6, 2) := dk_54 6 (dk_at dksX5_eats_2 5 rfl rfl)
theorem dX5_eats_54 : decode cX5_eats 54 = .ok (.iload_n 2, 1) := dk_28 (dk_at dksX5_eats_2 7 rfl rfl)
theorem dX5_eats_55 : decode cX5_eats 55 = .ok (.aload_n 0, 1) := dk_42 (dk_at dksX5_eats_2 8 rfl rfl)
theorem dX5_eats_56 : decode cX5_eats 56 = .ok (.iload 6, 2) := dk_21 6 (dk_at dksX5_eats_2 9 rfl rfl)
theorem dX5_eats_58 : decode cX5_eats 58 = .ok (.iconst 2, 1) := dk_5 (dk_at dksX5_eats_2 11 rfl rfl)
theorem dX5_eats_59 : decode cX5_eats 59 = .ok (.invokevirtual 82, 3) := dk_182 0 82 (dk_at dksX5_eats_2 12 rfl rfl)
theorem dX5_eats_62 : decode cX5_eats 62 = .ok (.invokestatic 131, 3) := dk_184 0 131 (dk_at dksX5_eats_2 15 rfl rfl)
theorem dX5_eats_65 : decode cX5_eats 65 = .ok (.istore 7, 2) := dk_54 7 (dk_at dksX5_eats_2 18 rfl rfl)
theorem dX5_eats_67 : decode cX5_eats 67 = .ok (.aload_n 0, 1) := dk_42 (dk_at dksX5_eats_2 20 rfl rfl)
theorem dX5_eats_68 : decode cX5_eats 68 = .ok (.iload 6, 2) := dk_21 6 (dk_at dksX5_eats_2 21 rfl rfl)
theorem dX5_eats_70 : decode cX5_eats 70 = .ok (.bipush 7, 2) := dk_16 7 (dk_at dksX5_eats_3 0 rfl rfl)
theorem dX5_eats_72 : decode cX5_eats 72 = .ok (.aload_n 0, 1) := dk_42 (dk_at dksX5_eats_3 2 rfl rfl)
theorem dX5_eats_73 : decode cX5_eats 73 = .ok (.iload 6, 2) := dk_21 6 (dk_at dksX5_eats_3 3 rfl rfl)
theorem dX5_eats_75 : decode cX5_eats 75 = .ok (.bipush 7, 2) := dk_16 7 (dk_at dksX5_eats_3 5 rfl rfl)
theorem dX5_eats_77 : decode cX5_eats 77 = .ok (.invokevirtual 82, 3) := dk_182 0 82 (dk_at dksX5_eats_3 7 rfl rfl)
theorem dX5_eats_80 : decode cX5_eats 80 = .ok (.iload 7, 2) := dk_21 7 (dk_at dksX5_eats_3 10 rfl rfl)
theorem dX5_eats_82 : decode cX5_eats 82 = .ok (.iadd, 1) := dk_96 (dk_at dksX5_eats_3 12 rfl rfl)
theorem dX5_eats_83 : decode cX5_eats 83 = .ok (.invokevirtual 99, 3) := dk_182 0 99 (dk_at dksX5_eats_3 13 rfl rfl)
theorem dX5_eats_86 : decode cX5_eats 86 = .ok (.aload_n 0, 1) := dk_42 (dk_at dksX5_eats_3 16 rfl rfl)
theorem dX5_eats_87 : decode cX5_eats 87 = .ok (.iload 6, 2) := dk_21 6 (dk_at dksX5_eats_3 17 rfl rfl)
theorem dX5_eats_89 : decode cX5_eats 89 = .ok (.iload 7, 2) := dk_21 7 (dk_at dksX5_eats_3 19 rfl rfl)
theorem dX5_eats_91 : decode cX5_eats 91 = .ok (.invokevirtual 144, 3) := dk_182 0 144 (dk_at dksX5_eats_3 21 rfl rfl)
theorem dX5_eats_94 : decode cX5_eats 94 = .ok (.iload_n 2, 1) := dk_28 (dk_at dksX5_eats_4 0 rfl rfl)
theorem dX5_eats_95 : decode cX5_eats 95 = .ok (.iload 7, 2) := dk_21 7 (dk_at dksX5_eats_4 1 rfl rfl)
theorem dX5_eats_97 : decode cX5_eats 97 = .ok (.isub, 1) := dk_100 (dk_at dksX5_eats_4 3 rfl rfl)
theorem dX5_eats_98 : decode cX5_eats 98 = .ok (.istore_n 2, 1) := dk_61 (dk_at dksX5_eats_4 4 rfl rfl)
theorem dX5_eats_99 : decode cX5_eats 99 = .ok (.iload_n 3, 1) := dk_29 (dk_at dksX5_eats_4 5 rfl rfl)
theorem dX5_eats_100 : decode cX5_eats 100 = .ok (.iload 7, 2) := dk_21 7 (dk_at dksX5_eats_4 6 rfl rfl)
theorem dX5_eats_102 : decode cX5_eats 102 = .ok (.iadd, 1) := dk_96 (dk_at dksX5_eats_4 8 rfl rfl)
theorem dX5_eats_103 : decode cX5_eats 103 = .ok (.istore_n 3, 1) := dk_62 (dk_at dksX5_eats_4 9 rfl rfl)
theorem dX5_eats_104 : decode cX5_eats 104 = .ok (.iinc 5 (-1), 3) := dk_132 5 255 (dk_at dksX5_eats_4 10 rfl rfl)
theorem dX5_eats_107 : decode cX5_eats 107 = .ok (.goto (-73), 3) := dk_167 255 183 (dk_at dksX5_eats_4 13 rfl rfl)
theorem dX5_eats_110 : decode cX5_eats 110 = .ok (.iinc 4 1, 3) := dk_132 4 1 (dk_at dksX5_eats_4 16 rfl rfl)
theorem dX5_eats_113 : decode cX5_eats 113 = .ok (.goto (-97), 3) := dk_167 255 159 (dk_at dksX5_eats_4 19 rfl rfl)
theorem dX5_eats_116 : decode cX5_eats 116 = .ok (.aload_n 0, 1) := dk_42 (dk_at dksX5_eats_4 22 rfl rfl)
theorem dX5_eats_117 : decode cX5_eats 117 = .ok (.iload_n 1, 1) := dk_27 (dk_at dksX5_eats_4 23 rfl rfl)
theorem dX5_eats_118 : decode cX5_eats 118 = .ok (.iconst 3, 1) := dk_6 (dk_at dksX5_eats_5 0 rfl rfl)
theorem dX5_eats_119 : decode cX5_eats 119 = .ok (.aload_n 0, 1) := dk_42 (dk_at dksX5_eats_5 1 rfl rfl)
theorem dX5_eats_120 : decode cX5_eats 120 = .ok (.iload_n 1, 1) := dk_27 (dk_at dksX5_eats_5 2 rfl rfl)
theorem dX5_eats_121 : decode cX5_eats 121 = .ok (.iconst 3, 1) := dk_6 (dk_at dksX5_eats_5 3 rfl rfl)
theorem dX5_eats_122 : decode cX5_eats 122 = .ok (.invokevirtual 116, 3) := dk_182 0 116 (dk_at dksX5_eats_5 4 rfl rfl)
theorem dX5_eats_125 : decode cX5_eats 125 = .ok (.iload_n 3, 1) := dk_29 (dk_at dksX5_eats_5 7 rfl rfl)
theorem dX5_eats_126 : decode cX5_eats 126 = .ok (.iadd, 1) := dk_96 (dk_at dksX5_eats_5 8 rfl rfl)
theorem dX5_eats_127 : decode cX5_eats 127 = .ok (.invokevirtual 122, 3) := dk_182 0 122 (dk_at dksX5_eats_5 9 rfl rfl)
theorem dX5_eats_130 : decode cX5_eats 130 = .ok (.aload_n 0, 1) := dk_42 (dk_at dksX5_eats_5 12 rfl rfl)
theorem dX5_eats_131 : decode cX5_eats 131 = .ok (.getfield 9, 3) := dk_180 0 9 (dk_at dksX5_eats_5 13 rfl rfl)
theorem dX5_eats_134 : decode cX5_eats 134 = .ok (.iconst 1, 1) := dk_4 (dk_at dksX5_eats_5 16 rfl rfl)
theorem dX5_eats_135 : decode cX5_eats 135 = .ok (.dup2, 1) := dk_92 (dk_at dksX5_eats_5 17 rfl rfl)
theorem dX5_eats_136 : decode cX5_eats 136 = .ok (.iaload, 1) := dk_46 (dk_at dksX5_eats_5 18 rfl rfl)
theorem dX5_eats_137 : decode cX5_eats 137 = .ok (.iload_n 3, 1) := dk_29 (dk_at dksX5_eats_5 19 rfl rfl)
theorem dX5_eats_138 : decode cX5_eats 138 = .ok (.iadd, 1) := dk_96 (dk_at dksX5_eats_5 20 rfl rfl)
theorem dX5_eats_139 : decode cX5_eats 139 = .ok (.iastore, 1) := dk_79 (dk_at dksX5_eats_5 21 rfl rfl)
theorem dX5_eats_140 : decode cX5_eats 140 = .ok (.iload_n 3, 1) := dk_29 (dk_at dksX5_eats_5 22 rfl rfl)
theorem dX5_eats_141 : decode cX5_eats 141 = .ok (.ireturn, 1) := dk_172 (dk_at dksX5_eats_5 23 rfl rfl)
abbrev cX5_leave : ByteArray := prog_15_method_34_code
def yX5_leave : MethodName := ⟨RX5, "leave", "(II)V"⟩
def dkwX5_leave_6 : List UInt8 := [132, 6, 1, 167, 255, 188, 177]
abbrev dktX5_leave_6 : List UInt8 := dkwX5_leave_6 ++ []
def dkwX5_leave_5 : List UInt8 := [21, 5, 164, 0, 21, 42, 21, 6, 16, 6, 42, 21, 6, 16, 6, 182, 0, 82, 4, 100, 182, 0, 99]
abbrev dktX5_leave_5 : List UInt8 := dkwX5_leave_5 ++ dktX5_leave_6
def dkwX5_leave_4 : List UInt8 := [160, 0, 46, 42, 21, 6, 8, 182, 0, 82, 21, 4, 160, 0, 34, 42, 21, 6, 16, 6, 182, 0, 82]
abbrev dktX5_leave_4 : List UInt8 := dkwX5_leave_4 ++ dktX5_leave_5
def dkwX5_leave_3 : List UInt8 := [3, 54, 6, 21, 6, 42, 180, 0, 9, 8, 46, 162, 0, 63, 42, 21, 6, 7, 182, 0, 82, 29]
abbrev dktX5_leave_3 : List UInt8 := dkwX5_leave_3 ++ dktX5_leave_4
def dkwX5_leave_2 : List UInt8 := [7, 54, 6, 21, 6, 16, 6, 163, 0, 17, 42, 27, 21, 6, 2, 182, 0, 99, 132, 6, 1, 167, 255, 238]
abbrev dktX5_leave_2 : List UInt8 := dkwX5_leave_2 ++ dktX5_leave_3
def dkwX5_leave_1 : List UInt8 := [42, 27, 7, 182, 0, 82, 62, 42, 27, 8, 182, 0, 82, 54, 4, 42, 27, 16, 6, 182, 0, 82, 54, 5]
abbrev dktX5_leave_1 : List UInt8 := dkwX5_leave_1 ++ dktX5_leave_2
def dkwX5_leave_0 : List UInt8 := [42, 27, 5, 42, 27, 5, 182, 0, 82, 28, 100, 182, 0, 99, 42, 27, 5, 182, 0, 82, 158, 0, 4, 177]
abbrev dktX5_leave_0 : List UInt8 := dkwX5_leave_0 ++ dktX5_leave_1
theorem dksX5_leave_0 : cX5_leave.data.toList.drop 0 = dktX5_leave_0 := by decide +kernel
theorem dksX5_leave_1 : cX5_leave.data.toList.drop 24 = dktX5_leave_1 := dk_seg dksX5_leave_0 24 rfl rfl
theorem dksX5_leave_2 : cX5_leave.data.toList.drop 48 = dktX5_leave_2 := dk_seg dksX5_leave_1 24 rfl rfl
theorem dksX5_leave_3 : cX5_leave.data.toList.drop 72 = dktX5_leave_3 := dk_seg dksX5_leave_2 24 rfl rfl
theorem dksX5_leave_4 : cX5_leave.data.toList.drop 94 = dktX5_leave_4 := dk_seg dksX5_leave_3 22 rfl rfl
theorem dksX5_leave_5 : cX5_leave.data.toList.drop 117 = dktX5_leave_5 := dk_seg dksX5_leave_4 23 rfl rfl
theorem dksX5_leave_6 : cX5_leave.data.toList.drop 140 = dktX5_leave_6 := dk_seg dksX5_leave_5 23 rfl rfl
theorem dX5_leave_0 : decode cX5_leave 0 = .ok (.aload_n 0, 1) := dk_42 (dk_at dksX5_leave_0 0 rfl rfl)
theorem dX5_leave_1 : decode cX5_leave 1 = .ok (.iload_n 1, 1) := dk_27 (dk_at dksX5_leave_0 1 rfl rfl)
theorem dX5_leave_2 : decode cX5_leave 2 = .ok (.iconst 2, 1) := dk_5 (dk_at dksX5_leave_0 2 rfl rfl)
theorem dX5_leave_3 : decode cX5_leave 3 = .ok (.aload_n 0, 1) := dk_42 (dk_at dksX5_leave_0 3 rfl rfl)
theorem dX5_leave_4 : decode cX5_leave 4 = .ok (.iload_n 1, 1) := dk_27 (dk_at dksX5_leave_0 4 rfl rfl)
theorem dX5_leave_5 : decode cX5_leave 5 = .ok (.iconst 2, 1) := dk_5 (dk_at dksX5_leave_0 5 rfl rfl)
theorem dX5_leave_6 : decode cX5_leave 6 = .ok (.invokevirtual 82, 3) := dk_182 0 82 (dk_at dksX5_leave_0 6 rfl rfl)
theorem dX5_leave_9 : decode cX5_leave 9 = .ok (.iload_n 2, 1) := dk_28 (dk_at dksX5_leave_0 9 rfl rfl)
theorem dX5_leave_10 : decode cX5_leave 10 = .ok (.isub, 1) := dk_100 (dk_at dksX5_leave_0 10 rfl rfl)
theorem dX5_leave_11 : decode cX5_leave 11 = .ok (.invokevirtual 99, 3) := dk_182 0 99 (dk_at dksX5_leave_0 11 rfl rfl)
theorem dX5_leave_14 : decode cX5_leave 14 = .ok (.aload_n 0, 1) := dk_42 (dk_at dksX5_leave_0 14 rfl rfl)
theorem dX5_leave_15 : decode cX5_leave 15 = .ok (.iload_n 1, 1) := dk_27 (dk_at dksX5_leave_0 15 rfl rfl)
theorem dX5_leave_16 : decode cX5_leave 16 = .ok (.iconst 2, 1) := dk_5 (dk_at dksX5_leave_0 16 rfl rfl)
theorem dX5_leave_17 : decode cX5_leave 17 = .ok (.invokevirtual 82, 3) := dk_182 0 82 (dk_at dksX5_leave_0 17 rfl rfl)
theorem dX5_leave_20 : decode cX5_leave 20 = .ok (.ifCond .le 4, 3) := dk_158 0 4 (dk_at dksX5_leave_0 20 rfl rfl)
theorem dX5_leave_23 : decode cX5_leave 23 = .ok (.return_, 1) := dk_177 (dk_at dksX5_leave_0 23 rfl rfl)
theorem dX5_leave_24 : decode cX5_leave 24 = .ok (.aload_n 0, 1) := dk_42 (dk_at dksX5_leave_1 0 rfl rfl)
theorem dX5_leave_25 : decode cX5_leave 25 = .ok (.iload_n 1, 1) := dk_27 (dk_at dksX5_leave_1 1 rfl rfl)
theorem dX5_leave_26 : decode cX5_leave 26 = .ok (.iconst 4, 1) := dk_7 (dk_at dksX5_leave_1 2 rfl rfl)
theorem dX5_leave_27 : decode cX5_leave 27 = .ok (.invokevirtual 82, 3) := dk_182 0 82 (dk_at dksX5_leave_1 3 rfl rfl)
theorem dX5_leave_30 : decode cX5_leave 30 = .ok (.istore_n 3, 1) := dk_62 (dk_at dksX5_leave_1 6 rfl rfl)
theorem dX5_leave_31 : decode cX5_leave 31 = .ok (.aload_n 0, 1) := dk_42 (dk_at dksX5_leave_1 7 rfl rfl)
theorem dX5_leave_32 : decode cX5_leave 32 = .ok (.iload_n 1, 1) := dk_27 (dk_at dksX5_leave_1 8 rfl rfl)
theorem dX5_leave_33 : decode cX5_leave 33 = .ok (.iconst 5, 1) := dk_8 (dk_at dksX5_leave_1 9 rfl rfl)
theorem dX5_leave_34 : decode cX5_leave 34 = .ok (.invokevirtual 82, 3) := dk_182 0 82 (dk_at dksX5_leave_1 10 rfl rfl)
theorem dX5_leave_37 : decode cX5_leave 37 = .ok (.istore 4, 2) := dk_54 4 (dk_at dksX5_leave_1 13 rfl rfl)
theorem dX5_leave_39 : decode cX5_leave 39 = .ok (.aload_n 0, 1) := dk_42 (dk_at dksX5_leave_1 15 rfl rfl)
theorem dX5_leave_40 : decode cX5_leave 40 = .ok (.iload_n 1, 1) := dk_27 (dk_at dksX5_leave_1 16 rfl rfl)
theorem dX5_leave_41 : decode cX5_leave 41 = .ok (.bipush 6, 2) := dk_16 6 (dk_at dksX5_leave_1 17 rfl rfl)
theorem dX5_leave_43 : decode cX5_leave 43 = .ok (.invokevirtual 82, 3) := dk_182 0 82 (dk_at dksX5_leave_1 19 rfl rfl)
theorem dX5_leave_46 : decode cX5_leave 46 = .ok (.istore 5, 2) := dk_54 5 (dk_at dksX5_leave_1 22 rfl rfl)
theorem dX5_leave_48 : decode cX5_leave 48 = .ok (.iconst 4, 1) := dk_7 (dk_at dksX5_leave_2 0 rfl rfl)
theorem dX5_leave_49 : decode cX5_leave 49 = .ok (.istore 6, 2) := dk_54 6 (dk_at dksX5_leave_2 1 rfl rfl)
theorem dX5_leave_51 : decode cX5_leave 51 = .ok (.iload 6, 2) := dk_21 6 (dk_at dksX5_leave_2 3 rfl rfl)
theorem dX5_leave_53 : decode cX5_leave 53 = .ok (.bipush 6, 2) := dk_16 6 (dk_at dksX5_leave_2 5 rfl rfl)
theorem dX5_leave_55 : decode cX5_leave 55 = .ok (.if_icmp .gt 17, 3) := dk_163 0 17 (dk_at dksX5_leave_2 7 rfl rfl)
theorem dX5_leave_58 : decode cX5_leave 58 = .ok (.aload_n 0, 1) := dk_42 (dk_at dksX5_leave_2 10 rfl rfl)
theorem dX5_leave_59 : decode cX5_leave 59 = .ok (.iload_n 1, 1) := dk_27 (dk_at dksX5_leave_2 11 rfl rfl)
theorem dX5_leave_60 : decode cX5_leave 60 = .ok (.iload 6, 2) := dk_21 6 (dk_at dksX5_leave_2 12 rfl rfl)
theorem dX5_leave_62 : decode cX5_leave 62 = .ok (.iconst (-1), 1) := dk_2 (dk_at dksX5_leave_2 14 rfl rfl)
theorem dX5_leave_63 : decode cX5_leave 63 = .ok (.invokevirtual 99, 3) := dk_182 0 99 (dk_at dksX5_leave_2 15 rfl rfl)
theorem dX5_leave_66 : decode cX5_leave 66 = .ok (.iinc 6 1, 3) := dk_132 6 1 (dk_at dksX5_leave_2 18 rfl rfl)
theorem dX5_leave_69 : decode cX5_leave 69 = .ok (.goto (-18), 3) := dk_167 255 238 (dk_at dksX5_leave_2 21 rfl rfl)
theorem dX5_leave_72 : decode cX5_leave 72 = .ok (.iconst 0, 1) := dk_3 (dk_at dksX5_leave_3 0 rfl rfl)
theorem dX5_leave_73 : decode cX5_leave 73 = .ok (.istore 6, 2) := dk_54 6 (dk_at dksX5_leave_3 1 rfl rfl)
theorem dX5_leave_75 : decode cX5_leave 75 = .ok (.iload 6, 2) := dk_21 6 (dk_at dksX5_leave_3 3 rfl rfl)
theorem dX5_leave_77 : decode cX5_leave 77 = .ok (.aload_n 0, 1) := dk_42 (dk_at dksX5_leave_3 5 rfl rfl)
theorem dX5_leave_78 : decode cX5_leave 78 = .ok (.getfield 9, 3) := dk_180 0 9 (dk_at dksX5_leave_3 6 rfl rfl)
theorem dX5_leave_81 : decode cX5_leave 81 = .ok (.iconst 5, 1) := dk_8 (dk_at dksX5_leave_3 9 rfl rfl)
theorem dX5_leave_82 : decode cX5_leave 82 = .ok (.iaload, 1) := dk_46 (dk_at dksX5_leave_3 10 rfl rfl)
theorem dX5_leave_83 : decode cX5_leave 83 = .ok (.if_icmp .ge 63, 3) := dk_162 0 63 (dk_at dksX5_leave_3 11 rfl rfl)
theorem dX5_leave_86 : decode cX5_leave 86 = .ok (.aload_n 0, 1) := dk_42 (dk_at dksX5_leave_3 14 rfl rfl)
theorem dX5_leave_87 : decode cX5_leave 87 = .ok (.iload 6, 2) := dk_21 6 (dk_at dksX5_leave_3 15 rfl rfl)
theorem dX5_leave_89 : decode cX5_leave 89 = .ok (.iconst 4, 1) := dk_7 (dk_at dksX5_leave_3 17 rfl rfl)
theorem dX5_leave_90 : decode cX5_leave 90 = .ok (.invokevirtual 82, 3) := dk_182 0 82 (dk_at dksX5_leave_3 18 rfl rfl)
theorem dX5_leave_93 : decode cX5_leave 93 = .ok (.iload_n 3, 1) := dk_29 (dk_at dksX5_leave_3 21 rfl rfl)
theorem dX5_leave_94 : decode cX5_leave 94 = .ok (.if_icmp .ne 46, 3) := dk_160 0 46 (dk_at dksX5_leave_4 0 rfl rfl)
theorem dX5_leave_97 : decode cX5_leave 97 = .ok (.aload_n 0, 1) := dk_42 (dk_at dksX5_leave_4 3 rfl rfl)
theorem dX5_leave_98 : decode cX5_leave 98 = .ok (.iload 6, 2) := dk_21 6 (dk_at dksX5_leave_4 4 rfl rfl)
theorem dX5_leave_100 : decode cX5_leave 100 = .ok (.iconst 5, 1) := dk_8 (dk_at dksX5_leave_4 6 rfl rfl)
theorem dX5_leave_101 : decode cX5_leave 101 = .ok (.invokevirtual 82, 3) := dk_182 0 82 (dk_at dksX5_leave_4 7 rfl rfl)
theorem dX5_leave_104 : decode cX5_leave 104 = .ok (.iload 4, 2) := dk_21 4 (dk_at dksX5_leave_4 10 rfl rfl)
theorem dX5_leave_106 : decode cX5_leave 106 = .ok (.if_icmp .ne 34, 3) := dk_160 0 34 (dk_at dksX5_leave_4 12 rfl rfl)
theorem dX5_leave_109 : decode cX5_leave 109 = .ok (.aload_n 0, 1) := dk_42 (dk_at dksX5_leave_4 15 rfl rfl)
theorem dX5_leave_110 : decode cX5_leave 110 = .ok (.iload 6, 2) := dk_21 6 (dk_at dksX5_leave_4 16 rfl rfl)
theorem dX5_leave_112 : decode cX5_leave 112 = .ok (.bipush 6, 2) := dk_16 6 (dk_at dksX5_leave_4 18 rfl rfl)
theorem dX5_leave_114 : decode cX5_leave 114 = .ok (.invokevirtual 82, 3) := dk_182 0 82 (dk_at dksX5_leave_4 20 rfl rfl)
theorem dX5_leave_117 : decode cX5_leave 117 = .ok (.iload 5, 2) := dk_21 5 (dk_at dksX5_leave_5 0 rfl rfl)
theorem dX5_leave_119 : decode cX5_leave 119 = .ok (.if_icmp .le 21, 3) := dk_164 0 21 (dk_at dksX5_leave_5 2 rfl rfl)
theorem dX5_leave_122 : decode cX5_leave 122 = .ok (.aload_n 0, 1) := dk_42 (dk_at dksX5_leave_5 5 rfl rfl)
theorem dX5_leave_123 : decode cX5_leave 123 = .ok (.iload 6, 2) := dk_21 6 (dk_at dksX5_leave_5 6 rfl rfl)
theorem dX5_leave_125 : decode cX5_leave 125 = .ok (.bipush 6, 2) := dk_16 6 (dk_at dksX5_leave_5 8 rfl rfl)
theorem dX5_leave_127 : decode cX5_leave 127 = .ok (.aload_n 0, 1) := dk_42 (dk_at dksX5_leave_5 10 rfl rfl)
theorem dX5_leave_128 : decode cX5_leave 128 = .ok (.iload 6, 2) := dk_21 6 (dk_at dksX5_leave_5 11 rfl rfl)
theorem dX5_leave_130 : decode cX5_leave 130 = .ok (.bipush 6, 2) := dk_16 6 (dk_at dksX5_leave_5 13 rfl rfl)
theorem dX5_leave_132 : decode cX5_leave 132 = .ok (.invokevirtual 82, 3) := dk_182 0 82 (dk_at dksX5_leave_5 15 rfl rfl)
theorem dX5_leave_135 : decode cX5_leave 135 = .ok (.iconst 1, 1) := dk_4 (dk_at dksX5_leave_5 18 rfl rfl)
theorem dX5_leave_136 : decode cX5_leave 136 = .ok (.isub, 1) := dk_100 (dk_at dksX5_leave_5 19 rfl rfl)
theorem dX5_leave_137 : decode cX5_leave 137 = .ok (.invokevirtual 99, 3) := dk_182 0 99 (dk_at dksX5_leave_5 20 rfl rfl)
theorem dX5_leave_140 : decode cX5_leave 140 = .ok (.iinc 6 1, 3) := dk_132 6 1 (dk_at dksX5_leave_6 0 rfl rfl)
theorem dX5_leave_143 : decode cX5_leave 143 = .ok (.goto (-68), 3) := dk_167 255 188 (dk_at dksX5_leave_6 3 rfl rfl)
theorem dX5_leave_146 : decode cX5_leave 146 = .ok (.return_, 1) := dk_177 (dk_at dksX5_leave_6 6 rfl rfl)
abbrev cX5_breed : ByteArray := prog_15_method_47_code
def yX5_breed : MethodName := ⟨RX5, "breed", "(IZ)V"⟩
def dkwX5_breed_3 : List UInt8 := [180, 0, 9, 7, 92, 46, 21, 4, 96, 79, 177]
abbrev dktX5_breed_3 : List UInt8 := dkwX5_breed_3 ++ []
def dkwX5_breed_2 : List UInt8 := [4, 29, 21, 4, 100, 182, 0, 122, 42, 27, 7, 42, 27, 7, 182, 0, 116, 21, 4, 96, 182, 0, 122, 42]
abbrev dktX5_breed_2 : List UInt8 := dkwX5_breed_2 ++ dktX5_breed_3
def dkwX5_breed_1 : List UInt8 := [3, 29, 4, 100, 184, 0, 119, 62, 29, 5, 42, 27, 5, 182, 0, 116, 104, 184, 0, 131, 54, 4, 42, 27]
abbrev dktX5_breed_1 : List UInt8 := dkwX5_breed_1 ++ dktX5_breed_2
def dkwX5_breed_0 : List UInt8 := [42, 27, 4, 182, 0, 116, 62, 28, 153, 0, 16, 16, 40, 29, 29, 7, 108, 96, 184, 0, 131, 167, 0, 10]
abbrev dktX5_breed_0 : List UInt8 := dkwX5_breed_0 ++ dktX5_breed_1
theorem dksX5_breed_0 : cX5_breed.data.toList.drop 0 = dktX5_breed_0 := by decide +kernel
theorem dksX5_breed_1 : cX5_breed.data.toList.drop 24 = dktX5_breed_1 := dk_seg dksX5_breed_0 24 rfl rfl
theorem dksX5_breed_2 : cX5_breed.data.toList.drop 48 = dktX5_breed_2 := dk_seg dksX5_breed_1 24 rfl rfl
theorem dksX5_breed_3 : cX5_breed.data.toList.drop 72 = dktX5_breed_3 := dk_seg dksX5_breed_2 24 rfl rfl
theorem dX5_breed_0 : decode cX5_breed 0 = .ok (.aload_n 0, 1) := dk_42 (dk_at dksX5_breed_0 0 rfl rfl)
theorem dX5_breed_1 : decode cX5_breed 1 = .ok (.iload_n 1, 1) := dk_27 (dk_at dksX5_breed_0 1 rfl rfl)
theorem dX5_breed_2 : decode cX5_breed 2 = .ok (.iconst 1, 1) := dk_4 (dk_at dksX5_breed_0 2 rfl rfl)
theorem dX5_breed_3 : decode cX5_breed 3 = .ok (.invokevirtual 116, 3) := dk_182 0 116 (dk_at dksX5_breed_0 3 rfl rfl)
theorem dX5_breed_6 : decode cX5_breed 6 = .ok (.istore_n 3, 1) := dk_62 (dk_at dksX5_breed_0 6 rfl rfl)
theorem dX5_breed_7 : decode cX5_breed 7 = .ok (.iload_n 2, 1) := dk_28 (dk_at dksX5_breed_0 7 rfl rfl)
theorem dX5_breed_8 : decode cX5_breed 8 = .ok (.ifCond .eq 16, 3) := dk_153 0 16 (dk_at dksX5_breed_0 8 rfl rfl)
theorem dX5_breed_11 : decode cX5_breed 11 = .ok (.bipush 40, 2) := dk_16 40 (dk_at dksX5_breed_0 11 rfl rfl)
theorem dX5_breed_13 : decode cX5_breed 13 = .ok (.iload_n 3, 1) := dk_29 (dk_at dksX5_breed_0 13 rfl rfl)
theorem dX5_breed_14 : decode cX5_breed 14 = .ok (.iload_n 3, 1) := dk_29 (dk_at dksX5_breed_0 14 rfl rfl)
theorem dX5_breed_15 : decode cX5_breed 15 = .ok (.iconst 4, 1) := dk_7 (dk_at dksX5_breed_0 15 rfl rfl)
theorem dX5_breed_16 : decode cX5_breed 16 = .ok (.idiv, 1) := dk_108 (dk_at dksX5_breed_0 16 rfl rfl)
theorem dX5_breed_17 : decode cX5_breed 17 = .ok (.iadd, 1) := dk_96 (dk_at dksX5_breed_0 17 rfl rfl)
theorem dX5_breed_18 : decode cX5_breed 18 = .ok (.invokestatic 131, 3) := dk_184 0 131 (dk_at dksX5_breed_0 18 rfl rfl)
theorem dX5_breed_21 : decode cX5_breed 21 = .ok (.goto 10, 3) := dk_167 0 10 (dk_at dksX5_breed_0 21 rfl rfl)
theorem dX5_breed_24 : decode cX5_breed 24 = .ok (.iconst 0, 1) := dk_3 (dk_at dksX5_breed_1 0 rfl rfl)
theorem dX5_breed_25 : decode cX5_breed 25 = .ok (.iload_n 3, 1) := dk_29 (dk_at dksX5_breed_1 1 rfl rfl)
theorem dX5_breed_26 : decode cX5_breed 26 = .ok (.iconst 1, 1) := dk_4 (dk_at dksX5_breed_1 2 rfl rfl)
theorem dX5_breed_27 : decode cX5_breed 27 = .ok (.isub, 1) := dk_100 (dk_at dksX5_breed_1 3 rfl rfl)
theorem dX5_breed_28 : decode cX5_breed 28 = .ok (.invokestatic 119, 3) := dk_184 0 119 (dk_at dksX5_breed_1 4 rfl rfl)
theorem dX5_breed_31 : decode cX5_breed 31 = .ok (.istore_n 3, 1) := dk_62 (dk_at dksX5_breed_1 7 rfl rfl)
theorem dX5_breed_32 : decode cX5_breed 32 = .ok (.iload_n 3, 1) := dk_29 (dk_at dksX5_breed_1 8 rfl rfl)
theorem dX5_breed_33 : decode cX5_breed 33 = .ok (.iconst 2, 1) := dk_5 (dk_at dksX5_breed_1 9 rfl rfl)
theorem dX5_breed_34 : decode cX5_breed 34 = .ok (.aload_n 0, 1) := dk_42 (dk_at dksX5_breed_1 10 rfl rfl)
theorem dX5_breed_35 : decode cX5_breed 35 = .ok (.iload_n 1, 1) := dk_27 (dk_at dksX5_breed_1 11 rfl rfl)
theorem dX5_breed_36 : decode cX5_breed 36 = .ok (.iconst 2, 1) := dk_5 (dk_at dksX5_breed_1 12 rfl rfl)
theorem dX5_breed_37 : decode cX5_breed 37 = .ok (.invokevirtual 116, 3) := dk_182 0 116 (dk_at dksX5_breed_1 13 rfl rfl)
theorem dX5_breed_40 : decode cX5_breed 40 = .ok (.imul, 1) := dk_104 (dk_at dksX5_breed_1 16 rfl rfl)
theorem dX5_breed_41 : decode cX5_breed 41 = .ok (.invokestatic 131, 3) := dk_184 0 131 (dk_at dksX5_breed_1 17 rfl rfl)
theorem dX5_breed_44 : decode cX5_breed 44 = .ok (.istore 4, 2) := dk_54 4 (dk_at dksX5_breed_1 20 rfl rfl)
theorem dX5_breed_46 : decode cX5_breed 46 = .ok (.aload_n 0, 1) := dk_42 (dk_at dksX5_breed_1 22 rfl rfl)
theorem dX5_breed_47 : decode cX5_breed 47 = .ok (.iload_n 1, 1) := dk_27 (dk_at dksX5_breed_1 23 rfl rfl)
theorem dX5_breed_48 : decode cX5_breed 48 = .ok (.iconst 1, 1) := dk_4 (dk_at dksX5_breed_2 0 rfl rfl)
theorem dX5_breed_49 : decode cX5_breed 49 = .ok (.iload_n 3, 1) := dk_29 (dk_at dksX5_breed_2 1 rfl rfl)
theorem dX5_breed_50 : decode cX5_breed 50 = .ok (.iload 4, 2) := dk_21 4 (dk_at dksX5_breed_2 2 rfl rfl)
theorem dX5_breed_52 : decode cX5_breed 52 = .ok (.isub, 1) := dk_100 (dk_at dksX5_breed_2 4 rfl rfl)
theorem dX5_breed_53 : decode cX5_breed 53 = .ok (.invokevirtual 122, 3) := dk_182 0 122 (dk_at dksX5_breed_2 5 rfl rfl)
theorem dX5_breed_56 : decode cX5_breed 56 = .ok (.aload_n 0, 1) := dk_42 (dk_at dksX5_breed_2 8 rfl rfl)
theorem dX5_breed_57 : decode cX5_breed 57 = .ok (.iload_n 1, 1) := dk_27 (dk_at dksX5_breed_2 9 rfl rfl)
theorem dX5_breed_58 : decode cX5_breed 58 = .ok (.iconst 4, 1) := dk_7 (dk_at dksX5_breed_2 10 rfl rfl)
theorem dX5_breed_59 : decode cX5_breed 59 = .ok (.aload_n 0, 1) := dk_42 (dk_at dksX5_breed_2 11 rfl rfl)
theorem dX5_breed_60 : decode cX5_breed 60 = .ok (.iload_n 1, 1) := dk_27 (dk_at dksX5_breed_2 12 rfl rfl)
theorem dX5_breed_61 : decode cX5_breed 61 = .ok (.iconst 4, 1) := dk_7 (dk_at dksX5_breed_2 13 rfl rfl)
theorem dX5_breed_62 : decode cX5_breed 62 = .ok (.invokevirtual 116, 3) := dk_182 0 116 (dk_at dksX5_breed_2 14 rfl rfl)
theorem dX5_breed_65 : decode cX5_breed 65 = .ok (.iload 4, 2) := dk_21 4 (dk_at dksX5_breed_2 17 rfl rfl)
theorem dX5_breed_67 : decode cX5_breed 67 = .ok (.iadd, 1) := dk_96 (dk_at dksX5_breed_2 19 rfl rfl)
theorem dX5_breed_68 : decode cX5_breed 68 = .ok (.invokevirtual 122, 3) := dk_182 0 122 (dk_at dksX5_breed_2 20 rfl rfl)
theorem dX5_breed_71 : decode cX5_breed 71 = .ok (.aload_n 0, 1) := dk_42 (dk_at dksX5_breed_2 23 rfl rfl)
theorem dX5_breed_72 : decode cX5_breed 72 = .ok (.getfield 9, 3) := dk_180 0 9 (dk_at dksX5_breed_3 0 rfl rfl)
theorem dX5_breed_75 : decode cX5_breed 75 = .ok (.iconst 4, 1) := dk_7 (dk_at dksX5_breed_3 3 rfl rfl)
theorem dX5_breed_76 : decode cX5_breed 76 = .ok (.dup2, 1) := dk_92 (dk_at dksX5_breed_3 4 rfl rfl)
theorem dX5_breed_77 : decode cX5_breed 77 = .ok (.iaload, 1) := dk_46 (dk_at dksX5_breed_3 5 rfl rfl)
theorem dX5_breed_78 : decode cX5_breed 78 = .ok (.iload 4, 2) := dk_21 4 (dk_at dksX5_breed_3 6 rfl rfl)
theorem dX5_breed_80 : decode cX5_breed 80 = .ok (.iadd, 1) := dk_96 (dk_at dksX5_breed_3 8 rfl rfl)
theorem dX5_breed_81 : decode cX5_breed 81 = .ok (.iastore, 1) := dk_79 (dk_at dksX5_breed_3 9 rfl rfl)
theorem dX5_breed_82 : decode cX5_breed 82 = .ok (.return_, 1) := dk_177 (dk_at dksX5_breed_3 10 rfl rfl)
abbrev cX5_ranked : ByteArray := prog_15_method_51_code
def yX5_ranked : MethodName := ⟨RX5, "ranked", "(I)I"⟩
def dkwX5_ranked_2 : List UInt8 := [42, 3, 181, 0, 27, 28, 172, 132, 2, 1, 167, 255, 201, 42, 4, 181, 0, 27, 3, 172]
abbrev dktX5_ranked_2 : List UInt8 := dkwX5_ranked_2 ++ []
def dkwX5_ranked_1 : List UInt8 := [182, 0, 158, 153, 0, 7, 4, 167, 0, 4, 3, 96, 62, 132, 4, 1, 167, 255, 229, 29, 27, 160, 0, 10]
abbrev dktX5_ranked_1 : List UInt8 := dkwX5_ranked_1 ++ dktX5_ranked_2
def dkwX5_ranked_0 : List UInt8 := [3, 61, 28, 8, 162, 0, 56, 3, 62, 3, 54, 4, 21, 4, 8, 162, 0, 27, 29, 42, 21, 4, 28]
abbrev dktX5_ranked_0 : List UInt8 := dkwX5_ranked_0 ++ dktX5_ranked_1
theorem dksX5_ranked_0 : cX5_ranked.data.toList.drop 0 = dktX5_ranked_0 := by decide +kernel
theorem dksX5_ranked_1 : cX5_ranked.data.toList.drop 23 = dktX5_ranked_1 := dk_seg dksX5_ranked_0 23 rfl rfl
theorem dksX5_ranked_2 : cX5_ranked.data.toList.drop 47 = dktX5_ranked_2 := dk_seg dksX5_ranked_1 24 rfl rfl
theorem dX5_ranked_0 : decode cX5_ranked 0 = .ok (.iconst 0, 1) := dk_3 (dk_at dksX5_ranked_0 0 rfl rfl)
theorem dX5_ranked_1 : decode cX5_ranked 1 = .ok (.istore_n 2, 1) := dk_61 (dk_at dksX5_ranked_0 1 rfl rfl)
theorem dX5_ranked_2 : decode cX5_ranked 2 = .ok (.iload_n 2, 1) := dk_28 (dk_at dksX5_ranked_0 2 rfl rfl)
theorem dX5_ranked_3 : decode cX5_ranked 3 = .ok (.iconst 5, 1) := dk_8 (dk_at dksX5_ranked_0 3 rfl rfl)
theorem dX5_ranked_4 : decode cX5_ranked 4 = .ok (.if_icmp .ge 56, 3) := dk_162 0 56 (dk_at dksX5_ranked_0 4 rfl rfl)
theorem dX5_ranked_7 : decode cX5_ranked 7 = .ok (.iconst 0, 1) := dk_3 (dk_at dksX5_ranked_0 7 rfl rfl)
theorem dX5_ranked_8 : decode cX5_ranked 8 = .ok (.istore_n 3, 1) := dk_62 (dk_at dksX5_ranked_0 8 rfl rfl)
theorem dX5_ranked_9 : decode cX5_ranked 9 = .ok (.iconst 0, 1) := dk_3 (dk_at dksX5_ranked_0 9 rfl rfl)
theorem dX5_ranked_10 : decode cX5_ranked 10 = .ok (.istore 4, 2) := dk_54 4 (dk_at dksX5_ranked_0 10 rfl rfl)
theorem dX5_ranked_12 : decode cX5_ranked 12 = .ok (.iload 4, 2) := dk_21 4 (dk_at dksX5_ranked_0 12 rfl rfl)
theorem dX5_ranked_14 : decode cX5_ranked 14 = .ok (.iconst 5, 1) := dk_8 (dk_at dksX5_ranked_0 14 rfl rfl)
theorem dX5_ranked_15 : decode cX5_ranked 15 = .ok (.if_icmp .ge 27, 3) := dk_162 0 27 (dk_at dksX5_ranked_0 15 rfl rfl)
theorem dX5_ranked_18 : decode cX5_ranked 18 = .ok (.iload_n 3, 1) := dk_29 (dk_at dksX5_ranked_0 18 rfl rfl)
theorem dX5_ranked_19 : decode cX5_ranked 19 = .ok (.aload_n 0, 1) := dk_42 (dk_at dksX5_ranked_0 19 rfl rfl)
theorem dX5_ranked_20 : decode cX5_ranked 20 = .ok (.iload 4, 2) := dk_21 4 (dk_at dksX5_ranked_0 20 rfl rfl)
theorem dX5_ranked_22 : decode cX5_ranked 22 = .ok (.iload_n 2, 1) := dk_28 (dk_at dksX5_ranked_0 22 rfl rfl)
theorem dX5_ranked_23 : decode cX5_ranked 23 = .ok (.invokevirtual 158, 3) := dk_182 0 158 (dk_at dksX5_ranked_1 0 rfl rfl)
theorem dX5_ranked_26 : decode cX5_ranked 26 = .ok (.ifCond .eq 7, 3) := dk_153 0 7 (dk_at dksX5_ranked_1 3 rfl rfl)
theorem dX5_ranked_29 : decode cX5_ranked 29 = .ok (.iconst 1, 1) := dk_4 (dk_at dksX5_ranked_1 6 rfl rfl)
theorem dX5_ranked_30 : decode cX5_ranked 30 = .ok (.goto 4, 3) := dk_167 0 4 (dk_at dksX5_ranked_1 7 rfl rfl)
theorem dX5_ranked_33 : decode cX5_ranked 33 = .ok (.iconst 0, 1) := dk_3 (dk_at dksX5_ranked_1 10 rfl rfl)
theorem dX5_ranked_34 : decode cX5_ranked 34 = .ok (.iadd, 1) := dk_96 (dk_at dksX5_ranked_1 11 rfl rfl)
theorem dX5_ranked_35 : decode cX5_ranked 35 = .ok (.istore_n 3, 1) := dk_62 (dk_at dksX5_ranked_1 12 rfl rfl)
theorem dX5_ranked_36 : decode cX5_ranked 36 = .ok (.iinc 4 1, 3) := dk_132 4 1 (dk_at dksX5_ranked_1 13 rfl rfl)
theorem dX5_ranked_39 : decode cX5_ranked 39 = .ok (.goto (-27), 3) := dk_167 255 229 (dk_at dksX5_ranked_1 16 rfl rfl)
theorem dX5_ranked_42 : decode cX5_ranked 42 = .ok (.iload_n 3, 1) := dk_29 (dk_at dksX5_ranked_1 19 rfl rfl)
theorem dX5_ranked_43 : decode cX5_ranked 43 = .ok (.iload_n 1, 1) := dk_27 (dk_at dksX5_ranked_1 20 rfl rfl)
theorem dX5_ranked_44 : decode cX5_ranked 44 = .ok (.if_icmp .ne 10, 3) := dk_160 0 10 (dk_at dksX5_ranked_1 21 rfl rfl)
theorem dX5_ranked_47 : decode cX5_ranked 47 = .ok (.aload_n 0, 1) := dk_42 (dk_at dksX5_ranked_2 0 rfl rfl)
theorem dX5_ranked_48 : decode cX5_ranked 48 = .ok (.iconst 0, 1) := dk_3 (dk_at dksX5_ranked_2 1 rfl rfl)
theorem dX5_ranked_49 : decode cX5_ranked 49 = .ok (.putfield 27, 3) := dk_181 0 27 (dk_at dksX5_ranked_2 2 rfl rfl)
theorem dX5_ranked_52 : decode cX5_ranked 52 = .ok (.iload_n 2, 1) := dk_28 (dk_at dksX5_ranked_2 5 rfl rfl)
theorem dX5_ranked_53 : decode cX5_ranked 53 = .ok (.ireturn, 1) := dk_172 (dk_at dksX5_ranked_2 6 rfl rfl)
theorem dX5_ranked_54 : decode cX5_ranked 54 = .ok (.iinc 2 1, 3) := dk_132 2 1 (dk_at dksX5_ranked_2 7 rfl rfl)
theorem dX5_ranked_57 : decode cX5_ranked 57 = .ok (.goto (-55), 3) := dk_167 255 201 (dk_at dksX5_ranked_2 10 rfl rfl)
theorem dX5_ranked_60 : decode cX5_ranked 60 = .ok (.aload_n 0, 1) := dk_42 (dk_at dksX5_ranked_2 13 rfl rfl)
theorem dX5_ranked_61 : decode cX5_ranked 61 = .ok (.iconst 1, 1) := dk_4 (dk_at dksX5_ranked_2 14 rfl rfl)
theorem dX5_ranked_62 : decode cX5_ranked 62 = .ok (.putfield 27, 3) := dk_181 0 27 (dk_at dksX5_ranked_2 15 rfl rfl)
theorem dX5_ranked_65 : decode cX5_ranked 65 = .ok (.iconst 0, 1) := dk_3 (dk_at dksX5_ranked_2 18 rfl rfl)
theorem dX5_ranked_66 : decode cX5_ranked 66 = .ok (.ireturn, 1) := dk_172 (dk_at dksX5_ranked_2 19 rfl rfl)
abbrev cX5_isAhead : ByteArray := prog_15_method_50_code
def yX5_isAhead : MethodName := ⟨RX5, "isAhead", "(II)Z"⟩
def dkwX5_isAhead_3 : List UInt8 := [3, 172]
abbrev dktX5_isAhead_3 : List UInt8 := dkwX5_isAhead_3 ++ []
def dkwX5_isAhead_2 : List UInt8 := [42, 27, 4, 182, 0, 116, 42, 28, 4, 182, 0, 116, 160, 0, 12, 27, 28, 162, 0, 7, 4, 167, 0, 4]
abbrev dktX5_isAhead_2 : List UInt8 := dkwX5_isAhead_2 ++ dktX5_isAhead_3
def dkwX5_isAhead_1 : List UInt8 := [164, 0, 7, 4, 167, 0, 4, 3, 172, 42, 27, 4, 182, 0, 116, 42, 28, 4, 182, 0, 116, 161, 0, 23]
abbrev dktX5_isAhead_1 : List UInt8 := dkwX5_isAhead_1 ++ dktX5_isAhead_2
def dkwX5_isAhead_0 : List UInt8 := [42, 27, 4, 182, 0, 140, 62, 42, 28, 4, 182, 0, 140, 54, 4, 29, 21, 4, 159, 0, 15, 29, 21, 4]
abbrev dktX5_isAhead_0 : List UInt8 := dkwX5_isAhead_0 ++ dktX5_isAhead_1
theorem dksX5_isAhead_0 : cX5_isAhead.data.toList.drop 0 = dktX5_isAhead_0 := by decide +kernel
theorem dksX5_isAhead_1 : cX5_isAhead.data.toList.drop 24 = dktX5_isAhead_1 := dk_seg dksX5_isAhead_0 24 rfl rfl
theorem dksX5_isAhead_2 : cX5_isAhead.data.toList.drop 48 = dktX5_isAhead_2 := dk_seg dksX5_isAhead_1 24 rfl rfl
theorem dksX5_isAhead_3 : cX5_isAhead.data.toList.drop 72 = dktX5_isAhead_3 := dk_seg dksX5_isAhead_2 24 rfl rfl
theorem dX5_isAhead_0 : decode cX5_isAhead 0 = .ok (.aload_n 0, 1) := dk_42 (dk_at dksX5_isAhead_0 0 rfl rfl)
theorem dX5_isAhead_1 : decode cX5_isAhead 1 = .ok (.iload_n 1, 1) := dk_27 (dk_at dksX5_isAhead_0 1 rfl rfl)
theorem dX5_isAhead_2 : decode cX5_isAhead 2 = .ok (.iconst 1, 1) := dk_4 (dk_at dksX5_isAhead_0 2 rfl rfl)
theorem dX5_isAhead_3 : decode cX5_isAhead 3 = .ok (.invokevirtual 140, 3) := dk_182 0 140 (dk_at dksX5_isAhead_0 3 rfl rfl)
theorem dX5_isAhead_6 : decode cX5_isAhead 6 = .ok (.istore_n 3, 1) := dk_62 (dk_at dksX5_isAhead_0 6 rfl rfl)
theorem dX5_isAhead_7 : decode cX5_isAhead 7 = .ok (.aload_n 0, 1) := dk_42 (dk_at dksX5_isAhead_0 7 rfl rfl)
theorem dX5_isAhead_8 : decode cX5_isAhead 8 = .ok (.iload_n 2, 1) := dk_28 (dk_at dksX5_isAhead_0 8 rfl rfl)
theorem dX5_isAhead_9 : decode cX5_isAhead 9 = .ok (.iconst 1, 1) := dk_4 (dk_at dksX5_isAhead_0 9 rfl rfl)
theorem dX5_isAhead_10 : decode cX5_isAhead 10 = .ok (.invokevirtual 140, 3) := dk_182 0 140 (dk_at dksX5_isAhead_0 10 rfl rfl)
theorem dX5_isAhead_13 : decode cX5_isAhead 13 = .ok (.istore 4, 2) := dk_54 4 (dk_at dksX5_isAhead_0 13 rfl rfl)
theorem dX5_isAhead_15 : decode cX5_isAhead 15 = .ok (.iload_n 3, 1) := dk_29 (dk_at dksX5_isAhead_0 15 rfl rfl)
theorem dX5_isAhead_16 : decode cX5_isAhead 16 = .ok (.iload 4, 2) := dk_21 4 (dk_at dksX5_isAhead_0 16 rfl rfl)
theorem dX5_isAhead_18 : decode cX5_isAhead 18 = .ok (.if_icmp .eq 15, 3) := dk_159 0 15 (dk_at dksX5_isAhead_0 18 rfl rfl)
theorem dX5_isAhead_21 : decode cX5_isAhead 21 = .ok (.iload_n 3, 1) := dk_29 (dk_at dksX5_isAhead_0 21 rfl rfl)
theorem dX5_isAhead_22 : decode cX5_isAhead 22 = .ok (.iload 4, 2) := dk_21 4 (dk_at dksX5_isAhead_0 22 rfl rfl)
theorem dX5_isAhead_24 : decode cX5_isAhead 24 = .ok (.if_icmp .le 7, 3) := dk_164 0 7 (dk_at dksX5_isAhead_1 0 rfl rfl)
theorem dX5_isAhead_27 : decode cX5_isAhead 27 = .ok (.iconst 1, 1) := dk_4 (dk_at dksX5_isAhead_1 3 rfl rfl)
theorem dX5_isAhead_28 : decode cX5_isAhead 28 = .ok (.goto 4, 3) := dk_167 0 4 (dk_at dksX5_isAhead_1 4 rfl rfl)
theorem dX5_isAhead_31 : decode cX5_isAhead 31 = .ok (.iconst 0, 1) := dk_3 (dk_at dksX5_isAhead_1 7 rfl rfl)
theorem dX5_isAhead_32 : decode cX5_isAhead 32 = .ok (.ireturn, 1) := dk_172 (dk_at dksX5_isAhead_1 8 rfl rfl)
theorem dX5_isAhead_33 : decode cX5_isAhead 33 = .ok (.aload_n 0, 1) := dk_42 (dk_at dksX5_isAhead_1 9 rfl rfl)
theorem dX5_isAhead_34 : decode cX5_isAhead 34 = .ok (.iload_n 1, 1) := dk_27 (dk_at dksX5_isAhead_1 10 rfl rfl)
theorem dX5_isAhead_35 : decode cX5_isAhead 35 = .ok (.iconst 1, 1) := dk_4 (dk_at dksX5_isAhead_1 11 rfl rfl)
theorem dX5_isAhead_36 : decode cX5_isAhead 36 = .ok (.invokevirtual 116, 3) := dk_182 0 116 (dk_at dksX5_isAhead_1 12 rfl rfl)
theorem dX5_isAhead_39 : decode cX5_isAhead 39 = .ok (.aload_n 0, 1) := dk_42 (dk_at dksX5_isAhead_1 15 rfl rfl)
theorem dX5_isAhead_40 : decode cX5_isAhead 40 = .ok (.iload_n 2, 1) := dk_28 (dk_at dksX5_isAhead_1 16 rfl rfl)
theorem dX5_isAhead_41 : decode cX5_isAhead 41 = .ok (.iconst 1, 1) := dk_4 (dk_at dksX5_isAhead_1 17 rfl rfl)
theorem dX5_isAhead_42 : decode cX5_isAhead 42 = .ok (.invokevirtual 116, 3) := dk_182 0 116 (dk_at dksX5_isAhead_1 18 rfl rfl)
theorem dX5_isAhead_45 : decode cX5_isAhead 45 = .ok (.if_icmp .lt 23, 3) := dk_161 0 23 (dk_at dksX5_isAhead_1 21 rfl rfl)
theorem dX5_isAhead_48 : decode cX5_isAhead 48 = .ok (.aload_n 0, 1) := dk_42 (dk_at dksX5_isAhead_2 0 rfl rfl)
theorem dX5_isAhead_49 : decode cX5_isAhead 49 = .ok (.iload_n 1, 1) := dk_27 (dk_at dksX5_isAhead_2 1 rfl rfl)
theorem dX5_isAhead_50 : decode cX5_isAhead 50 = .ok (.iconst 1, 1) := dk_4 (dk_at dksX5_isAhead_2 2 rfl rfl)
theorem dX5_isAhead_51 : decode cX5_isAhead 51 = .ok (.invokevirtual 116, 3) := dk_182 0 116 (dk_at dksX5_isAhead_2 3 rfl rfl)
theorem dX5_isAhead_54 : decode cX5_isAhead 54 = .ok (.aload_n 0, 1) := dk_42 (dk_at dksX5_isAhead_2 6 rfl rfl)
theorem dX5_isAhead_55 : decode cX5_isAhead 55 = .ok (.iload_n 2, 1) := dk_28 (dk_at dksX5_isAhead_2 7 rfl rfl)
theorem dX5_isAhead_56 : decode cX5_isAhead 56 = .ok (.iconst 1, 1) := dk_4 (dk_at dksX5_isAhead_2 8 rfl rfl)
theorem dX5_isAhead_57 : decode cX5_isAhead 57 = .ok (.invokevirtual 116, 3) := dk_182 0 116 (dk_at dksX5_isAhead_2 9 rfl rfl)
theorem dX5_isAhead_60 : decode cX5_isAhead 60 = .ok (.if_icmp .ne 12, 3) := dk_160 0 12 (dk_at dksX5_isAhead_2 12 rfl rfl)
theorem dX5_isAhead_63 : decode cX5_isAhead 63 = .ok (.iload_n 1, 1) := dk_27 (dk_at dksX5_isAhead_2 15 rfl rfl)
theorem dX5_isAhead_64 : decode cX5_isAhead 64 = .ok (.iload_n 2, 1) := dk_28 (dk_at dksX5_isAhead_2 16 rfl rfl)
theorem dX5_isAhead_65 : decode cX5_isAhead 65 = .ok (.if_icmp .ge 7, 3) := dk_162 0 7 (dk_at dksX5_isAhead_2 17 rfl rfl)
theorem dX5_isAhead_68 : decode cX5_isAhead 68 = .ok (.iconst 1, 1) := dk_4 (dk_at dksX5_isAhead_2 20 rfl rfl)
theorem dX5_isAhead_69 : decode cX5_isAhead 69 = .ok (.goto 4, 3) := dk_167 0 4 (dk_at dksX5_isAhead_2 21 rfl rfl)
theorem dX5_isAhead_72 : decode cX5_isAhead 72 = .ok (.iconst 0, 1) := dk_3 (dk_at dksX5_isAhead_3 0 rfl rfl)
theorem dX5_isAhead_73 : decode cX5_isAhead 73 = .ok (.ireturn, 1) := dk_172 (dk_at dksX5_isAhead_3 1 rfl rfl)
abbrev cX5_order : ByteArray := prog_15_method_60_code
def yX5_order : MethodName := ⟨RX5, "order", "(III)I"⟩
def dkwX5_order_6 : List UInt8 := [79, 42, 180, 0, 9, 16, 7, 92, 46, 4, 96, 79, 42, 182, 0, 37, 21, 4, 172]
abbrev dktX5_order_6 : List UInt8 := dkwX5_order_6 ++ []
def dkwX5_order_5 : List UInt8 := [7, 21, 4, 104, 96, 5, 96, 29, 79, 42, 180, 0, 9, 17, 1, 24, 7, 21, 4, 104, 96, 6, 96, 3]
abbrev dktX5_order_5 : List UInt8 := dkwX5_order_5 ++ dktX5_order_6
def dkwX5_order_4 : List UInt8 := [79, 42, 180, 0, 9, 17, 1, 24, 7, 21, 4, 104, 96, 4, 96, 28, 79, 42, 180, 0, 9, 17, 1, 24]
abbrev dktX5_order_4 : List UInt8 := dkwX5_order_4 ++ dktX5_order_5
def dkwX5_order_3 : List UInt8 := [42, 180, 0, 9, 16, 7, 46, 54, 4, 42, 180, 0, 9, 17, 1, 24, 7, 21, 4, 104, 96, 3, 96, 27]
abbrev dktX5_order_3 : List UInt8 := dkwX5_order_3 ++ dktX5_order_4
def dkwX5_order_2 : List UInt8 := [153, 0, 7, 5, 167, 0, 4, 3, 181, 0, 27, 42, 180, 0, 27, 153, 0, 5, 3, 172, 42, 182, 0, 61]
abbrev dktX5_order_2 : List UInt8 := dkwX5_order_2 ++ dktX5_order_3
def dkwX5_order_1 : List UInt8 := [42, 180, 0, 9, 16, 7, 46, 16, 20, 160, 0, 7, 4, 167, 0, 4, 3, 4, 16, 20, 182, 0, 57]
abbrev dktX5_order_1 : List UInt8 := dkwX5_order_1 ++ dktX5_order_2
def dkwX5_order_0 : List UInt8 := [42, 27, 28, 184, 0, 95, 153, 0, 13, 29, 4, 16, 60, 184, 0, 49, 154, 0, 7, 4, 167, 0, 35, 42]
abbrev dktX5_order_0 : List UInt8 := dkwX5_order_0 ++ dktX5_order_1
theorem dksX5_order_0 : cX5_order.data.toList.drop 0 = dktX5_order_0 := by decide +kernel
theorem dksX5_order_1 : cX5_order.data.toList.drop 24 = dktX5_order_1 := dk_seg dksX5_order_0 24 rfl rfl
theorem dksX5_order_2 : cX5_order.data.toList.drop 47 = dktX5_order_2 := dk_seg dksX5_order_1 23 rfl rfl
theorem dksX5_order_3 : cX5_order.data.toList.drop 71 = dktX5_order_3 := dk_seg dksX5_order_2 24 rfl rfl
theorem dksX5_order_4 : cX5_order.data.toList.drop 95 = dktX5_order_4 := dk_seg dksX5_order_3 24 rfl rfl
theorem dksX5_order_5 : cX5_order.data.toList.drop 119 = dktX5_order_5 := dk_seg dksX5_order_4 24 rfl rfl
theorem dksX5_order_6 : cX5_order.data.toList.drop 143 = dktX5_order_6 := dk_seg dksX5_order_5 24 rfl rfl
theorem dX5_order_0 : decode cX5_order 0 = .ok (.aload_n 0, 1) := dk_42 (dk_at dksX5_order_0 0 rfl rfl)
theorem dX5_order_1 : decode cX5_order 1 = .ok (.iload_n 1, 1) := dk_27 (dk_at dksX5_order_0 1 rfl rfl)
theorem dX5_order_2 : decode cX5_order 2 = .ok (.iload_n 2, 1) := dk_28 (dk_at dksX5_order_0 2 rfl rfl)
theorem dX5_order_3 : decode cX5_order 3 = .ok (.invokestatic 95, 3) := dk_184 0 95 (dk_at dksX5_order_0 3 rfl rfl)
theorem dX5_order_6 : decode cX5_order 6 = .ok (.ifCond .eq 13, 3) := dk_153 0 13 (dk_at dksX5_order_0 6 rfl rfl)
theorem dX5_order_9 : decode cX5_order 9 = .ok (.iload_n 3, 1) := dk_29 (dk_at dksX5_order_0 9 rfl rfl)
theorem dX5_order_10 : decode cX5_order 10 = .ok (.iconst 1, 1) := dk_4 (dk_at dksX5_order_0 10 rfl rfl)
theorem dX5_order_11 : decode cX5_order 11 = .ok (.bipush 60, 2) := dk_16 60 (dk_at dksX5_order_0 11 rfl rfl)
theorem dX5_order_13 : decode cX5_order 13 = .ok (.invokestatic 49, 3) := dk_184 0 49 (dk_at dksX5_order_0 13 rfl rfl)
theorem dX5_order_16 : decode cX5_order 16 = .ok (.ifCond .ne 7, 3) := dk_154 0 7 (dk_at dksX5_order_0 16 rfl rfl)
theorem dX5_order_19 : decode cX5_order 19 = .ok (.iconst 1, 1) := dk_4 (dk_at dksX5_order_0 19 rfl rfl)
theorem dX5_order_20 : decode cX5_order 20 = .ok (.goto 35, 3) := dk_167 0 35 (dk_at dksX5_order_0 20 rfl rfl)
theorem dX5_order_23 : decode cX5_order 23 = .ok (.aload_n 0, 1) := dk_42 (dk_at dksX5_order_0 23 rfl rfl)
theorem dX5_order_24 : decode cX5_order 24 = .ok (.aload_n 0, 1) := dk_42 (dk_at dksX5_order_1 0 rfl rfl)
theorem dX5_order_25 : decode cX5_order 25 = .ok (.getfield 9, 3) := dk_180 0 9 (dk_at dksX5_order_1 1 rfl rfl)
theorem dX5_order_28 : decode cX5_order 28 = .ok (.bipush 7, 2) := dk_16 7 (dk_at dksX5_order_1 4 rfl rfl)
theorem dX5_order_30 : decode cX5_order 30 = .ok (.iaload, 1) := dk_46 (dk_at dksX5_order_1 6 rfl rfl)
theorem dX5_order_31 : decode cX5_order 31 = .ok (.bipush 20, 2) := dk_16 20 (dk_at dksX5_order_1 7 rfl rfl)
theorem dX5_order_33 : decode cX5_order 33 = .ok (.if_icmp .ne 7, 3) := dk_160 0 7 (dk_at dksX5_order_1 9 rfl rfl)
theorem dX5_order_36 : decode cX5_order 36 = .ok (.iconst 1, 1) := dk_4 (dk_at dksX5_order_1 12 rfl rfl)
theorem dX5_order_37 : decode cX5_order 37 = .ok (.goto 4, 3) := dk_167 0 4 (dk_at dksX5_order_1 13 rfl rfl)
theorem dX5_order_40 : decode cX5_order 40 = .ok (.iconst 0, 1) := dk_3 (dk_at dksX5_order_1 16 rfl rfl)
theorem dX5_order_41 : decode cX5_order 41 = .ok (.iconst 1, 1) := dk_4 (dk_at dksX5_order_1 17 rfl rfl)
theorem dX5_order_42 : decode cX5_order 42 = .ok (.bipush 20, 2) := dk_16 20 (dk_at dksX5_order_1 18 rfl rfl)
theorem dX5_order_44 : decode cX5_order 44 = .ok (.invokevirtual 57, 3) := dk_182 0 57 (dk_at dksX5_order_1 20 rfl rfl)
theorem dX5_order_47 : decode cX5_order 47 = .ok (.ifCond .eq 7, 3) := dk_153 0 7 (dk_at dksX5_order_2 0 rfl rfl)
theorem dX5_order_50 : decode cX5_order 50 = .ok (.iconst 2, 1) := dk_5 (dk_at dksX5_order_2 3 rfl rfl)
theorem dX5_order_51 : decode cX5_order 51 = .ok (.goto 4, 3) := dk_167 0 4 (dk_at dksX5_order_2 4 rfl rfl)
theorem dX5_order_54 : decode cX5_order 54 = .ok (.iconst 0, 1) := dk_3 (dk_at dksX5_order_2 7 rfl rfl)
theorem dX5_order_55 : decode cX5_order 55 = .ok (.putfield 27, 3) := dk_181 0 27 (dk_at dksX5_order_2 8 rfl rfl)
theorem dX5_order_58 : decode cX5_order 58 = .ok (.aload_n 0, 1) := dk_42 (dk_at dksX5_order_2 11 rfl rfl)
theorem dX5_order_59 : decode cX5_order 59 = .ok (.getfield 27, 3) := dk_180 0 27 (dk_at dksX5_order_2 12 rfl rfl)
theorem dX5_order_62 : decode cX5_order 62 = .ok (.ifCond .eq 5, 3) := dk_153 0 5 (dk_at dksX5_order_2 15 rfl rfl)
theorem dX5_order_65 : decode cX5_order 65 = .ok (.iconst 0, 1) := dk_3 (dk_at dksX5_order_2 18 rfl rfl)
theorem dX5_order_66 : decode cX5_order 66 = .ok (.ireturn, 1) := dk_172 (dk_at dksX5_order_2 19 rfl rfl)
theorem dX5_order_67 : decode cX5_order 67 = .ok (.aload_n 0, 1) := dk_42 (dk_at dksX5_order_2 20 rfl rfl)
theorem dX5_order_68 : decode cX5_order 68 = .ok (.invokevirtual 61, 3) := dk_182 0 61 (dk_at dksX5_order_2 21 rfl rfl)
theorem dX5_order_71 : decode cX5_order 71 = .ok (.aload_n 0, 1) := dk_42 (dk_at dksX5_order_3 0 rfl rfl)
theorem dX5_order_72 : decode cX5_order 72 = .ok (.getfield 9, 3) := dk_180 0 9 (dk_at dksX5_order_3 1 rfl rfl)
theorem dX5_order_75 : decode cX5_order 75 = .ok (.bipush 7, 2) := dk_16 7 (dk_at dksX5_order_3 4 rfl rfl)
theorem dX5_order_77 : decode cX5_order 77 = .ok (.iaload, 1) := dk_46 (dk_at dksX5_order_3 6 rfl rfl)
theorem dX5_order_78 : decode cX5_order 78 = .ok (.istore 4, 2) := dk_54 4 (dk_at dksX5_order_3 7 rfl rfl)
theorem dX5_order_80 : decode cX5_order 80 = .ok (.aload_n 0, 1) := dk_42 (dk_at dksX5_order_3 9 rfl rfl)
theorem dX5_order_81 : decode cX5_order 81 = .ok (.getfield 9, 3) := dk_180 0 9 (dk_at dksX5_order_3 10 rfl rfl)
theorem dX5_order_84 : decode cX5_order 84 = .ok (.sipush 280, 3) := dk_17 1 24 (dk_at dksX5_order_3 13 rfl rfl)
theorem dX5_order_87 : decode cX5_order 87 = .ok (.iconst 4, 1) := dk_7 (dk_at dksX5_order_3 16 rfl rfl)
theorem dX5_order_88 : decode cX5_order 88 = .ok (.iload 4, 2) := dk_21 4 (dk_at dksX5_order_3 17 rfl rfl)
theorem dX5_order_90 : decode cX5_order 90 = .ok (.imul, 1) := dk_104 (dk_at dksX5_order_3 19 rfl rfl)
theorem dX5_order_91 : decode cX5_order 91 = .ok (.iadd, 1) := dk_96 (dk_at dksX5_order_3 20 rfl rfl)
theorem dX5_order_92 : decode cX5_order 92 = .ok (.iconst 0, 1) := dk_3 (dk_at dksX5_order_3 21 rfl rfl)
theorem dX5_order_93 : decode cX5_order 93 = .ok (.iadd, 1) := dk_96 (dk_at dksX5_order_3 22 rfl rfl)
theorem dX5_order_94 : decode cX5_order 94 = .ok (.iload_n 1, 1) := dk_27 (dk_at dksX5_order_3 23 rfl rfl)
theorem dX5_order_95 : decode cX5_order 95 = .ok (.iastore, 1) := dk_79 (dk_at dksX5_order_4 0 rfl rfl)
theorem dX5_order_96 : decode cX5_order 96 = .ok (.aload_n 0, 1) := dk_42 (dk_at dksX5_order_4 1 rfl rfl)
theorem dX5_order_97 : decode cX5_order 97 = .ok (.getfield 9, 3) := dk_180 0 9 (dk_at dksX5_order_4 2 rfl rfl)
theorem dX5_order_100 : decode cX5_order 100 = .ok (.sipush 280, 3) := dk_17 1 24 (dk_at dksX5_order_4 5 rfl rfl)
theorem dX5_order_103 : decode cX5_order 103 = .ok (.iconst 4, 1) := dk_7 (dk_at dksX5_order_4 8 rfl rfl)
theorem dX5_order_104 : decode cX5_order 104 = .ok (.iload 4, 2) := dk_21 4 (dk_at dksX5_order_4 9 rfl rfl)
theorem dX5_order_106 : decode cX5_order 106 = .ok (.imul, 1) := dk_104 (dk_at dksX5_order_4 11 rfl rfl)
theorem dX5_order_107 : decode cX5_order 107 = .ok (.iadd, 1) := dk_96 (dk_at dksX5_order_4 12 rfl rfl)
theorem dX5_order_108 : decode cX5_order 108 = .ok (.iconst 1, 1) := dk_4 (dk_at dksX5_order_4 13 rfl rfl)
theorem dX5_order_109 : decode cX5_order 109 = .ok (.iadd, 1) := dk_96 (dk_at dksX5_order_4 14 rfl rfl)
theorem dX5_order_110 : decode cX5_order 110 = .ok (.iload_n 2, 1) := dk_28 (dk_at dksX5_order_4 15 rfl rfl)
theorem dX5_order_111 : decode cX5_order 111 = .ok (.iastore, 1) := dk_79 (dk_at dksX5_order_4 16 rfl rfl)
theorem dX5_order_112 : decode cX5_order 112 = .ok (.aload_n 0, 1) := dk_42 (dk_at dksX5_order_4 17 rfl rfl)
theorem dX5_order_113 : decode cX5_order 113 = .ok (.getfield 9, 3) := dk_180 0 9 (dk_at dksX5_order_4 18 rfl rfl)
theorem dX5_order_116 : decode cX5_order 116 = .ok (.sipush 280, 3) := dk_17 1 24 (dk_at dksX5_order_4 21 rfl rfl)
theorem dX5_order_119 : decode cX5_order 119 = .ok (.iconst 4, 1) := dk_7 (dk_at dksX5_order_5 0 rfl rfl)
theorem dX5_order_120 : decode cX5_order 120 = .ok (.iload 4, 2) := dk_21 4 (dk_at dksX5_order_5 1 rfl rfl)
theorem dX5_order_122 : decode cX5_order 122 = .ok (.imul, 1) := dk_104 (dk_at dksX5_order_5 3 rfl rfl)
theorem dX5_order_123 : decode cX5_order 123 = .ok (.iadd, 1) := dk_96 (dk_at dksX5_order_5 4 rfl rfl)
theorem dX5_order_124 : decode cX5_order 124 = .ok (.iconst 2, 1) := dk_5 (dk_at dksX5_order_5 5 rfl rfl)
theorem dX5_order_125 : decode cX5_order 125 = .ok (.iadd, 1) := dk_96 (dk_at dksX5_order_5 6 rfl rfl)
theorem dX5_order_126 : decode cX5_order 126 = .ok (.iload_n 3, 1) := dk_29 (dk_at dksX5_order_5 7 rfl rfl)
theorem dX5_order_127 : decode cX5_order 127 = .ok (.iastore, 1) := dk_79 (dk_at dksX5_order_5 8 rfl rfl)
theorem dX5_order_128 : decode cX5_order 128 = .ok (.aload_n 0, 1) := dk_42 (dk_at dksX5_order_5 9 rfl rfl)
theorem dX5_order_129 : decode cX5_order 129 = .ok (.getfield 9, 3) := dk_180 0 9 (dk_at dksX5_order_5 10 rfl rfl)
theorem dX5_order_132 : decode cX5_order 132 = .ok (.sipush 280, 3) := dk_17 1 24 (dk_at dksX5_order_5 13 rfl rfl)
theorem dX5_order_135 : decode cX5_order 135 = .ok (.iconst 4, 1) := dk_7 (dk_at dksX5_order_5 16 rfl rfl)
theorem dX5_order_136 : decode cX5_order 136 = .ok (.iload 4, 2) := dk_21 4 (dk_at dksX5_order_5 17 rfl rfl)
theorem dX5_order_138 : decode cX5_order 138 = .ok (.imul, 1) := dk_104 (dk_at dksX5_order_5 19 rfl rfl)
theorem dX5_order_139 : decode cX5_order 139 = .ok (.iadd, 1) := dk_96 (dk_at dksX5_order_5 20 rfl rfl)
theorem dX5_order_140 : decode cX5_order 140 = .ok (.iconst 3, 1) := dk_6 (dk_at dksX5_order_5 21 rfl rfl)
theorem dX5_order_141 : decode cX5_order 141 = .ok (.iadd, 1) := dk_96 (dk_at dksX5_order_5 22 rfl rfl)
theorem dX5_order_142 : decode cX5_order 142 = .ok (.iconst 0, 1) := dk_3 (dk_at dksX5_order_5 23 rfl rfl)
theorem dX5_order_143 : decode cX5_order 143 = .ok (.iastore, 1) := dk_79 (dk_at dksX5_order_6 0 rfl rfl)
theorem dX5_order_144 : decode cX5_order 144 = .ok (.aload_n 0, 1) := dk_42 (dk_at dksX5_order_6 1 rfl rfl)
theorem dX5_order_145 : decode cX5_order 145 = .ok (.getfield 9, 3) := dk_180 0 9 (dk_at dksX5_order_6 2 rfl rfl)
theorem dX5_order_148 : decode cX5_order 148 = .ok (.bipush 7, 2) := dk_16 7 (dk_at dksX5_order_6 5 rfl rfl)
theorem dX5_order_150 : decode cX5_order 150 = .ok (.dup2, 1) := dk_92 (dk_at dksX5_order_6 7 rfl rfl)
theorem dX5_order_151 : decode cX5_order 151 = .ok (.iaload, 1) := dk_46 (dk_at dksX5_order_6 8 rfl rfl)
theorem dX5_order_152 : decode cX5_order 152 = .ok (.iconst 1, 1) := dk_4 (dk_at dksX5_order_6 9 rfl rfl)
theorem dX5_order_153 : decode cX5_order 153 = .ok (.iadd, 1) := dk_96 (dk_at dksX5_order_6 10 rfl rfl)
theorem dX5_order_154 : decode cX5_order 154 = .ok (.iastore, 1) := dk_79 (dk_at dksX5_order_6 11 rfl rfl)
theorem dX5_order_155 : decode cX5_order 155 = .ok (.aload_n 0, 1) := dk_42 (dk_at dksX5_order_6 12 rfl rfl)
theorem dX5_order_156 : decode cX5_order 156 = .ok (.invokevirtual 37, 3) := dk_182 0 37 (dk_at dksX5_order_6 13 rfl rfl)
theorem dX5_order_159 : decode cX5_order 159 = .ok (.iload 4, 2) := dk_21 4 (dk_at dksX5_order_6 16 rfl rfl)
theorem dX5_order_161 : decode cX5_order 161 = .ok (.ireturn, 1) := dk_172 (dk_at dksX5_order_6 18 rfl rfl)
abbrev cX5_cancel : ByteArray := prog_15_method_63_code
def yX5_cancel : MethodName := ⟨RX5, "cancel", "(I)I"⟩
def dkwX5_cancel_0 : List UInt8 := [42, 182, 0, 61, 42, 42, 27, 182, 0, 183, 4, 3, 5, 182, 0, 78, 172]
abbrev dktX5_cancel_0 : List UInt8 := dkwX5_cancel_0 ++ []
theorem dksX5_cancel_0 : cX5_cancel.data.toList.drop 0 = dktX5_cancel_0 := by decide +kernel
theorem dX5_cancel_0 : decode cX5_cancel 0 = .ok (.aload_n 0, 1) := dk_42 (dk_at dksX5_cancel_0 0 rfl rfl)
theorem dX5_cancel_1 : decode cX5_cancel 1 = .ok (.invokevirtual 61, 3) := dk_182 0 61 (dk_at dksX5_cancel_0 1 rfl rfl)
theorem dX5_cancel_4 : decode cX5_cancel 4 = .ok (.aload_n 0, 1) := dk_42 (dk_at dksX5_cancel_0 4 rfl rfl)
theorem dX5_cancel_5 : decode cX5_cancel 5 = .ok (.aload_n 0, 1) := dk_42 (dk_at dksX5_cancel_0 5 rfl rfl)
theorem dX5_cancel_6 : decode cX5_cancel 6 = .ok (.iload_n 1, 1) := dk_27 (dk_at dksX5_cancel_0 6 rfl rfl)
theorem dX5_cancel_7 : decode cX5_cancel 7 = .ok (.invokevirtual 183, 3) := dk_182 0 183 (dk_at dksX5_cancel_0 7 rfl rfl)
theorem dX5_cancel_10 : decode cX5_cancel 10 = .ok (.iconst 1, 1) := dk_4 (dk_at dksX5_cancel_0 10 rfl rfl)
theorem dX5_cancel_11 : decode cX5_cancel 11 = .ok (.iconst 0, 1) := dk_3 (dk_at dksX5_cancel_0 11 rfl rfl)
theorem dX5_cancel_12 : decode cX5_cancel 12 = .ok (.iconst 2, 1) := dk_5 (dk_at dksX5_cancel_0 12 rfl rfl)
theorem dX5_cancel_13 : decode cX5_cancel 13 = .ok (.invokevirtual 78, 3) := dk_182 0 78 (dk_at dksX5_cancel_0 13 rfl rfl)
theorem dX5_cancel_16 : decode cX5_cancel 16 = .ok (.ireturn, 1) := dk_172 (dk_at dksX5_cancel_0 16 rfl rfl)
abbrev cX5_cancels : ByteArray := prog_15_method_62_code
def yX5_cancels : MethodName := ⟨RX5, "cancels", "(I)I"⟩
def dkwX5_cancels_3 : List UInt8 := [96, 5, 79, 28, 2, 159, 0, 8, 42, 28, 182, 0, 179, 3, 172]
abbrev dktX5_cancels_3 : List UInt8 := dkwX5_cancels_3 ++ []
def dkwX5_cancels_2 : List UInt8 := [180, 0, 9, 5, 92, 46, 42, 180, 0, 40, 96, 79, 42, 180, 0, 9, 17, 1, 24, 7, 27, 104, 96, 6]
abbrev dktX5_cancels_2 : List UInt8 := dkwX5_cancels_2 ++ dktX5_cancels_3
def dkwX5_cancels_1 : List UInt8 := [182, 0, 167, 61, 42, 28, 2, 160, 0, 7, 3, 167, 0, 9, 42, 28, 4, 182, 0, 164, 181, 0, 40, 42]
abbrev dktX5_cancels_1 : List UInt8 := dkwX5_cancels_1 ++ dktX5_cancels_2
def dkwX5_cancels_0 : List UInt8 := [42, 27, 182, 0, 173, 154, 0, 5, 4, 172, 42, 27, 182, 0, 176, 153, 0, 5, 6, 172, 42, 27]
abbrev dktX5_cancels_0 : List UInt8 := dkwX5_cancels_0 ++ dktX5_cancels_1
theorem dksX5_cancels_0 : cX5_cancels.data.toList.drop 0 = dktX5_cancels_0 := by decide +kernel
theorem dksX5_cancels_1 : cX5_cancels.data.toList.drop 22 = dktX5_cancels_1 := dk_seg dksX5_cancels_0 22 rfl rfl
theorem dksX5_cancels_2 : cX5_cancels.data.toList.drop 46 = dktX5_cancels_2 := dk_seg dksX5_cancels_1 24 rfl rfl
theorem dksX5_cancels_3 : cX5_cancels.data.toList.drop 70 = dktX5_cancels_3 := dk_seg dksX5_cancels_2 24 rfl rfl
theorem dX5_cancels_0 : decode cX5_cancels 0 = .ok (.aload_n 0, 1) := dk_42 (dk_at dksX5_cancels_0 0 rfl rfl)
theorem dX5_cancels_1 : decode cX5_cancels 1 = .ok (.iload_n 1, 1) := dk_27 (dk_at dksX5_cancels_0 1 rfl rfl)
theorem dX5_cancels_2 : decode cX5_cancels 2 = .ok (.invokevirtual 173, 3) := dk_182 0 173 (dk_at dksX5_cancels_0 2 rfl rfl)
theorem dX5_cancels_5 : decode cX5_cancels 5 = .ok (.ifCond .ne 5, 3) := dk_154 0 5 (dk_at dksX5_cancels_0 5 rfl rfl)
theorem dX5_cancels_8 : decode cX5_cancels 8 = .ok (.iconst 1, 1) := dk_4 (dk_at dksX5_cancels_0 8 rfl rfl)
theorem dX5_cancels_9 : decode cX5_cancels 9 = .ok (.ireturn, 1) := dk_172 (dk_at dksX5_cancels_0 9 rfl rfl)
theorem dX5_cancels_10 : decode cX5_cancels 10 = .ok (.aload_n 0, 1) := dk_42 (dk_at dksX5_cancels_0 10 rfl rfl)
theorem dX5_cancels_11 : decode cX5_cancels 11 = .ok (.iload_n 1, 1) := dk_27 (dk_at dksX5_cancels_0 11 rfl rfl)
theorem dX5_cancels_12 : decode cX5_cancels 12 = .ok (.invokevirtual 176, 3) := dk_182 0 176 (dk_at dksX5_cancels_0 12 rfl rfl)
theorem dX5_cancels_15 : decode cX5_cancels 15 = .ok (.ifCond .eq 5, 3) := dk_153 0 5 (dk_at dksX5_cancels_0 15 rfl rfl)
theorem dX5_cancels_18 : decode cX5_cancels 18 = .ok (.iconst 3, 1) := dk_6 (dk_at dksX5_cancels_0 18 rfl rfl)
theorem dX5_cancels_19 : decode cX5_cancels 19 = .ok (.ireturn, 1) := dk_172 (dk_at dksX5_cancels_0 19 rfl rfl)
theorem dX5_cancels_20 : decode cX5_cancels 20 = .ok (.aload_n 0, 1) := dk_42 (dk_at dksX5_cancels_0 20 rfl rfl)
theorem dX5_cancels_21 : decode cX5_cancels 21 = .ok (.iload_n 1, 1) := dk_27 (dk_at dksX5_cancels_0 21 rfl rfl)
theorem dX5_cancels_22 : decode cX5_cancels 22 = .ok (.invokevirtual 167, 3) := dk_182 0 167 (dk_at dksX5_cancels_1 0 rfl rfl)
theorem dX5_cancels_25 : decode cX5_cancels 25 = .ok (.istore_n 2, 1) := dk_61 (dk_at dksX5_cancels_1 3 rfl rfl)
theorem dX5_cancels_26 : decode cX5_cancels 26 = .ok (.aload_n 0, 1) := dk_42 (dk_at dksX5_cancels_1 4 rfl rfl)
theorem dX5_cancels_27 : decode cX5_cancels 27 = .ok (.iload_n 2, 1) := dk_28 (dk_at dksX5_cancels_1 5 rfl rfl)
theorem dX5_cancels_28 : decode cX5_cancels 28 = .ok (.iconst (-1), 1) := dk_2 (dk_at dksX5_cancels_1 6 rfl rfl)
theorem dX5_cancels_29 : decode cX5_cancels 29 = .ok (.if_icmp .ne 7, 3) := dk_160 0 7 (dk_at dksX5_cancels_1 7 rfl rfl)
theorem dX5_cancels_32 : decode cX5_cancels 32 = .ok (.iconst 0, 1) := dk_3 (dk_at dksX5_cancels_1 10 rfl rfl)
theorem dX5_cancels_33 : decode cX5_cancels 33 = .ok (.goto 9, 3) := dk_167 0 9 (dk_at dksX5_cancels_1 11 rfl rfl)
theorem dX5_cancels_36 : decode cX5_cancels 36 = .ok (.aload_n 0, 1) := dk_42 (dk_at dksX5_cancels_1 14 rfl rfl)
theorem dX5_cancels_37 : decode cX5_cancels 37 = .ok (.iload_n 2, 1) := dk_28 (dk_at dksX5_cancels_1 15 rfl rfl)
theorem dX5_cancels_38 : decode cX5_cancels 38 = .ok (.iconst 1, 1) := dk_4 (dk_at dksX5_cancels_1 16 rfl rfl)
theorem dX5_cancels_39 : decode cX5_cancels 39 = .ok (.invokevirtual 164, 3) := dk_182 0 164 (dk_at dksX5_cancels_1 17 rfl rfl)
theorem dX5_cancels_42 : decode cX5_cancels 42 = .ok (.putfield 40, 3) := dk_181 0 40 (dk_at dksX5_cancels_1 20 rfl rfl)
theorem dX5_cancels_45 : decode cX5_cancels 45 = .ok (.aload_n 0, 1) := dk_42 (dk_at dksX5_cancels_1 23 rfl rfl)
theorem dX5_cancels_46 : decode cX5_cancels 46 = .ok (.getfield 9, 3) := dk_180 0 9 (dk_at dksX5_cancels_2 0 rfl rfl)
theorem dX5_cancels_49 : decode cX5_cancels 49 = .ok (.iconst 2, 1) := dk_5 (dk_at dksX5_cancels_2 3 rfl rfl)
theorem dX5_cancels_50 : decode cX5_cancels 50 = .ok (.dup2, 1) := dk_92 (dk_at dksX5_cancels_2 4 rfl rfl)
theorem dX5_cancels_51 : decode cX5_cancels 51 = .ok (.iaload, 1) := dk_46 (dk_at dksX5_cancels_2 5 rfl rfl)
theorem dX5_cancels_52 : decode cX5_cancels 52 = .ok (.aload_n 0, 1) := dk_42 (dk_at dksX5_cancels_2 6 rfl rfl)
theorem dX5_cancels_53 : decode cX5_cancels 53 = .ok (.getfield 40, 3) := dk_180 0 40 (dk_at dksX5_cancels_2 7 rfl rfl)
theorem dX5_cancels_56 : decode cX5_cancels 56 = .ok (.iadd, 1) := dk_96 (dk_at dksX5_cancels_2 10 rfl rfl)
theorem dX5_cancels_57 : decode cX5_cancels 57 = .ok (.iastore, 1) := dk_79 (dk_at dksX5_cancels_2 11 rfl rfl)
theorem dX5_cancels_58 : decode cX5_cancels 58 = .ok (.aload_n 0, 1) := dk_42 (dk_at dksX5_cancels_2 12 rfl rfl)
theorem dX5_cancels_59 : decode cX5_cancels 59 = .ok (.getfield 9, 3) := dk_180 0 9 (dk_at dksX5_cancels_2 13 rfl rfl)
theorem dX5_cancels_62 : decode cX5_cancels 62 = .ok (.sipush 280, 3) := dk_17 1 24 (dk_at dksX5_cancels_2 16 rfl rfl)
theorem dX5_cancels_65 : decode cX5_cancels 65 = .ok (.iconst 4, 1) := dk_7 (dk_at dksX5_cancels_2 19 rfl rfl)
theorem dX5_cancels_66 : decode cX5_cancels 66 = .ok (.iload_n 1, 1) := dk_27 (dk_at dksX5_cancels_2 20 rfl rfl)
theorem dX5_cancels_67 : decode cX5_cancels 67 = .ok (.imul, 1) := dk_104 (dk_at dksX5_cancels_2 21 rfl rfl)
theorem dX5_cancels_68 : decode cX5_cancels 68 = .ok (.iadd, 1) := dk_96 (dk_at dksX5_cancels_2 22 rfl rfl)
theorem dX5_cancels_69 : decode cX5_cancels 69 = .ok (.iconst 3, 1) := dk_6 (dk_at dksX5_cancels_2 23 rfl rfl)
theorem dX5_cancels_70 : decode cX5_cancels 70 = .ok (.iadd, 1) := dk_96 (dk_at dksX5_cancels_3 0 rfl rfl)
theorem dX5_cancels_71 : decode cX5_cancels 71 = .ok (.iconst 2, 1) := dk_5 (dk_at dksX5_cancels_3 1 rfl rfl)
theorem dX5_cancels_72 : decode cX5_cancels 72 = .ok (.iastore, 1) := dk_79 (dk_at dksX5_cancels_3 2 rfl rfl)
theorem dX5_cancels_73 : decode cX5_cancels 73 = .ok (.iload_n 2, 1) := dk_28 (dk_at dksX5_cancels_3 3 rfl rfl)
theorem dX5_cancels_74 : decode cX5_cancels 74 = .ok (.iconst (-1), 1) := dk_2 (dk_at dksX5_cancels_3 4 rfl rfl)
theorem dX5_cancels_75 : decode cX5_cancels 75 = .ok (.if_icmp .eq 8, 3) := dk_159 0 8 (dk_at dksX5_cancels_3 5 rfl rfl)
theorem dX5_cancels_78 : decode cX5_cancels 78 = .ok (.aload_n 0, 1) := dk_42 (dk_at dksX5_cancels_3 8 rfl rfl)
theorem dX5_cancels_79 : decode cX5_cancels 79 = .ok (.iload_n 2, 1) := dk_28 (dk_at dksX5_cancels_3 9 rfl rfl)
theorem dX5_cancels_80 : decode cX5_cancels 80 = .ok (.invokevirtual 179, 3) := dk_182 0 179 (dk_at dksX5_cancels_3 10 rfl rfl)
theorem dX5_cancels_83 : decode cX5_cancels 83 = .ok (.iconst 0, 1) := dk_3 (dk_at dksX5_cancels_3 13 rfl rfl)
theorem dX5_cancels_84 : decode cX5_cancels 84 = .ok (.ireturn, 1) := dk_172 (dk_at dksX5_cancels_3 14 rfl rfl)
abbrev cX5_isOrder : ByteArray := prog_15_method_52_code
def yX5_isOrder : MethodName := ⟨RX5, "isOrder", "(I)Z"⟩
def dkwX5_isOrder_0 : List UInt8 := [27, 3, 42, 180, 0, 9, 16, 7, 46, 4, 100, 184, 0, 49, 172]
abbrev dktX5_isOrder_0 : List UInt8 := dkwX5_isOrder_0 ++ []
theorem dksX5_isOrder_0 : cX5_isOrder.data.toList.drop 0 = dktX5_isOrder_0 := by decide +kernel
theorem dX5_isOrder_0 : decode cX5_isOrder 0 = .ok (.iload_n 1, 1) := dk_27 (dk_at dksX5_isOrder_0 0 rfl rfl)
theorem dX5_isOrder_1 : decode cX5_isOrder 1 = .ok (.iconst 0, 1) := dk_3 (dk_at dksX5_isOrder_0 1 rfl rfl)
theorem dX5_isOrder_2 : decode cX5_isOrder 2 = .ok (.aload_n 0, 1) := dk_42 (dk_at dksX5_isOrder_0 2 rfl rfl)
theorem dX5_isOrder_3 : decode cX5_isOrder 3 = .ok (.getfield 9, 3) := dk_180 0 9 (dk_at dksX5_isOrder_0 3 rfl rfl)
theorem dX5_isOrder_6 : decode cX5_isOrder 6 = .ok (.bipush 7, 2) := dk_16 7 (dk_at dksX5_isOrder_0 6 rfl rfl)
theorem dX5_isOrder_8 : decode cX5_isOrder 8 = .ok (.iaload, 1) := dk_46 (dk_at dksX5_isOrder_0 8 rfl rfl)
theorem dX5_isOrder_9 : decode cX5_isOrder 9 = .ok (.iconst 1, 1) := dk_4 (dk_at dksX5_isOrder_0 9 rfl rfl)
theorem dX5_isOrder_10 : decode cX5_isOrder 10 = .ok (.isub, 1) := dk_100 (dk_at dksX5_isOrder_0 10 rfl rfl)
theorem dX5_isOrder_11 : decode cX5_isOrder 11 = .ok (.invokestatic 49, 3) := dk_184 0 49 (dk_at dksX5_isOrder_0 11 rfl rfl)
theorem dX5_isOrder_14 : decode cX5_isOrder 14 = .ok (.ireturn, 1) := dk_172 (dk_at dksX5_isOrder_0 14 rfl rfl)
abbrev cX5_doesNotWait : ByteArray := prog_15_method_61_code
def yX5_doesNotWait : MethodName := ⟨RX5, "doesNotWait", "(I)Z"⟩
def dkwX5_doesNotWait_1 : List UInt8 := [182, 0, 57, 172]
abbrev dktX5_doesNotWait_1 : List UInt8 := dkwX5_doesNotWait_1 ++ []
def dkwX5_doesNotWait_0 : List UInt8 := [42, 42, 27, 6, 182, 0, 170, 153, 0, 7, 4, 167, 0, 4, 3, 8, 42, 27, 6, 182, 0, 170]
abbrev dktX5_doesNotWait_0 : List UInt8 := dkwX5_doesNotWait_0 ++ dktX5_doesNotWait_1
theorem dksX5_doesNotWait_0 : cX5_doesNotWait.data.toList.drop 0 = dktX5_doesNotWait_0 := by decide +kernel
theorem dksX5_doesNotWait_1 : cX5_doesNotWait.data.toList.drop 22 = dktX5_doesNotWait_1 := dk_seg dksX5_doesNotWait_0 22 rfl rfl
theorem dX5_doesNotWait_0 : decode cX5_doesNotWait 0 = .ok (.aload_n 0, 1) := dk_42 (dk_at dksX5_doesNotWait_0 0 rfl rfl)
theorem dX5_doesNotWait_1 : decode cX5_doesNotWait 1 = .ok (.aload_n 0, 1) := dk_42 (dk_at dksX5_doesNotWait_0 1 rfl rfl)
theorem dX5_doesNotWait_2 : decode cX5_doesNotWait 2 = .ok (.iload_n 1, 1) := dk_27 (dk_at dksX5_doesNotWait_0 2 rfl rfl)
theorem dX5_doesNotWait_3 : decode cX5_doesNotWait 3 = .ok (.iconst 3, 1) := dk_6 (dk_at dksX5_doesNotWait_0 3 rfl rfl)
theorem dX5_doesNotWait_4 : decode cX5_doesNotWait 4 = .ok (.invokevirtual 170, 3) := dk_182 0 170 (dk_at dksX5_doesNotWait_0 4 rfl rfl)
theorem dX5_doesNotWait_7 : decode cX5_doesNotWait 7 = .ok (.ifCond .eq 7, 3) := dk_153 0 7 (dk_at dksX5_doesNotWait_0 7 rfl rfl)
theorem dX5_doesNotWait_10 : decode cX5_doesNotWait 10 = .ok (.iconst 1, 1) := dk_4 (dk_at dksX5_doesNotWait_0 10 rfl rfl)
theorem dX5_doesNotWait_11 : decode cX5_doesNotWait 11 = .ok (.goto 4, 3) := dk_167 0 4 (dk_at dksX5_doesNotWait_0 11 rfl rfl)
theorem dX5_doesNotWait_14 : decode cX5_doesNotWait 14 = .ok (.iconst 0, 1) := dk_3 (dk_at dksX5_doesNotWait_0 14 rfl rfl)
theorem dX5_doesNotWait_15 : decode cX5_doesNotWait 15 = .ok (.iconst 5, 1) := dk_8 (dk_at dksX5_doesNotWait_0 15 rfl rfl)
theorem dX5_doesNotWait_16 : decode cX5_doesNotWait 16 = .ok (.aload_n 0, 1) := dk_42 (dk_at dksX5_doesNotWait_0 16 rfl rfl)
theorem dX5_doesNotWait_17 : decode cX5_doesNotWait 17 = .ok (.iload_n 1, 1) := dk_27 (dk_at dksX5_doesNotWait_0 17 rfl rfl)
theorem dX5_doesNotWait_18 : decode cX5_doesNotWait 18 = .ok (.iconst 3, 1) := dk_6 (dk_at dksX5_doesNotWait_0 18 rfl rfl)
theorem dX5_doesNotWait_19 : decode cX5_doesNotWait 19 = .ok (.invokevirtual 170, 3) := dk_182 0 170 (dk_at dksX5_doesNotWait_0 19 rfl rfl)
theorem dX5_doesNotWait_22 : decode cX5_doesNotWait 22 = .ok (.invokevirtual 57, 3) := dk_182 0 57 (dk_at dksX5_doesNotWait_1 0 rfl rfl)
theorem dX5_doesNotWait_25 : decode cX5_doesNotWait 25 = .ok (.ireturn, 1) := dk_172 (dk_at dksX5_doesNotWait_1 3 rfl rfl)
abbrev cX5_o : ByteArray := prog_15_method_53_code
def yX5_o : MethodName := ⟨RX5, "o", "(II)I"⟩
def dkwX5_o_0 : List UInt8 := [42, 180, 0, 9, 17, 1, 24, 7, 27, 104, 96, 28, 96, 46, 172]
abbrev dktX5_o_0 : List UInt8 := dkwX5_o_0 ++ []
theorem dksX5_o_0 : cX5_o.data.toList.drop 0 = dktX5_o_0 := by decide +kernel
theorem dX5_o_0 : decode cX5_o 0 = .ok (.aload_n 0, 1) := dk_42 (dk_at dksX5_o_0 0 rfl rfl)
theorem dX5_o_1 : decode cX5_o 1 = .ok (.getfield 9, 3) := dk_180 0 9 (dk_at dksX5_o_0 1 rfl rfl)
theorem dX5_o_4 : decode cX5_o 4 = .ok (.sipush 280, 3) := dk_17 1 24 (dk_at dksX5_o_0 4 rfl rfl)
theorem dX5_o_7 : decode cX5_o 7 = .ok (.iconst 4, 1) := dk_7 (dk_at dksX5_o_0 7 rfl rfl)
theorem dX5_o_8 : decode cX5_o 8 = .ok (.iload_n 1, 1) := dk_27 (dk_at dksX5_o_0 8 rfl rfl)
theorem dX5_o_9 : decode cX5_o 9 = .ok (.imul, 1) := dk_104 (dk_at dksX5_o_0 9 rfl rfl)
theorem dX5_o_10 : decode cX5_o 10 = .ok (.iadd, 1) := dk_96 (dk_at dksX5_o_0 10 rfl rfl)
theorem dX5_o_11 : decode cX5_o 11 = .ok (.iload_n 2, 1) := dk_28 (dk_at dksX5_o_0 11 rfl rfl)
theorem dX5_o_12 : decode cX5_o 12 = .ok (.iadd, 1) := dk_96 (dk_at dksX5_o_0 12 rfl rfl)
theorem dX5_o_13 : decode cX5_o 13 = .ok (.iaload, 1) := dk_46 (dk_at dksX5_o_0 13 rfl rfl)
theorem dX5_o_14 : decode cX5_o 14 = .ok (.ireturn, 1) := dk_172 (dk_at dksX5_o_0 14 rfl rfl)
abbrev cX5_cartWith : ByteArray := prog_15_method_58_code
def yX5_cartWith : MethodName := ⟨RX5, "cartWith", "(I)I"⟩
def dkwX5_cartWith_1 : List UInt8 := [172, 132, 2, 1, 167, 255, 230, 2, 172]
abbrev dktX5_cartWith_1 : List UInt8 := dkwX5_cartWith_1 ++ []
def dkwX5_cartWith_0 : List UInt8 := [3, 61, 28, 42, 180, 0, 9, 16, 8, 46, 162, 0, 21, 42, 28, 5, 182, 0, 164, 27, 160, 0, 5, 28]
abbrev dktX5_cartWith_0 : List UInt8 := dkwX5_cartWith_0 ++ dktX5_cartWith_1
theorem dksX5_cartWith_0 : cX5_cartWith.data.toList.drop 0 = dktX5_cartWith_0 := by decide +kernel
theorem dksX5_cartWith_1 : cX5_cartWith.data.toList.drop 24 = dktX5_cartWith_1 := dk_seg dksX5_cartWith_0 24 rfl rfl
theorem dX5_cartWith_0 : decode cX5_cartWith 0 = .ok (.iconst 0, 1) := dk_3 (dk_at dksX5_cartWith_0 0 rfl rfl)
theorem dX5_cartWith_1 : decode cX5_cartWith 1 = .ok (.istore_n 2, 1) := dk_61 (dk_at dksX5_cartWith_0 1 rfl rfl)
theorem dX5_cartWith_2 : decode cX5_cartWith 2 = .ok (.iload_n 2, 1) := dk_28 (dk_at dksX5_cartWith_0 2 rfl rfl)
theorem dX5_cartWith_3 : decode cX5_cartWith 3 = .ok (.aload_n 0, 1) := dk_42 (dk_at dksX5_cartWith_0 3 rfl rfl)
theorem dX5_cartWith_4 : decode cX5_cartWith 4 = .ok (.getfield 9, 3) := dk_180 0 9 (dk_at dksX5_cartWith_0 4 rfl rfl)
theorem dX5_cartWith_7 : decode cX5_cartWith 7 = .ok (.bipush 8, 2) := dk_16 8 (dk_at dksX5_cartWith_0 7 rfl rfl)
theorem dX5_cartWith_9 : decode cX5_cartWith 9 = .ok (.iaload, 1) := dk_46 (dk_at dksX5_cartWith_0 9 rfl rfl)
theorem dX5_cartWith_10 : decode cX5_cartWith 10 = .ok (.if_icmp .ge 21, 3) := dk_162 0 21 (dk_at dksX5_cartWith_0 10 rfl rfl)
theorem dX5_cartWith_13 : decode cX5_cartWith 13 = .ok (.aload_n 0, 1) := dk_42 (dk_at dksX5_cartWith_0 13 rfl rfl)
theorem dX5_cartWith_14 : decode cX5_cartWith 14 = .ok (.iload_n 2, 1) := dk_28 (dk_at dksX5_cartWith_0 14 rfl rfl)
theorem dX5_cartWith_15 : decode cX5_cartWith 15 = .ok (.iconst 2, 1) := dk_5 (dk_at dksX5_cartWith_0 15 rfl rfl)
theorem dX5_cartWith_16 : decode cX5_cartWith 16 = .ok (.invokevirtual 164, 3) := dk_182 0 164 (dk_at dksX5_cartWith_0 16 rfl rfl)
theorem dX5_cartWith_19 : decode cX5_cartWith 19 = .ok (.iload_n 1, 1) := dk_27 (dk_at dksX5_cartWith_0 19 rfl rfl)
theorem dX5_cartWith_20 : decode cX5_cartWith 20 = .ok (.if_icmp .ne 5, 3) := dk_160 0 5 (dk_at dksX5_cartWith_0 20 rfl rfl)
theorem dX5_cartWith_23 : decode cX5_cartWith 23 = .ok (.iload_n 2, 1) := dk_28 (dk_at dksX5_cartWith_0 23 rfl rfl)
theorem dX5_cartWith_24 : decode cX5_cartWith 24 = .ok (.ireturn, 1) := dk_172 (dk_at dksX5_cartWith_1 0 rfl rfl)
theorem dX5_cartWith_25 : decode cX5_cartWith 25 = .ok (.iinc 2 1, 3) := dk_132 2 1 (dk_at dksX5_cartWith_1 1 rfl rfl)
theorem dX5_cartWith_28 : decode cX5_cartWith 28 = .ok (.goto (-26), 3) := dk_167 255 230 (dk_at dksX5_cartWith_1 4 rfl rfl)
theorem dX5_cartWith_31 : decode cX5_cartWith 31 = .ok (.iconst (-1), 1) := dk_2 (dk_at dksX5_cartWith_1 7 rfl rfl)
theorem dX5_cartWith_32 : decode cX5_cartWith 32 = .ok (.ireturn, 1) := dk_172 (dk_at dksX5_cartWith_1 8 rfl rfl)
abbrev cX5_c : ByteArray := prog_15_method_55_code
def yX5_c : MethodName := ⟨RX5, "c", "(II)I"⟩
def dkwX5_c_0 : List UInt8 := [42, 180, 0, 9, 17, 1, 104, 6, 27, 104, 96, 28, 96, 46, 172]
abbrev dktX5_c_0 : List UInt8 := dkwX5_c_0 ++ []
theorem dksX5_c_0 : cX5_c.data.toList.drop 0 = dktX5_c_0 := by decide +kernel
theorem dX5_c_0 : decode cX5_c 0 = .ok (.aload_n 0, 1) := dk_42 (dk_at dksX5_c_0 0 rfl rfl)
theorem dX5_c_1 : decode cX5_c 1 = .ok (.getfield 9, 3) := dk_180 0 9 (dk_at dksX5_c_0 1 rfl rfl)
theorem dX5_c_4 : decode cX5_c 4 = .ok (.sipush 360, 3) := dk_17 1 104 (dk_at dksX5_c_0 4 rfl rfl)
theorem dX5_c_7 : decode cX5_c 7 = .ok (.iconst 3, 1) := dk_6 (dk_at dksX5_c_0 7 rfl rfl)
theorem dX5_c_8 : decode cX5_c 8 = .ok (.iload_n 1, 1) := dk_27 (dk_at dksX5_c_0 8 rfl rfl)
theorem dX5_c_9 : decode cX5_c 9 = .ok (.imul, 1) := dk_104 (dk_at dksX5_c_0 9 rfl rfl)
theorem dX5_c_10 : decode cX5_c 10 = .ok (.iadd, 1) := dk_96 (dk_at dksX5_c_0 10 rfl rfl)
theorem dX5_c_11 : decode cX5_c 11 = .ok (.iload_n 2, 1) := dk_28 (dk_at dksX5_c_0 11 rfl rfl)
theorem dX5_c_12 : decode cX5_c 12 = .ok (.iadd, 1) := dk_96 (dk_at dksX5_c_0 12 rfl rfl)
theorem dX5_c_13 : decode cX5_c 13 = .ok (.iaload, 1) := dk_46 (dk_at dksX5_c_0 13 rfl rfl)
theorem dX5_c_14 : decode cX5_c 14 = .ok (.ireturn, 1) := dk_172 (dk_at dksX5_c_0 14 rfl rfl)
abbrev cX5_empties : ByteArray := prog_15_method_57_code
def yX5_empties : MethodName := ⟨RX5, "empties", "(I)V"⟩
def dkwX5_empties_0 : List UInt8 := [42, 27, 4, 3, 182, 0, 161, 42, 27, 5, 2, 182, 0, 161, 177]
abbrev dktX5_empties_0 : List UInt8 := dkwX5_empties_0 ++ []
theorem dksX5_empties_0 : cX5_empties.data.toList.drop 0 = dktX5_empties_0 := by decide +kernel
theorem dX5_empties_0 : decode cX5_empties 0 = .ok (.aload_n 0, 1) := dk_42 (dk_at dksX5_empties_0 0 rfl rfl)
theorem dX5_empties_1 : decode cX5_empties 1 = .ok (.iload_n 1, 1) := dk_27 (dk_at dksX5_empties_0 1 rfl rfl)
theorem dX5_empties_2 : decode cX5_empties 2 = .ok (.iconst 1, 1) := dk_4 (dk_at dksX5_empties_0 2 rfl rfl)
theorem dX5_empties_3 : decode cX5_empties 3 = .ok (.iconst 0, 1) := dk_3 (dk_at dksX5_empties_0 3 rfl rfl)
theorem dX5_empties_4 : decode cX5_empties 4 = .ok (.invokevirtual 161, 3) := dk_182 0 161 (dk_at dksX5_empties_0 4 rfl rfl)
theorem dX5_empties_7 : decode cX5_empties 7 = .ok (.aload_n 0, 1) := dk_42 (dk_at dksX5_empties_0 7 rfl rfl)
theorem dX5_empties_8 : decode cX5_empties 8 = .ok (.iload_n 1, 1) := dk_27 (dk_at dksX5_empties_0 8 rfl rfl)
theorem dX5_empties_9 : decode cX5_empties 9 = .ok (.iconst 2, 1) := dk_5 (dk_at dksX5_empties_0 9 rfl rfl)
theorem dX5_empties_10 : decode cX5_empties 10 = .ok (.iconst (-1), 1) := dk_2 (dk_at dksX5_empties_0 10 rfl rfl)
theorem dX5_empties_11 : decode cX5_empties 11 = .ok (.invokevirtual 161, 3) := dk_182 0 161 (dk_at dksX5_empties_0 11 rfl rfl)
theorem dX5_empties_14 : decode cX5_empties 14 = .ok (.return_, 1) := dk_177 (dk_at dksX5_empties_0 14 rfl rfl)
abbrev cX5_setCart : ByteArray := prog_15_method_56_code
def yX5_setCart : MethodName := ⟨RX5, "setCart", "(III)V"⟩
def dkwX5_setCart_0 : List UInt8 := [42, 180, 0, 9, 17, 1, 104, 6, 27, 104, 96, 28, 96, 29, 79, 177]
abbrev dktX5_setCart_0 : List UInt8 := dkwX5_setCart_0 ++ []
theorem dksX5_setCart_0 : cX5_setCart.data.toList.drop 0 = dktX5_setCart_0 := by decide +kernel
theorem dX5_setCart_0 : decode cX5_setCart 0 = .ok (.aload_n 0, 1) := dk_42 (dk_at dksX5_setCart_0 0 rfl rfl)
theorem dX5_setCart_1 : decode cX5_setCart 1 = .ok (.getfield 9, 3) := dk_180 0 9 (dk_at dksX5_setCart_0 1 rfl rfl)
theorem dX5_setCart_4 : decode cX5_setCart 4 = .ok (.sipush 360, 3) := dk_17 1 104 (dk_at dksX5_setCart_0 4 rfl rfl)
theorem dX5_setCart_7 : decode cX5_setCart 7 = .ok (.iconst 3, 1) := dk_6 (dk_at dksX5_setCart_0 7 rfl rfl)
theorem dX5_setCart_8 : decode cX5_setCart 8 = .ok (.iload_n 1, 1) := dk_27 (dk_at dksX5_setCart_0 8 rfl rfl)
theorem dX5_setCart_9 : decode cX5_setCart 9 = .ok (.imul, 1) := dk_104 (dk_at dksX5_setCart_0 9 rfl rfl)
theorem dX5_setCart_10 : decode cX5_setCart 10 = .ok (.iadd, 1) := dk_96 (dk_at dksX5_setCart_0 10 rfl rfl)
theorem dX5_setCart_11 : decode cX5_setCart 11 = .ok (.iload_n 2, 1) := dk_28 (dk_at dksX5_setCart_0 11 rfl rfl)
theorem dX5_setCart_12 : decode cX5_setCart 12 = .ok (.iadd, 1) := dk_96 (dk_at dksX5_setCart_0 12 rfl rfl)
theorem dX5_setCart_13 : decode cX5_setCart 13 = .ok (.iload_n 3, 1) := dk_29 (dk_at dksX5_setCart_0 13 rfl rfl)
theorem dX5_setCart_14 : decode cX5_setCart 14 = .ok (.iastore, 1) := dk_79 (dk_at dksX5_setCart_0 14 rfl rfl)
theorem dX5_setCart_15 : decode cX5_setCart 15 = .ok (.return_, 1) := dk_177 (dk_at dksX5_setCart_0 15 rfl rfl)
abbrev cX5_cart : ByteArray := prog_15_method_64_code
def yX5_cart : MethodName := ⟨RX5, "cart", "(I)I"⟩
def dkwX5_cart_4 : List UInt8 := [182, 0, 37, 28, 172]
abbrev dktX5_cart_4 : List UInt8 := dkwX5_cart_4 ++ []
def dkwX5_cart_3 : List UInt8 := [42, 28, 3, 27, 182, 0, 161, 42, 28, 182, 0, 179, 42, 180, 0, 9, 16, 8, 92, 46, 4, 96, 79, 42]
abbrev dktX5_cart_3 : List UInt8 := dkwX5_cart_3 ++ dktX5_cart_4
def dkwX5_cart_2 : List UInt8 := [181, 0, 27, 42, 180, 0, 27, 153, 0, 5, 3, 172, 42, 182, 0, 61, 42, 180, 0, 9, 16, 8, 46, 61]
abbrev dktX5_cart_2 : List UInt8 := dkwX5_cart_2 ++ dktX5_cart_3
def dkwX5_cart_1 : List UInt8 := [6, 160, 0, 7, 4, 167, 0, 4, 3, 4, 6, 182, 0, 57, 153, 0, 7, 5, 167, 0, 4, 3]
abbrev dktX5_cart_1 : List UInt8 := dkwX5_cart_1 ++ dktX5_cart_2
def dkwX5_cart_0 : List UInt8 := [42, 27, 16, 10, 16, 60, 184, 0, 49, 154, 0, 7, 4, 167, 0, 33, 42, 42, 180, 0, 9, 16, 8, 46]
abbrev dktX5_cart_0 : List UInt8 := dkwX5_cart_0 ++ dktX5_cart_1
theorem dksX5_cart_0 : cX5_cart.data.toList.drop 0 = dktX5_cart_0 := by decide +kernel
theorem dksX5_cart_1 : cX5_cart.data.toList.drop 24 = dktX5_cart_1 := dk_seg dksX5_cart_0 24 rfl rfl
theorem dksX5_cart_2 : cX5_cart.data.toList.drop 46 = dktX5_cart_2 := dk_seg dksX5_cart_1 22 rfl rfl
theorem dksX5_cart_3 : cX5_cart.data.toList.drop 70 = dktX5_cart_3 := dk_seg dksX5_cart_2 24 rfl rfl
theorem dksX5_cart_4 : cX5_cart.data.toList.drop 94 = dktX5_cart_4 := dk_seg dksX5_cart_3 24 rfl rfl
theorem dX5_cart_0 : decode cX5_cart 0 = .ok (.aload_n 0, 1) := dk_42 (dk_at dksX5_cart_0 0 rfl rfl)
theorem dX5_cart_1 : decode cX5_cart 1 = .ok (.iload_n 1, 1) := dk_27 (dk_at dksX5_cart_0 1 rfl rfl)
theorem dX5_cart_2 : decode cX5_cart 2 = .ok (.bipush 10, 2) := dk_16 10 (dk_at dksX5_cart_0 2 rfl rfl)
theorem dX5_cart_4 : decode cX5_cart 4 = .ok (.bipush 60, 2) := dk_16 60 (dk_at dksX5_cart_0 4 rfl rfl)
theorem dX5_cart_6 : decode cX5_cart 6 = .ok (.invokestatic 49, 3) := dk_184 0 49 (dk_at dksX5_cart_0 6 rfl rfl)
theorem dX5_cart_9 : decode cX5_cart 9 = .ok (.ifCond .ne 7, 3) := dk_154 0 7 (dk_at dksX5_cart_0 9 rfl rfl)
theorem dX5_cart_12 : decode cX5_cart 12 = .ok (.iconst 1, 1) := dk_4 (dk_at dksX5_cart_0 12 rfl rfl)
theorem dX5_cart_13 : decode cX5_cart 13 = .ok (.goto 33, 3) := dk_167 0 33 (dk_at dksX5_cart_0 13 rfl rfl)
theorem dX5_cart_16 : decode cX5_cart 16 = .ok (.aload_n 0, 1) := dk_42 (dk_at dksX5_cart_0 16 rfl rfl)
theorem dX5_cart_17 : decode cX5_cart 17 = .ok (.aload_n 0, 1) := dk_42 (dk_at dksX5_cart_0 17 rfl rfl)
theorem dX5_cart_18 : decode cX5_cart 18 = .ok (.getfield 9, 3) := dk_180 0 9 (dk_at dksX5_cart_0 18 rfl rfl)
theorem dX5_cart_21 : decode cX5_cart 21 = .ok (.bipush 8, 2) := dk_16 8 (dk_at dksX5_cart_0 21 rfl rfl)
theorem dX5_cart_23 : decode cX5_cart 23 = .ok (.iaload, 1) := dk_46 (dk_at dksX5_cart_0 23 rfl rfl)
theorem dX5_cart_24 : decode cX5_cart 24 = .ok (.iconst 3, 1) := dk_6 (dk_at dksX5_cart_1 0 rfl rfl)
theorem dX5_cart_25 : decode cX5_cart 25 = .ok (.if_icmp .ne 7, 3) := dk_160 0 7 (dk_at dksX5_cart_1 1 rfl rfl)
theorem dX5_cart_28 : decode cX5_cart 28 = .ok (.iconst 1, 1) := dk_4 (dk_at dksX5_cart_1 4 rfl rfl)
theorem dX5_cart_29 : decode cX5_cart 29 = .ok (.goto 4, 3) := dk_167 0 4 (dk_at dksX5_cart_1 5 rfl rfl)
theorem dX5_cart_32 : decode cX5_cart 32 = .ok (.iconst 0, 1) := dk_3 (dk_at dksX5_cart_1 8 rfl rfl)
theorem dX5_cart_33 : decode cX5_cart 33 = .ok (.iconst 1, 1) := dk_4 (dk_at dksX5_cart_1 9 rfl rfl)
theorem dX5_cart_34 : decode cX5_cart 34 = .ok (.iconst 3, 1) := dk_6 (dk_at dksX5_cart_1 10 rfl rfl)
theorem dX5_cart_35 : decode cX5_cart 35 = .ok (.invokevirtual 57, 3) := dk_182 0 57 (dk_at dksX5_cart_1 11 rfl rfl)
theorem dX5_cart_38 : decode cX5_cart 38 = .ok (.ifCond .eq 7, 3) := dk_153 0 7 (dk_at dksX5_cart_1 14 rfl rfl)
theorem dX5_cart_41 : decode cX5_cart 41 = .ok (.iconst 2, 1) := dk_5 (dk_at dksX5_cart_1 17 rfl rfl)
theorem dX5_cart_42 : decode cX5_cart 42 = .ok (.goto 4, 3) := dk_167 0 4 (dk_at dksX5_cart_1 18 rfl rfl)
theorem dX5_cart_45 : decode cX5_cart 45 = .ok (.iconst 0, 1) := dk_3 (dk_at dksX5_cart_1 21 rfl rfl)
theorem dX5_cart_46 : decode cX5_cart 46 = .ok (.putfield 27, 3) := dk_181 0 27 (dk_at dksX5_cart_2 0 rfl rfl)
theorem dX5_cart_49 : decode cX5_cart 49 = .ok (.aload_n 0, 1) := dk_42 (dk_at dksX5_cart_2 3 rfl rfl)
theorem dX5_cart_50 : decode cX5_cart 50 = .ok (.getfield 27, 3) := dk_180 0 27 (dk_at dksX5_cart_2 4 rfl rfl)
theorem dX5_cart_53 : decode cX5_cart 53 = .ok (.ifCond .eq 5, 3) := dk_153 0 5 (dk_at dksX5_cart_2 7 rfl rfl)
theorem dX5_cart_56 : decode cX5_cart 56 = .ok (.iconst 0, 1) := dk_3 (dk_at dksX5_cart_2 10 rfl rfl)
theorem dX5_cart_57 : decode cX5_cart 57 = .ok (.ireturn, 1) := dk_172 (dk_at dksX5_cart_2 11 rfl rfl)
theorem dX5_cart_58 : decode cX5_cart 58 = .ok (.aload_n 0, 1) := dk_42 (dk_at dksX5_cart_2 12 rfl rfl)
theorem dX5_cart_59 : decode cX5_cart 59 = .ok (.invokevirtual 61, 3) := dk_182 0 61 (dk_at dksX5_cart_2 13 rfl rfl)
theorem dX5_cart_62 : decode cX5_cart 62 = .ok (.aload_n 0, 1) := dk_42 (dk_at dksX5_cart_2 16 rfl rfl)
theorem dX5_cart_63 : decode cX5_cart 63 = .ok (.getfield 9, 3) := dk_180 0 9 (dk_at dksX5_cart_2 17 rfl rfl)
theorem dX5_cart_66 : decode cX5_cart 66 = .ok (.bipush 8, 2) := dk_16 8 (dk_at dksX5_cart_2 20 rfl rfl)
theorem dX5_cart_68 : decode cX5_cart 68 = .ok (.iaload, 1) := dk_46 (dk_at dksX5_cart_2 22 rfl rfl)
theorem dX5_cart_69 : decode cX5_cart 69 = .ok (.istore_n 2, 1) := dk_61 (dk_at dksX5_cart_2 23 rfl rfl)
theorem dX5_cart_70 : decode cX5_cart 70 = .ok (.aload_n 0, 1) := dk_42 (dk_at dksX5_cart_3 0 rfl rfl)
theorem dX5_cart_71 : decode cX5_cart 71 = .ok (.iload_n 2, 1) := dk_28 (dk_at dksX5_cart_3 1 rfl rfl)
theorem dX5_cart_72 : decode cX5_cart 72 = .ok (.iconst 0, 1) := dk_3 (dk_at dksX5_cart_3 2 rfl rfl)
theorem dX5_cart_73 : decode cX5_cart 73 = .ok (.iload_n 1, 1) := dk_27 (dk_at dksX5_cart_3 3 rfl rfl)
theorem dX5_cart_74 : decode cX5_cart 74 = .ok (.invokevirtual 161, 3) := dk_182 0 161 (dk_at dksX5_cart_3 4 rfl rfl)
theorem dX5_cart_77 : decode cX5_cart 77 = .ok (.aload_n 0, 1) := dk_42 (dk_at dksX5_cart_3 7 rfl rfl)
theorem dX5_cart_78 : decode cX5_cart 78 = .ok (.iload_n 2, 1) := dk_28 (dk_at dksX5_cart_3 8 rfl rfl)
theorem dX5_cart_79 : decode cX5_cart 79 = .ok (.invokevirtual 179, 3) := dk_182 0 179 (dk_at dksX5_cart_3 9 rfl rfl)
theorem dX5_cart_82 : decode cX5_cart 82 = .ok (.aload_n 0, 1) := dk_42 (dk_at dksX5_cart_3 12 rfl rfl)
theorem dX5_cart_83 : decode cX5_cart 83 = .ok (.getfield 9, 3) := dk_180 0 9 (dk_at dksX5_cart_3 13 rfl rfl)
theorem dX5_cart_86 : decode cX5_cart 86 = .ok (.bipush 8, 2) := dk_16 8 (dk_at dksX5_cart_3 16 rfl rfl)
theorem dX5_cart_88 : decode cX5_cart 88 = .ok (.dup2, 1) := dk_92 (dk_at dksX5_cart_3 18 rfl rfl)
theorem dX5_cart_89 : decode cX5_cart 89 = .ok (.iaload, 1) := dk_46 (dk_at dksX5_cart_3 19 rfl rfl)
theorem dX5_cart_90 : decode cX5_cart 90 = .ok (.iconst 1, 1) := dk_4 (dk_at dksX5_cart_3 20 rfl rfl)
theorem dX5_cart_91 : decode cX5_cart 91 = .ok (.iadd, 1) := dk_96 (dk_at dksX5_cart_3 21 rfl rfl)
theorem dX5_cart_92 : decode cX5_cart 92 = .ok (.iastore, 1) := dk_79 (dk_at dksX5_cart_3 22 rfl rfl)
theorem dX5_cart_93 : decode cX5_cart 93 = .ok (.aload_n 0, 1) := dk_42 (dk_at dksX5_cart_3 23 rfl rfl)
theorem dX5_cart_94 : decode cX5_cart 94 = .ok (.invokevirtual 37, 3) := dk_182 0 37 (dk_at dksX5_cart_4 0 rfl rfl)
theorem dX5_cart_97 : decode cX5_cart 97 = .ok (.iload_n 2, 1) := dk_28 (dk_at dksX5_cart_4 3 rfl rfl)
theorem dX5_cart_98 : decode cX5_cart 98 = .ok (.ireturn, 1) := dk_172 (dk_at dksX5_cart_4 4 rfl rfl)
abbrev cX5_gather : ByteArray := prog_15_method_67_code
def yX5_gather : MethodName := ⟨RX5, "gather", "(III)I"⟩
def dkwX5_gather_0 : List UInt8 := [42, 182, 0, 61, 42, 42, 27, 28, 29, 182, 0, 196, 4, 3, 5, 182, 0, 78, 172]
abbrev dktX5_gather_0 : List UInt8 := dkwX5_gather_0 ++ []
theorem dksX5_gather_0 : cX5_gather.data.toList.drop 0 = dktX5_gather_0 := by decide +kernel
theorem dX5_gather_0 : decode cX5_gather 0 = .ok (.aload_n 0, 1) := dk_42 (dk_at dksX5_gather_0 0 rfl rfl)
theorem dX5_gather_1 : decode cX5_gather 1 = .ok (.invokevirtual 61, 3) := dk_182 0 61 (dk_at dksX5_gather_0 1 rfl rfl)
theorem dX5_gather_4 : decode cX5_gather 4 = .ok (.aload_n 0, 1) := dk_42 (dk_at dksX5_gather_0 4 rfl rfl)
theorem dX5_gather_5 : decode cX5_gather 5 = .ok (.aload_n 0, 1) := dk_42 (dk_at dksX5_gather_0 5 rfl rfl)
theorem dX5_gather_6 : decode cX5_gather 6 = .ok (.iload_n 1, 1) := dk_27 (dk_at dksX5_gather_0 6 rfl rfl)
theorem dX5_gather_7 : decode cX5_gather 7 = .ok (.iload_n 2, 1) := dk_28 (dk_at dksX5_gather_0 7 rfl rfl)
theorem dX5_gather_8 : decode cX5_gather 8 = .ok (.iload_n 3, 1) := dk_29 (dk_at dksX5_gather_0 8 rfl rfl)
theorem dX5_gather_9 : decode cX5_gather 9 = .ok (.invokevirtual 196, 3) := dk_182 0 196 (dk_at dksX5_gather_0 9 rfl rfl)
theorem dX5_gather_12 : decode cX5_gather 12 = .ok (.iconst 1, 1) := dk_4 (dk_at dksX5_gather_0 12 rfl rfl)
theorem dX5_gather_13 : decode cX5_gather 13 = .ok (.iconst 0, 1) := dk_3 (dk_at dksX5_gather_0 13 rfl rfl)
theorem dX5_gather_14 : decode cX5_gather 14 = .ok (.iconst 2, 1) := dk_5 (dk_at dksX5_gather_0 14 rfl rfl)
theorem dX5_gather_15 : decode cX5_gather 15 = .ok (.invokevirtual 78, 3) := dk_182 0 78 (dk_at dksX5_gather_0 15 rfl rfl)
theorem dX5_gather_18 : decode cX5_gather 18 = .ok (.ireturn, 1) := dk_172 (dk_at dksX5_gather_0 18 rfl rfl)
abbrev cX5_gathers : ByteArray := prog_15_method_66_code
def yX5_gathers : MethodName := ⟨RX5, "gathers", "(III)I"⟩
def dkwX5_gathers_10 : List UInt8 := [28, 5, 27, 182, 0, 161, 42, 21, 7, 181, 0, 40, 3, 172]
abbrev dktX5_gathers_10 : List UInt8 := dkwX5_gathers_10 ++ []
def dkwX5_gathers_9 : List UInt8 := [182, 0, 57, 153, 0, 5, 6, 172, 42, 28, 4, 42, 28, 4, 182, 0, 164, 21, 7, 96, 182, 0, 161, 42]
abbrev dktX5_gathers_9 : List UInt8 := dkwX5_gathers_9 ++ dktX5_gathers_10
def dkwX5_gathers_8 : List UInt8 := [182, 0, 192, 54, 7, 42, 21, 7, 154, 0, 7, 4, 167, 0, 4, 3, 16, 10, 42, 29, 4, 182, 0, 53]
abbrev dktX5_gathers_8 : List UInt8 := dkwX5_gathers_8 ++ dktX5_gathers_9
def dkwX5_gathers_7 : List UInt8 := [182, 0, 57, 153, 0, 5, 6, 172, 42, 27, 29, 42, 27, 182, 0, 189, 21, 6, 184, 0, 131, 4]
abbrev dktX5_gathers_7 : List UInt8 := dkwX5_gathers_7 ++ dktX5_gathers_8
def dkwX5_gathers_6 : List UInt8 := [154, 0, 28, 42, 21, 6, 154, 0, 7, 4, 167, 0, 4, 3, 16, 9, 42, 28, 4, 182, 0, 164]
abbrev dktX5_gathers_6 : List UInt8 := dkwX5_gathers_6 ++ dktX5_gathers_7
def dkwX5_gathers_5 : List UInt8 := [154, 0, 51, 42, 42, 27, 182, 0, 189, 154, 0, 7, 4, 167, 0, 4, 3, 16, 8, 27, 182, 0, 57]
abbrev dktX5_gathers_5 : List UInt8 := dkwX5_gathers_5 ++ dktX5_gathers_6
def dkwX5_gathers_4 : List UInt8 := [2, 159, 0, 13, 21, 5, 28, 159, 0, 7, 4, 167, 0, 4, 3, 16, 7, 21, 5, 182, 0, 57]
abbrev dktX5_gathers_4 : List UInt8 := dkwX5_gathers_4 ++ dktX5_gathers_5
def dkwX5_gathers_3 : List UInt8 := [21, 4, 27, 159, 0, 7, 4, 167, 0, 4, 3, 16, 6, 21, 4, 182, 0, 57, 154, 0, 79, 42, 21, 5]
abbrev dktX5_gathers_3 : List UInt8 := dkwX5_gathers_3 ++ dktX5_gathers_4
def dkwX5_gathers_2 : List UInt8 := [28, 4, 182, 0, 164, 100, 54, 6, 42, 27, 182, 0, 176, 154, 0, 107, 42, 21, 4, 2, 159, 0, 13]
abbrev dktX5_gathers_2 : List UInt8 := dkwX5_gathers_2 ++ dktX5_gathers_3
def dkwX5_gathers_1 : List UInt8 := [4, 172, 42, 28, 5, 182, 0, 164, 54, 4, 42, 27, 182, 0, 167, 54, 5, 42, 28, 3, 182, 0, 164, 42]
abbrev dktX5_gathers_1 : List UInt8 := dkwX5_gathers_1 ++ dktX5_gathers_2
def dkwX5_gathers_0 : List UInt8 := [42, 27, 182, 0, 173, 153, 0, 19, 42, 28, 182, 0, 186, 153, 0, 11, 42, 29, 182, 0, 68, 154, 0, 5]
abbrev dktX5_gathers_0 : List UInt8 := dkwX5_gathers_0 ++ dktX5_gathers_1
theorem dksX5_gathers_0 : cX5_gathers.data.toList.drop 0 = dktX5_gathers_0 := by decide +kernel
theorem dksX5_gathers_1 : cX5_gathers.data.toList.drop 24 = dktX5_gathers_1 := dk_seg dksX5_gathers_0 24 rfl rfl
theorem dksX5_gathers_2 : cX5_gathers.data.toList.drop 48 = dktX5_gathers_2 := dk_seg dksX5_gathers_1 24 rfl rfl
theorem dksX5_gathers_3 : cX5_gathers.data.toList.drop 71 = dktX5_gathers_3 := dk_seg dksX5_gathers_2 23 rfl rfl
theorem dksX5_gathers_4 : cX5_gathers.data.toList.drop 95 = dktX5_gathers_4 := dk_seg dksX5_gathers_3 24 rfl rfl
theorem dksX5_gathers_5 : cX5_gathers.data.toList.drop 117 = dktX5_gathers_5 := dk_seg dksX5_gathers_4 22 rfl rfl
theorem dksX5_gathers_6 : cX5_gathers.data.toList.drop 140 = dktX5_gathers_6 := dk_seg dksX5_gathers_5 23 rfl rfl
theorem dksX5_gathers_7 : cX5_gathers.data.toList.drop 162 = dktX5_gathers_7 := dk_seg dksX5_gathers_6 22 rfl rfl
theorem dksX5_gathers_8 : cX5_gathers.data.toList.drop 184 = dktX5_gathers_8 := dk_seg dksX5_gathers_7 22 rfl rfl
theorem dksX5_gathers_9 : cX5_gathers.data.toList.drop 208 = dktX5_gathers_9 := dk_seg dksX5_gathers_8 24 rfl rfl
theorem dksX5_gathers_10 : cX5_gathers.data.toList.drop 232 = dktX5_gathers_10 := dk_seg dksX5_gathers_9 24 rfl rfl
theorem dX5_gathers_0 : decode cX5_gathers 0 = .ok (.aload_n 0, 1) := dk_42 (dk_at dksX5_gathers_0 0 rfl rfl)
theorem dX5_gathers_1 : decode cX5_gathers 1 = .ok (.iload_n 1, 1) := dk_27 (dk_at dksX5_gathers_0 1 rfl rfl)
theorem dX5_gathers_2 : decode cX5_gathers 2 = .ok (.invokevirtual 173, 3) := dk_182 0 173 (dk_at dksX5_gathers_0 2 rfl rfl)
theorem dX5_gathers_5 : decode cX5_gathers 5 = .ok (.ifCond .eq 19, 3) := dk_153 0 19 (dk_at dksX5_gathers_0 5 rfl rfl)
theorem dX5_gathers_8 : decode cX5_gathers 8 = .ok (.aload_n 0, 1) := dk_42 (dk_at dksX5_gathers_0 8 rfl rfl)
theorem dX5_gathers_9 : decode cX5_gathers 9 = .ok (.iload_n 2, 1) := dk_28 (dk_at dksX5_gathers_0 9 rfl rfl)
theorem dX5_gathers_10 : decode cX5_gathers 10 = .ok (.invokevirtual 186, 3) := dk_182 0 186 (dk_at dksX5_gathers_0 10 rfl rfl)
theorem dX5_gathers_13 : decode cX5_gathers 13 = .ok (.ifCond .eq 11, 3) := dk_153 0 11 (dk_at dksX5_gathers_0 13 rfl rfl)
theorem dX5_gathers_16 : decode cX5_gathers 16 = .ok (.aload_n 0, 1) := dk_42 (dk_at dksX5_gathers_0 16 rfl rfl)
theorem dX5_gathers_17 : decode cX5_gathers 17 = .ok (.iload_n 3, 1) := dk_29 (dk_at dksX5_gathers_0 17 rfl rfl)
theorem dX5_gathers_18 : decode cX5_gathers 18 = .ok (.invokevirtual 68, 3) := dk_182 0 68 (dk_at dksX5_gathers_0 18 rfl rfl)
theorem dX5_gathers_21 : decode cX5_gathers 21 = .ok (.ifCond .ne 5, 3) := dk_154 0 5 (dk_at dksX5_gathers_0 21 rfl rfl)
theorem dX5_gathers_24 : decode cX5_gathers 24 = .ok (.iconst 1, 1) := dk_4 (dk_at dksX5_gathers_1 0 rfl rfl)
theorem dX5_gathers_25 : decode cX5_gathers 25 = .ok (.ireturn, 1) := dk_172 (dk_at dksX5_gathers_1 1 rfl rfl)
theorem dX5_gathers_26 : decode cX5_gathers 26 = .ok (.aload_n 0, 1) := dk_42 (dk_at dksX5_gathers_1 2 rfl rfl)
theorem dX5_gathers_27 : decode cX5_gathers 27 = .ok (.iload_n 2, 1) := dk_28 (dk_at dksX5_gathers_1 3 rfl rfl)
theorem dX5_gathers_28 : decode cX5_gathers 28 = .ok (.iconst 2, 1) := dk_5 (dk_at dksX5_gathers_1 4 rfl rfl)
theorem dX5_gathers_29 : decode cX5_gathers 29 = .ok (.invokevirtual 164, 3) := dk_182 0 164 (dk_at dksX5_gathers_1 5 rfl rfl)
theorem dX5_gathers_32 : decode cX5_gathers 32 = .ok (.istore 4, 2) := dk_54 4 (dk_at dksX5_gathers_1 8 rfl rfl)
theorem dX5_gathers_34 : decode cX5_gathers 34 = .ok (.aload_n 0, 1) := dk_42 (dk_at dksX5_gathers_1 10 rfl rfl)
theorem dX5_gathers_35 : decode cX5_gathers 35 = .ok (.iload_n 1, 1) := dk_27 (dk_at dksX5_gathers_1 11 rfl rfl)
theorem dX5_gathers_36 : decode cX5_gathers 36 = .ok (.invokevirtual 167, 3) := dk_182 0 167 (dk_at dksX5_gathers_1 12 rfl rfl)
theorem dX5_gathers_39 : decode cX5_gathers 39 = .ok (.istore 5, 2) := dk_54 5 (dk_at dksX5_gathers_1 15 rfl rfl)
theorem dX5_gathers_41 : decode cX5_gathers 41 = .ok (.aload_n 0, 1) := dk_42 (dk_at dksX5_gathers_1 17 rfl rfl)
theorem dX5_gathers_42 : decode cX5_gathers 42 = .ok (.iload_n 2, 1) := dk_28 (dk_at dksX5_gathers_1 18 rfl rfl)
theorem dX5_gathers_43 : decode cX5_gathers 43 = .ok (.iconst 0, 1) := dk_3 (dk_at dksX5_gathers_1 19 rfl rfl)
theorem dX5_gathers_44 : decode cX5_gathers 44 = .ok (.invokevirtual 164, 3) := dk_182 0 164 (dk_at dksX5_gathers_1 20 rfl rfl)
theorem dX5_gathers_47 : decode cX5_gathers 47 = .ok (.aload_n 0, 1) := dk_42 (dk_at dksX5_gathers_1 23 rfl rfl)
theorem dX5_gathers_48 : decode cX5_gathers 48 = .ok (.iload_n 2, 1) := dk_28 (dk_at dksX5_gathers_2 0 rfl rfl)
theorem dX5_gathers_49 : decode cX5_gathers 49 = .ok (.iconst 1, 1) := dk_4 (dk_at dksX5_gathers_2 1 rfl rfl)
theorem dX5_gathers_50 : decode cX5_gathers 50 = .ok (.invokevirtual 164, 3) := dk_182 0 164 (dk_at dksX5_gathers_2 2 rfl rfl)
theorem dX5_gathers_53 : decode cX5_gathers 53 = .ok (.isub, 1) := dk_100 (dk_at dksX5_gathers_2 5 rfl rfl)
theorem dX5_gathers_54 : decode cX5_gathers 54 = .ok (.istore 6, 2) := dk_54 6 (dk_at dksX5_gathers_2 6 rfl rfl)
theorem dX5_gathers_56 : decode cX5_gathers 56 = .ok (.aload_n 0, 1) := dk_42 (dk_at dksX5_gathers_2 8 rfl rfl)
theorem dX5_gathers_57 : decode cX5_gathers 57 = .ok (.iload_n 1, 1) := dk_27 (dk_at dksX5_gathers_2 9 rfl rfl)
theorem dX5_gathers_58 : decode cX5_gathers 58 = .ok (.invokevirtual 176, 3) := dk_182 0 176 (dk_at dksX5_gathers_2 10 rfl rfl)
theorem dX5_gathers_61 : decode cX5_gathers 61 = .ok (.ifCond .ne 107, 3) := dk_154 0 107 (dk_at dksX5_gathers_2 13 rfl rfl)
theorem dX5_gathers_64 : decode cX5_gathers 64 = .ok (.aload_n 0, 1) := dk_42 (dk_at dksX5_gathers_2 16 rfl rfl)
theorem dX5_gathers_65 : decode cX5_gathers 65 = .ok (.iload 4, 2) := dk_21 4 (dk_at dksX5_gathers_2 17 rfl rfl)
theorem dX5_gathers_67 : decode cX5_gathers 67 = .ok (.iconst (-1), 1) := dk_2 (dk_at dksX5_gathers_2 19 rfl rfl)
theorem dX5_gathers_68 : decode cX5_gathers 68 = .ok (.if_icmp .eq 13, 3) := dk_159 0 13 (dk_at dksX5_gathers_2 20 rfl rfl)
theorem dX5_gathers_71 : decode cX5_gathers 71 = .ok (.iload 4, 2) := dk_21 4 (dk_at dksX5_gathers_3 0 rfl rfl)
theorem dX5_gathers_73 : decode cX5_gathers 73 = .ok (.iload_n 1, 1) := dk_27 (dk_at dksX5_gathers_3 2 rfl rfl)
theorem dX5_gathers_74 : decode cX5_gathers 74 = .ok (.if_icmp .eq 7, 3) := dk_159 0 7 (dk_at dksX5_gathers_3 3 rfl rfl)
theorem dX5_gathers_77 : decode cX5_gathers 77 = .ok (.iconst 1, 1) := dk_4 (dk_at dksX5_gathers_3 6 rfl rfl)
theorem dX5_gathers_78 : decode cX5_gathers 78 = .ok (.goto 4, 3) := dk_167 0 4 (dk_at dksX5_gathers_3 7 rfl rfl)
theorem dX5_gathers_81 : decode cX5_gathers 81 = .ok (.iconst 0, 1) := dk_3 (dk_at dksX5_gathers_3 10 rfl rfl)
theorem dX5_gathers_82 : decode cX5_gathers 82 = .ok (.bipush 6, 2) := dk_16 6 (dk_at dksX5_gathers_3 11 rfl rfl)
theorem dX5_gathers_84 : decode cX5_gathers 84 = .ok (.iload 4, 2) := dk_21 4 (dk_at dksX5_gathers_3 13 rfl rfl)
theorem dX5_gathers_86 : decode cX5_gathers 86 = .ok (.invokevirtual 57, 3) := dk_182 0 57 (dk_at dksX5_gathers_3 15 rfl rfl)
theorem dX5_gathers_89 : decode cX5_gathers 89 = .ok (.ifCond .ne 79, 3) := dk_154 0 79 (dk_at dksX5_gathers_3 18 rfl rfl)
theorem dX5_gathers_92 : decode cX5_gathers 92 = .ok (.aload_n 0, 1) := dk_42 (dk_at dksX5_gathers_3 21 rfl rfl)
theorem dX5_gathers_93 : decode cX5_gathers 93 = .ok (.iload 5, 2) := dk_21 5 (dk_at dksX5_gathers_3 22 rfl rfl)
theorem dX5_gathers_95 : decode cX5_gathers 95 = .ok (.iconst (-1), 1) := dk_2 (dk_at dksX5_gathers_4 0 rfl rfl)
theorem dX5_gathers_96 : decode cX5_gathers 96 = .ok (.if_icmp .eq 13, 3) := dk_159 0 13 (dk_at dksX5_gathers_4 1 rfl rfl)
theorem dX5_gathers_99 : decode cX5_gathers 99 = .ok (.iload 5, 2) := dk_21 5 (dk_at dksX5_gathers_4 4 rfl rfl)
theorem dX5_gathers_101 : decode cX5_gathers 101 = .ok (.iload_n 2, 1) := dk_28 (dk_at dksX5_gathers_4 6 rfl rfl)
theorem dX5_gathers_102 : decode cX5_gathers 102 = .ok (.if_icmp .eq 7, 3) := dk_159 0 7 (dk_at dksX5_gathers_4 7 rfl rfl)
theorem dX5_gathers_105 : decode cX5_gathers 105 = .ok (.iconst 1, 1) := dk_4 (dk_at dksX5_gathers_4 10 rfl rfl)
theorem dX5_gathers_106 : decode cX5_gathers 106 = .ok (.goto 4, 3) := dk_167 0 4 (dk_at dksX5_gathers_4 11 rfl rfl)
theorem dX5_gathers_109 : decode cX5_gathers 109 = .ok (.iconst 0, 1) := dk_3 (dk_at dksX5_gathers_4 14 rfl rfl)
theorem dX5_gathers_110 : decode cX5_gathers 110 = .ok (.bipush 7, 2) := dk_16 7 (dk_at dksX5_gathers_4 15 rfl rfl)
theorem dX5_gathers_112 : decode cX5_gathers 112 = .ok (.iload 5, 2) := dk_21 5 (dk_at dksX5_gathers_4 17 rfl rfl)
theorem dX5_gathers_114 : decode cX5_gathers 114 = .ok (.invokevirtual 57, 3) := dk_182 0 57 (dk_at dksX5_gathers_4 19 rfl rfl)
theorem dX5_gathers_117 : decode cX5_gathers 117 = .ok (.ifCond .ne 51, 3) := dk_154 0 51 (dk_at dksX5_gathers_5 0 rfl rfl)
theorem dX5_gathers_120 : decode cX5_gathers 120 = .ok (.aload_n 0, 1) := dk_42 (dk_at dksX5_gathers_5 3 rfl rfl)
theorem dX5_gathers_121 : decode cX5_gathers 121 = .ok (.aload_n 0, 1) := dk_42 (dk_at dksX5_gathers_5 4 rfl rfl)
theorem dX5_gathers_122 : decode cX5_gathers 122 = .ok (.iload_n 1, 1) := dk_27 (dk_at dksX5_gathers_5 5 rfl rfl)
theorem dX5_gathers_123 : decode cX5_gathers 123 = .ok (.invokevirtual 189, 3) := dk_182 0 189 (dk_at dksX5_gathers_5 6 rfl rfl)
theorem dX5_gathers_126 : decode cX5_gathers 126 = .ok (.ifCond .ne 7, 3) := dk_154 0 7 (dk_at dksX5_gathers_5 9 rfl rfl)
theorem dX5_gathers_129 : decode cX5_gathers 129 = .ok (.iconst 1, 1) := dk_4 (dk_at dksX5_gathers_5 12 rfl rfl)
theorem dX5_gathers_130 : decode cX5_gathers 130 = .ok (.goto 4, 3) := dk_167 0 4 (dk_at dksX5_gathers_5 13 rfl rfl)
theorem dX5_gathers_133 : decode cX5_gathers 133 = .ok (.iconst 0, 1) := dk_3 (dk_at dksX5_gathers_5 16 rfl rfl)
theorem dX5_gathers_134 : decode cX5_gathers 134 = .ok (.bipush 8, 2) := dk_16 8 (dk_at dksX5_gathers_5 17 rfl rfl)
theorem dX5_gathers_136 : decode cX5_gathers 136 = .ok (.iload_n 1, 1) := dk_27 (dk_at dksX5_gathers_5 19 rfl rfl)
theorem dX5_gathers_137 : decode cX5_gathers 137 = .ok (.invokevirtual 57, 3) := dk_182 0 57 (dk_at dksX5_gathers_5 20 rfl rfl)
theorem dX5_gathers_140 : decode cX5_gathers 140 = .ok (.ifCond .ne 28, 3) := dk_154 0 28 (dk_at dksX5_gathers_6 0 rfl rfl)
theorem dX5_gathers_143 : decode cX5_gathers 143 = .ok (.aload_n 0, 1) := dk_42 (dk_at dksX5_gathers_6 3 rfl rfl)
theorem dX5_gathers_144 : decode cX5_gathers 144 = .ok (.iload 6, 2) := dk_21 6 (dk_at dksX5_gathers_6 4 rfl rfl)
theorem dX5_gathers_146 : decode cX5_gathers 146 = .ok (.ifCond .ne 7, 3) := dk_154 0 7 (dk_at dksX5_gathers_6 6 rfl rfl)
theorem dX5_gathers_149 : decode cX5_gathers 149 = .ok (.iconst 1, 1) := dk_4 (dk_at dksX5_gathers_6 9 rfl rfl)
theorem dX5_gathers_150 : decode cX5_gathers 150 = .ok (.goto 4, 3) := dk_167 0 4 (dk_at dksX5_gathers_6 10 rfl rfl)
theorem dX5_gathers_153 : decode cX5_gathers 153 = .ok (.iconst 0, 1) := dk_3 (dk_at dksX5_gathers_6 13 rfl rfl)
theorem dX5_gathers_154 : decode cX5_gathers 154 = .ok (.bipush 9, 2) := dk_16 9 (dk_at dksX5_gathers_6 14 rfl rfl)
theorem dX5_gathers_156 : decode cX5_gathers 156 = .ok (.aload_n 0, 1) := dk_42 (dk_at dksX5_gathers_6 16 rfl rfl)
theorem dX5_gathers_157 : decode cX5_gathers 157 = .ok (.iload_n 2, 1) := dk_28 (dk_at dksX5_gathers_6 17 rfl rfl)
theorem dX5_gathers_158 : decode cX5_gathers 158 = .ok (.iconst 1, 1) := dk_4 (dk_at dksX5_gathers_6 18 rfl rfl)
theorem dX5_gathers_159 : decode cX5_gathers 159 = .ok (.invokevirtual 164, 3) := dk_182 0 164 (dk_at dksX5_gathers_6 19 rfl rfl)
theorem dX5_gathers_162 : decode cX5_gathers 162 = .ok (.invokevirtual 57, 3) := dk_182 0 57 (dk_at dksX5_gathers_7 0 rfl rfl)
theorem dX5_gathers_165 : decode cX5_gathers 165 = .ok (.ifCond .eq 5, 3) := dk_153 0 5 (dk_at dksX5_gathers_7 3 rfl rfl)
theorem dX5_gathers_168 : decode cX5_gathers 168 = .ok (.iconst 3, 1) := dk_6 (dk_at dksX5_gathers_7 6 rfl rfl)
theorem dX5_gathers_169 : decode cX5_gathers 169 = .ok (.ireturn, 1) := dk_172 (dk_at dksX5_gathers_7 7 rfl rfl)
theorem dX5_gathers_170 : decode cX5_gathers 170 = .ok (.aload_n 0, 1) := dk_42 (dk_at dksX5_gathers_7 8 rfl rfl)
theorem dX5_gathers_171 : decode cX5_gathers 171 = .ok (.iload_n 1, 1) := dk_27 (dk_at dksX5_gathers_7 9 rfl rfl)
theorem dX5_gathers_172 : decode cX5_gathers 172 = .ok (.iload_n 3, 1) := dk_29 (dk_at dksX5_gathers_7 10 rfl rfl)
theorem dX5_gathers_173 : decode cX5_gathers 173 = .ok (.aload_n 0, 1) := dk_42 (dk_at dksX5_gathers_7 11 rfl rfl)
theorem dX5_gathers_174 : decode cX5_gathers 174 = .ok (.iload_n 1, 1) := dk_27 (dk_at dksX5_gathers_7 12 rfl rfl)
theorem dX5_gathers_175 : decode cX5_gathers 175 = .ok (.invokevirtual 189, 3) := dk_182 0 189 (dk_at dksX5_gathers_7 13 rfl rfl)
theorem dX5_gathers_178 : decode cX5_gathers 178 = .ok (.iload 6, 2) := dk_21 6 (dk_at dksX5_gathers_7 16 rfl rfl)
theorem dX5_gathers_180 : decode cX5_gathers 180 = .ok (.invokestatic 131, 3) := dk_184 0 131 (dk_at dksX5_gathers_7 18 rfl rfl)
theorem dX5_gathers_183 : decode cX5_gathers 183 = .ok (.iconst 1, 1) := dk_4 (dk_at dksX5_gathers_7 21 rfl rfl)
theorem dX5_gathers_184 : decode cX5_gathers 184 = .ok (.invokevirtual 192, 3) := dk_182 0 192 (dk_at dksX5_gathers_8 0 rfl rfl)
theorem dX5_gathers_187 : decode cX5_gathers 187 = .ok (.istore 7, 2) := dk_54 7 (dk_at dksX5_gathers_8 3 rfl rfl)
theorem dX5_gathers_189 : decode cX5_gathers 189 = .ok (.aload_n 0, 1) := dk_42 (dk_at dksX5_gathers_8 5 rfl rfl)
theorem dX5_gathers_190 : decode cX5_gathers 190 = .ok (.iload 7, 2) := dk_21 7 (dk_at dksX5_gathers_8 6 rfl rfl)
theorem dX5_gathers_192 : decode cX5_gathers 192 = .ok (.ifCond .ne 7, 3) := dk_154 0 7 (dk_at dksX5_gathers_8 8 rfl rfl)
theorem dX5_gathers_195 : decode cX5_gathers 195 = .ok (.iconst 1, 1) := dk_4 (dk_at dksX5_gathers_8 11 rfl rfl)
theorem dX5_gathers_196 : decode cX5_gathers 196 = .ok (.goto 4, 3) := dk_167 0 4 (dk_at dksX5_gathers_8 12 rfl rfl)
theorem dX5_gathers_199 : decode cX5_gathers 199 = .ok (.iconst 0, 1) := dk_3 (dk_at dksX5_gathers_8 15 rfl rfl)
theorem dX5_gathers_200 : decode cX5_gathers 200 = .ok (.bipush 10, 2) := dk_16 10 (dk_at dksX5_gathers_8 16 rfl rfl)
theorem dX5_gathers_202 : decode cX5_gathers 202 = .ok (.aload_n 0, 1) := dk_42 (dk_at dksX5_gathers_8 18 rfl rfl)
theorem dX5_gathers_203 : decode cX5_gathers 203 = .ok (.iload_n 3, 1) := dk_29 (dk_at dksX5_gathers_8 19 rfl rfl)
theorem dX5_gathers_204 : decode cX5_gathers 204 = .ok (.iconst 1, 1) := dk_4 (dk_at dksX5_gathers_8 20 rfl rfl)
theorem dX5_gathers_205 : decode cX5_gathers 205 = .ok (.invokevirtual 53, 3) := dk_182 0 53 (dk_at dksX5_gathers_8 21 rfl rfl)
theorem dX5_gathers_208 : decode cX5_gathers 208 = .ok (.invokevirtual 57, 3) := dk_182 0 57 (dk_at dksX5_gathers_9 0 rfl rfl)
theorem dX5_gathers_211 : decode cX5_gathers 211 = .ok (.ifCond .eq 5, 3) := dk_153 0 5 (dk_at dksX5_gathers_9 3 rfl rfl)
theorem dX5_gathers_214 : decode cX5_gathers 214 = .ok (.iconst 3, 1) := dk_6 (dk_at dksX5_gathers_9 6 rfl rfl)
theorem dX5_gathers_215 : decode cX5_gathers 215 = .ok (.ireturn, 1) := dk_172 (dk_at dksX5_gathers_9 7 rfl rfl)
theorem dX5_gathers_216 : decode cX5_gathers 216 = .ok (.aload_n 0, 1) := dk_42 (dk_at dksX5_gathers_9 8 rfl rfl)
theorem dX5_gathers_217 : decode cX5_gathers 217 = .ok (.iload_n 2, 1) := dk_28 (dk_at dksX5_gathers_9 9 rfl rfl)
theorem dX5_gathers_218 : decode cX5_gathers 218 = .ok (.iconst 1, 1) := dk_4 (dk_at dksX5_gathers_9 10 rfl rfl)
theorem dX5_gathers_219 : decode cX5_gathers 219 = .ok (.aload_n 0, 1) := dk_42 (dk_at dksX5_gathers_9 11 rfl rfl)
theorem dX5_gathers_220 : decode cX5_gathers 220 = .ok (.iload_n 2, 1) := dk_28 (dk_at dksX5_gathers_9 12 rfl rfl)
theorem dX5_gathers_221 : decode cX5_gathers 221 = .ok (.iconst 1, 1) := dk_4 (dk_at dksX5_gathers_9 13 rfl rfl)
theorem dX5_gathers_222 : decode cX5_gathers 222 = .ok (.invokevirtual 164, 3) := dk_182 0 164 (dk_at dksX5_gathers_9 14 rfl rfl)
theorem dX5_gathers_225 : decode cX5_gathers 225 = .ok (.iload 7, 2) := dk_21 7 (dk_at dksX5_gathers_9 17 rfl rfl)
theorem dX5_gathers_227 : decode cX5_gathers 227 = .ok (.iadd, 1) := dk_96 (dk_at dksX5_gathers_9 19 rfl rfl)
theorem dX5_gathers_228 : decode cX5_gathers 228 = .ok (.invokevirtual 161, 3) := dk_182 0 161 (dk_at dksX5_gathers_9 20 rfl rfl)
theorem dX5_gathers_231 : decode cX5_gathers 231 = .ok (.aload_n 0, 1) := dk_42 (dk_at dksX5_gathers_9 23 rfl rfl)
theorem dX5_gathers_232 : decode cX5_gathers 232 = .ok (.iload_n 2, 1) := dk_28 (dk_at dksX5_gathers_10 0 rfl rfl)
theorem dX5_gathers_233 : decode cX5_gathers 233 = .ok (.iconst 2, 1) := dk_5 (dk_at dksX5_gathers_10 1 rfl rfl)
theorem dX5_gathers_234 : decode cX5_gathers 234 = .ok (.iload_n 1, 1) := dk_27 (dk_at dksX5_gathers_10 2 rfl rfl)
theorem dX5_gathers_235 : decode cX5_gathers 235 = .ok (.invokevirtual 161, 3) := dk_182 0 161 (dk_at dksX5_gathers_10 3 rfl rfl)
theorem dX5_gathers_238 : decode cX5_gathers 238 = .ok (.aload_n 0, 1) := dk_42 (dk_at dksX5_gathers_10 6 rfl rfl)
theorem dX5_gathers_239 : decode cX5_gathers 239 = .ok (.iload 7, 2) := dk_21 7 (dk_at dksX5_gathers_10 7 rfl rfl)
theorem dX5_gathers_241 : decode cX5_gathers 241 = .ok (.putfield 40, 3) := dk_181 0 40 (dk_at dksX5_gathers_10 9 rfl rfl)
theorem dX5_gathers_244 : decode cX5_gathers 244 = .ok (.iconst 0, 1) := dk_3 (dk_at dksX5_gathers_10 12 rfl rfl)
theorem dX5_gathers_245 : decode cX5_gathers 245 = .ok (.ireturn, 1) := dk_172 (dk_at dksX5_gathers_10 13 rfl rfl)
abbrev cX5_isCart : ByteArray := prog_15_method_54_code
def yX5_isCart : MethodName := ⟨RX5, "isCart", "(I)Z"⟩
def dkwX5_isCart_0 : List UInt8 := [27, 3, 42, 180, 0, 9, 16, 8, 46, 4, 100, 184, 0, 49, 172]
abbrev dktX5_isCart_0 : List UInt8 := dkwX5_isCart_0 ++ []
theorem dksX5_isCart_0 : cX5_isCart.data.toList.drop 0 = dktX5_isCart_0 := by decide +kernel
theorem dX5_isCart_0 : decode cX5_isCart 0 = .ok (.iload_n 1, 1) := dk_27 (dk_at dksX5_isCart_0 0 rfl rfl)
theorem dX5_isCart_1 : decode cX5_isCart 1 = .ok (.iconst 0, 1) := dk_3 (dk_at dksX5_isCart_0 1 rfl rfl)
theorem dX5_isCart_2 : decode cX5_isCart 2 = .ok (.aload_n 0, 1) := dk_42 (dk_at dksX5_isCart_0 2 rfl rfl)
theorem dX5_isCart_3 : decode cX5_isCart 3 = .ok (.getfield 9, 3) := dk_180 0 9 (dk_at dksX5_isCart_0 3 rfl rfl)
theorem dX5_isCart_6 : decode cX5_isCart 6 = .ok (.bipush 8, 2) := dk_16 8 (dk_at dksX5_isCart_0 6 rfl rfl)
theorem dX5_isCart_8 : decode cX5_isCart 8 = .ok (.iaload, 1) := dk_46 (dk_at dksX5_isCart_0 8 rfl rfl)
theorem dX5_isCart_9 : decode cX5_isCart 9 = .ok (.iconst 1, 1) := dk_4 (dk_at dksX5_isCart_0 9 rfl rfl)
theorem dX5_isCart_10 : decode cX5_isCart 10 = .ok (.isub, 1) := dk_100 (dk_at dksX5_isCart_0 10 rfl rfl)
theorem dX5_isCart_11 : decode cX5_isCart 11 = .ok (.invokestatic 49, 3) := dk_184 0 49 (dk_at dksX5_isCart_0 11 rfl rfl)
theorem dX5_isCart_14 : decode cX5_isCart 14 = .ok (.ireturn, 1) := dk_172 (dk_at dksX5_isCart_0 14 rfl rfl)
abbrev cX5_lacks : ByteArray := prog_15_method_59_code
def yX5_lacks : MethodName := ⟨RX5, "lacks", "(I)I"⟩
def dkwX5_lacks_1 : List UInt8 := [182, 0, 164, 100, 172]
abbrev dktX5_lacks_1 : List UInt8 := dkwX5_lacks_1 ++ []
def dkwX5_lacks_0 : List UInt8 := [42, 27, 182, 0, 167, 61, 42, 27, 5, 182, 0, 170, 28, 2, 160, 0, 7, 3, 167, 0, 9, 42, 28, 4]
abbrev dktX5_lacks_0 : List UInt8 := dkwX5_lacks_0 ++ dktX5_lacks_1
theorem dksX5_lacks_0 : cX5_lacks.data.toList.drop 0 = dktX5_lacks_0 := by decide +kernel
theorem dksX5_lacks_1 : cX5_lacks.data.toList.drop 24 = dktX5_lacks_1 := dk_seg dksX5_lacks_0 24 rfl rfl
theorem dX5_lacks_0 : decode cX5_lacks 0 = .ok (.aload_n 0, 1) := dk_42 (dk_at dksX5_lacks_0 0 rfl rfl)
theorem dX5_lacks_1 : decode cX5_lacks 1 = .ok (.iload_n 1, 1) := dk_27 (dk_at dksX5_lacks_0 1 rfl rfl)
theorem dX5_lacks_2 : decode cX5_lacks 2 = .ok (.invokevirtual 167, 3) := dk_182 0 167 (dk_at dksX5_lacks_0 2 rfl rfl)
theorem dX5_lacks_5 : decode cX5_lacks 5 = .ok (.istore_n 2, 1) := dk_61 (dk_at dksX5_lacks_0 5 rfl rfl)
theorem dX5_lacks_6 : decode cX5_lacks 6 = .ok (.aload_n 0, 1) := dk_42 (dk_at dksX5_lacks_0 6 rfl rfl)
theorem dX5_lacks_7 : decode cX5_lacks 7 = .ok (.iload_n 1, 1) := dk_27 (dk_at dksX5_lacks_0 7 rfl rfl)
theorem dX5_lacks_8 : decode cX5_lacks 8 = .ok (.iconst 2, 1) := dk_5 (dk_at dksX5_lacks_0 8 rfl rfl)
theorem dX5_lacks_9 : decode cX5_lacks 9 = .ok (.invokevirtual 170, 3) := dk_182 0 170 (dk_at dksX5_lacks_0 9 rfl rfl)
theorem dX5_lacks_12 : decode cX5_lacks 12 = .ok (.iload_n 2, 1) := dk_28 (dk_at dksX5_lacks_0 12 rfl rfl)
theorem dX5_lacks_13 : decode cX5_lacks 13 = .ok (.iconst (-1), 1) := dk_2 (dk_at dksX5_lacks_0 13 rfl rfl)
theorem dX5_lacks_14 : decode cX5_lacks 14 = .ok (.if_icmp .ne 7, 3) := dk_160 0 7 (dk_at dksX5_lacks_0 14 rfl rfl)
theorem dX5_lacks_17 : decode cX5_lacks 17 = .ok (.iconst 0, 1) := dk_3 (dk_at dksX5_lacks_0 17 rfl rfl)
theorem dX5_lacks_18 : decode cX5_lacks 18 = .ok (.goto 9, 3) := dk_167 0 9 (dk_at dksX5_lacks_0 18 rfl rfl)
theorem dX5_lacks_21 : decode cX5_lacks 21 = .ok (.aload_n 0, 1) := dk_42 (dk_at dksX5_lacks_0 21 rfl rfl)
theorem dX5_lacks_22 : decode cX5_lacks 22 = .ok (.iload_n 2, 1) := dk_28 (dk_at dksX5_lacks_0 22 rfl rfl)
theorem dX5_lacks_23 : decode cX5_lacks 23 = .ok (.iconst 1, 1) := dk_4 (dk_at dksX5_lacks_0 23 rfl rfl)
theorem dX5_lacks_24 : decode cX5_lacks 24 = .ok (.invokevirtual 164, 3) := dk_182 0 164 (dk_at dksX5_lacks_1 0 rfl rfl)
theorem dX5_lacks_27 : decode cX5_lacks 27 = .ok (.isub, 1) := dk_100 (dk_at dksX5_lacks_1 3 rfl rfl)
theorem dX5_lacks_28 : decode cX5_lacks 28 = .ok (.ireturn, 1) := dk_172 (dk_at dksX5_lacks_1 4 rfl rfl)
abbrev cX5_quiresFor : ByteArray := prog_15_method_65_code
def yX5_quiresFor : MethodName := ⟨RX5, "quiresFor", "(IIIZ)I"⟩
def dkwX5_quiresFor_5 : List UInt8 := [21, 4, 153, 0, 11, 42, 21, 8, 21, 9, 182, 0, 144, 132, 7, 1, 167, 255, 140, 21, 6, 172]
abbrev dktX5_quiresFor_5 : List UInt8 := dkwX5_quiresFor_5 ++ []
def dkwX5_quiresFor_4 : List UInt8 := [42, 21, 8, 5, 182, 0, 82, 29, 21, 6, 100, 184, 0, 131, 54, 9, 21, 6, 21, 9, 96, 54, 6]
abbrev dktX5_quiresFor_4 : List UInt8 := dkwX5_quiresFor_4 ++ dktX5_quiresFor_5
def dkwX5_quiresFor_3 : List UInt8 := [182, 0, 82, 42, 27, 4, 182, 0, 170, 160, 0, 51, 42, 21, 8, 182, 0, 113, 153, 0, 6, 167, 0, 39]
abbrev dktX5_quiresFor_3 : List UInt8 := dkwX5_quiresFor_3 ++ dktX5_quiresFor_4
def dkwX5_quiresFor_2 : List UInt8 := [159, 0, 83, 42, 21, 8, 3, 182, 0, 82, 42, 27, 3, 182, 0, 170, 160, 0, 67, 42, 21, 8, 4]
abbrev dktX5_quiresFor_2 : List UInt8 := dkwX5_quiresFor_2 ++ dktX5_quiresFor_3
def dkwX5_quiresFor_1 : List UInt8 := [162, 0, 111, 21, 6, 29, 162, 0, 105, 42, 21, 5, 21, 7, 182, 0, 110, 54, 8, 21, 8, 2]
abbrev dktX5_quiresFor_1 : List UInt8 := dkwX5_quiresFor_1 ++ dktX5_quiresFor_2
def dkwX5_quiresFor_0 : List UInt8 := [42, 28, 4, 182, 0, 53, 54, 5, 3, 54, 6, 3, 54, 7, 21, 7, 42, 28, 3, 182, 0, 53]
abbrev dktX5_quiresFor_0 : List UInt8 := dkwX5_quiresFor_0 ++ dktX5_quiresFor_1
theorem dksX5_quiresFor_0 : cX5_quiresFor.data.toList.drop 0 = dktX5_quiresFor_0 := by decide +kernel
theorem dksX5_quiresFor_1 : cX5_quiresFor.data.toList.drop 22 = dktX5_quiresFor_1 := dk_seg dksX5_quiresFor_0 22 rfl rfl
theorem dksX5_quiresFor_2 : cX5_quiresFor.data.toList.drop 44 = dktX5_quiresFor_2 := dk_seg dksX5_quiresFor_1 22 rfl rfl
theorem dksX5_quiresFor_3 : cX5_quiresFor.data.toList.drop 67 = dktX5_quiresFor_3 := dk_seg dksX5_quiresFor_2 23 rfl rfl
theorem dksX5_quiresFor_4 : cX5_quiresFor.data.toList.drop 91 = dktX5_quiresFor_4 := dk_seg dksX5_quiresFor_3 24 rfl rfl
theorem dksX5_quiresFor_5 : cX5_quiresFor.data.toList.drop 114 = dktX5_quiresFor_5 := dk_seg dksX5_quiresFor_4 23 rfl rfl
theorem dX5_quiresFor_0 : decode cX5_quiresFor 0 = .ok (.aload_n 0, 1) := dk_42 (dk_at dksX5_quiresFor_0 0 rfl rfl)
theorem dX5_quiresFor_1 : decode cX5_quiresFor 1 = .ok (.iload_n 2, 1) := dk_28 (dk_at dksX5_quiresFor_0 1 rfl rfl)
theorem dX5_quiresFor_2 : decode cX5_quiresFor 2 = .ok (.iconst 1, 1) := dk_4 (dk_at dksX5_quiresFor_0 2 rfl rfl)
theorem dX5_quiresFor_3 : decode cX5_quiresFor 3 = .ok (.invokevirtual 53, 3) := dk_182 0 53 (dk_at dksX5_quiresFor_0 3 rfl rfl)
theorem dX5_quiresFor_6 : decode cX5_quiresFor 6 = .ok (.istore 5, 2) := dk_54 5 (dk_at dksX5_quiresFor_0 6 rfl rfl)
theorem dX5_quiresFor_8 : decode cX5_quiresFor 8 = .ok (.iconst 0, 1) := dk_3 (dk_at dksX5_quiresFor_0 8 rfl rfl)
theorem dX5_quiresFor_9 : decode cX5_quiresFor 9 = .ok (.istore 6, 2) := dk_54 6 (dk_at dksX5_quiresFor_0 9 rfl rfl)
theorem dX5_quiresFor_11 : decode cX5_quiresFor 11 = .ok (.iconst 0, 1) := dk_3 (dk_at dksX5_quiresFor_0 11 rfl rfl)
theorem dX5_quiresFor_12 : decode cX5_quiresFor 12 = .ok (.istore 7, 2) := dk_54 7 (dk_at dksX5_quiresFor_0 12 rfl rfl)
theorem dX5_quiresFor_14 : decode cX5_quiresFor 14 = .ok (.iload 7, 2) := dk_21 7 (dk_at dksX5_quiresFor_0 14 rfl rfl)
theorem dX5_quiresFor_16 : decode cX5_quiresFor 16 = .ok (.aload_n 0, 1) := dk_42 (dk_at dksX5_quiresFor_0 16 rfl rfl)
theorem dX5_quiresFor_17 : decode cX5_quiresFor 17 = .ok (.iload_n 2, 1) := dk_28 (dk_at dksX5_quiresFor_0 17 rfl rfl)
theorem dX5_quiresFor_18 : decode cX5_quiresFor 18 = .ok (.iconst 0, 1) := dk_3 (dk_at dksX5_quiresFor_0 18 rfl rfl)
theorem dX5_quiresFor_19 : decode cX5_quiresFor 19 = .ok (.invokevirtual 53, 3) := dk_182 0 53 (dk_at dksX5_quiresFor_0 19 rfl rfl)
theorem dX5_quiresFor_22 : decode cX5_quiresFor 22 = .ok (.if_icmp .ge 111, 3) := dk_162 0 111 (dk_at dksX5_quiresFor_1 0 rfl rfl)
theorem dX5_quiresFor_25 : decode cX5_quiresFor 25 = .ok (.iload 6, 2) := dk_21 6 (dk_at dksX5_quiresFor_1 3 rfl rfl)
theorem dX5_quiresFor_27 : decode cX5_quiresFor 27 = .ok (.iload_n 3, 1) := dk_29 (dk_at dksX5_quiresFor_1 5 rfl rfl)
theorem dX5_quiresFor_28 : decode cX5_quiresFor 28 = .ok (.if_icmp .ge 105, 3) := dk_162 0 105 (dk_at dksX5_quiresFor_1 6 rfl rfl)
theorem dX5_quiresFor_31 : decode cX5_quiresFor 31 = .ok (.aload_n 0, 1) := dk_42 (dk_at dksX5_quiresFor_1 9 rfl rfl)
theorem dX5_quiresFor_32 : decode cX5_quiresFor 32 = .ok (.iload 5, 2) := dk_21 5 (dk_at dksX5_quiresFor_1 10 rfl rfl)
theorem dX5_quiresFor_34 : decode cX5_quiresFor 34 = .ok (.iload 7, 2) := dk_21 7 (dk_at dksX5_quiresFor_1 12 rfl rfl)
theorem dX5_quiresFor_36 : decode cX5_quiresFor 36 = .ok (.invokevirtual 110, 3) := dk_182 0 110 (dk_at dksX5_quiresFor_1 14 rfl rfl)
theorem dX5_quiresFor_39 : decode cX5_quiresFor 39 = .ok (.istore 8, 2) := dk_54 8 (dk_at dksX5_quiresFor_1 17 rfl rfl)
theorem dX5_quiresFor_41 : decode cX5_quiresFor 41 = .ok (.iload 8, 2) := dk_21 8 (dk_at dksX5_quiresFor_1 19 rfl rfl)
theorem dX5_quiresFor_43 : decode cX5_quiresFor 43 = .ok (.iconst (-1), 1) := dk_2 (dk_at dksX5_quiresFor_1 21 rfl rfl)
theorem dX5_quiresFor_44 : decode cX5_quiresFor 44 = .ok (.if_icmp .eq 83, 3) := dk_159 0 83 (dk_at dksX5_quiresFor_2 0 rfl rfl)
theorem dX5_quiresFor_47 : decode cX5_quiresFor 47 = .ok (.aload_n 0, 1) := dk_42 (dk_at dksX5_quiresFor_2 3 rfl rfl)
theorem dX5_quiresFor_48 : decode cX5_quiresFor 48 = .ok (.iload 8, 2) := dk_21 8 (dk_at dksX5_quiresFor_2 4 rfl rfl)
theorem dX5_quiresFor_50 : decode cX5_quiresFor 50 = .ok (.iconst 0, 1) := dk_3 (dk_at dksX5_quiresFor_2 6 rfl rfl)
theorem dX5_quiresFor_51 : decode cX5_quiresFor 51 = .ok (.invokevirtual 82, 3) := dk_182 0 82 (dk_at dksX5_quiresFor_2 7 rfl rfl)
theorem dX5_quiresFor_54 : decode cX5_quiresFor 54 = .ok (.aload_n 0, 1) := dk_42 (dk_at dksX5_quiresFor_2 10 rfl rfl)
theorem dX5_quiresFor_55 : decode cX5_quiresFor 55 = .ok (.iload_n 1, 1) := dk_27 (dk_at dksX5_quiresFor_2 11 rfl rfl)
theorem dX5_quiresFor_56 : decode cX5_quiresFor 56 = .ok (.iconst 0, 1) := dk_3 (dk_at dksX5_quiresFor_2 12 rfl rfl)
theorem dX5_quiresFor_57 : decode cX5_quiresFor 57 = .ok (.invokevirtual 170, 3) := dk_182 0 170 (dk_at dksX5_quiresFor_2 13 rfl rfl)
theorem dX5_quiresFor_60 : decode cX5_quiresFor 60 = .ok (.if_icmp .ne 67, 3) := dk_160 0 67 (dk_at dksX5_quiresFor_2 16 rfl rfl)
theorem dX5_quiresFor_63 : decode cX5_quiresFor 63 = .ok (.aload_n 0, 1) := dk_42 (dk_at dksX5_quiresFor_2 19 rfl rfl)
theorem dX5_quiresFor_64 : decode cX5_quiresFor 64 = .ok (.iload 8, 2) := dk_21 8 (dk_at dksX5_quiresFor_2 20 rfl rfl)
theorem dX5_quiresFor_66 : decode cX5_quiresFor 66 = .ok (.iconst 1, 1) := dk_4 (dk_at dksX5_quiresFor_2 22 rfl rfl)
theorem dX5_quiresFor_67 : decode cX5_quiresFor 67 = .ok (.invokevirtual 82, 3) := dk_182 0 82 (dk_at dksX5_quiresFor_3 0 rfl rfl)
theorem dX5_quiresFor_70 : decode cX5_quiresFor 70 = .ok (.aload_n 0, 1) := dk_42 (dk_at dksX5_quiresFor_3 3 rfl rfl)
theorem dX5_quiresFor_71 : decode cX5_quiresFor 71 = .ok (.iload_n 1, 1) := dk_27 (dk_at dksX5_quiresFor_3 4 rfl rfl)
theorem dX5_quiresFor_72 : decode cX5_quiresFor 72 = .ok (.iconst 1, 1) := dk_4 (dk_at dksX5_quiresFor_3 5 rfl rfl)
theorem dX5_quiresFor_73 : decode cX5_quiresFor 73 = .ok (.invokevirtual 170, 3) := dk_182 0 170 (dk_at dksX5_quiresFor_3 6 rfl rfl)
theorem dX5_quiresFor_76 : decode cX5_quiresFor 76 = .ok (.if_icmp .ne 51, 3) := dk_160 0 51 (dk_at dksX5_quiresFor_3 9 rfl rfl)
theorem dX5_quiresFor_79 : decode cX5_quiresFor 79 = .ok (.aload_n 0, 1) := dk_42 (dk_at dksX5_quiresFor_3 12 rfl rfl)
theorem dX5_quiresFor_80 : decode cX5_quiresFor 80 = .ok (.iload 8, 2) := dk_21 8 (dk_at dksX5_quiresFor_3 13 rfl rfl)
theorem dX5_quiresFor_82 : decode cX5_quiresFor 82 = .ok (.invokevirtual 113, 3) := dk_182 0 113 (dk_at dksX5_quiresFor_3 15 rfl rfl)
theorem dX5_quiresFor_85 : decode cX5_quiresFor 85 = .ok (.ifCond .eq 6, 3) := dk_153 0 6 (dk_at dksX5_quiresFor_3 18 rfl rfl)
theorem dX5_quiresFor_88 : decode cX5_quiresFor 88 = .ok (.goto 39, 3) := dk_167 0 39 (dk_at dksX5_quiresFor_3 21 rfl rfl)
theorem dX5_quiresFor_91 : decode cX5_quiresFor 91 = .ok (.aload_n 0, 1) := dk_42 (dk_at dksX5_quiresFor_4 0 rfl rfl)
theorem dX5_quiresFor_92 : decode cX5_quiresFor 92 = .ok (.iload 8, 2) := dk_21 8 (dk_at dksX5_quiresFor_4 1 rfl rfl)
theorem dX5_quiresFor_94 : decode cX5_quiresFor 94 = .ok (.iconst 2, 1) := dk_5 (dk_at dksX5_quiresFor_4 3 rfl rfl)
theorem dX5_quiresFor_95 : decode cX5_quiresFor 95 = .ok (.invokevirtual 82, 3) := dk_182 0 82 (dk_at dksX5_quiresFor_4 4 rfl rfl)
theorem dX5_quiresFor_98 : decode cX5_quiresFor 98 = .ok (.iload_n 3, 1) := dk_29 (dk_at dksX5_quiresFor_4 7 rfl rfl)
theorem dX5_quiresFor_99 : decode cX5_quiresFor 99 = .ok (.iload 6, 2) := dk_21 6 (dk_at dksX5_quiresFor_4 8 rfl rfl)
theorem dX5_quiresFor_101 : decode cX5_quiresFor 101 = .ok (.isub, 1) := dk_100 (dk_at dksX5_quiresFor_4 10 rfl rfl)
theorem dX5_quiresFor_102 : decode cX5_quiresFor 102 = .ok (.invokestatic 131, 3) := dk_184 0 131 (dk_at dksX5_quiresFor_4 11 rfl rfl)
theorem dX5_quiresFor_105 : decode cX5_quiresFor 105 = .ok (.istore 9, 2) := dk_54 9 (dk_at dksX5_quiresFor_4 14 rfl rfl)
theorem dX5_quiresFor_107 : decode cX5_quiresFor 107 = .ok (.iload 6, 2) := dk_21 6 (dk_at dksX5_quiresFor_4 16 rfl rfl)
theorem dX5_quiresFor_109 : decode cX5_quiresFor 109 = .ok (.iload 9, 2) := dk_21 9 (dk_at dksX5_quiresFor_4 18 rfl rfl)
theorem dX5_quiresFor_111 : decode cX5_quiresFor 111 = .ok (.iadd, 1) := dk_96 (dk_at dksX5_quiresFor_4 20 rfl rfl)
theorem dX5_quiresFor_112 : decode cX5_quiresFor 112 = .ok (.istore 6, 2) := dk_54 6 (dk_at dksX5_quiresFor_4 21 rfl rfl)
theorem dX5_quiresFor_114 : decode cX5_quiresFor 114 = .ok (.iload 4, 2) := dk_21 4 (dk_at dksX5_quiresFor_5 0 rfl rfl)
theorem dX5_quiresFor_116 : decode cX5_quiresFor 116 = .ok (.ifCond .eq 11, 3) := dk_153 0 11 (dk_at dksX5_quiresFor_5 2 rfl rfl)
theorem dX5_quiresFor_119 : decode cX5_quiresFor 119 = .ok (.aload_n 0, 1) := dk_42 (dk_at dksX5_quiresFor_5 5 rfl rfl)
theorem dX5_quiresFor_120 : decode cX5_quiresFor 120 = .ok (.iload 8, 2) := dk_21 8 (dk_at dksX5_quiresFor_5 6 rfl rfl)
theorem dX5_quiresFor_122 : decode cX5_quiresFor 122 = .ok (.iload 9, 2) := dk_21 9 (dk_at dksX5_quiresFor_5 8 rfl rfl)
theorem dX5_quiresFor_124 : decode cX5_quiresFor 124 = .ok (.invokevirtual 144, 3) := dk_182 0 144 (dk_at dksX5_quiresFor_5 10 rfl rfl)
theorem dX5_quiresFor_127 : decode cX5_quiresFor 127 = .ok (.iinc 7 1, 3) := dk_132 7 1 (dk_at dksX5_quiresFor_5 13 rfl rfl)
theorem dX5_quiresFor_130 : decode cX5_quiresFor 130 = .ok (.goto (-116), 3) := dk_167 255 140 (dk_at dksX5_quiresFor_5 16 rfl rfl)
theorem dX5_quiresFor_133 : decode cX5_quiresFor 133 = .ok (.iload 6, 2) := dk_21 6 (dk_at dksX5_quiresFor_5 19 rfl rfl)
theorem dX5_quiresFor_135 : decode cX5_quiresFor 135 = .ok (.ireturn, 1) := dk_172 (dk_at dksX5_quiresFor_5 21 rfl rfl)
abbrev cX5_send : ByteArray := prog_15_method_69_code
def yX5_send : MethodName := ⟨RX5, "send", "(I)I"⟩
def dkwX5_send_0 : List UInt8 := [42, 182, 0, 61, 42, 42, 27, 182, 0, 199, 4, 3, 5, 182, 0, 78, 172]
abbrev dktX5_send_0 : List UInt8 := dkwX5_send_0 ++ []
theorem dksX5_send_0 : cX5_send.data.toList.drop 0 = dktX5_send_0 := by decide +kernel
theorem dX5_send_0 : decode cX5_send 0 = .ok (.aload_n 0, 1) := dk_42 (dk_at dksX5_send_0 0 rfl rfl)
theorem dX5_send_1 : decode cX5_send 1 = .ok (.invokevirtual 61, 3) := dk_182 0 61 (dk_at dksX5_send_0 1 rfl rfl)
theorem dX5_send_4 : decode cX5_send 4 = .ok (.aload_n 0, 1) := dk_42 (dk_at dksX5_send_0 4 rfl rfl)
theorem dX5_send_5 : decode cX5_send 5 = .ok (.aload_n 0, 1) := dk_42 (dk_at dksX5_send_0 5 rfl rfl)
theorem dX5_send_6 : decode cX5_send 6 = .ok (.iload_n 1, 1) := dk_27 (dk_at dksX5_send_0 6 rfl rfl)
theorem dX5_send_7 : decode cX5_send 7 = .ok (.invokevirtual 199, 3) := dk_182 0 199 (dk_at dksX5_send_0 7 rfl rfl)
theorem dX5_send_10 : decode cX5_send 10 = .ok (.iconst 1, 1) := dk_4 (dk_at dksX5_send_0 10 rfl rfl)
theorem dX5_send_11 : decode cX5_send 11 = .ok (.iconst 0, 1) := dk_3 (dk_at dksX5_send_0 11 rfl rfl)
theorem dX5_send_12 : decode cX5_send 12 = .ok (.iconst 2, 1) := dk_5 (dk_at dksX5_send_0 12 rfl rfl)
theorem dX5_send_13 : decode cX5_send 13 = .ok (.invokevirtual 78, 3) := dk_182 0 78 (dk_at dksX5_send_0 13 rfl rfl)
theorem dX5_send_16 : decode cX5_send 16 = .ok (.ireturn, 1) := dk_172 (dk_at dksX5_send_0 16 rfl rfl)
abbrev cX5_sends : ByteArray := prog_15_method_68_code
def yX5_sends : MethodName := ⟨RX5, "sends", "(I)I"⟩
def dkwX5_sends_6 : List UInt8 := [96, 6, 96, 4, 79, 42, 27, 182, 0, 179, 3, 172]
abbrev dktX5_sends_6 : List UInt8 := dkwX5_sends_6 ++ []
def dkwX5_sends_5 : List UInt8 := [182, 0, 170, 96, 92, 46, 42, 28, 5, 182, 0, 170, 96, 79, 42, 180, 0, 9, 17, 1, 24, 7, 28, 104]
abbrev dktX5_sends_5 : List UInt8 := dkwX5_sends_5 ++ dktX5_sends_6
def dkwX5_sends_4 : List UInt8 := [180, 0, 40, 96, 79, 42, 180, 0, 9, 17, 1, 113, 6, 42, 28, 3, 182, 0, 170, 104, 96, 42, 28, 4]
abbrev dktX5_sends_4 : List UInt8 := dkwX5_sends_4 ++ dktX5_sends_5
def dkwX5_sends_3 : List UInt8 := [182, 0, 170, 42, 28, 3, 182, 0, 170, 4, 96, 104, 181, 0, 40, 42, 180, 0, 9, 6, 92, 46, 42]
abbrev dktX5_sends_3 : List UInt8 := dkwX5_sends_3 ++ dktX5_sends_4
def dkwX5_sends_2 : List UInt8 := [167, 0, 4, 3, 16, 12, 42, 28, 182, 0, 189, 182, 0, 57, 153, 0, 5, 6, 172, 42, 42, 28, 5]
abbrev dktX5_sends_2 : List UInt8 := dkwX5_sends_2 ++ dktX5_sends_3
def dkwX5_sends_1 : List UInt8 := [167, 0, 4, 3, 16, 11, 27, 182, 0, 57, 154, 0, 30, 42, 42, 28, 182, 0, 189, 158, 0, 7, 4]
abbrev dktX5_sends_1 : List UInt8 := dkwX5_sends_1 ++ dktX5_sends_2
def dkwX5_sends_0 : List UInt8 := [42, 27, 182, 0, 186, 154, 0, 5, 4, 172, 42, 27, 5, 182, 0, 164, 61, 42, 28, 2, 160, 0, 7, 4]
abbrev dktX5_sends_0 : List UInt8 := dkwX5_sends_0 ++ dktX5_sends_1
theorem dksX5_sends_0 : cX5_sends.data.toList.drop 0 = dktX5_sends_0 := by decide +kernel
theorem dksX5_sends_1 : cX5_sends.data.toList.drop 24 = dktX5_sends_1 := dk_seg dksX5_sends_0 24 rfl rfl
theorem dksX5_sends_2 : cX5_sends.data.toList.drop 47 = dktX5_sends_2 := dk_seg dksX5_sends_1 23 rfl rfl
theorem dksX5_sends_3 : cX5_sends.data.toList.drop 70 = dktX5_sends_3 := dk_seg dksX5_sends_2 23 rfl rfl
theorem dksX5_sends_4 : cX5_sends.data.toList.drop 93 = dktX5_sends_4 := dk_seg dksX5_sends_3 23 rfl rfl
theorem dksX5_sends_5 : cX5_sends.data.toList.drop 117 = dktX5_sends_5 := dk_seg dksX5_sends_4 24 rfl rfl
theorem dksX5_sends_6 : cX5_sends.data.toList.drop 141 = dktX5_sends_6 := dk_seg dksX5_sends_5 24 rfl rfl
theorem dX5_sends_0 : decode cX5_sends 0 = .ok (.aload_n 0, 1) := dk_42 (dk_at dksX5_sends_0 0 rfl rfl)
theorem dX5_sends_1 : decode cX5_sends 1 = .ok (.iload_n 1, 1) := dk_27 (dk_at dksX5_sends_0 1 rfl rfl)
theorem dX5_sends_2 : decode cX5_sends 2 = .ok (.invokevirtual 186, 3) := dk_182 0 186 (dk_at dksX5_sends_0 2 rfl rfl)
theorem dX5_sends_5 : decode cX5_sends 5 = .ok (.ifCond .ne 5, 3) := dk_154 0 5 (dk_at dksX5_sends_0 5 rfl rfl)
theorem dX5_sends_8 : decode cX5_sends 8 = .ok (.iconst 1, 1) := dk_4 (dk_at dksX5_sends_0 8 rfl rfl)
theorem dX5_sends_9 : decode cX5_sends 9 = .ok (.ireturn, 1) := dk_172 (dk_at dksX5_sends_0 9 rfl rfl)
theorem dX5_sends_10 : decode cX5_sends 10 = .ok (.aload_n 0, 1) := dk_42 (dk_at dksX5_sends_0 10 rfl rfl)
theorem dX5_sends_11 : decode cX5_sends 11 = .ok (.iload_n 1, 1) := dk_27 (dk_at dksX5_sends_0 11 rfl rfl)
theorem dX5_sends_12 : decode cX5_sends 12 = .ok (.iconst 2, 1) := dk_5 (dk_at dksX5_sends_0 12 rfl rfl)
theorem dX5_sends_13 : decode cX5_sends 13 = .ok (.invokevirtual 164, 3) := dk_182 0 164 (dk_at dksX5_sends_0 13 rfl rfl)
theorem dX5_sends_16 : decode cX5_sends 16 = .ok (.istore_n 2, 1) := dk_61 (dk_at dksX5_sends_0 16 rfl rfl)
theorem dX5_sends_17 : decode cX5_sends 17 = .ok (.aload_n 0, 1) := dk_42 (dk_at dksX5_sends_0 17 rfl rfl)
theorem dX5_sends_18 : decode cX5_sends 18 = .ok (.iload_n 2, 1) := dk_28 (dk_at dksX5_sends_0 18 rfl rfl)
theorem dX5_sends_19 : decode cX5_sends 19 = .ok (.iconst (-1), 1) := dk_2 (dk_at dksX5_sends_0 19 rfl rfl)
theorem dX5_sends_20 : decode cX5_sends 20 = .ok (.if_icmp .ne 7, 3) := dk_160 0 7 (dk_at dksX5_sends_0 20 rfl rfl)
theorem dX5_sends_23 : decode cX5_sends 23 = .ok (.iconst 1, 1) := dk_4 (dk_at dksX5_sends_0 23 rfl rfl)
theorem dX5_sends_24 : decode cX5_sends 24 = .ok (.goto 4, 3) := dk_167 0 4 (dk_at dksX5_sends_1 0 rfl rfl)
theorem dX5_sends_27 : decode cX5_sends 27 = .ok (.iconst 0, 1) := dk_3 (dk_at dksX5_sends_1 3 rfl rfl)
theorem dX5_sends_28 : decode cX5_sends 28 = .ok (.bipush 11, 2) := dk_16 11 (dk_at dksX5_sends_1 4 rfl rfl)
theorem dX5_sends_30 : decode cX5_sends 30 = .ok (.iload_n 1, 1) := dk_27 (dk_at dksX5_sends_1 6 rfl rfl)
theorem dX5_sends_31 : decode cX5_sends 31 = .ok (.invokevirtual 57, 3) := dk_182 0 57 (dk_at dksX5_sends_1 7 rfl rfl)
theorem dX5_sends_34 : decode cX5_sends 34 = .ok (.ifCond .ne 30, 3) := dk_154 0 30 (dk_at dksX5_sends_1 10 rfl rfl)
theorem dX5_sends_37 : decode cX5_sends 37 = .ok (.aload_n 0, 1) := dk_42 (dk_at dksX5_sends_1 13 rfl rfl)
theorem dX5_sends_38 : decode cX5_sends 38 = .ok (.aload_n 0, 1) := dk_42 (dk_at dksX5_sends_1 14 rfl rfl)
theorem dX5_sends_39 : decode cX5_sends 39 = .ok (.iload_n 2, 1) := dk_28 (dk_at dksX5_sends_1 15 rfl rfl)
theorem dX5_sends_40 : decode cX5_sends 40 = .ok (.invokevirtual 189, 3) := dk_182 0 189 (dk_at dksX5_sends_1 16 rfl rfl)
theorem dX5_sends_43 : decode cX5_sends 43 = .ok (.ifCond .le 7, 3) := dk_158 0 7 (dk_at dksX5_sends_1 19 rfl rfl)
theorem dX5_sends_46 : decode cX5_sends 46 = .ok (.iconst 1, 1) := dk_4 (dk_at dksX5_sends_1 22 rfl rfl)
theorem dX5_sends_47 : decode cX5_sends 47 = .ok (.goto 4, 3) := dk_167 0 4 (dk_at dksX5_sends_2 0 rfl rfl)
theorem dX5_sends_50 : decode cX5_sends 50 = .ok (.iconst 0, 1) := dk_3 (dk_at dksX5_sends_2 3 rfl rfl)
theorem dX5_sends_51 : decode cX5_sends 51 = .ok (.bipush 12, 2) := dk_16 12 (dk_at dksX5_sends_2 4 rfl rfl)
theorem dX5_sends_53 : decode cX5_sends 53 = .ok (.aload_n 0, 1) := dk_42 (dk_at dksX5_sends_2 6 rfl rfl)
theorem dX5_sends_54 : decode cX5_sends 54 = .ok (.iload_n 2, 1) := dk_28 (dk_at dksX5_sends_2 7 rfl rfl)
theorem dX5_sends_55 : decode cX5_sends 55 = .ok (.invokevirtual 189, 3) := dk_182 0 189 (dk_at dksX5_sends_2 8 rfl rfl)
theorem dX5_sends_58 : decode cX5_sends 58 = .ok (.invokevirtual 57, 3) := dk_182 0 57 (dk_at dksX5_sends_2 11 rfl rfl)
theorem dX5_sends_61 : decode cX5_sends 61 = .ok (.ifCond .eq 5, 3) := dk_153 0 5 (dk_at dksX5_sends_2 14 rfl rfl)
theorem dX5_sends_64 : decode cX5_sends 64 = .ok (.iconst 3, 1) := dk_6 (dk_at dksX5_sends_2 17 rfl rfl)
theorem dX5_sends_65 : decode cX5_sends 65 = .ok (.ireturn, 1) := dk_172 (dk_at dksX5_sends_2 18 rfl rfl)
theorem dX5_sends_66 : decode cX5_sends 66 = .ok (.aload_n 0, 1) := dk_42 (dk_at dksX5_sends_2 19 rfl rfl)
theorem dX5_sends_67 : decode cX5_sends 67 = .ok (.aload_n 0, 1) := dk_42 (dk_at dksX5_sends_2 20 rfl rfl)
theorem dX5_sends_68 : decode cX5_sends 68 = .ok (.iload_n 2, 1) := dk_28 (dk_at dksX5_sends_2 21 rfl rfl)
theorem dX5_sends_69 : decode cX5_sends 69 = .ok (.iconst 2, 1) := dk_5 (dk_at dksX5_sends_2 22 rfl rfl)
theorem dX5_sends_70 : decode cX5_sends 70 = .ok (.invokevirtual 170, 3) := dk_182 0 170 (dk_at dksX5_sends_3 0 rfl rfl)
theorem dX5_sends_73 : decode cX5_sends 73 = .ok (.aload_n 0, 1) := dk_42 (dk_at dksX5_sends_3 3 rfl rfl)
theorem dX5_sends_74 : decode cX5_sends 74 = .ok (.iload_n 2, 1) := dk_28 (dk_at dksX5_sends_3 4 rfl rfl)
theorem dX5_sends_75 : decode cX5_sends 75 = .ok (.iconst 0, 1) := dk_3 (dk_at dksX5_sends_3 5 rfl rfl)
theorem dX5_sends_76 : decode cX5_sends 76 = .ok (.invokevirtual 170, 3) := dk_182 0 170 (dk_at dksX5_sends_3 6 rfl rfl)
theorem dX5_sends_79 : decode cX5_sends 79 = .ok (.iconst 1, 1) := dk_4 (dk_at dksX5_sends_3 9 rfl rfl)
theorem dX5_sends_80 : decode cX5_sends 80 = .ok (.iadd, 1) := dk_96 (dk_at dksX5_sends_3 10 rfl rfl)
theorem dX5_sends_81 : decode cX5_sends 81 = .ok (.imul, 1) := dk_104 (dk_at dksX5_sends_3 11 rfl rfl)
theorem dX5_sends_82 : decode cX5_sends 82 = .ok (.putfield 40, 3) := dk_181 0 40 (dk_at dksX5_sends_3 12 rfl rfl)
theorem dX5_sends_85 : decode cX5_sends 85 = .ok (.aload_n 0, 1) := dk_42 (dk_at dksX5_sends_3 15 rfl rfl)
theorem dX5_sends_86 : decode cX5_sends 86 = .ok (.getfield 9, 3) := dk_180 0 9 (dk_at dksX5_sends_3 16 rfl rfl)
theorem dX5_sends_89 : decode cX5_sends 89 = .ok (.iconst 3, 1) := dk_6 (dk_at dksX5_sends_3 19 rfl rfl)
theorem dX5_sends_90 : decode cX5_sends 90 = .ok (.dup2, 1) := dk_92 (dk_at dksX5_sends_3 20 rfl rfl)
theorem dX5_sends_91 : decode cX5_sends 91 = .ok (.iaload, 1) := dk_46 (dk_at dksX5_sends_3 21 rfl rfl)
theorem dX5_sends_92 : decode cX5_sends 92 = .ok (.aload_n 0, 1) := dk_42 (dk_at dksX5_sends_3 22 rfl rfl)
theorem dX5_sends_93 : decode cX5_sends 93 = .ok (.getfield 40, 3) := dk_180 0 40 (dk_at dksX5_sends_4 0 rfl rfl)
theorem dX5_sends_96 : decode cX5_sends 96 = .ok (.iadd, 1) := dk_96 (dk_at dksX5_sends_4 3 rfl rfl)
theorem dX5_sends_97 : decode cX5_sends 97 = .ok (.iastore, 1) := dk_79 (dk_at dksX5_sends_4 4 rfl rfl)
theorem dX5_sends_98 : decode cX5_sends 98 = .ok (.aload_n 0, 1) := dk_42 (dk_at dksX5_sends_4 5 rfl rfl)
theorem dX5_sends_99 : decode cX5_sends 99 = .ok (.getfield 9, 3) := dk_180 0 9 (dk_at dksX5_sends_4 6 rfl rfl)
theorem dX5_sends_102 : decode cX5_sends 102 = .ok (.sipush 369, 3) := dk_17 1 113 (dk_at dksX5_sends_4 9 rfl rfl)
theorem dX5_sends_105 : decode cX5_sends 105 = .ok (.iconst 3, 1) := dk_6 (dk_at dksX5_sends_4 12 rfl rfl)
theorem dX5_sends_106 : decode cX5_sends 106 = .ok (.aload_n 0, 1) := dk_42 (dk_at dksX5_sends_4 13 rfl rfl)
theorem dX5_sends_107 : decode cX5_sends 107 = .ok (.iload_n 2, 1) := dk_28 (dk_at dksX5_sends_4 14 rfl rfl)
theorem dX5_sends_108 : decode cX5_sends 108 = .ok (.iconst 0, 1) := dk_3 (dk_at dksX5_sends_4 15 rfl rfl)
theorem dX5_sends_109 : decode cX5_sends 109 = .ok (.invokevirtual 170, 3) := dk_182 0 170 (dk_at dksX5_sends_4 16 rfl rfl)
theorem dX5_sends_112 : decode cX5_sends 112 = .ok (.imul, 1) := dk_104 (dk_at dksX5_sends_4 19 rfl rfl)
theorem dX5_sends_113 : decode cX5_sends 113 = .ok (.iadd, 1) := dk_96 (dk_at dksX5_sends_4 20 rfl rfl)
theorem dX5_sends_114 : decode cX5_sends 114 = .ok (.aload_n 0, 1) := dk_42 (dk_at dksX5_sends_4 21 rfl rfl)
theorem dX5_sends_115 : decode cX5_sends 115 = .ok (.iload_n 2, 1) := dk_28 (dk_at dksX5_sends_4 22 rfl rfl)
theorem dX5_sends_116 : decode cX5_sends 116 = .ok (.iconst 1, 1) := dk_4 (dk_at dksX5_sends_4 23 rfl rfl)
theorem dX5_sends_117 : decode cX5_sends 117 = .ok (.invokevirtual 170, 3) := dk_182 0 170 (dk_at dksX5_sends_5 0 rfl rfl)
theorem dX5_sends_120 : decode cX5_sends 120 = .ok (.iadd, 1) := dk_96 (dk_at dksX5_sends_5 3 rfl rfl)
theorem dX5_sends_121 : decode cX5_sends 121 = .ok (.dup2, 1) := dk_92 (dk_at dksX5_sends_5 4 rfl rfl)
theorem dX5_sends_122 : decode cX5_sends 122 = .ok (.iaload, 1) := dk_46 (dk_at dksX5_sends_5 5 rfl rfl)
theorem dX5_sends_123 : decode cX5_sends 123 = .ok (.aload_n 0, 1) := dk_42 (dk_at dksX5_sends_5 6 rfl rfl)
theorem dX5_sends_124 : decode cX5_sends 124 = .ok (.iload_n 2, 1) := dk_28 (dk_at dksX5_sends_5 7 rfl rfl)
theorem dX5_sends_125 : decode cX5_sends 125 = .ok (.iconst 2, 1) := dk_5 (dk_at dksX5_sends_5 8 rfl rfl)
theorem dX5_sends_126 : decode cX5_sends 126 = .ok (.invokevirtual 170, 3) := dk_182 0 170 (dk_at dksX5_sends_5 9 rfl rfl)
theorem dX5_sends_129 : decode cX5_sends 129 = .ok (.iadd, 1) := dk_96 (dk_at dksX5_sends_5 12 rfl rfl)
theorem dX5_sends_130 : decode cX5_sends 130 = .ok (.iastore, 1) := dk_79 (dk_at dksX5_sends_5 13 rfl rfl)
theorem dX5_sends_131 : decode cX5_sends 131 = .ok (.aload_n 0, 1) := dk_42 (dk_at dksX5_sends_5 14 rfl rfl)
theorem dX5_sends_132 : decode cX5_sends 132 = .ok (.getfield 9, 3) := dk_180 0 9 (dk_at dksX5_sends_5 15 rfl rfl)
theorem dX5_sends_135 : decode cX5_sends 135 = .ok (.sipush 280, 3) := dk_17 1 24 (dk_at dksX5_sends_5 18 rfl rfl)
theorem dX5_sends_138 : decode cX5_sends 138 = .ok (.iconst 4, 1) := dk_7 (dk_at dksX5_sends_5 21 rfl rfl)
theorem dX5_sends_139 : decode cX5_sends 139 = .ok (.iload_n 2, 1) := dk_28 (dk_at dksX5_sends_5 22 rfl rfl)
theorem dX5_sends_140 : decode cX5_sends 140 = .ok (.imul, 1) := dk_104 (dk_at dksX5_sends_5 23 rfl rfl)
theorem dX5_sends_141 : decode cX5_sends 141 = .ok (.iadd, 1) := dk_96 (dk_at dksX5_sends_6 0 rfl rfl)
theorem dX5_sends_142 : decode cX5_sends 142 = .ok (.iconst 3, 1) := dk_6 (dk_at dksX5_sends_6 1 rfl rfl)
theorem dX5_sends_143 : decode cX5_sends 143 = .ok (.iadd, 1) := dk_96 (dk_at dksX5_sends_6 2 rfl rfl)
theorem dX5_sends_144 : decode cX5_sends 144 = .ok (.iconst 1, 1) := dk_4 (dk_at dksX5_sends_6 3 rfl rfl)
theorem dX5_sends_145 : decode cX5_sends 145 = .ok (.iastore, 1) := dk_79 (dk_at dksX5_sends_6 4 rfl rfl)
theorem dX5_sends_146 : decode cX5_sends 146 = .ok (.aload_n 0, 1) := dk_42 (dk_at dksX5_sends_6 5 rfl rfl)
theorem dX5_sends_147 : decode cX5_sends 147 = .ok (.iload_n 1, 1) := dk_27 (dk_at dksX5_sends_6 6 rfl rfl)
theorem dX5_sends_148 : decode cX5_sends 148 = .ok (.invokevirtual 179, 3) := dk_182 0 179 (dk_at dksX5_sends_6 7 rfl rfl)
theorem dX5_sends_151 : decode cX5_sends 151 = .ok (.iconst 0, 1) := dk_3 (dk_at dksX5_sends_6 10 rfl rfl)
theorem dX5_sends_152 : decode cX5_sends 152 = .ok (.ireturn, 1) := dk_172 (dk_at dksX5_sends_6 11 rfl rfl)
abbrev cX5_orderOf : ByteArray := prog_15_method_70_code
def yX5_orderOf : MethodName := ⟨RX5, "orderOf", "(II)I"⟩
def dkwX5_orderOf_3 : List UInt8 := [160, 0, 7, 3, 167, 0, 9, 42, 29, 4, 182, 0, 164, 172]
abbrev dktX5_orderOf_3 : List UInt8 := dkwX5_orderOf_3 ++ []
def dkwX5_orderOf_2 : List UInt8 := [162, 0, 12, 42, 27, 28, 182, 0, 170, 167, 0, 27, 28, 8, 160, 0, 7, 29, 167, 0, 18, 29, 2]
abbrev dktX5_orderOf_2 : List UInt8 := dkwX5_orderOf_2 ++ dktX5_orderOf_3
def dkwX5_orderOf_1 : List UInt8 := [167, 0, 4, 5, 181, 0, 27, 42, 180, 0, 27, 153, 0, 5, 3, 172, 42, 27, 182, 0, 167, 62, 28, 7]
abbrev dktX5_orderOf_1 : List UInt8 := dkwX5_orderOf_1 ++ dktX5_orderOf_2
def dkwX5_orderOf_0 : List UInt8 := [42, 42, 27, 182, 0, 173, 154, 0, 7, 4, 167, 0, 17, 28, 3, 8, 184, 0, 49, 153, 0, 7, 3]
abbrev dktX5_orderOf_0 : List UInt8 := dkwX5_orderOf_0 ++ dktX5_orderOf_1
theorem dksX5_orderOf_0 : cX5_orderOf.data.toList.drop 0 = dktX5_orderOf_0 := by decide +kernel
theorem dksX5_orderOf_1 : cX5_orderOf.data.toList.drop 23 = dktX5_orderOf_1 := dk_seg dksX5_orderOf_0 23 rfl rfl
theorem dksX5_orderOf_2 : cX5_orderOf.data.toList.drop 47 = dktX5_orderOf_2 := dk_seg dksX5_orderOf_1 24 rfl rfl
theorem dksX5_orderOf_3 : cX5_orderOf.data.toList.drop 70 = dktX5_orderOf_3 := dk_seg dksX5_orderOf_2 23 rfl rfl
theorem dX5_orderOf_0 : decode cX5_orderOf 0 = .ok (.aload_n 0, 1) := dk_42 (dk_at dksX5_orderOf_0 0 rfl rfl)
theorem dX5_orderOf_1 : decode cX5_orderOf 1 = .ok (.aload_n 0, 1) := dk_42 (dk_at dksX5_orderOf_0 1 rfl rfl)
theorem dX5_orderOf_2 : decode cX5_orderOf 2 = .ok (.iload_n 1, 1) := dk_27 (dk_at dksX5_orderOf_0 2 rfl rfl)
theorem dX5_orderOf_3 : decode cX5_orderOf 3 = .ok (.invokevirtual 173, 3) := dk_182 0 173 (dk_at dksX5_orderOf_0 3 rfl rfl)
theorem dX5_orderOf_6 : decode cX5_orderOf 6 = .ok (.ifCond .ne 7, 3) := dk_154 0 7 (dk_at dksX5_orderOf_0 6 rfl rfl)
theorem dX5_orderOf_9 : decode cX5_orderOf 9 = .ok (.iconst 1, 1) := dk_4 (dk_at dksX5_orderOf_0 9 rfl rfl)
theorem dX5_orderOf_10 : decode cX5_orderOf 10 = .ok (.goto 17, 3) := dk_167 0 17 (dk_at dksX5_orderOf_0 10 rfl rfl)
theorem dX5_orderOf_13 : decode cX5_orderOf 13 = .ok (.iload_n 2, 1) := dk_28 (dk_at dksX5_orderOf_0 13 rfl rfl)
theorem dX5_orderOf_14 : decode cX5_orderOf 14 = .ok (.iconst 0, 1) := dk_3 (dk_at dksX5_orderOf_0 14 rfl rfl)
theorem dX5_orderOf_15 : decode cX5_orderOf 15 = .ok (.iconst 5, 1) := dk_8 (dk_at dksX5_orderOf_0 15 rfl rfl)
theorem dX5_orderOf_16 : decode cX5_orderOf 16 = .ok (.invokestatic 49, 3) := dk_184 0 49 (dk_at dksX5_orderOf_0 16 rfl rfl)
theorem dX5_orderOf_19 : decode cX5_orderOf 19 = .ok (.ifCond .eq 7, 3) := dk_153 0 7 (dk_at dksX5_orderOf_0 19 rfl rfl)
theorem dX5_orderOf_22 : decode cX5_orderOf 22 = .ok (.iconst 0, 1) := dk_3 (dk_at dksX5_orderOf_0 22 rfl rfl)
theorem dX5_orderOf_23 : decode cX5_orderOf 23 = .ok (.goto 4, 3) := dk_167 0 4 (dk_at dksX5_orderOf_1 0 rfl rfl)
theorem dX5_orderOf_26 : decode cX5_orderOf 26 = .ok (.iconst 2, 1) := dk_5 (dk_at dksX5_orderOf_1 3 rfl rfl)
theorem dX5_orderOf_27 : decode cX5_orderOf 27 = .ok (.putfield 27, 3) := dk_181 0 27 (dk_at dksX5_orderOf_1 4 rfl rfl)
theorem dX5_orderOf_30 : decode cX5_orderOf 30 = .ok (.aload_n 0, 1) := dk_42 (dk_at dksX5_orderOf_1 7 rfl rfl)
theorem dX5_orderOf_31 : decode cX5_orderOf 31 = .ok (.getfield 27, 3) := dk_180 0 27 (dk_at dksX5_orderOf_1 8 rfl rfl)
theorem dX5_orderOf_34 : decode cX5_orderOf 34 = .ok (.ifCond .eq 5, 3) := dk_153 0 5 (dk_at dksX5_orderOf_1 11 rfl rfl)
theorem dX5_orderOf_37 : decode cX5_orderOf 37 = .ok (.iconst 0, 1) := dk_3 (dk_at dksX5_orderOf_1 14 rfl rfl)
theorem dX5_orderOf_38 : decode cX5_orderOf 38 = .ok (.ireturn, 1) := dk_172 (dk_at dksX5_orderOf_1 15 rfl rfl)
theorem dX5_orderOf_39 : decode cX5_orderOf 39 = .ok (.aload_n 0, 1) := dk_42 (dk_at dksX5_orderOf_1 16 rfl rfl)
theorem dX5_orderOf_40 : decode cX5_orderOf 40 = .ok (.iload_n 1, 1) := dk_27 (dk_at dksX5_orderOf_1 17 rfl rfl)
theorem dX5_orderOf_41 : decode cX5_orderOf 41 = .ok (.invokevirtual 167, 3) := dk_182 0 167 (dk_at dksX5_orderOf_1 18 rfl rfl)
theorem dX5_orderOf_44 : decode cX5_orderOf 44 = .ok (.istore_n 3, 1) := dk_62 (dk_at dksX5_orderOf_1 21 rfl rfl)
theorem dX5_orderOf_45 : decode cX5_orderOf 45 = .ok (.iload_n 2, 1) := dk_28 (dk_at dksX5_orderOf_1 22 rfl rfl)
theorem dX5_orderOf_46 : decode cX5_orderOf 46 = .ok (.iconst 4, 1) := dk_7 (dk_at dksX5_orderOf_1 23 rfl rfl)
theorem dX5_orderOf_47 : decode cX5_orderOf 47 = .ok (.if_icmp .ge 12, 3) := dk_162 0 12 (dk_at dksX5_orderOf_2 0 rfl rfl)
theorem dX5_orderOf_50 : decode cX5_orderOf 50 = .ok (.aload_n 0, 1) := dk_42 (dk_at dksX5_orderOf_2 3 rfl rfl)
theorem dX5_orderOf_51 : decode cX5_orderOf 51 = .ok (.iload_n 1, 1) := dk_27 (dk_at dksX5_orderOf_2 4 rfl rfl)
theorem dX5_orderOf_52 : decode cX5_orderOf 52 = .ok (.iload_n 2, 1) := dk_28 (dk_at dksX5_orderOf_2 5 rfl rfl)
theorem dX5_orderOf_53 : decode cX5_orderOf 53 = .ok (.invokevirtual 170, 3) := dk_182 0 170 (dk_at dksX5_orderOf_2 6 rfl rfl)
theorem dX5_orderOf_56 : decode cX5_orderOf 56 = .ok (.goto 27, 3) := dk_167 0 27 (dk_at dksX5_orderOf_2 9 rfl rfl)
theorem dX5_orderOf_59 : decode cX5_orderOf 59 = .ok (.iload_n 2, 1) := dk_28 (dk_at dksX5_orderOf_2 12 rfl rfl)
theorem dX5_orderOf_60 : decode cX5_orderOf 60 = .ok (.iconst 5, 1) := dk_8 (dk_at dksX5_orderOf_2 13 rfl rfl)
theorem dX5_orderOf_61 : decode cX5_orderOf 61 = .ok (.if_icmp .ne 7, 3) := dk_160 0 7 (dk_at dksX5_orderOf_2 14 rfl rfl)
theorem dX5_orderOf_64 : decode cX5_orderOf 64 = .ok (.iload_n 3, 1) := dk_29 (dk_at dksX5_orderOf_2 17 rfl rfl)
theorem dX5_orderOf_65 : decode cX5_orderOf 65 = .ok (.goto 18, 3) := dk_167 0 18 (dk_at dksX5_orderOf_2 18 rfl rfl)
theorem dX5_orderOf_68 : decode cX5_orderOf 68 = .ok (.iload_n 3, 1) := dk_29 (dk_at dksX5_orderOf_2 21 rfl rfl)
theorem dX5_orderOf_69 : decode cX5_orderOf 69 = .ok (.iconst (-1), 1) := dk_2 (dk_at dksX5_orderOf_2 22 rfl rfl)
theorem dX5_orderOf_70 : decode cX5_orderOf 70 = .ok (.if_icmp .ne 7, 3) := dk_160 0 7 (dk_at dksX5_orderOf_3 0 rfl rfl)
theorem dX5_orderOf_73 : decode cX5_orderOf 73 = .ok (.iconst 0, 1) := dk_3 (dk_at dksX5_orderOf_3 3 rfl rfl)
theorem dX5_orderOf_74 : decode cX5_orderOf 74 = .ok (.goto 9, 3) := dk_167 0 9 (dk_at dksX5_orderOf_3 4 rfl rfl)
theorem dX5_orderOf_77 : decode cX5_orderOf 77 = .ok (.aload_n 0, 1) := dk_42 (dk_at dksX5_orderOf_3 7 rfl rfl)
theorem dX5_orderOf_78 : decode cX5_orderOf 78 = .ok (.iload_n 3, 1) := dk_29 (dk_at dksX5_orderOf_3 8 rfl rfl)
theorem dX5_orderOf_79 : decode cX5_orderOf 79 = .ok (.iconst 1, 1) := dk_4 (dk_at dksX5_orderOf_3 9 rfl rfl)
theorem dX5_orderOf_80 : decode cX5_orderOf 80 = .ok (.invokevirtual 164, 3) := dk_182 0 164 (dk_at dksX5_orderOf_3 10 rfl rfl)
theorem dX5_orderOf_83 : decode cX5_orderOf 83 = .ok (.ireturn, 1) := dk_172 (dk_at dksX5_orderOf_3 13 rfl rfl)
abbrev cX5_lacking : ByteArray := prog_15_method_72_code
def yX5_lacking : MethodName := ⟨RX5, "lacking", "(I)I"⟩
def dkwX5_lacking_2 : List UInt8 := [182, 0, 170, 42, 27, 4, 182, 0, 170, 4, 182, 0, 202, 100, 184, 0, 119, 172]
abbrev dktX5_lacking_2 : List UInt8 := dkwX5_lacking_2 ++ []
def dkwX5_lacking_1 : List UInt8 := [42, 27, 6, 182, 0, 170, 153, 0, 7, 3, 167, 0, 30, 3, 42, 27, 182, 0, 189, 42, 42, 27, 3]
abbrev dktX5_lacking_1 : List UInt8 := dkwX5_lacking_1 ++ dktX5_lacking_2
def dkwX5_lacking_0 : List UInt8 := [42, 42, 27, 182, 0, 173, 153, 0, 7, 3, 167, 0, 4, 4, 181, 0, 27, 42, 180, 0, 27, 154, 0, 12]
abbrev dktX5_lacking_0 : List UInt8 := dkwX5_lacking_0 ++ dktX5_lacking_1
theorem dksX5_lacking_0 : cX5_lacking.data.toList.drop 0 = dktX5_lacking_0 := by decide +kernel
theorem dksX5_lacking_1 : cX5_lacking.data.toList.drop 24 = dktX5_lacking_1 := dk_seg dksX5_lacking_0 24 rfl rfl
theorem dksX5_lacking_2 : cX5_lacking.data.toList.drop 47 = dktX5_lacking_2 := dk_seg dksX5_lacking_1 23 rfl rfl
theorem dX5_lacking_0 : decode cX5_lacking 0 = .ok (.aload_n 0, 1) := dk_42 (dk_at dksX5_lacking_0 0 rfl rfl)
theorem dX5_lacking_1 : decode cX5_lacking 1 = .ok (.aload_n 0, 1) := dk_42 (dk_at dksX5_lacking_0 1 rfl rfl)
theorem dX5_lacking_2 : decode cX5_lacking 2 = .ok (.iload_n 1, 1) := dk_27 (dk_at dksX5_lacking_0 2 rfl rfl)
theorem dX5_lacking_3 : decode cX5_lacking 3 = .ok (.invokevirtual 173, 3) := dk_182 0 173 (dk_at dksX5_lacking_0 3 rfl rfl)
theorem dX5_lacking_6 : decode cX5_lacking 6 = .ok (.ifCond .eq 7, 3) := dk_153 0 7 (dk_at dksX5_lacking_0 6 rfl rfl)
theorem dX5_lacking_9 : decode cX5_lacking 9 = .ok (.iconst 0, 1) := dk_3 (dk_at dksX5_lacking_0 9 rfl rfl)
theorem dX5_lacking_10 : decode cX5_lacking 10 = .ok (.goto 4, 3) := dk_167 0 4 (dk_at dksX5_lacking_0 10 rfl rfl)
theorem dX5_lacking_13 : decode cX5_lacking 13 = .ok (.iconst 1, 1) := dk_4 (dk_at dksX5_lacking_0 13 rfl rfl)
theorem dX5_lacking_14 : decode cX5_lacking 14 = .ok (.putfield 27, 3) := dk_181 0 27 (dk_at dksX5_lacking_0 14 rfl rfl)
theorem dX5_lacking_17 : decode cX5_lacking 17 = .ok (.aload_n 0, 1) := dk_42 (dk_at dksX5_lacking_0 17 rfl rfl)
theorem dX5_lacking_18 : decode cX5_lacking 18 = .ok (.getfield 27, 3) := dk_180 0 27 (dk_at dksX5_lacking_0 18 rfl rfl)
theorem dX5_lacking_21 : decode cX5_lacking 21 = .ok (.ifCond .ne 12, 3) := dk_154 0 12 (dk_at dksX5_lacking_0 21 rfl rfl)
theorem dX5_lacking_24 : decode cX5_lacking 24 = .ok (.aload_n 0, 1) := dk_42 (dk_at dksX5_lacking_1 0 rfl rfl)
theorem dX5_lacking_25 : decode cX5_lacking 25 = .ok (.iload_n 1, 1) := dk_27 (dk_at dksX5_lacking_1 1 rfl rfl)
theorem dX5_lacking_26 : decode cX5_lacking 26 = .ok (.iconst 3, 1) := dk_6 (dk_at dksX5_lacking_1 2 rfl rfl)
theorem dX5_lacking_27 : decode cX5_lacking 27 = .ok (.invokevirtual 170, 3) := dk_182 0 170 (dk_at dksX5_lacking_1 3 rfl rfl)
theorem dX5_lacking_30 : decode cX5_lacking 30 = .ok (.ifCond .eq 7, 3) := dk_153 0 7 (dk_at dksX5_lacking_1 6 rfl rfl)
theorem dX5_lacking_33 : decode cX5_lacking 33 = .ok (.iconst 0, 1) := dk_3 (dk_at dksX5_lacking_1 9 rfl rfl)
theorem dX5_lacking_34 : decode cX5_lacking 34 = .ok (.goto 30, 3) := dk_167 0 30 (dk_at dksX5_lacking_1 10 rfl rfl)
theorem dX5_lacking_37 : decode cX5_lacking 37 = .ok (.iconst 0, 1) := dk_3 (dk_at dksX5_lacking_1 13 rfl rfl)
theorem dX5_lacking_38 : decode cX5_lacking 38 = .ok (.aload_n 0, 1) := dk_42 (dk_at dksX5_lacking_1 14 rfl rfl)
theorem dX5_lacking_39 : decode cX5_lacking 39 = .ok (.iload_n 1, 1) := dk_27 (dk_at dksX5_lacking_1 15 rfl rfl)
theorem dX5_lacking_40 : decode cX5_lacking 40 = .ok (.invokevirtual 189, 3) := dk_182 0 189 (dk_at dksX5_lacking_1 16 rfl rfl)
theorem dX5_lacking_43 : decode cX5_lacking 43 = .ok (.aload_n 0, 1) := dk_42 (dk_at dksX5_lacking_1 19 rfl rfl)
theorem dX5_lacking_44 : decode cX5_lacking 44 = .ok (.aload_n 0, 1) := dk_42 (dk_at dksX5_lacking_1 20 rfl rfl)
theorem dX5_lacking_45 : decode cX5_lacking 45 = .ok (.iload_n 1, 1) := dk_27 (dk_at dksX5_lacking_1 21 rfl rfl)
theorem dX5_lacking_46 : decode cX5_lacking 46 = .ok (.iconst 0, 1) := dk_3 (dk_at dksX5_lacking_1 22 rfl rfl)
theorem dX5_lacking_47 : decode cX5_lacking 47 = .ok (.invokevirtual 170, 3) := dk_182 0 170 (dk_at dksX5_lacking_2 0 rfl rfl)
theorem dX5_lacking_50 : decode cX5_lacking 50 = .ok (.aload_n 0, 1) := dk_42 (dk_at dksX5_lacking_2 3 rfl rfl)
theorem dX5_lacking_51 : decode cX5_lacking 51 = .ok (.iload_n 1, 1) := dk_27 (dk_at dksX5_lacking_2 4 rfl rfl)
theorem dX5_lacking_52 : decode cX5_lacking 52 = .ok (.iconst 1, 1) := dk_4 (dk_at dksX5_lacking_2 5 rfl rfl)
theorem dX5_lacking_53 : decode cX5_lacking 53 = .ok (.invokevirtual 170, 3) := dk_182 0 170 (dk_at dksX5_lacking_2 6 rfl rfl)
theorem dX5_lacking_56 : decode cX5_lacking 56 = .ok (.iconst 1, 1) := dk_4 (dk_at dksX5_lacking_2 9 rfl rfl)
theorem dX5_lacking_57 : decode cX5_lacking 57 = .ok (.invokevirtual 202, 3) := dk_182 0 202 (dk_at dksX5_lacking_2 10 rfl rfl)
theorem dX5_lacking_60 : decode cX5_lacking 60 = .ok (.isub, 1) := dk_100 (dk_at dksX5_lacking_2 13 rfl rfl)
theorem dX5_lacking_61 : decode cX5_lacking 61 = .ok (.invokestatic 119, 3) := dk_184 0 119 (dk_at dksX5_lacking_2 14 rfl rfl)
theorem dX5_lacking_64 : decode cX5_lacking 64 = .ok (.ireturn, 1) := dk_172 (dk_at dksX5_lacking_2 17 rfl rfl)
abbrev cX5_stockOf : ByteArray := prog_15_method_71_code
def yX5_stockOf : MethodName := ⟨RX5, "stockOf", "(IIZ)I"⟩
def dkwX5_stockOf_3 : List UInt8 := [182, 0, 82, 167, 0, 4, 3, 96, 54, 4, 132, 5, 1, 167, 255, 180, 21, 4, 172]
abbrev dktX5_stockOf_3 : List UInt8 := dkwX5_stockOf_3 ++ []
def dkwX5_stockOf_2 : List UInt8 := [182, 0, 82, 28, 160, 0, 26, 29, 153, 0, 12, 42, 21, 5, 182, 0, 113, 154, 0, 13, 42, 21, 5, 5]
abbrev dktX5_stockOf_2 : List UInt8 := dkwX5_stockOf_2 ++ dktX5_stockOf_3
def dkwX5_stockOf_1 : List UInt8 := [182, 0, 82, 2, 159, 0, 48, 42, 21, 5, 3, 182, 0, 82, 27, 160, 0, 37, 42, 21, 5, 4]
abbrev dktX5_stockOf_1 : List UInt8 := dkwX5_stockOf_1 ++ dktX5_stockOf_2
def dkwX5_stockOf_0 : List UInt8 := [3, 54, 4, 3, 54, 5, 21, 5, 42, 180, 0, 9, 8, 46, 162, 0, 71, 21, 4, 42, 21, 5, 7]
abbrev dktX5_stockOf_0 : List UInt8 := dkwX5_stockOf_0 ++ dktX5_stockOf_1
theorem dksX5_stockOf_0 : cX5_stockOf.data.toList.drop 0 = dktX5_stockOf_0 := by decide +kernel
theorem dksX5_stockOf_1 : cX5_stockOf.data.toList.drop 23 = dktX5_stockOf_1 := dk_seg dksX5_stockOf_0 23 rfl rfl
theorem dksX5_stockOf_2 : cX5_stockOf.data.toList.drop 45 = dktX5_stockOf_2 := dk_seg dksX5_stockOf_1 22 rfl rfl
theorem dksX5_stockOf_3 : cX5_stockOf.data.toList.drop 69 = dktX5_stockOf_3 := dk_seg dksX5_stockOf_2 24 rfl rfl
theorem dX5_stockOf_0 : decode cX5_stockOf 0 = .ok (.iconst 0, 1) := dk_3 (dk_at dksX5_stockOf_0 0 rfl rfl)
theorem dX5_stockOf_1 : decode cX5_stockOf 1 = .ok (.istore 4, 2) := dk_54 4 (dk_at dksX5_stockOf_0 1 rfl rfl)
theorem dX5_stockOf_3 : decode cX5_stockOf 3 = .ok (.iconst 0, 1) := dk_3 (dk_at dksX5_stockOf_0 3 rfl rfl)
theorem dX5_stockOf_4 : decode cX5_stockOf 4 = .ok (.istore 5, 2) := dk_54 5 (dk_at dksX5_stockOf_0 4 rfl rfl)
theorem dX5_stockOf_6 : decode cX5_stockOf 6 = .ok (.iload 5, 2) := dk_21 5 (dk_at dksX5_stockOf_0 6 rfl rfl)
theorem dX5_stockOf_8 : decode cX5_stockOf 8 = .ok (.aload_n 0, 1) := dk_42 (dk_at dksX5_stockOf_0 8 rfl rfl)
theorem dX5_stockOf_9 : decode cX5_stockOf 9 = .ok (.getfield 9, 3) := dk_180 0 9 (dk_at dksX5_stockOf_0 9 rfl rfl)
theorem dX5_stockOf_12 : decode cX5_stockOf 12 = .ok (.iconst 5, 1) := dk_8 (dk_at dksX5_stockOf_0 12 rfl rfl)
theorem dX5_stockOf_13 : decode cX5_stockOf 13 = .ok (.iaload, 1) := dk_46 (dk_at dksX5_stockOf_0 13 rfl rfl)
theorem dX5_stockOf_14 : decode cX5_stockOf 14 = .ok (.if_icmp .ge 71, 3) := dk_162 0 71 (dk_at dksX5_stockOf_0 14 rfl rfl)
theorem dX5_stockOf_17 : decode cX5_stockOf 17 = .ok (.iload 4, 2) := dk_21 4 (dk_at dksX5_stockOf_0 17 rfl rfl)
theorem dX5_stockOf_19 : decode cX5_stockOf 19 = .ok (.aload_n 0, 1) := dk_42 (dk_at dksX5_stockOf_0 19 rfl rfl)
theorem dX5_stockOf_20 : decode cX5_stockOf 20 = .ok (.iload 5, 2) := dk_21 5 (dk_at dksX5_stockOf_0 20 rfl rfl)
theorem dX5_stockOf_22 : decode cX5_stockOf 22 = .ok (.iconst 4, 1) := dk_7 (dk_at dksX5_stockOf_0 22 rfl rfl)
theorem dX5_stockOf_23 : decode cX5_stockOf 23 = .ok (.invokevirtual 82, 3) := dk_182 0 82 (dk_at dksX5_stockOf_1 0 rfl rfl)
theorem dX5_stockOf_26 : decode cX5_stockOf 26 = .ok (.iconst (-1), 1) := dk_2 (dk_at dksX5_stockOf_1 3 rfl rfl)
theorem dX5_stockOf_27 : decode cX5_stockOf 27 = .ok (.if_icmp .eq 48, 3) := dk_159 0 48 (dk_at dksX5_stockOf_1 4 rfl rfl)
theorem dX5_stockOf_30 : decode cX5_stockOf 30 = .ok (.aload_n 0, 1) := dk_42 (dk_at dksX5_stockOf_1 7 rfl rfl)
theorem dX5_stockOf_31 : decode cX5_stockOf 31 = .ok (.iload 5, 2) := dk_21 5 (dk_at dksX5_stockOf_1 8 rfl rfl)
theorem dX5_stockOf_33 : decode cX5_stockOf 33 = .ok (.iconst 0, 1) := dk_3 (dk_at dksX5_stockOf_1 10 rfl rfl)
theorem dX5_stockOf_34 : decode cX5_stockOf 34 = .ok (.invokevirtual 82, 3) := dk_182 0 82 (dk_at dksX5_stockOf_1 11 rfl rfl)
theorem dX5_stockOf_37 : decode cX5_stockOf 37 = .ok (.iload_n 1, 1) := dk_27 (dk_at dksX5_stockOf_1 14 rfl rfl)
theorem dX5_stockOf_38 : decode cX5_stockOf 38 = .ok (.if_icmp .ne 37, 3) := dk_160 0 37 (dk_at dksX5_stockOf_1 15 rfl rfl)
theorem dX5_stockOf_41 : decode cX5_stockOf 41 = .ok (.aload_n 0, 1) := dk_42 (dk_at dksX5_stockOf_1 18 rfl rfl)
theorem dX5_stockOf_42 : decode cX5_stockOf 42 = .ok (.iload 5, 2) := dk_21 5 (dk_at dksX5_stockOf_1 19 rfl rfl)
theorem dX5_stockOf_44 : decode cX5_stockOf 44 = .ok (.iconst 1, 1) := dk_4 (dk_at dksX5_stockOf_1 21 rfl rfl)
theorem dX5_stockOf_45 : decode cX5_stockOf 45 = .ok (.invokevirtual 82, 3) := dk_182 0 82 (dk_at dksX5_stockOf_2 0 rfl rfl)
theorem dX5_stockOf_48 : decode cX5_stockOf 48 = .ok (.iload_n 2, 1) := dk_28 (dk_at dksX5_stockOf_2 3 rfl rfl)
theorem dX5_stockOf_49 : decode cX5_stockOf 49 = .ok (.if_icmp .ne 26, 3) := dk_160 0 26 (dk_at dksX5_stockOf_2 4 rfl rfl)
theorem dX5_stockOf_52 : decode cX5_stockOf 52 = .ok (.iload_n 3, 1) := dk_29 (dk_at dksX5_stockOf_2 7 rfl rfl)
theorem dX5_stockOf_53 : decode cX5_stockOf 53 = .ok (.ifCond .eq 12, 3) := dk_153 0 12 (dk_at dksX5_stockOf_2 8 rfl rfl)
theorem dX5_stockOf_56 : decode cX5_stockOf 56 = .ok (.aload_n 0, 1) := dk_42 (dk_at dksX5_stockOf_2 11 rfl rfl)
theorem dX5_stockOf_57 : decode cX5_stockOf 57 = .ok (.iload 5, 2) := dk_21 5 (dk_at dksX5_stockOf_2 12 rfl rfl)
theorem dX5_stockOf_59 : decode cX5_stockOf 59 = .ok (.invokevirtual 113, 3) := dk_182 0 113 (dk_at dksX5_stockOf_2 14 rfl rfl)
theorem dX5_stockOf_62 : decode cX5_stockOf 62 = .ok (.ifCond .ne 13, 3) := dk_154 0 13 (dk_at dksX5_stockOf_2 17 rfl rfl)
theorem dX5_stockOf_65 : decode cX5_stockOf 65 = .ok (.aload_n 0, 1) := dk_42 (dk_at dksX5_stockOf_2 20 rfl rfl)
theorem dX5_stockOf_66 : decode cX5_stockOf 66 = .ok (.iload 5, 2) := dk_21 5 (dk_at dksX5_stockOf_2 21 rfl rfl)
theorem dX5_stockOf_68 : decode cX5_stockOf 68 = .ok (.iconst 2, 1) := dk_5 (dk_at dksX5_stockOf_2 23 rfl rfl)
theorem dX5_stockOf_69 : decode cX5_stockOf 69 = .ok (.invokevirtual 82, 3) := dk_182 0 82 (dk_at dksX5_stockOf_3 0 rfl rfl)
theorem dX5_stockOf_72 : decode cX5_stockOf 72 = .ok (.goto 4, 3) := dk_167 0 4 (dk_at dksX5_stockOf_3 3 rfl rfl)
theorem dX5_stockOf_75 : decode cX5_stockOf 75 = .ok (.iconst 0, 1) := dk_3 (dk_at dksX5_stockOf_3 6 rfl rfl)
theorem dX5_stockOf_76 : decode cX5_stockOf 76 = .ok (.iadd, 1) := dk_96 (dk_at dksX5_stockOf_3 7 rfl rfl)
theorem dX5_stockOf_77 : decode cX5_stockOf 77 = .ok (.istore 4, 2) := dk_54 4 (dk_at dksX5_stockOf_3 8 rfl rfl)
theorem dX5_stockOf_79 : decode cX5_stockOf 79 = .ok (.iinc 5 1, 3) := dk_132 5 1 (dk_at dksX5_stockOf_3 10 rfl rfl)
theorem dX5_stockOf_82 : decode cX5_stockOf 82 = .ok (.goto (-76), 3) := dk_167 255 180 (dk_at dksX5_stockOf_3 13 rfl rfl)
theorem dX5_stockOf_85 : decode cX5_stockOf 85 = .ok (.iload 4, 2) := dk_21 4 (dk_at dksX5_stockOf_3 16 rfl rfl)
theorem dX5_stockOf_87 : decode cX5_stockOf 87 = .ok (.ireturn, 1) := dk_172 (dk_at dksX5_stockOf_3 18 rfl rfl)
abbrev cX5_bestLadder : ByteArray := prog_15_method_73_code
def yX5_bestLadder : MethodName := ⟨RX5, "bestLadder", "(I)I"⟩
def dkwX5_bestLadder_4 : List UInt8 := [160, 0, 7, 5, 167, 0, 4, 3, 181, 0, 27, 28, 2, 160, 0, 7, 3, 167, 0, 4, 28, 172]
abbrev dktX5_bestLadder_4 : List UInt8 := dkwX5_bestLadder_4 ++ []
def dkwX5_bestLadder_3 : List UInt8 := [54, 5, 21, 5, 29, 164, 0, 9, 21, 4, 61, 21, 5, 62, 132, 4, 1, 167, 255, 200, 42, 28, 2]
abbrev dktX5_bestLadder_3 : List UInt8 := dkwX5_bestLadder_3 ++ dktX5_bestLadder_4
def dkwX5_bestLadder_2 : List UInt8 := [182, 0, 170, 154, 0, 41, 42, 27, 21, 4, 16, 60, 42, 27, 182, 0, 189, 184, 0, 131, 3, 182, 0, 192]
abbrev dktX5_bestLadder_2 : List UInt8 := dkwX5_bestLadder_2 ++ dktX5_bestLadder_3
def dkwX5_bestLadder_1 : List UInt8 := [3, 172, 2, 61, 3, 62, 3, 54, 4, 21, 4, 42, 180, 0, 9, 16, 6, 46, 162, 0, 50, 42, 27, 6]
abbrev dktX5_bestLadder_1 : List UInt8 := dkwX5_bestLadder_1 ++ dktX5_bestLadder_2
def dkwX5_bestLadder_0 : List UInt8 := [42, 42, 27, 182, 0, 173, 153, 0, 7, 3, 167, 0, 4, 4, 181, 0, 27, 42, 180, 0, 27, 153, 0, 5]
abbrev dktX5_bestLadder_0 : List UInt8 := dkwX5_bestLadder_0 ++ dktX5_bestLadder_1
theorem dksX5_bestLadder_0 : cX5_bestLadder.data.toList.drop 0 = dktX5_bestLadder_0 := by decide +kernel
theorem dksX5_bestLadder_1 : cX5_bestLadder.data.toList.drop 24 = dktX5_bestLadder_1 := dk_seg dksX5_bestLadder_0 24 rfl rfl
theorem dksX5_bestLadder_2 : cX5_bestLadder.data.toList.drop 48 = dktX5_bestLadder_2 := dk_seg dksX5_bestLadder_1 24 rfl rfl
theorem dksX5_bestLadder_3 : cX5_bestLadder.data.toList.drop 72 = dktX5_bestLadder_3 := dk_seg dksX5_bestLadder_2 24 rfl rfl
theorem dksX5_bestLadder_4 : cX5_bestLadder.data.toList.drop 95 = dktX5_bestLadder_4 := dk_seg dksX5_bestLadder_3 23 rfl rfl
theorem dX5_bestLadder_0 : decode cX5_bestLadder 0 = .ok (.aload_n 0, 1) := dk_42 (dk_at dksX5_bestLadder_0 0 rfl rfl)
theorem dX5_bestLadder_1 : decode cX5_bestLadder 1 = .ok (.aload_n 0, 1) := dk_42 (dk_at dksX5_bestLadder_0 1 rfl rfl)
theorem dX5_bestLadder_2 : decode cX5_bestLadder 2 = .ok (.iload_n 1, 1) := dk_27 (dk_at dksX5_bestLadder_0 2 rfl rfl)
theorem dX5_bestLadder_3 : decode cX5_bestLadder 3 = .ok (.invokevirtual 173, 3) := dk_182 0 173 (dk_at dksX5_bestLadder_0 3 rfl rfl)
theorem dX5_bestLadder_6 : decode cX5_bestLadder 6 = .ok (.ifCond .eq 7, 3) := dk_153 0 7 (dk_at dksX5_bestLadder_0 6 rfl rfl)
theorem dX5_bestLadder_9 : decode cX5_bestLadder 9 = .ok (.iconst 0, 1) := dk_3 (dk_at dksX5_bestLadder_0 9 rfl rfl)
theorem dX5_bestLadder_10 : decode cX5_bestLadder 10 = .ok (.goto 4, 3) := dk_167 0 4 (dk_at dksX5_bestLadder_0 10 rfl rfl)
theorem dX5_bestLadder_13 : decode cX5_bestLadder 13 = .ok (.iconst 1, 1) := dk_4 (dk_at dksX5_bestLadder_0 13 rfl rfl)
theorem dX5_bestLadder_14 : decode cX5_bestLadder 14 = .ok (.putfield 27, 3) := dk_181 0 27 (dk_at dksX5_bestLadder_0 14 rfl rfl)
theorem dX5_bestLadder_17 : decode cX5_bestLadder 17 = .ok (.aload_n 0, 1) := dk_42 (dk_at dksX5_bestLadder_0 17 rfl rfl)
theorem dX5_bestLadder_18 : decode cX5_bestLadder 18 = .ok (.getfield 27, 3) := dk_180 0 27 (dk_at dksX5_bestLadder_0 18 rfl rfl)
theorem dX5_bestLadder_21 : decode cX5_bestLadder 21 = .ok (.ifCond .eq 5, 3) := dk_153 0 5 (dk_at dksX5_bestLadder_0 21 rfl rfl)
theorem dX5_bestLadder_24 : decode cX5_bestLadder 24 = .ok (.iconst 0, 1) := dk_3 (dk_at dksX5_bestLadder_1 0 rfl rfl)
theorem dX5_bestLadder_25 : decode cX5_bestLadder 25 = .ok (.ireturn, 1) := dk_172 (dk_at dksX5_bestLadder_1 1 rfl rfl)
theorem dX5_bestLadder_26 : decode cX5_bestLadder 26 = .ok (.iconst (-1), 1) := dk_2 (dk_at dksX5_bestLadder_1 2 rfl rfl)
theorem dX5_bestLadder_27 : decode cX5_bestLadder 27 = .ok (.istore_n 2, 1) := dk_61 (dk_at dksX5_bestLadder_1 3 rfl rfl)
theorem dX5_bestLadder_28 : decode cX5_bestLadder 28 = .ok (.iconst 0, 1) := dk_3 (dk_at dksX5_bestLadder_1 4 rfl rfl)
theorem dX5_bestLadder_29 : decode cX5_bestLadder 29 = .ok (.istore_n 3, 1) := dk_62 (dk_at dksX5_bestLadder_1 5 rfl rfl)
theorem dX5_bestLadder_30 : decode cX5_bestLadder 30 = .ok (.iconst 0, 1) := dk_3 (dk_at dksX5_bestLadder_1 6 rfl rfl)
theorem dX5_bestLadder_31 : decode cX5_bestLadder 31 = .ok (.istore 4, 2) := dk_54 4 (dk_at dksX5_bestLadder_1 7 rfl rfl)
theorem dX5_bestLadder_33 : decode cX5_bestLadder 33 = .ok (.iload 4, 2) := dk_21 4 (dk_at dksX5_bestLadder_1 9 rfl rfl)
theorem dX5_bestLadder_35 : decode cX5_bestLadder 35 = .ok (.aload_n 0, 1) := dk_42 (dk_at dksX5_bestLadder_1 11 rfl rfl)
theorem dX5_bestLadder_36 : decode cX5_bestLadder 36 = .ok (.getfield 9, 3) := dk_180 0 9 (dk_at dksX5_bestLadder_1 12 rfl rfl)
theorem dX5_bestLadder_39 : decode cX5_bestLadder 39 = .ok (.bipush 6, 2) := dk_16 6 (dk_at dksX5_bestLadder_1 15 rfl rfl)
theorem dX5_bestLadder_41 : decode cX5_bestLadder 41 = .ok (.iaload, 1) := dk_46 (dk_at dksX5_bestLadder_1 17 rfl rfl)
theorem dX5_bestLadder_42 : decode cX5_bestLadder 42 = .ok (.if_icmp .ge 50, 3) := dk_162 0 50 (dk_at dksX5_bestLadder_1 18 rfl rfl)
theorem dX5_bestLadder_45 : decode cX5_bestLadder 45 = .ok (.aload_n 0, 1) := dk_42 (dk_at dksX5_bestLadder_1 21 rfl rfl)
theorem dX5_bestLadder_46 : decode cX5_bestLadder 46 = .ok (.iload_n 1, 1) := dk_27 (dk_at dksX5_bestLadder_1 22 rfl rfl)
theorem dX5_bestLadder_47 : decode cX5_bestLadder 47 = .ok (.iconst 3, 1) := dk_6 (dk_at dksX5_bestLadder_1 23 rfl rfl)
theorem dX5_bestLadder_48 : decode cX5_bestLadder 48 = .ok (.invokevirtual 170, 3) := dk_182 0 170 (dk_at dksX5_bestLadder_2 0 rfl rfl)
theorem dX5_bestLadder_51 : decode cX5_bestLadder 51 = .ok (.ifCond .ne 41, 3) := dk_154 0 41 (dk_at dksX5_bestLadder_2 3 rfl rfl)
theorem dX5_bestLadder_54 : decode cX5_bestLadder 54 = .ok (.aload_n 0, 1) := dk_42 (dk_at dksX5_bestLadder_2 6 rfl rfl)
theorem dX5_bestLadder_55 : decode cX5_bestLadder 55 = .ok (.iload_n 1, 1) := dk_27 (dk_at dksX5_bestLadder_2 7 rfl rfl)
theorem dX5_bestLadder_56 : decode cX5_bestLadder 56 = .ok (.iload 4, 2) := dk_21 4 (dk_at dksX5_bestLadder_2 8 rfl rfl)
theorem dX5_bestLadder_58 : decode cX5_bestLadder 58 = .ok (.bipush 60, 2) := dk_16 60 (dk_at dksX5_bestLadder_2 10 rfl rfl)
theorem dX5_bestLadder_60 : decode cX5_bestLadder 60 = .ok (.aload_n 0, 1) := dk_42 (dk_at dksX5_bestLadder_2 12 rfl rfl)
theorem dX5_bestLadder_61 : decode cX5_bestLadder 61 = .ok (.iload_n 1, 1) := dk_27 (dk_at dksX5_bestLadder_2 13 rfl rfl)
theorem dX5_bestLadder_62 : decode cX5_bestLadder 62 = .ok (.invokevirtual 189, 3) := dk_182 0 189 (dk_at dksX5_bestLadder_2 14 rfl rfl)
theorem dX5_bestLadder_65 : decode cX5_bestLadder 65 = .ok (.invokestatic 131, 3) := dk_184 0 131 (dk_at dksX5_bestLadder_2 17 rfl rfl)
theorem dX5_bestLadder_68 : decode cX5_bestLadder 68 = .ok (.iconst 0, 1) := dk_3 (dk_at dksX5_bestLadder_2 20 rfl rfl)
theorem dX5_bestLadder_69 : decode cX5_bestLadder 69 = .ok (.invokevirtual 192, 3) := dk_182 0 192 (dk_at dksX5_bestLadder_2 21 rfl rfl)
theorem dX5_bestLadder_72 : decode cX5_bestLadder 72 = .ok (.istore 5, 2) := dk_54 5 (dk_at dksX5_bestLadder_3 0 rfl rfl)
theorem dX5_bestLadder_74 : decode cX5_bestLadder 74 = .ok (.iload 5, 2) := dk_21 5 (dk_at dksX5_bestLadder_3 2 rfl rfl)
theorem dX5_bestLadder_76 : decode cX5_bestLadder 76 = .ok (.iload_n 3, 1) := dk_29 (dk_at dksX5_bestLadder_3 4 rfl rfl)
theorem dX5_bestLadder_77 : decode cX5_bestLadder 77 = .ok (.if_icmp .le 9, 3) := dk_164 0 9 (dk_at dksX5_bestLadder_3 5 rfl rfl)
theorem dX5_bestLadder_80 : decode cX5_bestLadder 80 = .ok (.iload 4, 2) := dk_21 4 (dk_at dksX5_bestLadder_3 8 rfl rfl)
theorem dX5_bestLadder_82 : decode cX5_bestLadder 82 = .ok (.istore_n 2, 1) := dk_61 (dk_at dksX5_bestLadder_3 10 rfl rfl)
theorem dX5_bestLadder_83 : decode cX5_bestLadder 83 = .ok (.iload 5, 2) := dk_21 5 (dk_at dksX5_bestLadder_3 11 rfl rfl)
theorem dX5_bestLadder_85 : decode cX5_bestLadder 85 = .ok (.istore_n 3, 1) := dk_62 (dk_at dksX5_bestLadder_3 13 rfl rfl)
theorem dX5_bestLadder_86 : decode cX5_bestLadder 86 = .ok (.iinc 4 1, 3) := dk_132 4 1 (dk_at dksX5_bestLadder_3 14 rfl rfl)
theorem dX5_bestLadder_89 : decode cX5_bestLadder 89 = .ok (.goto (-56), 3) := dk_167 255 200 (dk_at dksX5_bestLadder_3 17 rfl rfl)
theorem dX5_bestLadder_92 : decode cX5_bestLadder 92 = .ok (.aload_n 0, 1) := dk_42 (dk_at dksX5_bestLadder_3 20 rfl rfl)
theorem dX5_bestLadder_93 : decode cX5_bestLadder 93 = .ok (.iload_n 2, 1) := dk_28 (dk_at dksX5_bestLadder_3 21 rfl rfl)
theorem dX5_bestLadder_94 : decode cX5_bestLadder 94 = .ok (.iconst (-1), 1) := dk_2 (dk_at dksX5_bestLadder_3 22 rfl rfl)
theorem dX5_bestLadder_95 : decode cX5_bestLadder 95 = .ok (.if_icmp .ne 7, 3) := dk_160 0 7 (dk_at dksX5_bestLadder_4 0 rfl rfl)
theorem dX5_bestLadder_98 : decode cX5_bestLadder 98 = .ok (.iconst 2, 1) := dk_5 (dk_at dksX5_bestLadder_4 3 rfl rfl)
theorem dX5_bestLadder_99 : decode cX5_bestLadder 99 = .ok (.goto 4, 3) := dk_167 0 4 (dk_at dksX5_bestLadder_4 4 rfl rfl)
theorem dX5_bestLadder_102 : decode cX5_bestLadder 102 = .ok (.iconst 0, 1) := dk_3 (dk_at dksX5_bestLadder_4 7 rfl rfl)
theorem dX5_bestLadder_103 : decode cX5_bestLadder 103 = .ok (.putfield 27, 3) := dk_181 0 27 (dk_at dksX5_bestLadder_4 8 rfl rfl)
theorem dX5_bestLadder_106 : decode cX5_bestLadder 106 = .ok (.iload_n 2, 1) := dk_28 (dk_at dksX5_bestLadder_4 11 rfl rfl)
theorem dX5_bestLadder_107 : decode cX5_bestLadder 107 = .ok (.iconst (-1), 1) := dk_2 (dk_at dksX5_bestLadder_4 12 rfl rfl)
theorem dX5_bestLadder_108 : decode cX5_bestLadder 108 = .ok (.if_icmp .ne 7, 3) := dk_160 0 7 (dk_at dksX5_bestLadder_4 13 rfl rfl)
theorem dX5_bestLadder_111 : decode cX5_bestLadder 111 = .ok (.iconst 0, 1) := dk_3 (dk_at dksX5_bestLadder_4 16 rfl rfl)
theorem dX5_bestLadder_112 : decode cX5_bestLadder 112 = .ok (.goto 4, 3) := dk_167 0 4 (dk_at dksX5_bestLadder_4 17 rfl rfl)
theorem dX5_bestLadder_115 : decode cX5_bestLadder 115 = .ok (.iload_n 2, 1) := dk_28 (dk_at dksX5_bestLadder_4 20 rfl rfl)
theorem dX5_bestLadder_116 : decode cX5_bestLadder 116 = .ok (.ireturn, 1) := dk_172 (dk_at dksX5_bestLadder_4 21 rfl rfl)
abbrev cX5_cartOf : ByteArray := prog_15_method_74_code
def yX5_cartOf : MethodName := ⟨RX5, "cartOf", "(II)I"⟩
def dkwX5_cartOf_2 : List UInt8 := [172]
abbrev dktX5_cartOf_2 : List UInt8 := dkwX5_cartOf_2 ++ []
def dkwX5_cartOf_1 : List UInt8 := [167, 0, 4, 5, 181, 0, 27, 42, 180, 0, 27, 154, 0, 12, 42, 27, 28, 182, 0, 164, 167, 0, 4, 3]
abbrev dktX5_cartOf_1 : List UInt8 := dkwX5_cartOf_1 ++ dktX5_cartOf_2
def dkwX5_cartOf_0 : List UInt8 := [42, 42, 27, 182, 0, 186, 154, 0, 7, 4, 167, 0, 17, 28, 3, 5, 184, 0, 49, 153, 0, 7, 3]
abbrev dktX5_cartOf_0 : List UInt8 := dkwX5_cartOf_0 ++ dktX5_cartOf_1
theorem dksX5_cartOf_0 : cX5_cartOf.data.toList.drop 0 = dktX5_cartOf_0 := by decide +kernel
theorem dksX5_cartOf_1 : cX5_cartOf.data.toList.drop 23 = dktX5_cartOf_1 := dk_seg dksX5_cartOf_0 23 rfl rfl
theorem dksX5_cartOf_2 : cX5_cartOf.data.toList.drop 47 = dktX5_cartOf_2 := dk_seg dksX5_cartOf_1 24 rfl rfl
theorem dX5_cartOf_0 : decode cX5_cartOf 0 = .ok (.aload_n 0, 1) := dk_42 (dk_at dksX5_cartOf_0 0 rfl rfl)
theorem dX5_cartOf_1 : decode cX5_cartOf 1 = .ok (.aload_n 0, 1) := dk_42 (dk_at dksX5_cartOf_0 1 rfl rfl)
theorem dX5_cartOf_2 : decode cX5_cartOf 2 = .ok (.iload_n 1, 1) := dk_27 (dk_at dksX5_cartOf_0 2 rfl rfl)
theorem dX5_cartOf_3 : decode cX5_cartOf 3 = .ok (.invokevirtual 186, 3) := dk_182 0 186 (dk_at dksX5_cartOf_0 3 rfl rfl)
theorem dX5_cartOf_6 : decode cX5_cartOf 6 = .ok (.ifCond .ne 7, 3) := dk_154 0 7 (dk_at dksX5_cartOf_0 6 rfl rfl)
theorem dX5_cartOf_9 : decode cX5_cartOf 9 = .ok (.iconst 1, 1) := dk_4 (dk_at dksX5_cartOf_0 9 rfl rfl)
theorem dX5_cartOf_10 : decode cX5_cartOf 10 = .ok (.goto 17, 3) := dk_167 0 17 (dk_at dksX5_cartOf_0 10 rfl rfl)
theorem dX5_cartOf_13 : decode cX5_cartOf 13 = .ok (.iload_n 2, 1) := dk_28 (dk_at dksX5_cartOf_0 13 rfl rfl)
theorem dX5_cartOf_14 : decode cX5_cartOf 14 = .ok (.iconst 0, 1) := dk_3 (dk_at dksX5_cartOf_0 14 rfl rfl)
theorem dX5_cartOf_15 : decode cX5_cartOf 15 = .ok (.iconst 2, 1) := dk_5 (dk_at dksX5_cartOf_0 15 rfl rfl)
theorem dX5_cartOf_16 : decode cX5_cartOf 16 = .ok (.invokestatic 49, 3) := dk_184 0 49 (dk_at dksX5_cartOf_0 16 rfl rfl)
theorem dX5_cartOf_19 : decode cX5_cartOf 19 = .ok (.ifCond .eq 7, 3) := dk_153 0 7 (dk_at dksX5_cartOf_0 19 rfl rfl)
theorem dX5_cartOf_22 : decode cX5_cartOf 22 = .ok (.iconst 0, 1) := dk_3 (dk_at dksX5_cartOf_0 22 rfl rfl)
theorem dX5_cartOf_23 : decode cX5_cartOf 23 = .ok (.goto 4, 3) := dk_167 0 4 (dk_at dksX5_cartOf_1 0 rfl rfl)
theorem dX5_cartOf_26 : decode cX5_cartOf 26 = .ok (.iconst 2, 1) := dk_5 (dk_at dksX5_cartOf_1 3 rfl rfl)
theorem dX5_cartOf_27 : decode cX5_cartOf 27 = .ok (.putfield 27, 3) := dk_181 0 27 (dk_at dksX5_cartOf_1 4 rfl rfl)
theorem dX5_cartOf_30 : decode cX5_cartOf 30 = .ok (.aload_n 0, 1) := dk_42 (dk_at dksX5_cartOf_1 7 rfl rfl)
theorem dX5_cartOf_31 : decode cX5_cartOf 31 = .ok (.getfield 27, 3) := dk_180 0 27 (dk_at dksX5_cartOf_1 8 rfl rfl)
theorem dX5_cartOf_34 : decode cX5_cartOf 34 = .ok (.ifCond .ne 12, 3) := dk_154 0 12 (dk_at dksX5_cartOf_1 11 rfl rfl)
theorem dX5_cartOf_37 : decode cX5_cartOf 37 = .ok (.aload_n 0, 1) := dk_42 (dk_at dksX5_cartOf_1 14 rfl rfl)
theorem dX5_cartOf_38 : decode cX5_cartOf 38 = .ok (.iload_n 1, 1) := dk_27 (dk_at dksX5_cartOf_1 15 rfl rfl)
theorem dX5_cartOf_39 : decode cX5_cartOf 39 = .ok (.iload_n 2, 1) := dk_28 (dk_at dksX5_cartOf_1 16 rfl rfl)
theorem dX5_cartOf_40 : decode cX5_cartOf 40 = .ok (.invokevirtual 164, 3) := dk_182 0 164 (dk_at dksX5_cartOf_1 17 rfl rfl)
theorem dX5_cartOf_43 : decode cX5_cartOf 43 = .ok (.goto 4, 3) := dk_167 0 4 (dk_at dksX5_cartOf_1 20 rfl rfl)
theorem dX5_cartOf_46 : decode cX5_cartOf 46 = .ok (.iconst 0, 1) := dk_3 (dk_at dksX5_cartOf_1 23 rfl rfl)
theorem dX5_cartOf_47 : decode cX5_cartOf 47 = .ok (.ireturn, 1) := dk_172 (dk_at dksX5_cartOf_2 0 rfl rfl)
abbrev cX5_stock : ByteArray := prog_15_method_75_code
def yX5_stock : MethodName := ⟨RX5, "stock", "(IIZ)I"⟩
def dkwX5_stock_1 : List UInt8 := [42, 27, 28, 29, 182, 0, 202, 167, 0, 4, 3, 172]
abbrev dktX5_stock_1 : List UInt8 := dkwX5_stock_1 ++ []
def dkwX5_stock_0 : List UInt8 := [42, 27, 28, 184, 0, 95, 153, 0, 7, 3, 167, 0, 4, 4, 181, 0, 27, 42, 180, 0, 27, 154, 0, 13]
abbrev dktX5_stock_0 : List UInt8 := dkwX5_stock_0 ++ dktX5_stock_1
theorem dksX5_stock_0 : cX5_stock.data.toList.drop 0 = dktX5_stock_0 := by decide +kernel
theorem dksX5_stock_1 : cX5_stock.data.toList.drop 24 = dktX5_stock_1 := dk_seg dksX5_stock_0 24 rfl rfl
theorem dX5_stock_0 : decode cX5_stock 0 = .ok (.aload_n 0, 1) := dk_42 (dk_at dksX5_stock_0 0 rfl rfl)
theorem dX5_stock_1 : decode cX5_stock 1 = .ok (.iload_n 1, 1) := dk_27 (dk_at dksX5_stock_0 1 rfl rfl)
theorem dX5_stock_2 : decode cX5_stock 2 = .ok (.iload_n 2, 1) := dk_28 (dk_at dksX5_stock_0 2 rfl rfl)
theorem dX5_stock_3 : decode cX5_stock 3 = .ok (.invokestatic 95, 3) := dk_184 0 95 (dk_at dksX5_stock_0 3 rfl rfl)
theorem dX5_stock_6 : decode cX5_stock 6 = .ok (.ifCond .eq 7, 3) := dk_153 0 7 (dk_at dksX5_stock_0 6 rfl rfl)
theorem dX5_stock_9 : decode cX5_stock 9 = .ok (.iconst 0, 1) := dk_3 (dk_at dksX5_stock_0 9 rfl rfl)
theorem dX5_stock_10 : decode cX5_stock 10 = .ok (.goto 4, 3) := dk_167 0 4 (dk_at dksX5_stock_0 10 rfl rfl)
theorem dX5_stock_13 : decode cX5_stock 13 = .ok (.iconst 1, 1) := dk_4 (dk_at dksX5_stock_0 13 rfl rfl)
theorem dX5_stock_14 : decode cX5_stock 14 = .ok (.putfield 27, 3) := dk_181 0 27 (dk_at dksX5_stock_0 14 rfl rfl)
theorem dX5_stock_17 : decode cX5_stock 17 = .ok (.aload_n 0, 1) := dk_42 (dk_at dksX5_stock_0 17 rfl rfl)
theorem dX5_stock_18 : decode cX5_stock 18 = .ok (.getfield 27, 3) := dk_180 0 27 (dk_at dksX5_stock_0 18 rfl rfl)
theorem dX5_stock_21 : decode cX5_stock 21 = .ok (.ifCond .ne 13, 3) := dk_154 0 13 (dk_at dksX5_stock_0 21 rfl rfl)
theorem dX5_stock_24 : decode cX5_stock 24 = .ok (.aload_n 0, 1) := dk_42 (dk_at dksX5_stock_1 0 rfl rfl)
theorem dX5_stock_25 : decode cX5_stock 25 = .ok (.iload_n 1, 1) := dk_27 (dk_at dksX5_stock_1 1 rfl rfl)
theorem dX5_stock_26 : decode cX5_stock 26 = .ok (.iload_n 2, 1) := dk_28 (dk_at dksX5_stock_1 2 rfl rfl)
theorem dX5_stock_27 : decode cX5_stock 27 = .ok (.iload_n 3, 1) := dk_29 (dk_at dksX5_stock_1 3 rfl rfl)
theorem dX5_stock_28 : decode cX5_stock 28 = .ok (.invokevirtual 202, 3) := dk_182 0 202 (dk_at dksX5_stock_1 4 rfl rfl)
theorem dX5_stock_31 : decode cX5_stock 31 = .ok (.goto 4, 3) := dk_167 0 4 (dk_at dksX5_stock_1 7 rfl rfl)
theorem dX5_stock_34 : decode cX5_stock 34 = .ok (.iconst 0, 1) := dk_3 (dk_at dksX5_stock_1 10 rfl rfl)
theorem dX5_stock_35 : decode cX5_stock 35 = .ok (.ireturn, 1) := dk_172 (dk_at dksX5_stock_1 11 rfl rfl)
abbrev cX5_sent : ByteArray := prog_15_method_76_code
def yX5_sent : MethodName := ⟨RX5, "sent", "(II)I"⟩
def dkwX5_sent_1 : List UInt8 := [42, 180, 0, 9, 17, 1, 113, 6, 27, 104, 96, 28, 96, 46, 167, 0, 4, 3, 172]
abbrev dktX5_sent_1 : List UInt8 := dkwX5_sent_1 ++ []
def dkwX5_sent_0 : List UInt8 := [42, 27, 28, 184, 0, 95, 153, 0, 7, 3, 167, 0, 4, 4, 181, 0, 27, 42, 180, 0, 27, 154, 0, 20]
abbrev dktX5_sent_0 : List UInt8 := dkwX5_sent_0 ++ dktX5_sent_1
theorem dksX5_sent_0 : cX5_sent.data.toList.drop 0 = dktX5_sent_0 := by decide +kernel
theorem dksX5_sent_1 : cX5_sent.data.toList.drop 24 = dktX5_sent_1 := dk_seg dksX5_sent_0 24 rfl rfl
theorem dX5_sent_0 : decode cX5_sent 0 = .ok (.aload_n 0, 1) := dk_42 (dk_at dksX5_sent_0 0 rfl rfl)
theorem dX5_sent_1 : decode cX5_sent 1 = .ok (.iload_n 1, 1) := dk_27 (dk_at dksX5_sent_0 1 rfl rfl)
theorem dX5_sent_2 : decode cX5_sent 2 = .ok (.iload_n 2, 1) := dk_28 (dk_at dksX5_sent_0 2 rfl rfl)
theorem dX5_sent_3 : decode cX5_sent 3 = .ok (.invokestatic 95, 3) := dk_184 0 95 (dk_at dksX5_sent_0 3 rfl rfl)
theorem dX5_sent_6 : decode cX5_sent 6 = .ok (.ifCond .eq 7, 3) := dk_153 0 7 (dk_at dksX5_sent_0 6 rfl rfl)
theorem dX5_sent_9 : decode cX5_sent 9 = .ok (.iconst 0, 1) := dk_3 (dk_at dksX5_sent_0 9 rfl rfl)
theorem dX5_sent_10 : decode cX5_sent 10 = .ok (.goto 4, 3) := dk_167 0 4 (dk_at dksX5_sent_0 10 rfl rfl)
theorem dX5_sent_13 : decode cX5_sent 13 = .ok (.iconst 1, 1) := dk_4 (dk_at dksX5_sent_0 13 rfl rfl)
theorem dX5_sent_14 : decode cX5_sent 14 = .ok (.putfield 27, 3) := dk_181 0 27 (dk_at dksX5_sent_0 14 rfl rfl)
theorem dX5_sent_17 : decode cX5_sent 17 = .ok (.aload_n 0, 1) := dk_42 (dk_at dksX5_sent_0 17 rfl rfl)
theorem dX5_sent_18 : decode cX5_sent 18 = .ok (.getfield 27, 3) := dk_180 0 27 (dk_at dksX5_sent_0 18 rfl rfl)
theorem dX5_sent_21 : decode cX5_sent 21 = .ok (.ifCond .ne 20, 3) := dk_154 0 20 (dk_at dksX5_sent_0 21 rfl rfl)
theorem dX5_sent_24 : decode cX5_sent 24 = .ok (.aload_n 0, 1) := dk_42 (dk_at dksX5_sent_1 0 rfl rfl)
theorem dX5_sent_25 : decode cX5_sent 25 = .ok (.getfield 9, 3) := dk_180 0 9 (dk_at dksX5_sent_1 1 rfl rfl)
theorem dX5_sent_28 : decode cX5_sent 28 = .ok (.sipush 369, 3) := dk_17 1 113 (dk_at dksX5_sent_1 4 rfl rfl)
theorem dX5_sent_31 : decode cX5_sent 31 = .ok (.iconst 3, 1) := dk_6 (dk_at dksX5_sent_1 7 rfl rfl)
theorem dX5_sent_32 : decode cX5_sent 32 = .ok (.iload_n 1, 1) := dk_27 (dk_at dksX5_sent_1 8 rfl rfl)
theorem dX5_sent_33 : decode cX5_sent 33 = .ok (.imul, 1) := dk_104 (dk_at dksX5_sent_1 9 rfl rfl)
theorem dX5_sent_34 : decode cX5_sent 34 = .ok (.iadd, 1) := dk_96 (dk_at dksX5_sent_1 10 rfl rfl)
theorem dX5_sent_35 : decode cX5_sent 35 = .ok (.iload_n 2, 1) := dk_28 (dk_at dksX5_sent_1 11 rfl rfl)
theorem dX5_sent_36 : decode cX5_sent 36 = .ok (.iadd, 1) := dk_96 (dk_at dksX5_sent_1 12 rfl rfl)
theorem dX5_sent_37 : decode cX5_sent 37 = .ok (.iaload, 1) := dk_46 (dk_at dksX5_sent_1 13 rfl rfl)
theorem dX5_sent_38 : decode cX5_sent 38 = .ok (.goto 4, 3) := dk_167 0 4 (dk_at dksX5_sent_1 14 rfl rfl)
theorem dX5_sent_41 : decode cX5_sent 41 = .ok (.iconst 0, 1) := dk_3 (dk_at dksX5_sent_1 17 rfl rfl)
theorem dX5_sent_42 : decode cX5_sent 42 = .ok (.ireturn, 1) := dk_172 (dk_at dksX5_sent_1 18 rfl rfl)
abbrev cX5_bestPaper : ByteArray := prog_15_method_77_code
def yX5_bestPaper : MethodName := ⟨RX5, "bestPaper", "()I"⟩
def dkwX5_bestPaper_3 : List UInt8 := [154, 0, 7, 27, 167, 0, 4, 3, 172]
abbrev dktX5_bestPaper_3 : List UInt8 := dkwX5_bestPaper_3 ++ []
def dkwX5_bestPaper_2 : List UInt8 := [180, 0, 9, 17, 1, 113, 27, 96, 46, 154, 0, 7, 4, 167, 0, 4, 3, 181, 0, 27, 42, 180, 0, 27]
abbrev dktX5_bestPaper_2 : List UInt8 := dkwX5_bestPaper_2 ++ dktX5_bestPaper_3
def dkwX5_bestPaper_1 : List UInt8 := [17, 1, 113, 27, 96, 46, 164, 0, 7, 28, 167, 0, 4, 27, 60, 132, 2, 1, 167, 255, 218, 42, 42]
abbrev dktX5_bestPaper_1 : List UInt8 := dkwX5_bestPaper_1 ++ dktX5_bestPaper_2
def dkwX5_bestPaper_0 : List UInt8 := [3, 60, 4, 61, 28, 16, 12, 162, 0, 38, 42, 180, 0, 9, 17, 1, 113, 28, 96, 46, 42, 180, 0, 9]
abbrev dktX5_bestPaper_0 : List UInt8 := dkwX5_bestPaper_0 ++ dktX5_bestPaper_1
theorem dksX5_bestPaper_0 : cX5_bestPaper.data.toList.drop 0 = dktX5_bestPaper_0 := by decide +kernel
theorem dksX5_bestPaper_1 : cX5_bestPaper.data.toList.drop 24 = dktX5_bestPaper_1 := dk_seg dksX5_bestPaper_0 24 rfl rfl
theorem dksX5_bestPaper_2 : cX5_bestPaper.data.toList.drop 47 = dktX5_bestPaper_2 := dk_seg dksX5_bestPaper_1 23 rfl rfl
theorem dksX5_bestPaper_3 : cX5_bestPaper.data.toList.drop 71 = dktX5_bestPaper_3 := dk_seg dksX5_bestPaper_2 24 rfl rfl
theorem dX5_bestPaper_0 : decode cX5_bestPaper 0 = .ok (.iconst 0, 1) := dk_3 (dk_at dksX5_bestPaper_0 0 rfl rfl)
theorem dX5_bestPaper_1 : decode cX5_bestPaper 1 = .ok (.istore_n 1, 1) := dk_60 (dk_at dksX5_bestPaper_0 1 rfl rfl)
theorem dX5_bestPaper_2 : decode cX5_bestPaper 2 = .ok (.iconst 1, 1) := dk_4 (dk_at dksX5_bestPaper_0 2 rfl rfl)
theorem dX5_bestPaper_3 : decode cX5_bestPaper 3 = .ok (.istore_n 2, 1) := dk_61 (dk_at dksX5_bestPaper_0 3 rfl rfl)
theorem dX5_bestPaper_4 : decode cX5_bestPaper 4 = .ok (.iload_n 2, 1) := dk_28 (dk_at dksX5_bestPaper_0 4 rfl rfl)
theorem dX5_bestPaper_5 : decode cX5_bestPaper 5 = .ok (.bipush 12, 2) := dk_16 12 (dk_at dksX5_bestPaper_0 5 rfl rfl)
theorem dX5_bestPaper_7 : decode cX5_bestPaper 7 = .ok (.if_icmp .ge 38, 3) := dk_162 0 38 (dk_at dksX5_bestPaper_0 7 rfl rfl)
theorem dX5_bestPaper_10 : decode cX5_bestPaper 10 = .ok (.aload_n 0, 1) := dk_42 (dk_at dksX5_bestPaper_0 10 rfl rfl)
theorem dX5_bestPaper_11 : decode cX5_bestPaper 11 = .ok (.getfield 9, 3) := dk_180 0 9 (dk_at dksX5_bestPaper_0 11 rfl rfl)
theorem dX5_bestPaper_14 : decode cX5_bestPaper 14 = .ok (.sipush 369, 3) := dk_17 1 113 (dk_at dksX5_bestPaper_0 14 rfl rfl)
theorem dX5_bestPaper_17 : decode cX5_bestPaper 17 = .ok (.iload_n 2, 1) := dk_28 (dk_at dksX5_bestPaper_0 17 rfl rfl)
theorem dX5_bestPaper_18 : decode cX5_bestPaper 18 = .ok (.iadd, 1) := dk_96 (dk_at dksX5_bestPaper_0 18 rfl rfl)
theorem dX5_bestPaper_19 : decode cX5_bestPaper 19 = .ok (.iaload, 1) := dk_46 (dk_at dksX5_bestPaper_0 19 rfl rfl)
theorem dX5_bestPaper_20 : decode cX5_bestPaper 20 = .ok (.aload_n 0, 1) := dk_42 (dk_at dksX5_bestPaper_0 20 rfl rfl)
theorem dX5_bestPaper_21 : decode cX5_bestPaper 21 = .ok (.getfield 9, 3) := dk_180 0 9 (dk_at dksX5_bestPaper_0 21 rfl rfl)
theorem dX5_bestPaper_24 : decode cX5_bestPaper 24 = .ok (.sipush 369, 3) := dk_17 1 113 (dk_at dksX5_bestPaper_1 0 rfl rfl)
theorem dX5_bestPaper_27 : decode cX5_bestPaper 27 = .ok (.iload_n 1, 1) := dk_27 (dk_at dksX5_bestPaper_1 3 rfl rfl)
theorem dX5_bestPaper_28 : decode cX5_bestPaper 28 = .ok (.iadd, 1) := dk_96 (dk_at dksX5_bestPaper_1 4 rfl rfl)
theorem dX5_bestPaper_29 : decode cX5_bestPaper 29 = .ok (.iaload, 1) := dk_46 (dk_at dksX5_bestPaper_1 5 rfl rfl)
theorem dX5_bestPaper_30 : decode cX5_bestPaper 30 = .ok (.if_icmp .le 7, 3) := dk_164 0 7 (dk_at dksX5_bestPaper_1 6 rfl rfl)
theorem dX5_bestPaper_33 : decode cX5_bestPaper 33 = .ok (.iload_n 2, 1) := dk_28 (dk_at dksX5_bestPaper_1 9 rfl rfl)
theorem dX5_bestPaper_34 : decode cX5_bestPaper 34 = .ok (.goto 4, 3) := dk_167 0 4 (dk_at dksX5_bestPaper_1 10 rfl rfl)
theorem dX5_bestPaper_37 : decode cX5_bestPaper 37 = .ok (.iload_n 1, 1) := dk_27 (dk_at dksX5_bestPaper_1 13 rfl rfl)
theorem dX5_bestPaper_38 : decode cX5_bestPaper 38 = .ok (.istore_n 1, 1) := dk_60 (dk_at dksX5_bestPaper_1 14 rfl rfl)
theorem dX5_bestPaper_39 : decode cX5_bestPaper 39 = .ok (.iinc 2 1, 3) := dk_132 2 1 (dk_at dksX5_bestPaper_1 15 rfl rfl)
theorem dX5_bestPaper_42 : decode cX5_bestPaper 42 = .ok (.goto (-38), 3) := dk_167 255 218 (dk_at dksX5_bestPaper_1 18 rfl rfl)
theorem dX5_bestPaper_45 : decode cX5_bestPaper 45 = .ok (.aload_n 0, 1) := dk_42 (dk_at dksX5_bestPaper_1 21 rfl rfl)
theorem dX5_bestPaper_46 : decode cX5_bestPaper 46 = .ok (.aload_n 0, 1) := dk_42 (dk_at dksX5_bestPaper_1 22 rfl rfl)
theorem dX5_bestPaper_47 : decode cX5_bestPaper 47 = .ok (.getfield 9, 3) := dk_180 0 9 (dk_at dksX5_bestPaper_2 0 rfl rfl)
theorem dX5_bestPaper_50 : decode cX5_bestPaper 50 = .ok (.sipush 369, 3) := dk_17 1 113 (dk_at dksX5_bestPaper_2 3 rfl rfl)
theorem dX5_bestPaper_53 : decode cX5_bestPaper 53 = .ok (.iload_n 1, 1) := dk_27 (dk_at dksX5_bestPaper_2 6 rfl rfl)
theorem dX5_bestPaper_54 : decode cX5_bestPaper 54 = .ok (.iadd, 1) := dk_96 (dk_at dksX5_bestPaper_2 7 rfl rfl)
theorem dX5_bestPaper_55 : decode cX5_bestPaper 55 = .ok (.iaload, 1) := dk_46 (dk_at dksX5_bestPaper_2 8 rfl rfl)
theorem dX5_bestPaper_56 : decode cX5_bestPaper 56 = .ok (.ifCond .ne 7, 3) := dk_154 0 7 (dk_at dksX5_bestPaper_2 9 rfl rfl)
theorem dX5_bestPaper_59 : decode cX5_bestPaper 59 = .ok (.iconst 1, 1) := dk_4 (dk_at dksX5_bestPaper_2 12 rfl rfl)
theorem dX5_bestPaper_60 : decode cX5_bestPaper 60 = .ok (.goto 4, 3) := dk_167 0 4 (dk_at dksX5_bestPaper_2 13 rfl rfl)
theorem dX5_bestPaper_63 : decode cX5_bestPaper 63 = .ok (.iconst 0, 1) := dk_3 (dk_at dksX5_bestPaper_2 16 rfl rfl)
theorem dX5_bestPaper_64 : decode cX5_bestPaper 64 = .ok (.putfield 27, 3) := dk_181 0 27 (dk_at dksX5_bestPaper_2 17 rfl rfl)
theorem dX5_bestPaper_67 : decode cX5_bestPaper 67 = .ok (.aload_n 0, 1) := dk_42 (dk_at dksX5_bestPaper_2 20 rfl rfl)
theorem dX5_bestPaper_68 : decode cX5_bestPaper 68 = .ok (.getfield 27, 3) := dk_180 0 27 (dk_at dksX5_bestPaper_2 21 rfl rfl)
theorem dX5_bestPaper_71 : decode cX5_bestPaper 71 = .ok (.ifCond .ne 7, 3) := dk_154 0 7 (dk_at dksX5_bestPaper_3 0 rfl rfl)
theorem dX5_bestPaper_74 : decode cX5_bestPaper 74 = .ok (.iload_n 1, 1) := dk_27 (dk_at dksX5_bestPaper_3 3 rfl rfl)
theorem dX5_bestPaper_75 : decode cX5_bestPaper 75 = .ok (.goto 4, 3) := dk_167 0 4 (dk_at dksX5_bestPaper_3 4 rfl rfl)
theorem dX5_bestPaper_78 : decode cX5_bestPaper 78 = .ok (.iconst 0, 1) := dk_3 (dk_at dksX5_bestPaper_3 7 rfl rfl)
theorem dX5_bestPaper_79 : decode cX5_bestPaper 79 = .ok (.ireturn, 1) := dk_172 (dk_at dksX5_bestPaper_3 8 rfl rfl)
abbrev cX5_papers : ByteArray := prog_15_method_78_code
def yX5_papers : MethodName := ⟨RX5, "papers", "()I"⟩
def dkwX5_papers_2 : List UInt8 := [182, 0, 82, 96, 120, 128, 60, 132, 2, 1, 167, 255, 209, 27, 172]
abbrev dktX5_papers_2 : List UInt8 := dkwX5_papers_2 ++ []
def dkwX5_papers_1 : List UInt8 := [182, 0, 82, 2, 160, 0, 7, 3, 167, 0, 20, 4, 6, 42, 28, 3, 182, 0, 82, 104, 42, 28, 4]
abbrev dktX5_papers_1 : List UInt8 := dkwX5_papers_1 ++ dktX5_papers_2
def dkwX5_papers_0 : List UInt8 := [42, 3, 181, 0, 27, 3, 60, 3, 61, 28, 42, 180, 0, 9, 8, 46, 162, 0, 43, 27, 42, 28, 7]
abbrev dktX5_papers_0 : List UInt8 := dkwX5_papers_0 ++ dktX5_papers_1
theorem dksX5_papers_0 : cX5_papers.data.toList.drop 0 = dktX5_papers_0 := by decide +kernel
theorem dksX5_papers_1 : cX5_papers.data.toList.drop 23 = dktX5_papers_1 := dk_seg dksX5_papers_0 23 rfl rfl
theorem dksX5_papers_2 : cX5_papers.data.toList.drop 46 = dktX5_papers_2 := dk_seg dksX5_papers_1 23 rfl rfl
theorem dX5_papers_0 : decode cX5_papers 0 = .ok (.aload_n 0, 1) := dk_42 (dk_at dksX5_papers_0 0 rfl rfl)
theorem dX5_papers_1 : decode cX5_papers 1 = .ok (.iconst 0, 1) := dk_3 (dk_at dksX5_papers_0 1 rfl rfl)
theorem dX5_papers_2 : decode cX5_papers 2 = .ok (.putfield 27, 3) := dk_181 0 27 (dk_at dksX5_papers_0 2 rfl rfl)
theorem dX5_papers_5 : decode cX5_papers 5 = .ok (.iconst 0, 1) := dk_3 (dk_at dksX5_papers_0 5 rfl rfl)
theorem dX5_papers_6 : decode cX5_papers 6 = .ok (.istore_n 1, 1) := dk_60 (dk_at dksX5_papers_0 6 rfl rfl)
theorem dX5_papers_7 : decode cX5_papers 7 = .ok (.iconst 0, 1) := dk_3 (dk_at dksX5_papers_0 7 rfl rfl)
theorem dX5_papers_8 : decode cX5_papers 8 = .ok (.istore_n 2, 1) := dk_61 (dk_at dksX5_papers_0 8 rfl rfl)
theorem dX5_papers_9 : decode cX5_papers 9 = .ok (.iload_n 2, 1) := dk_28 (dk_at dksX5_papers_0 9 rfl rfl)
theorem dX5_papers_10 : decode cX5_papers 10 = .ok (.aload_n 0, 1) := dk_42 (dk_at dksX5_papers_0 10 rfl rfl)
theorem dX5_papers_11 : decode cX5_papers 11 = .ok (.getfield 9, 3) := dk_180 0 9 (dk_at dksX5_papers_0 11 rfl rfl)
theorem dX5_papers_14 : decode cX5_papers 14 = .ok (.iconst 5, 1) := dk_8 (dk_at dksX5_papers_0 14 rfl rfl)
theorem dX5_papers_15 : decode cX5_papers 15 = .ok (.iaload, 1) := dk_46 (dk_at dksX5_papers_0 15 rfl rfl)
theorem dX5_papers_16 : decode cX5_papers 16 = .ok (.if_icmp .ge 43, 3) := dk_162 0 43 (dk_at dksX5_papers_0 16 rfl rfl)
theorem dX5_papers_19 : decode cX5_papers 19 = .ok (.iload_n 1, 1) := dk_27 (dk_at dksX5_papers_0 19 rfl rfl)
theorem dX5_papers_20 : decode cX5_papers 20 = .ok (.aload_n 0, 1) := dk_42 (dk_at dksX5_papers_0 20 rfl rfl)
theorem dX5_papers_21 : decode cX5_papers 21 = .ok (.iload_n 2, 1) := dk_28 (dk_at dksX5_papers_0 21 rfl rfl)
theorem dX5_papers_22 : decode cX5_papers 22 = .ok (.iconst 4, 1) := dk_7 (dk_at dksX5_papers_0 22 rfl rfl)
theorem dX5_papers_23 : decode cX5_papers 23 = .ok (.invokevirtual 82, 3) := dk_182 0 82 (dk_at dksX5_papers_1 0 rfl rfl)
theorem dX5_papers_26 : decode cX5_papers 26 = .ok (.iconst (-1), 1) := dk_2 (dk_at dksX5_papers_1 3 rfl rfl)
theorem dX5_papers_27 : decode cX5_papers 27 = .ok (.if_icmp .ne 7, 3) := dk_160 0 7 (dk_at dksX5_papers_1 4 rfl rfl)
theorem dX5_papers_30 : decode cX5_papers 30 = .ok (.iconst 0, 1) := dk_3 (dk_at dksX5_papers_1 7 rfl rfl)
theorem dX5_papers_31 : decode cX5_papers 31 = .ok (.goto 20, 3) := dk_167 0 20 (dk_at dksX5_papers_1 8 rfl rfl)
theorem dX5_papers_34 : decode cX5_papers 34 = .ok (.iconst 1, 1) := dk_4 (dk_at dksX5_papers_1 11 rfl rfl)
theorem dX5_papers_35 : decode cX5_papers 35 = .ok (.iconst 3, 1) := dk_6 (dk_at dksX5_papers_1 12 rfl rfl)
theorem dX5_papers_36 : decode cX5_papers 36 = .ok (.aload_n 0, 1) := dk_42 (dk_at dksX5_papers_1 13 rfl rfl)
theorem dX5_papers_37 : decode cX5_papers 37 = .ok (.iload_n 2, 1) := dk_28 (dk_at dksX5_papers_1 14 rfl rfl)
theorem dX5_papers_38 : decode cX5_papers 38 = .ok (.iconst 0, 1) := dk_3 (dk_at dksX5_papers_1 15 rfl rfl)
theorem dX5_papers_39 : decode cX5_papers 39 = .ok (.invokevirtual 82, 3) := dk_182 0 82 (dk_at dksX5_papers_1 16 rfl rfl)
theorem dX5_papers_42 : decode cX5_papers 42 = .ok (.imul, 1) := dk_104 (dk_at dksX5_papers_1 19 rfl rfl)
theorem dX5_papers_43 : decode cX5_papers 43 = .ok (.aload_n 0, 1) := dk_42 (dk_at dksX5_papers_1 20 rfl rfl)
theorem dX5_papers_44 : decode cX5_papers 44 = .ok (.iload_n 2, 1) := dk_28 (dk_at dksX5_papers_1 21 rfl rfl)
theorem dX5_papers_45 : decode cX5_papers 45 = .ok (.iconst 1, 1) := dk_4 (dk_at dksX5_papers_1 22 rfl rfl)
theorem dX5_papers_46 : decode cX5_papers 46 = .ok (.invokevirtual 82, 3) := dk_182 0 82 (dk_at dksX5_papers_2 0 rfl rfl)
theorem dX5_papers_49 : decode cX5_papers 49 = .ok (.iadd, 1) := dk_96 (dk_at dksX5_papers_2 3 rfl rfl)
theorem dX5_papers_50 : decode cX5_papers 50 = .ok (.ishl, 1) := dk_120 (dk_at dksX5_papers_2 4 rfl rfl)
theorem dX5_papers_51 : decode cX5_papers 51 = .ok (.ior, 1) := dk_128 (dk_at dksX5_papers_2 5 rfl rfl)
theorem dX5_papers_52 : decode cX5_papers 52 = .ok (.istore_n 1, 1) := dk_60 (dk_at dksX5_papers_2 6 rfl rfl)
theorem dX5_papers_53 : decode cX5_papers 53 = .ok (.iinc 2 1, 3) := dk_132 2 1 (dk_at dksX5_papers_2 7 rfl rfl)
theorem dX5_papers_56 : decode cX5_papers 56 = .ok (.goto (-47), 3) := dk_167 255 209 (dk_at dksX5_papers_2 10 rfl rfl)
theorem dX5_papers_59 : decode cX5_papers 59 = .ok (.iload_n 1, 1) := dk_27 (dk_at dksX5_papers_2 13 rfl rfl)
theorem dX5_papers_60 : decode cX5_papers 60 = .ok (.ireturn, 1) := dk_172 (dk_at dksX5_papers_2 14 rfl rfl)
abbrev cX5_days : ByteArray := prog_15_method_80_code
def yX5_days : MethodName := ⟨RX5, "days", "(I)I"⟩
def dkwX5_days_0 : List UInt8 := [42, 182, 0, 61, 42, 42, 27, 182, 0, 206, 3, 4, 3, 182, 0, 78, 172]
abbrev dktX5_days_0 : List UInt8 := dkwX5_days_0 ++ []
theorem dksX5_days_0 : cX5_days.data.toList.drop 0 = dktX5_days_0 := by decide +kernel
theorem dX5_days_0 : decode cX5_days 0 = .ok (.aload_n 0, 1) := dk_42 (dk_at dksX5_days_0 0 rfl rfl)
theorem dX5_days_1 : decode cX5_days 1 = .ok (.invokevirtual 61, 3) := dk_182 0 61 (dk_at dksX5_days_0 1 rfl rfl)
theorem dX5_days_4 : decode cX5_days 4 = .ok (.aload_n 0, 1) := dk_42 (dk_at dksX5_days_0 4 rfl rfl)
theorem dX5_days_5 : decode cX5_days 5 = .ok (.aload_n 0, 1) := dk_42 (dk_at dksX5_days_0 5 rfl rfl)
theorem dX5_days_6 : decode cX5_days 6 = .ok (.iload_n 1, 1) := dk_27 (dk_at dksX5_days_0 6 rfl rfl)
theorem dX5_days_7 : decode cX5_days 7 = .ok (.invokevirtual 206, 3) := dk_182 0 206 (dk_at dksX5_days_0 7 rfl rfl)
theorem dX5_days_10 : decode cX5_days 10 = .ok (.iconst 0, 1) := dk_3 (dk_at dksX5_days_0 10 rfl rfl)
theorem dX5_days_11 : decode cX5_days 11 = .ok (.iconst 1, 1) := dk_4 (dk_at dksX5_days_0 11 rfl rfl)
theorem dX5_days_12 : decode cX5_days 12 = .ok (.iconst 0, 1) := dk_3 (dk_at dksX5_days_0 12 rfl rfl)
theorem dX5_days_13 : decode cX5_days 13 = .ok (.invokevirtual 78, 3) := dk_182 0 78 (dk_at dksX5_days_0 13 rfl rfl)
theorem dX5_days_16 : decode cX5_days 16 = .ok (.ireturn, 1) := dk_172 (dk_at dksX5_days_0 16 rfl rfl)
abbrev cX5_passes : ByteArray := prog_15_method_79_code
def yX5_passes : MethodName := ⟨RX5, "passes", "(I)I"⟩
def dkwX5_passes_1 : List UInt8 := [42, 89, 180, 0, 40, 42, 182, 0, 154, 96, 181, 0, 40, 132, 2, 1, 167, 255, 235, 3, 172]
abbrev dktX5_passes_1 : List UInt8 := dkwX5_passes_1 ++ []
def dkwX5_passes_0 : List UInt8 := [27, 4, 16, 30, 184, 0, 49, 154, 0, 5, 5, 172, 42, 3, 181, 0, 40, 3, 61, 28, 27, 162, 0, 22]
abbrev dktX5_passes_0 : List UInt8 := dkwX5_passes_0 ++ dktX5_passes_1
theorem dksX5_passes_0 : cX5_passes.data.toList.drop 0 = dktX5_passes_0 := by decide +kernel
theorem dksX5_passes_1 : cX5_passes.data.toList.drop 24 = dktX5_passes_1 := dk_seg dksX5_passes_0 24 rfl rfl
theorem dX5_passes_0 : decode cX5_passes 0 = .ok (.iload_n 1, 1) := dk_27 (dk_at dksX5_passes_0 0 rfl rfl)
theorem dX5_passes_1 : decode cX5_passes 1 = .ok (.iconst 1, 1) := dk_4 (dk_at dksX5_passes_0 1 rfl rfl)
theorem dX5_passes_2 : decode cX5_passes 2 = .ok (.bipush 30, 2) := dk_16 30 (dk_at dksX5_passes_0 2 rfl rfl)
theorem dX5_passes_4 : decode cX5_passes 4 = .ok (.invokestatic 49, 3) := dk_184 0 49 (dk_at dksX5_passes_0 4 rfl rfl)
theorem dX5_passes_7 : decode cX5_passes 7 = .ok (.ifCond .ne 5, 3) := dk_154 0 5 (dk_at dksX5_passes_0 7 rfl rfl)
theorem dX5_passes_10 : decode cX5_passes 10 = .ok (.iconst 2, 1) := dk_5 (dk_at dksX5_passes_0 10 rfl rfl)
theorem dX5_passes_11 : decode cX5_passes 11 = .ok (.ireturn, 1) := dk_172 (dk_at dksX5_passes_0 11 rfl rfl)
theorem dX5_passes_12 : decode cX5_passes 12 = .ok (.aload_n 0, 1) := dk_42 (dk_at dksX5_passes_0 12 rfl rfl)
theorem dX5_passes_13 : decode cX5_passes 13 = .ok (.iconst 0, 1) := dk_3 (dk_at dksX5_passes_0 13 rfl rfl)
theorem dX5_passes_14 : decode cX5_passes 14 = .ok (.putfield 40, 3) := dk_181 0 40 (dk_at dksX5_passes_0 14 rfl rfl)
theorem dX5_passes_17 : decode cX5_passes 17 = .ok (.iconst 0, 1) := dk_3 (dk_at dksX5_passes_0 17 rfl rfl)
theorem dX5_passes_18 : decode cX5_passes 18 = .ok (.istore_n 2, 1) := dk_61 (dk_at dksX5_passes_0 18 rfl rfl)
theorem dX5_passes_19 : decode cX5_passes 19 = .ok (.iload_n 2, 1) := dk_28 (dk_at dksX5_passes_0 19 rfl rfl)
theorem dX5_passes_20 : decode cX5_passes 20 = .ok (.iload_n 1, 1) := dk_27 (dk_at dksX5_passes_0 20 rfl rfl)
theorem dX5_passes_21 : decode cX5_passes 21 = .ok (.if_icmp .ge 22, 3) := dk_162 0 22 (dk_at dksX5_passes_0 21 rfl rfl)
theorem dX5_passes_24 : decode cX5_passes 24 = .ok (.aload_n 0, 1) := dk_42 (dk_at dksX5_passes_1 0 rfl rfl)
theorem dX5_passes_25 : decode cX5_passes 25 = .ok (.dup, 1) := dk_89 (dk_at dksX5_passes_1 1 rfl rfl)
theorem dX5_passes_26 : decode cX5_passes 26 = .ok (.getfield 40, 3) := dk_180 0 40 (dk_at dksX5_passes_1 2 rfl rfl)
theorem dX5_passes_29 : decode cX5_passes 29 = .ok (.aload_n 0, 1) := dk_42 (dk_at dksX5_passes_1 5 rfl rfl)
theorem dX5_passes_30 : decode cX5_passes 30 = .ok (.invokevirtual 154, 3) := dk_182 0 154 (dk_at dksX5_passes_1 6 rfl rfl)
theorem dX5_passes_33 : decode cX5_passes 33 = .ok (.iadd, 1) := dk_96 (dk_at dksX5_passes_1 9 rfl rfl)
theorem dX5_passes_34 : decode cX5_passes 34 = .ok (.putfield 40, 3) := dk_181 0 40 (dk_at dksX5_passes_1 10 rfl rfl)
theorem dX5_passes_37 : decode cX5_passes 37 = .ok (.iinc 2 1, 3) := dk_132 2 1 (dk_at dksX5_passes_1 13 rfl rfl)
theorem dX5_passes_40 : decode cX5_passes 40 = .ok (.goto (-21), 3) := dk_167 255 235 (dk_at dksX5_passes_1 16 rfl rfl)
theorem dX5_passes_43 : decode cX5_passes 43 = .ok (.iconst 0, 1) := dk_3 (dk_at dksX5_passes_1 19 rfl rfl)
theorem dX5_passes_44 : decode cX5_passes 44 = .ok (.ireturn, 1) := dk_172 (dk_at dksX5_passes_1 20 rfl rfl)
abbrev cX5_tell : ByteArray := prog_15_method_83_code
def yX5_tell : MethodName := ⟨RX5, "tell", "(I)I"⟩
def dkwX5_tell_4 : List UInt8 := [182, 0, 215, 132, 4, 1, 167, 255, 224, 132, 2, 1, 167, 255, 182, 42, 180, 0, 209, 172]
abbrev dktX5_tell_4 : List UInt8 := dkwX5_tell_4 ++ []
def dkwX5_tell_3 : List UInt8 := [162, 0, 32, 21, 4, 158, 0, 9, 42, 16, 44, 182, 0, 212, 42, 42, 27, 28, 21, 4, 182, 0, 88]
abbrev dktX5_tell_3 : List UInt8 := dkwX5_tell_3 ++ dktX5_tell_4
def dkwX5_tell_2 : List UInt8 := [42, 27, 28, 182, 0, 85, 62, 29, 154, 0, 9, 42, 16, 45, 182, 0, 212, 3, 54, 4, 21, 4, 29]
abbrev dktX5_tell_2 : List UInt8 := dkwX5_tell_2 ++ dktX5_tell_3
def dkwX5_tell_1 : List UInt8 := [172, 42, 3, 181, 0, 209, 3, 61, 28, 16, 6, 162, 0, 74, 28, 158, 0, 9, 42, 16, 47, 182, 0, 212]
abbrev dktX5_tell_1 : List UInt8 := dkwX5_tell_1 ++ dktX5_tell_2
def dkwX5_tell_0 : List UInt8 := [42, 27, 184, 0, 72, 153, 0, 7, 3, 167, 0, 4, 4, 181, 0, 27, 42, 180, 0, 27, 153, 0, 5, 3]
abbrev dktX5_tell_0 : List UInt8 := dkwX5_tell_0 ++ dktX5_tell_1
theorem dksX5_tell_0 : cX5_tell.data.toList.drop 0 = dktX5_tell_0 := by decide +kernel
theorem dksX5_tell_1 : cX5_tell.data.toList.drop 24 = dktX5_tell_1 := dk_seg dksX5_tell_0 24 rfl rfl
theorem dksX5_tell_2 : cX5_tell.data.toList.drop 48 = dktX5_tell_2 := dk_seg dksX5_tell_1 24 rfl rfl
theorem dksX5_tell_3 : cX5_tell.data.toList.drop 71 = dktX5_tell_3 := dk_seg dksX5_tell_2 23 rfl rfl
theorem dksX5_tell_4 : cX5_tell.data.toList.drop 94 = dktX5_tell_4 := dk_seg dksX5_tell_3 23 rfl rfl
theorem dX5_tell_0 : decode cX5_tell 0 = .ok (.aload_n 0, 1) := dk_42 (dk_at dksX5_tell_0 0 rfl rfl)
theorem dX5_tell_1 : decode cX5_tell 1 = .ok (.iload_n 1, 1) := dk_27 (dk_at dksX5_tell_0 1 rfl rfl)
theorem dX5_tell_2 : decode cX5_tell 2 = .ok (.invokestatic 72, 3) := dk_184 0 72 (dk_at dksX5_tell_0 2 rfl rfl)
theorem dX5_tell_5 : decode cX5_tell 5 = .ok (.ifCond .eq 7, 3) := dk_153 0 7 (dk_at dksX5_tell_0 5 rfl rfl)
theorem dX5_tell_8 : decode cX5_tell 8 = .ok (.iconst 0, 1) := dk_3 (dk_at dksX5_tell_0 8 rfl rfl)
theorem dX5_tell_9 : decode cX5_tell 9 = .ok (.goto 4, 3) := dk_167 0 4 (dk_at dksX5_tell_0 9 rfl rfl)
theorem dX5_tell_12 : decode cX5_tell 12 = .ok (.iconst 1, 1) := dk_4 (dk_at dksX5_tell_0 12 rfl rfl)
theorem dX5_tell_13 : decode cX5_tell 13 = .ok (.putfield 27, 3) := dk_181 0 27 (dk_at dksX5_tell_0 13 rfl rfl)
theorem dX5_tell_16 : decode cX5_tell 16 = .ok (.aload_n 0, 1) := dk_42 (dk_at dksX5_tell_0 16 rfl rfl)
theorem dX5_tell_17 : decode cX5_tell 17 = .ok (.getfield 27, 3) := dk_180 0 27 (dk_at dksX5_tell_0 17 rfl rfl)
theorem dX5_tell_20 : decode cX5_tell 20 = .ok (.ifCond .eq 5, 3) := dk_153 0 5 (dk_at dksX5_tell_0 20 rfl rfl)
theorem dX5_tell_23 : decode cX5_tell 23 = .ok (.iconst 0, 1) := dk_3 (dk_at dksX5_tell_0 23 rfl rfl)
theorem dX5_tell_24 : decode cX5_tell 24 = .ok (.ireturn, 1) := dk_172 (dk_at dksX5_tell_1 0 rfl rfl)
theorem dX5_tell_25 : decode cX5_tell 25 = .ok (.aload_n 0, 1) := dk_42 (dk_at dksX5_tell_1 1 rfl rfl)
theorem dX5_tell_26 : decode cX5_tell 26 = .ok (.iconst 0, 1) := dk_3 (dk_at dksX5_tell_1 2 rfl rfl)
theorem dX5_tell_27 : decode cX5_tell 27 = .ok (.putfield 209, 3) := dk_181 0 209 (dk_at dksX5_tell_1 3 rfl rfl)
theorem dX5_tell_30 : decode cX5_tell 30 = .ok (.iconst 0, 1) := dk_3 (dk_at dksX5_tell_1 6 rfl rfl)
theorem dX5_tell_31 : decode cX5_tell 31 = .ok (.istore_n 2, 1) := dk_61 (dk_at dksX5_tell_1 7 rfl rfl)
theorem dX5_tell_32 : decode cX5_tell 32 = .ok (.iload_n 2, 1) := dk_28 (dk_at dksX5_tell_1 8 rfl rfl)
theorem dX5_tell_33 : decode cX5_tell 33 = .ok (.bipush 6, 2) := dk_16 6 (dk_at dksX5_tell_1 9 rfl rfl)
theorem dX5_tell_35 : decode cX5_tell 35 = .ok (.if_icmp .ge 74, 3) := dk_162 0 74 (dk_at dksX5_tell_1 11 rfl rfl)
theorem dX5_tell_38 : decode cX5_tell 38 = .ok (.iload_n 2, 1) := dk_28 (dk_at dksX5_tell_1 14 rfl rfl)
theorem dX5_tell_39 : decode cX5_tell 39 = .ok (.ifCond .le 9, 3) := dk_158 0 9 (dk_at dksX5_tell_1 15 rfl rfl)
theorem dX5_tell_42 : decode cX5_tell 42 = .ok (.aload_n 0, 1) := dk_42 (dk_at dksX5_tell_1 18 rfl rfl)
theorem dX5_tell_43 : decode cX5_tell 43 = .ok (.bipush 47, 2) := dk_16 47 (dk_at dksX5_tell_1 19 rfl rfl)
theorem dX5_tell_45 : decode cX5_tell 45 = .ok (.invokevirtual 212, 3) := dk_182 0 212 (dk_at dksX5_tell_1 21 rfl rfl)
theorem dX5_tell_48 : decode cX5_tell 48 = .ok (.aload_n 0, 1) := dk_42 (dk_at dksX5_tell_2 0 rfl rfl)
theorem dX5_tell_49 : decode cX5_tell 49 = .ok (.iload_n 1, 1) := dk_27 (dk_at dksX5_tell_2 1 rfl rfl)
theorem dX5_tell_50 : decode cX5_tell 50 = .ok (.iload_n 2, 1) := dk_28 (dk_at dksX5_tell_2 2 rfl rfl)
theorem dX5_tell_51 : decode cX5_tell 51 = .ok (.invokevirtual 85, 3) := dk_182 0 85 (dk_at dksX5_tell_2 3 rfl rfl)
theorem dX5_tell_54 : decode cX5_tell 54 = .ok (.istore_n 3, 1) := dk_62 (dk_at dksX5_tell_2 6 rfl rfl)
theorem dX5_tell_55 : decode cX5_tell 55 = .ok (.iload_n 3, 1) := dk_29 (dk_at dksX5_tell_2 7 rfl rfl)
theorem dX5_tell_56 : decode cX5_tell 56 = .ok (.ifCond .ne 9, 3) := dk_154 0 9 (dk_at dksX5_tell_2 8 rfl rfl)
theorem dX5_tell_59 : decode cX5_tell 59 = .ok (.aload_n 0, 1) := dk_42 (dk_at dksX5_tell_2 11 rfl rfl)
theorem dX5_tell_60 : decode cX5_tell 60 = .ok (.bipush 45, 2) := dk_16 45 (dk_at dksX5_tell_2 12 rfl rfl)
theorem dX5_tell_62 : decode cX5_tell 62 = .ok (.invokevirtual 212, 3) := dk_182 0 212 (dk_at dksX5_tell_2 14 rfl rfl)
theorem dX5_tell_65 : decode cX5_tell 65 = .ok (.iconst 0, 1) := dk_3 (dk_at dksX5_tell_2 17 rfl rfl)
theorem dX5_tell_66 : decode cX5_tell 66 = .ok (.istore 4, 2) := dk_54 4 (dk_at dksX5_tell_2 18 rfl rfl)
theorem dX5_tell_68 : decode cX5_tell 68 = .ok (.iload 4, 2) := dk_21 4 (dk_at dksX5_tell_2 20 rfl rfl)
theorem dX5_tell_70 : decode cX5_tell 70 = .ok (.iload_n 3, 1) := dk_29 (dk_at dksX5_tell_2 22 rfl rfl)
theorem dX5_tell_71 : decode cX5_tell 71 = .ok (.if_icmp .ge 32, 3) := dk_162 0 32 (dk_at dksX5_tell_3 0 rfl rfl)
theorem dX5_tell_74 : decode cX5_tell 74 = .ok (.iload 4, 2) := dk_21 4 (dk_at dksX5_tell_3 3 rfl rfl)
theorem dX5_tell_76 : decode cX5_tell 76 = .ok (.ifCond .le 9, 3) := dk_158 0 9 (dk_at dksX5_tell_3 5 rfl rfl)
theorem dX5_tell_79 : decode cX5_tell 79 = .ok (.aload_n 0, 1) := dk_42 (dk_at dksX5_tell_3 8 rfl rfl)
theorem dX5_tell_80 : decode cX5_tell 80 = .ok (.bipush 44, 2) := dk_16 44 (dk_at dksX5_tell_3 9 rfl rfl)
theorem dX5_tell_82 : decode cX5_tell 82 = .ok (.invokevirtual 212, 3) := dk_182 0 212 (dk_at dksX5_tell_3 11 rfl rfl)
theorem dX5_tell_85 : decode cX5_tell 85 = .ok (.aload_n 0, 1) := dk_42 (dk_at dksX5_tell_3 14 rfl rfl)
theorem dX5_tell_86 : decode cX5_tell 86 = .ok (.aload_n 0, 1) := dk_42 (dk_at dksX5_tell_3 15 rfl rfl)
theorem dX5_tell_87 : decode cX5_tell 87 = .ok (.iload_n 1, 1) := dk_27 (dk_at dksX5_tell_3 16 rfl rfl)
theorem dX5_tell_88 : decode cX5_tell 88 = .ok (.iload_n 2, 1) := dk_28 (dk_at dksX5_tell_3 17 rfl rfl)
theorem dX5_tell_89 : decode cX5_tell 89 = .ok (.iload 4, 2) := dk_21 4 (dk_at dksX5_tell_3 18 rfl rfl)
theorem dX5_tell_91 : decode cX5_tell 91 = .ok (.invokevirtual 88, 3) := dk_182 0 88 (dk_at dksX5_tell_3 20 rfl rfl)
theorem dX5_tell_94 : decode cX5_tell 94 = .ok (.invokevirtual 215, 3) := dk_182 0 215 (dk_at dksX5_tell_4 0 rfl rfl)
theorem dX5_tell_97 : decode cX5_tell 97 = .ok (.iinc 4 1, 3) := dk_132 4 1 (dk_at dksX5_tell_4 3 rfl rfl)
theorem dX5_tell_100 : decode cX5_tell 100 = .ok (.goto (-32), 3) := dk_167 255 224 (dk_at dksX5_tell_4 6 rfl rfl)
theorem dX5_tell_103 : decode cX5_tell 103 = .ok (.iinc 2 1, 3) := dk_132 2 1 (dk_at dksX5_tell_4 9 rfl rfl)
theorem dX5_tell_106 : decode cX5_tell 106 = .ok (.goto (-74), 3) := dk_167 255 182 (dk_at dksX5_tell_4 12 rfl rfl)
theorem dX5_tell_109 : decode cX5_tell 109 = .ok (.aload_n 0, 1) := dk_42 (dk_at dksX5_tell_4 15 rfl rfl)
theorem dX5_tell_110 : decode cX5_tell 110 = .ok (.getfield 209, 3) := dk_180 0 209 (dk_at dksX5_tell_4 16 rfl rfl)
theorem dX5_tell_113 : decode cX5_tell 113 = .ok (.ireturn, 1) := dk_172 (dk_at dksX5_tell_4 19 rfl rfl)
abbrev cX5_writes : ByteArray := prog_15_method_81_code
def yX5_writes : MethodName := ⟨RX5, "writes", "(I)V"⟩
def dkwX5_writes_0 : List UInt8 := [42, 180, 0, 13, 42, 180, 0, 209, 27, 146, 85, 42, 89, 180, 0, 209, 4, 96, 181, 0, 209, 177]
abbrev dktX5_writes_0 : List UInt8 := dkwX5_writes_0 ++ []
theorem dksX5_writes_0 : cX5_writes.data.toList.drop 0 = dktX5_writes_0 := by decide +kernel
theorem dX5_writes_0 : decode cX5_writes 0 = .ok (.aload_n 0, 1) := dk_42 (dk_at dksX5_writes_0 0 rfl rfl)
theorem dX5_writes_1 : decode cX5_writes 1 = .ok (.getfield 13, 3) := dk_180 0 13 (dk_at dksX5_writes_0 1 rfl rfl)
theorem dX5_writes_4 : decode cX5_writes 4 = .ok (.aload_n 0, 1) := dk_42 (dk_at dksX5_writes_0 4 rfl rfl)
theorem dX5_writes_5 : decode cX5_writes 5 = .ok (.getfield 209, 3) := dk_180 0 209 (dk_at dksX5_writes_0 5 rfl rfl)
theorem dX5_writes_8 : decode cX5_writes 8 = .ok (.iload_n 1, 1) := dk_27 (dk_at dksX5_writes_0 8 rfl rfl)
theorem dX5_writes_9 : decode cX5_writes 9 = .ok (.i2c, 1) := dk_146 (dk_at dksX5_writes_0 9 rfl rfl)
theorem dX5_writes_10 : decode cX5_writes 10 = .ok (.castore, 1) := dk_85 (dk_at dksX5_writes_0 10 rfl rfl)
theorem dX5_writes_11 : decode cX5_writes 11 = .ok (.aload_n 0, 1) := dk_42 (dk_at dksX5_writes_0 11 rfl rfl)
theorem dX5_writes_12 : decode cX5_writes 12 = .ok (.dup, 1) := dk_89 (dk_at dksX5_writes_0 12 rfl rfl)
theorem dX5_writes_13 : decode cX5_writes 13 = .ok (.getfield 209, 3) := dk_180 0 209 (dk_at dksX5_writes_0 13 rfl rfl)
theorem dX5_writes_16 : decode cX5_writes 16 = .ok (.iconst 1, 1) := dk_4 (dk_at dksX5_writes_0 16 rfl rfl)
theorem dX5_writes_17 : decode cX5_writes 17 = .ok (.iadd, 1) := dk_96 (dk_at dksX5_writes_0 17 rfl rfl)
theorem dX5_writes_18 : decode cX5_writes 18 = .ok (.putfield 209, 3) := dk_181 0 209 (dk_at dksX5_writes_0 18 rfl rfl)
theorem dX5_writes_21 : decode cX5_writes 21 = .ok (.return_, 1) := dk_177 (dk_at dksX5_writes_0 21 rfl rfl)
abbrev cX5_writesReam : ByteArray := prog_15_method_82_code
def yX5_writesReam : MethodName := ⟨RX5, "writesReam", "(I)V"⟩
def dkwX5_writesReam_1 : List UInt8 := [96, 182, 0, 212, 42, 27, 182, 0, 113, 153, 0, 9, 42, 16, 126, 182, 0, 212, 177]
abbrev dktX5_writesReam_1 : List UInt8 := dkwX5_writesReam_1 ++ []
def dkwX5_writesReam_0 : List UInt8 := [27, 16, 9, 164, 0, 14, 42, 16, 48, 27, 16, 10, 108, 96, 182, 0, 212, 42, 16, 48, 27, 16, 10, 112]
abbrev dktX5_writesReam_0 : List UInt8 := dkwX5_writesReam_0 ++ dktX5_writesReam_1
theorem dksX5_writesReam_0 : cX5_writesReam.data.toList.drop 0 = dktX5_writesReam_0 := by decide +kernel
theorem dksX5_writesReam_1 : cX5_writesReam.data.toList.drop 24 = dktX5_writesReam_1 := dk_seg dksX5_writesReam_0 24 rfl rfl
theorem dX5_writesReam_0 : decode cX5_writesReam 0 = .ok (.iload_n 1, 1) := dk_27 (dk_at dksX5_writesReam_0 0 rfl rfl)
theorem dX5_writesReam_1 : decode cX5_writesReam 1 = .ok (.bipush 9, 2) := dk_16 9 (dk_at dksX5_writesReam_0 1 rfl rfl)
theorem dX5_writesReam_3 : decode cX5_writesReam 3 = .ok (.if_icmp .le 14, 3) := dk_164 0 14 (dk_at dksX5_writesReam_0 3 rfl rfl)
theorem dX5_writesReam_6 : decode cX5_writesReam 6 = .ok (.aload_n 0, 1) := dk_42 (dk_at dksX5_writesReam_0 6 rfl rfl)
theorem dX5_writesReam_7 : decode cX5_writesReam 7 = .ok (.bipush 48, 2) := dk_16 48 (dk_at dksX5_writesReam_0 7 rfl rfl)
theorem dX5_writesReam_9 : decode cX5_writesReam 9 = .ok (.iload_n 1, 1) := dk_27 (dk_at dksX5_writesReam_0 9 rfl rfl)
theorem dX5_writesReam_10 : decode cX5_writesReam 10 = .ok (.bipush 10, 2) := dk_16 10 (dk_at dksX5_writesReam_0 10 rfl rfl)
theorem dX5_writesReam_12 : decode cX5_writesReam 12 = .ok (.idiv, 1) := dk_108 (dk_at dksX5_writesReam_0 12 rfl rfl)
theorem dX5_writesReam_13 : decode cX5_writesReam 13 = .ok (.iadd, 1) := dk_96 (dk_at dksX5_writesReam_0 13 rfl rfl)
theorem dX5_writesReam_14 : decode cX5_writesReam 14 = .ok (.invokevirtual 212, 3) := dk_182 0 212 (dk_at dksX5_writesReam_0 14 rfl rfl)
theorem dX5_writesReam_17 : decode cX5_writesReam 17 = .ok (.aload_n 0, 1) := dk_42 (dk_at dksX5_writesReam_0 17 rfl rfl)
theorem dX5_writesReam_18 : decode cX5_writesReam 18 = .ok (.bipush 48, 2) := dk_16 48 (dk_at dksX5_writesReam_0 18 rfl rfl)
theorem dX5_writesReam_20 : decode cX5_writesReam 20 = .ok (.iload_n 1, 1) := dk_27 (dk_at dksX5_writesReam_0 20 rfl rfl)
theorem dX5_writesReam_21 : decode cX5_writesReam 21 = .ok (.bipush 10, 2) := dk_16 10 (dk_at dksX5_writesReam_0 21 rfl rfl)
theorem dX5_writesReam_23 : decode cX5_writesReam 23 = .ok (.irem, 1) := dk_112 (dk_at dksX5_writesReam_0 23 rfl rfl)
theorem dX5_writesReam_24 : decode cX5_writesReam 24 = .ok (.iadd, 1) := dk_96 (dk_at dksX5_writesReam_1 0 rfl rfl)
theorem dX5_writesReam_25 : decode cX5_writesReam 25 = .ok (.invokevirtual 212, 3) := dk_182 0 212 (dk_at dksX5_writesReam_1 1 rfl rfl)
theorem dX5_writesReam_28 : decode cX5_writesReam 28 = .ok (.aload_n 0, 1) := dk_42 (dk_at dksX5_writesReam_1 4 rfl rfl)
theorem dX5_writesReam_29 : decode cX5_writesReam 29 = .ok (.iload_n 1, 1) := dk_27 (dk_at dksX5_writesReam_1 5 rfl rfl)
theorem dX5_writesReam_30 : decode cX5_writesReam 30 = .ok (.invokevirtual 113, 3) := dk_182 0 113 (dk_at dksX5_writesReam_1 6 rfl rfl)
theorem dX5_writesReam_33 : decode cX5_writesReam 33 = .ok (.ifCond .eq 9, 3) := dk_153 0 9 (dk_at dksX5_writesReam_1 9 rfl rfl)
theorem dX5_writesReam_36 : decode cX5_writesReam 36 = .ok (.aload_n 0, 1) := dk_42 (dk_at dksX5_writesReam_1 12 rfl rfl)
theorem dX5_writesReam_37 : decode cX5_writesReam 37 = .ok (.bipush 126, 2) := dk_16 126 (dk_at dksX5_writesReam_1 13 rfl rfl)
theorem dX5_writesReam_39 : decode cX5_writesReam 39 = .ok (.invokevirtual 212, 3) := dk_182 0 212 (dk_at dksX5_writesReam_1 15 rfl rfl)
theorem dX5_writesReam_42 : decode cX5_writesReam 42 = .ok (.return_, 1) := dk_177 (dk_at dksX5_writesReam_1 18 rfl rfl)
abbrev cX5_character : ByteArray := prog_15_method_84_code
def yX5_character : MethodName := ⟨RX5, "character", "(I)C"⟩
def dkwX5_character_1 : List UInt8 := [180, 0, 27, 154, 0, 12, 42, 180, 0, 13, 27, 52, 167, 0, 4, 3, 172]
abbrev dktX5_character_1 : List UInt8 := dkwX5_character_1 ++ []
def dkwX5_character_0 : List UInt8 := [42, 27, 3, 42, 180, 0, 209, 4, 100, 184, 0, 49, 153, 0, 7, 3, 167, 0, 4, 4, 181, 0, 27, 42]
abbrev dktX5_character_0 : List UInt8 := dkwX5_character_0 ++ dktX5_character_1
theorem dksX5_character_0 : cX5_character.data.toList.drop 0 = dktX5_character_0 := by decide +kernel
theorem dksX5_character_1 : cX5_character.data.toList.drop 24 = dktX5_character_1 := dk_seg dksX5_character_0 24 rfl rfl
theorem dX5_character_0 : decode cX5_character 0 = .ok (.aload_n 0, 1) := dk_42 (dk_at dksX5_character_0 0 rfl rfl)
theorem dX5_character_1 : decode cX5_character 1 = .ok (.iload_n 1, 1) := dk_27 (dk_at dksX5_character_0 1 rfl rfl)
theorem dX5_character_2 : decode cX5_character 2 = .ok (.iconst 0, 1) := dk_3 (dk_at dksX5_character_0 2 rfl rfl)
theorem dX5_character_3 : decode cX5_character 3 = .ok (.aload_n 0, 1) := dk_42 (dk_at dksX5_character_0 3 rfl rfl)
theorem dX5_character_4 : decode cX5_character 4 = .ok (.getfield 209, 3) := dk_180 0 209 (dk_at dksX5_character_0 4 rfl rfl)
theorem dX5_character_7 : decode cX5_character 7 = .ok (.iconst 1, 1) := dk_4 (dk_at dksX5_character_0 7 rfl rfl)
theorem dX5_character_8 : decode cX5_character 8 = .ok (.isub, 1) := dk_100 (dk_at dksX5_character_0 8 rfl rfl)
theorem dX5_character_9 : decode cX5_character 9 = .ok (.invokestatic 49, 3) := dk_184 0 49 (dk_at dksX5_character_0 9 rfl rfl)
theorem dX5_character_12 : decode cX5_character 12 = .ok (.ifCond .eq 7, 3) := dk_153 0 7 (dk_at dksX5_character_0 12 rfl rfl)
theorem dX5_character_15 : decode cX5_character 15 = .ok (.iconst 0, 1) := dk_3 (dk_at dksX5_character_0 15 rfl rfl)
theorem dX5_character_16 : decode cX5_character 16 = .ok (.goto 4, 3) := dk_167 0 4 (dk_at dksX5_character_0 16 rfl rfl)
theorem dX5_character_19 : decode cX5_character 19 = .ok (.iconst 1, 1) := dk_4 (dk_at dksX5_character_0 19 rfl rfl)
theorem dX5_character_20 : decode cX5_character 20 = .ok (.putfield 27, 3) := dk_181 0 27 (dk_at dksX5_character_0 20 rfl rfl)
theorem dX5_character_23 : decode cX5_character 23 = .ok (.aload_n 0, 1) := dk_42 (dk_at dksX5_character_0 23 rfl rfl)
theorem dX5_character_24 : decode cX5_character 24 = .ok (.getfield 27, 3) := dk_180 0 27 (dk_at dksX5_character_1 0 rfl rfl)
theorem dX5_character_27 : decode cX5_character 27 = .ok (.ifCond .ne 12, 3) := dk_154 0 12 (dk_at dksX5_character_1 3 rfl rfl)
theorem dX5_character_30 : decode cX5_character 30 = .ok (.aload_n 0, 1) := dk_42 (dk_at dksX5_character_1 6 rfl rfl)
theorem dX5_character_31 : decode cX5_character 31 = .ok (.getfield 13, 3) := dk_180 0 13 (dk_at dksX5_character_1 7 rfl rfl)
theorem dX5_character_34 : decode cX5_character 34 = .ok (.iload_n 1, 1) := dk_27 (dk_at dksX5_character_1 10 rfl rfl)
theorem dX5_character_35 : decode cX5_character 35 = .ok (.caload, 1) := dk_52 (dk_at dksX5_character_1 11 rfl rfl)
theorem dX5_character_36 : decode cX5_character 36 = .ok (.goto 4, 3) := dk_167 0 4 (dk_at dksX5_character_1 12 rfl rfl)
theorem dX5_character_39 : decode cX5_character 39 = .ok (.iconst 0, 1) := dk_3 (dk_at dksX5_character_1 15 rfl rfl)
theorem dX5_character_40 : decode cX5_character 40 = .ok (.ireturn, 1) := dk_172 (dk_at dksX5_character_1 16 rfl rfl)
abbrev cX5_meanDamp : ByteArray := prog_15_method_88_code
def yX5_meanDamp : MethodName := ⟨RX5, "meanDamp", "()F"⟩
def dkwX5_meanDamp_3 : List UInt8 := [182, 0, 218, 134, 110, 167, 0, 4, 11, 174]
abbrev dktX5_meanDamp_3 : List UInt8 := dkwX5_meanDamp_3 ++ []
def dkwX5_meanDamp_2 : List UInt8 := [182, 0, 218, 154, 0, 7, 4, 167, 0, 4, 3, 181, 0, 27, 42, 180, 0, 27, 154, 0, 14, 27, 134, 42]
abbrev dktX5_meanDamp_2 : List UInt8 := dkwX5_meanDamp_2 ++ dktX5_meanDamp_3
def dkwX5_meanDamp_1 : List UInt8 := [160, 0, 7, 3, 167, 0, 9, 42, 28, 6, 182, 0, 82, 96, 60, 132, 2, 1, 167, 255, 220, 42, 42]
abbrev dktX5_meanDamp_1 : List UInt8 := dkwX5_meanDamp_1 ++ dktX5_meanDamp_2
def dkwX5_meanDamp_0 : List UInt8 := [3, 60, 3, 61, 28, 42, 180, 0, 9, 8, 46, 162, 0, 32, 27, 42, 28, 7, 182, 0, 82, 2]
abbrev dktX5_meanDamp_0 : List UInt8 := dkwX5_meanDamp_0 ++ dktX5_meanDamp_1
theorem dksX5_meanDamp_0 : cX5_meanDamp.data.toList.drop 0 = dktX5_meanDamp_0 := by decide +kernel
theorem dksX5_meanDamp_1 : cX5_meanDamp.data.toList.drop 22 = dktX5_meanDamp_1 := dk_seg dksX5_meanDamp_0 22 rfl rfl
theorem dksX5_meanDamp_2 : cX5_meanDamp.data.toList.drop 45 = dktX5_meanDamp_2 := dk_seg dksX5_meanDamp_1 23 rfl rfl
theorem dksX5_meanDamp_3 : cX5_meanDamp.data.toList.drop 69 = dktX5_meanDamp_3 := dk_seg dksX5_meanDamp_2 24 rfl rfl
theorem dX5_meanDamp_0 : decode cX5_meanDamp 0 = .ok (.iconst 0, 1) := dk_3 (dk_at dksX5_meanDamp_0 0 rfl rfl)
theorem dX5_meanDamp_1 : decode cX5_meanDamp 1 = .ok (.istore_n 1, 1) := dk_60 (dk_at dksX5_meanDamp_0 1 rfl rfl)
theorem dX5_meanDamp_2 : decode cX5_meanDamp 2 = .ok (.iconst 0, 1) := dk_3 (dk_at dksX5_meanDamp_0 2 rfl rfl)
theorem dX5_meanDamp_3 : decode cX5_meanDamp 3 = .ok (.istore_n 2, 1) := dk_61 (dk_at dksX5_meanDamp_0 3 rfl rfl)
theorem dX5_meanDamp_4 : decode cX5_meanDamp 4 = .ok (.iload_n 2, 1) := dk_28 (dk_at dksX5_meanDamp_0 4 rfl rfl)
theorem dX5_meanDamp_5 : decode cX5_meanDamp 5 = .ok (.aload_n 0, 1) := dk_42 (dk_at dksX5_meanDamp_0 5 rfl rfl)
theorem dX5_meanDamp_6 : decode cX5_meanDamp 6 = .ok (.getfield 9, 3) := dk_180 0 9 (dk_at dksX5_meanDamp_0 6 rfl rfl)
theorem dX5_meanDamp_9 : decode cX5_meanDamp 9 = .ok (.iconst 5, 1) := dk_8 (dk_at dksX5_meanDamp_0 9 rfl rfl)
theorem dX5_meanDamp_10 : decode cX5_meanDamp 10 = .ok (.iaload, 1) := dk_46 (dk_at dksX5_meanDamp_0 10 rfl rfl)
theorem dX5_meanDamp_11 : decode cX5_meanDamp 11 = .ok (.if_icmp .ge 32, 3) := dk_162 0 32 (dk_at dksX5_meanDamp_0 11 rfl rfl)
theorem dX5_meanDamp_14 : decode cX5_meanDamp 14 = .ok (.iload_n 1, 1) := dk_27 (dk_at dksX5_meanDamp_0 14 rfl rfl)
theorem dX5_meanDamp_15 : decode cX5_meanDamp 15 = .ok (.aload_n 0, 1) := dk_42 (dk_at dksX5_meanDamp_0 15 rfl rfl)
theorem dX5_meanDamp_16 : decode cX5_meanDamp 16 = .ok (.iload_n 2, 1) := dk_28 (dk_at dksX5_meanDamp_0 16 rfl rfl)
theorem dX5_meanDamp_17 : decode cX5_meanDamp 17 = .ok (.iconst 4, 1) := dk_7 (dk_at dksX5_meanDamp_0 17 rfl rfl)
theorem dX5_meanDamp_18 : decode cX5_meanDamp 18 = .ok (.invokevirtual 82, 3) := dk_182 0 82 (dk_at dksX5_meanDamp_0 18 rfl rfl)
theorem dX5_meanDamp_21 : decode cX5_meanDamp 21 = .ok (.iconst (-1), 1) := dk_2 (dk_at dksX5_meanDamp_0 21 rfl rfl)
theorem dX5_meanDamp_22 : decode cX5_meanDamp 22 = .ok (.if_icmp .ne 7, 3) := dk_160 0 7 (dk_at dksX5_meanDamp_1 0 rfl rfl)
theorem dX5_meanDamp_25 : decode cX5_meanDamp 25 = .ok (.iconst 0, 1) := dk_3 (dk_at dksX5_meanDamp_1 3 rfl rfl)
theorem dX5_meanDamp_26 : decode cX5_meanDamp 26 = .ok (.goto 9, 3) := dk_167 0 9 (dk_at dksX5_meanDamp_1 4 rfl rfl)
theorem dX5_meanDamp_29 : decode cX5_meanDamp 29 = .ok (.aload_n 0, 1) := dk_42 (dk_at dksX5_meanDamp_1 7 rfl rfl)
theorem dX5_meanDamp_30 : decode cX5_meanDamp 30 = .ok (.iload_n 2, 1) := dk_28 (dk_at dksX5_meanDamp_1 8 rfl rfl)
theorem dX5_meanDamp_31 : decode cX5_meanDamp 31 = .ok (.iconst 3, 1) := dk_6 (dk_at dksX5_meanDamp_1 9 rfl rfl)
theorem dX5_meanDamp_32 : decode cX5_meanDamp 32 = .ok (.invokevirtual 82, 3) := dk_182 0 82 (dk_at dksX5_meanDamp_1 10 rfl rfl)
theorem dX5_meanDamp_35 : decode cX5_meanDamp 35 = .ok (.iadd, 1) := dk_96 (dk_at dksX5_meanDamp_1 13 rfl rfl)
theorem dX5_meanDamp_36 : decode cX5_meanDamp 36 = .ok (.istore_n 1, 1) := dk_60 (dk_at dksX5_meanDamp_1 14 rfl rfl)
theorem dX5_meanDamp_37 : decode cX5_meanDamp 37 = .ok (.iinc 2 1, 3) := dk_132 2 1 (dk_at dksX5_meanDamp_1 15 rfl rfl)
theorem dX5_meanDamp_40 : decode cX5_meanDamp 40 = .ok (.goto (-36), 3) := dk_167 255 220 (dk_at dksX5_meanDamp_1 18 rfl rfl)
theorem dX5_meanDamp_43 : decode cX5_meanDamp 43 = .ok (.aload_n 0, 1) := dk_42 (dk_at dksX5_meanDamp_1 21 rfl rfl)
theorem dX5_meanDamp_44 : decode cX5_meanDamp 44 = .ok (.aload_n 0, 1) := dk_42 (dk_at dksX5_meanDamp_1 22 rfl rfl)
theorem dX5_meanDamp_45 : decode cX5_meanDamp 45 = .ok (.invokevirtual 218, 3) := dk_182 0 218 (dk_at dksX5_meanDamp_2 0 rfl rfl)
theorem dX5_meanDamp_48 : decode cX5_meanDamp 48 = .ok (.ifCond .ne 7, 3) := dk_154 0 7 (dk_at dksX5_meanDamp_2 3 rfl rfl)
theorem dX5_meanDamp_51 : decode cX5_meanDamp 51 = .ok (.iconst 1, 1) := dk_4 (dk_at dksX5_meanDamp_2 6 rfl rfl)
theorem dX5_meanDamp_52 : decode cX5_meanDamp 52 = .ok (.goto 4, 3) := dk_167 0 4 (dk_at dksX5_meanDamp_2 7 rfl rfl)
theorem dX5_meanDamp_55 : decode cX5_meanDamp 55 = .ok (.iconst 0, 1) := dk_3 (dk_at dksX5_meanDamp_2 10 rfl rfl)
theorem dX5_meanDamp_56 : decode cX5_meanDamp 56 = .ok (.putfield 27, 3) := dk_181 0 27 (dk_at dksX5_meanDamp_2 11 rfl rfl)
theorem dX5_meanDamp_59 : decode cX5_meanDamp 59 = .ok (.aload_n 0, 1) := dk_42 (dk_at dksX5_meanDamp_2 14 rfl rfl)
theorem dX5_meanDamp_60 : decode cX5_meanDamp 60 = .ok (.getfield 27, 3) := dk_180 0 27 (dk_at dksX5_meanDamp_2 15 rfl rfl)
theorem dX5_meanDamp_63 : decode cX5_meanDamp 63 = .ok (.ifCond .ne 14, 3) := dk_154 0 14 (dk_at dksX5_meanDamp_2 18 rfl rfl)
theorem dX5_meanDamp_66 : decode cX5_meanDamp 66 = .ok (.iload_n 1, 1) := dk_27 (dk_at dksX5_meanDamp_2 21 rfl rfl)
theorem dX5_meanDamp_67 : decode cX5_meanDamp 67 = .ok (.i2f, 1) := dk_134 (dk_at dksX5_meanDamp_2 22 rfl rfl)
theorem dX5_meanDamp_68 : decode cX5_meanDamp 68 = .ok (.aload_n 0, 1) := dk_42 (dk_at dksX5_meanDamp_2 23 rfl rfl)
theorem dX5_meanDamp_69 : decode cX5_meanDamp 69 = .ok (.invokevirtual 218, 3) := dk_182 0 218 (dk_at dksX5_meanDamp_3 0 rfl rfl)
theorem dX5_meanDamp_72 : decode cX5_meanDamp 72 = .ok (.i2f, 1) := dk_134 (dk_at dksX5_meanDamp_3 3 rfl rfl)
theorem dX5_meanDamp_73 : decode cX5_meanDamp 73 = .ok (.fdiv, 1) := dk_110 (dk_at dksX5_meanDamp_3 4 rfl rfl)
theorem dX5_meanDamp_74 : decode cX5_meanDamp 74 = .ok (.goto 4, 3) := dk_167 0 4 (dk_at dksX5_meanDamp_3 5 rfl rfl)
theorem dX5_meanDamp_77 : decode cX5_meanDamp 77 = .ok (.fconst 0, 1) := dk_11 (dk_at dksX5_meanDamp_3 8 rfl rfl)
theorem dX5_meanDamp_78 : decode cX5_meanDamp 78 = .ok (.freturn, 1) := dk_174 (dk_at dksX5_meanDamp_3 9 rfl rfl)
abbrev cX5_onShelves : ByteArray := prog_15_method_85_code
def yX5_onShelves : MethodName := ⟨RX5, "onShelves", "()I"⟩
def dkwX5_onShelves_1 : List UInt8 := [160, 0, 7, 3, 167, 0, 4, 4, 96, 60, 132, 2, 1, 167, 255, 225, 27, 172]
abbrev dktX5_onShelves_1 : List UInt8 := dkwX5_onShelves_1 ++ []
def dkwX5_onShelves_0 : List UInt8 := [3, 60, 3, 61, 28, 42, 180, 0, 9, 8, 46, 162, 0, 27, 27, 42, 28, 7, 182, 0, 82, 2]
abbrev dktX5_onShelves_0 : List UInt8 := dkwX5_onShelves_0 ++ dktX5_onShelves_1
theorem dksX5_onShelves_0 : cX5_onShelves.data.toList.drop 0 = dktX5_onShelves_0 := by decide +kernel
theorem dksX5_onShelves_1 : cX5_onShelves.data.toList.drop 22 = dktX5_onShelves_1 := dk_seg dksX5_onShelves_0 22 rfl rfl
theorem dX5_onShelves_0 : decode cX5_onShelves 0 = .ok (.iconst 0, 1) := dk_3 (dk_at dksX5_onShelves_0 0 rfl rfl)
theorem dX5_onShelves_1 : decode cX5_onShelves 1 = .ok (.istore_n 1, 1) := dk_60 (dk_at dksX5_onShelves_0 1 rfl rfl)
theorem dX5_onShelves_2 : decode cX5_onShelves 2 = .ok (.iconst 0, 1) := dk_3 (dk_at dksX5_onShelves_0 2 rfl rfl)
theorem dX5_onShelves_3 : decode cX5_onShelves 3 = .ok (.istore_n 2, 1) := dk_61 (dk_at dksX5_onShelves_0 3 rfl rfl)
theorem dX5_onShelves_4 : decode cX5_onShelves 4 = .ok (.iload_n 2, 1) := dk_28 (dk_at dksX5_onShelves_0 4 rfl rfl)
theorem dX5_onShelves_5 : decode cX5_onShelves 5 = .ok (.aload_n 0, 1) := dk_42 (dk_at dksX5_onShelves_0 5 rfl rfl)
theorem dX5_onShelves_6 : decode cX5_onShelves 6 = .ok (.getfield 9, 3) := dk_180 0 9 (dk_at dksX5_onShelves_0 6 rfl rfl)
theorem dX5_onShelves_9 : decode cX5_onShelves 9 = .ok (.iconst 5, 1) := dk_8 (dk_at dksX5_onShelves_0 9 rfl rfl)
theorem dX5_onShelves_10 : decode cX5_onShelves 10 = .ok (.iaload, 1) := dk_46 (dk_at dksX5_onShelves_0 10 rfl rfl)
theorem dX5_onShelves_11 : decode cX5_onShelves 11 = .ok (.if_icmp .ge 27, 3) := dk_162 0 27 (dk_at dksX5_onShelves_0 11 rfl rfl)
theorem dX5_onShelves_14 : decode cX5_onShelves 14 = .ok (.iload_n 1, 1) := dk_27 (dk_at dksX5_onShelves_0 14 rfl rfl)
theorem dX5_onShelves_15 : decode cX5_onShelves 15 = .ok (.aload_n 0, 1) := dk_42 (dk_at dksX5_onShelves_0 15 rfl rfl)
theorem dX5_onShelves_16 : decode cX5_onShelves 16 = .ok (.iload_n 2, 1) := dk_28 (dk_at dksX5_onShelves_0 16 rfl rfl)
theorem dX5_onShelves_17 : decode cX5_onShelves 17 = .ok (.iconst 4, 1) := dk_7 (dk_at dksX5_onShelves_0 17 rfl rfl)
theorem dX5_onShelves_18 : decode cX5_onShelves 18 = .ok (.invokevirtual 82, 3) := dk_182 0 82 (dk_at dksX5_onShelves_0 18 rfl rfl)
theorem dX5_onShelves_21 : decode cX5_onShelves 21 = .ok (.iconst (-1), 1) := dk_2 (dk_at dksX5_onShelves_0 21 rfl rfl)
theorem dX5_onShelves_22 : decode cX5_onShelves 22 = .ok (.if_icmp .ne 7, 3) := dk_160 0 7 (dk_at dksX5_onShelves_1 0 rfl rfl)
theorem dX5_onShelves_25 : decode cX5_onShelves 25 = .ok (.iconst 0, 1) := dk_3 (dk_at dksX5_onShelves_1 3 rfl rfl)
theorem dX5_onShelves_26 : decode cX5_onShelves 26 = .ok (.goto 4, 3) := dk_167 0 4 (dk_at dksX5_onShelves_1 4 rfl rfl)
theorem dX5_onShelves_29 : decode cX5_onShelves 29 = .ok (.iconst 1, 1) := dk_4 (dk_at dksX5_onShelves_1 7 rfl rfl)
theorem dX5_onShelves_30 : decode cX5_onShelves 30 = .ok (.iadd, 1) := dk_96 (dk_at dksX5_onShelves_1 8 rfl rfl)
theorem dX5_onShelves_31 : decode cX5_onShelves 31 = .ok (.istore_n 1, 1) := dk_60 (dk_at dksX5_onShelves_1 9 rfl rfl)
theorem dX5_onShelves_32 : decode cX5_onShelves 32 = .ok (.iinc 2 1, 3) := dk_132 2 1 (dk_at dksX5_onShelves_1 10 rfl rfl)
theorem dX5_onShelves_35 : decode cX5_onShelves 35 = .ok (.goto (-31), 3) := dk_167 255 225 (dk_at dksX5_onShelves_1 13 rfl rfl)
theorem dX5_onShelves_38 : decode cX5_onShelves 38 = .ok (.iload_n 1, 1) := dk_27 (dk_at dksX5_onShelves_1 16 rfl rfl)
theorem dX5_onShelves_39 : decode cX5_onShelves 39 = .ok (.ireturn, 1) := dk_172 (dk_at dksX5_onShelves_1 17 rfl rfl)
abbrev cX5_eatenShare : ByteArray := prog_15_method_89_code
def yX5_eatenShare : MethodName := ⟨RX5, "eatenShare", "()D"⟩
def dkwX5_eatenShare_2 : List UInt8 := [14, 175]
abbrev dktX5_eatenShare_2 : List UInt8 := dkwX5_eatenShare_2 ++ []
def dkwX5_eatenShare_1 : List UInt8 := [154, 0, 24, 42, 180, 0, 9, 4, 46, 135, 16, 20, 42, 180, 0, 9, 8, 46, 104, 135, 111, 167, 0, 4]
abbrev dktX5_eatenShare_1 : List UInt8 := dkwX5_eatenShare_1 ++ dktX5_eatenShare_2
def dkwX5_eatenShare_0 : List UInt8 := [42, 42, 180, 0, 9, 8, 46, 154, 0, 7, 4, 167, 0, 4, 3, 181, 0, 27, 42, 180, 0, 27]
abbrev dktX5_eatenShare_0 : List UInt8 := dkwX5_eatenShare_0 ++ dktX5_eatenShare_1
theorem dksX5_eatenShare_0 : cX5_eatenShare.data.toList.drop 0 = dktX5_eatenShare_0 := by decide +kernel
theorem dksX5_eatenShare_1 : cX5_eatenShare.data.toList.drop 22 = dktX5_eatenShare_1 := dk_seg dksX5_eatenShare_0 22 rfl rfl
theorem dksX5_eatenShare_2 : cX5_eatenShare.data.toList.drop 46 = dktX5_eatenShare_2 := dk_seg dksX5_eatenShare_1 24 rfl rfl
theorem dX5_eatenShare_0 : decode cX5_eatenShare 0 = .ok (.aload_n 0, 1) := dk_42 (dk_at dksX5_eatenShare_0 0 rfl rfl)
theorem dX5_eatenShare_1 : decode cX5_eatenShare 1 = .ok (.aload_n 0, 1) := dk_42 (dk_at dksX5_eatenShare_0 1 rfl rfl)
theorem dX5_eatenShare_2 : decode cX5_eatenShare 2 = .ok (.getfield 9, 3) := dk_180 0 9 (dk_at dksX5_eatenShare_0 2 rfl rfl)
theorem dX5_eatenShare_5 : decode cX5_eatenShare 5 = .ok (.iconst 5, 1) := dk_8 (dk_at dksX5_eatenShare_0 5 rfl rfl)
theorem dX5_eatenShare_6 : decode cX5_eatenShare 6 = .ok (.iaload, 1) := dk_46 (dk_at dksX5_eatenShare_0 6 rfl rfl)
theorem dX5_eatenShare_7 : decode cX5_eatenShare 7 = .ok (.ifCond .ne 7, 3) := dk_154 0 7 (dk_at dksX5_eatenShare_0 7 rfl rfl)
theorem dX5_eatenShare_10 : decode cX5_eatenShare 10 = .ok (.iconst 1, 1) := dk_4 (dk_at dksX5_eatenShare_0 10 rfl rfl)
theorem dX5_eatenShare_11 : decode cX5_eatenShare 11 = .ok (.goto 4, 3) := dk_167 0 4 (dk_at dksX5_eatenShare_0 11 rfl rfl)
theorem dX5_eatenShare_14 : decode cX5_eatenShare 14 = .ok (.iconst 0, 1) := dk_3 (dk_at dksX5_eatenShare_0 14 rfl rfl)
theorem dX5_eatenShare_15 : decode cX5_eatenShare 15 = .ok (.putfield 27, 3) := dk_181 0 27 (dk_at dksX5_eatenShare_0 15 rfl rfl)
theorem dX5_eatenShare_18 : decode cX5_eatenShare 18 = .ok (.aload_n 0, 1) := dk_42 (dk_at dksX5_eatenShare_0 18 rfl rfl)
theorem dX5_eatenShare_19 : decode cX5_eatenShare 19 = .ok (.getfield 27, 3) := dk_180 0 27 (dk_at dksX5_eatenShare_0 19 rfl rfl)
theorem dX5_eatenShare_22 : decode cX5_eatenShare 22 = .ok (.ifCond .ne 24, 3) := dk_154 0 24 (dk_at dksX5_eatenShare_1 0 rfl rfl)
theorem dX5_eatenShare_25 : decode cX5_eatenShare 25 = .ok (.aload_n 0, 1) := dk_42 (dk_at dksX5_eatenShare_1 3 rfl rfl)
theorem dX5_eatenShare_26 : decode cX5_eatenShare 26 = .ok (.getfield 9, 3) := dk_180 0 9 (dk_at dksX5_eatenShare_1 4 rfl rfl)
theorem dX5_eatenShare_29 : decode cX5_eatenShare 29 = .ok (.iconst 1, 1) := dk_4 (dk_at dksX5_eatenShare_1 7 rfl rfl)
theorem dX5_eatenShare_30 : decode cX5_eatenShare 30 = .ok (.iaload, 1) := dk_46 (dk_at dksX5_eatenShare_1 8 rfl rfl)
theorem dX5_eatenShare_31 : decode cX5_eatenShare 31 = .ok (.i2d, 1) := dk_135 (dk_at dksX5_eatenShare_1 9 rfl rfl)
theorem dX5_eatenShare_32 : decode cX5_eatenShare 32 = .ok (.bipush 20, 2) := dk_16 20 (dk_at dksX5_eatenShare_1 10 rfl rfl)
theorem dX5_eatenShare_34 : decode cX5_eatenShare 34 = .ok (.aload_n 0, 1) := dk_42 (dk_at dksX5_eatenShare_1 12 rfl rfl)
theorem dX5_eatenShare_35 : decode cX5_eatenShare 35 = .ok (.getfield 9, 3) := dk_180 0 9 (dk_at dksX5_eatenShare_1 13 rfl rfl)
theorem dX5_eatenShare_38 : decode cX5_eatenShare 38 = .ok (.iconst 5, 1) := dk_8 (dk_at dksX5_eatenShare_1 16 rfl rfl)
theorem dX5_eatenShare_39 : decode cX5_eatenShare 39 = .ok (.iaload, 1) := dk_46 (dk_at dksX5_eatenShare_1 17 rfl rfl)
theorem dX5_eatenShare_40 : decode cX5_eatenShare 40 = .ok (.imul, 1) := dk_104 (dk_at dksX5_eatenShare_1 18 rfl rfl)
theorem dX5_eatenShare_41 : decode cX5_eatenShare 41 = .ok (.i2d, 1) := dk_135 (dk_at dksX5_eatenShare_1 19 rfl rfl)
theorem dX5_eatenShare_42 : decode cX5_eatenShare 42 = .ok (.ddiv, 1) := dk_111 (dk_at dksX5_eatenShare_1 20 rfl rfl)
theorem dX5_eatenShare_43 : decode cX5_eatenShare 43 = .ok (.goto 4, 3) := dk_167 0 4 (dk_at dksX5_eatenShare_1 21 rfl rfl)
theorem dX5_eatenShare_46 : decode cX5_eatenShare 46 = .ok (.dconst 0, 1) := dk_14 (dk_at dksX5_eatenShare_2 0 rfl rfl)
theorem dX5_eatenShare_47 : decode cX5_eatenShare 47 = .ok (.dreturn, 1) := dk_175 (dk_at dksX5_eatenShare_2 1 rfl rfl)
abbrev cX5_account : ByteArray := prog_15_method_94_code
def yX5_account : MethodName := ⟨RX5, "account", "(I)I"⟩
def dkwX5_account_8 : List UInt8 := [42, 180, 0, 34, 172]
abbrev dktX5_account_8 : List UInt8 := dkwX5_account_8 ++ []
def dkwX5_account_7 : List UInt8 := [42, 182, 0, 236, 172, 42, 180, 0, 9, 7, 46, 172, 42, 180, 0, 9, 3, 46, 172, 42, 180, 0, 239, 172]
abbrev dktX5_account_7 : List UInt8 := dkwX5_account_7 ++ dktX5_account_8
def dkwX5_account_6 : List UInt8 := [3, 182, 0, 233, 172, 42, 4, 182, 0, 233, 172, 42, 5, 182, 0, 233, 172, 42, 180, 0, 9, 6, 46, 172]
abbrev dktX5_account_6 : List UInt8 := dkwX5_account_6 ++ dktX5_account_7
def dkwX5_account_5 : List UInt8 := [180, 0, 9, 16, 6, 46, 172, 42, 180, 0, 9, 16, 8, 46, 172, 42, 180, 0, 9, 16, 7, 46, 172, 42]
abbrev dktX5_account_5 : List UInt8 := dkwX5_account_5 ++ dktX5_account_6
def dkwX5_account_4 : List UInt8 := [182, 0, 227, 172, 42, 182, 0, 230, 172, 42, 180, 0, 9, 4, 46, 172, 42, 180, 0, 9, 5, 46, 172, 42]
abbrev dktX5_account_4 : List UInt8 := dkwX5_account_4 ++ dktX5_account_5
def dkwX5_account_3 : List UInt8 := [42, 180, 0, 9, 8, 46, 172, 42, 182, 0, 218, 172, 42, 182, 0, 221, 172, 42, 182, 0, 224, 172, 42]
abbrev dktX5_account_3 : List UInt8 := dkwX5_account_3 ++ dktX5_account_4
def dkwX5_account_2 : List UInt8 := [170, 0, 0, 0, 0, 0, 210, 0, 0, 0, 0, 0, 0, 0, 18, 0, 0, 0, 91, 0, 0, 0, 98, 0, 0, 0, 103, 0, 0, 0, 108, 0, 0, 0, 113, 0, 0, 0, 118, 0, 0, 0, 123, 0, 0, 0, 130, 0, 0, 0, 137, 0, 0, 0, 145, 0, 0, 0, 153, 0, 0, 0, 161, 0, 0, 0, 167, 0, 0, 0, 173, 0, 0, 0, 179, 0, 0, 0, 186, 0, 0, 0, 191, 0, 0, 0, 198, 0, 0, 0, 205]
abbrev dktX5_account_2 : List UInt8 := dkwX5_account_2 ++ dktX5_account_3
def dkwX5_account_1 : List UInt8 := [153, 0, 5, 3, 172, 27]
abbrev dktX5_account_1 : List UInt8 := dkwX5_account_1 ++ dktX5_account_2
def dkwX5_account_0 : List UInt8 := [42, 27, 3, 16, 19, 184, 0, 49, 153, 0, 7, 3, 167, 0, 4, 4, 181, 0, 27, 42, 180, 0, 27]
abbrev dktX5_account_0 : List UInt8 := dkwX5_account_0 ++ dktX5_account_1
theorem dksX5_account_0 : cX5_account.data.toList.drop 0 = dktX5_account_0 := by decide +kernel
theorem dksX5_account_1 : cX5_account.data.toList.drop 23 = dktX5_account_1 := dk_seg dksX5_account_0 23 rfl rfl
theorem dksX5_account_2 : cX5_account.data.toList.drop 29 = dktX5_account_2 := dk_seg dksX5_account_1 6 rfl rfl
theorem dksX5_account_3 : cX5_account.data.toList.drop 120 = dktX5_account_3 := dk_seg dksX5_account_2 91 rfl rfl
theorem dksX5_account_4 : cX5_account.data.toList.drop 143 = dktX5_account_4 := dk_seg dksX5_account_3 23 rfl rfl
theorem dksX5_account_5 : cX5_account.data.toList.drop 167 = dktX5_account_5 := dk_seg dksX5_account_4 24 rfl rfl
theorem dksX5_account_6 : cX5_account.data.toList.drop 191 = dktX5_account_6 := dk_seg dksX5_account_5 24 rfl rfl
theorem dksX5_account_7 : cX5_account.data.toList.drop 215 = dktX5_account_7 := dk_seg dksX5_account_6 24 rfl rfl
theorem dksX5_account_8 : cX5_account.data.toList.drop 239 = dktX5_account_8 := dk_seg dksX5_account_7 24 rfl rfl
theorem dX5_account_0 : decode cX5_account 0 = .ok (.aload_n 0, 1) := dk_42 (dk_at dksX5_account_0 0 rfl rfl)
theorem dX5_account_1 : decode cX5_account 1 = .ok (.iload_n 1, 1) := dk_27 (dk_at dksX5_account_0 1 rfl rfl)
theorem dX5_account_2 : decode cX5_account 2 = .ok (.iconst 0, 1) := dk_3 (dk_at dksX5_account_0 2 rfl rfl)
theorem dX5_account_3 : decode cX5_account 3 = .ok (.bipush 19, 2) := dk_16 19 (dk_at dksX5_account_0 3 rfl rfl)
theorem dX5_account_5 : decode cX5_account 5 = .ok (.invokestatic 49, 3) := dk_184 0 49 (dk_at dksX5_account_0 5 rfl rfl)
theorem dX5_account_8 : decode cX5_account 8 = .ok (.ifCond .eq 7, 3) := dk_153 0 7 (dk_at dksX5_account_0 8 rfl rfl)
theorem dX5_account_11 : decode cX5_account 11 = .ok (.iconst 0, 1) := dk_3 (dk_at dksX5_account_0 11 rfl rfl)
theorem dX5_account_12 : decode cX5_account 12 = .ok (.goto 4, 3) := dk_167 0 4 (dk_at dksX5_account_0 12 rfl rfl)
theorem dX5_account_15 : decode cX5_account 15 = .ok (.iconst 1, 1) := dk_4 (dk_at dksX5_account_0 15 rfl rfl)
theorem dX5_account_16 : decode cX5_account 16 = .ok (.putfield 27, 3) := dk_181 0 27 (dk_at dksX5_account_0 16 rfl rfl)
theorem dX5_account_19 : decode cX5_account 19 = .ok (.aload_n 0, 1) := dk_42 (dk_at dksX5_account_0 19 rfl rfl)
theorem dX5_account_20 : decode cX5_account 20 = .ok (.getfield 27, 3) := dk_180 0 27 (dk_at dksX5_account_0 20 rfl rfl)
theorem dX5_account_23 : decode cX5_account 23 = .ok (.ifCond .eq 5, 3) := dk_153 0 5 (dk_at dksX5_account_1 0 rfl rfl)
theorem dX5_account_26 : decode cX5_account 26 = .ok (.iconst 0, 1) := dk_3 (dk_at dksX5_account_1 3 rfl rfl)
theorem dX5_account_27 : decode cX5_account 27 = .ok (.ireturn, 1) := dk_172 (dk_at dksX5_account_1 4 rfl rfl)
theorem dX5_account_28 : decode cX5_account 28 = .ok (.iload_n 1, 1) := dk_27 (dk_at dksX5_account_1 5 rfl rfl)
theorem dX5_account_29 : decode cX5_account 29 = .ok (.tableswitch 210 0 18 #[91, 98, 103, 108, 113, 118, 123, 130, 137, 145, 153, 161, 167, 173, 179, 186, 191, 198, 205], 91) := by decide +kernel
theorem dX5_account_120 : decode cX5_account 120 = .ok (.aload_n 0, 1) := dk_42 (dk_at dksX5_account_3 0 rfl rfl)
theorem dX5_account_121 : decode cX5_account 121 = .ok (.getfield 9, 3) := dk_180 0 9 (dk_at dksX5_account_3 1 rfl rfl)
theorem dX5_account_124 : decode cX5_account 124 = .ok (.iconst 5, 1) := dk_8 (dk_at dksX5_account_3 4 rfl rfl)
theorem dX5_account_125 : decode cX5_account 125 = .ok (.iaload, 1) := dk_46 (dk_at dksX5_account_3 5 rfl rfl)
theorem dX5_account_126 : decode cX5_account 126 = .ok (.ireturn, 1) := dk_172 (dk_at dksX5_account_3 6 rfl rfl)
theorem dX5_account_127 : decode cX5_account 127 = .ok (.aload_n 0, 1) := dk_42 (dk_at dksX5_account_3 7 rfl rfl)
theorem dX5_account_128 : decode cX5_account 128 = .ok (.invokevirtual 218, 3) := dk_182 0 218 (dk_at dksX5_account_3 8 rfl rfl)
theorem dX5_account_131 : decode cX5_account 131 = .ok (.ireturn, 1) := dk_172 (dk_at dksX5_account_3 11 rfl rfl)
theorem dX5_account_132 : decode cX5_account 132 = .ok (.aload_n 0, 1) := dk_42 (dk_at dksX5_account_3 12 rfl rfl)
theorem dX5_account_133 : decode cX5_account 133 = .ok (.invokevirtual 221, 3) := dk_182 0 221 (dk_at dksX5_account_3 13 rfl rfl)
theorem dX5_account_136 : decode cX5_account 136 = .ok (.ireturn, 1) := dk_172 (dk_at dksX5_account_3 16 rfl rfl)
theorem dX5_account_137 : decode cX5_account 137 = .ok (.aload_n 0, 1) := dk_42 (dk_at dksX5_account_3 17 rfl rfl)
theorem dX5_account_138 : decode cX5_account 138 = .ok (.invokevirtual 224, 3) := dk_182 0 224 (dk_at dksX5_account_3 18 rfl rfl)
theorem dX5_account_141 : decode cX5_account 141 = .ok (.ireturn, 1) := dk_172 (dk_at dksX5_account_3 21 rfl rfl)
theorem dX5_account_142 : decode cX5_account 142 = .ok (.aload_n 0, 1) := dk_42 (dk_at dksX5_account_3 22 rfl rfl)
theorem dX5_account_143 : decode cX5_account 143 = .ok (.invokevirtual 227, 3) := dk_182 0 227 (dk_at dksX5_account_4 0 rfl rfl)
theorem dX5_account_146 : decode cX5_account 146 = .ok (.ireturn, 1) := dk_172 (dk_at dksX5_account_4 3 rfl rfl)
theorem dX5_account_147 : decode cX5_account 147 = .ok (.aload_n 0, 1) := dk_42 (dk_at dksX5_account_4 4 rfl rfl)
theorem dX5_account_148 : decode cX5_account 148 = .ok (.invokevirtual 230, 3) := dk_182 0 230 (dk_at dksX5_account_4 5 rfl rfl)
theorem dX5_account_151 : decode cX5_account 151 = .ok (.ireturn, 1) := dk_172 (dk_at dksX5_account_4 8 rfl rfl)
theorem dX5_account_152 : decode cX5_account 152 = .ok (.aload_n 0, 1) := dk_42 (dk_at dksX5_account_4 9 rfl rfl)
theorem dX5_account_153 : decode cX5_account 153 = .ok (.getfield 9, 3) := dk_180 0 9 (dk_at dksX5_account_4 10 rfl rfl)
theorem dX5_account_156 : decode cX5_account 156 = .ok (.iconst 1, 1) := dk_4 (dk_at dksX5_account_4 13 rfl rfl)
theorem dX5_account_157 : decode cX5_account 157 = .ok (.iaload, 1) := dk_46 (dk_at dksX5_account_4 14 rfl rfl)
theorem dX5_account_158 : decode cX5_account 158 = .ok (.ireturn, 1) := dk_172 (dk_at dksX5_account_4 15 rfl rfl)
theorem dX5_account_159 : decode cX5_account 159 = .ok (.aload_n 0, 1) := dk_42 (dk_at dksX5_account_4 16 rfl rfl)
theorem dX5_account_160 : decode cX5_account 160 = .ok (.getfield 9, 3) := dk_180 0 9 (dk_at dksX5_account_4 17 rfl rfl)
theorem dX5_account_163 : decode cX5_account 163 = .ok (.iconst 2, 1) := dk_5 (dk_at dksX5_account_4 20 rfl rfl)
theorem dX5_account_164 : decode cX5_account 164 = .ok (.iaload, 1) := dk_46 (dk_at dksX5_account_4 21 rfl rfl)
theorem dX5_account_165 : decode cX5_account 165 = .ok (.ireturn, 1) := dk_172 (dk_at dksX5_account_4 22 rfl rfl)
theorem dX5_account_166 : decode cX5_account 166 = .ok (.aload_n 0, 1) := dk_42 (dk_at dksX5_account_4 23 rfl rfl)
theorem dX5_account_167 : decode cX5_account 167 = .ok (.getfield 9, 3) := dk_180 0 9 (dk_at dksX5_account_5 0 rfl rfl)
theorem dX5_account_170 : decode cX5_account 170 = .ok (.bipush 6, 2) := dk_16 6 (dk_at dksX5_account_5 3 rfl rfl)
theorem dX5_account_172 : decode cX5_account 172 = .ok (.iaload, 1) := dk_46 (dk_at dksX5_account_5 5 rfl rfl)
theorem dX5_account_173 : decode cX5_account 173 = .ok (.ireturn, 1) := dk_172 (dk_at dksX5_account_5 6 rfl rfl)
theorem dX5_account_174 : decode cX5_account 174 = .ok (.aload_n 0, 1) := dk_42 (dk_at dksX5_account_5 7 rfl rfl)
theorem dX5_account_175 : decode cX5_account 175 = .ok (.getfield 9, 3) := dk_180 0 9 (dk_at dksX5_account_5 8 rfl rfl)
theorem dX5_account_178 : decode cX5_account 178 = .ok (.bipush 8, 2) := dk_16 8 (dk_at dksX5_account_5 11 rfl rfl)
theorem dX5_account_180 : decode cX5_account 180 = .ok (.iaload, 1) := dk_46 (dk_at dksX5_account_5 13 rfl rfl)
theorem dX5_account_181 : decode cX5_account 181 = .ok (.ireturn, 1) := dk_172 (dk_at dksX5_account_5 14 rfl rfl)
theorem dX5_account_182 : decode cX5_account 182 = .ok (.aload_n 0, 1) := dk_42 (dk_at dksX5_account_5 15 rfl rfl)
theorem dX5_account_183 : decode cX5_account 183 = .ok (.getfield 9, 3) := dk_180 0 9 (dk_at dksX5_account_5 16 rfl rfl)
theorem dX5_account_186 : decode cX5_account 186 = .ok (.bipush 7, 2) := dk_16 7 (dk_at dksX5_account_5 19 rfl rfl)
theorem dX5_account_188 : decode cX5_account 188 = .ok (.iaload, 1) := dk_46 (dk_at dksX5_account_5 21 rfl rfl)
theorem dX5_account_189 : decode cX5_account 189 = .ok (.ireturn, 1) := dk_172 (dk_at dksX5_account_5 22 rfl rfl)
theorem dX5_account_190 : decode cX5_account 190 = .ok (.aload_n 0, 1) := dk_42 (dk_at dksX5_account_5 23 rfl rfl)
theorem dX5_account_191 : decode cX5_account 191 = .ok (.iconst 0, 1) := dk_3 (dk_at dksX5_account_6 0 rfl rfl)
theorem dX5_account_192 : decode cX5_account 192 = .ok (.invokevirtual 233, 3) := dk_182 0 233 (dk_at dksX5_account_6 1 rfl rfl)
theorem dX5_account_195 : decode cX5_account 195 = .ok (.ireturn, 1) := dk_172 (dk_at dksX5_account_6 4 rfl rfl)
theorem dX5_account_196 : decode cX5_account 196 = .ok (.aload_n 0, 1) := dk_42 (dk_at dksX5_account_6 5 rfl rfl)
theorem dX5_account_197 : decode cX5_account 197 = .ok (.iconst 1, 1) := dk_4 (dk_at dksX5_account_6 6 rfl rfl)
theorem dX5_account_198 : decode cX5_account 198 = .ok (.invokevirtual 233, 3) := dk_182 0 233 (dk_at dksX5_account_6 7 rfl rfl)
theorem dX5_account_201 : decode cX5_account 201 = .ok (.ireturn, 1) := dk_172 (dk_at dksX5_account_6 10 rfl rfl)
theorem dX5_account_202 : decode cX5_account 202 = .ok (.aload_n 0, 1) := dk_42 (dk_at dksX5_account_6 11 rfl rfl)
theorem dX5_account_203 : decode cX5_account 203 = .ok (.iconst 2, 1) := dk_5 (dk_at dksX5_account_6 12 rfl rfl)
theorem dX5_account_204 : decode cX5_account 204 = .ok (.invokevirtual 233, 3) := dk_182 0 233 (dk_at dksX5_account_6 13 rfl rfl)
theorem dX5_account_207 : decode cX5_account 207 = .ok (.ireturn, 1) := dk_172 (dk_at dksX5_account_6 16 rfl rfl)
theorem dX5_account_208 : decode cX5_account 208 = .ok (.aload_n 0, 1) := dk_42 (dk_at dksX5_account_6 17 rfl rfl)
theorem dX5_account_209 : decode cX5_account 209 = .ok (.getfield 9, 3) := dk_180 0 9 (dk_at dksX5_account_6 18 rfl rfl)
theorem dX5_account_212 : decode cX5_account 212 = .ok (.iconst 3, 1) := dk_6 (dk_at dksX5_account_6 21 rfl rfl)
theorem dX5_account_213 : decode cX5_account 213 = .ok (.iaload, 1) := dk_46 (dk_at dksX5_account_6 22 rfl rfl)
theorem dX5_account_214 : decode cX5_account 214 = .ok (.ireturn, 1) := dk_172 (dk_at dksX5_account_6 23 rfl rfl)
theorem dX5_account_215 : decode cX5_account 215 = .ok (.aload_n 0, 1) := dk_42 (dk_at dksX5_account_7 0 rfl rfl)
theorem dX5_account_216 : decode cX5_account 216 = .ok (.invokevirtual 236, 3) := dk_182 0 236 (dk_at dksX5_account_7 1 rfl rfl)
theorem dX5_account_219 : decode cX5_account 219 = .ok (.ireturn, 1) := dk_172 (dk_at dksX5_account_7 4 rfl rfl)
theorem dX5_account_220 : decode cX5_account 220 = .ok (.aload_n 0, 1) := dk_42 (dk_at dksX5_account_7 5 rfl rfl)
theorem dX5_account_221 : decode cX5_account 221 = .ok (.getfield 9, 3) := dk_180 0 9 (dk_at dksX5_account_7 6 rfl rfl)
theorem dX5_account_224 : decode cX5_account 224 = .ok (.iconst 4, 1) := dk_7 (dk_at dksX5_account_7 9 rfl rfl)
theorem dX5_account_225 : decode cX5_account 225 = .ok (.iaload, 1) := dk_46 (dk_at dksX5_account_7 10 rfl rfl)
theorem dX5_account_226 : decode cX5_account 226 = .ok (.ireturn, 1) := dk_172 (dk_at dksX5_account_7 11 rfl rfl)
theorem dX5_account_227 : decode cX5_account 227 = .ok (.aload_n 0, 1) := dk_42 (dk_at dksX5_account_7 12 rfl rfl)
theorem dX5_account_228 : decode cX5_account 228 = .ok (.getfield 9, 3) := dk_180 0 9 (dk_at dksX5_account_7 13 rfl rfl)
theorem dX5_account_231 : decode cX5_account 231 = .ok (.iconst 0, 1) := dk_3 (dk_at dksX5_account_7 16 rfl rfl)
theorem dX5_account_232 : decode cX5_account 232 = .ok (.iaload, 1) := dk_46 (dk_at dksX5_account_7 17 rfl rfl)
theorem dX5_account_233 : decode cX5_account 233 = .ok (.ireturn, 1) := dk_172 (dk_at dksX5_account_7 18 rfl rfl)
theorem dX5_account_234 : decode cX5_account 234 = .ok (.aload_n 0, 1) := dk_42 (dk_at dksX5_account_7 19 rfl rfl)
theorem dX5_account_235 : decode cX5_account 235 = .ok (.getfield 239, 3) := dk_180 0 239 (dk_at dksX5_account_7 20 rfl rfl)
theorem dX5_account_238 : decode cX5_account 238 = .ok (.ireturn, 1) := dk_172 (dk_at dksX5_account_7 23 rfl rfl)
theorem dX5_account_239 : decode cX5_account 239 = .ok (.aload_n 0, 1) := dk_42 (dk_at dksX5_account_8 0 rfl rfl)
theorem dX5_account_240 : decode cX5_account 240 = .ok (.getfield 34, 3) := dk_180 0 34 (dk_at dksX5_account_8 1 rfl rfl)
theorem dX5_account_243 : decode cX5_account 243 = .ok (.ireturn, 1) := dk_172 (dk_at dksX5_account_8 4 rfl rfl)
abbrev cX5_quires : ByteArray := prog_15_method_87_code
def yX5_quires : MethodName := ⟨RX5, "quires", "()I"⟩
def dkwX5_quires_1 : List UInt8 := [132, 2, 1, 167, 255, 234, 27, 172]
abbrev dktX5_quires_1 : List UInt8 := dkwX5_quires_1 ++ []
def dkwX5_quires_0 : List UInt8 := [3, 60, 3, 61, 28, 42, 180, 0, 9, 8, 46, 162, 0, 18, 27, 42, 28, 5, 182, 0, 82, 96, 60]
abbrev dktX5_quires_0 : List UInt8 := dkwX5_quires_0 ++ dktX5_quires_1
theorem dksX5_quires_0 : cX5_quires.data.toList.drop 0 = dktX5_quires_0 := by decide +kernel
theorem dksX5_quires_1 : cX5_quires.data.toList.drop 23 = dktX5_quires_1 := dk_seg dksX5_quires_0 23 rfl rfl
theorem dX5_quires_0 : decode cX5_quires 0 = .ok (.iconst 0, 1) := dk_3 (dk_at dksX5_quires_0 0 rfl rfl)
theorem dX5_quires_1 : decode cX5_quires 1 = .ok (.istore_n 1, 1) := dk_60 (dk_at dksX5_quires_0 1 rfl rfl)
theorem dX5_quires_2 : decode cX5_quires 2 = .ok (.iconst 0, 1) := dk_3 (dk_at dksX5_quires_0 2 rfl rfl)
theorem dX5_quires_3 : decode cX5_quires 3 = .ok (.istore_n 2, 1) := dk_61 (dk_at dksX5_quires_0 3 rfl rfl)
theorem dX5_quires_4 : decode cX5_quires 4 = .ok (.iload_n 2, 1) := dk_28 (dk_at dksX5_quires_0 4 rfl rfl)
theorem dX5_quires_5 : decode cX5_quires 5 = .ok (.aload_n 0, 1) := dk_42 (dk_at dksX5_quires_0 5 rfl rfl)
theorem dX5_quires_6 : decode cX5_quires 6 = .ok (.getfield 9, 3) := dk_180 0 9 (dk_at dksX5_quires_0 6 rfl rfl)
theorem dX5_quires_9 : decode cX5_quires 9 = .ok (.iconst 5, 1) := dk_8 (dk_at dksX5_quires_0 9 rfl rfl)
theorem dX5_quires_10 : decode cX5_quires 10 = .ok (.iaload, 1) := dk_46 (dk_at dksX5_quires_0 10 rfl rfl)
theorem dX5_quires_11 : decode cX5_quires 11 = .ok (.if_icmp .ge 18, 3) := dk_162 0 18 (dk_at dksX5_quires_0 11 rfl rfl)
theorem dX5_quires_14 : decode cX5_quires 14 = .ok (.iload_n 1, 1) := dk_27 (dk_at dksX5_quires_0 14 rfl rfl)
theorem dX5_quires_15 : decode cX5_quires 15 = .ok (.aload_n 0, 1) := dk_42 (dk_at dksX5_quires_0 15 rfl rfl)
theorem dX5_quires_16 : decode cX5_quires 16 = .ok (.iload_n 2, 1) := dk_28 (dk_at dksX5_quires_0 16 rfl rfl)
theorem dX5_quires_17 : decode cX5_quires 17 = .ok (.iconst 2, 1) := dk_5 (dk_at dksX5_quires_0 17 rfl rfl)
theorem dX5_quires_18 : decode cX5_quires 18 = .ok (.invokevirtual 82, 3) := dk_182 0 82 (dk_at dksX5_quires_0 18 rfl rfl)
theorem dX5_quires_21 : decode cX5_quires 21 = .ok (.iadd, 1) := dk_96 (dk_at dksX5_quires_0 21 rfl rfl)
theorem dX5_quires_22 : decode cX5_quires 22 = .ok (.istore_n 1, 1) := dk_60 (dk_at dksX5_quires_0 22 rfl rfl)
theorem dX5_quires_23 : decode cX5_quires 23 = .ok (.iinc 2 1, 3) := dk_132 2 1 (dk_at dksX5_quires_1 0 rfl rfl)
theorem dX5_quires_26 : decode cX5_quires 26 = .ok (.goto (-22), 3) := dk_167 255 234 (dk_at dksX5_quires_1 3 rfl rfl)
theorem dX5_quires_29 : decode cX5_quires 29 = .ok (.iload_n 1, 1) := dk_27 (dk_at dksX5_quires_1 6 rfl rfl)
theorem dX5_quires_30 : decode cX5_quires 30 = .ok (.ireturn, 1) := dk_172 (dk_at dksX5_quires_1 7 rfl rfl)
abbrev cX5_wavy : ByteArray := prog_15_method_86_code
def yX5_wavy : MethodName := ⟨RX5, "wavy", "()I"⟩
def dkwX5_wavy_2 : List UInt8 := [27, 172]
abbrev dktX5_wavy_2 : List UInt8 := dkwX5_wavy_2 ++ []
def dkwX5_wavy_1 : List UInt8 := [159, 0, 15, 42, 28, 182, 0, 113, 153, 0, 7, 4, 167, 0, 4, 3, 96, 60, 132, 2, 1, 167, 255, 217]
abbrev dktX5_wavy_1 : List UInt8 := dkwX5_wavy_1 ++ dktX5_wavy_2
def dkwX5_wavy_0 : List UInt8 := [3, 60, 3, 61, 28, 42, 180, 0, 9, 8, 46, 162, 0, 35, 27, 42, 28, 7, 182, 0, 82, 2]
abbrev dktX5_wavy_0 : List UInt8 := dkwX5_wavy_0 ++ dktX5_wavy_1
theorem dksX5_wavy_0 : cX5_wavy.data.toList.drop 0 = dktX5_wavy_0 := by decide +kernel
theorem dksX5_wavy_1 : cX5_wavy.data.toList.drop 22 = dktX5_wavy_1 := dk_seg dksX5_wavy_0 22 rfl rfl
theorem dksX5_wavy_2 : cX5_wavy.data.toList.drop 46 = dktX5_wavy_2 := dk_seg dksX5_wavy_1 24 rfl rfl
theorem dX5_wavy_0 : decode cX5_wavy 0 = .ok (.iconst 0, 1) := dk_3 (dk_at dksX5_wavy_0 0 rfl rfl)
theorem dX5_wavy_1 : decode cX5_wavy 1 = .ok (.istore_n 1, 1) := dk_60 (dk_at dksX5_wavy_0 1 rfl rfl)
theorem dX5_wavy_2 : decode cX5_wavy 2 = .ok (.iconst 0, 1) := dk_3 (dk_at dksX5_wavy_0 2 rfl rfl)
theorem dX5_wavy_3 : decode cX5_wavy 3 = .ok (.istore_n 2, 1) := dk_61 (dk_at dksX5_wavy_0 3 rfl rfl)
theorem dX5_wavy_4 : decode cX5_wavy 4 = .ok (.iload_n 2, 1) := dk_28 (dk_at dksX5_wavy_0 4 rfl rfl)
theorem dX5_wavy_5 : decode cX5_wavy 5 = .ok (.aload_n 0, 1) := dk_42 (dk_at dksX5_wavy_0 5 rfl rfl)
theorem dX5_wavy_6 : decode cX5_wavy 6 = .ok (.getfield 9, 3) := dk_180 0 9 (dk_at dksX5_wavy_0 6 rfl rfl)
theorem dX5_wavy_9 : decode cX5_wavy 9 = .ok (.iconst 5, 1) := dk_8 (dk_at dksX5_wavy_0 9 rfl rfl)
theorem dX5_wavy_10 : decode cX5_wavy 10 = .ok (.iaload, 1) := dk_46 (dk_at dksX5_wavy_0 10 rfl rfl)
theorem dX5_wavy_11 : decode cX5_wavy 11 = .ok (.if_icmp .ge 35, 3) := dk_162 0 35 (dk_at dksX5_wavy_0 11 rfl rfl)
theorem dX5_wavy_14 : decode cX5_wavy 14 = .ok (.iload_n 1, 1) := dk_27 (dk_at dksX5_wavy_0 14 rfl rfl)
theorem dX5_wavy_15 : decode cX5_wavy 15 = .ok (.aload_n 0, 1) := dk_42 (dk_at dksX5_wavy_0 15 rfl rfl)
theorem dX5_wavy_16 : decode cX5_wavy 16 = .ok (.iload_n 2, 1) := dk_28 (dk_at dksX5_wavy_0 16 rfl rfl)
theorem dX5_wavy_17 : decode cX5_wavy 17 = .ok (.iconst 4, 1) := dk_7 (dk_at dksX5_wavy_0 17 rfl rfl)
theorem dX5_wavy_18 : decode cX5_wavy 18 = .ok (.invokevirtual 82, 3) := dk_182 0 82 (dk_at dksX5_wavy_0 18 rfl rfl)
theorem dX5_wavy_21 : decode cX5_wavy 21 = .ok (.iconst (-1), 1) := dk_2 (dk_at dksX5_wavy_0 21 rfl rfl)
theorem dX5_wavy_22 : decode cX5_wavy 22 = .ok (.if_icmp .eq 15, 3) := dk_159 0 15 (dk_at dksX5_wavy_1 0 rfl rfl)
theorem dX5_wavy_25 : decode cX5_wavy 25 = .ok (.aload_n 0, 1) := dk_42 (dk_at dksX5_wavy_1 3 rfl rfl)
theorem dX5_wavy_26 : decode cX5_wavy 26 = .ok (.iload_n 2, 1) := dk_28 (dk_at dksX5_wavy_1 4 rfl rfl)
theorem dX5_wavy_27 : decode cX5_wavy 27 = .ok (.invokevirtual 113, 3) := dk_182 0 113 (dk_at dksX5_wavy_1 5 rfl rfl)
theorem dX5_wavy_30 : decode cX5_wavy 30 = .ok (.ifCond .eq 7, 3) := dk_153 0 7 (dk_at dksX5_wavy_1 8 rfl rfl)
theorem dX5_wavy_33 : decode cX5_wavy 33 = .ok (.iconst 1, 1) := dk_4 (dk_at dksX5_wavy_1 11 rfl rfl)
theorem dX5_wavy_34 : decode cX5_wavy 34 = .ok (.goto 4, 3) := dk_167 0 4 (dk_at dksX5_wavy_1 12 rfl rfl)
theorem dX5_wavy_37 : decode cX5_wavy 37 = .ok (.iconst 0, 1) := dk_3 (dk_at dksX5_wavy_1 15 rfl rfl)
theorem dX5_wavy_38 : decode cX5_wavy 38 = .ok (.iadd, 1) := dk_96 (dk_at dksX5_wavy_1 16 rfl rfl)
theorem dX5_wavy_39 : decode cX5_wavy 39 = .ok (.istore_n 1, 1) := dk_60 (dk_at dksX5_wavy_1 17 rfl rfl)
theorem dX5_wavy_40 : decode cX5_wavy 40 = .ok (.iinc 2 1, 3) := dk_132 2 1 (dk_at dksX5_wavy_1 18 rfl rfl)
theorem dX5_wavy_43 : decode cX5_wavy 43 = .ok (.goto (-39), 3) := dk_167 255 217 (dk_at dksX5_wavy_1 21 rfl rfl)
theorem dX5_wavy_46 : decode cX5_wavy 46 = .ok (.iload_n 1, 1) := dk_27 (dk_at dksX5_wavy_2 0 rfl rfl)
theorem dX5_wavy_47 : decode cX5_wavy 47 = .ok (.ireturn, 1) := dk_172 (dk_at dksX5_wavy_2 1 rfl rfl)
abbrev cX5_onCarts : ByteArray := prog_15_method_90_code
def yX5_onCarts : MethodName := ⟨RX5, "onCarts", "()I"⟩
def dkwX5_onCarts_1 : List UInt8 := [132, 2, 1, 167, 255, 233, 27, 172]
abbrev dktX5_onCarts_1 : List UInt8 := dkwX5_onCarts_1 ++ []
def dkwX5_onCarts_0 : List UInt8 := [3, 60, 3, 61, 28, 42, 180, 0, 9, 16, 8, 46, 162, 0, 18, 27, 42, 28, 4, 182, 0, 164, 96, 60]
abbrev dktX5_onCarts_0 : List UInt8 := dkwX5_onCarts_0 ++ dktX5_onCarts_1
theorem dksX5_onCarts_0 : cX5_onCarts.data.toList.drop 0 = dktX5_onCarts_0 := by decide +kernel
theorem dksX5_onCarts_1 : cX5_onCarts.data.toList.drop 24 = dktX5_onCarts_1 := dk_seg dksX5_onCarts_0 24 rfl rfl
theorem dX5_onCarts_0 : decode cX5_onCarts 0 = .ok (.iconst 0, 1) := dk_3 (dk_at dksX5_onCarts_0 0 rfl rfl)
theorem dX5_onCarts_1 : decode cX5_onCarts 1 = .ok (.istore_n 1, 1) := dk_60 (dk_at dksX5_onCarts_0 1 rfl rfl)
theorem dX5_onCarts_2 : decode cX5_onCarts 2 = .ok (.iconst 0, 1) := dk_3 (dk_at dksX5_onCarts_0 2 rfl rfl)
theorem dX5_onCarts_3 : decode cX5_onCarts 3 = .ok (.istore_n 2, 1) := dk_61 (dk_at dksX5_onCarts_0 3 rfl rfl)
theorem dX5_onCarts_4 : decode cX5_onCarts 4 = .ok (.iload_n 2, 1) := dk_28 (dk_at dksX5_onCarts_0 4 rfl rfl)
theorem dX5_onCarts_5 : decode cX5_onCarts 5 = .ok (.aload_n 0, 1) := dk_42 (dk_at dksX5_onCarts_0 5 rfl rfl)
theorem dX5_onCarts_6 : decode cX5_onCarts 6 = .ok (.getfield 9, 3) := dk_180 0 9 (dk_at dksX5_onCarts_0 6 rfl rfl)
theorem dX5_onCarts_9 : decode cX5_onCarts 9 = .ok (.bipush 8, 2) := dk_16 8 (dk_at dksX5_onCarts_0 9 rfl rfl)
theorem dX5_onCarts_11 : decode cX5_onCarts 11 = .ok (.iaload, 1) := dk_46 (dk_at dksX5_onCarts_0 11 rfl rfl)
theorem dX5_onCarts_12 : decode cX5_onCarts 12 = .ok (.if_icmp .ge 18, 3) := dk_162 0 18 (dk_at dksX5_onCarts_0 12 rfl rfl)
theorem dX5_onCarts_15 : decode cX5_onCarts 15 = .ok (.iload_n 1, 1) := dk_27 (dk_at dksX5_onCarts_0 15 rfl rfl)
theorem dX5_onCarts_16 : decode cX5_onCarts 16 = .ok (.aload_n 0, 1) := dk_42 (dk_at dksX5_onCarts_0 16 rfl rfl)
theorem dX5_onCarts_17 : decode cX5_onCarts 17 = .ok (.iload_n 2, 1) := dk_28 (dk_at dksX5_onCarts_0 17 rfl rfl)
theorem dX5_onCarts_18 : decode cX5_onCarts 18 = .ok (.iconst 1, 1) := dk_4 (dk_at dksX5_onCarts_0 18 rfl rfl)
theorem dX5_onCarts_19 : decode cX5_onCarts 19 = .ok (.invokevirtual 164, 3) := dk_182 0 164 (dk_at dksX5_onCarts_0 19 rfl rfl)
theorem dX5_onCarts_22 : decode cX5_onCarts 22 = .ok (.iadd, 1) := dk_96 (dk_at dksX5_onCarts_0 22 rfl rfl)
theorem dX5_onCarts_23 : decode cX5_onCarts 23 = .ok (.istore_n 1, 1) := dk_60 (dk_at dksX5_onCarts_0 23 rfl rfl)
theorem dX5_onCarts_24 : decode cX5_onCarts 24 = .ok (.iinc 2 1, 3) := dk_132 2 1 (dk_at dksX5_onCarts_1 0 rfl rfl)
theorem dX5_onCarts_27 : decode cX5_onCarts 27 = .ok (.goto (-23), 3) := dk_167 255 233 (dk_at dksX5_onCarts_1 3 rfl rfl)
theorem dX5_onCarts_30 : decode cX5_onCarts 30 = .ok (.iload_n 1, 1) := dk_27 (dk_at dksX5_onCarts_1 6 rfl rfl)
theorem dX5_onCarts_31 : decode cX5_onCarts 31 = .ok (.ireturn, 1) := dk_172 (dk_at dksX5_onCarts_1 7 rfl rfl)
abbrev cX5_sentInAll : ByteArray := prog_15_method_91_code
def yX5_sentInAll : MethodName := ⟨RX5, "sentInAll", "()I"⟩
def dkwX5_sentInAll_1 : List UInt8 := [132, 2, 1, 167, 255, 234, 27, 172]
abbrev dktX5_sentInAll_1 : List UInt8 := dkwX5_sentInAll_1 ++ []
def dkwX5_sentInAll_0 : List UInt8 := [3, 60, 3, 61, 28, 16, 12, 162, 0, 22, 27, 42, 180, 0, 9, 17, 1, 113, 28, 96, 46, 96, 60]
abbrev dktX5_sentInAll_0 : List UInt8 := dkwX5_sentInAll_0 ++ dktX5_sentInAll_1
theorem dksX5_sentInAll_0 : cX5_sentInAll.data.toList.drop 0 = dktX5_sentInAll_0 := by decide +kernel
theorem dksX5_sentInAll_1 : cX5_sentInAll.data.toList.drop 23 = dktX5_sentInAll_1 := dk_seg dksX5_sentInAll_0 23 rfl rfl
theorem dX5_sentInAll_0 : decode cX5_sentInAll 0 = .ok (.iconst 0, 1) := dk_3 (dk_at dksX5_sentInAll_0 0 rfl rfl)
theorem dX5_sentInAll_1 : decode cX5_sentInAll 1 = .ok (.istore_n 1, 1) := dk_60 (dk_at dksX5_sentInAll_0 1 rfl rfl)
theorem dX5_sentInAll_2 : decode cX5_sentInAll 2 = .ok (.iconst 0, 1) := dk_3 (dk_at dksX5_sentInAll_0 2 rfl rfl)
theorem dX5_sentInAll_3 : decode cX5_sentInAll 3 = .ok (.istore_n 2, 1) := dk_61 (dk_at dksX5_sentInAll_0 3 rfl rfl)
theorem dX5_sentInAll_4 : decode cX5_sentInAll 4 = .ok (.iload_n 2, 1) := dk_28 (dk_at dksX5_sentInAll_0 4 rfl rfl)
theorem dX5_sentInAll_5 : decode cX5_sentInAll 5 = .ok (.bipush 12, 2) := dk_16 12 (dk_at dksX5_sentInAll_0 5 rfl rfl)
theorem dX5_sentInAll_7 : decode cX5_sentInAll 7 = .ok (.if_icmp .ge 22, 3) := dk_162 0 22 (dk_at dksX5_sentInAll_0 7 rfl rfl)
theorem dX5_sentInAll_10 : decode cX5_sentInAll 10 = .ok (.iload_n 1, 1) := dk_27 (dk_at dksX5_sentInAll_0 10 rfl rfl)
theorem dX5_sentInAll_11 : decode cX5_sentInAll 11 = .ok (.aload_n 0, 1) := dk_42 (dk_at dksX5_sentInAll_0 11 rfl rfl)
theorem dX5_sentInAll_12 : decode cX5_sentInAll 12 = .ok (.getfield 9, 3) := dk_180 0 9 (dk_at dksX5_sentInAll_0 12 rfl rfl)
theorem dX5_sentInAll_15 : decode cX5_sentInAll 15 = .ok (.sipush 369, 3) := dk_17 1 113 (dk_at dksX5_sentInAll_0 15 rfl rfl)
theorem dX5_sentInAll_18 : decode cX5_sentInAll 18 = .ok (.iload_n 2, 1) := dk_28 (dk_at dksX5_sentInAll_0 18 rfl rfl)
theorem dX5_sentInAll_19 : decode cX5_sentInAll 19 = .ok (.iadd, 1) := dk_96 (dk_at dksX5_sentInAll_0 19 rfl rfl)
theorem dX5_sentInAll_20 : decode cX5_sentInAll 20 = .ok (.iaload, 1) := dk_46 (dk_at dksX5_sentInAll_0 20 rfl rfl)
theorem dX5_sentInAll_21 : decode cX5_sentInAll 21 = .ok (.iadd, 1) := dk_96 (dk_at dksX5_sentInAll_0 21 rfl rfl)
theorem dX5_sentInAll_22 : decode cX5_sentInAll 22 = .ok (.istore_n 1, 1) := dk_60 (dk_at dksX5_sentInAll_0 22 rfl rfl)
theorem dX5_sentInAll_23 : decode cX5_sentInAll 23 = .ok (.iinc 2 1, 3) := dk_132 2 1 (dk_at dksX5_sentInAll_1 0 rfl rfl)
theorem dX5_sentInAll_26 : decode cX5_sentInAll 26 = .ok (.goto (-22), 3) := dk_167 255 234 (dk_at dksX5_sentInAll_1 3 rfl rfl)
theorem dX5_sentInAll_29 : decode cX5_sentInAll 29 = .ok (.iload_n 1, 1) := dk_27 (dk_at dksX5_sentInAll_1 6 rfl rfl)
theorem dX5_sentInAll_30 : decode cX5_sentInAll 30 = .ok (.ireturn, 1) := dk_172 (dk_at dksX5_sentInAll_1 7 rfl rfl)
abbrev cX5_ordersThat : ByteArray := prog_15_method_92_code
def yX5_ordersThat : MethodName := ⟨RX5, "ordersThat", "(I)I"⟩
def dkwX5_ordersThat_1 : List UInt8 := [160, 0, 7, 4, 167, 0, 4, 3, 96, 61, 132, 3, 1, 167, 255, 224, 28, 172]
abbrev dktX5_ordersThat_1 : List UInt8 := dkwX5_ordersThat_1 ++ []
def dkwX5_ordersThat_0 : List UInt8 := [3, 61, 3, 62, 29, 42, 180, 0, 9, 16, 7, 46, 162, 0, 27, 28, 42, 29, 6, 182, 0, 170, 27]
abbrev dktX5_ordersThat_0 : List UInt8 := dkwX5_ordersThat_0 ++ dktX5_ordersThat_1
theorem dksX5_ordersThat_0 : cX5_ordersThat.data.toList.drop 0 = dktX5_ordersThat_0 := by decide +kernel
theorem dksX5_ordersThat_1 : cX5_ordersThat.data.toList.drop 23 = dktX5_ordersThat_1 := dk_seg dksX5_ordersThat_0 23 rfl rfl
theorem dX5_ordersThat_0 : decode cX5_ordersThat 0 = .ok (.iconst 0, 1) := dk_3 (dk_at dksX5_ordersThat_0 0 rfl rfl)
theorem dX5_ordersThat_1 : decode cX5_ordersThat 1 = .ok (.istore_n 2, 1) := dk_61 (dk_at dksX5_ordersThat_0 1 rfl rfl)
theorem dX5_ordersThat_2 : decode cX5_ordersThat 2 = .ok (.iconst 0, 1) := dk_3 (dk_at dksX5_ordersThat_0 2 rfl rfl)
theorem dX5_ordersThat_3 : decode cX5_ordersThat 3 = .ok (.istore_n 3, 1) := dk_62 (dk_at dksX5_ordersThat_0 3 rfl rfl)
theorem dX5_ordersThat_4 : decode cX5_ordersThat 4 = .ok (.iload_n 3, 1) := dk_29 (dk_at dksX5_ordersThat_0 4 rfl rfl)
theorem dX5_ordersThat_5 : decode cX5_ordersThat 5 = .ok (.aload_n 0, 1) := dk_42 (dk_at dksX5_ordersThat_0 5 rfl rfl)
theorem dX5_ordersThat_6 : decode cX5_ordersThat 6 = .ok (.getfield 9, 3) := dk_180 0 9 (dk_at dksX5_ordersThat_0 6 rfl rfl)
theorem dX5_ordersThat_9 : decode cX5_ordersThat 9 = .ok (.bipush 7, 2) := dk_16 7 (dk_at dksX5_ordersThat_0 9 rfl rfl)
theorem dX5_ordersThat_11 : decode cX5_ordersThat 11 = .ok (.iaload, 1) := dk_46 (dk_at dksX5_ordersThat_0 11 rfl rfl)
theorem dX5_ordersThat_12 : decode cX5_ordersThat 12 = .ok (.if_icmp .ge 27, 3) := dk_162 0 27 (dk_at dksX5_ordersThat_0 12 rfl rfl)
theorem dX5_ordersThat_15 : decode cX5_ordersThat 15 = .ok (.iload_n 2, 1) := dk_28 (dk_at dksX5_ordersThat_0 15 rfl rfl)
theorem dX5_ordersThat_16 : decode cX5_ordersThat 16 = .ok (.aload_n 0, 1) := dk_42 (dk_at dksX5_ordersThat_0 16 rfl rfl)
theorem dX5_ordersThat_17 : decode cX5_ordersThat 17 = .ok (.iload_n 3, 1) := dk_29 (dk_at dksX5_ordersThat_0 17 rfl rfl)
theorem dX5_ordersThat_18 : decode cX5_ordersThat 18 = .ok (.iconst 3, 1) := dk_6 (dk_at dksX5_ordersThat_0 18 rfl rfl)
theorem dX5_ordersThat_19 : decode cX5_ordersThat 19 = .ok (.invokevirtual 170, 3) := dk_182 0 170 (dk_at dksX5_ordersThat_0 19 rfl rfl)
theorem dX5_ordersThat_22 : decode cX5_ordersThat 22 = .ok (.iload_n 1, 1) := dk_27 (dk_at dksX5_ordersThat_0 22 rfl rfl)
theorem dX5_ordersThat_23 : decode cX5_ordersThat 23 = .ok (.if_icmp .ne 7, 3) := dk_160 0 7 (dk_at dksX5_ordersThat_1 0 rfl rfl)
theorem dX5_ordersThat_26 : decode cX5_ordersThat 26 = .ok (.iconst 1, 1) := dk_4 (dk_at dksX5_ordersThat_1 3 rfl rfl)
theorem dX5_ordersThat_27 : decode cX5_ordersThat 27 = .ok (.goto 4, 3) := dk_167 0 4 (dk_at dksX5_ordersThat_1 4 rfl rfl)
theorem dX5_ordersThat_30 : decode cX5_ordersThat 30 = .ok (.iconst 0, 1) := dk_3 (dk_at dksX5_ordersThat_1 7 rfl rfl)
theorem dX5_ordersThat_31 : decode cX5_ordersThat 31 = .ok (.iadd, 1) := dk_96 (dk_at dksX5_ordersThat_1 8 rfl rfl)
theorem dX5_ordersThat_32 : decode cX5_ordersThat 32 = .ok (.istore_n 2, 1) := dk_61 (dk_at dksX5_ordersThat_1 9 rfl rfl)
theorem dX5_ordersThat_33 : decode cX5_ordersThat 33 = .ok (.iinc 3 1, 3) := dk_132 3 1 (dk_at dksX5_ordersThat_1 10 rfl rfl)
theorem dX5_ordersThat_36 : decode cX5_ordersThat 36 = .ok (.goto (-32), 3) := dk_167 255 224 (dk_at dksX5_ordersThat_1 13 rfl rfl)
theorem dX5_ordersThat_39 : decode cX5_ordersThat 39 = .ok (.iload_n 2, 1) := dk_28 (dk_at dksX5_ordersThat_1 16 rfl rfl)
theorem dX5_ordersThat_40 : decode cX5_ordersThat 40 = .ok (.ireturn, 1) := dk_172 (dk_at dksX5_ordersThat_1 17 rfl rfl)
abbrev cX5_miceInAll : ByteArray := prog_15_method_93_code
def yX5_miceInAll : MethodName := ⟨RX5, "miceInAll", "()I"⟩
def dkwX5_miceInAll_1 : List UInt8 := [27, 172]
abbrev dktX5_miceInAll_1 : List UInt8 := dkwX5_miceInAll_1 ++ []
def dkwX5_miceInAll_0 : List UInt8 := [3, 60, 3, 61, 28, 8, 162, 0, 18, 27, 42, 28, 4, 182, 0, 116, 96, 60, 132, 2, 1, 167, 255, 239]
abbrev dktX5_miceInAll_0 : List UInt8 := dkwX5_miceInAll_0 ++ dktX5_miceInAll_1
theorem dksX5_miceInAll_0 : cX5_miceInAll.data.toList.drop 0 = dktX5_miceInAll_0 := by decide +kernel
theorem dksX5_miceInAll_1 : cX5_miceInAll.data.toList.drop 24 = dktX5_miceInAll_1 := dk_seg dksX5_miceInAll_0 24 rfl rfl
theorem dX5_miceInAll_0 : decode cX5_miceInAll 0 = .ok (.iconst 0, 1) := dk_3 (dk_at dksX5_miceInAll_0 0 rfl rfl)
theorem dX5_miceInAll_1 : decode cX5_miceInAll 1 = .ok (.istore_n 1, 1) := dk_60 (dk_at dksX5_miceInAll_0 1 rfl rfl)
theorem dX5_miceInAll_2 : decode cX5_miceInAll 2 = .ok (.iconst 0, 1) := dk_3 (dk_at dksX5_miceInAll_0 2 rfl rfl)
theorem dX5_miceInAll_3 : decode cX5_miceInAll 3 = .ok (.istore_n 2, 1) := dk_61 (dk_at dksX5_miceInAll_0 3 rfl rfl)
theorem dX5_miceInAll_4 : decode cX5_miceInAll 4 = .ok (.iload_n 2, 1) := dk_28 (dk_at dksX5_miceInAll_0 4 rfl rfl)
theorem dX5_miceInAll_5 : decode cX5_miceInAll 5 = .ok (.iconst 5, 1) := dk_8 (dk_at dksX5_miceInAll_0 5 rfl rfl)
theorem dX5_miceInAll_6 : decode cX5_miceInAll 6 = .ok (.if_icmp .ge 18, 3) := dk_162 0 18 (dk_at dksX5_miceInAll_0 6 rfl rfl)
theorem dX5_miceInAll_9 : decode cX5_miceInAll 9 = .ok (.iload_n 1, 1) := dk_27 (dk_at dksX5_miceInAll_0 9 rfl rfl)
theorem dX5_miceInAll_10 : decode cX5_miceInAll 10 = .ok (.aload_n 0, 1) := dk_42 (dk_at dksX5_miceInAll_0 10 rfl rfl)
theorem dX5_miceInAll_11 : decode cX5_miceInAll 11 = .ok (.iload_n 2, 1) := dk_28 (dk_at dksX5_miceInAll_0 11 rfl rfl)
theorem dX5_miceInAll_12 : decode cX5_miceInAll 12 = .ok (.iconst 1, 1) := dk_4 (dk_at dksX5_miceInAll_0 12 rfl rfl)
theorem dX5_miceInAll_13 : decode cX5_miceInAll 13 = .ok (.invokevirtual 116, 3) := dk_182 0 116 (dk_at dksX5_miceInAll_0 13 rfl rfl)
theorem dX5_miceInAll_16 : decode cX5_miceInAll 16 = .ok (.iadd, 1) := dk_96 (dk_at dksX5_miceInAll_0 16 rfl rfl)
theorem dX5_miceInAll_17 : decode cX5_miceInAll 17 = .ok (.istore_n 1, 1) := dk_60 (dk_at dksX5_miceInAll_0 17 rfl rfl)
theorem dX5_miceInAll_18 : decode cX5_miceInAll 18 = .ok (.iinc 2 1, 3) := dk_132 2 1 (dk_at dksX5_miceInAll_0 18 rfl rfl)
theorem dX5_miceInAll_21 : decode cX5_miceInAll 21 = .ok (.goto (-17), 3) := dk_167 255 239 (dk_at dksX5_miceInAll_0 21 rfl rfl)
theorem dX5_miceInAll_24 : decode cX5_miceInAll 24 = .ok (.iload_n 1, 1) := dk_27 (dk_at dksX5_miceInAll_1 0 rfl rfl)
theorem dX5_miceInAll_25 : decode cX5_miceInAll 25 = .ok (.ireturn, 1) := dk_172 (dk_at dksX5_miceInAll_1 1 rfl rfl)
abbrev cX5_quiresAgain : ByteArray := prog_15_method_95_code
def yX5_quiresAgain : MethodName := ⟨RX5, "quiresAgain", "()I"⟩
def dkwX5_quiresAgain_1 : List UInt8 := [42, 180, 0, 9, 4, 46, 100, 42, 180, 0, 9, 5, 46, 100, 172]
abbrev dktX5_quiresAgain_1 : List UInt8 := dkwX5_quiresAgain_1 ++ []
def dkwX5_quiresAgain_0 : List UInt8 := [42, 3, 181, 0, 27, 16, 20, 42, 180, 0, 9, 8, 46, 104, 42, 182, 0, 227, 100, 42, 182, 0, 230, 100]
abbrev dktX5_quiresAgain_0 : List UInt8 := dkwX5_quiresAgain_0 ++ dktX5_quiresAgain_1
theorem dksX5_quiresAgain_0 : cX5_quiresAgain.data.toList.drop 0 = dktX5_quiresAgain_0 := by decide +kernel
theorem dksX5_quiresAgain_1 : cX5_quiresAgain.data.toList.drop 24 = dktX5_quiresAgain_1 := dk_seg dksX5_quiresAgain_0 24 rfl rfl
theorem dX5_quiresAgain_0 : decode cX5_quiresAgain 0 = .ok (.aload_n 0, 1) := dk_42 (dk_at dksX5_quiresAgain_0 0 rfl rfl)
theorem dX5_quiresAgain_1 : decode cX5_quiresAgain 1 = .ok (.iconst 0, 1) := dk_3 (dk_at dksX5_quiresAgain_0 1 rfl rfl)
theorem dX5_quiresAgain_2 : decode cX5_quiresAgain 2 = .ok (.putfield 27, 3) := dk_181 0 27 (dk_at dksX5_quiresAgain_0 2 rfl rfl)
theorem dX5_quiresAgain_5 : decode cX5_quiresAgain 5 = .ok (.bipush 20, 2) := dk_16 20 (dk_at dksX5_quiresAgain_0 5 rfl rfl)
theorem dX5_quiresAgain_7 : decode cX5_quiresAgain 7 = .ok (.aload_n 0, 1) := dk_42 (dk_at dksX5_quiresAgain_0 7 rfl rfl)
theorem dX5_quiresAgain_8 : decode cX5_quiresAgain 8 = .ok (.getfield 9, 3) := dk_180 0 9 (dk_at dksX5_quiresAgain_0 8 rfl rfl)
theorem dX5_quiresAgain_11 : decode cX5_quiresAgain 11 = .ok (.iconst 5, 1) := dk_8 (dk_at dksX5_quiresAgain_0 11 rfl rfl)
theorem dX5_quiresAgain_12 : decode cX5_quiresAgain 12 = .ok (.iaload, 1) := dk_46 (dk_at dksX5_quiresAgain_0 12 rfl rfl)
theorem dX5_quiresAgain_13 : decode cX5_quiresAgain 13 = .ok (.imul, 1) := dk_104 (dk_at dksX5_quiresAgain_0 13 rfl rfl)
theorem dX5_quiresAgain_14 : decode cX5_quiresAgain 14 = .ok (.aload_n 0, 1) := dk_42 (dk_at dksX5_quiresAgain_0 14 rfl rfl)
theorem dX5_quiresAgain_15 : decode cX5_quiresAgain 15 = .ok (.invokevirtual 227, 3) := dk_182 0 227 (dk_at dksX5_quiresAgain_0 15 rfl rfl)
theorem dX5_quiresAgain_18 : decode cX5_quiresAgain 18 = .ok (.isub, 1) := dk_100 (dk_at dksX5_quiresAgain_0 18 rfl rfl)
theorem dX5_quiresAgain_19 : decode cX5_quiresAgain 19 = .ok (.aload_n 0, 1) := dk_42 (dk_at dksX5_quiresAgain_0 19 rfl rfl)
theorem dX5_quiresAgain_20 : decode cX5_quiresAgain 20 = .ok (.invokevirtual 230, 3) := dk_182 0 230 (dk_at dksX5_quiresAgain_0 20 rfl rfl)
theorem dX5_quiresAgain_23 : decode cX5_quiresAgain 23 = .ok (.isub, 1) := dk_100 (dk_at dksX5_quiresAgain_0 23 rfl rfl)
theorem dX5_quiresAgain_24 : decode cX5_quiresAgain 24 = .ok (.aload_n 0, 1) := dk_42 (dk_at dksX5_quiresAgain_1 0 rfl rfl)
theorem dX5_quiresAgain_25 : decode cX5_quiresAgain 25 = .ok (.getfield 9, 3) := dk_180 0 9 (dk_at dksX5_quiresAgain_1 1 rfl rfl)
theorem dX5_quiresAgain_28 : decode cX5_quiresAgain 28 = .ok (.iconst 1, 1) := dk_4 (dk_at dksX5_quiresAgain_1 4 rfl rfl)
theorem dX5_quiresAgain_29 : decode cX5_quiresAgain 29 = .ok (.iaload, 1) := dk_46 (dk_at dksX5_quiresAgain_1 5 rfl rfl)
theorem dX5_quiresAgain_30 : decode cX5_quiresAgain 30 = .ok (.isub, 1) := dk_100 (dk_at dksX5_quiresAgain_1 6 rfl rfl)
theorem dX5_quiresAgain_31 : decode cX5_quiresAgain 31 = .ok (.aload_n 0, 1) := dk_42 (dk_at dksX5_quiresAgain_1 7 rfl rfl)
theorem dX5_quiresAgain_32 : decode cX5_quiresAgain 32 = .ok (.getfield 9, 3) := dk_180 0 9 (dk_at dksX5_quiresAgain_1 8 rfl rfl)
theorem dX5_quiresAgain_35 : decode cX5_quiresAgain 35 = .ok (.iconst 2, 1) := dk_5 (dk_at dksX5_quiresAgain_1 11 rfl rfl)
theorem dX5_quiresAgain_36 : decode cX5_quiresAgain 36 = .ok (.iaload, 1) := dk_46 (dk_at dksX5_quiresAgain_1 12 rfl rfl)
theorem dX5_quiresAgain_37 : decode cX5_quiresAgain 37 = .ok (.isub, 1) := dk_100 (dk_at dksX5_quiresAgain_1 13 rfl rfl)
theorem dX5_quiresAgain_38 : decode cX5_quiresAgain 38 = .ok (.ireturn, 1) := dk_172 (dk_at dksX5_quiresAgain_1 14 rfl rfl)
abbrev cX5_append : ByteArray := prog_15_method_96_code
def yX5_append : MethodName := ⟨RX5, "append", "(C)I"⟩
def dkwX5_append_2 : List UInt8 := [42, 180, 0, 239, 27, 85, 42, 89, 180, 0, 239, 4, 96, 181, 0, 239, 42, 180, 0, 239, 172]
abbrev dktX5_append_2 : List UInt8 := dkwX5_append_2 ++ []
def dkwX5_append_1 : List UInt8 := [160, 0, 7, 5, 167, 0, 4, 3, 181, 0, 27, 42, 180, 0, 27, 153, 0, 5, 3, 172, 42, 180, 0, 17]
abbrev dktX5_append_1 : List UInt8 := dkwX5_append_1 ++ dktX5_append_2
def dkwX5_append_0 : List UInt8 := [42, 27, 16, 32, 16, 126, 184, 0, 49, 154, 0, 7, 4, 167, 0, 17, 42, 180, 0, 239, 16, 60]
abbrev dktX5_append_0 : List UInt8 := dkwX5_append_0 ++ dktX5_append_1
theorem dksX5_append_0 : cX5_append.data.toList.drop 0 = dktX5_append_0 := by decide +kernel
theorem dksX5_append_1 : cX5_append.data.toList.drop 22 = dktX5_append_1 := dk_seg dksX5_append_0 22 rfl rfl
theorem dksX5_append_2 : cX5_append.data.toList.drop 46 = dktX5_append_2 := dk_seg dksX5_append_1 24 rfl rfl
theorem dX5_append_0 : decode cX5_append 0 = .ok (.aload_n 0, 1) := dk_42 (dk_at dksX5_append_0 0 rfl rfl)
theorem dX5_append_1 : decode cX5_append 1 = .ok (.iload_n 1, 1) := dk_27 (dk_at dksX5_append_0 1 rfl rfl)
theorem dX5_append_2 : decode cX5_append 2 = .ok (.bipush 32, 2) := dk_16 32 (dk_at dksX5_append_0 2 rfl rfl)
theorem dX5_append_4 : decode cX5_append 4 = .ok (.bipush 126, 2) := dk_16 126 (dk_at dksX5_append_0 4 rfl rfl)
theorem dX5_append_6 : decode cX5_append 6 = .ok (.invokestatic 49, 3) := dk_184 0 49 (dk_at dksX5_append_0 6 rfl rfl)
theorem dX5_append_9 : decode cX5_append 9 = .ok (.ifCond .ne 7, 3) := dk_154 0 7 (dk_at dksX5_append_0 9 rfl rfl)
theorem dX5_append_12 : decode cX5_append 12 = .ok (.iconst 1, 1) := dk_4 (dk_at dksX5_append_0 12 rfl rfl)
theorem dX5_append_13 : decode cX5_append 13 = .ok (.goto 17, 3) := dk_167 0 17 (dk_at dksX5_append_0 13 rfl rfl)
theorem dX5_append_16 : decode cX5_append 16 = .ok (.aload_n 0, 1) := dk_42 (dk_at dksX5_append_0 16 rfl rfl)
theorem dX5_append_17 : decode cX5_append 17 = .ok (.getfield 239, 3) := dk_180 0 239 (dk_at dksX5_append_0 17 rfl rfl)
theorem dX5_append_20 : decode cX5_append 20 = .ok (.bipush 60, 2) := dk_16 60 (dk_at dksX5_append_0 20 rfl rfl)
theorem dX5_append_22 : decode cX5_append 22 = .ok (.if_icmp .ne 7, 3) := dk_160 0 7 (dk_at dksX5_append_1 0 rfl rfl)
theorem dX5_append_25 : decode cX5_append 25 = .ok (.iconst 2, 1) := dk_5 (dk_at dksX5_append_1 3 rfl rfl)
theorem dX5_append_26 : decode cX5_append 26 = .ok (.goto 4, 3) := dk_167 0 4 (dk_at dksX5_append_1 4 rfl rfl)
theorem dX5_append_29 : decode cX5_append 29 = .ok (.iconst 0, 1) := dk_3 (dk_at dksX5_append_1 7 rfl rfl)
theorem dX5_append_30 : decode cX5_append 30 = .ok (.putfield 27, 3) := dk_181 0 27 (dk_at dksX5_append_1 8 rfl rfl)
theorem dX5_append_33 : decode cX5_append 33 = .ok (.aload_n 0, 1) := dk_42 (dk_at dksX5_append_1 11 rfl rfl)
theorem dX5_append_34 : decode cX5_append 34 = .ok (.getfield 27, 3) := dk_180 0 27 (dk_at dksX5_append_1 12 rfl rfl)
theorem dX5_append_37 : decode cX5_append 37 = .ok (.ifCond .eq 5, 3) := dk_153 0 5 (dk_at dksX5_append_1 15 rfl rfl)
theorem dX5_append_40 : decode cX5_append 40 = .ok (.iconst 0, 1) := dk_3 (dk_at dksX5_append_1 18 rfl rfl)
theorem dX5_append_41 : decode cX5_append 41 = .ok (.ireturn, 1) := dk_172 (dk_at dksX5_append_1 19 rfl rfl)
theorem dX5_append_42 : decode cX5_append 42 = .ok (.aload_n 0, 1) := dk_42 (dk_at dksX5_append_1 20 rfl rfl)
theorem dX5_append_43 : decode cX5_append 43 = .ok (.getfield 17, 3) := dk_180 0 17 (dk_at dksX5_append_1 21 rfl rfl)
theorem dX5_append_46 : decode cX5_append 46 = .ok (.aload_n 0, 1) := dk_42 (dk_at dksX5_append_2 0 rfl rfl)
theorem dX5_append_47 : decode cX5_append 47 = .ok (.getfield 239, 3) := dk_180 0 239 (dk_at dksX5_append_2 1 rfl rfl)
theorem dX5_append_50 : decode cX5_append 50 = .ok (.iload_n 1, 1) := dk_27 (dk_at dksX5_append_2 4 rfl rfl)
theorem dX5_append_51 : decode cX5_append 51 = .ok (.castore, 1) := dk_85 (dk_at dksX5_append_2 5 rfl rfl)
theorem dX5_append_52 : decode cX5_append 52 = .ok (.aload_n 0, 1) := dk_42 (dk_at dksX5_append_2 6 rfl rfl)
theorem dX5_append_53 : decode cX5_append 53 = .ok (.dup, 1) := dk_89 (dk_at dksX5_append_2 7 rfl rfl)
theorem dX5_append_54 : decode cX5_append 54 = .ok (.getfield 239, 3) := dk_180 0 239 (dk_at dksX5_append_2 8 rfl rfl)
theorem dX5_append_57 : decode cX5_append 57 = .ok (.iconst 1, 1) := dk_4 (dk_at dksX5_append_2 11 rfl rfl)
theorem dX5_append_58 : decode cX5_append 58 = .ok (.iadd, 1) := dk_96 (dk_at dksX5_append_2 12 rfl rfl)
theorem dX5_append_59 : decode cX5_append 59 = .ok (.putfield 239, 3) := dk_181 0 239 (dk_at dksX5_append_2 13 rfl rfl)
theorem dX5_append_62 : decode cX5_append 62 = .ok (.aload_n 0, 1) := dk_42 (dk_at dksX5_append_2 16 rfl rfl)
theorem dX5_append_63 : decode cX5_append 63 = .ok (.getfield 239, 3) := dk_180 0 239 (dk_at dksX5_append_2 17 rfl rfl)
theorem dX5_append_66 : decode cX5_append 66 = .ok (.ireturn, 1) := dk_172 (dk_at dksX5_append_2 20 rfl rfl)
abbrev cX5_read : ByteArray := prog_15_method_105_code
def yX5_read : MethodName := ⟨RX5, "read", "()I"⟩
def dkwX5_read_3 : List UInt8 := [181, 0, 40, 42, 27, 5, 5, 6, 182, 0, 78, 172]
abbrev dktX5_read_3 : List UInt8 := dkwX5_read_3 ++ []
def dkwX5_read_2 : List UInt8 := [27, 154, 0, 17, 42, 7, 28, 104, 182, 1, 16, 60, 132, 2, 1, 167, 255, 233, 42, 42, 180, 1, 1]
abbrev dktX5_read_2 : List UInt8 := dkwX5_read_2 ++ dktX5_read_3
def dkwX5_read_1 : List UInt8 := [180, 0, 245, 181, 0, 20, 3, 172, 42, 182, 0, 61, 3, 60, 3, 61, 28, 42, 180, 1, 1, 162, 0, 21]
abbrev dktX5_read_1 : List UInt8 := dkwX5_read_1 ++ dktX5_read_2
def dkwX5_read_0 : List UInt8 := [42, 182, 1, 13, 42, 3, 181, 0, 239, 42, 180, 0, 245, 155, 0, 18, 42, 4, 181, 0, 27, 42, 42]
abbrev dktX5_read_0 : List UInt8 := dkwX5_read_0 ++ dktX5_read_1
theorem dksX5_read_0 : cX5_read.data.toList.drop 0 = dktX5_read_0 := by decide +kernel
theorem dksX5_read_1 : cX5_read.data.toList.drop 23 = dktX5_read_1 := dk_seg dksX5_read_0 23 rfl rfl
theorem dksX5_read_2 : cX5_read.data.toList.drop 47 = dktX5_read_2 := dk_seg dksX5_read_1 24 rfl rfl
theorem dksX5_read_3 : cX5_read.data.toList.drop 70 = dktX5_read_3 := dk_seg dksX5_read_2 23 rfl rfl
theorem dX5_read_0 : decode cX5_read 0 = .ok (.aload_n 0, 1) := dk_42 (dk_at dksX5_read_0 0 rfl rfl)
theorem dX5_read_1 : decode cX5_read 1 = .ok (.invokevirtual 269, 3) := dk_182 1 13 (dk_at dksX5_read_0 1 rfl rfl)
theorem dX5_read_4 : decode cX5_read 4 = .ok (.aload_n 0, 1) := dk_42 (dk_at dksX5_read_0 4 rfl rfl)
theorem dX5_read_5 : decode cX5_read 5 = .ok (.iconst 0, 1) := dk_3 (dk_at dksX5_read_0 5 rfl rfl)
theorem dX5_read_6 : decode cX5_read 6 = .ok (.putfield 239, 3) := dk_181 0 239 (dk_at dksX5_read_0 6 rfl rfl)
theorem dX5_read_9 : decode cX5_read 9 = .ok (.aload_n 0, 1) := dk_42 (dk_at dksX5_read_0 9 rfl rfl)
theorem dX5_read_10 : decode cX5_read 10 = .ok (.getfield 245, 3) := dk_180 0 245 (dk_at dksX5_read_0 10 rfl rfl)
theorem dX5_read_13 : decode cX5_read 13 = .ok (.ifCond .lt 18, 3) := dk_155 0 18 (dk_at dksX5_read_0 13 rfl rfl)
theorem dX5_read_16 : decode cX5_read 16 = .ok (.aload_n 0, 1) := dk_42 (dk_at dksX5_read_0 16 rfl rfl)
theorem dX5_read_17 : decode cX5_read 17 = .ok (.iconst 1, 1) := dk_4 (dk_at dksX5_read_0 17 rfl rfl)
theorem dX5_read_18 : decode cX5_read 18 = .ok (.putfield 27, 3) := dk_181 0 27 (dk_at dksX5_read_0 18 rfl rfl)
theorem dX5_read_21 : decode cX5_read 21 = .ok (.aload_n 0, 1) := dk_42 (dk_at dksX5_read_0 21 rfl rfl)
theorem dX5_read_22 : decode cX5_read 22 = .ok (.aload_n 0, 1) := dk_42 (dk_at dksX5_read_0 22 rfl rfl)
theorem dX5_read_23 : decode cX5_read 23 = .ok (.getfield 245, 3) := dk_180 0 245 (dk_at dksX5_read_1 0 rfl rfl)
theorem dX5_read_26 : decode cX5_read 26 = .ok (.putfield 20, 3) := dk_181 0 20 (dk_at dksX5_read_1 3 rfl rfl)
theorem dX5_read_29 : decode cX5_read 29 = .ok (.iconst 0, 1) := dk_3 (dk_at dksX5_read_1 6 rfl rfl)
theorem dX5_read_30 : decode cX5_read 30 = .ok (.ireturn, 1) := dk_172 (dk_at dksX5_read_1 7 rfl rfl)
theorem dX5_read_31 : decode cX5_read 31 = .ok (.aload_n 0, 1) := dk_42 (dk_at dksX5_read_1 8 rfl rfl)
theorem dX5_read_32 : decode cX5_read 32 = .ok (.invokevirtual 61, 3) := dk_182 0 61 (dk_at dksX5_read_1 9 rfl rfl)
theorem dX5_read_35 : decode cX5_read 35 = .ok (.iconst 0, 1) := dk_3 (dk_at dksX5_read_1 12 rfl rfl)
theorem dX5_read_36 : decode cX5_read 36 = .ok (.istore_n 1, 1) := dk_60 (dk_at dksX5_read_1 13 rfl rfl)
theorem dX5_read_37 : decode cX5_read 37 = .ok (.iconst 0, 1) := dk_3 (dk_at dksX5_read_1 14 rfl rfl)
theorem dX5_read_38 : decode cX5_read 38 = .ok (.istore_n 2, 1) := dk_61 (dk_at dksX5_read_1 15 rfl rfl)
theorem dX5_read_39 : decode cX5_read 39 = .ok (.iload_n 2, 1) := dk_28 (dk_at dksX5_read_1 16 rfl rfl)
theorem dX5_read_40 : decode cX5_read 40 = .ok (.aload_n 0, 1) := dk_42 (dk_at dksX5_read_1 17 rfl rfl)
theorem dX5_read_41 : decode cX5_read 41 = .ok (.getfield 257, 3) := dk_180 1 1 (dk_at dksX5_read_1 18 rfl rfl)
theorem dX5_read_44 : decode cX5_read 44 = .ok (.if_icmp .ge 21, 3) := dk_162 0 21 (dk_at dksX5_read_1 21 rfl rfl)
theorem dX5_read_47 : decode cX5_read 47 = .ok (.iload_n 1, 1) := dk_27 (dk_at dksX5_read_2 0 rfl rfl)
theorem dX5_read_48 : decode cX5_read 48 = .ok (.ifCond .ne 17, 3) := dk_154 0 17 (dk_at dksX5_read_2 1 rfl rfl)
theorem dX5_read_51 : decode cX5_read 51 = .ok (.aload_n 0, 1) := dk_42 (dk_at dksX5_read_2 4 rfl rfl)
theorem dX5_read_52 : decode cX5_read 52 = .ok (.iconst 4, 1) := dk_7 (dk_at dksX5_read_2 5 rfl rfl)
theorem dX5_read_53 : decode cX5_read 53 = .ok (.iload_n 2, 1) := dk_28 (dk_at dksX5_read_2 6 rfl rfl)
theorem dX5_read_54 : decode cX5_read 54 = .ok (.imul, 1) := dk_104 (dk_at dksX5_read_2 7 rfl rfl)
theorem dX5_read_55 : decode cX5_read 55 = .ok (.invokevirtual 272, 3) := dk_182 1 16 (dk_at dksX5_read_2 8 rfl rfl)
theorem dX5_read_58 : decode cX5_read 58 = .ok (.istore_n 1, 1) := dk_60 (dk_at dksX5_read_2 11 rfl rfl)
theorem dX5_read_59 : decode cX5_read 59 = .ok (.iinc 2 1, 3) := dk_132 2 1 (dk_at dksX5_read_2 12 rfl rfl)
theorem dX5_read_62 : decode cX5_read 62 = .ok (.goto (-23), 3) := dk_167 255 233 (dk_at dksX5_read_2 15 rfl rfl)
theorem dX5_read_65 : decode cX5_read 65 = .ok (.aload_n 0, 1) := dk_42 (dk_at dksX5_read_2 18 rfl rfl)
theorem dX5_read_66 : decode cX5_read 66 = .ok (.aload_n 0, 1) := dk_42 (dk_at dksX5_read_2 19 rfl rfl)
theorem dX5_read_67 : decode cX5_read 67 = .ok (.getfield 257, 3) := dk_180 1 1 (dk_at dksX5_read_2 20 rfl rfl)
theorem dX5_read_70 : decode cX5_read 70 = .ok (.putfield 40, 3) := dk_181 0 40 (dk_at dksX5_read_3 0 rfl rfl)
theorem dX5_read_73 : decode cX5_read 73 = .ok (.aload_n 0, 1) := dk_42 (dk_at dksX5_read_3 3 rfl rfl)
theorem dX5_read_74 : decode cX5_read 74 = .ok (.iload_n 1, 1) := dk_27 (dk_at dksX5_read_3 4 rfl rfl)
theorem dX5_read_75 : decode cX5_read 75 = .ok (.iconst 2, 1) := dk_5 (dk_at dksX5_read_3 5 rfl rfl)
theorem dX5_read_76 : decode cX5_read 76 = .ok (.iconst 2, 1) := dk_5 (dk_at dksX5_read_3 6 rfl rfl)
theorem dX5_read_77 : decode cX5_read 77 = .ok (.iconst 3, 1) := dk_6 (dk_at dksX5_read_3 7 rfl rfl)
theorem dX5_read_78 : decode cX5_read 78 = .ok (.invokevirtual 78, 3) := dk_182 0 78 (dk_at dksX5_read_3 8 rfl rfl)
theorem dX5_read_81 : decode cX5_read 81 = .ok (.ireturn, 1) := dk_172 (dk_at dksX5_read_3 11 rfl rfl)
abbrev cX5_parse : ByteArray := prog_15_method_103_code
def yX5_parse : MethodName := ⟨RX5, "parse", "()V"⟩
def dkwX5_parse_3 : List UInt8 := [42, 42, 180, 0, 242, 181, 0, 245, 177]
abbrev dktX5_parse_3 : List UInt8 := dkwX5_parse_3 ++ []
def dkwX5_parse_2 : List UInt8 := [182, 1, 10, 167, 255, 226, 42, 180, 0, 245, 156, 0, 22, 42, 180, 0, 242, 42, 180, 0, 239, 162, 0, 11]
abbrev dktX5_parse_2 : List UInt8 := dkwX5_parse_2 ++ dktX5_parse_3
def dkwX5_parse_1 : List UInt8 := [156, 0, 29, 42, 182, 0, 248, 16, 59, 160, 0, 20, 42, 89, 180, 0, 242, 4, 96, 181, 0, 242, 42]
abbrev dktX5_parse_1 : List UInt8 := dkwX5_parse_1 ++ dktX5_parse_2
def dkwX5_parse_0 : List UInt8 := [42, 3, 181, 0, 242, 42, 2, 181, 0, 245, 42, 3, 181, 1, 1, 42, 182, 1, 10, 42, 180, 0, 245]
abbrev dktX5_parse_0 : List UInt8 := dkwX5_parse_0 ++ dktX5_parse_1
theorem dksX5_parse_0 : cX5_parse.data.toList.drop 0 = dktX5_parse_0 := by decide +kernel
theorem dksX5_parse_1 : cX5_parse.data.toList.drop 23 = dktX5_parse_1 := dk_seg dksX5_parse_0 23 rfl rfl
theorem dksX5_parse_2 : cX5_parse.data.toList.drop 46 = dktX5_parse_2 := dk_seg dksX5_parse_1 23 rfl rfl
theorem dksX5_parse_3 : cX5_parse.data.toList.drop 70 = dktX5_parse_3 := dk_seg dksX5_parse_2 24 rfl rfl
theorem dX5_parse_0 : decode cX5_parse 0 = .ok (.aload_n 0, 1) := dk_42 (dk_at dksX5_parse_0 0 rfl rfl)
theorem dX5_parse_1 : decode cX5_parse 1 = .ok (.iconst 0, 1) := dk_3 (dk_at dksX5_parse_0 1 rfl rfl)
theorem dX5_parse_2 : decode cX5_parse 2 = .ok (.putfield 242, 3) := dk_181 0 242 (dk_at dksX5_parse_0 2 rfl rfl)
theorem dX5_parse_5 : decode cX5_parse 5 = .ok (.aload_n 0, 1) := dk_42 (dk_at dksX5_parse_0 5 rfl rfl)
theorem dX5_parse_6 : decode cX5_parse 6 = .ok (.iconst (-1), 1) := dk_2 (dk_at dksX5_parse_0 6 rfl rfl)
theorem dX5_parse_7 : decode cX5_parse 7 = .ok (.putfield 245, 3) := dk_181 0 245 (dk_at dksX5_parse_0 7 rfl rfl)
theorem dX5_parse_10 : decode cX5_parse 10 = .ok (.aload_n 0, 1) := dk_42 (dk_at dksX5_parse_0 10 rfl rfl)
theorem dX5_parse_11 : decode cX5_parse 11 = .ok (.iconst 0, 1) := dk_3 (dk_at dksX5_parse_0 11 rfl rfl)
theorem dX5_parse_12 : decode cX5_parse 12 = .ok (.putfield 257, 3) := dk_181 1 1 (dk_at dksX5_parse_0 12 rfl rfl)
theorem dX5_parse_15 : decode cX5_parse 15 = .ok (.aload_n 0, 1) := dk_42 (dk_at dksX5_parse_0 15 rfl rfl)
theorem dX5_parse_16 : decode cX5_parse 16 = .ok (.invokevirtual 266, 3) := dk_182 1 10 (dk_at dksX5_parse_0 16 rfl rfl)
theorem dX5_parse_19 : decode cX5_parse 19 = .ok (.aload_n 0, 1) := dk_42 (dk_at dksX5_parse_0 19 rfl rfl)
theorem dX5_parse_20 : decode cX5_parse 20 = .ok (.getfield 245, 3) := dk_180 0 245 (dk_at dksX5_parse_0 20 rfl rfl)
theorem dX5_parse_23 : decode cX5_parse 23 = .ok (.ifCond .ge 29, 3) := dk_156 0 29 (dk_at dksX5_parse_1 0 rfl rfl)
theorem dX5_parse_26 : decode cX5_parse 26 = .ok (.aload_n 0, 1) := dk_42 (dk_at dksX5_parse_1 3 rfl rfl)
theorem dX5_parse_27 : decode cX5_parse 27 = .ok (.invokevirtual 248, 3) := dk_182 0 248 (dk_at dksX5_parse_1 4 rfl rfl)
theorem dX5_parse_30 : decode cX5_parse 30 = .ok (.bipush 59, 2) := dk_16 59 (dk_at dksX5_parse_1 7 rfl rfl)
theorem dX5_parse_32 : decode cX5_parse 32 = .ok (.if_icmp .ne 20, 3) := dk_160 0 20 (dk_at dksX5_parse_1 9 rfl rfl)
theorem dX5_parse_35 : decode cX5_parse 35 = .ok (.aload_n 0, 1) := dk_42 (dk_at dksX5_parse_1 12 rfl rfl)
theorem dX5_parse_36 : decode cX5_parse 36 = .ok (.dup, 1) := dk_89 (dk_at dksX5_parse_1 13 rfl rfl)
theorem dX5_parse_37 : decode cX5_parse 37 = .ok (.getfield 242, 3) := dk_180 0 242 (dk_at dksX5_parse_1 14 rfl rfl)
theorem dX5_parse_40 : decode cX5_parse 40 = .ok (.iconst 1, 1) := dk_4 (dk_at dksX5_parse_1 17 rfl rfl)
theorem dX5_parse_41 : decode cX5_parse 41 = .ok (.iadd, 1) := dk_96 (dk_at dksX5_parse_1 18 rfl rfl)
theorem dX5_parse_42 : decode cX5_parse 42 = .ok (.putfield 242, 3) := dk_181 0 242 (dk_at dksX5_parse_1 19 rfl rfl)
theorem dX5_parse_45 : decode cX5_parse 45 = .ok (.aload_n 0, 1) := dk_42 (dk_at dksX5_parse_1 22 rfl rfl)
theorem dX5_parse_46 : decode cX5_parse 46 = .ok (.invokevirtual 266, 3) := dk_182 1 10 (dk_at dksX5_parse_2 0 rfl rfl)
theorem dX5_parse_49 : decode cX5_parse 49 = .ok (.goto (-30), 3) := dk_167 255 226 (dk_at dksX5_parse_2 3 rfl rfl)
theorem dX5_parse_52 : decode cX5_parse 52 = .ok (.aload_n 0, 1) := dk_42 (dk_at dksX5_parse_2 6 rfl rfl)
theorem dX5_parse_53 : decode cX5_parse 53 = .ok (.getfield 245, 3) := dk_180 0 245 (dk_at dksX5_parse_2 7 rfl rfl)
theorem dX5_parse_56 : decode cX5_parse 56 = .ok (.ifCond .ge 22, 3) := dk_156 0 22 (dk_at dksX5_parse_2 10 rfl rfl)
theorem dX5_parse_59 : decode cX5_parse 59 = .ok (.aload_n 0, 1) := dk_42 (dk_at dksX5_parse_2 13 rfl rfl)
theorem dX5_parse_60 : decode cX5_parse 60 = .ok (.getfield 242, 3) := dk_180 0 242 (dk_at dksX5_parse_2 14 rfl rfl)
theorem dX5_parse_63 : decode cX5_parse 63 = .ok (.aload_n 0, 1) := dk_42 (dk_at dksX5_parse_2 17 rfl rfl)
theorem dX5_parse_64 : decode cX5_parse 64 = .ok (.getfield 239, 3) := dk_180 0 239 (dk_at dksX5_parse_2 18 rfl rfl)
theorem dX5_parse_67 : decode cX5_parse 67 = .ok (.if_icmp .ge 11, 3) := dk_162 0 11 (dk_at dksX5_parse_2 21 rfl rfl)
theorem dX5_parse_70 : decode cX5_parse 70 = .ok (.aload_n 0, 1) := dk_42 (dk_at dksX5_parse_3 0 rfl rfl)
theorem dX5_parse_71 : decode cX5_parse 71 = .ok (.aload_n 0, 1) := dk_42 (dk_at dksX5_parse_3 1 rfl rfl)
theorem dX5_parse_72 : decode cX5_parse 72 = .ok (.getfield 242, 3) := dk_180 0 242 (dk_at dksX5_parse_3 2 rfl rfl)
theorem dX5_parse_75 : decode cX5_parse 75 = .ok (.putfield 245, 3) := dk_181 0 245 (dk_at dksX5_parse_3 5 rfl rfl)
theorem dX5_parse_78 : decode cX5_parse 78 = .ok (.return_, 1) := dk_177 (dk_at dksX5_parse_3 8 rfl rfl)
abbrev cX5_command : ByteArray := prog_15_method_102_code
def yX5_command : MethodName := ⟨RX5, "command", "()V"⟩
def dkwX5_command_3 : List UInt8 := [180, 0, 24, 27, 6, 96, 28, 16, 103, 160, 0, 10, 42, 182, 1, 7, 167, 0, 4, 3, 79, 177]
abbrev dktX5_command_3 : List UInt8 := dkwX5_command_3 ++ []
def dkwX5_command_2 : List UInt8 := [96, 28, 16, 115, 159, 0, 9, 28, 16, 100, 160, 0, 7, 3, 167, 0, 7, 42, 182, 1, 7, 79, 42]
abbrev dktX5_command_2 : List UInt8 := dkwX5_command_2 ++ dktX5_command_3
def dkwX5_command_1 : List UInt8 := [180, 0, 24, 27, 28, 79, 42, 180, 0, 24, 27, 4, 96, 42, 182, 1, 7, 79, 42, 180, 0, 24, 27, 5]
abbrev dktX5_command_1 : List UInt8 := dkwX5_command_1 ++ dktX5_command_2
def dkwX5_command_0 : List UInt8 := [7, 42, 180, 1, 1, 104, 60, 42, 89, 180, 1, 1, 4, 96, 181, 1, 1, 42, 182, 1, 4, 61, 42]
abbrev dktX5_command_0 : List UInt8 := dkwX5_command_0 ++ dktX5_command_1
theorem dksX5_command_0 : cX5_command.data.toList.drop 0 = dktX5_command_0 := by decide +kernel
theorem dksX5_command_1 : cX5_command.data.toList.drop 23 = dktX5_command_1 := dk_seg dksX5_command_0 23 rfl rfl
theorem dksX5_command_2 : cX5_command.data.toList.drop 47 = dktX5_command_2 := dk_seg dksX5_command_1 24 rfl rfl
theorem dksX5_command_3 : cX5_command.data.toList.drop 70 = dktX5_command_3 := dk_seg dksX5_command_2 23 rfl rfl
theorem dX5_command_0 : decode cX5_command 0 = .ok (.iconst 4, 1) := dk_7 (dk_at dksX5_command_0 0 rfl rfl)
theorem dX5_command_1 : decode cX5_command 1 = .ok (.aload_n 0, 1) := dk_42 (dk_at dksX5_command_0 1 rfl rfl)
theorem dX5_command_2 : decode cX5_command 2 = .ok (.getfield 257, 3) := dk_180 1 1 (dk_at dksX5_command_0 2 rfl rfl)
theorem dX5_command_5 : decode cX5_command 5 = .ok (.imul, 1) := dk_104 (dk_at dksX5_command_0 5 rfl rfl)
theorem dX5_command_6 : decode cX5_command 6 = .ok (.istore_n 1, 1) := dk_60 (dk_at dksX5_command_0 6 rfl rfl)
theorem dX5_command_7 : decode cX5_command 7 = .ok (.aload_n 0, 1) := dk_42 (dk_at dksX5_command_0 7 rfl rfl)
theorem dX5_command_8 : decode cX5_command 8 = .ok (.dup, 1) := dk_89 (dk_at dksX5_command_0 8 rfl rfl)
theorem dX5_command_9 : decode cX5_command 9 = .ok (.getfield 257, 3) := dk_180 1 1 (dk_at dksX5_command_0 9 rfl rfl)
theorem dX5_command_12 : decode cX5_command 12 = .ok (.iconst 1, 1) := dk_4 (dk_at dksX5_command_0 12 rfl rfl)
theorem dX5_command_13 : decode cX5_command 13 = .ok (.iadd, 1) := dk_96 (dk_at dksX5_command_0 13 rfl rfl)
theorem dX5_command_14 : decode cX5_command 14 = .ok (.putfield 257, 3) := dk_181 1 1 (dk_at dksX5_command_0 14 rfl rfl)
theorem dX5_command_17 : decode cX5_command 17 = .ok (.aload_n 0, 1) := dk_42 (dk_at dksX5_command_0 17 rfl rfl)
theorem dX5_command_18 : decode cX5_command 18 = .ok (.invokevirtual 260, 3) := dk_182 1 4 (dk_at dksX5_command_0 18 rfl rfl)
theorem dX5_command_21 : decode cX5_command 21 = .ok (.istore_n 2, 1) := dk_61 (dk_at dksX5_command_0 21 rfl rfl)
theorem dX5_command_22 : decode cX5_command 22 = .ok (.aload_n 0, 1) := dk_42 (dk_at dksX5_command_0 22 rfl rfl)
theorem dX5_command_23 : decode cX5_command 23 = .ok (.getfield 24, 3) := dk_180 0 24 (dk_at dksX5_command_1 0 rfl rfl)
theorem dX5_command_26 : decode cX5_command 26 = .ok (.iload_n 1, 1) := dk_27 (dk_at dksX5_command_1 3 rfl rfl)
theorem dX5_command_27 : decode cX5_command 27 = .ok (.iload_n 2, 1) := dk_28 (dk_at dksX5_command_1 4 rfl rfl)
theorem dX5_command_28 : decode cX5_command 28 = .ok (.iastore, 1) := dk_79 (dk_at dksX5_command_1 5 rfl rfl)
theorem dX5_command_29 : decode cX5_command 29 = .ok (.aload_n 0, 1) := dk_42 (dk_at dksX5_command_1 6 rfl rfl)
theorem dX5_command_30 : decode cX5_command 30 = .ok (.getfield 24, 3) := dk_180 0 24 (dk_at dksX5_command_1 7 rfl rfl)
theorem dX5_command_33 : decode cX5_command 33 = .ok (.iload_n 1, 1) := dk_27 (dk_at dksX5_command_1 10 rfl rfl)
theorem dX5_command_34 : decode cX5_command 34 = .ok (.iconst 1, 1) := dk_4 (dk_at dksX5_command_1 11 rfl rfl)
theorem dX5_command_35 : decode cX5_command 35 = .ok (.iadd, 1) := dk_96 (dk_at dksX5_command_1 12 rfl rfl)
theorem dX5_command_36 : decode cX5_command 36 = .ok (.aload_n 0, 1) := dk_42 (dk_at dksX5_command_1 13 rfl rfl)
theorem dX5_command_37 : decode cX5_command 37 = .ok (.invokevirtual 263, 3) := dk_182 1 7 (dk_at dksX5_command_1 14 rfl rfl)
theorem dX5_command_40 : decode cX5_command 40 = .ok (.iastore, 1) := dk_79 (dk_at dksX5_command_1 17 rfl rfl)
theorem dX5_command_41 : decode cX5_command 41 = .ok (.aload_n 0, 1) := dk_42 (dk_at dksX5_command_1 18 rfl rfl)
theorem dX5_command_42 : decode cX5_command 42 = .ok (.getfield 24, 3) := dk_180 0 24 (dk_at dksX5_command_1 19 rfl rfl)
theorem dX5_command_45 : decode cX5_command 45 = .ok (.iload_n 1, 1) := dk_27 (dk_at dksX5_command_1 22 rfl rfl)
theorem dX5_command_46 : decode cX5_command 46 = .ok (.iconst 2, 1) := dk_5 (dk_at dksX5_command_1 23 rfl rfl)
theorem dX5_command_47 : decode cX5_command 47 = .ok (.iadd, 1) := dk_96 (dk_at dksX5_command_2 0 rfl rfl)
theorem dX5_command_48 : decode cX5_command 48 = .ok (.iload_n 2, 1) := dk_28 (dk_at dksX5_command_2 1 rfl rfl)
theorem dX5_command_49 : decode cX5_command 49 = .ok (.bipush 115, 2) := dk_16 115 (dk_at dksX5_command_2 2 rfl rfl)
theorem dX5_command_51 : decode cX5_command 51 = .ok (.if_icmp .eq 9, 3) := dk_159 0 9 (dk_at dksX5_command_2 4 rfl rfl)
theorem dX5_command_54 : decode cX5_command 54 = .ok (.iload_n 2, 1) := dk_28 (dk_at dksX5_command_2 7 rfl rfl)
theorem dX5_command_55 : decode cX5_command 55 = .ok (.bipush 100, 2) := dk_16 100 (dk_at dksX5_command_2 8 rfl rfl)
theorem dX5_command_57 : decode cX5_command 57 = .ok (.if_icmp .ne 7, 3) := dk_160 0 7 (dk_at dksX5_command_2 10 rfl rfl)
theorem dX5_command_60 : decode cX5_command 60 = .ok (.iconst 0, 1) := dk_3 (dk_at dksX5_command_2 13 rfl rfl)
theorem dX5_command_61 : decode cX5_command 61 = .ok (.goto 7, 3) := dk_167 0 7 (dk_at dksX5_command_2 14 rfl rfl)
theorem dX5_command_64 : decode cX5_command 64 = .ok (.aload_n 0, 1) := dk_42 (dk_at dksX5_command_2 17 rfl rfl)
theorem dX5_command_65 : decode cX5_command 65 = .ok (.invokevirtual 263, 3) := dk_182 1 7 (dk_at dksX5_command_2 18 rfl rfl)
theorem dX5_command_68 : decode cX5_command 68 = .ok (.iastore, 1) := dk_79 (dk_at dksX5_command_2 21 rfl rfl)
theorem dX5_command_69 : decode cX5_command 69 = .ok (.aload_n 0, 1) := dk_42 (dk_at dksX5_command_2 22 rfl rfl)
theorem dX5_command_70 : decode cX5_command 70 = .ok (.getfield 24, 3) := dk_180 0 24 (dk_at dksX5_command_3 0 rfl rfl)
theorem dX5_command_73 : decode cX5_command 73 = .ok (.iload_n 1, 1) := dk_27 (dk_at dksX5_command_3 3 rfl rfl)
theorem dX5_command_74 : decode cX5_command 74 = .ok (.iconst 3, 1) := dk_6 (dk_at dksX5_command_3 4 rfl rfl)
theorem dX5_command_75 : decode cX5_command 75 = .ok (.iadd, 1) := dk_96 (dk_at dksX5_command_3 5 rfl rfl)
theorem dX5_command_76 : decode cX5_command 76 = .ok (.iload_n 2, 1) := dk_28 (dk_at dksX5_command_3 6 rfl rfl)
theorem dX5_command_77 : decode cX5_command 77 = .ok (.bipush 103, 2) := dk_16 103 (dk_at dksX5_command_3 7 rfl rfl)
theorem dX5_command_79 : decode cX5_command 79 = .ok (.if_icmp .ne 10, 3) := dk_160 0 10 (dk_at dksX5_command_3 9 rfl rfl)
theorem dX5_command_82 : decode cX5_command 82 = .ok (.aload_n 0, 1) := dk_42 (dk_at dksX5_command_3 12 rfl rfl)
theorem dX5_command_83 : decode cX5_command 83 = .ok (.invokevirtual 263, 3) := dk_182 1 7 (dk_at dksX5_command_3 13 rfl rfl)
theorem dX5_command_86 : decode cX5_command 86 = .ok (.goto 4, 3) := dk_167 0 4 (dk_at dksX5_command_3 16 rfl rfl)
theorem dX5_command_89 : decode cX5_command 89 = .ok (.iconst 0, 1) := dk_3 (dk_at dksX5_command_3 19 rfl rfl)
theorem dX5_command_90 : decode cX5_command 90 = .ok (.iastore, 1) := dk_79 (dk_at dksX5_command_3 20 rfl rfl)
theorem dX5_command_91 : decode cX5_command 91 = .ok (.return_, 1) := dk_177 (dk_at dksX5_command_3 21 rfl rfl)
abbrev cX5_word : ByteArray := prog_15_method_101_code
def yX5_word : MethodName := ⟨RX5, "word", "()I"⟩
def dkwX5_word_7 : List UInt8 := [16, 121, 16, 115, 182, 0, 254, 27, 172]
abbrev dktX5_word_7 : List UInt8 := dkwX5_word_7 ++ []
def dkwX5_word_6 : List UInt8 := [160, 0, 15, 42, 16, 105, 182, 0, 251, 42, 16, 114, 182, 0, 251, 27, 16, 100, 160, 0, 13, 42, 16, 97]
abbrev dktX5_word_6 : List UInt8 := dkwX5_word_6 ++ dktX5_word_7
def dkwX5_word_5 : List UInt8 := [182, 0, 254, 27, 16, 116, 160, 0, 13, 42, 16, 114, 16, 97, 16, 112, 182, 0, 254, 27, 16, 97]
abbrev dktX5_word_5 : List UInt8 := dkwX5_word_5 ++ dktX5_word_6
def dkwX5_word_4 : List UInt8 := [16, 101, 182, 0, 251, 42, 16, 114, 182, 0, 251, 27, 16, 115, 160, 0, 13, 42, 16, 101, 16, 110, 16, 100]
abbrev dktX5_word_4 : List UInt8 := dkwX5_word_4 ++ dktX5_word_5
def dkwX5_word_3 : List UInt8 := [16, 115, 16, 104, 182, 0, 254, 27, 16, 103, 160, 0, 25, 42, 16, 97, 16, 116, 16, 104, 182, 0, 254, 42]
abbrev dktX5_word_3 : List UInt8 := dkwX5_word_3 ++ dktX5_word_4
def dkwX5_word_2 : List UInt8 := [181, 0, 245, 27, 172, 42, 89, 180, 0, 242, 4, 96, 181, 0, 242, 27, 16, 112, 160, 0, 13, 42, 16, 117]
abbrev dktX5_word_2 : List UInt8 := dkwX5_word_2 ++ dktX5_word_3
def dkwX5_word_1 : List UInt8 := [16, 116, 159, 0, 25, 27, 16, 97, 159, 0, 19, 27, 16, 100, 159, 0, 13, 42, 42, 180, 0, 242]
abbrev dktX5_word_1 : List UInt8 := dkwX5_word_1 ++ dktX5_word_2
def dkwX5_word_0 : List UInt8 := [42, 182, 0, 248, 60, 27, 16, 112, 159, 0, 43, 27, 16, 103, 159, 0, 37, 27, 16, 115, 159, 0, 31, 27]
abbrev dktX5_word_0 : List UInt8 := dkwX5_word_0 ++ dktX5_word_1
theorem dksX5_word_0 : cX5_word.data.toList.drop 0 = dktX5_word_0 := by decide +kernel
theorem dksX5_word_1 : cX5_word.data.toList.drop 24 = dktX5_word_1 := dk_seg dksX5_word_0 24 rfl rfl
theorem dksX5_word_2 : cX5_word.data.toList.drop 46 = dktX5_word_2 := dk_seg dksX5_word_1 22 rfl rfl
theorem dksX5_word_3 : cX5_word.data.toList.drop 70 = dktX5_word_3 := dk_seg dksX5_word_2 24 rfl rfl
theorem dksX5_word_4 : cX5_word.data.toList.drop 94 = dktX5_word_4 := dk_seg dksX5_word_3 24 rfl rfl
theorem dksX5_word_5 : cX5_word.data.toList.drop 118 = dktX5_word_5 := dk_seg dksX5_word_4 24 rfl rfl
theorem dksX5_word_6 : cX5_word.data.toList.drop 140 = dktX5_word_6 := dk_seg dksX5_word_5 22 rfl rfl
theorem dksX5_word_7 : cX5_word.data.toList.drop 164 = dktX5_word_7 := dk_seg dksX5_word_6 24 rfl rfl
theorem dX5_word_0 : decode cX5_word 0 = .ok (.aload_n 0, 1) := dk_42 (dk_at dksX5_word_0 0 rfl rfl)
theorem dX5_word_1 : decode cX5_word 1 = .ok (.invokevirtual 248, 3) := dk_182 0 248 (dk_at dksX5_word_0 1 rfl rfl)
theorem dX5_word_4 : decode cX5_word 4 = .ok (.istore_n 1, 1) := dk_60 (dk_at dksX5_word_0 4 rfl rfl)
theorem dX5_word_5 : decode cX5_word 5 = .ok (.iload_n 1, 1) := dk_27 (dk_at dksX5_word_0 5 rfl rfl)
theorem dX5_word_6 : decode cX5_word 6 = .ok (.bipush 112, 2) := dk_16 112 (dk_at dksX5_word_0 6 rfl rfl)
theorem dX5_word_8 : decode cX5_word 8 = .ok (.if_icmp .eq 43, 3) := dk_159 0 43 (dk_at dksX5_word_0 8 rfl rfl)
theorem dX5_word_11 : decode cX5_word 11 = .ok (.iload_n 1, 1) := dk_27 (dk_at dksX5_word_0 11 rfl rfl)
theorem dX5_word_12 : decode cX5_word 12 = .ok (.bipush 103, 2) := dk_16 103 (dk_at dksX5_word_0 12 rfl rfl)
theorem dX5_word_14 : decode cX5_word 14 = .ok (.if_icmp .eq 37, 3) := dk_159 0 37 (dk_at dksX5_word_0 14 rfl rfl)
theorem dX5_word_17 : decode cX5_word 17 = .ok (.iload_n 1, 1) := dk_27 (dk_at dksX5_word_0 17 rfl rfl)
theorem dX5_word_18 : decode cX5_word 18 = .ok (.bipush 115, 2) := dk_16 115 (dk_at dksX5_word_0 18 rfl rfl)
theorem dX5_word_20 : decode cX5_word 20 = .ok (.if_icmp .eq 31, 3) := dk_159 0 31 (dk_at dksX5_word_0 20 rfl rfl)
theorem dX5_word_23 : decode cX5_word 23 = .ok (.iload_n 1, 1) := dk_27 (dk_at dksX5_word_0 23 rfl rfl)
theorem dX5_word_24 : decode cX5_word 24 = .ok (.bipush 116, 2) := dk_16 116 (dk_at dksX5_word_1 0 rfl rfl)
theorem dX5_word_26 : decode cX5_word 26 = .ok (.if_icmp .eq 25, 3) := dk_159 0 25 (dk_at dksX5_word_1 2 rfl rfl)
theorem dX5_word_29 : decode cX5_word 29 = .ok (.iload_n 1, 1) := dk_27 (dk_at dksX5_word_1 5 rfl rfl)
theorem dX5_word_30 : decode cX5_word 30 = .ok (.bipush 97, 2) := dk_16 97 (dk_at dksX5_word_1 6 rfl rfl)
theorem dX5_word_32 : decode cX5_word 32 = .ok (.if_icmp .eq 19, 3) := dk_159 0 19 (dk_at dksX5_word_1 8 rfl rfl)
theorem dX5_word_35 : decode cX5_word 35 = .ok (.iload_n 1, 1) := dk_27 (dk_at dksX5_word_1 11 rfl rfl)
theorem dX5_word_36 : decode cX5_word 36 = .ok (.bipush 100, 2) := dk_16 100 (dk_at dksX5_word_1 12 rfl rfl)
theorem dX5_word_38 : decode cX5_word 38 = .ok (.if_icmp .eq 13, 3) := dk_159 0 13 (dk_at dksX5_word_1 14 rfl rfl)
theorem dX5_word_41 : decode cX5_word 41 = .ok (.aload_n 0, 1) := dk_42 (dk_at dksX5_word_1 17 rfl rfl)
theorem dX5_word_42 : decode cX5_word 42 = .ok (.aload_n 0, 1) := dk_42 (dk_at dksX5_word_1 18 rfl rfl)
theorem dX5_word_43 : decode cX5_word 43 = .ok (.getfield 242, 3) := dk_180 0 242 (dk_at dksX5_word_1 19 rfl rfl)
theorem dX5_word_46 : decode cX5_word 46 = .ok (.putfield 245, 3) := dk_181 0 245 (dk_at dksX5_word_2 0 rfl rfl)
theorem dX5_word_49 : decode cX5_word 49 = .ok (.iload_n 1, 1) := dk_27 (dk_at dksX5_word_2 3 rfl rfl)
theorem dX5_word_50 : decode cX5_word 50 = .ok (.ireturn, 1) := dk_172 (dk_at dksX5_word_2 4 rfl rfl)
theorem dX5_word_51 : decode cX5_word 51 = .ok (.aload_n 0, 1) := dk_42 (dk_at dksX5_word_2 5 rfl rfl)
theorem dX5_word_52 : decode cX5_word 52 = .ok (.dup, 1) := dk_89 (dk_at dksX5_word_2 6 rfl rfl)
theorem dX5_word_53 : decode cX5_word 53 = .ok (.getfield 242, 3) := dk_180 0 242 (dk_at dksX5_word_2 7 rfl rfl)
theorem dX5_word_56 : decode cX5_word 56 = .ok (.iconst 1, 1) := dk_4 (dk_at dksX5_word_2 10 rfl rfl)
theorem dX5_word_57 : decode cX5_word 57 = .ok (.iadd, 1) := dk_96 (dk_at dksX5_word_2 11 rfl rfl)
theorem dX5_word_58 : decode cX5_word 58 = .ok (.putfield 242, 3) := dk_181 0 242 (dk_at dksX5_word_2 12 rfl rfl)
theorem dX5_word_61 : decode cX5_word 61 = .ok (.iload_n 1, 1) := dk_27 (dk_at dksX5_word_2 15 rfl rfl)
theorem dX5_word_62 : decode cX5_word 62 = .ok (.bipush 112, 2) := dk_16 112 (dk_at dksX5_word_2 16 rfl rfl)
theorem dX5_word_64 : decode cX5_word 64 = .ok (.if_icmp .ne 13, 3) := dk_160 0 13 (dk_at dksX5_word_2 18 rfl rfl)
theorem dX5_word_67 : decode cX5_word 67 = .ok (.aload_n 0, 1) := dk_42 (dk_at dksX5_word_2 21 rfl rfl)
theorem dX5_word_68 : decode cX5_word 68 = .ok (.bipush 117, 2) := dk_16 117 (dk_at dksX5_word_2 22 rfl rfl)
theorem dX5_word_70 : decode cX5_word 70 = .ok (.bipush 115, 2) := dk_16 115 (dk_at dksX5_word_3 0 rfl rfl)
theorem dX5_word_72 : decode cX5_word 72 = .ok (.bipush 104, 2) := dk_16 104 (dk_at dksX5_word_3 2 rfl rfl)
theorem dX5_word_74 : decode cX5_word 74 = .ok (.invokevirtual 254, 3) := dk_182 0 254 (dk_at dksX5_word_3 4 rfl rfl)
theorem dX5_word_77 : decode cX5_word 77 = .ok (.iload_n 1, 1) := dk_27 (dk_at dksX5_word_3 7 rfl rfl)
theorem dX5_word_78 : decode cX5_word 78 = .ok (.bipush 103, 2) := dk_16 103 (dk_at dksX5_word_3 8 rfl rfl)
theorem dX5_word_80 : decode cX5_word 80 = .ok (.if_icmp .ne 25, 3) := dk_160 0 25 (dk_at dksX5_word_3 10 rfl rfl)
theorem dX5_word_83 : decode cX5_word 83 = .ok (.aload_n 0, 1) := dk_42 (dk_at dksX5_word_3 13 rfl rfl)
theorem dX5_word_84 : decode cX5_word 84 = .ok (.bipush 97, 2) := dk_16 97 (dk_at dksX5_word_3 14 rfl rfl)
theorem dX5_word_86 : decode cX5_word 86 = .ok (.bipush 116, 2) := dk_16 116 (dk_at dksX5_word_3 16 rfl rfl)
theorem dX5_word_88 : decode cX5_word 88 = .ok (.bipush 104, 2) := dk_16 104 (dk_at dksX5_word_3 18 rfl rfl)
theorem dX5_word_90 : decode cX5_word 90 = .ok (.invokevirtual 254, 3) := dk_182 0 254 (dk_at dksX5_word_3 20 rfl rfl)
theorem dX5_word_93 : decode cX5_word 93 = .ok (.aload_n 0, 1) := dk_42 (dk_at dksX5_word_3 23 rfl rfl)
theorem dX5_word_94 : decode cX5_word 94 = .ok (.bipush 101, 2) := dk_16 101 (dk_at dksX5_word_4 0 rfl rfl)
theorem dX5_word_96 : decode cX5_word 96 = .ok (.invokevirtual 251, 3) := dk_182 0 251 (dk_at dksX5_word_4 2 rfl rfl)
theorem dX5_word_99 : decode cX5_word 99 = .ok (.aload_n 0, 1) := dk_42 (dk_at dksX5_word_4 5 rfl rfl)
theorem dX5_word_100 : decode cX5_word 100 = .ok (.bipush 114, 2) := dk_16 114 (dk_at dksX5_word_4 6 rfl rfl)
theorem dX5_word_102 : decode cX5_word 102 = .ok (.invokevirtual 251, 3) := dk_182 0 251 (dk_at dksX5_word_4 8 rfl rfl)
theorem dX5_word_105 : decode cX5_word 105 = .ok (.iload_n 1, 1) := dk_27 (dk_at dksX5_word_4 11 rfl rfl)
theorem dX5_word_106 : decode cX5_word 106 = .ok (.bipush 115, 2) := dk_16 115 (dk_at dksX5_word_4 12 rfl rfl)
theorem dX5_word_108 : decode cX5_word 108 = .ok (.if_icmp .ne 13, 3) := dk_160 0 13 (dk_at dksX5_word_4 14 rfl rfl)
theorem dX5_word_111 : decode cX5_word 111 = .ok (.aload_n 0, 1) := dk_42 (dk_at dksX5_word_4 17 rfl rfl)
theorem dX5_word_112 : decode cX5_word 112 = .ok (.bipush 101, 2) := dk_16 101 (dk_at dksX5_word_4 18 rfl rfl)
theorem dX5_word_114 : decode cX5_word 114 = .ok (.bipush 110, 2) := dk_16 110 (dk_at dksX5_word_4 20 rfl rfl)
theorem dX5_word_116 : decode cX5_word 116 = .ok (.bipush 100, 2) := dk_16 100 (dk_at dksX5_word_4 22 rfl rfl)
theorem dX5_word_118 : decode cX5_word 118 = .ok (.invokevirtual 254, 3) := dk_182 0 254 (dk_at dksX5_word_5 0 rfl rfl)
theorem dX5_word_121 : decode cX5_word 121 = .ok (.iload_n 1, 1) := dk_27 (dk_at dksX5_word_5 3 rfl rfl)
theorem dX5_word_122 : decode cX5_word 122 = .ok (.bipush 116, 2) := dk_16 116 (dk_at dksX5_word_5 4 rfl rfl)
theorem dX5_word_124 : decode cX5_word 124 = .ok (.if_icmp .ne 13, 3) := dk_160 0 13 (dk_at dksX5_word_5 6 rfl rfl)
theorem dX5_word_127 : decode cX5_word 127 = .ok (.aload_n 0, 1) := dk_42 (dk_at dksX5_word_5 9 rfl rfl)
theorem dX5_word_128 : decode cX5_word 128 = .ok (.bipush 114, 2) := dk_16 114 (dk_at dksX5_word_5 10 rfl rfl)
theorem dX5_word_130 : decode cX5_word 130 = .ok (.bipush 97, 2) := dk_16 97 (dk_at dksX5_word_5 12 rfl rfl)
theorem dX5_word_132 : decode cX5_word 132 = .ok (.bipush 112, 2) := dk_16 112 (dk_at dksX5_word_5 14 rfl rfl)
theorem dX5_word_134 : decode cX5_word 134 = .ok (.invokevirtual 254, 3) := dk_182 0 254 (dk_at dksX5_word_5 16 rfl rfl)
theorem dX5_word_137 : decode cX5_word 137 = .ok (.iload_n 1, 1) := dk_27 (dk_at dksX5_word_5 19 rfl rfl)
theorem dX5_word_138 : decode cX5_word 138 = .ok (.bipush 97, 2) := dk_16 97 (dk_at dksX5_word_5 20 rfl rfl)
theorem dX5_word_140 : decode cX5_word 140 = .ok (.if_icmp .ne 15, 3) := dk_160 0 15 (dk_at dksX5_word_6 0 rfl rfl)
theorem dX5_word_143 : decode cX5_word 143 = .ok (.aload_n 0, 1) := dk_42 (dk_at dksX5_word_6 3 rfl rfl)
theorem dX5_word_144 : decode cX5_word 144 = .ok (.bipush 105, 2) := dk_16 105 (dk_at dksX5_word_6 4 rfl rfl)
theorem dX5_word_146 : decode cX5_word 146 = .ok (.invokevirtual 251, 3) := dk_182 0 251 (dk_at dksX5_word_6 6 rfl rfl)
theorem dX5_word_149 : decode cX5_word 149 = .ok (.aload_n 0, 1) := dk_42 (dk_at dksX5_word_6 9 rfl rfl)
theorem dX5_word_150 : decode cX5_word 150 = .ok (.bipush 114, 2) := dk_16 114 (dk_at dksX5_word_6 10 rfl rfl)
theorem dX5_word_152 : decode cX5_word 152 = .ok (.invokevirtual 251, 3) := dk_182 0 251 (dk_at dksX5_word_6 12 rfl rfl)
theorem dX5_word_155 : decode cX5_word 155 = .ok (.iload_n 1, 1) := dk_27 (dk_at dksX5_word_6 15 rfl rfl)
theorem dX5_word_156 : decode cX5_word 156 = .ok (.bipush 100, 2) := dk_16 100 (dk_at dksX5_word_6 16 rfl rfl)
theorem dX5_word_158 : decode cX5_word 158 = .ok (.if_icmp .ne 13, 3) := dk_160 0 13 (dk_at dksX5_word_6 18 rfl rfl)
theorem dX5_word_161 : decode cX5_word 161 = .ok (.aload_n 0, 1) := dk_42 (dk_at dksX5_word_6 21 rfl rfl)
theorem dX5_word_162 : decode cX5_word 162 = .ok (.bipush 97, 2) := dk_16 97 (dk_at dksX5_word_6 22 rfl rfl)
theorem dX5_word_164 : decode cX5_word 164 = .ok (.bipush 121, 2) := dk_16 121 (dk_at dksX5_word_7 0 rfl rfl)
theorem dX5_word_166 : decode cX5_word 166 = .ok (.bipush 115, 2) := dk_16 115 (dk_at dksX5_word_7 2 rfl rfl)
theorem dX5_word_168 : decode cX5_word 168 = .ok (.invokevirtual 254, 3) := dk_182 0 254 (dk_at dksX5_word_7 4 rfl rfl)
theorem dX5_word_171 : decode cX5_word 171 = .ok (.iload_n 1, 1) := dk_27 (dk_at dksX5_word_7 7 rfl rfl)
theorem dX5_word_172 : decode cX5_word 172 = .ok (.ireturn, 1) := dk_172 (dk_at dksX5_word_7 8 rfl rfl)
abbrev cX5_sign : ByteArray := prog_15_method_97_code
def yX5_sign : MethodName := ⟨RX5, "sign", "()I"⟩
def dkwX5_sign_1 : List UInt8 := [172]
abbrev dktX5_sign_1 : List UInt8 := dkwX5_sign_1 ++ []
def dkwX5_sign_0 : List UInt8 := [42, 180, 0, 242, 42, 180, 0, 239, 162, 0, 15, 42, 180, 0, 17, 42, 180, 0, 242, 52, 167, 0, 4, 2]
abbrev dktX5_sign_0 : List UInt8 := dkwX5_sign_0 ++ dktX5_sign_1
theorem dksX5_sign_0 : cX5_sign.data.toList.drop 0 = dktX5_sign_0 := by decide +kernel
theorem dksX5_sign_1 : cX5_sign.data.toList.drop 24 = dktX5_sign_1 := dk_seg dksX5_sign_0 24 rfl rfl
theorem dX5_sign_0 : decode cX5_sign 0 = .ok (.aload_n 0, 1) := dk_42 (dk_at dksX5_sign_0 0 rfl rfl)
theorem dX5_sign_1 : decode cX5_sign 1 = .ok (.getfield 242, 3) := dk_180 0 242 (dk_at dksX5_sign_0 1 rfl rfl)
theorem dX5_sign_4 : decode cX5_sign 4 = .ok (.aload_n 0, 1) := dk_42 (dk_at dksX5_sign_0 4 rfl rfl)
theorem dX5_sign_5 : decode cX5_sign 5 = .ok (.getfield 239, 3) := dk_180 0 239 (dk_at dksX5_sign_0 5 rfl rfl)
theorem dX5_sign_8 : decode cX5_sign 8 = .ok (.if_icmp .ge 15, 3) := dk_162 0 15 (dk_at dksX5_sign_0 8 rfl rfl)
theorem dX5_sign_11 : decode cX5_sign 11 = .ok (.aload_n 0, 1) := dk_42 (dk_at dksX5_sign_0 11 rfl rfl)
theorem dX5_sign_12 : decode cX5_sign 12 = .ok (.getfield 17, 3) := dk_180 0 17 (dk_at dksX5_sign_0 12 rfl rfl)
theorem dX5_sign_15 : decode cX5_sign 15 = .ok (.aload_n 0, 1) := dk_42 (dk_at dksX5_sign_0 15 rfl rfl)
theorem dX5_sign_16 : decode cX5_sign 16 = .ok (.getfield 242, 3) := dk_180 0 242 (dk_at dksX5_sign_0 16 rfl rfl)
theorem dX5_sign_19 : decode cX5_sign 19 = .ok (.caload, 1) := dk_52 (dk_at dksX5_sign_0 19 rfl rfl)
theorem dX5_sign_20 : decode cX5_sign 20 = .ok (.goto 4, 3) := dk_167 0 4 (dk_at dksX5_sign_0 20 rfl rfl)
theorem dX5_sign_23 : decode cX5_sign 23 = .ok (.iconst (-1), 1) := dk_2 (dk_at dksX5_sign_0 23 rfl rfl)
theorem dX5_sign_24 : decode cX5_sign 24 = .ok (.ireturn, 1) := dk_172 (dk_at dksX5_sign_1 0 rfl rfl)
abbrev cX5_letters : ByteArray := prog_15_method_100_code
def yX5_letters : MethodName := ⟨RX5, "letters", "(III)V"⟩
def dkwX5_letters_0 : List UInt8 := [42, 27, 182, 0, 251, 42, 28, 182, 0, 251, 42, 29, 182, 0, 251, 177]
abbrev dktX5_letters_0 : List UInt8 := dkwX5_letters_0 ++ []
theorem dksX5_letters_0 : cX5_letters.data.toList.drop 0 = dktX5_letters_0 := by decide +kernel
theorem dX5_letters_0 : decode cX5_letters 0 = .ok (.aload_n 0, 1) := dk_42 (dk_at dksX5_letters_0 0 rfl rfl)
theorem dX5_letters_1 : decode cX5_letters 1 = .ok (.iload_n 1, 1) := dk_27 (dk_at dksX5_letters_0 1 rfl rfl)
theorem dX5_letters_2 : decode cX5_letters 2 = .ok (.invokevirtual 251, 3) := dk_182 0 251 (dk_at dksX5_letters_0 2 rfl rfl)
theorem dX5_letters_5 : decode cX5_letters 5 = .ok (.aload_n 0, 1) := dk_42 (dk_at dksX5_letters_0 5 rfl rfl)
theorem dX5_letters_6 : decode cX5_letters 6 = .ok (.iload_n 2, 1) := dk_28 (dk_at dksX5_letters_0 6 rfl rfl)
theorem dX5_letters_7 : decode cX5_letters 7 = .ok (.invokevirtual 251, 3) := dk_182 0 251 (dk_at dksX5_letters_0 7 rfl rfl)
theorem dX5_letters_10 : decode cX5_letters 10 = .ok (.aload_n 0, 1) := dk_42 (dk_at dksX5_letters_0 10 rfl rfl)
theorem dX5_letters_11 : decode cX5_letters 11 = .ok (.iload_n 3, 1) := dk_29 (dk_at dksX5_letters_0 11 rfl rfl)
theorem dX5_letters_12 : decode cX5_letters 12 = .ok (.invokevirtual 251, 3) := dk_182 0 251 (dk_at dksX5_letters_0 12 rfl rfl)
theorem dX5_letters_15 : decode cX5_letters 15 = .ok (.return_, 1) := dk_177 (dk_at dksX5_letters_0 15 rfl rfl)
abbrev cX5_takes : ByteArray := prog_15_method_98_code
def yX5_takes : MethodName := ⟨RX5, "takes", "(I)V"⟩
def dkwX5_takes_1 : List UInt8 := [177, 42, 89, 180, 0, 242, 4, 96, 181, 0, 242, 177]
abbrev dktX5_takes_1 : List UInt8 := dkwX5_takes_1 ++ []
def dkwX5_takes_0 : List UInt8 := [42, 180, 0, 245, 155, 0, 4, 177, 42, 182, 0, 248, 27, 159, 0, 12, 42, 42, 180, 0, 242, 181, 0, 245]
abbrev dktX5_takes_0 : List UInt8 := dkwX5_takes_0 ++ dktX5_takes_1
theorem dksX5_takes_0 : cX5_takes.data.toList.drop 0 = dktX5_takes_0 := by decide +kernel
theorem dksX5_takes_1 : cX5_takes.data.toList.drop 24 = dktX5_takes_1 := dk_seg dksX5_takes_0 24 rfl rfl
theorem dX5_takes_0 : decode cX5_takes 0 = .ok (.aload_n 0, 1) := dk_42 (dk_at dksX5_takes_0 0 rfl rfl)
theorem dX5_takes_1 : decode cX5_takes 1 = .ok (.getfield 245, 3) := dk_180 0 245 (dk_at dksX5_takes_0 1 rfl rfl)
theorem dX5_takes_4 : decode cX5_takes 4 = .ok (.ifCond .lt 4, 3) := dk_155 0 4 (dk_at dksX5_takes_0 4 rfl rfl)
theorem dX5_takes_7 : decode cX5_takes 7 = .ok (.return_, 1) := dk_177 (dk_at dksX5_takes_0 7 rfl rfl)
theorem dX5_takes_8 : decode cX5_takes 8 = .ok (.aload_n 0, 1) := dk_42 (dk_at dksX5_takes_0 8 rfl rfl)
theorem dX5_takes_9 : decode cX5_takes 9 = .ok (.invokevirtual 248, 3) := dk_182 0 248 (dk_at dksX5_takes_0 9 rfl rfl)
theorem dX5_takes_12 : decode cX5_takes 12 = .ok (.iload_n 1, 1) := dk_27 (dk_at dksX5_takes_0 12 rfl rfl)
theorem dX5_takes_13 : decode cX5_takes 13 = .ok (.if_icmp .eq 12, 3) := dk_159 0 12 (dk_at dksX5_takes_0 13 rfl rfl)
theorem dX5_takes_16 : decode cX5_takes 16 = .ok (.aload_n 0, 1) := dk_42 (dk_at dksX5_takes_0 16 rfl rfl)
theorem dX5_takes_17 : decode cX5_takes 17 = .ok (.aload_n 0, 1) := dk_42 (dk_at dksX5_takes_0 17 rfl rfl)
theorem dX5_takes_18 : decode cX5_takes 18 = .ok (.getfield 242, 3) := dk_180 0 242 (dk_at dksX5_takes_0 18 rfl rfl)
theorem dX5_takes_21 : decode cX5_takes 21 = .ok (.putfield 245, 3) := dk_181 0 245 (dk_at dksX5_takes_0 21 rfl rfl)
theorem dX5_takes_24 : decode cX5_takes 24 = .ok (.return_, 1) := dk_177 (dk_at dksX5_takes_1 0 rfl rfl)
theorem dX5_takes_25 : decode cX5_takes 25 = .ok (.aload_n 0, 1) := dk_42 (dk_at dksX5_takes_1 1 rfl rfl)
theorem dX5_takes_26 : decode cX5_takes 26 = .ok (.dup, 1) := dk_89 (dk_at dksX5_takes_1 2 rfl rfl)
theorem dX5_takes_27 : decode cX5_takes 27 = .ok (.getfield 242, 3) := dk_180 0 242 (dk_at dksX5_takes_1 3 rfl rfl)
theorem dX5_takes_30 : decode cX5_takes 30 = .ok (.iconst 1, 1) := dk_4 (dk_at dksX5_takes_1 6 rfl rfl)
theorem dX5_takes_31 : decode cX5_takes 31 = .ok (.iadd, 1) := dk_96 (dk_at dksX5_takes_1 7 rfl rfl)
theorem dX5_takes_32 : decode cX5_takes 32 = .ok (.putfield 242, 3) := dk_181 0 242 (dk_at dksX5_takes_1 8 rfl rfl)
theorem dX5_takes_35 : decode cX5_takes 35 = .ok (.return_, 1) := dk_177 (dk_at dksX5_takes_1 11 rfl rfl)
abbrev cX5_number : ByteArray := prog_15_method_99_code
def yX5_number : MethodName := ⟨RX5, "number", "()I"⟩
def dkwX5_number_4 : List UInt8 := [27, 172]
abbrev dktX5_number_4 : List UInt8 := dkwX5_number_4 ++ []
def dkwX5_number_3 : List UInt8 := [182, 0, 248, 96, 16, 48, 100, 60, 42, 89, 180, 0, 242, 4, 96, 181, 0, 242, 132, 2, 1, 167, 255, 211]
abbrev dktX5_number_3 : List UInt8 := dkwX5_number_3 ++ dktX5_number_4
def dkwX5_number_2 : List UInt8 := [162, 0, 46, 42, 182, 0, 248, 16, 48, 16, 57, 184, 0, 49, 153, 0, 32, 16, 10, 27, 104, 42]
abbrev dktX5_number_2 : List UInt8 := dkwX5_number_2 ++ dktX5_number_3
def dkwX5_number_1 : List UInt8 := [184, 0, 49, 154, 0, 13, 42, 42, 180, 0, 242, 181, 0, 245, 3, 172, 3, 60, 3, 61, 28, 5]
abbrev dktX5_number_1 : List UInt8 := dkwX5_number_1 ++ dktX5_number_2
def dkwX5_number_0 : List UInt8 := [42, 16, 32, 182, 0, 251, 42, 180, 0, 245, 155, 0, 5, 3, 172, 42, 182, 0, 248, 16, 48, 16, 57]
abbrev dktX5_number_0 : List UInt8 := dkwX5_number_0 ++ dktX5_number_1
theorem dksX5_number_0 : cX5_number.data.toList.drop 0 = dktX5_number_0 := by decide +kernel
theorem dksX5_number_1 : cX5_number.data.toList.drop 23 = dktX5_number_1 := dk_seg dksX5_number_0 23 rfl rfl
theorem dksX5_number_2 : cX5_number.data.toList.drop 45 = dktX5_number_2 := dk_seg dksX5_number_1 22 rfl rfl
theorem dksX5_number_3 : cX5_number.data.toList.drop 67 = dktX5_number_3 := dk_seg dksX5_number_2 22 rfl rfl
theorem dksX5_number_4 : cX5_number.data.toList.drop 91 = dktX5_number_4 := dk_seg dksX5_number_3 24 rfl rfl
theorem dX5_number_0 : decode cX5_number 0 = .ok (.aload_n 0, 1) := dk_42 (dk_at dksX5_number_0 0 rfl rfl)
theorem dX5_number_1 : decode cX5_number 1 = .ok (.bipush 32, 2) := dk_16 32 (dk_at dksX5_number_0 1 rfl rfl)
theorem dX5_number_3 : decode cX5_number 3 = .ok (.invokevirtual 251, 3) := dk_182 0 251 (dk_at dksX5_number_0 3 rfl rfl)
theorem dX5_number_6 : decode cX5_number 6 = .ok (.aload_n 0, 1) := dk_42 (dk_at dksX5_number_0 6 rfl rfl)
theorem dX5_number_7 : decode cX5_number 7 = .ok (.getfield 245, 3) := dk_180 0 245 (dk_at dksX5_number_0 7 rfl rfl)
theorem dX5_number_10 : decode cX5_number 10 = .ok (.ifCond .lt 5, 3) := dk_155 0 5 (dk_at dksX5_number_0 10 rfl rfl)
theorem dX5_number_13 : decode cX5_number 13 = .ok (.iconst 0, 1) := dk_3 (dk_at dksX5_number_0 13 rfl rfl)
theorem dX5_number_14 : decode cX5_number 14 = .ok (.ireturn, 1) := dk_172 (dk_at dksX5_number_0 14 rfl rfl)
theorem dX5_number_15 : decode cX5_number 15 = .ok (.aload_n 0, 1) := dk_42 (dk_at dksX5_number_0 15 rfl rfl)
theorem dX5_number_16 : decode cX5_number 16 = .ok (.invokevirtual 248, 3) := dk_182 0 248 (dk_at dksX5_number_0 16 rfl rfl)
theorem dX5_number_19 : decode cX5_number 19 = .ok (.bipush 48, 2) := dk_16 48 (dk_at dksX5_number_0 19 rfl rfl)
theorem dX5_number_21 : decode cX5_number 21 = .ok (.bipush 57, 2) := dk_16 57 (dk_at dksX5_number_0 21 rfl rfl)
theorem dX5_number_23 : decode cX5_number 23 = .ok (.invokestatic 49, 3) := dk_184 0 49 (dk_at dksX5_number_1 0 rfl rfl)
theorem dX5_number_26 : decode cX5_number 26 = .ok (.ifCond .ne 13, 3) := dk_154 0 13 (dk_at dksX5_number_1 3 rfl rfl)
theorem dX5_number_29 : decode cX5_number 29 = .ok (.aload_n 0, 1) := dk_42 (dk_at dksX5_number_1 6 rfl rfl)
theorem dX5_number_30 : decode cX5_number 30 = .ok (.aload_n 0, 1) := dk_42 (dk_at dksX5_number_1 7 rfl rfl)
theorem dX5_number_31 : decode cX5_number 31 = .ok (.getfield 242, 3) := dk_180 0 242 (dk_at dksX5_number_1 8 rfl rfl)
theorem dX5_number_34 : decode cX5_number 34 = .ok (.putfield 245, 3) := dk_181 0 245 (dk_at dksX5_number_1 11 rfl rfl)
theorem dX5_number_37 : decode cX5_number 37 = .ok (.iconst 0, 1) := dk_3 (dk_at dksX5_number_1 14 rfl rfl)
theorem dX5_number_38 : decode cX5_number 38 = .ok (.ireturn, 1) := dk_172 (dk_at dksX5_number_1 15 rfl rfl)
theorem dX5_number_39 : decode cX5_number 39 = .ok (.iconst 0, 1) := dk_3 (dk_at dksX5_number_1 16 rfl rfl)
theorem dX5_number_40 : decode cX5_number 40 = .ok (.istore_n 1, 1) := dk_60 (dk_at dksX5_number_1 17 rfl rfl)
theorem dX5_number_41 : decode cX5_number 41 = .ok (.iconst 0, 1) := dk_3 (dk_at dksX5_number_1 18 rfl rfl)
theorem dX5_number_42 : decode cX5_number 42 = .ok (.istore_n 2, 1) := dk_61 (dk_at dksX5_number_1 19 rfl rfl)
theorem dX5_number_43 : decode cX5_number 43 = .ok (.iload_n 2, 1) := dk_28 (dk_at dksX5_number_1 20 rfl rfl)
theorem dX5_number_44 : decode cX5_number 44 = .ok (.iconst 2, 1) := dk_5 (dk_at dksX5_number_1 21 rfl rfl)
theorem dX5_number_45 : decode cX5_number 45 = .ok (.if_icmp .ge 46, 3) := dk_162 0 46 (dk_at dksX5_number_2 0 rfl rfl)
theorem dX5_number_48 : decode cX5_number 48 = .ok (.aload_n 0, 1) := dk_42 (dk_at dksX5_number_2 3 rfl rfl)
theorem dX5_number_49 : decode cX5_number 49 = .ok (.invokevirtual 248, 3) := dk_182 0 248 (dk_at dksX5_number_2 4 rfl rfl)
theorem dX5_number_52 : decode cX5_number 52 = .ok (.bipush 48, 2) := dk_16 48 (dk_at dksX5_number_2 7 rfl rfl)
theorem dX5_number_54 : decode cX5_number 54 = .ok (.bipush 57, 2) := dk_16 57 (dk_at dksX5_number_2 9 rfl rfl)
theorem dX5_number_56 : decode cX5_number 56 = .ok (.invokestatic 49, 3) := dk_184 0 49 (dk_at dksX5_number_2 11 rfl rfl)
theorem dX5_number_59 : decode cX5_number 59 = .ok (.ifCond .eq 32, 3) := dk_153 0 32 (dk_at dksX5_number_2 14 rfl rfl)
theorem dX5_number_62 : decode cX5_number 62 = .ok (.bipush 10, 2) := dk_16 10 (dk_at dksX5_number_2 17 rfl rfl)
theorem dX5_number_64 : decode cX5_number 64 = .ok (.iload_n 1, 1) := dk_27 (dk_at dksX5_number_2 19 rfl rfl)
theorem dX5_number_65 : decode cX5_number 65 = .ok (.imul, 1) := dk_104 (dk_at dksX5_number_2 20 rfl rfl)
theorem dX5_number_66 : decode cX5_number 66 = .ok (.aload_n 0, 1) := dk_42 (dk_at dksX5_number_2 21 rfl rfl)
theorem dX5_number_67 : decode cX5_number 67 = .ok (.invokevirtual 248, 3) := dk_182 0 248 (dk_at dksX5_number_3 0 rfl rfl)
theorem dX5_number_70 : decode cX5_number 70 = .ok (.iadd, 1) := dk_96 (dk_at dksX5_number_3 3 rfl rfl)
theorem dX5_number_71 : decode cX5_number 71 = .ok (.bipush 48, 2) := dk_16 48 (dk_at dksX5_number_3 4 rfl rfl)
theorem dX5_number_73 : decode cX5_number 73 = .ok (.isub, 1) := dk_100 (dk_at dksX5_number_3 6 rfl rfl)
theorem dX5_number_74 : decode cX5_number 74 = .ok (.istore_n 1, 1) := dk_60 (dk_at dksX5_number_3 7 rfl rfl)
theorem dX5_number_75 : decode cX5_number 75 = .ok (.aload_n 0, 1) := dk_42 (dk_at dksX5_number_3 8 rfl rfl)
theorem dX5_number_76 : decode cX5_number 76 = .ok (.dup, 1) := dk_89 (dk_at dksX5_number_3 9 rfl rfl)
theorem dX5_number_77 : decode cX5_number 77 = .ok (.getfield 242, 3) := dk_180 0 242 (dk_at dksX5_number_3 10 rfl rfl)
theorem dX5_number_80 : decode cX5_number 80 = .ok (.iconst 1, 1) := dk_4 (dk_at dksX5_number_3 13 rfl rfl)
theorem dX5_number_81 : decode cX5_number 81 = .ok (.iadd, 1) := dk_96 (dk_at dksX5_number_3 14 rfl rfl)
theorem dX5_number_82 : decode cX5_number 82 = .ok (.putfield 242, 3) := dk_181 0 242 (dk_at dksX5_number_3 15 rfl rfl)
theorem dX5_number_85 : decode cX5_number 85 = .ok (.iinc 2 1, 3) := dk_132 2 1 (dk_at dksX5_number_3 18 rfl rfl)
theorem dX5_number_88 : decode cX5_number 88 = .ok (.goto (-45), 3) := dk_167 255 211 (dk_at dksX5_number_3 21 rfl rfl)
theorem dX5_number_91 : decode cX5_number 91 = .ok (.iload_n 1, 1) := dk_27 (dk_at dksX5_number_4 0 rfl rfl)
theorem dX5_number_92 : decode cX5_number 92 = .ok (.ireturn, 1) := dk_172 (dk_at dksX5_number_4 1 rfl rfl)
abbrev cX5_does : ByteArray := prog_15_method_104_code
def yX5_does : MethodName := ⟨RX5, "does", "(I)I"⟩
def dkwX5_does_3 : List UInt8 := [182, 0, 199, 172, 42, 28, 29, 182, 0, 137, 172, 42, 28, 29, 182, 0, 128, 172, 42, 28, 182, 0, 206, 172]
abbrev dktX5_does_3 : List UInt8 := dkwX5_does_3 ++ []
def dkwX5_does_2 : List UInt8 := [42, 28, 29, 182, 0, 75, 172, 42, 28, 29, 42, 180, 0, 24, 27, 6, 96, 46, 182, 0, 196, 172, 42, 28]
abbrev dktX5_does_2 : List UInt8 := dkwX5_does_2 ++ dktX5_does_3
def dkwX5_does_1 : List UInt8 := [171, 0, 0, 0, 0, 0, 0, 94, 0, 0, 0, 5, 0, 0, 0, 97, 0, 0, 0, 87, 0, 0, 0, 103, 0, 0, 0, 59, 0, 0, 0, 112, 0, 0, 0, 52, 0, 0, 0, 115, 0, 0, 0, 74, 0, 0, 0, 116, 0, 0, 0, 80]
abbrev dktX5_does_1 : List UInt8 := dkwX5_does_1 ++ dktX5_does_2
def dkwX5_does_0 : List UInt8 := [42, 180, 0, 24, 27, 4, 96, 46, 61, 42, 180, 0, 24, 27, 5, 96, 46, 62, 42, 180, 0, 24, 27, 46]
abbrev dktX5_does_0 : List UInt8 := dkwX5_does_0 ++ dktX5_does_1
theorem dksX5_does_0 : cX5_does.data.toList.drop 0 = dktX5_does_0 := by decide +kernel
theorem dksX5_does_1 : cX5_does.data.toList.drop 24 = dktX5_does_1 := dk_seg dksX5_does_0 24 rfl rfl
theorem dksX5_does_2 : cX5_does.data.toList.drop 76 = dktX5_does_2 := dk_seg dksX5_does_1 52 rfl rfl
theorem dksX5_does_3 : cX5_does.data.toList.drop 100 = dktX5_does_3 := dk_seg dksX5_does_2 24 rfl rfl
theorem dX5_does_0 : decode cX5_does 0 = .ok (.aload_n 0, 1) := dk_42 (dk_at dksX5_does_0 0 rfl rfl)
theorem dX5_does_1 : decode cX5_does 1 = .ok (.getfield 24, 3) := dk_180 0 24 (dk_at dksX5_does_0 1 rfl rfl)
theorem dX5_does_4 : decode cX5_does 4 = .ok (.iload_n 1, 1) := dk_27 (dk_at dksX5_does_0 4 rfl rfl)
theorem dX5_does_5 : decode cX5_does 5 = .ok (.iconst 1, 1) := dk_4 (dk_at dksX5_does_0 5 rfl rfl)
theorem dX5_does_6 : decode cX5_does 6 = .ok (.iadd, 1) := dk_96 (dk_at dksX5_does_0 6 rfl rfl)
theorem dX5_does_7 : decode cX5_does 7 = .ok (.iaload, 1) := dk_46 (dk_at dksX5_does_0 7 rfl rfl)
theorem dX5_does_8 : decode cX5_does 8 = .ok (.istore_n 2, 1) := dk_61 (dk_at dksX5_does_0 8 rfl rfl)
theorem dX5_does_9 : decode cX5_does 9 = .ok (.aload_n 0, 1) := dk_42 (dk_at dksX5_does_0 9 rfl rfl)
theorem dX5_does_10 : decode cX5_does 10 = .ok (.getfield 24, 3) := dk_180 0 24 (dk_at dksX5_does_0 10 rfl rfl)
theorem dX5_does_13 : decode cX5_does 13 = .ok (.iload_n 1, 1) := dk_27 (dk_at dksX5_does_0 13 rfl rfl)
theorem dX5_does_14 : decode cX5_does 14 = .ok (.iconst 2, 1) := dk_5 (dk_at dksX5_does_0 14 rfl rfl)
theorem dX5_does_15 : decode cX5_does 15 = .ok (.iadd, 1) := dk_96 (dk_at dksX5_does_0 15 rfl rfl)
theorem dX5_does_16 : decode cX5_does 16 = .ok (.iaload, 1) := dk_46 (dk_at dksX5_does_0 16 rfl rfl)
theorem dX5_does_17 : decode cX5_does 17 = .ok (.istore_n 3, 1) := dk_62 (dk_at dksX5_does_0 17 rfl rfl)
theorem dX5_does_18 : decode cX5_does 18 = .ok (.aload_n 0, 1) := dk_42 (dk_at dksX5_does_0 18 rfl rfl)
theorem dX5_does_19 : decode cX5_does 19 = .ok (.getfield 24, 3) := dk_180 0 24 (dk_at dksX5_does_0 19 rfl rfl)
theorem dX5_does_22 : decode cX5_does 22 = .ok (.iload_n 1, 1) := dk_27 (dk_at dksX5_does_0 22 rfl rfl)
theorem dX5_does_23 : decode cX5_does 23 = .ok (.iaload, 1) := dk_46 (dk_at dksX5_does_0 23 rfl rfl)
theorem dX5_does_24 : decode cX5_does 24 = .ok (.lookupswitch 94 #[(97, 87), (103, 59), (112, 52), (115, 74), (116, 80)], 52) := by decide +kernel
theorem dX5_does_76 : decode cX5_does 76 = .ok (.aload_n 0, 1) := dk_42 (dk_at dksX5_does_2 0 rfl rfl)
theorem dX5_does_77 : decode cX5_does 77 = .ok (.iload_n 2, 1) := dk_28 (dk_at dksX5_does_2 1 rfl rfl)
theorem dX5_does_78 : decode cX5_does 78 = .ok (.iload_n 3, 1) := dk_29 (dk_at dksX5_does_2 2 rfl rfl)
theorem dX5_does_79 : decode cX5_does 79 = .ok (.invokevirtual 75, 3) := dk_182 0 75 (dk_at dksX5_does_2 3 rfl rfl)
theorem dX5_does_82 : decode cX5_does 82 = .ok (.ireturn, 1) := dk_172 (dk_at dksX5_does_2 6 rfl rfl)
theorem dX5_does_83 : decode cX5_does 83 = .ok (.aload_n 0, 1) := dk_42 (dk_at dksX5_does_2 7 rfl rfl)
theorem dX5_does_84 : decode cX5_does 84 = .ok (.iload_n 2, 1) := dk_28 (dk_at dksX5_does_2 8 rfl rfl)
theorem dX5_does_85 : decode cX5_does 85 = .ok (.iload_n 3, 1) := dk_29 (dk_at dksX5_does_2 9 rfl rfl)
theorem dX5_does_86 : decode cX5_does 86 = .ok (.aload_n 0, 1) := dk_42 (dk_at dksX5_does_2 10 rfl rfl)
theorem dX5_does_87 : decode cX5_does 87 = .ok (.getfield 24, 3) := dk_180 0 24 (dk_at dksX5_does_2 11 rfl rfl)
theorem dX5_does_90 : decode cX5_does 90 = .ok (.iload_n 1, 1) := dk_27 (dk_at dksX5_does_2 14 rfl rfl)
theorem dX5_does_91 : decode cX5_does 91 = .ok (.iconst 3, 1) := dk_6 (dk_at dksX5_does_2 15 rfl rfl)
theorem dX5_does_92 : decode cX5_does 92 = .ok (.iadd, 1) := dk_96 (dk_at dksX5_does_2 16 rfl rfl)
theorem dX5_does_93 : decode cX5_does 93 = .ok (.iaload, 1) := dk_46 (dk_at dksX5_does_2 17 rfl rfl)
theorem dX5_does_94 : decode cX5_does 94 = .ok (.invokevirtual 196, 3) := dk_182 0 196 (dk_at dksX5_does_2 18 rfl rfl)
theorem dX5_does_97 : decode cX5_does 97 = .ok (.ireturn, 1) := dk_172 (dk_at dksX5_does_2 21 rfl rfl)
theorem dX5_does_98 : decode cX5_does 98 = .ok (.aload_n 0, 1) := dk_42 (dk_at dksX5_does_2 22 rfl rfl)
theorem dX5_does_99 : decode cX5_does 99 = .ok (.iload_n 2, 1) := dk_28 (dk_at dksX5_does_2 23 rfl rfl)
theorem dX5_does_100 : decode cX5_does 100 = .ok (.invokevirtual 199, 3) := dk_182 0 199 (dk_at dksX5_does_3 0 rfl rfl)
theorem dX5_does_103 : decode cX5_does 103 = .ok (.ireturn, 1) := dk_172 (dk_at dksX5_does_3 3 rfl rfl)
theorem dX5_does_104 : decode cX5_does 104 = .ok (.aload_n 0, 1) := dk_42 (dk_at dksX5_does_3 4 rfl rfl)
theorem dX5_does_105 : decode cX5_does 105 = .ok (.iload_n 2, 1) := dk_28 (dk_at dksX5_does_3 5 rfl rfl)
theorem dX5_does_106 : decode cX5_does 106 = .ok (.iload_n 3, 1) := dk_29 (dk_at dksX5_does_3 6 rfl rfl)
theorem dX5_does_107 : decode cX5_does 107 = .ok (.invokevirtual 137, 3) := dk_182 0 137 (dk_at dksX5_does_3 7 rfl rfl)
theorem dX5_does_110 : decode cX5_does 110 = .ok (.ireturn, 1) := dk_172 (dk_at dksX5_does_3 10 rfl rfl)
theorem dX5_does_111 : decode cX5_does 111 = .ok (.aload_n 0, 1) := dk_42 (dk_at dksX5_does_3 11 rfl rfl)
theorem dX5_does_112 : decode cX5_does 112 = .ok (.iload_n 2, 1) := dk_28 (dk_at dksX5_does_3 12 rfl rfl)
theorem dX5_does_113 : decode cX5_does 113 = .ok (.iload_n 3, 1) := dk_29 (dk_at dksX5_does_3 13 rfl rfl)
theorem dX5_does_114 : decode cX5_does 114 = .ok (.invokevirtual 128, 3) := dk_182 0 128 (dk_at dksX5_does_3 14 rfl rfl)
theorem dX5_does_117 : decode cX5_does 117 = .ok (.ireturn, 1) := dk_172 (dk_at dksX5_does_3 17 rfl rfl)
theorem dX5_does_118 : decode cX5_does 118 = .ok (.aload_n 0, 1) := dk_42 (dk_at dksX5_does_3 18 rfl rfl)
theorem dX5_does_119 : decode cX5_does 119 = .ok (.iload_n 2, 1) := dk_28 (dk_at dksX5_does_3 19 rfl rfl)
theorem dX5_does_120 : decode cX5_does 120 = .ok (.invokevirtual 206, 3) := dk_182 0 206 (dk_at dksX5_does_3 20 rfl rfl)
theorem dX5_does_123 : decode cX5_does 123 = .ok (.ireturn, 1) := dk_172 (dk_at dksX5_does_3 23 rfl rfl)
abbrev cX5_errorPosition : ByteArray := prog_15_method_106_code
def yX5_errorPosition : MethodName := ⟨RX5, "errorPosition", "()I"⟩
def dkwX5_errorPosition_1 : List UInt8 := [42, 180, 0, 20, 167, 0, 4, 3, 172]
abbrev dktX5_errorPosition_1 : List UInt8 := dkwX5_errorPosition_1 ++ []
def dkwX5_errorPosition_0 : List UInt8 := [42, 42, 180, 0, 20, 2, 160, 0, 7, 4, 167, 0, 4, 3, 181, 0, 27, 42, 180, 0, 27, 154, 0, 10]
abbrev dktX5_errorPosition_0 : List UInt8 := dkwX5_errorPosition_0 ++ dktX5_errorPosition_1
theorem dksX5_errorPosition_0 : cX5_errorPosition.data.toList.drop 0 = dktX5_errorPosition_0 := by decide +kernel
theorem dksX5_errorPosition_1 : cX5_errorPosition.data.toList.drop 24 = dktX5_errorPosition_1 := dk_seg dksX5_errorPosition_0 24 rfl rfl
theorem dX5_errorPosition_0 : decode cX5_errorPosition 0 = .ok (.aload_n 0, 1) := dk_42 (dk_at dksX5_errorPosition_0 0 rfl rfl)
theorem dX5_errorPosition_1 : decode cX5_errorPosition 1 = .ok (.aload_n 0, 1) := dk_42 (dk_at dksX5_errorPosition_0 1 rfl rfl)
theorem dX5_errorPosition_2 : decode cX5_errorPosition 2 = .ok (.getfield 20, 3) := dk_180 0 20 (dk_at dksX5_errorPosition_0 2 rfl rfl)
theorem dX5_errorPosition_5 : decode cX5_errorPosition 5 = .ok (.iconst (-1), 1) := dk_2 (dk_at dksX5_errorPosition_0 5 rfl rfl)
theorem dX5_errorPosition_6 : decode cX5_errorPosition 6 = .ok (.if_icmp .ne 7, 3) := dk_160 0 7 (dk_at dksX5_errorPosition_0 6 rfl rfl)
theorem dX5_errorPosition_9 : decode cX5_errorPosition 9 = .ok (.iconst 1, 1) := dk_4 (dk_at dksX5_errorPosition_0 9 rfl rfl)
theorem dX5_errorPosition_10 : decode cX5_errorPosition 10 = .ok (.goto 4, 3) := dk_167 0 4 (dk_at dksX5_errorPosition_0 10 rfl rfl)
theorem dX5_errorPosition_13 : decode cX5_errorPosition 13 = .ok (.iconst 0, 1) := dk_3 (dk_at dksX5_errorPosition_0 13 rfl rfl)
theorem dX5_errorPosition_14 : decode cX5_errorPosition 14 = .ok (.putfield 27, 3) := dk_181 0 27 (dk_at dksX5_errorPosition_0 14 rfl rfl)
theorem dX5_errorPosition_17 : decode cX5_errorPosition 17 = .ok (.aload_n 0, 1) := dk_42 (dk_at dksX5_errorPosition_0 17 rfl rfl)
theorem dX5_errorPosition_18 : decode cX5_errorPosition 18 = .ok (.getfield 27, 3) := dk_180 0 27 (dk_at dksX5_errorPosition_0 18 rfl rfl)
theorem dX5_errorPosition_21 : decode cX5_errorPosition 21 = .ok (.ifCond .ne 10, 3) := dk_154 0 10 (dk_at dksX5_errorPosition_0 21 rfl rfl)
theorem dX5_errorPosition_24 : decode cX5_errorPosition 24 = .ok (.aload_n 0, 1) := dk_42 (dk_at dksX5_errorPosition_1 0 rfl rfl)
theorem dX5_errorPosition_25 : decode cX5_errorPosition 25 = .ok (.getfield 20, 3) := dk_180 0 20 (dk_at dksX5_errorPosition_1 1 rfl rfl)
theorem dX5_errorPosition_28 : decode cX5_errorPosition 28 = .ok (.goto 4, 3) := dk_167 0 4 (dk_at dksX5_errorPosition_1 4 rfl rfl)
theorem dX5_errorPosition_31 : decode cX5_errorPosition 31 = .ok (.iconst 0, 1) := dk_3 (dk_at dksX5_errorPosition_1 7 rfl rfl)
theorem dX5_errorPosition_32 : decode cX5_errorPosition 32 = .ok (.ireturn, 1) := dk_172 (dk_at dksX5_errorPosition_1 8 rfl rfl)
abbrev cX5_undo : ByteArray := prog_15_method_107_code
def yX5_undo : MethodName := ⟨RX5, "undo", "()I"⟩
def dkwX5_undo_2 : List UInt8 := [172]
abbrev dktX5_undo_2 : List UInt8 := dkwX5_undo_2 ++ []
def dkwX5_undo_1 : List UInt8 := [172, 42, 42, 180, 0, 34, 3, 182, 0, 30, 42, 89, 180, 0, 34, 4, 100, 181, 0, 34, 42, 180, 0, 34]
abbrev dktX5_undo_1 : List UInt8 := dkwX5_undo_1 ++ dktX5_undo_2
def dkwX5_undo_0 : List UInt8 := [42, 42, 180, 0, 34, 154, 0, 7, 4, 167, 0, 4, 3, 181, 0, 27, 42, 180, 0, 27, 153, 0, 5, 3]
abbrev dktX5_undo_0 : List UInt8 := dkwX5_undo_0 ++ dktX5_undo_1
theorem dksX5_undo_0 : cX5_undo.data.toList.drop 0 = dktX5_undo_0 := by decide +kernel
theorem dksX5_undo_1 : cX5_undo.data.toList.drop 24 = dktX5_undo_1 := dk_seg dksX5_undo_0 24 rfl rfl
theorem dksX5_undo_2 : cX5_undo.data.toList.drop 48 = dktX5_undo_2 := dk_seg dksX5_undo_1 24 rfl rfl
theorem dX5_undo_0 : decode cX5_undo 0 = .ok (.aload_n 0, 1) := dk_42 (dk_at dksX5_undo_0 0 rfl rfl)
theorem dX5_undo_1 : decode cX5_undo 1 = .ok (.aload_n 0, 1) := dk_42 (dk_at dksX5_undo_0 1 rfl rfl)
theorem dX5_undo_2 : decode cX5_undo 2 = .ok (.getfield 34, 3) := dk_180 0 34 (dk_at dksX5_undo_0 2 rfl rfl)
theorem dX5_undo_5 : decode cX5_undo 5 = .ok (.ifCond .ne 7, 3) := dk_154 0 7 (dk_at dksX5_undo_0 5 rfl rfl)
theorem dX5_undo_8 : decode cX5_undo 8 = .ok (.iconst 1, 1) := dk_4 (dk_at dksX5_undo_0 8 rfl rfl)
theorem dX5_undo_9 : decode cX5_undo 9 = .ok (.goto 4, 3) := dk_167 0 4 (dk_at dksX5_undo_0 9 rfl rfl)
theorem dX5_undo_12 : decode cX5_undo 12 = .ok (.iconst 0, 1) := dk_3 (dk_at dksX5_undo_0 12 rfl rfl)
theorem dX5_undo_13 : decode cX5_undo 13 = .ok (.putfield 27, 3) := dk_181 0 27 (dk_at dksX5_undo_0 13 rfl rfl)
theorem dX5_undo_16 : decode cX5_undo 16 = .ok (.aload_n 0, 1) := dk_42 (dk_at dksX5_undo_0 16 rfl rfl)
theorem dX5_undo_17 : decode cX5_undo 17 = .ok (.getfield 27, 3) := dk_180 0 27 (dk_at dksX5_undo_0 17 rfl rfl)
theorem dX5_undo_20 : decode cX5_undo 20 = .ok (.ifCond .eq 5, 3) := dk_153 0 5 (dk_at dksX5_undo_0 20 rfl rfl)
theorem dX5_undo_23 : decode cX5_undo 23 = .ok (.iconst 0, 1) := dk_3 (dk_at dksX5_undo_0 23 rfl rfl)
theorem dX5_undo_24 : decode cX5_undo 24 = .ok (.ireturn, 1) := dk_172 (dk_at dksX5_undo_1 0 rfl rfl)
theorem dX5_undo_25 : decode cX5_undo 25 = .ok (.aload_n 0, 1) := dk_42 (dk_at dksX5_undo_1 1 rfl rfl)
theorem dX5_undo_26 : decode cX5_undo 26 = .ok (.aload_n 0, 1) := dk_42 (dk_at dksX5_undo_1 2 rfl rfl)
theorem dX5_undo_27 : decode cX5_undo 27 = .ok (.getfield 34, 3) := dk_180 0 34 (dk_at dksX5_undo_1 3 rfl rfl)
theorem dX5_undo_30 : decode cX5_undo 30 = .ok (.iconst 0, 1) := dk_3 (dk_at dksX5_undo_1 6 rfl rfl)
theorem dX5_undo_31 : decode cX5_undo 31 = .ok (.invokevirtual 30, 3) := dk_182 0 30 (dk_at dksX5_undo_1 7 rfl rfl)
theorem dX5_undo_34 : decode cX5_undo 34 = .ok (.aload_n 0, 1) := dk_42 (dk_at dksX5_undo_1 10 rfl rfl)
theorem dX5_undo_35 : decode cX5_undo 35 = .ok (.dup, 1) := dk_89 (dk_at dksX5_undo_1 11 rfl rfl)
theorem dX5_undo_36 : decode cX5_undo 36 = .ok (.getfield 34, 3) := dk_180 0 34 (dk_at dksX5_undo_1 12 rfl rfl)
theorem dX5_undo_39 : decode cX5_undo 39 = .ok (.iconst 1, 1) := dk_4 (dk_at dksX5_undo_1 15 rfl rfl)
theorem dX5_undo_40 : decode cX5_undo 40 = .ok (.isub, 1) := dk_100 (dk_at dksX5_undo_1 16 rfl rfl)
theorem dX5_undo_41 : decode cX5_undo 41 = .ok (.putfield 34, 3) := dk_181 0 34 (dk_at dksX5_undo_1 17 rfl rfl)
theorem dX5_undo_44 : decode cX5_undo 44 = .ok (.aload_n 0, 1) := dk_42 (dk_at dksX5_undo_1 20 rfl rfl)
theorem dX5_undo_45 : decode cX5_undo 45 = .ok (.getfield 34, 3) := dk_180 0 34 (dk_at dksX5_undo_1 21 rfl rfl)
theorem dX5_undo_48 : decode cX5_undo 48 = .ok (.ireturn, 1) := dk_172 (dk_at dksX5_undo_2 0 rfl rfl)
abbrev cX5_save : ByteArray := prog_15_method_108_code
def yX5_save : MethodName := ⟨RX5, "save", "()I"⟩
def dkwX5_save_0 : List UInt8 := [42, 3, 181, 0, 27, 42, 4, 181, 1, 19, 42, 3, 16, 7, 182, 0, 30, 42, 180, 0, 9, 8, 46, 172]
abbrev dktX5_save_0 : List UInt8 := dkwX5_save_0 ++ []
theorem dksX5_save_0 : cX5_save.data.toList.drop 0 = dktX5_save_0 := by decide +kernel
theorem dX5_save_0 : decode cX5_save 0 = .ok (.aload_n 0, 1) := dk_42 (dk_at dksX5_save_0 0 rfl rfl)
theorem dX5_save_1 : decode cX5_save 1 = .ok (.iconst 0, 1) := dk_3 (dk_at dksX5_save_0 1 rfl rfl)
theorem dX5_save_2 : decode cX5_save 2 = .ok (.putfield 27, 3) := dk_181 0 27 (dk_at dksX5_save_0 2 rfl rfl)
theorem dX5_save_5 : decode cX5_save 5 = .ok (.aload_n 0, 1) := dk_42 (dk_at dksX5_save_0 5 rfl rfl)
theorem dX5_save_6 : decode cX5_save 6 = .ok (.iconst 1, 1) := dk_4 (dk_at dksX5_save_0 6 rfl rfl)
theorem dX5_save_7 : decode cX5_save 7 = .ok (.putfield 275, 3) := dk_181 1 19 (dk_at dksX5_save_0 7 rfl rfl)
theorem dX5_save_10 : decode cX5_save 10 = .ok (.aload_n 0, 1) := dk_42 (dk_at dksX5_save_0 10 rfl rfl)
theorem dX5_save_11 : decode cX5_save 11 = .ok (.iconst 0, 1) := dk_3 (dk_at dksX5_save_0 11 rfl rfl)
theorem dX5_save_12 : decode cX5_save 12 = .ok (.bipush 7, 2) := dk_16 7 (dk_at dksX5_save_0 12 rfl rfl)
theorem dX5_save_14 : decode cX5_save 14 = .ok (.invokevirtual 30, 3) := dk_182 0 30 (dk_at dksX5_save_0 14 rfl rfl)
theorem dX5_save_17 : decode cX5_save 17 = .ok (.aload_n 0, 1) := dk_42 (dk_at dksX5_save_0 17 rfl rfl)
theorem dX5_save_18 : decode cX5_save 18 = .ok (.getfield 9, 3) := dk_180 0 9 (dk_at dksX5_save_0 18 rfl rfl)
theorem dX5_save_21 : decode cX5_save 21 = .ok (.iconst 5, 1) := dk_8 (dk_at dksX5_save_0 21 rfl rfl)
theorem dX5_save_22 : decode cX5_save 22 = .ok (.iaload, 1) := dk_46 (dk_at dksX5_save_0 22 rfl rfl)
theorem dX5_save_23 : decode cX5_save 23 = .ok (.ireturn, 1) := dk_172 (dk_at dksX5_save_0 23 rfl rfl)
abbrev cX5_restore : ByteArray := prog_15_method_109_code
def yX5_restore : MethodName := ⟨RX5, "restore", "()I"⟩
def dkwX5_restore_1 : List UInt8 := [172, 42, 16, 7, 3, 182, 0, 30, 42, 3, 181, 0, 34, 42, 180, 0, 9, 8, 46, 172]
abbrev dktX5_restore_1 : List UInt8 := dkwX5_restore_1 ++ []
def dkwX5_restore_0 : List UInt8 := [42, 42, 180, 1, 19, 153, 0, 7, 3, 167, 0, 4, 4, 181, 0, 27, 42, 180, 0, 27, 153, 0, 5, 3]
abbrev dktX5_restore_0 : List UInt8 := dkwX5_restore_0 ++ dktX5_restore_1
theorem dksX5_restore_0 : cX5_restore.data.toList.drop 0 = dktX5_restore_0 := by decide +kernel
theorem dksX5_restore_1 : cX5_restore.data.toList.drop 24 = dktX5_restore_1 := dk_seg dksX5_restore_0 24 rfl rfl
theorem dX5_restore_0 : decode cX5_restore 0 = .ok (.aload_n 0, 1) := dk_42 (dk_at dksX5_restore_0 0 rfl rfl)
theorem dX5_restore_1 : decode cX5_restore 1 = .ok (.aload_n 0, 1) := dk_42 (dk_at dksX5_restore_0 1 rfl rfl)
theorem dX5_restore_2 : decode cX5_restore 2 = .ok (.getfield 275, 3) := dk_180 1 19 (dk_at dksX5_restore_0 2 rfl rfl)
theorem dX5_restore_5 : decode cX5_restore 5 = .ok (.ifCond .eq 7, 3) := dk_153 0 7 (dk_at dksX5_restore_0 5 rfl rfl)
theorem dX5_restore_8 : decode cX5_restore 8 = .ok (.iconst 0, 1) := dk_3 (dk_at dksX5_restore_0 8 rfl rfl)
theorem dX5_restore_9 : decode cX5_restore 9 = .ok (.goto 4, 3) := dk_167 0 4 (dk_at dksX5_restore_0 9 rfl rfl)
theorem dX5_restore_12 : decode cX5_restore 12 = .ok (.iconst 1, 1) := dk_4 (dk_at dksX5_restore_0 12 rfl rfl)
theorem dX5_restore_13 : decode cX5_restore 13 = .ok (.putfield 27, 3) := dk_181 0 27 (dk_at dksX5_restore_0 13 rfl rfl)
theorem dX5_restore_16 : decode cX5_restore 16 = .ok (.aload_n 0, 1) := dk_42 (dk_at dksX5_restore_0 16 rfl rfl)
theorem dX5_restore_17 : decode cX5_restore 17 = .ok (.getfield 27, 3) := dk_180 0 27 (dk_at dksX5_restore_0 17 rfl rfl)
theorem dX5_restore_20 : decode cX5_restore 20 = .ok (.ifCond .eq 5, 3) := dk_153 0 5 (dk_at dksX5_restore_0 20 rfl rfl)
theorem dX5_restore_23 : decode cX5_restore 23 = .ok (.iconst 0, 1) := dk_3 (dk_at dksX5_restore_0 23 rfl rfl)
theorem dX5_restore_24 : decode cX5_restore 24 = .ok (.ireturn, 1) := dk_172 (dk_at dksX5_restore_1 0 rfl rfl)
theorem dX5_restore_25 : decode cX5_restore 25 = .ok (.aload_n 0, 1) := dk_42 (dk_at dksX5_restore_1 1 rfl rfl)
theorem dX5_restore_26 : decode cX5_restore 26 = .ok (.bipush 7, 2) := dk_16 7 (dk_at dksX5_restore_1 2 rfl rfl)
theorem dX5_restore_28 : decode cX5_restore 28 = .ok (.iconst 0, 1) := dk_3 (dk_at dksX5_restore_1 4 rfl rfl)
theorem dX5_restore_29 : decode cX5_restore 29 = .ok (.invokevirtual 30, 3) := dk_182 0 30 (dk_at dksX5_restore_1 5 rfl rfl)
theorem dX5_restore_32 : decode cX5_restore 32 = .ok (.aload_n 0, 1) := dk_42 (dk_at dksX5_restore_1 8 rfl rfl)
theorem dX5_restore_33 : decode cX5_restore 33 = .ok (.iconst 0, 1) := dk_3 (dk_at dksX5_restore_1 9 rfl rfl)
theorem dX5_restore_34 : decode cX5_restore 34 = .ok (.putfield 34, 3) := dk_181 0 34 (dk_at dksX5_restore_1 10 rfl rfl)
theorem dX5_restore_37 : decode cX5_restore 37 = .ok (.aload_n 0, 1) := dk_42 (dk_at dksX5_restore_1 13 rfl rfl)
theorem dX5_restore_38 : decode cX5_restore 38 = .ok (.getfield 9, 3) := dk_180 0 9 (dk_at dksX5_restore_1 14 rfl rfl)
theorem dX5_restore_41 : decode cX5_restore 41 = .ok (.iconst 5, 1) := dk_8 (dk_at dksX5_restore_1 17 rfl rfl)
theorem dX5_restore_42 : decode cX5_restore 42 = .ok (.iaload, 1) := dk_46 (dk_at dksX5_restore_1 18 rfl rfl)
theorem dX5_restore_43 : decode cX5_restore 43 = .ok (.ireturn, 1) := dk_172 (dk_at dksX5_restore_1 19 rfl rfl)
theorem q113 : (Jvm.Cond.initialized "PaperStoreModel") ∈ lw_all := lw_g (lw_at lw_m1 14 rfl) rfl
theorem q483 : (Jvm.Cond.selects "PaperStoreModel" ({ cls := "java/lang/Object", name := "getClass", desc := "()Ljava/lang/Class;" } : Jvm.MethodName) ({ cls := "java/lang/Object", name := "getClass", desc := "()Ljava/lang/Class;" } : Jvm.MethodName)) ∈ lw_all := lw_g (lw_at lw_m2 144 rfl) rfl
theorem q1812 : (Jvm.Cond.selects "PaperStoreModel" ({ cls := "java/lang/Object", name := "hashCode", desc := "()I" } : Jvm.MethodName) ({ cls := "java/lang/Object", name := "hashCode", desc := "()I" } : Jvm.MethodName)) ∈ lw_all := lw_g (lw_at lw_m8 33 rfl) rfl
theorem q1920 : (Jvm.Cond.selects "PaperStoreModel" ({ cls := "java/lang/Object", name := "equals", desc := "(Ljava/lang/Object;)Z" } : Jvm.MethodName) ({ cls := "java/lang/Object", name := "equals", desc := "(Ljava/lang/Object;)Z" } : Jvm.MethodName)) ∈ lw_all := lw_g (lw_at lw_m8 141 rfl) rfl
theorem q3339 : (Jvm.Cond.selects "PaperStoreModel" ({ cls := "java/lang/Object", name := "toString", desc := "()Ljava/lang/String;" } : Jvm.MethodName) ({ cls := "java/lang/Object", name := "toString", desc := "()Ljava/lang/String;" } : Jvm.MethodName)) ∈ lw_all := lw_g (lw_at lw_m14 120 rfl) rfl
theorem q3627 : (Jvm.Cond.instantiable "PaperStoreModel" (16 : Nat)) ∈ lw_all := lw_g (lw_at lw_m15 168 rfl) rfl
theorem q3629 : (Jvm.Cond.instanceMethod ({ cls := "PaperStoreModel", name := "<init>", desc := "()V" } : Jvm.MethodName)) ∈ lw_all := lw_g (lw_at lw_m15 170 rfl) rfl
theorem q3630 : (Jvm.Cond.code ({ cls := "PaperStoreModel", name := "<init>", desc := "()V" } : Jvm.MethodName) prog_15_method_1_code (2 : Nat) (Option.none : Option Jvm.ClassFile.FieldType)) ∈ lw_all := lw_g (lw_at lw_m15 171 rfl) rfl
theorem q3631 : (Jvm.Cond.methodLink "PaperStoreModel" (1 : Nat) ({ cls := "java/lang/Object", name := "<init>", desc := "()V" } : Jvm.MethodName)) ∈ lw_all := lw_g (lw_at lw_m15 172 rfl) rfl
theorem q3632 : (Jvm.Cond.fieldLink "PaperStoreModel" (27 : Nat) "PaperStoreModel" "thrown" "I") ∈ lw_all := lw_g (lw_at lw_m15 173 rfl) rfl
theorem q3633 : (Jvm.Cond.fieldLink "PaperStoreModel" (9 : Nat) "PaperStoreModel" "all" "[I") ∈ lw_all := lw_g (lw_at lw_m15 174 rfl) rfl
theorem q3634 : (Jvm.Cond.fieldLink "PaperStoreModel" (34 : Nat) "PaperStoreModel" "changes" "I") ∈ lw_all := lw_g (lw_at lw_m15 175 rfl) rfl
theorem q3635 : (Jvm.Cond.fieldLink "PaperStoreModel" (275 : Nat) "PaperStoreModel" "isSaved" "Z") ∈ lw_all := lw_g (lw_at lw_m15 176 rfl) rfl
theorem q3636 : (Jvm.Cond.fieldLink "PaperStoreModel" (40 : Nat) "PaperStoreModel" "result" "I") ∈ lw_all := lw_g (lw_at lw_m15 177 rfl) rfl
theorem q3637 : (Jvm.Cond.fieldLink "PaperStoreModel" (43 : Nat) "PaperStoreModel" "reason" "I") ∈ lw_all := lw_g (lw_at lw_m15 178 rfl) rfl
theorem q3638 : (Jvm.Cond.fieldLink "PaperStoreModel" (46 : Nat) "PaperStoreModel" "detail" "I") ∈ lw_all := lw_g (lw_at lw_m15 179 rfl) rfl
theorem q3639 : (Jvm.Cond.fieldLink "PaperStoreModel" (13 : Nat) "PaperStoreModel" "line" "[C") ∈ lw_all := lw_g (lw_at lw_m15 180 rfl) rfl
theorem q3640 : (Jvm.Cond.fieldLink "PaperStoreModel" (209 : Nat) "PaperStoreModel" "lineSize" "I") ∈ lw_all := lw_g (lw_at lw_m15 181 rfl) rfl
theorem q3641 : (Jvm.Cond.fieldLink "PaperStoreModel" (17 : Nat) "PaperStoreModel" "text" "[C") ∈ lw_all := lw_g (lw_at lw_m15 182 rfl) rfl
theorem q3642 : (Jvm.Cond.fieldLink "PaperStoreModel" (239 : Nat) "PaperStoreModel" "texted" "I") ∈ lw_all := lw_g (lw_at lw_m15 183 rfl) rfl
theorem q3643 : (Jvm.Cond.fieldLink "PaperStoreModel" (242 : Nat) "PaperStoreModel" "here" "I") ∈ lw_all := lw_g (lw_at lw_m15 184 rfl) rfl
theorem q3644 : (Jvm.Cond.fieldLink "PaperStoreModel" (245 : Nat) "PaperStoreModel" "fault" "I") ∈ lw_all := lw_g (lw_at lw_m15 185 rfl) rfl
theorem q3645 : (Jvm.Cond.fieldLink "PaperStoreModel" (20 : Nat) "PaperStoreModel" "errorAt" "I") ∈ lw_all := lw_g (lw_at lw_m15 186 rfl) rfl
theorem q3646 : (Jvm.Cond.fieldLink "PaperStoreModel" (24 : Nat) "PaperStoreModel" "commands" "[I") ∈ lw_all := lw_g (lw_at lw_m15 187 rfl) rfl
theorem q3647 : (Jvm.Cond.fieldLink "PaperStoreModel" (257 : Nat) "PaperStoreModel" "commandMany" "I") ∈ lw_all := lw_g (lw_at lw_m15 188 rfl) rfl
theorem q3648 : (Jvm.Cond.lays "PaperStoreModel" "PaperStoreModel" "thrown" "I") ∈ lw_all := lw_g (lw_at lw_m15 189 rfl) rfl
theorem q3649 : (Jvm.Cond.soleField "PaperStoreModel" "thrown") ∈ lw_all := lw_g (lw_at lw_m15 190 rfl) rfl
theorem q3650 : (Jvm.Cond.laysFinal "PaperStoreModel" "PaperStoreModel" "all" "[I") ∈ lw_all := lw_g (lw_at lw_m15 191 rfl) rfl
theorem q3651 : (Jvm.Cond.soleField "PaperStoreModel" "all") ∈ lw_all := lw_g (lw_at lw_m15 192 rfl) rfl
theorem q3652 : (Jvm.Cond.lays "PaperStoreModel" "PaperStoreModel" "changes" "I") ∈ lw_all := lw_g (lw_at lw_m15 193 rfl) rfl
theorem q3653 : (Jvm.Cond.soleField "PaperStoreModel" "changes") ∈ lw_all := lw_g (lw_at lw_m15 194 rfl) rfl
theorem q3654 : (Jvm.Cond.lays "PaperStoreModel" "PaperStoreModel" "isSaved" "Z") ∈ lw_all := lw_g (lw_at lw_m15 195 rfl) rfl
theorem q3655 : (Jvm.Cond.soleField "PaperStoreModel" "isSaved") ∈ lw_all := lw_g (lw_at lw_m15 196 rfl) rfl
theorem q3656 : (Jvm.Cond.lays "PaperStoreModel" "PaperStoreModel" "result" "I") ∈ lw_all := lw_g (lw_at lw_m15 197 rfl) rfl
theorem q3657 : (Jvm.Cond.soleField "PaperStoreModel" "result") ∈ lw_all := lw_g (lw_at lw_m15 198 rfl) rfl
theorem q3658 : (Jvm.Cond.lays "PaperStoreModel" "PaperStoreModel" "reason" "I") ∈ lw_all := lw_g (lw_at lw_m15 199 rfl) rfl
theorem q3659 : (Jvm.Cond.soleField "PaperStoreModel" "reason") ∈ lw_all := lw_g (lw_at lw_m15 200 rfl) rfl
theorem q3660 : (Jvm.Cond.lays "PaperStoreModel" "PaperStoreModel" "detail" "I") ∈ lw_all := lw_g (lw_at lw_m15 201 rfl) rfl
theorem q3661 : (Jvm.Cond.soleField "PaperStoreModel" "detail") ∈ lw_all := lw_g (lw_at lw_m15 202 rfl) rfl
theorem q3662 : (Jvm.Cond.laysFinal "PaperStoreModel" "PaperStoreModel" "line" "[C") ∈ lw_all := lw_g (lw_at lw_m15 203 rfl) rfl
theorem q3663 : (Jvm.Cond.soleField "PaperStoreModel" "line") ∈ lw_all := lw_g (lw_at lw_m15 204 rfl) rfl
theorem q3664 : (Jvm.Cond.lays "PaperStoreModel" "PaperStoreModel" "lineSize" "I") ∈ lw_all := lw_g (lw_at lw_m15 205 rfl) rfl
theorem q3665 : (Jvm.Cond.soleField "PaperStoreModel" "lineSize") ∈ lw_all := lw_g (lw_at lw_m15 206 rfl) rfl
theorem q3666 : (Jvm.Cond.laysFinal "PaperStoreModel" "PaperStoreModel" "text" "[C") ∈ lw_all := lw_g (lw_at lw_m15 207 rfl) rfl
theorem q3667 : (Jvm.Cond.soleField "PaperStoreModel" "text") ∈ lw_all := lw_g (lw_at lw_m15 208 rfl) rfl
theorem q3668 : (Jvm.Cond.lays "PaperStoreModel" "PaperStoreModel" "texted" "I") ∈ lw_all := lw_g (lw_at lw_m15 209 rfl) rfl
theorem q3669 : (Jvm.Cond.soleField "PaperStoreModel" "texted") ∈ lw_all := lw_g (lw_at lw_m15 210 rfl) rfl
theorem q3670 : (Jvm.Cond.lays "PaperStoreModel" "PaperStoreModel" "here" "I") ∈ lw_all := lw_g (lw_at lw_m15 211 rfl) rfl
theorem q3671 : (Jvm.Cond.soleField "PaperStoreModel" "here") ∈ lw_all := lw_g (lw_at lw_m15 212 rfl) rfl
theorem q3672 : (Jvm.Cond.lays "PaperStoreModel" "PaperStoreModel" "fault" "I") ∈ lw_all := lw_g (lw_at lw_m15 213 rfl) rfl
theorem q3673 : (Jvm.Cond.soleField "PaperStoreModel" "fault") ∈ lw_all := lw_g (lw_at lw_m15 214 rfl) rfl
theorem q3674 : (Jvm.Cond.lays "PaperStoreModel" "PaperStoreModel" "errorAt" "I") ∈ lw_all := lw_g (lw_at lw_m15 215 rfl) rfl
theorem q3675 : (Jvm.Cond.soleField "PaperStoreModel" "errorAt") ∈ lw_all := lw_g (lw_at lw_m15 216 rfl) rfl
theorem q3676 : (Jvm.Cond.laysFinal "PaperStoreModel" "PaperStoreModel" "commands" "[I") ∈ lw_all := lw_g (lw_at lw_m15 217 rfl) rfl
theorem q3677 : (Jvm.Cond.soleField "PaperStoreModel" "commands") ∈ lw_all := lw_g (lw_at lw_m15 218 rfl) rfl
theorem q3678 : (Jvm.Cond.lays "PaperStoreModel" "PaperStoreModel" "commandMany" "I") ∈ lw_all := lw_g (lw_at lw_m15 219 rfl) rfl
theorem q3679 : (Jvm.Cond.soleField "PaperStoreModel" "commandMany") ∈ lw_all := lw_g (lw_at lw_m15 220 rfl) rfl
theorem q3680 : (Jvm.Cond.superclass "PaperStoreModel" "java/lang/Object") ∈ lw_all := lw_g (lw_at lw_m15 221 rfl) rfl
theorem q3682 : (Jvm.Cond.instanceMethod ({ cls := "PaperStoreModel", name := "thrown", desc := "()I" } : Jvm.MethodName)) ∈ lw_all := lw_g (lw_at lw_m15 223 rfl) rfl
theorem q3683 : (Jvm.Cond.selects "PaperStoreModel" ({ cls := "PaperStoreModel", name := "thrown", desc := "()I" } : Jvm.MethodName) ({ cls := "PaperStoreModel", name := "thrown", desc := "()I" } : Jvm.MethodName)) ∈ lw_all := lw_g (lw_at lw_m15 224 rfl) rfl
theorem q3684 : (Jvm.Cond.code ({ cls := "PaperStoreModel", name := "thrown", desc := "()I" } : Jvm.MethodName) prog_15_method_2_code (1 : Nat) (Option.some Jvm.ClassFile.FieldType.int)) ∈ lw_all := lw_g (lw_at lw_m15 225 rfl) rfl
theorem q3686 : (Jvm.Cond.instanceMethod ({ cls := "PaperStoreModel", name := "reason", desc := "(Z)I" } : Jvm.MethodName)) ∈ lw_all := lw_g (lw_at lw_m15 227 rfl) rfl
theorem q3687 : (Jvm.Cond.selects "PaperStoreModel" ({ cls := "PaperStoreModel", name := "reason", desc := "(Z)I" } : Jvm.MethodName) ({ cls := "PaperStoreModel", name := "reason", desc := "(Z)I" } : Jvm.MethodName)) ∈ lw_all := lw_g (lw_at lw_m15 228 rfl) rfl
theorem q3688 : (Jvm.Cond.code ({ cls := "PaperStoreModel", name := "reason", desc := "(Z)I" } : Jvm.MethodName) prog_15_method_11_code (2 : Nat) (Option.some Jvm.ClassFile.FieldType.int)) ∈ lw_all := lw_g (lw_at lw_m15 229 rfl) rfl
theorem q3690 : (Jvm.Cond.instanceMethod ({ cls := "PaperStoreModel", name := "ladder", desc := "(I)I" } : Jvm.MethodName)) ∈ lw_all := lw_g (lw_at lw_m15 231 rfl) rfl
theorem q3691 : (Jvm.Cond.selects "PaperStoreModel" ({ cls := "PaperStoreModel", name := "ladder", desc := "(I)I" } : Jvm.MethodName) ({ cls := "PaperStoreModel", name := "ladder", desc := "(I)I" } : Jvm.MethodName)) ∈ lw_all := lw_g (lw_at lw_m15 232 rfl) rfl
theorem q3692 : (Jvm.Cond.code ({ cls := "PaperStoreModel", name := "ladder", desc := "(I)I" } : Jvm.MethodName) prog_15_method_16_code (4 : Nat) (Option.some Jvm.ClassFile.FieldType.int)) ∈ lw_all := lw_g (lw_at lw_m15 233 rfl) rfl
theorem q3693 : (Jvm.Cond.methodLink "PaperStoreModel" (49 : Nat) ({ cls := "PaperStoreModel", name := "in", desc := "(III)Z" } : Jvm.MethodName)) ∈ lw_all := lw_g (lw_at lw_m15 234 rfl) rfl
theorem q3694 : (Jvm.Cond.static ({ cls := "PaperStoreModel", name := "in", desc := "(III)Z" } : Jvm.MethodName)) ∈ lw_all := lw_g (lw_at lw_m15 235 rfl) rfl
theorem q3695 : (Jvm.Cond.code ({ cls := "PaperStoreModel", name := "in", desc := "(III)Z" } : Jvm.MethodName) prog_15_method_3_code (3 : Nat) (Option.some Jvm.ClassFile.FieldType.boolean)) ∈ lw_all := lw_g (lw_at lw_m15 236 rfl) rfl
theorem q3696 : (Jvm.Cond.methodLink "PaperStoreModel" (57 : Nat) ({ cls := "PaperStoreModel", name := "refuses", desc := "(ZII)Z" } : Jvm.MethodName)) ∈ lw_all := lw_g (lw_at lw_m15 237 rfl) rfl
theorem q3697 : (Jvm.Cond.privateMethod ({ cls := "PaperStoreModel", name := "refuses", desc := "(ZII)Z" } : Jvm.MethodName)) ∈ lw_tbl := lw_at lw_m15 238 rfl
theorem q3698 : (Jvm.Cond.instanceMethod ({ cls := "PaperStoreModel", name := "refuses", desc := "(ZII)Z" } : Jvm.MethodName)) ∈ lw_all := lw_g (lw_at lw_m15 239 rfl) rfl
theorem q3699 : (Jvm.Cond.code ({ cls := "PaperStoreModel", name := "refuses", desc := "(ZII)Z" } : Jvm.MethodName) prog_15_method_10_code (4 : Nat) (Option.some Jvm.ClassFile.FieldType.boolean)) ∈ lw_all := lw_g (lw_at lw_m16 0 rfl) rfl
theorem q3700 : (Jvm.Cond.methodLink "PaperStoreModel" (61 : Nat) ({ cls := "PaperStoreModel", name := "begins", desc := "()V" } : Jvm.MethodName)) ∈ lw_all := lw_g (lw_at lw_m16 1 rfl) rfl
theorem q3701 : (Jvm.Cond.privateMethod ({ cls := "PaperStoreModel", name := "begins", desc := "()V" } : Jvm.MethodName)) ∈ lw_tbl := lw_at lw_m16 2 rfl
theorem q3702 : (Jvm.Cond.instanceMethod ({ cls := "PaperStoreModel", name := "begins", desc := "()V" } : Jvm.MethodName)) ∈ lw_all := lw_g (lw_at lw_m16 3 rfl) rfl
theorem q3703 : (Jvm.Cond.code ({ cls := "PaperStoreModel", name := "begins", desc := "()V" } : Jvm.MethodName) prog_15_method_7_code (1 : Nat) (Option.none : Option Jvm.ClassFile.FieldType)) ∈ lw_all := lw_g (lw_at lw_m16 4 rfl) rfl
theorem q3704 : (Jvm.Cond.methodLink "PaperStoreModel" (30 : Nat) ({ cls := "PaperStoreModel", name := "copies", desc := "(II)V" } : Jvm.MethodName)) ∈ lw_all := lw_g (lw_at lw_m16 5 rfl) rfl
theorem q3705 : (Jvm.Cond.privateMethod ({ cls := "PaperStoreModel", name := "copies", desc := "(II)V" } : Jvm.MethodName)) ∈ lw_tbl := lw_at lw_m16 6 rfl
theorem q3706 : (Jvm.Cond.instanceMethod ({ cls := "PaperStoreModel", name := "copies", desc := "(II)V" } : Jvm.MethodName)) ∈ lw_all := lw_g (lw_at lw_m16 7 rfl) rfl
theorem q3707 : (Jvm.Cond.code ({ cls := "PaperStoreModel", name := "copies", desc := "(II)V" } : Jvm.MethodName) prog_15_method_6_code (4 : Nat) (Option.none : Option Jvm.ClassFile.FieldType)) ∈ lw_all := lw_g (lw_at lw_m16 8 rfl) rfl
theorem q3708 : (Jvm.Cond.methodLink "PaperStoreModel" (64 : Nat) ({ cls := "PaperStoreModel", name := "ladderAt", desc := "(I)I" } : Jvm.MethodName)) ∈ lw_all := lw_g (lw_at lw_m16 9 rfl) rfl
theorem q3709 : (Jvm.Cond.privateMethod ({ cls := "PaperStoreModel", name := "ladderAt", desc := "(I)I" } : Jvm.MethodName)) ∈ lw_tbl := lw_at lw_m16 10 rfl
theorem q3710 : (Jvm.Cond.instanceMethod ({ cls := "PaperStoreModel", name := "ladderAt", desc := "(I)I" } : Jvm.MethodName)) ∈ lw_all := lw_g (lw_at lw_m16 11 rfl) rfl
theorem q3711 : (Jvm.Cond.code ({ cls := "PaperStoreModel", name := "ladderAt", desc := "(I)I" } : Jvm.MethodName) prog_15_method_15_code (3 : Nat) (Option.some Jvm.ClassFile.FieldType.int)) ∈ lw_all := lw_g (lw_at lw_m16 12 rfl) rfl
theorem q3712 : (Jvm.Cond.methodLink "PaperStoreModel" (53 : Nat) ({ cls := "PaperStoreModel", name := "l", desc := "(II)I" } : Jvm.MethodName)) ∈ lw_all := lw_g (lw_at lw_m16 13 rfl) rfl
theorem q3713 : (Jvm.Cond.privateMethod ({ cls := "PaperStoreModel", name := "l", desc := "(II)I" } : Jvm.MethodName)) ∈ lw_tbl := lw_at lw_m16 14 rfl
theorem q3714 : (Jvm.Cond.instanceMethod ({ cls := "PaperStoreModel", name := "l", desc := "(II)I" } : Jvm.MethodName)) ∈ lw_all := lw_g (lw_at lw_m16 15 rfl) rfl
theorem q3715 : (Jvm.Cond.code ({ cls := "PaperStoreModel", name := "l", desc := "(II)I" } : Jvm.MethodName) prog_15_method_14_code (3 : Nat) (Option.some Jvm.ClassFile.FieldType.int)) ∈ lw_all := lw_g (lw_at lw_m16 16 rfl) rfl
theorem q3716 : (Jvm.Cond.methodLink "PaperStoreModel" (37 : Nat) ({ cls := "PaperStoreModel", name := "keeps", desc := "()V" } : Jvm.MethodName)) ∈ lw_all := lw_g (lw_at lw_m16 17 rfl) rfl
theorem q3717 : (Jvm.Cond.privateMethod ({ cls := "PaperStoreModel", name := "keeps", desc := "()V" } : Jvm.MethodName)) ∈ lw_tbl := lw_at lw_m16 18 rfl
theorem q3718 : (Jvm.Cond.instanceMethod ({ cls := "PaperStoreModel", name := "keeps", desc := "()V" } : Jvm.MethodName)) ∈ lw_all := lw_g (lw_at lw_m16 19 rfl) rfl
theorem q3719 : (Jvm.Cond.code ({ cls := "PaperStoreModel", name := "keeps", desc := "()V" } : Jvm.MethodName) prog_15_method_8_code (2 : Nat) (Option.none : Option Jvm.ClassFile.FieldType)) ∈ lw_all := lw_g (lw_at lw_m16 20 rfl) rfl
theorem q3721 : (Jvm.Cond.instanceMethod ({ cls := "PaperStoreModel", name := "push", desc := "(II)I" } : Jvm.MethodName)) ∈ lw_all := lw_g (lw_at lw_m16 22 rfl) rfl
theorem q3722 : (Jvm.Cond.selects "PaperStoreModel" ({ cls := "PaperStoreModel", name := "push", desc := "(II)I" } : Jvm.MethodName) ({ cls := "PaperStoreModel", name := "push", desc := "(II)I" } : Jvm.MethodName)) ∈ lw_all := lw_g (lw_at lw_m16 23 rfl) rfl
theorem q3723 : (Jvm.Cond.code ({ cls := "PaperStoreModel", name := "push", desc := "(II)I" } : Jvm.MethodName) prog_15_method_18_code (3 : Nat) (Option.some Jvm.ClassFile.FieldType.int)) ∈ lw_all := lw_g (lw_at lw_m16 24 rfl) rfl
theorem q3724 : (Jvm.Cond.methodLink "PaperStoreModel" (75 : Nat) ({ cls := "PaperStoreModel", name := "pushes", desc := "(II)I" } : Jvm.MethodName)) ∈ lw_all := lw_g (lw_at lw_m16 25 rfl) rfl
theorem q3725 : (Jvm.Cond.privateMethod ({ cls := "PaperStoreModel", name := "pushes", desc := "(II)I" } : Jvm.MethodName)) ∈ lw_tbl := lw_at lw_m16 26 rfl
theorem q3726 : (Jvm.Cond.instanceMethod ({ cls := "PaperStoreModel", name := "pushes", desc := "(II)I" } : Jvm.MethodName)) ∈ lw_all := lw_g (lw_at lw_m16 27 rfl) rfl
theorem q3727 : (Jvm.Cond.code ({ cls := "PaperStoreModel", name := "pushes", desc := "(II)I" } : Jvm.MethodName) prog_15_method_17_code (4 : Nat) (Option.some Jvm.ClassFile.FieldType.int)) ∈ lw_all := lw_g (lw_at lw_m16 28 rfl) rfl
theorem q3728 : (Jvm.Cond.methodLink "PaperStoreModel" (68 : Nat) ({ cls := "PaperStoreModel", name := "isLadder", desc := "(I)Z" } : Jvm.MethodName)) ∈ lw_all := lw_g (lw_at lw_m16 29 rfl) rfl
theorem q3729 : (Jvm.Cond.privateMethod ({ cls := "PaperStoreModel", name := "isLadder", desc := "(I)Z" } : Jvm.MethodName)) ∈ lw_tbl := lw_at lw_m16 30 rfl
theorem q3730 : (Jvm.Cond.instanceMethod ({ cls := "PaperStoreModel", name := "isLadder", desc := "(I)Z" } : Jvm.MethodName)) ∈ lw_all := lw_g (lw_at lw_m16 31 rfl) rfl
theorem q3731 : (Jvm.Cond.code ({ cls := "PaperStoreModel", name := "isLadder", desc := "(I)Z" } : Jvm.MethodName) prog_15_method_13_code (2 : Nat) (Option.some Jvm.ClassFile.FieldType.boolean)) ∈ lw_all := lw_g (lw_at lw_m16 32 rfl) rfl
theorem q3732 : (Jvm.Cond.methodLink "PaperStoreModel" (72 : Nat) ({ cls := "PaperStoreModel", name := "isAisle", desc := "(I)Z" } : Jvm.MethodName)) ∈ lw_all := lw_g (lw_at lw_m16 33 rfl) rfl
theorem q3733 : (Jvm.Cond.static ({ cls := "PaperStoreModel", name := "isAisle", desc := "(I)Z" } : Jvm.MethodName)) ∈ lw_all := lw_g (lw_at lw_m16 34 rfl) rfl
theorem q3734 : (Jvm.Cond.code ({ cls := "PaperStoreModel", name := "isAisle", desc := "(I)Z" } : Jvm.MethodName) prog_15_method_12_code (1 : Nat) (Option.some Jvm.ClassFile.FieldType.boolean)) ∈ lw_all := lw_g (lw_at lw_m16 35 rfl) rfl
theorem q3735 : (Jvm.Cond.methodLink "PaperStoreModel" (78 : Nat) ({ cls := "PaperStoreModel", name := "ends", desc := "(IIII)I" } : Jvm.MethodName)) ∈ lw_all := lw_g (lw_at lw_m16 36 rfl) rfl
theorem q3736 : (Jvm.Cond.privateMethod ({ cls := "PaperStoreModel", name := "ends", desc := "(IIII)I" } : Jvm.MethodName)) ∈ lw_tbl := lw_at lw_m16 37 rfl
theorem q3737 : (Jvm.Cond.instanceMethod ({ cls := "PaperStoreModel", name := "ends", desc := "(IIII)I" } : Jvm.MethodName)) ∈ lw_all := lw_g (lw_at lw_m16 38 rfl) rfl
theorem q3738 : (Jvm.Cond.code ({ cls := "PaperStoreModel", name := "ends", desc := "(IIII)I" } : Jvm.MethodName) prog_15_method_9_code (5 : Nat) (Option.some Jvm.ClassFile.FieldType.int)) ∈ lw_all := lw_g (lw_at lw_m16 39 rfl) rfl
theorem q3740 : (Jvm.Cond.instanceMethod ({ cls := "PaperStoreModel", name := "ladderOf", desc := "(IZ)I" } : Jvm.MethodName)) ∈ lw_all := lw_g (lw_at lw_m16 41 rfl) rfl
theorem q3741 : (Jvm.Cond.selects "PaperStoreModel" ({ cls := "PaperStoreModel", name := "ladderOf", desc := "(IZ)I" } : Jvm.MethodName) ({ cls := "PaperStoreModel", name := "ladderOf", desc := "(IZ)I" } : Jvm.MethodName)) ∈ lw_all := lw_g (lw_at lw_m16 42 rfl) rfl
theorem q3742 : (Jvm.Cond.code ({ cls := "PaperStoreModel", name := "ladderOf", desc := "(IZ)I" } : Jvm.MethodName) prog_15_method_19_code (3 : Nat) (Option.some Jvm.ClassFile.FieldType.int)) ∈ lw_all := lw_g (lw_at lw_m16 43 rfl) rfl
theorem q3744 : (Jvm.Cond.instanceMethod ({ cls := "PaperStoreModel", name := "store", desc := "(IIIII)I" } : Jvm.MethodName)) ∈ lw_all := lw_g (lw_at lw_m16 45 rfl) rfl
theorem q3745 : (Jvm.Cond.selects "PaperStoreModel" ({ cls := "PaperStoreModel", name := "store", desc := "(IIIII)I" } : Jvm.MethodName) ({ cls := "PaperStoreModel", name := "store", desc := "(IIIII)I" } : Jvm.MethodName)) ∈ lw_all := lw_g (lw_at lw_m16 46 rfl) rfl
theorem q3746 : (Jvm.Cond.code ({ cls := "PaperStoreModel", name := "store", desc := "(IIIII)I" } : Jvm.MethodName) prog_15_method_28_code (6 : Nat) (Option.some Jvm.ClassFile.FieldType.int)) ∈ lw_all := lw_g (lw_at lw_m16 47 rfl) rfl
theorem q3747 : (Jvm.Cond.methodLink "PaperStoreModel" (103 : Nat) ({ cls := "PaperStoreModel", name := "stores", desc := "(IIIII)I" } : Jvm.MethodName)) ∈ lw_all := lw_g (lw_at lw_m16 48 rfl) rfl
theorem q3748 : (Jvm.Cond.privateMethod ({ cls := "PaperStoreModel", name := "stores", desc := "(IIIII)I" } : Jvm.MethodName)) ∈ lw_tbl := lw_at lw_m16 49 rfl
theorem q3749 : (Jvm.Cond.instanceMethod ({ cls := "PaperStoreModel", name := "stores", desc := "(IIIII)I" } : Jvm.MethodName)) ∈ lw_all := lw_g (lw_at lw_m16 50 rfl) rfl
theorem q3750 : (Jvm.Cond.code ({ cls := "PaperStoreModel", name := "stores", desc := "(IIIII)I" } : Jvm.MethodName) prog_15_method_27_code (9 : Nat) (Option.some Jvm.ClassFile.FieldType.int)) ∈ lw_all := lw_g (lw_at lw_m16 51 rfl) rfl
theorem q3751 : (Jvm.Cond.methodLink "PaperStoreModel" (92 : Nat) ({ cls := "PaperStoreModel", name := "isShelf", desc := "(I)Z" } : Jvm.MethodName)) ∈ lw_all := lw_g (lw_at lw_m16 52 rfl) rfl
theorem q3752 : (Jvm.Cond.static ({ cls := "PaperStoreModel", name := "isShelf", desc := "(I)Z" } : Jvm.MethodName)) ∈ lw_all := lw_g (lw_at lw_m16 53 rfl) rfl
theorem q3753 : (Jvm.Cond.code ({ cls := "PaperStoreModel", name := "isShelf", desc := "(I)Z" } : Jvm.MethodName) prog_15_method_21_code (1 : Nat) (Option.some Jvm.ClassFile.FieldType.boolean)) ∈ lw_all := lw_g (lw_at lw_m16 54 rfl) rfl
theorem q3754 : (Jvm.Cond.methodLink "PaperStoreModel" (95 : Nat) ({ cls := "PaperStoreModel", name := "isPaper", desc := "(II)Z" } : Jvm.MethodName)) ∈ lw_all := lw_g (lw_at lw_m16 55 rfl) rfl
theorem q3755 : (Jvm.Cond.static ({ cls := "PaperStoreModel", name := "isPaper", desc := "(II)Z" } : Jvm.MethodName)) ∈ lw_all := lw_g (lw_at lw_m16 56 rfl) rfl
theorem q3756 : (Jvm.Cond.code ({ cls := "PaperStoreModel", name := "isPaper", desc := "(II)Z" } : Jvm.MethodName) prog_15_method_20_code (2 : Nat) (Option.some Jvm.ClassFile.FieldType.boolean)) ∈ lw_all := lw_g (lw_at lw_m16 57 rfl) rfl
theorem q3757 : (Jvm.Cond.methodLink "PaperStoreModel" (85 : Nat) ({ cls := "PaperStoreModel", name := "heightOf", desc := "(II)I" } : Jvm.MethodName)) ∈ lw_all := lw_g (lw_at lw_m16 58 rfl) rfl
theorem q3758 : (Jvm.Cond.privateMethod ({ cls := "PaperStoreModel", name := "heightOf", desc := "(II)I" } : Jvm.MethodName)) ∈ lw_tbl := lw_at lw_m16 59 rfl
theorem q3759 : (Jvm.Cond.instanceMethod ({ cls := "PaperStoreModel", name := "heightOf", desc := "(II)I" } : Jvm.MethodName)) ∈ lw_all := lw_g (lw_at lw_m16 60 rfl) rfl
theorem q3760 : (Jvm.Cond.code ({ cls := "PaperStoreModel", name := "heightOf", desc := "(II)I" } : Jvm.MethodName) prog_15_method_24_code (5 : Nat) (Option.some Jvm.ClassFile.FieldType.int)) ∈ lw_all := lw_g (lw_at lw_m16 61 rfl) rfl
theorem q3761 : (Jvm.Cond.methodLink "PaperStoreModel" (82 : Nat) ({ cls := "PaperStoreModel", name := "r", desc := "(II)I" } : Jvm.MethodName)) ∈ lw_all := lw_g (lw_at lw_m16 62 rfl) rfl
theorem q3762 : (Jvm.Cond.privateMethod ({ cls := "PaperStoreModel", name := "r", desc := "(II)I" } : Jvm.MethodName)) ∈ lw_tbl := lw_at lw_m16 63 rfl
theorem q3763 : (Jvm.Cond.instanceMethod ({ cls := "PaperStoreModel", name := "r", desc := "(II)I" } : Jvm.MethodName)) ∈ lw_all := lw_g (lw_at lw_m16 64 rfl) rfl
theorem q3764 : (Jvm.Cond.code ({ cls := "PaperStoreModel", name := "r", desc := "(II)I" } : Jvm.MethodName) prog_15_method_22_code (3 : Nat) (Option.some Jvm.ClassFile.FieldType.int)) ∈ lw_all := lw_g (lw_at lw_m16 65 rfl) rfl
theorem q3765 : (Jvm.Cond.methodLink "PaperStoreModel" (99 : Nat) ({ cls := "PaperStoreModel", name := "setReam", desc := "(III)V" } : Jvm.MethodName)) ∈ lw_all := lw_g (lw_at lw_m16 66 rfl) rfl
theorem q3766 : (Jvm.Cond.privateMethod ({ cls := "PaperStoreModel", name := "setReam", desc := "(III)V" } : Jvm.MethodName)) ∈ lw_tbl := lw_at lw_m16 67 rfl
theorem q3767 : (Jvm.Cond.instanceMethod ({ cls := "PaperStoreModel", name := "setReam", desc := "(III)V" } : Jvm.MethodName)) ∈ lw_all := lw_g (lw_at lw_m16 68 rfl) rfl
theorem q3768 : (Jvm.Cond.code ({ cls := "PaperStoreModel", name := "setReam", desc := "(III)V" } : Jvm.MethodName) prog_15_method_23_code (4 : Nat) (Option.none : Option Jvm.ClassFile.FieldType)) ∈ lw_all := lw_g (lw_at lw_m16 69 rfl) rfl
theorem q3770 : (Jvm.Cond.instanceMethod ({ cls := "PaperStoreModel", name := "reamOf", desc := "(II)I" } : Jvm.MethodName)) ∈ lw_all := lw_g (lw_at lw_m16 71 rfl) rfl
theorem q3771 : (Jvm.Cond.selects "PaperStoreModel" ({ cls := "PaperStoreModel", name := "reamOf", desc := "(II)I" } : Jvm.MethodName) ({ cls := "PaperStoreModel", name := "reamOf", desc := "(II)I" } : Jvm.MethodName)) ∈ lw_all := lw_g (lw_at lw_m16 72 rfl) rfl
theorem q3772 : (Jvm.Cond.code ({ cls := "PaperStoreModel", name := "reamOf", desc := "(II)I" } : Jvm.MethodName) prog_15_method_30_code (3 : Nat) (Option.some Jvm.ClassFile.FieldType.int)) ∈ lw_all := lw_g (lw_at lw_m16 73 rfl) rfl
theorem q3773 : (Jvm.Cond.methodLink "PaperStoreModel" (107 : Nat) ({ cls := "PaperStoreModel", name := "isReam", desc := "(I)Z" } : Jvm.MethodName)) ∈ lw_all := lw_g (lw_at lw_m16 74 rfl) rfl
theorem q3774 : (Jvm.Cond.privateMethod ({ cls := "PaperStoreModel", name := "isReam", desc := "(I)Z" } : Jvm.MethodName)) ∈ lw_tbl := lw_at lw_m16 75 rfl
theorem q3775 : (Jvm.Cond.instanceMethod ({ cls := "PaperStoreModel", name := "isReam", desc := "(I)Z" } : Jvm.MethodName)) ∈ lw_all := lw_g (lw_at lw_m16 76 rfl) rfl
theorem q3776 : (Jvm.Cond.code ({ cls := "PaperStoreModel", name := "isReam", desc := "(I)Z" } : Jvm.MethodName) prog_15_method_29_code (2 : Nat) (Option.some Jvm.ClassFile.FieldType.boolean)) ∈ lw_all := lw_g (lw_at lw_m16 77 rfl) rfl
theorem q3778 : (Jvm.Cond.instanceMethod ({ cls := "PaperStoreModel", name := "top", desc := "(II)I" } : Jvm.MethodName)) ∈ lw_all := lw_g (lw_at lw_m16 79 rfl) rfl
theorem q3779 : (Jvm.Cond.selects "PaperStoreModel" ({ cls := "PaperStoreModel", name := "top", desc := "(II)I" } : Jvm.MethodName) ({ cls := "PaperStoreModel", name := "top", desc := "(II)I" } : Jvm.MethodName)) ∈ lw_all := lw_g (lw_at lw_m16 80 rfl) rfl
theorem q3780 : (Jvm.Cond.code ({ cls := "PaperStoreModel", name := "top", desc := "(II)I" } : Jvm.MethodName) prog_15_method_31_code (3 : Nat) (Option.some Jvm.ClassFile.FieldType.int)) ∈ lw_all := lw_g (lw_at lw_m16 81 rfl) rfl
theorem q3781 : (Jvm.Cond.methodLink "PaperStoreModel" (110 : Nat) ({ cls := "PaperStoreModel", name := "topOf", desc := "(II)I" } : Jvm.MethodName)) ∈ lw_all := lw_g (lw_at lw_m16 82 rfl) rfl
theorem q3782 : (Jvm.Cond.privateMethod ({ cls := "PaperStoreModel", name := "topOf", desc := "(II)I" } : Jvm.MethodName)) ∈ lw_tbl := lw_at lw_m16 83 rfl
theorem q3783 : (Jvm.Cond.instanceMethod ({ cls := "PaperStoreModel", name := "topOf", desc := "(II)I" } : Jvm.MethodName)) ∈ lw_all := lw_g (lw_at lw_m16 84 rfl) rfl
theorem q3784 : (Jvm.Cond.code ({ cls := "PaperStoreModel", name := "topOf", desc := "(II)I" } : Jvm.MethodName) prog_15_method_26_code (3 : Nat) (Option.some Jvm.ClassFile.FieldType.int)) ∈ lw_all := lw_g (lw_at lw_m16 85 rfl) rfl
theorem q3785 : (Jvm.Cond.methodLink "PaperStoreModel" (88 : Nat) ({ cls := "PaperStoreModel", name := "reamAt", desc := "(III)I" } : Jvm.MethodName)) ∈ lw_all := lw_g (lw_at lw_m16 86 rfl) rfl
theorem q3786 : (Jvm.Cond.privateMethod ({ cls := "PaperStoreModel", name := "reamAt", desc := "(III)I" } : Jvm.MethodName)) ∈ lw_tbl := lw_at lw_m16 87 rfl
theorem q3787 : (Jvm.Cond.instanceMethod ({ cls := "PaperStoreModel", name := "reamAt", desc := "(III)I" } : Jvm.MethodName)) ∈ lw_all := lw_g (lw_at lw_m16 88 rfl) rfl
theorem q3788 : (Jvm.Cond.code ({ cls := "PaperStoreModel", name := "reamAt", desc := "(III)I" } : Jvm.MethodName) prog_15_method_25_code (5 : Nat) (Option.some Jvm.ClassFile.FieldType.int)) ∈ lw_all := lw_g (lw_at lw_m16 89 rfl) rfl
theorem q3790 : (Jvm.Cond.instanceMethod ({ cls := "PaperStoreModel", name := "wavyIn", desc := "(I)I" } : Jvm.MethodName)) ∈ lw_all := lw_g (lw_at lw_m16 91 rfl) rfl
theorem q3791 : (Jvm.Cond.selects "PaperStoreModel" ({ cls := "PaperStoreModel", name := "wavyIn", desc := "(I)I" } : Jvm.MethodName) ({ cls := "PaperStoreModel", name := "wavyIn", desc := "(I)I" } : Jvm.MethodName)) ∈ lw_all := lw_g (lw_at lw_m16 92 rfl) rfl
theorem q3792 : (Jvm.Cond.code ({ cls := "PaperStoreModel", name := "wavyIn", desc := "(I)I" } : Jvm.MethodName) prog_15_method_33_code (2 : Nat) (Option.some Jvm.ClassFile.FieldType.int)) ∈ lw_all := lw_g (lw_at lw_m16 93 rfl) rfl
theorem q3793 : (Jvm.Cond.methodLink "PaperStoreModel" (113 : Nat) ({ cls := "PaperStoreModel", name := "isWavy", desc := "(I)Z" } : Jvm.MethodName)) ∈ lw_all := lw_g (lw_at lw_m16 94 rfl) rfl
theorem q3794 : (Jvm.Cond.privateMethod ({ cls := "PaperStoreModel", name := "isWavy", desc := "(I)Z" } : Jvm.MethodName)) ∈ lw_tbl := lw_at lw_m16 95 rfl
theorem q3795 : (Jvm.Cond.instanceMethod ({ cls := "PaperStoreModel", name := "isWavy", desc := "(I)Z" } : Jvm.MethodName)) ∈ lw_all := lw_g (lw_at lw_m16 96 rfl) rfl
theorem q3796 : (Jvm.Cond.code ({ cls := "PaperStoreModel", name := "isWavy", desc := "(I)Z" } : Jvm.MethodName) prog_15_method_32_code (2 : Nat) (Option.some Jvm.ClassFile.FieldType.boolean)) ∈ lw_all := lw_g (lw_at lw_m16 97 rfl) rfl
theorem q3797 : (Jvm.Cond.methodLink "PaperStoreModel" (116 : Nat) ({ cls := "PaperStoreModel", name := "a", desc := "(II)I" } : Jvm.MethodName)) ∈ lw_all := lw_g (lw_at lw_m16 98 rfl) rfl
theorem q3798 : (Jvm.Cond.privateMethod ({ cls := "PaperStoreModel", name := "a", desc := "(II)I" } : Jvm.MethodName)) ∈ lw_tbl := lw_at lw_m16 99 rfl
theorem q3799 : (Jvm.Cond.instanceMethod ({ cls := "PaperStoreModel", name := "a", desc := "(II)I" } : Jvm.MethodName)) ∈ lw_all := lw_g (lw_at lw_m16 100 rfl) rfl
theorem q3800 : (Jvm.Cond.code ({ cls := "PaperStoreModel", name := "a", desc := "(II)I" } : Jvm.MethodName) prog_15_method_35_code (3 : Nat) (Option.some Jvm.ClassFile.FieldType.int)) ∈ lw_all := lw_g (lw_at lw_m16 101 rfl) rfl
theorem q3801 : (Jvm.Cond.methodLink "PaperStoreModel" (119 : Nat) ({ cls := "PaperStoreModel", name := "most", desc := "(II)I" } : Jvm.MethodName)) ∈ lw_all := lw_g (lw_at lw_m16 102 rfl) rfl
theorem q3802 : (Jvm.Cond.static ({ cls := "PaperStoreModel", name := "most", desc := "(II)I" } : Jvm.MethodName)) ∈ lw_all := lw_g (lw_at lw_m16 103 rfl) rfl
theorem q3803 : (Jvm.Cond.code ({ cls := "PaperStoreModel", name := "most", desc := "(II)I" } : Jvm.MethodName) prog_15_method_5_code (2 : Nat) (Option.some Jvm.ClassFile.FieldType.int)) ∈ lw_all := lw_g (lw_at lw_m16 104 rfl) rfl
theorem q3805 : (Jvm.Cond.instanceMethod ({ cls := "PaperStoreModel", name := "air", desc := "(II)I" } : Jvm.MethodName)) ∈ lw_all := lw_g (lw_at lw_m16 106 rfl) rfl
theorem q3806 : (Jvm.Cond.selects "PaperStoreModel" ({ cls := "PaperStoreModel", name := "air", desc := "(II)I" } : Jvm.MethodName) ({ cls := "PaperStoreModel", name := "air", desc := "(II)I" } : Jvm.MethodName)) ∈ lw_all := lw_g (lw_at lw_m16 107 rfl) rfl
theorem q3807 : (Jvm.Cond.code ({ cls := "PaperStoreModel", name := "air", desc := "(II)I" } : Jvm.MethodName) prog_15_method_39_code (3 : Nat) (Option.some Jvm.ClassFile.FieldType.int)) ∈ lw_all := lw_g (lw_at lw_m16 108 rfl) rfl
theorem q3808 : (Jvm.Cond.methodLink "PaperStoreModel" (128 : Nat) ({ cls := "PaperStoreModel", name := "airs", desc := "(II)I" } : Jvm.MethodName)) ∈ lw_all := lw_g (lw_at lw_m16 109 rfl) rfl
theorem q3809 : (Jvm.Cond.privateMethod ({ cls := "PaperStoreModel", name := "airs", desc := "(II)I" } : Jvm.MethodName)) ∈ lw_tbl := lw_at lw_m16 110 rfl
theorem q3810 : (Jvm.Cond.instanceMethod ({ cls := "PaperStoreModel", name := "airs", desc := "(II)I" } : Jvm.MethodName)) ∈ lw_all := lw_g (lw_at lw_m16 111 rfl) rfl
theorem q3811 : (Jvm.Cond.code ({ cls := "PaperStoreModel", name := "airs", desc := "(II)I" } : Jvm.MethodName) prog_15_method_38_code (3 : Nat) (Option.some Jvm.ClassFile.FieldType.int)) ∈ lw_all := lw_g (lw_at lw_m16 112 rfl) rfl
theorem q3812 : (Jvm.Cond.methodLink "PaperStoreModel" (125 : Nat) ({ cls := "PaperStoreModel", name := "sets", desc := "(III)I" } : Jvm.MethodName)) ∈ lw_all := lw_g (lw_at lw_m16 113 rfl) rfl
theorem q3813 : (Jvm.Cond.privateMethod ({ cls := "PaperStoreModel", name := "sets", desc := "(III)I" } : Jvm.MethodName)) ∈ lw_tbl := lw_at lw_m16 114 rfl
theorem q3814 : (Jvm.Cond.instanceMethod ({ cls := "PaperStoreModel", name := "sets", desc := "(III)I" } : Jvm.MethodName)) ∈ lw_all := lw_g (lw_at lw_m16 115 rfl) rfl
theorem q3815 : (Jvm.Cond.code ({ cls := "PaperStoreModel", name := "sets", desc := "(III)I" } : Jvm.MethodName) prog_15_method_37_code (4 : Nat) (Option.some Jvm.ClassFile.FieldType.int)) ∈ lw_all := lw_g (lw_at lw_m16 116 rfl) rfl
theorem q3816 : (Jvm.Cond.methodLink "PaperStoreModel" (122 : Nat) ({ cls := "PaperStoreModel", name := "setAisle", desc := "(III)V" } : Jvm.MethodName)) ∈ lw_all := lw_g (lw_at lw_m16 117 rfl) rfl
theorem q3817 : (Jvm.Cond.privateMethod ({ cls := "PaperStoreModel", name := "setAisle", desc := "(III)V" } : Jvm.MethodName)) ∈ lw_tbl := lw_at lw_m16 118 rfl
theorem q3818 : (Jvm.Cond.instanceMethod ({ cls := "PaperStoreModel", name := "setAisle", desc := "(III)V" } : Jvm.MethodName)) ∈ lw_all := lw_g (lw_at lw_m16 119 rfl) rfl
theorem q3819 : (Jvm.Cond.code ({ cls := "PaperStoreModel", name := "setAisle", desc := "(III)V" } : Jvm.MethodName) prog_15_method_36_code (4 : Nat) (Option.none : Option Jvm.ClassFile.FieldType)) ∈ lw_all := lw_g (lw_at lw_m16 120 rfl) rfl
theorem q3821 : (Jvm.Cond.instanceMethod ({ cls := "PaperStoreModel", name := "mice", desc := "(II)I" } : Jvm.MethodName)) ∈ lw_all := lw_g (lw_at lw_m16 122 rfl) rfl
theorem q3822 : (Jvm.Cond.selects "PaperStoreModel" ({ cls := "PaperStoreModel", name := "mice", desc := "(II)I" } : Jvm.MethodName) ({ cls := "PaperStoreModel", name := "mice", desc := "(II)I" } : Jvm.MethodName)) ∈ lw_all := lw_g (lw_at lw_m16 123 rfl) rfl
theorem q3823 : (Jvm.Cond.code ({ cls := "PaperStoreModel", name := "mice", desc := "(II)I" } : Jvm.MethodName) prog_15_method_41_code (3 : Nat) (Option.some Jvm.ClassFile.FieldType.int)) ∈ lw_all := lw_g (lw_at lw_m16 124 rfl) rfl
theorem q3824 : (Jvm.Cond.methodLink "PaperStoreModel" (134 : Nat) ({ cls := "PaperStoreModel", name := "comes", desc := "(II)I" } : Jvm.MethodName)) ∈ lw_all := lw_g (lw_at lw_m16 125 rfl) rfl
theorem q3825 : (Jvm.Cond.privateMethod ({ cls := "PaperStoreModel", name := "comes", desc := "(II)I" } : Jvm.MethodName)) ∈ lw_tbl := lw_at lw_m16 126 rfl
theorem q3826 : (Jvm.Cond.instanceMethod ({ cls := "PaperStoreModel", name := "comes", desc := "(II)I" } : Jvm.MethodName)) ∈ lw_all := lw_g (lw_at lw_m16 127 rfl) rfl
theorem q3827 : (Jvm.Cond.code ({ cls := "PaperStoreModel", name := "comes", desc := "(II)I" } : Jvm.MethodName) prog_15_method_40_code (3 : Nat) (Option.some Jvm.ClassFile.FieldType.int)) ∈ lw_all := lw_g (lw_at lw_m16 128 rfl) rfl
theorem q3828 : (Jvm.Cond.methodLink "PaperStoreModel" (131 : Nat) ({ cls := "PaperStoreModel", name := "least", desc := "(II)I" } : Jvm.MethodName)) ∈ lw_all := lw_g (lw_at lw_m16 129 rfl) rfl
theorem q3829 : (Jvm.Cond.static ({ cls := "PaperStoreModel", name := "least", desc := "(II)I" } : Jvm.MethodName)) ∈ lw_all := lw_g (lw_at lw_m16 130 rfl) rfl
theorem q3830 : (Jvm.Cond.code ({ cls := "PaperStoreModel", name := "least", desc := "(II)I" } : Jvm.MethodName) prog_15_method_4_code (2 : Nat) (Option.some Jvm.ClassFile.FieldType.int)) ∈ lw_all := lw_g (lw_at lw_m16 131 rfl) rfl
theorem q3832 : (Jvm.Cond.instanceMethod ({ cls := "PaperStoreModel", name := "trap", desc := "(II)I" } : Jvm.MethodName)) ∈ lw_all := lw_g (lw_at lw_m16 133 rfl) rfl
theorem q3833 : (Jvm.Cond.selects "PaperStoreModel" ({ cls := "PaperStoreModel", name := "trap", desc := "(II)I" } : Jvm.MethodName) ({ cls := "PaperStoreModel", name := "trap", desc := "(II)I" } : Jvm.MethodName)) ∈ lw_all := lw_g (lw_at lw_m16 134 rfl) rfl
theorem q3834 : (Jvm.Cond.code ({ cls := "PaperStoreModel", name := "trap", desc := "(II)I" } : Jvm.MethodName) prog_15_method_43_code (3 : Nat) (Option.some Jvm.ClassFile.FieldType.int)) ∈ lw_all := lw_g (lw_at lw_m16 135 rfl) rfl
theorem q3835 : (Jvm.Cond.methodLink "PaperStoreModel" (137 : Nat) ({ cls := "PaperStoreModel", name := "setsTraps", desc := "(II)I" } : Jvm.MethodName)) ∈ lw_all := lw_g (lw_at lw_m16 136 rfl) rfl
theorem q3836 : (Jvm.Cond.privateMethod ({ cls := "PaperStoreModel", name := "setsTraps", desc := "(II)I" } : Jvm.MethodName)) ∈ lw_tbl := lw_at lw_m16 137 rfl
theorem q3837 : (Jvm.Cond.instanceMethod ({ cls := "PaperStoreModel", name := "setsTraps", desc := "(II)I" } : Jvm.MethodName)) ∈ lw_all := lw_g (lw_at lw_m16 138 rfl) rfl
theorem q3838 : (Jvm.Cond.code ({ cls := "PaperStoreModel", name := "setsTraps", desc := "(II)I" } : Jvm.MethodName) prog_15_method_42_code (3 : Nat) (Option.some Jvm.ClassFile.FieldType.int)) ∈ lw_all := lw_g (lw_at lw_m16 139 rfl) rfl
theorem q3840 : (Jvm.Cond.instanceMethod ({ cls := "PaperStoreModel", name := "aisleOf", desc := "(II)I" } : Jvm.MethodName)) ∈ lw_all := lw_g (lw_at lw_m16 141 rfl) rfl
theorem q3841 : (Jvm.Cond.selects "PaperStoreModel" ({ cls := "PaperStoreModel", name := "aisleOf", desc := "(II)I" } : Jvm.MethodName) ({ cls := "PaperStoreModel", name := "aisleOf", desc := "(II)I" } : Jvm.MethodName)) ∈ lw_all := lw_g (lw_at lw_m16 142 rfl) rfl
theorem q3842 : (Jvm.Cond.code ({ cls := "PaperStoreModel", name := "aisleOf", desc := "(II)I" } : Jvm.MethodName) prog_15_method_45_code (3 : Nat) (Option.some Jvm.ClassFile.FieldType.int)) ∈ lw_all := lw_g (lw_at lw_m16 143 rfl) rfl
theorem q3843 : (Jvm.Cond.methodLink "PaperStoreModel" (140 : Nat) ({ cls := "PaperStoreModel", name := "reamsAt", desc := "(IZ)I" } : Jvm.MethodName)) ∈ lw_all := lw_g (lw_at lw_m16 144 rfl) rfl
theorem q3844 : (Jvm.Cond.privateMethod ({ cls := "PaperStoreModel", name := "reamsAt", desc := "(IZ)I" } : Jvm.MethodName)) ∈ lw_tbl := lw_at lw_m16 145 rfl
theorem q3845 : (Jvm.Cond.instanceMethod ({ cls := "PaperStoreModel", name := "reamsAt", desc := "(IZ)I" } : Jvm.MethodName)) ∈ lw_all := lw_g (lw_at lw_m16 146 rfl) rfl
theorem q3846 : (Jvm.Cond.code ({ cls := "PaperStoreModel", name := "reamsAt", desc := "(IZ)I" } : Jvm.MethodName) prog_15_method_44_code (5 : Nat) (Option.some Jvm.ClassFile.FieldType.int)) ∈ lw_all := lw_g (lw_at lw_m16 147 rfl) rfl
theorem q3848 : (Jvm.Cond.instanceMethod ({ cls := "PaperStoreModel", name := "eatenIn", desc := "(II)I" } : Jvm.MethodName)) ∈ lw_all := lw_g (lw_at lw_m16 149 rfl) rfl
theorem q3849 : (Jvm.Cond.selects "PaperStoreModel" ({ cls := "PaperStoreModel", name := "eatenIn", desc := "(II)I" } : Jvm.MethodName) ({ cls := "PaperStoreModel", name := "eatenIn", desc := "(II)I" } : Jvm.MethodName)) ∈ lw_all := lw_g (lw_at lw_m16 150 rfl) rfl
theorem q3850 : (Jvm.Cond.code ({ cls := "PaperStoreModel", name := "eatenIn", desc := "(II)I" } : Jvm.MethodName) prog_15_method_49_code (6 : Nat) (Option.some Jvm.ClassFile.FieldType.int)) ∈ lw_all := lw_g (lw_at lw_m16 151 rfl) rfl
theorem q3851 : (Jvm.Cond.methodLink "PaperStoreModel" (154 : Nat) ({ cls := "PaperStoreModel", name := "dayGoes", desc := "()I" } : Jvm.MethodName)) ∈ lw_all := lw_g (lw_at lw_m16 152 rfl) rfl
theorem q3852 : (Jvm.Cond.privateMethod ({ cls := "PaperStoreModel", name := "dayGoes", desc := "()I" } : Jvm.MethodName)) ∈ lw_tbl := lw_at lw_m16 153 rfl
theorem q3853 : (Jvm.Cond.instanceMethod ({ cls := "PaperStoreModel", name := "dayGoes", desc := "()I" } : Jvm.MethodName)) ∈ lw_all := lw_g (lw_at lw_m16 154 rfl) rfl
theorem q3854 : (Jvm.Cond.code ({ cls := "PaperStoreModel", name := "dayGoes", desc := "()I" } : Jvm.MethodName) prog_15_method_48_code (4 : Nat) (Option.some Jvm.ClassFile.FieldType.int)) ∈ lw_all := lw_g (lw_at lw_m16 155 rfl) rfl
theorem q3855 : (Jvm.Cond.methodLink "PaperStoreModel" (147 : Nat) ({ cls := "PaperStoreModel", name := "eats", desc := "(I)I" } : Jvm.MethodName)) ∈ lw_all := lw_g (lw_at lw_m16 156 rfl) rfl
theorem q3856 : (Jvm.Cond.privateMethod ({ cls := "PaperStoreModel", name := "eats", desc := "(I)I" } : Jvm.MethodName)) ∈ lw_tbl := lw_at lw_m16 157 rfl
theorem q3857 : (Jvm.Cond.instanceMethod ({ cls := "PaperStoreModel", name := "eats", desc := "(I)I" } : Jvm.MethodName)) ∈ lw_all := lw_g (lw_at lw_m16 158 rfl) rfl
theorem q3858 : (Jvm.Cond.code ({ cls := "PaperStoreModel", name := "eats", desc := "(I)I" } : Jvm.MethodName) prog_15_method_46_code (8 : Nat) (Option.some Jvm.ClassFile.FieldType.int)) ∈ lw_all := lw_g (lw_at lw_m16 159 rfl) rfl
theorem q3859 : (Jvm.Cond.methodLink "PaperStoreModel" (144 : Nat) ({ cls := "PaperStoreModel", name := "leave", desc := "(II)V" } : Jvm.MethodName)) ∈ lw_all := lw_g (lw_at lw_m16 160 rfl) rfl
theorem q3860 : (Jvm.Cond.privateMethod ({ cls := "PaperStoreModel", name := "leave", desc := "(II)V" } : Jvm.MethodName)) ∈ lw_tbl := lw_at lw_m16 161 rfl
theorem q3861 : (Jvm.Cond.instanceMethod ({ cls := "PaperStoreModel", name := "leave", desc := "(II)V" } : Jvm.MethodName)) ∈ lw_all := lw_g (lw_at lw_m16 162 rfl) rfl
theorem q3862 : (Jvm.Cond.code ({ cls := "PaperStoreModel", name := "leave", desc := "(II)V" } : Jvm.MethodName) prog_15_method_34_code (7 : Nat) (Option.none : Option Jvm.ClassFile.FieldType)) ∈ lw_all := lw_g (lw_at lw_m16 163 rfl) rfl
theorem q3863 : (Jvm.Cond.methodLink "PaperStoreModel" (150 : Nat) ({ cls := "PaperStoreModel", name := "breed", desc := "(IZ)V" } : Jvm.MethodName)) ∈ lw_all := lw_g (lw_at lw_m16 164 rfl) rfl
theorem q3864 : (Jvm.Cond.privateMethod ({ cls := "PaperStoreModel", name := "breed", desc := "(IZ)V" } : Jvm.MethodName)) ∈ lw_tbl := lw_at lw_m16 165 rfl
theorem q3865 : (Jvm.Cond.instanceMethod ({ cls := "PaperStoreModel", name := "breed", desc := "(IZ)V" } : Jvm.MethodName)) ∈ lw_all := lw_g (lw_at lw_m16 166 rfl) rfl
theorem q3866 : (Jvm.Cond.code ({ cls := "PaperStoreModel", name := "breed", desc := "(IZ)V" } : Jvm.MethodName) prog_15_method_47_code (5 : Nat) (Option.none : Option Jvm.ClassFile.FieldType)) ∈ lw_all := lw_g (lw_at lw_m16 167 rfl) rfl
theorem q3868 : (Jvm.Cond.instanceMethod ({ cls := "PaperStoreModel", name := "ranked", desc := "(I)I" } : Jvm.MethodName)) ∈ lw_all := lw_g (lw_at lw_m16 169 rfl) rfl
theorem q3869 : (Jvm.Cond.selects "PaperStoreModel" ({ cls := "PaperStoreModel", name := "ranked", desc := "(I)I" } : Jvm.MethodName) ({ cls := "PaperStoreModel", name := "ranked", desc := "(I)I" } : Jvm.MethodName)) ∈ lw_all := lw_g (lw_at lw_m16 170 rfl) rfl
theorem q3870 : (Jvm.Cond.code ({ cls := "PaperStoreModel", name := "ranked", desc := "(I)I" } : Jvm.MethodName) prog_15_method_51_code (5 : Nat) (Option.some Jvm.ClassFile.FieldType.int)) ∈ lw_all := lw_g (lw_at lw_m16 171 rfl) rfl
theorem q3871 : (Jvm.Cond.methodLink "PaperStoreModel" (158 : Nat) ({ cls := "PaperStoreModel", name := "isAhead", desc := "(II)Z" } : Jvm.MethodName)) ∈ lw_all := lw_g (lw_at lw_m16 172 rfl) rfl
theorem q3872 : (Jvm.Cond.privateMethod ({ cls := "PaperStoreModel", name := "isAhead", desc := "(II)Z" } : Jvm.MethodName)) ∈ lw_tbl := lw_at lw_m16 173 rfl
theorem q3873 : (Jvm.Cond.instanceMethod ({ cls := "PaperStoreModel", name := "isAhead", desc := "(II)Z" } : Jvm.MethodName)) ∈ lw_all := lw_g (lw_at lw_m16 174 rfl) rfl
theorem q3874 : (Jvm.Cond.code ({ cls := "PaperStoreModel", name := "isAhead", desc := "(II)Z" } : Jvm.MethodName) prog_15_method_50_code (5 : Nat) (Option.some Jvm.ClassFile.FieldType.boolean)) ∈ lw_all := lw_g (lw_at lw_m16 175 rfl) rfl
theorem q3876 : (Jvm.Cond.instanceMethod ({ cls := "PaperStoreModel", name := "order", desc := "(III)I" } : Jvm.MethodName)) ∈ lw_all := lw_g (lw_at lw_m16 177 rfl) rfl
theorem q3877 : (Jvm.Cond.selects "PaperStoreModel" ({ cls := "PaperStoreModel", name := "order", desc := "(III)I" } : Jvm.MethodName) ({ cls := "PaperStoreModel", name := "order", desc := "(III)I" } : Jvm.MethodName)) ∈ lw_all := lw_g (lw_at lw_m16 178 rfl) rfl
theorem q3878 : (Jvm.Cond.code ({ cls := "PaperStoreModel", name := "order", desc := "(III)I" } : Jvm.MethodName) prog_15_method_60_code (5 : Nat) (Option.some Jvm.ClassFile.FieldType.int)) ∈ lw_all := lw_g (lw_at lw_m16 179 rfl) rfl
theorem q3880 : (Jvm.Cond.instanceMethod ({ cls := "PaperStoreModel", name := "cancel", desc := "(I)I" } : Jvm.MethodName)) ∈ lw_all := lw_g (lw_at lw_m16 181 rfl) rfl
theorem q3881 : (Jvm.Cond.selects "PaperStoreModel" ({ cls := "PaperStoreModel", name := "cancel", desc := "(I)I" } : Jvm.MethodName) ({ cls := "PaperStoreModel", name := "cancel", desc := "(I)I" } : Jvm.MethodName)) ∈ lw_all := lw_g (lw_at lw_m16 182 rfl) rfl
theorem q3882 : (Jvm.Cond.code ({ cls := "PaperStoreModel", name := "cancel", desc := "(I)I" } : Jvm.MethodName) prog_15_method_63_code (2 : Nat) (Option.some Jvm.ClassFile.FieldType.int)) ∈ lw_all := lw_g (lw_at lw_m16 183 rfl) rfl
theorem q3883 : (Jvm.Cond.methodLink "PaperStoreModel" (183 : Nat) ({ cls := "PaperStoreModel", name := "cancels", desc := "(I)I" } : Jvm.MethodName)) ∈ lw_all := lw_g (lw_at lw_m16 184 rfl) rfl
theorem q3884 : (Jvm.Cond.privateMethod ({ cls := "PaperStoreModel", name := "cancels", desc := "(I)I" } : Jvm.MethodName)) ∈ lw_tbl := lw_at lw_m16 185 rfl
theorem q3885 : (Jvm.Cond.instanceMethod ({ cls := "PaperStoreModel", name := "cancels", desc := "(I)I" } : Jvm.MethodName)) ∈ lw_all := lw_g (lw_at lw_m16 186 rfl) rfl
theorem q3886 : (Jvm.Cond.code ({ cls := "PaperStoreModel", name := "cancels", desc := "(I)I" } : Jvm.MethodName) prog_15_method_62_code (3 : Nat) (Option.some Jvm.ClassFile.FieldType.int)) ∈ lw_all := lw_g (lw_at lw_m16 187 rfl) rfl
theorem q3887 : (Jvm.Cond.methodLink "PaperStoreModel" (173 : Nat) ({ cls := "PaperStoreModel", name := "isOrder", desc := "(I)Z" } : Jvm.MethodName)) ∈ lw_all := lw_g (lw_at lw_m16 188 rfl) rfl
theorem q3888 : (Jvm.Cond.privateMethod ({ cls := "PaperStoreModel", name := "isOrder", desc := "(I)Z" } : Jvm.MethodName)) ∈ lw_tbl := lw_at lw_m16 189 rfl
theorem q3889 : (Jvm.Cond.instanceMethod ({ cls := "PaperStoreModel", name := "isOrder", desc := "(I)Z" } : Jvm.MethodName)) ∈ lw_all := lw_g (lw_at lw_m16 190 rfl) rfl
theorem q3890 : (Jvm.Cond.code ({ cls := "PaperStoreModel", name := "isOrder", desc := "(I)Z" } : Jvm.MethodName) prog_15_method_52_code (2 : Nat) (Option.some Jvm.ClassFile.FieldType.boolean)) ∈ lw_all := lw_g (lw_at lw_m16 191 rfl) rfl
theorem q3891 : (Jvm.Cond.methodLink "PaperStoreModel" (176 : Nat) ({ cls := "PaperStoreModel", name := "doesNotWait", desc := "(I)Z" } : Jvm.MethodName)) ∈ lw_all := lw_g (lw_at lw_m16 192 rfl) rfl
theorem q3892 : (Jvm.Cond.privateMethod ({ cls := "PaperStoreModel", name := "doesNotWait", desc := "(I)Z" } : Jvm.MethodName)) ∈ lw_tbl := lw_at lw_m16 193 rfl
theorem q3893 : (Jvm.Cond.instanceMethod ({ cls := "PaperStoreModel", name := "doesNotWait", desc := "(I)Z" } : Jvm.MethodName)) ∈ lw_all := lw_g (lw_at lw_m16 194 rfl) rfl
theorem q3894 : (Jvm.Cond.code ({ cls := "PaperStoreModel", name := "doesNotWait", desc := "(I)Z" } : Jvm.MethodName) prog_15_method_61_code (2 : Nat) (Option.some Jvm.ClassFile.FieldType.boolean)) ∈ lw_all := lw_g (lw_at lw_m16 195 rfl) rfl
theorem q3895 : (Jvm.Cond.methodLink "PaperStoreModel" (170 : Nat) ({ cls := "PaperStoreModel", name := "o", desc := "(II)I" } : Jvm.MethodName)) ∈ lw_all := lw_g (lw_at lw_m16 196 rfl) rfl
theorem q3896 : (Jvm.Cond.privateMethod ({ cls := "PaperStoreModel", name := "o", desc := "(II)I" } : Jvm.MethodName)) ∈ lw_tbl := lw_at lw_m16 197 rfl
theorem q3897 : (Jvm.Cond.instanceMethod ({ cls := "PaperStoreModel", name := "o", desc := "(II)I" } : Jvm.MethodName)) ∈ lw_all := lw_g (lw_at lw_m16 198 rfl) rfl
theorem q3898 : (Jvm.Cond.code ({ cls := "PaperStoreModel", name := "o", desc := "(II)I" } : Jvm.MethodName) prog_15_method_53_code (3 : Nat) (Option.some Jvm.ClassFile.FieldType.int)) ∈ lw_all := lw_g (lw_at lw_m16 199 rfl) rfl
theorem q3899 : (Jvm.Cond.methodLink "PaperStoreModel" (167 : Nat) ({ cls := "PaperStoreModel", name := "cartWith", desc := "(I)I" } : Jvm.MethodName)) ∈ lw_all := lw_g (lw_at lw_m16 200 rfl) rfl
theorem q3900 : (Jvm.Cond.privateMethod ({ cls := "PaperStoreModel", name := "cartWith", desc := "(I)I" } : Jvm.MethodName)) ∈ lw_tbl := lw_at lw_m16 201 rfl
theorem q3901 : (Jvm.Cond.instanceMethod ({ cls := "PaperStoreModel", name := "cartWith", desc := "(I)I" } : Jvm.MethodName)) ∈ lw_all := lw_g (lw_at lw_m16 202 rfl) rfl
theorem q3902 : (Jvm.Cond.code ({ cls := "PaperStoreModel", name := "cartWith", desc := "(I)I" } : Jvm.MethodName) prog_15_method_58_code (3 : Nat) (Option.some Jvm.ClassFile.FieldType.int)) ∈ lw_all := lw_g (lw_at lw_m16 203 rfl) rfl
theorem q3903 : (Jvm.Cond.methodLink "PaperStoreModel" (164 : Nat) ({ cls := "PaperStoreModel", name := "c", desc := "(II)I" } : Jvm.MethodName)) ∈ lw_all := lw_g (lw_at lw_m16 204 rfl) rfl
theorem q3904 : (Jvm.Cond.privateMethod ({ cls := "PaperStoreModel", name := "c", desc := "(II)I" } : Jvm.MethodName)) ∈ lw_tbl := lw_at lw_m16 205 rfl
theorem q3905 : (Jvm.Cond.instanceMethod ({ cls := "PaperStoreModel", name := "c", desc := "(II)I" } : Jvm.MethodName)) ∈ lw_all := lw_g (lw_at lw_m16 206 rfl) rfl
theorem q3906 : (Jvm.Cond.code ({ cls := "PaperStoreModel", name := "c", desc := "(II)I" } : Jvm.MethodName) prog_15_method_55_code (3 : Nat) (Option.some Jvm.ClassFile.FieldType.int)) ∈ lw_all := lw_g (lw_at lw_m16 207 rfl) rfl
theorem q3907 : (Jvm.Cond.methodLink "PaperStoreModel" (179 : Nat) ({ cls := "PaperStoreModel", name := "empties", desc := "(I)V" } : Jvm.MethodName)) ∈ lw_all := lw_g (lw_at lw_m16 208 rfl) rfl
theorem q3908 : (Jvm.Cond.privateMethod ({ cls := "PaperStoreModel", name := "empties", desc := "(I)V" } : Jvm.MethodName)) ∈ lw_tbl := lw_at lw_m16 209 rfl
theorem q3909 : (Jvm.Cond.instanceMethod ({ cls := "PaperStoreModel", name := "empties", desc := "(I)V" } : Jvm.MethodName)) ∈ lw_all := lw_g (lw_at lw_m16 210 rfl) rfl
theorem q3910 : (Jvm.Cond.code ({ cls := "PaperStoreModel", name := "empties", desc := "(I)V" } : Jvm.MethodName) prog_15_method_57_code (2 : Nat) (Option.none : Option Jvm.ClassFile.FieldType)) ∈ lw_all := lw_g (lw_at lw_m16 211 rfl) rfl
theorem q3911 : (Jvm.Cond.methodLink "PaperStoreModel" (161 : Nat) ({ cls := "PaperStoreModel", name := "setCart", desc := "(III)V" } : Jvm.MethodName)) ∈ lw_all := lw_g (lw_at lw_m16 212 rfl) rfl
theorem q3912 : (Jvm.Cond.privateMethod ({ cls := "PaperStoreModel", name := "setCart", desc := "(III)V" } : Jvm.MethodName)) ∈ lw_tbl := lw_at lw_m16 213 rfl
theorem q3913 : (Jvm.Cond.instanceMethod ({ cls := "PaperStoreModel", name := "setCart", desc := "(III)V" } : Jvm.MethodName)) ∈ lw_all := lw_g (lw_at lw_m16 214 rfl) rfl
theorem q3914 : (Jvm.Cond.code ({ cls := "PaperStoreModel", name := "setCart", desc := "(III)V" } : Jvm.MethodName) prog_15_method_56_code (4 : Nat) (Option.none : Option Jvm.ClassFile.FieldType)) ∈ lw_all := lw_g (lw_at lw_m16 215 rfl) rfl
theorem q3916 : (Jvm.Cond.instanceMethod ({ cls := "PaperStoreModel", name := "cart", desc := "(I)I" } : Jvm.MethodName)) ∈ lw_all := lw_g (lw_at lw_m16 217 rfl) rfl
theorem q3917 : (Jvm.Cond.selects "PaperStoreModel" ({ cls := "PaperStoreModel", name := "cart", desc := "(I)I" } : Jvm.MethodName) ({ cls := "PaperStoreModel", name := "cart", desc := "(I)I" } : Jvm.MethodName)) ∈ lw_all := lw_g (lw_at lw_m16 218 rfl) rfl
theorem q3918 : (Jvm.Cond.code ({ cls := "PaperStoreModel", name := "cart", desc := "(I)I" } : Jvm.MethodName) prog_15_method_64_code (3 : Nat) (Option.some Jvm.ClassFile.FieldType.int)) ∈ lw_all := lw_g (lw_at lw_m16 219 rfl) rfl
theorem q3920 : (Jvm.Cond.instanceMethod ({ cls := "PaperStoreModel", name := "gather", desc := "(III)I" } : Jvm.MethodName)) ∈ lw_all := lw_g (lw_at lw_m16 221 rfl) rfl
theorem q3921 : (Jvm.Cond.selects "PaperStoreModel" ({ cls := "PaperStoreModel", name := "gather", desc := "(III)I" } : Jvm.MethodName) ({ cls := "PaperStoreModel", name := "gather", desc := "(III)I" } : Jvm.MethodName)) ∈ lw_all := lw_g (lw_at lw_m16 222 rfl) rfl
theorem q3922 : (Jvm.Cond.code ({ cls := "PaperStoreModel", name := "gather", desc := "(III)I" } : Jvm.MethodName) prog_15_method_67_code (4 : Nat) (Option.some Jvm.ClassFile.FieldType.int)) ∈ lw_all := lw_g (lw_at lw_m16 223 rfl) rfl
theorem q3923 : (Jvm.Cond.methodLink "PaperStoreModel" (196 : Nat) ({ cls := "PaperStoreModel", name := "gathers", desc := "(III)I" } : Jvm.MethodName)) ∈ lw_all := lw_g (lw_at lw_m16 224 rfl) rfl
theorem q3924 : (Jvm.Cond.privateMethod ({ cls := "PaperStoreModel", name := "gathers", desc := "(III)I" } : Jvm.MethodName)) ∈ lw_tbl := lw_at lw_m16 225 rfl
theorem q3925 : (Jvm.Cond.instanceMethod ({ cls := "PaperStoreModel", name := "gathers", desc := "(III)I" } : Jvm.MethodName)) ∈ lw_all := lw_g (lw_at lw_m16 226 rfl) rfl
theorem q3926 : (Jvm.Cond.code ({ cls := "PaperStoreModel", name := "gathers", desc := "(III)I" } : Jvm.MethodName) prog_15_method_66_code (8 : Nat) (Option.some Jvm.ClassFile.FieldType.int)) ∈ lw_all := lw_g (lw_at lw_m16 227 rfl) rfl
theorem q3927 : (Jvm.Cond.methodLink "PaperStoreModel" (186 : Nat) ({ cls := "PaperStoreModel", name := "isCart", desc := "(I)Z" } : Jvm.MethodName)) ∈ lw_all := lw_g (lw_at lw_m16 228 rfl) rfl
theorem q3928 : (Jvm.Cond.privateMethod ({ cls := "PaperStoreModel", name := "isCart", desc := "(I)Z" } : Jvm.MethodName)) ∈ lw_tbl := lw_at lw_m16 229 rfl
theorem q3929 : (Jvm.Cond.instanceMethod ({ cls := "PaperStoreModel", name := "isCart", desc := "(I)Z" } : Jvm.MethodName)) ∈ lw_all := lw_g (lw_at lw_m16 230 rfl) rfl
theorem q3930 : (Jvm.Cond.code ({ cls := "PaperStoreModel", name := "isCart", desc := "(I)Z" } : Jvm.MethodName) prog_15_method_54_code (2 : Nat) (Option.some Jvm.ClassFile.FieldType.boolean)) ∈ lw_all := lw_g (lw_at lw_m16 231 rfl) rfl
theorem q3931 : (Jvm.Cond.methodLink "PaperStoreModel" (189 : Nat) ({ cls := "PaperStoreModel", name := "lacks", desc := "(I)I" } : Jvm.MethodName)) ∈ lw_all := lw_g (lw_at lw_m16 232 rfl) rfl
theorem q3932 : (Jvm.Cond.privateMethod ({ cls := "PaperStoreModel", name := "lacks", desc := "(I)I" } : Jvm.MethodName)) ∈ lw_tbl := lw_at lw_m16 233 rfl
theorem q3933 : (Jvm.Cond.instanceMethod ({ cls := "PaperStoreModel", name := "lacks", desc := "(I)I" } : Jvm.MethodName)) ∈ lw_all := lw_g (lw_at lw_m16 234 rfl) rfl
theorem q3934 : (Jvm.Cond.code ({ cls := "PaperStoreModel", name := "lacks", desc := "(I)I" } : Jvm.MethodName) prog_15_method_59_code (3 : Nat) (Option.some Jvm.ClassFile.FieldType.int)) ∈ lw_all := lw_g (lw_at lw_m16 235 rfl) rfl
theorem q3935 : (Jvm.Cond.methodLink "PaperStoreModel" (192 : Nat) ({ cls := "PaperStoreModel", name := "quiresFor", desc := "(IIIZ)I" } : Jvm.MethodName)) ∈ lw_all := lw_g (lw_at lw_m16 236 rfl) rfl
theorem q3936 : (Jvm.Cond.privateMethod ({ cls := "PaperStoreModel", name := "quiresFor", desc := "(IIIZ)I" } : Jvm.MethodName)) ∈ lw_tbl := lw_at lw_m16 237 rfl
theorem q3937 : (Jvm.Cond.instanceMethod ({ cls := "PaperStoreModel", name := "quiresFor", desc := "(IIIZ)I" } : Jvm.MethodName)) ∈ lw_all := lw_g (lw_at lw_m16 238 rfl) rfl
theorem q3938 : (Jvm.Cond.code ({ cls := "PaperStoreModel", name := "quiresFor", desc := "(IIIZ)I" } : Jvm.MethodName) prog_15_method_65_code (10 : Nat) (Option.some Jvm.ClassFile.FieldType.int)) ∈ lw_all := lw_g (lw_at lw_m16 239 rfl) rfl
theorem q3940 : (Jvm.Cond.instanceMethod ({ cls := "PaperStoreModel", name := "send", desc := "(I)I" } : Jvm.MethodName)) ∈ lw_all := lw_g (lw_at lw_m17 1 rfl) rfl
theorem q3941 : (Jvm.Cond.selects "PaperStoreModel" ({ cls := "PaperStoreModel", name := "send", desc := "(I)I" } : Jvm.MethodName) ({ cls := "PaperStoreModel", name := "send", desc := "(I)I" } : Jvm.MethodName)) ∈ lw_all := lw_g (lw_at lw_m17 2 rfl) rfl
theorem q3942 : (Jvm.Cond.code ({ cls := "PaperStoreModel", name := "send", desc := "(I)I" } : Jvm.MethodName) prog_15_method_69_code (2 : Nat) (Option.some Jvm.ClassFile.FieldType.int)) ∈ lw_all := lw_g (lw_at lw_m17 3 rfl) rfl
theorem q3943 : (Jvm.Cond.methodLink "PaperStoreModel" (199 : Nat) ({ cls := "PaperStoreModel", name := "sends", desc := "(I)I" } : Jvm.MethodName)) ∈ lw_all := lw_g (lw_at lw_m17 4 rfl) rfl
theorem q3944 : (Jvm.Cond.privateMethod ({ cls := "PaperStoreModel", name := "sends", desc := "(I)I" } : Jvm.MethodName)) ∈ lw_tbl := lw_at lw_m17 5 rfl
theorem q3945 : (Jvm.Cond.instanceMethod ({ cls := "PaperStoreModel", name := "sends", desc := "(I)I" } : Jvm.MethodName)) ∈ lw_all := lw_g (lw_at lw_m17 6 rfl) rfl
theorem q3946 : (Jvm.Cond.code ({ cls := "PaperStoreModel", name := "sends", desc := "(I)I" } : Jvm.MethodName) prog_15_method_68_code (3 : Nat) (Option.some Jvm.ClassFile.FieldType.int)) ∈ lw_all := lw_g (lw_at lw_m17 7 rfl) rfl
theorem q3948 : (Jvm.Cond.instanceMethod ({ cls := "PaperStoreModel", name := "orderOf", desc := "(II)I" } : Jvm.MethodName)) ∈ lw_all := lw_g (lw_at lw_m17 9 rfl) rfl
theorem q3949 : (Jvm.Cond.selects "PaperStoreModel" ({ cls := "PaperStoreModel", name := "orderOf", desc := "(II)I" } : Jvm.MethodName) ({ cls := "PaperStoreModel", name := "orderOf", desc := "(II)I" } : Jvm.MethodName)) ∈ lw_all := lw_g (lw_at lw_m17 10 rfl) rfl
theorem q3950 : (Jvm.Cond.code ({ cls := "PaperStoreModel", name := "orderOf", desc := "(II)I" } : Jvm.MethodName) prog_15_method_70_code (4 : Nat) (Option.some Jvm.ClassFile.FieldType.int)) ∈ lw_all := lw_g (lw_at lw_m17 11 rfl) rfl
theorem q3952 : (Jvm.Cond.instanceMethod ({ cls := "PaperStoreModel", name := "lacking", desc := "(I)I" } : Jvm.MethodName)) ∈ lw_all := lw_g (lw_at lw_m17 13 rfl) rfl
theorem q3953 : (Jvm.Cond.selects "PaperStoreModel" ({ cls := "PaperStoreModel", name := "lacking", desc := "(I)I" } : Jvm.MethodName) ({ cls := "PaperStoreModel", name := "lacking", desc := "(I)I" } : Jvm.MethodName)) ∈ lw_all := lw_g (lw_at lw_m17 14 rfl) rfl
theorem q3954 : (Jvm.Cond.code ({ cls := "PaperStoreModel", name := "lacking", desc := "(I)I" } : Jvm.MethodName) prog_15_method_72_code (2 : Nat) (Option.some Jvm.ClassFile.FieldType.int)) ∈ lw_all := lw_g (lw_at lw_m17 15 rfl) rfl
theorem q3955 : (Jvm.Cond.methodLink "PaperStoreModel" (202 : Nat) ({ cls := "PaperStoreModel", name := "stockOf", desc := "(IIZ)I" } : Jvm.MethodName)) ∈ lw_all := lw_g (lw_at lw_m17 16 rfl) rfl
theorem q3956 : (Jvm.Cond.privateMethod ({ cls := "PaperStoreModel", name := "stockOf", desc := "(IIZ)I" } : Jvm.MethodName)) ∈ lw_tbl := lw_at lw_m17 17 rfl
theorem q3957 : (Jvm.Cond.instanceMethod ({ cls := "PaperStoreModel", name := "stockOf", desc := "(IIZ)I" } : Jvm.MethodName)) ∈ lw_all := lw_g (lw_at lw_m17 18 rfl) rfl
theorem q3958 : (Jvm.Cond.code ({ cls := "PaperStoreModel", name := "stockOf", desc := "(IIZ)I" } : Jvm.MethodName) prog_15_method_71_code (6 : Nat) (Option.some Jvm.ClassFile.FieldType.int)) ∈ lw_all := lw_g (lw_at lw_m17 19 rfl) rfl
theorem q3960 : (Jvm.Cond.instanceMethod ({ cls := "PaperStoreModel", name := "bestLadder", desc := "(I)I" } : Jvm.MethodName)) ∈ lw_all := lw_g (lw_at lw_m17 21 rfl) rfl
theorem q3961 : (Jvm.Cond.selects "PaperStoreModel" ({ cls := "PaperStoreModel", name := "bestLadder", desc := "(I)I" } : Jvm.MethodName) ({ cls := "PaperStoreModel", name := "bestLadder", desc := "(I)I" } : Jvm.MethodName)) ∈ lw_all := lw_g (lw_at lw_m17 22 rfl) rfl
theorem q3962 : (Jvm.Cond.code ({ cls := "PaperStoreModel", name := "bestLadder", desc := "(I)I" } : Jvm.MethodName) prog_15_method_73_code (6 : Nat) (Option.some Jvm.ClassFile.FieldType.int)) ∈ lw_all := lw_g (lw_at lw_m17 23 rfl) rfl
theorem q3964 : (Jvm.Cond.instanceMethod ({ cls := "PaperStoreModel", name := "cartOf", desc := "(II)I" } : Jvm.MethodName)) ∈ lw_all := lw_g (lw_at lw_m17 25 rfl) rfl
theorem q3965 : (Jvm.Cond.selects "PaperStoreModel" ({ cls := "PaperStoreModel", name := "cartOf", desc := "(II)I" } : Jvm.MethodName) ({ cls := "PaperStoreModel", name := "cartOf", desc := "(II)I" } : Jvm.MethodName)) ∈ lw_all := lw_g (lw_at lw_m17 26 rfl) rfl
theorem q3966 : (Jvm.Cond.code ({ cls := "PaperStoreModel", name := "cartOf", desc := "(II)I" } : Jvm.MethodName) prog_15_method_74_code (3 : Nat) (Option.some Jvm.ClassFile.FieldType.int)) ∈ lw_all := lw_g (lw_at lw_m17 27 rfl) rfl
theorem q3968 : (Jvm.Cond.instanceMethod ({ cls := "PaperStoreModel", name := "stock", desc := "(IIZ)I" } : Jvm.MethodName)) ∈ lw_all := lw_g (lw_at lw_m17 29 rfl) rfl
theorem q3969 : (Jvm.Cond.selects "PaperStoreModel" ({ cls := "PaperStoreModel", name := "stock", desc := "(IIZ)I" } : Jvm.MethodName) ({ cls := "PaperStoreModel", name := "stock", desc := "(IIZ)I" } : Jvm.MethodName)) ∈ lw_all := lw_g (lw_at lw_m17 30 rfl) rfl
theorem q3970 : (Jvm.Cond.code ({ cls := "PaperStoreModel", name := "stock", desc := "(IIZ)I" } : Jvm.MethodName) prog_15_method_75_code (4 : Nat) (Option.some Jvm.ClassFile.FieldType.int)) ∈ lw_all := lw_g (lw_at lw_m17 31 rfl) rfl
theorem q3972 : (Jvm.Cond.instanceMethod ({ cls := "PaperStoreModel", name := "sent", desc := "(II)I" } : Jvm.MethodName)) ∈ lw_all := lw_g (lw_at lw_m17 33 rfl) rfl
theorem q3973 : (Jvm.Cond.selects "PaperStoreModel" ({ cls := "PaperStoreModel", name := "sent", desc := "(II)I" } : Jvm.MethodName) ({ cls := "PaperStoreModel", name := "sent", desc := "(II)I" } : Jvm.MethodName)) ∈ lw_all := lw_g (lw_at lw_m17 34 rfl) rfl
theorem q3974 : (Jvm.Cond.code ({ cls := "PaperStoreModel", name := "sent", desc := "(II)I" } : Jvm.MethodName) prog_15_method_76_code (3 : Nat) (Option.some Jvm.ClassFile.FieldType.int)) ∈ lw_all := lw_g (lw_at lw_m17 35 rfl) rfl
theorem q3976 : (Jvm.Cond.instanceMethod ({ cls := "PaperStoreModel", name := "bestPaper", desc := "()I" } : Jvm.MethodName)) ∈ lw_all := lw_g (lw_at lw_m17 37 rfl) rfl
theorem q3977 : (Jvm.Cond.selects "PaperStoreModel" ({ cls := "PaperStoreModel", name := "bestPaper", desc := "()I" } : Jvm.MethodName) ({ cls := "PaperStoreModel", name := "bestPaper", desc := "()I" } : Jvm.MethodName)) ∈ lw_all := lw_g (lw_at lw_m17 38 rfl) rfl
theorem q3978 : (Jvm.Cond.code ({ cls := "PaperStoreModel", name := "bestPaper", desc := "()I" } : Jvm.MethodName) prog_15_method_77_code (3 : Nat) (Option.some Jvm.ClassFile.FieldType.int)) ∈ lw_all := lw_g (lw_at lw_m17 39 rfl) rfl
theorem q3980 : (Jvm.Cond.instanceMethod ({ cls := "PaperStoreModel", name := "papers", desc := "()I" } : Jvm.MethodName)) ∈ lw_all := lw_g (lw_at lw_m17 41 rfl) rfl
theorem q3981 : (Jvm.Cond.selects "PaperStoreModel" ({ cls := "PaperStoreModel", name := "papers", desc := "()I" } : Jvm.MethodName) ({ cls := "PaperStoreModel", name := "papers", desc := "()I" } : Jvm.MethodName)) ∈ lw_all := lw_g (lw_at lw_m17 42 rfl) rfl
theorem q3982 : (Jvm.Cond.code ({ cls := "PaperStoreModel", name := "papers", desc := "()I" } : Jvm.MethodName) prog_15_method_78_code (3 : Nat) (Option.some Jvm.ClassFile.FieldType.int)) ∈ lw_all := lw_g (lw_at lw_m17 43 rfl) rfl
theorem q3984 : (Jvm.Cond.instanceMethod ({ cls := "PaperStoreModel", name := "days", desc := "(I)I" } : Jvm.MethodName)) ∈ lw_all := lw_g (lw_at lw_m17 45 rfl) rfl
theorem q3985 : (Jvm.Cond.selects "PaperStoreModel" ({ cls := "PaperStoreModel", name := "days", desc := "(I)I" } : Jvm.MethodName) ({ cls := "PaperStoreModel", name := "days", desc := "(I)I" } : Jvm.MethodName)) ∈ lw_all := lw_g (lw_at lw_m17 46 rfl) rfl
theorem q3986 : (Jvm.Cond.code ({ cls := "PaperStoreModel", name := "days", desc := "(I)I" } : Jvm.MethodName) prog_15_method_80_code (2 : Nat) (Option.some Jvm.ClassFile.FieldType.int)) ∈ lw_all := lw_g (lw_at lw_m17 47 rfl) rfl
theorem q3987 : (Jvm.Cond.methodLink "PaperStoreModel" (206 : Nat) ({ cls := "PaperStoreModel", name := "passes", desc := "(I)I" } : Jvm.MethodName)) ∈ lw_all := lw_g (lw_at lw_m17 48 rfl) rfl
theorem q3988 : (Jvm.Cond.privateMethod ({ cls := "PaperStoreModel", name := "passes", desc := "(I)I" } : Jvm.MethodName)) ∈ lw_tbl := lw_at lw_m17 49 rfl
theorem q3989 : (Jvm.Cond.instanceMethod ({ cls := "PaperStoreModel", name := "passes", desc := "(I)I" } : Jvm.MethodName)) ∈ lw_all := lw_g (lw_at lw_m17 50 rfl) rfl
theorem q3990 : (Jvm.Cond.code ({ cls := "PaperStoreModel", name := "passes", desc := "(I)I" } : Jvm.MethodName) prog_15_method_79_code (3 : Nat) (Option.some Jvm.ClassFile.FieldType.int)) ∈ lw_all := lw_g (lw_at lw_m17 51 rfl) rfl
theorem q3992 : (Jvm.Cond.instanceMethod ({ cls := "PaperStoreModel", name := "tell", desc := "(I)I" } : Jvm.MethodName)) ∈ lw_all := lw_g (lw_at lw_m17 53 rfl) rfl
theorem q3993 : (Jvm.Cond.selects "PaperStoreModel" ({ cls := "PaperStoreModel", name := "tell", desc := "(I)I" } : Jvm.MethodName) ({ cls := "PaperStoreModel", name := "tell", desc := "(I)I" } : Jvm.MethodName)) ∈ lw_all := lw_g (lw_at lw_m17 54 rfl) rfl
theorem q3994 : (Jvm.Cond.code ({ cls := "PaperStoreModel", name := "tell", desc := "(I)I" } : Jvm.MethodName) prog_15_method_83_code (5 : Nat) (Option.some Jvm.ClassFile.FieldType.int)) ∈ lw_all := lw_g (lw_at lw_m17 55 rfl) rfl
theorem q3995 : (Jvm.Cond.methodLink "PaperStoreModel" (212 : Nat) ({ cls := "PaperStoreModel", name := "writes", desc := "(I)V" } : Jvm.MethodName)) ∈ lw_all := lw_g (lw_at lw_m17 56 rfl) rfl
theorem q3996 : (Jvm.Cond.privateMethod ({ cls := "PaperStoreModel", name := "writes", desc := "(I)V" } : Jvm.MethodName)) ∈ lw_tbl := lw_at lw_m17 57 rfl
theorem q3997 : (Jvm.Cond.instanceMethod ({ cls := "PaperStoreModel", name := "writes", desc := "(I)V" } : Jvm.MethodName)) ∈ lw_all := lw_g (lw_at lw_m17 58 rfl) rfl
theorem q3998 : (Jvm.Cond.code ({ cls := "PaperStoreModel", name := "writes", desc := "(I)V" } : Jvm.MethodName) prog_15_method_81_code (2 : Nat) (Option.none : Option Jvm.ClassFile.FieldType)) ∈ lw_all := lw_g (lw_at lw_m17 59 rfl) rfl
theorem q3999 : (Jvm.Cond.methodLink "PaperStoreModel" (215 : Nat) ({ cls := "PaperStoreModel", name := "writesReam", desc := "(I)V" } : Jvm.MethodName)) ∈ lw_all := lw_g (lw_at lw_m17 60 rfl) rfl
theorem q4000 : (Jvm.Cond.privateMethod ({ cls := "PaperStoreModel", name := "writesReam", desc := "(I)V" } : Jvm.MethodName)) ∈ lw_tbl := lw_at lw_m17 61 rfl
theorem q4001 : (Jvm.Cond.instanceMethod ({ cls := "PaperStoreModel", name := "writesReam", desc := "(I)V" } : Jvm.MethodName)) ∈ lw_all := lw_g (lw_at lw_m17 62 rfl) rfl
theorem q4002 : (Jvm.Cond.code ({ cls := "PaperStoreModel", name := "writesReam", desc := "(I)V" } : Jvm.MethodName) prog_15_method_82_code (2 : Nat) (Option.none : Option Jvm.ClassFile.FieldType)) ∈ lw_all := lw_g (lw_at lw_m17 63 rfl) rfl
theorem q4004 : (Jvm.Cond.instanceMethod ({ cls := "PaperStoreModel", name := "character", desc := "(I)C" } : Jvm.MethodName)) ∈ lw_all := lw_g (lw_at lw_m17 65 rfl) rfl
theorem q4005 : (Jvm.Cond.selects "PaperStoreModel" ({ cls := "PaperStoreModel", name := "character", desc := "(I)C" } : Jvm.MethodName) ({ cls := "PaperStoreModel", name := "character", desc := "(I)C" } : Jvm.MethodName)) ∈ lw_all := lw_g (lw_at lw_m17 66 rfl) rfl
theorem q4006 : (Jvm.Cond.code ({ cls := "PaperStoreModel", name := "character", desc := "(I)C" } : Jvm.MethodName) prog_15_method_84_code (2 : Nat) (Option.some Jvm.ClassFile.FieldType.char)) ∈ lw_all := lw_g (lw_at lw_m17 67 rfl) rfl
theorem q4008 : (Jvm.Cond.instanceMethod ({ cls := "PaperStoreModel", name := "meanDamp", desc := "()F" } : Jvm.MethodName)) ∈ lw_all := lw_g (lw_at lw_m17 69 rfl) rfl
theorem q4009 : (Jvm.Cond.selects "PaperStoreModel" ({ cls := "PaperStoreModel", name := "meanDamp", desc := "()F" } : Jvm.MethodName) ({ cls := "PaperStoreModel", name := "meanDamp", desc := "()F" } : Jvm.MethodName)) ∈ lw_all := lw_g (lw_at lw_m17 70 rfl) rfl
theorem q4010 : (Jvm.Cond.code ({ cls := "PaperStoreModel", name := "meanDamp", desc := "()F" } : Jvm.MethodName) prog_15_method_88_code (3 : Nat) (Option.some Jvm.ClassFile.FieldType.float)) ∈ lw_all := lw_g (lw_at lw_m17 71 rfl) rfl
theorem q4011 : (Jvm.Cond.methodLink "PaperStoreModel" (218 : Nat) ({ cls := "PaperStoreModel", name := "onShelves", desc := "()I" } : Jvm.MethodName)) ∈ lw_all := lw_g (lw_at lw_m17 72 rfl) rfl
theorem q4012 : (Jvm.Cond.privateMethod ({ cls := "PaperStoreModel", name := "onShelves", desc := "()I" } : Jvm.MethodName)) ∈ lw_tbl := lw_at lw_m17 73 rfl
theorem q4013 : (Jvm.Cond.instanceMethod ({ cls := "PaperStoreModel", name := "onShelves", desc := "()I" } : Jvm.MethodName)) ∈ lw_all := lw_g (lw_at lw_m17 74 rfl) rfl
theorem q4014 : (Jvm.Cond.code ({ cls := "PaperStoreModel", name := "onShelves", desc := "()I" } : Jvm.MethodName) prog_15_method_85_code (3 : Nat) (Option.some Jvm.ClassFile.FieldType.int)) ∈ lw_all := lw_g (lw_at lw_m17 75 rfl) rfl
theorem q4016 : (Jvm.Cond.instanceMethod ({ cls := "PaperStoreModel", name := "eatenShare", desc := "()D" } : Jvm.MethodName)) ∈ lw_all := lw_g (lw_at lw_m17 77 rfl) rfl
theorem q4017 : (Jvm.Cond.selects "PaperStoreModel" ({ cls := "PaperStoreModel", name := "eatenShare", desc := "()D" } : Jvm.MethodName) ({ cls := "PaperStoreModel", name := "eatenShare", desc := "()D" } : Jvm.MethodName)) ∈ lw_all := lw_g (lw_at lw_m17 78 rfl) rfl
theorem q4018 : (Jvm.Cond.code ({ cls := "PaperStoreModel", name := "eatenShare", desc := "()D" } : Jvm.MethodName) prog_15_method_89_code (1 : Nat) (Option.some Jvm.ClassFile.FieldType.double)) ∈ lw_all := lw_g (lw_at lw_m17 79 rfl) rfl
theorem q4020 : (Jvm.Cond.instanceMethod ({ cls := "PaperStoreModel", name := "account", desc := "(I)I" } : Jvm.MethodName)) ∈ lw_all := lw_g (lw_at lw_m17 81 rfl) rfl
theorem q4021 : (Jvm.Cond.selects "PaperStoreModel" ({ cls := "PaperStoreModel", name := "account", desc := "(I)I" } : Jvm.MethodName) ({ cls := "PaperStoreModel", name := "account", desc := "(I)I" } : Jvm.MethodName)) ∈ lw_all := lw_g (lw_at lw_m17 82 rfl) rfl
theorem q4022 : (Jvm.Cond.code ({ cls := "PaperStoreModel", name := "account", desc := "(I)I" } : Jvm.MethodName) prog_15_method_94_code (2 : Nat) (Option.some Jvm.ClassFile.FieldType.int)) ∈ lw_all := lw_g (lw_at lw_m17 83 rfl) rfl
theorem q4023 : (Jvm.Cond.methodLink "PaperStoreModel" (221 : Nat) ({ cls := "PaperStoreModel", name := "quires", desc := "()I" } : Jvm.MethodName)) ∈ lw_all := lw_g (lw_at lw_m17 84 rfl) rfl
theorem q4024 : (Jvm.Cond.privateMethod ({ cls := "PaperStoreModel", name := "quires", desc := "()I" } : Jvm.MethodName)) ∈ lw_tbl := lw_at lw_m17 85 rfl
theorem q4025 : (Jvm.Cond.instanceMethod ({ cls := "PaperStoreModel", name := "quires", desc := "()I" } : Jvm.MethodName)) ∈ lw_all := lw_g (lw_at lw_m17 86 rfl) rfl
theorem q4026 : (Jvm.Cond.code ({ cls := "PaperStoreModel", name := "quires", desc := "()I" } : Jvm.MethodName) prog_15_method_87_code (3 : Nat) (Option.some Jvm.ClassFile.FieldType.int)) ∈ lw_all := lw_g (lw_at lw_m17 87 rfl) rfl
theorem q4027 : (Jvm.Cond.methodLink "PaperStoreModel" (224 : Nat) ({ cls := "PaperStoreModel", name := "wavy", desc := "()I" } : Jvm.MethodName)) ∈ lw_all := lw_g (lw_at lw_m17 88 rfl) rfl
theorem q4028 : (Jvm.Cond.privateMethod ({ cls := "PaperStoreModel", name := "wavy", desc := "()I" } : Jvm.MethodName)) ∈ lw_tbl := lw_at lw_m17 89 rfl
theorem q4029 : (Jvm.Cond.instanceMethod ({ cls := "PaperStoreModel", name := "wavy", desc := "()I" } : Jvm.MethodName)) ∈ lw_all := lw_g (lw_at lw_m17 90 rfl) rfl
theorem q4030 : (Jvm.Cond.code ({ cls := "PaperStoreModel", name := "wavy", desc := "()I" } : Jvm.MethodName) prog_15_method_86_code (3 : Nat) (Option.some Jvm.ClassFile.FieldType.int)) ∈ lw_all := lw_g (lw_at lw_m17 91 rfl) rfl
theorem q4031 : (Jvm.Cond.methodLink "PaperStoreModel" (227 : Nat) ({ cls := "PaperStoreModel", name := "onCarts", desc := "()I" } : Jvm.MethodName)) ∈ lw_all := lw_g (lw_at lw_m17 92 rfl) rfl
theorem q4032 : (Jvm.Cond.privateMethod ({ cls := "PaperStoreModel", name := "onCarts", desc := "()I" } : Jvm.MethodName)) ∈ lw_tbl := lw_at lw_m17 93 rfl
theorem q4033 : (Jvm.Cond.instanceMethod ({ cls := "PaperStoreModel", name := "onCarts", desc := "()I" } : Jvm.MethodName)) ∈ lw_all := lw_g (lw_at lw_m17 94 rfl) rfl
theorem q4034 : (Jvm.Cond.code ({ cls := "PaperStoreModel", name := "onCarts", desc := "()I" } : Jvm.MethodName) prog_15_method_90_code (3 : Nat) (Option.some Jvm.ClassFile.FieldType.int)) ∈ lw_all := lw_g (lw_at lw_m17 95 rfl) rfl
theorem q4035 : (Jvm.Cond.methodLink "PaperStoreModel" (230 : Nat) ({ cls := "PaperStoreModel", name := "sentInAll", desc := "()I" } : Jvm.MethodName)) ∈ lw_all := lw_g (lw_at lw_m17 96 rfl) rfl
theorem q4036 : (Jvm.Cond.privateMethod ({ cls := "PaperStoreModel", name := "sentInAll", desc := "()I" } : Jvm.MethodName)) ∈ lw_tbl := lw_at lw_m17 97 rfl
theorem q4037 : (Jvm.Cond.instanceMethod ({ cls := "PaperStoreModel", name := "sentInAll", desc := "()I" } : Jvm.MethodName)) ∈ lw_all := lw_g (lw_at lw_m17 98 rfl) rfl
theorem q4038 : (Jvm.Cond.code ({ cls := "PaperStoreModel", name := "sentInAll", desc := "()I" } : Jvm.MethodName) prog_15_method_91_code (3 : Nat) (Option.some Jvm.ClassFile.FieldType.int)) ∈ lw_all := lw_g (lw_at lw_m17 99 rfl) rfl
theorem q4039 : (Jvm.Cond.methodLink "PaperStoreModel" (233 : Nat) ({ cls := "PaperStoreModel", name := "ordersThat", desc := "(I)I" } : Jvm.MethodName)) ∈ lw_all := lw_g (lw_at lw_m17 100 rfl) rfl
theorem q4040 : (Jvm.Cond.privateMethod ({ cls := "PaperStoreModel", name := "ordersThat", desc := "(I)I" } : Jvm.MethodName)) ∈ lw_tbl := lw_at lw_m17 101 rfl
theorem q4041 : (Jvm.Cond.instanceMethod ({ cls := "PaperStoreModel", name := "ordersThat", desc := "(I)I" } : Jvm.MethodName)) ∈ lw_all := lw_g (lw_at lw_m17 102 rfl) rfl
theorem q4042 : (Jvm.Cond.code ({ cls := "PaperStoreModel", name := "ordersThat", desc := "(I)I" } : Jvm.MethodName) prog_15_method_92_code (4 : Nat) (Option.some Jvm.ClassFile.FieldType.int)) ∈ lw_all := lw_g (lw_at lw_m17 103 rfl) rfl
theorem q4043 : (Jvm.Cond.methodLink "PaperStoreModel" (236 : Nat) ({ cls := "PaperStoreModel", name := "miceInAll", desc := "()I" } : Jvm.MethodName)) ∈ lw_all := lw_g (lw_at lw_m17 104 rfl) rfl
theorem q4044 : (Jvm.Cond.privateMethod ({ cls := "PaperStoreModel", name := "miceInAll", desc := "()I" } : Jvm.MethodName)) ∈ lw_tbl := lw_at lw_m17 105 rfl
theorem q4045 : (Jvm.Cond.instanceMethod ({ cls := "PaperStoreModel", name := "miceInAll", desc := "()I" } : Jvm.MethodName)) ∈ lw_all := lw_g (lw_at lw_m17 106 rfl) rfl
theorem q4046 : (Jvm.Cond.code ({ cls := "PaperStoreModel", name := "miceInAll", desc := "()I" } : Jvm.MethodName) prog_15_method_93_code (3 : Nat) (Option.some Jvm.ClassFile.FieldType.int)) ∈ lw_all := lw_g (lw_at lw_m17 107 rfl) rfl
theorem q4048 : (Jvm.Cond.instanceMethod ({ cls := "PaperStoreModel", name := "quiresAgain", desc := "()I" } : Jvm.MethodName)) ∈ lw_all := lw_g (lw_at lw_m17 109 rfl) rfl
theorem q4049 : (Jvm.Cond.selects "PaperStoreModel" ({ cls := "PaperStoreModel", name := "quiresAgain", desc := "()I" } : Jvm.MethodName) ({ cls := "PaperStoreModel", name := "quiresAgain", desc := "()I" } : Jvm.MethodName)) ∈ lw_all := lw_g (lw_at lw_m17 110 rfl) rfl
theorem q4050 : (Jvm.Cond.code ({ cls := "PaperStoreModel", name := "quiresAgain", desc := "()I" } : Jvm.MethodName) prog_15_method_95_code (1 : Nat) (Option.some Jvm.ClassFile.FieldType.int)) ∈ lw_all := lw_g (lw_at lw_m17 111 rfl) rfl
theorem q4052 : (Jvm.Cond.instanceMethod ({ cls := "PaperStoreModel", name := "append", desc := "(C)I" } : Jvm.MethodName)) ∈ lw_all := lw_g (lw_at lw_m17 113 rfl) rfl
theorem q4053 : (Jvm.Cond.selects "PaperStoreModel" ({ cls := "PaperStoreModel", name := "append", desc := "(C)I" } : Jvm.MethodName) ({ cls := "PaperStoreModel", name := "append", desc := "(C)I" } : Jvm.MethodName)) ∈ lw_all := lw_g (lw_at lw_m17 114 rfl) rfl
theorem q4054 : (Jvm.Cond.code ({ cls := "PaperStoreModel", name := "append", desc := "(C)I" } : Jvm.MethodName) prog_15_method_96_code (2 : Nat) (Option.some Jvm.ClassFile.FieldType.int)) ∈ lw_all := lw_g (lw_at lw_m17 115 rfl) rfl
theorem q4056 : (Jvm.Cond.instanceMethod ({ cls := "PaperStoreModel", name := "read", desc := "()I" } : Jvm.MethodName)) ∈ lw_all := lw_g (lw_at lw_m17 117 rfl) rfl
theorem q4057 : (Jvm.Cond.selects "PaperStoreModel" ({ cls := "PaperStoreModel", name := "read", desc := "()I" } : Jvm.MethodName) ({ cls := "PaperStoreModel", name := "read", desc := "()I" } : Jvm.MethodName)) ∈ lw_all := lw_g (lw_at lw_m17 118 rfl) rfl
theorem q4058 : (Jvm.Cond.code ({ cls := "PaperStoreModel", name := "read", desc := "()I" } : Jvm.MethodName) prog_15_method_105_code (3 : Nat) (Option.some Jvm.ClassFile.FieldType.int)) ∈ lw_all := lw_g (lw_at lw_m17 119 rfl) rfl
theorem q4059 : (Jvm.Cond.methodLink "PaperStoreModel" (269 : Nat) ({ cls := "PaperStoreModel", name := "parse", desc := "()V" } : Jvm.MethodName)) ∈ lw_all := lw_g (lw_at lw_m17 120 rfl) rfl
theorem q4060 : (Jvm.Cond.privateMethod ({ cls := "PaperStoreModel", name := "parse", desc := "()V" } : Jvm.MethodName)) ∈ lw_tbl := lw_at lw_m17 121 rfl
theorem q4061 : (Jvm.Cond.instanceMethod ({ cls := "PaperStoreModel", name := "parse", desc := "()V" } : Jvm.MethodName)) ∈ lw_all := lw_g (lw_at lw_m17 122 rfl) rfl
theorem q4062 : (Jvm.Cond.code ({ cls := "PaperStoreModel", name := "parse", desc := "()V" } : Jvm.MethodName) prog_15_method_103_code (1 : Nat) (Option.none : Option Jvm.ClassFile.FieldType)) ∈ lw_all := lw_g (lw_at lw_m17 123 rfl) rfl
theorem q4063 : (Jvm.Cond.methodLink "PaperStoreModel" (266 : Nat) ({ cls := "PaperStoreModel", name := "command", desc := "()V" } : Jvm.MethodName)) ∈ lw_all := lw_g (lw_at lw_m17 124 rfl) rfl
theorem q4064 : (Jvm.Cond.privateMethod ({ cls := "PaperStoreModel", name := "command", desc := "()V" } : Jvm.MethodName)) ∈ lw_tbl := lw_at lw_m17 125 rfl
theorem q4065 : (Jvm.Cond.instanceMethod ({ cls := "PaperStoreModel", name := "command", desc := "()V" } : Jvm.MethodName)) ∈ lw_all := lw_g (lw_at lw_m17 126 rfl) rfl
theorem q4066 : (Jvm.Cond.code ({ cls := "PaperStoreModel", name := "command", desc := "()V" } : Jvm.MethodName) prog_15_method_102_code (3 : Nat) (Option.none : Option Jvm.ClassFile.FieldType)) ∈ lw_all := lw_g (lw_at lw_m17 127 rfl) rfl
theorem q4067 : (Jvm.Cond.methodLink "PaperStoreModel" (260 : Nat) ({ cls := "PaperStoreModel", name := "word", desc := "()I" } : Jvm.MethodName)) ∈ lw_all := lw_g (lw_at lw_m17 128 rfl) rfl
theorem q4068 : (Jvm.Cond.privateMethod ({ cls := "PaperStoreModel", name := "word", desc := "()I" } : Jvm.MethodName)) ∈ lw_tbl := lw_at lw_m17 129 rfl
theorem q4069 : (Jvm.Cond.instanceMethod ({ cls := "PaperStoreModel", name := "word", desc := "()I" } : Jvm.MethodName)) ∈ lw_all := lw_g (lw_at lw_m17 130 rfl) rfl
theorem q4070 : (Jvm.Cond.code ({ cls := "PaperStoreModel", name := "word", desc := "()I" } : Jvm.MethodName) prog_15_method_101_code (2 : Nat) (Option.some Jvm.ClassFile.FieldType.int)) ∈ lw_all := lw_g (lw_at lw_m17 131 rfl) rfl
theorem q4071 : (Jvm.Cond.methodLink "PaperStoreModel" (248 : Nat) ({ cls := "PaperStoreModel", name := "sign", desc := "()I" } : Jvm.MethodName)) ∈ lw_all := lw_g (lw_at lw_m17 132 rfl) rfl
theorem q4072 : (Jvm.Cond.privateMethod ({ cls := "PaperStoreModel", name := "sign", desc := "()I" } : Jvm.MethodName)) ∈ lw_tbl := lw_at lw_m17 133 rfl
theorem q4073 : (Jvm.Cond.instanceMethod ({ cls := "PaperStoreModel", name := "sign", desc := "()I" } : Jvm.MethodName)) ∈ lw_all := lw_g (lw_at lw_m17 134 rfl) rfl
theorem q4074 : (Jvm.Cond.code ({ cls := "PaperStoreModel", name := "sign", desc := "()I" } : Jvm.MethodName) prog_15_method_97_code (1 : Nat) (Option.some Jvm.ClassFile.FieldType.int)) ∈ lw_all := lw_g (lw_at lw_m17 135 rfl) rfl
theorem q4075 : (Jvm.Cond.methodLink "PaperStoreModel" (254 : Nat) ({ cls := "PaperStoreModel", name := "letters", desc := "(III)V" } : Jvm.MethodName)) ∈ lw_all := lw_g (lw_at lw_m17 136 rfl) rfl
theorem q4076 : (Jvm.Cond.privateMethod ({ cls := "PaperStoreModel", name := "letters", desc := "(III)V" } : Jvm.MethodName)) ∈ lw_tbl := lw_at lw_m17 137 rfl
theorem q4077 : (Jvm.Cond.instanceMethod ({ cls := "PaperStoreModel", name := "letters", desc := "(III)V" } : Jvm.MethodName)) ∈ lw_all := lw_g (lw_at lw_m17 138 rfl) rfl
theorem q4078 : (Jvm.Cond.code ({ cls := "PaperStoreModel", name := "letters", desc := "(III)V" } : Jvm.MethodName) prog_15_method_100_code (4 : Nat) (Option.none : Option Jvm.ClassFile.FieldType)) ∈ lw_all := lw_g (lw_at lw_m17 139 rfl) rfl
theorem q4079 : (Jvm.Cond.methodLink "PaperStoreModel" (251 : Nat) ({ cls := "PaperStoreModel", name := "takes", desc := "(I)V" } : Jvm.MethodName)) ∈ lw_all := lw_g (lw_at lw_m17 140 rfl) rfl
theorem q4080 : (Jvm.Cond.privateMethod ({ cls := "PaperStoreModel", name := "takes", desc := "(I)V" } : Jvm.MethodName)) ∈ lw_tbl := lw_at lw_m17 141 rfl
theorem q4081 : (Jvm.Cond.instanceMethod ({ cls := "PaperStoreModel", name := "takes", desc := "(I)V" } : Jvm.MethodName)) ∈ lw_all := lw_g (lw_at lw_m17 142 rfl) rfl
theorem q4082 : (Jvm.Cond.code ({ cls := "PaperStoreModel", name := "takes", desc := "(I)V" } : Jvm.MethodName) prog_15_method_98_code (2 : Nat) (Option.none : Option Jvm.ClassFile.FieldType)) ∈ lw_all := lw_g (lw_at lw_m17 143 rfl) rfl
theorem q4083 : (Jvm.Cond.methodLink "PaperStoreModel" (263 : Nat) ({ cls := "PaperStoreModel", name := "number", desc := "()I" } : Jvm.MethodName)) ∈ lw_all := lw_g (lw_at lw_m17 144 rfl) rfl
theorem q4084 : (Jvm.Cond.privateMethod ({ cls := "PaperStoreModel", name := "number", desc := "()I" } : Jvm.MethodName)) ∈ lw_tbl := lw_at lw_m17 145 rfl
theorem q4085 : (Jvm.Cond.instanceMethod ({ cls := "PaperStoreModel", name := "number", desc := "()I" } : Jvm.MethodName)) ∈ lw_all := lw_g (lw_at lw_m17 146 rfl) rfl
theorem q4086 : (Jvm.Cond.code ({ cls := "PaperStoreModel", name := "number", desc := "()I" } : Jvm.MethodName) prog_15_method_99_code (3 : Nat) (Option.some Jvm.ClassFile.FieldType.int)) ∈ lw_all := lw_g (lw_at lw_m17 147 rfl) rfl
theorem q4087 : (Jvm.Cond.methodLink "PaperStoreModel" (272 : Nat) ({ cls := "PaperStoreModel", name := "does", desc := "(I)I" } : Jvm.MethodName)) ∈ lw_all := lw_g (lw_at lw_m17 148 rfl) rfl
theorem q4088 : (Jvm.Cond.privateMethod ({ cls := "PaperStoreModel", name := "does", desc := "(I)I" } : Jvm.MethodName)) ∈ lw_tbl := lw_at lw_m17 149 rfl
theorem q4089 : (Jvm.Cond.instanceMethod ({ cls := "PaperStoreModel", name := "does", desc := "(I)I" } : Jvm.MethodName)) ∈ lw_all := lw_g (lw_at lw_m17 150 rfl) rfl
theorem q4090 : (Jvm.Cond.code ({ cls := "PaperStoreModel", name := "does", desc := "(I)I" } : Jvm.MethodName) prog_15_method_104_code (4 : Nat) (Option.some Jvm.ClassFile.FieldType.int)) ∈ lw_all := lw_g (lw_at lw_m17 151 rfl) rfl
theorem q4092 : (Jvm.Cond.instanceMethod ({ cls := "PaperStoreModel", name := "errorPosition", desc := "()I" } : Jvm.MethodName)) ∈ lw_all := lw_g (lw_at lw_m17 153 rfl) rfl
theorem q4093 : (Jvm.Cond.selects "PaperStoreModel" ({ cls := "PaperStoreModel", name := "errorPosition", desc := "()I" } : Jvm.MethodName) ({ cls := "PaperStoreModel", name := "errorPosition", desc := "()I" } : Jvm.MethodName)) ∈ lw_all := lw_g (lw_at lw_m17 154 rfl) rfl
theorem q4094 : (Jvm.Cond.code ({ cls := "PaperStoreModel", name := "errorPosition", desc := "()I" } : Jvm.MethodName) prog_15_method_106_code (1 : Nat) (Option.some Jvm.ClassFile.FieldType.int)) ∈ lw_all := lw_g (lw_at lw_m17 155 rfl) rfl
theorem q4096 : (Jvm.Cond.instanceMethod ({ cls := "PaperStoreModel", name := "undo", desc := "()I" } : Jvm.MethodName)) ∈ lw_all := lw_g (lw_at lw_m17 157 rfl) rfl
theorem q4097 : (Jvm.Cond.selects "PaperStoreModel" ({ cls := "PaperStoreModel", name := "undo", desc := "()I" } : Jvm.MethodName) ({ cls := "PaperStoreModel", name := "undo", desc := "()I" } : Jvm.MethodName)) ∈ lw_all := lw_g (lw_at lw_m17 158 rfl) rfl
theorem q4098 : (Jvm.Cond.code ({ cls := "PaperStoreModel", name := "undo", desc := "()I" } : Jvm.MethodName) prog_15_method_107_code (1 : Nat) (Option.some Jvm.ClassFile.FieldType.int)) ∈ lw_all := lw_g (lw_at lw_m17 159 rfl) rfl
theorem q4100 : (Jvm.Cond.instanceMethod ({ cls := "PaperStoreModel", name := "save", desc := "()I" } : Jvm.MethodName)) ∈ lw_all := lw_g (lw_at lw_m17 161 rfl) rfl
theorem q4101 : (Jvm.Cond.selects "PaperStoreModel" ({ cls := "PaperStoreModel", name := "save", desc := "()I" } : Jvm.MethodName) ({ cls := "PaperStoreModel", name := "save", desc := "()I" } : Jvm.MethodName)) ∈ lw_all := lw_g (lw_at lw_m17 162 rfl) rfl
theorem q4102 : (Jvm.Cond.code ({ cls := "PaperStoreModel", name := "save", desc := "()I" } : Jvm.MethodName) prog_15_method_108_code (1 : Nat) (Option.some Jvm.ClassFile.FieldType.int)) ∈ lw_all := lw_g (lw_at lw_m17 163 rfl) rfl
theorem q4104 : (Jvm.Cond.instanceMethod ({ cls := "PaperStoreModel", name := "restore", desc := "()I" } : Jvm.MethodName)) ∈ lw_all := lw_g (lw_at lw_m17 165 rfl) rfl
theorem q4105 : (Jvm.Cond.selects "PaperStoreModel" ({ cls := "PaperStoreModel", name := "restore", desc := "()I" } : Jvm.MethodName) ({ cls := "PaperStoreModel", name := "restore", desc := "()I" } : Jvm.MethodName)) ∈ lw_all := lw_g (lw_at lw_m17 166 rfl) rfl
theorem q4106 : (Jvm.Cond.code ({ cls := "PaperStoreModel", name := "restore", desc := "()I" } : Jvm.MethodName) prog_15_method_109_code (1 : Nat) (Option.some Jvm.ClassFile.FieldType.int)) ∈ lw_all := lw_g (lw_at lw_m17 167 rfl) rfl
theorem q4160 : (Jvm.Cond.castable "PaperStoreModel" "java/lang/Object") ∈ lw_tbl := lw_at lw_m17 221 rfl
theorem in_X5 : ∀ w ∈ wsX50, w ∈ lw_all := lw_in wsX50 [3648, 3650, 3652, 3654, 3656, 3658, 3660, 3662, 3664, 3666, 3668, 3670, 3672, 3674, 3676, 3678] (by decide +kernel) (by decide +kernel)
