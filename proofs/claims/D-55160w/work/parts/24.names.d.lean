/-! java/lang/AbstractStringBuilder -/
set_option maxRecDepth 100000
def RJ5 : String := "java/lang/AbstractStringBuilder"
abbrev cJ5_init : ByteArray := prog_17_method_2_code
def yJ5_init : MethodName := ⟨RJ5, "<init>", "(I)V"⟩
def dkwJ5_init_1 : List UInt8 := [167, 0, 16, 42, 27, 184, 0, 26, 181, 0, 15, 42, 4, 181, 0, 22, 177]
abbrev dktJ5_init_1 : List UInt8 := dkwJ5_init_1 ++ []
def dkwJ5_init_0 : List UInt8 := [42, 183, 0, 3, 178, 0, 18, 153, 0, 18, 42, 27, 188, 8, 181, 0, 15, 42, 3, 181, 0, 22]
abbrev dktJ5_init_0 : List UInt8 := dkwJ5_init_0 ++ dktJ5_init_1
theorem dksJ5_init_0 : cJ5_init.data.toList.drop 0 = dktJ5_init_0 := by decide +kernel
theorem dksJ5_init_1 : cJ5_init.data.toList.drop 22 = dktJ5_init_1 := dk_seg dksJ5_init_0 22 rfl rfl
theorem dJ5_init_0 : decode cJ5_init 0 = .ok (.aload_n 0, 1) := dk_42 (dk_at dksJ5_init_0 0 rfl rfl)
theorem dJ5_init_1 : decode cJ5_init 1 = .ok (.invokespecial 3, 3) := dk_183 0 3 (dk_at dksJ5_init_0 1 rfl rfl)
theorem dJ5_init_4 : decode cJ5_init 4 = .ok (.getstatic 18, 3) := dk_178 0 18 (dk_at dksJ5_init_0 4 rfl rfl)
theorem dJ5_init_7 : decode cJ5_init 7 = .ok (.ifCond .eq 18, 3) := dk_153 0 18 (dk_at dksJ5_init_0 7 rfl rfl)
theorem dJ5_init_10 : decode cJ5_init 10 = .ok (.aload_n 0, 1) := dk_42 (dk_at dksJ5_init_0 10 rfl rfl)
theorem dJ5_init_11 : decode cJ5_init 11 = .ok (.iload_n 1, 1) := dk_27 (dk_at dksJ5_init_0 11 rfl rfl)
theorem dJ5_init_12 : decode cJ5_init 12 = .ok (.newarray .byte, 2) := dk_188_8 (dk_at dksJ5_init_0 12 rfl rfl)
theorem dJ5_init_14 : decode cJ5_init 14 = .ok (.putfield 15, 3) := dk_181 0 15 (dk_at dksJ5_init_0 14 rfl rfl)
theorem dJ5_init_17 : decode cJ5_init 17 = .ok (.aload_n 0, 1) := dk_42 (dk_at dksJ5_init_0 17 rfl rfl)
theorem dJ5_init_18 : decode cJ5_init 18 = .ok (.iconst 0, 1) := dk_3 (dk_at dksJ5_init_0 18 rfl rfl)
theorem dJ5_init_19 : decode cJ5_init 19 = .ok (.putfield 22, 3) := dk_181 0 22 (dk_at dksJ5_init_0 19 rfl rfl)
theorem dJ5_init_22 : decode cJ5_init 22 = .ok (.goto 16, 3) := dk_167 0 16 (dk_at dksJ5_init_1 0 rfl rfl)
theorem dJ5_init_25 : decode cJ5_init 25 = .ok (.aload_n 0, 1) := dk_42 (dk_at dksJ5_init_1 3 rfl rfl)
theorem dJ5_init_26 : decode cJ5_init 26 = .ok (.iload_n 1, 1) := dk_27 (dk_at dksJ5_init_1 4 rfl rfl)
theorem dJ5_init_27 : decode cJ5_init 27 = .ok (.invokestatic 26, 3) := dk_184 0 26 (dk_at dksJ5_init_1 5 rfl rfl)
theorem dJ5_init_30 : decode cJ5_init 30 = .ok (.putfield 15, 3) := dk_181 0 15 (dk_at dksJ5_init_1 8 rfl rfl)
theorem dJ5_init_33 : decode cJ5_init 33 = .ok (.aload_n 0, 1) := dk_42 (dk_at dksJ5_init_1 11 rfl rfl)
theorem dJ5_init_34 : decode cJ5_init 34 = .ok (.iconst 1, 1) := dk_4 (dk_at dksJ5_init_1 12 rfl rfl)
theorem dJ5_init_35 : decode cJ5_init 35 = .ok (.putfield 22, 3) := dk_181 0 22 (dk_at dksJ5_init_1 13 rfl rfl)
theorem dJ5_init_38 : decode cJ5_init 38 = .ok (.return_, 1) := dk_177 (dk_at dksJ5_init_1 16 rfl rfl)
abbrev cJ5_append : ByteArray := prog_17_method_22_code
def yJ5_append : MethodName := ⟨RJ5, "append", "(Ljava/lang/String;)Ljava/lang/AbstractStringBuilder;"⟩
def dkwJ5_append_1 : List UInt8 := [42, 42, 180, 0, 79, 43, 182, 0, 208, 42, 89, 180, 0, 79, 28, 96, 181, 0, 79, 42, 176]
abbrev dktJ5_append_1 : List UInt8 := dkwJ5_append_1 ++ []
def dkwJ5_append_0 : List UInt8 := [43, 199, 0, 8, 42, 182, 0, 204, 176, 43, 182, 0, 32, 61, 42, 42, 180, 0, 79, 28, 96, 182, 0, 100]
abbrev dktJ5_append_0 : List UInt8 := dkwJ5_append_0 ++ dktJ5_append_1
theorem dksJ5_append_0 : cJ5_append.data.toList.drop 0 = dktJ5_append_0 := by decide +kernel
theorem dksJ5_append_1 : cJ5_append.data.toList.drop 24 = dktJ5_append_1 := dk_seg dksJ5_append_0 24 rfl rfl
theorem dJ5_append_0 : decode cJ5_append 0 = .ok (.aload_n 1, 1) := dk_43 (dk_at dksJ5_append_0 0 rfl rfl)
theorem dJ5_append_1 : decode cJ5_append 1 = .ok (.ifnonnull 8, 3) := dk_199 0 8 (dk_at dksJ5_append_0 1 rfl rfl)
theorem dJ5_append_4 : decode cJ5_append 4 = .ok (.aload_n 0, 1) := dk_42 (dk_at dksJ5_append_0 4 rfl rfl)
theorem dJ5_append_5 : decode cJ5_append 5 = .ok (.invokevirtual 204, 3) := dk_182 0 204 (dk_at dksJ5_append_0 5 rfl rfl)
theorem dJ5_append_8 : decode cJ5_append 8 = .ok (.areturn, 1) := dk_176 (dk_at dksJ5_append_0 8 rfl rfl)
theorem dJ5_append_9 : decode cJ5_append 9 = .ok (.aload_n 1, 1) := dk_43 (dk_at dksJ5_append_0 9 rfl rfl)
theorem dJ5_append_10 : decode cJ5_append 10 = .ok (.invokevirtual 32, 3) := dk_182 0 32 (dk_at dksJ5_append_0 10 rfl rfl)
theorem dJ5_append_13 : decode cJ5_append 13 = .ok (.istore_n 2, 1) := dk_61 (dk_at dksJ5_append_0 13 rfl rfl)
theorem dJ5_append_14 : decode cJ5_append 14 = .ok (.aload_n 0, 1) := dk_42 (dk_at dksJ5_append_0 14 rfl rfl)
theorem dJ5_append_15 : decode cJ5_append 15 = .ok (.aload_n 0, 1) := dk_42 (dk_at dksJ5_append_0 15 rfl rfl)
theorem dJ5_append_16 : decode cJ5_append 16 = .ok (.getfield 79, 3) := dk_180 0 79 (dk_at dksJ5_append_0 16 rfl rfl)
theorem dJ5_append_19 : decode cJ5_append 19 = .ok (.iload_n 2, 1) := dk_28 (dk_at dksJ5_append_0 19 rfl rfl)
theorem dJ5_append_20 : decode cJ5_append 20 = .ok (.iadd, 1) := dk_96 (dk_at dksJ5_append_0 20 rfl rfl)
theorem dJ5_append_21 : decode cJ5_append 21 = .ok (.invokevirtual 100, 3) := dk_182 0 100 (dk_at dksJ5_append_0 21 rfl rfl)
theorem dJ5_append_24 : decode cJ5_append 24 = .ok (.aload_n 0, 1) := dk_42 (dk_at dksJ5_append_1 0 rfl rfl)
theorem dJ5_append_25 : decode cJ5_append 25 = .ok (.aload_n 0, 1) := dk_42 (dk_at dksJ5_append_1 1 rfl rfl)
theorem dJ5_append_26 : decode cJ5_append 26 = .ok (.getfield 79, 3) := dk_180 0 79 (dk_at dksJ5_append_1 2 rfl rfl)
theorem dJ5_append_29 : decode cJ5_append 29 = .ok (.aload_n 1, 1) := dk_43 (dk_at dksJ5_append_1 5 rfl rfl)
theorem dJ5_append_30 : decode cJ5_append 30 = .ok (.invokevirtual 208, 3) := dk_182 0 208 (dk_at dksJ5_append_1 6 rfl rfl)
theorem dJ5_append_33 : decode cJ5_append 33 = .ok (.aload_n 0, 1) := dk_42 (dk_at dksJ5_append_1 9 rfl rfl)
theorem dJ5_append_34 : decode cJ5_append 34 = .ok (.dup, 1) := dk_89 (dk_at dksJ5_append_1 10 rfl rfl)
theorem dJ5_append_35 : decode cJ5_append 35 = .ok (.getfield 79, 3) := dk_180 0 79 (dk_at dksJ5_append_1 11 rfl rfl)
theorem dJ5_append_38 : decode cJ5_append 38 = .ok (.iload_n 2, 1) := dk_28 (dk_at dksJ5_append_1 14 rfl rfl)
theorem dJ5_append_39 : decode cJ5_append 39 = .ok (.iadd, 1) := dk_96 (dk_at dksJ5_append_1 15 rfl rfl)
theorem dJ5_append_40 : decode cJ5_append 40 = .ok (.putfield 79, 3) := dk_181 0 79 (dk_at dksJ5_append_1 16 rfl rfl)
theorem dJ5_append_43 : decode cJ5_append 43 = .ok (.aload_n 0, 1) := dk_42 (dk_at dksJ5_append_1 19 rfl rfl)
theorem dJ5_append_44 : decode cJ5_append 44 = .ok (.areturn, 1) := dk_176 (dk_at dksJ5_append_1 20 rfl rfl)
abbrev cJ5_appendNull : ByteArray := prog_17_method_26_code
def yJ5_appendNull : MethodName := ⟨RJ5, "appendNull", "()Ljava/lang/AbstractStringBuilder;"⟩
def dkwJ5_appendNull_3 : List UInt8 := [184, 0, 226, 60, 42, 27, 181, 0, 79, 42, 176]
abbrev dktJ5_appendNull_3 : List UInt8 := dkwJ5_appendNull_3 ++ []
def dkwJ5_appendNull_2 : List UInt8 := [16, 108, 84, 44, 27, 132, 1, 1, 16, 108, 84, 167, 0, 17, 44, 27, 16, 110, 16, 117, 16, 108, 16, 108]
abbrev dktJ5_appendNull_2 : List UInt8 := dkwJ5_appendNull_2 ++ dktJ5_appendNull_3
def dkwJ5_appendNull_1 : List UInt8 := [153, 0, 38, 44, 27, 132, 1, 1, 16, 110, 84, 44, 27, 132, 1, 1, 16, 117, 84, 44, 27, 132, 1, 1]
abbrev dktJ5_appendNull_1 : List UInt8 := dkwJ5_appendNull_1 ++ dktJ5_appendNull_2
def dkwJ5_appendNull_0 : List UInt8 := [42, 42, 180, 0, 79, 7, 96, 182, 0, 100, 42, 180, 0, 79, 60, 42, 180, 0, 15, 77, 42, 182, 0, 83]
abbrev dktJ5_appendNull_0 : List UInt8 := dkwJ5_appendNull_0 ++ dktJ5_appendNull_1
theorem dksJ5_appendNull_0 : cJ5_appendNull.data.toList.drop 0 = dktJ5_appendNull_0 := by decide +kernel
theorem dksJ5_appendNull_1 : cJ5_appendNull.data.toList.drop 24 = dktJ5_appendNull_1 := dk_seg dksJ5_appendNull_0 24 rfl rfl
theorem dksJ5_appendNull_2 : cJ5_appendNull.data.toList.drop 48 = dktJ5_appendNull_2 := dk_seg dksJ5_appendNull_1 24 rfl rfl
theorem dksJ5_appendNull_3 : cJ5_appendNull.data.toList.drop 72 = dktJ5_appendNull_3 := dk_seg dksJ5_appendNull_2 24 rfl rfl
theorem dJ5_appendNull_0 : decode cJ5_appendNull 0 = .ok (.aload_n 0, 1) := dk_42 (dk_at dksJ5_appendNull_0 0 rfl rfl)
theorem dJ5_appendNull_1 : decode cJ5_appendNull 1 = .ok (.aload_n 0, 1) := dk_42 (dk_at dksJ5_appendNull_0 1 rfl rfl)
theorem dJ5_appendNull_2 : decode cJ5_appendNull 2 = .ok (.getfield 79, 3) := dk_180 0 79 (dk_at dksJ5_appendNull_0 2 rfl rfl)
theorem dJ5_appendNull_5 : decode cJ5_appendNull 5 = .ok (.iconst 4, 1) := dk_7 (dk_at dksJ5_appendNull_0 5 rfl rfl)
theorem dJ5_appendNull_6 : decode cJ5_appendNull 6 = .ok (.iadd, 1) := dk_96 (dk_at dksJ5_appendNull_0 6 rfl rfl)
theorem dJ5_appendNull_7 : decode cJ5_appendNull 7 = .ok (.invokevirtual 100, 3) := dk_182 0 100 (dk_at dksJ5_appendNull_0 7 rfl rfl)
theorem dJ5_appendNull_10 : decode cJ5_appendNull 10 = .ok (.aload_n 0, 1) := dk_42 (dk_at dksJ5_appendNull_0 10 rfl rfl)
theorem dJ5_appendNull_11 : decode cJ5_appendNull 11 = .ok (.getfield 79, 3) := dk_180 0 79 (dk_at dksJ5_appendNull_0 11 rfl rfl)
theorem dJ5_appendNull_14 : decode cJ5_appendNull 14 = .ok (.istore_n 1, 1) := dk_60 (dk_at dksJ5_appendNull_0 14 rfl rfl)
theorem dJ5_appendNull_15 : decode cJ5_appendNull 15 = .ok (.aload_n 0, 1) := dk_42 (dk_at dksJ5_appendNull_0 15 rfl rfl)
theorem dJ5_appendNull_16 : decode cJ5_appendNull 16 = .ok (.getfield 15, 3) := dk_180 0 15 (dk_at dksJ5_appendNull_0 16 rfl rfl)
theorem dJ5_appendNull_19 : decode cJ5_appendNull 19 = .ok (.astore_n 2, 1) := dk_77 (dk_at dksJ5_appendNull_0 19 rfl rfl)
theorem dJ5_appendNull_20 : decode cJ5_appendNull 20 = .ok (.aload_n 0, 1) := dk_42 (dk_at dksJ5_appendNull_0 20 rfl rfl)
theorem dJ5_appendNull_21 : decode cJ5_appendNull 21 = .ok (.invokevirtual 83, 3) := dk_182 0 83 (dk_at dksJ5_appendNull_0 21 rfl rfl)
theorem dJ5_appendNull_24 : decode cJ5_appendNull 24 = .ok (.ifCond .eq 38, 3) := dk_153 0 38 (dk_at dksJ5_appendNull_1 0 rfl rfl)
theorem dJ5_appendNull_27 : decode cJ5_appendNull 27 = .ok (.aload_n 2, 1) := dk_44 (dk_at dksJ5_appendNull_1 3 rfl rfl)
theorem dJ5_appendNull_28 : decode cJ5_appendNull 28 = .ok (.iload_n 1, 1) := dk_27 (dk_at dksJ5_appendNull_1 4 rfl rfl)
theorem dJ5_appendNull_29 : decode cJ5_appendNull 29 = .ok (.iinc 1 1, 3) := dk_132 1 1 (dk_at dksJ5_appendNull_1 5 rfl rfl)
theorem dJ5_appendNull_32 : decode cJ5_appendNull 32 = .ok (.bipush 110, 2) := dk_16 110 (dk_at dksJ5_appendNull_1 8 rfl rfl)
theorem dJ5_appendNull_34 : decode cJ5_appendNull 34 = .ok (.bastore, 1) := dk_84 (dk_at dksJ5_appendNull_1 10 rfl rfl)
theorem dJ5_appendNull_35 : decode cJ5_appendNull 35 = .ok (.aload_n 2, 1) := dk_44 (dk_at dksJ5_appendNull_1 11 rfl rfl)
theorem dJ5_appendNull_36 : decode cJ5_appendNull 36 = .ok (.iload_n 1, 1) := dk_27 (dk_at dksJ5_appendNull_1 12 rfl rfl)
theorem dJ5_appendNull_37 : decode cJ5_appendNull 37 = .ok (.iinc 1 1, 3) := dk_132 1 1 (dk_at dksJ5_appendNull_1 13 rfl rfl)
theorem dJ5_appendNull_40 : decode cJ5_appendNull 40 = .ok (.bipush 117, 2) := dk_16 117 (dk_at dksJ5_appendNull_1 16 rfl rfl)
theorem dJ5_appendNull_42 : decode cJ5_appendNull 42 = .ok (.bastore, 1) := dk_84 (dk_at dksJ5_appendNull_1 18 rfl rfl)
theorem dJ5_appendNull_43 : decode cJ5_appendNull 43 = .ok (.aload_n 2, 1) := dk_44 (dk_at dksJ5_appendNull_1 19 rfl rfl)
theorem dJ5_appendNull_44 : decode cJ5_appendNull 44 = .ok (.iload_n 1, 1) := dk_27 (dk_at dksJ5_appendNull_1 20 rfl rfl)
theorem dJ5_appendNull_45 : decode cJ5_appendNull 45 = .ok (.iinc 1 1, 3) := dk_132 1 1 (dk_at dksJ5_appendNull_1 21 rfl rfl)
theorem dJ5_appendNull_48 : decode cJ5_appendNull 48 = .ok (.bipush 108, 2) := dk_16 108 (dk_at dksJ5_appendNull_2 0 rfl rfl)
theorem dJ5_appendNull_50 : decode cJ5_appendNull 50 = .ok (.bastore, 1) := dk_84 (dk_at dksJ5_appendNull_2 2 rfl rfl)
theorem dJ5_appendNull_51 : decode cJ5_appendNull 51 = .ok (.aload_n 2, 1) := dk_44 (dk_at dksJ5_appendNull_2 3 rfl rfl)
theorem dJ5_appendNull_52 : decode cJ5_appendNull 52 = .ok (.iload_n 1, 1) := dk_27 (dk_at dksJ5_appendNull_2 4 rfl rfl)
theorem dJ5_appendNull_53 : decode cJ5_appendNull 53 = .ok (.iinc 1 1, 3) := dk_132 1 1 (dk_at dksJ5_appendNull_2 5 rfl rfl)
theorem dJ5_appendNull_56 : decode cJ5_appendNull 56 = .ok (.bipush 108, 2) := dk_16 108 (dk_at dksJ5_appendNull_2 8 rfl rfl)
theorem dJ5_appendNull_58 : decode cJ5_appendNull 58 = .ok (.bastore, 1) := dk_84 (dk_at dksJ5_appendNull_2 10 rfl rfl)
theorem dJ5_appendNull_59 : decode cJ5_appendNull 59 = .ok (.goto 17, 3) := dk_167 0 17 (dk_at dksJ5_appendNull_2 11 rfl rfl)
theorem dJ5_appendNull_62 : decode cJ5_appendNull 62 = .ok (.aload_n 2, 1) := dk_44 (dk_at dksJ5_appendNull_2 14 rfl rfl)
theorem dJ5_appendNull_63 : decode cJ5_appendNull 63 = .ok (.iload_n 1, 1) := dk_27 (dk_at dksJ5_appendNull_2 15 rfl rfl)
theorem dJ5_appendNull_64 : decode cJ5_appendNull 64 = .ok (.bipush 110, 2) := dk_16 110 (dk_at dksJ5_appendNull_2 16 rfl rfl)
theorem dJ5_appendNull_66 : decode cJ5_appendNull 66 = .ok (.bipush 117, 2) := dk_16 117 (dk_at dksJ5_appendNull_2 18 rfl rfl)
theorem dJ5_appendNull_68 : decode cJ5_appendNull 68 = .ok (.bipush 108, 2) := dk_16 108 (dk_at dksJ5_appendNull_2 20 rfl rfl)
theorem dJ5_appendNull_70 : decode cJ5_appendNull 70 = .ok (.bipush 108, 2) := dk_16 108 (dk_at dksJ5_appendNull_2 22 rfl rfl)
theorem dJ5_appendNull_72 : decode cJ5_appendNull 72 = .ok (.invokestatic 226, 3) := dk_184 0 226 (dk_at dksJ5_appendNull_3 0 rfl rfl)
theorem dJ5_appendNull_75 : decode cJ5_appendNull 75 = .ok (.istore_n 1, 1) := dk_60 (dk_at dksJ5_appendNull_3 3 rfl rfl)
theorem dJ5_appendNull_76 : decode cJ5_appendNull 76 = .ok (.aload_n 0, 1) := dk_42 (dk_at dksJ5_appendNull_3 4 rfl rfl)
theorem dJ5_appendNull_77 : decode cJ5_appendNull 77 = .ok (.iload_n 1, 1) := dk_27 (dk_at dksJ5_appendNull_3 5 rfl rfl)
theorem dJ5_appendNull_78 : decode cJ5_appendNull 78 = .ok (.putfield 79, 3) := dk_181 0 79 (dk_at dksJ5_appendNull_3 6 rfl rfl)
theorem dJ5_appendNull_81 : decode cJ5_appendNull 81 = .ok (.aload_n 0, 1) := dk_42 (dk_at dksJ5_appendNull_3 9 rfl rfl)
theorem dJ5_appendNull_82 : decode cJ5_appendNull 82 = .ok (.areturn, 1) := dk_176 (dk_at dksJ5_appendNull_3 10 rfl rfl)
abbrev cJ5_ensureCapacityInternal : ByteArray := prog_17_method_9_code
def yJ5_ensureCapacityInternal : MethodName := ⟨RJ5, "ensureCapacityInternal", "(I)V"⟩
def dkwJ5_ensureCapacityInternal_1 : List UInt8 := [182, 0, 104, 42, 180, 0, 22, 120, 184, 0, 108, 181, 0, 15, 177]
abbrev dktJ5_ensureCapacityInternal_1 : List UInt8 := dkwJ5_ensureCapacityInternal_1 ++ []
def dkwJ5_ensureCapacityInternal_0 : List UInt8 := [42, 180, 0, 15, 190, 42, 180, 0, 22, 122, 61, 27, 28, 100, 158, 0, 24, 42, 42, 180, 0, 15, 42, 27]
abbrev dktJ5_ensureCapacityInternal_0 : List UInt8 := dkwJ5_ensureCapacityInternal_0 ++ dktJ5_ensureCapacityInternal_1
theorem dksJ5_ensureCapacityInternal_0 : cJ5_ensureCapacityInternal.data.toList.drop 0 = dktJ5_ensureCapacityInternal_0 := by decide +kernel
theorem dksJ5_ensureCapacityInternal_1 : cJ5_ensureCapacityInternal.data.toList.drop 24 = dktJ5_ensureCapacityInternal_1 := dk_seg dksJ5_ensureCapacityInternal_0 24 rfl rfl
theorem dJ5_ensureCapacityInternal_0 : decode cJ5_ensureCapacityInternal 0 = .ok (.aload_n 0, 1) := dk_42 (dk_at dksJ5_ensureCapacityInternal_0 0 rfl rfl)
theorem dJ5_ensureCapacityInternal_1 : decode cJ5_ensureCapacityInternal 1 = .ok (.getfield 15, 3) := dk_180 0 15 (dk_at dksJ5_ensureCapacityInternal_0 1 rfl rfl)
theorem dJ5_ensureCapacityInternal_4 : decode cJ5_ensureCapacityInternal 4 = .ok (.arraylength, 1) := dk_190 (dk_at dksJ5_ensureCapacityInternal_0 4 rfl rfl)
theorem dJ5_ensureCapacityInternal_5 : decode cJ5_ensureCapacityInternal 5 = .ok (.aload_n 0, 1) := dk_42 (dk_at dksJ5_ensureCapacityInternal_0 5 rfl rfl)
theorem dJ5_ensureCapacityInternal_6 : decode cJ5_ensureCapacityInternal 6 = .ok (.getfield 22, 3) := dk_180 0 22 (dk_at dksJ5_ensureCapacityInternal_0 6 rfl rfl)
theorem dJ5_ensureCapacityInternal_9 : decode cJ5_ensureCapacityInternal 9 = .ok (.ishr, 1) := dk_122 (dk_at dksJ5_ensureCapacityInternal_0 9 rfl rfl)
theorem dJ5_ensureCapacityInternal_10 : decode cJ5_ensureCapacityInternal 10 = .ok (.istore_n 2, 1) := dk_61 (dk_at dksJ5_ensureCapacityInternal_0 10 rfl rfl)
theorem dJ5_ensureCapacityInternal_11 : decode cJ5_ensureCapacityInternal 11 = .ok (.iload_n 1, 1) := dk_27 (dk_at dksJ5_ensureCapacityInternal_0 11 rfl rfl)
theorem dJ5_ensureCapacityInternal_12 : decode cJ5_ensureCapacityInternal 12 = .ok (.iload_n 2, 1) := dk_28 (dk_at dksJ5_ensureCapacityInternal_0 12 rfl rfl)
theorem dJ5_ensureCapacityInternal_13 : decode cJ5_ensureCapacityInternal 13 = .ok (.isub, 1) := dk_100 (dk_at dksJ5_ensureCapacityInternal_0 13 rfl rfl)
theorem dJ5_ensureCapacityInternal_14 : decode cJ5_ensureCapacityInternal 14 = .ok (.ifCond .le 24, 3) := dk_158 0 24 (dk_at dksJ5_ensureCapacityInternal_0 14 rfl rfl)
theorem dJ5_ensureCapacityInternal_17 : decode cJ5_ensureCapacityInternal 17 = .ok (.aload_n 0, 1) := dk_42 (dk_at dksJ5_ensureCapacityInternal_0 17 rfl rfl)
theorem dJ5_ensureCapacityInternal_18 : decode cJ5_ensureCapacityInternal 18 = .ok (.aload_n 0, 1) := dk_42 (dk_at dksJ5_ensureCapacityInternal_0 18 rfl rfl)
theorem dJ5_ensureCapacityInternal_19 : decode cJ5_ensureCapacityInternal 19 = .ok (.getfield 15, 3) := dk_180 0 15 (dk_at dksJ5_ensureCapacityInternal_0 19 rfl rfl)
theorem dJ5_ensureCapacityInternal_22 : decode cJ5_ensureCapacityInternal 22 = .ok (.aload_n 0, 1) := dk_42 (dk_at dksJ5_ensureCapacityInternal_0 22 rfl rfl)
theorem dJ5_ensureCapacityInternal_23 : decode cJ5_ensureCapacityInternal 23 = .ok (.iload_n 1, 1) := dk_27 (dk_at dksJ5_ensureCapacityInternal_0 23 rfl rfl)
theorem dJ5_ensureCapacityInternal_24 : decode cJ5_ensureCapacityInternal 24 = .ok (.invokevirtual 104, 3) := dk_182 0 104 (dk_at dksJ5_ensureCapacityInternal_1 0 rfl rfl)
theorem dJ5_ensureCapacityInternal_27 : decode cJ5_ensureCapacityInternal 27 = .ok (.aload_n 0, 1) := dk_42 (dk_at dksJ5_ensureCapacityInternal_1 3 rfl rfl)
theorem dJ5_ensureCapacityInternal_28 : decode cJ5_ensureCapacityInternal 28 = .ok (.getfield 22, 3) := dk_180 0 22 (dk_at dksJ5_ensureCapacityInternal_1 4 rfl rfl)
theorem dJ5_ensureCapacityInternal_31 : decode cJ5_ensureCapacityInternal 31 = .ok (.ishl, 1) := dk_120 (dk_at dksJ5_ensureCapacityInternal_1 7 rfl rfl)
theorem dJ5_ensureCapacityInternal_32 : decode cJ5_ensureCapacityInternal 32 = .ok (.invokestatic 108, 3) := dk_184 0 108 (dk_at dksJ5_ensureCapacityInternal_1 8 rfl rfl)
theorem dJ5_ensureCapacityInternal_35 : decode cJ5_ensureCapacityInternal 35 = .ok (.putfield 15, 3) := dk_181 0 15 (dk_at dksJ5_ensureCapacityInternal_1 11 rfl rfl)
theorem dJ5_ensureCapacityInternal_38 : decode cJ5_ensureCapacityInternal 38 = .ok (.return_, 1) := dk_177 (dk_at dksJ5_ensureCapacityInternal_1 14 rfl rfl)
abbrev cJ5_newCapacity : ByteArray := prog_17_method_10_code
def yJ5_newCapacity : MethodName := ⟨RJ5, "newCapacity", "(I)I"⟩
def dkwJ5_newCapacity_2 : List UInt8 := [183, 0, 124, 191, 21, 5, 42, 180, 0, 22, 122, 172]
abbrev dktJ5_newCapacity_2 : List UInt8 := dkwJ5_newCapacity_2 ++ []
def dkwJ5_newCapacity_1 : List UInt8 := [180, 0, 22, 120, 96, 184, 0, 114, 54, 5, 21, 5, 18, 39, 160, 0, 13, 187, 0, 120, 89, 18, 122]
abbrev dktJ5_newCapacity_1 : List UInt8 := dkwJ5_newCapacity_1 ++ dktJ5_newCapacity_2
def dkwJ5_newCapacity_0 : List UInt8 := [42, 180, 0, 15, 190, 61, 27, 42, 180, 0, 22, 120, 62, 29, 28, 100, 54, 4, 28, 21, 4, 28, 5, 42]
abbrev dktJ5_newCapacity_0 : List UInt8 := dkwJ5_newCapacity_0 ++ dktJ5_newCapacity_1
theorem dksJ5_newCapacity_0 : cJ5_newCapacity.data.toList.drop 0 = dktJ5_newCapacity_0 := by decide +kernel
theorem dksJ5_newCapacity_1 : cJ5_newCapacity.data.toList.drop 24 = dktJ5_newCapacity_1 := dk_seg dksJ5_newCapacity_0 24 rfl rfl
theorem dksJ5_newCapacity_2 : cJ5_newCapacity.data.toList.drop 47 = dktJ5_newCapacity_2 := dk_seg dksJ5_newCapacity_1 23 rfl rfl
theorem dJ5_newCapacity_0 : decode cJ5_newCapacity 0 = .ok (.aload_n 0, 1) := dk_42 (dk_at dksJ5_newCapacity_0 0 rfl rfl)
theorem dJ5_newCapacity_1 : decode cJ5_newCapacity 1 = .ok (.getfield 15, 3) := dk_180 0 15 (dk_at dksJ5_newCapacity_0 1 rfl rfl)
theorem dJ5_newCapacity_4 : decode cJ5_newCapacity 4 = .ok (.arraylength, 1) := dk_190 (dk_at dksJ5_newCapacity_0 4 rfl rfl)
theorem dJ5_newCapacity_5 : decode cJ5_newCapacity 5 = .ok (.istore_n 2, 1) := dk_61 (dk_at dksJ5_newCapacity_0 5 rfl rfl)
theorem dJ5_newCapacity_6 : decode cJ5_newCapacity 6 = .ok (.iload_n 1, 1) := dk_27 (dk_at dksJ5_newCapacity_0 6 rfl rfl)
theorem dJ5_newCapacity_7 : decode cJ5_newCapacity 7 = .ok (.aload_n 0, 1) := dk_42 (dk_at dksJ5_newCapacity_0 7 rfl rfl)
theorem dJ5_newCapacity_8 : decode cJ5_newCapacity 8 = .ok (.getfield 22, 3) := dk_180 0 22 (dk_at dksJ5_newCapacity_0 8 rfl rfl)
theorem dJ5_newCapacity_11 : decode cJ5_newCapacity 11 = .ok (.ishl, 1) := dk_120 (dk_at dksJ5_newCapacity_0 11 rfl rfl)
theorem dJ5_newCapacity_12 : decode cJ5_newCapacity 12 = .ok (.istore_n 3, 1) := dk_62 (dk_at dksJ5_newCapacity_0 12 rfl rfl)
theorem dJ5_newCapacity_13 : decode cJ5_newCapacity 13 = .ok (.iload_n 3, 1) := dk_29 (dk_at dksJ5_newCapacity_0 13 rfl rfl)
theorem dJ5_newCapacity_14 : decode cJ5_newCapacity 14 = .ok (.iload_n 2, 1) := dk_28 (dk_at dksJ5_newCapacity_0 14 rfl rfl)
theorem dJ5_newCapacity_15 : decode cJ5_newCapacity 15 = .ok (.isub, 1) := dk_100 (dk_at dksJ5_newCapacity_0 15 rfl rfl)
theorem dJ5_newCapacity_16 : decode cJ5_newCapacity 16 = .ok (.istore 4, 2) := dk_54 4 (dk_at dksJ5_newCapacity_0 16 rfl rfl)
theorem dJ5_newCapacity_18 : decode cJ5_newCapacity 18 = .ok (.iload_n 2, 1) := dk_28 (dk_at dksJ5_newCapacity_0 18 rfl rfl)
theorem dJ5_newCapacity_19 : decode cJ5_newCapacity 19 = .ok (.iload 4, 2) := dk_21 4 (dk_at dksJ5_newCapacity_0 19 rfl rfl)
theorem dJ5_newCapacity_21 : decode cJ5_newCapacity 21 = .ok (.iload_n 2, 1) := dk_28 (dk_at dksJ5_newCapacity_0 21 rfl rfl)
theorem dJ5_newCapacity_22 : decode cJ5_newCapacity 22 = .ok (.iconst 2, 1) := dk_5 (dk_at dksJ5_newCapacity_0 22 rfl rfl)
theorem dJ5_newCapacity_23 : decode cJ5_newCapacity 23 = .ok (.aload_n 0, 1) := dk_42 (dk_at dksJ5_newCapacity_0 23 rfl rfl)
theorem dJ5_newCapacity_24 : decode cJ5_newCapacity 24 = .ok (.getfield 22, 3) := dk_180 0 22 (dk_at dksJ5_newCapacity_1 0 rfl rfl)
theorem dJ5_newCapacity_27 : decode cJ5_newCapacity 27 = .ok (.ishl, 1) := dk_120 (dk_at dksJ5_newCapacity_1 3 rfl rfl)
theorem dJ5_newCapacity_28 : decode cJ5_newCapacity 28 = .ok (.iadd, 1) := dk_96 (dk_at dksJ5_newCapacity_1 4 rfl rfl)
theorem dJ5_newCapacity_29 : decode cJ5_newCapacity 29 = .ok (.invokestatic 114, 3) := dk_184 0 114 (dk_at dksJ5_newCapacity_1 5 rfl rfl)
theorem dJ5_newCapacity_32 : decode cJ5_newCapacity 32 = .ok (.istore 5, 2) := dk_54 5 (dk_at dksJ5_newCapacity_1 8 rfl rfl)
theorem dJ5_newCapacity_34 : decode cJ5_newCapacity 34 = .ok (.iload 5, 2) := dk_21 5 (dk_at dksJ5_newCapacity_1 10 rfl rfl)
theorem dJ5_newCapacity_36 : decode cJ5_newCapacity 36 = .ok (.ldc 39, 2) := dk_18 39 (dk_at dksJ5_newCapacity_1 12 rfl rfl)
theorem dJ5_newCapacity_38 : decode cJ5_newCapacity 38 = .ok (.if_icmp .ne 13, 3) := dk_160 0 13 (dk_at dksJ5_newCapacity_1 14 rfl rfl)
theorem dJ5_newCapacity_41 : decode cJ5_newCapacity 41 = .ok (.new 120, 3) := dk_187 0 120 (dk_at dksJ5_newCapacity_1 17 rfl rfl)
theorem dJ5_newCapacity_44 : decode cJ5_newCapacity 44 = .ok (.dup, 1) := dk_89 (dk_at dksJ5_newCapacity_1 20 rfl rfl)
theorem dJ5_newCapacity_45 : decode cJ5_newCapacity 45 = .ok (.ldc 122, 2) := dk_18 122 (dk_at dksJ5_newCapacity_1 21 rfl rfl)
theorem dJ5_newCapacity_47 : decode cJ5_newCapacity 47 = .ok (.invokespecial 124, 3) := dk_183 0 124 (dk_at dksJ5_newCapacity_2 0 rfl rfl)
theorem dJ5_newCapacity_50 : decode cJ5_newCapacity 50 = .ok (.athrow, 1) := dk_191 (dk_at dksJ5_newCapacity_2 3 rfl rfl)
theorem dJ5_newCapacity_51 : decode cJ5_newCapacity 51 = .ok (.iload 5, 2) := dk_21 5 (dk_at dksJ5_newCapacity_2 4 rfl rfl)
theorem dJ5_newCapacity_53 : decode cJ5_newCapacity 53 = .ok (.aload_n 0, 1) := dk_42 (dk_at dksJ5_newCapacity_2 6 rfl rfl)
theorem dJ5_newCapacity_54 : decode cJ5_newCapacity 54 = .ok (.getfield 22, 3) := dk_180 0 22 (dk_at dksJ5_newCapacity_2 7 rfl rfl)
theorem dJ5_newCapacity_57 : decode cJ5_newCapacity 57 = .ok (.ishr, 1) := dk_122 (dk_at dksJ5_newCapacity_2 10 rfl rfl)
theorem dJ5_newCapacity_58 : decode cJ5_newCapacity 58 = .ok (.ireturn, 1) := dk_172 (dk_at dksJ5_newCapacity_2 11 rfl rfl)
abbrev cJ5_isLatin1 : ByteArray := prog_17_method_68_code
def yJ5_isLatin1 : MethodName := ⟨RJ5, "isLatin1", "()Z"⟩
def dkwJ5_isLatin1_0 : List UInt8 := [178, 0, 18, 153, 0, 14, 42, 180, 0, 22, 154, 0, 7, 4, 167, 0, 4, 3, 172]
abbrev dktJ5_isLatin1_0 : List UInt8 := dkwJ5_isLatin1_0 ++ []
theorem dksJ5_isLatin1_0 : cJ5_isLatin1.data.toList.drop 0 = dktJ5_isLatin1_0 := by decide +kernel
theorem dJ5_isLatin1_0 : decode cJ5_isLatin1 0 = .ok (.getstatic 18, 3) := dk_178 0 18 (dk_at dksJ5_isLatin1_0 0 rfl rfl)
theorem dJ5_isLatin1_3 : decode cJ5_isLatin1 3 = .ok (.ifCond .eq 14, 3) := dk_153 0 14 (dk_at dksJ5_isLatin1_0 3 rfl rfl)
theorem dJ5_isLatin1_6 : decode cJ5_isLatin1 6 = .ok (.aload_n 0, 1) := dk_42 (dk_at dksJ5_isLatin1_0 6 rfl rfl)
theorem dJ5_isLatin1_7 : decode cJ5_isLatin1 7 = .ok (.getfield 22, 3) := dk_180 0 22 (dk_at dksJ5_isLatin1_0 7 rfl rfl)
theorem dJ5_isLatin1_10 : decode cJ5_isLatin1 10 = .ok (.ifCond .ne 7, 3) := dk_154 0 7 (dk_at dksJ5_isLatin1_0 10 rfl rfl)
theorem dJ5_isLatin1_13 : decode cJ5_isLatin1 13 = .ok (.iconst 1, 1) := dk_4 (dk_at dksJ5_isLatin1_0 13 rfl rfl)
theorem dJ5_isLatin1_14 : decode cJ5_isLatin1 14 = .ok (.goto 4, 3) := dk_167 0 4 (dk_at dksJ5_isLatin1_0 14 rfl rfl)
theorem dJ5_isLatin1_17 : decode cJ5_isLatin1 17 = .ok (.iconst 0, 1) := dk_3 (dk_at dksJ5_isLatin1_0 17 rfl rfl)
theorem dJ5_isLatin1_18 : decode cJ5_isLatin1 18 = .ok (.ireturn, 1) := dk_172 (dk_at dksJ5_isLatin1_0 18 rfl rfl)
abbrev cJ5_putStringAt : ByteArray := prog_17_method_73_code
def yJ5_putStringAt : MethodName := ⟨RJ5, "putStringAt", "(ILjava/lang/String;)V"⟩
def dkwJ5_putStringAt_0 : List UInt8 := [42, 44, 182, 1, 141, 44, 42, 180, 0, 15, 27, 42, 180, 0, 22, 182, 1, 143, 177]
abbrev dktJ5_putStringAt_0 : List UInt8 := dkwJ5_putStringAt_0 ++ []
theorem dksJ5_putStringAt_0 : cJ5_putStringAt.data.toList.drop 0 = dktJ5_putStringAt_0 := by decide +kernel
theorem dJ5_putStringAt_0 : decode cJ5_putStringAt 0 = .ok (.aload_n 0, 1) := dk_42 (dk_at dksJ5_putStringAt_0 0 rfl rfl)
theorem dJ5_putStringAt_1 : decode cJ5_putStringAt 1 = .ok (.aload_n 2, 1) := dk_44 (dk_at dksJ5_putStringAt_0 1 rfl rfl)
theorem dJ5_putStringAt_2 : decode cJ5_putStringAt 2 = .ok (.invokevirtual 397, 3) := dk_182 1 141 (dk_at dksJ5_putStringAt_0 2 rfl rfl)
theorem dJ5_putStringAt_5 : decode cJ5_putStringAt 5 = .ok (.aload_n 2, 1) := dk_44 (dk_at dksJ5_putStringAt_0 5 rfl rfl)
theorem dJ5_putStringAt_6 : decode cJ5_putStringAt 6 = .ok (.aload_n 0, 1) := dk_42 (dk_at dksJ5_putStringAt_0 6 rfl rfl)
theorem dJ5_putStringAt_7 : decode cJ5_putStringAt 7 = .ok (.getfield 15, 3) := dk_180 0 15 (dk_at dksJ5_putStringAt_0 7 rfl rfl)
theorem dJ5_putStringAt_10 : decode cJ5_putStringAt 10 = .ok (.iload_n 1, 1) := dk_27 (dk_at dksJ5_putStringAt_0 10 rfl rfl)
theorem dJ5_putStringAt_11 : decode cJ5_putStringAt 11 = .ok (.aload_n 0, 1) := dk_42 (dk_at dksJ5_putStringAt_0 11 rfl rfl)
theorem dJ5_putStringAt_12 : decode cJ5_putStringAt 12 = .ok (.getfield 22, 3) := dk_180 0 22 (dk_at dksJ5_putStringAt_0 12 rfl rfl)
theorem dJ5_putStringAt_15 : decode cJ5_putStringAt 15 = .ok (.invokevirtual 399, 3) := dk_182 1 143 (dk_at dksJ5_putStringAt_0 15 rfl rfl)
theorem dJ5_putStringAt_18 : decode cJ5_putStringAt 18 = .ok (.return_, 1) := dk_177 (dk_at dksJ5_putStringAt_0 18 rfl rfl)
abbrev cJ5_inflateIfNeededFor : ByteArray := prog_17_method_71_code
def yJ5_inflateIfNeededFor : MethodName := ⟨RJ5, "inflateIfNeededFor", "(Ljava/lang/String;)V"⟩
def dkwJ5_inflateIfNeededFor_0 : List UInt8 := [178, 0, 18, 153, 0, 18, 42, 180, 0, 22, 43, 182, 0, 40, 159, 0, 7, 42, 182, 0, 195, 177]
abbrev dktJ5_inflateIfNeededFor_0 : List UInt8 := dkwJ5_inflateIfNeededFor_0 ++ []
theorem dksJ5_inflateIfNeededFor_0 : cJ5_inflateIfNeededFor.data.toList.drop 0 = dktJ5_inflateIfNeededFor_0 := by decide +kernel
theorem dJ5_inflateIfNeededFor_0 : decode cJ5_inflateIfNeededFor 0 = .ok (.getstatic 18, 3) := dk_178 0 18 (dk_at dksJ5_inflateIfNeededFor_0 0 rfl rfl)
theorem dJ5_inflateIfNeededFor_3 : decode cJ5_inflateIfNeededFor 3 = .ok (.ifCond .eq 18, 3) := dk_153 0 18 (dk_at dksJ5_inflateIfNeededFor_0 3 rfl rfl)
theorem dJ5_inflateIfNeededFor_6 : decode cJ5_inflateIfNeededFor 6 = .ok (.aload_n 0, 1) := dk_42 (dk_at dksJ5_inflateIfNeededFor_0 6 rfl rfl)
theorem dJ5_inflateIfNeededFor_7 : decode cJ5_inflateIfNeededFor 7 = .ok (.getfield 22, 3) := dk_180 0 22 (dk_at dksJ5_inflateIfNeededFor_0 7 rfl rfl)
theorem dJ5_inflateIfNeededFor_10 : decode cJ5_inflateIfNeededFor 10 = .ok (.aload_n 1, 1) := dk_43 (dk_at dksJ5_inflateIfNeededFor_0 10 rfl rfl)
theorem dJ5_inflateIfNeededFor_11 : decode cJ5_inflateIfNeededFor 11 = .ok (.invokevirtual 40, 3) := dk_182 0 40 (dk_at dksJ5_inflateIfNeededFor_0 11 rfl rfl)
theorem dJ5_inflateIfNeededFor_14 : decode cJ5_inflateIfNeededFor 14 = .ok (.if_icmp .eq 7, 3) := dk_159 0 7 (dk_at dksJ5_inflateIfNeededFor_0 14 rfl rfl)
theorem dJ5_inflateIfNeededFor_17 : decode cJ5_inflateIfNeededFor 17 = .ok (.aload_n 0, 1) := dk_42 (dk_at dksJ5_inflateIfNeededFor_0 17 rfl rfl)
theorem dJ5_inflateIfNeededFor_18 : decode cJ5_inflateIfNeededFor 18 = .ok (.invokevirtual 195, 3) := dk_182 0 195 (dk_at dksJ5_inflateIfNeededFor_0 18 rfl rfl)
theorem dJ5_inflateIfNeededFor_21 : decode cJ5_inflateIfNeededFor 21 = .ok (.return_, 1) := dk_177 (dk_at dksJ5_inflateIfNeededFor_0 21 rfl rfl)
abbrev cJ5_inflate : ByteArray := prog_17_method_11_code
def yJ5_inflate : MethodName := ⟨RJ5, "inflate", "()V"⟩
def dkwJ5_inflate_1 : List UInt8 := [42, 180, 0, 79, 184, 0, 125, 42, 43, 181, 0, 15, 42, 4, 181, 0, 22, 177]
abbrev dktJ5_inflate_1 : List UInt8 := dkwJ5_inflate_1 ++ []
def dkwJ5_inflate_0 : List UInt8 := [42, 182, 0, 83, 154, 0, 4, 177, 42, 180, 0, 15, 190, 184, 0, 26, 76, 42, 180, 0, 15, 3, 43, 3]
abbrev dktJ5_inflate_0 : List UInt8 := dkwJ5_inflate_0 ++ dktJ5_inflate_1
theorem dksJ5_inflate_0 : cJ5_inflate.data.toList.drop 0 = dktJ5_inflate_0 := by decide +kernel
theorem dksJ5_inflate_1 : cJ5_inflate.data.toList.drop 24 = dktJ5_inflate_1 := dk_seg dksJ5_inflate_0 24 rfl rfl
theorem dJ5_inflate_0 : decode cJ5_inflate 0 = .ok (.aload_n 0, 1) := dk_42 (dk_at dksJ5_inflate_0 0 rfl rfl)
theorem dJ5_inflate_1 : decode cJ5_inflate 1 = .ok (.invokevirtual 83, 3) := dk_182 0 83 (dk_at dksJ5_inflate_0 1 rfl rfl)
theorem dJ5_inflate_4 : decode cJ5_inflate 4 = .ok (.ifCond .ne 4, 3) := dk_154 0 4 (dk_at dksJ5_inflate_0 4 rfl rfl)
theorem dJ5_inflate_7 : decode cJ5_inflate 7 = .ok (.return_, 1) := dk_177 (dk_at dksJ5_inflate_0 7 rfl rfl)
theorem dJ5_inflate_8 : decode cJ5_inflate 8 = .ok (.aload_n 0, 1) := dk_42 (dk_at dksJ5_inflate_0 8 rfl rfl)
theorem dJ5_inflate_9 : decode cJ5_inflate 9 = .ok (.getfield 15, 3) := dk_180 0 15 (dk_at dksJ5_inflate_0 9 rfl rfl)
theorem dJ5_inflate_12 : decode cJ5_inflate 12 = .ok (.arraylength, 1) := dk_190 (dk_at dksJ5_inflate_0 12 rfl rfl)
theorem dJ5_inflate_13 : decode cJ5_inflate 13 = .ok (.invokestatic 26, 3) := dk_184 0 26 (dk_at dksJ5_inflate_0 13 rfl rfl)
theorem dJ5_inflate_16 : decode cJ5_inflate 16 = .ok (.astore_n 1, 1) := dk_76 (dk_at dksJ5_inflate_0 16 rfl rfl)
theorem dJ5_inflate_17 : decode cJ5_inflate 17 = .ok (.aload_n 0, 1) := dk_42 (dk_at dksJ5_inflate_0 17 rfl rfl)
theorem dJ5_inflate_18 : decode cJ5_inflate 18 = .ok (.getfield 15, 3) := dk_180 0 15 (dk_at dksJ5_inflate_0 18 rfl rfl)
theorem dJ5_inflate_21 : decode cJ5_inflate 21 = .ok (.iconst 0, 1) := dk_3 (dk_at dksJ5_inflate_0 21 rfl rfl)
theorem dJ5_inflate_22 : decode cJ5_inflate 22 = .ok (.aload_n 1, 1) := dk_43 (dk_at dksJ5_inflate_0 22 rfl rfl)
theorem dJ5_inflate_23 : decode cJ5_inflate 23 = .ok (.iconst 0, 1) := dk_3 (dk_at dksJ5_inflate_0 23 rfl rfl)
theorem dJ5_inflate_24 : decode cJ5_inflate 24 = .ok (.aload_n 0, 1) := dk_42 (dk_at dksJ5_inflate_1 0 rfl rfl)
theorem dJ5_inflate_25 : decode cJ5_inflate 25 = .ok (.getfield 79, 3) := dk_180 0 79 (dk_at dksJ5_inflate_1 1 rfl rfl)
theorem dJ5_inflate_28 : decode cJ5_inflate 28 = .ok (.invokestatic 125, 3) := dk_184 0 125 (dk_at dksJ5_inflate_1 4 rfl rfl)
theorem dJ5_inflate_31 : decode cJ5_inflate 31 = .ok (.aload_n 0, 1) := dk_42 (dk_at dksJ5_inflate_1 7 rfl rfl)
theorem dJ5_inflate_32 : decode cJ5_inflate 32 = .ok (.aload_n 1, 1) := dk_43 (dk_at dksJ5_inflate_1 8 rfl rfl)
theorem dJ5_inflate_33 : decode cJ5_inflate 33 = .ok (.putfield 15, 3) := dk_181 0 15 (dk_at dksJ5_inflate_1 9 rfl rfl)
theorem dJ5_inflate_36 : decode cJ5_inflate 36 = .ok (.aload_n 0, 1) := dk_42 (dk_at dksJ5_inflate_1 12 rfl rfl)
theorem dJ5_inflate_37 : decode cJ5_inflate 37 = .ok (.iconst 1, 1) := dk_4 (dk_at dksJ5_inflate_1 13 rfl rfl)
theorem dJ5_inflate_38 : decode cJ5_inflate 38 = .ok (.putfield 22, 3) := dk_181 0 22 (dk_at dksJ5_inflate_1 14 rfl rfl)
theorem dJ5_inflate_41 : decode cJ5_inflate 41 = .ok (.return_, 1) := dk_177 (dk_at dksJ5_inflate_1 17 rfl rfl)
abbrev cJ5_append_2 : ByteArray := prog_17_method_32_code
def yJ5_append_2 : MethodName := ⟨RJ5, "append", "(I)Ljava/lang/AbstractStringBuilder;"⟩
def dkwJ5_append_2_2 : List UInt8 := [42, 29, 181, 0, 79, 42, 176]
abbrev dktJ5_append_2_2 : List UInt8 := dkwJ5_append_2_2 ++ []
def dkwJ5_append_2_1 : List UInt8 := [27, 29, 42, 180, 0, 15, 184, 0, 248, 87, 167, 0, 14, 27, 28, 29, 42, 180, 0, 15, 184, 0, 251, 87]
abbrev dktJ5_append_2_1 : List UInt8 := dkwJ5_append_2_1 ++ dktJ5_append_2_2
def dkwJ5_append_2_0 : List UInt8 := [42, 180, 0, 79, 61, 28, 27, 184, 0, 245, 96, 62, 42, 29, 182, 0, 100, 42, 182, 0, 83, 153, 0, 16]
abbrev dktJ5_append_2_0 : List UInt8 := dkwJ5_append_2_0 ++ dktJ5_append_2_1
theorem dksJ5_append_2_0 : cJ5_append_2.data.toList.drop 0 = dktJ5_append_2_0 := by decide +kernel
theorem dksJ5_append_2_1 : cJ5_append_2.data.toList.drop 24 = dktJ5_append_2_1 := dk_seg dksJ5_append_2_0 24 rfl rfl
theorem dksJ5_append_2_2 : cJ5_append_2.data.toList.drop 48 = dktJ5_append_2_2 := dk_seg dksJ5_append_2_1 24 rfl rfl
theorem dJ5_append_2_0 : decode cJ5_append_2 0 = .ok (.aload_n 0, 1) := dk_42 (dk_at dksJ5_append_2_0 0 rfl rfl)
theorem dJ5_append_2_1 : decode cJ5_append_2 1 = .ok (.getfield 79, 3) := dk_180 0 79 (dk_at dksJ5_append_2_0 1 rfl rfl)
theorem dJ5_append_2_4 : decode cJ5_append_2 4 = .ok (.istore_n 2, 1) := dk_61 (dk_at dksJ5_append_2_0 4 rfl rfl)
theorem dJ5_append_2_5 : decode cJ5_append_2 5 = .ok (.iload_n 2, 1) := dk_28 (dk_at dksJ5_append_2_0 5 rfl rfl)
theorem dJ5_append_2_6 : decode cJ5_append_2 6 = .ok (.iload_n 1, 1) := dk_27 (dk_at dksJ5_append_2_0 6 rfl rfl)
theorem dJ5_append_2_7 : decode cJ5_append_2 7 = .ok (.invokestatic 245, 3) := dk_184 0 245 (dk_at dksJ5_append_2_0 7 rfl rfl)
theorem dJ5_append_2_10 : decode cJ5_append_2 10 = .ok (.iadd, 1) := dk_96 (dk_at dksJ5_append_2_0 10 rfl rfl)
theorem dJ5_append_2_11 : decode cJ5_append_2 11 = .ok (.istore_n 3, 1) := dk_62 (dk_at dksJ5_append_2_0 11 rfl rfl)
theorem dJ5_append_2_12 : decode cJ5_append_2 12 = .ok (.aload_n 0, 1) := dk_42 (dk_at dksJ5_append_2_0 12 rfl rfl)
theorem dJ5_append_2_13 : decode cJ5_append_2 13 = .ok (.iload_n 3, 1) := dk_29 (dk_at dksJ5_append_2_0 13 rfl rfl)
theorem dJ5_append_2_14 : decode cJ5_append_2 14 = .ok (.invokevirtual 100, 3) := dk_182 0 100 (dk_at dksJ5_append_2_0 14 rfl rfl)
theorem dJ5_append_2_17 : decode cJ5_append_2 17 = .ok (.aload_n 0, 1) := dk_42 (dk_at dksJ5_append_2_0 17 rfl rfl)
theorem dJ5_append_2_18 : decode cJ5_append_2 18 = .ok (.invokevirtual 83, 3) := dk_182 0 83 (dk_at dksJ5_append_2_0 18 rfl rfl)
theorem dJ5_append_2_21 : decode cJ5_append_2 21 = .ok (.ifCond .eq 16, 3) := dk_153 0 16 (dk_at dksJ5_append_2_0 21 rfl rfl)
theorem dJ5_append_2_24 : decode cJ5_append_2 24 = .ok (.iload_n 1, 1) := dk_27 (dk_at dksJ5_append_2_1 0 rfl rfl)
theorem dJ5_append_2_25 : decode cJ5_append_2 25 = .ok (.iload_n 3, 1) := dk_29 (dk_at dksJ5_append_2_1 1 rfl rfl)
theorem dJ5_append_2_26 : decode cJ5_append_2 26 = .ok (.aload_n 0, 1) := dk_42 (dk_at dksJ5_append_2_1 2 rfl rfl)
theorem dJ5_append_2_27 : decode cJ5_append_2 27 = .ok (.getfield 15, 3) := dk_180 0 15 (dk_at dksJ5_append_2_1 3 rfl rfl)
theorem dJ5_append_2_30 : decode cJ5_append_2 30 = .ok (.invokestatic 248, 3) := dk_184 0 248 (dk_at dksJ5_append_2_1 6 rfl rfl)
theorem dJ5_append_2_33 : decode cJ5_append_2 33 = .ok (.pop, 1) := dk_87 (dk_at dksJ5_append_2_1 9 rfl rfl)
theorem dJ5_append_2_34 : decode cJ5_append_2 34 = .ok (.goto 14, 3) := dk_167 0 14 (dk_at dksJ5_append_2_1 10 rfl rfl)
theorem dJ5_append_2_37 : decode cJ5_append_2 37 = .ok (.iload_n 1, 1) := dk_27 (dk_at dksJ5_append_2_1 13 rfl rfl)
theorem dJ5_append_2_38 : decode cJ5_append_2 38 = .ok (.iload_n 2, 1) := dk_28 (dk_at dksJ5_append_2_1 14 rfl rfl)
theorem dJ5_append_2_39 : decode cJ5_append_2 39 = .ok (.iload_n 3, 1) := dk_29 (dk_at dksJ5_append_2_1 15 rfl rfl)
theorem dJ5_append_2_40 : decode cJ5_append_2 40 = .ok (.aload_n 0, 1) := dk_42 (dk_at dksJ5_append_2_1 16 rfl rfl)
theorem dJ5_append_2_41 : decode cJ5_append_2 41 = .ok (.getfield 15, 3) := dk_180 0 15 (dk_at dksJ5_append_2_1 17 rfl rfl)
theorem dJ5_append_2_44 : decode cJ5_append_2 44 = .ok (.invokestatic 251, 3) := dk_184 0 251 (dk_at dksJ5_append_2_1 20 rfl rfl)
theorem dJ5_append_2_47 : decode cJ5_append_2 47 = .ok (.pop, 1) := dk_87 (dk_at dksJ5_append_2_1 23 rfl rfl)
theorem dJ5_append_2_48 : decode cJ5_append_2 48 = .ok (.aload_n 0, 1) := dk_42 (dk_at dksJ5_append_2_2 0 rfl rfl)
theorem dJ5_append_2_49 : decode cJ5_append_2 49 = .ok (.iload_n 3, 1) := dk_29 (dk_at dksJ5_append_2_2 1 rfl rfl)
theorem dJ5_append_2_50 : decode cJ5_append_2 50 = .ok (.putfield 79, 3) := dk_181 0 79 (dk_at dksJ5_append_2_2 2 rfl rfl)
theorem dJ5_append_2_53 : decode cJ5_append_2 53 = .ok (.aload_n 0, 1) := dk_42 (dk_at dksJ5_append_2_2 5 rfl rfl)
theorem dJ5_append_2_54 : decode cJ5_append_2 54 = .ok (.areturn, 1) := dk_176 (dk_at dksJ5_append_2_2 6 rfl rfl)
abbrev cJ5_getValue : ByteArray := prog_17_method_64_code
def yJ5_getValue : MethodName := ⟨RJ5, "getValue", "()[B"⟩
theorem dJ5_getValue_0 : decode cJ5_getValue 0 = .ok (.aload_n 0, 1) := by decide +kernel
theorem dJ5_getValue_1 : decode cJ5_getValue 1 = .ok (.getfield 15, 3) := by decide +kernel
theorem dJ5_getValue_4 : decode cJ5_getValue 4 = .ok (.areturn, 1) := by decide +kernel
abbrev cJ5_length : ByteArray := prog_17_method_6_code
def yJ5_length : MethodName := ⟨RJ5, "length", "()I"⟩
theorem dJ5_length_0 : decode cJ5_length 0 = .ok (.aload_n 0, 1) := by decide +kernel
theorem dJ5_length_1 : decode cJ5_length 1 = .ok (.getfield 79, 3) := by decide +kernel
theorem dJ5_length_4 : decode cJ5_length 4 = .ok (.ireturn, 1) := by decide +kernel
abbrev cJ5_compareTo : ByteArray := prog_17_method_5_code
def yJ5_compareTo : MethodName := ⟨RJ5, "compareTo", "(Ljava/lang/AbstractStringBuilder;)I"⟩
def dkwJ5_compareTo_4 : List UInt8 := [184, 0, 97, 172]
abbrev dktJ5_compareTo_4 : List UInt8 := dkwJ5_compareTo_4 ++ []
def dkwJ5_compareTo_3 : List UInt8 := [182, 0, 83, 153, 0, 15, 44, 45, 21, 4, 21, 5, 184, 0, 94, 167, 0, 12, 44, 45, 21, 4, 21, 5]
abbrev dktJ5_compareTo_3 : List UInt8 := dkwJ5_compareTo_3 ++ dktJ5_compareTo_4
def dkwJ5_compareTo_2 : List UInt8 := [45, 21, 4, 21, 5, 184, 0, 87, 167, 0, 12, 44, 45, 21, 4, 21, 5, 184, 0, 93, 172, 42]
abbrev dktJ5_compareTo_2 : List UInt8 := dkwJ5_compareTo_2 ++ dktJ5_compareTo_3
def dkwJ5_compareTo_1 : List UInt8 := [180, 0, 79, 54, 5, 42, 180, 0, 22, 43, 180, 0, 22, 160, 0, 32, 42, 182, 0, 83, 153, 0, 15, 44]
abbrev dktJ5_compareTo_1 : List UInt8 := dkwJ5_compareTo_1 ++ dktJ5_compareTo_2
def dkwJ5_compareTo_0 : List UInt8 := [42, 43, 166, 0, 5, 3, 172, 42, 180, 0, 15, 77, 43, 180, 0, 15, 78, 42, 180, 0, 79, 54, 4, 43]
abbrev dktJ5_compareTo_0 : List UInt8 := dkwJ5_compareTo_0 ++ dktJ5_compareTo_1
theorem dksJ5_compareTo_0 : cJ5_compareTo.data.toList.drop 0 = dktJ5_compareTo_0 := by decide +kernel
theorem dksJ5_compareTo_1 : cJ5_compareTo.data.toList.drop 24 = dktJ5_compareTo_1 := dk_seg dksJ5_compareTo_0 24 rfl rfl
theorem dksJ5_compareTo_2 : cJ5_compareTo.data.toList.drop 48 = dktJ5_compareTo_2 := dk_seg dksJ5_compareTo_1 24 rfl rfl
theorem dksJ5_compareTo_3 : cJ5_compareTo.data.toList.drop 70 = dktJ5_compareTo_3 := dk_seg dksJ5_compareTo_2 22 rfl rfl
theorem dksJ5_compareTo_4 : cJ5_compareTo.data.toList.drop 94 = dktJ5_compareTo_4 := dk_seg dksJ5_compareTo_3 24 rfl rfl
theorem dJ5_compareTo_0 : decode cJ5_compareTo 0 = .ok (.aload_n 0, 1) := dk_42 (dk_at dksJ5_compareTo_0 0 rfl rfl)
theorem dJ5_compareTo_1 : decode cJ5_compareTo 1 = .ok (.aload_n 1, 1) := dk_43 (dk_at dksJ5_compareTo_0 1 rfl rfl)
theorem dJ5_compareTo_2 : decode cJ5_compareTo 2 = .ok (.if_acmp .ne 5, 3) := dk_166 0 5 (dk_at dksJ5_compareTo_0 2 rfl rfl)
theorem dJ5_compareTo_5 : decode cJ5_compareTo 5 = .ok (.iconst 0, 1) := dk_3 (dk_at dksJ5_compareTo_0 5 rfl rfl)
theorem dJ5_compareTo_6 : decode cJ5_compareTo 6 = .ok (.ireturn, 1) := dk_172 (dk_at dksJ5_compareTo_0 6 rfl rfl)
theorem dJ5_compareTo_7 : decode cJ5_compareTo 7 = .ok (.aload_n 0, 1) := dk_42 (dk_at dksJ5_compareTo_0 7 rfl rfl)
theorem dJ5_compareTo_8 : decode cJ5_compareTo 8 = .ok (.getfield 15, 3) := dk_180 0 15 (dk_at dksJ5_compareTo_0 8 rfl rfl)
theorem dJ5_compareTo_11 : decode cJ5_compareTo 11 = .ok (.astore_n 2, 1) := dk_77 (dk_at dksJ5_compareTo_0 11 rfl rfl)
theorem dJ5_compareTo_12 : decode cJ5_compareTo 12 = .ok (.aload_n 1, 1) := dk_43 (dk_at dksJ5_compareTo_0 12 rfl rfl)
theorem dJ5_compareTo_13 : decode cJ5_compareTo 13 = .ok (.getfield 15, 3) := dk_180 0 15 (dk_at dksJ5_compareTo_0 13 rfl rfl)
theorem dJ5_compareTo_16 : decode cJ5_compareTo 16 = .ok (.astore_n 3, 1) := dk_78 (dk_at dksJ5_compareTo_0 16 rfl rfl)
theorem dJ5_compareTo_17 : decode cJ5_compareTo 17 = .ok (.aload_n 0, 1) := dk_42 (dk_at dksJ5_compareTo_0 17 rfl rfl)
theorem dJ5_compareTo_18 : decode cJ5_compareTo 18 = .ok (.getfield 79, 3) := dk_180 0 79 (dk_at dksJ5_compareTo_0 18 rfl rfl)
theorem dJ5_compareTo_21 : decode cJ5_compareTo 21 = .ok (.istore 4, 2) := dk_54 4 (dk_at dksJ5_compareTo_0 21 rfl rfl)
theorem dJ5_compareTo_23 : decode cJ5_compareTo 23 = .ok (.aload_n 1, 1) := dk_43 (dk_at dksJ5_compareTo_0 23 rfl rfl)
theorem dJ5_compareTo_24 : decode cJ5_compareTo 24 = .ok (.getfield 79, 3) := dk_180 0 79 (dk_at dksJ5_compareTo_1 0 rfl rfl)
theorem dJ5_compareTo_27 : decode cJ5_compareTo 27 = .ok (.istore 5, 2) := dk_54 5 (dk_at dksJ5_compareTo_1 3 rfl rfl)
theorem dJ5_compareTo_29 : decode cJ5_compareTo 29 = .ok (.aload_n 0, 1) := dk_42 (dk_at dksJ5_compareTo_1 5 rfl rfl)
theorem dJ5_compareTo_30 : decode cJ5_compareTo 30 = .ok (.getfield 22, 3) := dk_180 0 22 (dk_at dksJ5_compareTo_1 6 rfl rfl)
theorem dJ5_compareTo_33 : decode cJ5_compareTo 33 = .ok (.aload_n 1, 1) := dk_43 (dk_at dksJ5_compareTo_1 9 rfl rfl)
theorem dJ5_compareTo_34 : decode cJ5_compareTo 34 = .ok (.getfield 22, 3) := dk_180 0 22 (dk_at dksJ5_compareTo_1 10 rfl rfl)
theorem dJ5_compareTo_37 : decode cJ5_compareTo 37 = .ok (.if_icmp .ne 32, 3) := dk_160 0 32 (dk_at dksJ5_compareTo_1 13 rfl rfl)
theorem dJ5_compareTo_40 : decode cJ5_compareTo 40 = .ok (.aload_n 0, 1) := dk_42 (dk_at dksJ5_compareTo_1 16 rfl rfl)
theorem dJ5_compareTo_41 : decode cJ5_compareTo 41 = .ok (.invokevirtual 83, 3) := dk_182 0 83 (dk_at dksJ5_compareTo_1 17 rfl rfl)
theorem dJ5_compareTo_44 : decode cJ5_compareTo 44 = .ok (.ifCond .eq 15, 3) := dk_153 0 15 (dk_at dksJ5_compareTo_1 20 rfl rfl)
theorem dJ5_compareTo_47 : decode cJ5_compareTo 47 = .ok (.aload_n 2, 1) := dk_44 (dk_at dksJ5_compareTo_1 23 rfl rfl)
theorem dJ5_compareTo_48 : decode cJ5_compareTo 48 = .ok (.aload_n 3, 1) := dk_45 (dk_at dksJ5_compareTo_2 0 rfl rfl)
theorem dJ5_compareTo_49 : decode cJ5_compareTo 49 = .ok (.iload 4, 2) := dk_21 4 (dk_at dksJ5_compareTo_2 1 rfl rfl)
theorem dJ5_compareTo_51 : decode cJ5_compareTo 51 = .ok (.iload 5, 2) := dk_21 5 (dk_at dksJ5_compareTo_2 3 rfl rfl)
theorem dJ5_compareTo_53 : decode cJ5_compareTo 53 = .ok (.invokestatic 87, 3) := dk_184 0 87 (dk_at dksJ5_compareTo_2 5 rfl rfl)
theorem dJ5_compareTo_56 : decode cJ5_compareTo 56 = .ok (.goto 12, 3) := dk_167 0 12 (dk_at dksJ5_compareTo_2 8 rfl rfl)
theorem dJ5_compareTo_59 : decode cJ5_compareTo 59 = .ok (.aload_n 2, 1) := dk_44 (dk_at dksJ5_compareTo_2 11 rfl rfl)
theorem dJ5_compareTo_60 : decode cJ5_compareTo 60 = .ok (.aload_n 3, 1) := dk_45 (dk_at dksJ5_compareTo_2 12 rfl rfl)
theorem dJ5_compareTo_61 : decode cJ5_compareTo 61 = .ok (.iload 4, 2) := dk_21 4 (dk_at dksJ5_compareTo_2 13 rfl rfl)
theorem dJ5_compareTo_63 : decode cJ5_compareTo 63 = .ok (.iload 5, 2) := dk_21 5 (dk_at dksJ5_compareTo_2 15 rfl rfl)
theorem dJ5_compareTo_65 : decode cJ5_compareTo 65 = .ok (.invokestatic 93, 3) := dk_184 0 93 (dk_at dksJ5_compareTo_2 17 rfl rfl)
theorem dJ5_compareTo_68 : decode cJ5_compareTo 68 = .ok (.ireturn, 1) := dk_172 (dk_at dksJ5_compareTo_2 20 rfl rfl)
theorem dJ5_compareTo_69 : decode cJ5_compareTo 69 = .ok (.aload_n 0, 1) := dk_42 (dk_at dksJ5_compareTo_2 21 rfl rfl)
theorem dJ5_compareTo_70 : decode cJ5_compareTo 70 = .ok (.invokevirtual 83, 3) := dk_182 0 83 (dk_at dksJ5_compareTo_3 0 rfl rfl)
theorem dJ5_compareTo_73 : decode cJ5_compareTo 73 = .ok (.ifCond .eq 15, 3) := dk_153 0 15 (dk_at dksJ5_compareTo_3 3 rfl rfl)
theorem dJ5_compareTo_76 : decode cJ5_compareTo 76 = .ok (.aload_n 2, 1) := dk_44 (dk_at dksJ5_compareTo_3 6 rfl rfl)
theorem dJ5_compareTo_77 : decode cJ5_compareTo 77 = .ok (.aload_n 3, 1) := dk_45 (dk_at dksJ5_compareTo_3 7 rfl rfl)
theorem dJ5_compareTo_78 : decode cJ5_compareTo 78 = .ok (.iload 4, 2) := dk_21 4 (dk_at dksJ5_compareTo_3 8 rfl rfl)
theorem dJ5_compareTo_80 : decode cJ5_compareTo 80 = .ok (.iload 5, 2) := dk_21 5 (dk_at dksJ5_compareTo_3 10 rfl rfl)
theorem dJ5_compareTo_82 : decode cJ5_compareTo 82 = .ok (.invokestatic 94, 3) := dk_184 0 94 (dk_at dksJ5_compareTo_3 12 rfl rfl)
theorem dJ5_compareTo_85 : decode cJ5_compareTo 85 = .ok (.goto 12, 3) := dk_167 0 12 (dk_at dksJ5_compareTo_3 15 rfl rfl)
theorem dJ5_compareTo_88 : decode cJ5_compareTo 88 = .ok (.aload_n 2, 1) := dk_44 (dk_at dksJ5_compareTo_3 18 rfl rfl)
theorem dJ5_compareTo_89 : decode cJ5_compareTo 89 = .ok (.aload_n 3, 1) := dk_45 (dk_at dksJ5_compareTo_3 19 rfl rfl)
theorem dJ5_compareTo_90 : decode cJ5_compareTo 90 = .ok (.iload 4, 2) := dk_21 4 (dk_at dksJ5_compareTo_3 20 rfl rfl)
theorem dJ5_compareTo_92 : decode cJ5_compareTo 92 = .ok (.iload 5, 2) := dk_21 5 (dk_at dksJ5_compareTo_3 22 rfl rfl)
theorem dJ5_compareTo_94 : decode cJ5_compareTo 94 = .ok (.invokestatic 97, 3) := dk_184 0 97 (dk_at dksJ5_compareTo_4 0 rfl rfl)
theorem dJ5_compareTo_97 : decode cJ5_compareTo 97 = .ok (.ireturn, 1) := dk_172 (dk_at dksJ5_compareTo_4 3 rfl rfl)
abbrev cJ5_setLength : ByteArray := prog_17_method_13_code
def yJ5_setLength : MethodName := ⟨RJ5, "setLength", "(I)V"⟩
def dkwJ5_setLength_3 : List UInt8 := [164, 0, 8, 42, 4, 181, 0, 73, 42, 27, 181, 0, 79, 177]
abbrev dktJ5_setLength_3 : List UInt8 := dkwJ5_setLength_3 ++ []
def dkwJ5_setLength_2 : List UInt8 := [167, 0, 31, 42, 180, 0, 15, 42, 180, 0, 79, 27, 184, 0, 137, 167, 0, 16, 42, 180, 0, 79, 27]
abbrev dktJ5_setLength_2 : List UInt8 := dkwJ5_setLength_2 ++ dktJ5_setLength_3
def dkwJ5_setLength_1 : List UInt8 := [162, 0, 40, 42, 182, 0, 83, 153, 0, 18, 42, 180, 0, 15, 42, 180, 0, 79, 27, 184, 0, 133]
abbrev dktJ5_setLength_1 : List UInt8 := dkwJ5_setLength_1 ++ dktJ5_setLength_2
def dkwJ5_setLength_0 : List UInt8 := [27, 156, 0, 12, 187, 0, 129, 89, 27, 183, 0, 131, 191, 42, 27, 182, 0, 100, 42, 180, 0, 79, 27]
abbrev dktJ5_setLength_0 : List UInt8 := dkwJ5_setLength_0 ++ dktJ5_setLength_1
theorem dksJ5_setLength_0 : cJ5_setLength.data.toList.drop 0 = dktJ5_setLength_0 := by decide +kernel
theorem dksJ5_setLength_1 : cJ5_setLength.data.toList.drop 23 = dktJ5_setLength_1 := dk_seg dksJ5_setLength_0 23 rfl rfl
theorem dksJ5_setLength_2 : cJ5_setLength.data.toList.drop 45 = dktJ5_setLength_2 := dk_seg dksJ5_setLength_1 22 rfl rfl
theorem dksJ5_setLength_3 : cJ5_setLength.data.toList.drop 68 = dktJ5_setLength_3 := dk_seg dksJ5_setLength_2 23 rfl rfl
theorem dJ5_setLength_0 : decode cJ5_setLength 0 = .ok (.iload_n 1, 1) := dk_27 (dk_at dksJ5_setLength_0 0 rfl rfl)
theorem dJ5_setLength_1 : decode cJ5_setLength 1 = .ok (.ifCond .ge 12, 3) := dk_156 0 12 (dk_at dksJ5_setLength_0 1 rfl rfl)
theorem dJ5_setLength_4 : decode cJ5_setLength 4 = .ok (.new 129, 3) := dk_187 0 129 (dk_at dksJ5_setLength_0 4 rfl rfl)
theorem dJ5_setLength_7 : decode cJ5_setLength 7 = .ok (.dup, 1) := dk_89 (dk_at dksJ5_setLength_0 7 rfl rfl)
theorem dJ5_setLength_8 : decode cJ5_setLength 8 = .ok (.iload_n 1, 1) := dk_27 (dk_at dksJ5_setLength_0 8 rfl rfl)
theorem dJ5_setLength_9 : decode cJ5_setLength 9 = .ok (.invokespecial 131, 3) := dk_183 0 131 (dk_at dksJ5_setLength_0 9 rfl rfl)
theorem dJ5_setLength_12 : decode cJ5_setLength 12 = .ok (.athrow, 1) := dk_191 (dk_at dksJ5_setLength_0 12 rfl rfl)
theorem dJ5_setLength_13 : decode cJ5_setLength 13 = .ok (.aload_n 0, 1) := dk_42 (dk_at dksJ5_setLength_0 13 rfl rfl)
theorem dJ5_setLength_14 : decode cJ5_setLength 14 = .ok (.iload_n 1, 1) := dk_27 (dk_at dksJ5_setLength_0 14 rfl rfl)
theorem dJ5_setLength_15 : decode cJ5_setLength 15 = .ok (.invokevirtual 100, 3) := dk_182 0 100 (dk_at dksJ5_setLength_0 15 rfl rfl)
theorem dJ5_setLength_18 : decode cJ5_setLength 18 = .ok (.aload_n 0, 1) := dk_42 (dk_at dksJ5_setLength_0 18 rfl rfl)
theorem dJ5_setLength_19 : decode cJ5_setLength 19 = .ok (.getfield 79, 3) := dk_180 0 79 (dk_at dksJ5_setLength_0 19 rfl rfl)
theorem dJ5_setLength_22 : decode cJ5_setLength 22 = .ok (.iload_n 1, 1) := dk_27 (dk_at dksJ5_setLength_0 22 rfl rfl)
theorem dJ5_setLength_23 : decode cJ5_setLength 23 = .ok (.if_icmp .ge 40, 3) := dk_162 0 40 (dk_at dksJ5_setLength_1 0 rfl rfl)
theorem dJ5_setLength_26 : decode cJ5_setLength 26 = .ok (.aload_n 0, 1) := dk_42 (dk_at dksJ5_setLength_1 3 rfl rfl)
theorem dJ5_setLength_27 : decode cJ5_setLength 27 = .ok (.invokevirtual 83, 3) := dk_182 0 83 (dk_at dksJ5_setLength_1 4 rfl rfl)
theorem dJ5_setLength_30 : decode cJ5_setLength 30 = .ok (.ifCond .eq 18, 3) := dk_153 0 18 (dk_at dksJ5_setLength_1 7 rfl rfl)
theorem dJ5_setLength_33 : decode cJ5_setLength 33 = .ok (.aload_n 0, 1) := dk_42 (dk_at dksJ5_setLength_1 10 rfl rfl)
theorem dJ5_setLength_34 : decode cJ5_setLength 34 = .ok (.getfield 15, 3) := dk_180 0 15 (dk_at dksJ5_setLength_1 11 rfl rfl)
theorem dJ5_setLength_37 : decode cJ5_setLength 37 = .ok (.aload_n 0, 1) := dk_42 (dk_at dksJ5_setLength_1 14 rfl rfl)
theorem dJ5_setLength_38 : decode cJ5_setLength 38 = .ok (.getfield 79, 3) := dk_180 0 79 (dk_at dksJ5_setLength_1 15 rfl rfl)
theorem dJ5_setLength_41 : decode cJ5_setLength 41 = .ok (.iload_n 1, 1) := dk_27 (dk_at dksJ5_setLength_1 18 rfl rfl)
theorem dJ5_setLength_42 : decode cJ5_setLength 42 = .ok (.invokestatic 133, 3) := dk_184 0 133 (dk_at dksJ5_setLength_1 19 rfl rfl)
theorem dJ5_setLength_45 : decode cJ5_setLength 45 = .ok (.goto 31, 3) := dk_167 0 31 (dk_at dksJ5_setLength_2 0 rfl rfl)
theorem dJ5_setLength_48 : decode cJ5_setLength 48 = .ok (.aload_n 0, 1) := dk_42 (dk_at dksJ5_setLength_2 3 rfl rfl)
theorem dJ5_setLength_49 : decode cJ5_setLength 49 = .ok (.getfield 15, 3) := dk_180 0 15 (dk_at dksJ5_setLength_2 4 rfl rfl)
theorem dJ5_setLength_52 : decode cJ5_setLength 52 = .ok (.aload_n 0, 1) := dk_42 (dk_at dksJ5_setLength_2 7 rfl rfl)
theorem dJ5_setLength_53 : decode cJ5_setLength 53 = .ok (.getfield 79, 3) := dk_180 0 79 (dk_at dksJ5_setLength_2 8 rfl rfl)
theorem dJ5_setLength_56 : decode cJ5_setLength 56 = .ok (.iload_n 1, 1) := dk_27 (dk_at dksJ5_setLength_2 11 rfl rfl)
theorem dJ5_setLength_57 : decode cJ5_setLength 57 = .ok (.invokestatic 137, 3) := dk_184 0 137 (dk_at dksJ5_setLength_2 12 rfl rfl)
theorem dJ5_setLength_60 : decode cJ5_setLength 60 = .ok (.goto 16, 3) := dk_167 0 16 (dk_at dksJ5_setLength_2 15 rfl rfl)
theorem dJ5_setLength_63 : decode cJ5_setLength 63 = .ok (.aload_n 0, 1) := dk_42 (dk_at dksJ5_setLength_2 18 rfl rfl)
theorem dJ5_setLength_64 : decode cJ5_setLength 64 = .ok (.getfield 79, 3) := dk_180 0 79 (dk_at dksJ5_setLength_2 19 rfl rfl)
theorem dJ5_setLength_67 : decode cJ5_setLength 67 = .ok (.iload_n 1, 1) := dk_27 (dk_at dksJ5_setLength_2 22 rfl rfl)
theorem dJ5_setLength_68 : decode cJ5_setLength 68 = .ok (.if_icmp .le 8, 3) := dk_164 0 8 (dk_at dksJ5_setLength_3 0 rfl rfl)
theorem dJ5_setLength_71 : decode cJ5_setLength 71 = .ok (.aload_n 0, 1) := dk_42 (dk_at dksJ5_setLength_3 3 rfl rfl)
theorem dJ5_setLength_72 : decode cJ5_setLength 72 = .ok (.iconst 1, 1) := dk_4 (dk_at dksJ5_setLength_3 4 rfl rfl)
theorem dJ5_setLength_73 : decode cJ5_setLength 73 = .ok (.putfield 73, 3) := dk_181 0 73 (dk_at dksJ5_setLength_3 5 rfl rfl)
theorem dJ5_setLength_76 : decode cJ5_setLength 76 = .ok (.aload_n 0, 1) := dk_42 (dk_at dksJ5_setLength_3 8 rfl rfl)
theorem dJ5_setLength_77 : decode cJ5_setLength 77 = .ok (.iload_n 1, 1) := dk_27 (dk_at dksJ5_setLength_3 9 rfl rfl)
theorem dJ5_setLength_78 : decode cJ5_setLength 78 = .ok (.putfield 79, 3) := dk_181 0 79 (dk_at dksJ5_setLength_3 10 rfl rfl)
theorem dJ5_setLength_81 : decode cJ5_setLength 81 = .ok (.return_, 1) := dk_177 (dk_at dksJ5_setLength_3 13 rfl rfl)
abbrev cJ5_charAt : ByteArray := prog_17_method_14_code
def yJ5_charAt : MethodName := ⟨RJ5, "charAt", "(I)C"⟩
def dkwJ5_charAt_1 : List UInt8 := [21, 4, 184, 0, 144, 28, 154, 0, 12, 45, 27, 51, 17, 0, 255, 126, 146, 172, 45, 27, 184, 0, 148, 172]
abbrev dktJ5_charAt_1 : List UInt8 := dkwJ5_charAt_1 ++ []
def dkwJ5_charAt_0 : List UInt8 := [42, 180, 0, 22, 61, 42, 180, 0, 15, 78, 42, 180, 0, 79, 45, 190, 28, 122, 184, 0, 138, 54, 4, 27]
abbrev dktJ5_charAt_0 : List UInt8 := dkwJ5_charAt_0 ++ dktJ5_charAt_1
theorem dksJ5_charAt_0 : cJ5_charAt.data.toList.drop 0 = dktJ5_charAt_0 := by decide +kernel
theorem dksJ5_charAt_1 : cJ5_charAt.data.toList.drop 24 = dktJ5_charAt_1 := dk_seg dksJ5_charAt_0 24 rfl rfl
theorem dJ5_charAt_0 : decode cJ5_charAt 0 = .ok (.aload_n 0, 1) := dk_42 (dk_at dksJ5_charAt_0 0 rfl rfl)
theorem dJ5_charAt_1 : decode cJ5_charAt 1 = .ok (.getfield 22, 3) := dk_180 0 22 (dk_at dksJ5_charAt_0 1 rfl rfl)
theorem dJ5_charAt_4 : decode cJ5_charAt 4 = .ok (.istore_n 2, 1) := dk_61 (dk_at dksJ5_charAt_0 4 rfl rfl)
theorem dJ5_charAt_5 : decode cJ5_charAt 5 = .ok (.aload_n 0, 1) := dk_42 (dk_at dksJ5_charAt_0 5 rfl rfl)
theorem dJ5_charAt_6 : decode cJ5_charAt 6 = .ok (.getfield 15, 3) := dk_180 0 15 (dk_at dksJ5_charAt_0 6 rfl rfl)
theorem dJ5_charAt_9 : decode cJ5_charAt 9 = .ok (.astore_n 3, 1) := dk_78 (dk_at dksJ5_charAt_0 9 rfl rfl)
theorem dJ5_charAt_10 : decode cJ5_charAt 10 = .ok (.aload_n 0, 1) := dk_42 (dk_at dksJ5_charAt_0 10 rfl rfl)
theorem dJ5_charAt_11 : decode cJ5_charAt 11 = .ok (.getfield 79, 3) := dk_180 0 79 (dk_at dksJ5_charAt_0 11 rfl rfl)
theorem dJ5_charAt_14 : decode cJ5_charAt 14 = .ok (.aload_n 3, 1) := dk_45 (dk_at dksJ5_charAt_0 14 rfl rfl)
theorem dJ5_charAt_15 : decode cJ5_charAt 15 = .ok (.arraylength, 1) := dk_190 (dk_at dksJ5_charAt_0 15 rfl rfl)
theorem dJ5_charAt_16 : decode cJ5_charAt 16 = .ok (.iload_n 2, 1) := dk_28 (dk_at dksJ5_charAt_0 16 rfl rfl)
theorem dJ5_charAt_17 : decode cJ5_charAt 17 = .ok (.ishr, 1) := dk_122 (dk_at dksJ5_charAt_0 17 rfl rfl)
theorem dJ5_charAt_18 : decode cJ5_charAt 18 = .ok (.invokestatic 138, 3) := dk_184 0 138 (dk_at dksJ5_charAt_0 18 rfl rfl)
theorem dJ5_charAt_21 : decode cJ5_charAt 21 = .ok (.istore 4, 2) := dk_54 4 (dk_at dksJ5_charAt_0 21 rfl rfl)
theorem dJ5_charAt_23 : decode cJ5_charAt 23 = .ok (.iload_n 1, 1) := dk_27 (dk_at dksJ5_charAt_0 23 rfl rfl)
theorem dJ5_charAt_24 : decode cJ5_charAt 24 = .ok (.iload 4, 2) := dk_21 4 (dk_at dksJ5_charAt_1 0 rfl rfl)
theorem dJ5_charAt_26 : decode cJ5_charAt 26 = .ok (.invokestatic 144, 3) := dk_184 0 144 (dk_at dksJ5_charAt_1 2 rfl rfl)
theorem dJ5_charAt_29 : decode cJ5_charAt 29 = .ok (.iload_n 2, 1) := dk_28 (dk_at dksJ5_charAt_1 5 rfl rfl)
theorem dJ5_charAt_30 : decode cJ5_charAt 30 = .ok (.ifCond .ne 12, 3) := dk_154 0 12 (dk_at dksJ5_charAt_1 6 rfl rfl)
theorem dJ5_charAt_33 : decode cJ5_charAt 33 = .ok (.aload_n 3, 1) := dk_45 (dk_at dksJ5_charAt_1 9 rfl rfl)
theorem dJ5_charAt_34 : decode cJ5_charAt 34 = .ok (.iload_n 1, 1) := dk_27 (dk_at dksJ5_charAt_1 10 rfl rfl)
theorem dJ5_charAt_35 : decode cJ5_charAt 35 = .ok (.baload, 1) := dk_51 (dk_at dksJ5_charAt_1 11 rfl rfl)
theorem dJ5_charAt_36 : decode cJ5_charAt 36 = .ok (.sipush 255, 3) := dk_17 0 255 (dk_at dksJ5_charAt_1 12 rfl rfl)
theorem dJ5_charAt_39 : decode cJ5_charAt 39 = .ok (.iand, 1) := dk_126 (dk_at dksJ5_charAt_1 15 rfl rfl)
theorem dJ5_charAt_40 : decode cJ5_charAt 40 = .ok (.i2c, 1) := dk_146 (dk_at dksJ5_charAt_1 16 rfl rfl)
theorem dJ5_charAt_41 : decode cJ5_charAt 41 = .ok (.ireturn, 1) := dk_172 (dk_at dksJ5_charAt_1 17 rfl rfl)
theorem dJ5_charAt_42 : decode cJ5_charAt 42 = .ok (.aload_n 3, 1) := dk_45 (dk_at dksJ5_charAt_1 18 rfl rfl)
theorem dJ5_charAt_43 : decode cJ5_charAt 43 = .ok (.iload_n 1, 1) := dk_27 (dk_at dksJ5_charAt_1 19 rfl rfl)
theorem dJ5_charAt_44 : decode cJ5_charAt 44 = .ok (.invokestatic 148, 3) := dk_184 0 148 (dk_at dksJ5_charAt_1 20 rfl rfl)
theorem dJ5_charAt_47 : decode cJ5_charAt 47 = .ok (.ireturn, 1) := dk_172 (dk_at dksJ5_charAt_1 23 rfl rfl)
abbrev cJ5_append_3 : ByteArray := prog_17_method_34_code
def yJ5_append_3 : MethodName := ⟨RJ5, "append", "(F)Ljava/lang/AbstractStringBuilder;"⟩
def dkwJ5_append_3_0 : List UInt8 := [35, 42, 184, 1, 9, 87, 167, 0, 13, 77, 187, 1, 17, 89, 44, 183, 1, 19, 191, 42, 176]
abbrev dktJ5_append_3_0 : List UInt8 := dkwJ5_append_3_0 ++ []
theorem dksJ5_append_3_0 : cJ5_append_3.data.toList.drop 0 = dktJ5_append_3_0 := by decide +kernel
theorem dJ5_append_3_0 : decode cJ5_append_3 0 = .ok (.fload_n 1, 1) := dk_35 (dk_at dksJ5_append_3_0 0 rfl rfl)
theorem dJ5_append_3_1 : decode cJ5_append_3 1 = .ok (.aload_n 0, 1) := dk_42 (dk_at dksJ5_append_3_0 1 rfl rfl)
theorem dJ5_append_3_2 : decode cJ5_append_3 2 = .ok (.invokestatic 265, 3) := dk_184 1 9 (dk_at dksJ5_append_3_0 2 rfl rfl)
theorem dJ5_append_3_5 : decode cJ5_append_3 5 = .ok (.pop, 1) := dk_87 (dk_at dksJ5_append_3_0 5 rfl rfl)
theorem dJ5_append_3_6 : decode cJ5_append_3 6 = .ok (.goto 13, 3) := dk_167 0 13 (dk_at dksJ5_append_3_0 6 rfl rfl)
theorem dJ5_append_3_9 : decode cJ5_append_3 9 = .ok (.astore_n 2, 1) := dk_77 (dk_at dksJ5_append_3_0 9 rfl rfl)
theorem dJ5_append_3_10 : decode cJ5_append_3 10 = .ok (.new 273, 3) := dk_187 1 17 (dk_at dksJ5_append_3_0 10 rfl rfl)
theorem dJ5_append_3_13 : decode cJ5_append_3 13 = .ok (.dup, 1) := dk_89 (dk_at dksJ5_append_3_0 13 rfl rfl)
theorem dJ5_append_3_14 : decode cJ5_append_3 14 = .ok (.aload_n 2, 1) := dk_44 (dk_at dksJ5_append_3_0 14 rfl rfl)
theorem dJ5_append_3_15 : decode cJ5_append_3 15 = .ok (.invokespecial 275, 3) := dk_183 1 19 (dk_at dksJ5_append_3_0 15 rfl rfl)
theorem dJ5_append_3_18 : decode cJ5_append_3 18 = .ok (.athrow, 1) := dk_191 (dk_at dksJ5_append_3_0 18 rfl rfl)
theorem dJ5_append_3_19 : decode cJ5_append_3 19 = .ok (.aload_n 0, 1) := dk_42 (dk_at dksJ5_append_3_0 19 rfl rfl)
theorem dJ5_append_3_20 : decode cJ5_append_3 20 = .ok (.areturn, 1) := dk_176 (dk_at dksJ5_append_3_0 20 rfl rfl)
abbrev cJ5_append_4 : ByteArray := prog_17_method_28_code
def yJ5_append_4 : MethodName := ⟨RJ5, "append", "([C)Ljava/lang/AbstractStringBuilder;"⟩
def dkwJ5_append_4_0 : List UInt8 := [43, 190, 61, 42, 42, 180, 0, 79, 28, 96, 182, 0, 100, 42, 43, 3, 28, 182, 0, 239, 42, 176]
abbrev dktJ5_append_4_0 : List UInt8 := dkwJ5_append_4_0 ++ []
theorem dksJ5_append_4_0 : cJ5_append_4.data.toList.drop 0 = dktJ5_append_4_0 := by decide +kernel
theorem dJ5_append_4_0 : decode cJ5_append_4 0 = .ok (.aload_n 1, 1) := dk_43 (dk_at dksJ5_append_4_0 0 rfl rfl)
theorem dJ5_append_4_1 : decode cJ5_append_4 1 = .ok (.arraylength, 1) := dk_190 (dk_at dksJ5_append_4_0 1 rfl rfl)
theorem dJ5_append_4_2 : decode cJ5_append_4 2 = .ok (.istore_n 2, 1) := dk_61 (dk_at dksJ5_append_4_0 2 rfl rfl)
theorem dJ5_append_4_3 : decode cJ5_append_4 3 = .ok (.aload_n 0, 1) := dk_42 (dk_at dksJ5_append_4_0 3 rfl rfl)
theorem dJ5_append_4_4 : decode cJ5_append_4 4 = .ok (.aload_n 0, 1) := dk_42 (dk_at dksJ5_append_4_0 4 rfl rfl)
theorem dJ5_append_4_5 : decode cJ5_append_4 5 = .ok (.getfield 79, 3) := dk_180 0 79 (dk_at dksJ5_append_4_0 5 rfl rfl)
theorem dJ5_append_4_8 : decode cJ5_append_4 8 = .ok (.iload_n 2, 1) := dk_28 (dk_at dksJ5_append_4_0 8 rfl rfl)
theorem dJ5_append_4_9 : decode cJ5_append_4 9 = .ok (.iadd, 1) := dk_96 (dk_at dksJ5_append_4_0 9 rfl rfl)
theorem dJ5_append_4_10 : decode cJ5_append_4 10 = .ok (.invokevirtual 100, 3) := dk_182 0 100 (dk_at dksJ5_append_4_0 10 rfl rfl)
theorem dJ5_append_4_13 : decode cJ5_append_4 13 = .ok (.aload_n 0, 1) := dk_42 (dk_at dksJ5_append_4_0 13 rfl rfl)
theorem dJ5_append_4_14 : decode cJ5_append_4 14 = .ok (.aload_n 1, 1) := dk_43 (dk_at dksJ5_append_4_0 14 rfl rfl)
theorem dJ5_append_4_15 : decode cJ5_append_4 15 = .ok (.iconst 0, 1) := dk_3 (dk_at dksJ5_append_4_0 15 rfl rfl)
theorem dJ5_append_4_16 : decode cJ5_append_4 16 = .ok (.iload_n 2, 1) := dk_28 (dk_at dksJ5_append_4_0 16 rfl rfl)
theorem dJ5_append_4_17 : decode cJ5_append_4 17 = .ok (.invokevirtual 239, 3) := dk_182 0 239 (dk_at dksJ5_append_4_0 17 rfl rfl)
theorem dJ5_append_4_20 : decode cJ5_append_4 20 = .ok (.aload_n 0, 1) := dk_42 (dk_at dksJ5_append_4_0 20 rfl rfl)
theorem dJ5_append_4_21 : decode cJ5_append_4 21 = .ok (.areturn, 1) := dk_176 (dk_at dksJ5_append_4_0 21 rfl rfl)
abbrev cJ5_appendChars : ByteArray := prog_17_method_74_code
def yJ5_appendChars : MethodName := ⟨RJ5, "appendChars", "([CII)V"⟩
def dkwJ5_appendChars_5 : List UInt8 := [184, 1, 130, 42, 21, 4, 29, 96, 28, 100, 181, 0, 79, 177]
abbrev dktJ5_appendChars_5 : List UInt8 := dkwJ5_appendChars_5 ++ []
def dkwJ5_appendChars_4 : List UInt8 := [181, 0, 79, 177, 132, 6, 1, 167, 255, 181, 167, 0, 15, 42, 180, 0, 15, 21, 4, 43, 28, 29]
abbrev dktJ5_appendChars_4 : List UInt8 := dkwJ5_appendChars_4 ++ dktJ5_appendChars_5
def dkwJ5_appendChars_3 : List UInt8 := [182, 0, 195, 42, 180, 0, 15, 21, 7, 43, 21, 6, 29, 184, 1, 130, 42, 21, 4, 29, 96, 21, 6, 100]
abbrev dktJ5_appendChars_3 : List UInt8 := dkwJ5_appendChars_3 ++ dktJ5_appendChars_4
def dkwJ5_appendChars_2 : List UInt8 := [21, 7, 132, 7, 1, 21, 8, 145, 84, 167, 0, 41, 42, 21, 7, 89, 54, 4, 181, 0, 79, 42]
abbrev dktJ5_appendChars_2 : List UInt8 := dkwJ5_appendChars_2 ++ dktJ5_appendChars_3
def dkwJ5_appendChars_1 : List UInt8 := [54, 7, 21, 6, 29, 162, 0, 75, 43, 21, 6, 52, 54, 8, 21, 8, 184, 0, 191, 153, 0, 17, 25, 5]
abbrev dktJ5_appendChars_1 : List UInt8 := dkwJ5_appendChars_1 ++ dktJ5_appendChars_2
def dkwJ5_appendChars_0 : List UInt8 := [42, 180, 0, 79, 54, 4, 42, 182, 0, 83, 153, 0, 97, 42, 180, 0, 15, 58, 5, 28, 54, 6, 21, 4]
abbrev dktJ5_appendChars_0 : List UInt8 := dkwJ5_appendChars_0 ++ dktJ5_appendChars_1
theorem dksJ5_appendChars_0 : cJ5_appendChars.data.toList.drop 0 = dktJ5_appendChars_0 := by decide +kernel
theorem dksJ5_appendChars_1 : cJ5_appendChars.data.toList.drop 24 = dktJ5_appendChars_1 := dk_seg dksJ5_appendChars_0 24 rfl rfl
theorem dksJ5_appendChars_2 : cJ5_appendChars.data.toList.drop 48 = dktJ5_appendChars_2 := dk_seg dksJ5_appendChars_1 24 rfl rfl
theorem dksJ5_appendChars_3 : cJ5_appendChars.data.toList.drop 70 = dktJ5_appendChars_3 := dk_seg dksJ5_appendChars_2 22 rfl rfl
theorem dksJ5_appendChars_4 : cJ5_appendChars.data.toList.drop 94 = dktJ5_appendChars_4 := dk_seg dksJ5_appendChars_3 24 rfl rfl
theorem dksJ5_appendChars_5 : cJ5_appendChars.data.toList.drop 116 = dktJ5_appendChars_5 := dk_seg dksJ5_appendChars_4 22 rfl rfl
theorem dJ5_appendChars_0 : decode cJ5_appendChars 0 = .ok (.aload_n 0, 1) := dk_42 (dk_at dksJ5_appendChars_0 0 rfl rfl)
theorem dJ5_appendChars_1 : decode cJ5_appendChars 1 = .ok (.getfield 79, 3) := dk_180 0 79 (dk_at dksJ5_appendChars_0 1 rfl rfl)
theorem dJ5_appendChars_4 : decode cJ5_appendChars 4 = .ok (.istore 4, 2) := dk_54 4 (dk_at dksJ5_appendChars_0 4 rfl rfl)
theorem dJ5_appendChars_6 : decode cJ5_appendChars 6 = .ok (.aload_n 0, 1) := dk_42 (dk_at dksJ5_appendChars_0 6 rfl rfl)
theorem dJ5_appendChars_7 : decode cJ5_appendChars 7 = .ok (.invokevirtual 83, 3) := dk_182 0 83 (dk_at dksJ5_appendChars_0 7 rfl rfl)
theorem dJ5_appendChars_10 : decode cJ5_appendChars 10 = .ok (.ifCond .eq 97, 3) := dk_153 0 97 (dk_at dksJ5_appendChars_0 10 rfl rfl)
theorem dJ5_appendChars_13 : decode cJ5_appendChars 13 = .ok (.aload_n 0, 1) := dk_42 (dk_at dksJ5_appendChars_0 13 rfl rfl)
theorem dJ5_appendChars_14 : decode cJ5_appendChars 14 = .ok (.getfield 15, 3) := dk_180 0 15 (dk_at dksJ5_appendChars_0 14 rfl rfl)
theorem dJ5_appendChars_17 : decode cJ5_appendChars 17 = .ok (.astore 5, 2) := dk_58 5 (dk_at dksJ5_appendChars_0 17 rfl rfl)
theorem dJ5_appendChars_19 : decode cJ5_appendChars 19 = .ok (.iload_n 2, 1) := dk_28 (dk_at dksJ5_appendChars_0 19 rfl rfl)
theorem dJ5_appendChars_20 : decode cJ5_appendChars 20 = .ok (.istore 6, 2) := dk_54 6 (dk_at dksJ5_appendChars_0 20 rfl rfl)
theorem dJ5_appendChars_22 : decode cJ5_appendChars 22 = .ok (.iload 4, 2) := dk_21 4 (dk_at dksJ5_appendChars_0 22 rfl rfl)
theorem dJ5_appendChars_24 : decode cJ5_appendChars 24 = .ok (.istore 7, 2) := dk_54 7 (dk_at dksJ5_appendChars_1 0 rfl rfl)
theorem dJ5_appendChars_26 : decode cJ5_appendChars 26 = .ok (.iload 6, 2) := dk_21 6 (dk_at dksJ5_appendChars_1 2 rfl rfl)
theorem dJ5_appendChars_28 : decode cJ5_appendChars 28 = .ok (.iload_n 3, 1) := dk_29 (dk_at dksJ5_appendChars_1 4 rfl rfl)
theorem dJ5_appendChars_29 : decode cJ5_appendChars 29 = .ok (.if_icmp .ge 75, 3) := dk_162 0 75 (dk_at dksJ5_appendChars_1 5 rfl rfl)
theorem dJ5_appendChars_32 : decode cJ5_appendChars 32 = .ok (.aload_n 1, 1) := dk_43 (dk_at dksJ5_appendChars_1 8 rfl rfl)
theorem dJ5_appendChars_33 : decode cJ5_appendChars 33 = .ok (.iload 6, 2) := dk_21 6 (dk_at dksJ5_appendChars_1 9 rfl rfl)
theorem dJ5_appendChars_35 : decode cJ5_appendChars 35 = .ok (.caload, 1) := dk_52 (dk_at dksJ5_appendChars_1 11 rfl rfl)
theorem dJ5_appendChars_36 : decode cJ5_appendChars 36 = .ok (.istore 8, 2) := dk_54 8 (dk_at dksJ5_appendChars_1 12 rfl rfl)
theorem dJ5_appendChars_38 : decode cJ5_appendChars 38 = .ok (.iload 8, 2) := dk_21 8 (dk_at dksJ5_appendChars_1 14 rfl rfl)
theorem dJ5_appendChars_40 : decode cJ5_appendChars 40 = .ok (.invokestatic 191, 3) := dk_184 0 191 (dk_at dksJ5_appendChars_1 16 rfl rfl)
theorem dJ5_appendChars_43 : decode cJ5_appendChars 43 = .ok (.ifCond .eq 17, 3) := dk_153 0 17 (dk_at dksJ5_appendChars_1 19 rfl rfl)
theorem dJ5_appendChars_46 : decode cJ5_appendChars 46 = .ok (.aload 5, 2) := dk_25 5 (dk_at dksJ5_appendChars_1 22 rfl rfl)
theorem dJ5_appendChars_48 : decode cJ5_appendChars 48 = .ok (.iload 7, 2) := dk_21 7 (dk_at dksJ5_appendChars_2 0 rfl rfl)
theorem dJ5_appendChars_50 : decode cJ5_appendChars 50 = .ok (.iinc 7 1, 3) := dk_132 7 1 (dk_at dksJ5_appendChars_2 2 rfl rfl)
theorem dJ5_appendChars_53 : decode cJ5_appendChars 53 = .ok (.iload 8, 2) := dk_21 8 (dk_at dksJ5_appendChars_2 5 rfl rfl)
theorem dJ5_appendChars_55 : decode cJ5_appendChars 55 = .ok (.i2b, 1) := dk_145 (dk_at dksJ5_appendChars_2 7 rfl rfl)
theorem dJ5_appendChars_56 : decode cJ5_appendChars 56 = .ok (.bastore, 1) := dk_84 (dk_at dksJ5_appendChars_2 8 rfl rfl)
theorem dJ5_appendChars_57 : decode cJ5_appendChars 57 = .ok (.goto 41, 3) := dk_167 0 41 (dk_at dksJ5_appendChars_2 9 rfl rfl)
theorem dJ5_appendChars_60 : decode cJ5_appendChars 60 = .ok (.aload_n 0, 1) := dk_42 (dk_at dksJ5_appendChars_2 12 rfl rfl)
theorem dJ5_appendChars_61 : decode cJ5_appendChars 61 = .ok (.iload 7, 2) := dk_21 7 (dk_at dksJ5_appendChars_2 13 rfl rfl)
theorem dJ5_appendChars_63 : decode cJ5_appendChars 63 = .ok (.dup, 1) := dk_89 (dk_at dksJ5_appendChars_2 15 rfl rfl)
theorem dJ5_appendChars_64 : decode cJ5_appendChars 64 = .ok (.istore 4, 2) := dk_54 4 (dk_at dksJ5_appendChars_2 16 rfl rfl)
theorem dJ5_appendChars_66 : decode cJ5_appendChars 66 = .ok (.putfield 79, 3) := dk_181 0 79 (dk_at dksJ5_appendChars_2 18 rfl rfl)
theorem dJ5_appendChars_69 : decode cJ5_appendChars 69 = .ok (.aload_n 0, 1) := dk_42 (dk_at dksJ5_appendChars_2 21 rfl rfl)
theorem dJ5_appendChars_70 : decode cJ5_appendChars 70 = .ok (.invokevirtual 195, 3) := dk_182 0 195 (dk_at dksJ5_appendChars_3 0 rfl rfl)
theorem dJ5_appendChars_73 : decode cJ5_appendChars 73 = .ok (.aload_n 0, 1) := dk_42 (dk_at dksJ5_appendChars_3 3 rfl rfl)
theorem dJ5_appendChars_74 : decode cJ5_appendChars 74 = .ok (.getfield 15, 3) := dk_180 0 15 (dk_at dksJ5_appendChars_3 4 rfl rfl)
theorem dJ5_appendChars_77 : decode cJ5_appendChars 77 = .ok (.iload 7, 2) := dk_21 7 (dk_at dksJ5_appendChars_3 7 rfl rfl)
theorem dJ5_appendChars_79 : decode cJ5_appendChars 79 = .ok (.aload_n 1, 1) := dk_43 (dk_at dksJ5_appendChars_3 9 rfl rfl)
theorem dJ5_appendChars_80 : decode cJ5_appendChars 80 = .ok (.iload 6, 2) := dk_21 6 (dk_at dksJ5_appendChars_3 10 rfl rfl)
theorem dJ5_appendChars_82 : decode cJ5_appendChars 82 = .ok (.iload_n 3, 1) := dk_29 (dk_at dksJ5_appendChars_3 12 rfl rfl)
theorem dJ5_appendChars_83 : decode cJ5_appendChars 83 = .ok (.invokestatic 386, 3) := dk_184 1 130 (dk_at dksJ5_appendChars_3 13 rfl rfl)
theorem dJ5_appendChars_86 : decode cJ5_appendChars 86 = .ok (.aload_n 0, 1) := dk_42 (dk_at dksJ5_appendChars_3 16 rfl rfl)
theorem dJ5_appendChars_87 : decode cJ5_appendChars 87 = .ok (.iload 4, 2) := dk_21 4 (dk_at dksJ5_appendChars_3 17 rfl rfl)
theorem dJ5_appendChars_89 : decode cJ5_appendChars 89 = .ok (.iload_n 3, 1) := dk_29 (dk_at dksJ5_appendChars_3 19 rfl rfl)
theorem dJ5_appendChars_90 : decode cJ5_appendChars 90 = .ok (.iadd, 1) := dk_96 (dk_at dksJ5_appendChars_3 20 rfl rfl)
theorem dJ5_appendChars_91 : decode cJ5_appendChars 91 = .ok (.iload 6, 2) := dk_21 6 (dk_at dksJ5_appendChars_3 21 rfl rfl)
theorem dJ5_appendChars_93 : decode cJ5_appendChars 93 = .ok (.isub, 1) := dk_100 (dk_at dksJ5_appendChars_3 23 rfl rfl)
theorem dJ5_appendChars_94 : decode cJ5_appendChars 94 = .ok (.putfield 79, 3) := dk_181 0 79 (dk_at dksJ5_appendChars_4 0 rfl rfl)
theorem dJ5_appendChars_97 : decode cJ5_appendChars 97 = .ok (.return_, 1) := dk_177 (dk_at dksJ5_appendChars_4 3 rfl rfl)
theorem dJ5_appendChars_98 : decode cJ5_appendChars 98 = .ok (.iinc 6 1, 3) := dk_132 6 1 (dk_at dksJ5_appendChars_4 4 rfl rfl)
theorem dJ5_appendChars_101 : decode cJ5_appendChars 101 = .ok (.goto (-75), 3) := dk_167 255 181 (dk_at dksJ5_appendChars_4 7 rfl rfl)
theorem dJ5_appendChars_104 : decode cJ5_appendChars 104 = .ok (.goto 15, 3) := dk_167 0 15 (dk_at dksJ5_appendChars_4 10 rfl rfl)
theorem dJ5_appendChars_107 : decode cJ5_appendChars 107 = .ok (.aload_n 0, 1) := dk_42 (dk_at dksJ5_appendChars_4 13 rfl rfl)
theorem dJ5_appendChars_108 : decode cJ5_appendChars 108 = .ok (.getfield 15, 3) := dk_180 0 15 (dk_at dksJ5_appendChars_4 14 rfl rfl)
theorem dJ5_appendChars_111 : decode cJ5_appendChars 111 = .ok (.iload 4, 2) := dk_21 4 (dk_at dksJ5_appendChars_4 17 rfl rfl)
theorem dJ5_appendChars_113 : decode cJ5_appendChars 113 = .ok (.aload_n 1, 1) := dk_43 (dk_at dksJ5_appendChars_4 19 rfl rfl)
theorem dJ5_appendChars_114 : decode cJ5_appendChars 114 = .ok (.iload_n 2, 1) := dk_28 (dk_at dksJ5_appendChars_4 20 rfl rfl)
theorem dJ5_appendChars_115 : decode cJ5_appendChars 115 = .ok (.iload_n 3, 1) := dk_29 (dk_at dksJ5_appendChars_4 21 rfl rfl)
theorem dJ5_appendChars_116 : decode cJ5_appendChars 116 = .ok (.invokestatic 386, 3) := dk_184 1 130 (dk_at dksJ5_appendChars_5 0 rfl rfl)
theorem dJ5_appendChars_119 : decode cJ5_appendChars 119 = .ok (.aload_n 0, 1) := dk_42 (dk_at dksJ5_appendChars_5 3 rfl rfl)
theorem dJ5_appendChars_120 : decode cJ5_appendChars 120 = .ok (.iload 4, 2) := dk_21 4 (dk_at dksJ5_appendChars_5 4 rfl rfl)
theorem dJ5_appendChars_122 : decode cJ5_appendChars 122 = .ok (.iload_n 3, 1) := dk_29 (dk_at dksJ5_appendChars_5 6 rfl rfl)
theorem dJ5_appendChars_123 : decode cJ5_appendChars 123 = .ok (.iadd, 1) := dk_96 (dk_at dksJ5_appendChars_5 7 rfl rfl)
theorem dJ5_appendChars_124 : decode cJ5_appendChars 124 = .ok (.iload_n 2, 1) := dk_28 (dk_at dksJ5_appendChars_5 8 rfl rfl)
theorem dJ5_appendChars_125 : decode cJ5_appendChars 125 = .ok (.isub, 1) := dk_100 (dk_at dksJ5_appendChars_5 9 rfl rfl)
theorem dJ5_appendChars_126 : decode cJ5_appendChars 126 = .ok (.putfield 79, 3) := dk_181 0 79 (dk_at dksJ5_appendChars_5 10 rfl rfl)
theorem dJ5_appendChars_129 : decode cJ5_appendChars 129 = .ok (.return_, 1) := dk_177 (dk_at dksJ5_appendChars_5 13 rfl rfl)
abbrev cJ5_append_5 : ByteArray := prog_17_method_31_code
def yJ5_append_5 : MethodName := ⟨RJ5, "append", "(C)Ljava/lang/AbstractStringBuilder;"⟩
def dkwJ5_append_5_3 : List UInt8 := [181, 0, 79, 27, 184, 0, 197, 42, 176]
abbrev dktJ5_append_5_3 : List UInt8 := dkwJ5_append_5_3 ++ []
def dkwJ5_append_5_2 : List UInt8 := [182, 0, 83, 153, 0, 7, 42, 182, 0, 195, 42, 180, 0, 15, 42, 89, 180, 0, 79, 90, 4, 96]
abbrev dktJ5_append_5_2 : List UInt8 := dkwJ5_append_5_2 ++ dktJ5_append_5_3
def dkwJ5_append_5_1 : List UInt8 := [42, 180, 0, 15, 42, 89, 180, 0, 79, 90, 4, 96, 181, 0, 79, 27, 145, 84, 167, 0, 33, 42]
abbrev dktJ5_append_5_1 : List UInt8 := dkwJ5_append_5_1 ++ dktJ5_append_5_2
def dkwJ5_append_5_0 : List UInt8 := [42, 42, 180, 0, 79, 4, 96, 182, 0, 100, 42, 182, 0, 83, 153, 0, 31, 27, 184, 0, 191, 153, 0, 24]
abbrev dktJ5_append_5_0 : List UInt8 := dkwJ5_append_5_0 ++ dktJ5_append_5_1
theorem dksJ5_append_5_0 : cJ5_append_5.data.toList.drop 0 = dktJ5_append_5_0 := by decide +kernel
theorem dksJ5_append_5_1 : cJ5_append_5.data.toList.drop 24 = dktJ5_append_5_1 := dk_seg dksJ5_append_5_0 24 rfl rfl
theorem dksJ5_append_5_2 : cJ5_append_5.data.toList.drop 46 = dktJ5_append_5_2 := dk_seg dksJ5_append_5_1 22 rfl rfl
theorem dksJ5_append_5_3 : cJ5_append_5.data.toList.drop 68 = dktJ5_append_5_3 := dk_seg dksJ5_append_5_2 22 rfl rfl
theorem dJ5_append_5_0 : decode cJ5_append_5 0 = .ok (.aload_n 0, 1) := dk_42 (dk_at dksJ5_append_5_0 0 rfl rfl)
theorem dJ5_append_5_1 : decode cJ5_append_5 1 = .ok (.aload_n 0, 1) := dk_42 (dk_at dksJ5_append_5_0 1 rfl rfl)
theorem dJ5_append_5_2 : decode cJ5_append_5 2 = .ok (.getfield 79, 3) := dk_180 0 79 (dk_at dksJ5_append_5_0 2 rfl rfl)
theorem dJ5_append_5_5 : decode cJ5_append_5 5 = .ok (.iconst 1, 1) := dk_4 (dk_at dksJ5_append_5_0 5 rfl rfl)
theorem dJ5_append_5_6 : decode cJ5_append_5 6 = .ok (.iadd, 1) := dk_96 (dk_at dksJ5_append_5_0 6 rfl rfl)
theorem dJ5_append_5_7 : decode cJ5_append_5 7 = .ok (.invokevirtual 100, 3) := dk_182 0 100 (dk_at dksJ5_append_5_0 7 rfl rfl)
theorem dJ5_append_5_10 : decode cJ5_append_5 10 = .ok (.aload_n 0, 1) := dk_42 (dk_at dksJ5_append_5_0 10 rfl rfl)
theorem dJ5_append_5_11 : decode cJ5_append_5 11 = .ok (.invokevirtual 83, 3) := dk_182 0 83 (dk_at dksJ5_append_5_0 11 rfl rfl)
theorem dJ5_append_5_14 : decode cJ5_append_5 14 = .ok (.ifCond .eq 31, 3) := dk_153 0 31 (dk_at dksJ5_append_5_0 14 rfl rfl)
theorem dJ5_append_5_17 : decode cJ5_append_5 17 = .ok (.iload_n 1, 1) := dk_27 (dk_at dksJ5_append_5_0 17 rfl rfl)
theorem dJ5_append_5_18 : decode cJ5_append_5 18 = .ok (.invokestatic 191, 3) := dk_184 0 191 (dk_at dksJ5_append_5_0 18 rfl rfl)
theorem dJ5_append_5_21 : decode cJ5_append_5 21 = .ok (.ifCond .eq 24, 3) := dk_153 0 24 (dk_at dksJ5_append_5_0 21 rfl rfl)
theorem dJ5_append_5_24 : decode cJ5_append_5 24 = .ok (.aload_n 0, 1) := dk_42 (dk_at dksJ5_append_5_1 0 rfl rfl)
theorem dJ5_append_5_25 : decode cJ5_append_5 25 = .ok (.getfield 15, 3) := dk_180 0 15 (dk_at dksJ5_append_5_1 1 rfl rfl)
theorem dJ5_append_5_28 : decode cJ5_append_5 28 = .ok (.aload_n 0, 1) := dk_42 (dk_at dksJ5_append_5_1 4 rfl rfl)
theorem dJ5_append_5_29 : decode cJ5_append_5 29 = .ok (.dup, 1) := dk_89 (dk_at dksJ5_append_5_1 5 rfl rfl)
theorem dJ5_append_5_30 : decode cJ5_append_5 30 = .ok (.getfield 79, 3) := dk_180 0 79 (dk_at dksJ5_append_5_1 6 rfl rfl)
theorem dJ5_append_5_33 : decode cJ5_append_5 33 = .ok (.dup_x1, 1) := dk_90 (dk_at dksJ5_append_5_1 9 rfl rfl)
theorem dJ5_append_5_34 : decode cJ5_append_5 34 = .ok (.iconst 1, 1) := dk_4 (dk_at dksJ5_append_5_1 10 rfl rfl)
theorem dJ5_append_5_35 : decode cJ5_append_5 35 = .ok (.iadd, 1) := dk_96 (dk_at dksJ5_append_5_1 11 rfl rfl)
theorem dJ5_append_5_36 : decode cJ5_append_5 36 = .ok (.putfield 79, 3) := dk_181 0 79 (dk_at dksJ5_append_5_1 12 rfl rfl)
theorem dJ5_append_5_39 : decode cJ5_append_5 39 = .ok (.iload_n 1, 1) := dk_27 (dk_at dksJ5_append_5_1 15 rfl rfl)
theorem dJ5_append_5_40 : decode cJ5_append_5 40 = .ok (.i2b, 1) := dk_145 (dk_at dksJ5_append_5_1 16 rfl rfl)
theorem dJ5_append_5_41 : decode cJ5_append_5 41 = .ok (.bastore, 1) := dk_84 (dk_at dksJ5_append_5_1 17 rfl rfl)
theorem dJ5_append_5_42 : decode cJ5_append_5 42 = .ok (.goto 33, 3) := dk_167 0 33 (dk_at dksJ5_append_5_1 18 rfl rfl)
theorem dJ5_append_5_45 : decode cJ5_append_5 45 = .ok (.aload_n 0, 1) := dk_42 (dk_at dksJ5_append_5_1 21 rfl rfl)
theorem dJ5_append_5_46 : decode cJ5_append_5 46 = .ok (.invokevirtual 83, 3) := dk_182 0 83 (dk_at dksJ5_append_5_2 0 rfl rfl)
theorem dJ5_append_5_49 : decode cJ5_append_5 49 = .ok (.ifCond .eq 7, 3) := dk_153 0 7 (dk_at dksJ5_append_5_2 3 rfl rfl)
theorem dJ5_append_5_52 : decode cJ5_append_5 52 = .ok (.aload_n 0, 1) := dk_42 (dk_at dksJ5_append_5_2 6 rfl rfl)
theorem dJ5_append_5_53 : decode cJ5_append_5 53 = .ok (.invokevirtual 195, 3) := dk_182 0 195 (dk_at dksJ5_append_5_2 7 rfl rfl)
theorem dJ5_append_5_56 : decode cJ5_append_5 56 = .ok (.aload_n 0, 1) := dk_42 (dk_at dksJ5_append_5_2 10 rfl rfl)
theorem dJ5_append_5_57 : decode cJ5_append_5 57 = .ok (.getfield 15, 3) := dk_180 0 15 (dk_at dksJ5_append_5_2 11 rfl rfl)
theorem dJ5_append_5_60 : decode cJ5_append_5 60 = .ok (.aload_n 0, 1) := dk_42 (dk_at dksJ5_append_5_2 14 rfl rfl)
theorem dJ5_append_5_61 : decode cJ5_append_5 61 = .ok (.dup, 1) := dk_89 (dk_at dksJ5_append_5_2 15 rfl rfl)
theorem dJ5_append_5_62 : decode cJ5_append_5 62 = .ok (.getfield 79, 3) := dk_180 0 79 (dk_at dksJ5_append_5_2 16 rfl rfl)
theorem dJ5_append_5_65 : decode cJ5_append_5 65 = .ok (.dup_x1, 1) := dk_90 (dk_at dksJ5_append_5_2 19 rfl rfl)
theorem dJ5_append_5_66 : decode cJ5_append_5 66 = .ok (.iconst 1, 1) := dk_4 (dk_at dksJ5_append_5_2 20 rfl rfl)
theorem dJ5_append_5_67 : decode cJ5_append_5 67 = .ok (.iadd, 1) := dk_96 (dk_at dksJ5_append_5_2 21 rfl rfl)
theorem dJ5_append_5_68 : decode cJ5_append_5 68 = .ok (.putfield 79, 3) := dk_181 0 79 (dk_at dksJ5_append_5_3 0 rfl rfl)
theorem dJ5_append_5_71 : decode cJ5_append_5 71 = .ok (.iload_n 1, 1) := dk_27 (dk_at dksJ5_append_5_3 3 rfl rfl)
theorem dJ5_append_5_72 : decode cJ5_append_5 72 = .ok (.invokestatic 197, 3) := dk_184 0 197 (dk_at dksJ5_append_5_3 4 rfl rfl)
theorem dJ5_append_5_75 : decode cJ5_append_5 75 = .ok (.aload_n 0, 1) := dk_42 (dk_at dksJ5_append_5_3 7 rfl rfl)
theorem dJ5_append_5_76 : decode cJ5_append_5 76 = .ok (.areturn, 1) := dk_176 (dk_at dksJ5_append_5_3 8 rfl rfl)
abbrev cJ5_append_6 : ByteArray := prog_17_method_25_code
def yJ5_append_6 : MethodName := ⟨RJ5, "append", "(Ljava/lang/CharSequence;)Ljava/lang/AbstractStringBuilder;"⟩
def dkwJ5_append_6_2 : List UInt8 := [185, 0, 47, 1, 0, 182, 0, 223, 176]
abbrev dktJ5_append_6_2 : List UInt8 := dkwJ5_append_6_2 ++ []
def dkwJ5_append_6_1 : List UInt8 := [176, 43, 193, 0, 10, 153, 0, 12, 42, 43, 192, 0, 10, 182, 0, 212, 176, 42, 43, 3, 43]
abbrev dktJ5_append_6_1 : List UInt8 := dkwJ5_append_6_1 ++ dktJ5_append_6_2
def dkwJ5_append_6_0 : List UInt8 := [43, 199, 0, 8, 42, 182, 0, 204, 176, 43, 193, 0, 1, 153, 0, 12, 42, 43, 192, 0, 1, 182, 0, 43]
abbrev dktJ5_append_6_0 : List UInt8 := dkwJ5_append_6_0 ++ dktJ5_append_6_1
theorem dksJ5_append_6_0 : cJ5_append_6.data.toList.drop 0 = dktJ5_append_6_0 := by decide +kernel
theorem dksJ5_append_6_1 : cJ5_append_6.data.toList.drop 24 = dktJ5_append_6_1 := dk_seg dksJ5_append_6_0 24 rfl rfl
theorem dksJ5_append_6_2 : cJ5_append_6.data.toList.drop 45 = dktJ5_append_6_2 := dk_seg dksJ5_append_6_1 21 rfl rfl
theorem dJ5_append_6_0 : decode cJ5_append_6 0 = .ok (.aload_n 1, 1) := dk_43 (dk_at dksJ5_append_6_0 0 rfl rfl)
theorem dJ5_append_6_1 : decode cJ5_append_6 1 = .ok (.ifnonnull 8, 3) := dk_199 0 8 (dk_at dksJ5_append_6_0 1 rfl rfl)
theorem dJ5_append_6_4 : decode cJ5_append_6 4 = .ok (.aload_n 0, 1) := dk_42 (dk_at dksJ5_append_6_0 4 rfl rfl)
theorem dJ5_append_6_5 : decode cJ5_append_6 5 = .ok (.invokevirtual 204, 3) := dk_182 0 204 (dk_at dksJ5_append_6_0 5 rfl rfl)
theorem dJ5_append_6_8 : decode cJ5_append_6 8 = .ok (.areturn, 1) := dk_176 (dk_at dksJ5_append_6_0 8 rfl rfl)
theorem dJ5_append_6_9 : decode cJ5_append_6 9 = .ok (.aload_n 1, 1) := dk_43 (dk_at dksJ5_append_6_0 9 rfl rfl)
theorem dJ5_append_6_10 : decode cJ5_append_6 10 = .ok (.instanceof 1, 3) := dk_193 0 1 (dk_at dksJ5_append_6_0 10 rfl rfl)
theorem dJ5_append_6_13 : decode cJ5_append_6 13 = .ok (.ifCond .eq 12, 3) := dk_153 0 12 (dk_at dksJ5_append_6_0 13 rfl rfl)
theorem dJ5_append_6_16 : decode cJ5_append_6 16 = .ok (.aload_n 0, 1) := dk_42 (dk_at dksJ5_append_6_0 16 rfl rfl)
theorem dJ5_append_6_17 : decode cJ5_append_6 17 = .ok (.aload_n 1, 1) := dk_43 (dk_at dksJ5_append_6_0 17 rfl rfl)
theorem dJ5_append_6_18 : decode cJ5_append_6 18 = .ok (.checkcast 1, 3) := dk_192 0 1 (dk_at dksJ5_append_6_0 18 rfl rfl)
theorem dJ5_append_6_21 : decode cJ5_append_6 21 = .ok (.invokevirtual 43, 3) := dk_182 0 43 (dk_at dksJ5_append_6_0 21 rfl rfl)
theorem dJ5_append_6_24 : decode cJ5_append_6 24 = .ok (.areturn, 1) := dk_176 (dk_at dksJ5_append_6_1 0 rfl rfl)
theorem dJ5_append_6_25 : decode cJ5_append_6 25 = .ok (.aload_n 1, 1) := dk_43 (dk_at dksJ5_append_6_1 1 rfl rfl)
theorem dJ5_append_6_26 : decode cJ5_append_6 26 = .ok (.instanceof 10, 3) := dk_193 0 10 (dk_at dksJ5_append_6_1 2 rfl rfl)
theorem dJ5_append_6_29 : decode cJ5_append_6 29 = .ok (.ifCond .eq 12, 3) := dk_153 0 12 (dk_at dksJ5_append_6_1 5 rfl rfl)
theorem dJ5_append_6_32 : decode cJ5_append_6 32 = .ok (.aload_n 0, 1) := dk_42 (dk_at dksJ5_append_6_1 8 rfl rfl)
theorem dJ5_append_6_33 : decode cJ5_append_6 33 = .ok (.aload_n 1, 1) := dk_43 (dk_at dksJ5_append_6_1 9 rfl rfl)
theorem dJ5_append_6_34 : decode cJ5_append_6 34 = .ok (.checkcast 10, 3) := dk_192 0 10 (dk_at dksJ5_append_6_1 10 rfl rfl)
theorem dJ5_append_6_37 : decode cJ5_append_6 37 = .ok (.invokevirtual 212, 3) := dk_182 0 212 (dk_at dksJ5_append_6_1 13 rfl rfl)
theorem dJ5_append_6_40 : decode cJ5_append_6 40 = .ok (.areturn, 1) := dk_176 (dk_at dksJ5_append_6_1 16 rfl rfl)
theorem dJ5_append_6_41 : decode cJ5_append_6 41 = .ok (.aload_n 0, 1) := dk_42 (dk_at dksJ5_append_6_1 17 rfl rfl)
theorem dJ5_append_6_42 : decode cJ5_append_6 42 = .ok (.aload_n 1, 1) := dk_43 (dk_at dksJ5_append_6_1 18 rfl rfl)
theorem dJ5_append_6_43 : decode cJ5_append_6 43 = .ok (.iconst 0, 1) := dk_3 (dk_at dksJ5_append_6_1 19 rfl rfl)
theorem dJ5_append_6_44 : decode cJ5_append_6 44 = .ok (.aload_n 1, 1) := dk_43 (dk_at dksJ5_append_6_1 20 rfl rfl)
theorem dJ5_append_6_45 : decode cJ5_append_6 45 = .ok (.invokeinterface 47 1, 5) := by decide +kernel
theorem dJ5_append_6_50 : decode cJ5_append_6 50 = .ok (.invokevirtual 223, 3) := dk_182 0 223 (dk_at dksJ5_append_6_2 5 rfl rfl)
theorem dJ5_append_6_53 : decode cJ5_append_6 53 = .ok (.areturn, 1) := dk_176 (dk_at dksJ5_append_6_2 8 rfl rfl)
abbrev cJ5_append_7 : ByteArray := prog_17_method_24_code
def yJ5_append_7 : MethodName := ⟨RJ5, "append", "(Ljava/lang/AbstractStringBuilder;)Ljava/lang/AbstractStringBuilder;"⟩
def dkwJ5_append_7_2 : List UInt8 := [180, 0, 79, 28, 96, 181, 0, 79, 42, 89, 180, 0, 73, 43, 180, 0, 73, 128, 181, 0, 73, 42, 176]
abbrev dktJ5_append_7_2 : List UInt8 := dkwJ5_append_7_2 ++ []
def dkwJ5_append_7_1 : List UInt8 := [42, 43, 182, 0, 215, 43, 42, 180, 0, 15, 42, 180, 0, 79, 42, 180, 0, 22, 182, 0, 219, 42, 89]
abbrev dktJ5_append_7_1 : List UInt8 := dkwJ5_append_7_1 ++ dktJ5_append_7_2
def dkwJ5_append_7_0 : List UInt8 := [43, 199, 0, 8, 42, 182, 0, 204, 176, 43, 182, 0, 160, 61, 42, 42, 180, 0, 79, 28, 96, 182, 0, 100]
abbrev dktJ5_append_7_0 : List UInt8 := dkwJ5_append_7_0 ++ dktJ5_append_7_1
theorem dksJ5_append_7_0 : cJ5_append_7.data.toList.drop 0 = dktJ5_append_7_0 := by decide +kernel
theorem dksJ5_append_7_1 : cJ5_append_7.data.toList.drop 24 = dktJ5_append_7_1 := dk_seg dksJ5_append_7_0 24 rfl rfl
theorem dksJ5_append_7_2 : cJ5_append_7.data.toList.drop 47 = dktJ5_append_7_2 := dk_seg dksJ5_append_7_1 23 rfl rfl
theorem dJ5_append_7_0 : decode cJ5_append_7 0 = .ok (.aload_n 1, 1) := dk_43 (dk_at dksJ5_append_7_0 0 rfl rfl)
theorem dJ5_append_7_1 : decode cJ5_append_7 1 = .ok (.ifnonnull 8, 3) := dk_199 0 8 (dk_at dksJ5_append_7_0 1 rfl rfl)
theorem dJ5_append_7_4 : decode cJ5_append_7 4 = .ok (.aload_n 0, 1) := dk_42 (dk_at dksJ5_append_7_0 4 rfl rfl)
theorem dJ5_append_7_5 : decode cJ5_append_7 5 = .ok (.invokevirtual 204, 3) := dk_182 0 204 (dk_at dksJ5_append_7_0 5 rfl rfl)
theorem dJ5_append_7_8 : decode cJ5_append_7 8 = .ok (.areturn, 1) := dk_176 (dk_at dksJ5_append_7_0 8 rfl rfl)
theorem dJ5_append_7_9 : decode cJ5_append_7 9 = .ok (.aload_n 1, 1) := dk_43 (dk_at dksJ5_append_7_0 9 rfl rfl)
theorem dJ5_append_7_10 : decode cJ5_append_7 10 = .ok (.invokevirtual 160, 3) := dk_182 0 160 (dk_at dksJ5_append_7_0 10 rfl rfl)
theorem dJ5_append_7_13 : decode cJ5_append_7 13 = .ok (.istore_n 2, 1) := dk_61 (dk_at dksJ5_append_7_0 13 rfl rfl)
theorem dJ5_append_7_14 : decode cJ5_append_7 14 = .ok (.aload_n 0, 1) := dk_42 (dk_at dksJ5_append_7_0 14 rfl rfl)
theorem dJ5_append_7_15 : decode cJ5_append_7 15 = .ok (.aload_n 0, 1) := dk_42 (dk_at dksJ5_append_7_0 15 rfl rfl)
theorem dJ5_append_7_16 : decode cJ5_append_7 16 = .ok (.getfield 79, 3) := dk_180 0 79 (dk_at dksJ5_append_7_0 16 rfl rfl)
theorem dJ5_append_7_19 : decode cJ5_append_7 19 = .ok (.iload_n 2, 1) := dk_28 (dk_at dksJ5_append_7_0 19 rfl rfl)
theorem dJ5_append_7_20 : decode cJ5_append_7 20 = .ok (.iadd, 1) := dk_96 (dk_at dksJ5_append_7_0 20 rfl rfl)
theorem dJ5_append_7_21 : decode cJ5_append_7 21 = .ok (.invokevirtual 100, 3) := dk_182 0 100 (dk_at dksJ5_append_7_0 21 rfl rfl)
theorem dJ5_append_7_24 : decode cJ5_append_7 24 = .ok (.aload_n 0, 1) := dk_42 (dk_at dksJ5_append_7_1 0 rfl rfl)
theorem dJ5_append_7_25 : decode cJ5_append_7 25 = .ok (.aload_n 1, 1) := dk_43 (dk_at dksJ5_append_7_1 1 rfl rfl)
theorem dJ5_append_7_26 : decode cJ5_append_7 26 = .ok (.invokevirtual 215, 3) := dk_182 0 215 (dk_at dksJ5_append_7_1 2 rfl rfl)
theorem dJ5_append_7_29 : decode cJ5_append_7 29 = .ok (.aload_n 1, 1) := dk_43 (dk_at dksJ5_append_7_1 5 rfl rfl)
theorem dJ5_append_7_30 : decode cJ5_append_7 30 = .ok (.aload_n 0, 1) := dk_42 (dk_at dksJ5_append_7_1 6 rfl rfl)
theorem dJ5_append_7_31 : decode cJ5_append_7 31 = .ok (.getfield 15, 3) := dk_180 0 15 (dk_at dksJ5_append_7_1 7 rfl rfl)
theorem dJ5_append_7_34 : decode cJ5_append_7 34 = .ok (.aload_n 0, 1) := dk_42 (dk_at dksJ5_append_7_1 10 rfl rfl)
theorem dJ5_append_7_35 : decode cJ5_append_7 35 = .ok (.getfield 79, 3) := dk_180 0 79 (dk_at dksJ5_append_7_1 11 rfl rfl)
theorem dJ5_append_7_38 : decode cJ5_append_7 38 = .ok (.aload_n 0, 1) := dk_42 (dk_at dksJ5_append_7_1 14 rfl rfl)
theorem dJ5_append_7_39 : decode cJ5_append_7 39 = .ok (.getfield 22, 3) := dk_180 0 22 (dk_at dksJ5_append_7_1 15 rfl rfl)
theorem dJ5_append_7_42 : decode cJ5_append_7 42 = .ok (.invokevirtual 219, 3) := dk_182 0 219 (dk_at dksJ5_append_7_1 18 rfl rfl)
theorem dJ5_append_7_45 : decode cJ5_append_7 45 = .ok (.aload_n 0, 1) := dk_42 (dk_at dksJ5_append_7_1 21 rfl rfl)
theorem dJ5_append_7_46 : decode cJ5_append_7 46 = .ok (.dup, 1) := dk_89 (dk_at dksJ5_append_7_1 22 rfl rfl)
theorem dJ5_append_7_47 : decode cJ5_append_7 47 = .ok (.getfield 79, 3) := dk_180 0 79 (dk_at dksJ5_append_7_2 0 rfl rfl)
theorem dJ5_append_7_50 : decode cJ5_append_7 50 = .ok (.iload_n 2, 1) := dk_28 (dk_at dksJ5_append_7_2 3 rfl rfl)
theorem dJ5_append_7_51 : decode cJ5_append_7 51 = .ok (.iadd, 1) := dk_96 (dk_at dksJ5_append_7_2 4 rfl rfl)
theorem dJ5_append_7_52 : decode cJ5_append_7 52 = .ok (.putfield 79, 3) := dk_181 0 79 (dk_at dksJ5_append_7_2 5 rfl rfl)
theorem dJ5_append_7_55 : decode cJ5_append_7 55 = .ok (.aload_n 0, 1) := dk_42 (dk_at dksJ5_append_7_2 8 rfl rfl)
theorem dJ5_append_7_56 : decode cJ5_append_7 56 = .ok (.dup, 1) := dk_89 (dk_at dksJ5_append_7_2 9 rfl rfl)
theorem dJ5_append_7_57 : decode cJ5_append_7 57 = .ok (.getfield 73, 3) := dk_180 0 73 (dk_at dksJ5_append_7_2 10 rfl rfl)
theorem dJ5_append_7_60 : decode cJ5_append_7 60 = .ok (.aload_n 1, 1) := dk_43 (dk_at dksJ5_append_7_2 13 rfl rfl)
theorem dJ5_append_7_61 : decode cJ5_append_7 61 = .ok (.getfield 73, 3) := dk_180 0 73 (dk_at dksJ5_append_7_2 14 rfl rfl)
theorem dJ5_append_7_64 : decode cJ5_append_7 64 = .ok (.ior, 1) := dk_128 (dk_at dksJ5_append_7_2 17 rfl rfl)
theorem dJ5_append_7_65 : decode cJ5_append_7 65 = .ok (.putfield 73, 3) := dk_181 0 73 (dk_at dksJ5_append_7_2 18 rfl rfl)
theorem dJ5_append_7_68 : decode cJ5_append_7 68 = .ok (.aload_n 0, 1) := dk_42 (dk_at dksJ5_append_7_2 21 rfl rfl)
theorem dJ5_append_7_69 : decode cJ5_append_7 69 = .ok (.areturn, 1) := dk_176 (dk_at dksJ5_append_7_2 22 rfl rfl)
abbrev cJ5_inflateIfNeededFor_2 : ByteArray := prog_17_method_72_code
def yJ5_inflateIfNeededFor_2 : MethodName := ⟨RJ5, "inflateIfNeededFor", "(Ljava/lang/AbstractStringBuilder;)V"⟩
def dkwJ5_inflateIfNeededFor_2_0 : List UInt8 := [178, 0, 18, 153, 0, 18, 42, 180, 0, 22, 43, 182, 0, 70, 159, 0, 7, 42, 182, 0, 195, 177]
abbrev dktJ5_inflateIfNeededFor_2_0 : List UInt8 := dkwJ5_inflateIfNeededFor_2_0 ++ []
theorem dksJ5_inflateIfNeededFor_2_0 : cJ5_inflateIfNeededFor_2.data.toList.drop 0 = dktJ5_inflateIfNeededFor_2_0 := by decide +kernel
theorem dJ5_inflateIfNeededFor_2_0 : decode cJ5_inflateIfNeededFor_2 0 = .ok (.getstatic 18, 3) := dk_178 0 18 (dk_at dksJ5_inflateIfNeededFor_2_0 0 rfl rfl)
theorem dJ5_inflateIfNeededFor_2_3 : decode cJ5_inflateIfNeededFor_2 3 = .ok (.ifCond .eq 18, 3) := dk_153 0 18 (dk_at dksJ5_inflateIfNeededFor_2_0 3 rfl rfl)
theorem dJ5_inflateIfNeededFor_2_6 : decode cJ5_inflateIfNeededFor_2 6 = .ok (.aload_n 0, 1) := dk_42 (dk_at dksJ5_inflateIfNeededFor_2_0 6 rfl rfl)
theorem dJ5_inflateIfNeededFor_2_7 : decode cJ5_inflateIfNeededFor_2 7 = .ok (.getfield 22, 3) := dk_180 0 22 (dk_at dksJ5_inflateIfNeededFor_2_0 7 rfl rfl)
theorem dJ5_inflateIfNeededFor_2_10 : decode cJ5_inflateIfNeededFor_2 10 = .ok (.aload_n 1, 1) := dk_43 (dk_at dksJ5_inflateIfNeededFor_2_0 10 rfl rfl)
theorem dJ5_inflateIfNeededFor_2_11 : decode cJ5_inflateIfNeededFor_2 11 = .ok (.invokevirtual 70, 3) := dk_182 0 70 (dk_at dksJ5_inflateIfNeededFor_2_0 11 rfl rfl)
theorem dJ5_inflateIfNeededFor_2_14 : decode cJ5_inflateIfNeededFor_2 14 = .ok (.if_icmp .eq 7, 3) := dk_159 0 7 (dk_at dksJ5_inflateIfNeededFor_2_0 14 rfl rfl)
theorem dJ5_inflateIfNeededFor_2_17 : decode cJ5_inflateIfNeededFor_2 17 = .ok (.aload_n 0, 1) := dk_42 (dk_at dksJ5_inflateIfNeededFor_2_0 17 rfl rfl)
theorem dJ5_inflateIfNeededFor_2_18 : decode cJ5_inflateIfNeededFor_2 18 = .ok (.invokevirtual 195, 3) := dk_182 0 195 (dk_at dksJ5_inflateIfNeededFor_2_0 18 rfl rfl)
theorem dJ5_inflateIfNeededFor_2_21 : decode cJ5_inflateIfNeededFor_2 21 = .ok (.return_, 1) := dk_177 (dk_at dksJ5_inflateIfNeededFor_2_0 21 rfl rfl)
abbrev cJ5_getCoder : ByteArray := prog_17_method_67_code
def yJ5_getCoder : MethodName := ⟨RJ5, "getCoder", "()B"⟩
def dkwJ5_getCoder_0 : List UInt8 := [178, 0, 18, 153, 0, 10, 42, 180, 0, 22, 167, 0, 4, 4, 172]
abbrev dktJ5_getCoder_0 : List UInt8 := dkwJ5_getCoder_0 ++ []
theorem dksJ5_getCoder_0 : cJ5_getCoder.data.toList.drop 0 = dktJ5_getCoder_0 := by decide +kernel
theorem dJ5_getCoder_0 : decode cJ5_getCoder 0 = .ok (.getstatic 18, 3) := dk_178 0 18 (dk_at dksJ5_getCoder_0 0 rfl rfl)
theorem dJ5_getCoder_3 : decode cJ5_getCoder 3 = .ok (.ifCond .eq 10, 3) := dk_153 0 10 (dk_at dksJ5_getCoder_0 3 rfl rfl)
theorem dJ5_getCoder_6 : decode cJ5_getCoder 6 = .ok (.aload_n 0, 1) := dk_42 (dk_at dksJ5_getCoder_0 6 rfl rfl)
theorem dJ5_getCoder_7 : decode cJ5_getCoder 7 = .ok (.getfield 22, 3) := dk_180 0 22 (dk_at dksJ5_getCoder_0 7 rfl rfl)
theorem dJ5_getCoder_10 : decode cJ5_getCoder 10 = .ok (.goto 4, 3) := dk_167 0 4 (dk_at dksJ5_getCoder_0 10 rfl rfl)
theorem dJ5_getCoder_13 : decode cJ5_getCoder 13 = .ok (.iconst 1, 1) := dk_4 (dk_at dksJ5_getCoder_0 13 rfl rfl)
theorem dJ5_getCoder_14 : decode cJ5_getCoder 14 = .ok (.ireturn, 1) := dk_172 (dk_at dksJ5_getCoder_0 14 rfl rfl)
abbrev cJ5_getBytes : ByteArray := prog_17_method_65_code
def yJ5_getBytes : MethodName := ⟨RJ5, "getBytes", "([BIB)V"⟩
def dkwJ5_getBytes_1 : List UInt8 := [184, 1, 53, 167, 0, 17, 42, 180, 0, 15, 3, 43, 28, 42, 180, 0, 79, 184, 0, 125, 177]
abbrev dktJ5_getBytes_1 : List UInt8 := dkwJ5_getBytes_1 ++ []
def dkwJ5_getBytes_0 : List UInt8 := [42, 180, 0, 22, 29, 160, 0, 24, 42, 180, 0, 15, 3, 43, 28, 29, 120, 42, 180, 0, 79, 29, 120]
abbrev dktJ5_getBytes_0 : List UInt8 := dkwJ5_getBytes_0 ++ dktJ5_getBytes_1
theorem dksJ5_getBytes_0 : cJ5_getBytes.data.toList.drop 0 = dktJ5_getBytes_0 := by decide +kernel
theorem dksJ5_getBytes_1 : cJ5_getBytes.data.toList.drop 23 = dktJ5_getBytes_1 := dk_seg dksJ5_getBytes_0 23 rfl rfl
theorem dJ5_getBytes_0 : decode cJ5_getBytes 0 = .ok (.aload_n 0, 1) := dk_42 (dk_at dksJ5_getBytes_0 0 rfl rfl)
theorem dJ5_getBytes_1 : decode cJ5_getBytes 1 = .ok (.getfield 22, 3) := dk_180 0 22 (dk_at dksJ5_getBytes_0 1 rfl rfl)
theorem dJ5_getBytes_4 : decode cJ5_getBytes 4 = .ok (.iload_n 3, 1) := dk_29 (dk_at dksJ5_getBytes_0 4 rfl rfl)
theorem dJ5_getBytes_5 : decode cJ5_getBytes 5 = .ok (.if_icmp .ne 24, 3) := dk_160 0 24 (dk_at dksJ5_getBytes_0 5 rfl rfl)
theorem dJ5_getBytes_8 : decode cJ5_getBytes 8 = .ok (.aload_n 0, 1) := dk_42 (dk_at dksJ5_getBytes_0 8 rfl rfl)
theorem dJ5_getBytes_9 : decode cJ5_getBytes 9 = .ok (.getfield 15, 3) := dk_180 0 15 (dk_at dksJ5_getBytes_0 9 rfl rfl)
theorem dJ5_getBytes_12 : decode cJ5_getBytes 12 = .ok (.iconst 0, 1) := dk_3 (dk_at dksJ5_getBytes_0 12 rfl rfl)
theorem dJ5_getBytes_13 : decode cJ5_getBytes 13 = .ok (.aload_n 1, 1) := dk_43 (dk_at dksJ5_getBytes_0 13 rfl rfl)
theorem dJ5_getBytes_14 : decode cJ5_getBytes 14 = .ok (.iload_n 2, 1) := dk_28 (dk_at dksJ5_getBytes_0 14 rfl rfl)
theorem dJ5_getBytes_15 : decode cJ5_getBytes 15 = .ok (.iload_n 3, 1) := dk_29 (dk_at dksJ5_getBytes_0 15 rfl rfl)
theorem dJ5_getBytes_16 : decode cJ5_getBytes 16 = .ok (.ishl, 1) := dk_120 (dk_at dksJ5_getBytes_0 16 rfl rfl)
theorem dJ5_getBytes_17 : decode cJ5_getBytes 17 = .ok (.aload_n 0, 1) := dk_42 (dk_at dksJ5_getBytes_0 17 rfl rfl)
theorem dJ5_getBytes_18 : decode cJ5_getBytes 18 = .ok (.getfield 79, 3) := dk_180 0 79 (dk_at dksJ5_getBytes_0 18 rfl rfl)
theorem dJ5_getBytes_21 : decode cJ5_getBytes 21 = .ok (.iload_n 3, 1) := dk_29 (dk_at dksJ5_getBytes_0 21 rfl rfl)
theorem dJ5_getBytes_22 : decode cJ5_getBytes 22 = .ok (.ishl, 1) := dk_120 (dk_at dksJ5_getBytes_0 22 rfl rfl)
theorem dJ5_getBytes_23 : decode cJ5_getBytes 23 = .ok (.invokestatic 309, 3) := dk_184 1 53 (dk_at dksJ5_getBytes_1 0 rfl rfl)
theorem dJ5_getBytes_26 : decode cJ5_getBytes 26 = .ok (.goto 17, 3) := dk_167 0 17 (dk_at dksJ5_getBytes_1 3 rfl rfl)
theorem dJ5_getBytes_29 : decode cJ5_getBytes 29 = .ok (.aload_n 0, 1) := dk_42 (dk_at dksJ5_getBytes_1 6 rfl rfl)
theorem dJ5_getBytes_30 : decode cJ5_getBytes 30 = .ok (.getfield 15, 3) := dk_180 0 15 (dk_at dksJ5_getBytes_1 7 rfl rfl)
theorem dJ5_getBytes_33 : decode cJ5_getBytes 33 = .ok (.iconst 0, 1) := dk_3 (dk_at dksJ5_getBytes_1 10 rfl rfl)
theorem dJ5_getBytes_34 : decode cJ5_getBytes 34 = .ok (.aload_n 1, 1) := dk_43 (dk_at dksJ5_getBytes_1 11 rfl rfl)
theorem dJ5_getBytes_35 : decode cJ5_getBytes 35 = .ok (.iload_n 2, 1) := dk_28 (dk_at dksJ5_getBytes_1 12 rfl rfl)
theorem dJ5_getBytes_36 : decode cJ5_getBytes 36 = .ok (.aload_n 0, 1) := dk_42 (dk_at dksJ5_getBytes_1 13 rfl rfl)
theorem dJ5_getBytes_37 : decode cJ5_getBytes 37 = .ok (.getfield 79, 3) := dk_180 0 79 (dk_at dksJ5_getBytes_1 14 rfl rfl)
theorem dJ5_getBytes_40 : decode cJ5_getBytes 40 = .ok (.invokestatic 125, 3) := dk_184 0 125 (dk_at dksJ5_getBytes_1 17 rfl rfl)
theorem dJ5_getBytes_43 : decode cJ5_getBytes 43 = .ok (.return_, 1) := dk_177 (dk_at dksJ5_getBytes_1 20 rfl rfl)
abbrev cJ5_append_8 : ByteArray := prog_17_method_27_code
def yJ5_append_8 : MethodName := ⟨RJ5, "append", "(Ljava/lang/CharSequence;II)Ljava/lang/AbstractStringBuilder;"⟩
def dkwJ5_append_8_2 : List UInt8 := [192, 0, 1, 28, 29, 182, 0, 232, 167, 0, 10, 42, 43, 28, 29, 182, 0, 236, 42, 176]
abbrev dktJ5_append_8_2 : List UInt8 := dkwJ5_append_8_2 ++ []
def dkwJ5_append_8_1 : List UInt8 := [100, 54, 4, 42, 42, 180, 0, 79, 21, 4, 96, 182, 0, 100, 43, 193, 0, 1, 153, 0, 16, 42, 43]
abbrev dktJ5_append_8_1 : List UInt8 := dkwJ5_append_8_1 ++ dktJ5_append_8_2
def dkwJ5_append_8_0 : List UInt8 := [43, 199, 0, 6, 18, 230, 76, 28, 29, 43, 185, 0, 47, 1, 0, 178, 0, 183, 184, 0, 161, 87, 29, 28]
abbrev dktJ5_append_8_0 : List UInt8 := dkwJ5_append_8_0 ++ dktJ5_append_8_1
theorem dksJ5_append_8_0 : cJ5_append_8.data.toList.drop 0 = dktJ5_append_8_0 := by decide +kernel
theorem dksJ5_append_8_1 : cJ5_append_8.data.toList.drop 24 = dktJ5_append_8_1 := dk_seg dksJ5_append_8_0 24 rfl rfl
theorem dksJ5_append_8_2 : cJ5_append_8.data.toList.drop 47 = dktJ5_append_8_2 := dk_seg dksJ5_append_8_1 23 rfl rfl
theorem dJ5_append_8_0 : decode cJ5_append_8 0 = .ok (.aload_n 1, 1) := dk_43 (dk_at dksJ5_append_8_0 0 rfl rfl)
theorem dJ5_append_8_1 : decode cJ5_append_8 1 = .ok (.ifnonnull 6, 3) := dk_199 0 6 (dk_at dksJ5_append_8_0 1 rfl rfl)
theorem dJ5_append_8_4 : decode cJ5_append_8 4 = .ok (.ldc 230, 2) := dk_18 230 (dk_at dksJ5_append_8_0 4 rfl rfl)
theorem dJ5_append_8_6 : decode cJ5_append_8 6 = .ok (.astore_n 1, 1) := dk_76 (dk_at dksJ5_append_8_0 6 rfl rfl)
theorem dJ5_append_8_7 : decode cJ5_append_8 7 = .ok (.iload_n 2, 1) := dk_28 (dk_at dksJ5_append_8_0 7 rfl rfl)
theorem dJ5_append_8_8 : decode cJ5_append_8 8 = .ok (.iload_n 3, 1) := dk_29 (dk_at dksJ5_append_8_0 8 rfl rfl)
theorem dJ5_append_8_9 : decode cJ5_append_8 9 = .ok (.aload_n 1, 1) := dk_43 (dk_at dksJ5_append_8_0 9 rfl rfl)
theorem dJ5_append_8_10 : decode cJ5_append_8 10 = .ok (.invokeinterface 47 1, 5) := by decide +kernel
theorem dJ5_append_8_15 : decode cJ5_append_8 15 = .ok (.getstatic 183, 3) := dk_178 0 183 (dk_at dksJ5_append_8_0 15 rfl rfl)
theorem dJ5_append_8_18 : decode cJ5_append_8 18 = .ok (.invokestatic 161, 3) := dk_184 0 161 (dk_at dksJ5_append_8_0 18 rfl rfl)
theorem dJ5_append_8_21 : decode cJ5_append_8 21 = .ok (.pop, 1) := dk_87 (dk_at dksJ5_append_8_0 21 rfl rfl)
theorem dJ5_append_8_22 : decode cJ5_append_8 22 = .ok (.iload_n 3, 1) := dk_29 (dk_at dksJ5_append_8_0 22 rfl rfl)
theorem dJ5_append_8_23 : decode cJ5_append_8 23 = .ok (.iload_n 2, 1) := dk_28 (dk_at dksJ5_append_8_0 23 rfl rfl)
theorem dJ5_append_8_24 : decode cJ5_append_8 24 = .ok (.isub, 1) := dk_100 (dk_at dksJ5_append_8_1 0 rfl rfl)
theorem dJ5_append_8_25 : decode cJ5_append_8 25 = .ok (.istore 4, 2) := dk_54 4 (dk_at dksJ5_append_8_1 1 rfl rfl)
theorem dJ5_append_8_27 : decode cJ5_append_8 27 = .ok (.aload_n 0, 1) := dk_42 (dk_at dksJ5_append_8_1 3 rfl rfl)
theorem dJ5_append_8_28 : decode cJ5_append_8 28 = .ok (.aload_n 0, 1) := dk_42 (dk_at dksJ5_append_8_1 4 rfl rfl)
theorem dJ5_append_8_29 : decode cJ5_append_8 29 = .ok (.getfield 79, 3) := dk_180 0 79 (dk_at dksJ5_append_8_1 5 rfl rfl)
theorem dJ5_append_8_32 : decode cJ5_append_8 32 = .ok (.iload 4, 2) := dk_21 4 (dk_at dksJ5_append_8_1 8 rfl rfl)
theorem dJ5_append_8_34 : decode cJ5_append_8 34 = .ok (.iadd, 1) := dk_96 (dk_at dksJ5_append_8_1 10 rfl rfl)
theorem dJ5_append_8_35 : decode cJ5_append_8 35 = .ok (.invokevirtual 100, 3) := dk_182 0 100 (dk_at dksJ5_append_8_1 11 rfl rfl)
theorem dJ5_append_8_38 : decode cJ5_append_8 38 = .ok (.aload_n 1, 1) := dk_43 (dk_at dksJ5_append_8_1 14 rfl rfl)
theorem dJ5_append_8_39 : decode cJ5_append_8 39 = .ok (.instanceof 1, 3) := dk_193 0 1 (dk_at dksJ5_append_8_1 15 rfl rfl)
theorem dJ5_append_8_42 : decode cJ5_append_8 42 = .ok (.ifCond .eq 16, 3) := dk_153 0 16 (dk_at dksJ5_append_8_1 18 rfl rfl)
theorem dJ5_append_8_45 : decode cJ5_append_8 45 = .ok (.aload_n 0, 1) := dk_42 (dk_at dksJ5_append_8_1 21 rfl rfl)
theorem dJ5_append_8_46 : decode cJ5_append_8 46 = .ok (.aload_n 1, 1) := dk_43 (dk_at dksJ5_append_8_1 22 rfl rfl)
theorem dJ5_append_8_47 : decode cJ5_append_8 47 = .ok (.checkcast 1, 3) := dk_192 0 1 (dk_at dksJ5_append_8_2 0 rfl rfl)
theorem dJ5_append_8_50 : decode cJ5_append_8 50 = .ok (.iload_n 2, 1) := dk_28 (dk_at dksJ5_append_8_2 3 rfl rfl)
theorem dJ5_append_8_51 : decode cJ5_append_8 51 = .ok (.iload_n 3, 1) := dk_29 (dk_at dksJ5_append_8_2 4 rfl rfl)
theorem dJ5_append_8_52 : decode cJ5_append_8 52 = .ok (.invokevirtual 232, 3) := dk_182 0 232 (dk_at dksJ5_append_8_2 5 rfl rfl)
theorem dJ5_append_8_55 : decode cJ5_append_8 55 = .ok (.goto 10, 3) := dk_167 0 10 (dk_at dksJ5_append_8_2 8 rfl rfl)
theorem dJ5_append_8_58 : decode cJ5_append_8 58 = .ok (.aload_n 0, 1) := dk_42 (dk_at dksJ5_append_8_2 11 rfl rfl)
theorem dJ5_append_8_59 : decode cJ5_append_8 59 = .ok (.aload_n 1, 1) := dk_43 (dk_at dksJ5_append_8_2 12 rfl rfl)
theorem dJ5_append_8_60 : decode cJ5_append_8 60 = .ok (.iload_n 2, 1) := dk_28 (dk_at dksJ5_append_8_2 13 rfl rfl)
theorem dJ5_append_8_61 : decode cJ5_append_8 61 = .ok (.iload_n 3, 1) := dk_29 (dk_at dksJ5_append_8_2 14 rfl rfl)
theorem dJ5_append_8_62 : decode cJ5_append_8 62 = .ok (.invokevirtual 236, 3) := dk_182 0 236 (dk_at dksJ5_append_8_2 15 rfl rfl)
theorem dJ5_append_8_65 : decode cJ5_append_8 65 = .ok (.aload_n 0, 1) := dk_42 (dk_at dksJ5_append_8_2 18 rfl rfl)
theorem dJ5_append_8_66 : decode cJ5_append_8 66 = .ok (.areturn, 1) := dk_176 (dk_at dksJ5_append_8_2 19 rfl rfl)
abbrev cJ5_appendChars_2 : ByteArray := prog_17_method_75_code
def yJ5_appendChars_2 : MethodName := ⟨RJ5, "appendChars", "(Ljava/lang/String;II)V"⟩
def dkwJ5_appendChars_2_8 : List UInt8 := [120, 184, 1, 53, 42, 89, 180, 0, 79, 29, 28, 100, 96, 181, 0, 79, 177]
abbrev dktJ5_appendChars_2_8 : List UInt8 := dkwJ5_appendChars_2_8 ++ []
def dkwJ5_appendChars_2_7 : List UInt8 := [167, 0, 28, 43, 182, 1, 145, 28, 4, 120, 42, 180, 0, 15, 42, 180, 0, 79, 4, 120, 29, 28, 100, 4]
abbrev dktJ5_appendChars_2_7 : List UInt8 := dkwJ5_appendChars_2_7 ++ dktJ5_appendChars_2_8
def dkwJ5_appendChars_2_6 : List UInt8 := [167, 0, 52, 43, 182, 1, 144, 153, 0, 20, 42, 180, 0, 15, 42, 180, 0, 79, 43, 28, 29, 184, 1, 138]
abbrev dktJ5_appendChars_2_6 : List UInt8 := dkwJ5_appendChars_2_6 ++ dktJ5_appendChars_2_7
def dkwJ5_appendChars_2_5 : List UInt8 := [120, 184, 1, 53, 42, 89, 180, 0, 79, 29, 21, 5, 100, 96, 181, 0, 79, 177, 132, 5, 1, 167, 255, 168]
abbrev dktJ5_appendChars_2_5 : List UInt8 := dkwJ5_appendChars_2_5 ++ dktJ5_appendChars_2_6
def dkwJ5_appendChars_2_4 : List UInt8 := [182, 0, 195, 43, 182, 1, 145, 21, 5, 4, 120, 42, 180, 0, 15, 21, 6, 4, 120, 29, 21, 5, 100, 4]
abbrev dktJ5_appendChars_2_4 : List UInt8 := dkwJ5_appendChars_2_4 ++ dktJ5_appendChars_2_5
def dkwJ5_appendChars_2_3 : List UInt8 := [153, 0, 17, 25, 4, 21, 6, 132, 6, 1, 21, 7, 145, 84, 167, 0, 52, 42, 21, 6, 181, 0, 79, 42]
abbrev dktJ5_appendChars_2_3 : List UInt8 := dkwJ5_appendChars_2_3 ++ dktJ5_appendChars_2_4
def dkwJ5_appendChars_2_2 : List UInt8 := [180, 0, 79, 54, 6, 21, 5, 29, 162, 0, 88, 43, 21, 5, 182, 1, 148, 54, 7, 21, 7, 184, 0, 191]
abbrev dktJ5_appendChars_2_2 : List UInt8 := dkwJ5_appendChars_2_2 ++ dktJ5_appendChars_2_3
def dkwJ5_appendChars_2_1 : List UInt8 := [180, 0, 79, 29, 28, 100, 184, 1, 53, 167, 0, 161, 42, 180, 0, 15, 58, 4, 28, 54, 5, 42]
abbrev dktJ5_appendChars_2_1 : List UInt8 := dkwJ5_appendChars_2_1 ++ dktJ5_appendChars_2_2
def dkwJ5_appendChars_2_0 : List UInt8 := [42, 182, 0, 83, 153, 0, 141, 43, 182, 1, 144, 153, 0, 25, 43, 182, 1, 145, 28, 42, 180, 0, 15, 42]
abbrev dktJ5_appendChars_2_0 : List UInt8 := dkwJ5_appendChars_2_0 ++ dktJ5_appendChars_2_1
theorem dksJ5_appendChars_2_0 : cJ5_appendChars_2.data.toList.drop 0 = dktJ5_appendChars_2_0 := by decide +kernel
theorem dksJ5_appendChars_2_1 : cJ5_appendChars_2.data.toList.drop 24 = dktJ5_appendChars_2_1 := dk_seg dksJ5_appendChars_2_0 24 rfl rfl
theorem dksJ5_appendChars_2_2 : cJ5_appendChars_2.data.toList.drop 46 = dktJ5_appendChars_2_2 := dk_seg dksJ5_appendChars_2_1 22 rfl rfl
theorem dksJ5_appendChars_2_3 : cJ5_appendChars_2.data.toList.drop 70 = dktJ5_appendChars_2_3 := dk_seg dksJ5_appendChars_2_2 24 rfl rfl
theorem dksJ5_appendChars_2_4 : cJ5_appendChars_2.data.toList.drop 94 = dktJ5_appendChars_2_4 := dk_seg dksJ5_appendChars_2_3 24 rfl rfl
theorem dksJ5_appendChars_2_5 : cJ5_appendChars_2.data.toList.drop 118 = dktJ5_appendChars_2_5 := dk_seg dksJ5_appendChars_2_4 24 rfl rfl
theorem dksJ5_appendChars_2_6 : cJ5_appendChars_2.data.toList.drop 142 = dktJ5_appendChars_2_6 := dk_seg dksJ5_appendChars_2_5 24 rfl rfl
theorem dksJ5_appendChars_2_7 : cJ5_appendChars_2.data.toList.drop 166 = dktJ5_appendChars_2_7 := dk_seg dksJ5_appendChars_2_6 24 rfl rfl
theorem dksJ5_appendChars_2_8 : cJ5_appendChars_2.data.toList.drop 190 = dktJ5_appendChars_2_8 := dk_seg dksJ5_appendChars_2_7 24 rfl rfl
theorem dJ5_appendChars_2_0 : decode cJ5_appendChars_2 0 = .ok (.aload_n 0, 1) := dk_42 (dk_at dksJ5_appendChars_2_0 0 rfl rfl)
theorem dJ5_appendChars_2_1 : decode cJ5_appendChars_2 1 = .ok (.invokevirtual 83, 3) := dk_182 0 83 (dk_at dksJ5_appendChars_2_0 1 rfl rfl)
theorem dJ5_appendChars_2_4 : decode cJ5_appendChars_2 4 = .ok (.ifCond .eq 141, 3) := dk_153 0 141 (dk_at dksJ5_appendChars_2_0 4 rfl rfl)
theorem dJ5_appendChars_2_7 : decode cJ5_appendChars_2 7 = .ok (.aload_n 1, 1) := dk_43 (dk_at dksJ5_appendChars_2_0 7 rfl rfl)
theorem dJ5_appendChars_2_8 : decode cJ5_appendChars_2 8 = .ok (.invokevirtual 400, 3) := dk_182 1 144 (dk_at dksJ5_appendChars_2_0 8 rfl rfl)
theorem dJ5_appendChars_2_11 : decode cJ5_appendChars_2 11 = .ok (.ifCond .eq 25, 3) := dk_153 0 25 (dk_at dksJ5_appendChars_2_0 11 rfl rfl)
theorem dJ5_appendChars_2_14 : decode cJ5_appendChars_2 14 = .ok (.aload_n 1, 1) := dk_43 (dk_at dksJ5_appendChars_2_0 14 rfl rfl)
theorem dJ5_appendChars_2_15 : decode cJ5_appendChars_2 15 = .ok (.invokevirtual 401, 3) := dk_182 1 145 (dk_at dksJ5_appendChars_2_0 15 rfl rfl)
theorem dJ5_appendChars_2_18 : decode cJ5_appendChars_2 18 = .ok (.iload_n 2, 1) := dk_28 (dk_at dksJ5_appendChars_2_0 18 rfl rfl)
theorem dJ5_appendChars_2_19 : decode cJ5_appendChars_2 19 = .ok (.aload_n 0, 1) := dk_42 (dk_at dksJ5_appendChars_2_0 19 rfl rfl)
theorem dJ5_appendChars_2_20 : decode cJ5_appendChars_2 20 = .ok (.getfield 15, 3) := dk_180 0 15 (dk_at dksJ5_appendChars_2_0 20 rfl rfl)
theorem dJ5_appendChars_2_23 : decode cJ5_appendChars_2 23 = .ok (.aload_n 0, 1) := dk_42 (dk_at dksJ5_appendChars_2_0 23 rfl rfl)
theorem dJ5_appendChars_2_24 : decode cJ5_appendChars_2 24 = .ok (.getfield 79, 3) := dk_180 0 79 (dk_at dksJ5_appendChars_2_1 0 rfl rfl)
theorem dJ5_appendChars_2_27 : decode cJ5_appendChars_2 27 = .ok (.iload_n 3, 1) := dk_29 (dk_at dksJ5_appendChars_2_1 3 rfl rfl)
theorem dJ5_appendChars_2_28 : decode cJ5_appendChars_2 28 = .ok (.iload_n 2, 1) := dk_28 (dk_at dksJ5_appendChars_2_1 4 rfl rfl)
theorem dJ5_appendChars_2_29 : decode cJ5_appendChars_2 29 = .ok (.isub, 1) := dk_100 (dk_at dksJ5_appendChars_2_1 5 rfl rfl)
theorem dJ5_appendChars_2_30 : decode cJ5_appendChars_2 30 = .ok (.invokestatic 309, 3) := dk_184 1 53 (dk_at dksJ5_appendChars_2_1 6 rfl rfl)
theorem dJ5_appendChars_2_33 : decode cJ5_appendChars_2 33 = .ok (.goto 161, 3) := dk_167 0 161 (dk_at dksJ5_appendChars_2_1 9 rfl rfl)
theorem dJ5_appendChars_2_36 : decode cJ5_appendChars_2 36 = .ok (.aload_n 0, 1) := dk_42 (dk_at dksJ5_appendChars_2_1 12 rfl rfl)
theorem dJ5_appendChars_2_37 : decode cJ5_appendChars_2 37 = .ok (.getfield 15, 3) := dk_180 0 15 (dk_at dksJ5_appendChars_2_1 13 rfl rfl)
theorem dJ5_appendChars_2_40 : decode cJ5_appendChars_2 40 = .ok (.astore 4, 2) := dk_58 4 (dk_at dksJ5_appendChars_2_1 16 rfl rfl)
theorem dJ5_appendChars_2_42 : decode cJ5_appendChars_2 42 = .ok (.iload_n 2, 1) := dk_28 (dk_at dksJ5_appendChars_2_1 18 rfl rfl)
theorem dJ5_appendChars_2_43 : decode cJ5_appendChars_2 43 = .ok (.istore 5, 2) := dk_54 5 (dk_at dksJ5_appendChars_2_1 19 rfl rfl)
theorem dJ5_appendChars_2_45 : decode cJ5_appendChars_2 45 = .ok (.aload_n 0, 1) := dk_42 (dk_at dksJ5_appendChars_2_1 21 rfl rfl)
theorem dJ5_appendChars_2_46 : decode cJ5_appendChars_2 46 = .ok (.getfield 79, 3) := dk_180 0 79 (dk_at dksJ5_appendChars_2_2 0 rfl rfl)
theorem dJ5_appendChars_2_49 : decode cJ5_appendChars_2 49 = .ok (.istore 6, 2) := dk_54 6 (dk_at dksJ5_appendChars_2_2 3 rfl rfl)
theorem dJ5_appendChars_2_51 : decode cJ5_appendChars_2 51 = .ok (.iload 5, 2) := dk_21 5 (dk_at dksJ5_appendChars_2_2 5 rfl rfl)
theorem dJ5_appendChars_2_53 : decode cJ5_appendChars_2 53 = .ok (.iload_n 3, 1) := dk_29 (dk_at dksJ5_appendChars_2_2 7 rfl rfl)
theorem dJ5_appendChars_2_54 : decode cJ5_appendChars_2 54 = .ok (.if_icmp .ge 88, 3) := dk_162 0 88 (dk_at dksJ5_appendChars_2_2 8 rfl rfl)
theorem dJ5_appendChars_2_57 : decode cJ5_appendChars_2 57 = .ok (.aload_n 1, 1) := dk_43 (dk_at dksJ5_appendChars_2_2 11 rfl rfl)
theorem dJ5_appendChars_2_58 : decode cJ5_appendChars_2 58 = .ok (.iload 5, 2) := dk_21 5 (dk_at dksJ5_appendChars_2_2 12 rfl rfl)
theorem dJ5_appendChars_2_60 : decode cJ5_appendChars_2 60 = .ok (.invokevirtual 404, 3) := dk_182 1 148 (dk_at dksJ5_appendChars_2_2 14 rfl rfl)
theorem dJ5_appendChars_2_63 : decode cJ5_appendChars_2 63 = .ok (.istore 7, 2) := dk_54 7 (dk_at dksJ5_appendChars_2_2 17 rfl rfl)
theorem dJ5_appendChars_2_65 : decode cJ5_appendChars_2 65 = .ok (.iload 7, 2) := dk_21 7 (dk_at dksJ5_appendChars_2_2 19 rfl rfl)
theorem dJ5_appendChars_2_67 : decode cJ5_appendChars_2 67 = .ok (.invokestatic 191, 3) := dk_184 0 191 (dk_at dksJ5_appendChars_2_2 21 rfl rfl)
theorem dJ5_appendChars_2_70 : decode cJ5_appendChars_2 70 = .ok (.ifCond .eq 17, 3) := dk_153 0 17 (dk_at dksJ5_appendChars_2_3 0 rfl rfl)
theorem dJ5_appendChars_2_73 : decode cJ5_appendChars_2 73 = .ok (.aload 4, 2) := dk_25 4 (dk_at dksJ5_appendChars_2_3 3 rfl rfl)
theorem dJ5_appendChars_2_75 : decode cJ5_appendChars_2 75 = .ok (.iload 6, 2) := dk_21 6 (dk_at dksJ5_appendChars_2_3 5 rfl rfl)
theorem dJ5_appendChars_2_77 : decode cJ5_appendChars_2 77 = .ok (.iinc 6 1, 3) := dk_132 6 1 (dk_at dksJ5_appendChars_2_3 7 rfl rfl)
theorem dJ5_appendChars_2_80 : decode cJ5_appendChars_2 80 = .ok (.iload 7, 2) := dk_21 7 (dk_at dksJ5_appendChars_2_3 10 rfl rfl)
theorem dJ5_appendChars_2_82 : decode cJ5_appendChars_2 82 = .ok (.i2b, 1) := dk_145 (dk_at dksJ5_appendChars_2_3 12 rfl rfl)
theorem dJ5_appendChars_2_83 : decode cJ5_appendChars_2 83 = .ok (.bastore, 1) := dk_84 (dk_at dksJ5_appendChars_2_3 13 rfl rfl)
theorem dJ5_appendChars_2_84 : decode cJ5_appendChars_2 84 = .ok (.goto 52, 3) := dk_167 0 52 (dk_at dksJ5_appendChars_2_3 14 rfl rfl)
theorem dJ5_appendChars_2_87 : decode cJ5_appendChars_2 87 = .ok (.aload_n 0, 1) := dk_42 (dk_at dksJ5_appendChars_2_3 17 rfl rfl)
theorem dJ5_appendChars_2_88 : decode cJ5_appendChars_2 88 = .ok (.iload 6, 2) := dk_21 6 (dk_at dksJ5_appendChars_2_3 18 rfl rfl)
theorem dJ5_appendChars_2_90 : decode cJ5_appendChars_2 90 = .ok (.putfield 79, 3) := dk_181 0 79 (dk_at dksJ5_appendChars_2_3 20 rfl rfl)
theorem dJ5_appendChars_2_93 : decode cJ5_appendChars_2 93 = .ok (.aload_n 0, 1) := dk_42 (dk_at dksJ5_appendChars_2_3 23 rfl rfl)
theorem dJ5_appendChars_2_94 : decode cJ5_appendChars_2 94 = .ok (.invokevirtual 195, 3) := dk_182 0 195 (dk_at dksJ5_appendChars_2_4 0 rfl rfl)
theorem dJ5_appendChars_2_97 : decode cJ5_appendChars_2 97 = .ok (.aload_n 1, 1) := dk_43 (dk_at dksJ5_appendChars_2_4 3 rfl rfl)
theorem dJ5_appendChars_2_98 : decode cJ5_appendChars_2 98 = .ok (.invokevirtual 401, 3) := dk_182 1 145 (dk_at dksJ5_appendChars_2_4 4 rfl rfl)
theorem dJ5_appendChars_2_101 : decode cJ5_appendChars_2 101 = .ok (.iload 5, 2) := dk_21 5 (dk_at dksJ5_appendChars_2_4 7 rfl rfl)
theorem dJ5_appendChars_2_103 : decode cJ5_appendChars_2 103 = .ok (.iconst 1, 1) := dk_4 (dk_at dksJ5_appendChars_2_4 9 rfl rfl)
theorem dJ5_appendChars_2_104 : decode cJ5_appendChars_2 104 = .ok (.ishl, 1) := dk_120 (dk_at dksJ5_appendChars_2_4 10 rfl rfl)
theorem dJ5_appendChars_2_105 : decode cJ5_appendChars_2 105 = .ok (.aload_n 0, 1) := dk_42 (dk_at dksJ5_appendChars_2_4 11 rfl rfl)
theorem dJ5_appendChars_2_106 : decode cJ5_appendChars_2 106 = .ok (.getfield 15, 3) := dk_180 0 15 (dk_at dksJ5_appendChars_2_4 12 rfl rfl)
theorem dJ5_appendChars_2_109 : decode cJ5_appendChars_2 109 = .ok (.iload 6, 2) := dk_21 6 (dk_at dksJ5_appendChars_2_4 15 rfl rfl)
theorem dJ5_appendChars_2_111 : decode cJ5_appendChars_2 111 = .ok (.iconst 1, 1) := dk_4 (dk_at dksJ5_appendChars_2_4 17 rfl rfl)
theorem dJ5_appendChars_2_112 : decode cJ5_appendChars_2 112 = .ok (.ishl, 1) := dk_120 (dk_at dksJ5_appendChars_2_4 18 rfl rfl)
theorem dJ5_appendChars_2_113 : decode cJ5_appendChars_2 113 = .ok (.iload_n 3, 1) := dk_29 (dk_at dksJ5_appendChars_2_4 19 rfl rfl)
theorem dJ5_appendChars_2_114 : decode cJ5_appendChars_2 114 = .ok (.iload 5, 2) := dk_21 5 (dk_at dksJ5_appendChars_2_4 20 rfl rfl)
theorem dJ5_appendChars_2_116 : decode cJ5_appendChars_2 116 = .ok (.isub, 1) := dk_100 (dk_at dksJ5_appendChars_2_4 22 rfl rfl)
theorem dJ5_appendChars_2_117 : decode cJ5_appendChars_2 117 = .ok (.iconst 1, 1) := dk_4 (dk_at dksJ5_appendChars_2_4 23 rfl rfl)
theorem dJ5_appendChars_2_118 : decode cJ5_appendChars_2 118 = .ok (.ishl, 1) := dk_120 (dk_at dksJ5_appendChars_2_5 0 rfl rfl)
theorem dJ5_appendChars_2_119 : decode cJ5_appendChars_2 119 = .ok (.invokestatic 309, 3) := dk_184 1 53 (dk_at dksJ5_appendChars_2_5 1 rfl rfl)
theorem dJ5_appendChars_2_122 : decode cJ5_appendChars_2 122 = .ok (.aload_n 0, 1) := dk_42 (dk_at dksJ5_appendChars_2_5 4 rfl rfl)
theorem dJ5_appendChars_2_123 : decode cJ5_appendChars_2 123 = .ok (.dup, 1) := dk_89 (dk_at dksJ5_appendChars_2_5 5 rfl rfl)
theorem dJ5_appendChars_2_124 : decode cJ5_appendChars_2 124 = .ok (.getfield 79, 3) := dk_180 0 79 (dk_at dksJ5_appendChars_2_5 6 rfl rfl)
theorem dJ5_appendChars_2_127 : decode cJ5_appendChars_2 127 = .ok (.iload_n 3, 1) := dk_29 (dk_at dksJ5_appendChars_2_5 9 rfl rfl)
theorem dJ5_appendChars_2_128 : decode cJ5_appendChars_2 128 = .ok (.iload 5, 2) := dk_21 5 (dk_at dksJ5_appendChars_2_5 10 rfl rfl)
theorem dJ5_appendChars_2_130 : decode cJ5_appendChars_2 130 = .ok (.isub, 1) := dk_100 (dk_at dksJ5_appendChars_2_5 12 rfl rfl)
theorem dJ5_appendChars_2_131 : decode cJ5_appendChars_2 131 = .ok (.iadd, 1) := dk_96 (dk_at dksJ5_appendChars_2_5 13 rfl rfl)
theorem dJ5_appendChars_2_132 : decode cJ5_appendChars_2 132 = .ok (.putfield 79, 3) := dk_181 0 79 (dk_at dksJ5_appendChars_2_5 14 rfl rfl)
theorem dJ5_appendChars_2_135 : decode cJ5_appendChars_2 135 = .ok (.return_, 1) := dk_177 (dk_at dksJ5_appendChars_2_5 17 rfl rfl)
theorem dJ5_appendChars_2_136 : decode cJ5_appendChars_2 136 = .ok (.iinc 5 1, 3) := dk_132 5 1 (dk_at dksJ5_appendChars_2_5 18 rfl rfl)
theorem dJ5_appendChars_2_139 : decode cJ5_appendChars_2 139 = .ok (.goto (-88), 3) := dk_167 255 168 (dk_at dksJ5_appendChars_2_5 21 rfl rfl)
theorem dJ5_appendChars_2_142 : decode cJ5_appendChars_2 142 = .ok (.goto 52, 3) := dk_167 0 52 (dk_at dksJ5_appendChars_2_6 0 rfl rfl)
theorem dJ5_appendChars_2_145 : decode cJ5_appendChars_2 145 = .ok (.aload_n 1, 1) := dk_43 (dk_at dksJ5_appendChars_2_6 3 rfl rfl)
theorem dJ5_appendChars_2_146 : decode cJ5_appendChars_2 146 = .ok (.invokevirtual 400, 3) := dk_182 1 144 (dk_at dksJ5_appendChars_2_6 4 rfl rfl)
theorem dJ5_appendChars_2_149 : decode cJ5_appendChars_2 149 = .ok (.ifCond .eq 20, 3) := dk_153 0 20 (dk_at dksJ5_appendChars_2_6 7 rfl rfl)
theorem dJ5_appendChars_2_152 : decode cJ5_appendChars_2 152 = .ok (.aload_n 0, 1) := dk_42 (dk_at dksJ5_appendChars_2_6 10 rfl rfl)
theorem dJ5_appendChars_2_153 : decode cJ5_appendChars_2 153 = .ok (.getfield 15, 3) := dk_180 0 15 (dk_at dksJ5_appendChars_2_6 11 rfl rfl)
theorem dJ5_appendChars_2_156 : decode cJ5_appendChars_2 156 = .ok (.aload_n 0, 1) := dk_42 (dk_at dksJ5_appendChars_2_6 14 rfl rfl)
theorem dJ5_appendChars_2_157 : decode cJ5_appendChars_2 157 = .ok (.getfield 79, 3) := dk_180 0 79 (dk_at dksJ5_appendChars_2_6 15 rfl rfl)
theorem dJ5_appendChars_2_160 : decode cJ5_appendChars_2 160 = .ok (.aload_n 1, 1) := dk_43 (dk_at dksJ5_appendChars_2_6 18 rfl rfl)
theorem dJ5_appendChars_2_161 : decode cJ5_appendChars_2 161 = .ok (.iload_n 2, 1) := dk_28 (dk_at dksJ5_appendChars_2_6 19 rfl rfl)
theorem dJ5_appendChars_2_162 : decode cJ5_appendChars_2 162 = .ok (.iload_n 3, 1) := dk_29 (dk_at dksJ5_appendChars_2_6 20 rfl rfl)
theorem dJ5_appendChars_2_163 : decode cJ5_appendChars_2 163 = .ok (.invokestatic 394, 3) := dk_184 1 138 (dk_at dksJ5_appendChars_2_6 21 rfl rfl)
theorem dJ5_appendChars_2_166 : decode cJ5_appendChars_2 166 = .ok (.goto 28, 3) := dk_167 0 28 (dk_at dksJ5_appendChars_2_7 0 rfl rfl)
theorem dJ5_appendChars_2_169 : decode cJ5_appendChars_2 169 = .ok (.aload_n 1, 1) := dk_43 (dk_at dksJ5_appendChars_2_7 3 rfl rfl)
theorem dJ5_appendChars_2_170 : decode cJ5_appendChars_2 170 = .ok (.invokevirtual 401, 3) := dk_182 1 145 (dk_at dksJ5_appendChars_2_7 4 rfl rfl)
theorem dJ5_appendChars_2_173 : decode cJ5_appendChars_2 173 = .ok (.iload_n 2, 1) := dk_28 (dk_at dksJ5_appendChars_2_7 7 rfl rfl)
theorem dJ5_appendChars_2_174 : decode cJ5_appendChars_2 174 = .ok (.iconst 1, 1) := dk_4 (dk_at dksJ5_appendChars_2_7 8 rfl rfl)
theorem dJ5_appendChars_2_175 : decode cJ5_appendChars_2 175 = .ok (.ishl, 1) := dk_120 (dk_at dksJ5_appendChars_2_7 9 rfl rfl)
theorem dJ5_appendChars_2_176 : decode cJ5_appendChars_2 176 = .ok (.aload_n 0, 1) := dk_42 (dk_at dksJ5_appendChars_2_7 10 rfl rfl)
theorem dJ5_appendChars_2_177 : decode cJ5_appendChars_2 177 = .ok (.getfield 15, 3) := dk_180 0 15 (dk_at dksJ5_appendChars_2_7 11 rfl rfl)
theorem dJ5_appendChars_2_180 : decode cJ5_appendChars_2 180 = .ok (.aload_n 0, 1) := dk_42 (dk_at dksJ5_appendChars_2_7 14 rfl rfl)
theorem dJ5_appendChars_2_181 : decode cJ5_appendChars_2 181 = .ok (.getfield 79, 3) := dk_180 0 79 (dk_at dksJ5_appendChars_2_7 15 rfl rfl)
theorem dJ5_appendChars_2_184 : decode cJ5_appendChars_2 184 = .ok (.iconst 1, 1) := dk_4 (dk_at dksJ5_appendChars_2_7 18 rfl rfl)
theorem dJ5_appendChars_2_185 : decode cJ5_appendChars_2 185 = .ok (.ishl, 1) := dk_120 (dk_at dksJ5_appendChars_2_7 19 rfl rfl)
theorem dJ5_appendChars_2_186 : decode cJ5_appendChars_2 186 = .ok (.iload_n 3, 1) := dk_29 (dk_at dksJ5_appendChars_2_7 20 rfl rfl)
theorem dJ5_appendChars_2_187 : decode cJ5_appendChars_2 187 = .ok (.iload_n 2, 1) := dk_28 (dk_at dksJ5_appendChars_2_7 21 rfl rfl)
theorem dJ5_appendChars_2_188 : decode cJ5_appendChars_2 188 = .ok (.isub, 1) := dk_100 (dk_at dksJ5_appendChars_2_7 22 rfl rfl)
theorem dJ5_appendChars_2_189 : decode cJ5_appendChars_2 189 = .ok (.iconst 1, 1) := dk_4 (dk_at dksJ5_appendChars_2_7 23 rfl rfl)
theorem dJ5_appendChars_2_190 : decode cJ5_appendChars_2 190 = .ok (.ishl, 1) := dk_120 (dk_at dksJ5_appendChars_2_8 0 rfl rfl)
theorem dJ5_appendChars_2_191 : decode cJ5_appendChars_2 191 = .ok (.invokestatic 309, 3) := dk_184 1 53 (dk_at dksJ5_appendChars_2_8 1 rfl rfl)
theorem dJ5_appendChars_2_194 : decode cJ5_appendChars_2 194 = .ok (.aload_n 0, 1) := dk_42 (dk_at dksJ5_appendChars_2_8 4 rfl rfl)
theorem dJ5_appendChars_2_195 : decode cJ5_appendChars_2 195 = .ok (.dup, 1) := dk_89 (dk_at dksJ5_appendChars_2_8 5 rfl rfl)
theorem dJ5_appendChars_2_196 : decode cJ5_appendChars_2 196 = .ok (.getfield 79, 3) := dk_180 0 79 (dk_at dksJ5_appendChars_2_8 6 rfl rfl)
theorem dJ5_appendChars_2_199 : decode cJ5_appendChars_2 199 = .ok (.iload_n 3, 1) := dk_29 (dk_at dksJ5_appendChars_2_8 9 rfl rfl)
theorem dJ5_appendChars_2_200 : decode cJ5_appendChars_2 200 = .ok (.iload_n 2, 1) := dk_28 (dk_at dksJ5_appendChars_2_8 10 rfl rfl)
theorem dJ5_appendChars_2_201 : decode cJ5_appendChars_2 201 = .ok (.isub, 1) := dk_100 (dk_at dksJ5_appendChars_2_8 11 rfl rfl)
theorem dJ5_appendChars_2_202 : decode cJ5_appendChars_2 202 = .ok (.iadd, 1) := dk_96 (dk_at dksJ5_appendChars_2_8 12 rfl rfl)
theorem dJ5_appendChars_2_203 : decode cJ5_appendChars_2 203 = .ok (.putfield 79, 3) := dk_181 0 79 (dk_at dksJ5_appendChars_2_8 13 rfl rfl)
theorem dJ5_appendChars_2_206 : decode cJ5_appendChars_2 206 = .ok (.return_, 1) := dk_177 (dk_at dksJ5_appendChars_2_8 16 rfl rfl)
abbrev cJ5_appendChars_3 : ByteArray := prog_17_method_76_code
def yJ5_appendChars_3 : MethodName := ⟨RJ5, "appendChars", "(Ljava/lang/CharSequence;II)V"⟩
def dkwJ5_appendChars_3_6 : List UInt8 := [184, 1, 138, 42, 89, 180, 0, 79, 29, 28, 100, 96, 181, 0, 79, 177]
abbrev dktJ5_appendChars_3_6 : List UInt8 := dkwJ5_appendChars_3_6 ++ []
def dkwJ5_appendChars_3_5 : List UInt8 := [181, 0, 79, 177, 132, 5, 1, 167, 255, 155, 167, 0, 17, 42, 180, 0, 15, 42, 180, 0, 79, 43, 28, 29]
abbrev dktJ5_appendChars_3_5 : List UInt8 := dkwJ5_appendChars_3_5 ++ dktJ5_appendChars_3_6
def dkwJ5_appendChars_3_4 : List UInt8 := [180, 0, 15, 21, 6, 43, 21, 5, 29, 184, 1, 138, 42, 89, 180, 0, 79, 29, 21, 5, 100, 96]
abbrev dktJ5_appendChars_3_4 : List UInt8 := dkwJ5_appendChars_3_4 ++ dktJ5_appendChars_3_5
def dkwJ5_appendChars_3_3 : List UInt8 := [180, 0, 15, 21, 6, 132, 6, 1, 21, 7, 184, 0, 197, 42, 21, 6, 181, 0, 79, 132, 5, 1, 42]
abbrev dktJ5_appendChars_3_3 : List UInt8 := dkwJ5_appendChars_3_3 ++ dktJ5_appendChars_3_4
def dkwJ5_appendChars_3_2 : List UInt8 := [21, 6, 132, 6, 1, 21, 7, 145, 84, 167, 0, 63, 42, 21, 6, 181, 0, 79, 42, 182, 0, 195, 42]
abbrev dktJ5_appendChars_3_2 : List UInt8 := dkwJ5_appendChars_3_2 ++ dktJ5_appendChars_3_3
def dkwJ5_appendChars_3_1 : List UInt8 := [29, 162, 0, 101, 43, 21, 5, 185, 1, 134, 2, 0, 54, 7, 21, 7, 184, 0, 191, 153, 0, 17, 25, 4]
abbrev dktJ5_appendChars_3_1 : List UInt8 := dkwJ5_appendChars_3_1 ++ dktJ5_appendChars_3_2
def dkwJ5_appendChars_3_0 : List UInt8 := [42, 182, 0, 83, 153, 0, 125, 42, 180, 0, 15, 58, 4, 28, 54, 5, 42, 180, 0, 79, 54, 6, 21, 5]
abbrev dktJ5_appendChars_3_0 : List UInt8 := dkwJ5_appendChars_3_0 ++ dktJ5_appendChars_3_1
theorem dksJ5_appendChars_3_0 : cJ5_appendChars_3.data.toList.drop 0 = dktJ5_appendChars_3_0 := by decide +kernel
theorem dksJ5_appendChars_3_1 : cJ5_appendChars_3.data.toList.drop 24 = dktJ5_appendChars_3_1 := dk_seg dksJ5_appendChars_3_0 24 rfl rfl
theorem dksJ5_appendChars_3_2 : cJ5_appendChars_3.data.toList.drop 48 = dktJ5_appendChars_3_2 := dk_seg dksJ5_appendChars_3_1 24 rfl rfl
theorem dksJ5_appendChars_3_3 : cJ5_appendChars_3.data.toList.drop 71 = dktJ5_appendChars_3_3 := dk_seg dksJ5_appendChars_3_2 23 rfl rfl
theorem dksJ5_appendChars_3_4 : cJ5_appendChars_3.data.toList.drop 94 = dktJ5_appendChars_3_4 := dk_seg dksJ5_appendChars_3_3 23 rfl rfl
theorem dksJ5_appendChars_3_5 : cJ5_appendChars_3.data.toList.drop 116 = dktJ5_appendChars_3_5 := dk_seg dksJ5_appendChars_3_4 22 rfl rfl
theorem dksJ5_appendChars_3_6 : cJ5_appendChars_3.data.toList.drop 140 = dktJ5_appendChars_3_6 := dk_seg dksJ5_appendChars_3_5 24 rfl rfl
theorem dJ5_appendChars_3_0 : decode cJ5_appendChars_3 0 = .ok (.aload_n 0, 1) := dk_42 (dk_at dksJ5_appendChars_3_0 0 rfl rfl)
theorem dJ5_appendChars_3_1 : decode cJ5_appendChars_3 1 = .ok (.invokevirtual 83, 3) := dk_182 0 83 (dk_at dksJ5_appendChars_3_0 1 rfl rfl)
theorem dJ5_appendChars_3_4 : decode cJ5_appendChars_3 4 = .ok (.ifCond .eq 125, 3) := dk_153 0 125 (dk_at dksJ5_appendChars_3_0 4 rfl rfl)
theorem dJ5_appendChars_3_7 : decode cJ5_appendChars_3 7 = .ok (.aload_n 0, 1) := dk_42 (dk_at dksJ5_appendChars_3_0 7 rfl rfl)
theorem dJ5_appendChars_3_8 : decode cJ5_appendChars_3 8 = .ok (.getfield 15, 3) := dk_180 0 15 (dk_at dksJ5_appendChars_3_0 8 rfl rfl)
theorem dJ5_appendChars_3_11 : decode cJ5_appendChars_3 11 = .ok (.astore 4, 2) := dk_58 4 (dk_at dksJ5_appendChars_3_0 11 rfl rfl)
theorem dJ5_appendChars_3_13 : decode cJ5_appendChars_3 13 = .ok (.iload_n 2, 1) := dk_28 (dk_at dksJ5_appendChars_3_0 13 rfl rfl)
theorem dJ5_appendChars_3_14 : decode cJ5_appendChars_3 14 = .ok (.istore 5, 2) := dk_54 5 (dk_at dksJ5_appendChars_3_0 14 rfl rfl)
theorem dJ5_appendChars_3_16 : decode cJ5_appendChars_3 16 = .ok (.aload_n 0, 1) := dk_42 (dk_at dksJ5_appendChars_3_0 16 rfl rfl)
theorem dJ5_appendChars_3_17 : decode cJ5_appendChars_3 17 = .ok (.getfield 79, 3) := dk_180 0 79 (dk_at dksJ5_appendChars_3_0 17 rfl rfl)
theorem dJ5_appendChars_3_20 : decode cJ5_appendChars_3 20 = .ok (.istore 6, 2) := dk_54 6 (dk_at dksJ5_appendChars_3_0 20 rfl rfl)
theorem dJ5_appendChars_3_22 : decode cJ5_appendChars_3 22 = .ok (.iload 5, 2) := dk_21 5 (dk_at dksJ5_appendChars_3_0 22 rfl rfl)
theorem dJ5_appendChars_3_24 : decode cJ5_appendChars_3 24 = .ok (.iload_n 3, 1) := dk_29 (dk_at dksJ5_appendChars_3_1 0 rfl rfl)
theorem dJ5_appendChars_3_25 : decode cJ5_appendChars_3 25 = .ok (.if_icmp .ge 101, 3) := dk_162 0 101 (dk_at dksJ5_appendChars_3_1 1 rfl rfl)
theorem dJ5_appendChars_3_28 : decode cJ5_appendChars_3 28 = .ok (.aload_n 1, 1) := dk_43 (dk_at dksJ5_appendChars_3_1 4 rfl rfl)
theorem dJ5_appendChars_3_29 : decode cJ5_appendChars_3 29 = .ok (.iload 5, 2) := dk_21 5 (dk_at dksJ5_appendChars_3_1 5 rfl rfl)
theorem dJ5_appendChars_3_31 : decode cJ5_appendChars_3 31 = .ok (.invokeinterface 390 2, 5) := by decide +kernel
theorem dJ5_appendChars_3_36 : decode cJ5_appendChars_3 36 = .ok (.istore 7, 2) := dk_54 7 (dk_at dksJ5_appendChars_3_1 12 rfl rfl)
theorem dJ5_appendChars_3_38 : decode cJ5_appendChars_3 38 = .ok (.iload 7, 2) := dk_21 7 (dk_at dksJ5_appendChars_3_1 14 rfl rfl)
theorem dJ5_appendChars_3_40 : decode cJ5_appendChars_3 40 = .ok (.invokestatic 191, 3) := dk_184 0 191 (dk_at dksJ5_appendChars_3_1 16 rfl rfl)
theorem dJ5_appendChars_3_43 : decode cJ5_appendChars_3 43 = .ok (.ifCond .eq 17, 3) := dk_153 0 17 (dk_at dksJ5_appendChars_3_1 19 rfl rfl)
theorem dJ5_appendChars_3_46 : decode cJ5_appendChars_3 46 = .ok (.aload 4, 2) := dk_25 4 (dk_at dksJ5_appendChars_3_1 22 rfl rfl)
theorem dJ5_appendChars_3_48 : decode cJ5_appendChars_3 48 = .ok (.iload 6, 2) := dk_21 6 (dk_at dksJ5_appendChars_3_2 0 rfl rfl)
theorem dJ5_appendChars_3_50 : decode cJ5_appendChars_3 50 = .ok (.iinc 6 1, 3) := dk_132 6 1 (dk_at dksJ5_appendChars_3_2 2 rfl rfl)
theorem dJ5_appendChars_3_53 : decode cJ5_appendChars_3 53 = .ok (.iload 7, 2) := dk_21 7 (dk_at dksJ5_appendChars_3_2 5 rfl rfl)
theorem dJ5_appendChars_3_55 : decode cJ5_appendChars_3 55 = .ok (.i2b, 1) := dk_145 (dk_at dksJ5_appendChars_3_2 7 rfl rfl)
theorem dJ5_appendChars_3_56 : decode cJ5_appendChars_3 56 = .ok (.bastore, 1) := dk_84 (dk_at dksJ5_appendChars_3_2 8 rfl rfl)
theorem dJ5_appendChars_3_57 : decode cJ5_appendChars_3 57 = .ok (.goto 63, 3) := dk_167 0 63 (dk_at dksJ5_appendChars_3_2 9 rfl rfl)
theorem dJ5_appendChars_3_60 : decode cJ5_appendChars_3 60 = .ok (.aload_n 0, 1) := dk_42 (dk_at dksJ5_appendChars_3_2 12 rfl rfl)
theorem dJ5_appendChars_3_61 : decode cJ5_appendChars_3 61 = .ok (.iload 6, 2) := dk_21 6 (dk_at dksJ5_appendChars_3_2 13 rfl rfl)
theorem dJ5_appendChars_3_63 : decode cJ5_appendChars_3 63 = .ok (.putfield 79, 3) := dk_181 0 79 (dk_at dksJ5_appendChars_3_2 15 rfl rfl)
theorem dJ5_appendChars_3_66 : decode cJ5_appendChars_3 66 = .ok (.aload_n 0, 1) := dk_42 (dk_at dksJ5_appendChars_3_2 18 rfl rfl)
theorem dJ5_appendChars_3_67 : decode cJ5_appendChars_3 67 = .ok (.invokevirtual 195, 3) := dk_182 0 195 (dk_at dksJ5_appendChars_3_2 19 rfl rfl)
theorem dJ5_appendChars_3_70 : decode cJ5_appendChars_3 70 = .ok (.aload_n 0, 1) := dk_42 (dk_at dksJ5_appendChars_3_2 22 rfl rfl)
theorem dJ5_appendChars_3_71 : decode cJ5_appendChars_3 71 = .ok (.getfield 15, 3) := dk_180 0 15 (dk_at dksJ5_appendChars_3_3 0 rfl rfl)
theorem dJ5_appendChars_3_74 : decode cJ5_appendChars_3 74 = .ok (.iload 6, 2) := dk_21 6 (dk_at dksJ5_appendChars_3_3 3 rfl rfl)
theorem dJ5_appendChars_3_76 : decode cJ5_appendChars_3 76 = .ok (.iinc 6 1, 3) := dk_132 6 1 (dk_at dksJ5_appendChars_3_3 5 rfl rfl)
theorem dJ5_appendChars_3_79 : decode cJ5_appendChars_3 79 = .ok (.iload 7, 2) := dk_21 7 (dk_at dksJ5_appendChars_3_3 8 rfl rfl)
theorem dJ5_appendChars_3_81 : decode cJ5_appendChars_3 81 = .ok (.invokestatic 197, 3) := dk_184 0 197 (dk_at dksJ5_appendChars_3_3 10 rfl rfl)
theorem dJ5_appendChars_3_84 : decode cJ5_appendChars_3 84 = .ok (.aload_n 0, 1) := dk_42 (dk_at dksJ5_appendChars_3_3 13 rfl rfl)
theorem dJ5_appendChars_3_85 : decode cJ5_appendChars_3 85 = .ok (.iload 6, 2) := dk_21 6 (dk_at dksJ5_appendChars_3_3 14 rfl rfl)
theorem dJ5_appendChars_3_87 : decode cJ5_appendChars_3 87 = .ok (.putfield 79, 3) := dk_181 0 79 (dk_at dksJ5_appendChars_3_3 16 rfl rfl)
theorem dJ5_appendChars_3_90 : decode cJ5_appendChars_3 90 = .ok (.iinc 5 1, 3) := dk_132 5 1 (dk_at dksJ5_appendChars_3_3 19 rfl rfl)
theorem dJ5_appendChars_3_93 : decode cJ5_appendChars_3 93 = .ok (.aload_n 0, 1) := dk_42 (dk_at dksJ5_appendChars_3_3 22 rfl rfl)
theorem dJ5_appendChars_3_94 : decode cJ5_appendChars_3 94 = .ok (.getfield 15, 3) := dk_180 0 15 (dk_at dksJ5_appendChars_3_4 0 rfl rfl)
theorem dJ5_appendChars_3_97 : decode cJ5_appendChars_3 97 = .ok (.iload 6, 2) := dk_21 6 (dk_at dksJ5_appendChars_3_4 3 rfl rfl)
theorem dJ5_appendChars_3_99 : decode cJ5_appendChars_3 99 = .ok (.aload_n 1, 1) := dk_43 (dk_at dksJ5_appendChars_3_4 5 rfl rfl)
theorem dJ5_appendChars_3_100 : decode cJ5_appendChars_3 100 = .ok (.iload 5, 2) := dk_21 5 (dk_at dksJ5_appendChars_3_4 6 rfl rfl)
theorem dJ5_appendChars_3_102 : decode cJ5_appendChars_3 102 = .ok (.iload_n 3, 1) := dk_29 (dk_at dksJ5_appendChars_3_4 8 rfl rfl)
theorem dJ5_appendChars_3_103 : decode cJ5_appendChars_3 103 = .ok (.invokestatic 394, 3) := dk_184 1 138 (dk_at dksJ5_appendChars_3_4 9 rfl rfl)
theorem dJ5_appendChars_3_106 : decode cJ5_appendChars_3 106 = .ok (.aload_n 0, 1) := dk_42 (dk_at dksJ5_appendChars_3_4 12 rfl rfl)
theorem dJ5_appendChars_3_107 : decode cJ5_appendChars_3 107 = .ok (.dup, 1) := dk_89 (dk_at dksJ5_appendChars_3_4 13 rfl rfl)
theorem dJ5_appendChars_3_108 : decode cJ5_appendChars_3 108 = .ok (.getfield 79, 3) := dk_180 0 79 (dk_at dksJ5_appendChars_3_4 14 rfl rfl)
theorem dJ5_appendChars_3_111 : decode cJ5_appendChars_3 111 = .ok (.iload_n 3, 1) := dk_29 (dk_at dksJ5_appendChars_3_4 17 rfl rfl)
theorem dJ5_appendChars_3_112 : decode cJ5_appendChars_3 112 = .ok (.iload 5, 2) := dk_21 5 (dk_at dksJ5_appendChars_3_4 18 rfl rfl)
theorem dJ5_appendChars_3_114 : decode cJ5_appendChars_3 114 = .ok (.isub, 1) := dk_100 (dk_at dksJ5_appendChars_3_4 20 rfl rfl)
theorem dJ5_appendChars_3_115 : decode cJ5_appendChars_3 115 = .ok (.iadd, 1) := dk_96 (dk_at dksJ5_appendChars_3_4 21 rfl rfl)
theorem dJ5_appendChars_3_116 : decode cJ5_appendChars_3 116 = .ok (.putfield 79, 3) := dk_181 0 79 (dk_at dksJ5_appendChars_3_5 0 rfl rfl)
theorem dJ5_appendChars_3_119 : decode cJ5_appendChars_3 119 = .ok (.return_, 1) := dk_177 (dk_at dksJ5_appendChars_3_5 3 rfl rfl)
theorem dJ5_appendChars_3_120 : decode cJ5_appendChars_3 120 = .ok (.iinc 5 1, 3) := dk_132 5 1 (dk_at dksJ5_appendChars_3_5 4 rfl rfl)
theorem dJ5_appendChars_3_123 : decode cJ5_appendChars_3 123 = .ok (.goto (-101), 3) := dk_167 255 155 (dk_at dksJ5_appendChars_3_5 7 rfl rfl)
theorem dJ5_appendChars_3_126 : decode cJ5_appendChars_3 126 = .ok (.goto 17, 3) := dk_167 0 17 (dk_at dksJ5_appendChars_3_5 10 rfl rfl)
theorem dJ5_appendChars_3_129 : decode cJ5_appendChars_3 129 = .ok (.aload_n 0, 1) := dk_42 (dk_at dksJ5_appendChars_3_5 13 rfl rfl)
theorem dJ5_appendChars_3_130 : decode cJ5_appendChars_3 130 = .ok (.getfield 15, 3) := dk_180 0 15 (dk_at dksJ5_appendChars_3_5 14 rfl rfl)
theorem dJ5_appendChars_3_133 : decode cJ5_appendChars_3 133 = .ok (.aload_n 0, 1) := dk_42 (dk_at dksJ5_appendChars_3_5 17 rfl rfl)
theorem dJ5_appendChars_3_134 : decode cJ5_appendChars_3 134 = .ok (.getfield 79, 3) := dk_180 0 79 (dk_at dksJ5_appendChars_3_5 18 rfl rfl)
theorem dJ5_appendChars_3_137 : decode cJ5_appendChars_3 137 = .ok (.aload_n 1, 1) := dk_43 (dk_at dksJ5_appendChars_3_5 21 rfl rfl)
theorem dJ5_appendChars_3_138 : decode cJ5_appendChars_3 138 = .ok (.iload_n 2, 1) := dk_28 (dk_at dksJ5_appendChars_3_5 22 rfl rfl)
theorem dJ5_appendChars_3_139 : decode cJ5_appendChars_3 139 = .ok (.iload_n 3, 1) := dk_29 (dk_at dksJ5_appendChars_3_5 23 rfl rfl)
theorem dJ5_appendChars_3_140 : decode cJ5_appendChars_3 140 = .ok (.invokestatic 394, 3) := dk_184 1 138 (dk_at dksJ5_appendChars_3_6 0 rfl rfl)
theorem dJ5_appendChars_3_143 : decode cJ5_appendChars_3 143 = .ok (.aload_n 0, 1) := dk_42 (dk_at dksJ5_appendChars_3_6 3 rfl rfl)
theorem dJ5_appendChars_3_144 : decode cJ5_appendChars_3 144 = .ok (.dup, 1) := dk_89 (dk_at dksJ5_appendChars_3_6 4 rfl rfl)
theorem dJ5_appendChars_3_145 : decode cJ5_appendChars_3 145 = .ok (.getfield 79, 3) := dk_180 0 79 (dk_at dksJ5_appendChars_3_6 5 rfl rfl)
theorem dJ5_appendChars_3_148 : decode cJ5_appendChars_3 148 = .ok (.iload_n 3, 1) := dk_29 (dk_at dksJ5_appendChars_3_6 8 rfl rfl)
theorem dJ5_appendChars_3_149 : decode cJ5_appendChars_3 149 = .ok (.iload_n 2, 1) := dk_28 (dk_at dksJ5_appendChars_3_6 9 rfl rfl)
theorem dJ5_appendChars_3_150 : decode cJ5_appendChars_3 150 = .ok (.isub, 1) := dk_100 (dk_at dksJ5_appendChars_3_6 10 rfl rfl)
theorem dJ5_appendChars_3_151 : decode cJ5_appendChars_3 151 = .ok (.iadd, 1) := dk_96 (dk_at dksJ5_appendChars_3_6 11 rfl rfl)
theorem dJ5_appendChars_3_152 : decode cJ5_appendChars_3 152 = .ok (.putfield 79, 3) := dk_181 0 79 (dk_at dksJ5_appendChars_3_6 12 rfl rfl)
theorem dJ5_appendChars_3_155 : decode cJ5_appendChars_3 155 = .ok (.return_, 1) := dk_177 (dk_at dksJ5_appendChars_3_6 15 rfl rfl)
theorem q109 : (Jvm.Cond.initialized "java/lang/AbstractStringBuilder") ∈ lw_all := lw_g (lw_at lw_m1 10 rfl) rfl
theorem q359 : (Jvm.Cond.instanceMethod ({ cls := "java/lang/AbstractStringBuilder", name := "<init>", desc := "(I)V" } : Jvm.MethodName)) ∈ lw_all := lw_g (lw_at lw_m2 20 rfl) rfl
theorem q360 : (Jvm.Cond.code ({ cls := "java/lang/AbstractStringBuilder", name := "<init>", desc := "(I)V" } : Jvm.MethodName) prog_17_method_2_code (2 : Nat) (Option.none : Option Jvm.ClassFile.FieldType)) ∈ lw_all := lw_g (lw_at lw_m2 21 rfl) rfl
theorem q361 : (Jvm.Cond.methodLink "java/lang/AbstractStringBuilder" (3 : Nat) ({ cls := "java/lang/Object", name := "<init>", desc := "()V" } : Jvm.MethodName)) ∈ lw_all := lw_g (lw_at lw_m2 22 rfl) rfl
theorem q362 : (Jvm.Cond.fieldLink "java/lang/AbstractStringBuilder" (18 : Nat) "java/lang/String" "COMPACT_STRINGS" "Z") ∈ lw_all := lw_g (lw_at lw_m2 23 rfl) rfl
theorem q364 : (Jvm.Cond.methodLink "java/lang/AbstractStringBuilder" (26 : Nat) ({ cls := "java/lang/StringUTF16", name := "newBytesFor", desc := "(I)[B" } : Jvm.MethodName)) ∈ lw_all := lw_g (lw_at lw_m2 25 rfl) rfl
theorem q371 : (Jvm.Cond.fieldLink "java/lang/AbstractStringBuilder" (15 : Nat) "java/lang/AbstractStringBuilder" "value" "[B") ∈ lw_all := lw_g (lw_at lw_m2 32 rfl) rfl
theorem q372 : (Jvm.Cond.fieldLink "java/lang/AbstractStringBuilder" (22 : Nat) "java/lang/AbstractStringBuilder" "coder" "B") ∈ lw_all := lw_g (lw_at lw_m2 33 rfl) rfl
theorem q373 : (Jvm.Cond.fieldLink "java/lang/AbstractStringBuilder" (73 : Nat) "java/lang/AbstractStringBuilder" "maybeLatin1" "Z") ∈ lw_all := lw_g (lw_at lw_m2 34 rfl) rfl
theorem q375 : (Jvm.Cond.fieldLink "java/lang/AbstractStringBuilder" (79 : Nat) "java/lang/AbstractStringBuilder" "count" "I") ∈ lw_all := lw_g (lw_at lw_m2 36 rfl) rfl
theorem q377 : (Jvm.Cond.soleField "java/lang/AbstractStringBuilder" "value") ∈ lw_all := lw_g (lw_at lw_m2 38 rfl) rfl
theorem q379 : (Jvm.Cond.soleField "java/lang/AbstractStringBuilder" "coder") ∈ lw_all := lw_g (lw_at lw_m2 40 rfl) rfl
theorem q381 : (Jvm.Cond.soleField "java/lang/AbstractStringBuilder" "maybeLatin1") ∈ lw_all := lw_g (lw_at lw_m2 42 rfl) rfl
theorem q383 : (Jvm.Cond.soleField "java/lang/AbstractStringBuilder" "count") ∈ lw_all := lw_g (lw_at lw_m2 44 rfl) rfl
theorem q881 : (Jvm.Cond.instanceMethod ({ cls := "java/lang/AbstractStringBuilder", name := "append", desc := "(Ljava/lang/String;)Ljava/lang/AbstractStringBuilder;" } : Jvm.MethodName)) ∈ lw_all := lw_g (lw_at lw_m4 62 rfl) rfl
theorem q882 : (Jvm.Cond.code ({ cls := "java/lang/AbstractStringBuilder", name := "append", desc := "(Ljava/lang/String;)Ljava/lang/AbstractStringBuilder;" } : Jvm.MethodName) prog_17_method_22_code (3 : Nat) (Option.some (Jvm.ClassFile.FieldType.object "java/lang/AbstractStringBuilder"))) ∈ lw_all := lw_g (lw_at lw_m4 63 rfl) rfl
theorem q883 : (Jvm.Cond.methodLink "java/lang/AbstractStringBuilder" (204 : Nat) ({ cls := "java/lang/AbstractStringBuilder", name := "appendNull", desc := "()Ljava/lang/AbstractStringBuilder;" } : Jvm.MethodName)) ∈ lw_all := lw_g (lw_at lw_m4 64 rfl) rfl
theorem q884 : (Jvm.Cond.privateMethod ({ cls := "java/lang/AbstractStringBuilder", name := "appendNull", desc := "()Ljava/lang/AbstractStringBuilder;" } : Jvm.MethodName)) ∈ lw_tbl := lw_at lw_m4 65 rfl
theorem q885 : (Jvm.Cond.instanceMethod ({ cls := "java/lang/AbstractStringBuilder", name := "appendNull", desc := "()Ljava/lang/AbstractStringBuilder;" } : Jvm.MethodName)) ∈ lw_all := lw_g (lw_at lw_m4 66 rfl) rfl
theorem q886 : (Jvm.Cond.code ({ cls := "java/lang/AbstractStringBuilder", name := "appendNull", desc := "()Ljava/lang/AbstractStringBuilder;" } : Jvm.MethodName) prog_17_method_26_code (3 : Nat) (Option.some (Jvm.ClassFile.FieldType.object "java/lang/AbstractStringBuilder"))) ∈ lw_all := lw_g (lw_at lw_m4 67 rfl) rfl
theorem q887 : (Jvm.Cond.methodLink "java/lang/AbstractStringBuilder" (100 : Nat) ({ cls := "java/lang/AbstractStringBuilder", name := "ensureCapacityInternal", desc := "(I)V" } : Jvm.MethodName)) ∈ lw_all := lw_g (lw_at lw_m4 68 rfl) rfl
theorem q888 : (Jvm.Cond.privateMethod ({ cls := "java/lang/AbstractStringBuilder", name := "ensureCapacityInternal", desc := "(I)V" } : Jvm.MethodName)) ∈ lw_tbl := lw_at lw_m4 69 rfl
theorem q889 : (Jvm.Cond.instanceMethod ({ cls := "java/lang/AbstractStringBuilder", name := "ensureCapacityInternal", desc := "(I)V" } : Jvm.MethodName)) ∈ lw_all := lw_g (lw_at lw_m4 70 rfl) rfl
theorem q890 : (Jvm.Cond.code ({ cls := "java/lang/AbstractStringBuilder", name := "ensureCapacityInternal", desc := "(I)V" } : Jvm.MethodName) prog_17_method_9_code (3 : Nat) (Option.none : Option Jvm.ClassFile.FieldType)) ∈ lw_all := lw_g (lw_at lw_m4 71 rfl) rfl
theorem q891 : (Jvm.Cond.methodLink "java/lang/AbstractStringBuilder" (104 : Nat) ({ cls := "java/lang/AbstractStringBuilder", name := "newCapacity", desc := "(I)I" } : Jvm.MethodName)) ∈ lw_all := lw_g (lw_at lw_m4 72 rfl) rfl
theorem q892 : (Jvm.Cond.privateMethod ({ cls := "java/lang/AbstractStringBuilder", name := "newCapacity", desc := "(I)I" } : Jvm.MethodName)) ∈ lw_tbl := lw_at lw_m4 73 rfl
theorem q893 : (Jvm.Cond.instanceMethod ({ cls := "java/lang/AbstractStringBuilder", name := "newCapacity", desc := "(I)I" } : Jvm.MethodName)) ∈ lw_all := lw_g (lw_at lw_m4 74 rfl) rfl
theorem q894 : (Jvm.Cond.code ({ cls := "java/lang/AbstractStringBuilder", name := "newCapacity", desc := "(I)I" } : Jvm.MethodName) prog_17_method_10_code (6 : Nat) (Option.some Jvm.ClassFile.FieldType.int)) ∈ lw_all := lw_g (lw_at lw_m4 75 rfl) rfl
theorem q895 : (Jvm.Cond.methodLink "java/lang/AbstractStringBuilder" (114 : Nat) ({ cls := "jdk/internal/util/ArraysSupport", name := "newLength", desc := "(III)I" } : Jvm.MethodName)) ∈ lw_all := lw_g (lw_at lw_m4 76 rfl) rfl
theorem q905 : (Jvm.Cond.constant "java/lang/AbstractStringBuilder" (39 : Nat) (2147483647 : Int32)) ∈ lw_all := lw_g (lw_at lw_m4 86 rfl) rfl
theorem q906 : (Jvm.Cond.methodLink "java/lang/AbstractStringBuilder" (108 : Nat) ({ cls := "java/util/Arrays", name := "copyOf", desc := "([BI)[B" } : Jvm.MethodName)) ∈ lw_all := lw_g (lw_at lw_m4 87 rfl) rfl
theorem q916 : (Jvm.Cond.methodLink "java/lang/AbstractStringBuilder" (83 : Nat) ({ cls := "java/lang/AbstractStringBuilder", name := "isLatin1", desc := "()Z" } : Jvm.MethodName)) ∈ lw_all := lw_g (lw_at lw_m4 97 rfl) rfl
theorem q917 : (Jvm.Cond.instanceMethod ({ cls := "java/lang/AbstractStringBuilder", name := "isLatin1", desc := "()Z" } : Jvm.MethodName)) ∈ lw_all := lw_g (lw_at lw_m4 98 rfl) rfl
theorem q918 : (Jvm.Cond.sameMethod "java/lang/AbstractStringBuilder" "java/lang/AbstractStringBuilder" "isLatin1" "()Z") ∈ lw_all := lw_g (lw_at lw_m4 99 rfl) rfl
theorem q920 : (Jvm.Cond.code ({ cls := "java/lang/AbstractStringBuilder", name := "isLatin1", desc := "()Z" } : Jvm.MethodName) prog_17_method_68_code (1 : Nat) (Option.some Jvm.ClassFile.FieldType.boolean)) ∈ lw_all := lw_g (lw_at lw_m4 101 rfl) rfl
theorem q921 : (Jvm.Cond.methodLink "java/lang/AbstractStringBuilder" (226 : Nat) ({ cls := "java/lang/StringUTF16", name := "putCharsAt", desc := "([BICCCC)I" } : Jvm.MethodName)) ∈ lw_all := lw_g (lw_at lw_m4 102 rfl) rfl
theorem q947 : (Jvm.Cond.methodLink "java/lang/AbstractStringBuilder" (32 : Nat) ({ cls := "java/lang/String", name := "length", desc := "()I" } : Jvm.MethodName)) ∈ lw_all := lw_g (lw_at lw_m4 128 rfl) rfl
theorem q956 : (Jvm.Cond.methodLink "java/lang/AbstractStringBuilder" (208 : Nat) ({ cls := "java/lang/AbstractStringBuilder", name := "putStringAt", desc := "(ILjava/lang/String;)V" } : Jvm.MethodName)) ∈ lw_all := lw_g (lw_at lw_m4 137 rfl) rfl
theorem q957 : (Jvm.Cond.privateMethod ({ cls := "java/lang/AbstractStringBuilder", name := "putStringAt", desc := "(ILjava/lang/String;)V" } : Jvm.MethodName)) ∈ lw_tbl := lw_at lw_m4 138 rfl
theorem q958 : (Jvm.Cond.instanceMethod ({ cls := "java/lang/AbstractStringBuilder", name := "putStringAt", desc := "(ILjava/lang/String;)V" } : Jvm.MethodName)) ∈ lw_all := lw_g (lw_at lw_m4 139 rfl) rfl
theorem q959 : (Jvm.Cond.code ({ cls := "java/lang/AbstractStringBuilder", name := "putStringAt", desc := "(ILjava/lang/String;)V" } : Jvm.MethodName) prog_17_method_73_code (3 : Nat) (Option.none : Option Jvm.ClassFile.FieldType)) ∈ lw_all := lw_g (lw_at lw_m4 140 rfl) rfl
theorem q960 : (Jvm.Cond.methodLink "java/lang/AbstractStringBuilder" (397 : Nat) ({ cls := "java/lang/AbstractStringBuilder", name := "inflateIfNeededFor", desc := "(Ljava/lang/String;)V" } : Jvm.MethodName)) ∈ lw_all := lw_g (lw_at lw_m4 141 rfl) rfl
theorem q961 : (Jvm.Cond.privateMethod ({ cls := "java/lang/AbstractStringBuilder", name := "inflateIfNeededFor", desc := "(Ljava/lang/String;)V" } : Jvm.MethodName)) ∈ lw_tbl := lw_at lw_m4 142 rfl
theorem q962 : (Jvm.Cond.instanceMethod ({ cls := "java/lang/AbstractStringBuilder", name := "inflateIfNeededFor", desc := "(Ljava/lang/String;)V" } : Jvm.MethodName)) ∈ lw_all := lw_g (lw_at lw_m4 143 rfl) rfl
theorem q963 : (Jvm.Cond.code ({ cls := "java/lang/AbstractStringBuilder", name := "inflateIfNeededFor", desc := "(Ljava/lang/String;)V" } : Jvm.MethodName) prog_17_method_71_code (2 : Nat) (Option.none : Option Jvm.ClassFile.FieldType)) ∈ lw_all := lw_g (lw_at lw_m4 144 rfl) rfl
theorem q964 : (Jvm.Cond.methodLink "java/lang/AbstractStringBuilder" (40 : Nat) ({ cls := "java/lang/String", name := "coder", desc := "()B" } : Jvm.MethodName)) ∈ lw_all := lw_g (lw_at lw_m4 145 rfl) rfl
theorem q965 : (Jvm.Cond.methodLink "java/lang/AbstractStringBuilder" (195 : Nat) ({ cls := "java/lang/AbstractStringBuilder", name := "inflate", desc := "()V" } : Jvm.MethodName)) ∈ lw_all := lw_g (lw_at lw_m4 146 rfl) rfl
theorem q966 : (Jvm.Cond.privateMethod ({ cls := "java/lang/AbstractStringBuilder", name := "inflate", desc := "()V" } : Jvm.MethodName)) ∈ lw_tbl := lw_at lw_m4 147 rfl
theorem q967 : (Jvm.Cond.instanceMethod ({ cls := "java/lang/AbstractStringBuilder", name := "inflate", desc := "()V" } : Jvm.MethodName)) ∈ lw_all := lw_g (lw_at lw_m4 148 rfl) rfl
theorem q968 : (Jvm.Cond.code ({ cls := "java/lang/AbstractStringBuilder", name := "inflate", desc := "()V" } : Jvm.MethodName) prog_17_method_11_code (2 : Nat) (Option.none : Option Jvm.ClassFile.FieldType)) ∈ lw_all := lw_g (lw_at lw_m4 149 rfl) rfl
theorem q969 : (Jvm.Cond.methodLink "java/lang/AbstractStringBuilder" (125 : Nat) ({ cls := "java/lang/StringLatin1", name := "inflate", desc := "([BI[BII)V" } : Jvm.MethodName)) ∈ lw_all := lw_g (lw_at lw_m4 150 rfl) rfl
theorem q984 : (Jvm.Cond.methodLink "java/lang/AbstractStringBuilder" (399 : Nat) ({ cls := "java/lang/String", name := "getBytes", desc := "([BIB)V" } : Jvm.MethodName)) ∈ lw_all := lw_g (lw_at lw_m4 165 rfl) rfl
theorem q995 : (Jvm.Cond.instanceMethod ({ cls := "java/lang/AbstractStringBuilder", name := "append", desc := "(I)Ljava/lang/AbstractStringBuilder;" } : Jvm.MethodName)) ∈ lw_all := lw_g (lw_at lw_m4 176 rfl) rfl
theorem q996 : (Jvm.Cond.code ({ cls := "java/lang/AbstractStringBuilder", name := "append", desc := "(I)Ljava/lang/AbstractStringBuilder;" } : Jvm.MethodName) prog_17_method_32_code (4 : Nat) (Option.some (Jvm.ClassFile.FieldType.object "java/lang/AbstractStringBuilder"))) ∈ lw_all := lw_g (lw_at lw_m4 177 rfl) rfl
theorem q997 : (Jvm.Cond.methodLink "java/lang/AbstractStringBuilder" (245 : Nat) ({ cls := "java/lang/Integer", name := "stringSize", desc := "(I)I" } : Jvm.MethodName)) ∈ lw_all := lw_g (lw_at lw_m4 178 rfl) rfl
theorem q1000 : (Jvm.Cond.methodLink "java/lang/AbstractStringBuilder" (248 : Nat) ({ cls := "java/lang/Integer", name := "getChars", desc := "(II[B)I" } : Jvm.MethodName)) ∈ lw_all := lw_g (lw_at lw_m4 181 rfl) rfl
theorem q1007 : (Jvm.Cond.methodLink "java/lang/AbstractStringBuilder" (251 : Nat) ({ cls := "java/lang/StringUTF16", name := "getChars", desc := "(III[B)I" } : Jvm.MethodName)) ∈ lw_all := lw_g (lw_at lw_m4 188 rfl) rfl
theorem q1030 : (Jvm.Cond.instanceMethod ({ cls := "java/lang/AbstractStringBuilder", name := "getValue", desc := "()[B" } : Jvm.MethodName)) ∈ lw_all := lw_g (lw_at lw_m4 211 rfl) rfl
theorem q1031 : (Jvm.Cond.sameMethod "java/lang/AbstractStringBuilder" "java/lang/AbstractStringBuilder" "getValue" "()[B") ∈ lw_all := lw_g (lw_at lw_m4 212 rfl) rfl
theorem q1033 : (Jvm.Cond.code ({ cls := "java/lang/AbstractStringBuilder", name := "getValue", desc := "()[B" } : Jvm.MethodName) prog_17_method_64_code (1 : Nat) (Option.some (Jvm.ClassFile.FieldType.array Jvm.ClassFile.FieldType.byte))) ∈ lw_all := lw_g (lw_at lw_m4 214 rfl) rfl
theorem q1035 : (Jvm.Cond.instanceMethod ({ cls := "java/lang/AbstractStringBuilder", name := "length", desc := "()I" } : Jvm.MethodName)) ∈ lw_all := lw_g (lw_at lw_m4 216 rfl) rfl
theorem q1036 : (Jvm.Cond.sameMethod "java/lang/AbstractStringBuilder" "java/lang/AbstractStringBuilder" "length" "()I") ∈ lw_all := lw_g (lw_at lw_m4 217 rfl) rfl
theorem q1041 : (Jvm.Cond.code ({ cls := "java/lang/AbstractStringBuilder", name := "length", desc := "()I" } : Jvm.MethodName) prog_17_method_6_code (1 : Nat) (Option.some Jvm.ClassFile.FieldType.int)) ∈ lw_all := lw_g (lw_at lw_m4 222 rfl) rfl
theorem q1706 : (Jvm.Cond.instanceMethod ({ cls := "java/lang/AbstractStringBuilder", name := "compareTo", desc := "(Ljava/lang/AbstractStringBuilder;)I" } : Jvm.MethodName)) ∈ lw_all := lw_g (lw_at lw_m7 167 rfl) rfl
theorem q1707 : (Jvm.Cond.code ({ cls := "java/lang/AbstractStringBuilder", name := "compareTo", desc := "(Ljava/lang/AbstractStringBuilder;)I" } : Jvm.MethodName) prog_17_method_5_code (6 : Nat) (Option.some Jvm.ClassFile.FieldType.int)) ∈ lw_all := lw_g (lw_at lw_m7 168 rfl) rfl
theorem q1708 : (Jvm.Cond.methodLink "java/lang/AbstractStringBuilder" (87 : Nat) ({ cls := "java/lang/StringLatin1", name := "compareTo", desc := "([B[BII)I" } : Jvm.MethodName)) ∈ lw_all := lw_g (lw_at lw_m7 169 rfl) rfl
theorem q1709 : (Jvm.Cond.methodLink "java/lang/AbstractStringBuilder" (93 : Nat) ({ cls := "java/lang/StringUTF16", name := "compareTo", desc := "([B[BII)I" } : Jvm.MethodName)) ∈ lw_all := lw_g (lw_at lw_m7 170 rfl) rfl
theorem q1718 : (Jvm.Cond.methodLink "java/lang/AbstractStringBuilder" (94 : Nat) ({ cls := "java/lang/StringLatin1", name := "compareToUTF16", desc := "([B[BII)I" } : Jvm.MethodName)) ∈ lw_all := lw_g (lw_at lw_m7 179 rfl) rfl
theorem q1722 : (Jvm.Cond.methodLink "java/lang/AbstractStringBuilder" (97 : Nat) ({ cls := "java/lang/StringUTF16", name := "compareToLatin1", desc := "([B[BII)I" } : Jvm.MethodName)) ∈ lw_all := lw_g (lw_at lw_m7 183 rfl) rfl
theorem q2673 : (Jvm.Cond.instanceMethod ({ cls := "java/lang/AbstractStringBuilder", name := "setLength", desc := "(I)V" } : Jvm.MethodName)) ∈ lw_all := lw_g (lw_at lw_m11 174 rfl) rfl
theorem q2674 : (Jvm.Cond.code ({ cls := "java/lang/AbstractStringBuilder", name := "setLength", desc := "(I)V" } : Jvm.MethodName) prog_17_method_13_code (2 : Nat) (Option.none : Option Jvm.ClassFile.FieldType)) ∈ lw_all := lw_g (lw_at lw_m11 175 rfl) rfl
theorem q2675 : (Jvm.Cond.classLink "java/lang/AbstractStringBuilder" (129 : Nat) "java/lang/StringIndexOutOfBoundsException") ∈ lw_all := lw_g (lw_at lw_m11 176 rfl) rfl
theorem q2677 : (Jvm.Cond.methodLink "java/lang/AbstractStringBuilder" (131 : Nat) ({ cls := "java/lang/StringIndexOutOfBoundsException", name := "<init>", desc := "(I)V" } : Jvm.MethodName)) ∈ lw_all := lw_g (lw_at lw_m11 178 rfl) rfl
theorem q2694 : (Jvm.Cond.methodLink "java/lang/AbstractStringBuilder" (133 : Nat) ({ cls := "java/lang/StringLatin1", name := "fillNull", desc := "([BII)V" } : Jvm.MethodName)) ∈ lw_all := lw_g (lw_at lw_m11 195 rfl) rfl
theorem q2716 : (Jvm.Cond.methodLink "java/lang/AbstractStringBuilder" (137 : Nat) ({ cls := "java/lang/StringUTF16", name := "fillNull", desc := "([BII)V" } : Jvm.MethodName)) ∈ lw_all := lw_g (lw_at lw_m11 217 rfl) rfl
theorem q2746 : (Jvm.Cond.instanceMethod ({ cls := "java/lang/AbstractStringBuilder", name := "charAt", desc := "(I)C" } : Jvm.MethodName)) ∈ lw_all := lw_g (lw_at lw_m12 7 rfl) rfl
theorem q2747 : (Jvm.Cond.code ({ cls := "java/lang/AbstractStringBuilder", name := "charAt", desc := "(I)C" } : Jvm.MethodName) prog_17_method_14_code (5 : Nat) (Option.some Jvm.ClassFile.FieldType.char)) ∈ lw_all := lw_g (lw_at lw_m12 8 rfl) rfl
theorem q2748 : (Jvm.Cond.methodLink "java/lang/AbstractStringBuilder" (138 : Nat) ({ cls := "java/lang/Math", name := "min", desc := "(II)I" } : Jvm.MethodName)) ∈ lw_all := lw_g (lw_at lw_m12 9 rfl) rfl
theorem q2749 : (Jvm.Cond.methodLink "java/lang/AbstractStringBuilder" (144 : Nat) ({ cls := "java/lang/String", name := "checkIndex", desc := "(II)V" } : Jvm.MethodName)) ∈ lw_all := lw_g (lw_at lw_m12 10 rfl) rfl
theorem q2753 : (Jvm.Cond.methodLink "java/lang/AbstractStringBuilder" (148 : Nat) ({ cls := "java/lang/StringUTF16", name := "getChar", desc := "([BI)C" } : Jvm.MethodName)) ∈ lw_all := lw_g (lw_at lw_m12 14 rfl) rfl
theorem q2987 : (Jvm.Cond.instanceMethod ({ cls := "java/lang/AbstractStringBuilder", name := "append", desc := "(F)Ljava/lang/AbstractStringBuilder;" } : Jvm.MethodName)) ∈ lw_all := lw_g (lw_at lw_m13 8 rfl) rfl
theorem q2988 : (Jvm.Cond.codeWith ({ cls := "java/lang/AbstractStringBuilder", name := "append", desc := "(F)Ljava/lang/AbstractStringBuilder;" } : Jvm.MethodName) prog_17_method_34_code (3 : Nat) (Option.some (Jvm.ClassFile.FieldType.object "java/lang/AbstractStringBuilder")) [((0 : Nat), (6 : Nat), (9 : Nat), (271 : Nat))]) ∈ lw_all := lw_g (lw_at lw_m13 9 rfl) rfl
theorem q2989 : (Jvm.Cond.methodLink "java/lang/AbstractStringBuilder" (265 : Nat) ({ cls := "jdk/internal/math/FloatToDecimal", name := "appendTo", desc := "(FLjava/lang/Appendable;)Ljava/lang/Appendable;" } : Jvm.MethodName)) ∈ lw_all := lw_g (lw_at lw_m13 10 rfl) rfl
theorem q3105 : (Jvm.Cond.instanceMethod ({ cls := "java/lang/AbstractStringBuilder", name := "append", desc := "([C)Ljava/lang/AbstractStringBuilder;" } : Jvm.MethodName)) ∈ lw_all := lw_g (lw_at lw_m13 126 rfl) rfl
theorem q3106 : (Jvm.Cond.code ({ cls := "java/lang/AbstractStringBuilder", name := "append", desc := "([C)Ljava/lang/AbstractStringBuilder;" } : Jvm.MethodName) prog_17_method_28_code (3 : Nat) (Option.some (Jvm.ClassFile.FieldType.object "java/lang/AbstractStringBuilder"))) ∈ lw_all := lw_g (lw_at lw_m13 127 rfl) rfl
theorem q3107 : (Jvm.Cond.methodLink "java/lang/AbstractStringBuilder" (239 : Nat) ({ cls := "java/lang/AbstractStringBuilder", name := "appendChars", desc := "([CII)V" } : Jvm.MethodName)) ∈ lw_all := lw_g (lw_at lw_m13 128 rfl) rfl
theorem q3108 : (Jvm.Cond.privateMethod ({ cls := "java/lang/AbstractStringBuilder", name := "appendChars", desc := "([CII)V" } : Jvm.MethodName)) ∈ lw_tbl := lw_at lw_m13 129 rfl
theorem q3109 : (Jvm.Cond.instanceMethod ({ cls := "java/lang/AbstractStringBuilder", name := "appendChars", desc := "([CII)V" } : Jvm.MethodName)) ∈ lw_all := lw_g (lw_at lw_m13 130 rfl) rfl
theorem q3110 : (Jvm.Cond.code ({ cls := "java/lang/AbstractStringBuilder", name := "appendChars", desc := "([CII)V" } : Jvm.MethodName) prog_17_method_74_code (9 : Nat) (Option.none : Option Jvm.ClassFile.FieldType)) ∈ lw_all := lw_g (lw_at lw_m13 131 rfl) rfl
theorem q3111 : (Jvm.Cond.methodLink "java/lang/AbstractStringBuilder" (191 : Nat) ({ cls := "java/lang/StringLatin1", name := "canEncode", desc := "(C)Z" } : Jvm.MethodName)) ∈ lw_all := lw_g (lw_at lw_m13 132 rfl) rfl
theorem q3114 : (Jvm.Cond.methodLink "java/lang/AbstractStringBuilder" (386 : Nat) ({ cls := "java/lang/StringUTF16", name := "putCharsSB", desc := "([BI[CII)V" } : Jvm.MethodName)) ∈ lw_all := lw_g (lw_at lw_m13 135 rfl) rfl
theorem q3142 : (Jvm.Cond.instanceMethod ({ cls := "java/lang/AbstractStringBuilder", name := "append", desc := "(C)Ljava/lang/AbstractStringBuilder;" } : Jvm.MethodName)) ∈ lw_all := lw_g (lw_at lw_m13 163 rfl) rfl
theorem q3143 : (Jvm.Cond.code ({ cls := "java/lang/AbstractStringBuilder", name := "append", desc := "(C)Ljava/lang/AbstractStringBuilder;" } : Jvm.MethodName) prog_17_method_31_code (2 : Nat) (Option.some (Jvm.ClassFile.FieldType.object "java/lang/AbstractStringBuilder"))) ∈ lw_all := lw_g (lw_at lw_m13 164 rfl) rfl
theorem q3144 : (Jvm.Cond.methodLink "java/lang/AbstractStringBuilder" (197 : Nat) ({ cls := "java/lang/StringUTF16", name := "putCharSB", desc := "([BII)V" } : Jvm.MethodName)) ∈ lw_all := lw_g (lw_at lw_m13 165 rfl) rfl
theorem q3166 : (Jvm.Cond.instanceMethod ({ cls := "java/lang/AbstractStringBuilder", name := "append", desc := "(Ljava/lang/CharSequence;)Ljava/lang/AbstractStringBuilder;" } : Jvm.MethodName)) ∈ lw_all := lw_g (lw_at lw_m13 187 rfl) rfl
theorem q3167 : (Jvm.Cond.code ({ cls := "java/lang/AbstractStringBuilder", name := "append", desc := "(Ljava/lang/CharSequence;)Ljava/lang/AbstractStringBuilder;" } : Jvm.MethodName) prog_17_method_25_code (2 : Nat) (Option.some (Jvm.ClassFile.FieldType.object "java/lang/AbstractStringBuilder"))) ∈ lw_all := lw_g (lw_at lw_m13 188 rfl) rfl
theorem q3168 : (Jvm.Cond.classLink "java/lang/AbstractStringBuilder" (1 : Nat) "java/lang/String") ∈ lw_all := lw_g (lw_at lw_m13 189 rfl) rfl
theorem q3169 : (Jvm.Cond.methodLink "java/lang/AbstractStringBuilder" (43 : Nat) ({ cls := "java/lang/AbstractStringBuilder", name := "append", desc := "(Ljava/lang/String;)Ljava/lang/AbstractStringBuilder;" } : Jvm.MethodName)) ∈ lw_all := lw_g (lw_at lw_m13 190 rfl) rfl
theorem q3173 : (Jvm.Cond.classLink "java/lang/AbstractStringBuilder" (10 : Nat) "java/lang/AbstractStringBuilder") ∈ lw_all := lw_g (lw_at lw_m13 194 rfl) rfl
theorem q3174 : (Jvm.Cond.methodLink "java/lang/AbstractStringBuilder" (212 : Nat) ({ cls := "java/lang/AbstractStringBuilder", name := "append", desc := "(Ljava/lang/AbstractStringBuilder;)Ljava/lang/AbstractStringBuilder;" } : Jvm.MethodName)) ∈ lw_all := lw_g (lw_at lw_m13 195 rfl) rfl
theorem q3175 : (Jvm.Cond.instanceMethod ({ cls := "java/lang/AbstractStringBuilder", name := "append", desc := "(Ljava/lang/AbstractStringBuilder;)Ljava/lang/AbstractStringBuilder;" } : Jvm.MethodName)) ∈ lw_all := lw_g (lw_at lw_m13 196 rfl) rfl
theorem q3176 : (Jvm.Cond.sameMethod "java/lang/AbstractStringBuilder" "java/lang/AbstractStringBuilder" "append" "(Ljava/lang/AbstractStringBuilder;)Ljava/lang/AbstractStringBuilder;") ∈ lw_all := lw_g (lw_at lw_m13 197 rfl) rfl
theorem q3178 : (Jvm.Cond.code ({ cls := "java/lang/AbstractStringBuilder", name := "append", desc := "(Ljava/lang/AbstractStringBuilder;)Ljava/lang/AbstractStringBuilder;" } : Jvm.MethodName) prog_17_method_24_code (3 : Nat) (Option.some (Jvm.ClassFile.FieldType.object "java/lang/AbstractStringBuilder"))) ∈ lw_all := lw_g (lw_at lw_m13 199 rfl) rfl
theorem q3179 : (Jvm.Cond.methodLink "java/lang/AbstractStringBuilder" (160 : Nat) ({ cls := "java/lang/AbstractStringBuilder", name := "length", desc := "()I" } : Jvm.MethodName)) ∈ lw_all := lw_g (lw_at lw_m13 200 rfl) rfl
theorem q3180 : (Jvm.Cond.methodLink "java/lang/AbstractStringBuilder" (215 : Nat) ({ cls := "java/lang/AbstractStringBuilder", name := "inflateIfNeededFor", desc := "(Ljava/lang/AbstractStringBuilder;)V" } : Jvm.MethodName)) ∈ lw_all := lw_g (lw_at lw_m13 201 rfl) rfl
theorem q3181 : (Jvm.Cond.privateMethod ({ cls := "java/lang/AbstractStringBuilder", name := "inflateIfNeededFor", desc := "(Ljava/lang/AbstractStringBuilder;)V" } : Jvm.MethodName)) ∈ lw_tbl := lw_at lw_m13 202 rfl
theorem q3182 : (Jvm.Cond.instanceMethod ({ cls := "java/lang/AbstractStringBuilder", name := "inflateIfNeededFor", desc := "(Ljava/lang/AbstractStringBuilder;)V" } : Jvm.MethodName)) ∈ lw_all := lw_g (lw_at lw_m13 203 rfl) rfl
theorem q3183 : (Jvm.Cond.code ({ cls := "java/lang/AbstractStringBuilder", name := "inflateIfNeededFor", desc := "(Ljava/lang/AbstractStringBuilder;)V" } : Jvm.MethodName) prog_17_method_72_code (2 : Nat) (Option.none : Option Jvm.ClassFile.FieldType)) ∈ lw_all := lw_g (lw_at lw_m13 204 rfl) rfl
theorem q3184 : (Jvm.Cond.methodLink "java/lang/AbstractStringBuilder" (70 : Nat) ({ cls := "java/lang/AbstractStringBuilder", name := "getCoder", desc := "()B" } : Jvm.MethodName)) ∈ lw_all := lw_g (lw_at lw_m13 205 rfl) rfl
theorem q3185 : (Jvm.Cond.instanceMethod ({ cls := "java/lang/AbstractStringBuilder", name := "getCoder", desc := "()B" } : Jvm.MethodName)) ∈ lw_all := lw_g (lw_at lw_m13 206 rfl) rfl
theorem q3186 : (Jvm.Cond.sameMethod "java/lang/AbstractStringBuilder" "java/lang/AbstractStringBuilder" "getCoder" "()B") ∈ lw_all := lw_g (lw_at lw_m13 207 rfl) rfl
theorem q3188 : (Jvm.Cond.code ({ cls := "java/lang/AbstractStringBuilder", name := "getCoder", desc := "()B" } : Jvm.MethodName) prog_17_method_67_code (1 : Nat) (Option.some Jvm.ClassFile.FieldType.byte)) ∈ lw_all := lw_g (lw_at lw_m13 209 rfl) rfl
theorem q3189 : (Jvm.Cond.methodLink "java/lang/AbstractStringBuilder" (219 : Nat) ({ cls := "java/lang/AbstractStringBuilder", name := "getBytes", desc := "([BIB)V" } : Jvm.MethodName)) ∈ lw_all := lw_g (lw_at lw_m13 210 rfl) rfl
theorem q3190 : (Jvm.Cond.instanceMethod ({ cls := "java/lang/AbstractStringBuilder", name := "getBytes", desc := "([BIB)V" } : Jvm.MethodName)) ∈ lw_all := lw_g (lw_at lw_m13 211 rfl) rfl
theorem q3191 : (Jvm.Cond.sameMethod "java/lang/AbstractStringBuilder" "java/lang/AbstractStringBuilder" "getBytes" "([BIB)V") ∈ lw_all := lw_g (lw_at lw_m13 212 rfl) rfl
theorem q3193 : (Jvm.Cond.code ({ cls := "java/lang/AbstractStringBuilder", name := "getBytes", desc := "([BIB)V" } : Jvm.MethodName) prog_17_method_65_code (4 : Nat) (Option.none : Option Jvm.ClassFile.FieldType)) ∈ lw_all := lw_g (lw_at lw_m13 214 rfl) rfl
theorem q3194 : (Jvm.Cond.methodLink "java/lang/AbstractStringBuilder" (309 : Nat) ({ cls := "java/lang/System", name := "arraycopy", desc := "(Ljava/lang/Object;ILjava/lang/Object;II)V" } : Jvm.MethodName)) ∈ lw_all := lw_g (lw_at lw_m13 215 rfl) rfl
theorem q3195 : (Jvm.Cond.interfaceEntry "java/lang/AbstractStringBuilder" (47 : Nat)) ∈ lw_tbl := lw_at lw_m13 216 rfl
theorem q3196 : (Jvm.Cond.methodLink "java/lang/AbstractStringBuilder" (47 : Nat) ({ cls := "java/lang/CharSequence", name := "length", desc := "()I" } : Jvm.MethodName)) ∈ lw_all := lw_g (lw_at lw_m13 217 rfl) rfl
theorem q3207 : (Jvm.Cond.methodLink "java/lang/AbstractStringBuilder" (223 : Nat) ({ cls := "java/lang/AbstractStringBuilder", name := "append", desc := "(Ljava/lang/CharSequence;II)Ljava/lang/AbstractStringBuilder;" } : Jvm.MethodName)) ∈ lw_all := lw_g (lw_at lw_m13 228 rfl) rfl
theorem q3208 : (Jvm.Cond.instanceMethod ({ cls := "java/lang/AbstractStringBuilder", name := "append", desc := "(Ljava/lang/CharSequence;II)Ljava/lang/AbstractStringBuilder;" } : Jvm.MethodName)) ∈ lw_all := lw_g (lw_at lw_m13 229 rfl) rfl
theorem q3209 : (Jvm.Cond.sameMethod "java/lang/AbstractStringBuilder" "java/lang/AbstractStringBuilder" "append" "(Ljava/lang/CharSequence;II)Ljava/lang/AbstractStringBuilder;") ∈ lw_all := lw_g (lw_at lw_m13 230 rfl) rfl
theorem q3218 : (Jvm.Cond.code ({ cls := "java/lang/AbstractStringBuilder", name := "append", desc := "(Ljava/lang/CharSequence;II)Ljava/lang/AbstractStringBuilder;" } : Jvm.MethodName) prog_17_method_27_code (5 : Nat) (Option.some (Jvm.ClassFile.FieldType.object "java/lang/AbstractStringBuilder"))) ∈ lw_all := lw_g (lw_at lw_m13 239 rfl) rfl
theorem q3219 : (Jvm.Cond.stringRef "java/lang/AbstractStringBuilder" (230 : Nat) "null") ∈ lw_tbl := lw_at lw_m14 0 rfl
theorem q3220 : (Jvm.Cond.fieldLink "java/lang/AbstractStringBuilder" (183 : Nat) "jdk/internal/util/Preconditions" "IOOBE_FORMATTER" "Ljava/util/function/BiFunction;") ∈ lw_all := lw_g (lw_at lw_m14 1 rfl) rfl
theorem q3222 : (Jvm.Cond.methodLink "java/lang/AbstractStringBuilder" (161 : Nat) ({ cls := "jdk/internal/util/Preconditions", name := "checkFromToIndex", desc := "(IIILjava/util/function/BiFunction;)I" } : Jvm.MethodName)) ∈ lw_all := lw_g (lw_at lw_m14 3 rfl) rfl
theorem q3223 : (Jvm.Cond.methodLink "java/lang/AbstractStringBuilder" (232 : Nat) ({ cls := "java/lang/AbstractStringBuilder", name := "appendChars", desc := "(Ljava/lang/String;II)V" } : Jvm.MethodName)) ∈ lw_all := lw_g (lw_at lw_m14 4 rfl) rfl
theorem q3224 : (Jvm.Cond.privateMethod ({ cls := "java/lang/AbstractStringBuilder", name := "appendChars", desc := "(Ljava/lang/String;II)V" } : Jvm.MethodName)) ∈ lw_tbl := lw_at lw_m14 5 rfl
theorem q3225 : (Jvm.Cond.instanceMethod ({ cls := "java/lang/AbstractStringBuilder", name := "appendChars", desc := "(Ljava/lang/String;II)V" } : Jvm.MethodName)) ∈ lw_all := lw_g (lw_at lw_m14 6 rfl) rfl
theorem q3226 : (Jvm.Cond.code ({ cls := "java/lang/AbstractStringBuilder", name := "appendChars", desc := "(Ljava/lang/String;II)V" } : Jvm.MethodName) prog_17_method_75_code (8 : Nat) (Option.none : Option Jvm.ClassFile.FieldType)) ∈ lw_all := lw_g (lw_at lw_m14 7 rfl) rfl
theorem q3227 : (Jvm.Cond.methodLink "java/lang/AbstractStringBuilder" (400 : Nat) ({ cls := "java/lang/String", name := "isLatin1", desc := "()Z" } : Jvm.MethodName)) ∈ lw_all := lw_g (lw_at lw_m14 8 rfl) rfl
theorem q3228 : (Jvm.Cond.methodLink "java/lang/AbstractStringBuilder" (401 : Nat) ({ cls := "java/lang/String", name := "value", desc := "()[B" } : Jvm.MethodName)) ∈ lw_all := lw_g (lw_at lw_m14 9 rfl) rfl
theorem q3232 : (Jvm.Cond.methodLink "java/lang/AbstractStringBuilder" (404 : Nat) ({ cls := "java/lang/String", name := "charAt", desc := "(I)C" } : Jvm.MethodName)) ∈ lw_all := lw_g (lw_at lw_m14 13 rfl) rfl
theorem q3243 : (Jvm.Cond.methodLink "java/lang/AbstractStringBuilder" (394 : Nat) ({ cls := "java/lang/StringUTF16", name := "putCharsSB", desc := "([BILjava/lang/CharSequence;II)V" } : Jvm.MethodName)) ∈ lw_all := lw_g (lw_at lw_m14 24 rfl) rfl
theorem q3256 : (Jvm.Cond.methodLink "java/lang/AbstractStringBuilder" (236 : Nat) ({ cls := "java/lang/AbstractStringBuilder", name := "appendChars", desc := "(Ljava/lang/CharSequence;II)V" } : Jvm.MethodName)) ∈ lw_all := lw_g (lw_at lw_m14 37 rfl) rfl
theorem q3257 : (Jvm.Cond.privateMethod ({ cls := "java/lang/AbstractStringBuilder", name := "appendChars", desc := "(Ljava/lang/CharSequence;II)V" } : Jvm.MethodName)) ∈ lw_tbl := lw_at lw_m14 38 rfl
theorem q3258 : (Jvm.Cond.instanceMethod ({ cls := "java/lang/AbstractStringBuilder", name := "appendChars", desc := "(Ljava/lang/CharSequence;II)V" } : Jvm.MethodName)) ∈ lw_all := lw_g (lw_at lw_m14 39 rfl) rfl
theorem q3259 : (Jvm.Cond.code ({ cls := "java/lang/AbstractStringBuilder", name := "appendChars", desc := "(Ljava/lang/CharSequence;II)V" } : Jvm.MethodName) prog_17_method_76_code (8 : Nat) (Option.none : Option Jvm.ClassFile.FieldType)) ∈ lw_all := lw_g (lw_at lw_m14 40 rfl) rfl
theorem q3260 : (Jvm.Cond.interfaceEntry "java/lang/AbstractStringBuilder" (390 : Nat)) ∈ lw_tbl := lw_at lw_m14 41 rfl
theorem q3261 : (Jvm.Cond.methodLink "java/lang/AbstractStringBuilder" (390 : Nat) ({ cls := "java/lang/CharSequence", name := "charAt", desc := "(I)C" } : Jvm.MethodName)) ∈ lw_all := lw_g (lw_at lw_m14 42 rfl) rfl
theorem q3266 : (Jvm.Cond.classLink "java/lang/AbstractStringBuilder" (273 : Nat) "java/lang/AssertionError") ∈ lw_all := lw_g (lw_at lw_m14 47 rfl) rfl
theorem q3277 : (Jvm.Cond.methodLink "java/lang/AbstractStringBuilder" (275 : Nat) ({ cls := "java/lang/AssertionError", name := "<init>", desc := "(Ljava/lang/Object;)V" } : Jvm.MethodName)) ∈ lw_all := lw_g (lw_at lw_m14 58 rfl) rfl
theorem q4109 : (Jvm.Cond.sameMethod "java/lang/AbstractStringBuilder" "java/lang/AbstractStringBuilder" "append" "(Ljava/lang/String;)Ljava/lang/AbstractStringBuilder;") ∈ lw_all := lw_g (lw_at lw_m17 170 rfl) rfl
theorem q4110 : (Jvm.Cond.sameMethod "java/lang/AbstractStringBuilder" "java/lang/AbstractStringBuilder" "appendNull" "()Ljava/lang/AbstractStringBuilder;") ∈ lw_all := lw_g (lw_at lw_m17 171 rfl) rfl
theorem q4111 : (Jvm.Cond.sameMethod "java/lang/AbstractStringBuilder" "java/lang/AbstractStringBuilder" "ensureCapacityInternal" "(I)V") ∈ lw_all := lw_g (lw_at lw_m17 172 rfl) rfl
theorem q4112 : (Jvm.Cond.sameMethod "java/lang/AbstractStringBuilder" "java/lang/AbstractStringBuilder" "newCapacity" "(I)I") ∈ lw_all := lw_g (lw_at lw_m17 173 rfl) rfl
theorem q4113 : (Jvm.Cond.sameMethod "java/lang/AbstractStringBuilder" "java/lang/AbstractStringBuilder" "putStringAt" "(ILjava/lang/String;)V") ∈ lw_all := lw_g (lw_at lw_m17 174 rfl) rfl
theorem q4114 : (Jvm.Cond.sameMethod "java/lang/AbstractStringBuilder" "java/lang/AbstractStringBuilder" "inflateIfNeededFor" "(Ljava/lang/String;)V") ∈ lw_all := lw_g (lw_at lw_m17 175 rfl) rfl
theorem q4115 : (Jvm.Cond.sameMethod "java/lang/AbstractStringBuilder" "java/lang/AbstractStringBuilder" "inflate" "()V") ∈ lw_all := lw_g (lw_at lw_m17 176 rfl) rfl
theorem q4116 : (Jvm.Cond.sameMethod "java/lang/AbstractStringBuilder" "java/lang/AbstractStringBuilder" "append" "(I)Ljava/lang/AbstractStringBuilder;") ∈ lw_all := lw_g (lw_at lw_m17 177 rfl) rfl
theorem q4119 : (Jvm.Cond.sameMethod "java/lang/AbstractStringBuilder" "java/lang/AbstractStringBuilder" "compareTo" "(Ljava/lang/AbstractStringBuilder;)I") ∈ lw_all := lw_g (lw_at lw_m17 180 rfl) rfl
theorem q4123 : (Jvm.Cond.sameMethod "java/lang/AbstractStringBuilder" "java/lang/AbstractStringBuilder" "setLength" "(I)V") ∈ lw_all := lw_g (lw_at lw_m17 184 rfl) rfl
theorem q4125 : (Jvm.Cond.sameMethod "java/lang/AbstractStringBuilder" "java/lang/AbstractStringBuilder" "charAt" "(I)C") ∈ lw_all := lw_g (lw_at lw_m17 186 rfl) rfl
theorem q4126 : (Jvm.Cond.sameMethod "java/lang/AbstractStringBuilder" "java/lang/AbstractStringBuilder" "append" "(F)Ljava/lang/AbstractStringBuilder;") ∈ lw_all := lw_g (lw_at lw_m17 187 rfl) rfl
theorem q4127 : (Jvm.Cond.sameMethod "java/lang/AbstractStringBuilder" "java/lang/AbstractStringBuilder" "append" "([C)Ljava/lang/AbstractStringBuilder;") ∈ lw_all := lw_g (lw_at lw_m17 188 rfl) rfl
theorem q4128 : (Jvm.Cond.sameMethod "java/lang/AbstractStringBuilder" "java/lang/AbstractStringBuilder" "appendChars" "([CII)V") ∈ lw_all := lw_g (lw_at lw_m17 189 rfl) rfl
theorem q4129 : (Jvm.Cond.sameMethod "java/lang/AbstractStringBuilder" "java/lang/AbstractStringBuilder" "append" "(C)Ljava/lang/AbstractStringBuilder;") ∈ lw_all := lw_g (lw_at lw_m17 190 rfl) rfl
theorem q4130 : (Jvm.Cond.sameMethod "java/lang/AbstractStringBuilder" "java/lang/AbstractStringBuilder" "append" "(Ljava/lang/CharSequence;)Ljava/lang/AbstractStringBuilder;") ∈ lw_all := lw_g (lw_at lw_m17 191 rfl) rfl
theorem q4132 : (Jvm.Cond.sameMethod "java/lang/AbstractStringBuilder" "java/lang/AbstractStringBuilder" "inflateIfNeededFor" "(Ljava/lang/AbstractStringBuilder;)V") ∈ lw_all := lw_g (lw_at lw_m17 193 rfl) rfl
theorem q4133 : (Jvm.Cond.sameMethod "java/lang/AbstractStringBuilder" "java/lang/AbstractStringBuilder" "appendChars" "(Ljava/lang/String;II)V") ∈ lw_all := lw_g (lw_at lw_m17 194 rfl) rfl
theorem q4134 : (Jvm.Cond.sameMethod "java/lang/AbstractStringBuilder" "java/lang/AbstractStringBuilder" "appendChars" "(Ljava/lang/CharSequence;II)V") ∈ lw_all := lw_g (lw_at lw_m17 195 rfl) rfl
/-! java/lang/StringBuilder -/
set_option maxRecDepth 100000
def RJ6 : String := "java/lang/StringBuilder"
def TJ6 : u_T := fun k => match k with
  | 0 => ("java/lang/AbstractStringBuilder", "value", "[B", false)
  | 1 => ("java/lang/AbstractStringBuilder", "coder", "B", false)
  | 2 => ("java/lang/AbstractStringBuilder", "maybeLatin1", "Z", false)
  | _ => ("java/lang/AbstractStringBuilder", "count", "I", false)
def tyJ6 : Nat → FieldType := fun k => match k with
  | 0 => .array .byte
  | 1 => .byte
  | 2 => .boolean
  | _ => .int
abbrev wsJ60 : List Cond := u_ws RJ6 TJ6 4
theorem nmJ6 : ∀ a, a < 4 → ∀ b, b < 4 → a ≠ b → (TJ6 a).2.1 ≠ (TJ6 b).2.1 := by decide +kernel
theorem tyJ6_ok : ∀ k, k < 4 → parseFieldDescriptor (TJ6 k).2.2.1 = some (tyJ6 k) := by decide +kernel
abbrev cJ6_init : ByteArray := prog_42_method_1_code
def yJ6_init : MethodName := ⟨RJ6, "<init>", "()V"⟩
def dkwJ6_init_0 : List UInt8 := [42, 16, 16, 183, 0, 1, 177]
abbrev dktJ6_init_0 : List UInt8 := dkwJ6_init_0 ++ []
theorem dksJ6_init_0 : cJ6_init.data.toList.drop 0 = dktJ6_init_0 := by decide +kernel
theorem dJ6_init_0 : decode cJ6_init 0 = .ok (.aload_n 0, 1) := dk_42 (dk_at dksJ6_init_0 0 rfl rfl)
theorem dJ6_init_1 : decode cJ6_init 1 = .ok (.bipush 16, 2) := dk_16 16 (dk_at dksJ6_init_0 1 rfl rfl)
theorem dJ6_init_3 : decode cJ6_init 3 = .ok (.invokespecial 1, 3) := dk_183 0 1 (dk_at dksJ6_init_0 3 rfl rfl)
theorem dJ6_init_6 : decode cJ6_init 6 = .ok (.return_, 1) := dk_177 (dk_at dksJ6_init_0 6 rfl rfl)
abbrev cJ6_append : ByteArray := prog_42_method_7_code
def yJ6_append : MethodName := ⟨RJ6, "append", "(Ljava/lang/String;)Ljava/lang/StringBuilder;"⟩
def dkwJ6_append_0 : List UInt8 := [42, 43, 183, 0, 29, 87, 42, 176]
abbrev dktJ6_append_0 : List UInt8 := dkwJ6_append_0 ++ []
theorem dksJ6_append_0 : cJ6_append.data.toList.drop 0 = dktJ6_append_0 := by decide +kernel
theorem dJ6_append_0 : decode cJ6_append 0 = .ok (.aload_n 0, 1) := dk_42 (dk_at dksJ6_append_0 0 rfl rfl)
theorem dJ6_append_1 : decode cJ6_append 1 = .ok (.aload_n 1, 1) := dk_43 (dk_at dksJ6_append_0 1 rfl rfl)
theorem dJ6_append_2 : decode cJ6_append 2 = .ok (.invokespecial 29, 3) := dk_183 0 29 (dk_at dksJ6_append_0 2 rfl rfl)
theorem dJ6_append_5 : decode cJ6_append 5 = .ok (.pop, 1) := dk_87 (dk_at dksJ6_append_0 5 rfl rfl)
theorem dJ6_append_6 : decode cJ6_append 6 = .ok (.aload_n 0, 1) := dk_42 (dk_at dksJ6_append_0 6 rfl rfl)
theorem dJ6_append_7 : decode cJ6_append 7 = .ok (.areturn, 1) := dk_176 (dk_at dksJ6_append_0 7 rfl rfl)
abbrev cJ6_append_2 : ByteArray := prog_42_method_15_code
def yJ6_append_2 : MethodName := ⟨RJ6, "append", "(I)Ljava/lang/StringBuilder;"⟩
def dkwJ6_append_2_0 : List UInt8 := [42, 27, 183, 0, 53, 87, 42, 176]
abbrev dktJ6_append_2_0 : List UInt8 := dkwJ6_append_2_0 ++ []
theorem dksJ6_append_2_0 : cJ6_append_2.data.toList.drop 0 = dktJ6_append_2_0 := by decide +kernel
theorem dJ6_append_2_0 : decode cJ6_append_2 0 = .ok (.aload_n 0, 1) := dk_42 (dk_at dksJ6_append_2_0 0 rfl rfl)
theorem dJ6_append_2_1 : decode cJ6_append_2 1 = .ok (.iload_n 1, 1) := dk_27 (dk_at dksJ6_append_2_0 1 rfl rfl)
theorem dJ6_append_2_2 : decode cJ6_append_2 2 = .ok (.invokespecial 53, 3) := dk_183 0 53 (dk_at dksJ6_append_2_0 2 rfl rfl)
theorem dJ6_append_2_5 : decode cJ6_append_2 5 = .ok (.pop, 1) := dk_87 (dk_at dksJ6_append_2_0 5 rfl rfl)
theorem dJ6_append_2_6 : decode cJ6_append_2 6 = .ok (.aload_n 0, 1) := dk_42 (dk_at dksJ6_append_2_0 6 rfl rfl)
theorem dJ6_append_2_7 : decode cJ6_append_2 7 = .ok (.areturn, 1) := dk_176 (dk_at dksJ6_append_2_0 7 rfl rfl)
abbrev cJ6_toString : ByteArray := prog_42_method_42_code
def yJ6_toString : MethodName := ⟨RJ6, "toString", "()Ljava/lang/String;"⟩
def dkwJ6_toString_0 : List UInt8 := [187, 0, 18, 89, 42, 183, 0, 137, 176]
abbrev dktJ6_toString_0 : List UInt8 := dkwJ6_toString_0 ++ []
theorem dksJ6_toString_0 : cJ6_toString.data.toList.drop 0 = dktJ6_toString_0 := by decide +kernel
theorem dJ6_toString_0 : decode cJ6_toString 0 = .ok (.new 18, 3) := dk_187 0 18 (dk_at dksJ6_toString_0 0 rfl rfl)
theorem dJ6_toString_3 : decode cJ6_toString 3 = .ok (.dup, 1) := dk_89 (dk_at dksJ6_toString_0 3 rfl rfl)
theorem dJ6_toString_4 : decode cJ6_toString 4 = .ok (.aload_n 0, 1) := dk_42 (dk_at dksJ6_toString_0 4 rfl rfl)
theorem dJ6_toString_5 : decode cJ6_toString 5 = .ok (.invokespecial 137, 3) := dk_183 0 137 (dk_at dksJ6_toString_0 5 rfl rfl)
theorem dJ6_toString_8 : decode cJ6_toString 8 = .ok (.areturn, 1) := dk_176 (dk_at dksJ6_toString_0 8 rfl rfl)
abbrev cJ6_length : ByteArray := prog_42_method_93_code
def yJ6_length : MethodName := ⟨RJ6, "length", "()I"⟩
theorem dJ6_length_0 : decode cJ6_length 0 = .ok (.aload_n 0, 1) := by decide +kernel
theorem dJ6_length_1 : decode cJ6_length 1 = .ok (.invokespecial 343, 3) := by decide +kernel
theorem dJ6_length_4 : decode cJ6_length 4 = .ok (.ireturn, 1) := by decide +kernel
abbrev cJ6_compareTo : ByteArray := prog_42_method_97_code
def yJ6_compareTo : MethodName := ⟨RJ6, "compareTo", "(Ljava/lang/Object;)I"⟩
def dkwJ6_compareTo_0 : List UInt8 := [42, 43, 192, 0, 24, 182, 1, 90, 172]
abbrev dktJ6_compareTo_0 : List UInt8 := dkwJ6_compareTo_0 ++ []
theorem dksJ6_compareTo_0 : cJ6_compareTo.data.toList.drop 0 = dktJ6_compareTo_0 := by decide +kernel
theorem dJ6_compareTo_0 : decode cJ6_compareTo 0 = .ok (.aload_n 0, 1) := dk_42 (dk_at dksJ6_compareTo_0 0 rfl rfl)
theorem dJ6_compareTo_1 : decode cJ6_compareTo 1 = .ok (.aload_n 1, 1) := dk_43 (dk_at dksJ6_compareTo_0 1 rfl rfl)
theorem dJ6_compareTo_2 : decode cJ6_compareTo 2 = .ok (.checkcast 24, 3) := dk_192 0 24 (dk_at dksJ6_compareTo_0 2 rfl rfl)
theorem dJ6_compareTo_5 : decode cJ6_compareTo 5 = .ok (.invokevirtual 346, 3) := dk_182 1 90 (dk_at dksJ6_compareTo_0 5 rfl rfl)
theorem dJ6_compareTo_8 : decode cJ6_compareTo 8 = .ok (.ireturn, 1) := dk_172 (dk_at dksJ6_compareTo_0 8 rfl rfl)
abbrev cJ6_compareTo_2 : ByteArray := prog_42_method_5_code
def yJ6_compareTo_2 : MethodName := ⟨RJ6, "compareTo", "(Ljava/lang/StringBuilder;)I"⟩
def dkwJ6_compareTo_2_0 : List UInt8 := [42, 43, 183, 0, 13, 172]
abbrev dktJ6_compareTo_2_0 : List UInt8 := dkwJ6_compareTo_2_0 ++ []
theorem dksJ6_compareTo_2_0 : cJ6_compareTo_2.data.toList.drop 0 = dktJ6_compareTo_2_0 := by decide +kernel
theorem dJ6_compareTo_2_0 : decode cJ6_compareTo_2 0 = .ok (.aload_n 0, 1) := dk_42 (dk_at dksJ6_compareTo_2_0 0 rfl rfl)
theorem dJ6_compareTo_2_1 : decode cJ6_compareTo_2 1 = .ok (.aload_n 1, 1) := dk_43 (dk_at dksJ6_compareTo_2_0 1 rfl rfl)
theorem dJ6_compareTo_2_2 : decode cJ6_compareTo_2 2 = .ok (.invokespecial 13, 3) := dk_183 0 13 (dk_at dksJ6_compareTo_2_0 2 rfl rfl)
theorem dJ6_compareTo_2_5 : decode cJ6_compareTo_2 5 = .ok (.ireturn, 1) := dk_172 (dk_at dksJ6_compareTo_2_0 5 rfl rfl)
abbrev cJ6_setLength : ByteArray := prog_42_method_89_code
def yJ6_setLength : MethodName := ⟨RJ6, "setLength", "(I)V"⟩
def dkwJ6_setLength_0 : List UInt8 := [42, 27, 183, 1, 77, 177]
abbrev dktJ6_setLength_0 : List UInt8 := dkwJ6_setLength_0 ++ []
theorem dksJ6_setLength_0 : cJ6_setLength.data.toList.drop 0 = dktJ6_setLength_0 := by decide +kernel
theorem dJ6_setLength_0 : decode cJ6_setLength 0 = .ok (.aload_n 0, 1) := dk_42 (dk_at dksJ6_setLength_0 0 rfl rfl)
theorem dJ6_setLength_1 : decode cJ6_setLength 1 = .ok (.iload_n 1, 1) := dk_27 (dk_at dksJ6_setLength_0 1 rfl rfl)
theorem dJ6_setLength_2 : decode cJ6_setLength 2 = .ok (.invokespecial 333, 3) := dk_183 1 77 (dk_at dksJ6_setLength_0 2 rfl rfl)
theorem dJ6_setLength_5 : decode cJ6_setLength 5 = .ok (.return_, 1) := dk_177 (dk_at dksJ6_setLength_0 5 rfl rfl)
abbrev cJ6_charAt : ByteArray := prog_42_method_88_code
def yJ6_charAt : MethodName := ⟨RJ6, "charAt", "(I)C"⟩
def dkwJ6_charAt_0 : List UInt8 := [42, 27, 183, 1, 73, 172]
abbrev dktJ6_charAt_0 : List UInt8 := dkwJ6_charAt_0 ++ []
theorem dksJ6_charAt_0 : cJ6_charAt.data.toList.drop 0 = dktJ6_charAt_0 := by decide +kernel
theorem dJ6_charAt_0 : decode cJ6_charAt 0 = .ok (.aload_n 0, 1) := dk_42 (dk_at dksJ6_charAt_0 0 rfl rfl)
theorem dJ6_charAt_1 : decode cJ6_charAt 1 = .ok (.iload_n 1, 1) := dk_27 (dk_at dksJ6_charAt_0 1 rfl rfl)
theorem dJ6_charAt_2 : decode cJ6_charAt 2 = .ok (.invokespecial 329, 3) := dk_183 1 73 (dk_at dksJ6_charAt_0 2 rfl rfl)
theorem dJ6_charAt_5 : decode cJ6_charAt 5 = .ok (.ireturn, 1) := dk_172 (dk_at dksJ6_charAt_0 5 rfl rfl)
abbrev cJ6_append_3 : ByteArray := prog_42_method_17_code
def yJ6_append_3 : MethodName := ⟨RJ6, "append", "(F)Ljava/lang/StringBuilder;"⟩
def dkwJ6_append_3_0 : List UInt8 := [42, 35, 183, 0, 59, 87, 42, 176]
abbrev dktJ6_append_3_0 : List UInt8 := dkwJ6_append_3_0 ++ []
theorem dksJ6_append_3_0 : cJ6_append_3.data.toList.drop 0 = dktJ6_append_3_0 := by decide +kernel
theorem dJ6_append_3_0 : decode cJ6_append_3 0 = .ok (.aload_n 0, 1) := dk_42 (dk_at dksJ6_append_3_0 0 rfl rfl)
theorem dJ6_append_3_1 : decode cJ6_append_3 1 = .ok (.fload_n 1, 1) := dk_35 (dk_at dksJ6_append_3_0 1 rfl rfl)
theorem dJ6_append_3_2 : decode cJ6_append_3 2 = .ok (.invokespecial 59, 3) := dk_183 0 59 (dk_at dksJ6_append_3_0 2 rfl rfl)
theorem dJ6_append_3_5 : decode cJ6_append_3 5 = .ok (.pop, 1) := dk_87 (dk_at dksJ6_append_3_0 5 rfl rfl)
theorem dJ6_append_3_6 : decode cJ6_append_3 6 = .ok (.aload_n 0, 1) := dk_42 (dk_at dksJ6_append_3_0 6 rfl rfl)
theorem dJ6_append_3_7 : decode cJ6_append_3 7 = .ok (.areturn, 1) := dk_176 (dk_at dksJ6_append_3_0 7 rfl rfl)
abbrev cJ6_append_4 : ByteArray := prog_42_method_11_code
def yJ6_append_4 : MethodName := ⟨RJ6, "append", "([C)Ljava/lang/StringBuilder;"⟩
def dkwJ6_append_4_0 : List UInt8 := [42, 43, 183, 0, 41, 87, 42, 176]
abbrev dktJ6_append_4_0 : List UInt8 := dkwJ6_append_4_0 ++ []
theorem dksJ6_append_4_0 : cJ6_append_4.data.toList.drop 0 = dktJ6_append_4_0 := by decide +kernel
theorem dJ6_append_4_0 : decode cJ6_append_4 0 = .ok (.aload_n 0, 1) := dk_42 (dk_at dksJ6_append_4_0 0 rfl rfl)
theorem dJ6_append_4_1 : decode cJ6_append_4 1 = .ok (.aload_n 1, 1) := dk_43 (dk_at dksJ6_append_4_0 1 rfl rfl)
theorem dJ6_append_4_2 : decode cJ6_append_4 2 = .ok (.invokespecial 41, 3) := dk_183 0 41 (dk_at dksJ6_append_4_0 2 rfl rfl)
theorem dJ6_append_4_5 : decode cJ6_append_4 5 = .ok (.pop, 1) := dk_87 (dk_at dksJ6_append_4_0 5 rfl rfl)
theorem dJ6_append_4_6 : decode cJ6_append_4 6 = .ok (.aload_n 0, 1) := dk_42 (dk_at dksJ6_append_4_0 6 rfl rfl)
theorem dJ6_append_4_7 : decode cJ6_append_4 7 = .ok (.areturn, 1) := dk_176 (dk_at dksJ6_append_4_0 7 rfl rfl)
abbrev cJ6_append_5 : ByteArray := prog_42_method_94_code
def yJ6_append_5 : MethodName := ⟨RJ6, "append", "(C)Ljava/lang/Appendable;"⟩
def dkwJ6_append_5_0 : List UInt8 := [42, 27, 182, 1, 28, 176]
abbrev dktJ6_append_5_0 : List UInt8 := dkwJ6_append_5_0 ++ []
theorem dksJ6_append_5_0 : cJ6_append_5.data.toList.drop 0 = dktJ6_append_5_0 := by decide +kernel
theorem dJ6_append_5_0 : decode cJ6_append_5 0 = .ok (.aload_n 0, 1) := dk_42 (dk_at dksJ6_append_5_0 0 rfl rfl)
theorem dJ6_append_5_1 : decode cJ6_append_5 1 = .ok (.iload_n 1, 1) := dk_27 (dk_at dksJ6_append_5_0 1 rfl rfl)
theorem dJ6_append_5_2 : decode cJ6_append_5 2 = .ok (.invokevirtual 284, 3) := dk_182 1 28 (dk_at dksJ6_append_5_0 2 rfl rfl)
theorem dJ6_append_5_5 : decode cJ6_append_5 5 = .ok (.areturn, 1) := dk_176 (dk_at dksJ6_append_5_0 5 rfl rfl)
abbrev cJ6_append_6 : ByteArray := prog_42_method_14_code
def yJ6_append_6 : MethodName := ⟨RJ6, "append", "(C)Ljava/lang/StringBuilder;"⟩
def dkwJ6_append_6_0 : List UInt8 := [42, 27, 183, 0, 50, 87, 42, 176]
abbrev dktJ6_append_6_0 : List UInt8 := dkwJ6_append_6_0 ++ []
theorem dksJ6_append_6_0 : cJ6_append_6.data.toList.drop 0 = dktJ6_append_6_0 := by decide +kernel
theorem dJ6_append_6_0 : decode cJ6_append_6 0 = .ok (.aload_n 0, 1) := dk_42 (dk_at dksJ6_append_6_0 0 rfl rfl)
theorem dJ6_append_6_1 : decode cJ6_append_6 1 = .ok (.iload_n 1, 1) := dk_27 (dk_at dksJ6_append_6_0 1 rfl rfl)
theorem dJ6_append_6_2 : decode cJ6_append_6 2 = .ok (.invokespecial 50, 3) := dk_183 0 50 (dk_at dksJ6_append_6_0 2 rfl rfl)
theorem dJ6_append_6_5 : decode cJ6_append_6 5 = .ok (.pop, 1) := dk_87 (dk_at dksJ6_append_6_0 5 rfl rfl)
theorem dJ6_append_6_6 : decode cJ6_append_6 6 = .ok (.aload_n 0, 1) := dk_42 (dk_at dksJ6_append_6_0 6 rfl rfl)
theorem dJ6_append_6_7 : decode cJ6_append_6 7 = .ok (.areturn, 1) := dk_176 (dk_at dksJ6_append_6_0 7 rfl rfl)
abbrev cJ6_append_7 : ByteArray := prog_42_method_96_code
def yJ6_append_7 : MethodName := ⟨RJ6, "append", "(Ljava/lang/CharSequence;)Ljava/lang/Appendable;"⟩
def dkwJ6_append_7_0 : List UInt8 := [42, 43, 182, 1, 43, 176]
abbrev dktJ6_append_7_0 : List UInt8 := dkwJ6_append_7_0 ++ []
theorem dksJ6_append_7_0 : cJ6_append_7.data.toList.drop 0 = dktJ6_append_7_0 := by decide +kernel
theorem dJ6_append_7_0 : decode cJ6_append_7 0 = .ok (.aload_n 0, 1) := dk_42 (dk_at dksJ6_append_7_0 0 rfl rfl)
theorem dJ6_append_7_1 : decode cJ6_append_7 1 = .ok (.aload_n 1, 1) := dk_43 (dk_at dksJ6_append_7_0 1 rfl rfl)
theorem dJ6_append_7_2 : decode cJ6_append_7 2 = .ok (.invokevirtual 299, 3) := dk_182 1 43 (dk_at dksJ6_append_7_0 2 rfl rfl)
theorem dJ6_append_7_5 : decode cJ6_append_7 5 = .ok (.areturn, 1) := dk_176 (dk_at dksJ6_append_7_0 5 rfl rfl)
abbrev cJ6_append_8 : ByteArray := prog_42_method_9_code
def yJ6_append_8 : MethodName := ⟨RJ6, "append", "(Ljava/lang/CharSequence;)Ljava/lang/StringBuilder;"⟩
def dkwJ6_append_8_0 : List UInt8 := [42, 43, 183, 0, 35, 87, 42, 176]
abbrev dktJ6_append_8_0 : List UInt8 := dkwJ6_append_8_0 ++ []
theorem dksJ6_append_8_0 : cJ6_append_8.data.toList.drop 0 = dktJ6_append_8_0 := by decide +kernel
theorem dJ6_append_8_0 : decode cJ6_append_8 0 = .ok (.aload_n 0, 1) := dk_42 (dk_at dksJ6_append_8_0 0 rfl rfl)
theorem dJ6_append_8_1 : decode cJ6_append_8 1 = .ok (.aload_n 1, 1) := dk_43 (dk_at dksJ6_append_8_0 1 rfl rfl)
theorem dJ6_append_8_2 : decode cJ6_append_8 2 = .ok (.invokespecial 35, 3) := dk_183 0 35 (dk_at dksJ6_append_8_0 2 rfl rfl)
theorem dJ6_append_8_5 : decode cJ6_append_8 5 = .ok (.pop, 1) := dk_87 (dk_at dksJ6_append_8_0 5 rfl rfl)
theorem dJ6_append_8_6 : decode cJ6_append_8 6 = .ok (.aload_n 0, 1) := dk_42 (dk_at dksJ6_append_8_0 6 rfl rfl)
theorem dJ6_append_8_7 : decode cJ6_append_8 7 = .ok (.areturn, 1) := dk_176 (dk_at dksJ6_append_8_0 7 rfl rfl)
abbrev cJ6_append_9 : ByteArray := prog_42_method_80_code
def yJ6_append_9 : MethodName := ⟨RJ6, "append", "(Ljava/lang/String;)Ljava/lang/AbstractStringBuilder;"⟩
def dkwJ6_append_9_0 : List UInt8 := [42, 43, 182, 0, 23, 176]
abbrev dktJ6_append_9_0 : List UInt8 := dkwJ6_append_9_0 ++ []
theorem dksJ6_append_9_0 : cJ6_append_9.data.toList.drop 0 = dktJ6_append_9_0 := by decide +kernel
theorem dJ6_append_9_0 : decode cJ6_append_9 0 = .ok (.aload_n 0, 1) := dk_42 (dk_at dksJ6_append_9_0 0 rfl rfl)
theorem dJ6_append_9_1 : decode cJ6_append_9 1 = .ok (.aload_n 1, 1) := dk_43 (dk_at dksJ6_append_9_0 1 rfl rfl)
theorem dJ6_append_9_2 : decode cJ6_append_9 2 = .ok (.invokevirtual 23, 3) := dk_182 0 23 (dk_at dksJ6_append_9_0 2 rfl rfl)
theorem dJ6_append_9_5 : decode cJ6_append_9 5 = .ok (.areturn, 1) := dk_176 (dk_at dksJ6_append_9_0 5 rfl rfl)
abbrev cJ6_append_10 : ByteArray := prog_42_method_77_code
def yJ6_append_10 : MethodName := ⟨RJ6, "append", "(Ljava/lang/CharSequence;II)Ljava/lang/AbstractStringBuilder;"⟩
def dkwJ6_append_10_0 : List UInt8 := [42, 43, 28, 29, 182, 1, 40, 176]
abbrev dktJ6_append_10_0 : List UInt8 := dkwJ6_append_10_0 ++ []
theorem dksJ6_append_10_0 : cJ6_append_10.data.toList.drop 0 = dktJ6_append_10_0 := by decide +kernel
theorem dJ6_append_10_0 : decode cJ6_append_10 0 = .ok (.aload_n 0, 1) := dk_42 (dk_at dksJ6_append_10_0 0 rfl rfl)
theorem dJ6_append_10_1 : decode cJ6_append_10 1 = .ok (.aload_n 1, 1) := dk_43 (dk_at dksJ6_append_10_0 1 rfl rfl)
theorem dJ6_append_10_2 : decode cJ6_append_10 2 = .ok (.iload_n 2, 1) := dk_28 (dk_at dksJ6_append_10_0 2 rfl rfl)
theorem dJ6_append_10_3 : decode cJ6_append_10 3 = .ok (.iload_n 3, 1) := dk_29 (dk_at dksJ6_append_10_0 3 rfl rfl)
theorem dJ6_append_10_4 : decode cJ6_append_10 4 = .ok (.invokevirtual 296, 3) := dk_182 1 40 (dk_at dksJ6_append_10_0 4 rfl rfl)
theorem dJ6_append_10_7 : decode cJ6_append_10 7 = .ok (.areturn, 1) := dk_176 (dk_at dksJ6_append_10_0 7 rfl rfl)
abbrev cJ6_append_11 : ByteArray := prog_42_method_10_code
def yJ6_append_11 : MethodName := ⟨RJ6, "append", "(Ljava/lang/CharSequence;II)Ljava/lang/StringBuilder;"⟩
def dkwJ6_append_11_0 : List UInt8 := [42, 43, 28, 29, 183, 0, 38, 87, 42, 176]
abbrev dktJ6_append_11_0 : List UInt8 := dkwJ6_append_11_0 ++ []
theorem dksJ6_append_11_0 : cJ6_append_11.data.toList.drop 0 = dktJ6_append_11_0 := by decide +kernel
theorem dJ6_append_11_0 : decode cJ6_append_11 0 = .ok (.aload_n 0, 1) := dk_42 (dk_at dksJ6_append_11_0 0 rfl rfl)
theorem dJ6_append_11_1 : decode cJ6_append_11 1 = .ok (.aload_n 1, 1) := dk_43 (dk_at dksJ6_append_11_0 1 rfl rfl)
theorem dJ6_append_11_2 : decode cJ6_append_11 2 = .ok (.iload_n 2, 1) := dk_28 (dk_at dksJ6_append_11_0 2 rfl rfl)
theorem dJ6_append_11_3 : decode cJ6_append_11 3 = .ok (.iload_n 3, 1) := dk_29 (dk_at dksJ6_append_11_0 3 rfl rfl)
theorem dJ6_append_11_4 : decode cJ6_append_11 4 = .ok (.invokespecial 38, 3) := dk_183 0 38 (dk_at dksJ6_append_11_0 4 rfl rfl)
theorem dJ6_append_11_7 : decode cJ6_append_11 7 = .ok (.pop, 1) := dk_87 (dk_at dksJ6_append_11_0 7 rfl rfl)
theorem dJ6_append_11_8 : decode cJ6_append_11 8 = .ok (.aload_n 0, 1) := dk_42 (dk_at dksJ6_append_11_0 8 rfl rfl)
theorem dJ6_append_11_9 : decode cJ6_append_11 9 = .ok (.areturn, 1) := dk_176 (dk_at dksJ6_append_11_0 9 rfl rfl)
theorem q110 : (Jvm.Cond.initialized "java/lang/StringBuilder") ∈ lw_all := lw_g (lw_at lw_m1 11 rfl) rfl
theorem q354 : (Jvm.Cond.instantiable "java/lang/StringBuilder" (4 : Nat)) ∈ lw_all := lw_g (lw_at lw_m2 15 rfl) rfl
theorem q356 : (Jvm.Cond.instanceMethod ({ cls := "java/lang/StringBuilder", name := "<init>", desc := "()V" } : Jvm.MethodName)) ∈ lw_all := lw_g (lw_at lw_m2 17 rfl) rfl
theorem q357 : (Jvm.Cond.code ({ cls := "java/lang/StringBuilder", name := "<init>", desc := "()V" } : Jvm.MethodName) prog_42_method_1_code (1 : Nat) (Option.none : Option Jvm.ClassFile.FieldType)) ∈ lw_all := lw_g (lw_at lw_m2 18 rfl) rfl
theorem q358 : (Jvm.Cond.methodLink "java/lang/StringBuilder" (1 : Nat) ({ cls := "java/lang/AbstractStringBuilder", name := "<init>", desc := "(I)V" } : Jvm.MethodName)) ∈ lw_all := lw_g (lw_at lw_m2 19 rfl) rfl
theorem q376 : (Jvm.Cond.lays "java/lang/StringBuilder" "java/lang/AbstractStringBuilder" "value" "[B") ∈ lw_all := lw_g (lw_at lw_m2 37 rfl) rfl
theorem q378 : (Jvm.Cond.lays "java/lang/StringBuilder" "java/lang/AbstractStringBuilder" "coder" "B") ∈ lw_all := lw_g (lw_at lw_m2 39 rfl) rfl
theorem q380 : (Jvm.Cond.lays "java/lang/StringBuilder" "java/lang/AbstractStringBuilder" "maybeLatin1" "Z") ∈ lw_all := lw_g (lw_at lw_m2 41 rfl) rfl
theorem q382 : (Jvm.Cond.lays "java/lang/StringBuilder" "java/lang/AbstractStringBuilder" "count" "I") ∈ lw_all := lw_g (lw_at lw_m2 43 rfl) rfl
theorem q384 : (Jvm.Cond.superclass "java/lang/StringBuilder" "java/lang/AbstractStringBuilder") ∈ lw_all := lw_g (lw_at lw_m2 45 rfl) rfl
theorem q492 : (Jvm.Cond.selects "java/lang/StringBuilder" ({ cls := "java/lang/Object", name := "getClass", desc := "()Ljava/lang/Class;" } : Jvm.MethodName) ({ cls := "java/lang/Object", name := "getClass", desc := "()Ljava/lang/Class;" } : Jvm.MethodName)) ∈ lw_all := lw_g (lw_at lw_m2 153 rfl) rfl
theorem q877 : (Jvm.Cond.instanceMethod ({ cls := "java/lang/StringBuilder", name := "append", desc := "(Ljava/lang/String;)Ljava/lang/StringBuilder;" } : Jvm.MethodName)) ∈ lw_all := lw_g (lw_at lw_m4 58 rfl) rfl
theorem q878 : (Jvm.Cond.selects "java/lang/StringBuilder" ({ cls := "java/lang/StringBuilder", name := "append", desc := "(Ljava/lang/String;)Ljava/lang/StringBuilder;" } : Jvm.MethodName) ({ cls := "java/lang/StringBuilder", name := "append", desc := "(Ljava/lang/String;)Ljava/lang/StringBuilder;" } : Jvm.MethodName)) ∈ lw_all := lw_g (lw_at lw_m4 59 rfl) rfl
theorem q879 : (Jvm.Cond.code ({ cls := "java/lang/StringBuilder", name := "append", desc := "(Ljava/lang/String;)Ljava/lang/StringBuilder;" } : Jvm.MethodName) prog_42_method_7_code (2 : Nat) (Option.some (Jvm.ClassFile.FieldType.object "java/lang/StringBuilder"))) ∈ lw_all := lw_g (lw_at lw_m4 60 rfl) rfl
theorem q880 : (Jvm.Cond.methodLink "java/lang/StringBuilder" (29 : Nat) ({ cls := "java/lang/AbstractStringBuilder", name := "append", desc := "(Ljava/lang/String;)Ljava/lang/AbstractStringBuilder;" } : Jvm.MethodName)) ∈ lw_all := lw_g (lw_at lw_m4 61 rfl) rfl
theorem q919 : (Jvm.Cond.selects "java/lang/StringBuilder" ({ cls := "java/lang/AbstractStringBuilder", name := "isLatin1", desc := "()Z" } : Jvm.MethodName) ({ cls := "java/lang/AbstractStringBuilder", name := "isLatin1", desc := "()Z" } : Jvm.MethodName)) ∈ lw_all := lw_g (lw_at lw_m4 100 rfl) rfl
theorem q991 : (Jvm.Cond.instanceMethod ({ cls := "java/lang/StringBuilder", name := "append", desc := "(I)Ljava/lang/StringBuilder;" } : Jvm.MethodName)) ∈ lw_all := lw_g (lw_at lw_m4 172 rfl) rfl
theorem q992 : (Jvm.Cond.selects "java/lang/StringBuilder" ({ cls := "java/lang/StringBuilder", name := "append", desc := "(I)Ljava/lang/StringBuilder;" } : Jvm.MethodName) ({ cls := "java/lang/StringBuilder", name := "append", desc := "(I)Ljava/lang/StringBuilder;" } : Jvm.MethodName)) ∈ lw_all := lw_g (lw_at lw_m4 173 rfl) rfl
theorem q993 : (Jvm.Cond.code ({ cls := "java/lang/StringBuilder", name := "append", desc := "(I)Ljava/lang/StringBuilder;" } : Jvm.MethodName) prog_42_method_15_code (2 : Nat) (Option.some (Jvm.ClassFile.FieldType.object "java/lang/StringBuilder"))) ∈ lw_all := lw_g (lw_at lw_m4 174 rfl) rfl
theorem q994 : (Jvm.Cond.methodLink "java/lang/StringBuilder" (53 : Nat) ({ cls := "java/lang/AbstractStringBuilder", name := "append", desc := "(I)Ljava/lang/AbstractStringBuilder;" } : Jvm.MethodName)) ∈ lw_all := lw_g (lw_at lw_m4 175 rfl) rfl
theorem q1017 : (Jvm.Cond.instanceMethod ({ cls := "java/lang/StringBuilder", name := "toString", desc := "()Ljava/lang/String;" } : Jvm.MethodName)) ∈ lw_all := lw_g (lw_at lw_m4 198 rfl) rfl
theorem q1018 : (Jvm.Cond.selects "java/lang/StringBuilder" ({ cls := "java/lang/StringBuilder", name := "toString", desc := "()Ljava/lang/String;" } : Jvm.MethodName) ({ cls := "java/lang/StringBuilder", name := "toString", desc := "()Ljava/lang/String;" } : Jvm.MethodName)) ∈ lw_all := lw_g (lw_at lw_m4 199 rfl) rfl
theorem q1019 : (Jvm.Cond.code ({ cls := "java/lang/StringBuilder", name := "toString", desc := "()Ljava/lang/String;" } : Jvm.MethodName) prog_42_method_42_code (1 : Nat) (Option.some (Jvm.ClassFile.FieldType.object "java/lang/String"))) ∈ lw_all := lw_g (lw_at lw_m4 200 rfl) rfl
theorem q1020 : (Jvm.Cond.classLink "java/lang/StringBuilder" (18 : Nat) "java/lang/String") ∈ lw_all := lw_g (lw_at lw_m4 201 rfl) rfl
theorem q1022 : (Jvm.Cond.methodLink "java/lang/StringBuilder" (137 : Nat) ({ cls := "java/lang/String", name := "<init>", desc := "(Ljava/lang/StringBuilder;)V" } : Jvm.MethodName)) ∈ lw_all := lw_g (lw_at lw_m4 203 rfl) rfl
theorem q1032 : (Jvm.Cond.selects "java/lang/StringBuilder" ({ cls := "java/lang/AbstractStringBuilder", name := "getValue", desc := "()[B" } : Jvm.MethodName) ({ cls := "java/lang/AbstractStringBuilder", name := "getValue", desc := "()[B" } : Jvm.MethodName)) ∈ lw_all := lw_g (lw_at lw_m4 213 rfl) rfl
theorem q1037 : (Jvm.Cond.selects "java/lang/StringBuilder" ({ cls := "java/lang/AbstractStringBuilder", name := "length", desc := "()I" } : Jvm.MethodName) ({ cls := "java/lang/StringBuilder", name := "length", desc := "()I" } : Jvm.MethodName)) ∈ lw_all := lw_g (lw_at lw_m4 218 rfl) rfl
theorem q1038 : (Jvm.Cond.instanceMethod ({ cls := "java/lang/StringBuilder", name := "length", desc := "()I" } : Jvm.MethodName)) ∈ lw_all := lw_g (lw_at lw_m4 219 rfl) rfl
theorem q1039 : (Jvm.Cond.code ({ cls := "java/lang/StringBuilder", name := "length", desc := "()I" } : Jvm.MethodName) prog_42_method_93_code (1 : Nat) (Option.some Jvm.ClassFile.FieldType.int)) ∈ lw_all := lw_g (lw_at lw_m4 220 rfl) rfl
theorem q1040 : (Jvm.Cond.methodLink "java/lang/StringBuilder" (343 : Nat) ({ cls := "java/lang/AbstractStringBuilder", name := "length", desc := "()I" } : Jvm.MethodName)) ∈ lw_all := lw_g (lw_at lw_m4 221 rfl) rfl
theorem q1694 : (Jvm.Cond.castable "java/lang/StringBuilder" "java/lang/Comparable") ∈ lw_tbl := lw_at lw_m7 155 rfl
theorem q1695 : (Jvm.Cond.selects "java/lang/StringBuilder" ({ cls := "java/lang/Comparable", name := "compareTo", desc := "(Ljava/lang/Object;)I" } : Jvm.MethodName) ({ cls := "java/lang/StringBuilder", name := "compareTo", desc := "(Ljava/lang/Object;)I" } : Jvm.MethodName)) ∈ lw_all := lw_g (lw_at lw_m7 156 rfl) rfl
theorem q1696 : (Jvm.Cond.unhidden "java/lang/StringBuilder" "compareTo" "(Ljava/lang/Object;)I") ∈ lw_tbl := lw_at lw_m7 157 rfl
theorem q1697 : (Jvm.Cond.instanceMethod ({ cls := "java/lang/StringBuilder", name := "compareTo", desc := "(Ljava/lang/Object;)I" } : Jvm.MethodName)) ∈ lw_all := lw_g (lw_at lw_m7 158 rfl) rfl
theorem q1698 : (Jvm.Cond.publicMethod ({ cls := "java/lang/StringBuilder", name := "compareTo", desc := "(Ljava/lang/Object;)I" } : Jvm.MethodName)) ∈ lw_tbl := lw_at lw_m7 159 rfl
theorem q1699 : (Jvm.Cond.code ({ cls := "java/lang/StringBuilder", name := "compareTo", desc := "(Ljava/lang/Object;)I" } : Jvm.MethodName) prog_42_method_97_code (2 : Nat) (Option.some Jvm.ClassFile.FieldType.int)) ∈ lw_all := lw_g (lw_at lw_m7 160 rfl) rfl
theorem q1700 : (Jvm.Cond.classLink "java/lang/StringBuilder" (24 : Nat) "java/lang/StringBuilder") ∈ lw_all := lw_g (lw_at lw_m7 161 rfl) rfl
theorem q1701 : (Jvm.Cond.methodLink "java/lang/StringBuilder" (346 : Nat) ({ cls := "java/lang/StringBuilder", name := "compareTo", desc := "(Ljava/lang/StringBuilder;)I" } : Jvm.MethodName)) ∈ lw_all := lw_g (lw_at lw_m7 162 rfl) rfl
theorem q1702 : (Jvm.Cond.instanceMethod ({ cls := "java/lang/StringBuilder", name := "compareTo", desc := "(Ljava/lang/StringBuilder;)I" } : Jvm.MethodName)) ∈ lw_all := lw_g (lw_at lw_m7 163 rfl) rfl
theorem q1703 : (Jvm.Cond.selects "java/lang/StringBuilder" ({ cls := "java/lang/StringBuilder", name := "compareTo", desc := "(Ljava/lang/StringBuilder;)I" } : Jvm.MethodName) ({ cls := "java/lang/StringBuilder", name := "compareTo", desc := "(Ljava/lang/StringBuilder;)I" } : Jvm.MethodName)) ∈ lw_all := lw_g (lw_at lw_m7 164 rfl) rfl
theorem q1704 : (Jvm.Cond.code ({ cls := "java/lang/StringBuilder", name := "compareTo", desc := "(Ljava/lang/StringBuilder;)I" } : Jvm.MethodName) prog_42_method_5_code (2 : Nat) (Option.some Jvm.ClassFile.FieldType.int)) ∈ lw_all := lw_g (lw_at lw_m7 165 rfl) rfl
theorem q1705 : (Jvm.Cond.methodLink "java/lang/StringBuilder" (13 : Nat) ({ cls := "java/lang/AbstractStringBuilder", name := "compareTo", desc := "(Ljava/lang/AbstractStringBuilder;)I" } : Jvm.MethodName)) ∈ lw_all := lw_g (lw_at lw_m7 166 rfl) rfl
theorem q1885 : (Jvm.Cond.selects "java/lang/StringBuilder" ({ cls := "java/lang/Object", name := "hashCode", desc := "()I" } : Jvm.MethodName) ({ cls := "java/lang/Object", name := "hashCode", desc := "()I" } : Jvm.MethodName)) ∈ lw_all := lw_g (lw_at lw_m8 106 rfl) rfl
theorem q1940 : (Jvm.Cond.selects "java/lang/StringBuilder" ({ cls := "java/lang/Object", name := "equals", desc := "(Ljava/lang/Object;)Z" } : Jvm.MethodName) ({ cls := "java/lang/Object", name := "equals", desc := "(Ljava/lang/Object;)Z" } : Jvm.MethodName)) ∈ lw_all := lw_g (lw_at lw_m8 161 rfl) rfl
theorem q2669 : (Jvm.Cond.instanceMethod ({ cls := "java/lang/StringBuilder", name := "setLength", desc := "(I)V" } : Jvm.MethodName)) ∈ lw_all := lw_g (lw_at lw_m11 170 rfl) rfl
theorem q2670 : (Jvm.Cond.selects "java/lang/StringBuilder" ({ cls := "java/lang/StringBuilder", name := "setLength", desc := "(I)V" } : Jvm.MethodName) ({ cls := "java/lang/StringBuilder", name := "setLength", desc := "(I)V" } : Jvm.MethodName)) ∈ lw_all := lw_g (lw_at lw_m11 171 rfl) rfl
theorem q2671 : (Jvm.Cond.code ({ cls := "java/lang/StringBuilder", name := "setLength", desc := "(I)V" } : Jvm.MethodName) prog_42_method_89_code (2 : Nat) (Option.none : Option Jvm.ClassFile.FieldType)) ∈ lw_all := lw_g (lw_at lw_m11 172 rfl) rfl
theorem q2672 : (Jvm.Cond.methodLink "java/lang/StringBuilder" (333 : Nat) ({ cls := "java/lang/AbstractStringBuilder", name := "setLength", desc := "(I)V" } : Jvm.MethodName)) ∈ lw_all := lw_g (lw_at lw_m11 173 rfl) rfl
theorem q2742 : (Jvm.Cond.instanceMethod ({ cls := "java/lang/StringBuilder", name := "charAt", desc := "(I)C" } : Jvm.MethodName)) ∈ lw_all := lw_g (lw_at lw_m12 3 rfl) rfl
theorem q2743 : (Jvm.Cond.selects "java/lang/StringBuilder" ({ cls := "java/lang/StringBuilder", name := "charAt", desc := "(I)C" } : Jvm.MethodName) ({ cls := "java/lang/StringBuilder", name := "charAt", desc := "(I)C" } : Jvm.MethodName)) ∈ lw_all := lw_g (lw_at lw_m12 4 rfl) rfl
theorem q2744 : (Jvm.Cond.code ({ cls := "java/lang/StringBuilder", name := "charAt", desc := "(I)C" } : Jvm.MethodName) prog_42_method_88_code (2 : Nat) (Option.some Jvm.ClassFile.FieldType.char)) ∈ lw_all := lw_g (lw_at lw_m12 5 rfl) rfl
theorem q2745 : (Jvm.Cond.methodLink "java/lang/StringBuilder" (329 : Nat) ({ cls := "java/lang/AbstractStringBuilder", name := "charAt", desc := "(I)C" } : Jvm.MethodName)) ∈ lw_all := lw_g (lw_at lw_m12 6 rfl) rfl
theorem q2983 : (Jvm.Cond.instanceMethod ({ cls := "java/lang/StringBuilder", name := "append", desc := "(F)Ljava/lang/StringBuilder;" } : Jvm.MethodName)) ∈ lw_all := lw_g (lw_at lw_m13 4 rfl) rfl
theorem q2984 : (Jvm.Cond.selects "java/lang/StringBuilder" ({ cls := "java/lang/StringBuilder", name := "append", desc := "(F)Ljava/lang/StringBuilder;" } : Jvm.MethodName) ({ cls := "java/lang/StringBuilder", name := "append", desc := "(F)Ljava/lang/StringBuilder;" } : Jvm.MethodName)) ∈ lw_all := lw_g (lw_at lw_m13 5 rfl) rfl
theorem q2985 : (Jvm.Cond.code ({ cls := "java/lang/StringBuilder", name := "append", desc := "(F)Ljava/lang/StringBuilder;" } : Jvm.MethodName) prog_42_method_17_code (2 : Nat) (Option.some (Jvm.ClassFile.FieldType.object "java/lang/StringBuilder"))) ∈ lw_all := lw_g (lw_at lw_m13 6 rfl) rfl
theorem q2986 : (Jvm.Cond.methodLink "java/lang/StringBuilder" (59 : Nat) ({ cls := "java/lang/AbstractStringBuilder", name := "append", desc := "(F)Ljava/lang/AbstractStringBuilder;" } : Jvm.MethodName)) ∈ lw_all := lw_g (lw_at lw_m13 7 rfl) rfl
theorem q3101 : (Jvm.Cond.instanceMethod ({ cls := "java/lang/StringBuilder", name := "append", desc := "([C)Ljava/lang/StringBuilder;" } : Jvm.MethodName)) ∈ lw_all := lw_g (lw_at lw_m13 122 rfl) rfl
theorem q3102 : (Jvm.Cond.selects "java/lang/StringBuilder" ({ cls := "java/lang/StringBuilder", name := "append", desc := "([C)Ljava/lang/StringBuilder;" } : Jvm.MethodName) ({ cls := "java/lang/StringBuilder", name := "append", desc := "([C)Ljava/lang/StringBuilder;" } : Jvm.MethodName)) ∈ lw_all := lw_g (lw_at lw_m13 123 rfl) rfl
theorem q3103 : (Jvm.Cond.code ({ cls := "java/lang/StringBuilder", name := "append", desc := "([C)Ljava/lang/StringBuilder;" } : Jvm.MethodName) prog_42_method_11_code (2 : Nat) (Option.some (Jvm.ClassFile.FieldType.object "java/lang/StringBuilder"))) ∈ lw_all := lw_g (lw_at lw_m13 124 rfl) rfl
theorem q3104 : (Jvm.Cond.methodLink "java/lang/StringBuilder" (41 : Nat) ({ cls := "java/lang/AbstractStringBuilder", name := "append", desc := "([C)Ljava/lang/AbstractStringBuilder;" } : Jvm.MethodName)) ∈ lw_all := lw_g (lw_at lw_m13 125 rfl) rfl
theorem q3131 : (Jvm.Cond.castable "java/lang/StringBuilder" "java/lang/Appendable") ∈ lw_tbl := lw_at lw_m13 152 rfl
theorem q3132 : (Jvm.Cond.selects "java/lang/StringBuilder" ({ cls := "java/lang/Appendable", name := "append", desc := "(C)Ljava/lang/Appendable;" } : Jvm.MethodName) ({ cls := "java/lang/StringBuilder", name := "append", desc := "(C)Ljava/lang/Appendable;" } : Jvm.MethodName)) ∈ lw_all := lw_g (lw_at lw_m13 153 rfl) rfl
theorem q3133 : (Jvm.Cond.unhidden "java/lang/StringBuilder" "append" "(C)Ljava/lang/Appendable;") ∈ lw_tbl := lw_at lw_m13 154 rfl
theorem q3134 : (Jvm.Cond.instanceMethod ({ cls := "java/lang/StringBuilder", name := "append", desc := "(C)Ljava/lang/Appendable;" } : Jvm.MethodName)) ∈ lw_all := lw_g (lw_at lw_m13 155 rfl) rfl
theorem q3135 : (Jvm.Cond.publicMethod ({ cls := "java/lang/StringBuilder", name := "append", desc := "(C)Ljava/lang/Appendable;" } : Jvm.MethodName)) ∈ lw_tbl := lw_at lw_m13 156 rfl
theorem q3136 : (Jvm.Cond.code ({ cls := "java/lang/StringBuilder", name := "append", desc := "(C)Ljava/lang/Appendable;" } : Jvm.MethodName) prog_42_method_94_code (2 : Nat) (Option.some (Jvm.ClassFile.FieldType.object "java/lang/Appendable"))) ∈ lw_all := lw_g (lw_at lw_m13 157 rfl) rfl
theorem q3137 : (Jvm.Cond.methodLink "java/lang/StringBuilder" (284 : Nat) ({ cls := "java/lang/StringBuilder", name := "append", desc := "(C)Ljava/lang/StringBuilder;" } : Jvm.MethodName)) ∈ lw_all := lw_g (lw_at lw_m13 158 rfl) rfl
theorem q3138 : (Jvm.Cond.instanceMethod ({ cls := "java/lang/StringBuilder", name := "append", desc := "(C)Ljava/lang/StringBuilder;" } : Jvm.MethodName)) ∈ lw_all := lw_g (lw_at lw_m13 159 rfl) rfl
theorem q3139 : (Jvm.Cond.selects "java/lang/StringBuilder" ({ cls := "java/lang/StringBuilder", name := "append", desc := "(C)Ljava/lang/StringBuilder;" } : Jvm.MethodName) ({ cls := "java/lang/StringBuilder", name := "append", desc := "(C)Ljava/lang/StringBuilder;" } : Jvm.MethodName)) ∈ lw_all := lw_g (lw_at lw_m13 160 rfl) rfl
theorem q3140 : (Jvm.Cond.code ({ cls := "java/lang/StringBuilder", name := "append", desc := "(C)Ljava/lang/StringBuilder;" } : Jvm.MethodName) prog_42_method_14_code (2 : Nat) (Option.some (Jvm.ClassFile.FieldType.object "java/lang/StringBuilder"))) ∈ lw_all := lw_g (lw_at lw_m13 161 rfl) rfl
theorem q3141 : (Jvm.Cond.methodLink "java/lang/StringBuilder" (50 : Nat) ({ cls := "java/lang/AbstractStringBuilder", name := "append", desc := "(C)Ljava/lang/AbstractStringBuilder;" } : Jvm.MethodName)) ∈ lw_all := lw_g (lw_at lw_m13 162 rfl) rfl
theorem q3156 : (Jvm.Cond.selects "java/lang/StringBuilder" ({ cls := "java/lang/Appendable", name := "append", desc := "(Ljava/lang/CharSequence;)Ljava/lang/Appendable;" } : Jvm.MethodName) ({ cls := "java/lang/StringBuilder", name := "append", desc := "(Ljava/lang/CharSequence;)Ljava/lang/Appendable;" } : Jvm.MethodName)) ∈ lw_all := lw_g (lw_at lw_m13 177 rfl) rfl
theorem q3157 : (Jvm.Cond.unhidden "java/lang/StringBuilder" "append" "(Ljava/lang/CharSequence;)Ljava/lang/Appendable;") ∈ lw_tbl := lw_at lw_m13 178 rfl
theorem q3158 : (Jvm.Cond.instanceMethod ({ cls := "java/lang/StringBuilder", name := "append", desc := "(Ljava/lang/CharSequence;)Ljava/lang/Appendable;" } : Jvm.MethodName)) ∈ lw_all := lw_g (lw_at lw_m13 179 rfl) rfl
theorem q3159 : (Jvm.Cond.publicMethod ({ cls := "java/lang/StringBuilder", name := "append", desc := "(Ljava/lang/CharSequence;)Ljava/lang/Appendable;" } : Jvm.MethodName)) ∈ lw_tbl := lw_at lw_m13 180 rfl
theorem q3160 : (Jvm.Cond.code ({ cls := "java/lang/StringBuilder", name := "append", desc := "(Ljava/lang/CharSequence;)Ljava/lang/Appendable;" } : Jvm.MethodName) prog_42_method_96_code (2 : Nat) (Option.some (Jvm.ClassFile.FieldType.object "java/lang/Appendable"))) ∈ lw_all := lw_g (lw_at lw_m13 181 rfl) rfl
theorem q3161 : (Jvm.Cond.methodLink "java/lang/StringBuilder" (299 : Nat) ({ cls := "java/lang/StringBuilder", name := "append", desc := "(Ljava/lang/CharSequence;)Ljava/lang/StringBuilder;" } : Jvm.MethodName)) ∈ lw_all := lw_g (lw_at lw_m13 182 rfl) rfl
theorem q3162 : (Jvm.Cond.instanceMethod ({ cls := "java/lang/StringBuilder", name := "append", desc := "(Ljava/lang/CharSequence;)Ljava/lang/StringBuilder;" } : Jvm.MethodName)) ∈ lw_all := lw_g (lw_at lw_m13 183 rfl) rfl
theorem q3163 : (Jvm.Cond.selects "java/lang/StringBuilder" ({ cls := "java/lang/StringBuilder", name := "append", desc := "(Ljava/lang/CharSequence;)Ljava/lang/StringBuilder;" } : Jvm.MethodName) ({ cls := "java/lang/StringBuilder", name := "append", desc := "(Ljava/lang/CharSequence;)Ljava/lang/StringBuilder;" } : Jvm.MethodName)) ∈ lw_all := lw_g (lw_at lw_m13 184 rfl) rfl
theorem q3164 : (Jvm.Cond.code ({ cls := "java/lang/StringBuilder", name := "append", desc := "(Ljava/lang/CharSequence;)Ljava/lang/StringBuilder;" } : Jvm.MethodName) prog_42_method_9_code (2 : Nat) (Option.some (Jvm.ClassFile.FieldType.object "java/lang/StringBuilder"))) ∈ lw_all := lw_g (lw_at lw_m13 185 rfl) rfl
theorem q3165 : (Jvm.Cond.methodLink "java/lang/StringBuilder" (35 : Nat) ({ cls := "java/lang/AbstractStringBuilder", name := "append", desc := "(Ljava/lang/CharSequence;)Ljava/lang/AbstractStringBuilder;" } : Jvm.MethodName)) ∈ lw_all := lw_g (lw_at lw_m13 186 rfl) rfl
theorem q3170 : (Jvm.Cond.instanceMethod ({ cls := "java/lang/StringBuilder", name := "append", desc := "(Ljava/lang/String;)Ljava/lang/AbstractStringBuilder;" } : Jvm.MethodName)) ∈ lw_all := lw_g (lw_at lw_m13 191 rfl) rfl
theorem q3171 : (Jvm.Cond.code ({ cls := "java/lang/StringBuilder", name := "append", desc := "(Ljava/lang/String;)Ljava/lang/AbstractStringBuilder;" } : Jvm.MethodName) prog_42_method_80_code (2 : Nat) (Option.some (Jvm.ClassFile.FieldType.object "java/lang/AbstractStringBuilder"))) ∈ lw_all := lw_g (lw_at lw_m13 192 rfl) rfl
theorem q3172 : (Jvm.Cond.methodLink "java/lang/StringBuilder" (23 : Nat) ({ cls := "java/lang/StringBuilder", name := "append", desc := "(Ljava/lang/String;)Ljava/lang/StringBuilder;" } : Jvm.MethodName)) ∈ lw_all := lw_g (lw_at lw_m13 193 rfl) rfl
theorem q3177 : (Jvm.Cond.selects "java/lang/StringBuilder" ({ cls := "java/lang/AbstractStringBuilder", name := "append", desc := "(Ljava/lang/AbstractStringBuilder;)Ljava/lang/AbstractStringBuilder;" } : Jvm.MethodName) ({ cls := "java/lang/AbstractStringBuilder", name := "append", desc := "(Ljava/lang/AbstractStringBuilder;)Ljava/lang/AbstractStringBuilder;" } : Jvm.MethodName)) ∈ lw_all := lw_g (lw_at lw_m13 198 rfl) rfl
theorem q3187 : (Jvm.Cond.selects "java/lang/StringBuilder" ({ cls := "java/lang/AbstractStringBuilder", name := "getCoder", desc := "()B" } : Jvm.MethodName) ({ cls := "java/lang/AbstractStringBuilder", name := "getCoder", desc := "()B" } : Jvm.MethodName)) ∈ lw_all := lw_g (lw_at lw_m13 208 rfl) rfl
theorem q3192 : (Jvm.Cond.selects "java/lang/StringBuilder" ({ cls := "java/lang/AbstractStringBuilder", name := "getBytes", desc := "([BIB)V" } : Jvm.MethodName) ({ cls := "java/lang/AbstractStringBuilder", name := "getBytes", desc := "([BIB)V" } : Jvm.MethodName)) ∈ lw_all := lw_g (lw_at lw_m13 213 rfl) rfl
theorem q3203 : (Jvm.Cond.castable "java/lang/StringBuilder" "java/lang/CharSequence") ∈ lw_tbl := lw_at lw_m13 224 rfl
theorem q3204 : (Jvm.Cond.selects "java/lang/StringBuilder" ({ cls := "java/lang/CharSequence", name := "length", desc := "()I" } : Jvm.MethodName) ({ cls := "java/lang/StringBuilder", name := "length", desc := "()I" } : Jvm.MethodName)) ∈ lw_all := lw_g (lw_at lw_m13 225 rfl) rfl
theorem q3205 : (Jvm.Cond.unhidden "java/lang/StringBuilder" "length" "()I") ∈ lw_tbl := lw_at lw_m13 226 rfl
theorem q3206 : (Jvm.Cond.publicMethod ({ cls := "java/lang/StringBuilder", name := "length", desc := "()I" } : Jvm.MethodName)) ∈ lw_tbl := lw_at lw_m13 227 rfl
theorem q3210 : (Jvm.Cond.selects "java/lang/StringBuilder" ({ cls := "java/lang/AbstractStringBuilder", name := "append", desc := "(Ljava/lang/CharSequence;II)Ljava/lang/AbstractStringBuilder;" } : Jvm.MethodName) ({ cls := "java/lang/StringBuilder", name := "append", desc := "(Ljava/lang/CharSequence;II)Ljava/lang/AbstractStringBuilder;" } : Jvm.MethodName)) ∈ lw_all := lw_g (lw_at lw_m13 231 rfl) rfl
theorem q3211 : (Jvm.Cond.instanceMethod ({ cls := "java/lang/StringBuilder", name := "append", desc := "(Ljava/lang/CharSequence;II)Ljava/lang/AbstractStringBuilder;" } : Jvm.MethodName)) ∈ lw_all := lw_g (lw_at lw_m13 232 rfl) rfl
theorem q3212 : (Jvm.Cond.code ({ cls := "java/lang/StringBuilder", name := "append", desc := "(Ljava/lang/CharSequence;II)Ljava/lang/AbstractStringBuilder;" } : Jvm.MethodName) prog_42_method_77_code (4 : Nat) (Option.some (Jvm.ClassFile.FieldType.object "java/lang/AbstractStringBuilder"))) ∈ lw_all := lw_g (lw_at lw_m13 233 rfl) rfl
theorem q3213 : (Jvm.Cond.methodLink "java/lang/StringBuilder" (296 : Nat) ({ cls := "java/lang/StringBuilder", name := "append", desc := "(Ljava/lang/CharSequence;II)Ljava/lang/StringBuilder;" } : Jvm.MethodName)) ∈ lw_all := lw_g (lw_at lw_m13 234 rfl) rfl
theorem q3214 : (Jvm.Cond.instanceMethod ({ cls := "java/lang/StringBuilder", name := "append", desc := "(Ljava/lang/CharSequence;II)Ljava/lang/StringBuilder;" } : Jvm.MethodName)) ∈ lw_all := lw_g (lw_at lw_m13 235 rfl) rfl
theorem q3215 : (Jvm.Cond.selects "java/lang/StringBuilder" ({ cls := "java/lang/StringBuilder", name := "append", desc := "(Ljava/lang/CharSequence;II)Ljava/lang/StringBuilder;" } : Jvm.MethodName) ({ cls := "java/lang/StringBuilder", name := "append", desc := "(Ljava/lang/CharSequence;II)Ljava/lang/StringBuilder;" } : Jvm.MethodName)) ∈ lw_all := lw_g (lw_at lw_m13 236 rfl) rfl
theorem q3216 : (Jvm.Cond.code ({ cls := "java/lang/StringBuilder", name := "append", desc := "(Ljava/lang/CharSequence;II)Ljava/lang/StringBuilder;" } : Jvm.MethodName) prog_42_method_10_code (4 : Nat) (Option.some (Jvm.ClassFile.FieldType.object "java/lang/StringBuilder"))) ∈ lw_all := lw_g (lw_at lw_m13 237 rfl) rfl
theorem q3217 : (Jvm.Cond.methodLink "java/lang/StringBuilder" (38 : Nat) ({ cls := "java/lang/AbstractStringBuilder", name := "append", desc := "(Ljava/lang/CharSequence;II)Ljava/lang/AbstractStringBuilder;" } : Jvm.MethodName)) ∈ lw_all := lw_g (lw_at lw_m13 238 rfl) rfl
theorem q3253 : (Jvm.Cond.selects "java/lang/StringBuilder" ({ cls := "java/lang/CharSequence", name := "charAt", desc := "(I)C" } : Jvm.MethodName) ({ cls := "java/lang/StringBuilder", name := "charAt", desc := "(I)C" } : Jvm.MethodName)) ∈ lw_all := lw_g (lw_at lw_m14 34 rfl) rfl
theorem q3254 : (Jvm.Cond.unhidden "java/lang/StringBuilder" "charAt" "(I)C") ∈ lw_tbl := lw_at lw_m14 35 rfl
theorem q3255 : (Jvm.Cond.publicMethod ({ cls := "java/lang/StringBuilder", name := "charAt", desc := "(I)C" } : Jvm.MethodName)) ∈ lw_tbl := lw_at lw_m14 36 rfl
theorem q3363 : (Jvm.Cond.selects "java/lang/StringBuilder" ({ cls := "java/lang/Object", name := "toString", desc := "()Ljava/lang/String;" } : Jvm.MethodName) ({ cls := "java/lang/StringBuilder", name := "toString", desc := "()Ljava/lang/String;" } : Jvm.MethodName)) ∈ lw_all := lw_g (lw_at lw_m14 144 rfl) rfl
theorem q4124 : (Jvm.Cond.selects "java/lang/StringBuilder" ({ cls := "java/lang/StringBuilder", name := "length", desc := "()I" } : Jvm.MethodName) ({ cls := "java/lang/StringBuilder", name := "length", desc := "()I" } : Jvm.MethodName)) ∈ lw_all := lw_g (lw_at lw_m17 185 rfl) rfl
theorem q4131 : (Jvm.Cond.selects "java/lang/StringBuilder" ({ cls := "java/lang/AbstractStringBuilder", name := "append", desc := "(Ljava/lang/String;)Ljava/lang/AbstractStringBuilder;" } : Jvm.MethodName) ({ cls := "java/lang/StringBuilder", name := "append", desc := "(Ljava/lang/String;)Ljava/lang/AbstractStringBuilder;" } : Jvm.MethodName)) ∈ lw_all := lw_g (lw_at lw_m17 192 rfl) rfl
theorem q4140 : (Jvm.Cond.castable "java/lang/StringBuilder" "java/lang/AbstractStringBuilder") ∈ lw_tbl := lw_at lw_m17 201 rfl
theorem q4159 : (Jvm.Cond.castable "java/lang/StringBuilder" "java/lang/Object") ∈ lw_tbl := lw_at lw_m17 220 rfl
theorem in_J6 : ∀ w ∈ wsJ60, w ∈ lw_all := lw_in wsJ60 [376, 378, 380, 382] (by decide +kernel) (by decide +kernel)
/-! java/lang/String -/
set_option maxRecDepth 100000
def RJ7 : String := "java/lang/String"
def TJ7 : u_T := fun k => match k with
  | 0 => ("java/lang/String", "value", "[B", true)
  | 1 => ("java/lang/String", "coder", "B", true)
  | 2 => ("java/lang/String", "hash", "I", false)
  | _ => ("java/lang/String", "hashIsZero", "Z", false)
def tyJ7 : Nat → FieldType := fun k => match k with
  | 0 => .array .byte
  | 1 => .byte
  | 2 => .int
  | _ => .boolean
abbrev wsJ70 : List Cond := u_ws RJ7 TJ7 4
theorem nmJ7 : ∀ a, a < 4 → ∀ b, b < 4 → a ≠ b → (TJ7 a).2.1 ≠ (TJ7 b).2.1 := by decide +kernel
theorem tyJ7_ok : ∀ k, k < 4 → parseFieldDescriptor (TJ7 k).2.2.1 = some (tyJ7 k) := by decide +kernel
abbrev cJ7_checkBoundsBeginEnd : ByteArray := prog_40_method_158_code
def yJ7_checkBoundsBeginEnd : MethodName := ⟨RJ7, "checkBoundsBeginEnd", "(III)V"⟩
def dkwJ7_checkBoundsBeginEnd_0 : List UInt8 := [26, 27, 28, 178, 4, 29, 184, 4, 38, 87, 177]
abbrev dktJ7_checkBoundsBeginEnd_0 : List UInt8 := dkwJ7_checkBoundsBeginEnd_0 ++ []
theorem dksJ7_checkBoundsBeginEnd_0 : cJ7_checkBoundsBeginEnd.data.toList.drop 0 = dktJ7_checkBoundsBeginEnd_0 := by decide +kernel
theorem dJ7_checkBoundsBeginEnd_0 : decode cJ7_checkBoundsBeginEnd 0 = .ok (.iload_n 0, 1) := dk_26 (dk_at dksJ7_checkBoundsBeginEnd_0 0 rfl rfl)
theorem dJ7_checkBoundsBeginEnd_1 : decode cJ7_checkBoundsBeginEnd 1 = .ok (.iload_n 1, 1) := dk_27 (dk_at dksJ7_checkBoundsBeginEnd_0 1 rfl rfl)
theorem dJ7_checkBoundsBeginEnd_2 : decode cJ7_checkBoundsBeginEnd 2 = .ok (.iload_n 2, 1) := dk_28 (dk_at dksJ7_checkBoundsBeginEnd_0 2 rfl rfl)
theorem dJ7_checkBoundsBeginEnd_3 : decode cJ7_checkBoundsBeginEnd 3 = .ok (.getstatic 1053, 3) := dk_178 4 29 (dk_at dksJ7_checkBoundsBeginEnd_0 3 rfl rfl)
theorem dJ7_checkBoundsBeginEnd_6 : decode cJ7_checkBoundsBeginEnd 6 = .ok (.invokestatic 1062, 3) := dk_184 4 38 (dk_at dksJ7_checkBoundsBeginEnd_0 6 rfl rfl)
theorem dJ7_checkBoundsBeginEnd_9 : decode cJ7_checkBoundsBeginEnd 9 = .ok (.pop, 1) := dk_87 (dk_at dksJ7_checkBoundsBeginEnd_0 9 rfl rfl)
theorem dJ7_checkBoundsBeginEnd_10 : decode cJ7_checkBoundsBeginEnd 10 = .ok (.return_, 1) := dk_177 (dk_at dksJ7_checkBoundsBeginEnd_0 10 rfl rfl)
abbrev cJ7_length : ByteArray := prog_40_method_54_code
def yJ7_length : MethodName := ⟨RJ7, "length", "()I"⟩
def dkwJ7_length_0 : List UInt8 := [42, 180, 0, 9, 190, 42, 182, 1, 79, 122, 172]
abbrev dktJ7_length_0 : List UInt8 := dkwJ7_length_0 ++ []
theorem dksJ7_length_0 : cJ7_length.data.toList.drop 0 = dktJ7_length_0 := by decide +kernel
theorem dJ7_length_0 : decode cJ7_length 0 = .ok (.aload_n 0, 1) := dk_42 (dk_at dksJ7_length_0 0 rfl rfl)
theorem dJ7_length_1 : decode cJ7_length 1 = .ok (.getfield 9, 3) := dk_180 0 9 (dk_at dksJ7_length_0 1 rfl rfl)
theorem dJ7_length_4 : decode cJ7_length 4 = .ok (.arraylength, 1) := dk_190 (dk_at dksJ7_length_0 4 rfl rfl)
theorem dJ7_length_5 : decode cJ7_length 5 = .ok (.aload_n 0, 1) := dk_42 (dk_at dksJ7_length_0 5 rfl rfl)
theorem dJ7_length_6 : decode cJ7_length 6 = .ok (.invokevirtual 335, 3) := dk_182 1 79 (dk_at dksJ7_length_0 6 rfl rfl)
theorem dJ7_length_9 : decode cJ7_length 9 = .ok (.ishr, 1) := dk_122 (dk_at dksJ7_length_0 9 rfl rfl)
theorem dJ7_length_10 : decode cJ7_length 10 = .ok (.ireturn, 1) := dk_172 (dk_at dksJ7_length_0 10 rfl rfl)
abbrev cJ7_coder : ByteArray := prog_40_method_152_code
def yJ7_coder : MethodName := ⟨RJ7, "coder", "()B"⟩
def dkwJ7_coder_0 : List UInt8 := [178, 0, 38, 153, 0, 10, 42, 180, 0, 15, 167, 0, 4, 4, 172]
abbrev dktJ7_coder_0 : List UInt8 := dkwJ7_coder_0 ++ []
theorem dksJ7_coder_0 : cJ7_coder.data.toList.drop 0 = dktJ7_coder_0 := by decide +kernel
theorem dJ7_coder_0 : decode cJ7_coder 0 = .ok (.getstatic 38, 3) := dk_178 0 38 (dk_at dksJ7_coder_0 0 rfl rfl)
theorem dJ7_coder_3 : decode cJ7_coder 3 = .ok (.ifCond .eq 10, 3) := dk_153 0 10 (dk_at dksJ7_coder_0 3 rfl rfl)
theorem dJ7_coder_6 : decode cJ7_coder 6 = .ok (.aload_n 0, 1) := dk_42 (dk_at dksJ7_coder_0 6 rfl rfl)
theorem dJ7_coder_7 : decode cJ7_coder 7 = .ok (.getfield 15, 3) := dk_180 0 15 (dk_at dksJ7_coder_0 7 rfl rfl)
theorem dJ7_coder_10 : decode cJ7_coder 10 = .ok (.goto 4, 3) := dk_167 0 4 (dk_at dksJ7_coder_0 10 rfl rfl)
theorem dJ7_coder_13 : decode cJ7_coder 13 = .ok (.iconst 1, 1) := dk_4 (dk_at dksJ7_coder_0 13 rfl rfl)
theorem dJ7_coder_14 : decode cJ7_coder 14 = .ok (.ireturn, 1) := dk_172 (dk_at dksJ7_coder_0 14 rfl rfl)
abbrev cJ7_checkBoundsOffCount : ByteArray := prog_40_method_157_code
def yJ7_checkBoundsOffCount : MethodName := ⟨RJ7, "checkBoundsOffCount", "(III)I"⟩
def dkwJ7_checkBoundsOffCount_0 : List UInt8 := [26, 27, 28, 178, 4, 29, 184, 4, 41, 172]
abbrev dktJ7_checkBoundsOffCount_0 : List UInt8 := dkwJ7_checkBoundsOffCount_0 ++ []
theorem dksJ7_checkBoundsOffCount_0 : cJ7_checkBoundsOffCount.data.toList.drop 0 = dktJ7_checkBoundsOffCount_0 := by decide +kernel
theorem dJ7_checkBoundsOffCount_0 : decode cJ7_checkBoundsOffCount 0 = .ok (.iload_n 0, 1) := dk_26 (dk_at dksJ7_checkBoundsOffCount_0 0 rfl rfl)
theorem dJ7_checkBoundsOffCount_1 : decode cJ7_checkBoundsOffCount 1 = .ok (.iload_n 1, 1) := dk_27 (dk_at dksJ7_checkBoundsOffCount_0 1 rfl rfl)
theorem dJ7_checkBoundsOffCount_2 : decode cJ7_checkBoundsOffCount 2 = .ok (.iload_n 2, 1) := dk_28 (dk_at dksJ7_checkBoundsOffCount_0 2 rfl rfl)
theorem dJ7_checkBoundsOffCount_3 : decode cJ7_checkBoundsOffCount 3 = .ok (.getstatic 1053, 3) := dk_178 4 29 (dk_at dksJ7_checkBoundsOffCount_0 3 rfl rfl)
theorem dJ7_checkBoundsOffCount_6 : decode cJ7_checkBoundsOffCount 6 = .ok (.invokestatic 1065, 3) := dk_184 4 41 (dk_at dksJ7_checkBoundsOffCount_0 6 rfl rfl)
theorem dJ7_checkBoundsOffCount_9 : decode cJ7_checkBoundsOffCount 9 = .ok (.ireturn, 1) := dk_172 (dk_at dksJ7_checkBoundsOffCount_0 9 rfl rfl)
abbrev cJ7_getBytes : ByteArray := prog_40_method_147_code
def yJ7_getBytes : MethodName := ⟨RJ7, "getBytes", "([BIB)V"⟩
def dkwJ7_getBytes_1 : List UInt8 := [184, 0, 212, 167, 0, 18, 42, 180, 0, 9, 3, 43, 28, 42, 180, 0, 9, 190, 184, 0, 106, 177]
abbrev dktJ7_getBytes_1 : List UInt8 := dkwJ7_getBytes_1 ++ []
def dkwJ7_getBytes_0 : List UInt8 := [42, 182, 1, 79, 29, 160, 0, 23, 42, 180, 0, 9, 3, 43, 28, 29, 120, 42, 180, 0, 9, 190]
abbrev dktJ7_getBytes_0 : List UInt8 := dkwJ7_getBytes_0 ++ dktJ7_getBytes_1
theorem dksJ7_getBytes_0 : cJ7_getBytes.data.toList.drop 0 = dktJ7_getBytes_0 := by decide +kernel
theorem dksJ7_getBytes_1 : cJ7_getBytes.data.toList.drop 22 = dktJ7_getBytes_1 := dk_seg dksJ7_getBytes_0 22 rfl rfl
theorem dJ7_getBytes_0 : decode cJ7_getBytes 0 = .ok (.aload_n 0, 1) := dk_42 (dk_at dksJ7_getBytes_0 0 rfl rfl)
theorem dJ7_getBytes_1 : decode cJ7_getBytes 1 = .ok (.invokevirtual 335, 3) := dk_182 1 79 (dk_at dksJ7_getBytes_0 1 rfl rfl)
theorem dJ7_getBytes_4 : decode cJ7_getBytes 4 = .ok (.iload_n 3, 1) := dk_29 (dk_at dksJ7_getBytes_0 4 rfl rfl)
theorem dJ7_getBytes_5 : decode cJ7_getBytes 5 = .ok (.if_icmp .ne 23, 3) := dk_160 0 23 (dk_at dksJ7_getBytes_0 5 rfl rfl)
theorem dJ7_getBytes_8 : decode cJ7_getBytes 8 = .ok (.aload_n 0, 1) := dk_42 (dk_at dksJ7_getBytes_0 8 rfl rfl)
theorem dJ7_getBytes_9 : decode cJ7_getBytes 9 = .ok (.getfield 9, 3) := dk_180 0 9 (dk_at dksJ7_getBytes_0 9 rfl rfl)
theorem dJ7_getBytes_12 : decode cJ7_getBytes 12 = .ok (.iconst 0, 1) := dk_3 (dk_at dksJ7_getBytes_0 12 rfl rfl)
theorem dJ7_getBytes_13 : decode cJ7_getBytes 13 = .ok (.aload_n 1, 1) := dk_43 (dk_at dksJ7_getBytes_0 13 rfl rfl)
theorem dJ7_getBytes_14 : decode cJ7_getBytes 14 = .ok (.iload_n 2, 1) := dk_28 (dk_at dksJ7_getBytes_0 14 rfl rfl)
theorem dJ7_getBytes_15 : decode cJ7_getBytes 15 = .ok (.iload_n 3, 1) := dk_29 (dk_at dksJ7_getBytes_0 15 rfl rfl)
theorem dJ7_getBytes_16 : decode cJ7_getBytes 16 = .ok (.ishl, 1) := dk_120 (dk_at dksJ7_getBytes_0 16 rfl rfl)
theorem dJ7_getBytes_17 : decode cJ7_getBytes 17 = .ok (.aload_n 0, 1) := dk_42 (dk_at dksJ7_getBytes_0 17 rfl rfl)
theorem dJ7_getBytes_18 : decode cJ7_getBytes 18 = .ok (.getfield 9, 3) := dk_180 0 9 (dk_at dksJ7_getBytes_0 18 rfl rfl)
theorem dJ7_getBytes_21 : decode cJ7_getBytes 21 = .ok (.arraylength, 1) := dk_190 (dk_at dksJ7_getBytes_0 21 rfl rfl)
theorem dJ7_getBytes_22 : decode cJ7_getBytes 22 = .ok (.invokestatic 212, 3) := dk_184 0 212 (dk_at dksJ7_getBytes_1 0 rfl rfl)
theorem dJ7_getBytes_25 : decode cJ7_getBytes 25 = .ok (.goto 18, 3) := dk_167 0 18 (dk_at dksJ7_getBytes_1 3 rfl rfl)
theorem dJ7_getBytes_28 : decode cJ7_getBytes 28 = .ok (.aload_n 0, 1) := dk_42 (dk_at dksJ7_getBytes_1 6 rfl rfl)
theorem dJ7_getBytes_29 : decode cJ7_getBytes 29 = .ok (.getfield 9, 3) := dk_180 0 9 (dk_at dksJ7_getBytes_1 7 rfl rfl)
theorem dJ7_getBytes_32 : decode cJ7_getBytes 32 = .ok (.iconst 0, 1) := dk_3 (dk_at dksJ7_getBytes_1 10 rfl rfl)
theorem dJ7_getBytes_33 : decode cJ7_getBytes 33 = .ok (.aload_n 1, 1) := dk_43 (dk_at dksJ7_getBytes_1 11 rfl rfl)
theorem dJ7_getBytes_34 : decode cJ7_getBytes 34 = .ok (.iload_n 2, 1) := dk_28 (dk_at dksJ7_getBytes_1 12 rfl rfl)
theorem dJ7_getBytes_35 : decode cJ7_getBytes 35 = .ok (.aload_n 0, 1) := dk_42 (dk_at dksJ7_getBytes_1 13 rfl rfl)
theorem dJ7_getBytes_36 : decode cJ7_getBytes 36 = .ok (.getfield 9, 3) := dk_180 0 9 (dk_at dksJ7_getBytes_1 14 rfl rfl)
theorem dJ7_getBytes_39 : decode cJ7_getBytes 39 = .ok (.arraylength, 1) := dk_190 (dk_at dksJ7_getBytes_1 17 rfl rfl)
theorem dJ7_getBytes_40 : decode cJ7_getBytes 40 = .ok (.invokestatic 106, 3) := dk_184 0 106 (dk_at dksJ7_getBytes_1 18 rfl rfl)
theorem dJ7_getBytes_43 : decode cJ7_getBytes 43 = .ok (.return_, 1) := dk_177 (dk_at dksJ7_getBytes_1 21 rfl rfl)
abbrev cJ7_init : ByteArray := prog_40_method_53_code
def yJ7_init : MethodName := ⟨RJ7, "<init>", "(Ljava/lang/StringBuilder;)V"⟩
def dkwJ7_init_0 : List UInt8 := [42, 43, 1, 183, 1, 233, 177]
abbrev dktJ7_init_0 : List UInt8 := dkwJ7_init_0 ++ []
theorem dksJ7_init_0 : cJ7_init.data.toList.drop 0 = dktJ7_init_0 := by decide +kernel
theorem dJ7_init_0 : decode cJ7_init 0 = .ok (.aload_n 0, 1) := dk_42 (dk_at dksJ7_init_0 0 rfl rfl)
theorem dJ7_init_1 : decode cJ7_init 1 = .ok (.aload_n 1, 1) := dk_43 (dk_at dksJ7_init_0 1 rfl rfl)
theorem dJ7_init_2 : decode cJ7_init 2 = .ok (.aconst_null, 1) := dk_1 (dk_at dksJ7_init_0 2 rfl rfl)
theorem dJ7_init_3 : decode cJ7_init 3 = .ok (.invokespecial 489, 3) := dk_183 1 233 (dk_at dksJ7_init_0 3 rfl rfl)
theorem dJ7_init_6 : decode cJ7_init 6 = .ok (.return_, 1) := dk_177 (dk_at dksJ7_init_0 6 rfl rfl)
abbrev cJ7_init_2 : ByteArray := prog_40_method_150_code
def yJ7_init_2 : MethodName := ⟨RJ7, "<init>", "(Ljava/lang/AbstractStringBuilder;Ljava/lang/Void;)V"⟩
def dkwJ7_init_2_4 : List UInt8 := [181, 0, 9, 177]
abbrev dktJ7_init_2_4 : List UInt8 := dkwJ7_init_2_4 ++ []
def dkwJ7_init_2_3 : List UInt8 := [184, 0, 47, 181, 0, 15, 177, 42, 4, 181, 0, 15, 42, 45, 3, 21, 4, 4, 120, 184, 0, 54]
abbrev dktJ7_init_2_3 : List UInt8 := dkwJ7_init_2_3 ++ dktJ7_init_2_4
def dkwJ7_init_2_2 : List UInt8 := [180, 4, 24, 153, 0, 28, 42, 45, 3, 21, 4, 184, 4, 27, 181, 0, 9, 42, 42, 180, 0, 9, 21, 4]
abbrev dktJ7_init_2_2 : List UInt8 := dkwJ7_init_2_2 ++ dktJ7_init_2_3
def dkwJ7_init_2_1 : List UInt8 := [181, 0, 15, 42, 45, 3, 21, 4, 184, 0, 54, 181, 0, 9, 167, 0, 59, 178, 0, 38, 153, 0, 35, 43]
abbrev dktJ7_init_2_1 : List UInt8 := dkwJ7_init_2_1 ++ dktJ7_init_2_2
def dkwJ7_init_2_0 : List UInt8 := [42, 183, 0, 1, 43, 182, 2, 40, 78, 43, 182, 2, 37, 54, 4, 43, 182, 4, 23, 153, 0, 22, 42, 3]
abbrev dktJ7_init_2_0 : List UInt8 := dkwJ7_init_2_0 ++ dktJ7_init_2_1
theorem dksJ7_init_2_0 : cJ7_init_2.data.toList.drop 0 = dktJ7_init_2_0 := by decide +kernel
theorem dksJ7_init_2_1 : cJ7_init_2.data.toList.drop 24 = dktJ7_init_2_1 := dk_seg dksJ7_init_2_0 24 rfl rfl
theorem dksJ7_init_2_2 : cJ7_init_2.data.toList.drop 48 = dktJ7_init_2_2 := dk_seg dksJ7_init_2_1 24 rfl rfl
theorem dksJ7_init_2_3 : cJ7_init_2.data.toList.drop 72 = dktJ7_init_2_3 := dk_seg dksJ7_init_2_2 24 rfl rfl
theorem dksJ7_init_2_4 : cJ7_init_2.data.toList.drop 94 = dktJ7_init_2_4 := dk_seg dksJ7_init_2_3 22 rfl rfl
theorem dJ7_init_2_0 : decode cJ7_init_2 0 = .ok (.aload_n 0, 1) := dk_42 (dk_at dksJ7_init_2_0 0 rfl rfl)
theorem dJ7_init_2_1 : decode cJ7_init_2 1 = .ok (.invokespecial 1, 3) := dk_183 0 1 (dk_at dksJ7_init_2_0 1 rfl rfl)
theorem dJ7_init_2_4 : decode cJ7_init_2 4 = .ok (.aload_n 1, 1) := dk_43 (dk_at dksJ7_init_2_0 4 rfl rfl)
theorem dJ7_init_2_5 : decode cJ7_init_2 5 = .ok (.invokevirtual 552, 3) := dk_182 2 40 (dk_at dksJ7_init_2_0 5 rfl rfl)
theorem dJ7_init_2_8 : decode cJ7_init_2 8 = .ok (.astore_n 3, 1) := dk_78 (dk_at dksJ7_init_2_0 8 rfl rfl)
theorem dJ7_init_2_9 : decode cJ7_init_2 9 = .ok (.aload_n 1, 1) := dk_43 (dk_at dksJ7_init_2_0 9 rfl rfl)
theorem dJ7_init_2_10 : decode cJ7_init_2 10 = .ok (.invokevirtual 549, 3) := dk_182 2 37 (dk_at dksJ7_init_2_0 10 rfl rfl)
theorem dJ7_init_2_13 : decode cJ7_init_2 13 = .ok (.istore 4, 2) := dk_54 4 (dk_at dksJ7_init_2_0 13 rfl rfl)
theorem dJ7_init_2_15 : decode cJ7_init_2 15 = .ok (.aload_n 1, 1) := dk_43 (dk_at dksJ7_init_2_0 15 rfl rfl)
theorem dJ7_init_2_16 : decode cJ7_init_2 16 = .ok (.invokevirtual 1047, 3) := dk_182 4 23 (dk_at dksJ7_init_2_0 16 rfl rfl)
theorem dJ7_init_2_19 : decode cJ7_init_2 19 = .ok (.ifCond .eq 22, 3) := dk_153 0 22 (dk_at dksJ7_init_2_0 19 rfl rfl)
theorem dJ7_init_2_22 : decode cJ7_init_2 22 = .ok (.aload_n 0, 1) := dk_42 (dk_at dksJ7_init_2_0 22 rfl rfl)
theorem dJ7_init_2_23 : decode cJ7_init_2 23 = .ok (.iconst 0, 1) := dk_3 (dk_at dksJ7_init_2_0 23 rfl rfl)
theorem dJ7_init_2_24 : decode cJ7_init_2 24 = .ok (.putfield 15, 3) := dk_181 0 15 (dk_at dksJ7_init_2_1 0 rfl rfl)
theorem dJ7_init_2_27 : decode cJ7_init_2 27 = .ok (.aload_n 0, 1) := dk_42 (dk_at dksJ7_init_2_1 3 rfl rfl)
theorem dJ7_init_2_28 : decode cJ7_init_2 28 = .ok (.aload_n 3, 1) := dk_45 (dk_at dksJ7_init_2_1 4 rfl rfl)
theorem dJ7_init_2_29 : decode cJ7_init_2 29 = .ok (.iconst 0, 1) := dk_3 (dk_at dksJ7_init_2_1 5 rfl rfl)
theorem dJ7_init_2_30 : decode cJ7_init_2 30 = .ok (.iload 4, 2) := dk_21 4 (dk_at dksJ7_init_2_1 6 rfl rfl)
theorem dJ7_init_2_32 : decode cJ7_init_2 32 = .ok (.invokestatic 54, 3) := dk_184 0 54 (dk_at dksJ7_init_2_1 8 rfl rfl)
theorem dJ7_init_2_35 : decode cJ7_init_2 35 = .ok (.putfield 9, 3) := dk_181 0 9 (dk_at dksJ7_init_2_1 11 rfl rfl)
theorem dJ7_init_2_38 : decode cJ7_init_2 38 = .ok (.goto 59, 3) := dk_167 0 59 (dk_at dksJ7_init_2_1 14 rfl rfl)
theorem dJ7_init_2_41 : decode cJ7_init_2 41 = .ok (.getstatic 38, 3) := dk_178 0 38 (dk_at dksJ7_init_2_1 17 rfl rfl)
theorem dJ7_init_2_44 : decode cJ7_init_2 44 = .ok (.ifCond .eq 35, 3) := dk_153 0 35 (dk_at dksJ7_init_2_1 20 rfl rfl)
theorem dJ7_init_2_47 : decode cJ7_init_2 47 = .ok (.aload_n 1, 1) := dk_43 (dk_at dksJ7_init_2_1 23 rfl rfl)
theorem dJ7_init_2_48 : decode cJ7_init_2 48 = .ok (.getfield 1048, 3) := dk_180 4 24 (dk_at dksJ7_init_2_2 0 rfl rfl)
theorem dJ7_init_2_51 : decode cJ7_init_2 51 = .ok (.ifCond .eq 28, 3) := dk_153 0 28 (dk_at dksJ7_init_2_2 3 rfl rfl)
theorem dJ7_init_2_54 : decode cJ7_init_2 54 = .ok (.aload_n 0, 1) := dk_42 (dk_at dksJ7_init_2_2 6 rfl rfl)
theorem dJ7_init_2_55 : decode cJ7_init_2 55 = .ok (.aload_n 3, 1) := dk_45 (dk_at dksJ7_init_2_2 7 rfl rfl)
theorem dJ7_init_2_56 : decode cJ7_init_2 56 = .ok (.iconst 0, 1) := dk_3 (dk_at dksJ7_init_2_2 8 rfl rfl)
theorem dJ7_init_2_57 : decode cJ7_init_2 57 = .ok (.iload 4, 2) := dk_21 4 (dk_at dksJ7_init_2_2 9 rfl rfl)
theorem dJ7_init_2_59 : decode cJ7_init_2 59 = .ok (.invokestatic 1051, 3) := dk_184 4 27 (dk_at dksJ7_init_2_2 11 rfl rfl)
theorem dJ7_init_2_62 : decode cJ7_init_2 62 = .ok (.putfield 9, 3) := dk_181 0 9 (dk_at dksJ7_init_2_2 14 rfl rfl)
theorem dJ7_init_2_65 : decode cJ7_init_2 65 = .ok (.aload_n 0, 1) := dk_42 (dk_at dksJ7_init_2_2 17 rfl rfl)
theorem dJ7_init_2_66 : decode cJ7_init_2 66 = .ok (.aload_n 0, 1) := dk_42 (dk_at dksJ7_init_2_2 18 rfl rfl)
theorem dJ7_init_2_67 : decode cJ7_init_2 67 = .ok (.getfield 9, 3) := dk_180 0 9 (dk_at dksJ7_init_2_2 19 rfl rfl)
theorem dJ7_init_2_70 : decode cJ7_init_2 70 = .ok (.iload 4, 2) := dk_21 4 (dk_at dksJ7_init_2_2 22 rfl rfl)
theorem dJ7_init_2_72 : decode cJ7_init_2 72 = .ok (.invokestatic 47, 3) := dk_184 0 47 (dk_at dksJ7_init_2_3 0 rfl rfl)
theorem dJ7_init_2_75 : decode cJ7_init_2 75 = .ok (.putfield 15, 3) := dk_181 0 15 (dk_at dksJ7_init_2_3 3 rfl rfl)
theorem dJ7_init_2_78 : decode cJ7_init_2 78 = .ok (.return_, 1) := dk_177 (dk_at dksJ7_init_2_3 6 rfl rfl)
theorem dJ7_init_2_79 : decode cJ7_init_2 79 = .ok (.aload_n 0, 1) := dk_42 (dk_at dksJ7_init_2_3 7 rfl rfl)
theorem dJ7_init_2_80 : decode cJ7_init_2 80 = .ok (.iconst 1, 1) := dk_4 (dk_at dksJ7_init_2_3 8 rfl rfl)
theorem dJ7_init_2_81 : decode cJ7_init_2 81 = .ok (.putfield 15, 3) := dk_181 0 15 (dk_at dksJ7_init_2_3 9 rfl rfl)
theorem dJ7_init_2_84 : decode cJ7_init_2 84 = .ok (.aload_n 0, 1) := dk_42 (dk_at dksJ7_init_2_3 12 rfl rfl)
theorem dJ7_init_2_85 : decode cJ7_init_2 85 = .ok (.aload_n 3, 1) := dk_45 (dk_at dksJ7_init_2_3 13 rfl rfl)
theorem dJ7_init_2_86 : decode cJ7_init_2 86 = .ok (.iconst 0, 1) := dk_3 (dk_at dksJ7_init_2_3 14 rfl rfl)
theorem dJ7_init_2_87 : decode cJ7_init_2 87 = .ok (.iload 4, 2) := dk_21 4 (dk_at dksJ7_init_2_3 15 rfl rfl)
theorem dJ7_init_2_89 : decode cJ7_init_2 89 = .ok (.iconst 1, 1) := dk_4 (dk_at dksJ7_init_2_3 17 rfl rfl)
theorem dJ7_init_2_90 : decode cJ7_init_2 90 = .ok (.ishl, 1) := dk_120 (dk_at dksJ7_init_2_3 18 rfl rfl)
theorem dJ7_init_2_91 : decode cJ7_init_2 91 = .ok (.invokestatic 54, 3) := dk_184 0 54 (dk_at dksJ7_init_2_3 19 rfl rfl)
theorem dJ7_init_2_94 : decode cJ7_init_2 94 = .ok (.putfield 9, 3) := dk_181 0 9 (dk_at dksJ7_init_2_4 0 rfl rfl)
theorem dJ7_init_2_97 : decode cJ7_init_2 97 = .ok (.return_, 1) := dk_177 (dk_at dksJ7_init_2_4 3 rfl rfl)
abbrev cJ7_compareTo : ByteArray := prog_40_method_162_code
def yJ7_compareTo : MethodName := ⟨RJ7, "compareTo", "(Ljava/lang/Object;)I"⟩
def dkwJ7_compareTo_0 : List UInt8 := [42, 43, 192, 0, 10, 182, 4, 60, 172]
abbrev dktJ7_compareTo_0 : List UInt8 := dkwJ7_compareTo_0 ++ []
theorem dksJ7_compareTo_0 : cJ7_compareTo.data.toList.drop 0 = dktJ7_compareTo_0 := by decide +kernel
theorem dJ7_compareTo_0 : decode cJ7_compareTo 0 = .ok (.aload_n 0, 1) := dk_42 (dk_at dksJ7_compareTo_0 0 rfl rfl)
theorem dJ7_compareTo_1 : decode cJ7_compareTo 1 = .ok (.aload_n 1, 1) := dk_43 (dk_at dksJ7_compareTo_0 1 rfl rfl)
theorem dJ7_compareTo_2 : decode cJ7_compareTo 2 = .ok (.checkcast 10, 3) := dk_192 0 10 (dk_at dksJ7_compareTo_0 2 rfl rfl)
theorem dJ7_compareTo_5 : decode cJ7_compareTo 5 = .ok (.invokevirtual 1084, 3) := dk_182 4 60 (dk_at dksJ7_compareTo_0 5 rfl rfl)
theorem dJ7_compareTo_8 : decode cJ7_compareTo 8 = .ok (.ireturn, 1) := dk_172 (dk_at dksJ7_compareTo_0 8 rfl rfl)
abbrev cJ7_compareTo_2 : ByteArray := prog_40_method_71_code
def yJ7_compareTo_2 : MethodName := ⟨RJ7, "compareTo", "(Ljava/lang/String;)I"⟩
def dkwJ7_compareTo_2_2 : List UInt8 := [154, 0, 11, 44, 45, 184, 2, 79, 167, 0, 8, 44, 45, 184, 2, 82, 172]
abbrev dktJ7_compareTo_2_2 : List UInt8 := dkwJ7_compareTo_2_2 ++ []
def dkwJ7_compareTo_2_1 : List UInt8 := [160, 0, 22, 21, 4, 154, 0, 11, 44, 45, 184, 2, 74, 167, 0, 8, 44, 45, 184, 2, 78, 172, 21, 4]
abbrev dktJ7_compareTo_2_1 : List UInt8 := dkwJ7_compareTo_2_1 ++ dktJ7_compareTo_2_2
def dkwJ7_compareTo_2_0 : List UInt8 := [42, 180, 0, 9, 77, 43, 180, 0, 9, 78, 42, 182, 1, 79, 54, 4, 21, 4, 43, 182, 1, 79]
abbrev dktJ7_compareTo_2_0 : List UInt8 := dkwJ7_compareTo_2_0 ++ dktJ7_compareTo_2_1
theorem dksJ7_compareTo_2_0 : cJ7_compareTo_2.data.toList.drop 0 = dktJ7_compareTo_2_0 := by decide +kernel
theorem dksJ7_compareTo_2_1 : cJ7_compareTo_2.data.toList.drop 22 = dktJ7_compareTo_2_1 := dk_seg dksJ7_compareTo_2_0 22 rfl rfl
theorem dksJ7_compareTo_2_2 : cJ7_compareTo_2.data.toList.drop 46 = dktJ7_compareTo_2_2 := dk_seg dksJ7_compareTo_2_1 24 rfl rfl
theorem dJ7_compareTo_2_0 : decode cJ7_compareTo_2 0 = .ok (.aload_n 0, 1) := dk_42 (dk_at dksJ7_compareTo_2_0 0 rfl rfl)
theorem dJ7_compareTo_2_1 : decode cJ7_compareTo_2 1 = .ok (.getfield 9, 3) := dk_180 0 9 (dk_at dksJ7_compareTo_2_0 1 rfl rfl)
theorem dJ7_compareTo_2_4 : decode cJ7_compareTo_2 4 = .ok (.astore_n 2, 1) := dk_77 (dk_at dksJ7_compareTo_2_0 4 rfl rfl)
theorem dJ7_compareTo_2_5 : decode cJ7_compareTo_2 5 = .ok (.aload_n 1, 1) := dk_43 (dk_at dksJ7_compareTo_2_0 5 rfl rfl)
theorem dJ7_compareTo_2_6 : decode cJ7_compareTo_2 6 = .ok (.getfield 9, 3) := dk_180 0 9 (dk_at dksJ7_compareTo_2_0 6 rfl rfl)
theorem dJ7_compareTo_2_9 : decode cJ7_compareTo_2 9 = .ok (.astore_n 3, 1) := dk_78 (dk_at dksJ7_compareTo_2_0 9 rfl rfl)
theorem dJ7_compareTo_2_10 : decode cJ7_compareTo_2 10 = .ok (.aload_n 0, 1) := dk_42 (dk_at dksJ7_compareTo_2_0 10 rfl rfl)
theorem dJ7_compareTo_2_11 : decode cJ7_compareTo_2 11 = .ok (.invokevirtual 335, 3) := dk_182 1 79 (dk_at dksJ7_compareTo_2_0 11 rfl rfl)
theorem dJ7_compareTo_2_14 : decode cJ7_compareTo_2 14 = .ok (.istore 4, 2) := dk_54 4 (dk_at dksJ7_compareTo_2_0 14 rfl rfl)
theorem dJ7_compareTo_2_16 : decode cJ7_compareTo_2 16 = .ok (.iload 4, 2) := dk_21 4 (dk_at dksJ7_compareTo_2_0 16 rfl rfl)
theorem dJ7_compareTo_2_18 : decode cJ7_compareTo_2 18 = .ok (.aload_n 1, 1) := dk_43 (dk_at dksJ7_compareTo_2_0 18 rfl rfl)
theorem dJ7_compareTo_2_19 : decode cJ7_compareTo_2 19 = .ok (.invokevirtual 335, 3) := dk_182 1 79 (dk_at dksJ7_compareTo_2_0 19 rfl rfl)
theorem dJ7_compareTo_2_22 : decode cJ7_compareTo_2 22 = .ok (.if_icmp .ne 22, 3) := dk_160 0 22 (dk_at dksJ7_compareTo_2_1 0 rfl rfl)
theorem dJ7_compareTo_2_25 : decode cJ7_compareTo_2 25 = .ok (.iload 4, 2) := dk_21 4 (dk_at dksJ7_compareTo_2_1 3 rfl rfl)
theorem dJ7_compareTo_2_27 : decode cJ7_compareTo_2 27 = .ok (.ifCond .ne 11, 3) := dk_154 0 11 (dk_at dksJ7_compareTo_2_1 5 rfl rfl)
theorem dJ7_compareTo_2_30 : decode cJ7_compareTo_2 30 = .ok (.aload_n 2, 1) := dk_44 (dk_at dksJ7_compareTo_2_1 8 rfl rfl)
theorem dJ7_compareTo_2_31 : decode cJ7_compareTo_2 31 = .ok (.aload_n 3, 1) := dk_45 (dk_at dksJ7_compareTo_2_1 9 rfl rfl)
theorem dJ7_compareTo_2_32 : decode cJ7_compareTo_2 32 = .ok (.invokestatic 586, 3) := dk_184 2 74 (dk_at dksJ7_compareTo_2_1 10 rfl rfl)
theorem dJ7_compareTo_2_35 : decode cJ7_compareTo_2 35 = .ok (.goto 8, 3) := dk_167 0 8 (dk_at dksJ7_compareTo_2_1 13 rfl rfl)
theorem dJ7_compareTo_2_38 : decode cJ7_compareTo_2 38 = .ok (.aload_n 2, 1) := dk_44 (dk_at dksJ7_compareTo_2_1 16 rfl rfl)
theorem dJ7_compareTo_2_39 : decode cJ7_compareTo_2 39 = .ok (.aload_n 3, 1) := dk_45 (dk_at dksJ7_compareTo_2_1 17 rfl rfl)
theorem dJ7_compareTo_2_40 : decode cJ7_compareTo_2 40 = .ok (.invokestatic 590, 3) := dk_184 2 78 (dk_at dksJ7_compareTo_2_1 18 rfl rfl)
theorem dJ7_compareTo_2_43 : decode cJ7_compareTo_2 43 = .ok (.ireturn, 1) := dk_172 (dk_at dksJ7_compareTo_2_1 21 rfl rfl)
theorem dJ7_compareTo_2_44 : decode cJ7_compareTo_2 44 = .ok (.iload 4, 2) := dk_21 4 (dk_at dksJ7_compareTo_2_1 22 rfl rfl)
theorem dJ7_compareTo_2_46 : decode cJ7_compareTo_2 46 = .ok (.ifCond .ne 11, 3) := dk_154 0 11 (dk_at dksJ7_compareTo_2_2 0 rfl rfl)
theorem dJ7_compareTo_2_49 : decode cJ7_compareTo_2 49 = .ok (.aload_n 2, 1) := dk_44 (dk_at dksJ7_compareTo_2_2 3 rfl rfl)
theorem dJ7_compareTo_2_50 : decode cJ7_compareTo_2 50 = .ok (.aload_n 3, 1) := dk_45 (dk_at dksJ7_compareTo_2_2 4 rfl rfl)
theorem dJ7_compareTo_2_51 : decode cJ7_compareTo_2 51 = .ok (.invokestatic 591, 3) := dk_184 2 79 (dk_at dksJ7_compareTo_2_2 5 rfl rfl)
theorem dJ7_compareTo_2_54 : decode cJ7_compareTo_2 54 = .ok (.goto 8, 3) := dk_167 0 8 (dk_at dksJ7_compareTo_2_2 8 rfl rfl)
theorem dJ7_compareTo_2_57 : decode cJ7_compareTo_2 57 = .ok (.aload_n 2, 1) := dk_44 (dk_at dksJ7_compareTo_2_2 11 rfl rfl)
theorem dJ7_compareTo_2_58 : decode cJ7_compareTo_2 58 = .ok (.aload_n 3, 1) := dk_45 (dk_at dksJ7_compareTo_2_2 12 rfl rfl)
theorem dJ7_compareTo_2_59 : decode cJ7_compareTo_2 59 = .ok (.invokestatic 594, 3) := dk_184 2 82 (dk_at dksJ7_compareTo_2_2 13 rfl rfl)
theorem dJ7_compareTo_2_62 : decode cJ7_compareTo_2 62 = .ok (.ireturn, 1) := dk_172 (dk_at dksJ7_compareTo_2_2 16 rfl rfl)
abbrev cJ7_checkOffset : ByteArray := prog_40_method_156_code
def yJ7_checkOffset : MethodName := ⟨RJ7, "checkOffset", "(II)V"⟩
def dkwJ7_checkOffset_0 : List UInt8 := [26, 27, 27, 178, 4, 29, 184, 4, 38, 87, 177]
abbrev dktJ7_checkOffset_0 : List UInt8 := dkwJ7_checkOffset_0 ++ []
theorem dksJ7_checkOffset_0 : cJ7_checkOffset.data.toList.drop 0 = dktJ7_checkOffset_0 := by decide +kernel
theorem dJ7_checkOffset_0 : decode cJ7_checkOffset 0 = .ok (.iload_n 0, 1) := dk_26 (dk_at dksJ7_checkOffset_0 0 rfl rfl)
theorem dJ7_checkOffset_1 : decode cJ7_checkOffset 1 = .ok (.iload_n 1, 1) := dk_27 (dk_at dksJ7_checkOffset_0 1 rfl rfl)
theorem dJ7_checkOffset_2 : decode cJ7_checkOffset 2 = .ok (.iload_n 1, 1) := dk_27 (dk_at dksJ7_checkOffset_0 2 rfl rfl)
theorem dJ7_checkOffset_3 : decode cJ7_checkOffset 3 = .ok (.getstatic 1053, 3) := dk_178 4 29 (dk_at dksJ7_checkOffset_0 3 rfl rfl)
theorem dJ7_checkOffset_6 : decode cJ7_checkOffset 6 = .ok (.invokestatic 1062, 3) := dk_184 4 38 (dk_at dksJ7_checkOffset_0 6 rfl rfl)
theorem dJ7_checkOffset_9 : decode cJ7_checkOffset 9 = .ok (.pop, 1) := dk_87 (dk_at dksJ7_checkOffset_0 9 rfl rfl)
theorem dJ7_checkOffset_10 : decode cJ7_checkOffset 10 = .ok (.return_, 1) := dk_177 (dk_at dksJ7_checkOffset_0 10 rfl rfl)
abbrev cJ7_hashCode : ByteArray := prog_40_method_78_code
def yJ7_hashCode : MethodName := ⟨RJ7, "hashCode", "()I"⟩
def dkwJ7_hashCode_2 : List UInt8 := [181, 0, 23, 167, 0, 8, 42, 27, 181, 0, 19, 27, 172]
abbrev dktJ7_hashCode_2 : List UInt8 := dkwJ7_hashCode_2 ++ []
def dkwJ7_hashCode_1 : List UInt8 := [180, 0, 9, 184, 2, 116, 167, 0, 10, 42, 180, 0, 9, 184, 2, 120, 60, 27, 154, 0, 11, 42, 4]
abbrev dktJ7_hashCode_1 : List UInt8 := dkwJ7_hashCode_1 ++ dktJ7_hashCode_2
def dkwJ7_hashCode_0 : List UInt8 := [42, 180, 0, 19, 60, 27, 154, 0, 52, 42, 180, 0, 23, 154, 0, 45, 42, 182, 1, 236, 153, 0, 13, 42]
abbrev dktJ7_hashCode_0 : List UInt8 := dkwJ7_hashCode_0 ++ dktJ7_hashCode_1
theorem dksJ7_hashCode_0 : cJ7_hashCode.data.toList.drop 0 = dktJ7_hashCode_0 := by decide +kernel
theorem dksJ7_hashCode_1 : cJ7_hashCode.data.toList.drop 24 = dktJ7_hashCode_1 := dk_seg dksJ7_hashCode_0 24 rfl rfl
theorem dksJ7_hashCode_2 : cJ7_hashCode.data.toList.drop 47 = dktJ7_hashCode_2 := dk_seg dksJ7_hashCode_1 23 rfl rfl
theorem dJ7_hashCode_0 : decode cJ7_hashCode 0 = .ok (.aload_n 0, 1) := dk_42 (dk_at dksJ7_hashCode_0 0 rfl rfl)
theorem dJ7_hashCode_1 : decode cJ7_hashCode 1 = .ok (.getfield 19, 3) := dk_180 0 19 (dk_at dksJ7_hashCode_0 1 rfl rfl)
theorem dJ7_hashCode_4 : decode cJ7_hashCode 4 = .ok (.istore_n 1, 1) := dk_60 (dk_at dksJ7_hashCode_0 4 rfl rfl)
theorem dJ7_hashCode_5 : decode cJ7_hashCode 5 = .ok (.iload_n 1, 1) := dk_27 (dk_at dksJ7_hashCode_0 5 rfl rfl)
theorem dJ7_hashCode_6 : decode cJ7_hashCode 6 = .ok (.ifCond .ne 52, 3) := dk_154 0 52 (dk_at dksJ7_hashCode_0 6 rfl rfl)
theorem dJ7_hashCode_9 : decode cJ7_hashCode 9 = .ok (.aload_n 0, 1) := dk_42 (dk_at dksJ7_hashCode_0 9 rfl rfl)
theorem dJ7_hashCode_10 : decode cJ7_hashCode 10 = .ok (.getfield 23, 3) := dk_180 0 23 (dk_at dksJ7_hashCode_0 10 rfl rfl)
theorem dJ7_hashCode_13 : decode cJ7_hashCode 13 = .ok (.ifCond .ne 45, 3) := dk_154 0 45 (dk_at dksJ7_hashCode_0 13 rfl rfl)
theorem dJ7_hashCode_16 : decode cJ7_hashCode 16 = .ok (.aload_n 0, 1) := dk_42 (dk_at dksJ7_hashCode_0 16 rfl rfl)
theorem dJ7_hashCode_17 : decode cJ7_hashCode 17 = .ok (.invokevirtual 492, 3) := dk_182 1 236 (dk_at dksJ7_hashCode_0 17 rfl rfl)
theorem dJ7_hashCode_20 : decode cJ7_hashCode 20 = .ok (.ifCond .eq 13, 3) := dk_153 0 13 (dk_at dksJ7_hashCode_0 20 rfl rfl)
theorem dJ7_hashCode_23 : decode cJ7_hashCode 23 = .ok (.aload_n 0, 1) := dk_42 (dk_at dksJ7_hashCode_0 23 rfl rfl)
theorem dJ7_hashCode_24 : decode cJ7_hashCode 24 = .ok (.getfield 9, 3) := dk_180 0 9 (dk_at dksJ7_hashCode_1 0 rfl rfl)
theorem dJ7_hashCode_27 : decode cJ7_hashCode 27 = .ok (.invokestatic 628, 3) := dk_184 2 116 (dk_at dksJ7_hashCode_1 3 rfl rfl)
theorem dJ7_hashCode_30 : decode cJ7_hashCode 30 = .ok (.goto 10, 3) := dk_167 0 10 (dk_at dksJ7_hashCode_1 6 rfl rfl)
theorem dJ7_hashCode_33 : decode cJ7_hashCode 33 = .ok (.aload_n 0, 1) := dk_42 (dk_at dksJ7_hashCode_1 9 rfl rfl)
theorem dJ7_hashCode_34 : decode cJ7_hashCode 34 = .ok (.getfield 9, 3) := dk_180 0 9 (dk_at dksJ7_hashCode_1 10 rfl rfl)
theorem dJ7_hashCode_37 : decode cJ7_hashCode 37 = .ok (.invokestatic 632, 3) := dk_184 2 120 (dk_at dksJ7_hashCode_1 13 rfl rfl)
theorem dJ7_hashCode_40 : decode cJ7_hashCode 40 = .ok (.istore_n 1, 1) := dk_60 (dk_at dksJ7_hashCode_1 16 rfl rfl)
theorem dJ7_hashCode_41 : decode cJ7_hashCode 41 = .ok (.iload_n 1, 1) := dk_27 (dk_at dksJ7_hashCode_1 17 rfl rfl)
theorem dJ7_hashCode_42 : decode cJ7_hashCode 42 = .ok (.ifCond .ne 11, 3) := dk_154 0 11 (dk_at dksJ7_hashCode_1 18 rfl rfl)
theorem dJ7_hashCode_45 : decode cJ7_hashCode 45 = .ok (.aload_n 0, 1) := dk_42 (dk_at dksJ7_hashCode_1 21 rfl rfl)
theorem dJ7_hashCode_46 : decode cJ7_hashCode 46 = .ok (.iconst 1, 1) := dk_4 (dk_at dksJ7_hashCode_1 22 rfl rfl)
theorem dJ7_hashCode_47 : decode cJ7_hashCode 47 = .ok (.putfield 23, 3) := dk_181 0 23 (dk_at dksJ7_hashCode_2 0 rfl rfl)
theorem dJ7_hashCode_50 : decode cJ7_hashCode 50 = .ok (.goto 8, 3) := dk_167 0 8 (dk_at dksJ7_hashCode_2 3 rfl rfl)
theorem dJ7_hashCode_53 : decode cJ7_hashCode 53 = .ok (.aload_n 0, 1) := dk_42 (dk_at dksJ7_hashCode_2 6 rfl rfl)
theorem dJ7_hashCode_54 : decode cJ7_hashCode 54 = .ok (.iload_n 1, 1) := dk_27 (dk_at dksJ7_hashCode_2 7 rfl rfl)
theorem dJ7_hashCode_55 : decode cJ7_hashCode 55 = .ok (.putfield 19, 3) := dk_181 0 19 (dk_at dksJ7_hashCode_2 8 rfl rfl)
theorem dJ7_hashCode_58 : decode cJ7_hashCode 58 = .ok (.iload_n 1, 1) := dk_27 (dk_at dksJ7_hashCode_2 11 rfl rfl)
theorem dJ7_hashCode_59 : decode cJ7_hashCode 59 = .ok (.ireturn, 1) := dk_172 (dk_at dksJ7_hashCode_2 12 rfl rfl)
abbrev cJ7_isLatin1 : ByteArray := prog_40_method_154_code
def yJ7_isLatin1 : MethodName := ⟨RJ7, "isLatin1", "()Z"⟩
def dkwJ7_isLatin1_0 : List UInt8 := [178, 0, 38, 153, 0, 14, 42, 180, 0, 15, 154, 0, 7, 4, 167, 0, 4, 3, 172]
abbrev dktJ7_isLatin1_0 : List UInt8 := dkwJ7_isLatin1_0 ++ []
theorem dksJ7_isLatin1_0 : cJ7_isLatin1.data.toList.drop 0 = dktJ7_isLatin1_0 := by decide +kernel
theorem dJ7_isLatin1_0 : decode cJ7_isLatin1 0 = .ok (.getstatic 38, 3) := dk_178 0 38 (dk_at dksJ7_isLatin1_0 0 rfl rfl)
theorem dJ7_isLatin1_3 : decode cJ7_isLatin1 3 = .ok (.ifCond .eq 14, 3) := dk_153 0 14 (dk_at dksJ7_isLatin1_0 3 rfl rfl)
theorem dJ7_isLatin1_6 : decode cJ7_isLatin1 6 = .ok (.aload_n 0, 1) := dk_42 (dk_at dksJ7_isLatin1_0 6 rfl rfl)
theorem dJ7_isLatin1_7 : decode cJ7_isLatin1 7 = .ok (.getfield 15, 3) := dk_180 0 15 (dk_at dksJ7_isLatin1_0 7 rfl rfl)
theorem dJ7_isLatin1_10 : decode cJ7_isLatin1 10 = .ok (.ifCond .ne 7, 3) := dk_154 0 7 (dk_at dksJ7_isLatin1_0 10 rfl rfl)
theorem dJ7_isLatin1_13 : decode cJ7_isLatin1 13 = .ok (.iconst 1, 1) := dk_4 (dk_at dksJ7_isLatin1_0 13 rfl rfl)
theorem dJ7_isLatin1_14 : decode cJ7_isLatin1 14 = .ok (.goto 4, 3) := dk_167 0 4 (dk_at dksJ7_isLatin1_0 14 rfl rfl)
theorem dJ7_isLatin1_17 : decode cJ7_isLatin1 17 = .ok (.iconst 0, 1) := dk_3 (dk_at dksJ7_isLatin1_0 17 rfl rfl)
theorem dJ7_isLatin1_18 : decode cJ7_isLatin1 18 = .ok (.ireturn, 1) := dk_172 (dk_at dksJ7_isLatin1_0 18 rfl rfl)
abbrev cJ7_equals : ByteArray := prog_40_method_66_code
def yJ7_equals : MethodName := ⟨RJ7, "equals", "(Ljava/lang/Object;)Z"⟩
def dkwJ7_equals_2 : List UInt8 := [184, 2, 29, 153, 0, 7, 4, 167, 0, 4, 3, 172]
abbrev dktJ7_equals_2 : List UInt8 := dkwJ7_equals_2 ++ []
def dkwJ7_equals_1 : List UInt8 := [153, 0, 14, 42, 180, 0, 15, 44, 180, 0, 15, 160, 0, 21, 42, 180, 0, 9, 44, 180, 0, 9]
abbrev dktJ7_equals_1 : List UInt8 := dkwJ7_equals_1 ++ dktJ7_equals_2
def dkwJ7_equals_0 : List UInt8 := [42, 43, 166, 0, 5, 4, 172, 43, 193, 0, 10, 153, 0, 43, 43, 192, 0, 10, 77, 178, 0, 38]
abbrev dktJ7_equals_0 : List UInt8 := dkwJ7_equals_0 ++ dktJ7_equals_1
theorem dksJ7_equals_0 : cJ7_equals.data.toList.drop 0 = dktJ7_equals_0 := by decide +kernel
theorem dksJ7_equals_1 : cJ7_equals.data.toList.drop 22 = dktJ7_equals_1 := dk_seg dksJ7_equals_0 22 rfl rfl
theorem dksJ7_equals_2 : cJ7_equals.data.toList.drop 44 = dktJ7_equals_2 := dk_seg dksJ7_equals_1 22 rfl rfl
theorem dJ7_equals_0 : decode cJ7_equals 0 = .ok (.aload_n 0, 1) := dk_42 (dk_at dksJ7_equals_0 0 rfl rfl)
theorem dJ7_equals_1 : decode cJ7_equals 1 = .ok (.aload_n 1, 1) := dk_43 (dk_at dksJ7_equals_0 1 rfl rfl)
theorem dJ7_equals_2 : decode cJ7_equals 2 = .ok (.if_acmp .ne 5, 3) := dk_166 0 5 (dk_at dksJ7_equals_0 2 rfl rfl)
theorem dJ7_equals_5 : decode cJ7_equals 5 = .ok (.iconst 1, 1) := dk_4 (dk_at dksJ7_equals_0 5 rfl rfl)
theorem dJ7_equals_6 : decode cJ7_equals 6 = .ok (.ireturn, 1) := dk_172 (dk_at dksJ7_equals_0 6 rfl rfl)
theorem dJ7_equals_7 : decode cJ7_equals 7 = .ok (.aload_n 1, 1) := dk_43 (dk_at dksJ7_equals_0 7 rfl rfl)
theorem dJ7_equals_8 : decode cJ7_equals 8 = .ok (.instanceof 10, 3) := dk_193 0 10 (dk_at dksJ7_equals_0 8 rfl rfl)
theorem dJ7_equals_11 : decode cJ7_equals 11 = .ok (.ifCond .eq 43, 3) := dk_153 0 43 (dk_at dksJ7_equals_0 11 rfl rfl)
theorem dJ7_equals_14 : decode cJ7_equals 14 = .ok (.aload_n 1, 1) := dk_43 (dk_at dksJ7_equals_0 14 rfl rfl)
theorem dJ7_equals_15 : decode cJ7_equals 15 = .ok (.checkcast 10, 3) := dk_192 0 10 (dk_at dksJ7_equals_0 15 rfl rfl)
theorem dJ7_equals_18 : decode cJ7_equals 18 = .ok (.astore_n 2, 1) := dk_77 (dk_at dksJ7_equals_0 18 rfl rfl)
theorem dJ7_equals_19 : decode cJ7_equals 19 = .ok (.getstatic 38, 3) := dk_178 0 38 (dk_at dksJ7_equals_0 19 rfl rfl)
theorem dJ7_equals_22 : decode cJ7_equals 22 = .ok (.ifCond .eq 14, 3) := dk_153 0 14 (dk_at dksJ7_equals_1 0 rfl rfl)
theorem dJ7_equals_25 : decode cJ7_equals 25 = .ok (.aload_n 0, 1) := dk_42 (dk_at dksJ7_equals_1 3 rfl rfl)
theorem dJ7_equals_26 : decode cJ7_equals 26 = .ok (.getfield 15, 3) := dk_180 0 15 (dk_at dksJ7_equals_1 4 rfl rfl)
theorem dJ7_equals_29 : decode cJ7_equals 29 = .ok (.aload_n 2, 1) := dk_44 (dk_at dksJ7_equals_1 7 rfl rfl)
theorem dJ7_equals_30 : decode cJ7_equals 30 = .ok (.getfield 15, 3) := dk_180 0 15 (dk_at dksJ7_equals_1 8 rfl rfl)
theorem dJ7_equals_33 : decode cJ7_equals 33 = .ok (.if_icmp .ne 21, 3) := dk_160 0 21 (dk_at dksJ7_equals_1 11 rfl rfl)
theorem dJ7_equals_36 : decode cJ7_equals 36 = .ok (.aload_n 0, 1) := dk_42 (dk_at dksJ7_equals_1 14 rfl rfl)
theorem dJ7_equals_37 : decode cJ7_equals 37 = .ok (.getfield 9, 3) := dk_180 0 9 (dk_at dksJ7_equals_1 15 rfl rfl)
theorem dJ7_equals_40 : decode cJ7_equals 40 = .ok (.aload_n 2, 1) := dk_44 (dk_at dksJ7_equals_1 18 rfl rfl)
theorem dJ7_equals_41 : decode cJ7_equals 41 = .ok (.getfield 9, 3) := dk_180 0 9 (dk_at dksJ7_equals_1 19 rfl rfl)
theorem dJ7_equals_44 : decode cJ7_equals 44 = .ok (.invokestatic 541, 3) := dk_184 2 29 (dk_at dksJ7_equals_2 0 rfl rfl)
theorem dJ7_equals_47 : decode cJ7_equals 47 = .ok (.ifCond .eq 7, 3) := dk_153 0 7 (dk_at dksJ7_equals_2 3 rfl rfl)
theorem dJ7_equals_50 : decode cJ7_equals 50 = .ok (.iconst 1, 1) := dk_4 (dk_at dksJ7_equals_2 6 rfl rfl)
theorem dJ7_equals_51 : decode cJ7_equals 51 = .ok (.goto 4, 3) := dk_167 0 4 (dk_at dksJ7_equals_2 7 rfl rfl)
theorem dJ7_equals_54 : decode cJ7_equals 54 = .ok (.iconst 0, 1) := dk_3 (dk_at dksJ7_equals_2 10 rfl rfl)
theorem dJ7_equals_55 : decode cJ7_equals 55 = .ok (.ireturn, 1) := dk_172 (dk_at dksJ7_equals_2 11 rfl rfl)
abbrev cJ7_checkIndex : ByteArray := prog_40_method_155_code
def yJ7_checkIndex : MethodName := ⟨RJ7, "checkIndex", "(II)V"⟩
def dkwJ7_checkIndex_0 : List UInt8 := [26, 27, 178, 4, 29, 184, 4, 35, 87, 177]
abbrev dktJ7_checkIndex_0 : List UInt8 := dkwJ7_checkIndex_0 ++ []
theorem dksJ7_checkIndex_0 : cJ7_checkIndex.data.toList.drop 0 = dktJ7_checkIndex_0 := by decide +kernel
theorem dJ7_checkIndex_0 : decode cJ7_checkIndex 0 = .ok (.iload_n 0, 1) := dk_26 (dk_at dksJ7_checkIndex_0 0 rfl rfl)
theorem dJ7_checkIndex_1 : decode cJ7_checkIndex 1 = .ok (.iload_n 1, 1) := dk_27 (dk_at dksJ7_checkIndex_0 1 rfl rfl)
theorem dJ7_checkIndex_2 : decode cJ7_checkIndex 2 = .ok (.getstatic 1053, 3) := dk_178 4 29 (dk_at dksJ7_checkIndex_0 2 rfl rfl)
theorem dJ7_checkIndex_5 : decode cJ7_checkIndex 5 = .ok (.invokestatic 1059, 3) := dk_184 4 35 (dk_at dksJ7_checkIndex_0 5 rfl rfl)
theorem dJ7_checkIndex_8 : decode cJ7_checkIndex 8 = .ok (.pop, 1) := dk_87 (dk_at dksJ7_checkIndex_0 8 rfl rfl)
theorem dJ7_checkIndex_9 : decode cJ7_checkIndex 9 = .ok (.return_, 1) := dk_177 (dk_at dksJ7_checkIndex_0 9 rfl rfl)
abbrev cJ7_value : ByteArray := prog_40_method_153_code
def yJ7_value : MethodName := ⟨RJ7, "value", "()[B"⟩
theorem dJ7_value_0 : decode cJ7_value 0 = .ok (.aload_n 0, 1) := by decide +kernel
theorem dJ7_value_1 : decode cJ7_value 1 = .ok (.getfield 9, 3) := by decide +kernel
theorem dJ7_value_4 : decode cJ7_value 4 = .ok (.areturn, 1) := by decide +kernel
abbrev cJ7_charAt : ByteArray := prog_40_method_56_code
def yJ7_charAt : MethodName := ⟨RJ7, "charAt", "(I)C"⟩
def dkwJ7_charAt_1 : List UInt8 := [172]
abbrev dktJ7_charAt_1 : List UInt8 := dkwJ7_charAt_1 ++ []
def dkwJ7_charAt_0 : List UInt8 := [42, 182, 1, 236, 153, 0, 12, 42, 180, 0, 9, 27, 184, 1, 239, 172, 42, 180, 0, 9, 27, 184, 1, 242]
abbrev dktJ7_charAt_0 : List UInt8 := dkwJ7_charAt_0 ++ dktJ7_charAt_1
theorem dksJ7_charAt_0 : cJ7_charAt.data.toList.drop 0 = dktJ7_charAt_0 := by decide +kernel
theorem dksJ7_charAt_1 : cJ7_charAt.data.toList.drop 24 = dktJ7_charAt_1 := dk_seg dksJ7_charAt_0 24 rfl rfl
theorem dJ7_charAt_0 : decode cJ7_charAt 0 = .ok (.aload_n 0, 1) := dk_42 (dk_at dksJ7_charAt_0 0 rfl rfl)
theorem dJ7_charAt_1 : decode cJ7_charAt 1 = .ok (.invokevirtual 492, 3) := dk_182 1 236 (dk_at dksJ7_charAt_0 1 rfl rfl)
theorem dJ7_charAt_4 : decode cJ7_charAt 4 = .ok (.ifCond .eq 12, 3) := dk_153 0 12 (dk_at dksJ7_charAt_0 4 rfl rfl)
theorem dJ7_charAt_7 : decode cJ7_charAt 7 = .ok (.aload_n 0, 1) := dk_42 (dk_at dksJ7_charAt_0 7 rfl rfl)
theorem dJ7_charAt_8 : decode cJ7_charAt 8 = .ok (.getfield 9, 3) := dk_180 0 9 (dk_at dksJ7_charAt_0 8 rfl rfl)
theorem dJ7_charAt_11 : decode cJ7_charAt 11 = .ok (.iload_n 1, 1) := dk_27 (dk_at dksJ7_charAt_0 11 rfl rfl)
theorem dJ7_charAt_12 : decode cJ7_charAt 12 = .ok (.invokestatic 495, 3) := dk_184 1 239 (dk_at dksJ7_charAt_0 12 rfl rfl)
theorem dJ7_charAt_15 : decode cJ7_charAt 15 = .ok (.ireturn, 1) := dk_172 (dk_at dksJ7_charAt_0 15 rfl rfl)
theorem dJ7_charAt_16 : decode cJ7_charAt 16 = .ok (.aload_n 0, 1) := dk_42 (dk_at dksJ7_charAt_0 16 rfl rfl)
theorem dJ7_charAt_17 : decode cJ7_charAt 17 = .ok (.getfield 9, 3) := dk_180 0 9 (dk_at dksJ7_charAt_0 17 rfl rfl)
theorem dJ7_charAt_20 : decode cJ7_charAt 20 = .ok (.iload_n 1, 1) := dk_27 (dk_at dksJ7_charAt_0 20 rfl rfl)
theorem dJ7_charAt_21 : decode cJ7_charAt 21 = .ok (.invokestatic 498, 3) := dk_184 1 242 (dk_at dksJ7_charAt_0 21 rfl rfl)
theorem dJ7_charAt_24 : decode cJ7_charAt 24 = .ok (.ireturn, 1) := dk_172 (dk_at dksJ7_charAt_1 0 rfl rfl)
abbrev cJ7_valueOf : ByteArray := prog_40_method_133_code
def yJ7_valueOf : MethodName := ⟨RJ7, "valueOf", "(Ljava/lang/Object;)Ljava/lang/String;"⟩
def dkwJ7_valueOf_0 : List UInt8 := [42, 199, 0, 9, 19, 3, 237, 167, 0, 7, 42, 182, 3, 239, 176]
abbrev dktJ7_valueOf_0 : List UInt8 := dkwJ7_valueOf_0 ++ []
theorem dksJ7_valueOf_0 : cJ7_valueOf.data.toList.drop 0 = dktJ7_valueOf_0 := by decide +kernel
theorem dJ7_valueOf_0 : decode cJ7_valueOf 0 = .ok (.aload_n 0, 1) := dk_42 (dk_at dksJ7_valueOf_0 0 rfl rfl)
theorem dJ7_valueOf_1 : decode cJ7_valueOf 1 = .ok (.ifnonnull 9, 3) := dk_199 0 9 (dk_at dksJ7_valueOf_0 1 rfl rfl)
theorem dJ7_valueOf_4 : decode cJ7_valueOf 4 = .ok (.ldc_w 1005, 3) := dk_19 3 237 (dk_at dksJ7_valueOf_0 4 rfl rfl)
theorem dJ7_valueOf_7 : decode cJ7_valueOf 7 = .ok (.goto 7, 3) := dk_167 0 7 (dk_at dksJ7_valueOf_0 7 rfl rfl)
theorem dJ7_valueOf_10 : decode cJ7_valueOf 10 = .ok (.aload_n 0, 1) := dk_42 (dk_at dksJ7_valueOf_0 10 rfl rfl)
theorem dJ7_valueOf_11 : decode cJ7_valueOf 11 = .ok (.invokevirtual 1007, 3) := dk_182 3 239 (dk_at dksJ7_valueOf_0 11 rfl rfl)
theorem dJ7_valueOf_14 : decode cJ7_valueOf 14 = .ok (.areturn, 1) := dk_176 (dk_at dksJ7_valueOf_0 14 rfl rfl)
abbrev cJ7_init_3 : ByteArray := prog_40_method_151_code
def yJ7_init_3 : MethodName := ⟨RJ7, "<init>", "([BB)V"⟩
def dkwJ7_init_3_0 : List UInt8 := [42, 183, 0, 1, 42, 43, 181, 0, 9, 42, 28, 181, 0, 15, 177]
abbrev dktJ7_init_3_0 : List UInt8 := dkwJ7_init_3_0 ++ []
theorem dksJ7_init_3_0 : cJ7_init_3.data.toList.drop 0 = dktJ7_init_3_0 := by decide +kernel
theorem dJ7_init_3_0 : decode cJ7_init_3 0 = .ok (.aload_n 0, 1) := dk_42 (dk_at dksJ7_init_3_0 0 rfl rfl)
theorem dJ7_init_3_1 : decode cJ7_init_3 1 = .ok (.invokespecial 1, 3) := dk_183 0 1 (dk_at dksJ7_init_3_0 1 rfl rfl)
theorem dJ7_init_3_4 : decode cJ7_init_3 4 = .ok (.aload_n 0, 1) := dk_42 (dk_at dksJ7_init_3_0 4 rfl rfl)
theorem dJ7_init_3_5 : decode cJ7_init_3 5 = .ok (.aload_n 1, 1) := dk_43 (dk_at dksJ7_init_3_0 5 rfl rfl)
theorem dJ7_init_3_6 : decode cJ7_init_3 6 = .ok (.putfield 9, 3) := dk_181 0 9 (dk_at dksJ7_init_3_0 6 rfl rfl)
theorem dJ7_init_3_9 : decode cJ7_init_3 9 = .ok (.aload_n 0, 1) := dk_42 (dk_at dksJ7_init_3_0 9 rfl rfl)
theorem dJ7_init_3_10 : decode cJ7_init_3 10 = .ok (.iload_n 2, 1) := dk_28 (dk_at dksJ7_init_3_0 10 rfl rfl)
theorem dJ7_init_3_11 : decode cJ7_init_3 11 = .ok (.putfield 15, 3) := dk_181 0 15 (dk_at dksJ7_init_3_0 11 rfl rfl)
theorem dJ7_init_3_14 : decode cJ7_init_3 14 = .ok (.return_, 1) := dk_177 (dk_at dksJ7_init_3_0 14 rfl rfl)
abbrev cJ7_toString : ByteArray := prog_40_method_126_code
def yJ7_toString : MethodName := ⟨RJ7, "toString", "()Ljava/lang/String;"⟩
theorem dJ7_toString_0 : decode cJ7_toString 0 = .ok (.aload_n 0, 1) := by decide +kernel
theorem dJ7_toString_1 : decode cJ7_toString 1 = .ok (.areturn, 1) := by decide +kernel
abbrev cJ7_startsWith : ByteArray := prog_40_method_76_code
def yJ7_startsWith : MethodName := ⟨RJ7, "startsWith", "(Ljava/lang/String;)Z"⟩
def dkwJ7_startsWith_0 : List UInt8 := [42, 43, 3, 182, 2, 112, 172]
abbrev dktJ7_startsWith_0 : List UInt8 := dkwJ7_startsWith_0 ++ []
theorem dksJ7_startsWith_0 : cJ7_startsWith.data.toList.drop 0 = dktJ7_startsWith_0 := by decide +kernel
theorem dJ7_startsWith_0 : decode cJ7_startsWith 0 = .ok (.aload_n 0, 1) := dk_42 (dk_at dksJ7_startsWith_0 0 rfl rfl)
theorem dJ7_startsWith_1 : decode cJ7_startsWith 1 = .ok (.aload_n 1, 1) := dk_43 (dk_at dksJ7_startsWith_0 1 rfl rfl)
theorem dJ7_startsWith_2 : decode cJ7_startsWith 2 = .ok (.iconst 0, 1) := dk_3 (dk_at dksJ7_startsWith_0 2 rfl rfl)
theorem dJ7_startsWith_3 : decode cJ7_startsWith 3 = .ok (.invokevirtual 624, 3) := dk_182 2 112 (dk_at dksJ7_startsWith_0 3 rfl rfl)
theorem dJ7_startsWith_6 : decode cJ7_startsWith 6 = .ok (.ireturn, 1) := dk_172 (dk_at dksJ7_startsWith_0 6 rfl rfl)
abbrev cJ7_startsWith_2 : ByteArray := prog_40_method_75_code
def yJ7_startsWith_2 : MethodName := ⟨RJ7, "startsWith", "(Ljava/lang/String;I)Z"⟩
def dkwJ7_startsWith_2_5 : List UInt8 := [159, 255, 229, 3, 172, 4, 172]
abbrev dktJ7_startsWith_2_5 : List UInt8 := dkwJ7_startsWith_2_5 ++ []
def dkwJ7_startsWith_2_4 : List UInt8 := [162, 0, 28, 45, 28, 132, 2, 1, 184, 1, 104, 25, 4, 21, 5, 132, 5, 1, 51, 17, 0, 255, 126]
abbrev dktJ7_startsWith_2_4 : List UInt8 := dkwJ7_startsWith_2_4 ++ dktJ7_startsWith_2_5
def dkwJ7_startsWith_2_3 : List UInt8 := [184, 2, 95, 156, 0, 7, 4, 167, 0, 4, 3, 172, 21, 7, 154, 0, 5, 3, 172, 21, 5, 21, 6]
abbrev dktJ7_startsWith_2_3 : List UInt8 := dkwJ7_startsWith_2_3 ++ dktJ7_startsWith_2_4
def dkwJ7_startsWith_2_2 : List UInt8 := [182, 1, 79, 160, 0, 32, 21, 7, 4, 160, 0, 7, 28, 4, 120, 61, 45, 28, 25, 4, 3, 21, 6]
abbrev dktJ7_startsWith_2_2 : List UInt8 := dkwJ7_startsWith_2_2 ++ dktJ7_startsWith_2_3
def dkwJ7_startsWith_2_1 : List UInt8 := [43, 180, 0, 9, 58, 4, 3, 54, 5, 25, 4, 190, 54, 6, 42, 182, 1, 79, 54, 7, 21, 7, 43]
abbrev dktJ7_startsWith_2_1 : List UInt8 := dkwJ7_startsWith_2_1 ++ dktJ7_startsWith_2_2
def dkwJ7_startsWith_2_0 : List UInt8 := [28, 155, 0, 16, 28, 42, 182, 1, 249, 43, 182, 1, 249, 100, 164, 0, 5, 3, 172, 42, 180, 0, 9, 78]
abbrev dktJ7_startsWith_2_0 : List UInt8 := dkwJ7_startsWith_2_0 ++ dktJ7_startsWith_2_1
theorem dksJ7_startsWith_2_0 : cJ7_startsWith_2.data.toList.drop 0 = dktJ7_startsWith_2_0 := by decide +kernel
theorem dksJ7_startsWith_2_1 : cJ7_startsWith_2.data.toList.drop 24 = dktJ7_startsWith_2_1 := dk_seg dksJ7_startsWith_2_0 24 rfl rfl
theorem dksJ7_startsWith_2_2 : cJ7_startsWith_2.data.toList.drop 47 = dktJ7_startsWith_2_2 := dk_seg dksJ7_startsWith_2_1 23 rfl rfl
theorem dksJ7_startsWith_2_3 : cJ7_startsWith_2.data.toList.drop 70 = dktJ7_startsWith_2_3 := dk_seg dksJ7_startsWith_2_2 23 rfl rfl
theorem dksJ7_startsWith_2_4 : cJ7_startsWith_2.data.toList.drop 93 = dktJ7_startsWith_2_4 := dk_seg dksJ7_startsWith_2_3 23 rfl rfl
theorem dksJ7_startsWith_2_5 : cJ7_startsWith_2.data.toList.drop 116 = dktJ7_startsWith_2_5 := dk_seg dksJ7_startsWith_2_4 23 rfl rfl
theorem dJ7_startsWith_2_0 : decode cJ7_startsWith_2 0 = .ok (.iload_n 2, 1) := dk_28 (dk_at dksJ7_startsWith_2_0 0 rfl rfl)
theorem dJ7_startsWith_2_1 : decode cJ7_startsWith_2 1 = .ok (.ifCond .lt 16, 3) := dk_155 0 16 (dk_at dksJ7_startsWith_2_0 1 rfl rfl)
theorem dJ7_startsWith_2_4 : decode cJ7_startsWith_2 4 = .ok (.iload_n 2, 1) := dk_28 (dk_at dksJ7_startsWith_2_0 4 rfl rfl)
theorem dJ7_startsWith_2_5 : decode cJ7_startsWith_2 5 = .ok (.aload_n 0, 1) := dk_42 (dk_at dksJ7_startsWith_2_0 5 rfl rfl)
theorem dJ7_startsWith_2_6 : decode cJ7_startsWith_2 6 = .ok (.invokevirtual 505, 3) := dk_182 1 249 (dk_at dksJ7_startsWith_2_0 6 rfl rfl)
theorem dJ7_startsWith_2_9 : decode cJ7_startsWith_2 9 = .ok (.aload_n 1, 1) := dk_43 (dk_at dksJ7_startsWith_2_0 9 rfl rfl)
theorem dJ7_startsWith_2_10 : decode cJ7_startsWith_2 10 = .ok (.invokevirtual 505, 3) := dk_182 1 249 (dk_at dksJ7_startsWith_2_0 10 rfl rfl)
theorem dJ7_startsWith_2_13 : decode cJ7_startsWith_2 13 = .ok (.isub, 1) := dk_100 (dk_at dksJ7_startsWith_2_0 13 rfl rfl)
theorem dJ7_startsWith_2_14 : decode cJ7_startsWith_2 14 = .ok (.if_icmp .le 5, 3) := dk_164 0 5 (dk_at dksJ7_startsWith_2_0 14 rfl rfl)
theorem dJ7_startsWith_2_17 : decode cJ7_startsWith_2 17 = .ok (.iconst 0, 1) := dk_3 (dk_at dksJ7_startsWith_2_0 17 rfl rfl)
theorem dJ7_startsWith_2_18 : decode cJ7_startsWith_2 18 = .ok (.ireturn, 1) := dk_172 (dk_at dksJ7_startsWith_2_0 18 rfl rfl)
theorem dJ7_startsWith_2_19 : decode cJ7_startsWith_2 19 = .ok (.aload_n 0, 1) := dk_42 (dk_at dksJ7_startsWith_2_0 19 rfl rfl)
theorem dJ7_startsWith_2_20 : decode cJ7_startsWith_2 20 = .ok (.getfield 9, 3) := dk_180 0 9 (dk_at dksJ7_startsWith_2_0 20 rfl rfl)
theorem dJ7_startsWith_2_23 : decode cJ7_startsWith_2 23 = .ok (.astore_n 3, 1) := dk_78 (dk_at dksJ7_startsWith_2_0 23 rfl rfl)
theorem dJ7_startsWith_2_24 : decode cJ7_startsWith_2 24 = .ok (.aload_n 1, 1) := dk_43 (dk_at dksJ7_startsWith_2_1 0 rfl rfl)
theorem dJ7_startsWith_2_25 : decode cJ7_startsWith_2 25 = .ok (.getfield 9, 3) := dk_180 0 9 (dk_at dksJ7_startsWith_2_1 1 rfl rfl)
theorem dJ7_startsWith_2_28 : decode cJ7_startsWith_2 28 = .ok (.astore 4, 2) := dk_58 4 (dk_at dksJ7_startsWith_2_1 4 rfl rfl)
theorem dJ7_startsWith_2_30 : decode cJ7_startsWith_2 30 = .ok (.iconst 0, 1) := dk_3 (dk_at dksJ7_startsWith_2_1 6 rfl rfl)
theorem dJ7_startsWith_2_31 : decode cJ7_startsWith_2 31 = .ok (.istore 5, 2) := dk_54 5 (dk_at dksJ7_startsWith_2_1 7 rfl rfl)
theorem dJ7_startsWith_2_33 : decode cJ7_startsWith_2 33 = .ok (.aload 4, 2) := dk_25 4 (dk_at dksJ7_startsWith_2_1 9 rfl rfl)
theorem dJ7_startsWith_2_35 : decode cJ7_startsWith_2 35 = .ok (.arraylength, 1) := dk_190 (dk_at dksJ7_startsWith_2_1 11 rfl rfl)
theorem dJ7_startsWith_2_36 : decode cJ7_startsWith_2 36 = .ok (.istore 6, 2) := dk_54 6 (dk_at dksJ7_startsWith_2_1 12 rfl rfl)
theorem dJ7_startsWith_2_38 : decode cJ7_startsWith_2 38 = .ok (.aload_n 0, 1) := dk_42 (dk_at dksJ7_startsWith_2_1 14 rfl rfl)
theorem dJ7_startsWith_2_39 : decode cJ7_startsWith_2 39 = .ok (.invokevirtual 335, 3) := dk_182 1 79 (dk_at dksJ7_startsWith_2_1 15 rfl rfl)
theorem dJ7_startsWith_2_42 : decode cJ7_startsWith_2 42 = .ok (.istore 7, 2) := dk_54 7 (dk_at dksJ7_startsWith_2_1 18 rfl rfl)
theorem dJ7_startsWith_2_44 : decode cJ7_startsWith_2 44 = .ok (.iload 7, 2) := dk_21 7 (dk_at dksJ7_startsWith_2_1 20 rfl rfl)
theorem dJ7_startsWith_2_46 : decode cJ7_startsWith_2 46 = .ok (.aload_n 1, 1) := dk_43 (dk_at dksJ7_startsWith_2_1 22 rfl rfl)
theorem dJ7_startsWith_2_47 : decode cJ7_startsWith_2 47 = .ok (.invokevirtual 335, 3) := dk_182 1 79 (dk_at dksJ7_startsWith_2_2 0 rfl rfl)
theorem dJ7_startsWith_2_50 : decode cJ7_startsWith_2 50 = .ok (.if_icmp .ne 32, 3) := dk_160 0 32 (dk_at dksJ7_startsWith_2_2 3 rfl rfl)
theorem dJ7_startsWith_2_53 : decode cJ7_startsWith_2 53 = .ok (.iload 7, 2) := dk_21 7 (dk_at dksJ7_startsWith_2_2 6 rfl rfl)
theorem dJ7_startsWith_2_55 : decode cJ7_startsWith_2 55 = .ok (.iconst 1, 1) := dk_4 (dk_at dksJ7_startsWith_2_2 8 rfl rfl)
theorem dJ7_startsWith_2_56 : decode cJ7_startsWith_2 56 = .ok (.if_icmp .ne 7, 3) := dk_160 0 7 (dk_at dksJ7_startsWith_2_2 9 rfl rfl)
theorem dJ7_startsWith_2_59 : decode cJ7_startsWith_2 59 = .ok (.iload_n 2, 1) := dk_28 (dk_at dksJ7_startsWith_2_2 12 rfl rfl)
theorem dJ7_startsWith_2_60 : decode cJ7_startsWith_2 60 = .ok (.iconst 1, 1) := dk_4 (dk_at dksJ7_startsWith_2_2 13 rfl rfl)
theorem dJ7_startsWith_2_61 : decode cJ7_startsWith_2 61 = .ok (.ishl, 1) := dk_120 (dk_at dksJ7_startsWith_2_2 14 rfl rfl)
theorem dJ7_startsWith_2_62 : decode cJ7_startsWith_2 62 = .ok (.istore_n 2, 1) := dk_61 (dk_at dksJ7_startsWith_2_2 15 rfl rfl)
theorem dJ7_startsWith_2_63 : decode cJ7_startsWith_2 63 = .ok (.aload_n 3, 1) := dk_45 (dk_at dksJ7_startsWith_2_2 16 rfl rfl)
theorem dJ7_startsWith_2_64 : decode cJ7_startsWith_2 64 = .ok (.iload_n 2, 1) := dk_28 (dk_at dksJ7_startsWith_2_2 17 rfl rfl)
theorem dJ7_startsWith_2_65 : decode cJ7_startsWith_2 65 = .ok (.aload 4, 2) := dk_25 4 (dk_at dksJ7_startsWith_2_2 18 rfl rfl)
theorem dJ7_startsWith_2_67 : decode cJ7_startsWith_2 67 = .ok (.iconst 0, 1) := dk_3 (dk_at dksJ7_startsWith_2_2 20 rfl rfl)
theorem dJ7_startsWith_2_68 : decode cJ7_startsWith_2 68 = .ok (.iload 6, 2) := dk_21 6 (dk_at dksJ7_startsWith_2_2 21 rfl rfl)
theorem dJ7_startsWith_2_70 : decode cJ7_startsWith_2 70 = .ok (.invokestatic 607, 3) := dk_184 2 95 (dk_at dksJ7_startsWith_2_3 0 rfl rfl)
theorem dJ7_startsWith_2_73 : decode cJ7_startsWith_2 73 = .ok (.ifCond .ge 7, 3) := dk_156 0 7 (dk_at dksJ7_startsWith_2_3 3 rfl rfl)
theorem dJ7_startsWith_2_76 : decode cJ7_startsWith_2 76 = .ok (.iconst 1, 1) := dk_4 (dk_at dksJ7_startsWith_2_3 6 rfl rfl)
theorem dJ7_startsWith_2_77 : decode cJ7_startsWith_2 77 = .ok (.goto 4, 3) := dk_167 0 4 (dk_at dksJ7_startsWith_2_3 7 rfl rfl)
theorem dJ7_startsWith_2_80 : decode cJ7_startsWith_2 80 = .ok (.iconst 0, 1) := dk_3 (dk_at dksJ7_startsWith_2_3 10 rfl rfl)
theorem dJ7_startsWith_2_81 : decode cJ7_startsWith_2 81 = .ok (.ireturn, 1) := dk_172 (dk_at dksJ7_startsWith_2_3 11 rfl rfl)
theorem dJ7_startsWith_2_82 : decode cJ7_startsWith_2 82 = .ok (.iload 7, 2) := dk_21 7 (dk_at dksJ7_startsWith_2_3 12 rfl rfl)
theorem dJ7_startsWith_2_84 : decode cJ7_startsWith_2 84 = .ok (.ifCond .ne 5, 3) := dk_154 0 5 (dk_at dksJ7_startsWith_2_3 14 rfl rfl)
theorem dJ7_startsWith_2_87 : decode cJ7_startsWith_2 87 = .ok (.iconst 0, 1) := dk_3 (dk_at dksJ7_startsWith_2_3 17 rfl rfl)
theorem dJ7_startsWith_2_88 : decode cJ7_startsWith_2 88 = .ok (.ireturn, 1) := dk_172 (dk_at dksJ7_startsWith_2_3 18 rfl rfl)
theorem dJ7_startsWith_2_89 : decode cJ7_startsWith_2 89 = .ok (.iload 5, 2) := dk_21 5 (dk_at dksJ7_startsWith_2_3 19 rfl rfl)
theorem dJ7_startsWith_2_91 : decode cJ7_startsWith_2 91 = .ok (.iload 6, 2) := dk_21 6 (dk_at dksJ7_startsWith_2_3 21 rfl rfl)
theorem dJ7_startsWith_2_93 : decode cJ7_startsWith_2 93 = .ok (.if_icmp .ge 28, 3) := dk_162 0 28 (dk_at dksJ7_startsWith_2_4 0 rfl rfl)
theorem dJ7_startsWith_2_96 : decode cJ7_startsWith_2 96 = .ok (.aload_n 3, 1) := dk_45 (dk_at dksJ7_startsWith_2_4 3 rfl rfl)
theorem dJ7_startsWith_2_97 : decode cJ7_startsWith_2 97 = .ok (.iload_n 2, 1) := dk_28 (dk_at dksJ7_startsWith_2_4 4 rfl rfl)
theorem dJ7_startsWith_2_98 : decode cJ7_startsWith_2 98 = .ok (.iinc 2 1, 3) := dk_132 2 1 (dk_at dksJ7_startsWith_2_4 5 rfl rfl)
theorem dJ7_startsWith_2_101 : decode cJ7_startsWith_2 101 = .ok (.invokestatic 360, 3) := dk_184 1 104 (dk_at dksJ7_startsWith_2_4 8 rfl rfl)
theorem dJ7_startsWith_2_104 : decode cJ7_startsWith_2 104 = .ok (.aload 4, 2) := dk_25 4 (dk_at dksJ7_startsWith_2_4 11 rfl rfl)
theorem dJ7_startsWith_2_106 : decode cJ7_startsWith_2 106 = .ok (.iload 5, 2) := dk_21 5 (dk_at dksJ7_startsWith_2_4 13 rfl rfl)
theorem dJ7_startsWith_2_108 : decode cJ7_startsWith_2 108 = .ok (.iinc 5 1, 3) := dk_132 5 1 (dk_at dksJ7_startsWith_2_4 15 rfl rfl)
theorem dJ7_startsWith_2_111 : decode cJ7_startsWith_2 111 = .ok (.baload, 1) := dk_51 (dk_at dksJ7_startsWith_2_4 18 rfl rfl)
theorem dJ7_startsWith_2_112 : decode cJ7_startsWith_2 112 = .ok (.sipush 255, 3) := dk_17 0 255 (dk_at dksJ7_startsWith_2_4 19 rfl rfl)
theorem dJ7_startsWith_2_115 : decode cJ7_startsWith_2 115 = .ok (.iand, 1) := dk_126 (dk_at dksJ7_startsWith_2_4 22 rfl rfl)
theorem dJ7_startsWith_2_116 : decode cJ7_startsWith_2 116 = .ok (.if_icmp .eq (-27), 3) := dk_159 255 229 (dk_at dksJ7_startsWith_2_5 0 rfl rfl)
theorem dJ7_startsWith_2_119 : decode cJ7_startsWith_2 119 = .ok (.iconst 0, 1) := dk_3 (dk_at dksJ7_startsWith_2_5 3 rfl rfl)
theorem dJ7_startsWith_2_120 : decode cJ7_startsWith_2 120 = .ok (.ireturn, 1) := dk_172 (dk_at dksJ7_startsWith_2_5 4 rfl rfl)
theorem dJ7_startsWith_2_121 : decode cJ7_startsWith_2 121 = .ok (.iconst 1, 1) := dk_4 (dk_at dksJ7_startsWith_2_5 5 rfl rfl)
theorem dJ7_startsWith_2_122 : decode cJ7_startsWith_2 122 = .ok (.ireturn, 1) := dk_172 (dk_at dksJ7_startsWith_2_5 6 rfl rfl)
theorem q111 : (Jvm.Cond.initialized "java/lang/String") ∈ lw_all := lw_g (lw_at lw_m1 12 rfl) rfl
theorem q363 : (Jvm.Cond.laysStatic "java/lang/String" "COMPACT_STRINGS" "Z") ∈ lw_tbl := lw_at lw_m2 24 rfl
theorem q374 : (Jvm.Cond.fieldLink "java/lang/String" (1048 : Nat) "java/lang/AbstractStringBuilder" "maybeLatin1" "Z") ∈ lw_all := lw_g (lw_at lw_m2 35 rfl) rfl
theorem q491 : (Jvm.Cond.selects "java/lang/String" ({ cls := "java/lang/Object", name := "getClass", desc := "()Ljava/lang/Class;" } : Jvm.MethodName) ({ cls := "java/lang/Object", name := "getClass", desc := "()Ljava/lang/Class;" } : Jvm.MethodName)) ∈ lw_all := lw_g (lw_at lw_m2 152 rfl) rfl
theorem q931 : (Jvm.Cond.static ({ cls := "java/lang/String", name := "checkBoundsBeginEnd", desc := "(III)V" } : Jvm.MethodName)) ∈ lw_all := lw_g (lw_at lw_m4 112 rfl) rfl
theorem q932 : (Jvm.Cond.code ({ cls := "java/lang/String", name := "checkBoundsBeginEnd", desc := "(III)V" } : Jvm.MethodName) prog_40_method_158_code (3 : Nat) (Option.none : Option Jvm.ClassFile.FieldType)) ∈ lw_all := lw_g (lw_at lw_m4 113 rfl) rfl
theorem q933 : (Jvm.Cond.fieldLink "java/lang/String" (1053 : Nat) "jdk/internal/util/Preconditions" "SIOOBE_FORMATTER" "Ljava/util/function/BiFunction;") ∈ lw_all := lw_g (lw_at lw_m4 114 rfl) rfl
theorem q935 : (Jvm.Cond.methodLink "java/lang/String" (1062 : Nat) ({ cls := "jdk/internal/util/Preconditions", name := "checkFromToIndex", desc := "(IIILjava/util/function/BiFunction;)I" } : Jvm.MethodName)) ∈ lw_all := lw_g (lw_at lw_m4 116 rfl) rfl
theorem q948 : (Jvm.Cond.instanceMethod ({ cls := "java/lang/String", name := "length", desc := "()I" } : Jvm.MethodName)) ∈ lw_all := lw_g (lw_at lw_m4 129 rfl) rfl
theorem q949 : (Jvm.Cond.selects "java/lang/String" ({ cls := "java/lang/String", name := "length", desc := "()I" } : Jvm.MethodName) ({ cls := "java/lang/String", name := "length", desc := "()I" } : Jvm.MethodName)) ∈ lw_all := lw_g (lw_at lw_m4 130 rfl) rfl
theorem q950 : (Jvm.Cond.code ({ cls := "java/lang/String", name := "length", desc := "()I" } : Jvm.MethodName) prog_40_method_54_code (1 : Nat) (Option.some Jvm.ClassFile.FieldType.int)) ∈ lw_all := lw_g (lw_at lw_m4 131 rfl) rfl
theorem q951 : (Jvm.Cond.methodLink "java/lang/String" (335 : Nat) ({ cls := "java/lang/String", name := "coder", desc := "()B" } : Jvm.MethodName)) ∈ lw_all := lw_g (lw_at lw_m4 132 rfl) rfl
theorem q952 : (Jvm.Cond.instanceMethod ({ cls := "java/lang/String", name := "coder", desc := "()B" } : Jvm.MethodName)) ∈ lw_all := lw_g (lw_at lw_m4 133 rfl) rfl
theorem q953 : (Jvm.Cond.selects "java/lang/String" ({ cls := "java/lang/String", name := "coder", desc := "()B" } : Jvm.MethodName) ({ cls := "java/lang/String", name := "coder", desc := "()B" } : Jvm.MethodName)) ∈ lw_all := lw_g (lw_at lw_m4 134 rfl) rfl
theorem q954 : (Jvm.Cond.code ({ cls := "java/lang/String", name := "coder", desc := "()B" } : Jvm.MethodName) prog_40_method_152_code (1 : Nat) (Option.some Jvm.ClassFile.FieldType.byte)) ∈ lw_all := lw_g (lw_at lw_m4 135 rfl) rfl
theorem q955 : (Jvm.Cond.fieldLink "java/lang/String" (38 : Nat) "java/lang/String" "COMPACT_STRINGS" "Z") ∈ lw_all := lw_g (lw_at lw_m4 136 rfl) rfl
theorem q979 : (Jvm.Cond.static ({ cls := "java/lang/String", name := "checkBoundsOffCount", desc := "(III)I" } : Jvm.MethodName)) ∈ lw_all := lw_g (lw_at lw_m4 160 rfl) rfl
theorem q980 : (Jvm.Cond.code ({ cls := "java/lang/String", name := "checkBoundsOffCount", desc := "(III)I" } : Jvm.MethodName) prog_40_method_157_code (3 : Nat) (Option.some Jvm.ClassFile.FieldType.int)) ∈ lw_all := lw_g (lw_at lw_m4 161 rfl) rfl
theorem q981 : (Jvm.Cond.methodLink "java/lang/String" (1065 : Nat) ({ cls := "jdk/internal/util/Preconditions", name := "checkFromIndexSize", desc := "(IIILjava/util/function/BiFunction;)I" } : Jvm.MethodName)) ∈ lw_all := lw_g (lw_at lw_m4 162 rfl) rfl
theorem q985 : (Jvm.Cond.instanceMethod ({ cls := "java/lang/String", name := "getBytes", desc := "([BIB)V" } : Jvm.MethodName)) ∈ lw_all := lw_g (lw_at lw_m4 166 rfl) rfl
theorem q986 : (Jvm.Cond.selects "java/lang/String" ({ cls := "java/lang/String", name := "getBytes", desc := "([BIB)V" } : Jvm.MethodName) ({ cls := "java/lang/String", name := "getBytes", desc := "([BIB)V" } : Jvm.MethodName)) ∈ lw_all := lw_g (lw_at lw_m4 167 rfl) rfl
theorem q987 : (Jvm.Cond.code ({ cls := "java/lang/String", name := "getBytes", desc := "([BIB)V" } : Jvm.MethodName) prog_40_method_147_code (4 : Nat) (Option.none : Option Jvm.ClassFile.FieldType)) ∈ lw_all := lw_g (lw_at lw_m4 168 rfl) rfl
theorem q988 : (Jvm.Cond.methodLink "java/lang/String" (212 : Nat) ({ cls := "java/lang/System", name := "arraycopy", desc := "(Ljava/lang/Object;ILjava/lang/Object;II)V" } : Jvm.MethodName)) ∈ lw_all := lw_g (lw_at lw_m4 169 rfl) rfl
theorem q989 : (Jvm.Cond.methodLink "java/lang/String" (106 : Nat) ({ cls := "java/lang/StringLatin1", name := "inflate", desc := "([BI[BII)V" } : Jvm.MethodName)) ∈ lw_all := lw_g (lw_at lw_m4 170 rfl) rfl
theorem q1021 : (Jvm.Cond.instantiable "java/lang/String" (4 : Nat)) ∈ lw_all := lw_g (lw_at lw_m4 202 rfl) rfl
theorem q1023 : (Jvm.Cond.instanceMethod ({ cls := "java/lang/String", name := "<init>", desc := "(Ljava/lang/StringBuilder;)V" } : Jvm.MethodName)) ∈ lw_all := lw_g (lw_at lw_m4 204 rfl) rfl
theorem q1024 : (Jvm.Cond.code ({ cls := "java/lang/String", name := "<init>", desc := "(Ljava/lang/StringBuilder;)V" } : Jvm.MethodName) prog_40_method_53_code (2 : Nat) (Option.none : Option Jvm.ClassFile.FieldType)) ∈ lw_all := lw_g (lw_at lw_m4 205 rfl) rfl
theorem q1025 : (Jvm.Cond.methodLink "java/lang/String" (489 : Nat) ({ cls := "java/lang/String", name := "<init>", desc := "(Ljava/lang/AbstractStringBuilder;Ljava/lang/Void;)V" } : Jvm.MethodName)) ∈ lw_all := lw_g (lw_at lw_m4 206 rfl) rfl
theorem q1026 : (Jvm.Cond.instanceMethod ({ cls := "java/lang/String", name := "<init>", desc := "(Ljava/lang/AbstractStringBuilder;Ljava/lang/Void;)V" } : Jvm.MethodName)) ∈ lw_all := lw_g (lw_at lw_m4 207 rfl) rfl
theorem q1027 : (Jvm.Cond.code ({ cls := "java/lang/String", name := "<init>", desc := "(Ljava/lang/AbstractStringBuilder;Ljava/lang/Void;)V" } : Jvm.MethodName) prog_40_method_150_code (5 : Nat) (Option.none : Option Jvm.ClassFile.FieldType)) ∈ lw_all := lw_g (lw_at lw_m4 208 rfl) rfl
theorem q1028 : (Jvm.Cond.methodLink "java/lang/String" (1 : Nat) ({ cls := "java/lang/Object", name := "<init>", desc := "()V" } : Jvm.MethodName)) ∈ lw_all := lw_g (lw_at lw_m4 209 rfl) rfl
theorem q1029 : (Jvm.Cond.methodLink "java/lang/String" (552 : Nat) ({ cls := "java/lang/AbstractStringBuilder", name := "getValue", desc := "()[B" } : Jvm.MethodName)) ∈ lw_all := lw_g (lw_at lw_m4 210 rfl) rfl
theorem q1034 : (Jvm.Cond.methodLink "java/lang/String" (549 : Nat) ({ cls := "java/lang/AbstractStringBuilder", name := "length", desc := "()I" } : Jvm.MethodName)) ∈ lw_all := lw_g (lw_at lw_m4 215 rfl) rfl
theorem q1042 : (Jvm.Cond.methodLink "java/lang/String" (1047 : Nat) ({ cls := "java/lang/AbstractStringBuilder", name := "isLatin1", desc := "()Z" } : Jvm.MethodName)) ∈ lw_all := lw_g (lw_at lw_m4 223 rfl) rfl
theorem q1043 : (Jvm.Cond.methodLink "java/lang/String" (54 : Nat) ({ cls := "java/util/Arrays", name := "copyOfRange", desc := "([BII)[B" } : Jvm.MethodName)) ∈ lw_all := lw_g (lw_at lw_m4 224 rfl) rfl
theorem q1081 : (Jvm.Cond.methodLink "java/lang/String" (1051 : Nat) ({ cls := "java/lang/StringUTF16", name := "compress", desc := "([BII)[B" } : Jvm.MethodName)) ∈ lw_all := lw_g (lw_at lw_m5 22 rfl) rfl
theorem q1091 : (Jvm.Cond.methodLink "java/lang/String" (47 : Nat) ({ cls := "java/lang/StringUTF16", name := "coderFromArrayLen", desc := "([BI)B" } : Jvm.MethodName)) ∈ lw_all := lw_g (lw_at lw_m5 32 rfl) rfl
theorem q1094 : (Jvm.Cond.fieldLink "java/lang/String" (9 : Nat) "java/lang/String" "value" "[B") ∈ lw_all := lw_g (lw_at lw_m5 35 rfl) rfl
theorem q1095 : (Jvm.Cond.fieldLink "java/lang/String" (15 : Nat) "java/lang/String" "coder" "B") ∈ lw_all := lw_g (lw_at lw_m5 36 rfl) rfl
theorem q1096 : (Jvm.Cond.fieldLink "java/lang/String" (19 : Nat) "java/lang/String" "hash" "I") ∈ lw_all := lw_g (lw_at lw_m5 37 rfl) rfl
theorem q1097 : (Jvm.Cond.fieldLink "java/lang/String" (23 : Nat) "java/lang/String" "hashIsZero" "Z") ∈ lw_all := lw_g (lw_at lw_m5 38 rfl) rfl
theorem q1098 : (Jvm.Cond.laysFinal "java/lang/String" "java/lang/String" "value" "[B") ∈ lw_all := lw_g (lw_at lw_m5 39 rfl) rfl
theorem q1099 : (Jvm.Cond.soleField "java/lang/String" "value") ∈ lw_all := lw_g (lw_at lw_m5 40 rfl) rfl
theorem q1100 : (Jvm.Cond.laysFinal "java/lang/String" "java/lang/String" "coder" "B") ∈ lw_all := lw_g (lw_at lw_m5 41 rfl) rfl
theorem q1101 : (Jvm.Cond.soleField "java/lang/String" "coder") ∈ lw_all := lw_g (lw_at lw_m5 42 rfl) rfl
theorem q1102 : (Jvm.Cond.lays "java/lang/String" "java/lang/String" "hash" "I") ∈ lw_all := lw_g (lw_at lw_m5 43 rfl) rfl
theorem q1103 : (Jvm.Cond.soleField "java/lang/String" "hash") ∈ lw_all := lw_g (lw_at lw_m5 44 rfl) rfl
theorem q1104 : (Jvm.Cond.lays "java/lang/String" "java/lang/String" "hashIsZero" "Z") ∈ lw_all := lw_g (lw_at lw_m5 45 rfl) rfl
theorem q1105 : (Jvm.Cond.soleField "java/lang/String" "hashIsZero") ∈ lw_all := lw_g (lw_at lw_m5 46 rfl) rfl
theorem q1106 : (Jvm.Cond.superclass "java/lang/String" "java/lang/Object") ∈ lw_all := lw_g (lw_at lw_m5 47 rfl) rfl
theorem q1555 : (Jvm.Cond.castable "java/lang/String" "java/lang/Comparable") ∈ lw_tbl := lw_at lw_m7 16 rfl
theorem q1556 : (Jvm.Cond.selects "java/lang/String" ({ cls := "java/lang/Comparable", name := "compareTo", desc := "(Ljava/lang/Object;)I" } : Jvm.MethodName) ({ cls := "java/lang/String", name := "compareTo", desc := "(Ljava/lang/Object;)I" } : Jvm.MethodName)) ∈ lw_all := lw_g (lw_at lw_m7 17 rfl) rfl
theorem q1557 : (Jvm.Cond.unhidden "java/lang/String" "compareTo" "(Ljava/lang/Object;)I") ∈ lw_tbl := lw_at lw_m7 18 rfl
theorem q1558 : (Jvm.Cond.instanceMethod ({ cls := "java/lang/String", name := "compareTo", desc := "(Ljava/lang/Object;)I" } : Jvm.MethodName)) ∈ lw_all := lw_g (lw_at lw_m7 19 rfl) rfl
theorem q1559 : (Jvm.Cond.publicMethod ({ cls := "java/lang/String", name := "compareTo", desc := "(Ljava/lang/Object;)I" } : Jvm.MethodName)) ∈ lw_tbl := lw_at lw_m7 20 rfl
theorem q1560 : (Jvm.Cond.code ({ cls := "java/lang/String", name := "compareTo", desc := "(Ljava/lang/Object;)I" } : Jvm.MethodName) prog_40_method_162_code (2 : Nat) (Option.some Jvm.ClassFile.FieldType.int)) ∈ lw_all := lw_g (lw_at lw_m7 21 rfl) rfl
theorem q1561 : (Jvm.Cond.classLink "java/lang/String" (10 : Nat) "java/lang/String") ∈ lw_all := lw_g (lw_at lw_m7 22 rfl) rfl
theorem q1562 : (Jvm.Cond.methodLink "java/lang/String" (1084 : Nat) ({ cls := "java/lang/String", name := "compareTo", desc := "(Ljava/lang/String;)I" } : Jvm.MethodName)) ∈ lw_all := lw_g (lw_at lw_m7 23 rfl) rfl
theorem q1563 : (Jvm.Cond.instanceMethod ({ cls := "java/lang/String", name := "compareTo", desc := "(Ljava/lang/String;)I" } : Jvm.MethodName)) ∈ lw_all := lw_g (lw_at lw_m7 24 rfl) rfl
theorem q1564 : (Jvm.Cond.selects "java/lang/String" ({ cls := "java/lang/String", name := "compareTo", desc := "(Ljava/lang/String;)I" } : Jvm.MethodName) ({ cls := "java/lang/String", name := "compareTo", desc := "(Ljava/lang/String;)I" } : Jvm.MethodName)) ∈ lw_all := lw_g (lw_at lw_m7 25 rfl) rfl
theorem q1565 : (Jvm.Cond.code ({ cls := "java/lang/String", name := "compareTo", desc := "(Ljava/lang/String;)I" } : Jvm.MethodName) prog_40_method_71_code (5 : Nat) (Option.some Jvm.ClassFile.FieldType.int)) ∈ lw_all := lw_g (lw_at lw_m7 26 rfl) rfl
theorem q1566 : (Jvm.Cond.methodLink "java/lang/String" (586 : Nat) ({ cls := "java/lang/StringLatin1", name := "compareTo", desc := "([B[B)I" } : Jvm.MethodName)) ∈ lw_all := lw_g (lw_at lw_m7 27 rfl) rfl
theorem q1672 : (Jvm.Cond.methodLink "java/lang/String" (590 : Nat) ({ cls := "java/lang/StringUTF16", name := "compareTo", desc := "([B[B)I" } : Jvm.MethodName)) ∈ lw_all := lw_g (lw_at lw_m7 133 rfl) rfl
theorem q1679 : (Jvm.Cond.methodLink "java/lang/String" (591 : Nat) ({ cls := "java/lang/StringLatin1", name := "compareToUTF16", desc := "([B[B)I" } : Jvm.MethodName)) ∈ lw_all := lw_g (lw_at lw_m7 140 rfl) rfl
theorem q1690 : (Jvm.Cond.methodLink "java/lang/String" (594 : Nat) ({ cls := "java/lang/StringUTF16", name := "compareToLatin1", desc := "([B[B)I" } : Jvm.MethodName)) ∈ lw_all := lw_g (lw_at lw_m7 151 rfl) rfl
theorem q1716 : (Jvm.Cond.static ({ cls := "java/lang/String", name := "checkOffset", desc := "(II)V" } : Jvm.MethodName)) ∈ lw_all := lw_g (lw_at lw_m7 177 rfl) rfl
theorem q1717 : (Jvm.Cond.code ({ cls := "java/lang/String", name := "checkOffset", desc := "(II)V" } : Jvm.MethodName) prog_40_method_156_code (2 : Nat) (Option.none : Option Jvm.ClassFile.FieldType)) ∈ lw_all := lw_g (lw_at lw_m7 178 rfl) rfl
theorem q1825 : (Jvm.Cond.selects "java/lang/String" ({ cls := "java/lang/Object", name := "hashCode", desc := "()I" } : Jvm.MethodName) ({ cls := "java/lang/String", name := "hashCode", desc := "()I" } : Jvm.MethodName)) ∈ lw_all := lw_g (lw_at lw_m8 46 rfl) rfl
theorem q1826 : (Jvm.Cond.instanceMethod ({ cls := "java/lang/String", name := "hashCode", desc := "()I" } : Jvm.MethodName)) ∈ lw_all := lw_g (lw_at lw_m8 47 rfl) rfl
theorem q1827 : (Jvm.Cond.code ({ cls := "java/lang/String", name := "hashCode", desc := "()I" } : Jvm.MethodName) prog_40_method_78_code (2 : Nat) (Option.some Jvm.ClassFile.FieldType.int)) ∈ lw_all := lw_g (lw_at lw_m8 48 rfl) rfl
theorem q1828 : (Jvm.Cond.methodLink "java/lang/String" (492 : Nat) ({ cls := "java/lang/String", name := "isLatin1", desc := "()Z" } : Jvm.MethodName)) ∈ lw_all := lw_g (lw_at lw_m8 49 rfl) rfl
theorem q1829 : (Jvm.Cond.instanceMethod ({ cls := "java/lang/String", name := "isLatin1", desc := "()Z" } : Jvm.MethodName)) ∈ lw_all := lw_g (lw_at lw_m8 50 rfl) rfl
theorem q1830 : (Jvm.Cond.selects "java/lang/String" ({ cls := "java/lang/String", name := "isLatin1", desc := "()Z" } : Jvm.MethodName) ({ cls := "java/lang/String", name := "isLatin1", desc := "()Z" } : Jvm.MethodName)) ∈ lw_all := lw_g (lw_at lw_m8 51 rfl) rfl
theorem q1831 : (Jvm.Cond.code ({ cls := "java/lang/String", name := "isLatin1", desc := "()Z" } : Jvm.MethodName) prog_40_method_154_code (1 : Nat) (Option.some Jvm.ClassFile.FieldType.boolean)) ∈ lw_all := lw_g (lw_at lw_m8 52 rfl) rfl
theorem q1832 : (Jvm.Cond.methodLink "java/lang/String" (628 : Nat) ({ cls := "java/lang/StringLatin1", name := "hashCode", desc := "([B)I" } : Jvm.MethodName)) ∈ lw_all := lw_g (lw_at lw_m8 53 rfl) rfl
theorem q1881 : (Jvm.Cond.methodLink "java/lang/String" (632 : Nat) ({ cls := "java/lang/StringUTF16", name := "hashCode", desc := "([B)I" } : Jvm.MethodName)) ∈ lw_all := lw_g (lw_at lw_m8 102 rfl) rfl
theorem q1934 : (Jvm.Cond.selects "java/lang/String" ({ cls := "java/lang/Object", name := "equals", desc := "(Ljava/lang/Object;)Z" } : Jvm.MethodName) ({ cls := "java/lang/String", name := "equals", desc := "(Ljava/lang/Object;)Z" } : Jvm.MethodName)) ∈ lw_all := lw_g (lw_at lw_m8 155 rfl) rfl
theorem q1935 : (Jvm.Cond.instanceMethod ({ cls := "java/lang/String", name := "equals", desc := "(Ljava/lang/Object;)Z" } : Jvm.MethodName)) ∈ lw_all := lw_g (lw_at lw_m8 156 rfl) rfl
theorem q1936 : (Jvm.Cond.code ({ cls := "java/lang/String", name := "equals", desc := "(Ljava/lang/Object;)Z" } : Jvm.MethodName) prog_40_method_66_code (3 : Nat) (Option.some Jvm.ClassFile.FieldType.boolean)) ∈ lw_all := lw_g (lw_at lw_m8 157 rfl) rfl
theorem q1937 : (Jvm.Cond.methodLink "java/lang/String" (541 : Nat) ({ cls := "java/lang/StringLatin1", name := "equals", desc := "([B[B)Z" } : Jvm.MethodName)) ∈ lw_all := lw_g (lw_at lw_m8 158 rfl) rfl
theorem q2750 : (Jvm.Cond.static ({ cls := "java/lang/String", name := "checkIndex", desc := "(II)V" } : Jvm.MethodName)) ∈ lw_all := lw_g (lw_at lw_m12 11 rfl) rfl
theorem q2751 : (Jvm.Cond.code ({ cls := "java/lang/String", name := "checkIndex", desc := "(II)V" } : Jvm.MethodName) prog_40_method_155_code (2 : Nat) (Option.none : Option Jvm.ClassFile.FieldType)) ∈ lw_all := lw_g (lw_at lw_m12 12 rfl) rfl
theorem q2752 : (Jvm.Cond.methodLink "java/lang/String" (1059 : Nat) ({ cls := "jdk/internal/util/Preconditions", name := "checkIndex", desc := "(IILjava/util/function/BiFunction;)I" } : Jvm.MethodName)) ∈ lw_all := lw_g (lw_at lw_m12 13 rfl) rfl
theorem q3199 : (Jvm.Cond.castable "java/lang/String" "java/lang/CharSequence") ∈ lw_tbl := lw_at lw_m13 220 rfl
theorem q3200 : (Jvm.Cond.selects "java/lang/String" ({ cls := "java/lang/CharSequence", name := "length", desc := "()I" } : Jvm.MethodName) ({ cls := "java/lang/String", name := "length", desc := "()I" } : Jvm.MethodName)) ∈ lw_all := lw_g (lw_at lw_m13 221 rfl) rfl
theorem q3201 : (Jvm.Cond.unhidden "java/lang/String" "length" "()I") ∈ lw_tbl := lw_at lw_m13 222 rfl
theorem q3202 : (Jvm.Cond.publicMethod ({ cls := "java/lang/String", name := "length", desc := "()I" } : Jvm.MethodName)) ∈ lw_tbl := lw_at lw_m13 223 rfl
theorem q3229 : (Jvm.Cond.instanceMethod ({ cls := "java/lang/String", name := "value", desc := "()[B" } : Jvm.MethodName)) ∈ lw_all := lw_g (lw_at lw_m14 10 rfl) rfl
theorem q3230 : (Jvm.Cond.selects "java/lang/String" ({ cls := "java/lang/String", name := "value", desc := "()[B" } : Jvm.MethodName) ({ cls := "java/lang/String", name := "value", desc := "()[B" } : Jvm.MethodName)) ∈ lw_all := lw_g (lw_at lw_m14 11 rfl) rfl
theorem q3231 : (Jvm.Cond.code ({ cls := "java/lang/String", name := "value", desc := "()[B" } : Jvm.MethodName) prog_40_method_153_code (1 : Nat) (Option.some (Jvm.ClassFile.FieldType.array Jvm.ClassFile.FieldType.byte))) ∈ lw_all := lw_g (lw_at lw_m14 12 rfl) rfl
theorem q3233 : (Jvm.Cond.instanceMethod ({ cls := "java/lang/String", name := "charAt", desc := "(I)C" } : Jvm.MethodName)) ∈ lw_all := lw_g (lw_at lw_m14 14 rfl) rfl
theorem q3234 : (Jvm.Cond.selects "java/lang/String" ({ cls := "java/lang/String", name := "charAt", desc := "(I)C" } : Jvm.MethodName) ({ cls := "java/lang/String", name := "charAt", desc := "(I)C" } : Jvm.MethodName)) ∈ lw_all := lw_g (lw_at lw_m14 15 rfl) rfl
theorem q3235 : (Jvm.Cond.code ({ cls := "java/lang/String", name := "charAt", desc := "(I)C" } : Jvm.MethodName) prog_40_method_56_code (2 : Nat) (Option.some Jvm.ClassFile.FieldType.char)) ∈ lw_all := lw_g (lw_at lw_m14 16 rfl) rfl
theorem q3236 : (Jvm.Cond.methodLink "java/lang/String" (495 : Nat) ({ cls := "java/lang/StringLatin1", name := "charAt", desc := "([BI)C" } : Jvm.MethodName)) ∈ lw_all := lw_g (lw_at lw_m14 17 rfl) rfl
theorem q3240 : (Jvm.Cond.methodLink "java/lang/String" (498 : Nat) ({ cls := "java/lang/StringUTF16", name := "charAt", desc := "([BI)C" } : Jvm.MethodName)) ∈ lw_all := lw_g (lw_at lw_m14 21 rfl) rfl
theorem q3250 : (Jvm.Cond.selects "java/lang/String" ({ cls := "java/lang/CharSequence", name := "charAt", desc := "(I)C" } : Jvm.MethodName) ({ cls := "java/lang/String", name := "charAt", desc := "(I)C" } : Jvm.MethodName)) ∈ lw_all := lw_g (lw_at lw_m14 31 rfl) rfl
theorem q3251 : (Jvm.Cond.unhidden "java/lang/String" "charAt" "(I)C") ∈ lw_tbl := lw_at lw_m14 32 rfl
theorem q3252 : (Jvm.Cond.publicMethod ({ cls := "java/lang/String", name := "charAt", desc := "(I)C" } : Jvm.MethodName)) ∈ lw_tbl := lw_at lw_m14 33 rfl
theorem q3281 : (Jvm.Cond.static ({ cls := "java/lang/String", name := "valueOf", desc := "(Ljava/lang/Object;)Ljava/lang/String;" } : Jvm.MethodName)) ∈ lw_all := lw_g (lw_at lw_m14 62 rfl) rfl
theorem q3282 : (Jvm.Cond.code ({ cls := "java/lang/String", name := "valueOf", desc := "(Ljava/lang/Object;)Ljava/lang/String;" } : Jvm.MethodName) prog_40_method_133_code (1 : Nat) (Option.some (Jvm.ClassFile.FieldType.object "java/lang/String"))) ∈ lw_all := lw_g (lw_at lw_m14 63 rfl) rfl
theorem q3283 : (Jvm.Cond.stringRef "java/lang/String" (1005 : Nat) "null") ∈ lw_tbl := lw_at lw_m14 64 rfl
theorem q3285 : (Jvm.Cond.methodLink "java/lang/String" (1007 : Nat) ({ cls := "java/lang/Object", name := "toString", desc := "()Ljava/lang/String;" } : Jvm.MethodName)) ∈ lw_all := lw_g (lw_at lw_m14 66 rfl) rfl
theorem q3357 : (Jvm.Cond.instanceMethod ({ cls := "java/lang/String", name := "<init>", desc := "([BB)V" } : Jvm.MethodName)) ∈ lw_all := lw_g (lw_at lw_m14 138 rfl) rfl
theorem q3358 : (Jvm.Cond.code ({ cls := "java/lang/String", name := "<init>", desc := "([BB)V" } : Jvm.MethodName) prog_40_method_151_code (3 : Nat) (Option.none : Option Jvm.ClassFile.FieldType)) ∈ lw_all := lw_g (lw_at lw_m14 139 rfl) rfl
theorem q3360 : (Jvm.Cond.selects "java/lang/String" ({ cls := "java/lang/Object", name := "toString", desc := "()Ljava/lang/String;" } : Jvm.MethodName) ({ cls := "java/lang/String", name := "toString", desc := "()Ljava/lang/String;" } : Jvm.MethodName)) ∈ lw_all := lw_g (lw_at lw_m14 141 rfl) rfl
theorem q3361 : (Jvm.Cond.instanceMethod ({ cls := "java/lang/String", name := "toString", desc := "()Ljava/lang/String;" } : Jvm.MethodName)) ∈ lw_all := lw_g (lw_at lw_m14 142 rfl) rfl
theorem q3362 : (Jvm.Cond.code ({ cls := "java/lang/String", name := "toString", desc := "()Ljava/lang/String;" } : Jvm.MethodName) prog_40_method_126_code (1 : Nat) (Option.some (Jvm.ClassFile.FieldType.object "java/lang/String"))) ∈ lw_all := lw_g (lw_at lw_m14 143 rfl) rfl
theorem q3510 : (Jvm.Cond.instanceMethod ({ cls := "java/lang/String", name := "startsWith", desc := "(Ljava/lang/String;)Z" } : Jvm.MethodName)) ∈ lw_all := lw_g (lw_at lw_m15 51 rfl) rfl
theorem q3511 : (Jvm.Cond.selects "java/lang/String" ({ cls := "java/lang/String", name := "startsWith", desc := "(Ljava/lang/String;)Z" } : Jvm.MethodName) ({ cls := "java/lang/String", name := "startsWith", desc := "(Ljava/lang/String;)Z" } : Jvm.MethodName)) ∈ lw_all := lw_g (lw_at lw_m15 52 rfl) rfl
theorem q3512 : (Jvm.Cond.code ({ cls := "java/lang/String", name := "startsWith", desc := "(Ljava/lang/String;)Z" } : Jvm.MethodName) prog_40_method_76_code (2 : Nat) (Option.some Jvm.ClassFile.FieldType.boolean)) ∈ lw_all := lw_g (lw_at lw_m15 53 rfl) rfl
theorem q3513 : (Jvm.Cond.methodLink "java/lang/String" (624 : Nat) ({ cls := "java/lang/String", name := "startsWith", desc := "(Ljava/lang/String;I)Z" } : Jvm.MethodName)) ∈ lw_all := lw_g (lw_at lw_m15 54 rfl) rfl
theorem q3514 : (Jvm.Cond.instanceMethod ({ cls := "java/lang/String", name := "startsWith", desc := "(Ljava/lang/String;I)Z" } : Jvm.MethodName)) ∈ lw_all := lw_g (lw_at lw_m15 55 rfl) rfl
theorem q3515 : (Jvm.Cond.selects "java/lang/String" ({ cls := "java/lang/String", name := "startsWith", desc := "(Ljava/lang/String;I)Z" } : Jvm.MethodName) ({ cls := "java/lang/String", name := "startsWith", desc := "(Ljava/lang/String;I)Z" } : Jvm.MethodName)) ∈ lw_all := lw_g (lw_at lw_m15 56 rfl) rfl
theorem q3516 : (Jvm.Cond.code ({ cls := "java/lang/String", name := "startsWith", desc := "(Ljava/lang/String;I)Z" } : Jvm.MethodName) prog_40_method_75_code (8 : Nat) (Option.some Jvm.ClassFile.FieldType.boolean)) ∈ lw_all := lw_g (lw_at lw_m15 57 rfl) rfl
theorem q3517 : (Jvm.Cond.methodLink "java/lang/String" (505 : Nat) ({ cls := "java/lang/String", name := "length", desc := "()I" } : Jvm.MethodName)) ∈ lw_all := lw_g (lw_at lw_m15 58 rfl) rfl
theorem q3518 : (Jvm.Cond.methodLink "java/lang/String" (607 : Nat) ({ cls := "jdk/internal/util/ArraysSupport", name := "mismatch", desc := "([BI[BII)I" } : Jvm.MethodName)) ∈ lw_all := lw_g (lw_at lw_m15 59 rfl) rfl
theorem q3521 : (Jvm.Cond.methodLink "java/lang/String" (360 : Nat) ({ cls := "java/lang/StringUTF16", name := "getChar", desc := "([BI)C" } : Jvm.MethodName)) ∈ lw_all := lw_g (lw_at lw_m15 62 rfl) rfl
theorem q4135 : (Jvm.Cond.selects "java/lang/String" ({ cls := "java/lang/String", name := "hashCode", desc := "()I" } : Jvm.MethodName) ({ cls := "java/lang/String", name := "hashCode", desc := "()I" } : Jvm.MethodName)) ∈ lw_all := lw_g (lw_at lw_m17 196 rfl) rfl
theorem q4136 : (Jvm.Cond.selects "java/lang/String" ({ cls := "java/lang/String", name := "equals", desc := "(Ljava/lang/Object;)Z" } : Jvm.MethodName) ({ cls := "java/lang/String", name := "equals", desc := "(Ljava/lang/Object;)Z" } : Jvm.MethodName)) ∈ lw_all := lw_g (lw_at lw_m17 197 rfl) rfl
theorem q4179 : (Jvm.Cond.castable "java/lang/String" "java/lang/Object") ∈ lw_tbl := lw_at lw_m18 0 rfl
theorem in_J7 : ∀ w ∈ wsJ70, w ∈ lw_all := lw_in wsJ70 [1098, 1100, 1102, 1104] (by decide +kernel) (by decide +kernel)
/-! java/lang/Throwable -/
set_option maxRecDepth 100000
def RJ9 : String := "java/lang/Throwable"
def TJ9 : u_T := fun k => match k with
  | 0 => ("java/lang/Throwable", "cause", "Ljava/lang/Throwable;", false)
  | 1 => ("java/lang/Throwable", "stackTrace", "[Ljava/lang/StackTraceElement;", false)
  | 2 => ("java/lang/Throwable", "suppressedExceptions", "Ljava/util/List;", false)
  | 3 => ("java/lang/Throwable", "detailMessage", "Ljava/lang/String;", false)
  | _ => ("java/lang/Throwable", "backtrace", "Ljava/lang/Object;", false)
def tyJ9 : Nat → FieldType := fun k => match k with
  | 0 => .object "java/lang/Throwable"
  | 1 => .array (.object "java/lang/StackTraceElement")
  | 2 => .object "java/util/List"
  | 3 => .object "java/lang/String"
  | _ => .object "java/lang/Object"
abbrev wsJ90 : List Cond := u_ws RJ9 TJ9 5
theorem nmJ9 : ∀ a, a < 5 → ∀ b, b < 5 → a ≠ b → (TJ9 a).2.1 ≠ (TJ9 b).2.1 := by decide +kernel
theorem tyJ9_ok : ∀ k, k < 5 → parseFieldDescriptor (TJ9 k).2.2.1 = some (tyJ9 k) := by decide +kernel
abbrev cJ9_init : ByteArray := prog_48_method_1_code
def yJ9_init : MethodName := ⟨RJ9, "<init>", "()V"⟩
def dkwJ9_init_1 : List UInt8 := [182, 0, 27, 87, 177]
abbrev dktJ9_init_1 : List UInt8 := dkwJ9_init_1 ++ []
def dkwJ9_init_0 : List UInt8 := [42, 183, 0, 1, 42, 42, 181, 0, 7, 42, 178, 0, 13, 181, 0, 17, 42, 178, 0, 20, 181, 0, 24, 42]
abbrev dktJ9_init_0 : List UInt8 := dkwJ9_init_0 ++ dktJ9_init_1
theorem dksJ9_init_0 : cJ9_init.data.toList.drop 0 = dktJ9_init_0 := by decide +kernel
theorem dksJ9_init_1 : cJ9_init.data.toList.drop 24 = dktJ9_init_1 := dk_seg dksJ9_init_0 24 rfl rfl
theorem dJ9_init_0 : decode cJ9_init 0 = .ok (.aload_n 0, 1) := dk_42 (dk_at dksJ9_init_0 0 rfl rfl)
theorem dJ9_init_1 : decode cJ9_init 1 = .ok (.invokespecial 1, 3) := dk_183 0 1 (dk_at dksJ9_init_0 1 rfl rfl)
theorem dJ9_init_4 : decode cJ9_init 4 = .ok (.aload_n 0, 1) := dk_42 (dk_at dksJ9_init_0 4 rfl rfl)
theorem dJ9_init_5 : decode cJ9_init 5 = .ok (.aload_n 0, 1) := dk_42 (dk_at dksJ9_init_0 5 rfl rfl)
theorem dJ9_init_6 : decode cJ9_init 6 = .ok (.putfield 7, 3) := dk_181 0 7 (dk_at dksJ9_init_0 6 rfl rfl)
theorem dJ9_init_9 : decode cJ9_init 9 = .ok (.aload_n 0, 1) := dk_42 (dk_at dksJ9_init_0 9 rfl rfl)
theorem dJ9_init_10 : decode cJ9_init 10 = .ok (.getstatic 13, 3) := dk_178 0 13 (dk_at dksJ9_init_0 10 rfl rfl)
theorem dJ9_init_13 : decode cJ9_init 13 = .ok (.putfield 17, 3) := dk_181 0 17 (dk_at dksJ9_init_0 13 rfl rfl)
theorem dJ9_init_16 : decode cJ9_init 16 = .ok (.aload_n 0, 1) := dk_42 (dk_at dksJ9_init_0 16 rfl rfl)
theorem dJ9_init_17 : decode cJ9_init 17 = .ok (.getstatic 20, 3) := dk_178 0 20 (dk_at dksJ9_init_0 17 rfl rfl)
theorem dJ9_init_20 : decode cJ9_init 20 = .ok (.putfield 24, 3) := dk_181 0 24 (dk_at dksJ9_init_0 20 rfl rfl)
theorem dJ9_init_23 : decode cJ9_init 23 = .ok (.aload_n 0, 1) := dk_42 (dk_at dksJ9_init_0 23 rfl rfl)
theorem dJ9_init_24 : decode cJ9_init 24 = .ok (.invokevirtual 27, 3) := dk_182 0 27 (dk_at dksJ9_init_1 0 rfl rfl)
theorem dJ9_init_27 : decode cJ9_init 27 = .ok (.pop, 1) := dk_87 (dk_at dksJ9_init_1 3 rfl rfl)
theorem dJ9_init_28 : decode cJ9_init 28 = .ok (.return_, 1) := dk_177 (dk_at dksJ9_init_1 4 rfl rfl)
abbrev cJ9_init_2 : ByteArray := prog_48_method_2_code
def yJ9_init_2 : MethodName := ⟨RJ9, "<init>", "(Ljava/lang/String;)V"⟩
def dkwJ9_init_2_1 : List UInt8 := [182, 0, 27, 87, 42, 43, 181, 0, 31, 177]
abbrev dktJ9_init_2_1 : List UInt8 := dkwJ9_init_2_1 ++ []
def dkwJ9_init_2_0 : List UInt8 := [42, 183, 0, 1, 42, 42, 181, 0, 7, 42, 178, 0, 13, 181, 0, 17, 42, 178, 0, 20, 181, 0, 24, 42]
abbrev dktJ9_init_2_0 : List UInt8 := dkwJ9_init_2_0 ++ dktJ9_init_2_1
theorem dksJ9_init_2_0 : cJ9_init_2.data.toList.drop 0 = dktJ9_init_2_0 := by decide +kernel
theorem dksJ9_init_2_1 : cJ9_init_2.data.toList.drop 24 = dktJ9_init_2_1 := dk_seg dksJ9_init_2_0 24 rfl rfl
theorem dJ9_init_2_0 : decode cJ9_init_2 0 = .ok (.aload_n 0, 1) := dk_42 (dk_at dksJ9_init_2_0 0 rfl rfl)
theorem dJ9_init_2_1 : decode cJ9_init_2 1 = .ok (.invokespecial 1, 3) := dk_183 0 1 (dk_at dksJ9_init_2_0 1 rfl rfl)
theorem dJ9_init_2_4 : decode cJ9_init_2 4 = .ok (.aload_n 0, 1) := dk_42 (dk_at dksJ9_init_2_0 4 rfl rfl)
theorem dJ9_init_2_5 : decode cJ9_init_2 5 = .ok (.aload_n 0, 1) := dk_42 (dk_at dksJ9_init_2_0 5 rfl rfl)
theorem dJ9_init_2_6 : decode cJ9_init_2 6 = .ok (.putfield 7, 3) := dk_181 0 7 (dk_at dksJ9_init_2_0 6 rfl rfl)
theorem dJ9_init_2_9 : decode cJ9_init_2 9 = .ok (.aload_n 0, 1) := dk_42 (dk_at dksJ9_init_2_0 9 rfl rfl)
theorem dJ9_init_2_10 : decode cJ9_init_2 10 = .ok (.getstatic 13, 3) := dk_178 0 13 (dk_at dksJ9_init_2_0 10 rfl rfl)
theorem dJ9_init_2_13 : decode cJ9_init_2 13 = .ok (.putfield 17, 3) := dk_181 0 17 (dk_at dksJ9_init_2_0 13 rfl rfl)
theorem dJ9_init_2_16 : decode cJ9_init_2 16 = .ok (.aload_n 0, 1) := dk_42 (dk_at dksJ9_init_2_0 16 rfl rfl)
theorem dJ9_init_2_17 : decode cJ9_init_2 17 = .ok (.getstatic 20, 3) := dk_178 0 20 (dk_at dksJ9_init_2_0 17 rfl rfl)
theorem dJ9_init_2_20 : decode cJ9_init_2 20 = .ok (.putfield 24, 3) := dk_181 0 24 (dk_at dksJ9_init_2_0 20 rfl rfl)
theorem dJ9_init_2_23 : decode cJ9_init_2 23 = .ok (.aload_n 0, 1) := dk_42 (dk_at dksJ9_init_2_0 23 rfl rfl)
theorem dJ9_init_2_24 : decode cJ9_init_2 24 = .ok (.invokevirtual 27, 3) := dk_182 0 27 (dk_at dksJ9_init_2_1 0 rfl rfl)
theorem dJ9_init_2_27 : decode cJ9_init_2 27 = .ok (.pop, 1) := dk_87 (dk_at dksJ9_init_2_1 3 rfl rfl)
theorem dJ9_init_2_28 : decode cJ9_init_2 28 = .ok (.aload_n 0, 1) := dk_42 (dk_at dksJ9_init_2_1 4 rfl rfl)
theorem dJ9_init_2_29 : decode cJ9_init_2 29 = .ok (.aload_n 1, 1) := dk_43 (dk_at dksJ9_init_2_1 5 rfl rfl)
theorem dJ9_init_2_30 : decode cJ9_init_2 30 = .ok (.putfield 31, 3) := dk_181 0 31 (dk_at dksJ9_init_2_1 6 rfl rfl)
theorem dJ9_init_2_33 : decode cJ9_init_2 33 = .ok (.return_, 1) := dk_177 (dk_at dksJ9_init_2_1 9 rfl rfl)
abbrev cJ9_toString : ByteArray := prog_48_method_11_code
def yJ9_toString : MethodName := ⟨RJ9, "toString", "()Ljava/lang/String;"⟩
def dkwJ9_toString_1 : List UInt8 := [43, 182, 0, 49, 18, 81, 182, 0, 49, 44, 182, 0, 49, 182, 0, 60, 167, 0, 4, 43, 176]
abbrev dktJ9_toString_1 : List UInt8 := dkwJ9_toString_1 ++ []
def dkwJ9_toString_0 : List UInt8 := [42, 182, 0, 69, 182, 0, 73, 76, 42, 182, 0, 78, 77, 44, 198, 0, 29, 187, 0, 44, 89, 183, 0, 46]
abbrev dktJ9_toString_0 : List UInt8 := dkwJ9_toString_0 ++ dktJ9_toString_1
theorem dksJ9_toString_0 : cJ9_toString.data.toList.drop 0 = dktJ9_toString_0 := by decide +kernel
theorem dksJ9_toString_1 : cJ9_toString.data.toList.drop 24 = dktJ9_toString_1 := dk_seg dksJ9_toString_0 24 rfl rfl
theorem dJ9_toString_0 : decode cJ9_toString 0 = .ok (.aload_n 0, 1) := dk_42 (dk_at dksJ9_toString_0 0 rfl rfl)
theorem dJ9_toString_1 : decode cJ9_toString 1 = .ok (.invokevirtual 69, 3) := dk_182 0 69 (dk_at dksJ9_toString_0 1 rfl rfl)
theorem dJ9_toString_4 : decode cJ9_toString 4 = .ok (.invokevirtual 73, 3) := dk_182 0 73 (dk_at dksJ9_toString_0 4 rfl rfl)
theorem dJ9_toString_7 : decode cJ9_toString 7 = .ok (.astore_n 1, 1) := dk_76 (dk_at dksJ9_toString_0 7 rfl rfl)
theorem dJ9_toString_8 : decode cJ9_toString 8 = .ok (.aload_n 0, 1) := dk_42 (dk_at dksJ9_toString_0 8 rfl rfl)
theorem dJ9_toString_9 : decode cJ9_toString 9 = .ok (.invokevirtual 78, 3) := dk_182 0 78 (dk_at dksJ9_toString_0 9 rfl rfl)
theorem dJ9_toString_12 : decode cJ9_toString 12 = .ok (.astore_n 2, 1) := dk_77 (dk_at dksJ9_toString_0 12 rfl rfl)
theorem dJ9_toString_13 : decode cJ9_toString 13 = .ok (.aload_n 2, 1) := dk_44 (dk_at dksJ9_toString_0 13 rfl rfl)
theorem dJ9_toString_14 : decode cJ9_toString 14 = .ok (.ifnull 29, 3) := dk_198 0 29 (dk_at dksJ9_toString_0 14 rfl rfl)
theorem dJ9_toString_17 : decode cJ9_toString 17 = .ok (.new 44, 3) := dk_187 0 44 (dk_at dksJ9_toString_0 17 rfl rfl)
theorem dJ9_toString_20 : decode cJ9_toString 20 = .ok (.dup, 1) := dk_89 (dk_at dksJ9_toString_0 20 rfl rfl)
theorem dJ9_toString_21 : decode cJ9_toString 21 = .ok (.invokespecial 46, 3) := dk_183 0 46 (dk_at dksJ9_toString_0 21 rfl rfl)
theorem dJ9_toString_24 : decode cJ9_toString 24 = .ok (.aload_n 1, 1) := dk_43 (dk_at dksJ9_toString_1 0 rfl rfl)
theorem dJ9_toString_25 : decode cJ9_toString 25 = .ok (.invokevirtual 49, 3) := dk_182 0 49 (dk_at dksJ9_toString_1 1 rfl rfl)
theorem dJ9_toString_28 : decode cJ9_toString 28 = .ok (.ldc 81, 2) := dk_18 81 (dk_at dksJ9_toString_1 4 rfl rfl)
theorem dJ9_toString_30 : decode cJ9_toString 30 = .ok (.invokevirtual 49, 3) := dk_182 0 49 (dk_at dksJ9_toString_1 6 rfl rfl)
theorem dJ9_toString_33 : decode cJ9_toString 33 = .ok (.aload_n 2, 1) := dk_44 (dk_at dksJ9_toString_1 9 rfl rfl)
theorem dJ9_toString_34 : decode cJ9_toString 34 = .ok (.invokevirtual 49, 3) := dk_182 0 49 (dk_at dksJ9_toString_1 10 rfl rfl)
theorem dJ9_toString_37 : decode cJ9_toString 37 = .ok (.invokevirtual 60, 3) := dk_182 0 60 (dk_at dksJ9_toString_1 13 rfl rfl)
theorem dJ9_toString_40 : decode cJ9_toString 40 = .ok (.goto 4, 3) := dk_167 0 4 (dk_at dksJ9_toString_1 16 rfl rfl)
theorem dJ9_toString_43 : decode cJ9_toString 43 = .ok (.aload_n 1, 1) := dk_43 (dk_at dksJ9_toString_1 19 rfl rfl)
theorem dJ9_toString_44 : decode cJ9_toString 44 = .ok (.areturn, 1) := dk_176 (dk_at dksJ9_toString_1 20 rfl rfl)
abbrev cJ9_getLocalizedMessage : ByteArray := prog_48_method_7_code
def yJ9_getLocalizedMessage : MethodName := ⟨RJ9, "getLocalizedMessage", "()Ljava/lang/String;"⟩
theorem dJ9_getLocalizedMessage_0 : decode cJ9_getLocalizedMessage 0 = .ok (.aload_n 0, 1) := by decide +kernel
theorem dJ9_getLocalizedMessage_1 : decode cJ9_getLocalizedMessage 1 = .ok (.invokevirtual 39, 3) := by decide +kernel
theorem dJ9_getLocalizedMessage_4 : decode cJ9_getLocalizedMessage 4 = .ok (.areturn, 1) := by decide +kernel
abbrev cJ9_getMessage : ByteArray := prog_48_method_6_code
def yJ9_getMessage : MethodName := ⟨RJ9, "getMessage", "()Ljava/lang/String;"⟩
theorem dJ9_getMessage_0 : decode cJ9_getMessage 0 = .ok (.aload_n 0, 1) := by decide +kernel
theorem dJ9_getMessage_1 : decode cJ9_getMessage 1 = .ok (.getfield 31, 3) := by decide +kernel
theorem dJ9_getMessage_4 : decode cJ9_getMessage 4 = .ok (.areturn, 1) := by decide +kernel
abbrev cJ9_init_3 : ByteArray := prog_48_method_3_code
def yJ9_init_3 : MethodName := ⟨RJ9, "<init>", "(Ljava/lang/String;Ljava/lang/Throwable;)V"⟩
def dkwJ9_init_3_1 : List UInt8 := [182, 0, 27, 87, 42, 43, 181, 0, 31, 42, 44, 181, 0, 7, 177]
abbrev dktJ9_init_3_1 : List UInt8 := dkwJ9_init_3_1 ++ []
def dkwJ9_init_3_0 : List UInt8 := [42, 183, 0, 1, 42, 42, 181, 0, 7, 42, 178, 0, 13, 181, 0, 17, 42, 178, 0, 20, 181, 0, 24, 42]
abbrev dktJ9_init_3_0 : List UInt8 := dkwJ9_init_3_0 ++ dktJ9_init_3_1
theorem dksJ9_init_3_0 : cJ9_init_3.data.toList.drop 0 = dktJ9_init_3_0 := by decide +kernel
theorem dksJ9_init_3_1 : cJ9_init_3.data.toList.drop 24 = dktJ9_init_3_1 := dk_seg dksJ9_init_3_0 24 rfl rfl
theorem dJ9_init_3_0 : decode cJ9_init_3 0 = .ok (.aload_n 0, 1) := dk_42 (dk_at dksJ9_init_3_0 0 rfl rfl)
theorem dJ9_init_3_1 : decode cJ9_init_3 1 = .ok (.invokespecial 1, 3) := dk_183 0 1 (dk_at dksJ9_init_3_0 1 rfl rfl)
theorem dJ9_init_3_4 : decode cJ9_init_3 4 = .ok (.aload_n 0, 1) := dk_42 (dk_at dksJ9_init_3_0 4 rfl rfl)
theorem dJ9_init_3_5 : decode cJ9_init_3 5 = .ok (.aload_n 0, 1) := dk_42 (dk_at dksJ9_init_3_0 5 rfl rfl)
theorem dJ9_init_3_6 : decode cJ9_init_3 6 = .ok (.putfield 7, 3) := dk_181 0 7 (dk_at dksJ9_init_3_0 6 rfl rfl)
theorem dJ9_init_3_9 : decode cJ9_init_3 9 = .ok (.aload_n 0, 1) := dk_42 (dk_at dksJ9_init_3_0 9 rfl rfl)
theorem dJ9_init_3_10 : decode cJ9_init_3 10 = .ok (.getstatic 13, 3) := dk_178 0 13 (dk_at dksJ9_init_3_0 10 rfl rfl)
theorem dJ9_init_3_13 : decode cJ9_init_3 13 = .ok (.putfield 17, 3) := dk_181 0 17 (dk_at dksJ9_init_3_0 13 rfl rfl)
theorem dJ9_init_3_16 : decode cJ9_init_3 16 = .ok (.aload_n 0, 1) := dk_42 (dk_at dksJ9_init_3_0 16 rfl rfl)
theorem dJ9_init_3_17 : decode cJ9_init_3 17 = .ok (.getstatic 20, 3) := dk_178 0 20 (dk_at dksJ9_init_3_0 17 rfl rfl)
theorem dJ9_init_3_20 : decode cJ9_init_3 20 = .ok (.putfield 24, 3) := dk_181 0 24 (dk_at dksJ9_init_3_0 20 rfl rfl)
theorem dJ9_init_3_23 : decode cJ9_init_3 23 = .ok (.aload_n 0, 1) := dk_42 (dk_at dksJ9_init_3_0 23 rfl rfl)
theorem dJ9_init_3_24 : decode cJ9_init_3 24 = .ok (.invokevirtual 27, 3) := dk_182 0 27 (dk_at dksJ9_init_3_1 0 rfl rfl)
theorem dJ9_init_3_27 : decode cJ9_init_3 27 = .ok (.pop, 1) := dk_87 (dk_at dksJ9_init_3_1 3 rfl rfl)
theorem dJ9_init_3_28 : decode cJ9_init_3 28 = .ok (.aload_n 0, 1) := dk_42 (dk_at dksJ9_init_3_1 4 rfl rfl)
theorem dJ9_init_3_29 : decode cJ9_init_3 29 = .ok (.aload_n 1, 1) := dk_43 (dk_at dksJ9_init_3_1 5 rfl rfl)
theorem dJ9_init_3_30 : decode cJ9_init_3 30 = .ok (.putfield 31, 3) := dk_181 0 31 (dk_at dksJ9_init_3_1 6 rfl rfl)
theorem dJ9_init_3_33 : decode cJ9_init_3 33 = .ok (.aload_n 0, 1) := dk_42 (dk_at dksJ9_init_3_1 9 rfl rfl)
theorem dJ9_init_3_34 : decode cJ9_init_3 34 = .ok (.aload_n 2, 1) := dk_44 (dk_at dksJ9_init_3_1 10 rfl rfl)
theorem dJ9_init_3_35 : decode cJ9_init_3 35 = .ok (.putfield 7, 3) := dk_181 0 7 (dk_at dksJ9_init_3_1 11 rfl rfl)
theorem dJ9_init_3_38 : decode cJ9_init_3 38 = .ok (.return_, 1) := dk_177 (dk_at dksJ9_init_3_1 14 rfl rfl)
theorem q114 : (Jvm.Cond.initialized "java/lang/Throwable") ∈ lw_all := lw_g (lw_at lw_m1 15 rfl) rfl
theorem q737 : (Jvm.Cond.declares ({ cls := "java/lang/Throwable", name := "<init>", desc := "()V" } : Jvm.MethodName)) ∈ lw_tbl := lw_at lw_m3 158 rfl
theorem q738 : (Jvm.Cond.declares ({ cls := "java/lang/Throwable", name := "<init>", desc := "(Ljava/lang/String;)V" } : Jvm.MethodName)) ∈ lw_tbl := lw_at lw_m3 159 rfl
theorem q742 : (Jvm.Cond.lays "java/lang/Throwable" "java/lang/Throwable" "cause" "Ljava/lang/Throwable;") ∈ lw_all := lw_g (lw_at lw_m3 163 rfl) rfl
theorem q744 : (Jvm.Cond.lays "java/lang/Throwable" "java/lang/Throwable" "stackTrace" "[Ljava/lang/StackTraceElement;") ∈ lw_all := lw_g (lw_at lw_m3 165 rfl) rfl
theorem q746 : (Jvm.Cond.lays "java/lang/Throwable" "java/lang/Throwable" "suppressedExceptions" "Ljava/util/List;") ∈ lw_all := lw_g (lw_at lw_m3 167 rfl) rfl
theorem q748 : (Jvm.Cond.lays "java/lang/Throwable" "java/lang/Throwable" "detailMessage" "Ljava/lang/String;") ∈ lw_all := lw_g (lw_at lw_m3 169 rfl) rfl
theorem q750 : (Jvm.Cond.lays "java/lang/Throwable" "java/lang/Throwable" "backtrace" "Ljava/lang/Object;") ∈ lw_all := lw_g (lw_at lw_m3 171 rfl) rfl
theorem q751 : (Jvm.Cond.fieldLink "java/lang/Throwable" (198 : Nat) "java/lang/Throwable" "backtrace" "Ljava/lang/Object;") ∈ lw_all := lw_g (lw_at lw_m3 172 rfl) rfl
theorem q752 : (Jvm.Cond.superclass "java/lang/Throwable" "java/lang/Object") ∈ lw_all := lw_g (lw_at lw_m3 173 rfl) rfl
theorem q753 : (Jvm.Cond.instanceMethod ({ cls := "java/lang/Throwable", name := "<init>", desc := "()V" } : Jvm.MethodName)) ∈ lw_all := lw_g (lw_at lw_m3 174 rfl) rfl
theorem q754 : (Jvm.Cond.code ({ cls := "java/lang/Throwable", name := "<init>", desc := "()V" } : Jvm.MethodName) prog_48_method_1_code (1 : Nat) (Option.none : Option Jvm.ClassFile.FieldType)) ∈ lw_all := lw_g (lw_at lw_m3 175 rfl) rfl
theorem q755 : (Jvm.Cond.methodLink "java/lang/Throwable" (1 : Nat) ({ cls := "java/lang/Object", name := "<init>", desc := "()V" } : Jvm.MethodName)) ∈ lw_all := lw_g (lw_at lw_m3 176 rfl) rfl
theorem q756 : (Jvm.Cond.fieldLink "java/lang/Throwable" (13 : Nat) "java/lang/Throwable" "UNASSIGNED_STACK" "[Ljava/lang/StackTraceElement;") ∈ lw_all := lw_g (lw_at lw_m3 177 rfl) rfl
theorem q757 : (Jvm.Cond.laysStatic "java/lang/Throwable" "UNASSIGNED_STACK" "[Ljava/lang/StackTraceElement;") ∈ lw_tbl := lw_at lw_m3 178 rfl
theorem q758 : (Jvm.Cond.fieldLink "java/lang/Throwable" (20 : Nat) "java/lang/Throwable" "SUPPRESSED_SENTINEL" "Ljava/util/List;") ∈ lw_all := lw_g (lw_at lw_m3 179 rfl) rfl
theorem q759 : (Jvm.Cond.laysStatic "java/lang/Throwable" "SUPPRESSED_SENTINEL" "Ljava/util/List;") ∈ lw_tbl := lw_at lw_m3 180 rfl
theorem q760 : (Jvm.Cond.methodLink "java/lang/Throwable" (27 : Nat) ({ cls := "java/lang/Throwable", name := "fillInStackTrace", desc := "()Ljava/lang/Throwable;" } : Jvm.MethodName)) ∈ lw_all := lw_g (lw_at lw_m3 181 rfl) rfl
theorem q761 : (Jvm.Cond.instanceMethod ({ cls := "java/lang/Throwable", name := "fillInStackTrace", desc := "()Ljava/lang/Throwable;" } : Jvm.MethodName)) ∈ lw_all := lw_g (lw_at lw_m3 182 rfl) rfl
theorem q762 : (Jvm.Cond.sameMethod "java/lang/Throwable" "java/lang/Throwable" "fillInStackTrace" "()Ljava/lang/Throwable;") ∈ lw_all := lw_g (lw_at lw_m3 183 rfl) rfl
theorem q773 : (Jvm.Cond.codeSync ({ cls := "java/lang/Throwable", name := "fillInStackTrace", desc := "()Ljava/lang/Throwable;" } : Jvm.MethodName) prog_48_method_18_code (1 : Nat) (Option.some (Jvm.ClassFile.FieldType.object "java/lang/Throwable"))) ∈ lw_all := lw_g (lw_at lw_m3 194 rfl) rfl
theorem q774 : (Jvm.Cond.methodLink "java/lang/Throwable" (202 : Nat) ({ cls := "java/lang/Throwable", name := "fillInStackTrace", desc := "(I)Ljava/lang/Throwable;" } : Jvm.MethodName)) ∈ lw_all := lw_g (lw_at lw_m3 195 rfl) rfl
theorem q775 : (Jvm.Cond.privateMethod ({ cls := "java/lang/Throwable", name := "fillInStackTrace", desc := "(I)Ljava/lang/Throwable;" } : Jvm.MethodName)) ∈ lw_tbl := lw_at lw_m3 196 rfl
theorem q776 : (Jvm.Cond.instanceMethod ({ cls := "java/lang/Throwable", name := "fillInStackTrace", desc := "(I)Ljava/lang/Throwable;" } : Jvm.MethodName)) ∈ lw_all := lw_g (lw_at lw_m3 197 rfl) rfl
theorem q777 : (Jvm.Cond.instantiable "java/lang/Throwable" (6 : Nat)) ∈ lw_all := lw_g (lw_at lw_m3 198 rfl) rfl
theorem q778 : (Jvm.Cond.native ({ cls := "java/lang/Throwable", name := "fillInStackTrace", desc := "(I)Ljava/lang/Throwable;" } : Jvm.MethodName)) ∈ lw_all := lw_g (lw_at lw_m3 199 rfl) rfl
theorem q789 : (Jvm.Cond.fieldLink "java/lang/Throwable" (198 : Nat) "java/lang/Throwable" "backtrace" "Ljava/lang/Object;") ∈ lw_all := lw_g (lw_at lw_m3 210 rfl) rfl
theorem q790 : (Jvm.Cond.fieldLink "java/lang/Throwable" (31 : Nat) "java/lang/Throwable" "detailMessage" "Ljava/lang/String;") ∈ lw_all := lw_g (lw_at lw_m3 211 rfl) rfl
theorem q791 : (Jvm.Cond.fieldLink "java/lang/Throwable" (7 : Nat) "java/lang/Throwable" "cause" "Ljava/lang/Throwable;") ∈ lw_all := lw_g (lw_at lw_m3 212 rfl) rfl
theorem q792 : (Jvm.Cond.fieldLink "java/lang/Throwable" (17 : Nat) "java/lang/Throwable" "stackTrace" "[Ljava/lang/StackTraceElement;") ∈ lw_all := lw_g (lw_at lw_m3 213 rfl) rfl
theorem q793 : (Jvm.Cond.fieldLink "java/lang/Throwable" (24 : Nat) "java/lang/Throwable" "suppressedExceptions" "Ljava/util/List;") ∈ lw_all := lw_g (lw_at lw_m3 214 rfl) rfl
theorem q794 : (Jvm.Cond.soleField "java/lang/Throwable" "backtrace") ∈ lw_all := lw_g (lw_at lw_m3 215 rfl) rfl
theorem q795 : (Jvm.Cond.soleField "java/lang/Throwable" "detailMessage") ∈ lw_all := lw_g (lw_at lw_m3 216 rfl) rfl
theorem q796 : (Jvm.Cond.soleField "java/lang/Throwable" "cause") ∈ lw_all := lw_g (lw_at lw_m3 217 rfl) rfl
theorem q797 : (Jvm.Cond.soleField "java/lang/Throwable" "stackTrace") ∈ lw_all := lw_g (lw_at lw_m3 218 rfl) rfl
theorem q799 : (Jvm.Cond.soleField "java/lang/Throwable" "depth") ∈ lw_all := lw_g (lw_at lw_m3 220 rfl) rfl
theorem q800 : (Jvm.Cond.soleField "java/lang/Throwable" "suppressedExceptions") ∈ lw_all := lw_g (lw_at lw_m3 221 rfl) rfl
theorem q1077 : (Jvm.Cond.instanceMethod ({ cls := "java/lang/Throwable", name := "<init>", desc := "(Ljava/lang/String;)V" } : Jvm.MethodName)) ∈ lw_all := lw_g (lw_at lw_m5 18 rfl) rfl
theorem q1078 : (Jvm.Cond.code ({ cls := "java/lang/Throwable", name := "<init>", desc := "(Ljava/lang/String;)V" } : Jvm.MethodName) prog_48_method_2_code (2 : Nat) (Option.none : Option Jvm.ClassFile.FieldType)) ∈ lw_all := lw_g (lw_at lw_m5 19 rfl) rfl
theorem q3291 : (Jvm.Cond.instanceMethod ({ cls := "java/lang/Throwable", name := "toString", desc := "()Ljava/lang/String;" } : Jvm.MethodName)) ∈ lw_all := lw_g (lw_at lw_m14 72 rfl) rfl
theorem q3292 : (Jvm.Cond.code ({ cls := "java/lang/Throwable", name := "toString", desc := "()Ljava/lang/String;" } : Jvm.MethodName) prog_48_method_11_code (3 : Nat) (Option.some (Jvm.ClassFile.FieldType.object "java/lang/String"))) ∈ lw_all := lw_g (lw_at lw_m14 73 rfl) rfl
theorem q3293 : (Jvm.Cond.methodLink "java/lang/Throwable" (69 : Nat) ({ cls := "java/lang/Object", name := "getClass", desc := "()Ljava/lang/Class;" } : Jvm.MethodName)) ∈ lw_all := lw_g (lw_at lw_m14 74 rfl) rfl
theorem q3294 : (Jvm.Cond.methodLink "java/lang/Throwable" (78 : Nat) ({ cls := "java/lang/Throwable", name := "getLocalizedMessage", desc := "()Ljava/lang/String;" } : Jvm.MethodName)) ∈ lw_all := lw_g (lw_at lw_m14 75 rfl) rfl
theorem q3295 : (Jvm.Cond.instanceMethod ({ cls := "java/lang/Throwable", name := "getLocalizedMessage", desc := "()Ljava/lang/String;" } : Jvm.MethodName)) ∈ lw_all := lw_g (lw_at lw_m14 76 rfl) rfl
theorem q3296 : (Jvm.Cond.sameMethod "java/lang/Throwable" "java/lang/Throwable" "getLocalizedMessage" "()Ljava/lang/String;") ∈ lw_all := lw_g (lw_at lw_m14 77 rfl) rfl
theorem q3308 : (Jvm.Cond.code ({ cls := "java/lang/Throwable", name := "getLocalizedMessage", desc := "()Ljava/lang/String;" } : Jvm.MethodName) prog_48_method_7_code (1 : Nat) (Option.some (Jvm.ClassFile.FieldType.object "java/lang/String"))) ∈ lw_all := lw_g (lw_at lw_m14 89 rfl) rfl
theorem q3309 : (Jvm.Cond.methodLink "java/lang/Throwable" (39 : Nat) ({ cls := "java/lang/Throwable", name := "getMessage", desc := "()Ljava/lang/String;" } : Jvm.MethodName)) ∈ lw_all := lw_g (lw_at lw_m14 90 rfl) rfl
theorem q3310 : (Jvm.Cond.instanceMethod ({ cls := "java/lang/Throwable", name := "getMessage", desc := "()Ljava/lang/String;" } : Jvm.MethodName)) ∈ lw_all := lw_g (lw_at lw_m14 91 rfl) rfl
theorem q3311 : (Jvm.Cond.sameMethod "java/lang/Throwable" "java/lang/Throwable" "getMessage" "()Ljava/lang/String;") ∈ lw_all := lw_g (lw_at lw_m14 92 rfl) rfl
theorem q3323 : (Jvm.Cond.code ({ cls := "java/lang/Throwable", name := "getMessage", desc := "()Ljava/lang/String;" } : Jvm.MethodName) prog_48_method_6_code (1 : Nat) (Option.some (Jvm.ClassFile.FieldType.object "java/lang/String"))) ∈ lw_all := lw_g (lw_at lw_m14 104 rfl) rfl
theorem q3324 : (Jvm.Cond.classLink "java/lang/Throwable" (44 : Nat) "java/lang/StringBuilder") ∈ lw_all := lw_g (lw_at lw_m14 105 rfl) rfl
theorem q3325 : (Jvm.Cond.methodLink "java/lang/Throwable" (46 : Nat) ({ cls := "java/lang/StringBuilder", name := "<init>", desc := "()V" } : Jvm.MethodName)) ∈ lw_all := lw_g (lw_at lw_m14 106 rfl) rfl
theorem q3326 : (Jvm.Cond.methodLink "java/lang/Throwable" (49 : Nat) ({ cls := "java/lang/StringBuilder", name := "append", desc := "(Ljava/lang/String;)Ljava/lang/StringBuilder;" } : Jvm.MethodName)) ∈ lw_all := lw_g (lw_at lw_m14 107 rfl) rfl
theorem q3327 : (Jvm.Cond.stringRef "java/lang/Throwable" (81 : Nat) ": ") ∈ lw_tbl := lw_at lw_m14 108 rfl
theorem q3328 : (Jvm.Cond.methodLink "java/lang/Throwable" (60 : Nat) ({ cls := "java/lang/StringBuilder", name := "toString", desc := "()Ljava/lang/String;" } : Jvm.MethodName)) ∈ lw_all := lw_g (lw_at lw_m14 109 rfl) rfl
theorem q3381 : (Jvm.Cond.declares ({ cls := "java/lang/Throwable", name := "initCause", desc := "(Ljava/lang/Throwable;)Ljava/lang/Throwable;" } : Jvm.MethodName)) ∈ lw_tbl := lw_at lw_m14 162 rfl
theorem q3383 : (Jvm.Cond.instanceMethod ({ cls := "java/lang/Throwable", name := "initCause", desc := "(Ljava/lang/Throwable;)Ljava/lang/Throwable;" } : Jvm.MethodName)) ∈ lw_all := lw_g (lw_at lw_m14 164 rfl) rfl
theorem q3384 : (Jvm.Cond.codeSync ({ cls := "java/lang/Throwable", name := "initCause", desc := "(Ljava/lang/Throwable;)Ljava/lang/Throwable;" } : Jvm.MethodName) prog_48_method_9_code (2 : Nat) (Option.some (Jvm.ClassFile.FieldType.object "java/lang/Throwable"))) ∈ lw_all := lw_g (lw_at lw_m14 165 rfl) rfl
theorem q3385 : (Jvm.Cond.classLink "java/lang/Throwable" (42 : Nat) "java/lang/IllegalStateException") ∈ lw_all := lw_g (lw_at lw_m14 166 rfl) rfl
theorem q3386 : (Jvm.Cond.stringRef "java/lang/Throwable" (47 : Nat) "Can't overwrite cause with ") ∈ lw_tbl := lw_at lw_m14 167 rfl
theorem q3387 : (Jvm.Cond.stringRef "java/lang/Throwable" (53 : Nat) "a null") ∈ lw_tbl := lw_at lw_m14 168 rfl
theorem q3388 : (Jvm.Cond.methodLink "java/lang/Throwable" (55 : Nat) ({ cls := "java/util/Objects", name := "toString", desc := "(Ljava/lang/Object;Ljava/lang/String;)Ljava/lang/String;" } : Jvm.MethodName)) ∈ lw_all := lw_g (lw_at lw_m14 169 rfl) rfl
theorem q3392 : (Jvm.Cond.methodLink "java/lang/Throwable" (61 : Nat) ({ cls := "java/lang/IllegalStateException", name := "<init>", desc := "(Ljava/lang/String;Ljava/lang/Throwable;)V" } : Jvm.MethodName)) ∈ lw_all := lw_g (lw_at lw_m14 173 rfl) rfl
theorem q3402 : (Jvm.Cond.instanceMethod ({ cls := "java/lang/Throwable", name := "<init>", desc := "(Ljava/lang/String;Ljava/lang/Throwable;)V" } : Jvm.MethodName)) ∈ lw_all := lw_g (lw_at lw_m14 183 rfl) rfl
theorem q3403 : (Jvm.Cond.code ({ cls := "java/lang/Throwable", name := "<init>", desc := "(Ljava/lang/String;Ljava/lang/Throwable;)V" } : Jvm.MethodName) prog_48_method_3_code (3 : Nat) (Option.none : Option Jvm.ClassFile.FieldType)) ∈ lw_all := lw_g (lw_at lw_m14 184 rfl) rfl
theorem q3404 : (Jvm.Cond.classLink "java/lang/Throwable" (64 : Nat) "java/lang/IllegalArgumentException") ∈ lw_all := lw_g (lw_at lw_m14 185 rfl) rfl
theorem q3405 : (Jvm.Cond.stringRef "java/lang/Throwable" (66 : Nat) "Self-causation not permitted") ∈ lw_tbl := lw_at lw_m14 186 rfl
theorem q3406 : (Jvm.Cond.methodLink "java/lang/Throwable" (68 : Nat) ({ cls := "java/lang/IllegalArgumentException", name := "<init>", desc := "(Ljava/lang/String;Ljava/lang/Throwable;)V" } : Jvm.MethodName)) ∈ lw_all := lw_g (lw_at lw_m14 187 rfl) rfl
theorem q4108 : (Jvm.Cond.sameMethod "java/lang/Throwable" "java/lang/Throwable" "fillInStackTrace" "(I)Ljava/lang/Throwable;") ∈ lw_all := lw_g (lw_at lw_m17 169 rfl) rfl
theorem q4195 : (Jvm.Cond.castable "java/lang/Throwable" "java/lang/Object") ∈ lw_tbl := lw_at lw_m18 16 rfl
theorem in_J9 : ∀ w ∈ wsJ90, w ∈ lw_all := lw_in wsJ90 [742, 744, 746, 748, 750] (by decide +kernel) (by decide +kernel)
/-! java/lang/Exception -/
set_option maxRecDepth 100000
def RJ10 : String := "java/lang/Exception"
abbrev cJ10_init : ByteArray := prog_27_method_1_code
def yJ10_init : MethodName := ⟨RJ10, "<init>", "()V"⟩
theorem dJ10_init_0 : decode cJ10_init 0 = .ok (.aload_n 0, 1) := by decide +kernel
theorem dJ10_init_1 : decode cJ10_init 1 = .ok (.invokespecial 1, 3) := by decide +kernel
theorem dJ10_init_4 : decode cJ10_init 4 = .ok (.return_, 1) := by decide +kernel
abbrev cJ10_init_2 : ByteArray := prog_27_method_2_code
def yJ10_init_2 : MethodName := ⟨RJ10, "<init>", "(Ljava/lang/String;)V"⟩
def dkwJ10_init_2_0 : List UInt8 := [42, 43, 183, 0, 7, 177]
abbrev dktJ10_init_2_0 : List UInt8 := dkwJ10_init_2_0 ++ []
theorem dksJ10_init_2_0 : cJ10_init_2.data.toList.drop 0 = dktJ10_init_2_0 := by decide +kernel
theorem dJ10_init_2_0 : decode cJ10_init_2 0 = .ok (.aload_n 0, 1) := dk_42 (dk_at dksJ10_init_2_0 0 rfl rfl)
theorem dJ10_init_2_1 : decode cJ10_init_2 1 = .ok (.aload_n 1, 1) := dk_43 (dk_at dksJ10_init_2_0 1 rfl rfl)
theorem dJ10_init_2_2 : decode cJ10_init_2 2 = .ok (.invokespecial 7, 3) := dk_183 0 7 (dk_at dksJ10_init_2_0 2 rfl rfl)
theorem dJ10_init_2_5 : decode cJ10_init_2 5 = .ok (.return_, 1) := dk_177 (dk_at dksJ10_init_2_0 5 rfl rfl)
abbrev cJ10_init_3 : ByteArray := prog_27_method_3_code
def yJ10_init_3 : MethodName := ⟨RJ10, "<init>", "(Ljava/lang/String;Ljava/lang/Throwable;)V"⟩
def dkwJ10_init_3_0 : List UInt8 := [42, 43, 44, 183, 0, 10, 177]
abbrev dktJ10_init_3_0 : List UInt8 := dkwJ10_init_3_0 ++ []
theorem dksJ10_init_3_0 : cJ10_init_3.data.toList.drop 0 = dktJ10_init_3_0 := by decide +kernel
theorem dJ10_init_3_0 : decode cJ10_init_3 0 = .ok (.aload_n 0, 1) := dk_42 (dk_at dksJ10_init_3_0 0 rfl rfl)
theorem dJ10_init_3_1 : decode cJ10_init_3 1 = .ok (.aload_n 1, 1) := dk_43 (dk_at dksJ10_init_3_0 1 rfl rfl)
theorem dJ10_init_3_2 : decode cJ10_init_3 2 = .ok (.aload_n 2, 1) := dk_44 (dk_at dksJ10_init_3_0 2 rfl rfl)
theorem dJ10_init_3_3 : decode cJ10_init_3 3 = .ok (.invokespecial 10, 3) := dk_183 0 10 (dk_at dksJ10_init_3_0 3 rfl rfl)
theorem dJ10_init_3_6 : decode cJ10_init_3 6 = .ok (.return_, 1) := dk_177 (dk_at dksJ10_init_3_0 6 rfl rfl)
theorem q115 : (Jvm.Cond.initialized "java/lang/Exception") ∈ lw_all := lw_g (lw_at lw_m1 16 rfl) rfl
theorem q735 : (Jvm.Cond.declares ({ cls := "java/lang/Exception", name := "<init>", desc := "()V" } : Jvm.MethodName)) ∈ lw_tbl := lw_at lw_m3 156 rfl
theorem q736 : (Jvm.Cond.declares ({ cls := "java/lang/Exception", name := "<init>", desc := "(Ljava/lang/String;)V" } : Jvm.MethodName)) ∈ lw_tbl := lw_at lw_m3 157 rfl
theorem q786 : (Jvm.Cond.instanceMethod ({ cls := "java/lang/Exception", name := "<init>", desc := "()V" } : Jvm.MethodName)) ∈ lw_all := lw_g (lw_at lw_m3 207 rfl) rfl
theorem q787 : (Jvm.Cond.code ({ cls := "java/lang/Exception", name := "<init>", desc := "()V" } : Jvm.MethodName) prog_27_method_1_code (1 : Nat) (Option.none : Option Jvm.ClassFile.FieldType)) ∈ lw_all := lw_g (lw_at lw_m3 208 rfl) rfl
theorem q788 : (Jvm.Cond.methodLink "java/lang/Exception" (1 : Nat) ({ cls := "java/lang/Throwable", name := "<init>", desc := "()V" } : Jvm.MethodName)) ∈ lw_all := lw_g (lw_at lw_m3 209 rfl) rfl
theorem q1074 : (Jvm.Cond.instanceMethod ({ cls := "java/lang/Exception", name := "<init>", desc := "(Ljava/lang/String;)V" } : Jvm.MethodName)) ∈ lw_all := lw_g (lw_at lw_m5 15 rfl) rfl
theorem q1075 : (Jvm.Cond.code ({ cls := "java/lang/Exception", name := "<init>", desc := "(Ljava/lang/String;)V" } : Jvm.MethodName) prog_27_method_2_code (2 : Nat) (Option.none : Option Jvm.ClassFile.FieldType)) ∈ lw_all := lw_g (lw_at lw_m5 16 rfl) rfl
theorem q1076 : (Jvm.Cond.methodLink "java/lang/Exception" (7 : Nat) ({ cls := "java/lang/Throwable", name := "<init>", desc := "(Ljava/lang/String;)V" } : Jvm.MethodName)) ∈ lw_all := lw_g (lw_at lw_m5 17 rfl) rfl
theorem q3399 : (Jvm.Cond.instanceMethod ({ cls := "java/lang/Exception", name := "<init>", desc := "(Ljava/lang/String;Ljava/lang/Throwable;)V" } : Jvm.MethodName)) ∈ lw_all := lw_g (lw_at lw_m14 180 rfl) rfl
theorem q3400 : (Jvm.Cond.code ({ cls := "java/lang/Exception", name := "<init>", desc := "(Ljava/lang/String;Ljava/lang/Throwable;)V" } : Jvm.MethodName) prog_27_method_3_code (3 : Nat) (Option.none : Option Jvm.ClassFile.FieldType)) ∈ lw_all := lw_g (lw_at lw_m14 181 rfl) rfl
theorem q3401 : (Jvm.Cond.methodLink "java/lang/Exception" (10 : Nat) ({ cls := "java/lang/Throwable", name := "<init>", desc := "(Ljava/lang/String;Ljava/lang/Throwable;)V" } : Jvm.MethodName)) ∈ lw_all := lw_g (lw_at lw_m14 182 rfl) rfl
/-! java/lang/RuntimeException -/
set_option maxRecDepth 100000
def RJ11 : String := "java/lang/RuntimeException"
abbrev cJ11_init : ByteArray := prog_38_method_1_code
def yJ11_init : MethodName := ⟨RJ11, "<init>", "()V"⟩
theorem dJ11_init_0 : decode cJ11_init 0 = .ok (.aload_n 0, 1) := by decide +kernel
theorem dJ11_init_1 : decode cJ11_init 1 = .ok (.invokespecial 1, 3) := by decide +kernel
theorem dJ11_init_4 : decode cJ11_init 4 = .ok (.return_, 1) := by decide +kernel
abbrev cJ11_init_2 : ByteArray := prog_38_method_2_code
def yJ11_init_2 : MethodName := ⟨RJ11, "<init>", "(Ljava/lang/String;)V"⟩
def dkwJ11_init_2_0 : List UInt8 := [42, 43, 183, 0, 7, 177]
abbrev dktJ11_init_2_0 : List UInt8 := dkwJ11_init_2_0 ++ []
theorem dksJ11_init_2_0 : cJ11_init_2.data.toList.drop 0 = dktJ11_init_2_0 := by decide +kernel
theorem dJ11_init_2_0 : decode cJ11_init_2 0 = .ok (.aload_n 0, 1) := dk_42 (dk_at dksJ11_init_2_0 0 rfl rfl)
theorem dJ11_init_2_1 : decode cJ11_init_2 1 = .ok (.aload_n 1, 1) := dk_43 (dk_at dksJ11_init_2_0 1 rfl rfl)
theorem dJ11_init_2_2 : decode cJ11_init_2 2 = .ok (.invokespecial 7, 3) := dk_183 0 7 (dk_at dksJ11_init_2_0 2 rfl rfl)
theorem dJ11_init_2_5 : decode cJ11_init_2 5 = .ok (.return_, 1) := dk_177 (dk_at dksJ11_init_2_0 5 rfl rfl)
abbrev cJ11_init_3 : ByteArray := prog_38_method_3_code
def yJ11_init_3 : MethodName := ⟨RJ11, "<init>", "(Ljava/lang/String;Ljava/lang/Throwable;)V"⟩
def dkwJ11_init_3_0 : List UInt8 := [42, 43, 44, 183, 0, 10, 177]
abbrev dktJ11_init_3_0 : List UInt8 := dkwJ11_init_3_0 ++ []
theorem dksJ11_init_3_0 : cJ11_init_3.data.toList.drop 0 = dktJ11_init_3_0 := by decide +kernel
theorem dJ11_init_3_0 : decode cJ11_init_3 0 = .ok (.aload_n 0, 1) := dk_42 (dk_at dksJ11_init_3_0 0 rfl rfl)
theorem dJ11_init_3_1 : decode cJ11_init_3 1 = .ok (.aload_n 1, 1) := dk_43 (dk_at dksJ11_init_3_0 1 rfl rfl)
theorem dJ11_init_3_2 : decode cJ11_init_3 2 = .ok (.aload_n 2, 1) := dk_44 (dk_at dksJ11_init_3_0 2 rfl rfl)
theorem dJ11_init_3_3 : decode cJ11_init_3 3 = .ok (.invokespecial 10, 3) := dk_183 0 10 (dk_at dksJ11_init_3_0 3 rfl rfl)
theorem dJ11_init_3_6 : decode cJ11_init_3 6 = .ok (.return_, 1) := dk_177 (dk_at dksJ11_init_3_0 6 rfl rfl)
theorem q116 : (Jvm.Cond.initialized "java/lang/RuntimeException") ∈ lw_all := lw_g (lw_at lw_m1 17 rfl) rfl
theorem q733 : (Jvm.Cond.declares ({ cls := "java/lang/RuntimeException", name := "<init>", desc := "()V" } : Jvm.MethodName)) ∈ lw_tbl := lw_at lw_m3 154 rfl
theorem q734 : (Jvm.Cond.declares ({ cls := "java/lang/RuntimeException", name := "<init>", desc := "(Ljava/lang/String;)V" } : Jvm.MethodName)) ∈ lw_tbl := lw_at lw_m3 155 rfl
theorem q783 : (Jvm.Cond.instanceMethod ({ cls := "java/lang/RuntimeException", name := "<init>", desc := "()V" } : Jvm.MethodName)) ∈ lw_all := lw_g (lw_at lw_m3 204 rfl) rfl
theorem q784 : (Jvm.Cond.code ({ cls := "java/lang/RuntimeException", name := "<init>", desc := "()V" } : Jvm.MethodName) prog_38_method_1_code (1 : Nat) (Option.none : Option Jvm.ClassFile.FieldType)) ∈ lw_all := lw_g (lw_at lw_m3 205 rfl) rfl
theorem q785 : (Jvm.Cond.methodLink "java/lang/RuntimeException" (1 : Nat) ({ cls := "java/lang/Exception", name := "<init>", desc := "()V" } : Jvm.MethodName)) ∈ lw_all := lw_g (lw_at lw_m3 206 rfl) rfl
theorem q1071 : (Jvm.Cond.instanceMethod ({ cls := "java/lang/RuntimeException", name := "<init>", desc := "(Ljava/lang/String;)V" } : Jvm.MethodName)) ∈ lw_all := lw_g (lw_at lw_m5 12 rfl) rfl
theorem q1072 : (Jvm.Cond.code ({ cls := "java/lang/RuntimeException", name := "<init>", desc := "(Ljava/lang/String;)V" } : Jvm.MethodName) prog_38_method_2_code (2 : Nat) (Option.none : Option Jvm.ClassFile.FieldType)) ∈ lw_all := lw_g (lw_at lw_m5 13 rfl) rfl
theorem q1073 : (Jvm.Cond.methodLink "java/lang/RuntimeException" (7 : Nat) ({ cls := "java/lang/Exception", name := "<init>", desc := "(Ljava/lang/String;)V" } : Jvm.MethodName)) ∈ lw_all := lw_g (lw_at lw_m5 14 rfl) rfl
theorem q3396 : (Jvm.Cond.instanceMethod ({ cls := "java/lang/RuntimeException", name := "<init>", desc := "(Ljava/lang/String;Ljava/lang/Throwable;)V" } : Jvm.MethodName)) ∈ lw_all := lw_g (lw_at lw_m14 177 rfl) rfl
theorem q3397 : (Jvm.Cond.code ({ cls := "java/lang/RuntimeException", name := "<init>", desc := "(Ljava/lang/String;Ljava/lang/Throwable;)V" } : Jvm.MethodName) prog_38_method_3_code (3 : Nat) (Option.none : Option Jvm.ClassFile.FieldType)) ∈ lw_all := lw_g (lw_at lw_m14 178 rfl) rfl
theorem q3398 : (Jvm.Cond.methodLink "java/lang/RuntimeException" (10 : Nat) ({ cls := "java/lang/Exception", name := "<init>", desc := "(Ljava/lang/String;Ljava/lang/Throwable;)V" } : Jvm.MethodName)) ∈ lw_all := lw_g (lw_at lw_m14 179 rfl) rfl
/-! java/lang/IllegalArgumentException -/
set_option maxRecDepth 100000
def RJ12 : String := "java/lang/IllegalArgumentException"
def TJ12 : u_T := fun k => match k with
  | 0 => ("java/lang/Throwable", "cause", "Ljava/lang/Throwable;", false)
  | 1 => ("java/lang/Throwable", "stackTrace", "[Ljava/lang/StackTraceElement;", false)
  | 2 => ("java/lang/Throwable", "suppressedExceptions", "Ljava/util/List;", false)
  | 3 => ("java/lang/Throwable", "detailMessage", "Ljava/lang/String;", false)
  | 4 => ("java/lang/Throwable", "backtrace", "Ljava/lang/Object;", false)
  | _ => ("java/lang/Throwable", "depth", "I", false)
def tyJ12 : Nat → FieldType := fun k => match k with
  | 0 => .object "java/lang/Throwable"
  | 1 => .array (.object "java/lang/StackTraceElement")
  | 2 => .object "java/util/List"
  | 3 => .object "java/lang/String"
  | 4 => .object "java/lang/Object"
  | _ => .int
abbrev wsJ120 : List Cond := u_ws RJ12 TJ12 6
theorem nmJ12 : ∀ a, a < 6 → ∀ b, b < 6 → a ≠ b → (TJ12 a).2.1 ≠ (TJ12 b).2.1 := by decide +kernel
theorem tyJ12_ok : ∀ k, k < 6 → parseFieldDescriptor (TJ12 k).2.2.1 = some (tyJ12 k) := by decide +kernel
abbrev cJ12_init : ByteArray := prog_29_method_2_code
def yJ12_init : MethodName := ⟨RJ12, "<init>", "(Ljava/lang/String;)V"⟩
def dkwJ12_init_0 : List UInt8 := [42, 43, 183, 0, 7, 177]
abbrev dktJ12_init_0 : List UInt8 := dkwJ12_init_0 ++ []
theorem dksJ12_init_0 : cJ12_init.data.toList.drop 0 = dktJ12_init_0 := by decide +kernel
theorem dJ12_init_0 : decode cJ12_init 0 = .ok (.aload_n 0, 1) := dk_42 (dk_at dksJ12_init_0 0 rfl rfl)
theorem dJ12_init_1 : decode cJ12_init 1 = .ok (.aload_n 1, 1) := dk_43 (dk_at dksJ12_init_0 1 rfl rfl)
theorem dJ12_init_2 : decode cJ12_init 2 = .ok (.invokespecial 7, 3) := dk_183 0 7 (dk_at dksJ12_init_0 2 rfl rfl)
theorem dJ12_init_5 : decode cJ12_init 5 = .ok (.return_, 1) := dk_177 (dk_at dksJ12_init_0 5 rfl rfl)
abbrev cJ12_init_2 : ByteArray := prog_29_method_1_code
def yJ12_init_2 : MethodName := ⟨RJ12, "<init>", "()V"⟩
theorem dJ12_init_2_0 : decode cJ12_init_2 0 = .ok (.aload_n 0, 1) := by decide +kernel
theorem dJ12_init_2_1 : decode cJ12_init_2 1 = .ok (.invokespecial 1, 3) := by decide +kernel
theorem dJ12_init_2_4 : decode cJ12_init_2 4 = .ok (.return_, 1) := by decide +kernel
abbrev cJ12_init_3 : ByteArray := prog_29_method_3_code
def yJ12_init_3 : MethodName := ⟨RJ12, "<init>", "(Ljava/lang/String;Ljava/lang/Throwable;)V"⟩
def dkwJ12_init_3_0 : List UInt8 := [42, 43, 44, 183, 0, 10, 177]
abbrev dktJ12_init_3_0 : List UInt8 := dkwJ12_init_3_0 ++ []
theorem dksJ12_init_3_0 : cJ12_init_3.data.toList.drop 0 = dktJ12_init_3_0 := by decide +kernel
theorem dJ12_init_3_0 : decode cJ12_init_3 0 = .ok (.aload_n 0, 1) := dk_42 (dk_at dksJ12_init_3_0 0 rfl rfl)
theorem dJ12_init_3_1 : decode cJ12_init_3 1 = .ok (.aload_n 1, 1) := dk_43 (dk_at dksJ12_init_3_0 1 rfl rfl)
theorem dJ12_init_3_2 : decode cJ12_init_3 2 = .ok (.aload_n 2, 1) := dk_44 (dk_at dksJ12_init_3_0 2 rfl rfl)
theorem dJ12_init_3_3 : decode cJ12_init_3 3 = .ok (.invokespecial 10, 3) := dk_183 0 10 (dk_at dksJ12_init_3_0 3 rfl rfl)
theorem dJ12_init_3_6 : decode cJ12_init_3 6 = .ok (.return_, 1) := dk_177 (dk_at dksJ12_init_3_0 6 rfl rfl)
theorem q117 : (Jvm.Cond.initialized "java/lang/IllegalArgumentException") ∈ lw_all := lw_g (lw_at lw_m1 18 rfl) rfl
theorem q487 : (Jvm.Cond.selects "java/lang/IllegalArgumentException" ({ cls := "java/lang/Object", name := "getClass", desc := "()Ljava/lang/Class;" } : Jvm.MethodName) ({ cls := "java/lang/Object", name := "getClass", desc := "()Ljava/lang/Class;" } : Jvm.MethodName)) ∈ lw_all := lw_g (lw_at lw_m2 148 rfl) rfl
theorem q768 : (Jvm.Cond.selects "java/lang/IllegalArgumentException" ({ cls := "java/lang/Throwable", name := "fillInStackTrace", desc := "()Ljava/lang/Throwable;" } : Jvm.MethodName) ({ cls := "java/lang/Throwable", name := "fillInStackTrace", desc := "()Ljava/lang/Throwable;" } : Jvm.MethodName)) ∈ lw_all := lw_g (lw_at lw_m3 189 rfl) rfl
theorem q1053 : (Jvm.Cond.instantiable "java/lang/IllegalArgumentException" (6 : Nat)) ∈ lw_all := lw_g (lw_at lw_m4 234 rfl) rfl
theorem q1054 : (Jvm.Cond.castable "java/lang/IllegalArgumentException" "java/lang/IllegalArgumentException") ∈ lw_tbl := lw_at lw_m4 235 rfl
theorem q1055 : (Jvm.Cond.selects "java/lang/IllegalArgumentException" ({ cls := "java/lang/Throwable", name := "fillInStackTrace", desc := "(I)Ljava/lang/Throwable;" } : Jvm.MethodName) ({ cls := "java/lang/Throwable", name := "fillInStackTrace", desc := "(I)Ljava/lang/Throwable;" } : Jvm.MethodName)) ∈ lw_all := lw_g (lw_at lw_m4 236 rfl) rfl
theorem q1056 : (Jvm.Cond.lays "java/lang/IllegalArgumentException" "java/lang/Throwable" "cause" "Ljava/lang/Throwable;") ∈ lw_all := lw_g (lw_at lw_m4 237 rfl) rfl
theorem q1057 : (Jvm.Cond.lays "java/lang/IllegalArgumentException" "java/lang/Throwable" "stackTrace" "[Ljava/lang/StackTraceElement;") ∈ lw_all := lw_g (lw_at lw_m4 238 rfl) rfl
theorem q1058 : (Jvm.Cond.lays "java/lang/IllegalArgumentException" "java/lang/Throwable" "suppressedExceptions" "Ljava/util/List;") ∈ lw_all := lw_g (lw_at lw_m4 239 rfl) rfl
theorem q1059 : (Jvm.Cond.lays "java/lang/IllegalArgumentException" "java/lang/Throwable" "detailMessage" "Ljava/lang/String;") ∈ lw_all := lw_g (lw_at lw_m5 0 rfl) rfl
theorem q1060 : (Jvm.Cond.lays "java/lang/IllegalArgumentException" "java/lang/Throwable" "backtrace" "Ljava/lang/Object;") ∈ lw_all := lw_g (lw_at lw_m5 1 rfl) rfl
theorem q1068 : (Jvm.Cond.instanceMethod ({ cls := "java/lang/IllegalArgumentException", name := "<init>", desc := "(Ljava/lang/String;)V" } : Jvm.MethodName)) ∈ lw_all := lw_g (lw_at lw_m5 9 rfl) rfl
theorem q1069 : (Jvm.Cond.code ({ cls := "java/lang/IllegalArgumentException", name := "<init>", desc := "(Ljava/lang/String;)V" } : Jvm.MethodName) prog_29_method_2_code (2 : Nat) (Option.none : Option Jvm.ClassFile.FieldType)) ∈ lw_all := lw_g (lw_at lw_m5 10 rfl) rfl
theorem q1070 : (Jvm.Cond.methodLink "java/lang/IllegalArgumentException" (7 : Nat) ({ cls := "java/lang/RuntimeException", name := "<init>", desc := "(Ljava/lang/String;)V" } : Jvm.MethodName)) ∈ lw_all := lw_g (lw_at lw_m5 11 rfl) rfl
theorem q1079 : (Jvm.Cond.lays "java/lang/IllegalArgumentException" "java/lang/Throwable" "depth" "I") ∈ lw_all := lw_g (lw_at lw_m5 20 rfl) rfl
theorem q1080 : (Jvm.Cond.superclass "java/lang/IllegalArgumentException" "java/lang/RuntimeException") ∈ lw_all := lw_g (lw_at lw_m5 21 rfl) rfl
theorem q1816 : (Jvm.Cond.selects "java/lang/IllegalArgumentException" ({ cls := "java/lang/Object", name := "hashCode", desc := "()I" } : Jvm.MethodName) ({ cls := "java/lang/Object", name := "hashCode", desc := "()I" } : Jvm.MethodName)) ∈ lw_all := lw_g (lw_at lw_m8 37 rfl) rfl
theorem q1924 : (Jvm.Cond.selects "java/lang/IllegalArgumentException" ({ cls := "java/lang/Object", name := "equals", desc := "(Ljava/lang/Object;)Z" } : Jvm.MethodName) ({ cls := "java/lang/Object", name := "equals", desc := "(Ljava/lang/Object;)Z" } : Jvm.MethodName)) ∈ lw_all := lw_g (lw_at lw_m8 145 rfl) rfl
theorem q2032 : (Jvm.Cond.instanceMethod ({ cls := "java/lang/IllegalArgumentException", name := "<init>", desc := "()V" } : Jvm.MethodName)) ∈ lw_all := lw_g (lw_at lw_m9 13 rfl) rfl
theorem q2033 : (Jvm.Cond.code ({ cls := "java/lang/IllegalArgumentException", name := "<init>", desc := "()V" } : Jvm.MethodName) prog_29_method_1_code (1 : Nat) (Option.none : Option Jvm.ClassFile.FieldType)) ∈ lw_all := lw_g (lw_at lw_m9 14 rfl) rfl
theorem q2034 : (Jvm.Cond.methodLink "java/lang/IllegalArgumentException" (1 : Nat) ({ cls := "java/lang/RuntimeException", name := "<init>", desc := "()V" } : Jvm.MethodName)) ∈ lw_all := lw_g (lw_at lw_m9 15 rfl) rfl
theorem q3302 : (Jvm.Cond.selects "java/lang/IllegalArgumentException" ({ cls := "java/lang/Throwable", name := "getLocalizedMessage", desc := "()Ljava/lang/String;" } : Jvm.MethodName) ({ cls := "java/lang/Throwable", name := "getLocalizedMessage", desc := "()Ljava/lang/String;" } : Jvm.MethodName)) ∈ lw_all := lw_g (lw_at lw_m14 83 rfl) rfl
theorem q3317 : (Jvm.Cond.selects "java/lang/IllegalArgumentException" ({ cls := "java/lang/Throwable", name := "getMessage", desc := "()Ljava/lang/String;" } : Jvm.MethodName) ({ cls := "java/lang/Throwable", name := "getMessage", desc := "()Ljava/lang/String;" } : Jvm.MethodName)) ∈ lw_all := lw_g (lw_at lw_m14 98 rfl) rfl
theorem q3343 : (Jvm.Cond.selects "java/lang/IllegalArgumentException" ({ cls := "java/lang/Object", name := "toString", desc := "()Ljava/lang/String;" } : Jvm.MethodName) ({ cls := "java/lang/Throwable", name := "toString", desc := "()Ljava/lang/String;" } : Jvm.MethodName)) ∈ lw_all := lw_g (lw_at lw_m14 124 rfl) rfl
theorem q3407 : (Jvm.Cond.instanceMethod ({ cls := "java/lang/IllegalArgumentException", name := "<init>", desc := "(Ljava/lang/String;Ljava/lang/Throwable;)V" } : Jvm.MethodName)) ∈ lw_all := lw_g (lw_at lw_m14 188 rfl) rfl
theorem q3408 : (Jvm.Cond.code ({ cls := "java/lang/IllegalArgumentException", name := "<init>", desc := "(Ljava/lang/String;Ljava/lang/Throwable;)V" } : Jvm.MethodName) prog_29_method_3_code (3 : Nat) (Option.none : Option Jvm.ClassFile.FieldType)) ∈ lw_all := lw_g (lw_at lw_m14 189 rfl) rfl
theorem q3409 : (Jvm.Cond.methodLink "java/lang/IllegalArgumentException" (10 : Nat) ({ cls := "java/lang/RuntimeException", name := "<init>", desc := "(Ljava/lang/String;Ljava/lang/Throwable;)V" } : Jvm.MethodName)) ∈ lw_all := lw_g (lw_at lw_m14 190 rfl) rfl
theorem q4146 : (Jvm.Cond.castable "java/lang/IllegalArgumentException" "java/lang/Throwable") ∈ lw_tbl := lw_at lw_m17 207 rfl
theorem q4161 : (Jvm.Cond.castable "java/lang/IllegalArgumentException" "java/lang/Object") ∈ lw_tbl := lw_at lw_m17 222 rfl
theorem in_J12 : ∀ w ∈ wsJ120, w ∈ lw_all := lw_in wsJ120 [1056, 1057, 1058, 1059, 1060, 1079] (by decide +kernel) (by decide +kernel)
/-! java/util/NoSuchElementException -/
set_option maxRecDepth 100000
def RJ23 : String := "java/util/NoSuchElementException"
def TJ23 : u_T := fun k => match k with
  | 0 => ("java/lang/Throwable", "cause", "Ljava/lang/Throwable;", false)
  | 1 => ("java/lang/Throwable", "stackTrace", "[Ljava/lang/StackTraceElement;", false)
  | 2 => ("java/lang/Throwable", "suppressedExceptions", "Ljava/util/List;", false)
  | 3 => ("java/lang/Throwable", "detailMessage", "Ljava/lang/String;", false)
  | 4 => ("java/lang/Throwable", "backtrace", "Ljava/lang/Object;", false)
  | _ => ("java/lang/Throwable", "depth", "I", false)
def tyJ23 : Nat → FieldType := fun k => match k with
  | 0 => .object "java/lang/Throwable"
  | 1 => .array (.object "java/lang/StackTraceElement")
  | 2 => .object "java/util/List"
  | 3 => .object "java/lang/String"
  | 4 => .object "java/lang/Object"
  | _ => .int
abbrev wsJ230 : List Cond := u_ws RJ23 TJ23 6
theorem nmJ23 : ∀ a, a < 6 → ∀ b, b < 6 → a ≠ b → (TJ23 a).2.1 ≠ (TJ23 b).2.1 := by decide +kernel
theorem tyJ23_ok : ∀ k, k < 6 → parseFieldDescriptor (TJ23 k).2.2.1 = some (tyJ23 k) := by decide +kernel
abbrev cJ23_init : ByteArray := prog_82_method_1_code
def yJ23_init : MethodName := ⟨RJ23, "<init>", "()V"⟩
theorem dJ23_init_0 : decode cJ23_init 0 = .ok (.aload_n 0, 1) := by decide +kernel
theorem dJ23_init_1 : decode cJ23_init 1 = .ok (.invokespecial 1, 3) := by decide +kernel
theorem dJ23_init_4 : decode cJ23_init 4 = .ok (.return_, 1) := by decide +kernel
theorem q129 : (Jvm.Cond.initialized "java/util/NoSuchElementException") ∈ lw_all := lw_g (lw_at lw_m1 30 rfl) rfl
theorem q510 : (Jvm.Cond.selects "java/util/NoSuchElementException" ({ cls := "java/lang/Object", name := "getClass", desc := "()Ljava/lang/Class;" } : Jvm.MethodName) ({ cls := "java/lang/Object", name := "getClass", desc := "()Ljava/lang/Class;" } : Jvm.MethodName)) ∈ lw_all := lw_g (lw_at lw_m2 171 rfl) rfl
theorem q731 : (Jvm.Cond.instantiable "java/util/NoSuchElementException" (6 : Nat)) ∈ lw_all := lw_g (lw_at lw_m3 152 rfl) rfl
theorem q732 : (Jvm.Cond.castable "java/util/NoSuchElementException" "java/util/NoSuchElementException") ∈ lw_tbl := lw_at lw_m3 153 rfl
theorem q739 : (Jvm.Cond.selects "java/util/NoSuchElementException" ({ cls := "java/lang/Throwable", name := "fillInStackTrace", desc := "(I)Ljava/lang/Throwable;" } : Jvm.MethodName) ({ cls := "java/lang/Throwable", name := "fillInStackTrace", desc := "(I)Ljava/lang/Throwable;" } : Jvm.MethodName)) ∈ lw_all := lw_g (lw_at lw_m3 160 rfl) rfl
theorem q740 : (Jvm.Cond.selects "java/util/NoSuchElementException" ({ cls := "java/lang/Throwable", name := "fillInStackTrace", desc := "()Ljava/lang/Throwable;" } : Jvm.MethodName) ({ cls := "java/lang/Throwable", name := "fillInStackTrace", desc := "()Ljava/lang/Throwable;" } : Jvm.MethodName)) ∈ lw_all := lw_g (lw_at lw_m3 161 rfl) rfl
theorem q741 : (Jvm.Cond.lays "java/util/NoSuchElementException" "java/lang/Throwable" "cause" "Ljava/lang/Throwable;") ∈ lw_all := lw_g (lw_at lw_m3 162 rfl) rfl
theorem q743 : (Jvm.Cond.lays "java/util/NoSuchElementException" "java/lang/Throwable" "stackTrace" "[Ljava/lang/StackTraceElement;") ∈ lw_all := lw_g (lw_at lw_m3 164 rfl) rfl
theorem q745 : (Jvm.Cond.lays "java/util/NoSuchElementException" "java/lang/Throwable" "suppressedExceptions" "Ljava/util/List;") ∈ lw_all := lw_g (lw_at lw_m3 166 rfl) rfl
theorem q747 : (Jvm.Cond.lays "java/util/NoSuchElementException" "java/lang/Throwable" "detailMessage" "Ljava/lang/String;") ∈ lw_all := lw_g (lw_at lw_m3 168 rfl) rfl
theorem q749 : (Jvm.Cond.lays "java/util/NoSuchElementException" "java/lang/Throwable" "backtrace" "Ljava/lang/Object;") ∈ lw_all := lw_g (lw_at lw_m3 170 rfl) rfl
theorem q780 : (Jvm.Cond.instanceMethod ({ cls := "java/util/NoSuchElementException", name := "<init>", desc := "()V" } : Jvm.MethodName)) ∈ lw_all := lw_g (lw_at lw_m3 201 rfl) rfl
theorem q781 : (Jvm.Cond.code ({ cls := "java/util/NoSuchElementException", name := "<init>", desc := "()V" } : Jvm.MethodName) prog_82_method_1_code (1 : Nat) (Option.none : Option Jvm.ClassFile.FieldType)) ∈ lw_all := lw_g (lw_at lw_m3 202 rfl) rfl
theorem q782 : (Jvm.Cond.methodLink "java/util/NoSuchElementException" (1 : Nat) ({ cls := "java/lang/RuntimeException", name := "<init>", desc := "()V" } : Jvm.MethodName)) ∈ lw_all := lw_g (lw_at lw_m3 203 rfl) rfl
theorem q798 : (Jvm.Cond.lays "java/util/NoSuchElementException" "java/lang/Throwable" "depth" "I") ∈ lw_all := lw_g (lw_at lw_m3 219 rfl) rfl
theorem q801 : (Jvm.Cond.superclass "java/util/NoSuchElementException" "java/lang/RuntimeException") ∈ lw_all := lw_g (lw_at lw_m3 222 rfl) rfl
theorem q3307 : (Jvm.Cond.selects "java/util/NoSuchElementException" ({ cls := "java/lang/Throwable", name := "getLocalizedMessage", desc := "()Ljava/lang/String;" } : Jvm.MethodName) ({ cls := "java/lang/Throwable", name := "getLocalizedMessage", desc := "()Ljava/lang/String;" } : Jvm.MethodName)) ∈ lw_all := lw_g (lw_at lw_m14 88 rfl) rfl
theorem q3322 : (Jvm.Cond.selects "java/util/NoSuchElementException" ({ cls := "java/lang/Throwable", name := "getMessage", desc := "()Ljava/lang/String;" } : Jvm.MethodName) ({ cls := "java/lang/Throwable", name := "getMessage", desc := "()Ljava/lang/String;" } : Jvm.MethodName)) ∈ lw_all := lw_g (lw_at lw_m14 103 rfl) rfl
theorem q4151 : (Jvm.Cond.castable "java/util/NoSuchElementException" "java/lang/Throwable") ∈ lw_tbl := lw_at lw_m17 212 rfl
theorem q4163 : (Jvm.Cond.castable "java/util/NoSuchElementException" "java/lang/Object") ∈ lw_tbl := lw_at lw_m17 224 rfl
theorem in_J23 : ∀ w ∈ wsJ230, w ∈ lw_all := lw_in wsJ230 [741, 743, 745, 747, 749, 798] (by decide +kernel) (by decide +kernel)
/-! java/lang/IndexOutOfBoundsException -/
set_option maxRecDepth 100000
def RJ26 : String := "java/lang/IndexOutOfBoundsException"
def TJ26 : u_T := fun k => match k with
  | 0 => ("java/lang/Throwable", "cause", "Ljava/lang/Throwable;", false)
  | 1 => ("java/lang/Throwable", "stackTrace", "[Ljava/lang/StackTraceElement;", false)
  | 2 => ("java/lang/Throwable", "suppressedExceptions", "Ljava/util/List;", false)
  | 3 => ("java/lang/Throwable", "detailMessage", "Ljava/lang/String;", false)
  | 4 => ("java/lang/Throwable", "backtrace", "Ljava/lang/Object;", false)
  | _ => ("java/lang/Throwable", "depth", "I", false)
def tyJ26 : Nat → FieldType := fun k => match k with
  | 0 => .object "java/lang/Throwable"
  | 1 => .array (.object "java/lang/StackTraceElement")
  | 2 => .object "java/util/List"
  | 3 => .object "java/lang/String"
  | 4 => .object "java/lang/Object"
  | _ => .int
abbrev wsJ260 : List Cond := u_ws RJ26 TJ26 6
theorem nmJ26 : ∀ a, a < 6 → ∀ b, b < 6 → a ≠ b → (TJ26 a).2.1 ≠ (TJ26 b).2.1 := by decide +kernel
theorem tyJ26_ok : ∀ k, k < 6 → parseFieldDescriptor (TJ26 k).2.2.1 = some (tyJ26 k) := by decide +kernel
abbrev cJ26_init : ByteArray := prog_31_method_2_code
def yJ26_init : MethodName := ⟨RJ26, "<init>", "(Ljava/lang/String;)V"⟩
def dkwJ26_init_0 : List UInt8 := [42, 43, 183, 0, 7, 177]
abbrev dktJ26_init_0 : List UInt8 := dkwJ26_init_0 ++ []
theorem dksJ26_init_0 : cJ26_init.data.toList.drop 0 = dktJ26_init_0 := by decide +kernel
theorem dJ26_init_0 : decode cJ26_init 0 = .ok (.aload_n 0, 1) := dk_42 (dk_at dksJ26_init_0 0 rfl rfl)
theorem dJ26_init_1 : decode cJ26_init 1 = .ok (.aload_n 1, 1) := dk_43 (dk_at dksJ26_init_0 1 rfl rfl)
theorem dJ26_init_2 : decode cJ26_init 2 = .ok (.invokespecial 7, 3) := dk_183 0 7 (dk_at dksJ26_init_0 2 rfl rfl)
theorem dJ26_init_5 : decode cJ26_init 5 = .ok (.return_, 1) := dk_177 (dk_at dksJ26_init_0 5 rfl rfl)
abbrev cJ26_init_2 : ByteArray := prog_31_method_1_code
def yJ26_init_2 : MethodName := ⟨RJ26, "<init>", "()V"⟩
theorem dJ26_init_2_0 : decode cJ26_init_2 0 = .ok (.aload_n 0, 1) := by decide +kernel
theorem dJ26_init_2_1 : decode cJ26_init_2 1 = .ok (.invokespecial 1, 3) := by decide +kernel
theorem dJ26_init_2_4 : decode cJ26_init_2 4 = .ok (.return_, 1) := by decide +kernel
theorem q132 : (Jvm.Cond.initialized "java/lang/IndexOutOfBoundsException") ∈ lw_all := lw_g (lw_at lw_m1 33 rfl) rfl
theorem q489 : (Jvm.Cond.selects "java/lang/IndexOutOfBoundsException" ({ cls := "java/lang/Object", name := "getClass", desc := "()Ljava/lang/Class;" } : Jvm.MethodName) ({ cls := "java/lang/Object", name := "getClass", desc := "()Ljava/lang/Class;" } : Jvm.MethodName)) ∈ lw_all := lw_g (lw_at lw_m2 150 rfl) rfl
theorem q770 : (Jvm.Cond.selects "java/lang/IndexOutOfBoundsException" ({ cls := "java/lang/Throwable", name := "fillInStackTrace", desc := "()Ljava/lang/Throwable;" } : Jvm.MethodName) ({ cls := "java/lang/Throwable", name := "fillInStackTrace", desc := "()Ljava/lang/Throwable;" } : Jvm.MethodName)) ∈ lw_all := lw_g (lw_at lw_m3 191 rfl) rfl
theorem q865 : (Jvm.Cond.instantiable "java/lang/IndexOutOfBoundsException" (6 : Nat)) ∈ lw_all := lw_g (lw_at lw_m4 46 rfl) rfl
theorem q866 : (Jvm.Cond.castable "java/lang/IndexOutOfBoundsException" "java/lang/IndexOutOfBoundsException") ∈ lw_tbl := lw_at lw_m4 47 rfl
theorem q867 : (Jvm.Cond.selects "java/lang/IndexOutOfBoundsException" ({ cls := "java/lang/Throwable", name := "fillInStackTrace", desc := "(I)Ljava/lang/Throwable;" } : Jvm.MethodName) ({ cls := "java/lang/Throwable", name := "fillInStackTrace", desc := "(I)Ljava/lang/Throwable;" } : Jvm.MethodName)) ∈ lw_all := lw_g (lw_at lw_m4 48 rfl) rfl
theorem q868 : (Jvm.Cond.lays "java/lang/IndexOutOfBoundsException" "java/lang/Throwable" "cause" "Ljava/lang/Throwable;") ∈ lw_all := lw_g (lw_at lw_m4 49 rfl) rfl
theorem q869 : (Jvm.Cond.lays "java/lang/IndexOutOfBoundsException" "java/lang/Throwable" "stackTrace" "[Ljava/lang/StackTraceElement;") ∈ lw_all := lw_g (lw_at lw_m4 50 rfl) rfl
theorem q870 : (Jvm.Cond.lays "java/lang/IndexOutOfBoundsException" "java/lang/Throwable" "suppressedExceptions" "Ljava/util/List;") ∈ lw_all := lw_g (lw_at lw_m4 51 rfl) rfl
theorem q871 : (Jvm.Cond.lays "java/lang/IndexOutOfBoundsException" "java/lang/Throwable" "detailMessage" "Ljava/lang/String;") ∈ lw_all := lw_g (lw_at lw_m4 52 rfl) rfl
theorem q872 : (Jvm.Cond.lays "java/lang/IndexOutOfBoundsException" "java/lang/Throwable" "backtrace" "Ljava/lang/Object;") ∈ lw_all := lw_g (lw_at lw_m4 53 rfl) rfl
theorem q1108 : (Jvm.Cond.instanceMethod ({ cls := "java/lang/IndexOutOfBoundsException", name := "<init>", desc := "(Ljava/lang/String;)V" } : Jvm.MethodName)) ∈ lw_all := lw_g (lw_at lw_m5 49 rfl) rfl
theorem q1109 : (Jvm.Cond.code ({ cls := "java/lang/IndexOutOfBoundsException", name := "<init>", desc := "(Ljava/lang/String;)V" } : Jvm.MethodName) prog_31_method_2_code (2 : Nat) (Option.none : Option Jvm.ClassFile.FieldType)) ∈ lw_all := lw_g (lw_at lw_m5 50 rfl) rfl
theorem q1110 : (Jvm.Cond.methodLink "java/lang/IndexOutOfBoundsException" (7 : Nat) ({ cls := "java/lang/RuntimeException", name := "<init>", desc := "(Ljava/lang/String;)V" } : Jvm.MethodName)) ∈ lw_all := lw_g (lw_at lw_m5 51 rfl) rfl
theorem q1111 : (Jvm.Cond.lays "java/lang/IndexOutOfBoundsException" "java/lang/Throwable" "depth" "I") ∈ lw_all := lw_g (lw_at lw_m5 52 rfl) rfl
theorem q1112 : (Jvm.Cond.superclass "java/lang/IndexOutOfBoundsException" "java/lang/RuntimeException") ∈ lw_all := lw_g (lw_at lw_m5 53 rfl) rfl
theorem q1818 : (Jvm.Cond.selects "java/lang/IndexOutOfBoundsException" ({ cls := "java/lang/Object", name := "hashCode", desc := "()I" } : Jvm.MethodName) ({ cls := "java/lang/Object", name := "hashCode", desc := "()I" } : Jvm.MethodName)) ∈ lw_all := lw_g (lw_at lw_m8 39 rfl) rfl
theorem q1926 : (Jvm.Cond.selects "java/lang/IndexOutOfBoundsException" ({ cls := "java/lang/Object", name := "equals", desc := "(Ljava/lang/Object;)Z" } : Jvm.MethodName) ({ cls := "java/lang/Object", name := "equals", desc := "(Ljava/lang/Object;)Z" } : Jvm.MethodName)) ∈ lw_all := lw_g (lw_at lw_m8 147 rfl) rfl
theorem q2118 : (Jvm.Cond.declares ({ cls := "java/lang/IndexOutOfBoundsException", name := "<init>", desc := "()V" } : Jvm.MethodName)) ∈ lw_tbl := lw_at lw_m9 99 rfl
theorem q2119 : (Jvm.Cond.declares ({ cls := "java/lang/IndexOutOfBoundsException", name := "<init>", desc := "(Ljava/lang/String;)V" } : Jvm.MethodName)) ∈ lw_tbl := lw_at lw_m9 100 rfl
theorem q2139 : (Jvm.Cond.instanceMethod ({ cls := "java/lang/IndexOutOfBoundsException", name := "<init>", desc := "()V" } : Jvm.MethodName)) ∈ lw_all := lw_g (lw_at lw_m9 120 rfl) rfl
theorem q2140 : (Jvm.Cond.code ({ cls := "java/lang/IndexOutOfBoundsException", name := "<init>", desc := "()V" } : Jvm.MethodName) prog_31_method_1_code (1 : Nat) (Option.none : Option Jvm.ClassFile.FieldType)) ∈ lw_all := lw_g (lw_at lw_m9 121 rfl) rfl
theorem q2141 : (Jvm.Cond.methodLink "java/lang/IndexOutOfBoundsException" (1 : Nat) ({ cls := "java/lang/RuntimeException", name := "<init>", desc := "()V" } : Jvm.MethodName)) ∈ lw_all := lw_g (lw_at lw_m9 122 rfl) rfl
theorem q3304 : (Jvm.Cond.selects "java/lang/IndexOutOfBoundsException" ({ cls := "java/lang/Throwable", name := "getLocalizedMessage", desc := "()Ljava/lang/String;" } : Jvm.MethodName) ({ cls := "java/lang/Throwable", name := "getLocalizedMessage", desc := "()Ljava/lang/String;" } : Jvm.MethodName)) ∈ lw_all := lw_g (lw_at lw_m14 85 rfl) rfl
theorem q3319 : (Jvm.Cond.selects "java/lang/IndexOutOfBoundsException" ({ cls := "java/lang/Throwable", name := "getMessage", desc := "()Ljava/lang/String;" } : Jvm.MethodName) ({ cls := "java/lang/Throwable", name := "getMessage", desc := "()Ljava/lang/String;" } : Jvm.MethodName)) ∈ lw_all := lw_g (lw_at lw_m14 100 rfl) rfl
theorem q3345 : (Jvm.Cond.selects "java/lang/IndexOutOfBoundsException" ({ cls := "java/lang/Object", name := "toString", desc := "()Ljava/lang/String;" } : Jvm.MethodName) ({ cls := "java/lang/Throwable", name := "toString", desc := "()Ljava/lang/String;" } : Jvm.MethodName)) ∈ lw_all := lw_g (lw_at lw_m14 126 rfl) rfl
theorem q4148 : (Jvm.Cond.castable "java/lang/IndexOutOfBoundsException" "java/lang/Throwable") ∈ lw_tbl := lw_at lw_m17 209 rfl
theorem q4175 : (Jvm.Cond.castable "java/lang/IndexOutOfBoundsException" "java/lang/Object") ∈ lw_tbl := lw_at lw_m17 236 rfl
theorem in_J26 : ∀ w ∈ wsJ260, w ∈ lw_all := lw_in wsJ260 [868, 869, 870, 871, 872, 1111] (by decide +kernel) (by decide +kernel)
/-! jdk/internal/util/ArraysSupport -/
set_option maxRecDepth 100000
def RJ27 : String := "jdk/internal/util/ArraysSupport"
abbrev cJ27_newLength : ByteArray := prog_92_method_27_code
def yJ27_newLength : MethodName := ⟨RJ27, "newLength", "(III)I"⟩
def dkwJ27_newLength_1 : List UInt8 := [184, 0, 201, 172]
abbrev dktJ27_newLength_1 : List UInt8 := dkwJ27_newLength_1 ++ []
def dkwJ27_newLength_0 : List UInt8 := [26, 27, 28, 184, 0, 194, 96, 62, 3, 29, 162, 0, 11, 29, 18, 200, 163, 0, 5, 29, 172, 26, 27]
abbrev dktJ27_newLength_0 : List UInt8 := dkwJ27_newLength_0 ++ dktJ27_newLength_1
theorem dksJ27_newLength_0 : cJ27_newLength.data.toList.drop 0 = dktJ27_newLength_0 := by decide +kernel
theorem dksJ27_newLength_1 : cJ27_newLength.data.toList.drop 23 = dktJ27_newLength_1 := dk_seg dksJ27_newLength_0 23 rfl rfl
theorem dJ27_newLength_0 : decode cJ27_newLength 0 = .ok (.iload_n 0, 1) := dk_26 (dk_at dksJ27_newLength_0 0 rfl rfl)
theorem dJ27_newLength_1 : decode cJ27_newLength 1 = .ok (.iload_n 1, 1) := dk_27 (dk_at dksJ27_newLength_0 1 rfl rfl)
theorem dJ27_newLength_2 : decode cJ27_newLength 2 = .ok (.iload_n 2, 1) := dk_28 (dk_at dksJ27_newLength_0 2 rfl rfl)
theorem dJ27_newLength_3 : decode cJ27_newLength 3 = .ok (.invokestatic 194, 3) := dk_184 0 194 (dk_at dksJ27_newLength_0 3 rfl rfl)
theorem dJ27_newLength_6 : decode cJ27_newLength 6 = .ok (.iadd, 1) := dk_96 (dk_at dksJ27_newLength_0 6 rfl rfl)
theorem dJ27_newLength_7 : decode cJ27_newLength 7 = .ok (.istore_n 3, 1) := dk_62 (dk_at dksJ27_newLength_0 7 rfl rfl)
theorem dJ27_newLength_8 : decode cJ27_newLength 8 = .ok (.iconst 0, 1) := dk_3 (dk_at dksJ27_newLength_0 8 rfl rfl)
theorem dJ27_newLength_9 : decode cJ27_newLength 9 = .ok (.iload_n 3, 1) := dk_29 (dk_at dksJ27_newLength_0 9 rfl rfl)
theorem dJ27_newLength_10 : decode cJ27_newLength 10 = .ok (.if_icmp .ge 11, 3) := dk_162 0 11 (dk_at dksJ27_newLength_0 10 rfl rfl)
theorem dJ27_newLength_13 : decode cJ27_newLength 13 = .ok (.iload_n 3, 1) := dk_29 (dk_at dksJ27_newLength_0 13 rfl rfl)
theorem dJ27_newLength_14 : decode cJ27_newLength 14 = .ok (.ldc 200, 2) := dk_18 200 (dk_at dksJ27_newLength_0 14 rfl rfl)
theorem dJ27_newLength_16 : decode cJ27_newLength 16 = .ok (.if_icmp .gt 5, 3) := dk_163 0 5 (dk_at dksJ27_newLength_0 16 rfl rfl)
theorem dJ27_newLength_19 : decode cJ27_newLength 19 = .ok (.iload_n 3, 1) := dk_29 (dk_at dksJ27_newLength_0 19 rfl rfl)
theorem dJ27_newLength_20 : decode cJ27_newLength 20 = .ok (.ireturn, 1) := dk_172 (dk_at dksJ27_newLength_0 20 rfl rfl)
theorem dJ27_newLength_21 : decode cJ27_newLength 21 = .ok (.iload_n 0, 1) := dk_26 (dk_at dksJ27_newLength_0 21 rfl rfl)
theorem dJ27_newLength_22 : decode cJ27_newLength 22 = .ok (.iload_n 1, 1) := dk_27 (dk_at dksJ27_newLength_0 22 rfl rfl)
theorem dJ27_newLength_23 : decode cJ27_newLength 23 = .ok (.invokestatic 201, 3) := dk_184 0 201 (dk_at dksJ27_newLength_1 0 rfl rfl)
theorem dJ27_newLength_26 : decode cJ27_newLength 26 = .ok (.ireturn, 1) := dk_172 (dk_at dksJ27_newLength_1 3 rfl rfl)
abbrev cJ27_hugeLength : ByteArray := prog_92_method_28_code
def yJ27_hugeLength : MethodName := ⟨RJ27, "hugeLength", "(II)I"⟩
def dkwJ27_hugeLength_2 : List UInt8 := [191, 28, 18, 200, 163, 0, 6, 18, 200, 172, 28, 172]
abbrev dktJ27_hugeLength_2 : List UInt8 := dkwJ27_hugeLength_2 ++ []
def dkwJ27_hugeLength_1 : List UInt8 := [26, 182, 0, 98, 18, 208, 182, 0, 94, 27, 182, 0, 98, 18, 210, 182, 0, 94, 182, 0, 101, 183, 0, 212]
abbrev dktJ27_hugeLength_1 : List UInt8 := dkwJ27_hugeLength_1 ++ dktJ27_hugeLength_2
def dkwJ27_hugeLength_0 : List UInt8 := [26, 27, 96, 61, 28, 156, 0, 44, 187, 0, 204, 89, 187, 0, 89, 89, 183, 0, 91, 18, 206, 182, 0, 94]
abbrev dktJ27_hugeLength_0 : List UInt8 := dkwJ27_hugeLength_0 ++ dktJ27_hugeLength_1
theorem dksJ27_hugeLength_0 : cJ27_hugeLength.data.toList.drop 0 = dktJ27_hugeLength_0 := by decide +kernel
theorem dksJ27_hugeLength_1 : cJ27_hugeLength.data.toList.drop 24 = dktJ27_hugeLength_1 := dk_seg dksJ27_hugeLength_0 24 rfl rfl
theorem dksJ27_hugeLength_2 : cJ27_hugeLength.data.toList.drop 48 = dktJ27_hugeLength_2 := dk_seg dksJ27_hugeLength_1 24 rfl rfl
theorem dJ27_hugeLength_0 : decode cJ27_hugeLength 0 = .ok (.iload_n 0, 1) := dk_26 (dk_at dksJ27_hugeLength_0 0 rfl rfl)
theorem dJ27_hugeLength_1 : decode cJ27_hugeLength 1 = .ok (.iload_n 1, 1) := dk_27 (dk_at dksJ27_hugeLength_0 1 rfl rfl)
theorem dJ27_hugeLength_2 : decode cJ27_hugeLength 2 = .ok (.iadd, 1) := dk_96 (dk_at dksJ27_hugeLength_0 2 rfl rfl)
theorem dJ27_hugeLength_3 : decode cJ27_hugeLength 3 = .ok (.istore_n 2, 1) := dk_61 (dk_at dksJ27_hugeLength_0 3 rfl rfl)
theorem dJ27_hugeLength_4 : decode cJ27_hugeLength 4 = .ok (.iload_n 2, 1) := dk_28 (dk_at dksJ27_hugeLength_0 4 rfl rfl)
theorem dJ27_hugeLength_5 : decode cJ27_hugeLength 5 = .ok (.ifCond .ge 44, 3) := dk_156 0 44 (dk_at dksJ27_hugeLength_0 5 rfl rfl)
theorem dJ27_hugeLength_8 : decode cJ27_hugeLength 8 = .ok (.new 204, 3) := dk_187 0 204 (dk_at dksJ27_hugeLength_0 8 rfl rfl)
theorem dJ27_hugeLength_11 : decode cJ27_hugeLength 11 = .ok (.dup, 1) := dk_89 (dk_at dksJ27_hugeLength_0 11 rfl rfl)
theorem dJ27_hugeLength_12 : decode cJ27_hugeLength 12 = .ok (.new 89, 3) := dk_187 0 89 (dk_at dksJ27_hugeLength_0 12 rfl rfl)
theorem dJ27_hugeLength_15 : decode cJ27_hugeLength 15 = .ok (.dup, 1) := dk_89 (dk_at dksJ27_hugeLength_0 15 rfl rfl)
theorem dJ27_hugeLength_16 : decode cJ27_hugeLength 16 = .ok (.invokespecial 91, 3) := dk_183 0 91 (dk_at dksJ27_hugeLength_0 16 rfl rfl)
theorem dJ27_hugeLength_19 : decode cJ27_hugeLength 19 = .ok (.ldc 206, 2) := dk_18 206 (dk_at dksJ27_hugeLength_0 19 rfl rfl)
theorem dJ27_hugeLength_21 : decode cJ27_hugeLength 21 = .ok (.invokevirtual 94, 3) := dk_182 0 94 (dk_at dksJ27_hugeLength_0 21 rfl rfl)
theorem dJ27_hugeLength_24 : decode cJ27_hugeLength 24 = .ok (.iload_n 0, 1) := dk_26 (dk_at dksJ27_hugeLength_1 0 rfl rfl)
theorem dJ27_hugeLength_25 : decode cJ27_hugeLength 25 = .ok (.invokevirtual 98, 3) := dk_182 0 98 (dk_at dksJ27_hugeLength_1 1 rfl rfl)
theorem dJ27_hugeLength_28 : decode cJ27_hugeLength 28 = .ok (.ldc 208, 2) := dk_18 208 (dk_at dksJ27_hugeLength_1 4 rfl rfl)
theorem dJ27_hugeLength_30 : decode cJ27_hugeLength 30 = .ok (.invokevirtual 94, 3) := dk_182 0 94 (dk_at dksJ27_hugeLength_1 6 rfl rfl)
theorem dJ27_hugeLength_33 : decode cJ27_hugeLength 33 = .ok (.iload_n 1, 1) := dk_27 (dk_at dksJ27_hugeLength_1 9 rfl rfl)
theorem dJ27_hugeLength_34 : decode cJ27_hugeLength 34 = .ok (.invokevirtual 98, 3) := dk_182 0 98 (dk_at dksJ27_hugeLength_1 10 rfl rfl)
theorem dJ27_hugeLength_37 : decode cJ27_hugeLength 37 = .ok (.ldc 210, 2) := dk_18 210 (dk_at dksJ27_hugeLength_1 13 rfl rfl)
theorem dJ27_hugeLength_39 : decode cJ27_hugeLength 39 = .ok (.invokevirtual 94, 3) := dk_182 0 94 (dk_at dksJ27_hugeLength_1 15 rfl rfl)
theorem dJ27_hugeLength_42 : decode cJ27_hugeLength 42 = .ok (.invokevirtual 101, 3) := dk_182 0 101 (dk_at dksJ27_hugeLength_1 18 rfl rfl)
theorem dJ27_hugeLength_45 : decode cJ27_hugeLength 45 = .ok (.invokespecial 212, 3) := dk_183 0 212 (dk_at dksJ27_hugeLength_1 21 rfl rfl)
theorem dJ27_hugeLength_48 : decode cJ27_hugeLength 48 = .ok (.athrow, 1) := dk_191 (dk_at dksJ27_hugeLength_2 0 rfl rfl)
theorem dJ27_hugeLength_49 : decode cJ27_hugeLength 49 = .ok (.iload_n 2, 1) := dk_28 (dk_at dksJ27_hugeLength_2 1 rfl rfl)
theorem dJ27_hugeLength_50 : decode cJ27_hugeLength 50 = .ok (.ldc 200, 2) := dk_18 200 (dk_at dksJ27_hugeLength_2 2 rfl rfl)
theorem dJ27_hugeLength_52 : decode cJ27_hugeLength 52 = .ok (.if_icmp .gt 6, 3) := dk_163 0 6 (dk_at dksJ27_hugeLength_2 4 rfl rfl)
theorem dJ27_hugeLength_55 : decode cJ27_hugeLength 55 = .ok (.ldc 200, 2) := dk_18 200 (dk_at dksJ27_hugeLength_2 7 rfl rfl)
theorem dJ27_hugeLength_57 : decode cJ27_hugeLength 57 = .ok (.ireturn, 1) := dk_172 (dk_at dksJ27_hugeLength_2 9 rfl rfl)
theorem dJ27_hugeLength_58 : decode cJ27_hugeLength 58 = .ok (.iload_n 2, 1) := dk_28 (dk_at dksJ27_hugeLength_2 10 rfl rfl)
theorem dJ27_hugeLength_59 : decode cJ27_hugeLength 59 = .ok (.ireturn, 1) := dk_172 (dk_at dksJ27_hugeLength_2 11 rfl rfl)
abbrev cJ27_mismatch : ByteArray := prog_92_method_13_code
def yJ27_mismatch : MethodName := ⟨RJ27, "mismatch", "([B[BI)I"⟩
def dkwJ27_mismatch_3 : List UInt8 := [172]
abbrev dktJ27_mismatch_3 : List UInt8 := dkwJ27_mismatch_3 ++ []
def dkwJ27_mismatch_2 : List UInt8 := [62, 29, 28, 162, 0, 20, 42, 29, 51, 43, 29, 51, 159, 0, 5, 29, 172, 132, 3, 1, 167, 255, 237, 2]
abbrev dktJ27_mismatch_2 : List UInt8 := dkwJ27_mismatch_2 ++ dktJ27_mismatch_3
def dkwJ27_mismatch_1 : List UInt8 := [43, 178, 0, 126, 133, 28, 178, 0, 129, 184, 0, 122, 62, 29, 155, 0, 5, 29, 172, 28, 29, 2, 130, 100]
abbrev dktJ27_mismatch_1 : List UInt8 := dkwJ27_mismatch_1 ++ dktJ27_mismatch_2
def dkwJ27_mismatch_0 : List UInt8 := [3, 62, 28, 16, 7, 164, 0, 44, 42, 3, 51, 43, 3, 51, 159, 0, 5, 3, 172, 42, 178, 0, 126, 133]
abbrev dktJ27_mismatch_0 : List UInt8 := dkwJ27_mismatch_0 ++ dktJ27_mismatch_1
theorem dksJ27_mismatch_0 : cJ27_mismatch.data.toList.drop 0 = dktJ27_mismatch_0 := by decide +kernel
theorem dksJ27_mismatch_1 : cJ27_mismatch.data.toList.drop 24 = dktJ27_mismatch_1 := dk_seg dksJ27_mismatch_0 24 rfl rfl
theorem dksJ27_mismatch_2 : cJ27_mismatch.data.toList.drop 48 = dktJ27_mismatch_2 := dk_seg dksJ27_mismatch_1 24 rfl rfl
theorem dksJ27_mismatch_3 : cJ27_mismatch.data.toList.drop 72 = dktJ27_mismatch_3 := dk_seg dksJ27_mismatch_2 24 rfl rfl
theorem dJ27_mismatch_0 : decode cJ27_mismatch 0 = .ok (.iconst 0, 1) := dk_3 (dk_at dksJ27_mismatch_0 0 rfl rfl)
theorem dJ27_mismatch_1 : decode cJ27_mismatch 1 = .ok (.istore_n 3, 1) := dk_62 (dk_at dksJ27_mismatch_0 1 rfl rfl)
theorem dJ27_mismatch_2 : decode cJ27_mismatch 2 = .ok (.iload_n 2, 1) := dk_28 (dk_at dksJ27_mismatch_0 2 rfl rfl)
theorem dJ27_mismatch_3 : decode cJ27_mismatch 3 = .ok (.bipush 7, 2) := dk_16 7 (dk_at dksJ27_mismatch_0 3 rfl rfl)
theorem dJ27_mismatch_5 : decode cJ27_mismatch 5 = .ok (.if_icmp .le 44, 3) := dk_164 0 44 (dk_at dksJ27_mismatch_0 5 rfl rfl)
theorem dJ27_mismatch_8 : decode cJ27_mismatch 8 = .ok (.aload_n 0, 1) := dk_42 (dk_at dksJ27_mismatch_0 8 rfl rfl)
theorem dJ27_mismatch_9 : decode cJ27_mismatch 9 = .ok (.iconst 0, 1) := dk_3 (dk_at dksJ27_mismatch_0 9 rfl rfl)
theorem dJ27_mismatch_10 : decode cJ27_mismatch 10 = .ok (.baload, 1) := dk_51 (dk_at dksJ27_mismatch_0 10 rfl rfl)
theorem dJ27_mismatch_11 : decode cJ27_mismatch 11 = .ok (.aload_n 1, 1) := dk_43 (dk_at dksJ27_mismatch_0 11 rfl rfl)
theorem dJ27_mismatch_12 : decode cJ27_mismatch 12 = .ok (.iconst 0, 1) := dk_3 (dk_at dksJ27_mismatch_0 12 rfl rfl)
theorem dJ27_mismatch_13 : decode cJ27_mismatch 13 = .ok (.baload, 1) := dk_51 (dk_at dksJ27_mismatch_0 13 rfl rfl)
theorem dJ27_mismatch_14 : decode cJ27_mismatch 14 = .ok (.if_icmp .eq 5, 3) := dk_159 0 5 (dk_at dksJ27_mismatch_0 14 rfl rfl)
theorem dJ27_mismatch_17 : decode cJ27_mismatch 17 = .ok (.iconst 0, 1) := dk_3 (dk_at dksJ27_mismatch_0 17 rfl rfl)
theorem dJ27_mismatch_18 : decode cJ27_mismatch 18 = .ok (.ireturn, 1) := dk_172 (dk_at dksJ27_mismatch_0 18 rfl rfl)
theorem dJ27_mismatch_19 : decode cJ27_mismatch 19 = .ok (.aload_n 0, 1) := dk_42 (dk_at dksJ27_mismatch_0 19 rfl rfl)
theorem dJ27_mismatch_20 : decode cJ27_mismatch 20 = .ok (.getstatic 126, 3) := dk_178 0 126 (dk_at dksJ27_mismatch_0 20 rfl rfl)
theorem dJ27_mismatch_23 : decode cJ27_mismatch 23 = .ok (.i2l, 1) := dk_133 (dk_at dksJ27_mismatch_0 23 rfl rfl)
theorem dJ27_mismatch_24 : decode cJ27_mismatch 24 = .ok (.aload_n 1, 1) := dk_43 (dk_at dksJ27_mismatch_1 0 rfl rfl)
theorem dJ27_mismatch_25 : decode cJ27_mismatch 25 = .ok (.getstatic 126, 3) := dk_178 0 126 (dk_at dksJ27_mismatch_1 1 rfl rfl)
theorem dJ27_mismatch_28 : decode cJ27_mismatch 28 = .ok (.i2l, 1) := dk_133 (dk_at dksJ27_mismatch_1 4 rfl rfl)
theorem dJ27_mismatch_29 : decode cJ27_mismatch 29 = .ok (.iload_n 2, 1) := dk_28 (dk_at dksJ27_mismatch_1 5 rfl rfl)
theorem dJ27_mismatch_30 : decode cJ27_mismatch 30 = .ok (.getstatic 129, 3) := dk_178 0 129 (dk_at dksJ27_mismatch_1 6 rfl rfl)
theorem dJ27_mismatch_33 : decode cJ27_mismatch 33 = .ok (.invokestatic 122, 3) := dk_184 0 122 (dk_at dksJ27_mismatch_1 9 rfl rfl)
theorem dJ27_mismatch_36 : decode cJ27_mismatch 36 = .ok (.istore_n 3, 1) := dk_62 (dk_at dksJ27_mismatch_1 12 rfl rfl)
theorem dJ27_mismatch_37 : decode cJ27_mismatch 37 = .ok (.iload_n 3, 1) := dk_29 (dk_at dksJ27_mismatch_1 13 rfl rfl)
theorem dJ27_mismatch_38 : decode cJ27_mismatch 38 = .ok (.ifCond .lt 5, 3) := dk_155 0 5 (dk_at dksJ27_mismatch_1 14 rfl rfl)
theorem dJ27_mismatch_41 : decode cJ27_mismatch 41 = .ok (.iload_n 3, 1) := dk_29 (dk_at dksJ27_mismatch_1 17 rfl rfl)
theorem dJ27_mismatch_42 : decode cJ27_mismatch 42 = .ok (.ireturn, 1) := dk_172 (dk_at dksJ27_mismatch_1 18 rfl rfl)
theorem dJ27_mismatch_43 : decode cJ27_mismatch 43 = .ok (.iload_n 2, 1) := dk_28 (dk_at dksJ27_mismatch_1 19 rfl rfl)
theorem dJ27_mismatch_44 : decode cJ27_mismatch 44 = .ok (.iload_n 3, 1) := dk_29 (dk_at dksJ27_mismatch_1 20 rfl rfl)
theorem dJ27_mismatch_45 : decode cJ27_mismatch 45 = .ok (.iconst (-1), 1) := dk_2 (dk_at dksJ27_mismatch_1 21 rfl rfl)
theorem dJ27_mismatch_46 : decode cJ27_mismatch 46 = .ok (.ixor, 1) := dk_130 (dk_at dksJ27_mismatch_1 22 rfl rfl)
theorem dJ27_mismatch_47 : decode cJ27_mismatch 47 = .ok (.isub, 1) := dk_100 (dk_at dksJ27_mismatch_1 23 rfl rfl)
theorem dJ27_mismatch_48 : decode cJ27_mismatch 48 = .ok (.istore_n 3, 1) := dk_62 (dk_at dksJ27_mismatch_2 0 rfl rfl)
theorem dJ27_mismatch_49 : decode cJ27_mismatch 49 = .ok (.iload_n 3, 1) := dk_29 (dk_at dksJ27_mismatch_2 1 rfl rfl)
theorem dJ27_mismatch_50 : decode cJ27_mismatch 50 = .ok (.iload_n 2, 1) := dk_28 (dk_at dksJ27_mismatch_2 2 rfl rfl)
theorem dJ27_mismatch_51 : decode cJ27_mismatch 51 = .ok (.if_icmp .ge 20, 3) := dk_162 0 20 (dk_at dksJ27_mismatch_2 3 rfl rfl)
theorem dJ27_mismatch_54 : decode cJ27_mismatch 54 = .ok (.aload_n 0, 1) := dk_42 (dk_at dksJ27_mismatch_2 6 rfl rfl)
theorem dJ27_mismatch_55 : decode cJ27_mismatch 55 = .ok (.iload_n 3, 1) := dk_29 (dk_at dksJ27_mismatch_2 7 rfl rfl)
theorem dJ27_mismatch_56 : decode cJ27_mismatch 56 = .ok (.baload, 1) := dk_51 (dk_at dksJ27_mismatch_2 8 rfl rfl)
theorem dJ27_mismatch_57 : decode cJ27_mismatch 57 = .ok (.aload_n 1, 1) := dk_43 (dk_at dksJ27_mismatch_2 9 rfl rfl)
theorem dJ27_mismatch_58 : decode cJ27_mismatch 58 = .ok (.iload_n 3, 1) := dk_29 (dk_at dksJ27_mismatch_2 10 rfl rfl)
theorem dJ27_mismatch_59 : decode cJ27_mismatch 59 = .ok (.baload, 1) := dk_51 (dk_at dksJ27_mismatch_2 11 rfl rfl)
theorem dJ27_mismatch_60 : decode cJ27_mismatch 60 = .ok (.if_icmp .eq 5, 3) := dk_159 0 5 (dk_at dksJ27_mismatch_2 12 rfl rfl)
theorem dJ27_mismatch_63 : decode cJ27_mismatch 63 = .ok (.iload_n 3, 1) := dk_29 (dk_at dksJ27_mismatch_2 15 rfl rfl)
theorem dJ27_mismatch_64 : decode cJ27_mismatch 64 = .ok (.ireturn, 1) := dk_172 (dk_at dksJ27_mismatch_2 16 rfl rfl)
theorem dJ27_mismatch_65 : decode cJ27_mismatch 65 = .ok (.iinc 3 1, 3) := dk_132 3 1 (dk_at dksJ27_mismatch_2 17 rfl rfl)
theorem dJ27_mismatch_68 : decode cJ27_mismatch 68 = .ok (.goto (-19), 3) := dk_167 255 237 (dk_at dksJ27_mismatch_2 20 rfl rfl)
theorem dJ27_mismatch_71 : decode cJ27_mismatch 71 = .ok (.iconst (-1), 1) := dk_2 (dk_at dksJ27_mismatch_2 23 rfl rfl)
theorem dJ27_mismatch_72 : decode cJ27_mismatch 72 = .ok (.ireturn, 1) := dk_172 (dk_at dksJ27_mismatch_3 0 rfl rfl)
abbrev cJ27_vectorizedMismatch : ByteArray := prog_92_method_3_code
def yJ27_vectorizedMismatch : MethodName := ⟨RJ27, "vectorizedMismatch", "(Ljava/lang/Object;JLjava/lang/Object;JII)I"⟩
def dkwJ27_vectorizedMismatch_11 : List UInt8 := [54, 10, 21, 10, 2, 130, 172, 21, 10, 2, 130, 172]
abbrev dktJ27_vectorizedMismatch_11 : List UInt8 := dkwJ27_vectorizedMismatch_11 ++ []
def dkwJ27_vectorizedMismatch_10 : List UInt8 := [178, 0, 46, 21, 7, 96, 122, 54, 17, 21, 9, 21, 8, 120, 21, 17, 96, 172, 21, 10, 21, 11, 100]
abbrev dktJ27_vectorizedMismatch_10 : List UInt8 := dkwJ27_vectorizedMismatch_10 ++ dktJ27_vectorizedMismatch_11
def dkwJ27_vectorizedMismatch_9 : List UInt8 := [153, 0, 18, 21, 16, 184, 0, 58, 178, 0, 46, 21, 7, 96, 122, 167, 0, 15, 21, 16, 184, 0, 11]
abbrev dktJ27_vectorizedMismatch_9 : List UInt8 := dkwJ27_vectorizedMismatch_9 ++ dktJ27_vectorizedMismatch_10
def dkwJ27_vectorizedMismatch_8 : List UInt8 := [182, 0, 54, 54, 15, 21, 14, 21, 15, 159, 0, 54, 21, 14, 21, 15, 130, 54, 16, 178, 0, 36]
abbrev dktJ27_vectorizedMismatch_8 : List UInt8 := dkwJ27_vectorizedMismatch_8 ++ dktJ27_vectorizedMismatch_9
def dkwJ27_vectorizedMismatch_7 : List UInt8 := [55, 12, 178, 0, 26, 42, 31, 22, 12, 97, 182, 0, 54, 54, 14, 178, 0, 26, 45, 22, 4, 22, 12, 97]
abbrev dktJ27_vectorizedMismatch_7 : List UInt8 := dkwJ27_vectorizedMismatch_7 ++ dktJ27_vectorizedMismatch_8
def dkwJ27_vectorizedMismatch_6 : List UInt8 := [4, 178, 0, 51, 21, 7, 100, 120, 54, 11, 21, 10, 21, 11, 161, 0, 104, 21, 9, 133, 178, 0, 20, 121]
abbrev dktJ27_vectorizedMismatch_6 : List UInt8 := dkwJ27_vectorizedMismatch_6 ++ dktJ27_vectorizedMismatch_7
def dkwJ27_vectorizedMismatch_5 : List UInt8 := [132, 9, 1, 167, 255, 148, 21, 6, 21, 9, 21, 8, 120, 100, 54, 10, 21, 7, 178, 0, 51, 162, 0, 126]
abbrev dktJ27_vectorizedMismatch_5 : List UInt8 := dkwJ27_vectorizedMismatch_5 ++ dktJ27_vectorizedMismatch_6
def dkwJ27_vectorizedMismatch_4 : List UInt8 := [22, 16, 184, 0, 49, 178, 0, 46, 21, 7, 96, 122, 54, 18, 21, 9, 21, 8, 120, 21, 18, 96, 172]
abbrev dktJ27_vectorizedMismatch_4 : List UInt8 := dkwJ27_vectorizedMismatch_4 ++ dktJ27_vectorizedMismatch_5
def dkwJ27_vectorizedMismatch_3 : List UInt8 := [55, 16, 178, 0, 36, 153, 0, 18, 22, 16, 184, 0, 40, 178, 0, 46, 21, 7, 96, 122, 167, 0, 15]
abbrev dktJ27_vectorizedMismatch_3 : List UInt8 := dkwJ27_vectorizedMismatch_3 ++ dktJ27_vectorizedMismatch_4
def dkwJ27_vectorizedMismatch_2 : List UInt8 := [22, 4, 22, 10, 97, 182, 0, 30, 55, 14, 22, 12, 22, 14, 148, 153, 0, 54, 22, 12, 22, 14, 131]
abbrev dktJ27_vectorizedMismatch_2 : List UInt8 := dkwJ27_vectorizedMismatch_2 ++ dktJ27_vectorizedMismatch_3
def dkwJ27_vectorizedMismatch_1 : List UInt8 := [178, 0, 20, 121, 55, 10, 178, 0, 26, 42, 31, 22, 10, 97, 182, 0, 30, 55, 12, 178, 0, 26, 45]
abbrev dktJ27_vectorizedMismatch_1 : List UInt8 := dkwJ27_vectorizedMismatch_1 ++ dktJ27_vectorizedMismatch_2
def dkwJ27_vectorizedMismatch_0 : List UInt8 := [178, 0, 20, 21, 7, 100, 54, 8, 3, 54, 9, 21, 9, 21, 6, 21, 8, 122, 162, 0, 104, 21, 9, 133]
abbrev dktJ27_vectorizedMismatch_0 : List UInt8 := dkwJ27_vectorizedMismatch_0 ++ dktJ27_vectorizedMismatch_1
theorem dksJ27_vectorizedMismatch_0 : cJ27_vectorizedMismatch.data.toList.drop 0 = dktJ27_vectorizedMismatch_0 := by decide +kernel
theorem dksJ27_vectorizedMismatch_1 : cJ27_vectorizedMismatch.data.toList.drop 24 = dktJ27_vectorizedMismatch_1 := dk_seg dksJ27_vectorizedMismatch_0 24 rfl rfl
theorem dksJ27_vectorizedMismatch_2 : cJ27_vectorizedMismatch.data.toList.drop 47 = dktJ27_vectorizedMismatch_2 := dk_seg dksJ27_vectorizedMismatch_1 23 rfl rfl
theorem dksJ27_vectorizedMismatch_3 : cJ27_vectorizedMismatch.data.toList.drop 70 = dktJ27_vectorizedMismatch_3 := dk_seg dksJ27_vectorizedMismatch_2 23 rfl rfl
theorem dksJ27_vectorizedMismatch_4 : cJ27_vectorizedMismatch.data.toList.drop 93 = dktJ27_vectorizedMismatch_4 := dk_seg dksJ27_vectorizedMismatch_3 23 rfl rfl
theorem dksJ27_vectorizedMismatch_5 : cJ27_vectorizedMismatch.data.toList.drop 116 = dktJ27_vectorizedMismatch_5 := dk_seg dksJ27_vectorizedMismatch_4 23 rfl rfl
theorem dksJ27_vectorizedMismatch_6 : cJ27_vectorizedMismatch.data.toList.drop 140 = dktJ27_vectorizedMismatch_6 := dk_seg dksJ27_vectorizedMismatch_5 24 rfl rfl
theorem dksJ27_vectorizedMismatch_7 : cJ27_vectorizedMismatch.data.toList.drop 164 = dktJ27_vectorizedMismatch_7 := dk_seg dksJ27_vectorizedMismatch_6 24 rfl rfl
theorem dksJ27_vectorizedMismatch_8 : cJ27_vectorizedMismatch.data.toList.drop 188 = dktJ27_vectorizedMismatch_8 := dk_seg dksJ27_vectorizedMismatch_7 24 rfl rfl
theorem dksJ27_vectorizedMismatch_9 : cJ27_vectorizedMismatch.data.toList.drop 210 = dktJ27_vectorizedMismatch_9 := dk_seg dksJ27_vectorizedMismatch_8 22 rfl rfl
theorem dksJ27_vectorizedMismatch_10 : cJ27_vectorizedMismatch.data.toList.drop 233 = dktJ27_vectorizedMismatch_10 := dk_seg dksJ27_vectorizedMismatch_9 23 rfl rfl
theorem dksJ27_vectorizedMismatch_11 : cJ27_vectorizedMismatch.data.toList.drop 256 = dktJ27_vectorizedMismatch_11 := dk_seg dksJ27_vectorizedMismatch_10 23 rfl rfl
theorem dJ27_vectorizedMismatch_0 : decode cJ27_vectorizedMismatch 0 = .ok (.getstatic 20, 3) := dk_178 0 20 (dk_at dksJ27_vectorizedMismatch_0 0 rfl rfl)
theorem dJ27_vectorizedMismatch_3 : decode cJ27_vectorizedMismatch 3 = .ok (.iload 7, 2) := dk_21 7 (dk_at dksJ27_vectorizedMismatch_0 3 rfl rfl)
theorem dJ27_vectorizedMismatch_5 : decode cJ27_vectorizedMismatch 5 = .ok (.isub, 1) := dk_100 (dk_at dksJ27_vectorizedMismatch_0 5 rfl rfl)
theorem dJ27_vectorizedMismatch_6 : decode cJ27_vectorizedMismatch 6 = .ok (.istore 8, 2) := dk_54 8 (dk_at dksJ27_vectorizedMismatch_0 6 rfl rfl)
theorem dJ27_vectorizedMismatch_8 : decode cJ27_vectorizedMismatch 8 = .ok (.iconst 0, 1) := dk_3 (dk_at dksJ27_vectorizedMismatch_0 8 rfl rfl)
theorem dJ27_vectorizedMismatch_9 : decode cJ27_vectorizedMismatch 9 = .ok (.istore 9, 2) := dk_54 9 (dk_at dksJ27_vectorizedMismatch_0 9 rfl rfl)
theorem dJ27_vectorizedMismatch_11 : decode cJ27_vectorizedMismatch 11 = .ok (.iload 9, 2) := dk_21 9 (dk_at dksJ27_vectorizedMismatch_0 11 rfl rfl)
theorem dJ27_vectorizedMismatch_13 : decode cJ27_vectorizedMismatch 13 = .ok (.iload 6, 2) := dk_21 6 (dk_at dksJ27_vectorizedMismatch_0 13 rfl rfl)
theorem dJ27_vectorizedMismatch_15 : decode cJ27_vectorizedMismatch 15 = .ok (.iload 8, 2) := dk_21 8 (dk_at dksJ27_vectorizedMismatch_0 15 rfl rfl)
theorem dJ27_vectorizedMismatch_17 : decode cJ27_vectorizedMismatch 17 = .ok (.ishr, 1) := dk_122 (dk_at dksJ27_vectorizedMismatch_0 17 rfl rfl)
theorem dJ27_vectorizedMismatch_18 : decode cJ27_vectorizedMismatch 18 = .ok (.if_icmp .ge 104, 3) := dk_162 0 104 (dk_at dksJ27_vectorizedMismatch_0 18 rfl rfl)
theorem dJ27_vectorizedMismatch_21 : decode cJ27_vectorizedMismatch 21 = .ok (.iload 9, 2) := dk_21 9 (dk_at dksJ27_vectorizedMismatch_0 21 rfl rfl)
theorem dJ27_vectorizedMismatch_23 : decode cJ27_vectorizedMismatch 23 = .ok (.i2l, 1) := dk_133 (dk_at dksJ27_vectorizedMismatch_0 23 rfl rfl)
theorem dJ27_vectorizedMismatch_24 : decode cJ27_vectorizedMismatch 24 = .ok (.getstatic 20, 3) := dk_178 0 20 (dk_at dksJ27_vectorizedMismatch_1 0 rfl rfl)
theorem dJ27_vectorizedMismatch_27 : decode cJ27_vectorizedMismatch 27 = .ok (.lshl, 1) := dk_121 (dk_at dksJ27_vectorizedMismatch_1 3 rfl rfl)
theorem dJ27_vectorizedMismatch_28 : decode cJ27_vectorizedMismatch 28 = .ok (.lstore 10, 2) := dk_55 10 (dk_at dksJ27_vectorizedMismatch_1 4 rfl rfl)
theorem dJ27_vectorizedMismatch_30 : decode cJ27_vectorizedMismatch 30 = .ok (.getstatic 26, 3) := dk_178 0 26 (dk_at dksJ27_vectorizedMismatch_1 6 rfl rfl)
theorem dJ27_vectorizedMismatch_33 : decode cJ27_vectorizedMismatch 33 = .ok (.aload_n 0, 1) := dk_42 (dk_at dksJ27_vectorizedMismatch_1 9 rfl rfl)
theorem dJ27_vectorizedMismatch_34 : decode cJ27_vectorizedMismatch 34 = .ok (.lload_n 1, 1) := dk_31 (dk_at dksJ27_vectorizedMismatch_1 10 rfl rfl)
theorem dJ27_vectorizedMismatch_35 : decode cJ27_vectorizedMismatch 35 = .ok (.lload 10, 2) := dk_22 10 (dk_at dksJ27_vectorizedMismatch_1 11 rfl rfl)
theorem dJ27_vectorizedMismatch_37 : decode cJ27_vectorizedMismatch 37 = .ok (.ladd, 1) := dk_97 (dk_at dksJ27_vectorizedMismatch_1 13 rfl rfl)
theorem dJ27_vectorizedMismatch_38 : decode cJ27_vectorizedMismatch 38 = .ok (.invokevirtual 30, 3) := dk_182 0 30 (dk_at dksJ27_vectorizedMismatch_1 14 rfl rfl)
theorem dJ27_vectorizedMismatch_41 : decode cJ27_vectorizedMismatch 41 = .ok (.lstore 12, 2) := dk_55 12 (dk_at dksJ27_vectorizedMismatch_1 17 rfl rfl)
theorem dJ27_vectorizedMismatch_43 : decode cJ27_vectorizedMismatch 43 = .ok (.getstatic 26, 3) := dk_178 0 26 (dk_at dksJ27_vectorizedMismatch_1 19 rfl rfl)
theorem dJ27_vectorizedMismatch_46 : decode cJ27_vectorizedMismatch 46 = .ok (.aload_n 3, 1) := dk_45 (dk_at dksJ27_vectorizedMismatch_1 22 rfl rfl)
theorem dJ27_vectorizedMismatch_47 : decode cJ27_vectorizedMismatch 47 = .ok (.lload 4, 2) := dk_22 4 (dk_at dksJ27_vectorizedMismatch_2 0 rfl rfl)
theorem dJ27_vectorizedMismatch_49 : decode cJ27_vectorizedMismatch 49 = .ok (.lload 10, 2) := dk_22 10 (dk_at dksJ27_vectorizedMismatch_2 2 rfl rfl)
theorem dJ27_vectorizedMismatch_51 : decode cJ27_vectorizedMismatch 51 = .ok (.ladd, 1) := dk_97 (dk_at dksJ27_vectorizedMismatch_2 4 rfl rfl)
theorem dJ27_vectorizedMismatch_52 : decode cJ27_vectorizedMismatch 52 = .ok (.invokevirtual 30, 3) := dk_182 0 30 (dk_at dksJ27_vectorizedMismatch_2 5 rfl rfl)
theorem dJ27_vectorizedMismatch_55 : decode cJ27_vectorizedMismatch 55 = .ok (.lstore 14, 2) := dk_55 14 (dk_at dksJ27_vectorizedMismatch_2 8 rfl rfl)
theorem dJ27_vectorizedMismatch_57 : decode cJ27_vectorizedMismatch 57 = .ok (.lload 12, 2) := dk_22 12 (dk_at dksJ27_vectorizedMismatch_2 10 rfl rfl)
theorem dJ27_vectorizedMismatch_59 : decode cJ27_vectorizedMismatch 59 = .ok (.lload 14, 2) := dk_22 14 (dk_at dksJ27_vectorizedMismatch_2 12 rfl rfl)
theorem dJ27_vectorizedMismatch_61 : decode cJ27_vectorizedMismatch 61 = .ok (.lcmp, 1) := dk_148 (dk_at dksJ27_vectorizedMismatch_2 14 rfl rfl)
theorem dJ27_vectorizedMismatch_62 : decode cJ27_vectorizedMismatch 62 = .ok (.ifCond .eq 54, 3) := dk_153 0 54 (dk_at dksJ27_vectorizedMismatch_2 15 rfl rfl)
theorem dJ27_vectorizedMismatch_65 : decode cJ27_vectorizedMismatch 65 = .ok (.lload 12, 2) := dk_22 12 (dk_at dksJ27_vectorizedMismatch_2 18 rfl rfl)
theorem dJ27_vectorizedMismatch_67 : decode cJ27_vectorizedMismatch 67 = .ok (.lload 14, 2) := dk_22 14 (dk_at dksJ27_vectorizedMismatch_2 20 rfl rfl)
theorem dJ27_vectorizedMismatch_69 : decode cJ27_vectorizedMismatch 69 = .ok (.lxor, 1) := dk_131 (dk_at dksJ27_vectorizedMismatch_2 22 rfl rfl)
theorem dJ27_vectorizedMismatch_70 : decode cJ27_vectorizedMismatch 70 = .ok (.lstore 16, 2) := dk_55 16 (dk_at dksJ27_vectorizedMismatch_3 0 rfl rfl)
theorem dJ27_vectorizedMismatch_72 : decode cJ27_vectorizedMismatch 72 = .ok (.getstatic 36, 3) := dk_178 0 36 (dk_at dksJ27_vectorizedMismatch_3 2 rfl rfl)
theorem dJ27_vectorizedMismatch_75 : decode cJ27_vectorizedMismatch 75 = .ok (.ifCond .eq 18, 3) := dk_153 0 18 (dk_at dksJ27_vectorizedMismatch_3 5 rfl rfl)
theorem dJ27_vectorizedMismatch_78 : decode cJ27_vectorizedMismatch 78 = .ok (.lload 16, 2) := dk_22 16 (dk_at dksJ27_vectorizedMismatch_3 8 rfl rfl)
theorem dJ27_vectorizedMismatch_80 : decode cJ27_vectorizedMismatch 80 = .ok (.invokestatic 40, 3) := dk_184 0 40 (dk_at dksJ27_vectorizedMismatch_3 10 rfl rfl)
theorem dJ27_vectorizedMismatch_83 : decode cJ27_vectorizedMismatch 83 = .ok (.getstatic 46, 3) := dk_178 0 46 (dk_at dksJ27_vectorizedMismatch_3 13 rfl rfl)
theorem dJ27_vectorizedMismatch_86 : decode cJ27_vectorizedMismatch 86 = .ok (.iload 7, 2) := dk_21 7 (dk_at dksJ27_vectorizedMismatch_3 16 rfl rfl)
theorem dJ27_vectorizedMismatch_88 : decode cJ27_vectorizedMismatch 88 = .ok (.iadd, 1) := dk_96 (dk_at dksJ27_vectorizedMismatch_3 18 rfl rfl)
theorem dJ27_vectorizedMismatch_89 : decode cJ27_vectorizedMismatch 89 = .ok (.ishr, 1) := dk_122 (dk_at dksJ27_vectorizedMismatch_3 19 rfl rfl)
theorem dJ27_vectorizedMismatch_90 : decode cJ27_vectorizedMismatch 90 = .ok (.goto 15, 3) := dk_167 0 15 (dk_at dksJ27_vectorizedMismatch_3 20 rfl rfl)
theorem dJ27_vectorizedMismatch_93 : decode cJ27_vectorizedMismatch 93 = .ok (.lload 16, 2) := dk_22 16 (dk_at dksJ27_vectorizedMismatch_4 0 rfl rfl)
theorem dJ27_vectorizedMismatch_95 : decode cJ27_vectorizedMismatch 95 = .ok (.invokestatic 49, 3) := dk_184 0 49 (dk_at dksJ27_vectorizedMismatch_4 2 rfl rfl)
theorem dJ27_vectorizedMismatch_98 : decode cJ27_vectorizedMismatch 98 = .ok (.getstatic 46, 3) := dk_178 0 46 (dk_at dksJ27_vectorizedMismatch_4 5 rfl rfl)
theorem dJ27_vectorizedMismatch_101 : decode cJ27_vectorizedMismatch 101 = .ok (.iload 7, 2) := dk_21 7 (dk_at dksJ27_vectorizedMismatch_4 8 rfl rfl)
theorem dJ27_vectorizedMismatch_103 : decode cJ27_vectorizedMismatch 103 = .ok (.iadd, 1) := dk_96 (dk_at dksJ27_vectorizedMismatch_4 10 rfl rfl)
theorem dJ27_vectorizedMismatch_104 : decode cJ27_vectorizedMismatch 104 = .ok (.ishr, 1) := dk_122 (dk_at dksJ27_vectorizedMismatch_4 11 rfl rfl)
theorem dJ27_vectorizedMismatch_105 : decode cJ27_vectorizedMismatch 105 = .ok (.istore 18, 2) := dk_54 18 (dk_at dksJ27_vectorizedMismatch_4 12 rfl rfl)
theorem dJ27_vectorizedMismatch_107 : decode cJ27_vectorizedMismatch 107 = .ok (.iload 9, 2) := dk_21 9 (dk_at dksJ27_vectorizedMismatch_4 14 rfl rfl)
theorem dJ27_vectorizedMismatch_109 : decode cJ27_vectorizedMismatch 109 = .ok (.iload 8, 2) := dk_21 8 (dk_at dksJ27_vectorizedMismatch_4 16 rfl rfl)
theorem dJ27_vectorizedMismatch_111 : decode cJ27_vectorizedMismatch 111 = .ok (.ishl, 1) := dk_120 (dk_at dksJ27_vectorizedMismatch_4 18 rfl rfl)
theorem dJ27_vectorizedMismatch_112 : decode cJ27_vectorizedMismatch 112 = .ok (.iload 18, 2) := dk_21 18 (dk_at dksJ27_vectorizedMismatch_4 19 rfl rfl)
theorem dJ27_vectorizedMismatch_114 : decode cJ27_vectorizedMismatch 114 = .ok (.iadd, 1) := dk_96 (dk_at dksJ27_vectorizedMismatch_4 21 rfl rfl)
theorem dJ27_vectorizedMismatch_115 : decode cJ27_vectorizedMismatch 115 = .ok (.ireturn, 1) := dk_172 (dk_at dksJ27_vectorizedMismatch_4 22 rfl rfl)
theorem dJ27_vectorizedMismatch_116 : decode cJ27_vectorizedMismatch 116 = .ok (.iinc 9 1, 3) := dk_132 9 1 (dk_at dksJ27_vectorizedMismatch_5 0 rfl rfl)
theorem dJ27_vectorizedMismatch_119 : decode cJ27_vectorizedMismatch 119 = .ok (.goto (-108), 3) := dk_167 255 148 (dk_at dksJ27_vectorizedMismatch_5 3 rfl rfl)
theorem dJ27_vectorizedMismatch_122 : decode cJ27_vectorizedMismatch 122 = .ok (.iload 6, 2) := dk_21 6 (dk_at dksJ27_vectorizedMismatch_5 6 rfl rfl)
theorem dJ27_vectorizedMismatch_124 : decode cJ27_vectorizedMismatch 124 = .ok (.iload 9, 2) := dk_21 9 (dk_at dksJ27_vectorizedMismatch_5 8 rfl rfl)
theorem dJ27_vectorizedMismatch_126 : decode cJ27_vectorizedMismatch 126 = .ok (.iload 8, 2) := dk_21 8 (dk_at dksJ27_vectorizedMismatch_5 10 rfl rfl)
theorem dJ27_vectorizedMismatch_128 : decode cJ27_vectorizedMismatch 128 = .ok (.ishl, 1) := dk_120 (dk_at dksJ27_vectorizedMismatch_5 12 rfl rfl)
theorem dJ27_vectorizedMismatch_129 : decode cJ27_vectorizedMismatch 129 = .ok (.isub, 1) := dk_100 (dk_at dksJ27_vectorizedMismatch_5 13 rfl rfl)
theorem dJ27_vectorizedMismatch_130 : decode cJ27_vectorizedMismatch 130 = .ok (.istore 10, 2) := dk_54 10 (dk_at dksJ27_vectorizedMismatch_5 14 rfl rfl)
theorem dJ27_vectorizedMismatch_132 : decode cJ27_vectorizedMismatch 132 = .ok (.iload 7, 2) := dk_21 7 (dk_at dksJ27_vectorizedMismatch_5 16 rfl rfl)
theorem dJ27_vectorizedMismatch_134 : decode cJ27_vectorizedMismatch 134 = .ok (.getstatic 51, 3) := dk_178 0 51 (dk_at dksJ27_vectorizedMismatch_5 18 rfl rfl)
theorem dJ27_vectorizedMismatch_137 : decode cJ27_vectorizedMismatch 137 = .ok (.if_icmp .ge 126, 3) := dk_162 0 126 (dk_at dksJ27_vectorizedMismatch_5 21 rfl rfl)
theorem dJ27_vectorizedMismatch_140 : decode cJ27_vectorizedMismatch 140 = .ok (.iconst 1, 1) := dk_4 (dk_at dksJ27_vectorizedMismatch_6 0 rfl rfl)
theorem dJ27_vectorizedMismatch_141 : decode cJ27_vectorizedMismatch 141 = .ok (.getstatic 51, 3) := dk_178 0 51 (dk_at dksJ27_vectorizedMismatch_6 1 rfl rfl)
theorem dJ27_vectorizedMismatch_144 : decode cJ27_vectorizedMismatch 144 = .ok (.iload 7, 2) := dk_21 7 (dk_at dksJ27_vectorizedMismatch_6 4 rfl rfl)
theorem dJ27_vectorizedMismatch_146 : decode cJ27_vectorizedMismatch 146 = .ok (.isub, 1) := dk_100 (dk_at dksJ27_vectorizedMismatch_6 6 rfl rfl)
theorem dJ27_vectorizedMismatch_147 : decode cJ27_vectorizedMismatch 147 = .ok (.ishl, 1) := dk_120 (dk_at dksJ27_vectorizedMismatch_6 7 rfl rfl)
theorem dJ27_vectorizedMismatch_148 : decode cJ27_vectorizedMismatch 148 = .ok (.istore 11, 2) := dk_54 11 (dk_at dksJ27_vectorizedMismatch_6 8 rfl rfl)
theorem dJ27_vectorizedMismatch_150 : decode cJ27_vectorizedMismatch 150 = .ok (.iload 10, 2) := dk_21 10 (dk_at dksJ27_vectorizedMismatch_6 10 rfl rfl)
theorem dJ27_vectorizedMismatch_152 : decode cJ27_vectorizedMismatch 152 = .ok (.iload 11, 2) := dk_21 11 (dk_at dksJ27_vectorizedMismatch_6 12 rfl rfl)
theorem dJ27_vectorizedMismatch_154 : decode cJ27_vectorizedMismatch 154 = .ok (.if_icmp .lt 104, 3) := dk_161 0 104 (dk_at dksJ27_vectorizedMismatch_6 14 rfl rfl)
theorem dJ27_vectorizedMismatch_157 : decode cJ27_vectorizedMismatch 157 = .ok (.iload 9, 2) := dk_21 9 (dk_at dksJ27_vectorizedMismatch_6 17 rfl rfl)
theorem dJ27_vectorizedMismatch_159 : decode cJ27_vectorizedMismatch 159 = .ok (.i2l, 1) := dk_133 (dk_at dksJ27_vectorizedMismatch_6 19 rfl rfl)
theorem dJ27_vectorizedMismatch_160 : decode cJ27_vectorizedMismatch 160 = .ok (.getstatic 20, 3) := dk_178 0 20 (dk_at dksJ27_vectorizedMismatch_6 20 rfl rfl)
theorem dJ27_vectorizedMismatch_163 : decode cJ27_vectorizedMismatch 163 = .ok (.lshl, 1) := dk_121 (dk_at dksJ27_vectorizedMismatch_6 23 rfl rfl)
theorem dJ27_vectorizedMismatch_164 : decode cJ27_vectorizedMismatch 164 = .ok (.lstore 12, 2) := dk_55 12 (dk_at dksJ27_vectorizedMismatch_7 0 rfl rfl)
theorem dJ27_vectorizedMismatch_166 : decode cJ27_vectorizedMismatch 166 = .ok (.getstatic 26, 3) := dk_178 0 26 (dk_at dksJ27_vectorizedMismatch_7 2 rfl rfl)
theorem dJ27_vectorizedMismatch_169 : decode cJ27_vectorizedMismatch 169 = .ok (.aload_n 0, 1) := dk_42 (dk_at dksJ27_vectorizedMismatch_7 5 rfl rfl)
theorem dJ27_vectorizedMismatch_170 : decode cJ27_vectorizedMismatch 170 = .ok (.lload_n 1, 1) := dk_31 (dk_at dksJ27_vectorizedMismatch_7 6 rfl rfl)
theorem dJ27_vectorizedMismatch_171 : decode cJ27_vectorizedMismatch 171 = .ok (.lload 12, 2) := dk_22 12 (dk_at dksJ27_vectorizedMismatch_7 7 rfl rfl)
theorem dJ27_vectorizedMismatch_173 : decode cJ27_vectorizedMismatch 173 = .ok (.ladd, 1) := dk_97 (dk_at dksJ27_vectorizedMismatch_7 9 rfl rfl)
theorem dJ27_vectorizedMismatch_174 : decode cJ27_vectorizedMismatch 174 = .ok (.invokevirtual 54, 3) := dk_182 0 54 (dk_at dksJ27_vectorizedMismatch_7 10 rfl rfl)
theorem dJ27_vectorizedMismatch_177 : decode cJ27_vectorizedMismatch 177 = .ok (.istore 14, 2) := dk_54 14 (dk_at dksJ27_vectorizedMismatch_7 13 rfl rfl)
theorem dJ27_vectorizedMismatch_179 : decode cJ27_vectorizedMismatch 179 = .ok (.getstatic 26, 3) := dk_178 0 26 (dk_at dksJ27_vectorizedMismatch_7 15 rfl rfl)
theorem dJ27_vectorizedMismatch_182 : decode cJ27_vectorizedMismatch 182 = .ok (.aload_n 3, 1) := dk_45 (dk_at dksJ27_vectorizedMismatch_7 18 rfl rfl)
theorem dJ27_vectorizedMismatch_183 : decode cJ27_vectorizedMismatch 183 = .ok (.lload 4, 2) := dk_22 4 (dk_at dksJ27_vectorizedMismatch_7 19 rfl rfl)
theorem dJ27_vectorizedMismatch_185 : decode cJ27_vectorizedMismatch 185 = .ok (.lload 12, 2) := dk_22 12 (dk_at dksJ27_vectorizedMismatch_7 21 rfl rfl)
theorem dJ27_vectorizedMismatch_187 : decode cJ27_vectorizedMismatch 187 = .ok (.ladd, 1) := dk_97 (dk_at dksJ27_vectorizedMismatch_7 23 rfl rfl)
theorem dJ27_vectorizedMismatch_188 : decode cJ27_vectorizedMismatch 188 = .ok (.invokevirtual 54, 3) := dk_182 0 54 (dk_at dksJ27_vectorizedMismatch_8 0 rfl rfl)
theorem dJ27_vectorizedMismatch_191 : decode cJ27_vectorizedMismatch 191 = .ok (.istore 15, 2) := dk_54 15 (dk_at dksJ27_vectorizedMismatch_8 3 rfl rfl)
theorem dJ27_vectorizedMismatch_193 : decode cJ27_vectorizedMismatch 193 = .ok (.iload 14, 2) := dk_21 14 (dk_at dksJ27_vectorizedMismatch_8 5 rfl rfl)
theorem dJ27_vectorizedMismatch_195 : decode cJ27_vectorizedMismatch 195 = .ok (.iload 15, 2) := dk_21 15 (dk_at dksJ27_vectorizedMismatch_8 7 rfl rfl)
theorem dJ27_vectorizedMismatch_197 : decode cJ27_vectorizedMismatch 197 = .ok (.if_icmp .eq 54, 3) := dk_159 0 54 (dk_at dksJ27_vectorizedMismatch_8 9 rfl rfl)
theorem dJ27_vectorizedMismatch_200 : decode cJ27_vectorizedMismatch 200 = .ok (.iload 14, 2) := dk_21 14 (dk_at dksJ27_vectorizedMismatch_8 12 rfl rfl)
theorem dJ27_vectorizedMismatch_202 : decode cJ27_vectorizedMismatch 202 = .ok (.iload 15, 2) := dk_21 15 (dk_at dksJ27_vectorizedMismatch_8 14 rfl rfl)
theorem dJ27_vectorizedMismatch_204 : decode cJ27_vectorizedMismatch 204 = .ok (.ixor, 1) := dk_130 (dk_at dksJ27_vectorizedMismatch_8 16 rfl rfl)
theorem dJ27_vectorizedMismatch_205 : decode cJ27_vectorizedMismatch 205 = .ok (.istore 16, 2) := dk_54 16 (dk_at dksJ27_vectorizedMismatch_8 17 rfl rfl)
theorem dJ27_vectorizedMismatch_207 : decode cJ27_vectorizedMismatch 207 = .ok (.getstatic 36, 3) := dk_178 0 36 (dk_at dksJ27_vectorizedMismatch_8 19 rfl rfl)
theorem dJ27_vectorizedMismatch_210 : decode cJ27_vectorizedMismatch 210 = .ok (.ifCond .eq 18, 3) := dk_153 0 18 (dk_at dksJ27_vectorizedMismatch_9 0 rfl rfl)
theorem dJ27_vectorizedMismatch_213 : decode cJ27_vectorizedMismatch 213 = .ok (.iload 16, 2) := dk_21 16 (dk_at dksJ27_vectorizedMismatch_9 3 rfl rfl)
theorem dJ27_vectorizedMismatch_215 : decode cJ27_vectorizedMismatch 215 = .ok (.invokestatic 58, 3) := dk_184 0 58 (dk_at dksJ27_vectorizedMismatch_9 5 rfl rfl)
theorem dJ27_vectorizedMismatch_218 : decode cJ27_vectorizedMismatch 218 = .ok (.getstatic 46, 3) := dk_178 0 46 (dk_at dksJ27_vectorizedMismatch_9 8 rfl rfl)
theorem dJ27_vectorizedMismatch_221 : decode cJ27_vectorizedMismatch 221 = .ok (.iload 7, 2) := dk_21 7 (dk_at dksJ27_vectorizedMismatch_9 11 rfl rfl)
theorem dJ27_vectorizedMismatch_223 : decode cJ27_vectorizedMismatch 223 = .ok (.iadd, 1) := dk_96 (dk_at dksJ27_vectorizedMismatch_9 13 rfl rfl)
theorem dJ27_vectorizedMismatch_224 : decode cJ27_vectorizedMismatch 224 = .ok (.ishr, 1) := dk_122 (dk_at dksJ27_vectorizedMismatch_9 14 rfl rfl)
theorem dJ27_vectorizedMismatch_225 : decode cJ27_vectorizedMismatch 225 = .ok (.goto 15, 3) := dk_167 0 15 (dk_at dksJ27_vectorizedMismatch_9 15 rfl rfl)
theorem dJ27_vectorizedMismatch_228 : decode cJ27_vectorizedMismatch 228 = .ok (.iload 16, 2) := dk_21 16 (dk_at dksJ27_vectorizedMismatch_9 18 rfl rfl)
theorem dJ27_vectorizedMismatch_230 : decode cJ27_vectorizedMismatch 230 = .ok (.invokestatic 11, 3) := dk_184 0 11 (dk_at dksJ27_vectorizedMismatch_9 20 rfl rfl)
theorem dJ27_vectorizedMismatch_233 : decode cJ27_vectorizedMismatch 233 = .ok (.getstatic 46, 3) := dk_178 0 46 (dk_at dksJ27_vectorizedMismatch_10 0 rfl rfl)
theorem dJ27_vectorizedMismatch_236 : decode cJ27_vectorizedMismatch 236 = .ok (.iload 7, 2) := dk_21 7 (dk_at dksJ27_vectorizedMismatch_10 3 rfl rfl)
theorem dJ27_vectorizedMismatch_238 : decode cJ27_vectorizedMismatch 238 = .ok (.iadd, 1) := dk_96 (dk_at dksJ27_vectorizedMismatch_10 5 rfl rfl)
theorem dJ27_vectorizedMismatch_239 : decode cJ27_vectorizedMismatch 239 = .ok (.ishr, 1) := dk_122 (dk_at dksJ27_vectorizedMismatch_10 6 rfl rfl)
theorem dJ27_vectorizedMismatch_240 : decode cJ27_vectorizedMismatch 240 = .ok (.istore 17, 2) := dk_54 17 (dk_at dksJ27_vectorizedMismatch_10 7 rfl rfl)
theorem dJ27_vectorizedMismatch_242 : decode cJ27_vectorizedMismatch 242 = .ok (.iload 9, 2) := dk_21 9 (dk_at dksJ27_vectorizedMismatch_10 9 rfl rfl)
theorem dJ27_vectorizedMismatch_244 : decode cJ27_vectorizedMismatch 244 = .ok (.iload 8, 2) := dk_21 8 (dk_at dksJ27_vectorizedMismatch_10 11 rfl rfl)
theorem dJ27_vectorizedMismatch_246 : decode cJ27_vectorizedMismatch 246 = .ok (.ishl, 1) := dk_120 (dk_at dksJ27_vectorizedMismatch_10 13 rfl rfl)
theorem dJ27_vectorizedMismatch_247 : decode cJ27_vectorizedMismatch 247 = .ok (.iload 17, 2) := dk_21 17 (dk_at dksJ27_vectorizedMismatch_10 14 rfl rfl)
theorem dJ27_vectorizedMismatch_249 : decode cJ27_vectorizedMismatch 249 = .ok (.iadd, 1) := dk_96 (dk_at dksJ27_vectorizedMismatch_10 16 rfl rfl)
theorem dJ27_vectorizedMismatch_250 : decode cJ27_vectorizedMismatch 250 = .ok (.ireturn, 1) := dk_172 (dk_at dksJ27_vectorizedMismatch_10 17 rfl rfl)
theorem dJ27_vectorizedMismatch_251 : decode cJ27_vectorizedMismatch 251 = .ok (.iload 10, 2) := dk_21 10 (dk_at dksJ27_vectorizedMismatch_10 18 rfl rfl)
theorem dJ27_vectorizedMismatch_253 : decode cJ27_vectorizedMismatch 253 = .ok (.iload 11, 2) := dk_21 11 (dk_at dksJ27_vectorizedMismatch_10 20 rfl rfl)
theorem dJ27_vectorizedMismatch_255 : decode cJ27_vectorizedMismatch 255 = .ok (.isub, 1) := dk_100 (dk_at dksJ27_vectorizedMismatch_10 22 rfl rfl)
theorem dJ27_vectorizedMismatch_256 : decode cJ27_vectorizedMismatch 256 = .ok (.istore 10, 2) := dk_54 10 (dk_at dksJ27_vectorizedMismatch_11 0 rfl rfl)
theorem dJ27_vectorizedMismatch_258 : decode cJ27_vectorizedMismatch 258 = .ok (.iload 10, 2) := dk_21 10 (dk_at dksJ27_vectorizedMismatch_11 2 rfl rfl)
theorem dJ27_vectorizedMismatch_260 : decode cJ27_vectorizedMismatch 260 = .ok (.iconst (-1), 1) := dk_2 (dk_at dksJ27_vectorizedMismatch_11 4 rfl rfl)
theorem dJ27_vectorizedMismatch_261 : decode cJ27_vectorizedMismatch 261 = .ok (.ixor, 1) := dk_130 (dk_at dksJ27_vectorizedMismatch_11 5 rfl rfl)
theorem dJ27_vectorizedMismatch_262 : decode cJ27_vectorizedMismatch 262 = .ok (.ireturn, 1) := dk_172 (dk_at dksJ27_vectorizedMismatch_11 6 rfl rfl)
theorem dJ27_vectorizedMismatch_263 : decode cJ27_vectorizedMismatch 263 = .ok (.iload 10, 2) := dk_21 10 (dk_at dksJ27_vectorizedMismatch_11 7 rfl rfl)
theorem dJ27_vectorizedMismatch_265 : decode cJ27_vectorizedMismatch 265 = .ok (.iconst (-1), 1) := dk_2 (dk_at dksJ27_vectorizedMismatch_11 9 rfl rfl)
theorem dJ27_vectorizedMismatch_266 : decode cJ27_vectorizedMismatch 266 = .ok (.ixor, 1) := dk_130 (dk_at dksJ27_vectorizedMismatch_11 10 rfl rfl)
theorem dJ27_vectorizedMismatch_267 : decode cJ27_vectorizedMismatch 267 = .ok (.ireturn, 1) := dk_172 (dk_at dksJ27_vectorizedMismatch_11 11 rfl rfl)
abbrev cJ27_vectorizedHashCode : ByteArray := prog_92_method_4_code
def yJ27_vectorizedHashCode : MethodName := ⟨RJ27, "vectorizedHashCode", "(Ljava/lang/Object;IIII)I"⟩
def dkwJ27_vectorizedHashCode_6 : List UInt8 := [183, 0, 91, 18, 92, 182, 0, 94, 21, 4, 182, 0, 98, 182, 0, 101, 183, 0, 105, 191, 172]
abbrev dktJ27_vectorizedHashCode_6 : List UInt8 := dkwJ27_vectorizedHashCode_6 ++ []
def dkwJ27_vectorizedHashCode_5 : List UInt8 := [167, 0, 44, 29, 42, 192, 0, 82, 27, 28, 184, 0, 84, 167, 0, 31, 187, 0, 87, 89, 187, 0, 89, 89]
abbrev dktJ27_vectorizedHashCode_5 : List UInt8 := dkwJ27_vectorizedHashCode_5 ++ dktJ27_vectorizedHashCode_6
def dkwJ27_vectorizedHashCode_4 : List UInt8 := [29, 42, 192, 0, 60, 27, 28, 184, 0, 75, 167, 0, 57, 29, 42, 192, 0, 77, 27, 28, 184, 0, 79]
abbrev dktJ27_vectorizedHashCode_4 : List UInt8 := dkwJ27_vectorizedHashCode_4 ++ dktJ27_vectorizedHashCode_5
def dkwJ27_vectorizedHashCode_3 : List UInt8 := [192, 0, 60, 27, 28, 184, 0, 66, 167, 0, 83, 29, 42, 192, 0, 69, 27, 28, 184, 0, 71, 167, 0, 70]
abbrev dktJ27_vectorizedHashCode_3 : List UInt8 := dkwJ27_vectorizedHashCode_3 ++ dktJ27_vectorizedHashCode_4
def dkwJ27_vectorizedHashCode_2 : List UInt8 := [29, 42, 192, 0, 60, 27, 28, 184, 0, 62, 167, 0, 103, 42, 193, 0, 60, 153, 0, 16, 29, 42]
abbrev dktJ27_vectorizedHashCode_2 : List UInt8 := dkwJ27_vectorizedHashCode_2 ++ dktJ27_vectorizedHashCode_3
def dkwJ27_vectorizedHashCode_1 : List UInt8 := [170, 0, 0, 0, 0, 127, 0, 0, 0, 4, 0, 0, 0, 10, 0, 0, 0, 42, 0, 0, 0, 55, 0, 0, 0, 127, 0, 0, 0, 127, 0, 0, 0, 88, 0, 0, 0, 101, 0, 0, 0, 114]
abbrev dktJ27_vectorizedHashCode_1 : List UInt8 := dkwJ27_vectorizedHashCode_1 ++ dktJ27_vectorizedHashCode_2
def dkwJ27_vectorizedHashCode_0 : List UInt8 := [21, 4]
abbrev dktJ27_vectorizedHashCode_0 : List UInt8 := dkwJ27_vectorizedHashCode_0 ++ dktJ27_vectorizedHashCode_1
theorem dksJ27_vectorizedHashCode_0 : cJ27_vectorizedHashCode.data.toList.drop 0 = dktJ27_vectorizedHashCode_0 := by decide +kernel
theorem dksJ27_vectorizedHashCode_1 : cJ27_vectorizedHashCode.data.toList.drop 2 = dktJ27_vectorizedHashCode_1 := dk_seg dksJ27_vectorizedHashCode_0 2 rfl rfl
theorem dksJ27_vectorizedHashCode_2 : cJ27_vectorizedHashCode.data.toList.drop 44 = dktJ27_vectorizedHashCode_2 := dk_seg dksJ27_vectorizedHashCode_1 42 rfl rfl
theorem dksJ27_vectorizedHashCode_3 : cJ27_vectorizedHashCode.data.toList.drop 66 = dktJ27_vectorizedHashCode_3 := dk_seg dksJ27_vectorizedHashCode_2 22 rfl rfl
theorem dksJ27_vectorizedHashCode_4 : cJ27_vectorizedHashCode.data.toList.drop 90 = dktJ27_vectorizedHashCode_4 := dk_seg dksJ27_vectorizedHashCode_3 24 rfl rfl
theorem dksJ27_vectorizedHashCode_5 : cJ27_vectorizedHashCode.data.toList.drop 113 = dktJ27_vectorizedHashCode_5 := dk_seg dksJ27_vectorizedHashCode_4 23 rfl rfl
theorem dksJ27_vectorizedHashCode_6 : cJ27_vectorizedHashCode.data.toList.drop 137 = dktJ27_vectorizedHashCode_6 := dk_seg dksJ27_vectorizedHashCode_5 24 rfl rfl
theorem dJ27_vectorizedHashCode_0 : decode cJ27_vectorizedHashCode 0 = .ok (.iload 4, 2) := dk_21 4 (dk_at dksJ27_vectorizedHashCode_0 0 rfl rfl)
theorem dJ27_vectorizedHashCode_2 : decode cJ27_vectorizedHashCode 2 = .ok (.tableswitch 127 4 10 #[42, 55, 127, 127, 88, 101, 114], 42) := by decide +kernel
theorem dJ27_vectorizedHashCode_44 : decode cJ27_vectorizedHashCode 44 = .ok (.iload_n 3, 1) := dk_29 (dk_at dksJ27_vectorizedHashCode_2 0 rfl rfl)
theorem dJ27_vectorizedHashCode_45 : decode cJ27_vectorizedHashCode 45 = .ok (.aload_n 0, 1) := dk_42 (dk_at dksJ27_vectorizedHashCode_2 1 rfl rfl)
theorem dJ27_vectorizedHashCode_46 : decode cJ27_vectorizedHashCode 46 = .ok (.checkcast 60, 3) := dk_192 0 60 (dk_at dksJ27_vectorizedHashCode_2 2 rfl rfl)
theorem dJ27_vectorizedHashCode_49 : decode cJ27_vectorizedHashCode 49 = .ok (.iload_n 1, 1) := dk_27 (dk_at dksJ27_vectorizedHashCode_2 5 rfl rfl)
theorem dJ27_vectorizedHashCode_50 : decode cJ27_vectorizedHashCode 50 = .ok (.iload_n 2, 1) := dk_28 (dk_at dksJ27_vectorizedHashCode_2 6 rfl rfl)
theorem dJ27_vectorizedHashCode_51 : decode cJ27_vectorizedHashCode 51 = .ok (.invokestatic 62, 3) := dk_184 0 62 (dk_at dksJ27_vectorizedHashCode_2 7 rfl rfl)
theorem dJ27_vectorizedHashCode_54 : decode cJ27_vectorizedHashCode 54 = .ok (.goto 103, 3) := dk_167 0 103 (dk_at dksJ27_vectorizedHashCode_2 10 rfl rfl)
theorem dJ27_vectorizedHashCode_57 : decode cJ27_vectorizedHashCode 57 = .ok (.aload_n 0, 1) := dk_42 (dk_at dksJ27_vectorizedHashCode_2 13 rfl rfl)
theorem dJ27_vectorizedHashCode_58 : decode cJ27_vectorizedHashCode 58 = .ok (.instanceof 60, 3) := dk_193 0 60 (dk_at dksJ27_vectorizedHashCode_2 14 rfl rfl)
theorem dJ27_vectorizedHashCode_61 : decode cJ27_vectorizedHashCode 61 = .ok (.ifCond .eq 16, 3) := dk_153 0 16 (dk_at dksJ27_vectorizedHashCode_2 17 rfl rfl)
theorem dJ27_vectorizedHashCode_64 : decode cJ27_vectorizedHashCode 64 = .ok (.iload_n 3, 1) := dk_29 (dk_at dksJ27_vectorizedHashCode_2 20 rfl rfl)
theorem dJ27_vectorizedHashCode_65 : decode cJ27_vectorizedHashCode 65 = .ok (.aload_n 0, 1) := dk_42 (dk_at dksJ27_vectorizedHashCode_2 21 rfl rfl)
theorem dJ27_vectorizedHashCode_66 : decode cJ27_vectorizedHashCode 66 = .ok (.checkcast 60, 3) := dk_192 0 60 (dk_at dksJ27_vectorizedHashCode_3 0 rfl rfl)
theorem dJ27_vectorizedHashCode_69 : decode cJ27_vectorizedHashCode 69 = .ok (.iload_n 1, 1) := dk_27 (dk_at dksJ27_vectorizedHashCode_3 3 rfl rfl)
theorem dJ27_vectorizedHashCode_70 : decode cJ27_vectorizedHashCode 70 = .ok (.iload_n 2, 1) := dk_28 (dk_at dksJ27_vectorizedHashCode_3 4 rfl rfl)
theorem dJ27_vectorizedHashCode_71 : decode cJ27_vectorizedHashCode 71 = .ok (.invokestatic 66, 3) := dk_184 0 66 (dk_at dksJ27_vectorizedHashCode_3 5 rfl rfl)
theorem dJ27_vectorizedHashCode_74 : decode cJ27_vectorizedHashCode 74 = .ok (.goto 83, 3) := dk_167 0 83 (dk_at dksJ27_vectorizedHashCode_3 8 rfl rfl)
theorem dJ27_vectorizedHashCode_77 : decode cJ27_vectorizedHashCode 77 = .ok (.iload_n 3, 1) := dk_29 (dk_at dksJ27_vectorizedHashCode_3 11 rfl rfl)
theorem dJ27_vectorizedHashCode_78 : decode cJ27_vectorizedHashCode 78 = .ok (.aload_n 0, 1) := dk_42 (dk_at dksJ27_vectorizedHashCode_3 12 rfl rfl)
theorem dJ27_vectorizedHashCode_79 : decode cJ27_vectorizedHashCode 79 = .ok (.checkcast 69, 3) := dk_192 0 69 (dk_at dksJ27_vectorizedHashCode_3 13 rfl rfl)
theorem dJ27_vectorizedHashCode_82 : decode cJ27_vectorizedHashCode 82 = .ok (.iload_n 1, 1) := dk_27 (dk_at dksJ27_vectorizedHashCode_3 16 rfl rfl)
theorem dJ27_vectorizedHashCode_83 : decode cJ27_vectorizedHashCode 83 = .ok (.iload_n 2, 1) := dk_28 (dk_at dksJ27_vectorizedHashCode_3 17 rfl rfl)
theorem dJ27_vectorizedHashCode_84 : decode cJ27_vectorizedHashCode 84 = .ok (.invokestatic 71, 3) := dk_184 0 71 (dk_at dksJ27_vectorizedHashCode_3 18 rfl rfl)
theorem dJ27_vectorizedHashCode_87 : decode cJ27_vectorizedHashCode 87 = .ok (.goto 70, 3) := dk_167 0 70 (dk_at dksJ27_vectorizedHashCode_3 21 rfl rfl)
theorem dJ27_vectorizedHashCode_90 : decode cJ27_vectorizedHashCode 90 = .ok (.iload_n 3, 1) := dk_29 (dk_at dksJ27_vectorizedHashCode_4 0 rfl rfl)
theorem dJ27_vectorizedHashCode_91 : decode cJ27_vectorizedHashCode 91 = .ok (.aload_n 0, 1) := dk_42 (dk_at dksJ27_vectorizedHashCode_4 1 rfl rfl)
theorem dJ27_vectorizedHashCode_92 : decode cJ27_vectorizedHashCode 92 = .ok (.checkcast 60, 3) := dk_192 0 60 (dk_at dksJ27_vectorizedHashCode_4 2 rfl rfl)
theorem dJ27_vectorizedHashCode_95 : decode cJ27_vectorizedHashCode 95 = .ok (.iload_n 1, 1) := dk_27 (dk_at dksJ27_vectorizedHashCode_4 5 rfl rfl)
theorem dJ27_vectorizedHashCode_96 : decode cJ27_vectorizedHashCode 96 = .ok (.iload_n 2, 1) := dk_28 (dk_at dksJ27_vectorizedHashCode_4 6 rfl rfl)
theorem dJ27_vectorizedHashCode_97 : decode cJ27_vectorizedHashCode 97 = .ok (.invokestatic 75, 3) := dk_184 0 75 (dk_at dksJ27_vectorizedHashCode_4 7 rfl rfl)
theorem dJ27_vectorizedHashCode_100 : decode cJ27_vectorizedHashCode 100 = .ok (.goto 57, 3) := dk_167 0 57 (dk_at dksJ27_vectorizedHashCode_4 10 rfl rfl)
theorem dJ27_vectorizedHashCode_103 : decode cJ27_vectorizedHashCode 103 = .ok (.iload_n 3, 1) := dk_29 (dk_at dksJ27_vectorizedHashCode_4 13 rfl rfl)
theorem dJ27_vectorizedHashCode_104 : decode cJ27_vectorizedHashCode 104 = .ok (.aload_n 0, 1) := dk_42 (dk_at dksJ27_vectorizedHashCode_4 14 rfl rfl)
theorem dJ27_vectorizedHashCode_105 : decode cJ27_vectorizedHashCode 105 = .ok (.checkcast 77, 3) := dk_192 0 77 (dk_at dksJ27_vectorizedHashCode_4 15 rfl rfl)
theorem dJ27_vectorizedHashCode_108 : decode cJ27_vectorizedHashCode 108 = .ok (.iload_n 1, 1) := dk_27 (dk_at dksJ27_vectorizedHashCode_4 18 rfl rfl)
theorem dJ27_vectorizedHashCode_109 : decode cJ27_vectorizedHashCode 109 = .ok (.iload_n 2, 1) := dk_28 (dk_at dksJ27_vectorizedHashCode_4 19 rfl rfl)
theorem dJ27_vectorizedHashCode_110 : decode cJ27_vectorizedHashCode 110 = .ok (.invokestatic 79, 3) := dk_184 0 79 (dk_at dksJ27_vectorizedHashCode_4 20 rfl rfl)
theorem dJ27_vectorizedHashCode_113 : decode cJ27_vectorizedHashCode 113 = .ok (.goto 44, 3) := dk_167 0 44 (dk_at dksJ27_vectorizedHashCode_5 0 rfl rfl)
theorem dJ27_vectorizedHashCode_116 : decode cJ27_vectorizedHashCode 116 = .ok (.iload_n 3, 1) := dk_29 (dk_at dksJ27_vectorizedHashCode_5 3 rfl rfl)
theorem dJ27_vectorizedHashCode_117 : decode cJ27_vectorizedHashCode 117 = .ok (.aload_n 0, 1) := dk_42 (dk_at dksJ27_vectorizedHashCode_5 4 rfl rfl)
theorem dJ27_vectorizedHashCode_118 : decode cJ27_vectorizedHashCode 118 = .ok (.checkcast 82, 3) := dk_192 0 82 (dk_at dksJ27_vectorizedHashCode_5 5 rfl rfl)
theorem dJ27_vectorizedHashCode_121 : decode cJ27_vectorizedHashCode 121 = .ok (.iload_n 1, 1) := dk_27 (dk_at dksJ27_vectorizedHashCode_5 8 rfl rfl)
theorem dJ27_vectorizedHashCode_122 : decode cJ27_vectorizedHashCode 122 = .ok (.iload_n 2, 1) := dk_28 (dk_at dksJ27_vectorizedHashCode_5 9 rfl rfl)
theorem dJ27_vectorizedHashCode_123 : decode cJ27_vectorizedHashCode 123 = .ok (.invokestatic 84, 3) := dk_184 0 84 (dk_at dksJ27_vectorizedHashCode_5 10 rfl rfl)
theorem dJ27_vectorizedHashCode_126 : decode cJ27_vectorizedHashCode 126 = .ok (.goto 31, 3) := dk_167 0 31 (dk_at dksJ27_vectorizedHashCode_5 13 rfl rfl)
theorem dJ27_vectorizedHashCode_129 : decode cJ27_vectorizedHashCode 129 = .ok (.new 87, 3) := dk_187 0 87 (dk_at dksJ27_vectorizedHashCode_5 16 rfl rfl)
theorem dJ27_vectorizedHashCode_132 : decode cJ27_vectorizedHashCode 132 = .ok (.dup, 1) := dk_89 (dk_at dksJ27_vectorizedHashCode_5 19 rfl rfl)
theorem dJ27_vectorizedHashCode_133 : decode cJ27_vectorizedHashCode 133 = .ok (.new 89, 3) := dk_187 0 89 (dk_at dksJ27_vectorizedHashCode_5 20 rfl rfl)
theorem dJ27_vectorizedHashCode_136 : decode cJ27_vectorizedHashCode 136 = .ok (.dup, 1) := dk_89 (dk_at dksJ27_vectorizedHashCode_5 23 rfl rfl)
theorem dJ27_vectorizedHashCode_137 : decode cJ27_vectorizedHashCode 137 = .ok (.invokespecial 91, 3) := dk_183 0 91 (dk_at dksJ27_vectorizedHashCode_6 0 rfl rfl)
theorem dJ27_vectorizedHashCode_140 : decode cJ27_vectorizedHashCode 140 = .ok (.ldc 92, 2) := dk_18 92 (dk_at dksJ27_vectorizedHashCode_6 3 rfl rfl)
theorem dJ27_vectorizedHashCode_142 : decode cJ27_vectorizedHashCode 142 = .ok (.invokevirtual 94, 3) := dk_182 0 94 (dk_at dksJ27_vectorizedHashCode_6 5 rfl rfl)
theorem dJ27_vectorizedHashCode_145 : decode cJ27_vectorizedHashCode 145 = .ok (.iload 4, 2) := dk_21 4 (dk_at dksJ27_vectorizedHashCode_6 8 rfl rfl)
theorem dJ27_vectorizedHashCode_147 : decode cJ27_vectorizedHashCode 147 = .ok (.invokevirtual 98, 3) := dk_182 0 98 (dk_at dksJ27_vectorizedHashCode_6 10 rfl rfl)
theorem dJ27_vectorizedHashCode_150 : decode cJ27_vectorizedHashCode 150 = .ok (.invokevirtual 101, 3) := dk_182 0 101 (dk_at dksJ27_vectorizedHashCode_6 13 rfl rfl)
theorem dJ27_vectorizedHashCode_153 : decode cJ27_vectorizedHashCode 153 = .ok (.invokespecial 105, 3) := dk_183 0 105 (dk_at dksJ27_vectorizedHashCode_6 16 rfl rfl)
theorem dJ27_vectorizedHashCode_156 : decode cJ27_vectorizedHashCode 156 = .ok (.athrow, 1) := dk_191 (dk_at dksJ27_vectorizedHashCode_6 19 rfl rfl)
theorem dJ27_vectorizedHashCode_157 : decode cJ27_vectorizedHashCode 157 = .ok (.ireturn, 1) := dk_172 (dk_at dksJ27_vectorizedHashCode_6 20 rfl rfl)
abbrev cJ27_signedHashCode : ByteArray := prog_92_method_5_code
def yJ27_signedHashCode : MethodName := ⟨RJ27, "signedHashCode", "(I[BII)I"⟩
def dkwJ27_signedHashCode_1 : List UInt8 := [17, 0, 255, 126, 96, 59, 132, 5, 1, 167, 255, 232, 26, 172]
abbrev dktJ27_signedHashCode_1 : List UInt8 := dkwJ27_signedHashCode_1 ++ []
def dkwJ27_signedHashCode_0 : List UInt8 := [28, 29, 96, 54, 4, 28, 54, 5, 21, 5, 21, 4, 162, 0, 23, 16, 31, 26, 104, 43, 21, 5, 51]
abbrev dktJ27_signedHashCode_0 : List UInt8 := dkwJ27_signedHashCode_0 ++ dktJ27_signedHashCode_1
theorem dksJ27_signedHashCode_0 : cJ27_signedHashCode.data.toList.drop 0 = dktJ27_signedHashCode_0 := by decide +kernel
theorem dksJ27_signedHashCode_1 : cJ27_signedHashCode.data.toList.drop 23 = dktJ27_signedHashCode_1 := dk_seg dksJ27_signedHashCode_0 23 rfl rfl
theorem dJ27_signedHashCode_0 : decode cJ27_signedHashCode 0 = .ok (.iload_n 2, 1) := dk_28 (dk_at dksJ27_signedHashCode_0 0 rfl rfl)
theorem dJ27_signedHashCode_1 : decode cJ27_signedHashCode 1 = .ok (.iload_n 3, 1) := dk_29 (dk_at dksJ27_signedHashCode_0 1 rfl rfl)
theorem dJ27_signedHashCode_2 : decode cJ27_signedHashCode 2 = .ok (.iadd, 1) := dk_96 (dk_at dksJ27_signedHashCode_0 2 rfl rfl)
theorem dJ27_signedHashCode_3 : decode cJ27_signedHashCode 3 = .ok (.istore 4, 2) := dk_54 4 (dk_at dksJ27_signedHashCode_0 3 rfl rfl)
theorem dJ27_signedHashCode_5 : decode cJ27_signedHashCode 5 = .ok (.iload_n 2, 1) := dk_28 (dk_at dksJ27_signedHashCode_0 5 rfl rfl)
theorem dJ27_signedHashCode_6 : decode cJ27_signedHashCode 6 = .ok (.istore 5, 2) := dk_54 5 (dk_at dksJ27_signedHashCode_0 6 rfl rfl)
theorem dJ27_signedHashCode_8 : decode cJ27_signedHashCode 8 = .ok (.iload 5, 2) := dk_21 5 (dk_at dksJ27_signedHashCode_0 8 rfl rfl)
theorem dJ27_signedHashCode_10 : decode cJ27_signedHashCode 10 = .ok (.iload 4, 2) := dk_21 4 (dk_at dksJ27_signedHashCode_0 10 rfl rfl)
theorem dJ27_signedHashCode_12 : decode cJ27_signedHashCode 12 = .ok (.if_icmp .ge 23, 3) := dk_162 0 23 (dk_at dksJ27_signedHashCode_0 12 rfl rfl)
theorem dJ27_signedHashCode_15 : decode cJ27_signedHashCode 15 = .ok (.bipush 31, 2) := dk_16 31 (dk_at dksJ27_signedHashCode_0 15 rfl rfl)
theorem dJ27_signedHashCode_17 : decode cJ27_signedHashCode 17 = .ok (.iload_n 0, 1) := dk_26 (dk_at dksJ27_signedHashCode_0 17 rfl rfl)
theorem dJ27_signedHashCode_18 : decode cJ27_signedHashCode 18 = .ok (.imul, 1) := dk_104 (dk_at dksJ27_signedHashCode_0 18 rfl rfl)
theorem dJ27_signedHashCode_19 : decode cJ27_signedHashCode 19 = .ok (.aload_n 1, 1) := dk_43 (dk_at dksJ27_signedHashCode_0 19 rfl rfl)
theorem dJ27_signedHashCode_20 : decode cJ27_signedHashCode 20 = .ok (.iload 5, 2) := dk_21 5 (dk_at dksJ27_signedHashCode_0 20 rfl rfl)
theorem dJ27_signedHashCode_22 : decode cJ27_signedHashCode 22 = .ok (.baload, 1) := dk_51 (dk_at dksJ27_signedHashCode_0 22 rfl rfl)
theorem dJ27_signedHashCode_23 : decode cJ27_signedHashCode 23 = .ok (.sipush 255, 3) := dk_17 0 255 (dk_at dksJ27_signedHashCode_1 0 rfl rfl)
theorem dJ27_signedHashCode_26 : decode cJ27_signedHashCode 26 = .ok (.iand, 1) := dk_126 (dk_at dksJ27_signedHashCode_1 3 rfl rfl)
theorem dJ27_signedHashCode_27 : decode cJ27_signedHashCode 27 = .ok (.iadd, 1) := dk_96 (dk_at dksJ27_signedHashCode_1 4 rfl rfl)
theorem dJ27_signedHashCode_28 : decode cJ27_signedHashCode 28 = .ok (.istore_n 0, 1) := dk_59 (dk_at dksJ27_signedHashCode_1 5 rfl rfl)
theorem dJ27_signedHashCode_29 : decode cJ27_signedHashCode 29 = .ok (.iinc 5 1, 3) := dk_132 5 1 (dk_at dksJ27_signedHashCode_1 6 rfl rfl)
theorem dJ27_signedHashCode_32 : decode cJ27_signedHashCode 32 = .ok (.goto (-24), 3) := dk_167 255 232 (dk_at dksJ27_signedHashCode_1 9 rfl rfl)
theorem dJ27_signedHashCode_35 : decode cJ27_signedHashCode 35 = .ok (.iload_n 0, 1) := dk_26 (dk_at dksJ27_signedHashCode_1 12 rfl rfl)
theorem dJ27_signedHashCode_36 : decode cJ27_signedHashCode 36 = .ok (.ireturn, 1) := dk_172 (dk_at dksJ27_signedHashCode_1 13 rfl rfl)
abbrev cJ27_utf16hashCode : ByteArray := prog_92_method_10_code
def yJ27_utf16hashCode : MethodName := ⟨RJ27, "utf16hashCode", "(I[BII)I"⟩
def dkwJ27_utf16hashCode_1 : List UInt8 := [21, 5, 185, 0, 110, 3, 0, 96, 59, 132, 5, 1, 167, 255, 229, 26, 172]
abbrev dktJ27_utf16hashCode_1 : List UInt8 := dkwJ27_utf16hashCode_1 ++ []
def dkwJ27_utf16hashCode_0 : List UInt8 := [28, 29, 96, 54, 4, 28, 54, 5, 21, 5, 21, 4, 162, 0, 26, 16, 31, 26, 104, 178, 0, 106, 43]
abbrev dktJ27_utf16hashCode_0 : List UInt8 := dkwJ27_utf16hashCode_0 ++ dktJ27_utf16hashCode_1
theorem dksJ27_utf16hashCode_0 : cJ27_utf16hashCode.data.toList.drop 0 = dktJ27_utf16hashCode_0 := by decide +kernel
theorem dksJ27_utf16hashCode_1 : cJ27_utf16hashCode.data.toList.drop 23 = dktJ27_utf16hashCode_1 := dk_seg dksJ27_utf16hashCode_0 23 rfl rfl
theorem dJ27_utf16hashCode_0 : decode cJ27_utf16hashCode 0 = .ok (.iload_n 2, 1) := dk_28 (dk_at dksJ27_utf16hashCode_0 0 rfl rfl)
theorem dJ27_utf16hashCode_1 : decode cJ27_utf16hashCode 1 = .ok (.iload_n 3, 1) := dk_29 (dk_at dksJ27_utf16hashCode_0 1 rfl rfl)
theorem dJ27_utf16hashCode_2 : decode cJ27_utf16hashCode 2 = .ok (.iadd, 1) := dk_96 (dk_at dksJ27_utf16hashCode_0 2 rfl rfl)
theorem dJ27_utf16hashCode_3 : decode cJ27_utf16hashCode 3 = .ok (.istore 4, 2) := dk_54 4 (dk_at dksJ27_utf16hashCode_0 3 rfl rfl)
theorem dJ27_utf16hashCode_5 : decode cJ27_utf16hashCode 5 = .ok (.iload_n 2, 1) := dk_28 (dk_at dksJ27_utf16hashCode_0 5 rfl rfl)
theorem dJ27_utf16hashCode_6 : decode cJ27_utf16hashCode 6 = .ok (.istore 5, 2) := dk_54 5 (dk_at dksJ27_utf16hashCode_0 6 rfl rfl)
theorem dJ27_utf16hashCode_8 : decode cJ27_utf16hashCode 8 = .ok (.iload 5, 2) := dk_21 5 (dk_at dksJ27_utf16hashCode_0 8 rfl rfl)
theorem dJ27_utf16hashCode_10 : decode cJ27_utf16hashCode 10 = .ok (.iload 4, 2) := dk_21 4 (dk_at dksJ27_utf16hashCode_0 10 rfl rfl)
theorem dJ27_utf16hashCode_12 : decode cJ27_utf16hashCode 12 = .ok (.if_icmp .ge 26, 3) := dk_162 0 26 (dk_at dksJ27_utf16hashCode_0 12 rfl rfl)
theorem dJ27_utf16hashCode_15 : decode cJ27_utf16hashCode 15 = .ok (.bipush 31, 2) := dk_16 31 (dk_at dksJ27_utf16hashCode_0 15 rfl rfl)
theorem dJ27_utf16hashCode_17 : decode cJ27_utf16hashCode 17 = .ok (.iload_n 0, 1) := dk_26 (dk_at dksJ27_utf16hashCode_0 17 rfl rfl)
theorem dJ27_utf16hashCode_18 : decode cJ27_utf16hashCode 18 = .ok (.imul, 1) := dk_104 (dk_at dksJ27_utf16hashCode_0 18 rfl rfl)
theorem dJ27_utf16hashCode_19 : decode cJ27_utf16hashCode 19 = .ok (.getstatic 106, 3) := dk_178 0 106 (dk_at dksJ27_utf16hashCode_0 19 rfl rfl)
theorem dJ27_utf16hashCode_22 : decode cJ27_utf16hashCode 22 = .ok (.aload_n 1, 1) := dk_43 (dk_at dksJ27_utf16hashCode_0 22 rfl rfl)
theorem dJ27_utf16hashCode_23 : decode cJ27_utf16hashCode 23 = .ok (.iload 5, 2) := dk_21 5 (dk_at dksJ27_utf16hashCode_1 0 rfl rfl)
theorem dJ27_utf16hashCode_25 : decode cJ27_utf16hashCode 25 = .ok (.invokeinterface 110 3, 5) := by decide +kernel
theorem dJ27_utf16hashCode_30 : decode cJ27_utf16hashCode 30 = .ok (.iadd, 1) := dk_96 (dk_at dksJ27_utf16hashCode_1 7 rfl rfl)
theorem dJ27_utf16hashCode_31 : decode cJ27_utf16hashCode 31 = .ok (.istore_n 0, 1) := dk_59 (dk_at dksJ27_utf16hashCode_1 8 rfl rfl)
theorem dJ27_utf16hashCode_32 : decode cJ27_utf16hashCode 32 = .ok (.iinc 5 1, 3) := dk_132 5 1 (dk_at dksJ27_utf16hashCode_1 9 rfl rfl)
theorem dJ27_utf16hashCode_35 : decode cJ27_utf16hashCode 35 = .ok (.goto (-27), 3) := dk_167 255 229 (dk_at dksJ27_utf16hashCode_1 12 rfl rfl)
theorem dJ27_utf16hashCode_38 : decode cJ27_utf16hashCode 38 = .ok (.iload_n 0, 1) := dk_26 (dk_at dksJ27_utf16hashCode_1 15 rfl rfl)
theorem dJ27_utf16hashCode_39 : decode cJ27_utf16hashCode 39 = .ok (.ireturn, 1) := dk_172 (dk_at dksJ27_utf16hashCode_1 16 rfl rfl)
abbrev cJ27_hashCode : ByteArray := prog_92_method_7_code
def yJ27_hashCode : MethodName := ⟨RJ27, "hashCode", "(I[CII)I"⟩
def dkwJ27_hashCode_1 : List UInt8 := [59, 132, 5, 1, 167, 255, 236, 26, 172]
abbrev dktJ27_hashCode_1 : List UInt8 := dkwJ27_hashCode_1 ++ []
def dkwJ27_hashCode_0 : List UInt8 := [28, 29, 96, 54, 4, 28, 54, 5, 21, 5, 21, 4, 162, 0, 19, 16, 31, 26, 104, 43, 21, 5, 52, 96]
abbrev dktJ27_hashCode_0 : List UInt8 := dkwJ27_hashCode_0 ++ dktJ27_hashCode_1
theorem dksJ27_hashCode_0 : cJ27_hashCode.data.toList.drop 0 = dktJ27_hashCode_0 := by decide +kernel
theorem dksJ27_hashCode_1 : cJ27_hashCode.data.toList.drop 24 = dktJ27_hashCode_1 := dk_seg dksJ27_hashCode_0 24 rfl rfl
theorem dJ27_hashCode_0 : decode cJ27_hashCode 0 = .ok (.iload_n 2, 1) := dk_28 (dk_at dksJ27_hashCode_0 0 rfl rfl)
theorem dJ27_hashCode_1 : decode cJ27_hashCode 1 = .ok (.iload_n 3, 1) := dk_29 (dk_at dksJ27_hashCode_0 1 rfl rfl)
theorem dJ27_hashCode_2 : decode cJ27_hashCode 2 = .ok (.iadd, 1) := dk_96 (dk_at dksJ27_hashCode_0 2 rfl rfl)
theorem dJ27_hashCode_3 : decode cJ27_hashCode 3 = .ok (.istore 4, 2) := dk_54 4 (dk_at dksJ27_hashCode_0 3 rfl rfl)
theorem dJ27_hashCode_5 : decode cJ27_hashCode 5 = .ok (.iload_n 2, 1) := dk_28 (dk_at dksJ27_hashCode_0 5 rfl rfl)
theorem dJ27_hashCode_6 : decode cJ27_hashCode 6 = .ok (.istore 5, 2) := dk_54 5 (dk_at dksJ27_hashCode_0 6 rfl rfl)
theorem dJ27_hashCode_8 : decode cJ27_hashCode 8 = .ok (.iload 5, 2) := dk_21 5 (dk_at dksJ27_hashCode_0 8 rfl rfl)
theorem dJ27_hashCode_10 : decode cJ27_hashCode 10 = .ok (.iload 4, 2) := dk_21 4 (dk_at dksJ27_hashCode_0 10 rfl rfl)
theorem dJ27_hashCode_12 : decode cJ27_hashCode 12 = .ok (.if_icmp .ge 19, 3) := dk_162 0 19 (dk_at dksJ27_hashCode_0 12 rfl rfl)
theorem dJ27_hashCode_15 : decode cJ27_hashCode 15 = .ok (.bipush 31, 2) := dk_16 31 (dk_at dksJ27_hashCode_0 15 rfl rfl)
theorem dJ27_hashCode_17 : decode cJ27_hashCode 17 = .ok (.iload_n 0, 1) := dk_26 (dk_at dksJ27_hashCode_0 17 rfl rfl)
theorem dJ27_hashCode_18 : decode cJ27_hashCode 18 = .ok (.imul, 1) := dk_104 (dk_at dksJ27_hashCode_0 18 rfl rfl)
theorem dJ27_hashCode_19 : decode cJ27_hashCode 19 = .ok (.aload_n 1, 1) := dk_43 (dk_at dksJ27_hashCode_0 19 rfl rfl)
theorem dJ27_hashCode_20 : decode cJ27_hashCode 20 = .ok (.iload 5, 2) := dk_21 5 (dk_at dksJ27_hashCode_0 20 rfl rfl)
theorem dJ27_hashCode_22 : decode cJ27_hashCode 22 = .ok (.caload, 1) := dk_52 (dk_at dksJ27_hashCode_0 22 rfl rfl)
theorem dJ27_hashCode_23 : decode cJ27_hashCode 23 = .ok (.iadd, 1) := dk_96 (dk_at dksJ27_hashCode_0 23 rfl rfl)
theorem dJ27_hashCode_24 : decode cJ27_hashCode 24 = .ok (.istore_n 0, 1) := dk_59 (dk_at dksJ27_hashCode_1 0 rfl rfl)
theorem dJ27_hashCode_25 : decode cJ27_hashCode 25 = .ok (.iinc 5 1, 3) := dk_132 5 1 (dk_at dksJ27_hashCode_1 1 rfl rfl)
theorem dJ27_hashCode_28 : decode cJ27_hashCode 28 = .ok (.goto (-20), 3) := dk_167 255 236 (dk_at dksJ27_hashCode_1 4 rfl rfl)
theorem dJ27_hashCode_31 : decode cJ27_hashCode 31 = .ok (.iload_n 0, 1) := dk_26 (dk_at dksJ27_hashCode_1 7 rfl rfl)
theorem dJ27_hashCode_32 : decode cJ27_hashCode 32 = .ok (.ireturn, 1) := dk_172 (dk_at dksJ27_hashCode_1 8 rfl rfl)
abbrev cJ27_hashCode_2 : ByteArray := prog_92_method_6_code
def yJ27_hashCode_2 : MethodName := ⟨RJ27, "hashCode", "(I[BII)I"⟩
def dkwJ27_hashCode_2_1 : List UInt8 := [59, 132, 5, 1, 167, 255, 236, 26, 172]
abbrev dktJ27_hashCode_2_1 : List UInt8 := dkwJ27_hashCode_2_1 ++ []
def dkwJ27_hashCode_2_0 : List UInt8 := [28, 29, 96, 54, 4, 28, 54, 5, 21, 5, 21, 4, 162, 0, 19, 16, 31, 26, 104, 43, 21, 5, 51, 96]
abbrev dktJ27_hashCode_2_0 : List UInt8 := dkwJ27_hashCode_2_0 ++ dktJ27_hashCode_2_1
theorem dksJ27_hashCode_2_0 : cJ27_hashCode_2.data.toList.drop 0 = dktJ27_hashCode_2_0 := by decide +kernel
theorem dksJ27_hashCode_2_1 : cJ27_hashCode_2.data.toList.drop 24 = dktJ27_hashCode_2_1 := dk_seg dksJ27_hashCode_2_0 24 rfl rfl
theorem dJ27_hashCode_2_0 : decode cJ27_hashCode_2 0 = .ok (.iload_n 2, 1) := dk_28 (dk_at dksJ27_hashCode_2_0 0 rfl rfl)
theorem dJ27_hashCode_2_1 : decode cJ27_hashCode_2 1 = .ok (.iload_n 3, 1) := dk_29 (dk_at dksJ27_hashCode_2_0 1 rfl rfl)
theorem dJ27_hashCode_2_2 : decode cJ27_hashCode_2 2 = .ok (.iadd, 1) := dk_96 (dk_at dksJ27_hashCode_2_0 2 rfl rfl)
theorem dJ27_hashCode_2_3 : decode cJ27_hashCode_2 3 = .ok (.istore 4, 2) := dk_54 4 (dk_at dksJ27_hashCode_2_0 3 rfl rfl)
theorem dJ27_hashCode_2_5 : decode cJ27_hashCode_2 5 = .ok (.iload_n 2, 1) := dk_28 (dk_at dksJ27_hashCode_2_0 5 rfl rfl)
theorem dJ27_hashCode_2_6 : decode cJ27_hashCode_2 6 = .ok (.istore 5, 2) := dk_54 5 (dk_at dksJ27_hashCode_2_0 6 rfl rfl)
theorem dJ27_hashCode_2_8 : decode cJ27_hashCode_2 8 = .ok (.iload 5, 2) := dk_21 5 (dk_at dksJ27_hashCode_2_0 8 rfl rfl)
theorem dJ27_hashCode_2_10 : decode cJ27_hashCode_2 10 = .ok (.iload 4, 2) := dk_21 4 (dk_at dksJ27_hashCode_2_0 10 rfl rfl)
theorem dJ27_hashCode_2_12 : decode cJ27_hashCode_2 12 = .ok (.if_icmp .ge 19, 3) := dk_162 0 19 (dk_at dksJ27_hashCode_2_0 12 rfl rfl)
theorem dJ27_hashCode_2_15 : decode cJ27_hashCode_2 15 = .ok (.bipush 31, 2) := dk_16 31 (dk_at dksJ27_hashCode_2_0 15 rfl rfl)
theorem dJ27_hashCode_2_17 : decode cJ27_hashCode_2 17 = .ok (.iload_n 0, 1) := dk_26 (dk_at dksJ27_hashCode_2_0 17 rfl rfl)
theorem dJ27_hashCode_2_18 : decode cJ27_hashCode_2 18 = .ok (.imul, 1) := dk_104 (dk_at dksJ27_hashCode_2_0 18 rfl rfl)
theorem dJ27_hashCode_2_19 : decode cJ27_hashCode_2 19 = .ok (.aload_n 1, 1) := dk_43 (dk_at dksJ27_hashCode_2_0 19 rfl rfl)
theorem dJ27_hashCode_2_20 : decode cJ27_hashCode_2 20 = .ok (.iload 5, 2) := dk_21 5 (dk_at dksJ27_hashCode_2_0 20 rfl rfl)
theorem dJ27_hashCode_2_22 : decode cJ27_hashCode_2 22 = .ok (.baload, 1) := dk_51 (dk_at dksJ27_hashCode_2_0 22 rfl rfl)
theorem dJ27_hashCode_2_23 : decode cJ27_hashCode_2 23 = .ok (.iadd, 1) := dk_96 (dk_at dksJ27_hashCode_2_0 23 rfl rfl)
theorem dJ27_hashCode_2_24 : decode cJ27_hashCode_2 24 = .ok (.istore_n 0, 1) := dk_59 (dk_at dksJ27_hashCode_2_1 0 rfl rfl)
theorem dJ27_hashCode_2_25 : decode cJ27_hashCode_2 25 = .ok (.iinc 5 1, 3) := dk_132 5 1 (dk_at dksJ27_hashCode_2_1 1 rfl rfl)
theorem dJ27_hashCode_2_28 : decode cJ27_hashCode_2 28 = .ok (.goto (-20), 3) := dk_167 255 236 (dk_at dksJ27_hashCode_2_1 4 rfl rfl)
theorem dJ27_hashCode_2_31 : decode cJ27_hashCode_2 31 = .ok (.iload_n 0, 1) := dk_26 (dk_at dksJ27_hashCode_2_1 7 rfl rfl)
theorem dJ27_hashCode_2_32 : decode cJ27_hashCode_2 32 = .ok (.ireturn, 1) := dk_172 (dk_at dksJ27_hashCode_2_1 8 rfl rfl)
abbrev cJ27_hashCode_3 : ByteArray := prog_92_method_8_code
def yJ27_hashCode_3 : MethodName := ⟨RJ27, "hashCode", "(I[SII)I"⟩
def dkwJ27_hashCode_3_1 : List UInt8 := [59, 132, 5, 1, 167, 255, 236, 26, 172]
abbrev dktJ27_hashCode_3_1 : List UInt8 := dkwJ27_hashCode_3_1 ++ []
def dkwJ27_hashCode_3_0 : List UInt8 := [28, 29, 96, 54, 4, 28, 54, 5, 21, 5, 21, 4, 162, 0, 19, 16, 31, 26, 104, 43, 21, 5, 53, 96]
abbrev dktJ27_hashCode_3_0 : List UInt8 := dkwJ27_hashCode_3_0 ++ dktJ27_hashCode_3_1
theorem dksJ27_hashCode_3_0 : cJ27_hashCode_3.data.toList.drop 0 = dktJ27_hashCode_3_0 := by decide +kernel
theorem dksJ27_hashCode_3_1 : cJ27_hashCode_3.data.toList.drop 24 = dktJ27_hashCode_3_1 := dk_seg dksJ27_hashCode_3_0 24 rfl rfl
theorem dJ27_hashCode_3_0 : decode cJ27_hashCode_3 0 = .ok (.iload_n 2, 1) := dk_28 (dk_at dksJ27_hashCode_3_0 0 rfl rfl)
theorem dJ27_hashCode_3_1 : decode cJ27_hashCode_3 1 = .ok (.iload_n 3, 1) := dk_29 (dk_at dksJ27_hashCode_3_0 1 rfl rfl)
theorem dJ27_hashCode_3_2 : decode cJ27_hashCode_3 2 = .ok (.iadd, 1) := dk_96 (dk_at dksJ27_hashCode_3_0 2 rfl rfl)
theorem dJ27_hashCode_3_3 : decode cJ27_hashCode_3 3 = .ok (.istore 4, 2) := dk_54 4 (dk_at dksJ27_hashCode_3_0 3 rfl rfl)
theorem dJ27_hashCode_3_5 : decode cJ27_hashCode_3 5 = .ok (.iload_n 2, 1) := dk_28 (dk_at dksJ27_hashCode_3_0 5 rfl rfl)
theorem dJ27_hashCode_3_6 : decode cJ27_hashCode_3 6 = .ok (.istore 5, 2) := dk_54 5 (dk_at dksJ27_hashCode_3_0 6 rfl rfl)
theorem dJ27_hashCode_3_8 : decode cJ27_hashCode_3 8 = .ok (.iload 5, 2) := dk_21 5 (dk_at dksJ27_hashCode_3_0 8 rfl rfl)
theorem dJ27_hashCode_3_10 : decode cJ27_hashCode_3 10 = .ok (.iload 4, 2) := dk_21 4 (dk_at dksJ27_hashCode_3_0 10 rfl rfl)
theorem dJ27_hashCode_3_12 : decode cJ27_hashCode_3 12 = .ok (.if_icmp .ge 19, 3) := dk_162 0 19 (dk_at dksJ27_hashCode_3_0 12 rfl rfl)
theorem dJ27_hashCode_3_15 : decode cJ27_hashCode_3 15 = .ok (.bipush 31, 2) := dk_16 31 (dk_at dksJ27_hashCode_3_0 15 rfl rfl)
theorem dJ27_hashCode_3_17 : decode cJ27_hashCode_3 17 = .ok (.iload_n 0, 1) := dk_26 (dk_at dksJ27_hashCode_3_0 17 rfl rfl)
theorem dJ27_hashCode_3_18 : decode cJ27_hashCode_3 18 = .ok (.imul, 1) := dk_104 (dk_at dksJ27_hashCode_3_0 18 rfl rfl)
theorem dJ27_hashCode_3_19 : decode cJ27_hashCode_3 19 = .ok (.aload_n 1, 1) := dk_43 (dk_at dksJ27_hashCode_3_0 19 rfl rfl)
theorem dJ27_hashCode_3_20 : decode cJ27_hashCode_3 20 = .ok (.iload 5, 2) := dk_21 5 (dk_at dksJ27_hashCode_3_0 20 rfl rfl)
theorem dJ27_hashCode_3_22 : decode cJ27_hashCode_3 22 = .ok (.saload, 1) := dk_53 (dk_at dksJ27_hashCode_3_0 22 rfl rfl)
theorem dJ27_hashCode_3_23 : decode cJ27_hashCode_3 23 = .ok (.iadd, 1) := dk_96 (dk_at dksJ27_hashCode_3_0 23 rfl rfl)
theorem dJ27_hashCode_3_24 : decode cJ27_hashCode_3 24 = .ok (.istore_n 0, 1) := dk_59 (dk_at dksJ27_hashCode_3_1 0 rfl rfl)
theorem dJ27_hashCode_3_25 : decode cJ27_hashCode_3 25 = .ok (.iinc 5 1, 3) := dk_132 5 1 (dk_at dksJ27_hashCode_3_1 1 rfl rfl)
theorem dJ27_hashCode_3_28 : decode cJ27_hashCode_3 28 = .ok (.goto (-20), 3) := dk_167 255 236 (dk_at dksJ27_hashCode_3_1 4 rfl rfl)
theorem dJ27_hashCode_3_31 : decode cJ27_hashCode_3 31 = .ok (.iload_n 0, 1) := dk_26 (dk_at dksJ27_hashCode_3_1 7 rfl rfl)
theorem dJ27_hashCode_3_32 : decode cJ27_hashCode_3 32 = .ok (.ireturn, 1) := dk_172 (dk_at dksJ27_hashCode_3_1 8 rfl rfl)
abbrev cJ27_hashCode_4 : ByteArray := prog_92_method_9_code
def yJ27_hashCode_4 : MethodName := ⟨RJ27, "hashCode", "(I[III)I"⟩
def dkwJ27_hashCode_4_1 : List UInt8 := [59, 132, 5, 1, 167, 255, 236, 26, 172]
abbrev dktJ27_hashCode_4_1 : List UInt8 := dkwJ27_hashCode_4_1 ++ []
def dkwJ27_hashCode_4_0 : List UInt8 := [28, 29, 96, 54, 4, 28, 54, 5, 21, 5, 21, 4, 162, 0, 19, 16, 31, 26, 104, 43, 21, 5, 46, 96]
abbrev dktJ27_hashCode_4_0 : List UInt8 := dkwJ27_hashCode_4_0 ++ dktJ27_hashCode_4_1
theorem dksJ27_hashCode_4_0 : cJ27_hashCode_4.data.toList.drop 0 = dktJ27_hashCode_4_0 := by decide +kernel
theorem dksJ27_hashCode_4_1 : cJ27_hashCode_4.data.toList.drop 24 = dktJ27_hashCode_4_1 := dk_seg dksJ27_hashCode_4_0 24 rfl rfl
theorem dJ27_hashCode_4_0 : decode cJ27_hashCode_4 0 = .ok (.iload_n 2, 1) := dk_28 (dk_at dksJ27_hashCode_4_0 0 rfl rfl)
theorem dJ27_hashCode_4_1 : decode cJ27_hashCode_4 1 = .ok (.iload_n 3, 1) := dk_29 (dk_at dksJ27_hashCode_4_0 1 rfl rfl)
theorem dJ27_hashCode_4_2 : decode cJ27_hashCode_4 2 = .ok (.iadd, 1) := dk_96 (dk_at dksJ27_hashCode_4_0 2 rfl rfl)
theorem dJ27_hashCode_4_3 : decode cJ27_hashCode_4 3 = .ok (.istore 4, 2) := dk_54 4 (dk_at dksJ27_hashCode_4_0 3 rfl rfl)
theorem dJ27_hashCode_4_5 : decode cJ27_hashCode_4 5 = .ok (.iload_n 2, 1) := dk_28 (dk_at dksJ27_hashCode_4_0 5 rfl rfl)
theorem dJ27_hashCode_4_6 : decode cJ27_hashCode_4 6 = .ok (.istore 5, 2) := dk_54 5 (dk_at dksJ27_hashCode_4_0 6 rfl rfl)
theorem dJ27_hashCode_4_8 : decode cJ27_hashCode_4 8 = .ok (.iload 5, 2) := dk_21 5 (dk_at dksJ27_hashCode_4_0 8 rfl rfl)
theorem dJ27_hashCode_4_10 : decode cJ27_hashCode_4 10 = .ok (.iload 4, 2) := dk_21 4 (dk_at dksJ27_hashCode_4_0 10 rfl rfl)
theorem dJ27_hashCode_4_12 : decode cJ27_hashCode_4 12 = .ok (.if_icmp .ge 19, 3) := dk_162 0 19 (dk_at dksJ27_hashCode_4_0 12 rfl rfl)
theorem dJ27_hashCode_4_15 : decode cJ27_hashCode_4 15 = .ok (.bipush 31, 2) := dk_16 31 (dk_at dksJ27_hashCode_4_0 15 rfl rfl)
theorem dJ27_hashCode_4_17 : decode cJ27_hashCode_4 17 = .ok (.iload_n 0, 1) := dk_26 (dk_at dksJ27_hashCode_4_0 17 rfl rfl)
theorem dJ27_hashCode_4_18 : decode cJ27_hashCode_4 18 = .ok (.imul, 1) := dk_104 (dk_at dksJ27_hashCode_4_0 18 rfl rfl)
theorem dJ27_hashCode_4_19 : decode cJ27_hashCode_4 19 = .ok (.aload_n 1, 1) := dk_43 (dk_at dksJ27_hashCode_4_0 19 rfl rfl)
theorem dJ27_hashCode_4_20 : decode cJ27_hashCode_4 20 = .ok (.iload 5, 2) := dk_21 5 (dk_at dksJ27_hashCode_4_0 20 rfl rfl)
theorem dJ27_hashCode_4_22 : decode cJ27_hashCode_4 22 = .ok (.iaload, 1) := dk_46 (dk_at dksJ27_hashCode_4_0 22 rfl rfl)
theorem dJ27_hashCode_4_23 : decode cJ27_hashCode_4 23 = .ok (.iadd, 1) := dk_96 (dk_at dksJ27_hashCode_4_0 23 rfl rfl)
theorem dJ27_hashCode_4_24 : decode cJ27_hashCode_4 24 = .ok (.istore_n 0, 1) := dk_59 (dk_at dksJ27_hashCode_4_1 0 rfl rfl)
theorem dJ27_hashCode_4_25 : decode cJ27_hashCode_4 25 = .ok (.iinc 5 1, 3) := dk_132 5 1 (dk_at dksJ27_hashCode_4_1 1 rfl rfl)
theorem dJ27_hashCode_4_28 : decode cJ27_hashCode_4 28 = .ok (.goto (-20), 3) := dk_167 255 236 (dk_at dksJ27_hashCode_4_1 4 rfl rfl)
theorem dJ27_hashCode_4_31 : decode cJ27_hashCode_4 31 = .ok (.iload_n 0, 1) := dk_26 (dk_at dksJ27_hashCode_4_1 7 rfl rfl)
theorem dJ27_hashCode_4_32 : decode cJ27_hashCode_4 32 = .ok (.ireturn, 1) := dk_172 (dk_at dksJ27_hashCode_4_1 8 rfl rfl)
abbrev cJ27_mismatch_2 : ByteArray := prog_92_method_14_code
def yJ27_mismatch_2 : MethodName := ⟨RJ27, "mismatch", "([BI[BII)I"⟩
def dkwJ27_mismatch_2_4 : List UInt8 := [132, 5, 1, 167, 255, 228, 2, 172]
abbrev dktJ27_mismatch_2_4 : List UInt8 := dkwJ27_mismatch_2_4 ++ []
def dkwJ27_mismatch_2_3 : List UInt8 := [21, 4, 162, 0, 27, 42, 27, 21, 5, 96, 51, 44, 29, 21, 5, 96, 51, 159, 0, 6, 21, 5, 172]
abbrev dktJ27_mismatch_2_3 : List UInt8 := dkwJ27_mismatch_2_3 ++ dktJ27_mismatch_2_4
def dkwJ27_mismatch_2_2 : List UInt8 := [184, 0, 122, 54, 5, 21, 5, 155, 0, 6, 21, 5, 172, 21, 4, 21, 5, 2, 130, 100, 54, 5, 21, 5]
abbrev dktJ27_mismatch_2_2 : List UInt8 := dkwJ27_mismatch_2_2 ++ dktJ27_mismatch_2_3
def dkwJ27_mismatch_2_1 : List UInt8 := [27, 96, 54, 6, 178, 0, 126, 29, 96, 54, 7, 42, 21, 6, 133, 44, 21, 7, 133, 21, 4, 178, 0, 129]
abbrev dktJ27_mismatch_2_1 : List UInt8 := dkwJ27_mismatch_2_1 ++ dktJ27_mismatch_2_2
def dkwJ27_mismatch_2_0 : List UInt8 := [3, 54, 5, 21, 4, 16, 7, 164, 0, 63, 42, 27, 51, 44, 29, 51, 159, 0, 5, 3, 172, 178, 0, 126]
abbrev dktJ27_mismatch_2_0 : List UInt8 := dkwJ27_mismatch_2_0 ++ dktJ27_mismatch_2_1
theorem dksJ27_mismatch_2_0 : cJ27_mismatch_2.data.toList.drop 0 = dktJ27_mismatch_2_0 := by decide +kernel
theorem dksJ27_mismatch_2_1 : cJ27_mismatch_2.data.toList.drop 24 = dktJ27_mismatch_2_1 := dk_seg dksJ27_mismatch_2_0 24 rfl rfl
theorem dksJ27_mismatch_2_2 : cJ27_mismatch_2.data.toList.drop 48 = dktJ27_mismatch_2_2 := dk_seg dksJ27_mismatch_2_1 24 rfl rfl
theorem dksJ27_mismatch_2_3 : cJ27_mismatch_2.data.toList.drop 72 = dktJ27_mismatch_2_3 := dk_seg dksJ27_mismatch_2_2 24 rfl rfl
theorem dksJ27_mismatch_2_4 : cJ27_mismatch_2.data.toList.drop 95 = dktJ27_mismatch_2_4 := dk_seg dksJ27_mismatch_2_3 23 rfl rfl
theorem dJ27_mismatch_2_0 : decode cJ27_mismatch_2 0 = .ok (.iconst 0, 1) := dk_3 (dk_at dksJ27_mismatch_2_0 0 rfl rfl)
theorem dJ27_mismatch_2_1 : decode cJ27_mismatch_2 1 = .ok (.istore 5, 2) := dk_54 5 (dk_at dksJ27_mismatch_2_0 1 rfl rfl)
theorem dJ27_mismatch_2_3 : decode cJ27_mismatch_2 3 = .ok (.iload 4, 2) := dk_21 4 (dk_at dksJ27_mismatch_2_0 3 rfl rfl)
theorem dJ27_mismatch_2_5 : decode cJ27_mismatch_2 5 = .ok (.bipush 7, 2) := dk_16 7 (dk_at dksJ27_mismatch_2_0 5 rfl rfl)
theorem dJ27_mismatch_2_7 : decode cJ27_mismatch_2 7 = .ok (.if_icmp .le 63, 3) := dk_164 0 63 (dk_at dksJ27_mismatch_2_0 7 rfl rfl)
theorem dJ27_mismatch_2_10 : decode cJ27_mismatch_2 10 = .ok (.aload_n 0, 1) := dk_42 (dk_at dksJ27_mismatch_2_0 10 rfl rfl)
theorem dJ27_mismatch_2_11 : decode cJ27_mismatch_2 11 = .ok (.iload_n 1, 1) := dk_27 (dk_at dksJ27_mismatch_2_0 11 rfl rfl)
theorem dJ27_mismatch_2_12 : decode cJ27_mismatch_2 12 = .ok (.baload, 1) := dk_51 (dk_at dksJ27_mismatch_2_0 12 rfl rfl)
theorem dJ27_mismatch_2_13 : decode cJ27_mismatch_2 13 = .ok (.aload_n 2, 1) := dk_44 (dk_at dksJ27_mismatch_2_0 13 rfl rfl)
theorem dJ27_mismatch_2_14 : decode cJ27_mismatch_2 14 = .ok (.iload_n 3, 1) := dk_29 (dk_at dksJ27_mismatch_2_0 14 rfl rfl)
theorem dJ27_mismatch_2_15 : decode cJ27_mismatch_2 15 = .ok (.baload, 1) := dk_51 (dk_at dksJ27_mismatch_2_0 15 rfl rfl)
theorem dJ27_mismatch_2_16 : decode cJ27_mismatch_2 16 = .ok (.if_icmp .eq 5, 3) := dk_159 0 5 (dk_at dksJ27_mismatch_2_0 16 rfl rfl)
theorem dJ27_mismatch_2_19 : decode cJ27_mismatch_2 19 = .ok (.iconst 0, 1) := dk_3 (dk_at dksJ27_mismatch_2_0 19 rfl rfl)
theorem dJ27_mismatch_2_20 : decode cJ27_mismatch_2 20 = .ok (.ireturn, 1) := dk_172 (dk_at dksJ27_mismatch_2_0 20 rfl rfl)
theorem dJ27_mismatch_2_21 : decode cJ27_mismatch_2 21 = .ok (.getstatic 126, 3) := dk_178 0 126 (dk_at dksJ27_mismatch_2_0 21 rfl rfl)
theorem dJ27_mismatch_2_24 : decode cJ27_mismatch_2 24 = .ok (.iload_n 1, 1) := dk_27 (dk_at dksJ27_mismatch_2_1 0 rfl rfl)
theorem dJ27_mismatch_2_25 : decode cJ27_mismatch_2 25 = .ok (.iadd, 1) := dk_96 (dk_at dksJ27_mismatch_2_1 1 rfl rfl)
theorem dJ27_mismatch_2_26 : decode cJ27_mismatch_2 26 = .ok (.istore 6, 2) := dk_54 6 (dk_at dksJ27_mismatch_2_1 2 rfl rfl)
theorem dJ27_mismatch_2_28 : decode cJ27_mismatch_2 28 = .ok (.getstatic 126, 3) := dk_178 0 126 (dk_at dksJ27_mismatch_2_1 4 rfl rfl)
theorem dJ27_mismatch_2_31 : decode cJ27_mismatch_2 31 = .ok (.iload_n 3, 1) := dk_29 (dk_at dksJ27_mismatch_2_1 7 rfl rfl)
theorem dJ27_mismatch_2_32 : decode cJ27_mismatch_2 32 = .ok (.iadd, 1) := dk_96 (dk_at dksJ27_mismatch_2_1 8 rfl rfl)
theorem dJ27_mismatch_2_33 : decode cJ27_mismatch_2 33 = .ok (.istore 7, 2) := dk_54 7 (dk_at dksJ27_mismatch_2_1 9 rfl rfl)
theorem dJ27_mismatch_2_35 : decode cJ27_mismatch_2 35 = .ok (.aload_n 0, 1) := dk_42 (dk_at dksJ27_mismatch_2_1 11 rfl rfl)
theorem dJ27_mismatch_2_36 : decode cJ27_mismatch_2 36 = .ok (.iload 6, 2) := dk_21 6 (dk_at dksJ27_mismatch_2_1 12 rfl rfl)
theorem dJ27_mismatch_2_38 : decode cJ27_mismatch_2 38 = .ok (.i2l, 1) := dk_133 (dk_at dksJ27_mismatch_2_1 14 rfl rfl)
theorem dJ27_mismatch_2_39 : decode cJ27_mismatch_2 39 = .ok (.aload_n 2, 1) := dk_44 (dk_at dksJ27_mismatch_2_1 15 rfl rfl)
theorem dJ27_mismatch_2_40 : decode cJ27_mismatch_2 40 = .ok (.iload 7, 2) := dk_21 7 (dk_at dksJ27_mismatch_2_1 16 rfl rfl)
theorem dJ27_mismatch_2_42 : decode cJ27_mismatch_2 42 = .ok (.i2l, 1) := dk_133 (dk_at dksJ27_mismatch_2_1 18 rfl rfl)
theorem dJ27_mismatch_2_43 : decode cJ27_mismatch_2 43 = .ok (.iload 4, 2) := dk_21 4 (dk_at dksJ27_mismatch_2_1 19 rfl rfl)
theorem dJ27_mismatch_2_45 : decode cJ27_mismatch_2 45 = .ok (.getstatic 129, 3) := dk_178 0 129 (dk_at dksJ27_mismatch_2_1 21 rfl rfl)
theorem dJ27_mismatch_2_48 : decode cJ27_mismatch_2 48 = .ok (.invokestatic 122, 3) := dk_184 0 122 (dk_at dksJ27_mismatch_2_2 0 rfl rfl)
theorem dJ27_mismatch_2_51 : decode cJ27_mismatch_2 51 = .ok (.istore 5, 2) := dk_54 5 (dk_at dksJ27_mismatch_2_2 3 rfl rfl)
theorem dJ27_mismatch_2_53 : decode cJ27_mismatch_2 53 = .ok (.iload 5, 2) := dk_21 5 (dk_at dksJ27_mismatch_2_2 5 rfl rfl)
theorem dJ27_mismatch_2_55 : decode cJ27_mismatch_2 55 = .ok (.ifCond .lt 6, 3) := dk_155 0 6 (dk_at dksJ27_mismatch_2_2 7 rfl rfl)
theorem dJ27_mismatch_2_58 : decode cJ27_mismatch_2 58 = .ok (.iload 5, 2) := dk_21 5 (dk_at dksJ27_mismatch_2_2 10 rfl rfl)
theorem dJ27_mismatch_2_60 : decode cJ27_mismatch_2 60 = .ok (.ireturn, 1) := dk_172 (dk_at dksJ27_mismatch_2_2 12 rfl rfl)
theorem dJ27_mismatch_2_61 : decode cJ27_mismatch_2 61 = .ok (.iload 4, 2) := dk_21 4 (dk_at dksJ27_mismatch_2_2 13 rfl rfl)
theorem dJ27_mismatch_2_63 : decode cJ27_mismatch_2 63 = .ok (.iload 5, 2) := dk_21 5 (dk_at dksJ27_mismatch_2_2 15 rfl rfl)
theorem dJ27_mismatch_2_65 : decode cJ27_mismatch_2 65 = .ok (.iconst (-1), 1) := dk_2 (dk_at dksJ27_mismatch_2_2 17 rfl rfl)
theorem dJ27_mismatch_2_66 : decode cJ27_mismatch_2 66 = .ok (.ixor, 1) := dk_130 (dk_at dksJ27_mismatch_2_2 18 rfl rfl)
theorem dJ27_mismatch_2_67 : decode cJ27_mismatch_2 67 = .ok (.isub, 1) := dk_100 (dk_at dksJ27_mismatch_2_2 19 rfl rfl)
theorem dJ27_mismatch_2_68 : decode cJ27_mismatch_2 68 = .ok (.istore 5, 2) := dk_54 5 (dk_at dksJ27_mismatch_2_2 20 rfl rfl)
theorem dJ27_mismatch_2_70 : decode cJ27_mismatch_2 70 = .ok (.iload 5, 2) := dk_21 5 (dk_at dksJ27_mismatch_2_2 22 rfl rfl)
theorem dJ27_mismatch_2_72 : decode cJ27_mismatch_2 72 = .ok (.iload 4, 2) := dk_21 4 (dk_at dksJ27_mismatch_2_3 0 rfl rfl)
theorem dJ27_mismatch_2_74 : decode cJ27_mismatch_2 74 = .ok (.if_icmp .ge 27, 3) := dk_162 0 27 (dk_at dksJ27_mismatch_2_3 2 rfl rfl)
theorem dJ27_mismatch_2_77 : decode cJ27_mismatch_2 77 = .ok (.aload_n 0, 1) := dk_42 (dk_at dksJ27_mismatch_2_3 5 rfl rfl)
theorem dJ27_mismatch_2_78 : decode cJ27_mismatch_2 78 = .ok (.iload_n 1, 1) := dk_27 (dk_at dksJ27_mismatch_2_3 6 rfl rfl)
theorem dJ27_mismatch_2_79 : decode cJ27_mismatch_2 79 = .ok (.iload 5, 2) := dk_21 5 (dk_at dksJ27_mismatch_2_3 7 rfl rfl)
theorem dJ27_mismatch_2_81 : decode cJ27_mismatch_2 81 = .ok (.iadd, 1) := dk_96 (dk_at dksJ27_mismatch_2_3 9 rfl rfl)
theorem dJ27_mismatch_2_82 : decode cJ27_mismatch_2 82 = .ok (.baload, 1) := dk_51 (dk_at dksJ27_mismatch_2_3 10 rfl rfl)
theorem dJ27_mismatch_2_83 : decode cJ27_mismatch_2 83 = .ok (.aload_n 2, 1) := dk_44 (dk_at dksJ27_mismatch_2_3 11 rfl rfl)
theorem dJ27_mismatch_2_84 : decode cJ27_mismatch_2 84 = .ok (.iload_n 3, 1) := dk_29 (dk_at dksJ27_mismatch_2_3 12 rfl rfl)
theorem dJ27_mismatch_2_85 : decode cJ27_mismatch_2 85 = .ok (.iload 5, 2) := dk_21 5 (dk_at dksJ27_mismatch_2_3 13 rfl rfl)
theorem dJ27_mismatch_2_87 : decode cJ27_mismatch_2 87 = .ok (.iadd, 1) := dk_96 (dk_at dksJ27_mismatch_2_3 15 rfl rfl)
theorem dJ27_mismatch_2_88 : decode cJ27_mismatch_2 88 = .ok (.baload, 1) := dk_51 (dk_at dksJ27_mismatch_2_3 16 rfl rfl)
theorem dJ27_mismatch_2_89 : decode cJ27_mismatch_2 89 = .ok (.if_icmp .eq 6, 3) := dk_159 0 6 (dk_at dksJ27_mismatch_2_3 17 rfl rfl)
theorem dJ27_mismatch_2_92 : decode cJ27_mismatch_2 92 = .ok (.iload 5, 2) := dk_21 5 (dk_at dksJ27_mismatch_2_3 20 rfl rfl)
theorem dJ27_mismatch_2_94 : decode cJ27_mismatch_2 94 = .ok (.ireturn, 1) := dk_172 (dk_at dksJ27_mismatch_2_3 22 rfl rfl)
theorem dJ27_mismatch_2_95 : decode cJ27_mismatch_2 95 = .ok (.iinc 5 1, 3) := dk_132 5 1 (dk_at dksJ27_mismatch_2_4 0 rfl rfl)
theorem dJ27_mismatch_2_98 : decode cJ27_mismatch_2 98 = .ok (.goto (-28), 3) := dk_167 255 228 (dk_at dksJ27_mismatch_2_4 3 rfl rfl)
theorem dJ27_mismatch_2_101 : decode cJ27_mismatch_2 101 = .ok (.iconst (-1), 1) := dk_2 (dk_at dksJ27_mismatch_2_4 6 rfl rfl)
theorem dJ27_mismatch_2_102 : decode cJ27_mismatch_2 102 = .ok (.ireturn, 1) := dk_172 (dk_at dksJ27_mismatch_2_4 7 rfl rfl)
theorem q133 : (Jvm.Cond.initialized "jdk/internal/util/ArraysSupport") ∈ lw_all := lw_g (lw_at lw_m1 34 rfl) rfl
theorem q896 : (Jvm.Cond.static ({ cls := "jdk/internal/util/ArraysSupport", name := "newLength", desc := "(III)I" } : Jvm.MethodName)) ∈ lw_all := lw_g (lw_at lw_m4 77 rfl) rfl
theorem q897 : (Jvm.Cond.code ({ cls := "jdk/internal/util/ArraysSupport", name := "newLength", desc := "(III)I" } : Jvm.MethodName) prog_92_method_27_code (4 : Nat) (Option.some Jvm.ClassFile.FieldType.int)) ∈ lw_all := lw_g (lw_at lw_m4 78 rfl) rfl
theorem q898 : (Jvm.Cond.methodLink "jdk/internal/util/ArraysSupport" (194 : Nat) ({ cls := "java/lang/Math", name := "max", desc := "(II)I" } : Jvm.MethodName)) ∈ lw_all := lw_g (lw_at lw_m4 79 rfl) rfl
theorem q901 : (Jvm.Cond.constant "jdk/internal/util/ArraysSupport" (200 : Nat) (2147483639 : Int32)) ∈ lw_all := lw_g (lw_at lw_m4 82 rfl) rfl
theorem q902 : (Jvm.Cond.methodLink "jdk/internal/util/ArraysSupport" (201 : Nat) ({ cls := "jdk/internal/util/ArraysSupport", name := "hugeLength", desc := "(II)I" } : Jvm.MethodName)) ∈ lw_all := lw_g (lw_at lw_m4 83 rfl) rfl
theorem q903 : (Jvm.Cond.static ({ cls := "jdk/internal/util/ArraysSupport", name := "hugeLength", desc := "(II)I" } : Jvm.MethodName)) ∈ lw_all := lw_g (lw_at lw_m4 84 rfl) rfl
theorem q904 : (Jvm.Cond.code ({ cls := "jdk/internal/util/ArraysSupport", name := "hugeLength", desc := "(II)I" } : Jvm.MethodName) prog_92_method_28_code (3 : Nat) (Option.some Jvm.ClassFile.FieldType.int)) ∈ lw_all := lw_g (lw_at lw_m4 85 rfl) rfl
theorem q1574 : (Jvm.Cond.static ({ cls := "jdk/internal/util/ArraysSupport", name := "mismatch", desc := "([B[BI)I" } : Jvm.MethodName)) ∈ lw_all := lw_g (lw_at lw_m7 35 rfl) rfl
theorem q1575 : (Jvm.Cond.code ({ cls := "jdk/internal/util/ArraysSupport", name := "mismatch", desc := "([B[BI)I" } : Jvm.MethodName) prog_92_method_13_code (4 : Nat) (Option.some Jvm.ClassFile.FieldType.int)) ∈ lw_all := lw_g (lw_at lw_m7 36 rfl) rfl
theorem q1576 : (Jvm.Cond.fieldLink "jdk/internal/util/ArraysSupport" (126 : Nat) "jdk/internal/misc/Unsafe" "ARRAY_BYTE_BASE_OFFSET" "I") ∈ lw_all := lw_g (lw_at lw_m7 37 rfl) rfl
theorem q1578 : (Jvm.Cond.fieldLink "jdk/internal/util/ArraysSupport" (129 : Nat) "jdk/internal/util/ArraysSupport" "LOG2_ARRAY_BYTE_INDEX_SCALE" "I") ∈ lw_all := lw_g (lw_at lw_m7 39 rfl) rfl
theorem q1579 : (Jvm.Cond.laysStatic "jdk/internal/util/ArraysSupport" "LOG2_ARRAY_BYTE_INDEX_SCALE" "I") ∈ lw_tbl := lw_at lw_m7 40 rfl
theorem q1580 : (Jvm.Cond.methodLink "jdk/internal/util/ArraysSupport" (122 : Nat) ({ cls := "jdk/internal/util/ArraysSupport", name := "vectorizedMismatch", desc := "(Ljava/lang/Object;JLjava/lang/Object;JII)I" } : Jvm.MethodName)) ∈ lw_all := lw_g (lw_at lw_m7 41 rfl) rfl
theorem q1581 : (Jvm.Cond.static ({ cls := "jdk/internal/util/ArraysSupport", name := "vectorizedMismatch", desc := "(Ljava/lang/Object;JLjava/lang/Object;JII)I" } : Jvm.MethodName)) ∈ lw_all := lw_g (lw_at lw_m7 42 rfl) rfl
theorem q1582 : (Jvm.Cond.code ({ cls := "jdk/internal/util/ArraysSupport", name := "vectorizedMismatch", desc := "(Ljava/lang/Object;JLjava/lang/Object;JII)I" } : Jvm.MethodName) prog_92_method_3_code (19 : Nat) (Option.some Jvm.ClassFile.FieldType.int)) ∈ lw_all := lw_g (lw_at lw_m7 43 rfl) rfl
theorem q1583 : (Jvm.Cond.fieldLink "jdk/internal/util/ArraysSupport" (20 : Nat) "jdk/internal/util/ArraysSupport" "LOG2_ARRAY_LONG_INDEX_SCALE" "I") ∈ lw_all := lw_g (lw_at lw_m7 44 rfl) rfl
theorem q1584 : (Jvm.Cond.laysStatic "jdk/internal/util/ArraysSupport" "LOG2_ARRAY_LONG_INDEX_SCALE" "I") ∈ lw_tbl := lw_at lw_m7 45 rfl
theorem q1585 : (Jvm.Cond.fieldLink "jdk/internal/util/ArraysSupport" (26 : Nat) "jdk/internal/util/ArraysSupport" "U" "Ljdk/internal/misc/Unsafe;") ∈ lw_all := lw_g (lw_at lw_m7 46 rfl) rfl
theorem q1586 : (Jvm.Cond.laysStatic "jdk/internal/util/ArraysSupport" "U" "Ljdk/internal/misc/Unsafe;") ∈ lw_tbl := lw_at lw_m7 47 rfl
theorem q1587 : (Jvm.Cond.methodLink "jdk/internal/util/ArraysSupport" (30 : Nat) ({ cls := "jdk/internal/misc/Unsafe", name := "getLongUnaligned", desc := "(Ljava/lang/Object;J)J" } : Jvm.MethodName)) ∈ lw_all := lw_g (lw_at lw_m7 48 rfl) rfl
theorem q1639 : (Jvm.Cond.fieldLink "jdk/internal/util/ArraysSupport" (36 : Nat) "jdk/internal/util/ArraysSupport" "BIG_ENDIAN" "Z") ∈ lw_all := lw_g (lw_at lw_m7 100 rfl) rfl
theorem q1640 : (Jvm.Cond.laysStatic "jdk/internal/util/ArraysSupport" "BIG_ENDIAN" "Z") ∈ lw_tbl := lw_at lw_m7 101 rfl
theorem q1641 : (Jvm.Cond.methodLink "jdk/internal/util/ArraysSupport" (40 : Nat) ({ cls := "java/lang/Long", name := "numberOfLeadingZeros", desc := "(J)I" } : Jvm.MethodName)) ∈ lw_all := lw_g (lw_at lw_m7 102 rfl) rfl
theorem q1645 : (Jvm.Cond.fieldLink "jdk/internal/util/ArraysSupport" (46 : Nat) "jdk/internal/util/ArraysSupport" "LOG2_BYTE_BIT_SIZE" "I") ∈ lw_all := lw_g (lw_at lw_m7 106 rfl) rfl
theorem q1646 : (Jvm.Cond.laysStatic "jdk/internal/util/ArraysSupport" "LOG2_BYTE_BIT_SIZE" "I") ∈ lw_tbl := lw_at lw_m7 107 rfl
theorem q1647 : (Jvm.Cond.methodLink "jdk/internal/util/ArraysSupport" (49 : Nat) ({ cls := "java/lang/Long", name := "numberOfTrailingZeros", desc := "(J)I" } : Jvm.MethodName)) ∈ lw_all := lw_g (lw_at lw_m7 108 rfl) rfl
theorem q1648 : (Jvm.Cond.fieldLink "jdk/internal/util/ArraysSupport" (51 : Nat) "jdk/internal/util/ArraysSupport" "LOG2_ARRAY_INT_INDEX_SCALE" "I") ∈ lw_all := lw_g (lw_at lw_m7 109 rfl) rfl
theorem q1649 : (Jvm.Cond.laysStatic "jdk/internal/util/ArraysSupport" "LOG2_ARRAY_INT_INDEX_SCALE" "I") ∈ lw_tbl := lw_at lw_m7 110 rfl
theorem q1650 : (Jvm.Cond.methodLink "jdk/internal/util/ArraysSupport" (54 : Nat) ({ cls := "jdk/internal/misc/Unsafe", name := "getIntUnaligned", desc := "(Ljava/lang/Object;J)I" } : Jvm.MethodName)) ∈ lw_all := lw_g (lw_at lw_m7 111 rfl) rfl
theorem q1667 : (Jvm.Cond.methodLink "jdk/internal/util/ArraysSupport" (58 : Nat) ({ cls := "java/lang/Integer", name := "numberOfLeadingZeros", desc := "(I)I" } : Jvm.MethodName)) ∈ lw_all := lw_g (lw_at lw_m7 128 rfl) rfl
theorem q1668 : (Jvm.Cond.methodLink "jdk/internal/util/ArraysSupport" (11 : Nat) ({ cls := "java/lang/Integer", name := "numberOfTrailingZeros", desc := "(I)I" } : Jvm.MethodName)) ∈ lw_all := lw_g (lw_at lw_m7 129 rfl) rfl
theorem q1836 : (Jvm.Cond.static ({ cls := "jdk/internal/util/ArraysSupport", name := "vectorizedHashCode", desc := "(Ljava/lang/Object;IIII)I" } : Jvm.MethodName)) ∈ lw_all := lw_g (lw_at lw_m8 57 rfl) rfl
theorem q1837 : (Jvm.Cond.code ({ cls := "jdk/internal/util/ArraysSupport", name := "vectorizedHashCode", desc := "(Ljava/lang/Object;IIII)I" } : Jvm.MethodName) prog_92_method_4_code (5 : Nat) (Option.some Jvm.ClassFile.FieldType.int)) ∈ lw_all := lw_g (lw_at lw_m8 58 rfl) rfl
theorem q1838 : (Jvm.Cond.classLink "jdk/internal/util/ArraysSupport" (60 : Nat) "[B") ∈ lw_all := lw_g (lw_at lw_m8 59 rfl) rfl
theorem q1839 : (Jvm.Cond.methodLink "jdk/internal/util/ArraysSupport" (62 : Nat) ({ cls := "jdk/internal/util/ArraysSupport", name := "signedHashCode", desc := "(I[BII)I" } : Jvm.MethodName)) ∈ lw_all := lw_g (lw_at lw_m8 60 rfl) rfl
theorem q1840 : (Jvm.Cond.static ({ cls := "jdk/internal/util/ArraysSupport", name := "signedHashCode", desc := "(I[BII)I" } : Jvm.MethodName)) ∈ lw_all := lw_g (lw_at lw_m8 61 rfl) rfl
theorem q1841 : (Jvm.Cond.code ({ cls := "jdk/internal/util/ArraysSupport", name := "signedHashCode", desc := "(I[BII)I" } : Jvm.MethodName) prog_92_method_5_code (6 : Nat) (Option.some Jvm.ClassFile.FieldType.int)) ∈ lw_all := lw_g (lw_at lw_m8 62 rfl) rfl
theorem q1842 : (Jvm.Cond.methodLink "jdk/internal/util/ArraysSupport" (66 : Nat) ({ cls := "jdk/internal/util/ArraysSupport", name := "utf16hashCode", desc := "(I[BII)I" } : Jvm.MethodName)) ∈ lw_all := lw_g (lw_at lw_m8 63 rfl) rfl
theorem q1843 : (Jvm.Cond.static ({ cls := "jdk/internal/util/ArraysSupport", name := "utf16hashCode", desc := "(I[BII)I" } : Jvm.MethodName)) ∈ lw_all := lw_g (lw_at lw_m8 64 rfl) rfl
theorem q1844 : (Jvm.Cond.code ({ cls := "jdk/internal/util/ArraysSupport", name := "utf16hashCode", desc := "(I[BII)I" } : Jvm.MethodName) prog_92_method_10_code (6 : Nat) (Option.some Jvm.ClassFile.FieldType.int)) ∈ lw_all := lw_g (lw_at lw_m8 65 rfl) rfl
theorem q1845 : (Jvm.Cond.fieldLink "jdk/internal/util/ArraysSupport" (106 : Nat) "jdk/internal/util/ArraysSupport" "JLA" "Ljdk/internal/access/JavaLangAccess;") ∈ lw_all := lw_g (lw_at lw_m8 66 rfl) rfl
theorem q1846 : (Jvm.Cond.laysStatic "jdk/internal/util/ArraysSupport" "JLA" "Ljdk/internal/access/JavaLangAccess;") ∈ lw_tbl := lw_at lw_m8 67 rfl
theorem q1847 : (Jvm.Cond.interfaceEntry "jdk/internal/util/ArraysSupport" (110 : Nat)) ∈ lw_tbl := lw_at lw_m8 68 rfl
theorem q1848 : (Jvm.Cond.methodLink "jdk/internal/util/ArraysSupport" (110 : Nat) ({ cls := "jdk/internal/access/JavaLangAccess", name := "getUTF16Char", desc := "([BI)C" } : Jvm.MethodName)) ∈ lw_all := lw_g (lw_at lw_m8 69 rfl) rfl
theorem q1858 : (Jvm.Cond.classLink "jdk/internal/util/ArraysSupport" (69 : Nat) "[C") ∈ lw_all := lw_g (lw_at lw_m8 79 rfl) rfl
theorem q1859 : (Jvm.Cond.methodLink "jdk/internal/util/ArraysSupport" (71 : Nat) ({ cls := "jdk/internal/util/ArraysSupport", name := "hashCode", desc := "(I[CII)I" } : Jvm.MethodName)) ∈ lw_all := lw_g (lw_at lw_m8 80 rfl) rfl
theorem q1860 : (Jvm.Cond.static ({ cls := "jdk/internal/util/ArraysSupport", name := "hashCode", desc := "(I[CII)I" } : Jvm.MethodName)) ∈ lw_all := lw_g (lw_at lw_m8 81 rfl) rfl
theorem q1861 : (Jvm.Cond.code ({ cls := "jdk/internal/util/ArraysSupport", name := "hashCode", desc := "(I[CII)I" } : Jvm.MethodName) prog_92_method_7_code (6 : Nat) (Option.some Jvm.ClassFile.FieldType.int)) ∈ lw_all := lw_g (lw_at lw_m8 82 rfl) rfl
theorem q1862 : (Jvm.Cond.methodLink "jdk/internal/util/ArraysSupport" (75 : Nat) ({ cls := "jdk/internal/util/ArraysSupport", name := "hashCode", desc := "(I[BII)I" } : Jvm.MethodName)) ∈ lw_all := lw_g (lw_at lw_m8 83 rfl) rfl
theorem q1863 : (Jvm.Cond.static ({ cls := "jdk/internal/util/ArraysSupport", name := "hashCode", desc := "(I[BII)I" } : Jvm.MethodName)) ∈ lw_all := lw_g (lw_at lw_m8 84 rfl) rfl
theorem q1864 : (Jvm.Cond.code ({ cls := "jdk/internal/util/ArraysSupport", name := "hashCode", desc := "(I[BII)I" } : Jvm.MethodName) prog_92_method_6_code (6 : Nat) (Option.some Jvm.ClassFile.FieldType.int)) ∈ lw_all := lw_g (lw_at lw_m8 85 rfl) rfl
theorem q1865 : (Jvm.Cond.classLink "jdk/internal/util/ArraysSupport" (77 : Nat) "[S") ∈ lw_all := lw_g (lw_at lw_m8 86 rfl) rfl
theorem q1866 : (Jvm.Cond.methodLink "jdk/internal/util/ArraysSupport" (79 : Nat) ({ cls := "jdk/internal/util/ArraysSupport", name := "hashCode", desc := "(I[SII)I" } : Jvm.MethodName)) ∈ lw_all := lw_g (lw_at lw_m8 87 rfl) rfl
theorem q1867 : (Jvm.Cond.static ({ cls := "jdk/internal/util/ArraysSupport", name := "hashCode", desc := "(I[SII)I" } : Jvm.MethodName)) ∈ lw_all := lw_g (lw_at lw_m8 88 rfl) rfl
theorem q1868 : (Jvm.Cond.code ({ cls := "jdk/internal/util/ArraysSupport", name := "hashCode", desc := "(I[SII)I" } : Jvm.MethodName) prog_92_method_8_code (6 : Nat) (Option.some Jvm.ClassFile.FieldType.int)) ∈ lw_all := lw_g (lw_at lw_m8 89 rfl) rfl
theorem q1869 : (Jvm.Cond.classLink "jdk/internal/util/ArraysSupport" (82 : Nat) "[I") ∈ lw_all := lw_g (lw_at lw_m8 90 rfl) rfl
theorem q1870 : (Jvm.Cond.methodLink "jdk/internal/util/ArraysSupport" (84 : Nat) ({ cls := "jdk/internal/util/ArraysSupport", name := "hashCode", desc := "(I[III)I" } : Jvm.MethodName)) ∈ lw_all := lw_g (lw_at lw_m8 91 rfl) rfl
theorem q1871 : (Jvm.Cond.static ({ cls := "jdk/internal/util/ArraysSupport", name := "hashCode", desc := "(I[III)I" } : Jvm.MethodName)) ∈ lw_all := lw_g (lw_at lw_m8 92 rfl) rfl
theorem q1872 : (Jvm.Cond.code ({ cls := "jdk/internal/util/ArraysSupport", name := "hashCode", desc := "(I[III)I" } : Jvm.MethodName) prog_92_method_9_code (6 : Nat) (Option.some Jvm.ClassFile.FieldType.int)) ∈ lw_all := lw_g (lw_at lw_m8 93 rfl) rfl
theorem q1873 : (Jvm.Cond.classLink "jdk/internal/util/ArraysSupport" (87 : Nat) "java/lang/IllegalArgumentException") ∈ lw_all := lw_g (lw_at lw_m8 94 rfl) rfl
theorem q1874 : (Jvm.Cond.classLink "jdk/internal/util/ArraysSupport" (89 : Nat) "java/lang/StringBuilder") ∈ lw_all := lw_g (lw_at lw_m8 95 rfl) rfl
theorem q1875 : (Jvm.Cond.methodLink "jdk/internal/util/ArraysSupport" (91 : Nat) ({ cls := "java/lang/StringBuilder", name := "<init>", desc := "()V" } : Jvm.MethodName)) ∈ lw_all := lw_g (lw_at lw_m8 96 rfl) rfl
theorem q1876 : (Jvm.Cond.stringRef "jdk/internal/util/ArraysSupport" (92 : Nat) "unrecognized basic type: ") ∈ lw_tbl := lw_at lw_m8 97 rfl
theorem q1877 : (Jvm.Cond.methodLink "jdk/internal/util/ArraysSupport" (94 : Nat) ({ cls := "java/lang/StringBuilder", name := "append", desc := "(Ljava/lang/String;)Ljava/lang/StringBuilder;" } : Jvm.MethodName)) ∈ lw_all := lw_g (lw_at lw_m8 98 rfl) rfl
theorem q1878 : (Jvm.Cond.methodLink "jdk/internal/util/ArraysSupport" (98 : Nat) ({ cls := "java/lang/StringBuilder", name := "append", desc := "(I)Ljava/lang/StringBuilder;" } : Jvm.MethodName)) ∈ lw_all := lw_g (lw_at lw_m8 99 rfl) rfl
theorem q1879 : (Jvm.Cond.methodLink "jdk/internal/util/ArraysSupport" (101 : Nat) ({ cls := "java/lang/StringBuilder", name := "toString", desc := "()Ljava/lang/String;" } : Jvm.MethodName)) ∈ lw_all := lw_g (lw_at lw_m8 100 rfl) rfl
theorem q1880 : (Jvm.Cond.methodLink "jdk/internal/util/ArraysSupport" (105 : Nat) ({ cls := "java/lang/IllegalArgumentException", name := "<init>", desc := "(Ljava/lang/String;)V" } : Jvm.MethodName)) ∈ lw_all := lw_g (lw_at lw_m8 101 rfl) rfl
theorem q3519 : (Jvm.Cond.static ({ cls := "jdk/internal/util/ArraysSupport", name := "mismatch", desc := "([BI[BII)I" } : Jvm.MethodName)) ∈ lw_all := lw_g (lw_at lw_m15 60 rfl) rfl
theorem q3520 : (Jvm.Cond.code ({ cls := "jdk/internal/util/ArraysSupport", name := "mismatch", desc := "([BI[BII)I" } : Jvm.MethodName) prog_92_method_14_code (8 : Nat) (Option.some Jvm.ClassFile.FieldType.int)) ∈ lw_all := lw_g (lw_at lw_m15 61 rfl) rfl
/-! java/lang/StringLatin1 -/
set_option maxRecDepth 100000
def RJ28 : String := "java/lang/StringLatin1"
abbrev cJ28_inflate : ByteArray := prog_44_method_50_code
def yJ28_inflate : MethodName := ⟨RJ28, "inflate", "([BI[BII)V"⟩
def dkwJ28_inflate_0 : List UInt8 := [42, 27, 44, 29, 21, 4, 184, 0, 240, 177]
abbrev dktJ28_inflate_0 : List UInt8 := dkwJ28_inflate_0 ++ []
theorem dksJ28_inflate_0 : cJ28_inflate.data.toList.drop 0 = dktJ28_inflate_0 := by decide +kernel
theorem dJ28_inflate_0 : decode cJ28_inflate 0 = .ok (.aload_n 0, 1) := dk_42 (dk_at dksJ28_inflate_0 0 rfl rfl)
theorem dJ28_inflate_1 : decode cJ28_inflate 1 = .ok (.iload_n 1, 1) := dk_27 (dk_at dksJ28_inflate_0 1 rfl rfl)
theorem dJ28_inflate_2 : decode cJ28_inflate 2 = .ok (.aload_n 2, 1) := dk_44 (dk_at dksJ28_inflate_0 2 rfl rfl)
theorem dJ28_inflate_3 : decode cJ28_inflate 3 = .ok (.iload_n 3, 1) := dk_29 (dk_at dksJ28_inflate_0 3 rfl rfl)
theorem dJ28_inflate_4 : decode cJ28_inflate 4 = .ok (.iload 4, 2) := dk_21 4 (dk_at dksJ28_inflate_0 4 rfl rfl)
theorem dJ28_inflate_6 : decode cJ28_inflate 6 = .ok (.invokestatic 240, 3) := dk_184 0 240 (dk_at dksJ28_inflate_0 6 rfl rfl)
theorem dJ28_inflate_9 : decode cJ28_inflate 9 = .ok (.return_, 1) := dk_177 (dk_at dksJ28_inflate_0 9 rfl rfl)
abbrev cJ28_compareTo : ByteArray := prog_44_method_14_code
def yJ28_compareTo : MethodName := ⟨RJ28, "compareTo", "([B[B)I"⟩
def dkwJ28_compareTo_0 : List UInt8 := [42, 190, 61, 43, 190, 62, 42, 43, 28, 29, 184, 0, 34, 172]
abbrev dktJ28_compareTo_0 : List UInt8 := dkwJ28_compareTo_0 ++ []
theorem dksJ28_compareTo_0 : cJ28_compareTo.data.toList.drop 0 = dktJ28_compareTo_0 := by decide +kernel
theorem dJ28_compareTo_0 : decode cJ28_compareTo 0 = .ok (.aload_n 0, 1) := dk_42 (dk_at dksJ28_compareTo_0 0 rfl rfl)
theorem dJ28_compareTo_1 : decode cJ28_compareTo 1 = .ok (.arraylength, 1) := dk_190 (dk_at dksJ28_compareTo_0 1 rfl rfl)
theorem dJ28_compareTo_2 : decode cJ28_compareTo 2 = .ok (.istore_n 2, 1) := dk_61 (dk_at dksJ28_compareTo_0 2 rfl rfl)
theorem dJ28_compareTo_3 : decode cJ28_compareTo 3 = .ok (.aload_n 1, 1) := dk_43 (dk_at dksJ28_compareTo_0 3 rfl rfl)
theorem dJ28_compareTo_4 : decode cJ28_compareTo 4 = .ok (.arraylength, 1) := dk_190 (dk_at dksJ28_compareTo_0 4 rfl rfl)
theorem dJ28_compareTo_5 : decode cJ28_compareTo 5 = .ok (.istore_n 3, 1) := dk_62 (dk_at dksJ28_compareTo_0 5 rfl rfl)
theorem dJ28_compareTo_6 : decode cJ28_compareTo 6 = .ok (.aload_n 0, 1) := dk_42 (dk_at dksJ28_compareTo_0 6 rfl rfl)
theorem dJ28_compareTo_7 : decode cJ28_compareTo 7 = .ok (.aload_n 1, 1) := dk_43 (dk_at dksJ28_compareTo_0 7 rfl rfl)
theorem dJ28_compareTo_8 : decode cJ28_compareTo 8 = .ok (.iload_n 2, 1) := dk_28 (dk_at dksJ28_compareTo_0 8 rfl rfl)
theorem dJ28_compareTo_9 : decode cJ28_compareTo 9 = .ok (.iload_n 3, 1) := dk_29 (dk_at dksJ28_compareTo_0 9 rfl rfl)
theorem dJ28_compareTo_10 : decode cJ28_compareTo 10 = .ok (.invokestatic 34, 3) := dk_184 0 34 (dk_at dksJ28_compareTo_0 10 rfl rfl)
theorem dJ28_compareTo_13 : decode cJ28_compareTo 13 = .ok (.ireturn, 1) := dk_172 (dk_at dksJ28_compareTo_0 13 rfl rfl)
abbrev cJ28_compareTo_2 : ByteArray := prog_44_method_15_code
def yJ28_compareTo_2 : MethodName := ⟨RJ28, "compareTo", "([B[BII)I"⟩
def dkwJ28_compareTo_2_1 : List UInt8 := [167, 0, 16, 42, 21, 5, 184, 0, 50, 43, 21, 5, 184, 0, 50, 100, 172]
abbrev dktJ28_compareTo_2_1 : List UInt8 := dkwJ28_compareTo_2_1 ++ []
def dkwJ28_compareTo_2_0 : List UInt8 := [28, 29, 184, 0, 38, 54, 4, 42, 43, 21, 4, 184, 0, 44, 54, 5, 21, 5, 156, 0, 9, 28, 29, 100]
abbrev dktJ28_compareTo_2_0 : List UInt8 := dkwJ28_compareTo_2_0 ++ dktJ28_compareTo_2_1
theorem dksJ28_compareTo_2_0 : cJ28_compareTo_2.data.toList.drop 0 = dktJ28_compareTo_2_0 := by decide +kernel
theorem dksJ28_compareTo_2_1 : cJ28_compareTo_2.data.toList.drop 24 = dktJ28_compareTo_2_1 := dk_seg dksJ28_compareTo_2_0 24 rfl rfl
theorem dJ28_compareTo_2_0 : decode cJ28_compareTo_2 0 = .ok (.iload_n 2, 1) := dk_28 (dk_at dksJ28_compareTo_2_0 0 rfl rfl)
theorem dJ28_compareTo_2_1 : decode cJ28_compareTo_2 1 = .ok (.iload_n 3, 1) := dk_29 (dk_at dksJ28_compareTo_2_0 1 rfl rfl)
theorem dJ28_compareTo_2_2 : decode cJ28_compareTo_2 2 = .ok (.invokestatic 38, 3) := dk_184 0 38 (dk_at dksJ28_compareTo_2_0 2 rfl rfl)
theorem dJ28_compareTo_2_5 : decode cJ28_compareTo_2 5 = .ok (.istore 4, 2) := dk_54 4 (dk_at dksJ28_compareTo_2_0 5 rfl rfl)
theorem dJ28_compareTo_2_7 : decode cJ28_compareTo_2 7 = .ok (.aload_n 0, 1) := dk_42 (dk_at dksJ28_compareTo_2_0 7 rfl rfl)
theorem dJ28_compareTo_2_8 : decode cJ28_compareTo_2 8 = .ok (.aload_n 1, 1) := dk_43 (dk_at dksJ28_compareTo_2_0 8 rfl rfl)
theorem dJ28_compareTo_2_9 : decode cJ28_compareTo_2 9 = .ok (.iload 4, 2) := dk_21 4 (dk_at dksJ28_compareTo_2_0 9 rfl rfl)
theorem dJ28_compareTo_2_11 : decode cJ28_compareTo_2 11 = .ok (.invokestatic 44, 3) := dk_184 0 44 (dk_at dksJ28_compareTo_2_0 11 rfl rfl)
theorem dJ28_compareTo_2_14 : decode cJ28_compareTo_2 14 = .ok (.istore 5, 2) := dk_54 5 (dk_at dksJ28_compareTo_2_0 14 rfl rfl)
theorem dJ28_compareTo_2_16 : decode cJ28_compareTo_2 16 = .ok (.iload 5, 2) := dk_21 5 (dk_at dksJ28_compareTo_2_0 16 rfl rfl)
theorem dJ28_compareTo_2_18 : decode cJ28_compareTo_2 18 = .ok (.ifCond .ge 9, 3) := dk_156 0 9 (dk_at dksJ28_compareTo_2_0 18 rfl rfl)
theorem dJ28_compareTo_2_21 : decode cJ28_compareTo_2 21 = .ok (.iload_n 2, 1) := dk_28 (dk_at dksJ28_compareTo_2_0 21 rfl rfl)
theorem dJ28_compareTo_2_22 : decode cJ28_compareTo_2 22 = .ok (.iload_n 3, 1) := dk_29 (dk_at dksJ28_compareTo_2_0 22 rfl rfl)
theorem dJ28_compareTo_2_23 : decode cJ28_compareTo_2 23 = .ok (.isub, 1) := dk_100 (dk_at dksJ28_compareTo_2_0 23 rfl rfl)
theorem dJ28_compareTo_2_24 : decode cJ28_compareTo_2 24 = .ok (.goto 16, 3) := dk_167 0 16 (dk_at dksJ28_compareTo_2_1 0 rfl rfl)
theorem dJ28_compareTo_2_27 : decode cJ28_compareTo_2 27 = .ok (.aload_n 0, 1) := dk_42 (dk_at dksJ28_compareTo_2_1 3 rfl rfl)
theorem dJ28_compareTo_2_28 : decode cJ28_compareTo_2 28 = .ok (.iload 5, 2) := dk_21 5 (dk_at dksJ28_compareTo_2_1 4 rfl rfl)
theorem dJ28_compareTo_2_30 : decode cJ28_compareTo_2 30 = .ok (.invokestatic 50, 3) := dk_184 0 50 (dk_at dksJ28_compareTo_2_1 6 rfl rfl)
theorem dJ28_compareTo_2_33 : decode cJ28_compareTo_2 33 = .ok (.aload_n 1, 1) := dk_43 (dk_at dksJ28_compareTo_2_1 9 rfl rfl)
theorem dJ28_compareTo_2_34 : decode cJ28_compareTo_2 34 = .ok (.iload 5, 2) := dk_21 5 (dk_at dksJ28_compareTo_2_1 10 rfl rfl)
theorem dJ28_compareTo_2_36 : decode cJ28_compareTo_2 36 = .ok (.invokestatic 50, 3) := dk_184 0 50 (dk_at dksJ28_compareTo_2_1 12 rfl rfl)
theorem dJ28_compareTo_2_39 : decode cJ28_compareTo_2 39 = .ok (.isub, 1) := dk_100 (dk_at dksJ28_compareTo_2_1 15 rfl rfl)
theorem dJ28_compareTo_2_40 : decode cJ28_compareTo_2 40 = .ok (.ireturn, 1) := dk_172 (dk_at dksJ28_compareTo_2_1 16 rfl rfl)
abbrev cJ28_getChar : ByteArray := prog_44_method_44_code
def yJ28_getChar : MethodName := ⟨RJ28, "getChar", "([BI)C"⟩
def dkwJ28_getChar_0 : List UInt8 := [42, 27, 51, 17, 0, 255, 126, 146, 172]
abbrev dktJ28_getChar_0 : List UInt8 := dkwJ28_getChar_0 ++ []
theorem dksJ28_getChar_0 : cJ28_getChar.data.toList.drop 0 = dktJ28_getChar_0 := by decide +kernel
theorem dJ28_getChar_0 : decode cJ28_getChar 0 = .ok (.aload_n 0, 1) := dk_42 (dk_at dksJ28_getChar_0 0 rfl rfl)
theorem dJ28_getChar_1 : decode cJ28_getChar 1 = .ok (.iload_n 1, 1) := dk_27 (dk_at dksJ28_getChar_0 1 rfl rfl)
theorem dJ28_getChar_2 : decode cJ28_getChar 2 = .ok (.baload, 1) := dk_51 (dk_at dksJ28_getChar_0 2 rfl rfl)
theorem dJ28_getChar_3 : decode cJ28_getChar 3 = .ok (.sipush 255, 3) := dk_17 0 255 (dk_at dksJ28_getChar_0 3 rfl rfl)
theorem dJ28_getChar_6 : decode cJ28_getChar 6 = .ok (.iand, 1) := dk_126 (dk_at dksJ28_getChar_0 6 rfl rfl)
theorem dJ28_getChar_7 : decode cJ28_getChar 7 = .ok (.i2c, 1) := dk_146 (dk_at dksJ28_getChar_0 7 rfl rfl)
theorem dJ28_getChar_8 : decode cJ28_getChar 8 = .ok (.ireturn, 1) := dk_172 (dk_at dksJ28_getChar_0 8 rfl rfl)
abbrev cJ28_compareToUTF16 : ByteArray := prog_44_method_16_code
def yJ28_compareToUTF16 : MethodName := ⟨RJ28, "compareToUTF16", "([B[B)I"⟩
def dkwJ28_compareToUTF16_0 : List UInt8 := [42, 184, 0, 54, 61, 43, 184, 0, 58, 62, 42, 43, 28, 29, 184, 0, 59, 172]
abbrev dktJ28_compareToUTF16_0 : List UInt8 := dkwJ28_compareToUTF16_0 ++ []
theorem dksJ28_compareToUTF16_0 : cJ28_compareToUTF16.data.toList.drop 0 = dktJ28_compareToUTF16_0 := by decide +kernel
theorem dJ28_compareToUTF16_0 : decode cJ28_compareToUTF16 0 = .ok (.aload_n 0, 1) := dk_42 (dk_at dksJ28_compareToUTF16_0 0 rfl rfl)
theorem dJ28_compareToUTF16_1 : decode cJ28_compareToUTF16 1 = .ok (.invokestatic 54, 3) := dk_184 0 54 (dk_at dksJ28_compareToUTF16_0 1 rfl rfl)
theorem dJ28_compareToUTF16_4 : decode cJ28_compareToUTF16 4 = .ok (.istore_n 2, 1) := dk_61 (dk_at dksJ28_compareToUTF16_0 4 rfl rfl)
theorem dJ28_compareToUTF16_5 : decode cJ28_compareToUTF16 5 = .ok (.aload_n 1, 1) := dk_43 (dk_at dksJ28_compareToUTF16_0 5 rfl rfl)
theorem dJ28_compareToUTF16_6 : decode cJ28_compareToUTF16 6 = .ok (.invokestatic 58, 3) := dk_184 0 58 (dk_at dksJ28_compareToUTF16_0 6 rfl rfl)
theorem dJ28_compareToUTF16_9 : decode cJ28_compareToUTF16 9 = .ok (.istore_n 3, 1) := dk_62 (dk_at dksJ28_compareToUTF16_0 9 rfl rfl)
theorem dJ28_compareToUTF16_10 : decode cJ28_compareToUTF16 10 = .ok (.aload_n 0, 1) := dk_42 (dk_at dksJ28_compareToUTF16_0 10 rfl rfl)
theorem dJ28_compareToUTF16_11 : decode cJ28_compareToUTF16 11 = .ok (.aload_n 1, 1) := dk_43 (dk_at dksJ28_compareToUTF16_0 11 rfl rfl)
theorem dJ28_compareToUTF16_12 : decode cJ28_compareToUTF16 12 = .ok (.iload_n 2, 1) := dk_28 (dk_at dksJ28_compareToUTF16_0 12 rfl rfl)
theorem dJ28_compareToUTF16_13 : decode cJ28_compareToUTF16 13 = .ok (.iload_n 3, 1) := dk_29 (dk_at dksJ28_compareToUTF16_0 13 rfl rfl)
theorem dJ28_compareToUTF16_14 : decode cJ28_compareToUTF16 14 = .ok (.invokestatic 59, 3) := dk_184 0 59 (dk_at dksJ28_compareToUTF16_0 14 rfl rfl)
theorem dJ28_compareToUTF16_17 : decode cJ28_compareToUTF16 17 = .ok (.ireturn, 1) := dk_172 (dk_at dksJ28_compareToUTF16_0 17 rfl rfl)
abbrev cJ28_length : ByteArray := prog_44_method_5_code
def yJ28_length : MethodName := ⟨RJ28, "length", "([B)I"⟩
theorem dJ28_length_0 : decode cJ28_length 0 = .ok (.aload_n 0, 1) := by decide +kernel
theorem dJ28_length_1 : decode cJ28_length 1 = .ok (.arraylength, 1) := by decide +kernel
theorem dJ28_length_2 : decode cJ28_length 2 = .ok (.ireturn, 1) := by decide +kernel
abbrev cJ28_compareToUTF16Values : ByteArray := prog_44_method_18_code
def yJ28_compareToUTF16Values : MethodName := ⟨RJ28, "compareToUTF16Values", "([B[BII)I"⟩
def dkwJ28_compareToUTF16Values_2 : List UInt8 := [132, 5, 1, 167, 255, 217, 28, 29, 100, 172]
abbrev dktJ28_compareToUTF16Values_2 : List UInt8 := dkwJ28_compareToUTF16Values_2 ++ []
def dkwJ28_compareToUTF16Values_1 : List UInt8 := [54, 6, 43, 21, 5, 184, 0, 65, 54, 7, 21, 6, 21, 7, 159, 0, 9, 21, 6, 21, 7, 100, 172]
abbrev dktJ28_compareToUTF16Values_1 : List UInt8 := dkwJ28_compareToUTF16Values_1 ++ dktJ28_compareToUTF16Values_2
def dkwJ28_compareToUTF16Values_0 : List UInt8 := [28, 29, 184, 0, 38, 54, 4, 3, 54, 5, 21, 5, 21, 4, 162, 0, 38, 42, 21, 5, 184, 0, 50]
abbrev dktJ28_compareToUTF16Values_0 : List UInt8 := dkwJ28_compareToUTF16Values_0 ++ dktJ28_compareToUTF16Values_1
theorem dksJ28_compareToUTF16Values_0 : cJ28_compareToUTF16Values.data.toList.drop 0 = dktJ28_compareToUTF16Values_0 := by decide +kernel
theorem dksJ28_compareToUTF16Values_1 : cJ28_compareToUTF16Values.data.toList.drop 23 = dktJ28_compareToUTF16Values_1 := dk_seg dksJ28_compareToUTF16Values_0 23 rfl rfl
theorem dksJ28_compareToUTF16Values_2 : cJ28_compareToUTF16Values.data.toList.drop 46 = dktJ28_compareToUTF16Values_2 := dk_seg dksJ28_compareToUTF16Values_1 23 rfl rfl
theorem dJ28_compareToUTF16Values_0 : decode cJ28_compareToUTF16Values 0 = .ok (.iload_n 2, 1) := dk_28 (dk_at dksJ28_compareToUTF16Values_0 0 rfl rfl)
theorem dJ28_compareToUTF16Values_1 : decode cJ28_compareToUTF16Values 1 = .ok (.iload_n 3, 1) := dk_29 (dk_at dksJ28_compareToUTF16Values_0 1 rfl rfl)
theorem dJ28_compareToUTF16Values_2 : decode cJ28_compareToUTF16Values 2 = .ok (.invokestatic 38, 3) := dk_184 0 38 (dk_at dksJ28_compareToUTF16Values_0 2 rfl rfl)
theorem dJ28_compareToUTF16Values_5 : decode cJ28_compareToUTF16Values 5 = .ok (.istore 4, 2) := dk_54 4 (dk_at dksJ28_compareToUTF16Values_0 5 rfl rfl)
theorem dJ28_compareToUTF16Values_7 : decode cJ28_compareToUTF16Values 7 = .ok (.iconst 0, 1) := dk_3 (dk_at dksJ28_compareToUTF16Values_0 7 rfl rfl)
theorem dJ28_compareToUTF16Values_8 : decode cJ28_compareToUTF16Values 8 = .ok (.istore 5, 2) := dk_54 5 (dk_at dksJ28_compareToUTF16Values_0 8 rfl rfl)
theorem dJ28_compareToUTF16Values_10 : decode cJ28_compareToUTF16Values 10 = .ok (.iload 5, 2) := dk_21 5 (dk_at dksJ28_compareToUTF16Values_0 10 rfl rfl)
theorem dJ28_compareToUTF16Values_12 : decode cJ28_compareToUTF16Values 12 = .ok (.iload 4, 2) := dk_21 4 (dk_at dksJ28_compareToUTF16Values_0 12 rfl rfl)
theorem dJ28_compareToUTF16Values_14 : decode cJ28_compareToUTF16Values 14 = .ok (.if_icmp .ge 38, 3) := dk_162 0 38 (dk_at dksJ28_compareToUTF16Values_0 14 rfl rfl)
theorem dJ28_compareToUTF16Values_17 : decode cJ28_compareToUTF16Values 17 = .ok (.aload_n 0, 1) := dk_42 (dk_at dksJ28_compareToUTF16Values_0 17 rfl rfl)
theorem dJ28_compareToUTF16Values_18 : decode cJ28_compareToUTF16Values 18 = .ok (.iload 5, 2) := dk_21 5 (dk_at dksJ28_compareToUTF16Values_0 18 rfl rfl)
theorem dJ28_compareToUTF16Values_20 : decode cJ28_compareToUTF16Values 20 = .ok (.invokestatic 50, 3) := dk_184 0 50 (dk_at dksJ28_compareToUTF16Values_0 20 rfl rfl)
theorem dJ28_compareToUTF16Values_23 : decode cJ28_compareToUTF16Values 23 = .ok (.istore 6, 2) := dk_54 6 (dk_at dksJ28_compareToUTF16Values_1 0 rfl rfl)
theorem dJ28_compareToUTF16Values_25 : decode cJ28_compareToUTF16Values 25 = .ok (.aload_n 1, 1) := dk_43 (dk_at dksJ28_compareToUTF16Values_1 2 rfl rfl)
theorem dJ28_compareToUTF16Values_26 : decode cJ28_compareToUTF16Values 26 = .ok (.iload 5, 2) := dk_21 5 (dk_at dksJ28_compareToUTF16Values_1 3 rfl rfl)
theorem dJ28_compareToUTF16Values_28 : decode cJ28_compareToUTF16Values 28 = .ok (.invokestatic 65, 3) := dk_184 0 65 (dk_at dksJ28_compareToUTF16Values_1 5 rfl rfl)
theorem dJ28_compareToUTF16Values_31 : decode cJ28_compareToUTF16Values 31 = .ok (.istore 7, 2) := dk_54 7 (dk_at dksJ28_compareToUTF16Values_1 8 rfl rfl)
theorem dJ28_compareToUTF16Values_33 : decode cJ28_compareToUTF16Values 33 = .ok (.iload 6, 2) := dk_21 6 (dk_at dksJ28_compareToUTF16Values_1 10 rfl rfl)
theorem dJ28_compareToUTF16Values_35 : decode cJ28_compareToUTF16Values 35 = .ok (.iload 7, 2) := dk_21 7 (dk_at dksJ28_compareToUTF16Values_1 12 rfl rfl)
theorem dJ28_compareToUTF16Values_37 : decode cJ28_compareToUTF16Values 37 = .ok (.if_icmp .eq 9, 3) := dk_159 0 9 (dk_at dksJ28_compareToUTF16Values_1 14 rfl rfl)
theorem dJ28_compareToUTF16Values_40 : decode cJ28_compareToUTF16Values 40 = .ok (.iload 6, 2) := dk_21 6 (dk_at dksJ28_compareToUTF16Values_1 17 rfl rfl)
theorem dJ28_compareToUTF16Values_42 : decode cJ28_compareToUTF16Values 42 = .ok (.iload 7, 2) := dk_21 7 (dk_at dksJ28_compareToUTF16Values_1 19 rfl rfl)
theorem dJ28_compareToUTF16Values_44 : decode cJ28_compareToUTF16Values 44 = .ok (.isub, 1) := dk_100 (dk_at dksJ28_compareToUTF16Values_1 21 rfl rfl)
theorem dJ28_compareToUTF16Values_45 : decode cJ28_compareToUTF16Values 45 = .ok (.ireturn, 1) := dk_172 (dk_at dksJ28_compareToUTF16Values_1 22 rfl rfl)
theorem dJ28_compareToUTF16Values_46 : decode cJ28_compareToUTF16Values 46 = .ok (.iinc 5 1, 3) := dk_132 5 1 (dk_at dksJ28_compareToUTF16Values_2 0 rfl rfl)
theorem dJ28_compareToUTF16Values_49 : decode cJ28_compareToUTF16Values 49 = .ok (.goto (-39), 3) := dk_167 255 217 (dk_at dksJ28_compareToUTF16Values_2 3 rfl rfl)
theorem dJ28_compareToUTF16Values_52 : decode cJ28_compareToUTF16Values 52 = .ok (.iload_n 2, 1) := dk_28 (dk_at dksJ28_compareToUTF16Values_2 6 rfl rfl)
theorem dJ28_compareToUTF16Values_53 : decode cJ28_compareToUTF16Values 53 = .ok (.iload_n 3, 1) := dk_29 (dk_at dksJ28_compareToUTF16Values_2 7 rfl rfl)
theorem dJ28_compareToUTF16Values_54 : decode cJ28_compareToUTF16Values 54 = .ok (.isub, 1) := dk_100 (dk_at dksJ28_compareToUTF16Values_2 8 rfl rfl)
theorem dJ28_compareToUTF16Values_55 : decode cJ28_compareToUTF16Values 55 = .ok (.ireturn, 1) := dk_172 (dk_at dksJ28_compareToUTF16Values_2 9 rfl rfl)
abbrev cJ28_compareToUTF16_2 : ByteArray := prog_44_method_17_code
def yJ28_compareToUTF16_2 : MethodName := ⟨RJ28, "compareToUTF16", "([B[BII)I"⟩
def dkwJ28_compareToUTF16_2_0 : List UInt8 := [28, 42, 184, 0, 54, 184, 0, 62, 29, 43, 184, 0, 58, 184, 0, 62, 42, 43, 28, 29, 184, 0, 59, 172]
abbrev dktJ28_compareToUTF16_2_0 : List UInt8 := dkwJ28_compareToUTF16_2_0 ++ []
theorem dksJ28_compareToUTF16_2_0 : cJ28_compareToUTF16_2.data.toList.drop 0 = dktJ28_compareToUTF16_2_0 := by decide +kernel
theorem dJ28_compareToUTF16_2_0 : decode cJ28_compareToUTF16_2 0 = .ok (.iload_n 2, 1) := dk_28 (dk_at dksJ28_compareToUTF16_2_0 0 rfl rfl)
theorem dJ28_compareToUTF16_2_1 : decode cJ28_compareToUTF16_2 1 = .ok (.aload_n 0, 1) := dk_42 (dk_at dksJ28_compareToUTF16_2_0 1 rfl rfl)
theorem dJ28_compareToUTF16_2_2 : decode cJ28_compareToUTF16_2 2 = .ok (.invokestatic 54, 3) := dk_184 0 54 (dk_at dksJ28_compareToUTF16_2_0 2 rfl rfl)
theorem dJ28_compareToUTF16_2_5 : decode cJ28_compareToUTF16_2 5 = .ok (.invokestatic 62, 3) := dk_184 0 62 (dk_at dksJ28_compareToUTF16_2_0 5 rfl rfl)
theorem dJ28_compareToUTF16_2_8 : decode cJ28_compareToUTF16_2 8 = .ok (.iload_n 3, 1) := dk_29 (dk_at dksJ28_compareToUTF16_2_0 8 rfl rfl)
theorem dJ28_compareToUTF16_2_9 : decode cJ28_compareToUTF16_2 9 = .ok (.aload_n 1, 1) := dk_43 (dk_at dksJ28_compareToUTF16_2_0 9 rfl rfl)
theorem dJ28_compareToUTF16_2_10 : decode cJ28_compareToUTF16_2 10 = .ok (.invokestatic 58, 3) := dk_184 0 58 (dk_at dksJ28_compareToUTF16_2_0 10 rfl rfl)
theorem dJ28_compareToUTF16_2_13 : decode cJ28_compareToUTF16_2 13 = .ok (.invokestatic 62, 3) := dk_184 0 62 (dk_at dksJ28_compareToUTF16_2_0 13 rfl rfl)
theorem dJ28_compareToUTF16_2_16 : decode cJ28_compareToUTF16_2 16 = .ok (.aload_n 0, 1) := dk_42 (dk_at dksJ28_compareToUTF16_2_0 16 rfl rfl)
theorem dJ28_compareToUTF16_2_17 : decode cJ28_compareToUTF16_2 17 = .ok (.aload_n 1, 1) := dk_43 (dk_at dksJ28_compareToUTF16_2_0 17 rfl rfl)
theorem dJ28_compareToUTF16_2_18 : decode cJ28_compareToUTF16_2 18 = .ok (.iload_n 2, 1) := dk_28 (dk_at dksJ28_compareToUTF16_2_0 18 rfl rfl)
theorem dJ28_compareToUTF16_2_19 : decode cJ28_compareToUTF16_2 19 = .ok (.iload_n 3, 1) := dk_29 (dk_at dksJ28_compareToUTF16_2_0 19 rfl rfl)
theorem dJ28_compareToUTF16_2_20 : decode cJ28_compareToUTF16_2 20 = .ok (.invokestatic 59, 3) := dk_184 0 59 (dk_at dksJ28_compareToUTF16_2_0 20 rfl rfl)
theorem dJ28_compareToUTF16_2_23 : decode cJ28_compareToUTF16_2 23 = .ok (.ireturn, 1) := dk_172 (dk_at dksJ28_compareToUTF16_2_0 23 rfl rfl)
abbrev cJ28_hashCode : ByteArray := prog_44_method_21_code
def yJ28_hashCode : MethodName := ⟨RJ28, "hashCode", "([B)I"⟩
def dkwJ28_hashCode_2 : List UInt8 := [3, 167, 0, 22, 42, 3, 51, 17, 0, 255, 126, 167, 0, 12, 42, 3, 42, 190, 3, 7, 184, 0, 84, 172]
abbrev dktJ28_hashCode_2 : List UInt8 := dkwJ28_hashCode_2 ++ []
def dkwJ28_hashCode_1 : List UInt8 := [171, 0, 0, 0, 0, 40, 0, 0, 0, 2, 0, 0, 0, 0, 0, 0, 0, 26, 0, 0, 0, 1, 0, 0, 0, 30]
abbrev dktJ28_hashCode_1 : List UInt8 := dkwJ28_hashCode_1 ++ dktJ28_hashCode_2
def dkwJ28_hashCode_0 : List UInt8 := [42, 190]
abbrev dktJ28_hashCode_0 : List UInt8 := dkwJ28_hashCode_0 ++ dktJ28_hashCode_1
theorem dksJ28_hashCode_0 : cJ28_hashCode.data.toList.drop 0 = dktJ28_hashCode_0 := by decide +kernel
theorem dksJ28_hashCode_1 : cJ28_hashCode.data.toList.drop 2 = dktJ28_hashCode_1 := dk_seg dksJ28_hashCode_0 2 rfl rfl
theorem dksJ28_hashCode_2 : cJ28_hashCode.data.toList.drop 28 = dktJ28_hashCode_2 := dk_seg dksJ28_hashCode_1 26 rfl rfl
theorem dJ28_hashCode_0 : decode cJ28_hashCode 0 = .ok (.aload_n 0, 1) := dk_42 (dk_at dksJ28_hashCode_0 0 rfl rfl)
theorem dJ28_hashCode_1 : decode cJ28_hashCode 1 = .ok (.arraylength, 1) := dk_190 (dk_at dksJ28_hashCode_0 1 rfl rfl)
theorem dJ28_hashCode_2 : decode cJ28_hashCode 2 = .ok (.lookupswitch 40 #[(0, 26), (1, 30)], 26) := by decide +kernel
theorem dJ28_hashCode_28 : decode cJ28_hashCode 28 = .ok (.iconst 0, 1) := dk_3 (dk_at dksJ28_hashCode_2 0 rfl rfl)
theorem dJ28_hashCode_29 : decode cJ28_hashCode 29 = .ok (.goto 22, 3) := dk_167 0 22 (dk_at dksJ28_hashCode_2 1 rfl rfl)
theorem dJ28_hashCode_32 : decode cJ28_hashCode 32 = .ok (.aload_n 0, 1) := dk_42 (dk_at dksJ28_hashCode_2 4 rfl rfl)
theorem dJ28_hashCode_33 : decode cJ28_hashCode 33 = .ok (.iconst 0, 1) := dk_3 (dk_at dksJ28_hashCode_2 5 rfl rfl)
theorem dJ28_hashCode_34 : decode cJ28_hashCode 34 = .ok (.baload, 1) := dk_51 (dk_at dksJ28_hashCode_2 6 rfl rfl)
theorem dJ28_hashCode_35 : decode cJ28_hashCode 35 = .ok (.sipush 255, 3) := dk_17 0 255 (dk_at dksJ28_hashCode_2 7 rfl rfl)
theorem dJ28_hashCode_38 : decode cJ28_hashCode 38 = .ok (.iand, 1) := dk_126 (dk_at dksJ28_hashCode_2 10 rfl rfl)
theorem dJ28_hashCode_39 : decode cJ28_hashCode 39 = .ok (.goto 12, 3) := dk_167 0 12 (dk_at dksJ28_hashCode_2 11 rfl rfl)
theorem dJ28_hashCode_42 : decode cJ28_hashCode 42 = .ok (.aload_n 0, 1) := dk_42 (dk_at dksJ28_hashCode_2 14 rfl rfl)
theorem dJ28_hashCode_43 : decode cJ28_hashCode 43 = .ok (.iconst 0, 1) := dk_3 (dk_at dksJ28_hashCode_2 15 rfl rfl)
theorem dJ28_hashCode_44 : decode cJ28_hashCode 44 = .ok (.aload_n 0, 1) := dk_42 (dk_at dksJ28_hashCode_2 16 rfl rfl)
theorem dJ28_hashCode_45 : decode cJ28_hashCode 45 = .ok (.arraylength, 1) := dk_190 (dk_at dksJ28_hashCode_2 17 rfl rfl)
theorem dJ28_hashCode_46 : decode cJ28_hashCode 46 = .ok (.iconst 0, 1) := dk_3 (dk_at dksJ28_hashCode_2 18 rfl rfl)
theorem dJ28_hashCode_47 : decode cJ28_hashCode 47 = .ok (.iconst 4, 1) := dk_7 (dk_at dksJ28_hashCode_2 19 rfl rfl)
theorem dJ28_hashCode_48 : decode cJ28_hashCode 48 = .ok (.invokestatic 84, 3) := dk_184 0 84 (dk_at dksJ28_hashCode_2 20 rfl rfl)
theorem dJ28_hashCode_51 : decode cJ28_hashCode 51 = .ok (.ireturn, 1) := dk_172 (dk_at dksJ28_hashCode_2 23 rfl rfl)
abbrev cJ28_equals : ByteArray := prog_44_method_13_code
def yJ28_equals : MethodName := ⟨RJ28, "equals", "([B[B)Z"⟩
def dkwJ28_equals_1 : List UInt8 := [3, 172, 132, 2, 1, 167, 255, 236, 4, 172, 3, 172]
abbrev dktJ28_equals_1 : List UInt8 := dkwJ28_equals_1 ++ []
def dkwJ28_equals_0 : List UInt8 := [42, 190, 43, 190, 160, 0, 30, 3, 61, 28, 42, 190, 162, 0, 20, 42, 28, 51, 43, 28, 51, 159, 0, 5]
abbrev dktJ28_equals_0 : List UInt8 := dkwJ28_equals_0 ++ dktJ28_equals_1
theorem dksJ28_equals_0 : cJ28_equals.data.toList.drop 0 = dktJ28_equals_0 := by decide +kernel
theorem dksJ28_equals_1 : cJ28_equals.data.toList.drop 24 = dktJ28_equals_1 := dk_seg dksJ28_equals_0 24 rfl rfl
theorem dJ28_equals_0 : decode cJ28_equals 0 = .ok (.aload_n 0, 1) := dk_42 (dk_at dksJ28_equals_0 0 rfl rfl)
theorem dJ28_equals_1 : decode cJ28_equals 1 = .ok (.arraylength, 1) := dk_190 (dk_at dksJ28_equals_0 1 rfl rfl)
theorem dJ28_equals_2 : decode cJ28_equals 2 = .ok (.aload_n 1, 1) := dk_43 (dk_at dksJ28_equals_0 2 rfl rfl)
theorem dJ28_equals_3 : decode cJ28_equals 3 = .ok (.arraylength, 1) := dk_190 (dk_at dksJ28_equals_0 3 rfl rfl)
theorem dJ28_equals_4 : decode cJ28_equals 4 = .ok (.if_icmp .ne 30, 3) := dk_160 0 30 (dk_at dksJ28_equals_0 4 rfl rfl)
theorem dJ28_equals_7 : decode cJ28_equals 7 = .ok (.iconst 0, 1) := dk_3 (dk_at dksJ28_equals_0 7 rfl rfl)
theorem dJ28_equals_8 : decode cJ28_equals 8 = .ok (.istore_n 2, 1) := dk_61 (dk_at dksJ28_equals_0 8 rfl rfl)
theorem dJ28_equals_9 : decode cJ28_equals 9 = .ok (.iload_n 2, 1) := dk_28 (dk_at dksJ28_equals_0 9 rfl rfl)
theorem dJ28_equals_10 : decode cJ28_equals 10 = .ok (.aload_n 0, 1) := dk_42 (dk_at dksJ28_equals_0 10 rfl rfl)
theorem dJ28_equals_11 : decode cJ28_equals 11 = .ok (.arraylength, 1) := dk_190 (dk_at dksJ28_equals_0 11 rfl rfl)
theorem dJ28_equals_12 : decode cJ28_equals 12 = .ok (.if_icmp .ge 20, 3) := dk_162 0 20 (dk_at dksJ28_equals_0 12 rfl rfl)
theorem dJ28_equals_15 : decode cJ28_equals 15 = .ok (.aload_n 0, 1) := dk_42 (dk_at dksJ28_equals_0 15 rfl rfl)
theorem dJ28_equals_16 : decode cJ28_equals 16 = .ok (.iload_n 2, 1) := dk_28 (dk_at dksJ28_equals_0 16 rfl rfl)
theorem dJ28_equals_17 : decode cJ28_equals 17 = .ok (.baload, 1) := dk_51 (dk_at dksJ28_equals_0 17 rfl rfl)
theorem dJ28_equals_18 : decode cJ28_equals 18 = .ok (.aload_n 1, 1) := dk_43 (dk_at dksJ28_equals_0 18 rfl rfl)
theorem dJ28_equals_19 : decode cJ28_equals 19 = .ok (.iload_n 2, 1) := dk_28 (dk_at dksJ28_equals_0 19 rfl rfl)
theorem dJ28_equals_20 : decode cJ28_equals 20 = .ok (.baload, 1) := dk_51 (dk_at dksJ28_equals_0 20 rfl rfl)
theorem dJ28_equals_21 : decode cJ28_equals 21 = .ok (.if_icmp .eq 5, 3) := dk_159 0 5 (dk_at dksJ28_equals_0 21 rfl rfl)
theorem dJ28_equals_24 : decode cJ28_equals 24 = .ok (.iconst 0, 1) := dk_3 (dk_at dksJ28_equals_1 0 rfl rfl)
theorem dJ28_equals_25 : decode cJ28_equals 25 = .ok (.ireturn, 1) := dk_172 (dk_at dksJ28_equals_1 1 rfl rfl)
theorem dJ28_equals_26 : decode cJ28_equals 26 = .ok (.iinc 2 1, 3) := dk_132 2 1 (dk_at dksJ28_equals_1 2 rfl rfl)
theorem dJ28_equals_29 : decode cJ28_equals 29 = .ok (.goto (-20), 3) := dk_167 255 236 (dk_at dksJ28_equals_1 5 rfl rfl)
theorem dJ28_equals_32 : decode cJ28_equals 32 = .ok (.iconst 1, 1) := dk_4 (dk_at dksJ28_equals_1 8 rfl rfl)
theorem dJ28_equals_33 : decode cJ28_equals 33 = .ok (.ireturn, 1) := dk_172 (dk_at dksJ28_equals_1 9 rfl rfl)
theorem dJ28_equals_34 : decode cJ28_equals 34 = .ok (.iconst 0, 1) := dk_3 (dk_at dksJ28_equals_1 10 rfl rfl)
theorem dJ28_equals_35 : decode cJ28_equals 35 = .ok (.ireturn, 1) := dk_172 (dk_at dksJ28_equals_1 11 rfl rfl)
abbrev cJ28_fillNull : ByteArray := prog_44_method_48_code
def yJ28_fillNull : MethodName := ⟨RJ28, "fillNull", "([BII)V"⟩
def dkwJ28_fillNull_0 : List UInt8 := [42, 27, 28, 3, 184, 0, 236, 177]
abbrev dktJ28_fillNull_0 : List UInt8 := dkwJ28_fillNull_0 ++ []
theorem dksJ28_fillNull_0 : cJ28_fillNull.data.toList.drop 0 = dktJ28_fillNull_0 := by decide +kernel
theorem dJ28_fillNull_0 : decode cJ28_fillNull 0 = .ok (.aload_n 0, 1) := dk_42 (dk_at dksJ28_fillNull_0 0 rfl rfl)
theorem dJ28_fillNull_1 : decode cJ28_fillNull 1 = .ok (.iload_n 1, 1) := dk_27 (dk_at dksJ28_fillNull_0 1 rfl rfl)
theorem dJ28_fillNull_2 : decode cJ28_fillNull 2 = .ok (.iload_n 2, 1) := dk_28 (dk_at dksJ28_fillNull_0 2 rfl rfl)
theorem dJ28_fillNull_3 : decode cJ28_fillNull 3 = .ok (.iconst 0, 1) := dk_3 (dk_at dksJ28_fillNull_0 3 rfl rfl)
theorem dJ28_fillNull_4 : decode cJ28_fillNull 4 = .ok (.invokestatic 236, 3) := dk_184 0 236 (dk_at dksJ28_fillNull_0 4 rfl rfl)
theorem dJ28_fillNull_7 : decode cJ28_fillNull 7 = .ok (.return_, 1) := dk_177 (dk_at dksJ28_fillNull_0 7 rfl rfl)
abbrev cJ28_canEncode : ByteArray := prog_44_method_3_code
def yJ28_canEncode : MethodName := ⟨RJ28, "canEncode", "(C)Z"⟩
def dkwJ28_canEncode_0 : List UInt8 := [26, 17, 0, 255, 163, 0, 7, 4, 167, 0, 4, 3, 172]
abbrev dktJ28_canEncode_0 : List UInt8 := dkwJ28_canEncode_0 ++ []
theorem dksJ28_canEncode_0 : cJ28_canEncode.data.toList.drop 0 = dktJ28_canEncode_0 := by decide +kernel
theorem dJ28_canEncode_0 : decode cJ28_canEncode 0 = .ok (.iload_n 0, 1) := dk_26 (dk_at dksJ28_canEncode_0 0 rfl rfl)
theorem dJ28_canEncode_1 : decode cJ28_canEncode 1 = .ok (.sipush 255, 3) := dk_17 0 255 (dk_at dksJ28_canEncode_0 1 rfl rfl)
theorem dJ28_canEncode_4 : decode cJ28_canEncode 4 = .ok (.if_icmp .gt 7, 3) := dk_163 0 7 (dk_at dksJ28_canEncode_0 4 rfl rfl)
theorem dJ28_canEncode_7 : decode cJ28_canEncode 7 = .ok (.iconst 1, 1) := dk_4 (dk_at dksJ28_canEncode_0 7 rfl rfl)
theorem dJ28_canEncode_8 : decode cJ28_canEncode 8 = .ok (.goto 4, 3) := dk_167 0 4 (dk_at dksJ28_canEncode_0 8 rfl rfl)
theorem dJ28_canEncode_11 : decode cJ28_canEncode 11 = .ok (.iconst 0, 1) := dk_3 (dk_at dksJ28_canEncode_0 11 rfl rfl)
theorem dJ28_canEncode_12 : decode cJ28_canEncode 12 = .ok (.ireturn, 1) := dk_172 (dk_at dksJ28_canEncode_0 12 rfl rfl)
abbrev cJ28_charAt : ByteArray := prog_44_method_2_code
def yJ28_charAt : MethodName := ⟨RJ28, "charAt", "([BI)C"⟩
def dkwJ28_charAt_0 : List UInt8 := [27, 42, 190, 184, 0, 9, 42, 27, 51, 17, 0, 255, 126, 146, 172]
abbrev dktJ28_charAt_0 : List UInt8 := dkwJ28_charAt_0 ++ []
theorem dksJ28_charAt_0 : cJ28_charAt.data.toList.drop 0 = dktJ28_charAt_0 := by decide +kernel
theorem dJ28_charAt_0 : decode cJ28_charAt 0 = .ok (.iload_n 1, 1) := dk_27 (dk_at dksJ28_charAt_0 0 rfl rfl)
theorem dJ28_charAt_1 : decode cJ28_charAt 1 = .ok (.aload_n 0, 1) := dk_42 (dk_at dksJ28_charAt_0 1 rfl rfl)
theorem dJ28_charAt_2 : decode cJ28_charAt 2 = .ok (.arraylength, 1) := dk_190 (dk_at dksJ28_charAt_0 2 rfl rfl)
theorem dJ28_charAt_3 : decode cJ28_charAt 3 = .ok (.invokestatic 9, 3) := dk_184 0 9 (dk_at dksJ28_charAt_0 3 rfl rfl)
theorem dJ28_charAt_6 : decode cJ28_charAt 6 = .ok (.aload_n 0, 1) := dk_42 (dk_at dksJ28_charAt_0 6 rfl rfl)
theorem dJ28_charAt_7 : decode cJ28_charAt 7 = .ok (.iload_n 1, 1) := dk_27 (dk_at dksJ28_charAt_0 7 rfl rfl)
theorem dJ28_charAt_8 : decode cJ28_charAt 8 = .ok (.baload, 1) := dk_51 (dk_at dksJ28_charAt_0 8 rfl rfl)
theorem dJ28_charAt_9 : decode cJ28_charAt 9 = .ok (.sipush 255, 3) := dk_17 0 255 (dk_at dksJ28_charAt_0 9 rfl rfl)
theorem dJ28_charAt_12 : decode cJ28_charAt 12 = .ok (.iand, 1) := dk_126 (dk_at dksJ28_charAt_0 12 rfl rfl)
theorem dJ28_charAt_13 : decode cJ28_charAt 13 = .ok (.i2c, 1) := dk_146 (dk_at dksJ28_charAt_0 13 rfl rfl)
theorem dJ28_charAt_14 : decode cJ28_charAt 14 = .ok (.ireturn, 1) := dk_172 (dk_at dksJ28_charAt_0 14 rfl rfl)
theorem q134 : (Jvm.Cond.initialized "java/lang/StringLatin1") ∈ lw_all := lw_g (lw_at lw_m1 35 rfl) rfl
theorem q970 : (Jvm.Cond.static ({ cls := "java/lang/StringLatin1", name := "inflate", desc := "([BI[BII)V" } : Jvm.MethodName)) ∈ lw_all := lw_g (lw_at lw_m4 151 rfl) rfl
theorem q971 : (Jvm.Cond.code ({ cls := "java/lang/StringLatin1", name := "inflate", desc := "([BI[BII)V" } : Jvm.MethodName) prog_44_method_50_code (5 : Nat) (Option.none : Option Jvm.ClassFile.FieldType)) ∈ lw_all := lw_g (lw_at lw_m4 152 rfl) rfl
theorem q972 : (Jvm.Cond.methodLink "java/lang/StringLatin1" (240 : Nat) ({ cls := "java/lang/StringUTF16", name := "inflate", desc := "([BI[BII)V" } : Jvm.MethodName)) ∈ lw_all := lw_g (lw_at lw_m4 153 rfl) rfl
theorem q1567 : (Jvm.Cond.static ({ cls := "java/lang/StringLatin1", name := "compareTo", desc := "([B[B)I" } : Jvm.MethodName)) ∈ lw_all := lw_g (lw_at lw_m7 28 rfl) rfl
theorem q1568 : (Jvm.Cond.code ({ cls := "java/lang/StringLatin1", name := "compareTo", desc := "([B[B)I" } : Jvm.MethodName) prog_44_method_14_code (4 : Nat) (Option.some Jvm.ClassFile.FieldType.int)) ∈ lw_all := lw_g (lw_at lw_m7 29 rfl) rfl
theorem q1569 : (Jvm.Cond.methodLink "java/lang/StringLatin1" (34 : Nat) ({ cls := "java/lang/StringLatin1", name := "compareTo", desc := "([B[BII)I" } : Jvm.MethodName)) ∈ lw_all := lw_g (lw_at lw_m7 30 rfl) rfl
theorem q1570 : (Jvm.Cond.static ({ cls := "java/lang/StringLatin1", name := "compareTo", desc := "([B[BII)I" } : Jvm.MethodName)) ∈ lw_all := lw_g (lw_at lw_m7 31 rfl) rfl
theorem q1571 : (Jvm.Cond.code ({ cls := "java/lang/StringLatin1", name := "compareTo", desc := "([B[BII)I" } : Jvm.MethodName) prog_44_method_15_code (6 : Nat) (Option.some Jvm.ClassFile.FieldType.int)) ∈ lw_all := lw_g (lw_at lw_m7 32 rfl) rfl
theorem q1572 : (Jvm.Cond.methodLink "java/lang/StringLatin1" (38 : Nat) ({ cls := "java/lang/Math", name := "min", desc := "(II)I" } : Jvm.MethodName)) ∈ lw_all := lw_g (lw_at lw_m7 33 rfl) rfl
theorem q1573 : (Jvm.Cond.methodLink "java/lang/StringLatin1" (44 : Nat) ({ cls := "jdk/internal/util/ArraysSupport", name := "mismatch", desc := "([B[BI)I" } : Jvm.MethodName)) ∈ lw_all := lw_g (lw_at lw_m7 34 rfl) rfl
theorem q1669 : (Jvm.Cond.methodLink "java/lang/StringLatin1" (50 : Nat) ({ cls := "java/lang/StringLatin1", name := "getChar", desc := "([BI)C" } : Jvm.MethodName)) ∈ lw_all := lw_g (lw_at lw_m7 130 rfl) rfl
theorem q1670 : (Jvm.Cond.static ({ cls := "java/lang/StringLatin1", name := "getChar", desc := "([BI)C" } : Jvm.MethodName)) ∈ lw_all := lw_g (lw_at lw_m7 131 rfl) rfl
theorem q1671 : (Jvm.Cond.code ({ cls := "java/lang/StringLatin1", name := "getChar", desc := "([BI)C" } : Jvm.MethodName) prog_44_method_44_code (2 : Nat) (Option.some Jvm.ClassFile.FieldType.char)) ∈ lw_all := lw_g (lw_at lw_m7 132 rfl) rfl
theorem q1680 : (Jvm.Cond.static ({ cls := "java/lang/StringLatin1", name := "compareToUTF16", desc := "([B[B)I" } : Jvm.MethodName)) ∈ lw_all := lw_g (lw_at lw_m7 141 rfl) rfl
theorem q1681 : (Jvm.Cond.code ({ cls := "java/lang/StringLatin1", name := "compareToUTF16", desc := "([B[B)I" } : Jvm.MethodName) prog_44_method_16_code (4 : Nat) (Option.some Jvm.ClassFile.FieldType.int)) ∈ lw_all := lw_g (lw_at lw_m7 142 rfl) rfl
theorem q1682 : (Jvm.Cond.methodLink "java/lang/StringLatin1" (54 : Nat) ({ cls := "java/lang/StringLatin1", name := "length", desc := "([B)I" } : Jvm.MethodName)) ∈ lw_all := lw_g (lw_at lw_m7 143 rfl) rfl
theorem q1683 : (Jvm.Cond.static ({ cls := "java/lang/StringLatin1", name := "length", desc := "([B)I" } : Jvm.MethodName)) ∈ lw_all := lw_g (lw_at lw_m7 144 rfl) rfl
theorem q1684 : (Jvm.Cond.code ({ cls := "java/lang/StringLatin1", name := "length", desc := "([B)I" } : Jvm.MethodName) prog_44_method_5_code (1 : Nat) (Option.some Jvm.ClassFile.FieldType.int)) ∈ lw_all := lw_g (lw_at lw_m7 145 rfl) rfl
theorem q1685 : (Jvm.Cond.methodLink "java/lang/StringLatin1" (58 : Nat) ({ cls := "java/lang/StringUTF16", name := "length", desc := "([B)I" } : Jvm.MethodName)) ∈ lw_all := lw_g (lw_at lw_m7 146 rfl) rfl
theorem q1686 : (Jvm.Cond.methodLink "java/lang/StringLatin1" (59 : Nat) ({ cls := "java/lang/StringLatin1", name := "compareToUTF16Values", desc := "([B[BII)I" } : Jvm.MethodName)) ∈ lw_all := lw_g (lw_at lw_m7 147 rfl) rfl
theorem q1687 : (Jvm.Cond.static ({ cls := "java/lang/StringLatin1", name := "compareToUTF16Values", desc := "([B[BII)I" } : Jvm.MethodName)) ∈ lw_all := lw_g (lw_at lw_m7 148 rfl) rfl
theorem q1688 : (Jvm.Cond.code ({ cls := "java/lang/StringLatin1", name := "compareToUTF16Values", desc := "([B[BII)I" } : Jvm.MethodName) prog_44_method_18_code (8 : Nat) (Option.some Jvm.ClassFile.FieldType.int)) ∈ lw_all := lw_g (lw_at lw_m7 149 rfl) rfl
theorem q1689 : (Jvm.Cond.methodLink "java/lang/StringLatin1" (65 : Nat) ({ cls := "java/lang/StringUTF16", name := "getChar", desc := "([BI)C" } : Jvm.MethodName)) ∈ lw_all := lw_g (lw_at lw_m7 150 rfl) rfl
theorem q1719 : (Jvm.Cond.static ({ cls := "java/lang/StringLatin1", name := "compareToUTF16", desc := "([B[BII)I" } : Jvm.MethodName)) ∈ lw_all := lw_g (lw_at lw_m7 180 rfl) rfl
theorem q1720 : (Jvm.Cond.code ({ cls := "java/lang/StringLatin1", name := "compareToUTF16", desc := "([B[BII)I" } : Jvm.MethodName) prog_44_method_17_code (4 : Nat) (Option.some Jvm.ClassFile.FieldType.int)) ∈ lw_all := lw_g (lw_at lw_m7 181 rfl) rfl
theorem q1721 : (Jvm.Cond.methodLink "java/lang/StringLatin1" (62 : Nat) ({ cls := "java/lang/String", name := "checkOffset", desc := "(II)V" } : Jvm.MethodName)) ∈ lw_all := lw_g (lw_at lw_m7 182 rfl) rfl
theorem q1833 : (Jvm.Cond.static ({ cls := "java/lang/StringLatin1", name := "hashCode", desc := "([B)I" } : Jvm.MethodName)) ∈ lw_all := lw_g (lw_at lw_m8 54 rfl) rfl
theorem q1834 : (Jvm.Cond.code ({ cls := "java/lang/StringLatin1", name := "hashCode", desc := "([B)I" } : Jvm.MethodName) prog_44_method_21_code (1 : Nat) (Option.some Jvm.ClassFile.FieldType.int)) ∈ lw_all := lw_g (lw_at lw_m8 55 rfl) rfl
theorem q1835 : (Jvm.Cond.methodLink "java/lang/StringLatin1" (84 : Nat) ({ cls := "jdk/internal/util/ArraysSupport", name := "vectorizedHashCode", desc := "(Ljava/lang/Object;IIII)I" } : Jvm.MethodName)) ∈ lw_all := lw_g (lw_at lw_m8 56 rfl) rfl
theorem q1938 : (Jvm.Cond.static ({ cls := "java/lang/StringLatin1", name := "equals", desc := "([B[B)Z" } : Jvm.MethodName)) ∈ lw_all := lw_g (lw_at lw_m8 159 rfl) rfl
theorem q1939 : (Jvm.Cond.code ({ cls := "java/lang/StringLatin1", name := "equals", desc := "([B[B)Z" } : Jvm.MethodName) prog_44_method_13_code (3 : Nat) (Option.some Jvm.ClassFile.FieldType.boolean)) ∈ lw_all := lw_g (lw_at lw_m8 160 rfl) rfl
theorem q2695 : (Jvm.Cond.static ({ cls := "java/lang/StringLatin1", name := "fillNull", desc := "([BII)V" } : Jvm.MethodName)) ∈ lw_all := lw_g (lw_at lw_m11 196 rfl) rfl
theorem q2696 : (Jvm.Cond.code ({ cls := "java/lang/StringLatin1", name := "fillNull", desc := "([BII)V" } : Jvm.MethodName) prog_44_method_48_code (3 : Nat) (Option.none : Option Jvm.ClassFile.FieldType)) ∈ lw_all := lw_g (lw_at lw_m11 197 rfl) rfl
theorem q2697 : (Jvm.Cond.methodLink "java/lang/StringLatin1" (236 : Nat) ({ cls := "java/util/Arrays", name := "fill", desc := "([BIIB)V" } : Jvm.MethodName)) ∈ lw_all := lw_g (lw_at lw_m11 198 rfl) rfl
theorem q3112 : (Jvm.Cond.static ({ cls := "java/lang/StringLatin1", name := "canEncode", desc := "(C)Z" } : Jvm.MethodName)) ∈ lw_all := lw_g (lw_at lw_m13 133 rfl) rfl
theorem q3113 : (Jvm.Cond.code ({ cls := "java/lang/StringLatin1", name := "canEncode", desc := "(C)Z" } : Jvm.MethodName) prog_44_method_3_code (1 : Nat) (Option.some Jvm.ClassFile.FieldType.boolean)) ∈ lw_all := lw_g (lw_at lw_m13 134 rfl) rfl
theorem q3237 : (Jvm.Cond.static ({ cls := "java/lang/StringLatin1", name := "charAt", desc := "([BI)C" } : Jvm.MethodName)) ∈ lw_all := lw_g (lw_at lw_m14 18 rfl) rfl
theorem q3238 : (Jvm.Cond.code ({ cls := "java/lang/StringLatin1", name := "charAt", desc := "([BI)C" } : Jvm.MethodName) prog_44_method_2_code (2 : Nat) (Option.some Jvm.ClassFile.FieldType.char)) ∈ lw_all := lw_g (lw_at lw_m14 19 rfl) rfl
theorem q3239 : (Jvm.Cond.methodLink "java/lang/StringLatin1" (9 : Nat) ({ cls := "java/lang/String", name := "checkIndex", desc := "(II)V" } : Jvm.MethodName)) ∈ lw_all := lw_g (lw_at lw_m14 20 rfl) rfl
/-! java/lang/Number -/
set_option maxRecDepth 100000
def RJ29 : String := "java/lang/Number"
abbrev cJ29_init : ByteArray := prog_37_method_1_code
def yJ29_init : MethodName := ⟨RJ29, "<init>", "()V"⟩
theorem dJ29_init_0 : decode cJ29_init 0 = .ok (.aload_n 0, 1) := by decide +kernel
theorem dJ29_init_1 : decode cJ29_init 1 = .ok (.invokespecial 1, 3) := by decide +kernel
theorem dJ29_init_4 : decode cJ29_init 4 = .ok (.return_, 1) := by decide +kernel
theorem q135 : (Jvm.Cond.initialized "java/lang/Number") ∈ lw_all := lw_g (lw_at lw_m1 36 rfl) rfl
theorem q2542 : (Jvm.Cond.instanceMethod ({ cls := "java/lang/Number", name := "<init>", desc := "()V" } : Jvm.MethodName)) ∈ lw_all := lw_g (lw_at lw_m11 43 rfl) rfl
theorem q2543 : (Jvm.Cond.code ({ cls := "java/lang/Number", name := "<init>", desc := "()V" } : Jvm.MethodName) prog_37_method_1_code (1 : Nat) (Option.none : Option Jvm.ClassFile.FieldType)) ∈ lw_all := lw_g (lw_at lw_m11 44 rfl) rfl
theorem q2544 : (Jvm.Cond.methodLink "java/lang/Number" (1 : Nat) ({ cls := "java/lang/Object", name := "<init>", desc := "()V" } : Jvm.MethodName)) ∈ lw_all := lw_g (lw_at lw_m11 45 rfl) rfl
/-! java/lang/Integer -/
set_option maxRecDepth 100000
def RJ30 : String := "java/lang/Integer"
def TJ30 : u_T := fun k => match k with
  | _ => ("java/lang/Integer", "value", "I", true)
def tyJ30 : Nat → FieldType := fun k => match k with
  | _ => .int
abbrev wsJ300 : List Cond := u_ws RJ30 TJ30 1
theorem nmJ30 : ∀ a, a < 1 → ∀ b, b < 1 → a ≠ b → (TJ30 a).2.1 ≠ (TJ30 b).2.1 := by decide +kernel
theorem tyJ30_ok : ∀ k, k < 1 → parseFieldDescriptor (TJ30 k).2.2.1 = some (tyJ30 k) := by decide +kernel
abbrev cJ30_stringSize : ByteArray := prog_32_method_13_code
def yJ30_stringSize : MethodName := ⟨RJ30, "stringSize", "(I)I"⟩
def dkwJ30_stringSize_1 : List UInt8 := [164, 0, 7, 29, 27, 96, 172, 16, 10, 28, 104, 61, 132, 3, 1, 167, 255, 233, 16, 10, 27, 96, 172]
abbrev dktJ30_stringSize_1 : List UInt8 := dkwJ30_stringSize_1 ++ []
def dkwJ30_stringSize_0 : List UInt8 := [4, 60, 26, 155, 0, 8, 3, 60, 26, 116, 59, 16, 246, 61, 4, 62, 29, 16, 10, 162, 0, 23, 26, 28]
abbrev dktJ30_stringSize_0 : List UInt8 := dkwJ30_stringSize_0 ++ dktJ30_stringSize_1
theorem dksJ30_stringSize_0 : cJ30_stringSize.data.toList.drop 0 = dktJ30_stringSize_0 := by decide +kernel
theorem dksJ30_stringSize_1 : cJ30_stringSize.data.toList.drop 24 = dktJ30_stringSize_1 := dk_seg dksJ30_stringSize_0 24 rfl rfl
theorem dJ30_stringSize_0 : decode cJ30_stringSize 0 = .ok (.iconst 1, 1) := dk_4 (dk_at dksJ30_stringSize_0 0 rfl rfl)
theorem dJ30_stringSize_1 : decode cJ30_stringSize 1 = .ok (.istore_n 1, 1) := dk_60 (dk_at dksJ30_stringSize_0 1 rfl rfl)
theorem dJ30_stringSize_2 : decode cJ30_stringSize 2 = .ok (.iload_n 0, 1) := dk_26 (dk_at dksJ30_stringSize_0 2 rfl rfl)
theorem dJ30_stringSize_3 : decode cJ30_stringSize 3 = .ok (.ifCond .lt 8, 3) := dk_155 0 8 (dk_at dksJ30_stringSize_0 3 rfl rfl)
theorem dJ30_stringSize_6 : decode cJ30_stringSize 6 = .ok (.iconst 0, 1) := dk_3 (dk_at dksJ30_stringSize_0 6 rfl rfl)
theorem dJ30_stringSize_7 : decode cJ30_stringSize 7 = .ok (.istore_n 1, 1) := dk_60 (dk_at dksJ30_stringSize_0 7 rfl rfl)
theorem dJ30_stringSize_8 : decode cJ30_stringSize 8 = .ok (.iload_n 0, 1) := dk_26 (dk_at dksJ30_stringSize_0 8 rfl rfl)
theorem dJ30_stringSize_9 : decode cJ30_stringSize 9 = .ok (.ineg, 1) := dk_116 (dk_at dksJ30_stringSize_0 9 rfl rfl)
theorem dJ30_stringSize_10 : decode cJ30_stringSize 10 = .ok (.istore_n 0, 1) := dk_59 (dk_at dksJ30_stringSize_0 10 rfl rfl)
theorem dJ30_stringSize_11 : decode cJ30_stringSize 11 = .ok (.bipush (-10), 2) := dk_16 246 (dk_at dksJ30_stringSize_0 11 rfl rfl)
theorem dJ30_stringSize_13 : decode cJ30_stringSize 13 = .ok (.istore_n 2, 1) := dk_61 (dk_at dksJ30_stringSize_0 13 rfl rfl)
theorem dJ30_stringSize_14 : decode cJ30_stringSize 14 = .ok (.iconst 1, 1) := dk_4 (dk_at dksJ30_stringSize_0 14 rfl rfl)
theorem dJ30_stringSize_15 : decode cJ30_stringSize 15 = .ok (.istore_n 3, 1) := dk_62 (dk_at dksJ30_stringSize_0 15 rfl rfl)
theorem dJ30_stringSize_16 : decode cJ30_stringSize 16 = .ok (.iload_n 3, 1) := dk_29 (dk_at dksJ30_stringSize_0 16 rfl rfl)
theorem dJ30_stringSize_17 : decode cJ30_stringSize 17 = .ok (.bipush 10, 2) := dk_16 10 (dk_at dksJ30_stringSize_0 17 rfl rfl)
theorem dJ30_stringSize_19 : decode cJ30_stringSize 19 = .ok (.if_icmp .ge 23, 3) := dk_162 0 23 (dk_at dksJ30_stringSize_0 19 rfl rfl)
theorem dJ30_stringSize_22 : decode cJ30_stringSize 22 = .ok (.iload_n 0, 1) := dk_26 (dk_at dksJ30_stringSize_0 22 rfl rfl)
theorem dJ30_stringSize_23 : decode cJ30_stringSize 23 = .ok (.iload_n 2, 1) := dk_28 (dk_at dksJ30_stringSize_0 23 rfl rfl)
theorem dJ30_stringSize_24 : decode cJ30_stringSize 24 = .ok (.if_icmp .le 7, 3) := dk_164 0 7 (dk_at dksJ30_stringSize_1 0 rfl rfl)
theorem dJ30_stringSize_27 : decode cJ30_stringSize 27 = .ok (.iload_n 3, 1) := dk_29 (dk_at dksJ30_stringSize_1 3 rfl rfl)
theorem dJ30_stringSize_28 : decode cJ30_stringSize 28 = .ok (.iload_n 1, 1) := dk_27 (dk_at dksJ30_stringSize_1 4 rfl rfl)
theorem dJ30_stringSize_29 : decode cJ30_stringSize 29 = .ok (.iadd, 1) := dk_96 (dk_at dksJ30_stringSize_1 5 rfl rfl)
theorem dJ30_stringSize_30 : decode cJ30_stringSize 30 = .ok (.ireturn, 1) := dk_172 (dk_at dksJ30_stringSize_1 6 rfl rfl)
theorem dJ30_stringSize_31 : decode cJ30_stringSize 31 = .ok (.bipush 10, 2) := dk_16 10 (dk_at dksJ30_stringSize_1 7 rfl rfl)
theorem dJ30_stringSize_33 : decode cJ30_stringSize 33 = .ok (.iload_n 2, 1) := dk_28 (dk_at dksJ30_stringSize_1 9 rfl rfl)
theorem dJ30_stringSize_34 : decode cJ30_stringSize 34 = .ok (.imul, 1) := dk_104 (dk_at dksJ30_stringSize_1 10 rfl rfl)
theorem dJ30_stringSize_35 : decode cJ30_stringSize 35 = .ok (.istore_n 2, 1) := dk_61 (dk_at dksJ30_stringSize_1 11 rfl rfl)
theorem dJ30_stringSize_36 : decode cJ30_stringSize 36 = .ok (.iinc 3 1, 3) := dk_132 3 1 (dk_at dksJ30_stringSize_1 12 rfl rfl)
theorem dJ30_stringSize_39 : decode cJ30_stringSize 39 = .ok (.goto (-23), 3) := dk_167 255 233 (dk_at dksJ30_stringSize_1 15 rfl rfl)
theorem dJ30_stringSize_42 : decode cJ30_stringSize 42 = .ok (.bipush 10, 2) := dk_16 10 (dk_at dksJ30_stringSize_1 18 rfl rfl)
theorem dJ30_stringSize_44 : decode cJ30_stringSize 44 = .ok (.iload_n 1, 1) := dk_27 (dk_at dksJ30_stringSize_1 20 rfl rfl)
theorem dJ30_stringSize_45 : decode cJ30_stringSize 45 = .ok (.iadd, 1) := dk_96 (dk_at dksJ30_stringSize_1 21 rfl rfl)
theorem dJ30_stringSize_46 : decode cJ30_stringSize 46 = .ok (.ireturn, 1) := dk_172 (dk_at dksJ30_stringSize_1 22 rfl rfl)
abbrev cJ30_getChars : ByteArray := prog_32_method_12_code
def yJ30_getChars : MethodName := ⟨RJ30, "getChars", "(II[B)I"⟩
def dkwJ30_getChars_5 : List UInt8 := [16, 45, 84, 21, 5, 172]
abbrev dktJ30_getChars_5 : List UInt8 := dkwJ30_getChars_5 ++ []
def dkwJ30_getChars_4 : List UInt8 := [132, 5, 255, 21, 5, 178, 0, 87, 26, 116, 51, 84, 21, 6, 153, 0, 12, 44, 132, 5, 255, 21, 5]
abbrev dktJ30_getChars_4 : List UInt8 := dkwJ30_getChars_4 ++ dktJ30_getChars_5
def dkwJ30_getChars_3 : List UInt8 := [167, 255, 209, 44, 132, 5, 255, 21, 5, 178, 0, 83, 26, 116, 51, 84, 26, 16, 247, 162, 0, 16, 44]
abbrev dktJ30_getChars_3 : List UInt8 := dkwJ30_getChars_3 ++ dktJ30_getChars_4
def dkwJ30_getChars_2 : List UInt8 := [21, 5, 178, 0, 83, 21, 4, 51, 84, 44, 132, 5, 255, 21, 5, 178, 0, 87, 21, 4, 51, 84]
abbrev dktJ30_getChars_2 : List UInt8 := dkwJ30_getChars_2 ++ dktJ30_getChars_3
def dkwJ30_getChars_1 : List UInt8 := [16, 156, 163, 0, 47, 26, 16, 100, 108, 62, 29, 16, 100, 104, 26, 100, 54, 4, 29, 59, 44, 132, 5, 255]
abbrev dktJ30_getChars_1 : List UInt8 := dkwJ30_getChars_1 ++ dktJ30_getChars_2
def dkwJ30_getChars_0 : List UInt8 := [27, 54, 5, 26, 156, 0, 7, 4, 167, 0, 4, 3, 54, 6, 21, 6, 154, 0, 6, 26, 116, 59, 26]
abbrev dktJ30_getChars_0 : List UInt8 := dkwJ30_getChars_0 ++ dktJ30_getChars_1
theorem dksJ30_getChars_0 : cJ30_getChars.data.toList.drop 0 = dktJ30_getChars_0 := by decide +kernel
theorem dksJ30_getChars_1 : cJ30_getChars.data.toList.drop 23 = dktJ30_getChars_1 := dk_seg dksJ30_getChars_0 23 rfl rfl
theorem dksJ30_getChars_2 : cJ30_getChars.data.toList.drop 47 = dktJ30_getChars_2 := dk_seg dksJ30_getChars_1 24 rfl rfl
theorem dksJ30_getChars_3 : cJ30_getChars.data.toList.drop 69 = dktJ30_getChars_3 := dk_seg dksJ30_getChars_2 22 rfl rfl
theorem dksJ30_getChars_4 : cJ30_getChars.data.toList.drop 92 = dktJ30_getChars_4 := dk_seg dksJ30_getChars_3 23 rfl rfl
theorem dksJ30_getChars_5 : cJ30_getChars.data.toList.drop 115 = dktJ30_getChars_5 := dk_seg dksJ30_getChars_4 23 rfl rfl
theorem dJ30_getChars_0 : decode cJ30_getChars 0 = .ok (.iload_n 1, 1) := dk_27 (dk_at dksJ30_getChars_0 0 rfl rfl)
theorem dJ30_getChars_1 : decode cJ30_getChars 1 = .ok (.istore 5, 2) := dk_54 5 (dk_at dksJ30_getChars_0 1 rfl rfl)
theorem dJ30_getChars_3 : decode cJ30_getChars 3 = .ok (.iload_n 0, 1) := dk_26 (dk_at dksJ30_getChars_0 3 rfl rfl)
theorem dJ30_getChars_4 : decode cJ30_getChars 4 = .ok (.ifCond .ge 7, 3) := dk_156 0 7 (dk_at dksJ30_getChars_0 4 rfl rfl)
theorem dJ30_getChars_7 : decode cJ30_getChars 7 = .ok (.iconst 1, 1) := dk_4 (dk_at dksJ30_getChars_0 7 rfl rfl)
theorem dJ30_getChars_8 : decode cJ30_getChars 8 = .ok (.goto 4, 3) := dk_167 0 4 (dk_at dksJ30_getChars_0 8 rfl rfl)
theorem dJ30_getChars_11 : decode cJ30_getChars 11 = .ok (.iconst 0, 1) := dk_3 (dk_at dksJ30_getChars_0 11 rfl rfl)
theorem dJ30_getChars_12 : decode cJ30_getChars 12 = .ok (.istore 6, 2) := dk_54 6 (dk_at dksJ30_getChars_0 12 rfl rfl)
theorem dJ30_getChars_14 : decode cJ30_getChars 14 = .ok (.iload 6, 2) := dk_21 6 (dk_at dksJ30_getChars_0 14 rfl rfl)
theorem dJ30_getChars_16 : decode cJ30_getChars 16 = .ok (.ifCond .ne 6, 3) := dk_154 0 6 (dk_at dksJ30_getChars_0 16 rfl rfl)
theorem dJ30_getChars_19 : decode cJ30_getChars 19 = .ok (.iload_n 0, 1) := dk_26 (dk_at dksJ30_getChars_0 19 rfl rfl)
theorem dJ30_getChars_20 : decode cJ30_getChars 20 = .ok (.ineg, 1) := dk_116 (dk_at dksJ30_getChars_0 20 rfl rfl)
theorem dJ30_getChars_21 : decode cJ30_getChars 21 = .ok (.istore_n 0, 1) := dk_59 (dk_at dksJ30_getChars_0 21 rfl rfl)
theorem dJ30_getChars_22 : decode cJ30_getChars 22 = .ok (.iload_n 0, 1) := dk_26 (dk_at dksJ30_getChars_0 22 rfl rfl)
theorem dJ30_getChars_23 : decode cJ30_getChars 23 = .ok (.bipush (-100), 2) := dk_16 156 (dk_at dksJ30_getChars_1 0 rfl rfl)
theorem dJ30_getChars_25 : decode cJ30_getChars 25 = .ok (.if_icmp .gt 47, 3) := dk_163 0 47 (dk_at dksJ30_getChars_1 2 rfl rfl)
theorem dJ30_getChars_28 : decode cJ30_getChars 28 = .ok (.iload_n 0, 1) := dk_26 (dk_at dksJ30_getChars_1 5 rfl rfl)
theorem dJ30_getChars_29 : decode cJ30_getChars 29 = .ok (.bipush 100, 2) := dk_16 100 (dk_at dksJ30_getChars_1 6 rfl rfl)
theorem dJ30_getChars_31 : decode cJ30_getChars 31 = .ok (.idiv, 1) := dk_108 (dk_at dksJ30_getChars_1 8 rfl rfl)
theorem dJ30_getChars_32 : decode cJ30_getChars 32 = .ok (.istore_n 3, 1) := dk_62 (dk_at dksJ30_getChars_1 9 rfl rfl)
theorem dJ30_getChars_33 : decode cJ30_getChars 33 = .ok (.iload_n 3, 1) := dk_29 (dk_at dksJ30_getChars_1 10 rfl rfl)
theorem dJ30_getChars_34 : decode cJ30_getChars 34 = .ok (.bipush 100, 2) := dk_16 100 (dk_at dksJ30_getChars_1 11 rfl rfl)
theorem dJ30_getChars_36 : decode cJ30_getChars 36 = .ok (.imul, 1) := dk_104 (dk_at dksJ30_getChars_1 13 rfl rfl)
theorem dJ30_getChars_37 : decode cJ30_getChars 37 = .ok (.iload_n 0, 1) := dk_26 (dk_at dksJ30_getChars_1 14 rfl rfl)
theorem dJ30_getChars_38 : decode cJ30_getChars 38 = .ok (.isub, 1) := dk_100 (dk_at dksJ30_getChars_1 15 rfl rfl)
theorem dJ30_getChars_39 : decode cJ30_getChars 39 = .ok (.istore 4, 2) := dk_54 4 (dk_at dksJ30_getChars_1 16 rfl rfl)
theorem dJ30_getChars_41 : decode cJ30_getChars 41 = .ok (.iload_n 3, 1) := dk_29 (dk_at dksJ30_getChars_1 18 rfl rfl)
theorem dJ30_getChars_42 : decode cJ30_getChars 42 = .ok (.istore_n 0, 1) := dk_59 (dk_at dksJ30_getChars_1 19 rfl rfl)
theorem dJ30_getChars_43 : decode cJ30_getChars 43 = .ok (.aload_n 2, 1) := dk_44 (dk_at dksJ30_getChars_1 20 rfl rfl)
theorem dJ30_getChars_44 : decode cJ30_getChars 44 = .ok (.iinc 5 (-1), 3) := dk_132 5 255 (dk_at dksJ30_getChars_1 21 rfl rfl)
theorem dJ30_getChars_47 : decode cJ30_getChars 47 = .ok (.iload 5, 2) := dk_21 5 (dk_at dksJ30_getChars_2 0 rfl rfl)
theorem dJ30_getChars_49 : decode cJ30_getChars 49 = .ok (.getstatic 83, 3) := dk_178 0 83 (dk_at dksJ30_getChars_2 2 rfl rfl)
theorem dJ30_getChars_52 : decode cJ30_getChars 52 = .ok (.iload 4, 2) := dk_21 4 (dk_at dksJ30_getChars_2 5 rfl rfl)
theorem dJ30_getChars_54 : decode cJ30_getChars 54 = .ok (.baload, 1) := dk_51 (dk_at dksJ30_getChars_2 7 rfl rfl)
theorem dJ30_getChars_55 : decode cJ30_getChars 55 = .ok (.bastore, 1) := dk_84 (dk_at dksJ30_getChars_2 8 rfl rfl)
theorem dJ30_getChars_56 : decode cJ30_getChars 56 = .ok (.aload_n 2, 1) := dk_44 (dk_at dksJ30_getChars_2 9 rfl rfl)
theorem dJ30_getChars_57 : decode cJ30_getChars 57 = .ok (.iinc 5 (-1), 3) := dk_132 5 255 (dk_at dksJ30_getChars_2 10 rfl rfl)
theorem dJ30_getChars_60 : decode cJ30_getChars 60 = .ok (.iload 5, 2) := dk_21 5 (dk_at dksJ30_getChars_2 13 rfl rfl)
theorem dJ30_getChars_62 : decode cJ30_getChars 62 = .ok (.getstatic 87, 3) := dk_178 0 87 (dk_at dksJ30_getChars_2 15 rfl rfl)
theorem dJ30_getChars_65 : decode cJ30_getChars 65 = .ok (.iload 4, 2) := dk_21 4 (dk_at dksJ30_getChars_2 18 rfl rfl)
theorem dJ30_getChars_67 : decode cJ30_getChars 67 = .ok (.baload, 1) := dk_51 (dk_at dksJ30_getChars_2 20 rfl rfl)
theorem dJ30_getChars_68 : decode cJ30_getChars 68 = .ok (.bastore, 1) := dk_84 (dk_at dksJ30_getChars_2 21 rfl rfl)
theorem dJ30_getChars_69 : decode cJ30_getChars 69 = .ok (.goto (-47), 3) := dk_167 255 209 (dk_at dksJ30_getChars_3 0 rfl rfl)
theorem dJ30_getChars_72 : decode cJ30_getChars 72 = .ok (.aload_n 2, 1) := dk_44 (dk_at dksJ30_getChars_3 3 rfl rfl)
theorem dJ30_getChars_73 : decode cJ30_getChars 73 = .ok (.iinc 5 (-1), 3) := dk_132 5 255 (dk_at dksJ30_getChars_3 4 rfl rfl)
theorem dJ30_getChars_76 : decode cJ30_getChars 76 = .ok (.iload 5, 2) := dk_21 5 (dk_at dksJ30_getChars_3 7 rfl rfl)
theorem dJ30_getChars_78 : decode cJ30_getChars 78 = .ok (.getstatic 83, 3) := dk_178 0 83 (dk_at dksJ30_getChars_3 9 rfl rfl)
theorem dJ30_getChars_81 : decode cJ30_getChars 81 = .ok (.iload_n 0, 1) := dk_26 (dk_at dksJ30_getChars_3 12 rfl rfl)
theorem dJ30_getChars_82 : decode cJ30_getChars 82 = .ok (.ineg, 1) := dk_116 (dk_at dksJ30_getChars_3 13 rfl rfl)
theorem dJ30_getChars_83 : decode cJ30_getChars 83 = .ok (.baload, 1) := dk_51 (dk_at dksJ30_getChars_3 14 rfl rfl)
theorem dJ30_getChars_84 : decode cJ30_getChars 84 = .ok (.bastore, 1) := dk_84 (dk_at dksJ30_getChars_3 15 rfl rfl)
theorem dJ30_getChars_85 : decode cJ30_getChars 85 = .ok (.iload_n 0, 1) := dk_26 (dk_at dksJ30_getChars_3 16 rfl rfl)
theorem dJ30_getChars_86 : decode cJ30_getChars 86 = .ok (.bipush (-9), 2) := dk_16 247 (dk_at dksJ30_getChars_3 17 rfl rfl)
theorem dJ30_getChars_88 : decode cJ30_getChars 88 = .ok (.if_icmp .ge 16, 3) := dk_162 0 16 (dk_at dksJ30_getChars_3 19 rfl rfl)
theorem dJ30_getChars_91 : decode cJ30_getChars 91 = .ok (.aload_n 2, 1) := dk_44 (dk_at dksJ30_getChars_3 22 rfl rfl)
theorem dJ30_getChars_92 : decode cJ30_getChars 92 = .ok (.iinc 5 (-1), 3) := dk_132 5 255 (dk_at dksJ30_getChars_4 0 rfl rfl)
theorem dJ30_getChars_95 : decode cJ30_getChars 95 = .ok (.iload 5, 2) := dk_21 5 (dk_at dksJ30_getChars_4 3 rfl rfl)
theorem dJ30_getChars_97 : decode cJ30_getChars 97 = .ok (.getstatic 87, 3) := dk_178 0 87 (dk_at dksJ30_getChars_4 5 rfl rfl)
theorem dJ30_getChars_100 : decode cJ30_getChars 100 = .ok (.iload_n 0, 1) := dk_26 (dk_at dksJ30_getChars_4 8 rfl rfl)
theorem dJ30_getChars_101 : decode cJ30_getChars 101 = .ok (.ineg, 1) := dk_116 (dk_at dksJ30_getChars_4 9 rfl rfl)
theorem dJ30_getChars_102 : decode cJ30_getChars 102 = .ok (.baload, 1) := dk_51 (dk_at dksJ30_getChars_4 10 rfl rfl)
theorem dJ30_getChars_103 : decode cJ30_getChars 103 = .ok (.bastore, 1) := dk_84 (dk_at dksJ30_getChars_4 11 rfl rfl)
theorem dJ30_getChars_104 : decode cJ30_getChars 104 = .ok (.iload 6, 2) := dk_21 6 (dk_at dksJ30_getChars_4 12 rfl rfl)
theorem dJ30_getChars_106 : decode cJ30_getChars 106 = .ok (.ifCond .eq 12, 3) := dk_153 0 12 (dk_at dksJ30_getChars_4 14 rfl rfl)
theorem dJ30_getChars_109 : decode cJ30_getChars 109 = .ok (.aload_n 2, 1) := dk_44 (dk_at dksJ30_getChars_4 17 rfl rfl)
theorem dJ30_getChars_110 : decode cJ30_getChars 110 = .ok (.iinc 5 (-1), 3) := dk_132 5 255 (dk_at dksJ30_getChars_4 18 rfl rfl)
theorem dJ30_getChars_113 : decode cJ30_getChars 113 = .ok (.iload 5, 2) := dk_21 5 (dk_at dksJ30_getChars_4 21 rfl rfl)
theorem dJ30_getChars_115 : decode cJ30_getChars 115 = .ok (.bipush 45, 2) := dk_16 45 (dk_at dksJ30_getChars_5 0 rfl rfl)
theorem dJ30_getChars_117 : decode cJ30_getChars 117 = .ok (.bastore, 1) := dk_84 (dk_at dksJ30_getChars_5 2 rfl rfl)
theorem dJ30_getChars_118 : decode cJ30_getChars 118 = .ok (.iload 5, 2) := dk_21 5 (dk_at dksJ30_getChars_5 3 rfl rfl)
theorem dJ30_getChars_120 : decode cJ30_getChars 120 = .ok (.ireturn, 1) := dk_172 (dk_at dksJ30_getChars_5 5 rfl rfl)
abbrev cJ30_numberOfTrailingZeros : ByteArray := prog_32_method_48_code
def yJ30_numberOfTrailingZeros : MethodName := ⟨RJ30, "numberOfTrailingZeros", "(I)I"⟩
def dkwJ30_numberOfTrailingZeros_3 : List UInt8 := [5, 124, 59, 27, 26, 4, 124, 96, 172]
abbrev dktJ30_numberOfTrailingZeros_3 : List UInt8 := dkwJ30_numberOfTrailingZeros_3 ++ []
def dkwJ30_numberOfTrailingZeros_2 : List UInt8 := [124, 59, 26, 16, 16, 164, 0, 10, 132, 1, 4, 26, 7, 124, 59, 26, 7, 164, 0, 10, 132, 1, 2, 26]
abbrev dktJ30_numberOfTrailingZeros_2 : List UInt8 := dkwJ30_numberOfTrailingZeros_2 ++ dktJ30_numberOfTrailingZeros_3
def dkwJ30_numberOfTrailingZeros_1 : List UInt8 := [164, 0, 11, 132, 1, 16, 26, 16, 16, 124, 59, 26, 17, 1, 0, 164, 0, 11, 132, 1, 8, 26, 16, 8]
abbrev dktJ30_numberOfTrailingZeros_1 : List UInt8 := dkwJ30_numberOfTrailingZeros_1 ++ dktJ30_numberOfTrailingZeros_2
def dkwJ30_numberOfTrailingZeros_0 : List UInt8 := [26, 2, 130, 26, 4, 100, 126, 59, 26, 157, 0, 8, 26, 16, 32, 126, 172, 4, 60, 26, 19, 1, 8]
abbrev dktJ30_numberOfTrailingZeros_0 : List UInt8 := dkwJ30_numberOfTrailingZeros_0 ++ dktJ30_numberOfTrailingZeros_1
theorem dksJ30_numberOfTrailingZeros_0 : cJ30_numberOfTrailingZeros.data.toList.drop 0 = dktJ30_numberOfTrailingZeros_0 := by decide +kernel
theorem dksJ30_numberOfTrailingZeros_1 : cJ30_numberOfTrailingZeros.data.toList.drop 23 = dktJ30_numberOfTrailingZeros_1 := dk_seg dksJ30_numberOfTrailingZeros_0 23 rfl rfl
theorem dksJ30_numberOfTrailingZeros_2 : cJ30_numberOfTrailingZeros.data.toList.drop 47 = dktJ30_numberOfTrailingZeros_2 := dk_seg dksJ30_numberOfTrailingZeros_1 24 rfl rfl
theorem dksJ30_numberOfTrailingZeros_3 : cJ30_numberOfTrailingZeros.data.toList.drop 71 = dktJ30_numberOfTrailingZeros_3 := dk_seg dksJ30_numberOfTrailingZeros_2 24 rfl rfl
theorem dJ30_numberOfTrailingZeros_0 : decode cJ30_numberOfTrailingZeros 0 = .ok (.iload_n 0, 1) := dk_26 (dk_at dksJ30_numberOfTrailingZeros_0 0 rfl rfl)
theorem dJ30_numberOfTrailingZeros_1 : decode cJ30_numberOfTrailingZeros 1 = .ok (.iconst (-1), 1) := dk_2 (dk_at dksJ30_numberOfTrailingZeros_0 1 rfl rfl)
theorem dJ30_numberOfTrailingZeros_2 : decode cJ30_numberOfTrailingZeros 2 = .ok (.ixor, 1) := dk_130 (dk_at dksJ30_numberOfTrailingZeros_0 2 rfl rfl)
theorem dJ30_numberOfTrailingZeros_3 : decode cJ30_numberOfTrailingZeros 3 = .ok (.iload_n 0, 1) := dk_26 (dk_at dksJ30_numberOfTrailingZeros_0 3 rfl rfl)
theorem dJ30_numberOfTrailingZeros_4 : decode cJ30_numberOfTrailingZeros 4 = .ok (.iconst 1, 1) := dk_4 (dk_at dksJ30_numberOfTrailingZeros_0 4 rfl rfl)
theorem dJ30_numberOfTrailingZeros_5 : decode cJ30_numberOfTrailingZeros 5 = .ok (.isub, 1) := dk_100 (dk_at dksJ30_numberOfTrailingZeros_0 5 rfl rfl)
theorem dJ30_numberOfTrailingZeros_6 : decode cJ30_numberOfTrailingZeros 6 = .ok (.iand, 1) := dk_126 (dk_at dksJ30_numberOfTrailingZeros_0 6 rfl rfl)
theorem dJ30_numberOfTrailingZeros_7 : decode cJ30_numberOfTrailingZeros 7 = .ok (.istore_n 0, 1) := dk_59 (dk_at dksJ30_numberOfTrailingZeros_0 7 rfl rfl)
theorem dJ30_numberOfTrailingZeros_8 : decode cJ30_numberOfTrailingZeros 8 = .ok (.iload_n 0, 1) := dk_26 (dk_at dksJ30_numberOfTrailingZeros_0 8 rfl rfl)
theorem dJ30_numberOfTrailingZeros_9 : decode cJ30_numberOfTrailingZeros 9 = .ok (.ifCond .gt 8, 3) := dk_157 0 8 (dk_at dksJ30_numberOfTrailingZeros_0 9 rfl rfl)
theorem dJ30_numberOfTrailingZeros_12 : decode cJ30_numberOfTrailingZeros 12 = .ok (.iload_n 0, 1) := dk_26 (dk_at dksJ30_numberOfTrailingZeros_0 12 rfl rfl)
theorem dJ30_numberOfTrailingZeros_13 : decode cJ30_numberOfTrailingZeros 13 = .ok (.bipush 32, 2) := dk_16 32 (dk_at dksJ30_numberOfTrailingZeros_0 13 rfl rfl)
theorem dJ30_numberOfTrailingZeros_15 : decode cJ30_numberOfTrailingZeros 15 = .ok (.iand, 1) := dk_126 (dk_at dksJ30_numberOfTrailingZeros_0 15 rfl rfl)
theorem dJ30_numberOfTrailingZeros_16 : decode cJ30_numberOfTrailingZeros 16 = .ok (.ireturn, 1) := dk_172 (dk_at dksJ30_numberOfTrailingZeros_0 16 rfl rfl)
theorem dJ30_numberOfTrailingZeros_17 : decode cJ30_numberOfTrailingZeros 17 = .ok (.iconst 1, 1) := dk_4 (dk_at dksJ30_numberOfTrailingZeros_0 17 rfl rfl)
theorem dJ30_numberOfTrailingZeros_18 : decode cJ30_numberOfTrailingZeros 18 = .ok (.istore_n 1, 1) := dk_60 (dk_at dksJ30_numberOfTrailingZeros_0 18 rfl rfl)
theorem dJ30_numberOfTrailingZeros_19 : decode cJ30_numberOfTrailingZeros 19 = .ok (.iload_n 0, 1) := dk_26 (dk_at dksJ30_numberOfTrailingZeros_0 19 rfl rfl)
theorem dJ30_numberOfTrailingZeros_20 : decode cJ30_numberOfTrailingZeros 20 = .ok (.ldc_w 264, 3) := dk_19 1 8 (dk_at dksJ30_numberOfTrailingZeros_0 20 rfl rfl)
theorem dJ30_numberOfTrailingZeros_23 : decode cJ30_numberOfTrailingZeros 23 = .ok (.if_icmp .le 11, 3) := dk_164 0 11 (dk_at dksJ30_numberOfTrailingZeros_1 0 rfl rfl)
theorem dJ30_numberOfTrailingZeros_26 : decode cJ30_numberOfTrailingZeros 26 = .ok (.iinc 1 16, 3) := dk_132 1 16 (dk_at dksJ30_numberOfTrailingZeros_1 3 rfl rfl)
theorem dJ30_numberOfTrailingZeros_29 : decode cJ30_numberOfTrailingZeros 29 = .ok (.iload_n 0, 1) := dk_26 (dk_at dksJ30_numberOfTrailingZeros_1 6 rfl rfl)
theorem dJ30_numberOfTrailingZeros_30 : decode cJ30_numberOfTrailingZeros 30 = .ok (.bipush 16, 2) := dk_16 16 (dk_at dksJ30_numberOfTrailingZeros_1 7 rfl rfl)
theorem dJ30_numberOfTrailingZeros_32 : decode cJ30_numberOfTrailingZeros 32 = .ok (.iushr, 1) := dk_124 (dk_at dksJ30_numberOfTrailingZeros_1 9 rfl rfl)
theorem dJ30_numberOfTrailingZeros_33 : decode cJ30_numberOfTrailingZeros 33 = .ok (.istore_n 0, 1) := dk_59 (dk_at dksJ30_numberOfTrailingZeros_1 10 rfl rfl)
theorem dJ30_numberOfTrailingZeros_34 : decode cJ30_numberOfTrailingZeros 34 = .ok (.iload_n 0, 1) := dk_26 (dk_at dksJ30_numberOfTrailingZeros_1 11 rfl rfl)
theorem dJ30_numberOfTrailingZeros_35 : decode cJ30_numberOfTrailingZeros 35 = .ok (.sipush 256, 3) := dk_17 1 0 (dk_at dksJ30_numberOfTrailingZeros_1 12 rfl rfl)
theorem dJ30_numberOfTrailingZeros_38 : decode cJ30_numberOfTrailingZeros 38 = .ok (.if_icmp .le 11, 3) := dk_164 0 11 (dk_at dksJ30_numberOfTrailingZeros_1 15 rfl rfl)
theorem dJ30_numberOfTrailingZeros_41 : decode cJ30_numberOfTrailingZeros 41 = .ok (.iinc 1 8, 3) := dk_132 1 8 (dk_at dksJ30_numberOfTrailingZeros_1 18 rfl rfl)
theorem dJ30_numberOfTrailingZeros_44 : decode cJ30_numberOfTrailingZeros 44 = .ok (.iload_n 0, 1) := dk_26 (dk_at dksJ30_numberOfTrailingZeros_1 21 rfl rfl)
theorem dJ30_numberOfTrailingZeros_45 : decode cJ30_numberOfTrailingZeros 45 = .ok (.bipush 8, 2) := dk_16 8 (dk_at dksJ30_numberOfTrailingZeros_1 22 rfl rfl)
theorem dJ30_numberOfTrailingZeros_47 : decode cJ30_numberOfTrailingZeros 47 = .ok (.iushr, 1) := dk_124 (dk_at dksJ30_numberOfTrailingZeros_2 0 rfl rfl)
theorem dJ30_numberOfTrailingZeros_48 : decode cJ30_numberOfTrailingZeros 48 = .ok (.istore_n 0, 1) := dk_59 (dk_at dksJ30_numberOfTrailingZeros_2 1 rfl rfl)
theorem dJ30_numberOfTrailingZeros_49 : decode cJ30_numberOfTrailingZeros 49 = .ok (.iload_n 0, 1) := dk_26 (dk_at dksJ30_numberOfTrailingZeros_2 2 rfl rfl)
theorem dJ30_numberOfTrailingZeros_50 : decode cJ30_numberOfTrailingZeros 50 = .ok (.bipush 16, 2) := dk_16 16 (dk_at dksJ30_numberOfTrailingZeros_2 3 rfl rfl)
theorem dJ30_numberOfTrailingZeros_52 : decode cJ30_numberOfTrailingZeros 52 = .ok (.if_icmp .le 10, 3) := dk_164 0 10 (dk_at dksJ30_numberOfTrailingZeros_2 5 rfl rfl)
theorem dJ30_numberOfTrailingZeros_55 : decode cJ30_numberOfTrailingZeros 55 = .ok (.iinc 1 4, 3) := dk_132 1 4 (dk_at dksJ30_numberOfTrailingZeros_2 8 rfl rfl)
theorem dJ30_numberOfTrailingZeros_58 : decode cJ30_numberOfTrailingZeros 58 = .ok (.iload_n 0, 1) := dk_26 (dk_at dksJ30_numberOfTrailingZeros_2 11 rfl rfl)
theorem dJ30_numberOfTrailingZeros_59 : decode cJ30_numberOfTrailingZeros 59 = .ok (.iconst 4, 1) := dk_7 (dk_at dksJ30_numberOfTrailingZeros_2 12 rfl rfl)
theorem dJ30_numberOfTrailingZeros_60 : decode cJ30_numberOfTrailingZeros 60 = .ok (.iushr, 1) := dk_124 (dk_at dksJ30_numberOfTrailingZeros_2 13 rfl rfl)
theorem dJ30_numberOfTrailingZeros_61 : decode cJ30_numberOfTrailingZeros 61 = .ok (.istore_n 0, 1) := dk_59 (dk_at dksJ30_numberOfTrailingZeros_2 14 rfl rfl)
theorem dJ30_numberOfTrailingZeros_62 : decode cJ30_numberOfTrailingZeros 62 = .ok (.iload_n 0, 1) := dk_26 (dk_at dksJ30_numberOfTrailingZeros_2 15 rfl rfl)
theorem dJ30_numberOfTrailingZeros_63 : decode cJ30_numberOfTrailingZeros 63 = .ok (.iconst 4, 1) := dk_7 (dk_at dksJ30_numberOfTrailingZeros_2 16 rfl rfl)
theorem dJ30_numberOfTrailingZeros_64 : decode cJ30_numberOfTrailingZeros 64 = .ok (.if_icmp .le 10, 3) := dk_164 0 10 (dk_at dksJ30_numberOfTrailingZeros_2 17 rfl rfl)
theorem dJ30_numberOfTrailingZeros_67 : decode cJ30_numberOfTrailingZeros 67 = .ok (.iinc 1 2, 3) := dk_132 1 2 (dk_at dksJ30_numberOfTrailingZeros_2 20 rfl rfl)
theorem dJ30_numberOfTrailingZeros_70 : decode cJ30_numberOfTrailingZeros 70 = .ok (.iload_n 0, 1) := dk_26 (dk_at dksJ30_numberOfTrailingZeros_2 23 rfl rfl)
theorem dJ30_numberOfTrailingZeros_71 : decode cJ30_numberOfTrailingZeros 71 = .ok (.iconst 2, 1) := dk_5 (dk_at dksJ30_numberOfTrailingZeros_3 0 rfl rfl)
theorem dJ30_numberOfTrailingZeros_72 : decode cJ30_numberOfTrailingZeros 72 = .ok (.iushr, 1) := dk_124 (dk_at dksJ30_numberOfTrailingZeros_3 1 rfl rfl)
theorem dJ30_numberOfTrailingZeros_73 : decode cJ30_numberOfTrailingZeros 73 = .ok (.istore_n 0, 1) := dk_59 (dk_at dksJ30_numberOfTrailingZeros_3 2 rfl rfl)
theorem dJ30_numberOfTrailingZeros_74 : decode cJ30_numberOfTrailingZeros 74 = .ok (.iload_n 1, 1) := dk_27 (dk_at dksJ30_numberOfTrailingZeros_3 3 rfl rfl)
theorem dJ30_numberOfTrailingZeros_75 : decode cJ30_numberOfTrailingZeros 75 = .ok (.iload_n 0, 1) := dk_26 (dk_at dksJ30_numberOfTrailingZeros_3 4 rfl rfl)
theorem dJ30_numberOfTrailingZeros_76 : decode cJ30_numberOfTrailingZeros 76 = .ok (.iconst 1, 1) := dk_4 (dk_at dksJ30_numberOfTrailingZeros_3 5 rfl rfl)
theorem dJ30_numberOfTrailingZeros_77 : decode cJ30_numberOfTrailingZeros 77 = .ok (.iushr, 1) := dk_124 (dk_at dksJ30_numberOfTrailingZeros_3 6 rfl rfl)
theorem dJ30_numberOfTrailingZeros_78 : decode cJ30_numberOfTrailingZeros 78 = .ok (.iadd, 1) := dk_96 (dk_at dksJ30_numberOfTrailingZeros_3 7 rfl rfl)
theorem dJ30_numberOfTrailingZeros_79 : decode cJ30_numberOfTrailingZeros 79 = .ok (.ireturn, 1) := dk_172 (dk_at dksJ30_numberOfTrailingZeros_3 8 rfl rfl)
abbrev cJ30_numberOfLeadingZeros : ByteArray := prog_32_method_47_code
def yJ30_numberOfLeadingZeros : MethodName := ⟨RJ30, "numberOfLeadingZeros", "(I)I"⟩
def dkwJ30_numberOfLeadingZeros_3 : List UInt8 := [5, 124, 59, 27, 26, 4, 124, 100, 172]
abbrev dktJ30_numberOfLeadingZeros_3 : List UInt8 := dkwJ30_numberOfLeadingZeros_3 ++ []
def dkwJ30_numberOfLeadingZeros_2 : List UInt8 := [124, 59, 26, 16, 16, 161, 0, 10, 132, 1, 252, 26, 7, 124, 59, 26, 7, 161, 0, 10, 132, 1, 254, 26]
abbrev dktJ30_numberOfLeadingZeros_2 : List UInt8 := dkwJ30_numberOfLeadingZeros_2 ++ dktJ30_numberOfLeadingZeros_3
def dkwJ30_numberOfLeadingZeros_1 : List UInt8 := [161, 0, 11, 132, 1, 240, 26, 16, 16, 124, 59, 26, 17, 1, 0, 161, 0, 11, 132, 1, 248, 26, 16, 8]
abbrev dktJ30_numberOfLeadingZeros_1 : List UInt8 := dkwJ30_numberOfLeadingZeros_1 ++ dktJ30_numberOfLeadingZeros_2
def dkwJ30_numberOfLeadingZeros_0 : List UInt8 := [26, 157, 0, 14, 26, 154, 0, 8, 16, 32, 167, 0, 4, 3, 172, 16, 31, 60, 26, 19, 1, 8]
abbrev dktJ30_numberOfLeadingZeros_0 : List UInt8 := dkwJ30_numberOfLeadingZeros_0 ++ dktJ30_numberOfLeadingZeros_1
theorem dksJ30_numberOfLeadingZeros_0 : cJ30_numberOfLeadingZeros.data.toList.drop 0 = dktJ30_numberOfLeadingZeros_0 := by decide +kernel
theorem dksJ30_numberOfLeadingZeros_1 : cJ30_numberOfLeadingZeros.data.toList.drop 22 = dktJ30_numberOfLeadingZeros_1 := dk_seg dksJ30_numberOfLeadingZeros_0 22 rfl rfl
theorem dksJ30_numberOfLeadingZeros_2 : cJ30_numberOfLeadingZeros.data.toList.drop 46 = dktJ30_numberOfLeadingZeros_2 := dk_seg dksJ30_numberOfLeadingZeros_1 24 rfl rfl
theorem dksJ30_numberOfLeadingZeros_3 : cJ30_numberOfLeadingZeros.data.toList.drop 70 = dktJ30_numberOfLeadingZeros_3 := dk_seg dksJ30_numberOfLeadingZeros_2 24 rfl rfl
theorem dJ30_numberOfLeadingZeros_0 : decode cJ30_numberOfLeadingZeros 0 = .ok (.iload_n 0, 1) := dk_26 (dk_at dksJ30_numberOfLeadingZeros_0 0 rfl rfl)
theorem dJ30_numberOfLeadingZeros_1 : decode cJ30_numberOfLeadingZeros 1 = .ok (.ifCond .gt 14, 3) := dk_157 0 14 (dk_at dksJ30_numberOfLeadingZeros_0 1 rfl rfl)
theorem dJ30_numberOfLeadingZeros_4 : decode cJ30_numberOfLeadingZeros 4 = .ok (.iload_n 0, 1) := dk_26 (dk_at dksJ30_numberOfLeadingZeros_0 4 rfl rfl)
theorem dJ30_numberOfLeadingZeros_5 : decode cJ30_numberOfLeadingZeros 5 = .ok (.ifCond .ne 8, 3) := dk_154 0 8 (dk_at dksJ30_numberOfLeadingZeros_0 5 rfl rfl)
theorem dJ30_numberOfLeadingZeros_8 : decode cJ30_numberOfLeadingZeros 8 = .ok (.bipush 32, 2) := dk_16 32 (dk_at dksJ30_numberOfLeadingZeros_0 8 rfl rfl)
theorem dJ30_numberOfLeadingZeros_10 : decode cJ30_numberOfLeadingZeros 10 = .ok (.goto 4, 3) := dk_167 0 4 (dk_at dksJ30_numberOfLeadingZeros_0 10 rfl rfl)
theorem dJ30_numberOfLeadingZeros_13 : decode cJ30_numberOfLeadingZeros 13 = .ok (.iconst 0, 1) := dk_3 (dk_at dksJ30_numberOfLeadingZeros_0 13 rfl rfl)
theorem dJ30_numberOfLeadingZeros_14 : decode cJ30_numberOfLeadingZeros 14 = .ok (.ireturn, 1) := dk_172 (dk_at dksJ30_numberOfLeadingZeros_0 14 rfl rfl)
theorem dJ30_numberOfLeadingZeros_15 : decode cJ30_numberOfLeadingZeros 15 = .ok (.bipush 31, 2) := dk_16 31 (dk_at dksJ30_numberOfLeadingZeros_0 15 rfl rfl)
theorem dJ30_numberOfLeadingZeros_17 : decode cJ30_numberOfLeadingZeros 17 = .ok (.istore_n 1, 1) := dk_60 (dk_at dksJ30_numberOfLeadingZeros_0 17 rfl rfl)
theorem dJ30_numberOfLeadingZeros_18 : decode cJ30_numberOfLeadingZeros 18 = .ok (.iload_n 0, 1) := dk_26 (dk_at dksJ30_numberOfLeadingZeros_0 18 rfl rfl)
theorem dJ30_numberOfLeadingZeros_19 : decode cJ30_numberOfLeadingZeros 19 = .ok (.ldc_w 264, 3) := dk_19 1 8 (dk_at dksJ30_numberOfLeadingZeros_0 19 rfl rfl)
theorem dJ30_numberOfLeadingZeros_22 : decode cJ30_numberOfLeadingZeros 22 = .ok (.if_icmp .lt 11, 3) := dk_161 0 11 (dk_at dksJ30_numberOfLeadingZeros_1 0 rfl rfl)
theorem dJ30_numberOfLeadingZeros_25 : decode cJ30_numberOfLeadingZeros 25 = .ok (.iinc 1 (-16), 3) := dk_132 1 240 (dk_at dksJ30_numberOfLeadingZeros_1 3 rfl rfl)
theorem dJ30_numberOfLeadingZeros_28 : decode cJ30_numberOfLeadingZeros 28 = .ok (.iload_n 0, 1) := dk_26 (dk_at dksJ30_numberOfLeadingZeros_1 6 rfl rfl)
theorem dJ30_numberOfLeadingZeros_29 : decode cJ30_numberOfLeadingZeros 29 = .ok (.bipush 16, 2) := dk_16 16 (dk_at dksJ30_numberOfLeadingZeros_1 7 rfl rfl)
theorem dJ30_numberOfLeadingZeros_31 : decode cJ30_numberOfLeadingZeros 31 = .ok (.iushr, 1) := dk_124 (dk_at dksJ30_numberOfLeadingZeros_1 9 rfl rfl)
theorem dJ30_numberOfLeadingZeros_32 : decode cJ30_numberOfLeadingZeros 32 = .ok (.istore_n 0, 1) := dk_59 (dk_at dksJ30_numberOfLeadingZeros_1 10 rfl rfl)
theorem dJ30_numberOfLeadingZeros_33 : decode cJ30_numberOfLeadingZeros 33 = .ok (.iload_n 0, 1) := dk_26 (dk_at dksJ30_numberOfLeadingZeros_1 11 rfl rfl)
theorem dJ30_numberOfLeadingZeros_34 : decode cJ30_numberOfLeadingZeros 34 = .ok (.sipush 256, 3) := dk_17 1 0 (dk_at dksJ30_numberOfLeadingZeros_1 12 rfl rfl)
theorem dJ30_numberOfLeadingZeros_37 : decode cJ30_numberOfLeadingZeros 37 = .ok (.if_icmp .lt 11, 3) := dk_161 0 11 (dk_at dksJ30_numberOfLeadingZeros_1 15 rfl rfl)
theorem dJ30_numberOfLeadingZeros_40 : decode cJ30_numberOfLeadingZeros 40 = .ok (.iinc 1 (-8), 3) := dk_132 1 248 (dk_at dksJ30_numberOfLeadingZeros_1 18 rfl rfl)
theorem dJ30_numberOfLeadingZeros_43 : decode cJ30_numberOfLeadingZeros 43 = .ok (.iload_n 0, 1) := dk_26 (dk_at dksJ30_numberOfLeadingZeros_1 21 rfl rfl)
theorem dJ30_numberOfLeadingZeros_44 : decode cJ30_numberOfLeadingZeros 44 = .ok (.bipush 8, 2) := dk_16 8 (dk_at dksJ30_numberOfLeadingZeros_1 22 rfl rfl)
theorem dJ30_numberOfLeadingZeros_46 : decode cJ30_numberOfLeadingZeros 46 = .ok (.iushr, 1) := dk_124 (dk_at dksJ30_numberOfLeadingZeros_2 0 rfl rfl)
theorem dJ30_numberOfLeadingZeros_47 : decode cJ30_numberOfLeadingZeros 47 = .ok (.istore_n 0, 1) := dk_59 (dk_at dksJ30_numberOfLeadingZeros_2 1 rfl rfl)
theorem dJ30_numberOfLeadingZeros_48 : decode cJ30_numberOfLeadingZeros 48 = .ok (.iload_n 0, 1) := dk_26 (dk_at dksJ30_numberOfLeadingZeros_2 2 rfl rfl)
theorem dJ30_numberOfLeadingZeros_49 : decode cJ30_numberOfLeadingZeros 49 = .ok (.bipush 16, 2) := dk_16 16 (dk_at dksJ30_numberOfLeadingZeros_2 3 rfl rfl)
theorem dJ30_numberOfLeadingZeros_51 : decode cJ30_numberOfLeadingZeros 51 = .ok (.if_icmp .lt 10, 3) := dk_161 0 10 (dk_at dksJ30_numberOfLeadingZeros_2 5 rfl rfl)
theorem dJ30_numberOfLeadingZeros_54 : decode cJ30_numberOfLeadingZeros 54 = .ok (.iinc 1 (-4), 3) := dk_132 1 252 (dk_at dksJ30_numberOfLeadingZeros_2 8 rfl rfl)
theorem dJ30_numberOfLeadingZeros_57 : decode cJ30_numberOfLeadingZeros 57 = .ok (.iload_n 0, 1) := dk_26 (dk_at dksJ30_numberOfLeadingZeros_2 11 rfl rfl)
theorem dJ30_numberOfLeadingZeros_58 : decode cJ30_numberOfLeadingZeros 58 = .ok (.iconst 4, 1) := dk_7 (dk_at dksJ30_numberOfLeadingZeros_2 12 rfl rfl)
theorem dJ30_numberOfLeadingZeros_59 : decode cJ30_numberOfLeadingZeros 59 = .ok (.iushr, 1) := dk_124 (dk_at dksJ30_numberOfLeadingZeros_2 13 rfl rfl)
theorem dJ30_numberOfLeadingZeros_60 : decode cJ30_numberOfLeadingZeros 60 = .ok (.istore_n 0, 1) := dk_59 (dk_at dksJ30_numberOfLeadingZeros_2 14 rfl rfl)
theorem dJ30_numberOfLeadingZeros_61 : decode cJ30_numberOfLeadingZeros 61 = .ok (.iload_n 0, 1) := dk_26 (dk_at dksJ30_numberOfLeadingZeros_2 15 rfl rfl)
theorem dJ30_numberOfLeadingZeros_62 : decode cJ30_numberOfLeadingZeros 62 = .ok (.iconst 4, 1) := dk_7 (dk_at dksJ30_numberOfLeadingZeros_2 16 rfl rfl)
theorem dJ30_numberOfLeadingZeros_63 : decode cJ30_numberOfLeadingZeros 63 = .ok (.if_icmp .lt 10, 3) := dk_161 0 10 (dk_at dksJ30_numberOfLeadingZeros_2 17 rfl rfl)
theorem dJ30_numberOfLeadingZeros_66 : decode cJ30_numberOfLeadingZeros 66 = .ok (.iinc 1 (-2), 3) := dk_132 1 254 (dk_at dksJ30_numberOfLeadingZeros_2 20 rfl rfl)
theorem dJ30_numberOfLeadingZeros_69 : decode cJ30_numberOfLeadingZeros 69 = .ok (.iload_n 0, 1) := dk_26 (dk_at dksJ30_numberOfLeadingZeros_2 23 rfl rfl)
theorem dJ30_numberOfLeadingZeros_70 : decode cJ30_numberOfLeadingZeros 70 = .ok (.iconst 2, 1) := dk_5 (dk_at dksJ30_numberOfLeadingZeros_3 0 rfl rfl)
theorem dJ30_numberOfLeadingZeros_71 : decode cJ30_numberOfLeadingZeros 71 = .ok (.iushr, 1) := dk_124 (dk_at dksJ30_numberOfLeadingZeros_3 1 rfl rfl)
theorem dJ30_numberOfLeadingZeros_72 : decode cJ30_numberOfLeadingZeros 72 = .ok (.istore_n 0, 1) := dk_59 (dk_at dksJ30_numberOfLeadingZeros_3 2 rfl rfl)
theorem dJ30_numberOfLeadingZeros_73 : decode cJ30_numberOfLeadingZeros 73 = .ok (.iload_n 1, 1) := dk_27 (dk_at dksJ30_numberOfLeadingZeros_3 3 rfl rfl)
theorem dJ30_numberOfLeadingZeros_74 : decode cJ30_numberOfLeadingZeros 74 = .ok (.iload_n 0, 1) := dk_26 (dk_at dksJ30_numberOfLeadingZeros_3 4 rfl rfl)
theorem dJ30_numberOfLeadingZeros_75 : decode cJ30_numberOfLeadingZeros 75 = .ok (.iconst 1, 1) := dk_4 (dk_at dksJ30_numberOfLeadingZeros_3 5 rfl rfl)
theorem dJ30_numberOfLeadingZeros_76 : decode cJ30_numberOfLeadingZeros 76 = .ok (.iushr, 1) := dk_124 (dk_at dksJ30_numberOfLeadingZeros_3 6 rfl rfl)
theorem dJ30_numberOfLeadingZeros_77 : decode cJ30_numberOfLeadingZeros 77 = .ok (.isub, 1) := dk_100 (dk_at dksJ30_numberOfLeadingZeros_3 7 rfl rfl)
theorem dJ30_numberOfLeadingZeros_78 : decode cJ30_numberOfLeadingZeros 78 = .ok (.ireturn, 1) := dk_172 (dk_at dksJ30_numberOfLeadingZeros_3 8 rfl rfl)
abbrev cJ30_compareTo : ByteArray := prog_32_method_63_code
def yJ30_compareTo : MethodName := ⟨RJ30, "compareTo", "(Ljava/lang/Object;)I"⟩
def dkwJ30_compareTo_0 : List UInt8 := [42, 43, 192, 0, 1, 182, 1, 28, 172]
abbrev dktJ30_compareTo_0 : List UInt8 := dkwJ30_compareTo_0 ++ []
theorem dksJ30_compareTo_0 : cJ30_compareTo.data.toList.drop 0 = dktJ30_compareTo_0 := by decide +kernel
theorem dJ30_compareTo_0 : decode cJ30_compareTo 0 = .ok (.aload_n 0, 1) := dk_42 (dk_at dksJ30_compareTo_0 0 rfl rfl)
theorem dJ30_compareTo_1 : decode cJ30_compareTo 1 = .ok (.aload_n 1, 1) := dk_43 (dk_at dksJ30_compareTo_0 1 rfl rfl)
theorem dJ30_compareTo_2 : decode cJ30_compareTo 2 = .ok (.checkcast 1, 3) := dk_192 0 1 (dk_at dksJ30_compareTo_0 2 rfl rfl)
theorem dJ30_compareTo_5 : decode cJ30_compareTo 5 = .ok (.invokevirtual 284, 3) := dk_182 1 28 (dk_at dksJ30_compareTo_0 5 rfl rfl)
theorem dJ30_compareTo_8 : decode cJ30_compareTo 8 = .ok (.ireturn, 1) := dk_172 (dk_at dksJ30_compareTo_0 8 rfl rfl)
abbrev cJ30_compareTo_2 : ByteArray := prog_32_method_39_code
def yJ30_compareTo_2 : MethodName := ⟨RJ30, "compareTo", "(Ljava/lang/Integer;)I"⟩
def dkwJ30_compareTo_2_0 : List UInt8 := [42, 180, 0, 205, 43, 180, 0, 205, 184, 1, 3, 172]
abbrev dktJ30_compareTo_2_0 : List UInt8 := dkwJ30_compareTo_2_0 ++ []
theorem dksJ30_compareTo_2_0 : cJ30_compareTo_2.data.toList.drop 0 = dktJ30_compareTo_2_0 := by decide +kernel
theorem dJ30_compareTo_2_0 : decode cJ30_compareTo_2 0 = .ok (.aload_n 0, 1) := dk_42 (dk_at dksJ30_compareTo_2_0 0 rfl rfl)
theorem dJ30_compareTo_2_1 : decode cJ30_compareTo_2 1 = .ok (.getfield 205, 3) := dk_180 0 205 (dk_at dksJ30_compareTo_2_0 1 rfl rfl)
theorem dJ30_compareTo_2_4 : decode cJ30_compareTo_2 4 = .ok (.aload_n 1, 1) := dk_43 (dk_at dksJ30_compareTo_2_0 4 rfl rfl)
theorem dJ30_compareTo_2_5 : decode cJ30_compareTo_2 5 = .ok (.getfield 205, 3) := dk_180 0 205 (dk_at dksJ30_compareTo_2_0 5 rfl rfl)
theorem dJ30_compareTo_2_8 : decode cJ30_compareTo_2 8 = .ok (.invokestatic 259, 3) := dk_184 1 3 (dk_at dksJ30_compareTo_2_0 8 rfl rfl)
theorem dJ30_compareTo_2_11 : decode cJ30_compareTo_2 11 = .ok (.ireturn, 1) := dk_172 (dk_at dksJ30_compareTo_2_0 11 rfl rfl)
abbrev cJ30_compare : ByteArray := prog_32_method_40_code
def yJ30_compare : MethodName := ⟨RJ30, "compare", "(II)I"⟩
def dkwJ30_compare_0 : List UInt8 := [26, 27, 162, 0, 7, 2, 167, 0, 13, 26, 27, 160, 0, 7, 3, 167, 0, 4, 4, 172]
abbrev dktJ30_compare_0 : List UInt8 := dkwJ30_compare_0 ++ []
theorem dksJ30_compare_0 : cJ30_compare.data.toList.drop 0 = dktJ30_compare_0 := by decide +kernel
theorem dJ30_compare_0 : decode cJ30_compare 0 = .ok (.iload_n 0, 1) := dk_26 (dk_at dksJ30_compare_0 0 rfl rfl)
theorem dJ30_compare_1 : decode cJ30_compare 1 = .ok (.iload_n 1, 1) := dk_27 (dk_at dksJ30_compare_0 1 rfl rfl)
theorem dJ30_compare_2 : decode cJ30_compare 2 = .ok (.if_icmp .ge 7, 3) := dk_162 0 7 (dk_at dksJ30_compare_0 2 rfl rfl)
theorem dJ30_compare_5 : decode cJ30_compare 5 = .ok (.iconst (-1), 1) := dk_2 (dk_at dksJ30_compare_0 5 rfl rfl)
theorem dJ30_compare_6 : decode cJ30_compare 6 = .ok (.goto 13, 3) := dk_167 0 13 (dk_at dksJ30_compare_0 6 rfl rfl)
theorem dJ30_compare_9 : decode cJ30_compare 9 = .ok (.iload_n 0, 1) := dk_26 (dk_at dksJ30_compare_0 9 rfl rfl)
theorem dJ30_compare_10 : decode cJ30_compare 10 = .ok (.iload_n 1, 1) := dk_27 (dk_at dksJ30_compare_0 10 rfl rfl)
theorem dJ30_compare_11 : decode cJ30_compare 11 = .ok (.if_icmp .ne 7, 3) := dk_160 0 7 (dk_at dksJ30_compare_0 11 rfl rfl)
theorem dJ30_compare_14 : decode cJ30_compare 14 = .ok (.iconst 0, 1) := dk_3 (dk_at dksJ30_compare_0 14 rfl rfl)
theorem dJ30_compare_15 : decode cJ30_compare 15 = .ok (.goto 4, 3) := dk_167 0 4 (dk_at dksJ30_compare_0 15 rfl rfl)
theorem dJ30_compare_18 : decode cJ30_compare 18 = .ok (.iconst 1, 1) := dk_4 (dk_at dksJ30_compare_0 18 rfl rfl)
theorem dJ30_compare_19 : decode cJ30_compare 19 = .ok (.ireturn, 1) := dk_172 (dk_at dksJ30_compare_0 19 rfl rfl)
abbrev cJ30_hashCode : ByteArray := prog_32_method_32_code
def yJ30_hashCode : MethodName := ⟨RJ30, "hashCode", "()I"⟩
def dkwJ30_hashCode_0 : List UInt8 := [42, 180, 0, 205, 184, 0, 208, 172]
abbrev dktJ30_hashCode_0 : List UInt8 := dkwJ30_hashCode_0 ++ []
theorem dksJ30_hashCode_0 : cJ30_hashCode.data.toList.drop 0 = dktJ30_hashCode_0 := by decide +kernel
theorem dJ30_hashCode_0 : decode cJ30_hashCode 0 = .ok (.aload_n 0, 1) := dk_42 (dk_at dksJ30_hashCode_0 0 rfl rfl)
theorem dJ30_hashCode_1 : decode cJ30_hashCode 1 = .ok (.getfield 205, 3) := dk_180 0 205 (dk_at dksJ30_hashCode_0 1 rfl rfl)
theorem dJ30_hashCode_4 : decode cJ30_hashCode 4 = .ok (.invokestatic 208, 3) := dk_184 0 208 (dk_at dksJ30_hashCode_0 4 rfl rfl)
theorem dJ30_hashCode_7 : decode cJ30_hashCode 7 = .ok (.ireturn, 1) := dk_172 (dk_at dksJ30_hashCode_0 7 rfl rfl)
abbrev cJ30_hashCode_2 : ByteArray := prog_32_method_33_code
def yJ30_hashCode_2 : MethodName := ⟨RJ30, "hashCode", "(I)I"⟩
theorem dJ30_hashCode_2_0 : decode cJ30_hashCode_2 0 = .ok (.iload_n 0, 1) := by decide +kernel
theorem dJ30_hashCode_2_1 : decode cJ30_hashCode_2 1 = .ok (.ireturn, 1) := by decide +kernel
abbrev cJ30_equals : ByteArray := prog_32_method_34_code
def yJ30_equals : MethodName := ⟨RJ30, "equals", "(Ljava/lang/Object;)Z"⟩
def dkwJ30_equals_1 : List UInt8 := [167, 0, 4, 3, 172, 3, 172]
abbrev dktJ30_equals_1 : List UInt8 := dkwJ30_equals_1 ++ []
def dkwJ30_equals_0 : List UInt8 := [43, 193, 0, 1, 153, 0, 23, 42, 180, 0, 205, 43, 192, 0, 1, 182, 0, 211, 160, 0, 7, 4]
abbrev dktJ30_equals_0 : List UInt8 := dkwJ30_equals_0 ++ dktJ30_equals_1
theorem dksJ30_equals_0 : cJ30_equals.data.toList.drop 0 = dktJ30_equals_0 := by decide +kernel
theorem dksJ30_equals_1 : cJ30_equals.data.toList.drop 22 = dktJ30_equals_1 := dk_seg dksJ30_equals_0 22 rfl rfl
theorem dJ30_equals_0 : decode cJ30_equals 0 = .ok (.aload_n 1, 1) := dk_43 (dk_at dksJ30_equals_0 0 rfl rfl)
theorem dJ30_equals_1 : decode cJ30_equals 1 = .ok (.instanceof 1, 3) := dk_193 0 1 (dk_at dksJ30_equals_0 1 rfl rfl)
theorem dJ30_equals_4 : decode cJ30_equals 4 = .ok (.ifCond .eq 23, 3) := dk_153 0 23 (dk_at dksJ30_equals_0 4 rfl rfl)
theorem dJ30_equals_7 : decode cJ30_equals 7 = .ok (.aload_n 0, 1) := dk_42 (dk_at dksJ30_equals_0 7 rfl rfl)
theorem dJ30_equals_8 : decode cJ30_equals 8 = .ok (.getfield 205, 3) := dk_180 0 205 (dk_at dksJ30_equals_0 8 rfl rfl)
theorem dJ30_equals_11 : decode cJ30_equals 11 = .ok (.aload_n 1, 1) := dk_43 (dk_at dksJ30_equals_0 11 rfl rfl)
theorem dJ30_equals_12 : decode cJ30_equals 12 = .ok (.checkcast 1, 3) := dk_192 0 1 (dk_at dksJ30_equals_0 12 rfl rfl)
theorem dJ30_equals_15 : decode cJ30_equals 15 = .ok (.invokevirtual 211, 3) := dk_182 0 211 (dk_at dksJ30_equals_0 15 rfl rfl)
theorem dJ30_equals_18 : decode cJ30_equals 18 = .ok (.if_icmp .ne 7, 3) := dk_160 0 7 (dk_at dksJ30_equals_0 18 rfl rfl)
theorem dJ30_equals_21 : decode cJ30_equals 21 = .ok (.iconst 1, 1) := dk_4 (dk_at dksJ30_equals_0 21 rfl rfl)
theorem dJ30_equals_22 : decode cJ30_equals 22 = .ok (.goto 4, 3) := dk_167 0 4 (dk_at dksJ30_equals_1 0 rfl rfl)
theorem dJ30_equals_25 : decode cJ30_equals 25 = .ok (.iconst 0, 1) := dk_3 (dk_at dksJ30_equals_1 3 rfl rfl)
theorem dJ30_equals_26 : decode cJ30_equals 26 = .ok (.ireturn, 1) := dk_172 (dk_at dksJ30_equals_1 4 rfl rfl)
theorem dJ30_equals_27 : decode cJ30_equals 27 = .ok (.iconst 0, 1) := dk_3 (dk_at dksJ30_equals_1 5 rfl rfl)
theorem dJ30_equals_28 : decode cJ30_equals 28 = .ok (.ireturn, 1) := dk_172 (dk_at dksJ30_equals_1 6 rfl rfl)
abbrev cJ30_intValue : ByteArray := prog_32_method_27_code
def yJ30_intValue : MethodName := ⟨RJ30, "intValue", "()I"⟩
theorem dJ30_intValue_0 : decode cJ30_intValue 0 = .ok (.aload_n 0, 1) := by decide +kernel
theorem dJ30_intValue_1 : decode cJ30_intValue 1 = .ok (.getfield 205, 3) := by decide +kernel
theorem dJ30_intValue_4 : decode cJ30_intValue 4 = .ok (.ireturn, 1) := by decide +kernel
abbrev cJ30_valueOf : ByteArray := prog_32_method_22_code
def yJ30_valueOf : MethodName := ⟨RJ30, "valueOf", "(I)Ljava/lang/Integer;"⟩
def dkwJ30_valueOf_1 : List UInt8 := [187, 0, 1, 89, 26, 183, 0, 199, 176]
abbrev dktJ30_valueOf_1 : List UInt8 := dkwJ30_valueOf_1 ++ []
def dkwJ30_valueOf_0 : List UInt8 := [26, 16, 128, 161, 0, 20, 26, 178, 0, 191, 163, 0, 13, 178, 0, 195, 26, 17, 0, 128, 96, 50, 176]
abbrev dktJ30_valueOf_0 : List UInt8 := dkwJ30_valueOf_0 ++ dktJ30_valueOf_1
theorem dksJ30_valueOf_0 : cJ30_valueOf.data.toList.drop 0 = dktJ30_valueOf_0 := by decide +kernel
theorem dksJ30_valueOf_1 : cJ30_valueOf.data.toList.drop 23 = dktJ30_valueOf_1 := dk_seg dksJ30_valueOf_0 23 rfl rfl
theorem dJ30_valueOf_0 : decode cJ30_valueOf 0 = .ok (.iload_n 0, 1) := dk_26 (dk_at dksJ30_valueOf_0 0 rfl rfl)
theorem dJ30_valueOf_1 : decode cJ30_valueOf 1 = .ok (.bipush (-128), 2) := dk_16 128 (dk_at dksJ30_valueOf_0 1 rfl rfl)
theorem dJ30_valueOf_3 : decode cJ30_valueOf 3 = .ok (.if_icmp .lt 20, 3) := dk_161 0 20 (dk_at dksJ30_valueOf_0 3 rfl rfl)
theorem dJ30_valueOf_6 : decode cJ30_valueOf 6 = .ok (.iload_n 0, 1) := dk_26 (dk_at dksJ30_valueOf_0 6 rfl rfl)
theorem dJ30_valueOf_7 : decode cJ30_valueOf 7 = .ok (.getstatic 191, 3) := dk_178 0 191 (dk_at dksJ30_valueOf_0 7 rfl rfl)
theorem dJ30_valueOf_10 : decode cJ30_valueOf 10 = .ok (.if_icmp .gt 13, 3) := dk_163 0 13 (dk_at dksJ30_valueOf_0 10 rfl rfl)
theorem dJ30_valueOf_13 : decode cJ30_valueOf 13 = .ok (.getstatic 195, 3) := dk_178 0 195 (dk_at dksJ30_valueOf_0 13 rfl rfl)
theorem dJ30_valueOf_16 : decode cJ30_valueOf 16 = .ok (.iload_n 0, 1) := dk_26 (dk_at dksJ30_valueOf_0 16 rfl rfl)
theorem dJ30_valueOf_17 : decode cJ30_valueOf 17 = .ok (.sipush 128, 3) := dk_17 0 128 (dk_at dksJ30_valueOf_0 17 rfl rfl)
theorem dJ30_valueOf_20 : decode cJ30_valueOf 20 = .ok (.iadd, 1) := dk_96 (dk_at dksJ30_valueOf_0 20 rfl rfl)
theorem dJ30_valueOf_21 : decode cJ30_valueOf 21 = .ok (.aaload, 1) := dk_50 (dk_at dksJ30_valueOf_0 21 rfl rfl)
theorem dJ30_valueOf_22 : decode cJ30_valueOf 22 = .ok (.areturn, 1) := dk_176 (dk_at dksJ30_valueOf_0 22 rfl rfl)
theorem dJ30_valueOf_23 : decode cJ30_valueOf 23 = .ok (.new 1, 3) := dk_187 0 1 (dk_at dksJ30_valueOf_1 0 rfl rfl)
theorem dJ30_valueOf_26 : decode cJ30_valueOf 26 = .ok (.dup, 1) := dk_89 (dk_at dksJ30_valueOf_1 3 rfl rfl)
theorem dJ30_valueOf_27 : decode cJ30_valueOf 27 = .ok (.iload_n 0, 1) := dk_26 (dk_at dksJ30_valueOf_1 4 rfl rfl)
theorem dJ30_valueOf_28 : decode cJ30_valueOf 28 = .ok (.invokespecial 199, 3) := dk_183 0 199 (dk_at dksJ30_valueOf_1 5 rfl rfl)
theorem dJ30_valueOf_31 : decode cJ30_valueOf 31 = .ok (.areturn, 1) := dk_176 (dk_at dksJ30_valueOf_1 8 rfl rfl)
abbrev cJ30_init : ByteArray := prog_32_method_23_code
def yJ30_init : MethodName := ⟨RJ30, "<init>", "(I)V"⟩
def dkwJ30_init_0 : List UInt8 := [42, 183, 0, 202, 42, 27, 181, 0, 205, 177]
abbrev dktJ30_init_0 : List UInt8 := dkwJ30_init_0 ++ []
theorem dksJ30_init_0 : cJ30_init.data.toList.drop 0 = dktJ30_init_0 := by decide +kernel
theorem dJ30_init_0 : decode cJ30_init 0 = .ok (.aload_n 0, 1) := dk_42 (dk_at dksJ30_init_0 0 rfl rfl)
theorem dJ30_init_1 : decode cJ30_init 1 = .ok (.invokespecial 202, 3) := dk_183 0 202 (dk_at dksJ30_init_0 1 rfl rfl)
theorem dJ30_init_4 : decode cJ30_init 4 = .ok (.aload_n 0, 1) := dk_42 (dk_at dksJ30_init_0 4 rfl rfl)
theorem dJ30_init_5 : decode cJ30_init 5 = .ok (.iload_n 1, 1) := dk_27 (dk_at dksJ30_init_0 5 rfl rfl)
theorem dJ30_init_6 : decode cJ30_init 6 = .ok (.putfield 205, 3) := dk_181 0 205 (dk_at dksJ30_init_0 6 rfl rfl)
theorem dJ30_init_9 : decode cJ30_init 9 = .ok (.return_, 1) := dk_177 (dk_at dksJ30_init_0 9 rfl rfl)
abbrev cJ30_toString : ByteArray := prog_32_method_31_code
def yJ30_toString : MethodName := ⟨RJ30, "toString", "()Ljava/lang/String;"⟩
def dkwJ30_toString_0 : List UInt8 := [42, 180, 0, 205, 184, 0, 9, 176]
abbrev dktJ30_toString_0 : List UInt8 := dkwJ30_toString_0 ++ []
theorem dksJ30_toString_0 : cJ30_toString.data.toList.drop 0 = dktJ30_toString_0 := by decide +kernel
theorem dJ30_toString_0 : decode cJ30_toString 0 = .ok (.aload_n 0, 1) := dk_42 (dk_at dksJ30_toString_0 0 rfl rfl)
theorem dJ30_toString_1 : decode cJ30_toString 1 = .ok (.getfield 205, 3) := dk_180 0 205 (dk_at dksJ30_toString_0 1 rfl rfl)
theorem dJ30_toString_4 : decode cJ30_toString 4 = .ok (.invokestatic 9, 3) := dk_184 0 9 (dk_at dksJ30_toString_0 4 rfl rfl)
theorem dJ30_toString_7 : decode cJ30_toString 7 = .ok (.areturn, 1) := dk_176 (dk_at dksJ30_toString_0 7 rfl rfl)
abbrev cJ30_toString_2 : ByteArray := prog_32_method_10_code
def yJ30_toString_2 : MethodName := ⟨RJ30, "toString", "(I)Ljava/lang/String;"⟩
def dkwJ30_toString_2_2 : List UInt8 := [187, 0, 5, 89, 44, 4, 183, 0, 65, 176]
abbrev dktJ30_toString_2_2 : List UInt8 := dkwJ30_toString_2_2 ++ []
def dkwJ30_toString_2_1 : List UInt8 := [187, 0, 5, 89, 44, 3, 183, 0, 65, 176, 27, 5, 104, 188, 8, 77, 26, 27, 44, 184, 0, 79, 87]
abbrev dktJ30_toString_2_1 : List UInt8 := dkwJ30_toString_2_1 ++ dktJ30_toString_2_2
def dkwJ30_toString_2_0 : List UInt8 := [26, 184, 0, 72, 60, 178, 0, 13, 153, 0, 24, 27, 188, 8, 77, 26, 27, 44, 184, 0, 75, 87]
abbrev dktJ30_toString_2_0 : List UInt8 := dkwJ30_toString_2_0 ++ dktJ30_toString_2_1
theorem dksJ30_toString_2_0 : cJ30_toString_2.data.toList.drop 0 = dktJ30_toString_2_0 := by decide +kernel
theorem dksJ30_toString_2_1 : cJ30_toString_2.data.toList.drop 22 = dktJ30_toString_2_1 := dk_seg dksJ30_toString_2_0 22 rfl rfl
theorem dksJ30_toString_2_2 : cJ30_toString_2.data.toList.drop 45 = dktJ30_toString_2_2 := dk_seg dksJ30_toString_2_1 23 rfl rfl
theorem dJ30_toString_2_0 : decode cJ30_toString_2 0 = .ok (.iload_n 0, 1) := dk_26 (dk_at dksJ30_toString_2_0 0 rfl rfl)
theorem dJ30_toString_2_1 : decode cJ30_toString_2 1 = .ok (.invokestatic 72, 3) := dk_184 0 72 (dk_at dksJ30_toString_2_0 1 rfl rfl)
theorem dJ30_toString_2_4 : decode cJ30_toString_2 4 = .ok (.istore_n 1, 1) := dk_60 (dk_at dksJ30_toString_2_0 4 rfl rfl)
theorem dJ30_toString_2_5 : decode cJ30_toString_2 5 = .ok (.getstatic 13, 3) := dk_178 0 13 (dk_at dksJ30_toString_2_0 5 rfl rfl)
theorem dJ30_toString_2_8 : decode cJ30_toString_2 8 = .ok (.ifCond .eq 24, 3) := dk_153 0 24 (dk_at dksJ30_toString_2_0 8 rfl rfl)
theorem dJ30_toString_2_11 : decode cJ30_toString_2 11 = .ok (.iload_n 1, 1) := dk_27 (dk_at dksJ30_toString_2_0 11 rfl rfl)
theorem dJ30_toString_2_12 : decode cJ30_toString_2 12 = .ok (.newarray .byte, 2) := dk_188_8 (dk_at dksJ30_toString_2_0 12 rfl rfl)
theorem dJ30_toString_2_14 : decode cJ30_toString_2 14 = .ok (.astore_n 2, 1) := dk_77 (dk_at dksJ30_toString_2_0 14 rfl rfl)
theorem dJ30_toString_2_15 : decode cJ30_toString_2 15 = .ok (.iload_n 0, 1) := dk_26 (dk_at dksJ30_toString_2_0 15 rfl rfl)
theorem dJ30_toString_2_16 : decode cJ30_toString_2 16 = .ok (.iload_n 1, 1) := dk_27 (dk_at dksJ30_toString_2_0 16 rfl rfl)
theorem dJ30_toString_2_17 : decode cJ30_toString_2 17 = .ok (.aload_n 2, 1) := dk_44 (dk_at dksJ30_toString_2_0 17 rfl rfl)
theorem dJ30_toString_2_18 : decode cJ30_toString_2 18 = .ok (.invokestatic 75, 3) := dk_184 0 75 (dk_at dksJ30_toString_2_0 18 rfl rfl)
theorem dJ30_toString_2_21 : decode cJ30_toString_2 21 = .ok (.pop, 1) := dk_87 (dk_at dksJ30_toString_2_0 21 rfl rfl)
theorem dJ30_toString_2_22 : decode cJ30_toString_2 22 = .ok (.new 5, 3) := dk_187 0 5 (dk_at dksJ30_toString_2_1 0 rfl rfl)
theorem dJ30_toString_2_25 : decode cJ30_toString_2 25 = .ok (.dup, 1) := dk_89 (dk_at dksJ30_toString_2_1 3 rfl rfl)
theorem dJ30_toString_2_26 : decode cJ30_toString_2 26 = .ok (.aload_n 2, 1) := dk_44 (dk_at dksJ30_toString_2_1 4 rfl rfl)
theorem dJ30_toString_2_27 : decode cJ30_toString_2 27 = .ok (.iconst 0, 1) := dk_3 (dk_at dksJ30_toString_2_1 5 rfl rfl)
theorem dJ30_toString_2_28 : decode cJ30_toString_2 28 = .ok (.invokespecial 65, 3) := dk_183 0 65 (dk_at dksJ30_toString_2_1 6 rfl rfl)
theorem dJ30_toString_2_31 : decode cJ30_toString_2 31 = .ok (.areturn, 1) := dk_176 (dk_at dksJ30_toString_2_1 9 rfl rfl)
theorem dJ30_toString_2_32 : decode cJ30_toString_2 32 = .ok (.iload_n 1, 1) := dk_27 (dk_at dksJ30_toString_2_1 10 rfl rfl)
theorem dJ30_toString_2_33 : decode cJ30_toString_2 33 = .ok (.iconst 2, 1) := dk_5 (dk_at dksJ30_toString_2_1 11 rfl rfl)
theorem dJ30_toString_2_34 : decode cJ30_toString_2 34 = .ok (.imul, 1) := dk_104 (dk_at dksJ30_toString_2_1 12 rfl rfl)
theorem dJ30_toString_2_35 : decode cJ30_toString_2 35 = .ok (.newarray .byte, 2) := dk_188_8 (dk_at dksJ30_toString_2_1 13 rfl rfl)
theorem dJ30_toString_2_37 : decode cJ30_toString_2 37 = .ok (.astore_n 2, 1) := dk_77 (dk_at dksJ30_toString_2_1 15 rfl rfl)
theorem dJ30_toString_2_38 : decode cJ30_toString_2 38 = .ok (.iload_n 0, 1) := dk_26 (dk_at dksJ30_toString_2_1 16 rfl rfl)
theorem dJ30_toString_2_39 : decode cJ30_toString_2 39 = .ok (.iload_n 1, 1) := dk_27 (dk_at dksJ30_toString_2_1 17 rfl rfl)
theorem dJ30_toString_2_40 : decode cJ30_toString_2 40 = .ok (.aload_n 2, 1) := dk_44 (dk_at dksJ30_toString_2_1 18 rfl rfl)
theorem dJ30_toString_2_41 : decode cJ30_toString_2 41 = .ok (.invokestatic 79, 3) := dk_184 0 79 (dk_at dksJ30_toString_2_1 19 rfl rfl)
theorem dJ30_toString_2_44 : decode cJ30_toString_2 44 = .ok (.pop, 1) := dk_87 (dk_at dksJ30_toString_2_1 22 rfl rfl)
theorem dJ30_toString_2_45 : decode cJ30_toString_2 45 = .ok (.new 5, 3) := dk_187 0 5 (dk_at dksJ30_toString_2_2 0 rfl rfl)
theorem dJ30_toString_2_48 : decode cJ30_toString_2 48 = .ok (.dup, 1) := dk_89 (dk_at dksJ30_toString_2_2 3 rfl rfl)
theorem dJ30_toString_2_49 : decode cJ30_toString_2 49 = .ok (.aload_n 2, 1) := dk_44 (dk_at dksJ30_toString_2_2 4 rfl rfl)
theorem dJ30_toString_2_50 : decode cJ30_toString_2 50 = .ok (.iconst 1, 1) := dk_4 (dk_at dksJ30_toString_2_2 5 rfl rfl)
theorem dJ30_toString_2_51 : decode cJ30_toString_2 51 = .ok (.invokespecial 65, 3) := dk_183 0 65 (dk_at dksJ30_toString_2_2 6 rfl rfl)
theorem dJ30_toString_2_54 : decode cJ30_toString_2 54 = .ok (.areturn, 1) := dk_176 (dk_at dksJ30_toString_2_2 9 rfl rfl)
theorem q136 : (Jvm.Cond.initialized "java/lang/Integer") ∈ lw_all := lw_g (lw_at lw_m1 37 rfl) rfl
theorem q490 : (Jvm.Cond.selects "java/lang/Integer" ({ cls := "java/lang/Object", name := "getClass", desc := "()Ljava/lang/Class;" } : Jvm.MethodName) ({ cls := "java/lang/Object", name := "getClass", desc := "()Ljava/lang/Class;" } : Jvm.MethodName)) ∈ lw_all := lw_g (lw_at lw_m2 151 rfl) rfl
theorem q998 : (Jvm.Cond.static ({ cls := "java/lang/Integer", name := "stringSize", desc := "(I)I" } : Jvm.MethodName)) ∈ lw_all := lw_g (lw_at lw_m4 179 rfl) rfl
theorem q999 : (Jvm.Cond.code ({ cls := "java/lang/Integer", name := "stringSize", desc := "(I)I" } : Jvm.MethodName) prog_32_method_13_code (4 : Nat) (Option.some Jvm.ClassFile.FieldType.int)) ∈ lw_all := lw_g (lw_at lw_m4 180 rfl) rfl
theorem q1001 : (Jvm.Cond.static ({ cls := "java/lang/Integer", name := "getChars", desc := "(II[B)I" } : Jvm.MethodName)) ∈ lw_all := lw_g (lw_at lw_m4 182 rfl) rfl
theorem q1002 : (Jvm.Cond.code ({ cls := "java/lang/Integer", name := "getChars", desc := "(II[B)I" } : Jvm.MethodName) prog_32_method_12_code (7 : Nat) (Option.some Jvm.ClassFile.FieldType.int)) ∈ lw_all := lw_g (lw_at lw_m4 183 rfl) rfl
theorem q1003 : (Jvm.Cond.fieldLink "java/lang/Integer" (83 : Nat) "java/lang/Integer" "DigitOnes" "[B") ∈ lw_all := lw_g (lw_at lw_m4 184 rfl) rfl
theorem q1004 : (Jvm.Cond.laysStatic "java/lang/Integer" "DigitOnes" "[B") ∈ lw_tbl := lw_at lw_m4 185 rfl
theorem q1005 : (Jvm.Cond.fieldLink "java/lang/Integer" (87 : Nat) "java/lang/Integer" "DigitTens" "[B") ∈ lw_all := lw_g (lw_at lw_m4 186 rfl) rfl
theorem q1006 : (Jvm.Cond.laysStatic "java/lang/Integer" "DigitTens" "[B") ∈ lw_tbl := lw_at lw_m4 187 rfl
theorem q1233 : (Jvm.Cond.static ({ cls := "java/lang/Integer", name := "numberOfTrailingZeros", desc := "(I)I" } : Jvm.MethodName)) ∈ lw_all := lw_g (lw_at lw_m5 174 rfl) rfl
theorem q1234 : (Jvm.Cond.code ({ cls := "java/lang/Integer", name := "numberOfTrailingZeros", desc := "(I)I" } : Jvm.MethodName) prog_32_method_48_code (2 : Nat) (Option.some Jvm.ClassFile.FieldType.int)) ∈ lw_all := lw_g (lw_at lw_m5 175 rfl) rfl
theorem q1235 : (Jvm.Cond.constant "java/lang/Integer" (264 : Nat) (65536 : Int32)) ∈ lw_all := lw_g (lw_at lw_m5 176 rfl) rfl
theorem q1468 : (Jvm.Cond.static ({ cls := "java/lang/Integer", name := "numberOfLeadingZeros", desc := "(I)I" } : Jvm.MethodName)) ∈ lw_all := lw_g (lw_at lw_m6 169 rfl) rfl
theorem q1469 : (Jvm.Cond.code ({ cls := "java/lang/Integer", name := "numberOfLeadingZeros", desc := "(I)I" } : Jvm.MethodName) prog_32_method_47_code (2 : Nat) (Option.some Jvm.ClassFile.FieldType.int)) ∈ lw_all := lw_g (lw_at lw_m6 170 rfl) rfl
theorem q1541 : (Jvm.Cond.castable "java/lang/Integer" "java/lang/Comparable") ∈ lw_tbl := lw_at lw_m7 2 rfl
theorem q1542 : (Jvm.Cond.selects "java/lang/Integer" ({ cls := "java/lang/Comparable", name := "compareTo", desc := "(Ljava/lang/Object;)I" } : Jvm.MethodName) ({ cls := "java/lang/Integer", name := "compareTo", desc := "(Ljava/lang/Object;)I" } : Jvm.MethodName)) ∈ lw_all := lw_g (lw_at lw_m7 3 rfl) rfl
theorem q1543 : (Jvm.Cond.unhidden "java/lang/Integer" "compareTo" "(Ljava/lang/Object;)I") ∈ lw_tbl := lw_at lw_m7 4 rfl
theorem q1544 : (Jvm.Cond.instanceMethod ({ cls := "java/lang/Integer", name := "compareTo", desc := "(Ljava/lang/Object;)I" } : Jvm.MethodName)) ∈ lw_all := lw_g (lw_at lw_m7 5 rfl) rfl
theorem q1545 : (Jvm.Cond.publicMethod ({ cls := "java/lang/Integer", name := "compareTo", desc := "(Ljava/lang/Object;)I" } : Jvm.MethodName)) ∈ lw_tbl := lw_at lw_m7 6 rfl
theorem q1546 : (Jvm.Cond.code ({ cls := "java/lang/Integer", name := "compareTo", desc := "(Ljava/lang/Object;)I" } : Jvm.MethodName) prog_32_method_63_code (2 : Nat) (Option.some Jvm.ClassFile.FieldType.int)) ∈ lw_all := lw_g (lw_at lw_m7 7 rfl) rfl
theorem q1547 : (Jvm.Cond.classLink "java/lang/Integer" (1 : Nat) "java/lang/Integer") ∈ lw_all := lw_g (lw_at lw_m7 8 rfl) rfl
theorem q1548 : (Jvm.Cond.methodLink "java/lang/Integer" (284 : Nat) ({ cls := "java/lang/Integer", name := "compareTo", desc := "(Ljava/lang/Integer;)I" } : Jvm.MethodName)) ∈ lw_all := lw_g (lw_at lw_m7 9 rfl) rfl
theorem q1549 : (Jvm.Cond.instanceMethod ({ cls := "java/lang/Integer", name := "compareTo", desc := "(Ljava/lang/Integer;)I" } : Jvm.MethodName)) ∈ lw_all := lw_g (lw_at lw_m7 10 rfl) rfl
theorem q1550 : (Jvm.Cond.selects "java/lang/Integer" ({ cls := "java/lang/Integer", name := "compareTo", desc := "(Ljava/lang/Integer;)I" } : Jvm.MethodName) ({ cls := "java/lang/Integer", name := "compareTo", desc := "(Ljava/lang/Integer;)I" } : Jvm.MethodName)) ∈ lw_all := lw_g (lw_at lw_m7 11 rfl) rfl
theorem q1551 : (Jvm.Cond.code ({ cls := "java/lang/Integer", name := "compareTo", desc := "(Ljava/lang/Integer;)I" } : Jvm.MethodName) prog_32_method_39_code (2 : Nat) (Option.some Jvm.ClassFile.FieldType.int)) ∈ lw_all := lw_g (lw_at lw_m7 12 rfl) rfl
theorem q1552 : (Jvm.Cond.methodLink "java/lang/Integer" (259 : Nat) ({ cls := "java/lang/Integer", name := "compare", desc := "(II)I" } : Jvm.MethodName)) ∈ lw_all := lw_g (lw_at lw_m7 13 rfl) rfl
theorem q1553 : (Jvm.Cond.static ({ cls := "java/lang/Integer", name := "compare", desc := "(II)I" } : Jvm.MethodName)) ∈ lw_all := lw_g (lw_at lw_m7 14 rfl) rfl
theorem q1554 : (Jvm.Cond.code ({ cls := "java/lang/Integer", name := "compare", desc := "(II)I" } : Jvm.MethodName) prog_32_method_40_code (2 : Nat) (Option.some Jvm.ClassFile.FieldType.int)) ∈ lw_all := lw_g (lw_at lw_m7 15 rfl) rfl
theorem q1819 : (Jvm.Cond.selects "java/lang/Integer" ({ cls := "java/lang/Object", name := "hashCode", desc := "()I" } : Jvm.MethodName) ({ cls := "java/lang/Integer", name := "hashCode", desc := "()I" } : Jvm.MethodName)) ∈ lw_all := lw_g (lw_at lw_m8 40 rfl) rfl
theorem q1820 : (Jvm.Cond.instanceMethod ({ cls := "java/lang/Integer", name := "hashCode", desc := "()I" } : Jvm.MethodName)) ∈ lw_all := lw_g (lw_at lw_m8 41 rfl) rfl
theorem q1821 : (Jvm.Cond.code ({ cls := "java/lang/Integer", name := "hashCode", desc := "()I" } : Jvm.MethodName) prog_32_method_32_code (1 : Nat) (Option.some Jvm.ClassFile.FieldType.int)) ∈ lw_all := lw_g (lw_at lw_m8 42 rfl) rfl
theorem q1822 : (Jvm.Cond.methodLink "java/lang/Integer" (208 : Nat) ({ cls := "java/lang/Integer", name := "hashCode", desc := "(I)I" } : Jvm.MethodName)) ∈ lw_all := lw_g (lw_at lw_m8 43 rfl) rfl
theorem q1823 : (Jvm.Cond.static ({ cls := "java/lang/Integer", name := "hashCode", desc := "(I)I" } : Jvm.MethodName)) ∈ lw_all := lw_g (lw_at lw_m8 44 rfl) rfl
theorem q1824 : (Jvm.Cond.code ({ cls := "java/lang/Integer", name := "hashCode", desc := "(I)I" } : Jvm.MethodName) prog_32_method_33_code (1 : Nat) (Option.some Jvm.ClassFile.FieldType.int)) ∈ lw_all := lw_g (lw_at lw_m8 45 rfl) rfl
theorem q1927 : (Jvm.Cond.selects "java/lang/Integer" ({ cls := "java/lang/Object", name := "equals", desc := "(Ljava/lang/Object;)Z" } : Jvm.MethodName) ({ cls := "java/lang/Integer", name := "equals", desc := "(Ljava/lang/Object;)Z" } : Jvm.MethodName)) ∈ lw_all := lw_g (lw_at lw_m8 148 rfl) rfl
theorem q1928 : (Jvm.Cond.instanceMethod ({ cls := "java/lang/Integer", name := "equals", desc := "(Ljava/lang/Object;)Z" } : Jvm.MethodName)) ∈ lw_all := lw_g (lw_at lw_m8 149 rfl) rfl
theorem q1929 : (Jvm.Cond.code ({ cls := "java/lang/Integer", name := "equals", desc := "(Ljava/lang/Object;)Z" } : Jvm.MethodName) prog_32_method_34_code (2 : Nat) (Option.some Jvm.ClassFile.FieldType.boolean)) ∈ lw_all := lw_g (lw_at lw_m8 150 rfl) rfl
theorem q1930 : (Jvm.Cond.methodLink "java/lang/Integer" (211 : Nat) ({ cls := "java/lang/Integer", name := "intValue", desc := "()I" } : Jvm.MethodName)) ∈ lw_all := lw_g (lw_at lw_m8 151 rfl) rfl
theorem q1931 : (Jvm.Cond.instanceMethod ({ cls := "java/lang/Integer", name := "intValue", desc := "()I" } : Jvm.MethodName)) ∈ lw_all := lw_g (lw_at lw_m8 152 rfl) rfl
theorem q1932 : (Jvm.Cond.selects "java/lang/Integer" ({ cls := "java/lang/Integer", name := "intValue", desc := "()I" } : Jvm.MethodName) ({ cls := "java/lang/Integer", name := "intValue", desc := "()I" } : Jvm.MethodName)) ∈ lw_all := lw_g (lw_at lw_m8 153 rfl) rfl
theorem q1933 : (Jvm.Cond.code ({ cls := "java/lang/Integer", name := "intValue", desc := "()I" } : Jvm.MethodName) prog_32_method_27_code (1 : Nat) (Option.some Jvm.ClassFile.FieldType.int)) ∈ lw_all := lw_g (lw_at lw_m8 154 rfl) rfl
theorem q2531 : (Jvm.Cond.static ({ cls := "java/lang/Integer", name := "valueOf", desc := "(I)Ljava/lang/Integer;" } : Jvm.MethodName)) ∈ lw_all := lw_g (lw_at lw_m11 32 rfl) rfl
theorem q2532 : (Jvm.Cond.code ({ cls := "java/lang/Integer", name := "valueOf", desc := "(I)Ljava/lang/Integer;" } : Jvm.MethodName) prog_32_method_22_code (1 : Nat) (Option.some (Jvm.ClassFile.FieldType.object "java/lang/Integer"))) ∈ lw_all := lw_g (lw_at lw_m11 33 rfl) rfl
theorem q2533 : (Jvm.Cond.fieldLink "java/lang/Integer" (191 : Nat) "java/lang/Integer$IntegerCache" "high" "I") ∈ lw_all := lw_g (lw_at lw_m11 34 rfl) rfl
theorem q2535 : (Jvm.Cond.fieldLink "java/lang/Integer" (195 : Nat) "java/lang/Integer$IntegerCache" "cache" "[Ljava/lang/Integer;") ∈ lw_all := lw_g (lw_at lw_m11 36 rfl) rfl
theorem q2537 : (Jvm.Cond.instantiable "java/lang/Integer" (1 : Nat)) ∈ lw_all := lw_g (lw_at lw_m11 38 rfl) rfl
theorem q2538 : (Jvm.Cond.methodLink "java/lang/Integer" (199 : Nat) ({ cls := "java/lang/Integer", name := "<init>", desc := "(I)V" } : Jvm.MethodName)) ∈ lw_all := lw_g (lw_at lw_m11 39 rfl) rfl
theorem q2539 : (Jvm.Cond.instanceMethod ({ cls := "java/lang/Integer", name := "<init>", desc := "(I)V" } : Jvm.MethodName)) ∈ lw_all := lw_g (lw_at lw_m11 40 rfl) rfl
theorem q2540 : (Jvm.Cond.code ({ cls := "java/lang/Integer", name := "<init>", desc := "(I)V" } : Jvm.MethodName) prog_32_method_23_code (2 : Nat) (Option.none : Option Jvm.ClassFile.FieldType)) ∈ lw_all := lw_g (lw_at lw_m11 41 rfl) rfl
theorem q2541 : (Jvm.Cond.methodLink "java/lang/Integer" (202 : Nat) ({ cls := "java/lang/Number", name := "<init>", desc := "()V" } : Jvm.MethodName)) ∈ lw_all := lw_g (lw_at lw_m11 42 rfl) rfl
theorem q2545 : (Jvm.Cond.fieldLink "java/lang/Integer" (205 : Nat) "java/lang/Integer" "value" "I") ∈ lw_all := lw_g (lw_at lw_m11 46 rfl) rfl
theorem q2546 : (Jvm.Cond.laysFinal "java/lang/Integer" "java/lang/Integer" "value" "I") ∈ lw_all := lw_g (lw_at lw_m11 47 rfl) rfl
theorem q2547 : (Jvm.Cond.soleField "java/lang/Integer" "value") ∈ lw_all := lw_g (lw_at lw_m11 48 rfl) rfl
theorem q2548 : (Jvm.Cond.superclass "java/lang/Integer" "java/lang/Number") ∈ lw_all := lw_g (lw_at lw_m11 49 rfl) rfl
theorem q3346 : (Jvm.Cond.selects "java/lang/Integer" ({ cls := "java/lang/Object", name := "toString", desc := "()Ljava/lang/String;" } : Jvm.MethodName) ({ cls := "java/lang/Integer", name := "toString", desc := "()Ljava/lang/String;" } : Jvm.MethodName)) ∈ lw_all := lw_g (lw_at lw_m14 127 rfl) rfl
theorem q3347 : (Jvm.Cond.instanceMethod ({ cls := "java/lang/Integer", name := "toString", desc := "()Ljava/lang/String;" } : Jvm.MethodName)) ∈ lw_all := lw_g (lw_at lw_m14 128 rfl) rfl
theorem q3348 : (Jvm.Cond.code ({ cls := "java/lang/Integer", name := "toString", desc := "()Ljava/lang/String;" } : Jvm.MethodName) prog_32_method_31_code (1 : Nat) (Option.some (Jvm.ClassFile.FieldType.object "java/lang/String"))) ∈ lw_all := lw_g (lw_at lw_m14 129 rfl) rfl
theorem q3349 : (Jvm.Cond.methodLink "java/lang/Integer" (9 : Nat) ({ cls := "java/lang/Integer", name := "toString", desc := "(I)Ljava/lang/String;" } : Jvm.MethodName)) ∈ lw_all := lw_g (lw_at lw_m14 130 rfl) rfl
theorem q3350 : (Jvm.Cond.static ({ cls := "java/lang/Integer", name := "toString", desc := "(I)Ljava/lang/String;" } : Jvm.MethodName)) ∈ lw_all := lw_g (lw_at lw_m14 131 rfl) rfl
theorem q3351 : (Jvm.Cond.code ({ cls := "java/lang/Integer", name := "toString", desc := "(I)Ljava/lang/String;" } : Jvm.MethodName) prog_32_method_10_code (3 : Nat) (Option.some (Jvm.ClassFile.FieldType.object "java/lang/String"))) ∈ lw_all := lw_g (lw_at lw_m14 132 rfl) rfl
theorem q3352 : (Jvm.Cond.methodLink "java/lang/Integer" (72 : Nat) ({ cls := "java/lang/Integer", name := "stringSize", desc := "(I)I" } : Jvm.MethodName)) ∈ lw_all := lw_g (lw_at lw_m14 133 rfl) rfl
theorem q3353 : (Jvm.Cond.fieldLink "java/lang/Integer" (13 : Nat) "java/lang/String" "COMPACT_STRINGS" "Z") ∈ lw_all := lw_g (lw_at lw_m14 134 rfl) rfl
theorem q3354 : (Jvm.Cond.methodLink "java/lang/Integer" (75 : Nat) ({ cls := "java/lang/Integer", name := "getChars", desc := "(II[B)I" } : Jvm.MethodName)) ∈ lw_all := lw_g (lw_at lw_m14 135 rfl) rfl
theorem q3355 : (Jvm.Cond.classLink "java/lang/Integer" (5 : Nat) "java/lang/String") ∈ lw_all := lw_g (lw_at lw_m14 136 rfl) rfl
theorem q3356 : (Jvm.Cond.methodLink "java/lang/Integer" (65 : Nat) ({ cls := "java/lang/String", name := "<init>", desc := "([BB)V" } : Jvm.MethodName)) ∈ lw_all := lw_g (lw_at lw_m14 137 rfl) rfl
theorem q3359 : (Jvm.Cond.methodLink "java/lang/Integer" (79 : Nat) ({ cls := "java/lang/StringUTF16", name := "getChars", desc := "(II[B)I" } : Jvm.MethodName)) ∈ lw_all := lw_g (lw_at lw_m14 140 rfl) rfl
theorem q4177 : (Jvm.Cond.castable "java/lang/Integer" "java/lang/Object") ∈ lw_tbl := lw_at lw_m17 238 rfl
theorem in_J30 : ∀ w ∈ wsJ300, w ∈ lw_all := lw_in wsJ300 [2546] (by decide +kernel) (by decide +kernel)
/-! java/lang/StrictMath -/
set_option maxRecDepth 100000
def RJ31 : String := "java/lang/StrictMath"
abbrev cJ31_ceil : ByteArray := prog_39_method_16_code
def yJ31_ceil : MethodName := ⟨RJ31, "ceil", "(D)D"⟩
def dkwJ31_ceil_0 : List UInt8 := [38, 20, 0, 58, 15, 15, 184, 0, 60, 175]
abbrev dktJ31_ceil_0 : List UInt8 := dkwJ31_ceil_0 ++ []
theorem dksJ31_ceil_0 : cJ31_ceil.data.toList.drop 0 = dktJ31_ceil_0 := by decide +kernel
theorem dJ31_ceil_0 : decode cJ31_ceil 0 = .ok (.dload_n 0, 1) := dk_38 (dk_at dksJ31_ceil_0 0 rfl rfl)
theorem dJ31_ceil_1 : decode cJ31_ceil 1 = .ok (.ldc2_w 58, 3) := dk_20 0 58 (dk_at dksJ31_ceil_0 1 rfl rfl)
theorem dJ31_ceil_4 : decode cJ31_ceil 4 = .ok (.dconst 1, 1) := dk_15 (dk_at dksJ31_ceil_0 4 rfl rfl)
theorem dJ31_ceil_5 : decode cJ31_ceil 5 = .ok (.dconst 1, 1) := dk_15 (dk_at dksJ31_ceil_0 5 rfl rfl)
theorem dJ31_ceil_6 : decode cJ31_ceil 6 = .ok (.invokestatic 60, 3) := dk_184 0 60 (dk_at dksJ31_ceil_0 6 rfl rfl)
theorem dJ31_ceil_9 : decode cJ31_ceil 9 = .ok (.dreturn, 1) := dk_175 (dk_at dksJ31_ceil_0 9 rfl rfl)
abbrev cJ31_floorOrCeil : ByteArray := prog_39_method_18_code
def yJ31_floorOrCeil : MethodName := ⟨RJ31, "floorOrCeil", "(DDDD)D"⟩
def dkwJ31_floorOrCeil_5 : List UInt8 := [24, 13, 24, 6, 99, 57, 13, 24, 13, 175]
abbrev dktJ31_floorOrCeil_5 : List UInt8 := dkwJ31_floorOrCeil_5 ++ []
def dkwJ31_floorOrCeil_4 : List UInt8 := [175, 22, 9, 22, 11, 20, 0, 87, 131, 127, 184, 0, 89, 57, 13, 24, 6, 38, 107, 14, 151, 158, 0, 10]
abbrev dktJ31_floorOrCeil_4 : List UInt8 := dkwJ31_floorOrCeil_4 ++ dktJ31_floorOrCeil_5
def dkwJ31_floorOrCeil_3 : List UInt8 := [184, 0, 77, 55, 9, 20, 0, 85, 21, 8, 123, 55, 11, 22, 11, 22, 9, 127, 9, 148, 154, 0, 5, 38]
abbrev dktJ31_floorOrCeil_3 : List UInt8 := dkwJ31_floorOrCeil_3 ++ dktJ31_floorOrCeil_4
def dkwJ31_floorOrCeil_2 : List UInt8 := [154, 0, 23, 21, 8, 155, 0, 10, 21, 8, 16, 51, 164, 0, 11, 187, 0, 74, 89, 183, 0, 76, 191, 38]
abbrev dktJ31_floorOrCeil_2 : List UInt8 := dkwJ31_floorOrCeil_2 ++ dktJ31_floorOrCeil_3
def dkwJ31_floorOrCeil_1 : List UInt8 := [156, 0, 7, 40, 167, 0, 5, 24, 4, 175, 21, 8, 16, 52, 161, 0, 5, 38, 175, 178, 0, 70]
abbrev dktJ31_floorOrCeil_1 : List UInt8 := dkwJ31_floorOrCeil_1 ++ dktJ31_floorOrCeil_2
def dkwJ31_floorOrCeil_0 : List UInt8 := [38, 184, 0, 66, 54, 8, 21, 8, 156, 0, 26, 38, 14, 151, 154, 0, 7, 38, 167, 0, 15, 38, 14, 152]
abbrev dktJ31_floorOrCeil_0 : List UInt8 := dkwJ31_floorOrCeil_0 ++ dktJ31_floorOrCeil_1
theorem dksJ31_floorOrCeil_0 : cJ31_floorOrCeil.data.toList.drop 0 = dktJ31_floorOrCeil_0 := by decide +kernel
theorem dksJ31_floorOrCeil_1 : cJ31_floorOrCeil.data.toList.drop 24 = dktJ31_floorOrCeil_1 := dk_seg dksJ31_floorOrCeil_0 24 rfl rfl
theorem dksJ31_floorOrCeil_2 : cJ31_floorOrCeil.data.toList.drop 46 = dktJ31_floorOrCeil_2 := dk_seg dksJ31_floorOrCeil_1 22 rfl rfl
theorem dksJ31_floorOrCeil_3 : cJ31_floorOrCeil.data.toList.drop 70 = dktJ31_floorOrCeil_3 := dk_seg dksJ31_floorOrCeil_2 24 rfl rfl
theorem dksJ31_floorOrCeil_4 : cJ31_floorOrCeil.data.toList.drop 94 = dktJ31_floorOrCeil_4 := dk_seg dksJ31_floorOrCeil_3 24 rfl rfl
theorem dksJ31_floorOrCeil_5 : cJ31_floorOrCeil.data.toList.drop 118 = dktJ31_floorOrCeil_5 := dk_seg dksJ31_floorOrCeil_4 24 rfl rfl
theorem dJ31_floorOrCeil_0 : decode cJ31_floorOrCeil 0 = .ok (.dload_n 0, 1) := dk_38 (dk_at dksJ31_floorOrCeil_0 0 rfl rfl)
theorem dJ31_floorOrCeil_1 : decode cJ31_floorOrCeil 1 = .ok (.invokestatic 66, 3) := dk_184 0 66 (dk_at dksJ31_floorOrCeil_0 1 rfl rfl)
theorem dJ31_floorOrCeil_4 : decode cJ31_floorOrCeil 4 = .ok (.istore 8, 2) := dk_54 8 (dk_at dksJ31_floorOrCeil_0 4 rfl rfl)
theorem dJ31_floorOrCeil_6 : decode cJ31_floorOrCeil 6 = .ok (.iload 8, 2) := dk_21 8 (dk_at dksJ31_floorOrCeil_0 6 rfl rfl)
theorem dJ31_floorOrCeil_8 : decode cJ31_floorOrCeil 8 = .ok (.ifCond .ge 26, 3) := dk_156 0 26 (dk_at dksJ31_floorOrCeil_0 8 rfl rfl)
theorem dJ31_floorOrCeil_11 : decode cJ31_floorOrCeil 11 = .ok (.dload_n 0, 1) := dk_38 (dk_at dksJ31_floorOrCeil_0 11 rfl rfl)
theorem dJ31_floorOrCeil_12 : decode cJ31_floorOrCeil 12 = .ok (.dconst 0, 1) := dk_14 (dk_at dksJ31_floorOrCeil_0 12 rfl rfl)
theorem dJ31_floorOrCeil_13 : decode cJ31_floorOrCeil 13 = .ok (.dcmp .l, 1) := dk_151 (dk_at dksJ31_floorOrCeil_0 13 rfl rfl)
theorem dJ31_floorOrCeil_14 : decode cJ31_floorOrCeil 14 = .ok (.ifCond .ne 7, 3) := dk_154 0 7 (dk_at dksJ31_floorOrCeil_0 14 rfl rfl)
theorem dJ31_floorOrCeil_17 : decode cJ31_floorOrCeil 17 = .ok (.dload_n 0, 1) := dk_38 (dk_at dksJ31_floorOrCeil_0 17 rfl rfl)
theorem dJ31_floorOrCeil_18 : decode cJ31_floorOrCeil 18 = .ok (.goto 15, 3) := dk_167 0 15 (dk_at dksJ31_floorOrCeil_0 18 rfl rfl)
theorem dJ31_floorOrCeil_21 : decode cJ31_floorOrCeil 21 = .ok (.dload_n 0, 1) := dk_38 (dk_at dksJ31_floorOrCeil_0 21 rfl rfl)
theorem dJ31_floorOrCeil_22 : decode cJ31_floorOrCeil 22 = .ok (.dconst 0, 1) := dk_14 (dk_at dksJ31_floorOrCeil_0 22 rfl rfl)
theorem dJ31_floorOrCeil_23 : decode cJ31_floorOrCeil 23 = .ok (.dcmp .g, 1) := dk_152 (dk_at dksJ31_floorOrCeil_0 23 rfl rfl)
theorem dJ31_floorOrCeil_24 : decode cJ31_floorOrCeil 24 = .ok (.ifCond .ge 7, 3) := dk_156 0 7 (dk_at dksJ31_floorOrCeil_1 0 rfl rfl)
theorem dJ31_floorOrCeil_27 : decode cJ31_floorOrCeil 27 = .ok (.dload_n 2, 1) := dk_40 (dk_at dksJ31_floorOrCeil_1 3 rfl rfl)
theorem dJ31_floorOrCeil_28 : decode cJ31_floorOrCeil 28 = .ok (.goto 5, 3) := dk_167 0 5 (dk_at dksJ31_floorOrCeil_1 4 rfl rfl)
theorem dJ31_floorOrCeil_31 : decode cJ31_floorOrCeil 31 = .ok (.dload 4, 2) := dk_24 4 (dk_at dksJ31_floorOrCeil_1 7 rfl rfl)
theorem dJ31_floorOrCeil_33 : decode cJ31_floorOrCeil 33 = .ok (.dreturn, 1) := dk_175 (dk_at dksJ31_floorOrCeil_1 9 rfl rfl)
theorem dJ31_floorOrCeil_34 : decode cJ31_floorOrCeil 34 = .ok (.iload 8, 2) := dk_21 8 (dk_at dksJ31_floorOrCeil_1 10 rfl rfl)
theorem dJ31_floorOrCeil_36 : decode cJ31_floorOrCeil 36 = .ok (.bipush 52, 2) := dk_16 52 (dk_at dksJ31_floorOrCeil_1 12 rfl rfl)
theorem dJ31_floorOrCeil_38 : decode cJ31_floorOrCeil 38 = .ok (.if_icmp .lt 5, 3) := dk_161 0 5 (dk_at dksJ31_floorOrCeil_1 14 rfl rfl)
theorem dJ31_floorOrCeil_41 : decode cJ31_floorOrCeil 41 = .ok (.dload_n 0, 1) := dk_38 (dk_at dksJ31_floorOrCeil_1 17 rfl rfl)
theorem dJ31_floorOrCeil_42 : decode cJ31_floorOrCeil 42 = .ok (.dreturn, 1) := dk_175 (dk_at dksJ31_floorOrCeil_1 18 rfl rfl)
theorem dJ31_floorOrCeil_43 : decode cJ31_floorOrCeil 43 = .ok (.getstatic 70, 3) := dk_178 0 70 (dk_at dksJ31_floorOrCeil_1 19 rfl rfl)
theorem dJ31_floorOrCeil_46 : decode cJ31_floorOrCeil 46 = .ok (.ifCond .ne 23, 3) := dk_154 0 23 (dk_at dksJ31_floorOrCeil_2 0 rfl rfl)
theorem dJ31_floorOrCeil_49 : decode cJ31_floorOrCeil 49 = .ok (.iload 8, 2) := dk_21 8 (dk_at dksJ31_floorOrCeil_2 3 rfl rfl)
theorem dJ31_floorOrCeil_51 : decode cJ31_floorOrCeil 51 = .ok (.ifCond .lt 10, 3) := dk_155 0 10 (dk_at dksJ31_floorOrCeil_2 5 rfl rfl)
theorem dJ31_floorOrCeil_54 : decode cJ31_floorOrCeil 54 = .ok (.iload 8, 2) := dk_21 8 (dk_at dksJ31_floorOrCeil_2 8 rfl rfl)
theorem dJ31_floorOrCeil_56 : decode cJ31_floorOrCeil 56 = .ok (.bipush 51, 2) := dk_16 51 (dk_at dksJ31_floorOrCeil_2 10 rfl rfl)
theorem dJ31_floorOrCeil_58 : decode cJ31_floorOrCeil 58 = .ok (.if_icmp .le 11, 3) := dk_164 0 11 (dk_at dksJ31_floorOrCeil_2 12 rfl rfl)
theorem dJ31_floorOrCeil_61 : decode cJ31_floorOrCeil 61 = .ok (.new 74, 3) := dk_187 0 74 (dk_at dksJ31_floorOrCeil_2 15 rfl rfl)
theorem dJ31_floorOrCeil_64 : decode cJ31_floorOrCeil 64 = .ok (.dup, 1) := dk_89 (dk_at dksJ31_floorOrCeil_2 18 rfl rfl)
theorem dJ31_floorOrCeil_65 : decode cJ31_floorOrCeil 65 = .ok (.invokespecial 76, 3) := dk_183 0 76 (dk_at dksJ31_floorOrCeil_2 19 rfl rfl)
theorem dJ31_floorOrCeil_68 : decode cJ31_floorOrCeil 68 = .ok (.athrow, 1) := dk_191 (dk_at dksJ31_floorOrCeil_2 22 rfl rfl)
theorem dJ31_floorOrCeil_69 : decode cJ31_floorOrCeil 69 = .ok (.dload_n 0, 1) := dk_38 (dk_at dksJ31_floorOrCeil_2 23 rfl rfl)
theorem dJ31_floorOrCeil_70 : decode cJ31_floorOrCeil 70 = .ok (.invokestatic 77, 3) := dk_184 0 77 (dk_at dksJ31_floorOrCeil_3 0 rfl rfl)
theorem dJ31_floorOrCeil_73 : decode cJ31_floorOrCeil 73 = .ok (.lstore 9, 2) := dk_55 9 (dk_at dksJ31_floorOrCeil_3 3 rfl rfl)
theorem dJ31_floorOrCeil_75 : decode cJ31_floorOrCeil 75 = .ok (.ldc2_w 85, 3) := dk_20 0 85 (dk_at dksJ31_floorOrCeil_3 5 rfl rfl)
theorem dJ31_floorOrCeil_78 : decode cJ31_floorOrCeil 78 = .ok (.iload 8, 2) := dk_21 8 (dk_at dksJ31_floorOrCeil_3 8 rfl rfl)
theorem dJ31_floorOrCeil_80 : decode cJ31_floorOrCeil 80 = .ok (.lshr, 1) := dk_123 (dk_at dksJ31_floorOrCeil_3 10 rfl rfl)
theorem dJ31_floorOrCeil_81 : decode cJ31_floorOrCeil 81 = .ok (.lstore 11, 2) := dk_55 11 (dk_at dksJ31_floorOrCeil_3 11 rfl rfl)
theorem dJ31_floorOrCeil_83 : decode cJ31_floorOrCeil 83 = .ok (.lload 11, 2) := dk_22 11 (dk_at dksJ31_floorOrCeil_3 13 rfl rfl)
theorem dJ31_floorOrCeil_85 : decode cJ31_floorOrCeil 85 = .ok (.lload 9, 2) := dk_22 9 (dk_at dksJ31_floorOrCeil_3 15 rfl rfl)
theorem dJ31_floorOrCeil_87 : decode cJ31_floorOrCeil 87 = .ok (.land, 1) := dk_127 (dk_at dksJ31_floorOrCeil_3 17 rfl rfl)
theorem dJ31_floorOrCeil_88 : decode cJ31_floorOrCeil 88 = .ok (.lconst 0, 1) := dk_9 (dk_at dksJ31_floorOrCeil_3 18 rfl rfl)
theorem dJ31_floorOrCeil_89 : decode cJ31_floorOrCeil 89 = .ok (.lcmp, 1) := dk_148 (dk_at dksJ31_floorOrCeil_3 19 rfl rfl)
theorem dJ31_floorOrCeil_90 : decode cJ31_floorOrCeil 90 = .ok (.ifCond .ne 5, 3) := dk_154 0 5 (dk_at dksJ31_floorOrCeil_3 20 rfl rfl)
theorem dJ31_floorOrCeil_93 : decode cJ31_floorOrCeil 93 = .ok (.dload_n 0, 1) := dk_38 (dk_at dksJ31_floorOrCeil_3 23 rfl rfl)
theorem dJ31_floorOrCeil_94 : decode cJ31_floorOrCeil 94 = .ok (.dreturn, 1) := dk_175 (dk_at dksJ31_floorOrCeil_4 0 rfl rfl)
theorem dJ31_floorOrCeil_95 : decode cJ31_floorOrCeil 95 = .ok (.lload 9, 2) := dk_22 9 (dk_at dksJ31_floorOrCeil_4 1 rfl rfl)
theorem dJ31_floorOrCeil_97 : decode cJ31_floorOrCeil 97 = .ok (.lload 11, 2) := dk_22 11 (dk_at dksJ31_floorOrCeil_4 3 rfl rfl)
theorem dJ31_floorOrCeil_99 : decode cJ31_floorOrCeil 99 = .ok (.ldc2_w 87, 3) := dk_20 0 87 (dk_at dksJ31_floorOrCeil_4 5 rfl rfl)
theorem dJ31_floorOrCeil_102 : decode cJ31_floorOrCeil 102 = .ok (.lxor, 1) := dk_131 (dk_at dksJ31_floorOrCeil_4 8 rfl rfl)
theorem dJ31_floorOrCeil_103 : decode cJ31_floorOrCeil 103 = .ok (.land, 1) := dk_127 (dk_at dksJ31_floorOrCeil_4 9 rfl rfl)
theorem dJ31_floorOrCeil_104 : decode cJ31_floorOrCeil 104 = .ok (.invokestatic 89, 3) := dk_184 0 89 (dk_at dksJ31_floorOrCeil_4 10 rfl rfl)
theorem dJ31_floorOrCeil_107 : decode cJ31_floorOrCeil 107 = .ok (.dstore 13, 2) := dk_57 13 (dk_at dksJ31_floorOrCeil_4 13 rfl rfl)
theorem dJ31_floorOrCeil_109 : decode cJ31_floorOrCeil 109 = .ok (.dload 6, 2) := dk_24 6 (dk_at dksJ31_floorOrCeil_4 15 rfl rfl)
theorem dJ31_floorOrCeil_111 : decode cJ31_floorOrCeil 111 = .ok (.dload_n 0, 1) := dk_38 (dk_at dksJ31_floorOrCeil_4 17 rfl rfl)
theorem dJ31_floorOrCeil_112 : decode cJ31_floorOrCeil 112 = .ok (.dmul, 1) := dk_107 (dk_at dksJ31_floorOrCeil_4 18 rfl rfl)
theorem dJ31_floorOrCeil_113 : decode cJ31_floorOrCeil 113 = .ok (.dconst 0, 1) := dk_14 (dk_at dksJ31_floorOrCeil_4 19 rfl rfl)
theorem dJ31_floorOrCeil_114 : decode cJ31_floorOrCeil 114 = .ok (.dcmp .l, 1) := dk_151 (dk_at dksJ31_floorOrCeil_4 20 rfl rfl)
theorem dJ31_floorOrCeil_115 : decode cJ31_floorOrCeil 115 = .ok (.ifCond .le 10, 3) := dk_158 0 10 (dk_at dksJ31_floorOrCeil_4 21 rfl rfl)
theorem dJ31_floorOrCeil_118 : decode cJ31_floorOrCeil 118 = .ok (.dload 13, 2) := dk_24 13 (dk_at dksJ31_floorOrCeil_5 0 rfl rfl)
theorem dJ31_floorOrCeil_120 : decode cJ31_floorOrCeil 120 = .ok (.dload 6, 2) := dk_24 6 (dk_at dksJ31_floorOrCeil_5 2 rfl rfl)
theorem dJ31_floorOrCeil_122 : decode cJ31_floorOrCeil 122 = .ok (.dadd, 1) := dk_99 (dk_at dksJ31_floorOrCeil_5 4 rfl rfl)
theorem dJ31_floorOrCeil_123 : decode cJ31_floorOrCeil 123 = .ok (.dstore 13, 2) := dk_57 13 (dk_at dksJ31_floorOrCeil_5 5 rfl rfl)
theorem dJ31_floorOrCeil_125 : decode cJ31_floorOrCeil 125 = .ok (.dload 13, 2) := dk_24 13 (dk_at dksJ31_floorOrCeil_5 7 rfl rfl)
theorem dJ31_floorOrCeil_127 : decode cJ31_floorOrCeil 127 = .ok (.dreturn, 1) := dk_175 (dk_at dksJ31_floorOrCeil_5 9 rfl rfl)
theorem q141 : (Jvm.Cond.initialized "java/lang/StrictMath") ∈ lw_all := lw_g (lw_at lw_m1 42 rfl) rfl
theorem q1440 : (Jvm.Cond.static ({ cls := "java/lang/StrictMath", name := "ceil", desc := "(D)D" } : Jvm.MethodName)) ∈ lw_all := lw_g (lw_at lw_m6 141 rfl) rfl
theorem q1441 : (Jvm.Cond.code ({ cls := "java/lang/StrictMath", name := "ceil", desc := "(D)D" } : Jvm.MethodName) prog_39_method_16_code (2 : Nat) (Option.some Jvm.ClassFile.FieldType.double)) ∈ lw_all := lw_g (lw_at lw_m6 142 rfl) rfl
theorem q1442 : (Jvm.Cond.constantDouble "java/lang/StrictMath" (58 : Nat) (9223372036854775808 : UInt64)) ∈ lw_all := lw_g (lw_at lw_m6 143 rfl) rfl
theorem q1443 : (Jvm.Cond.methodLink "java/lang/StrictMath" (60 : Nat) ({ cls := "java/lang/StrictMath", name := "floorOrCeil", desc := "(DDDD)D" } : Jvm.MethodName)) ∈ lw_all := lw_g (lw_at lw_m6 144 rfl) rfl
theorem q1444 : (Jvm.Cond.static ({ cls := "java/lang/StrictMath", name := "floorOrCeil", desc := "(DDDD)D" } : Jvm.MethodName)) ∈ lw_all := lw_g (lw_at lw_m6 145 rfl) rfl
theorem q1445 : (Jvm.Cond.code ({ cls := "java/lang/StrictMath", name := "floorOrCeil", desc := "(DDDD)D" } : Jvm.MethodName) prog_39_method_18_code (15 : Nat) (Option.some Jvm.ClassFile.FieldType.double)) ∈ lw_all := lw_g (lw_at lw_m6 146 rfl) rfl
theorem q1446 : (Jvm.Cond.methodLink "java/lang/StrictMath" (66 : Nat) ({ cls := "java/lang/Math", name := "getExponent", desc := "(D)I" } : Jvm.MethodName)) ∈ lw_all := lw_g (lw_at lw_m6 147 rfl) rfl
theorem q1454 : (Jvm.Cond.fieldLink "java/lang/StrictMath" (70 : Nat) "java/lang/StrictMath" "$assertionsDisabled" "Z") ∈ lw_all := lw_g (lw_at lw_m6 155 rfl) rfl
theorem q1455 : (Jvm.Cond.laysStatic "java/lang/StrictMath" "$assertionsDisabled" "Z") ∈ lw_tbl := lw_at lw_m6 156 rfl
theorem q1456 : (Jvm.Cond.methodLink "java/lang/StrictMath" (77 : Nat) ({ cls := "java/lang/Double", name := "doubleToRawLongBits", desc := "(D)J" } : Jvm.MethodName)) ∈ lw_all := lw_g (lw_at lw_m6 157 rfl) rfl
theorem q1457 : (Jvm.Cond.constantLong "java/lang/StrictMath" (85 : Nat) (4503599627370495 : Int64)) ∈ lw_all := lw_g (lw_at lw_m6 158 rfl) rfl
theorem q1458 : (Jvm.Cond.constantLong "java/lang/StrictMath" (87 : Nat) (-1 : Int64)) ∈ lw_all := lw_g (lw_at lw_m6 159 rfl) rfl
theorem q1459 : (Jvm.Cond.methodLink "java/lang/StrictMath" (89 : Nat) ({ cls := "java/lang/Double", name := "longBitsToDouble", desc := "(J)D" } : Jvm.MethodName)) ∈ lw_all := lw_g (lw_at lw_m6 160 rfl) rfl
/-! java/lang/Long -/
set_option maxRecDepth 100000
def RJ34 : String := "java/lang/Long"
abbrev cJ34_numberOfTrailingZeros : ByteArray := prog_35_method_49_code
def yJ34_numberOfTrailingZeros : MethodName := ⟨RJ34, "numberOfTrailingZeros", "(J)I"⟩
def dkwJ34_numberOfTrailingZeros_1 : List UInt8 := [184, 1, 55, 172]
abbrev dktJ34_numberOfTrailingZeros_1 : List UInt8 := dkwJ34_numberOfTrailingZeros_1 ++ []
def dkwJ34_numberOfTrailingZeros_0 : List UInt8 := [30, 136, 61, 28, 154, 0, 17, 16, 32, 30, 16, 32, 125, 136, 184, 1, 55, 96, 167, 0, 7, 28]
abbrev dktJ34_numberOfTrailingZeros_0 : List UInt8 := dkwJ34_numberOfTrailingZeros_0 ++ dktJ34_numberOfTrailingZeros_1
theorem dksJ34_numberOfTrailingZeros_0 : cJ34_numberOfTrailingZeros.data.toList.drop 0 = dktJ34_numberOfTrailingZeros_0 := by decide +kernel
theorem dksJ34_numberOfTrailingZeros_1 : cJ34_numberOfTrailingZeros.data.toList.drop 22 = dktJ34_numberOfTrailingZeros_1 := dk_seg dksJ34_numberOfTrailingZeros_0 22 rfl rfl
theorem dJ34_numberOfTrailingZeros_0 : decode cJ34_numberOfTrailingZeros 0 = .ok (.lload_n 0, 1) := dk_30 (dk_at dksJ34_numberOfTrailingZeros_0 0 rfl rfl)
theorem dJ34_numberOfTrailingZeros_1 : decode cJ34_numberOfTrailingZeros 1 = .ok (.l2i, 1) := dk_136 (dk_at dksJ34_numberOfTrailingZeros_0 1 rfl rfl)
theorem dJ34_numberOfTrailingZeros_2 : decode cJ34_numberOfTrailingZeros 2 = .ok (.istore_n 2, 1) := dk_61 (dk_at dksJ34_numberOfTrailingZeros_0 2 rfl rfl)
theorem dJ34_numberOfTrailingZeros_3 : decode cJ34_numberOfTrailingZeros 3 = .ok (.iload_n 2, 1) := dk_28 (dk_at dksJ34_numberOfTrailingZeros_0 3 rfl rfl)
theorem dJ34_numberOfTrailingZeros_4 : decode cJ34_numberOfTrailingZeros 4 = .ok (.ifCond .ne 17, 3) := dk_154 0 17 (dk_at dksJ34_numberOfTrailingZeros_0 4 rfl rfl)
theorem dJ34_numberOfTrailingZeros_7 : decode cJ34_numberOfTrailingZeros 7 = .ok (.bipush 32, 2) := dk_16 32 (dk_at dksJ34_numberOfTrailingZeros_0 7 rfl rfl)
theorem dJ34_numberOfTrailingZeros_9 : decode cJ34_numberOfTrailingZeros 9 = .ok (.lload_n 0, 1) := dk_30 (dk_at dksJ34_numberOfTrailingZeros_0 9 rfl rfl)
theorem dJ34_numberOfTrailingZeros_10 : decode cJ34_numberOfTrailingZeros 10 = .ok (.bipush 32, 2) := dk_16 32 (dk_at dksJ34_numberOfTrailingZeros_0 10 rfl rfl)
theorem dJ34_numberOfTrailingZeros_12 : decode cJ34_numberOfTrailingZeros 12 = .ok (.lushr, 1) := dk_125 (dk_at dksJ34_numberOfTrailingZeros_0 12 rfl rfl)
theorem dJ34_numberOfTrailingZeros_13 : decode cJ34_numberOfTrailingZeros 13 = .ok (.l2i, 1) := dk_136 (dk_at dksJ34_numberOfTrailingZeros_0 13 rfl rfl)
theorem dJ34_numberOfTrailingZeros_14 : decode cJ34_numberOfTrailingZeros 14 = .ok (.invokestatic 311, 3) := dk_184 1 55 (dk_at dksJ34_numberOfTrailingZeros_0 14 rfl rfl)
theorem dJ34_numberOfTrailingZeros_17 : decode cJ34_numberOfTrailingZeros 17 = .ok (.iadd, 1) := dk_96 (dk_at dksJ34_numberOfTrailingZeros_0 17 rfl rfl)
theorem dJ34_numberOfTrailingZeros_18 : decode cJ34_numberOfTrailingZeros 18 = .ok (.goto 7, 3) := dk_167 0 7 (dk_at dksJ34_numberOfTrailingZeros_0 18 rfl rfl)
theorem dJ34_numberOfTrailingZeros_21 : decode cJ34_numberOfTrailingZeros 21 = .ok (.iload_n 2, 1) := dk_28 (dk_at dksJ34_numberOfTrailingZeros_0 21 rfl rfl)
theorem dJ34_numberOfTrailingZeros_22 : decode cJ34_numberOfTrailingZeros 22 = .ok (.invokestatic 311, 3) := dk_184 1 55 (dk_at dksJ34_numberOfTrailingZeros_1 0 rfl rfl)
theorem dJ34_numberOfTrailingZeros_25 : decode cJ34_numberOfTrailingZeros 25 = .ok (.ireturn, 1) := dk_172 (dk_at dksJ34_numberOfTrailingZeros_1 3 rfl rfl)
abbrev cJ34_numberOfLeadingZeros : ByteArray := prog_35_method_48_code
def yJ34_numberOfLeadingZeros : MethodName := ⟨RJ34, "numberOfLeadingZeros", "(J)I"⟩
def dkwJ34_numberOfLeadingZeros_1 : List UInt8 := [184, 1, 52, 172]
abbrev dktJ34_numberOfLeadingZeros_1 : List UInt8 := dkwJ34_numberOfLeadingZeros_1 ++ []
def dkwJ34_numberOfLeadingZeros_0 : List UInt8 := [30, 16, 32, 125, 136, 61, 28, 154, 0, 14, 16, 32, 30, 136, 184, 1, 52, 96, 167, 0, 7, 28]
abbrev dktJ34_numberOfLeadingZeros_0 : List UInt8 := dkwJ34_numberOfLeadingZeros_0 ++ dktJ34_numberOfLeadingZeros_1
theorem dksJ34_numberOfLeadingZeros_0 : cJ34_numberOfLeadingZeros.data.toList.drop 0 = dktJ34_numberOfLeadingZeros_0 := by decide +kernel
theorem dksJ34_numberOfLeadingZeros_1 : cJ34_numberOfLeadingZeros.data.toList.drop 22 = dktJ34_numberOfLeadingZeros_1 := dk_seg dksJ34_numberOfLeadingZeros_0 22 rfl rfl
theorem dJ34_numberOfLeadingZeros_0 : decode cJ34_numberOfLeadingZeros 0 = .ok (.lload_n 0, 1) := dk_30 (dk_at dksJ34_numberOfLeadingZeros_0 0 rfl rfl)
theorem dJ34_numberOfLeadingZeros_1 : decode cJ34_numberOfLeadingZeros 1 = .ok (.bipush 32, 2) := dk_16 32 (dk_at dksJ34_numberOfLeadingZeros_0 1 rfl rfl)
theorem dJ34_numberOfLeadingZeros_3 : decode cJ34_numberOfLeadingZeros 3 = .ok (.lushr, 1) := dk_125 (dk_at dksJ34_numberOfLeadingZeros_0 3 rfl rfl)
theorem dJ34_numberOfLeadingZeros_4 : decode cJ34_numberOfLeadingZeros 4 = .ok (.l2i, 1) := dk_136 (dk_at dksJ34_numberOfLeadingZeros_0 4 rfl rfl)
theorem dJ34_numberOfLeadingZeros_5 : decode cJ34_numberOfLeadingZeros 5 = .ok (.istore_n 2, 1) := dk_61 (dk_at dksJ34_numberOfLeadingZeros_0 5 rfl rfl)
theorem dJ34_numberOfLeadingZeros_6 : decode cJ34_numberOfLeadingZeros 6 = .ok (.iload_n 2, 1) := dk_28 (dk_at dksJ34_numberOfLeadingZeros_0 6 rfl rfl)
theorem dJ34_numberOfLeadingZeros_7 : decode cJ34_numberOfLeadingZeros 7 = .ok (.ifCond .ne 14, 3) := dk_154 0 14 (dk_at dksJ34_numberOfLeadingZeros_0 7 rfl rfl)
theorem dJ34_numberOfLeadingZeros_10 : decode cJ34_numberOfLeadingZeros 10 = .ok (.bipush 32, 2) := dk_16 32 (dk_at dksJ34_numberOfLeadingZeros_0 10 rfl rfl)
theorem dJ34_numberOfLeadingZeros_12 : decode cJ34_numberOfLeadingZeros 12 = .ok (.lload_n 0, 1) := dk_30 (dk_at dksJ34_numberOfLeadingZeros_0 12 rfl rfl)
theorem dJ34_numberOfLeadingZeros_13 : decode cJ34_numberOfLeadingZeros 13 = .ok (.l2i, 1) := dk_136 (dk_at dksJ34_numberOfLeadingZeros_0 13 rfl rfl)
theorem dJ34_numberOfLeadingZeros_14 : decode cJ34_numberOfLeadingZeros 14 = .ok (.invokestatic 308, 3) := dk_184 1 52 (dk_at dksJ34_numberOfLeadingZeros_0 14 rfl rfl)
theorem dJ34_numberOfLeadingZeros_17 : decode cJ34_numberOfLeadingZeros 17 = .ok (.iadd, 1) := dk_96 (dk_at dksJ34_numberOfLeadingZeros_0 17 rfl rfl)
theorem dJ34_numberOfLeadingZeros_18 : decode cJ34_numberOfLeadingZeros 18 = .ok (.goto 7, 3) := dk_167 0 7 (dk_at dksJ34_numberOfLeadingZeros_0 18 rfl rfl)
theorem dJ34_numberOfLeadingZeros_21 : decode cJ34_numberOfLeadingZeros 21 = .ok (.iload_n 2, 1) := dk_28 (dk_at dksJ34_numberOfLeadingZeros_0 21 rfl rfl)
theorem dJ34_numberOfLeadingZeros_22 : decode cJ34_numberOfLeadingZeros 22 = .ok (.invokestatic 308, 3) := dk_184 1 52 (dk_at dksJ34_numberOfLeadingZeros_1 0 rfl rfl)
theorem dJ34_numberOfLeadingZeros_25 : decode cJ34_numberOfLeadingZeros 25 = .ok (.ireturn, 1) := dk_172 (dk_at dksJ34_numberOfLeadingZeros_1 3 rfl rfl)
theorem q146 : (Jvm.Cond.initialized "java/lang/Long") ∈ lw_all := lw_g (lw_at lw_m1 47 rfl) rfl
theorem q1230 : (Jvm.Cond.static ({ cls := "java/lang/Long", name := "numberOfTrailingZeros", desc := "(J)I" } : Jvm.MethodName)) ∈ lw_all := lw_g (lw_at lw_m5 171 rfl) rfl
theorem q1231 : (Jvm.Cond.code ({ cls := "java/lang/Long", name := "numberOfTrailingZeros", desc := "(J)I" } : Jvm.MethodName) prog_35_method_49_code (3 : Nat) (Option.some Jvm.ClassFile.FieldType.int)) ∈ lw_all := lw_g (lw_at lw_m5 172 rfl) rfl
theorem q1232 : (Jvm.Cond.methodLink "java/lang/Long" (311 : Nat) ({ cls := "java/lang/Integer", name := "numberOfTrailingZeros", desc := "(I)I" } : Jvm.MethodName)) ∈ lw_all := lw_g (lw_at lw_m5 173 rfl) rfl
theorem q1642 : (Jvm.Cond.static ({ cls := "java/lang/Long", name := "numberOfLeadingZeros", desc := "(J)I" } : Jvm.MethodName)) ∈ lw_all := lw_g (lw_at lw_m7 103 rfl) rfl
theorem q1643 : (Jvm.Cond.code ({ cls := "java/lang/Long", name := "numberOfLeadingZeros", desc := "(J)I" } : Jvm.MethodName) prog_35_method_48_code (3 : Nat) (Option.some Jvm.ClassFile.FieldType.int)) ∈ lw_all := lw_g (lw_at lw_m7 104 rfl) rfl
theorem q1644 : (Jvm.Cond.methodLink "java/lang/Long" (308 : Nat) ({ cls := "java/lang/Integer", name := "numberOfLeadingZeros", desc := "(I)I" } : Jvm.MethodName)) ∈ lw_all := lw_g (lw_at lw_m7 105 rfl) rfl
/-! java/lang/UnsupportedOperationException -/
set_option maxRecDepth 100000
def RJ38 : String := "java/lang/UnsupportedOperationException"
def TJ38 : u_T := fun k => match k with
  | 0 => ("java/lang/Throwable", "cause", "Ljava/lang/Throwable;", false)
  | 1 => ("java/lang/Throwable", "stackTrace", "[Ljava/lang/StackTraceElement;", false)
  | 2 => ("java/lang/Throwable", "suppressedExceptions", "Ljava/util/List;", false)
  | 3 => ("java/lang/Throwable", "detailMessage", "Ljava/lang/String;", false)
  | 4 => ("java/lang/Throwable", "backtrace", "Ljava/lang/Object;", false)
  | _ => ("java/lang/Throwable", "depth", "I", false)
def tyJ38 : Nat → FieldType := fun k => match k with
  | 0 => .object "java/lang/Throwable"
  | 1 => .array (.object "java/lang/StackTraceElement")
  | 2 => .object "java/util/List"
  | 3 => .object "java/lang/String"
  | 4 => .object "java/lang/Object"
  | _ => .int
abbrev wsJ380 : List Cond := u_ws RJ38 TJ38 6
theorem nmJ38 : ∀ a, a < 6 → ∀ b, b < 6 → a ≠ b → (TJ38 a).2.1 ≠ (TJ38 b).2.1 := by decide +kernel
theorem tyJ38_ok : ∀ k, k < 6 → parseFieldDescriptor (TJ38 k).2.2.1 = some (tyJ38 k) := by decide +kernel
abbrev cJ38_init : ByteArray := prog_49_method_1_code
def yJ38_init : MethodName := ⟨RJ38, "<init>", "()V"⟩
theorem dJ38_init_0 : decode cJ38_init 0 = .ok (.aload_n 0, 1) := by decide +kernel
theorem dJ38_init_1 : decode cJ38_init 1 = .ok (.invokespecial 1, 3) := by decide +kernel
theorem dJ38_init_4 : decode cJ38_init 4 = .ok (.return_, 1) := by decide +kernel
theorem q151 : (Jvm.Cond.initialized "java/lang/UnsupportedOperationException") ∈ lw_all := lw_g (lw_at lw_m1 52 rfl) rfl
theorem q495 : (Jvm.Cond.selects "java/lang/UnsupportedOperationException" ({ cls := "java/lang/Object", name := "getClass", desc := "()Ljava/lang/Class;" } : Jvm.MethodName) ({ cls := "java/lang/Object", name := "getClass", desc := "()Ljava/lang/Class;" } : Jvm.MethodName)) ∈ lw_all := lw_g (lw_at lw_m2 156 rfl) rfl
theorem q772 : (Jvm.Cond.selects "java/lang/UnsupportedOperationException" ({ cls := "java/lang/Throwable", name := "fillInStackTrace", desc := "()Ljava/lang/Throwable;" } : Jvm.MethodName) ({ cls := "java/lang/Throwable", name := "fillInStackTrace", desc := "()Ljava/lang/Throwable;" } : Jvm.MethodName)) ∈ lw_all := lw_g (lw_at lw_m3 193 rfl) rfl
theorem q1888 : (Jvm.Cond.selects "java/lang/UnsupportedOperationException" ({ cls := "java/lang/Object", name := "hashCode", desc := "()I" } : Jvm.MethodName) ({ cls := "java/lang/Object", name := "hashCode", desc := "()I" } : Jvm.MethodName)) ∈ lw_all := lw_g (lw_at lw_m8 109 rfl) rfl
theorem q1943 : (Jvm.Cond.selects "java/lang/UnsupportedOperationException" ({ cls := "java/lang/Object", name := "equals", desc := "(Ljava/lang/Object;)Z" } : Jvm.MethodName) ({ cls := "java/lang/Object", name := "equals", desc := "(Ljava/lang/Object;)Z" } : Jvm.MethodName)) ∈ lw_all := lw_g (lw_at lw_m8 164 rfl) rfl
theorem q2088 : (Jvm.Cond.instantiable "java/lang/UnsupportedOperationException" (6 : Nat)) ∈ lw_all := lw_g (lw_at lw_m9 69 rfl) rfl
theorem q2089 : (Jvm.Cond.castable "java/lang/UnsupportedOperationException" "java/lang/UnsupportedOperationException") ∈ lw_tbl := lw_at lw_m9 70 rfl
theorem q2090 : (Jvm.Cond.selects "java/lang/UnsupportedOperationException" ({ cls := "java/lang/Throwable", name := "fillInStackTrace", desc := "(I)Ljava/lang/Throwable;" } : Jvm.MethodName) ({ cls := "java/lang/Throwable", name := "fillInStackTrace", desc := "(I)Ljava/lang/Throwable;" } : Jvm.MethodName)) ∈ lw_all := lw_g (lw_at lw_m9 71 rfl) rfl
theorem q2091 : (Jvm.Cond.lays "java/lang/UnsupportedOperationException" "java/lang/Throwable" "cause" "Ljava/lang/Throwable;") ∈ lw_all := lw_g (lw_at lw_m9 72 rfl) rfl
theorem q2092 : (Jvm.Cond.lays "java/lang/UnsupportedOperationException" "java/lang/Throwable" "stackTrace" "[Ljava/lang/StackTraceElement;") ∈ lw_all := lw_g (lw_at lw_m9 73 rfl) rfl
theorem q2093 : (Jvm.Cond.lays "java/lang/UnsupportedOperationException" "java/lang/Throwable" "suppressedExceptions" "Ljava/util/List;") ∈ lw_all := lw_g (lw_at lw_m9 74 rfl) rfl
theorem q2094 : (Jvm.Cond.lays "java/lang/UnsupportedOperationException" "java/lang/Throwable" "detailMessage" "Ljava/lang/String;") ∈ lw_all := lw_g (lw_at lw_m9 75 rfl) rfl
theorem q2095 : (Jvm.Cond.lays "java/lang/UnsupportedOperationException" "java/lang/Throwable" "backtrace" "Ljava/lang/Object;") ∈ lw_all := lw_g (lw_at lw_m9 76 rfl) rfl
theorem q2097 : (Jvm.Cond.instanceMethod ({ cls := "java/lang/UnsupportedOperationException", name := "<init>", desc := "()V" } : Jvm.MethodName)) ∈ lw_all := lw_g (lw_at lw_m9 78 rfl) rfl
theorem q2098 : (Jvm.Cond.code ({ cls := "java/lang/UnsupportedOperationException", name := "<init>", desc := "()V" } : Jvm.MethodName) prog_49_method_1_code (1 : Nat) (Option.none : Option Jvm.ClassFile.FieldType)) ∈ lw_all := lw_g (lw_at lw_m9 79 rfl) rfl
theorem q2099 : (Jvm.Cond.methodLink "java/lang/UnsupportedOperationException" (1 : Nat) ({ cls := "java/lang/RuntimeException", name := "<init>", desc := "()V" } : Jvm.MethodName)) ∈ lw_all := lw_g (lw_at lw_m9 80 rfl) rfl
theorem q2100 : (Jvm.Cond.lays "java/lang/UnsupportedOperationException" "java/lang/Throwable" "depth" "I") ∈ lw_all := lw_g (lw_at lw_m9 81 rfl) rfl
theorem q2101 : (Jvm.Cond.superclass "java/lang/UnsupportedOperationException" "java/lang/RuntimeException") ∈ lw_all := lw_g (lw_at lw_m9 82 rfl) rfl
theorem q3306 : (Jvm.Cond.selects "java/lang/UnsupportedOperationException" ({ cls := "java/lang/Throwable", name := "getLocalizedMessage", desc := "()Ljava/lang/String;" } : Jvm.MethodName) ({ cls := "java/lang/Throwable", name := "getLocalizedMessage", desc := "()Ljava/lang/String;" } : Jvm.MethodName)) ∈ lw_all := lw_g (lw_at lw_m14 87 rfl) rfl
theorem q3321 : (Jvm.Cond.selects "java/lang/UnsupportedOperationException" ({ cls := "java/lang/Throwable", name := "getMessage", desc := "()Ljava/lang/String;" } : Jvm.MethodName) ({ cls := "java/lang/Throwable", name := "getMessage", desc := "()Ljava/lang/String;" } : Jvm.MethodName)) ∈ lw_all := lw_g (lw_at lw_m14 102 rfl) rfl
theorem q3366 : (Jvm.Cond.selects "java/lang/UnsupportedOperationException" ({ cls := "java/lang/Object", name := "toString", desc := "()Ljava/lang/String;" } : Jvm.MethodName) ({ cls := "java/lang/Throwable", name := "toString", desc := "()Ljava/lang/String;" } : Jvm.MethodName)) ∈ lw_all := lw_g (lw_at lw_m14 147 rfl) rfl
theorem q4150 : (Jvm.Cond.castable "java/lang/UnsupportedOperationException" "java/lang/Throwable") ∈ lw_tbl := lw_at lw_m17 211 rfl
theorem q4173 : (Jvm.Cond.castable "java/lang/UnsupportedOperationException" "java/lang/Object") ∈ lw_tbl := lw_at lw_m17 234 rfl
theorem in_J38 : ∀ w ∈ wsJ380, w ∈ lw_all := lw_in wsJ380 [2091, 2092, 2093, 2094, 2095, 2100] (by decide +kernel) (by decide +kernel)
/-! java/util/BitSet -/
set_option maxRecDepth 100000
def RJ40 : String := "java/util/BitSet"
def TJ40 : u_T := fun k => match k with
  | 0 => ("java/util/BitSet", "words", "[J", false)
  | 1 => ("java/util/BitSet", "wordsInUse", "I", false)
  | _ => ("java/util/BitSet", "sizeIsSticky", "Z", false)
def tyJ40 : Nat → FieldType := fun k => match k with
  | 0 => .array .long
  | 1 => .int
  | _ => .boolean
abbrev wsJ400 : List Cond := u_ws RJ40 TJ40 3
theorem nmJ40 : ∀ a, a < 3 → ∀ b, b < 3 → a ≠ b → (TJ40 a).2.1 ≠ (TJ40 b).2.1 := by decide +kernel
theorem tyJ40_ok : ∀ k, k < 3 → parseFieldDescriptor (TJ40 k).2.2.1 = some (tyJ40 k) := by decide +kernel
abbrev cJ40_init : ByteArray := prog_59_method_5_code
def yJ40_init : MethodName := ⟨RJ40, "<init>", "(I)V"⟩
def dkwJ40_init_2 : List UInt8 := [27, 182, 0, 27, 42, 4, 181, 0, 24, 177]
abbrev dktJ40_init_2 : List UInt8 := dkwJ40_init_2 ++ []
def dkwJ40_init_1 : List UInt8 := [187, 0, 33, 89, 183, 0, 35, 18, 36, 182, 0, 38, 27, 182, 0, 42, 182, 0, 45, 183, 0, 49, 191, 42]
abbrev dktJ40_init_1 : List UInt8 := dkwJ40_init_1 ++ dktJ40_init_2
def dkwJ40_init_0 : List UInt8 := [42, 183, 0, 21, 42, 3, 181, 0, 7, 42, 3, 181, 0, 24, 27, 156, 0, 30, 187, 0, 31, 89]
abbrev dktJ40_init_0 : List UInt8 := dkwJ40_init_0 ++ dktJ40_init_1
theorem dksJ40_init_0 : cJ40_init.data.toList.drop 0 = dktJ40_init_0 := by decide +kernel
theorem dksJ40_init_1 : cJ40_init.data.toList.drop 22 = dktJ40_init_1 := dk_seg dksJ40_init_0 22 rfl rfl
theorem dksJ40_init_2 : cJ40_init.data.toList.drop 46 = dktJ40_init_2 := dk_seg dksJ40_init_1 24 rfl rfl
theorem dJ40_init_0 : decode cJ40_init 0 = .ok (.aload_n 0, 1) := dk_42 (dk_at dksJ40_init_0 0 rfl rfl)
theorem dJ40_init_1 : decode cJ40_init 1 = .ok (.invokespecial 21, 3) := dk_183 0 21 (dk_at dksJ40_init_0 1 rfl rfl)
theorem dJ40_init_4 : decode cJ40_init 4 = .ok (.aload_n 0, 1) := dk_42 (dk_at dksJ40_init_0 4 rfl rfl)
theorem dJ40_init_5 : decode cJ40_init 5 = .ok (.iconst 0, 1) := dk_3 (dk_at dksJ40_init_0 5 rfl rfl)
theorem dJ40_init_6 : decode cJ40_init 6 = .ok (.putfield 7, 3) := dk_181 0 7 (dk_at dksJ40_init_0 6 rfl rfl)
theorem dJ40_init_9 : decode cJ40_init 9 = .ok (.aload_n 0, 1) := dk_42 (dk_at dksJ40_init_0 9 rfl rfl)
theorem dJ40_init_10 : decode cJ40_init 10 = .ok (.iconst 0, 1) := dk_3 (dk_at dksJ40_init_0 10 rfl rfl)
theorem dJ40_init_11 : decode cJ40_init 11 = .ok (.putfield 24, 3) := dk_181 0 24 (dk_at dksJ40_init_0 11 rfl rfl)
theorem dJ40_init_14 : decode cJ40_init 14 = .ok (.iload_n 1, 1) := dk_27 (dk_at dksJ40_init_0 14 rfl rfl)
theorem dJ40_init_15 : decode cJ40_init 15 = .ok (.ifCond .ge 30, 3) := dk_156 0 30 (dk_at dksJ40_init_0 15 rfl rfl)
theorem dJ40_init_18 : decode cJ40_init 18 = .ok (.new 31, 3) := dk_187 0 31 (dk_at dksJ40_init_0 18 rfl rfl)
theorem dJ40_init_21 : decode cJ40_init 21 = .ok (.dup, 1) := dk_89 (dk_at dksJ40_init_0 21 rfl rfl)
theorem dJ40_init_22 : decode cJ40_init 22 = .ok (.new 33, 3) := dk_187 0 33 (dk_at dksJ40_init_1 0 rfl rfl)
theorem dJ40_init_25 : decode cJ40_init 25 = .ok (.dup, 1) := dk_89 (dk_at dksJ40_init_1 3 rfl rfl)
theorem dJ40_init_26 : decode cJ40_init 26 = .ok (.invokespecial 35, 3) := dk_183 0 35 (dk_at dksJ40_init_1 4 rfl rfl)
theorem dJ40_init_29 : decode cJ40_init 29 = .ok (.ldc 36, 2) := dk_18 36 (dk_at dksJ40_init_1 7 rfl rfl)
theorem dJ40_init_31 : decode cJ40_init 31 = .ok (.invokevirtual 38, 3) := dk_182 0 38 (dk_at dksJ40_init_1 9 rfl rfl)
theorem dJ40_init_34 : decode cJ40_init 34 = .ok (.iload_n 1, 1) := dk_27 (dk_at dksJ40_init_1 12 rfl rfl)
theorem dJ40_init_35 : decode cJ40_init 35 = .ok (.invokevirtual 42, 3) := dk_182 0 42 (dk_at dksJ40_init_1 13 rfl rfl)
theorem dJ40_init_38 : decode cJ40_init 38 = .ok (.invokevirtual 45, 3) := dk_182 0 45 (dk_at dksJ40_init_1 16 rfl rfl)
theorem dJ40_init_41 : decode cJ40_init 41 = .ok (.invokespecial 49, 3) := dk_183 0 49 (dk_at dksJ40_init_1 19 rfl rfl)
theorem dJ40_init_44 : decode cJ40_init 44 = .ok (.athrow, 1) := dk_191 (dk_at dksJ40_init_1 22 rfl rfl)
theorem dJ40_init_45 : decode cJ40_init 45 = .ok (.aload_n 0, 1) := dk_42 (dk_at dksJ40_init_1 23 rfl rfl)
theorem dJ40_init_46 : decode cJ40_init 46 = .ok (.iload_n 1, 1) := dk_27 (dk_at dksJ40_init_2 0 rfl rfl)
theorem dJ40_init_47 : decode cJ40_init 47 = .ok (.invokevirtual 27, 3) := dk_182 0 27 (dk_at dksJ40_init_2 1 rfl rfl)
theorem dJ40_init_50 : decode cJ40_init 50 = .ok (.aload_n 0, 1) := dk_42 (dk_at dksJ40_init_2 4 rfl rfl)
theorem dJ40_init_51 : decode cJ40_init 51 = .ok (.iconst 1, 1) := dk_4 (dk_at dksJ40_init_2 5 rfl rfl)
theorem dJ40_init_52 : decode cJ40_init 52 = .ok (.putfield 24, 3) := dk_181 0 24 (dk_at dksJ40_init_2 6 rfl rfl)
theorem dJ40_init_55 : decode cJ40_init 55 = .ok (.return_, 1) := dk_177 (dk_at dksJ40_init_2 9 rfl rfl)
abbrev cJ40_initWords : ByteArray := prog_59_method_6_code
def yJ40_initWords : MethodName := ⟨RJ40, "initWords", "(I)V"⟩
def dkwJ40_initWords_0 : List UInt8 := [42, 27, 4, 100, 184, 0, 52, 4, 96, 188, 11, 181, 0, 11, 177]
abbrev dktJ40_initWords_0 : List UInt8 := dkwJ40_initWords_0 ++ []
theorem dksJ40_initWords_0 : cJ40_initWords.data.toList.drop 0 = dktJ40_initWords_0 := by decide +kernel
theorem dJ40_initWords_0 : decode cJ40_initWords 0 = .ok (.aload_n 0, 1) := dk_42 (dk_at dksJ40_initWords_0 0 rfl rfl)
theorem dJ40_initWords_1 : decode cJ40_initWords 1 = .ok (.iload_n 1, 1) := dk_27 (dk_at dksJ40_initWords_0 1 rfl rfl)
theorem dJ40_initWords_2 : decode cJ40_initWords 2 = .ok (.iconst 1, 1) := dk_4 (dk_at dksJ40_initWords_0 2 rfl rfl)
theorem dJ40_initWords_3 : decode cJ40_initWords 3 = .ok (.isub, 1) := dk_100 (dk_at dksJ40_initWords_0 3 rfl rfl)
theorem dJ40_initWords_4 : decode cJ40_initWords 4 = .ok (.invokestatic 52, 3) := dk_184 0 52 (dk_at dksJ40_initWords_0 4 rfl rfl)
theorem dJ40_initWords_7 : decode cJ40_initWords 7 = .ok (.iconst 1, 1) := dk_4 (dk_at dksJ40_initWords_0 7 rfl rfl)
theorem dJ40_initWords_8 : decode cJ40_initWords 8 = .ok (.iadd, 1) := dk_96 (dk_at dksJ40_initWords_0 8 rfl rfl)
theorem dJ40_initWords_9 : decode cJ40_initWords 9 = .ok (.newarray .long, 2) := dk_188_11 (dk_at dksJ40_initWords_0 9 rfl rfl)
theorem dJ40_initWords_11 : decode cJ40_initWords 11 = .ok (.putfield 11, 3) := dk_181 0 11 (dk_at dksJ40_initWords_0 11 rfl rfl)
theorem dJ40_initWords_14 : decode cJ40_initWords 14 = .ok (.return_, 1) := dk_177 (dk_at dksJ40_initWords_0 14 rfl rfl)
abbrev cJ40_wordIndex : ByteArray := prog_59_method_1_code
def yJ40_wordIndex : MethodName := ⟨RJ40, "wordIndex", "(I)I"⟩
def dkwJ40_wordIndex_0 : List UInt8 := [26, 16, 6, 122, 172]
abbrev dktJ40_wordIndex_0 : List UInt8 := dkwJ40_wordIndex_0 ++ []
theorem dksJ40_wordIndex_0 : cJ40_wordIndex.data.toList.drop 0 = dktJ40_wordIndex_0 := by decide +kernel
theorem dJ40_wordIndex_0 : decode cJ40_wordIndex 0 = .ok (.iload_n 0, 1) := dk_26 (dk_at dksJ40_wordIndex_0 0 rfl rfl)
theorem dJ40_wordIndex_1 : decode cJ40_wordIndex 1 = .ok (.bipush 6, 2) := dk_16 6 (dk_at dksJ40_wordIndex_0 1 rfl rfl)
theorem dJ40_wordIndex_3 : decode cJ40_wordIndex 3 = .ok (.ishr, 1) := dk_122 (dk_at dksJ40_wordIndex_0 3 rfl rfl)
theorem dJ40_wordIndex_4 : decode cJ40_wordIndex 4 = .ok (.ireturn, 1) := dk_172 (dk_at dksJ40_wordIndex_0 4 rfl rfl)
abbrev cJ40_set : ByteArray := prog_59_method_19_code
def yJ40_set : MethodName := ⟨RJ40, "set", "(I)V"⟩
def dkwJ40_set_2 : List UInt8 := [10, 27, 121, 129, 80, 42, 182, 0, 56, 177]
abbrev dktJ40_set_2 : List UInt8 := dkwJ40_set_2 ++ []
def dkwJ40_set_1 : List UInt8 := [182, 0, 45, 183, 0, 146, 191, 27, 184, 0, 52, 61, 42, 28, 182, 0, 155, 42, 180, 0, 11, 28, 92, 47]
abbrev dktJ40_set_1 : List UInt8 := dkwJ40_set_1 ++ dktJ40_set_2
def dkwJ40_set_0 : List UInt8 := [27, 156, 0, 30, 187, 0, 142, 89, 187, 0, 33, 89, 183, 0, 35, 18, 153, 182, 0, 38, 27, 182, 0, 42]
abbrev dktJ40_set_0 : List UInt8 := dkwJ40_set_0 ++ dktJ40_set_1
theorem dksJ40_set_0 : cJ40_set.data.toList.drop 0 = dktJ40_set_0 := by decide +kernel
theorem dksJ40_set_1 : cJ40_set.data.toList.drop 24 = dktJ40_set_1 := dk_seg dksJ40_set_0 24 rfl rfl
theorem dksJ40_set_2 : cJ40_set.data.toList.drop 48 = dktJ40_set_2 := dk_seg dksJ40_set_1 24 rfl rfl
theorem dJ40_set_0 : decode cJ40_set 0 = .ok (.iload_n 1, 1) := dk_27 (dk_at dksJ40_set_0 0 rfl rfl)
theorem dJ40_set_1 : decode cJ40_set 1 = .ok (.ifCond .ge 30, 3) := dk_156 0 30 (dk_at dksJ40_set_0 1 rfl rfl)
theorem dJ40_set_4 : decode cJ40_set 4 = .ok (.new 142, 3) := dk_187 0 142 (dk_at dksJ40_set_0 4 rfl rfl)
theorem dJ40_set_7 : decode cJ40_set 7 = .ok (.dup, 1) := dk_89 (dk_at dksJ40_set_0 7 rfl rfl)
theorem dJ40_set_8 : decode cJ40_set 8 = .ok (.new 33, 3) := dk_187 0 33 (dk_at dksJ40_set_0 8 rfl rfl)
theorem dJ40_set_11 : decode cJ40_set 11 = .ok (.dup, 1) := dk_89 (dk_at dksJ40_set_0 11 rfl rfl)
theorem dJ40_set_12 : decode cJ40_set 12 = .ok (.invokespecial 35, 3) := dk_183 0 35 (dk_at dksJ40_set_0 12 rfl rfl)
theorem dJ40_set_15 : decode cJ40_set 15 = .ok (.ldc 153, 2) := dk_18 153 (dk_at dksJ40_set_0 15 rfl rfl)
theorem dJ40_set_17 : decode cJ40_set 17 = .ok (.invokevirtual 38, 3) := dk_182 0 38 (dk_at dksJ40_set_0 17 rfl rfl)
theorem dJ40_set_20 : decode cJ40_set 20 = .ok (.iload_n 1, 1) := dk_27 (dk_at dksJ40_set_0 20 rfl rfl)
theorem dJ40_set_21 : decode cJ40_set 21 = .ok (.invokevirtual 42, 3) := dk_182 0 42 (dk_at dksJ40_set_0 21 rfl rfl)
theorem dJ40_set_24 : decode cJ40_set 24 = .ok (.invokevirtual 45, 3) := dk_182 0 45 (dk_at dksJ40_set_1 0 rfl rfl)
theorem dJ40_set_27 : decode cJ40_set 27 = .ok (.invokespecial 146, 3) := dk_183 0 146 (dk_at dksJ40_set_1 3 rfl rfl)
theorem dJ40_set_30 : decode cJ40_set 30 = .ok (.athrow, 1) := dk_191 (dk_at dksJ40_set_1 6 rfl rfl)
theorem dJ40_set_31 : decode cJ40_set 31 = .ok (.iload_n 1, 1) := dk_27 (dk_at dksJ40_set_1 7 rfl rfl)
theorem dJ40_set_32 : decode cJ40_set 32 = .ok (.invokestatic 52, 3) := dk_184 0 52 (dk_at dksJ40_set_1 8 rfl rfl)
theorem dJ40_set_35 : decode cJ40_set 35 = .ok (.istore_n 2, 1) := dk_61 (dk_at dksJ40_set_1 11 rfl rfl)
theorem dJ40_set_36 : decode cJ40_set 36 = .ok (.aload_n 0, 1) := dk_42 (dk_at dksJ40_set_1 12 rfl rfl)
theorem dJ40_set_37 : decode cJ40_set 37 = .ok (.iload_n 2, 1) := dk_28 (dk_at dksJ40_set_1 13 rfl rfl)
theorem dJ40_set_38 : decode cJ40_set 38 = .ok (.invokevirtual 155, 3) := dk_182 0 155 (dk_at dksJ40_set_1 14 rfl rfl)
theorem dJ40_set_41 : decode cJ40_set 41 = .ok (.aload_n 0, 1) := dk_42 (dk_at dksJ40_set_1 17 rfl rfl)
theorem dJ40_set_42 : decode cJ40_set 42 = .ok (.getfield 11, 3) := dk_180 0 11 (dk_at dksJ40_set_1 18 rfl rfl)
theorem dJ40_set_45 : decode cJ40_set 45 = .ok (.iload_n 2, 1) := dk_28 (dk_at dksJ40_set_1 21 rfl rfl)
theorem dJ40_set_46 : decode cJ40_set 46 = .ok (.dup2, 1) := dk_92 (dk_at dksJ40_set_1 22 rfl rfl)
theorem dJ40_set_47 : decode cJ40_set 47 = .ok (.laload, 1) := dk_47 (dk_at dksJ40_set_1 23 rfl rfl)
theorem dJ40_set_48 : decode cJ40_set 48 = .ok (.lconst 1, 1) := dk_10 (dk_at dksJ40_set_2 0 rfl rfl)
theorem dJ40_set_49 : decode cJ40_set 49 = .ok (.iload_n 1, 1) := dk_27 (dk_at dksJ40_set_2 1 rfl rfl)
theorem dJ40_set_50 : decode cJ40_set 50 = .ok (.lshl, 1) := dk_121 (dk_at dksJ40_set_2 2 rfl rfl)
theorem dJ40_set_51 : decode cJ40_set 51 = .ok (.lor, 1) := dk_129 (dk_at dksJ40_set_2 3 rfl rfl)
theorem dJ40_set_52 : decode cJ40_set 52 = .ok (.lastore, 1) := dk_80 (dk_at dksJ40_set_2 4 rfl rfl)
theorem dJ40_set_53 : decode cJ40_set 53 = .ok (.aload_n 0, 1) := dk_42 (dk_at dksJ40_set_2 5 rfl rfl)
theorem dJ40_set_54 : decode cJ40_set 54 = .ok (.invokevirtual 56, 3) := dk_182 0 56 (dk_at dksJ40_set_2 6 rfl rfl)
theorem dJ40_set_57 : decode cJ40_set 57 = .ok (.return_, 1) := dk_177 (dk_at dksJ40_set_2 9 rfl rfl)
abbrev cJ40_expandTo : ByteArray := prog_59_method_15_code
def yJ40_expandTo : MethodName := ⟨RJ40, "expandTo", "(I)V"⟩
def dkwJ40_expandTo_0 : List UInt8 := [27, 4, 96, 61, 42, 180, 0, 7, 28, 162, 0, 13, 42, 28, 182, 0, 139, 42, 28, 181, 0, 7, 177]
abbrev dktJ40_expandTo_0 : List UInt8 := dkwJ40_expandTo_0 ++ []
theorem dksJ40_expandTo_0 : cJ40_expandTo.data.toList.drop 0 = dktJ40_expandTo_0 := by decide +kernel
theorem dJ40_expandTo_0 : decode cJ40_expandTo 0 = .ok (.iload_n 1, 1) := dk_27 (dk_at dksJ40_expandTo_0 0 rfl rfl)
theorem dJ40_expandTo_1 : decode cJ40_expandTo 1 = .ok (.iconst 1, 1) := dk_4 (dk_at dksJ40_expandTo_0 1 rfl rfl)
theorem dJ40_expandTo_2 : decode cJ40_expandTo 2 = .ok (.iadd, 1) := dk_96 (dk_at dksJ40_expandTo_0 2 rfl rfl)
theorem dJ40_expandTo_3 : decode cJ40_expandTo 3 = .ok (.istore_n 2, 1) := dk_61 (dk_at dksJ40_expandTo_0 3 rfl rfl)
theorem dJ40_expandTo_4 : decode cJ40_expandTo 4 = .ok (.aload_n 0, 1) := dk_42 (dk_at dksJ40_expandTo_0 4 rfl rfl)
theorem dJ40_expandTo_5 : decode cJ40_expandTo 5 = .ok (.getfield 7, 3) := dk_180 0 7 (dk_at dksJ40_expandTo_0 5 rfl rfl)
theorem dJ40_expandTo_8 : decode cJ40_expandTo 8 = .ok (.iload_n 2, 1) := dk_28 (dk_at dksJ40_expandTo_0 8 rfl rfl)
theorem dJ40_expandTo_9 : decode cJ40_expandTo 9 = .ok (.if_icmp .ge 13, 3) := dk_162 0 13 (dk_at dksJ40_expandTo_0 9 rfl rfl)
theorem dJ40_expandTo_12 : decode cJ40_expandTo 12 = .ok (.aload_n 0, 1) := dk_42 (dk_at dksJ40_expandTo_0 12 rfl rfl)
theorem dJ40_expandTo_13 : decode cJ40_expandTo 13 = .ok (.iload_n 2, 1) := dk_28 (dk_at dksJ40_expandTo_0 13 rfl rfl)
theorem dJ40_expandTo_14 : decode cJ40_expandTo 14 = .ok (.invokevirtual 139, 3) := dk_182 0 139 (dk_at dksJ40_expandTo_0 14 rfl rfl)
theorem dJ40_expandTo_17 : decode cJ40_expandTo 17 = .ok (.aload_n 0, 1) := dk_42 (dk_at dksJ40_expandTo_0 17 rfl rfl)
theorem dJ40_expandTo_18 : decode cJ40_expandTo 18 = .ok (.iload_n 2, 1) := dk_28 (dk_at dksJ40_expandTo_0 18 rfl rfl)
theorem dJ40_expandTo_19 : decode cJ40_expandTo 19 = .ok (.putfield 7, 3) := dk_181 0 7 (dk_at dksJ40_expandTo_0 19 rfl rfl)
theorem dJ40_expandTo_22 : decode cJ40_expandTo 22 = .ok (.return_, 1) := dk_177 (dk_at dksJ40_expandTo_0 22 rfl rfl)
abbrev cJ40_ensureCapacity : ByteArray := prog_59_method_14_code
def yJ40_ensureCapacity : MethodName := ⟨RJ40, "ensureCapacity", "(I)V"⟩
def dkwJ40_ensureCapacity_1 : List UInt8 := [180, 0, 11, 28, 184, 0, 59, 181, 0, 11, 42, 3, 181, 0, 24, 177]
abbrev dktJ40_ensureCapacity_1 : List UInt8 := dkwJ40_ensureCapacity_1 ++ []
def dkwJ40_ensureCapacity_0 : List UInt8 := [42, 180, 0, 11, 190, 27, 162, 0, 32, 5, 42, 180, 0, 11, 190, 104, 27, 184, 0, 133, 61, 42, 42]
abbrev dktJ40_ensureCapacity_0 : List UInt8 := dkwJ40_ensureCapacity_0 ++ dktJ40_ensureCapacity_1
theorem dksJ40_ensureCapacity_0 : cJ40_ensureCapacity.data.toList.drop 0 = dktJ40_ensureCapacity_0 := by decide +kernel
theorem dksJ40_ensureCapacity_1 : cJ40_ensureCapacity.data.toList.drop 23 = dktJ40_ensureCapacity_1 := dk_seg dksJ40_ensureCapacity_0 23 rfl rfl
theorem dJ40_ensureCapacity_0 : decode cJ40_ensureCapacity 0 = .ok (.aload_n 0, 1) := dk_42 (dk_at dksJ40_ensureCapacity_0 0 rfl rfl)
theorem dJ40_ensureCapacity_1 : decode cJ40_ensureCapacity 1 = .ok (.getfield 11, 3) := dk_180 0 11 (dk_at dksJ40_ensureCapacity_0 1 rfl rfl)
theorem dJ40_ensureCapacity_4 : decode cJ40_ensureCapacity 4 = .ok (.arraylength, 1) := dk_190 (dk_at dksJ40_ensureCapacity_0 4 rfl rfl)
theorem dJ40_ensureCapacity_5 : decode cJ40_ensureCapacity 5 = .ok (.iload_n 1, 1) := dk_27 (dk_at dksJ40_ensureCapacity_0 5 rfl rfl)
theorem dJ40_ensureCapacity_6 : decode cJ40_ensureCapacity 6 = .ok (.if_icmp .ge 32, 3) := dk_162 0 32 (dk_at dksJ40_ensureCapacity_0 6 rfl rfl)
theorem dJ40_ensureCapacity_9 : decode cJ40_ensureCapacity 9 = .ok (.iconst 2, 1) := dk_5 (dk_at dksJ40_ensureCapacity_0 9 rfl rfl)
theorem dJ40_ensureCapacity_10 : decode cJ40_ensureCapacity 10 = .ok (.aload_n 0, 1) := dk_42 (dk_at dksJ40_ensureCapacity_0 10 rfl rfl)
theorem dJ40_ensureCapacity_11 : decode cJ40_ensureCapacity 11 = .ok (.getfield 11, 3) := dk_180 0 11 (dk_at dksJ40_ensureCapacity_0 11 rfl rfl)
theorem dJ40_ensureCapacity_14 : decode cJ40_ensureCapacity 14 = .ok (.arraylength, 1) := dk_190 (dk_at dksJ40_ensureCapacity_0 14 rfl rfl)
theorem dJ40_ensureCapacity_15 : decode cJ40_ensureCapacity 15 = .ok (.imul, 1) := dk_104 (dk_at dksJ40_ensureCapacity_0 15 rfl rfl)
theorem dJ40_ensureCapacity_16 : decode cJ40_ensureCapacity 16 = .ok (.iload_n 1, 1) := dk_27 (dk_at dksJ40_ensureCapacity_0 16 rfl rfl)
theorem dJ40_ensureCapacity_17 : decode cJ40_ensureCapacity 17 = .ok (.invokestatic 133, 3) := dk_184 0 133 (dk_at dksJ40_ensureCapacity_0 17 rfl rfl)
theorem dJ40_ensureCapacity_20 : decode cJ40_ensureCapacity 20 = .ok (.istore_n 2, 1) := dk_61 (dk_at dksJ40_ensureCapacity_0 20 rfl rfl)
theorem dJ40_ensureCapacity_21 : decode cJ40_ensureCapacity 21 = .ok (.aload_n 0, 1) := dk_42 (dk_at dksJ40_ensureCapacity_0 21 rfl rfl)
theorem dJ40_ensureCapacity_22 : decode cJ40_ensureCapacity 22 = .ok (.aload_n 0, 1) := dk_42 (dk_at dksJ40_ensureCapacity_0 22 rfl rfl)
theorem dJ40_ensureCapacity_23 : decode cJ40_ensureCapacity 23 = .ok (.getfield 11, 3) := dk_180 0 11 (dk_at dksJ40_ensureCapacity_1 0 rfl rfl)
theorem dJ40_ensureCapacity_26 : decode cJ40_ensureCapacity 26 = .ok (.iload_n 2, 1) := dk_28 (dk_at dksJ40_ensureCapacity_1 3 rfl rfl)
theorem dJ40_ensureCapacity_27 : decode cJ40_ensureCapacity 27 = .ok (.invokestatic 59, 3) := dk_184 0 59 (dk_at dksJ40_ensureCapacity_1 4 rfl rfl)
theorem dJ40_ensureCapacity_30 : decode cJ40_ensureCapacity 30 = .ok (.putfield 11, 3) := dk_181 0 11 (dk_at dksJ40_ensureCapacity_1 7 rfl rfl)
theorem dJ40_ensureCapacity_33 : decode cJ40_ensureCapacity 33 = .ok (.aload_n 0, 1) := dk_42 (dk_at dksJ40_ensureCapacity_1 10 rfl rfl)
theorem dJ40_ensureCapacity_34 : decode cJ40_ensureCapacity 34 = .ok (.iconst 0, 1) := dk_3 (dk_at dksJ40_ensureCapacity_1 11 rfl rfl)
theorem dJ40_ensureCapacity_35 : decode cJ40_ensureCapacity 35 = .ok (.putfield 24, 3) := dk_181 0 24 (dk_at dksJ40_ensureCapacity_1 12 rfl rfl)
theorem dJ40_ensureCapacity_38 : decode cJ40_ensureCapacity 38 = .ok (.return_, 1) := dk_177 (dk_at dksJ40_ensureCapacity_1 15 rfl rfl)
abbrev cJ40_checkInvariants : ByteArray := prog_59_method_2_code
def yJ40_checkInvariants : MethodName := ⟨RJ40, "checkInvariants", "()V"⟩
def dkwJ40_checkInvariants_4 : List UInt8 := [180, 0, 7, 47, 9, 148, 153, 0, 11, 187, 0, 15, 89, 183, 0, 17, 191, 177]
abbrev dktJ40_checkInvariants_4 : List UInt8 := dkwJ40_checkInvariants_4 ++ []
def dkwJ40_checkInvariants_3 : List UInt8 := [178, 0, 3, 154, 0, 37, 42, 180, 0, 7, 42, 180, 0, 11, 190, 159, 0, 25, 42, 180, 0, 11, 42]
abbrev dktJ40_checkInvariants_3 : List UInt8 := dkwJ40_checkInvariants_3 ++ dktJ40_checkInvariants_4
def dkwJ40_checkInvariants_2 : List UInt8 := [155, 0, 15, 42, 180, 0, 7, 42, 180, 0, 11, 190, 164, 0, 11, 187, 0, 15, 89, 183, 0, 17, 191]
abbrev dktJ40_checkInvariants_2 : List UInt8 := dkwJ40_checkInvariants_2 ++ dktJ40_checkInvariants_3
def dkwJ40_checkInvariants_1 : List UInt8 := [9, 148, 154, 0, 11, 187, 0, 15, 89, 183, 0, 17, 191, 178, 0, 3, 154, 0, 30, 42, 180, 0, 7]
abbrev dktJ40_checkInvariants_1 : List UInt8 := dkwJ40_checkInvariants_1 ++ dktJ40_checkInvariants_2
def dkwJ40_checkInvariants_0 : List UInt8 := [178, 0, 3, 154, 0, 34, 42, 180, 0, 7, 153, 0, 27, 42, 180, 0, 11, 42, 180, 0, 7, 4, 100, 47]
abbrev dktJ40_checkInvariants_0 : List UInt8 := dkwJ40_checkInvariants_0 ++ dktJ40_checkInvariants_1
theorem dksJ40_checkInvariants_0 : cJ40_checkInvariants.data.toList.drop 0 = dktJ40_checkInvariants_0 := by decide +kernel
theorem dksJ40_checkInvariants_1 : cJ40_checkInvariants.data.toList.drop 24 = dktJ40_checkInvariants_1 := dk_seg dksJ40_checkInvariants_0 24 rfl rfl
theorem dksJ40_checkInvariants_2 : cJ40_checkInvariants.data.toList.drop 47 = dktJ40_checkInvariants_2 := dk_seg dksJ40_checkInvariants_1 23 rfl rfl
theorem dksJ40_checkInvariants_3 : cJ40_checkInvariants.data.toList.drop 70 = dktJ40_checkInvariants_3 := dk_seg dksJ40_checkInvariants_2 23 rfl rfl
theorem dksJ40_checkInvariants_4 : cJ40_checkInvariants.data.toList.drop 93 = dktJ40_checkInvariants_4 := dk_seg dksJ40_checkInvariants_3 23 rfl rfl
theorem dJ40_checkInvariants_0 : decode cJ40_checkInvariants 0 = .ok (.getstatic 3, 3) := dk_178 0 3 (dk_at dksJ40_checkInvariants_0 0 rfl rfl)
theorem dJ40_checkInvariants_3 : decode cJ40_checkInvariants 3 = .ok (.ifCond .ne 34, 3) := dk_154 0 34 (dk_at dksJ40_checkInvariants_0 3 rfl rfl)
theorem dJ40_checkInvariants_6 : decode cJ40_checkInvariants 6 = .ok (.aload_n 0, 1) := dk_42 (dk_at dksJ40_checkInvariants_0 6 rfl rfl)
theorem dJ40_checkInvariants_7 : decode cJ40_checkInvariants 7 = .ok (.getfield 7, 3) := dk_180 0 7 (dk_at dksJ40_checkInvariants_0 7 rfl rfl)
theorem dJ40_checkInvariants_10 : decode cJ40_checkInvariants 10 = .ok (.ifCond .eq 27, 3) := dk_153 0 27 (dk_at dksJ40_checkInvariants_0 10 rfl rfl)
theorem dJ40_checkInvariants_13 : decode cJ40_checkInvariants 13 = .ok (.aload_n 0, 1) := dk_42 (dk_at dksJ40_checkInvariants_0 13 rfl rfl)
theorem dJ40_checkInvariants_14 : decode cJ40_checkInvariants 14 = .ok (.getfield 11, 3) := dk_180 0 11 (dk_at dksJ40_checkInvariants_0 14 rfl rfl)
theorem dJ40_checkInvariants_17 : decode cJ40_checkInvariants 17 = .ok (.aload_n 0, 1) := dk_42 (dk_at dksJ40_checkInvariants_0 17 rfl rfl)
theorem dJ40_checkInvariants_18 : decode cJ40_checkInvariants 18 = .ok (.getfield 7, 3) := dk_180 0 7 (dk_at dksJ40_checkInvariants_0 18 rfl rfl)
theorem dJ40_checkInvariants_21 : decode cJ40_checkInvariants 21 = .ok (.iconst 1, 1) := dk_4 (dk_at dksJ40_checkInvariants_0 21 rfl rfl)
theorem dJ40_checkInvariants_22 : decode cJ40_checkInvariants 22 = .ok (.isub, 1) := dk_100 (dk_at dksJ40_checkInvariants_0 22 rfl rfl)
theorem dJ40_checkInvariants_23 : decode cJ40_checkInvariants 23 = .ok (.laload, 1) := dk_47 (dk_at dksJ40_checkInvariants_0 23 rfl rfl)
theorem dJ40_checkInvariants_24 : decode cJ40_checkInvariants 24 = .ok (.lconst 0, 1) := dk_9 (dk_at dksJ40_checkInvariants_1 0 rfl rfl)
theorem dJ40_checkInvariants_25 : decode cJ40_checkInvariants 25 = .ok (.lcmp, 1) := dk_148 (dk_at dksJ40_checkInvariants_1 1 rfl rfl)
theorem dJ40_checkInvariants_26 : decode cJ40_checkInvariants 26 = .ok (.ifCond .ne 11, 3) := dk_154 0 11 (dk_at dksJ40_checkInvariants_1 2 rfl rfl)
theorem dJ40_checkInvariants_29 : decode cJ40_checkInvariants 29 = .ok (.new 15, 3) := dk_187 0 15 (dk_at dksJ40_checkInvariants_1 5 rfl rfl)
theorem dJ40_checkInvariants_32 : decode cJ40_checkInvariants 32 = .ok (.dup, 1) := dk_89 (dk_at dksJ40_checkInvariants_1 8 rfl rfl)
theorem dJ40_checkInvariants_33 : decode cJ40_checkInvariants 33 = .ok (.invokespecial 17, 3) := dk_183 0 17 (dk_at dksJ40_checkInvariants_1 9 rfl rfl)
theorem dJ40_checkInvariants_36 : decode cJ40_checkInvariants 36 = .ok (.athrow, 1) := dk_191 (dk_at dksJ40_checkInvariants_1 12 rfl rfl)
theorem dJ40_checkInvariants_37 : decode cJ40_checkInvariants 37 = .ok (.getstatic 3, 3) := dk_178 0 3 (dk_at dksJ40_checkInvariants_1 13 rfl rfl)
theorem dJ40_checkInvariants_40 : decode cJ40_checkInvariants 40 = .ok (.ifCond .ne 30, 3) := dk_154 0 30 (dk_at dksJ40_checkInvariants_1 16 rfl rfl)
theorem dJ40_checkInvariants_43 : decode cJ40_checkInvariants 43 = .ok (.aload_n 0, 1) := dk_42 (dk_at dksJ40_checkInvariants_1 19 rfl rfl)
theorem dJ40_checkInvariants_44 : decode cJ40_checkInvariants 44 = .ok (.getfield 7, 3) := dk_180 0 7 (dk_at dksJ40_checkInvariants_1 20 rfl rfl)
theorem dJ40_checkInvariants_47 : decode cJ40_checkInvariants 47 = .ok (.ifCond .lt 15, 3) := dk_155 0 15 (dk_at dksJ40_checkInvariants_2 0 rfl rfl)
theorem dJ40_checkInvariants_50 : decode cJ40_checkInvariants 50 = .ok (.aload_n 0, 1) := dk_42 (dk_at dksJ40_checkInvariants_2 3 rfl rfl)
theorem dJ40_checkInvariants_51 : decode cJ40_checkInvariants 51 = .ok (.getfield 7, 3) := dk_180 0 7 (dk_at dksJ40_checkInvariants_2 4 rfl rfl)
theorem dJ40_checkInvariants_54 : decode cJ40_checkInvariants 54 = .ok (.aload_n 0, 1) := dk_42 (dk_at dksJ40_checkInvariants_2 7 rfl rfl)
theorem dJ40_checkInvariants_55 : decode cJ40_checkInvariants 55 = .ok (.getfield 11, 3) := dk_180 0 11 (dk_at dksJ40_checkInvariants_2 8 rfl rfl)
theorem dJ40_checkInvariants_58 : decode cJ40_checkInvariants 58 = .ok (.arraylength, 1) := dk_190 (dk_at dksJ40_checkInvariants_2 11 rfl rfl)
theorem dJ40_checkInvariants_59 : decode cJ40_checkInvariants 59 = .ok (.if_icmp .le 11, 3) := dk_164 0 11 (dk_at dksJ40_checkInvariants_2 12 rfl rfl)
theorem dJ40_checkInvariants_62 : decode cJ40_checkInvariants 62 = .ok (.new 15, 3) := dk_187 0 15 (dk_at dksJ40_checkInvariants_2 15 rfl rfl)
theorem dJ40_checkInvariants_65 : decode cJ40_checkInvariants 65 = .ok (.dup, 1) := dk_89 (dk_at dksJ40_checkInvariants_2 18 rfl rfl)
theorem dJ40_checkInvariants_66 : decode cJ40_checkInvariants 66 = .ok (.invokespecial 17, 3) := dk_183 0 17 (dk_at dksJ40_checkInvariants_2 19 rfl rfl)
theorem dJ40_checkInvariants_69 : decode cJ40_checkInvariants 69 = .ok (.athrow, 1) := dk_191 (dk_at dksJ40_checkInvariants_2 22 rfl rfl)
theorem dJ40_checkInvariants_70 : decode cJ40_checkInvariants 70 = .ok (.getstatic 3, 3) := dk_178 0 3 (dk_at dksJ40_checkInvariants_3 0 rfl rfl)
theorem dJ40_checkInvariants_73 : decode cJ40_checkInvariants 73 = .ok (.ifCond .ne 37, 3) := dk_154 0 37 (dk_at dksJ40_checkInvariants_3 3 rfl rfl)
theorem dJ40_checkInvariants_76 : decode cJ40_checkInvariants 76 = .ok (.aload_n 0, 1) := dk_42 (dk_at dksJ40_checkInvariants_3 6 rfl rfl)
theorem dJ40_checkInvariants_77 : decode cJ40_checkInvariants 77 = .ok (.getfield 7, 3) := dk_180 0 7 (dk_at dksJ40_checkInvariants_3 7 rfl rfl)
theorem dJ40_checkInvariants_80 : decode cJ40_checkInvariants 80 = .ok (.aload_n 0, 1) := dk_42 (dk_at dksJ40_checkInvariants_3 10 rfl rfl)
theorem dJ40_checkInvariants_81 : decode cJ40_checkInvariants 81 = .ok (.getfield 11, 3) := dk_180 0 11 (dk_at dksJ40_checkInvariants_3 11 rfl rfl)
theorem dJ40_checkInvariants_84 : decode cJ40_checkInvariants 84 = .ok (.arraylength, 1) := dk_190 (dk_at dksJ40_checkInvariants_3 14 rfl rfl)
theorem dJ40_checkInvariants_85 : decode cJ40_checkInvariants 85 = .ok (.if_icmp .eq 25, 3) := dk_159 0 25 (dk_at dksJ40_checkInvariants_3 15 rfl rfl)
theorem dJ40_checkInvariants_88 : decode cJ40_checkInvariants 88 = .ok (.aload_n 0, 1) := dk_42 (dk_at dksJ40_checkInvariants_3 18 rfl rfl)
theorem dJ40_checkInvariants_89 : decode cJ40_checkInvariants 89 = .ok (.getfield 11, 3) := dk_180 0 11 (dk_at dksJ40_checkInvariants_3 19 rfl rfl)
theorem dJ40_checkInvariants_92 : decode cJ40_checkInvariants 92 = .ok (.aload_n 0, 1) := dk_42 (dk_at dksJ40_checkInvariants_3 22 rfl rfl)
theorem dJ40_checkInvariants_93 : decode cJ40_checkInvariants 93 = .ok (.getfield 7, 3) := dk_180 0 7 (dk_at dksJ40_checkInvariants_4 0 rfl rfl)
theorem dJ40_checkInvariants_96 : decode cJ40_checkInvariants 96 = .ok (.laload, 1) := dk_47 (dk_at dksJ40_checkInvariants_4 3 rfl rfl)
theorem dJ40_checkInvariants_97 : decode cJ40_checkInvariants 97 = .ok (.lconst 0, 1) := dk_9 (dk_at dksJ40_checkInvariants_4 4 rfl rfl)
theorem dJ40_checkInvariants_98 : decode cJ40_checkInvariants 98 = .ok (.lcmp, 1) := dk_148 (dk_at dksJ40_checkInvariants_4 5 rfl rfl)
theorem dJ40_checkInvariants_99 : decode cJ40_checkInvariants 99 = .ok (.ifCond .eq 11, 3) := dk_153 0 11 (dk_at dksJ40_checkInvariants_4 6 rfl rfl)
theorem dJ40_checkInvariants_102 : decode cJ40_checkInvariants 102 = .ok (.new 15, 3) := dk_187 0 15 (dk_at dksJ40_checkInvariants_4 9 rfl rfl)
theorem dJ40_checkInvariants_105 : decode cJ40_checkInvariants 105 = .ok (.dup, 1) := dk_89 (dk_at dksJ40_checkInvariants_4 12 rfl rfl)
theorem dJ40_checkInvariants_106 : decode cJ40_checkInvariants 106 = .ok (.invokespecial 17, 3) := dk_183 0 17 (dk_at dksJ40_checkInvariants_4 13 rfl rfl)
theorem dJ40_checkInvariants_109 : decode cJ40_checkInvariants 109 = .ok (.athrow, 1) := dk_191 (dk_at dksJ40_checkInvariants_4 16 rfl rfl)
theorem dJ40_checkInvariants_110 : decode cJ40_checkInvariants 110 = .ok (.return_, 1) := dk_177 (dk_at dksJ40_checkInvariants_4 17 rfl rfl)
abbrev cJ40_nextSetBit : ByteArray := prog_59_method_28_code
def yJ40_nextSetBit : MethodName := ⟨RJ40, "nextSetBit", "(I)I"⟩
def dkwJ40_nextSetBit_4 : List UInt8 := [28, 47, 66, 167, 255, 220]
abbrev dktJ40_nextSetBit_4 : List UInt8 := dkwJ40_nextSetBit_4 ++ []
def dkwJ40_nextSetBit_3 : List UInt8 := [104, 33, 184, 0, 182, 96, 172, 132, 2, 1, 28, 42, 180, 0, 7, 160, 0, 5, 2, 172, 42, 180, 0, 11]
abbrev dktJ40_nextSetBit_3 : List UInt8 := dkwJ40_nextSetBit_3 ++ dktJ40_nextSetBit_4
def dkwJ40_nextSetBit_2 : List UInt8 := [2, 172, 42, 180, 0, 11, 28, 47, 20, 0, 165, 27, 121, 127, 66, 33, 9, 148, 153, 0, 13, 28, 16, 64]
abbrev dktJ40_nextSetBit_2 : List UInt8 := dkwJ40_nextSetBit_2 ++ dktJ40_nextSetBit_3
def dkwJ40_nextSetBit_1 : List UInt8 := [182, 0, 45, 183, 0, 146, 191, 42, 182, 0, 56, 27, 184, 0, 52, 61, 28, 42, 180, 0, 7, 161, 0, 5]
abbrev dktJ40_nextSetBit_1 : List UInt8 := dkwJ40_nextSetBit_1 ++ dktJ40_nextSetBit_2
def dkwJ40_nextSetBit_0 : List UInt8 := [27, 156, 0, 30, 187, 0, 142, 89, 187, 0, 33, 89, 183, 0, 35, 18, 144, 182, 0, 38, 27, 182, 0, 42]
abbrev dktJ40_nextSetBit_0 : List UInt8 := dkwJ40_nextSetBit_0 ++ dktJ40_nextSetBit_1
theorem dksJ40_nextSetBit_0 : cJ40_nextSetBit.data.toList.drop 0 = dktJ40_nextSetBit_0 := by decide +kernel
theorem dksJ40_nextSetBit_1 : cJ40_nextSetBit.data.toList.drop 24 = dktJ40_nextSetBit_1 := dk_seg dksJ40_nextSetBit_0 24 rfl rfl
theorem dksJ40_nextSetBit_2 : cJ40_nextSetBit.data.toList.drop 48 = dktJ40_nextSetBit_2 := dk_seg dksJ40_nextSetBit_1 24 rfl rfl
theorem dksJ40_nextSetBit_3 : cJ40_nextSetBit.data.toList.drop 72 = dktJ40_nextSetBit_3 := dk_seg dksJ40_nextSetBit_2 24 rfl rfl
theorem dksJ40_nextSetBit_4 : cJ40_nextSetBit.data.toList.drop 96 = dktJ40_nextSetBit_4 := dk_seg dksJ40_nextSetBit_3 24 rfl rfl
theorem dJ40_nextSetBit_0 : decode cJ40_nextSetBit 0 = .ok (.iload_n 1, 1) := dk_27 (dk_at dksJ40_nextSetBit_0 0 rfl rfl)
theorem dJ40_nextSetBit_1 : decode cJ40_nextSetBit 1 = .ok (.ifCond .ge 30, 3) := dk_156 0 30 (dk_at dksJ40_nextSetBit_0 1 rfl rfl)
theorem dJ40_nextSetBit_4 : decode cJ40_nextSetBit 4 = .ok (.new 142, 3) := dk_187 0 142 (dk_at dksJ40_nextSetBit_0 4 rfl rfl)
theorem dJ40_nextSetBit_7 : decode cJ40_nextSetBit 7 = .ok (.dup, 1) := dk_89 (dk_at dksJ40_nextSetBit_0 7 rfl rfl)
theorem dJ40_nextSetBit_8 : decode cJ40_nextSetBit 8 = .ok (.new 33, 3) := dk_187 0 33 (dk_at dksJ40_nextSetBit_0 8 rfl rfl)
theorem dJ40_nextSetBit_11 : decode cJ40_nextSetBit 11 = .ok (.dup, 1) := dk_89 (dk_at dksJ40_nextSetBit_0 11 rfl rfl)
theorem dJ40_nextSetBit_12 : decode cJ40_nextSetBit 12 = .ok (.invokespecial 35, 3) := dk_183 0 35 (dk_at dksJ40_nextSetBit_0 12 rfl rfl)
theorem dJ40_nextSetBit_15 : decode cJ40_nextSetBit 15 = .ok (.ldc 144, 2) := dk_18 144 (dk_at dksJ40_nextSetBit_0 15 rfl rfl)
theorem dJ40_nextSetBit_17 : decode cJ40_nextSetBit 17 = .ok (.invokevirtual 38, 3) := dk_182 0 38 (dk_at dksJ40_nextSetBit_0 17 rfl rfl)
theorem dJ40_nextSetBit_20 : decode cJ40_nextSetBit 20 = .ok (.iload_n 1, 1) := dk_27 (dk_at dksJ40_nextSetBit_0 20 rfl rfl)
theorem dJ40_nextSetBit_21 : decode cJ40_nextSetBit 21 = .ok (.invokevirtual 42, 3) := dk_182 0 42 (dk_at dksJ40_nextSetBit_0 21 rfl rfl)
theorem dJ40_nextSetBit_24 : decode cJ40_nextSetBit 24 = .ok (.invokevirtual 45, 3) := dk_182 0 45 (dk_at dksJ40_nextSetBit_1 0 rfl rfl)
theorem dJ40_nextSetBit_27 : decode cJ40_nextSetBit 27 = .ok (.invokespecial 146, 3) := dk_183 0 146 (dk_at dksJ40_nextSetBit_1 3 rfl rfl)
theorem dJ40_nextSetBit_30 : decode cJ40_nextSetBit 30 = .ok (.athrow, 1) := dk_191 (dk_at dksJ40_nextSetBit_1 6 rfl rfl)
theorem dJ40_nextSetBit_31 : decode cJ40_nextSetBit 31 = .ok (.aload_n 0, 1) := dk_42 (dk_at dksJ40_nextSetBit_1 7 rfl rfl)
theorem dJ40_nextSetBit_32 : decode cJ40_nextSetBit 32 = .ok (.invokevirtual 56, 3) := dk_182 0 56 (dk_at dksJ40_nextSetBit_1 8 rfl rfl)
theorem dJ40_nextSetBit_35 : decode cJ40_nextSetBit 35 = .ok (.iload_n 1, 1) := dk_27 (dk_at dksJ40_nextSetBit_1 11 rfl rfl)
theorem dJ40_nextSetBit_36 : decode cJ40_nextSetBit 36 = .ok (.invokestatic 52, 3) := dk_184 0 52 (dk_at dksJ40_nextSetBit_1 12 rfl rfl)
theorem dJ40_nextSetBit_39 : decode cJ40_nextSetBit 39 = .ok (.istore_n 2, 1) := dk_61 (dk_at dksJ40_nextSetBit_1 15 rfl rfl)
theorem dJ40_nextSetBit_40 : decode cJ40_nextSetBit 40 = .ok (.iload_n 2, 1) := dk_28 (dk_at dksJ40_nextSetBit_1 16 rfl rfl)
theorem dJ40_nextSetBit_41 : decode cJ40_nextSetBit 41 = .ok (.aload_n 0, 1) := dk_42 (dk_at dksJ40_nextSetBit_1 17 rfl rfl)
theorem dJ40_nextSetBit_42 : decode cJ40_nextSetBit 42 = .ok (.getfield 7, 3) := dk_180 0 7 (dk_at dksJ40_nextSetBit_1 18 rfl rfl)
theorem dJ40_nextSetBit_45 : decode cJ40_nextSetBit 45 = .ok (.if_icmp .lt 5, 3) := dk_161 0 5 (dk_at dksJ40_nextSetBit_1 21 rfl rfl)
theorem dJ40_nextSetBit_48 : decode cJ40_nextSetBit 48 = .ok (.iconst (-1), 1) := dk_2 (dk_at dksJ40_nextSetBit_2 0 rfl rfl)
theorem dJ40_nextSetBit_49 : decode cJ40_nextSetBit 49 = .ok (.ireturn, 1) := dk_172 (dk_at dksJ40_nextSetBit_2 1 rfl rfl)
theorem dJ40_nextSetBit_50 : decode cJ40_nextSetBit 50 = .ok (.aload_n 0, 1) := dk_42 (dk_at dksJ40_nextSetBit_2 2 rfl rfl)
theorem dJ40_nextSetBit_51 : decode cJ40_nextSetBit 51 = .ok (.getfield 11, 3) := dk_180 0 11 (dk_at dksJ40_nextSetBit_2 3 rfl rfl)
theorem dJ40_nextSetBit_54 : decode cJ40_nextSetBit 54 = .ok (.iload_n 2, 1) := dk_28 (dk_at dksJ40_nextSetBit_2 6 rfl rfl)
theorem dJ40_nextSetBit_55 : decode cJ40_nextSetBit 55 = .ok (.laload, 1) := dk_47 (dk_at dksJ40_nextSetBit_2 7 rfl rfl)
theorem dJ40_nextSetBit_56 : decode cJ40_nextSetBit 56 = .ok (.ldc2_w 165, 3) := dk_20 0 165 (dk_at dksJ40_nextSetBit_2 8 rfl rfl)
theorem dJ40_nextSetBit_59 : decode cJ40_nextSetBit 59 = .ok (.iload_n 1, 1) := dk_27 (dk_at dksJ40_nextSetBit_2 11 rfl rfl)
theorem dJ40_nextSetBit_60 : decode cJ40_nextSetBit 60 = .ok (.lshl, 1) := dk_121 (dk_at dksJ40_nextSetBit_2 12 rfl rfl)
theorem dJ40_nextSetBit_61 : decode cJ40_nextSetBit 61 = .ok (.land, 1) := dk_127 (dk_at dksJ40_nextSetBit_2 13 rfl rfl)
theorem dJ40_nextSetBit_62 : decode cJ40_nextSetBit 62 = .ok (.lstore_n 3, 1) := dk_66 (dk_at dksJ40_nextSetBit_2 14 rfl rfl)
theorem dJ40_nextSetBit_63 : decode cJ40_nextSetBit 63 = .ok (.lload_n 3, 1) := dk_33 (dk_at dksJ40_nextSetBit_2 15 rfl rfl)
theorem dJ40_nextSetBit_64 : decode cJ40_nextSetBit 64 = .ok (.lconst 0, 1) := dk_9 (dk_at dksJ40_nextSetBit_2 16 rfl rfl)
theorem dJ40_nextSetBit_65 : decode cJ40_nextSetBit 65 = .ok (.lcmp, 1) := dk_148 (dk_at dksJ40_nextSetBit_2 17 rfl rfl)
theorem dJ40_nextSetBit_66 : decode cJ40_nextSetBit 66 = .ok (.ifCond .eq 13, 3) := dk_153 0 13 (dk_at dksJ40_nextSetBit_2 18 rfl rfl)
theorem dJ40_nextSetBit_69 : decode cJ40_nextSetBit 69 = .ok (.iload_n 2, 1) := dk_28 (dk_at dksJ40_nextSetBit_2 21 rfl rfl)
theorem dJ40_nextSetBit_70 : decode cJ40_nextSetBit 70 = .ok (.bipush 64, 2) := dk_16 64 (dk_at dksJ40_nextSetBit_2 22 rfl rfl)
theorem dJ40_nextSetBit_72 : decode cJ40_nextSetBit 72 = .ok (.imul, 1) := dk_104 (dk_at dksJ40_nextSetBit_3 0 rfl rfl)
theorem dJ40_nextSetBit_73 : decode cJ40_nextSetBit 73 = .ok (.lload_n 3, 1) := dk_33 (dk_at dksJ40_nextSetBit_3 1 rfl rfl)
theorem dJ40_nextSetBit_74 : decode cJ40_nextSetBit 74 = .ok (.invokestatic 182, 3) := dk_184 0 182 (dk_at dksJ40_nextSetBit_3 2 rfl rfl)
theorem dJ40_nextSetBit_77 : decode cJ40_nextSetBit 77 = .ok (.iadd, 1) := dk_96 (dk_at dksJ40_nextSetBit_3 5 rfl rfl)
theorem dJ40_nextSetBit_78 : decode cJ40_nextSetBit 78 = .ok (.ireturn, 1) := dk_172 (dk_at dksJ40_nextSetBit_3 6 rfl rfl)
theorem dJ40_nextSetBit_79 : decode cJ40_nextSetBit 79 = .ok (.iinc 2 1, 3) := dk_132 2 1 (dk_at dksJ40_nextSetBit_3 7 rfl rfl)
theorem dJ40_nextSetBit_82 : decode cJ40_nextSetBit 82 = .ok (.iload_n 2, 1) := dk_28 (dk_at dksJ40_nextSetBit_3 10 rfl rfl)
theorem dJ40_nextSetBit_83 : decode cJ40_nextSetBit 83 = .ok (.aload_n 0, 1) := dk_42 (dk_at dksJ40_nextSetBit_3 11 rfl rfl)
theorem dJ40_nextSetBit_84 : decode cJ40_nextSetBit 84 = .ok (.getfield 7, 3) := dk_180 0 7 (dk_at dksJ40_nextSetBit_3 12 rfl rfl)
theorem dJ40_nextSetBit_87 : decode cJ40_nextSetBit 87 = .ok (.if_icmp .ne 5, 3) := dk_160 0 5 (dk_at dksJ40_nextSetBit_3 15 rfl rfl)
theorem dJ40_nextSetBit_90 : decode cJ40_nextSetBit 90 = .ok (.iconst (-1), 1) := dk_2 (dk_at dksJ40_nextSetBit_3 18 rfl rfl)
theorem dJ40_nextSetBit_91 : decode cJ40_nextSetBit 91 = .ok (.ireturn, 1) := dk_172 (dk_at dksJ40_nextSetBit_3 19 rfl rfl)
theorem dJ40_nextSetBit_92 : decode cJ40_nextSetBit 92 = .ok (.aload_n 0, 1) := dk_42 (dk_at dksJ40_nextSetBit_3 20 rfl rfl)
theorem dJ40_nextSetBit_93 : decode cJ40_nextSetBit 93 = .ok (.getfield 11, 3) := dk_180 0 11 (dk_at dksJ40_nextSetBit_3 21 rfl rfl)
theorem dJ40_nextSetBit_96 : decode cJ40_nextSetBit 96 = .ok (.iload_n 2, 1) := dk_28 (dk_at dksJ40_nextSetBit_4 0 rfl rfl)
theorem dJ40_nextSetBit_97 : decode cJ40_nextSetBit 97 = .ok (.laload, 1) := dk_47 (dk_at dksJ40_nextSetBit_4 1 rfl rfl)
theorem dJ40_nextSetBit_98 : decode cJ40_nextSetBit 98 = .ok (.lstore_n 3, 1) := dk_66 (dk_at dksJ40_nextSetBit_4 2 rfl rfl)
theorem dJ40_nextSetBit_99 : decode cJ40_nextSetBit 99 = .ok (.goto (-36), 3) := dk_167 255 220 (dk_at dksJ40_nextSetBit_4 3 rfl rfl)
theorem q155 : (Jvm.Cond.initialized "java/util/BitSet") ∈ lw_all := lw_g (lw_at lw_m1 56 rfl) rfl
theorem q417 : (Jvm.Cond.instantiable "java/util/BitSet" (3 : Nat)) ∈ lw_all := lw_g (lw_at lw_m2 78 rfl) rfl
theorem q419 : (Jvm.Cond.instanceMethod ({ cls := "java/util/BitSet", name := "<init>", desc := "(I)V" } : Jvm.MethodName)) ∈ lw_all := lw_g (lw_at lw_m2 80 rfl) rfl
theorem q420 : (Jvm.Cond.code ({ cls := "java/util/BitSet", name := "<init>", desc := "(I)V" } : Jvm.MethodName) prog_59_method_5_code (2 : Nat) (Option.none : Option Jvm.ClassFile.FieldType)) ∈ lw_all := lw_g (lw_at lw_m2 81 rfl) rfl
theorem q421 : (Jvm.Cond.methodLink "java/util/BitSet" (21 : Nat) ({ cls := "java/lang/Object", name := "<init>", desc := "()V" } : Jvm.MethodName)) ∈ lw_all := lw_g (lw_at lw_m2 82 rfl) rfl
theorem q422 : (Jvm.Cond.methodLink "java/util/BitSet" (27 : Nat) ({ cls := "java/util/BitSet", name := "initWords", desc := "(I)V" } : Jvm.MethodName)) ∈ lw_all := lw_g (lw_at lw_m2 83 rfl) rfl
theorem q423 : (Jvm.Cond.privateMethod ({ cls := "java/util/BitSet", name := "initWords", desc := "(I)V" } : Jvm.MethodName)) ∈ lw_tbl := lw_at lw_m2 84 rfl
theorem q424 : (Jvm.Cond.instanceMethod ({ cls := "java/util/BitSet", name := "initWords", desc := "(I)V" } : Jvm.MethodName)) ∈ lw_all := lw_g (lw_at lw_m2 85 rfl) rfl
theorem q425 : (Jvm.Cond.code ({ cls := "java/util/BitSet", name := "initWords", desc := "(I)V" } : Jvm.MethodName) prog_59_method_6_code (2 : Nat) (Option.none : Option Jvm.ClassFile.FieldType)) ∈ lw_all := lw_g (lw_at lw_m2 86 rfl) rfl
theorem q426 : (Jvm.Cond.methodLink "java/util/BitSet" (52 : Nat) ({ cls := "java/util/BitSet", name := "wordIndex", desc := "(I)I" } : Jvm.MethodName)) ∈ lw_all := lw_g (lw_at lw_m2 87 rfl) rfl
theorem q427 : (Jvm.Cond.static ({ cls := "java/util/BitSet", name := "wordIndex", desc := "(I)I" } : Jvm.MethodName)) ∈ lw_all := lw_g (lw_at lw_m2 88 rfl) rfl
theorem q428 : (Jvm.Cond.code ({ cls := "java/util/BitSet", name := "wordIndex", desc := "(I)I" } : Jvm.MethodName) prog_59_method_1_code (1 : Nat) (Option.some Jvm.ClassFile.FieldType.int)) ∈ lw_all := lw_g (lw_at lw_m2 89 rfl) rfl
theorem q429 : (Jvm.Cond.fieldLink "java/util/BitSet" (11 : Nat) "java/util/BitSet" "words" "[J") ∈ lw_all := lw_g (lw_at lw_m2 90 rfl) rfl
theorem q430 : (Jvm.Cond.fieldLink "java/util/BitSet" (7 : Nat) "java/util/BitSet" "wordsInUse" "I") ∈ lw_all := lw_g (lw_at lw_m2 91 rfl) rfl
theorem q431 : (Jvm.Cond.fieldLink "java/util/BitSet" (24 : Nat) "java/util/BitSet" "sizeIsSticky" "Z") ∈ lw_all := lw_g (lw_at lw_m2 92 rfl) rfl
theorem q432 : (Jvm.Cond.lays "java/util/BitSet" "java/util/BitSet" "words" "[J") ∈ lw_all := lw_g (lw_at lw_m2 93 rfl) rfl
theorem q433 : (Jvm.Cond.soleField "java/util/BitSet" "words") ∈ lw_all := lw_g (lw_at lw_m2 94 rfl) rfl
theorem q434 : (Jvm.Cond.lays "java/util/BitSet" "java/util/BitSet" "wordsInUse" "I") ∈ lw_all := lw_g (lw_at lw_m2 95 rfl) rfl
theorem q435 : (Jvm.Cond.soleField "java/util/BitSet" "wordsInUse") ∈ lw_all := lw_g (lw_at lw_m2 96 rfl) rfl
theorem q436 : (Jvm.Cond.lays "java/util/BitSet" "java/util/BitSet" "sizeIsSticky" "Z") ∈ lw_all := lw_g (lw_at lw_m2 97 rfl) rfl
theorem q437 : (Jvm.Cond.soleField "java/util/BitSet" "sizeIsSticky") ∈ lw_all := lw_g (lw_at lw_m2 98 rfl) rfl
theorem q438 : (Jvm.Cond.superclass "java/util/BitSet" "java/lang/Object") ∈ lw_all := lw_g (lw_at lw_m2 99 rfl) rfl
theorem q498 : (Jvm.Cond.selects "java/util/BitSet" ({ cls := "java/lang/Object", name := "getClass", desc := "()Ljava/lang/Class;" } : Jvm.MethodName) ({ cls := "java/lang/Object", name := "getClass", desc := "()Ljava/lang/Class;" } : Jvm.MethodName)) ∈ lw_all := lw_g (lw_at lw_m2 159 rfl) rfl
theorem q1189 : (Jvm.Cond.instanceMethod ({ cls := "java/util/BitSet", name := "set", desc := "(I)V" } : Jvm.MethodName)) ∈ lw_all := lw_g (lw_at lw_m5 130 rfl) rfl
theorem q1190 : (Jvm.Cond.selects "java/util/BitSet" ({ cls := "java/util/BitSet", name := "set", desc := "(I)V" } : Jvm.MethodName) ({ cls := "java/util/BitSet", name := "set", desc := "(I)V" } : Jvm.MethodName)) ∈ lw_all := lw_g (lw_at lw_m5 131 rfl) rfl
theorem q1191 : (Jvm.Cond.code ({ cls := "java/util/BitSet", name := "set", desc := "(I)V" } : Jvm.MethodName) prog_59_method_19_code (3 : Nat) (Option.none : Option Jvm.ClassFile.FieldType)) ∈ lw_all := lw_g (lw_at lw_m5 132 rfl) rfl
theorem q1192 : (Jvm.Cond.classLink "java/util/BitSet" (142 : Nat) "java/lang/IndexOutOfBoundsException") ∈ lw_all := lw_g (lw_at lw_m5 133 rfl) rfl
theorem q1193 : (Jvm.Cond.classLink "java/util/BitSet" (33 : Nat) "java/lang/StringBuilder") ∈ lw_all := lw_g (lw_at lw_m5 134 rfl) rfl
theorem q1194 : (Jvm.Cond.methodLink "java/util/BitSet" (35 : Nat) ({ cls := "java/lang/StringBuilder", name := "<init>", desc := "()V" } : Jvm.MethodName)) ∈ lw_all := lw_g (lw_at lw_m5 135 rfl) rfl
theorem q1195 : (Jvm.Cond.stringRef "java/util/BitSet" (153 : Nat) "bitIndex < 0: ") ∈ lw_tbl := lw_at lw_m5 136 rfl
theorem q1196 : (Jvm.Cond.methodLink "java/util/BitSet" (38 : Nat) ({ cls := "java/lang/StringBuilder", name := "append", desc := "(Ljava/lang/String;)Ljava/lang/StringBuilder;" } : Jvm.MethodName)) ∈ lw_all := lw_g (lw_at lw_m5 137 rfl) rfl
theorem q1197 : (Jvm.Cond.methodLink "java/util/BitSet" (42 : Nat) ({ cls := "java/lang/StringBuilder", name := "append", desc := "(I)Ljava/lang/StringBuilder;" } : Jvm.MethodName)) ∈ lw_all := lw_g (lw_at lw_m5 138 rfl) rfl
theorem q1198 : (Jvm.Cond.methodLink "java/util/BitSet" (45 : Nat) ({ cls := "java/lang/StringBuilder", name := "toString", desc := "()Ljava/lang/String;" } : Jvm.MethodName)) ∈ lw_all := lw_g (lw_at lw_m5 139 rfl) rfl
theorem q1199 : (Jvm.Cond.methodLink "java/util/BitSet" (146 : Nat) ({ cls := "java/lang/IndexOutOfBoundsException", name := "<init>", desc := "(Ljava/lang/String;)V" } : Jvm.MethodName)) ∈ lw_all := lw_g (lw_at lw_m5 140 rfl) rfl
theorem q1200 : (Jvm.Cond.methodLink "java/util/BitSet" (155 : Nat) ({ cls := "java/util/BitSet", name := "expandTo", desc := "(I)V" } : Jvm.MethodName)) ∈ lw_all := lw_g (lw_at lw_m5 141 rfl) rfl
theorem q1201 : (Jvm.Cond.privateMethod ({ cls := "java/util/BitSet", name := "expandTo", desc := "(I)V" } : Jvm.MethodName)) ∈ lw_tbl := lw_at lw_m5 142 rfl
theorem q1202 : (Jvm.Cond.instanceMethod ({ cls := "java/util/BitSet", name := "expandTo", desc := "(I)V" } : Jvm.MethodName)) ∈ lw_all := lw_g (lw_at lw_m5 143 rfl) rfl
theorem q1203 : (Jvm.Cond.code ({ cls := "java/util/BitSet", name := "expandTo", desc := "(I)V" } : Jvm.MethodName) prog_59_method_15_code (3 : Nat) (Option.none : Option Jvm.ClassFile.FieldType)) ∈ lw_all := lw_g (lw_at lw_m5 144 rfl) rfl
theorem q1204 : (Jvm.Cond.methodLink "java/util/BitSet" (139 : Nat) ({ cls := "java/util/BitSet", name := "ensureCapacity", desc := "(I)V" } : Jvm.MethodName)) ∈ lw_all := lw_g (lw_at lw_m5 145 rfl) rfl
theorem q1205 : (Jvm.Cond.privateMethod ({ cls := "java/util/BitSet", name := "ensureCapacity", desc := "(I)V" } : Jvm.MethodName)) ∈ lw_tbl := lw_at lw_m5 146 rfl
theorem q1206 : (Jvm.Cond.instanceMethod ({ cls := "java/util/BitSet", name := "ensureCapacity", desc := "(I)V" } : Jvm.MethodName)) ∈ lw_all := lw_g (lw_at lw_m5 147 rfl) rfl
theorem q1207 : (Jvm.Cond.code ({ cls := "java/util/BitSet", name := "ensureCapacity", desc := "(I)V" } : Jvm.MethodName) prog_59_method_14_code (3 : Nat) (Option.none : Option Jvm.ClassFile.FieldType)) ∈ lw_all := lw_g (lw_at lw_m5 148 rfl) rfl
theorem q1208 : (Jvm.Cond.methodLink "java/util/BitSet" (133 : Nat) ({ cls := "java/lang/Math", name := "max", desc := "(II)I" } : Jvm.MethodName)) ∈ lw_all := lw_g (lw_at lw_m5 149 rfl) rfl
theorem q1209 : (Jvm.Cond.methodLink "java/util/BitSet" (59 : Nat) ({ cls := "java/util/Arrays", name := "copyOf", desc := "([JI)[J" } : Jvm.MethodName)) ∈ lw_all := lw_g (lw_at lw_m5 150 rfl) rfl
theorem q1217 : (Jvm.Cond.methodLink "java/util/BitSet" (56 : Nat) ({ cls := "java/util/BitSet", name := "checkInvariants", desc := "()V" } : Jvm.MethodName)) ∈ lw_all := lw_g (lw_at lw_m5 158 rfl) rfl
theorem q1218 : (Jvm.Cond.privateMethod ({ cls := "java/util/BitSet", name := "checkInvariants", desc := "()V" } : Jvm.MethodName)) ∈ lw_tbl := lw_at lw_m5 159 rfl
theorem q1219 : (Jvm.Cond.instanceMethod ({ cls := "java/util/BitSet", name := "checkInvariants", desc := "()V" } : Jvm.MethodName)) ∈ lw_all := lw_g (lw_at lw_m5 160 rfl) rfl
theorem q1220 : (Jvm.Cond.code ({ cls := "java/util/BitSet", name := "checkInvariants", desc := "()V" } : Jvm.MethodName) prog_59_method_2_code (1 : Nat) (Option.none : Option Jvm.ClassFile.FieldType)) ∈ lw_all := lw_g (lw_at lw_m5 161 rfl) rfl
theorem q1221 : (Jvm.Cond.fieldLink "java/util/BitSet" (3 : Nat) "java/util/BitSet" "$assertionsDisabled" "Z") ∈ lw_all := lw_g (lw_at lw_m5 162 rfl) rfl
theorem q1222 : (Jvm.Cond.laysStatic "java/util/BitSet" "$assertionsDisabled" "Z") ∈ lw_tbl := lw_at lw_m5 163 rfl
theorem q1224 : (Jvm.Cond.instanceMethod ({ cls := "java/util/BitSet", name := "nextSetBit", desc := "(I)I" } : Jvm.MethodName)) ∈ lw_all := lw_g (lw_at lw_m5 165 rfl) rfl
theorem q1225 : (Jvm.Cond.selects "java/util/BitSet" ({ cls := "java/util/BitSet", name := "nextSetBit", desc := "(I)I" } : Jvm.MethodName) ({ cls := "java/util/BitSet", name := "nextSetBit", desc := "(I)I" } : Jvm.MethodName)) ∈ lw_all := lw_g (lw_at lw_m5 166 rfl) rfl
theorem q1226 : (Jvm.Cond.code ({ cls := "java/util/BitSet", name := "nextSetBit", desc := "(I)I" } : Jvm.MethodName) prog_59_method_28_code (5 : Nat) (Option.some Jvm.ClassFile.FieldType.int)) ∈ lw_all := lw_g (lw_at lw_m5 167 rfl) rfl
theorem q1227 : (Jvm.Cond.stringRef "java/util/BitSet" (144 : Nat) "fromIndex < 0: ") ∈ lw_tbl := lw_at lw_m5 168 rfl
theorem q1228 : (Jvm.Cond.constantLong "java/util/BitSet" (165 : Nat) (-1 : Int64)) ∈ lw_all := lw_g (lw_at lw_m5 169 rfl) rfl
theorem q1229 : (Jvm.Cond.methodLink "java/util/BitSet" (182 : Nat) ({ cls := "java/lang/Long", name := "numberOfTrailingZeros", desc := "(J)I" } : Jvm.MethodName)) ∈ lw_all := lw_g (lw_at lw_m5 170 rfl) rfl
theorem q4178 : (Jvm.Cond.castable "java/util/BitSet" "java/lang/Object") ∈ lw_tbl := lw_at lw_m17 239 rfl
theorem in_J40 : ∀ w ∈ wsJ400, w ∈ lw_all := lw_in wsJ400 [432, 434, 436] (by decide +kernel) (by decide +kernel)
/-! java/lang/ArithmeticException -/
set_option maxRecDepth 100000
def RJ42 : String := "java/lang/ArithmeticException"
def TJ42 : u_T := fun k => match k with
  | 0 => ("java/lang/Throwable", "backtrace", "Ljava/lang/Object;", false)
  | 1 => ("java/lang/Throwable", "detailMessage", "Ljava/lang/String;", false)
  | 2 => ("java/lang/Throwable", "cause", "Ljava/lang/Throwable;", false)
  | 3 => ("java/lang/Throwable", "stackTrace", "[Ljava/lang/StackTraceElement;", false)
  | 4 => ("java/lang/Throwable", "depth", "I", false)
  | _ => ("java/lang/Throwable", "suppressedExceptions", "Ljava/util/List;", false)
def tyJ42 : Nat → FieldType := fun k => match k with
  | 0 => .object "java/lang/Object"
  | 1 => .object "java/lang/String"
  | 2 => .object "java/lang/Throwable"
  | 3 => .array (.object "java/lang/StackTraceElement")
  | 4 => .int
  | _ => .object "java/util/List"
abbrev wsJ420 : List Cond := u_ws RJ42 TJ42 6
theorem nmJ42 : ∀ a, a < 6 → ∀ b, b < 6 → a ≠ b → (TJ42 a).2.1 ≠ (TJ42 b).2.1 := by decide +kernel
theorem tyJ42_ok : ∀ k, k < 6 → parseFieldDescriptor (TJ42 k).2.2.1 = some (tyJ42 k) := by decide +kernel
abbrev cJ42_init : ByteArray := prog_19_method_2_code
def yJ42_init : MethodName := ⟨RJ42, "<init>", "(Ljava/lang/String;)V"⟩
def dkwJ42_init_0 : List UInt8 := [42, 43, 183, 0, 7, 177]
abbrev dktJ42_init_0 : List UInt8 := dkwJ42_init_0 ++ []
theorem dksJ42_init_0 : cJ42_init.data.toList.drop 0 = dktJ42_init_0 := by decide +kernel
theorem dJ42_init_0 : decode cJ42_init 0 = .ok (.aload_n 0, 1) := dk_42 (dk_at dksJ42_init_0 0 rfl rfl)
theorem dJ42_init_1 : decode cJ42_init 1 = .ok (.aload_n 1, 1) := dk_43 (dk_at dksJ42_init_0 1 rfl rfl)
theorem dJ42_init_2 : decode cJ42_init 2 = .ok (.invokespecial 7, 3) := dk_183 0 7 (dk_at dksJ42_init_0 2 rfl rfl)
theorem dJ42_init_5 : decode cJ42_init 5 = .ok (.return_, 1) := dk_177 (dk_at dksJ42_init_0 5 rfl rfl)
abbrev cJ42_init_2 : ByteArray := prog_19_method_1_code
def yJ42_init_2 : MethodName := ⟨RJ42, "<init>", "()V"⟩
theorem dJ42_init_2_0 : decode cJ42_init_2 0 = .ok (.aload_n 0, 1) := by decide +kernel
theorem dJ42_init_2_1 : decode cJ42_init_2 1 = .ok (.invokespecial 1, 3) := by decide +kernel
theorem dJ42_init_2_4 : decode cJ42_init_2 4 = .ok (.return_, 1) := by decide +kernel
theorem q157 : (Jvm.Cond.initialized "java/lang/ArithmeticException") ∈ lw_all := lw_g (lw_at lw_m1 58 rfl) rfl
theorem q484 : (Jvm.Cond.selects "java/lang/ArithmeticException" ({ cls := "java/lang/Object", name := "getClass", desc := "()Ljava/lang/Class;" } : Jvm.MethodName) ({ cls := "java/lang/Object", name := "getClass", desc := "()Ljava/lang/Class;" } : Jvm.MethodName)) ∈ lw_all := lw_g (lw_at lw_m2 145 rfl) rfl
theorem q765 : (Jvm.Cond.selects "java/lang/ArithmeticException" ({ cls := "java/lang/Throwable", name := "fillInStackTrace", desc := "()Ljava/lang/Throwable;" } : Jvm.MethodName) ({ cls := "java/lang/Throwable", name := "fillInStackTrace", desc := "()Ljava/lang/Throwable;" } : Jvm.MethodName)) ∈ lw_all := lw_g (lw_at lw_m3 186 rfl) rfl
theorem q1813 : (Jvm.Cond.selects "java/lang/ArithmeticException" ({ cls := "java/lang/Object", name := "hashCode", desc := "()I" } : Jvm.MethodName) ({ cls := "java/lang/Object", name := "hashCode", desc := "()I" } : Jvm.MethodName)) ∈ lw_all := lw_g (lw_at lw_m8 34 rfl) rfl
theorem q1921 : (Jvm.Cond.selects "java/lang/ArithmeticException" ({ cls := "java/lang/Object", name := "equals", desc := "(Ljava/lang/Object;)Z" } : Jvm.MethodName) ({ cls := "java/lang/Object", name := "equals", desc := "(Ljava/lang/Object;)Z" } : Jvm.MethodName)) ∈ lw_all := lw_g (lw_at lw_m8 142 rfl) rfl
theorem q2758 : (Jvm.Cond.instantiable "java/lang/ArithmeticException" (6 : Nat)) ∈ lw_all := lw_g (lw_at lw_m12 19 rfl) rfl
theorem q2759 : (Jvm.Cond.instanceMethod ({ cls := "java/lang/ArithmeticException", name := "<init>", desc := "(Ljava/lang/String;)V" } : Jvm.MethodName)) ∈ lw_all := lw_g (lw_at lw_m12 20 rfl) rfl
theorem q2760 : (Jvm.Cond.code ({ cls := "java/lang/ArithmeticException", name := "<init>", desc := "(Ljava/lang/String;)V" } : Jvm.MethodName) prog_19_method_2_code (2 : Nat) (Option.none : Option Jvm.ClassFile.FieldType)) ∈ lw_all := lw_g (lw_at lw_m12 21 rfl) rfl
theorem q2761 : (Jvm.Cond.methodLink "java/lang/ArithmeticException" (7 : Nat) ({ cls := "java/lang/RuntimeException", name := "<init>", desc := "(Ljava/lang/String;)V" } : Jvm.MethodName)) ∈ lw_all := lw_g (lw_at lw_m12 22 rfl) rfl
theorem q2762 : (Jvm.Cond.lays "java/lang/ArithmeticException" "java/lang/Throwable" "backtrace" "Ljava/lang/Object;") ∈ lw_all := lw_g (lw_at lw_m12 23 rfl) rfl
theorem q2763 : (Jvm.Cond.lays "java/lang/ArithmeticException" "java/lang/Throwable" "detailMessage" "Ljava/lang/String;") ∈ lw_all := lw_g (lw_at lw_m12 24 rfl) rfl
theorem q2764 : (Jvm.Cond.lays "java/lang/ArithmeticException" "java/lang/Throwable" "cause" "Ljava/lang/Throwable;") ∈ lw_all := lw_g (lw_at lw_m12 25 rfl) rfl
theorem q2765 : (Jvm.Cond.lays "java/lang/ArithmeticException" "java/lang/Throwable" "stackTrace" "[Ljava/lang/StackTraceElement;") ∈ lw_all := lw_g (lw_at lw_m12 26 rfl) rfl
theorem q2766 : (Jvm.Cond.lays "java/lang/ArithmeticException" "java/lang/Throwable" "depth" "I") ∈ lw_all := lw_g (lw_at lw_m12 27 rfl) rfl
theorem q2767 : (Jvm.Cond.lays "java/lang/ArithmeticException" "java/lang/Throwable" "suppressedExceptions" "Ljava/util/List;") ∈ lw_all := lw_g (lw_at lw_m12 28 rfl) rfl
theorem q2768 : (Jvm.Cond.superclass "java/lang/ArithmeticException" "java/lang/RuntimeException") ∈ lw_all := lw_g (lw_at lw_m12 29 rfl) rfl
theorem q2769 : (Jvm.Cond.castable "java/lang/ArithmeticException" "java/lang/ArithmeticException") ∈ lw_tbl := lw_at lw_m12 30 rfl
theorem q2770 : (Jvm.Cond.selects "java/lang/ArithmeticException" ({ cls := "java/lang/Throwable", name := "fillInStackTrace", desc := "(I)Ljava/lang/Throwable;" } : Jvm.MethodName) ({ cls := "java/lang/Throwable", name := "fillInStackTrace", desc := "(I)Ljava/lang/Throwable;" } : Jvm.MethodName)) ∈ lw_all := lw_g (lw_at lw_m12 31 rfl) rfl
theorem q2780 : (Jvm.Cond.instanceMethod ({ cls := "java/lang/ArithmeticException", name := "<init>", desc := "()V" } : Jvm.MethodName)) ∈ lw_all := lw_g (lw_at lw_m12 41 rfl) rfl
theorem q2781 : (Jvm.Cond.code ({ cls := "java/lang/ArithmeticException", name := "<init>", desc := "()V" } : Jvm.MethodName) prog_19_method_1_code (1 : Nat) (Option.none : Option Jvm.ClassFile.FieldType)) ∈ lw_all := lw_g (lw_at lw_m12 42 rfl) rfl
theorem q2782 : (Jvm.Cond.methodLink "java/lang/ArithmeticException" (1 : Nat) ({ cls := "java/lang/RuntimeException", name := "<init>", desc := "()V" } : Jvm.MethodName)) ∈ lw_all := lw_g (lw_at lw_m12 43 rfl) rfl
theorem q3299 : (Jvm.Cond.selects "java/lang/ArithmeticException" ({ cls := "java/lang/Throwable", name := "getLocalizedMessage", desc := "()Ljava/lang/String;" } : Jvm.MethodName) ({ cls := "java/lang/Throwable", name := "getLocalizedMessage", desc := "()Ljava/lang/String;" } : Jvm.MethodName)) ∈ lw_all := lw_g (lw_at lw_m14 80 rfl) rfl
theorem q3314 : (Jvm.Cond.selects "java/lang/ArithmeticException" ({ cls := "java/lang/Throwable", name := "getMessage", desc := "()Ljava/lang/String;" } : Jvm.MethodName) ({ cls := "java/lang/Throwable", name := "getMessage", desc := "()Ljava/lang/String;" } : Jvm.MethodName)) ∈ lw_all := lw_g (lw_at lw_m14 95 rfl) rfl
theorem q3340 : (Jvm.Cond.selects "java/lang/ArithmeticException" ({ cls := "java/lang/Object", name := "toString", desc := "()Ljava/lang/String;" } : Jvm.MethodName) ({ cls := "java/lang/Throwable", name := "toString", desc := "()Ljava/lang/String;" } : Jvm.MethodName)) ∈ lw_all := lw_g (lw_at lw_m14 121 rfl) rfl
theorem q4143 : (Jvm.Cond.castable "java/lang/ArithmeticException" "java/lang/Throwable") ∈ lw_tbl := lw_at lw_m17 204 rfl
theorem q4181 : (Jvm.Cond.castable "java/lang/ArithmeticException" "java/lang/Object") ∈ lw_tbl := lw_at lw_m18 2 rfl
theorem in_J42 : ∀ w ∈ wsJ420, w ∈ lw_all := lw_in wsJ420 [2762, 2763, 2764, 2765, 2766, 2767] (by decide +kernel) (by decide +kernel)
/-! java/lang/IllegalStateException -/
set_option maxRecDepth 100000
def RJ43 : String := "java/lang/IllegalStateException"
def TJ43 : u_T := fun k => match k with
  | 0 => ("java/lang/Throwable", "cause", "Ljava/lang/Throwable;", false)
  | 1 => ("java/lang/Throwable", "stackTrace", "[Ljava/lang/StackTraceElement;", false)
  | 2 => ("java/lang/Throwable", "suppressedExceptions", "Ljava/util/List;", false)
  | 3 => ("java/lang/Throwable", "detailMessage", "Ljava/lang/String;", false)
  | 4 => ("java/lang/Throwable", "backtrace", "Ljava/lang/Object;", false)
  | _ => ("java/lang/Throwable", "depth", "I", false)
def tyJ43 : Nat → FieldType := fun k => match k with
  | 0 => .object "java/lang/Throwable"
  | 1 => .array (.object "java/lang/StackTraceElement")
  | 2 => .object "java/util/List"
  | 3 => .object "java/lang/String"
  | 4 => .object "java/lang/Object"
  | _ => .int
abbrev wsJ430 : List Cond := u_ws RJ43 TJ43 6
theorem nmJ43 : ∀ a, a < 6 → ∀ b, b < 6 → a ≠ b → (TJ43 a).2.1 ≠ (TJ43 b).2.1 := by decide +kernel
theorem tyJ43_ok : ∀ k, k < 6 → parseFieldDescriptor (TJ43 k).2.2.1 = some (tyJ43 k) := by decide +kernel
abbrev cJ43_init : ByteArray := prog_30_method_1_code
def yJ43_init : MethodName := ⟨RJ43, "<init>", "()V"⟩
theorem dJ43_init_0 : decode cJ43_init 0 = .ok (.aload_n 0, 1) := by decide +kernel
theorem dJ43_init_1 : decode cJ43_init 1 = .ok (.invokespecial 1, 3) := by decide +kernel
theorem dJ43_init_4 : decode cJ43_init 4 = .ok (.return_, 1) := by decide +kernel
abbrev cJ43_init_2 : ByteArray := prog_30_method_3_code
def yJ43_init_2 : MethodName := ⟨RJ43, "<init>", "(Ljava/lang/String;Ljava/lang/Throwable;)V"⟩
def dkwJ43_init_2_0 : List UInt8 := [42, 43, 44, 183, 0, 10, 177]
abbrev dktJ43_init_2_0 : List UInt8 := dkwJ43_init_2_0 ++ []
theorem dksJ43_init_2_0 : cJ43_init_2.data.toList.drop 0 = dktJ43_init_2_0 := by decide +kernel
theorem dJ43_init_2_0 : decode cJ43_init_2 0 = .ok (.aload_n 0, 1) := dk_42 (dk_at dksJ43_init_2_0 0 rfl rfl)
theorem dJ43_init_2_1 : decode cJ43_init_2 1 = .ok (.aload_n 1, 1) := dk_43 (dk_at dksJ43_init_2_0 1 rfl rfl)
theorem dJ43_init_2_2 : decode cJ43_init_2 2 = .ok (.aload_n 2, 1) := dk_44 (dk_at dksJ43_init_2_0 2 rfl rfl)
theorem dJ43_init_2_3 : decode cJ43_init_2 3 = .ok (.invokespecial 10, 3) := dk_183 0 10 (dk_at dksJ43_init_2_0 3 rfl rfl)
theorem dJ43_init_2_6 : decode cJ43_init_2 6 = .ok (.return_, 1) := dk_177 (dk_at dksJ43_init_2_0 6 rfl rfl)
theorem q158 : (Jvm.Cond.initialized "java/lang/IllegalStateException") ∈ lw_all := lw_g (lw_at lw_m1 59 rfl) rfl
theorem q488 : (Jvm.Cond.selects "java/lang/IllegalStateException" ({ cls := "java/lang/Object", name := "getClass", desc := "()Ljava/lang/Class;" } : Jvm.MethodName) ({ cls := "java/lang/Object", name := "getClass", desc := "()Ljava/lang/Class;" } : Jvm.MethodName)) ∈ lw_all := lw_g (lw_at lw_m2 149 rfl) rfl
theorem q769 : (Jvm.Cond.selects "java/lang/IllegalStateException" ({ cls := "java/lang/Throwable", name := "fillInStackTrace", desc := "()Ljava/lang/Throwable;" } : Jvm.MethodName) ({ cls := "java/lang/Throwable", name := "fillInStackTrace", desc := "()Ljava/lang/Throwable;" } : Jvm.MethodName)) ∈ lw_all := lw_g (lw_at lw_m3 190 rfl) rfl
theorem q1817 : (Jvm.Cond.selects "java/lang/IllegalStateException" ({ cls := "java/lang/Object", name := "hashCode", desc := "()I" } : Jvm.MethodName) ({ cls := "java/lang/Object", name := "hashCode", desc := "()I" } : Jvm.MethodName)) ∈ lw_all := lw_g (lw_at lw_m8 38 rfl) rfl
theorem q1925 : (Jvm.Cond.selects "java/lang/IllegalStateException" ({ cls := "java/lang/Object", name := "equals", desc := "(Ljava/lang/Object;)Z" } : Jvm.MethodName) ({ cls := "java/lang/Object", name := "equals", desc := "(Ljava/lang/Object;)Z" } : Jvm.MethodName)) ∈ lw_all := lw_g (lw_at lw_m8 146 rfl) rfl
theorem q2821 : (Jvm.Cond.instantiable "java/lang/IllegalStateException" (6 : Nat)) ∈ lw_all := lw_g (lw_at lw_m12 82 rfl) rfl
theorem q2822 : (Jvm.Cond.castable "java/lang/IllegalStateException" "java/lang/IllegalStateException") ∈ lw_tbl := lw_at lw_m12 83 rfl
theorem q2823 : (Jvm.Cond.selects "java/lang/IllegalStateException" ({ cls := "java/lang/Throwable", name := "fillInStackTrace", desc := "(I)Ljava/lang/Throwable;" } : Jvm.MethodName) ({ cls := "java/lang/Throwable", name := "fillInStackTrace", desc := "(I)Ljava/lang/Throwable;" } : Jvm.MethodName)) ∈ lw_all := lw_g (lw_at lw_m12 84 rfl) rfl
theorem q2824 : (Jvm.Cond.lays "java/lang/IllegalStateException" "java/lang/Throwable" "cause" "Ljava/lang/Throwable;") ∈ lw_all := lw_g (lw_at lw_m12 85 rfl) rfl
theorem q2825 : (Jvm.Cond.lays "java/lang/IllegalStateException" "java/lang/Throwable" "stackTrace" "[Ljava/lang/StackTraceElement;") ∈ lw_all := lw_g (lw_at lw_m12 86 rfl) rfl
theorem q2826 : (Jvm.Cond.lays "java/lang/IllegalStateException" "java/lang/Throwable" "suppressedExceptions" "Ljava/util/List;") ∈ lw_all := lw_g (lw_at lw_m12 87 rfl) rfl
theorem q2827 : (Jvm.Cond.lays "java/lang/IllegalStateException" "java/lang/Throwable" "detailMessage" "Ljava/lang/String;") ∈ lw_all := lw_g (lw_at lw_m12 88 rfl) rfl
theorem q2828 : (Jvm.Cond.lays "java/lang/IllegalStateException" "java/lang/Throwable" "backtrace" "Ljava/lang/Object;") ∈ lw_all := lw_g (lw_at lw_m12 89 rfl) rfl
theorem q2830 : (Jvm.Cond.instanceMethod ({ cls := "java/lang/IllegalStateException", name := "<init>", desc := "()V" } : Jvm.MethodName)) ∈ lw_all := lw_g (lw_at lw_m12 91 rfl) rfl
theorem q2831 : (Jvm.Cond.code ({ cls := "java/lang/IllegalStateException", name := "<init>", desc := "()V" } : Jvm.MethodName) prog_30_method_1_code (1 : Nat) (Option.none : Option Jvm.ClassFile.FieldType)) ∈ lw_all := lw_g (lw_at lw_m12 92 rfl) rfl
theorem q2832 : (Jvm.Cond.methodLink "java/lang/IllegalStateException" (1 : Nat) ({ cls := "java/lang/RuntimeException", name := "<init>", desc := "()V" } : Jvm.MethodName)) ∈ lw_all := lw_g (lw_at lw_m12 93 rfl) rfl
theorem q2833 : (Jvm.Cond.lays "java/lang/IllegalStateException" "java/lang/Throwable" "depth" "I") ∈ lw_all := lw_g (lw_at lw_m12 94 rfl) rfl
theorem q2834 : (Jvm.Cond.superclass "java/lang/IllegalStateException" "java/lang/RuntimeException") ∈ lw_all := lw_g (lw_at lw_m12 95 rfl) rfl
theorem q3303 : (Jvm.Cond.selects "java/lang/IllegalStateException" ({ cls := "java/lang/Throwable", name := "getLocalizedMessage", desc := "()Ljava/lang/String;" } : Jvm.MethodName) ({ cls := "java/lang/Throwable", name := "getLocalizedMessage", desc := "()Ljava/lang/String;" } : Jvm.MethodName)) ∈ lw_all := lw_g (lw_at lw_m14 84 rfl) rfl
theorem q3318 : (Jvm.Cond.selects "java/lang/IllegalStateException" ({ cls := "java/lang/Throwable", name := "getMessage", desc := "()Ljava/lang/String;" } : Jvm.MethodName) ({ cls := "java/lang/Throwable", name := "getMessage", desc := "()Ljava/lang/String;" } : Jvm.MethodName)) ∈ lw_all := lw_g (lw_at lw_m14 99 rfl) rfl
theorem q3344 : (Jvm.Cond.selects "java/lang/IllegalStateException" ({ cls := "java/lang/Object", name := "toString", desc := "()Ljava/lang/String;" } : Jvm.MethodName) ({ cls := "java/lang/Throwable", name := "toString", desc := "()Ljava/lang/String;" } : Jvm.MethodName)) ∈ lw_all := lw_g (lw_at lw_m14 125 rfl) rfl
theorem q3393 : (Jvm.Cond.instanceMethod ({ cls := "java/lang/IllegalStateException", name := "<init>", desc := "(Ljava/lang/String;Ljava/lang/Throwable;)V" } : Jvm.MethodName)) ∈ lw_all := lw_g (lw_at lw_m14 174 rfl) rfl
theorem q3394 : (Jvm.Cond.code ({ cls := "java/lang/IllegalStateException", name := "<init>", desc := "(Ljava/lang/String;Ljava/lang/Throwable;)V" } : Jvm.MethodName) prog_30_method_3_code (3 : Nat) (Option.none : Option Jvm.ClassFile.FieldType)) ∈ lw_all := lw_g (lw_at lw_m14 175 rfl) rfl
theorem q3395 : (Jvm.Cond.methodLink "java/lang/IllegalStateException" (10 : Nat) ({ cls := "java/lang/RuntimeException", name := "<init>", desc := "(Ljava/lang/String;Ljava/lang/Throwable;)V" } : Jvm.MethodName)) ∈ lw_all := lw_g (lw_at lw_m14 176 rfl) rfl
theorem q4147 : (Jvm.Cond.castable "java/lang/IllegalStateException" "java/lang/Throwable") ∈ lw_tbl := lw_at lw_m17 208 rfl
theorem q4182 : (Jvm.Cond.castable "java/lang/IllegalStateException" "java/lang/Object") ∈ lw_tbl := lw_at lw_m18 3 rfl
theorem in_J43 : ∀ w ∈ wsJ430, w ∈ lw_all := lw_in wsJ430 [2824, 2825, 2826, 2827, 2828, 2833] (by decide +kernel) (by decide +kernel)
/-! java/lang/Float -/
set_option maxRecDepth 100000
def RJ50 : String := "java/lang/Float"
abbrev cJ50_isNaN : ByteArray := prog_28_method_6_code
def yJ50_isNaN : MethodName := ⟨RJ50, "isNaN", "(F)Z"⟩
def dkwJ50_isNaN_0 : List UInt8 := [34, 34, 149, 153, 0, 7, 4, 167, 0, 4, 3, 172]
abbrev dktJ50_isNaN_0 : List UInt8 := dkwJ50_isNaN_0 ++ []
theorem dksJ50_isNaN_0 : cJ50_isNaN.data.toList.drop 0 = dktJ50_isNaN_0 := by decide +kernel
theorem dJ50_isNaN_0 : decode cJ50_isNaN 0 = .ok (.fload_n 0, 1) := dk_34 (dk_at dksJ50_isNaN_0 0 rfl rfl)
theorem dJ50_isNaN_1 : decode cJ50_isNaN 1 = .ok (.fload_n 0, 1) := dk_34 (dk_at dksJ50_isNaN_0 1 rfl rfl)
theorem dJ50_isNaN_2 : decode cJ50_isNaN 2 = .ok (.fcmp .l, 1) := dk_149 (dk_at dksJ50_isNaN_0 2 rfl rfl)
theorem dJ50_isNaN_3 : decode cJ50_isNaN 3 = .ok (.ifCond .eq 7, 3) := dk_153 0 7 (dk_at dksJ50_isNaN_0 3 rfl rfl)
theorem dJ50_isNaN_6 : decode cJ50_isNaN 6 = .ok (.iconst 1, 1) := dk_4 (dk_at dksJ50_isNaN_0 6 rfl rfl)
theorem dJ50_isNaN_7 : decode cJ50_isNaN 7 = .ok (.goto 4, 3) := dk_167 0 4 (dk_at dksJ50_isNaN_0 7 rfl rfl)
theorem dJ50_isNaN_10 : decode cJ50_isNaN 10 = .ok (.iconst 0, 1) := dk_3 (dk_at dksJ50_isNaN_0 10 rfl rfl)
theorem dJ50_isNaN_11 : decode cJ50_isNaN 11 = .ok (.ireturn, 1) := dk_172 (dk_at dksJ50_isNaN_0 11 rfl rfl)
theorem q166 : (Jvm.Cond.initialized "java/lang/Float") ∈ lw_all := lw_g (lw_at lw_m1 67 rfl) rfl
theorem q2979 : (Jvm.Cond.static ({ cls := "java/lang/Float", name := "isNaN", desc := "(F)Z" } : Jvm.MethodName)) ∈ lw_all := lw_g (lw_at lw_m13 0 rfl) rfl
theorem q2980 : (Jvm.Cond.code ({ cls := "java/lang/Float", name := "isNaN", desc := "(F)Z" } : Jvm.MethodName) prog_28_method_6_code (1 : Nat) (Option.some Jvm.ClassFile.FieldType.boolean)) ∈ lw_all := lw_g (lw_at lw_m13 1 rfl) rfl
theorem q3014 : (Jvm.Cond.static ({ cls := "java/lang/Float", name := "floatToRawIntBits", desc := "(F)I" } : Jvm.MethodName)) ∈ lw_all := lw_g (lw_at lw_m13 35 rfl) rfl
theorem q3015 : (Jvm.Cond.native ({ cls := "java/lang/Float", name := "floatToRawIntBits", desc := "(F)I" } : Jvm.MethodName)) ∈ lw_all := lw_g (lw_at lw_m13 36 rfl) rfl
