/-! PaperStoreLaw -/
set_option maxRecDepth 100000
def RX0 : String := "PaperStoreLaw"
abbrev cX0_ladder : ByteArray := method_3_code
def yX0_ladder : MethodName := ⟨RX0, "ladder", "(LPaperStore;I[J)I"⟩
def dkwX0_ladder_0 : List UInt8 := [44, 3, 42, 27, 182, 0, 7, 133, 80, 167, 0, 9, 78, 4, 172, 78, 5, 172, 3, 172]
abbrev dktX0_ladder_0 : List UInt8 := dkwX0_ladder_0 ++ []
theorem dksX0_ladder_0 : cX0_ladder.data.toList.drop 0 = dktX0_ladder_0 := by decide +kernel
theorem dX0_ladder_0 : decode cX0_ladder 0 = .ok (.aload_n 2, 1) := dk_44 (dk_at dksX0_ladder_0 0 rfl rfl)
theorem dX0_ladder_1 : decode cX0_ladder 1 = .ok (.iconst 0, 1) := dk_3 (dk_at dksX0_ladder_0 1 rfl rfl)
theorem dX0_ladder_2 : decode cX0_ladder 2 = .ok (.aload_n 0, 1) := dk_42 (dk_at dksX0_ladder_0 2 rfl rfl)
theorem dX0_ladder_3 : decode cX0_ladder 3 = .ok (.iload_n 1, 1) := dk_27 (dk_at dksX0_ladder_0 3 rfl rfl)
theorem dX0_ladder_4 : decode cX0_ladder 4 = .ok (.invokevirtual 7, 3) := dk_182 0 7 (dk_at dksX0_ladder_0 4 rfl rfl)
theorem dX0_ladder_7 : decode cX0_ladder 7 = .ok (.i2l, 1) := dk_133 (dk_at dksX0_ladder_0 7 rfl rfl)
theorem dX0_ladder_8 : decode cX0_ladder 8 = .ok (.lastore, 1) := dk_80 (dk_at dksX0_ladder_0 8 rfl rfl)
theorem dX0_ladder_9 : decode cX0_ladder 9 = .ok (.goto 9, 3) := dk_167 0 9 (dk_at dksX0_ladder_0 9 rfl rfl)
theorem dX0_ladder_12 : decode cX0_ladder 12 = .ok (.astore_n 3, 1) := dk_78 (dk_at dksX0_ladder_0 12 rfl rfl)
theorem dX0_ladder_13 : decode cX0_ladder 13 = .ok (.iconst 1, 1) := dk_4 (dk_at dksX0_ladder_0 13 rfl rfl)
theorem dX0_ladder_14 : decode cX0_ladder 14 = .ok (.ireturn, 1) := dk_172 (dk_at dksX0_ladder_0 14 rfl rfl)
theorem dX0_ladder_15 : decode cX0_ladder 15 = .ok (.astore_n 3, 1) := dk_78 (dk_at dksX0_ladder_0 15 rfl rfl)
theorem dX0_ladder_16 : decode cX0_ladder 16 = .ok (.iconst 2, 1) := dk_5 (dk_at dksX0_ladder_0 16 rfl rfl)
theorem dX0_ladder_17 : decode cX0_ladder 17 = .ok (.ireturn, 1) := dk_172 (dk_at dksX0_ladder_0 17 rfl rfl)
theorem dX0_ladder_18 : decode cX0_ladder 18 = .ok (.iconst 0, 1) := dk_3 (dk_at dksX0_ladder_0 18 rfl rfl)
theorem dX0_ladder_19 : decode cX0_ladder 19 = .ok (.ireturn, 1) := dk_172 (dk_at dksX0_ladder_0 19 rfl rfl)
abbrev cX0_push : ByteArray := method_4_code
def yX0_push : MethodName := ⟨RX0, "push", "(LPaperStore;II[J)I"⟩
def dkwX0_push_1 : List UInt8 := [172, 3, 172]
abbrev dktX0_push_1 : List UInt8 := dkwX0_push_1 ++ []
def dkwX0_push_0 : List UInt8 := [45, 3, 42, 27, 28, 182, 0, 17, 133, 80, 167, 0, 15, 58, 4, 4, 172, 58, 4, 5, 172, 58, 4, 6]
abbrev dktX0_push_0 : List UInt8 := dkwX0_push_0 ++ dktX0_push_1
theorem dksX0_push_0 : cX0_push.data.toList.drop 0 = dktX0_push_0 := by decide +kernel
theorem dksX0_push_1 : cX0_push.data.toList.drop 24 = dktX0_push_1 := dk_seg dksX0_push_0 24 rfl rfl
theorem dX0_push_0 : decode cX0_push 0 = .ok (.aload_n 3, 1) := dk_45 (dk_at dksX0_push_0 0 rfl rfl)
theorem dX0_push_1 : decode cX0_push 1 = .ok (.iconst 0, 1) := dk_3 (dk_at dksX0_push_0 1 rfl rfl)
theorem dX0_push_2 : decode cX0_push 2 = .ok (.aload_n 0, 1) := dk_42 (dk_at dksX0_push_0 2 rfl rfl)
theorem dX0_push_3 : decode cX0_push 3 = .ok (.iload_n 1, 1) := dk_27 (dk_at dksX0_push_0 3 rfl rfl)
theorem dX0_push_4 : decode cX0_push 4 = .ok (.iload_n 2, 1) := dk_28 (dk_at dksX0_push_0 4 rfl rfl)
theorem dX0_push_5 : decode cX0_push 5 = .ok (.invokevirtual 17, 3) := dk_182 0 17 (dk_at dksX0_push_0 5 rfl rfl)
theorem dX0_push_8 : decode cX0_push 8 = .ok (.i2l, 1) := dk_133 (dk_at dksX0_push_0 8 rfl rfl)
theorem dX0_push_9 : decode cX0_push 9 = .ok (.lastore, 1) := dk_80 (dk_at dksX0_push_0 9 rfl rfl)
theorem dX0_push_10 : decode cX0_push 10 = .ok (.goto 15, 3) := dk_167 0 15 (dk_at dksX0_push_0 10 rfl rfl)
theorem dX0_push_13 : decode cX0_push 13 = .ok (.astore 4, 2) := dk_58 4 (dk_at dksX0_push_0 13 rfl rfl)
theorem dX0_push_15 : decode cX0_push 15 = .ok (.iconst 1, 1) := dk_4 (dk_at dksX0_push_0 15 rfl rfl)
theorem dX0_push_16 : decode cX0_push 16 = .ok (.ireturn, 1) := dk_172 (dk_at dksX0_push_0 16 rfl rfl)
theorem dX0_push_17 : decode cX0_push 17 = .ok (.astore 4, 2) := dk_58 4 (dk_at dksX0_push_0 17 rfl rfl)
theorem dX0_push_19 : decode cX0_push 19 = .ok (.iconst 2, 1) := dk_5 (dk_at dksX0_push_0 19 rfl rfl)
theorem dX0_push_20 : decode cX0_push 20 = .ok (.ireturn, 1) := dk_172 (dk_at dksX0_push_0 20 rfl rfl)
theorem dX0_push_21 : decode cX0_push 21 = .ok (.astore 4, 2) := dk_58 4 (dk_at dksX0_push_0 21 rfl rfl)
theorem dX0_push_23 : decode cX0_push 23 = .ok (.iconst 3, 1) := dk_6 (dk_at dksX0_push_0 23 rfl rfl)
theorem dX0_push_24 : decode cX0_push 24 = .ok (.ireturn, 1) := dk_172 (dk_at dksX0_push_1 0 rfl rfl)
theorem dX0_push_25 : decode cX0_push 25 = .ok (.iconst 0, 1) := dk_3 (dk_at dksX0_push_1 1 rfl rfl)
theorem dX0_push_26 : decode cX0_push 26 = .ok (.ireturn, 1) := dk_172 (dk_at dksX0_push_1 2 rfl rfl)
abbrev cX0_store : ByteArray := method_5_code
def yX0_store : MethodName := ⟨RX0, "store", "(LPaperStore;IIIII[J)I"⟩
def dkwX0_store_1 : List UInt8 := [58, 7, 5, 172, 58, 7, 6, 172, 3, 172]
abbrev dktX0_store_1 : List UInt8 := dkwX0_store_1 ++ []
def dkwX0_store_0 : List UInt8 := [25, 6, 3, 42, 27, 28, 29, 21, 4, 21, 5, 182, 0, 23, 133, 80, 167, 0, 15, 58, 7, 4, 172]
abbrev dktX0_store_0 : List UInt8 := dkwX0_store_0 ++ dktX0_store_1
theorem dksX0_store_0 : cX0_store.data.toList.drop 0 = dktX0_store_0 := by decide +kernel
theorem dksX0_store_1 : cX0_store.data.toList.drop 23 = dktX0_store_1 := dk_seg dksX0_store_0 23 rfl rfl
theorem dX0_store_0 : decode cX0_store 0 = .ok (.aload 6, 2) := dk_25 6 (dk_at dksX0_store_0 0 rfl rfl)
theorem dX0_store_2 : decode cX0_store 2 = .ok (.iconst 0, 1) := dk_3 (dk_at dksX0_store_0 2 rfl rfl)
theorem dX0_store_3 : decode cX0_store 3 = .ok (.aload_n 0, 1) := dk_42 (dk_at dksX0_store_0 3 rfl rfl)
theorem dX0_store_4 : decode cX0_store 4 = .ok (.iload_n 1, 1) := dk_27 (dk_at dksX0_store_0 4 rfl rfl)
theorem dX0_store_5 : decode cX0_store 5 = .ok (.iload_n 2, 1) := dk_28 (dk_at dksX0_store_0 5 rfl rfl)
theorem dX0_store_6 : decode cX0_store 6 = .ok (.iload_n 3, 1) := dk_29 (dk_at dksX0_store_0 6 rfl rfl)
theorem dX0_store_7 : decode cX0_store 7 = .ok (.iload 4, 2) := dk_21 4 (dk_at dksX0_store_0 7 rfl rfl)
theorem dX0_store_9 : decode cX0_store 9 = .ok (.iload 5, 2) := dk_21 5 (dk_at dksX0_store_0 9 rfl rfl)
theorem dX0_store_11 : decode cX0_store 11 = .ok (.invokevirtual 23, 3) := dk_182 0 23 (dk_at dksX0_store_0 11 rfl rfl)
theorem dX0_store_14 : decode cX0_store 14 = .ok (.i2l, 1) := dk_133 (dk_at dksX0_store_0 14 rfl rfl)
theorem dX0_store_15 : decode cX0_store 15 = .ok (.lastore, 1) := dk_80 (dk_at dksX0_store_0 15 rfl rfl)
theorem dX0_store_16 : decode cX0_store 16 = .ok (.goto 15, 3) := dk_167 0 15 (dk_at dksX0_store_0 16 rfl rfl)
theorem dX0_store_19 : decode cX0_store 19 = .ok (.astore 7, 2) := dk_58 7 (dk_at dksX0_store_0 19 rfl rfl)
theorem dX0_store_21 : decode cX0_store 21 = .ok (.iconst 1, 1) := dk_4 (dk_at dksX0_store_0 21 rfl rfl)
theorem dX0_store_22 : decode cX0_store 22 = .ok (.ireturn, 1) := dk_172 (dk_at dksX0_store_0 22 rfl rfl)
theorem dX0_store_23 : decode cX0_store 23 = .ok (.astore 7, 2) := dk_58 7 (dk_at dksX0_store_1 0 rfl rfl)
theorem dX0_store_25 : decode cX0_store 25 = .ok (.iconst 2, 1) := dk_5 (dk_at dksX0_store_1 2 rfl rfl)
theorem dX0_store_26 : decode cX0_store 26 = .ok (.ireturn, 1) := dk_172 (dk_at dksX0_store_1 3 rfl rfl)
theorem dX0_store_27 : decode cX0_store 27 = .ok (.astore 7, 2) := dk_58 7 (dk_at dksX0_store_1 4 rfl rfl)
theorem dX0_store_29 : decode cX0_store 29 = .ok (.iconst 3, 1) := dk_6 (dk_at dksX0_store_1 6 rfl rfl)
theorem dX0_store_30 : decode cX0_store 30 = .ok (.ireturn, 1) := dk_172 (dk_at dksX0_store_1 7 rfl rfl)
theorem dX0_store_31 : decode cX0_store 31 = .ok (.iconst 0, 1) := dk_3 (dk_at dksX0_store_1 8 rfl rfl)
theorem dX0_store_32 : decode cX0_store 32 = .ok (.ireturn, 1) := dk_172 (dk_at dksX0_store_1 9 rfl rfl)
abbrev cX0_ladderOf : ByteArray := method_6_code
def yX0_ladderOf : MethodName := ⟨RX0, "ladderOf", "(LPaperStore;IZ[J)I"⟩
def dkwX0_ladderOf_0 : List UInt8 := [45, 3, 42, 27, 28, 182, 0, 27, 133, 80, 167, 0, 7, 58, 4, 4, 172, 3, 172]
abbrev dktX0_ladderOf_0 : List UInt8 := dkwX0_ladderOf_0 ++ []
theorem dksX0_ladderOf_0 : cX0_ladderOf.data.toList.drop 0 = dktX0_ladderOf_0 := by decide +kernel
theorem dX0_ladderOf_0 : decode cX0_ladderOf 0 = .ok (.aload_n 3, 1) := dk_45 (dk_at dksX0_ladderOf_0 0 rfl rfl)
theorem dX0_ladderOf_1 : decode cX0_ladderOf 1 = .ok (.iconst 0, 1) := dk_3 (dk_at dksX0_ladderOf_0 1 rfl rfl)
theorem dX0_ladderOf_2 : decode cX0_ladderOf 2 = .ok (.aload_n 0, 1) := dk_42 (dk_at dksX0_ladderOf_0 2 rfl rfl)
theorem dX0_ladderOf_3 : decode cX0_ladderOf 3 = .ok (.iload_n 1, 1) := dk_27 (dk_at dksX0_ladderOf_0 3 rfl rfl)
theorem dX0_ladderOf_4 : decode cX0_ladderOf 4 = .ok (.iload_n 2, 1) := dk_28 (dk_at dksX0_ladderOf_0 4 rfl rfl)
theorem dX0_ladderOf_5 : decode cX0_ladderOf 5 = .ok (.invokevirtual 27, 3) := dk_182 0 27 (dk_at dksX0_ladderOf_0 5 rfl rfl)
theorem dX0_ladderOf_8 : decode cX0_ladderOf 8 = .ok (.i2l, 1) := dk_133 (dk_at dksX0_ladderOf_0 8 rfl rfl)
theorem dX0_ladderOf_9 : decode cX0_ladderOf 9 = .ok (.lastore, 1) := dk_80 (dk_at dksX0_ladderOf_0 9 rfl rfl)
theorem dX0_ladderOf_10 : decode cX0_ladderOf 10 = .ok (.goto 7, 3) := dk_167 0 7 (dk_at dksX0_ladderOf_0 10 rfl rfl)
theorem dX0_ladderOf_13 : decode cX0_ladderOf 13 = .ok (.astore 4, 2) := dk_58 4 (dk_at dksX0_ladderOf_0 13 rfl rfl)
theorem dX0_ladderOf_15 : decode cX0_ladderOf 15 = .ok (.iconst 1, 1) := dk_4 (dk_at dksX0_ladderOf_0 15 rfl rfl)
theorem dX0_ladderOf_16 : decode cX0_ladderOf 16 = .ok (.ireturn, 1) := dk_172 (dk_at dksX0_ladderOf_0 16 rfl rfl)
theorem dX0_ladderOf_17 : decode cX0_ladderOf 17 = .ok (.iconst 0, 1) := dk_3 (dk_at dksX0_ladderOf_0 17 rfl rfl)
theorem dX0_ladderOf_18 : decode cX0_ladderOf 18 = .ok (.ireturn, 1) := dk_172 (dk_at dksX0_ladderOf_0 18 rfl rfl)
abbrev cX0_reamOf : ByteArray := method_7_code
def yX0_reamOf : MethodName := ⟨RX0, "reamOf", "(LPaperStore;II[J)I"⟩
def dkwX0_reamOf_0 : List UInt8 := [45, 3, 42, 27, 28, 182, 0, 31, 133, 80, 167, 0, 11, 58, 4, 4, 172, 58, 4, 5, 172, 3, 172]
abbrev dktX0_reamOf_0 : List UInt8 := dkwX0_reamOf_0 ++ []
theorem dksX0_reamOf_0 : cX0_reamOf.data.toList.drop 0 = dktX0_reamOf_0 := by decide +kernel
theorem dX0_reamOf_0 : decode cX0_reamOf 0 = .ok (.aload_n 3, 1) := dk_45 (dk_at dksX0_reamOf_0 0 rfl rfl)
theorem dX0_reamOf_1 : decode cX0_reamOf 1 = .ok (.iconst 0, 1) := dk_3 (dk_at dksX0_reamOf_0 1 rfl rfl)
theorem dX0_reamOf_2 : decode cX0_reamOf 2 = .ok (.aload_n 0, 1) := dk_42 (dk_at dksX0_reamOf_0 2 rfl rfl)
theorem dX0_reamOf_3 : decode cX0_reamOf 3 = .ok (.iload_n 1, 1) := dk_27 (dk_at dksX0_reamOf_0 3 rfl rfl)
theorem dX0_reamOf_4 : decode cX0_reamOf 4 = .ok (.iload_n 2, 1) := dk_28 (dk_at dksX0_reamOf_0 4 rfl rfl)
theorem dX0_reamOf_5 : decode cX0_reamOf 5 = .ok (.invokevirtual 31, 3) := dk_182 0 31 (dk_at dksX0_reamOf_0 5 rfl rfl)
theorem dX0_reamOf_8 : decode cX0_reamOf 8 = .ok (.i2l, 1) := dk_133 (dk_at dksX0_reamOf_0 8 rfl rfl)
theorem dX0_reamOf_9 : decode cX0_reamOf 9 = .ok (.lastore, 1) := dk_80 (dk_at dksX0_reamOf_0 9 rfl rfl)
theorem dX0_reamOf_10 : decode cX0_reamOf 10 = .ok (.goto 11, 3) := dk_167 0 11 (dk_at dksX0_reamOf_0 10 rfl rfl)
theorem dX0_reamOf_13 : decode cX0_reamOf 13 = .ok (.astore 4, 2) := dk_58 4 (dk_at dksX0_reamOf_0 13 rfl rfl)
theorem dX0_reamOf_15 : decode cX0_reamOf 15 = .ok (.iconst 1, 1) := dk_4 (dk_at dksX0_reamOf_0 15 rfl rfl)
theorem dX0_reamOf_16 : decode cX0_reamOf 16 = .ok (.ireturn, 1) := dk_172 (dk_at dksX0_reamOf_0 16 rfl rfl)
theorem dX0_reamOf_17 : decode cX0_reamOf 17 = .ok (.astore 4, 2) := dk_58 4 (dk_at dksX0_reamOf_0 17 rfl rfl)
theorem dX0_reamOf_19 : decode cX0_reamOf 19 = .ok (.iconst 2, 1) := dk_5 (dk_at dksX0_reamOf_0 19 rfl rfl)
theorem dX0_reamOf_20 : decode cX0_reamOf 20 = .ok (.ireturn, 1) := dk_172 (dk_at dksX0_reamOf_0 20 rfl rfl)
theorem dX0_reamOf_21 : decode cX0_reamOf 21 = .ok (.iconst 0, 1) := dk_3 (dk_at dksX0_reamOf_0 21 rfl rfl)
theorem dX0_reamOf_22 : decode cX0_reamOf 22 = .ok (.ireturn, 1) := dk_172 (dk_at dksX0_reamOf_0 22 rfl rfl)
abbrev cX0_top : ByteArray := method_8_code
def yX0_top : MethodName := ⟨RX0, "top", "(LPaperStore;II[J)I"⟩
def dkwX0_top_0 : List UInt8 := [45, 3, 42, 27, 28, 182, 0, 34, 133, 80, 167, 0, 11, 58, 4, 4, 172, 58, 4, 5, 172, 3, 172]
abbrev dktX0_top_0 : List UInt8 := dkwX0_top_0 ++ []
theorem dksX0_top_0 : cX0_top.data.toList.drop 0 = dktX0_top_0 := by decide +kernel
theorem dX0_top_0 : decode cX0_top 0 = .ok (.aload_n 3, 1) := dk_45 (dk_at dksX0_top_0 0 rfl rfl)
theorem dX0_top_1 : decode cX0_top 1 = .ok (.iconst 0, 1) := dk_3 (dk_at dksX0_top_0 1 rfl rfl)
theorem dX0_top_2 : decode cX0_top 2 = .ok (.aload_n 0, 1) := dk_42 (dk_at dksX0_top_0 2 rfl rfl)
theorem dX0_top_3 : decode cX0_top 3 = .ok (.iload_n 1, 1) := dk_27 (dk_at dksX0_top_0 3 rfl rfl)
theorem dX0_top_4 : decode cX0_top 4 = .ok (.iload_n 2, 1) := dk_28 (dk_at dksX0_top_0 4 rfl rfl)
theorem dX0_top_5 : decode cX0_top 5 = .ok (.invokevirtual 34, 3) := dk_182 0 34 (dk_at dksX0_top_0 5 rfl rfl)
theorem dX0_top_8 : decode cX0_top 8 = .ok (.i2l, 1) := dk_133 (dk_at dksX0_top_0 8 rfl rfl)
theorem dX0_top_9 : decode cX0_top 9 = .ok (.lastore, 1) := dk_80 (dk_at dksX0_top_0 9 rfl rfl)
theorem dX0_top_10 : decode cX0_top 10 = .ok (.goto 11, 3) := dk_167 0 11 (dk_at dksX0_top_0 10 rfl rfl)
theorem dX0_top_13 : decode cX0_top 13 = .ok (.astore 4, 2) := dk_58 4 (dk_at dksX0_top_0 13 rfl rfl)
theorem dX0_top_15 : decode cX0_top 15 = .ok (.iconst 1, 1) := dk_4 (dk_at dksX0_top_0 15 rfl rfl)
theorem dX0_top_16 : decode cX0_top 16 = .ok (.ireturn, 1) := dk_172 (dk_at dksX0_top_0 16 rfl rfl)
theorem dX0_top_17 : decode cX0_top 17 = .ok (.astore 4, 2) := dk_58 4 (dk_at dksX0_top_0 17 rfl rfl)
theorem dX0_top_19 : decode cX0_top 19 = .ok (.iconst 2, 1) := dk_5 (dk_at dksX0_top_0 19 rfl rfl)
theorem dX0_top_20 : decode cX0_top 20 = .ok (.ireturn, 1) := dk_172 (dk_at dksX0_top_0 20 rfl rfl)
theorem dX0_top_21 : decode cX0_top 21 = .ok (.iconst 0, 1) := dk_3 (dk_at dksX0_top_0 21 rfl rfl)
theorem dX0_top_22 : decode cX0_top 22 = .ok (.ireturn, 1) := dk_172 (dk_at dksX0_top_0 22 rfl rfl)
abbrev cX0_wavyIn : ByteArray := method_9_code
def yX0_wavyIn : MethodName := ⟨RX0, "wavyIn", "(LPaperStore;I[J)I"⟩
def dkwX0_wavyIn_0 : List UInt8 := [44, 3, 42, 27, 182, 0, 39, 133, 80, 167, 0, 9, 78, 4, 172, 78, 5, 172, 3, 172]
abbrev dktX0_wavyIn_0 : List UInt8 := dkwX0_wavyIn_0 ++ []
theorem dksX0_wavyIn_0 : cX0_wavyIn.data.toList.drop 0 = dktX0_wavyIn_0 := by decide +kernel
theorem dX0_wavyIn_0 : decode cX0_wavyIn 0 = .ok (.aload_n 2, 1) := dk_44 (dk_at dksX0_wavyIn_0 0 rfl rfl)
theorem dX0_wavyIn_1 : decode cX0_wavyIn 1 = .ok (.iconst 0, 1) := dk_3 (dk_at dksX0_wavyIn_0 1 rfl rfl)
theorem dX0_wavyIn_2 : decode cX0_wavyIn 2 = .ok (.aload_n 0, 1) := dk_42 (dk_at dksX0_wavyIn_0 2 rfl rfl)
theorem dX0_wavyIn_3 : decode cX0_wavyIn 3 = .ok (.iload_n 1, 1) := dk_27 (dk_at dksX0_wavyIn_0 3 rfl rfl)
theorem dX0_wavyIn_4 : decode cX0_wavyIn 4 = .ok (.invokevirtual 39, 3) := dk_182 0 39 (dk_at dksX0_wavyIn_0 4 rfl rfl)
theorem dX0_wavyIn_7 : decode cX0_wavyIn 7 = .ok (.i2l, 1) := dk_133 (dk_at dksX0_wavyIn_0 7 rfl rfl)
theorem dX0_wavyIn_8 : decode cX0_wavyIn 8 = .ok (.lastore, 1) := dk_80 (dk_at dksX0_wavyIn_0 8 rfl rfl)
theorem dX0_wavyIn_9 : decode cX0_wavyIn 9 = .ok (.goto 9, 3) := dk_167 0 9 (dk_at dksX0_wavyIn_0 9 rfl rfl)
theorem dX0_wavyIn_12 : decode cX0_wavyIn 12 = .ok (.astore_n 3, 1) := dk_78 (dk_at dksX0_wavyIn_0 12 rfl rfl)
theorem dX0_wavyIn_13 : decode cX0_wavyIn 13 = .ok (.iconst 1, 1) := dk_4 (dk_at dksX0_wavyIn_0 13 rfl rfl)
theorem dX0_wavyIn_14 : decode cX0_wavyIn 14 = .ok (.ireturn, 1) := dk_172 (dk_at dksX0_wavyIn_0 14 rfl rfl)
theorem dX0_wavyIn_15 : decode cX0_wavyIn 15 = .ok (.astore_n 3, 1) := dk_78 (dk_at dksX0_wavyIn_0 15 rfl rfl)
theorem dX0_wavyIn_16 : decode cX0_wavyIn 16 = .ok (.iconst 2, 1) := dk_5 (dk_at dksX0_wavyIn_0 16 rfl rfl)
theorem dX0_wavyIn_17 : decode cX0_wavyIn 17 = .ok (.ireturn, 1) := dk_172 (dk_at dksX0_wavyIn_0 17 rfl rfl)
theorem dX0_wavyIn_18 : decode cX0_wavyIn 18 = .ok (.iconst 0, 1) := dk_3 (dk_at dksX0_wavyIn_0 18 rfl rfl)
theorem dX0_wavyIn_19 : decode cX0_wavyIn 19 = .ok (.ireturn, 1) := dk_172 (dk_at dksX0_wavyIn_0 19 rfl rfl)
abbrev cX0_air : ByteArray := method_10_code
def yX0_air : MethodName := ⟨RX0, "air", "(LPaperStore;II[J)I"⟩
def dkwX0_air_0 : List UInt8 := [45, 3, 42, 27, 28, 182, 0, 42, 133, 80, 167, 0, 7, 58, 4, 4, 172, 3, 172]
abbrev dktX0_air_0 : List UInt8 := dkwX0_air_0 ++ []
theorem dksX0_air_0 : cX0_air.data.toList.drop 0 = dktX0_air_0 := by decide +kernel
theorem dX0_air_0 : decode cX0_air 0 = .ok (.aload_n 3, 1) := dk_45 (dk_at dksX0_air_0 0 rfl rfl)
theorem dX0_air_1 : decode cX0_air 1 = .ok (.iconst 0, 1) := dk_3 (dk_at dksX0_air_0 1 rfl rfl)
theorem dX0_air_2 : decode cX0_air 2 = .ok (.aload_n 0, 1) := dk_42 (dk_at dksX0_air_0 2 rfl rfl)
theorem dX0_air_3 : decode cX0_air 3 = .ok (.iload_n 1, 1) := dk_27 (dk_at dksX0_air_0 3 rfl rfl)
theorem dX0_air_4 : decode cX0_air 4 = .ok (.iload_n 2, 1) := dk_28 (dk_at dksX0_air_0 4 rfl rfl)
theorem dX0_air_5 : decode cX0_air 5 = .ok (.invokevirtual 42, 3) := dk_182 0 42 (dk_at dksX0_air_0 5 rfl rfl)
theorem dX0_air_8 : decode cX0_air 8 = .ok (.i2l, 1) := dk_133 (dk_at dksX0_air_0 8 rfl rfl)
theorem dX0_air_9 : decode cX0_air 9 = .ok (.lastore, 1) := dk_80 (dk_at dksX0_air_0 9 rfl rfl)
theorem dX0_air_10 : decode cX0_air 10 = .ok (.goto 7, 3) := dk_167 0 7 (dk_at dksX0_air_0 10 rfl rfl)
theorem dX0_air_13 : decode cX0_air 13 = .ok (.astore 4, 2) := dk_58 4 (dk_at dksX0_air_0 13 rfl rfl)
theorem dX0_air_15 : decode cX0_air 15 = .ok (.iconst 1, 1) := dk_4 (dk_at dksX0_air_0 15 rfl rfl)
theorem dX0_air_16 : decode cX0_air 16 = .ok (.ireturn, 1) := dk_172 (dk_at dksX0_air_0 16 rfl rfl)
theorem dX0_air_17 : decode cX0_air 17 = .ok (.iconst 0, 1) := dk_3 (dk_at dksX0_air_0 17 rfl rfl)
theorem dX0_air_18 : decode cX0_air 18 = .ok (.ireturn, 1) := dk_172 (dk_at dksX0_air_0 18 rfl rfl)
abbrev cX0_mice : ByteArray := method_11_code
def yX0_mice : MethodName := ⟨RX0, "mice", "(LPaperStore;II[J)I"⟩
def dkwX0_mice_0 : List UInt8 := [45, 3, 42, 27, 28, 182, 0, 45, 133, 80, 167, 0, 7, 58, 4, 4, 172, 3, 172]
abbrev dktX0_mice_0 : List UInt8 := dkwX0_mice_0 ++ []
theorem dksX0_mice_0 : cX0_mice.data.toList.drop 0 = dktX0_mice_0 := by decide +kernel
theorem dX0_mice_0 : decode cX0_mice 0 = .ok (.aload_n 3, 1) := dk_45 (dk_at dksX0_mice_0 0 rfl rfl)
theorem dX0_mice_1 : decode cX0_mice 1 = .ok (.iconst 0, 1) := dk_3 (dk_at dksX0_mice_0 1 rfl rfl)
theorem dX0_mice_2 : decode cX0_mice 2 = .ok (.aload_n 0, 1) := dk_42 (dk_at dksX0_mice_0 2 rfl rfl)
theorem dX0_mice_3 : decode cX0_mice 3 = .ok (.iload_n 1, 1) := dk_27 (dk_at dksX0_mice_0 3 rfl rfl)
theorem dX0_mice_4 : decode cX0_mice 4 = .ok (.iload_n 2, 1) := dk_28 (dk_at dksX0_mice_0 4 rfl rfl)
theorem dX0_mice_5 : decode cX0_mice 5 = .ok (.invokevirtual 45, 3) := dk_182 0 45 (dk_at dksX0_mice_0 5 rfl rfl)
theorem dX0_mice_8 : decode cX0_mice 8 = .ok (.i2l, 1) := dk_133 (dk_at dksX0_mice_0 8 rfl rfl)
theorem dX0_mice_9 : decode cX0_mice 9 = .ok (.lastore, 1) := dk_80 (dk_at dksX0_mice_0 9 rfl rfl)
theorem dX0_mice_10 : decode cX0_mice 10 = .ok (.goto 7, 3) := dk_167 0 7 (dk_at dksX0_mice_0 10 rfl rfl)
theorem dX0_mice_13 : decode cX0_mice 13 = .ok (.astore 4, 2) := dk_58 4 (dk_at dksX0_mice_0 13 rfl rfl)
theorem dX0_mice_15 : decode cX0_mice 15 = .ok (.iconst 1, 1) := dk_4 (dk_at dksX0_mice_0 15 rfl rfl)
theorem dX0_mice_16 : decode cX0_mice 16 = .ok (.ireturn, 1) := dk_172 (dk_at dksX0_mice_0 16 rfl rfl)
theorem dX0_mice_17 : decode cX0_mice 17 = .ok (.iconst 0, 1) := dk_3 (dk_at dksX0_mice_0 17 rfl rfl)
theorem dX0_mice_18 : decode cX0_mice 18 = .ok (.ireturn, 1) := dk_172 (dk_at dksX0_mice_0 18 rfl rfl)
abbrev cX0_trap : ByteArray := method_12_code
def yX0_trap : MethodName := ⟨RX0, "trap", "(LPaperStore;II[J)I"⟩
def dkwX0_trap_0 : List UInt8 := [45, 3, 42, 27, 28, 182, 0, 48, 133, 80, 167, 0, 7, 58, 4, 4, 172, 3, 172]
abbrev dktX0_trap_0 : List UInt8 := dkwX0_trap_0 ++ []
theorem dksX0_trap_0 : cX0_trap.data.toList.drop 0 = dktX0_trap_0 := by decide +kernel
theorem dX0_trap_0 : decode cX0_trap 0 = .ok (.aload_n 3, 1) := dk_45 (dk_at dksX0_trap_0 0 rfl rfl)
theorem dX0_trap_1 : decode cX0_trap 1 = .ok (.iconst 0, 1) := dk_3 (dk_at dksX0_trap_0 1 rfl rfl)
theorem dX0_trap_2 : decode cX0_trap 2 = .ok (.aload_n 0, 1) := dk_42 (dk_at dksX0_trap_0 2 rfl rfl)
theorem dX0_trap_3 : decode cX0_trap 3 = .ok (.iload_n 1, 1) := dk_27 (dk_at dksX0_trap_0 3 rfl rfl)
theorem dX0_trap_4 : decode cX0_trap 4 = .ok (.iload_n 2, 1) := dk_28 (dk_at dksX0_trap_0 4 rfl rfl)
theorem dX0_trap_5 : decode cX0_trap 5 = .ok (.invokevirtual 48, 3) := dk_182 0 48 (dk_at dksX0_trap_0 5 rfl rfl)
theorem dX0_trap_8 : decode cX0_trap 8 = .ok (.i2l, 1) := dk_133 (dk_at dksX0_trap_0 8 rfl rfl)
theorem dX0_trap_9 : decode cX0_trap 9 = .ok (.lastore, 1) := dk_80 (dk_at dksX0_trap_0 9 rfl rfl)
theorem dX0_trap_10 : decode cX0_trap 10 = .ok (.goto 7, 3) := dk_167 0 7 (dk_at dksX0_trap_0 10 rfl rfl)
theorem dX0_trap_13 : decode cX0_trap 13 = .ok (.astore 4, 2) := dk_58 4 (dk_at dksX0_trap_0 13 rfl rfl)
theorem dX0_trap_15 : decode cX0_trap 15 = .ok (.iconst 1, 1) := dk_4 (dk_at dksX0_trap_0 15 rfl rfl)
theorem dX0_trap_16 : decode cX0_trap 16 = .ok (.ireturn, 1) := dk_172 (dk_at dksX0_trap_0 16 rfl rfl)
theorem dX0_trap_17 : decode cX0_trap 17 = .ok (.iconst 0, 1) := dk_3 (dk_at dksX0_trap_0 17 rfl rfl)
theorem dX0_trap_18 : decode cX0_trap 18 = .ok (.ireturn, 1) := dk_172 (dk_at dksX0_trap_0 18 rfl rfl)
abbrev cX0_aisleOf : ByteArray := method_13_code
def yX0_aisleOf : MethodName := ⟨RX0, "aisleOf", "(LPaperStore;II[J)I"⟩
def dkwX0_aisleOf_0 : List UInt8 := [45, 3, 42, 27, 28, 182, 0, 51, 133, 80, 167, 0, 7, 58, 4, 4, 172, 3, 172]
abbrev dktX0_aisleOf_0 : List UInt8 := dkwX0_aisleOf_0 ++ []
theorem dksX0_aisleOf_0 : cX0_aisleOf.data.toList.drop 0 = dktX0_aisleOf_0 := by decide +kernel
theorem dX0_aisleOf_0 : decode cX0_aisleOf 0 = .ok (.aload_n 3, 1) := dk_45 (dk_at dksX0_aisleOf_0 0 rfl rfl)
theorem dX0_aisleOf_1 : decode cX0_aisleOf 1 = .ok (.iconst 0, 1) := dk_3 (dk_at dksX0_aisleOf_0 1 rfl rfl)
theorem dX0_aisleOf_2 : decode cX0_aisleOf 2 = .ok (.aload_n 0, 1) := dk_42 (dk_at dksX0_aisleOf_0 2 rfl rfl)
theorem dX0_aisleOf_3 : decode cX0_aisleOf 3 = .ok (.iload_n 1, 1) := dk_27 (dk_at dksX0_aisleOf_0 3 rfl rfl)
theorem dX0_aisleOf_4 : decode cX0_aisleOf 4 = .ok (.iload_n 2, 1) := dk_28 (dk_at dksX0_aisleOf_0 4 rfl rfl)
theorem dX0_aisleOf_5 : decode cX0_aisleOf 5 = .ok (.invokevirtual 51, 3) := dk_182 0 51 (dk_at dksX0_aisleOf_0 5 rfl rfl)
theorem dX0_aisleOf_8 : decode cX0_aisleOf 8 = .ok (.i2l, 1) := dk_133 (dk_at dksX0_aisleOf_0 8 rfl rfl)
theorem dX0_aisleOf_9 : decode cX0_aisleOf 9 = .ok (.lastore, 1) := dk_80 (dk_at dksX0_aisleOf_0 9 rfl rfl)
theorem dX0_aisleOf_10 : decode cX0_aisleOf 10 = .ok (.goto 7, 3) := dk_167 0 7 (dk_at dksX0_aisleOf_0 10 rfl rfl)
theorem dX0_aisleOf_13 : decode cX0_aisleOf 13 = .ok (.astore 4, 2) := dk_58 4 (dk_at dksX0_aisleOf_0 13 rfl rfl)
theorem dX0_aisleOf_15 : decode cX0_aisleOf 15 = .ok (.iconst 1, 1) := dk_4 (dk_at dksX0_aisleOf_0 15 rfl rfl)
theorem dX0_aisleOf_16 : decode cX0_aisleOf 16 = .ok (.ireturn, 1) := dk_172 (dk_at dksX0_aisleOf_0 16 rfl rfl)
theorem dX0_aisleOf_17 : decode cX0_aisleOf 17 = .ok (.iconst 0, 1) := dk_3 (dk_at dksX0_aisleOf_0 17 rfl rfl)
theorem dX0_aisleOf_18 : decode cX0_aisleOf 18 = .ok (.ireturn, 1) := dk_172 (dk_at dksX0_aisleOf_0 18 rfl rfl)
abbrev cX0_eatenIn : ByteArray := method_14_code
def yX0_eatenIn : MethodName := ⟨RX0, "eatenIn", "(LPaperStore;II[J)I"⟩
def dkwX0_eatenIn_0 : List UInt8 := [45, 3, 42, 27, 28, 182, 0, 54, 133, 80, 167, 0, 7, 58, 4, 4, 172, 3, 172]
abbrev dktX0_eatenIn_0 : List UInt8 := dkwX0_eatenIn_0 ++ []
theorem dksX0_eatenIn_0 : cX0_eatenIn.data.toList.drop 0 = dktX0_eatenIn_0 := by decide +kernel
theorem dX0_eatenIn_0 : decode cX0_eatenIn 0 = .ok (.aload_n 3, 1) := dk_45 (dk_at dksX0_eatenIn_0 0 rfl rfl)
theorem dX0_eatenIn_1 : decode cX0_eatenIn 1 = .ok (.iconst 0, 1) := dk_3 (dk_at dksX0_eatenIn_0 1 rfl rfl)
theorem dX0_eatenIn_2 : decode cX0_eatenIn 2 = .ok (.aload_n 0, 1) := dk_42 (dk_at dksX0_eatenIn_0 2 rfl rfl)
theorem dX0_eatenIn_3 : decode cX0_eatenIn 3 = .ok (.iload_n 1, 1) := dk_27 (dk_at dksX0_eatenIn_0 3 rfl rfl)
theorem dX0_eatenIn_4 : decode cX0_eatenIn 4 = .ok (.iload_n 2, 1) := dk_28 (dk_at dksX0_eatenIn_0 4 rfl rfl)
theorem dX0_eatenIn_5 : decode cX0_eatenIn 5 = .ok (.invokevirtual 54, 3) := dk_182 0 54 (dk_at dksX0_eatenIn_0 5 rfl rfl)
theorem dX0_eatenIn_8 : decode cX0_eatenIn 8 = .ok (.i2l, 1) := dk_133 (dk_at dksX0_eatenIn_0 8 rfl rfl)
theorem dX0_eatenIn_9 : decode cX0_eatenIn 9 = .ok (.lastore, 1) := dk_80 (dk_at dksX0_eatenIn_0 9 rfl rfl)
theorem dX0_eatenIn_10 : decode cX0_eatenIn 10 = .ok (.goto 7, 3) := dk_167 0 7 (dk_at dksX0_eatenIn_0 10 rfl rfl)
theorem dX0_eatenIn_13 : decode cX0_eatenIn 13 = .ok (.astore 4, 2) := dk_58 4 (dk_at dksX0_eatenIn_0 13 rfl rfl)
theorem dX0_eatenIn_15 : decode cX0_eatenIn 15 = .ok (.iconst 1, 1) := dk_4 (dk_at dksX0_eatenIn_0 15 rfl rfl)
theorem dX0_eatenIn_16 : decode cX0_eatenIn 16 = .ok (.ireturn, 1) := dk_172 (dk_at dksX0_eatenIn_0 16 rfl rfl)
theorem dX0_eatenIn_17 : decode cX0_eatenIn 17 = .ok (.iconst 0, 1) := dk_3 (dk_at dksX0_eatenIn_0 17 rfl rfl)
theorem dX0_eatenIn_18 : decode cX0_eatenIn 18 = .ok (.ireturn, 1) := dk_172 (dk_at dksX0_eatenIn_0 18 rfl rfl)
abbrev cX0_ranked : ByteArray := method_15_code
def yX0_ranked : MethodName := ⟨RX0, "ranked", "(LPaperStore;I[J)I"⟩
def dkwX0_ranked_0 : List UInt8 := [44, 3, 42, 27, 182, 0, 57, 133, 80, 167, 0, 6, 78, 4, 172, 3, 172]
abbrev dktX0_ranked_0 : List UInt8 := dkwX0_ranked_0 ++ []
theorem dksX0_ranked_0 : cX0_ranked.data.toList.drop 0 = dktX0_ranked_0 := by decide +kernel
theorem dX0_ranked_0 : decode cX0_ranked 0 = .ok (.aload_n 2, 1) := dk_44 (dk_at dksX0_ranked_0 0 rfl rfl)
theorem dX0_ranked_1 : decode cX0_ranked 1 = .ok (.iconst 0, 1) := dk_3 (dk_at dksX0_ranked_0 1 rfl rfl)
theorem dX0_ranked_2 : decode cX0_ranked 2 = .ok (.aload_n 0, 1) := dk_42 (dk_at dksX0_ranked_0 2 rfl rfl)
theorem dX0_ranked_3 : decode cX0_ranked 3 = .ok (.iload_n 1, 1) := dk_27 (dk_at dksX0_ranked_0 3 rfl rfl)
theorem dX0_ranked_4 : decode cX0_ranked 4 = .ok (.invokevirtual 57, 3) := dk_182 0 57 (dk_at dksX0_ranked_0 4 rfl rfl)
theorem dX0_ranked_7 : decode cX0_ranked 7 = .ok (.i2l, 1) := dk_133 (dk_at dksX0_ranked_0 7 rfl rfl)
theorem dX0_ranked_8 : decode cX0_ranked 8 = .ok (.lastore, 1) := dk_80 (dk_at dksX0_ranked_0 8 rfl rfl)
theorem dX0_ranked_9 : decode cX0_ranked 9 = .ok (.goto 6, 3) := dk_167 0 6 (dk_at dksX0_ranked_0 9 rfl rfl)
theorem dX0_ranked_12 : decode cX0_ranked 12 = .ok (.astore_n 3, 1) := dk_78 (dk_at dksX0_ranked_0 12 rfl rfl)
theorem dX0_ranked_13 : decode cX0_ranked 13 = .ok (.iconst 1, 1) := dk_4 (dk_at dksX0_ranked_0 13 rfl rfl)
theorem dX0_ranked_14 : decode cX0_ranked 14 = .ok (.ireturn, 1) := dk_172 (dk_at dksX0_ranked_0 14 rfl rfl)
theorem dX0_ranked_15 : decode cX0_ranked 15 = .ok (.iconst 0, 1) := dk_3 (dk_at dksX0_ranked_0 15 rfl rfl)
theorem dX0_ranked_16 : decode cX0_ranked 16 = .ok (.ireturn, 1) := dk_172 (dk_at dksX0_ranked_0 16 rfl rfl)
abbrev cX0_order : ByteArray := method_16_code
def yX0_order : MethodName := ⟨RX0, "order", "(LPaperStore;III[J)I"⟩
def dkwX0_order_1 : List UInt8 := [172]
abbrev dktX0_order_1 : List UInt8 := dkwX0_order_1 ++ []
def dkwX0_order_0 : List UInt8 := [25, 4, 3, 42, 27, 28, 29, 182, 0, 60, 133, 80, 167, 0, 11, 58, 5, 4, 172, 58, 5, 5, 172, 3]
abbrev dktX0_order_0 : List UInt8 := dkwX0_order_0 ++ dktX0_order_1
theorem dksX0_order_0 : cX0_order.data.toList.drop 0 = dktX0_order_0 := by decide +kernel
theorem dksX0_order_1 : cX0_order.data.toList.drop 24 = dktX0_order_1 := dk_seg dksX0_order_0 24 rfl rfl
theorem dX0_order_0 : decode cX0_order 0 = .ok (.aload 4, 2) := dk_25 4 (dk_at dksX0_order_0 0 rfl rfl)
theorem dX0_order_2 : decode cX0_order 2 = .ok (.iconst 0, 1) := dk_3 (dk_at dksX0_order_0 2 rfl rfl)
theorem dX0_order_3 : decode cX0_order 3 = .ok (.aload_n 0, 1) := dk_42 (dk_at dksX0_order_0 3 rfl rfl)
theorem dX0_order_4 : decode cX0_order 4 = .ok (.iload_n 1, 1) := dk_27 (dk_at dksX0_order_0 4 rfl rfl)
theorem dX0_order_5 : decode cX0_order 5 = .ok (.iload_n 2, 1) := dk_28 (dk_at dksX0_order_0 5 rfl rfl)
theorem dX0_order_6 : decode cX0_order 6 = .ok (.iload_n 3, 1) := dk_29 (dk_at dksX0_order_0 6 rfl rfl)
theorem dX0_order_7 : decode cX0_order 7 = .ok (.invokevirtual 60, 3) := dk_182 0 60 (dk_at dksX0_order_0 7 rfl rfl)
theorem dX0_order_10 : decode cX0_order 10 = .ok (.i2l, 1) := dk_133 (dk_at dksX0_order_0 10 rfl rfl)
theorem dX0_order_11 : decode cX0_order 11 = .ok (.lastore, 1) := dk_80 (dk_at dksX0_order_0 11 rfl rfl)
theorem dX0_order_12 : decode cX0_order 12 = .ok (.goto 11, 3) := dk_167 0 11 (dk_at dksX0_order_0 12 rfl rfl)
theorem dX0_order_15 : decode cX0_order 15 = .ok (.astore 5, 2) := dk_58 5 (dk_at dksX0_order_0 15 rfl rfl)
theorem dX0_order_17 : decode cX0_order 17 = .ok (.iconst 1, 1) := dk_4 (dk_at dksX0_order_0 17 rfl rfl)
theorem dX0_order_18 : decode cX0_order 18 = .ok (.ireturn, 1) := dk_172 (dk_at dksX0_order_0 18 rfl rfl)
theorem dX0_order_19 : decode cX0_order 19 = .ok (.astore 5, 2) := dk_58 5 (dk_at dksX0_order_0 19 rfl rfl)
theorem dX0_order_21 : decode cX0_order 21 = .ok (.iconst 2, 1) := dk_5 (dk_at dksX0_order_0 21 rfl rfl)
theorem dX0_order_22 : decode cX0_order 22 = .ok (.ireturn, 1) := dk_172 (dk_at dksX0_order_0 22 rfl rfl)
theorem dX0_order_23 : decode cX0_order 23 = .ok (.iconst 0, 1) := dk_3 (dk_at dksX0_order_0 23 rfl rfl)
theorem dX0_order_24 : decode cX0_order 24 = .ok (.ireturn, 1) := dk_172 (dk_at dksX0_order_1 0 rfl rfl)
abbrev cX0_cancel : ByteArray := method_17_code
def yX0_cancel : MethodName := ⟨RX0, "cancel", "(LPaperStore;I[J)I"⟩
def dkwX0_cancel_0 : List UInt8 := [44, 3, 42, 27, 182, 0, 64, 133, 80, 167, 0, 9, 78, 4, 172, 78, 5, 172, 3, 172]
abbrev dktX0_cancel_0 : List UInt8 := dkwX0_cancel_0 ++ []
theorem dksX0_cancel_0 : cX0_cancel.data.toList.drop 0 = dktX0_cancel_0 := by decide +kernel
theorem dX0_cancel_0 : decode cX0_cancel 0 = .ok (.aload_n 2, 1) := dk_44 (dk_at dksX0_cancel_0 0 rfl rfl)
theorem dX0_cancel_1 : decode cX0_cancel 1 = .ok (.iconst 0, 1) := dk_3 (dk_at dksX0_cancel_0 1 rfl rfl)
theorem dX0_cancel_2 : decode cX0_cancel 2 = .ok (.aload_n 0, 1) := dk_42 (dk_at dksX0_cancel_0 2 rfl rfl)
theorem dX0_cancel_3 : decode cX0_cancel 3 = .ok (.iload_n 1, 1) := dk_27 (dk_at dksX0_cancel_0 3 rfl rfl)
theorem dX0_cancel_4 : decode cX0_cancel 4 = .ok (.invokevirtual 64, 3) := dk_182 0 64 (dk_at dksX0_cancel_0 4 rfl rfl)
theorem dX0_cancel_7 : decode cX0_cancel 7 = .ok (.i2l, 1) := dk_133 (dk_at dksX0_cancel_0 7 rfl rfl)
theorem dX0_cancel_8 : decode cX0_cancel 8 = .ok (.lastore, 1) := dk_80 (dk_at dksX0_cancel_0 8 rfl rfl)
theorem dX0_cancel_9 : decode cX0_cancel 9 = .ok (.goto 9, 3) := dk_167 0 9 (dk_at dksX0_cancel_0 9 rfl rfl)
theorem dX0_cancel_12 : decode cX0_cancel 12 = .ok (.astore_n 3, 1) := dk_78 (dk_at dksX0_cancel_0 12 rfl rfl)
theorem dX0_cancel_13 : decode cX0_cancel 13 = .ok (.iconst 1, 1) := dk_4 (dk_at dksX0_cancel_0 13 rfl rfl)
theorem dX0_cancel_14 : decode cX0_cancel 14 = .ok (.ireturn, 1) := dk_172 (dk_at dksX0_cancel_0 14 rfl rfl)
theorem dX0_cancel_15 : decode cX0_cancel 15 = .ok (.astore_n 3, 1) := dk_78 (dk_at dksX0_cancel_0 15 rfl rfl)
theorem dX0_cancel_16 : decode cX0_cancel 16 = .ok (.iconst 2, 1) := dk_5 (dk_at dksX0_cancel_0 16 rfl rfl)
theorem dX0_cancel_17 : decode cX0_cancel 17 = .ok (.ireturn, 1) := dk_172 (dk_at dksX0_cancel_0 17 rfl rfl)
theorem dX0_cancel_18 : decode cX0_cancel 18 = .ok (.iconst 0, 1) := dk_3 (dk_at dksX0_cancel_0 18 rfl rfl)
theorem dX0_cancel_19 : decode cX0_cancel 19 = .ok (.ireturn, 1) := dk_172 (dk_at dksX0_cancel_0 19 rfl rfl)
abbrev cX0_cart : ByteArray := method_18_code
def yX0_cart : MethodName := ⟨RX0, "cart", "(LPaperStore;I[J)I"⟩
def dkwX0_cart_0 : List UInt8 := [44, 3, 42, 27, 182, 0, 67, 133, 80, 167, 0, 9, 78, 4, 172, 78, 5, 172, 3, 172]
abbrev dktX0_cart_0 : List UInt8 := dkwX0_cart_0 ++ []
theorem dksX0_cart_0 : cX0_cart.data.toList.drop 0 = dktX0_cart_0 := by decide +kernel
theorem dX0_cart_0 : decode cX0_cart 0 = .ok (.aload_n 2, 1) := dk_44 (dk_at dksX0_cart_0 0 rfl rfl)
theorem dX0_cart_1 : decode cX0_cart 1 = .ok (.iconst 0, 1) := dk_3 (dk_at dksX0_cart_0 1 rfl rfl)
theorem dX0_cart_2 : decode cX0_cart 2 = .ok (.aload_n 0, 1) := dk_42 (dk_at dksX0_cart_0 2 rfl rfl)
theorem dX0_cart_3 : decode cX0_cart 3 = .ok (.iload_n 1, 1) := dk_27 (dk_at dksX0_cart_0 3 rfl rfl)
theorem dX0_cart_4 : decode cX0_cart 4 = .ok (.invokevirtual 67, 3) := dk_182 0 67 (dk_at dksX0_cart_0 4 rfl rfl)
theorem dX0_cart_7 : decode cX0_cart 7 = .ok (.i2l, 1) := dk_133 (dk_at dksX0_cart_0 7 rfl rfl)
theorem dX0_cart_8 : decode cX0_cart 8 = .ok (.lastore, 1) := dk_80 (dk_at dksX0_cart_0 8 rfl rfl)
theorem dX0_cart_9 : decode cX0_cart 9 = .ok (.goto 9, 3) := dk_167 0 9 (dk_at dksX0_cart_0 9 rfl rfl)
theorem dX0_cart_12 : decode cX0_cart 12 = .ok (.astore_n 3, 1) := dk_78 (dk_at dksX0_cart_0 12 rfl rfl)
theorem dX0_cart_13 : decode cX0_cart 13 = .ok (.iconst 1, 1) := dk_4 (dk_at dksX0_cart_0 13 rfl rfl)
theorem dX0_cart_14 : decode cX0_cart 14 = .ok (.ireturn, 1) := dk_172 (dk_at dksX0_cart_0 14 rfl rfl)
theorem dX0_cart_15 : decode cX0_cart 15 = .ok (.astore_n 3, 1) := dk_78 (dk_at dksX0_cart_0 15 rfl rfl)
theorem dX0_cart_16 : decode cX0_cart 16 = .ok (.iconst 2, 1) := dk_5 (dk_at dksX0_cart_0 16 rfl rfl)
theorem dX0_cart_17 : decode cX0_cart 17 = .ok (.ireturn, 1) := dk_172 (dk_at dksX0_cart_0 17 rfl rfl)
theorem dX0_cart_18 : decode cX0_cart 18 = .ok (.iconst 0, 1) := dk_3 (dk_at dksX0_cart_0 18 rfl rfl)
theorem dX0_cart_19 : decode cX0_cart 19 = .ok (.ireturn, 1) := dk_172 (dk_at dksX0_cart_0 19 rfl rfl)
abbrev cX0_gather : ByteArray := method_19_code
def yX0_gather : MethodName := ⟨RX0, "gather", "(LPaperStore;III[J)I"⟩
def dkwX0_gather_1 : List UInt8 := [172]
abbrev dktX0_gather_1 : List UInt8 := dkwX0_gather_1 ++ []
def dkwX0_gather_0 : List UInt8 := [25, 4, 3, 42, 27, 28, 29, 182, 0, 70, 133, 80, 167, 0, 11, 58, 5, 4, 172, 58, 5, 5, 172, 3]
abbrev dktX0_gather_0 : List UInt8 := dkwX0_gather_0 ++ dktX0_gather_1
theorem dksX0_gather_0 : cX0_gather.data.toList.drop 0 = dktX0_gather_0 := by decide +kernel
theorem dksX0_gather_1 : cX0_gather.data.toList.drop 24 = dktX0_gather_1 := dk_seg dksX0_gather_0 24 rfl rfl
theorem dX0_gather_0 : decode cX0_gather 0 = .ok (.aload 4, 2) := dk_25 4 (dk_at dksX0_gather_0 0 rfl rfl)
theorem dX0_gather_2 : decode cX0_gather 2 = .ok (.iconst 0, 1) := dk_3 (dk_at dksX0_gather_0 2 rfl rfl)
theorem dX0_gather_3 : decode cX0_gather 3 = .ok (.aload_n 0, 1) := dk_42 (dk_at dksX0_gather_0 3 rfl rfl)
theorem dX0_gather_4 : decode cX0_gather 4 = .ok (.iload_n 1, 1) := dk_27 (dk_at dksX0_gather_0 4 rfl rfl)
theorem dX0_gather_5 : decode cX0_gather 5 = .ok (.iload_n 2, 1) := dk_28 (dk_at dksX0_gather_0 5 rfl rfl)
theorem dX0_gather_6 : decode cX0_gather 6 = .ok (.iload_n 3, 1) := dk_29 (dk_at dksX0_gather_0 6 rfl rfl)
theorem dX0_gather_7 : decode cX0_gather 7 = .ok (.invokevirtual 70, 3) := dk_182 0 70 (dk_at dksX0_gather_0 7 rfl rfl)
theorem dX0_gather_10 : decode cX0_gather 10 = .ok (.i2l, 1) := dk_133 (dk_at dksX0_gather_0 10 rfl rfl)
theorem dX0_gather_11 : decode cX0_gather 11 = .ok (.lastore, 1) := dk_80 (dk_at dksX0_gather_0 11 rfl rfl)
theorem dX0_gather_12 : decode cX0_gather 12 = .ok (.goto 11, 3) := dk_167 0 11 (dk_at dksX0_gather_0 12 rfl rfl)
theorem dX0_gather_15 : decode cX0_gather 15 = .ok (.astore 5, 2) := dk_58 5 (dk_at dksX0_gather_0 15 rfl rfl)
theorem dX0_gather_17 : decode cX0_gather 17 = .ok (.iconst 1, 1) := dk_4 (dk_at dksX0_gather_0 17 rfl rfl)
theorem dX0_gather_18 : decode cX0_gather 18 = .ok (.ireturn, 1) := dk_172 (dk_at dksX0_gather_0 18 rfl rfl)
theorem dX0_gather_19 : decode cX0_gather 19 = .ok (.astore 5, 2) := dk_58 5 (dk_at dksX0_gather_0 19 rfl rfl)
theorem dX0_gather_21 : decode cX0_gather 21 = .ok (.iconst 2, 1) := dk_5 (dk_at dksX0_gather_0 21 rfl rfl)
theorem dX0_gather_22 : decode cX0_gather 22 = .ok (.ireturn, 1) := dk_172 (dk_at dksX0_gather_0 22 rfl rfl)
theorem dX0_gather_23 : decode cX0_gather 23 = .ok (.iconst 0, 1) := dk_3 (dk_at dksX0_gather_0 23 rfl rfl)
theorem dX0_gather_24 : decode cX0_gather 24 = .ok (.ireturn, 1) := dk_172 (dk_at dksX0_gather_1 0 rfl rfl)
abbrev cX0_send : ByteArray := method_20_code
def yX0_send : MethodName := ⟨RX0, "send", "(LPaperStore;I[J)I"⟩
def dkwX0_send_0 : List UInt8 := [44, 3, 42, 27, 182, 0, 73, 133, 80, 167, 0, 9, 78, 4, 172, 78, 5, 172, 3, 172]
abbrev dktX0_send_0 : List UInt8 := dkwX0_send_0 ++ []
theorem dksX0_send_0 : cX0_send.data.toList.drop 0 = dktX0_send_0 := by decide +kernel
theorem dX0_send_0 : decode cX0_send 0 = .ok (.aload_n 2, 1) := dk_44 (dk_at dksX0_send_0 0 rfl rfl)
theorem dX0_send_1 : decode cX0_send 1 = .ok (.iconst 0, 1) := dk_3 (dk_at dksX0_send_0 1 rfl rfl)
theorem dX0_send_2 : decode cX0_send 2 = .ok (.aload_n 0, 1) := dk_42 (dk_at dksX0_send_0 2 rfl rfl)
theorem dX0_send_3 : decode cX0_send 3 = .ok (.iload_n 1, 1) := dk_27 (dk_at dksX0_send_0 3 rfl rfl)
theorem dX0_send_4 : decode cX0_send 4 = .ok (.invokevirtual 73, 3) := dk_182 0 73 (dk_at dksX0_send_0 4 rfl rfl)
theorem dX0_send_7 : decode cX0_send 7 = .ok (.i2l, 1) := dk_133 (dk_at dksX0_send_0 7 rfl rfl)
theorem dX0_send_8 : decode cX0_send 8 = .ok (.lastore, 1) := dk_80 (dk_at dksX0_send_0 8 rfl rfl)
theorem dX0_send_9 : decode cX0_send 9 = .ok (.goto 9, 3) := dk_167 0 9 (dk_at dksX0_send_0 9 rfl rfl)
theorem dX0_send_12 : decode cX0_send 12 = .ok (.astore_n 3, 1) := dk_78 (dk_at dksX0_send_0 12 rfl rfl)
theorem dX0_send_13 : decode cX0_send 13 = .ok (.iconst 1, 1) := dk_4 (dk_at dksX0_send_0 13 rfl rfl)
theorem dX0_send_14 : decode cX0_send 14 = .ok (.ireturn, 1) := dk_172 (dk_at dksX0_send_0 14 rfl rfl)
theorem dX0_send_15 : decode cX0_send 15 = .ok (.astore_n 3, 1) := dk_78 (dk_at dksX0_send_0 15 rfl rfl)
theorem dX0_send_16 : decode cX0_send 16 = .ok (.iconst 2, 1) := dk_5 (dk_at dksX0_send_0 16 rfl rfl)
theorem dX0_send_17 : decode cX0_send 17 = .ok (.ireturn, 1) := dk_172 (dk_at dksX0_send_0 17 rfl rfl)
theorem dX0_send_18 : decode cX0_send 18 = .ok (.iconst 0, 1) := dk_3 (dk_at dksX0_send_0 18 rfl rfl)
theorem dX0_send_19 : decode cX0_send 19 = .ok (.ireturn, 1) := dk_172 (dk_at dksX0_send_0 19 rfl rfl)
abbrev cX0_orderOf : ByteArray := method_21_code
def yX0_orderOf : MethodName := ⟨RX0, "orderOf", "(LPaperStore;II[J)I"⟩
def dkwX0_orderOf_0 : List UInt8 := [45, 3, 42, 27, 28, 182, 0, 76, 133, 80, 167, 0, 11, 58, 4, 4, 172, 58, 4, 5, 172, 3, 172]
abbrev dktX0_orderOf_0 : List UInt8 := dkwX0_orderOf_0 ++ []
theorem dksX0_orderOf_0 : cX0_orderOf.data.toList.drop 0 = dktX0_orderOf_0 := by decide +kernel
theorem dX0_orderOf_0 : decode cX0_orderOf 0 = .ok (.aload_n 3, 1) := dk_45 (dk_at dksX0_orderOf_0 0 rfl rfl)
theorem dX0_orderOf_1 : decode cX0_orderOf 1 = .ok (.iconst 0, 1) := dk_3 (dk_at dksX0_orderOf_0 1 rfl rfl)
theorem dX0_orderOf_2 : decode cX0_orderOf 2 = .ok (.aload_n 0, 1) := dk_42 (dk_at dksX0_orderOf_0 2 rfl rfl)
theorem dX0_orderOf_3 : decode cX0_orderOf 3 = .ok (.iload_n 1, 1) := dk_27 (dk_at dksX0_orderOf_0 3 rfl rfl)
theorem dX0_orderOf_4 : decode cX0_orderOf 4 = .ok (.iload_n 2, 1) := dk_28 (dk_at dksX0_orderOf_0 4 rfl rfl)
theorem dX0_orderOf_5 : decode cX0_orderOf 5 = .ok (.invokevirtual 76, 3) := dk_182 0 76 (dk_at dksX0_orderOf_0 5 rfl rfl)
theorem dX0_orderOf_8 : decode cX0_orderOf 8 = .ok (.i2l, 1) := dk_133 (dk_at dksX0_orderOf_0 8 rfl rfl)
theorem dX0_orderOf_9 : decode cX0_orderOf 9 = .ok (.lastore, 1) := dk_80 (dk_at dksX0_orderOf_0 9 rfl rfl)
theorem dX0_orderOf_10 : decode cX0_orderOf 10 = .ok (.goto 11, 3) := dk_167 0 11 (dk_at dksX0_orderOf_0 10 rfl rfl)
theorem dX0_orderOf_13 : decode cX0_orderOf 13 = .ok (.astore 4, 2) := dk_58 4 (dk_at dksX0_orderOf_0 13 rfl rfl)
theorem dX0_orderOf_15 : decode cX0_orderOf 15 = .ok (.iconst 1, 1) := dk_4 (dk_at dksX0_orderOf_0 15 rfl rfl)
theorem dX0_orderOf_16 : decode cX0_orderOf 16 = .ok (.ireturn, 1) := dk_172 (dk_at dksX0_orderOf_0 16 rfl rfl)
theorem dX0_orderOf_17 : decode cX0_orderOf 17 = .ok (.astore 4, 2) := dk_58 4 (dk_at dksX0_orderOf_0 17 rfl rfl)
theorem dX0_orderOf_19 : decode cX0_orderOf 19 = .ok (.iconst 2, 1) := dk_5 (dk_at dksX0_orderOf_0 19 rfl rfl)
theorem dX0_orderOf_20 : decode cX0_orderOf 20 = .ok (.ireturn, 1) := dk_172 (dk_at dksX0_orderOf_0 20 rfl rfl)
theorem dX0_orderOf_21 : decode cX0_orderOf 21 = .ok (.iconst 0, 1) := dk_3 (dk_at dksX0_orderOf_0 21 rfl rfl)
theorem dX0_orderOf_22 : decode cX0_orderOf 22 = .ok (.ireturn, 1) := dk_172 (dk_at dksX0_orderOf_0 22 rfl rfl)
abbrev cX0_lacking : ByteArray := method_22_code
def yX0_lacking : MethodName := ⟨RX0, "lacking", "(LPaperStore;I[J)I"⟩
def dkwX0_lacking_0 : List UInt8 := [44, 3, 42, 27, 182, 0, 79, 133, 80, 167, 0, 6, 78, 4, 172, 3, 172]
abbrev dktX0_lacking_0 : List UInt8 := dkwX0_lacking_0 ++ []
theorem dksX0_lacking_0 : cX0_lacking.data.toList.drop 0 = dktX0_lacking_0 := by decide +kernel
theorem dX0_lacking_0 : decode cX0_lacking 0 = .ok (.aload_n 2, 1) := dk_44 (dk_at dksX0_lacking_0 0 rfl rfl)
theorem dX0_lacking_1 : decode cX0_lacking 1 = .ok (.iconst 0, 1) := dk_3 (dk_at dksX0_lacking_0 1 rfl rfl)
theorem dX0_lacking_2 : decode cX0_lacking 2 = .ok (.aload_n 0, 1) := dk_42 (dk_at dksX0_lacking_0 2 rfl rfl)
theorem dX0_lacking_3 : decode cX0_lacking 3 = .ok (.iload_n 1, 1) := dk_27 (dk_at dksX0_lacking_0 3 rfl rfl)
theorem dX0_lacking_4 : decode cX0_lacking 4 = .ok (.invokevirtual 79, 3) := dk_182 0 79 (dk_at dksX0_lacking_0 4 rfl rfl)
theorem dX0_lacking_7 : decode cX0_lacking 7 = .ok (.i2l, 1) := dk_133 (dk_at dksX0_lacking_0 7 rfl rfl)
theorem dX0_lacking_8 : decode cX0_lacking 8 = .ok (.lastore, 1) := dk_80 (dk_at dksX0_lacking_0 8 rfl rfl)
theorem dX0_lacking_9 : decode cX0_lacking 9 = .ok (.goto 6, 3) := dk_167 0 6 (dk_at dksX0_lacking_0 9 rfl rfl)
theorem dX0_lacking_12 : decode cX0_lacking 12 = .ok (.astore_n 3, 1) := dk_78 (dk_at dksX0_lacking_0 12 rfl rfl)
theorem dX0_lacking_13 : decode cX0_lacking 13 = .ok (.iconst 1, 1) := dk_4 (dk_at dksX0_lacking_0 13 rfl rfl)
theorem dX0_lacking_14 : decode cX0_lacking 14 = .ok (.ireturn, 1) := dk_172 (dk_at dksX0_lacking_0 14 rfl rfl)
theorem dX0_lacking_15 : decode cX0_lacking 15 = .ok (.iconst 0, 1) := dk_3 (dk_at dksX0_lacking_0 15 rfl rfl)
theorem dX0_lacking_16 : decode cX0_lacking 16 = .ok (.ireturn, 1) := dk_172 (dk_at dksX0_lacking_0 16 rfl rfl)
abbrev cX0_bestLadder : ByteArray := method_23_code
def yX0_bestLadder : MethodName := ⟨RX0, "bestLadder", "(LPaperStore;I[J)I"⟩
def dkwX0_bestLadder_0 : List UInt8 := [44, 3, 42, 27, 182, 0, 82, 133, 80, 167, 0, 9, 78, 4, 172, 78, 5, 172, 3, 172]
abbrev dktX0_bestLadder_0 : List UInt8 := dkwX0_bestLadder_0 ++ []
theorem dksX0_bestLadder_0 : cX0_bestLadder.data.toList.drop 0 = dktX0_bestLadder_0 := by decide +kernel
theorem dX0_bestLadder_0 : decode cX0_bestLadder 0 = .ok (.aload_n 2, 1) := dk_44 (dk_at dksX0_bestLadder_0 0 rfl rfl)
theorem dX0_bestLadder_1 : decode cX0_bestLadder 1 = .ok (.iconst 0, 1) := dk_3 (dk_at dksX0_bestLadder_0 1 rfl rfl)
theorem dX0_bestLadder_2 : decode cX0_bestLadder 2 = .ok (.aload_n 0, 1) := dk_42 (dk_at dksX0_bestLadder_0 2 rfl rfl)
theorem dX0_bestLadder_3 : decode cX0_bestLadder 3 = .ok (.iload_n 1, 1) := dk_27 (dk_at dksX0_bestLadder_0 3 rfl rfl)
theorem dX0_bestLadder_4 : decode cX0_bestLadder 4 = .ok (.invokevirtual 82, 3) := dk_182 0 82 (dk_at dksX0_bestLadder_0 4 rfl rfl)
theorem dX0_bestLadder_7 : decode cX0_bestLadder 7 = .ok (.i2l, 1) := dk_133 (dk_at dksX0_bestLadder_0 7 rfl rfl)
theorem dX0_bestLadder_8 : decode cX0_bestLadder 8 = .ok (.lastore, 1) := dk_80 (dk_at dksX0_bestLadder_0 8 rfl rfl)
theorem dX0_bestLadder_9 : decode cX0_bestLadder 9 = .ok (.goto 9, 3) := dk_167 0 9 (dk_at dksX0_bestLadder_0 9 rfl rfl)
theorem dX0_bestLadder_12 : decode cX0_bestLadder 12 = .ok (.astore_n 3, 1) := dk_78 (dk_at dksX0_bestLadder_0 12 rfl rfl)
theorem dX0_bestLadder_13 : decode cX0_bestLadder 13 = .ok (.iconst 1, 1) := dk_4 (dk_at dksX0_bestLadder_0 13 rfl rfl)
theorem dX0_bestLadder_14 : decode cX0_bestLadder 14 = .ok (.ireturn, 1) := dk_172 (dk_at dksX0_bestLadder_0 14 rfl rfl)
theorem dX0_bestLadder_15 : decode cX0_bestLadder 15 = .ok (.astore_n 3, 1) := dk_78 (dk_at dksX0_bestLadder_0 15 rfl rfl)
theorem dX0_bestLadder_16 : decode cX0_bestLadder 16 = .ok (.iconst 2, 1) := dk_5 (dk_at dksX0_bestLadder_0 16 rfl rfl)
theorem dX0_bestLadder_17 : decode cX0_bestLadder 17 = .ok (.ireturn, 1) := dk_172 (dk_at dksX0_bestLadder_0 17 rfl rfl)
theorem dX0_bestLadder_18 : decode cX0_bestLadder 18 = .ok (.iconst 0, 1) := dk_3 (dk_at dksX0_bestLadder_0 18 rfl rfl)
theorem dX0_bestLadder_19 : decode cX0_bestLadder 19 = .ok (.ireturn, 1) := dk_172 (dk_at dksX0_bestLadder_0 19 rfl rfl)
abbrev cX0_cartOf : ByteArray := method_24_code
def yX0_cartOf : MethodName := ⟨RX0, "cartOf", "(LPaperStore;II[J)I"⟩
def dkwX0_cartOf_0 : List UInt8 := [45, 3, 42, 27, 28, 182, 0, 85, 133, 80, 167, 0, 11, 58, 4, 4, 172, 58, 4, 5, 172, 3, 172]
abbrev dktX0_cartOf_0 : List UInt8 := dkwX0_cartOf_0 ++ []
theorem dksX0_cartOf_0 : cX0_cartOf.data.toList.drop 0 = dktX0_cartOf_0 := by decide +kernel
theorem dX0_cartOf_0 : decode cX0_cartOf 0 = .ok (.aload_n 3, 1) := dk_45 (dk_at dksX0_cartOf_0 0 rfl rfl)
theorem dX0_cartOf_1 : decode cX0_cartOf 1 = .ok (.iconst 0, 1) := dk_3 (dk_at dksX0_cartOf_0 1 rfl rfl)
theorem dX0_cartOf_2 : decode cX0_cartOf 2 = .ok (.aload_n 0, 1) := dk_42 (dk_at dksX0_cartOf_0 2 rfl rfl)
theorem dX0_cartOf_3 : decode cX0_cartOf 3 = .ok (.iload_n 1, 1) := dk_27 (dk_at dksX0_cartOf_0 3 rfl rfl)
theorem dX0_cartOf_4 : decode cX0_cartOf 4 = .ok (.iload_n 2, 1) := dk_28 (dk_at dksX0_cartOf_0 4 rfl rfl)
theorem dX0_cartOf_5 : decode cX0_cartOf 5 = .ok (.invokevirtual 85, 3) := dk_182 0 85 (dk_at dksX0_cartOf_0 5 rfl rfl)
theorem dX0_cartOf_8 : decode cX0_cartOf 8 = .ok (.i2l, 1) := dk_133 (dk_at dksX0_cartOf_0 8 rfl rfl)
theorem dX0_cartOf_9 : decode cX0_cartOf 9 = .ok (.lastore, 1) := dk_80 (dk_at dksX0_cartOf_0 9 rfl rfl)
theorem dX0_cartOf_10 : decode cX0_cartOf 10 = .ok (.goto 11, 3) := dk_167 0 11 (dk_at dksX0_cartOf_0 10 rfl rfl)
theorem dX0_cartOf_13 : decode cX0_cartOf 13 = .ok (.astore 4, 2) := dk_58 4 (dk_at dksX0_cartOf_0 13 rfl rfl)
theorem dX0_cartOf_15 : decode cX0_cartOf 15 = .ok (.iconst 1, 1) := dk_4 (dk_at dksX0_cartOf_0 15 rfl rfl)
theorem dX0_cartOf_16 : decode cX0_cartOf 16 = .ok (.ireturn, 1) := dk_172 (dk_at dksX0_cartOf_0 16 rfl rfl)
theorem dX0_cartOf_17 : decode cX0_cartOf 17 = .ok (.astore 4, 2) := dk_58 4 (dk_at dksX0_cartOf_0 17 rfl rfl)
theorem dX0_cartOf_19 : decode cX0_cartOf 19 = .ok (.iconst 2, 1) := dk_5 (dk_at dksX0_cartOf_0 19 rfl rfl)
theorem dX0_cartOf_20 : decode cX0_cartOf 20 = .ok (.ireturn, 1) := dk_172 (dk_at dksX0_cartOf_0 20 rfl rfl)
theorem dX0_cartOf_21 : decode cX0_cartOf 21 = .ok (.iconst 0, 1) := dk_3 (dk_at dksX0_cartOf_0 21 rfl rfl)
theorem dX0_cartOf_22 : decode cX0_cartOf 22 = .ok (.ireturn, 1) := dk_172 (dk_at dksX0_cartOf_0 22 rfl rfl)
abbrev cX0_stock : ByteArray := method_25_code
def yX0_stock : MethodName := ⟨RX0, "stock", "(LPaperStore;IIZ[J)I"⟩
def dkwX0_stock_0 : List UInt8 := [25, 4, 3, 42, 27, 28, 29, 182, 0, 88, 133, 80, 167, 0, 7, 58, 5, 4, 172, 3, 172]
abbrev dktX0_stock_0 : List UInt8 := dkwX0_stock_0 ++ []
theorem dksX0_stock_0 : cX0_stock.data.toList.drop 0 = dktX0_stock_0 := by decide +kernel
theorem dX0_stock_0 : decode cX0_stock 0 = .ok (.aload 4, 2) := dk_25 4 (dk_at dksX0_stock_0 0 rfl rfl)
theorem dX0_stock_2 : decode cX0_stock 2 = .ok (.iconst 0, 1) := dk_3 (dk_at dksX0_stock_0 2 rfl rfl)
theorem dX0_stock_3 : decode cX0_stock 3 = .ok (.aload_n 0, 1) := dk_42 (dk_at dksX0_stock_0 3 rfl rfl)
theorem dX0_stock_4 : decode cX0_stock 4 = .ok (.iload_n 1, 1) := dk_27 (dk_at dksX0_stock_0 4 rfl rfl)
theorem dX0_stock_5 : decode cX0_stock 5 = .ok (.iload_n 2, 1) := dk_28 (dk_at dksX0_stock_0 5 rfl rfl)
theorem dX0_stock_6 : decode cX0_stock 6 = .ok (.iload_n 3, 1) := dk_29 (dk_at dksX0_stock_0 6 rfl rfl)
theorem dX0_stock_7 : decode cX0_stock 7 = .ok (.invokevirtual 88, 3) := dk_182 0 88 (dk_at dksX0_stock_0 7 rfl rfl)
theorem dX0_stock_10 : decode cX0_stock 10 = .ok (.i2l, 1) := dk_133 (dk_at dksX0_stock_0 10 rfl rfl)
theorem dX0_stock_11 : decode cX0_stock 11 = .ok (.lastore, 1) := dk_80 (dk_at dksX0_stock_0 11 rfl rfl)
theorem dX0_stock_12 : decode cX0_stock 12 = .ok (.goto 7, 3) := dk_167 0 7 (dk_at dksX0_stock_0 12 rfl rfl)
theorem dX0_stock_15 : decode cX0_stock 15 = .ok (.astore 5, 2) := dk_58 5 (dk_at dksX0_stock_0 15 rfl rfl)
theorem dX0_stock_17 : decode cX0_stock 17 = .ok (.iconst 1, 1) := dk_4 (dk_at dksX0_stock_0 17 rfl rfl)
theorem dX0_stock_18 : decode cX0_stock 18 = .ok (.ireturn, 1) := dk_172 (dk_at dksX0_stock_0 18 rfl rfl)
theorem dX0_stock_19 : decode cX0_stock 19 = .ok (.iconst 0, 1) := dk_3 (dk_at dksX0_stock_0 19 rfl rfl)
theorem dX0_stock_20 : decode cX0_stock 20 = .ok (.ireturn, 1) := dk_172 (dk_at dksX0_stock_0 20 rfl rfl)
abbrev cX0_sent : ByteArray := method_26_code
def yX0_sent : MethodName := ⟨RX0, "sent", "(LPaperStore;II[J)I"⟩
def dkwX0_sent_0 : List UInt8 := [45, 3, 42, 27, 28, 182, 0, 92, 133, 80, 167, 0, 7, 58, 4, 4, 172, 3, 172]
abbrev dktX0_sent_0 : List UInt8 := dkwX0_sent_0 ++ []
theorem dksX0_sent_0 : cX0_sent.data.toList.drop 0 = dktX0_sent_0 := by decide +kernel
theorem dX0_sent_0 : decode cX0_sent 0 = .ok (.aload_n 3, 1) := dk_45 (dk_at dksX0_sent_0 0 rfl rfl)
theorem dX0_sent_1 : decode cX0_sent 1 = .ok (.iconst 0, 1) := dk_3 (dk_at dksX0_sent_0 1 rfl rfl)
theorem dX0_sent_2 : decode cX0_sent 2 = .ok (.aload_n 0, 1) := dk_42 (dk_at dksX0_sent_0 2 rfl rfl)
theorem dX0_sent_3 : decode cX0_sent 3 = .ok (.iload_n 1, 1) := dk_27 (dk_at dksX0_sent_0 3 rfl rfl)
theorem dX0_sent_4 : decode cX0_sent 4 = .ok (.iload_n 2, 1) := dk_28 (dk_at dksX0_sent_0 4 rfl rfl)
theorem dX0_sent_5 : decode cX0_sent 5 = .ok (.invokevirtual 92, 3) := dk_182 0 92 (dk_at dksX0_sent_0 5 rfl rfl)
theorem dX0_sent_8 : decode cX0_sent 8 = .ok (.i2l, 1) := dk_133 (dk_at dksX0_sent_0 8 rfl rfl)
theorem dX0_sent_9 : decode cX0_sent 9 = .ok (.lastore, 1) := dk_80 (dk_at dksX0_sent_0 9 rfl rfl)
theorem dX0_sent_10 : decode cX0_sent 10 = .ok (.goto 7, 3) := dk_167 0 7 (dk_at dksX0_sent_0 10 rfl rfl)
theorem dX0_sent_13 : decode cX0_sent 13 = .ok (.astore 4, 2) := dk_58 4 (dk_at dksX0_sent_0 13 rfl rfl)
theorem dX0_sent_15 : decode cX0_sent 15 = .ok (.iconst 1, 1) := dk_4 (dk_at dksX0_sent_0 15 rfl rfl)
theorem dX0_sent_16 : decode cX0_sent 16 = .ok (.ireturn, 1) := dk_172 (dk_at dksX0_sent_0 16 rfl rfl)
theorem dX0_sent_17 : decode cX0_sent 17 = .ok (.iconst 0, 1) := dk_3 (dk_at dksX0_sent_0 17 rfl rfl)
theorem dX0_sent_18 : decode cX0_sent 18 = .ok (.ireturn, 1) := dk_172 (dk_at dksX0_sent_0 18 rfl rfl)
abbrev cX0_bestPaper : ByteArray := method_27_code
def yX0_bestPaper : MethodName := ⟨RX0, "bestPaper", "(LPaperStore;[J)I"⟩
def dkwX0_bestPaper_0 : List UInt8 := [43, 3, 42, 182, 0, 95, 133, 80, 167, 0, 6, 77, 4, 172, 3, 172]
abbrev dktX0_bestPaper_0 : List UInt8 := dkwX0_bestPaper_0 ++ []
theorem dksX0_bestPaper_0 : cX0_bestPaper.data.toList.drop 0 = dktX0_bestPaper_0 := by decide +kernel
theorem dX0_bestPaper_0 : decode cX0_bestPaper 0 = .ok (.aload_n 1, 1) := dk_43 (dk_at dksX0_bestPaper_0 0 rfl rfl)
theorem dX0_bestPaper_1 : decode cX0_bestPaper 1 = .ok (.iconst 0, 1) := dk_3 (dk_at dksX0_bestPaper_0 1 rfl rfl)
theorem dX0_bestPaper_2 : decode cX0_bestPaper 2 = .ok (.aload_n 0, 1) := dk_42 (dk_at dksX0_bestPaper_0 2 rfl rfl)
theorem dX0_bestPaper_3 : decode cX0_bestPaper 3 = .ok (.invokevirtual 95, 3) := dk_182 0 95 (dk_at dksX0_bestPaper_0 3 rfl rfl)
theorem dX0_bestPaper_6 : decode cX0_bestPaper 6 = .ok (.i2l, 1) := dk_133 (dk_at dksX0_bestPaper_0 6 rfl rfl)
theorem dX0_bestPaper_7 : decode cX0_bestPaper 7 = .ok (.lastore, 1) := dk_80 (dk_at dksX0_bestPaper_0 7 rfl rfl)
theorem dX0_bestPaper_8 : decode cX0_bestPaper 8 = .ok (.goto 6, 3) := dk_167 0 6 (dk_at dksX0_bestPaper_0 8 rfl rfl)
theorem dX0_bestPaper_11 : decode cX0_bestPaper 11 = .ok (.astore_n 2, 1) := dk_77 (dk_at dksX0_bestPaper_0 11 rfl rfl)
theorem dX0_bestPaper_12 : decode cX0_bestPaper 12 = .ok (.iconst 1, 1) := dk_4 (dk_at dksX0_bestPaper_0 12 rfl rfl)
theorem dX0_bestPaper_13 : decode cX0_bestPaper 13 = .ok (.ireturn, 1) := dk_172 (dk_at dksX0_bestPaper_0 13 rfl rfl)
theorem dX0_bestPaper_14 : decode cX0_bestPaper 14 = .ok (.iconst 0, 1) := dk_3 (dk_at dksX0_bestPaper_0 14 rfl rfl)
theorem dX0_bestPaper_15 : decode cX0_bestPaper 15 = .ok (.ireturn, 1) := dk_172 (dk_at dksX0_bestPaper_0 15 rfl rfl)
abbrev cX0_days : ByteArray := method_28_code
def yX0_days : MethodName := ⟨RX0, "days", "(LPaperStore;I[J)I"⟩
def dkwX0_days_0 : List UInt8 := [44, 3, 42, 27, 182, 0, 99, 133, 80, 167, 0, 6, 78, 4, 172, 3, 172]
abbrev dktX0_days_0 : List UInt8 := dkwX0_days_0 ++ []
theorem dksX0_days_0 : cX0_days.data.toList.drop 0 = dktX0_days_0 := by decide +kernel
theorem dX0_days_0 : decode cX0_days 0 = .ok (.aload_n 2, 1) := dk_44 (dk_at dksX0_days_0 0 rfl rfl)
theorem dX0_days_1 : decode cX0_days 1 = .ok (.iconst 0, 1) := dk_3 (dk_at dksX0_days_0 1 rfl rfl)
theorem dX0_days_2 : decode cX0_days 2 = .ok (.aload_n 0, 1) := dk_42 (dk_at dksX0_days_0 2 rfl rfl)
theorem dX0_days_3 : decode cX0_days 3 = .ok (.iload_n 1, 1) := dk_27 (dk_at dksX0_days_0 3 rfl rfl)
theorem dX0_days_4 : decode cX0_days 4 = .ok (.invokevirtual 99, 3) := dk_182 0 99 (dk_at dksX0_days_0 4 rfl rfl)
theorem dX0_days_7 : decode cX0_days 7 = .ok (.i2l, 1) := dk_133 (dk_at dksX0_days_0 7 rfl rfl)
theorem dX0_days_8 : decode cX0_days 8 = .ok (.lastore, 1) := dk_80 (dk_at dksX0_days_0 8 rfl rfl)
theorem dX0_days_9 : decode cX0_days 9 = .ok (.goto 6, 3) := dk_167 0 6 (dk_at dksX0_days_0 9 rfl rfl)
theorem dX0_days_12 : decode cX0_days 12 = .ok (.astore_n 3, 1) := dk_78 (dk_at dksX0_days_0 12 rfl rfl)
theorem dX0_days_13 : decode cX0_days 13 = .ok (.iconst 1, 1) := dk_4 (dk_at dksX0_days_0 13 rfl rfl)
theorem dX0_days_14 : decode cX0_days 14 = .ok (.ireturn, 1) := dk_172 (dk_at dksX0_days_0 14 rfl rfl)
theorem dX0_days_15 : decode cX0_days 15 = .ok (.iconst 0, 1) := dk_3 (dk_at dksX0_days_0 15 rfl rfl)
theorem dX0_days_16 : decode cX0_days 16 = .ok (.ireturn, 1) := dk_172 (dk_at dksX0_days_0 16 rfl rfl)
abbrev cX0_tell : ByteArray := method_29_code
def yX0_tell : MethodName := ⟨RX0, "tell", "(LPaperStore;I[J)I"⟩
def dkwX0_tell_0 : List UInt8 := [44, 3, 42, 27, 182, 0, 102, 133, 80, 167, 0, 6, 78, 4, 172, 3, 172]
abbrev dktX0_tell_0 : List UInt8 := dkwX0_tell_0 ++ []
theorem dksX0_tell_0 : cX0_tell.data.toList.drop 0 = dktX0_tell_0 := by decide +kernel
theorem dX0_tell_0 : decode cX0_tell 0 = .ok (.aload_n 2, 1) := dk_44 (dk_at dksX0_tell_0 0 rfl rfl)
theorem dX0_tell_1 : decode cX0_tell 1 = .ok (.iconst 0, 1) := dk_3 (dk_at dksX0_tell_0 1 rfl rfl)
theorem dX0_tell_2 : decode cX0_tell 2 = .ok (.aload_n 0, 1) := dk_42 (dk_at dksX0_tell_0 2 rfl rfl)
theorem dX0_tell_3 : decode cX0_tell 3 = .ok (.iload_n 1, 1) := dk_27 (dk_at dksX0_tell_0 3 rfl rfl)
theorem dX0_tell_4 : decode cX0_tell 4 = .ok (.invokevirtual 102, 3) := dk_182 0 102 (dk_at dksX0_tell_0 4 rfl rfl)
theorem dX0_tell_7 : decode cX0_tell 7 = .ok (.i2l, 1) := dk_133 (dk_at dksX0_tell_0 7 rfl rfl)
theorem dX0_tell_8 : decode cX0_tell 8 = .ok (.lastore, 1) := dk_80 (dk_at dksX0_tell_0 8 rfl rfl)
theorem dX0_tell_9 : decode cX0_tell 9 = .ok (.goto 6, 3) := dk_167 0 6 (dk_at dksX0_tell_0 9 rfl rfl)
theorem dX0_tell_12 : decode cX0_tell 12 = .ok (.astore_n 3, 1) := dk_78 (dk_at dksX0_tell_0 12 rfl rfl)
theorem dX0_tell_13 : decode cX0_tell 13 = .ok (.iconst 1, 1) := dk_4 (dk_at dksX0_tell_0 13 rfl rfl)
theorem dX0_tell_14 : decode cX0_tell 14 = .ok (.ireturn, 1) := dk_172 (dk_at dksX0_tell_0 14 rfl rfl)
theorem dX0_tell_15 : decode cX0_tell 15 = .ok (.iconst 0, 1) := dk_3 (dk_at dksX0_tell_0 15 rfl rfl)
theorem dX0_tell_16 : decode cX0_tell 16 = .ok (.ireturn, 1) := dk_172 (dk_at dksX0_tell_0 16 rfl rfl)
abbrev cX0_character : ByteArray := method_30_code
def yX0_character : MethodName := ⟨RX0, "character", "(LPaperStore;I[J)I"⟩
def dkwX0_character_0 : List UInt8 := [44, 3, 42, 27, 182, 0, 105, 133, 80, 167, 0, 6, 78, 4, 172, 3, 172]
abbrev dktX0_character_0 : List UInt8 := dkwX0_character_0 ++ []
theorem dksX0_character_0 : cX0_character.data.toList.drop 0 = dktX0_character_0 := by decide +kernel
theorem dX0_character_0 : decode cX0_character 0 = .ok (.aload_n 2, 1) := dk_44 (dk_at dksX0_character_0 0 rfl rfl)
theorem dX0_character_1 : decode cX0_character 1 = .ok (.iconst 0, 1) := dk_3 (dk_at dksX0_character_0 1 rfl rfl)
theorem dX0_character_2 : decode cX0_character 2 = .ok (.aload_n 0, 1) := dk_42 (dk_at dksX0_character_0 2 rfl rfl)
theorem dX0_character_3 : decode cX0_character 3 = .ok (.iload_n 1, 1) := dk_27 (dk_at dksX0_character_0 3 rfl rfl)
theorem dX0_character_4 : decode cX0_character 4 = .ok (.invokevirtual 105, 3) := dk_182 0 105 (dk_at dksX0_character_0 4 rfl rfl)
theorem dX0_character_7 : decode cX0_character 7 = .ok (.i2l, 1) := dk_133 (dk_at dksX0_character_0 7 rfl rfl)
theorem dX0_character_8 : decode cX0_character 8 = .ok (.lastore, 1) := dk_80 (dk_at dksX0_character_0 8 rfl rfl)
theorem dX0_character_9 : decode cX0_character 9 = .ok (.goto 6, 3) := dk_167 0 6 (dk_at dksX0_character_0 9 rfl rfl)
theorem dX0_character_12 : decode cX0_character 12 = .ok (.astore_n 3, 1) := dk_78 (dk_at dksX0_character_0 12 rfl rfl)
theorem dX0_character_13 : decode cX0_character 13 = .ok (.iconst 1, 1) := dk_4 (dk_at dksX0_character_0 13 rfl rfl)
theorem dX0_character_14 : decode cX0_character 14 = .ok (.ireturn, 1) := dk_172 (dk_at dksX0_character_0 14 rfl rfl)
theorem dX0_character_15 : decode cX0_character 15 = .ok (.iconst 0, 1) := dk_3 (dk_at dksX0_character_0 15 rfl rfl)
theorem dX0_character_16 : decode cX0_character 16 = .ok (.ireturn, 1) := dk_172 (dk_at dksX0_character_0 16 rfl rfl)
abbrev cX0_meanDamp : ByteArray := method_31_code
def yX0_meanDamp : MethodName := ⟨RX0, "meanDamp", "(LPaperStore;[D)I"⟩
def dkwX0_meanDamp_0 : List UInt8 := [43, 3, 42, 182, 0, 109, 141, 82, 167, 0, 6, 77, 4, 172, 3, 172]
abbrev dktX0_meanDamp_0 : List UInt8 := dkwX0_meanDamp_0 ++ []
theorem dksX0_meanDamp_0 : cX0_meanDamp.data.toList.drop 0 = dktX0_meanDamp_0 := by decide +kernel
theorem dX0_meanDamp_0 : decode cX0_meanDamp 0 = .ok (.aload_n 1, 1) := dk_43 (dk_at dksX0_meanDamp_0 0 rfl rfl)
theorem dX0_meanDamp_1 : decode cX0_meanDamp 1 = .ok (.iconst 0, 1) := dk_3 (dk_at dksX0_meanDamp_0 1 rfl rfl)
theorem dX0_meanDamp_2 : decode cX0_meanDamp 2 = .ok (.aload_n 0, 1) := dk_42 (dk_at dksX0_meanDamp_0 2 rfl rfl)
theorem dX0_meanDamp_3 : decode cX0_meanDamp 3 = .ok (.invokevirtual 109, 3) := dk_182 0 109 (dk_at dksX0_meanDamp_0 3 rfl rfl)
theorem dX0_meanDamp_6 : decode cX0_meanDamp 6 = .ok (.f2d, 1) := dk_141 (dk_at dksX0_meanDamp_0 6 rfl rfl)
theorem dX0_meanDamp_7 : decode cX0_meanDamp 7 = .ok (.dastore, 1) := dk_82 (dk_at dksX0_meanDamp_0 7 rfl rfl)
theorem dX0_meanDamp_8 : decode cX0_meanDamp 8 = .ok (.goto 6, 3) := dk_167 0 6 (dk_at dksX0_meanDamp_0 8 rfl rfl)
theorem dX0_meanDamp_11 : decode cX0_meanDamp 11 = .ok (.astore_n 2, 1) := dk_77 (dk_at dksX0_meanDamp_0 11 rfl rfl)
theorem dX0_meanDamp_12 : decode cX0_meanDamp 12 = .ok (.iconst 1, 1) := dk_4 (dk_at dksX0_meanDamp_0 12 rfl rfl)
theorem dX0_meanDamp_13 : decode cX0_meanDamp 13 = .ok (.ireturn, 1) := dk_172 (dk_at dksX0_meanDamp_0 13 rfl rfl)
theorem dX0_meanDamp_14 : decode cX0_meanDamp 14 = .ok (.iconst 0, 1) := dk_3 (dk_at dksX0_meanDamp_0 14 rfl rfl)
theorem dX0_meanDamp_15 : decode cX0_meanDamp 15 = .ok (.ireturn, 1) := dk_172 (dk_at dksX0_meanDamp_0 15 rfl rfl)
abbrev cX0_eatenShare : ByteArray := method_32_code
def yX0_eatenShare : MethodName := ⟨RX0, "eatenShare", "(LPaperStore;[D)I"⟩
def dkwX0_eatenShare_0 : List UInt8 := [43, 3, 42, 182, 0, 115, 82, 167, 0, 6, 77, 4, 172, 3, 172]
abbrev dktX0_eatenShare_0 : List UInt8 := dkwX0_eatenShare_0 ++ []
theorem dksX0_eatenShare_0 : cX0_eatenShare.data.toList.drop 0 = dktX0_eatenShare_0 := by decide +kernel
theorem dX0_eatenShare_0 : decode cX0_eatenShare 0 = .ok (.aload_n 1, 1) := dk_43 (dk_at dksX0_eatenShare_0 0 rfl rfl)
theorem dX0_eatenShare_1 : decode cX0_eatenShare 1 = .ok (.iconst 0, 1) := dk_3 (dk_at dksX0_eatenShare_0 1 rfl rfl)
theorem dX0_eatenShare_2 : decode cX0_eatenShare 2 = .ok (.aload_n 0, 1) := dk_42 (dk_at dksX0_eatenShare_0 2 rfl rfl)
theorem dX0_eatenShare_3 : decode cX0_eatenShare 3 = .ok (.invokevirtual 115, 3) := dk_182 0 115 (dk_at dksX0_eatenShare_0 3 rfl rfl)
theorem dX0_eatenShare_6 : decode cX0_eatenShare 6 = .ok (.dastore, 1) := dk_82 (dk_at dksX0_eatenShare_0 6 rfl rfl)
theorem dX0_eatenShare_7 : decode cX0_eatenShare 7 = .ok (.goto 6, 3) := dk_167 0 6 (dk_at dksX0_eatenShare_0 7 rfl rfl)
theorem dX0_eatenShare_10 : decode cX0_eatenShare 10 = .ok (.astore_n 2, 1) := dk_77 (dk_at dksX0_eatenShare_0 10 rfl rfl)
theorem dX0_eatenShare_11 : decode cX0_eatenShare 11 = .ok (.iconst 1, 1) := dk_4 (dk_at dksX0_eatenShare_0 11 rfl rfl)
theorem dX0_eatenShare_12 : decode cX0_eatenShare 12 = .ok (.ireturn, 1) := dk_172 (dk_at dksX0_eatenShare_0 12 rfl rfl)
theorem dX0_eatenShare_13 : decode cX0_eatenShare 13 = .ok (.iconst 0, 1) := dk_3 (dk_at dksX0_eatenShare_0 13 rfl rfl)
theorem dX0_eatenShare_14 : decode cX0_eatenShare 14 = .ok (.ireturn, 1) := dk_172 (dk_at dksX0_eatenShare_0 14 rfl rfl)
abbrev cX0_account : ByteArray := method_33_code
def yX0_account : MethodName := ⟨RX0, "account", "(LPaperStore;I[J)I"⟩
def dkwX0_account_0 : List UInt8 := [44, 3, 42, 27, 182, 0, 119, 133, 80, 167, 0, 6, 78, 4, 172, 3, 172]
abbrev dktX0_account_0 : List UInt8 := dkwX0_account_0 ++ []
theorem dksX0_account_0 : cX0_account.data.toList.drop 0 = dktX0_account_0 := by decide +kernel
theorem dX0_account_0 : decode cX0_account 0 = .ok (.aload_n 2, 1) := dk_44 (dk_at dksX0_account_0 0 rfl rfl)
theorem dX0_account_1 : decode cX0_account 1 = .ok (.iconst 0, 1) := dk_3 (dk_at dksX0_account_0 1 rfl rfl)
theorem dX0_account_2 : decode cX0_account 2 = .ok (.aload_n 0, 1) := dk_42 (dk_at dksX0_account_0 2 rfl rfl)
theorem dX0_account_3 : decode cX0_account 3 = .ok (.iload_n 1, 1) := dk_27 (dk_at dksX0_account_0 3 rfl rfl)
theorem dX0_account_4 : decode cX0_account 4 = .ok (.invokevirtual 119, 3) := dk_182 0 119 (dk_at dksX0_account_0 4 rfl rfl)
theorem dX0_account_7 : decode cX0_account 7 = .ok (.i2l, 1) := dk_133 (dk_at dksX0_account_0 7 rfl rfl)
theorem dX0_account_8 : decode cX0_account 8 = .ok (.lastore, 1) := dk_80 (dk_at dksX0_account_0 8 rfl rfl)
theorem dX0_account_9 : decode cX0_account 9 = .ok (.goto 6, 3) := dk_167 0 6 (dk_at dksX0_account_0 9 rfl rfl)
theorem dX0_account_12 : decode cX0_account 12 = .ok (.astore_n 3, 1) := dk_78 (dk_at dksX0_account_0 12 rfl rfl)
theorem dX0_account_13 : decode cX0_account 13 = .ok (.iconst 1, 1) := dk_4 (dk_at dksX0_account_0 13 rfl rfl)
theorem dX0_account_14 : decode cX0_account 14 = .ok (.ireturn, 1) := dk_172 (dk_at dksX0_account_0 14 rfl rfl)
theorem dX0_account_15 : decode cX0_account 15 = .ok (.iconst 0, 1) := dk_3 (dk_at dksX0_account_0 15 rfl rfl)
theorem dX0_account_16 : decode cX0_account 16 = .ok (.ireturn, 1) := dk_172 (dk_at dksX0_account_0 16 rfl rfl)
abbrev cX0_append : ByteArray := method_34_code
def yX0_append : MethodName := ⟨RX0, "append", "(LPaperStore;C[J)I"⟩
def dkwX0_append_0 : List UInt8 := [44, 3, 42, 27, 182, 0, 122, 133, 80, 167, 0, 9, 78, 4, 172, 78, 5, 172, 3, 172]
abbrev dktX0_append_0 : List UInt8 := dkwX0_append_0 ++ []
theorem dksX0_append_0 : cX0_append.data.toList.drop 0 = dktX0_append_0 := by decide +kernel
theorem dX0_append_0 : decode cX0_append 0 = .ok (.aload_n 2, 1) := dk_44 (dk_at dksX0_append_0 0 rfl rfl)
theorem dX0_append_1 : decode cX0_append 1 = .ok (.iconst 0, 1) := dk_3 (dk_at dksX0_append_0 1 rfl rfl)
theorem dX0_append_2 : decode cX0_append 2 = .ok (.aload_n 0, 1) := dk_42 (dk_at dksX0_append_0 2 rfl rfl)
theorem dX0_append_3 : decode cX0_append 3 = .ok (.iload_n 1, 1) := dk_27 (dk_at dksX0_append_0 3 rfl rfl)
theorem dX0_append_4 : decode cX0_append 4 = .ok (.invokevirtual 122, 3) := dk_182 0 122 (dk_at dksX0_append_0 4 rfl rfl)
theorem dX0_append_7 : decode cX0_append 7 = .ok (.i2l, 1) := dk_133 (dk_at dksX0_append_0 7 rfl rfl)
theorem dX0_append_8 : decode cX0_append 8 = .ok (.lastore, 1) := dk_80 (dk_at dksX0_append_0 8 rfl rfl)
theorem dX0_append_9 : decode cX0_append 9 = .ok (.goto 9, 3) := dk_167 0 9 (dk_at dksX0_append_0 9 rfl rfl)
theorem dX0_append_12 : decode cX0_append 12 = .ok (.astore_n 3, 1) := dk_78 (dk_at dksX0_append_0 12 rfl rfl)
theorem dX0_append_13 : decode cX0_append 13 = .ok (.iconst 1, 1) := dk_4 (dk_at dksX0_append_0 13 rfl rfl)
theorem dX0_append_14 : decode cX0_append 14 = .ok (.ireturn, 1) := dk_172 (dk_at dksX0_append_0 14 rfl rfl)
theorem dX0_append_15 : decode cX0_append 15 = .ok (.astore_n 3, 1) := dk_78 (dk_at dksX0_append_0 15 rfl rfl)
theorem dX0_append_16 : decode cX0_append 16 = .ok (.iconst 2, 1) := dk_5 (dk_at dksX0_append_0 16 rfl rfl)
theorem dX0_append_17 : decode cX0_append 17 = .ok (.ireturn, 1) := dk_172 (dk_at dksX0_append_0 17 rfl rfl)
theorem dX0_append_18 : decode cX0_append 18 = .ok (.iconst 0, 1) := dk_3 (dk_at dksX0_append_0 18 rfl rfl)
theorem dX0_append_19 : decode cX0_append 19 = .ok (.ireturn, 1) := dk_172 (dk_at dksX0_append_0 19 rfl rfl)
abbrev cX0_read : ByteArray := method_35_code
def yX0_read : MethodName := ⟨RX0, "read", "(LPaperStore;[J)I"⟩
def dkwX0_read_0 : List UInt8 := [43, 3, 42, 182, 0, 128, 133, 80, 167, 0, 12, 77, 4, 172, 77, 5, 172, 77, 6, 172, 3, 172]
abbrev dktX0_read_0 : List UInt8 := dkwX0_read_0 ++ []
theorem dksX0_read_0 : cX0_read.data.toList.drop 0 = dktX0_read_0 := by decide +kernel
theorem dX0_read_0 : decode cX0_read 0 = .ok (.aload_n 1, 1) := dk_43 (dk_at dksX0_read_0 0 rfl rfl)
theorem dX0_read_1 : decode cX0_read 1 = .ok (.iconst 0, 1) := dk_3 (dk_at dksX0_read_0 1 rfl rfl)
theorem dX0_read_2 : decode cX0_read 2 = .ok (.aload_n 0, 1) := dk_42 (dk_at dksX0_read_0 2 rfl rfl)
theorem dX0_read_3 : decode cX0_read 3 = .ok (.invokevirtual 128, 3) := dk_182 0 128 (dk_at dksX0_read_0 3 rfl rfl)
theorem dX0_read_6 : decode cX0_read 6 = .ok (.i2l, 1) := dk_133 (dk_at dksX0_read_0 6 rfl rfl)
theorem dX0_read_7 : decode cX0_read 7 = .ok (.lastore, 1) := dk_80 (dk_at dksX0_read_0 7 rfl rfl)
theorem dX0_read_8 : decode cX0_read 8 = .ok (.goto 12, 3) := dk_167 0 12 (dk_at dksX0_read_0 8 rfl rfl)
theorem dX0_read_11 : decode cX0_read 11 = .ok (.astore_n 2, 1) := dk_77 (dk_at dksX0_read_0 11 rfl rfl)
theorem dX0_read_12 : decode cX0_read 12 = .ok (.iconst 1, 1) := dk_4 (dk_at dksX0_read_0 12 rfl rfl)
theorem dX0_read_13 : decode cX0_read 13 = .ok (.ireturn, 1) := dk_172 (dk_at dksX0_read_0 13 rfl rfl)
theorem dX0_read_14 : decode cX0_read 14 = .ok (.astore_n 2, 1) := dk_77 (dk_at dksX0_read_0 14 rfl rfl)
theorem dX0_read_15 : decode cX0_read 15 = .ok (.iconst 2, 1) := dk_5 (dk_at dksX0_read_0 15 rfl rfl)
theorem dX0_read_16 : decode cX0_read 16 = .ok (.ireturn, 1) := dk_172 (dk_at dksX0_read_0 16 rfl rfl)
theorem dX0_read_17 : decode cX0_read 17 = .ok (.astore_n 2, 1) := dk_77 (dk_at dksX0_read_0 17 rfl rfl)
theorem dX0_read_18 : decode cX0_read 18 = .ok (.iconst 3, 1) := dk_6 (dk_at dksX0_read_0 18 rfl rfl)
theorem dX0_read_19 : decode cX0_read 19 = .ok (.ireturn, 1) := dk_172 (dk_at dksX0_read_0 19 rfl rfl)
theorem dX0_read_20 : decode cX0_read 20 = .ok (.iconst 0, 1) := dk_3 (dk_at dksX0_read_0 20 rfl rfl)
theorem dX0_read_21 : decode cX0_read 21 = .ok (.ireturn, 1) := dk_172 (dk_at dksX0_read_0 21 rfl rfl)
abbrev cX0_errorPosition : ByteArray := method_36_code
def yX0_errorPosition : MethodName := ⟨RX0, "errorPosition", "(LPaperStore;[J)I"⟩
def dkwX0_errorPosition_0 : List UInt8 := [43, 3, 42, 182, 0, 131, 133, 80, 167, 0, 6, 77, 4, 172, 3, 172]
abbrev dktX0_errorPosition_0 : List UInt8 := dkwX0_errorPosition_0 ++ []
theorem dksX0_errorPosition_0 : cX0_errorPosition.data.toList.drop 0 = dktX0_errorPosition_0 := by decide +kernel
theorem dX0_errorPosition_0 : decode cX0_errorPosition 0 = .ok (.aload_n 1, 1) := dk_43 (dk_at dksX0_errorPosition_0 0 rfl rfl)
theorem dX0_errorPosition_1 : decode cX0_errorPosition 1 = .ok (.iconst 0, 1) := dk_3 (dk_at dksX0_errorPosition_0 1 rfl rfl)
theorem dX0_errorPosition_2 : decode cX0_errorPosition 2 = .ok (.aload_n 0, 1) := dk_42 (dk_at dksX0_errorPosition_0 2 rfl rfl)
theorem dX0_errorPosition_3 : decode cX0_errorPosition 3 = .ok (.invokevirtual 131, 3) := dk_182 0 131 (dk_at dksX0_errorPosition_0 3 rfl rfl)
theorem dX0_errorPosition_6 : decode cX0_errorPosition 6 = .ok (.i2l, 1) := dk_133 (dk_at dksX0_errorPosition_0 6 rfl rfl)
theorem dX0_errorPosition_7 : decode cX0_errorPosition 7 = .ok (.lastore, 1) := dk_80 (dk_at dksX0_errorPosition_0 7 rfl rfl)
theorem dX0_errorPosition_8 : decode cX0_errorPosition 8 = .ok (.goto 6, 3) := dk_167 0 6 (dk_at dksX0_errorPosition_0 8 rfl rfl)
theorem dX0_errorPosition_11 : decode cX0_errorPosition 11 = .ok (.astore_n 2, 1) := dk_77 (dk_at dksX0_errorPosition_0 11 rfl rfl)
theorem dX0_errorPosition_12 : decode cX0_errorPosition 12 = .ok (.iconst 1, 1) := dk_4 (dk_at dksX0_errorPosition_0 12 rfl rfl)
theorem dX0_errorPosition_13 : decode cX0_errorPosition 13 = .ok (.ireturn, 1) := dk_172 (dk_at dksX0_errorPosition_0 13 rfl rfl)
theorem dX0_errorPosition_14 : decode cX0_errorPosition 14 = .ok (.iconst 0, 1) := dk_3 (dk_at dksX0_errorPosition_0 14 rfl rfl)
theorem dX0_errorPosition_15 : decode cX0_errorPosition 15 = .ok (.ireturn, 1) := dk_172 (dk_at dksX0_errorPosition_0 15 rfl rfl)
abbrev cX0_reason : ByteArray := method_37_code
def yX0_reason : MethodName := ⟨RX0, "reason", "(LPaperStore;Z[J)I"⟩
def dkwX0_reason_0 : List UInt8 := [44, 3, 42, 27, 182, 0, 134, 133, 80, 167, 0, 6, 78, 4, 172, 3, 172]
abbrev dktX0_reason_0 : List UInt8 := dkwX0_reason_0 ++ []
theorem dksX0_reason_0 : cX0_reason.data.toList.drop 0 = dktX0_reason_0 := by decide +kernel
theorem dX0_reason_0 : decode cX0_reason 0 = .ok (.aload_n 2, 1) := dk_44 (dk_at dksX0_reason_0 0 rfl rfl)
theorem dX0_reason_1 : decode cX0_reason 1 = .ok (.iconst 0, 1) := dk_3 (dk_at dksX0_reason_0 1 rfl rfl)
theorem dX0_reason_2 : decode cX0_reason 2 = .ok (.aload_n 0, 1) := dk_42 (dk_at dksX0_reason_0 2 rfl rfl)
theorem dX0_reason_3 : decode cX0_reason 3 = .ok (.iload_n 1, 1) := dk_27 (dk_at dksX0_reason_0 3 rfl rfl)
theorem dX0_reason_4 : decode cX0_reason 4 = .ok (.invokevirtual 134, 3) := dk_182 0 134 (dk_at dksX0_reason_0 4 rfl rfl)
theorem dX0_reason_7 : decode cX0_reason 7 = .ok (.i2l, 1) := dk_133 (dk_at dksX0_reason_0 7 rfl rfl)
theorem dX0_reason_8 : decode cX0_reason 8 = .ok (.lastore, 1) := dk_80 (dk_at dksX0_reason_0 8 rfl rfl)
theorem dX0_reason_9 : decode cX0_reason 9 = .ok (.goto 6, 3) := dk_167 0 6 (dk_at dksX0_reason_0 9 rfl rfl)
theorem dX0_reason_12 : decode cX0_reason 12 = .ok (.astore_n 3, 1) := dk_78 (dk_at dksX0_reason_0 12 rfl rfl)
theorem dX0_reason_13 : decode cX0_reason 13 = .ok (.iconst 1, 1) := dk_4 (dk_at dksX0_reason_0 13 rfl rfl)
theorem dX0_reason_14 : decode cX0_reason 14 = .ok (.ireturn, 1) := dk_172 (dk_at dksX0_reason_0 14 rfl rfl)
theorem dX0_reason_15 : decode cX0_reason 15 = .ok (.iconst 0, 1) := dk_3 (dk_at dksX0_reason_0 15 rfl rfl)
theorem dX0_reason_16 : decode cX0_reason 16 = .ok (.ireturn, 1) := dk_172 (dk_at dksX0_reason_0 16 rfl rfl)
abbrev cX0_undo : ByteArray := method_38_code
def yX0_undo : MethodName := ⟨RX0, "undo", "(LPaperStore;[J)I"⟩
def dkwX0_undo_0 : List UInt8 := [43, 3, 42, 182, 0, 138, 133, 80, 167, 0, 6, 77, 4, 172, 3, 172]
abbrev dktX0_undo_0 : List UInt8 := dkwX0_undo_0 ++ []
theorem dksX0_undo_0 : cX0_undo.data.toList.drop 0 = dktX0_undo_0 := by decide +kernel
theorem dX0_undo_0 : decode cX0_undo 0 = .ok (.aload_n 1, 1) := dk_43 (dk_at dksX0_undo_0 0 rfl rfl)
theorem dX0_undo_1 : decode cX0_undo 1 = .ok (.iconst 0, 1) := dk_3 (dk_at dksX0_undo_0 1 rfl rfl)
theorem dX0_undo_2 : decode cX0_undo 2 = .ok (.aload_n 0, 1) := dk_42 (dk_at dksX0_undo_0 2 rfl rfl)
theorem dX0_undo_3 : decode cX0_undo 3 = .ok (.invokevirtual 138, 3) := dk_182 0 138 (dk_at dksX0_undo_0 3 rfl rfl)
theorem dX0_undo_6 : decode cX0_undo 6 = .ok (.i2l, 1) := dk_133 (dk_at dksX0_undo_0 6 rfl rfl)
theorem dX0_undo_7 : decode cX0_undo 7 = .ok (.lastore, 1) := dk_80 (dk_at dksX0_undo_0 7 rfl rfl)
theorem dX0_undo_8 : decode cX0_undo 8 = .ok (.goto 6, 3) := dk_167 0 6 (dk_at dksX0_undo_0 8 rfl rfl)
theorem dX0_undo_11 : decode cX0_undo 11 = .ok (.astore_n 2, 1) := dk_77 (dk_at dksX0_undo_0 11 rfl rfl)
theorem dX0_undo_12 : decode cX0_undo 12 = .ok (.iconst 1, 1) := dk_4 (dk_at dksX0_undo_0 12 rfl rfl)
theorem dX0_undo_13 : decode cX0_undo 13 = .ok (.ireturn, 1) := dk_172 (dk_at dksX0_undo_0 13 rfl rfl)
theorem dX0_undo_14 : decode cX0_undo 14 = .ok (.iconst 0, 1) := dk_3 (dk_at dksX0_undo_0 14 rfl rfl)
theorem dX0_undo_15 : decode cX0_undo 15 = .ok (.ireturn, 1) := dk_172 (dk_at dksX0_undo_0 15 rfl rfl)
abbrev cX0_restore : ByteArray := method_39_code
def yX0_restore : MethodName := ⟨RX0, "restore", "(LPaperStore;[J)I"⟩
def dkwX0_restore_0 : List UInt8 := [43, 3, 42, 182, 0, 141, 133, 80, 167, 0, 6, 77, 4, 172, 3, 172]
abbrev dktX0_restore_0 : List UInt8 := dkwX0_restore_0 ++ []
theorem dksX0_restore_0 : cX0_restore.data.toList.drop 0 = dktX0_restore_0 := by decide +kernel
theorem dX0_restore_0 : decode cX0_restore 0 = .ok (.aload_n 1, 1) := dk_43 (dk_at dksX0_restore_0 0 rfl rfl)
theorem dX0_restore_1 : decode cX0_restore 1 = .ok (.iconst 0, 1) := dk_3 (dk_at dksX0_restore_0 1 rfl rfl)
theorem dX0_restore_2 : decode cX0_restore 2 = .ok (.aload_n 0, 1) := dk_42 (dk_at dksX0_restore_0 2 rfl rfl)
theorem dX0_restore_3 : decode cX0_restore 3 = .ok (.invokevirtual 141, 3) := dk_182 0 141 (dk_at dksX0_restore_0 3 rfl rfl)
theorem dX0_restore_6 : decode cX0_restore 6 = .ok (.i2l, 1) := dk_133 (dk_at dksX0_restore_0 6 rfl rfl)
theorem dX0_restore_7 : decode cX0_restore 7 = .ok (.lastore, 1) := dk_80 (dk_at dksX0_restore_0 7 rfl rfl)
theorem dX0_restore_8 : decode cX0_restore 8 = .ok (.goto 6, 3) := dk_167 0 6 (dk_at dksX0_restore_0 8 rfl rfl)
theorem dX0_restore_11 : decode cX0_restore 11 = .ok (.astore_n 2, 1) := dk_77 (dk_at dksX0_restore_0 11 rfl rfl)
theorem dX0_restore_12 : decode cX0_restore 12 = .ok (.iconst 1, 1) := dk_4 (dk_at dksX0_restore_0 12 rfl rfl)
theorem dX0_restore_13 : decode cX0_restore 13 = .ok (.ireturn, 1) := dk_172 (dk_at dksX0_restore_0 13 rfl rfl)
theorem dX0_restore_14 : decode cX0_restore 14 = .ok (.iconst 0, 1) := dk_3 (dk_at dksX0_restore_0 14 rfl rfl)
theorem dX0_restore_15 : decode cX0_restore 15 = .ok (.ireturn, 1) := dk_172 (dk_at dksX0_restore_0 15 rfl rfl)
theorem q99 : (Jvm.Cond.initialized "PaperStoreLaw") ∈ lw_all := lw_g (lw_at lw_m1 0 rfl) rfl
theorem q173 : (Jvm.Cond.classLink "PaperStoreLaw" (8 : Nat) "PaperStore") ∈ lw_all := lw_g (lw_at lw_m1 74 rfl) rfl
theorem q175 : (Jvm.Cond.methodLink "PaperStoreLaw" (144 : Nat) ({ cls := "PaperStore", name := "<init>", desc := "()V" } : Jvm.MethodName)) ∈ lw_all := lw_g (lw_at lw_m1 76 rfl) rfl
theorem q412 : (Jvm.Cond.methodLink "PaperStoreLaw" (235 : Nat) ({ cls := "PaperStore", name := "papers", desc := "()I" } : Jvm.MethodName)) ∈ lw_all := lw_g (lw_at lw_m2 73 rfl) rfl
theorem q1236 : (Jvm.Cond.methodLink "PaperStoreLaw" (258 : Nat) ({ cls := "PaperStore", name := "quiresAgain", desc := "()I" } : Jvm.MethodName)) ∈ lw_all := lw_g (lw_at lw_m5 177 rfl) rfl
theorem q1255 : (Jvm.Cond.methodLink "PaperStoreLaw" (279 : Nat) ({ cls := "PaperStore", name := "save", desc := "()I" } : Jvm.MethodName)) ∈ lw_all := lw_g (lw_at lw_m5 196 rfl) rfl
theorem q2014 : (Jvm.Cond.methodLink "PaperStoreLaw" (148 : Nat) ({ cls := "PaperStoreLaw", name := "ladder", desc := "(LPaperStore;I[J)I" } : Jvm.MethodName)) ∈ lw_all := lw_g (lw_at lw_m8 235 rfl) rfl
theorem q2015 : (Jvm.Cond.static ({ cls := "PaperStoreLaw", name := "ladder", desc := "(LPaperStore;I[J)I" } : Jvm.MethodName)) ∈ lw_all := lw_g (lw_at lw_m8 236 rfl) rfl
theorem q2016 : (Jvm.Cond.codeWith ({ cls := "PaperStoreLaw", name := "ladder", desc := "(LPaperStore;I[J)I" } : Jvm.MethodName) method_3_code (4 : Nat) (Option.some Jvm.ClassFile.FieldType.int) [((0 : Nat), (9 : Nat), (12 : Nat), (13 : Nat)), ((0 : Nat), (9 : Nat), (15 : Nat), (15 : Nat))]) ∈ lw_all := lw_g (lw_at lw_m8 237 rfl) rfl
theorem q2017 : (Jvm.Cond.classLink "PaperStoreLaw" (13 : Nat) "java/lang/IllegalArgumentException") ∈ lw_all := lw_g (lw_at lw_m8 238 rfl) rfl
theorem q2018 : (Jvm.Cond.classLink "PaperStoreLaw" (15 : Nat) "java/lang/UnsupportedOperationException") ∈ lw_all := lw_g (lw_at lw_m8 239 rfl) rfl
theorem q2019 : (Jvm.Cond.methodLink "PaperStoreLaw" (7 : Nat) ({ cls := "PaperStore", name := "ladder", desc := "(I)I" } : Jvm.MethodName)) ∈ lw_all := lw_g (lw_at lw_m9 0 rfl) rfl
theorem q2102 : (Jvm.Cond.methodLink "PaperStoreLaw" (157 : Nat) ({ cls := "PaperStoreLaw", name := "push", desc := "(LPaperStore;II[J)I" } : Jvm.MethodName)) ∈ lw_all := lw_g (lw_at lw_m9 83 rfl) rfl
theorem q2103 : (Jvm.Cond.static ({ cls := "PaperStoreLaw", name := "push", desc := "(LPaperStore;II[J)I" } : Jvm.MethodName)) ∈ lw_all := lw_g (lw_at lw_m9 84 rfl) rfl
theorem q2104 : (Jvm.Cond.codeWith ({ cls := "PaperStoreLaw", name := "push", desc := "(LPaperStore;II[J)I" } : Jvm.MethodName) method_4_code (5 : Nat) (Option.some Jvm.ClassFile.FieldType.int) [((0 : Nat), (10 : Nat), (13 : Nat), (21 : Nat)), ((0 : Nat), (10 : Nat), (17 : Nat), (13 : Nat)), ((0 : Nat), (10 : Nat), (21 : Nat), (15 : Nat))]) ∈ lw_all := lw_g (lw_at lw_m9 85 rfl) rfl
theorem q2105 : (Jvm.Cond.classLink "PaperStoreLaw" (21 : Nat) "java/lang/IndexOutOfBoundsException") ∈ lw_all := lw_g (lw_at lw_m9 86 rfl) rfl
theorem q2121 : (Jvm.Cond.methodLink "PaperStoreLaw" (17 : Nat) ({ cls := "PaperStore", name := "push", desc := "(II)I" } : Jvm.MethodName)) ∈ lw_all := lw_g (lw_at lw_m9 102 rfl) rfl
theorem q2151 : (Jvm.Cond.methodLink "PaperStoreLaw" (161 : Nat) ({ cls := "PaperStoreLaw", name := "store", desc := "(LPaperStore;IIIII[J)I" } : Jvm.MethodName)) ∈ lw_all := lw_g (lw_at lw_m9 132 rfl) rfl
theorem q2152 : (Jvm.Cond.static ({ cls := "PaperStoreLaw", name := "store", desc := "(LPaperStore;IIIII[J)I" } : Jvm.MethodName)) ∈ lw_all := lw_g (lw_at lw_m9 133 rfl) rfl
theorem q2153 : (Jvm.Cond.codeWith ({ cls := "PaperStoreLaw", name := "store", desc := "(LPaperStore;IIIII[J)I" } : Jvm.MethodName) method_5_code (8 : Nat) (Option.some Jvm.ClassFile.FieldType.int) [((0 : Nat), (16 : Nat), (19 : Nat), (21 : Nat)), ((0 : Nat), (16 : Nat), (23 : Nat), (13 : Nat)), ((0 : Nat), (16 : Nat), (27 : Nat), (15 : Nat))]) ∈ lw_all := lw_g (lw_at lw_m9 134 rfl) rfl
theorem q2154 : (Jvm.Cond.methodLink "PaperStoreLaw" (23 : Nat) ({ cls := "PaperStore", name := "store", desc := "(IIIII)I" } : Jvm.MethodName)) ∈ lw_all := lw_g (lw_at lw_m9 135 rfl) rfl
theorem q2185 : (Jvm.Cond.methodLink "PaperStoreLaw" (165 : Nat) ({ cls := "PaperStoreLaw", name := "ladderOf", desc := "(LPaperStore;IZ[J)I" } : Jvm.MethodName)) ∈ lw_all := lw_g (lw_at lw_m9 166 rfl) rfl
theorem q2186 : (Jvm.Cond.static ({ cls := "PaperStoreLaw", name := "ladderOf", desc := "(LPaperStore;IZ[J)I" } : Jvm.MethodName)) ∈ lw_all := lw_g (lw_at lw_m9 167 rfl) rfl
theorem q2187 : (Jvm.Cond.codeWith ({ cls := "PaperStoreLaw", name := "ladderOf", desc := "(LPaperStore;IZ[J)I" } : Jvm.MethodName) method_6_code (5 : Nat) (Option.some Jvm.ClassFile.FieldType.int) [((0 : Nat), (10 : Nat), (13 : Nat), (21 : Nat))]) ∈ lw_all := lw_g (lw_at lw_m9 168 rfl) rfl
theorem q2188 : (Jvm.Cond.methodLink "PaperStoreLaw" (27 : Nat) ({ cls := "PaperStore", name := "ladderOf", desc := "(IZ)I" } : Jvm.MethodName)) ∈ lw_all := lw_g (lw_at lw_m9 169 rfl) rfl
theorem q2192 : (Jvm.Cond.methodLink "PaperStoreLaw" (169 : Nat) ({ cls := "PaperStoreLaw", name := "reamOf", desc := "(LPaperStore;II[J)I" } : Jvm.MethodName)) ∈ lw_all := lw_g (lw_at lw_m9 173 rfl) rfl
theorem q2193 : (Jvm.Cond.static ({ cls := "PaperStoreLaw", name := "reamOf", desc := "(LPaperStore;II[J)I" } : Jvm.MethodName)) ∈ lw_all := lw_g (lw_at lw_m9 174 rfl) rfl
theorem q2194 : (Jvm.Cond.codeWith ({ cls := "PaperStoreLaw", name := "reamOf", desc := "(LPaperStore;II[J)I" } : Jvm.MethodName) method_7_code (5 : Nat) (Option.some Jvm.ClassFile.FieldType.int) [((0 : Nat), (10 : Nat), (13 : Nat), (21 : Nat)), ((0 : Nat), (10 : Nat), (17 : Nat), (13 : Nat))]) ∈ lw_all := lw_g (lw_at lw_m9 175 rfl) rfl
theorem q2195 : (Jvm.Cond.methodLink "PaperStoreLaw" (31 : Nat) ({ cls := "PaperStore", name := "reamOf", desc := "(II)I" } : Jvm.MethodName)) ∈ lw_all := lw_g (lw_at lw_m9 176 rfl) rfl
theorem q2253 : (Jvm.Cond.methodLink "PaperStoreLaw" (172 : Nat) ({ cls := "PaperStoreLaw", name := "top", desc := "(LPaperStore;II[J)I" } : Jvm.MethodName)) ∈ lw_all := lw_g (lw_at lw_m9 234 rfl) rfl
theorem q2254 : (Jvm.Cond.static ({ cls := "PaperStoreLaw", name := "top", desc := "(LPaperStore;II[J)I" } : Jvm.MethodName)) ∈ lw_all := lw_g (lw_at lw_m9 235 rfl) rfl
theorem q2255 : (Jvm.Cond.codeWith ({ cls := "PaperStoreLaw", name := "top", desc := "(LPaperStore;II[J)I" } : Jvm.MethodName) method_8_code (5 : Nat) (Option.some Jvm.ClassFile.FieldType.int) [((0 : Nat), (10 : Nat), (13 : Nat), (13 : Nat)), ((0 : Nat), (10 : Nat), (17 : Nat), (37 : Nat))]) ∈ lw_all := lw_g (lw_at lw_m9 236 rfl) rfl
theorem q2256 : (Jvm.Cond.classLink "PaperStoreLaw" (37 : Nat) "java/util/NoSuchElementException") ∈ lw_all := lw_g (lw_at lw_m9 237 rfl) rfl
theorem q2257 : (Jvm.Cond.methodLink "PaperStoreLaw" (34 : Nat) ({ cls := "PaperStore", name := "top", desc := "(II)I" } : Jvm.MethodName)) ∈ lw_all := lw_g (lw_at lw_m9 238 rfl) rfl
theorem q2276 : (Jvm.Cond.methodLink "PaperStoreLaw" (175 : Nat) ({ cls := "PaperStoreLaw", name := "wavyIn", desc := "(LPaperStore;I[J)I" } : Jvm.MethodName)) ∈ lw_all := lw_g (lw_at lw_m10 17 rfl) rfl
theorem q2277 : (Jvm.Cond.static ({ cls := "PaperStoreLaw", name := "wavyIn", desc := "(LPaperStore;I[J)I" } : Jvm.MethodName)) ∈ lw_all := lw_g (lw_at lw_m10 18 rfl) rfl
theorem q2278 : (Jvm.Cond.codeWith ({ cls := "PaperStoreLaw", name := "wavyIn", desc := "(LPaperStore;I[J)I" } : Jvm.MethodName) method_9_code (4 : Nat) (Option.some Jvm.ClassFile.FieldType.int) [((0 : Nat), (9 : Nat), (12 : Nat), (21 : Nat)), ((0 : Nat), (9 : Nat), (15 : Nat), (37 : Nat))]) ∈ lw_all := lw_g (lw_at lw_m10 19 rfl) rfl
theorem q2279 : (Jvm.Cond.methodLink "PaperStoreLaw" (39 : Nat) ({ cls := "PaperStore", name := "wavyIn", desc := "(I)I" } : Jvm.MethodName)) ∈ lw_all := lw_g (lw_at lw_m10 20 rfl) rfl
theorem q2292 : (Jvm.Cond.methodLink "PaperStoreLaw" (178 : Nat) ({ cls := "PaperStoreLaw", name := "air", desc := "(LPaperStore;II[J)I" } : Jvm.MethodName)) ∈ lw_all := lw_g (lw_at lw_m10 33 rfl) rfl
theorem q2293 : (Jvm.Cond.static ({ cls := "PaperStoreLaw", name := "air", desc := "(LPaperStore;II[J)I" } : Jvm.MethodName)) ∈ lw_all := lw_g (lw_at lw_m10 34 rfl) rfl
theorem q2294 : (Jvm.Cond.codeWith ({ cls := "PaperStoreLaw", name := "air", desc := "(LPaperStore;II[J)I" } : Jvm.MethodName) method_10_code (5 : Nat) (Option.some Jvm.ClassFile.FieldType.int) [((0 : Nat), (10 : Nat), (13 : Nat), (13 : Nat))]) ∈ lw_all := lw_g (lw_at lw_m10 35 rfl) rfl
theorem q2295 : (Jvm.Cond.methodLink "PaperStoreLaw" (42 : Nat) ({ cls := "PaperStore", name := "air", desc := "(II)I" } : Jvm.MethodName)) ∈ lw_all := lw_g (lw_at lw_m10 36 rfl) rfl
theorem q2303 : (Jvm.Cond.methodLink "PaperStoreLaw" (181 : Nat) ({ cls := "PaperStoreLaw", name := "mice", desc := "(LPaperStore;II[J)I" } : Jvm.MethodName)) ∈ lw_all := lw_g (lw_at lw_m10 44 rfl) rfl
theorem q2304 : (Jvm.Cond.static ({ cls := "PaperStoreLaw", name := "mice", desc := "(LPaperStore;II[J)I" } : Jvm.MethodName)) ∈ lw_all := lw_g (lw_at lw_m10 45 rfl) rfl
theorem q2305 : (Jvm.Cond.codeWith ({ cls := "PaperStoreLaw", name := "mice", desc := "(LPaperStore;II[J)I" } : Jvm.MethodName) method_11_code (5 : Nat) (Option.some Jvm.ClassFile.FieldType.int) [((0 : Nat), (10 : Nat), (13 : Nat), (13 : Nat))]) ∈ lw_all := lw_g (lw_at lw_m10 46 rfl) rfl
theorem q2306 : (Jvm.Cond.methodLink "PaperStoreLaw" (45 : Nat) ({ cls := "PaperStore", name := "mice", desc := "(II)I" } : Jvm.MethodName)) ∈ lw_all := lw_g (lw_at lw_m10 47 rfl) rfl
theorem q2315 : (Jvm.Cond.methodLink "PaperStoreLaw" (184 : Nat) ({ cls := "PaperStoreLaw", name := "trap", desc := "(LPaperStore;II[J)I" } : Jvm.MethodName)) ∈ lw_all := lw_g (lw_at lw_m10 56 rfl) rfl
theorem q2316 : (Jvm.Cond.static ({ cls := "PaperStoreLaw", name := "trap", desc := "(LPaperStore;II[J)I" } : Jvm.MethodName)) ∈ lw_all := lw_g (lw_at lw_m10 57 rfl) rfl
theorem q2317 : (Jvm.Cond.codeWith ({ cls := "PaperStoreLaw", name := "trap", desc := "(LPaperStore;II[J)I" } : Jvm.MethodName) method_12_code (5 : Nat) (Option.some Jvm.ClassFile.FieldType.int) [((0 : Nat), (10 : Nat), (13 : Nat), (13 : Nat))]) ∈ lw_all := lw_g (lw_at lw_m10 58 rfl) rfl
theorem q2318 : (Jvm.Cond.methodLink "PaperStoreLaw" (48 : Nat) ({ cls := "PaperStore", name := "trap", desc := "(II)I" } : Jvm.MethodName)) ∈ lw_all := lw_g (lw_at lw_m10 59 rfl) rfl
theorem q2326 : (Jvm.Cond.methodLink "PaperStoreLaw" (187 : Nat) ({ cls := "PaperStoreLaw", name := "aisleOf", desc := "(LPaperStore;II[J)I" } : Jvm.MethodName)) ∈ lw_all := lw_g (lw_at lw_m10 67 rfl) rfl
theorem q2327 : (Jvm.Cond.static ({ cls := "PaperStoreLaw", name := "aisleOf", desc := "(LPaperStore;II[J)I" } : Jvm.MethodName)) ∈ lw_all := lw_g (lw_at lw_m10 68 rfl) rfl
theorem q2328 : (Jvm.Cond.codeWith ({ cls := "PaperStoreLaw", name := "aisleOf", desc := "(LPaperStore;II[J)I" } : Jvm.MethodName) method_13_code (5 : Nat) (Option.some Jvm.ClassFile.FieldType.int) [((0 : Nat), (10 : Nat), (13 : Nat), (13 : Nat))]) ∈ lw_all := lw_g (lw_at lw_m10 69 rfl) rfl
theorem q2329 : (Jvm.Cond.methodLink "PaperStoreLaw" (51 : Nat) ({ cls := "PaperStore", name := "aisleOf", desc := "(II)I" } : Jvm.MethodName)) ∈ lw_all := lw_g (lw_at lw_m10 70 rfl) rfl
theorem q2360 : (Jvm.Cond.methodLink "PaperStoreLaw" (190 : Nat) ({ cls := "PaperStoreLaw", name := "eatenIn", desc := "(LPaperStore;II[J)I" } : Jvm.MethodName)) ∈ lw_all := lw_g (lw_at lw_m10 101 rfl) rfl
theorem q2361 : (Jvm.Cond.static ({ cls := "PaperStoreLaw", name := "eatenIn", desc := "(LPaperStore;II[J)I" } : Jvm.MethodName)) ∈ lw_all := lw_g (lw_at lw_m10 102 rfl) rfl
theorem q2362 : (Jvm.Cond.codeWith ({ cls := "PaperStoreLaw", name := "eatenIn", desc := "(LPaperStore;II[J)I" } : Jvm.MethodName) method_14_code (5 : Nat) (Option.some Jvm.ClassFile.FieldType.int) [((0 : Nat), (10 : Nat), (13 : Nat), (13 : Nat))]) ∈ lw_all := lw_g (lw_at lw_m10 103 rfl) rfl
theorem q2363 : (Jvm.Cond.methodLink "PaperStoreLaw" (54 : Nat) ({ cls := "PaperStore", name := "eatenIn", desc := "(II)I" } : Jvm.MethodName)) ∈ lw_all := lw_g (lw_at lw_m10 104 rfl) rfl
theorem q2389 : (Jvm.Cond.methodLink "PaperStoreLaw" (193 : Nat) ({ cls := "PaperStoreLaw", name := "ranked", desc := "(LPaperStore;I[J)I" } : Jvm.MethodName)) ∈ lw_all := lw_g (lw_at lw_m10 130 rfl) rfl
theorem q2390 : (Jvm.Cond.static ({ cls := "PaperStoreLaw", name := "ranked", desc := "(LPaperStore;I[J)I" } : Jvm.MethodName)) ∈ lw_all := lw_g (lw_at lw_m10 131 rfl) rfl
theorem q2391 : (Jvm.Cond.codeWith ({ cls := "PaperStoreLaw", name := "ranked", desc := "(LPaperStore;I[J)I" } : Jvm.MethodName) method_15_code (4 : Nat) (Option.some Jvm.ClassFile.FieldType.int) [((0 : Nat), (9 : Nat), (12 : Nat), (37 : Nat))]) ∈ lw_all := lw_g (lw_at lw_m10 132 rfl) rfl
theorem q2392 : (Jvm.Cond.methodLink "PaperStoreLaw" (57 : Nat) ({ cls := "PaperStore", name := "ranked", desc := "(I)I" } : Jvm.MethodName)) ∈ lw_all := lw_g (lw_at lw_m10 133 rfl) rfl
theorem q2401 : (Jvm.Cond.methodLink "PaperStoreLaw" (196 : Nat) ({ cls := "PaperStoreLaw", name := "order", desc := "(LPaperStore;III[J)I" } : Jvm.MethodName)) ∈ lw_all := lw_g (lw_at lw_m10 142 rfl) rfl
theorem q2402 : (Jvm.Cond.static ({ cls := "PaperStoreLaw", name := "order", desc := "(LPaperStore;III[J)I" } : Jvm.MethodName)) ∈ lw_all := lw_g (lw_at lw_m10 143 rfl) rfl
theorem q2403 : (Jvm.Cond.codeWith ({ cls := "PaperStoreLaw", name := "order", desc := "(LPaperStore;III[J)I" } : Jvm.MethodName) method_16_code (6 : Nat) (Option.some Jvm.ClassFile.FieldType.int) [((0 : Nat), (12 : Nat), (15 : Nat), (13 : Nat)), ((0 : Nat), (12 : Nat), (19 : Nat), (15 : Nat))]) ∈ lw_all := lw_g (lw_at lw_m10 144 rfl) rfl
theorem q2404 : (Jvm.Cond.methodLink "PaperStoreLaw" (60 : Nat) ({ cls := "PaperStore", name := "order", desc := "(III)I" } : Jvm.MethodName)) ∈ lw_all := lw_g (lw_at lw_m10 145 rfl) rfl
theorem q2413 : (Jvm.Cond.methodLink "PaperStoreLaw" (200 : Nat) ({ cls := "PaperStoreLaw", name := "cancel", desc := "(LPaperStore;I[J)I" } : Jvm.MethodName)) ∈ lw_all := lw_g (lw_at lw_m10 154 rfl) rfl
theorem q2414 : (Jvm.Cond.static ({ cls := "PaperStoreLaw", name := "cancel", desc := "(LPaperStore;I[J)I" } : Jvm.MethodName)) ∈ lw_all := lw_g (lw_at lw_m10 155 rfl) rfl
theorem q2415 : (Jvm.Cond.codeWith ({ cls := "PaperStoreLaw", name := "cancel", desc := "(LPaperStore;I[J)I" } : Jvm.MethodName) method_17_code (4 : Nat) (Option.some Jvm.ClassFile.FieldType.int) [((0 : Nat), (9 : Nat), (12 : Nat), (21 : Nat)), ((0 : Nat), (9 : Nat), (15 : Nat), (15 : Nat))]) ∈ lw_all := lw_g (lw_at lw_m10 156 rfl) rfl
theorem q2416 : (Jvm.Cond.methodLink "PaperStoreLaw" (64 : Nat) ({ cls := "PaperStore", name := "cancel", desc := "(I)I" } : Jvm.MethodName)) ∈ lw_all := lw_g (lw_at lw_m10 157 rfl) rfl
theorem q2449 : (Jvm.Cond.methodLink "PaperStoreLaw" (203 : Nat) ({ cls := "PaperStoreLaw", name := "cart", desc := "(LPaperStore;I[J)I" } : Jvm.MethodName)) ∈ lw_all := lw_g (lw_at lw_m10 190 rfl) rfl
theorem q2450 : (Jvm.Cond.static ({ cls := "PaperStoreLaw", name := "cart", desc := "(LPaperStore;I[J)I" } : Jvm.MethodName)) ∈ lw_all := lw_g (lw_at lw_m10 191 rfl) rfl
theorem q2451 : (Jvm.Cond.codeWith ({ cls := "PaperStoreLaw", name := "cart", desc := "(LPaperStore;I[J)I" } : Jvm.MethodName) method_18_code (4 : Nat) (Option.some Jvm.ClassFile.FieldType.int) [((0 : Nat), (9 : Nat), (12 : Nat), (13 : Nat)), ((0 : Nat), (9 : Nat), (15 : Nat), (15 : Nat))]) ∈ lw_all := lw_g (lw_at lw_m10 192 rfl) rfl
theorem q2452 : (Jvm.Cond.methodLink "PaperStoreLaw" (67 : Nat) ({ cls := "PaperStore", name := "cart", desc := "(I)I" } : Jvm.MethodName)) ∈ lw_all := lw_g (lw_at lw_m10 193 rfl) rfl
theorem q2461 : (Jvm.Cond.methodLink "PaperStoreLaw" (206 : Nat) ({ cls := "PaperStoreLaw", name := "gather", desc := "(LPaperStore;III[J)I" } : Jvm.MethodName)) ∈ lw_all := lw_g (lw_at lw_m10 202 rfl) rfl
theorem q2462 : (Jvm.Cond.static ({ cls := "PaperStoreLaw", name := "gather", desc := "(LPaperStore;III[J)I" } : Jvm.MethodName)) ∈ lw_all := lw_g (lw_at lw_m10 203 rfl) rfl
theorem q2463 : (Jvm.Cond.codeWith ({ cls := "PaperStoreLaw", name := "gather", desc := "(LPaperStore;III[J)I" } : Jvm.MethodName) method_19_code (6 : Nat) (Option.some Jvm.ClassFile.FieldType.int) [((0 : Nat), (12 : Nat), (15 : Nat), (21 : Nat)), ((0 : Nat), (12 : Nat), (19 : Nat), (15 : Nat))]) ∈ lw_all := lw_g (lw_at lw_m10 204 rfl) rfl
theorem q2464 : (Jvm.Cond.methodLink "PaperStoreLaw" (70 : Nat) ({ cls := "PaperStore", name := "gather", desc := "(III)I" } : Jvm.MethodName)) ∈ lw_all := lw_g (lw_at lw_m10 205 rfl) rfl
theorem q2496 : (Jvm.Cond.methodLink "PaperStoreLaw" (209 : Nat) ({ cls := "PaperStoreLaw", name := "send", desc := "(LPaperStore;I[J)I" } : Jvm.MethodName)) ∈ lw_all := lw_g (lw_at lw_m10 237 rfl) rfl
theorem q2497 : (Jvm.Cond.static ({ cls := "PaperStoreLaw", name := "send", desc := "(LPaperStore;I[J)I" } : Jvm.MethodName)) ∈ lw_all := lw_g (lw_at lw_m10 238 rfl) rfl
theorem q2498 : (Jvm.Cond.codeWith ({ cls := "PaperStoreLaw", name := "send", desc := "(LPaperStore;I[J)I" } : Jvm.MethodName) method_20_code (4 : Nat) (Option.some Jvm.ClassFile.FieldType.int) [((0 : Nat), (9 : Nat), (12 : Nat), (21 : Nat)), ((0 : Nat), (9 : Nat), (15 : Nat), (15 : Nat))]) ∈ lw_all := lw_g (lw_at lw_m10 239 rfl) rfl
theorem q2499 : (Jvm.Cond.methodLink "PaperStoreLaw" (73 : Nat) ({ cls := "PaperStore", name := "send", desc := "(I)I" } : Jvm.MethodName)) ∈ lw_all := lw_g (lw_at lw_m11 0 rfl) rfl
theorem q2553 : (Jvm.Cond.methodLink "PaperStoreLaw" (212 : Nat) ({ cls := "PaperStoreLaw", name := "orderOf", desc := "(LPaperStore;II[J)I" } : Jvm.MethodName)) ∈ lw_all := lw_g (lw_at lw_m11 54 rfl) rfl
theorem q2554 : (Jvm.Cond.static ({ cls := "PaperStoreLaw", name := "orderOf", desc := "(LPaperStore;II[J)I" } : Jvm.MethodName)) ∈ lw_all := lw_g (lw_at lw_m11 55 rfl) rfl
theorem q2555 : (Jvm.Cond.codeWith ({ cls := "PaperStoreLaw", name := "orderOf", desc := "(LPaperStore;II[J)I" } : Jvm.MethodName) method_21_code (5 : Nat) (Option.some Jvm.ClassFile.FieldType.int) [((0 : Nat), (10 : Nat), (13 : Nat), (21 : Nat)), ((0 : Nat), (10 : Nat), (17 : Nat), (13 : Nat))]) ∈ lw_all := lw_g (lw_at lw_m11 56 rfl) rfl
theorem q2556 : (Jvm.Cond.methodLink "PaperStoreLaw" (76 : Nat) ({ cls := "PaperStore", name := "orderOf", desc := "(II)I" } : Jvm.MethodName)) ∈ lw_all := lw_g (lw_at lw_m11 57 rfl) rfl
theorem q2560 : (Jvm.Cond.methodLink "PaperStoreLaw" (215 : Nat) ({ cls := "PaperStoreLaw", name := "lacking", desc := "(LPaperStore;I[J)I" } : Jvm.MethodName)) ∈ lw_all := lw_g (lw_at lw_m11 61 rfl) rfl
theorem q2561 : (Jvm.Cond.static ({ cls := "PaperStoreLaw", name := "lacking", desc := "(LPaperStore;I[J)I" } : Jvm.MethodName)) ∈ lw_all := lw_g (lw_at lw_m11 62 rfl) rfl
theorem q2562 : (Jvm.Cond.codeWith ({ cls := "PaperStoreLaw", name := "lacking", desc := "(LPaperStore;I[J)I" } : Jvm.MethodName) method_22_code (4 : Nat) (Option.some Jvm.ClassFile.FieldType.int) [((0 : Nat), (9 : Nat), (12 : Nat), (21 : Nat))]) ∈ lw_all := lw_g (lw_at lw_m11 63 rfl) rfl
theorem q2563 : (Jvm.Cond.methodLink "PaperStoreLaw" (79 : Nat) ({ cls := "PaperStore", name := "lacking", desc := "(I)I" } : Jvm.MethodName)) ∈ lw_all := lw_g (lw_at lw_m11 64 rfl) rfl
theorem q2579 : (Jvm.Cond.methodLink "PaperStoreLaw" (218 : Nat) ({ cls := "PaperStoreLaw", name := "bestLadder", desc := "(LPaperStore;I[J)I" } : Jvm.MethodName)) ∈ lw_all := lw_g (lw_at lw_m11 80 rfl) rfl
theorem q2580 : (Jvm.Cond.static ({ cls := "PaperStoreLaw", name := "bestLadder", desc := "(LPaperStore;I[J)I" } : Jvm.MethodName)) ∈ lw_all := lw_g (lw_at lw_m11 81 rfl) rfl
theorem q2581 : (Jvm.Cond.codeWith ({ cls := "PaperStoreLaw", name := "bestLadder", desc := "(LPaperStore;I[J)I" } : Jvm.MethodName) method_23_code (4 : Nat) (Option.some Jvm.ClassFile.FieldType.int) [((0 : Nat), (9 : Nat), (12 : Nat), (21 : Nat)), ((0 : Nat), (9 : Nat), (15 : Nat), (37 : Nat))]) ∈ lw_all := lw_g (lw_at lw_m11 82 rfl) rfl
theorem q2582 : (Jvm.Cond.methodLink "PaperStoreLaw" (82 : Nat) ({ cls := "PaperStore", name := "bestLadder", desc := "(I)I" } : Jvm.MethodName)) ∈ lw_all := lw_g (lw_at lw_m11 83 rfl) rfl
theorem q2590 : (Jvm.Cond.methodLink "PaperStoreLaw" (221 : Nat) ({ cls := "PaperStoreLaw", name := "cartOf", desc := "(LPaperStore;II[J)I" } : Jvm.MethodName)) ∈ lw_all := lw_g (lw_at lw_m11 91 rfl) rfl
theorem q2591 : (Jvm.Cond.static ({ cls := "PaperStoreLaw", name := "cartOf", desc := "(LPaperStore;II[J)I" } : Jvm.MethodName)) ∈ lw_all := lw_g (lw_at lw_m11 92 rfl) rfl
theorem q2592 : (Jvm.Cond.codeWith ({ cls := "PaperStoreLaw", name := "cartOf", desc := "(LPaperStore;II[J)I" } : Jvm.MethodName) method_24_code (5 : Nat) (Option.some Jvm.ClassFile.FieldType.int) [((0 : Nat), (10 : Nat), (13 : Nat), (21 : Nat)), ((0 : Nat), (10 : Nat), (17 : Nat), (13 : Nat))]) ∈ lw_all := lw_g (lw_at lw_m11 93 rfl) rfl
theorem q2593 : (Jvm.Cond.methodLink "PaperStoreLaw" (85 : Nat) ({ cls := "PaperStore", name := "cartOf", desc := "(II)I" } : Jvm.MethodName)) ∈ lw_all := lw_g (lw_at lw_m11 94 rfl) rfl
theorem q2597 : (Jvm.Cond.methodLink "PaperStoreLaw" (224 : Nat) ({ cls := "PaperStoreLaw", name := "stock", desc := "(LPaperStore;IIZ[J)I" } : Jvm.MethodName)) ∈ lw_all := lw_g (lw_at lw_m11 98 rfl) rfl
theorem q2598 : (Jvm.Cond.static ({ cls := "PaperStoreLaw", name := "stock", desc := "(LPaperStore;IIZ[J)I" } : Jvm.MethodName)) ∈ lw_all := lw_g (lw_at lw_m11 99 rfl) rfl
theorem q2599 : (Jvm.Cond.codeWith ({ cls := "PaperStoreLaw", name := "stock", desc := "(LPaperStore;IIZ[J)I" } : Jvm.MethodName) method_25_code (6 : Nat) (Option.some Jvm.ClassFile.FieldType.int) [((0 : Nat), (12 : Nat), (15 : Nat), (13 : Nat))]) ∈ lw_all := lw_g (lw_at lw_m11 100 rfl) rfl
theorem q2600 : (Jvm.Cond.methodLink "PaperStoreLaw" (88 : Nat) ({ cls := "PaperStore", name := "stock", desc := "(IIZ)I" } : Jvm.MethodName)) ∈ lw_all := lw_g (lw_at lw_m11 101 rfl) rfl
theorem q2605 : (Jvm.Cond.methodLink "PaperStoreLaw" (228 : Nat) ({ cls := "PaperStoreLaw", name := "sent", desc := "(LPaperStore;II[J)I" } : Jvm.MethodName)) ∈ lw_all := lw_g (lw_at lw_m11 106 rfl) rfl
theorem q2606 : (Jvm.Cond.static ({ cls := "PaperStoreLaw", name := "sent", desc := "(LPaperStore;II[J)I" } : Jvm.MethodName)) ∈ lw_all := lw_g (lw_at lw_m11 107 rfl) rfl
theorem q2607 : (Jvm.Cond.codeWith ({ cls := "PaperStoreLaw", name := "sent", desc := "(LPaperStore;II[J)I" } : Jvm.MethodName) method_26_code (5 : Nat) (Option.some Jvm.ClassFile.FieldType.int) [((0 : Nat), (10 : Nat), (13 : Nat), (13 : Nat))]) ∈ lw_all := lw_g (lw_at lw_m11 108 rfl) rfl
theorem q2608 : (Jvm.Cond.methodLink "PaperStoreLaw" (92 : Nat) ({ cls := "PaperStore", name := "sent", desc := "(II)I" } : Jvm.MethodName)) ∈ lw_all := lw_g (lw_at lw_m11 109 rfl) rfl
theorem q2615 : (Jvm.Cond.methodLink "PaperStoreLaw" (231 : Nat) ({ cls := "PaperStoreLaw", name := "bestPaper", desc := "(LPaperStore;[J)I" } : Jvm.MethodName)) ∈ lw_all := lw_g (lw_at lw_m11 116 rfl) rfl
theorem q2616 : (Jvm.Cond.static ({ cls := "PaperStoreLaw", name := "bestPaper", desc := "(LPaperStore;[J)I" } : Jvm.MethodName)) ∈ lw_all := lw_g (lw_at lw_m11 117 rfl) rfl
theorem q2617 : (Jvm.Cond.codeWith ({ cls := "PaperStoreLaw", name := "bestPaper", desc := "(LPaperStore;[J)I" } : Jvm.MethodName) method_27_code (3 : Nat) (Option.some Jvm.ClassFile.FieldType.int) [((0 : Nat), (8 : Nat), (11 : Nat), (37 : Nat))]) ∈ lw_all := lw_g (lw_at lw_m11 118 rfl) rfl
theorem q2618 : (Jvm.Cond.methodLink "PaperStoreLaw" (95 : Nat) ({ cls := "PaperStore", name := "bestPaper", desc := "()I" } : Jvm.MethodName)) ∈ lw_all := lw_g (lw_at lw_m11 119 rfl) rfl
theorem q2636 : (Jvm.Cond.methodLink "PaperStoreLaw" (239 : Nat) ({ cls := "PaperStoreLaw", name := "days", desc := "(LPaperStore;I[J)I" } : Jvm.MethodName)) ∈ lw_all := lw_g (lw_at lw_m11 137 rfl) rfl
theorem q2637 : (Jvm.Cond.static ({ cls := "PaperStoreLaw", name := "days", desc := "(LPaperStore;I[J)I" } : Jvm.MethodName)) ∈ lw_all := lw_g (lw_at lw_m11 138 rfl) rfl
theorem q2638 : (Jvm.Cond.codeWith ({ cls := "PaperStoreLaw", name := "days", desc := "(LPaperStore;I[J)I" } : Jvm.MethodName) method_28_code (4 : Nat) (Option.some Jvm.ClassFile.FieldType.int) [((0 : Nat), (9 : Nat), (12 : Nat), (13 : Nat))]) ∈ lw_all := lw_g (lw_at lw_m11 139 rfl) rfl
theorem q2639 : (Jvm.Cond.methodLink "PaperStoreLaw" (99 : Nat) ({ cls := "PaperStore", name := "days", desc := "(I)I" } : Jvm.MethodName)) ∈ lw_all := lw_g (lw_at lw_m11 140 rfl) rfl
theorem q2661 : (Jvm.Cond.methodLink "PaperStoreLaw" (242 : Nat) ({ cls := "PaperStoreLaw", name := "tell", desc := "(LPaperStore;I[J)I" } : Jvm.MethodName)) ∈ lw_all := lw_g (lw_at lw_m11 162 rfl) rfl
theorem q2662 : (Jvm.Cond.static ({ cls := "PaperStoreLaw", name := "tell", desc := "(LPaperStore;I[J)I" } : Jvm.MethodName)) ∈ lw_all := lw_g (lw_at lw_m11 163 rfl) rfl
theorem q2663 : (Jvm.Cond.codeWith ({ cls := "PaperStoreLaw", name := "tell", desc := "(LPaperStore;I[J)I" } : Jvm.MethodName) method_29_code (4 : Nat) (Option.some Jvm.ClassFile.FieldType.int) [((0 : Nat), (9 : Nat), (12 : Nat), (13 : Nat))]) ∈ lw_all := lw_g (lw_at lw_m11 164 rfl) rfl
theorem q2664 : (Jvm.Cond.methodLink "PaperStoreLaw" (102 : Nat) ({ cls := "PaperStore", name := "tell", desc := "(I)I" } : Jvm.MethodName)) ∈ lw_all := lw_g (lw_at lw_m11 165 rfl) rfl
theorem q2734 : (Jvm.Cond.methodLink "PaperStoreLaw" (245 : Nat) ({ cls := "PaperStoreLaw", name := "character", desc := "(LPaperStore;I[J)I" } : Jvm.MethodName)) ∈ lw_all := lw_g (lw_at lw_m11 235 rfl) rfl
theorem q2735 : (Jvm.Cond.static ({ cls := "PaperStoreLaw", name := "character", desc := "(LPaperStore;I[J)I" } : Jvm.MethodName)) ∈ lw_all := lw_g (lw_at lw_m11 236 rfl) rfl
theorem q2736 : (Jvm.Cond.codeWith ({ cls := "PaperStoreLaw", name := "character", desc := "(LPaperStore;I[J)I" } : Jvm.MethodName) method_30_code (4 : Nat) (Option.some Jvm.ClassFile.FieldType.int) [((0 : Nat), (9 : Nat), (12 : Nat), (37 : Nat))]) ∈ lw_all := lw_g (lw_at lw_m11 237 rfl) rfl
theorem q2737 : (Jvm.Cond.methodLink "PaperStoreLaw" (105 : Nat) ({ cls := "PaperStore", name := "character", desc := "(I)C" } : Jvm.MethodName)) ∈ lw_all := lw_g (lw_at lw_m11 238 rfl) rfl
theorem q2754 : (Jvm.Cond.methodLink "PaperStoreLaw" (248 : Nat) ({ cls := "PaperStoreLaw", name := "meanDamp", desc := "(LPaperStore;[D)I" } : Jvm.MethodName)) ∈ lw_all := lw_g (lw_at lw_m12 15 rfl) rfl
theorem q2755 : (Jvm.Cond.static ({ cls := "PaperStoreLaw", name := "meanDamp", desc := "(LPaperStore;[D)I" } : Jvm.MethodName)) ∈ lw_all := lw_g (lw_at lw_m12 16 rfl) rfl
theorem q2756 : (Jvm.Cond.codeWith ({ cls := "PaperStoreLaw", name := "meanDamp", desc := "(LPaperStore;[D)I" } : Jvm.MethodName) method_31_code (3 : Nat) (Option.some Jvm.ClassFile.FieldType.int) [((0 : Nat), (8 : Nat), (11 : Nat), (113 : Nat))]) ∈ lw_all := lw_g (lw_at lw_m12 17 rfl) rfl
theorem q2757 : (Jvm.Cond.classLink "PaperStoreLaw" (113 : Nat) "java/lang/ArithmeticException") ∈ lw_all := lw_g (lw_at lw_m12 18 rfl) rfl
theorem q2771 : (Jvm.Cond.methodLink "PaperStoreLaw" (109 : Nat) ({ cls := "PaperStore", name := "meanDamp", desc := "()F" } : Jvm.MethodName)) ∈ lw_all := lw_g (lw_at lw_m12 32 rfl) rfl
theorem q2783 : (Jvm.Cond.methodLink "PaperStoreLaw" (252 : Nat) ({ cls := "PaperStoreLaw", name := "eatenShare", desc := "(LPaperStore;[D)I" } : Jvm.MethodName)) ∈ lw_all := lw_g (lw_at lw_m12 44 rfl) rfl
theorem q2784 : (Jvm.Cond.static ({ cls := "PaperStoreLaw", name := "eatenShare", desc := "(LPaperStore;[D)I" } : Jvm.MethodName)) ∈ lw_all := lw_g (lw_at lw_m12 45 rfl) rfl
theorem q2785 : (Jvm.Cond.codeWith ({ cls := "PaperStoreLaw", name := "eatenShare", desc := "(LPaperStore;[D)I" } : Jvm.MethodName) method_32_code (3 : Nat) (Option.some Jvm.ClassFile.FieldType.int) [((0 : Nat), (7 : Nat), (10 : Nat), (113 : Nat))]) ∈ lw_all := lw_g (lw_at lw_m12 46 rfl) rfl
theorem q2786 : (Jvm.Cond.methodLink "PaperStoreLaw" (115 : Nat) ({ cls := "PaperStore", name := "eatenShare", desc := "()D" } : Jvm.MethodName)) ∈ lw_all := lw_g (lw_at lw_m12 47 rfl) rfl
theorem q2790 : (Jvm.Cond.methodLink "PaperStoreLaw" (255 : Nat) ({ cls := "PaperStoreLaw", name := "account", desc := "(LPaperStore;I[J)I" } : Jvm.MethodName)) ∈ lw_all := lw_g (lw_at lw_m12 51 rfl) rfl
theorem q2791 : (Jvm.Cond.static ({ cls := "PaperStoreLaw", name := "account", desc := "(LPaperStore;I[J)I" } : Jvm.MethodName)) ∈ lw_all := lw_g (lw_at lw_m12 52 rfl) rfl
theorem q2792 : (Jvm.Cond.codeWith ({ cls := "PaperStoreLaw", name := "account", desc := "(LPaperStore;I[J)I" } : Jvm.MethodName) method_33_code (4 : Nat) (Option.some Jvm.ClassFile.FieldType.int) [((0 : Nat), (9 : Nat), (12 : Nat), (13 : Nat))]) ∈ lw_all := lw_g (lw_at lw_m12 53 rfl) rfl
theorem q2793 : (Jvm.Cond.methodLink "PaperStoreLaw" (119 : Nat) ({ cls := "PaperStore", name := "account", desc := "(I)I" } : Jvm.MethodName)) ∈ lw_all := lw_g (lw_at lw_m12 54 rfl) rfl
theorem q2809 : (Jvm.Cond.methodLink "PaperStoreLaw" (262 : Nat) ({ cls := "PaperStoreLaw", name := "append", desc := "(LPaperStore;C[J)I" } : Jvm.MethodName)) ∈ lw_all := lw_g (lw_at lw_m12 70 rfl) rfl
theorem q2810 : (Jvm.Cond.static ({ cls := "PaperStoreLaw", name := "append", desc := "(LPaperStore;C[J)I" } : Jvm.MethodName)) ∈ lw_all := lw_g (lw_at lw_m12 71 rfl) rfl
theorem q2811 : (Jvm.Cond.codeWith ({ cls := "PaperStoreLaw", name := "append", desc := "(LPaperStore;C[J)I" } : Jvm.MethodName) method_34_code (4 : Nat) (Option.some Jvm.ClassFile.FieldType.int) [((0 : Nat), (9 : Nat), (12 : Nat), (13 : Nat)), ((0 : Nat), (9 : Nat), (15 : Nat), (126 : Nat))]) ∈ lw_all := lw_g (lw_at lw_m12 72 rfl) rfl
theorem q2812 : (Jvm.Cond.classLink "PaperStoreLaw" (126 : Nat) "java/lang/IllegalStateException") ∈ lw_all := lw_g (lw_at lw_m12 73 rfl) rfl
theorem q2813 : (Jvm.Cond.methodLink "PaperStoreLaw" (122 : Nat) ({ cls := "PaperStore", name := "append", desc := "(C)I" } : Jvm.MethodName)) ∈ lw_all := lw_g (lw_at lw_m12 74 rfl) rfl
theorem q2835 : (Jvm.Cond.methodLink "PaperStoreLaw" (266 : Nat) ({ cls := "PaperStoreLaw", name := "read", desc := "(LPaperStore;[J)I" } : Jvm.MethodName)) ∈ lw_all := lw_g (lw_at lw_m12 96 rfl) rfl
theorem q2836 : (Jvm.Cond.static ({ cls := "PaperStoreLaw", name := "read", desc := "(LPaperStore;[J)I" } : Jvm.MethodName)) ∈ lw_all := lw_g (lw_at lw_m12 97 rfl) rfl
theorem q2837 : (Jvm.Cond.codeWith ({ cls := "PaperStoreLaw", name := "read", desc := "(LPaperStore;[J)I" } : Jvm.MethodName) method_35_code (3 : Nat) (Option.some Jvm.ClassFile.FieldType.int) [((0 : Nat), (8 : Nat), (11 : Nat), (13 : Nat)), ((0 : Nat), (8 : Nat), (14 : Nat), (126 : Nat)), ((0 : Nat), (8 : Nat), (17 : Nat), (15 : Nat))]) ∈ lw_all := lw_g (lw_at lw_m12 98 rfl) rfl
theorem q2838 : (Jvm.Cond.methodLink "PaperStoreLaw" (128 : Nat) ({ cls := "PaperStore", name := "read", desc := "()I" } : Jvm.MethodName)) ∈ lw_all := lw_g (lw_at lw_m12 99 rfl) rfl
theorem q3594 : (Jvm.Cond.methodLink "PaperStoreLaw" (269 : Nat) ({ cls := "PaperStoreLaw", name := "errorPosition", desc := "(LPaperStore;[J)I" } : Jvm.MethodName)) ∈ lw_all := lw_g (lw_at lw_m15 135 rfl) rfl
theorem q3595 : (Jvm.Cond.static ({ cls := "PaperStoreLaw", name := "errorPosition", desc := "(LPaperStore;[J)I" } : Jvm.MethodName)) ∈ lw_all := lw_g (lw_at lw_m15 136 rfl) rfl
theorem q3596 : (Jvm.Cond.codeWith ({ cls := "PaperStoreLaw", name := "errorPosition", desc := "(LPaperStore;[J)I" } : Jvm.MethodName) method_36_code (3 : Nat) (Option.some Jvm.ClassFile.FieldType.int) [((0 : Nat), (8 : Nat), (11 : Nat), (37 : Nat))]) ∈ lw_all := lw_g (lw_at lw_m15 137 rfl) rfl
theorem q3597 : (Jvm.Cond.methodLink "PaperStoreLaw" (131 : Nat) ({ cls := "PaperStore", name := "errorPosition", desc := "()I" } : Jvm.MethodName)) ∈ lw_all := lw_g (lw_at lw_m15 138 rfl) rfl
theorem q3601 : (Jvm.Cond.methodLink "PaperStoreLaw" (272 : Nat) ({ cls := "PaperStoreLaw", name := "reason", desc := "(LPaperStore;Z[J)I" } : Jvm.MethodName)) ∈ lw_all := lw_g (lw_at lw_m15 142 rfl) rfl
theorem q3602 : (Jvm.Cond.static ({ cls := "PaperStoreLaw", name := "reason", desc := "(LPaperStore;Z[J)I" } : Jvm.MethodName)) ∈ lw_all := lw_g (lw_at lw_m15 143 rfl) rfl
theorem q3603 : (Jvm.Cond.codeWith ({ cls := "PaperStoreLaw", name := "reason", desc := "(LPaperStore;Z[J)I" } : Jvm.MethodName) method_37_code (4 : Nat) (Option.some Jvm.ClassFile.FieldType.int) [((0 : Nat), (9 : Nat), (12 : Nat), (37 : Nat))]) ∈ lw_all := lw_g (lw_at lw_m15 144 rfl) rfl
theorem q3604 : (Jvm.Cond.methodLink "PaperStoreLaw" (134 : Nat) ({ cls := "PaperStore", name := "reason", desc := "(Z)I" } : Jvm.MethodName)) ∈ lw_all := lw_g (lw_at lw_m15 145 rfl) rfl
theorem q3608 : (Jvm.Cond.methodLink "PaperStoreLaw" (276 : Nat) ({ cls := "PaperStoreLaw", name := "undo", desc := "(LPaperStore;[J)I" } : Jvm.MethodName)) ∈ lw_all := lw_g (lw_at lw_m15 149 rfl) rfl
theorem q3609 : (Jvm.Cond.static ({ cls := "PaperStoreLaw", name := "undo", desc := "(LPaperStore;[J)I" } : Jvm.MethodName)) ∈ lw_all := lw_g (lw_at lw_m15 150 rfl) rfl
theorem q3610 : (Jvm.Cond.codeWith ({ cls := "PaperStoreLaw", name := "undo", desc := "(LPaperStore;[J)I" } : Jvm.MethodName) method_38_code (3 : Nat) (Option.some Jvm.ClassFile.FieldType.int) [((0 : Nat), (8 : Nat), (11 : Nat), (37 : Nat))]) ∈ lw_all := lw_g (lw_at lw_m15 151 rfl) rfl
theorem q3611 : (Jvm.Cond.methodLink "PaperStoreLaw" (138 : Nat) ({ cls := "PaperStore", name := "undo", desc := "()I" } : Jvm.MethodName)) ∈ lw_all := lw_g (lw_at lw_m15 152 rfl) rfl
theorem q3615 : (Jvm.Cond.methodLink "PaperStoreLaw" (283 : Nat) ({ cls := "PaperStoreLaw", name := "restore", desc := "(LPaperStore;[J)I" } : Jvm.MethodName)) ∈ lw_all := lw_g (lw_at lw_m15 156 rfl) rfl
theorem q3616 : (Jvm.Cond.static ({ cls := "PaperStoreLaw", name := "restore", desc := "(LPaperStore;[J)I" } : Jvm.MethodName)) ∈ lw_all := lw_g (lw_at lw_m15 157 rfl) rfl
theorem q3617 : (Jvm.Cond.codeWith ({ cls := "PaperStoreLaw", name := "restore", desc := "(LPaperStore;[J)I" } : Jvm.MethodName) method_39_code (3 : Nat) (Option.some Jvm.ClassFile.FieldType.int) [((0 : Nat), (8 : Nat), (11 : Nat), (126 : Nat))]) ∈ lw_all := lw_g (lw_at lw_m15 158 rfl) rfl
theorem q3618 : (Jvm.Cond.methodLink "PaperStoreLaw" (141 : Nat) ({ cls := "PaperStore", name := "restore", desc := "()I" } : Jvm.MethodName)) ∈ lw_all := lw_g (lw_at lw_m15 159 rfl) rfl
theorem q3626 : (Jvm.Cond.classLink "PaperStoreLaw" (145 : Nat) "PaperStoreModel") ∈ lw_all := lw_g (lw_at lw_m15 167 rfl) rfl
theorem q3628 : (Jvm.Cond.methodLink "PaperStoreLaw" (147 : Nat) ({ cls := "PaperStoreModel", name := "<init>", desc := "()V" } : Jvm.MethodName)) ∈ lw_all := lw_g (lw_at lw_m15 169 rfl) rfl
theorem q3681 : (Jvm.Cond.methodLink "PaperStoreLaw" (154 : Nat) ({ cls := "PaperStoreModel", name := "thrown", desc := "()I" } : Jvm.MethodName)) ∈ lw_all := lw_g (lw_at lw_m15 222 rfl) rfl
theorem q3685 : (Jvm.Cond.methodLink "PaperStoreLaw" (275 : Nat) ({ cls := "PaperStoreModel", name := "reason", desc := "(Z)I" } : Jvm.MethodName)) ∈ lw_all := lw_g (lw_at lw_m15 226 rfl) rfl
theorem q3689 : (Jvm.Cond.methodLink "PaperStoreLaw" (153 : Nat) ({ cls := "PaperStoreModel", name := "ladder", desc := "(I)I" } : Jvm.MethodName)) ∈ lw_all := lw_g (lw_at lw_m15 230 rfl) rfl
theorem q3720 : (Jvm.Cond.methodLink "PaperStoreLaw" (160 : Nat) ({ cls := "PaperStoreModel", name := "push", desc := "(II)I" } : Jvm.MethodName)) ∈ lw_all := lw_g (lw_at lw_m16 21 rfl) rfl
theorem q3739 : (Jvm.Cond.methodLink "PaperStoreLaw" (168 : Nat) ({ cls := "PaperStoreModel", name := "ladderOf", desc := "(IZ)I" } : Jvm.MethodName)) ∈ lw_all := lw_g (lw_at lw_m16 40 rfl) rfl
theorem q3743 : (Jvm.Cond.methodLink "PaperStoreLaw" (164 : Nat) ({ cls := "PaperStoreModel", name := "store", desc := "(IIIII)I" } : Jvm.MethodName)) ∈ lw_all := lw_g (lw_at lw_m16 44 rfl) rfl
theorem q3769 : (Jvm.Cond.methodLink "PaperStoreLaw" (171 : Nat) ({ cls := "PaperStoreModel", name := "reamOf", desc := "(II)I" } : Jvm.MethodName)) ∈ lw_all := lw_g (lw_at lw_m16 70 rfl) rfl
theorem q3777 : (Jvm.Cond.methodLink "PaperStoreLaw" (174 : Nat) ({ cls := "PaperStoreModel", name := "top", desc := "(II)I" } : Jvm.MethodName)) ∈ lw_all := lw_g (lw_at lw_m16 78 rfl) rfl
theorem q3789 : (Jvm.Cond.methodLink "PaperStoreLaw" (177 : Nat) ({ cls := "PaperStoreModel", name := "wavyIn", desc := "(I)I" } : Jvm.MethodName)) ∈ lw_all := lw_g (lw_at lw_m16 90 rfl) rfl
theorem q3804 : (Jvm.Cond.methodLink "PaperStoreLaw" (180 : Nat) ({ cls := "PaperStoreModel", name := "air", desc := "(II)I" } : Jvm.MethodName)) ∈ lw_all := lw_g (lw_at lw_m16 105 rfl) rfl
theorem q3820 : (Jvm.Cond.methodLink "PaperStoreLaw" (183 : Nat) ({ cls := "PaperStoreModel", name := "mice", desc := "(II)I" } : Jvm.MethodName)) ∈ lw_all := lw_g (lw_at lw_m16 121 rfl) rfl
theorem q3831 : (Jvm.Cond.methodLink "PaperStoreLaw" (186 : Nat) ({ cls := "PaperStoreModel", name := "trap", desc := "(II)I" } : Jvm.MethodName)) ∈ lw_all := lw_g (lw_at lw_m16 132 rfl) rfl
theorem q3839 : (Jvm.Cond.methodLink "PaperStoreLaw" (189 : Nat) ({ cls := "PaperStoreModel", name := "aisleOf", desc := "(II)I" } : Jvm.MethodName)) ∈ lw_all := lw_g (lw_at lw_m16 140 rfl) rfl
theorem q3847 : (Jvm.Cond.methodLink "PaperStoreLaw" (192 : Nat) ({ cls := "PaperStoreModel", name := "eatenIn", desc := "(II)I" } : Jvm.MethodName)) ∈ lw_all := lw_g (lw_at lw_m16 148 rfl) rfl
theorem q3867 : (Jvm.Cond.methodLink "PaperStoreLaw" (195 : Nat) ({ cls := "PaperStoreModel", name := "ranked", desc := "(I)I" } : Jvm.MethodName)) ∈ lw_all := lw_g (lw_at lw_m16 168 rfl) rfl
theorem q3875 : (Jvm.Cond.methodLink "PaperStoreLaw" (199 : Nat) ({ cls := "PaperStoreModel", name := "order", desc := "(III)I" } : Jvm.MethodName)) ∈ lw_all := lw_g (lw_at lw_m16 176 rfl) rfl
theorem q3879 : (Jvm.Cond.methodLink "PaperStoreLaw" (202 : Nat) ({ cls := "PaperStoreModel", name := "cancel", desc := "(I)I" } : Jvm.MethodName)) ∈ lw_all := lw_g (lw_at lw_m16 180 rfl) rfl
theorem q3915 : (Jvm.Cond.methodLink "PaperStoreLaw" (205 : Nat) ({ cls := "PaperStoreModel", name := "cart", desc := "(I)I" } : Jvm.MethodName)) ∈ lw_all := lw_g (lw_at lw_m16 216 rfl) rfl
theorem q3919 : (Jvm.Cond.methodLink "PaperStoreLaw" (208 : Nat) ({ cls := "PaperStoreModel", name := "gather", desc := "(III)I" } : Jvm.MethodName)) ∈ lw_all := lw_g (lw_at lw_m16 220 rfl) rfl
theorem q3939 : (Jvm.Cond.methodLink "PaperStoreLaw" (211 : Nat) ({ cls := "PaperStoreModel", name := "send", desc := "(I)I" } : Jvm.MethodName)) ∈ lw_all := lw_g (lw_at lw_m17 0 rfl) rfl
theorem q3947 : (Jvm.Cond.methodLink "PaperStoreLaw" (214 : Nat) ({ cls := "PaperStoreModel", name := "orderOf", desc := "(II)I" } : Jvm.MethodName)) ∈ lw_all := lw_g (lw_at lw_m17 8 rfl) rfl
theorem q3951 : (Jvm.Cond.methodLink "PaperStoreLaw" (217 : Nat) ({ cls := "PaperStoreModel", name := "lacking", desc := "(I)I" } : Jvm.MethodName)) ∈ lw_all := lw_g (lw_at lw_m17 12 rfl) rfl
theorem q3959 : (Jvm.Cond.methodLink "PaperStoreLaw" (220 : Nat) ({ cls := "PaperStoreModel", name := "bestLadder", desc := "(I)I" } : Jvm.MethodName)) ∈ lw_all := lw_g (lw_at lw_m17 20 rfl) rfl
theorem q3963 : (Jvm.Cond.methodLink "PaperStoreLaw" (223 : Nat) ({ cls := "PaperStoreModel", name := "cartOf", desc := "(II)I" } : Jvm.MethodName)) ∈ lw_all := lw_g (lw_at lw_m17 24 rfl) rfl
theorem q3967 : (Jvm.Cond.methodLink "PaperStoreLaw" (227 : Nat) ({ cls := "PaperStoreModel", name := "stock", desc := "(IIZ)I" } : Jvm.MethodName)) ∈ lw_all := lw_g (lw_at lw_m17 28 rfl) rfl
theorem q3971 : (Jvm.Cond.methodLink "PaperStoreLaw" (230 : Nat) ({ cls := "PaperStoreModel", name := "sent", desc := "(II)I" } : Jvm.MethodName)) ∈ lw_all := lw_g (lw_at lw_m17 32 rfl) rfl
theorem q3975 : (Jvm.Cond.methodLink "PaperStoreLaw" (234 : Nat) ({ cls := "PaperStoreModel", name := "bestPaper", desc := "()I" } : Jvm.MethodName)) ∈ lw_all := lw_g (lw_at lw_m17 36 rfl) rfl
theorem q3979 : (Jvm.Cond.methodLink "PaperStoreLaw" (238 : Nat) ({ cls := "PaperStoreModel", name := "papers", desc := "()I" } : Jvm.MethodName)) ∈ lw_all := lw_g (lw_at lw_m17 40 rfl) rfl
theorem q3983 : (Jvm.Cond.methodLink "PaperStoreLaw" (241 : Nat) ({ cls := "PaperStoreModel", name := "days", desc := "(I)I" } : Jvm.MethodName)) ∈ lw_all := lw_g (lw_at lw_m17 44 rfl) rfl
theorem q3991 : (Jvm.Cond.methodLink "PaperStoreLaw" (244 : Nat) ({ cls := "PaperStoreModel", name := "tell", desc := "(I)I" } : Jvm.MethodName)) ∈ lw_all := lw_g (lw_at lw_m17 52 rfl) rfl
theorem q4003 : (Jvm.Cond.methodLink "PaperStoreLaw" (247 : Nat) ({ cls := "PaperStoreModel", name := "character", desc := "(I)C" } : Jvm.MethodName)) ∈ lw_all := lw_g (lw_at lw_m17 64 rfl) rfl
theorem q4007 : (Jvm.Cond.methodLink "PaperStoreLaw" (251 : Nat) ({ cls := "PaperStoreModel", name := "meanDamp", desc := "()F" } : Jvm.MethodName)) ∈ lw_all := lw_g (lw_at lw_m17 68 rfl) rfl
theorem q4015 : (Jvm.Cond.methodLink "PaperStoreLaw" (254 : Nat) ({ cls := "PaperStoreModel", name := "eatenShare", desc := "()D" } : Jvm.MethodName)) ∈ lw_all := lw_g (lw_at lw_m17 76 rfl) rfl
theorem q4019 : (Jvm.Cond.methodLink "PaperStoreLaw" (257 : Nat) ({ cls := "PaperStoreModel", name := "account", desc := "(I)I" } : Jvm.MethodName)) ∈ lw_all := lw_g (lw_at lw_m17 80 rfl) rfl
theorem q4047 : (Jvm.Cond.methodLink "PaperStoreLaw" (261 : Nat) ({ cls := "PaperStoreModel", name := "quiresAgain", desc := "()I" } : Jvm.MethodName)) ∈ lw_all := lw_g (lw_at lw_m17 108 rfl) rfl
theorem q4051 : (Jvm.Cond.methodLink "PaperStoreLaw" (265 : Nat) ({ cls := "PaperStoreModel", name := "append", desc := "(C)I" } : Jvm.MethodName)) ∈ lw_all := lw_g (lw_at lw_m17 112 rfl) rfl
theorem q4055 : (Jvm.Cond.methodLink "PaperStoreLaw" (268 : Nat) ({ cls := "PaperStoreModel", name := "read", desc := "()I" } : Jvm.MethodName)) ∈ lw_all := lw_g (lw_at lw_m17 116 rfl) rfl
theorem q4091 : (Jvm.Cond.methodLink "PaperStoreLaw" (271 : Nat) ({ cls := "PaperStoreModel", name := "errorPosition", desc := "()I" } : Jvm.MethodName)) ∈ lw_all := lw_g (lw_at lw_m17 152 rfl) rfl
theorem q4095 : (Jvm.Cond.methodLink "PaperStoreLaw" (278 : Nat) ({ cls := "PaperStoreModel", name := "undo", desc := "()I" } : Jvm.MethodName)) ∈ lw_all := lw_g (lw_at lw_m17 156 rfl) rfl
theorem q4099 : (Jvm.Cond.methodLink "PaperStoreLaw" (282 : Nat) ({ cls := "PaperStoreModel", name := "save", desc := "()I" } : Jvm.MethodName)) ∈ lw_all := lw_g (lw_at lw_m17 160 rfl) rfl
theorem q4103 : (Jvm.Cond.methodLink "PaperStoreLaw" (285 : Nat) ({ cls := "PaperStoreModel", name := "restore", desc := "()I" } : Jvm.MethodName)) ∈ lw_all := lw_g (lw_at lw_m17 164 rfl) rfl
/-! PaperStore -/
set_option maxRecDepth 100000
def RX1 : String := "PaperStore"
def TX1 : u_T := fun k => match k with
  | 0 => ("PaperStore", "store", "LPaperStore$Store;", false)
  | 1 => ("PaperStore", "saved", "LPaperStore$Store;", false)
  | 2 => ("PaperStore", "history", "Ljava/util/ArrayList;", true)
  | 3 => ("PaperStore", "input", "[C", true)
  | 4 => ("PaperStore", "line", "Ljava/lang/StringBuilder;", true)
  | 5 => ("PaperStore", "typed", "I", false)
  | 6 => ("PaperStore", "badText", "LPaperStore$BadText;", false)
  | _ => ("PaperStore", "refusal", "LPaperStore$Refusal;", false)
def tyX1 : Nat → FieldType := fun k => match k with
  | 0 => .object "PaperStore$Store"
  | 1 => .object "PaperStore$Store"
  | 2 => .object "java/util/ArrayList"
  | 3 => .array .char
  | 4 => .object "java/lang/StringBuilder"
  | 5 => .int
  | 6 => .object "PaperStore$BadText"
  | _ => .object "PaperStore$Refusal"
abbrev wsX10 : List Cond := u_ws RX1 TX1 8
theorem nmX1 : ∀ a, a < 8 → ∀ b, b < 8 → a ≠ b → (TX1 a).2.1 ≠ (TX1 b).2.1 := by decide +kernel
theorem tyX1_ok : ∀ k, k < 8 → parseFieldDescriptor (TX1 k).2.2.1 = some (tyX1 k) := by decide +kernel
abbrev cX1_init : ByteArray := prog_1_method_11_code
def yX1_init : MethodName := ⟨RX1, "<init>", "()V"⟩
def dkwX1_init_1 : List UInt8 := [181, 0, 43, 42, 16, 60, 188, 5, 181, 0, 47, 42, 187, 0, 51, 89, 183, 0, 53, 181, 0, 54, 177]
abbrev dktX1_init_1 : List UInt8 := dkwX1_init_1 ++ []
def dkwX1_init_0 : List UInt8 := [42, 183, 0, 30, 42, 187, 0, 33, 89, 183, 0, 35, 181, 0, 36, 42, 187, 0, 40, 89, 183, 0, 42]
abbrev dktX1_init_0 : List UInt8 := dkwX1_init_0 ++ dktX1_init_1
theorem dksX1_init_0 : cX1_init.data.toList.drop 0 = dktX1_init_0 := by decide +kernel
theorem dksX1_init_1 : cX1_init.data.toList.drop 23 = dktX1_init_1 := dk_seg dksX1_init_0 23 rfl rfl
theorem dX1_init_0 : decode cX1_init 0 = .ok (.aload_n 0, 1) := dk_42 (dk_at dksX1_init_0 0 rfl rfl)
theorem dX1_init_1 : decode cX1_init 1 = .ok (.invokespecial 30, 3) := dk_183 0 30 (dk_at dksX1_init_0 1 rfl rfl)
theorem dX1_init_4 : decode cX1_init 4 = .ok (.aload_n 0, 1) := dk_42 (dk_at dksX1_init_0 4 rfl rfl)
theorem dX1_init_5 : decode cX1_init 5 = .ok (.new 33, 3) := dk_187 0 33 (dk_at dksX1_init_0 5 rfl rfl)
theorem dX1_init_8 : decode cX1_init 8 = .ok (.dup, 1) := dk_89 (dk_at dksX1_init_0 8 rfl rfl)
theorem dX1_init_9 : decode cX1_init 9 = .ok (.invokespecial 35, 3) := dk_183 0 35 (dk_at dksX1_init_0 9 rfl rfl)
theorem dX1_init_12 : decode cX1_init 12 = .ok (.putfield 36, 3) := dk_181 0 36 (dk_at dksX1_init_0 12 rfl rfl)
theorem dX1_init_15 : decode cX1_init 15 = .ok (.aload_n 0, 1) := dk_42 (dk_at dksX1_init_0 15 rfl rfl)
theorem dX1_init_16 : decode cX1_init 16 = .ok (.new 40, 3) := dk_187 0 40 (dk_at dksX1_init_0 16 rfl rfl)
theorem dX1_init_19 : decode cX1_init 19 = .ok (.dup, 1) := dk_89 (dk_at dksX1_init_0 19 rfl rfl)
theorem dX1_init_20 : decode cX1_init 20 = .ok (.invokespecial 42, 3) := dk_183 0 42 (dk_at dksX1_init_0 20 rfl rfl)
theorem dX1_init_23 : decode cX1_init 23 = .ok (.putfield 43, 3) := dk_181 0 43 (dk_at dksX1_init_1 0 rfl rfl)
theorem dX1_init_26 : decode cX1_init 26 = .ok (.aload_n 0, 1) := dk_42 (dk_at dksX1_init_1 3 rfl rfl)
theorem dX1_init_27 : decode cX1_init 27 = .ok (.bipush 60, 2) := dk_16 60 (dk_at dksX1_init_1 4 rfl rfl)
theorem dX1_init_29 : decode cX1_init 29 = .ok (.newarray .char, 2) := dk_188_5 (dk_at dksX1_init_1 6 rfl rfl)
theorem dX1_init_31 : decode cX1_init 31 = .ok (.putfield 47, 3) := dk_181 0 47 (dk_at dksX1_init_1 8 rfl rfl)
theorem dX1_init_34 : decode cX1_init 34 = .ok (.aload_n 0, 1) := dk_42 (dk_at dksX1_init_1 11 rfl rfl)
theorem dX1_init_35 : decode cX1_init 35 = .ok (.new 51, 3) := dk_187 0 51 (dk_at dksX1_init_1 12 rfl rfl)
theorem dX1_init_38 : decode cX1_init 38 = .ok (.dup, 1) := dk_89 (dk_at dksX1_init_1 15 rfl rfl)
theorem dX1_init_39 : decode cX1_init 39 = .ok (.invokespecial 53, 3) := dk_183 0 53 (dk_at dksX1_init_1 16 rfl rfl)
theorem dX1_init_42 : decode cX1_init 42 = .ok (.putfield 54, 3) := dk_181 0 54 (dk_at dksX1_init_1 19 rfl rfl)
theorem dX1_init_45 : decode cX1_init 45 = .ok (.return_, 1) := dk_177 (dk_at dksX1_init_1 22 rfl rfl)
abbrev cX1_papers : ByteArray := prog_1_method_44_code
def yX1_papers : MethodName := ⟨RX1, "papers", "()I"⟩
def dkwX1_papers_3 : List UInt8 := [120, 128, 61, 43, 29, 4, 96, 182, 1, 111, 62, 167, 255, 238, 28, 172]
abbrev dktX1_papers_3 : List UInt8 := dkwX1_papers_3 ++ []
def dkwX1_papers_2 : List UInt8 := [182, 1, 106, 182, 1, 108, 167, 255, 226, 3, 61, 43, 3, 182, 1, 111, 62, 29, 155, 0, 20, 28, 4, 29]
abbrev dktX1_papers_2 : List UInt8 := dkwX1_papers_2 ++ dktX1_papers_3
def dkwX1_papers_1 : List UInt8 := [185, 1, 97, 1, 0, 153, 0, 27, 44, 185, 1, 102, 1, 0, 192, 0, 112, 78, 43, 45, 180, 0, 189]
abbrev dktX1_papers_1 : List UInt8 := dkwX1_papers_1 ++ dktX1_papers_2
def dkwX1_papers_0 : List UInt8 := [187, 1, 85, 89, 16, 12, 183, 1, 87, 76, 42, 180, 0, 36, 182, 1, 90, 185, 1, 93, 1, 0, 77, 44]
abbrev dktX1_papers_0 : List UInt8 := dkwX1_papers_0 ++ dktX1_papers_1
theorem dksX1_papers_0 : cX1_papers.data.toList.drop 0 = dktX1_papers_0 := by decide +kernel
theorem dksX1_papers_1 : cX1_papers.data.toList.drop 24 = dktX1_papers_1 := dk_seg dksX1_papers_0 24 rfl rfl
theorem dksX1_papers_2 : cX1_papers.data.toList.drop 47 = dktX1_papers_2 := dk_seg dksX1_papers_1 23 rfl rfl
theorem dksX1_papers_3 : cX1_papers.data.toList.drop 71 = dktX1_papers_3 := dk_seg dksX1_papers_2 24 rfl rfl
theorem dX1_papers_0 : decode cX1_papers 0 = .ok (.new 341, 3) := dk_187 1 85 (dk_at dksX1_papers_0 0 rfl rfl)
theorem dX1_papers_3 : decode cX1_papers 3 = .ok (.dup, 1) := dk_89 (dk_at dksX1_papers_0 3 rfl rfl)
theorem dX1_papers_4 : decode cX1_papers 4 = .ok (.bipush 12, 2) := dk_16 12 (dk_at dksX1_papers_0 4 rfl rfl)
theorem dX1_papers_6 : decode cX1_papers 6 = .ok (.invokespecial 343, 3) := dk_183 1 87 (dk_at dksX1_papers_0 6 rfl rfl)
theorem dX1_papers_9 : decode cX1_papers 9 = .ok (.astore_n 1, 1) := dk_76 (dk_at dksX1_papers_0 9 rfl rfl)
theorem dX1_papers_10 : decode cX1_papers 10 = .ok (.aload_n 0, 1) := dk_42 (dk_at dksX1_papers_0 10 rfl rfl)
theorem dX1_papers_11 : decode cX1_papers 11 = .ok (.getfield 36, 3) := dk_180 0 36 (dk_at dksX1_papers_0 11 rfl rfl)
theorem dX1_papers_14 : decode cX1_papers 14 = .ok (.invokevirtual 346, 3) := dk_182 1 90 (dk_at dksX1_papers_0 14 rfl rfl)
theorem dX1_papers_17 : decode cX1_papers 17 = .ok (.invokeinterface 349 1, 5) := by decide +kernel
theorem dX1_papers_22 : decode cX1_papers 22 = .ok (.astore_n 2, 1) := dk_77 (dk_at dksX1_papers_0 22 rfl rfl)
theorem dX1_papers_23 : decode cX1_papers 23 = .ok (.aload_n 2, 1) := dk_44 (dk_at dksX1_papers_0 23 rfl rfl)
theorem dX1_papers_24 : decode cX1_papers 24 = .ok (.invokeinterface 353 1, 5) := by decide +kernel
theorem dX1_papers_29 : decode cX1_papers 29 = .ok (.ifCond .eq 27, 3) := dk_153 0 27 (dk_at dksX1_papers_1 5 rfl rfl)
theorem dX1_papers_32 : decode cX1_papers 32 = .ok (.aload_n 2, 1) := dk_44 (dk_at dksX1_papers_1 8 rfl rfl)
theorem dX1_papers_33 : decode cX1_papers 33 = .ok (.invokeinterface 358 1, 5) := by decide +kernel
theorem dX1_papers_38 : decode cX1_papers 38 = .ok (.checkcast 112, 3) := dk_192 0 112 (dk_at dksX1_papers_1 14 rfl rfl)
theorem dX1_papers_41 : decode cX1_papers 41 = .ok (.astore_n 3, 1) := dk_78 (dk_at dksX1_papers_1 17 rfl rfl)
theorem dX1_papers_42 : decode cX1_papers 42 = .ok (.aload_n 1, 1) := dk_43 (dk_at dksX1_papers_1 18 rfl rfl)
theorem dX1_papers_43 : decode cX1_papers 43 = .ok (.aload_n 3, 1) := dk_45 (dk_at dksX1_papers_1 19 rfl rfl)
theorem dX1_papers_44 : decode cX1_papers 44 = .ok (.getfield 189, 3) := dk_180 0 189 (dk_at dksX1_papers_1 20 rfl rfl)
theorem dX1_papers_47 : decode cX1_papers 47 = .ok (.invokevirtual 362, 3) := dk_182 1 106 (dk_at dksX1_papers_2 0 rfl rfl)
theorem dX1_papers_50 : decode cX1_papers 50 = .ok (.invokevirtual 364, 3) := dk_182 1 108 (dk_at dksX1_papers_2 3 rfl rfl)
theorem dX1_papers_53 : decode cX1_papers 53 = .ok (.goto (-30), 3) := dk_167 255 226 (dk_at dksX1_papers_2 6 rfl rfl)
theorem dX1_papers_56 : decode cX1_papers 56 = .ok (.iconst 0, 1) := dk_3 (dk_at dksX1_papers_2 9 rfl rfl)
theorem dX1_papers_57 : decode cX1_papers 57 = .ok (.istore_n 2, 1) := dk_61 (dk_at dksX1_papers_2 10 rfl rfl)
theorem dX1_papers_58 : decode cX1_papers 58 = .ok (.aload_n 1, 1) := dk_43 (dk_at dksX1_papers_2 11 rfl rfl)
theorem dX1_papers_59 : decode cX1_papers 59 = .ok (.iconst 0, 1) := dk_3 (dk_at dksX1_papers_2 12 rfl rfl)
theorem dX1_papers_60 : decode cX1_papers 60 = .ok (.invokevirtual 367, 3) := dk_182 1 111 (dk_at dksX1_papers_2 13 rfl rfl)
theorem dX1_papers_63 : decode cX1_papers 63 = .ok (.istore_n 3, 1) := dk_62 (dk_at dksX1_papers_2 16 rfl rfl)
theorem dX1_papers_64 : decode cX1_papers 64 = .ok (.iload_n 3, 1) := dk_29 (dk_at dksX1_papers_2 17 rfl rfl)
theorem dX1_papers_65 : decode cX1_papers 65 = .ok (.ifCond .lt 20, 3) := dk_155 0 20 (dk_at dksX1_papers_2 18 rfl rfl)
theorem dX1_papers_68 : decode cX1_papers 68 = .ok (.iload_n 2, 1) := dk_28 (dk_at dksX1_papers_2 21 rfl rfl)
theorem dX1_papers_69 : decode cX1_papers 69 = .ok (.iconst 1, 1) := dk_4 (dk_at dksX1_papers_2 22 rfl rfl)
theorem dX1_papers_70 : decode cX1_papers 70 = .ok (.iload_n 3, 1) := dk_29 (dk_at dksX1_papers_2 23 rfl rfl)
theorem dX1_papers_71 : decode cX1_papers 71 = .ok (.ishl, 1) := dk_120 (dk_at dksX1_papers_3 0 rfl rfl)
theorem dX1_papers_72 : decode cX1_papers 72 = .ok (.ior, 1) := dk_128 (dk_at dksX1_papers_3 1 rfl rfl)
theorem dX1_papers_73 : decode cX1_papers 73 = .ok (.istore_n 2, 1) := dk_61 (dk_at dksX1_papers_3 2 rfl rfl)
theorem dX1_papers_74 : decode cX1_papers 74 = .ok (.aload_n 1, 1) := dk_43 (dk_at dksX1_papers_3 3 rfl rfl)
theorem dX1_papers_75 : decode cX1_papers 75 = .ok (.iload_n 3, 1) := dk_29 (dk_at dksX1_papers_3 4 rfl rfl)
theorem dX1_papers_76 : decode cX1_papers 76 = .ok (.iconst 1, 1) := dk_4 (dk_at dksX1_papers_3 5 rfl rfl)
theorem dX1_papers_77 : decode cX1_papers 77 = .ok (.iadd, 1) := dk_96 (dk_at dksX1_papers_3 6 rfl rfl)
theorem dX1_papers_78 : decode cX1_papers 78 = .ok (.invokevirtual 367, 3) := dk_182 1 111 (dk_at dksX1_papers_3 7 rfl rfl)
theorem dX1_papers_81 : decode cX1_papers 81 = .ok (.istore_n 3, 1) := dk_62 (dk_at dksX1_papers_3 10 rfl rfl)
theorem dX1_papers_82 : decode cX1_papers 82 = .ok (.goto (-18), 3) := dk_167 255 238 (dk_at dksX1_papers_3 11 rfl rfl)
theorem dX1_papers_85 : decode cX1_papers 85 = .ok (.iload_n 2, 1) := dk_28 (dk_at dksX1_papers_3 14 rfl rfl)
theorem dX1_papers_86 : decode cX1_papers 86 = .ok (.ireturn, 1) := dk_172 (dk_at dksX1_papers_3 15 rfl rfl)
abbrev cX1_quiresAgain : ByteArray := prog_1_method_53_code
def yX1_quiresAgain : MethodName := ⟨RX1, "quiresAgain", "()I"⟩
def dkwX1_quiresAgain_2 : List UInt8 := [172]
abbrev dktX1_quiresAgain_2 : List UInt8 := dkwX1_quiresAgain_2 ++ []
def dkwX1_quiresAgain_1 : List UInt8 := [180, 0, 36, 180, 1, 165, 100, 42, 180, 0, 36, 3, 182, 1, 155, 100, 42, 180, 0, 36, 180, 1, 168, 100]
abbrev dktX1_quiresAgain_1 : List UInt8 := dkwX1_quiresAgain_1 ++ dktX1_quiresAgain_2
def dkwX1_quiresAgain_0 : List UInt8 := [16, 20, 42, 180, 0, 36, 180, 0, 109, 182, 0, 58, 104, 42, 180, 0, 36, 182, 1, 162, 100, 42]
abbrev dktX1_quiresAgain_0 : List UInt8 := dkwX1_quiresAgain_0 ++ dktX1_quiresAgain_1
theorem dksX1_quiresAgain_0 : cX1_quiresAgain.data.toList.drop 0 = dktX1_quiresAgain_0 := by decide +kernel
theorem dksX1_quiresAgain_1 : cX1_quiresAgain.data.toList.drop 22 = dktX1_quiresAgain_1 := dk_seg dksX1_quiresAgain_0 22 rfl rfl
theorem dksX1_quiresAgain_2 : cX1_quiresAgain.data.toList.drop 46 = dktX1_quiresAgain_2 := dk_seg dksX1_quiresAgain_1 24 rfl rfl
theorem dX1_quiresAgain_0 : decode cX1_quiresAgain 0 = .ok (.bipush 20, 2) := dk_16 20 (dk_at dksX1_quiresAgain_0 0 rfl rfl)
theorem dX1_quiresAgain_2 : decode cX1_quiresAgain 2 = .ok (.aload_n 0, 1) := dk_42 (dk_at dksX1_quiresAgain_0 2 rfl rfl)
theorem dX1_quiresAgain_3 : decode cX1_quiresAgain 3 = .ok (.getfield 36, 3) := dk_180 0 36 (dk_at dksX1_quiresAgain_0 3 rfl rfl)
theorem dX1_quiresAgain_6 : decode cX1_quiresAgain 6 = .ok (.getfield 109, 3) := dk_180 0 109 (dk_at dksX1_quiresAgain_0 6 rfl rfl)
theorem dX1_quiresAgain_9 : decode cX1_quiresAgain 9 = .ok (.invokevirtual 58, 3) := dk_182 0 58 (dk_at dksX1_quiresAgain_0 9 rfl rfl)
theorem dX1_quiresAgain_12 : decode cX1_quiresAgain 12 = .ok (.imul, 1) := dk_104 (dk_at dksX1_quiresAgain_0 12 rfl rfl)
theorem dX1_quiresAgain_13 : decode cX1_quiresAgain 13 = .ok (.aload_n 0, 1) := dk_42 (dk_at dksX1_quiresAgain_0 13 rfl rfl)
theorem dX1_quiresAgain_14 : decode cX1_quiresAgain 14 = .ok (.getfield 36, 3) := dk_180 0 36 (dk_at dksX1_quiresAgain_0 14 rfl rfl)
theorem dX1_quiresAgain_17 : decode cX1_quiresAgain 17 = .ok (.invokevirtual 418, 3) := dk_182 1 162 (dk_at dksX1_quiresAgain_0 17 rfl rfl)
theorem dX1_quiresAgain_20 : decode cX1_quiresAgain 20 = .ok (.isub, 1) := dk_100 (dk_at dksX1_quiresAgain_0 20 rfl rfl)
theorem dX1_quiresAgain_21 : decode cX1_quiresAgain 21 = .ok (.aload_n 0, 1) := dk_42 (dk_at dksX1_quiresAgain_0 21 rfl rfl)
theorem dX1_quiresAgain_22 : decode cX1_quiresAgain 22 = .ok (.getfield 36, 3) := dk_180 0 36 (dk_at dksX1_quiresAgain_1 0 rfl rfl)
theorem dX1_quiresAgain_25 : decode cX1_quiresAgain 25 = .ok (.getfield 421, 3) := dk_180 1 165 (dk_at dksX1_quiresAgain_1 3 rfl rfl)
theorem dX1_quiresAgain_28 : decode cX1_quiresAgain 28 = .ok (.isub, 1) := dk_100 (dk_at dksX1_quiresAgain_1 6 rfl rfl)
theorem dX1_quiresAgain_29 : decode cX1_quiresAgain 29 = .ok (.aload_n 0, 1) := dk_42 (dk_at dksX1_quiresAgain_1 7 rfl rfl)
theorem dX1_quiresAgain_30 : decode cX1_quiresAgain 30 = .ok (.getfield 36, 3) := dk_180 0 36 (dk_at dksX1_quiresAgain_1 8 rfl rfl)
theorem dX1_quiresAgain_33 : decode cX1_quiresAgain 33 = .ok (.iconst 0, 1) := dk_3 (dk_at dksX1_quiresAgain_1 11 rfl rfl)
theorem dX1_quiresAgain_34 : decode cX1_quiresAgain 34 = .ok (.invokevirtual 411, 3) := dk_182 1 155 (dk_at dksX1_quiresAgain_1 12 rfl rfl)
theorem dX1_quiresAgain_37 : decode cX1_quiresAgain 37 = .ok (.isub, 1) := dk_100 (dk_at dksX1_quiresAgain_1 15 rfl rfl)
theorem dX1_quiresAgain_38 : decode cX1_quiresAgain 38 = .ok (.aload_n 0, 1) := dk_42 (dk_at dksX1_quiresAgain_1 16 rfl rfl)
theorem dX1_quiresAgain_39 : decode cX1_quiresAgain 39 = .ok (.getfield 36, 3) := dk_180 0 36 (dk_at dksX1_quiresAgain_1 17 rfl rfl)
theorem dX1_quiresAgain_42 : decode cX1_quiresAgain 42 = .ok (.getfield 424, 3) := dk_180 1 168 (dk_at dksX1_quiresAgain_1 20 rfl rfl)
theorem dX1_quiresAgain_45 : decode cX1_quiresAgain 45 = .ok (.isub, 1) := dk_100 (dk_at dksX1_quiresAgain_1 23 rfl rfl)
theorem dX1_quiresAgain_46 : decode cX1_quiresAgain 46 = .ok (.ireturn, 1) := dk_172 (dk_at dksX1_quiresAgain_2 0 rfl rfl)
abbrev cX1_save : ByteArray := prog_1_method_59_code
def yX1_save : MethodName := ⟨RX1, "save", "()I"⟩
def dkwX1_save_0 : List UInt8 := [42, 42, 180, 0, 36, 182, 0, 117, 181, 1, 218, 42, 180, 1, 218, 180, 0, 109, 182, 0, 58, 172]
abbrev dktX1_save_0 : List UInt8 := dkwX1_save_0 ++ []
theorem dksX1_save_0 : cX1_save.data.toList.drop 0 = dktX1_save_0 := by decide +kernel
theorem dX1_save_0 : decode cX1_save 0 = .ok (.aload_n 0, 1) := dk_42 (dk_at dksX1_save_0 0 rfl rfl)
theorem dX1_save_1 : decode cX1_save 1 = .ok (.aload_n 0, 1) := dk_42 (dk_at dksX1_save_0 1 rfl rfl)
theorem dX1_save_2 : decode cX1_save 2 = .ok (.getfield 36, 3) := dk_180 0 36 (dk_at dksX1_save_0 2 rfl rfl)
theorem dX1_save_5 : decode cX1_save 5 = .ok (.invokevirtual 117, 3) := dk_182 0 117 (dk_at dksX1_save_0 5 rfl rfl)
theorem dX1_save_8 : decode cX1_save 8 = .ok (.putfield 474, 3) := dk_181 1 218 (dk_at dksX1_save_0 8 rfl rfl)
theorem dX1_save_11 : decode cX1_save 11 = .ok (.aload_n 0, 1) := dk_42 (dk_at dksX1_save_0 11 rfl rfl)
theorem dX1_save_12 : decode cX1_save 12 = .ok (.getfield 474, 3) := dk_180 1 218 (dk_at dksX1_save_0 12 rfl rfl)
theorem dX1_save_15 : decode cX1_save 15 = .ok (.getfield 109, 3) := dk_180 0 109 (dk_at dksX1_save_0 15 rfl rfl)
theorem dX1_save_18 : decode cX1_save 18 = .ok (.invokevirtual 58, 3) := dk_182 0 58 (dk_at dksX1_save_0 18 rfl rfl)
theorem dX1_save_21 : decode cX1_save 21 = .ok (.ireturn, 1) := dk_172 (dk_at dksX1_save_0 21 rfl rfl)
abbrev cX1_ladder : ByteArray := prog_1_method_18_code
def yX1_ladder : MethodName := ⟨RX1, "ladder", "(I)I"⟩
def dkwX1_ladder_1 : List UInt8 := [42, 44, 29, 182, 0, 125, 172, 78, 42, 45, 182, 0, 129, 191]
abbrev dktX1_ladder_1 : List UInt8 := dkwX1_ladder_1 ++ []
def dkwX1_ladder_0 : List UInt8 := [27, 4, 16, 6, 184, 0, 3, 184, 0, 114, 42, 180, 0, 36, 182, 0, 117, 77, 44, 27, 182, 0, 121, 62]
abbrev dktX1_ladder_0 : List UInt8 := dkwX1_ladder_0 ++ dktX1_ladder_1
theorem dksX1_ladder_0 : cX1_ladder.data.toList.drop 0 = dktX1_ladder_0 := by decide +kernel
theorem dksX1_ladder_1 : cX1_ladder.data.toList.drop 24 = dktX1_ladder_1 := dk_seg dksX1_ladder_0 24 rfl rfl
theorem dX1_ladder_0 : decode cX1_ladder 0 = .ok (.iload_n 1, 1) := dk_27 (dk_at dksX1_ladder_0 0 rfl rfl)
theorem dX1_ladder_1 : decode cX1_ladder 1 = .ok (.iconst 1, 1) := dk_4 (dk_at dksX1_ladder_0 1 rfl rfl)
theorem dX1_ladder_2 : decode cX1_ladder 2 = .ok (.bipush 6, 2) := dk_16 6 (dk_at dksX1_ladder_0 2 rfl rfl)
theorem dX1_ladder_4 : decode cX1_ladder 4 = .ok (.invokestatic 3, 3) := dk_184 0 3 (dk_at dksX1_ladder_0 4 rfl rfl)
theorem dX1_ladder_7 : decode cX1_ladder 7 = .ok (.invokestatic 114, 3) := dk_184 0 114 (dk_at dksX1_ladder_0 7 rfl rfl)
theorem dX1_ladder_10 : decode cX1_ladder 10 = .ok (.aload_n 0, 1) := dk_42 (dk_at dksX1_ladder_0 10 rfl rfl)
theorem dX1_ladder_11 : decode cX1_ladder 11 = .ok (.getfield 36, 3) := dk_180 0 36 (dk_at dksX1_ladder_0 11 rfl rfl)
theorem dX1_ladder_14 : decode cX1_ladder 14 = .ok (.invokevirtual 117, 3) := dk_182 0 117 (dk_at dksX1_ladder_0 14 rfl rfl)
theorem dX1_ladder_17 : decode cX1_ladder 17 = .ok (.astore_n 2, 1) := dk_77 (dk_at dksX1_ladder_0 17 rfl rfl)
theorem dX1_ladder_18 : decode cX1_ladder 18 = .ok (.aload_n 2, 1) := dk_44 (dk_at dksX1_ladder_0 18 rfl rfl)
theorem dX1_ladder_19 : decode cX1_ladder 19 = .ok (.iload_n 1, 1) := dk_27 (dk_at dksX1_ladder_0 19 rfl rfl)
theorem dX1_ladder_20 : decode cX1_ladder 20 = .ok (.invokevirtual 121, 3) := dk_182 0 121 (dk_at dksX1_ladder_0 20 rfl rfl)
theorem dX1_ladder_23 : decode cX1_ladder 23 = .ok (.istore_n 3, 1) := dk_62 (dk_at dksX1_ladder_0 23 rfl rfl)
theorem dX1_ladder_24 : decode cX1_ladder 24 = .ok (.aload_n 0, 1) := dk_42 (dk_at dksX1_ladder_1 0 rfl rfl)
theorem dX1_ladder_25 : decode cX1_ladder 25 = .ok (.aload_n 2, 1) := dk_44 (dk_at dksX1_ladder_1 1 rfl rfl)
theorem dX1_ladder_26 : decode cX1_ladder 26 = .ok (.iload_n 3, 1) := dk_29 (dk_at dksX1_ladder_1 2 rfl rfl)
theorem dX1_ladder_27 : decode cX1_ladder 27 = .ok (.invokevirtual 125, 3) := dk_182 0 125 (dk_at dksX1_ladder_1 3 rfl rfl)
theorem dX1_ladder_30 : decode cX1_ladder 30 = .ok (.ireturn, 1) := dk_172 (dk_at dksX1_ladder_1 6 rfl rfl)
theorem dX1_ladder_31 : decode cX1_ladder 31 = .ok (.astore_n 3, 1) := dk_78 (dk_at dksX1_ladder_1 7 rfl rfl)
theorem dX1_ladder_32 : decode cX1_ladder 32 = .ok (.aload_n 0, 1) := dk_42 (dk_at dksX1_ladder_1 8 rfl rfl)
theorem dX1_ladder_33 : decode cX1_ladder 33 = .ok (.aload_n 3, 1) := dk_45 (dk_at dksX1_ladder_1 9 rfl rfl)
theorem dX1_ladder_34 : decode cX1_ladder 34 = .ok (.invokevirtual 129, 3) := dk_182 0 129 (dk_at dksX1_ladder_1 10 rfl rfl)
theorem dX1_ladder_37 : decode cX1_ladder 37 = .ok (.athrow, 1) := dk_191 (dk_at dksX1_ladder_1 13 rfl rfl)
abbrev cX1_isIn : ByteArray := prog_1_method_1_code
def yX1_isIn : MethodName := ⟨RX1, "isIn", "(III)Z"⟩
def dkwX1_isIn_0 : List UInt8 := [26, 27, 161, 0, 12, 26, 28, 163, 0, 7, 4, 167, 0, 4, 3, 172]
abbrev dktX1_isIn_0 : List UInt8 := dkwX1_isIn_0 ++ []
theorem dksX1_isIn_0 : cX1_isIn.data.toList.drop 0 = dktX1_isIn_0 := by decide +kernel
theorem dX1_isIn_0 : decode cX1_isIn 0 = .ok (.iload_n 0, 1) := dk_26 (dk_at dksX1_isIn_0 0 rfl rfl)
theorem dX1_isIn_1 : decode cX1_isIn 1 = .ok (.iload_n 1, 1) := dk_27 (dk_at dksX1_isIn_0 1 rfl rfl)
theorem dX1_isIn_2 : decode cX1_isIn 2 = .ok (.if_icmp .lt 12, 3) := dk_161 0 12 (dk_at dksX1_isIn_0 2 rfl rfl)
theorem dX1_isIn_5 : decode cX1_isIn 5 = .ok (.iload_n 0, 1) := dk_26 (dk_at dksX1_isIn_0 5 rfl rfl)
theorem dX1_isIn_6 : decode cX1_isIn 6 = .ok (.iload_n 2, 1) := dk_28 (dk_at dksX1_isIn_0 6 rfl rfl)
theorem dX1_isIn_7 : decode cX1_isIn 7 = .ok (.if_icmp .gt 7, 3) := dk_163 0 7 (dk_at dksX1_isIn_0 7 rfl rfl)
theorem dX1_isIn_10 : decode cX1_isIn 10 = .ok (.iconst 1, 1) := dk_4 (dk_at dksX1_isIn_0 10 rfl rfl)
theorem dX1_isIn_11 : decode cX1_isIn 11 = .ok (.goto 4, 3) := dk_167 0 4 (dk_at dksX1_isIn_0 11 rfl rfl)
theorem dX1_isIn_14 : decode cX1_isIn 14 = .ok (.iconst 0, 1) := dk_3 (dk_at dksX1_isIn_0 14 rfl rfl)
theorem dX1_isIn_15 : decode cX1_isIn 15 = .ok (.ireturn, 1) := dk_172 (dk_at dksX1_isIn_0 15 rfl rfl)
abbrev cX1_checkArgument : ByteArray := prog_1_method_5_code
def yX1_checkArgument : MethodName := ⟨RX1, "checkArgument", "(Z)V"⟩
def dkwX1_checkArgument_0 : List UInt8 := [26, 154, 0, 11, 187, 0, 7, 89, 183, 0, 9, 191, 177]
abbrev dktX1_checkArgument_0 : List UInt8 := dkwX1_checkArgument_0 ++ []
theorem dksX1_checkArgument_0 : cX1_checkArgument.data.toList.drop 0 = dktX1_checkArgument_0 := by decide +kernel
theorem dX1_checkArgument_0 : decode cX1_checkArgument 0 = .ok (.iload_n 0, 1) := dk_26 (dk_at dksX1_checkArgument_0 0 rfl rfl)
theorem dX1_checkArgument_1 : decode cX1_checkArgument 1 = .ok (.ifCond .ne 11, 3) := dk_154 0 11 (dk_at dksX1_checkArgument_0 1 rfl rfl)
theorem dX1_checkArgument_4 : decode cX1_checkArgument 4 = .ok (.new 7, 3) := dk_187 0 7 (dk_at dksX1_checkArgument_0 4 rfl rfl)
theorem dX1_checkArgument_7 : decode cX1_checkArgument 7 = .ok (.dup, 1) := dk_89 (dk_at dksX1_checkArgument_0 7 rfl rfl)
theorem dX1_checkArgument_8 : decode cX1_checkArgument 8 = .ok (.invokespecial 9, 3) := dk_183 0 9 (dk_at dksX1_checkArgument_0 8 rfl rfl)
theorem dX1_checkArgument_11 : decode cX1_checkArgument 11 = .ok (.athrow, 1) := dk_191 (dk_at dksX1_checkArgument_0 11 rfl rfl)
theorem dX1_checkArgument_12 : decode cX1_checkArgument 12 = .ok (.return_, 1) := dk_177 (dk_at dksX1_checkArgument_0 12 rfl rfl)
abbrev cX1_refuse : ByteArray := prog_1_method_10_code
def yX1_refuse : MethodName := ⟨RX1, "refuse", "(ZII)V"⟩
def dkwX1_refuse_0 : List UInt8 := [26, 153, 0, 13, 187, 0, 25, 89, 27, 28, 183, 0, 27, 191, 177]
abbrev dktX1_refuse_0 : List UInt8 := dkwX1_refuse_0 ++ []
theorem dksX1_refuse_0 : cX1_refuse.data.toList.drop 0 = dktX1_refuse_0 := by decide +kernel
theorem dX1_refuse_0 : decode cX1_refuse 0 = .ok (.iload_n 0, 1) := dk_26 (dk_at dksX1_refuse_0 0 rfl rfl)
theorem dX1_refuse_1 : decode cX1_refuse 1 = .ok (.ifCond .eq 13, 3) := dk_153 0 13 (dk_at dksX1_refuse_0 1 rfl rfl)
theorem dX1_refuse_4 : decode cX1_refuse 4 = .ok (.new 25, 3) := dk_187 0 25 (dk_at dksX1_refuse_0 4 rfl rfl)
theorem dX1_refuse_7 : decode cX1_refuse 7 = .ok (.dup, 1) := dk_89 (dk_at dksX1_refuse_0 7 rfl rfl)
theorem dX1_refuse_8 : decode cX1_refuse 8 = .ok (.iload_n 1, 1) := dk_27 (dk_at dksX1_refuse_0 8 rfl rfl)
theorem dX1_refuse_9 : decode cX1_refuse 9 = .ok (.iload_n 2, 1) := dk_28 (dk_at dksX1_refuse_0 9 rfl rfl)
theorem dX1_refuse_10 : decode cX1_refuse 10 = .ok (.invokespecial 27, 3) := dk_183 0 27 (dk_at dksX1_refuse_0 10 rfl rfl)
theorem dX1_refuse_13 : decode cX1_refuse 13 = .ok (.athrow, 1) := dk_191 (dk_at dksX1_refuse_0 13 rfl rfl)
theorem dX1_refuse_14 : decode cX1_refuse 14 = .ok (.return_, 1) := dk_177 (dk_at dksX1_refuse_0 14 rfl rfl)
abbrev cX1_become : ByteArray := prog_1_method_12_code
def yX1_become : MethodName := ⟨RX1, "become", "(LPaperStore$Store;I)I"⟩
def dkwX1_become_1 : List UInt8 := [180, 0, 43, 42, 180, 0, 36, 182, 0, 66, 87, 42, 43, 181, 0, 36, 28, 172]
abbrev dktX1_become_1 : List UInt8 := dkwX1_become_1 ++ []
def dkwX1_become_0 : List UInt8 := [42, 180, 0, 43, 182, 0, 58, 16, 6, 160, 0, 12, 42, 180, 0, 43, 3, 182, 0, 62, 87, 42]
abbrev dktX1_become_0 : List UInt8 := dkwX1_become_0 ++ dktX1_become_1
theorem dksX1_become_0 : cX1_become.data.toList.drop 0 = dktX1_become_0 := by decide +kernel
theorem dksX1_become_1 : cX1_become.data.toList.drop 22 = dktX1_become_1 := dk_seg dksX1_become_0 22 rfl rfl
theorem dX1_become_0 : decode cX1_become 0 = .ok (.aload_n 0, 1) := dk_42 (dk_at dksX1_become_0 0 rfl rfl)
theorem dX1_become_1 : decode cX1_become 1 = .ok (.getfield 43, 3) := dk_180 0 43 (dk_at dksX1_become_0 1 rfl rfl)
theorem dX1_become_4 : decode cX1_become 4 = .ok (.invokevirtual 58, 3) := dk_182 0 58 (dk_at dksX1_become_0 4 rfl rfl)
theorem dX1_become_7 : decode cX1_become 7 = .ok (.bipush 6, 2) := dk_16 6 (dk_at dksX1_become_0 7 rfl rfl)
theorem dX1_become_9 : decode cX1_become 9 = .ok (.if_icmp .ne 12, 3) := dk_160 0 12 (dk_at dksX1_become_0 9 rfl rfl)
theorem dX1_become_12 : decode cX1_become 12 = .ok (.aload_n 0, 1) := dk_42 (dk_at dksX1_become_0 12 rfl rfl)
theorem dX1_become_13 : decode cX1_become 13 = .ok (.getfield 43, 3) := dk_180 0 43 (dk_at dksX1_become_0 13 rfl rfl)
theorem dX1_become_16 : decode cX1_become 16 = .ok (.iconst 0, 1) := dk_3 (dk_at dksX1_become_0 16 rfl rfl)
theorem dX1_become_17 : decode cX1_become 17 = .ok (.invokevirtual 62, 3) := dk_182 0 62 (dk_at dksX1_become_0 17 rfl rfl)
theorem dX1_become_20 : decode cX1_become 20 = .ok (.pop, 1) := dk_87 (dk_at dksX1_become_0 20 rfl rfl)
theorem dX1_become_21 : decode cX1_become 21 = .ok (.aload_n 0, 1) := dk_42 (dk_at dksX1_become_0 21 rfl rfl)
theorem dX1_become_22 : decode cX1_become 22 = .ok (.getfield 43, 3) := dk_180 0 43 (dk_at dksX1_become_1 0 rfl rfl)
theorem dX1_become_25 : decode cX1_become 25 = .ok (.aload_n 0, 1) := dk_42 (dk_at dksX1_become_1 3 rfl rfl)
theorem dX1_become_26 : decode cX1_become 26 = .ok (.getfield 36, 3) := dk_180 0 36 (dk_at dksX1_become_1 4 rfl rfl)
theorem dX1_become_29 : decode cX1_become 29 = .ok (.invokevirtual 66, 3) := dk_182 0 66 (dk_at dksX1_become_1 7 rfl rfl)
theorem dX1_become_32 : decode cX1_become 32 = .ok (.pop, 1) := dk_87 (dk_at dksX1_become_1 10 rfl rfl)
theorem dX1_become_33 : decode cX1_become 33 = .ok (.aload_n 0, 1) := dk_42 (dk_at dksX1_become_1 11 rfl rfl)
theorem dX1_become_34 : decode cX1_become 34 = .ok (.aload_n 1, 1) := dk_43 (dk_at dksX1_become_1 12 rfl rfl)
theorem dX1_become_35 : decode cX1_become 35 = .ok (.putfield 36, 3) := dk_181 0 36 (dk_at dksX1_become_1 13 rfl rfl)
theorem dX1_become_38 : decode cX1_become 38 = .ok (.iload_n 2, 1) := dk_28 (dk_at dksX1_become_1 16 rfl rfl)
theorem dX1_become_39 : decode cX1_become 39 = .ok (.ireturn, 1) := dk_172 (dk_at dksX1_become_1 17 rfl rfl)
abbrev cX1_kept : ByteArray := prog_1_method_13_code
def yX1_kept : MethodName := ⟨RX1, "kept", "(LPaperStore$Refusal;)Ljava/lang/UnsupportedOperationException;"⟩
def dkwX1_kept_0 : List UInt8 := [42, 43, 181, 0, 70, 187, 0, 74, 89, 183, 0, 76, 176]
abbrev dktX1_kept_0 : List UInt8 := dkwX1_kept_0 ++ []
theorem dksX1_kept_0 : cX1_kept.data.toList.drop 0 = dktX1_kept_0 := by decide +kernel
theorem dX1_kept_0 : decode cX1_kept 0 = .ok (.aload_n 0, 1) := dk_42 (dk_at dksX1_kept_0 0 rfl rfl)
theorem dX1_kept_1 : decode cX1_kept 1 = .ok (.aload_n 1, 1) := dk_43 (dk_at dksX1_kept_0 1 rfl rfl)
theorem dX1_kept_2 : decode cX1_kept 2 = .ok (.putfield 70, 3) := dk_181 0 70 (dk_at dksX1_kept_0 2 rfl rfl)
theorem dX1_kept_5 : decode cX1_kept 5 = .ok (.new 74, 3) := dk_187 0 74 (dk_at dksX1_kept_0 5 rfl rfl)
theorem dX1_kept_8 : decode cX1_kept 8 = .ok (.dup, 1) := dk_89 (dk_at dksX1_kept_0 8 rfl rfl)
theorem dX1_kept_9 : decode cX1_kept 9 = .ok (.invokespecial 76, 3) := dk_183 0 76 (dk_at dksX1_kept_0 9 rfl rfl)
theorem dX1_kept_12 : decode cX1_kept 12 = .ok (.areturn, 1) := dk_176 (dk_at dksX1_kept_0 12 rfl rfl)
abbrev cX1_push : ByteArray := prog_1_method_19_code
def yX1_push : MethodName := ⟨RX1, "push", "(II)I"⟩
def dkwX1_push_2 : List UInt8 := [191]
abbrev dktX1_push_2 : List UInt8 := dkwX1_push_2 ++ []
def dkwX1_push_1 : List UInt8 := [27, 28, 182, 0, 140, 54, 5, 42, 25, 4, 21, 5, 182, 0, 125, 172, 58, 5, 42, 25, 5, 182, 0, 129]
abbrev dktX1_push_1 : List UInt8 := dkwX1_push_1 ++ dktX1_push_2
def dkwX1_push_0 : List UInt8 := [42, 27, 182, 0, 133, 78, 28, 184, 0, 137, 184, 0, 114, 42, 180, 0, 36, 182, 0, 117, 58, 4, 25, 4]
abbrev dktX1_push_0 : List UInt8 := dkwX1_push_0 ++ dktX1_push_1
theorem dksX1_push_0 : cX1_push.data.toList.drop 0 = dktX1_push_0 := by decide +kernel
theorem dksX1_push_1 : cX1_push.data.toList.drop 24 = dktX1_push_1 := dk_seg dksX1_push_0 24 rfl rfl
theorem dksX1_push_2 : cX1_push.data.toList.drop 48 = dktX1_push_2 := dk_seg dksX1_push_1 24 rfl rfl
theorem dX1_push_0 : decode cX1_push 0 = .ok (.aload_n 0, 1) := dk_42 (dk_at dksX1_push_0 0 rfl rfl)
theorem dX1_push_1 : decode cX1_push 1 = .ok (.iload_n 1, 1) := dk_27 (dk_at dksX1_push_0 1 rfl rfl)
theorem dX1_push_2 : decode cX1_push 2 = .ok (.invokevirtual 133, 3) := dk_182 0 133 (dk_at dksX1_push_0 2 rfl rfl)
theorem dX1_push_5 : decode cX1_push 5 = .ok (.astore_n 3, 1) := dk_78 (dk_at dksX1_push_0 5 rfl rfl)
theorem dX1_push_6 : decode cX1_push 6 = .ok (.iload_n 2, 1) := dk_28 (dk_at dksX1_push_0 6 rfl rfl)
theorem dX1_push_7 : decode cX1_push 7 = .ok (.invokestatic 137, 3) := dk_184 0 137 (dk_at dksX1_push_0 7 rfl rfl)
theorem dX1_push_10 : decode cX1_push 10 = .ok (.invokestatic 114, 3) := dk_184 0 114 (dk_at dksX1_push_0 10 rfl rfl)
theorem dX1_push_13 : decode cX1_push 13 = .ok (.aload_n 0, 1) := dk_42 (dk_at dksX1_push_0 13 rfl rfl)
theorem dX1_push_14 : decode cX1_push 14 = .ok (.getfield 36, 3) := dk_180 0 36 (dk_at dksX1_push_0 14 rfl rfl)
theorem dX1_push_17 : decode cX1_push 17 = .ok (.invokevirtual 117, 3) := dk_182 0 117 (dk_at dksX1_push_0 17 rfl rfl)
theorem dX1_push_20 : decode cX1_push 20 = .ok (.astore 4, 2) := dk_58 4 (dk_at dksX1_push_0 20 rfl rfl)
theorem dX1_push_22 : decode cX1_push 22 = .ok (.aload 4, 2) := dk_25 4 (dk_at dksX1_push_0 22 rfl rfl)
theorem dX1_push_24 : decode cX1_push 24 = .ok (.iload_n 1, 1) := dk_27 (dk_at dksX1_push_1 0 rfl rfl)
theorem dX1_push_25 : decode cX1_push 25 = .ok (.iload_n 2, 1) := dk_28 (dk_at dksX1_push_1 1 rfl rfl)
theorem dX1_push_26 : decode cX1_push 26 = .ok (.invokevirtual 140, 3) := dk_182 0 140 (dk_at dksX1_push_1 2 rfl rfl)
theorem dX1_push_29 : decode cX1_push 29 = .ok (.istore 5, 2) := dk_54 5 (dk_at dksX1_push_1 5 rfl rfl)
theorem dX1_push_31 : decode cX1_push 31 = .ok (.aload_n 0, 1) := dk_42 (dk_at dksX1_push_1 7 rfl rfl)
theorem dX1_push_32 : decode cX1_push 32 = .ok (.aload 4, 2) := dk_25 4 (dk_at dksX1_push_1 8 rfl rfl)
theorem dX1_push_34 : decode cX1_push 34 = .ok (.iload 5, 2) := dk_21 5 (dk_at dksX1_push_1 10 rfl rfl)
theorem dX1_push_36 : decode cX1_push 36 = .ok (.invokevirtual 125, 3) := dk_182 0 125 (dk_at dksX1_push_1 12 rfl rfl)
theorem dX1_push_39 : decode cX1_push 39 = .ok (.ireturn, 1) := dk_172 (dk_at dksX1_push_1 15 rfl rfl)
theorem dX1_push_40 : decode cX1_push 40 = .ok (.astore 5, 2) := dk_58 5 (dk_at dksX1_push_1 16 rfl rfl)
theorem dX1_push_42 : decode cX1_push 42 = .ok (.aload_n 0, 1) := dk_42 (dk_at dksX1_push_1 18 rfl rfl)
theorem dX1_push_43 : decode cX1_push 43 = .ok (.aload 5, 2) := dk_25 5 (dk_at dksX1_push_1 19 rfl rfl)
theorem dX1_push_45 : decode cX1_push 45 = .ok (.invokevirtual 129, 3) := dk_182 0 129 (dk_at dksX1_push_1 21 rfl rfl)
theorem dX1_push_48 : decode cX1_push 48 = .ok (.athrow, 1) := dk_191 (dk_at dksX1_push_2 0 rfl rfl)
abbrev cX1_ladderAt : ByteArray := prog_1_method_14_code
def yX1_ladderAt : MethodName := ⟨RX1, "ladderAt", "(I)LPaperStore$Ladder;"⟩
def dkwX1_ladderAt_1 : List UInt8 := [192, 0, 91, 176]
abbrev dktX1_ladderAt_1 : List UInt8 := dkwX1_ladderAt_1 ++ []
def dkwX1_ladderAt_0 : List UInt8 := [42, 180, 0, 36, 27, 182, 0, 77, 184, 0, 81, 42, 180, 0, 36, 180, 0, 85, 27, 182, 0, 88]
abbrev dktX1_ladderAt_0 : List UInt8 := dkwX1_ladderAt_0 ++ dktX1_ladderAt_1
theorem dksX1_ladderAt_0 : cX1_ladderAt.data.toList.drop 0 = dktX1_ladderAt_0 := by decide +kernel
theorem dksX1_ladderAt_1 : cX1_ladderAt.data.toList.drop 22 = dktX1_ladderAt_1 := dk_seg dksX1_ladderAt_0 22 rfl rfl
theorem dX1_ladderAt_0 : decode cX1_ladderAt 0 = .ok (.aload_n 0, 1) := dk_42 (dk_at dksX1_ladderAt_0 0 rfl rfl)
theorem dX1_ladderAt_1 : decode cX1_ladderAt 1 = .ok (.getfield 36, 3) := dk_180 0 36 (dk_at dksX1_ladderAt_0 1 rfl rfl)
theorem dX1_ladderAt_4 : decode cX1_ladderAt 4 = .ok (.iload_n 1, 1) := dk_27 (dk_at dksX1_ladderAt_0 4 rfl rfl)
theorem dX1_ladderAt_5 : decode cX1_ladderAt 5 = .ok (.invokevirtual 77, 3) := dk_182 0 77 (dk_at dksX1_ladderAt_0 5 rfl rfl)
theorem dX1_ladderAt_8 : decode cX1_ladderAt 8 = .ok (.invokestatic 81, 3) := dk_184 0 81 (dk_at dksX1_ladderAt_0 8 rfl rfl)
theorem dX1_ladderAt_11 : decode cX1_ladderAt 11 = .ok (.aload_n 0, 1) := dk_42 (dk_at dksX1_ladderAt_0 11 rfl rfl)
theorem dX1_ladderAt_12 : decode cX1_ladderAt 12 = .ok (.getfield 36, 3) := dk_180 0 36 (dk_at dksX1_ladderAt_0 12 rfl rfl)
theorem dX1_ladderAt_15 : decode cX1_ladderAt 15 = .ok (.getfield 85, 3) := dk_180 0 85 (dk_at dksX1_ladderAt_0 15 rfl rfl)
theorem dX1_ladderAt_18 : decode cX1_ladderAt 18 = .ok (.iload_n 1, 1) := dk_27 (dk_at dksX1_ladderAt_0 18 rfl rfl)
theorem dX1_ladderAt_19 : decode cX1_ladderAt 19 = .ok (.invokevirtual 88, 3) := dk_182 0 88 (dk_at dksX1_ladderAt_0 19 rfl rfl)
theorem dX1_ladderAt_22 : decode cX1_ladderAt 22 = .ok (.checkcast 91, 3) := dk_192 0 91 (dk_at dksX1_ladderAt_1 0 rfl rfl)
theorem dX1_ladderAt_25 : decode cX1_ladderAt 25 = .ok (.areturn, 1) := dk_176 (dk_at dksX1_ladderAt_1 3 rfl rfl)
abbrev cX1_checkIndex : ByteArray := prog_1_method_6_code
def yX1_checkIndex : MethodName := ⟨RX1, "checkIndex", "(Z)V"⟩
def dkwX1_checkIndex_0 : List UInt8 := [26, 154, 0, 11, 187, 0, 13, 89, 183, 0, 15, 191, 177]
abbrev dktX1_checkIndex_0 : List UInt8 := dkwX1_checkIndex_0 ++ []
theorem dksX1_checkIndex_0 : cX1_checkIndex.data.toList.drop 0 = dktX1_checkIndex_0 := by decide +kernel
theorem dX1_checkIndex_0 : decode cX1_checkIndex 0 = .ok (.iload_n 0, 1) := dk_26 (dk_at dksX1_checkIndex_0 0 rfl rfl)
theorem dX1_checkIndex_1 : decode cX1_checkIndex 1 = .ok (.ifCond .ne 11, 3) := dk_154 0 11 (dk_at dksX1_checkIndex_0 1 rfl rfl)
theorem dX1_checkIndex_4 : decode cX1_checkIndex 4 = .ok (.new 13, 3) := dk_187 0 13 (dk_at dksX1_checkIndex_0 4 rfl rfl)
theorem dX1_checkIndex_7 : decode cX1_checkIndex 7 = .ok (.dup, 1) := dk_89 (dk_at dksX1_checkIndex_0 7 rfl rfl)
theorem dX1_checkIndex_8 : decode cX1_checkIndex 8 = .ok (.invokespecial 15, 3) := dk_183 0 15 (dk_at dksX1_checkIndex_0 8 rfl rfl)
theorem dX1_checkIndex_11 : decode cX1_checkIndex 11 = .ok (.athrow, 1) := dk_191 (dk_at dksX1_checkIndex_0 11 rfl rfl)
theorem dX1_checkIndex_12 : decode cX1_checkIndex 12 = .ok (.return_, 1) := dk_177 (dk_at dksX1_checkIndex_0 12 rfl rfl)
abbrev cX1_isAisle : ByteArray := prog_1_method_2_code
def yX1_isAisle : MethodName := ⟨RX1, "isAisle", "(I)Z"⟩
def dkwX1_isAisle_0 : List UInt8 := [26, 3, 7, 184, 0, 3, 172]
abbrev dktX1_isAisle_0 : List UInt8 := dkwX1_isAisle_0 ++ []
theorem dksX1_isAisle_0 : cX1_isAisle.data.toList.drop 0 = dktX1_isAisle_0 := by decide +kernel
theorem dX1_isAisle_0 : decode cX1_isAisle 0 = .ok (.iload_n 0, 1) := dk_26 (dk_at dksX1_isAisle_0 0 rfl rfl)
theorem dX1_isAisle_1 : decode cX1_isAisle 1 = .ok (.iconst 0, 1) := dk_3 (dk_at dksX1_isAisle_0 1 rfl rfl)
theorem dX1_isAisle_2 : decode cX1_isAisle 2 = .ok (.iconst 4, 1) := dk_7 (dk_at dksX1_isAisle_0 2 rfl rfl)
theorem dX1_isAisle_3 : decode cX1_isAisle 3 = .ok (.invokestatic 3, 3) := dk_184 0 3 (dk_at dksX1_isAisle_0 3 rfl rfl)
theorem dX1_isAisle_6 : decode cX1_isAisle 6 = .ok (.ireturn, 1) := dk_172 (dk_at dksX1_isAisle_0 6 rfl rfl)
abbrev cX1_store : ByteArray := prog_1_method_20_code
def yX1_store : MethodName := ⟨RX1, "store", "(IIIII)I"⟩
def dkwX1_store_3 : List UInt8 := [54, 8, 42, 25, 7, 21, 8, 182, 0, 125, 172, 58, 8, 42, 25, 8, 182, 0, 129, 191]
abbrev dktX1_store_3 : List UInt8 := dkwX1_store_3 ++ []
def dkwX1_store_2 : List UInt8 := [182, 0, 117, 58, 7, 25, 7, 27, 28, 187, 0, 151, 89, 29, 21, 4, 183, 0, 153, 21, 5, 182, 0, 154]
abbrev dktX1_store_2 : List UInt8 := dkwX1_store_2 ++ dktX1_store_3
def dkwX1_store_1 : List UInt8 := [21, 5, 3, 16, 9, 184, 0, 3, 153, 0, 7, 4, 167, 0, 4, 3, 184, 0, 114, 42, 180, 0, 36]
abbrev dktX1_store_1 : List UInt8 := dkwX1_store_1 ++ dktX1_store_2
def dkwX1_store_0 : List UInt8 := [42, 27, 182, 0, 133, 58, 6, 28, 184, 0, 144, 153, 0, 27, 29, 21, 4, 184, 0, 147, 153, 0, 18]
abbrev dktX1_store_0 : List UInt8 := dkwX1_store_0 ++ dktX1_store_1
theorem dksX1_store_0 : cX1_store.data.toList.drop 0 = dktX1_store_0 := by decide +kernel
theorem dksX1_store_1 : cX1_store.data.toList.drop 23 = dktX1_store_1 := dk_seg dksX1_store_0 23 rfl rfl
theorem dksX1_store_2 : cX1_store.data.toList.drop 46 = dktX1_store_2 := dk_seg dksX1_store_1 23 rfl rfl
theorem dksX1_store_3 : cX1_store.data.toList.drop 70 = dktX1_store_3 := dk_seg dksX1_store_2 24 rfl rfl
theorem dX1_store_0 : decode cX1_store 0 = .ok (.aload_n 0, 1) := dk_42 (dk_at dksX1_store_0 0 rfl rfl)
theorem dX1_store_1 : decode cX1_store 1 = .ok (.iload_n 1, 1) := dk_27 (dk_at dksX1_store_0 1 rfl rfl)
theorem dX1_store_2 : decode cX1_store 2 = .ok (.invokevirtual 133, 3) := dk_182 0 133 (dk_at dksX1_store_0 2 rfl rfl)
theorem dX1_store_5 : decode cX1_store 5 = .ok (.astore 6, 2) := dk_58 6 (dk_at dksX1_store_0 5 rfl rfl)
theorem dX1_store_7 : decode cX1_store 7 = .ok (.iload_n 2, 1) := dk_28 (dk_at dksX1_store_0 7 rfl rfl)
theorem dX1_store_8 : decode cX1_store 8 = .ok (.invokestatic 144, 3) := dk_184 0 144 (dk_at dksX1_store_0 8 rfl rfl)
theorem dX1_store_11 : decode cX1_store 11 = .ok (.ifCond .eq 27, 3) := dk_153 0 27 (dk_at dksX1_store_0 11 rfl rfl)
theorem dX1_store_14 : decode cX1_store 14 = .ok (.iload_n 3, 1) := dk_29 (dk_at dksX1_store_0 14 rfl rfl)
theorem dX1_store_15 : decode cX1_store 15 = .ok (.iload 4, 2) := dk_21 4 (dk_at dksX1_store_0 15 rfl rfl)
theorem dX1_store_17 : decode cX1_store 17 = .ok (.invokestatic 147, 3) := dk_184 0 147 (dk_at dksX1_store_0 17 rfl rfl)
theorem dX1_store_20 : decode cX1_store 20 = .ok (.ifCond .eq 18, 3) := dk_153 0 18 (dk_at dksX1_store_0 20 rfl rfl)
theorem dX1_store_23 : decode cX1_store 23 = .ok (.iload 5, 2) := dk_21 5 (dk_at dksX1_store_1 0 rfl rfl)
theorem dX1_store_25 : decode cX1_store 25 = .ok (.iconst 0, 1) := dk_3 (dk_at dksX1_store_1 2 rfl rfl)
theorem dX1_store_26 : decode cX1_store 26 = .ok (.bipush 9, 2) := dk_16 9 (dk_at dksX1_store_1 3 rfl rfl)
theorem dX1_store_28 : decode cX1_store 28 = .ok (.invokestatic 3, 3) := dk_184 0 3 (dk_at dksX1_store_1 5 rfl rfl)
theorem dX1_store_31 : decode cX1_store 31 = .ok (.ifCond .eq 7, 3) := dk_153 0 7 (dk_at dksX1_store_1 8 rfl rfl)
theorem dX1_store_34 : decode cX1_store 34 = .ok (.iconst 1, 1) := dk_4 (dk_at dksX1_store_1 11 rfl rfl)
theorem dX1_store_35 : decode cX1_store 35 = .ok (.goto 4, 3) := dk_167 0 4 (dk_at dksX1_store_1 12 rfl rfl)
theorem dX1_store_38 : decode cX1_store 38 = .ok (.iconst 0, 1) := dk_3 (dk_at dksX1_store_1 15 rfl rfl)
theorem dX1_store_39 : decode cX1_store 39 = .ok (.invokestatic 114, 3) := dk_184 0 114 (dk_at dksX1_store_1 16 rfl rfl)
theorem dX1_store_42 : decode cX1_store 42 = .ok (.aload_n 0, 1) := dk_42 (dk_at dksX1_store_1 19 rfl rfl)
theorem dX1_store_43 : decode cX1_store 43 = .ok (.getfield 36, 3) := dk_180 0 36 (dk_at dksX1_store_1 20 rfl rfl)
theorem dX1_store_46 : decode cX1_store 46 = .ok (.invokevirtual 117, 3) := dk_182 0 117 (dk_at dksX1_store_2 0 rfl rfl)
theorem dX1_store_49 : decode cX1_store 49 = .ok (.astore 7, 2) := dk_58 7 (dk_at dksX1_store_2 3 rfl rfl)
theorem dX1_store_51 : decode cX1_store 51 = .ok (.aload 7, 2) := dk_25 7 (dk_at dksX1_store_2 5 rfl rfl)
theorem dX1_store_53 : decode cX1_store 53 = .ok (.iload_n 1, 1) := dk_27 (dk_at dksX1_store_2 7 rfl rfl)
theorem dX1_store_54 : decode cX1_store 54 = .ok (.iload_n 2, 1) := dk_28 (dk_at dksX1_store_2 8 rfl rfl)
theorem dX1_store_55 : decode cX1_store 55 = .ok (.new 151, 3) := dk_187 0 151 (dk_at dksX1_store_2 9 rfl rfl)
theorem dX1_store_58 : decode cX1_store 58 = .ok (.dup, 1) := dk_89 (dk_at dksX1_store_2 12 rfl rfl)
theorem dX1_store_59 : decode cX1_store 59 = .ok (.iload_n 3, 1) := dk_29 (dk_at dksX1_store_2 13 rfl rfl)
theorem dX1_store_60 : decode cX1_store 60 = .ok (.iload 4, 2) := dk_21 4 (dk_at dksX1_store_2 14 rfl rfl)
theorem dX1_store_62 : decode cX1_store 62 = .ok (.invokespecial 153, 3) := dk_183 0 153 (dk_at dksX1_store_2 16 rfl rfl)
theorem dX1_store_65 : decode cX1_store 65 = .ok (.iload 5, 2) := dk_21 5 (dk_at dksX1_store_2 19 rfl rfl)
theorem dX1_store_67 : decode cX1_store 67 = .ok (.invokevirtual 154, 3) := dk_182 0 154 (dk_at dksX1_store_2 21 rfl rfl)
theorem dX1_store_70 : decode cX1_store 70 = .ok (.istore 8, 2) := dk_54 8 (dk_at dksX1_store_3 0 rfl rfl)
theorem dX1_store_72 : decode cX1_store 72 = .ok (.aload_n 0, 1) := dk_42 (dk_at dksX1_store_3 2 rfl rfl)
theorem dX1_store_73 : decode cX1_store 73 = .ok (.aload 7, 2) := dk_25 7 (dk_at dksX1_store_3 3 rfl rfl)
theorem dX1_store_75 : decode cX1_store 75 = .ok (.iload 8, 2) := dk_21 8 (dk_at dksX1_store_3 5 rfl rfl)
theorem dX1_store_77 : decode cX1_store 77 = .ok (.invokevirtual 125, 3) := dk_182 0 125 (dk_at dksX1_store_3 7 rfl rfl)
theorem dX1_store_80 : decode cX1_store 80 = .ok (.ireturn, 1) := dk_172 (dk_at dksX1_store_3 10 rfl rfl)
theorem dX1_store_81 : decode cX1_store 81 = .ok (.astore 8, 2) := dk_58 8 (dk_at dksX1_store_3 11 rfl rfl)
theorem dX1_store_83 : decode cX1_store 83 = .ok (.aload_n 0, 1) := dk_42 (dk_at dksX1_store_3 13 rfl rfl)
theorem dX1_store_84 : decode cX1_store 84 = .ok (.aload 8, 2) := dk_25 8 (dk_at dksX1_store_3 14 rfl rfl)
theorem dX1_store_86 : decode cX1_store 86 = .ok (.invokevirtual 129, 3) := dk_182 0 129 (dk_at dksX1_store_3 16 rfl rfl)
theorem dX1_store_89 : decode cX1_store 89 = .ok (.athrow, 1) := dk_191 (dk_at dksX1_store_3 19 rfl rfl)
abbrev cX1_isShelf : ByteArray := prog_1_method_3_code
def yX1_isShelf : MethodName := ⟨RX1, "isShelf", "(I)Z"⟩
def dkwX1_isShelf_0 : List UInt8 := [26, 3, 8, 184, 0, 3, 172]
abbrev dktX1_isShelf_0 : List UInt8 := dkwX1_isShelf_0 ++ []
theorem dksX1_isShelf_0 : cX1_isShelf.data.toList.drop 0 = dktX1_isShelf_0 := by decide +kernel
theorem dX1_isShelf_0 : decode cX1_isShelf 0 = .ok (.iload_n 0, 1) := dk_26 (dk_at dksX1_isShelf_0 0 rfl rfl)
theorem dX1_isShelf_1 : decode cX1_isShelf 1 = .ok (.iconst 0, 1) := dk_3 (dk_at dksX1_isShelf_0 1 rfl rfl)
theorem dX1_isShelf_2 : decode cX1_isShelf 2 = .ok (.iconst 5, 1) := dk_8 (dk_at dksX1_isShelf_0 2 rfl rfl)
theorem dX1_isShelf_3 : decode cX1_isShelf 3 = .ok (.invokestatic 3, 3) := dk_184 0 3 (dk_at dksX1_isShelf_0 3 rfl rfl)
theorem dX1_isShelf_6 : decode cX1_isShelf 6 = .ok (.ireturn, 1) := dk_172 (dk_at dksX1_isShelf_0 6 rfl rfl)
abbrev cX1_isPaper : ByteArray := prog_1_method_4_code
def yX1_isPaper : MethodName := ⟨RX1, "isPaper", "(II)Z"⟩
def dkwX1_isPaper_0 : List UInt8 := [26, 3, 6, 184, 0, 3, 153, 0, 16, 27, 3, 5, 184, 0, 3, 153, 0, 7, 4, 167, 0, 4, 3, 172]
abbrev dktX1_isPaper_0 : List UInt8 := dkwX1_isPaper_0 ++ []
theorem dksX1_isPaper_0 : cX1_isPaper.data.toList.drop 0 = dktX1_isPaper_0 := by decide +kernel
theorem dX1_isPaper_0 : decode cX1_isPaper 0 = .ok (.iload_n 0, 1) := dk_26 (dk_at dksX1_isPaper_0 0 rfl rfl)
theorem dX1_isPaper_1 : decode cX1_isPaper 1 = .ok (.iconst 0, 1) := dk_3 (dk_at dksX1_isPaper_0 1 rfl rfl)
theorem dX1_isPaper_2 : decode cX1_isPaper 2 = .ok (.iconst 3, 1) := dk_6 (dk_at dksX1_isPaper_0 2 rfl rfl)
theorem dX1_isPaper_3 : decode cX1_isPaper 3 = .ok (.invokestatic 3, 3) := dk_184 0 3 (dk_at dksX1_isPaper_0 3 rfl rfl)
theorem dX1_isPaper_6 : decode cX1_isPaper 6 = .ok (.ifCond .eq 16, 3) := dk_153 0 16 (dk_at dksX1_isPaper_0 6 rfl rfl)
theorem dX1_isPaper_9 : decode cX1_isPaper 9 = .ok (.iload_n 1, 1) := dk_27 (dk_at dksX1_isPaper_0 9 rfl rfl)
theorem dX1_isPaper_10 : decode cX1_isPaper 10 = .ok (.iconst 0, 1) := dk_3 (dk_at dksX1_isPaper_0 10 rfl rfl)
theorem dX1_isPaper_11 : decode cX1_isPaper 11 = .ok (.iconst 2, 1) := dk_5 (dk_at dksX1_isPaper_0 11 rfl rfl)
theorem dX1_isPaper_12 : decode cX1_isPaper 12 = .ok (.invokestatic 3, 3) := dk_184 0 3 (dk_at dksX1_isPaper_0 12 rfl rfl)
theorem dX1_isPaper_15 : decode cX1_isPaper 15 = .ok (.ifCond .eq 7, 3) := dk_153 0 7 (dk_at dksX1_isPaper_0 15 rfl rfl)
theorem dX1_isPaper_18 : decode cX1_isPaper 18 = .ok (.iconst 1, 1) := dk_4 (dk_at dksX1_isPaper_0 18 rfl rfl)
theorem dX1_isPaper_19 : decode cX1_isPaper 19 = .ok (.goto 4, 3) := dk_167 0 4 (dk_at dksX1_isPaper_0 19 rfl rfl)
theorem dX1_isPaper_22 : decode cX1_isPaper 22 = .ok (.iconst 0, 1) := dk_3 (dk_at dksX1_isPaper_0 22 rfl rfl)
theorem dX1_isPaper_23 : decode cX1_isPaper 23 = .ok (.ireturn, 1) := dk_172 (dk_at dksX1_isPaper_0 23 rfl rfl)
abbrev cX1_ladderOf : ByteArray := prog_1_method_21_code
def yX1_ladderOf : MethodName := ⟨RX1, "ladderOf", "(IZ)I"⟩
def dkwX1_ladderOf_0 : List UInt8 := [42, 27, 182, 0, 133, 78, 28, 153, 0, 10, 45, 180, 0, 157, 167, 0, 7, 45, 180, 0, 161, 172]
abbrev dktX1_ladderOf_0 : List UInt8 := dkwX1_ladderOf_0 ++ []
theorem dksX1_ladderOf_0 : cX1_ladderOf.data.toList.drop 0 = dktX1_ladderOf_0 := by decide +kernel
theorem dX1_ladderOf_0 : decode cX1_ladderOf 0 = .ok (.aload_n 0, 1) := dk_42 (dk_at dksX1_ladderOf_0 0 rfl rfl)
theorem dX1_ladderOf_1 : decode cX1_ladderOf 1 = .ok (.iload_n 1, 1) := dk_27 (dk_at dksX1_ladderOf_0 1 rfl rfl)
theorem dX1_ladderOf_2 : decode cX1_ladderOf 2 = .ok (.invokevirtual 133, 3) := dk_182 0 133 (dk_at dksX1_ladderOf_0 2 rfl rfl)
theorem dX1_ladderOf_5 : decode cX1_ladderOf 5 = .ok (.astore_n 3, 1) := dk_78 (dk_at dksX1_ladderOf_0 5 rfl rfl)
theorem dX1_ladderOf_6 : decode cX1_ladderOf 6 = .ok (.iload_n 2, 1) := dk_28 (dk_at dksX1_ladderOf_0 6 rfl rfl)
theorem dX1_ladderOf_7 : decode cX1_ladderOf 7 = .ok (.ifCond .eq 10, 3) := dk_153 0 10 (dk_at dksX1_ladderOf_0 7 rfl rfl)
theorem dX1_ladderOf_10 : decode cX1_ladderOf 10 = .ok (.aload_n 3, 1) := dk_45 (dk_at dksX1_ladderOf_0 10 rfl rfl)
theorem dX1_ladderOf_11 : decode cX1_ladderOf 11 = .ok (.getfield 157, 3) := dk_180 0 157 (dk_at dksX1_ladderOf_0 11 rfl rfl)
theorem dX1_ladderOf_14 : decode cX1_ladderOf 14 = .ok (.goto 7, 3) := dk_167 0 7 (dk_at dksX1_ladderOf_0 14 rfl rfl)
theorem dX1_ladderOf_17 : decode cX1_ladderOf 17 = .ok (.aload_n 3, 1) := dk_45 (dk_at dksX1_ladderOf_0 17 rfl rfl)
theorem dX1_ladderOf_18 : decode cX1_ladderOf 18 = .ok (.getfield 161, 3) := dk_180 0 161 (dk_at dksX1_ladderOf_0 18 rfl rfl)
theorem dX1_ladderOf_21 : decode cX1_ladderOf 21 = .ok (.ireturn, 1) := dk_172 (dk_at dksX1_ladderOf_0 21 rfl rfl)
abbrev cX1_reamOf : ByteArray := prog_1_method_23_code
def yX1_reamOf : MethodName := ⟨RX1, "reamOf", "(II)I"⟩
def dkwX1_reamOf_3 : List UInt8 := [167, 0, 23, 45, 180, 0, 201, 167, 0, 16, 42, 45, 28, 182, 0, 204, 167, 0, 7, 45, 180, 0, 208, 172]
abbrev dktX1_reamOf_3 : List UInt8 := dkwX1_reamOf_3 ++ []
def dkwX1_reamOf_2 : List UInt8 := [45, 180, 0, 189, 180, 0, 193, 167, 0, 40, 45, 180, 0, 189, 180, 0, 195, 167, 0, 30, 45, 180, 0, 198]
abbrev dktX1_reamOf_2 : List UInt8 := dkwX1_reamOf_2 ++ dktX1_reamOf_3
def dkwX1_reamOf_1 : List UInt8 := [170, 0, 0, 0, 0, 0, 86, 0, 0, 0, 0, 0, 0, 0, 6, 0, 0, 0, 43, 0, 0, 0, 53, 0, 0, 0, 63, 0, 0, 0, 70, 0, 0, 0, 77, 0, 0, 0, 77, 0, 0, 0, 77]
abbrev dktX1_reamOf_1 : List UInt8 := dkwX1_reamOf_1 ++ dktX1_reamOf_2
def dkwX1_reamOf_0 : List UInt8 := [42, 27, 182, 0, 185, 78, 28, 3, 16, 7, 184, 0, 3, 184, 0, 114, 28]
abbrev dktX1_reamOf_0 : List UInt8 := dkwX1_reamOf_0 ++ dktX1_reamOf_1
theorem dksX1_reamOf_0 : cX1_reamOf.data.toList.drop 0 = dktX1_reamOf_0 := by decide +kernel
theorem dksX1_reamOf_1 : cX1_reamOf.data.toList.drop 17 = dktX1_reamOf_1 := dk_seg dksX1_reamOf_0 17 rfl rfl
theorem dksX1_reamOf_2 : cX1_reamOf.data.toList.drop 60 = dktX1_reamOf_2 := dk_seg dksX1_reamOf_1 43 rfl rfl
theorem dksX1_reamOf_3 : cX1_reamOf.data.toList.drop 84 = dktX1_reamOf_3 := dk_seg dksX1_reamOf_2 24 rfl rfl
theorem dX1_reamOf_0 : decode cX1_reamOf 0 = .ok (.aload_n 0, 1) := dk_42 (dk_at dksX1_reamOf_0 0 rfl rfl)
theorem dX1_reamOf_1 : decode cX1_reamOf 1 = .ok (.iload_n 1, 1) := dk_27 (dk_at dksX1_reamOf_0 1 rfl rfl)
theorem dX1_reamOf_2 : decode cX1_reamOf 2 = .ok (.invokevirtual 185, 3) := dk_182 0 185 (dk_at dksX1_reamOf_0 2 rfl rfl)
theorem dX1_reamOf_5 : decode cX1_reamOf 5 = .ok (.astore_n 3, 1) := dk_78 (dk_at dksX1_reamOf_0 5 rfl rfl)
theorem dX1_reamOf_6 : decode cX1_reamOf 6 = .ok (.iload_n 2, 1) := dk_28 (dk_at dksX1_reamOf_0 6 rfl rfl)
theorem dX1_reamOf_7 : decode cX1_reamOf 7 = .ok (.iconst 0, 1) := dk_3 (dk_at dksX1_reamOf_0 7 rfl rfl)
theorem dX1_reamOf_8 : decode cX1_reamOf 8 = .ok (.bipush 7, 2) := dk_16 7 (dk_at dksX1_reamOf_0 8 rfl rfl)
theorem dX1_reamOf_10 : decode cX1_reamOf 10 = .ok (.invokestatic 3, 3) := dk_184 0 3 (dk_at dksX1_reamOf_0 10 rfl rfl)
theorem dX1_reamOf_13 : decode cX1_reamOf 13 = .ok (.invokestatic 114, 3) := dk_184 0 114 (dk_at dksX1_reamOf_0 13 rfl rfl)
theorem dX1_reamOf_16 : decode cX1_reamOf 16 = .ok (.iload_n 2, 1) := dk_28 (dk_at dksX1_reamOf_0 16 rfl rfl)
theorem dX1_reamOf_17 : decode cX1_reamOf 17 = .ok (.tableswitch 86 0 6 #[43, 53, 63, 70, 77, 77, 77], 43) := by decide +kernel
theorem dX1_reamOf_60 : decode cX1_reamOf 60 = .ok (.aload_n 3, 1) := dk_45 (dk_at dksX1_reamOf_2 0 rfl rfl)
theorem dX1_reamOf_61 : decode cX1_reamOf 61 = .ok (.getfield 189, 3) := dk_180 0 189 (dk_at dksX1_reamOf_2 1 rfl rfl)
theorem dX1_reamOf_64 : decode cX1_reamOf 64 = .ok (.getfield 193, 3) := dk_180 0 193 (dk_at dksX1_reamOf_2 4 rfl rfl)
theorem dX1_reamOf_67 : decode cX1_reamOf 67 = .ok (.goto 40, 3) := dk_167 0 40 (dk_at dksX1_reamOf_2 7 rfl rfl)
theorem dX1_reamOf_70 : decode cX1_reamOf 70 = .ok (.aload_n 3, 1) := dk_45 (dk_at dksX1_reamOf_2 10 rfl rfl)
theorem dX1_reamOf_71 : decode cX1_reamOf 71 = .ok (.getfield 189, 3) := dk_180 0 189 (dk_at dksX1_reamOf_2 11 rfl rfl)
theorem dX1_reamOf_74 : decode cX1_reamOf 74 = .ok (.getfield 195, 3) := dk_180 0 195 (dk_at dksX1_reamOf_2 14 rfl rfl)
theorem dX1_reamOf_77 : decode cX1_reamOf 77 = .ok (.goto 30, 3) := dk_167 0 30 (dk_at dksX1_reamOf_2 17 rfl rfl)
theorem dX1_reamOf_80 : decode cX1_reamOf 80 = .ok (.aload_n 3, 1) := dk_45 (dk_at dksX1_reamOf_2 20 rfl rfl)
theorem dX1_reamOf_81 : decode cX1_reamOf 81 = .ok (.getfield 198, 3) := dk_180 0 198 (dk_at dksX1_reamOf_2 21 rfl rfl)
theorem dX1_reamOf_84 : decode cX1_reamOf 84 = .ok (.goto 23, 3) := dk_167 0 23 (dk_at dksX1_reamOf_3 0 rfl rfl)
theorem dX1_reamOf_87 : decode cX1_reamOf 87 = .ok (.aload_n 3, 1) := dk_45 (dk_at dksX1_reamOf_3 3 rfl rfl)
theorem dX1_reamOf_88 : decode cX1_reamOf 88 = .ok (.getfield 201, 3) := dk_180 0 201 (dk_at dksX1_reamOf_3 4 rfl rfl)
theorem dX1_reamOf_91 : decode cX1_reamOf 91 = .ok (.goto 16, 3) := dk_167 0 16 (dk_at dksX1_reamOf_3 7 rfl rfl)
theorem dX1_reamOf_94 : decode cX1_reamOf 94 = .ok (.aload_n 0, 1) := dk_42 (dk_at dksX1_reamOf_3 10 rfl rfl)
theorem dX1_reamOf_95 : decode cX1_reamOf 95 = .ok (.aload_n 3, 1) := dk_45 (dk_at dksX1_reamOf_3 11 rfl rfl)
theorem dX1_reamOf_96 : decode cX1_reamOf 96 = .ok (.iload_n 2, 1) := dk_28 (dk_at dksX1_reamOf_3 12 rfl rfl)
theorem dX1_reamOf_97 : decode cX1_reamOf 97 = .ok (.invokevirtual 204, 3) := dk_182 0 204 (dk_at dksX1_reamOf_3 13 rfl rfl)
theorem dX1_reamOf_100 : decode cX1_reamOf 100 = .ok (.goto 7, 3) := dk_167 0 7 (dk_at dksX1_reamOf_3 16 rfl rfl)
theorem dX1_reamOf_103 : decode cX1_reamOf 103 = .ok (.aload_n 3, 1) := dk_45 (dk_at dksX1_reamOf_3 19 rfl rfl)
theorem dX1_reamOf_104 : decode cX1_reamOf 104 = .ok (.getfield 208, 3) := dk_180 0 208 (dk_at dksX1_reamOf_3 20 rfl rfl)
theorem dX1_reamOf_107 : decode cX1_reamOf 107 = .ok (.ireturn, 1) := dk_172 (dk_at dksX1_reamOf_3 23 rfl rfl)
abbrev cX1_reamAt : ByteArray := prog_1_method_17_code
def yX1_reamAt : MethodName := ⟨RX1, "reamAt", "(I)LPaperStore$Ream;"⟩
def dkwX1_reamAt_1 : List UInt8 := [180, 0, 109, 27, 182, 0, 88, 192, 0, 112, 176]
abbrev dktX1_reamAt_1 : List UInt8 := dkwX1_reamAt_1 ++ []
def dkwX1_reamAt_0 : List UInt8 := [27, 3, 42, 180, 0, 36, 180, 0, 109, 182, 0, 58, 4, 100, 184, 0, 3, 184, 0, 81, 42, 180, 0, 36]
abbrev dktX1_reamAt_0 : List UInt8 := dkwX1_reamAt_0 ++ dktX1_reamAt_1
theorem dksX1_reamAt_0 : cX1_reamAt.data.toList.drop 0 = dktX1_reamAt_0 := by decide +kernel
theorem dksX1_reamAt_1 : cX1_reamAt.data.toList.drop 24 = dktX1_reamAt_1 := dk_seg dksX1_reamAt_0 24 rfl rfl
theorem dX1_reamAt_0 : decode cX1_reamAt 0 = .ok (.iload_n 1, 1) := dk_27 (dk_at dksX1_reamAt_0 0 rfl rfl)
theorem dX1_reamAt_1 : decode cX1_reamAt 1 = .ok (.iconst 0, 1) := dk_3 (dk_at dksX1_reamAt_0 1 rfl rfl)
theorem dX1_reamAt_2 : decode cX1_reamAt 2 = .ok (.aload_n 0, 1) := dk_42 (dk_at dksX1_reamAt_0 2 rfl rfl)
theorem dX1_reamAt_3 : decode cX1_reamAt 3 = .ok (.getfield 36, 3) := dk_180 0 36 (dk_at dksX1_reamAt_0 3 rfl rfl)
theorem dX1_reamAt_6 : decode cX1_reamAt 6 = .ok (.getfield 109, 3) := dk_180 0 109 (dk_at dksX1_reamAt_0 6 rfl rfl)
theorem dX1_reamAt_9 : decode cX1_reamAt 9 = .ok (.invokevirtual 58, 3) := dk_182 0 58 (dk_at dksX1_reamAt_0 9 rfl rfl)
theorem dX1_reamAt_12 : decode cX1_reamAt 12 = .ok (.iconst 1, 1) := dk_4 (dk_at dksX1_reamAt_0 12 rfl rfl)
theorem dX1_reamAt_13 : decode cX1_reamAt 13 = .ok (.isub, 1) := dk_100 (dk_at dksX1_reamAt_0 13 rfl rfl)
theorem dX1_reamAt_14 : decode cX1_reamAt 14 = .ok (.invokestatic 3, 3) := dk_184 0 3 (dk_at dksX1_reamAt_0 14 rfl rfl)
theorem dX1_reamAt_17 : decode cX1_reamAt 17 = .ok (.invokestatic 81, 3) := dk_184 0 81 (dk_at dksX1_reamAt_0 17 rfl rfl)
theorem dX1_reamAt_20 : decode cX1_reamAt 20 = .ok (.aload_n 0, 1) := dk_42 (dk_at dksX1_reamAt_0 20 rfl rfl)
theorem dX1_reamAt_21 : decode cX1_reamAt 21 = .ok (.getfield 36, 3) := dk_180 0 36 (dk_at dksX1_reamAt_0 21 rfl rfl)
theorem dX1_reamAt_24 : decode cX1_reamAt 24 = .ok (.getfield 109, 3) := dk_180 0 109 (dk_at dksX1_reamAt_1 0 rfl rfl)
theorem dX1_reamAt_27 : decode cX1_reamAt 27 = .ok (.iload_n 1, 1) := dk_27 (dk_at dksX1_reamAt_1 3 rfl rfl)
theorem dX1_reamAt_28 : decode cX1_reamAt 28 = .ok (.invokevirtual 88, 3) := dk_182 0 88 (dk_at dksX1_reamAt_1 4 rfl rfl)
theorem dX1_reamAt_31 : decode cX1_reamAt 31 = .ok (.checkcast 112, 3) := dk_192 0 112 (dk_at dksX1_reamAt_1 7 rfl rfl)
theorem dX1_reamAt_34 : decode cX1_reamAt 34 = .ok (.areturn, 1) := dk_176 (dk_at dksX1_reamAt_1 10 rfl rfl)
abbrev cX1_placeOf : ByteArray := prog_1_method_22_code
def yX1_placeOf : MethodName := ⟨RX1, "placeOf", "(LPaperStore$Ream;I)I"⟩
def dkwX1_placeOf_3 : List UInt8 := [167, 0, 5, 21, 5, 172, 132, 4, 1, 167, 255, 203, 2, 172]
abbrev dktX1_placeOf_3 : List UInt8 := dkwX1_placeOf_3 ++ []
def dkwX1_placeOf_2 : List UInt8 := [180, 0, 178, 43, 182, 0, 181, 54, 5, 21, 5, 2, 159, 0, 16, 28, 8, 160, 0, 8, 21, 4]
abbrev dktX1_placeOf_2 : List UInt8 := dkwX1_placeOf_2 ++ dktX1_placeOf_3
def dkwX1_placeOf_1 : List UInt8 := [21, 4, 16, 6, 162, 0, 52, 42, 180, 0, 36, 180, 0, 168, 29, 50, 180, 0, 172, 21, 4, 50]
abbrev dktX1_placeOf_1 : List UInt8 := dkwX1_placeOf_1 ++ dktX1_placeOf_2
def dkwX1_placeOf_0 : List UInt8 := [42, 180, 0, 36, 43, 182, 0, 164, 62, 29, 2, 159, 0, 8, 28, 7, 160, 0, 5, 29, 172, 3, 54, 4]
abbrev dktX1_placeOf_0 : List UInt8 := dkwX1_placeOf_0 ++ dktX1_placeOf_1
theorem dksX1_placeOf_0 : cX1_placeOf.data.toList.drop 0 = dktX1_placeOf_0 := by decide +kernel
theorem dksX1_placeOf_1 : cX1_placeOf.data.toList.drop 24 = dktX1_placeOf_1 := dk_seg dksX1_placeOf_0 24 rfl rfl
theorem dksX1_placeOf_2 : cX1_placeOf.data.toList.drop 46 = dktX1_placeOf_2 := dk_seg dksX1_placeOf_1 22 rfl rfl
theorem dksX1_placeOf_3 : cX1_placeOf.data.toList.drop 68 = dktX1_placeOf_3 := dk_seg dksX1_placeOf_2 22 rfl rfl
theorem dX1_placeOf_0 : decode cX1_placeOf 0 = .ok (.aload_n 0, 1) := dk_42 (dk_at dksX1_placeOf_0 0 rfl rfl)
theorem dX1_placeOf_1 : decode cX1_placeOf 1 = .ok (.getfield 36, 3) := dk_180 0 36 (dk_at dksX1_placeOf_0 1 rfl rfl)
theorem dX1_placeOf_4 : decode cX1_placeOf 4 = .ok (.aload_n 1, 1) := dk_43 (dk_at dksX1_placeOf_0 4 rfl rfl)
theorem dX1_placeOf_5 : decode cX1_placeOf 5 = .ok (.invokevirtual 164, 3) := dk_182 0 164 (dk_at dksX1_placeOf_0 5 rfl rfl)
theorem dX1_placeOf_8 : decode cX1_placeOf 8 = .ok (.istore_n 3, 1) := dk_62 (dk_at dksX1_placeOf_0 8 rfl rfl)
theorem dX1_placeOf_9 : decode cX1_placeOf 9 = .ok (.iload_n 3, 1) := dk_29 (dk_at dksX1_placeOf_0 9 rfl rfl)
theorem dX1_placeOf_10 : decode cX1_placeOf 10 = .ok (.iconst (-1), 1) := dk_2 (dk_at dksX1_placeOf_0 10 rfl rfl)
theorem dX1_placeOf_11 : decode cX1_placeOf 11 = .ok (.if_icmp .eq 8, 3) := dk_159 0 8 (dk_at dksX1_placeOf_0 11 rfl rfl)
theorem dX1_placeOf_14 : decode cX1_placeOf 14 = .ok (.iload_n 2, 1) := dk_28 (dk_at dksX1_placeOf_0 14 rfl rfl)
theorem dX1_placeOf_15 : decode cX1_placeOf 15 = .ok (.iconst 4, 1) := dk_7 (dk_at dksX1_placeOf_0 15 rfl rfl)
theorem dX1_placeOf_16 : decode cX1_placeOf 16 = .ok (.if_icmp .ne 5, 3) := dk_160 0 5 (dk_at dksX1_placeOf_0 16 rfl rfl)
theorem dX1_placeOf_19 : decode cX1_placeOf 19 = .ok (.iload_n 3, 1) := dk_29 (dk_at dksX1_placeOf_0 19 rfl rfl)
theorem dX1_placeOf_20 : decode cX1_placeOf 20 = .ok (.ireturn, 1) := dk_172 (dk_at dksX1_placeOf_0 20 rfl rfl)
theorem dX1_placeOf_21 : decode cX1_placeOf 21 = .ok (.iconst 0, 1) := dk_3 (dk_at dksX1_placeOf_0 21 rfl rfl)
theorem dX1_placeOf_22 : decode cX1_placeOf 22 = .ok (.istore 4, 2) := dk_54 4 (dk_at dksX1_placeOf_0 22 rfl rfl)
theorem dX1_placeOf_24 : decode cX1_placeOf 24 = .ok (.iload 4, 2) := dk_21 4 (dk_at dksX1_placeOf_1 0 rfl rfl)
theorem dX1_placeOf_26 : decode cX1_placeOf 26 = .ok (.bipush 6, 2) := dk_16 6 (dk_at dksX1_placeOf_1 2 rfl rfl)
theorem dX1_placeOf_28 : decode cX1_placeOf 28 = .ok (.if_icmp .ge 52, 3) := dk_162 0 52 (dk_at dksX1_placeOf_1 4 rfl rfl)
theorem dX1_placeOf_31 : decode cX1_placeOf 31 = .ok (.aload_n 0, 1) := dk_42 (dk_at dksX1_placeOf_1 7 rfl rfl)
theorem dX1_placeOf_32 : decode cX1_placeOf 32 = .ok (.getfield 36, 3) := dk_180 0 36 (dk_at dksX1_placeOf_1 8 rfl rfl)
theorem dX1_placeOf_35 : decode cX1_placeOf 35 = .ok (.getfield 168, 3) := dk_180 0 168 (dk_at dksX1_placeOf_1 11 rfl rfl)
theorem dX1_placeOf_38 : decode cX1_placeOf 38 = .ok (.iload_n 3, 1) := dk_29 (dk_at dksX1_placeOf_1 14 rfl rfl)
theorem dX1_placeOf_39 : decode cX1_placeOf 39 = .ok (.aaload, 1) := dk_50 (dk_at dksX1_placeOf_1 15 rfl rfl)
theorem dX1_placeOf_40 : decode cX1_placeOf 40 = .ok (.getfield 172, 3) := dk_180 0 172 (dk_at dksX1_placeOf_1 16 rfl rfl)
theorem dX1_placeOf_43 : decode cX1_placeOf 43 = .ok (.iload 4, 2) := dk_21 4 (dk_at dksX1_placeOf_1 19 rfl rfl)
theorem dX1_placeOf_45 : decode cX1_placeOf 45 = .ok (.aaload, 1) := dk_50 (dk_at dksX1_placeOf_1 21 rfl rfl)
theorem dX1_placeOf_46 : decode cX1_placeOf 46 = .ok (.getfield 178, 3) := dk_180 0 178 (dk_at dksX1_placeOf_2 0 rfl rfl)
theorem dX1_placeOf_49 : decode cX1_placeOf 49 = .ok (.aload_n 1, 1) := dk_43 (dk_at dksX1_placeOf_2 3 rfl rfl)
theorem dX1_placeOf_50 : decode cX1_placeOf 50 = .ok (.invokevirtual 181, 3) := dk_182 0 181 (dk_at dksX1_placeOf_2 4 rfl rfl)
theorem dX1_placeOf_53 : decode cX1_placeOf 53 = .ok (.istore 5, 2) := dk_54 5 (dk_at dksX1_placeOf_2 7 rfl rfl)
theorem dX1_placeOf_55 : decode cX1_placeOf 55 = .ok (.iload 5, 2) := dk_21 5 (dk_at dksX1_placeOf_2 9 rfl rfl)
theorem dX1_placeOf_57 : decode cX1_placeOf 57 = .ok (.iconst (-1), 1) := dk_2 (dk_at dksX1_placeOf_2 11 rfl rfl)
theorem dX1_placeOf_58 : decode cX1_placeOf 58 = .ok (.if_icmp .eq 16, 3) := dk_159 0 16 (dk_at dksX1_placeOf_2 12 rfl rfl)
theorem dX1_placeOf_61 : decode cX1_placeOf 61 = .ok (.iload_n 2, 1) := dk_28 (dk_at dksX1_placeOf_2 15 rfl rfl)
theorem dX1_placeOf_62 : decode cX1_placeOf 62 = .ok (.iconst 5, 1) := dk_8 (dk_at dksX1_placeOf_2 16 rfl rfl)
theorem dX1_placeOf_63 : decode cX1_placeOf 63 = .ok (.if_icmp .ne 8, 3) := dk_160 0 8 (dk_at dksX1_placeOf_2 17 rfl rfl)
theorem dX1_placeOf_66 : decode cX1_placeOf 66 = .ok (.iload 4, 2) := dk_21 4 (dk_at dksX1_placeOf_2 20 rfl rfl)
theorem dX1_placeOf_68 : decode cX1_placeOf 68 = .ok (.goto 5, 3) := dk_167 0 5 (dk_at dksX1_placeOf_3 0 rfl rfl)
theorem dX1_placeOf_71 : decode cX1_placeOf 71 = .ok (.iload 5, 2) := dk_21 5 (dk_at dksX1_placeOf_3 3 rfl rfl)
theorem dX1_placeOf_73 : decode cX1_placeOf 73 = .ok (.ireturn, 1) := dk_172 (dk_at dksX1_placeOf_3 5 rfl rfl)
theorem dX1_placeOf_74 : decode cX1_placeOf 74 = .ok (.iinc 4 1, 3) := dk_132 4 1 (dk_at dksX1_placeOf_3 6 rfl rfl)
theorem dX1_placeOf_77 : decode cX1_placeOf 77 = .ok (.goto (-53), 3) := dk_167 255 203 (dk_at dksX1_placeOf_3 9 rfl rfl)
theorem dX1_placeOf_80 : decode cX1_placeOf 80 = .ok (.iconst (-1), 1) := dk_2 (dk_at dksX1_placeOf_3 12 rfl rfl)
theorem dX1_placeOf_81 : decode cX1_placeOf 81 = .ok (.ireturn, 1) := dk_172 (dk_at dksX1_placeOf_3 13 rfl rfl)
abbrev cX1_top : ByteArray := prog_1_method_24_code
def yX1_top : MethodName := ⟨RX1, "top", "(II)I"⟩
def dkwX1_top_2 : List UInt8 := [167, 0, 4, 3, 184, 0, 215, 45, 180, 0, 218, 172]
abbrev dktX1_top_2 : List UInt8 := dkwX1_top_2 ++ []
def dkwX1_top_1 : List UInt8 := [180, 0, 36, 180, 0, 168, 27, 50, 180, 0, 172, 28, 50, 182, 0, 211, 78, 45, 198, 0, 7, 4]
abbrev dktX1_top_1 : List UInt8 := dkwX1_top_1 ++ dktX1_top_2
def dkwX1_top_0 : List UInt8 := [27, 184, 0, 137, 153, 0, 14, 28, 184, 0, 144, 153, 0, 7, 4, 167, 0, 4, 3, 184, 0, 114, 42]
abbrev dktX1_top_0 : List UInt8 := dkwX1_top_0 ++ dktX1_top_1
theorem dksX1_top_0 : cX1_top.data.toList.drop 0 = dktX1_top_0 := by decide +kernel
theorem dksX1_top_1 : cX1_top.data.toList.drop 23 = dktX1_top_1 := dk_seg dksX1_top_0 23 rfl rfl
theorem dksX1_top_2 : cX1_top.data.toList.drop 45 = dktX1_top_2 := dk_seg dksX1_top_1 22 rfl rfl
theorem dX1_top_0 : decode cX1_top 0 = .ok (.iload_n 1, 1) := dk_27 (dk_at dksX1_top_0 0 rfl rfl)
theorem dX1_top_1 : decode cX1_top 1 = .ok (.invokestatic 137, 3) := dk_184 0 137 (dk_at dksX1_top_0 1 rfl rfl)
theorem dX1_top_4 : decode cX1_top 4 = .ok (.ifCond .eq 14, 3) := dk_153 0 14 (dk_at dksX1_top_0 4 rfl rfl)
theorem dX1_top_7 : decode cX1_top 7 = .ok (.iload_n 2, 1) := dk_28 (dk_at dksX1_top_0 7 rfl rfl)
theorem dX1_top_8 : decode cX1_top 8 = .ok (.invokestatic 144, 3) := dk_184 0 144 (dk_at dksX1_top_0 8 rfl rfl)
theorem dX1_top_11 : decode cX1_top 11 = .ok (.ifCond .eq 7, 3) := dk_153 0 7 (dk_at dksX1_top_0 11 rfl rfl)
theorem dX1_top_14 : decode cX1_top 14 = .ok (.iconst 1, 1) := dk_4 (dk_at dksX1_top_0 14 rfl rfl)
theorem dX1_top_15 : decode cX1_top 15 = .ok (.goto 4, 3) := dk_167 0 4 (dk_at dksX1_top_0 15 rfl rfl)
theorem dX1_top_18 : decode cX1_top 18 = .ok (.iconst 0, 1) := dk_3 (dk_at dksX1_top_0 18 rfl rfl)
theorem dX1_top_19 : decode cX1_top 19 = .ok (.invokestatic 114, 3) := dk_184 0 114 (dk_at dksX1_top_0 19 rfl rfl)
theorem dX1_top_22 : decode cX1_top 22 = .ok (.aload_n 0, 1) := dk_42 (dk_at dksX1_top_0 22 rfl rfl)
theorem dX1_top_23 : decode cX1_top 23 = .ok (.getfield 36, 3) := dk_180 0 36 (dk_at dksX1_top_1 0 rfl rfl)
theorem dX1_top_26 : decode cX1_top 26 = .ok (.getfield 168, 3) := dk_180 0 168 (dk_at dksX1_top_1 3 rfl rfl)
theorem dX1_top_29 : decode cX1_top 29 = .ok (.iload_n 1, 1) := dk_27 (dk_at dksX1_top_1 6 rfl rfl)
theorem dX1_top_30 : decode cX1_top 30 = .ok (.aaload, 1) := dk_50 (dk_at dksX1_top_1 7 rfl rfl)
theorem dX1_top_31 : decode cX1_top 31 = .ok (.getfield 172, 3) := dk_180 0 172 (dk_at dksX1_top_1 8 rfl rfl)
theorem dX1_top_34 : decode cX1_top 34 = .ok (.iload_n 2, 1) := dk_28 (dk_at dksX1_top_1 11 rfl rfl)
theorem dX1_top_35 : decode cX1_top 35 = .ok (.aaload, 1) := dk_50 (dk_at dksX1_top_1 12 rfl rfl)
theorem dX1_top_36 : decode cX1_top 36 = .ok (.invokevirtual 211, 3) := dk_182 0 211 (dk_at dksX1_top_1 13 rfl rfl)
theorem dX1_top_39 : decode cX1_top 39 = .ok (.astore_n 3, 1) := dk_78 (dk_at dksX1_top_1 16 rfl rfl)
theorem dX1_top_40 : decode cX1_top 40 = .ok (.aload_n 3, 1) := dk_45 (dk_at dksX1_top_1 17 rfl rfl)
theorem dX1_top_41 : decode cX1_top 41 = .ok (.ifnull 7, 3) := dk_198 0 7 (dk_at dksX1_top_1 18 rfl rfl)
theorem dX1_top_44 : decode cX1_top 44 = .ok (.iconst 1, 1) := dk_4 (dk_at dksX1_top_1 21 rfl rfl)
theorem dX1_top_45 : decode cX1_top 45 = .ok (.goto 4, 3) := dk_167 0 4 (dk_at dksX1_top_2 0 rfl rfl)
theorem dX1_top_48 : decode cX1_top 48 = .ok (.iconst 0, 1) := dk_3 (dk_at dksX1_top_2 3 rfl rfl)
theorem dX1_top_49 : decode cX1_top 49 = .ok (.invokestatic 215, 3) := dk_184 0 215 (dk_at dksX1_top_2 4 rfl rfl)
theorem dX1_top_52 : decode cX1_top 52 = .ok (.aload_n 3, 1) := dk_45 (dk_at dksX1_top_2 7 rfl rfl)
theorem dX1_top_53 : decode cX1_top 53 = .ok (.getfield 218, 3) := dk_180 0 218 (dk_at dksX1_top_2 8 rfl rfl)
theorem dX1_top_56 : decode cX1_top 56 = .ok (.ireturn, 1) := dk_172 (dk_at dksX1_top_2 11 rfl rfl)
abbrev cX1_checkElement : ByteArray := prog_1_method_8_code
def yX1_checkElement : MethodName := ⟨RX1, "checkElement", "(Z)V"⟩
def dkwX1_checkElement_0 : List UInt8 := [26, 154, 0, 11, 187, 0, 19, 89, 183, 0, 21, 191, 177]
abbrev dktX1_checkElement_0 : List UInt8 := dkwX1_checkElement_0 ++ []
theorem dksX1_checkElement_0 : cX1_checkElement.data.toList.drop 0 = dktX1_checkElement_0 := by decide +kernel
theorem dX1_checkElement_0 : decode cX1_checkElement 0 = .ok (.iload_n 0, 1) := dk_26 (dk_at dksX1_checkElement_0 0 rfl rfl)
theorem dX1_checkElement_1 : decode cX1_checkElement 1 = .ok (.ifCond .ne 11, 3) := dk_154 0 11 (dk_at dksX1_checkElement_0 1 rfl rfl)
theorem dX1_checkElement_4 : decode cX1_checkElement 4 = .ok (.new 19, 3) := dk_187 0 19 (dk_at dksX1_checkElement_0 4 rfl rfl)
theorem dX1_checkElement_7 : decode cX1_checkElement 7 = .ok (.dup, 1) := dk_89 (dk_at dksX1_checkElement_0 7 rfl rfl)
theorem dX1_checkElement_8 : decode cX1_checkElement 8 = .ok (.invokespecial 21, 3) := dk_183 0 21 (dk_at dksX1_checkElement_0 8 rfl rfl)
theorem dX1_checkElement_11 : decode cX1_checkElement 11 = .ok (.athrow, 1) := dk_191 (dk_at dksX1_checkElement_0 11 rfl rfl)
theorem dX1_checkElement_12 : decode cX1_checkElement 12 = .ok (.return_, 1) := dk_177 (dk_at dksX1_checkElement_0 12 rfl rfl)
abbrev cX1_wavyIn : ByteArray := prog_1_method_25_code
def yX1_wavyIn : MethodName := ⟨RX1, "wavyIn", "(I)I"⟩
def dkwX1_wavyIn_3 : List UInt8 := [100, 184, 0, 229, 172]
abbrev dktX1_wavyIn_3 : List UInt8 := dkwX1_wavyIn_3 ++ []
def dkwX1_wavyIn_2 : List UInt8 := [154, 0, 9, 29, 16, 7, 161, 0, 7, 4, 167, 0, 4, 3, 184, 0, 215, 3, 16, 7, 44, 180, 0, 201]
abbrev dktX1_wavyIn_2 : List UInt8 := dkwX1_wavyIn_2 ++ dktX1_wavyIn_3
def dkwX1_wavyIn_1 : List UInt8 := [180, 0, 36, 180, 0, 168, 42, 180, 0, 36, 44, 182, 0, 164, 50, 180, 0, 225, 62, 44, 182, 0, 226]
abbrev dktX1_wavyIn_1 : List UInt8 := dkwX1_wavyIn_1 ++ dktX1_wavyIn_2
def dkwX1_wavyIn_0 : List UInt8 := [42, 27, 182, 0, 185, 77, 44, 182, 0, 221, 154, 0, 7, 4, 167, 0, 4, 3, 184, 0, 215, 42]
abbrev dktX1_wavyIn_0 : List UInt8 := dkwX1_wavyIn_0 ++ dktX1_wavyIn_1
theorem dksX1_wavyIn_0 : cX1_wavyIn.data.toList.drop 0 = dktX1_wavyIn_0 := by decide +kernel
theorem dksX1_wavyIn_1 : cX1_wavyIn.data.toList.drop 22 = dktX1_wavyIn_1 := dk_seg dksX1_wavyIn_0 22 rfl rfl
theorem dksX1_wavyIn_2 : cX1_wavyIn.data.toList.drop 45 = dktX1_wavyIn_2 := dk_seg dksX1_wavyIn_1 23 rfl rfl
theorem dksX1_wavyIn_3 : cX1_wavyIn.data.toList.drop 69 = dktX1_wavyIn_3 := dk_seg dksX1_wavyIn_2 24 rfl rfl
theorem dX1_wavyIn_0 : decode cX1_wavyIn 0 = .ok (.aload_n 0, 1) := dk_42 (dk_at dksX1_wavyIn_0 0 rfl rfl)
theorem dX1_wavyIn_1 : decode cX1_wavyIn 1 = .ok (.iload_n 1, 1) := dk_27 (dk_at dksX1_wavyIn_0 1 rfl rfl)
theorem dX1_wavyIn_2 : decode cX1_wavyIn 2 = .ok (.invokevirtual 185, 3) := dk_182 0 185 (dk_at dksX1_wavyIn_0 2 rfl rfl)
theorem dX1_wavyIn_5 : decode cX1_wavyIn 5 = .ok (.astore_n 2, 1) := dk_77 (dk_at dksX1_wavyIn_0 5 rfl rfl)
theorem dX1_wavyIn_6 : decode cX1_wavyIn 6 = .ok (.aload_n 2, 1) := dk_44 (dk_at dksX1_wavyIn_0 6 rfl rfl)
theorem dX1_wavyIn_7 : decode cX1_wavyIn 7 = .ok (.invokevirtual 221, 3) := dk_182 0 221 (dk_at dksX1_wavyIn_0 7 rfl rfl)
theorem dX1_wavyIn_10 : decode cX1_wavyIn 10 = .ok (.ifCond .ne 7, 3) := dk_154 0 7 (dk_at dksX1_wavyIn_0 10 rfl rfl)
theorem dX1_wavyIn_13 : decode cX1_wavyIn 13 = .ok (.iconst 1, 1) := dk_4 (dk_at dksX1_wavyIn_0 13 rfl rfl)
theorem dX1_wavyIn_14 : decode cX1_wavyIn 14 = .ok (.goto 4, 3) := dk_167 0 4 (dk_at dksX1_wavyIn_0 14 rfl rfl)
theorem dX1_wavyIn_17 : decode cX1_wavyIn 17 = .ok (.iconst 0, 1) := dk_3 (dk_at dksX1_wavyIn_0 17 rfl rfl)
theorem dX1_wavyIn_18 : decode cX1_wavyIn 18 = .ok (.invokestatic 215, 3) := dk_184 0 215 (dk_at dksX1_wavyIn_0 18 rfl rfl)
theorem dX1_wavyIn_21 : decode cX1_wavyIn 21 = .ok (.aload_n 0, 1) := dk_42 (dk_at dksX1_wavyIn_0 21 rfl rfl)
theorem dX1_wavyIn_22 : decode cX1_wavyIn 22 = .ok (.getfield 36, 3) := dk_180 0 36 (dk_at dksX1_wavyIn_1 0 rfl rfl)
theorem dX1_wavyIn_25 : decode cX1_wavyIn 25 = .ok (.getfield 168, 3) := dk_180 0 168 (dk_at dksX1_wavyIn_1 3 rfl rfl)
theorem dX1_wavyIn_28 : decode cX1_wavyIn 28 = .ok (.aload_n 0, 1) := dk_42 (dk_at dksX1_wavyIn_1 6 rfl rfl)
theorem dX1_wavyIn_29 : decode cX1_wavyIn 29 = .ok (.getfield 36, 3) := dk_180 0 36 (dk_at dksX1_wavyIn_1 7 rfl rfl)
theorem dX1_wavyIn_32 : decode cX1_wavyIn 32 = .ok (.aload_n 2, 1) := dk_44 (dk_at dksX1_wavyIn_1 10 rfl rfl)
theorem dX1_wavyIn_33 : decode cX1_wavyIn 33 = .ok (.invokevirtual 164, 3) := dk_182 0 164 (dk_at dksX1_wavyIn_1 11 rfl rfl)
theorem dX1_wavyIn_36 : decode cX1_wavyIn 36 = .ok (.aaload, 1) := dk_50 (dk_at dksX1_wavyIn_1 14 rfl rfl)
theorem dX1_wavyIn_37 : decode cX1_wavyIn 37 = .ok (.getfield 225, 3) := dk_180 0 225 (dk_at dksX1_wavyIn_1 15 rfl rfl)
theorem dX1_wavyIn_40 : decode cX1_wavyIn 40 = .ok (.istore_n 3, 1) := dk_62 (dk_at dksX1_wavyIn_1 18 rfl rfl)
theorem dX1_wavyIn_41 : decode cX1_wavyIn 41 = .ok (.aload_n 2, 1) := dk_44 (dk_at dksX1_wavyIn_1 19 rfl rfl)
theorem dX1_wavyIn_42 : decode cX1_wavyIn 42 = .ok (.invokevirtual 226, 3) := dk_182 0 226 (dk_at dksX1_wavyIn_1 20 rfl rfl)
theorem dX1_wavyIn_45 : decode cX1_wavyIn 45 = .ok (.ifCond .ne 9, 3) := dk_154 0 9 (dk_at dksX1_wavyIn_2 0 rfl rfl)
theorem dX1_wavyIn_48 : decode cX1_wavyIn 48 = .ok (.iload_n 3, 1) := dk_29 (dk_at dksX1_wavyIn_2 3 rfl rfl)
theorem dX1_wavyIn_49 : decode cX1_wavyIn 49 = .ok (.bipush 7, 2) := dk_16 7 (dk_at dksX1_wavyIn_2 4 rfl rfl)
theorem dX1_wavyIn_51 : decode cX1_wavyIn 51 = .ok (.if_icmp .lt 7, 3) := dk_161 0 7 (dk_at dksX1_wavyIn_2 6 rfl rfl)
theorem dX1_wavyIn_54 : decode cX1_wavyIn 54 = .ok (.iconst 1, 1) := dk_4 (dk_at dksX1_wavyIn_2 9 rfl rfl)
theorem dX1_wavyIn_55 : decode cX1_wavyIn 55 = .ok (.goto 4, 3) := dk_167 0 4 (dk_at dksX1_wavyIn_2 10 rfl rfl)
theorem dX1_wavyIn_58 : decode cX1_wavyIn 58 = .ok (.iconst 0, 1) := dk_3 (dk_at dksX1_wavyIn_2 13 rfl rfl)
theorem dX1_wavyIn_59 : decode cX1_wavyIn 59 = .ok (.invokestatic 215, 3) := dk_184 0 215 (dk_at dksX1_wavyIn_2 14 rfl rfl)
theorem dX1_wavyIn_62 : decode cX1_wavyIn 62 = .ok (.iconst 0, 1) := dk_3 (dk_at dksX1_wavyIn_2 17 rfl rfl)
theorem dX1_wavyIn_63 : decode cX1_wavyIn 63 = .ok (.bipush 7, 2) := dk_16 7 (dk_at dksX1_wavyIn_2 18 rfl rfl)
theorem dX1_wavyIn_65 : decode cX1_wavyIn 65 = .ok (.aload_n 2, 1) := dk_44 (dk_at dksX1_wavyIn_2 20 rfl rfl)
theorem dX1_wavyIn_66 : decode cX1_wavyIn 66 = .ok (.getfield 201, 3) := dk_180 0 201 (dk_at dksX1_wavyIn_2 21 rfl rfl)
theorem dX1_wavyIn_69 : decode cX1_wavyIn 69 = .ok (.isub, 1) := dk_100 (dk_at dksX1_wavyIn_3 0 rfl rfl)
theorem dX1_wavyIn_70 : decode cX1_wavyIn 70 = .ok (.invokestatic 229, 3) := dk_184 0 229 (dk_at dksX1_wavyIn_3 1 rfl rfl)
theorem dX1_wavyIn_73 : decode cX1_wavyIn 73 = .ok (.ireturn, 1) := dk_172 (dk_at dksX1_wavyIn_3 4 rfl rfl)
abbrev cX1_air : ByteArray := prog_1_method_26_code
def yX1_air : MethodName := ⟨RX1, "air", "(II)I"⟩
def dkwX1_air_1 : List UInt8 := [184, 0, 114, 42, 180, 0, 36, 182, 0, 117, 78, 42, 45, 45, 27, 28, 182, 0, 234, 182, 0, 125, 172]
abbrev dktX1_air_1 : List UInt8 := dkwX1_air_1 ++ []
def dkwX1_air_0 : List UInt8 := [27, 184, 0, 137, 153, 0, 17, 28, 3, 16, 9, 184, 0, 3, 153, 0, 7, 4, 167, 0, 4, 3]
abbrev dktX1_air_0 : List UInt8 := dkwX1_air_0 ++ dktX1_air_1
theorem dksX1_air_0 : cX1_air.data.toList.drop 0 = dktX1_air_0 := by decide +kernel
theorem dksX1_air_1 : cX1_air.data.toList.drop 22 = dktX1_air_1 := dk_seg dksX1_air_0 22 rfl rfl
theorem dX1_air_0 : decode cX1_air 0 = .ok (.iload_n 1, 1) := dk_27 (dk_at dksX1_air_0 0 rfl rfl)
theorem dX1_air_1 : decode cX1_air 1 = .ok (.invokestatic 137, 3) := dk_184 0 137 (dk_at dksX1_air_0 1 rfl rfl)
theorem dX1_air_4 : decode cX1_air 4 = .ok (.ifCond .eq 17, 3) := dk_153 0 17 (dk_at dksX1_air_0 4 rfl rfl)
theorem dX1_air_7 : decode cX1_air 7 = .ok (.iload_n 2, 1) := dk_28 (dk_at dksX1_air_0 7 rfl rfl)
theorem dX1_air_8 : decode cX1_air 8 = .ok (.iconst 0, 1) := dk_3 (dk_at dksX1_air_0 8 rfl rfl)
theorem dX1_air_9 : decode cX1_air 9 = .ok (.bipush 9, 2) := dk_16 9 (dk_at dksX1_air_0 9 rfl rfl)
theorem dX1_air_11 : decode cX1_air 11 = .ok (.invokestatic 3, 3) := dk_184 0 3 (dk_at dksX1_air_0 11 rfl rfl)
theorem dX1_air_14 : decode cX1_air 14 = .ok (.ifCond .eq 7, 3) := dk_153 0 7 (dk_at dksX1_air_0 14 rfl rfl)
theorem dX1_air_17 : decode cX1_air 17 = .ok (.iconst 1, 1) := dk_4 (dk_at dksX1_air_0 17 rfl rfl)
theorem dX1_air_18 : decode cX1_air 18 = .ok (.goto 4, 3) := dk_167 0 4 (dk_at dksX1_air_0 18 rfl rfl)
theorem dX1_air_21 : decode cX1_air 21 = .ok (.iconst 0, 1) := dk_3 (dk_at dksX1_air_0 21 rfl rfl)
theorem dX1_air_22 : decode cX1_air 22 = .ok (.invokestatic 114, 3) := dk_184 0 114 (dk_at dksX1_air_1 0 rfl rfl)
theorem dX1_air_25 : decode cX1_air 25 = .ok (.aload_n 0, 1) := dk_42 (dk_at dksX1_air_1 3 rfl rfl)
theorem dX1_air_26 : decode cX1_air 26 = .ok (.getfield 36, 3) := dk_180 0 36 (dk_at dksX1_air_1 4 rfl rfl)
theorem dX1_air_29 : decode cX1_air 29 = .ok (.invokevirtual 117, 3) := dk_182 0 117 (dk_at dksX1_air_1 7 rfl rfl)
theorem dX1_air_32 : decode cX1_air 32 = .ok (.astore_n 3, 1) := dk_78 (dk_at dksX1_air_1 10 rfl rfl)
theorem dX1_air_33 : decode cX1_air 33 = .ok (.aload_n 0, 1) := dk_42 (dk_at dksX1_air_1 11 rfl rfl)
theorem dX1_air_34 : decode cX1_air 34 = .ok (.aload_n 3, 1) := dk_45 (dk_at dksX1_air_1 12 rfl rfl)
theorem dX1_air_35 : decode cX1_air 35 = .ok (.aload_n 3, 1) := dk_45 (dk_at dksX1_air_1 13 rfl rfl)
theorem dX1_air_36 : decode cX1_air 36 = .ok (.iload_n 1, 1) := dk_27 (dk_at dksX1_air_1 14 rfl rfl)
theorem dX1_air_37 : decode cX1_air 37 = .ok (.iload_n 2, 1) := dk_28 (dk_at dksX1_air_1 15 rfl rfl)
theorem dX1_air_38 : decode cX1_air 38 = .ok (.invokevirtual 234, 3) := dk_182 0 234 (dk_at dksX1_air_1 16 rfl rfl)
theorem dX1_air_41 : decode cX1_air 41 = .ok (.invokevirtual 125, 3) := dk_182 0 125 (dk_at dksX1_air_1 19 rfl rfl)
theorem dX1_air_44 : decode cX1_air 44 = .ok (.ireturn, 1) := dk_172 (dk_at dksX1_air_1 22 rfl rfl)
abbrev cX1_mice : ByteArray := prog_1_method_27_code
def yX1_mice : MethodName := ⟨RX1, "mice", "(II)I"⟩
def dkwX1_mice_1 : List UInt8 := [184, 0, 114, 42, 180, 0, 36, 182, 0, 117, 78, 42, 45, 45, 27, 28, 182, 0, 237, 182, 0, 125, 172]
abbrev dktX1_mice_1 : List UInt8 := dkwX1_mice_1 ++ []
def dkwX1_mice_0 : List UInt8 := [27, 184, 0, 137, 153, 0, 17, 28, 4, 16, 40, 184, 0, 3, 153, 0, 7, 4, 167, 0, 4, 3]
abbrev dktX1_mice_0 : List UInt8 := dkwX1_mice_0 ++ dktX1_mice_1
theorem dksX1_mice_0 : cX1_mice.data.toList.drop 0 = dktX1_mice_0 := by decide +kernel
theorem dksX1_mice_1 : cX1_mice.data.toList.drop 22 = dktX1_mice_1 := dk_seg dksX1_mice_0 22 rfl rfl
theorem dX1_mice_0 : decode cX1_mice 0 = .ok (.iload_n 1, 1) := dk_27 (dk_at dksX1_mice_0 0 rfl rfl)
theorem dX1_mice_1 : decode cX1_mice 1 = .ok (.invokestatic 137, 3) := dk_184 0 137 (dk_at dksX1_mice_0 1 rfl rfl)
theorem dX1_mice_4 : decode cX1_mice 4 = .ok (.ifCond .eq 17, 3) := dk_153 0 17 (dk_at dksX1_mice_0 4 rfl rfl)
theorem dX1_mice_7 : decode cX1_mice 7 = .ok (.iload_n 2, 1) := dk_28 (dk_at dksX1_mice_0 7 rfl rfl)
theorem dX1_mice_8 : decode cX1_mice 8 = .ok (.iconst 1, 1) := dk_4 (dk_at dksX1_mice_0 8 rfl rfl)
theorem dX1_mice_9 : decode cX1_mice 9 = .ok (.bipush 40, 2) := dk_16 40 (dk_at dksX1_mice_0 9 rfl rfl)
theorem dX1_mice_11 : decode cX1_mice 11 = .ok (.invokestatic 3, 3) := dk_184 0 3 (dk_at dksX1_mice_0 11 rfl rfl)
theorem dX1_mice_14 : decode cX1_mice 14 = .ok (.ifCond .eq 7, 3) := dk_153 0 7 (dk_at dksX1_mice_0 14 rfl rfl)
theorem dX1_mice_17 : decode cX1_mice 17 = .ok (.iconst 1, 1) := dk_4 (dk_at dksX1_mice_0 17 rfl rfl)
theorem dX1_mice_18 : decode cX1_mice 18 = .ok (.goto 4, 3) := dk_167 0 4 (dk_at dksX1_mice_0 18 rfl rfl)
theorem dX1_mice_21 : decode cX1_mice 21 = .ok (.iconst 0, 1) := dk_3 (dk_at dksX1_mice_0 21 rfl rfl)
theorem dX1_mice_22 : decode cX1_mice 22 = .ok (.invokestatic 114, 3) := dk_184 0 114 (dk_at dksX1_mice_1 0 rfl rfl)
theorem dX1_mice_25 : decode cX1_mice 25 = .ok (.aload_n 0, 1) := dk_42 (dk_at dksX1_mice_1 3 rfl rfl)
theorem dX1_mice_26 : decode cX1_mice 26 = .ok (.getfield 36, 3) := dk_180 0 36 (dk_at dksX1_mice_1 4 rfl rfl)
theorem dX1_mice_29 : decode cX1_mice 29 = .ok (.invokevirtual 117, 3) := dk_182 0 117 (dk_at dksX1_mice_1 7 rfl rfl)
theorem dX1_mice_32 : decode cX1_mice 32 = .ok (.astore_n 3, 1) := dk_78 (dk_at dksX1_mice_1 10 rfl rfl)
theorem dX1_mice_33 : decode cX1_mice 33 = .ok (.aload_n 0, 1) := dk_42 (dk_at dksX1_mice_1 11 rfl rfl)
theorem dX1_mice_34 : decode cX1_mice 34 = .ok (.aload_n 3, 1) := dk_45 (dk_at dksX1_mice_1 12 rfl rfl)
theorem dX1_mice_35 : decode cX1_mice 35 = .ok (.aload_n 3, 1) := dk_45 (dk_at dksX1_mice_1 13 rfl rfl)
theorem dX1_mice_36 : decode cX1_mice 36 = .ok (.iload_n 1, 1) := dk_27 (dk_at dksX1_mice_1 14 rfl rfl)
theorem dX1_mice_37 : decode cX1_mice 37 = .ok (.iload_n 2, 1) := dk_28 (dk_at dksX1_mice_1 15 rfl rfl)
theorem dX1_mice_38 : decode cX1_mice 38 = .ok (.invokevirtual 237, 3) := dk_182 0 237 (dk_at dksX1_mice_1 16 rfl rfl)
theorem dX1_mice_41 : decode cX1_mice 41 = .ok (.invokevirtual 125, 3) := dk_182 0 125 (dk_at dksX1_mice_1 19 rfl rfl)
theorem dX1_mice_44 : decode cX1_mice 44 = .ok (.ireturn, 1) := dk_172 (dk_at dksX1_mice_1 22 rfl rfl)
abbrev cX1_trap : ByteArray := prog_1_method_28_code
def yX1_trap : MethodName := ⟨RX1, "trap", "(II)I"⟩
def dkwX1_trap_1 : List UInt8 := [42, 180, 0, 36, 182, 0, 117, 78, 42, 45, 45, 27, 28, 182, 0, 240, 182, 0, 125, 172]
abbrev dktX1_trap_1 : List UInt8 := dkwX1_trap_1 ++ []
def dkwX1_trap_0 : List UInt8 := [27, 184, 0, 137, 153, 0, 16, 28, 3, 8, 184, 0, 3, 153, 0, 7, 4, 167, 0, 4, 3, 184, 0, 114]
abbrev dktX1_trap_0 : List UInt8 := dkwX1_trap_0 ++ dktX1_trap_1
theorem dksX1_trap_0 : cX1_trap.data.toList.drop 0 = dktX1_trap_0 := by decide +kernel
theorem dksX1_trap_1 : cX1_trap.data.toList.drop 24 = dktX1_trap_1 := dk_seg dksX1_trap_0 24 rfl rfl
theorem dX1_trap_0 : decode cX1_trap 0 = .ok (.iload_n 1, 1) := dk_27 (dk_at dksX1_trap_0 0 rfl rfl)
theorem dX1_trap_1 : decode cX1_trap 1 = .ok (.invokestatic 137, 3) := dk_184 0 137 (dk_at dksX1_trap_0 1 rfl rfl)
theorem dX1_trap_4 : decode cX1_trap 4 = .ok (.ifCond .eq 16, 3) := dk_153 0 16 (dk_at dksX1_trap_0 4 rfl rfl)
theorem dX1_trap_7 : decode cX1_trap 7 = .ok (.iload_n 2, 1) := dk_28 (dk_at dksX1_trap_0 7 rfl rfl)
theorem dX1_trap_8 : decode cX1_trap 8 = .ok (.iconst 0, 1) := dk_3 (dk_at dksX1_trap_0 8 rfl rfl)
theorem dX1_trap_9 : decode cX1_trap 9 = .ok (.iconst 5, 1) := dk_8 (dk_at dksX1_trap_0 9 rfl rfl)
theorem dX1_trap_10 : decode cX1_trap 10 = .ok (.invokestatic 3, 3) := dk_184 0 3 (dk_at dksX1_trap_0 10 rfl rfl)
theorem dX1_trap_13 : decode cX1_trap 13 = .ok (.ifCond .eq 7, 3) := dk_153 0 7 (dk_at dksX1_trap_0 13 rfl rfl)
theorem dX1_trap_16 : decode cX1_trap 16 = .ok (.iconst 1, 1) := dk_4 (dk_at dksX1_trap_0 16 rfl rfl)
theorem dX1_trap_17 : decode cX1_trap 17 = .ok (.goto 4, 3) := dk_167 0 4 (dk_at dksX1_trap_0 17 rfl rfl)
theorem dX1_trap_20 : decode cX1_trap 20 = .ok (.iconst 0, 1) := dk_3 (dk_at dksX1_trap_0 20 rfl rfl)
theorem dX1_trap_21 : decode cX1_trap 21 = .ok (.invokestatic 114, 3) := dk_184 0 114 (dk_at dksX1_trap_0 21 rfl rfl)
theorem dX1_trap_24 : decode cX1_trap 24 = .ok (.aload_n 0, 1) := dk_42 (dk_at dksX1_trap_1 0 rfl rfl)
theorem dX1_trap_25 : decode cX1_trap 25 = .ok (.getfield 36, 3) := dk_180 0 36 (dk_at dksX1_trap_1 1 rfl rfl)
theorem dX1_trap_28 : decode cX1_trap 28 = .ok (.invokevirtual 117, 3) := dk_182 0 117 (dk_at dksX1_trap_1 4 rfl rfl)
theorem dX1_trap_31 : decode cX1_trap 31 = .ok (.astore_n 3, 1) := dk_78 (dk_at dksX1_trap_1 7 rfl rfl)
theorem dX1_trap_32 : decode cX1_trap 32 = .ok (.aload_n 0, 1) := dk_42 (dk_at dksX1_trap_1 8 rfl rfl)
theorem dX1_trap_33 : decode cX1_trap 33 = .ok (.aload_n 3, 1) := dk_45 (dk_at dksX1_trap_1 9 rfl rfl)
theorem dX1_trap_34 : decode cX1_trap 34 = .ok (.aload_n 3, 1) := dk_45 (dk_at dksX1_trap_1 10 rfl rfl)
theorem dX1_trap_35 : decode cX1_trap 35 = .ok (.iload_n 1, 1) := dk_27 (dk_at dksX1_trap_1 11 rfl rfl)
theorem dX1_trap_36 : decode cX1_trap 36 = .ok (.iload_n 2, 1) := dk_28 (dk_at dksX1_trap_1 12 rfl rfl)
theorem dX1_trap_37 : decode cX1_trap 37 = .ok (.invokevirtual 240, 3) := dk_182 0 240 (dk_at dksX1_trap_1 13 rfl rfl)
theorem dX1_trap_40 : decode cX1_trap 40 = .ok (.invokevirtual 125, 3) := dk_182 0 125 (dk_at dksX1_trap_1 16 rfl rfl)
theorem dX1_trap_43 : decode cX1_trap 43 = .ok (.ireturn, 1) := dk_172 (dk_at dksX1_trap_1 19 rfl rfl)
abbrev cX1_aisleOf : ByteArray := prog_1_method_29_code
def yX1_aisleOf : MethodName := ⟨RX1, "aisleOf", "(II)I"⟩
def dkwX1_aisleOf_5 : List UInt8 := [182, 1, 0, 167, 0, 14, 45, 180, 1, 2, 167, 0, 7, 45, 180, 1, 3, 172]
abbrev dktX1_aisleOf_5 : List UInt8 := dkwX1_aisleOf_5 ++ []
def dkwX1_aisleOf_4 : List UInt8 := [182, 0, 248, 185, 0, 251, 1, 0, 167, 0, 32, 45, 182, 0, 254, 167, 0, 25, 42, 180, 0, 36, 27]
abbrev dktX1_aisleOf_4 : List UInt8 := dkwX1_aisleOf_4 ++ dktX1_aisleOf_5
def dkwX1_aisleOf_3 : List UInt8 := [45, 180, 0, 225, 167, 0, 58, 45, 180, 0, 243, 167, 0, 51, 45, 180, 0, 245, 167, 0, 44, 45]
abbrev dktX1_aisleOf_3 : List UInt8 := dkwX1_aisleOf_3 ++ dktX1_aisleOf_4
def dkwX1_aisleOf_2 : List UInt8 := [170, 0, 0, 0, 0, 0, 0, 102, 0, 0, 0, 0, 0, 0, 0, 6, 0, 0, 0, 44, 0, 0, 0, 51, 0, 0, 0, 58, 0, 0, 0, 65, 0, 0, 0, 77, 0, 0, 0, 84, 0, 0, 0, 95]
abbrev dktX1_aisleOf_2 : List UInt8 := dkwX1_aisleOf_2 ++ dktX1_aisleOf_3
def dkwX1_aisleOf_1 : List UInt8 := [184, 0, 114, 42, 180, 0, 36, 180, 0, 168, 27, 50, 78, 28]
abbrev dktX1_aisleOf_1 : List UInt8 := dkwX1_aisleOf_1 ++ dktX1_aisleOf_2
def dkwX1_aisleOf_0 : List UInt8 := [27, 184, 0, 137, 153, 0, 17, 28, 3, 16, 7, 184, 0, 3, 153, 0, 7, 4, 167, 0, 4, 3]
abbrev dktX1_aisleOf_0 : List UInt8 := dkwX1_aisleOf_0 ++ dktX1_aisleOf_1
theorem dksX1_aisleOf_0 : cX1_aisleOf.data.toList.drop 0 = dktX1_aisleOf_0 := by decide +kernel
theorem dksX1_aisleOf_1 : cX1_aisleOf.data.toList.drop 22 = dktX1_aisleOf_1 := dk_seg dksX1_aisleOf_0 22 rfl rfl
theorem dksX1_aisleOf_2 : cX1_aisleOf.data.toList.drop 36 = dktX1_aisleOf_2 := dk_seg dksX1_aisleOf_1 14 rfl rfl
theorem dksX1_aisleOf_3 : cX1_aisleOf.data.toList.drop 80 = dktX1_aisleOf_3 := dk_seg dksX1_aisleOf_2 44 rfl rfl
theorem dksX1_aisleOf_4 : cX1_aisleOf.data.toList.drop 102 = dktX1_aisleOf_4 := dk_seg dksX1_aisleOf_3 22 rfl rfl
theorem dksX1_aisleOf_5 : cX1_aisleOf.data.toList.drop 125 = dktX1_aisleOf_5 := dk_seg dksX1_aisleOf_4 23 rfl rfl
theorem dX1_aisleOf_0 : decode cX1_aisleOf 0 = .ok (.iload_n 1, 1) := dk_27 (dk_at dksX1_aisleOf_0 0 rfl rfl)
theorem dX1_aisleOf_1 : decode cX1_aisleOf 1 = .ok (.invokestatic 137, 3) := dk_184 0 137 (dk_at dksX1_aisleOf_0 1 rfl rfl)
theorem dX1_aisleOf_4 : decode cX1_aisleOf 4 = .ok (.ifCond .eq 17, 3) := dk_153 0 17 (dk_at dksX1_aisleOf_0 4 rfl rfl)
theorem dX1_aisleOf_7 : decode cX1_aisleOf 7 = .ok (.iload_n 2, 1) := dk_28 (dk_at dksX1_aisleOf_0 7 rfl rfl)
theorem dX1_aisleOf_8 : decode cX1_aisleOf 8 = .ok (.iconst 0, 1) := dk_3 (dk_at dksX1_aisleOf_0 8 rfl rfl)
theorem dX1_aisleOf_9 : decode cX1_aisleOf 9 = .ok (.bipush 7, 2) := dk_16 7 (dk_at dksX1_aisleOf_0 9 rfl rfl)
theorem dX1_aisleOf_11 : decode cX1_aisleOf 11 = .ok (.invokestatic 3, 3) := dk_184 0 3 (dk_at dksX1_aisleOf_0 11 rfl rfl)
theorem dX1_aisleOf_14 : decode cX1_aisleOf 14 = .ok (.ifCond .eq 7, 3) := dk_153 0 7 (dk_at dksX1_aisleOf_0 14 rfl rfl)
theorem dX1_aisleOf_17 : decode cX1_aisleOf 17 = .ok (.iconst 1, 1) := dk_4 (dk_at dksX1_aisleOf_0 17 rfl rfl)
theorem dX1_aisleOf_18 : decode cX1_aisleOf 18 = .ok (.goto 4, 3) := dk_167 0 4 (dk_at dksX1_aisleOf_0 18 rfl rfl)
theorem dX1_aisleOf_21 : decode cX1_aisleOf 21 = .ok (.iconst 0, 1) := dk_3 (dk_at dksX1_aisleOf_0 21 rfl rfl)
theorem dX1_aisleOf_22 : decode cX1_aisleOf 22 = .ok (.invokestatic 114, 3) := dk_184 0 114 (dk_at dksX1_aisleOf_1 0 rfl rfl)
theorem dX1_aisleOf_25 : decode cX1_aisleOf 25 = .ok (.aload_n 0, 1) := dk_42 (dk_at dksX1_aisleOf_1 3 rfl rfl)
theorem dX1_aisleOf_26 : decode cX1_aisleOf 26 = .ok (.getfield 36, 3) := dk_180 0 36 (dk_at dksX1_aisleOf_1 4 rfl rfl)
theorem dX1_aisleOf_29 : decode cX1_aisleOf 29 = .ok (.getfield 168, 3) := dk_180 0 168 (dk_at dksX1_aisleOf_1 7 rfl rfl)
theorem dX1_aisleOf_32 : decode cX1_aisleOf 32 = .ok (.iload_n 1, 1) := dk_27 (dk_at dksX1_aisleOf_1 10 rfl rfl)
theorem dX1_aisleOf_33 : decode cX1_aisleOf 33 = .ok (.aaload, 1) := dk_50 (dk_at dksX1_aisleOf_1 11 rfl rfl)
theorem dX1_aisleOf_34 : decode cX1_aisleOf 34 = .ok (.astore_n 3, 1) := dk_78 (dk_at dksX1_aisleOf_1 12 rfl rfl)
theorem dX1_aisleOf_35 : decode cX1_aisleOf 35 = .ok (.iload_n 2, 1) := dk_28 (dk_at dksX1_aisleOf_1 13 rfl rfl)
theorem dX1_aisleOf_36 : decode cX1_aisleOf 36 = .ok (.tableswitch 102 0 6 #[44, 51, 58, 65, 77, 84, 95], 44) := by decide +kernel
theorem dX1_aisleOf_80 : decode cX1_aisleOf 80 = .ok (.aload_n 3, 1) := dk_45 (dk_at dksX1_aisleOf_3 0 rfl rfl)
theorem dX1_aisleOf_81 : decode cX1_aisleOf 81 = .ok (.getfield 225, 3) := dk_180 0 225 (dk_at dksX1_aisleOf_3 1 rfl rfl)
theorem dX1_aisleOf_84 : decode cX1_aisleOf 84 = .ok (.goto 58, 3) := dk_167 0 58 (dk_at dksX1_aisleOf_3 4 rfl rfl)
theorem dX1_aisleOf_87 : decode cX1_aisleOf 87 = .ok (.aload_n 3, 1) := dk_45 (dk_at dksX1_aisleOf_3 7 rfl rfl)
theorem dX1_aisleOf_88 : decode cX1_aisleOf 88 = .ok (.getfield 243, 3) := dk_180 0 243 (dk_at dksX1_aisleOf_3 8 rfl rfl)
theorem dX1_aisleOf_91 : decode cX1_aisleOf 91 = .ok (.goto 51, 3) := dk_167 0 51 (dk_at dksX1_aisleOf_3 11 rfl rfl)
theorem dX1_aisleOf_94 : decode cX1_aisleOf 94 = .ok (.aload_n 3, 1) := dk_45 (dk_at dksX1_aisleOf_3 14 rfl rfl)
theorem dX1_aisleOf_95 : decode cX1_aisleOf 95 = .ok (.getfield 245, 3) := dk_180 0 245 (dk_at dksX1_aisleOf_3 15 rfl rfl)
theorem dX1_aisleOf_98 : decode cX1_aisleOf 98 = .ok (.goto 44, 3) := dk_167 0 44 (dk_at dksX1_aisleOf_3 18 rfl rfl)
theorem dX1_aisleOf_101 : decode cX1_aisleOf 101 = .ok (.aload_n 3, 1) := dk_45 (dk_at dksX1_aisleOf_3 21 rfl rfl)
theorem dX1_aisleOf_102 : decode cX1_aisleOf 102 = .ok (.invokevirtual 248, 3) := dk_182 0 248 (dk_at dksX1_aisleOf_4 0 rfl rfl)
theorem dX1_aisleOf_105 : decode cX1_aisleOf 105 = .ok (.invokeinterface 251 1, 5) := by decide +kernel
theorem dX1_aisleOf_110 : decode cX1_aisleOf 110 = .ok (.goto 32, 3) := dk_167 0 32 (dk_at dksX1_aisleOf_4 8 rfl rfl)
theorem dX1_aisleOf_113 : decode cX1_aisleOf 113 = .ok (.aload_n 3, 1) := dk_45 (dk_at dksX1_aisleOf_4 11 rfl rfl)
theorem dX1_aisleOf_114 : decode cX1_aisleOf 114 = .ok (.invokevirtual 254, 3) := dk_182 0 254 (dk_at dksX1_aisleOf_4 12 rfl rfl)
theorem dX1_aisleOf_117 : decode cX1_aisleOf 117 = .ok (.goto 25, 3) := dk_167 0 25 (dk_at dksX1_aisleOf_4 15 rfl rfl)
theorem dX1_aisleOf_120 : decode cX1_aisleOf 120 = .ok (.aload_n 0, 1) := dk_42 (dk_at dksX1_aisleOf_4 18 rfl rfl)
theorem dX1_aisleOf_121 : decode cX1_aisleOf 121 = .ok (.getfield 36, 3) := dk_180 0 36 (dk_at dksX1_aisleOf_4 19 rfl rfl)
theorem dX1_aisleOf_124 : decode cX1_aisleOf 124 = .ok (.iload_n 1, 1) := dk_27 (dk_at dksX1_aisleOf_4 22 rfl rfl)
theorem dX1_aisleOf_125 : decode cX1_aisleOf 125 = .ok (.invokevirtual 256, 3) := dk_182 1 0 (dk_at dksX1_aisleOf_5 0 rfl rfl)
theorem dX1_aisleOf_128 : decode cX1_aisleOf 128 = .ok (.goto 14, 3) := dk_167 0 14 (dk_at dksX1_aisleOf_5 3 rfl rfl)
theorem dX1_aisleOf_131 : decode cX1_aisleOf 131 = .ok (.aload_n 3, 1) := dk_45 (dk_at dksX1_aisleOf_5 6 rfl rfl)
theorem dX1_aisleOf_132 : decode cX1_aisleOf 132 = .ok (.getfield 258, 3) := dk_180 1 2 (dk_at dksX1_aisleOf_5 7 rfl rfl)
theorem dX1_aisleOf_135 : decode cX1_aisleOf 135 = .ok (.goto 7, 3) := dk_167 0 7 (dk_at dksX1_aisleOf_5 10 rfl rfl)
theorem dX1_aisleOf_138 : decode cX1_aisleOf 138 = .ok (.aload_n 3, 1) := dk_45 (dk_at dksX1_aisleOf_5 13 rfl rfl)
theorem dX1_aisleOf_139 : decode cX1_aisleOf 139 = .ok (.getfield 259, 3) := dk_180 1 3 (dk_at dksX1_aisleOf_5 14 rfl rfl)
theorem dX1_aisleOf_142 : decode cX1_aisleOf 142 = .ok (.ireturn, 1) := dk_172 (dk_at dksX1_aisleOf_5 17 rfl rfl)
abbrev cX1_eatenIn : ByteArray := prog_1_method_30_code
def yX1_eatenIn : MethodName := ⟨RX1, "eatenIn", "(II)I"⟩
def dkwX1_eatenIn_2 : List UInt8 := [28, 162, 0, 18, 21, 4, 45, 182, 1, 9, 96, 54, 4, 132, 5, 1, 167, 255, 238, 21, 4, 172]
abbrev dktX1_eatenIn_2 : List UInt8 := dkwX1_eatenIn_2 ++ []
def dkwX1_eatenIn_1 : List UInt8 := [184, 0, 114, 42, 180, 0, 36, 180, 0, 168, 27, 50, 182, 1, 6, 78, 3, 54, 4, 3, 54, 5, 21, 5]
abbrev dktX1_eatenIn_1 : List UInt8 := dkwX1_eatenIn_1 ++ dktX1_eatenIn_2
def dkwX1_eatenIn_0 : List UInt8 := [27, 184, 0, 137, 153, 0, 17, 28, 3, 16, 30, 184, 0, 3, 153, 0, 7, 4, 167, 0, 4, 3]
abbrev dktX1_eatenIn_0 : List UInt8 := dkwX1_eatenIn_0 ++ dktX1_eatenIn_1
theorem dksX1_eatenIn_0 : cX1_eatenIn.data.toList.drop 0 = dktX1_eatenIn_0 := by decide +kernel
theorem dksX1_eatenIn_1 : cX1_eatenIn.data.toList.drop 22 = dktX1_eatenIn_1 := dk_seg dksX1_eatenIn_0 22 rfl rfl
theorem dksX1_eatenIn_2 : cX1_eatenIn.data.toList.drop 46 = dktX1_eatenIn_2 := dk_seg dksX1_eatenIn_1 24 rfl rfl
theorem dX1_eatenIn_0 : decode cX1_eatenIn 0 = .ok (.iload_n 1, 1) := dk_27 (dk_at dksX1_eatenIn_0 0 rfl rfl)
theorem dX1_eatenIn_1 : decode cX1_eatenIn 1 = .ok (.invokestatic 137, 3) := dk_184 0 137 (dk_at dksX1_eatenIn_0 1 rfl rfl)
theorem dX1_eatenIn_4 : decode cX1_eatenIn 4 = .ok (.ifCond .eq 17, 3) := dk_153 0 17 (dk_at dksX1_eatenIn_0 4 rfl rfl)
theorem dX1_eatenIn_7 : decode cX1_eatenIn 7 = .ok (.iload_n 2, 1) := dk_28 (dk_at dksX1_eatenIn_0 7 rfl rfl)
theorem dX1_eatenIn_8 : decode cX1_eatenIn 8 = .ok (.iconst 0, 1) := dk_3 (dk_at dksX1_eatenIn_0 8 rfl rfl)
theorem dX1_eatenIn_9 : decode cX1_eatenIn 9 = .ok (.bipush 30, 2) := dk_16 30 (dk_at dksX1_eatenIn_0 9 rfl rfl)
theorem dX1_eatenIn_11 : decode cX1_eatenIn 11 = .ok (.invokestatic 3, 3) := dk_184 0 3 (dk_at dksX1_eatenIn_0 11 rfl rfl)
theorem dX1_eatenIn_14 : decode cX1_eatenIn 14 = .ok (.ifCond .eq 7, 3) := dk_153 0 7 (dk_at dksX1_eatenIn_0 14 rfl rfl)
theorem dX1_eatenIn_17 : decode cX1_eatenIn 17 = .ok (.iconst 1, 1) := dk_4 (dk_at dksX1_eatenIn_0 17 rfl rfl)
theorem dX1_eatenIn_18 : decode cX1_eatenIn 18 = .ok (.goto 4, 3) := dk_167 0 4 (dk_at dksX1_eatenIn_0 18 rfl rfl)
theorem dX1_eatenIn_21 : decode cX1_eatenIn 21 = .ok (.iconst 0, 1) := dk_3 (dk_at dksX1_eatenIn_0 21 rfl rfl)
theorem dX1_eatenIn_22 : decode cX1_eatenIn 22 = .ok (.invokestatic 114, 3) := dk_184 0 114 (dk_at dksX1_eatenIn_1 0 rfl rfl)
theorem dX1_eatenIn_25 : decode cX1_eatenIn 25 = .ok (.aload_n 0, 1) := dk_42 (dk_at dksX1_eatenIn_1 3 rfl rfl)
theorem dX1_eatenIn_26 : decode cX1_eatenIn 26 = .ok (.getfield 36, 3) := dk_180 0 36 (dk_at dksX1_eatenIn_1 4 rfl rfl)
theorem dX1_eatenIn_29 : decode cX1_eatenIn 29 = .ok (.getfield 168, 3) := dk_180 0 168 (dk_at dksX1_eatenIn_1 7 rfl rfl)
theorem dX1_eatenIn_32 : decode cX1_eatenIn 32 = .ok (.iload_n 1, 1) := dk_27 (dk_at dksX1_eatenIn_1 10 rfl rfl)
theorem dX1_eatenIn_33 : decode cX1_eatenIn 33 = .ok (.aaload, 1) := dk_50 (dk_at dksX1_eatenIn_1 11 rfl rfl)
theorem dX1_eatenIn_34 : decode cX1_eatenIn 34 = .ok (.invokevirtual 262, 3) := dk_182 1 6 (dk_at dksX1_eatenIn_1 12 rfl rfl)
theorem dX1_eatenIn_37 : decode cX1_eatenIn 37 = .ok (.astore_n 3, 1) := dk_78 (dk_at dksX1_eatenIn_1 15 rfl rfl)
theorem dX1_eatenIn_38 : decode cX1_eatenIn 38 = .ok (.iconst 0, 1) := dk_3 (dk_at dksX1_eatenIn_1 16 rfl rfl)
theorem dX1_eatenIn_39 : decode cX1_eatenIn 39 = .ok (.istore 4, 2) := dk_54 4 (dk_at dksX1_eatenIn_1 17 rfl rfl)
theorem dX1_eatenIn_41 : decode cX1_eatenIn 41 = .ok (.iconst 0, 1) := dk_3 (dk_at dksX1_eatenIn_1 19 rfl rfl)
theorem dX1_eatenIn_42 : decode cX1_eatenIn 42 = .ok (.istore 5, 2) := dk_54 5 (dk_at dksX1_eatenIn_1 20 rfl rfl)
theorem dX1_eatenIn_44 : decode cX1_eatenIn 44 = .ok (.iload 5, 2) := dk_21 5 (dk_at dksX1_eatenIn_1 22 rfl rfl)
theorem dX1_eatenIn_46 : decode cX1_eatenIn 46 = .ok (.iload_n 2, 1) := dk_28 (dk_at dksX1_eatenIn_2 0 rfl rfl)
theorem dX1_eatenIn_47 : decode cX1_eatenIn 47 = .ok (.if_icmp .ge 18, 3) := dk_162 0 18 (dk_at dksX1_eatenIn_2 1 rfl rfl)
theorem dX1_eatenIn_50 : decode cX1_eatenIn 50 = .ok (.iload 4, 2) := dk_21 4 (dk_at dksX1_eatenIn_2 4 rfl rfl)
theorem dX1_eatenIn_52 : decode cX1_eatenIn 52 = .ok (.aload_n 3, 1) := dk_45 (dk_at dksX1_eatenIn_2 6 rfl rfl)
theorem dX1_eatenIn_53 : decode cX1_eatenIn 53 = .ok (.invokevirtual 265, 3) := dk_182 1 9 (dk_at dksX1_eatenIn_2 7 rfl rfl)
theorem dX1_eatenIn_56 : decode cX1_eatenIn 56 = .ok (.iadd, 1) := dk_96 (dk_at dksX1_eatenIn_2 10 rfl rfl)
theorem dX1_eatenIn_57 : decode cX1_eatenIn 57 = .ok (.istore 4, 2) := dk_54 4 (dk_at dksX1_eatenIn_2 11 rfl rfl)
theorem dX1_eatenIn_59 : decode cX1_eatenIn 59 = .ok (.iinc 5 1, 3) := dk_132 5 1 (dk_at dksX1_eatenIn_2 13 rfl rfl)
theorem dX1_eatenIn_62 : decode cX1_eatenIn 62 = .ok (.goto (-18), 3) := dk_167 255 238 (dk_at dksX1_eatenIn_2 16 rfl rfl)
theorem dX1_eatenIn_65 : decode cX1_eatenIn 65 = .ok (.iload 4, 2) := dk_21 4 (dk_at dksX1_eatenIn_2 19 rfl rfl)
theorem dX1_eatenIn_67 : decode cX1_eatenIn 67 = .ok (.ireturn, 1) := dk_172 (dk_at dksX1_eatenIn_2 21 rfl rfl)
abbrev cX1_ranked : ByteArray := prog_1_method_31_code
def yX1_ranked : MethodName := ⟨RX1, "ranked", "(I)I"⟩
def dkwX1_ranked_3 : List UInt8 := [167, 0, 4, 28, 61, 132, 3, 1, 167, 255, 189, 28, 172]
abbrev dktX1_ranked_3 : List UInt8 := dkwX1_ranked_3 ++ []
def dkwX1_ranked_2 : List UInt8 := [153, 0, 7, 4, 167, 0, 4, 3, 96, 54, 4, 132, 5, 1, 167, 255, 218, 21, 4, 27, 160, 0, 7, 29]
abbrev dktX1_ranked_2 : List UInt8 := dkwX1_ranked_2 ++ dktX1_ranked_3
def dkwX1_ranked_1 : List UInt8 := [8, 162, 0, 38, 21, 4, 21, 5, 29, 159, 0, 20, 42, 180, 0, 36, 21, 5, 29, 182, 1, 12]
abbrev dktX1_ranked_1 : List UInt8 := dkwX1_ranked_1 ++ dktX1_ranked_2
def dkwX1_ranked_0 : List UInt8 := [27, 184, 0, 137, 184, 0, 215, 2, 61, 3, 62, 29, 8, 162, 0, 68, 3, 54, 4, 3, 54, 5, 21, 5]
abbrev dktX1_ranked_0 : List UInt8 := dkwX1_ranked_0 ++ dktX1_ranked_1
theorem dksX1_ranked_0 : cX1_ranked.data.toList.drop 0 = dktX1_ranked_0 := by decide +kernel
theorem dksX1_ranked_1 : cX1_ranked.data.toList.drop 24 = dktX1_ranked_1 := dk_seg dksX1_ranked_0 24 rfl rfl
theorem dksX1_ranked_2 : cX1_ranked.data.toList.drop 46 = dktX1_ranked_2 := dk_seg dksX1_ranked_1 22 rfl rfl
theorem dksX1_ranked_3 : cX1_ranked.data.toList.drop 70 = dktX1_ranked_3 := dk_seg dksX1_ranked_2 24 rfl rfl
theorem dX1_ranked_0 : decode cX1_ranked 0 = .ok (.iload_n 1, 1) := dk_27 (dk_at dksX1_ranked_0 0 rfl rfl)
theorem dX1_ranked_1 : decode cX1_ranked 1 = .ok (.invokestatic 137, 3) := dk_184 0 137 (dk_at dksX1_ranked_0 1 rfl rfl)
theorem dX1_ranked_4 : decode cX1_ranked 4 = .ok (.invokestatic 215, 3) := dk_184 0 215 (dk_at dksX1_ranked_0 4 rfl rfl)
theorem dX1_ranked_7 : decode cX1_ranked 7 = .ok (.iconst (-1), 1) := dk_2 (dk_at dksX1_ranked_0 7 rfl rfl)
theorem dX1_ranked_8 : decode cX1_ranked 8 = .ok (.istore_n 2, 1) := dk_61 (dk_at dksX1_ranked_0 8 rfl rfl)
theorem dX1_ranked_9 : decode cX1_ranked 9 = .ok (.iconst 0, 1) := dk_3 (dk_at dksX1_ranked_0 9 rfl rfl)
theorem dX1_ranked_10 : decode cX1_ranked 10 = .ok (.istore_n 3, 1) := dk_62 (dk_at dksX1_ranked_0 10 rfl rfl)
theorem dX1_ranked_11 : decode cX1_ranked 11 = .ok (.iload_n 3, 1) := dk_29 (dk_at dksX1_ranked_0 11 rfl rfl)
theorem dX1_ranked_12 : decode cX1_ranked 12 = .ok (.iconst 5, 1) := dk_8 (dk_at dksX1_ranked_0 12 rfl rfl)
theorem dX1_ranked_13 : decode cX1_ranked 13 = .ok (.if_icmp .ge 68, 3) := dk_162 0 68 (dk_at dksX1_ranked_0 13 rfl rfl)
theorem dX1_ranked_16 : decode cX1_ranked 16 = .ok (.iconst 0, 1) := dk_3 (dk_at dksX1_ranked_0 16 rfl rfl)
theorem dX1_ranked_17 : decode cX1_ranked 17 = .ok (.istore 4, 2) := dk_54 4 (dk_at dksX1_ranked_0 17 rfl rfl)
theorem dX1_ranked_19 : decode cX1_ranked 19 = .ok (.iconst 0, 1) := dk_3 (dk_at dksX1_ranked_0 19 rfl rfl)
theorem dX1_ranked_20 : decode cX1_ranked 20 = .ok (.istore 5, 2) := dk_54 5 (dk_at dksX1_ranked_0 20 rfl rfl)
theorem dX1_ranked_22 : decode cX1_ranked 22 = .ok (.iload 5, 2) := dk_21 5 (dk_at dksX1_ranked_0 22 rfl rfl)
theorem dX1_ranked_24 : decode cX1_ranked 24 = .ok (.iconst 5, 1) := dk_8 (dk_at dksX1_ranked_1 0 rfl rfl)
theorem dX1_ranked_25 : decode cX1_ranked 25 = .ok (.if_icmp .ge 38, 3) := dk_162 0 38 (dk_at dksX1_ranked_1 1 rfl rfl)
theorem dX1_ranked_28 : decode cX1_ranked 28 = .ok (.iload 4, 2) := dk_21 4 (dk_at dksX1_ranked_1 4 rfl rfl)
theorem dX1_ranked_30 : decode cX1_ranked 30 = .ok (.iload 5, 2) := dk_21 5 (dk_at dksX1_ranked_1 6 rfl rfl)
theorem dX1_ranked_32 : decode cX1_ranked 32 = .ok (.iload_n 3, 1) := dk_29 (dk_at dksX1_ranked_1 8 rfl rfl)
theorem dX1_ranked_33 : decode cX1_ranked 33 = .ok (.if_icmp .eq 20, 3) := dk_159 0 20 (dk_at dksX1_ranked_1 9 rfl rfl)
theorem dX1_ranked_36 : decode cX1_ranked 36 = .ok (.aload_n 0, 1) := dk_42 (dk_at dksX1_ranked_1 12 rfl rfl)
theorem dX1_ranked_37 : decode cX1_ranked 37 = .ok (.getfield 36, 3) := dk_180 0 36 (dk_at dksX1_ranked_1 13 rfl rfl)
theorem dX1_ranked_40 : decode cX1_ranked 40 = .ok (.iload 5, 2) := dk_21 5 (dk_at dksX1_ranked_1 16 rfl rfl)
theorem dX1_ranked_42 : decode cX1_ranked 42 = .ok (.iload_n 3, 1) := dk_29 (dk_at dksX1_ranked_1 18 rfl rfl)
theorem dX1_ranked_43 : decode cX1_ranked 43 = .ok (.invokevirtual 268, 3) := dk_182 1 12 (dk_at dksX1_ranked_1 19 rfl rfl)
theorem dX1_ranked_46 : decode cX1_ranked 46 = .ok (.ifCond .eq 7, 3) := dk_153 0 7 (dk_at dksX1_ranked_2 0 rfl rfl)
theorem dX1_ranked_49 : decode cX1_ranked 49 = .ok (.iconst 1, 1) := dk_4 (dk_at dksX1_ranked_2 3 rfl rfl)
theorem dX1_ranked_50 : decode cX1_ranked 50 = .ok (.goto 4, 3) := dk_167 0 4 (dk_at dksX1_ranked_2 4 rfl rfl)
theorem dX1_ranked_53 : decode cX1_ranked 53 = .ok (.iconst 0, 1) := dk_3 (dk_at dksX1_ranked_2 7 rfl rfl)
theorem dX1_ranked_54 : decode cX1_ranked 54 = .ok (.iadd, 1) := dk_96 (dk_at dksX1_ranked_2 8 rfl rfl)
theorem dX1_ranked_55 : decode cX1_ranked 55 = .ok (.istore 4, 2) := dk_54 4 (dk_at dksX1_ranked_2 9 rfl rfl)
theorem dX1_ranked_57 : decode cX1_ranked 57 = .ok (.iinc 5 1, 3) := dk_132 5 1 (dk_at dksX1_ranked_2 11 rfl rfl)
theorem dX1_ranked_60 : decode cX1_ranked 60 = .ok (.goto (-38), 3) := dk_167 255 218 (dk_at dksX1_ranked_2 14 rfl rfl)
theorem dX1_ranked_63 : decode cX1_ranked 63 = .ok (.iload 4, 2) := dk_21 4 (dk_at dksX1_ranked_2 17 rfl rfl)
theorem dX1_ranked_65 : decode cX1_ranked 65 = .ok (.iload_n 1, 1) := dk_27 (dk_at dksX1_ranked_2 19 rfl rfl)
theorem dX1_ranked_66 : decode cX1_ranked 66 = .ok (.if_icmp .ne 7, 3) := dk_160 0 7 (dk_at dksX1_ranked_2 20 rfl rfl)
theorem dX1_ranked_69 : decode cX1_ranked 69 = .ok (.iload_n 3, 1) := dk_29 (dk_at dksX1_ranked_2 23 rfl rfl)
theorem dX1_ranked_70 : decode cX1_ranked 70 = .ok (.goto 4, 3) := dk_167 0 4 (dk_at dksX1_ranked_3 0 rfl rfl)
theorem dX1_ranked_73 : decode cX1_ranked 73 = .ok (.iload_n 2, 1) := dk_28 (dk_at dksX1_ranked_3 3 rfl rfl)
theorem dX1_ranked_74 : decode cX1_ranked 74 = .ok (.istore_n 2, 1) := dk_61 (dk_at dksX1_ranked_3 4 rfl rfl)
theorem dX1_ranked_75 : decode cX1_ranked 75 = .ok (.iinc 3 1, 3) := dk_132 3 1 (dk_at dksX1_ranked_3 5 rfl rfl)
theorem dX1_ranked_78 : decode cX1_ranked 78 = .ok (.goto (-67), 3) := dk_167 255 189 (dk_at dksX1_ranked_3 8 rfl rfl)
theorem dX1_ranked_81 : decode cX1_ranked 81 = .ok (.iload_n 2, 1) := dk_28 (dk_at dksX1_ranked_3 11 rfl rfl)
theorem dX1_ranked_82 : decode cX1_ranked 82 = .ok (.ireturn, 1) := dk_172 (dk_at dksX1_ranked_3 12 rfl rfl)
abbrev cX1_order : ByteArray := prog_1_method_32_code
def yX1_order : MethodName := ⟨RX1, "order", "(III)I"⟩
def dkwX1_order_2 : List UInt8 := [182, 1, 15, 54, 5, 42, 25, 4, 21, 5, 182, 0, 125, 172, 58, 5, 42, 25, 5, 182, 0, 129, 191]
abbrev dktX1_order_2 : List UInt8 := dkwX1_order_2 ++ []
def dkwX1_order_1 : List UInt8 := [184, 0, 114, 42, 180, 0, 36, 182, 0, 117, 58, 4, 25, 4, 187, 0, 151, 89, 27, 28, 183, 0, 153, 29]
abbrev dktX1_order_1 : List UInt8 := dkwX1_order_1 ++ dktX1_order_2
def dkwX1_order_0 : List UInt8 := [27, 28, 184, 0, 147, 153, 0, 17, 29, 4, 16, 60, 184, 0, 3, 153, 0, 7, 4, 167, 0, 4, 3]
abbrev dktX1_order_0 : List UInt8 := dkwX1_order_0 ++ dktX1_order_1
theorem dksX1_order_0 : cX1_order.data.toList.drop 0 = dktX1_order_0 := by decide +kernel
theorem dksX1_order_1 : cX1_order.data.toList.drop 23 = dktX1_order_1 := dk_seg dksX1_order_0 23 rfl rfl
theorem dksX1_order_2 : cX1_order.data.toList.drop 47 = dktX1_order_2 := dk_seg dksX1_order_1 24 rfl rfl
theorem dX1_order_0 : decode cX1_order 0 = .ok (.iload_n 1, 1) := dk_27 (dk_at dksX1_order_0 0 rfl rfl)
theorem dX1_order_1 : decode cX1_order 1 = .ok (.iload_n 2, 1) := dk_28 (dk_at dksX1_order_0 1 rfl rfl)
theorem dX1_order_2 : decode cX1_order 2 = .ok (.invokestatic 147, 3) := dk_184 0 147 (dk_at dksX1_order_0 2 rfl rfl)
theorem dX1_order_5 : decode cX1_order 5 = .ok (.ifCond .eq 17, 3) := dk_153 0 17 (dk_at dksX1_order_0 5 rfl rfl)
theorem dX1_order_8 : decode cX1_order 8 = .ok (.iload_n 3, 1) := dk_29 (dk_at dksX1_order_0 8 rfl rfl)
theorem dX1_order_9 : decode cX1_order 9 = .ok (.iconst 1, 1) := dk_4 (dk_at dksX1_order_0 9 rfl rfl)
theorem dX1_order_10 : decode cX1_order 10 = .ok (.bipush 60, 2) := dk_16 60 (dk_at dksX1_order_0 10 rfl rfl)
theorem dX1_order_12 : decode cX1_order 12 = .ok (.invokestatic 3, 3) := dk_184 0 3 (dk_at dksX1_order_0 12 rfl rfl)
theorem dX1_order_15 : decode cX1_order 15 = .ok (.ifCond .eq 7, 3) := dk_153 0 7 (dk_at dksX1_order_0 15 rfl rfl)
theorem dX1_order_18 : decode cX1_order 18 = .ok (.iconst 1, 1) := dk_4 (dk_at dksX1_order_0 18 rfl rfl)
theorem dX1_order_19 : decode cX1_order 19 = .ok (.goto 4, 3) := dk_167 0 4 (dk_at dksX1_order_0 19 rfl rfl)
theorem dX1_order_22 : decode cX1_order 22 = .ok (.iconst 0, 1) := dk_3 (dk_at dksX1_order_0 22 rfl rfl)
theorem dX1_order_23 : decode cX1_order 23 = .ok (.invokestatic 114, 3) := dk_184 0 114 (dk_at dksX1_order_1 0 rfl rfl)
theorem dX1_order_26 : decode cX1_order 26 = .ok (.aload_n 0, 1) := dk_42 (dk_at dksX1_order_1 3 rfl rfl)
theorem dX1_order_27 : decode cX1_order 27 = .ok (.getfield 36, 3) := dk_180 0 36 (dk_at dksX1_order_1 4 rfl rfl)
theorem dX1_order_30 : decode cX1_order 30 = .ok (.invokevirtual 117, 3) := dk_182 0 117 (dk_at dksX1_order_1 7 rfl rfl)
theorem dX1_order_33 : decode cX1_order 33 = .ok (.astore 4, 2) := dk_58 4 (dk_at dksX1_order_1 10 rfl rfl)
theorem dX1_order_35 : decode cX1_order 35 = .ok (.aload 4, 2) := dk_25 4 (dk_at dksX1_order_1 12 rfl rfl)
theorem dX1_order_37 : decode cX1_order 37 = .ok (.new 151, 3) := dk_187 0 151 (dk_at dksX1_order_1 14 rfl rfl)
theorem dX1_order_40 : decode cX1_order 40 = .ok (.dup, 1) := dk_89 (dk_at dksX1_order_1 17 rfl rfl)
theorem dX1_order_41 : decode cX1_order 41 = .ok (.iload_n 1, 1) := dk_27 (dk_at dksX1_order_1 18 rfl rfl)
theorem dX1_order_42 : decode cX1_order 42 = .ok (.iload_n 2, 1) := dk_28 (dk_at dksX1_order_1 19 rfl rfl)
theorem dX1_order_43 : decode cX1_order 43 = .ok (.invokespecial 153, 3) := dk_183 0 153 (dk_at dksX1_order_1 20 rfl rfl)
theorem dX1_order_46 : decode cX1_order 46 = .ok (.iload_n 3, 1) := dk_29 (dk_at dksX1_order_1 23 rfl rfl)
theorem dX1_order_47 : decode cX1_order 47 = .ok (.invokevirtual 271, 3) := dk_182 1 15 (dk_at dksX1_order_2 0 rfl rfl)
theorem dX1_order_50 : decode cX1_order 50 = .ok (.istore 5, 2) := dk_54 5 (dk_at dksX1_order_2 3 rfl rfl)
theorem dX1_order_52 : decode cX1_order 52 = .ok (.aload_n 0, 1) := dk_42 (dk_at dksX1_order_2 5 rfl rfl)
theorem dX1_order_53 : decode cX1_order 53 = .ok (.aload 4, 2) := dk_25 4 (dk_at dksX1_order_2 6 rfl rfl)
theorem dX1_order_55 : decode cX1_order 55 = .ok (.iload 5, 2) := dk_21 5 (dk_at dksX1_order_2 8 rfl rfl)
theorem dX1_order_57 : decode cX1_order 57 = .ok (.invokevirtual 125, 3) := dk_182 0 125 (dk_at dksX1_order_2 10 rfl rfl)
theorem dX1_order_60 : decode cX1_order 60 = .ok (.ireturn, 1) := dk_172 (dk_at dksX1_order_2 13 rfl rfl)
theorem dX1_order_61 : decode cX1_order 61 = .ok (.astore 5, 2) := dk_58 5 (dk_at dksX1_order_2 14 rfl rfl)
theorem dX1_order_63 : decode cX1_order 63 = .ok (.aload_n 0, 1) := dk_42 (dk_at dksX1_order_2 16 rfl rfl)
theorem dX1_order_64 : decode cX1_order 64 = .ok (.aload 5, 2) := dk_25 5 (dk_at dksX1_order_2 17 rfl rfl)
theorem dX1_order_66 : decode cX1_order 66 = .ok (.invokevirtual 129, 3) := dk_182 0 129 (dk_at dksX1_order_2 19 rfl rfl)
theorem dX1_order_69 : decode cX1_order 69 = .ok (.athrow, 1) := dk_191 (dk_at dksX1_order_2 22 rfl rfl)
abbrev cX1_cancel : ByteArray := prog_1_method_33_code
def yX1_cancel : MethodName := ⟨RX1, "cancel", "(I)I"⟩
def dkwX1_cancel_1 : List UInt8 := [21, 4, 182, 0, 125, 172, 58, 4, 42, 25, 4, 182, 0, 129, 191]
abbrev dktX1_cancel_1 : List UInt8 := dkwX1_cancel_1 ++ []
def dkwX1_cancel_0 : List UInt8 := [42, 27, 182, 1, 19, 77, 42, 180, 0, 36, 182, 0, 117, 78, 45, 27, 182, 1, 23, 54, 4, 42, 45]
abbrev dktX1_cancel_0 : List UInt8 := dkwX1_cancel_0 ++ dktX1_cancel_1
theorem dksX1_cancel_0 : cX1_cancel.data.toList.drop 0 = dktX1_cancel_0 := by decide +kernel
theorem dksX1_cancel_1 : cX1_cancel.data.toList.drop 23 = dktX1_cancel_1 := dk_seg dksX1_cancel_0 23 rfl rfl
theorem dX1_cancel_0 : decode cX1_cancel 0 = .ok (.aload_n 0, 1) := dk_42 (dk_at dksX1_cancel_0 0 rfl rfl)
theorem dX1_cancel_1 : decode cX1_cancel 1 = .ok (.iload_n 1, 1) := dk_27 (dk_at dksX1_cancel_0 1 rfl rfl)
theorem dX1_cancel_2 : decode cX1_cancel 2 = .ok (.invokevirtual 275, 3) := dk_182 1 19 (dk_at dksX1_cancel_0 2 rfl rfl)
theorem dX1_cancel_5 : decode cX1_cancel 5 = .ok (.astore_n 2, 1) := dk_77 (dk_at dksX1_cancel_0 5 rfl rfl)
theorem dX1_cancel_6 : decode cX1_cancel 6 = .ok (.aload_n 0, 1) := dk_42 (dk_at dksX1_cancel_0 6 rfl rfl)
theorem dX1_cancel_7 : decode cX1_cancel 7 = .ok (.getfield 36, 3) := dk_180 0 36 (dk_at dksX1_cancel_0 7 rfl rfl)
theorem dX1_cancel_10 : decode cX1_cancel 10 = .ok (.invokevirtual 117, 3) := dk_182 0 117 (dk_at dksX1_cancel_0 10 rfl rfl)
theorem dX1_cancel_13 : decode cX1_cancel 13 = .ok (.astore_n 3, 1) := dk_78 (dk_at dksX1_cancel_0 13 rfl rfl)
theorem dX1_cancel_14 : decode cX1_cancel 14 = .ok (.aload_n 3, 1) := dk_45 (dk_at dksX1_cancel_0 14 rfl rfl)
theorem dX1_cancel_15 : decode cX1_cancel 15 = .ok (.iload_n 1, 1) := dk_27 (dk_at dksX1_cancel_0 15 rfl rfl)
theorem dX1_cancel_16 : decode cX1_cancel 16 = .ok (.invokevirtual 279, 3) := dk_182 1 23 (dk_at dksX1_cancel_0 16 rfl rfl)
theorem dX1_cancel_19 : decode cX1_cancel 19 = .ok (.istore 4, 2) := dk_54 4 (dk_at dksX1_cancel_0 19 rfl rfl)
theorem dX1_cancel_21 : decode cX1_cancel 21 = .ok (.aload_n 0, 1) := dk_42 (dk_at dksX1_cancel_0 21 rfl rfl)
theorem dX1_cancel_22 : decode cX1_cancel 22 = .ok (.aload_n 3, 1) := dk_45 (dk_at dksX1_cancel_0 22 rfl rfl)
theorem dX1_cancel_23 : decode cX1_cancel 23 = .ok (.iload 4, 2) := dk_21 4 (dk_at dksX1_cancel_1 0 rfl rfl)
theorem dX1_cancel_25 : decode cX1_cancel 25 = .ok (.invokevirtual 125, 3) := dk_182 0 125 (dk_at dksX1_cancel_1 2 rfl rfl)
theorem dX1_cancel_28 : decode cX1_cancel 28 = .ok (.ireturn, 1) := dk_172 (dk_at dksX1_cancel_1 5 rfl rfl)
theorem dX1_cancel_29 : decode cX1_cancel 29 = .ok (.astore 4, 2) := dk_58 4 (dk_at dksX1_cancel_1 6 rfl rfl)
theorem dX1_cancel_31 : decode cX1_cancel 31 = .ok (.aload_n 0, 1) := dk_42 (dk_at dksX1_cancel_1 8 rfl rfl)
theorem dX1_cancel_32 : decode cX1_cancel 32 = .ok (.aload 4, 2) := dk_25 4 (dk_at dksX1_cancel_1 9 rfl rfl)
theorem dX1_cancel_34 : decode cX1_cancel 34 = .ok (.invokevirtual 129, 3) := dk_182 0 129 (dk_at dksX1_cancel_1 11 rfl rfl)
theorem dX1_cancel_37 : decode cX1_cancel 37 = .ok (.athrow, 1) := dk_191 (dk_at dksX1_cancel_1 14 rfl rfl)
abbrev cX1_orderAt : ByteArray := prog_1_method_15_code
def yX1_orderAt : MethodName := ⟨RX1, "orderAt", "(I)LPaperStore$Order;"⟩
def dkwX1_orderAt_1 : List UInt8 := [192, 0, 99, 176]
abbrev dktX1_orderAt_1 : List UInt8 := dkwX1_orderAt_1 ++ []
def dkwX1_orderAt_0 : List UInt8 := [42, 180, 0, 36, 27, 182, 0, 93, 184, 0, 81, 42, 180, 0, 36, 180, 0, 96, 27, 182, 0, 88]
abbrev dktX1_orderAt_0 : List UInt8 := dkwX1_orderAt_0 ++ dktX1_orderAt_1
theorem dksX1_orderAt_0 : cX1_orderAt.data.toList.drop 0 = dktX1_orderAt_0 := by decide +kernel
theorem dksX1_orderAt_1 : cX1_orderAt.data.toList.drop 22 = dktX1_orderAt_1 := dk_seg dksX1_orderAt_0 22 rfl rfl
theorem dX1_orderAt_0 : decode cX1_orderAt 0 = .ok (.aload_n 0, 1) := dk_42 (dk_at dksX1_orderAt_0 0 rfl rfl)
theorem dX1_orderAt_1 : decode cX1_orderAt 1 = .ok (.getfield 36, 3) := dk_180 0 36 (dk_at dksX1_orderAt_0 1 rfl rfl)
theorem dX1_orderAt_4 : decode cX1_orderAt 4 = .ok (.iload_n 1, 1) := dk_27 (dk_at dksX1_orderAt_0 4 rfl rfl)
theorem dX1_orderAt_5 : decode cX1_orderAt 5 = .ok (.invokevirtual 93, 3) := dk_182 0 93 (dk_at dksX1_orderAt_0 5 rfl rfl)
theorem dX1_orderAt_8 : decode cX1_orderAt 8 = .ok (.invokestatic 81, 3) := dk_184 0 81 (dk_at dksX1_orderAt_0 8 rfl rfl)
theorem dX1_orderAt_11 : decode cX1_orderAt 11 = .ok (.aload_n 0, 1) := dk_42 (dk_at dksX1_orderAt_0 11 rfl rfl)
theorem dX1_orderAt_12 : decode cX1_orderAt 12 = .ok (.getfield 36, 3) := dk_180 0 36 (dk_at dksX1_orderAt_0 12 rfl rfl)
theorem dX1_orderAt_15 : decode cX1_orderAt 15 = .ok (.getfield 96, 3) := dk_180 0 96 (dk_at dksX1_orderAt_0 15 rfl rfl)
theorem dX1_orderAt_18 : decode cX1_orderAt 18 = .ok (.iload_n 1, 1) := dk_27 (dk_at dksX1_orderAt_0 18 rfl rfl)
theorem dX1_orderAt_19 : decode cX1_orderAt 19 = .ok (.invokevirtual 88, 3) := dk_182 0 88 (dk_at dksX1_orderAt_0 19 rfl rfl)
theorem dX1_orderAt_22 : decode cX1_orderAt 22 = .ok (.checkcast 99, 3) := dk_192 0 99 (dk_at dksX1_orderAt_1 0 rfl rfl)
theorem dX1_orderAt_25 : decode cX1_orderAt 25 = .ok (.areturn, 1) := dk_176 (dk_at dksX1_orderAt_1 3 rfl rfl)
abbrev cX1_cart : ByteArray := prog_1_method_34_code
def yX1_cart : MethodName := ⟨RX1, "cart", "(I)I"⟩
def dkwX1_cart_1 : List UInt8 := [62, 42, 44, 29, 182, 0, 125, 172, 78, 42, 45, 182, 0, 129, 191]
abbrev dktX1_cart_1 : List UInt8 := dkwX1_cart_1 ++ []
def dkwX1_cart_0 : List UInt8 := [27, 16, 10, 16, 60, 184, 0, 3, 184, 0, 114, 42, 180, 0, 36, 182, 0, 117, 77, 44, 27, 182, 1, 26]
abbrev dktX1_cart_0 : List UInt8 := dkwX1_cart_0 ++ dktX1_cart_1
theorem dksX1_cart_0 : cX1_cart.data.toList.drop 0 = dktX1_cart_0 := by decide +kernel
theorem dksX1_cart_1 : cX1_cart.data.toList.drop 24 = dktX1_cart_1 := dk_seg dksX1_cart_0 24 rfl rfl
theorem dX1_cart_0 : decode cX1_cart 0 = .ok (.iload_n 1, 1) := dk_27 (dk_at dksX1_cart_0 0 rfl rfl)
theorem dX1_cart_1 : decode cX1_cart 1 = .ok (.bipush 10, 2) := dk_16 10 (dk_at dksX1_cart_0 1 rfl rfl)
theorem dX1_cart_3 : decode cX1_cart 3 = .ok (.bipush 60, 2) := dk_16 60 (dk_at dksX1_cart_0 3 rfl rfl)
theorem dX1_cart_5 : decode cX1_cart 5 = .ok (.invokestatic 3, 3) := dk_184 0 3 (dk_at dksX1_cart_0 5 rfl rfl)
theorem dX1_cart_8 : decode cX1_cart 8 = .ok (.invokestatic 114, 3) := dk_184 0 114 (dk_at dksX1_cart_0 8 rfl rfl)
theorem dX1_cart_11 : decode cX1_cart 11 = .ok (.aload_n 0, 1) := dk_42 (dk_at dksX1_cart_0 11 rfl rfl)
theorem dX1_cart_12 : decode cX1_cart 12 = .ok (.getfield 36, 3) := dk_180 0 36 (dk_at dksX1_cart_0 12 rfl rfl)
theorem dX1_cart_15 : decode cX1_cart 15 = .ok (.invokevirtual 117, 3) := dk_182 0 117 (dk_at dksX1_cart_0 15 rfl rfl)
theorem dX1_cart_18 : decode cX1_cart 18 = .ok (.astore_n 2, 1) := dk_77 (dk_at dksX1_cart_0 18 rfl rfl)
theorem dX1_cart_19 : decode cX1_cart 19 = .ok (.aload_n 2, 1) := dk_44 (dk_at dksX1_cart_0 19 rfl rfl)
theorem dX1_cart_20 : decode cX1_cart 20 = .ok (.iload_n 1, 1) := dk_27 (dk_at dksX1_cart_0 20 rfl rfl)
theorem dX1_cart_21 : decode cX1_cart 21 = .ok (.invokevirtual 282, 3) := dk_182 1 26 (dk_at dksX1_cart_0 21 rfl rfl)
theorem dX1_cart_24 : decode cX1_cart 24 = .ok (.istore_n 3, 1) := dk_62 (dk_at dksX1_cart_1 0 rfl rfl)
theorem dX1_cart_25 : decode cX1_cart 25 = .ok (.aload_n 0, 1) := dk_42 (dk_at dksX1_cart_1 1 rfl rfl)
theorem dX1_cart_26 : decode cX1_cart 26 = .ok (.aload_n 2, 1) := dk_44 (dk_at dksX1_cart_1 2 rfl rfl)
theorem dX1_cart_27 : decode cX1_cart 27 = .ok (.iload_n 3, 1) := dk_29 (dk_at dksX1_cart_1 3 rfl rfl)
theorem dX1_cart_28 : decode cX1_cart 28 = .ok (.invokevirtual 125, 3) := dk_182 0 125 (dk_at dksX1_cart_1 4 rfl rfl)
theorem dX1_cart_31 : decode cX1_cart 31 = .ok (.ireturn, 1) := dk_172 (dk_at dksX1_cart_1 7 rfl rfl)
theorem dX1_cart_32 : decode cX1_cart 32 = .ok (.astore_n 3, 1) := dk_78 (dk_at dksX1_cart_1 8 rfl rfl)
theorem dX1_cart_33 : decode cX1_cart 33 = .ok (.aload_n 0, 1) := dk_42 (dk_at dksX1_cart_1 9 rfl rfl)
theorem dX1_cart_34 : decode cX1_cart 34 = .ok (.aload_n 3, 1) := dk_45 (dk_at dksX1_cart_1 10 rfl rfl)
theorem dX1_cart_35 : decode cX1_cart 35 = .ok (.invokevirtual 129, 3) := dk_182 0 129 (dk_at dksX1_cart_1 11 rfl rfl)
theorem dX1_cart_38 : decode cX1_cart 38 = .ok (.athrow, 1) := dk_191 (dk_at dksX1_cart_1 14 rfl rfl)
abbrev cX1_gather : ByteArray := prog_1_method_35_code
def yX1_gather : MethodName := ⟨RX1, "gather", "(III)I"⟩
def dkwX1_gather_3 : List UInt8 := [58, 5, 42, 25, 5, 182, 0, 129, 191]
abbrev dktX1_gather_3 : List UInt8 := dkwX1_gather_3 ++ []
def dkwX1_gather_2 : List UInt8 := [182, 0, 117, 58, 4, 25, 4, 27, 28, 29, 182, 1, 29, 54, 5, 42, 25, 4, 21, 5, 182, 0, 125, 172]
abbrev dktX1_gather_2 : List UInt8 := dkwX1_gather_2 ++ dktX1_gather_3
def dkwX1_gather_1 : List UInt8 := [180, 0, 36, 29, 182, 0, 77, 153, 0, 7, 4, 167, 0, 4, 3, 184, 0, 81, 42, 180, 0, 36]
abbrev dktX1_gather_1 : List UInt8 := dkwX1_gather_1 ++ dktX1_gather_2
def dkwX1_gather_0 : List UInt8 := [42, 180, 0, 36, 27, 182, 0, 93, 153, 0, 29, 42, 180, 0, 36, 28, 182, 0, 101, 153, 0, 18, 42]
abbrev dktX1_gather_0 : List UInt8 := dkwX1_gather_0 ++ dktX1_gather_1
theorem dksX1_gather_0 : cX1_gather.data.toList.drop 0 = dktX1_gather_0 := by decide +kernel
theorem dksX1_gather_1 : cX1_gather.data.toList.drop 23 = dktX1_gather_1 := dk_seg dksX1_gather_0 23 rfl rfl
theorem dksX1_gather_2 : cX1_gather.data.toList.drop 45 = dktX1_gather_2 := dk_seg dksX1_gather_1 22 rfl rfl
theorem dksX1_gather_3 : cX1_gather.data.toList.drop 69 = dktX1_gather_3 := dk_seg dksX1_gather_2 24 rfl rfl
theorem dX1_gather_0 : decode cX1_gather 0 = .ok (.aload_n 0, 1) := dk_42 (dk_at dksX1_gather_0 0 rfl rfl)
theorem dX1_gather_1 : decode cX1_gather 1 = .ok (.getfield 36, 3) := dk_180 0 36 (dk_at dksX1_gather_0 1 rfl rfl)
theorem dX1_gather_4 : decode cX1_gather 4 = .ok (.iload_n 1, 1) := dk_27 (dk_at dksX1_gather_0 4 rfl rfl)
theorem dX1_gather_5 : decode cX1_gather 5 = .ok (.invokevirtual 93, 3) := dk_182 0 93 (dk_at dksX1_gather_0 5 rfl rfl)
theorem dX1_gather_8 : decode cX1_gather 8 = .ok (.ifCond .eq 29, 3) := dk_153 0 29 (dk_at dksX1_gather_0 8 rfl rfl)
theorem dX1_gather_11 : decode cX1_gather 11 = .ok (.aload_n 0, 1) := dk_42 (dk_at dksX1_gather_0 11 rfl rfl)
theorem dX1_gather_12 : decode cX1_gather 12 = .ok (.getfield 36, 3) := dk_180 0 36 (dk_at dksX1_gather_0 12 rfl rfl)
theorem dX1_gather_15 : decode cX1_gather 15 = .ok (.iload_n 2, 1) := dk_28 (dk_at dksX1_gather_0 15 rfl rfl)
theorem dX1_gather_16 : decode cX1_gather 16 = .ok (.invokevirtual 101, 3) := dk_182 0 101 (dk_at dksX1_gather_0 16 rfl rfl)
theorem dX1_gather_19 : decode cX1_gather 19 = .ok (.ifCond .eq 18, 3) := dk_153 0 18 (dk_at dksX1_gather_0 19 rfl rfl)
theorem dX1_gather_22 : decode cX1_gather 22 = .ok (.aload_n 0, 1) := dk_42 (dk_at dksX1_gather_0 22 rfl rfl)
theorem dX1_gather_23 : decode cX1_gather 23 = .ok (.getfield 36, 3) := dk_180 0 36 (dk_at dksX1_gather_1 0 rfl rfl)
theorem dX1_gather_26 : decode cX1_gather 26 = .ok (.iload_n 3, 1) := dk_29 (dk_at dksX1_gather_1 3 rfl rfl)
theorem dX1_gather_27 : decode cX1_gather 27 = .ok (.invokevirtual 77, 3) := dk_182 0 77 (dk_at dksX1_gather_1 4 rfl rfl)
theorem dX1_gather_30 : decode cX1_gather 30 = .ok (.ifCond .eq 7, 3) := dk_153 0 7 (dk_at dksX1_gather_1 7 rfl rfl)
theorem dX1_gather_33 : decode cX1_gather 33 = .ok (.iconst 1, 1) := dk_4 (dk_at dksX1_gather_1 10 rfl rfl)
theorem dX1_gather_34 : decode cX1_gather 34 = .ok (.goto 4, 3) := dk_167 0 4 (dk_at dksX1_gather_1 11 rfl rfl)
theorem dX1_gather_37 : decode cX1_gather 37 = .ok (.iconst 0, 1) := dk_3 (dk_at dksX1_gather_1 14 rfl rfl)
theorem dX1_gather_38 : decode cX1_gather 38 = .ok (.invokestatic 81, 3) := dk_184 0 81 (dk_at dksX1_gather_1 15 rfl rfl)
theorem dX1_gather_41 : decode cX1_gather 41 = .ok (.aload_n 0, 1) := dk_42 (dk_at dksX1_gather_1 18 rfl rfl)
theorem dX1_gather_42 : decode cX1_gather 42 = .ok (.getfield 36, 3) := dk_180 0 36 (dk_at dksX1_gather_1 19 rfl rfl)
theorem dX1_gather_45 : decode cX1_gather 45 = .ok (.invokevirtual 117, 3) := dk_182 0 117 (dk_at dksX1_gather_2 0 rfl rfl)
theorem dX1_gather_48 : decode cX1_gather 48 = .ok (.astore 4, 2) := dk_58 4 (dk_at dksX1_gather_2 3 rfl rfl)
theorem dX1_gather_50 : decode cX1_gather 50 = .ok (.aload 4, 2) := dk_25 4 (dk_at dksX1_gather_2 5 rfl rfl)
theorem dX1_gather_52 : decode cX1_gather 52 = .ok (.iload_n 1, 1) := dk_27 (dk_at dksX1_gather_2 7 rfl rfl)
theorem dX1_gather_53 : decode cX1_gather 53 = .ok (.iload_n 2, 1) := dk_28 (dk_at dksX1_gather_2 8 rfl rfl)
theorem dX1_gather_54 : decode cX1_gather 54 = .ok (.iload_n 3, 1) := dk_29 (dk_at dksX1_gather_2 9 rfl rfl)
theorem dX1_gather_55 : decode cX1_gather 55 = .ok (.invokevirtual 285, 3) := dk_182 1 29 (dk_at dksX1_gather_2 10 rfl rfl)
theorem dX1_gather_58 : decode cX1_gather 58 = .ok (.istore 5, 2) := dk_54 5 (dk_at dksX1_gather_2 13 rfl rfl)
theorem dX1_gather_60 : decode cX1_gather 60 = .ok (.aload_n 0, 1) := dk_42 (dk_at dksX1_gather_2 15 rfl rfl)
theorem dX1_gather_61 : decode cX1_gather 61 = .ok (.aload 4, 2) := dk_25 4 (dk_at dksX1_gather_2 16 rfl rfl)
theorem dX1_gather_63 : decode cX1_gather 63 = .ok (.iload 5, 2) := dk_21 5 (dk_at dksX1_gather_2 18 rfl rfl)
theorem dX1_gather_65 : decode cX1_gather 65 = .ok (.invokevirtual 125, 3) := dk_182 0 125 (dk_at dksX1_gather_2 20 rfl rfl)
theorem dX1_gather_68 : decode cX1_gather 68 = .ok (.ireturn, 1) := dk_172 (dk_at dksX1_gather_2 23 rfl rfl)
theorem dX1_gather_69 : decode cX1_gather 69 = .ok (.astore 5, 2) := dk_58 5 (dk_at dksX1_gather_3 0 rfl rfl)
theorem dX1_gather_71 : decode cX1_gather 71 = .ok (.aload_n 0, 1) := dk_42 (dk_at dksX1_gather_3 2 rfl rfl)
theorem dX1_gather_72 : decode cX1_gather 72 = .ok (.aload 5, 2) := dk_25 5 (dk_at dksX1_gather_3 3 rfl rfl)
theorem dX1_gather_74 : decode cX1_gather 74 = .ok (.invokevirtual 129, 3) := dk_182 0 129 (dk_at dksX1_gather_3 5 rfl rfl)
theorem dX1_gather_77 : decode cX1_gather 77 = .ok (.athrow, 1) := dk_191 (dk_at dksX1_gather_3 8 rfl rfl)
abbrev cX1_send : ByteArray := prog_1_method_36_code
def yX1_send : MethodName := ⟨RX1, "send", "(I)I"⟩
def dkwX1_send_1 : List UInt8 := [21, 4, 182, 0, 125, 172, 58, 4, 42, 25, 4, 182, 0, 129, 191]
abbrev dktX1_send_1 : List UInt8 := dkwX1_send_1 ++ []
def dkwX1_send_0 : List UInt8 := [42, 27, 182, 1, 33, 77, 42, 180, 0, 36, 182, 0, 117, 78, 45, 27, 182, 1, 37, 54, 4, 42, 45]
abbrev dktX1_send_0 : List UInt8 := dkwX1_send_0 ++ dktX1_send_1
theorem dksX1_send_0 : cX1_send.data.toList.drop 0 = dktX1_send_0 := by decide +kernel
theorem dksX1_send_1 : cX1_send.data.toList.drop 23 = dktX1_send_1 := dk_seg dksX1_send_0 23 rfl rfl
theorem dX1_send_0 : decode cX1_send 0 = .ok (.aload_n 0, 1) := dk_42 (dk_at dksX1_send_0 0 rfl rfl)
theorem dX1_send_1 : decode cX1_send 1 = .ok (.iload_n 1, 1) := dk_27 (dk_at dksX1_send_0 1 rfl rfl)
theorem dX1_send_2 : decode cX1_send 2 = .ok (.invokevirtual 289, 3) := dk_182 1 33 (dk_at dksX1_send_0 2 rfl rfl)
theorem dX1_send_5 : decode cX1_send 5 = .ok (.astore_n 2, 1) := dk_77 (dk_at dksX1_send_0 5 rfl rfl)
theorem dX1_send_6 : decode cX1_send 6 = .ok (.aload_n 0, 1) := dk_42 (dk_at dksX1_send_0 6 rfl rfl)
theorem dX1_send_7 : decode cX1_send 7 = .ok (.getfield 36, 3) := dk_180 0 36 (dk_at dksX1_send_0 7 rfl rfl)
theorem dX1_send_10 : decode cX1_send 10 = .ok (.invokevirtual 117, 3) := dk_182 0 117 (dk_at dksX1_send_0 10 rfl rfl)
theorem dX1_send_13 : decode cX1_send 13 = .ok (.astore_n 3, 1) := dk_78 (dk_at dksX1_send_0 13 rfl rfl)
theorem dX1_send_14 : decode cX1_send 14 = .ok (.aload_n 3, 1) := dk_45 (dk_at dksX1_send_0 14 rfl rfl)
theorem dX1_send_15 : decode cX1_send 15 = .ok (.iload_n 1, 1) := dk_27 (dk_at dksX1_send_0 15 rfl rfl)
theorem dX1_send_16 : decode cX1_send 16 = .ok (.invokevirtual 293, 3) := dk_182 1 37 (dk_at dksX1_send_0 16 rfl rfl)
theorem dX1_send_19 : decode cX1_send 19 = .ok (.istore 4, 2) := dk_54 4 (dk_at dksX1_send_0 19 rfl rfl)
theorem dX1_send_21 : decode cX1_send 21 = .ok (.aload_n 0, 1) := dk_42 (dk_at dksX1_send_0 21 rfl rfl)
theorem dX1_send_22 : decode cX1_send 22 = .ok (.aload_n 3, 1) := dk_45 (dk_at dksX1_send_0 22 rfl rfl)
theorem dX1_send_23 : decode cX1_send 23 = .ok (.iload 4, 2) := dk_21 4 (dk_at dksX1_send_1 0 rfl rfl)
theorem dX1_send_25 : decode cX1_send 25 = .ok (.invokevirtual 125, 3) := dk_182 0 125 (dk_at dksX1_send_1 2 rfl rfl)
theorem dX1_send_28 : decode cX1_send 28 = .ok (.ireturn, 1) := dk_172 (dk_at dksX1_send_1 5 rfl rfl)
theorem dX1_send_29 : decode cX1_send 29 = .ok (.astore 4, 2) := dk_58 4 (dk_at dksX1_send_1 6 rfl rfl)
theorem dX1_send_31 : decode cX1_send 31 = .ok (.aload_n 0, 1) := dk_42 (dk_at dksX1_send_1 8 rfl rfl)
theorem dX1_send_32 : decode cX1_send 32 = .ok (.aload 4, 2) := dk_25 4 (dk_at dksX1_send_1 9 rfl rfl)
theorem dX1_send_34 : decode cX1_send 34 = .ok (.invokevirtual 129, 3) := dk_182 0 129 (dk_at dksX1_send_1 11 rfl rfl)
theorem dX1_send_37 : decode cX1_send 37 = .ok (.athrow, 1) := dk_191 (dk_at dksX1_send_1 14 rfl rfl)
abbrev cX1_cartAt : ByteArray := prog_1_method_16_code
def yX1_cartAt : MethodName := ⟨RX1, "cartAt", "(I)LPaperStore$Cart;"⟩
def dkwX1_cartAt_1 : List UInt8 := [192, 0, 107, 176]
abbrev dktX1_cartAt_1 : List UInt8 := dkwX1_cartAt_1 ++ []
def dkwX1_cartAt_0 : List UInt8 := [42, 180, 0, 36, 27, 182, 0, 101, 184, 0, 81, 42, 180, 0, 36, 180, 0, 104, 27, 182, 0, 88]
abbrev dktX1_cartAt_0 : List UInt8 := dkwX1_cartAt_0 ++ dktX1_cartAt_1
theorem dksX1_cartAt_0 : cX1_cartAt.data.toList.drop 0 = dktX1_cartAt_0 := by decide +kernel
theorem dksX1_cartAt_1 : cX1_cartAt.data.toList.drop 22 = dktX1_cartAt_1 := dk_seg dksX1_cartAt_0 22 rfl rfl
theorem dX1_cartAt_0 : decode cX1_cartAt 0 = .ok (.aload_n 0, 1) := dk_42 (dk_at dksX1_cartAt_0 0 rfl rfl)
theorem dX1_cartAt_1 : decode cX1_cartAt 1 = .ok (.getfield 36, 3) := dk_180 0 36 (dk_at dksX1_cartAt_0 1 rfl rfl)
theorem dX1_cartAt_4 : decode cX1_cartAt 4 = .ok (.iload_n 1, 1) := dk_27 (dk_at dksX1_cartAt_0 4 rfl rfl)
theorem dX1_cartAt_5 : decode cX1_cartAt 5 = .ok (.invokevirtual 101, 3) := dk_182 0 101 (dk_at dksX1_cartAt_0 5 rfl rfl)
theorem dX1_cartAt_8 : decode cX1_cartAt 8 = .ok (.invokestatic 81, 3) := dk_184 0 81 (dk_at dksX1_cartAt_0 8 rfl rfl)
theorem dX1_cartAt_11 : decode cX1_cartAt 11 = .ok (.aload_n 0, 1) := dk_42 (dk_at dksX1_cartAt_0 11 rfl rfl)
theorem dX1_cartAt_12 : decode cX1_cartAt 12 = .ok (.getfield 36, 3) := dk_180 0 36 (dk_at dksX1_cartAt_0 12 rfl rfl)
theorem dX1_cartAt_15 : decode cX1_cartAt 15 = .ok (.getfield 104, 3) := dk_180 0 104 (dk_at dksX1_cartAt_0 15 rfl rfl)
theorem dX1_cartAt_18 : decode cX1_cartAt 18 = .ok (.iload_n 1, 1) := dk_27 (dk_at dksX1_cartAt_0 18 rfl rfl)
theorem dX1_cartAt_19 : decode cX1_cartAt 19 = .ok (.invokevirtual 88, 3) := dk_182 0 88 (dk_at dksX1_cartAt_0 19 rfl rfl)
theorem dX1_cartAt_22 : decode cX1_cartAt 22 = .ok (.checkcast 107, 3) := dk_192 0 107 (dk_at dksX1_cartAt_1 0 rfl rfl)
theorem dX1_cartAt_25 : decode cX1_cartAt 25 = .ok (.areturn, 1) := dk_176 (dk_at dksX1_cartAt_1 3 rfl rfl)
abbrev cX1_orderOf : ByteArray := prog_1_method_37_code
def yX1_orderOf : MethodName := ⟨RX1, "orderOf", "(II)I"⟩
def dkwX1_orderOf_3 : List UInt8 := [167, 0, 21, 45, 180, 1, 42, 167, 0, 14, 45, 180, 1, 45, 167, 0, 7, 45, 180, 1, 48, 172]
abbrev dktX1_orderOf_3 : List UInt8 := dkwX1_orderOf_3 ++ []
def dkwX1_orderOf_2 : List UInt8 := [45, 180, 1, 40, 180, 0, 193, 167, 0, 38, 45, 180, 1, 40, 180, 0, 195, 167, 0, 28, 45, 180, 1, 41]
abbrev dktX1_orderOf_2 : List UInt8 := dkwX1_orderOf_2 ++ dktX1_orderOf_3
def dkwX1_orderOf_1 : List UInt8 := [170, 0, 0, 0, 0, 0, 0, 77, 0, 0, 0, 0, 0, 0, 0, 4, 0, 0, 0, 36, 0, 0, 0, 46, 0, 0, 0, 56, 0, 0, 0, 63, 0, 0, 0, 70]
abbrev dktX1_orderOf_1 : List UInt8 := dkwX1_orderOf_1 ++ dktX1_orderOf_2
def dkwX1_orderOf_0 : List UInt8 := [42, 27, 182, 1, 19, 78, 28, 3, 8, 184, 0, 3, 184, 0, 114, 28]
abbrev dktX1_orderOf_0 : List UInt8 := dkwX1_orderOf_0 ++ dktX1_orderOf_1
theorem dksX1_orderOf_0 : cX1_orderOf.data.toList.drop 0 = dktX1_orderOf_0 := by decide +kernel
theorem dksX1_orderOf_1 : cX1_orderOf.data.toList.drop 16 = dktX1_orderOf_1 := dk_seg dksX1_orderOf_0 16 rfl rfl
theorem dksX1_orderOf_2 : cX1_orderOf.data.toList.drop 52 = dktX1_orderOf_2 := dk_seg dksX1_orderOf_1 36 rfl rfl
theorem dksX1_orderOf_3 : cX1_orderOf.data.toList.drop 76 = dktX1_orderOf_3 := dk_seg dksX1_orderOf_2 24 rfl rfl
theorem dX1_orderOf_0 : decode cX1_orderOf 0 = .ok (.aload_n 0, 1) := dk_42 (dk_at dksX1_orderOf_0 0 rfl rfl)
theorem dX1_orderOf_1 : decode cX1_orderOf 1 = .ok (.iload_n 1, 1) := dk_27 (dk_at dksX1_orderOf_0 1 rfl rfl)
theorem dX1_orderOf_2 : decode cX1_orderOf 2 = .ok (.invokevirtual 275, 3) := dk_182 1 19 (dk_at dksX1_orderOf_0 2 rfl rfl)
theorem dX1_orderOf_5 : decode cX1_orderOf 5 = .ok (.astore_n 3, 1) := dk_78 (dk_at dksX1_orderOf_0 5 rfl rfl)
theorem dX1_orderOf_6 : decode cX1_orderOf 6 = .ok (.iload_n 2, 1) := dk_28 (dk_at dksX1_orderOf_0 6 rfl rfl)
theorem dX1_orderOf_7 : decode cX1_orderOf 7 = .ok (.iconst 0, 1) := dk_3 (dk_at dksX1_orderOf_0 7 rfl rfl)
theorem dX1_orderOf_8 : decode cX1_orderOf 8 = .ok (.iconst 5, 1) := dk_8 (dk_at dksX1_orderOf_0 8 rfl rfl)
theorem dX1_orderOf_9 : decode cX1_orderOf 9 = .ok (.invokestatic 3, 3) := dk_184 0 3 (dk_at dksX1_orderOf_0 9 rfl rfl)
theorem dX1_orderOf_12 : decode cX1_orderOf 12 = .ok (.invokestatic 114, 3) := dk_184 0 114 (dk_at dksX1_orderOf_0 12 rfl rfl)
theorem dX1_orderOf_15 : decode cX1_orderOf 15 = .ok (.iload_n 2, 1) := dk_28 (dk_at dksX1_orderOf_0 15 rfl rfl)
theorem dX1_orderOf_16 : decode cX1_orderOf 16 = .ok (.tableswitch 77 0 4 #[36, 46, 56, 63, 70], 36) := by decide +kernel
theorem dX1_orderOf_52 : decode cX1_orderOf 52 = .ok (.aload_n 3, 1) := dk_45 (dk_at dksX1_orderOf_2 0 rfl rfl)
theorem dX1_orderOf_53 : decode cX1_orderOf 53 = .ok (.getfield 296, 3) := dk_180 1 40 (dk_at dksX1_orderOf_2 1 rfl rfl)
theorem dX1_orderOf_56 : decode cX1_orderOf 56 = .ok (.getfield 193, 3) := dk_180 0 193 (dk_at dksX1_orderOf_2 4 rfl rfl)
theorem dX1_orderOf_59 : decode cX1_orderOf 59 = .ok (.goto 38, 3) := dk_167 0 38 (dk_at dksX1_orderOf_2 7 rfl rfl)
theorem dX1_orderOf_62 : decode cX1_orderOf 62 = .ok (.aload_n 3, 1) := dk_45 (dk_at dksX1_orderOf_2 10 rfl rfl)
theorem dX1_orderOf_63 : decode cX1_orderOf 63 = .ok (.getfield 296, 3) := dk_180 1 40 (dk_at dksX1_orderOf_2 11 rfl rfl)
theorem dX1_orderOf_66 : decode cX1_orderOf 66 = .ok (.getfield 195, 3) := dk_180 0 195 (dk_at dksX1_orderOf_2 14 rfl rfl)
theorem dX1_orderOf_69 : decode cX1_orderOf 69 = .ok (.goto 28, 3) := dk_167 0 28 (dk_at dksX1_orderOf_2 17 rfl rfl)
theorem dX1_orderOf_72 : decode cX1_orderOf 72 = .ok (.aload_n 3, 1) := dk_45 (dk_at dksX1_orderOf_2 20 rfl rfl)
theorem dX1_orderOf_73 : decode cX1_orderOf 73 = .ok (.getfield 297, 3) := dk_180 1 41 (dk_at dksX1_orderOf_2 21 rfl rfl)
theorem dX1_orderOf_76 : decode cX1_orderOf 76 = .ok (.goto 21, 3) := dk_167 0 21 (dk_at dksX1_orderOf_3 0 rfl rfl)
theorem dX1_orderOf_79 : decode cX1_orderOf 79 = .ok (.aload_n 3, 1) := dk_45 (dk_at dksX1_orderOf_3 3 rfl rfl)
theorem dX1_orderOf_80 : decode cX1_orderOf 80 = .ok (.getfield 298, 3) := dk_180 1 42 (dk_at dksX1_orderOf_3 4 rfl rfl)
theorem dX1_orderOf_83 : decode cX1_orderOf 83 = .ok (.goto 14, 3) := dk_167 0 14 (dk_at dksX1_orderOf_3 7 rfl rfl)
theorem dX1_orderOf_86 : decode cX1_orderOf 86 = .ok (.aload_n 3, 1) := dk_45 (dk_at dksX1_orderOf_3 10 rfl rfl)
theorem dX1_orderOf_87 : decode cX1_orderOf 87 = .ok (.getfield 301, 3) := dk_180 1 45 (dk_at dksX1_orderOf_3 11 rfl rfl)
theorem dX1_orderOf_90 : decode cX1_orderOf 90 = .ok (.goto 7, 3) := dk_167 0 7 (dk_at dksX1_orderOf_3 14 rfl rfl)
theorem dX1_orderOf_93 : decode cX1_orderOf 93 = .ok (.aload_n 3, 1) := dk_45 (dk_at dksX1_orderOf_3 17 rfl rfl)
theorem dX1_orderOf_94 : decode cX1_orderOf 94 = .ok (.getfield 304, 3) := dk_180 1 48 (dk_at dksX1_orderOf_3 18 rfl rfl)
theorem dX1_orderOf_97 : decode cX1_orderOf 97 = .ok (.ireturn, 1) := dk_172 (dk_at dksX1_orderOf_3 21 rfl rfl)
abbrev cX1_lacking : ByteArray := prog_1_method_38_code
def yX1_lacking : MethodName := ⟨RX1, "lacking", "(I)I"⟩
def dkwX1_lacking_0 : List UInt8 := [42, 27, 182, 1, 19, 77, 42, 180, 0, 36, 27, 182, 1, 51, 172]
abbrev dktX1_lacking_0 : List UInt8 := dkwX1_lacking_0 ++ []
theorem dksX1_lacking_0 : cX1_lacking.data.toList.drop 0 = dktX1_lacking_0 := by decide +kernel
theorem dX1_lacking_0 : decode cX1_lacking 0 = .ok (.aload_n 0, 1) := dk_42 (dk_at dksX1_lacking_0 0 rfl rfl)
theorem dX1_lacking_1 : decode cX1_lacking 1 = .ok (.iload_n 1, 1) := dk_27 (dk_at dksX1_lacking_0 1 rfl rfl)
theorem dX1_lacking_2 : decode cX1_lacking 2 = .ok (.invokevirtual 275, 3) := dk_182 1 19 (dk_at dksX1_lacking_0 2 rfl rfl)
theorem dX1_lacking_5 : decode cX1_lacking 5 = .ok (.astore_n 2, 1) := dk_77 (dk_at dksX1_lacking_0 5 rfl rfl)
theorem dX1_lacking_6 : decode cX1_lacking 6 = .ok (.aload_n 0, 1) := dk_42 (dk_at dksX1_lacking_0 6 rfl rfl)
theorem dX1_lacking_7 : decode cX1_lacking 7 = .ok (.getfield 36, 3) := dk_180 0 36 (dk_at dksX1_lacking_0 7 rfl rfl)
theorem dX1_lacking_10 : decode cX1_lacking 10 = .ok (.iload_n 1, 1) := dk_27 (dk_at dksX1_lacking_0 10 rfl rfl)
theorem dX1_lacking_11 : decode cX1_lacking 11 = .ok (.invokevirtual 307, 3) := dk_182 1 51 (dk_at dksX1_lacking_0 11 rfl rfl)
theorem dX1_lacking_14 : decode cX1_lacking 14 = .ok (.ireturn, 1) := dk_172 (dk_at dksX1_lacking_0 14 rfl rfl)
abbrev cX1_bestLadder : ByteArray := prog_1_method_39_code
def yX1_bestLadder : MethodName := ⟨RX1, "bestLadder", "(I)I"⟩
def dkwX1_bestLadder_1 : List UInt8 := [3, 184, 0, 215, 29, 172]
abbrev dktX1_bestLadder_1 : List UInt8 := dkwX1_bestLadder_1 ++ []
def dkwX1_bestLadder_0 : List UInt8 := [42, 27, 182, 1, 19, 77, 42, 180, 0, 36, 27, 182, 1, 54, 62, 29, 2, 159, 0, 7, 4, 167, 0, 4]
abbrev dktX1_bestLadder_0 : List UInt8 := dkwX1_bestLadder_0 ++ dktX1_bestLadder_1
theorem dksX1_bestLadder_0 : cX1_bestLadder.data.toList.drop 0 = dktX1_bestLadder_0 := by decide +kernel
theorem dksX1_bestLadder_1 : cX1_bestLadder.data.toList.drop 24 = dktX1_bestLadder_1 := dk_seg dksX1_bestLadder_0 24 rfl rfl
theorem dX1_bestLadder_0 : decode cX1_bestLadder 0 = .ok (.aload_n 0, 1) := dk_42 (dk_at dksX1_bestLadder_0 0 rfl rfl)
theorem dX1_bestLadder_1 : decode cX1_bestLadder 1 = .ok (.iload_n 1, 1) := dk_27 (dk_at dksX1_bestLadder_0 1 rfl rfl)
theorem dX1_bestLadder_2 : decode cX1_bestLadder 2 = .ok (.invokevirtual 275, 3) := dk_182 1 19 (dk_at dksX1_bestLadder_0 2 rfl rfl)
theorem dX1_bestLadder_5 : decode cX1_bestLadder 5 = .ok (.astore_n 2, 1) := dk_77 (dk_at dksX1_bestLadder_0 5 rfl rfl)
theorem dX1_bestLadder_6 : decode cX1_bestLadder 6 = .ok (.aload_n 0, 1) := dk_42 (dk_at dksX1_bestLadder_0 6 rfl rfl)
theorem dX1_bestLadder_7 : decode cX1_bestLadder 7 = .ok (.getfield 36, 3) := dk_180 0 36 (dk_at dksX1_bestLadder_0 7 rfl rfl)
theorem dX1_bestLadder_10 : decode cX1_bestLadder 10 = .ok (.iload_n 1, 1) := dk_27 (dk_at dksX1_bestLadder_0 10 rfl rfl)
theorem dX1_bestLadder_11 : decode cX1_bestLadder 11 = .ok (.invokevirtual 310, 3) := dk_182 1 54 (dk_at dksX1_bestLadder_0 11 rfl rfl)
theorem dX1_bestLadder_14 : decode cX1_bestLadder 14 = .ok (.istore_n 3, 1) := dk_62 (dk_at dksX1_bestLadder_0 14 rfl rfl)
theorem dX1_bestLadder_15 : decode cX1_bestLadder 15 = .ok (.iload_n 3, 1) := dk_29 (dk_at dksX1_bestLadder_0 15 rfl rfl)
theorem dX1_bestLadder_16 : decode cX1_bestLadder 16 = .ok (.iconst (-1), 1) := dk_2 (dk_at dksX1_bestLadder_0 16 rfl rfl)
theorem dX1_bestLadder_17 : decode cX1_bestLadder 17 = .ok (.if_icmp .eq 7, 3) := dk_159 0 7 (dk_at dksX1_bestLadder_0 17 rfl rfl)
theorem dX1_bestLadder_20 : decode cX1_bestLadder 20 = .ok (.iconst 1, 1) := dk_4 (dk_at dksX1_bestLadder_0 20 rfl rfl)
theorem dX1_bestLadder_21 : decode cX1_bestLadder 21 = .ok (.goto 4, 3) := dk_167 0 4 (dk_at dksX1_bestLadder_0 21 rfl rfl)
theorem dX1_bestLadder_24 : decode cX1_bestLadder 24 = .ok (.iconst 0, 1) := dk_3 (dk_at dksX1_bestLadder_1 0 rfl rfl)
theorem dX1_bestLadder_25 : decode cX1_bestLadder 25 = .ok (.invokestatic 215, 3) := dk_184 0 215 (dk_at dksX1_bestLadder_1 1 rfl rfl)
theorem dX1_bestLadder_28 : decode cX1_bestLadder 28 = .ok (.iload_n 3, 1) := dk_29 (dk_at dksX1_bestLadder_1 4 rfl rfl)
theorem dX1_bestLadder_29 : decode cX1_bestLadder 29 = .ok (.ireturn, 1) := dk_172 (dk_at dksX1_bestLadder_1 5 rfl rfl)
abbrev cX1_cartOf : ByteArray := prog_1_method_40_code
def yX1_cartOf : MethodName := ⟨RX1, "cartOf", "(II)I"⟩
def dkwX1_cartOf_1 : List UInt8 := [167, 0, 19, 28, 4, 160, 0, 10, 45, 180, 1, 60, 167, 0, 7, 45, 180, 1, 61, 172]
abbrev dktX1_cartOf_1 : List UInt8 := dkwX1_cartOf_1 ++ []
def dkwX1_cartOf_0 : List UInt8 := [42, 27, 182, 1, 33, 78, 28, 3, 5, 184, 0, 3, 184, 0, 114, 28, 154, 0, 10, 45, 180, 1, 57]
abbrev dktX1_cartOf_0 : List UInt8 := dkwX1_cartOf_0 ++ dktX1_cartOf_1
theorem dksX1_cartOf_0 : cX1_cartOf.data.toList.drop 0 = dktX1_cartOf_0 := by decide +kernel
theorem dksX1_cartOf_1 : cX1_cartOf.data.toList.drop 23 = dktX1_cartOf_1 := dk_seg dksX1_cartOf_0 23 rfl rfl
theorem dX1_cartOf_0 : decode cX1_cartOf 0 = .ok (.aload_n 0, 1) := dk_42 (dk_at dksX1_cartOf_0 0 rfl rfl)
theorem dX1_cartOf_1 : decode cX1_cartOf 1 = .ok (.iload_n 1, 1) := dk_27 (dk_at dksX1_cartOf_0 1 rfl rfl)
theorem dX1_cartOf_2 : decode cX1_cartOf 2 = .ok (.invokevirtual 289, 3) := dk_182 1 33 (dk_at dksX1_cartOf_0 2 rfl rfl)
theorem dX1_cartOf_5 : decode cX1_cartOf 5 = .ok (.astore_n 3, 1) := dk_78 (dk_at dksX1_cartOf_0 5 rfl rfl)
theorem dX1_cartOf_6 : decode cX1_cartOf 6 = .ok (.iload_n 2, 1) := dk_28 (dk_at dksX1_cartOf_0 6 rfl rfl)
theorem dX1_cartOf_7 : decode cX1_cartOf 7 = .ok (.iconst 0, 1) := dk_3 (dk_at dksX1_cartOf_0 7 rfl rfl)
theorem dX1_cartOf_8 : decode cX1_cartOf 8 = .ok (.iconst 2, 1) := dk_5 (dk_at dksX1_cartOf_0 8 rfl rfl)
theorem dX1_cartOf_9 : decode cX1_cartOf 9 = .ok (.invokestatic 3, 3) := dk_184 0 3 (dk_at dksX1_cartOf_0 9 rfl rfl)
theorem dX1_cartOf_12 : decode cX1_cartOf 12 = .ok (.invokestatic 114, 3) := dk_184 0 114 (dk_at dksX1_cartOf_0 12 rfl rfl)
theorem dX1_cartOf_15 : decode cX1_cartOf 15 = .ok (.iload_n 2, 1) := dk_28 (dk_at dksX1_cartOf_0 15 rfl rfl)
theorem dX1_cartOf_16 : decode cX1_cartOf 16 = .ok (.ifCond .ne 10, 3) := dk_154 0 10 (dk_at dksX1_cartOf_0 16 rfl rfl)
theorem dX1_cartOf_19 : decode cX1_cartOf 19 = .ok (.aload_n 3, 1) := dk_45 (dk_at dksX1_cartOf_0 19 rfl rfl)
theorem dX1_cartOf_20 : decode cX1_cartOf 20 = .ok (.getfield 313, 3) := dk_180 1 57 (dk_at dksX1_cartOf_0 20 rfl rfl)
theorem dX1_cartOf_23 : decode cX1_cartOf 23 = .ok (.goto 19, 3) := dk_167 0 19 (dk_at dksX1_cartOf_1 0 rfl rfl)
theorem dX1_cartOf_26 : decode cX1_cartOf 26 = .ok (.iload_n 2, 1) := dk_28 (dk_at dksX1_cartOf_1 3 rfl rfl)
theorem dX1_cartOf_27 : decode cX1_cartOf 27 = .ok (.iconst 1, 1) := dk_4 (dk_at dksX1_cartOf_1 4 rfl rfl)
theorem dX1_cartOf_28 : decode cX1_cartOf 28 = .ok (.if_icmp .ne 10, 3) := dk_160 0 10 (dk_at dksX1_cartOf_1 5 rfl rfl)
theorem dX1_cartOf_31 : decode cX1_cartOf 31 = .ok (.aload_n 3, 1) := dk_45 (dk_at dksX1_cartOf_1 8 rfl rfl)
theorem dX1_cartOf_32 : decode cX1_cartOf 32 = .ok (.getfield 316, 3) := dk_180 1 60 (dk_at dksX1_cartOf_1 9 rfl rfl)
theorem dX1_cartOf_35 : decode cX1_cartOf 35 = .ok (.goto 7, 3) := dk_167 0 7 (dk_at dksX1_cartOf_1 12 rfl rfl)
theorem dX1_cartOf_38 : decode cX1_cartOf 38 = .ok (.aload_n 3, 1) := dk_45 (dk_at dksX1_cartOf_1 15 rfl rfl)
theorem dX1_cartOf_39 : decode cX1_cartOf 39 = .ok (.getfield 317, 3) := dk_180 1 61 (dk_at dksX1_cartOf_1 16 rfl rfl)
theorem dX1_cartOf_42 : decode cX1_cartOf 42 = .ok (.ireturn, 1) := dk_172 (dk_at dksX1_cartOf_1 19 rfl rfl)
abbrev cX1_stock : ByteArray := prog_1_method_41_code
def yX1_stock : MethodName := ⟨RX1, "stock", "(IIZ)I"⟩
def dkwX1_stock_1 : List UInt8 := [182, 1, 64, 172]
abbrev dktX1_stock_1 : List UInt8 := dkwX1_stock_1 ++ []
def dkwX1_stock_0 : List UInt8 := [27, 28, 184, 0, 147, 184, 0, 114, 42, 180, 0, 36, 187, 0, 151, 89, 27, 28, 183, 0, 153, 29]
abbrev dktX1_stock_0 : List UInt8 := dkwX1_stock_0 ++ dktX1_stock_1
theorem dksX1_stock_0 : cX1_stock.data.toList.drop 0 = dktX1_stock_0 := by decide +kernel
theorem dksX1_stock_1 : cX1_stock.data.toList.drop 22 = dktX1_stock_1 := dk_seg dksX1_stock_0 22 rfl rfl
theorem dX1_stock_0 : decode cX1_stock 0 = .ok (.iload_n 1, 1) := dk_27 (dk_at dksX1_stock_0 0 rfl rfl)
theorem dX1_stock_1 : decode cX1_stock 1 = .ok (.iload_n 2, 1) := dk_28 (dk_at dksX1_stock_0 1 rfl rfl)
theorem dX1_stock_2 : decode cX1_stock 2 = .ok (.invokestatic 147, 3) := dk_184 0 147 (dk_at dksX1_stock_0 2 rfl rfl)
theorem dX1_stock_5 : decode cX1_stock 5 = .ok (.invokestatic 114, 3) := dk_184 0 114 (dk_at dksX1_stock_0 5 rfl rfl)
theorem dX1_stock_8 : decode cX1_stock 8 = .ok (.aload_n 0, 1) := dk_42 (dk_at dksX1_stock_0 8 rfl rfl)
theorem dX1_stock_9 : decode cX1_stock 9 = .ok (.getfield 36, 3) := dk_180 0 36 (dk_at dksX1_stock_0 9 rfl rfl)
theorem dX1_stock_12 : decode cX1_stock 12 = .ok (.new 151, 3) := dk_187 0 151 (dk_at dksX1_stock_0 12 rfl rfl)
theorem dX1_stock_15 : decode cX1_stock 15 = .ok (.dup, 1) := dk_89 (dk_at dksX1_stock_0 15 rfl rfl)
theorem dX1_stock_16 : decode cX1_stock 16 = .ok (.iload_n 1, 1) := dk_27 (dk_at dksX1_stock_0 16 rfl rfl)
theorem dX1_stock_17 : decode cX1_stock 17 = .ok (.iload_n 2, 1) := dk_28 (dk_at dksX1_stock_0 17 rfl rfl)
theorem dX1_stock_18 : decode cX1_stock 18 = .ok (.invokespecial 153, 3) := dk_183 0 153 (dk_at dksX1_stock_0 18 rfl rfl)
theorem dX1_stock_21 : decode cX1_stock 21 = .ok (.iload_n 3, 1) := dk_29 (dk_at dksX1_stock_0 21 rfl rfl)
theorem dX1_stock_22 : decode cX1_stock 22 = .ok (.invokevirtual 320, 3) := dk_182 1 64 (dk_at dksX1_stock_1 0 rfl rfl)
theorem dX1_stock_25 : decode cX1_stock 25 = .ok (.ireturn, 1) := dk_172 (dk_at dksX1_stock_1 3 rfl rfl)
abbrev cX1_sent : ByteArray := prog_1_method_42_code
def yX1_sent : MethodName := ⟨RX1, "sent", "(II)I"⟩
def dkwX1_sent_1 : List UInt8 := [182, 1, 72, 192, 1, 77, 78, 45, 199, 0, 7, 3, 167, 0, 7, 45, 182, 1, 79, 172]
abbrev dktX1_sent_1 : List UInt8 := dkwX1_sent_1 ++ []
def dkwX1_sent_0 : List UInt8 := [27, 28, 184, 0, 147, 184, 0, 114, 42, 180, 0, 36, 180, 1, 68, 187, 0, 151, 89, 27, 28, 183, 0, 153]
abbrev dktX1_sent_0 : List UInt8 := dkwX1_sent_0 ++ dktX1_sent_1
theorem dksX1_sent_0 : cX1_sent.data.toList.drop 0 = dktX1_sent_0 := by decide +kernel
theorem dksX1_sent_1 : cX1_sent.data.toList.drop 24 = dktX1_sent_1 := dk_seg dksX1_sent_0 24 rfl rfl
theorem dX1_sent_0 : decode cX1_sent 0 = .ok (.iload_n 1, 1) := dk_27 (dk_at dksX1_sent_0 0 rfl rfl)
theorem dX1_sent_1 : decode cX1_sent 1 = .ok (.iload_n 2, 1) := dk_28 (dk_at dksX1_sent_0 1 rfl rfl)
theorem dX1_sent_2 : decode cX1_sent 2 = .ok (.invokestatic 147, 3) := dk_184 0 147 (dk_at dksX1_sent_0 2 rfl rfl)
theorem dX1_sent_5 : decode cX1_sent 5 = .ok (.invokestatic 114, 3) := dk_184 0 114 (dk_at dksX1_sent_0 5 rfl rfl)
theorem dX1_sent_8 : decode cX1_sent 8 = .ok (.aload_n 0, 1) := dk_42 (dk_at dksX1_sent_0 8 rfl rfl)
theorem dX1_sent_9 : decode cX1_sent 9 = .ok (.getfield 36, 3) := dk_180 0 36 (dk_at dksX1_sent_0 9 rfl rfl)
theorem dX1_sent_12 : decode cX1_sent 12 = .ok (.getfield 324, 3) := dk_180 1 68 (dk_at dksX1_sent_0 12 rfl rfl)
theorem dX1_sent_15 : decode cX1_sent 15 = .ok (.new 151, 3) := dk_187 0 151 (dk_at dksX1_sent_0 15 rfl rfl)
theorem dX1_sent_18 : decode cX1_sent 18 = .ok (.dup, 1) := dk_89 (dk_at dksX1_sent_0 18 rfl rfl)
theorem dX1_sent_19 : decode cX1_sent 19 = .ok (.iload_n 1, 1) := dk_27 (dk_at dksX1_sent_0 19 rfl rfl)
theorem dX1_sent_20 : decode cX1_sent 20 = .ok (.iload_n 2, 1) := dk_28 (dk_at dksX1_sent_0 20 rfl rfl)
theorem dX1_sent_21 : decode cX1_sent 21 = .ok (.invokespecial 153, 3) := dk_183 0 153 (dk_at dksX1_sent_0 21 rfl rfl)
theorem dX1_sent_24 : decode cX1_sent 24 = .ok (.invokevirtual 328, 3) := dk_182 1 72 (dk_at dksX1_sent_1 0 rfl rfl)
theorem dX1_sent_27 : decode cX1_sent 27 = .ok (.checkcast 333, 3) := dk_192 1 77 (dk_at dksX1_sent_1 3 rfl rfl)
theorem dX1_sent_30 : decode cX1_sent 30 = .ok (.astore_n 3, 1) := dk_78 (dk_at dksX1_sent_1 6 rfl rfl)
theorem dX1_sent_31 : decode cX1_sent 31 = .ok (.aload_n 3, 1) := dk_45 (dk_at dksX1_sent_1 7 rfl rfl)
theorem dX1_sent_32 : decode cX1_sent 32 = .ok (.ifnonnull 7, 3) := dk_199 0 7 (dk_at dksX1_sent_1 8 rfl rfl)
theorem dX1_sent_35 : decode cX1_sent 35 = .ok (.iconst 0, 1) := dk_3 (dk_at dksX1_sent_1 11 rfl rfl)
theorem dX1_sent_36 : decode cX1_sent 36 = .ok (.goto 7, 3) := dk_167 0 7 (dk_at dksX1_sent_1 12 rfl rfl)
theorem dX1_sent_39 : decode cX1_sent 39 = .ok (.aload_n 3, 1) := dk_45 (dk_at dksX1_sent_1 15 rfl rfl)
theorem dX1_sent_40 : decode cX1_sent 40 = .ok (.invokevirtual 335, 3) := dk_182 1 79 (dk_at dksX1_sent_1 16 rfl rfl)
theorem dX1_sent_43 : decode cX1_sent 43 = .ok (.ireturn, 1) := dk_172 (dk_at dksX1_sent_1 19 rfl rfl)
abbrev cX1_bestPaper : ByteArray := prog_1_method_43_code
def yX1_bestPaper : MethodName := ⟨RX1, "bestPaper", "()I"⟩
def dkwX1_bestPaper_0 : List UInt8 := [42, 180, 0, 36, 182, 1, 82, 60, 27, 2, 159, 0, 7, 4, 167, 0, 4, 3, 184, 0, 215, 27, 172]
abbrev dktX1_bestPaper_0 : List UInt8 := dkwX1_bestPaper_0 ++ []
theorem dksX1_bestPaper_0 : cX1_bestPaper.data.toList.drop 0 = dktX1_bestPaper_0 := by decide +kernel
theorem dX1_bestPaper_0 : decode cX1_bestPaper 0 = .ok (.aload_n 0, 1) := dk_42 (dk_at dksX1_bestPaper_0 0 rfl rfl)
theorem dX1_bestPaper_1 : decode cX1_bestPaper 1 = .ok (.getfield 36, 3) := dk_180 0 36 (dk_at dksX1_bestPaper_0 1 rfl rfl)
theorem dX1_bestPaper_4 : decode cX1_bestPaper 4 = .ok (.invokevirtual 338, 3) := dk_182 1 82 (dk_at dksX1_bestPaper_0 4 rfl rfl)
theorem dX1_bestPaper_7 : decode cX1_bestPaper 7 = .ok (.istore_n 1, 1) := dk_60 (dk_at dksX1_bestPaper_0 7 rfl rfl)
theorem dX1_bestPaper_8 : decode cX1_bestPaper 8 = .ok (.iload_n 1, 1) := dk_27 (dk_at dksX1_bestPaper_0 8 rfl rfl)
theorem dX1_bestPaper_9 : decode cX1_bestPaper 9 = .ok (.iconst (-1), 1) := dk_2 (dk_at dksX1_bestPaper_0 9 rfl rfl)
theorem dX1_bestPaper_10 : decode cX1_bestPaper 10 = .ok (.if_icmp .eq 7, 3) := dk_159 0 7 (dk_at dksX1_bestPaper_0 10 rfl rfl)
theorem dX1_bestPaper_13 : decode cX1_bestPaper 13 = .ok (.iconst 1, 1) := dk_4 (dk_at dksX1_bestPaper_0 13 rfl rfl)
theorem dX1_bestPaper_14 : decode cX1_bestPaper 14 = .ok (.goto 4, 3) := dk_167 0 4 (dk_at dksX1_bestPaper_0 14 rfl rfl)
theorem dX1_bestPaper_17 : decode cX1_bestPaper 17 = .ok (.iconst 0, 1) := dk_3 (dk_at dksX1_bestPaper_0 17 rfl rfl)
theorem dX1_bestPaper_18 : decode cX1_bestPaper 18 = .ok (.invokestatic 215, 3) := dk_184 0 215 (dk_at dksX1_bestPaper_0 18 rfl rfl)
theorem dX1_bestPaper_21 : decode cX1_bestPaper 21 = .ok (.iload_n 1, 1) := dk_27 (dk_at dksX1_bestPaper_0 21 rfl rfl)
theorem dX1_bestPaper_22 : decode cX1_bestPaper 22 = .ok (.ireturn, 1) := dk_172 (dk_at dksX1_bestPaper_0 22 rfl rfl)
abbrev cX1_days : ByteArray := prog_1_method_45_code
def yX1_days : MethodName := ⟨RX1, "days", "(I)I"⟩
def dkwX1_days_1 : List UInt8 := [182, 1, 114, 182, 0, 125, 172]
abbrev dktX1_days_1 : List UInt8 := dkwX1_days_1 ++ []
def dkwX1_days_0 : List UInt8 := [27, 4, 16, 30, 184, 0, 3, 184, 0, 114, 42, 180, 0, 36, 182, 0, 117, 77, 42, 44, 44, 27]
abbrev dktX1_days_0 : List UInt8 := dkwX1_days_0 ++ dktX1_days_1
theorem dksX1_days_0 : cX1_days.data.toList.drop 0 = dktX1_days_0 := by decide +kernel
theorem dksX1_days_1 : cX1_days.data.toList.drop 22 = dktX1_days_1 := dk_seg dksX1_days_0 22 rfl rfl
theorem dX1_days_0 : decode cX1_days 0 = .ok (.iload_n 1, 1) := dk_27 (dk_at dksX1_days_0 0 rfl rfl)
theorem dX1_days_1 : decode cX1_days 1 = .ok (.iconst 1, 1) := dk_4 (dk_at dksX1_days_0 1 rfl rfl)
theorem dX1_days_2 : decode cX1_days 2 = .ok (.bipush 30, 2) := dk_16 30 (dk_at dksX1_days_0 2 rfl rfl)
theorem dX1_days_4 : decode cX1_days 4 = .ok (.invokestatic 3, 3) := dk_184 0 3 (dk_at dksX1_days_0 4 rfl rfl)
theorem dX1_days_7 : decode cX1_days 7 = .ok (.invokestatic 114, 3) := dk_184 0 114 (dk_at dksX1_days_0 7 rfl rfl)
theorem dX1_days_10 : decode cX1_days 10 = .ok (.aload_n 0, 1) := dk_42 (dk_at dksX1_days_0 10 rfl rfl)
theorem dX1_days_11 : decode cX1_days 11 = .ok (.getfield 36, 3) := dk_180 0 36 (dk_at dksX1_days_0 11 rfl rfl)
theorem dX1_days_14 : decode cX1_days 14 = .ok (.invokevirtual 117, 3) := dk_182 0 117 (dk_at dksX1_days_0 14 rfl rfl)
theorem dX1_days_17 : decode cX1_days 17 = .ok (.astore_n 2, 1) := dk_77 (dk_at dksX1_days_0 17 rfl rfl)
theorem dX1_days_18 : decode cX1_days 18 = .ok (.aload_n 0, 1) := dk_42 (dk_at dksX1_days_0 18 rfl rfl)
theorem dX1_days_19 : decode cX1_days 19 = .ok (.aload_n 2, 1) := dk_44 (dk_at dksX1_days_0 19 rfl rfl)
theorem dX1_days_20 : decode cX1_days 20 = .ok (.aload_n 2, 1) := dk_44 (dk_at dksX1_days_0 20 rfl rfl)
theorem dX1_days_21 : decode cX1_days 21 = .ok (.iload_n 1, 1) := dk_27 (dk_at dksX1_days_0 21 rfl rfl)
theorem dX1_days_22 : decode cX1_days 22 = .ok (.invokevirtual 370, 3) := dk_182 1 114 (dk_at dksX1_days_1 0 rfl rfl)
theorem dX1_days_25 : decode cX1_days 25 = .ok (.invokevirtual 125, 3) := dk_182 0 125 (dk_at dksX1_days_1 3 rfl rfl)
theorem dX1_days_28 : decode cX1_days 28 = .ok (.ireturn, 1) := dk_172 (dk_at dksX1_days_1 6 rfl rfl)
abbrev cX1_tell : ByteArray := prog_1_method_47_code
def yX1_tell : MethodName := ⟨RX1, "tell", "(I)I"⟩
def dkwX1_tell_3 : List UInt8 := [180, 0, 54, 182, 1, 145, 172]
abbrev dktX1_tell_3 : List UInt8 := dkwX1_tell_3 ++ []
def dkwX1_tell_2 : List UInt8 := [180, 0, 36, 180, 0, 168, 27, 50, 180, 0, 172, 28, 50, 182, 1, 141, 132, 2, 1, 167, 255, 208, 42]
abbrev dktX1_tell_2 : List UInt8 := dkwX1_tell_2 ++ dktX1_tell_3
def dkwX1_tell_1 : List UInt8 := [180, 0, 54, 28, 158, 0, 9, 19, 1, 139, 167, 0, 6, 19, 1, 118, 182, 1, 122, 87, 42, 42]
abbrev dktX1_tell_1 : List UInt8 := dkwX1_tell_1 ++ dktX1_tell_2
def dkwX1_tell_0 : List UInt8 := [27, 184, 0, 137, 184, 0, 114, 42, 180, 0, 54, 3, 182, 1, 136, 3, 61, 28, 16, 6, 162, 0, 48, 42]
abbrev dktX1_tell_0 : List UInt8 := dkwX1_tell_0 ++ dktX1_tell_1
theorem dksX1_tell_0 : cX1_tell.data.toList.drop 0 = dktX1_tell_0 := by decide +kernel
theorem dksX1_tell_1 : cX1_tell.data.toList.drop 24 = dktX1_tell_1 := dk_seg dksX1_tell_0 24 rfl rfl
theorem dksX1_tell_2 : cX1_tell.data.toList.drop 46 = dktX1_tell_2 := dk_seg dksX1_tell_1 22 rfl rfl
theorem dksX1_tell_3 : cX1_tell.data.toList.drop 69 = dktX1_tell_3 := dk_seg dksX1_tell_2 23 rfl rfl
theorem dX1_tell_0 : decode cX1_tell 0 = .ok (.iload_n 1, 1) := dk_27 (dk_at dksX1_tell_0 0 rfl rfl)
theorem dX1_tell_1 : decode cX1_tell 1 = .ok (.invokestatic 137, 3) := dk_184 0 137 (dk_at dksX1_tell_0 1 rfl rfl)
theorem dX1_tell_4 : decode cX1_tell 4 = .ok (.invokestatic 114, 3) := dk_184 0 114 (dk_at dksX1_tell_0 4 rfl rfl)
theorem dX1_tell_7 : decode cX1_tell 7 = .ok (.aload_n 0, 1) := dk_42 (dk_at dksX1_tell_0 7 rfl rfl)
theorem dX1_tell_8 : decode cX1_tell 8 = .ok (.getfield 54, 3) := dk_180 0 54 (dk_at dksX1_tell_0 8 rfl rfl)
theorem dX1_tell_11 : decode cX1_tell 11 = .ok (.iconst 0, 1) := dk_3 (dk_at dksX1_tell_0 11 rfl rfl)
theorem dX1_tell_12 : decode cX1_tell 12 = .ok (.invokevirtual 392, 3) := dk_182 1 136 (dk_at dksX1_tell_0 12 rfl rfl)
theorem dX1_tell_15 : decode cX1_tell 15 = .ok (.iconst 0, 1) := dk_3 (dk_at dksX1_tell_0 15 rfl rfl)
theorem dX1_tell_16 : decode cX1_tell 16 = .ok (.istore_n 2, 1) := dk_61 (dk_at dksX1_tell_0 16 rfl rfl)
theorem dX1_tell_17 : decode cX1_tell 17 = .ok (.iload_n 2, 1) := dk_28 (dk_at dksX1_tell_0 17 rfl rfl)
theorem dX1_tell_18 : decode cX1_tell 18 = .ok (.bipush 6, 2) := dk_16 6 (dk_at dksX1_tell_0 18 rfl rfl)
theorem dX1_tell_20 : decode cX1_tell 20 = .ok (.if_icmp .ge 48, 3) := dk_162 0 48 (dk_at dksX1_tell_0 20 rfl rfl)
theorem dX1_tell_23 : decode cX1_tell 23 = .ok (.aload_n 0, 1) := dk_42 (dk_at dksX1_tell_0 23 rfl rfl)
theorem dX1_tell_24 : decode cX1_tell 24 = .ok (.getfield 54, 3) := dk_180 0 54 (dk_at dksX1_tell_1 0 rfl rfl)
theorem dX1_tell_27 : decode cX1_tell 27 = .ok (.iload_n 2, 1) := dk_28 (dk_at dksX1_tell_1 3 rfl rfl)
theorem dX1_tell_28 : decode cX1_tell 28 = .ok (.ifCond .le 9, 3) := dk_158 0 9 (dk_at dksX1_tell_1 4 rfl rfl)
theorem dX1_tell_31 : decode cX1_tell 31 = .ok (.ldc_w 395, 3) := dk_19 1 139 (dk_at dksX1_tell_1 7 rfl rfl)
theorem dX1_tell_34 : decode cX1_tell 34 = .ok (.goto 6, 3) := dk_167 0 6 (dk_at dksX1_tell_1 10 rfl rfl)
theorem dX1_tell_37 : decode cX1_tell 37 = .ok (.ldc_w 374, 3) := dk_19 1 118 (dk_at dksX1_tell_1 13 rfl rfl)
theorem dX1_tell_40 : decode cX1_tell 40 = .ok (.invokevirtual 378, 3) := dk_182 1 122 (dk_at dksX1_tell_1 16 rfl rfl)
theorem dX1_tell_43 : decode cX1_tell 43 = .ok (.pop, 1) := dk_87 (dk_at dksX1_tell_1 19 rfl rfl)
theorem dX1_tell_44 : decode cX1_tell 44 = .ok (.aload_n 0, 1) := dk_42 (dk_at dksX1_tell_1 20 rfl rfl)
theorem dX1_tell_45 : decode cX1_tell 45 = .ok (.aload_n 0, 1) := dk_42 (dk_at dksX1_tell_1 21 rfl rfl)
theorem dX1_tell_46 : decode cX1_tell 46 = .ok (.getfield 36, 3) := dk_180 0 36 (dk_at dksX1_tell_2 0 rfl rfl)
theorem dX1_tell_49 : decode cX1_tell 49 = .ok (.getfield 168, 3) := dk_180 0 168 (dk_at dksX1_tell_2 3 rfl rfl)
theorem dX1_tell_52 : decode cX1_tell 52 = .ok (.iload_n 1, 1) := dk_27 (dk_at dksX1_tell_2 6 rfl rfl)
theorem dX1_tell_53 : decode cX1_tell 53 = .ok (.aaload, 1) := dk_50 (dk_at dksX1_tell_2 7 rfl rfl)
theorem dX1_tell_54 : decode cX1_tell 54 = .ok (.getfield 172, 3) := dk_180 0 172 (dk_at dksX1_tell_2 8 rfl rfl)
theorem dX1_tell_57 : decode cX1_tell 57 = .ok (.iload_n 2, 1) := dk_28 (dk_at dksX1_tell_2 11 rfl rfl)
theorem dX1_tell_58 : decode cX1_tell 58 = .ok (.aaload, 1) := dk_50 (dk_at dksX1_tell_2 12 rfl rfl)
theorem dX1_tell_59 : decode cX1_tell 59 = .ok (.invokevirtual 397, 3) := dk_182 1 141 (dk_at dksX1_tell_2 13 rfl rfl)
theorem dX1_tell_62 : decode cX1_tell 62 = .ok (.iinc 2 1, 3) := dk_132 2 1 (dk_at dksX1_tell_2 16 rfl rfl)
theorem dX1_tell_65 : decode cX1_tell 65 = .ok (.goto (-48), 3) := dk_167 255 208 (dk_at dksX1_tell_2 19 rfl rfl)
theorem dX1_tell_68 : decode cX1_tell 68 = .ok (.aload_n 0, 1) := dk_42 (dk_at dksX1_tell_2 22 rfl rfl)
theorem dX1_tell_69 : decode cX1_tell 69 = .ok (.getfield 54, 3) := dk_180 0 54 (dk_at dksX1_tell_3 0 rfl rfl)
theorem dX1_tell_72 : decode cX1_tell 72 = .ok (.invokevirtual 401, 3) := dk_182 1 145 (dk_at dksX1_tell_3 3 rfl rfl)
theorem dX1_tell_75 : decode cX1_tell 75 = .ok (.ireturn, 1) := dk_172 (dk_at dksX1_tell_3 6 rfl rfl)
abbrev cX1_tellShelf : ByteArray := prog_1_method_46_code
def yX1_tellShelf : MethodName := ⟨RX1, "tellShelf", "(LPaperStore$Shelf;)V"⟩
def dkwX1_tellShelf_4 : List UInt8 := [182, 1, 131, 153, 0, 9, 19, 1, 134, 167, 0, 6, 19, 1, 118, 182, 1, 122, 87, 177]
abbrev dktX1_tellShelf_4 : List UInt8 := dkwX1_tellShelf_4 ++ []
def dkwX1_tellShelf_3 : List UInt8 := [19, 1, 129, 167, 0, 6, 19, 1, 118, 182, 1, 122, 87, 167, 255, 182, 42, 180, 0, 54, 43, 180, 0, 178]
abbrev dktX1_tellShelf_3 : List UInt8 := dkwX1_tellShelf_3 ++ dktX1_tellShelf_4
def dkwX1_tellShelf_2 : List UInt8 := [167, 0, 6, 19, 1, 120, 182, 1, 122, 45, 180, 0, 218, 182, 1, 126, 45, 182, 0, 226, 153, 0, 9]
abbrev dktX1_tellShelf_2 : List UInt8 := dkwX1_tellShelf_2 ++ dktX1_tellShelf_3
def dkwX1_tellShelf_1 : List UInt8 := [192, 0, 112, 78, 42, 180, 0, 54, 45, 43, 180, 0, 178, 3, 182, 0, 88, 166, 0, 9, 19, 1, 118]
abbrev dktX1_tellShelf_1 : List UInt8 := dkwX1_tellShelf_1 ++ dktX1_tellShelf_2
def dkwX1_tellShelf_0 : List UInt8 := [43, 180, 0, 178, 182, 1, 117, 77, 44, 185, 1, 97, 1, 0, 153, 0, 71, 44, 185, 1, 102, 1, 0]
abbrev dktX1_tellShelf_0 : List UInt8 := dkwX1_tellShelf_0 ++ dktX1_tellShelf_1
theorem dksX1_tellShelf_0 : cX1_tellShelf.data.toList.drop 0 = dktX1_tellShelf_0 := by decide +kernel
theorem dksX1_tellShelf_1 : cX1_tellShelf.data.toList.drop 23 = dktX1_tellShelf_1 := dk_seg dksX1_tellShelf_0 23 rfl rfl
theorem dksX1_tellShelf_2 : cX1_tellShelf.data.toList.drop 46 = dktX1_tellShelf_2 := dk_seg dksX1_tellShelf_1 23 rfl rfl
theorem dksX1_tellShelf_3 : cX1_tellShelf.data.toList.drop 69 = dktX1_tellShelf_3 := dk_seg dksX1_tellShelf_2 23 rfl rfl
theorem dksX1_tellShelf_4 : cX1_tellShelf.data.toList.drop 93 = dktX1_tellShelf_4 := dk_seg dksX1_tellShelf_3 24 rfl rfl
theorem dX1_tellShelf_0 : decode cX1_tellShelf 0 = .ok (.aload_n 1, 1) := dk_43 (dk_at dksX1_tellShelf_0 0 rfl rfl)
theorem dX1_tellShelf_1 : decode cX1_tellShelf 1 = .ok (.getfield 178, 3) := dk_180 0 178 (dk_at dksX1_tellShelf_0 1 rfl rfl)
theorem dX1_tellShelf_4 : decode cX1_tellShelf 4 = .ok (.invokevirtual 373, 3) := dk_182 1 117 (dk_at dksX1_tellShelf_0 4 rfl rfl)
theorem dX1_tellShelf_7 : decode cX1_tellShelf 7 = .ok (.astore_n 2, 1) := dk_77 (dk_at dksX1_tellShelf_0 7 rfl rfl)
theorem dX1_tellShelf_8 : decode cX1_tellShelf 8 = .ok (.aload_n 2, 1) := dk_44 (dk_at dksX1_tellShelf_0 8 rfl rfl)
theorem dX1_tellShelf_9 : decode cX1_tellShelf 9 = .ok (.invokeinterface 353 1, 5) := by decide +kernel
theorem dX1_tellShelf_14 : decode cX1_tellShelf 14 = .ok (.ifCond .eq 71, 3) := dk_153 0 71 (dk_at dksX1_tellShelf_0 14 rfl rfl)
theorem dX1_tellShelf_17 : decode cX1_tellShelf 17 = .ok (.aload_n 2, 1) := dk_44 (dk_at dksX1_tellShelf_0 17 rfl rfl)
theorem dX1_tellShelf_18 : decode cX1_tellShelf 18 = .ok (.invokeinterface 358 1, 5) := by decide +kernel
theorem dX1_tellShelf_23 : decode cX1_tellShelf 23 = .ok (.checkcast 112, 3) := dk_192 0 112 (dk_at dksX1_tellShelf_1 0 rfl rfl)
theorem dX1_tellShelf_26 : decode cX1_tellShelf 26 = .ok (.astore_n 3, 1) := dk_78 (dk_at dksX1_tellShelf_1 3 rfl rfl)
theorem dX1_tellShelf_27 : decode cX1_tellShelf 27 = .ok (.aload_n 0, 1) := dk_42 (dk_at dksX1_tellShelf_1 4 rfl rfl)
theorem dX1_tellShelf_28 : decode cX1_tellShelf 28 = .ok (.getfield 54, 3) := dk_180 0 54 (dk_at dksX1_tellShelf_1 5 rfl rfl)
theorem dX1_tellShelf_31 : decode cX1_tellShelf 31 = .ok (.aload_n 3, 1) := dk_45 (dk_at dksX1_tellShelf_1 8 rfl rfl)
theorem dX1_tellShelf_32 : decode cX1_tellShelf 32 = .ok (.aload_n 1, 1) := dk_43 (dk_at dksX1_tellShelf_1 9 rfl rfl)
theorem dX1_tellShelf_33 : decode cX1_tellShelf 33 = .ok (.getfield 178, 3) := dk_180 0 178 (dk_at dksX1_tellShelf_1 10 rfl rfl)
theorem dX1_tellShelf_36 : decode cX1_tellShelf 36 = .ok (.iconst 0, 1) := dk_3 (dk_at dksX1_tellShelf_1 13 rfl rfl)
theorem dX1_tellShelf_37 : decode cX1_tellShelf 37 = .ok (.invokevirtual 88, 3) := dk_182 0 88 (dk_at dksX1_tellShelf_1 14 rfl rfl)
theorem dX1_tellShelf_40 : decode cX1_tellShelf 40 = .ok (.if_acmp .ne 9, 3) := dk_166 0 9 (dk_at dksX1_tellShelf_1 17 rfl rfl)
theorem dX1_tellShelf_43 : decode cX1_tellShelf 43 = .ok (.ldc_w 374, 3) := dk_19 1 118 (dk_at dksX1_tellShelf_1 20 rfl rfl)
theorem dX1_tellShelf_46 : decode cX1_tellShelf 46 = .ok (.goto 6, 3) := dk_167 0 6 (dk_at dksX1_tellShelf_2 0 rfl rfl)
theorem dX1_tellShelf_49 : decode cX1_tellShelf 49 = .ok (.ldc_w 376, 3) := dk_19 1 120 (dk_at dksX1_tellShelf_2 3 rfl rfl)
theorem dX1_tellShelf_52 : decode cX1_tellShelf 52 = .ok (.invokevirtual 378, 3) := dk_182 1 122 (dk_at dksX1_tellShelf_2 6 rfl rfl)
theorem dX1_tellShelf_55 : decode cX1_tellShelf 55 = .ok (.aload_n 3, 1) := dk_45 (dk_at dksX1_tellShelf_2 9 rfl rfl)
theorem dX1_tellShelf_56 : decode cX1_tellShelf 56 = .ok (.getfield 218, 3) := dk_180 0 218 (dk_at dksX1_tellShelf_2 10 rfl rfl)
theorem dX1_tellShelf_59 : decode cX1_tellShelf 59 = .ok (.invokevirtual 382, 3) := dk_182 1 126 (dk_at dksX1_tellShelf_2 13 rfl rfl)
theorem dX1_tellShelf_62 : decode cX1_tellShelf 62 = .ok (.aload_n 3, 1) := dk_45 (dk_at dksX1_tellShelf_2 16 rfl rfl)
theorem dX1_tellShelf_63 : decode cX1_tellShelf 63 = .ok (.invokevirtual 226, 3) := dk_182 0 226 (dk_at dksX1_tellShelf_2 17 rfl rfl)
theorem dX1_tellShelf_66 : decode cX1_tellShelf 66 = .ok (.ifCond .eq 9, 3) := dk_153 0 9 (dk_at dksX1_tellShelf_2 20 rfl rfl)
theorem dX1_tellShelf_69 : decode cX1_tellShelf 69 = .ok (.ldc_w 385, 3) := dk_19 1 129 (dk_at dksX1_tellShelf_3 0 rfl rfl)
theorem dX1_tellShelf_72 : decode cX1_tellShelf 72 = .ok (.goto 6, 3) := dk_167 0 6 (dk_at dksX1_tellShelf_3 3 rfl rfl)
theorem dX1_tellShelf_75 : decode cX1_tellShelf 75 = .ok (.ldc_w 374, 3) := dk_19 1 118 (dk_at dksX1_tellShelf_3 6 rfl rfl)
theorem dX1_tellShelf_78 : decode cX1_tellShelf 78 = .ok (.invokevirtual 378, 3) := dk_182 1 122 (dk_at dksX1_tellShelf_3 9 rfl rfl)
theorem dX1_tellShelf_81 : decode cX1_tellShelf 81 = .ok (.pop, 1) := dk_87 (dk_at dksX1_tellShelf_3 12 rfl rfl)
theorem dX1_tellShelf_82 : decode cX1_tellShelf 82 = .ok (.goto (-74), 3) := dk_167 255 182 (dk_at dksX1_tellShelf_3 13 rfl rfl)
theorem dX1_tellShelf_85 : decode cX1_tellShelf 85 = .ok (.aload_n 0, 1) := dk_42 (dk_at dksX1_tellShelf_3 16 rfl rfl)
theorem dX1_tellShelf_86 : decode cX1_tellShelf 86 = .ok (.getfield 54, 3) := dk_180 0 54 (dk_at dksX1_tellShelf_3 17 rfl rfl)
theorem dX1_tellShelf_89 : decode cX1_tellShelf 89 = .ok (.aload_n 1, 1) := dk_43 (dk_at dksX1_tellShelf_3 20 rfl rfl)
theorem dX1_tellShelf_90 : decode cX1_tellShelf 90 = .ok (.getfield 178, 3) := dk_180 0 178 (dk_at dksX1_tellShelf_3 21 rfl rfl)
theorem dX1_tellShelf_93 : decode cX1_tellShelf 93 = .ok (.invokevirtual 387, 3) := dk_182 1 131 (dk_at dksX1_tellShelf_4 0 rfl rfl)
theorem dX1_tellShelf_96 : decode cX1_tellShelf 96 = .ok (.ifCond .eq 9, 3) := dk_153 0 9 (dk_at dksX1_tellShelf_4 3 rfl rfl)
theorem dX1_tellShelf_99 : decode cX1_tellShelf 99 = .ok (.ldc_w 390, 3) := dk_19 1 134 (dk_at dksX1_tellShelf_4 6 rfl rfl)
theorem dX1_tellShelf_102 : decode cX1_tellShelf 102 = .ok (.goto 6, 3) := dk_167 0 6 (dk_at dksX1_tellShelf_4 9 rfl rfl)
theorem dX1_tellShelf_105 : decode cX1_tellShelf 105 = .ok (.ldc_w 374, 3) := dk_19 1 118 (dk_at dksX1_tellShelf_4 12 rfl rfl)
theorem dX1_tellShelf_108 : decode cX1_tellShelf 108 = .ok (.invokevirtual 378, 3) := dk_182 1 122 (dk_at dksX1_tellShelf_4 15 rfl rfl)
theorem dX1_tellShelf_111 : decode cX1_tellShelf 111 = .ok (.pop, 1) := dk_87 (dk_at dksX1_tellShelf_4 18 rfl rfl)
theorem dX1_tellShelf_112 : decode cX1_tellShelf 112 = .ok (.return_, 1) := dk_177 (dk_at dksX1_tellShelf_4 19 rfl rfl)
abbrev cX1_character : ByteArray := prog_1_method_48_code
def yX1_character : MethodName := ⟨RX1, "character", "(I)C"⟩
def dkwX1_character_1 : List UInt8 := [182, 1, 148, 172]
abbrev dktX1_character_1 : List UInt8 := dkwX1_character_1 ++ []
def dkwX1_character_0 : List UInt8 := [27, 3, 42, 180, 0, 54, 182, 1, 145, 4, 100, 184, 0, 3, 184, 0, 215, 42, 180, 0, 54, 27]
abbrev dktX1_character_0 : List UInt8 := dkwX1_character_0 ++ dktX1_character_1
theorem dksX1_character_0 : cX1_character.data.toList.drop 0 = dktX1_character_0 := by decide +kernel
theorem dksX1_character_1 : cX1_character.data.toList.drop 22 = dktX1_character_1 := dk_seg dksX1_character_0 22 rfl rfl
theorem dX1_character_0 : decode cX1_character 0 = .ok (.iload_n 1, 1) := dk_27 (dk_at dksX1_character_0 0 rfl rfl)
theorem dX1_character_1 : decode cX1_character 1 = .ok (.iconst 0, 1) := dk_3 (dk_at dksX1_character_0 1 rfl rfl)
theorem dX1_character_2 : decode cX1_character 2 = .ok (.aload_n 0, 1) := dk_42 (dk_at dksX1_character_0 2 rfl rfl)
theorem dX1_character_3 : decode cX1_character 3 = .ok (.getfield 54, 3) := dk_180 0 54 (dk_at dksX1_character_0 3 rfl rfl)
theorem dX1_character_6 : decode cX1_character 6 = .ok (.invokevirtual 401, 3) := dk_182 1 145 (dk_at dksX1_character_0 6 rfl rfl)
theorem dX1_character_9 : decode cX1_character 9 = .ok (.iconst 1, 1) := dk_4 (dk_at dksX1_character_0 9 rfl rfl)
theorem dX1_character_10 : decode cX1_character 10 = .ok (.isub, 1) := dk_100 (dk_at dksX1_character_0 10 rfl rfl)
theorem dX1_character_11 : decode cX1_character 11 = .ok (.invokestatic 3, 3) := dk_184 0 3 (dk_at dksX1_character_0 11 rfl rfl)
theorem dX1_character_14 : decode cX1_character 14 = .ok (.invokestatic 215, 3) := dk_184 0 215 (dk_at dksX1_character_0 14 rfl rfl)
theorem dX1_character_17 : decode cX1_character 17 = .ok (.aload_n 0, 1) := dk_42 (dk_at dksX1_character_0 17 rfl rfl)
theorem dX1_character_18 : decode cX1_character 18 = .ok (.getfield 54, 3) := dk_180 0 54 (dk_at dksX1_character_0 18 rfl rfl)
theorem dX1_character_21 : decode cX1_character 21 = .ok (.iload_n 1, 1) := dk_27 (dk_at dksX1_character_0 21 rfl rfl)
theorem dX1_character_22 : decode cX1_character 22 = .ok (.invokevirtual 404, 3) := dk_182 1 148 (dk_at dksX1_character_1 0 rfl rfl)
theorem dX1_character_25 : decode cX1_character 25 = .ok (.ireturn, 1) := dk_172 (dk_at dksX1_character_1 3 rfl rfl)
abbrev cX1_meanDamp : ByteArray := prog_1_method_49_code
def yX1_meanDamp : MethodName := ⟨RX1, "meanDamp", "()F"⟩
def dkwX1_meanDamp_2 : List UInt8 := [58, 4, 28, 25, 4, 180, 0, 201, 96, 61, 167, 255, 228, 28, 134, 43, 185, 0, 251, 1, 0, 134, 110, 174]
abbrev dktX1_meanDamp_2 : List UInt8 := dkwX1_meanDamp_2 ++ []
def dkwX1_meanDamp_1 : List UInt8 := [185, 1, 93, 1, 0, 78, 45, 185, 1, 97, 1, 0, 153, 0, 25, 45, 185, 1, 102, 1, 0, 192, 0, 112]
abbrev dktX1_meanDamp_1 : List UInt8 := dkwX1_meanDamp_1 ++ dktX1_meanDamp_2
def dkwX1_meanDamp_0 : List UInt8 := [42, 180, 0, 36, 182, 1, 90, 76, 43, 185, 0, 251, 1, 0, 184, 1, 152, 3, 61, 43]
abbrev dktX1_meanDamp_0 : List UInt8 := dkwX1_meanDamp_0 ++ dktX1_meanDamp_1
theorem dksX1_meanDamp_0 : cX1_meanDamp.data.toList.drop 0 = dktX1_meanDamp_0 := by decide +kernel
theorem dksX1_meanDamp_1 : cX1_meanDamp.data.toList.drop 20 = dktX1_meanDamp_1 := dk_seg dksX1_meanDamp_0 20 rfl rfl
theorem dksX1_meanDamp_2 : cX1_meanDamp.data.toList.drop 44 = dktX1_meanDamp_2 := dk_seg dksX1_meanDamp_1 24 rfl rfl
theorem dX1_meanDamp_0 : decode cX1_meanDamp 0 = .ok (.aload_n 0, 1) := dk_42 (dk_at dksX1_meanDamp_0 0 rfl rfl)
theorem dX1_meanDamp_1 : decode cX1_meanDamp 1 = .ok (.getfield 36, 3) := dk_180 0 36 (dk_at dksX1_meanDamp_0 1 rfl rfl)
theorem dX1_meanDamp_4 : decode cX1_meanDamp 4 = .ok (.invokevirtual 346, 3) := dk_182 1 90 (dk_at dksX1_meanDamp_0 4 rfl rfl)
theorem dX1_meanDamp_7 : decode cX1_meanDamp 7 = .ok (.astore_n 1, 1) := dk_76 (dk_at dksX1_meanDamp_0 7 rfl rfl)
theorem dX1_meanDamp_8 : decode cX1_meanDamp 8 = .ok (.aload_n 1, 1) := dk_43 (dk_at dksX1_meanDamp_0 8 rfl rfl)
theorem dX1_meanDamp_9 : decode cX1_meanDamp 9 = .ok (.invokeinterface 251 1, 5) := by decide +kernel
theorem dX1_meanDamp_14 : decode cX1_meanDamp 14 = .ok (.invokestatic 408, 3) := dk_184 1 152 (dk_at dksX1_meanDamp_0 14 rfl rfl)
theorem dX1_meanDamp_17 : decode cX1_meanDamp 17 = .ok (.iconst 0, 1) := dk_3 (dk_at dksX1_meanDamp_0 17 rfl rfl)
theorem dX1_meanDamp_18 : decode cX1_meanDamp 18 = .ok (.istore_n 2, 1) := dk_61 (dk_at dksX1_meanDamp_0 18 rfl rfl)
theorem dX1_meanDamp_19 : decode cX1_meanDamp 19 = .ok (.aload_n 1, 1) := dk_43 (dk_at dksX1_meanDamp_0 19 rfl rfl)
theorem dX1_meanDamp_20 : decode cX1_meanDamp 20 = .ok (.invokeinterface 349 1, 5) := by decide +kernel
theorem dX1_meanDamp_25 : decode cX1_meanDamp 25 = .ok (.astore_n 3, 1) := dk_78 (dk_at dksX1_meanDamp_1 5 rfl rfl)
theorem dX1_meanDamp_26 : decode cX1_meanDamp 26 = .ok (.aload_n 3, 1) := dk_45 (dk_at dksX1_meanDamp_1 6 rfl rfl)
theorem dX1_meanDamp_27 : decode cX1_meanDamp 27 = .ok (.invokeinterface 353 1, 5) := by decide +kernel
theorem dX1_meanDamp_32 : decode cX1_meanDamp 32 = .ok (.ifCond .eq 25, 3) := dk_153 0 25 (dk_at dksX1_meanDamp_1 12 rfl rfl)
theorem dX1_meanDamp_35 : decode cX1_meanDamp 35 = .ok (.aload_n 3, 1) := dk_45 (dk_at dksX1_meanDamp_1 15 rfl rfl)
theorem dX1_meanDamp_36 : decode cX1_meanDamp 36 = .ok (.invokeinterface 358 1, 5) := by decide +kernel
theorem dX1_meanDamp_41 : decode cX1_meanDamp 41 = .ok (.checkcast 112, 3) := dk_192 0 112 (dk_at dksX1_meanDamp_1 21 rfl rfl)
theorem dX1_meanDamp_44 : decode cX1_meanDamp 44 = .ok (.astore 4, 2) := dk_58 4 (dk_at dksX1_meanDamp_2 0 rfl rfl)
theorem dX1_meanDamp_46 : decode cX1_meanDamp 46 = .ok (.iload_n 2, 1) := dk_28 (dk_at dksX1_meanDamp_2 2 rfl rfl)
theorem dX1_meanDamp_47 : decode cX1_meanDamp 47 = .ok (.aload 4, 2) := dk_25 4 (dk_at dksX1_meanDamp_2 3 rfl rfl)
theorem dX1_meanDamp_49 : decode cX1_meanDamp 49 = .ok (.getfield 201, 3) := dk_180 0 201 (dk_at dksX1_meanDamp_2 5 rfl rfl)
theorem dX1_meanDamp_52 : decode cX1_meanDamp 52 = .ok (.iadd, 1) := dk_96 (dk_at dksX1_meanDamp_2 8 rfl rfl)
theorem dX1_meanDamp_53 : decode cX1_meanDamp 53 = .ok (.istore_n 2, 1) := dk_61 (dk_at dksX1_meanDamp_2 9 rfl rfl)
theorem dX1_meanDamp_54 : decode cX1_meanDamp 54 = .ok (.goto (-28), 3) := dk_167 255 228 (dk_at dksX1_meanDamp_2 10 rfl rfl)
theorem dX1_meanDamp_57 : decode cX1_meanDamp 57 = .ok (.iload_n 2, 1) := dk_28 (dk_at dksX1_meanDamp_2 13 rfl rfl)
theorem dX1_meanDamp_58 : decode cX1_meanDamp 58 = .ok (.i2f, 1) := dk_134 (dk_at dksX1_meanDamp_2 14 rfl rfl)
theorem dX1_meanDamp_59 : decode cX1_meanDamp 59 = .ok (.aload_n 1, 1) := dk_43 (dk_at dksX1_meanDamp_2 15 rfl rfl)
theorem dX1_meanDamp_60 : decode cX1_meanDamp 60 = .ok (.invokeinterface 251 1, 5) := by decide +kernel
theorem dX1_meanDamp_65 : decode cX1_meanDamp 65 = .ok (.i2f, 1) := dk_134 (dk_at dksX1_meanDamp_2 21 rfl rfl)
theorem dX1_meanDamp_66 : decode cX1_meanDamp 66 = .ok (.fdiv, 1) := dk_110 (dk_at dksX1_meanDamp_2 22 rfl rfl)
theorem dX1_meanDamp_67 : decode cX1_meanDamp 67 = .ok (.freturn, 1) := dk_174 (dk_at dksX1_meanDamp_2 23 rfl rfl)
abbrev cX1_checkCount : ByteArray := prog_1_method_9_code
def yX1_checkCount : MethodName := ⟨RX1, "checkCount", "(I)V"⟩
def dkwX1_checkCount_0 : List UInt8 := [26, 154, 0, 11, 187, 0, 22, 89, 183, 0, 24, 191, 177]
abbrev dktX1_checkCount_0 : List UInt8 := dkwX1_checkCount_0 ++ []
theorem dksX1_checkCount_0 : cX1_checkCount.data.toList.drop 0 = dktX1_checkCount_0 := by decide +kernel
theorem dX1_checkCount_0 : decode cX1_checkCount 0 = .ok (.iload_n 0, 1) := dk_26 (dk_at dksX1_checkCount_0 0 rfl rfl)
theorem dX1_checkCount_1 : decode cX1_checkCount 1 = .ok (.ifCond .ne 11, 3) := dk_154 0 11 (dk_at dksX1_checkCount_0 1 rfl rfl)
theorem dX1_checkCount_4 : decode cX1_checkCount 4 = .ok (.new 22, 3) := dk_187 0 22 (dk_at dksX1_checkCount_0 4 rfl rfl)
theorem dX1_checkCount_7 : decode cX1_checkCount 7 = .ok (.dup, 1) := dk_89 (dk_at dksX1_checkCount_0 7 rfl rfl)
theorem dX1_checkCount_8 : decode cX1_checkCount 8 = .ok (.invokespecial 24, 3) := dk_183 0 24 (dk_at dksX1_checkCount_0 8 rfl rfl)
theorem dX1_checkCount_11 : decode cX1_checkCount 11 = .ok (.athrow, 1) := dk_191 (dk_at dksX1_checkCount_0 11 rfl rfl)
theorem dX1_checkCount_12 : decode cX1_checkCount 12 = .ok (.return_, 1) := dk_177 (dk_at dksX1_checkCount_0 12 rfl rfl)
abbrev cX1_eatenShare : ByteArray := prog_1_method_50_code
def yX1_eatenShare : MethodName := ⟨RX1, "eatenShare", "()D"⟩
def dkwX1_eatenShare_1 : List UInt8 := [182, 1, 155, 135, 27, 135, 111, 175]
abbrev dktX1_eatenShare_1 : List UInt8 := dkwX1_eatenShare_1 ++ []
def dkwX1_eatenShare_0 : List UInt8 := [16, 20, 42, 180, 0, 36, 180, 0, 109, 182, 0, 58, 104, 60, 27, 184, 1, 152, 42, 180, 0, 36, 3]
abbrev dktX1_eatenShare_0 : List UInt8 := dkwX1_eatenShare_0 ++ dktX1_eatenShare_1
theorem dksX1_eatenShare_0 : cX1_eatenShare.data.toList.drop 0 = dktX1_eatenShare_0 := by decide +kernel
theorem dksX1_eatenShare_1 : cX1_eatenShare.data.toList.drop 23 = dktX1_eatenShare_1 := dk_seg dksX1_eatenShare_0 23 rfl rfl
theorem dX1_eatenShare_0 : decode cX1_eatenShare 0 = .ok (.bipush 20, 2) := dk_16 20 (dk_at dksX1_eatenShare_0 0 rfl rfl)
theorem dX1_eatenShare_2 : decode cX1_eatenShare 2 = .ok (.aload_n 0, 1) := dk_42 (dk_at dksX1_eatenShare_0 2 rfl rfl)
theorem dX1_eatenShare_3 : decode cX1_eatenShare 3 = .ok (.getfield 36, 3) := dk_180 0 36 (dk_at dksX1_eatenShare_0 3 rfl rfl)
theorem dX1_eatenShare_6 : decode cX1_eatenShare 6 = .ok (.getfield 109, 3) := dk_180 0 109 (dk_at dksX1_eatenShare_0 6 rfl rfl)
theorem dX1_eatenShare_9 : decode cX1_eatenShare 9 = .ok (.invokevirtual 58, 3) := dk_182 0 58 (dk_at dksX1_eatenShare_0 9 rfl rfl)
theorem dX1_eatenShare_12 : decode cX1_eatenShare 12 = .ok (.imul, 1) := dk_104 (dk_at dksX1_eatenShare_0 12 rfl rfl)
theorem dX1_eatenShare_13 : decode cX1_eatenShare 13 = .ok (.istore_n 1, 1) := dk_60 (dk_at dksX1_eatenShare_0 13 rfl rfl)
theorem dX1_eatenShare_14 : decode cX1_eatenShare 14 = .ok (.iload_n 1, 1) := dk_27 (dk_at dksX1_eatenShare_0 14 rfl rfl)
theorem dX1_eatenShare_15 : decode cX1_eatenShare 15 = .ok (.invokestatic 408, 3) := dk_184 1 152 (dk_at dksX1_eatenShare_0 15 rfl rfl)
theorem dX1_eatenShare_18 : decode cX1_eatenShare 18 = .ok (.aload_n 0, 1) := dk_42 (dk_at dksX1_eatenShare_0 18 rfl rfl)
theorem dX1_eatenShare_19 : decode cX1_eatenShare 19 = .ok (.getfield 36, 3) := dk_180 0 36 (dk_at dksX1_eatenShare_0 19 rfl rfl)
theorem dX1_eatenShare_22 : decode cX1_eatenShare 22 = .ok (.iconst 0, 1) := dk_3 (dk_at dksX1_eatenShare_0 22 rfl rfl)
theorem dX1_eatenShare_23 : decode cX1_eatenShare 23 = .ok (.invokevirtual 411, 3) := dk_182 1 155 (dk_at dksX1_eatenShare_1 0 rfl rfl)
theorem dX1_eatenShare_26 : decode cX1_eatenShare 26 = .ok (.i2d, 1) := dk_135 (dk_at dksX1_eatenShare_1 3 rfl rfl)
theorem dX1_eatenShare_27 : decode cX1_eatenShare 27 = .ok (.iload_n 1, 1) := dk_27 (dk_at dksX1_eatenShare_1 4 rfl rfl)
theorem dX1_eatenShare_28 : decode cX1_eatenShare 28 = .ok (.i2d, 1) := dk_135 (dk_at dksX1_eatenShare_1 5 rfl rfl)
theorem dX1_eatenShare_29 : decode cX1_eatenShare 29 = .ok (.ddiv, 1) := dk_111 (dk_at dksX1_eatenShare_1 6 rfl rfl)
theorem dX1_eatenShare_30 : decode cX1_eatenShare 30 = .ok (.dreturn, 1) := dk_175 (dk_at dksX1_eatenShare_1 7 rfl rfl)
abbrev cX1_account : ByteArray := prog_1_method_52_code
def yX1_account : MethodName := ⟨RX1, "account", "(I)I"⟩
def dkwX1_account_10 : List UInt8 := [182, 0, 58, 172]
abbrev dktX1_account_10 : List UInt8 := dkwX1_account_10 ++ []
def dkwX1_account_9 : List UInt8 := [167, 0, 27, 42, 180, 0, 36, 180, 1, 177, 167, 0, 17, 42, 180, 1, 180, 167, 0, 10, 42, 180, 0, 43]
abbrev dktX1_account_9 : List UInt8 := dkwX1_account_9 ++ dktX1_account_10
def dkwX1_account_8 : List UInt8 := [167, 0, 51, 42, 180, 0, 36, 180, 1, 174, 167, 0, 41, 42, 180, 0, 36, 27, 16, 14, 100, 182, 1, 155]
abbrev dktX1_account_8 : List UInt8 := dkwX1_account_8 ++ dktX1_account_9
def dkwX1_account_7 : List UInt8 := [180, 0, 36, 180, 0, 96, 182, 0, 58, 167, 0, 65, 42, 180, 0, 36, 27, 16, 11, 100, 182, 1, 171]
abbrev dktX1_account_7 : List UInt8 := dkwX1_account_7 ++ dktX1_account_8
def dkwX1_account_6 : List UInt8 := [180, 0, 85, 182, 0, 58, 167, 0, 91, 42, 180, 0, 36, 180, 0, 104, 182, 0, 58, 167, 0, 78, 42]
abbrev dktX1_account_6 : List UInt8 := dkwX1_account_6 ++ dktX1_account_7
def dkwX1_account_5 : List UInt8 := [180, 0, 36, 3, 182, 1, 155, 167, 0, 114, 42, 180, 0, 36, 180, 1, 168, 167, 0, 104, 42, 180, 0, 36]
abbrev dktX1_account_5 : List UInt8 := dkwX1_account_5 ++ dktX1_account_6
def dkwX1_account_4 : List UInt8 := [167, 0, 145, 42, 180, 0, 36, 182, 1, 162, 167, 0, 135, 42, 180, 0, 36, 180, 1, 165, 167, 0, 125, 42]
abbrev dktX1_account_4 : List UInt8 := dkwX1_account_4 ++ dktX1_account_5
def dkwX1_account_3 : List UInt8 := [185, 0, 251, 1, 0, 167, 0, 162, 42, 180, 0, 36, 182, 1, 158, 167, 0, 152, 42, 182, 1, 159]
abbrev dktX1_account_3 : List UInt8 := dkwX1_account_3 ++ dktX1_account_4
def dkwX1_account_2 : List UInt8 := [42, 180, 0, 36, 180, 0, 109, 182, 0, 58, 167, 0, 177, 42, 180, 0, 36, 182, 1, 90]
abbrev dktX1_account_2 : List UInt8 := dkwX1_account_2 ++ dktX1_account_3
def dkwX1_account_1 : List UInt8 := [170, 0, 0, 1, 13, 0, 0, 0, 0, 0, 0, 0, 18, 0, 0, 0, 89, 0, 0, 0, 102, 0, 0, 0, 117, 0, 0, 0, 127, 0, 0, 0, 134, 0, 0, 0, 144, 0, 0, 0, 154, 0, 0, 0, 165, 0, 0, 0, 175, 0, 0, 0, 188, 0, 0, 0, 201, 0, 0, 0, 214, 0, 0, 0, 214, 0, 0, 0, 214, 0, 0, 0, 228, 0, 0, 0, 238, 0, 0, 0, 238, 0, 0, 0, 252, 0, 0, 1, 6]
abbrev dktX1_account_1 : List UInt8 := dkwX1_account_1 ++ dktX1_account_2
def dkwX1_account_0 : List UInt8 := [27, 3, 16, 19, 184, 0, 3, 184, 0, 114, 27]
abbrev dktX1_account_0 : List UInt8 := dkwX1_account_0 ++ dktX1_account_1
theorem dksX1_account_0 : cX1_account.data.toList.drop 0 = dktX1_account_0 := by decide +kernel
theorem dksX1_account_1 : cX1_account.data.toList.drop 11 = dktX1_account_1 := dk_seg dksX1_account_0 11 rfl rfl
theorem dksX1_account_2 : cX1_account.data.toList.drop 100 = dktX1_account_2 := dk_seg dksX1_account_1 89 rfl rfl
theorem dksX1_account_3 : cX1_account.data.toList.drop 120 = dktX1_account_3 := dk_seg dksX1_account_2 20 rfl rfl
theorem dksX1_account_4 : cX1_account.data.toList.drop 142 = dktX1_account_4 := dk_seg dksX1_account_3 22 rfl rfl
theorem dksX1_account_5 : cX1_account.data.toList.drop 166 = dktX1_account_5 := dk_seg dksX1_account_4 24 rfl rfl
theorem dksX1_account_6 : cX1_account.data.toList.drop 190 = dktX1_account_6 := dk_seg dksX1_account_5 24 rfl rfl
theorem dksX1_account_7 : cX1_account.data.toList.drop 213 = dktX1_account_7 := dk_seg dksX1_account_6 23 rfl rfl
theorem dksX1_account_8 : cX1_account.data.toList.drop 236 = dktX1_account_8 := dk_seg dksX1_account_7 23 rfl rfl
theorem dksX1_account_9 : cX1_account.data.toList.drop 260 = dktX1_account_9 := dk_seg dksX1_account_8 24 rfl rfl
theorem dksX1_account_10 : cX1_account.data.toList.drop 284 = dktX1_account_10 := dk_seg dksX1_account_9 24 rfl rfl
theorem dX1_account_0 : decode cX1_account 0 = .ok (.iload_n 1, 1) := dk_27 (dk_at dksX1_account_0 0 rfl rfl)
theorem dX1_account_1 : decode cX1_account 1 = .ok (.iconst 0, 1) := dk_3 (dk_at dksX1_account_0 1 rfl rfl)
theorem dX1_account_2 : decode cX1_account 2 = .ok (.bipush 19, 2) := dk_16 19 (dk_at dksX1_account_0 2 rfl rfl)
theorem dX1_account_4 : decode cX1_account 4 = .ok (.invokestatic 3, 3) := dk_184 0 3 (dk_at dksX1_account_0 4 rfl rfl)
theorem dX1_account_7 : decode cX1_account 7 = .ok (.invokestatic 114, 3) := dk_184 0 114 (dk_at dksX1_account_0 7 rfl rfl)
theorem dX1_account_10 : decode cX1_account 10 = .ok (.iload_n 1, 1) := dk_27 (dk_at dksX1_account_0 10 rfl rfl)
theorem dX1_account_11 : decode cX1_account 11 = .ok (.tableswitch 269 0 18 #[89, 102, 117, 127, 134, 144, 154, 165, 175, 188, 201, 214, 214, 214, 228, 238, 238, 252, 262], 89) := by decide +kernel
theorem dX1_account_100 : decode cX1_account 100 = .ok (.aload_n 0, 1) := dk_42 (dk_at dksX1_account_2 0 rfl rfl)
theorem dX1_account_101 : decode cX1_account 101 = .ok (.getfield 36, 3) := dk_180 0 36 (dk_at dksX1_account_2 1 rfl rfl)
theorem dX1_account_104 : decode cX1_account 104 = .ok (.getfield 109, 3) := dk_180 0 109 (dk_at dksX1_account_2 4 rfl rfl)
theorem dX1_account_107 : decode cX1_account 107 = .ok (.invokevirtual 58, 3) := dk_182 0 58 (dk_at dksX1_account_2 7 rfl rfl)
theorem dX1_account_110 : decode cX1_account 110 = .ok (.goto 177, 3) := dk_167 0 177 (dk_at dksX1_account_2 10 rfl rfl)
theorem dX1_account_113 : decode cX1_account 113 = .ok (.aload_n 0, 1) := dk_42 (dk_at dksX1_account_2 13 rfl rfl)
theorem dX1_account_114 : decode cX1_account 114 = .ok (.getfield 36, 3) := dk_180 0 36 (dk_at dksX1_account_2 14 rfl rfl)
theorem dX1_account_117 : decode cX1_account 117 = .ok (.invokevirtual 346, 3) := dk_182 1 90 (dk_at dksX1_account_2 17 rfl rfl)
theorem dX1_account_120 : decode cX1_account 120 = .ok (.invokeinterface 251 1, 5) := by decide +kernel
theorem dX1_account_125 : decode cX1_account 125 = .ok (.goto 162, 3) := dk_167 0 162 (dk_at dksX1_account_3 5 rfl rfl)
theorem dX1_account_128 : decode cX1_account 128 = .ok (.aload_n 0, 1) := dk_42 (dk_at dksX1_account_3 8 rfl rfl)
theorem dX1_account_129 : decode cX1_account 129 = .ok (.getfield 36, 3) := dk_180 0 36 (dk_at dksX1_account_3 9 rfl rfl)
theorem dX1_account_132 : decode cX1_account 132 = .ok (.invokevirtual 414, 3) := dk_182 1 158 (dk_at dksX1_account_3 12 rfl rfl)
theorem dX1_account_135 : decode cX1_account 135 = .ok (.goto 152, 3) := dk_167 0 152 (dk_at dksX1_account_3 15 rfl rfl)
theorem dX1_account_138 : decode cX1_account 138 = .ok (.aload_n 0, 1) := dk_42 (dk_at dksX1_account_3 18 rfl rfl)
theorem dX1_account_139 : decode cX1_account 139 = .ok (.invokevirtual 415, 3) := dk_182 1 159 (dk_at dksX1_account_3 19 rfl rfl)
theorem dX1_account_142 : decode cX1_account 142 = .ok (.goto 145, 3) := dk_167 0 145 (dk_at dksX1_account_4 0 rfl rfl)
theorem dX1_account_145 : decode cX1_account 145 = .ok (.aload_n 0, 1) := dk_42 (dk_at dksX1_account_4 3 rfl rfl)
theorem dX1_account_146 : decode cX1_account 146 = .ok (.getfield 36, 3) := dk_180 0 36 (dk_at dksX1_account_4 4 rfl rfl)
theorem dX1_account_149 : decode cX1_account 149 = .ok (.invokevirtual 418, 3) := dk_182 1 162 (dk_at dksX1_account_4 7 rfl rfl)
theorem dX1_account_152 : decode cX1_account 152 = .ok (.goto 135, 3) := dk_167 0 135 (dk_at dksX1_account_4 10 rfl rfl)
theorem dX1_account_155 : decode cX1_account 155 = .ok (.aload_n 0, 1) := dk_42 (dk_at dksX1_account_4 13 rfl rfl)
theorem dX1_account_156 : decode cX1_account 156 = .ok (.getfield 36, 3) := dk_180 0 36 (dk_at dksX1_account_4 14 rfl rfl)
theorem dX1_account_159 : decode cX1_account 159 = .ok (.getfield 421, 3) := dk_180 1 165 (dk_at dksX1_account_4 17 rfl rfl)
theorem dX1_account_162 : decode cX1_account 162 = .ok (.goto 125, 3) := dk_167 0 125 (dk_at dksX1_account_4 20 rfl rfl)
theorem dX1_account_165 : decode cX1_account 165 = .ok (.aload_n 0, 1) := dk_42 (dk_at dksX1_account_4 23 rfl rfl)
theorem dX1_account_166 : decode cX1_account 166 = .ok (.getfield 36, 3) := dk_180 0 36 (dk_at dksX1_account_5 0 rfl rfl)
theorem dX1_account_169 : decode cX1_account 169 = .ok (.iconst 0, 1) := dk_3 (dk_at dksX1_account_5 3 rfl rfl)
theorem dX1_account_170 : decode cX1_account 170 = .ok (.invokevirtual 411, 3) := dk_182 1 155 (dk_at dksX1_account_5 4 rfl rfl)
theorem dX1_account_173 : decode cX1_account 173 = .ok (.goto 114, 3) := dk_167 0 114 (dk_at dksX1_account_5 7 rfl rfl)
theorem dX1_account_176 : decode cX1_account 176 = .ok (.aload_n 0, 1) := dk_42 (dk_at dksX1_account_5 10 rfl rfl)
theorem dX1_account_177 : decode cX1_account 177 = .ok (.getfield 36, 3) := dk_180 0 36 (dk_at dksX1_account_5 11 rfl rfl)
theorem dX1_account_180 : decode cX1_account 180 = .ok (.getfield 424, 3) := dk_180 1 168 (dk_at dksX1_account_5 14 rfl rfl)
theorem dX1_account_183 : decode cX1_account 183 = .ok (.goto 104, 3) := dk_167 0 104 (dk_at dksX1_account_5 17 rfl rfl)
theorem dX1_account_186 : decode cX1_account 186 = .ok (.aload_n 0, 1) := dk_42 (dk_at dksX1_account_5 20 rfl rfl)
theorem dX1_account_187 : decode cX1_account 187 = .ok (.getfield 36, 3) := dk_180 0 36 (dk_at dksX1_account_5 21 rfl rfl)
theorem dX1_account_190 : decode cX1_account 190 = .ok (.getfield 85, 3) := dk_180 0 85 (dk_at dksX1_account_6 0 rfl rfl)
theorem dX1_account_193 : decode cX1_account 193 = .ok (.invokevirtual 58, 3) := dk_182 0 58 (dk_at dksX1_account_6 3 rfl rfl)
theorem dX1_account_196 : decode cX1_account 196 = .ok (.goto 91, 3) := dk_167 0 91 (dk_at dksX1_account_6 6 rfl rfl)
theorem dX1_account_199 : decode cX1_account 199 = .ok (.aload_n 0, 1) := dk_42 (dk_at dksX1_account_6 9 rfl rfl)
theorem dX1_account_200 : decode cX1_account 200 = .ok (.getfield 36, 3) := dk_180 0 36 (dk_at dksX1_account_6 10 rfl rfl)
theorem dX1_account_203 : decode cX1_account 203 = .ok (.getfield 104, 3) := dk_180 0 104 (dk_at dksX1_account_6 13 rfl rfl)
theorem dX1_account_206 : decode cX1_account 206 = .ok (.invokevirtual 58, 3) := dk_182 0 58 (dk_at dksX1_account_6 16 rfl rfl)
theorem dX1_account_209 : decode cX1_account 209 = .ok (.goto 78, 3) := dk_167 0 78 (dk_at dksX1_account_6 19 rfl rfl)
theorem dX1_account_212 : decode cX1_account 212 = .ok (.aload_n 0, 1) := dk_42 (dk_at dksX1_account_6 22 rfl rfl)
theorem dX1_account_213 : decode cX1_account 213 = .ok (.getfield 36, 3) := dk_180 0 36 (dk_at dksX1_account_7 0 rfl rfl)
theorem dX1_account_216 : decode cX1_account 216 = .ok (.getfield 96, 3) := dk_180 0 96 (dk_at dksX1_account_7 3 rfl rfl)
theorem dX1_account_219 : decode cX1_account 219 = .ok (.invokevirtual 58, 3) := dk_182 0 58 (dk_at dksX1_account_7 6 rfl rfl)
theorem dX1_account_222 : decode cX1_account 222 = .ok (.goto 65, 3) := dk_167 0 65 (dk_at dksX1_account_7 9 rfl rfl)
theorem dX1_account_225 : decode cX1_account 225 = .ok (.aload_n 0, 1) := dk_42 (dk_at dksX1_account_7 12 rfl rfl)
theorem dX1_account_226 : decode cX1_account 226 = .ok (.getfield 36, 3) := dk_180 0 36 (dk_at dksX1_account_7 13 rfl rfl)
theorem dX1_account_229 : decode cX1_account 229 = .ok (.iload_n 1, 1) := dk_27 (dk_at dksX1_account_7 16 rfl rfl)
theorem dX1_account_230 : decode cX1_account 230 = .ok (.bipush 11, 2) := dk_16 11 (dk_at dksX1_account_7 17 rfl rfl)
theorem dX1_account_232 : decode cX1_account 232 = .ok (.isub, 1) := dk_100 (dk_at dksX1_account_7 19 rfl rfl)
theorem dX1_account_233 : decode cX1_account 233 = .ok (.invokevirtual 427, 3) := dk_182 1 171 (dk_at dksX1_account_7 20 rfl rfl)
theorem dX1_account_236 : decode cX1_account 236 = .ok (.goto 51, 3) := dk_167 0 51 (dk_at dksX1_account_8 0 rfl rfl)
theorem dX1_account_239 : decode cX1_account 239 = .ok (.aload_n 0, 1) := dk_42 (dk_at dksX1_account_8 3 rfl rfl)
theorem dX1_account_240 : decode cX1_account 240 = .ok (.getfield 36, 3) := dk_180 0 36 (dk_at dksX1_account_8 4 rfl rfl)
theorem dX1_account_243 : decode cX1_account 243 = .ok (.getfield 430, 3) := dk_180 1 174 (dk_at dksX1_account_8 7 rfl rfl)
theorem dX1_account_246 : decode cX1_account 246 = .ok (.goto 41, 3) := dk_167 0 41 (dk_at dksX1_account_8 10 rfl rfl)
theorem dX1_account_249 : decode cX1_account 249 = .ok (.aload_n 0, 1) := dk_42 (dk_at dksX1_account_8 13 rfl rfl)
theorem dX1_account_250 : decode cX1_account 250 = .ok (.getfield 36, 3) := dk_180 0 36 (dk_at dksX1_account_8 14 rfl rfl)
theorem dX1_account_253 : decode cX1_account 253 = .ok (.iload_n 1, 1) := dk_27 (dk_at dksX1_account_8 17 rfl rfl)
theorem dX1_account_254 : decode cX1_account 254 = .ok (.bipush 14, 2) := dk_16 14 (dk_at dksX1_account_8 18 rfl rfl)
theorem dX1_account_256 : decode cX1_account 256 = .ok (.isub, 1) := dk_100 (dk_at dksX1_account_8 20 rfl rfl)
theorem dX1_account_257 : decode cX1_account 257 = .ok (.invokevirtual 411, 3) := dk_182 1 155 (dk_at dksX1_account_8 21 rfl rfl)
theorem dX1_account_260 : decode cX1_account 260 = .ok (.goto 27, 3) := dk_167 0 27 (dk_at dksX1_account_9 0 rfl rfl)
theorem dX1_account_263 : decode cX1_account 263 = .ok (.aload_n 0, 1) := dk_42 (dk_at dksX1_account_9 3 rfl rfl)
theorem dX1_account_264 : decode cX1_account 264 = .ok (.getfield 36, 3) := dk_180 0 36 (dk_at dksX1_account_9 4 rfl rfl)
theorem dX1_account_267 : decode cX1_account 267 = .ok (.getfield 433, 3) := dk_180 1 177 (dk_at dksX1_account_9 7 rfl rfl)
theorem dX1_account_270 : decode cX1_account 270 = .ok (.goto 17, 3) := dk_167 0 17 (dk_at dksX1_account_9 10 rfl rfl)
theorem dX1_account_273 : decode cX1_account 273 = .ok (.aload_n 0, 1) := dk_42 (dk_at dksX1_account_9 13 rfl rfl)
theorem dX1_account_274 : decode cX1_account 274 = .ok (.getfield 436, 3) := dk_180 1 180 (dk_at dksX1_account_9 14 rfl rfl)
theorem dX1_account_277 : decode cX1_account 277 = .ok (.goto 10, 3) := dk_167 0 10 (dk_at dksX1_account_9 17 rfl rfl)
theorem dX1_account_280 : decode cX1_account 280 = .ok (.aload_n 0, 1) := dk_42 (dk_at dksX1_account_9 20 rfl rfl)
theorem dX1_account_281 : decode cX1_account 281 = .ok (.getfield 43, 3) := dk_180 0 43 (dk_at dksX1_account_9 21 rfl rfl)
theorem dX1_account_284 : decode cX1_account 284 = .ok (.invokevirtual 58, 3) := dk_182 0 58 (dk_at dksX1_account_10 0 rfl rfl)
theorem dX1_account_287 : decode cX1_account 287 = .ok (.ireturn, 1) := dk_172 (dk_at dksX1_account_10 3 rfl rfl)
abbrev cX1_wavy : ByteArray := prog_1_method_51_code
def yX1_wavy : MethodName := ⟨RX1, "wavy", "()I"⟩
def dkwX1_wavy_2 : List UInt8 := [60, 167, 255, 222, 27, 172]
abbrev dktX1_wavy_2 : List UInt8 := dkwX1_wavy_2 ++ []
def dkwX1_wavy_1 : List UInt8 := [44, 185, 1, 102, 1, 0, 192, 0, 112, 78, 27, 45, 182, 0, 226, 153, 0, 7, 4, 167, 0, 4, 3, 96]
abbrev dktX1_wavy_1 : List UInt8 := dkwX1_wavy_1 ++ dktX1_wavy_2
def dkwX1_wavy_0 : List UInt8 := [3, 60, 42, 180, 0, 36, 182, 1, 90, 185, 1, 93, 1, 0, 77, 44, 185, 1, 97, 1, 0, 153, 0, 31]
abbrev dktX1_wavy_0 : List UInt8 := dkwX1_wavy_0 ++ dktX1_wavy_1
theorem dksX1_wavy_0 : cX1_wavy.data.toList.drop 0 = dktX1_wavy_0 := by decide +kernel
theorem dksX1_wavy_1 : cX1_wavy.data.toList.drop 24 = dktX1_wavy_1 := dk_seg dksX1_wavy_0 24 rfl rfl
theorem dksX1_wavy_2 : cX1_wavy.data.toList.drop 48 = dktX1_wavy_2 := dk_seg dksX1_wavy_1 24 rfl rfl
theorem dX1_wavy_0 : decode cX1_wavy 0 = .ok (.iconst 0, 1) := dk_3 (dk_at dksX1_wavy_0 0 rfl rfl)
theorem dX1_wavy_1 : decode cX1_wavy 1 = .ok (.istore_n 1, 1) := dk_60 (dk_at dksX1_wavy_0 1 rfl rfl)
theorem dX1_wavy_2 : decode cX1_wavy 2 = .ok (.aload_n 0, 1) := dk_42 (dk_at dksX1_wavy_0 2 rfl rfl)
theorem dX1_wavy_3 : decode cX1_wavy 3 = .ok (.getfield 36, 3) := dk_180 0 36 (dk_at dksX1_wavy_0 3 rfl rfl)
theorem dX1_wavy_6 : decode cX1_wavy 6 = .ok (.invokevirtual 346, 3) := dk_182 1 90 (dk_at dksX1_wavy_0 6 rfl rfl)
theorem dX1_wavy_9 : decode cX1_wavy 9 = .ok (.invokeinterface 349 1, 5) := by decide +kernel
theorem dX1_wavy_14 : decode cX1_wavy 14 = .ok (.astore_n 2, 1) := dk_77 (dk_at dksX1_wavy_0 14 rfl rfl)
theorem dX1_wavy_15 : decode cX1_wavy 15 = .ok (.aload_n 2, 1) := dk_44 (dk_at dksX1_wavy_0 15 rfl rfl)
theorem dX1_wavy_16 : decode cX1_wavy 16 = .ok (.invokeinterface 353 1, 5) := by decide +kernel
theorem dX1_wavy_21 : decode cX1_wavy 21 = .ok (.ifCond .eq 31, 3) := dk_153 0 31 (dk_at dksX1_wavy_0 21 rfl rfl)
theorem dX1_wavy_24 : decode cX1_wavy 24 = .ok (.aload_n 2, 1) := dk_44 (dk_at dksX1_wavy_1 0 rfl rfl)
theorem dX1_wavy_25 : decode cX1_wavy 25 = .ok (.invokeinterface 358 1, 5) := by decide +kernel
theorem dX1_wavy_30 : decode cX1_wavy 30 = .ok (.checkcast 112, 3) := dk_192 0 112 (dk_at dksX1_wavy_1 6 rfl rfl)
theorem dX1_wavy_33 : decode cX1_wavy 33 = .ok (.astore_n 3, 1) := dk_78 (dk_at dksX1_wavy_1 9 rfl rfl)
theorem dX1_wavy_34 : decode cX1_wavy 34 = .ok (.iload_n 1, 1) := dk_27 (dk_at dksX1_wavy_1 10 rfl rfl)
theorem dX1_wavy_35 : decode cX1_wavy 35 = .ok (.aload_n 3, 1) := dk_45 (dk_at dksX1_wavy_1 11 rfl rfl)
theorem dX1_wavy_36 : decode cX1_wavy 36 = .ok (.invokevirtual 226, 3) := dk_182 0 226 (dk_at dksX1_wavy_1 12 rfl rfl)
theorem dX1_wavy_39 : decode cX1_wavy 39 = .ok (.ifCond .eq 7, 3) := dk_153 0 7 (dk_at dksX1_wavy_1 15 rfl rfl)
theorem dX1_wavy_42 : decode cX1_wavy 42 = .ok (.iconst 1, 1) := dk_4 (dk_at dksX1_wavy_1 18 rfl rfl)
theorem dX1_wavy_43 : decode cX1_wavy 43 = .ok (.goto 4, 3) := dk_167 0 4 (dk_at dksX1_wavy_1 19 rfl rfl)
theorem dX1_wavy_46 : decode cX1_wavy 46 = .ok (.iconst 0, 1) := dk_3 (dk_at dksX1_wavy_1 22 rfl rfl)
theorem dX1_wavy_47 : decode cX1_wavy 47 = .ok (.iadd, 1) := dk_96 (dk_at dksX1_wavy_1 23 rfl rfl)
theorem dX1_wavy_48 : decode cX1_wavy 48 = .ok (.istore_n 1, 1) := dk_60 (dk_at dksX1_wavy_2 0 rfl rfl)
theorem dX1_wavy_49 : decode cX1_wavy 49 = .ok (.goto (-34), 3) := dk_167 255 222 (dk_at dksX1_wavy_2 1 rfl rfl)
theorem dX1_wavy_52 : decode cX1_wavy 52 = .ok (.iload_n 1, 1) := dk_27 (dk_at dksX1_wavy_2 4 rfl rfl)
theorem dX1_wavy_53 : decode cX1_wavy 53 = .ok (.ireturn, 1) := dk_172 (dk_at dksX1_wavy_2 5 rfl rfl)
abbrev cX1_append : ByteArray := prog_1_method_54_code
def yX1_append : MethodName := ⟨RX1, "append", "(C)I"⟩
def dkwX1_append_2 : List UInt8 := [42, 180, 1, 180, 172]
abbrev dktX1_append_2 : List UInt8 := dkwX1_append_2 ++ []
def dkwX1_append_1 : List UInt8 := [3, 184, 1, 183, 42, 180, 0, 47, 42, 180, 1, 180, 27, 85, 42, 89, 180, 1, 180, 4, 96, 181, 1, 180]
abbrev dktX1_append_1 : List UInt8 := dkwX1_append_1 ++ dktX1_append_2
def dkwX1_append_0 : List UInt8 := [27, 16, 32, 16, 126, 184, 0, 3, 184, 0, 114, 42, 180, 1, 180, 16, 60, 162, 0, 7, 4, 167, 0, 4]
abbrev dktX1_append_0 : List UInt8 := dkwX1_append_0 ++ dktX1_append_1
theorem dksX1_append_0 : cX1_append.data.toList.drop 0 = dktX1_append_0 := by decide +kernel
theorem dksX1_append_1 : cX1_append.data.toList.drop 24 = dktX1_append_1 := dk_seg dksX1_append_0 24 rfl rfl
theorem dksX1_append_2 : cX1_append.data.toList.drop 48 = dktX1_append_2 := dk_seg dksX1_append_1 24 rfl rfl
theorem dX1_append_0 : decode cX1_append 0 = .ok (.iload_n 1, 1) := dk_27 (dk_at dksX1_append_0 0 rfl rfl)
theorem dX1_append_1 : decode cX1_append 1 = .ok (.bipush 32, 2) := dk_16 32 (dk_at dksX1_append_0 1 rfl rfl)
theorem dX1_append_3 : decode cX1_append 3 = .ok (.bipush 126, 2) := dk_16 126 (dk_at dksX1_append_0 3 rfl rfl)
theorem dX1_append_5 : decode cX1_append 5 = .ok (.invokestatic 3, 3) := dk_184 0 3 (dk_at dksX1_append_0 5 rfl rfl)
theorem dX1_append_8 : decode cX1_append 8 = .ok (.invokestatic 114, 3) := dk_184 0 114 (dk_at dksX1_append_0 8 rfl rfl)
theorem dX1_append_11 : decode cX1_append 11 = .ok (.aload_n 0, 1) := dk_42 (dk_at dksX1_append_0 11 rfl rfl)
theorem dX1_append_12 : decode cX1_append 12 = .ok (.getfield 436, 3) := dk_180 1 180 (dk_at dksX1_append_0 12 rfl rfl)
theorem dX1_append_15 : decode cX1_append 15 = .ok (.bipush 60, 2) := dk_16 60 (dk_at dksX1_append_0 15 rfl rfl)
theorem dX1_append_17 : decode cX1_append 17 = .ok (.if_icmp .ge 7, 3) := dk_162 0 7 (dk_at dksX1_append_0 17 rfl rfl)
theorem dX1_append_20 : decode cX1_append 20 = .ok (.iconst 1, 1) := dk_4 (dk_at dksX1_append_0 20 rfl rfl)
theorem dX1_append_21 : decode cX1_append 21 = .ok (.goto 4, 3) := dk_167 0 4 (dk_at dksX1_append_0 21 rfl rfl)
theorem dX1_append_24 : decode cX1_append 24 = .ok (.iconst 0, 1) := dk_3 (dk_at dksX1_append_1 0 rfl rfl)
theorem dX1_append_25 : decode cX1_append 25 = .ok (.invokestatic 439, 3) := dk_184 1 183 (dk_at dksX1_append_1 1 rfl rfl)
theorem dX1_append_28 : decode cX1_append 28 = .ok (.aload_n 0, 1) := dk_42 (dk_at dksX1_append_1 4 rfl rfl)
theorem dX1_append_29 : decode cX1_append 29 = .ok (.getfield 47, 3) := dk_180 0 47 (dk_at dksX1_append_1 5 rfl rfl)
theorem dX1_append_32 : decode cX1_append 32 = .ok (.aload_n 0, 1) := dk_42 (dk_at dksX1_append_1 8 rfl rfl)
theorem dX1_append_33 : decode cX1_append 33 = .ok (.getfield 436, 3) := dk_180 1 180 (dk_at dksX1_append_1 9 rfl rfl)
theorem dX1_append_36 : decode cX1_append 36 = .ok (.iload_n 1, 1) := dk_27 (dk_at dksX1_append_1 12 rfl rfl)
theorem dX1_append_37 : decode cX1_append 37 = .ok (.castore, 1) := dk_85 (dk_at dksX1_append_1 13 rfl rfl)
theorem dX1_append_38 : decode cX1_append 38 = .ok (.aload_n 0, 1) := dk_42 (dk_at dksX1_append_1 14 rfl rfl)
theorem dX1_append_39 : decode cX1_append 39 = .ok (.dup, 1) := dk_89 (dk_at dksX1_append_1 15 rfl rfl)
theorem dX1_append_40 : decode cX1_append 40 = .ok (.getfield 436, 3) := dk_180 1 180 (dk_at dksX1_append_1 16 rfl rfl)
theorem dX1_append_43 : decode cX1_append 43 = .ok (.iconst 1, 1) := dk_4 (dk_at dksX1_append_1 19 rfl rfl)
theorem dX1_append_44 : decode cX1_append 44 = .ok (.iadd, 1) := dk_96 (dk_at dksX1_append_1 20 rfl rfl)
theorem dX1_append_45 : decode cX1_append 45 = .ok (.putfield 436, 3) := dk_181 1 180 (dk_at dksX1_append_1 21 rfl rfl)
theorem dX1_append_48 : decode cX1_append 48 = .ok (.aload_n 0, 1) := dk_42 (dk_at dksX1_append_2 0 rfl rfl)
theorem dX1_append_49 : decode cX1_append 49 = .ok (.getfield 436, 3) := dk_180 1 180 (dk_at dksX1_append_2 1 rfl rfl)
theorem dX1_append_52 : decode cX1_append 52 = .ok (.ireturn, 1) := dk_172 (dk_at dksX1_append_2 4 rfl rfl)
abbrev cX1_checkState : ByteArray := prog_1_method_7_code
def yX1_checkState : MethodName := ⟨RX1, "checkState", "(Z)V"⟩
def dkwX1_checkState_0 : List UInt8 := [26, 154, 0, 11, 187, 0, 16, 89, 183, 0, 18, 191, 177]
abbrev dktX1_checkState_0 : List UInt8 := dkwX1_checkState_0 ++ []
theorem dksX1_checkState_0 : cX1_checkState.data.toList.drop 0 = dktX1_checkState_0 := by decide +kernel
theorem dX1_checkState_0 : decode cX1_checkState 0 = .ok (.iload_n 0, 1) := dk_26 (dk_at dksX1_checkState_0 0 rfl rfl)
theorem dX1_checkState_1 : decode cX1_checkState 1 = .ok (.ifCond .ne 11, 3) := dk_154 0 11 (dk_at dksX1_checkState_0 1 rfl rfl)
theorem dX1_checkState_4 : decode cX1_checkState 4 = .ok (.new 16, 3) := dk_187 0 16 (dk_at dksX1_checkState_0 4 rfl rfl)
theorem dX1_checkState_7 : decode cX1_checkState 7 = .ok (.dup, 1) := dk_89 (dk_at dksX1_checkState_0 7 rfl rfl)
theorem dX1_checkState_8 : decode cX1_checkState 8 = .ok (.invokespecial 18, 3) := dk_183 0 18 (dk_at dksX1_checkState_0 8 rfl rfl)
theorem dX1_checkState_11 : decode cX1_checkState 11 = .ok (.athrow, 1) := dk_191 (dk_at dksX1_checkState_0 11 rfl rfl)
theorem dX1_checkState_12 : decode cX1_checkState 12 = .ok (.return_, 1) := dk_177 (dk_at dksX1_checkState_0 12 rfl rfl)
abbrev cX1_read : ByteArray := prog_1_method_55_code
def yX1_read : MethodName := ⟨RX1, "read", "()I"⟩
def dkwX1_read_4 : List UInt8 := [181, 1, 205, 187, 0, 7, 89, 183, 0, 9, 191, 77, 42, 44, 182, 0, 129, 191]
abbrev dktX1_read_4 : List UInt8 := dkwX1_read_4 ++ []
def dkwX1_read_3 : List UInt8 := [182, 1, 199, 54, 5, 167, 255, 228, 42, 44, 43, 180, 1, 194, 182, 0, 58, 182, 0, 125, 172, 77, 42, 44]
abbrev dktX1_read_3 : List UInt8 := dkwX1_read_3 ++ dktX1_read_4
def dkwX1_read_2 : List UInt8 := [185, 1, 97, 1, 0, 153, 0, 25, 45, 185, 1, 102, 1, 0, 192, 1, 197, 58, 4, 25, 4, 44]
abbrev dktX1_read_2 : List UInt8 := dkwX1_read_2 ++ dktX1_read_3
def dkwX1_read_1 : List UInt8 := [182, 1, 191, 42, 180, 0, 36, 182, 0, 117, 77, 43, 180, 1, 194, 182, 1, 117, 78, 45]
abbrev dktX1_read_1 : List UInt8 := dkwX1_read_1 ++ dktX1_read_2
def dkwX1_read_0 : List UInt8 := [187, 1, 186, 89, 42, 180, 0, 47, 42, 180, 1, 180, 183, 1, 188, 76, 42, 3, 181, 1, 180, 43]
abbrev dktX1_read_0 : List UInt8 := dkwX1_read_0 ++ dktX1_read_1
theorem dksX1_read_0 : cX1_read.data.toList.drop 0 = dktX1_read_0 := by decide +kernel
theorem dksX1_read_1 : cX1_read.data.toList.drop 22 = dktX1_read_1 := dk_seg dksX1_read_0 22 rfl rfl
theorem dksX1_read_2 : cX1_read.data.toList.drop 42 = dktX1_read_2 := dk_seg dksX1_read_1 20 rfl rfl
theorem dksX1_read_3 : cX1_read.data.toList.drop 64 = dktX1_read_3 := dk_seg dksX1_read_2 22 rfl rfl
theorem dksX1_read_4 : cX1_read.data.toList.drop 88 = dktX1_read_4 := dk_seg dksX1_read_3 24 rfl rfl
theorem dX1_read_0 : decode cX1_read 0 = .ok (.new 442, 3) := dk_187 1 186 (dk_at dksX1_read_0 0 rfl rfl)
theorem dX1_read_3 : decode cX1_read 3 = .ok (.dup, 1) := dk_89 (dk_at dksX1_read_0 3 rfl rfl)
theorem dX1_read_4 : decode cX1_read 4 = .ok (.aload_n 0, 1) := dk_42 (dk_at dksX1_read_0 4 rfl rfl)
theorem dX1_read_5 : decode cX1_read 5 = .ok (.getfield 47, 3) := dk_180 0 47 (dk_at dksX1_read_0 5 rfl rfl)
theorem dX1_read_8 : decode cX1_read 8 = .ok (.aload_n 0, 1) := dk_42 (dk_at dksX1_read_0 8 rfl rfl)
theorem dX1_read_9 : decode cX1_read 9 = .ok (.getfield 436, 3) := dk_180 1 180 (dk_at dksX1_read_0 9 rfl rfl)
theorem dX1_read_12 : decode cX1_read 12 = .ok (.invokespecial 444, 3) := dk_183 1 188 (dk_at dksX1_read_0 12 rfl rfl)
theorem dX1_read_15 : decode cX1_read 15 = .ok (.astore_n 1, 1) := dk_76 (dk_at dksX1_read_0 15 rfl rfl)
theorem dX1_read_16 : decode cX1_read 16 = .ok (.aload_n 0, 1) := dk_42 (dk_at dksX1_read_0 16 rfl rfl)
theorem dX1_read_17 : decode cX1_read 17 = .ok (.iconst 0, 1) := dk_3 (dk_at dksX1_read_0 17 rfl rfl)
theorem dX1_read_18 : decode cX1_read 18 = .ok (.putfield 436, 3) := dk_181 1 180 (dk_at dksX1_read_0 18 rfl rfl)
theorem dX1_read_21 : decode cX1_read 21 = .ok (.aload_n 1, 1) := dk_43 (dk_at dksX1_read_0 21 rfl rfl)
theorem dX1_read_22 : decode cX1_read 22 = .ok (.invokevirtual 447, 3) := dk_182 1 191 (dk_at dksX1_read_1 0 rfl rfl)
theorem dX1_read_25 : decode cX1_read 25 = .ok (.aload_n 0, 1) := dk_42 (dk_at dksX1_read_1 3 rfl rfl)
theorem dX1_read_26 : decode cX1_read 26 = .ok (.getfield 36, 3) := dk_180 0 36 (dk_at dksX1_read_1 4 rfl rfl)
theorem dX1_read_29 : decode cX1_read 29 = .ok (.invokevirtual 117, 3) := dk_182 0 117 (dk_at dksX1_read_1 7 rfl rfl)
theorem dX1_read_32 : decode cX1_read 32 = .ok (.astore_n 2, 1) := dk_77 (dk_at dksX1_read_1 10 rfl rfl)
theorem dX1_read_33 : decode cX1_read 33 = .ok (.aload_n 1, 1) := dk_43 (dk_at dksX1_read_1 11 rfl rfl)
theorem dX1_read_34 : decode cX1_read 34 = .ok (.getfield 450, 3) := dk_180 1 194 (dk_at dksX1_read_1 12 rfl rfl)
theorem dX1_read_37 : decode cX1_read 37 = .ok (.invokevirtual 373, 3) := dk_182 1 117 (dk_at dksX1_read_1 15 rfl rfl)
theorem dX1_read_40 : decode cX1_read 40 = .ok (.astore_n 3, 1) := dk_78 (dk_at dksX1_read_1 18 rfl rfl)
theorem dX1_read_41 : decode cX1_read 41 = .ok (.aload_n 3, 1) := dk_45 (dk_at dksX1_read_1 19 rfl rfl)
theorem dX1_read_42 : decode cX1_read 42 = .ok (.invokeinterface 353 1, 5) := by decide +kernel
theorem dX1_read_47 : decode cX1_read 47 = .ok (.ifCond .eq 25, 3) := dk_153 0 25 (dk_at dksX1_read_2 5 rfl rfl)
theorem dX1_read_50 : decode cX1_read 50 = .ok (.aload_n 3, 1) := dk_45 (dk_at dksX1_read_2 8 rfl rfl)
theorem dX1_read_51 : decode cX1_read 51 = .ok (.invokeinterface 358 1, 5) := by decide +kernel
theorem dX1_read_56 : decode cX1_read 56 = .ok (.checkcast 453, 3) := dk_192 1 197 (dk_at dksX1_read_2 14 rfl rfl)
theorem dX1_read_59 : decode cX1_read 59 = .ok (.astore 4, 2) := dk_58 4 (dk_at dksX1_read_2 17 rfl rfl)
theorem dX1_read_61 : decode cX1_read 61 = .ok (.aload 4, 2) := dk_25 4 (dk_at dksX1_read_2 19 rfl rfl)
theorem dX1_read_63 : decode cX1_read 63 = .ok (.aload_n 2, 1) := dk_44 (dk_at dksX1_read_2 21 rfl rfl)
theorem dX1_read_64 : decode cX1_read 64 = .ok (.invokevirtual 455, 3) := dk_182 1 199 (dk_at dksX1_read_3 0 rfl rfl)
theorem dX1_read_67 : decode cX1_read 67 = .ok (.istore 5, 2) := dk_54 5 (dk_at dksX1_read_3 3 rfl rfl)
theorem dX1_read_69 : decode cX1_read 69 = .ok (.goto (-28), 3) := dk_167 255 228 (dk_at dksX1_read_3 5 rfl rfl)
theorem dX1_read_72 : decode cX1_read 72 = .ok (.aload_n 0, 1) := dk_42 (dk_at dksX1_read_3 8 rfl rfl)
theorem dX1_read_73 : decode cX1_read 73 = .ok (.aload_n 2, 1) := dk_44 (dk_at dksX1_read_3 9 rfl rfl)
theorem dX1_read_74 : decode cX1_read 74 = .ok (.aload_n 1, 1) := dk_43 (dk_at dksX1_read_3 10 rfl rfl)
theorem dX1_read_75 : decode cX1_read 75 = .ok (.getfield 450, 3) := dk_180 1 194 (dk_at dksX1_read_3 11 rfl rfl)
theorem dX1_read_78 : decode cX1_read 78 = .ok (.invokevirtual 58, 3) := dk_182 0 58 (dk_at dksX1_read_3 14 rfl rfl)
theorem dX1_read_81 : decode cX1_read 81 = .ok (.invokevirtual 125, 3) := dk_182 0 125 (dk_at dksX1_read_3 17 rfl rfl)
theorem dX1_read_84 : decode cX1_read 84 = .ok (.ireturn, 1) := dk_172 (dk_at dksX1_read_3 20 rfl rfl)
theorem dX1_read_85 : decode cX1_read 85 = .ok (.astore_n 2, 1) := dk_77 (dk_at dksX1_read_3 21 rfl rfl)
theorem dX1_read_86 : decode cX1_read 86 = .ok (.aload_n 0, 1) := dk_42 (dk_at dksX1_read_3 22 rfl rfl)
theorem dX1_read_87 : decode cX1_read 87 = .ok (.aload_n 2, 1) := dk_44 (dk_at dksX1_read_3 23 rfl rfl)
theorem dX1_read_88 : decode cX1_read 88 = .ok (.putfield 461, 3) := dk_181 1 205 (dk_at dksX1_read_4 0 rfl rfl)
theorem dX1_read_91 : decode cX1_read 91 = .ok (.new 7, 3) := dk_187 0 7 (dk_at dksX1_read_4 3 rfl rfl)
theorem dX1_read_94 : decode cX1_read 94 = .ok (.dup, 1) := dk_89 (dk_at dksX1_read_4 6 rfl rfl)
theorem dX1_read_95 : decode cX1_read 95 = .ok (.invokespecial 9, 3) := dk_183 0 9 (dk_at dksX1_read_4 7 rfl rfl)
theorem dX1_read_98 : decode cX1_read 98 = .ok (.athrow, 1) := dk_191 (dk_at dksX1_read_4 10 rfl rfl)
theorem dX1_read_99 : decode cX1_read 99 = .ok (.astore_n 2, 1) := dk_77 (dk_at dksX1_read_4 11 rfl rfl)
theorem dX1_read_100 : decode cX1_read 100 = .ok (.aload_n 0, 1) := dk_42 (dk_at dksX1_read_4 12 rfl rfl)
theorem dX1_read_101 : decode cX1_read 101 = .ok (.aload_n 2, 1) := dk_44 (dk_at dksX1_read_4 13 rfl rfl)
theorem dX1_read_102 : decode cX1_read 102 = .ok (.invokevirtual 129, 3) := dk_182 0 129 (dk_at dksX1_read_4 14 rfl rfl)
theorem dX1_read_105 : decode cX1_read 105 = .ok (.athrow, 1) := dk_191 (dk_at dksX1_read_4 17 rfl rfl)
abbrev cX1_errorPosition : ByteArray := prog_1_method_56_code
def yX1_errorPosition : MethodName := ⟨RX1, "errorPosition", "()I"⟩
def dkwX1_errorPosition_0 : List UInt8 := [42, 180, 1, 205, 198, 0, 7, 4, 167, 0, 4, 3, 184, 0, 215, 42, 180, 1, 205, 180, 1, 209, 172]
abbrev dktX1_errorPosition_0 : List UInt8 := dkwX1_errorPosition_0 ++ []
theorem dksX1_errorPosition_0 : cX1_errorPosition.data.toList.drop 0 = dktX1_errorPosition_0 := by decide +kernel
theorem dX1_errorPosition_0 : decode cX1_errorPosition 0 = .ok (.aload_n 0, 1) := dk_42 (dk_at dksX1_errorPosition_0 0 rfl rfl)
theorem dX1_errorPosition_1 : decode cX1_errorPosition 1 = .ok (.getfield 461, 3) := dk_180 1 205 (dk_at dksX1_errorPosition_0 1 rfl rfl)
theorem dX1_errorPosition_4 : decode cX1_errorPosition 4 = .ok (.ifnull 7, 3) := dk_198 0 7 (dk_at dksX1_errorPosition_0 4 rfl rfl)
theorem dX1_errorPosition_7 : decode cX1_errorPosition 7 = .ok (.iconst 1, 1) := dk_4 (dk_at dksX1_errorPosition_0 7 rfl rfl)
theorem dX1_errorPosition_8 : decode cX1_errorPosition 8 = .ok (.goto 4, 3) := dk_167 0 4 (dk_at dksX1_errorPosition_0 8 rfl rfl)
theorem dX1_errorPosition_11 : decode cX1_errorPosition 11 = .ok (.iconst 0, 1) := dk_3 (dk_at dksX1_errorPosition_0 11 rfl rfl)
theorem dX1_errorPosition_12 : decode cX1_errorPosition 12 = .ok (.invokestatic 215, 3) := dk_184 0 215 (dk_at dksX1_errorPosition_0 12 rfl rfl)
theorem dX1_errorPosition_15 : decode cX1_errorPosition 15 = .ok (.aload_n 0, 1) := dk_42 (dk_at dksX1_errorPosition_0 15 rfl rfl)
theorem dX1_errorPosition_16 : decode cX1_errorPosition 16 = .ok (.getfield 461, 3) := dk_180 1 205 (dk_at dksX1_errorPosition_0 16 rfl rfl)
theorem dX1_errorPosition_19 : decode cX1_errorPosition 19 = .ok (.getfield 465, 3) := dk_180 1 209 (dk_at dksX1_errorPosition_0 19 rfl rfl)
theorem dX1_errorPosition_22 : decode cX1_errorPosition 22 = .ok (.ireturn, 1) := dk_172 (dk_at dksX1_errorPosition_0 22 rfl rfl)
abbrev cX1_reason : ByteArray := prog_1_method_57_code
def yX1_reason : MethodName := ⟨RX1, "reason", "(Z)I"⟩
def dkwX1_reason_1 : List UInt8 := [180, 1, 212, 167, 0, 10, 42, 180, 0, 70, 180, 1, 215, 172]
abbrev dktX1_reason_1 : List UInt8 := dkwX1_reason_1 ++ []
def dkwX1_reason_0 : List UInt8 := [42, 180, 0, 70, 198, 0, 7, 4, 167, 0, 4, 3, 184, 0, 215, 27, 153, 0, 13, 42, 180, 0, 70]
abbrev dktX1_reason_0 : List UInt8 := dkwX1_reason_0 ++ dktX1_reason_1
theorem dksX1_reason_0 : cX1_reason.data.toList.drop 0 = dktX1_reason_0 := by decide +kernel
theorem dksX1_reason_1 : cX1_reason.data.toList.drop 23 = dktX1_reason_1 := dk_seg dksX1_reason_0 23 rfl rfl
theorem dX1_reason_0 : decode cX1_reason 0 = .ok (.aload_n 0, 1) := dk_42 (dk_at dksX1_reason_0 0 rfl rfl)
theorem dX1_reason_1 : decode cX1_reason 1 = .ok (.getfield 70, 3) := dk_180 0 70 (dk_at dksX1_reason_0 1 rfl rfl)
theorem dX1_reason_4 : decode cX1_reason 4 = .ok (.ifnull 7, 3) := dk_198 0 7 (dk_at dksX1_reason_0 4 rfl rfl)
theorem dX1_reason_7 : decode cX1_reason 7 = .ok (.iconst 1, 1) := dk_4 (dk_at dksX1_reason_0 7 rfl rfl)
theorem dX1_reason_8 : decode cX1_reason 8 = .ok (.goto 4, 3) := dk_167 0 4 (dk_at dksX1_reason_0 8 rfl rfl)
theorem dX1_reason_11 : decode cX1_reason 11 = .ok (.iconst 0, 1) := dk_3 (dk_at dksX1_reason_0 11 rfl rfl)
theorem dX1_reason_12 : decode cX1_reason 12 = .ok (.invokestatic 215, 3) := dk_184 0 215 (dk_at dksX1_reason_0 12 rfl rfl)
theorem dX1_reason_15 : decode cX1_reason 15 = .ok (.iload_n 1, 1) := dk_27 (dk_at dksX1_reason_0 15 rfl rfl)
theorem dX1_reason_16 : decode cX1_reason 16 = .ok (.ifCond .eq 13, 3) := dk_153 0 13 (dk_at dksX1_reason_0 16 rfl rfl)
theorem dX1_reason_19 : decode cX1_reason 19 = .ok (.aload_n 0, 1) := dk_42 (dk_at dksX1_reason_0 19 rfl rfl)
theorem dX1_reason_20 : decode cX1_reason 20 = .ok (.getfield 70, 3) := dk_180 0 70 (dk_at dksX1_reason_0 20 rfl rfl)
theorem dX1_reason_23 : decode cX1_reason 23 = .ok (.getfield 468, 3) := dk_180 1 212 (dk_at dksX1_reason_1 0 rfl rfl)
theorem dX1_reason_26 : decode cX1_reason 26 = .ok (.goto 10, 3) := dk_167 0 10 (dk_at dksX1_reason_1 3 rfl rfl)
theorem dX1_reason_29 : decode cX1_reason 29 = .ok (.aload_n 0, 1) := dk_42 (dk_at dksX1_reason_1 6 rfl rfl)
theorem dX1_reason_30 : decode cX1_reason 30 = .ok (.getfield 70, 3) := dk_180 0 70 (dk_at dksX1_reason_1 7 rfl rfl)
theorem dX1_reason_33 : decode cX1_reason 33 = .ok (.getfield 471, 3) := dk_180 1 215 (dk_at dksX1_reason_1 10 rfl rfl)
theorem dX1_reason_36 : decode cX1_reason 36 = .ok (.ireturn, 1) := dk_172 (dk_at dksX1_reason_1 13 rfl rfl)
abbrev cX1_undo : ByteArray := prog_1_method_58_code
def yX1_undo : MethodName := ⟨RX1, "undo", "()I"⟩
def dkwX1_undo_2 : List UInt8 := [172]
abbrev dktX1_undo_2 : List UInt8 := dkwX1_undo_2 ++ []
def dkwX1_undo_1 : List UInt8 := [180, 0, 43, 182, 0, 58, 4, 100, 182, 0, 62, 192, 0, 33, 181, 0, 36, 42, 180, 0, 43, 182, 0, 58]
abbrev dktX1_undo_1 : List UInt8 := dkwX1_undo_1 ++ dktX1_undo_2
def dkwX1_undo_0 : List UInt8 := [42, 180, 0, 43, 182, 0, 58, 158, 0, 7, 4, 167, 0, 4, 3, 184, 0, 215, 42, 42, 180, 0, 43, 42]
abbrev dktX1_undo_0 : List UInt8 := dkwX1_undo_0 ++ dktX1_undo_1
theorem dksX1_undo_0 : cX1_undo.data.toList.drop 0 = dktX1_undo_0 := by decide +kernel
theorem dksX1_undo_1 : cX1_undo.data.toList.drop 24 = dktX1_undo_1 := dk_seg dksX1_undo_0 24 rfl rfl
theorem dksX1_undo_2 : cX1_undo.data.toList.drop 48 = dktX1_undo_2 := dk_seg dksX1_undo_1 24 rfl rfl
theorem dX1_undo_0 : decode cX1_undo 0 = .ok (.aload_n 0, 1) := dk_42 (dk_at dksX1_undo_0 0 rfl rfl)
theorem dX1_undo_1 : decode cX1_undo 1 = .ok (.getfield 43, 3) := dk_180 0 43 (dk_at dksX1_undo_0 1 rfl rfl)
theorem dX1_undo_4 : decode cX1_undo 4 = .ok (.invokevirtual 58, 3) := dk_182 0 58 (dk_at dksX1_undo_0 4 rfl rfl)
theorem dX1_undo_7 : decode cX1_undo 7 = .ok (.ifCond .le 7, 3) := dk_158 0 7 (dk_at dksX1_undo_0 7 rfl rfl)
theorem dX1_undo_10 : decode cX1_undo 10 = .ok (.iconst 1, 1) := dk_4 (dk_at dksX1_undo_0 10 rfl rfl)
theorem dX1_undo_11 : decode cX1_undo 11 = .ok (.goto 4, 3) := dk_167 0 4 (dk_at dksX1_undo_0 11 rfl rfl)
theorem dX1_undo_14 : decode cX1_undo 14 = .ok (.iconst 0, 1) := dk_3 (dk_at dksX1_undo_0 14 rfl rfl)
theorem dX1_undo_15 : decode cX1_undo 15 = .ok (.invokestatic 215, 3) := dk_184 0 215 (dk_at dksX1_undo_0 15 rfl rfl)
theorem dX1_undo_18 : decode cX1_undo 18 = .ok (.aload_n 0, 1) := dk_42 (dk_at dksX1_undo_0 18 rfl rfl)
theorem dX1_undo_19 : decode cX1_undo 19 = .ok (.aload_n 0, 1) := dk_42 (dk_at dksX1_undo_0 19 rfl rfl)
theorem dX1_undo_20 : decode cX1_undo 20 = .ok (.getfield 43, 3) := dk_180 0 43 (dk_at dksX1_undo_0 20 rfl rfl)
theorem dX1_undo_23 : decode cX1_undo 23 = .ok (.aload_n 0, 1) := dk_42 (dk_at dksX1_undo_0 23 rfl rfl)
theorem dX1_undo_24 : decode cX1_undo 24 = .ok (.getfield 43, 3) := dk_180 0 43 (dk_at dksX1_undo_1 0 rfl rfl)
theorem dX1_undo_27 : decode cX1_undo 27 = .ok (.invokevirtual 58, 3) := dk_182 0 58 (dk_at dksX1_undo_1 3 rfl rfl)
theorem dX1_undo_30 : decode cX1_undo 30 = .ok (.iconst 1, 1) := dk_4 (dk_at dksX1_undo_1 6 rfl rfl)
theorem dX1_undo_31 : decode cX1_undo 31 = .ok (.isub, 1) := dk_100 (dk_at dksX1_undo_1 7 rfl rfl)
theorem dX1_undo_32 : decode cX1_undo 32 = .ok (.invokevirtual 62, 3) := dk_182 0 62 (dk_at dksX1_undo_1 8 rfl rfl)
theorem dX1_undo_35 : decode cX1_undo 35 = .ok (.checkcast 33, 3) := dk_192 0 33 (dk_at dksX1_undo_1 11 rfl rfl)
theorem dX1_undo_38 : decode cX1_undo 38 = .ok (.putfield 36, 3) := dk_181 0 36 (dk_at dksX1_undo_1 14 rfl rfl)
theorem dX1_undo_41 : decode cX1_undo 41 = .ok (.aload_n 0, 1) := dk_42 (dk_at dksX1_undo_1 17 rfl rfl)
theorem dX1_undo_42 : decode cX1_undo 42 = .ok (.getfield 43, 3) := dk_180 0 43 (dk_at dksX1_undo_1 18 rfl rfl)
theorem dX1_undo_45 : decode cX1_undo 45 = .ok (.invokevirtual 58, 3) := dk_182 0 58 (dk_at dksX1_undo_1 21 rfl rfl)
theorem dX1_undo_48 : decode cX1_undo 48 = .ok (.ireturn, 1) := dk_172 (dk_at dksX1_undo_2 0 rfl rfl)
abbrev cX1_restore : ByteArray := prog_1_method_60_code
def yX1_restore : MethodName := ⟨RX1, "restore", "()I"⟩
def dkwX1_restore_1 : List UInt8 := [181, 0, 36, 42, 180, 0, 43, 182, 1, 221, 42, 180, 0, 36, 180, 0, 109, 182, 0, 58, 172]
abbrev dktX1_restore_1 : List UInt8 := dkwX1_restore_1 ++ []
def dkwX1_restore_0 : List UInt8 := [42, 180, 1, 218, 198, 0, 7, 4, 167, 0, 4, 3, 184, 1, 183, 42, 42, 180, 1, 218, 182, 0, 117]
abbrev dktX1_restore_0 : List UInt8 := dkwX1_restore_0 ++ dktX1_restore_1
theorem dksX1_restore_0 : cX1_restore.data.toList.drop 0 = dktX1_restore_0 := by decide +kernel
theorem dksX1_restore_1 : cX1_restore.data.toList.drop 23 = dktX1_restore_1 := dk_seg dksX1_restore_0 23 rfl rfl
theorem dX1_restore_0 : decode cX1_restore 0 = .ok (.aload_n 0, 1) := dk_42 (dk_at dksX1_restore_0 0 rfl rfl)
theorem dX1_restore_1 : decode cX1_restore 1 = .ok (.getfield 474, 3) := dk_180 1 218 (dk_at dksX1_restore_0 1 rfl rfl)
theorem dX1_restore_4 : decode cX1_restore 4 = .ok (.ifnull 7, 3) := dk_198 0 7 (dk_at dksX1_restore_0 4 rfl rfl)
theorem dX1_restore_7 : decode cX1_restore 7 = .ok (.iconst 1, 1) := dk_4 (dk_at dksX1_restore_0 7 rfl rfl)
theorem dX1_restore_8 : decode cX1_restore 8 = .ok (.goto 4, 3) := dk_167 0 4 (dk_at dksX1_restore_0 8 rfl rfl)
theorem dX1_restore_11 : decode cX1_restore 11 = .ok (.iconst 0, 1) := dk_3 (dk_at dksX1_restore_0 11 rfl rfl)
theorem dX1_restore_12 : decode cX1_restore 12 = .ok (.invokestatic 439, 3) := dk_184 1 183 (dk_at dksX1_restore_0 12 rfl rfl)
theorem dX1_restore_15 : decode cX1_restore 15 = .ok (.aload_n 0, 1) := dk_42 (dk_at dksX1_restore_0 15 rfl rfl)
theorem dX1_restore_16 : decode cX1_restore 16 = .ok (.aload_n 0, 1) := dk_42 (dk_at dksX1_restore_0 16 rfl rfl)
theorem dX1_restore_17 : decode cX1_restore 17 = .ok (.getfield 474, 3) := dk_180 1 218 (dk_at dksX1_restore_0 17 rfl rfl)
theorem dX1_restore_20 : decode cX1_restore 20 = .ok (.invokevirtual 117, 3) := dk_182 0 117 (dk_at dksX1_restore_0 20 rfl rfl)
theorem dX1_restore_23 : decode cX1_restore 23 = .ok (.putfield 36, 3) := dk_181 0 36 (dk_at dksX1_restore_1 0 rfl rfl)
theorem dX1_restore_26 : decode cX1_restore 26 = .ok (.aload_n 0, 1) := dk_42 (dk_at dksX1_restore_1 3 rfl rfl)
theorem dX1_restore_27 : decode cX1_restore 27 = .ok (.getfield 43, 3) := dk_180 0 43 (dk_at dksX1_restore_1 4 rfl rfl)
theorem dX1_restore_30 : decode cX1_restore 30 = .ok (.invokevirtual 477, 3) := dk_182 1 221 (dk_at dksX1_restore_1 7 rfl rfl)
theorem dX1_restore_33 : decode cX1_restore 33 = .ok (.aload_n 0, 1) := dk_42 (dk_at dksX1_restore_1 10 rfl rfl)
theorem dX1_restore_34 : decode cX1_restore 34 = .ok (.getfield 36, 3) := dk_180 0 36 (dk_at dksX1_restore_1 11 rfl rfl)
theorem dX1_restore_37 : decode cX1_restore 37 = .ok (.getfield 109, 3) := dk_180 0 109 (dk_at dksX1_restore_1 14 rfl rfl)
theorem dX1_restore_40 : decode cX1_restore 40 = .ok (.invokevirtual 58, 3) := dk_182 0 58 (dk_at dksX1_restore_1 17 rfl rfl)
theorem dX1_restore_43 : decode cX1_restore 43 = .ok (.ireturn, 1) := dk_172 (dk_at dksX1_restore_1 20 rfl rfl)
theorem q100 : (Jvm.Cond.initialized "PaperStore") ∈ lw_all := lw_g (lw_at lw_m1 1 rfl) rfl
theorem q174 : (Jvm.Cond.instantiable "PaperStore" (8 : Nat)) ∈ lw_all := lw_g (lw_at lw_m1 75 rfl) rfl
theorem q176 : (Jvm.Cond.instanceMethod ({ cls := "PaperStore", name := "<init>", desc := "()V" } : Jvm.MethodName)) ∈ lw_all := lw_g (lw_at lw_m1 77 rfl) rfl
theorem q177 : (Jvm.Cond.code ({ cls := "PaperStore", name := "<init>", desc := "()V" } : Jvm.MethodName) prog_1_method_11_code (1 : Nat) (Option.none : Option Jvm.ClassFile.FieldType)) ∈ lw_all := lw_g (lw_at lw_m1 78 rfl) rfl
theorem q178 : (Jvm.Cond.methodLink "PaperStore" (30 : Nat) ({ cls := "java/lang/Object", name := "<init>", desc := "()V" } : Jvm.MethodName)) ∈ lw_all := lw_g (lw_at lw_m1 79 rfl) rfl
theorem q181 : (Jvm.Cond.classLink "PaperStore" (33 : Nat) "PaperStore$Store") ∈ lw_all := lw_g (lw_at lw_m1 82 rfl) rfl
theorem q183 : (Jvm.Cond.methodLink "PaperStore" (35 : Nat) ({ cls := "PaperStore$Store", name := "<init>", desc := "()V" } : Jvm.MethodName)) ∈ lw_all := lw_g (lw_at lw_m1 84 rfl) rfl
theorem q275 : (Jvm.Cond.fieldLinkNest "PaperStore" (178 : Nat) "PaperStore$Shelf" "reams" "Ljava/util/ArrayList;" "PaperStore") ∈ lw_tbl := lw_at lw_m1 176 rfl
theorem q281 : (Jvm.Cond.fieldLinkNest "PaperStore" (172 : Nat) "PaperStore$Aisle" "shelves" "[LPaperStore$Shelf;" "PaperStore") ∈ lw_tbl := lw_at lw_m1 182 rfl
theorem q284 : (Jvm.Cond.fieldLinkNest "PaperStore" (225 : Nat) "PaperStore$Aisle" "damp" "I" "PaperStore") ∈ lw_tbl := lw_at lw_m1 185 rfl
theorem q287 : (Jvm.Cond.fieldLinkNest "PaperStore" (243 : Nat) "PaperStore$Aisle" "mice" "I" "PaperStore") ∈ lw_tbl := lw_at lw_m1 188 rfl
theorem q290 : (Jvm.Cond.fieldLinkNest "PaperStore" (245 : Nat) "PaperStore$Aisle" "traps" "I" "PaperStore") ∈ lw_tbl := lw_at lw_m1 191 rfl
theorem q293 : (Jvm.Cond.fieldLinkNest "PaperStore" (258 : Nat) "PaperStore$Aisle" "eaten" "I" "PaperStore") ∈ lw_tbl := lw_at lw_m1 194 rfl
theorem q296 : (Jvm.Cond.fieldLinkNest "PaperStore" (259 : Nat) "PaperStore$Aisle" "caught" "I" "PaperStore") ∈ lw_tbl := lw_at lw_m1 197 rfl
theorem q311 : (Jvm.Cond.fieldLinkNest "PaperStore" (168 : Nat) "PaperStore$Store" "aisles" "[LPaperStore$Aisle;" "PaperStore") ∈ lw_tbl := lw_at lw_m1 212 rfl
theorem q313 : (Jvm.Cond.fieldLinkNest "PaperStore" (85 : Nat) "PaperStore$Store" "ladders" "Ljava/util/ArrayList;" "PaperStore") ∈ lw_tbl := lw_at lw_m1 214 rfl
theorem q315 : (Jvm.Cond.fieldLinkNest "PaperStore" (96 : Nat) "PaperStore$Store" "orders" "Ljava/util/ArrayList;" "PaperStore") ∈ lw_tbl := lw_at lw_m1 216 rfl
theorem q317 : (Jvm.Cond.fieldLinkNest "PaperStore" (104 : Nat) "PaperStore$Store" "carts" "Ljava/util/ArrayList;" "PaperStore") ∈ lw_tbl := lw_at lw_m1 218 rfl
theorem q319 : (Jvm.Cond.fieldLinkNest "PaperStore" (109 : Nat) "PaperStore$Store" "reams" "Ljava/util/ArrayList;" "PaperStore") ∈ lw_tbl := lw_at lw_m1 220 rfl
theorem q321 : (Jvm.Cond.fieldLinkNest "PaperStore" (324 : Nat) "PaperStore$Store" "sent" "Ljava/util/HashMap;" "PaperStore") ∈ lw_tbl := lw_at lw_m1 222 rfl
theorem q323 : (Jvm.Cond.fieldLinkNest "PaperStore" (421 : Nat) "PaperStore$Store" "quiresSent" "I" "PaperStore") ∈ lw_tbl := lw_at lw_m1 224 rfl
theorem q325 : (Jvm.Cond.fieldLinkNest "PaperStore" (424 : Nat) "PaperStore$Store" "lost" "I" "PaperStore") ∈ lw_tbl := lw_at lw_m1 226 rfl
theorem q327 : (Jvm.Cond.fieldLinkNest "PaperStore" (430 : Nat) "PaperStore$Store" "coins" "I" "PaperStore") ∈ lw_tbl := lw_at lw_m1 228 rfl
theorem q329 : (Jvm.Cond.fieldLinkNest "PaperStore" (433 : Nat) "PaperStore$Store" "day" "I" "PaperStore") ∈ lw_tbl := lw_at lw_m1 230 rfl
theorem q351 : (Jvm.Cond.classLink "PaperStore" (40 : Nat) "java/util/ArrayList") ∈ lw_all := lw_g (lw_at lw_m2 12 rfl) rfl
theorem q352 : (Jvm.Cond.methodLink "PaperStore" (42 : Nat) ({ cls := "java/util/ArrayList", name := "<init>", desc := "()V" } : Jvm.MethodName)) ∈ lw_all := lw_g (lw_at lw_m2 13 rfl) rfl
theorem q353 : (Jvm.Cond.classLink "PaperStore" (51 : Nat) "java/lang/StringBuilder") ∈ lw_all := lw_g (lw_at lw_m2 14 rfl) rfl
theorem q355 : (Jvm.Cond.methodLink "PaperStore" (53 : Nat) ({ cls := "java/lang/StringBuilder", name := "<init>", desc := "()V" } : Jvm.MethodName)) ∈ lw_all := lw_g (lw_at lw_m2 16 rfl) rfl
theorem q387 : (Jvm.Cond.fieldLink "PaperStore" (36 : Nat) "PaperStore" "store" "LPaperStore$Store;") ∈ lw_all := lw_g (lw_at lw_m2 48 rfl) rfl
theorem q388 : (Jvm.Cond.fieldLink "PaperStore" (474 : Nat) "PaperStore" "saved" "LPaperStore$Store;") ∈ lw_all := lw_g (lw_at lw_m2 49 rfl) rfl
theorem q389 : (Jvm.Cond.fieldLink "PaperStore" (43 : Nat) "PaperStore" "history" "Ljava/util/ArrayList;") ∈ lw_all := lw_g (lw_at lw_m2 50 rfl) rfl
theorem q390 : (Jvm.Cond.fieldLink "PaperStore" (47 : Nat) "PaperStore" "input" "[C") ∈ lw_all := lw_g (lw_at lw_m2 51 rfl) rfl
theorem q391 : (Jvm.Cond.fieldLink "PaperStore" (54 : Nat) "PaperStore" "line" "Ljava/lang/StringBuilder;") ∈ lw_all := lw_g (lw_at lw_m2 52 rfl) rfl
theorem q392 : (Jvm.Cond.fieldLink "PaperStore" (436 : Nat) "PaperStore" "typed" "I") ∈ lw_all := lw_g (lw_at lw_m2 53 rfl) rfl
theorem q393 : (Jvm.Cond.fieldLink "PaperStore" (461 : Nat) "PaperStore" "badText" "LPaperStore$BadText;") ∈ lw_all := lw_g (lw_at lw_m2 54 rfl) rfl
theorem q394 : (Jvm.Cond.fieldLink "PaperStore" (70 : Nat) "PaperStore" "refusal" "LPaperStore$Refusal;") ∈ lw_all := lw_g (lw_at lw_m2 55 rfl) rfl
theorem q395 : (Jvm.Cond.lays "PaperStore" "PaperStore" "store" "LPaperStore$Store;") ∈ lw_all := lw_g (lw_at lw_m2 56 rfl) rfl
theorem q396 : (Jvm.Cond.soleField "PaperStore" "store") ∈ lw_all := lw_g (lw_at lw_m2 57 rfl) rfl
theorem q397 : (Jvm.Cond.lays "PaperStore" "PaperStore" "saved" "LPaperStore$Store;") ∈ lw_all := lw_g (lw_at lw_m2 58 rfl) rfl
theorem q398 : (Jvm.Cond.soleField "PaperStore" "saved") ∈ lw_all := lw_g (lw_at lw_m2 59 rfl) rfl
theorem q399 : (Jvm.Cond.laysFinal "PaperStore" "PaperStore" "history" "Ljava/util/ArrayList;") ∈ lw_all := lw_g (lw_at lw_m2 60 rfl) rfl
theorem q400 : (Jvm.Cond.soleField "PaperStore" "history") ∈ lw_all := lw_g (lw_at lw_m2 61 rfl) rfl
theorem q401 : (Jvm.Cond.laysFinal "PaperStore" "PaperStore" "input" "[C") ∈ lw_all := lw_g (lw_at lw_m2 62 rfl) rfl
theorem q402 : (Jvm.Cond.soleField "PaperStore" "input") ∈ lw_all := lw_g (lw_at lw_m2 63 rfl) rfl
theorem q403 : (Jvm.Cond.laysFinal "PaperStore" "PaperStore" "line" "Ljava/lang/StringBuilder;") ∈ lw_all := lw_g (lw_at lw_m2 64 rfl) rfl
theorem q404 : (Jvm.Cond.soleField "PaperStore" "line") ∈ lw_all := lw_g (lw_at lw_m2 65 rfl) rfl
theorem q405 : (Jvm.Cond.lays "PaperStore" "PaperStore" "typed" "I") ∈ lw_all := lw_g (lw_at lw_m2 66 rfl) rfl
theorem q406 : (Jvm.Cond.soleField "PaperStore" "typed") ∈ lw_all := lw_g (lw_at lw_m2 67 rfl) rfl
theorem q407 : (Jvm.Cond.lays "PaperStore" "PaperStore" "badText" "LPaperStore$BadText;") ∈ lw_all := lw_g (lw_at lw_m2 68 rfl) rfl
theorem q408 : (Jvm.Cond.soleField "PaperStore" "badText") ∈ lw_all := lw_g (lw_at lw_m2 69 rfl) rfl
theorem q409 : (Jvm.Cond.lays "PaperStore" "PaperStore" "refusal" "LPaperStore$Refusal;") ∈ lw_all := lw_g (lw_at lw_m2 70 rfl) rfl
theorem q410 : (Jvm.Cond.soleField "PaperStore" "refusal") ∈ lw_all := lw_g (lw_at lw_m2 71 rfl) rfl
theorem q411 : (Jvm.Cond.superclass "PaperStore" "java/lang/Object") ∈ lw_all := lw_g (lw_at lw_m2 72 rfl) rfl
theorem q413 : (Jvm.Cond.instanceMethod ({ cls := "PaperStore", name := "papers", desc := "()I" } : Jvm.MethodName)) ∈ lw_all := lw_g (lw_at lw_m2 74 rfl) rfl
theorem q414 : (Jvm.Cond.selects "PaperStore" ({ cls := "PaperStore", name := "papers", desc := "()I" } : Jvm.MethodName) ({ cls := "PaperStore", name := "papers", desc := "()I" } : Jvm.MethodName)) ∈ lw_all := lw_g (lw_at lw_m2 75 rfl) rfl
theorem q415 : (Jvm.Cond.code ({ cls := "PaperStore", name := "papers", desc := "()I" } : Jvm.MethodName) prog_1_method_44_code (4 : Nat) (Option.some Jvm.ClassFile.FieldType.int)) ∈ lw_all := lw_g (lw_at lw_m2 76 rfl) rfl
theorem q416 : (Jvm.Cond.classLink "PaperStore" (341 : Nat) "java/util/BitSet") ∈ lw_all := lw_g (lw_at lw_m2 77 rfl) rfl
theorem q418 : (Jvm.Cond.methodLink "PaperStore" (343 : Nat) ({ cls := "java/util/BitSet", name := "<init>", desc := "(I)V" } : Jvm.MethodName)) ∈ lw_all := lw_g (lw_at lw_m2 79 rfl) rfl
theorem q440 : (Jvm.Cond.methodLink "PaperStore" (346 : Nat) ({ cls := "PaperStore$Store", name := "lying", desc := "()Ljava/util/List;" } : Jvm.MethodName)) ∈ lw_all := lw_g (lw_at lw_m2 101 rfl) rfl
theorem q470 : (Jvm.Cond.selects "PaperStore" ({ cls := "java/lang/Object", name := "getClass", desc := "()Ljava/lang/Class;" } : Jvm.MethodName) ({ cls := "java/lang/Object", name := "getClass", desc := "()Ljava/lang/Class;" } : Jvm.MethodName)) ∈ lw_all := lw_g (lw_at lw_m2 131 rfl) rfl
theorem q1167 : (Jvm.Cond.interfaceEntry "PaperStore" (349 : Nat)) ∈ lw_tbl := lw_at lw_m5 108 rfl
theorem q1168 : (Jvm.Cond.methodLink "PaperStore" (349 : Nat) ({ cls := "java/util/List", name := "iterator", desc := "()Ljava/util/Iterator;" } : Jvm.MethodName)) ∈ lw_all := lw_g (lw_at lw_m5 109 rfl) rfl
theorem q1179 : (Jvm.Cond.interfaceEntry "PaperStore" (353 : Nat)) ∈ lw_tbl := lw_at lw_m5 120 rfl
theorem q1180 : (Jvm.Cond.methodLink "PaperStore" (353 : Nat) ({ cls := "java/util/Iterator", name := "hasNext", desc := "()Z" } : Jvm.MethodName)) ∈ lw_all := lw_g (lw_at lw_m5 121 rfl) rfl
theorem q1181 : (Jvm.Cond.interfaceEntry "PaperStore" (358 : Nat)) ∈ lw_tbl := lw_at lw_m5 122 rfl
theorem q1182 : (Jvm.Cond.methodLink "PaperStore" (358 : Nat) ({ cls := "java/util/Iterator", name := "next", desc := "()Ljava/lang/Object;" } : Jvm.MethodName)) ∈ lw_all := lw_g (lw_at lw_m5 123 rfl) rfl
theorem q1183 : (Jvm.Cond.classLink "PaperStore" (112 : Nat) "PaperStore$Ream") ∈ lw_all := lw_g (lw_at lw_m5 124 rfl) rfl
theorem q1184 : (Jvm.Cond.methodLink "PaperStore" (362 : Nat) ({ cls := "PaperStore$Paper", name := "number", desc := "()I" } : Jvm.MethodName)) ∈ lw_all := lw_g (lw_at lw_m5 125 rfl) rfl
theorem q1188 : (Jvm.Cond.methodLink "PaperStore" (364 : Nat) ({ cls := "java/util/BitSet", name := "set", desc := "(I)V" } : Jvm.MethodName)) ∈ lw_all := lw_g (lw_at lw_m5 129 rfl) rfl
theorem q1223 : (Jvm.Cond.methodLink "PaperStore" (367 : Nat) ({ cls := "java/util/BitSet", name := "nextSetBit", desc := "(I)I" } : Jvm.MethodName)) ∈ lw_all := lw_g (lw_at lw_m5 164 rfl) rfl
theorem q1237 : (Jvm.Cond.instanceMethod ({ cls := "PaperStore", name := "quiresAgain", desc := "()I" } : Jvm.MethodName)) ∈ lw_all := lw_g (lw_at lw_m5 178 rfl) rfl
theorem q1238 : (Jvm.Cond.selects "PaperStore" ({ cls := "PaperStore", name := "quiresAgain", desc := "()I" } : Jvm.MethodName) ({ cls := "PaperStore", name := "quiresAgain", desc := "()I" } : Jvm.MethodName)) ∈ lw_all := lw_g (lw_at lw_m5 179 rfl) rfl
theorem q1239 : (Jvm.Cond.code ({ cls := "PaperStore", name := "quiresAgain", desc := "()I" } : Jvm.MethodName) prog_1_method_53_code (1 : Nat) (Option.some Jvm.ClassFile.FieldType.int)) ∈ lw_all := lw_g (lw_at lw_m5 180 rfl) rfl
theorem q1240 : (Jvm.Cond.methodLink "PaperStore" (58 : Nat) ({ cls := "java/util/ArrayList", name := "size", desc := "()I" } : Jvm.MethodName)) ∈ lw_all := lw_g (lw_at lw_m5 181 rfl) rfl
theorem q1241 : (Jvm.Cond.methodLink "PaperStore" (418 : Nat) ({ cls := "PaperStore$Store", name := "onCarts", desc := "()I" } : Jvm.MethodName)) ∈ lw_all := lw_g (lw_at lw_m5 182 rfl) rfl
theorem q1251 : (Jvm.Cond.methodLink "PaperStore" (411 : Nat) ({ cls := "PaperStore$Store", name := "ofAisles", desc := "(I)I" } : Jvm.MethodName)) ∈ lw_all := lw_g (lw_at lw_m5 192 rfl) rfl
theorem q1256 : (Jvm.Cond.instanceMethod ({ cls := "PaperStore", name := "save", desc := "()I" } : Jvm.MethodName)) ∈ lw_all := lw_g (lw_at lw_m5 197 rfl) rfl
theorem q1257 : (Jvm.Cond.selects "PaperStore" ({ cls := "PaperStore", name := "save", desc := "()I" } : Jvm.MethodName) ({ cls := "PaperStore", name := "save", desc := "()I" } : Jvm.MethodName)) ∈ lw_all := lw_g (lw_at lw_m5 198 rfl) rfl
theorem q1258 : (Jvm.Cond.code ({ cls := "PaperStore", name := "save", desc := "()I" } : Jvm.MethodName) prog_1_method_59_code (1 : Nat) (Option.some Jvm.ClassFile.FieldType.int)) ∈ lw_all := lw_g (lw_at lw_m5 199 rfl) rfl
theorem q1259 : (Jvm.Cond.methodLink "PaperStore" (117 : Nat) ({ cls := "PaperStore$Store", name := "copy", desc := "()LPaperStore$Store;" } : Jvm.MethodName)) ∈ lw_all := lw_g (lw_at lw_m5 200 rfl) rfl
theorem q1295 : (Jvm.Cond.fieldLinkNest "PaperStore" (218 : Nat) "PaperStore$Ream" "number" "I" "PaperStore") ∈ lw_tbl := lw_at lw_m5 236 rfl
theorem q1298 : (Jvm.Cond.fieldLinkNest "PaperStore" (189 : Nat) "PaperStore$Ream" "paper" "LPaperStore$Paper;" "PaperStore") ∈ lw_tbl := lw_at lw_m5 239 rfl
theorem q1303 : (Jvm.Cond.fieldLinkNest "PaperStore" (198 : Nat) "PaperStore$Ream" "quires" "I" "PaperStore") ∈ lw_tbl := lw_at lw_m6 4 rfl
theorem q1305 : (Jvm.Cond.fieldLinkNest "PaperStore" (201 : Nat) "PaperStore$Ream" "damp" "I" "PaperStore") ∈ lw_tbl := lw_at lw_m6 6 rfl
theorem q1308 : (Jvm.Cond.fieldLinkNest "PaperStore" (208 : Nat) "PaperStore$Ream" "eaten" "I" "PaperStore") ∈ lw_tbl := lw_at lw_m6 9 rfl
theorem q1347 : (Jvm.Cond.fieldLinkNest "PaperStore" (157 : Nat) "PaperStore$Ladder" "reach" "I" "PaperStore") ∈ lw_tbl := lw_at lw_m6 48 rfl
theorem q1350 : (Jvm.Cond.fieldLinkNest "PaperStore" (161 : Nat) "PaperStore$Ladder" "aisle" "I" "PaperStore") ∈ lw_tbl := lw_at lw_m6 51 rfl
theorem q1370 : (Jvm.Cond.fieldLinkNest "PaperStore" (296 : Nat) "PaperStore$Order" "paper" "LPaperStore$Paper;" "PaperStore") ∈ lw_tbl := lw_at lw_m6 71 rfl
theorem q1373 : (Jvm.Cond.fieldLinkNest "PaperStore" (297 : Nat) "PaperStore$Order" "quires" "I" "PaperStore") ∈ lw_tbl := lw_at lw_m6 74 rfl
theorem q1376 : (Jvm.Cond.fieldLinkNest "PaperStore" (298 : Nat) "PaperStore$Order" "state" "I" "PaperStore") ∈ lw_tbl := lw_at lw_m6 77 rfl
theorem q1379 : (Jvm.Cond.fieldLinkNest "PaperStore" (301 : Nat) "PaperStore$Order" "has" "I" "PaperStore") ∈ lw_tbl := lw_at lw_m6 80 rfl
theorem q1382 : (Jvm.Cond.fieldLinkNest "PaperStore" (304 : Nat) "PaperStore$Order" "cart" "I" "PaperStore") ∈ lw_tbl := lw_at lw_m6 83 rfl
theorem q1406 : (Jvm.Cond.fieldLinkNest "PaperStore" (313 : Nat) "PaperStore$Cart" "room" "I" "PaperStore") ∈ lw_tbl := lw_at lw_m6 107 rfl
theorem q1409 : (Jvm.Cond.fieldLinkNest "PaperStore" (316 : Nat) "PaperStore$Cart" "quires" "I" "PaperStore") ∈ lw_tbl := lw_at lw_m6 110 rfl
theorem q1412 : (Jvm.Cond.fieldLinkNest "PaperStore" (317 : Nat) "PaperStore$Cart" "order" "I" "PaperStore") ∈ lw_tbl := lw_at lw_m6 113 rfl
theorem q1797 : (Jvm.Cond.selects "PaperStore" ({ cls := "java/lang/Object", name := "hashCode", desc := "()I" } : Jvm.MethodName) ({ cls := "java/lang/Object", name := "hashCode", desc := "()I" } : Jvm.MethodName)) ∈ lw_all := lw_g (lw_at lw_m8 18 rfl) rfl
theorem q1904 : (Jvm.Cond.selects "PaperStore" ({ cls := "java/lang/Object", name := "equals", desc := "(Ljava/lang/Object;)Z" } : Jvm.MethodName) ({ cls := "java/lang/Object", name := "equals", desc := "(Ljava/lang/Object;)Z" } : Jvm.MethodName)) ∈ lw_all := lw_g (lw_at lw_m8 125 rfl) rfl
theorem q2020 : (Jvm.Cond.instanceMethod ({ cls := "PaperStore", name := "ladder", desc := "(I)I" } : Jvm.MethodName)) ∈ lw_all := lw_g (lw_at lw_m9 1 rfl) rfl
theorem q2021 : (Jvm.Cond.selects "PaperStore" ({ cls := "PaperStore", name := "ladder", desc := "(I)I" } : Jvm.MethodName) ({ cls := "PaperStore", name := "ladder", desc := "(I)I" } : Jvm.MethodName)) ∈ lw_all := lw_g (lw_at lw_m9 2 rfl) rfl
theorem q2022 : (Jvm.Cond.codeWith ({ cls := "PaperStore", name := "ladder", desc := "(I)I" } : Jvm.MethodName) prog_1_method_18_code (4 : Nat) (Option.some Jvm.ClassFile.FieldType.int) [((18 : Nat), (30 : Nat), (31 : Nat), (25 : Nat))]) ∈ lw_all := lw_g (lw_at lw_m9 3 rfl) rfl
theorem q2023 : (Jvm.Cond.classLink "PaperStore" (25 : Nat) "PaperStore$Refusal") ∈ lw_all := lw_g (lw_at lw_m9 4 rfl) rfl
theorem q2024 : (Jvm.Cond.methodLink "PaperStore" (3 : Nat) ({ cls := "PaperStore", name := "isIn", desc := "(III)Z" } : Jvm.MethodName)) ∈ lw_all := lw_g (lw_at lw_m9 5 rfl) rfl
theorem q2025 : (Jvm.Cond.static ({ cls := "PaperStore", name := "isIn", desc := "(III)Z" } : Jvm.MethodName)) ∈ lw_all := lw_g (lw_at lw_m9 6 rfl) rfl
theorem q2026 : (Jvm.Cond.code ({ cls := "PaperStore", name := "isIn", desc := "(III)Z" } : Jvm.MethodName) prog_1_method_1_code (3 : Nat) (Option.some Jvm.ClassFile.FieldType.boolean)) ∈ lw_all := lw_g (lw_at lw_m9 7 rfl) rfl
theorem q2027 : (Jvm.Cond.methodLink "PaperStore" (114 : Nat) ({ cls := "PaperStore", name := "checkArgument", desc := "(Z)V" } : Jvm.MethodName)) ∈ lw_all := lw_g (lw_at lw_m9 8 rfl) rfl
theorem q2028 : (Jvm.Cond.static ({ cls := "PaperStore", name := "checkArgument", desc := "(Z)V" } : Jvm.MethodName)) ∈ lw_all := lw_g (lw_at lw_m9 9 rfl) rfl
theorem q2029 : (Jvm.Cond.code ({ cls := "PaperStore", name := "checkArgument", desc := "(Z)V" } : Jvm.MethodName) prog_1_method_5_code (1 : Nat) (Option.none : Option Jvm.ClassFile.FieldType)) ∈ lw_all := lw_g (lw_at lw_m9 10 rfl) rfl
theorem q2030 : (Jvm.Cond.classLink "PaperStore" (7 : Nat) "java/lang/IllegalArgumentException") ∈ lw_all := lw_g (lw_at lw_m9 11 rfl) rfl
theorem q2031 : (Jvm.Cond.methodLink "PaperStore" (9 : Nat) ({ cls := "java/lang/IllegalArgumentException", name := "<init>", desc := "()V" } : Jvm.MethodName)) ∈ lw_all := lw_g (lw_at lw_m9 12 rfl) rfl
theorem q2035 : (Jvm.Cond.methodLink "PaperStore" (121 : Nat) ({ cls := "PaperStore$Store", name := "addLadder", desc := "(I)I" } : Jvm.MethodName)) ∈ lw_all := lw_g (lw_at lw_m9 16 rfl) rfl
theorem q2041 : (Jvm.Cond.static ({ cls := "PaperStore", name := "refuse", desc := "(ZII)V" } : Jvm.MethodName)) ∈ lw_all := lw_g (lw_at lw_m9 22 rfl) rfl
theorem q2042 : (Jvm.Cond.code ({ cls := "PaperStore", name := "refuse", desc := "(ZII)V" } : Jvm.MethodName) prog_1_method_10_code (3 : Nat) (Option.none : Option Jvm.ClassFile.FieldType)) ∈ lw_all := lw_g (lw_at lw_m9 23 rfl) rfl
theorem q2051 : (Jvm.Cond.methodLink "PaperStore" (27 : Nat) ({ cls := "PaperStore$Refusal", name := "<init>", desc := "(II)V" } : Jvm.MethodName)) ∈ lw_all := lw_g (lw_at lw_m9 32 rfl) rfl
theorem q2056 : (Jvm.Cond.fieldLinkNest "PaperStore" (471 : Nat) "PaperStore$Refusal" "reason" "I" "PaperStore") ∈ lw_tbl := lw_at lw_m9 37 rfl
theorem q2058 : (Jvm.Cond.fieldLinkNest "PaperStore" (468 : Nat) "PaperStore$Refusal" "detail" "I" "PaperStore") ∈ lw_tbl := lw_at lw_m9 39 rfl
theorem q2070 : (Jvm.Cond.methodLink "PaperStore" (125 : Nat) ({ cls := "PaperStore", name := "become", desc := "(LPaperStore$Store;I)I" } : Jvm.MethodName)) ∈ lw_all := lw_g (lw_at lw_m9 51 rfl) rfl
theorem q2071 : (Jvm.Cond.privateMethod ({ cls := "PaperStore", name := "become", desc := "(LPaperStore$Store;I)I" } : Jvm.MethodName)) ∈ lw_tbl := lw_at lw_m9 52 rfl
theorem q2072 : (Jvm.Cond.instanceMethod ({ cls := "PaperStore", name := "become", desc := "(LPaperStore$Store;I)I" } : Jvm.MethodName)) ∈ lw_all := lw_g (lw_at lw_m9 53 rfl) rfl
theorem q2073 : (Jvm.Cond.code ({ cls := "PaperStore", name := "become", desc := "(LPaperStore$Store;I)I" } : Jvm.MethodName) prog_1_method_12_code (3 : Nat) (Option.some Jvm.ClassFile.FieldType.int)) ∈ lw_all := lw_g (lw_at lw_m9 54 rfl) rfl
theorem q2074 : (Jvm.Cond.methodLink "PaperStore" (62 : Nat) ({ cls := "java/util/ArrayList", name := "remove", desc := "(I)Ljava/lang/Object;" } : Jvm.MethodName)) ∈ lw_all := lw_g (lw_at lw_m9 55 rfl) rfl
theorem q2082 : (Jvm.Cond.methodLink "PaperStore" (66 : Nat) ({ cls := "java/util/ArrayList", name := "add", desc := "(Ljava/lang/Object;)Z" } : Jvm.MethodName)) ∈ lw_all := lw_g (lw_at lw_m9 63 rfl) rfl
theorem q2083 : (Jvm.Cond.methodLink "PaperStore" (129 : Nat) ({ cls := "PaperStore", name := "kept", desc := "(LPaperStore$Refusal;)Ljava/lang/UnsupportedOperationException;" } : Jvm.MethodName)) ∈ lw_all := lw_g (lw_at lw_m9 64 rfl) rfl
theorem q2084 : (Jvm.Cond.privateMethod ({ cls := "PaperStore", name := "kept", desc := "(LPaperStore$Refusal;)Ljava/lang/UnsupportedOperationException;" } : Jvm.MethodName)) ∈ lw_tbl := lw_at lw_m9 65 rfl
theorem q2085 : (Jvm.Cond.instanceMethod ({ cls := "PaperStore", name := "kept", desc := "(LPaperStore$Refusal;)Ljava/lang/UnsupportedOperationException;" } : Jvm.MethodName)) ∈ lw_all := lw_g (lw_at lw_m9 66 rfl) rfl
theorem q2086 : (Jvm.Cond.code ({ cls := "PaperStore", name := "kept", desc := "(LPaperStore$Refusal;)Ljava/lang/UnsupportedOperationException;" } : Jvm.MethodName) prog_1_method_13_code (2 : Nat) (Option.some (Jvm.ClassFile.FieldType.object "java/lang/UnsupportedOperationException"))) ∈ lw_all := lw_g (lw_at lw_m9 67 rfl) rfl
theorem q2087 : (Jvm.Cond.classLink "PaperStore" (74 : Nat) "java/lang/UnsupportedOperationException") ∈ lw_all := lw_g (lw_at lw_m9 68 rfl) rfl
theorem q2096 : (Jvm.Cond.methodLink "PaperStore" (76 : Nat) ({ cls := "java/lang/UnsupportedOperationException", name := "<init>", desc := "()V" } : Jvm.MethodName)) ∈ lw_all := lw_g (lw_at lw_m9 77 rfl) rfl
theorem q2122 : (Jvm.Cond.instanceMethod ({ cls := "PaperStore", name := "push", desc := "(II)I" } : Jvm.MethodName)) ∈ lw_all := lw_g (lw_at lw_m9 103 rfl) rfl
theorem q2123 : (Jvm.Cond.selects "PaperStore" ({ cls := "PaperStore", name := "push", desc := "(II)I" } : Jvm.MethodName) ({ cls := "PaperStore", name := "push", desc := "(II)I" } : Jvm.MethodName)) ∈ lw_all := lw_g (lw_at lw_m9 104 rfl) rfl
theorem q2124 : (Jvm.Cond.codeWith ({ cls := "PaperStore", name := "push", desc := "(II)I" } : Jvm.MethodName) prog_1_method_19_code (6 : Nat) (Option.some Jvm.ClassFile.FieldType.int) [((22 : Nat), (39 : Nat), (40 : Nat), (25 : Nat))]) ∈ lw_all := lw_g (lw_at lw_m9 105 rfl) rfl
theorem q2125 : (Jvm.Cond.methodLink "PaperStore" (133 : Nat) ({ cls := "PaperStore", name := "ladderAt", desc := "(I)LPaperStore$Ladder;" } : Jvm.MethodName)) ∈ lw_all := lw_g (lw_at lw_m9 106 rfl) rfl
theorem q2126 : (Jvm.Cond.privateMethod ({ cls := "PaperStore", name := "ladderAt", desc := "(I)LPaperStore$Ladder;" } : Jvm.MethodName)) ∈ lw_tbl := lw_at lw_m9 107 rfl
theorem q2127 : (Jvm.Cond.instanceMethod ({ cls := "PaperStore", name := "ladderAt", desc := "(I)LPaperStore$Ladder;" } : Jvm.MethodName)) ∈ lw_all := lw_g (lw_at lw_m9 108 rfl) rfl
theorem q2128 : (Jvm.Cond.code ({ cls := "PaperStore", name := "ladderAt", desc := "(I)LPaperStore$Ladder;" } : Jvm.MethodName) prog_1_method_14_code (2 : Nat) (Option.some (Jvm.ClassFile.FieldType.object "PaperStore$Ladder"))) ∈ lw_all := lw_g (lw_at lw_m9 109 rfl) rfl
theorem q2129 : (Jvm.Cond.methodLink "PaperStore" (77 : Nat) ({ cls := "PaperStore$Store", name := "isLadder", desc := "(I)Z" } : Jvm.MethodName)) ∈ lw_all := lw_g (lw_at lw_m9 110 rfl) rfl
theorem q2134 : (Jvm.Cond.methodLink "PaperStore" (81 : Nat) ({ cls := "PaperStore", name := "checkIndex", desc := "(Z)V" } : Jvm.MethodName)) ∈ lw_all := lw_g (lw_at lw_m9 115 rfl) rfl
theorem q2135 : (Jvm.Cond.static ({ cls := "PaperStore", name := "checkIndex", desc := "(Z)V" } : Jvm.MethodName)) ∈ lw_all := lw_g (lw_at lw_m9 116 rfl) rfl
theorem q2136 : (Jvm.Cond.code ({ cls := "PaperStore", name := "checkIndex", desc := "(Z)V" } : Jvm.MethodName) prog_1_method_6_code (1 : Nat) (Option.none : Option Jvm.ClassFile.FieldType)) ∈ lw_all := lw_g (lw_at lw_m9 117 rfl) rfl
theorem q2137 : (Jvm.Cond.classLink "PaperStore" (13 : Nat) "java/lang/IndexOutOfBoundsException") ∈ lw_all := lw_g (lw_at lw_m9 118 rfl) rfl
theorem q2138 : (Jvm.Cond.methodLink "PaperStore" (15 : Nat) ({ cls := "java/lang/IndexOutOfBoundsException", name := "<init>", desc := "()V" } : Jvm.MethodName)) ∈ lw_all := lw_g (lw_at lw_m9 119 rfl) rfl
theorem q2142 : (Jvm.Cond.methodLink "PaperStore" (88 : Nat) ({ cls := "java/util/ArrayList", name := "get", desc := "(I)Ljava/lang/Object;" } : Jvm.MethodName)) ∈ lw_all := lw_g (lw_at lw_m9 123 rfl) rfl
theorem q2143 : (Jvm.Cond.classLink "PaperStore" (91 : Nat) "PaperStore$Ladder") ∈ lw_all := lw_g (lw_at lw_m9 124 rfl) rfl
theorem q2144 : (Jvm.Cond.methodLink "PaperStore" (137 : Nat) ({ cls := "PaperStore", name := "isAisle", desc := "(I)Z" } : Jvm.MethodName)) ∈ lw_all := lw_g (lw_at lw_m9 125 rfl) rfl
theorem q2145 : (Jvm.Cond.static ({ cls := "PaperStore", name := "isAisle", desc := "(I)Z" } : Jvm.MethodName)) ∈ lw_all := lw_g (lw_at lw_m9 126 rfl) rfl
theorem q2146 : (Jvm.Cond.code ({ cls := "PaperStore", name := "isAisle", desc := "(I)Z" } : Jvm.MethodName) prog_1_method_2_code (1 : Nat) (Option.some Jvm.ClassFile.FieldType.boolean)) ∈ lw_all := lw_g (lw_at lw_m9 127 rfl) rfl
theorem q2147 : (Jvm.Cond.methodLink "PaperStore" (140 : Nat) ({ cls := "PaperStore$Store", name := "push", desc := "(II)I" } : Jvm.MethodName)) ∈ lw_all := lw_g (lw_at lw_m9 128 rfl) rfl
theorem q2155 : (Jvm.Cond.instanceMethod ({ cls := "PaperStore", name := "store", desc := "(IIIII)I" } : Jvm.MethodName)) ∈ lw_all := lw_g (lw_at lw_m9 136 rfl) rfl
theorem q2156 : (Jvm.Cond.selects "PaperStore" ({ cls := "PaperStore", name := "store", desc := "(IIIII)I" } : Jvm.MethodName) ({ cls := "PaperStore", name := "store", desc := "(IIIII)I" } : Jvm.MethodName)) ∈ lw_all := lw_g (lw_at lw_m9 137 rfl) rfl
theorem q2157 : (Jvm.Cond.codeWith ({ cls := "PaperStore", name := "store", desc := "(IIIII)I" } : Jvm.MethodName) prog_1_method_20_code (9 : Nat) (Option.some Jvm.ClassFile.FieldType.int) [((51 : Nat), (80 : Nat), (81 : Nat), (25 : Nat))]) ∈ lw_all := lw_g (lw_at lw_m9 138 rfl) rfl
theorem q2158 : (Jvm.Cond.methodLink "PaperStore" (144 : Nat) ({ cls := "PaperStore", name := "isShelf", desc := "(I)Z" } : Jvm.MethodName)) ∈ lw_all := lw_g (lw_at lw_m9 139 rfl) rfl
theorem q2159 : (Jvm.Cond.static ({ cls := "PaperStore", name := "isShelf", desc := "(I)Z" } : Jvm.MethodName)) ∈ lw_all := lw_g (lw_at lw_m9 140 rfl) rfl
theorem q2160 : (Jvm.Cond.code ({ cls := "PaperStore", name := "isShelf", desc := "(I)Z" } : Jvm.MethodName) prog_1_method_3_code (1 : Nat) (Option.some Jvm.ClassFile.FieldType.boolean)) ∈ lw_all := lw_g (lw_at lw_m9 141 rfl) rfl
theorem q2161 : (Jvm.Cond.methodLink "PaperStore" (147 : Nat) ({ cls := "PaperStore", name := "isPaper", desc := "(II)Z" } : Jvm.MethodName)) ∈ lw_all := lw_g (lw_at lw_m9 142 rfl) rfl
theorem q2162 : (Jvm.Cond.static ({ cls := "PaperStore", name := "isPaper", desc := "(II)Z" } : Jvm.MethodName)) ∈ lw_all := lw_g (lw_at lw_m9 143 rfl) rfl
theorem q2163 : (Jvm.Cond.code ({ cls := "PaperStore", name := "isPaper", desc := "(II)Z" } : Jvm.MethodName) prog_1_method_4_code (2 : Nat) (Option.some Jvm.ClassFile.FieldType.boolean)) ∈ lw_all := lw_g (lw_at lw_m9 144 rfl) rfl
theorem q2164 : (Jvm.Cond.classLink "PaperStore" (151 : Nat) "PaperStore$Paper") ∈ lw_all := lw_g (lw_at lw_m9 145 rfl) rfl
theorem q2166 : (Jvm.Cond.methodLink "PaperStore" (153 : Nat) ({ cls := "PaperStore$Paper", name := "<init>", desc := "(II)V" } : Jvm.MethodName)) ∈ lw_all := lw_g (lw_at lw_m9 147 rfl) rfl
theorem q2171 : (Jvm.Cond.fieldLinkNest "PaperStore" (193 : Nat) "PaperStore$Paper" "size" "I" "PaperStore") ∈ lw_tbl := lw_at lw_m9 152 rfl
theorem q2174 : (Jvm.Cond.fieldLinkNest "PaperStore" (195 : Nat) "PaperStore$Paper" "colour" "I" "PaperStore") ∈ lw_tbl := lw_at lw_m9 155 rfl
theorem q2180 : (Jvm.Cond.methodLink "PaperStore" (154 : Nat) ({ cls := "PaperStore$Store", name := "store", desc := "(IILPaperStore$Paper;I)I" } : Jvm.MethodName)) ∈ lw_all := lw_g (lw_at lw_m9 161 rfl) rfl
theorem q2189 : (Jvm.Cond.instanceMethod ({ cls := "PaperStore", name := "ladderOf", desc := "(IZ)I" } : Jvm.MethodName)) ∈ lw_all := lw_g (lw_at lw_m9 170 rfl) rfl
theorem q2190 : (Jvm.Cond.selects "PaperStore" ({ cls := "PaperStore", name := "ladderOf", desc := "(IZ)I" } : Jvm.MethodName) ({ cls := "PaperStore", name := "ladderOf", desc := "(IZ)I" } : Jvm.MethodName)) ∈ lw_all := lw_g (lw_at lw_m9 171 rfl) rfl
theorem q2191 : (Jvm.Cond.code ({ cls := "PaperStore", name := "ladderOf", desc := "(IZ)I" } : Jvm.MethodName) prog_1_method_21_code (4 : Nat) (Option.some Jvm.ClassFile.FieldType.int)) ∈ lw_all := lw_g (lw_at lw_m9 172 rfl) rfl
theorem q2196 : (Jvm.Cond.instanceMethod ({ cls := "PaperStore", name := "reamOf", desc := "(II)I" } : Jvm.MethodName)) ∈ lw_all := lw_g (lw_at lw_m9 177 rfl) rfl
theorem q2197 : (Jvm.Cond.selects "PaperStore" ({ cls := "PaperStore", name := "reamOf", desc := "(II)I" } : Jvm.MethodName) ({ cls := "PaperStore", name := "reamOf", desc := "(II)I" } : Jvm.MethodName)) ∈ lw_all := lw_g (lw_at lw_m9 178 rfl) rfl
theorem q2198 : (Jvm.Cond.code ({ cls := "PaperStore", name := "reamOf", desc := "(II)I" } : Jvm.MethodName) prog_1_method_23_code (4 : Nat) (Option.some Jvm.ClassFile.FieldType.int)) ∈ lw_all := lw_g (lw_at lw_m9 179 rfl) rfl
theorem q2199 : (Jvm.Cond.methodLink "PaperStore" (185 : Nat) ({ cls := "PaperStore", name := "reamAt", desc := "(I)LPaperStore$Ream;" } : Jvm.MethodName)) ∈ lw_all := lw_g (lw_at lw_m9 180 rfl) rfl
theorem q2200 : (Jvm.Cond.privateMethod ({ cls := "PaperStore", name := "reamAt", desc := "(I)LPaperStore$Ream;" } : Jvm.MethodName)) ∈ lw_tbl := lw_at lw_m9 181 rfl
theorem q2201 : (Jvm.Cond.instanceMethod ({ cls := "PaperStore", name := "reamAt", desc := "(I)LPaperStore$Ream;" } : Jvm.MethodName)) ∈ lw_all := lw_g (lw_at lw_m9 182 rfl) rfl
theorem q2202 : (Jvm.Cond.code ({ cls := "PaperStore", name := "reamAt", desc := "(I)LPaperStore$Ream;" } : Jvm.MethodName) prog_1_method_17_code (2 : Nat) (Option.some (Jvm.ClassFile.FieldType.object "PaperStore$Ream"))) ∈ lw_all := lw_g (lw_at lw_m9 183 rfl) rfl
theorem q2203 : (Jvm.Cond.methodLink "PaperStore" (204 : Nat) ({ cls := "PaperStore", name := "placeOf", desc := "(LPaperStore$Ream;I)I" } : Jvm.MethodName)) ∈ lw_all := lw_g (lw_at lw_m9 184 rfl) rfl
theorem q2204 : (Jvm.Cond.privateMethod ({ cls := "PaperStore", name := "placeOf", desc := "(LPaperStore$Ream;I)I" } : Jvm.MethodName)) ∈ lw_tbl := lw_at lw_m9 185 rfl
theorem q2205 : (Jvm.Cond.instanceMethod ({ cls := "PaperStore", name := "placeOf", desc := "(LPaperStore$Ream;I)I" } : Jvm.MethodName)) ∈ lw_all := lw_g (lw_at lw_m9 186 rfl) rfl
theorem q2206 : (Jvm.Cond.code ({ cls := "PaperStore", name := "placeOf", desc := "(LPaperStore$Ream;I)I" } : Jvm.MethodName) prog_1_method_22_code (6 : Nat) (Option.some Jvm.ClassFile.FieldType.int)) ∈ lw_all := lw_g (lw_at lw_m9 187 rfl) rfl
theorem q2207 : (Jvm.Cond.methodLink "PaperStore" (164 : Nat) ({ cls := "PaperStore$Store", name := "aisleOf", desc := "(LPaperStore$Ream;)I" } : Jvm.MethodName)) ∈ lw_all := lw_g (lw_at lw_m9 188 rfl) rfl
theorem q2252 : (Jvm.Cond.methodLink "PaperStore" (181 : Nat) ({ cls := "java/util/ArrayList", name := "indexOf", desc := "(Ljava/lang/Object;)I" } : Jvm.MethodName)) ∈ lw_all := lw_g (lw_at lw_m9 233 rfl) rfl
theorem q2258 : (Jvm.Cond.instanceMethod ({ cls := "PaperStore", name := "top", desc := "(II)I" } : Jvm.MethodName)) ∈ lw_all := lw_g (lw_at lw_m9 239 rfl) rfl
theorem q2259 : (Jvm.Cond.selects "PaperStore" ({ cls := "PaperStore", name := "top", desc := "(II)I" } : Jvm.MethodName) ({ cls := "PaperStore", name := "top", desc := "(II)I" } : Jvm.MethodName)) ∈ lw_all := lw_g (lw_at lw_m10 0 rfl) rfl
theorem q2260 : (Jvm.Cond.code ({ cls := "PaperStore", name := "top", desc := "(II)I" } : Jvm.MethodName) prog_1_method_24_code (4 : Nat) (Option.some Jvm.ClassFile.FieldType.int)) ∈ lw_all := lw_g (lw_at lw_m10 1 rfl) rfl
theorem q2261 : (Jvm.Cond.methodLink "PaperStore" (211 : Nat) ({ cls := "PaperStore$Shelf", name := "top", desc := "()LPaperStore$Ream;" } : Jvm.MethodName)) ∈ lw_all := lw_g (lw_at lw_m10 2 rfl) rfl
theorem q2271 : (Jvm.Cond.methodLink "PaperStore" (215 : Nat) ({ cls := "PaperStore", name := "checkElement", desc := "(Z)V" } : Jvm.MethodName)) ∈ lw_all := lw_g (lw_at lw_m10 12 rfl) rfl
theorem q2272 : (Jvm.Cond.static ({ cls := "PaperStore", name := "checkElement", desc := "(Z)V" } : Jvm.MethodName)) ∈ lw_all := lw_g (lw_at lw_m10 13 rfl) rfl
theorem q2273 : (Jvm.Cond.code ({ cls := "PaperStore", name := "checkElement", desc := "(Z)V" } : Jvm.MethodName) prog_1_method_8_code (1 : Nat) (Option.none : Option Jvm.ClassFile.FieldType)) ∈ lw_all := lw_g (lw_at lw_m10 14 rfl) rfl
theorem q2274 : (Jvm.Cond.classLink "PaperStore" (19 : Nat) "java/util/NoSuchElementException") ∈ lw_all := lw_g (lw_at lw_m10 15 rfl) rfl
theorem q2275 : (Jvm.Cond.methodLink "PaperStore" (21 : Nat) ({ cls := "java/util/NoSuchElementException", name := "<init>", desc := "()V" } : Jvm.MethodName)) ∈ lw_all := lw_g (lw_at lw_m10 16 rfl) rfl
theorem q2280 : (Jvm.Cond.instanceMethod ({ cls := "PaperStore", name := "wavyIn", desc := "(I)I" } : Jvm.MethodName)) ∈ lw_all := lw_g (lw_at lw_m10 21 rfl) rfl
theorem q2281 : (Jvm.Cond.selects "PaperStore" ({ cls := "PaperStore", name := "wavyIn", desc := "(I)I" } : Jvm.MethodName) ({ cls := "PaperStore", name := "wavyIn", desc := "(I)I" } : Jvm.MethodName)) ∈ lw_all := lw_g (lw_at lw_m10 22 rfl) rfl
theorem q2282 : (Jvm.Cond.code ({ cls := "PaperStore", name := "wavyIn", desc := "(I)I" } : Jvm.MethodName) prog_1_method_25_code (4 : Nat) (Option.some Jvm.ClassFile.FieldType.int)) ∈ lw_all := lw_g (lw_at lw_m10 23 rfl) rfl
theorem q2283 : (Jvm.Cond.methodLink "PaperStore" (221 : Nat) ({ cls := "PaperStore$Ream", name := "isGone", desc := "()Z" } : Jvm.MethodName)) ∈ lw_all := lw_g (lw_at lw_m10 24 rfl) rfl
theorem q2287 : (Jvm.Cond.methodLink "PaperStore" (226 : Nat) ({ cls := "PaperStore$Ream", name := "isWavy", desc := "()Z" } : Jvm.MethodName)) ∈ lw_all := lw_g (lw_at lw_m10 28 rfl) rfl
theorem q2291 : (Jvm.Cond.methodLink "PaperStore" (229 : Nat) ({ cls := "java/lang/Math", name := "max", desc := "(II)I" } : Jvm.MethodName)) ∈ lw_all := lw_g (lw_at lw_m10 32 rfl) rfl
theorem q2296 : (Jvm.Cond.instanceMethod ({ cls := "PaperStore", name := "air", desc := "(II)I" } : Jvm.MethodName)) ∈ lw_all := lw_g (lw_at lw_m10 37 rfl) rfl
theorem q2297 : (Jvm.Cond.selects "PaperStore" ({ cls := "PaperStore", name := "air", desc := "(II)I" } : Jvm.MethodName) ({ cls := "PaperStore", name := "air", desc := "(II)I" } : Jvm.MethodName)) ∈ lw_all := lw_g (lw_at lw_m10 38 rfl) rfl
theorem q2298 : (Jvm.Cond.code ({ cls := "PaperStore", name := "air", desc := "(II)I" } : Jvm.MethodName) prog_1_method_26_code (4 : Nat) (Option.some Jvm.ClassFile.FieldType.int)) ∈ lw_all := lw_g (lw_at lw_m10 39 rfl) rfl
theorem q2299 : (Jvm.Cond.methodLink "PaperStore" (234 : Nat) ({ cls := "PaperStore$Store", name := "air", desc := "(II)I" } : Jvm.MethodName)) ∈ lw_all := lw_g (lw_at lw_m10 40 rfl) rfl
theorem q2307 : (Jvm.Cond.instanceMethod ({ cls := "PaperStore", name := "mice", desc := "(II)I" } : Jvm.MethodName)) ∈ lw_all := lw_g (lw_at lw_m10 48 rfl) rfl
theorem q2308 : (Jvm.Cond.selects "PaperStore" ({ cls := "PaperStore", name := "mice", desc := "(II)I" } : Jvm.MethodName) ({ cls := "PaperStore", name := "mice", desc := "(II)I" } : Jvm.MethodName)) ∈ lw_all := lw_g (lw_at lw_m10 49 rfl) rfl
theorem q2309 : (Jvm.Cond.code ({ cls := "PaperStore", name := "mice", desc := "(II)I" } : Jvm.MethodName) prog_1_method_27_code (4 : Nat) (Option.some Jvm.ClassFile.FieldType.int)) ∈ lw_all := lw_g (lw_at lw_m10 50 rfl) rfl
theorem q2310 : (Jvm.Cond.methodLink "PaperStore" (237 : Nat) ({ cls := "PaperStore$Store", name := "mice", desc := "(II)I" } : Jvm.MethodName)) ∈ lw_all := lw_g (lw_at lw_m10 51 rfl) rfl
theorem q2319 : (Jvm.Cond.instanceMethod ({ cls := "PaperStore", name := "trap", desc := "(II)I" } : Jvm.MethodName)) ∈ lw_all := lw_g (lw_at lw_m10 60 rfl) rfl
theorem q2320 : (Jvm.Cond.selects "PaperStore" ({ cls := "PaperStore", name := "trap", desc := "(II)I" } : Jvm.MethodName) ({ cls := "PaperStore", name := "trap", desc := "(II)I" } : Jvm.MethodName)) ∈ lw_all := lw_g (lw_at lw_m10 61 rfl) rfl
theorem q2321 : (Jvm.Cond.code ({ cls := "PaperStore", name := "trap", desc := "(II)I" } : Jvm.MethodName) prog_1_method_28_code (4 : Nat) (Option.some Jvm.ClassFile.FieldType.int)) ∈ lw_all := lw_g (lw_at lw_m10 62 rfl) rfl
theorem q2322 : (Jvm.Cond.methodLink "PaperStore" (240 : Nat) ({ cls := "PaperStore$Store", name := "trap", desc := "(II)I" } : Jvm.MethodName)) ∈ lw_all := lw_g (lw_at lw_m10 63 rfl) rfl
theorem q2330 : (Jvm.Cond.instanceMethod ({ cls := "PaperStore", name := "aisleOf", desc := "(II)I" } : Jvm.MethodName)) ∈ lw_all := lw_g (lw_at lw_m10 71 rfl) rfl
theorem q2331 : (Jvm.Cond.selects "PaperStore" ({ cls := "PaperStore", name := "aisleOf", desc := "(II)I" } : Jvm.MethodName) ({ cls := "PaperStore", name := "aisleOf", desc := "(II)I" } : Jvm.MethodName)) ∈ lw_all := lw_g (lw_at lw_m10 72 rfl) rfl
theorem q2332 : (Jvm.Cond.code ({ cls := "PaperStore", name := "aisleOf", desc := "(II)I" } : Jvm.MethodName) prog_1_method_29_code (4 : Nat) (Option.some Jvm.ClassFile.FieldType.int)) ∈ lw_all := lw_g (lw_at lw_m10 73 rfl) rfl
theorem q2333 : (Jvm.Cond.methodLink "PaperStore" (248 : Nat) ({ cls := "PaperStore$Aisle", name := "reams", desc := "()Ljava/util/List;" } : Jvm.MethodName)) ∈ lw_all := lw_g (lw_at lw_m10 74 rfl) rfl
theorem q2334 : (Jvm.Cond.interfaceEntry "PaperStore" (251 : Nat)) ∈ lw_tbl := lw_at lw_m10 75 rfl
theorem q2335 : (Jvm.Cond.methodLink "PaperStore" (251 : Nat) ({ cls := "java/util/List", name := "size", desc := "()I" } : Jvm.MethodName)) ∈ lw_all := lw_g (lw_at lw_m10 76 rfl) rfl
theorem q2347 : (Jvm.Cond.methodLink "PaperStore" (254 : Nat) ({ cls := "PaperStore$Aisle", name := "quires", desc := "()I" } : Jvm.MethodName)) ∈ lw_all := lw_g (lw_at lw_m10 88 rfl) rfl
theorem q2359 : (Jvm.Cond.methodLink "PaperStore" (256 : Nat) ({ cls := "PaperStore$Store", name := "ladderAt", desc := "(I)I" } : Jvm.MethodName)) ∈ lw_all := lw_g (lw_at lw_m10 100 rfl) rfl
theorem q2364 : (Jvm.Cond.instanceMethod ({ cls := "PaperStore", name := "eatenIn", desc := "(II)I" } : Jvm.MethodName)) ∈ lw_all := lw_g (lw_at lw_m10 105 rfl) rfl
theorem q2365 : (Jvm.Cond.selects "PaperStore" ({ cls := "PaperStore", name := "eatenIn", desc := "(II)I" } : Jvm.MethodName) ({ cls := "PaperStore", name := "eatenIn", desc := "(II)I" } : Jvm.MethodName)) ∈ lw_all := lw_g (lw_at lw_m10 106 rfl) rfl
theorem q2366 : (Jvm.Cond.code ({ cls := "PaperStore", name := "eatenIn", desc := "(II)I" } : Jvm.MethodName) prog_1_method_30_code (6 : Nat) (Option.some Jvm.ClassFile.FieldType.int)) ∈ lw_all := lw_g (lw_at lw_m10 107 rfl) rfl
theorem q2367 : (Jvm.Cond.methodLink "PaperStore" (262 : Nat) ({ cls := "PaperStore$Aisle", name := "copy", desc := "()LPaperStore$Aisle;" } : Jvm.MethodName)) ∈ lw_all := lw_g (lw_at lw_m10 108 rfl) rfl
theorem q2368 : (Jvm.Cond.methodLink "PaperStore" (265 : Nat) ({ cls := "PaperStore$Aisle", name := "isEaten", desc := "()I" } : Jvm.MethodName)) ∈ lw_all := lw_g (lw_at lw_m10 109 rfl) rfl
theorem q2393 : (Jvm.Cond.instanceMethod ({ cls := "PaperStore", name := "ranked", desc := "(I)I" } : Jvm.MethodName)) ∈ lw_all := lw_g (lw_at lw_m10 134 rfl) rfl
theorem q2394 : (Jvm.Cond.selects "PaperStore" ({ cls := "PaperStore", name := "ranked", desc := "(I)I" } : Jvm.MethodName) ({ cls := "PaperStore", name := "ranked", desc := "(I)I" } : Jvm.MethodName)) ∈ lw_all := lw_g (lw_at lw_m10 135 rfl) rfl
theorem q2395 : (Jvm.Cond.code ({ cls := "PaperStore", name := "ranked", desc := "(I)I" } : Jvm.MethodName) prog_1_method_31_code (6 : Nat) (Option.some Jvm.ClassFile.FieldType.int)) ∈ lw_all := lw_g (lw_at lw_m10 136 rfl) rfl
theorem q2396 : (Jvm.Cond.methodLink "PaperStore" (268 : Nat) ({ cls := "PaperStore$Store", name := "isAhead", desc := "(II)Z" } : Jvm.MethodName)) ∈ lw_all := lw_g (lw_at lw_m10 137 rfl) rfl
theorem q2405 : (Jvm.Cond.instanceMethod ({ cls := "PaperStore", name := "order", desc := "(III)I" } : Jvm.MethodName)) ∈ lw_all := lw_g (lw_at lw_m10 146 rfl) rfl
theorem q2406 : (Jvm.Cond.selects "PaperStore" ({ cls := "PaperStore", name := "order", desc := "(III)I" } : Jvm.MethodName) ({ cls := "PaperStore", name := "order", desc := "(III)I" } : Jvm.MethodName)) ∈ lw_all := lw_g (lw_at lw_m10 147 rfl) rfl
theorem q2407 : (Jvm.Cond.codeWith ({ cls := "PaperStore", name := "order", desc := "(III)I" } : Jvm.MethodName) prog_1_method_32_code (6 : Nat) (Option.some Jvm.ClassFile.FieldType.int) [((35 : Nat), (60 : Nat), (61 : Nat), (25 : Nat))]) ∈ lw_all := lw_g (lw_at lw_m10 148 rfl) rfl
theorem q2408 : (Jvm.Cond.methodLink "PaperStore" (271 : Nat) ({ cls := "PaperStore$Store", name := "addOrder", desc := "(LPaperStore$Paper;I)I" } : Jvm.MethodName)) ∈ lw_all := lw_g (lw_at lw_m10 149 rfl) rfl
theorem q2417 : (Jvm.Cond.instanceMethod ({ cls := "PaperStore", name := "cancel", desc := "(I)I" } : Jvm.MethodName)) ∈ lw_all := lw_g (lw_at lw_m10 158 rfl) rfl
theorem q2418 : (Jvm.Cond.selects "PaperStore" ({ cls := "PaperStore", name := "cancel", desc := "(I)I" } : Jvm.MethodName) ({ cls := "PaperStore", name := "cancel", desc := "(I)I" } : Jvm.MethodName)) ∈ lw_all := lw_g (lw_at lw_m10 159 rfl) rfl
theorem q2419 : (Jvm.Cond.codeWith ({ cls := "PaperStore", name := "cancel", desc := "(I)I" } : Jvm.MethodName) prog_1_method_33_code (5 : Nat) (Option.some Jvm.ClassFile.FieldType.int) [((14 : Nat), (28 : Nat), (29 : Nat), (25 : Nat))]) ∈ lw_all := lw_g (lw_at lw_m10 160 rfl) rfl
theorem q2420 : (Jvm.Cond.methodLink "PaperStore" (275 : Nat) ({ cls := "PaperStore", name := "orderAt", desc := "(I)LPaperStore$Order;" } : Jvm.MethodName)) ∈ lw_all := lw_g (lw_at lw_m10 161 rfl) rfl
theorem q2421 : (Jvm.Cond.privateMethod ({ cls := "PaperStore", name := "orderAt", desc := "(I)LPaperStore$Order;" } : Jvm.MethodName)) ∈ lw_tbl := lw_at lw_m10 162 rfl
theorem q2422 : (Jvm.Cond.instanceMethod ({ cls := "PaperStore", name := "orderAt", desc := "(I)LPaperStore$Order;" } : Jvm.MethodName)) ∈ lw_all := lw_g (lw_at lw_m10 163 rfl) rfl
theorem q2423 : (Jvm.Cond.code ({ cls := "PaperStore", name := "orderAt", desc := "(I)LPaperStore$Order;" } : Jvm.MethodName) prog_1_method_15_code (2 : Nat) (Option.some (Jvm.ClassFile.FieldType.object "PaperStore$Order"))) ∈ lw_all := lw_g (lw_at lw_m10 164 rfl) rfl
theorem q2424 : (Jvm.Cond.methodLink "PaperStore" (93 : Nat) ({ cls := "PaperStore$Store", name := "isOrder", desc := "(I)Z" } : Jvm.MethodName)) ∈ lw_all := lw_g (lw_at lw_m10 165 rfl) rfl
theorem q2428 : (Jvm.Cond.classLink "PaperStore" (99 : Nat) "PaperStore$Order") ∈ lw_all := lw_g (lw_at lw_m10 169 rfl) rfl
theorem q2429 : (Jvm.Cond.methodLink "PaperStore" (279 : Nat) ({ cls := "PaperStore$Store", name := "cancel", desc := "(I)I" } : Jvm.MethodName)) ∈ lw_all := lw_g (lw_at lw_m10 170 rfl) rfl
theorem q2453 : (Jvm.Cond.instanceMethod ({ cls := "PaperStore", name := "cart", desc := "(I)I" } : Jvm.MethodName)) ∈ lw_all := lw_g (lw_at lw_m10 194 rfl) rfl
theorem q2454 : (Jvm.Cond.selects "PaperStore" ({ cls := "PaperStore", name := "cart", desc := "(I)I" } : Jvm.MethodName) ({ cls := "PaperStore", name := "cart", desc := "(I)I" } : Jvm.MethodName)) ∈ lw_all := lw_g (lw_at lw_m10 195 rfl) rfl
theorem q2455 : (Jvm.Cond.codeWith ({ cls := "PaperStore", name := "cart", desc := "(I)I" } : Jvm.MethodName) prog_1_method_34_code (4 : Nat) (Option.some Jvm.ClassFile.FieldType.int) [((19 : Nat), (31 : Nat), (32 : Nat), (25 : Nat))]) ∈ lw_all := lw_g (lw_at lw_m10 196 rfl) rfl
theorem q2456 : (Jvm.Cond.methodLink "PaperStore" (282 : Nat) ({ cls := "PaperStore$Store", name := "addCart", desc := "(I)I" } : Jvm.MethodName)) ∈ lw_all := lw_g (lw_at lw_m10 197 rfl) rfl
theorem q2465 : (Jvm.Cond.instanceMethod ({ cls := "PaperStore", name := "gather", desc := "(III)I" } : Jvm.MethodName)) ∈ lw_all := lw_g (lw_at lw_m10 206 rfl) rfl
theorem q2466 : (Jvm.Cond.selects "PaperStore" ({ cls := "PaperStore", name := "gather", desc := "(III)I" } : Jvm.MethodName) ({ cls := "PaperStore", name := "gather", desc := "(III)I" } : Jvm.MethodName)) ∈ lw_all := lw_g (lw_at lw_m10 207 rfl) rfl
theorem q2467 : (Jvm.Cond.codeWith ({ cls := "PaperStore", name := "gather", desc := "(III)I" } : Jvm.MethodName) prog_1_method_35_code (6 : Nat) (Option.some Jvm.ClassFile.FieldType.int) [((50 : Nat), (68 : Nat), (69 : Nat), (25 : Nat))]) ∈ lw_all := lw_g (lw_at lw_m10 208 rfl) rfl
theorem q2468 : (Jvm.Cond.methodLink "PaperStore" (101 : Nat) ({ cls := "PaperStore$Store", name := "isCart", desc := "(I)Z" } : Jvm.MethodName)) ∈ lw_all := lw_g (lw_at lw_m10 209 rfl) rfl
theorem q2472 : (Jvm.Cond.methodLink "PaperStore" (285 : Nat) ({ cls := "PaperStore$Store", name := "gather", desc := "(III)I" } : Jvm.MethodName)) ∈ lw_all := lw_g (lw_at lw_m10 213 rfl) rfl
theorem q2500 : (Jvm.Cond.instanceMethod ({ cls := "PaperStore", name := "send", desc := "(I)I" } : Jvm.MethodName)) ∈ lw_all := lw_g (lw_at lw_m11 1 rfl) rfl
theorem q2501 : (Jvm.Cond.selects "PaperStore" ({ cls := "PaperStore", name := "send", desc := "(I)I" } : Jvm.MethodName) ({ cls := "PaperStore", name := "send", desc := "(I)I" } : Jvm.MethodName)) ∈ lw_all := lw_g (lw_at lw_m11 2 rfl) rfl
theorem q2502 : (Jvm.Cond.codeWith ({ cls := "PaperStore", name := "send", desc := "(I)I" } : Jvm.MethodName) prog_1_method_36_code (5 : Nat) (Option.some Jvm.ClassFile.FieldType.int) [((14 : Nat), (28 : Nat), (29 : Nat), (25 : Nat))]) ∈ lw_all := lw_g (lw_at lw_m11 3 rfl) rfl
theorem q2503 : (Jvm.Cond.methodLink "PaperStore" (289 : Nat) ({ cls := "PaperStore", name := "cartAt", desc := "(I)LPaperStore$Cart;" } : Jvm.MethodName)) ∈ lw_all := lw_g (lw_at lw_m11 4 rfl) rfl
theorem q2504 : (Jvm.Cond.privateMethod ({ cls := "PaperStore", name := "cartAt", desc := "(I)LPaperStore$Cart;" } : Jvm.MethodName)) ∈ lw_tbl := lw_at lw_m11 5 rfl
theorem q2505 : (Jvm.Cond.instanceMethod ({ cls := "PaperStore", name := "cartAt", desc := "(I)LPaperStore$Cart;" } : Jvm.MethodName)) ∈ lw_all := lw_g (lw_at lw_m11 6 rfl) rfl
theorem q2506 : (Jvm.Cond.code ({ cls := "PaperStore", name := "cartAt", desc := "(I)LPaperStore$Cart;" } : Jvm.MethodName) prog_1_method_16_code (2 : Nat) (Option.some (Jvm.ClassFile.FieldType.object "PaperStore$Cart"))) ∈ lw_all := lw_g (lw_at lw_m11 7 rfl) rfl
theorem q2507 : (Jvm.Cond.classLink "PaperStore" (107 : Nat) "PaperStore$Cart") ∈ lw_all := lw_g (lw_at lw_m11 8 rfl) rfl
theorem q2508 : (Jvm.Cond.methodLink "PaperStore" (293 : Nat) ({ cls := "PaperStore$Store", name := "send", desc := "(I)I" } : Jvm.MethodName)) ∈ lw_all := lw_g (lw_at lw_m11 9 rfl) rfl
theorem q2557 : (Jvm.Cond.instanceMethod ({ cls := "PaperStore", name := "orderOf", desc := "(II)I" } : Jvm.MethodName)) ∈ lw_all := lw_g (lw_at lw_m11 58 rfl) rfl
theorem q2558 : (Jvm.Cond.selects "PaperStore" ({ cls := "PaperStore", name := "orderOf", desc := "(II)I" } : Jvm.MethodName) ({ cls := "PaperStore", name := "orderOf", desc := "(II)I" } : Jvm.MethodName)) ∈ lw_all := lw_g (lw_at lw_m11 59 rfl) rfl
theorem q2559 : (Jvm.Cond.code ({ cls := "PaperStore", name := "orderOf", desc := "(II)I" } : Jvm.MethodName) prog_1_method_37_code (4 : Nat) (Option.some Jvm.ClassFile.FieldType.int)) ∈ lw_all := lw_g (lw_at lw_m11 60 rfl) rfl
theorem q2564 : (Jvm.Cond.instanceMethod ({ cls := "PaperStore", name := "lacking", desc := "(I)I" } : Jvm.MethodName)) ∈ lw_all := lw_g (lw_at lw_m11 65 rfl) rfl
theorem q2565 : (Jvm.Cond.selects "PaperStore" ({ cls := "PaperStore", name := "lacking", desc := "(I)I" } : Jvm.MethodName) ({ cls := "PaperStore", name := "lacking", desc := "(I)I" } : Jvm.MethodName)) ∈ lw_all := lw_g (lw_at lw_m11 66 rfl) rfl
theorem q2566 : (Jvm.Cond.code ({ cls := "PaperStore", name := "lacking", desc := "(I)I" } : Jvm.MethodName) prog_1_method_38_code (3 : Nat) (Option.some Jvm.ClassFile.FieldType.int)) ∈ lw_all := lw_g (lw_at lw_m11 67 rfl) rfl
theorem q2567 : (Jvm.Cond.methodLink "PaperStore" (307 : Nat) ({ cls := "PaperStore$Store", name := "lacking", desc := "(I)I" } : Jvm.MethodName)) ∈ lw_all := lw_g (lw_at lw_m11 68 rfl) rfl
theorem q2583 : (Jvm.Cond.instanceMethod ({ cls := "PaperStore", name := "bestLadder", desc := "(I)I" } : Jvm.MethodName)) ∈ lw_all := lw_g (lw_at lw_m11 84 rfl) rfl
theorem q2584 : (Jvm.Cond.selects "PaperStore" ({ cls := "PaperStore", name := "bestLadder", desc := "(I)I" } : Jvm.MethodName) ({ cls := "PaperStore", name := "bestLadder", desc := "(I)I" } : Jvm.MethodName)) ∈ lw_all := lw_g (lw_at lw_m11 85 rfl) rfl
theorem q2585 : (Jvm.Cond.code ({ cls := "PaperStore", name := "bestLadder", desc := "(I)I" } : Jvm.MethodName) prog_1_method_39_code (4 : Nat) (Option.some Jvm.ClassFile.FieldType.int)) ∈ lw_all := lw_g (lw_at lw_m11 86 rfl) rfl
theorem q2586 : (Jvm.Cond.methodLink "PaperStore" (310 : Nat) ({ cls := "PaperStore$Store", name := "bestLadder", desc := "(I)I" } : Jvm.MethodName)) ∈ lw_all := lw_g (lw_at lw_m11 87 rfl) rfl
theorem q2594 : (Jvm.Cond.instanceMethod ({ cls := "PaperStore", name := "cartOf", desc := "(II)I" } : Jvm.MethodName)) ∈ lw_all := lw_g (lw_at lw_m11 95 rfl) rfl
theorem q2595 : (Jvm.Cond.selects "PaperStore" ({ cls := "PaperStore", name := "cartOf", desc := "(II)I" } : Jvm.MethodName) ({ cls := "PaperStore", name := "cartOf", desc := "(II)I" } : Jvm.MethodName)) ∈ lw_all := lw_g (lw_at lw_m11 96 rfl) rfl
theorem q2596 : (Jvm.Cond.code ({ cls := "PaperStore", name := "cartOf", desc := "(II)I" } : Jvm.MethodName) prog_1_method_40_code (4 : Nat) (Option.some Jvm.ClassFile.FieldType.int)) ∈ lw_all := lw_g (lw_at lw_m11 97 rfl) rfl
theorem q2601 : (Jvm.Cond.instanceMethod ({ cls := "PaperStore", name := "stock", desc := "(IIZ)I" } : Jvm.MethodName)) ∈ lw_all := lw_g (lw_at lw_m11 102 rfl) rfl
theorem q2602 : (Jvm.Cond.selects "PaperStore" ({ cls := "PaperStore", name := "stock", desc := "(IIZ)I" } : Jvm.MethodName) ({ cls := "PaperStore", name := "stock", desc := "(IIZ)I" } : Jvm.MethodName)) ∈ lw_all := lw_g (lw_at lw_m11 103 rfl) rfl
theorem q2603 : (Jvm.Cond.code ({ cls := "PaperStore", name := "stock", desc := "(IIZ)I" } : Jvm.MethodName) prog_1_method_41_code (4 : Nat) (Option.some Jvm.ClassFile.FieldType.int)) ∈ lw_all := lw_g (lw_at lw_m11 104 rfl) rfl
theorem q2604 : (Jvm.Cond.methodLink "PaperStore" (320 : Nat) ({ cls := "PaperStore$Store", name := "stock", desc := "(LPaperStore$Paper;Z)I" } : Jvm.MethodName)) ∈ lw_all := lw_g (lw_at lw_m11 105 rfl) rfl
theorem q2609 : (Jvm.Cond.instanceMethod ({ cls := "PaperStore", name := "sent", desc := "(II)I" } : Jvm.MethodName)) ∈ lw_all := lw_g (lw_at lw_m11 110 rfl) rfl
theorem q2610 : (Jvm.Cond.selects "PaperStore" ({ cls := "PaperStore", name := "sent", desc := "(II)I" } : Jvm.MethodName) ({ cls := "PaperStore", name := "sent", desc := "(II)I" } : Jvm.MethodName)) ∈ lw_all := lw_g (lw_at lw_m11 111 rfl) rfl
theorem q2611 : (Jvm.Cond.code ({ cls := "PaperStore", name := "sent", desc := "(II)I" } : Jvm.MethodName) prog_1_method_42_code (4 : Nat) (Option.some Jvm.ClassFile.FieldType.int)) ∈ lw_all := lw_g (lw_at lw_m11 112 rfl) rfl
theorem q2612 : (Jvm.Cond.methodLink "PaperStore" (328 : Nat) ({ cls := "java/util/HashMap", name := "get", desc := "(Ljava/lang/Object;)Ljava/lang/Object;" } : Jvm.MethodName)) ∈ lw_all := lw_g (lw_at lw_m11 113 rfl) rfl
theorem q2613 : (Jvm.Cond.classLink "PaperStore" (333 : Nat) "java/lang/Integer") ∈ lw_all := lw_g (lw_at lw_m11 114 rfl) rfl
theorem q2614 : (Jvm.Cond.methodLink "PaperStore" (335 : Nat) ({ cls := "java/lang/Integer", name := "intValue", desc := "()I" } : Jvm.MethodName)) ∈ lw_all := lw_g (lw_at lw_m11 115 rfl) rfl
theorem q2619 : (Jvm.Cond.instanceMethod ({ cls := "PaperStore", name := "bestPaper", desc := "()I" } : Jvm.MethodName)) ∈ lw_all := lw_g (lw_at lw_m11 120 rfl) rfl
theorem q2620 : (Jvm.Cond.selects "PaperStore" ({ cls := "PaperStore", name := "bestPaper", desc := "()I" } : Jvm.MethodName) ({ cls := "PaperStore", name := "bestPaper", desc := "()I" } : Jvm.MethodName)) ∈ lw_all := lw_g (lw_at lw_m11 121 rfl) rfl
theorem q2621 : (Jvm.Cond.code ({ cls := "PaperStore", name := "bestPaper", desc := "()I" } : Jvm.MethodName) prog_1_method_43_code (2 : Nat) (Option.some Jvm.ClassFile.FieldType.int)) ∈ lw_all := lw_g (lw_at lw_m11 122 rfl) rfl
theorem q2622 : (Jvm.Cond.methodLink "PaperStore" (338 : Nat) ({ cls := "PaperStore$Store", name := "bestPaper", desc := "()I" } : Jvm.MethodName)) ∈ lw_all := lw_g (lw_at lw_m11 123 rfl) rfl
theorem q2640 : (Jvm.Cond.instanceMethod ({ cls := "PaperStore", name := "days", desc := "(I)I" } : Jvm.MethodName)) ∈ lw_all := lw_g (lw_at lw_m11 141 rfl) rfl
theorem q2641 : (Jvm.Cond.selects "PaperStore" ({ cls := "PaperStore", name := "days", desc := "(I)I" } : Jvm.MethodName) ({ cls := "PaperStore", name := "days", desc := "(I)I" } : Jvm.MethodName)) ∈ lw_all := lw_g (lw_at lw_m11 142 rfl) rfl
theorem q2642 : (Jvm.Cond.code ({ cls := "PaperStore", name := "days", desc := "(I)I" } : Jvm.MethodName) prog_1_method_45_code (3 : Nat) (Option.some Jvm.ClassFile.FieldType.int)) ∈ lw_all := lw_g (lw_at lw_m11 143 rfl) rfl
theorem q2643 : (Jvm.Cond.methodLink "PaperStore" (370 : Nat) ({ cls := "PaperStore$Store", name := "days", desc := "(I)I" } : Jvm.MethodName)) ∈ lw_all := lw_g (lw_at lw_m11 144 rfl) rfl
theorem q2665 : (Jvm.Cond.instanceMethod ({ cls := "PaperStore", name := "tell", desc := "(I)I" } : Jvm.MethodName)) ∈ lw_all := lw_g (lw_at lw_m11 166 rfl) rfl
theorem q2666 : (Jvm.Cond.selects "PaperStore" ({ cls := "PaperStore", name := "tell", desc := "(I)I" } : Jvm.MethodName) ({ cls := "PaperStore", name := "tell", desc := "(I)I" } : Jvm.MethodName)) ∈ lw_all := lw_g (lw_at lw_m11 167 rfl) rfl
theorem q2667 : (Jvm.Cond.code ({ cls := "PaperStore", name := "tell", desc := "(I)I" } : Jvm.MethodName) prog_1_method_47_code (3 : Nat) (Option.some Jvm.ClassFile.FieldType.int)) ∈ lw_all := lw_g (lw_at lw_m11 168 rfl) rfl
theorem q2668 : (Jvm.Cond.methodLink "PaperStore" (392 : Nat) ({ cls := "java/lang/StringBuilder", name := "setLength", desc := "(I)V" } : Jvm.MethodName)) ∈ lw_all := lw_g (lw_at lw_m11 169 rfl) rfl
theorem q2720 : (Jvm.Cond.stringRef "PaperStore" (395 : Nat) "/") ∈ lw_tbl := lw_at lw_m11 221 rfl
theorem q2721 : (Jvm.Cond.stringRef "PaperStore" (374 : Nat) "") ∈ lw_tbl := lw_at lw_m11 222 rfl
theorem q2722 : (Jvm.Cond.methodLink "PaperStore" (378 : Nat) ({ cls := "java/lang/StringBuilder", name := "append", desc := "(Ljava/lang/String;)Ljava/lang/StringBuilder;" } : Jvm.MethodName)) ∈ lw_all := lw_g (lw_at lw_m11 223 rfl) rfl
theorem q2723 : (Jvm.Cond.methodLink "PaperStore" (397 : Nat) ({ cls := "PaperStore", name := "tellShelf", desc := "(LPaperStore$Shelf;)V" } : Jvm.MethodName)) ∈ lw_all := lw_g (lw_at lw_m11 224 rfl) rfl
theorem q2724 : (Jvm.Cond.privateMethod ({ cls := "PaperStore", name := "tellShelf", desc := "(LPaperStore$Shelf;)V" } : Jvm.MethodName)) ∈ lw_tbl := lw_at lw_m11 225 rfl
theorem q2725 : (Jvm.Cond.instanceMethod ({ cls := "PaperStore", name := "tellShelf", desc := "(LPaperStore$Shelf;)V" } : Jvm.MethodName)) ∈ lw_all := lw_g (lw_at lw_m11 226 rfl) rfl
theorem q2726 : (Jvm.Cond.code ({ cls := "PaperStore", name := "tellShelf", desc := "(LPaperStore$Shelf;)V" } : Jvm.MethodName) prog_1_method_46_code (4 : Nat) (Option.none : Option Jvm.ClassFile.FieldType)) ∈ lw_all := lw_g (lw_at lw_m11 227 rfl) rfl
theorem q2727 : (Jvm.Cond.methodLink "PaperStore" (373 : Nat) ({ cls := "java/util/ArrayList", name := "iterator", desc := "()Ljava/util/Iterator;" } : Jvm.MethodName)) ∈ lw_all := lw_g (lw_at lw_m11 228 rfl) rfl
theorem q2728 : (Jvm.Cond.stringRef "PaperStore" (376 : Nat) ",") ∈ lw_tbl := lw_at lw_m11 229 rfl
theorem q2729 : (Jvm.Cond.methodLink "PaperStore" (382 : Nat) ({ cls := "java/lang/StringBuilder", name := "append", desc := "(I)Ljava/lang/StringBuilder;" } : Jvm.MethodName)) ∈ lw_all := lw_g (lw_at lw_m11 230 rfl) rfl
theorem q2730 : (Jvm.Cond.stringRef "PaperStore" (385 : Nat) "~") ∈ lw_tbl := lw_at lw_m11 231 rfl
theorem q2731 : (Jvm.Cond.methodLink "PaperStore" (387 : Nat) ({ cls := "java/util/ArrayList", name := "isEmpty", desc := "()Z" } : Jvm.MethodName)) ∈ lw_all := lw_g (lw_at lw_m11 232 rfl) rfl
theorem q2732 : (Jvm.Cond.stringRef "PaperStore" (390 : Nat) "-") ∈ lw_tbl := lw_at lw_m11 233 rfl
theorem q2733 : (Jvm.Cond.methodLink "PaperStore" (401 : Nat) ({ cls := "java/lang/StringBuilder", name := "length", desc := "()I" } : Jvm.MethodName)) ∈ lw_all := lw_g (lw_at lw_m11 234 rfl) rfl
theorem q2738 : (Jvm.Cond.instanceMethod ({ cls := "PaperStore", name := "character", desc := "(I)C" } : Jvm.MethodName)) ∈ lw_all := lw_g (lw_at lw_m11 239 rfl) rfl
theorem q2739 : (Jvm.Cond.selects "PaperStore" ({ cls := "PaperStore", name := "character", desc := "(I)C" } : Jvm.MethodName) ({ cls := "PaperStore", name := "character", desc := "(I)C" } : Jvm.MethodName)) ∈ lw_all := lw_g (lw_at lw_m12 0 rfl) rfl
theorem q2740 : (Jvm.Cond.code ({ cls := "PaperStore", name := "character", desc := "(I)C" } : Jvm.MethodName) prog_1_method_48_code (2 : Nat) (Option.some Jvm.ClassFile.FieldType.char)) ∈ lw_all := lw_g (lw_at lw_m12 1 rfl) rfl
theorem q2741 : (Jvm.Cond.methodLink "PaperStore" (404 : Nat) ({ cls := "java/lang/StringBuilder", name := "charAt", desc := "(I)C" } : Jvm.MethodName)) ∈ lw_all := lw_g (lw_at lw_m12 2 rfl) rfl
theorem q2772 : (Jvm.Cond.instanceMethod ({ cls := "PaperStore", name := "meanDamp", desc := "()F" } : Jvm.MethodName)) ∈ lw_all := lw_g (lw_at lw_m12 33 rfl) rfl
theorem q2773 : (Jvm.Cond.selects "PaperStore" ({ cls := "PaperStore", name := "meanDamp", desc := "()F" } : Jvm.MethodName) ({ cls := "PaperStore", name := "meanDamp", desc := "()F" } : Jvm.MethodName)) ∈ lw_all := lw_g (lw_at lw_m12 34 rfl) rfl
theorem q2774 : (Jvm.Cond.code ({ cls := "PaperStore", name := "meanDamp", desc := "()F" } : Jvm.MethodName) prog_1_method_49_code (5 : Nat) (Option.some Jvm.ClassFile.FieldType.float)) ∈ lw_all := lw_g (lw_at lw_m12 35 rfl) rfl
theorem q2775 : (Jvm.Cond.methodLink "PaperStore" (408 : Nat) ({ cls := "PaperStore", name := "checkCount", desc := "(I)V" } : Jvm.MethodName)) ∈ lw_all := lw_g (lw_at lw_m12 36 rfl) rfl
theorem q2776 : (Jvm.Cond.static ({ cls := "PaperStore", name := "checkCount", desc := "(I)V" } : Jvm.MethodName)) ∈ lw_all := lw_g (lw_at lw_m12 37 rfl) rfl
theorem q2777 : (Jvm.Cond.code ({ cls := "PaperStore", name := "checkCount", desc := "(I)V" } : Jvm.MethodName) prog_1_method_9_code (1 : Nat) (Option.none : Option Jvm.ClassFile.FieldType)) ∈ lw_all := lw_g (lw_at lw_m12 38 rfl) rfl
theorem q2778 : (Jvm.Cond.classLink "PaperStore" (22 : Nat) "java/lang/ArithmeticException") ∈ lw_all := lw_g (lw_at lw_m12 39 rfl) rfl
theorem q2779 : (Jvm.Cond.methodLink "PaperStore" (24 : Nat) ({ cls := "java/lang/ArithmeticException", name := "<init>", desc := "()V" } : Jvm.MethodName)) ∈ lw_all := lw_g (lw_at lw_m12 40 rfl) rfl
theorem q2787 : (Jvm.Cond.instanceMethod ({ cls := "PaperStore", name := "eatenShare", desc := "()D" } : Jvm.MethodName)) ∈ lw_all := lw_g (lw_at lw_m12 48 rfl) rfl
theorem q2788 : (Jvm.Cond.selects "PaperStore" ({ cls := "PaperStore", name := "eatenShare", desc := "()D" } : Jvm.MethodName) ({ cls := "PaperStore", name := "eatenShare", desc := "()D" } : Jvm.MethodName)) ∈ lw_all := lw_g (lw_at lw_m12 49 rfl) rfl
theorem q2789 : (Jvm.Cond.code ({ cls := "PaperStore", name := "eatenShare", desc := "()D" } : Jvm.MethodName) prog_1_method_50_code (2 : Nat) (Option.some Jvm.ClassFile.FieldType.double)) ∈ lw_all := lw_g (lw_at lw_m12 50 rfl) rfl
theorem q2794 : (Jvm.Cond.instanceMethod ({ cls := "PaperStore", name := "account", desc := "(I)I" } : Jvm.MethodName)) ∈ lw_all := lw_g (lw_at lw_m12 55 rfl) rfl
theorem q2795 : (Jvm.Cond.selects "PaperStore" ({ cls := "PaperStore", name := "account", desc := "(I)I" } : Jvm.MethodName) ({ cls := "PaperStore", name := "account", desc := "(I)I" } : Jvm.MethodName)) ∈ lw_all := lw_g (lw_at lw_m12 56 rfl) rfl
theorem q2796 : (Jvm.Cond.code ({ cls := "PaperStore", name := "account", desc := "(I)I" } : Jvm.MethodName) prog_1_method_52_code (2 : Nat) (Option.some Jvm.ClassFile.FieldType.int)) ∈ lw_all := lw_g (lw_at lw_m12 57 rfl) rfl
theorem q2797 : (Jvm.Cond.methodLink "PaperStore" (414 : Nat) ({ cls := "PaperStore$Store", name := "quires", desc := "()I" } : Jvm.MethodName)) ∈ lw_all := lw_g (lw_at lw_m12 58 rfl) rfl
theorem q2801 : (Jvm.Cond.methodLink "PaperStore" (415 : Nat) ({ cls := "PaperStore", name := "wavy", desc := "()I" } : Jvm.MethodName)) ∈ lw_all := lw_g (lw_at lw_m12 62 rfl) rfl
theorem q2802 : (Jvm.Cond.privateMethod ({ cls := "PaperStore", name := "wavy", desc := "()I" } : Jvm.MethodName)) ∈ lw_tbl := lw_at lw_m12 63 rfl
theorem q2803 : (Jvm.Cond.instanceMethod ({ cls := "PaperStore", name := "wavy", desc := "()I" } : Jvm.MethodName)) ∈ lw_all := lw_g (lw_at lw_m12 64 rfl) rfl
theorem q2804 : (Jvm.Cond.code ({ cls := "PaperStore", name := "wavy", desc := "()I" } : Jvm.MethodName) prog_1_method_51_code (4 : Nat) (Option.some Jvm.ClassFile.FieldType.int)) ∈ lw_all := lw_g (lw_at lw_m12 65 rfl) rfl
theorem q2805 : (Jvm.Cond.methodLink "PaperStore" (427 : Nat) ({ cls := "PaperStore$Store", name := "ordersIn", desc := "(I)I" } : Jvm.MethodName)) ∈ lw_all := lw_g (lw_at lw_m12 66 rfl) rfl
theorem q2814 : (Jvm.Cond.instanceMethod ({ cls := "PaperStore", name := "append", desc := "(C)I" } : Jvm.MethodName)) ∈ lw_all := lw_g (lw_at lw_m12 75 rfl) rfl
theorem q2815 : (Jvm.Cond.selects "PaperStore" ({ cls := "PaperStore", name := "append", desc := "(C)I" } : Jvm.MethodName) ({ cls := "PaperStore", name := "append", desc := "(C)I" } : Jvm.MethodName)) ∈ lw_all := lw_g (lw_at lw_m12 76 rfl) rfl
theorem q2816 : (Jvm.Cond.code ({ cls := "PaperStore", name := "append", desc := "(C)I" } : Jvm.MethodName) prog_1_method_54_code (2 : Nat) (Option.some Jvm.ClassFile.FieldType.int)) ∈ lw_all := lw_g (lw_at lw_m12 77 rfl) rfl
theorem q2817 : (Jvm.Cond.methodLink "PaperStore" (439 : Nat) ({ cls := "PaperStore", name := "checkState", desc := "(Z)V" } : Jvm.MethodName)) ∈ lw_all := lw_g (lw_at lw_m12 78 rfl) rfl
theorem q2818 : (Jvm.Cond.static ({ cls := "PaperStore", name := "checkState", desc := "(Z)V" } : Jvm.MethodName)) ∈ lw_all := lw_g (lw_at lw_m12 79 rfl) rfl
theorem q2819 : (Jvm.Cond.code ({ cls := "PaperStore", name := "checkState", desc := "(Z)V" } : Jvm.MethodName) prog_1_method_7_code (1 : Nat) (Option.none : Option Jvm.ClassFile.FieldType)) ∈ lw_all := lw_g (lw_at lw_m12 80 rfl) rfl
theorem q2820 : (Jvm.Cond.classLink "PaperStore" (16 : Nat) "java/lang/IllegalStateException") ∈ lw_all := lw_g (lw_at lw_m12 81 rfl) rfl
theorem q2829 : (Jvm.Cond.methodLink "PaperStore" (18 : Nat) ({ cls := "java/lang/IllegalStateException", name := "<init>", desc := "()V" } : Jvm.MethodName)) ∈ lw_all := lw_g (lw_at lw_m12 90 rfl) rfl
theorem q2839 : (Jvm.Cond.instanceMethod ({ cls := "PaperStore", name := "read", desc := "()I" } : Jvm.MethodName)) ∈ lw_all := lw_g (lw_at lw_m12 100 rfl) rfl
theorem q2840 : (Jvm.Cond.selects "PaperStore" ({ cls := "PaperStore", name := "read", desc := "()I" } : Jvm.MethodName) ({ cls := "PaperStore", name := "read", desc := "()I" } : Jvm.MethodName)) ∈ lw_all := lw_g (lw_at lw_m12 101 rfl) rfl
theorem q2841 : (Jvm.Cond.codeWith ({ cls := "PaperStore", name := "read", desc := "()I" } : Jvm.MethodName) prog_1_method_55_code (6 : Nat) (Option.some Jvm.ClassFile.FieldType.int) [((21 : Nat), (84 : Nat), (85 : Nat), (459 : Nat)), ((21 : Nat), (84 : Nat), (99 : Nat), (25 : Nat))]) ∈ lw_all := lw_g (lw_at lw_m12 102 rfl) rfl
theorem q2842 : (Jvm.Cond.classLink "PaperStore" (459 : Nat) "PaperStore$BadText") ∈ lw_all := lw_g (lw_at lw_m12 103 rfl) rfl
theorem q2843 : (Jvm.Cond.classLink "PaperStore" (442 : Nat) "PaperStore$Parser") ∈ lw_all := lw_g (lw_at lw_m12 104 rfl) rfl
theorem q2845 : (Jvm.Cond.methodLink "PaperStore" (444 : Nat) ({ cls := "PaperStore$Parser", name := "<init>", desc := "([CI)V" } : Jvm.MethodName)) ∈ lw_all := lw_g (lw_at lw_m12 106 rfl) rfl
theorem q2854 : (Jvm.Cond.fieldLinkNest "PaperStore" (450 : Nat) "PaperStore$Parser" "commands" "Ljava/util/ArrayList;" "PaperStore") ∈ lw_tbl := lw_at lw_m12 115 rfl
theorem q2865 : (Jvm.Cond.methodLink "PaperStore" (447 : Nat) ({ cls := "PaperStore$Parser", name := "all", desc := "()V" } : Jvm.MethodName)) ∈ lw_all := lw_g (lw_at lw_m12 126 rfl) rfl
theorem q3288 : (Jvm.Cond.selects "PaperStore" ({ cls := "java/lang/Object", name := "toString", desc := "()Ljava/lang/String;" } : Jvm.MethodName) ({ cls := "java/lang/Object", name := "toString", desc := "()Ljava/lang/String;" } : Jvm.MethodName)) ∈ lw_all := lw_g (lw_at lw_m14 69 rfl) rfl
theorem q3536 : (Jvm.Cond.fieldLinkNest "PaperStore" (465 : Nat) "PaperStore$BadText" "position" "I" "PaperStore") ∈ lw_tbl := lw_at lw_m15 77 rfl
theorem q3570 : (Jvm.Cond.classLink "PaperStore" (453 : Nat) "PaperStore$Command") ∈ lw_all := lw_g (lw_at lw_m15 111 rfl) rfl
theorem q3571 : (Jvm.Cond.methodLink "PaperStore" (455 : Nat) ({ cls := "PaperStore$Command", name := "in", desc := "(LPaperStore$Store;)I" } : Jvm.MethodName)) ∈ lw_all := lw_g (lw_at lw_m15 112 rfl) rfl
theorem q3598 : (Jvm.Cond.instanceMethod ({ cls := "PaperStore", name := "errorPosition", desc := "()I" } : Jvm.MethodName)) ∈ lw_all := lw_g (lw_at lw_m15 139 rfl) rfl
theorem q3599 : (Jvm.Cond.selects "PaperStore" ({ cls := "PaperStore", name := "errorPosition", desc := "()I" } : Jvm.MethodName) ({ cls := "PaperStore", name := "errorPosition", desc := "()I" } : Jvm.MethodName)) ∈ lw_all := lw_g (lw_at lw_m15 140 rfl) rfl
theorem q3600 : (Jvm.Cond.code ({ cls := "PaperStore", name := "errorPosition", desc := "()I" } : Jvm.MethodName) prog_1_method_56_code (1 : Nat) (Option.some Jvm.ClassFile.FieldType.int)) ∈ lw_all := lw_g (lw_at lw_m15 141 rfl) rfl
theorem q3605 : (Jvm.Cond.instanceMethod ({ cls := "PaperStore", name := "reason", desc := "(Z)I" } : Jvm.MethodName)) ∈ lw_all := lw_g (lw_at lw_m15 146 rfl) rfl
theorem q3606 : (Jvm.Cond.selects "PaperStore" ({ cls := "PaperStore", name := "reason", desc := "(Z)I" } : Jvm.MethodName) ({ cls := "PaperStore", name := "reason", desc := "(Z)I" } : Jvm.MethodName)) ∈ lw_all := lw_g (lw_at lw_m15 147 rfl) rfl
theorem q3607 : (Jvm.Cond.code ({ cls := "PaperStore", name := "reason", desc := "(Z)I" } : Jvm.MethodName) prog_1_method_57_code (2 : Nat) (Option.some Jvm.ClassFile.FieldType.int)) ∈ lw_all := lw_g (lw_at lw_m15 148 rfl) rfl
theorem q3612 : (Jvm.Cond.instanceMethod ({ cls := "PaperStore", name := "undo", desc := "()I" } : Jvm.MethodName)) ∈ lw_all := lw_g (lw_at lw_m15 153 rfl) rfl
theorem q3613 : (Jvm.Cond.selects "PaperStore" ({ cls := "PaperStore", name := "undo", desc := "()I" } : Jvm.MethodName) ({ cls := "PaperStore", name := "undo", desc := "()I" } : Jvm.MethodName)) ∈ lw_all := lw_g (lw_at lw_m15 154 rfl) rfl
theorem q3614 : (Jvm.Cond.code ({ cls := "PaperStore", name := "undo", desc := "()I" } : Jvm.MethodName) prog_1_method_58_code (1 : Nat) (Option.some Jvm.ClassFile.FieldType.int)) ∈ lw_all := lw_g (lw_at lw_m15 155 rfl) rfl
theorem q3619 : (Jvm.Cond.instanceMethod ({ cls := "PaperStore", name := "restore", desc := "()I" } : Jvm.MethodName)) ∈ lw_all := lw_g (lw_at lw_m15 160 rfl) rfl
theorem q3620 : (Jvm.Cond.selects "PaperStore" ({ cls := "PaperStore", name := "restore", desc := "()I" } : Jvm.MethodName) ({ cls := "PaperStore", name := "restore", desc := "()I" } : Jvm.MethodName)) ∈ lw_all := lw_g (lw_at lw_m15 161 rfl) rfl
theorem q3621 : (Jvm.Cond.code ({ cls := "PaperStore", name := "restore", desc := "()I" } : Jvm.MethodName) prog_1_method_60_code (1 : Nat) (Option.some Jvm.ClassFile.FieldType.int)) ∈ lw_all := lw_g (lw_at lw_m15 162 rfl) rfl
theorem q3622 : (Jvm.Cond.methodLink "PaperStore" (477 : Nat) ({ cls := "java/util/ArrayList", name := "clear", desc := "()V" } : Jvm.MethodName)) ∈ lw_all := lw_g (lw_at lw_m15 163 rfl) rfl
theorem q4155 : (Jvm.Cond.castable "PaperStore" "java/lang/Object") ∈ lw_tbl := lw_at lw_m17 216 rfl
theorem in_X1 : ∀ w ∈ wsX10, w ∈ lw_all := lw_in wsX10 [395, 397, 399, 401, 403, 405, 407, 409] (by decide +kernel) (by decide +kernel)
