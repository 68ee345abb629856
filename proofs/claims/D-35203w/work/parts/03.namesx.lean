/-! FairBattenLaw -/
set_option maxRecDepth 100000
def RX0 : String := "FairBattenLaw"
abbrev cX0_offset : ByteArray := method_3_code
def yX0_offset : MethodName := ⟨RX0, "offset", "(LFairBatten;III[J)I"⟩
def dkwX0_offset_1 : List UInt8 := [58, 5, 6, 172, 3, 172]
abbrev dktX0_offset_1 : List UInt8 := dkwX0_offset_1 ++ []
def dkwX0_offset_0 : List UInt8 := [25, 4, 3, 42, 27, 28, 29, 182, 0, 7, 133, 80, 167, 0, 15, 58, 5, 4, 172, 58, 5, 5, 172]
abbrev dktX0_offset_0 : List UInt8 := dkwX0_offset_0 ++ dktX0_offset_1
theorem dksX0_offset_0 : cX0_offset.data.toList.drop 0 = dktX0_offset_0 := by decide +kernel
theorem dksX0_offset_1 : cX0_offset.data.toList.drop 23 = dktX0_offset_1 := dk_seg dksX0_offset_0 23 rfl rfl
theorem dX0_offset_0 : decode cX0_offset 0 = .ok (.aload 4, 2) := dk_25 4 (dk_at dksX0_offset_0 0 rfl rfl)
theorem dX0_offset_2 : decode cX0_offset 2 = .ok (.iconst 0, 1) := dk_3 (dk_at dksX0_offset_0 2 rfl rfl)
theorem dX0_offset_3 : decode cX0_offset 3 = .ok (.aload_n 0, 1) := dk_42 (dk_at dksX0_offset_0 3 rfl rfl)
theorem dX0_offset_4 : decode cX0_offset 4 = .ok (.iload_n 1, 1) := dk_27 (dk_at dksX0_offset_0 4 rfl rfl)
theorem dX0_offset_5 : decode cX0_offset 5 = .ok (.iload_n 2, 1) := dk_28 (dk_at dksX0_offset_0 5 rfl rfl)
theorem dX0_offset_6 : decode cX0_offset 6 = .ok (.iload_n 3, 1) := dk_29 (dk_at dksX0_offset_0 6 rfl rfl)
theorem dX0_offset_7 : decode cX0_offset 7 = .ok (.invokevirtual 7, 3) := dk_182 0 7 (dk_at dksX0_offset_0 7 rfl rfl)
theorem dX0_offset_10 : decode cX0_offset 10 = .ok (.i2l, 1) := dk_133 (dk_at dksX0_offset_0 10 rfl rfl)
theorem dX0_offset_11 : decode cX0_offset 11 = .ok (.lastore, 1) := dk_80 (dk_at dksX0_offset_0 11 rfl rfl)
theorem dX0_offset_12 : decode cX0_offset 12 = .ok (.goto 15, 3) := dk_167 0 15 (dk_at dksX0_offset_0 12 rfl rfl)
theorem dX0_offset_15 : decode cX0_offset 15 = .ok (.astore 5, 2) := dk_58 5 (dk_at dksX0_offset_0 15 rfl rfl)
theorem dX0_offset_17 : decode cX0_offset 17 = .ok (.iconst 1, 1) := dk_4 (dk_at dksX0_offset_0 17 rfl rfl)
theorem dX0_offset_18 : decode cX0_offset 18 = .ok (.ireturn, 1) := dk_172 (dk_at dksX0_offset_0 18 rfl rfl)
theorem dX0_offset_19 : decode cX0_offset 19 = .ok (.astore 5, 2) := dk_58 5 (dk_at dksX0_offset_0 19 rfl rfl)
theorem dX0_offset_21 : decode cX0_offset 21 = .ok (.iconst 2, 1) := dk_5 (dk_at dksX0_offset_0 21 rfl rfl)
theorem dX0_offset_22 : decode cX0_offset 22 = .ok (.ireturn, 1) := dk_172 (dk_at dksX0_offset_0 22 rfl rfl)
theorem dX0_offset_23 : decode cX0_offset 23 = .ok (.astore 5, 2) := dk_58 5 (dk_at dksX0_offset_1 0 rfl rfl)
theorem dX0_offset_25 : decode cX0_offset 25 = .ok (.iconst 3, 1) := dk_6 (dk_at dksX0_offset_1 2 rfl rfl)
theorem dX0_offset_26 : decode cX0_offset 26 = .ok (.ireturn, 1) := dk_172 (dk_at dksX0_offset_1 3 rfl rfl)
theorem dX0_offset_27 : decode cX0_offset 27 = .ok (.iconst 0, 1) := dk_3 (dk_at dksX0_offset_1 4 rfl rfl)
theorem dX0_offset_28 : decode cX0_offset 28 = .ok (.ireturn, 1) := dk_172 (dk_at dksX0_offset_1 5 rfl rfl)
abbrev cX0_half : ByteArray := method_4_code
def yX0_half : MethodName := ⟨RX0, "half", "(LFairBatten;II[J)I"⟩
def dkwX0_half_0 : List UInt8 := [45, 3, 42, 27, 28, 182, 0, 19, 133, 80, 167, 0, 7, 58, 4, 4, 172, 3, 172]
abbrev dktX0_half_0 : List UInt8 := dkwX0_half_0 ++ []
theorem dksX0_half_0 : cX0_half.data.toList.drop 0 = dktX0_half_0 := by decide +kernel
theorem dX0_half_0 : decode cX0_half 0 = .ok (.aload_n 3, 1) := dk_45 (dk_at dksX0_half_0 0 rfl rfl)
theorem dX0_half_1 : decode cX0_half 1 = .ok (.iconst 0, 1) := dk_3 (dk_at dksX0_half_0 1 rfl rfl)
theorem dX0_half_2 : decode cX0_half 2 = .ok (.aload_n 0, 1) := dk_42 (dk_at dksX0_half_0 2 rfl rfl)
theorem dX0_half_3 : decode cX0_half 3 = .ok (.iload_n 1, 1) := dk_27 (dk_at dksX0_half_0 3 rfl rfl)
theorem dX0_half_4 : decode cX0_half 4 = .ok (.iload_n 2, 1) := dk_28 (dk_at dksX0_half_0 4 rfl rfl)
theorem dX0_half_5 : decode cX0_half 5 = .ok (.invokevirtual 19, 3) := dk_182 0 19 (dk_at dksX0_half_0 5 rfl rfl)
theorem dX0_half_8 : decode cX0_half 8 = .ok (.i2l, 1) := dk_133 (dk_at dksX0_half_0 8 rfl rfl)
theorem dX0_half_9 : decode cX0_half 9 = .ok (.lastore, 1) := dk_80 (dk_at dksX0_half_0 9 rfl rfl)
theorem dX0_half_10 : decode cX0_half 10 = .ok (.goto 7, 3) := dk_167 0 7 (dk_at dksX0_half_0 10 rfl rfl)
theorem dX0_half_13 : decode cX0_half 13 = .ok (.astore 4, 2) := dk_58 4 (dk_at dksX0_half_0 13 rfl rfl)
theorem dX0_half_15 : decode cX0_half 15 = .ok (.iconst 1, 1) := dk_4 (dk_at dksX0_half_0 15 rfl rfl)
theorem dX0_half_16 : decode cX0_half 16 = .ok (.ireturn, 1) := dk_172 (dk_at dksX0_half_0 16 rfl rfl)
theorem dX0_half_17 : decode cX0_half 17 = .ok (.iconst 0, 1) := dk_3 (dk_at dksX0_half_0 17 rfl rfl)
theorem dX0_half_18 : decode cX0_half 18 = .ok (.ireturn, 1) := dk_172 (dk_at dksX0_half_0 18 rfl rfl)
abbrev cX0_bend : ByteArray := method_5_code
def yX0_bend : MethodName := ⟨RX0, "bend", "(LFairBatten;I[J)I"⟩
def dkwX0_bend_0 : List UInt8 := [44, 3, 42, 27, 182, 0, 23, 133, 80, 167, 0, 6, 78, 4, 172, 3, 172]
abbrev dktX0_bend_0 : List UInt8 := dkwX0_bend_0 ++ []
theorem dksX0_bend_0 : cX0_bend.data.toList.drop 0 = dktX0_bend_0 := by decide +kernel
theorem dX0_bend_0 : decode cX0_bend 0 = .ok (.aload_n 2, 1) := dk_44 (dk_at dksX0_bend_0 0 rfl rfl)
theorem dX0_bend_1 : decode cX0_bend 1 = .ok (.iconst 0, 1) := dk_3 (dk_at dksX0_bend_0 1 rfl rfl)
theorem dX0_bend_2 : decode cX0_bend 2 = .ok (.aload_n 0, 1) := dk_42 (dk_at dksX0_bend_0 2 rfl rfl)
theorem dX0_bend_3 : decode cX0_bend 3 = .ok (.iload_n 1, 1) := dk_27 (dk_at dksX0_bend_0 3 rfl rfl)
theorem dX0_bend_4 : decode cX0_bend 4 = .ok (.invokevirtual 23, 3) := dk_182 0 23 (dk_at dksX0_bend_0 4 rfl rfl)
theorem dX0_bend_7 : decode cX0_bend 7 = .ok (.i2l, 1) := dk_133 (dk_at dksX0_bend_0 7 rfl rfl)
theorem dX0_bend_8 : decode cX0_bend 8 = .ok (.lastore, 1) := dk_80 (dk_at dksX0_bend_0 8 rfl rfl)
theorem dX0_bend_9 : decode cX0_bend 9 = .ok (.goto 6, 3) := dk_167 0 6 (dk_at dksX0_bend_0 9 rfl rfl)
theorem dX0_bend_12 : decode cX0_bend 12 = .ok (.astore_n 3, 1) := dk_78 (dk_at dksX0_bend_0 12 rfl rfl)
theorem dX0_bend_13 : decode cX0_bend 13 = .ok (.iconst 1, 1) := dk_4 (dk_at dksX0_bend_0 13 rfl rfl)
theorem dX0_bend_14 : decode cX0_bend 14 = .ok (.ireturn, 1) := dk_172 (dk_at dksX0_bend_0 14 rfl rfl)
theorem dX0_bend_15 : decode cX0_bend 15 = .ok (.iconst 0, 1) := dk_3 (dk_at dksX0_bend_0 15 rfl rfl)
theorem dX0_bend_16 : decode cX0_bend 16 = .ok (.ireturn, 1) := dk_172 (dk_at dksX0_bend_0 16 rfl rfl)
abbrev cX0_fair : ByteArray := method_6_code
def yX0_fair : MethodName := ⟨RX0, "fair", "(LFairBatten;II[J)I"⟩
def dkwX0_fair_1 : List UInt8 := [172, 3, 172]
abbrev dktX0_fair_1 : List UInt8 := dkwX0_fair_1 ++ []
def dkwX0_fair_0 : List UInt8 := [45, 3, 42, 27, 28, 182, 0, 27, 133, 80, 167, 0, 15, 58, 4, 4, 172, 58, 4, 5, 172, 58, 4, 6]
abbrev dktX0_fair_0 : List UInt8 := dkwX0_fair_0 ++ dktX0_fair_1
theorem dksX0_fair_0 : cX0_fair.data.toList.drop 0 = dktX0_fair_0 := by decide +kernel
theorem dksX0_fair_1 : cX0_fair.data.toList.drop 24 = dktX0_fair_1 := dk_seg dksX0_fair_0 24 rfl rfl
theorem dX0_fair_0 : decode cX0_fair 0 = .ok (.aload_n 3, 1) := dk_45 (dk_at dksX0_fair_0 0 rfl rfl)
theorem dX0_fair_1 : decode cX0_fair 1 = .ok (.iconst 0, 1) := dk_3 (dk_at dksX0_fair_0 1 rfl rfl)
theorem dX0_fair_2 : decode cX0_fair 2 = .ok (.aload_n 0, 1) := dk_42 (dk_at dksX0_fair_0 2 rfl rfl)
theorem dX0_fair_3 : decode cX0_fair 3 = .ok (.iload_n 1, 1) := dk_27 (dk_at dksX0_fair_0 3 rfl rfl)
theorem dX0_fair_4 : decode cX0_fair 4 = .ok (.iload_n 2, 1) := dk_28 (dk_at dksX0_fair_0 4 rfl rfl)
theorem dX0_fair_5 : decode cX0_fair 5 = .ok (.invokevirtual 27, 3) := dk_182 0 27 (dk_at dksX0_fair_0 5 rfl rfl)
theorem dX0_fair_8 : decode cX0_fair 8 = .ok (.i2l, 1) := dk_133 (dk_at dksX0_fair_0 8 rfl rfl)
theorem dX0_fair_9 : decode cX0_fair 9 = .ok (.lastore, 1) := dk_80 (dk_at dksX0_fair_0 9 rfl rfl)
theorem dX0_fair_10 : decode cX0_fair 10 = .ok (.goto 15, 3) := dk_167 0 15 (dk_at dksX0_fair_0 10 rfl rfl)
theorem dX0_fair_13 : decode cX0_fair 13 = .ok (.astore 4, 2) := dk_58 4 (dk_at dksX0_fair_0 13 rfl rfl)
theorem dX0_fair_15 : decode cX0_fair 15 = .ok (.iconst 1, 1) := dk_4 (dk_at dksX0_fair_0 15 rfl rfl)
theorem dX0_fair_16 : decode cX0_fair 16 = .ok (.ireturn, 1) := dk_172 (dk_at dksX0_fair_0 16 rfl rfl)
theorem dX0_fair_17 : decode cX0_fair 17 = .ok (.astore 4, 2) := dk_58 4 (dk_at dksX0_fair_0 17 rfl rfl)
theorem dX0_fair_19 : decode cX0_fair 19 = .ok (.iconst 2, 1) := dk_5 (dk_at dksX0_fair_0 19 rfl rfl)
theorem dX0_fair_20 : decode cX0_fair 20 = .ok (.ireturn, 1) := dk_172 (dk_at dksX0_fair_0 20 rfl rfl)
theorem dX0_fair_21 : decode cX0_fair 21 = .ok (.astore 4, 2) := dk_58 4 (dk_at dksX0_fair_0 21 rfl rfl)
theorem dX0_fair_23 : decode cX0_fair 23 = .ok (.iconst 3, 1) := dk_6 (dk_at dksX0_fair_0 23 rfl rfl)
theorem dX0_fair_24 : decode cX0_fair 24 = .ok (.ireturn, 1) := dk_172 (dk_at dksX0_fair_1 0 rfl rfl)
theorem dX0_fair_25 : decode cX0_fair 25 = .ok (.iconst 0, 1) := dk_3 (dk_at dksX0_fair_1 1 rfl rfl)
theorem dX0_fair_26 : decode cX0_fair 26 = .ok (.ireturn, 1) := dk_172 (dk_at dksX0_fair_1 2 rfl rfl)
abbrev cX0_area : ByteArray := method_7_code
def yX0_area : MethodName := ⟨RX0, "area", "(LFairBatten;II[J)I"⟩
def dkwX0_area_0 : List UInt8 := [45, 3, 42, 27, 28, 182, 0, 30, 133, 80, 167, 0, 7, 58, 4, 4, 172, 3, 172]
abbrev dktX0_area_0 : List UInt8 := dkwX0_area_0 ++ []
theorem dksX0_area_0 : cX0_area.data.toList.drop 0 = dktX0_area_0 := by decide +kernel
theorem dX0_area_0 : decode cX0_area 0 = .ok (.aload_n 3, 1) := dk_45 (dk_at dksX0_area_0 0 rfl rfl)
theorem dX0_area_1 : decode cX0_area 1 = .ok (.iconst 0, 1) := dk_3 (dk_at dksX0_area_0 1 rfl rfl)
theorem dX0_area_2 : decode cX0_area 2 = .ok (.aload_n 0, 1) := dk_42 (dk_at dksX0_area_0 2 rfl rfl)
theorem dX0_area_3 : decode cX0_area 3 = .ok (.iload_n 1, 1) := dk_27 (dk_at dksX0_area_0 3 rfl rfl)
theorem dX0_area_4 : decode cX0_area 4 = .ok (.iload_n 2, 1) := dk_28 (dk_at dksX0_area_0 4 rfl rfl)
theorem dX0_area_5 : decode cX0_area 5 = .ok (.invokevirtual 30, 3) := dk_182 0 30 (dk_at dksX0_area_0 5 rfl rfl)
theorem dX0_area_8 : decode cX0_area 8 = .ok (.i2l, 1) := dk_133 (dk_at dksX0_area_0 8 rfl rfl)
theorem dX0_area_9 : decode cX0_area 9 = .ok (.lastore, 1) := dk_80 (dk_at dksX0_area_0 9 rfl rfl)
theorem dX0_area_10 : decode cX0_area 10 = .ok (.goto 7, 3) := dk_167 0 7 (dk_at dksX0_area_0 10 rfl rfl)
theorem dX0_area_13 : decode cX0_area 13 = .ok (.astore 4, 2) := dk_58 4 (dk_at dksX0_area_0 13 rfl rfl)
theorem dX0_area_15 : decode cX0_area 15 = .ok (.iconst 1, 1) := dk_4 (dk_at dksX0_area_0 15 rfl rfl)
theorem dX0_area_16 : decode cX0_area 16 = .ok (.ireturn, 1) := dk_172 (dk_at dksX0_area_0 16 rfl rfl)
theorem dX0_area_17 : decode cX0_area 17 = .ok (.iconst 0, 1) := dk_3 (dk_at dksX0_area_0 17 rfl rfl)
theorem dX0_area_18 : decode cX0_area 18 = .ok (.ireturn, 1) := dk_172 (dk_at dksX0_area_0 18 rfl rfl)
abbrev cX0_volume : ByteArray := method_8_code
def yX0_volume : MethodName := ⟨RX0, "volume", "(LFairBatten;I[J)I"⟩
def dkwX0_volume_0 : List UInt8 := [44, 3, 42, 27, 182, 0, 33, 133, 80, 167, 0, 6, 78, 4, 172, 3, 172]
abbrev dktX0_volume_0 : List UInt8 := dkwX0_volume_0 ++ []
theorem dksX0_volume_0 : cX0_volume.data.toList.drop 0 = dktX0_volume_0 := by decide +kernel
theorem dX0_volume_0 : decode cX0_volume 0 = .ok (.aload_n 2, 1) := dk_44 (dk_at dksX0_volume_0 0 rfl rfl)
theorem dX0_volume_1 : decode cX0_volume 1 = .ok (.iconst 0, 1) := dk_3 (dk_at dksX0_volume_0 1 rfl rfl)
theorem dX0_volume_2 : decode cX0_volume 2 = .ok (.aload_n 0, 1) := dk_42 (dk_at dksX0_volume_0 2 rfl rfl)
theorem dX0_volume_3 : decode cX0_volume 3 = .ok (.iload_n 1, 1) := dk_27 (dk_at dksX0_volume_0 3 rfl rfl)
theorem dX0_volume_4 : decode cX0_volume 4 = .ok (.invokevirtual 33, 3) := dk_182 0 33 (dk_at dksX0_volume_0 4 rfl rfl)
theorem dX0_volume_7 : decode cX0_volume 7 = .ok (.i2l, 1) := dk_133 (dk_at dksX0_volume_0 7 rfl rfl)
theorem dX0_volume_8 : decode cX0_volume 8 = .ok (.lastore, 1) := dk_80 (dk_at dksX0_volume_0 8 rfl rfl)
theorem dX0_volume_9 : decode cX0_volume 9 = .ok (.goto 6, 3) := dk_167 0 6 (dk_at dksX0_volume_0 9 rfl rfl)
theorem dX0_volume_12 : decode cX0_volume 12 = .ok (.astore_n 3, 1) := dk_78 (dk_at dksX0_volume_0 12 rfl rfl)
theorem dX0_volume_13 : decode cX0_volume 13 = .ok (.iconst 1, 1) := dk_4 (dk_at dksX0_volume_0 13 rfl rfl)
theorem dX0_volume_14 : decode cX0_volume 14 = .ok (.ireturn, 1) := dk_172 (dk_at dksX0_volume_0 14 rfl rfl)
theorem dX0_volume_15 : decode cX0_volume 15 = .ok (.iconst 0, 1) := dk_3 (dk_at dksX0_volume_0 15 rfl rfl)
theorem dX0_volume_16 : decode cX0_volume 16 = .ok (.ireturn, 1) := dk_172 (dk_at dksX0_volume_0 16 rfl rfl)
abbrev cX0_volumeAnew : ByteArray := method_9_code
def yX0_volumeAnew : MethodName := ⟨RX0, "volumeAnew", "(LFairBatten;I[J)I"⟩
def dkwX0_volumeAnew_0 : List UInt8 := [44, 3, 42, 27, 182, 0, 36, 133, 80, 167, 0, 6, 78, 4, 172, 3, 172]
abbrev dktX0_volumeAnew_0 : List UInt8 := dkwX0_volumeAnew_0 ++ []
theorem dksX0_volumeAnew_0 : cX0_volumeAnew.data.toList.drop 0 = dktX0_volumeAnew_0 := by decide +kernel
theorem dX0_volumeAnew_0 : decode cX0_volumeAnew 0 = .ok (.aload_n 2, 1) := dk_44 (dk_at dksX0_volumeAnew_0 0 rfl rfl)
theorem dX0_volumeAnew_1 : decode cX0_volumeAnew 1 = .ok (.iconst 0, 1) := dk_3 (dk_at dksX0_volumeAnew_0 1 rfl rfl)
theorem dX0_volumeAnew_2 : decode cX0_volumeAnew 2 = .ok (.aload_n 0, 1) := dk_42 (dk_at dksX0_volumeAnew_0 2 rfl rfl)
theorem dX0_volumeAnew_3 : decode cX0_volumeAnew 3 = .ok (.iload_n 1, 1) := dk_27 (dk_at dksX0_volumeAnew_0 3 rfl rfl)
theorem dX0_volumeAnew_4 : decode cX0_volumeAnew 4 = .ok (.invokevirtual 36, 3) := dk_182 0 36 (dk_at dksX0_volumeAnew_0 4 rfl rfl)
theorem dX0_volumeAnew_7 : decode cX0_volumeAnew 7 = .ok (.i2l, 1) := dk_133 (dk_at dksX0_volumeAnew_0 7 rfl rfl)
theorem dX0_volumeAnew_8 : decode cX0_volumeAnew 8 = .ok (.lastore, 1) := dk_80 (dk_at dksX0_volumeAnew_0 8 rfl rfl)
theorem dX0_volumeAnew_9 : decode cX0_volumeAnew 9 = .ok (.goto 6, 3) := dk_167 0 6 (dk_at dksX0_volumeAnew_0 9 rfl rfl)
theorem dX0_volumeAnew_12 : decode cX0_volumeAnew 12 = .ok (.astore_n 3, 1) := dk_78 (dk_at dksX0_volumeAnew_0 12 rfl rfl)
theorem dX0_volumeAnew_13 : decode cX0_volumeAnew 13 = .ok (.iconst 1, 1) := dk_4 (dk_at dksX0_volumeAnew_0 13 rfl rfl)
theorem dX0_volumeAnew_14 : decode cX0_volumeAnew 14 = .ok (.ireturn, 1) := dk_172 (dk_at dksX0_volumeAnew_0 14 rfl rfl)
theorem dX0_volumeAnew_15 : decode cX0_volumeAnew 15 = .ok (.iconst 0, 1) := dk_3 (dk_at dksX0_volumeAnew_0 15 rfl rfl)
theorem dX0_volumeAnew_16 : decode cX0_volumeAnew 16 = .ok (.ireturn, 1) := dk_172 (dk_at dksX0_volumeAnew_0 16 rfl rfl)
abbrev cX0_weigh : ByteArray := method_10_code
def yX0_weigh : MethodName := ⟨RX0, "weigh", "(LFairBatten;II[J)I"⟩
def dkwX0_weigh_1 : List UInt8 := [172, 3, 172]
abbrev dktX0_weigh_1 : List UInt8 := dkwX0_weigh_1 ++ []
def dkwX0_weigh_0 : List UInt8 := [45, 3, 42, 27, 28, 182, 0, 39, 133, 80, 167, 0, 15, 58, 4, 4, 172, 58, 4, 5, 172, 58, 4, 6]
abbrev dktX0_weigh_0 : List UInt8 := dkwX0_weigh_0 ++ dktX0_weigh_1
theorem dksX0_weigh_0 : cX0_weigh.data.toList.drop 0 = dktX0_weigh_0 := by decide +kernel
theorem dksX0_weigh_1 : cX0_weigh.data.toList.drop 24 = dktX0_weigh_1 := dk_seg dksX0_weigh_0 24 rfl rfl
theorem dX0_weigh_0 : decode cX0_weigh 0 = .ok (.aload_n 3, 1) := dk_45 (dk_at dksX0_weigh_0 0 rfl rfl)
theorem dX0_weigh_1 : decode cX0_weigh 1 = .ok (.iconst 0, 1) := dk_3 (dk_at dksX0_weigh_0 1 rfl rfl)
theorem dX0_weigh_2 : decode cX0_weigh 2 = .ok (.aload_n 0, 1) := dk_42 (dk_at dksX0_weigh_0 2 rfl rfl)
theorem dX0_weigh_3 : decode cX0_weigh 3 = .ok (.iload_n 1, 1) := dk_27 (dk_at dksX0_weigh_0 3 rfl rfl)
theorem dX0_weigh_4 : decode cX0_weigh 4 = .ok (.iload_n 2, 1) := dk_28 (dk_at dksX0_weigh_0 4 rfl rfl)
theorem dX0_weigh_5 : decode cX0_weigh 5 = .ok (.invokevirtual 39, 3) := dk_182 0 39 (dk_at dksX0_weigh_0 5 rfl rfl)
theorem dX0_weigh_8 : decode cX0_weigh 8 = .ok (.i2l, 1) := dk_133 (dk_at dksX0_weigh_0 8 rfl rfl)
theorem dX0_weigh_9 : decode cX0_weigh 9 = .ok (.lastore, 1) := dk_80 (dk_at dksX0_weigh_0 9 rfl rfl)
theorem dX0_weigh_10 : decode cX0_weigh 10 = .ok (.goto 15, 3) := dk_167 0 15 (dk_at dksX0_weigh_0 10 rfl rfl)
theorem dX0_weigh_13 : decode cX0_weigh 13 = .ok (.astore 4, 2) := dk_58 4 (dk_at dksX0_weigh_0 13 rfl rfl)
theorem dX0_weigh_15 : decode cX0_weigh 15 = .ok (.iconst 1, 1) := dk_4 (dk_at dksX0_weigh_0 15 rfl rfl)
theorem dX0_weigh_16 : decode cX0_weigh 16 = .ok (.ireturn, 1) := dk_172 (dk_at dksX0_weigh_0 16 rfl rfl)
theorem dX0_weigh_17 : decode cX0_weigh 17 = .ok (.astore 4, 2) := dk_58 4 (dk_at dksX0_weigh_0 17 rfl rfl)
theorem dX0_weigh_19 : decode cX0_weigh 19 = .ok (.iconst 2, 1) := dk_5 (dk_at dksX0_weigh_0 19 rfl rfl)
theorem dX0_weigh_20 : decode cX0_weigh 20 = .ok (.ireturn, 1) := dk_172 (dk_at dksX0_weigh_0 20 rfl rfl)
theorem dX0_weigh_21 : decode cX0_weigh 21 = .ok (.astore 4, 2) := dk_58 4 (dk_at dksX0_weigh_0 21 rfl rfl)
theorem dX0_weigh_23 : decode cX0_weigh 23 = .ok (.iconst 3, 1) := dk_6 (dk_at dksX0_weigh_0 23 rfl rfl)
theorem dX0_weigh_24 : decode cX0_weigh 24 = .ok (.ireturn, 1) := dk_172 (dk_at dksX0_weigh_1 0 rfl rfl)
theorem dX0_weigh_25 : decode cX0_weigh 25 = .ok (.iconst 0, 1) := dk_3 (dk_at dksX0_weigh_1 1 rfl rfl)
theorem dX0_weigh_26 : decode cX0_weigh 26 = .ok (.ireturn, 1) := dk_172 (dk_at dksX0_weigh_1 2 rfl rfl)
abbrev cX0_change : ByteArray := method_11_code
def yX0_change : MethodName := ⟨RX0, "change", "(LFairBatten;III[J)I"⟩
def dkwX0_change_1 : List UInt8 := [172]
abbrev dktX0_change_1 : List UInt8 := dkwX0_change_1 ++ []
def dkwX0_change_0 : List UInt8 := [25, 4, 3, 42, 27, 28, 29, 182, 0, 42, 133, 80, 167, 0, 11, 58, 5, 4, 172, 58, 5, 5, 172, 3]
abbrev dktX0_change_0 : List UInt8 := dkwX0_change_0 ++ dktX0_change_1
theorem dksX0_change_0 : cX0_change.data.toList.drop 0 = dktX0_change_0 := by decide +kernel
theorem dksX0_change_1 : cX0_change.data.toList.drop 24 = dktX0_change_1 := dk_seg dksX0_change_0 24 rfl rfl
theorem dX0_change_0 : decode cX0_change 0 = .ok (.aload 4, 2) := dk_25 4 (dk_at dksX0_change_0 0 rfl rfl)
theorem dX0_change_2 : decode cX0_change 2 = .ok (.iconst 0, 1) := dk_3 (dk_at dksX0_change_0 2 rfl rfl)
theorem dX0_change_3 : decode cX0_change 3 = .ok (.aload_n 0, 1) := dk_42 (dk_at dksX0_change_0 3 rfl rfl)
theorem dX0_change_4 : decode cX0_change 4 = .ok (.iload_n 1, 1) := dk_27 (dk_at dksX0_change_0 4 rfl rfl)
theorem dX0_change_5 : decode cX0_change 5 = .ok (.iload_n 2, 1) := dk_28 (dk_at dksX0_change_0 5 rfl rfl)
theorem dX0_change_6 : decode cX0_change 6 = .ok (.iload_n 3, 1) := dk_29 (dk_at dksX0_change_0 6 rfl rfl)
theorem dX0_change_7 : decode cX0_change 7 = .ok (.invokevirtual 42, 3) := dk_182 0 42 (dk_at dksX0_change_0 7 rfl rfl)
theorem dX0_change_10 : decode cX0_change 10 = .ok (.i2l, 1) := dk_133 (dk_at dksX0_change_0 10 rfl rfl)
theorem dX0_change_11 : decode cX0_change 11 = .ok (.lastore, 1) := dk_80 (dk_at dksX0_change_0 11 rfl rfl)
theorem dX0_change_12 : decode cX0_change 12 = .ok (.goto 11, 3) := dk_167 0 11 (dk_at dksX0_change_0 12 rfl rfl)
theorem dX0_change_15 : decode cX0_change 15 = .ok (.astore 5, 2) := dk_58 5 (dk_at dksX0_change_0 15 rfl rfl)
theorem dX0_change_17 : decode cX0_change 17 = .ok (.iconst 1, 1) := dk_4 (dk_at dksX0_change_0 17 rfl rfl)
theorem dX0_change_18 : decode cX0_change 18 = .ok (.ireturn, 1) := dk_172 (dk_at dksX0_change_0 18 rfl rfl)
theorem dX0_change_19 : decode cX0_change 19 = .ok (.astore 5, 2) := dk_58 5 (dk_at dksX0_change_0 19 rfl rfl)
theorem dX0_change_21 : decode cX0_change 21 = .ok (.iconst 2, 1) := dk_5 (dk_at dksX0_change_0 21 rfl rfl)
theorem dX0_change_22 : decode cX0_change 22 = .ok (.ireturn, 1) := dk_172 (dk_at dksX0_change_0 22 rfl rfl)
theorem dX0_change_23 : decode cX0_change 23 = .ok (.iconst 0, 1) := dk_3 (dk_at dksX0_change_0 23 rfl rfl)
theorem dX0_change_24 : decode cX0_change 24 = .ok (.ireturn, 1) := dk_172 (dk_at dksX0_change_1 0 rfl rfl)
abbrev cX0_ballast : ByteArray := method_12_code
def yX0_ballast : MethodName := ⟨RX0, "ballast", "(LFairBatten;I[J)I"⟩
def dkwX0_ballast_0 : List UInt8 := [44, 3, 42, 27, 182, 0, 45, 133, 80, 167, 0, 6, 78, 4, 172, 3, 172]
abbrev dktX0_ballast_0 : List UInt8 := dkwX0_ballast_0 ++ []
theorem dksX0_ballast_0 : cX0_ballast.data.toList.drop 0 = dktX0_ballast_0 := by decide +kernel
theorem dX0_ballast_0 : decode cX0_ballast 0 = .ok (.aload_n 2, 1) := dk_44 (dk_at dksX0_ballast_0 0 rfl rfl)
theorem dX0_ballast_1 : decode cX0_ballast 1 = .ok (.iconst 0, 1) := dk_3 (dk_at dksX0_ballast_0 1 rfl rfl)
theorem dX0_ballast_2 : decode cX0_ballast 2 = .ok (.aload_n 0, 1) := dk_42 (dk_at dksX0_ballast_0 2 rfl rfl)
theorem dX0_ballast_3 : decode cX0_ballast 3 = .ok (.iload_n 1, 1) := dk_27 (dk_at dksX0_ballast_0 3 rfl rfl)
theorem dX0_ballast_4 : decode cX0_ballast 4 = .ok (.invokevirtual 45, 3) := dk_182 0 45 (dk_at dksX0_ballast_0 4 rfl rfl)
theorem dX0_ballast_7 : decode cX0_ballast 7 = .ok (.i2l, 1) := dk_133 (dk_at dksX0_ballast_0 7 rfl rfl)
theorem dX0_ballast_8 : decode cX0_ballast 8 = .ok (.lastore, 1) := dk_80 (dk_at dksX0_ballast_0 8 rfl rfl)
theorem dX0_ballast_9 : decode cX0_ballast 9 = .ok (.goto 6, 3) := dk_167 0 6 (dk_at dksX0_ballast_0 9 rfl rfl)
theorem dX0_ballast_12 : decode cX0_ballast 12 = .ok (.astore_n 3, 1) := dk_78 (dk_at dksX0_ballast_0 12 rfl rfl)
theorem dX0_ballast_13 : decode cX0_ballast 13 = .ok (.iconst 1, 1) := dk_4 (dk_at dksX0_ballast_0 13 rfl rfl)
theorem dX0_ballast_14 : decode cX0_ballast 14 = .ok (.ireturn, 1) := dk_172 (dk_at dksX0_ballast_0 14 rfl rfl)
theorem dX0_ballast_15 : decode cX0_ballast 15 = .ok (.iconst 0, 1) := dk_3 (dk_at dksX0_ballast_0 15 rfl rfl)
theorem dX0_ballast_16 : decode cX0_ballast 16 = .ok (.ireturn, 1) := dk_172 (dk_at dksX0_ballast_0 16 rfl rfl)
abbrev cX0_strake : ByteArray := method_13_code
def yX0_strake : MethodName := ⟨RX0, "strake", "(LFairBatten;I[J)I"⟩
def dkwX0_strake_0 : List UInt8 := [44, 3, 42, 27, 182, 0, 48, 133, 80, 167, 0, 6, 78, 4, 172, 3, 172]
abbrev dktX0_strake_0 : List UInt8 := dkwX0_strake_0 ++ []
theorem dksX0_strake_0 : cX0_strake.data.toList.drop 0 = dktX0_strake_0 := by decide +kernel
theorem dX0_strake_0 : decode cX0_strake 0 = .ok (.aload_n 2, 1) := dk_44 (dk_at dksX0_strake_0 0 rfl rfl)
theorem dX0_strake_1 : decode cX0_strake 1 = .ok (.iconst 0, 1) := dk_3 (dk_at dksX0_strake_0 1 rfl rfl)
theorem dX0_strake_2 : decode cX0_strake 2 = .ok (.aload_n 0, 1) := dk_42 (dk_at dksX0_strake_0 2 rfl rfl)
theorem dX0_strake_3 : decode cX0_strake 3 = .ok (.iload_n 1, 1) := dk_27 (dk_at dksX0_strake_0 3 rfl rfl)
theorem dX0_strake_4 : decode cX0_strake 4 = .ok (.invokevirtual 48, 3) := dk_182 0 48 (dk_at dksX0_strake_0 4 rfl rfl)
theorem dX0_strake_7 : decode cX0_strake 7 = .ok (.i2l, 1) := dk_133 (dk_at dksX0_strake_0 7 rfl rfl)
theorem dX0_strake_8 : decode cX0_strake 8 = .ok (.lastore, 1) := dk_80 (dk_at dksX0_strake_0 8 rfl rfl)
theorem dX0_strake_9 : decode cX0_strake 9 = .ok (.goto 6, 3) := dk_167 0 6 (dk_at dksX0_strake_0 9 rfl rfl)
theorem dX0_strake_12 : decode cX0_strake 12 = .ok (.astore_n 3, 1) := dk_78 (dk_at dksX0_strake_0 12 rfl rfl)
theorem dX0_strake_13 : decode cX0_strake 13 = .ok (.iconst 1, 1) := dk_4 (dk_at dksX0_strake_0 13 rfl rfl)
theorem dX0_strake_14 : decode cX0_strake 14 = .ok (.ireturn, 1) := dk_172 (dk_at dksX0_strake_0 14 rfl rfl)
theorem dX0_strake_15 : decode cX0_strake 15 = .ok (.iconst 0, 1) := dk_3 (dk_at dksX0_strake_0 15 rfl rfl)
theorem dX0_strake_16 : decode cX0_strake 16 = .ok (.ireturn, 1) := dk_172 (dk_at dksX0_strake_0 16 rfl rfl)
abbrev cX0_planks : ByteArray := method_14_code
def yX0_planks : MethodName := ⟨RX0, "planks", "(LFairBatten;I[J)I"⟩
def dkwX0_planks_0 : List UInt8 := [44, 3, 42, 27, 182, 0, 51, 133, 80, 167, 0, 6, 78, 4, 172, 3, 172]
abbrev dktX0_planks_0 : List UInt8 := dkwX0_planks_0 ++ []
theorem dksX0_planks_0 : cX0_planks.data.toList.drop 0 = dktX0_planks_0 := by decide +kernel
theorem dX0_planks_0 : decode cX0_planks 0 = .ok (.aload_n 2, 1) := dk_44 (dk_at dksX0_planks_0 0 rfl rfl)
theorem dX0_planks_1 : decode cX0_planks 1 = .ok (.iconst 0, 1) := dk_3 (dk_at dksX0_planks_0 1 rfl rfl)
theorem dX0_planks_2 : decode cX0_planks 2 = .ok (.aload_n 0, 1) := dk_42 (dk_at dksX0_planks_0 2 rfl rfl)
theorem dX0_planks_3 : decode cX0_planks 3 = .ok (.iload_n 1, 1) := dk_27 (dk_at dksX0_planks_0 3 rfl rfl)
theorem dX0_planks_4 : decode cX0_planks 4 = .ok (.invokevirtual 51, 3) := dk_182 0 51 (dk_at dksX0_planks_0 4 rfl rfl)
theorem dX0_planks_7 : decode cX0_planks 7 = .ok (.i2l, 1) := dk_133 (dk_at dksX0_planks_0 7 rfl rfl)
theorem dX0_planks_8 : decode cX0_planks 8 = .ok (.lastore, 1) := dk_80 (dk_at dksX0_planks_0 8 rfl rfl)
theorem dX0_planks_9 : decode cX0_planks 9 = .ok (.goto 6, 3) := dk_167 0 6 (dk_at dksX0_planks_0 9 rfl rfl)
theorem dX0_planks_12 : decode cX0_planks 12 = .ok (.astore_n 3, 1) := dk_78 (dk_at dksX0_planks_0 12 rfl rfl)
theorem dX0_planks_13 : decode cX0_planks 13 = .ok (.iconst 1, 1) := dk_4 (dk_at dksX0_planks_0 13 rfl rfl)
theorem dX0_planks_14 : decode cX0_planks 14 = .ok (.ireturn, 1) := dk_172 (dk_at dksX0_planks_0 14 rfl rfl)
theorem dX0_planks_15 : decode cX0_planks 15 = .ok (.iconst 0, 1) := dk_3 (dk_at dksX0_planks_0 15 rfl rfl)
theorem dX0_planks_16 : decode cX0_planks 16 = .ok (.ireturn, 1) := dk_172 (dk_at dksX0_planks_0 16 rfl rfl)
abbrev cX0_plankOf : ByteArray := method_15_code
def yX0_plankOf : MethodName := ⟨RX0, "plankOf", "(LFairBatten;IZ[J)I"⟩
def dkwX0_plankOf_0 : List UInt8 := [45, 3, 42, 27, 28, 182, 0, 54, 133, 80, 167, 0, 7, 58, 4, 4, 172, 3, 172]
abbrev dktX0_plankOf_0 : List UInt8 := dkwX0_plankOf_0 ++ []
theorem dksX0_plankOf_0 : cX0_plankOf.data.toList.drop 0 = dktX0_plankOf_0 := by decide +kernel
theorem dX0_plankOf_0 : decode cX0_plankOf 0 = .ok (.aload_n 3, 1) := dk_45 (dk_at dksX0_plankOf_0 0 rfl rfl)
theorem dX0_plankOf_1 : decode cX0_plankOf 1 = .ok (.iconst 0, 1) := dk_3 (dk_at dksX0_plankOf_0 1 rfl rfl)
theorem dX0_plankOf_2 : decode cX0_plankOf 2 = .ok (.aload_n 0, 1) := dk_42 (dk_at dksX0_plankOf_0 2 rfl rfl)
theorem dX0_plankOf_3 : decode cX0_plankOf 3 = .ok (.iload_n 1, 1) := dk_27 (dk_at dksX0_plankOf_0 3 rfl rfl)
theorem dX0_plankOf_4 : decode cX0_plankOf 4 = .ok (.iload_n 2, 1) := dk_28 (dk_at dksX0_plankOf_0 4 rfl rfl)
theorem dX0_plankOf_5 : decode cX0_plankOf 5 = .ok (.invokevirtual 54, 3) := dk_182 0 54 (dk_at dksX0_plankOf_0 5 rfl rfl)
theorem dX0_plankOf_8 : decode cX0_plankOf 8 = .ok (.i2l, 1) := dk_133 (dk_at dksX0_plankOf_0 8 rfl rfl)
theorem dX0_plankOf_9 : decode cX0_plankOf 9 = .ok (.lastore, 1) := dk_80 (dk_at dksX0_plankOf_0 9 rfl rfl)
theorem dX0_plankOf_10 : decode cX0_plankOf 10 = .ok (.goto 7, 3) := dk_167 0 7 (dk_at dksX0_plankOf_0 10 rfl rfl)
theorem dX0_plankOf_13 : decode cX0_plankOf 13 = .ok (.astore 4, 2) := dk_58 4 (dk_at dksX0_plankOf_0 13 rfl rfl)
theorem dX0_plankOf_15 : decode cX0_plankOf 15 = .ok (.iconst 1, 1) := dk_4 (dk_at dksX0_plankOf_0 15 rfl rfl)
theorem dX0_plankOf_16 : decode cX0_plankOf 16 = .ok (.ireturn, 1) := dk_172 (dk_at dksX0_plankOf_0 16 rfl rfl)
theorem dX0_plankOf_17 : decode cX0_plankOf 17 = .ok (.iconst 0, 1) := dk_3 (dk_at dksX0_plankOf_0 17 rfl rfl)
theorem dX0_plankOf_18 : decode cX0_plankOf 18 = .ok (.ireturn, 1) := dk_172 (dk_at dksX0_plankOf_0 18 rfl rfl)
abbrev cX0_tide : ByteArray := method_16_code
def yX0_tide : MethodName := ⟨RX0, "tide", "(LFairBatten;II[J)I"⟩
def dkwX0_tide_0 : List UInt8 := [45, 3, 42, 27, 28, 182, 0, 58, 133, 80, 167, 0, 11, 58, 4, 4, 172, 58, 4, 5, 172, 3, 172]
abbrev dktX0_tide_0 : List UInt8 := dkwX0_tide_0 ++ []
theorem dksX0_tide_0 : cX0_tide.data.toList.drop 0 = dktX0_tide_0 := by decide +kernel
theorem dX0_tide_0 : decode cX0_tide 0 = .ok (.aload_n 3, 1) := dk_45 (dk_at dksX0_tide_0 0 rfl rfl)
theorem dX0_tide_1 : decode cX0_tide 1 = .ok (.iconst 0, 1) := dk_3 (dk_at dksX0_tide_0 1 rfl rfl)
theorem dX0_tide_2 : decode cX0_tide 2 = .ok (.aload_n 0, 1) := dk_42 (dk_at dksX0_tide_0 2 rfl rfl)
theorem dX0_tide_3 : decode cX0_tide 3 = .ok (.iload_n 1, 1) := dk_27 (dk_at dksX0_tide_0 3 rfl rfl)
theorem dX0_tide_4 : decode cX0_tide 4 = .ok (.iload_n 2, 1) := dk_28 (dk_at dksX0_tide_0 4 rfl rfl)
theorem dX0_tide_5 : decode cX0_tide 5 = .ok (.invokevirtual 58, 3) := dk_182 0 58 (dk_at dksX0_tide_0 5 rfl rfl)
theorem dX0_tide_8 : decode cX0_tide 8 = .ok (.i2l, 1) := dk_133 (dk_at dksX0_tide_0 8 rfl rfl)
theorem dX0_tide_9 : decode cX0_tide 9 = .ok (.lastore, 1) := dk_80 (dk_at dksX0_tide_0 9 rfl rfl)
theorem dX0_tide_10 : decode cX0_tide 10 = .ok (.goto 11, 3) := dk_167 0 11 (dk_at dksX0_tide_0 10 rfl rfl)
theorem dX0_tide_13 : decode cX0_tide 13 = .ok (.astore 4, 2) := dk_58 4 (dk_at dksX0_tide_0 13 rfl rfl)
theorem dX0_tide_15 : decode cX0_tide 15 = .ok (.iconst 1, 1) := dk_4 (dk_at dksX0_tide_0 15 rfl rfl)
theorem dX0_tide_16 : decode cX0_tide 16 = .ok (.ireturn, 1) := dk_172 (dk_at dksX0_tide_0 16 rfl rfl)
theorem dX0_tide_17 : decode cX0_tide 17 = .ok (.astore 4, 2) := dk_58 4 (dk_at dksX0_tide_0 17 rfl rfl)
theorem dX0_tide_19 : decode cX0_tide 19 = .ok (.iconst 2, 1) := dk_5 (dk_at dksX0_tide_0 19 rfl rfl)
theorem dX0_tide_20 : decode cX0_tide 20 = .ok (.ireturn, 1) := dk_172 (dk_at dksX0_tide_0 20 rfl rfl)
theorem dX0_tide_21 : decode cX0_tide 21 = .ok (.iconst 0, 1) := dk_3 (dk_at dksX0_tide_0 21 rfl rfl)
theorem dX0_tide_22 : decode cX0_tide 22 = .ok (.ireturn, 1) := dk_172 (dk_at dksX0_tide_0 22 rfl rfl)
abbrev cX0_sill : ByteArray := method_17_code
def yX0_sill : MethodName := ⟨RX0, "sill", "(LFairBatten;I[J)I"⟩
def dkwX0_sill_0 : List UInt8 := [44, 3, 42, 27, 182, 0, 61, 133, 80, 167, 0, 6, 78, 4, 172, 3, 172]
abbrev dktX0_sill_0 : List UInt8 := dkwX0_sill_0 ++ []
theorem dksX0_sill_0 : cX0_sill.data.toList.drop 0 = dktX0_sill_0 := by decide +kernel
theorem dX0_sill_0 : decode cX0_sill 0 = .ok (.aload_n 2, 1) := dk_44 (dk_at dksX0_sill_0 0 rfl rfl)
theorem dX0_sill_1 : decode cX0_sill 1 = .ok (.iconst 0, 1) := dk_3 (dk_at dksX0_sill_0 1 rfl rfl)
theorem dX0_sill_2 : decode cX0_sill 2 = .ok (.aload_n 0, 1) := dk_42 (dk_at dksX0_sill_0 2 rfl rfl)
theorem dX0_sill_3 : decode cX0_sill 3 = .ok (.iload_n 1, 1) := dk_27 (dk_at dksX0_sill_0 3 rfl rfl)
theorem dX0_sill_4 : decode cX0_sill 4 = .ok (.invokevirtual 61, 3) := dk_182 0 61 (dk_at dksX0_sill_0 4 rfl rfl)
theorem dX0_sill_7 : decode cX0_sill 7 = .ok (.i2l, 1) := dk_133 (dk_at dksX0_sill_0 7 rfl rfl)
theorem dX0_sill_8 : decode cX0_sill 8 = .ok (.lastore, 1) := dk_80 (dk_at dksX0_sill_0 8 rfl rfl)
theorem dX0_sill_9 : decode cX0_sill 9 = .ok (.goto 6, 3) := dk_167 0 6 (dk_at dksX0_sill_0 9 rfl rfl)
theorem dX0_sill_12 : decode cX0_sill 12 = .ok (.astore_n 3, 1) := dk_78 (dk_at dksX0_sill_0 12 rfl rfl)
theorem dX0_sill_13 : decode cX0_sill 13 = .ok (.iconst 1, 1) := dk_4 (dk_at dksX0_sill_0 13 rfl rfl)
theorem dX0_sill_14 : decode cX0_sill 14 = .ok (.ireturn, 1) := dk_172 (dk_at dksX0_sill_0 14 rfl rfl)
theorem dX0_sill_15 : decode cX0_sill 15 = .ok (.iconst 0, 1) := dk_3 (dk_at dksX0_sill_0 15 rfl rfl)
theorem dX0_sill_16 : decode cX0_sill 16 = .ok (.ireturn, 1) := dk_172 (dk_at dksX0_sill_0 16 rfl rfl)
abbrev cX0_launch : ByteArray := method_18_code
def yX0_launch : MethodName := ⟨RX0, "launch", "(LFairBatten;[J)I"⟩
def dkwX0_launch_0 : List UInt8 := [43, 3, 42, 182, 0, 64, 133, 80, 167, 0, 6, 77, 4, 172, 3, 172]
abbrev dktX0_launch_0 : List UInt8 := dkwX0_launch_0 ++ []
theorem dksX0_launch_0 : cX0_launch.data.toList.drop 0 = dktX0_launch_0 := by decide +kernel
theorem dX0_launch_0 : decode cX0_launch 0 = .ok (.aload_n 1, 1) := dk_43 (dk_at dksX0_launch_0 0 rfl rfl)
theorem dX0_launch_1 : decode cX0_launch 1 = .ok (.iconst 0, 1) := dk_3 (dk_at dksX0_launch_0 1 rfl rfl)
theorem dX0_launch_2 : decode cX0_launch 2 = .ok (.aload_n 0, 1) := dk_42 (dk_at dksX0_launch_0 2 rfl rfl)
theorem dX0_launch_3 : decode cX0_launch 3 = .ok (.invokevirtual 64, 3) := dk_182 0 64 (dk_at dksX0_launch_0 3 rfl rfl)
theorem dX0_launch_6 : decode cX0_launch 6 = .ok (.i2l, 1) := dk_133 (dk_at dksX0_launch_0 6 rfl rfl)
theorem dX0_launch_7 : decode cX0_launch 7 = .ok (.lastore, 1) := dk_80 (dk_at dksX0_launch_0 7 rfl rfl)
theorem dX0_launch_8 : decode cX0_launch 8 = .ok (.goto 6, 3) := dk_167 0 6 (dk_at dksX0_launch_0 8 rfl rfl)
theorem dX0_launch_11 : decode cX0_launch 11 = .ok (.astore_n 2, 1) := dk_77 (dk_at dksX0_launch_0 11 rfl rfl)
theorem dX0_launch_12 : decode cX0_launch 12 = .ok (.iconst 1, 1) := dk_4 (dk_at dksX0_launch_0 12 rfl rfl)
theorem dX0_launch_13 : decode cX0_launch 13 = .ok (.ireturn, 1) := dk_172 (dk_at dksX0_launch_0 13 rfl rfl)
theorem dX0_launch_14 : decode cX0_launch 14 = .ok (.iconst 0, 1) := dk_3 (dk_at dksX0_launch_0 14 rfl rfl)
theorem dX0_launch_15 : decode cX0_launch 15 = .ok (.ireturn, 1) := dk_172 (dk_at dksX0_launch_0 15 rfl rfl)
abbrev cX0_pass : ByteArray := method_19_code
def yX0_pass : MethodName := ⟨RX0, "pass", "(LFairBatten;I[J)I"⟩
def dkwX0_pass_0 : List UInt8 := [44, 3, 42, 27, 182, 0, 68, 133, 80, 167, 0, 9, 78, 4, 172, 78, 5, 172, 3, 172]
abbrev dktX0_pass_0 : List UInt8 := dkwX0_pass_0 ++ []
theorem dksX0_pass_0 : cX0_pass.data.toList.drop 0 = dktX0_pass_0 := by decide +kernel
theorem dX0_pass_0 : decode cX0_pass 0 = .ok (.aload_n 2, 1) := dk_44 (dk_at dksX0_pass_0 0 rfl rfl)
theorem dX0_pass_1 : decode cX0_pass 1 = .ok (.iconst 0, 1) := dk_3 (dk_at dksX0_pass_0 1 rfl rfl)
theorem dX0_pass_2 : decode cX0_pass 2 = .ok (.aload_n 0, 1) := dk_42 (dk_at dksX0_pass_0 2 rfl rfl)
theorem dX0_pass_3 : decode cX0_pass 3 = .ok (.iload_n 1, 1) := dk_27 (dk_at dksX0_pass_0 3 rfl rfl)
theorem dX0_pass_4 : decode cX0_pass 4 = .ok (.invokevirtual 68, 3) := dk_182 0 68 (dk_at dksX0_pass_0 4 rfl rfl)
theorem dX0_pass_7 : decode cX0_pass 7 = .ok (.i2l, 1) := dk_133 (dk_at dksX0_pass_0 7 rfl rfl)
theorem dX0_pass_8 : decode cX0_pass 8 = .ok (.lastore, 1) := dk_80 (dk_at dksX0_pass_0 8 rfl rfl)
theorem dX0_pass_9 : decode cX0_pass 9 = .ok (.goto 9, 3) := dk_167 0 9 (dk_at dksX0_pass_0 9 rfl rfl)
theorem dX0_pass_12 : decode cX0_pass 12 = .ok (.astore_n 3, 1) := dk_78 (dk_at dksX0_pass_0 12 rfl rfl)
theorem dX0_pass_13 : decode cX0_pass 13 = .ok (.iconst 1, 1) := dk_4 (dk_at dksX0_pass_0 13 rfl rfl)
theorem dX0_pass_14 : decode cX0_pass 14 = .ok (.ireturn, 1) := dk_172 (dk_at dksX0_pass_0 14 rfl rfl)
theorem dX0_pass_15 : decode cX0_pass 15 = .ok (.astore_n 3, 1) := dk_78 (dk_at dksX0_pass_0 15 rfl rfl)
theorem dX0_pass_16 : decode cX0_pass 16 = .ok (.iconst 2, 1) := dk_5 (dk_at dksX0_pass_0 16 rfl rfl)
theorem dX0_pass_17 : decode cX0_pass 17 = .ok (.ireturn, 1) := dk_172 (dk_at dksX0_pass_0 17 rfl rfl)
theorem dX0_pass_18 : decode cX0_pass 18 = .ok (.iconst 0, 1) := dk_3 (dk_at dksX0_pass_0 18 rfl rfl)
theorem dX0_pass_19 : decode cX0_pass 19 = .ok (.ireturn, 1) := dk_172 (dk_at dksX0_pass_0 19 rfl rfl)
theorem q31 : (Jvm.Cond.initialized "FairBattenLaw") ∈ lw_all := lw_g (lw_at lw_m1 0 rfl) rfl
theorem q60 : (Jvm.Cond.classLink "FairBattenLaw" (8 : Nat) "FairBatten") ∈ lw_all := lw_g (lw_at lw_m1 29 rfl) rfl
theorem q62 : (Jvm.Cond.methodLink "FairBattenLaw" (71 : Nat) ({ cls := "FairBatten", name := "<init>", desc := "()V" } : Jvm.MethodName)) ∈ lw_all := lw_g (lw_at lw_m1 31 rfl) rfl
theorem q178 : (Jvm.Cond.methodLink "FairBattenLaw" (113 : Nat) ({ cls := "FairBatten", name := "draught", desc := "()I" } : Jvm.MethodName)) ∈ lw_all := lw_g (lw_at lw_m1 147 rfl) rfl
theorem q254 : (Jvm.Cond.methodLink "FairBattenLaw" (117 : Nat) ({ cls := "FairBatten", name := "trim", desc := "()I" } : Jvm.MethodName)) ∈ lw_all := lw_g (lw_at lw_m1 223 rfl) rfl
theorem q279 : (Jvm.Cond.methodLink "FairBattenLaw" (137 : Nat) ({ cls := "FairBatten", name := "needed", desc := "()I" } : Jvm.MethodName)) ∈ lw_all := lw_g (lw_at lw_m2 8 rfl) rfl
theorem q288 : (Jvm.Cond.methodLink "FairBattenLaw" (141 : Nat) ({ cls := "FairBatten", name := "day", desc := "()I" } : Jvm.MethodName)) ∈ lw_all := lw_g (lw_at lw_m2 17 rfl) rfl
theorem q445 : (Jvm.Cond.methodLink "FairBattenLaw" (75 : Nat) ({ cls := "FairBattenLaw", name := "offset", desc := "(LFairBatten;III[J)I" } : Jvm.MethodName)) ∈ lw_all := lw_g (lw_at lw_m2 174 rfl) rfl
theorem q446 : (Jvm.Cond.static ({ cls := "FairBattenLaw", name := "offset", desc := "(LFairBatten;III[J)I" } : Jvm.MethodName)) ∈ lw_all := lw_g (lw_at lw_m2 175 rfl) rfl
theorem q447 : (Jvm.Cond.codeWith ({ cls := "FairBattenLaw", name := "offset", desc := "(LFairBatten;III[J)I" } : Jvm.MethodName) method_3_code (6 : Nat) (Option.some Jvm.ClassFile.FieldType.int) [((0 : Nat), (12 : Nat), (15 : Nat), (13 : Nat)), ((0 : Nat), (12 : Nat), (19 : Nat), (15 : Nat)), ((0 : Nat), (12 : Nat), (23 : Nat), (17 : Nat))]) ∈ lw_all := lw_g (lw_at lw_m2 176 rfl) rfl
theorem q448 : (Jvm.Cond.classLink "FairBattenLaw" (13 : Nat) "java/lang/IndexOutOfBoundsException") ∈ lw_all := lw_g (lw_at lw_m2 177 rfl) rfl
theorem q525 : (Jvm.Cond.classLink "FairBattenLaw" (15 : Nat) "java/lang/IllegalArgumentException") ∈ lw_all := lw_g (lw_at lw_m3 14 rfl) rfl
theorem q526 : (Jvm.Cond.classLink "FairBattenLaw" (17 : Nat) "java/lang/IllegalStateException") ∈ lw_all := lw_g (lw_at lw_m3 15 rfl) rfl
theorem q527 : (Jvm.Cond.methodLink "FairBattenLaw" (7 : Nat) ({ cls := "FairBatten", name := "offset", desc := "(III)I" } : Jvm.MethodName)) ∈ lw_all := lw_g (lw_at lw_m3 16 rfl) rfl
theorem q600 : (Jvm.Cond.methodLink "FairBattenLaw" (84 : Nat) ({ cls := "FairBattenLaw", name := "half", desc := "(LFairBatten;II[J)I" } : Jvm.MethodName)) ∈ lw_all := lw_g (lw_at lw_m3 89 rfl) rfl
theorem q601 : (Jvm.Cond.static ({ cls := "FairBattenLaw", name := "half", desc := "(LFairBatten;II[J)I" } : Jvm.MethodName)) ∈ lw_all := lw_g (lw_at lw_m3 90 rfl) rfl
theorem q602 : (Jvm.Cond.codeWith ({ cls := "FairBattenLaw", name := "half", desc := "(LFairBatten;II[J)I" } : Jvm.MethodName) method_4_code (5 : Nat) (Option.some Jvm.ClassFile.FieldType.int) [((0 : Nat), (10 : Nat), (13 : Nat), (13 : Nat))]) ∈ lw_all := lw_g (lw_at lw_m3 91 rfl) rfl
theorem q603 : (Jvm.Cond.methodLink "FairBattenLaw" (19 : Nat) ({ cls := "FairBatten", name := "half", desc := "(II)I" } : Jvm.MethodName)) ∈ lw_all := lw_g (lw_at lw_m3 92 rfl) rfl
theorem q607 : (Jvm.Cond.methodLink "FairBattenLaw" (88 : Nat) ({ cls := "FairBattenLaw", name := "bend", desc := "(LFairBatten;I[J)I" } : Jvm.MethodName)) ∈ lw_all := lw_g (lw_at lw_m3 96 rfl) rfl
theorem q608 : (Jvm.Cond.static ({ cls := "FairBattenLaw", name := "bend", desc := "(LFairBatten;I[J)I" } : Jvm.MethodName)) ∈ lw_all := lw_g (lw_at lw_m3 97 rfl) rfl
theorem q609 : (Jvm.Cond.codeWith ({ cls := "FairBattenLaw", name := "bend", desc := "(LFairBatten;I[J)I" } : Jvm.MethodName) method_5_code (4 : Nat) (Option.some Jvm.ClassFile.FieldType.int) [((0 : Nat), (9 : Nat), (12 : Nat), (13 : Nat))]) ∈ lw_all := lw_g (lw_at lw_m3 98 rfl) rfl
theorem q610 : (Jvm.Cond.methodLink "FairBattenLaw" (23 : Nat) ({ cls := "FairBatten", name := "bend", desc := "(I)I" } : Jvm.MethodName)) ∈ lw_all := lw_g (lw_at lw_m3 99 rfl) rfl
theorem q617 : (Jvm.Cond.methodLink "FairBattenLaw" (92 : Nat) ({ cls := "FairBattenLaw", name := "fair", desc := "(LFairBatten;II[J)I" } : Jvm.MethodName)) ∈ lw_all := lw_g (lw_at lw_m3 106 rfl) rfl
theorem q618 : (Jvm.Cond.static ({ cls := "FairBattenLaw", name := "fair", desc := "(LFairBatten;II[J)I" } : Jvm.MethodName)) ∈ lw_all := lw_g (lw_at lw_m3 107 rfl) rfl
theorem q619 : (Jvm.Cond.codeWith ({ cls := "FairBattenLaw", name := "fair", desc := "(LFairBatten;II[J)I" } : Jvm.MethodName) method_6_code (5 : Nat) (Option.some Jvm.ClassFile.FieldType.int) [((0 : Nat), (10 : Nat), (13 : Nat), (13 : Nat)), ((0 : Nat), (10 : Nat), (17 : Nat), (15 : Nat)), ((0 : Nat), (10 : Nat), (21 : Nat), (17 : Nat))]) ∈ lw_all := lw_g (lw_at lw_m3 108 rfl) rfl
theorem q620 : (Jvm.Cond.methodLink "FairBattenLaw" (27 : Nat) ({ cls := "FairBatten", name := "fair", desc := "(II)I" } : Jvm.MethodName)) ∈ lw_all := lw_g (lw_at lw_m3 109 rfl) rfl
theorem q665 : (Jvm.Cond.methodLink "FairBattenLaw" (95 : Nat) ({ cls := "FairBattenLaw", name := "area", desc := "(LFairBatten;II[J)I" } : Jvm.MethodName)) ∈ lw_all := lw_g (lw_at lw_m3 154 rfl) rfl
theorem q666 : (Jvm.Cond.static ({ cls := "FairBattenLaw", name := "area", desc := "(LFairBatten;II[J)I" } : Jvm.MethodName)) ∈ lw_all := lw_g (lw_at lw_m3 155 rfl) rfl
theorem q667 : (Jvm.Cond.codeWith ({ cls := "FairBattenLaw", name := "area", desc := "(LFairBatten;II[J)I" } : Jvm.MethodName) method_7_code (5 : Nat) (Option.some Jvm.ClassFile.FieldType.int) [((0 : Nat), (10 : Nat), (13 : Nat), (13 : Nat))]) ∈ lw_all := lw_g (lw_at lw_m3 156 rfl) rfl
theorem q668 : (Jvm.Cond.methodLink "FairBattenLaw" (30 : Nat) ({ cls := "FairBatten", name := "area", desc := "(II)I" } : Jvm.MethodName)) ∈ lw_all := lw_g (lw_at lw_m3 157 rfl) rfl
theorem q673 : (Jvm.Cond.methodLink "FairBattenLaw" (98 : Nat) ({ cls := "FairBattenLaw", name := "volume", desc := "(LFairBatten;I[J)I" } : Jvm.MethodName)) ∈ lw_all := lw_g (lw_at lw_m3 162 rfl) rfl
theorem q674 : (Jvm.Cond.static ({ cls := "FairBattenLaw", name := "volume", desc := "(LFairBatten;I[J)I" } : Jvm.MethodName)) ∈ lw_all := lw_g (lw_at lw_m3 163 rfl) rfl
theorem q675 : (Jvm.Cond.codeWith ({ cls := "FairBattenLaw", name := "volume", desc := "(LFairBatten;I[J)I" } : Jvm.MethodName) method_8_code (4 : Nat) (Option.some Jvm.ClassFile.FieldType.int) [((0 : Nat), (9 : Nat), (12 : Nat), (13 : Nat))]) ∈ lw_all := lw_g (lw_at lw_m3 164 rfl) rfl
theorem q676 : (Jvm.Cond.methodLink "FairBattenLaw" (33 : Nat) ({ cls := "FairBatten", name := "volume", desc := "(I)I" } : Jvm.MethodName)) ∈ lw_all := lw_g (lw_at lw_m3 165 rfl) rfl
theorem q680 : (Jvm.Cond.methodLink "FairBattenLaw" (101 : Nat) ({ cls := "FairBattenLaw", name := "volumeAnew", desc := "(LFairBatten;I[J)I" } : Jvm.MethodName)) ∈ lw_all := lw_g (lw_at lw_m3 169 rfl) rfl
theorem q681 : (Jvm.Cond.static ({ cls := "FairBattenLaw", name := "volumeAnew", desc := "(LFairBatten;I[J)I" } : Jvm.MethodName)) ∈ lw_all := lw_g (lw_at lw_m3 170 rfl) rfl
theorem q682 : (Jvm.Cond.codeWith ({ cls := "FairBattenLaw", name := "volumeAnew", desc := "(LFairBatten;I[J)I" } : Jvm.MethodName) method_9_code (4 : Nat) (Option.some Jvm.ClassFile.FieldType.int) [((0 : Nat), (9 : Nat), (12 : Nat), (13 : Nat))]) ∈ lw_all := lw_g (lw_at lw_m3 171 rfl) rfl
theorem q683 : (Jvm.Cond.methodLink "FairBattenLaw" (36 : Nat) ({ cls := "FairBatten", name := "volumeAnew", desc := "(I)I" } : Jvm.MethodName)) ∈ lw_all := lw_g (lw_at lw_m3 172 rfl) rfl
theorem q697 : (Jvm.Cond.methodLink "FairBattenLaw" (104 : Nat) ({ cls := "FairBattenLaw", name := "weigh", desc := "(LFairBatten;II[J)I" } : Jvm.MethodName)) ∈ lw_all := lw_g (lw_at lw_m3 186 rfl) rfl
theorem q698 : (Jvm.Cond.static ({ cls := "FairBattenLaw", name := "weigh", desc := "(LFairBatten;II[J)I" } : Jvm.MethodName)) ∈ lw_all := lw_g (lw_at lw_m3 187 rfl) rfl
theorem q699 : (Jvm.Cond.codeWith ({ cls := "FairBattenLaw", name := "weigh", desc := "(LFairBatten;II[J)I" } : Jvm.MethodName) method_10_code (5 : Nat) (Option.some Jvm.ClassFile.FieldType.int) [((0 : Nat), (10 : Nat), (13 : Nat), (13 : Nat)), ((0 : Nat), (10 : Nat), (17 : Nat), (15 : Nat)), ((0 : Nat), (10 : Nat), (21 : Nat), (17 : Nat))]) ∈ lw_all := lw_g (lw_at lw_m3 188 rfl) rfl
theorem q700 : (Jvm.Cond.methodLink "FairBattenLaw" (39 : Nat) ({ cls := "FairBatten", name := "weigh", desc := "(II)I" } : Jvm.MethodName)) ∈ lw_all := lw_g (lw_at lw_m3 189 rfl) rfl
theorem q706 : (Jvm.Cond.methodLink "FairBattenLaw" (107 : Nat) ({ cls := "FairBattenLaw", name := "change", desc := "(LFairBatten;III[J)I" } : Jvm.MethodName)) ∈ lw_all := lw_g (lw_at lw_m3 195 rfl) rfl
theorem q707 : (Jvm.Cond.static ({ cls := "FairBattenLaw", name := "change", desc := "(LFairBatten;III[J)I" } : Jvm.MethodName)) ∈ lw_all := lw_g (lw_at lw_m3 196 rfl) rfl
theorem q708 : (Jvm.Cond.codeWith ({ cls := "FairBattenLaw", name := "change", desc := "(LFairBatten;III[J)I" } : Jvm.MethodName) method_11_code (6 : Nat) (Option.some Jvm.ClassFile.FieldType.int) [((0 : Nat), (12 : Nat), (15 : Nat), (13 : Nat)), ((0 : Nat), (12 : Nat), (19 : Nat), (15 : Nat))]) ∈ lw_all := lw_g (lw_at lw_m3 197 rfl) rfl
theorem q709 : (Jvm.Cond.methodLink "FairBattenLaw" (42 : Nat) ({ cls := "FairBatten", name := "change", desc := "(III)I" } : Jvm.MethodName)) ∈ lw_all := lw_g (lw_at lw_m3 198 rfl) rfl
theorem q713 : (Jvm.Cond.methodLink "FairBattenLaw" (110 : Nat) ({ cls := "FairBattenLaw", name := "ballast", desc := "(LFairBatten;I[J)I" } : Jvm.MethodName)) ∈ lw_all := lw_g (lw_at lw_m3 202 rfl) rfl
theorem q714 : (Jvm.Cond.static ({ cls := "FairBattenLaw", name := "ballast", desc := "(LFairBatten;I[J)I" } : Jvm.MethodName)) ∈ lw_all := lw_g (lw_at lw_m3 203 rfl) rfl
theorem q715 : (Jvm.Cond.codeWith ({ cls := "FairBattenLaw", name := "ballast", desc := "(LFairBatten;I[J)I" } : Jvm.MethodName) method_12_code (4 : Nat) (Option.some Jvm.ClassFile.FieldType.int) [((0 : Nat), (9 : Nat), (12 : Nat), (15 : Nat))]) ∈ lw_all := lw_g (lw_at lw_m3 204 rfl) rfl
theorem q716 : (Jvm.Cond.methodLink "FairBattenLaw" (45 : Nat) ({ cls := "FairBatten", name := "ballast", desc := "(I)I" } : Jvm.MethodName)) ∈ lw_all := lw_g (lw_at lw_m3 205 rfl) rfl
theorem q720 : (Jvm.Cond.methodLink "FairBattenLaw" (121 : Nat) ({ cls := "FairBattenLaw", name := "strake", desc := "(LFairBatten;I[J)I" } : Jvm.MethodName)) ∈ lw_all := lw_g (lw_at lw_m3 209 rfl) rfl
theorem q721 : (Jvm.Cond.static ({ cls := "FairBattenLaw", name := "strake", desc := "(LFairBatten;I[J)I" } : Jvm.MethodName)) ∈ lw_all := lw_g (lw_at lw_m3 210 rfl) rfl
theorem q722 : (Jvm.Cond.codeWith ({ cls := "FairBattenLaw", name := "strake", desc := "(LFairBatten;I[J)I" } : Jvm.MethodName) method_13_code (4 : Nat) (Option.some Jvm.ClassFile.FieldType.int) [((0 : Nat), (9 : Nat), (12 : Nat), (13 : Nat))]) ∈ lw_all := lw_g (lw_at lw_m3 211 rfl) rfl
theorem q723 : (Jvm.Cond.methodLink "FairBattenLaw" (48 : Nat) ({ cls := "FairBatten", name := "strake", desc := "(I)I" } : Jvm.MethodName)) ∈ lw_all := lw_g (lw_at lw_m3 212 rfl) rfl
theorem q732 : (Jvm.Cond.methodLink "FairBattenLaw" (124 : Nat) ({ cls := "FairBattenLaw", name := "planks", desc := "(LFairBatten;I[J)I" } : Jvm.MethodName)) ∈ lw_all := lw_g (lw_at lw_m3 221 rfl) rfl
theorem q733 : (Jvm.Cond.static ({ cls := "FairBattenLaw", name := "planks", desc := "(LFairBatten;I[J)I" } : Jvm.MethodName)) ∈ lw_all := lw_g (lw_at lw_m3 222 rfl) rfl
theorem q734 : (Jvm.Cond.codeWith ({ cls := "FairBattenLaw", name := "planks", desc := "(LFairBatten;I[J)I" } : Jvm.MethodName) method_14_code (4 : Nat) (Option.some Jvm.ClassFile.FieldType.int) [((0 : Nat), (9 : Nat), (12 : Nat), (15 : Nat))]) ∈ lw_all := lw_g (lw_at lw_m3 223 rfl) rfl
theorem q735 : (Jvm.Cond.methodLink "FairBattenLaw" (51 : Nat) ({ cls := "FairBatten", name := "planks", desc := "(I)I" } : Jvm.MethodName)) ∈ lw_all := lw_g (lw_at lw_m3 224 rfl) rfl
theorem q773 : (Jvm.Cond.methodLink "FairBattenLaw" (127 : Nat) ({ cls := "FairBattenLaw", name := "plankOf", desc := "(LFairBatten;IZ[J)I" } : Jvm.MethodName)) ∈ lw_all := lw_g (lw_at lw_m4 22 rfl) rfl
theorem q774 : (Jvm.Cond.static ({ cls := "FairBattenLaw", name := "plankOf", desc := "(LFairBatten;IZ[J)I" } : Jvm.MethodName)) ∈ lw_all := lw_g (lw_at lw_m4 23 rfl) rfl
theorem q775 : (Jvm.Cond.codeWith ({ cls := "FairBattenLaw", name := "plankOf", desc := "(LFairBatten;IZ[J)I" } : Jvm.MethodName) method_15_code (5 : Nat) (Option.some Jvm.ClassFile.FieldType.int) [((0 : Nat), (10 : Nat), (13 : Nat), (13 : Nat))]) ∈ lw_all := lw_g (lw_at lw_m4 24 rfl) rfl
theorem q776 : (Jvm.Cond.methodLink "FairBattenLaw" (54 : Nat) ({ cls := "FairBatten", name := "plankOf", desc := "(IZ)I" } : Jvm.MethodName)) ∈ lw_all := lw_g (lw_at lw_m4 25 rfl) rfl
theorem q780 : (Jvm.Cond.methodLink "FairBattenLaw" (131 : Nat) ({ cls := "FairBattenLaw", name := "tide", desc := "(LFairBatten;II[J)I" } : Jvm.MethodName)) ∈ lw_all := lw_g (lw_at lw_m4 29 rfl) rfl
theorem q781 : (Jvm.Cond.static ({ cls := "FairBattenLaw", name := "tide", desc := "(LFairBatten;II[J)I" } : Jvm.MethodName)) ∈ lw_all := lw_g (lw_at lw_m4 30 rfl) rfl
theorem q782 : (Jvm.Cond.codeWith ({ cls := "FairBattenLaw", name := "tide", desc := "(LFairBatten;II[J)I" } : Jvm.MethodName) method_16_code (5 : Nat) (Option.some Jvm.ClassFile.FieldType.int) [((0 : Nat), (10 : Nat), (13 : Nat), (15 : Nat)), ((0 : Nat), (10 : Nat), (17 : Nat), (17 : Nat))]) ∈ lw_all := lw_g (lw_at lw_m4 31 rfl) rfl
theorem q783 : (Jvm.Cond.methodLink "FairBattenLaw" (58 : Nat) ({ cls := "FairBatten", name := "tide", desc := "(II)I" } : Jvm.MethodName)) ∈ lw_all := lw_g (lw_at lw_m4 32 rfl) rfl
theorem q950 : (Jvm.Cond.methodLink "FairBattenLaw" (134 : Nat) ({ cls := "FairBattenLaw", name := "sill", desc := "(LFairBatten;I[J)I" } : Jvm.MethodName)) ∈ lw_all := lw_g (lw_at lw_m4 199 rfl) rfl
theorem q951 : (Jvm.Cond.static ({ cls := "FairBattenLaw", name := "sill", desc := "(LFairBatten;I[J)I" } : Jvm.MethodName)) ∈ lw_all := lw_g (lw_at lw_m4 200 rfl) rfl
theorem q952 : (Jvm.Cond.codeWith ({ cls := "FairBattenLaw", name := "sill", desc := "(LFairBatten;I[J)I" } : Jvm.MethodName) method_17_code (4 : Nat) (Option.some Jvm.ClassFile.FieldType.int) [((0 : Nat), (9 : Nat), (12 : Nat), (15 : Nat))]) ∈ lw_all := lw_g (lw_at lw_m4 201 rfl) rfl
theorem q953 : (Jvm.Cond.methodLink "FairBattenLaw" (61 : Nat) ({ cls := "FairBatten", name := "sill", desc := "(I)I" } : Jvm.MethodName)) ∈ lw_all := lw_g (lw_at lw_m4 202 rfl) rfl
theorem q957 : (Jvm.Cond.methodLink "FairBattenLaw" (145 : Nat) ({ cls := "FairBattenLaw", name := "launch", desc := "(LFairBatten;[J)I" } : Jvm.MethodName)) ∈ lw_all := lw_g (lw_at lw_m4 206 rfl) rfl
theorem q958 : (Jvm.Cond.static ({ cls := "FairBattenLaw", name := "launch", desc := "(LFairBatten;[J)I" } : Jvm.MethodName)) ∈ lw_all := lw_g (lw_at lw_m4 207 rfl) rfl
theorem q959 : (Jvm.Cond.codeWith ({ cls := "FairBattenLaw", name := "launch", desc := "(LFairBatten;[J)I" } : Jvm.MethodName) method_18_code (3 : Nat) (Option.some Jvm.ClassFile.FieldType.int) [((0 : Nat), (8 : Nat), (11 : Nat), (17 : Nat))]) ∈ lw_all := lw_g (lw_at lw_m4 208 rfl) rfl
theorem q960 : (Jvm.Cond.methodLink "FairBattenLaw" (64 : Nat) ({ cls := "FairBatten", name := "launch", desc := "()I" } : Jvm.MethodName)) ∈ lw_all := lw_g (lw_at lw_m4 209 rfl) rfl
theorem q964 : (Jvm.Cond.methodLink "FairBattenLaw" (149 : Nat) ({ cls := "FairBattenLaw", name := "pass", desc := "(LFairBatten;I[J)I" } : Jvm.MethodName)) ∈ lw_all := lw_g (lw_at lw_m4 213 rfl) rfl
theorem q965 : (Jvm.Cond.static ({ cls := "FairBattenLaw", name := "pass", desc := "(LFairBatten;I[J)I" } : Jvm.MethodName)) ∈ lw_all := lw_g (lw_at lw_m4 214 rfl) rfl
theorem q966 : (Jvm.Cond.codeWith ({ cls := "FairBattenLaw", name := "pass", desc := "(LFairBatten;I[J)I" } : Jvm.MethodName) method_19_code (4 : Nat) (Option.some Jvm.ClassFile.FieldType.int) [((0 : Nat), (9 : Nat), (12 : Nat), (15 : Nat)), ((0 : Nat), (9 : Nat), (15 : Nat), (17 : Nat))]) ∈ lw_all := lw_g (lw_at lw_m4 215 rfl) rfl
theorem q967 : (Jvm.Cond.methodLink "FairBattenLaw" (68 : Nat) ({ cls := "FairBatten", name := "pass", desc := "(I)I" } : Jvm.MethodName)) ∈ lw_all := lw_g (lw_at lw_m4 216 rfl) rfl
theorem q971 : (Jvm.Cond.classLink "FairBattenLaw" (72 : Nat) "FairBattenModel") ∈ lw_all := lw_g (lw_at lw_m4 220 rfl) rfl
theorem q973 : (Jvm.Cond.methodLink "FairBattenLaw" (74 : Nat) ({ cls := "FairBattenModel", name := "<init>", desc := "()V" } : Jvm.MethodName)) ∈ lw_all := lw_g (lw_at lw_m4 222 rfl) rfl
theorem q1026 : (Jvm.Cond.methodLink "FairBattenLaw" (81 : Nat) ({ cls := "FairBattenModel", name := "thrown", desc := "()I" } : Jvm.MethodName)) ∈ lw_all := lw_g (lw_at lw_m5 35 rfl) rfl
theorem q1030 : (Jvm.Cond.methodLink "FairBattenLaw" (80 : Nat) ({ cls := "FairBattenModel", name := "offset", desc := "(III)I" } : Jvm.MethodName)) ∈ lw_all := lw_g (lw_at lw_m5 39 rfl) rfl
theorem q1047 : (Jvm.Cond.methodLink "FairBattenLaw" (87 : Nat) ({ cls := "FairBattenModel", name := "half", desc := "(II)I" } : Jvm.MethodName)) ∈ lw_all := lw_g (lw_at lw_m5 56 rfl) rfl
theorem q1051 : (Jvm.Cond.methodLink "FairBattenLaw" (91 : Nat) ({ cls := "FairBattenModel", name := "bend", desc := "(I)I" } : Jvm.MethodName)) ∈ lw_all := lw_g (lw_at lw_m5 60 rfl) rfl
theorem q1062 : (Jvm.Cond.methodLink "FairBattenLaw" (94 : Nat) ({ cls := "FairBattenModel", name := "fair", desc := "(II)I" } : Jvm.MethodName)) ∈ lw_all := lw_g (lw_at lw_m5 71 rfl) rfl
theorem q1093 : (Jvm.Cond.methodLink "FairBattenLaw" (97 : Nat) ({ cls := "FairBattenModel", name := "area", desc := "(II)I" } : Jvm.MethodName)) ∈ lw_all := lw_g (lw_at lw_m5 102 rfl) rfl
theorem q1101 : (Jvm.Cond.methodLink "FairBattenLaw" (100 : Nat) ({ cls := "FairBattenModel", name := "volume", desc := "(I)I" } : Jvm.MethodName)) ∈ lw_all := lw_g (lw_at lw_m5 110 rfl) rfl
theorem q1109 : (Jvm.Cond.methodLink "FairBattenLaw" (103 : Nat) ({ cls := "FairBattenModel", name := "volumeAnew", desc := "(I)I" } : Jvm.MethodName)) ∈ lw_all := lw_g (lw_at lw_m5 118 rfl) rfl
theorem q1114 : (Jvm.Cond.methodLink "FairBattenLaw" (106 : Nat) ({ cls := "FairBattenModel", name := "weigh", desc := "(II)I" } : Jvm.MethodName)) ∈ lw_all := lw_g (lw_at lw_m5 123 rfl) rfl
theorem q1118 : (Jvm.Cond.methodLink "FairBattenLaw" (109 : Nat) ({ cls := "FairBattenModel", name := "change", desc := "(III)I" } : Jvm.MethodName)) ∈ lw_all := lw_g (lw_at lw_m5 127 rfl) rfl
theorem q1122 : (Jvm.Cond.methodLink "FairBattenLaw" (112 : Nat) ({ cls := "FairBattenModel", name := "ballast", desc := "(I)I" } : Jvm.MethodName)) ∈ lw_all := lw_g (lw_at lw_m5 131 rfl) rfl
theorem q1149 : (Jvm.Cond.methodLink "FairBattenLaw" (116 : Nat) ({ cls := "FairBattenModel", name := "draught", desc := "()I" } : Jvm.MethodName)) ∈ lw_all := lw_g (lw_at lw_m5 158 rfl) rfl
theorem q1153 : (Jvm.Cond.methodLink "FairBattenLaw" (120 : Nat) ({ cls := "FairBattenModel", name := "trim", desc := "()I" } : Jvm.MethodName)) ∈ lw_all := lw_g (lw_at lw_m5 162 rfl) rfl
theorem q1157 : (Jvm.Cond.methodLink "FairBattenLaw" (123 : Nat) ({ cls := "FairBattenModel", name := "strake", desc := "(I)I" } : Jvm.MethodName)) ∈ lw_all := lw_g (lw_at lw_m5 166 rfl) rfl
theorem q1165 : (Jvm.Cond.methodLink "FairBattenLaw" (126 : Nat) ({ cls := "FairBattenModel", name := "planks", desc := "(I)I" } : Jvm.MethodName)) ∈ lw_all := lw_g (lw_at lw_m5 174 rfl) rfl
theorem q1177 : (Jvm.Cond.methodLink "FairBattenLaw" (130 : Nat) ({ cls := "FairBattenModel", name := "plankOf", desc := "(IZ)I" } : Jvm.MethodName)) ∈ lw_all := lw_g (lw_at lw_m5 186 rfl) rfl
theorem q1181 : (Jvm.Cond.methodLink "FairBattenLaw" (133 : Nat) ({ cls := "FairBattenModel", name := "tide", desc := "(II)I" } : Jvm.MethodName)) ∈ lw_all := lw_g (lw_at lw_m5 190 rfl) rfl
theorem q1189 : (Jvm.Cond.methodLink "FairBattenLaw" (136 : Nat) ({ cls := "FairBattenModel", name := "sill", desc := "(I)I" } : Jvm.MethodName)) ∈ lw_all := lw_g (lw_at lw_m5 198 rfl) rfl
theorem q1193 : (Jvm.Cond.methodLink "FairBattenLaw" (140 : Nat) ({ cls := "FairBattenModel", name := "needed", desc := "()I" } : Jvm.MethodName)) ∈ lw_all := lw_g (lw_at lw_m5 202 rfl) rfl
theorem q1201 : (Jvm.Cond.methodLink "FairBattenLaw" (144 : Nat) ({ cls := "FairBattenModel", name := "day", desc := "()I" } : Jvm.MethodName)) ∈ lw_all := lw_g (lw_at lw_m5 210 rfl) rfl
theorem q1205 : (Jvm.Cond.methodLink "FairBattenLaw" (148 : Nat) ({ cls := "FairBattenModel", name := "launch", desc := "()I" } : Jvm.MethodName)) ∈ lw_all := lw_g (lw_at lw_m5 214 rfl) rfl
theorem q1209 : (Jvm.Cond.methodLink "FairBattenLaw" (151 : Nat) ({ cls := "FairBattenModel", name := "pass", desc := "(I)I" } : Jvm.MethodName)) ∈ lw_all := lw_g (lw_at lw_m5 218 rfl) rfl
/-! FairBatten -/
set_option maxRecDepth 100000
def RX1 : String := "FairBatten"
def TX1 : u_T := fun k => match k with
  | 0 => ("FairBatten", "hull", "LFairBatten$Hull;", true)
  | 1 => ("FairBatten", "cargo", "LFairBatten$Cargo;", true)
  | 2 => ("FairBatten", "tides", "Ljava/util/Map;", true)
  | 3 => ("FairBatten", "plank", "I", false)
  | 4 => ("FairBatten", "sill", "I", false)
  | 5 => ("FairBatten", "today", "I", false)
  | _ => ("FairBatten", "isLaunched", "Z", false)
def tyX1 : Nat → FieldType := fun k => match k with
  | 0 => .object "FairBatten$Hull"
  | 1 => .object "FairBatten$Cargo"
  | 2 => .object "java/util/Map"
  | 3 => .int
  | 4 => .int
  | 5 => .int
  | _ => .boolean
abbrev wsX10 : List Cond := u_ws RX1 TX1 7
theorem nmX1 : ∀ a, a < 7 → ∀ b, b < 7 → a ≠ b → (TX1 a).2.1 ≠ (TX1 b).2.1 := by decide +kernel
theorem tyX1_ok : ∀ k, k < 7 → parseFieldDescriptor (TX1 k).2.2.1 = some (tyX1 k) := by decide +kernel
abbrev cX1_init : ByteArray := prog_1_method_4_code
def yX1_init : MethodName := ⟨RX1, "<init>", "()V"⟩
def dkwX1_init_1 : List UInt8 := [181, 0, 27, 42, 187, 0, 31, 89, 183, 0, 33, 181, 0, 34, 42, 17, 3, 232, 181, 0, 38, 177]
abbrev dktX1_init_1 : List UInt8 := dkwX1_init_1 ++ []
def dkwX1_init_0 : List UInt8 := [42, 183, 0, 9, 42, 187, 0, 15, 89, 42, 183, 0, 17, 181, 0, 20, 42, 187, 0, 24, 89, 183, 0, 26]
abbrev dktX1_init_0 : List UInt8 := dkwX1_init_0 ++ dktX1_init_1
theorem dksX1_init_0 : cX1_init.data.toList.drop 0 = dktX1_init_0 := by decide +kernel
theorem dksX1_init_1 : cX1_init.data.toList.drop 24 = dktX1_init_1 := dk_seg dksX1_init_0 24 rfl rfl
theorem dX1_init_0 : decode cX1_init 0 = .ok (.aload_n 0, 1) := dk_42 (dk_at dksX1_init_0 0 rfl rfl)
theorem dX1_init_1 : decode cX1_init 1 = .ok (.invokespecial 9, 3) := dk_183 0 9 (dk_at dksX1_init_0 1 rfl rfl)
theorem dX1_init_4 : decode cX1_init 4 = .ok (.aload_n 0, 1) := dk_42 (dk_at dksX1_init_0 4 rfl rfl)
theorem dX1_init_5 : decode cX1_init 5 = .ok (.new 15, 3) := dk_187 0 15 (dk_at dksX1_init_0 5 rfl rfl)
theorem dX1_init_8 : decode cX1_init 8 = .ok (.dup, 1) := dk_89 (dk_at dksX1_init_0 8 rfl rfl)
theorem dX1_init_9 : decode cX1_init 9 = .ok (.aload_n 0, 1) := dk_42 (dk_at dksX1_init_0 9 rfl rfl)
theorem dX1_init_10 : decode cX1_init 10 = .ok (.invokespecial 17, 3) := dk_183 0 17 (dk_at dksX1_init_0 10 rfl rfl)
theorem dX1_init_13 : decode cX1_init 13 = .ok (.putfield 20, 3) := dk_181 0 20 (dk_at dksX1_init_0 13 rfl rfl)
theorem dX1_init_16 : decode cX1_init 16 = .ok (.aload_n 0, 1) := dk_42 (dk_at dksX1_init_0 16 rfl rfl)
theorem dX1_init_17 : decode cX1_init 17 = .ok (.new 24, 3) := dk_187 0 24 (dk_at dksX1_init_0 17 rfl rfl)
theorem dX1_init_20 : decode cX1_init 20 = .ok (.dup, 1) := dk_89 (dk_at dksX1_init_0 20 rfl rfl)
theorem dX1_init_21 : decode cX1_init 21 = .ok (.invokespecial 26, 3) := dk_183 0 26 (dk_at dksX1_init_0 21 rfl rfl)
theorem dX1_init_24 : decode cX1_init 24 = .ok (.putfield 27, 3) := dk_181 0 27 (dk_at dksX1_init_1 0 rfl rfl)
theorem dX1_init_27 : decode cX1_init 27 = .ok (.aload_n 0, 1) := dk_42 (dk_at dksX1_init_1 3 rfl rfl)
theorem dX1_init_28 : decode cX1_init 28 = .ok (.new 31, 3) := dk_187 0 31 (dk_at dksX1_init_1 4 rfl rfl)
theorem dX1_init_31 : decode cX1_init 31 = .ok (.dup, 1) := dk_89 (dk_at dksX1_init_1 7 rfl rfl)
theorem dX1_init_32 : decode cX1_init 32 = .ok (.invokespecial 33, 3) := dk_183 0 33 (dk_at dksX1_init_1 8 rfl rfl)
theorem dX1_init_35 : decode cX1_init 35 = .ok (.putfield 34, 3) := dk_181 0 34 (dk_at dksX1_init_1 11 rfl rfl)
theorem dX1_init_38 : decode cX1_init 38 = .ok (.aload_n 0, 1) := dk_42 (dk_at dksX1_init_1 14 rfl rfl)
theorem dX1_init_39 : decode cX1_init 39 = .ok (.sipush 1000, 3) := dk_17 3 232 (dk_at dksX1_init_1 15 rfl rfl)
theorem dX1_init_42 : decode cX1_init 42 = .ok (.putfield 38, 3) := dk_181 0 38 (dk_at dksX1_init_1 18 rfl rfl)
theorem dX1_init_45 : decode cX1_init 45 = .ok (.return_, 1) := dk_177 (dk_at dksX1_init_1 21 rfl rfl)
abbrev cX1_draught : ByteArray := prog_1_method_25_code
def yX1_draught : MethodName := ⟨RX1, "draught", "()I"⟩
def dkwX1_draught_0 : List UInt8 := [42, 180, 0, 27, 182, 0, 152, 42, 182, 0, 142, 184, 0, 135, 172]
abbrev dktX1_draught_0 : List UInt8 := dkwX1_draught_0 ++ []
theorem dksX1_draught_0 : cX1_draught.data.toList.drop 0 = dktX1_draught_0 := by decide +kernel
theorem dX1_draught_0 : decode cX1_draught 0 = .ok (.aload_n 0, 1) := dk_42 (dk_at dksX1_draught_0 0 rfl rfl)
theorem dX1_draught_1 : decode cX1_draught 1 = .ok (.getfield 27, 3) := dk_180 0 27 (dk_at dksX1_draught_0 1 rfl rfl)
theorem dX1_draught_4 : decode cX1_draught 4 = .ok (.invokevirtual 152, 3) := dk_182 0 152 (dk_at dksX1_draught_0 4 rfl rfl)
theorem dX1_draught_7 : decode cX1_draught 7 = .ok (.aload_n 0, 1) := dk_42 (dk_at dksX1_draught_0 7 rfl rfl)
theorem dX1_draught_8 : decode cX1_draught 8 = .ok (.invokevirtual 142, 3) := dk_182 0 142 (dk_at dksX1_draught_0 8 rfl rfl)
theorem dX1_draught_11 : decode cX1_draught 11 = .ok (.invokestatic 135, 3) := dk_184 0 135 (dk_at dksX1_draught_0 11 rfl rfl)
theorem dX1_draught_14 : decode cX1_draught 14 = .ok (.ireturn, 1) := dk_172 (dk_at dksX1_draught_0 14 rfl rfl)
abbrev cX1_volumes : ByteArray := prog_1_method_21_code
def yX1_volumes : MethodName := ⟨RX1, "volumes", "()[I"⟩
def dkwX1_volumes_1 : List UInt8 := [132, 2, 1, 167, 255, 236, 43, 176]
abbrev dktX1_volumes_1 : List UInt8 := dkwX1_volumes_1 ++ []
def dkwX1_volumes_0 : List UInt8 := [16, 6, 188, 10, 76, 3, 61, 28, 16, 6, 162, 0, 20, 43, 28, 42, 180, 0, 20, 28, 182, 0, 103, 79]
abbrev dktX1_volumes_0 : List UInt8 := dkwX1_volumes_0 ++ dktX1_volumes_1
theorem dksX1_volumes_0 : cX1_volumes.data.toList.drop 0 = dktX1_volumes_0 := by decide +kernel
theorem dksX1_volumes_1 : cX1_volumes.data.toList.drop 24 = dktX1_volumes_1 := dk_seg dksX1_volumes_0 24 rfl rfl
theorem dX1_volumes_0 : decode cX1_volumes 0 = .ok (.bipush 6, 2) := dk_16 6 (dk_at dksX1_volumes_0 0 rfl rfl)
theorem dX1_volumes_2 : decode cX1_volumes 2 = .ok (.newarray .int, 2) := dk_188_10 (dk_at dksX1_volumes_0 2 rfl rfl)
theorem dX1_volumes_4 : decode cX1_volumes 4 = .ok (.astore_n 1, 1) := dk_76 (dk_at dksX1_volumes_0 4 rfl rfl)
theorem dX1_volumes_5 : decode cX1_volumes 5 = .ok (.iconst 0, 1) := dk_3 (dk_at dksX1_volumes_0 5 rfl rfl)
theorem dX1_volumes_6 : decode cX1_volumes 6 = .ok (.istore_n 2, 1) := dk_61 (dk_at dksX1_volumes_0 6 rfl rfl)
theorem dX1_volumes_7 : decode cX1_volumes 7 = .ok (.iload_n 2, 1) := dk_28 (dk_at dksX1_volumes_0 7 rfl rfl)
theorem dX1_volumes_8 : decode cX1_volumes 8 = .ok (.bipush 6, 2) := dk_16 6 (dk_at dksX1_volumes_0 8 rfl rfl)
theorem dX1_volumes_10 : decode cX1_volumes 10 = .ok (.if_icmp .ge 20, 3) := dk_162 0 20 (dk_at dksX1_volumes_0 10 rfl rfl)
theorem dX1_volumes_13 : decode cX1_volumes 13 = .ok (.aload_n 1, 1) := dk_43 (dk_at dksX1_volumes_0 13 rfl rfl)
theorem dX1_volumes_14 : decode cX1_volumes 14 = .ok (.iload_n 2, 1) := dk_28 (dk_at dksX1_volumes_0 14 rfl rfl)
theorem dX1_volumes_15 : decode cX1_volumes 15 = .ok (.aload_n 0, 1) := dk_42 (dk_at dksX1_volumes_0 15 rfl rfl)
theorem dX1_volumes_16 : decode cX1_volumes 16 = .ok (.getfield 20, 3) := dk_180 0 20 (dk_at dksX1_volumes_0 16 rfl rfl)
theorem dX1_volumes_19 : decode cX1_volumes 19 = .ok (.iload_n 2, 1) := dk_28 (dk_at dksX1_volumes_0 19 rfl rfl)
theorem dX1_volumes_20 : decode cX1_volumes 20 = .ok (.invokevirtual 103, 3) := dk_182 0 103 (dk_at dksX1_volumes_0 20 rfl rfl)
theorem dX1_volumes_23 : decode cX1_volumes 23 = .ok (.iastore, 1) := dk_79 (dk_at dksX1_volumes_0 23 rfl rfl)
theorem dX1_volumes_24 : decode cX1_volumes 24 = .ok (.iinc 2 1, 3) := dk_132 2 1 (dk_at dksX1_volumes_1 0 rfl rfl)
theorem dX1_volumes_27 : decode cX1_volumes 27 = .ok (.goto (-20), 3) := dk_167 255 236 (dk_at dksX1_volumes_1 3 rfl rfl)
theorem dX1_volumes_30 : decode cX1_volumes 30 = .ok (.aload_n 1, 1) := dk_43 (dk_at dksX1_volumes_1 6 rfl rfl)
theorem dX1_volumes_31 : decode cX1_volumes 31 = .ok (.areturn, 1) := dk_176 (dk_at dksX1_volumes_1 7 rfl rfl)
abbrev cX1_slices : ByteArray := prog_1_method_2_code
def yX1_slices : MethodName := ⟨RX1, "slices", "(LFairBatten$Measure;I)I"⟩
def dkwX1_slices_1 : List UInt8 := [185, 0, 1, 2, 0, 96, 96, 61, 132, 3, 1, 167, 255, 226, 28, 172]
abbrev dktX1_slices_1 : List UInt8 := dkwX1_slices_1 ++ []
def dkwX1_slices_0 : List UInt8 := [3, 61, 3, 62, 29, 4, 96, 27, 162, 0, 29, 28, 42, 29, 185, 0, 1, 2, 0, 42, 29, 4, 96]
abbrev dktX1_slices_0 : List UInt8 := dkwX1_slices_0 ++ dktX1_slices_1
theorem dksX1_slices_0 : cX1_slices.data.toList.drop 0 = dktX1_slices_0 := by decide +kernel
theorem dksX1_slices_1 : cX1_slices.data.toList.drop 23 = dktX1_slices_1 := dk_seg dksX1_slices_0 23 rfl rfl
theorem dX1_slices_0 : decode cX1_slices 0 = .ok (.iconst 0, 1) := dk_3 (dk_at dksX1_slices_0 0 rfl rfl)
theorem dX1_slices_1 : decode cX1_slices 1 = .ok (.istore_n 2, 1) := dk_61 (dk_at dksX1_slices_0 1 rfl rfl)
theorem dX1_slices_2 : decode cX1_slices 2 = .ok (.iconst 0, 1) := dk_3 (dk_at dksX1_slices_0 2 rfl rfl)
theorem dX1_slices_3 : decode cX1_slices 3 = .ok (.istore_n 3, 1) := dk_62 (dk_at dksX1_slices_0 3 rfl rfl)
theorem dX1_slices_4 : decode cX1_slices 4 = .ok (.iload_n 3, 1) := dk_29 (dk_at dksX1_slices_0 4 rfl rfl)
theorem dX1_slices_5 : decode cX1_slices 5 = .ok (.iconst 1, 1) := dk_4 (dk_at dksX1_slices_0 5 rfl rfl)
theorem dX1_slices_6 : decode cX1_slices 6 = .ok (.iadd, 1) := dk_96 (dk_at dksX1_slices_0 6 rfl rfl)
theorem dX1_slices_7 : decode cX1_slices 7 = .ok (.iload_n 1, 1) := dk_27 (dk_at dksX1_slices_0 7 rfl rfl)
theorem dX1_slices_8 : decode cX1_slices 8 = .ok (.if_icmp .ge 29, 3) := dk_162 0 29 (dk_at dksX1_slices_0 8 rfl rfl)
theorem dX1_slices_11 : decode cX1_slices 11 = .ok (.iload_n 2, 1) := dk_28 (dk_at dksX1_slices_0 11 rfl rfl)
theorem dX1_slices_12 : decode cX1_slices 12 = .ok (.aload_n 0, 1) := dk_42 (dk_at dksX1_slices_0 12 rfl rfl)
theorem dX1_slices_13 : decode cX1_slices 13 = .ok (.iload_n 3, 1) := dk_29 (dk_at dksX1_slices_0 13 rfl rfl)
theorem dX1_slices_14 : decode cX1_slices 14 = .ok (.invokeinterface 1 2, 5) := by decide +kernel
theorem dX1_slices_19 : decode cX1_slices 19 = .ok (.aload_n 0, 1) := dk_42 (dk_at dksX1_slices_0 19 rfl rfl)
theorem dX1_slices_20 : decode cX1_slices 20 = .ok (.iload_n 3, 1) := dk_29 (dk_at dksX1_slices_0 20 rfl rfl)
theorem dX1_slices_21 : decode cX1_slices 21 = .ok (.iconst 1, 1) := dk_4 (dk_at dksX1_slices_0 21 rfl rfl)
theorem dX1_slices_22 : decode cX1_slices 22 = .ok (.iadd, 1) := dk_96 (dk_at dksX1_slices_0 22 rfl rfl)
theorem dX1_slices_23 : decode cX1_slices 23 = .ok (.invokeinterface 1 2, 5) := by decide +kernel
theorem dX1_slices_28 : decode cX1_slices 28 = .ok (.iadd, 1) := dk_96 (dk_at dksX1_slices_1 5 rfl rfl)
theorem dX1_slices_29 : decode cX1_slices 29 = .ok (.iadd, 1) := dk_96 (dk_at dksX1_slices_1 6 rfl rfl)
theorem dX1_slices_30 : decode cX1_slices 30 = .ok (.istore_n 2, 1) := dk_61 (dk_at dksX1_slices_1 7 rfl rfl)
theorem dX1_slices_31 : decode cX1_slices 31 = .ok (.iinc 3 1, 3) := dk_132 3 1 (dk_at dksX1_slices_1 8 rfl rfl)
theorem dX1_slices_34 : decode cX1_slices 34 = .ok (.goto (-30), 3) := dk_167 255 226 (dk_at dksX1_slices_1 11 rfl rfl)
theorem dX1_slices_37 : decode cX1_slices 37 = .ok (.iload_n 2, 1) := dk_28 (dk_at dksX1_slices_1 14 rfl rfl)
theorem dX1_slices_38 : decode cX1_slices 38 = .ok (.ireturn, 1) := dk_172 (dk_at dksX1_slices_1 15 rfl rfl)
abbrev cX1_draughtOf : ByteArray := prog_1_method_19_code
def yX1_draughtOf : MethodName := ⟨RX1, "draughtOf", "(I[I)I"⟩
def dkwX1_draughtOf_1 : List UInt8 := [172]
abbrev dktX1_draughtOf_1 : List UInt8 := dkwX1_draughtOf_1 ++ []
def dkwX1_draughtOf_0 : List UInt8 := [3, 61, 28, 16, 6, 162, 0, 18, 43, 28, 46, 26, 161, 0, 5, 28, 172, 132, 2, 1, 167, 255, 238, 2]
abbrev dktX1_draughtOf_0 : List UInt8 := dkwX1_draughtOf_0 ++ dktX1_draughtOf_1
theorem dksX1_draughtOf_0 : cX1_draughtOf.data.toList.drop 0 = dktX1_draughtOf_0 := by decide +kernel
theorem dksX1_draughtOf_1 : cX1_draughtOf.data.toList.drop 24 = dktX1_draughtOf_1 := dk_seg dksX1_draughtOf_0 24 rfl rfl
theorem dX1_draughtOf_0 : decode cX1_draughtOf 0 = .ok (.iconst 0, 1) := dk_3 (dk_at dksX1_draughtOf_0 0 rfl rfl)
theorem dX1_draughtOf_1 : decode cX1_draughtOf 1 = .ok (.istore_n 2, 1) := dk_61 (dk_at dksX1_draughtOf_0 1 rfl rfl)
theorem dX1_draughtOf_2 : decode cX1_draughtOf 2 = .ok (.iload_n 2, 1) := dk_28 (dk_at dksX1_draughtOf_0 2 rfl rfl)
theorem dX1_draughtOf_3 : decode cX1_draughtOf 3 = .ok (.bipush 6, 2) := dk_16 6 (dk_at dksX1_draughtOf_0 3 rfl rfl)
theorem dX1_draughtOf_5 : decode cX1_draughtOf 5 = .ok (.if_icmp .ge 18, 3) := dk_162 0 18 (dk_at dksX1_draughtOf_0 5 rfl rfl)
theorem dX1_draughtOf_8 : decode cX1_draughtOf 8 = .ok (.aload_n 1, 1) := dk_43 (dk_at dksX1_draughtOf_0 8 rfl rfl)
theorem dX1_draughtOf_9 : decode cX1_draughtOf 9 = .ok (.iload_n 2, 1) := dk_28 (dk_at dksX1_draughtOf_0 9 rfl rfl)
theorem dX1_draughtOf_10 : decode cX1_draughtOf 10 = .ok (.iaload, 1) := dk_46 (dk_at dksX1_draughtOf_0 10 rfl rfl)
theorem dX1_draughtOf_11 : decode cX1_draughtOf 11 = .ok (.iload_n 0, 1) := dk_26 (dk_at dksX1_draughtOf_0 11 rfl rfl)
theorem dX1_draughtOf_12 : decode cX1_draughtOf 12 = .ok (.if_icmp .lt 5, 3) := dk_161 0 5 (dk_at dksX1_draughtOf_0 12 rfl rfl)
theorem dX1_draughtOf_15 : decode cX1_draughtOf 15 = .ok (.iload_n 2, 1) := dk_28 (dk_at dksX1_draughtOf_0 15 rfl rfl)
theorem dX1_draughtOf_16 : decode cX1_draughtOf 16 = .ok (.ireturn, 1) := dk_172 (dk_at dksX1_draughtOf_0 16 rfl rfl)
theorem dX1_draughtOf_17 : decode cX1_draughtOf 17 = .ok (.iinc 2 1, 3) := dk_132 2 1 (dk_at dksX1_draughtOf_0 17 rfl rfl)
theorem dX1_draughtOf_20 : decode cX1_draughtOf 20 = .ok (.goto (-18), 3) := dk_167 255 238 (dk_at dksX1_draughtOf_0 20 rfl rfl)
theorem dX1_draughtOf_23 : decode cX1_draughtOf 23 = .ok (.iconst (-1), 1) := dk_2 (dk_at dksX1_draughtOf_0 23 rfl rfl)
theorem dX1_draughtOf_24 : decode cX1_draughtOf 24 = .ok (.ireturn, 1) := dk_172 (dk_at dksX1_draughtOf_1 0 rfl rfl)
abbrev cX1_trim : ByteArray := prog_1_method_26_code
def yX1_trim : MethodName := ⟨RX1, "trim", "()I"⟩
def dkwX1_trim_1 : List UInt8 := [184, 0, 158, 172]
abbrev dktX1_trim_1 : List UInt8 := dkwX1_trim_1 ++ []
def dkwX1_trim_0 : List UInt8 := [42, 180, 0, 27, 182, 0, 152, 42, 180, 0, 27, 182, 0, 156, 42, 182, 0, 142, 42, 182, 0, 145]
abbrev dktX1_trim_0 : List UInt8 := dkwX1_trim_0 ++ dktX1_trim_1
theorem dksX1_trim_0 : cX1_trim.data.toList.drop 0 = dktX1_trim_0 := by decide +kernel
theorem dksX1_trim_1 : cX1_trim.data.toList.drop 22 = dktX1_trim_1 := dk_seg dksX1_trim_0 22 rfl rfl
theorem dX1_trim_0 : decode cX1_trim 0 = .ok (.aload_n 0, 1) := dk_42 (dk_at dksX1_trim_0 0 rfl rfl)
theorem dX1_trim_1 : decode cX1_trim 1 = .ok (.getfield 27, 3) := dk_180 0 27 (dk_at dksX1_trim_0 1 rfl rfl)
theorem dX1_trim_4 : decode cX1_trim 4 = .ok (.invokevirtual 152, 3) := dk_182 0 152 (dk_at dksX1_trim_0 4 rfl rfl)
theorem dX1_trim_7 : decode cX1_trim 7 = .ok (.aload_n 0, 1) := dk_42 (dk_at dksX1_trim_0 7 rfl rfl)
theorem dX1_trim_8 : decode cX1_trim 8 = .ok (.getfield 27, 3) := dk_180 0 27 (dk_at dksX1_trim_0 8 rfl rfl)
theorem dX1_trim_11 : decode cX1_trim 11 = .ok (.invokevirtual 156, 3) := dk_182 0 156 (dk_at dksX1_trim_0 11 rfl rfl)
theorem dX1_trim_14 : decode cX1_trim 14 = .ok (.aload_n 0, 1) := dk_42 (dk_at dksX1_trim_0 14 rfl rfl)
theorem dX1_trim_15 : decode cX1_trim 15 = .ok (.invokevirtual 142, 3) := dk_182 0 142 (dk_at dksX1_trim_0 15 rfl rfl)
theorem dX1_trim_18 : decode cX1_trim 18 = .ok (.aload_n 0, 1) := dk_42 (dk_at dksX1_trim_0 18 rfl rfl)
theorem dX1_trim_19 : decode cX1_trim 19 = .ok (.invokevirtual 145, 3) := dk_182 0 145 (dk_at dksX1_trim_0 19 rfl rfl)
theorem dX1_trim_22 : decode cX1_trim 22 = .ok (.invokestatic 158, 3) := dk_184 0 158 (dk_at dksX1_trim_1 0 rfl rfl)
theorem dX1_trim_25 : decode cX1_trim 25 = .ok (.ireturn, 1) := dk_172 (dk_at dksX1_trim_1 3 rfl rfl)
abbrev cX1_moments : ByteArray := prog_1_method_22_code
def yX1_moments : MethodName := ⟨RX1, "moments", "()[I"⟩
def dkwX1_moments_1 : List UInt8 := [132, 2, 1, 167, 255, 236, 43, 176]
abbrev dktX1_moments_1 : List UInt8 := dkwX1_moments_1 ++ []
def dkwX1_moments_0 : List UInt8 := [16, 6, 188, 10, 76, 3, 61, 28, 16, 6, 162, 0, 20, 43, 28, 42, 180, 0, 20, 28, 182, 0, 132, 79]
abbrev dktX1_moments_0 : List UInt8 := dkwX1_moments_0 ++ dktX1_moments_1
theorem dksX1_moments_0 : cX1_moments.data.toList.drop 0 = dktX1_moments_0 := by decide +kernel
theorem dksX1_moments_1 : cX1_moments.data.toList.drop 24 = dktX1_moments_1 := dk_seg dksX1_moments_0 24 rfl rfl
theorem dX1_moments_0 : decode cX1_moments 0 = .ok (.bipush 6, 2) := dk_16 6 (dk_at dksX1_moments_0 0 rfl rfl)
theorem dX1_moments_2 : decode cX1_moments 2 = .ok (.newarray .int, 2) := dk_188_10 (dk_at dksX1_moments_0 2 rfl rfl)
theorem dX1_moments_4 : decode cX1_moments 4 = .ok (.astore_n 1, 1) := dk_76 (dk_at dksX1_moments_0 4 rfl rfl)
theorem dX1_moments_5 : decode cX1_moments 5 = .ok (.iconst 0, 1) := dk_3 (dk_at dksX1_moments_0 5 rfl rfl)
theorem dX1_moments_6 : decode cX1_moments 6 = .ok (.istore_n 2, 1) := dk_61 (dk_at dksX1_moments_0 6 rfl rfl)
theorem dX1_moments_7 : decode cX1_moments 7 = .ok (.iload_n 2, 1) := dk_28 (dk_at dksX1_moments_0 7 rfl rfl)
theorem dX1_moments_8 : decode cX1_moments 8 = .ok (.bipush 6, 2) := dk_16 6 (dk_at dksX1_moments_0 8 rfl rfl)
theorem dX1_moments_10 : decode cX1_moments 10 = .ok (.if_icmp .ge 20, 3) := dk_162 0 20 (dk_at dksX1_moments_0 10 rfl rfl)
theorem dX1_moments_13 : decode cX1_moments 13 = .ok (.aload_n 1, 1) := dk_43 (dk_at dksX1_moments_0 13 rfl rfl)
theorem dX1_moments_14 : decode cX1_moments 14 = .ok (.iload_n 2, 1) := dk_28 (dk_at dksX1_moments_0 14 rfl rfl)
theorem dX1_moments_15 : decode cX1_moments 15 = .ok (.aload_n 0, 1) := dk_42 (dk_at dksX1_moments_0 15 rfl rfl)
theorem dX1_moments_16 : decode cX1_moments 16 = .ok (.getfield 20, 3) := dk_180 0 20 (dk_at dksX1_moments_0 16 rfl rfl)
theorem dX1_moments_19 : decode cX1_moments 19 = .ok (.iload_n 2, 1) := dk_28 (dk_at dksX1_moments_0 19 rfl rfl)
theorem dX1_moments_20 : decode cX1_moments 20 = .ok (.invokevirtual 132, 3) := dk_182 0 132 (dk_at dksX1_moments_0 20 rfl rfl)
theorem dX1_moments_23 : decode cX1_moments 23 = .ok (.iastore, 1) := dk_79 (dk_at dksX1_moments_0 23 rfl rfl)
theorem dX1_moments_24 : decode cX1_moments 24 = .ok (.iinc 2 1, 3) := dk_132 2 1 (dk_at dksX1_moments_1 0 rfl rfl)
theorem dX1_moments_27 : decode cX1_moments 27 = .ok (.goto (-20), 3) := dk_167 255 236 (dk_at dksX1_moments_1 3 rfl rfl)
theorem dX1_moments_30 : decode cX1_moments 30 = .ok (.aload_n 1, 1) := dk_43 (dk_at dksX1_moments_1 6 rfl rfl)
theorem dX1_moments_31 : decode cX1_moments 31 = .ok (.areturn, 1) := dk_176 (dk_at dksX1_moments_1 7 rfl rfl)
abbrev cX1_trimOf : ByteArray := prog_1_method_23_code
def yX1_trimOf : MethodName := ⟨RX1, "trimOf", "(II[I[I)I"⟩
def dkwX1_trimOf_1 : List UInt8 := [21, 4, 46, 44, 21, 4, 46, 184, 0, 139, 100, 172]
abbrev dktX1_trimOf_1 : List UInt8 := dkwX1_trimOf_1 ++ []
def dkwX1_trimOf_0 : List UInt8 := [26, 44, 184, 0, 135, 54, 4, 21, 4, 2, 160, 0, 7, 3, 167, 0, 20, 27, 26, 184, 0, 139, 45]
abbrev dktX1_trimOf_0 : List UInt8 := dkwX1_trimOf_0 ++ dktX1_trimOf_1
theorem dksX1_trimOf_0 : cX1_trimOf.data.toList.drop 0 = dktX1_trimOf_0 := by decide +kernel
theorem dksX1_trimOf_1 : cX1_trimOf.data.toList.drop 23 = dktX1_trimOf_1 := dk_seg dksX1_trimOf_0 23 rfl rfl
theorem dX1_trimOf_0 : decode cX1_trimOf 0 = .ok (.iload_n 0, 1) := dk_26 (dk_at dksX1_trimOf_0 0 rfl rfl)
theorem dX1_trimOf_1 : decode cX1_trimOf 1 = .ok (.aload_n 2, 1) := dk_44 (dk_at dksX1_trimOf_0 1 rfl rfl)
theorem dX1_trimOf_2 : decode cX1_trimOf 2 = .ok (.invokestatic 135, 3) := dk_184 0 135 (dk_at dksX1_trimOf_0 2 rfl rfl)
theorem dX1_trimOf_5 : decode cX1_trimOf 5 = .ok (.istore 4, 2) := dk_54 4 (dk_at dksX1_trimOf_0 5 rfl rfl)
theorem dX1_trimOf_7 : decode cX1_trimOf 7 = .ok (.iload 4, 2) := dk_21 4 (dk_at dksX1_trimOf_0 7 rfl rfl)
theorem dX1_trimOf_9 : decode cX1_trimOf 9 = .ok (.iconst (-1), 1) := dk_2 (dk_at dksX1_trimOf_0 9 rfl rfl)
theorem dX1_trimOf_10 : decode cX1_trimOf 10 = .ok (.if_icmp .ne 7, 3) := dk_160 0 7 (dk_at dksX1_trimOf_0 10 rfl rfl)
theorem dX1_trimOf_13 : decode cX1_trimOf 13 = .ok (.iconst 0, 1) := dk_3 (dk_at dksX1_trimOf_0 13 rfl rfl)
theorem dX1_trimOf_14 : decode cX1_trimOf 14 = .ok (.goto 20, 3) := dk_167 0 20 (dk_at dksX1_trimOf_0 14 rfl rfl)
theorem dX1_trimOf_17 : decode cX1_trimOf 17 = .ok (.iload_n 1, 1) := dk_27 (dk_at dksX1_trimOf_0 17 rfl rfl)
theorem dX1_trimOf_18 : decode cX1_trimOf 18 = .ok (.iload_n 0, 1) := dk_26 (dk_at dksX1_trimOf_0 18 rfl rfl)
theorem dX1_trimOf_19 : decode cX1_trimOf 19 = .ok (.invokestatic 139, 3) := dk_184 0 139 (dk_at dksX1_trimOf_0 19 rfl rfl)
theorem dX1_trimOf_22 : decode cX1_trimOf 22 = .ok (.aload_n 3, 1) := dk_45 (dk_at dksX1_trimOf_0 22 rfl rfl)
theorem dX1_trimOf_23 : decode cX1_trimOf 23 = .ok (.iload 4, 2) := dk_21 4 (dk_at dksX1_trimOf_1 0 rfl rfl)
theorem dX1_trimOf_25 : decode cX1_trimOf 25 = .ok (.iaload, 1) := dk_46 (dk_at dksX1_trimOf_1 2 rfl rfl)
theorem dX1_trimOf_26 : decode cX1_trimOf 26 = .ok (.aload_n 2, 1) := dk_44 (dk_at dksX1_trimOf_1 3 rfl rfl)
theorem dX1_trimOf_27 : decode cX1_trimOf 27 = .ok (.iload 4, 2) := dk_21 4 (dk_at dksX1_trimOf_1 4 rfl rfl)
theorem dX1_trimOf_29 : decode cX1_trimOf 29 = .ok (.iaload, 1) := dk_46 (dk_at dksX1_trimOf_1 6 rfl rfl)
theorem dX1_trimOf_30 : decode cX1_trimOf 30 = .ok (.invokestatic 139, 3) := dk_184 0 139 (dk_at dksX1_trimOf_1 7 rfl rfl)
theorem dX1_trimOf_33 : decode cX1_trimOf 33 = .ok (.isub, 1) := dk_100 (dk_at dksX1_trimOf_1 10 rfl rfl)
theorem dX1_trimOf_34 : decode cX1_trimOf 34 = .ok (.ireturn, 1) := dk_172 (dk_at dksX1_trimOf_1 11 rfl rfl)
abbrev cX1_by : ByteArray := prog_1_method_20_code
def yX1_by : MethodName := ⟨RX1, "by", "(II)I"⟩
def dkwX1_by_0 : List UInt8 := [27, 154, 0, 7, 3, 167, 0, 11, 16, 100, 26, 104, 27, 184, 0, 127, 172]
abbrev dktX1_by_0 : List UInt8 := dkwX1_by_0 ++ []
theorem dksX1_by_0 : cX1_by.data.toList.drop 0 = dktX1_by_0 := by decide +kernel
theorem dX1_by_0 : decode cX1_by 0 = .ok (.iload_n 1, 1) := dk_27 (dk_at dksX1_by_0 0 rfl rfl)
theorem dX1_by_1 : decode cX1_by 1 = .ok (.ifCond .ne 7, 3) := dk_154 0 7 (dk_at dksX1_by_0 1 rfl rfl)
theorem dX1_by_4 : decode cX1_by 4 = .ok (.iconst 0, 1) := dk_3 (dk_at dksX1_by_0 4 rfl rfl)
theorem dX1_by_5 : decode cX1_by 5 = .ok (.goto 11, 3) := dk_167 0 11 (dk_at dksX1_by_0 5 rfl rfl)
theorem dX1_by_8 : decode cX1_by 8 = .ok (.bipush 100, 2) := dk_16 100 (dk_at dksX1_by_0 8 rfl rfl)
theorem dX1_by_10 : decode cX1_by 10 = .ok (.iload_n 0, 1) := dk_26 (dk_at dksX1_by_0 10 rfl rfl)
theorem dX1_by_11 : decode cX1_by 11 = .ok (.imul, 1) := dk_104 (dk_at dksX1_by_0 11 rfl rfl)
theorem dX1_by_12 : decode cX1_by 12 = .ok (.iload_n 1, 1) := dk_27 (dk_at dksX1_by_0 12 rfl rfl)
theorem dX1_by_13 : decode cX1_by 13 = .ok (.invokestatic 127, 3) := dk_184 0 127 (dk_at dksX1_by_0 13 rfl rfl)
theorem dX1_by_16 : decode cX1_by 16 = .ok (.ireturn, 1) := dk_172 (dk_at dksX1_by_0 16 rfl rfl)
abbrev cX1_needed : ByteArray := prog_1_method_34_code
def yX1_needed : MethodName := ⟨RX1, "needed", "()I"⟩
def dkwX1_needed_1 : List UInt8 := [182, 0, 218, 184, 0, 162, 16, 10, 108, 96, 172]
abbrev dktX1_needed_1 : List UInt8 := dkwX1_needed_1 ++ []
def dkwX1_needed_0 : List UInt8 := [42, 182, 0, 215, 60, 27, 2, 160, 0, 7, 2, 167, 0, 23, 16, 10, 27, 104, 42, 180, 0, 212, 96, 42]
abbrev dktX1_needed_0 : List UInt8 := dkwX1_needed_0 ++ dktX1_needed_1
theorem dksX1_needed_0 : cX1_needed.data.toList.drop 0 = dktX1_needed_0 := by decide +kernel
theorem dksX1_needed_1 : cX1_needed.data.toList.drop 24 = dktX1_needed_1 := dk_seg dksX1_needed_0 24 rfl rfl
theorem dX1_needed_0 : decode cX1_needed 0 = .ok (.aload_n 0, 1) := dk_42 (dk_at dksX1_needed_0 0 rfl rfl)
theorem dX1_needed_1 : decode cX1_needed 1 = .ok (.invokevirtual 215, 3) := dk_182 0 215 (dk_at dksX1_needed_0 1 rfl rfl)
theorem dX1_needed_4 : decode cX1_needed 4 = .ok (.istore_n 1, 1) := dk_60 (dk_at dksX1_needed_0 4 rfl rfl)
theorem dX1_needed_5 : decode cX1_needed 5 = .ok (.iload_n 1, 1) := dk_27 (dk_at dksX1_needed_0 5 rfl rfl)
theorem dX1_needed_6 : decode cX1_needed 6 = .ok (.iconst (-1), 1) := dk_2 (dk_at dksX1_needed_0 6 rfl rfl)
theorem dX1_needed_7 : decode cX1_needed 7 = .ok (.if_icmp .ne 7, 3) := dk_160 0 7 (dk_at dksX1_needed_0 7 rfl rfl)
theorem dX1_needed_10 : decode cX1_needed 10 = .ok (.iconst (-1), 1) := dk_2 (dk_at dksX1_needed_0 10 rfl rfl)
theorem dX1_needed_11 : decode cX1_needed 11 = .ok (.goto 23, 3) := dk_167 0 23 (dk_at dksX1_needed_0 11 rfl rfl)
theorem dX1_needed_14 : decode cX1_needed 14 = .ok (.bipush 10, 2) := dk_16 10 (dk_at dksX1_needed_0 14 rfl rfl)
theorem dX1_needed_16 : decode cX1_needed 16 = .ok (.iload_n 1, 1) := dk_27 (dk_at dksX1_needed_0 16 rfl rfl)
theorem dX1_needed_17 : decode cX1_needed 17 = .ok (.imul, 1) := dk_104 (dk_at dksX1_needed_0 17 rfl rfl)
theorem dX1_needed_18 : decode cX1_needed 18 = .ok (.aload_n 0, 1) := dk_42 (dk_at dksX1_needed_0 18 rfl rfl)
theorem dX1_needed_19 : decode cX1_needed 19 = .ok (.getfield 212, 3) := dk_180 0 212 (dk_at dksX1_needed_0 19 rfl rfl)
theorem dX1_needed_22 : decode cX1_needed 22 = .ok (.iadd, 1) := dk_96 (dk_at dksX1_needed_0 22 rfl rfl)
theorem dX1_needed_23 : decode cX1_needed 23 = .ok (.aload_n 0, 1) := dk_42 (dk_at dksX1_needed_0 23 rfl rfl)
theorem dX1_needed_24 : decode cX1_needed 24 = .ok (.invokevirtual 218, 3) := dk_182 0 218 (dk_at dksX1_needed_1 0 rfl rfl)
theorem dX1_needed_27 : decode cX1_needed 27 = .ok (.invokestatic 162, 3) := dk_184 0 162 (dk_at dksX1_needed_1 3 rfl rfl)
theorem dX1_needed_30 : decode cX1_needed 30 = .ok (.bipush 10, 2) := dk_16 10 (dk_at dksX1_needed_1 6 rfl rfl)
theorem dX1_needed_32 : decode cX1_needed 32 = .ok (.idiv, 1) := dk_108 (dk_at dksX1_needed_1 8 rfl rfl)
theorem dX1_needed_33 : decode cX1_needed 33 = .ok (.iadd, 1) := dk_96 (dk_at dksX1_needed_1 9 rfl rfl)
theorem dX1_needed_34 : decode cX1_needed 34 = .ok (.ireturn, 1) := dk_172 (dk_at dksX1_needed_1 10 rfl rfl)
abbrev cX1_day : ByteArray := prog_1_method_35_code
def yX1_day : MethodName := ⟨RX1, "day", "()I"⟩
def dkwX1_day_2 : List UInt8 := [167, 255, 219, 2, 172]
abbrev dktX1_day_2 : List UInt8 := dkwX1_day_2 ++ []
def dkwX1_day_1 : List UInt8 := [159, 0, 27, 42, 180, 0, 69, 154, 0, 20, 42, 28, 182, 0, 205, 27, 161, 0, 5, 28, 172, 132, 2, 1]
abbrev dktX1_day_1 : List UInt8 := dkwX1_day_1 ++ dktX1_day_2
def dkwX1_day_0 : List UInt8 := [42, 182, 0, 221, 60, 42, 180, 0, 224, 61, 28, 42, 180, 0, 224, 16, 99, 96, 163, 0, 32, 27, 2]
abbrev dktX1_day_0 : List UInt8 := dkwX1_day_0 ++ dktX1_day_1
theorem dksX1_day_0 : cX1_day.data.toList.drop 0 = dktX1_day_0 := by decide +kernel
theorem dksX1_day_1 : cX1_day.data.toList.drop 23 = dktX1_day_1 := dk_seg dksX1_day_0 23 rfl rfl
theorem dksX1_day_2 : cX1_day.data.toList.drop 47 = dktX1_day_2 := dk_seg dksX1_day_1 24 rfl rfl
theorem dX1_day_0 : decode cX1_day 0 = .ok (.aload_n 0, 1) := dk_42 (dk_at dksX1_day_0 0 rfl rfl)
theorem dX1_day_1 : decode cX1_day 1 = .ok (.invokevirtual 221, 3) := dk_182 0 221 (dk_at dksX1_day_0 1 rfl rfl)
theorem dX1_day_4 : decode cX1_day 4 = .ok (.istore_n 1, 1) := dk_60 (dk_at dksX1_day_0 4 rfl rfl)
theorem dX1_day_5 : decode cX1_day 5 = .ok (.aload_n 0, 1) := dk_42 (dk_at dksX1_day_0 5 rfl rfl)
theorem dX1_day_6 : decode cX1_day 6 = .ok (.getfield 224, 3) := dk_180 0 224 (dk_at dksX1_day_0 6 rfl rfl)
theorem dX1_day_9 : decode cX1_day 9 = .ok (.istore_n 2, 1) := dk_61 (dk_at dksX1_day_0 9 rfl rfl)
theorem dX1_day_10 : decode cX1_day 10 = .ok (.iload_n 2, 1) := dk_28 (dk_at dksX1_day_0 10 rfl rfl)
theorem dX1_day_11 : decode cX1_day 11 = .ok (.aload_n 0, 1) := dk_42 (dk_at dksX1_day_0 11 rfl rfl)
theorem dX1_day_12 : decode cX1_day 12 = .ok (.getfield 224, 3) := dk_180 0 224 (dk_at dksX1_day_0 12 rfl rfl)
theorem dX1_day_15 : decode cX1_day 15 = .ok (.bipush 99, 2) := dk_16 99 (dk_at dksX1_day_0 15 rfl rfl)
theorem dX1_day_17 : decode cX1_day 17 = .ok (.iadd, 1) := dk_96 (dk_at dksX1_day_0 17 rfl rfl)
theorem dX1_day_18 : decode cX1_day 18 = .ok (.if_icmp .gt 32, 3) := dk_163 0 32 (dk_at dksX1_day_0 18 rfl rfl)
theorem dX1_day_21 : decode cX1_day 21 = .ok (.iload_n 1, 1) := dk_27 (dk_at dksX1_day_0 21 rfl rfl)
theorem dX1_day_22 : decode cX1_day 22 = .ok (.iconst (-1), 1) := dk_2 (dk_at dksX1_day_0 22 rfl rfl)
theorem dX1_day_23 : decode cX1_day 23 = .ok (.if_icmp .eq 27, 3) := dk_159 0 27 (dk_at dksX1_day_1 0 rfl rfl)
theorem dX1_day_26 : decode cX1_day 26 = .ok (.aload_n 0, 1) := dk_42 (dk_at dksX1_day_1 3 rfl rfl)
theorem dX1_day_27 : decode cX1_day 27 = .ok (.getfield 69, 3) := dk_180 0 69 (dk_at dksX1_day_1 4 rfl rfl)
theorem dX1_day_30 : decode cX1_day 30 = .ok (.ifCond .ne 20, 3) := dk_154 0 20 (dk_at dksX1_day_1 7 rfl rfl)
theorem dX1_day_33 : decode cX1_day 33 = .ok (.aload_n 0, 1) := dk_42 (dk_at dksX1_day_1 10 rfl rfl)
theorem dX1_day_34 : decode cX1_day 34 = .ok (.iload_n 2, 1) := dk_28 (dk_at dksX1_day_1 11 rfl rfl)
theorem dX1_day_35 : decode cX1_day 35 = .ok (.invokevirtual 205, 3) := dk_182 0 205 (dk_at dksX1_day_1 12 rfl rfl)
theorem dX1_day_38 : decode cX1_day 38 = .ok (.iload_n 1, 1) := dk_27 (dk_at dksX1_day_1 15 rfl rfl)
theorem dX1_day_39 : decode cX1_day 39 = .ok (.if_icmp .lt 5, 3) := dk_161 0 5 (dk_at dksX1_day_1 16 rfl rfl)
theorem dX1_day_42 : decode cX1_day 42 = .ok (.iload_n 2, 1) := dk_28 (dk_at dksX1_day_1 19 rfl rfl)
theorem dX1_day_43 : decode cX1_day 43 = .ok (.ireturn, 1) := dk_172 (dk_at dksX1_day_1 20 rfl rfl)
theorem dX1_day_44 : decode cX1_day 44 = .ok (.iinc 2 1, 3) := dk_132 2 1 (dk_at dksX1_day_1 21 rfl rfl)
theorem dX1_day_47 : decode cX1_day 47 = .ok (.goto (-37), 3) := dk_167 255 219 (dk_at dksX1_day_2 0 rfl rfl)
theorem dX1_day_50 : decode cX1_day 50 = .ok (.iconst (-1), 1) := dk_2 (dk_at dksX1_day_2 3 rfl rfl)
theorem dX1_day_51 : decode cX1_day 51 = .ok (.ireturn, 1) := dk_172 (dk_at dksX1_day_2 4 rfl rfl)
abbrev cX1_tideOf : ByteArray := prog_1_method_31_code
def yX1_tideOf : MethodName := ⟨RX1, "tideOf", "(I)I"⟩
def dkwX1_tideOf_1 : List UInt8 := [104, 6, 96, 16, 19, 112, 167, 0, 7, 44, 182, 0, 195, 172]
abbrev dktX1_tideOf_1 : List UInt8 := dkwX1_tideOf_1 ++ []
def dkwX1_tideOf_0 : List UInt8 := [42, 180, 0, 34, 27, 184, 0, 183, 185, 0, 189, 2, 0, 192, 0, 184, 77, 44, 199, 0, 15, 16, 7, 27]
abbrev dktX1_tideOf_0 : List UInt8 := dkwX1_tideOf_0 ++ dktX1_tideOf_1
theorem dksX1_tideOf_0 : cX1_tideOf.data.toList.drop 0 = dktX1_tideOf_0 := by decide +kernel
theorem dksX1_tideOf_1 : cX1_tideOf.data.toList.drop 24 = dktX1_tideOf_1 := dk_seg dksX1_tideOf_0 24 rfl rfl
theorem dX1_tideOf_0 : decode cX1_tideOf 0 = .ok (.aload_n 0, 1) := dk_42 (dk_at dksX1_tideOf_0 0 rfl rfl)
theorem dX1_tideOf_1 : decode cX1_tideOf 1 = .ok (.getfield 34, 3) := dk_180 0 34 (dk_at dksX1_tideOf_0 1 rfl rfl)
theorem dX1_tideOf_4 : decode cX1_tideOf 4 = .ok (.iload_n 1, 1) := dk_27 (dk_at dksX1_tideOf_0 4 rfl rfl)
theorem dX1_tideOf_5 : decode cX1_tideOf 5 = .ok (.invokestatic 183, 3) := dk_184 0 183 (dk_at dksX1_tideOf_0 5 rfl rfl)
theorem dX1_tideOf_8 : decode cX1_tideOf 8 = .ok (.invokeinterface 189 2, 5) := by decide +kernel
theorem dX1_tideOf_13 : decode cX1_tideOf 13 = .ok (.checkcast 184, 3) := dk_192 0 184 (dk_at dksX1_tideOf_0 13 rfl rfl)
theorem dX1_tideOf_16 : decode cX1_tideOf 16 = .ok (.astore_n 2, 1) := dk_77 (dk_at dksX1_tideOf_0 16 rfl rfl)
theorem dX1_tideOf_17 : decode cX1_tideOf 17 = .ok (.aload_n 2, 1) := dk_44 (dk_at dksX1_tideOf_0 17 rfl rfl)
theorem dX1_tideOf_18 : decode cX1_tideOf 18 = .ok (.ifnonnull 15, 3) := dk_199 0 15 (dk_at dksX1_tideOf_0 18 rfl rfl)
theorem dX1_tideOf_21 : decode cX1_tideOf 21 = .ok (.bipush 7, 2) := dk_16 7 (dk_at dksX1_tideOf_0 21 rfl rfl)
theorem dX1_tideOf_23 : decode cX1_tideOf 23 = .ok (.iload_n 1, 1) := dk_27 (dk_at dksX1_tideOf_0 23 rfl rfl)
theorem dX1_tideOf_24 : decode cX1_tideOf 24 = .ok (.imul, 1) := dk_104 (dk_at dksX1_tideOf_1 0 rfl rfl)
theorem dX1_tideOf_25 : decode cX1_tideOf 25 = .ok (.iconst 3, 1) := dk_6 (dk_at dksX1_tideOf_1 1 rfl rfl)
theorem dX1_tideOf_26 : decode cX1_tideOf 26 = .ok (.iadd, 1) := dk_96 (dk_at dksX1_tideOf_1 2 rfl rfl)
theorem dX1_tideOf_27 : decode cX1_tideOf 27 = .ok (.bipush 19, 2) := dk_16 19 (dk_at dksX1_tideOf_1 3 rfl rfl)
theorem dX1_tideOf_29 : decode cX1_tideOf 29 = .ok (.irem, 1) := dk_112 (dk_at dksX1_tideOf_1 5 rfl rfl)
theorem dX1_tideOf_30 : decode cX1_tideOf 30 = .ok (.goto 7, 3) := dk_167 0 7 (dk_at dksX1_tideOf_1 6 rfl rfl)
theorem dX1_tideOf_33 : decode cX1_tideOf 33 = .ok (.aload_n 2, 1) := dk_44 (dk_at dksX1_tideOf_1 9 rfl rfl)
theorem dX1_tideOf_34 : decode cX1_tideOf 34 = .ok (.invokevirtual 195, 3) := dk_182 0 195 (dk_at dksX1_tideOf_1 10 rfl rfl)
theorem dX1_tideOf_37 : decode cX1_tideOf 37 = .ok (.ireturn, 1) := dk_172 (dk_at dksX1_tideOf_1 13 rfl rfl)
abbrev cX1_offset : ByteArray := prog_1_method_10_code
def yX1_offset : MethodName := ⟨RX1, "offset", "(III)I"⟩
def dkwX1_offset_2 : List UInt8 := [42, 180, 0, 20, 180, 0, 76, 28, 50, 27, 29, 79, 21, 4, 172]
abbrev dktX1_offset_2 : List UInt8 := dkwX1_offset_2 ++ []
def dkwX1_offset_1 : List UInt8 := [154, 0, 7, 4, 167, 0, 4, 3, 184, 0, 73, 42, 180, 0, 20, 180, 0, 76, 28, 50, 27, 46, 54, 4]
abbrev dktX1_offset_1 : List UInt8 := dkwX1_offset_1 ++ dktX1_offset_2
def dkwX1_offset_0 : List UInt8 := [27, 184, 0, 59, 28, 184, 0, 63, 29, 3, 17, 0, 200, 184, 0, 51, 184, 0, 66, 42, 180, 0, 69]
abbrev dktX1_offset_0 : List UInt8 := dkwX1_offset_0 ++ dktX1_offset_1
theorem dksX1_offset_0 : cX1_offset.data.toList.drop 0 = dktX1_offset_0 := by decide +kernel
theorem dksX1_offset_1 : cX1_offset.data.toList.drop 23 = dktX1_offset_1 := dk_seg dksX1_offset_0 23 rfl rfl
theorem dksX1_offset_2 : cX1_offset.data.toList.drop 47 = dktX1_offset_2 := dk_seg dksX1_offset_1 24 rfl rfl
theorem dX1_offset_0 : decode cX1_offset 0 = .ok (.iload_n 1, 1) := dk_27 (dk_at dksX1_offset_0 0 rfl rfl)
theorem dX1_offset_1 : decode cX1_offset 1 = .ok (.invokestatic 59, 3) := dk_184 0 59 (dk_at dksX1_offset_0 1 rfl rfl)
theorem dX1_offset_4 : decode cX1_offset 4 = .ok (.iload_n 2, 1) := dk_28 (dk_at dksX1_offset_0 4 rfl rfl)
theorem dX1_offset_5 : decode cX1_offset 5 = .ok (.invokestatic 63, 3) := dk_184 0 63 (dk_at dksX1_offset_0 5 rfl rfl)
theorem dX1_offset_8 : decode cX1_offset 8 = .ok (.iload_n 3, 1) := dk_29 (dk_at dksX1_offset_0 8 rfl rfl)
theorem dX1_offset_9 : decode cX1_offset 9 = .ok (.iconst 0, 1) := dk_3 (dk_at dksX1_offset_0 9 rfl rfl)
theorem dX1_offset_10 : decode cX1_offset 10 = .ok (.sipush 200, 3) := dk_17 0 200 (dk_at dksX1_offset_0 10 rfl rfl)
theorem dX1_offset_13 : decode cX1_offset 13 = .ok (.invokestatic 51, 3) := dk_184 0 51 (dk_at dksX1_offset_0 13 rfl rfl)
theorem dX1_offset_16 : decode cX1_offset 16 = .ok (.invokestatic 66, 3) := dk_184 0 66 (dk_at dksX1_offset_0 16 rfl rfl)
theorem dX1_offset_19 : decode cX1_offset 19 = .ok (.aload_n 0, 1) := dk_42 (dk_at dksX1_offset_0 19 rfl rfl)
theorem dX1_offset_20 : decode cX1_offset 20 = .ok (.getfield 69, 3) := dk_180 0 69 (dk_at dksX1_offset_0 20 rfl rfl)
theorem dX1_offset_23 : decode cX1_offset 23 = .ok (.ifCond .ne 7, 3) := dk_154 0 7 (dk_at dksX1_offset_1 0 rfl rfl)
theorem dX1_offset_26 : decode cX1_offset 26 = .ok (.iconst 1, 1) := dk_4 (dk_at dksX1_offset_1 3 rfl rfl)
theorem dX1_offset_27 : decode cX1_offset 27 = .ok (.goto 4, 3) := dk_167 0 4 (dk_at dksX1_offset_1 4 rfl rfl)
theorem dX1_offset_30 : decode cX1_offset 30 = .ok (.iconst 0, 1) := dk_3 (dk_at dksX1_offset_1 7 rfl rfl)
theorem dX1_offset_31 : decode cX1_offset 31 = .ok (.invokestatic 73, 3) := dk_184 0 73 (dk_at dksX1_offset_1 8 rfl rfl)
theorem dX1_offset_34 : decode cX1_offset 34 = .ok (.aload_n 0, 1) := dk_42 (dk_at dksX1_offset_1 11 rfl rfl)
theorem dX1_offset_35 : decode cX1_offset 35 = .ok (.getfield 20, 3) := dk_180 0 20 (dk_at dksX1_offset_1 12 rfl rfl)
theorem dX1_offset_38 : decode cX1_offset 38 = .ok (.getfield 76, 3) := dk_180 0 76 (dk_at dksX1_offset_1 15 rfl rfl)
theorem dX1_offset_41 : decode cX1_offset 41 = .ok (.iload_n 2, 1) := dk_28 (dk_at dksX1_offset_1 18 rfl rfl)
theorem dX1_offset_42 : decode cX1_offset 42 = .ok (.aaload, 1) := dk_50 (dk_at dksX1_offset_1 19 rfl rfl)
theorem dX1_offset_43 : decode cX1_offset 43 = .ok (.iload_n 1, 1) := dk_27 (dk_at dksX1_offset_1 20 rfl rfl)
theorem dX1_offset_44 : decode cX1_offset 44 = .ok (.iaload, 1) := dk_46 (dk_at dksX1_offset_1 21 rfl rfl)
theorem dX1_offset_45 : decode cX1_offset 45 = .ok (.istore 4, 2) := dk_54 4 (dk_at dksX1_offset_1 22 rfl rfl)
theorem dX1_offset_47 : decode cX1_offset 47 = .ok (.aload_n 0, 1) := dk_42 (dk_at dksX1_offset_2 0 rfl rfl)
theorem dX1_offset_48 : decode cX1_offset 48 = .ok (.getfield 20, 3) := dk_180 0 20 (dk_at dksX1_offset_2 1 rfl rfl)
theorem dX1_offset_51 : decode cX1_offset 51 = .ok (.getfield 76, 3) := dk_180 0 76 (dk_at dksX1_offset_2 4 rfl rfl)
theorem dX1_offset_54 : decode cX1_offset 54 = .ok (.iload_n 2, 1) := dk_28 (dk_at dksX1_offset_2 7 rfl rfl)
theorem dX1_offset_55 : decode cX1_offset 55 = .ok (.aaload, 1) := dk_50 (dk_at dksX1_offset_2 8 rfl rfl)
theorem dX1_offset_56 : decode cX1_offset 56 = .ok (.iload_n 1, 1) := dk_27 (dk_at dksX1_offset_2 9 rfl rfl)
theorem dX1_offset_57 : decode cX1_offset 57 = .ok (.iload_n 3, 1) := dk_29 (dk_at dksX1_offset_2 10 rfl rfl)
theorem dX1_offset_58 : decode cX1_offset 58 = .ok (.iastore, 1) := dk_79 (dk_at dksX1_offset_2 11 rfl rfl)
theorem dX1_offset_59 : decode cX1_offset 59 = .ok (.iload 4, 2) := dk_21 4 (dk_at dksX1_offset_2 12 rfl rfl)
theorem dX1_offset_61 : decode cX1_offset 61 = .ok (.ireturn, 1) := dk_172 (dk_at dksX1_offset_2 14 rfl rfl)
abbrev cX1_checkStation : ByteArray := prog_1_method_8_code
def yX1_checkStation : MethodName := ⟨RX1, "checkStation", "(I)V"⟩
def dkwX1_checkStation_0 : List UInt8 := [26, 3, 16, 8, 184, 0, 51, 184, 0, 55, 177]
abbrev dktX1_checkStation_0 : List UInt8 := dkwX1_checkStation_0 ++ []
theorem dksX1_checkStation_0 : cX1_checkStation.data.toList.drop 0 = dktX1_checkStation_0 := by decide +kernel
theorem dX1_checkStation_0 : decode cX1_checkStation 0 = .ok (.iload_n 0, 1) := dk_26 (dk_at dksX1_checkStation_0 0 rfl rfl)
theorem dX1_checkStation_1 : decode cX1_checkStation 1 = .ok (.iconst 0, 1) := dk_3 (dk_at dksX1_checkStation_0 1 rfl rfl)
theorem dX1_checkStation_2 : decode cX1_checkStation 2 = .ok (.bipush 8, 2) := dk_16 8 (dk_at dksX1_checkStation_0 2 rfl rfl)
theorem dX1_checkStation_4 : decode cX1_checkStation 4 = .ok (.invokestatic 51, 3) := dk_184 0 51 (dk_at dksX1_checkStation_0 4 rfl rfl)
theorem dX1_checkStation_7 : decode cX1_checkStation 7 = .ok (.invokestatic 55, 3) := dk_184 0 55 (dk_at dksX1_checkStation_0 7 rfl rfl)
theorem dX1_checkStation_10 : decode cX1_checkStation 10 = .ok (.return_, 1) := dk_177 (dk_at dksX1_checkStation_0 10 rfl rfl)
abbrev cX1_in : ByteArray := prog_1_method_1_code
def yX1_in : MethodName := ⟨RX1, "in", "(III)Z"⟩
def dkwX1_in_0 : List UInt8 := [26, 27, 161, 0, 12, 26, 28, 163, 0, 7, 4, 167, 0, 4, 3, 172]
abbrev dktX1_in_0 : List UInt8 := dkwX1_in_0 ++ []
theorem dksX1_in_0 : cX1_in.data.toList.drop 0 = dktX1_in_0 := by decide +kernel
theorem dX1_in_0 : decode cX1_in 0 = .ok (.iload_n 0, 1) := dk_26 (dk_at dksX1_in_0 0 rfl rfl)
theorem dX1_in_1 : decode cX1_in 1 = .ok (.iload_n 1, 1) := dk_27 (dk_at dksX1_in_0 1 rfl rfl)
theorem dX1_in_2 : decode cX1_in 2 = .ok (.if_icmp .lt 12, 3) := dk_161 0 12 (dk_at dksX1_in_0 2 rfl rfl)
theorem dX1_in_5 : decode cX1_in 5 = .ok (.iload_n 0, 1) := dk_26 (dk_at dksX1_in_0 5 rfl rfl)
theorem dX1_in_6 : decode cX1_in 6 = .ok (.iload_n 2, 1) := dk_28 (dk_at dksX1_in_0 6 rfl rfl)
theorem dX1_in_7 : decode cX1_in 7 = .ok (.if_icmp .gt 7, 3) := dk_163 0 7 (dk_at dksX1_in_0 7 rfl rfl)
theorem dX1_in_10 : decode cX1_in 10 = .ok (.iconst 1, 1) := dk_4 (dk_at dksX1_in_0 10 rfl rfl)
theorem dX1_in_11 : decode cX1_in 11 = .ok (.goto 4, 3) := dk_167 0 4 (dk_at dksX1_in_0 11 rfl rfl)
theorem dX1_in_14 : decode cX1_in 14 = .ok (.iconst 0, 1) := dk_3 (dk_at dksX1_in_0 14 rfl rfl)
theorem dX1_in_15 : decode cX1_in 15 = .ok (.ireturn, 1) := dk_172 (dk_at dksX1_in_0 15 rfl rfl)
abbrev cX1_checkIndex : ByteArray := prog_1_method_5_code
def yX1_checkIndex : MethodName := ⟨RX1, "checkIndex", "(Z)V"⟩
def dkwX1_checkIndex_0 : List UInt8 := [26, 154, 0, 11, 187, 0, 42, 89, 183, 0, 44, 191, 177]
abbrev dktX1_checkIndex_0 : List UInt8 := dkwX1_checkIndex_0 ++ []
theorem dksX1_checkIndex_0 : cX1_checkIndex.data.toList.drop 0 = dktX1_checkIndex_0 := by decide +kernel
theorem dX1_checkIndex_0 : decode cX1_checkIndex 0 = .ok (.iload_n 0, 1) := dk_26 (dk_at dksX1_checkIndex_0 0 rfl rfl)
theorem dX1_checkIndex_1 : decode cX1_checkIndex 1 = .ok (.ifCond .ne 11, 3) := dk_154 0 11 (dk_at dksX1_checkIndex_0 1 rfl rfl)
theorem dX1_checkIndex_4 : decode cX1_checkIndex 4 = .ok (.new 42, 3) := dk_187 0 42 (dk_at dksX1_checkIndex_0 4 rfl rfl)
theorem dX1_checkIndex_7 : decode cX1_checkIndex 7 = .ok (.dup, 1) := dk_89 (dk_at dksX1_checkIndex_0 7 rfl rfl)
theorem dX1_checkIndex_8 : decode cX1_checkIndex 8 = .ok (.invokespecial 44, 3) := dk_183 0 44 (dk_at dksX1_checkIndex_0 8 rfl rfl)
theorem dX1_checkIndex_11 : decode cX1_checkIndex 11 = .ok (.athrow, 1) := dk_191 (dk_at dksX1_checkIndex_0 11 rfl rfl)
theorem dX1_checkIndex_12 : decode cX1_checkIndex 12 = .ok (.return_, 1) := dk_177 (dk_at dksX1_checkIndex_0 12 rfl rfl)
abbrev cX1_checkLine : ByteArray := prog_1_method_9_code
def yX1_checkLine : MethodName := ⟨RX1, "checkLine", "(I)V"⟩
def dkwX1_checkLine_0 : List UInt8 := [26, 3, 8, 184, 0, 51, 184, 0, 55, 177]
abbrev dktX1_checkLine_0 : List UInt8 := dkwX1_checkLine_0 ++ []
theorem dksX1_checkLine_0 : cX1_checkLine.data.toList.drop 0 = dktX1_checkLine_0 := by decide +kernel
theorem dX1_checkLine_0 : decode cX1_checkLine 0 = .ok (.iload_n 0, 1) := dk_26 (dk_at dksX1_checkLine_0 0 rfl rfl)
theorem dX1_checkLine_1 : decode cX1_checkLine 1 = .ok (.iconst 0, 1) := dk_3 (dk_at dksX1_checkLine_0 1 rfl rfl)
theorem dX1_checkLine_2 : decode cX1_checkLine 2 = .ok (.iconst 5, 1) := dk_8 (dk_at dksX1_checkLine_0 2 rfl rfl)
theorem dX1_checkLine_3 : decode cX1_checkLine 3 = .ok (.invokestatic 51, 3) := dk_184 0 51 (dk_at dksX1_checkLine_0 3 rfl rfl)
theorem dX1_checkLine_6 : decode cX1_checkLine 6 = .ok (.invokestatic 55, 3) := dk_184 0 55 (dk_at dksX1_checkLine_0 6 rfl rfl)
theorem dX1_checkLine_9 : decode cX1_checkLine 9 = .ok (.return_, 1) := dk_177 (dk_at dksX1_checkLine_0 9 rfl rfl)
abbrev cX1_checkArgument : ByteArray := prog_1_method_6_code
def yX1_checkArgument : MethodName := ⟨RX1, "checkArgument", "(Z)V"⟩
def dkwX1_checkArgument_0 : List UInt8 := [26, 154, 0, 11, 187, 0, 45, 89, 183, 0, 47, 191, 177]
abbrev dktX1_checkArgument_0 : List UInt8 := dkwX1_checkArgument_0 ++ []
theorem dksX1_checkArgument_0 : cX1_checkArgument.data.toList.drop 0 = dktX1_checkArgument_0 := by decide +kernel
theorem dX1_checkArgument_0 : decode cX1_checkArgument 0 = .ok (.iload_n 0, 1) := dk_26 (dk_at dksX1_checkArgument_0 0 rfl rfl)
theorem dX1_checkArgument_1 : decode cX1_checkArgument 1 = .ok (.ifCond .ne 11, 3) := dk_154 0 11 (dk_at dksX1_checkArgument_0 1 rfl rfl)
theorem dX1_checkArgument_4 : decode cX1_checkArgument 4 = .ok (.new 45, 3) := dk_187 0 45 (dk_at dksX1_checkArgument_0 4 rfl rfl)
theorem dX1_checkArgument_7 : decode cX1_checkArgument 7 = .ok (.dup, 1) := dk_89 (dk_at dksX1_checkArgument_0 7 rfl rfl)
theorem dX1_checkArgument_8 : decode cX1_checkArgument 8 = .ok (.invokespecial 47, 3) := dk_183 0 47 (dk_at dksX1_checkArgument_0 8 rfl rfl)
theorem dX1_checkArgument_11 : decode cX1_checkArgument 11 = .ok (.athrow, 1) := dk_191 (dk_at dksX1_checkArgument_0 11 rfl rfl)
theorem dX1_checkArgument_12 : decode cX1_checkArgument 12 = .ok (.return_, 1) := dk_177 (dk_at dksX1_checkArgument_0 12 rfl rfl)
abbrev cX1_checkState : ByteArray := prog_1_method_7_code
def yX1_checkState : MethodName := ⟨RX1, "checkState", "(Z)V"⟩
def dkwX1_checkState_0 : List UInt8 := [26, 154, 0, 11, 187, 0, 48, 89, 183, 0, 50, 191, 177]
abbrev dktX1_checkState_0 : List UInt8 := dkwX1_checkState_0 ++ []
theorem dksX1_checkState_0 : cX1_checkState.data.toList.drop 0 = dktX1_checkState_0 := by decide +kernel
theorem dX1_checkState_0 : decode cX1_checkState 0 = .ok (.iload_n 0, 1) := dk_26 (dk_at dksX1_checkState_0 0 rfl rfl)
theorem dX1_checkState_1 : decode cX1_checkState 1 = .ok (.ifCond .ne 11, 3) := dk_154 0 11 (dk_at dksX1_checkState_0 1 rfl rfl)
theorem dX1_checkState_4 : decode cX1_checkState 4 = .ok (.new 48, 3) := dk_187 0 48 (dk_at dksX1_checkState_0 4 rfl rfl)
theorem dX1_checkState_7 : decode cX1_checkState 7 = .ok (.dup, 1) := dk_89 (dk_at dksX1_checkState_0 7 rfl rfl)
theorem dX1_checkState_8 : decode cX1_checkState 8 = .ok (.invokespecial 50, 3) := dk_183 0 50 (dk_at dksX1_checkState_0 8 rfl rfl)
theorem dX1_checkState_11 : decode cX1_checkState 11 = .ok (.athrow, 1) := dk_191 (dk_at dksX1_checkState_0 11 rfl rfl)
theorem dX1_checkState_12 : decode cX1_checkState 12 = .ok (.return_, 1) := dk_177 (dk_at dksX1_checkState_0 12 rfl rfl)
abbrev cX1_half : ByteArray := prog_1_method_11_code
def yX1_half : MethodName := ⟨RX1, "half", "(II)I"⟩
def dkwX1_half_0 : List UInt8 := [27, 184, 0, 59, 28, 184, 0, 63, 42, 180, 0, 20, 180, 0, 76, 28, 50, 27, 46, 172]
abbrev dktX1_half_0 : List UInt8 := dkwX1_half_0 ++ []
theorem dksX1_half_0 : cX1_half.data.toList.drop 0 = dktX1_half_0 := by decide +kernel
theorem dX1_half_0 : decode cX1_half 0 = .ok (.iload_n 1, 1) := dk_27 (dk_at dksX1_half_0 0 rfl rfl)
theorem dX1_half_1 : decode cX1_half 1 = .ok (.invokestatic 59, 3) := dk_184 0 59 (dk_at dksX1_half_0 1 rfl rfl)
theorem dX1_half_4 : decode cX1_half 4 = .ok (.iload_n 2, 1) := dk_28 (dk_at dksX1_half_0 4 rfl rfl)
theorem dX1_half_5 : decode cX1_half 5 = .ok (.invokestatic 63, 3) := dk_184 0 63 (dk_at dksX1_half_0 5 rfl rfl)
theorem dX1_half_8 : decode cX1_half 8 = .ok (.aload_n 0, 1) := dk_42 (dk_at dksX1_half_0 8 rfl rfl)
theorem dX1_half_9 : decode cX1_half 9 = .ok (.getfield 20, 3) := dk_180 0 20 (dk_at dksX1_half_0 9 rfl rfl)
theorem dX1_half_12 : decode cX1_half 12 = .ok (.getfield 76, 3) := dk_180 0 76 (dk_at dksX1_half_0 12 rfl rfl)
theorem dX1_half_15 : decode cX1_half 15 = .ok (.iload_n 2, 1) := dk_28 (dk_at dksX1_half_0 15 rfl rfl)
theorem dX1_half_16 : decode cX1_half 16 = .ok (.aaload, 1) := dk_50 (dk_at dksX1_half_0 16 rfl rfl)
theorem dX1_half_17 : decode cX1_half 17 = .ok (.iload_n 1, 1) := dk_27 (dk_at dksX1_half_0 17 rfl rfl)
theorem dX1_half_18 : decode cX1_half 18 = .ok (.iaload, 1) := dk_46 (dk_at dksX1_half_0 18 rfl rfl)
theorem dX1_half_19 : decode cX1_half 19 = .ok (.ireturn, 1) := dk_172 (dk_at dksX1_half_0 19 rfl rfl)
abbrev cX1_bend : ByteArray := prog_1_method_12_code
def yX1_bend : MethodName := ⟨RX1, "bend", "(I)I"⟩
def dkwX1_bend_0 : List UInt8 := [27, 184, 0, 63, 42, 180, 0, 20, 180, 0, 76, 27, 50, 184, 0, 80, 172]
abbrev dktX1_bend_0 : List UInt8 := dkwX1_bend_0 ++ []
theorem dksX1_bend_0 : cX1_bend.data.toList.drop 0 = dktX1_bend_0 := by decide +kernel
theorem dX1_bend_0 : decode cX1_bend 0 = .ok (.iload_n 1, 1) := dk_27 (dk_at dksX1_bend_0 0 rfl rfl)
theorem dX1_bend_1 : decode cX1_bend 1 = .ok (.invokestatic 63, 3) := dk_184 0 63 (dk_at dksX1_bend_0 1 rfl rfl)
theorem dX1_bend_4 : decode cX1_bend 4 = .ok (.aload_n 0, 1) := dk_42 (dk_at dksX1_bend_0 4 rfl rfl)
theorem dX1_bend_5 : decode cX1_bend 5 = .ok (.getfield 20, 3) := dk_180 0 20 (dk_at dksX1_bend_0 5 rfl rfl)
theorem dX1_bend_8 : decode cX1_bend 8 = .ok (.getfield 76, 3) := dk_180 0 76 (dk_at dksX1_bend_0 8 rfl rfl)
theorem dX1_bend_11 : decode cX1_bend 11 = .ok (.iload_n 1, 1) := dk_27 (dk_at dksX1_bend_0 11 rfl rfl)
theorem dX1_bend_12 : decode cX1_bend 12 = .ok (.aaload, 1) := dk_50 (dk_at dksX1_bend_0 12 rfl rfl)
theorem dX1_bend_13 : decode cX1_bend 13 = .ok (.invokestatic 80, 3) := dk_184 0 80 (dk_at dksX1_bend_0 13 rfl rfl)
theorem dX1_bend_16 : decode cX1_bend 16 = .ok (.ireturn, 1) := dk_172 (dk_at dksX1_bend_0 16 rfl rfl)
abbrev cX1_bendOf : ByteArray := prog_1_method_3_code
def yX1_bendOf : MethodName := ⟨RX1, "bendOf", "([I)I"⟩
def dkwX1_bendOf_1 : List UInt8 := [42, 28, 46, 104, 100, 62, 27, 29, 29, 104, 96, 60, 132, 2, 1, 167, 255, 221, 27, 172]
abbrev dktX1_bendOf_1 : List UInt8 := dkwX1_bendOf_1 ++ []
def dkwX1_bendOf_0 : List UInt8 := [3, 60, 4, 61, 28, 4, 96, 16, 9, 162, 0, 33, 42, 28, 4, 100, 46, 42, 28, 4, 96, 46, 96, 5]
abbrev dktX1_bendOf_0 : List UInt8 := dkwX1_bendOf_0 ++ dktX1_bendOf_1
theorem dksX1_bendOf_0 : cX1_bendOf.data.toList.drop 0 = dktX1_bendOf_0 := by decide +kernel
theorem dksX1_bendOf_1 : cX1_bendOf.data.toList.drop 24 = dktX1_bendOf_1 := dk_seg dksX1_bendOf_0 24 rfl rfl
theorem dX1_bendOf_0 : decode cX1_bendOf 0 = .ok (.iconst 0, 1) := dk_3 (dk_at dksX1_bendOf_0 0 rfl rfl)
theorem dX1_bendOf_1 : decode cX1_bendOf 1 = .ok (.istore_n 1, 1) := dk_60 (dk_at dksX1_bendOf_0 1 rfl rfl)
theorem dX1_bendOf_2 : decode cX1_bendOf 2 = .ok (.iconst 1, 1) := dk_4 (dk_at dksX1_bendOf_0 2 rfl rfl)
theorem dX1_bendOf_3 : decode cX1_bendOf 3 = .ok (.istore_n 2, 1) := dk_61 (dk_at dksX1_bendOf_0 3 rfl rfl)
theorem dX1_bendOf_4 : decode cX1_bendOf 4 = .ok (.iload_n 2, 1) := dk_28 (dk_at dksX1_bendOf_0 4 rfl rfl)
theorem dX1_bendOf_5 : decode cX1_bendOf 5 = .ok (.iconst 1, 1) := dk_4 (dk_at dksX1_bendOf_0 5 rfl rfl)
theorem dX1_bendOf_6 : decode cX1_bendOf 6 = .ok (.iadd, 1) := dk_96 (dk_at dksX1_bendOf_0 6 rfl rfl)
theorem dX1_bendOf_7 : decode cX1_bendOf 7 = .ok (.bipush 9, 2) := dk_16 9 (dk_at dksX1_bendOf_0 7 rfl rfl)
theorem dX1_bendOf_9 : decode cX1_bendOf 9 = .ok (.if_icmp .ge 33, 3) := dk_162 0 33 (dk_at dksX1_bendOf_0 9 rfl rfl)
theorem dX1_bendOf_12 : decode cX1_bendOf 12 = .ok (.aload_n 0, 1) := dk_42 (dk_at dksX1_bendOf_0 12 rfl rfl)
theorem dX1_bendOf_13 : decode cX1_bendOf 13 = .ok (.iload_n 2, 1) := dk_28 (dk_at dksX1_bendOf_0 13 rfl rfl)
theorem dX1_bendOf_14 : decode cX1_bendOf 14 = .ok (.iconst 1, 1) := dk_4 (dk_at dksX1_bendOf_0 14 rfl rfl)
theorem dX1_bendOf_15 : decode cX1_bendOf 15 = .ok (.isub, 1) := dk_100 (dk_at dksX1_bendOf_0 15 rfl rfl)
theorem dX1_bendOf_16 : decode cX1_bendOf 16 = .ok (.iaload, 1) := dk_46 (dk_at dksX1_bendOf_0 16 rfl rfl)
theorem dX1_bendOf_17 : decode cX1_bendOf 17 = .ok (.aload_n 0, 1) := dk_42 (dk_at dksX1_bendOf_0 17 rfl rfl)
theorem dX1_bendOf_18 : decode cX1_bendOf 18 = .ok (.iload_n 2, 1) := dk_28 (dk_at dksX1_bendOf_0 18 rfl rfl)
theorem dX1_bendOf_19 : decode cX1_bendOf 19 = .ok (.iconst 1, 1) := dk_4 (dk_at dksX1_bendOf_0 19 rfl rfl)
theorem dX1_bendOf_20 : decode cX1_bendOf 20 = .ok (.iadd, 1) := dk_96 (dk_at dksX1_bendOf_0 20 rfl rfl)
theorem dX1_bendOf_21 : decode cX1_bendOf 21 = .ok (.iaload, 1) := dk_46 (dk_at dksX1_bendOf_0 21 rfl rfl)
theorem dX1_bendOf_22 : decode cX1_bendOf 22 = .ok (.iadd, 1) := dk_96 (dk_at dksX1_bendOf_0 22 rfl rfl)
theorem dX1_bendOf_23 : decode cX1_bendOf 23 = .ok (.iconst 2, 1) := dk_5 (dk_at dksX1_bendOf_0 23 rfl rfl)
theorem dX1_bendOf_24 : decode cX1_bendOf 24 = .ok (.aload_n 0, 1) := dk_42 (dk_at dksX1_bendOf_1 0 rfl rfl)
theorem dX1_bendOf_25 : decode cX1_bendOf 25 = .ok (.iload_n 2, 1) := dk_28 (dk_at dksX1_bendOf_1 1 rfl rfl)
theorem dX1_bendOf_26 : decode cX1_bendOf 26 = .ok (.iaload, 1) := dk_46 (dk_at dksX1_bendOf_1 2 rfl rfl)
theorem dX1_bendOf_27 : decode cX1_bendOf 27 = .ok (.imul, 1) := dk_104 (dk_at dksX1_bendOf_1 3 rfl rfl)
theorem dX1_bendOf_28 : decode cX1_bendOf 28 = .ok (.isub, 1) := dk_100 (dk_at dksX1_bendOf_1 4 rfl rfl)
theorem dX1_bendOf_29 : decode cX1_bendOf 29 = .ok (.istore_n 3, 1) := dk_62 (dk_at dksX1_bendOf_1 5 rfl rfl)
theorem dX1_bendOf_30 : decode cX1_bendOf 30 = .ok (.iload_n 1, 1) := dk_27 (dk_at dksX1_bendOf_1 6 rfl rfl)
theorem dX1_bendOf_31 : decode cX1_bendOf 31 = .ok (.iload_n 3, 1) := dk_29 (dk_at dksX1_bendOf_1 7 rfl rfl)
theorem dX1_bendOf_32 : decode cX1_bendOf 32 = .ok (.iload_n 3, 1) := dk_29 (dk_at dksX1_bendOf_1 8 rfl rfl)
theorem dX1_bendOf_33 : decode cX1_bendOf 33 = .ok (.imul, 1) := dk_104 (dk_at dksX1_bendOf_1 9 rfl rfl)
theorem dX1_bendOf_34 : decode cX1_bendOf 34 = .ok (.iadd, 1) := dk_96 (dk_at dksX1_bendOf_1 10 rfl rfl)
theorem dX1_bendOf_35 : decode cX1_bendOf 35 = .ok (.istore_n 1, 1) := dk_60 (dk_at dksX1_bendOf_1 11 rfl rfl)
theorem dX1_bendOf_36 : decode cX1_bendOf 36 = .ok (.iinc 2 1, 3) := dk_132 2 1 (dk_at dksX1_bendOf_1 12 rfl rfl)
theorem dX1_bendOf_39 : decode cX1_bendOf 39 = .ok (.goto (-35), 3) := dk_167 255 221 (dk_at dksX1_bendOf_1 15 rfl rfl)
theorem dX1_bendOf_42 : decode cX1_bendOf 42 = .ok (.iload_n 1, 1) := dk_27 (dk_at dksX1_bendOf_1 18 rfl rfl)
theorem dX1_bendOf_43 : decode cX1_bendOf 43 = .ok (.ireturn, 1) := dk_172 (dk_at dksX1_bendOf_1 19 rfl rfl)
abbrev cX1_fair : ByteArray := prog_1_method_13_code
def yX1_fair : MethodName := ⟨RX1, "fair", "(II)I"⟩
def dkwX1_fair_3 : List UInt8 := [184, 0, 80, 100, 172]
abbrev dktX1_fair_3 : List UInt8 := dkwX1_fair_3 ++ []
def dkwX1_fair_2 : List UInt8 := [45, 28, 183, 0, 86, 182, 0, 89, 58, 5, 25, 5, 3, 45, 3, 16, 9, 184, 0, 93, 21, 4, 45]
abbrev dktX1_fair_2 : List UInt8 := dkwX1_fair_2 ++ dktX1_fair_3
def dkwX1_fair_1 : List UInt8 := [3, 184, 0, 73, 42, 180, 0, 20, 180, 0, 76, 27, 50, 78, 45, 184, 0, 80, 54, 4, 187, 0, 84, 89]
abbrev dktX1_fair_1 : List UInt8 := dkwX1_fair_1 ++ dktX1_fair_2
def dkwX1_fair_0 : List UInt8 := [27, 184, 0, 63, 28, 3, 5, 184, 0, 51, 184, 0, 66, 42, 180, 0, 69, 154, 0, 7, 4, 167, 0, 4]
abbrev dktX1_fair_0 : List UInt8 := dkwX1_fair_0 ++ dktX1_fair_1
theorem dksX1_fair_0 : cX1_fair.data.toList.drop 0 = dktX1_fair_0 := by decide +kernel
theorem dksX1_fair_1 : cX1_fair.data.toList.drop 24 = dktX1_fair_1 := dk_seg dksX1_fair_0 24 rfl rfl
theorem dksX1_fair_2 : cX1_fair.data.toList.drop 48 = dktX1_fair_2 := dk_seg dksX1_fair_1 24 rfl rfl
theorem dksX1_fair_3 : cX1_fair.data.toList.drop 71 = dktX1_fair_3 := dk_seg dksX1_fair_2 23 rfl rfl
theorem dX1_fair_0 : decode cX1_fair 0 = .ok (.iload_n 1, 1) := dk_27 (dk_at dksX1_fair_0 0 rfl rfl)
theorem dX1_fair_1 : decode cX1_fair 1 = .ok (.invokestatic 63, 3) := dk_184 0 63 (dk_at dksX1_fair_0 1 rfl rfl)
theorem dX1_fair_4 : decode cX1_fair 4 = .ok (.iload_n 2, 1) := dk_28 (dk_at dksX1_fair_0 4 rfl rfl)
theorem dX1_fair_5 : decode cX1_fair 5 = .ok (.iconst 0, 1) := dk_3 (dk_at dksX1_fair_0 5 rfl rfl)
theorem dX1_fair_6 : decode cX1_fair 6 = .ok (.iconst 2, 1) := dk_5 (dk_at dksX1_fair_0 6 rfl rfl)
theorem dX1_fair_7 : decode cX1_fair 7 = .ok (.invokestatic 51, 3) := dk_184 0 51 (dk_at dksX1_fair_0 7 rfl rfl)
theorem dX1_fair_10 : decode cX1_fair 10 = .ok (.invokestatic 66, 3) := dk_184 0 66 (dk_at dksX1_fair_0 10 rfl rfl)
theorem dX1_fair_13 : decode cX1_fair 13 = .ok (.aload_n 0, 1) := dk_42 (dk_at dksX1_fair_0 13 rfl rfl)
theorem dX1_fair_14 : decode cX1_fair 14 = .ok (.getfield 69, 3) := dk_180 0 69 (dk_at dksX1_fair_0 14 rfl rfl)
theorem dX1_fair_17 : decode cX1_fair 17 = .ok (.ifCond .ne 7, 3) := dk_154 0 7 (dk_at dksX1_fair_0 17 rfl rfl)
theorem dX1_fair_20 : decode cX1_fair 20 = .ok (.iconst 1, 1) := dk_4 (dk_at dksX1_fair_0 20 rfl rfl)
theorem dX1_fair_21 : decode cX1_fair 21 = .ok (.goto 4, 3) := dk_167 0 4 (dk_at dksX1_fair_0 21 rfl rfl)
theorem dX1_fair_24 : decode cX1_fair 24 = .ok (.iconst 0, 1) := dk_3 (dk_at dksX1_fair_1 0 rfl rfl)
theorem dX1_fair_25 : decode cX1_fair 25 = .ok (.invokestatic 73, 3) := dk_184 0 73 (dk_at dksX1_fair_1 1 rfl rfl)
theorem dX1_fair_28 : decode cX1_fair 28 = .ok (.aload_n 0, 1) := dk_42 (dk_at dksX1_fair_1 4 rfl rfl)
theorem dX1_fair_29 : decode cX1_fair 29 = .ok (.getfield 20, 3) := dk_180 0 20 (dk_at dksX1_fair_1 5 rfl rfl)
theorem dX1_fair_32 : decode cX1_fair 32 = .ok (.getfield 76, 3) := dk_180 0 76 (dk_at dksX1_fair_1 8 rfl rfl)
theorem dX1_fair_35 : decode cX1_fair 35 = .ok (.iload_n 1, 1) := dk_27 (dk_at dksX1_fair_1 11 rfl rfl)
theorem dX1_fair_36 : decode cX1_fair 36 = .ok (.aaload, 1) := dk_50 (dk_at dksX1_fair_1 12 rfl rfl)
theorem dX1_fair_37 : decode cX1_fair 37 = .ok (.astore_n 3, 1) := dk_78 (dk_at dksX1_fair_1 13 rfl rfl)
theorem dX1_fair_38 : decode cX1_fair 38 = .ok (.aload_n 3, 1) := dk_45 (dk_at dksX1_fair_1 14 rfl rfl)
theorem dX1_fair_39 : decode cX1_fair 39 = .ok (.invokestatic 80, 3) := dk_184 0 80 (dk_at dksX1_fair_1 15 rfl rfl)
theorem dX1_fair_42 : decode cX1_fair 42 = .ok (.istore 4, 2) := dk_54 4 (dk_at dksX1_fair_1 18 rfl rfl)
theorem dX1_fair_44 : decode cX1_fair 44 = .ok (.new 84, 3) := dk_187 0 84 (dk_at dksX1_fair_1 20 rfl rfl)
theorem dX1_fair_47 : decode cX1_fair 47 = .ok (.dup, 1) := dk_89 (dk_at dksX1_fair_1 23 rfl rfl)
theorem dX1_fair_48 : decode cX1_fair 48 = .ok (.aload_n 3, 1) := dk_45 (dk_at dksX1_fair_2 0 rfl rfl)
theorem dX1_fair_49 : decode cX1_fair 49 = .ok (.iload_n 2, 1) := dk_28 (dk_at dksX1_fair_2 1 rfl rfl)
theorem dX1_fair_50 : decode cX1_fair 50 = .ok (.invokespecial 86, 3) := dk_183 0 86 (dk_at dksX1_fair_2 2 rfl rfl)
theorem dX1_fair_53 : decode cX1_fair 53 = .ok (.invokevirtual 89, 3) := dk_182 0 89 (dk_at dksX1_fair_2 5 rfl rfl)
theorem dX1_fair_56 : decode cX1_fair 56 = .ok (.astore 5, 2) := dk_58 5 (dk_at dksX1_fair_2 8 rfl rfl)
theorem dX1_fair_58 : decode cX1_fair 58 = .ok (.aload 5, 2) := dk_25 5 (dk_at dksX1_fair_2 10 rfl rfl)
theorem dX1_fair_60 : decode cX1_fair 60 = .ok (.iconst 0, 1) := dk_3 (dk_at dksX1_fair_2 12 rfl rfl)
theorem dX1_fair_61 : decode cX1_fair 61 = .ok (.aload_n 3, 1) := dk_45 (dk_at dksX1_fair_2 13 rfl rfl)
theorem dX1_fair_62 : decode cX1_fair 62 = .ok (.iconst 0, 1) := dk_3 (dk_at dksX1_fair_2 14 rfl rfl)
theorem dX1_fair_63 : decode cX1_fair 63 = .ok (.bipush 9, 2) := dk_16 9 (dk_at dksX1_fair_2 15 rfl rfl)
theorem dX1_fair_65 : decode cX1_fair 65 = .ok (.invokestatic 93, 3) := dk_184 0 93 (dk_at dksX1_fair_2 17 rfl rfl)
theorem dX1_fair_68 : decode cX1_fair 68 = .ok (.iload 4, 2) := dk_21 4 (dk_at dksX1_fair_2 20 rfl rfl)
theorem dX1_fair_70 : decode cX1_fair 70 = .ok (.aload_n 3, 1) := dk_45 (dk_at dksX1_fair_2 22 rfl rfl)
theorem dX1_fair_71 : decode cX1_fair 71 = .ok (.invokestatic 80, 3) := dk_184 0 80 (dk_at dksX1_fair_3 0 rfl rfl)
theorem dX1_fair_74 : decode cX1_fair 74 = .ok (.isub, 1) := dk_100 (dk_at dksX1_fair_3 3 rfl rfl)
theorem dX1_fair_75 : decode cX1_fair 75 = .ok (.ireturn, 1) := dk_172 (dk_at dksX1_fair_3 4 rfl rfl)
abbrev cX1_area : ByteArray := prog_1_method_14_code
def yX1_area : MethodName := ⟨RX1, "area", "(II)I"⟩
def dkwX1_area_0 : List UInt8 := [27, 184, 0, 59, 28, 184, 0, 63, 42, 180, 0, 20, 27, 28, 182, 0, 99, 172]
abbrev dktX1_area_0 : List UInt8 := dkwX1_area_0 ++ []
theorem dksX1_area_0 : cX1_area.data.toList.drop 0 = dktX1_area_0 := by decide +kernel
theorem dX1_area_0 : decode cX1_area 0 = .ok (.iload_n 1, 1) := dk_27 (dk_at dksX1_area_0 0 rfl rfl)
theorem dX1_area_1 : decode cX1_area 1 = .ok (.invokestatic 59, 3) := dk_184 0 59 (dk_at dksX1_area_0 1 rfl rfl)
theorem dX1_area_4 : decode cX1_area 4 = .ok (.iload_n 2, 1) := dk_28 (dk_at dksX1_area_0 4 rfl rfl)
theorem dX1_area_5 : decode cX1_area 5 = .ok (.invokestatic 63, 3) := dk_184 0 63 (dk_at dksX1_area_0 5 rfl rfl)
theorem dX1_area_8 : decode cX1_area 8 = .ok (.aload_n 0, 1) := dk_42 (dk_at dksX1_area_0 8 rfl rfl)
theorem dX1_area_9 : decode cX1_area 9 = .ok (.getfield 20, 3) := dk_180 0 20 (dk_at dksX1_area_0 9 rfl rfl)
theorem dX1_area_12 : decode cX1_area 12 = .ok (.iload_n 1, 1) := dk_27 (dk_at dksX1_area_0 12 rfl rfl)
theorem dX1_area_13 : decode cX1_area 13 = .ok (.iload_n 2, 1) := dk_28 (dk_at dksX1_area_0 13 rfl rfl)
theorem dX1_area_14 : decode cX1_area 14 = .ok (.invokevirtual 99, 3) := dk_182 0 99 (dk_at dksX1_area_0 14 rfl rfl)
theorem dX1_area_17 : decode cX1_area 17 = .ok (.ireturn, 1) := dk_172 (dk_at dksX1_area_0 17 rfl rfl)
abbrev cX1_volume : ByteArray := prog_1_method_15_code
def yX1_volume : MethodName := ⟨RX1, "volume", "(I)I"⟩
def dkwX1_volume_0 : List UInt8 := [27, 184, 0, 63, 42, 180, 0, 20, 27, 182, 0, 103, 172]
abbrev dktX1_volume_0 : List UInt8 := dkwX1_volume_0 ++ []
theorem dksX1_volume_0 : cX1_volume.data.toList.drop 0 = dktX1_volume_0 := by decide +kernel
theorem dX1_volume_0 : decode cX1_volume 0 = .ok (.iload_n 1, 1) := dk_27 (dk_at dksX1_volume_0 0 rfl rfl)
theorem dX1_volume_1 : decode cX1_volume 1 = .ok (.invokestatic 63, 3) := dk_184 0 63 (dk_at dksX1_volume_0 1 rfl rfl)
theorem dX1_volume_4 : decode cX1_volume 4 = .ok (.aload_n 0, 1) := dk_42 (dk_at dksX1_volume_0 4 rfl rfl)
theorem dX1_volume_5 : decode cX1_volume 5 = .ok (.getfield 20, 3) := dk_180 0 20 (dk_at dksX1_volume_0 5 rfl rfl)
theorem dX1_volume_8 : decode cX1_volume 8 = .ok (.iload_n 1, 1) := dk_27 (dk_at dksX1_volume_0 8 rfl rfl)
theorem dX1_volume_9 : decode cX1_volume 9 = .ok (.invokevirtual 103, 3) := dk_182 0 103 (dk_at dksX1_volume_0 9 rfl rfl)
theorem dX1_volume_12 : decode cX1_volume 12 = .ok (.ireturn, 1) := dk_172 (dk_at dksX1_volume_0 12 rfl rfl)
abbrev cX1_volumeAnew : ByteArray := prog_1_method_16_code
def yX1_volumeAnew : MethodName := ⟨RX1, "volumeAnew", "(I)I"⟩
def dkwX1_volumeAnew_0 : List UInt8 := [27, 184, 0, 63, 42, 180, 0, 20, 27, 182, 0, 106, 172]
abbrev dktX1_volumeAnew_0 : List UInt8 := dkwX1_volumeAnew_0 ++ []
theorem dksX1_volumeAnew_0 : cX1_volumeAnew.data.toList.drop 0 = dktX1_volumeAnew_0 := by decide +kernel
theorem dX1_volumeAnew_0 : decode cX1_volumeAnew 0 = .ok (.iload_n 1, 1) := dk_27 (dk_at dksX1_volumeAnew_0 0 rfl rfl)
theorem dX1_volumeAnew_1 : decode cX1_volumeAnew 1 = .ok (.invokestatic 63, 3) := dk_184 0 63 (dk_at dksX1_volumeAnew_0 1 rfl rfl)
theorem dX1_volumeAnew_4 : decode cX1_volumeAnew 4 = .ok (.aload_n 0, 1) := dk_42 (dk_at dksX1_volumeAnew_0 4 rfl rfl)
theorem dX1_volumeAnew_5 : decode cX1_volumeAnew 5 = .ok (.getfield 20, 3) := dk_180 0 20 (dk_at dksX1_volumeAnew_0 5 rfl rfl)
theorem dX1_volumeAnew_8 : decode cX1_volumeAnew 8 = .ok (.iload_n 1, 1) := dk_27 (dk_at dksX1_volumeAnew_0 8 rfl rfl)
theorem dX1_volumeAnew_9 : decode cX1_volumeAnew 9 = .ok (.invokevirtual 106, 3) := dk_182 0 106 (dk_at dksX1_volumeAnew_0 9 rfl rfl)
theorem dX1_volumeAnew_12 : decode cX1_volumeAnew 12 = .ok (.ireturn, 1) := dk_172 (dk_at dksX1_volumeAnew_0 12 rfl rfl)
abbrev cX1_weigh : ByteArray := prog_1_method_17_code
def yX1_weigh : MethodName := ⟨RX1, "weigh", "(II)I"⟩
def dkwX1_weigh_3 : List UInt8 := [181, 0, 109, 42, 180, 0, 27, 180, 0, 109, 4, 100, 172]
abbrev dktX1_weigh_3 : List UInt8 := dkwX1_weigh_3 ++ []
def dkwX1_weigh_2 : List UInt8 := [180, 0, 109, 187, 0, 116, 89, 27, 28, 183, 0, 118, 83, 42, 180, 0, 27, 89, 180, 0, 109, 4, 96]
abbrev dktX1_weigh_2 : List UInt8 := dkwX1_weigh_2 ++ dktX1_weigh_3
def dkwX1_weigh_1 : List UInt8 := [162, 0, 7, 4, 167, 0, 4, 3, 184, 0, 73, 42, 180, 0, 27, 180, 0, 112, 42, 180, 0, 27]
abbrev dktX1_weigh_1 : List UInt8 := dkwX1_weigh_1 ++ dktX1_weigh_2
def dkwX1_weigh_0 : List UInt8 := [27, 184, 0, 59, 28, 3, 17, 3, 231, 184, 0, 51, 184, 0, 66, 42, 180, 0, 27, 180, 0, 109, 16, 16]
abbrev dktX1_weigh_0 : List UInt8 := dkwX1_weigh_0 ++ dktX1_weigh_1
theorem dksX1_weigh_0 : cX1_weigh.data.toList.drop 0 = dktX1_weigh_0 := by decide +kernel
theorem dksX1_weigh_1 : cX1_weigh.data.toList.drop 24 = dktX1_weigh_1 := dk_seg dksX1_weigh_0 24 rfl rfl
theorem dksX1_weigh_2 : cX1_weigh.data.toList.drop 46 = dktX1_weigh_2 := dk_seg dksX1_weigh_1 22 rfl rfl
theorem dksX1_weigh_3 : cX1_weigh.data.toList.drop 69 = dktX1_weigh_3 := dk_seg dksX1_weigh_2 23 rfl rfl
theorem dX1_weigh_0 : decode cX1_weigh 0 = .ok (.iload_n 1, 1) := dk_27 (dk_at dksX1_weigh_0 0 rfl rfl)
theorem dX1_weigh_1 : decode cX1_weigh 1 = .ok (.invokestatic 59, 3) := dk_184 0 59 (dk_at dksX1_weigh_0 1 rfl rfl)
theorem dX1_weigh_4 : decode cX1_weigh 4 = .ok (.iload_n 2, 1) := dk_28 (dk_at dksX1_weigh_0 4 rfl rfl)
theorem dX1_weigh_5 : decode cX1_weigh 5 = .ok (.iconst 0, 1) := dk_3 (dk_at dksX1_weigh_0 5 rfl rfl)
theorem dX1_weigh_6 : decode cX1_weigh 6 = .ok (.sipush 999, 3) := dk_17 3 231 (dk_at dksX1_weigh_0 6 rfl rfl)
theorem dX1_weigh_9 : decode cX1_weigh 9 = .ok (.invokestatic 51, 3) := dk_184 0 51 (dk_at dksX1_weigh_0 9 rfl rfl)
theorem dX1_weigh_12 : decode cX1_weigh 12 = .ok (.invokestatic 66, 3) := dk_184 0 66 (dk_at dksX1_weigh_0 12 rfl rfl)
theorem dX1_weigh_15 : decode cX1_weigh 15 = .ok (.aload_n 0, 1) := dk_42 (dk_at dksX1_weigh_0 15 rfl rfl)
theorem dX1_weigh_16 : decode cX1_weigh 16 = .ok (.getfield 27, 3) := dk_180 0 27 (dk_at dksX1_weigh_0 16 rfl rfl)
theorem dX1_weigh_19 : decode cX1_weigh 19 = .ok (.getfield 109, 3) := dk_180 0 109 (dk_at dksX1_weigh_0 19 rfl rfl)
theorem dX1_weigh_22 : decode cX1_weigh 22 = .ok (.bipush 16, 2) := dk_16 16 (dk_at dksX1_weigh_0 22 rfl rfl)
theorem dX1_weigh_24 : decode cX1_weigh 24 = .ok (.if_icmp .ge 7, 3) := dk_162 0 7 (dk_at dksX1_weigh_1 0 rfl rfl)
theorem dX1_weigh_27 : decode cX1_weigh 27 = .ok (.iconst 1, 1) := dk_4 (dk_at dksX1_weigh_1 3 rfl rfl)
theorem dX1_weigh_28 : decode cX1_weigh 28 = .ok (.goto 4, 3) := dk_167 0 4 (dk_at dksX1_weigh_1 4 rfl rfl)
theorem dX1_weigh_31 : decode cX1_weigh 31 = .ok (.iconst 0, 1) := dk_3 (dk_at dksX1_weigh_1 7 rfl rfl)
theorem dX1_weigh_32 : decode cX1_weigh 32 = .ok (.invokestatic 73, 3) := dk_184 0 73 (dk_at dksX1_weigh_1 8 rfl rfl)
theorem dX1_weigh_35 : decode cX1_weigh 35 = .ok (.aload_n 0, 1) := dk_42 (dk_at dksX1_weigh_1 11 rfl rfl)
theorem dX1_weigh_36 : decode cX1_weigh 36 = .ok (.getfield 27, 3) := dk_180 0 27 (dk_at dksX1_weigh_1 12 rfl rfl)
theorem dX1_weigh_39 : decode cX1_weigh 39 = .ok (.getfield 112, 3) := dk_180 0 112 (dk_at dksX1_weigh_1 15 rfl rfl)
theorem dX1_weigh_42 : decode cX1_weigh 42 = .ok (.aload_n 0, 1) := dk_42 (dk_at dksX1_weigh_1 18 rfl rfl)
theorem dX1_weigh_43 : decode cX1_weigh 43 = .ok (.getfield 27, 3) := dk_180 0 27 (dk_at dksX1_weigh_1 19 rfl rfl)
theorem dX1_weigh_46 : decode cX1_weigh 46 = .ok (.getfield 109, 3) := dk_180 0 109 (dk_at dksX1_weigh_2 0 rfl rfl)
theorem dX1_weigh_49 : decode cX1_weigh 49 = .ok (.new 116, 3) := dk_187 0 116 (dk_at dksX1_weigh_2 3 rfl rfl)
theorem dX1_weigh_52 : decode cX1_weigh 52 = .ok (.dup, 1) := dk_89 (dk_at dksX1_weigh_2 6 rfl rfl)
theorem dX1_weigh_53 : decode cX1_weigh 53 = .ok (.iload_n 1, 1) := dk_27 (dk_at dksX1_weigh_2 7 rfl rfl)
theorem dX1_weigh_54 : decode cX1_weigh 54 = .ok (.iload_n 2, 1) := dk_28 (dk_at dksX1_weigh_2 8 rfl rfl)
theorem dX1_weigh_55 : decode cX1_weigh 55 = .ok (.invokespecial 118, 3) := dk_183 0 118 (dk_at dksX1_weigh_2 9 rfl rfl)
theorem dX1_weigh_58 : decode cX1_weigh 58 = .ok (.aastore, 1) := dk_83 (dk_at dksX1_weigh_2 12 rfl rfl)
theorem dX1_weigh_59 : decode cX1_weigh 59 = .ok (.aload_n 0, 1) := dk_42 (dk_at dksX1_weigh_2 13 rfl rfl)
theorem dX1_weigh_60 : decode cX1_weigh 60 = .ok (.getfield 27, 3) := dk_180 0 27 (dk_at dksX1_weigh_2 14 rfl rfl)
theorem dX1_weigh_63 : decode cX1_weigh 63 = .ok (.dup, 1) := dk_89 (dk_at dksX1_weigh_2 17 rfl rfl)
theorem dX1_weigh_64 : decode cX1_weigh 64 = .ok (.getfield 109, 3) := dk_180 0 109 (dk_at dksX1_weigh_2 18 rfl rfl)
theorem dX1_weigh_67 : decode cX1_weigh 67 = .ok (.iconst 1, 1) := dk_4 (dk_at dksX1_weigh_2 21 rfl rfl)
theorem dX1_weigh_68 : decode cX1_weigh 68 = .ok (.iadd, 1) := dk_96 (dk_at dksX1_weigh_2 22 rfl rfl)
theorem dX1_weigh_69 : decode cX1_weigh 69 = .ok (.putfield 109, 3) := dk_181 0 109 (dk_at dksX1_weigh_3 0 rfl rfl)
theorem dX1_weigh_72 : decode cX1_weigh 72 = .ok (.aload_n 0, 1) := dk_42 (dk_at dksX1_weigh_3 3 rfl rfl)
theorem dX1_weigh_73 : decode cX1_weigh 73 = .ok (.getfield 27, 3) := dk_180 0 27 (dk_at dksX1_weigh_3 4 rfl rfl)
theorem dX1_weigh_76 : decode cX1_weigh 76 = .ok (.getfield 109, 3) := dk_180 0 109 (dk_at dksX1_weigh_3 7 rfl rfl)
theorem dX1_weigh_79 : decode cX1_weigh 79 = .ok (.iconst 1, 1) := dk_4 (dk_at dksX1_weigh_3 10 rfl rfl)
theorem dX1_weigh_80 : decode cX1_weigh 80 = .ok (.isub, 1) := dk_100 (dk_at dksX1_weigh_3 11 rfl rfl)
theorem dX1_weigh_81 : decode cX1_weigh 81 = .ok (.ireturn, 1) := dk_172 (dk_at dksX1_weigh_3 12 rfl rfl)
abbrev cX1_change : ByteArray := prog_1_method_18_code
def yX1_change : MethodName := ⟨RX1, "change", "(III)I"⟩
def dkwX1_change_3 : List UInt8 := [21, 5, 172]
abbrev dktX1_change_3 : List UInt8 := dkwX1_change_3 ++ []
def dkwX1_change_2 : List UInt8 := [180, 0, 121, 104, 25, 4, 180, 0, 124, 96, 54, 5, 25, 4, 29, 181, 0, 121, 25, 4, 28, 181, 0, 124]
abbrev dktX1_change_2 : List UInt8 := dkwX1_change_2 ++ dktX1_change_3
def dkwX1_change_1 : List UInt8 := [17, 3, 231, 184, 0, 51, 184, 0, 66, 42, 180, 0, 27, 180, 0, 112, 27, 50, 58, 4, 16, 10, 25, 4]
abbrev dktX1_change_1 : List UInt8 := dkwX1_change_1 ++ dktX1_change_2
def dkwX1_change_0 : List UInt8 := [27, 3, 42, 180, 0, 27, 180, 0, 109, 4, 100, 184, 0, 51, 184, 0, 55, 28, 184, 0, 59, 29, 3]
abbrev dktX1_change_0 : List UInt8 := dkwX1_change_0 ++ dktX1_change_1
theorem dksX1_change_0 : cX1_change.data.toList.drop 0 = dktX1_change_0 := by decide +kernel
theorem dksX1_change_1 : cX1_change.data.toList.drop 23 = dktX1_change_1 := dk_seg dksX1_change_0 23 rfl rfl
theorem dksX1_change_2 : cX1_change.data.toList.drop 47 = dktX1_change_2 := dk_seg dksX1_change_1 24 rfl rfl
theorem dksX1_change_3 : cX1_change.data.toList.drop 71 = dktX1_change_3 := dk_seg dksX1_change_2 24 rfl rfl
theorem dX1_change_0 : decode cX1_change 0 = .ok (.iload_n 1, 1) := dk_27 (dk_at dksX1_change_0 0 rfl rfl)
theorem dX1_change_1 : decode cX1_change 1 = .ok (.iconst 0, 1) := dk_3 (dk_at dksX1_change_0 1 rfl rfl)
theorem dX1_change_2 : decode cX1_change 2 = .ok (.aload_n 0, 1) := dk_42 (dk_at dksX1_change_0 2 rfl rfl)
theorem dX1_change_3 : decode cX1_change 3 = .ok (.getfield 27, 3) := dk_180 0 27 (dk_at dksX1_change_0 3 rfl rfl)
theorem dX1_change_6 : decode cX1_change 6 = .ok (.getfield 109, 3) := dk_180 0 109 (dk_at dksX1_change_0 6 rfl rfl)
theorem dX1_change_9 : decode cX1_change 9 = .ok (.iconst 1, 1) := dk_4 (dk_at dksX1_change_0 9 rfl rfl)
theorem dX1_change_10 : decode cX1_change 10 = .ok (.isub, 1) := dk_100 (dk_at dksX1_change_0 10 rfl rfl)
theorem dX1_change_11 : decode cX1_change 11 = .ok (.invokestatic 51, 3) := dk_184 0 51 (dk_at dksX1_change_0 11 rfl rfl)
theorem dX1_change_14 : decode cX1_change 14 = .ok (.invokestatic 55, 3) := dk_184 0 55 (dk_at dksX1_change_0 14 rfl rfl)
theorem dX1_change_17 : decode cX1_change 17 = .ok (.iload_n 2, 1) := dk_28 (dk_at dksX1_change_0 17 rfl rfl)
theorem dX1_change_18 : decode cX1_change 18 = .ok (.invokestatic 59, 3) := dk_184 0 59 (dk_at dksX1_change_0 18 rfl rfl)
theorem dX1_change_21 : decode cX1_change 21 = .ok (.iload_n 3, 1) := dk_29 (dk_at dksX1_change_0 21 rfl rfl)
theorem dX1_change_22 : decode cX1_change 22 = .ok (.iconst 0, 1) := dk_3 (dk_at dksX1_change_0 22 rfl rfl)
theorem dX1_change_23 : decode cX1_change 23 = .ok (.sipush 999, 3) := dk_17 3 231 (dk_at dksX1_change_1 0 rfl rfl)
theorem dX1_change_26 : decode cX1_change 26 = .ok (.invokestatic 51, 3) := dk_184 0 51 (dk_at dksX1_change_1 3 rfl rfl)
theorem dX1_change_29 : decode cX1_change 29 = .ok (.invokestatic 66, 3) := dk_184 0 66 (dk_at dksX1_change_1 6 rfl rfl)
theorem dX1_change_32 : decode cX1_change 32 = .ok (.aload_n 0, 1) := dk_42 (dk_at dksX1_change_1 9 rfl rfl)
theorem dX1_change_33 : decode cX1_change 33 = .ok (.getfield 27, 3) := dk_180 0 27 (dk_at dksX1_change_1 10 rfl rfl)
theorem dX1_change_36 : decode cX1_change 36 = .ok (.getfield 112, 3) := dk_180 0 112 (dk_at dksX1_change_1 13 rfl rfl)
theorem dX1_change_39 : decode cX1_change 39 = .ok (.iload_n 1, 1) := dk_27 (dk_at dksX1_change_1 16 rfl rfl)
theorem dX1_change_40 : decode cX1_change 40 = .ok (.aaload, 1) := dk_50 (dk_at dksX1_change_1 17 rfl rfl)
theorem dX1_change_41 : decode cX1_change 41 = .ok (.astore 4, 2) := dk_58 4 (dk_at dksX1_change_1 18 rfl rfl)
theorem dX1_change_43 : decode cX1_change 43 = .ok (.bipush 10, 2) := dk_16 10 (dk_at dksX1_change_1 20 rfl rfl)
theorem dX1_change_45 : decode cX1_change 45 = .ok (.aload 4, 2) := dk_25 4 (dk_at dksX1_change_1 22 rfl rfl)
theorem dX1_change_47 : decode cX1_change 47 = .ok (.getfield 121, 3) := dk_180 0 121 (dk_at dksX1_change_2 0 rfl rfl)
theorem dX1_change_50 : decode cX1_change 50 = .ok (.imul, 1) := dk_104 (dk_at dksX1_change_2 3 rfl rfl)
theorem dX1_change_51 : decode cX1_change 51 = .ok (.aload 4, 2) := dk_25 4 (dk_at dksX1_change_2 4 rfl rfl)
theorem dX1_change_53 : decode cX1_change 53 = .ok (.getfield 124, 3) := dk_180 0 124 (dk_at dksX1_change_2 6 rfl rfl)
theorem dX1_change_56 : decode cX1_change 56 = .ok (.iadd, 1) := dk_96 (dk_at dksX1_change_2 9 rfl rfl)
theorem dX1_change_57 : decode cX1_change 57 = .ok (.istore 5, 2) := dk_54 5 (dk_at dksX1_change_2 10 rfl rfl)
theorem dX1_change_59 : decode cX1_change 59 = .ok (.aload 4, 2) := dk_25 4 (dk_at dksX1_change_2 12 rfl rfl)
theorem dX1_change_61 : decode cX1_change 61 = .ok (.iload_n 3, 1) := dk_29 (dk_at dksX1_change_2 14 rfl rfl)
theorem dX1_change_62 : decode cX1_change 62 = .ok (.putfield 121, 3) := dk_181 0 121 (dk_at dksX1_change_2 15 rfl rfl)
theorem dX1_change_65 : decode cX1_change 65 = .ok (.aload 4, 2) := dk_25 4 (dk_at dksX1_change_2 18 rfl rfl)
theorem dX1_change_67 : decode cX1_change 67 = .ok (.iload_n 2, 1) := dk_28 (dk_at dksX1_change_2 20 rfl rfl)
theorem dX1_change_68 : decode cX1_change 68 = .ok (.putfield 124, 3) := dk_181 0 124 (dk_at dksX1_change_2 21 rfl rfl)
theorem dX1_change_71 : decode cX1_change 71 = .ok (.iload 5, 2) := dk_21 5 (dk_at dksX1_change_3 0 rfl rfl)
theorem dX1_change_73 : decode cX1_change 73 = .ok (.ireturn, 1) := dk_172 (dk_at dksX1_change_3 2 rfl rfl)
abbrev cX1_ballast : ByteArray := prog_1_method_24_code
def yX1_ballast : MethodName := ⟨RX1, "ballast", "(I)I"⟩
def dkwX1_ballast_10 : List UInt8 := [96, 172]
abbrev dktX1_ballast_10 : List UInt8 := dkwX1_ballast_10 ++ []
def dkwX1_ballast_9 : List UInt8 := [167, 0, 8, 21, 7, 16, 9, 112, 181, 0, 124, 16, 10, 25, 4, 180, 0, 121, 104, 25, 4, 180, 0, 124]
abbrev dktX1_ballast_9 : List UInt8 := dkwX1_ballast_9 ++ dktX1_ballast_10
def dkwX1_ballast_8 : List UInt8 := [167, 0, 8, 21, 7, 16, 9, 108, 181, 0, 121, 25, 4, 21, 7, 2, 160, 0, 11, 25, 4, 180, 0, 124]
abbrev dktX1_ballast_8 : List UInt8 := dkwX1_ballast_8 ++ dktX1_ballast_9
def dkwX1_ballast_7 : List UInt8 := [21, 12, 54, 8, 132, 9, 1, 167, 255, 162, 25, 4, 21, 7, 2, 160, 0, 11, 25, 4, 180, 0, 121]
abbrev dktX1_ballast_7 : List UInt8 := dkwX1_ballast_7 ++ dktX1_ballast_8
def dkwX1_ballast_6 : List UInt8 := [184, 0, 135, 2, 159, 0, 24, 21, 7, 2, 159, 0, 10, 21, 12, 21, 8, 162, 0, 11, 21, 9, 54, 7]
abbrev dktX1_ballast_6 : List UInt8 := dkwX1_ballast_6 ++ dktX1_ballast_7
def dkwX1_ballast_5 : List UInt8 := [21, 10, 104, 96, 44, 45, 184, 0, 158, 184, 0, 162, 54, 12, 21, 5, 16, 10, 21, 10, 104, 96, 44]
abbrev dktX1_ballast_5 : List UInt8 := dkwX1_ballast_5 ++ dktX1_ballast_6
def dkwX1_ballast_4 : List UInt8 := [54, 10, 21, 9, 16, 9, 112, 54, 11, 21, 5, 16, 10, 21, 10, 104, 96, 21, 6, 16, 20, 21, 11, 104]
abbrev dktX1_ballast_4 : List UInt8 := dkwX1_ballast_4 ++ dktX1_ballast_5
def dkwX1_ballast_3 : List UInt8 := [54, 7, 3, 54, 8, 3, 54, 9, 21, 9, 27, 4, 96, 16, 9, 104, 162, 0, 89, 21, 9, 16, 9, 108]
abbrev dktX1_ballast_3 : List UInt8 := dkwX1_ballast_3 ++ dktX1_ballast_4
def dkwX1_ballast_2 : List UInt8 := [180, 0, 27, 182, 0, 156, 16, 20, 25, 4, 180, 0, 124, 104, 25, 4, 180, 0, 121, 104, 100, 54, 6, 2]
abbrev dktX1_ballast_2 : List UInt8 := dkwX1_ballast_2 ++ dktX1_ballast_3
def dkwX1_ballast_1 : List UInt8 := [180, 0, 148, 58, 4, 42, 180, 0, 27, 182, 0, 152, 16, 10, 25, 4, 180, 0, 121, 104, 100, 54, 5, 42]
abbrev dktX1_ballast_1 : List UInt8 := dkwX1_ballast_1 ++ dktX1_ballast_2
def dkwX1_ballast_0 : List UInt8 := [27, 3, 16, 99, 184, 0, 51, 184, 0, 66, 42, 182, 0, 142, 77, 42, 182, 0, 145, 78, 42, 180, 0, 27]
abbrev dktX1_ballast_0 : List UInt8 := dkwX1_ballast_0 ++ dktX1_ballast_1
theorem dksX1_ballast_0 : cX1_ballast.data.toList.drop 0 = dktX1_ballast_0 := by decide +kernel
theorem dksX1_ballast_1 : cX1_ballast.data.toList.drop 24 = dktX1_ballast_1 := dk_seg dksX1_ballast_0 24 rfl rfl
theorem dksX1_ballast_2 : cX1_ballast.data.toList.drop 48 = dktX1_ballast_2 := dk_seg dksX1_ballast_1 24 rfl rfl
theorem dksX1_ballast_3 : cX1_ballast.data.toList.drop 72 = dktX1_ballast_3 := dk_seg dksX1_ballast_2 24 rfl rfl
theorem dksX1_ballast_4 : cX1_ballast.data.toList.drop 96 = dktX1_ballast_4 := dk_seg dksX1_ballast_3 24 rfl rfl
theorem dksX1_ballast_5 : cX1_ballast.data.toList.drop 120 = dktX1_ballast_5 := dk_seg dksX1_ballast_4 24 rfl rfl
theorem dksX1_ballast_6 : cX1_ballast.data.toList.drop 143 = dktX1_ballast_6 := dk_seg dksX1_ballast_5 23 rfl rfl
theorem dksX1_ballast_7 : cX1_ballast.data.toList.drop 167 = dktX1_ballast_7 := dk_seg dksX1_ballast_6 24 rfl rfl
theorem dksX1_ballast_8 : cX1_ballast.data.toList.drop 190 = dktX1_ballast_8 := dk_seg dksX1_ballast_7 23 rfl rfl
theorem dksX1_ballast_9 : cX1_ballast.data.toList.drop 214 = dktX1_ballast_9 := dk_seg dksX1_ballast_8 24 rfl rfl
theorem dksX1_ballast_10 : cX1_ballast.data.toList.drop 238 = dktX1_ballast_10 := dk_seg dksX1_ballast_9 24 rfl rfl
theorem dX1_ballast_0 : decode cX1_ballast 0 = .ok (.iload_n 1, 1) := dk_27 (dk_at dksX1_ballast_0 0 rfl rfl)
theorem dX1_ballast_1 : decode cX1_ballast 1 = .ok (.iconst 0, 1) := dk_3 (dk_at dksX1_ballast_0 1 rfl rfl)
theorem dX1_ballast_2 : decode cX1_ballast 2 = .ok (.bipush 99, 2) := dk_16 99 (dk_at dksX1_ballast_0 2 rfl rfl)
theorem dX1_ballast_4 : decode cX1_ballast 4 = .ok (.invokestatic 51, 3) := dk_184 0 51 (dk_at dksX1_ballast_0 4 rfl rfl)
theorem dX1_ballast_7 : decode cX1_ballast 7 = .ok (.invokestatic 66, 3) := dk_184 0 66 (dk_at dksX1_ballast_0 7 rfl rfl)
theorem dX1_ballast_10 : decode cX1_ballast 10 = .ok (.aload_n 0, 1) := dk_42 (dk_at dksX1_ballast_0 10 rfl rfl)
theorem dX1_ballast_11 : decode cX1_ballast 11 = .ok (.invokevirtual 142, 3) := dk_182 0 142 (dk_at dksX1_ballast_0 11 rfl rfl)
theorem dX1_ballast_14 : decode cX1_ballast 14 = .ok (.astore_n 2, 1) := dk_77 (dk_at dksX1_ballast_0 14 rfl rfl)
theorem dX1_ballast_15 : decode cX1_ballast 15 = .ok (.aload_n 0, 1) := dk_42 (dk_at dksX1_ballast_0 15 rfl rfl)
theorem dX1_ballast_16 : decode cX1_ballast 16 = .ok (.invokevirtual 145, 3) := dk_182 0 145 (dk_at dksX1_ballast_0 16 rfl rfl)
theorem dX1_ballast_19 : decode cX1_ballast 19 = .ok (.astore_n 3, 1) := dk_78 (dk_at dksX1_ballast_0 19 rfl rfl)
theorem dX1_ballast_20 : decode cX1_ballast 20 = .ok (.aload_n 0, 1) := dk_42 (dk_at dksX1_ballast_0 20 rfl rfl)
theorem dX1_ballast_21 : decode cX1_ballast 21 = .ok (.getfield 27, 3) := dk_180 0 27 (dk_at dksX1_ballast_0 21 rfl rfl)
theorem dX1_ballast_24 : decode cX1_ballast 24 = .ok (.getfield 148, 3) := dk_180 0 148 (dk_at dksX1_ballast_1 0 rfl rfl)
theorem dX1_ballast_27 : decode cX1_ballast 27 = .ok (.astore 4, 2) := dk_58 4 (dk_at dksX1_ballast_1 3 rfl rfl)
theorem dX1_ballast_29 : decode cX1_ballast 29 = .ok (.aload_n 0, 1) := dk_42 (dk_at dksX1_ballast_1 5 rfl rfl)
theorem dX1_ballast_30 : decode cX1_ballast 30 = .ok (.getfield 27, 3) := dk_180 0 27 (dk_at dksX1_ballast_1 6 rfl rfl)
theorem dX1_ballast_33 : decode cX1_ballast 33 = .ok (.invokevirtual 152, 3) := dk_182 0 152 (dk_at dksX1_ballast_1 9 rfl rfl)
theorem dX1_ballast_36 : decode cX1_ballast 36 = .ok (.bipush 10, 2) := dk_16 10 (dk_at dksX1_ballast_1 12 rfl rfl)
theorem dX1_ballast_38 : decode cX1_ballast 38 = .ok (.aload 4, 2) := dk_25 4 (dk_at dksX1_ballast_1 14 rfl rfl)
theorem dX1_ballast_40 : decode cX1_ballast 40 = .ok (.getfield 121, 3) := dk_180 0 121 (dk_at dksX1_ballast_1 16 rfl rfl)
theorem dX1_ballast_43 : decode cX1_ballast 43 = .ok (.imul, 1) := dk_104 (dk_at dksX1_ballast_1 19 rfl rfl)
theorem dX1_ballast_44 : decode cX1_ballast 44 = .ok (.isub, 1) := dk_100 (dk_at dksX1_ballast_1 20 rfl rfl)
theorem dX1_ballast_45 : decode cX1_ballast 45 = .ok (.istore 5, 2) := dk_54 5 (dk_at dksX1_ballast_1 21 rfl rfl)
theorem dX1_ballast_47 : decode cX1_ballast 47 = .ok (.aload_n 0, 1) := dk_42 (dk_at dksX1_ballast_1 23 rfl rfl)
theorem dX1_ballast_48 : decode cX1_ballast 48 = .ok (.getfield 27, 3) := dk_180 0 27 (dk_at dksX1_ballast_2 0 rfl rfl)
theorem dX1_ballast_51 : decode cX1_ballast 51 = .ok (.invokevirtual 156, 3) := dk_182 0 156 (dk_at dksX1_ballast_2 3 rfl rfl)
theorem dX1_ballast_54 : decode cX1_ballast 54 = .ok (.bipush 20, 2) := dk_16 20 (dk_at dksX1_ballast_2 6 rfl rfl)
theorem dX1_ballast_56 : decode cX1_ballast 56 = .ok (.aload 4, 2) := dk_25 4 (dk_at dksX1_ballast_2 8 rfl rfl)
theorem dX1_ballast_58 : decode cX1_ballast 58 = .ok (.getfield 124, 3) := dk_180 0 124 (dk_at dksX1_ballast_2 10 rfl rfl)
theorem dX1_ballast_61 : decode cX1_ballast 61 = .ok (.imul, 1) := dk_104 (dk_at dksX1_ballast_2 13 rfl rfl)
theorem dX1_ballast_62 : decode cX1_ballast 62 = .ok (.aload 4, 2) := dk_25 4 (dk_at dksX1_ballast_2 14 rfl rfl)
theorem dX1_ballast_64 : decode cX1_ballast 64 = .ok (.getfield 121, 3) := dk_180 0 121 (dk_at dksX1_ballast_2 16 rfl rfl)
theorem dX1_ballast_67 : decode cX1_ballast 67 = .ok (.imul, 1) := dk_104 (dk_at dksX1_ballast_2 19 rfl rfl)
theorem dX1_ballast_68 : decode cX1_ballast 68 = .ok (.isub, 1) := dk_100 (dk_at dksX1_ballast_2 20 rfl rfl)
theorem dX1_ballast_69 : decode cX1_ballast 69 = .ok (.istore 6, 2) := dk_54 6 (dk_at dksX1_ballast_2 21 rfl rfl)
theorem dX1_ballast_71 : decode cX1_ballast 71 = .ok (.iconst (-1), 1) := dk_2 (dk_at dksX1_ballast_2 23 rfl rfl)
theorem dX1_ballast_72 : decode cX1_ballast 72 = .ok (.istore 7, 2) := dk_54 7 (dk_at dksX1_ballast_3 0 rfl rfl)
theorem dX1_ballast_74 : decode cX1_ballast 74 = .ok (.iconst 0, 1) := dk_3 (dk_at dksX1_ballast_3 2 rfl rfl)
theorem dX1_ballast_75 : decode cX1_ballast 75 = .ok (.istore 8, 2) := dk_54 8 (dk_at dksX1_ballast_3 3 rfl rfl)
theorem dX1_ballast_77 : decode cX1_ballast 77 = .ok (.iconst 0, 1) := dk_3 (dk_at dksX1_ballast_3 5 rfl rfl)
theorem dX1_ballast_78 : decode cX1_ballast 78 = .ok (.istore 9, 2) := dk_54 9 (dk_at dksX1_ballast_3 6 rfl rfl)
theorem dX1_ballast_80 : decode cX1_ballast 80 = .ok (.iload 9, 2) := dk_21 9 (dk_at dksX1_ballast_3 8 rfl rfl)
theorem dX1_ballast_82 : decode cX1_ballast 82 = .ok (.iload_n 1, 1) := dk_27 (dk_at dksX1_ballast_3 10 rfl rfl)
theorem dX1_ballast_83 : decode cX1_ballast 83 = .ok (.iconst 1, 1) := dk_4 (dk_at dksX1_ballast_3 11 rfl rfl)
theorem dX1_ballast_84 : decode cX1_ballast 84 = .ok (.iadd, 1) := dk_96 (dk_at dksX1_ballast_3 12 rfl rfl)
theorem dX1_ballast_85 : decode cX1_ballast 85 = .ok (.bipush 9, 2) := dk_16 9 (dk_at dksX1_ballast_3 13 rfl rfl)
theorem dX1_ballast_87 : decode cX1_ballast 87 = .ok (.imul, 1) := dk_104 (dk_at dksX1_ballast_3 15 rfl rfl)
theorem dX1_ballast_88 : decode cX1_ballast 88 = .ok (.if_icmp .ge 89, 3) := dk_162 0 89 (dk_at dksX1_ballast_3 16 rfl rfl)
theorem dX1_ballast_91 : decode cX1_ballast 91 = .ok (.iload 9, 2) := dk_21 9 (dk_at dksX1_ballast_3 19 rfl rfl)
theorem dX1_ballast_93 : decode cX1_ballast 93 = .ok (.bipush 9, 2) := dk_16 9 (dk_at dksX1_ballast_3 21 rfl rfl)
theorem dX1_ballast_95 : decode cX1_ballast 95 = .ok (.idiv, 1) := dk_108 (dk_at dksX1_ballast_3 23 rfl rfl)
theorem dX1_ballast_96 : decode cX1_ballast 96 = .ok (.istore 10, 2) := dk_54 10 (dk_at dksX1_ballast_4 0 rfl rfl)
theorem dX1_ballast_98 : decode cX1_ballast 98 = .ok (.iload 9, 2) := dk_21 9 (dk_at dksX1_ballast_4 2 rfl rfl)
theorem dX1_ballast_100 : decode cX1_ballast 100 = .ok (.bipush 9, 2) := dk_16 9 (dk_at dksX1_ballast_4 4 rfl rfl)
theorem dX1_ballast_102 : decode cX1_ballast 102 = .ok (.irem, 1) := dk_112 (dk_at dksX1_ballast_4 6 rfl rfl)
theorem dX1_ballast_103 : decode cX1_ballast 103 = .ok (.istore 11, 2) := dk_54 11 (dk_at dksX1_ballast_4 7 rfl rfl)
theorem dX1_ballast_105 : decode cX1_ballast 105 = .ok (.iload 5, 2) := dk_21 5 (dk_at dksX1_ballast_4 9 rfl rfl)
theorem dX1_ballast_107 : decode cX1_ballast 107 = .ok (.bipush 10, 2) := dk_16 10 (dk_at dksX1_ballast_4 11 rfl rfl)
theorem dX1_ballast_109 : decode cX1_ballast 109 = .ok (.iload 10, 2) := dk_21 10 (dk_at dksX1_ballast_4 13 rfl rfl)
theorem dX1_ballast_111 : decode cX1_ballast 111 = .ok (.imul, 1) := dk_104 (dk_at dksX1_ballast_4 15 rfl rfl)
theorem dX1_ballast_112 : decode cX1_ballast 112 = .ok (.iadd, 1) := dk_96 (dk_at dksX1_ballast_4 16 rfl rfl)
theorem dX1_ballast_113 : decode cX1_ballast 113 = .ok (.iload 6, 2) := dk_21 6 (dk_at dksX1_ballast_4 17 rfl rfl)
theorem dX1_ballast_115 : decode cX1_ballast 115 = .ok (.bipush 20, 2) := dk_16 20 (dk_at dksX1_ballast_4 19 rfl rfl)
theorem dX1_ballast_117 : decode cX1_ballast 117 = .ok (.iload 11, 2) := dk_21 11 (dk_at dksX1_ballast_4 21 rfl rfl)
theorem dX1_ballast_119 : decode cX1_ballast 119 = .ok (.imul, 1) := dk_104 (dk_at dksX1_ballast_4 23 rfl rfl)
theorem dX1_ballast_120 : decode cX1_ballast 120 = .ok (.iload 10, 2) := dk_21 10 (dk_at dksX1_ballast_5 0 rfl rfl)
theorem dX1_ballast_122 : decode cX1_ballast 122 = .ok (.imul, 1) := dk_104 (dk_at dksX1_ballast_5 2 rfl rfl)
theorem dX1_ballast_123 : decode cX1_ballast 123 = .ok (.iadd, 1) := dk_96 (dk_at dksX1_ballast_5 3 rfl rfl)
theorem dX1_ballast_124 : decode cX1_ballast 124 = .ok (.aload_n 2, 1) := dk_44 (dk_at dksX1_ballast_5 4 rfl rfl)
theorem dX1_ballast_125 : decode cX1_ballast 125 = .ok (.aload_n 3, 1) := dk_45 (dk_at dksX1_ballast_5 5 rfl rfl)
theorem dX1_ballast_126 : decode cX1_ballast 126 = .ok (.invokestatic 158, 3) := dk_184 0 158 (dk_at dksX1_ballast_5 6 rfl rfl)
theorem dX1_ballast_129 : decode cX1_ballast 129 = .ok (.invokestatic 162, 3) := dk_184 0 162 (dk_at dksX1_ballast_5 9 rfl rfl)
theorem dX1_ballast_132 : decode cX1_ballast 132 = .ok (.istore 12, 2) := dk_54 12 (dk_at dksX1_ballast_5 12 rfl rfl)
theorem dX1_ballast_134 : decode cX1_ballast 134 = .ok (.iload 5, 2) := dk_21 5 (dk_at dksX1_ballast_5 14 rfl rfl)
theorem dX1_ballast_136 : decode cX1_ballast 136 = .ok (.bipush 10, 2) := dk_16 10 (dk_at dksX1_ballast_5 16 rfl rfl)
theorem dX1_ballast_138 : decode cX1_ballast 138 = .ok (.iload 10, 2) := dk_21 10 (dk_at dksX1_ballast_5 18 rfl rfl)
theorem dX1_ballast_140 : decode cX1_ballast 140 = .ok (.imul, 1) := dk_104 (dk_at dksX1_ballast_5 20 rfl rfl)
theorem dX1_ballast_141 : decode cX1_ballast 141 = .ok (.iadd, 1) := dk_96 (dk_at dksX1_ballast_5 21 rfl rfl)
theorem dX1_ballast_142 : decode cX1_ballast 142 = .ok (.aload_n 2, 1) := dk_44 (dk_at dksX1_ballast_5 22 rfl rfl)
theorem dX1_ballast_143 : decode cX1_ballast 143 = .ok (.invokestatic 135, 3) := dk_184 0 135 (dk_at dksX1_ballast_6 0 rfl rfl)
theorem dX1_ballast_146 : decode cX1_ballast 146 = .ok (.iconst (-1), 1) := dk_2 (dk_at dksX1_ballast_6 3 rfl rfl)
theorem dX1_ballast_147 : decode cX1_ballast 147 = .ok (.if_icmp .eq 24, 3) := dk_159 0 24 (dk_at dksX1_ballast_6 4 rfl rfl)
theorem dX1_ballast_150 : decode cX1_ballast 150 = .ok (.iload 7, 2) := dk_21 7 (dk_at dksX1_ballast_6 7 rfl rfl)
theorem dX1_ballast_152 : decode cX1_ballast 152 = .ok (.iconst (-1), 1) := dk_2 (dk_at dksX1_ballast_6 9 rfl rfl)
theorem dX1_ballast_153 : decode cX1_ballast 153 = .ok (.if_icmp .eq 10, 3) := dk_159 0 10 (dk_at dksX1_ballast_6 10 rfl rfl)
theorem dX1_ballast_156 : decode cX1_ballast 156 = .ok (.iload 12, 2) := dk_21 12 (dk_at dksX1_ballast_6 13 rfl rfl)
theorem dX1_ballast_158 : decode cX1_ballast 158 = .ok (.iload 8, 2) := dk_21 8 (dk_at dksX1_ballast_6 15 rfl rfl)
theorem dX1_ballast_160 : decode cX1_ballast 160 = .ok (.if_icmp .ge 11, 3) := dk_162 0 11 (dk_at dksX1_ballast_6 17 rfl rfl)
theorem dX1_ballast_163 : decode cX1_ballast 163 = .ok (.iload 9, 2) := dk_21 9 (dk_at dksX1_ballast_6 20 rfl rfl)
theorem dX1_ballast_165 : decode cX1_ballast 165 = .ok (.istore 7, 2) := dk_54 7 (dk_at dksX1_ballast_6 22 rfl rfl)
theorem dX1_ballast_167 : decode cX1_ballast 167 = .ok (.iload 12, 2) := dk_21 12 (dk_at dksX1_ballast_7 0 rfl rfl)
theorem dX1_ballast_169 : decode cX1_ballast 169 = .ok (.istore 8, 2) := dk_54 8 (dk_at dksX1_ballast_7 2 rfl rfl)
theorem dX1_ballast_171 : decode cX1_ballast 171 = .ok (.iinc 9 1, 3) := dk_132 9 1 (dk_at dksX1_ballast_7 4 rfl rfl)
theorem dX1_ballast_174 : decode cX1_ballast 174 = .ok (.goto (-94), 3) := dk_167 255 162 (dk_at dksX1_ballast_7 7 rfl rfl)
theorem dX1_ballast_177 : decode cX1_ballast 177 = .ok (.aload 4, 2) := dk_25 4 (dk_at dksX1_ballast_7 10 rfl rfl)
theorem dX1_ballast_179 : decode cX1_ballast 179 = .ok (.iload 7, 2) := dk_21 7 (dk_at dksX1_ballast_7 12 rfl rfl)
theorem dX1_ballast_181 : decode cX1_ballast 181 = .ok (.iconst (-1), 1) := dk_2 (dk_at dksX1_ballast_7 14 rfl rfl)
theorem dX1_ballast_182 : decode cX1_ballast 182 = .ok (.if_icmp .ne 11, 3) := dk_160 0 11 (dk_at dksX1_ballast_7 15 rfl rfl)
theorem dX1_ballast_185 : decode cX1_ballast 185 = .ok (.aload 4, 2) := dk_25 4 (dk_at dksX1_ballast_7 18 rfl rfl)
theorem dX1_ballast_187 : decode cX1_ballast 187 = .ok (.getfield 121, 3) := dk_180 0 121 (dk_at dksX1_ballast_7 20 rfl rfl)
theorem dX1_ballast_190 : decode cX1_ballast 190 = .ok (.goto 8, 3) := dk_167 0 8 (dk_at dksX1_ballast_8 0 rfl rfl)
theorem dX1_ballast_193 : decode cX1_ballast 193 = .ok (.iload 7, 2) := dk_21 7 (dk_at dksX1_ballast_8 3 rfl rfl)
theorem dX1_ballast_195 : decode cX1_ballast 195 = .ok (.bipush 9, 2) := dk_16 9 (dk_at dksX1_ballast_8 5 rfl rfl)
theorem dX1_ballast_197 : decode cX1_ballast 197 = .ok (.idiv, 1) := dk_108 (dk_at dksX1_ballast_8 7 rfl rfl)
theorem dX1_ballast_198 : decode cX1_ballast 198 = .ok (.putfield 121, 3) := dk_181 0 121 (dk_at dksX1_ballast_8 8 rfl rfl)
theorem dX1_ballast_201 : decode cX1_ballast 201 = .ok (.aload 4, 2) := dk_25 4 (dk_at dksX1_ballast_8 11 rfl rfl)
theorem dX1_ballast_203 : decode cX1_ballast 203 = .ok (.iload 7, 2) := dk_21 7 (dk_at dksX1_ballast_8 13 rfl rfl)
theorem dX1_ballast_205 : decode cX1_ballast 205 = .ok (.iconst (-1), 1) := dk_2 (dk_at dksX1_ballast_8 15 rfl rfl)
theorem dX1_ballast_206 : decode cX1_ballast 206 = .ok (.if_icmp .ne 11, 3) := dk_160 0 11 (dk_at dksX1_ballast_8 16 rfl rfl)
theorem dX1_ballast_209 : decode cX1_ballast 209 = .ok (.aload 4, 2) := dk_25 4 (dk_at dksX1_ballast_8 19 rfl rfl)
theorem dX1_ballast_211 : decode cX1_ballast 211 = .ok (.getfield 124, 3) := dk_180 0 124 (dk_at dksX1_ballast_8 21 rfl rfl)
theorem dX1_ballast_214 : decode cX1_ballast 214 = .ok (.goto 8, 3) := dk_167 0 8 (dk_at dksX1_ballast_9 0 rfl rfl)
theorem dX1_ballast_217 : decode cX1_ballast 217 = .ok (.iload 7, 2) := dk_21 7 (dk_at dksX1_ballast_9 3 rfl rfl)
theorem dX1_ballast_219 : decode cX1_ballast 219 = .ok (.bipush 9, 2) := dk_16 9 (dk_at dksX1_ballast_9 5 rfl rfl)
theorem dX1_ballast_221 : decode cX1_ballast 221 = .ok (.irem, 1) := dk_112 (dk_at dksX1_ballast_9 7 rfl rfl)
theorem dX1_ballast_222 : decode cX1_ballast 222 = .ok (.putfield 124, 3) := dk_181 0 124 (dk_at dksX1_ballast_9 8 rfl rfl)
theorem dX1_ballast_225 : decode cX1_ballast 225 = .ok (.bipush 10, 2) := dk_16 10 (dk_at dksX1_ballast_9 11 rfl rfl)
theorem dX1_ballast_227 : decode cX1_ballast 227 = .ok (.aload 4, 2) := dk_25 4 (dk_at dksX1_ballast_9 13 rfl rfl)
theorem dX1_ballast_229 : decode cX1_ballast 229 = .ok (.getfield 121, 3) := dk_180 0 121 (dk_at dksX1_ballast_9 15 rfl rfl)
theorem dX1_ballast_232 : decode cX1_ballast 232 = .ok (.imul, 1) := dk_104 (dk_at dksX1_ballast_9 18 rfl rfl)
theorem dX1_ballast_233 : decode cX1_ballast 233 = .ok (.aload 4, 2) := dk_25 4 (dk_at dksX1_ballast_9 19 rfl rfl)
theorem dX1_ballast_235 : decode cX1_ballast 235 = .ok (.getfield 124, 3) := dk_180 0 124 (dk_at dksX1_ballast_9 21 rfl rfl)
theorem dX1_ballast_238 : decode cX1_ballast 238 = .ok (.iadd, 1) := dk_96 (dk_at dksX1_ballast_10 0 rfl rfl)
theorem dX1_ballast_239 : decode cX1_ballast 239 = .ok (.ireturn, 1) := dk_172 (dk_at dksX1_ballast_10 1 rfl rfl)
abbrev cX1_strake : ByteArray := prog_1_method_27_code
def yX1_strake : MethodName := ⟨RX1, "strake", "(I)I"⟩
def dkwX1_strake_0 : List UInt8 := [27, 3, 7, 184, 0, 51, 184, 0, 55, 42, 180, 0, 20, 27, 182, 0, 165, 172]
abbrev dktX1_strake_0 : List UInt8 := dkwX1_strake_0 ++ []
theorem dksX1_strake_0 : cX1_strake.data.toList.drop 0 = dktX1_strake_0 := by decide +kernel
theorem dX1_strake_0 : decode cX1_strake 0 = .ok (.iload_n 1, 1) := dk_27 (dk_at dksX1_strake_0 0 rfl rfl)
theorem dX1_strake_1 : decode cX1_strake 1 = .ok (.iconst 0, 1) := dk_3 (dk_at dksX1_strake_0 1 rfl rfl)
theorem dX1_strake_2 : decode cX1_strake 2 = .ok (.iconst 4, 1) := dk_7 (dk_at dksX1_strake_0 2 rfl rfl)
theorem dX1_strake_3 : decode cX1_strake 3 = .ok (.invokestatic 51, 3) := dk_184 0 51 (dk_at dksX1_strake_0 3 rfl rfl)
theorem dX1_strake_6 : decode cX1_strake 6 = .ok (.invokestatic 55, 3) := dk_184 0 55 (dk_at dksX1_strake_0 6 rfl rfl)
theorem dX1_strake_9 : decode cX1_strake 9 = .ok (.aload_n 0, 1) := dk_42 (dk_at dksX1_strake_0 9 rfl rfl)
theorem dX1_strake_10 : decode cX1_strake 10 = .ok (.getfield 20, 3) := dk_180 0 20 (dk_at dksX1_strake_0 10 rfl rfl)
theorem dX1_strake_13 : decode cX1_strake 13 = .ok (.iload_n 1, 1) := dk_27 (dk_at dksX1_strake_0 13 rfl rfl)
theorem dX1_strake_14 : decode cX1_strake 14 = .ok (.invokevirtual 165, 3) := dk_182 0 165 (dk_at dksX1_strake_0 14 rfl rfl)
theorem dX1_strake_17 : decode cX1_strake 17 = .ok (.ireturn, 1) := dk_172 (dk_at dksX1_strake_0 17 rfl rfl)
abbrev cX1_planks : ByteArray := prog_1_method_29_code
def yX1_planks : MethodName := ⟨RX1, "planks", "(I)I"⟩
def dkwX1_planks_1 : List UInt8 := [172]
abbrev dktX1_planks_1 : List UInt8 := dkwX1_planks_1 ++ []
def dkwX1_planks_0 : List UInt8 := [27, 16, 100, 17, 15, 160, 184, 0, 51, 184, 0, 66, 42, 27, 181, 0, 38, 42, 182, 0, 180, 16, 10, 46]
abbrev dktX1_planks_0 : List UInt8 := dkwX1_planks_0 ++ dktX1_planks_1
theorem dksX1_planks_0 : cX1_planks.data.toList.drop 0 = dktX1_planks_0 := by decide +kernel
theorem dksX1_planks_1 : cX1_planks.data.toList.drop 24 = dktX1_planks_1 := dk_seg dksX1_planks_0 24 rfl rfl
theorem dX1_planks_0 : decode cX1_planks 0 = .ok (.iload_n 1, 1) := dk_27 (dk_at dksX1_planks_0 0 rfl rfl)
theorem dX1_planks_1 : decode cX1_planks 1 = .ok (.bipush 100, 2) := dk_16 100 (dk_at dksX1_planks_0 1 rfl rfl)
theorem dX1_planks_3 : decode cX1_planks 3 = .ok (.sipush 4000, 3) := dk_17 15 160 (dk_at dksX1_planks_0 3 rfl rfl)
theorem dX1_planks_6 : decode cX1_planks 6 = .ok (.invokestatic 51, 3) := dk_184 0 51 (dk_at dksX1_planks_0 6 rfl rfl)
theorem dX1_planks_9 : decode cX1_planks 9 = .ok (.invokestatic 66, 3) := dk_184 0 66 (dk_at dksX1_planks_0 9 rfl rfl)
theorem dX1_planks_12 : decode cX1_planks 12 = .ok (.aload_n 0, 1) := dk_42 (dk_at dksX1_planks_0 12 rfl rfl)
theorem dX1_planks_13 : decode cX1_planks 13 = .ok (.iload_n 1, 1) := dk_27 (dk_at dksX1_planks_0 13 rfl rfl)
theorem dX1_planks_14 : decode cX1_planks 14 = .ok (.putfield 38, 3) := dk_181 0 38 (dk_at dksX1_planks_0 14 rfl rfl)
theorem dX1_planks_17 : decode cX1_planks 17 = .ok (.aload_n 0, 1) := dk_42 (dk_at dksX1_planks_0 17 rfl rfl)
theorem dX1_planks_18 : decode cX1_planks 18 = .ok (.invokevirtual 180, 3) := dk_182 0 180 (dk_at dksX1_planks_0 18 rfl rfl)
theorem dX1_planks_21 : decode cX1_planks 21 = .ok (.bipush 10, 2) := dk_16 10 (dk_at dksX1_planks_0 21 rfl rfl)
theorem dX1_planks_23 : decode cX1_planks 23 = .ok (.iaload, 1) := dk_46 (dk_at dksX1_planks_0 23 rfl rfl)
theorem dX1_planks_24 : decode cX1_planks 24 = .ok (.ireturn, 1) := dk_172 (dk_at dksX1_planks_1 0 rfl rfl)
abbrev cX1_nest : ByteArray := prog_1_method_28_code
def yX1_nest : MethodName := ⟨RX1, "nest", "()[I"⟩
def dkwX1_nest_10 : List UInt8 := [21, 7, 42, 180, 0, 38, 162, 0, 7, 4, 167, 0, 4, 3, 96, 79, 132, 6, 1, 167, 255, 218, 43, 176]
abbrev dktX1_nest_10 : List UInt8 := dkwX1_nest_10 ++ []
def dkwX1_nest_9 : List UInt8 := [54, 5, 3, 54, 6, 21, 6, 21, 5, 162, 0, 37, 25, 4, 21, 6, 46, 54, 7, 43, 16, 10, 92, 46]
abbrev dktX1_nest_9 : List UInt8 := dkwX1_nest_9 ++ dktX1_nest_10
def dkwX1_nest_8 : List UInt8 := [182, 0, 165, 42, 180, 0, 38, 182, 0, 174, 79, 132, 4, 1, 167, 255, 93, 44, 58, 4, 25, 4, 190]
abbrev dktX1_nest_8 : List UInt8 := dkwX1_nest_8 ++ dktX1_nest_9
def dkwX1_nest_7 : List UInt8 := [180, 0, 38, 182, 0, 174, 79, 43, 5, 21, 5, 104, 4, 96, 25, 6, 44, 42, 180, 0, 20, 21, 5]
abbrev dktX1_nest_7 : List UInt8 := dkwX1_nest_7 ++ dktX1_nest_8
def dkwX1_nest_6 : List UInt8 := [42, 183, 0, 173, 58, 6, 43, 5, 21, 5, 104, 25, 6, 44, 42, 180, 0, 20, 21, 5, 182, 0, 165, 42]
abbrev dktX1_nest_6 : List UInt8 := dkwX1_nest_6 ++ dktX1_nest_7
def dkwX1_nest_5 : List UInt8 := [182, 0, 165, 42, 180, 0, 38, 164, 0, 13, 187, 0, 168, 89, 183, 0, 170, 167, 0, 11, 187, 0, 171, 89]
abbrev dktX1_nest_5 : List UInt8 := dkwX1_nest_5 ++ dktX1_nest_6
def dkwX1_nest_4 : List UInt8 := [167, 0, 5, 21, 5, 54, 5, 132, 6, 1, 167, 255, 204, 45, 21, 5, 4, 84, 42, 180, 0, 20, 21, 5]
abbrev dktX1_nest_4 : List UInt8 := dkwX1_nest_4 ++ dktX1_nest_5
def dkwX1_nest_3 : List UInt8 := [42, 180, 0, 20, 21, 6, 182, 0, 165, 42, 180, 0, 20, 21, 5, 182, 0, 165, 164, 0, 8, 21, 6]
abbrev dktX1_nest_3 : List UInt8 := dkwX1_nest_3 ++ dktX1_nest_4
def dkwX1_nest_2 : List UInt8 := [54, 5, 3, 54, 6, 21, 6, 8, 162, 0, 52, 45, 21, 6, 51, 154, 0, 35, 21, 5, 2, 159, 0, 24]
abbrev dktX1_nest_2 : List UInt8 := dkwX1_nest_2 ++ dktX1_nest_3
def dkwX1_nest_1 : List UInt8 := [180, 0, 38, 79, 132, 3, 1, 167, 255, 240, 8, 188, 4, 78, 3, 54, 4, 21, 4, 8, 162, 0, 163, 2]
abbrev dktX1_nest_1 : List UInt8 := dkwX1_nest_1 ++ dktX1_nest_2
def dkwX1_nest_0 : List UInt8 := [16, 11, 188, 10, 76, 17, 0, 200, 188, 10, 77, 3, 62, 29, 44, 190, 162, 0, 16, 44, 29, 42]
abbrev dktX1_nest_0 : List UInt8 := dkwX1_nest_0 ++ dktX1_nest_1
theorem dksX1_nest_0 : cX1_nest.data.toList.drop 0 = dktX1_nest_0 := by decide +kernel
theorem dksX1_nest_1 : cX1_nest.data.toList.drop 22 = dktX1_nest_1 := dk_seg dksX1_nest_0 22 rfl rfl
theorem dksX1_nest_2 : cX1_nest.data.toList.drop 46 = dktX1_nest_2 := dk_seg dksX1_nest_1 24 rfl rfl
theorem dksX1_nest_3 : cX1_nest.data.toList.drop 70 = dktX1_nest_3 := dk_seg dksX1_nest_2 24 rfl rfl
theorem dksX1_nest_4 : cX1_nest.data.toList.drop 93 = dktX1_nest_4 := dk_seg dksX1_nest_3 23 rfl rfl
theorem dksX1_nest_5 : cX1_nest.data.toList.drop 117 = dktX1_nest_5 := dk_seg dksX1_nest_4 24 rfl rfl
theorem dksX1_nest_6 : cX1_nest.data.toList.drop 141 = dktX1_nest_6 := dk_seg dksX1_nest_5 24 rfl rfl
theorem dksX1_nest_7 : cX1_nest.data.toList.drop 165 = dktX1_nest_7 := dk_seg dksX1_nest_6 24 rfl rfl
theorem dksX1_nest_8 : cX1_nest.data.toList.drop 188 = dktX1_nest_8 := dk_seg dksX1_nest_7 23 rfl rfl
theorem dksX1_nest_9 : cX1_nest.data.toList.drop 211 = dktX1_nest_9 := dk_seg dksX1_nest_8 23 rfl rfl
theorem dksX1_nest_10 : cX1_nest.data.toList.drop 235 = dktX1_nest_10 := dk_seg dksX1_nest_9 24 rfl rfl
theorem dX1_nest_0 : decode cX1_nest 0 = .ok (.bipush 11, 2) := dk_16 11 (dk_at dksX1_nest_0 0 rfl rfl)
theorem dX1_nest_2 : decode cX1_nest 2 = .ok (.newarray .int, 2) := dk_188_10 (dk_at dksX1_nest_0 2 rfl rfl)
theorem dX1_nest_4 : decode cX1_nest 4 = .ok (.astore_n 1, 1) := dk_76 (dk_at dksX1_nest_0 4 rfl rfl)
theorem dX1_nest_5 : decode cX1_nest 5 = .ok (.sipush 200, 3) := dk_17 0 200 (dk_at dksX1_nest_0 5 rfl rfl)
theorem dX1_nest_8 : decode cX1_nest 8 = .ok (.newarray .int, 2) := dk_188_10 (dk_at dksX1_nest_0 8 rfl rfl)
theorem dX1_nest_10 : decode cX1_nest 10 = .ok (.astore_n 2, 1) := dk_77 (dk_at dksX1_nest_0 10 rfl rfl)
theorem dX1_nest_11 : decode cX1_nest 11 = .ok (.iconst 0, 1) := dk_3 (dk_at dksX1_nest_0 11 rfl rfl)
theorem dX1_nest_12 : decode cX1_nest 12 = .ok (.istore_n 3, 1) := dk_62 (dk_at dksX1_nest_0 12 rfl rfl)
theorem dX1_nest_13 : decode cX1_nest 13 = .ok (.iload_n 3, 1) := dk_29 (dk_at dksX1_nest_0 13 rfl rfl)
theorem dX1_nest_14 : decode cX1_nest 14 = .ok (.aload_n 2, 1) := dk_44 (dk_at dksX1_nest_0 14 rfl rfl)
theorem dX1_nest_15 : decode cX1_nest 15 = .ok (.arraylength, 1) := dk_190 (dk_at dksX1_nest_0 15 rfl rfl)
theorem dX1_nest_16 : decode cX1_nest 16 = .ok (.if_icmp .ge 16, 3) := dk_162 0 16 (dk_at dksX1_nest_0 16 rfl rfl)
theorem dX1_nest_19 : decode cX1_nest 19 = .ok (.aload_n 2, 1) := dk_44 (dk_at dksX1_nest_0 19 rfl rfl)
theorem dX1_nest_20 : decode cX1_nest 20 = .ok (.iload_n 3, 1) := dk_29 (dk_at dksX1_nest_0 20 rfl rfl)
theorem dX1_nest_21 : decode cX1_nest 21 = .ok (.aload_n 0, 1) := dk_42 (dk_at dksX1_nest_0 21 rfl rfl)
theorem dX1_nest_22 : decode cX1_nest 22 = .ok (.getfield 38, 3) := dk_180 0 38 (dk_at dksX1_nest_1 0 rfl rfl)
theorem dX1_nest_25 : decode cX1_nest 25 = .ok (.iastore, 1) := dk_79 (dk_at dksX1_nest_1 3 rfl rfl)
theorem dX1_nest_26 : decode cX1_nest 26 = .ok (.iinc 3 1, 3) := dk_132 3 1 (dk_at dksX1_nest_1 4 rfl rfl)
theorem dX1_nest_29 : decode cX1_nest 29 = .ok (.goto (-16), 3) := dk_167 255 240 (dk_at dksX1_nest_1 7 rfl rfl)
theorem dX1_nest_32 : decode cX1_nest 32 = .ok (.iconst 5, 1) := dk_8 (dk_at dksX1_nest_1 10 rfl rfl)
theorem dX1_nest_33 : decode cX1_nest 33 = .ok (.newarray .boolean, 2) := dk_188_4 (dk_at dksX1_nest_1 11 rfl rfl)
theorem dX1_nest_35 : decode cX1_nest 35 = .ok (.astore_n 3, 1) := dk_78 (dk_at dksX1_nest_1 13 rfl rfl)
theorem dX1_nest_36 : decode cX1_nest 36 = .ok (.iconst 0, 1) := dk_3 (dk_at dksX1_nest_1 14 rfl rfl)
theorem dX1_nest_37 : decode cX1_nest 37 = .ok (.istore 4, 2) := dk_54 4 (dk_at dksX1_nest_1 15 rfl rfl)
theorem dX1_nest_39 : decode cX1_nest 39 = .ok (.iload 4, 2) := dk_21 4 (dk_at dksX1_nest_1 17 rfl rfl)
theorem dX1_nest_41 : decode cX1_nest 41 = .ok (.iconst 5, 1) := dk_8 (dk_at dksX1_nest_1 19 rfl rfl)
theorem dX1_nest_42 : decode cX1_nest 42 = .ok (.if_icmp .ge 163, 3) := dk_162 0 163 (dk_at dksX1_nest_1 20 rfl rfl)
theorem dX1_nest_45 : decode cX1_nest 45 = .ok (.iconst (-1), 1) := dk_2 (dk_at dksX1_nest_1 23 rfl rfl)
theorem dX1_nest_46 : decode cX1_nest 46 = .ok (.istore 5, 2) := dk_54 5 (dk_at dksX1_nest_2 0 rfl rfl)
theorem dX1_nest_48 : decode cX1_nest 48 = .ok (.iconst 0, 1) := dk_3 (dk_at dksX1_nest_2 2 rfl rfl)
theorem dX1_nest_49 : decode cX1_nest 49 = .ok (.istore 6, 2) := dk_54 6 (dk_at dksX1_nest_2 3 rfl rfl)
theorem dX1_nest_51 : decode cX1_nest 51 = .ok (.iload 6, 2) := dk_21 6 (dk_at dksX1_nest_2 5 rfl rfl)
theorem dX1_nest_53 : decode cX1_nest 53 = .ok (.iconst 5, 1) := dk_8 (dk_at dksX1_nest_2 7 rfl rfl)
theorem dX1_nest_54 : decode cX1_nest 54 = .ok (.if_icmp .ge 52, 3) := dk_162 0 52 (dk_at dksX1_nest_2 8 rfl rfl)
theorem dX1_nest_57 : decode cX1_nest 57 = .ok (.aload_n 3, 1) := dk_45 (dk_at dksX1_nest_2 11 rfl rfl)
theorem dX1_nest_58 : decode cX1_nest 58 = .ok (.iload 6, 2) := dk_21 6 (dk_at dksX1_nest_2 12 rfl rfl)
theorem dX1_nest_60 : decode cX1_nest 60 = .ok (.baload, 1) := dk_51 (dk_at dksX1_nest_2 14 rfl rfl)
theorem dX1_nest_61 : decode cX1_nest 61 = .ok (.ifCond .ne 35, 3) := dk_154 0 35 (dk_at dksX1_nest_2 15 rfl rfl)
theorem dX1_nest_64 : decode cX1_nest 64 = .ok (.iload 5, 2) := dk_21 5 (dk_at dksX1_nest_2 18 rfl rfl)
theorem dX1_nest_66 : decode cX1_nest 66 = .ok (.iconst (-1), 1) := dk_2 (dk_at dksX1_nest_2 20 rfl rfl)
theorem dX1_nest_67 : decode cX1_nest 67 = .ok (.if_icmp .eq 24, 3) := dk_159 0 24 (dk_at dksX1_nest_2 21 rfl rfl)
theorem dX1_nest_70 : decode cX1_nest 70 = .ok (.aload_n 0, 1) := dk_42 (dk_at dksX1_nest_3 0 rfl rfl)
theorem dX1_nest_71 : decode cX1_nest 71 = .ok (.getfield 20, 3) := dk_180 0 20 (dk_at dksX1_nest_3 1 rfl rfl)
theorem dX1_nest_74 : decode cX1_nest 74 = .ok (.iload 6, 2) := dk_21 6 (dk_at dksX1_nest_3 4 rfl rfl)
theorem dX1_nest_76 : decode cX1_nest 76 = .ok (.invokevirtual 165, 3) := dk_182 0 165 (dk_at dksX1_nest_3 6 rfl rfl)
theorem dX1_nest_79 : decode cX1_nest 79 = .ok (.aload_n 0, 1) := dk_42 (dk_at dksX1_nest_3 9 rfl rfl)
theorem dX1_nest_80 : decode cX1_nest 80 = .ok (.getfield 20, 3) := dk_180 0 20 (dk_at dksX1_nest_3 10 rfl rfl)
theorem dX1_nest_83 : decode cX1_nest 83 = .ok (.iload 5, 2) := dk_21 5 (dk_at dksX1_nest_3 13 rfl rfl)
theorem dX1_nest_85 : decode cX1_nest 85 = .ok (.invokevirtual 165, 3) := dk_182 0 165 (dk_at dksX1_nest_3 15 rfl rfl)
theorem dX1_nest_88 : decode cX1_nest 88 = .ok (.if_icmp .le 8, 3) := dk_164 0 8 (dk_at dksX1_nest_3 18 rfl rfl)
theorem dX1_nest_91 : decode cX1_nest 91 = .ok (.iload 6, 2) := dk_21 6 (dk_at dksX1_nest_3 21 rfl rfl)
theorem dX1_nest_93 : decode cX1_nest 93 = .ok (.goto 5, 3) := dk_167 0 5 (dk_at dksX1_nest_4 0 rfl rfl)
theorem dX1_nest_96 : decode cX1_nest 96 = .ok (.iload 5, 2) := dk_21 5 (dk_at dksX1_nest_4 3 rfl rfl)
theorem dX1_nest_98 : decode cX1_nest 98 = .ok (.istore 5, 2) := dk_54 5 (dk_at dksX1_nest_4 5 rfl rfl)
theorem dX1_nest_100 : decode cX1_nest 100 = .ok (.iinc 6 1, 3) := dk_132 6 1 (dk_at dksX1_nest_4 7 rfl rfl)
theorem dX1_nest_103 : decode cX1_nest 103 = .ok (.goto (-52), 3) := dk_167 255 204 (dk_at dksX1_nest_4 10 rfl rfl)
theorem dX1_nest_106 : decode cX1_nest 106 = .ok (.aload_n 3, 1) := dk_45 (dk_at dksX1_nest_4 13 rfl rfl)
theorem dX1_nest_107 : decode cX1_nest 107 = .ok (.iload 5, 2) := dk_21 5 (dk_at dksX1_nest_4 14 rfl rfl)
theorem dX1_nest_109 : decode cX1_nest 109 = .ok (.iconst 1, 1) := dk_4 (dk_at dksX1_nest_4 16 rfl rfl)
theorem dX1_nest_110 : decode cX1_nest 110 = .ok (.bastore, 1) := dk_84 (dk_at dksX1_nest_4 17 rfl rfl)
theorem dX1_nest_111 : decode cX1_nest 111 = .ok (.aload_n 0, 1) := dk_42 (dk_at dksX1_nest_4 18 rfl rfl)
theorem dX1_nest_112 : decode cX1_nest 112 = .ok (.getfield 20, 3) := dk_180 0 20 (dk_at dksX1_nest_4 19 rfl rfl)
theorem dX1_nest_115 : decode cX1_nest 115 = .ok (.iload 5, 2) := dk_21 5 (dk_at dksX1_nest_4 22 rfl rfl)
theorem dX1_nest_117 : decode cX1_nest 117 = .ok (.invokevirtual 165, 3) := dk_182 0 165 (dk_at dksX1_nest_5 0 rfl rfl)
theorem dX1_nest_120 : decode cX1_nest 120 = .ok (.aload_n 0, 1) := dk_42 (dk_at dksX1_nest_5 3 rfl rfl)
theorem dX1_nest_121 : decode cX1_nest 121 = .ok (.getfield 38, 3) := dk_180 0 38 (dk_at dksX1_nest_5 4 rfl rfl)
theorem dX1_nest_124 : decode cX1_nest 124 = .ok (.if_icmp .le 13, 3) := dk_164 0 13 (dk_at dksX1_nest_5 7 rfl rfl)
theorem dX1_nest_127 : decode cX1_nest 127 = .ok (.new 168, 3) := dk_187 0 168 (dk_at dksX1_nest_5 10 rfl rfl)
theorem dX1_nest_130 : decode cX1_nest 130 = .ok (.dup, 1) := dk_89 (dk_at dksX1_nest_5 13 rfl rfl)
theorem dX1_nest_131 : decode cX1_nest 131 = .ok (.invokespecial 170, 3) := dk_183 0 170 (dk_at dksX1_nest_5 14 rfl rfl)
theorem dX1_nest_134 : decode cX1_nest 134 = .ok (.goto 11, 3) := dk_167 0 11 (dk_at dksX1_nest_5 17 rfl rfl)
theorem dX1_nest_137 : decode cX1_nest 137 = .ok (.new 171, 3) := dk_187 0 171 (dk_at dksX1_nest_5 20 rfl rfl)
theorem dX1_nest_140 : decode cX1_nest 140 = .ok (.dup, 1) := dk_89 (dk_at dksX1_nest_5 23 rfl rfl)
theorem dX1_nest_141 : decode cX1_nest 141 = .ok (.aload_n 0, 1) := dk_42 (dk_at dksX1_nest_6 0 rfl rfl)
theorem dX1_nest_142 : decode cX1_nest 142 = .ok (.invokespecial 173, 3) := dk_183 0 173 (dk_at dksX1_nest_6 1 rfl rfl)
theorem dX1_nest_145 : decode cX1_nest 145 = .ok (.astore 6, 2) := dk_58 6 (dk_at dksX1_nest_6 4 rfl rfl)
theorem dX1_nest_147 : decode cX1_nest 147 = .ok (.aload_n 1, 1) := dk_43 (dk_at dksX1_nest_6 6 rfl rfl)
theorem dX1_nest_148 : decode cX1_nest 148 = .ok (.iconst 2, 1) := dk_5 (dk_at dksX1_nest_6 7 rfl rfl)
theorem dX1_nest_149 : decode cX1_nest 149 = .ok (.iload 5, 2) := dk_21 5 (dk_at dksX1_nest_6 8 rfl rfl)
theorem dX1_nest_151 : decode cX1_nest 151 = .ok (.imul, 1) := dk_104 (dk_at dksX1_nest_6 10 rfl rfl)
theorem dX1_nest_152 : decode cX1_nest 152 = .ok (.aload 6, 2) := dk_25 6 (dk_at dksX1_nest_6 11 rfl rfl)
theorem dX1_nest_154 : decode cX1_nest 154 = .ok (.aload_n 2, 1) := dk_44 (dk_at dksX1_nest_6 13 rfl rfl)
theorem dX1_nest_155 : decode cX1_nest 155 = .ok (.aload_n 0, 1) := dk_42 (dk_at dksX1_nest_6 14 rfl rfl)
theorem dX1_nest_156 : decode cX1_nest 156 = .ok (.getfield 20, 3) := dk_180 0 20 (dk_at dksX1_nest_6 15 rfl rfl)
theorem dX1_nest_159 : decode cX1_nest 159 = .ok (.iload 5, 2) := dk_21 5 (dk_at dksX1_nest_6 18 rfl rfl)
theorem dX1_nest_161 : decode cX1_nest 161 = .ok (.invokevirtual 165, 3) := dk_182 0 165 (dk_at dksX1_nest_6 20 rfl rfl)
theorem dX1_nest_164 : decode cX1_nest 164 = .ok (.aload_n 0, 1) := dk_42 (dk_at dksX1_nest_6 23 rfl rfl)
theorem dX1_nest_165 : decode cX1_nest 165 = .ok (.getfield 38, 3) := dk_180 0 38 (dk_at dksX1_nest_7 0 rfl rfl)
theorem dX1_nest_168 : decode cX1_nest 168 = .ok (.invokevirtual 174, 3) := dk_182 0 174 (dk_at dksX1_nest_7 3 rfl rfl)
theorem dX1_nest_171 : decode cX1_nest 171 = .ok (.iastore, 1) := dk_79 (dk_at dksX1_nest_7 6 rfl rfl)
theorem dX1_nest_172 : decode cX1_nest 172 = .ok (.aload_n 1, 1) := dk_43 (dk_at dksX1_nest_7 7 rfl rfl)
theorem dX1_nest_173 : decode cX1_nest 173 = .ok (.iconst 2, 1) := dk_5 (dk_at dksX1_nest_7 8 rfl rfl)
theorem dX1_nest_174 : decode cX1_nest 174 = .ok (.iload 5, 2) := dk_21 5 (dk_at dksX1_nest_7 9 rfl rfl)
theorem dX1_nest_176 : decode cX1_nest 176 = .ok (.imul, 1) := dk_104 (dk_at dksX1_nest_7 11 rfl rfl)
theorem dX1_nest_177 : decode cX1_nest 177 = .ok (.iconst 1, 1) := dk_4 (dk_at dksX1_nest_7 12 rfl rfl)
theorem dX1_nest_178 : decode cX1_nest 178 = .ok (.iadd, 1) := dk_96 (dk_at dksX1_nest_7 13 rfl rfl)
theorem dX1_nest_179 : decode cX1_nest 179 = .ok (.aload 6, 2) := dk_25 6 (dk_at dksX1_nest_7 14 rfl rfl)
theorem dX1_nest_181 : decode cX1_nest 181 = .ok (.aload_n 2, 1) := dk_44 (dk_at dksX1_nest_7 16 rfl rfl)
theorem dX1_nest_182 : decode cX1_nest 182 = .ok (.aload_n 0, 1) := dk_42 (dk_at dksX1_nest_7 17 rfl rfl)
theorem dX1_nest_183 : decode cX1_nest 183 = .ok (.getfield 20, 3) := dk_180 0 20 (dk_at dksX1_nest_7 18 rfl rfl)
theorem dX1_nest_186 : decode cX1_nest 186 = .ok (.iload 5, 2) := dk_21 5 (dk_at dksX1_nest_7 21 rfl rfl)
theorem dX1_nest_188 : decode cX1_nest 188 = .ok (.invokevirtual 165, 3) := dk_182 0 165 (dk_at dksX1_nest_8 0 rfl rfl)
theorem dX1_nest_191 : decode cX1_nest 191 = .ok (.aload_n 0, 1) := dk_42 (dk_at dksX1_nest_8 3 rfl rfl)
theorem dX1_nest_192 : decode cX1_nest 192 = .ok (.getfield 38, 3) := dk_180 0 38 (dk_at dksX1_nest_8 4 rfl rfl)
theorem dX1_nest_195 : decode cX1_nest 195 = .ok (.invokevirtual 174, 3) := dk_182 0 174 (dk_at dksX1_nest_8 7 rfl rfl)
theorem dX1_nest_198 : decode cX1_nest 198 = .ok (.iastore, 1) := dk_79 (dk_at dksX1_nest_8 10 rfl rfl)
theorem dX1_nest_199 : decode cX1_nest 199 = .ok (.iinc 4 1, 3) := dk_132 4 1 (dk_at dksX1_nest_8 11 rfl rfl)
theorem dX1_nest_202 : decode cX1_nest 202 = .ok (.goto (-163), 3) := dk_167 255 93 (dk_at dksX1_nest_8 14 rfl rfl)
theorem dX1_nest_205 : decode cX1_nest 205 = .ok (.aload_n 2, 1) := dk_44 (dk_at dksX1_nest_8 17 rfl rfl)
theorem dX1_nest_206 : decode cX1_nest 206 = .ok (.astore 4, 2) := dk_58 4 (dk_at dksX1_nest_8 18 rfl rfl)
theorem dX1_nest_208 : decode cX1_nest 208 = .ok (.aload 4, 2) := dk_25 4 (dk_at dksX1_nest_8 20 rfl rfl)
theorem dX1_nest_210 : decode cX1_nest 210 = .ok (.arraylength, 1) := dk_190 (dk_at dksX1_nest_8 22 rfl rfl)
theorem dX1_nest_211 : decode cX1_nest 211 = .ok (.istore 5, 2) := dk_54 5 (dk_at dksX1_nest_9 0 rfl rfl)
theorem dX1_nest_213 : decode cX1_nest 213 = .ok (.iconst 0, 1) := dk_3 (dk_at dksX1_nest_9 2 rfl rfl)
theorem dX1_nest_214 : decode cX1_nest 214 = .ok (.istore 6, 2) := dk_54 6 (dk_at dksX1_nest_9 3 rfl rfl)
theorem dX1_nest_216 : decode cX1_nest 216 = .ok (.iload 6, 2) := dk_21 6 (dk_at dksX1_nest_9 5 rfl rfl)
theorem dX1_nest_218 : decode cX1_nest 218 = .ok (.iload 5, 2) := dk_21 5 (dk_at dksX1_nest_9 7 rfl rfl)
theorem dX1_nest_220 : decode cX1_nest 220 = .ok (.if_icmp .ge 37, 3) := dk_162 0 37 (dk_at dksX1_nest_9 9 rfl rfl)
theorem dX1_nest_223 : decode cX1_nest 223 = .ok (.aload 4, 2) := dk_25 4 (dk_at dksX1_nest_9 12 rfl rfl)
theorem dX1_nest_225 : decode cX1_nest 225 = .ok (.iload 6, 2) := dk_21 6 (dk_at dksX1_nest_9 14 rfl rfl)
theorem dX1_nest_227 : decode cX1_nest 227 = .ok (.iaload, 1) := dk_46 (dk_at dksX1_nest_9 16 rfl rfl)
theorem dX1_nest_228 : decode cX1_nest 228 = .ok (.istore 7, 2) := dk_54 7 (dk_at dksX1_nest_9 17 rfl rfl)
theorem dX1_nest_230 : decode cX1_nest 230 = .ok (.aload_n 1, 1) := dk_43 (dk_at dksX1_nest_9 19 rfl rfl)
theorem dX1_nest_231 : decode cX1_nest 231 = .ok (.bipush 10, 2) := dk_16 10 (dk_at dksX1_nest_9 20 rfl rfl)
theorem dX1_nest_233 : decode cX1_nest 233 = .ok (.dup2, 1) := dk_92 (dk_at dksX1_nest_9 22 rfl rfl)
theorem dX1_nest_234 : decode cX1_nest 234 = .ok (.iaload, 1) := dk_46 (dk_at dksX1_nest_9 23 rfl rfl)
theorem dX1_nest_235 : decode cX1_nest 235 = .ok (.iload 7, 2) := dk_21 7 (dk_at dksX1_nest_10 0 rfl rfl)
theorem dX1_nest_237 : decode cX1_nest 237 = .ok (.aload_n 0, 1) := dk_42 (dk_at dksX1_nest_10 2 rfl rfl)
theorem dX1_nest_238 : decode cX1_nest 238 = .ok (.getfield 38, 3) := dk_180 0 38 (dk_at dksX1_nest_10 3 rfl rfl)
theorem dX1_nest_241 : decode cX1_nest 241 = .ok (.if_icmp .ge 7, 3) := dk_162 0 7 (dk_at dksX1_nest_10 6 rfl rfl)
theorem dX1_nest_244 : decode cX1_nest 244 = .ok (.iconst 1, 1) := dk_4 (dk_at dksX1_nest_10 9 rfl rfl)
theorem dX1_nest_245 : decode cX1_nest 245 = .ok (.goto 4, 3) := dk_167 0 4 (dk_at dksX1_nest_10 10 rfl rfl)
theorem dX1_nest_248 : decode cX1_nest 248 = .ok (.iconst 0, 1) := dk_3 (dk_at dksX1_nest_10 13 rfl rfl)
theorem dX1_nest_249 : decode cX1_nest 249 = .ok (.iadd, 1) := dk_96 (dk_at dksX1_nest_10 14 rfl rfl)
theorem dX1_nest_250 : decode cX1_nest 250 = .ok (.iastore, 1) := dk_79 (dk_at dksX1_nest_10 15 rfl rfl)
theorem dX1_nest_251 : decode cX1_nest 251 = .ok (.iinc 6 1, 3) := dk_132 6 1 (dk_at dksX1_nest_10 16 rfl rfl)
theorem dX1_nest_254 : decode cX1_nest 254 = .ok (.goto (-38), 3) := dk_167 255 218 (dk_at dksX1_nest_10 19 rfl rfl)
theorem dX1_nest_257 : decode cX1_nest 257 = .ok (.aload_n 1, 1) := dk_43 (dk_at dksX1_nest_10 22 rfl rfl)
theorem dX1_nest_258 : decode cX1_nest 258 = .ok (.areturn, 1) := dk_176 (dk_at dksX1_nest_10 23 rfl rfl)
abbrev cX1_plankOf : ByteArray := prog_1_method_30_code
def yX1_plankOf : MethodName := ⟨RX1, "plankOf", "(IZ)I"⟩
def dkwX1_plankOf_1 : List UInt8 := [3, 96, 46, 172]
abbrev dktX1_plankOf_1 : List UInt8 := dkwX1_plankOf_1 ++ []
def dkwX1_plankOf_0 : List UInt8 := [27, 3, 7, 184, 0, 51, 184, 0, 55, 42, 182, 0, 180, 5, 27, 104, 28, 153, 0, 7, 4, 167, 0, 4]
abbrev dktX1_plankOf_0 : List UInt8 := dkwX1_plankOf_0 ++ dktX1_plankOf_1
theorem dksX1_plankOf_0 : cX1_plankOf.data.toList.drop 0 = dktX1_plankOf_0 := by decide +kernel
theorem dksX1_plankOf_1 : cX1_plankOf.data.toList.drop 24 = dktX1_plankOf_1 := dk_seg dksX1_plankOf_0 24 rfl rfl
theorem dX1_plankOf_0 : decode cX1_plankOf 0 = .ok (.iload_n 1, 1) := dk_27 (dk_at dksX1_plankOf_0 0 rfl rfl)
theorem dX1_plankOf_1 : decode cX1_plankOf 1 = .ok (.iconst 0, 1) := dk_3 (dk_at dksX1_plankOf_0 1 rfl rfl)
theorem dX1_plankOf_2 : decode cX1_plankOf 2 = .ok (.iconst 4, 1) := dk_7 (dk_at dksX1_plankOf_0 2 rfl rfl)
theorem dX1_plankOf_3 : decode cX1_plankOf 3 = .ok (.invokestatic 51, 3) := dk_184 0 51 (dk_at dksX1_plankOf_0 3 rfl rfl)
theorem dX1_plankOf_6 : decode cX1_plankOf 6 = .ok (.invokestatic 55, 3) := dk_184 0 55 (dk_at dksX1_plankOf_0 6 rfl rfl)
theorem dX1_plankOf_9 : decode cX1_plankOf 9 = .ok (.aload_n 0, 1) := dk_42 (dk_at dksX1_plankOf_0 9 rfl rfl)
theorem dX1_plankOf_10 : decode cX1_plankOf 10 = .ok (.invokevirtual 180, 3) := dk_182 0 180 (dk_at dksX1_plankOf_0 10 rfl rfl)
theorem dX1_plankOf_13 : decode cX1_plankOf 13 = .ok (.iconst 2, 1) := dk_5 (dk_at dksX1_plankOf_0 13 rfl rfl)
theorem dX1_plankOf_14 : decode cX1_plankOf 14 = .ok (.iload_n 1, 1) := dk_27 (dk_at dksX1_plankOf_0 14 rfl rfl)
theorem dX1_plankOf_15 : decode cX1_plankOf 15 = .ok (.imul, 1) := dk_104 (dk_at dksX1_plankOf_0 15 rfl rfl)
theorem dX1_plankOf_16 : decode cX1_plankOf 16 = .ok (.iload_n 2, 1) := dk_28 (dk_at dksX1_plankOf_0 16 rfl rfl)
theorem dX1_plankOf_17 : decode cX1_plankOf 17 = .ok (.ifCond .eq 7, 3) := dk_153 0 7 (dk_at dksX1_plankOf_0 17 rfl rfl)
theorem dX1_plankOf_20 : decode cX1_plankOf 20 = .ok (.iconst 1, 1) := dk_4 (dk_at dksX1_plankOf_0 20 rfl rfl)
theorem dX1_plankOf_21 : decode cX1_plankOf 21 = .ok (.goto 4, 3) := dk_167 0 4 (dk_at dksX1_plankOf_0 21 rfl rfl)
theorem dX1_plankOf_24 : decode cX1_plankOf 24 = .ok (.iconst 0, 1) := dk_3 (dk_at dksX1_plankOf_1 0 rfl rfl)
theorem dX1_plankOf_25 : decode cX1_plankOf 25 = .ok (.iadd, 1) := dk_96 (dk_at dksX1_plankOf_1 1 rfl rfl)
theorem dX1_plankOf_26 : decode cX1_plankOf 26 = .ok (.iaload, 1) := dk_46 (dk_at dksX1_plankOf_1 2 rfl rfl)
theorem dX1_plankOf_27 : decode cX1_plankOf 27 = .ok (.ireturn, 1) := dk_172 (dk_at dksX1_plankOf_1 3 rfl rfl)
abbrev cX1_tide : ByteArray := prog_1_method_32_code
def yX1_tide : MethodName := ⟨RX1, "tide", "(II)I"⟩
def dkwX1_tide_3 : List UInt8 := [182, 0, 205, 62, 42, 180, 0, 34, 27, 184, 0, 183, 28, 184, 0, 183, 185, 0, 208, 3, 0, 87, 29, 172]
abbrev dktX1_tide_3 : List UInt8 := dkwX1_tide_3 ++ []
def dkwX1_tide_2 : List UInt8 := [180, 0, 34, 185, 0, 202, 1, 0, 16, 40, 162, 0, 7, 4, 167, 0, 4, 3, 184, 0, 73, 42, 27]
abbrev dktX1_tide_2 : List UInt8 := dkwX1_tide_2 ++ dktX1_tide_3
def dkwX1_tide_1 : List UInt8 := [167, 0, 4, 3, 184, 0, 66, 42, 180, 0, 34, 27, 184, 0, 183, 185, 0, 198, 2, 0, 154, 0, 17, 42]
abbrev dktX1_tide_1 : List UInt8 := dkwX1_tide_1 ++ dktX1_tide_2
def dkwX1_tide_0 : List UInt8 := [27, 3, 17, 39, 15, 184, 0, 51, 153, 0, 17, 28, 3, 16, 99, 184, 0, 51, 153, 0, 7, 4]
abbrev dktX1_tide_0 : List UInt8 := dkwX1_tide_0 ++ dktX1_tide_1
theorem dksX1_tide_0 : cX1_tide.data.toList.drop 0 = dktX1_tide_0 := by decide +kernel
theorem dksX1_tide_1 : cX1_tide.data.toList.drop 22 = dktX1_tide_1 := dk_seg dksX1_tide_0 22 rfl rfl
theorem dksX1_tide_2 : cX1_tide.data.toList.drop 46 = dktX1_tide_2 := dk_seg dksX1_tide_1 24 rfl rfl
theorem dksX1_tide_3 : cX1_tide.data.toList.drop 69 = dktX1_tide_3 := dk_seg dksX1_tide_2 23 rfl rfl
theorem dX1_tide_0 : decode cX1_tide 0 = .ok (.iload_n 1, 1) := dk_27 (dk_at dksX1_tide_0 0 rfl rfl)
theorem dX1_tide_1 : decode cX1_tide 1 = .ok (.iconst 0, 1) := dk_3 (dk_at dksX1_tide_0 1 rfl rfl)
theorem dX1_tide_2 : decode cX1_tide 2 = .ok (.sipush 9999, 3) := dk_17 39 15 (dk_at dksX1_tide_0 2 rfl rfl)
theorem dX1_tide_5 : decode cX1_tide 5 = .ok (.invokestatic 51, 3) := dk_184 0 51 (dk_at dksX1_tide_0 5 rfl rfl)
theorem dX1_tide_8 : decode cX1_tide 8 = .ok (.ifCond .eq 17, 3) := dk_153 0 17 (dk_at dksX1_tide_0 8 rfl rfl)
theorem dX1_tide_11 : decode cX1_tide 11 = .ok (.iload_n 2, 1) := dk_28 (dk_at dksX1_tide_0 11 rfl rfl)
theorem dX1_tide_12 : decode cX1_tide 12 = .ok (.iconst 0, 1) := dk_3 (dk_at dksX1_tide_0 12 rfl rfl)
theorem dX1_tide_13 : decode cX1_tide 13 = .ok (.bipush 99, 2) := dk_16 99 (dk_at dksX1_tide_0 13 rfl rfl)
theorem dX1_tide_15 : decode cX1_tide 15 = .ok (.invokestatic 51, 3) := dk_184 0 51 (dk_at dksX1_tide_0 15 rfl rfl)
theorem dX1_tide_18 : decode cX1_tide 18 = .ok (.ifCond .eq 7, 3) := dk_153 0 7 (dk_at dksX1_tide_0 18 rfl rfl)
theorem dX1_tide_21 : decode cX1_tide 21 = .ok (.iconst 1, 1) := dk_4 (dk_at dksX1_tide_0 21 rfl rfl)
theorem dX1_tide_22 : decode cX1_tide 22 = .ok (.goto 4, 3) := dk_167 0 4 (dk_at dksX1_tide_1 0 rfl rfl)
theorem dX1_tide_25 : decode cX1_tide 25 = .ok (.iconst 0, 1) := dk_3 (dk_at dksX1_tide_1 3 rfl rfl)
theorem dX1_tide_26 : decode cX1_tide 26 = .ok (.invokestatic 66, 3) := dk_184 0 66 (dk_at dksX1_tide_1 4 rfl rfl)
theorem dX1_tide_29 : decode cX1_tide 29 = .ok (.aload_n 0, 1) := dk_42 (dk_at dksX1_tide_1 7 rfl rfl)
theorem dX1_tide_30 : decode cX1_tide 30 = .ok (.getfield 34, 3) := dk_180 0 34 (dk_at dksX1_tide_1 8 rfl rfl)
theorem dX1_tide_33 : decode cX1_tide 33 = .ok (.iload_n 1, 1) := dk_27 (dk_at dksX1_tide_1 11 rfl rfl)
theorem dX1_tide_34 : decode cX1_tide 34 = .ok (.invokestatic 183, 3) := dk_184 0 183 (dk_at dksX1_tide_1 12 rfl rfl)
theorem dX1_tide_37 : decode cX1_tide 37 = .ok (.invokeinterface 198 2, 5) := by decide +kernel
theorem dX1_tide_42 : decode cX1_tide 42 = .ok (.ifCond .ne 17, 3) := dk_154 0 17 (dk_at dksX1_tide_1 20 rfl rfl)
theorem dX1_tide_45 : decode cX1_tide 45 = .ok (.aload_n 0, 1) := dk_42 (dk_at dksX1_tide_1 23 rfl rfl)
theorem dX1_tide_46 : decode cX1_tide 46 = .ok (.getfield 34, 3) := dk_180 0 34 (dk_at dksX1_tide_2 0 rfl rfl)
theorem dX1_tide_49 : decode cX1_tide 49 = .ok (.invokeinterface 202 1, 5) := by decide +kernel
theorem dX1_tide_54 : decode cX1_tide 54 = .ok (.bipush 40, 2) := dk_16 40 (dk_at dksX1_tide_2 8 rfl rfl)
theorem dX1_tide_56 : decode cX1_tide 56 = .ok (.if_icmp .ge 7, 3) := dk_162 0 7 (dk_at dksX1_tide_2 10 rfl rfl)
theorem dX1_tide_59 : decode cX1_tide 59 = .ok (.iconst 1, 1) := dk_4 (dk_at dksX1_tide_2 13 rfl rfl)
theorem dX1_tide_60 : decode cX1_tide 60 = .ok (.goto 4, 3) := dk_167 0 4 (dk_at dksX1_tide_2 14 rfl rfl)
theorem dX1_tide_63 : decode cX1_tide 63 = .ok (.iconst 0, 1) := dk_3 (dk_at dksX1_tide_2 17 rfl rfl)
theorem dX1_tide_64 : decode cX1_tide 64 = .ok (.invokestatic 73, 3) := dk_184 0 73 (dk_at dksX1_tide_2 18 rfl rfl)
theorem dX1_tide_67 : decode cX1_tide 67 = .ok (.aload_n 0, 1) := dk_42 (dk_at dksX1_tide_2 21 rfl rfl)
theorem dX1_tide_68 : decode cX1_tide 68 = .ok (.iload_n 1, 1) := dk_27 (dk_at dksX1_tide_2 22 rfl rfl)
theorem dX1_tide_69 : decode cX1_tide 69 = .ok (.invokevirtual 205, 3) := dk_182 0 205 (dk_at dksX1_tide_3 0 rfl rfl)
theorem dX1_tide_72 : decode cX1_tide 72 = .ok (.istore_n 3, 1) := dk_62 (dk_at dksX1_tide_3 3 rfl rfl)
theorem dX1_tide_73 : decode cX1_tide 73 = .ok (.aload_n 0, 1) := dk_42 (dk_at dksX1_tide_3 4 rfl rfl)
theorem dX1_tide_74 : decode cX1_tide 74 = .ok (.getfield 34, 3) := dk_180 0 34 (dk_at dksX1_tide_3 5 rfl rfl)
theorem dX1_tide_77 : decode cX1_tide 77 = .ok (.iload_n 1, 1) := dk_27 (dk_at dksX1_tide_3 8 rfl rfl)
theorem dX1_tide_78 : decode cX1_tide 78 = .ok (.invokestatic 183, 3) := dk_184 0 183 (dk_at dksX1_tide_3 9 rfl rfl)
theorem dX1_tide_81 : decode cX1_tide 81 = .ok (.iload_n 2, 1) := dk_28 (dk_at dksX1_tide_3 12 rfl rfl)
theorem dX1_tide_82 : decode cX1_tide 82 = .ok (.invokestatic 183, 3) := dk_184 0 183 (dk_at dksX1_tide_3 13 rfl rfl)
theorem dX1_tide_85 : decode cX1_tide 85 = .ok (.invokeinterface 208 3, 5) := by decide +kernel
theorem dX1_tide_90 : decode cX1_tide 90 = .ok (.pop, 1) := dk_87 (dk_at dksX1_tide_3 21 rfl rfl)
theorem dX1_tide_91 : decode cX1_tide 91 = .ok (.iload_n 3, 1) := dk_29 (dk_at dksX1_tide_3 22 rfl rfl)
theorem dX1_tide_92 : decode cX1_tide 92 = .ok (.ireturn, 1) := dk_172 (dk_at dksX1_tide_3 23 rfl rfl)
abbrev cX1_sill : ByteArray := prog_1_method_33_code
def yX1_sill : MethodName := ⟨RX1, "sill", "(I)I"⟩
def dkwX1_sill_0 : List UInt8 := [27, 3, 16, 50, 184, 0, 51, 184, 0, 66, 42, 180, 0, 212, 61, 42, 27, 181, 0, 212, 28, 172]
abbrev dktX1_sill_0 : List UInt8 := dkwX1_sill_0 ++ []
theorem dksX1_sill_0 : cX1_sill.data.toList.drop 0 = dktX1_sill_0 := by decide +kernel
theorem dX1_sill_0 : decode cX1_sill 0 = .ok (.iload_n 1, 1) := dk_27 (dk_at dksX1_sill_0 0 rfl rfl)
theorem dX1_sill_1 : decode cX1_sill 1 = .ok (.iconst 0, 1) := dk_3 (dk_at dksX1_sill_0 1 rfl rfl)
theorem dX1_sill_2 : decode cX1_sill 2 = .ok (.bipush 50, 2) := dk_16 50 (dk_at dksX1_sill_0 2 rfl rfl)
theorem dX1_sill_4 : decode cX1_sill 4 = .ok (.invokestatic 51, 3) := dk_184 0 51 (dk_at dksX1_sill_0 4 rfl rfl)
theorem dX1_sill_7 : decode cX1_sill 7 = .ok (.invokestatic 66, 3) := dk_184 0 66 (dk_at dksX1_sill_0 7 rfl rfl)
theorem dX1_sill_10 : decode cX1_sill 10 = .ok (.aload_n 0, 1) := dk_42 (dk_at dksX1_sill_0 10 rfl rfl)
theorem dX1_sill_11 : decode cX1_sill 11 = .ok (.getfield 212, 3) := dk_180 0 212 (dk_at dksX1_sill_0 11 rfl rfl)
theorem dX1_sill_14 : decode cX1_sill 14 = .ok (.istore_n 2, 1) := dk_61 (dk_at dksX1_sill_0 14 rfl rfl)
theorem dX1_sill_15 : decode cX1_sill 15 = .ok (.aload_n 0, 1) := dk_42 (dk_at dksX1_sill_0 15 rfl rfl)
theorem dX1_sill_16 : decode cX1_sill 16 = .ok (.iload_n 1, 1) := dk_27 (dk_at dksX1_sill_0 16 rfl rfl)
theorem dX1_sill_17 : decode cX1_sill 17 = .ok (.putfield 212, 3) := dk_181 0 212 (dk_at dksX1_sill_0 17 rfl rfl)
theorem dX1_sill_20 : decode cX1_sill 20 = .ok (.iload_n 2, 1) := dk_28 (dk_at dksX1_sill_0 20 rfl rfl)
theorem dX1_sill_21 : decode cX1_sill 21 = .ok (.ireturn, 1) := dk_172 (dk_at dksX1_sill_0 21 rfl rfl)
abbrev cX1_launch : ByteArray := prog_1_method_36_code
def yX1_launch : MethodName := ⟨RX1, "launch", "()I"⟩
def dkwX1_launch_2 : List UInt8 := [172]
abbrev dktX1_launch_2 : List UInt8 := dkwX1_launch_2 ++ []
def dkwX1_launch_1 : List UInt8 := [159, 0, 12, 28, 27, 161, 0, 7, 4, 167, 0, 4, 3, 184, 0, 73, 42, 4, 181, 0, 69, 28, 27, 100]
abbrev dktX1_launch_1 : List UInt8 := dkwX1_launch_1 ++ dktX1_launch_2
def dkwX1_launch_0 : List UInt8 := [42, 182, 0, 221, 60, 42, 42, 180, 0, 224, 182, 0, 205, 61, 42, 180, 0, 69, 154, 0, 17, 27, 2]
abbrev dktX1_launch_0 : List UInt8 := dkwX1_launch_0 ++ dktX1_launch_1
theorem dksX1_launch_0 : cX1_launch.data.toList.drop 0 = dktX1_launch_0 := by decide +kernel
theorem dksX1_launch_1 : cX1_launch.data.toList.drop 23 = dktX1_launch_1 := dk_seg dksX1_launch_0 23 rfl rfl
theorem dksX1_launch_2 : cX1_launch.data.toList.drop 47 = dktX1_launch_2 := dk_seg dksX1_launch_1 24 rfl rfl
theorem dX1_launch_0 : decode cX1_launch 0 = .ok (.aload_n 0, 1) := dk_42 (dk_at dksX1_launch_0 0 rfl rfl)
theorem dX1_launch_1 : decode cX1_launch 1 = .ok (.invokevirtual 221, 3) := dk_182 0 221 (dk_at dksX1_launch_0 1 rfl rfl)
theorem dX1_launch_4 : decode cX1_launch 4 = .ok (.istore_n 1, 1) := dk_60 (dk_at dksX1_launch_0 4 rfl rfl)
theorem dX1_launch_5 : decode cX1_launch 5 = .ok (.aload_n 0, 1) := dk_42 (dk_at dksX1_launch_0 5 rfl rfl)
theorem dX1_launch_6 : decode cX1_launch 6 = .ok (.aload_n 0, 1) := dk_42 (dk_at dksX1_launch_0 6 rfl rfl)
theorem dX1_launch_7 : decode cX1_launch 7 = .ok (.getfield 224, 3) := dk_180 0 224 (dk_at dksX1_launch_0 7 rfl rfl)
theorem dX1_launch_10 : decode cX1_launch 10 = .ok (.invokevirtual 205, 3) := dk_182 0 205 (dk_at dksX1_launch_0 10 rfl rfl)
theorem dX1_launch_13 : decode cX1_launch 13 = .ok (.istore_n 2, 1) := dk_61 (dk_at dksX1_launch_0 13 rfl rfl)
theorem dX1_launch_14 : decode cX1_launch 14 = .ok (.aload_n 0, 1) := dk_42 (dk_at dksX1_launch_0 14 rfl rfl)
theorem dX1_launch_15 : decode cX1_launch 15 = .ok (.getfield 69, 3) := dk_180 0 69 (dk_at dksX1_launch_0 15 rfl rfl)
theorem dX1_launch_18 : decode cX1_launch 18 = .ok (.ifCond .ne 17, 3) := dk_154 0 17 (dk_at dksX1_launch_0 18 rfl rfl)
theorem dX1_launch_21 : decode cX1_launch 21 = .ok (.iload_n 1, 1) := dk_27 (dk_at dksX1_launch_0 21 rfl rfl)
theorem dX1_launch_22 : decode cX1_launch 22 = .ok (.iconst (-1), 1) := dk_2 (dk_at dksX1_launch_0 22 rfl rfl)
theorem dX1_launch_23 : decode cX1_launch 23 = .ok (.if_icmp .eq 12, 3) := dk_159 0 12 (dk_at dksX1_launch_1 0 rfl rfl)
theorem dX1_launch_26 : decode cX1_launch 26 = .ok (.iload_n 2, 1) := dk_28 (dk_at dksX1_launch_1 3 rfl rfl)
theorem dX1_launch_27 : decode cX1_launch 27 = .ok (.iload_n 1, 1) := dk_27 (dk_at dksX1_launch_1 4 rfl rfl)
theorem dX1_launch_28 : decode cX1_launch 28 = .ok (.if_icmp .lt 7, 3) := dk_161 0 7 (dk_at dksX1_launch_1 5 rfl rfl)
theorem dX1_launch_31 : decode cX1_launch 31 = .ok (.iconst 1, 1) := dk_4 (dk_at dksX1_launch_1 8 rfl rfl)
theorem dX1_launch_32 : decode cX1_launch 32 = .ok (.goto 4, 3) := dk_167 0 4 (dk_at dksX1_launch_1 9 rfl rfl)
theorem dX1_launch_35 : decode cX1_launch 35 = .ok (.iconst 0, 1) := dk_3 (dk_at dksX1_launch_1 12 rfl rfl)
theorem dX1_launch_36 : decode cX1_launch 36 = .ok (.invokestatic 73, 3) := dk_184 0 73 (dk_at dksX1_launch_1 13 rfl rfl)
theorem dX1_launch_39 : decode cX1_launch 39 = .ok (.aload_n 0, 1) := dk_42 (dk_at dksX1_launch_1 16 rfl rfl)
theorem dX1_launch_40 : decode cX1_launch 40 = .ok (.iconst 1, 1) := dk_4 (dk_at dksX1_launch_1 17 rfl rfl)
theorem dX1_launch_41 : decode cX1_launch 41 = .ok (.putfield 69, 3) := dk_181 0 69 (dk_at dksX1_launch_1 18 rfl rfl)
theorem dX1_launch_44 : decode cX1_launch 44 = .ok (.iload_n 2, 1) := dk_28 (dk_at dksX1_launch_1 21 rfl rfl)
theorem dX1_launch_45 : decode cX1_launch 45 = .ok (.iload_n 1, 1) := dk_27 (dk_at dksX1_launch_1 22 rfl rfl)
theorem dX1_launch_46 : decode cX1_launch 46 = .ok (.isub, 1) := dk_100 (dk_at dksX1_launch_1 23 rfl rfl)
theorem dX1_launch_47 : decode cX1_launch 47 = .ok (.ireturn, 1) := dk_172 (dk_at dksX1_launch_2 0 rfl rfl)
abbrev cX1_pass : ByteArray := prog_1_method_37_code
def yX1_pass : MethodName := ⟨RX1, "pass", "(I)I"⟩
def dkwX1_pass_1 : List UInt8 := [167, 0, 4, 3, 184, 0, 73, 42, 89, 180, 0, 224, 27, 96, 181, 0, 224, 42, 180, 0, 224, 172]
abbrev dktX1_pass_1 : List UInt8 := dkwX1_pass_1 ++ []
def dkwX1_pass_0 : List UInt8 := [27, 4, 16, 99, 184, 0, 51, 184, 0, 66, 42, 180, 0, 224, 27, 96, 17, 35, 40, 163, 0, 7, 4]
abbrev dktX1_pass_0 : List UInt8 := dkwX1_pass_0 ++ dktX1_pass_1
theorem dksX1_pass_0 : cX1_pass.data.toList.drop 0 = dktX1_pass_0 := by decide +kernel
theorem dksX1_pass_1 : cX1_pass.data.toList.drop 23 = dktX1_pass_1 := dk_seg dksX1_pass_0 23 rfl rfl
theorem dX1_pass_0 : decode cX1_pass 0 = .ok (.iload_n 1, 1) := dk_27 (dk_at dksX1_pass_0 0 rfl rfl)
theorem dX1_pass_1 : decode cX1_pass 1 = .ok (.iconst 1, 1) := dk_4 (dk_at dksX1_pass_0 1 rfl rfl)
theorem dX1_pass_2 : decode cX1_pass 2 = .ok (.bipush 99, 2) := dk_16 99 (dk_at dksX1_pass_0 2 rfl rfl)
theorem dX1_pass_4 : decode cX1_pass 4 = .ok (.invokestatic 51, 3) := dk_184 0 51 (dk_at dksX1_pass_0 4 rfl rfl)
theorem dX1_pass_7 : decode cX1_pass 7 = .ok (.invokestatic 66, 3) := dk_184 0 66 (dk_at dksX1_pass_0 7 rfl rfl)
theorem dX1_pass_10 : decode cX1_pass 10 = .ok (.aload_n 0, 1) := dk_42 (dk_at dksX1_pass_0 10 rfl rfl)
theorem dX1_pass_11 : decode cX1_pass 11 = .ok (.getfield 224, 3) := dk_180 0 224 (dk_at dksX1_pass_0 11 rfl rfl)
theorem dX1_pass_14 : decode cX1_pass 14 = .ok (.iload_n 1, 1) := dk_27 (dk_at dksX1_pass_0 14 rfl rfl)
theorem dX1_pass_15 : decode cX1_pass 15 = .ok (.iadd, 1) := dk_96 (dk_at dksX1_pass_0 15 rfl rfl)
theorem dX1_pass_16 : decode cX1_pass 16 = .ok (.sipush 9000, 3) := dk_17 35 40 (dk_at dksX1_pass_0 16 rfl rfl)
theorem dX1_pass_19 : decode cX1_pass 19 = .ok (.if_icmp .gt 7, 3) := dk_163 0 7 (dk_at dksX1_pass_0 19 rfl rfl)
theorem dX1_pass_22 : decode cX1_pass 22 = .ok (.iconst 1, 1) := dk_4 (dk_at dksX1_pass_0 22 rfl rfl)
theorem dX1_pass_23 : decode cX1_pass 23 = .ok (.goto 4, 3) := dk_167 0 4 (dk_at dksX1_pass_1 0 rfl rfl)
theorem dX1_pass_26 : decode cX1_pass 26 = .ok (.iconst 0, 1) := dk_3 (dk_at dksX1_pass_1 3 rfl rfl)
theorem dX1_pass_27 : decode cX1_pass 27 = .ok (.invokestatic 73, 3) := dk_184 0 73 (dk_at dksX1_pass_1 4 rfl rfl)
theorem dX1_pass_30 : decode cX1_pass 30 = .ok (.aload_n 0, 1) := dk_42 (dk_at dksX1_pass_1 7 rfl rfl)
theorem dX1_pass_31 : decode cX1_pass 31 = .ok (.dup, 1) := dk_89 (dk_at dksX1_pass_1 8 rfl rfl)
theorem dX1_pass_32 : decode cX1_pass 32 = .ok (.getfield 224, 3) := dk_180 0 224 (dk_at dksX1_pass_1 9 rfl rfl)
theorem dX1_pass_35 : decode cX1_pass 35 = .ok (.iload_n 1, 1) := dk_27 (dk_at dksX1_pass_1 12 rfl rfl)
theorem dX1_pass_36 : decode cX1_pass 36 = .ok (.iadd, 1) := dk_96 (dk_at dksX1_pass_1 13 rfl rfl)
theorem dX1_pass_37 : decode cX1_pass 37 = .ok (.putfield 224, 3) := dk_181 0 224 (dk_at dksX1_pass_1 14 rfl rfl)
theorem dX1_pass_40 : decode cX1_pass 40 = .ok (.aload_n 0, 1) := dk_42 (dk_at dksX1_pass_1 17 rfl rfl)
theorem dX1_pass_41 : decode cX1_pass 41 = .ok (.getfield 224, 3) := dk_180 0 224 (dk_at dksX1_pass_1 18 rfl rfl)
theorem dX1_pass_44 : decode cX1_pass 44 = .ok (.ireturn, 1) := dk_172 (dk_at dksX1_pass_1 21 rfl rfl)
theorem q32 : (Jvm.Cond.initialized "FairBatten") ∈ lw_all := lw_g (lw_at lw_m1 1 rfl) rfl
theorem q61 : (Jvm.Cond.instantiable "FairBatten" (7 : Nat)) ∈ lw_all := lw_g (lw_at lw_m1 30 rfl) rfl
theorem q63 : (Jvm.Cond.instanceMethod ({ cls := "FairBatten", name := "<init>", desc := "()V" } : Jvm.MethodName)) ∈ lw_all := lw_g (lw_at lw_m1 32 rfl) rfl
theorem q64 : (Jvm.Cond.code ({ cls := "FairBatten", name := "<init>", desc := "()V" } : Jvm.MethodName) prog_1_method_4_code (1 : Nat) (Option.none : Option Jvm.ClassFile.FieldType)) ∈ lw_all := lw_g (lw_at lw_m1 33 rfl) rfl
theorem q65 : (Jvm.Cond.methodLink "FairBatten" (9 : Nat) ({ cls := "java/lang/Object", name := "<init>", desc := "()V" } : Jvm.MethodName)) ∈ lw_all := lw_g (lw_at lw_m1 34 rfl) rfl
theorem q68 : (Jvm.Cond.classLink "FairBatten" (15 : Nat) "FairBatten$Hull") ∈ lw_all := lw_g (lw_at lw_m1 37 rfl) rfl
theorem q70 : (Jvm.Cond.methodLinkNest "FairBatten" (17 : Nat) ({ cls := "FairBatten$Hull", name := "<init>", desc := "(LFairBatten;)V" } : Jvm.MethodName) "FairBatten") ∈ lw_tbl := lw_at lw_m1 39 rfl
theorem q77 : (Jvm.Cond.fieldLinkNest "FairBatten" (76 : Nat) "FairBatten$Hull" "halves" "[[I" "FairBatten") ∈ lw_tbl := lw_at lw_m1 46 rfl
theorem q85 : (Jvm.Cond.classLink "FairBatten" (24 : Nat) "FairBatten$Cargo") ∈ lw_all := lw_g (lw_at lw_m1 54 rfl) rfl
theorem q87 : (Jvm.Cond.methodLinkNest "FairBatten" (26 : Nat) ({ cls := "FairBatten$Cargo", name := "<init>", desc := "()V" } : Jvm.MethodName) "FairBatten") ∈ lw_tbl := lw_at lw_m1 56 rfl
theorem q100 : (Jvm.Cond.fieldLinkNest "FairBatten" (124 : Nat) "FairBatten$Weight" "station" "I" "FairBatten") ∈ lw_tbl := lw_at lw_m1 69 rfl
theorem q103 : (Jvm.Cond.fieldLinkNest "FairBatten" (121 : Nat) "FairBatten$Weight" "weight" "I" "FairBatten") ∈ lw_tbl := lw_at lw_m1 72 rfl
theorem q111 : (Jvm.Cond.fieldLinkNest "FairBatten" (112 : Nat) "FairBatten$Cargo" "weights" "[LFairBatten$Weight;" "FairBatten") ∈ lw_tbl := lw_at lw_m1 80 rfl
theorem q113 : (Jvm.Cond.fieldLinkNest "FairBatten" (109 : Nat) "FairBatten$Cargo" "many" "I" "FairBatten") ∈ lw_tbl := lw_at lw_m1 82 rfl
theorem q116 : (Jvm.Cond.fieldLinkNest "FairBatten" (148 : Nat) "FairBatten$Cargo" "ballast" "LFairBatten$Weight;" "FairBatten") ∈ lw_tbl := lw_at lw_m1 85 rfl
theorem q124 : (Jvm.Cond.classLink "FairBatten" (31 : Nat) "java/util/HashMap") ∈ lw_all := lw_g (lw_at lw_m1 93 rfl) rfl
theorem q126 : (Jvm.Cond.methodLink "FairBatten" (33 : Nat) ({ cls := "java/util/HashMap", name := "<init>", desc := "()V" } : Jvm.MethodName)) ∈ lw_all := lw_g (lw_at lw_m1 95 rfl) rfl
theorem q156 : (Jvm.Cond.fieldLink "FairBatten" (20 : Nat) "FairBatten" "hull" "LFairBatten$Hull;") ∈ lw_all := lw_g (lw_at lw_m1 125 rfl) rfl
theorem q157 : (Jvm.Cond.fieldLink "FairBatten" (27 : Nat) "FairBatten" "cargo" "LFairBatten$Cargo;") ∈ lw_all := lw_g (lw_at lw_m1 126 rfl) rfl
theorem q158 : (Jvm.Cond.fieldLink "FairBatten" (34 : Nat) "FairBatten" "tides" "Ljava/util/Map;") ∈ lw_all := lw_g (lw_at lw_m1 127 rfl) rfl
theorem q159 : (Jvm.Cond.fieldLink "FairBatten" (38 : Nat) "FairBatten" "plank" "I") ∈ lw_all := lw_g (lw_at lw_m1 128 rfl) rfl
theorem q160 : (Jvm.Cond.fieldLink "FairBatten" (212 : Nat) "FairBatten" "sill" "I") ∈ lw_all := lw_g (lw_at lw_m1 129 rfl) rfl
theorem q161 : (Jvm.Cond.fieldLink "FairBatten" (224 : Nat) "FairBatten" "today" "I") ∈ lw_all := lw_g (lw_at lw_m1 130 rfl) rfl
theorem q162 : (Jvm.Cond.fieldLink "FairBatten" (69 : Nat) "FairBatten" "isLaunched" "Z") ∈ lw_all := lw_g (lw_at lw_m1 131 rfl) rfl
theorem q163 : (Jvm.Cond.laysFinal "FairBatten" "FairBatten" "hull" "LFairBatten$Hull;") ∈ lw_all := lw_g (lw_at lw_m1 132 rfl) rfl
theorem q164 : (Jvm.Cond.soleField "FairBatten" "hull") ∈ lw_all := lw_g (lw_at lw_m1 133 rfl) rfl
theorem q165 : (Jvm.Cond.laysFinal "FairBatten" "FairBatten" "cargo" "LFairBatten$Cargo;") ∈ lw_all := lw_g (lw_at lw_m1 134 rfl) rfl
theorem q166 : (Jvm.Cond.soleField "FairBatten" "cargo") ∈ lw_all := lw_g (lw_at lw_m1 135 rfl) rfl
theorem q167 : (Jvm.Cond.laysFinal "FairBatten" "FairBatten" "tides" "Ljava/util/Map;") ∈ lw_all := lw_g (lw_at lw_m1 136 rfl) rfl
theorem q168 : (Jvm.Cond.soleField "FairBatten" "tides") ∈ lw_all := lw_g (lw_at lw_m1 137 rfl) rfl
theorem q169 : (Jvm.Cond.lays "FairBatten" "FairBatten" "plank" "I") ∈ lw_all := lw_g (lw_at lw_m1 138 rfl) rfl
theorem q170 : (Jvm.Cond.soleField "FairBatten" "plank") ∈ lw_all := lw_g (lw_at lw_m1 139 rfl) rfl
theorem q171 : (Jvm.Cond.lays "FairBatten" "FairBatten" "sill" "I") ∈ lw_all := lw_g (lw_at lw_m1 140 rfl) rfl
theorem q172 : (Jvm.Cond.soleField "FairBatten" "sill") ∈ lw_all := lw_g (lw_at lw_m1 141 rfl) rfl
theorem q173 : (Jvm.Cond.lays "FairBatten" "FairBatten" "today" "I") ∈ lw_all := lw_g (lw_at lw_m1 142 rfl) rfl
theorem q174 : (Jvm.Cond.soleField "FairBatten" "today") ∈ lw_all := lw_g (lw_at lw_m1 143 rfl) rfl
theorem q175 : (Jvm.Cond.lays "FairBatten" "FairBatten" "isLaunched" "Z") ∈ lw_all := lw_g (lw_at lw_m1 144 rfl) rfl
theorem q176 : (Jvm.Cond.soleField "FairBatten" "isLaunched") ∈ lw_all := lw_g (lw_at lw_m1 145 rfl) rfl
theorem q177 : (Jvm.Cond.superclass "FairBatten" "java/lang/Object") ∈ lw_all := lw_g (lw_at lw_m1 146 rfl) rfl
theorem q179 : (Jvm.Cond.instanceMethod ({ cls := "FairBatten", name := "draught", desc := "()I" } : Jvm.MethodName)) ∈ lw_all := lw_g (lw_at lw_m1 148 rfl) rfl
theorem q180 : (Jvm.Cond.selects "FairBatten" ({ cls := "FairBatten", name := "draught", desc := "()I" } : Jvm.MethodName) ({ cls := "FairBatten", name := "draught", desc := "()I" } : Jvm.MethodName)) ∈ lw_all := lw_g (lw_at lw_m1 149 rfl) rfl
theorem q181 : (Jvm.Cond.code ({ cls := "FairBatten", name := "draught", desc := "()I" } : Jvm.MethodName) prog_1_method_25_code (1 : Nat) (Option.some Jvm.ClassFile.FieldType.int)) ∈ lw_all := lw_g (lw_at lw_m1 150 rfl) rfl
theorem q182 : (Jvm.Cond.methodLink "FairBatten" (152 : Nat) ({ cls := "FairBatten$Cargo", name := "load", desc := "()I" } : Jvm.MethodName)) ∈ lw_all := lw_g (lw_at lw_m1 151 rfl) rfl
theorem q226 : (Jvm.Cond.methodLink "FairBatten" (142 : Nat) ({ cls := "FairBatten", name := "volumes", desc := "()[I" } : Jvm.MethodName)) ∈ lw_all := lw_g (lw_at lw_m1 195 rfl) rfl
theorem q227 : (Jvm.Cond.privateMethod ({ cls := "FairBatten", name := "volumes", desc := "()[I" } : Jvm.MethodName)) ∈ lw_tbl := lw_at lw_m1 196 rfl
theorem q228 : (Jvm.Cond.instanceMethod ({ cls := "FairBatten", name := "volumes", desc := "()[I" } : Jvm.MethodName)) ∈ lw_all := lw_g (lw_at lw_m1 197 rfl) rfl
theorem q229 : (Jvm.Cond.code ({ cls := "FairBatten", name := "volumes", desc := "()[I" } : Jvm.MethodName) prog_1_method_21_code (3 : Nat) (Option.some (Jvm.ClassFile.FieldType.array Jvm.ClassFile.FieldType.int))) ∈ lw_all := lw_g (lw_at lw_m1 198 rfl) rfl
theorem q230 : (Jvm.Cond.methodLink "FairBatten" (103 : Nat) ({ cls := "FairBatten$Hull", name := "volume", desc := "(I)I" } : Jvm.MethodName)) ∈ lw_all := lw_g (lw_at lw_m1 199 rfl) rfl
theorem q245 : (Jvm.Cond.static ({ cls := "FairBatten", name := "slices", desc := "(LFairBatten$Measure;I)I" } : Jvm.MethodName)) ∈ lw_all := lw_g (lw_at lw_m1 214 rfl) rfl
theorem q246 : (Jvm.Cond.code ({ cls := "FairBatten", name := "slices", desc := "(LFairBatten$Measure;I)I" } : Jvm.MethodName) prog_1_method_2_code (4 : Nat) (Option.some Jvm.ClassFile.FieldType.int)) ∈ lw_all := lw_g (lw_at lw_m1 215 rfl) rfl
theorem q247 : (Jvm.Cond.interfaceEntry "FairBatten" (1 : Nat)) ∈ lw_tbl := lw_at lw_m1 216 rfl
theorem q248 : (Jvm.Cond.methodLink "FairBatten" (1 : Nat) ({ cls := "FairBatten$Measure", name := "at", desc := "(I)I" } : Jvm.MethodName)) ∈ lw_all := lw_g (lw_at lw_m1 217 rfl) rfl
theorem q251 : (Jvm.Cond.methodLink "FairBatten" (135 : Nat) ({ cls := "FairBatten", name := "draughtOf", desc := "(I[I)I" } : Jvm.MethodName)) ∈ lw_all := lw_g (lw_at lw_m1 220 rfl) rfl
theorem q252 : (Jvm.Cond.static ({ cls := "FairBatten", name := "draughtOf", desc := "(I[I)I" } : Jvm.MethodName)) ∈ lw_all := lw_g (lw_at lw_m1 221 rfl) rfl
theorem q253 : (Jvm.Cond.code ({ cls := "FairBatten", name := "draughtOf", desc := "(I[I)I" } : Jvm.MethodName) prog_1_method_19_code (3 : Nat) (Option.some Jvm.ClassFile.FieldType.int)) ∈ lw_all := lw_g (lw_at lw_m1 222 rfl) rfl
theorem q255 : (Jvm.Cond.instanceMethod ({ cls := "FairBatten", name := "trim", desc := "()I" } : Jvm.MethodName)) ∈ lw_all := lw_g (lw_at lw_m1 224 rfl) rfl
theorem q256 : (Jvm.Cond.selects "FairBatten" ({ cls := "FairBatten", name := "trim", desc := "()I" } : Jvm.MethodName) ({ cls := "FairBatten", name := "trim", desc := "()I" } : Jvm.MethodName)) ∈ lw_all := lw_g (lw_at lw_m1 225 rfl) rfl
theorem q257 : (Jvm.Cond.code ({ cls := "FairBatten", name := "trim", desc := "()I" } : Jvm.MethodName) prog_1_method_26_code (1 : Nat) (Option.some Jvm.ClassFile.FieldType.int)) ∈ lw_all := lw_g (lw_at lw_m1 226 rfl) rfl
theorem q258 : (Jvm.Cond.methodLink "FairBatten" (156 : Nat) ({ cls := "FairBatten$Cargo", name := "moment", desc := "()I" } : Jvm.MethodName)) ∈ lw_all := lw_g (lw_at lw_m1 227 rfl) rfl
theorem q262 : (Jvm.Cond.methodLink "FairBatten" (145 : Nat) ({ cls := "FairBatten", name := "moments", desc := "()[I" } : Jvm.MethodName)) ∈ lw_all := lw_g (lw_at lw_m1 231 rfl) rfl
theorem q263 : (Jvm.Cond.privateMethod ({ cls := "FairBatten", name := "moments", desc := "()[I" } : Jvm.MethodName)) ∈ lw_tbl := lw_at lw_m1 232 rfl
theorem q264 : (Jvm.Cond.instanceMethod ({ cls := "FairBatten", name := "moments", desc := "()[I" } : Jvm.MethodName)) ∈ lw_all := lw_g (lw_at lw_m1 233 rfl) rfl
theorem q265 : (Jvm.Cond.code ({ cls := "FairBatten", name := "moments", desc := "()[I" } : Jvm.MethodName) prog_1_method_22_code (3 : Nat) (Option.some (Jvm.ClassFile.FieldType.array Jvm.ClassFile.FieldType.int))) ∈ lw_all := lw_g (lw_at lw_m1 234 rfl) rfl
theorem q266 : (Jvm.Cond.methodLink "FairBatten" (132 : Nat) ({ cls := "FairBatten$Hull", name := "moment", desc := "(I)I" } : Jvm.MethodName)) ∈ lw_all := lw_g (lw_at lw_m1 235 rfl) rfl
theorem q270 : (Jvm.Cond.methodLink "FairBatten" (158 : Nat) ({ cls := "FairBatten", name := "trimOf", desc := "(II[I[I)I" } : Jvm.MethodName)) ∈ lw_all := lw_g (lw_at lw_m1 239 rfl) rfl
theorem q271 : (Jvm.Cond.static ({ cls := "FairBatten", name := "trimOf", desc := "(II[I[I)I" } : Jvm.MethodName)) ∈ lw_all := lw_g (lw_at lw_m2 0 rfl) rfl
theorem q272 : (Jvm.Cond.code ({ cls := "FairBatten", name := "trimOf", desc := "(II[I[I)I" } : Jvm.MethodName) prog_1_method_23_code (5 : Nat) (Option.some Jvm.ClassFile.FieldType.int)) ∈ lw_all := lw_g (lw_at lw_m2 1 rfl) rfl
theorem q273 : (Jvm.Cond.methodLink "FairBatten" (139 : Nat) ({ cls := "FairBatten", name := "by", desc := "(II)I" } : Jvm.MethodName)) ∈ lw_all := lw_g (lw_at lw_m2 2 rfl) rfl
theorem q274 : (Jvm.Cond.static ({ cls := "FairBatten", name := "by", desc := "(II)I" } : Jvm.MethodName)) ∈ lw_all := lw_g (lw_at lw_m2 3 rfl) rfl
theorem q275 : (Jvm.Cond.code ({ cls := "FairBatten", name := "by", desc := "(II)I" } : Jvm.MethodName) prog_1_method_20_code (2 : Nat) (Option.some Jvm.ClassFile.FieldType.int)) ∈ lw_all := lw_g (lw_at lw_m2 4 rfl) rfl
theorem q276 : (Jvm.Cond.methodLink "FairBatten" (127 : Nat) ({ cls := "java/lang/Math", name := "floorDiv", desc := "(II)I" } : Jvm.MethodName)) ∈ lw_all := lw_g (lw_at lw_m2 5 rfl) rfl
theorem q280 : (Jvm.Cond.instanceMethod ({ cls := "FairBatten", name := "needed", desc := "()I" } : Jvm.MethodName)) ∈ lw_all := lw_g (lw_at lw_m2 9 rfl) rfl
theorem q281 : (Jvm.Cond.selects "FairBatten" ({ cls := "FairBatten", name := "needed", desc := "()I" } : Jvm.MethodName) ({ cls := "FairBatten", name := "needed", desc := "()I" } : Jvm.MethodName)) ∈ lw_all := lw_g (lw_at lw_m2 10 rfl) rfl
theorem q282 : (Jvm.Cond.code ({ cls := "FairBatten", name := "needed", desc := "()I" } : Jvm.MethodName) prog_1_method_34_code (2 : Nat) (Option.some Jvm.ClassFile.FieldType.int)) ∈ lw_all := lw_g (lw_at lw_m2 11 rfl) rfl
theorem q283 : (Jvm.Cond.methodLink "FairBatten" (215 : Nat) ({ cls := "FairBatten", name := "draught", desc := "()I" } : Jvm.MethodName)) ∈ lw_all := lw_g (lw_at lw_m2 12 rfl) rfl
theorem q284 : (Jvm.Cond.methodLink "FairBatten" (218 : Nat) ({ cls := "FairBatten", name := "trim", desc := "()I" } : Jvm.MethodName)) ∈ lw_all := lw_g (lw_at lw_m2 13 rfl) rfl
theorem q285 : (Jvm.Cond.methodLink "FairBatten" (162 : Nat) ({ cls := "java/lang/Math", name := "abs", desc := "(I)I" } : Jvm.MethodName)) ∈ lw_all := lw_g (lw_at lw_m2 14 rfl) rfl
theorem q289 : (Jvm.Cond.instanceMethod ({ cls := "FairBatten", name := "day", desc := "()I" } : Jvm.MethodName)) ∈ lw_all := lw_g (lw_at lw_m2 18 rfl) rfl
theorem q290 : (Jvm.Cond.selects "FairBatten" ({ cls := "FairBatten", name := "day", desc := "()I" } : Jvm.MethodName) ({ cls := "FairBatten", name := "day", desc := "()I" } : Jvm.MethodName)) ∈ lw_all := lw_g (lw_at lw_m2 19 rfl) rfl
theorem q291 : (Jvm.Cond.code ({ cls := "FairBatten", name := "day", desc := "()I" } : Jvm.MethodName) prog_1_method_35_code (3 : Nat) (Option.some Jvm.ClassFile.FieldType.int)) ∈ lw_all := lw_g (lw_at lw_m2 20 rfl) rfl
theorem q292 : (Jvm.Cond.methodLink "FairBatten" (221 : Nat) ({ cls := "FairBatten", name := "needed", desc := "()I" } : Jvm.MethodName)) ∈ lw_all := lw_g (lw_at lw_m2 21 rfl) rfl
theorem q293 : (Jvm.Cond.methodLink "FairBatten" (205 : Nat) ({ cls := "FairBatten", name := "tideOf", desc := "(I)I" } : Jvm.MethodName)) ∈ lw_all := lw_g (lw_at lw_m2 22 rfl) rfl
theorem q294 : (Jvm.Cond.privateMethod ({ cls := "FairBatten", name := "tideOf", desc := "(I)I" } : Jvm.MethodName)) ∈ lw_tbl := lw_at lw_m2 23 rfl
theorem q295 : (Jvm.Cond.instanceMethod ({ cls := "FairBatten", name := "tideOf", desc := "(I)I" } : Jvm.MethodName)) ∈ lw_all := lw_g (lw_at lw_m2 24 rfl) rfl
theorem q296 : (Jvm.Cond.code ({ cls := "FairBatten", name := "tideOf", desc := "(I)I" } : Jvm.MethodName) prog_1_method_31_code (3 : Nat) (Option.some Jvm.ClassFile.FieldType.int)) ∈ lw_all := lw_g (lw_at lw_m2 25 rfl) rfl
theorem q297 : (Jvm.Cond.methodLink "FairBatten" (183 : Nat) ({ cls := "java/lang/Integer", name := "valueOf", desc := "(I)Ljava/lang/Integer;" } : Jvm.MethodName)) ∈ lw_all := lw_g (lw_at lw_m2 26 rfl) rfl
theorem q317 : (Jvm.Cond.interfaceEntry "FairBatten" (189 : Nat)) ∈ lw_tbl := lw_at lw_m2 46 rfl
theorem q318 : (Jvm.Cond.methodLink "FairBatten" (189 : Nat) ({ cls := "java/util/Map", name := "get", desc := "(Ljava/lang/Object;)Ljava/lang/Object;" } : Jvm.MethodName)) ∈ lw_all := lw_g (lw_at lw_m2 47 rfl) rfl
theorem q338 : (Jvm.Cond.selects "FairBatten" ({ cls := "java/lang/Object", name := "hashCode", desc := "()I" } : Jvm.MethodName) ({ cls := "java/lang/Object", name := "hashCode", desc := "()I" } : Jvm.MethodName)) ∈ lw_all := lw_g (lw_at lw_m2 67 rfl) rfl
theorem q362 : (Jvm.Cond.selects "FairBatten" ({ cls := "java/lang/Object", name := "equals", desc := "(Ljava/lang/Object;)Z" } : Jvm.MethodName) ({ cls := "java/lang/Object", name := "equals", desc := "(Ljava/lang/Object;)Z" } : Jvm.MethodName)) ∈ lw_all := lw_g (lw_at lw_m2 91 rfl) rfl
theorem q404 : (Jvm.Cond.selects "FairBatten" ({ cls := "java/lang/Object", name := "getClass", desc := "()Ljava/lang/Class;" } : Jvm.MethodName) ({ cls := "java/lang/Object", name := "getClass", desc := "()Ljava/lang/Class;" } : Jvm.MethodName)) ∈ lw_all := lw_g (lw_at lw_m2 133 rfl) rfl
theorem q443 : (Jvm.Cond.classLink "FairBatten" (184 : Nat) "java/lang/Integer") ∈ lw_all := lw_g (lw_at lw_m2 172 rfl) rfl
theorem q444 : (Jvm.Cond.methodLink "FairBatten" (195 : Nat) ({ cls := "java/lang/Integer", name := "intValue", desc := "()I" } : Jvm.MethodName)) ∈ lw_all := lw_g (lw_at lw_m2 173 rfl) rfl
theorem q528 : (Jvm.Cond.instanceMethod ({ cls := "FairBatten", name := "offset", desc := "(III)I" } : Jvm.MethodName)) ∈ lw_all := lw_g (lw_at lw_m3 17 rfl) rfl
theorem q529 : (Jvm.Cond.selects "FairBatten" ({ cls := "FairBatten", name := "offset", desc := "(III)I" } : Jvm.MethodName) ({ cls := "FairBatten", name := "offset", desc := "(III)I" } : Jvm.MethodName)) ∈ lw_all := lw_g (lw_at lw_m3 18 rfl) rfl
theorem q530 : (Jvm.Cond.code ({ cls := "FairBatten", name := "offset", desc := "(III)I" } : Jvm.MethodName) prog_1_method_10_code (5 : Nat) (Option.some Jvm.ClassFile.FieldType.int)) ∈ lw_all := lw_g (lw_at lw_m3 19 rfl) rfl
theorem q531 : (Jvm.Cond.methodLink "FairBatten" (59 : Nat) ({ cls := "FairBatten", name := "checkStation", desc := "(I)V" } : Jvm.MethodName)) ∈ lw_all := lw_g (lw_at lw_m3 20 rfl) rfl
theorem q532 : (Jvm.Cond.static ({ cls := "FairBatten", name := "checkStation", desc := "(I)V" } : Jvm.MethodName)) ∈ lw_all := lw_g (lw_at lw_m3 21 rfl) rfl
theorem q533 : (Jvm.Cond.code ({ cls := "FairBatten", name := "checkStation", desc := "(I)V" } : Jvm.MethodName) prog_1_method_8_code (1 : Nat) (Option.none : Option Jvm.ClassFile.FieldType)) ∈ lw_all := lw_g (lw_at lw_m3 22 rfl) rfl
theorem q534 : (Jvm.Cond.methodLink "FairBatten" (51 : Nat) ({ cls := "FairBatten", name := "in", desc := "(III)Z" } : Jvm.MethodName)) ∈ lw_all := lw_g (lw_at lw_m3 23 rfl) rfl
theorem q535 : (Jvm.Cond.static ({ cls := "FairBatten", name := "in", desc := "(III)Z" } : Jvm.MethodName)) ∈ lw_all := lw_g (lw_at lw_m3 24 rfl) rfl
theorem q536 : (Jvm.Cond.code ({ cls := "FairBatten", name := "in", desc := "(III)Z" } : Jvm.MethodName) prog_1_method_1_code (3 : Nat) (Option.some Jvm.ClassFile.FieldType.boolean)) ∈ lw_all := lw_g (lw_at lw_m3 25 rfl) rfl
theorem q537 : (Jvm.Cond.methodLink "FairBatten" (55 : Nat) ({ cls := "FairBatten", name := "checkIndex", desc := "(Z)V" } : Jvm.MethodName)) ∈ lw_all := lw_g (lw_at lw_m3 26 rfl) rfl
theorem q538 : (Jvm.Cond.static ({ cls := "FairBatten", name := "checkIndex", desc := "(Z)V" } : Jvm.MethodName)) ∈ lw_all := lw_g (lw_at lw_m3 27 rfl) rfl
theorem q539 : (Jvm.Cond.code ({ cls := "FairBatten", name := "checkIndex", desc := "(Z)V" } : Jvm.MethodName) prog_1_method_5_code (1 : Nat) (Option.none : Option Jvm.ClassFile.FieldType)) ∈ lw_all := lw_g (lw_at lw_m3 28 rfl) rfl
theorem q540 : (Jvm.Cond.classLink "FairBatten" (42 : Nat) "java/lang/IndexOutOfBoundsException") ∈ lw_all := lw_g (lw_at lw_m3 29 rfl) rfl
theorem q549 : (Jvm.Cond.methodLink "FairBatten" (44 : Nat) ({ cls := "java/lang/IndexOutOfBoundsException", name := "<init>", desc := "()V" } : Jvm.MethodName)) ∈ lw_all := lw_g (lw_at lw_m3 38 rfl) rfl
theorem q561 : (Jvm.Cond.methodLink "FairBatten" (63 : Nat) ({ cls := "FairBatten", name := "checkLine", desc := "(I)V" } : Jvm.MethodName)) ∈ lw_all := lw_g (lw_at lw_m3 50 rfl) rfl
theorem q562 : (Jvm.Cond.static ({ cls := "FairBatten", name := "checkLine", desc := "(I)V" } : Jvm.MethodName)) ∈ lw_all := lw_g (lw_at lw_m3 51 rfl) rfl
theorem q563 : (Jvm.Cond.code ({ cls := "FairBatten", name := "checkLine", desc := "(I)V" } : Jvm.MethodName) prog_1_method_9_code (1 : Nat) (Option.none : Option Jvm.ClassFile.FieldType)) ∈ lw_all := lw_g (lw_at lw_m3 52 rfl) rfl
theorem q564 : (Jvm.Cond.methodLink "FairBatten" (66 : Nat) ({ cls := "FairBatten", name := "checkArgument", desc := "(Z)V" } : Jvm.MethodName)) ∈ lw_all := lw_g (lw_at lw_m3 53 rfl) rfl
theorem q565 : (Jvm.Cond.static ({ cls := "FairBatten", name := "checkArgument", desc := "(Z)V" } : Jvm.MethodName)) ∈ lw_all := lw_g (lw_at lw_m3 54 rfl) rfl
theorem q566 : (Jvm.Cond.code ({ cls := "FairBatten", name := "checkArgument", desc := "(Z)V" } : Jvm.MethodName) prog_1_method_6_code (1 : Nat) (Option.none : Option Jvm.ClassFile.FieldType)) ∈ lw_all := lw_g (lw_at lw_m3 55 rfl) rfl
theorem q567 : (Jvm.Cond.classLink "FairBatten" (45 : Nat) "java/lang/IllegalArgumentException") ∈ lw_all := lw_g (lw_at lw_m3 56 rfl) rfl
theorem q576 : (Jvm.Cond.methodLink "FairBatten" (47 : Nat) ({ cls := "java/lang/IllegalArgumentException", name := "<init>", desc := "()V" } : Jvm.MethodName)) ∈ lw_all := lw_g (lw_at lw_m3 65 rfl) rfl
theorem q582 : (Jvm.Cond.methodLink "FairBatten" (73 : Nat) ({ cls := "FairBatten", name := "checkState", desc := "(Z)V" } : Jvm.MethodName)) ∈ lw_all := lw_g (lw_at lw_m3 71 rfl) rfl
theorem q583 : (Jvm.Cond.static ({ cls := "FairBatten", name := "checkState", desc := "(Z)V" } : Jvm.MethodName)) ∈ lw_all := lw_g (lw_at lw_m3 72 rfl) rfl
theorem q584 : (Jvm.Cond.code ({ cls := "FairBatten", name := "checkState", desc := "(Z)V" } : Jvm.MethodName) prog_1_method_7_code (1 : Nat) (Option.none : Option Jvm.ClassFile.FieldType)) ∈ lw_all := lw_g (lw_at lw_m3 73 rfl) rfl
theorem q585 : (Jvm.Cond.classLink "FairBatten" (48 : Nat) "java/lang/IllegalStateException") ∈ lw_all := lw_g (lw_at lw_m3 74 rfl) rfl
theorem q594 : (Jvm.Cond.methodLink "FairBatten" (50 : Nat) ({ cls := "java/lang/IllegalStateException", name := "<init>", desc := "()V" } : Jvm.MethodName)) ∈ lw_all := lw_g (lw_at lw_m3 83 rfl) rfl
theorem q604 : (Jvm.Cond.instanceMethod ({ cls := "FairBatten", name := "half", desc := "(II)I" } : Jvm.MethodName)) ∈ lw_all := lw_g (lw_at lw_m3 93 rfl) rfl
theorem q605 : (Jvm.Cond.selects "FairBatten" ({ cls := "FairBatten", name := "half", desc := "(II)I" } : Jvm.MethodName) ({ cls := "FairBatten", name := "half", desc := "(II)I" } : Jvm.MethodName)) ∈ lw_all := lw_g (lw_at lw_m3 94 rfl) rfl
theorem q606 : (Jvm.Cond.code ({ cls := "FairBatten", name := "half", desc := "(II)I" } : Jvm.MethodName) prog_1_method_11_code (3 : Nat) (Option.some Jvm.ClassFile.FieldType.int)) ∈ lw_all := lw_g (lw_at lw_m3 95 rfl) rfl
theorem q611 : (Jvm.Cond.instanceMethod ({ cls := "FairBatten", name := "bend", desc := "(I)I" } : Jvm.MethodName)) ∈ lw_all := lw_g (lw_at lw_m3 100 rfl) rfl
theorem q612 : (Jvm.Cond.selects "FairBatten" ({ cls := "FairBatten", name := "bend", desc := "(I)I" } : Jvm.MethodName) ({ cls := "FairBatten", name := "bend", desc := "(I)I" } : Jvm.MethodName)) ∈ lw_all := lw_g (lw_at lw_m3 101 rfl) rfl
theorem q613 : (Jvm.Cond.code ({ cls := "FairBatten", name := "bend", desc := "(I)I" } : Jvm.MethodName) prog_1_method_12_code (2 : Nat) (Option.some Jvm.ClassFile.FieldType.int)) ∈ lw_all := lw_g (lw_at lw_m3 102 rfl) rfl
theorem q614 : (Jvm.Cond.methodLink "FairBatten" (80 : Nat) ({ cls := "FairBatten", name := "bendOf", desc := "([I)I" } : Jvm.MethodName)) ∈ lw_all := lw_g (lw_at lw_m3 103 rfl) rfl
theorem q615 : (Jvm.Cond.static ({ cls := "FairBatten", name := "bendOf", desc := "([I)I" } : Jvm.MethodName)) ∈ lw_all := lw_g (lw_at lw_m3 104 rfl) rfl
theorem q616 : (Jvm.Cond.code ({ cls := "FairBatten", name := "bendOf", desc := "([I)I" } : Jvm.MethodName) prog_1_method_3_code (4 : Nat) (Option.some Jvm.ClassFile.FieldType.int)) ∈ lw_all := lw_g (lw_at lw_m3 105 rfl) rfl
theorem q621 : (Jvm.Cond.instanceMethod ({ cls := "FairBatten", name := "fair", desc := "(II)I" } : Jvm.MethodName)) ∈ lw_all := lw_g (lw_at lw_m3 110 rfl) rfl
theorem q622 : (Jvm.Cond.selects "FairBatten" ({ cls := "FairBatten", name := "fair", desc := "(II)I" } : Jvm.MethodName) ({ cls := "FairBatten", name := "fair", desc := "(II)I" } : Jvm.MethodName)) ∈ lw_all := lw_g (lw_at lw_m3 111 rfl) rfl
theorem q623 : (Jvm.Cond.code ({ cls := "FairBatten", name := "fair", desc := "(II)I" } : Jvm.MethodName) prog_1_method_13_code (6 : Nat) (Option.some Jvm.ClassFile.FieldType.int)) ∈ lw_all := lw_g (lw_at lw_m3 112 rfl) rfl
theorem q624 : (Jvm.Cond.classLink "FairBatten" (84 : Nat) "FairBatten$Batten") ∈ lw_all := lw_g (lw_at lw_m3 113 rfl) rfl
theorem q626 : (Jvm.Cond.methodLink "FairBatten" (86 : Nat) ({ cls := "FairBatten$Batten", name := "<init>", desc := "([II)V" } : Jvm.MethodName)) ∈ lw_all := lw_g (lw_at lw_m3 115 rfl) rfl
theorem q658 : (Jvm.Cond.methodLink "FairBatten" (89 : Nat) ({ cls := "FairBatten$Batten", name := "fair", desc := "()[I" } : Jvm.MethodName)) ∈ lw_all := lw_g (lw_at lw_m3 147 rfl) rfl
theorem q662 : (Jvm.Cond.methodLink "FairBatten" (93 : Nat) ({ cls := "java/lang/System", name := "arraycopy", desc := "(Ljava/lang/Object;ILjava/lang/Object;II)V" } : Jvm.MethodName)) ∈ lw_all := lw_g (lw_at lw_m3 151 rfl) rfl
theorem q669 : (Jvm.Cond.instanceMethod ({ cls := "FairBatten", name := "area", desc := "(II)I" } : Jvm.MethodName)) ∈ lw_all := lw_g (lw_at lw_m3 158 rfl) rfl
theorem q670 : (Jvm.Cond.selects "FairBatten" ({ cls := "FairBatten", name := "area", desc := "(II)I" } : Jvm.MethodName) ({ cls := "FairBatten", name := "area", desc := "(II)I" } : Jvm.MethodName)) ∈ lw_all := lw_g (lw_at lw_m3 159 rfl) rfl
theorem q671 : (Jvm.Cond.code ({ cls := "FairBatten", name := "area", desc := "(II)I" } : Jvm.MethodName) prog_1_method_14_code (3 : Nat) (Option.some Jvm.ClassFile.FieldType.int)) ∈ lw_all := lw_g (lw_at lw_m3 160 rfl) rfl
theorem q672 : (Jvm.Cond.methodLink "FairBatten" (99 : Nat) ({ cls := "FairBatten$Hull", name := "area", desc := "(II)I" } : Jvm.MethodName)) ∈ lw_all := lw_g (lw_at lw_m3 161 rfl) rfl
theorem q677 : (Jvm.Cond.instanceMethod ({ cls := "FairBatten", name := "volume", desc := "(I)I" } : Jvm.MethodName)) ∈ lw_all := lw_g (lw_at lw_m3 166 rfl) rfl
theorem q678 : (Jvm.Cond.selects "FairBatten" ({ cls := "FairBatten", name := "volume", desc := "(I)I" } : Jvm.MethodName) ({ cls := "FairBatten", name := "volume", desc := "(I)I" } : Jvm.MethodName)) ∈ lw_all := lw_g (lw_at lw_m3 167 rfl) rfl
theorem q679 : (Jvm.Cond.code ({ cls := "FairBatten", name := "volume", desc := "(I)I" } : Jvm.MethodName) prog_1_method_15_code (2 : Nat) (Option.some Jvm.ClassFile.FieldType.int)) ∈ lw_all := lw_g (lw_at lw_m3 168 rfl) rfl
theorem q684 : (Jvm.Cond.instanceMethod ({ cls := "FairBatten", name := "volumeAnew", desc := "(I)I" } : Jvm.MethodName)) ∈ lw_all := lw_g (lw_at lw_m3 173 rfl) rfl
theorem q685 : (Jvm.Cond.selects "FairBatten" ({ cls := "FairBatten", name := "volumeAnew", desc := "(I)I" } : Jvm.MethodName) ({ cls := "FairBatten", name := "volumeAnew", desc := "(I)I" } : Jvm.MethodName)) ∈ lw_all := lw_g (lw_at lw_m3 174 rfl) rfl
theorem q686 : (Jvm.Cond.code ({ cls := "FairBatten", name := "volumeAnew", desc := "(I)I" } : Jvm.MethodName) prog_1_method_16_code (2 : Nat) (Option.some Jvm.ClassFile.FieldType.int)) ∈ lw_all := lw_g (lw_at lw_m3 175 rfl) rfl
theorem q687 : (Jvm.Cond.methodLink "FairBatten" (106 : Nat) ({ cls := "FairBatten$Hull", name := "volumeAnew", desc := "(I)I" } : Jvm.MethodName)) ∈ lw_all := lw_g (lw_at lw_m3 176 rfl) rfl
theorem q701 : (Jvm.Cond.instanceMethod ({ cls := "FairBatten", name := "weigh", desc := "(II)I" } : Jvm.MethodName)) ∈ lw_all := lw_g (lw_at lw_m3 190 rfl) rfl
theorem q702 : (Jvm.Cond.selects "FairBatten" ({ cls := "FairBatten", name := "weigh", desc := "(II)I" } : Jvm.MethodName) ({ cls := "FairBatten", name := "weigh", desc := "(II)I" } : Jvm.MethodName)) ∈ lw_all := lw_g (lw_at lw_m3 191 rfl) rfl
theorem q703 : (Jvm.Cond.code ({ cls := "FairBatten", name := "weigh", desc := "(II)I" } : Jvm.MethodName) prog_1_method_17_code (3 : Nat) (Option.some Jvm.ClassFile.FieldType.int)) ∈ lw_all := lw_g (lw_at lw_m3 192 rfl) rfl
theorem q704 : (Jvm.Cond.classLink "FairBatten" (116 : Nat) "FairBatten$Weight") ∈ lw_all := lw_g (lw_at lw_m3 193 rfl) rfl
theorem q705 : (Jvm.Cond.methodLink "FairBatten" (118 : Nat) ({ cls := "FairBatten$Weight", name := "<init>", desc := "(II)V" } : Jvm.MethodName)) ∈ lw_all := lw_g (lw_at lw_m3 194 rfl) rfl
theorem q710 : (Jvm.Cond.instanceMethod ({ cls := "FairBatten", name := "change", desc := "(III)I" } : Jvm.MethodName)) ∈ lw_all := lw_g (lw_at lw_m3 199 rfl) rfl
theorem q711 : (Jvm.Cond.selects "FairBatten" ({ cls := "FairBatten", name := "change", desc := "(III)I" } : Jvm.MethodName) ({ cls := "FairBatten", name := "change", desc := "(III)I" } : Jvm.MethodName)) ∈ lw_all := lw_g (lw_at lw_m3 200 rfl) rfl
theorem q712 : (Jvm.Cond.code ({ cls := "FairBatten", name := "change", desc := "(III)I" } : Jvm.MethodName) prog_1_method_18_code (6 : Nat) (Option.some Jvm.ClassFile.FieldType.int)) ∈ lw_all := lw_g (lw_at lw_m3 201 rfl) rfl
theorem q717 : (Jvm.Cond.instanceMethod ({ cls := "FairBatten", name := "ballast", desc := "(I)I" } : Jvm.MethodName)) ∈ lw_all := lw_g (lw_at lw_m3 206 rfl) rfl
theorem q718 : (Jvm.Cond.selects "FairBatten" ({ cls := "FairBatten", name := "ballast", desc := "(I)I" } : Jvm.MethodName) ({ cls := "FairBatten", name := "ballast", desc := "(I)I" } : Jvm.MethodName)) ∈ lw_all := lw_g (lw_at lw_m3 207 rfl) rfl
theorem q719 : (Jvm.Cond.code ({ cls := "FairBatten", name := "ballast", desc := "(I)I" } : Jvm.MethodName) prog_1_method_24_code (13 : Nat) (Option.some Jvm.ClassFile.FieldType.int)) ∈ lw_all := lw_g (lw_at lw_m3 208 rfl) rfl
theorem q724 : (Jvm.Cond.instanceMethod ({ cls := "FairBatten", name := "strake", desc := "(I)I" } : Jvm.MethodName)) ∈ lw_all := lw_g (lw_at lw_m3 213 rfl) rfl
theorem q725 : (Jvm.Cond.selects "FairBatten" ({ cls := "FairBatten", name := "strake", desc := "(I)I" } : Jvm.MethodName) ({ cls := "FairBatten", name := "strake", desc := "(I)I" } : Jvm.MethodName)) ∈ lw_all := lw_g (lw_at lw_m3 214 rfl) rfl
theorem q726 : (Jvm.Cond.code ({ cls := "FairBatten", name := "strake", desc := "(I)I" } : Jvm.MethodName) prog_1_method_27_code (2 : Nat) (Option.some Jvm.ClassFile.FieldType.int)) ∈ lw_all := lw_g (lw_at lw_m3 215 rfl) rfl
theorem q727 : (Jvm.Cond.methodLink "FairBatten" (165 : Nat) ({ cls := "FairBatten$Hull", name := "strake", desc := "(I)I" } : Jvm.MethodName)) ∈ lw_all := lw_g (lw_at lw_m3 216 rfl) rfl
theorem q736 : (Jvm.Cond.instanceMethod ({ cls := "FairBatten", name := "planks", desc := "(I)I" } : Jvm.MethodName)) ∈ lw_all := lw_g (lw_at lw_m3 225 rfl) rfl
theorem q737 : (Jvm.Cond.selects "FairBatten" ({ cls := "FairBatten", name := "planks", desc := "(I)I" } : Jvm.MethodName) ({ cls := "FairBatten", name := "planks", desc := "(I)I" } : Jvm.MethodName)) ∈ lw_all := lw_g (lw_at lw_m3 226 rfl) rfl
theorem q738 : (Jvm.Cond.code ({ cls := "FairBatten", name := "planks", desc := "(I)I" } : Jvm.MethodName) prog_1_method_29_code (2 : Nat) (Option.some Jvm.ClassFile.FieldType.int)) ∈ lw_all := lw_g (lw_at lw_m3 227 rfl) rfl
theorem q739 : (Jvm.Cond.methodLink "FairBatten" (180 : Nat) ({ cls := "FairBatten", name := "nest", desc := "()[I" } : Jvm.MethodName)) ∈ lw_all := lw_g (lw_at lw_m3 228 rfl) rfl
theorem q740 : (Jvm.Cond.privateMethod ({ cls := "FairBatten", name := "nest", desc := "()[I" } : Jvm.MethodName)) ∈ lw_tbl := lw_at lw_m3 229 rfl
theorem q741 : (Jvm.Cond.instanceMethod ({ cls := "FairBatten", name := "nest", desc := "()[I" } : Jvm.MethodName)) ∈ lw_all := lw_g (lw_at lw_m3 230 rfl) rfl
theorem q742 : (Jvm.Cond.code ({ cls := "FairBatten", name := "nest", desc := "()[I" } : Jvm.MethodName) prog_1_method_28_code (8 : Nat) (Option.some (Jvm.ClassFile.FieldType.array Jvm.ClassFile.FieldType.int))) ∈ lw_all := lw_g (lw_at lw_m3 231 rfl) rfl
theorem q743 : (Jvm.Cond.classLink "FairBatten" (168 : Nat) "FairBatten$Scarfed") ∈ lw_all := lw_g (lw_at lw_m3 232 rfl) rfl
theorem q745 : (Jvm.Cond.methodLinkNest "FairBatten" (170 : Nat) ({ cls := "FairBatten$Scarfed", name := "<init>", desc := "()V" } : Jvm.MethodName) "FairBatten") ∈ lw_tbl := lw_at lw_m3 234 rfl
theorem q754 : (Jvm.Cond.classLink "FairBatten" (171 : Nat) "FairBatten$1") ∈ lw_all := lw_g (lw_at lw_m4 3 rfl) rfl
theorem q756 : (Jvm.Cond.methodLink "FairBatten" (173 : Nat) ({ cls := "FairBatten$1", name := "<init>", desc := "(LFairBatten;)V" } : Jvm.MethodName)) ∈ lw_all := lw_g (lw_at lw_m4 5 rfl) rfl
theorem q777 : (Jvm.Cond.instanceMethod ({ cls := "FairBatten", name := "plankOf", desc := "(IZ)I" } : Jvm.MethodName)) ∈ lw_all := lw_g (lw_at lw_m4 26 rfl) rfl
theorem q778 : (Jvm.Cond.selects "FairBatten" ({ cls := "FairBatten", name := "plankOf", desc := "(IZ)I" } : Jvm.MethodName) ({ cls := "FairBatten", name := "plankOf", desc := "(IZ)I" } : Jvm.MethodName)) ∈ lw_all := lw_g (lw_at lw_m4 27 rfl) rfl
theorem q779 : (Jvm.Cond.code ({ cls := "FairBatten", name := "plankOf", desc := "(IZ)I" } : Jvm.MethodName) prog_1_method_30_code (3 : Nat) (Option.some Jvm.ClassFile.FieldType.int)) ∈ lw_all := lw_g (lw_at lw_m4 28 rfl) rfl
theorem q784 : (Jvm.Cond.instanceMethod ({ cls := "FairBatten", name := "tide", desc := "(II)I" } : Jvm.MethodName)) ∈ lw_all := lw_g (lw_at lw_m4 33 rfl) rfl
theorem q785 : (Jvm.Cond.selects "FairBatten" ({ cls := "FairBatten", name := "tide", desc := "(II)I" } : Jvm.MethodName) ({ cls := "FairBatten", name := "tide", desc := "(II)I" } : Jvm.MethodName)) ∈ lw_all := lw_g (lw_at lw_m4 34 rfl) rfl
theorem q786 : (Jvm.Cond.code ({ cls := "FairBatten", name := "tide", desc := "(II)I" } : Jvm.MethodName) prog_1_method_32_code (4 : Nat) (Option.some Jvm.ClassFile.FieldType.int)) ∈ lw_all := lw_g (lw_at lw_m4 35 rfl) rfl
theorem q787 : (Jvm.Cond.interfaceEntry "FairBatten" (198 : Nat)) ∈ lw_tbl := lw_at lw_m4 36 rfl
theorem q788 : (Jvm.Cond.methodLink "FairBatten" (198 : Nat) ({ cls := "java/util/Map", name := "containsKey", desc := "(Ljava/lang/Object;)Z" } : Jvm.MethodName)) ∈ lw_all := lw_g (lw_at lw_m4 37 rfl) rfl
theorem q796 : (Jvm.Cond.interfaceEntry "FairBatten" (202 : Nat)) ∈ lw_tbl := lw_at lw_m4 45 rfl
theorem q797 : (Jvm.Cond.methodLink "FairBatten" (202 : Nat) ({ cls := "java/util/Map", name := "size", desc := "()I" } : Jvm.MethodName)) ∈ lw_all := lw_g (lw_at lw_m4 46 rfl) rfl
theorem q805 : (Jvm.Cond.interfaceEntry "FairBatten" (208 : Nat)) ∈ lw_tbl := lw_at lw_m4 54 rfl
theorem q806 : (Jvm.Cond.methodLink "FairBatten" (208 : Nat) ({ cls := "java/util/Map", name := "put", desc := "(Ljava/lang/Object;Ljava/lang/Object;)Ljava/lang/Object;" } : Jvm.MethodName)) ∈ lw_all := lw_g (lw_at lw_m4 55 rfl) rfl
theorem q954 : (Jvm.Cond.instanceMethod ({ cls := "FairBatten", name := "sill", desc := "(I)I" } : Jvm.MethodName)) ∈ lw_all := lw_g (lw_at lw_m4 203 rfl) rfl
theorem q955 : (Jvm.Cond.selects "FairBatten" ({ cls := "FairBatten", name := "sill", desc := "(I)I" } : Jvm.MethodName) ({ cls := "FairBatten", name := "sill", desc := "(I)I" } : Jvm.MethodName)) ∈ lw_all := lw_g (lw_at lw_m4 204 rfl) rfl
theorem q956 : (Jvm.Cond.code ({ cls := "FairBatten", name := "sill", desc := "(I)I" } : Jvm.MethodName) prog_1_method_33_code (3 : Nat) (Option.some Jvm.ClassFile.FieldType.int)) ∈ lw_all := lw_g (lw_at lw_m4 205 rfl) rfl
theorem q961 : (Jvm.Cond.instanceMethod ({ cls := "FairBatten", name := "launch", desc := "()I" } : Jvm.MethodName)) ∈ lw_all := lw_g (lw_at lw_m4 210 rfl) rfl
theorem q962 : (Jvm.Cond.selects "FairBatten" ({ cls := "FairBatten", name := "launch", desc := "()I" } : Jvm.MethodName) ({ cls := "FairBatten", name := "launch", desc := "()I" } : Jvm.MethodName)) ∈ lw_all := lw_g (lw_at lw_m4 211 rfl) rfl
theorem q963 : (Jvm.Cond.code ({ cls := "FairBatten", name := "launch", desc := "()I" } : Jvm.MethodName) prog_1_method_36_code (3 : Nat) (Option.some Jvm.ClassFile.FieldType.int)) ∈ lw_all := lw_g (lw_at lw_m4 212 rfl) rfl
theorem q968 : (Jvm.Cond.instanceMethod ({ cls := "FairBatten", name := "pass", desc := "(I)I" } : Jvm.MethodName)) ∈ lw_all := lw_g (lw_at lw_m4 217 rfl) rfl
theorem q969 : (Jvm.Cond.selects "FairBatten" ({ cls := "FairBatten", name := "pass", desc := "(I)I" } : Jvm.MethodName) ({ cls := "FairBatten", name := "pass", desc := "(I)I" } : Jvm.MethodName)) ∈ lw_all := lw_g (lw_at lw_m4 218 rfl) rfl
theorem q970 : (Jvm.Cond.code ({ cls := "FairBatten", name := "pass", desc := "(I)I" } : Jvm.MethodName) prog_1_method_37_code (2 : Nat) (Option.some Jvm.ClassFile.FieldType.int)) ∈ lw_all := lw_g (lw_at lw_m4 219 rfl) rfl
theorem q1219 : (Jvm.Cond.castable "FairBatten" "java/lang/Object") ∈ lw_tbl := lw_at lw_m5 228 rfl
theorem in_X1 : ∀ w ∈ wsX10, w ∈ lw_all := lw_in wsX10 [163, 165, 167, 169, 171, 173, 175] (by decide +kernel) (by decide +kernel)
/-! FairBatten$Hull -/
set_option maxRecDepth 100000
def RX2 : String := "FairBatten$Hull"
def TX2 : u_T := fun k => match k with
  | 0 => ("FairBatten$Hull", "halves", "[[I", true)
  | _ => ("FairBatten$Hull", "this$0", "LFairBatten;", true)
def tyX2 : Nat → FieldType := fun k => match k with
  | 0 => .array (.array .int)
  | _ => .object "FairBatten"
abbrev wsX20 : List Cond := u_ws RX2 TX2 2
theorem nmX2 : ∀ a, a < 2 → ∀ b, b < 2 → a ≠ b → (TX2 a).2.1 ≠ (TX2 b).2.1 := by decide +kernel
theorem tyX2_ok : ∀ k, k < 2 → parseFieldDescriptor (TX2 k).2.2.1 = some (tyX2 k) := by decide +kernel
abbrev cX2_init : ByteArray := prog_7_method_1_code
def yX2_init : MethodName := ⟨RX2, "<init>", "(LFairBatten;)V"⟩
def dkwX2_init_0 : List UInt8 := [42, 43, 181, 0, 3, 42, 183, 0, 9, 42, 16, 6, 16, 9, 197, 0, 15, 2, 181, 0, 17, 177]
abbrev dktX2_init_0 : List UInt8 := dkwX2_init_0 ++ []
theorem dksX2_init_0 : cX2_init.data.toList.drop 0 = dktX2_init_0 := by decide +kernel
theorem dX2_init_0 : decode cX2_init 0 = .ok (.aload_n 0, 1) := dk_42 (dk_at dksX2_init_0 0 rfl rfl)
theorem dX2_init_1 : decode cX2_init 1 = .ok (.aload_n 1, 1) := dk_43 (dk_at dksX2_init_0 1 rfl rfl)
theorem dX2_init_2 : decode cX2_init 2 = .ok (.putfield 3, 3) := dk_181 0 3 (dk_at dksX2_init_0 2 rfl rfl)
theorem dX2_init_5 : decode cX2_init 5 = .ok (.aload_n 0, 1) := dk_42 (dk_at dksX2_init_0 5 rfl rfl)
theorem dX2_init_6 : decode cX2_init 6 = .ok (.invokespecial 9, 3) := dk_183 0 9 (dk_at dksX2_init_0 6 rfl rfl)
theorem dX2_init_9 : decode cX2_init 9 = .ok (.aload_n 0, 1) := dk_42 (dk_at dksX2_init_0 9 rfl rfl)
theorem dX2_init_10 : decode cX2_init 10 = .ok (.bipush 6, 2) := dk_16 6 (dk_at dksX2_init_0 10 rfl rfl)
theorem dX2_init_12 : decode cX2_init 12 = .ok (.bipush 9, 2) := dk_16 9 (dk_at dksX2_init_0 12 rfl rfl)
theorem dX2_init_14 : decode cX2_init 14 = .ok (.multianewarray 15 2, 4) := by decide +kernel
theorem dX2_init_18 : decode cX2_init 18 = .ok (.putfield 17, 3) := dk_181 0 17 (dk_at dksX2_init_0 18 rfl rfl)
theorem dX2_init_21 : decode cX2_init 21 = .ok (.return_, 1) := dk_177 (dk_at dksX2_init_0 21 rfl rfl)
abbrev cX2_volume : ByteArray := prog_7_method_3_code
def yX2_volume : MethodName := ⟨RX2, "volume", "(I)I"⟩
def dkwX2_volume_0 : List UInt8 := [42, 27, 186, 0, 28, 0, 0, 16, 9, 184, 0, 24, 172]
abbrev dktX2_volume_0 : List UInt8 := dkwX2_volume_0 ++ []
theorem dksX2_volume_0 : cX2_volume.data.toList.drop 0 = dktX2_volume_0 := by decide +kernel
theorem dX2_volume_0 : decode cX2_volume 0 = .ok (.aload_n 0, 1) := dk_42 (dk_at dksX2_volume_0 0 rfl rfl)
theorem dX2_volume_1 : decode cX2_volume 1 = .ok (.iload_n 1, 1) := dk_27 (dk_at dksX2_volume_0 1 rfl rfl)
theorem dX2_volume_2 : decode cX2_volume 2 = .ok (.invokedynamic 28, 5) := by decide +kernel
theorem dX2_volume_7 : decode cX2_volume 7 = .ok (.bipush 9, 2) := dk_16 9 (dk_at dksX2_volume_0 7 rfl rfl)
theorem dX2_volume_9 : decode cX2_volume 9 = .ok (.invokestatic 24, 3) := dk_184 0 24 (dk_at dksX2_volume_0 9 rfl rfl)
theorem dX2_volume_12 : decode cX2_volume 12 = .ok (.ireturn, 1) := dk_172 (dk_at dksX2_volume_0 12 rfl rfl)
abbrev cX2_lambda_volume_1 : ByteArray := prog_7_method_9_code
def yX2_lambda_volume_1 : MethodName := ⟨RX2, "lambda$volume$1", "(II)I"⟩
def dkwX2_lambda_volume_1_0 : List UInt8 := [42, 28, 27, 182, 0, 32, 172]
abbrev dktX2_lambda_volume_1_0 : List UInt8 := dkwX2_lambda_volume_1_0 ++ []
theorem dksX2_lambda_volume_1_0 : cX2_lambda_volume_1.data.toList.drop 0 = dktX2_lambda_volume_1_0 := by decide +kernel
theorem dX2_lambda_volume_1_0 : decode cX2_lambda_volume_1 0 = .ok (.aload_n 0, 1) := dk_42 (dk_at dksX2_lambda_volume_1_0 0 rfl rfl)
theorem dX2_lambda_volume_1_1 : decode cX2_lambda_volume_1 1 = .ok (.iload_n 2, 1) := dk_28 (dk_at dksX2_lambda_volume_1_0 1 rfl rfl)
theorem dX2_lambda_volume_1_2 : decode cX2_lambda_volume_1 2 = .ok (.iload_n 1, 1) := dk_27 (dk_at dksX2_lambda_volume_1_0 2 rfl rfl)
theorem dX2_lambda_volume_1_3 : decode cX2_lambda_volume_1 3 = .ok (.invokevirtual 32, 3) := dk_182 0 32 (dk_at dksX2_lambda_volume_1_0 3 rfl rfl)
theorem dX2_lambda_volume_1_6 : decode cX2_lambda_volume_1 6 = .ok (.ireturn, 1) := dk_172 (dk_at dksX2_lambda_volume_1_0 6 rfl rfl)
abbrev cX2_area : ByteArray := prog_7_method_2_code
def yX2_area : MethodName := ⟨RX2, "area", "(II)I"⟩
def dkwX2_area_0 : List UInt8 := [42, 27, 186, 0, 20, 0, 0, 28, 4, 96, 184, 0, 24, 172]
abbrev dktX2_area_0 : List UInt8 := dkwX2_area_0 ++ []
theorem dksX2_area_0 : cX2_area.data.toList.drop 0 = dktX2_area_0 := by decide +kernel
theorem dX2_area_0 : decode cX2_area 0 = .ok (.aload_n 0, 1) := dk_42 (dk_at dksX2_area_0 0 rfl rfl)
theorem dX2_area_1 : decode cX2_area 1 = .ok (.iload_n 1, 1) := dk_27 (dk_at dksX2_area_0 1 rfl rfl)
theorem dX2_area_2 : decode cX2_area 2 = .ok (.invokedynamic 20, 5) := by decide +kernel
theorem dX2_area_7 : decode cX2_area 7 = .ok (.iload_n 2, 1) := dk_28 (dk_at dksX2_area_0 7 rfl rfl)
theorem dX2_area_8 : decode cX2_area 8 = .ok (.iconst 1, 1) := dk_4 (dk_at dksX2_area_0 8 rfl rfl)
theorem dX2_area_9 : decode cX2_area 9 = .ok (.iadd, 1) := dk_96 (dk_at dksX2_area_0 9 rfl rfl)
theorem dX2_area_10 : decode cX2_area 10 = .ok (.invokestatic 24, 3) := dk_184 0 24 (dk_at dksX2_area_0 10 rfl rfl)
theorem dX2_area_13 : decode cX2_area 13 = .ok (.ireturn, 1) := dk_172 (dk_at dksX2_area_0 13 rfl rfl)
abbrev cX2_lambda_area_0 : ByteArray := prog_7_method_10_code
def yX2_lambda_area_0 : MethodName := ⟨RX2, "lambda$area$0", "(II)I"⟩
def dkwX2_lambda_area_0_0 : List UInt8 := [42, 180, 0, 17, 28, 50, 27, 46, 172]
abbrev dktX2_lambda_area_0_0 : List UInt8 := dkwX2_lambda_area_0_0 ++ []
theorem dksX2_lambda_area_0_0 : cX2_lambda_area_0.data.toList.drop 0 = dktX2_lambda_area_0_0 := by decide +kernel
theorem dX2_lambda_area_0_0 : decode cX2_lambda_area_0 0 = .ok (.aload_n 0, 1) := dk_42 (dk_at dksX2_lambda_area_0_0 0 rfl rfl)
theorem dX2_lambda_area_0_1 : decode cX2_lambda_area_0 1 = .ok (.getfield 17, 3) := dk_180 0 17 (dk_at dksX2_lambda_area_0_0 1 rfl rfl)
theorem dX2_lambda_area_0_4 : decode cX2_lambda_area_0 4 = .ok (.iload_n 2, 1) := dk_28 (dk_at dksX2_lambda_area_0_0 4 rfl rfl)
theorem dX2_lambda_area_0_5 : decode cX2_lambda_area_0 5 = .ok (.aaload, 1) := dk_50 (dk_at dksX2_lambda_area_0_0 5 rfl rfl)
theorem dX2_lambda_area_0_6 : decode cX2_lambda_area_0 6 = .ok (.iload_n 1, 1) := dk_27 (dk_at dksX2_lambda_area_0_0 6 rfl rfl)
theorem dX2_lambda_area_0_7 : decode cX2_lambda_area_0 7 = .ok (.iaload, 1) := dk_46 (dk_at dksX2_lambda_area_0_0 7 rfl rfl)
theorem dX2_lambda_area_0_8 : decode cX2_lambda_area_0 8 = .ok (.ireturn, 1) := dk_172 (dk_at dksX2_lambda_area_0_0 8 rfl rfl)
abbrev cX2_moment : ByteArray := prog_7_method_5_code
def yX2_moment : MethodName := ⟨RX2, "moment", "(I)I"⟩
def dkwX2_moment_1 : List UInt8 := [42, 29, 4, 96, 27, 182, 0, 32, 96, 104, 96, 61, 132, 3, 1, 167, 255, 221, 28, 172]
abbrev dktX2_moment_1 : List UInt8 := dkwX2_moment_1 ++ []
def dkwX2_moment_0 : List UInt8 := [3, 61, 3, 62, 29, 4, 96, 16, 9, 162, 0, 33, 28, 5, 29, 104, 4, 96, 42, 29, 27, 182, 0, 32]
abbrev dktX2_moment_0 : List UInt8 := dkwX2_moment_0 ++ dktX2_moment_1
theorem dksX2_moment_0 : cX2_moment.data.toList.drop 0 = dktX2_moment_0 := by decide +kernel
theorem dksX2_moment_1 : cX2_moment.data.toList.drop 24 = dktX2_moment_1 := dk_seg dksX2_moment_0 24 rfl rfl
theorem dX2_moment_0 : decode cX2_moment 0 = .ok (.iconst 0, 1) := dk_3 (dk_at dksX2_moment_0 0 rfl rfl)
theorem dX2_moment_1 : decode cX2_moment 1 = .ok (.istore_n 2, 1) := dk_61 (dk_at dksX2_moment_0 1 rfl rfl)
theorem dX2_moment_2 : decode cX2_moment 2 = .ok (.iconst 0, 1) := dk_3 (dk_at dksX2_moment_0 2 rfl rfl)
theorem dX2_moment_3 : decode cX2_moment 3 = .ok (.istore_n 3, 1) := dk_62 (dk_at dksX2_moment_0 3 rfl rfl)
theorem dX2_moment_4 : decode cX2_moment 4 = .ok (.iload_n 3, 1) := dk_29 (dk_at dksX2_moment_0 4 rfl rfl)
theorem dX2_moment_5 : decode cX2_moment 5 = .ok (.iconst 1, 1) := dk_4 (dk_at dksX2_moment_0 5 rfl rfl)
theorem dX2_moment_6 : decode cX2_moment 6 = .ok (.iadd, 1) := dk_96 (dk_at dksX2_moment_0 6 rfl rfl)
theorem dX2_moment_7 : decode cX2_moment 7 = .ok (.bipush 9, 2) := dk_16 9 (dk_at dksX2_moment_0 7 rfl rfl)
theorem dX2_moment_9 : decode cX2_moment 9 = .ok (.if_icmp .ge 33, 3) := dk_162 0 33 (dk_at dksX2_moment_0 9 rfl rfl)
theorem dX2_moment_12 : decode cX2_moment 12 = .ok (.iload_n 2, 1) := dk_28 (dk_at dksX2_moment_0 12 rfl rfl)
theorem dX2_moment_13 : decode cX2_moment 13 = .ok (.iconst 2, 1) := dk_5 (dk_at dksX2_moment_0 13 rfl rfl)
theorem dX2_moment_14 : decode cX2_moment 14 = .ok (.iload_n 3, 1) := dk_29 (dk_at dksX2_moment_0 14 rfl rfl)
theorem dX2_moment_15 : decode cX2_moment 15 = .ok (.imul, 1) := dk_104 (dk_at dksX2_moment_0 15 rfl rfl)
theorem dX2_moment_16 : decode cX2_moment 16 = .ok (.iconst 1, 1) := dk_4 (dk_at dksX2_moment_0 16 rfl rfl)
theorem dX2_moment_17 : decode cX2_moment 17 = .ok (.iadd, 1) := dk_96 (dk_at dksX2_moment_0 17 rfl rfl)
theorem dX2_moment_18 : decode cX2_moment 18 = .ok (.aload_n 0, 1) := dk_42 (dk_at dksX2_moment_0 18 rfl rfl)
theorem dX2_moment_19 : decode cX2_moment 19 = .ok (.iload_n 3, 1) := dk_29 (dk_at dksX2_moment_0 19 rfl rfl)
theorem dX2_moment_20 : decode cX2_moment 20 = .ok (.iload_n 1, 1) := dk_27 (dk_at dksX2_moment_0 20 rfl rfl)
theorem dX2_moment_21 : decode cX2_moment 21 = .ok (.invokevirtual 32, 3) := dk_182 0 32 (dk_at dksX2_moment_0 21 rfl rfl)
theorem dX2_moment_24 : decode cX2_moment 24 = .ok (.aload_n 0, 1) := dk_42 (dk_at dksX2_moment_1 0 rfl rfl)
theorem dX2_moment_25 : decode cX2_moment 25 = .ok (.iload_n 3, 1) := dk_29 (dk_at dksX2_moment_1 1 rfl rfl)
theorem dX2_moment_26 : decode cX2_moment 26 = .ok (.iconst 1, 1) := dk_4 (dk_at dksX2_moment_1 2 rfl rfl)
theorem dX2_moment_27 : decode cX2_moment 27 = .ok (.iadd, 1) := dk_96 (dk_at dksX2_moment_1 3 rfl rfl)
theorem dX2_moment_28 : decode cX2_moment 28 = .ok (.iload_n 1, 1) := dk_27 (dk_at dksX2_moment_1 4 rfl rfl)
theorem dX2_moment_29 : decode cX2_moment 29 = .ok (.invokevirtual 32, 3) := dk_182 0 32 (dk_at dksX2_moment_1 5 rfl rfl)
theorem dX2_moment_32 : decode cX2_moment 32 = .ok (.iadd, 1) := dk_96 (dk_at dksX2_moment_1 8 rfl rfl)
theorem dX2_moment_33 : decode cX2_moment 33 = .ok (.imul, 1) := dk_104 (dk_at dksX2_moment_1 9 rfl rfl)
theorem dX2_moment_34 : decode cX2_moment 34 = .ok (.iadd, 1) := dk_96 (dk_at dksX2_moment_1 10 rfl rfl)
theorem dX2_moment_35 : decode cX2_moment 35 = .ok (.istore_n 2, 1) := dk_61 (dk_at dksX2_moment_1 11 rfl rfl)
theorem dX2_moment_36 : decode cX2_moment 36 = .ok (.iinc 3 1, 3) := dk_132 3 1 (dk_at dksX2_moment_1 12 rfl rfl)
theorem dX2_moment_39 : decode cX2_moment 39 = .ok (.goto (-35), 3) := dk_167 255 221 (dk_at dksX2_moment_1 15 rfl rfl)
theorem dX2_moment_42 : decode cX2_moment 42 = .ok (.iload_n 2, 1) := dk_28 (dk_at dksX2_moment_1 18 rfl rfl)
theorem dX2_moment_43 : decode cX2_moment 43 = .ok (.ireturn, 1) := dk_172 (dk_at dksX2_moment_1 19 rfl rfl)
abbrev cX2_volumeAnew : ByteArray := prog_7_method_4_code
def yX2_volumeAnew : MethodName := ⟨RX2, "volumeAnew", "(I)I"⟩
def dkwX2_volumeAnew_0 : List UInt8 := [42, 186, 0, 29, 0, 0, 27, 4, 96, 184, 0, 24, 172]
abbrev dktX2_volumeAnew_0 : List UInt8 := dkwX2_volumeAnew_0 ++ []
theorem dksX2_volumeAnew_0 : cX2_volumeAnew.data.toList.drop 0 = dktX2_volumeAnew_0 := by decide +kernel
theorem dX2_volumeAnew_0 : decode cX2_volumeAnew 0 = .ok (.aload_n 0, 1) := dk_42 (dk_at dksX2_volumeAnew_0 0 rfl rfl)
theorem dX2_volumeAnew_1 : decode cX2_volumeAnew 1 = .ok (.invokedynamic 29, 5) := by decide +kernel
theorem dX2_volumeAnew_6 : decode cX2_volumeAnew 6 = .ok (.iload_n 1, 1) := dk_27 (dk_at dksX2_volumeAnew_0 6 rfl rfl)
theorem dX2_volumeAnew_7 : decode cX2_volumeAnew 7 = .ok (.iconst 1, 1) := dk_4 (dk_at dksX2_volumeAnew_0 7 rfl rfl)
theorem dX2_volumeAnew_8 : decode cX2_volumeAnew 8 = .ok (.iadd, 1) := dk_96 (dk_at dksX2_volumeAnew_0 8 rfl rfl)
theorem dX2_volumeAnew_9 : decode cX2_volumeAnew 9 = .ok (.invokestatic 24, 3) := dk_184 0 24 (dk_at dksX2_volumeAnew_0 9 rfl rfl)
theorem dX2_volumeAnew_12 : decode cX2_volumeAnew 12 = .ok (.ireturn, 1) := dk_172 (dk_at dksX2_volumeAnew_0 12 rfl rfl)
abbrev cX2_lambda_volumeAnew_3 : ByteArray := prog_7_method_7_code
def yX2_lambda_volumeAnew_3 : MethodName := ⟨RX2, "lambda$volumeAnew$3", "(I)I"⟩
def dkwX2_lambda_volumeAnew_3_0 : List UInt8 := [42, 27, 186, 0, 42, 0, 0, 16, 9, 184, 0, 24, 172]
abbrev dktX2_lambda_volumeAnew_3_0 : List UInt8 := dkwX2_lambda_volumeAnew_3_0 ++ []
theorem dksX2_lambda_volumeAnew_3_0 : cX2_lambda_volumeAnew_3.data.toList.drop 0 = dktX2_lambda_volumeAnew_3_0 := by decide +kernel
theorem dX2_lambda_volumeAnew_3_0 : decode cX2_lambda_volumeAnew_3 0 = .ok (.aload_n 0, 1) := dk_42 (dk_at dksX2_lambda_volumeAnew_3_0 0 rfl rfl)
theorem dX2_lambda_volumeAnew_3_1 : decode cX2_lambda_volumeAnew_3 1 = .ok (.iload_n 1, 1) := dk_27 (dk_at dksX2_lambda_volumeAnew_3_0 1 rfl rfl)
theorem dX2_lambda_volumeAnew_3_2 : decode cX2_lambda_volumeAnew_3 2 = .ok (.invokedynamic 42, 5) := by decide +kernel
theorem dX2_lambda_volumeAnew_3_7 : decode cX2_lambda_volumeAnew_3 7 = .ok (.bipush 9, 2) := dk_16 9 (dk_at dksX2_lambda_volumeAnew_3_0 7 rfl rfl)
theorem dX2_lambda_volumeAnew_3_9 : decode cX2_lambda_volumeAnew_3 9 = .ok (.invokestatic 24, 3) := dk_184 0 24 (dk_at dksX2_lambda_volumeAnew_3_0 9 rfl rfl)
theorem dX2_lambda_volumeAnew_3_12 : decode cX2_lambda_volumeAnew_3 12 = .ok (.ireturn, 1) := dk_172 (dk_at dksX2_lambda_volumeAnew_3_0 12 rfl rfl)
abbrev cX2_lambda_volumeAnew_2 : ByteArray := prog_7_method_8_code
def yX2_lambda_volumeAnew_2 : MethodName := ⟨RX2, "lambda$volumeAnew$2", "(II)I"⟩
def dkwX2_lambda_volumeAnew_2_0 : List UInt8 := [42, 180, 0, 17, 27, 50, 28, 46, 172]
abbrev dktX2_lambda_volumeAnew_2_0 : List UInt8 := dkwX2_lambda_volumeAnew_2_0 ++ []
theorem dksX2_lambda_volumeAnew_2_0 : cX2_lambda_volumeAnew_2.data.toList.drop 0 = dktX2_lambda_volumeAnew_2_0 := by decide +kernel
theorem dX2_lambda_volumeAnew_2_0 : decode cX2_lambda_volumeAnew_2 0 = .ok (.aload_n 0, 1) := dk_42 (dk_at dksX2_lambda_volumeAnew_2_0 0 rfl rfl)
theorem dX2_lambda_volumeAnew_2_1 : decode cX2_lambda_volumeAnew_2 1 = .ok (.getfield 17, 3) := dk_180 0 17 (dk_at dksX2_lambda_volumeAnew_2_0 1 rfl rfl)
theorem dX2_lambda_volumeAnew_2_4 : decode cX2_lambda_volumeAnew_2 4 = .ok (.iload_n 1, 1) := dk_27 (dk_at dksX2_lambda_volumeAnew_2_0 4 rfl rfl)
theorem dX2_lambda_volumeAnew_2_5 : decode cX2_lambda_volumeAnew_2 5 = .ok (.aaload, 1) := dk_50 (dk_at dksX2_lambda_volumeAnew_2_0 5 rfl rfl)
theorem dX2_lambda_volumeAnew_2_6 : decode cX2_lambda_volumeAnew_2 6 = .ok (.iload_n 2, 1) := dk_28 (dk_at dksX2_lambda_volumeAnew_2_0 6 rfl rfl)
theorem dX2_lambda_volumeAnew_2_7 : decode cX2_lambda_volumeAnew_2 7 = .ok (.iaload, 1) := dk_46 (dk_at dksX2_lambda_volumeAnew_2_0 7 rfl rfl)
theorem dX2_lambda_volumeAnew_2_8 : decode cX2_lambda_volumeAnew_2 8 = .ok (.ireturn, 1) := dk_172 (dk_at dksX2_lambda_volumeAnew_2_0 8 rfl rfl)
abbrev cX2_strake : ByteArray := prog_7_method_6_code
def yX2_strake : MethodName := ⟨RX2, "strake", "(I)I"⟩
def dkwX2_strake_1 : List UInt8 := [180, 0, 17, 27, 50, 29, 4, 96, 46, 100, 184, 0, 36, 96, 96, 61, 132, 3, 1, 167, 255, 217, 28, 172]
abbrev dktX2_strake_1 : List UInt8 := dkwX2_strake_1 ++ []
def dkwX2_strake_0 : List UInt8 := [3, 61, 3, 62, 29, 4, 96, 16, 9, 162, 0, 37, 28, 16, 10, 42, 180, 0, 17, 27, 50, 29, 46, 42]
abbrev dktX2_strake_0 : List UInt8 := dkwX2_strake_0 ++ dktX2_strake_1
theorem dksX2_strake_0 : cX2_strake.data.toList.drop 0 = dktX2_strake_0 := by decide +kernel
theorem dksX2_strake_1 : cX2_strake.data.toList.drop 24 = dktX2_strake_1 := dk_seg dksX2_strake_0 24 rfl rfl
theorem dX2_strake_0 : decode cX2_strake 0 = .ok (.iconst 0, 1) := dk_3 (dk_at dksX2_strake_0 0 rfl rfl)
theorem dX2_strake_1 : decode cX2_strake 1 = .ok (.istore_n 2, 1) := dk_61 (dk_at dksX2_strake_0 1 rfl rfl)
theorem dX2_strake_2 : decode cX2_strake 2 = .ok (.iconst 0, 1) := dk_3 (dk_at dksX2_strake_0 2 rfl rfl)
theorem dX2_strake_3 : decode cX2_strake 3 = .ok (.istore_n 3, 1) := dk_62 (dk_at dksX2_strake_0 3 rfl rfl)
theorem dX2_strake_4 : decode cX2_strake 4 = .ok (.iload_n 3, 1) := dk_29 (dk_at dksX2_strake_0 4 rfl rfl)
theorem dX2_strake_5 : decode cX2_strake 5 = .ok (.iconst 1, 1) := dk_4 (dk_at dksX2_strake_0 5 rfl rfl)
theorem dX2_strake_6 : decode cX2_strake 6 = .ok (.iadd, 1) := dk_96 (dk_at dksX2_strake_0 6 rfl rfl)
theorem dX2_strake_7 : decode cX2_strake 7 = .ok (.bipush 9, 2) := dk_16 9 (dk_at dksX2_strake_0 7 rfl rfl)
theorem dX2_strake_9 : decode cX2_strake 9 = .ok (.if_icmp .ge 37, 3) := dk_162 0 37 (dk_at dksX2_strake_0 9 rfl rfl)
theorem dX2_strake_12 : decode cX2_strake 12 = .ok (.iload_n 2, 1) := dk_28 (dk_at dksX2_strake_0 12 rfl rfl)
theorem dX2_strake_13 : decode cX2_strake 13 = .ok (.bipush 10, 2) := dk_16 10 (dk_at dksX2_strake_0 13 rfl rfl)
theorem dX2_strake_15 : decode cX2_strake 15 = .ok (.aload_n 0, 1) := dk_42 (dk_at dksX2_strake_0 15 rfl rfl)
theorem dX2_strake_16 : decode cX2_strake 16 = .ok (.getfield 17, 3) := dk_180 0 17 (dk_at dksX2_strake_0 16 rfl rfl)
theorem dX2_strake_19 : decode cX2_strake 19 = .ok (.iload_n 1, 1) := dk_27 (dk_at dksX2_strake_0 19 rfl rfl)
theorem dX2_strake_20 : decode cX2_strake 20 = .ok (.aaload, 1) := dk_50 (dk_at dksX2_strake_0 20 rfl rfl)
theorem dX2_strake_21 : decode cX2_strake 21 = .ok (.iload_n 3, 1) := dk_29 (dk_at dksX2_strake_0 21 rfl rfl)
theorem dX2_strake_22 : decode cX2_strake 22 = .ok (.iaload, 1) := dk_46 (dk_at dksX2_strake_0 22 rfl rfl)
theorem dX2_strake_23 : decode cX2_strake 23 = .ok (.aload_n 0, 1) := dk_42 (dk_at dksX2_strake_0 23 rfl rfl)
theorem dX2_strake_24 : decode cX2_strake 24 = .ok (.getfield 17, 3) := dk_180 0 17 (dk_at dksX2_strake_1 0 rfl rfl)
theorem dX2_strake_27 : decode cX2_strake 27 = .ok (.iload_n 1, 1) := dk_27 (dk_at dksX2_strake_1 3 rfl rfl)
theorem dX2_strake_28 : decode cX2_strake 28 = .ok (.aaload, 1) := dk_50 (dk_at dksX2_strake_1 4 rfl rfl)
theorem dX2_strake_29 : decode cX2_strake 29 = .ok (.iload_n 3, 1) := dk_29 (dk_at dksX2_strake_1 5 rfl rfl)
theorem dX2_strake_30 : decode cX2_strake 30 = .ok (.iconst 1, 1) := dk_4 (dk_at dksX2_strake_1 6 rfl rfl)
theorem dX2_strake_31 : decode cX2_strake 31 = .ok (.iadd, 1) := dk_96 (dk_at dksX2_strake_1 7 rfl rfl)
theorem dX2_strake_32 : decode cX2_strake 32 = .ok (.iaload, 1) := dk_46 (dk_at dksX2_strake_1 8 rfl rfl)
theorem dX2_strake_33 : decode cX2_strake 33 = .ok (.isub, 1) := dk_100 (dk_at dksX2_strake_1 9 rfl rfl)
theorem dX2_strake_34 : decode cX2_strake 34 = .ok (.invokestatic 36, 3) := dk_184 0 36 (dk_at dksX2_strake_1 10 rfl rfl)
theorem dX2_strake_37 : decode cX2_strake 37 = .ok (.iadd, 1) := dk_96 (dk_at dksX2_strake_1 13 rfl rfl)
theorem dX2_strake_38 : decode cX2_strake 38 = .ok (.iadd, 1) := dk_96 (dk_at dksX2_strake_1 14 rfl rfl)
theorem dX2_strake_39 : decode cX2_strake 39 = .ok (.istore_n 2, 1) := dk_61 (dk_at dksX2_strake_1 15 rfl rfl)
theorem dX2_strake_40 : decode cX2_strake 40 = .ok (.iinc 3 1, 3) := dk_132 3 1 (dk_at dksX2_strake_1 16 rfl rfl)
theorem dX2_strake_43 : decode cX2_strake 43 = .ok (.goto (-39), 3) := dk_167 255 217 (dk_at dksX2_strake_1 19 rfl rfl)
theorem dX2_strake_46 : decode cX2_strake 46 = .ok (.iload_n 2, 1) := dk_28 (dk_at dksX2_strake_1 22 rfl rfl)
theorem dX2_strake_47 : decode cX2_strake 47 = .ok (.ireturn, 1) := dk_172 (dk_at dksX2_strake_1 23 rfl rfl)
theorem q33 : (Jvm.Cond.initialized "FairBatten$Hull") ∈ lw_all := lw_g (lw_at lw_m1 2 rfl) rfl
theorem q69 : (Jvm.Cond.instantiable "FairBatten$Hull" (2 : Nat)) ∈ lw_all := lw_g (lw_at lw_m1 38 rfl) rfl
theorem q71 : (Jvm.Cond.instanceMethod ({ cls := "FairBatten$Hull", name := "<init>", desc := "(LFairBatten;)V" } : Jvm.MethodName)) ∈ lw_all := lw_g (lw_at lw_m1 40 rfl) rfl
theorem q72 : (Jvm.Cond.code ({ cls := "FairBatten$Hull", name := "<init>", desc := "(LFairBatten;)V" } : Jvm.MethodName) prog_7_method_1_code (2 : Nat) (Option.none : Option Jvm.ClassFile.FieldType)) ∈ lw_all := lw_g (lw_at lw_m1 41 rfl) rfl
theorem q73 : (Jvm.Cond.methodLink "FairBatten$Hull" (9 : Nat) ({ cls := "java/lang/Object", name := "<init>", desc := "()V" } : Jvm.MethodName)) ∈ lw_all := lw_g (lw_at lw_m1 42 rfl) rfl
theorem q74 : (Jvm.Cond.classLink "FairBatten$Hull" (15 : Nat) "[[I") ∈ lw_all := lw_g (lw_at lw_m1 43 rfl) rfl
theorem q76 : (Jvm.Cond.fieldLink "FairBatten$Hull" (17 : Nat) "FairBatten$Hull" "halves" "[[I") ∈ lw_all := lw_g (lw_at lw_m1 45 rfl) rfl
theorem q78 : (Jvm.Cond.fieldLink "FairBatten$Hull" (3 : Nat) "FairBatten$Hull" "this$0" "LFairBatten;") ∈ lw_all := lw_g (lw_at lw_m1 47 rfl) rfl
theorem q79 : (Jvm.Cond.laysFinal "FairBatten$Hull" "FairBatten$Hull" "halves" "[[I") ∈ lw_all := lw_g (lw_at lw_m1 48 rfl) rfl
theorem q80 : (Jvm.Cond.soleField "FairBatten$Hull" "halves") ∈ lw_all := lw_g (lw_at lw_m1 49 rfl) rfl
theorem q81 : (Jvm.Cond.laysFinal "FairBatten$Hull" "FairBatten$Hull" "this$0" "LFairBatten;") ∈ lw_all := lw_g (lw_at lw_m1 50 rfl) rfl
theorem q82 : (Jvm.Cond.soleField "FairBatten$Hull" "this$0") ∈ lw_all := lw_g (lw_at lw_m1 51 rfl) rfl
theorem q83 : (Jvm.Cond.superclass "FairBatten$Hull" "java/lang/Object") ∈ lw_all := lw_g (lw_at lw_m1 52 rfl) rfl
theorem q231 : (Jvm.Cond.instanceMethod ({ cls := "FairBatten$Hull", name := "volume", desc := "(I)I" } : Jvm.MethodName)) ∈ lw_all := lw_g (lw_at lw_m1 200 rfl) rfl
theorem q232 : (Jvm.Cond.selects "FairBatten$Hull" ({ cls := "FairBatten$Hull", name := "volume", desc := "(I)I" } : Jvm.MethodName) ({ cls := "FairBatten$Hull", name := "volume", desc := "(I)I" } : Jvm.MethodName)) ∈ lw_all := lw_g (lw_at lw_m1 201 rfl) rfl
theorem q233 : (Jvm.Cond.code ({ cls := "FairBatten$Hull", name := "volume", desc := "(I)I" } : Jvm.MethodName) prog_7_method_3_code (2 : Nat) (Option.some Jvm.ClassFile.FieldType.int)) ∈ lw_all := lw_g (lw_at lw_m1 202 rfl) rfl
theorem q234 : (Jvm.Cond.privateMethod ({ cls := "FairBatten$Hull", name := "lambda$volume$1", desc := "(II)I" } : Jvm.MethodName)) ∈ lw_tbl := lw_at lw_m1 203 rfl
theorem q235 : (Jvm.Cond.instanceMethod ({ cls := "FairBatten$Hull", name := "lambda$volume$1", desc := "(II)I" } : Jvm.MethodName)) ∈ lw_all := lw_g (lw_at lw_m1 204 rfl) rfl
theorem q236 : (Jvm.Cond.code ({ cls := "FairBatten$Hull", name := "lambda$volume$1", desc := "(II)I" } : Jvm.MethodName) prog_7_method_9_code (3 : Nat) (Option.some Jvm.ClassFile.FieldType.int)) ∈ lw_all := lw_g (lw_at lw_m1 205 rfl) rfl
theorem q237 : (Jvm.Cond.methodLink "FairBatten$Hull" (32 : Nat) ({ cls := "FairBatten$Hull", name := "area", desc := "(II)I" } : Jvm.MethodName)) ∈ lw_all := lw_g (lw_at lw_m1 206 rfl) rfl
theorem q238 : (Jvm.Cond.instanceMethod ({ cls := "FairBatten$Hull", name := "area", desc := "(II)I" } : Jvm.MethodName)) ∈ lw_all := lw_g (lw_at lw_m1 207 rfl) rfl
theorem q239 : (Jvm.Cond.selects "FairBatten$Hull" ({ cls := "FairBatten$Hull", name := "area", desc := "(II)I" } : Jvm.MethodName) ({ cls := "FairBatten$Hull", name := "area", desc := "(II)I" } : Jvm.MethodName)) ∈ lw_all := lw_g (lw_at lw_m1 208 rfl) rfl
theorem q240 : (Jvm.Cond.code ({ cls := "FairBatten$Hull", name := "area", desc := "(II)I" } : Jvm.MethodName) prog_7_method_2_code (3 : Nat) (Option.some Jvm.ClassFile.FieldType.int)) ∈ lw_all := lw_g (lw_at lw_m1 209 rfl) rfl
theorem q241 : (Jvm.Cond.privateMethod ({ cls := "FairBatten$Hull", name := "lambda$area$0", desc := "(II)I" } : Jvm.MethodName)) ∈ lw_tbl := lw_at lw_m1 210 rfl
theorem q242 : (Jvm.Cond.instanceMethod ({ cls := "FairBatten$Hull", name := "lambda$area$0", desc := "(II)I" } : Jvm.MethodName)) ∈ lw_all := lw_g (lw_at lw_m1 211 rfl) rfl
theorem q243 : (Jvm.Cond.code ({ cls := "FairBatten$Hull", name := "lambda$area$0", desc := "(II)I" } : Jvm.MethodName) prog_7_method_10_code (3 : Nat) (Option.some Jvm.ClassFile.FieldType.int)) ∈ lw_all := lw_g (lw_at lw_m1 212 rfl) rfl
theorem q244 : (Jvm.Cond.methodLinkNest "FairBatten$Hull" (24 : Nat) ({ cls := "FairBatten", name := "slices", desc := "(LFairBatten$Measure;I)I" } : Jvm.MethodName) "FairBatten") ∈ lw_tbl := lw_at lw_m1 213 rfl
theorem q267 : (Jvm.Cond.instanceMethod ({ cls := "FairBatten$Hull", name := "moment", desc := "(I)I" } : Jvm.MethodName)) ∈ lw_all := lw_g (lw_at lw_m1 236 rfl) rfl
theorem q268 : (Jvm.Cond.selects "FairBatten$Hull" ({ cls := "FairBatten$Hull", name := "moment", desc := "(I)I" } : Jvm.MethodName) ({ cls := "FairBatten$Hull", name := "moment", desc := "(I)I" } : Jvm.MethodName)) ∈ lw_all := lw_g (lw_at lw_m1 237 rfl) rfl
theorem q269 : (Jvm.Cond.code ({ cls := "FairBatten$Hull", name := "moment", desc := "(I)I" } : Jvm.MethodName) prog_7_method_5_code (4 : Nat) (Option.some Jvm.ClassFile.FieldType.int)) ∈ lw_all := lw_g (lw_at lw_m1 238 rfl) rfl
theorem q343 : (Jvm.Cond.selects "FairBatten$Hull" ({ cls := "java/lang/Object", name := "hashCode", desc := "()I" } : Jvm.MethodName) ({ cls := "java/lang/Object", name := "hashCode", desc := "()I" } : Jvm.MethodName)) ∈ lw_all := lw_g (lw_at lw_m2 72 rfl) rfl
theorem q367 : (Jvm.Cond.selects "FairBatten$Hull" ({ cls := "java/lang/Object", name := "equals", desc := "(Ljava/lang/Object;)Z" } : Jvm.MethodName) ({ cls := "java/lang/Object", name := "equals", desc := "(Ljava/lang/Object;)Z" } : Jvm.MethodName)) ∈ lw_all := lw_g (lw_at lw_m2 96 rfl) rfl
theorem q409 : (Jvm.Cond.selects "FairBatten$Hull" ({ cls := "java/lang/Object", name := "getClass", desc := "()Ljava/lang/Class;" } : Jvm.MethodName) ({ cls := "java/lang/Object", name := "getClass", desc := "()Ljava/lang/Class;" } : Jvm.MethodName)) ∈ lw_all := lw_g (lw_at lw_m2 138 rfl) rfl
theorem q688 : (Jvm.Cond.instanceMethod ({ cls := "FairBatten$Hull", name := "volumeAnew", desc := "(I)I" } : Jvm.MethodName)) ∈ lw_all := lw_g (lw_at lw_m3 177 rfl) rfl
theorem q689 : (Jvm.Cond.selects "FairBatten$Hull" ({ cls := "FairBatten$Hull", name := "volumeAnew", desc := "(I)I" } : Jvm.MethodName) ({ cls := "FairBatten$Hull", name := "volumeAnew", desc := "(I)I" } : Jvm.MethodName)) ∈ lw_all := lw_g (lw_at lw_m3 178 rfl) rfl
theorem q690 : (Jvm.Cond.code ({ cls := "FairBatten$Hull", name := "volumeAnew", desc := "(I)I" } : Jvm.MethodName) prog_7_method_4_code (2 : Nat) (Option.some Jvm.ClassFile.FieldType.int)) ∈ lw_all := lw_g (lw_at lw_m3 179 rfl) rfl
theorem q691 : (Jvm.Cond.privateMethod ({ cls := "FairBatten$Hull", name := "lambda$volumeAnew$3", desc := "(I)I" } : Jvm.MethodName)) ∈ lw_tbl := lw_at lw_m3 180 rfl
theorem q692 : (Jvm.Cond.instanceMethod ({ cls := "FairBatten$Hull", name := "lambda$volumeAnew$3", desc := "(I)I" } : Jvm.MethodName)) ∈ lw_all := lw_g (lw_at lw_m3 181 rfl) rfl
theorem q693 : (Jvm.Cond.code ({ cls := "FairBatten$Hull", name := "lambda$volumeAnew$3", desc := "(I)I" } : Jvm.MethodName) prog_7_method_7_code (2 : Nat) (Option.some Jvm.ClassFile.FieldType.int)) ∈ lw_all := lw_g (lw_at lw_m3 182 rfl) rfl
theorem q694 : (Jvm.Cond.privateMethod ({ cls := "FairBatten$Hull", name := "lambda$volumeAnew$2", desc := "(II)I" } : Jvm.MethodName)) ∈ lw_tbl := lw_at lw_m3 183 rfl
theorem q695 : (Jvm.Cond.instanceMethod ({ cls := "FairBatten$Hull", name := "lambda$volumeAnew$2", desc := "(II)I" } : Jvm.MethodName)) ∈ lw_all := lw_g (lw_at lw_m3 184 rfl) rfl
theorem q696 : (Jvm.Cond.code ({ cls := "FairBatten$Hull", name := "lambda$volumeAnew$2", desc := "(II)I" } : Jvm.MethodName) prog_7_method_8_code (3 : Nat) (Option.some Jvm.ClassFile.FieldType.int)) ∈ lw_all := lw_g (lw_at lw_m3 185 rfl) rfl
theorem q728 : (Jvm.Cond.instanceMethod ({ cls := "FairBatten$Hull", name := "strake", desc := "(I)I" } : Jvm.MethodName)) ∈ lw_all := lw_g (lw_at lw_m3 217 rfl) rfl
theorem q729 : (Jvm.Cond.selects "FairBatten$Hull" ({ cls := "FairBatten$Hull", name := "strake", desc := "(I)I" } : Jvm.MethodName) ({ cls := "FairBatten$Hull", name := "strake", desc := "(I)I" } : Jvm.MethodName)) ∈ lw_all := lw_g (lw_at lw_m3 218 rfl) rfl
theorem q730 : (Jvm.Cond.code ({ cls := "FairBatten$Hull", name := "strake", desc := "(I)I" } : Jvm.MethodName) prog_7_method_6_code (4 : Nat) (Option.some Jvm.ClassFile.FieldType.int)) ∈ lw_all := lw_g (lw_at lw_m3 219 rfl) rfl
theorem q731 : (Jvm.Cond.methodLink "FairBatten$Hull" (36 : Nat) ({ cls := "java/lang/Math", name := "abs", desc := "(I)I" } : Jvm.MethodName)) ∈ lw_all := lw_g (lw_at lw_m3 220 rfl) rfl
theorem q1220 : (Jvm.Cond.castable "FairBatten$Hull" "java/lang/Object") ∈ lw_tbl := lw_at lw_m5 229 rfl
theorem in_X2 : ∀ w ∈ wsX20, w ∈ lw_all := lw_in wsX20 [79, 81] (by decide +kernel) (by decide +kernel)
/-! FairBatten$Cargo -/
set_option maxRecDepth 100000
def RX3 : String := "FairBatten$Cargo"
def TX3 : u_T := fun k => match k with
  | 0 => ("FairBatten$Cargo", "weights", "[LFairBatten$Weight;", true)
  | 1 => ("FairBatten$Cargo", "many", "I", false)
  | _ => ("FairBatten$Cargo", "ballast", "LFairBatten$Weight;", true)
def tyX3 : Nat → FieldType := fun k => match k with
  | 0 => .array (.object "FairBatten$Weight")
  | 1 => .int
  | _ => .object "FairBatten$Weight"
abbrev wsX30 : List Cond := u_ws RX3 TX3 3
theorem nmX3 : ∀ a, a < 3 → ∀ b, b < 3 → a ≠ b → (TX3 a).2.1 ≠ (TX3 b).2.1 := by decide +kernel
theorem tyX3_ok : ∀ k, k < 3 → parseFieldDescriptor (TX3 k).2.2.1 = some (tyX3 k) := by decide +kernel
abbrev cX3_init : ByteArray := prog_4_method_1_code
def yX3_init : MethodName := ⟨RX3, "<init>", "()V"⟩
def dkwX3_init_1 : List UInt8 := [181, 0, 20, 177]
abbrev dktX3_init_1 : List UInt8 := dkwX3_init_1 ++ []
def dkwX3_init_0 : List UInt8 := [42, 183, 0, 3, 42, 16, 16, 189, 0, 9, 181, 0, 11, 42, 187, 0, 9, 89, 7, 3, 183, 0, 17]
abbrev dktX3_init_0 : List UInt8 := dkwX3_init_0 ++ dktX3_init_1
theorem dksX3_init_0 : cX3_init.data.toList.drop 0 = dktX3_init_0 := by decide +kernel
theorem dksX3_init_1 : cX3_init.data.toList.drop 23 = dktX3_init_1 := dk_seg dksX3_init_0 23 rfl rfl
theorem dX3_init_0 : decode cX3_init 0 = .ok (.aload_n 0, 1) := dk_42 (dk_at dksX3_init_0 0 rfl rfl)
theorem dX3_init_1 : decode cX3_init 1 = .ok (.invokespecial 3, 3) := dk_183 0 3 (dk_at dksX3_init_0 1 rfl rfl)
theorem dX3_init_4 : decode cX3_init 4 = .ok (.aload_n 0, 1) := dk_42 (dk_at dksX3_init_0 4 rfl rfl)
theorem dX3_init_5 : decode cX3_init 5 = .ok (.bipush 16, 2) := dk_16 16 (dk_at dksX3_init_0 5 rfl rfl)
theorem dX3_init_7 : decode cX3_init 7 = .ok (.anewarray 9, 3) := dk_189 0 9 (dk_at dksX3_init_0 7 rfl rfl)
theorem dX3_init_10 : decode cX3_init 10 = .ok (.putfield 11, 3) := dk_181 0 11 (dk_at dksX3_init_0 10 rfl rfl)
theorem dX3_init_13 : decode cX3_init 13 = .ok (.aload_n 0, 1) := dk_42 (dk_at dksX3_init_0 13 rfl rfl)
theorem dX3_init_14 : decode cX3_init 14 = .ok (.new 9, 3) := dk_187 0 9 (dk_at dksX3_init_0 14 rfl rfl)
theorem dX3_init_17 : decode cX3_init 17 = .ok (.dup, 1) := dk_89 (dk_at dksX3_init_0 17 rfl rfl)
theorem dX3_init_18 : decode cX3_init 18 = .ok (.iconst 4, 1) := dk_7 (dk_at dksX3_init_0 18 rfl rfl)
theorem dX3_init_19 : decode cX3_init 19 = .ok (.iconst 0, 1) := dk_3 (dk_at dksX3_init_0 19 rfl rfl)
theorem dX3_init_20 : decode cX3_init 20 = .ok (.invokespecial 17, 3) := dk_183 0 17 (dk_at dksX3_init_0 20 rfl rfl)
theorem dX3_init_23 : decode cX3_init 23 = .ok (.putfield 20, 3) := dk_181 0 20 (dk_at dksX3_init_1 0 rfl rfl)
theorem dX3_init_26 : decode cX3_init 26 = .ok (.return_, 1) := dk_177 (dk_at dksX3_init_1 3 rfl rfl)
abbrev cX3_load : ByteArray := prog_4_method_3_code
def yX3_load : MethodName := ⟨RX3, "load", "()I"⟩
def dkwX3_load_1 : List UInt8 := [192, 0, 9, 78, 27, 16, 10, 45, 180, 0, 43, 104, 96, 60, 167, 255, 227, 27, 172]
abbrev dktX3_load_1 : List UInt8 := dkwX3_load_1 ++ []
def dkwX3_load_0 : List UInt8 := [3, 60, 42, 182, 0, 29, 77, 44, 185, 0, 33, 1, 0, 153, 0, 26, 44, 185, 0, 39, 1, 0]
abbrev dktX3_load_0 : List UInt8 := dkwX3_load_0 ++ dktX3_load_1
theorem dksX3_load_0 : cX3_load.data.toList.drop 0 = dktX3_load_0 := by decide +kernel
theorem dksX3_load_1 : cX3_load.data.toList.drop 22 = dktX3_load_1 := dk_seg dksX3_load_0 22 rfl rfl
theorem dX3_load_0 : decode cX3_load 0 = .ok (.iconst 0, 1) := dk_3 (dk_at dksX3_load_0 0 rfl rfl)
theorem dX3_load_1 : decode cX3_load 1 = .ok (.istore_n 1, 1) := dk_60 (dk_at dksX3_load_0 1 rfl rfl)
theorem dX3_load_2 : decode cX3_load 2 = .ok (.aload_n 0, 1) := dk_42 (dk_at dksX3_load_0 2 rfl rfl)
theorem dX3_load_3 : decode cX3_load 3 = .ok (.invokevirtual 29, 3) := dk_182 0 29 (dk_at dksX3_load_0 3 rfl rfl)
theorem dX3_load_6 : decode cX3_load 6 = .ok (.astore_n 2, 1) := dk_77 (dk_at dksX3_load_0 6 rfl rfl)
theorem dX3_load_7 : decode cX3_load 7 = .ok (.aload_n 2, 1) := dk_44 (dk_at dksX3_load_0 7 rfl rfl)
theorem dX3_load_8 : decode cX3_load 8 = .ok (.invokeinterface 33 1, 5) := by decide +kernel
theorem dX3_load_13 : decode cX3_load 13 = .ok (.ifCond .eq 26, 3) := dk_153 0 26 (dk_at dksX3_load_0 13 rfl rfl)
theorem dX3_load_16 : decode cX3_load 16 = .ok (.aload_n 2, 1) := dk_44 (dk_at dksX3_load_0 16 rfl rfl)
theorem dX3_load_17 : decode cX3_load 17 = .ok (.invokeinterface 39 1, 5) := by decide +kernel
theorem dX3_load_22 : decode cX3_load 22 = .ok (.checkcast 9, 3) := dk_192 0 9 (dk_at dksX3_load_1 0 rfl rfl)
theorem dX3_load_25 : decode cX3_load 25 = .ok (.astore_n 3, 1) := dk_78 (dk_at dksX3_load_1 3 rfl rfl)
theorem dX3_load_26 : decode cX3_load 26 = .ok (.iload_n 1, 1) := dk_27 (dk_at dksX3_load_1 4 rfl rfl)
theorem dX3_load_27 : decode cX3_load 27 = .ok (.bipush 10, 2) := dk_16 10 (dk_at dksX3_load_1 5 rfl rfl)
theorem dX3_load_29 : decode cX3_load 29 = .ok (.aload_n 3, 1) := dk_45 (dk_at dksX3_load_1 7 rfl rfl)
theorem dX3_load_30 : decode cX3_load 30 = .ok (.getfield 43, 3) := dk_180 0 43 (dk_at dksX3_load_1 8 rfl rfl)
theorem dX3_load_33 : decode cX3_load 33 = .ok (.imul, 1) := dk_104 (dk_at dksX3_load_1 11 rfl rfl)
theorem dX3_load_34 : decode cX3_load 34 = .ok (.iadd, 1) := dk_96 (dk_at dksX3_load_1 12 rfl rfl)
theorem dX3_load_35 : decode cX3_load 35 = .ok (.istore_n 1, 1) := dk_60 (dk_at dksX3_load_1 13 rfl rfl)
theorem dX3_load_36 : decode cX3_load 36 = .ok (.goto (-29), 3) := dk_167 255 227 (dk_at dksX3_load_1 14 rfl rfl)
theorem dX3_load_39 : decode cX3_load 39 = .ok (.iload_n 1, 1) := dk_27 (dk_at dksX3_load_1 17 rfl rfl)
theorem dX3_load_40 : decode cX3_load 40 = .ok (.ireturn, 1) := dk_172 (dk_at dksX3_load_1 18 rfl rfl)
abbrev cX3_iterator : ByteArray := prog_4_method_2_code
def yX3_iterator : MethodName := ⟨RX3, "iterator", "()Ljava/util/Iterator;"⟩
def dkwX3_iterator_0 : List UInt8 := [187, 0, 24, 89, 42, 183, 0, 26, 176]
abbrev dktX3_iterator_0 : List UInt8 := dkwX3_iterator_0 ++ []
theorem dksX3_iterator_0 : cX3_iterator.data.toList.drop 0 = dktX3_iterator_0 := by decide +kernel
theorem dX3_iterator_0 : decode cX3_iterator 0 = .ok (.new 24, 3) := dk_187 0 24 (dk_at dksX3_iterator_0 0 rfl rfl)
theorem dX3_iterator_3 : decode cX3_iterator 3 = .ok (.dup, 1) := dk_89 (dk_at dksX3_iterator_0 3 rfl rfl)
theorem dX3_iterator_4 : decode cX3_iterator 4 = .ok (.aload_n 0, 1) := dk_42 (dk_at dksX3_iterator_0 4 rfl rfl)
theorem dX3_iterator_5 : decode cX3_iterator 5 = .ok (.invokespecial 26, 3) := dk_183 0 26 (dk_at dksX3_iterator_0 5 rfl rfl)
theorem dX3_iterator_8 : decode cX3_iterator 8 = .ok (.areturn, 1) := dk_176 (dk_at dksX3_iterator_0 8 rfl rfl)
abbrev cX3_moment : ByteArray := prog_4_method_4_code
def yX3_moment : MethodName := ⟨RX3, "moment", "()I"⟩
def dkwX3_moment_1 : List UInt8 := [192, 0, 9, 78, 27, 16, 20, 45, 180, 0, 47, 104, 45, 180, 0, 43, 104, 96, 60, 167, 255, 222, 27, 172]
abbrev dktX3_moment_1 : List UInt8 := dkwX3_moment_1 ++ []
def dkwX3_moment_0 : List UInt8 := [3, 60, 42, 182, 0, 29, 77, 44, 185, 0, 33, 1, 0, 153, 0, 31, 44, 185, 0, 39, 1, 0]
abbrev dktX3_moment_0 : List UInt8 := dkwX3_moment_0 ++ dktX3_moment_1
theorem dksX3_moment_0 : cX3_moment.data.toList.drop 0 = dktX3_moment_0 := by decide +kernel
theorem dksX3_moment_1 : cX3_moment.data.toList.drop 22 = dktX3_moment_1 := dk_seg dksX3_moment_0 22 rfl rfl
theorem dX3_moment_0 : decode cX3_moment 0 = .ok (.iconst 0, 1) := dk_3 (dk_at dksX3_moment_0 0 rfl rfl)
theorem dX3_moment_1 : decode cX3_moment 1 = .ok (.istore_n 1, 1) := dk_60 (dk_at dksX3_moment_0 1 rfl rfl)
theorem dX3_moment_2 : decode cX3_moment 2 = .ok (.aload_n 0, 1) := dk_42 (dk_at dksX3_moment_0 2 rfl rfl)
theorem dX3_moment_3 : decode cX3_moment 3 = .ok (.invokevirtual 29, 3) := dk_182 0 29 (dk_at dksX3_moment_0 3 rfl rfl)
theorem dX3_moment_6 : decode cX3_moment 6 = .ok (.astore_n 2, 1) := dk_77 (dk_at dksX3_moment_0 6 rfl rfl)
theorem dX3_moment_7 : decode cX3_moment 7 = .ok (.aload_n 2, 1) := dk_44 (dk_at dksX3_moment_0 7 rfl rfl)
theorem dX3_moment_8 : decode cX3_moment 8 = .ok (.invokeinterface 33 1, 5) := by decide +kernel
theorem dX3_moment_13 : decode cX3_moment 13 = .ok (.ifCond .eq 31, 3) := dk_153 0 31 (dk_at dksX3_moment_0 13 rfl rfl)
theorem dX3_moment_16 : decode cX3_moment 16 = .ok (.aload_n 2, 1) := dk_44 (dk_at dksX3_moment_0 16 rfl rfl)
theorem dX3_moment_17 : decode cX3_moment 17 = .ok (.invokeinterface 39 1, 5) := by decide +kernel
theorem dX3_moment_22 : decode cX3_moment 22 = .ok (.checkcast 9, 3) := dk_192 0 9 (dk_at dksX3_moment_1 0 rfl rfl)
theorem dX3_moment_25 : decode cX3_moment 25 = .ok (.astore_n 3, 1) := dk_78 (dk_at dksX3_moment_1 3 rfl rfl)
theorem dX3_moment_26 : decode cX3_moment 26 = .ok (.iload_n 1, 1) := dk_27 (dk_at dksX3_moment_1 4 rfl rfl)
theorem dX3_moment_27 : decode cX3_moment 27 = .ok (.bipush 20, 2) := dk_16 20 (dk_at dksX3_moment_1 5 rfl rfl)
theorem dX3_moment_29 : decode cX3_moment 29 = .ok (.aload_n 3, 1) := dk_45 (dk_at dksX3_moment_1 7 rfl rfl)
theorem dX3_moment_30 : decode cX3_moment 30 = .ok (.getfield 47, 3) := dk_180 0 47 (dk_at dksX3_moment_1 8 rfl rfl)
theorem dX3_moment_33 : decode cX3_moment 33 = .ok (.imul, 1) := dk_104 (dk_at dksX3_moment_1 11 rfl rfl)
theorem dX3_moment_34 : decode cX3_moment 34 = .ok (.aload_n 3, 1) := dk_45 (dk_at dksX3_moment_1 12 rfl rfl)
theorem dX3_moment_35 : decode cX3_moment 35 = .ok (.getfield 43, 3) := dk_180 0 43 (dk_at dksX3_moment_1 13 rfl rfl)
theorem dX3_moment_38 : decode cX3_moment 38 = .ok (.imul, 1) := dk_104 (dk_at dksX3_moment_1 16 rfl rfl)
theorem dX3_moment_39 : decode cX3_moment 39 = .ok (.iadd, 1) := dk_96 (dk_at dksX3_moment_1 17 rfl rfl)
theorem dX3_moment_40 : decode cX3_moment 40 = .ok (.istore_n 1, 1) := dk_60 (dk_at dksX3_moment_1 18 rfl rfl)
theorem dX3_moment_41 : decode cX3_moment 41 = .ok (.goto (-34), 3) := dk_167 255 222 (dk_at dksX3_moment_1 19 rfl rfl)
theorem dX3_moment_44 : decode cX3_moment 44 = .ok (.iload_n 1, 1) := dk_27 (dk_at dksX3_moment_1 22 rfl rfl)
theorem dX3_moment_45 : decode cX3_moment 45 = .ok (.ireturn, 1) := dk_172 (dk_at dksX3_moment_1 23 rfl rfl)
theorem q34 : (Jvm.Cond.initialized "FairBatten$Cargo") ∈ lw_all := lw_g (lw_at lw_m1 3 rfl) rfl
theorem q86 : (Jvm.Cond.instantiable "FairBatten$Cargo" (3 : Nat)) ∈ lw_all := lw_g (lw_at lw_m1 55 rfl) rfl
theorem q88 : (Jvm.Cond.instanceMethod ({ cls := "FairBatten$Cargo", name := "<init>", desc := "()V" } : Jvm.MethodName)) ∈ lw_all := lw_g (lw_at lw_m1 57 rfl) rfl
theorem q89 : (Jvm.Cond.code ({ cls := "FairBatten$Cargo", name := "<init>", desc := "()V" } : Jvm.MethodName) prog_4_method_1_code (1 : Nat) (Option.none : Option Jvm.ClassFile.FieldType)) ∈ lw_all := lw_g (lw_at lw_m1 58 rfl) rfl
theorem q90 : (Jvm.Cond.methodLink "FairBatten$Cargo" (3 : Nat) ({ cls := "java/lang/Object", name := "<init>", desc := "()V" } : Jvm.MethodName)) ∈ lw_all := lw_g (lw_at lw_m1 59 rfl) rfl
theorem q91 : (Jvm.Cond.classLink "FairBatten$Cargo" (9 : Nat) "FairBatten$Weight") ∈ lw_all := lw_g (lw_at lw_m1 60 rfl) rfl
theorem q94 : (Jvm.Cond.methodLink "FairBatten$Cargo" (17 : Nat) ({ cls := "FairBatten$Weight", name := "<init>", desc := "(II)V" } : Jvm.MethodName)) ∈ lw_all := lw_g (lw_at lw_m1 63 rfl) rfl
theorem q99 : (Jvm.Cond.fieldLinkNest "FairBatten$Cargo" (47 : Nat) "FairBatten$Weight" "station" "I" "FairBatten") ∈ lw_tbl := lw_at lw_m1 68 rfl
theorem q102 : (Jvm.Cond.fieldLinkNest "FairBatten$Cargo" (43 : Nat) "FairBatten$Weight" "weight" "I" "FairBatten") ∈ lw_tbl := lw_at lw_m1 71 rfl
theorem q109 : (Jvm.Cond.fieldLink "FairBatten$Cargo" (11 : Nat) "FairBatten$Cargo" "weights" "[LFairBatten$Weight;") ∈ lw_all := lw_g (lw_at lw_m1 78 rfl) rfl
theorem q114 : (Jvm.Cond.fieldLink "FairBatten$Cargo" (20 : Nat) "FairBatten$Cargo" "ballast" "LFairBatten$Weight;") ∈ lw_all := lw_g (lw_at lw_m1 83 rfl) rfl
theorem q117 : (Jvm.Cond.laysFinal "FairBatten$Cargo" "FairBatten$Cargo" "weights" "[LFairBatten$Weight;") ∈ lw_all := lw_g (lw_at lw_m1 86 rfl) rfl
theorem q118 : (Jvm.Cond.soleField "FairBatten$Cargo" "weights") ∈ lw_all := lw_g (lw_at lw_m1 87 rfl) rfl
theorem q119 : (Jvm.Cond.lays "FairBatten$Cargo" "FairBatten$Cargo" "many" "I") ∈ lw_all := lw_g (lw_at lw_m1 88 rfl) rfl
theorem q120 : (Jvm.Cond.soleField "FairBatten$Cargo" "many") ∈ lw_all := lw_g (lw_at lw_m1 89 rfl) rfl
theorem q121 : (Jvm.Cond.laysFinal "FairBatten$Cargo" "FairBatten$Cargo" "ballast" "LFairBatten$Weight;") ∈ lw_all := lw_g (lw_at lw_m1 90 rfl) rfl
theorem q122 : (Jvm.Cond.soleField "FairBatten$Cargo" "ballast") ∈ lw_all := lw_g (lw_at lw_m1 91 rfl) rfl
theorem q123 : (Jvm.Cond.superclass "FairBatten$Cargo" "java/lang/Object") ∈ lw_all := lw_g (lw_at lw_m1 92 rfl) rfl
theorem q183 : (Jvm.Cond.instanceMethod ({ cls := "FairBatten$Cargo", name := "load", desc := "()I" } : Jvm.MethodName)) ∈ lw_all := lw_g (lw_at lw_m1 152 rfl) rfl
theorem q184 : (Jvm.Cond.selects "FairBatten$Cargo" ({ cls := "FairBatten$Cargo", name := "load", desc := "()I" } : Jvm.MethodName) ({ cls := "FairBatten$Cargo", name := "load", desc := "()I" } : Jvm.MethodName)) ∈ lw_all := lw_g (lw_at lw_m1 153 rfl) rfl
theorem q185 : (Jvm.Cond.code ({ cls := "FairBatten$Cargo", name := "load", desc := "()I" } : Jvm.MethodName) prog_4_method_3_code (4 : Nat) (Option.some Jvm.ClassFile.FieldType.int)) ∈ lw_all := lw_g (lw_at lw_m1 154 rfl) rfl
theorem q186 : (Jvm.Cond.methodLink "FairBatten$Cargo" (29 : Nat) ({ cls := "FairBatten$Cargo", name := "iterator", desc := "()Ljava/util/Iterator;" } : Jvm.MethodName)) ∈ lw_all := lw_g (lw_at lw_m1 155 rfl) rfl
theorem q187 : (Jvm.Cond.instanceMethod ({ cls := "FairBatten$Cargo", name := "iterator", desc := "()Ljava/util/Iterator;" } : Jvm.MethodName)) ∈ lw_all := lw_g (lw_at lw_m1 156 rfl) rfl
theorem q188 : (Jvm.Cond.selects "FairBatten$Cargo" ({ cls := "FairBatten$Cargo", name := "iterator", desc := "()Ljava/util/Iterator;" } : Jvm.MethodName) ({ cls := "FairBatten$Cargo", name := "iterator", desc := "()Ljava/util/Iterator;" } : Jvm.MethodName)) ∈ lw_all := lw_g (lw_at lw_m1 157 rfl) rfl
theorem q189 : (Jvm.Cond.code ({ cls := "FairBatten$Cargo", name := "iterator", desc := "()Ljava/util/Iterator;" } : Jvm.MethodName) prog_4_method_2_code (1 : Nat) (Option.some (Jvm.ClassFile.FieldType.object "java/util/Iterator"))) ∈ lw_all := lw_g (lw_at lw_m1 158 rfl) rfl
theorem q190 : (Jvm.Cond.classLink "FairBatten$Cargo" (24 : Nat) "FairBatten$Cargo$Goer") ∈ lw_all := lw_g (lw_at lw_m1 159 rfl) rfl
theorem q192 : (Jvm.Cond.methodLinkNest "FairBatten$Cargo" (26 : Nat) ({ cls := "FairBatten$Cargo$Goer", name := "<init>", desc := "(LFairBatten$Cargo;)V" } : Jvm.MethodName) "FairBatten") ∈ lw_tbl := lw_at lw_m1 161 rfl
theorem q203 : (Jvm.Cond.interfaceEntry "FairBatten$Cargo" (33 : Nat)) ∈ lw_tbl := lw_at lw_m1 172 rfl
theorem q204 : (Jvm.Cond.methodLink "FairBatten$Cargo" (33 : Nat) ({ cls := "java/util/Iterator", name := "hasNext", desc := "()Z" } : Jvm.MethodName)) ∈ lw_all := lw_g (lw_at lw_m1 173 rfl) rfl
theorem q213 : (Jvm.Cond.interfaceEntry "FairBatten$Cargo" (39 : Nat)) ∈ lw_tbl := lw_at lw_m1 182 rfl
theorem q214 : (Jvm.Cond.methodLink "FairBatten$Cargo" (39 : Nat) ({ cls := "java/util/Iterator", name := "next", desc := "()Ljava/lang/Object;" } : Jvm.MethodName)) ∈ lw_all := lw_g (lw_at lw_m1 183 rfl) rfl
theorem q259 : (Jvm.Cond.instanceMethod ({ cls := "FairBatten$Cargo", name := "moment", desc := "()I" } : Jvm.MethodName)) ∈ lw_all := lw_g (lw_at lw_m1 228 rfl) rfl
theorem q260 : (Jvm.Cond.selects "FairBatten$Cargo" ({ cls := "FairBatten$Cargo", name := "moment", desc := "()I" } : Jvm.MethodName) ({ cls := "FairBatten$Cargo", name := "moment", desc := "()I" } : Jvm.MethodName)) ∈ lw_all := lw_g (lw_at lw_m1 229 rfl) rfl
theorem q261 : (Jvm.Cond.code ({ cls := "FairBatten$Cargo", name := "moment", desc := "()I" } : Jvm.MethodName) prog_4_method_4_code (4 : Nat) (Option.some Jvm.ClassFile.FieldType.int)) ∈ lw_all := lw_g (lw_at lw_m1 230 rfl) rfl
theorem q341 : (Jvm.Cond.selects "FairBatten$Cargo" ({ cls := "java/lang/Object", name := "hashCode", desc := "()I" } : Jvm.MethodName) ({ cls := "java/lang/Object", name := "hashCode", desc := "()I" } : Jvm.MethodName)) ∈ lw_all := lw_g (lw_at lw_m2 70 rfl) rfl
theorem q365 : (Jvm.Cond.selects "FairBatten$Cargo" ({ cls := "java/lang/Object", name := "equals", desc := "(Ljava/lang/Object;)Z" } : Jvm.MethodName) ({ cls := "java/lang/Object", name := "equals", desc := "(Ljava/lang/Object;)Z" } : Jvm.MethodName)) ∈ lw_all := lw_g (lw_at lw_m2 94 rfl) rfl
theorem q407 : (Jvm.Cond.selects "FairBatten$Cargo" ({ cls := "java/lang/Object", name := "getClass", desc := "()Ljava/lang/Class;" } : Jvm.MethodName) ({ cls := "java/lang/Object", name := "getClass", desc := "()Ljava/lang/Class;" } : Jvm.MethodName)) ∈ lw_all := lw_g (lw_at lw_m2 136 rfl) rfl
theorem q1221 : (Jvm.Cond.castable "FairBatten$Cargo" "java/lang/Object") ∈ lw_tbl := lw_at lw_m5 230 rfl
theorem in_X3 : ∀ w ∈ wsX30, w ∈ lw_all := lw_in wsX30 [117, 119, 121] (by decide +kernel) (by decide +kernel)
/-! FairBatten$Weight -/
set_option maxRecDepth 100000
def RX4 : String := "FairBatten$Weight"
def TX4 : u_T := fun k => match k with
  | 0 => ("FairBatten$Weight", "station", "I", false)
  | _ => ("FairBatten$Weight", "weight", "I", false)
def tyX4 : Nat → FieldType := fun k => match k with
  | 0 => .int
  | _ => .int
abbrev wsX40 : List Cond := u_ws RX4 TX4 2
theorem nmX4 : ∀ a, a < 2 → ∀ b, b < 2 → a ≠ b → (TX4 a).2.1 ≠ (TX4 b).2.1 := by decide +kernel
theorem tyX4_ok : ∀ k, k < 2 → parseFieldDescriptor (TX4 k).2.2.1 = some (tyX4 k) := by decide +kernel
abbrev cX4_init : ByteArray := prog_11_method_1_code
def yX4_init : MethodName := ⟨RX4, "<init>", "(II)V"⟩
def dkwX4_init_0 : List UInt8 := [42, 183, 0, 1, 42, 27, 181, 0, 7, 42, 28, 181, 0, 13, 177]
abbrev dktX4_init_0 : List UInt8 := dkwX4_init_0 ++ []
theorem dksX4_init_0 : cX4_init.data.toList.drop 0 = dktX4_init_0 := by decide +kernel
theorem dX4_init_0 : decode cX4_init 0 = .ok (.aload_n 0, 1) := dk_42 (dk_at dksX4_init_0 0 rfl rfl)
theorem dX4_init_1 : decode cX4_init 1 = .ok (.invokespecial 1, 3) := dk_183 0 1 (dk_at dksX4_init_0 1 rfl rfl)
theorem dX4_init_4 : decode cX4_init 4 = .ok (.aload_n 0, 1) := dk_42 (dk_at dksX4_init_0 4 rfl rfl)
theorem dX4_init_5 : decode cX4_init 5 = .ok (.iload_n 1, 1) := dk_27 (dk_at dksX4_init_0 5 rfl rfl)
theorem dX4_init_6 : decode cX4_init 6 = .ok (.putfield 7, 3) := dk_181 0 7 (dk_at dksX4_init_0 6 rfl rfl)
theorem dX4_init_9 : decode cX4_init 9 = .ok (.aload_n 0, 1) := dk_42 (dk_at dksX4_init_0 9 rfl rfl)
theorem dX4_init_10 : decode cX4_init 10 = .ok (.iload_n 2, 1) := dk_28 (dk_at dksX4_init_0 10 rfl rfl)
theorem dX4_init_11 : decode cX4_init 11 = .ok (.putfield 13, 3) := dk_181 0 13 (dk_at dksX4_init_0 11 rfl rfl)
theorem dX4_init_14 : decode cX4_init 14 = .ok (.return_, 1) := dk_177 (dk_at dksX4_init_0 14 rfl rfl)
theorem q35 : (Jvm.Cond.initialized "FairBatten$Weight") ∈ lw_all := lw_g (lw_at lw_m1 4 rfl) rfl
theorem q93 : (Jvm.Cond.instantiable "FairBatten$Weight" (2 : Nat)) ∈ lw_all := lw_g (lw_at lw_m1 62 rfl) rfl
theorem q95 : (Jvm.Cond.instanceMethod ({ cls := "FairBatten$Weight", name := "<init>", desc := "(II)V" } : Jvm.MethodName)) ∈ lw_all := lw_g (lw_at lw_m1 64 rfl) rfl
theorem q96 : (Jvm.Cond.code ({ cls := "FairBatten$Weight", name := "<init>", desc := "(II)V" } : Jvm.MethodName) prog_11_method_1_code (3 : Nat) (Option.none : Option Jvm.ClassFile.FieldType)) ∈ lw_all := lw_g (lw_at lw_m1 65 rfl) rfl
theorem q97 : (Jvm.Cond.methodLink "FairBatten$Weight" (1 : Nat) ({ cls := "java/lang/Object", name := "<init>", desc := "()V" } : Jvm.MethodName)) ∈ lw_all := lw_g (lw_at lw_m1 66 rfl) rfl
theorem q98 : (Jvm.Cond.fieldLink "FairBatten$Weight" (7 : Nat) "FairBatten$Weight" "station" "I") ∈ lw_all := lw_g (lw_at lw_m1 67 rfl) rfl
theorem q101 : (Jvm.Cond.fieldLink "FairBatten$Weight" (13 : Nat) "FairBatten$Weight" "weight" "I") ∈ lw_all := lw_g (lw_at lw_m1 70 rfl) rfl
theorem q104 : (Jvm.Cond.lays "FairBatten$Weight" "FairBatten$Weight" "station" "I") ∈ lw_all := lw_g (lw_at lw_m1 73 rfl) rfl
theorem q105 : (Jvm.Cond.soleField "FairBatten$Weight" "station") ∈ lw_all := lw_g (lw_at lw_m1 74 rfl) rfl
theorem q106 : (Jvm.Cond.lays "FairBatten$Weight" "FairBatten$Weight" "weight" "I") ∈ lw_all := lw_g (lw_at lw_m1 75 rfl) rfl
theorem q107 : (Jvm.Cond.soleField "FairBatten$Weight" "weight") ∈ lw_all := lw_g (lw_at lw_m1 76 rfl) rfl
theorem q108 : (Jvm.Cond.superclass "FairBatten$Weight" "java/lang/Object") ∈ lw_all := lw_g (lw_at lw_m1 77 rfl) rfl
theorem q345 : (Jvm.Cond.selects "FairBatten$Weight" ({ cls := "java/lang/Object", name := "hashCode", desc := "()I" } : Jvm.MethodName) ({ cls := "java/lang/Object", name := "hashCode", desc := "()I" } : Jvm.MethodName)) ∈ lw_all := lw_g (lw_at lw_m2 74 rfl) rfl
theorem q369 : (Jvm.Cond.selects "FairBatten$Weight" ({ cls := "java/lang/Object", name := "equals", desc := "(Ljava/lang/Object;)Z" } : Jvm.MethodName) ({ cls := "java/lang/Object", name := "equals", desc := "(Ljava/lang/Object;)Z" } : Jvm.MethodName)) ∈ lw_all := lw_g (lw_at lw_m2 98 rfl) rfl
theorem q411 : (Jvm.Cond.selects "FairBatten$Weight" ({ cls := "java/lang/Object", name := "getClass", desc := "()Ljava/lang/Class;" } : Jvm.MethodName) ({ cls := "java/lang/Object", name := "getClass", desc := "()Ljava/lang/Class;" } : Jvm.MethodName)) ∈ lw_all := lw_g (lw_at lw_m2 140 rfl) rfl
theorem q1222 : (Jvm.Cond.castable "FairBatten$Weight" "java/lang/Object") ∈ lw_tbl := lw_at lw_m5 231 rfl
theorem in_X4 : ∀ w ∈ wsX40, w ∈ lw_all := lw_in wsX40 [104, 106] (by decide +kernel) (by decide +kernel)
/-! FairBatten$Batten -/
set_option maxRecDepth 100000
def RX6 : String := "FairBatten$Batten"
def TX6 : u_T := fun k => match k with
  | 0 => ("FairBatten$Batten", "line", "[I", true)
  | 1 => ("FairBatten$Batten", "tolerance", "I", true)
  | _ => ("FairBatten$Batten", "least", "[[I", true)
def tyX6 : Nat → FieldType := fun k => match k with
  | 0 => .array .int
  | 1 => .int
  | _ => .array (.array .int)
abbrev wsX60 : List Cond := u_ws RX6 TX6 3
theorem nmX6 : ∀ a, a < 3 → ∀ b, b < 3 → a ≠ b → (TX6 a).2.1 ≠ (TX6 b).2.1 := by decide +kernel
theorem tyX6_ok : ∀ k, k < 3 → parseFieldDescriptor (TX6 k).2.2.1 = some (tyX6 k) := by decide +kernel
abbrev cX6_init : ByteArray := prog_3_method_1_code
def yX6_init : MethodName := ⟨RX6, "<init>", "([II)V"⟩
def dkwX6_init_3 : List UInt8 := [182, 0, 24, 182, 0, 28, 79, 132, 4, 1, 167, 255, 211, 132, 3, 255, 167, 255, 198, 177]
abbrev dktX6_init_3 : List UInt8 := dkwX6_init_3 ++ []
def dkwX6_init_2 : List UInt8 := [29, 50, 21, 4, 42, 29, 21, 4, 8, 108, 21, 4, 8, 112, 42, 29, 21, 4, 8, 108, 21, 4, 8, 112]
abbrev dktX6_init_2 : List UInt8 := dkwX6_init_2 ++ dktX6_init_3
def dkwX6_init_1 : List UInt8 := [181, 0, 20, 16, 6, 62, 29, 155, 0, 60, 3, 54, 4, 21, 4, 16, 25, 162, 0, 44, 42, 180, 0, 11]
abbrev dktX6_init_1 : List UInt8 := dkwX6_init_1 ++ dktX6_init_2
def dkwX6_init_0 : List UInt8 := [42, 183, 0, 3, 42, 16, 9, 16, 25, 197, 0, 9, 2, 181, 0, 11, 42, 43, 181, 0, 16, 42, 28]
abbrev dktX6_init_0 : List UInt8 := dkwX6_init_0 ++ dktX6_init_1
theorem dksX6_init_0 : cX6_init.data.toList.drop 0 = dktX6_init_0 := by decide +kernel
theorem dksX6_init_1 : cX6_init.data.toList.drop 23 = dktX6_init_1 := dk_seg dksX6_init_0 23 rfl rfl
theorem dksX6_init_2 : cX6_init.data.toList.drop 47 = dktX6_init_2 := dk_seg dksX6_init_1 24 rfl rfl
theorem dksX6_init_3 : cX6_init.data.toList.drop 71 = dktX6_init_3 := dk_seg dksX6_init_2 24 rfl rfl
theorem dX6_init_0 : decode cX6_init 0 = .ok (.aload_n 0, 1) := dk_42 (dk_at dksX6_init_0 0 rfl rfl)
theorem dX6_init_1 : decode cX6_init 1 = .ok (.invokespecial 3, 3) := dk_183 0 3 (dk_at dksX6_init_0 1 rfl rfl)
theorem dX6_init_4 : decode cX6_init 4 = .ok (.aload_n 0, 1) := dk_42 (dk_at dksX6_init_0 4 rfl rfl)
theorem dX6_init_5 : decode cX6_init 5 = .ok (.bipush 9, 2) := dk_16 9 (dk_at dksX6_init_0 5 rfl rfl)
theorem dX6_init_7 : decode cX6_init 7 = .ok (.bipush 25, 2) := dk_16 25 (dk_at dksX6_init_0 7 rfl rfl)
theorem dX6_init_9 : decode cX6_init 9 = .ok (.multianewarray 9 2, 4) := by decide +kernel
theorem dX6_init_13 : decode cX6_init 13 = .ok (.putfield 11, 3) := dk_181 0 11 (dk_at dksX6_init_0 13 rfl rfl)
theorem dX6_init_16 : decode cX6_init 16 = .ok (.aload_n 0, 1) := dk_42 (dk_at dksX6_init_0 16 rfl rfl)
theorem dX6_init_17 : decode cX6_init 17 = .ok (.aload_n 1, 1) := dk_43 (dk_at dksX6_init_0 17 rfl rfl)
theorem dX6_init_18 : decode cX6_init 18 = .ok (.putfield 16, 3) := dk_181 0 16 (dk_at dksX6_init_0 18 rfl rfl)
theorem dX6_init_21 : decode cX6_init 21 = .ok (.aload_n 0, 1) := dk_42 (dk_at dksX6_init_0 21 rfl rfl)
theorem dX6_init_22 : decode cX6_init 22 = .ok (.iload_n 2, 1) := dk_28 (dk_at dksX6_init_0 22 rfl rfl)
theorem dX6_init_23 : decode cX6_init 23 = .ok (.putfield 20, 3) := dk_181 0 20 (dk_at dksX6_init_1 0 rfl rfl)
theorem dX6_init_26 : decode cX6_init 26 = .ok (.bipush 6, 2) := dk_16 6 (dk_at dksX6_init_1 3 rfl rfl)
theorem dX6_init_28 : decode cX6_init 28 = .ok (.istore_n 3, 1) := dk_62 (dk_at dksX6_init_1 5 rfl rfl)
theorem dX6_init_29 : decode cX6_init 29 = .ok (.iload_n 3, 1) := dk_29 (dk_at dksX6_init_1 6 rfl rfl)
theorem dX6_init_30 : decode cX6_init 30 = .ok (.ifCond .lt 60, 3) := dk_155 0 60 (dk_at dksX6_init_1 7 rfl rfl)
theorem dX6_init_33 : decode cX6_init 33 = .ok (.iconst 0, 1) := dk_3 (dk_at dksX6_init_1 10 rfl rfl)
theorem dX6_init_34 : decode cX6_init 34 = .ok (.istore 4, 2) := dk_54 4 (dk_at dksX6_init_1 11 rfl rfl)
theorem dX6_init_36 : decode cX6_init 36 = .ok (.iload 4, 2) := dk_21 4 (dk_at dksX6_init_1 13 rfl rfl)
theorem dX6_init_38 : decode cX6_init 38 = .ok (.bipush 25, 2) := dk_16 25 (dk_at dksX6_init_1 15 rfl rfl)
theorem dX6_init_40 : decode cX6_init 40 = .ok (.if_icmp .ge 44, 3) := dk_162 0 44 (dk_at dksX6_init_1 17 rfl rfl)
theorem dX6_init_43 : decode cX6_init 43 = .ok (.aload_n 0, 1) := dk_42 (dk_at dksX6_init_1 20 rfl rfl)
theorem dX6_init_44 : decode cX6_init 44 = .ok (.getfield 11, 3) := dk_180 0 11 (dk_at dksX6_init_1 21 rfl rfl)
theorem dX6_init_47 : decode cX6_init 47 = .ok (.iload_n 3, 1) := dk_29 (dk_at dksX6_init_2 0 rfl rfl)
theorem dX6_init_48 : decode cX6_init 48 = .ok (.aaload, 1) := dk_50 (dk_at dksX6_init_2 1 rfl rfl)
theorem dX6_init_49 : decode cX6_init 49 = .ok (.iload 4, 2) := dk_21 4 (dk_at dksX6_init_2 2 rfl rfl)
theorem dX6_init_51 : decode cX6_init 51 = .ok (.aload_n 0, 1) := dk_42 (dk_at dksX6_init_2 4 rfl rfl)
theorem dX6_init_52 : decode cX6_init 52 = .ok (.iload_n 3, 1) := dk_29 (dk_at dksX6_init_2 5 rfl rfl)
theorem dX6_init_53 : decode cX6_init 53 = .ok (.iload 4, 2) := dk_21 4 (dk_at dksX6_init_2 6 rfl rfl)
theorem dX6_init_55 : decode cX6_init 55 = .ok (.iconst 5, 1) := dk_8 (dk_at dksX6_init_2 8 rfl rfl)
theorem dX6_init_56 : decode cX6_init 56 = .ok (.idiv, 1) := dk_108 (dk_at dksX6_init_2 9 rfl rfl)
theorem dX6_init_57 : decode cX6_init 57 = .ok (.iload 4, 2) := dk_21 4 (dk_at dksX6_init_2 10 rfl rfl)
theorem dX6_init_59 : decode cX6_init 59 = .ok (.iconst 5, 1) := dk_8 (dk_at dksX6_init_2 12 rfl rfl)
theorem dX6_init_60 : decode cX6_init 60 = .ok (.irem, 1) := dk_112 (dk_at dksX6_init_2 13 rfl rfl)
theorem dX6_init_61 : decode cX6_init 61 = .ok (.aload_n 0, 1) := dk_42 (dk_at dksX6_init_2 14 rfl rfl)
theorem dX6_init_62 : decode cX6_init 62 = .ok (.iload_n 3, 1) := dk_29 (dk_at dksX6_init_2 15 rfl rfl)
theorem dX6_init_63 : decode cX6_init 63 = .ok (.iload 4, 2) := dk_21 4 (dk_at dksX6_init_2 16 rfl rfl)
theorem dX6_init_65 : decode cX6_init 65 = .ok (.iconst 5, 1) := dk_8 (dk_at dksX6_init_2 18 rfl rfl)
theorem dX6_init_66 : decode cX6_init 66 = .ok (.idiv, 1) := dk_108 (dk_at dksX6_init_2 19 rfl rfl)
theorem dX6_init_67 : decode cX6_init 67 = .ok (.iload 4, 2) := dk_21 4 (dk_at dksX6_init_2 20 rfl rfl)
theorem dX6_init_69 : decode cX6_init 69 = .ok (.iconst 5, 1) := dk_8 (dk_at dksX6_init_2 22 rfl rfl)
theorem dX6_init_70 : decode cX6_init 70 = .ok (.irem, 1) := dk_112 (dk_at dksX6_init_2 23 rfl rfl)
theorem dX6_init_71 : decode cX6_init 71 = .ok (.invokevirtual 24, 3) := dk_182 0 24 (dk_at dksX6_init_3 0 rfl rfl)
theorem dX6_init_74 : decode cX6_init 74 = .ok (.invokevirtual 28, 3) := dk_182 0 28 (dk_at dksX6_init_3 3 rfl rfl)
theorem dX6_init_77 : decode cX6_init 77 = .ok (.iastore, 1) := dk_79 (dk_at dksX6_init_3 6 rfl rfl)
theorem dX6_init_78 : decode cX6_init 78 = .ok (.iinc 4 1, 3) := dk_132 4 1 (dk_at dksX6_init_3 7 rfl rfl)
theorem dX6_init_81 : decode cX6_init 81 = .ok (.goto (-45), 3) := dk_167 255 211 (dk_at dksX6_init_3 10 rfl rfl)
theorem dX6_init_84 : decode cX6_init 84 = .ok (.iinc 3 (-1), 3) := dk_132 3 255 (dk_at dksX6_init_3 13 rfl rfl)
theorem dX6_init_87 : decode cX6_init 87 = .ok (.goto (-58), 3) := dk_167 255 198 (dk_at dksX6_init_3 16 rfl rfl)
theorem dX6_init_90 : decode cX6_init 90 = .ok (.return_, 1) := dk_177 (dk_at dksX6_init_3 19 rfl rfl)
abbrev cX6_choice : ByteArray := prog_3_method_5_code
def yX6_choice : MethodName := ⟨RX6, "choice", "(III)I"⟩
def dkwX6_choice_2 : List UInt8 := [162, 0, 7, 21, 5, 54, 4, 132, 5, 1, 167, 255, 204, 21, 4, 172]
abbrev dktX6_choice_2 : List UInt8 := dkwX6_choice_2 ++ []
def dkwX6_choice_1 : List UInt8 := [21, 4, 2, 159, 0, 24, 42, 27, 28, 29, 21, 5, 182, 0, 28, 42, 27, 28, 29, 21, 4, 182, 0, 28]
abbrev dktX6_choice_1 : List UInt8 := dkwX6_choice_1 ++ dktX6_choice_2
def dkwX6_choice_0 : List UInt8 := [2, 54, 4, 3, 54, 5, 21, 5, 8, 162, 0, 52, 42, 27, 5, 96, 21, 5, 182, 0, 40, 153, 0, 34]
abbrev dktX6_choice_0 : List UInt8 := dkwX6_choice_0 ++ dktX6_choice_1
theorem dksX6_choice_0 : cX6_choice.data.toList.drop 0 = dktX6_choice_0 := by decide +kernel
theorem dksX6_choice_1 : cX6_choice.data.toList.drop 24 = dktX6_choice_1 := dk_seg dksX6_choice_0 24 rfl rfl
theorem dksX6_choice_2 : cX6_choice.data.toList.drop 48 = dktX6_choice_2 := dk_seg dksX6_choice_1 24 rfl rfl
theorem dX6_choice_0 : decode cX6_choice 0 = .ok (.iconst (-1), 1) := dk_2 (dk_at dksX6_choice_0 0 rfl rfl)
theorem dX6_choice_1 : decode cX6_choice 1 = .ok (.istore 4, 2) := dk_54 4 (dk_at dksX6_choice_0 1 rfl rfl)
theorem dX6_choice_3 : decode cX6_choice 3 = .ok (.iconst 0, 1) := dk_3 (dk_at dksX6_choice_0 3 rfl rfl)
theorem dX6_choice_4 : decode cX6_choice 4 = .ok (.istore 5, 2) := dk_54 5 (dk_at dksX6_choice_0 4 rfl rfl)
theorem dX6_choice_6 : decode cX6_choice 6 = .ok (.iload 5, 2) := dk_21 5 (dk_at dksX6_choice_0 6 rfl rfl)
theorem dX6_choice_8 : decode cX6_choice 8 = .ok (.iconst 5, 1) := dk_8 (dk_at dksX6_choice_0 8 rfl rfl)
theorem dX6_choice_9 : decode cX6_choice 9 = .ok (.if_icmp .ge 52, 3) := dk_162 0 52 (dk_at dksX6_choice_0 9 rfl rfl)
theorem dX6_choice_12 : decode cX6_choice 12 = .ok (.aload_n 0, 1) := dk_42 (dk_at dksX6_choice_0 12 rfl rfl)
theorem dX6_choice_13 : decode cX6_choice 13 = .ok (.iload_n 1, 1) := dk_27 (dk_at dksX6_choice_0 13 rfl rfl)
theorem dX6_choice_14 : decode cX6_choice 14 = .ok (.iconst 2, 1) := dk_5 (dk_at dksX6_choice_0 14 rfl rfl)
theorem dX6_choice_15 : decode cX6_choice 15 = .ok (.iadd, 1) := dk_96 (dk_at dksX6_choice_0 15 rfl rfl)
theorem dX6_choice_16 : decode cX6_choice 16 = .ok (.iload 5, 2) := dk_21 5 (dk_at dksX6_choice_0 16 rfl rfl)
theorem dX6_choice_18 : decode cX6_choice 18 = .ok (.invokevirtual 40, 3) := dk_182 0 40 (dk_at dksX6_choice_0 18 rfl rfl)
theorem dX6_choice_21 : decode cX6_choice 21 = .ok (.ifCond .eq 34, 3) := dk_153 0 34 (dk_at dksX6_choice_0 21 rfl rfl)
theorem dX6_choice_24 : decode cX6_choice 24 = .ok (.iload 4, 2) := dk_21 4 (dk_at dksX6_choice_1 0 rfl rfl)
theorem dX6_choice_26 : decode cX6_choice 26 = .ok (.iconst (-1), 1) := dk_2 (dk_at dksX6_choice_1 2 rfl rfl)
theorem dX6_choice_27 : decode cX6_choice 27 = .ok (.if_icmp .eq 24, 3) := dk_159 0 24 (dk_at dksX6_choice_1 3 rfl rfl)
theorem dX6_choice_30 : decode cX6_choice 30 = .ok (.aload_n 0, 1) := dk_42 (dk_at dksX6_choice_1 6 rfl rfl)
theorem dX6_choice_31 : decode cX6_choice 31 = .ok (.iload_n 1, 1) := dk_27 (dk_at dksX6_choice_1 7 rfl rfl)
theorem dX6_choice_32 : decode cX6_choice 32 = .ok (.iload_n 2, 1) := dk_28 (dk_at dksX6_choice_1 8 rfl rfl)
theorem dX6_choice_33 : decode cX6_choice 33 = .ok (.iload_n 3, 1) := dk_29 (dk_at dksX6_choice_1 9 rfl rfl)
theorem dX6_choice_34 : decode cX6_choice 34 = .ok (.iload 5, 2) := dk_21 5 (dk_at dksX6_choice_1 10 rfl rfl)
theorem dX6_choice_36 : decode cX6_choice 36 = .ok (.invokevirtual 28, 3) := dk_182 0 28 (dk_at dksX6_choice_1 12 rfl rfl)
theorem dX6_choice_39 : decode cX6_choice 39 = .ok (.aload_n 0, 1) := dk_42 (dk_at dksX6_choice_1 15 rfl rfl)
theorem dX6_choice_40 : decode cX6_choice 40 = .ok (.iload_n 1, 1) := dk_27 (dk_at dksX6_choice_1 16 rfl rfl)
theorem dX6_choice_41 : decode cX6_choice 41 = .ok (.iload_n 2, 1) := dk_28 (dk_at dksX6_choice_1 17 rfl rfl)
theorem dX6_choice_42 : decode cX6_choice 42 = .ok (.iload_n 3, 1) := dk_29 (dk_at dksX6_choice_1 18 rfl rfl)
theorem dX6_choice_43 : decode cX6_choice 43 = .ok (.iload 4, 2) := dk_21 4 (dk_at dksX6_choice_1 19 rfl rfl)
theorem dX6_choice_45 : decode cX6_choice 45 = .ok (.invokevirtual 28, 3) := dk_182 0 28 (dk_at dksX6_choice_1 21 rfl rfl)
theorem dX6_choice_48 : decode cX6_choice 48 = .ok (.if_icmp .ge 7, 3) := dk_162 0 7 (dk_at dksX6_choice_2 0 rfl rfl)
theorem dX6_choice_51 : decode cX6_choice 51 = .ok (.iload 5, 2) := dk_21 5 (dk_at dksX6_choice_2 3 rfl rfl)
theorem dX6_choice_53 : decode cX6_choice 53 = .ok (.istore 4, 2) := dk_54 4 (dk_at dksX6_choice_2 5 rfl rfl)
theorem dX6_choice_55 : decode cX6_choice 55 = .ok (.iinc 5 1, 3) := dk_132 5 1 (dk_at dksX6_choice_2 7 rfl rfl)
theorem dX6_choice_58 : decode cX6_choice 58 = .ok (.goto (-52), 3) := dk_167 255 204 (dk_at dksX6_choice_2 10 rfl rfl)
theorem dX6_choice_61 : decode cX6_choice 61 = .ok (.iload 4, 2) := dk_21 4 (dk_at dksX6_choice_2 13 rfl rfl)
theorem dX6_choice_63 : decode cX6_choice 63 = .ok (.ireturn, 1) := dk_172 (dk_at dksX6_choice_2 15 rfl rfl)
abbrev cX6_can : ByteArray := prog_3_method_3_code
def yX6_can : MethodName := ⟨RX6, "can", "(II)Z"⟩
def dkwX6_can_1 : List UInt8 := [182, 0, 36, 3, 17, 0, 200, 184, 0, 32, 153, 0, 7, 4, 167, 0, 4, 3, 172]
abbrev dktX6_can_1 : List UInt8 := dkwX6_can_1 ++ []
def dkwX6_can_0 : List UInt8 := [28, 5, 42, 180, 0, 20, 100, 5, 42, 180, 0, 20, 96, 184, 0, 32, 153, 0, 23, 42, 27, 28]
abbrev dktX6_can_0 : List UInt8 := dkwX6_can_0 ++ dktX6_can_1
theorem dksX6_can_0 : cX6_can.data.toList.drop 0 = dktX6_can_0 := by decide +kernel
theorem dksX6_can_1 : cX6_can.data.toList.drop 22 = dktX6_can_1 := dk_seg dksX6_can_0 22 rfl rfl
theorem dX6_can_0 : decode cX6_can 0 = .ok (.iload_n 2, 1) := dk_28 (dk_at dksX6_can_0 0 rfl rfl)
theorem dX6_can_1 : decode cX6_can 1 = .ok (.iconst 2, 1) := dk_5 (dk_at dksX6_can_0 1 rfl rfl)
theorem dX6_can_2 : decode cX6_can 2 = .ok (.aload_n 0, 1) := dk_42 (dk_at dksX6_can_0 2 rfl rfl)
theorem dX6_can_3 : decode cX6_can 3 = .ok (.getfield 20, 3) := dk_180 0 20 (dk_at dksX6_can_0 3 rfl rfl)
theorem dX6_can_6 : decode cX6_can 6 = .ok (.isub, 1) := dk_100 (dk_at dksX6_can_0 6 rfl rfl)
theorem dX6_can_7 : decode cX6_can 7 = .ok (.iconst 2, 1) := dk_5 (dk_at dksX6_can_0 7 rfl rfl)
theorem dX6_can_8 : decode cX6_can 8 = .ok (.aload_n 0, 1) := dk_42 (dk_at dksX6_can_0 8 rfl rfl)
theorem dX6_can_9 : decode cX6_can 9 = .ok (.getfield 20, 3) := dk_180 0 20 (dk_at dksX6_can_0 9 rfl rfl)
theorem dX6_can_12 : decode cX6_can 12 = .ok (.iadd, 1) := dk_96 (dk_at dksX6_can_0 12 rfl rfl)
theorem dX6_can_13 : decode cX6_can 13 = .ok (.invokestatic 32, 3) := dk_184 0 32 (dk_at dksX6_can_0 13 rfl rfl)
theorem dX6_can_16 : decode cX6_can 16 = .ok (.ifCond .eq 23, 3) := dk_153 0 23 (dk_at dksX6_can_0 16 rfl rfl)
theorem dX6_can_19 : decode cX6_can 19 = .ok (.aload_n 0, 1) := dk_42 (dk_at dksX6_can_0 19 rfl rfl)
theorem dX6_can_20 : decode cX6_can 20 = .ok (.iload_n 1, 1) := dk_27 (dk_at dksX6_can_0 20 rfl rfl)
theorem dX6_can_21 : decode cX6_can 21 = .ok (.iload_n 2, 1) := dk_28 (dk_at dksX6_can_0 21 rfl rfl)
theorem dX6_can_22 : decode cX6_can 22 = .ok (.invokevirtual 36, 3) := dk_182 0 36 (dk_at dksX6_can_1 0 rfl rfl)
theorem dX6_can_25 : decode cX6_can 25 = .ok (.iconst 0, 1) := dk_3 (dk_at dksX6_can_1 3 rfl rfl)
theorem dX6_can_26 : decode cX6_can 26 = .ok (.sipush 200, 3) := dk_17 0 200 (dk_at dksX6_can_1 4 rfl rfl)
theorem dX6_can_29 : decode cX6_can 29 = .ok (.invokestatic 32, 3) := dk_184 0 32 (dk_at dksX6_can_1 7 rfl rfl)
theorem dX6_can_32 : decode cX6_can 32 = .ok (.ifCond .eq 7, 3) := dk_153 0 7 (dk_at dksX6_can_1 10 rfl rfl)
theorem dX6_can_35 : decode cX6_can 35 = .ok (.iconst 1, 1) := dk_4 (dk_at dksX6_can_1 13 rfl rfl)
theorem dX6_can_36 : decode cX6_can 36 = .ok (.goto 4, 3) := dk_167 0 4 (dk_at dksX6_can_1 14 rfl rfl)
theorem dX6_can_39 : decode cX6_can 39 = .ok (.iconst 0, 1) := dk_3 (dk_at dksX6_can_1 17 rfl rfl)
theorem dX6_can_40 : decode cX6_can 40 = .ok (.ireturn, 1) := dk_172 (dk_at dksX6_can_1 18 rfl rfl)
abbrev cX6_half : ByteArray := prog_3_method_2_code
def yX6_half : MethodName := ⟨RX6, "half", "(II)I"⟩
def dkwX6_half_0 : List UInt8 := [42, 180, 0, 16, 27, 46, 28, 96, 5, 100, 172]
abbrev dktX6_half_0 : List UInt8 := dkwX6_half_0 ++ []
theorem dksX6_half_0 : cX6_half.data.toList.drop 0 = dktX6_half_0 := by decide +kernel
theorem dX6_half_0 : decode cX6_half 0 = .ok (.aload_n 0, 1) := dk_42 (dk_at dksX6_half_0 0 rfl rfl)
theorem dX6_half_1 : decode cX6_half 1 = .ok (.getfield 16, 3) := dk_180 0 16 (dk_at dksX6_half_0 1 rfl rfl)
theorem dX6_half_4 : decode cX6_half 4 = .ok (.iload_n 1, 1) := dk_27 (dk_at dksX6_half_0 4 rfl rfl)
theorem dX6_half_5 : decode cX6_half 5 = .ok (.iaload, 1) := dk_46 (dk_at dksX6_half_0 5 rfl rfl)
theorem dX6_half_6 : decode cX6_half 6 = .ok (.iload_n 2, 1) := dk_28 (dk_at dksX6_half_0 6 rfl rfl)
theorem dX6_half_7 : decode cX6_half 7 = .ok (.iadd, 1) := dk_96 (dk_at dksX6_half_0 7 rfl rfl)
theorem dX6_half_8 : decode cX6_half 8 = .ok (.iconst 2, 1) := dk_5 (dk_at dksX6_half_0 8 rfl rfl)
theorem dX6_half_9 : decode cX6_half 9 = .ok (.isub, 1) := dk_100 (dk_at dksX6_half_0 9 rfl rfl)
theorem dX6_half_10 : decode cX6_half 10 = .ok (.ireturn, 1) := dk_172 (dk_at dksX6_half_0 10 rfl rfl)
abbrev cX6_behind : ByteArray := prog_3_method_4_code
def yX6_behind : MethodName := ⟨RX6, "behind", "(IIII)I"⟩
def dkwX6_behind_2 : List UInt8 := [21, 4, 96, 46, 96, 172]
abbrev dktX6_behind_2 : List UInt8 := dkwX6_behind_2 ++ []
def dkwX6_behind_1 : List UInt8 := [182, 0, 36, 104, 100, 54, 5, 21, 5, 21, 5, 104, 42, 180, 0, 11, 27, 4, 96, 50, 8, 29, 104]
abbrev dktX6_behind_1 : List UInt8 := dkwX6_behind_1 ++ dktX6_behind_2
def dkwX6_behind_0 : List UInt8 := [42, 27, 28, 182, 0, 36, 42, 27, 5, 96, 21, 4, 182, 0, 36, 96, 5, 42, 27, 4, 96, 29]
abbrev dktX6_behind_0 : List UInt8 := dkwX6_behind_0 ++ dktX6_behind_1
theorem dksX6_behind_0 : cX6_behind.data.toList.drop 0 = dktX6_behind_0 := by decide +kernel
theorem dksX6_behind_1 : cX6_behind.data.toList.drop 22 = dktX6_behind_1 := dk_seg dksX6_behind_0 22 rfl rfl
theorem dksX6_behind_2 : cX6_behind.data.toList.drop 45 = dktX6_behind_2 := dk_seg dksX6_behind_1 23 rfl rfl
theorem dX6_behind_0 : decode cX6_behind 0 = .ok (.aload_n 0, 1) := dk_42 (dk_at dksX6_behind_0 0 rfl rfl)
theorem dX6_behind_1 : decode cX6_behind 1 = .ok (.iload_n 1, 1) := dk_27 (dk_at dksX6_behind_0 1 rfl rfl)
theorem dX6_behind_2 : decode cX6_behind 2 = .ok (.iload_n 2, 1) := dk_28 (dk_at dksX6_behind_0 2 rfl rfl)
theorem dX6_behind_3 : decode cX6_behind 3 = .ok (.invokevirtual 36, 3) := dk_182 0 36 (dk_at dksX6_behind_0 3 rfl rfl)
theorem dX6_behind_6 : decode cX6_behind 6 = .ok (.aload_n 0, 1) := dk_42 (dk_at dksX6_behind_0 6 rfl rfl)
theorem dX6_behind_7 : decode cX6_behind 7 = .ok (.iload_n 1, 1) := dk_27 (dk_at dksX6_behind_0 7 rfl rfl)
theorem dX6_behind_8 : decode cX6_behind 8 = .ok (.iconst 2, 1) := dk_5 (dk_at dksX6_behind_0 8 rfl rfl)
theorem dX6_behind_9 : decode cX6_behind 9 = .ok (.iadd, 1) := dk_96 (dk_at dksX6_behind_0 9 rfl rfl)
theorem dX6_behind_10 : decode cX6_behind 10 = .ok (.iload 4, 2) := dk_21 4 (dk_at dksX6_behind_0 10 rfl rfl)
theorem dX6_behind_12 : decode cX6_behind 12 = .ok (.invokevirtual 36, 3) := dk_182 0 36 (dk_at dksX6_behind_0 12 rfl rfl)
theorem dX6_behind_15 : decode cX6_behind 15 = .ok (.iadd, 1) := dk_96 (dk_at dksX6_behind_0 15 rfl rfl)
theorem dX6_behind_16 : decode cX6_behind 16 = .ok (.iconst 2, 1) := dk_5 (dk_at dksX6_behind_0 16 rfl rfl)
theorem dX6_behind_17 : decode cX6_behind 17 = .ok (.aload_n 0, 1) := dk_42 (dk_at dksX6_behind_0 17 rfl rfl)
theorem dX6_behind_18 : decode cX6_behind 18 = .ok (.iload_n 1, 1) := dk_27 (dk_at dksX6_behind_0 18 rfl rfl)
theorem dX6_behind_19 : decode cX6_behind 19 = .ok (.iconst 1, 1) := dk_4 (dk_at dksX6_behind_0 19 rfl rfl)
theorem dX6_behind_20 : decode cX6_behind 20 = .ok (.iadd, 1) := dk_96 (dk_at dksX6_behind_0 20 rfl rfl)
theorem dX6_behind_21 : decode cX6_behind 21 = .ok (.iload_n 3, 1) := dk_29 (dk_at dksX6_behind_0 21 rfl rfl)
theorem dX6_behind_22 : decode cX6_behind 22 = .ok (.invokevirtual 36, 3) := dk_182 0 36 (dk_at dksX6_behind_1 0 rfl rfl)
theorem dX6_behind_25 : decode cX6_behind 25 = .ok (.imul, 1) := dk_104 (dk_at dksX6_behind_1 3 rfl rfl)
theorem dX6_behind_26 : decode cX6_behind 26 = .ok (.isub, 1) := dk_100 (dk_at dksX6_behind_1 4 rfl rfl)
theorem dX6_behind_27 : decode cX6_behind 27 = .ok (.istore 5, 2) := dk_54 5 (dk_at dksX6_behind_1 5 rfl rfl)
theorem dX6_behind_29 : decode cX6_behind 29 = .ok (.iload 5, 2) := dk_21 5 (dk_at dksX6_behind_1 7 rfl rfl)
theorem dX6_behind_31 : decode cX6_behind 31 = .ok (.iload 5, 2) := dk_21 5 (dk_at dksX6_behind_1 9 rfl rfl)
theorem dX6_behind_33 : decode cX6_behind 33 = .ok (.imul, 1) := dk_104 (dk_at dksX6_behind_1 11 rfl rfl)
theorem dX6_behind_34 : decode cX6_behind 34 = .ok (.aload_n 0, 1) := dk_42 (dk_at dksX6_behind_1 12 rfl rfl)
theorem dX6_behind_35 : decode cX6_behind 35 = .ok (.getfield 11, 3) := dk_180 0 11 (dk_at dksX6_behind_1 13 rfl rfl)
theorem dX6_behind_38 : decode cX6_behind 38 = .ok (.iload_n 1, 1) := dk_27 (dk_at dksX6_behind_1 16 rfl rfl)
theorem dX6_behind_39 : decode cX6_behind 39 = .ok (.iconst 1, 1) := dk_4 (dk_at dksX6_behind_1 17 rfl rfl)
theorem dX6_behind_40 : decode cX6_behind 40 = .ok (.iadd, 1) := dk_96 (dk_at dksX6_behind_1 18 rfl rfl)
theorem dX6_behind_41 : decode cX6_behind 41 = .ok (.aaload, 1) := dk_50 (dk_at dksX6_behind_1 19 rfl rfl)
theorem dX6_behind_42 : decode cX6_behind 42 = .ok (.iconst 5, 1) := dk_8 (dk_at dksX6_behind_1 20 rfl rfl)
theorem dX6_behind_43 : decode cX6_behind 43 = .ok (.iload_n 3, 1) := dk_29 (dk_at dksX6_behind_1 21 rfl rfl)
theorem dX6_behind_44 : decode cX6_behind 44 = .ok (.imul, 1) := dk_104 (dk_at dksX6_behind_1 22 rfl rfl)
theorem dX6_behind_45 : decode cX6_behind 45 = .ok (.iload 4, 2) := dk_21 4 (dk_at dksX6_behind_2 0 rfl rfl)
theorem dX6_behind_47 : decode cX6_behind 47 = .ok (.iadd, 1) := dk_96 (dk_at dksX6_behind_2 2 rfl rfl)
theorem dX6_behind_48 : decode cX6_behind 48 = .ok (.iaload, 1) := dk_46 (dk_at dksX6_behind_2 3 rfl rfl)
theorem dX6_behind_49 : decode cX6_behind 49 = .ok (.iadd, 1) := dk_96 (dk_at dksX6_behind_2 4 rfl rfl)
theorem dX6_behind_50 : decode cX6_behind 50 = .ok (.ireturn, 1) := dk_172 (dk_at dksX6_behind_2 5 rfl rfl)
abbrev cX6_fair : ByteArray := prog_3_method_6_code
def yX6_fair : MethodName := ⟨RX6, "fair", "()[I"⟩
def dkwX6_fair_6 : List UInt8 := [132, 4, 1, 167, 255, 207, 45, 176]
abbrev dktX6_fair_6 : List UInt8 := dkwX6_fair_6 ++ []
def dkwX6_fair_5 : List UInt8 := [16, 9, 162, 0, 14, 42, 21, 4, 27, 28, 182, 0, 24, 167, 0, 4, 2, 54, 5, 28, 60, 21, 5, 61]
abbrev dktX6_fair_5 : List UInt8 := dkwX6_fair_5 ++ dktX6_fair_6
def dkwX6_fair_4 : List UInt8 := [54, 4, 21, 4, 16, 9, 162, 0, 48, 45, 21, 4, 42, 21, 4, 27, 182, 0, 36, 79, 21, 4, 5, 96]
abbrev dktX6_fair_4 : List UInt8 := dkwX6_fair_4 ++ dktX6_fair_5
def dkwX6_fair_3 : List UInt8 := [162, 0, 11, 29, 8, 108, 60, 29, 8, 112, 61, 132, 3, 1, 167, 255, 177, 16, 9, 188, 10, 78, 3]
abbrev dktX6_fair_3 : List UInt8 := dkwX6_fair_3 ++ dktX6_fair_4
def dkwX6_fair_2 : List UInt8 := [159, 0, 26, 42, 180, 0, 11, 3, 50, 29, 46, 42, 180, 0, 11, 3, 50, 8, 27, 104, 28, 96, 46]
abbrev dktX6_fair_2 : List UInt8 := dkwX6_fair_2 ++ dktX6_fair_3
def dkwX6_fair_1 : List UInt8 := [4, 29, 8, 112, 182, 0, 40, 153, 0, 7, 4, 167, 0, 4, 3, 54, 4, 21, 4, 153, 0, 39, 27, 2]
abbrev dktX6_fair_1 : List UInt8 := dkwX6_fair_1 ++ dktX6_fair_2
def dkwX6_fair_0 : List UInt8 := [2, 60, 2, 61, 3, 62, 29, 16, 25, 162, 0, 79, 42, 3, 29, 8, 108, 182, 0, 40, 153, 0, 18, 42]
abbrev dktX6_fair_0 : List UInt8 := dkwX6_fair_0 ++ dktX6_fair_1
theorem dksX6_fair_0 : cX6_fair.data.toList.drop 0 = dktX6_fair_0 := by decide +kernel
theorem dksX6_fair_1 : cX6_fair.data.toList.drop 24 = dktX6_fair_1 := dk_seg dksX6_fair_0 24 rfl rfl
theorem dksX6_fair_2 : cX6_fair.data.toList.drop 48 = dktX6_fair_2 := dk_seg dksX6_fair_1 24 rfl rfl
theorem dksX6_fair_3 : cX6_fair.data.toList.drop 71 = dktX6_fair_3 := dk_seg dksX6_fair_2 23 rfl rfl
theorem dksX6_fair_4 : cX6_fair.data.toList.drop 94 = dktX6_fair_4 := dk_seg dksX6_fair_3 23 rfl rfl
theorem dksX6_fair_5 : cX6_fair.data.toList.drop 118 = dktX6_fair_5 := dk_seg dksX6_fair_4 24 rfl rfl
theorem dksX6_fair_6 : cX6_fair.data.toList.drop 142 = dktX6_fair_6 := dk_seg dksX6_fair_5 24 rfl rfl
theorem dX6_fair_0 : decode cX6_fair 0 = .ok (.iconst (-1), 1) := dk_2 (dk_at dksX6_fair_0 0 rfl rfl)
theorem dX6_fair_1 : decode cX6_fair 1 = .ok (.istore_n 1, 1) := dk_60 (dk_at dksX6_fair_0 1 rfl rfl)
theorem dX6_fair_2 : decode cX6_fair 2 = .ok (.iconst (-1), 1) := dk_2 (dk_at dksX6_fair_0 2 rfl rfl)
theorem dX6_fair_3 : decode cX6_fair 3 = .ok (.istore_n 2, 1) := dk_61 (dk_at dksX6_fair_0 3 rfl rfl)
theorem dX6_fair_4 : decode cX6_fair 4 = .ok (.iconst 0, 1) := dk_3 (dk_at dksX6_fair_0 4 rfl rfl)
theorem dX6_fair_5 : decode cX6_fair 5 = .ok (.istore_n 3, 1) := dk_62 (dk_at dksX6_fair_0 5 rfl rfl)
theorem dX6_fair_6 : decode cX6_fair 6 = .ok (.iload_n 3, 1) := dk_29 (dk_at dksX6_fair_0 6 rfl rfl)
theorem dX6_fair_7 : decode cX6_fair 7 = .ok (.bipush 25, 2) := dk_16 25 (dk_at dksX6_fair_0 7 rfl rfl)
theorem dX6_fair_9 : decode cX6_fair 9 = .ok (.if_icmp .ge 79, 3) := dk_162 0 79 (dk_at dksX6_fair_0 9 rfl rfl)
theorem dX6_fair_12 : decode cX6_fair 12 = .ok (.aload_n 0, 1) := dk_42 (dk_at dksX6_fair_0 12 rfl rfl)
theorem dX6_fair_13 : decode cX6_fair 13 = .ok (.iconst 0, 1) := dk_3 (dk_at dksX6_fair_0 13 rfl rfl)
theorem dX6_fair_14 : decode cX6_fair 14 = .ok (.iload_n 3, 1) := dk_29 (dk_at dksX6_fair_0 14 rfl rfl)
theorem dX6_fair_15 : decode cX6_fair 15 = .ok (.iconst 5, 1) := dk_8 (dk_at dksX6_fair_0 15 rfl rfl)
theorem dX6_fair_16 : decode cX6_fair 16 = .ok (.idiv, 1) := dk_108 (dk_at dksX6_fair_0 16 rfl rfl)
theorem dX6_fair_17 : decode cX6_fair 17 = .ok (.invokevirtual 40, 3) := dk_182 0 40 (dk_at dksX6_fair_0 17 rfl rfl)
theorem dX6_fair_20 : decode cX6_fair 20 = .ok (.ifCond .eq 18, 3) := dk_153 0 18 (dk_at dksX6_fair_0 20 rfl rfl)
theorem dX6_fair_23 : decode cX6_fair 23 = .ok (.aload_n 0, 1) := dk_42 (dk_at dksX6_fair_0 23 rfl rfl)
theorem dX6_fair_24 : decode cX6_fair 24 = .ok (.iconst 1, 1) := dk_4 (dk_at dksX6_fair_1 0 rfl rfl)
theorem dX6_fair_25 : decode cX6_fair 25 = .ok (.iload_n 3, 1) := dk_29 (dk_at dksX6_fair_1 1 rfl rfl)
theorem dX6_fair_26 : decode cX6_fair 26 = .ok (.iconst 5, 1) := dk_8 (dk_at dksX6_fair_1 2 rfl rfl)
theorem dX6_fair_27 : decode cX6_fair 27 = .ok (.irem, 1) := dk_112 (dk_at dksX6_fair_1 3 rfl rfl)
theorem dX6_fair_28 : decode cX6_fair 28 = .ok (.invokevirtual 40, 3) := dk_182 0 40 (dk_at dksX6_fair_1 4 rfl rfl)
theorem dX6_fair_31 : decode cX6_fair 31 = .ok (.ifCond .eq 7, 3) := dk_153 0 7 (dk_at dksX6_fair_1 7 rfl rfl)
theorem dX6_fair_34 : decode cX6_fair 34 = .ok (.iconst 1, 1) := dk_4 (dk_at dksX6_fair_1 10 rfl rfl)
theorem dX6_fair_35 : decode cX6_fair 35 = .ok (.goto 4, 3) := dk_167 0 4 (dk_at dksX6_fair_1 11 rfl rfl)
theorem dX6_fair_38 : decode cX6_fair 38 = .ok (.iconst 0, 1) := dk_3 (dk_at dksX6_fair_1 14 rfl rfl)
theorem dX6_fair_39 : decode cX6_fair 39 = .ok (.istore 4, 2) := dk_54 4 (dk_at dksX6_fair_1 15 rfl rfl)
theorem dX6_fair_41 : decode cX6_fair 41 = .ok (.iload 4, 2) := dk_21 4 (dk_at dksX6_fair_1 17 rfl rfl)
theorem dX6_fair_43 : decode cX6_fair 43 = .ok (.ifCond .eq 39, 3) := dk_153 0 39 (dk_at dksX6_fair_1 19 rfl rfl)
theorem dX6_fair_46 : decode cX6_fair 46 = .ok (.iload_n 1, 1) := dk_27 (dk_at dksX6_fair_1 22 rfl rfl)
theorem dX6_fair_47 : decode cX6_fair 47 = .ok (.iconst (-1), 1) := dk_2 (dk_at dksX6_fair_1 23 rfl rfl)
theorem dX6_fair_48 : decode cX6_fair 48 = .ok (.if_icmp .eq 26, 3) := dk_159 0 26 (dk_at dksX6_fair_2 0 rfl rfl)
theorem dX6_fair_51 : decode cX6_fair 51 = .ok (.aload_n 0, 1) := dk_42 (dk_at dksX6_fair_2 3 rfl rfl)
theorem dX6_fair_52 : decode cX6_fair 52 = .ok (.getfield 11, 3) := dk_180 0 11 (dk_at dksX6_fair_2 4 rfl rfl)
theorem dX6_fair_55 : decode cX6_fair 55 = .ok (.iconst 0, 1) := dk_3 (dk_at dksX6_fair_2 7 rfl rfl)
theorem dX6_fair_56 : decode cX6_fair 56 = .ok (.aaload, 1) := dk_50 (dk_at dksX6_fair_2 8 rfl rfl)
theorem dX6_fair_57 : decode cX6_fair 57 = .ok (.iload_n 3, 1) := dk_29 (dk_at dksX6_fair_2 9 rfl rfl)
theorem dX6_fair_58 : decode cX6_fair 58 = .ok (.iaload, 1) := dk_46 (dk_at dksX6_fair_2 10 rfl rfl)
theorem dX6_fair_59 : decode cX6_fair 59 = .ok (.aload_n 0, 1) := dk_42 (dk_at dksX6_fair_2 11 rfl rfl)
theorem dX6_fair_60 : decode cX6_fair 60 = .ok (.getfield 11, 3) := dk_180 0 11 (dk_at dksX6_fair_2 12 rfl rfl)
theorem dX6_fair_63 : decode cX6_fair 63 = .ok (.iconst 0, 1) := dk_3 (dk_at dksX6_fair_2 15 rfl rfl)
theorem dX6_fair_64 : decode cX6_fair 64 = .ok (.aaload, 1) := dk_50 (dk_at dksX6_fair_2 16 rfl rfl)
theorem dX6_fair_65 : decode cX6_fair 65 = .ok (.iconst 5, 1) := dk_8 (dk_at dksX6_fair_2 17 rfl rfl)
theorem dX6_fair_66 : decode cX6_fair 66 = .ok (.iload_n 1, 1) := dk_27 (dk_at dksX6_fair_2 18 rfl rfl)
theorem dX6_fair_67 : decode cX6_fair 67 = .ok (.imul, 1) := dk_104 (dk_at dksX6_fair_2 19 rfl rfl)
theorem dX6_fair_68 : decode cX6_fair 68 = .ok (.iload_n 2, 1) := dk_28 (dk_at dksX6_fair_2 20 rfl rfl)
theorem dX6_fair_69 : decode cX6_fair 69 = .ok (.iadd, 1) := dk_96 (dk_at dksX6_fair_2 21 rfl rfl)
theorem dX6_fair_70 : decode cX6_fair 70 = .ok (.iaload, 1) := dk_46 (dk_at dksX6_fair_2 22 rfl rfl)
theorem dX6_fair_71 : decode cX6_fair 71 = .ok (.if_icmp .ge 11, 3) := dk_162 0 11 (dk_at dksX6_fair_3 0 rfl rfl)
theorem dX6_fair_74 : decode cX6_fair 74 = .ok (.iload_n 3, 1) := dk_29 (dk_at dksX6_fair_3 3 rfl rfl)
theorem dX6_fair_75 : decode cX6_fair 75 = .ok (.iconst 5, 1) := dk_8 (dk_at dksX6_fair_3 4 rfl rfl)
theorem dX6_fair_76 : decode cX6_fair 76 = .ok (.idiv, 1) := dk_108 (dk_at dksX6_fair_3 5 rfl rfl)
theorem dX6_fair_77 : decode cX6_fair 77 = .ok (.istore_n 1, 1) := dk_60 (dk_at dksX6_fair_3 6 rfl rfl)
theorem dX6_fair_78 : decode cX6_fair 78 = .ok (.iload_n 3, 1) := dk_29 (dk_at dksX6_fair_3 7 rfl rfl)
theorem dX6_fair_79 : decode cX6_fair 79 = .ok (.iconst 5, 1) := dk_8 (dk_at dksX6_fair_3 8 rfl rfl)
theorem dX6_fair_80 : decode cX6_fair 80 = .ok (.irem, 1) := dk_112 (dk_at dksX6_fair_3 9 rfl rfl)
theorem dX6_fair_81 : decode cX6_fair 81 = .ok (.istore_n 2, 1) := dk_61 (dk_at dksX6_fair_3 10 rfl rfl)
theorem dX6_fair_82 : decode cX6_fair 82 = .ok (.iinc 3 1, 3) := dk_132 3 1 (dk_at dksX6_fair_3 11 rfl rfl)
theorem dX6_fair_85 : decode cX6_fair 85 = .ok (.goto (-79), 3) := dk_167 255 177 (dk_at dksX6_fair_3 14 rfl rfl)
theorem dX6_fair_88 : decode cX6_fair 88 = .ok (.bipush 9, 2) := dk_16 9 (dk_at dksX6_fair_3 17 rfl rfl)
theorem dX6_fair_90 : decode cX6_fair 90 = .ok (.newarray .int, 2) := dk_188_10 (dk_at dksX6_fair_3 19 rfl rfl)
theorem dX6_fair_92 : decode cX6_fair 92 = .ok (.astore_n 3, 1) := dk_78 (dk_at dksX6_fair_3 21 rfl rfl)
theorem dX6_fair_93 : decode cX6_fair 93 = .ok (.iconst 0, 1) := dk_3 (dk_at dksX6_fair_3 22 rfl rfl)
theorem dX6_fair_94 : decode cX6_fair 94 = .ok (.istore 4, 2) := dk_54 4 (dk_at dksX6_fair_4 0 rfl rfl)
theorem dX6_fair_96 : decode cX6_fair 96 = .ok (.iload 4, 2) := dk_21 4 (dk_at dksX6_fair_4 2 rfl rfl)
theorem dX6_fair_98 : decode cX6_fair 98 = .ok (.bipush 9, 2) := dk_16 9 (dk_at dksX6_fair_4 4 rfl rfl)
theorem dX6_fair_100 : decode cX6_fair 100 = .ok (.if_icmp .ge 48, 3) := dk_162 0 48 (dk_at dksX6_fair_4 6 rfl rfl)
theorem dX6_fair_103 : decode cX6_fair 103 = .ok (.aload_n 3, 1) := dk_45 (dk_at dksX6_fair_4 9 rfl rfl)
theorem dX6_fair_104 : decode cX6_fair 104 = .ok (.iload 4, 2) := dk_21 4 (dk_at dksX6_fair_4 10 rfl rfl)
theorem dX6_fair_106 : decode cX6_fair 106 = .ok (.aload_n 0, 1) := dk_42 (dk_at dksX6_fair_4 12 rfl rfl)
theorem dX6_fair_107 : decode cX6_fair 107 = .ok (.iload 4, 2) := dk_21 4 (dk_at dksX6_fair_4 13 rfl rfl)
theorem dX6_fair_109 : decode cX6_fair 109 = .ok (.iload_n 1, 1) := dk_27 (dk_at dksX6_fair_4 15 rfl rfl)
theorem dX6_fair_110 : decode cX6_fair 110 = .ok (.invokevirtual 36, 3) := dk_182 0 36 (dk_at dksX6_fair_4 16 rfl rfl)
theorem dX6_fair_113 : decode cX6_fair 113 = .ok (.iastore, 1) := dk_79 (dk_at dksX6_fair_4 19 rfl rfl)
theorem dX6_fair_114 : decode cX6_fair 114 = .ok (.iload 4, 2) := dk_21 4 (dk_at dksX6_fair_4 20 rfl rfl)
theorem dX6_fair_116 : decode cX6_fair 116 = .ok (.iconst 2, 1) := dk_5 (dk_at dksX6_fair_4 22 rfl rfl)
theorem dX6_fair_117 : decode cX6_fair 117 = .ok (.iadd, 1) := dk_96 (dk_at dksX6_fair_4 23 rfl rfl)
theorem dX6_fair_118 : decode cX6_fair 118 = .ok (.bipush 9, 2) := dk_16 9 (dk_at dksX6_fair_5 0 rfl rfl)
theorem dX6_fair_120 : decode cX6_fair 120 = .ok (.if_icmp .ge 14, 3) := dk_162 0 14 (dk_at dksX6_fair_5 2 rfl rfl)
theorem dX6_fair_123 : decode cX6_fair 123 = .ok (.aload_n 0, 1) := dk_42 (dk_at dksX6_fair_5 5 rfl rfl)
theorem dX6_fair_124 : decode cX6_fair 124 = .ok (.iload 4, 2) := dk_21 4 (dk_at dksX6_fair_5 6 rfl rfl)
theorem dX6_fair_126 : decode cX6_fair 126 = .ok (.iload_n 1, 1) := dk_27 (dk_at dksX6_fair_5 8 rfl rfl)
theorem dX6_fair_127 : decode cX6_fair 127 = .ok (.iload_n 2, 1) := dk_28 (dk_at dksX6_fair_5 9 rfl rfl)
theorem dX6_fair_128 : decode cX6_fair 128 = .ok (.invokevirtual 24, 3) := dk_182 0 24 (dk_at dksX6_fair_5 10 rfl rfl)
theorem dX6_fair_131 : decode cX6_fair 131 = .ok (.goto 4, 3) := dk_167 0 4 (dk_at dksX6_fair_5 13 rfl rfl)
theorem dX6_fair_134 : decode cX6_fair 134 = .ok (.iconst (-1), 1) := dk_2 (dk_at dksX6_fair_5 16 rfl rfl)
theorem dX6_fair_135 : decode cX6_fair 135 = .ok (.istore 5, 2) := dk_54 5 (dk_at dksX6_fair_5 17 rfl rfl)
theorem dX6_fair_137 : decode cX6_fair 137 = .ok (.iload_n 2, 1) := dk_28 (dk_at dksX6_fair_5 19 rfl rfl)
theorem dX6_fair_138 : decode cX6_fair 138 = .ok (.istore_n 1, 1) := dk_60 (dk_at dksX6_fair_5 20 rfl rfl)
theorem dX6_fair_139 : decode cX6_fair 139 = .ok (.iload 5, 2) := dk_21 5 (dk_at dksX6_fair_5 21 rfl rfl)
theorem dX6_fair_141 : decode cX6_fair 141 = .ok (.istore_n 2, 1) := dk_61 (dk_at dksX6_fair_5 23 rfl rfl)
theorem dX6_fair_142 : decode cX6_fair 142 = .ok (.iinc 4 1, 3) := dk_132 4 1 (dk_at dksX6_fair_6 0 rfl rfl)
theorem dX6_fair_145 : decode cX6_fair 145 = .ok (.goto (-49), 3) := dk_167 255 207 (dk_at dksX6_fair_6 3 rfl rfl)
theorem dX6_fair_148 : decode cX6_fair 148 = .ok (.aload_n 3, 1) := dk_45 (dk_at dksX6_fair_6 6 rfl rfl)
theorem dX6_fair_149 : decode cX6_fair 149 = .ok (.areturn, 1) := dk_176 (dk_at dksX6_fair_6 7 rfl rfl)
theorem q47 : (Jvm.Cond.initialized "FairBatten$Batten") ∈ lw_all := lw_g (lw_at lw_m1 16 rfl) rfl
theorem q340 : (Jvm.Cond.selects "FairBatten$Batten" ({ cls := "java/lang/Object", name := "hashCode", desc := "()I" } : Jvm.MethodName) ({ cls := "java/lang/Object", name := "hashCode", desc := "()I" } : Jvm.MethodName)) ∈ lw_all := lw_g (lw_at lw_m2 69 rfl) rfl
theorem q364 : (Jvm.Cond.selects "FairBatten$Batten" ({ cls := "java/lang/Object", name := "equals", desc := "(Ljava/lang/Object;)Z" } : Jvm.MethodName) ({ cls := "java/lang/Object", name := "equals", desc := "(Ljava/lang/Object;)Z" } : Jvm.MethodName)) ∈ lw_all := lw_g (lw_at lw_m2 93 rfl) rfl
theorem q406 : (Jvm.Cond.selects "FairBatten$Batten" ({ cls := "java/lang/Object", name := "getClass", desc := "()Ljava/lang/Class;" } : Jvm.MethodName) ({ cls := "java/lang/Object", name := "getClass", desc := "()Ljava/lang/Class;" } : Jvm.MethodName)) ∈ lw_all := lw_g (lw_at lw_m2 135 rfl) rfl
theorem q625 : (Jvm.Cond.instantiable "FairBatten$Batten" (3 : Nat)) ∈ lw_all := lw_g (lw_at lw_m3 114 rfl) rfl
theorem q627 : (Jvm.Cond.instanceMethod ({ cls := "FairBatten$Batten", name := "<init>", desc := "([II)V" } : Jvm.MethodName)) ∈ lw_all := lw_g (lw_at lw_m3 116 rfl) rfl
theorem q628 : (Jvm.Cond.code ({ cls := "FairBatten$Batten", name := "<init>", desc := "([II)V" } : Jvm.MethodName) prog_3_method_1_code (5 : Nat) (Option.none : Option Jvm.ClassFile.FieldType)) ∈ lw_all := lw_g (lw_at lw_m3 117 rfl) rfl
theorem q629 : (Jvm.Cond.methodLink "FairBatten$Batten" (3 : Nat) ({ cls := "java/lang/Object", name := "<init>", desc := "()V" } : Jvm.MethodName)) ∈ lw_all := lw_g (lw_at lw_m3 118 rfl) rfl
theorem q630 : (Jvm.Cond.classLink "FairBatten$Batten" (9 : Nat) "[[I") ∈ lw_all := lw_g (lw_at lw_m3 119 rfl) rfl
theorem q631 : (Jvm.Cond.methodLink "FairBatten$Batten" (24 : Nat) ({ cls := "FairBatten$Batten", name := "choice", desc := "(III)I" } : Jvm.MethodName)) ∈ lw_all := lw_g (lw_at lw_m3 120 rfl) rfl
theorem q632 : (Jvm.Cond.privateMethod ({ cls := "FairBatten$Batten", name := "choice", desc := "(III)I" } : Jvm.MethodName)) ∈ lw_tbl := lw_at lw_m3 121 rfl
theorem q633 : (Jvm.Cond.instanceMethod ({ cls := "FairBatten$Batten", name := "choice", desc := "(III)I" } : Jvm.MethodName)) ∈ lw_all := lw_g (lw_at lw_m3 122 rfl) rfl
theorem q634 : (Jvm.Cond.code ({ cls := "FairBatten$Batten", name := "choice", desc := "(III)I" } : Jvm.MethodName) prog_3_method_5_code (6 : Nat) (Option.some Jvm.ClassFile.FieldType.int)) ∈ lw_all := lw_g (lw_at lw_m3 123 rfl) rfl
theorem q635 : (Jvm.Cond.methodLink "FairBatten$Batten" (40 : Nat) ({ cls := "FairBatten$Batten", name := "can", desc := "(II)Z" } : Jvm.MethodName)) ∈ lw_all := lw_g (lw_at lw_m3 124 rfl) rfl
theorem q636 : (Jvm.Cond.instanceMethod ({ cls := "FairBatten$Batten", name := "can", desc := "(II)Z" } : Jvm.MethodName)) ∈ lw_all := lw_g (lw_at lw_m3 125 rfl) rfl
theorem q637 : (Jvm.Cond.selects "FairBatten$Batten" ({ cls := "FairBatten$Batten", name := "can", desc := "(II)Z" } : Jvm.MethodName) ({ cls := "FairBatten$Batten", name := "can", desc := "(II)Z" } : Jvm.MethodName)) ∈ lw_all := lw_g (lw_at lw_m3 126 rfl) rfl
theorem q638 : (Jvm.Cond.code ({ cls := "FairBatten$Batten", name := "can", desc := "(II)Z" } : Jvm.MethodName) prog_3_method_3_code (3 : Nat) (Option.some Jvm.ClassFile.FieldType.boolean)) ∈ lw_all := lw_g (lw_at lw_m3 127 rfl) rfl
theorem q639 : (Jvm.Cond.methodLinkNest "FairBatten$Batten" (32 : Nat) ({ cls := "FairBatten", name := "in", desc := "(III)Z" } : Jvm.MethodName) "FairBatten") ∈ lw_tbl := lw_at lw_m3 128 rfl
theorem q640 : (Jvm.Cond.methodLink "FairBatten$Batten" (36 : Nat) ({ cls := "FairBatten$Batten", name := "half", desc := "(II)I" } : Jvm.MethodName)) ∈ lw_all := lw_g (lw_at lw_m3 129 rfl) rfl
theorem q641 : (Jvm.Cond.privateMethod ({ cls := "FairBatten$Batten", name := "half", desc := "(II)I" } : Jvm.MethodName)) ∈ lw_tbl := lw_at lw_m3 130 rfl
theorem q642 : (Jvm.Cond.instanceMethod ({ cls := "FairBatten$Batten", name := "half", desc := "(II)I" } : Jvm.MethodName)) ∈ lw_all := lw_g (lw_at lw_m3 131 rfl) rfl
theorem q643 : (Jvm.Cond.code ({ cls := "FairBatten$Batten", name := "half", desc := "(II)I" } : Jvm.MethodName) prog_3_method_2_code (3 : Nat) (Option.some Jvm.ClassFile.FieldType.int)) ∈ lw_all := lw_g (lw_at lw_m3 132 rfl) rfl
theorem q644 : (Jvm.Cond.methodLink "FairBatten$Batten" (28 : Nat) ({ cls := "FairBatten$Batten", name := "behind", desc := "(IIII)I" } : Jvm.MethodName)) ∈ lw_all := lw_g (lw_at lw_m3 133 rfl) rfl
theorem q645 : (Jvm.Cond.privateMethod ({ cls := "FairBatten$Batten", name := "behind", desc := "(IIII)I" } : Jvm.MethodName)) ∈ lw_tbl := lw_at lw_m3 134 rfl
theorem q646 : (Jvm.Cond.instanceMethod ({ cls := "FairBatten$Batten", name := "behind", desc := "(IIII)I" } : Jvm.MethodName)) ∈ lw_all := lw_g (lw_at lw_m3 135 rfl) rfl
theorem q647 : (Jvm.Cond.code ({ cls := "FairBatten$Batten", name := "behind", desc := "(IIII)I" } : Jvm.MethodName) prog_3_method_4_code (6 : Nat) (Option.some Jvm.ClassFile.FieldType.int)) ∈ lw_all := lw_g (lw_at lw_m3 136 rfl) rfl
theorem q648 : (Jvm.Cond.fieldLink "FairBatten$Batten" (16 : Nat) "FairBatten$Batten" "line" "[I") ∈ lw_all := lw_g (lw_at lw_m3 137 rfl) rfl
theorem q649 : (Jvm.Cond.fieldLink "FairBatten$Batten" (20 : Nat) "FairBatten$Batten" "tolerance" "I") ∈ lw_all := lw_g (lw_at lw_m3 138 rfl) rfl
theorem q650 : (Jvm.Cond.fieldLink "FairBatten$Batten" (11 : Nat) "FairBatten$Batten" "least" "[[I") ∈ lw_all := lw_g (lw_at lw_m3 139 rfl) rfl
theorem q651 : (Jvm.Cond.laysFinal "FairBatten$Batten" "FairBatten$Batten" "line" "[I") ∈ lw_all := lw_g (lw_at lw_m3 140 rfl) rfl
theorem q652 : (Jvm.Cond.soleField "FairBatten$Batten" "line") ∈ lw_all := lw_g (lw_at lw_m3 141 rfl) rfl
theorem q653 : (Jvm.Cond.laysFinal "FairBatten$Batten" "FairBatten$Batten" "tolerance" "I") ∈ lw_all := lw_g (lw_at lw_m3 142 rfl) rfl
theorem q654 : (Jvm.Cond.soleField "FairBatten$Batten" "tolerance") ∈ lw_all := lw_g (lw_at lw_m3 143 rfl) rfl
theorem q655 : (Jvm.Cond.laysFinal "FairBatten$Batten" "FairBatten$Batten" "least" "[[I") ∈ lw_all := lw_g (lw_at lw_m3 144 rfl) rfl
theorem q656 : (Jvm.Cond.soleField "FairBatten$Batten" "least") ∈ lw_all := lw_g (lw_at lw_m3 145 rfl) rfl
theorem q657 : (Jvm.Cond.superclass "FairBatten$Batten" "java/lang/Object") ∈ lw_all := lw_g (lw_at lw_m3 146 rfl) rfl
theorem q659 : (Jvm.Cond.instanceMethod ({ cls := "FairBatten$Batten", name := "fair", desc := "()[I" } : Jvm.MethodName)) ∈ lw_all := lw_g (lw_at lw_m3 148 rfl) rfl
theorem q660 : (Jvm.Cond.selects "FairBatten$Batten" ({ cls := "FairBatten$Batten", name := "fair", desc := "()[I" } : Jvm.MethodName) ({ cls := "FairBatten$Batten", name := "fair", desc := "()[I" } : Jvm.MethodName)) ∈ lw_all := lw_g (lw_at lw_m3 149 rfl) rfl
theorem q661 : (Jvm.Cond.code ({ cls := "FairBatten$Batten", name := "fair", desc := "()[I" } : Jvm.MethodName) prog_3_method_6_code (6 : Nat) (Option.some (Jvm.ClassFile.FieldType.array Jvm.ClassFile.FieldType.int))) ∈ lw_all := lw_g (lw_at lw_m3 150 rfl) rfl
theorem q1229 : (Jvm.Cond.castable "FairBatten$Batten" "java/lang/Object") ∈ lw_tbl := lw_at lw_m5 238 rfl
theorem in_X6 : ∀ w ∈ wsX60, w ∈ lw_all := lw_in wsX60 [651, 653, 655] (by decide +kernel) (by decide +kernel)
/-! FairBatten$Cargo$Goer -/
set_option maxRecDepth 100000
def RX7 : String := "FairBatten$Cargo$Goer"
def TX7 : u_T := fun k => match k with
  | 0 => ("FairBatten$Cargo$Goer", "at", "I", false)
  | _ => ("FairBatten$Cargo$Goer", "this$0", "LFairBatten$Cargo;", true)
def tyX7 : Nat → FieldType := fun k => match k with
  | 0 => .int
  | _ => .object "FairBatten$Cargo"
abbrev wsX70 : List Cond := u_ws RX7 TX7 2
theorem nmX7 : ∀ a, a < 2 → ∀ b, b < 2 → a ≠ b → (TX7 a).2.1 ≠ (TX7 b).2.1 := by decide +kernel
theorem tyX7_ok : ∀ k, k < 2 → parseFieldDescriptor (TX7 k).2.2.1 = some (tyX7 k) := by decide +kernel
abbrev cX7_init : ByteArray := prog_5_method_1_code
def yX7_init : MethodName := ⟨RX7, "<init>", "(LFairBatten$Cargo;)V"⟩
def dkwX7_init_0 : List UInt8 := [42, 43, 181, 0, 1, 42, 183, 0, 7, 177]
abbrev dktX7_init_0 : List UInt8 := dkwX7_init_0 ++ []
theorem dksX7_init_0 : cX7_init.data.toList.drop 0 = dktX7_init_0 := by decide +kernel
theorem dX7_init_0 : decode cX7_init 0 = .ok (.aload_n 0, 1) := dk_42 (dk_at dksX7_init_0 0 rfl rfl)
theorem dX7_init_1 : decode cX7_init 1 = .ok (.aload_n 1, 1) := dk_43 (dk_at dksX7_init_0 1 rfl rfl)
theorem dX7_init_2 : decode cX7_init 2 = .ok (.putfield 1, 3) := dk_181 0 1 (dk_at dksX7_init_0 2 rfl rfl)
theorem dX7_init_5 : decode cX7_init 5 = .ok (.aload_n 0, 1) := dk_42 (dk_at dksX7_init_0 5 rfl rfl)
theorem dX7_init_6 : decode cX7_init 6 = .ok (.invokespecial 7, 3) := dk_183 0 7 (dk_at dksX7_init_0 6 rfl rfl)
theorem dX7_init_9 : decode cX7_init 9 = .ok (.return_, 1) := dk_177 (dk_at dksX7_init_0 9 rfl rfl)
abbrev cX7_hasNext : ByteArray := prog_5_method_2_code
def yX7_hasNext : MethodName := ⟨RX7, "hasNext", "()Z"⟩
def dkwX7_hasNext_0 : List UInt8 := [42, 180, 0, 13, 42, 180, 0, 1, 180, 0, 17, 163, 0, 7, 4, 167, 0, 4, 3, 172]
abbrev dktX7_hasNext_0 : List UInt8 := dkwX7_hasNext_0 ++ []
theorem dksX7_hasNext_0 : cX7_hasNext.data.toList.drop 0 = dktX7_hasNext_0 := by decide +kernel
theorem dX7_hasNext_0 : decode cX7_hasNext 0 = .ok (.aload_n 0, 1) := dk_42 (dk_at dksX7_hasNext_0 0 rfl rfl)
theorem dX7_hasNext_1 : decode cX7_hasNext 1 = .ok (.getfield 13, 3) := dk_180 0 13 (dk_at dksX7_hasNext_0 1 rfl rfl)
theorem dX7_hasNext_4 : decode cX7_hasNext 4 = .ok (.aload_n 0, 1) := dk_42 (dk_at dksX7_hasNext_0 4 rfl rfl)
theorem dX7_hasNext_5 : decode cX7_hasNext 5 = .ok (.getfield 1, 3) := dk_180 0 1 (dk_at dksX7_hasNext_0 5 rfl rfl)
theorem dX7_hasNext_8 : decode cX7_hasNext 8 = .ok (.getfield 17, 3) := dk_180 0 17 (dk_at dksX7_hasNext_0 8 rfl rfl)
theorem dX7_hasNext_11 : decode cX7_hasNext 11 = .ok (.if_icmp .gt 7, 3) := dk_163 0 7 (dk_at dksX7_hasNext_0 11 rfl rfl)
theorem dX7_hasNext_14 : decode cX7_hasNext 14 = .ok (.iconst 1, 1) := dk_4 (dk_at dksX7_hasNext_0 14 rfl rfl)
theorem dX7_hasNext_15 : decode cX7_hasNext 15 = .ok (.goto 4, 3) := dk_167 0 4 (dk_at dksX7_hasNext_0 15 rfl rfl)
theorem dX7_hasNext_18 : decode cX7_hasNext 18 = .ok (.iconst 0, 1) := dk_3 (dk_at dksX7_hasNext_0 18 rfl rfl)
theorem dX7_hasNext_19 : decode cX7_hasNext 19 = .ok (.ireturn, 1) := dk_172 (dk_at dksX7_hasNext_0 19 rfl rfl)
abbrev cX7_next : ByteArray := prog_5_method_4_code
def yX7_next : MethodName := ⟨RX7, "next", "()Ljava/lang/Object;"⟩
theorem dX7_next_0 : decode cX7_next 0 = .ok (.aload_n 0, 1) := by decide +kernel
theorem dX7_next_1 : decode cX7_next 1 = .ok (.invokevirtual 30, 3) := by decide +kernel
theorem dX7_next_4 : decode cX7_next 4 = .ok (.areturn, 1) := by decide +kernel
abbrev cX7_next_2 : ByteArray := prog_5_method_3_code
def yX7_next_2 : MethodName := ⟨RX7, "next", "()LFairBatten$Weight;"⟩
def dkwX7_next_2_2 : List UInt8 := [176]
abbrev dktX7_next_2_2 : List UInt8 := dkwX7_next_2_2 ++ []
def dkwX7_next_2_1 : List UInt8 := [42, 180, 0, 1, 180, 0, 22, 42, 180, 0, 13, 4, 100, 50, 167, 0, 10, 42, 180, 0, 1, 180, 0, 26]
abbrev dktX7_next_2_1 : List UInt8 := dkwX7_next_2_1 ++ dktX7_next_2_2
def dkwX7_next_2_0 : List UInt8 := [42, 89, 180, 0, 13, 4, 96, 181, 0, 13, 42, 180, 0, 13, 42, 180, 0, 1, 180, 0, 17, 163, 0, 20]
abbrev dktX7_next_2_0 : List UInt8 := dkwX7_next_2_0 ++ dktX7_next_2_1
theorem dksX7_next_2_0 : cX7_next_2.data.toList.drop 0 = dktX7_next_2_0 := by decide +kernel
theorem dksX7_next_2_1 : cX7_next_2.data.toList.drop 24 = dktX7_next_2_1 := dk_seg dksX7_next_2_0 24 rfl rfl
theorem dksX7_next_2_2 : cX7_next_2.data.toList.drop 48 = dktX7_next_2_2 := dk_seg dksX7_next_2_1 24 rfl rfl
theorem dX7_next_2_0 : decode cX7_next_2 0 = .ok (.aload_n 0, 1) := dk_42 (dk_at dksX7_next_2_0 0 rfl rfl)
theorem dX7_next_2_1 : decode cX7_next_2 1 = .ok (.dup, 1) := dk_89 (dk_at dksX7_next_2_0 1 rfl rfl)
theorem dX7_next_2_2 : decode cX7_next_2 2 = .ok (.getfield 13, 3) := dk_180 0 13 (dk_at dksX7_next_2_0 2 rfl rfl)
theorem dX7_next_2_5 : decode cX7_next_2 5 = .ok (.iconst 1, 1) := dk_4 (dk_at dksX7_next_2_0 5 rfl rfl)
theorem dX7_next_2_6 : decode cX7_next_2 6 = .ok (.iadd, 1) := dk_96 (dk_at dksX7_next_2_0 6 rfl rfl)
theorem dX7_next_2_7 : decode cX7_next_2 7 = .ok (.putfield 13, 3) := dk_181 0 13 (dk_at dksX7_next_2_0 7 rfl rfl)
theorem dX7_next_2_10 : decode cX7_next_2 10 = .ok (.aload_n 0, 1) := dk_42 (dk_at dksX7_next_2_0 10 rfl rfl)
theorem dX7_next_2_11 : decode cX7_next_2 11 = .ok (.getfield 13, 3) := dk_180 0 13 (dk_at dksX7_next_2_0 11 rfl rfl)
theorem dX7_next_2_14 : decode cX7_next_2 14 = .ok (.aload_n 0, 1) := dk_42 (dk_at dksX7_next_2_0 14 rfl rfl)
theorem dX7_next_2_15 : decode cX7_next_2 15 = .ok (.getfield 1, 3) := dk_180 0 1 (dk_at dksX7_next_2_0 15 rfl rfl)
theorem dX7_next_2_18 : decode cX7_next_2 18 = .ok (.getfield 17, 3) := dk_180 0 17 (dk_at dksX7_next_2_0 18 rfl rfl)
theorem dX7_next_2_21 : decode cX7_next_2 21 = .ok (.if_icmp .gt 20, 3) := dk_163 0 20 (dk_at dksX7_next_2_0 21 rfl rfl)
theorem dX7_next_2_24 : decode cX7_next_2 24 = .ok (.aload_n 0, 1) := dk_42 (dk_at dksX7_next_2_1 0 rfl rfl)
theorem dX7_next_2_25 : decode cX7_next_2 25 = .ok (.getfield 1, 3) := dk_180 0 1 (dk_at dksX7_next_2_1 1 rfl rfl)
theorem dX7_next_2_28 : decode cX7_next_2 28 = .ok (.getfield 22, 3) := dk_180 0 22 (dk_at dksX7_next_2_1 4 rfl rfl)
theorem dX7_next_2_31 : decode cX7_next_2 31 = .ok (.aload_n 0, 1) := dk_42 (dk_at dksX7_next_2_1 7 rfl rfl)
theorem dX7_next_2_32 : decode cX7_next_2 32 = .ok (.getfield 13, 3) := dk_180 0 13 (dk_at dksX7_next_2_1 8 rfl rfl)
theorem dX7_next_2_35 : decode cX7_next_2 35 = .ok (.iconst 1, 1) := dk_4 (dk_at dksX7_next_2_1 11 rfl rfl)
theorem dX7_next_2_36 : decode cX7_next_2 36 = .ok (.isub, 1) := dk_100 (dk_at dksX7_next_2_1 12 rfl rfl)
theorem dX7_next_2_37 : decode cX7_next_2 37 = .ok (.aaload, 1) := dk_50 (dk_at dksX7_next_2_1 13 rfl rfl)
theorem dX7_next_2_38 : decode cX7_next_2 38 = .ok (.goto 10, 3) := dk_167 0 10 (dk_at dksX7_next_2_1 14 rfl rfl)
theorem dX7_next_2_41 : decode cX7_next_2 41 = .ok (.aload_n 0, 1) := dk_42 (dk_at dksX7_next_2_1 17 rfl rfl)
theorem dX7_next_2_42 : decode cX7_next_2 42 = .ok (.getfield 1, 3) := dk_180 0 1 (dk_at dksX7_next_2_1 18 rfl rfl)
theorem dX7_next_2_45 : decode cX7_next_2 45 = .ok (.getfield 26, 3) := dk_180 0 26 (dk_at dksX7_next_2_1 21 rfl rfl)
theorem dX7_next_2_48 : decode cX7_next_2 48 = .ok (.areturn, 1) := dk_176 (dk_at dksX7_next_2_2 0 rfl rfl)
theorem q49 : (Jvm.Cond.initialized "FairBatten$Cargo$Goer") ∈ lw_all := lw_g (lw_at lw_m1 18 rfl) rfl
theorem q110 : (Jvm.Cond.fieldLinkNest "FairBatten$Cargo$Goer" (22 : Nat) "FairBatten$Cargo" "weights" "[LFairBatten$Weight;" "FairBatten") ∈ lw_tbl := lw_at lw_m1 79 rfl
theorem q112 : (Jvm.Cond.fieldLinkNest "FairBatten$Cargo$Goer" (17 : Nat) "FairBatten$Cargo" "many" "I" "FairBatten") ∈ lw_tbl := lw_at lw_m1 81 rfl
theorem q115 : (Jvm.Cond.fieldLinkNest "FairBatten$Cargo$Goer" (26 : Nat) "FairBatten$Cargo" "ballast" "LFairBatten$Weight;" "FairBatten") ∈ lw_tbl := lw_at lw_m1 84 rfl
theorem q191 : (Jvm.Cond.instantiable "FairBatten$Cargo$Goer" (2 : Nat)) ∈ lw_all := lw_g (lw_at lw_m1 160 rfl) rfl
theorem q193 : (Jvm.Cond.instanceMethod ({ cls := "FairBatten$Cargo$Goer", name := "<init>", desc := "(LFairBatten$Cargo;)V" } : Jvm.MethodName)) ∈ lw_all := lw_g (lw_at lw_m1 162 rfl) rfl
theorem q194 : (Jvm.Cond.code ({ cls := "FairBatten$Cargo$Goer", name := "<init>", desc := "(LFairBatten$Cargo;)V" } : Jvm.MethodName) prog_5_method_1_code (2 : Nat) (Option.none : Option Jvm.ClassFile.FieldType)) ∈ lw_all := lw_g (lw_at lw_m1 163 rfl) rfl
theorem q195 : (Jvm.Cond.methodLink "FairBatten$Cargo$Goer" (7 : Nat) ({ cls := "java/lang/Object", name := "<init>", desc := "()V" } : Jvm.MethodName)) ∈ lw_all := lw_g (lw_at lw_m1 164 rfl) rfl
theorem q196 : (Jvm.Cond.fieldLink "FairBatten$Cargo$Goer" (13 : Nat) "FairBatten$Cargo$Goer" "at" "I") ∈ lw_all := lw_g (lw_at lw_m1 165 rfl) rfl
theorem q197 : (Jvm.Cond.fieldLink "FairBatten$Cargo$Goer" (1 : Nat) "FairBatten$Cargo$Goer" "this$0" "LFairBatten$Cargo;") ∈ lw_all := lw_g (lw_at lw_m1 166 rfl) rfl
theorem q198 : (Jvm.Cond.lays "FairBatten$Cargo$Goer" "FairBatten$Cargo$Goer" "at" "I") ∈ lw_all := lw_g (lw_at lw_m1 167 rfl) rfl
theorem q199 : (Jvm.Cond.soleField "FairBatten$Cargo$Goer" "at") ∈ lw_all := lw_g (lw_at lw_m1 168 rfl) rfl
theorem q200 : (Jvm.Cond.laysFinal "FairBatten$Cargo$Goer" "FairBatten$Cargo$Goer" "this$0" "LFairBatten$Cargo;") ∈ lw_all := lw_g (lw_at lw_m1 169 rfl) rfl
theorem q201 : (Jvm.Cond.soleField "FairBatten$Cargo$Goer" "this$0") ∈ lw_all := lw_g (lw_at lw_m1 170 rfl) rfl
theorem q202 : (Jvm.Cond.superclass "FairBatten$Cargo$Goer" "java/lang/Object") ∈ lw_all := lw_g (lw_at lw_m1 171 rfl) rfl
theorem q207 : (Jvm.Cond.castable "FairBatten$Cargo$Goer" "java/util/Iterator") ∈ lw_tbl := lw_at lw_m1 176 rfl
theorem q208 : (Jvm.Cond.selects "FairBatten$Cargo$Goer" ({ cls := "java/util/Iterator", name := "hasNext", desc := "()Z" } : Jvm.MethodName) ({ cls := "FairBatten$Cargo$Goer", name := "hasNext", desc := "()Z" } : Jvm.MethodName)) ∈ lw_all := lw_g (lw_at lw_m1 177 rfl) rfl
theorem q209 : (Jvm.Cond.unhidden "FairBatten$Cargo$Goer" "hasNext" "()Z") ∈ lw_tbl := lw_at lw_m1 178 rfl
theorem q210 : (Jvm.Cond.instanceMethod ({ cls := "FairBatten$Cargo$Goer", name := "hasNext", desc := "()Z" } : Jvm.MethodName)) ∈ lw_all := lw_g (lw_at lw_m1 179 rfl) rfl
theorem q211 : (Jvm.Cond.publicMethod ({ cls := "FairBatten$Cargo$Goer", name := "hasNext", desc := "()Z" } : Jvm.MethodName)) ∈ lw_tbl := lw_at lw_m1 180 rfl
theorem q212 : (Jvm.Cond.code ({ cls := "FairBatten$Cargo$Goer", name := "hasNext", desc := "()Z" } : Jvm.MethodName) prog_5_method_2_code (1 : Nat) (Option.some Jvm.ClassFile.FieldType.boolean)) ∈ lw_all := lw_g (lw_at lw_m1 181 rfl) rfl
theorem q217 : (Jvm.Cond.selects "FairBatten$Cargo$Goer" ({ cls := "java/util/Iterator", name := "next", desc := "()Ljava/lang/Object;" } : Jvm.MethodName) ({ cls := "FairBatten$Cargo$Goer", name := "next", desc := "()Ljava/lang/Object;" } : Jvm.MethodName)) ∈ lw_all := lw_g (lw_at lw_m1 186 rfl) rfl
theorem q218 : (Jvm.Cond.unhidden "FairBatten$Cargo$Goer" "next" "()Ljava/lang/Object;") ∈ lw_tbl := lw_at lw_m1 187 rfl
theorem q219 : (Jvm.Cond.instanceMethod ({ cls := "FairBatten$Cargo$Goer", name := "next", desc := "()Ljava/lang/Object;" } : Jvm.MethodName)) ∈ lw_all := lw_g (lw_at lw_m1 188 rfl) rfl
theorem q220 : (Jvm.Cond.publicMethod ({ cls := "FairBatten$Cargo$Goer", name := "next", desc := "()Ljava/lang/Object;" } : Jvm.MethodName)) ∈ lw_tbl := lw_at lw_m1 189 rfl
theorem q221 : (Jvm.Cond.code ({ cls := "FairBatten$Cargo$Goer", name := "next", desc := "()Ljava/lang/Object;" } : Jvm.MethodName) prog_5_method_4_code (1 : Nat) (Option.some (Jvm.ClassFile.FieldType.object "java/lang/Object"))) ∈ lw_all := lw_g (lw_at lw_m1 190 rfl) rfl
theorem q222 : (Jvm.Cond.methodLink "FairBatten$Cargo$Goer" (30 : Nat) ({ cls := "FairBatten$Cargo$Goer", name := "next", desc := "()LFairBatten$Weight;" } : Jvm.MethodName)) ∈ lw_all := lw_g (lw_at lw_m1 191 rfl) rfl
theorem q223 : (Jvm.Cond.instanceMethod ({ cls := "FairBatten$Cargo$Goer", name := "next", desc := "()LFairBatten$Weight;" } : Jvm.MethodName)) ∈ lw_all := lw_g (lw_at lw_m1 192 rfl) rfl
theorem q224 : (Jvm.Cond.selects "FairBatten$Cargo$Goer" ({ cls := "FairBatten$Cargo$Goer", name := "next", desc := "()LFairBatten$Weight;" } : Jvm.MethodName) ({ cls := "FairBatten$Cargo$Goer", name := "next", desc := "()LFairBatten$Weight;" } : Jvm.MethodName)) ∈ lw_all := lw_g (lw_at lw_m1 193 rfl) rfl
theorem q225 : (Jvm.Cond.code ({ cls := "FairBatten$Cargo$Goer", name := "next", desc := "()LFairBatten$Weight;" } : Jvm.MethodName) prog_5_method_3_code (1 : Nat) (Option.some (Jvm.ClassFile.FieldType.object "FairBatten$Weight"))) ∈ lw_all := lw_g (lw_at lw_m1 194 rfl) rfl
theorem q342 : (Jvm.Cond.selects "FairBatten$Cargo$Goer" ({ cls := "java/lang/Object", name := "hashCode", desc := "()I" } : Jvm.MethodName) ({ cls := "java/lang/Object", name := "hashCode", desc := "()I" } : Jvm.MethodName)) ∈ lw_all := lw_g (lw_at lw_m2 71 rfl) rfl
theorem q366 : (Jvm.Cond.selects "FairBatten$Cargo$Goer" ({ cls := "java/lang/Object", name := "equals", desc := "(Ljava/lang/Object;)Z" } : Jvm.MethodName) ({ cls := "java/lang/Object", name := "equals", desc := "(Ljava/lang/Object;)Z" } : Jvm.MethodName)) ∈ lw_all := lw_g (lw_at lw_m2 95 rfl) rfl
theorem q408 : (Jvm.Cond.selects "FairBatten$Cargo$Goer" ({ cls := "java/lang/Object", name := "getClass", desc := "()Ljava/lang/Class;" } : Jvm.MethodName) ({ cls := "java/lang/Object", name := "getClass", desc := "()Ljava/lang/Class;" } : Jvm.MethodName)) ∈ lw_all := lw_g (lw_at lw_m2 137 rfl) rfl
theorem q1230 : (Jvm.Cond.castable "FairBatten$Cargo$Goer" "java/lang/Object") ∈ lw_tbl := lw_at lw_m5 239 rfl
theorem in_X7 : ∀ w ∈ wsX70, w ∈ lw_all := lw_in wsX70 [198, 200] (by decide +kernel) (by decide +kernel)
/-! FairBatten$Piece -/
set_option maxRecDepth 100000
def RX8 : String := "FairBatten$Piece"
abbrev cX8_init : ByteArray := prog_9_method_1_code
def yX8_init : MethodName := ⟨RX8, "<init>", "()V"⟩
theorem dX8_init_0 : decode cX8_init 0 = .ok (.aload_n 0, 1) := by decide +kernel
theorem dX8_init_1 : decode cX8_init 1 = .ok (.invokespecial 1, 3) := by decide +kernel
theorem dX8_init_4 : decode cX8_init 4 = .ok (.return_, 1) := by decide +kernel
theorem q51 : (Jvm.Cond.initialized "FairBatten$Piece") ∈ lw_all := lw_g (lw_at lw_m1 20 rfl) rfl
theorem q749 : (Jvm.Cond.instanceMethod ({ cls := "FairBatten$Piece", name := "<init>", desc := "()V" } : Jvm.MethodName)) ∈ lw_all := lw_g (lw_at lw_m3 238 rfl) rfl
theorem q750 : (Jvm.Cond.code ({ cls := "FairBatten$Piece", name := "<init>", desc := "()V" } : Jvm.MethodName) prog_9_method_1_code (1 : Nat) (Option.none : Option Jvm.ClassFile.FieldType)) ∈ lw_all := lw_g (lw_at lw_m3 239 rfl) rfl
theorem q751 : (Jvm.Cond.methodLink "FairBatten$Piece" (1 : Nat) ({ cls := "java/lang/Object", name := "<init>", desc := "()V" } : Jvm.MethodName)) ∈ lw_all := lw_g (lw_at lw_m4 0 rfl) rfl
theorem q764 : (Jvm.Cond.superclass "FairBatten$Piece" "java/lang/Object") ∈ lw_all := lw_g (lw_at lw_m4 13 rfl) rfl
/-! FairBatten$Scarfed -/
set_option maxRecDepth 100000
def RX9 : String := "FairBatten$Scarfed"
abbrev cX9_init : ByteArray := prog_10_method_1_code
def yX9_init : MethodName := ⟨RX9, "<init>", "()V"⟩
theorem dX9_init_0 : decode cX9_init 0 = .ok (.aload_n 0, 1) := by decide +kernel
theorem dX9_init_1 : decode cX9_init 1 = .ok (.invokespecial 1, 3) := by decide +kernel
theorem dX9_init_4 : decode cX9_init 4 = .ok (.return_, 1) := by decide +kernel
abbrev cX9_cuts : ByteArray := prog_10_method_2_code
def yX9_cuts : MethodName := ⟨RX9, "cuts", "([III)I"⟩
def dkwX9_cuts_1 : List UInt8 := [79, 21, 4, 29, 100, 54, 4, 132, 5, 1, 167, 255, 228, 42, 43, 21, 4, 29, 183, 0, 7, 172]
abbrev dktX9_cuts_1 : List UInt8 := dkwX9_cuts_1 ++ []
def dkwX9_cuts_0 : List UInt8 := [28, 54, 4, 3, 54, 5, 21, 4, 29, 164, 0, 28, 43, 21, 5, 46, 29, 160, 0, 14, 43, 21, 5, 3]
abbrev dktX9_cuts_0 : List UInt8 := dkwX9_cuts_0 ++ dktX9_cuts_1
theorem dksX9_cuts_0 : cX9_cuts.data.toList.drop 0 = dktX9_cuts_0 := by decide +kernel
theorem dksX9_cuts_1 : cX9_cuts.data.toList.drop 24 = dktX9_cuts_1 := dk_seg dksX9_cuts_0 24 rfl rfl
theorem dX9_cuts_0 : decode cX9_cuts 0 = .ok (.iload_n 2, 1) := dk_28 (dk_at dksX9_cuts_0 0 rfl rfl)
theorem dX9_cuts_1 : decode cX9_cuts 1 = .ok (.istore 4, 2) := dk_54 4 (dk_at dksX9_cuts_0 1 rfl rfl)
theorem dX9_cuts_3 : decode cX9_cuts 3 = .ok (.iconst 0, 1) := dk_3 (dk_at dksX9_cuts_0 3 rfl rfl)
theorem dX9_cuts_4 : decode cX9_cuts 4 = .ok (.istore 5, 2) := dk_54 5 (dk_at dksX9_cuts_0 4 rfl rfl)
theorem dX9_cuts_6 : decode cX9_cuts 6 = .ok (.iload 4, 2) := dk_21 4 (dk_at dksX9_cuts_0 6 rfl rfl)
theorem dX9_cuts_8 : decode cX9_cuts 8 = .ok (.iload_n 3, 1) := dk_29 (dk_at dksX9_cuts_0 8 rfl rfl)
theorem dX9_cuts_9 : decode cX9_cuts 9 = .ok (.if_icmp .le 28, 3) := dk_164 0 28 (dk_at dksX9_cuts_0 9 rfl rfl)
theorem dX9_cuts_12 : decode cX9_cuts 12 = .ok (.aload_n 1, 1) := dk_43 (dk_at dksX9_cuts_0 12 rfl rfl)
theorem dX9_cuts_13 : decode cX9_cuts 13 = .ok (.iload 5, 2) := dk_21 5 (dk_at dksX9_cuts_0 13 rfl rfl)
theorem dX9_cuts_15 : decode cX9_cuts 15 = .ok (.iaload, 1) := dk_46 (dk_at dksX9_cuts_0 15 rfl rfl)
theorem dX9_cuts_16 : decode cX9_cuts 16 = .ok (.iload_n 3, 1) := dk_29 (dk_at dksX9_cuts_0 16 rfl rfl)
theorem dX9_cuts_17 : decode cX9_cuts 17 = .ok (.if_icmp .ne 14, 3) := dk_160 0 14 (dk_at dksX9_cuts_0 17 rfl rfl)
theorem dX9_cuts_20 : decode cX9_cuts 20 = .ok (.aload_n 1, 1) := dk_43 (dk_at dksX9_cuts_0 20 rfl rfl)
theorem dX9_cuts_21 : decode cX9_cuts 21 = .ok (.iload 5, 2) := dk_21 5 (dk_at dksX9_cuts_0 21 rfl rfl)
theorem dX9_cuts_23 : decode cX9_cuts 23 = .ok (.iconst 0, 1) := dk_3 (dk_at dksX9_cuts_0 23 rfl rfl)
theorem dX9_cuts_24 : decode cX9_cuts 24 = .ok (.iastore, 1) := dk_79 (dk_at dksX9_cuts_1 0 rfl rfl)
theorem dX9_cuts_25 : decode cX9_cuts 25 = .ok (.iload 4, 2) := dk_21 4 (dk_at dksX9_cuts_1 1 rfl rfl)
theorem dX9_cuts_27 : decode cX9_cuts 27 = .ok (.iload_n 3, 1) := dk_29 (dk_at dksX9_cuts_1 3 rfl rfl)
theorem dX9_cuts_28 : decode cX9_cuts 28 = .ok (.isub, 1) := dk_100 (dk_at dksX9_cuts_1 4 rfl rfl)
theorem dX9_cuts_29 : decode cX9_cuts 29 = .ok (.istore 4, 2) := dk_54 4 (dk_at dksX9_cuts_1 5 rfl rfl)
theorem dX9_cuts_31 : decode cX9_cuts 31 = .ok (.iinc 5 1, 3) := dk_132 5 1 (dk_at dksX9_cuts_1 7 rfl rfl)
theorem dX9_cuts_34 : decode cX9_cuts 34 = .ok (.goto (-28), 3) := dk_167 255 228 (dk_at dksX9_cuts_1 10 rfl rfl)
theorem dX9_cuts_37 : decode cX9_cuts 37 = .ok (.aload_n 0, 1) := dk_42 (dk_at dksX9_cuts_1 13 rfl rfl)
theorem dX9_cuts_38 : decode cX9_cuts 38 = .ok (.aload_n 1, 1) := dk_43 (dk_at dksX9_cuts_1 14 rfl rfl)
theorem dX9_cuts_39 : decode cX9_cuts 39 = .ok (.iload 4, 2) := dk_21 4 (dk_at dksX9_cuts_1 15 rfl rfl)
theorem dX9_cuts_41 : decode cX9_cuts 41 = .ok (.iload_n 3, 1) := dk_29 (dk_at dksX9_cuts_1 17 rfl rfl)
theorem dX9_cuts_42 : decode cX9_cuts 42 = .ok (.invokespecial 7, 3) := dk_183 0 7 (dk_at dksX9_cuts_1 18 rfl rfl)
theorem dX9_cuts_45 : decode cX9_cuts 45 = .ok (.ireturn, 1) := dk_172 (dk_at dksX9_cuts_1 21 rfl rfl)
theorem q52 : (Jvm.Cond.initialized "FairBatten$Scarfed") ∈ lw_all := lw_g (lw_at lw_m1 21 rfl) rfl
theorem q344 : (Jvm.Cond.selects "FairBatten$Scarfed" ({ cls := "java/lang/Object", name := "hashCode", desc := "()I" } : Jvm.MethodName) ({ cls := "java/lang/Object", name := "hashCode", desc := "()I" } : Jvm.MethodName)) ∈ lw_all := lw_g (lw_at lw_m2 73 rfl) rfl
theorem q368 : (Jvm.Cond.selects "FairBatten$Scarfed" ({ cls := "java/lang/Object", name := "equals", desc := "(Ljava/lang/Object;)Z" } : Jvm.MethodName) ({ cls := "java/lang/Object", name := "equals", desc := "(Ljava/lang/Object;)Z" } : Jvm.MethodName)) ∈ lw_all := lw_g (lw_at lw_m2 97 rfl) rfl
theorem q410 : (Jvm.Cond.selects "FairBatten$Scarfed" ({ cls := "java/lang/Object", name := "getClass", desc := "()Ljava/lang/Class;" } : Jvm.MethodName) ({ cls := "java/lang/Object", name := "getClass", desc := "()Ljava/lang/Class;" } : Jvm.MethodName)) ∈ lw_all := lw_g (lw_at lw_m2 139 rfl) rfl
theorem q744 : (Jvm.Cond.instantiable "FairBatten$Scarfed" (0 : Nat)) ∈ lw_all := lw_g (lw_at lw_m3 233 rfl) rfl
theorem q746 : (Jvm.Cond.instanceMethod ({ cls := "FairBatten$Scarfed", name := "<init>", desc := "()V" } : Jvm.MethodName)) ∈ lw_all := lw_g (lw_at lw_m3 235 rfl) rfl
theorem q747 : (Jvm.Cond.code ({ cls := "FairBatten$Scarfed", name := "<init>", desc := "()V" } : Jvm.MethodName) prog_10_method_1_code (1 : Nat) (Option.none : Option Jvm.ClassFile.FieldType)) ∈ lw_all := lw_g (lw_at lw_m3 236 rfl) rfl
theorem q748 : (Jvm.Cond.methodLinkNest "FairBatten$Scarfed" (1 : Nat) ({ cls := "FairBatten$Piece", name := "<init>", desc := "()V" } : Jvm.MethodName) "FairBatten") ∈ lw_tbl := lw_at lw_m3 237 rfl
theorem q752 : (Jvm.Cond.superclass "FairBatten$Scarfed" "FairBatten$Piece") ∈ lw_all := lw_g (lw_at lw_m4 1 rfl) rfl
theorem q767 : (Jvm.Cond.selects "FairBatten$Scarfed" ({ cls := "FairBatten$Cutter", name := "cuts", desc := "([III)I" } : Jvm.MethodName) ({ cls := "FairBatten$Scarfed", name := "cuts", desc := "([III)I" } : Jvm.MethodName)) ∈ lw_all := lw_g (lw_at lw_m4 16 rfl) rfl
theorem q768 : (Jvm.Cond.instanceMethod ({ cls := "FairBatten$Scarfed", name := "cuts", desc := "([III)I" } : Jvm.MethodName)) ∈ lw_all := lw_g (lw_at lw_m4 17 rfl) rfl
theorem q769 : (Jvm.Cond.code ({ cls := "FairBatten$Scarfed", name := "cuts", desc := "([III)I" } : Jvm.MethodName) prog_10_method_2_code (6 : Nat) (Option.some Jvm.ClassFile.FieldType.int)) ∈ lw_all := lw_g (lw_at lw_m4 18 rfl) rfl
theorem q1231 : (Jvm.Cond.castable "FairBatten$Scarfed" "java/lang/Object") ∈ lw_tbl := lw_at lw_m6 0 rfl
/-! FairBatten$1 -/
set_option maxRecDepth 100000
def RX10 : String := "FairBatten$1"
def TX10 : u_T := fun k => match k with
  | _ => ("FairBatten$1", "this$0", "LFairBatten;", true)
def tyX10 : Nat → FieldType := fun k => match k with
  | _ => .object "FairBatten"
abbrev wsX100 : List Cond := u_ws RX10 TX10 1
theorem nmX10 : ∀ a, a < 1 → ∀ b, b < 1 → a ≠ b → (TX10 a).2.1 ≠ (TX10 b).2.1 := by decide +kernel
theorem tyX10_ok : ∀ k, k < 1 → parseFieldDescriptor (TX10 k).2.2.1 = some (tyX10 k) := by decide +kernel
abbrev cX10_init : ByteArray := prog_2_method_1_code
def yX10_init : MethodName := ⟨RX10, "<init>", "(LFairBatten;)V"⟩
def dkwX10_init_0 : List UInt8 := [42, 43, 181, 0, 1, 42, 183, 0, 7, 177]
abbrev dktX10_init_0 : List UInt8 := dkwX10_init_0 ++ []
theorem dksX10_init_0 : cX10_init.data.toList.drop 0 = dktX10_init_0 := by decide +kernel
theorem dX10_init_0 : decode cX10_init 0 = .ok (.aload_n 0, 1) := dk_42 (dk_at dksX10_init_0 0 rfl rfl)
theorem dX10_init_1 : decode cX10_init 1 = .ok (.aload_n 1, 1) := dk_43 (dk_at dksX10_init_0 1 rfl rfl)
theorem dX10_init_2 : decode cX10_init 2 = .ok (.putfield 1, 3) := dk_181 0 1 (dk_at dksX10_init_0 2 rfl rfl)
theorem dX10_init_5 : decode cX10_init 5 = .ok (.aload_n 0, 1) := dk_42 (dk_at dksX10_init_0 5 rfl rfl)
theorem dX10_init_6 : decode cX10_init 6 = .ok (.invokespecial 7, 3) := dk_183 0 7 (dk_at dksX10_init_0 6 rfl rfl)
theorem dX10_init_9 : decode cX10_init 9 = .ok (.return_, 1) := dk_177 (dk_at dksX10_init_0 9 rfl rfl)
theorem q53 : (Jvm.Cond.initialized "FairBatten$1") ∈ lw_all := lw_g (lw_at lw_m1 22 rfl) rfl
theorem q339 : (Jvm.Cond.selects "FairBatten$1" ({ cls := "java/lang/Object", name := "hashCode", desc := "()I" } : Jvm.MethodName) ({ cls := "java/lang/Object", name := "hashCode", desc := "()I" } : Jvm.MethodName)) ∈ lw_all := lw_g (lw_at lw_m2 68 rfl) rfl
theorem q363 : (Jvm.Cond.selects "FairBatten$1" ({ cls := "java/lang/Object", name := "equals", desc := "(Ljava/lang/Object;)Z" } : Jvm.MethodName) ({ cls := "java/lang/Object", name := "equals", desc := "(Ljava/lang/Object;)Z" } : Jvm.MethodName)) ∈ lw_all := lw_g (lw_at lw_m2 92 rfl) rfl
theorem q405 : (Jvm.Cond.selects "FairBatten$1" ({ cls := "java/lang/Object", name := "getClass", desc := "()Ljava/lang/Class;" } : Jvm.MethodName) ({ cls := "java/lang/Object", name := "getClass", desc := "()Ljava/lang/Class;" } : Jvm.MethodName)) ∈ lw_all := lw_g (lw_at lw_m2 134 rfl) rfl
theorem q755 : (Jvm.Cond.instantiable "FairBatten$1" (1 : Nat)) ∈ lw_all := lw_g (lw_at lw_m4 4 rfl) rfl
theorem q757 : (Jvm.Cond.instanceMethod ({ cls := "FairBatten$1", name := "<init>", desc := "(LFairBatten;)V" } : Jvm.MethodName)) ∈ lw_all := lw_g (lw_at lw_m4 6 rfl) rfl
theorem q758 : (Jvm.Cond.code ({ cls := "FairBatten$1", name := "<init>", desc := "(LFairBatten;)V" } : Jvm.MethodName) prog_2_method_1_code (2 : Nat) (Option.none : Option Jvm.ClassFile.FieldType)) ∈ lw_all := lw_g (lw_at lw_m4 7 rfl) rfl
theorem q759 : (Jvm.Cond.methodLinkNest "FairBatten$1" (7 : Nat) ({ cls := "FairBatten$Piece", name := "<init>", desc := "()V" } : Jvm.MethodName) "FairBatten") ∈ lw_tbl := lw_at lw_m4 8 rfl
theorem q760 : (Jvm.Cond.fieldLink "FairBatten$1" (1 : Nat) "FairBatten$1" "this$0" "LFairBatten;") ∈ lw_all := lw_g (lw_at lw_m4 9 rfl) rfl
theorem q761 : (Jvm.Cond.laysFinal "FairBatten$1" "FairBatten$1" "this$0" "LFairBatten;") ∈ lw_all := lw_g (lw_at lw_m4 10 rfl) rfl
theorem q762 : (Jvm.Cond.soleField "FairBatten$1" "this$0") ∈ lw_all := lw_g (lw_at lw_m4 11 rfl) rfl
theorem q763 : (Jvm.Cond.superclass "FairBatten$1" "FairBatten$Piece") ∈ lw_all := lw_g (lw_at lw_m4 12 rfl) rfl
theorem q766 : (Jvm.Cond.unhidden "FairBatten$1" "cuts" "([III)I") ∈ lw_tbl := lw_at lw_m4 15 rfl
theorem q1232 : (Jvm.Cond.castable "FairBatten$1" "java/lang/Object") ∈ lw_tbl := lw_at lw_m6 1 rfl
theorem in_X10 : ∀ w ∈ wsX100, w ∈ lw_all := lw_in wsX100 [761] (by decide +kernel) (by decide +kernel)
/-! FairBatten$Cutter -/
set_option maxRecDepth 100000
def RX11 : String := "FairBatten$Cutter"
abbrev cX11_cuts : ByteArray := prog_6_method_1_code
def yX11_cuts : MethodName := ⟨RX11, "cuts", "([III)I"⟩
def dkwX11_cuts_1 : List UInt8 := [79, 21, 4, 172]
abbrev dktX11_cuts_1 : List UInt8 := dkwX11_cuts_1 ++ []
def dkwX11_cuts_0 : List UInt8 := [3, 54, 4, 43, 21, 4, 46, 28, 162, 0, 9, 132, 4, 1, 167, 255, 245, 43, 21, 4, 92, 46, 28, 100]
abbrev dktX11_cuts_0 : List UInt8 := dkwX11_cuts_0 ++ dktX11_cuts_1
theorem dksX11_cuts_0 : cX11_cuts.data.toList.drop 0 = dktX11_cuts_0 := by decide +kernel
theorem dksX11_cuts_1 : cX11_cuts.data.toList.drop 24 = dktX11_cuts_1 := dk_seg dksX11_cuts_0 24 rfl rfl
theorem dX11_cuts_0 : decode cX11_cuts 0 = .ok (.iconst 0, 1) := dk_3 (dk_at dksX11_cuts_0 0 rfl rfl)
theorem dX11_cuts_1 : decode cX11_cuts 1 = .ok (.istore 4, 2) := dk_54 4 (dk_at dksX11_cuts_0 1 rfl rfl)
theorem dX11_cuts_3 : decode cX11_cuts 3 = .ok (.aload_n 1, 1) := dk_43 (dk_at dksX11_cuts_0 3 rfl rfl)
theorem dX11_cuts_4 : decode cX11_cuts 4 = .ok (.iload 4, 2) := dk_21 4 (dk_at dksX11_cuts_0 4 rfl rfl)
theorem dX11_cuts_6 : decode cX11_cuts 6 = .ok (.iaload, 1) := dk_46 (dk_at dksX11_cuts_0 6 rfl rfl)
theorem dX11_cuts_7 : decode cX11_cuts 7 = .ok (.iload_n 2, 1) := dk_28 (dk_at dksX11_cuts_0 7 rfl rfl)
theorem dX11_cuts_8 : decode cX11_cuts 8 = .ok (.if_icmp .ge 9, 3) := dk_162 0 9 (dk_at dksX11_cuts_0 8 rfl rfl)
theorem dX11_cuts_11 : decode cX11_cuts 11 = .ok (.iinc 4 1, 3) := dk_132 4 1 (dk_at dksX11_cuts_0 11 rfl rfl)
theorem dX11_cuts_14 : decode cX11_cuts 14 = .ok (.goto (-11), 3) := dk_167 255 245 (dk_at dksX11_cuts_0 14 rfl rfl)
theorem dX11_cuts_17 : decode cX11_cuts 17 = .ok (.aload_n 1, 1) := dk_43 (dk_at dksX11_cuts_0 17 rfl rfl)
theorem dX11_cuts_18 : decode cX11_cuts 18 = .ok (.iload 4, 2) := dk_21 4 (dk_at dksX11_cuts_0 18 rfl rfl)
theorem dX11_cuts_20 : decode cX11_cuts 20 = .ok (.dup2, 1) := dk_92 (dk_at dksX11_cuts_0 20 rfl rfl)
theorem dX11_cuts_21 : decode cX11_cuts 21 = .ok (.iaload, 1) := dk_46 (dk_at dksX11_cuts_0 21 rfl rfl)
theorem dX11_cuts_22 : decode cX11_cuts 22 = .ok (.iload_n 2, 1) := dk_28 (dk_at dksX11_cuts_0 22 rfl rfl)
theorem dX11_cuts_23 : decode cX11_cuts 23 = .ok (.isub, 1) := dk_100 (dk_at dksX11_cuts_0 23 rfl rfl)
theorem dX11_cuts_24 : decode cX11_cuts 24 = .ok (.iastore, 1) := dk_79 (dk_at dksX11_cuts_1 0 rfl rfl)
theorem dX11_cuts_25 : decode cX11_cuts 25 = .ok (.iload 4, 2) := dk_21 4 (dk_at dksX11_cuts_1 1 rfl rfl)
theorem dX11_cuts_27 : decode cX11_cuts 27 = .ok (.ireturn, 1) := dk_172 (dk_at dksX11_cuts_1 3 rfl rfl)
theorem q765 : (Jvm.Cond.declares ({ cls := "FairBatten$Cutter", name := "cuts", desc := "([III)I" } : Jvm.MethodName)) ∈ lw_tbl := lw_at lw_m4 14 rfl
theorem q770 : (Jvm.Cond.instanceMethod ({ cls := "FairBatten$Cutter", name := "cuts", desc := "([III)I" } : Jvm.MethodName)) ∈ lw_all := lw_g (lw_at lw_m4 19 rfl) rfl
theorem q771 : (Jvm.Cond.code ({ cls := "FairBatten$Cutter", name := "cuts", desc := "([III)I" } : Jvm.MethodName) prog_6_method_1_code (5 : Nat) (Option.some Jvm.ClassFile.FieldType.int)) ∈ lw_all := lw_g (lw_at lw_m4 20 rfl) rfl
theorem q772 : (Jvm.Cond.publicMethod ({ cls := "FairBatten$Cutter", name := "cuts", desc := "([III)I" } : Jvm.MethodName)) ∈ lw_tbl := lw_at lw_m4 21 rfl
theorem q1216 : (Jvm.Cond.initialized "FairBatten$Cutter") ∈ lw_all := lw_g (lw_at lw_m5 225 rfl) rfl
theorem q249 : (Jvm.Cond.interfaceMethod "FairBatten$Measure" "FairBatten$Measure" "at" "(I)I") ∈ lw_tbl := lw_at lw_m1 218 rfl
set_option maxRecDepth 100000
theorem q250 : (Jvm.Cond.declares ({ cls := "FairBatten$Measure", name := "at", desc := "(I)I" } : Jvm.MethodName)) ∈ lw_tbl := lw_at lw_m1 219 rfl
theorem q1246 : (Jvm.Cond.castable "[B" "java/lang/Object") ∈ lw_tbl := lw_at lw_m6 15 rfl
set_option maxRecDepth 100000
theorem q1244 : (Jvm.Cond.castable "[I" "java/lang/Object") ∈ lw_tbl := lw_at lw_m6 13 rfl
set_option maxRecDepth 100000
theorem q1249 : (Jvm.Cond.castable "[J" "java/lang/Object") ∈ lw_tbl := lw_at lw_m6 18 rfl
set_option maxRecDepth 100000
theorem q1245 : (Jvm.Cond.castable "[LFairBatten$Weight;" "java/lang/Object") ∈ lw_tbl := lw_at lw_m6 14 rfl
set_option maxRecDepth 100000
theorem q1240 : (Jvm.Cond.sameMethod "[Ljava/lang/Object;" "java/lang/Object" "getClass" "()Ljava/lang/Class;") ∈ lw_all := lw_g (lw_at lw_m6 9 rfl) rfl
set_option maxRecDepth 100000
theorem q1241 : (Jvm.Cond.selects "[Ljava/lang/Object;" ({ cls := "java/lang/Object", name := "getClass", desc := "()Ljava/lang/Class;" } : Jvm.MethodName) ({ cls := "java/lang/Object", name := "getClass", desc := "()Ljava/lang/Class;" } : Jvm.MethodName)) ∈ lw_all := lw_g (lw_at lw_m6 10 rfl) rfl
theorem q1250 : (Jvm.Cond.castable "[Ljava/lang/Object;" "java/lang/Object") ∈ lw_tbl := lw_at lw_m6 19 rfl
theorem q1248 : (Jvm.Cond.castable "[Ljava/util/HashMap$Node;" "java/lang/Object") ∈ lw_tbl := lw_at lw_m6 17 rfl
set_option maxRecDepth 100000
theorem q1247 : (Jvm.Cond.castable "[Z" "java/lang/Object") ∈ lw_tbl := lw_at lw_m6 16 rfl
set_option maxRecDepth 100000
theorem q1243 : (Jvm.Cond.castable "[[I" "java/lang/Object") ∈ lw_tbl := lw_at lw_m6 12 rfl
set_option maxRecDepth 100000
theorem q428 : (Jvm.Cond.interfaceMethod "java/lang/Comparable" "java/lang/Comparable" "compareTo" "(Ljava/lang/Object;)I") ∈ lw_tbl := lw_at lw_m2 157 rfl
set_option maxRecDepth 100000
theorem q429 : (Jvm.Cond.declares ({ cls := "java/lang/Comparable", name := "compareTo", desc := "(Ljava/lang/Object;)I" } : Jvm.MethodName)) ∈ lw_tbl := lw_at lw_m2 158 rfl
theorem q56 : (Jvm.Cond.initialized "java/lang/Integer$IntegerCache") ∈ lw_all := lw_g (lw_at lw_m1 25 rfl) rfl
set_option maxRecDepth 100000
theorem q301 : (Jvm.Cond.laysStatic "java/lang/Integer$IntegerCache" "high" "I") ∈ lw_tbl := lw_at lw_m2 30 rfl
theorem q303 : (Jvm.Cond.laysStatic "java/lang/Integer$IntegerCache" "cache" "[Ljava/lang/Integer;") ∈ lw_tbl := lw_at lw_m2 32 rfl
theorem q48 : (Jvm.Cond.initialized "java/lang/System") ∈ lw_all := lw_g (lw_at lw_m1 17 rfl) rfl
set_option maxRecDepth 100000
theorem q663 : (Jvm.Cond.static ({ cls := "java/lang/System", name := "arraycopy", desc := "(Ljava/lang/Object;ILjava/lang/Object;II)V" } : Jvm.MethodName)) ∈ lw_all := lw_g (lw_at lw_m3 152 rfl) rfl
theorem q664 : (Jvm.Cond.native ({ cls := "java/lang/System", name := "arraycopy", desc := "(Ljava/lang/Object;ILjava/lang/Object;II)V" } : Jvm.MethodName)) ∈ lw_all := lw_g (lw_at lw_m3 153 rfl) rfl
theorem q205 : (Jvm.Cond.interfaceMethod "java/util/Iterator" "java/util/Iterator" "hasNext" "()Z") ∈ lw_tbl := lw_at lw_m1 174 rfl
set_option maxRecDepth 100000
theorem q206 : (Jvm.Cond.declares ({ cls := "java/util/Iterator", name := "hasNext", desc := "()Z" } : Jvm.MethodName)) ∈ lw_tbl := lw_at lw_m1 175 rfl
theorem q215 : (Jvm.Cond.interfaceMethod "java/util/Iterator" "java/util/Iterator" "next" "()Ljava/lang/Object;") ∈ lw_tbl := lw_at lw_m1 184 rfl
theorem q216 : (Jvm.Cond.declares ({ cls := "java/util/Iterator", name := "next", desc := "()Ljava/lang/Object;" } : Jvm.MethodName)) ∈ lw_tbl := lw_at lw_m1 185 rfl
theorem q319 : (Jvm.Cond.interfaceMethod "java/util/Map" "java/util/Map" "get" "(Ljava/lang/Object;)Ljava/lang/Object;") ∈ lw_tbl := lw_at lw_m2 48 rfl
set_option maxRecDepth 100000
theorem q320 : (Jvm.Cond.declares ({ cls := "java/util/Map", name := "get", desc := "(Ljava/lang/Object;)Ljava/lang/Object;" } : Jvm.MethodName)) ∈ lw_tbl := lw_at lw_m2 49 rfl
theorem q789 : (Jvm.Cond.interfaceMethod "java/util/Map" "java/util/Map" "containsKey" "(Ljava/lang/Object;)Z") ∈ lw_tbl := lw_at lw_m4 38 rfl
theorem q790 : (Jvm.Cond.declares ({ cls := "java/util/Map", name := "containsKey", desc := "(Ljava/lang/Object;)Z" } : Jvm.MethodName)) ∈ lw_tbl := lw_at lw_m4 39 rfl
theorem q798 : (Jvm.Cond.interfaceMethod "java/util/Map" "java/util/Map" "size" "()I") ∈ lw_tbl := lw_at lw_m4 47 rfl
theorem q799 : (Jvm.Cond.declares ({ cls := "java/util/Map", name := "size", desc := "()I" } : Jvm.MethodName)) ∈ lw_tbl := lw_at lw_m4 48 rfl
theorem q807 : (Jvm.Cond.interfaceMethod "java/util/Map" "java/util/Map" "put" "(Ljava/lang/Object;Ljava/lang/Object;)Ljava/lang/Object;") ∈ lw_tbl := lw_at lw_m4 56 rfl
theorem q808 : (Jvm.Cond.declares ({ cls := "java/util/Map", name := "put", desc := "(Ljava/lang/Object;Ljava/lang/Object;)Ljava/lang/Object;" } : Jvm.MethodName)) ∈ lw_tbl := lw_at lw_m4 57 rfl
theorem q75 : (Jvm.Cond.arrayOver (Jvm.ClassFile.FieldType.array Jvm.ClassFile.FieldType.int)) ∈ lw_tbl := lw_at lw_m1 44 rfl
set_option maxRecDepth 100000
theorem q84 : (Jvm.Cond.arrayClass Jvm.ClassFile.FieldType.int) ∈ lw_all := lw_g (lw_at lw_m1 53 rfl) rfl
theorem q92 : (Jvm.Cond.arrayOver (Jvm.ClassFile.FieldType.object "FairBatten$Weight")) ∈ lw_tbl := lw_at lw_m1 61 rfl
theorem q520 : (Jvm.Cond.arrayClass Jvm.ClassFile.FieldType.byte) ∈ lw_all := lw_g (lw_at lw_m3 9 rfl) rfl
theorem q753 : (Jvm.Cond.arrayClass Jvm.ClassFile.FieldType.boolean) ∈ lw_all := lw_g (lw_at lw_m4 2 rfl) rfl
theorem q826 : (Jvm.Cond.arrayOver (Jvm.ClassFile.FieldType.object "java/util/HashMap$Node")) ∈ lw_tbl := lw_at lw_m4 75 rfl
theorem q1213 : (Jvm.Cond.arrayClass Jvm.ClassFile.FieldType.long) ∈ lw_all := lw_g (lw_at lw_m5 222 rfl) rfl
theorem q1239 : (Jvm.Cond.arrayOver (Jvm.ClassFile.FieldType.object "java/lang/Object")) ∈ lw_tbl := lw_at lw_m6 8 rfl
