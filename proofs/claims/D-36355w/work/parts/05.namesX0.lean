/-! GraphlineLaw -/
set_option maxRecDepth 100000
def RX0 : String := "GraphlineLaw"
abbrev cX0_go : ByteArray := method_3_code
def yX0_go : MethodName := ⟨RX0, "go", "(LGraphline;I[J)I"⟩
def dkwX0_go_0 : List UInt8 := [44, 3, 42, 27, 182, 0, 7, 133, 80, 167, 0, 9, 78, 4, 172, 78, 5, 172, 3, 172]
abbrev dktX0_go_0 : List UInt8 := dkwX0_go_0 ++ []
theorem dksX0_go_0 : cX0_go.data.toList.drop 0 = dktX0_go_0 := by decide +kernel
theorem dX0_go_0 : decode cX0_go 0 = .ok (.aload_n 2, 1) := dk_44 (dk_at dksX0_go_0 0 rfl rfl)
theorem dX0_go_1 : decode cX0_go 1 = .ok (.iconst 0, 1) := dk_3 (dk_at dksX0_go_0 1 rfl rfl)
theorem dX0_go_2 : decode cX0_go 2 = .ok (.aload_n 0, 1) := dk_42 (dk_at dksX0_go_0 2 rfl rfl)
theorem dX0_go_3 : decode cX0_go 3 = .ok (.iload_n 1, 1) := dk_27 (dk_at dksX0_go_0 3 rfl rfl)
theorem dX0_go_4 : decode cX0_go 4 = .ok (.invokevirtual 7, 3) := dk_182 0 7 (dk_at dksX0_go_0 4 rfl rfl)
theorem dX0_go_7 : decode cX0_go 7 = .ok (.i2l, 1) := dk_133 (dk_at dksX0_go_0 7 rfl rfl)
theorem dX0_go_8 : decode cX0_go 8 = .ok (.lastore, 1) := dk_80 (dk_at dksX0_go_0 8 rfl rfl)
theorem dX0_go_9 : decode cX0_go 9 = .ok (.goto 9, 3) := dk_167 0 9 (dk_at dksX0_go_0 9 rfl rfl)
theorem dX0_go_12 : decode cX0_go 12 = .ok (.astore_n 3, 1) := dk_78 (dk_at dksX0_go_0 12 rfl rfl)
theorem dX0_go_13 : decode cX0_go 13 = .ok (.iconst 1, 1) := dk_4 (dk_at dksX0_go_0 13 rfl rfl)
theorem dX0_go_14 : decode cX0_go 14 = .ok (.ireturn, 1) := dk_172 (dk_at dksX0_go_0 14 rfl rfl)
theorem dX0_go_15 : decode cX0_go 15 = .ok (.astore_n 3, 1) := dk_78 (dk_at dksX0_go_0 15 rfl rfl)
theorem dX0_go_16 : decode cX0_go 16 = .ok (.iconst 2, 1) := dk_5 (dk_at dksX0_go_0 16 rfl rfl)
theorem dX0_go_17 : decode cX0_go 17 = .ok (.ireturn, 1) := dk_172 (dk_at dksX0_go_0 17 rfl rfl)
theorem dX0_go_18 : decode cX0_go 18 = .ok (.iconst 0, 1) := dk_3 (dk_at dksX0_go_0 18 rfl rfl)
theorem dX0_go_19 : decode cX0_go 19 = .ok (.ireturn, 1) := dk_172 (dk_at dksX0_go_0 19 rfl rfl)
abbrev cX0_belt : ByteArray := method_4_code
def yX0_belt : MethodName := ⟨RX0, "belt", "(LGraphline;CC[J)I"⟩
def dkwX0_belt_0 : List UInt8 := [45, 3, 42, 27, 28, 182, 0, 17, 133, 80, 167, 0, 11, 58, 4, 4, 172, 58, 4, 5, 172, 3, 172]
abbrev dktX0_belt_0 : List UInt8 := dkwX0_belt_0 ++ []
theorem dksX0_belt_0 : cX0_belt.data.toList.drop 0 = dktX0_belt_0 := by decide +kernel
theorem dX0_belt_0 : decode cX0_belt 0 = .ok (.aload_n 3, 1) := dk_45 (dk_at dksX0_belt_0 0 rfl rfl)
theorem dX0_belt_1 : decode cX0_belt 1 = .ok (.iconst 0, 1) := dk_3 (dk_at dksX0_belt_0 1 rfl rfl)
theorem dX0_belt_2 : decode cX0_belt 2 = .ok (.aload_n 0, 1) := dk_42 (dk_at dksX0_belt_0 2 rfl rfl)
theorem dX0_belt_3 : decode cX0_belt 3 = .ok (.iload_n 1, 1) := dk_27 (dk_at dksX0_belt_0 3 rfl rfl)
theorem dX0_belt_4 : decode cX0_belt 4 = .ok (.iload_n 2, 1) := dk_28 (dk_at dksX0_belt_0 4 rfl rfl)
theorem dX0_belt_5 : decode cX0_belt 5 = .ok (.invokevirtual 17, 3) := dk_182 0 17 (dk_at dksX0_belt_0 5 rfl rfl)
theorem dX0_belt_8 : decode cX0_belt 8 = .ok (.i2l, 1) := dk_133 (dk_at dksX0_belt_0 8 rfl rfl)
theorem dX0_belt_9 : decode cX0_belt 9 = .ok (.lastore, 1) := dk_80 (dk_at dksX0_belt_0 9 rfl rfl)
theorem dX0_belt_10 : decode cX0_belt 10 = .ok (.goto 11, 3) := dk_167 0 11 (dk_at dksX0_belt_0 10 rfl rfl)
theorem dX0_belt_13 : decode cX0_belt 13 = .ok (.astore 4, 2) := dk_58 4 (dk_at dksX0_belt_0 13 rfl rfl)
theorem dX0_belt_15 : decode cX0_belt 15 = .ok (.iconst 1, 1) := dk_4 (dk_at dksX0_belt_0 15 rfl rfl)
theorem dX0_belt_16 : decode cX0_belt 16 = .ok (.ireturn, 1) := dk_172 (dk_at dksX0_belt_0 16 rfl rfl)
theorem dX0_belt_17 : decode cX0_belt 17 = .ok (.astore 4, 2) := dk_58 4 (dk_at dksX0_belt_0 17 rfl rfl)
theorem dX0_belt_19 : decode cX0_belt 19 = .ok (.iconst 2, 1) := dk_5 (dk_at dksX0_belt_0 19 rfl rfl)
theorem dX0_belt_20 : decode cX0_belt 20 = .ok (.ireturn, 1) := dk_172 (dk_at dksX0_belt_0 20 rfl rfl)
theorem dX0_belt_21 : decode cX0_belt 21 = .ok (.iconst 0, 1) := dk_3 (dk_at dksX0_belt_0 21 rfl rfl)
theorem dX0_belt_22 : decode cX0_belt 22 = .ok (.ireturn, 1) := dk_172 (dk_at dksX0_belt_0 22 rfl rfl)
abbrev cX0_on : ByteArray := method_5_code
def yX0_on : MethodName := ⟨RX0, "on", "(LGraphline;CZ[J)I"⟩
def dkwX0_on_1 : List UInt8 := [3, 172]
abbrev dktX0_on_1 : List UInt8 := dkwX0_on_1 ++ []
def dkwX0_on_0 : List UInt8 := [45, 3, 42, 27, 28, 182, 0, 23, 153, 0, 7, 10, 167, 0, 4, 9, 80, 167, 0, 7, 58, 4, 4, 172]
abbrev dktX0_on_0 : List UInt8 := dkwX0_on_0 ++ dktX0_on_1
theorem dksX0_on_0 : cX0_on.data.toList.drop 0 = dktX0_on_0 := by decide +kernel
theorem dksX0_on_1 : cX0_on.data.toList.drop 24 = dktX0_on_1 := dk_seg dksX0_on_0 24 rfl rfl
theorem dX0_on_0 : decode cX0_on 0 = .ok (.aload_n 3, 1) := dk_45 (dk_at dksX0_on_0 0 rfl rfl)
theorem dX0_on_1 : decode cX0_on 1 = .ok (.iconst 0, 1) := dk_3 (dk_at dksX0_on_0 1 rfl rfl)
theorem dX0_on_2 : decode cX0_on 2 = .ok (.aload_n 0, 1) := dk_42 (dk_at dksX0_on_0 2 rfl rfl)
theorem dX0_on_3 : decode cX0_on 3 = .ok (.iload_n 1, 1) := dk_27 (dk_at dksX0_on_0 3 rfl rfl)
theorem dX0_on_4 : decode cX0_on 4 = .ok (.iload_n 2, 1) := dk_28 (dk_at dksX0_on_0 4 rfl rfl)
theorem dX0_on_5 : decode cX0_on 5 = .ok (.invokevirtual 23, 3) := dk_182 0 23 (dk_at dksX0_on_0 5 rfl rfl)
theorem dX0_on_8 : decode cX0_on 8 = .ok (.ifCond .eq 7, 3) := dk_153 0 7 (dk_at dksX0_on_0 8 rfl rfl)
theorem dX0_on_11 : decode cX0_on 11 = .ok (.lconst 1, 1) := dk_10 (dk_at dksX0_on_0 11 rfl rfl)
theorem dX0_on_12 : decode cX0_on 12 = .ok (.goto 4, 3) := dk_167 0 4 (dk_at dksX0_on_0 12 rfl rfl)
theorem dX0_on_15 : decode cX0_on 15 = .ok (.lconst 0, 1) := dk_9 (dk_at dksX0_on_0 15 rfl rfl)
theorem dX0_on_16 : decode cX0_on 16 = .ok (.lastore, 1) := dk_80 (dk_at dksX0_on_0 16 rfl rfl)
theorem dX0_on_17 : decode cX0_on 17 = .ok (.goto 7, 3) := dk_167 0 7 (dk_at dksX0_on_0 17 rfl rfl)
theorem dX0_on_20 : decode cX0_on 20 = .ok (.astore 4, 2) := dk_58 4 (dk_at dksX0_on_0 20 rfl rfl)
theorem dX0_on_22 : decode cX0_on 22 = .ok (.iconst 1, 1) := dk_4 (dk_at dksX0_on_0 22 rfl rfl)
theorem dX0_on_23 : decode cX0_on 23 = .ok (.ireturn, 1) := dk_172 (dk_at dksX0_on_0 23 rfl rfl)
theorem dX0_on_24 : decode cX0_on 24 = .ok (.iconst 0, 1) := dk_3 (dk_at dksX0_on_1 0 rfl rfl)
theorem dX0_on_25 : decode cX0_on 25 = .ok (.ireturn, 1) := dk_172 (dk_at dksX0_on_1 1 rfl rfl)
abbrev cX0_runs : ByteArray := method_6_code
def yX0_runs : MethodName := ⟨RX0, "runs", "(LGraphline;C[J)I"⟩
def dkwX0_runs_0 : List UInt8 := [44, 3, 42, 27, 182, 0, 27, 153, 0, 7, 10, 167, 0, 4, 9, 80, 167, 0, 6, 78, 4, 172, 3, 172]
abbrev dktX0_runs_0 : List UInt8 := dkwX0_runs_0 ++ []
theorem dksX0_runs_0 : cX0_runs.data.toList.drop 0 = dktX0_runs_0 := by decide +kernel
theorem dX0_runs_0 : decode cX0_runs 0 = .ok (.aload_n 2, 1) := dk_44 (dk_at dksX0_runs_0 0 rfl rfl)
theorem dX0_runs_1 : decode cX0_runs 1 = .ok (.iconst 0, 1) := dk_3 (dk_at dksX0_runs_0 1 rfl rfl)
theorem dX0_runs_2 : decode cX0_runs 2 = .ok (.aload_n 0, 1) := dk_42 (dk_at dksX0_runs_0 2 rfl rfl)
theorem dX0_runs_3 : decode cX0_runs 3 = .ok (.iload_n 1, 1) := dk_27 (dk_at dksX0_runs_0 3 rfl rfl)
theorem dX0_runs_4 : decode cX0_runs 4 = .ok (.invokevirtual 27, 3) := dk_182 0 27 (dk_at dksX0_runs_0 4 rfl rfl)
theorem dX0_runs_7 : decode cX0_runs 7 = .ok (.ifCond .eq 7, 3) := dk_153 0 7 (dk_at dksX0_runs_0 7 rfl rfl)
theorem dX0_runs_10 : decode cX0_runs 10 = .ok (.lconst 1, 1) := dk_10 (dk_at dksX0_runs_0 10 rfl rfl)
theorem dX0_runs_11 : decode cX0_runs 11 = .ok (.goto 4, 3) := dk_167 0 4 (dk_at dksX0_runs_0 11 rfl rfl)
theorem dX0_runs_14 : decode cX0_runs 14 = .ok (.lconst 0, 1) := dk_9 (dk_at dksX0_runs_0 14 rfl rfl)
theorem dX0_runs_15 : decode cX0_runs 15 = .ok (.lastore, 1) := dk_80 (dk_at dksX0_runs_0 15 rfl rfl)
theorem dX0_runs_16 : decode cX0_runs 16 = .ok (.goto 6, 3) := dk_167 0 6 (dk_at dksX0_runs_0 16 rfl rfl)
theorem dX0_runs_19 : decode cX0_runs 19 = .ok (.astore_n 3, 1) := dk_78 (dk_at dksX0_runs_0 19 rfl rfl)
theorem dX0_runs_20 : decode cX0_runs 20 = .ok (.iconst 1, 1) := dk_4 (dk_at dksX0_runs_0 20 rfl rfl)
theorem dX0_runs_21 : decode cX0_runs 21 = .ok (.ireturn, 1) := dk_172 (dk_at dksX0_runs_0 21 rfl rfl)
theorem dX0_runs_22 : decode cX0_runs 22 = .ok (.iconst 0, 1) := dk_3 (dk_at dksX0_runs_0 22 rfl rfl)
theorem dX0_runs_23 : decode cX0_runs 23 = .ok (.ireturn, 1) := dk_172 (dk_at dksX0_runs_0 23 rfl rfl)
abbrev cX0_lot : ByteArray := method_7_code
def yX0_lot : MethodName := ⟨RX0, "lot", "(LGraphline;CIII[J)I"⟩
def dkwX0_lot_1 : List UInt8 := [172, 3, 172]
abbrev dktX0_lot_1 : List UInt8 := dkwX0_lot_1 ++ []
def dkwX0_lot_0 : List UInt8 := [25, 5, 3, 42, 27, 28, 29, 21, 4, 182, 0, 31, 133, 80, 167, 0, 11, 58, 6, 4, 172, 58, 6, 5]
abbrev dktX0_lot_0 : List UInt8 := dkwX0_lot_0 ++ dktX0_lot_1
theorem dksX0_lot_0 : cX0_lot.data.toList.drop 0 = dktX0_lot_0 := by decide +kernel
theorem dksX0_lot_1 : cX0_lot.data.toList.drop 24 = dktX0_lot_1 := dk_seg dksX0_lot_0 24 rfl rfl
theorem dX0_lot_0 : decode cX0_lot 0 = .ok (.aload 5, 2) := dk_25 5 (dk_at dksX0_lot_0 0 rfl rfl)
theorem dX0_lot_2 : decode cX0_lot 2 = .ok (.iconst 0, 1) := dk_3 (dk_at dksX0_lot_0 2 rfl rfl)
theorem dX0_lot_3 : decode cX0_lot 3 = .ok (.aload_n 0, 1) := dk_42 (dk_at dksX0_lot_0 3 rfl rfl)
theorem dX0_lot_4 : decode cX0_lot 4 = .ok (.iload_n 1, 1) := dk_27 (dk_at dksX0_lot_0 4 rfl rfl)
theorem dX0_lot_5 : decode cX0_lot 5 = .ok (.iload_n 2, 1) := dk_28 (dk_at dksX0_lot_0 5 rfl rfl)
theorem dX0_lot_6 : decode cX0_lot 6 = .ok (.iload_n 3, 1) := dk_29 (dk_at dksX0_lot_0 6 rfl rfl)
theorem dX0_lot_7 : decode cX0_lot 7 = .ok (.iload 4, 2) := dk_21 4 (dk_at dksX0_lot_0 7 rfl rfl)
theorem dX0_lot_9 : decode cX0_lot 9 = .ok (.invokevirtual 31, 3) := dk_182 0 31 (dk_at dksX0_lot_0 9 rfl rfl)
theorem dX0_lot_12 : decode cX0_lot 12 = .ok (.i2l, 1) := dk_133 (dk_at dksX0_lot_0 12 rfl rfl)
theorem dX0_lot_13 : decode cX0_lot 13 = .ok (.lastore, 1) := dk_80 (dk_at dksX0_lot_0 13 rfl rfl)
theorem dX0_lot_14 : decode cX0_lot 14 = .ok (.goto 11, 3) := dk_167 0 11 (dk_at dksX0_lot_0 14 rfl rfl)
theorem dX0_lot_17 : decode cX0_lot 17 = .ok (.astore 6, 2) := dk_58 6 (dk_at dksX0_lot_0 17 rfl rfl)
theorem dX0_lot_19 : decode cX0_lot 19 = .ok (.iconst 1, 1) := dk_4 (dk_at dksX0_lot_0 19 rfl rfl)
theorem dX0_lot_20 : decode cX0_lot 20 = .ok (.ireturn, 1) := dk_172 (dk_at dksX0_lot_0 20 rfl rfl)
theorem dX0_lot_21 : decode cX0_lot 21 = .ok (.astore 6, 2) := dk_58 6 (dk_at dksX0_lot_0 21 rfl rfl)
theorem dX0_lot_23 : decode cX0_lot 23 = .ok (.iconst 2, 1) := dk_5 (dk_at dksX0_lot_0 23 rfl rfl)
theorem dX0_lot_24 : decode cX0_lot 24 = .ok (.ireturn, 1) := dk_172 (dk_at dksX0_lot_1 0 rfl rfl)
theorem dX0_lot_25 : decode cX0_lot 25 = .ok (.iconst 0, 1) := dk_3 (dk_at dksX0_lot_1 1 rfl rfl)
theorem dX0_lot_26 : decode cX0_lot 26 = .ok (.ireturn, 1) := dk_172 (dk_at dksX0_lot_1 2 rfl rfl)
abbrev cX0_kilos : ByteArray := method_8_code
def yX0_kilos : MethodName := ⟨RX0, "kilos", "(LGraphline;I[J)I"⟩
def dkwX0_kilos_0 : List UInt8 := [44, 3, 42, 27, 182, 0, 35, 133, 80, 167, 0, 6, 78, 4, 172, 3, 172]
abbrev dktX0_kilos_0 : List UInt8 := dkwX0_kilos_0 ++ []
theorem dksX0_kilos_0 : cX0_kilos.data.toList.drop 0 = dktX0_kilos_0 := by decide +kernel
theorem dX0_kilos_0 : decode cX0_kilos 0 = .ok (.aload_n 2, 1) := dk_44 (dk_at dksX0_kilos_0 0 rfl rfl)
theorem dX0_kilos_1 : decode cX0_kilos 1 = .ok (.iconst 0, 1) := dk_3 (dk_at dksX0_kilos_0 1 rfl rfl)
theorem dX0_kilos_2 : decode cX0_kilos 2 = .ok (.aload_n 0, 1) := dk_42 (dk_at dksX0_kilos_0 2 rfl rfl)
theorem dX0_kilos_3 : decode cX0_kilos 3 = .ok (.iload_n 1, 1) := dk_27 (dk_at dksX0_kilos_0 3 rfl rfl)
theorem dX0_kilos_4 : decode cX0_kilos 4 = .ok (.invokevirtual 35, 3) := dk_182 0 35 (dk_at dksX0_kilos_0 4 rfl rfl)
theorem dX0_kilos_7 : decode cX0_kilos 7 = .ok (.i2l, 1) := dk_133 (dk_at dksX0_kilos_0 7 rfl rfl)
theorem dX0_kilos_8 : decode cX0_kilos 8 = .ok (.lastore, 1) := dk_80 (dk_at dksX0_kilos_0 8 rfl rfl)
theorem dX0_kilos_9 : decode cX0_kilos 9 = .ok (.goto 6, 3) := dk_167 0 6 (dk_at dksX0_kilos_0 9 rfl rfl)
theorem dX0_kilos_12 : decode cX0_kilos 12 = .ok (.astore_n 3, 1) := dk_78 (dk_at dksX0_kilos_0 12 rfl rfl)
theorem dX0_kilos_13 : decode cX0_kilos 13 = .ok (.iconst 1, 1) := dk_4 (dk_at dksX0_kilos_0 13 rfl rfl)
theorem dX0_kilos_14 : decode cX0_kilos 14 = .ok (.ireturn, 1) := dk_172 (dk_at dksX0_kilos_0 14 rfl rfl)
theorem dX0_kilos_15 : decode cX0_kilos 15 = .ok (.iconst 0, 1) := dk_3 (dk_at dksX0_kilos_0 15 rfl rfl)
theorem dX0_kilos_16 : decode cX0_kilos 16 = .ok (.ireturn, 1) := dk_172 (dk_at dksX0_kilos_0 16 rfl rfl)
abbrev cX0_mix : ByteArray := method_9_code
def yX0_mix : MethodName := ⟨RX0, "mix", "(LGraphline;IIIII[J)I"⟩
def dkwX0_mix_1 : List UInt8 := [58, 7, 5, 172, 58, 7, 6, 172, 58, 7, 7, 172, 3, 172]
abbrev dktX0_mix_1 : List UInt8 := dkwX0_mix_1 ++ []
def dkwX0_mix_0 : List UInt8 := [25, 6, 3, 42, 27, 28, 29, 21, 4, 21, 5, 182, 0, 40, 133, 80, 167, 0, 19, 58, 7, 4, 172]
abbrev dktX0_mix_0 : List UInt8 := dkwX0_mix_0 ++ dktX0_mix_1
theorem dksX0_mix_0 : cX0_mix.data.toList.drop 0 = dktX0_mix_0 := by decide +kernel
theorem dksX0_mix_1 : cX0_mix.data.toList.drop 23 = dktX0_mix_1 := dk_seg dksX0_mix_0 23 rfl rfl
theorem dX0_mix_0 : decode cX0_mix 0 = .ok (.aload 6, 2) := dk_25 6 (dk_at dksX0_mix_0 0 rfl rfl)
theorem dX0_mix_2 : decode cX0_mix 2 = .ok (.iconst 0, 1) := dk_3 (dk_at dksX0_mix_0 2 rfl rfl)
theorem dX0_mix_3 : decode cX0_mix 3 = .ok (.aload_n 0, 1) := dk_42 (dk_at dksX0_mix_0 3 rfl rfl)
theorem dX0_mix_4 : decode cX0_mix 4 = .ok (.iload_n 1, 1) := dk_27 (dk_at dksX0_mix_0 4 rfl rfl)
theorem dX0_mix_5 : decode cX0_mix 5 = .ok (.iload_n 2, 1) := dk_28 (dk_at dksX0_mix_0 5 rfl rfl)
theorem dX0_mix_6 : decode cX0_mix 6 = .ok (.iload_n 3, 1) := dk_29 (dk_at dksX0_mix_0 6 rfl rfl)
theorem dX0_mix_7 : decode cX0_mix 7 = .ok (.iload 4, 2) := dk_21 4 (dk_at dksX0_mix_0 7 rfl rfl)
theorem dX0_mix_9 : decode cX0_mix 9 = .ok (.iload 5, 2) := dk_21 5 (dk_at dksX0_mix_0 9 rfl rfl)
theorem dX0_mix_11 : decode cX0_mix 11 = .ok (.invokevirtual 40, 3) := dk_182 0 40 (dk_at dksX0_mix_0 11 rfl rfl)
theorem dX0_mix_14 : decode cX0_mix 14 = .ok (.i2l, 1) := dk_133 (dk_at dksX0_mix_0 14 rfl rfl)
theorem dX0_mix_15 : decode cX0_mix 15 = .ok (.lastore, 1) := dk_80 (dk_at dksX0_mix_0 15 rfl rfl)
theorem dX0_mix_16 : decode cX0_mix 16 = .ok (.goto 19, 3) := dk_167 0 19 (dk_at dksX0_mix_0 16 rfl rfl)
theorem dX0_mix_19 : decode cX0_mix 19 = .ok (.astore 7, 2) := dk_58 7 (dk_at dksX0_mix_0 19 rfl rfl)
theorem dX0_mix_21 : decode cX0_mix 21 = .ok (.iconst 1, 1) := dk_4 (dk_at dksX0_mix_0 21 rfl rfl)
theorem dX0_mix_22 : decode cX0_mix 22 = .ok (.ireturn, 1) := dk_172 (dk_at dksX0_mix_0 22 rfl rfl)
theorem dX0_mix_23 : decode cX0_mix 23 = .ok (.astore 7, 2) := dk_58 7 (dk_at dksX0_mix_1 0 rfl rfl)
theorem dX0_mix_25 : decode cX0_mix 25 = .ok (.iconst 2, 1) := dk_5 (dk_at dksX0_mix_1 2 rfl rfl)
theorem dX0_mix_26 : decode cX0_mix 26 = .ok (.ireturn, 1) := dk_172 (dk_at dksX0_mix_1 3 rfl rfl)
theorem dX0_mix_27 : decode cX0_mix 27 = .ok (.astore 7, 2) := dk_58 7 (dk_at dksX0_mix_1 4 rfl rfl)
theorem dX0_mix_29 : decode cX0_mix 29 = .ok (.iconst 3, 1) := dk_6 (dk_at dksX0_mix_1 6 rfl rfl)
theorem dX0_mix_30 : decode cX0_mix 30 = .ok (.ireturn, 1) := dk_172 (dk_at dksX0_mix_1 7 rfl rfl)
theorem dX0_mix_31 : decode cX0_mix 31 = .ok (.astore 7, 2) := dk_58 7 (dk_at dksX0_mix_1 8 rfl rfl)
theorem dX0_mix_33 : decode cX0_mix 33 = .ok (.iconst 4, 1) := dk_7 (dk_at dksX0_mix_1 10 rfl rfl)
theorem dX0_mix_34 : decode cX0_mix 34 = .ok (.ireturn, 1) := dk_172 (dk_at dksX0_mix_1 11 rfl rfl)
theorem dX0_mix_35 : decode cX0_mix 35 = .ok (.iconst 0, 1) := dk_3 (dk_at dksX0_mix_1 12 rfl rfl)
theorem dX0_mix_36 : decode cX0_mix 36 = .ok (.ireturn, 1) := dk_172 (dk_at dksX0_mix_1 13 rfl rfl)
abbrev cX0_mixture : ByteArray := method_10_code
def yX0_mixture : MethodName := ⟨RX0, "mixture", "(LGraphline;IC[J)I"⟩
def dkwX0_mixture_0 : List UInt8 := [45, 3, 42, 27, 28, 182, 0, 44, 133, 80, 167, 0, 11, 58, 4, 4, 172, 58, 4, 5, 172, 3, 172]
abbrev dktX0_mixture_0 : List UInt8 := dkwX0_mixture_0 ++ []
theorem dksX0_mixture_0 : cX0_mixture.data.toList.drop 0 = dktX0_mixture_0 := by decide +kernel
theorem dX0_mixture_0 : decode cX0_mixture 0 = .ok (.aload_n 3, 1) := dk_45 (dk_at dksX0_mixture_0 0 rfl rfl)
theorem dX0_mixture_1 : decode cX0_mixture 1 = .ok (.iconst 0, 1) := dk_3 (dk_at dksX0_mixture_0 1 rfl rfl)
theorem dX0_mixture_2 : decode cX0_mixture 2 = .ok (.aload_n 0, 1) := dk_42 (dk_at dksX0_mixture_0 2 rfl rfl)
theorem dX0_mixture_3 : decode cX0_mixture 3 = .ok (.iload_n 1, 1) := dk_27 (dk_at dksX0_mixture_0 3 rfl rfl)
theorem dX0_mixture_4 : decode cX0_mixture 4 = .ok (.iload_n 2, 1) := dk_28 (dk_at dksX0_mixture_0 4 rfl rfl)
theorem dX0_mixture_5 : decode cX0_mixture 5 = .ok (.invokevirtual 44, 3) := dk_182 0 44 (dk_at dksX0_mixture_0 5 rfl rfl)
theorem dX0_mixture_8 : decode cX0_mixture 8 = .ok (.i2l, 1) := dk_133 (dk_at dksX0_mixture_0 8 rfl rfl)
theorem dX0_mixture_9 : decode cX0_mixture 9 = .ok (.lastore, 1) := dk_80 (dk_at dksX0_mixture_0 9 rfl rfl)
theorem dX0_mixture_10 : decode cX0_mixture 10 = .ok (.goto 11, 3) := dk_167 0 11 (dk_at dksX0_mixture_0 10 rfl rfl)
theorem dX0_mixture_13 : decode cX0_mixture 13 = .ok (.astore 4, 2) := dk_58 4 (dk_at dksX0_mixture_0 13 rfl rfl)
theorem dX0_mixture_15 : decode cX0_mixture 15 = .ok (.iconst 1, 1) := dk_4 (dk_at dksX0_mixture_0 15 rfl rfl)
theorem dX0_mixture_16 : decode cX0_mixture 16 = .ok (.ireturn, 1) := dk_172 (dk_at dksX0_mixture_0 16 rfl rfl)
theorem dX0_mixture_17 : decode cX0_mixture 17 = .ok (.astore 4, 2) := dk_58 4 (dk_at dksX0_mixture_0 17 rfl rfl)
theorem dX0_mixture_19 : decode cX0_mixture 19 = .ok (.iconst 2, 1) := dk_5 (dk_at dksX0_mixture_0 19 rfl rfl)
theorem dX0_mixture_20 : decode cX0_mixture 20 = .ok (.ireturn, 1) := dk_172 (dk_at dksX0_mixture_0 20 rfl rfl)
theorem dX0_mixture_21 : decode cX0_mixture 21 = .ok (.iconst 0, 1) := dk_3 (dk_at dksX0_mixture_0 21 rfl rfl)
theorem dX0_mixture_22 : decode cX0_mixture 22 = .ok (.ireturn, 1) := dk_172 (dk_at dksX0_mixture_0 22 rfl rfl)
abbrev cX0_press : ByteArray := method_11_code
def yX0_press : MethodName := ⟨RX0, "press", "(LGraphline;III[J)I"⟩
def dkwX0_press_1 : List UInt8 := [58, 5, 6, 172, 58, 5, 7, 172, 3, 172]
abbrev dktX0_press_1 : List UInt8 := dkwX0_press_1 ++ []
def dkwX0_press_0 : List UInt8 := [25, 4, 3, 42, 27, 28, 29, 182, 0, 48, 133, 80, 167, 0, 19, 58, 5, 4, 172, 58, 5, 5, 172]
abbrev dktX0_press_0 : List UInt8 := dkwX0_press_0 ++ dktX0_press_1
theorem dksX0_press_0 : cX0_press.data.toList.drop 0 = dktX0_press_0 := by decide +kernel
theorem dksX0_press_1 : cX0_press.data.toList.drop 23 = dktX0_press_1 := dk_seg dksX0_press_0 23 rfl rfl
theorem dX0_press_0 : decode cX0_press 0 = .ok (.aload 4, 2) := dk_25 4 (dk_at dksX0_press_0 0 rfl rfl)
theorem dX0_press_2 : decode cX0_press 2 = .ok (.iconst 0, 1) := dk_3 (dk_at dksX0_press_0 2 rfl rfl)
theorem dX0_press_3 : decode cX0_press 3 = .ok (.aload_n 0, 1) := dk_42 (dk_at dksX0_press_0 3 rfl rfl)
theorem dX0_press_4 : decode cX0_press 4 = .ok (.iload_n 1, 1) := dk_27 (dk_at dksX0_press_0 4 rfl rfl)
theorem dX0_press_5 : decode cX0_press 5 = .ok (.iload_n 2, 1) := dk_28 (dk_at dksX0_press_0 5 rfl rfl)
theorem dX0_press_6 : decode cX0_press 6 = .ok (.iload_n 3, 1) := dk_29 (dk_at dksX0_press_0 6 rfl rfl)
theorem dX0_press_7 : decode cX0_press 7 = .ok (.invokevirtual 48, 3) := dk_182 0 48 (dk_at dksX0_press_0 7 rfl rfl)
theorem dX0_press_10 : decode cX0_press 10 = .ok (.i2l, 1) := dk_133 (dk_at dksX0_press_0 10 rfl rfl)
theorem dX0_press_11 : decode cX0_press 11 = .ok (.lastore, 1) := dk_80 (dk_at dksX0_press_0 11 rfl rfl)
theorem dX0_press_12 : decode cX0_press 12 = .ok (.goto 19, 3) := dk_167 0 19 (dk_at dksX0_press_0 12 rfl rfl)
theorem dX0_press_15 : decode cX0_press 15 = .ok (.astore 5, 2) := dk_58 5 (dk_at dksX0_press_0 15 rfl rfl)
theorem dX0_press_17 : decode cX0_press 17 = .ok (.iconst 1, 1) := dk_4 (dk_at dksX0_press_0 17 rfl rfl)
theorem dX0_press_18 : decode cX0_press 18 = .ok (.ireturn, 1) := dk_172 (dk_at dksX0_press_0 18 rfl rfl)
theorem dX0_press_19 : decode cX0_press 19 = .ok (.astore 5, 2) := dk_58 5 (dk_at dksX0_press_0 19 rfl rfl)
theorem dX0_press_21 : decode cX0_press 21 = .ok (.iconst 2, 1) := dk_5 (dk_at dksX0_press_0 21 rfl rfl)
theorem dX0_press_22 : decode cX0_press 22 = .ok (.ireturn, 1) := dk_172 (dk_at dksX0_press_0 22 rfl rfl)
theorem dX0_press_23 : decode cX0_press 23 = .ok (.astore 5, 2) := dk_58 5 (dk_at dksX0_press_1 0 rfl rfl)
theorem dX0_press_25 : decode cX0_press 25 = .ok (.iconst 3, 1) := dk_6 (dk_at dksX0_press_1 2 rfl rfl)
theorem dX0_press_26 : decode cX0_press 26 = .ok (.ireturn, 1) := dk_172 (dk_at dksX0_press_1 3 rfl rfl)
theorem dX0_press_27 : decode cX0_press 27 = .ok (.astore 5, 2) := dk_58 5 (dk_at dksX0_press_1 4 rfl rfl)
theorem dX0_press_29 : decode cX0_press 29 = .ok (.iconst 4, 1) := dk_7 (dk_at dksX0_press_1 6 rfl rfl)
theorem dX0_press_30 : decode cX0_press 30 = .ok (.ireturn, 1) := dk_172 (dk_at dksX0_press_1 7 rfl rfl)
theorem dX0_press_31 : decode cX0_press 31 = .ok (.iconst 0, 1) := dk_3 (dk_at dksX0_press_1 8 rfl rfl)
theorem dX0_press_32 : decode cX0_press 32 = .ok (.ireturn, 1) := dk_172 (dk_at dksX0_press_1 9 rfl rfl)
abbrev cX0_worn : ByteArray := method_12_code
def yX0_worn : MethodName := ⟨RX0, "worn", "(LGraphline;I[J)I"⟩
def dkwX0_worn_0 : List UInt8 := [44, 3, 42, 27, 182, 0, 52, 133, 80, 167, 0, 6, 78, 4, 172, 3, 172]
abbrev dktX0_worn_0 : List UInt8 := dkwX0_worn_0 ++ []
theorem dksX0_worn_0 : cX0_worn.data.toList.drop 0 = dktX0_worn_0 := by decide +kernel
theorem dX0_worn_0 : decode cX0_worn 0 = .ok (.aload_n 2, 1) := dk_44 (dk_at dksX0_worn_0 0 rfl rfl)
theorem dX0_worn_1 : decode cX0_worn 1 = .ok (.iconst 0, 1) := dk_3 (dk_at dksX0_worn_0 1 rfl rfl)
theorem dX0_worn_2 : decode cX0_worn 2 = .ok (.aload_n 0, 1) := dk_42 (dk_at dksX0_worn_0 2 rfl rfl)
theorem dX0_worn_3 : decode cX0_worn 3 = .ok (.iload_n 1, 1) := dk_27 (dk_at dksX0_worn_0 3 rfl rfl)
theorem dX0_worn_4 : decode cX0_worn 4 = .ok (.invokevirtual 52, 3) := dk_182 0 52 (dk_at dksX0_worn_0 4 rfl rfl)
theorem dX0_worn_7 : decode cX0_worn 7 = .ok (.i2l, 1) := dk_133 (dk_at dksX0_worn_0 7 rfl rfl)
theorem dX0_worn_8 : decode cX0_worn 8 = .ok (.lastore, 1) := dk_80 (dk_at dksX0_worn_0 8 rfl rfl)
theorem dX0_worn_9 : decode cX0_worn 9 = .ok (.goto 6, 3) := dk_167 0 6 (dk_at dksX0_worn_0 9 rfl rfl)
theorem dX0_worn_12 : decode cX0_worn 12 = .ok (.astore_n 3, 1) := dk_78 (dk_at dksX0_worn_0 12 rfl rfl)
theorem dX0_worn_13 : decode cX0_worn 13 = .ok (.iconst 1, 1) := dk_4 (dk_at dksX0_worn_0 13 rfl rfl)
theorem dX0_worn_14 : decode cX0_worn 14 = .ok (.ireturn, 1) := dk_172 (dk_at dksX0_worn_0 14 rfl rfl)
theorem dX0_worn_15 : decode cX0_worn 15 = .ok (.iconst 0, 1) := dk_3 (dk_at dksX0_worn_0 15 rfl rfl)
theorem dX0_worn_16 : decode cX0_worn 16 = .ok (.ireturn, 1) := dk_172 (dk_at dksX0_worn_0 16 rfl rfl)
abbrev cX0_renew : ByteArray := method_13_code
def yX0_renew : MethodName := ⟨RX0, "renew", "(LGraphline;I[J)I"⟩
def dkwX0_renew_0 : List UInt8 := [44, 3, 42, 27, 182, 0, 55, 133, 80, 167, 0, 6, 78, 4, 172, 3, 172]
abbrev dktX0_renew_0 : List UInt8 := dkwX0_renew_0 ++ []
theorem dksX0_renew_0 : cX0_renew.data.toList.drop 0 = dktX0_renew_0 := by decide +kernel
theorem dX0_renew_0 : decode cX0_renew 0 = .ok (.aload_n 2, 1) := dk_44 (dk_at dksX0_renew_0 0 rfl rfl)
theorem dX0_renew_1 : decode cX0_renew 1 = .ok (.iconst 0, 1) := dk_3 (dk_at dksX0_renew_0 1 rfl rfl)
theorem dX0_renew_2 : decode cX0_renew 2 = .ok (.aload_n 0, 1) := dk_42 (dk_at dksX0_renew_0 2 rfl rfl)
theorem dX0_renew_3 : decode cX0_renew 3 = .ok (.iload_n 1, 1) := dk_27 (dk_at dksX0_renew_0 3 rfl rfl)
theorem dX0_renew_4 : decode cX0_renew 4 = .ok (.invokevirtual 55, 3) := dk_182 0 55 (dk_at dksX0_renew_0 4 rfl rfl)
theorem dX0_renew_7 : decode cX0_renew 7 = .ok (.i2l, 1) := dk_133 (dk_at dksX0_renew_0 7 rfl rfl)
theorem dX0_renew_8 : decode cX0_renew 8 = .ok (.lastore, 1) := dk_80 (dk_at dksX0_renew_0 8 rfl rfl)
theorem dX0_renew_9 : decode cX0_renew 9 = .ok (.goto 6, 3) := dk_167 0 6 (dk_at dksX0_renew_0 9 rfl rfl)
theorem dX0_renew_12 : decode cX0_renew 12 = .ok (.astore_n 3, 1) := dk_78 (dk_at dksX0_renew_0 12 rfl rfl)
theorem dX0_renew_13 : decode cX0_renew 13 = .ok (.iconst 1, 1) := dk_4 (dk_at dksX0_renew_0 13 rfl rfl)
theorem dX0_renew_14 : decode cX0_renew 14 = .ok (.ireturn, 1) := dk_172 (dk_at dksX0_renew_0 14 rfl rfl)
theorem dX0_renew_15 : decode cX0_renew 15 = .ok (.iconst 0, 1) := dk_3 (dk_at dksX0_renew_0 15 rfl rfl)
theorem dX0_renew_16 : decode cX0_renew 16 = .ok (.ireturn, 1) := dk_172 (dk_at dksX0_renew_0 16 rfl rfl)
abbrev cX0_dry : ByteArray := method_14_code
def yX0_dry : MethodName := ⟨RX0, "dry", "(LGraphline;II[J)I"⟩
def dkwX0_dry_1 : List UInt8 := [172, 3, 172]
abbrev dktX0_dry_1 : List UInt8 := dkwX0_dry_1 ++ []
def dkwX0_dry_0 : List UInt8 := [45, 3, 42, 27, 28, 182, 0, 58, 133, 80, 167, 0, 15, 58, 4, 4, 172, 58, 4, 5, 172, 58, 4, 6]
abbrev dktX0_dry_0 : List UInt8 := dkwX0_dry_0 ++ dktX0_dry_1
theorem dksX0_dry_0 : cX0_dry.data.toList.drop 0 = dktX0_dry_0 := by decide +kernel
theorem dksX0_dry_1 : cX0_dry.data.toList.drop 24 = dktX0_dry_1 := dk_seg dksX0_dry_0 24 rfl rfl
theorem dX0_dry_0 : decode cX0_dry 0 = .ok (.aload_n 3, 1) := dk_45 (dk_at dksX0_dry_0 0 rfl rfl)
theorem dX0_dry_1 : decode cX0_dry 1 = .ok (.iconst 0, 1) := dk_3 (dk_at dksX0_dry_0 1 rfl rfl)
theorem dX0_dry_2 : decode cX0_dry 2 = .ok (.aload_n 0, 1) := dk_42 (dk_at dksX0_dry_0 2 rfl rfl)
theorem dX0_dry_3 : decode cX0_dry 3 = .ok (.iload_n 1, 1) := dk_27 (dk_at dksX0_dry_0 3 rfl rfl)
theorem dX0_dry_4 : decode cX0_dry 4 = .ok (.iload_n 2, 1) := dk_28 (dk_at dksX0_dry_0 4 rfl rfl)
theorem dX0_dry_5 : decode cX0_dry 5 = .ok (.invokevirtual 58, 3) := dk_182 0 58 (dk_at dksX0_dry_0 5 rfl rfl)
theorem dX0_dry_8 : decode cX0_dry 8 = .ok (.i2l, 1) := dk_133 (dk_at dksX0_dry_0 8 rfl rfl)
theorem dX0_dry_9 : decode cX0_dry 9 = .ok (.lastore, 1) := dk_80 (dk_at dksX0_dry_0 9 rfl rfl)
theorem dX0_dry_10 : decode cX0_dry 10 = .ok (.goto 15, 3) := dk_167 0 15 (dk_at dksX0_dry_0 10 rfl rfl)
theorem dX0_dry_13 : decode cX0_dry 13 = .ok (.astore 4, 2) := dk_58 4 (dk_at dksX0_dry_0 13 rfl rfl)
theorem dX0_dry_15 : decode cX0_dry 15 = .ok (.iconst 1, 1) := dk_4 (dk_at dksX0_dry_0 15 rfl rfl)
theorem dX0_dry_16 : decode cX0_dry 16 = .ok (.ireturn, 1) := dk_172 (dk_at dksX0_dry_0 16 rfl rfl)
theorem dX0_dry_17 : decode cX0_dry 17 = .ok (.astore 4, 2) := dk_58 4 (dk_at dksX0_dry_0 17 rfl rfl)
theorem dX0_dry_19 : decode cX0_dry 19 = .ok (.iconst 2, 1) := dk_5 (dk_at dksX0_dry_0 19 rfl rfl)
theorem dX0_dry_20 : decode cX0_dry 20 = .ok (.ireturn, 1) := dk_172 (dk_at dksX0_dry_0 20 rfl rfl)
theorem dX0_dry_21 : decode cX0_dry 21 = .ok (.astore 4, 2) := dk_58 4 (dk_at dksX0_dry_0 21 rfl rfl)
theorem dX0_dry_23 : decode cX0_dry 23 = .ok (.iconst 3, 1) := dk_6 (dk_at dksX0_dry_0 23 rfl rfl)
theorem dX0_dry_24 : decode cX0_dry 24 = .ok (.ireturn, 1) := dk_172 (dk_at dksX0_dry_1 0 rfl rfl)
theorem dX0_dry_25 : decode cX0_dry 25 = .ok (.iconst 0, 1) := dk_3 (dk_at dksX0_dry_1 1 rfl rfl)
theorem dX0_dry_26 : decode cX0_dry 26 = .ok (.ireturn, 1) := dk_172 (dk_at dksX0_dry_1 2 rfl rfl)
abbrev cX0_fire : ByteArray := method_15_code
def yX0_fire : MethodName := ⟨RX0, "fire", "(LGraphline;IIII[J)I"⟩
def dkwX0_fire_1 : List UInt8 := [172, 58, 6, 6, 172, 3, 172]
abbrev dktX0_fire_1 : List UInt8 := dkwX0_fire_1 ++ []
def dkwX0_fire_0 : List UInt8 := [25, 5, 3, 42, 27, 28, 29, 21, 4, 182, 0, 62, 133, 80, 167, 0, 15, 58, 6, 4, 172, 58, 6, 5]
abbrev dktX0_fire_0 : List UInt8 := dkwX0_fire_0 ++ dktX0_fire_1
theorem dksX0_fire_0 : cX0_fire.data.toList.drop 0 = dktX0_fire_0 := by decide +kernel
theorem dksX0_fire_1 : cX0_fire.data.toList.drop 24 = dktX0_fire_1 := dk_seg dksX0_fire_0 24 rfl rfl
theorem dX0_fire_0 : decode cX0_fire 0 = .ok (.aload 5, 2) := dk_25 5 (dk_at dksX0_fire_0 0 rfl rfl)
theorem dX0_fire_2 : decode cX0_fire 2 = .ok (.iconst 0, 1) := dk_3 (dk_at dksX0_fire_0 2 rfl rfl)
theorem dX0_fire_3 : decode cX0_fire 3 = .ok (.aload_n 0, 1) := dk_42 (dk_at dksX0_fire_0 3 rfl rfl)
theorem dX0_fire_4 : decode cX0_fire 4 = .ok (.iload_n 1, 1) := dk_27 (dk_at dksX0_fire_0 4 rfl rfl)
theorem dX0_fire_5 : decode cX0_fire 5 = .ok (.iload_n 2, 1) := dk_28 (dk_at dksX0_fire_0 5 rfl rfl)
theorem dX0_fire_6 : decode cX0_fire 6 = .ok (.iload_n 3, 1) := dk_29 (dk_at dksX0_fire_0 6 rfl rfl)
theorem dX0_fire_7 : decode cX0_fire 7 = .ok (.iload 4, 2) := dk_21 4 (dk_at dksX0_fire_0 7 rfl rfl)
theorem dX0_fire_9 : decode cX0_fire 9 = .ok (.invokevirtual 62, 3) := dk_182 0 62 (dk_at dksX0_fire_0 9 rfl rfl)
theorem dX0_fire_12 : decode cX0_fire 12 = .ok (.i2l, 1) := dk_133 (dk_at dksX0_fire_0 12 rfl rfl)
theorem dX0_fire_13 : decode cX0_fire 13 = .ok (.lastore, 1) := dk_80 (dk_at dksX0_fire_0 13 rfl rfl)
theorem dX0_fire_14 : decode cX0_fire 14 = .ok (.goto 15, 3) := dk_167 0 15 (dk_at dksX0_fire_0 14 rfl rfl)
theorem dX0_fire_17 : decode cX0_fire 17 = .ok (.astore 6, 2) := dk_58 6 (dk_at dksX0_fire_0 17 rfl rfl)
theorem dX0_fire_19 : decode cX0_fire 19 = .ok (.iconst 1, 1) := dk_4 (dk_at dksX0_fire_0 19 rfl rfl)
theorem dX0_fire_20 : decode cX0_fire 20 = .ok (.ireturn, 1) := dk_172 (dk_at dksX0_fire_0 20 rfl rfl)
theorem dX0_fire_21 : decode cX0_fire 21 = .ok (.astore 6, 2) := dk_58 6 (dk_at dksX0_fire_0 21 rfl rfl)
theorem dX0_fire_23 : decode cX0_fire 23 = .ok (.iconst 2, 1) := dk_5 (dk_at dksX0_fire_0 23 rfl rfl)
theorem dX0_fire_24 : decode cX0_fire 24 = .ok (.ireturn, 1) := dk_172 (dk_at dksX0_fire_1 0 rfl rfl)
theorem dX0_fire_25 : decode cX0_fire 25 = .ok (.astore 6, 2) := dk_58 6 (dk_at dksX0_fire_1 1 rfl rfl)
theorem dX0_fire_27 : decode cX0_fire 27 = .ok (.iconst 3, 1) := dk_6 (dk_at dksX0_fire_1 3 rfl rfl)
theorem dX0_fire_28 : decode cX0_fire 28 = .ok (.ireturn, 1) := dk_172 (dk_at dksX0_fire_1 4 rfl rfl)
theorem dX0_fire_29 : decode cX0_fire 29 = .ok (.iconst 0, 1) := dk_3 (dk_at dksX0_fire_1 5 rfl rfl)
theorem dX0_fire_30 : decode cX0_fire 30 = .ok (.ireturn, 1) := dk_172 (dk_at dksX0_fire_1 6 rfl rfl)
abbrev cX0_soak : ByteArray := method_16_code
def yX0_soak : MethodName := ⟨RX0, "soak", "(LGraphline;II[J)I"⟩
def dkwX0_soak_1 : List UInt8 := [172, 3, 172]
abbrev dktX0_soak_1 : List UInt8 := dkwX0_soak_1 ++ []
def dkwX0_soak_0 : List UInt8 := [45, 3, 42, 27, 28, 182, 0, 66, 133, 80, 167, 0, 15, 58, 4, 4, 172, 58, 4, 5, 172, 58, 4, 6]
abbrev dktX0_soak_0 : List UInt8 := dkwX0_soak_0 ++ dktX0_soak_1
theorem dksX0_soak_0 : cX0_soak.data.toList.drop 0 = dktX0_soak_0 := by decide +kernel
theorem dksX0_soak_1 : cX0_soak.data.toList.drop 24 = dktX0_soak_1 := dk_seg dksX0_soak_0 24 rfl rfl
theorem dX0_soak_0 : decode cX0_soak 0 = .ok (.aload_n 3, 1) := dk_45 (dk_at dksX0_soak_0 0 rfl rfl)
theorem dX0_soak_1 : decode cX0_soak 1 = .ok (.iconst 0, 1) := dk_3 (dk_at dksX0_soak_0 1 rfl rfl)
theorem dX0_soak_2 : decode cX0_soak 2 = .ok (.aload_n 0, 1) := dk_42 (dk_at dksX0_soak_0 2 rfl rfl)
theorem dX0_soak_3 : decode cX0_soak 3 = .ok (.iload_n 1, 1) := dk_27 (dk_at dksX0_soak_0 3 rfl rfl)
theorem dX0_soak_4 : decode cX0_soak 4 = .ok (.iload_n 2, 1) := dk_28 (dk_at dksX0_soak_0 4 rfl rfl)
theorem dX0_soak_5 : decode cX0_soak 5 = .ok (.invokevirtual 66, 3) := dk_182 0 66 (dk_at dksX0_soak_0 5 rfl rfl)
theorem dX0_soak_8 : decode cX0_soak 8 = .ok (.i2l, 1) := dk_133 (dk_at dksX0_soak_0 8 rfl rfl)
theorem dX0_soak_9 : decode cX0_soak 9 = .ok (.lastore, 1) := dk_80 (dk_at dksX0_soak_0 9 rfl rfl)
theorem dX0_soak_10 : decode cX0_soak 10 = .ok (.goto 15, 3) := dk_167 0 15 (dk_at dksX0_soak_0 10 rfl rfl)
theorem dX0_soak_13 : decode cX0_soak 13 = .ok (.astore 4, 2) := dk_58 4 (dk_at dksX0_soak_0 13 rfl rfl)
theorem dX0_soak_15 : decode cX0_soak 15 = .ok (.iconst 1, 1) := dk_4 (dk_at dksX0_soak_0 15 rfl rfl)
theorem dX0_soak_16 : decode cX0_soak 16 = .ok (.ireturn, 1) := dk_172 (dk_at dksX0_soak_0 16 rfl rfl)
theorem dX0_soak_17 : decode cX0_soak 17 = .ok (.astore 4, 2) := dk_58 4 (dk_at dksX0_soak_0 17 rfl rfl)
theorem dX0_soak_19 : decode cX0_soak 19 = .ok (.iconst 2, 1) := dk_5 (dk_at dksX0_soak_0 19 rfl rfl)
theorem dX0_soak_20 : decode cX0_soak 20 = .ok (.ireturn, 1) := dk_172 (dk_at dksX0_soak_0 20 rfl rfl)
theorem dX0_soak_21 : decode cX0_soak 21 = .ok (.astore 4, 2) := dk_58 4 (dk_at dksX0_soak_0 21 rfl rfl)
theorem dX0_soak_23 : decode cX0_soak 23 = .ok (.iconst 3, 1) := dk_6 (dk_at dksX0_soak_0 23 rfl rfl)
theorem dX0_soak_24 : decode cX0_soak 24 = .ok (.ireturn, 1) := dk_172 (dk_at dksX0_soak_1 0 rfl rfl)
theorem dX0_soak_25 : decode cX0_soak 25 = .ok (.iconst 0, 1) := dk_3 (dk_at dksX0_soak_1 1 rfl rfl)
theorem dX0_soak_26 : decode cX0_soak 26 = .ok (.ireturn, 1) := dk_172 (dk_at dksX0_soak_1 2 rfl rfl)
abbrev cX0_batch : ByteArray := method_17_code
def yX0_batch : MethodName := ⟨RX0, "batch", "(LGraphline;IC[J)I"⟩
def dkwX0_batch_0 : List UInt8 := [45, 3, 42, 27, 28, 182, 0, 69, 133, 80, 167, 0, 11, 58, 4, 4, 172, 58, 4, 5, 172, 3, 172]
abbrev dktX0_batch_0 : List UInt8 := dkwX0_batch_0 ++ []
theorem dksX0_batch_0 : cX0_batch.data.toList.drop 0 = dktX0_batch_0 := by decide +kernel
theorem dX0_batch_0 : decode cX0_batch 0 = .ok (.aload_n 3, 1) := dk_45 (dk_at dksX0_batch_0 0 rfl rfl)
theorem dX0_batch_1 : decode cX0_batch 1 = .ok (.iconst 0, 1) := dk_3 (dk_at dksX0_batch_0 1 rfl rfl)
theorem dX0_batch_2 : decode cX0_batch 2 = .ok (.aload_n 0, 1) := dk_42 (dk_at dksX0_batch_0 2 rfl rfl)
theorem dX0_batch_3 : decode cX0_batch 3 = .ok (.iload_n 1, 1) := dk_27 (dk_at dksX0_batch_0 3 rfl rfl)
theorem dX0_batch_4 : decode cX0_batch 4 = .ok (.iload_n 2, 1) := dk_28 (dk_at dksX0_batch_0 4 rfl rfl)
theorem dX0_batch_5 : decode cX0_batch 5 = .ok (.invokevirtual 69, 3) := dk_182 0 69 (dk_at dksX0_batch_0 5 rfl rfl)
theorem dX0_batch_8 : decode cX0_batch 8 = .ok (.i2l, 1) := dk_133 (dk_at dksX0_batch_0 8 rfl rfl)
theorem dX0_batch_9 : decode cX0_batch 9 = .ok (.lastore, 1) := dk_80 (dk_at dksX0_batch_0 9 rfl rfl)
theorem dX0_batch_10 : decode cX0_batch 10 = .ok (.goto 11, 3) := dk_167 0 11 (dk_at dksX0_batch_0 10 rfl rfl)
theorem dX0_batch_13 : decode cX0_batch 13 = .ok (.astore 4, 2) := dk_58 4 (dk_at dksX0_batch_0 13 rfl rfl)
theorem dX0_batch_15 : decode cX0_batch 15 = .ok (.iconst 1, 1) := dk_4 (dk_at dksX0_batch_0 15 rfl rfl)
theorem dX0_batch_16 : decode cX0_batch 16 = .ok (.ireturn, 1) := dk_172 (dk_at dksX0_batch_0 16 rfl rfl)
theorem dX0_batch_17 : decode cX0_batch 17 = .ok (.astore 4, 2) := dk_58 4 (dk_at dksX0_batch_0 17 rfl rfl)
theorem dX0_batch_19 : decode cX0_batch 19 = .ok (.iconst 2, 1) := dk_5 (dk_at dksX0_batch_0 19 rfl rfl)
theorem dX0_batch_20 : decode cX0_batch 20 = .ok (.ireturn, 1) := dk_172 (dk_at dksX0_batch_0 20 rfl rfl)
theorem dX0_batch_21 : decode cX0_batch 21 = .ok (.iconst 0, 1) := dk_3 (dk_at dksX0_batch_0 21 rfl rfl)
theorem dX0_batch_22 : decode cX0_batch 22 = .ok (.ireturn, 1) := dk_172 (dk_at dksX0_batch_0 22 rfl rfl)
abbrev cX0_draw : ByteArray := method_18_code
def yX0_draw : MethodName := ⟨RX0, "draw", "(LGraphline;I[J)I"⟩
def dkwX0_draw_0 : List UInt8 := [44, 3, 42, 27, 182, 0, 72, 133, 80, 167, 0, 9, 78, 4, 172, 78, 5, 172, 3, 172]
abbrev dktX0_draw_0 : List UInt8 := dkwX0_draw_0 ++ []
theorem dksX0_draw_0 : cX0_draw.data.toList.drop 0 = dktX0_draw_0 := by decide +kernel
theorem dX0_draw_0 : decode cX0_draw 0 = .ok (.aload_n 2, 1) := dk_44 (dk_at dksX0_draw_0 0 rfl rfl)
theorem dX0_draw_1 : decode cX0_draw 1 = .ok (.iconst 0, 1) := dk_3 (dk_at dksX0_draw_0 1 rfl rfl)
theorem dX0_draw_2 : decode cX0_draw 2 = .ok (.aload_n 0, 1) := dk_42 (dk_at dksX0_draw_0 2 rfl rfl)
theorem dX0_draw_3 : decode cX0_draw 3 = .ok (.iload_n 1, 1) := dk_27 (dk_at dksX0_draw_0 3 rfl rfl)
theorem dX0_draw_4 : decode cX0_draw 4 = .ok (.invokevirtual 72, 3) := dk_182 0 72 (dk_at dksX0_draw_0 4 rfl rfl)
theorem dX0_draw_7 : decode cX0_draw 7 = .ok (.i2l, 1) := dk_133 (dk_at dksX0_draw_0 7 rfl rfl)
theorem dX0_draw_8 : decode cX0_draw 8 = .ok (.lastore, 1) := dk_80 (dk_at dksX0_draw_0 8 rfl rfl)
theorem dX0_draw_9 : decode cX0_draw 9 = .ok (.goto 9, 3) := dk_167 0 9 (dk_at dksX0_draw_0 9 rfl rfl)
theorem dX0_draw_12 : decode cX0_draw 12 = .ok (.astore_n 3, 1) := dk_78 (dk_at dksX0_draw_0 12 rfl rfl)
theorem dX0_draw_13 : decode cX0_draw 13 = .ok (.iconst 1, 1) := dk_4 (dk_at dksX0_draw_0 13 rfl rfl)
theorem dX0_draw_14 : decode cX0_draw 14 = .ok (.ireturn, 1) := dk_172 (dk_at dksX0_draw_0 14 rfl rfl)
theorem dX0_draw_15 : decode cX0_draw 15 = .ok (.astore_n 3, 1) := dk_78 (dk_at dksX0_draw_0 15 rfl rfl)
theorem dX0_draw_16 : decode cX0_draw 16 = .ok (.iconst 2, 1) := dk_5 (dk_at dksX0_draw_0 16 rfl rfl)
theorem dX0_draw_17 : decode cX0_draw 17 = .ok (.ireturn, 1) := dk_172 (dk_at dksX0_draw_0 17 rfl rfl)
theorem dX0_draw_18 : decode cX0_draw 18 = .ok (.iconst 0, 1) := dk_3 (dk_at dksX0_draw_0 18 rfl rfl)
theorem dX0_draw_19 : decode cX0_draw 19 = .ok (.ireturn, 1) := dk_172 (dk_at dksX0_draw_0 19 rfl rfl)
abbrev cX0_slats : ByteArray := method_19_code
def yX0_slats : MethodName := ⟨RX0, "slats", "(LGraphline;CIII[J)I"⟩
def dkwX0_slats_1 : List UInt8 := [172, 3, 172]
abbrev dktX0_slats_1 : List UInt8 := dkwX0_slats_1 ++ []
def dkwX0_slats_0 : List UInt8 := [25, 5, 3, 42, 27, 28, 29, 21, 4, 182, 0, 75, 133, 80, 167, 0, 11, 58, 6, 4, 172, 58, 6, 5]
abbrev dktX0_slats_0 : List UInt8 := dkwX0_slats_0 ++ dktX0_slats_1
theorem dksX0_slats_0 : cX0_slats.data.toList.drop 0 = dktX0_slats_0 := by decide +kernel
theorem dksX0_slats_1 : cX0_slats.data.toList.drop 24 = dktX0_slats_1 := dk_seg dksX0_slats_0 24 rfl rfl
theorem dX0_slats_0 : decode cX0_slats 0 = .ok (.aload 5, 2) := dk_25 5 (dk_at dksX0_slats_0 0 rfl rfl)
theorem dX0_slats_2 : decode cX0_slats 2 = .ok (.iconst 0, 1) := dk_3 (dk_at dksX0_slats_0 2 rfl rfl)
theorem dX0_slats_3 : decode cX0_slats 3 = .ok (.aload_n 0, 1) := dk_42 (dk_at dksX0_slats_0 3 rfl rfl)
theorem dX0_slats_4 : decode cX0_slats 4 = .ok (.iload_n 1, 1) := dk_27 (dk_at dksX0_slats_0 4 rfl rfl)
theorem dX0_slats_5 : decode cX0_slats 5 = .ok (.iload_n 2, 1) := dk_28 (dk_at dksX0_slats_0 5 rfl rfl)
theorem dX0_slats_6 : decode cX0_slats 6 = .ok (.iload_n 3, 1) := dk_29 (dk_at dksX0_slats_0 6 rfl rfl)
theorem dX0_slats_7 : decode cX0_slats 7 = .ok (.iload 4, 2) := dk_21 4 (dk_at dksX0_slats_0 7 rfl rfl)
theorem dX0_slats_9 : decode cX0_slats 9 = .ok (.invokevirtual 75, 3) := dk_182 0 75 (dk_at dksX0_slats_0 9 rfl rfl)
theorem dX0_slats_12 : decode cX0_slats 12 = .ok (.i2l, 1) := dk_133 (dk_at dksX0_slats_0 12 rfl rfl)
theorem dX0_slats_13 : decode cX0_slats 13 = .ok (.lastore, 1) := dk_80 (dk_at dksX0_slats_0 13 rfl rfl)
theorem dX0_slats_14 : decode cX0_slats 14 = .ok (.goto 11, 3) := dk_167 0 11 (dk_at dksX0_slats_0 14 rfl rfl)
theorem dX0_slats_17 : decode cX0_slats 17 = .ok (.astore 6, 2) := dk_58 6 (dk_at dksX0_slats_0 17 rfl rfl)
theorem dX0_slats_19 : decode cX0_slats 19 = .ok (.iconst 1, 1) := dk_4 (dk_at dksX0_slats_0 19 rfl rfl)
theorem dX0_slats_20 : decode cX0_slats 20 = .ok (.ireturn, 1) := dk_172 (dk_at dksX0_slats_0 20 rfl rfl)
theorem dX0_slats_21 : decode cX0_slats 21 = .ok (.astore 6, 2) := dk_58 6 (dk_at dksX0_slats_0 21 rfl rfl)
theorem dX0_slats_23 : decode cX0_slats 23 = .ok (.iconst 2, 1) := dk_5 (dk_at dksX0_slats_0 23 rfl rfl)
theorem dX0_slats_24 : decode cX0_slats 24 = .ok (.ireturn, 1) := dk_172 (dk_at dksX0_slats_1 0 rfl rfl)
theorem dX0_slats_25 : decode cX0_slats 25 = .ok (.iconst 0, 1) := dk_3 (dk_at dksX0_slats_1 1 rfl rfl)
theorem dX0_slats_26 : decode cX0_slats 26 = .ok (.ireturn, 1) := dk_172 (dk_at dksX0_slats_1 2 rfl rfl)
abbrev cX0_season : ByteArray := method_20_code
def yX0_season : MethodName := ⟨RX0, "season", "(LGraphline;II[J)I"⟩
def dkwX0_season_1 : List UInt8 := [172, 3, 172]
abbrev dktX0_season_1 : List UInt8 := dkwX0_season_1 ++ []
def dkwX0_season_0 : List UInt8 := [45, 3, 42, 27, 28, 182, 0, 78, 133, 80, 167, 0, 15, 58, 4, 4, 172, 58, 4, 5, 172, 58, 4, 6]
abbrev dktX0_season_0 : List UInt8 := dkwX0_season_0 ++ dktX0_season_1
theorem dksX0_season_0 : cX0_season.data.toList.drop 0 = dktX0_season_0 := by decide +kernel
theorem dksX0_season_1 : cX0_season.data.toList.drop 24 = dktX0_season_1 := dk_seg dksX0_season_0 24 rfl rfl
theorem dX0_season_0 : decode cX0_season 0 = .ok (.aload_n 3, 1) := dk_45 (dk_at dksX0_season_0 0 rfl rfl)
theorem dX0_season_1 : decode cX0_season 1 = .ok (.iconst 0, 1) := dk_3 (dk_at dksX0_season_0 1 rfl rfl)
theorem dX0_season_2 : decode cX0_season 2 = .ok (.aload_n 0, 1) := dk_42 (dk_at dksX0_season_0 2 rfl rfl)
theorem dX0_season_3 : decode cX0_season 3 = .ok (.iload_n 1, 1) := dk_27 (dk_at dksX0_season_0 3 rfl rfl)
theorem dX0_season_4 : decode cX0_season 4 = .ok (.iload_n 2, 1) := dk_28 (dk_at dksX0_season_0 4 rfl rfl)
theorem dX0_season_5 : decode cX0_season 5 = .ok (.invokevirtual 78, 3) := dk_182 0 78 (dk_at dksX0_season_0 5 rfl rfl)
theorem dX0_season_8 : decode cX0_season 8 = .ok (.i2l, 1) := dk_133 (dk_at dksX0_season_0 8 rfl rfl)
theorem dX0_season_9 : decode cX0_season 9 = .ok (.lastore, 1) := dk_80 (dk_at dksX0_season_0 9 rfl rfl)
theorem dX0_season_10 : decode cX0_season 10 = .ok (.goto 15, 3) := dk_167 0 15 (dk_at dksX0_season_0 10 rfl rfl)
theorem dX0_season_13 : decode cX0_season 13 = .ok (.astore 4, 2) := dk_58 4 (dk_at dksX0_season_0 13 rfl rfl)
theorem dX0_season_15 : decode cX0_season 15 = .ok (.iconst 1, 1) := dk_4 (dk_at dksX0_season_0 15 rfl rfl)
theorem dX0_season_16 : decode cX0_season 16 = .ok (.ireturn, 1) := dk_172 (dk_at dksX0_season_0 16 rfl rfl)
theorem dX0_season_17 : decode cX0_season 17 = .ok (.astore 4, 2) := dk_58 4 (dk_at dksX0_season_0 17 rfl rfl)
theorem dX0_season_19 : decode cX0_season 19 = .ok (.iconst 2, 1) := dk_5 (dk_at dksX0_season_0 19 rfl rfl)
theorem dX0_season_20 : decode cX0_season 20 = .ok (.ireturn, 1) := dk_172 (dk_at dksX0_season_0 20 rfl rfl)
theorem dX0_season_21 : decode cX0_season 21 = .ok (.astore 4, 2) := dk_58 4 (dk_at dksX0_season_0 21 rfl rfl)
theorem dX0_season_23 : decode cX0_season 23 = .ok (.iconst 3, 1) := dk_6 (dk_at dksX0_season_0 23 rfl rfl)
theorem dX0_season_24 : decode cX0_season 24 = .ok (.ireturn, 1) := dk_172 (dk_at dksX0_season_1 0 rfl rfl)
theorem dX0_season_25 : decode cX0_season 25 = .ok (.iconst 0, 1) := dk_3 (dk_at dksX0_season_1 1 rfl rfl)
theorem dX0_season_26 : decode cX0_season 26 = .ok (.ireturn, 1) := dk_172 (dk_at dksX0_season_1 2 rfl rfl)
abbrev cX0_groove : ByteArray := method_21_code
def yX0_groove : MethodName := ⟨RX0, "groove", "(LGraphline;II[J)I"⟩
def dkwX0_groove_1 : List UInt8 := [172, 3, 172]
abbrev dktX0_groove_1 : List UInt8 := dkwX0_groove_1 ++ []
def dkwX0_groove_0 : List UInt8 := [45, 3, 42, 27, 28, 182, 0, 81, 133, 80, 167, 0, 15, 58, 4, 4, 172, 58, 4, 5, 172, 58, 4, 6]
abbrev dktX0_groove_0 : List UInt8 := dkwX0_groove_0 ++ dktX0_groove_1
theorem dksX0_groove_0 : cX0_groove.data.toList.drop 0 = dktX0_groove_0 := by decide +kernel
theorem dksX0_groove_1 : cX0_groove.data.toList.drop 24 = dktX0_groove_1 := dk_seg dksX0_groove_0 24 rfl rfl
theorem dX0_groove_0 : decode cX0_groove 0 = .ok (.aload_n 3, 1) := dk_45 (dk_at dksX0_groove_0 0 rfl rfl)
theorem dX0_groove_1 : decode cX0_groove 1 = .ok (.iconst 0, 1) := dk_3 (dk_at dksX0_groove_0 1 rfl rfl)
theorem dX0_groove_2 : decode cX0_groove 2 = .ok (.aload_n 0, 1) := dk_42 (dk_at dksX0_groove_0 2 rfl rfl)
theorem dX0_groove_3 : decode cX0_groove 3 = .ok (.iload_n 1, 1) := dk_27 (dk_at dksX0_groove_0 3 rfl rfl)
theorem dX0_groove_4 : decode cX0_groove 4 = .ok (.iload_n 2, 1) := dk_28 (dk_at dksX0_groove_0 4 rfl rfl)
theorem dX0_groove_5 : decode cX0_groove 5 = .ok (.invokevirtual 81, 3) := dk_182 0 81 (dk_at dksX0_groove_0 5 rfl rfl)
theorem dX0_groove_8 : decode cX0_groove 8 = .ok (.i2l, 1) := dk_133 (dk_at dksX0_groove_0 8 rfl rfl)
theorem dX0_groove_9 : decode cX0_groove 9 = .ok (.lastore, 1) := dk_80 (dk_at dksX0_groove_0 9 rfl rfl)
theorem dX0_groove_10 : decode cX0_groove 10 = .ok (.goto 15, 3) := dk_167 0 15 (dk_at dksX0_groove_0 10 rfl rfl)
theorem dX0_groove_13 : decode cX0_groove 13 = .ok (.astore 4, 2) := dk_58 4 (dk_at dksX0_groove_0 13 rfl rfl)
theorem dX0_groove_15 : decode cX0_groove 15 = .ok (.iconst 1, 1) := dk_4 (dk_at dksX0_groove_0 15 rfl rfl)
theorem dX0_groove_16 : decode cX0_groove 16 = .ok (.ireturn, 1) := dk_172 (dk_at dksX0_groove_0 16 rfl rfl)
theorem dX0_groove_17 : decode cX0_groove 17 = .ok (.astore 4, 2) := dk_58 4 (dk_at dksX0_groove_0 17 rfl rfl)
theorem dX0_groove_19 : decode cX0_groove 19 = .ok (.iconst 2, 1) := dk_5 (dk_at dksX0_groove_0 19 rfl rfl)
theorem dX0_groove_20 : decode cX0_groove 20 = .ok (.ireturn, 1) := dk_172 (dk_at dksX0_groove_0 20 rfl rfl)
theorem dX0_groove_21 : decode cX0_groove 21 = .ok (.astore 4, 2) := dk_58 4 (dk_at dksX0_groove_0 21 rfl rfl)
theorem dX0_groove_23 : decode cX0_groove 23 = .ok (.iconst 3, 1) := dk_6 (dk_at dksX0_groove_0 23 rfl rfl)
theorem dX0_groove_24 : decode cX0_groove 24 = .ok (.ireturn, 1) := dk_172 (dk_at dksX0_groove_1 0 rfl rfl)
theorem dX0_groove_25 : decode cX0_groove 25 = .ok (.iconst 0, 1) := dk_3 (dk_at dksX0_groove_1 1 rfl rfl)
theorem dX0_groove_26 : decode cX0_groove 26 = .ok (.ireturn, 1) := dk_172 (dk_at dksX0_groove_1 2 rfl rfl)
abbrev cX0_slat : ByteArray := method_22_code
def yX0_slat : MethodName := ⟨RX0, "slat", "(LGraphline;IC[J)I"⟩
def dkwX0_slat_0 : List UInt8 := [45, 3, 42, 27, 28, 182, 0, 84, 133, 80, 167, 0, 11, 58, 4, 4, 172, 58, 4, 5, 172, 3, 172]
abbrev dktX0_slat_0 : List UInt8 := dkwX0_slat_0 ++ []
theorem dksX0_slat_0 : cX0_slat.data.toList.drop 0 = dktX0_slat_0 := by decide +kernel
theorem dX0_slat_0 : decode cX0_slat 0 = .ok (.aload_n 3, 1) := dk_45 (dk_at dksX0_slat_0 0 rfl rfl)
theorem dX0_slat_1 : decode cX0_slat 1 = .ok (.iconst 0, 1) := dk_3 (dk_at dksX0_slat_0 1 rfl rfl)
theorem dX0_slat_2 : decode cX0_slat 2 = .ok (.aload_n 0, 1) := dk_42 (dk_at dksX0_slat_0 2 rfl rfl)
theorem dX0_slat_3 : decode cX0_slat 3 = .ok (.iload_n 1, 1) := dk_27 (dk_at dksX0_slat_0 3 rfl rfl)
theorem dX0_slat_4 : decode cX0_slat 4 = .ok (.iload_n 2, 1) := dk_28 (dk_at dksX0_slat_0 4 rfl rfl)
theorem dX0_slat_5 : decode cX0_slat 5 = .ok (.invokevirtual 84, 3) := dk_182 0 84 (dk_at dksX0_slat_0 5 rfl rfl)
theorem dX0_slat_8 : decode cX0_slat 8 = .ok (.i2l, 1) := dk_133 (dk_at dksX0_slat_0 8 rfl rfl)
theorem dX0_slat_9 : decode cX0_slat 9 = .ok (.lastore, 1) := dk_80 (dk_at dksX0_slat_0 9 rfl rfl)
theorem dX0_slat_10 : decode cX0_slat 10 = .ok (.goto 11, 3) := dk_167 0 11 (dk_at dksX0_slat_0 10 rfl rfl)
theorem dX0_slat_13 : decode cX0_slat 13 = .ok (.astore 4, 2) := dk_58 4 (dk_at dksX0_slat_0 13 rfl rfl)
theorem dX0_slat_15 : decode cX0_slat 15 = .ok (.iconst 1, 1) := dk_4 (dk_at dksX0_slat_0 15 rfl rfl)
theorem dX0_slat_16 : decode cX0_slat 16 = .ok (.ireturn, 1) := dk_172 (dk_at dksX0_slat_0 16 rfl rfl)
theorem dX0_slat_17 : decode cX0_slat 17 = .ok (.astore 4, 2) := dk_58 4 (dk_at dksX0_slat_0 17 rfl rfl)
theorem dX0_slat_19 : decode cX0_slat 19 = .ok (.iconst 2, 1) := dk_5 (dk_at dksX0_slat_0 19 rfl rfl)
theorem dX0_slat_20 : decode cX0_slat 20 = .ok (.ireturn, 1) := dk_172 (dk_at dksX0_slat_0 20 rfl rfl)
theorem dX0_slat_21 : decode cX0_slat 21 = .ok (.iconst 0, 1) := dk_3 (dk_at dksX0_slat_0 21 rfl rfl)
theorem dX0_slat_22 : decode cX0_slat 22 = .ok (.ireturn, 1) := dk_172 (dk_at dksX0_slat_0 22 rfl rfl)
abbrev cX0_lay : ByteArray := method_23_code
def yX0_lay : MethodName := ⟨RX0, "lay", "(LGraphline;IICII[J)I"⟩
def dkwX0_lay_1 : List UInt8 := [58, 7, 5, 172, 58, 7, 6, 172, 58, 7, 7, 172, 3, 172]
abbrev dktX0_lay_1 : List UInt8 := dkwX0_lay_1 ++ []
def dkwX0_lay_0 : List UInt8 := [25, 6, 3, 42, 27, 28, 29, 21, 4, 21, 5, 182, 0, 87, 133, 80, 167, 0, 19, 58, 7, 4, 172]
abbrev dktX0_lay_0 : List UInt8 := dkwX0_lay_0 ++ dktX0_lay_1
theorem dksX0_lay_0 : cX0_lay.data.toList.drop 0 = dktX0_lay_0 := by decide +kernel
theorem dksX0_lay_1 : cX0_lay.data.toList.drop 23 = dktX0_lay_1 := dk_seg dksX0_lay_0 23 rfl rfl
theorem dX0_lay_0 : decode cX0_lay 0 = .ok (.aload 6, 2) := dk_25 6 (dk_at dksX0_lay_0 0 rfl rfl)
theorem dX0_lay_2 : decode cX0_lay 2 = .ok (.iconst 0, 1) := dk_3 (dk_at dksX0_lay_0 2 rfl rfl)
theorem dX0_lay_3 : decode cX0_lay 3 = .ok (.aload_n 0, 1) := dk_42 (dk_at dksX0_lay_0 3 rfl rfl)
theorem dX0_lay_4 : decode cX0_lay 4 = .ok (.iload_n 1, 1) := dk_27 (dk_at dksX0_lay_0 4 rfl rfl)
theorem dX0_lay_5 : decode cX0_lay 5 = .ok (.iload_n 2, 1) := dk_28 (dk_at dksX0_lay_0 5 rfl rfl)
theorem dX0_lay_6 : decode cX0_lay 6 = .ok (.iload_n 3, 1) := dk_29 (dk_at dksX0_lay_0 6 rfl rfl)
theorem dX0_lay_7 : decode cX0_lay 7 = .ok (.iload 4, 2) := dk_21 4 (dk_at dksX0_lay_0 7 rfl rfl)
theorem dX0_lay_9 : decode cX0_lay 9 = .ok (.iload 5, 2) := dk_21 5 (dk_at dksX0_lay_0 9 rfl rfl)
theorem dX0_lay_11 : decode cX0_lay 11 = .ok (.invokevirtual 87, 3) := dk_182 0 87 (dk_at dksX0_lay_0 11 rfl rfl)
theorem dX0_lay_14 : decode cX0_lay 14 = .ok (.i2l, 1) := dk_133 (dk_at dksX0_lay_0 14 rfl rfl)
theorem dX0_lay_15 : decode cX0_lay 15 = .ok (.lastore, 1) := dk_80 (dk_at dksX0_lay_0 15 rfl rfl)
theorem dX0_lay_16 : decode cX0_lay 16 = .ok (.goto 19, 3) := dk_167 0 19 (dk_at dksX0_lay_0 16 rfl rfl)
theorem dX0_lay_19 : decode cX0_lay 19 = .ok (.astore 7, 2) := dk_58 7 (dk_at dksX0_lay_0 19 rfl rfl)
theorem dX0_lay_21 : decode cX0_lay 21 = .ok (.iconst 1, 1) := dk_4 (dk_at dksX0_lay_0 21 rfl rfl)
theorem dX0_lay_22 : decode cX0_lay 22 = .ok (.ireturn, 1) := dk_172 (dk_at dksX0_lay_0 22 rfl rfl)
theorem dX0_lay_23 : decode cX0_lay 23 = .ok (.astore 7, 2) := dk_58 7 (dk_at dksX0_lay_1 0 rfl rfl)
theorem dX0_lay_25 : decode cX0_lay 25 = .ok (.iconst 2, 1) := dk_5 (dk_at dksX0_lay_1 2 rfl rfl)
theorem dX0_lay_26 : decode cX0_lay 26 = .ok (.ireturn, 1) := dk_172 (dk_at dksX0_lay_1 3 rfl rfl)
theorem dX0_lay_27 : decode cX0_lay 27 = .ok (.astore 7, 2) := dk_58 7 (dk_at dksX0_lay_1 4 rfl rfl)
theorem dX0_lay_29 : decode cX0_lay 29 = .ok (.iconst 3, 1) := dk_6 (dk_at dksX0_lay_1 6 rfl rfl)
theorem dX0_lay_30 : decode cX0_lay 30 = .ok (.ireturn, 1) := dk_172 (dk_at dksX0_lay_1 7 rfl rfl)
theorem dX0_lay_31 : decode cX0_lay 31 = .ok (.astore 7, 2) := dk_58 7 (dk_at dksX0_lay_1 8 rfl rfl)
theorem dX0_lay_33 : decode cX0_lay 33 = .ok (.iconst 4, 1) := dk_7 (dk_at dksX0_lay_1 10 rfl rfl)
theorem dX0_lay_34 : decode cX0_lay 34 = .ok (.ireturn, 1) := dk_172 (dk_at dksX0_lay_1 11 rfl rfl)
theorem dX0_lay_35 : decode cX0_lay 35 = .ok (.iconst 0, 1) := dk_3 (dk_at dksX0_lay_1 12 rfl rfl)
theorem dX0_lay_36 : decode cX0_lay 36 = .ok (.ireturn, 1) := dk_172 (dk_at dksX0_lay_1 13 rfl rfl)
abbrev cX0_coat : ByteArray := method_24_code
def yX0_coat : MethodName := ⟨RX0, "coat", "(LGraphline;II[J)I"⟩
def dkwX0_coat_1 : List UInt8 := [172, 3, 172]
abbrev dktX0_coat_1 : List UInt8 := dkwX0_coat_1 ++ []
def dkwX0_coat_0 : List UInt8 := [45, 3, 42, 27, 28, 182, 0, 91, 133, 80, 167, 0, 15, 58, 4, 4, 172, 58, 4, 5, 172, 58, 4, 6]
abbrev dktX0_coat_0 : List UInt8 := dkwX0_coat_0 ++ dktX0_coat_1
theorem dksX0_coat_0 : cX0_coat.data.toList.drop 0 = dktX0_coat_0 := by decide +kernel
theorem dksX0_coat_1 : cX0_coat.data.toList.drop 24 = dktX0_coat_1 := dk_seg dksX0_coat_0 24 rfl rfl
theorem dX0_coat_0 : decode cX0_coat 0 = .ok (.aload_n 3, 1) := dk_45 (dk_at dksX0_coat_0 0 rfl rfl)
theorem dX0_coat_1 : decode cX0_coat 1 = .ok (.iconst 0, 1) := dk_3 (dk_at dksX0_coat_0 1 rfl rfl)
theorem dX0_coat_2 : decode cX0_coat 2 = .ok (.aload_n 0, 1) := dk_42 (dk_at dksX0_coat_0 2 rfl rfl)
theorem dX0_coat_3 : decode cX0_coat 3 = .ok (.iload_n 1, 1) := dk_27 (dk_at dksX0_coat_0 3 rfl rfl)
theorem dX0_coat_4 : decode cX0_coat 4 = .ok (.iload_n 2, 1) := dk_28 (dk_at dksX0_coat_0 4 rfl rfl)
theorem dX0_coat_5 : decode cX0_coat 5 = .ok (.invokevirtual 91, 3) := dk_182 0 91 (dk_at dksX0_coat_0 5 rfl rfl)
theorem dX0_coat_8 : decode cX0_coat 8 = .ok (.i2l, 1) := dk_133 (dk_at dksX0_coat_0 8 rfl rfl)
theorem dX0_coat_9 : decode cX0_coat 9 = .ok (.lastore, 1) := dk_80 (dk_at dksX0_coat_0 9 rfl rfl)
theorem dX0_coat_10 : decode cX0_coat 10 = .ok (.goto 15, 3) := dk_167 0 15 (dk_at dksX0_coat_0 10 rfl rfl)
theorem dX0_coat_13 : decode cX0_coat 13 = .ok (.astore 4, 2) := dk_58 4 (dk_at dksX0_coat_0 13 rfl rfl)
theorem dX0_coat_15 : decode cX0_coat 15 = .ok (.iconst 1, 1) := dk_4 (dk_at dksX0_coat_0 15 rfl rfl)
theorem dX0_coat_16 : decode cX0_coat 16 = .ok (.ireturn, 1) := dk_172 (dk_at dksX0_coat_0 16 rfl rfl)
theorem dX0_coat_17 : decode cX0_coat 17 = .ok (.astore 4, 2) := dk_58 4 (dk_at dksX0_coat_0 17 rfl rfl)
theorem dX0_coat_19 : decode cX0_coat 19 = .ok (.iconst 2, 1) := dk_5 (dk_at dksX0_coat_0 19 rfl rfl)
theorem dX0_coat_20 : decode cX0_coat 20 = .ok (.ireturn, 1) := dk_172 (dk_at dksX0_coat_0 20 rfl rfl)
theorem dX0_coat_21 : decode cX0_coat 21 = .ok (.astore 4, 2) := dk_58 4 (dk_at dksX0_coat_0 21 rfl rfl)
theorem dX0_coat_23 : decode cX0_coat 23 = .ok (.iconst 3, 1) := dk_6 (dk_at dksX0_coat_0 23 rfl rfl)
theorem dX0_coat_24 : decode cX0_coat 24 = .ok (.ireturn, 1) := dk_172 (dk_at dksX0_coat_1 0 rfl rfl)
theorem dX0_coat_25 : decode cX0_coat 25 = .ok (.iconst 0, 1) := dk_3 (dk_at dksX0_coat_1 1 rfl rfl)
theorem dX0_coat_26 : decode cX0_coat 26 = .ok (.ireturn, 1) := dk_172 (dk_at dksX0_coat_1 2 rfl rfl)
abbrev cX0_stamp : ByteArray := method_25_code
def yX0_stamp : MethodName := ⟨RX0, "stamp", "(LGraphline;I[J)I"⟩
def dkwX0_stamp_0 : List UInt8 := [44, 3, 42, 27, 182, 0, 94, 133, 80, 167, 0, 9, 78, 4, 172, 78, 5, 172, 3, 172]
abbrev dktX0_stamp_0 : List UInt8 := dkwX0_stamp_0 ++ []
theorem dksX0_stamp_0 : cX0_stamp.data.toList.drop 0 = dktX0_stamp_0 := by decide +kernel
theorem dX0_stamp_0 : decode cX0_stamp 0 = .ok (.aload_n 2, 1) := dk_44 (dk_at dksX0_stamp_0 0 rfl rfl)
theorem dX0_stamp_1 : decode cX0_stamp 1 = .ok (.iconst 0, 1) := dk_3 (dk_at dksX0_stamp_0 1 rfl rfl)
theorem dX0_stamp_2 : decode cX0_stamp 2 = .ok (.aload_n 0, 1) := dk_42 (dk_at dksX0_stamp_0 2 rfl rfl)
theorem dX0_stamp_3 : decode cX0_stamp 3 = .ok (.iload_n 1, 1) := dk_27 (dk_at dksX0_stamp_0 3 rfl rfl)
theorem dX0_stamp_4 : decode cX0_stamp 4 = .ok (.invokevirtual 94, 3) := dk_182 0 94 (dk_at dksX0_stamp_0 4 rfl rfl)
theorem dX0_stamp_7 : decode cX0_stamp 7 = .ok (.i2l, 1) := dk_133 (dk_at dksX0_stamp_0 7 rfl rfl)
theorem dX0_stamp_8 : decode cX0_stamp 8 = .ok (.lastore, 1) := dk_80 (dk_at dksX0_stamp_0 8 rfl rfl)
theorem dX0_stamp_9 : decode cX0_stamp 9 = .ok (.goto 9, 3) := dk_167 0 9 (dk_at dksX0_stamp_0 9 rfl rfl)
theorem dX0_stamp_12 : decode cX0_stamp 12 = .ok (.astore_n 3, 1) := dk_78 (dk_at dksX0_stamp_0 12 rfl rfl)
theorem dX0_stamp_13 : decode cX0_stamp 13 = .ok (.iconst 1, 1) := dk_4 (dk_at dksX0_stamp_0 13 rfl rfl)
theorem dX0_stamp_14 : decode cX0_stamp 14 = .ok (.ireturn, 1) := dk_172 (dk_at dksX0_stamp_0 14 rfl rfl)
theorem dX0_stamp_15 : decode cX0_stamp 15 = .ok (.astore_n 3, 1) := dk_78 (dk_at dksX0_stamp_0 15 rfl rfl)
theorem dX0_stamp_16 : decode cX0_stamp 16 = .ok (.iconst 2, 1) := dk_5 (dk_at dksX0_stamp_0 16 rfl rfl)
theorem dX0_stamp_17 : decode cX0_stamp 17 = .ok (.ireturn, 1) := dk_172 (dk_at dksX0_stamp_0 17 rfl rfl)
theorem dX0_stamp_18 : decode cX0_stamp 18 = .ok (.iconst 0, 1) := dk_3 (dk_at dksX0_stamp_0 18 rfl rfl)
theorem dX0_stamp_19 : decode cX0_stamp 19 = .ok (.ireturn, 1) := dk_172 (dk_at dksX0_stamp_0 19 rfl rfl)
abbrev cX0_erase : ByteArray := method_26_code
def yX0_erase : MethodName := ⟨RX0, "erase", "(LGraphline;II[J)I"⟩
def dkwX0_erase_1 : List UInt8 := [172, 3, 172]
abbrev dktX0_erase_1 : List UInt8 := dkwX0_erase_1 ++ []
def dkwX0_erase_0 : List UInt8 := [45, 3, 42, 27, 28, 182, 0, 97, 133, 80, 167, 0, 15, 58, 4, 4, 172, 58, 4, 5, 172, 58, 4, 6]
abbrev dktX0_erase_0 : List UInt8 := dkwX0_erase_0 ++ dktX0_erase_1
theorem dksX0_erase_0 : cX0_erase.data.toList.drop 0 = dktX0_erase_0 := by decide +kernel
theorem dksX0_erase_1 : cX0_erase.data.toList.drop 24 = dktX0_erase_1 := dk_seg dksX0_erase_0 24 rfl rfl
theorem dX0_erase_0 : decode cX0_erase 0 = .ok (.aload_n 3, 1) := dk_45 (dk_at dksX0_erase_0 0 rfl rfl)
theorem dX0_erase_1 : decode cX0_erase 1 = .ok (.iconst 0, 1) := dk_3 (dk_at dksX0_erase_0 1 rfl rfl)
theorem dX0_erase_2 : decode cX0_erase 2 = .ok (.aload_n 0, 1) := dk_42 (dk_at dksX0_erase_0 2 rfl rfl)
theorem dX0_erase_3 : decode cX0_erase 3 = .ok (.iload_n 1, 1) := dk_27 (dk_at dksX0_erase_0 3 rfl rfl)
theorem dX0_erase_4 : decode cX0_erase 4 = .ok (.iload_n 2, 1) := dk_28 (dk_at dksX0_erase_0 4 rfl rfl)
theorem dX0_erase_5 : decode cX0_erase 5 = .ok (.invokevirtual 97, 3) := dk_182 0 97 (dk_at dksX0_erase_0 5 rfl rfl)
theorem dX0_erase_8 : decode cX0_erase 8 = .ok (.i2l, 1) := dk_133 (dk_at dksX0_erase_0 8 rfl rfl)
theorem dX0_erase_9 : decode cX0_erase 9 = .ok (.lastore, 1) := dk_80 (dk_at dksX0_erase_0 9 rfl rfl)
theorem dX0_erase_10 : decode cX0_erase 10 = .ok (.goto 15, 3) := dk_167 0 15 (dk_at dksX0_erase_0 10 rfl rfl)
theorem dX0_erase_13 : decode cX0_erase 13 = .ok (.astore 4, 2) := dk_58 4 (dk_at dksX0_erase_0 13 rfl rfl)
theorem dX0_erase_15 : decode cX0_erase 15 = .ok (.iconst 1, 1) := dk_4 (dk_at dksX0_erase_0 15 rfl rfl)
theorem dX0_erase_16 : decode cX0_erase 16 = .ok (.ireturn, 1) := dk_172 (dk_at dksX0_erase_0 16 rfl rfl)
theorem dX0_erase_17 : decode cX0_erase 17 = .ok (.astore 4, 2) := dk_58 4 (dk_at dksX0_erase_0 17 rfl rfl)
theorem dX0_erase_19 : decode cX0_erase 19 = .ok (.iconst 2, 1) := dk_5 (dk_at dksX0_erase_0 19 rfl rfl)
theorem dX0_erase_20 : decode cX0_erase 20 = .ok (.ireturn, 1) := dk_172 (dk_at dksX0_erase_0 20 rfl rfl)
theorem dX0_erase_21 : decode cX0_erase 21 = .ok (.astore 4, 2) := dk_58 4 (dk_at dksX0_erase_0 21 rfl rfl)
theorem dX0_erase_23 : decode cX0_erase 23 = .ok (.iconst 3, 1) := dk_6 (dk_at dksX0_erase_0 23 rfl rfl)
theorem dX0_erase_24 : decode cX0_erase 24 = .ok (.ireturn, 1) := dk_172 (dk_at dksX0_erase_1 0 rfl rfl)
theorem dX0_erase_25 : decode cX0_erase 25 = .ok (.iconst 0, 1) := dk_3 (dk_at dksX0_erase_1 1 rfl rfl)
theorem dX0_erase_26 : decode cX0_erase 26 = .ok (.ireturn, 1) := dk_172 (dk_at dksX0_erase_1 2 rfl rfl)
abbrev cX0_run : ByteArray := method_27_code
def yX0_run : MethodName := ⟨RX0, "run", "(LGraphline;IC[J)I"⟩
def dkwX0_run_0 : List UInt8 := [45, 3, 42, 27, 28, 182, 0, 100, 133, 80, 167, 0, 11, 58, 4, 4, 172, 58, 4, 5, 172, 3, 172]
abbrev dktX0_run_0 : List UInt8 := dkwX0_run_0 ++ []
theorem dksX0_run_0 : cX0_run.data.toList.drop 0 = dktX0_run_0 := by decide +kernel
theorem dX0_run_0 : decode cX0_run 0 = .ok (.aload_n 3, 1) := dk_45 (dk_at dksX0_run_0 0 rfl rfl)
theorem dX0_run_1 : decode cX0_run 1 = .ok (.iconst 0, 1) := dk_3 (dk_at dksX0_run_0 1 rfl rfl)
theorem dX0_run_2 : decode cX0_run 2 = .ok (.aload_n 0, 1) := dk_42 (dk_at dksX0_run_0 2 rfl rfl)
theorem dX0_run_3 : decode cX0_run 3 = .ok (.iload_n 1, 1) := dk_27 (dk_at dksX0_run_0 3 rfl rfl)
theorem dX0_run_4 : decode cX0_run 4 = .ok (.iload_n 2, 1) := dk_28 (dk_at dksX0_run_0 4 rfl rfl)
theorem dX0_run_5 : decode cX0_run 5 = .ok (.invokevirtual 100, 3) := dk_182 0 100 (dk_at dksX0_run_0 5 rfl rfl)
theorem dX0_run_8 : decode cX0_run 8 = .ok (.i2l, 1) := dk_133 (dk_at dksX0_run_0 8 rfl rfl)
theorem dX0_run_9 : decode cX0_run 9 = .ok (.lastore, 1) := dk_80 (dk_at dksX0_run_0 9 rfl rfl)
theorem dX0_run_10 : decode cX0_run 10 = .ok (.goto 11, 3) := dk_167 0 11 (dk_at dksX0_run_0 10 rfl rfl)
theorem dX0_run_13 : decode cX0_run 13 = .ok (.astore 4, 2) := dk_58 4 (dk_at dksX0_run_0 13 rfl rfl)
theorem dX0_run_15 : decode cX0_run 15 = .ok (.iconst 1, 1) := dk_4 (dk_at dksX0_run_0 15 rfl rfl)
theorem dX0_run_16 : decode cX0_run 16 = .ok (.ireturn, 1) := dk_172 (dk_at dksX0_run_0 16 rfl rfl)
theorem dX0_run_17 : decode cX0_run 17 = .ok (.astore 4, 2) := dk_58 4 (dk_at dksX0_run_0 17 rfl rfl)
theorem dX0_run_19 : decode cX0_run 19 = .ok (.iconst 2, 1) := dk_5 (dk_at dksX0_run_0 19 rfl rfl)
theorem dX0_run_20 : decode cX0_run 20 = .ok (.ireturn, 1) := dk_172 (dk_at dksX0_run_0 20 rfl rfl)
theorem dX0_run_21 : decode cX0_run 21 = .ok (.iconst 0, 1) := dk_3 (dk_at dksX0_run_0 21 rfl rfl)
theorem dX0_run_22 : decode cX0_run 22 = .ok (.ireturn, 1) := dk_172 (dk_at dksX0_run_0 22 rfl rfl)
abbrev cX0_fall : ByteArray := method_28_code
def yX0_fall : MethodName := ⟨RX0, "fall", "(LGraphline;II[J)I"⟩
def dkwX0_fall_0 : List UInt8 := [45, 3, 42, 27, 28, 182, 0, 103, 133, 80, 167, 0, 11, 58, 4, 4, 172, 58, 4, 5, 172, 3, 172]
abbrev dktX0_fall_0 : List UInt8 := dkwX0_fall_0 ++ []
theorem dksX0_fall_0 : cX0_fall.data.toList.drop 0 = dktX0_fall_0 := by decide +kernel
theorem dX0_fall_0 : decode cX0_fall 0 = .ok (.aload_n 3, 1) := dk_45 (dk_at dksX0_fall_0 0 rfl rfl)
theorem dX0_fall_1 : decode cX0_fall 1 = .ok (.iconst 0, 1) := dk_3 (dk_at dksX0_fall_0 1 rfl rfl)
theorem dX0_fall_2 : decode cX0_fall 2 = .ok (.aload_n 0, 1) := dk_42 (dk_at dksX0_fall_0 2 rfl rfl)
theorem dX0_fall_3 : decode cX0_fall 3 = .ok (.iload_n 1, 1) := dk_27 (dk_at dksX0_fall_0 3 rfl rfl)
theorem dX0_fall_4 : decode cX0_fall 4 = .ok (.iload_n 2, 1) := dk_28 (dk_at dksX0_fall_0 4 rfl rfl)
theorem dX0_fall_5 : decode cX0_fall 5 = .ok (.invokevirtual 103, 3) := dk_182 0 103 (dk_at dksX0_fall_0 5 rfl rfl)
theorem dX0_fall_8 : decode cX0_fall 8 = .ok (.i2l, 1) := dk_133 (dk_at dksX0_fall_0 8 rfl rfl)
theorem dX0_fall_9 : decode cX0_fall 9 = .ok (.lastore, 1) := dk_80 (dk_at dksX0_fall_0 9 rfl rfl)
theorem dX0_fall_10 : decode cX0_fall 10 = .ok (.goto 11, 3) := dk_167 0 11 (dk_at dksX0_fall_0 10 rfl rfl)
theorem dX0_fall_13 : decode cX0_fall 13 = .ok (.astore 4, 2) := dk_58 4 (dk_at dksX0_fall_0 13 rfl rfl)
theorem dX0_fall_15 : decode cX0_fall 15 = .ok (.iconst 1, 1) := dk_4 (dk_at dksX0_fall_0 15 rfl rfl)
theorem dX0_fall_16 : decode cX0_fall 16 = .ok (.ireturn, 1) := dk_172 (dk_at dksX0_fall_0 16 rfl rfl)
theorem dX0_fall_17 : decode cX0_fall 17 = .ok (.astore 4, 2) := dk_58 4 (dk_at dksX0_fall_0 17 rfl rfl)
theorem dX0_fall_19 : decode cX0_fall 19 = .ok (.iconst 2, 1) := dk_5 (dk_at dksX0_fall_0 19 rfl rfl)
theorem dX0_fall_20 : decode cX0_fall 20 = .ok (.ireturn, 1) := dk_172 (dk_at dksX0_fall_0 20 rfl rfl)
theorem dX0_fall_21 : decode cX0_fall 21 = .ok (.iconst 0, 1) := dk_3 (dk_at dksX0_fall_0 21 rfl rfl)
theorem dX0_fall_22 : decode cX0_fall 22 = .ok (.ireturn, 1) := dk_172 (dk_at dksX0_fall_0 22 rfl rfl)
abbrev cX0_sample : ByteArray := method_29_code
def yX0_sample : MethodName := ⟨RX0, "sample", "(LGraphline;II[J)I"⟩
def dkwX0_sample_1 : List UInt8 := [172, 3, 172]
abbrev dktX0_sample_1 : List UInt8 := dkwX0_sample_1 ++ []
def dkwX0_sample_0 : List UInt8 := [45, 3, 42, 27, 28, 182, 0, 106, 133, 80, 167, 0, 15, 58, 4, 4, 172, 58, 4, 5, 172, 58, 4, 6]
abbrev dktX0_sample_0 : List UInt8 := dkwX0_sample_0 ++ dktX0_sample_1
theorem dksX0_sample_0 : cX0_sample.data.toList.drop 0 = dktX0_sample_0 := by decide +kernel
theorem dksX0_sample_1 : cX0_sample.data.toList.drop 24 = dktX0_sample_1 := dk_seg dksX0_sample_0 24 rfl rfl
theorem dX0_sample_0 : decode cX0_sample 0 = .ok (.aload_n 3, 1) := dk_45 (dk_at dksX0_sample_0 0 rfl rfl)
theorem dX0_sample_1 : decode cX0_sample 1 = .ok (.iconst 0, 1) := dk_3 (dk_at dksX0_sample_0 1 rfl rfl)
theorem dX0_sample_2 : decode cX0_sample 2 = .ok (.aload_n 0, 1) := dk_42 (dk_at dksX0_sample_0 2 rfl rfl)
theorem dX0_sample_3 : decode cX0_sample 3 = .ok (.iload_n 1, 1) := dk_27 (dk_at dksX0_sample_0 3 rfl rfl)
theorem dX0_sample_4 : decode cX0_sample 4 = .ok (.iload_n 2, 1) := dk_28 (dk_at dksX0_sample_0 4 rfl rfl)
theorem dX0_sample_5 : decode cX0_sample 5 = .ok (.invokevirtual 106, 3) := dk_182 0 106 (dk_at dksX0_sample_0 5 rfl rfl)
theorem dX0_sample_8 : decode cX0_sample 8 = .ok (.i2l, 1) := dk_133 (dk_at dksX0_sample_0 8 rfl rfl)
theorem dX0_sample_9 : decode cX0_sample 9 = .ok (.lastore, 1) := dk_80 (dk_at dksX0_sample_0 9 rfl rfl)
theorem dX0_sample_10 : decode cX0_sample 10 = .ok (.goto 15, 3) := dk_167 0 15 (dk_at dksX0_sample_0 10 rfl rfl)
theorem dX0_sample_13 : decode cX0_sample 13 = .ok (.astore 4, 2) := dk_58 4 (dk_at dksX0_sample_0 13 rfl rfl)
theorem dX0_sample_15 : decode cX0_sample 15 = .ok (.iconst 1, 1) := dk_4 (dk_at dksX0_sample_0 15 rfl rfl)
theorem dX0_sample_16 : decode cX0_sample 16 = .ok (.ireturn, 1) := dk_172 (dk_at dksX0_sample_0 16 rfl rfl)
theorem dX0_sample_17 : decode cX0_sample 17 = .ok (.astore 4, 2) := dk_58 4 (dk_at dksX0_sample_0 17 rfl rfl)
theorem dX0_sample_19 : decode cX0_sample 19 = .ok (.iconst 2, 1) := dk_5 (dk_at dksX0_sample_0 19 rfl rfl)
theorem dX0_sample_20 : decode cX0_sample 20 = .ok (.ireturn, 1) := dk_172 (dk_at dksX0_sample_0 20 rfl rfl)
theorem dX0_sample_21 : decode cX0_sample 21 = .ok (.astore 4, 2) := dk_58 4 (dk_at dksX0_sample_0 21 rfl rfl)
theorem dX0_sample_23 : decode cX0_sample 23 = .ok (.iconst 3, 1) := dk_6 (dk_at dksX0_sample_0 23 rfl rfl)
theorem dX0_sample_24 : decode cX0_sample 24 = .ok (.ireturn, 1) := dk_172 (dk_at dksX0_sample_1 0 rfl rfl)
theorem dX0_sample_25 : decode cX0_sample 25 = .ok (.iconst 0, 1) := dk_3 (dk_at dksX0_sample_1 1 rfl rfl)
theorem dX0_sample_26 : decode cX0_sample 26 = .ok (.ireturn, 1) := dk_172 (dk_at dksX0_sample_1 2 rfl rfl)
abbrev cX0_seed : ByteArray := method_30_code
def yX0_seed : MethodName := ⟨RX0, "seed", "(LGraphline;I[J)I"⟩
def dkwX0_seed_0 : List UInt8 := [44, 3, 42, 27, 182, 0, 109, 133, 80, 167, 0, 6, 78, 4, 172, 3, 172]
abbrev dktX0_seed_0 : List UInt8 := dkwX0_seed_0 ++ []
theorem dksX0_seed_0 : cX0_seed.data.toList.drop 0 = dktX0_seed_0 := by decide +kernel
theorem dX0_seed_0 : decode cX0_seed 0 = .ok (.aload_n 2, 1) := dk_44 (dk_at dksX0_seed_0 0 rfl rfl)
theorem dX0_seed_1 : decode cX0_seed 1 = .ok (.iconst 0, 1) := dk_3 (dk_at dksX0_seed_0 1 rfl rfl)
theorem dX0_seed_2 : decode cX0_seed 2 = .ok (.aload_n 0, 1) := dk_42 (dk_at dksX0_seed_0 2 rfl rfl)
theorem dX0_seed_3 : decode cX0_seed 3 = .ok (.iload_n 1, 1) := dk_27 (dk_at dksX0_seed_0 3 rfl rfl)
theorem dX0_seed_4 : decode cX0_seed 4 = .ok (.invokevirtual 109, 3) := dk_182 0 109 (dk_at dksX0_seed_0 4 rfl rfl)
theorem dX0_seed_7 : decode cX0_seed 7 = .ok (.i2l, 1) := dk_133 (dk_at dksX0_seed_0 7 rfl rfl)
theorem dX0_seed_8 : decode cX0_seed 8 = .ok (.lastore, 1) := dk_80 (dk_at dksX0_seed_0 8 rfl rfl)
theorem dX0_seed_9 : decode cX0_seed 9 = .ok (.goto 6, 3) := dk_167 0 6 (dk_at dksX0_seed_0 9 rfl rfl)
theorem dX0_seed_12 : decode cX0_seed 12 = .ok (.astore_n 3, 1) := dk_78 (dk_at dksX0_seed_0 12 rfl rfl)
theorem dX0_seed_13 : decode cX0_seed 13 = .ok (.iconst 1, 1) := dk_4 (dk_at dksX0_seed_0 13 rfl rfl)
theorem dX0_seed_14 : decode cX0_seed 14 = .ok (.ireturn, 1) := dk_172 (dk_at dksX0_seed_0 14 rfl rfl)
theorem dX0_seed_15 : decode cX0_seed 15 = .ok (.iconst 0, 1) := dk_3 (dk_at dksX0_seed_0 15 rfl rfl)
theorem dX0_seed_16 : decode cX0_seed 16 = .ok (.ireturn, 1) := dk_172 (dk_at dksX0_seed_0 16 rfl rfl)
abbrev cX0_gross : ByteArray := method_31_code
def yX0_gross : MethodName := ⟨RX0, "gross", "(LGraphline;I[J)I"⟩
def dkwX0_gross_0 : List UInt8 := [44, 3, 42, 27, 182, 0, 112, 133, 80, 167, 0, 9, 78, 4, 172, 78, 5, 172, 3, 172]
abbrev dktX0_gross_0 : List UInt8 := dkwX0_gross_0 ++ []
theorem dksX0_gross_0 : cX0_gross.data.toList.drop 0 = dktX0_gross_0 := by decide +kernel
theorem dX0_gross_0 : decode cX0_gross 0 = .ok (.aload_n 2, 1) := dk_44 (dk_at dksX0_gross_0 0 rfl rfl)
theorem dX0_gross_1 : decode cX0_gross 1 = .ok (.iconst 0, 1) := dk_3 (dk_at dksX0_gross_0 1 rfl rfl)
theorem dX0_gross_2 : decode cX0_gross 2 = .ok (.aload_n 0, 1) := dk_42 (dk_at dksX0_gross_0 2 rfl rfl)
theorem dX0_gross_3 : decode cX0_gross 3 = .ok (.iload_n 1, 1) := dk_27 (dk_at dksX0_gross_0 3 rfl rfl)
theorem dX0_gross_4 : decode cX0_gross 4 = .ok (.invokevirtual 112, 3) := dk_182 0 112 (dk_at dksX0_gross_0 4 rfl rfl)
theorem dX0_gross_7 : decode cX0_gross 7 = .ok (.i2l, 1) := dk_133 (dk_at dksX0_gross_0 7 rfl rfl)
theorem dX0_gross_8 : decode cX0_gross 8 = .ok (.lastore, 1) := dk_80 (dk_at dksX0_gross_0 8 rfl rfl)
theorem dX0_gross_9 : decode cX0_gross 9 = .ok (.goto 9, 3) := dk_167 0 9 (dk_at dksX0_gross_0 9 rfl rfl)
theorem dX0_gross_12 : decode cX0_gross 12 = .ok (.astore_n 3, 1) := dk_78 (dk_at dksX0_gross_0 12 rfl rfl)
theorem dX0_gross_13 : decode cX0_gross 13 = .ok (.iconst 1, 1) := dk_4 (dk_at dksX0_gross_0 13 rfl rfl)
theorem dX0_gross_14 : decode cX0_gross 14 = .ok (.ireturn, 1) := dk_172 (dk_at dksX0_gross_0 14 rfl rfl)
theorem dX0_gross_15 : decode cX0_gross 15 = .ok (.astore_n 3, 1) := dk_78 (dk_at dksX0_gross_0 15 rfl rfl)
theorem dX0_gross_16 : decode cX0_gross 16 = .ok (.iconst 2, 1) := dk_5 (dk_at dksX0_gross_0 16 rfl rfl)
theorem dX0_gross_17 : decode cX0_gross 17 = .ok (.ireturn, 1) := dk_172 (dk_at dksX0_gross_0 17 rfl rfl)
theorem dX0_gross_18 : decode cX0_gross 18 = .ok (.iconst 0, 1) := dk_3 (dk_at dksX0_gross_0 18 rfl rfl)
theorem dX0_gross_19 : decode cX0_gross 19 = .ok (.ireturn, 1) := dk_172 (dk_at dksX0_gross_0 19 rfl rfl)
abbrev cX0_pack : ByteArray := method_32_code
def yX0_pack : MethodName := ⟨RX0, "pack", "(LGraphline;III[J)I"⟩
def dkwX0_pack_1 : List UInt8 := [58, 5, 6, 172, 3, 172]
abbrev dktX0_pack_1 : List UInt8 := dkwX0_pack_1 ++ []
def dkwX0_pack_0 : List UInt8 := [25, 4, 3, 42, 27, 28, 29, 182, 0, 115, 133, 80, 167, 0, 15, 58, 5, 4, 172, 58, 5, 5, 172]
abbrev dktX0_pack_0 : List UInt8 := dkwX0_pack_0 ++ dktX0_pack_1
theorem dksX0_pack_0 : cX0_pack.data.toList.drop 0 = dktX0_pack_0 := by decide +kernel
theorem dksX0_pack_1 : cX0_pack.data.toList.drop 23 = dktX0_pack_1 := dk_seg dksX0_pack_0 23 rfl rfl
theorem dX0_pack_0 : decode cX0_pack 0 = .ok (.aload 4, 2) := dk_25 4 (dk_at dksX0_pack_0 0 rfl rfl)
theorem dX0_pack_2 : decode cX0_pack 2 = .ok (.iconst 0, 1) := dk_3 (dk_at dksX0_pack_0 2 rfl rfl)
theorem dX0_pack_3 : decode cX0_pack 3 = .ok (.aload_n 0, 1) := dk_42 (dk_at dksX0_pack_0 3 rfl rfl)
theorem dX0_pack_4 : decode cX0_pack 4 = .ok (.iload_n 1, 1) := dk_27 (dk_at dksX0_pack_0 4 rfl rfl)
theorem dX0_pack_5 : decode cX0_pack 5 = .ok (.iload_n 2, 1) := dk_28 (dk_at dksX0_pack_0 5 rfl rfl)
theorem dX0_pack_6 : decode cX0_pack 6 = .ok (.iload_n 3, 1) := dk_29 (dk_at dksX0_pack_0 6 rfl rfl)
theorem dX0_pack_7 : decode cX0_pack 7 = .ok (.invokevirtual 115, 3) := dk_182 0 115 (dk_at dksX0_pack_0 7 rfl rfl)
theorem dX0_pack_10 : decode cX0_pack 10 = .ok (.i2l, 1) := dk_133 (dk_at dksX0_pack_0 10 rfl rfl)
theorem dX0_pack_11 : decode cX0_pack 11 = .ok (.lastore, 1) := dk_80 (dk_at dksX0_pack_0 11 rfl rfl)
theorem dX0_pack_12 : decode cX0_pack 12 = .ok (.goto 15, 3) := dk_167 0 15 (dk_at dksX0_pack_0 12 rfl rfl)
theorem dX0_pack_15 : decode cX0_pack 15 = .ok (.astore 5, 2) := dk_58 5 (dk_at dksX0_pack_0 15 rfl rfl)
theorem dX0_pack_17 : decode cX0_pack 17 = .ok (.iconst 1, 1) := dk_4 (dk_at dksX0_pack_0 17 rfl rfl)
theorem dX0_pack_18 : decode cX0_pack 18 = .ok (.ireturn, 1) := dk_172 (dk_at dksX0_pack_0 18 rfl rfl)
theorem dX0_pack_19 : decode cX0_pack 19 = .ok (.astore 5, 2) := dk_58 5 (dk_at dksX0_pack_0 19 rfl rfl)
theorem dX0_pack_21 : decode cX0_pack 21 = .ok (.iconst 2, 1) := dk_5 (dk_at dksX0_pack_0 21 rfl rfl)
theorem dX0_pack_22 : decode cX0_pack 22 = .ok (.ireturn, 1) := dk_172 (dk_at dksX0_pack_0 22 rfl rfl)
theorem dX0_pack_23 : decode cX0_pack 23 = .ok (.astore 5, 2) := dk_58 5 (dk_at dksX0_pack_1 0 rfl rfl)
theorem dX0_pack_25 : decode cX0_pack 25 = .ok (.iconst 3, 1) := dk_6 (dk_at dksX0_pack_1 2 rfl rfl)
theorem dX0_pack_26 : decode cX0_pack 26 = .ok (.ireturn, 1) := dk_172 (dk_at dksX0_pack_1 3 rfl rfl)
theorem dX0_pack_27 : decode cX0_pack 27 = .ok (.iconst 0, 1) := dk_3 (dk_at dksX0_pack_1 4 rfl rfl)
theorem dX0_pack_28 : decode cX0_pack 28 = .ok (.ireturn, 1) := dk_172 (dk_at dksX0_pack_1 5 rfl rfl)
abbrev cX0_order : ByteArray := method_33_code
def yX0_order : MethodName := ⟨RX0, "order", "(LGraphline;III[J)I"⟩
def dkwX0_order_1 : List UInt8 := [172]
abbrev dktX0_order_1 : List UInt8 := dkwX0_order_1 ++ []
def dkwX0_order_0 : List UInt8 := [25, 4, 3, 42, 27, 28, 29, 182, 0, 118, 133, 80, 167, 0, 11, 58, 5, 4, 172, 58, 5, 5, 172, 3]
abbrev dktX0_order_0 : List UInt8 := dkwX0_order_0 ++ dktX0_order_1
theorem dksX0_order_0 : cX0_order.data.toList.drop 0 = dktX0_order_0 := by decide +kernel
theorem dksX0_order_1 : cX0_order.data.toList.drop 24 = dktX0_order_1 := dk_seg dksX0_order_0 24 rfl rfl
theorem dX0_order_0 : decode cX0_order 0 = .ok (.aload 4, 2) := dk_25 4 (dk_at dksX0_order_0 0 rfl rfl)
theorem dX0_order_2 : decode cX0_order 2 = .ok (.iconst 0, 1) := dk_3 (dk_at dksX0_order_0 2 rfl rfl)
theorem dX0_order_3 : decode cX0_order 3 = .ok (.aload_n 0, 1) := dk_42 (dk_at dksX0_order_0 3 rfl rfl)
theorem dX0_order_4 : decode cX0_order 4 = .ok (.iload_n 1, 1) := dk_27 (dk_at dksX0_order_0 4 rfl rfl)
theorem dX0_order_5 : decode cX0_order 5 = .ok (.iload_n 2, 1) := dk_28 (dk_at dksX0_order_0 5 rfl rfl)
theorem dX0_order_6 : decode cX0_order 6 = .ok (.iload_n 3, 1) := dk_29 (dk_at dksX0_order_0 6 rfl rfl)
theorem dX0_order_7 : decode cX0_order 7 = .ok (.invokevirtual 118, 3) := dk_182 0 118 (dk_at dksX0_order_0 7 rfl rfl)
theorem dX0_order_10 : decode cX0_order 10 = .ok (.i2l, 1) := dk_133 (dk_at dksX0_order_0 10 rfl rfl)
theorem dX0_order_11 : decode cX0_order 11 = .ok (.lastore, 1) := dk_80 (dk_at dksX0_order_0 11 rfl rfl)
theorem dX0_order_12 : decode cX0_order 12 = .ok (.goto 11, 3) := dk_167 0 11 (dk_at dksX0_order_0 12 rfl rfl)
theorem dX0_order_15 : decode cX0_order 15 = .ok (.astore 5, 2) := dk_58 5 (dk_at dksX0_order_0 15 rfl rfl)
theorem dX0_order_17 : decode cX0_order 17 = .ok (.iconst 1, 1) := dk_4 (dk_at dksX0_order_0 17 rfl rfl)
theorem dX0_order_18 : decode cX0_order 18 = .ok (.ireturn, 1) := dk_172 (dk_at dksX0_order_0 18 rfl rfl)
theorem dX0_order_19 : decode cX0_order 19 = .ok (.astore 5, 2) := dk_58 5 (dk_at dksX0_order_0 19 rfl rfl)
theorem dX0_order_21 : decode cX0_order 21 = .ok (.iconst 2, 1) := dk_5 (dk_at dksX0_order_0 21 rfl rfl)
theorem dX0_order_22 : decode cX0_order 22 = .ok (.ireturn, 1) := dk_172 (dk_at dksX0_order_0 22 rfl rfl)
theorem dX0_order_23 : decode cX0_order 23 = .ok (.iconst 0, 1) := dk_3 (dk_at dksX0_order_0 23 rfl rfl)
theorem dX0_order_24 : decode cX0_order 24 = .ok (.ireturn, 1) := dk_172 (dk_at dksX0_order_1 0 rfl rfl)
abbrev cX0_ship : ByteArray := method_34_code
def yX0_ship : MethodName := ⟨RX0, "ship", "(LGraphline;II[J)I"⟩
def dkwX0_ship_0 : List UInt8 := [45, 3, 42, 27, 28, 182, 0, 121, 133, 80, 167, 0, 11, 58, 4, 4, 172, 58, 4, 5, 172, 3, 172]
abbrev dktX0_ship_0 : List UInt8 := dkwX0_ship_0 ++ []
theorem dksX0_ship_0 : cX0_ship.data.toList.drop 0 = dktX0_ship_0 := by decide +kernel
theorem dX0_ship_0 : decode cX0_ship 0 = .ok (.aload_n 3, 1) := dk_45 (dk_at dksX0_ship_0 0 rfl rfl)
theorem dX0_ship_1 : decode cX0_ship 1 = .ok (.iconst 0, 1) := dk_3 (dk_at dksX0_ship_0 1 rfl rfl)
theorem dX0_ship_2 : decode cX0_ship 2 = .ok (.aload_n 0, 1) := dk_42 (dk_at dksX0_ship_0 2 rfl rfl)
theorem dX0_ship_3 : decode cX0_ship 3 = .ok (.iload_n 1, 1) := dk_27 (dk_at dksX0_ship_0 3 rfl rfl)
theorem dX0_ship_4 : decode cX0_ship 4 = .ok (.iload_n 2, 1) := dk_28 (dk_at dksX0_ship_0 4 rfl rfl)
theorem dX0_ship_5 : decode cX0_ship 5 = .ok (.invokevirtual 121, 3) := dk_182 0 121 (dk_at dksX0_ship_0 5 rfl rfl)
theorem dX0_ship_8 : decode cX0_ship 8 = .ok (.i2l, 1) := dk_133 (dk_at dksX0_ship_0 8 rfl rfl)
theorem dX0_ship_9 : decode cX0_ship 9 = .ok (.lastore, 1) := dk_80 (dk_at dksX0_ship_0 9 rfl rfl)
theorem dX0_ship_10 : decode cX0_ship 10 = .ok (.goto 11, 3) := dk_167 0 11 (dk_at dksX0_ship_0 10 rfl rfl)
theorem dX0_ship_13 : decode cX0_ship 13 = .ok (.astore 4, 2) := dk_58 4 (dk_at dksX0_ship_0 13 rfl rfl)
theorem dX0_ship_15 : decode cX0_ship 15 = .ok (.iconst 1, 1) := dk_4 (dk_at dksX0_ship_0 15 rfl rfl)
theorem dX0_ship_16 : decode cX0_ship 16 = .ok (.ireturn, 1) := dk_172 (dk_at dksX0_ship_0 16 rfl rfl)
theorem dX0_ship_17 : decode cX0_ship 17 = .ok (.astore 4, 2) := dk_58 4 (dk_at dksX0_ship_0 17 rfl rfl)
theorem dX0_ship_19 : decode cX0_ship 19 = .ok (.iconst 2, 1) := dk_5 (dk_at dksX0_ship_0 19 rfl rfl)
theorem dX0_ship_20 : decode cX0_ship 20 = .ok (.ireturn, 1) := dk_172 (dk_at dksX0_ship_0 20 rfl rfl)
theorem dX0_ship_21 : decode cX0_ship 21 = .ok (.iconst 0, 1) := dk_3 (dk_at dksX0_ship_0 21 rfl rfl)
theorem dX0_ship_22 : decode cX0_ship 22 = .ok (.ireturn, 1) := dk_172 (dk_at dksX0_ship_0 22 rfl rfl)
abbrev cX0_isLate : ByteArray := method_35_code
def yX0_isLate : MethodName := ⟨RX0, "isLate", "(LGraphline;I[J)I"⟩
def dkwX0_isLate_0 : List UInt8 := [44, 3, 42, 27, 182, 0, 124, 153, 0, 7, 10, 167, 0, 4, 9, 80, 167, 0, 6, 78, 4, 172, 3, 172]
abbrev dktX0_isLate_0 : List UInt8 := dkwX0_isLate_0 ++ []
theorem dksX0_isLate_0 : cX0_isLate.data.toList.drop 0 = dktX0_isLate_0 := by decide +kernel
theorem dX0_isLate_0 : decode cX0_isLate 0 = .ok (.aload_n 2, 1) := dk_44 (dk_at dksX0_isLate_0 0 rfl rfl)
theorem dX0_isLate_1 : decode cX0_isLate 1 = .ok (.iconst 0, 1) := dk_3 (dk_at dksX0_isLate_0 1 rfl rfl)
theorem dX0_isLate_2 : decode cX0_isLate 2 = .ok (.aload_n 0, 1) := dk_42 (dk_at dksX0_isLate_0 2 rfl rfl)
theorem dX0_isLate_3 : decode cX0_isLate 3 = .ok (.iload_n 1, 1) := dk_27 (dk_at dksX0_isLate_0 3 rfl rfl)
theorem dX0_isLate_4 : decode cX0_isLate 4 = .ok (.invokevirtual 124, 3) := dk_182 0 124 (dk_at dksX0_isLate_0 4 rfl rfl)
theorem dX0_isLate_7 : decode cX0_isLate 7 = .ok (.ifCond .eq 7, 3) := dk_153 0 7 (dk_at dksX0_isLate_0 7 rfl rfl)
theorem dX0_isLate_10 : decode cX0_isLate 10 = .ok (.lconst 1, 1) := dk_10 (dk_at dksX0_isLate_0 10 rfl rfl)
theorem dX0_isLate_11 : decode cX0_isLate 11 = .ok (.goto 4, 3) := dk_167 0 4 (dk_at dksX0_isLate_0 11 rfl rfl)
theorem dX0_isLate_14 : decode cX0_isLate 14 = .ok (.lconst 0, 1) := dk_9 (dk_at dksX0_isLate_0 14 rfl rfl)
theorem dX0_isLate_15 : decode cX0_isLate 15 = .ok (.lastore, 1) := dk_80 (dk_at dksX0_isLate_0 15 rfl rfl)
theorem dX0_isLate_16 : decode cX0_isLate 16 = .ok (.goto 6, 3) := dk_167 0 6 (dk_at dksX0_isLate_0 16 rfl rfl)
theorem dX0_isLate_19 : decode cX0_isLate 19 = .ok (.astore_n 3, 1) := dk_78 (dk_at dksX0_isLate_0 19 rfl rfl)
theorem dX0_isLate_20 : decode cX0_isLate 20 = .ok (.iconst 1, 1) := dk_4 (dk_at dksX0_isLate_0 20 rfl rfl)
theorem dX0_isLate_21 : decode cX0_isLate 21 = .ok (.ireturn, 1) := dk_172 (dk_at dksX0_isLate_0 21 rfl rfl)
theorem dX0_isLate_22 : decode cX0_isLate 22 = .ok (.iconst 0, 1) := dk_3 (dk_at dksX0_isLate_0 22 rfl rfl)
theorem dX0_isLate_23 : decode cX0_isLate 23 = .ok (.ireturn, 1) := dk_172 (dk_at dksX0_isLate_0 23 rfl rfl)
abbrev cX0_claim : ByteArray := method_36_code
def yX0_claim : MethodName := ⟨RX0, "claim", "(LGraphline;I[J)I"⟩
def dkwX0_claim_0 : List UInt8 := [44, 3, 42, 27, 182, 0, 128, 153, 0, 7, 10, 167, 0, 4, 9, 80, 167, 0, 6, 78, 4, 172, 3, 172]
abbrev dktX0_claim_0 : List UInt8 := dkwX0_claim_0 ++ []
theorem dksX0_claim_0 : cX0_claim.data.toList.drop 0 = dktX0_claim_0 := by decide +kernel
theorem dX0_claim_0 : decode cX0_claim 0 = .ok (.aload_n 2, 1) := dk_44 (dk_at dksX0_claim_0 0 rfl rfl)
theorem dX0_claim_1 : decode cX0_claim 1 = .ok (.iconst 0, 1) := dk_3 (dk_at dksX0_claim_0 1 rfl rfl)
theorem dX0_claim_2 : decode cX0_claim 2 = .ok (.aload_n 0, 1) := dk_42 (dk_at dksX0_claim_0 2 rfl rfl)
theorem dX0_claim_3 : decode cX0_claim 3 = .ok (.iload_n 1, 1) := dk_27 (dk_at dksX0_claim_0 3 rfl rfl)
theorem dX0_claim_4 : decode cX0_claim 4 = .ok (.invokevirtual 128, 3) := dk_182 0 128 (dk_at dksX0_claim_0 4 rfl rfl)
theorem dX0_claim_7 : decode cX0_claim 7 = .ok (.ifCond .eq 7, 3) := dk_153 0 7 (dk_at dksX0_claim_0 7 rfl rfl)
theorem dX0_claim_10 : decode cX0_claim 10 = .ok (.lconst 1, 1) := dk_10 (dk_at dksX0_claim_0 10 rfl rfl)
theorem dX0_claim_11 : decode cX0_claim 11 = .ok (.goto 4, 3) := dk_167 0 4 (dk_at dksX0_claim_0 11 rfl rfl)
theorem dX0_claim_14 : decode cX0_claim 14 = .ok (.lconst 0, 1) := dk_9 (dk_at dksX0_claim_0 14 rfl rfl)
theorem dX0_claim_15 : decode cX0_claim 15 = .ok (.lastore, 1) := dk_80 (dk_at dksX0_claim_0 15 rfl rfl)
theorem dX0_claim_16 : decode cX0_claim 16 = .ok (.goto 6, 3) := dk_167 0 6 (dk_at dksX0_claim_0 16 rfl rfl)
theorem dX0_claim_19 : decode cX0_claim 19 = .ok (.astore_n 3, 1) := dk_78 (dk_at dksX0_claim_0 19 rfl rfl)
theorem dX0_claim_20 : decode cX0_claim 20 = .ok (.iconst 1, 1) := dk_4 (dk_at dksX0_claim_0 20 rfl rfl)
theorem dX0_claim_21 : decode cX0_claim 21 = .ok (.ireturn, 1) := dk_172 (dk_at dksX0_claim_0 21 rfl rfl)
theorem dX0_claim_22 : decode cX0_claim 22 = .ok (.iconst 0, 1) := dk_3 (dk_at dksX0_claim_0 22 rfl rfl)
theorem dX0_claim_23 : decode cX0_claim 23 = .ok (.ireturn, 1) := dk_172 (dk_at dksX0_claim_0 23 rfl rfl)
abbrev cX0_parts : ByteArray := method_37_code
def yX0_parts : MethodName := ⟨RX0, "parts", "(LGraphline;I[J)I"⟩
def dkwX0_parts_0 : List UInt8 := [44, 3, 42, 27, 182, 0, 131, 133, 80, 167, 0, 6, 78, 4, 172, 3, 172]
abbrev dktX0_parts_0 : List UInt8 := dkwX0_parts_0 ++ []
theorem dksX0_parts_0 : cX0_parts.data.toList.drop 0 = dktX0_parts_0 := by decide +kernel
theorem dX0_parts_0 : decode cX0_parts 0 = .ok (.aload_n 2, 1) := dk_44 (dk_at dksX0_parts_0 0 rfl rfl)
theorem dX0_parts_1 : decode cX0_parts 1 = .ok (.iconst 0, 1) := dk_3 (dk_at dksX0_parts_0 1 rfl rfl)
theorem dX0_parts_2 : decode cX0_parts 2 = .ok (.aload_n 0, 1) := dk_42 (dk_at dksX0_parts_0 2 rfl rfl)
theorem dX0_parts_3 : decode cX0_parts 3 = .ok (.iload_n 1, 1) := dk_27 (dk_at dksX0_parts_0 3 rfl rfl)
theorem dX0_parts_4 : decode cX0_parts 4 = .ok (.invokevirtual 131, 3) := dk_182 0 131 (dk_at dksX0_parts_0 4 rfl rfl)
theorem dX0_parts_7 : decode cX0_parts 7 = .ok (.i2l, 1) := dk_133 (dk_at dksX0_parts_0 7 rfl rfl)
theorem dX0_parts_8 : decode cX0_parts 8 = .ok (.lastore, 1) := dk_80 (dk_at dksX0_parts_0 8 rfl rfl)
theorem dX0_parts_9 : decode cX0_parts 9 = .ok (.goto 6, 3) := dk_167 0 6 (dk_at dksX0_parts_0 9 rfl rfl)
theorem dX0_parts_12 : decode cX0_parts 12 = .ok (.astore_n 3, 1) := dk_78 (dk_at dksX0_parts_0 12 rfl rfl)
theorem dX0_parts_13 : decode cX0_parts 13 = .ok (.iconst 1, 1) := dk_4 (dk_at dksX0_parts_0 13 rfl rfl)
theorem dX0_parts_14 : decode cX0_parts 14 = .ok (.ireturn, 1) := dk_172 (dk_at dksX0_parts_0 14 rfl rfl)
theorem dX0_parts_15 : decode cX0_parts 15 = .ok (.iconst 0, 1) := dk_3 (dk_at dksX0_parts_0 15 rfl rfl)
theorem dX0_parts_16 : decode cX0_parts 16 = .ok (.ireturn, 1) := dk_172 (dk_at dksX0_parts_0 16 rfl rfl)
abbrev cX0_trace : ByteArray := method_38_code
def yX0_trace : MethodName := ⟨RX0, "trace", "(LGraphline;IIC[J)I"⟩
def dkwX0_trace_1 : List UInt8 := [172]
abbrev dktX0_trace_1 : List UInt8 := dkwX0_trace_1 ++ []
def dkwX0_trace_0 : List UInt8 := [25, 4, 3, 42, 27, 28, 29, 182, 0, 134, 133, 80, 167, 0, 11, 58, 5, 4, 172, 58, 5, 5, 172, 3]
abbrev dktX0_trace_0 : List UInt8 := dkwX0_trace_0 ++ dktX0_trace_1
theorem dksX0_trace_0 : cX0_trace.data.toList.drop 0 = dktX0_trace_0 := by decide +kernel
theorem dksX0_trace_1 : cX0_trace.data.toList.drop 24 = dktX0_trace_1 := dk_seg dksX0_trace_0 24 rfl rfl
theorem dX0_trace_0 : decode cX0_trace 0 = .ok (.aload 4, 2) := dk_25 4 (dk_at dksX0_trace_0 0 rfl rfl)
theorem dX0_trace_2 : decode cX0_trace 2 = .ok (.iconst 0, 1) := dk_3 (dk_at dksX0_trace_0 2 rfl rfl)
theorem dX0_trace_3 : decode cX0_trace 3 = .ok (.aload_n 0, 1) := dk_42 (dk_at dksX0_trace_0 3 rfl rfl)
theorem dX0_trace_4 : decode cX0_trace 4 = .ok (.iload_n 1, 1) := dk_27 (dk_at dksX0_trace_0 4 rfl rfl)
theorem dX0_trace_5 : decode cX0_trace 5 = .ok (.iload_n 2, 1) := dk_28 (dk_at dksX0_trace_0 5 rfl rfl)
theorem dX0_trace_6 : decode cX0_trace 6 = .ok (.iload_n 3, 1) := dk_29 (dk_at dksX0_trace_0 6 rfl rfl)
theorem dX0_trace_7 : decode cX0_trace 7 = .ok (.invokevirtual 134, 3) := dk_182 0 134 (dk_at dksX0_trace_0 7 rfl rfl)
theorem dX0_trace_10 : decode cX0_trace 10 = .ok (.i2l, 1) := dk_133 (dk_at dksX0_trace_0 10 rfl rfl)
theorem dX0_trace_11 : decode cX0_trace 11 = .ok (.lastore, 1) := dk_80 (dk_at dksX0_trace_0 11 rfl rfl)
theorem dX0_trace_12 : decode cX0_trace 12 = .ok (.goto 11, 3) := dk_167 0 11 (dk_at dksX0_trace_0 12 rfl rfl)
theorem dX0_trace_15 : decode cX0_trace 15 = .ok (.astore 5, 2) := dk_58 5 (dk_at dksX0_trace_0 15 rfl rfl)
theorem dX0_trace_17 : decode cX0_trace 17 = .ok (.iconst 1, 1) := dk_4 (dk_at dksX0_trace_0 17 rfl rfl)
theorem dX0_trace_18 : decode cX0_trace 18 = .ok (.ireturn, 1) := dk_172 (dk_at dksX0_trace_0 18 rfl rfl)
theorem dX0_trace_19 : decode cX0_trace 19 = .ok (.astore 5, 2) := dk_58 5 (dk_at dksX0_trace_0 19 rfl rfl)
theorem dX0_trace_21 : decode cX0_trace 21 = .ok (.iconst 2, 1) := dk_5 (dk_at dksX0_trace_0 21 rfl rfl)
theorem dX0_trace_22 : decode cX0_trace 22 = .ok (.ireturn, 1) := dk_172 (dk_at dksX0_trace_0 22 rfl rfl)
theorem dX0_trace_23 : decode cX0_trace 23 = .ok (.iconst 0, 1) := dk_3 (dk_at dksX0_trace_0 23 rfl rfl)
theorem dX0_trace_24 : decode cX0_trace 24 = .ok (.ireturn, 1) := dk_172 (dk_at dksX0_trace_1 0 rfl rfl)
abbrev cX0_brokenShare : ByteArray := method_39_code
def yX0_brokenShare : MethodName := ⟨RX0, "brokenShare", "(LGraphline;[D)I"⟩
def dkwX0_brokenShare_0 : List UInt8 := [43, 3, 42, 182, 0, 138, 141, 82, 167, 0, 6, 77, 4, 172, 3, 172]
abbrev dktX0_brokenShare_0 : List UInt8 := dkwX0_brokenShare_0 ++ []
theorem dksX0_brokenShare_0 : cX0_brokenShare.data.toList.drop 0 = dktX0_brokenShare_0 := by decide +kernel
theorem dX0_brokenShare_0 : decode cX0_brokenShare 0 = .ok (.aload_n 1, 1) := dk_43 (dk_at dksX0_brokenShare_0 0 rfl rfl)
theorem dX0_brokenShare_1 : decode cX0_brokenShare 1 = .ok (.iconst 0, 1) := dk_3 (dk_at dksX0_brokenShare_0 1 rfl rfl)
theorem dX0_brokenShare_2 : decode cX0_brokenShare 2 = .ok (.aload_n 0, 1) := dk_42 (dk_at dksX0_brokenShare_0 2 rfl rfl)
theorem dX0_brokenShare_3 : decode cX0_brokenShare 3 = .ok (.invokevirtual 138, 3) := dk_182 0 138 (dk_at dksX0_brokenShare_0 3 rfl rfl)
theorem dX0_brokenShare_6 : decode cX0_brokenShare 6 = .ok (.f2d, 1) := dk_141 (dk_at dksX0_brokenShare_0 6 rfl rfl)
theorem dX0_brokenShare_7 : decode cX0_brokenShare 7 = .ok (.dastore, 1) := dk_82 (dk_at dksX0_brokenShare_0 7 rfl rfl)
theorem dX0_brokenShare_8 : decode cX0_brokenShare 8 = .ok (.goto 6, 3) := dk_167 0 6 (dk_at dksX0_brokenShare_0 8 rfl rfl)
theorem dX0_brokenShare_11 : decode cX0_brokenShare 11 = .ok (.astore_n 2, 1) := dk_77 (dk_at dksX0_brokenShare_0 11 rfl rfl)
theorem dX0_brokenShare_12 : decode cX0_brokenShare 12 = .ok (.iconst 1, 1) := dk_4 (dk_at dksX0_brokenShare_0 12 rfl rfl)
theorem dX0_brokenShare_13 : decode cX0_brokenShare 13 = .ok (.ireturn, 1) := dk_172 (dk_at dksX0_brokenShare_0 13 rfl rfl)
theorem dX0_brokenShare_14 : decode cX0_brokenShare 14 = .ok (.iconst 0, 1) := dk_3 (dk_at dksX0_brokenShare_0 14 rfl rfl)
theorem dX0_brokenShare_15 : decode cX0_brokenShare 15 = .ok (.ireturn, 1) := dk_172 (dk_at dksX0_brokenShare_0 15 rfl rfl)
abbrev cX0_meanDarkness : ByteArray := method_40_code
def yX0_meanDarkness : MethodName := ⟨RX0, "meanDarkness", "(LGraphline;[D)I"⟩
def dkwX0_meanDarkness_0 : List UInt8 := [43, 3, 42, 182, 0, 144, 82, 167, 0, 6, 77, 4, 172, 3, 172]
abbrev dktX0_meanDarkness_0 : List UInt8 := dkwX0_meanDarkness_0 ++ []
theorem dksX0_meanDarkness_0 : cX0_meanDarkness.data.toList.drop 0 = dktX0_meanDarkness_0 := by decide +kernel
theorem dX0_meanDarkness_0 : decode cX0_meanDarkness 0 = .ok (.aload_n 1, 1) := dk_43 (dk_at dksX0_meanDarkness_0 0 rfl rfl)
theorem dX0_meanDarkness_1 : decode cX0_meanDarkness 1 = .ok (.iconst 0, 1) := dk_3 (dk_at dksX0_meanDarkness_0 1 rfl rfl)
theorem dX0_meanDarkness_2 : decode cX0_meanDarkness 2 = .ok (.aload_n 0, 1) := dk_42 (dk_at dksX0_meanDarkness_0 2 rfl rfl)
theorem dX0_meanDarkness_3 : decode cX0_meanDarkness 3 = .ok (.invokevirtual 144, 3) := dk_182 0 144 (dk_at dksX0_meanDarkness_0 3 rfl rfl)
theorem dX0_meanDarkness_6 : decode cX0_meanDarkness 6 = .ok (.dastore, 1) := dk_82 (dk_at dksX0_meanDarkness_0 6 rfl rfl)
theorem dX0_meanDarkness_7 : decode cX0_meanDarkness 7 = .ok (.goto 6, 3) := dk_167 0 6 (dk_at dksX0_meanDarkness_0 7 rfl rfl)
theorem dX0_meanDarkness_10 : decode cX0_meanDarkness 10 = .ok (.astore_n 2, 1) := dk_77 (dk_at dksX0_meanDarkness_0 10 rfl rfl)
theorem dX0_meanDarkness_11 : decode cX0_meanDarkness 11 = .ok (.iconst 1, 1) := dk_4 (dk_at dksX0_meanDarkness_0 11 rfl rfl)
theorem dX0_meanDarkness_12 : decode cX0_meanDarkness 12 = .ok (.ireturn, 1) := dk_172 (dk_at dksX0_meanDarkness_0 12 rfl rfl)
theorem dX0_meanDarkness_13 : decode cX0_meanDarkness 13 = .ok (.iconst 0, 1) := dk_3 (dk_at dksX0_meanDarkness_0 13 rfl rfl)
theorem dX0_meanDarkness_14 : decode cX0_meanDarkness 14 = .ok (.ireturn, 1) := dk_172 (dk_at dksX0_meanDarkness_0 14 rfl rfl)
theorem q17 : (Jvm.Cond.initialized "GraphlineLaw") ∈ lw_all := lw_g (lw_at lw_m1 0 rfl) rfl
theorem q60 : (Jvm.Cond.classLink "GraphlineLaw" (8 : Nat) "Graphline") ∈ lw_all := lw_g (lw_at lw_m1 43 rfl) rfl
theorem q62 : (Jvm.Cond.methodLink "GraphlineLaw" (148 : Nat) ({ cls := "Graphline", name := "<init>", desc := "()V" } : Jvm.MethodName)) ∈ lw_all := lw_g (lw_at lw_m1 45 rfl) rfl
theorem q191 : (Jvm.Cond.methodLink "GraphlineLaw" (162 : Nat) ({ cls := "Graphline", name := "shaft", desc := "(Z)Z" } : Jvm.MethodName)) ∈ lw_all := lw_g (lw_at lw_m1 174 rfl) rfl
theorem q195 : (Jvm.Cond.methodLink "GraphlineLaw" (221 : Nat) ({ cls := "Graphline", name := "check", desc := "()I" } : Jvm.MethodName)) ∈ lw_all := lw_g (lw_at lw_m1 178 rfl) rfl
theorem q203 : (Jvm.Cond.methodLink "GraphlineLaw" (287 : Nat) ({ cls := "Graphline", name := "missing", desc := "()I" } : Jvm.MethodName)) ∈ lw_all := lw_g (lw_at lw_m1 186 rfl) rfl
theorem q284 : (Jvm.Cond.methodLink "GraphlineLaw" (291 : Nat) ({ cls := "Graphline", name := "checksum", desc := "()J" } : Jvm.MethodName)) ∈ lw_all := lw_g (lw_at lw_m2 27 rfl) rfl
theorem q299 : (Jvm.Cond.methodLink "GraphlineLaw" (303 : Nat) ({ cls := "Graphline", name := "isSound", desc := "()Z" } : Jvm.MethodName)) ∈ lw_all := lw_g (lw_at lw_m2 42 rfl) rfl
theorem q326 : (Jvm.Cond.methodLink "GraphlineLaw" (152 : Nat) ({ cls := "GraphlineLaw", name := "go", desc := "(LGraphline;I[J)I" } : Jvm.MethodName)) ∈ lw_all := lw_g (lw_at lw_m2 69 rfl) rfl
theorem q327 : (Jvm.Cond.static ({ cls := "GraphlineLaw", name := "go", desc := "(LGraphline;I[J)I" } : Jvm.MethodName)) ∈ lw_all := lw_g (lw_at lw_m2 70 rfl) rfl
theorem q328 : (Jvm.Cond.codeWith ({ cls := "GraphlineLaw", name := "go", desc := "(LGraphline;I[J)I" } : Jvm.MethodName) method_3_code (4 : Nat) (Option.some Jvm.ClassFile.FieldType.int) [((0 : Nat), (9 : Nat), (12 : Nat), (13 : Nat)), ((0 : Nat), (9 : Nat), (15 : Nat), (15 : Nat))]) ∈ lw_all := lw_g (lw_at lw_m2 71 rfl) rfl
theorem q329 : (Jvm.Cond.classLink "GraphlineLaw" (13 : Nat) "java/lang/IllegalArgumentException") ∈ lw_all := lw_g (lw_at lw_m2 72 rfl) rfl
theorem q330 : (Jvm.Cond.classLink "GraphlineLaw" (15 : Nat) "java/lang/IllegalStateException") ∈ lw_all := lw_g (lw_at lw_m2 73 rfl) rfl
theorem q331 : (Jvm.Cond.methodLink "GraphlineLaw" (7 : Nat) ({ cls := "Graphline", name := "go", desc := "(I)I" } : Jvm.MethodName)) ∈ lw_all := lw_g (lw_at lw_m2 74 rfl) rfl
theorem q424 : (Jvm.Cond.methodLink "GraphlineLaw" (167 : Nat) ({ cls := "GraphlineLaw", name := "belt", desc := "(LGraphline;CC[J)I" } : Jvm.MethodName)) ∈ lw_all := lw_g (lw_at lw_m2 167 rfl) rfl
theorem q425 : (Jvm.Cond.static ({ cls := "GraphlineLaw", name := "belt", desc := "(LGraphline;CC[J)I" } : Jvm.MethodName)) ∈ lw_all := lw_g (lw_at lw_m2 168 rfl) rfl
theorem q426 : (Jvm.Cond.codeWith ({ cls := "GraphlineLaw", name := "belt", desc := "(LGraphline;CC[J)I" } : Jvm.MethodName) method_4_code (5 : Nat) (Option.some Jvm.ClassFile.FieldType.int) [((0 : Nat), (10 : Nat), (13 : Nat), (13 : Nat)), ((0 : Nat), (10 : Nat), (17 : Nat), (21 : Nat))]) ∈ lw_all := lw_g (lw_at lw_m2 169 rfl) rfl
theorem q427 : (Jvm.Cond.classLink "GraphlineLaw" (21 : Nat) "java/lang/UnsupportedOperationException") ∈ lw_all := lw_g (lw_at lw_m2 170 rfl) rfl
theorem q428 : (Jvm.Cond.methodLink "GraphlineLaw" (17 : Nat) ({ cls := "Graphline", name := "belt", desc := "(CC)C" } : Jvm.MethodName)) ∈ lw_all := lw_g (lw_at lw_m2 171 rfl) rfl
theorem q550 : (Jvm.Cond.methodLink "GraphlineLaw" (171 : Nat) ({ cls := "GraphlineLaw", name := "on", desc := "(LGraphline;CZ[J)I" } : Jvm.MethodName)) ∈ lw_all := lw_g (lw_at lw_m3 53 rfl) rfl
theorem q551 : (Jvm.Cond.static ({ cls := "GraphlineLaw", name := "on", desc := "(LGraphline;CZ[J)I" } : Jvm.MethodName)) ∈ lw_all := lw_g (lw_at lw_m3 54 rfl) rfl
theorem q552 : (Jvm.Cond.codeWith ({ cls := "GraphlineLaw", name := "on", desc := "(LGraphline;CZ[J)I" } : Jvm.MethodName) method_5_code (5 : Nat) (Option.some Jvm.ClassFile.FieldType.int) [((0 : Nat), (17 : Nat), (20 : Nat), (13 : Nat))]) ∈ lw_all := lw_g (lw_at lw_m3 55 rfl) rfl
theorem q553 : (Jvm.Cond.methodLink "GraphlineLaw" (23 : Nat) ({ cls := "Graphline", name := "on", desc := "(CZ)Z" } : Jvm.MethodName)) ∈ lw_all := lw_g (lw_at lw_m3 56 rfl) rfl
theorem q557 : (Jvm.Cond.methodLink "GraphlineLaw" (175 : Nat) ({ cls := "GraphlineLaw", name := "runs", desc := "(LGraphline;C[J)I" } : Jvm.MethodName)) ∈ lw_all := lw_g (lw_at lw_m3 60 rfl) rfl
theorem q558 : (Jvm.Cond.static ({ cls := "GraphlineLaw", name := "runs", desc := "(LGraphline;C[J)I" } : Jvm.MethodName)) ∈ lw_all := lw_g (lw_at lw_m3 61 rfl) rfl
theorem q559 : (Jvm.Cond.codeWith ({ cls := "GraphlineLaw", name := "runs", desc := "(LGraphline;C[J)I" } : Jvm.MethodName) method_6_code (4 : Nat) (Option.some Jvm.ClassFile.FieldType.int) [((0 : Nat), (16 : Nat), (19 : Nat), (13 : Nat))]) ∈ lw_all := lw_g (lw_at lw_m3 62 rfl) rfl
theorem q560 : (Jvm.Cond.methodLink "GraphlineLaw" (27 : Nat) ({ cls := "Graphline", name := "runs", desc := "(C)Z" } : Jvm.MethodName)) ∈ lw_all := lw_g (lw_at lw_m3 63 rfl) rfl
theorem q623 : (Jvm.Cond.methodLink "GraphlineLaw" (179 : Nat) ({ cls := "GraphlineLaw", name := "lot", desc := "(LGraphline;CIII[J)I" } : Jvm.MethodName)) ∈ lw_all := lw_g (lw_at lw_m3 126 rfl) rfl
theorem q624 : (Jvm.Cond.static ({ cls := "GraphlineLaw", name := "lot", desc := "(LGraphline;CIII[J)I" } : Jvm.MethodName)) ∈ lw_all := lw_g (lw_at lw_m3 127 rfl) rfl
theorem q625 : (Jvm.Cond.codeWith ({ cls := "GraphlineLaw", name := "lot", desc := "(LGraphline;CIII[J)I" } : Jvm.MethodName) method_7_code (7 : Nat) (Option.some Jvm.ClassFile.FieldType.int) [((0 : Nat), (14 : Nat), (17 : Nat), (13 : Nat)), ((0 : Nat), (14 : Nat), (21 : Nat), (15 : Nat))]) ∈ lw_all := lw_g (lw_at lw_m3 128 rfl) rfl
theorem q626 : (Jvm.Cond.methodLink "GraphlineLaw" (31 : Nat) ({ cls := "Graphline", name := "lot", desc := "(CIII)I" } : Jvm.MethodName)) ∈ lw_all := lw_g (lw_at lw_m3 129 rfl) rfl
theorem q750 : (Jvm.Cond.methodLink "GraphlineLaw" (183 : Nat) ({ cls := "GraphlineLaw", name := "kilos", desc := "(LGraphline;I[J)I" } : Jvm.MethodName)) ∈ lw_all := lw_g (lw_at lw_m4 13 rfl) rfl
theorem q751 : (Jvm.Cond.static ({ cls := "GraphlineLaw", name := "kilos", desc := "(LGraphline;I[J)I" } : Jvm.MethodName)) ∈ lw_all := lw_g (lw_at lw_m4 14 rfl) rfl
theorem q752 : (Jvm.Cond.codeWith ({ cls := "GraphlineLaw", name := "kilos", desc := "(LGraphline;I[J)I" } : Jvm.MethodName) method_8_code (4 : Nat) (Option.some Jvm.ClassFile.FieldType.int) [((0 : Nat), (9 : Nat), (12 : Nat), (38 : Nat))]) ∈ lw_all := lw_g (lw_at lw_m4 15 rfl) rfl
theorem q753 : (Jvm.Cond.classLink "GraphlineLaw" (38 : Nat) "java/lang/IndexOutOfBoundsException") ∈ lw_all := lw_g (lw_at lw_m4 16 rfl) rfl
theorem q780 : (Jvm.Cond.methodLink "GraphlineLaw" (35 : Nat) ({ cls := "Graphline", name := "kilos", desc := "(I)I" } : Jvm.MethodName)) ∈ lw_all := lw_g (lw_at lw_m4 43 rfl) rfl
theorem q823 : (Jvm.Cond.methodLink "GraphlineLaw" (186 : Nat) ({ cls := "GraphlineLaw", name := "mix", desc := "(LGraphline;IIIII[J)I" } : Jvm.MethodName)) ∈ lw_all := lw_g (lw_at lw_m4 86 rfl) rfl
theorem q824 : (Jvm.Cond.static ({ cls := "GraphlineLaw", name := "mix", desc := "(LGraphline;IIIII[J)I" } : Jvm.MethodName)) ∈ lw_all := lw_g (lw_at lw_m4 87 rfl) rfl
theorem q825 : (Jvm.Cond.codeWith ({ cls := "GraphlineLaw", name := "mix", desc := "(LGraphline;IIIII[J)I" } : Jvm.MethodName) method_9_code (8 : Nat) (Option.some Jvm.ClassFile.FieldType.int) [((0 : Nat), (16 : Nat), (19 : Nat), (38 : Nat)), ((0 : Nat), (16 : Nat), (23 : Nat), (13 : Nat)), ((0 : Nat), (16 : Nat), (27 : Nat), (21 : Nat)), ((0 : Nat), (16 : Nat), (31 : Nat), (15 : Nat))]) ∈ lw_all := lw_g (lw_at lw_m4 88 rfl) rfl
theorem q826 : (Jvm.Cond.methodLink "GraphlineLaw" (40 : Nat) ({ cls := "Graphline", name := "mix", desc := "(IIIII)I" } : Jvm.MethodName)) ∈ lw_all := lw_g (lw_at lw_m4 89 rfl) rfl
theorem q860 : (Jvm.Cond.methodLink "GraphlineLaw" (190 : Nat) ({ cls := "GraphlineLaw", name := "mixture", desc := "(LGraphline;IC[J)I" } : Jvm.MethodName)) ∈ lw_all := lw_g (lw_at lw_m4 123 rfl) rfl
theorem q861 : (Jvm.Cond.static ({ cls := "GraphlineLaw", name := "mixture", desc := "(LGraphline;IC[J)I" } : Jvm.MethodName)) ∈ lw_all := lw_g (lw_at lw_m4 124 rfl) rfl
theorem q862 : (Jvm.Cond.codeWith ({ cls := "GraphlineLaw", name := "mixture", desc := "(LGraphline;IC[J)I" } : Jvm.MethodName) method_10_code (5 : Nat) (Option.some Jvm.ClassFile.FieldType.int) [((0 : Nat), (10 : Nat), (13 : Nat), (38 : Nat)), ((0 : Nat), (10 : Nat), (17 : Nat), (13 : Nat))]) ∈ lw_all := lw_g (lw_at lw_m4 125 rfl) rfl
theorem q863 : (Jvm.Cond.methodLink "GraphlineLaw" (44 : Nat) ({ cls := "Graphline", name := "mixture", desc := "(IC)I" } : Jvm.MethodName)) ∈ lw_all := lw_g (lw_at lw_m4 126 rfl) rfl
theorem q868 : (Jvm.Cond.methodLink "GraphlineLaw" (194 : Nat) ({ cls := "GraphlineLaw", name := "press", desc := "(LGraphline;III[J)I" } : Jvm.MethodName)) ∈ lw_all := lw_g (lw_at lw_m4 131 rfl) rfl
theorem q869 : (Jvm.Cond.static ({ cls := "GraphlineLaw", name := "press", desc := "(LGraphline;III[J)I" } : Jvm.MethodName)) ∈ lw_all := lw_g (lw_at lw_m4 132 rfl) rfl
theorem q870 : (Jvm.Cond.codeWith ({ cls := "GraphlineLaw", name := "press", desc := "(LGraphline;III[J)I" } : Jvm.MethodName) method_11_code (6 : Nat) (Option.some Jvm.ClassFile.FieldType.int) [((0 : Nat), (12 : Nat), (15 : Nat), (38 : Nat)), ((0 : Nat), (12 : Nat), (19 : Nat), (13 : Nat)), ((0 : Nat), (12 : Nat), (23 : Nat), (21 : Nat)), ((0 : Nat), (12 : Nat), (27 : Nat), (15 : Nat))]) ∈ lw_all := lw_g (lw_at lw_m4 133 rfl) rfl
theorem q871 : (Jvm.Cond.methodLink "GraphlineLaw" (48 : Nat) ({ cls := "Graphline", name := "press", desc := "(III)I" } : Jvm.MethodName)) ∈ lw_all := lw_g (lw_at lw_m4 134 rfl) rfl
theorem q930 : (Jvm.Cond.methodLink "GraphlineLaw" (198 : Nat) ({ cls := "GraphlineLaw", name := "worn", desc := "(LGraphline;I[J)I" } : Jvm.MethodName)) ∈ lw_all := lw_g (lw_at lw_m4 193 rfl) rfl
theorem q931 : (Jvm.Cond.static ({ cls := "GraphlineLaw", name := "worn", desc := "(LGraphline;I[J)I" } : Jvm.MethodName)) ∈ lw_all := lw_g (lw_at lw_m4 194 rfl) rfl
theorem q932 : (Jvm.Cond.codeWith ({ cls := "GraphlineLaw", name := "worn", desc := "(LGraphline;I[J)I" } : Jvm.MethodName) method_12_code (4 : Nat) (Option.some Jvm.ClassFile.FieldType.int) [((0 : Nat), (9 : Nat), (12 : Nat), (13 : Nat))]) ∈ lw_all := lw_g (lw_at lw_m4 195 rfl) rfl
theorem q933 : (Jvm.Cond.methodLink "GraphlineLaw" (52 : Nat) ({ cls := "Graphline", name := "worn", desc := "(I)I" } : Jvm.MethodName)) ∈ lw_all := lw_g (lw_at lw_m4 196 rfl) rfl
theorem q937 : (Jvm.Cond.methodLink "GraphlineLaw" (201 : Nat) ({ cls := "GraphlineLaw", name := "renew", desc := "(LGraphline;I[J)I" } : Jvm.MethodName)) ∈ lw_all := lw_g (lw_at lw_m4 200 rfl) rfl
theorem q938 : (Jvm.Cond.static ({ cls := "GraphlineLaw", name := "renew", desc := "(LGraphline;I[J)I" } : Jvm.MethodName)) ∈ lw_all := lw_g (lw_at lw_m4 201 rfl) rfl
theorem q939 : (Jvm.Cond.codeWith ({ cls := "GraphlineLaw", name := "renew", desc := "(LGraphline;I[J)I" } : Jvm.MethodName) method_13_code (4 : Nat) (Option.some Jvm.ClassFile.FieldType.int) [((0 : Nat), (9 : Nat), (12 : Nat), (13 : Nat))]) ∈ lw_all := lw_g (lw_at lw_m4 202 rfl) rfl
theorem q940 : (Jvm.Cond.methodLink "GraphlineLaw" (55 : Nat) ({ cls := "Graphline", name := "renew", desc := "(I)I" } : Jvm.MethodName)) ∈ lw_all := lw_g (lw_at lw_m4 203 rfl) rfl
theorem q944 : (Jvm.Cond.methodLink "GraphlineLaw" (204 : Nat) ({ cls := "GraphlineLaw", name := "dry", desc := "(LGraphline;II[J)I" } : Jvm.MethodName)) ∈ lw_all := lw_g (lw_at lw_m4 207 rfl) rfl
theorem q945 : (Jvm.Cond.static ({ cls := "GraphlineLaw", name := "dry", desc := "(LGraphline;II[J)I" } : Jvm.MethodName)) ∈ lw_all := lw_g (lw_at lw_m4 208 rfl) rfl
theorem q946 : (Jvm.Cond.codeWith ({ cls := "GraphlineLaw", name := "dry", desc := "(LGraphline;II[J)I" } : Jvm.MethodName) method_14_code (5 : Nat) (Option.some Jvm.ClassFile.FieldType.int) [((0 : Nat), (10 : Nat), (13 : Nat), (38 : Nat)), ((0 : Nat), (10 : Nat), (17 : Nat), (13 : Nat)), ((0 : Nat), (10 : Nat), (21 : Nat), (21 : Nat))]) ∈ lw_all := lw_g (lw_at lw_m4 209 rfl) rfl
theorem q947 : (Jvm.Cond.methodLink "GraphlineLaw" (58 : Nat) ({ cls := "Graphline", name := "dry", desc := "(II)I" } : Jvm.MethodName)) ∈ lw_all := lw_g (lw_at lw_m4 210 rfl) rfl
theorem q951 : (Jvm.Cond.methodLink "GraphlineLaw" (208 : Nat) ({ cls := "GraphlineLaw", name := "fire", desc := "(LGraphline;IIII[J)I" } : Jvm.MethodName)) ∈ lw_all := lw_g (lw_at lw_m4 214 rfl) rfl
theorem q952 : (Jvm.Cond.static ({ cls := "GraphlineLaw", name := "fire", desc := "(LGraphline;IIII[J)I" } : Jvm.MethodName)) ∈ lw_all := lw_g (lw_at lw_m4 215 rfl) rfl
theorem q953 : (Jvm.Cond.codeWith ({ cls := "GraphlineLaw", name := "fire", desc := "(LGraphline;IIII[J)I" } : Jvm.MethodName) method_15_code (7 : Nat) (Option.some Jvm.ClassFile.FieldType.int) [((0 : Nat), (14 : Nat), (17 : Nat), (38 : Nat)), ((0 : Nat), (14 : Nat), (21 : Nat), (13 : Nat)), ((0 : Nat), (14 : Nat), (25 : Nat), (21 : Nat))]) ∈ lw_all := lw_g (lw_at lw_m4 216 rfl) rfl
theorem q954 : (Jvm.Cond.methodLink "GraphlineLaw" (62 : Nat) ({ cls := "Graphline", name := "fire", desc := "(IIII)I" } : Jvm.MethodName)) ∈ lw_all := lw_g (lw_at lw_m4 217 rfl) rfl
theorem q968 : (Jvm.Cond.methodLink "GraphlineLaw" (212 : Nat) ({ cls := "GraphlineLaw", name := "soak", desc := "(LGraphline;II[J)I" } : Jvm.MethodName)) ∈ lw_all := lw_g (lw_at lw_m4 231 rfl) rfl
theorem q969 : (Jvm.Cond.static ({ cls := "GraphlineLaw", name := "soak", desc := "(LGraphline;II[J)I" } : Jvm.MethodName)) ∈ lw_all := lw_g (lw_at lw_m4 232 rfl) rfl
theorem q970 : (Jvm.Cond.codeWith ({ cls := "GraphlineLaw", name := "soak", desc := "(LGraphline;II[J)I" } : Jvm.MethodName) method_16_code (5 : Nat) (Option.some Jvm.ClassFile.FieldType.int) [((0 : Nat), (10 : Nat), (13 : Nat), (38 : Nat)), ((0 : Nat), (10 : Nat), (17 : Nat), (13 : Nat)), ((0 : Nat), (10 : Nat), (21 : Nat), (21 : Nat))]) ∈ lw_all := lw_g (lw_at lw_m4 233 rfl) rfl
theorem q971 : (Jvm.Cond.methodLink "GraphlineLaw" (66 : Nat) ({ cls := "Graphline", name := "soak", desc := "(II)I" } : Jvm.MethodName)) ∈ lw_all := lw_g (lw_at lw_m4 234 rfl) rfl
theorem q975 : (Jvm.Cond.methodLink "GraphlineLaw" (215 : Nat) ({ cls := "GraphlineLaw", name := "batch", desc := "(LGraphline;IC[J)I" } : Jvm.MethodName)) ∈ lw_all := lw_g (lw_at lw_m4 238 rfl) rfl
theorem q976 : (Jvm.Cond.static ({ cls := "GraphlineLaw", name := "batch", desc := "(LGraphline;IC[J)I" } : Jvm.MethodName)) ∈ lw_all := lw_g (lw_at lw_m4 239 rfl) rfl
theorem q977 : (Jvm.Cond.codeWith ({ cls := "GraphlineLaw", name := "batch", desc := "(LGraphline;IC[J)I" } : Jvm.MethodName) method_17_code (5 : Nat) (Option.some Jvm.ClassFile.FieldType.int) [((0 : Nat), (10 : Nat), (13 : Nat), (38 : Nat)), ((0 : Nat), (10 : Nat), (17 : Nat), (13 : Nat))]) ∈ lw_all := lw_g (lw_at lw_m5 0 rfl) rfl
theorem q978 : (Jvm.Cond.methodLink "GraphlineLaw" (69 : Nat) ({ cls := "Graphline", name := "batch", desc := "(IC)I" } : Jvm.MethodName)) ∈ lw_all := lw_g (lw_at lw_m5 1 rfl) rfl
theorem q983 : (Jvm.Cond.methodLink "GraphlineLaw" (218 : Nat) ({ cls := "GraphlineLaw", name := "draw", desc := "(LGraphline;I[J)I" } : Jvm.MethodName)) ∈ lw_all := lw_g (lw_at lw_m5 6 rfl) rfl
theorem q984 : (Jvm.Cond.static ({ cls := "GraphlineLaw", name := "draw", desc := "(LGraphline;I[J)I" } : Jvm.MethodName)) ∈ lw_all := lw_g (lw_at lw_m5 7 rfl) rfl
theorem q985 : (Jvm.Cond.codeWith ({ cls := "GraphlineLaw", name := "draw", desc := "(LGraphline;I[J)I" } : Jvm.MethodName) method_18_code (4 : Nat) (Option.some Jvm.ClassFile.FieldType.int) [((0 : Nat), (9 : Nat), (12 : Nat), (38 : Nat)), ((0 : Nat), (9 : Nat), (15 : Nat), (21 : Nat))]) ∈ lw_all := lw_g (lw_at lw_m5 8 rfl) rfl
theorem q986 : (Jvm.Cond.methodLink "GraphlineLaw" (72 : Nat) ({ cls := "Graphline", name := "draw", desc := "(I)I" } : Jvm.MethodName)) ∈ lw_all := lw_g (lw_at lw_m5 9 rfl) rfl
theorem q996 : (Jvm.Cond.methodLink "GraphlineLaw" (225 : Nat) ({ cls := "GraphlineLaw", name := "slats", desc := "(LGraphline;CIII[J)I" } : Jvm.MethodName)) ∈ lw_all := lw_g (lw_at lw_m5 19 rfl) rfl
theorem q997 : (Jvm.Cond.static ({ cls := "GraphlineLaw", name := "slats", desc := "(LGraphline;CIII[J)I" } : Jvm.MethodName)) ∈ lw_all := lw_g (lw_at lw_m5 20 rfl) rfl
theorem q998 : (Jvm.Cond.codeWith ({ cls := "GraphlineLaw", name := "slats", desc := "(LGraphline;CIII[J)I" } : Jvm.MethodName) method_19_code (7 : Nat) (Option.some Jvm.ClassFile.FieldType.int) [((0 : Nat), (14 : Nat), (17 : Nat), (13 : Nat)), ((0 : Nat), (14 : Nat), (21 : Nat), (15 : Nat))]) ∈ lw_all := lw_g (lw_at lw_m5 21 rfl) rfl
theorem q999 : (Jvm.Cond.methodLink "GraphlineLaw" (75 : Nat) ({ cls := "Graphline", name := "slats", desc := "(CIII)I" } : Jvm.MethodName)) ∈ lw_all := lw_g (lw_at lw_m5 22 rfl) rfl
theorem q1037 : (Jvm.Cond.methodLink "GraphlineLaw" (228 : Nat) ({ cls := "GraphlineLaw", name := "season", desc := "(LGraphline;II[J)I" } : Jvm.MethodName)) ∈ lw_all := lw_g (lw_at lw_m5 60 rfl) rfl
theorem q1038 : (Jvm.Cond.static ({ cls := "GraphlineLaw", name := "season", desc := "(LGraphline;II[J)I" } : Jvm.MethodName)) ∈ lw_all := lw_g (lw_at lw_m5 61 rfl) rfl
theorem q1039 : (Jvm.Cond.codeWith ({ cls := "GraphlineLaw", name := "season", desc := "(LGraphline;II[J)I" } : Jvm.MethodName) method_20_code (5 : Nat) (Option.some Jvm.ClassFile.FieldType.int) [((0 : Nat), (10 : Nat), (13 : Nat), (38 : Nat)), ((0 : Nat), (10 : Nat), (17 : Nat), (13 : Nat)), ((0 : Nat), (10 : Nat), (21 : Nat), (21 : Nat))]) ∈ lw_all := lw_g (lw_at lw_m5 62 rfl) rfl
theorem q1040 : (Jvm.Cond.methodLink "GraphlineLaw" (78 : Nat) ({ cls := "Graphline", name := "season", desc := "(II)I" } : Jvm.MethodName)) ∈ lw_all := lw_g (lw_at lw_m5 63 rfl) rfl
theorem q1044 : (Jvm.Cond.methodLink "GraphlineLaw" (231 : Nat) ({ cls := "GraphlineLaw", name := "groove", desc := "(LGraphline;II[J)I" } : Jvm.MethodName)) ∈ lw_all := lw_g (lw_at lw_m5 67 rfl) rfl
theorem q1045 : (Jvm.Cond.static ({ cls := "GraphlineLaw", name := "groove", desc := "(LGraphline;II[J)I" } : Jvm.MethodName)) ∈ lw_all := lw_g (lw_at lw_m5 68 rfl) rfl
theorem q1046 : (Jvm.Cond.codeWith ({ cls := "GraphlineLaw", name := "groove", desc := "(LGraphline;II[J)I" } : Jvm.MethodName) method_21_code (5 : Nat) (Option.some Jvm.ClassFile.FieldType.int) [((0 : Nat), (10 : Nat), (13 : Nat), (38 : Nat)), ((0 : Nat), (10 : Nat), (17 : Nat), (13 : Nat)), ((0 : Nat), (10 : Nat), (21 : Nat), (21 : Nat))]) ∈ lw_all := lw_g (lw_at lw_m5 69 rfl) rfl
theorem q1047 : (Jvm.Cond.methodLink "GraphlineLaw" (81 : Nat) ({ cls := "Graphline", name := "groove", desc := "(II)I" } : Jvm.MethodName)) ∈ lw_all := lw_g (lw_at lw_m5 70 rfl) rfl
theorem q1051 : (Jvm.Cond.methodLink "GraphlineLaw" (234 : Nat) ({ cls := "GraphlineLaw", name := "slat", desc := "(LGraphline;IC[J)I" } : Jvm.MethodName)) ∈ lw_all := lw_g (lw_at lw_m5 74 rfl) rfl
theorem q1052 : (Jvm.Cond.static ({ cls := "GraphlineLaw", name := "slat", desc := "(LGraphline;IC[J)I" } : Jvm.MethodName)) ∈ lw_all := lw_g (lw_at lw_m5 75 rfl) rfl
theorem q1053 : (Jvm.Cond.codeWith ({ cls := "GraphlineLaw", name := "slat", desc := "(LGraphline;IC[J)I" } : Jvm.MethodName) method_22_code (5 : Nat) (Option.some Jvm.ClassFile.FieldType.int) [((0 : Nat), (10 : Nat), (13 : Nat), (38 : Nat)), ((0 : Nat), (10 : Nat), (17 : Nat), (13 : Nat))]) ∈ lw_all := lw_g (lw_at lw_m5 76 rfl) rfl
theorem q1054 : (Jvm.Cond.methodLink "GraphlineLaw" (84 : Nat) ({ cls := "Graphline", name := "slat", desc := "(IC)I" } : Jvm.MethodName)) ∈ lw_all := lw_g (lw_at lw_m5 77 rfl) rfl
theorem q1059 : (Jvm.Cond.methodLink "GraphlineLaw" (237 : Nat) ({ cls := "GraphlineLaw", name := "lay", desc := "(LGraphline;IICII[J)I" } : Jvm.MethodName)) ∈ lw_all := lw_g (lw_at lw_m5 82 rfl) rfl
theorem q1060 : (Jvm.Cond.static ({ cls := "GraphlineLaw", name := "lay", desc := "(LGraphline;IICII[J)I" } : Jvm.MethodName)) ∈ lw_all := lw_g (lw_at lw_m5 83 rfl) rfl
theorem q1061 : (Jvm.Cond.codeWith ({ cls := "GraphlineLaw", name := "lay", desc := "(LGraphline;IICII[J)I" } : Jvm.MethodName) method_23_code (8 : Nat) (Option.some Jvm.ClassFile.FieldType.int) [((0 : Nat), (16 : Nat), (19 : Nat), (38 : Nat)), ((0 : Nat), (16 : Nat), (23 : Nat), (13 : Nat)), ((0 : Nat), (16 : Nat), (27 : Nat), (21 : Nat)), ((0 : Nat), (16 : Nat), (31 : Nat), (15 : Nat))]) ∈ lw_all := lw_g (lw_at lw_m5 84 rfl) rfl
theorem q1062 : (Jvm.Cond.methodLink "GraphlineLaw" (87 : Nat) ({ cls := "Graphline", name := "lay", desc := "(IICII)I" } : Jvm.MethodName)) ∈ lw_all := lw_g (lw_at lw_m5 85 rfl) rfl
theorem q1127 : (Jvm.Cond.methodLink "GraphlineLaw" (241 : Nat) ({ cls := "GraphlineLaw", name := "coat", desc := "(LGraphline;II[J)I" } : Jvm.MethodName)) ∈ lw_all := lw_g (lw_at lw_m5 150 rfl) rfl
theorem q1128 : (Jvm.Cond.static ({ cls := "GraphlineLaw", name := "coat", desc := "(LGraphline;II[J)I" } : Jvm.MethodName)) ∈ lw_all := lw_g (lw_at lw_m5 151 rfl) rfl
theorem q1129 : (Jvm.Cond.codeWith ({ cls := "GraphlineLaw", name := "coat", desc := "(LGraphline;II[J)I" } : Jvm.MethodName) method_24_code (5 : Nat) (Option.some Jvm.ClassFile.FieldType.int) [((0 : Nat), (10 : Nat), (13 : Nat), (38 : Nat)), ((0 : Nat), (10 : Nat), (17 : Nat), (13 : Nat)), ((0 : Nat), (10 : Nat), (21 : Nat), (21 : Nat))]) ∈ lw_all := lw_g (lw_at lw_m5 152 rfl) rfl
theorem q1130 : (Jvm.Cond.methodLink "GraphlineLaw" (91 : Nat) ({ cls := "Graphline", name := "coat", desc := "(II)I" } : Jvm.MethodName)) ∈ lw_all := lw_g (lw_at lw_m5 153 rfl) rfl
theorem q1134 : (Jvm.Cond.methodLink "GraphlineLaw" (244 : Nat) ({ cls := "GraphlineLaw", name := "stamp", desc := "(LGraphline;I[J)I" } : Jvm.MethodName)) ∈ lw_all := lw_g (lw_at lw_m5 157 rfl) rfl
theorem q1135 : (Jvm.Cond.static ({ cls := "GraphlineLaw", name := "stamp", desc := "(LGraphline;I[J)I" } : Jvm.MethodName)) ∈ lw_all := lw_g (lw_at lw_m5 158 rfl) rfl
theorem q1136 : (Jvm.Cond.codeWith ({ cls := "GraphlineLaw", name := "stamp", desc := "(LGraphline;I[J)I" } : Jvm.MethodName) method_25_code (4 : Nat) (Option.some Jvm.ClassFile.FieldType.int) [((0 : Nat), (9 : Nat), (12 : Nat), (38 : Nat)), ((0 : Nat), (9 : Nat), (15 : Nat), (21 : Nat))]) ∈ lw_all := lw_g (lw_at lw_m5 159 rfl) rfl
theorem q1137 : (Jvm.Cond.methodLink "GraphlineLaw" (94 : Nat) ({ cls := "Graphline", name := "stamp", desc := "(I)I" } : Jvm.MethodName)) ∈ lw_all := lw_g (lw_at lw_m5 160 rfl) rfl
theorem q1141 : (Jvm.Cond.methodLink "GraphlineLaw" (247 : Nat) ({ cls := "GraphlineLaw", name := "erase", desc := "(LGraphline;II[J)I" } : Jvm.MethodName)) ∈ lw_all := lw_g (lw_at lw_m5 164 rfl) rfl
theorem q1142 : (Jvm.Cond.static ({ cls := "GraphlineLaw", name := "erase", desc := "(LGraphline;II[J)I" } : Jvm.MethodName)) ∈ lw_all := lw_g (lw_at lw_m5 165 rfl) rfl
theorem q1143 : (Jvm.Cond.codeWith ({ cls := "GraphlineLaw", name := "erase", desc := "(LGraphline;II[J)I" } : Jvm.MethodName) method_26_code (5 : Nat) (Option.some Jvm.ClassFile.FieldType.int) [((0 : Nat), (10 : Nat), (13 : Nat), (38 : Nat)), ((0 : Nat), (10 : Nat), (17 : Nat), (13 : Nat)), ((0 : Nat), (10 : Nat), (21 : Nat), (21 : Nat))]) ∈ lw_all := lw_g (lw_at lw_m5 166 rfl) rfl
theorem q1144 : (Jvm.Cond.methodLink "GraphlineLaw" (97 : Nat) ({ cls := "Graphline", name := "erase", desc := "(II)I" } : Jvm.MethodName)) ∈ lw_all := lw_g (lw_at lw_m5 167 rfl) rfl
theorem q1148 : (Jvm.Cond.methodLink "GraphlineLaw" (250 : Nat) ({ cls := "GraphlineLaw", name := "run", desc := "(LGraphline;IC[J)I" } : Jvm.MethodName)) ∈ lw_all := lw_g (lw_at lw_m5 171 rfl) rfl
theorem q1149 : (Jvm.Cond.static ({ cls := "GraphlineLaw", name := "run", desc := "(LGraphline;IC[J)I" } : Jvm.MethodName)) ∈ lw_all := lw_g (lw_at lw_m5 172 rfl) rfl
theorem q1150 : (Jvm.Cond.codeWith ({ cls := "GraphlineLaw", name := "run", desc := "(LGraphline;IC[J)I" } : Jvm.MethodName) method_27_code (5 : Nat) (Option.some Jvm.ClassFile.FieldType.int) [((0 : Nat), (10 : Nat), (13 : Nat), (38 : Nat)), ((0 : Nat), (10 : Nat), (17 : Nat), (13 : Nat))]) ∈ lw_all := lw_g (lw_at lw_m5 173 rfl) rfl
theorem q1151 : (Jvm.Cond.methodLink "GraphlineLaw" (100 : Nat) ({ cls := "Graphline", name := "run", desc := "(IC)I" } : Jvm.MethodName)) ∈ lw_all := lw_g (lw_at lw_m5 174 rfl) rfl
theorem q1156 : (Jvm.Cond.methodLink "GraphlineLaw" (253 : Nat) ({ cls := "GraphlineLaw", name := "fall", desc := "(LGraphline;II[J)I" } : Jvm.MethodName)) ∈ lw_all := lw_g (lw_at lw_m5 179 rfl) rfl
theorem q1157 : (Jvm.Cond.static ({ cls := "GraphlineLaw", name := "fall", desc := "(LGraphline;II[J)I" } : Jvm.MethodName)) ∈ lw_all := lw_g (lw_at lw_m5 180 rfl) rfl
theorem q1158 : (Jvm.Cond.codeWith ({ cls := "GraphlineLaw", name := "fall", desc := "(LGraphline;II[J)I" } : Jvm.MethodName) method_28_code (5 : Nat) (Option.some Jvm.ClassFile.FieldType.int) [((0 : Nat), (10 : Nat), (13 : Nat), (38 : Nat)), ((0 : Nat), (10 : Nat), (17 : Nat), (13 : Nat))]) ∈ lw_all := lw_g (lw_at lw_m5 181 rfl) rfl
theorem q1159 : (Jvm.Cond.methodLink "GraphlineLaw" (103 : Nat) ({ cls := "Graphline", name := "fall", desc := "(II)I" } : Jvm.MethodName)) ∈ lw_all := lw_g (lw_at lw_m5 182 rfl) rfl
theorem q1167 : (Jvm.Cond.methodLink "GraphlineLaw" (256 : Nat) ({ cls := "GraphlineLaw", name := "sample", desc := "(LGraphline;II[J)I" } : Jvm.MethodName)) ∈ lw_all := lw_g (lw_at lw_m5 190 rfl) rfl
theorem q1168 : (Jvm.Cond.static ({ cls := "GraphlineLaw", name := "sample", desc := "(LGraphline;II[J)I" } : Jvm.MethodName)) ∈ lw_all := lw_g (lw_at lw_m5 191 rfl) rfl
theorem q1169 : (Jvm.Cond.codeWith ({ cls := "GraphlineLaw", name := "sample", desc := "(LGraphline;II[J)I" } : Jvm.MethodName) method_29_code (5 : Nat) (Option.some Jvm.ClassFile.FieldType.int) [((0 : Nat), (10 : Nat), (13 : Nat), (38 : Nat)), ((0 : Nat), (10 : Nat), (17 : Nat), (13 : Nat)), ((0 : Nat), (10 : Nat), (21 : Nat), (21 : Nat))]) ∈ lw_all := lw_g (lw_at lw_m5 192 rfl) rfl
theorem q1170 : (Jvm.Cond.methodLink "GraphlineLaw" (106 : Nat) ({ cls := "Graphline", name := "sample", desc := "(II)I" } : Jvm.MethodName)) ∈ lw_all := lw_g (lw_at lw_m5 193 rfl) rfl
theorem q1176 : (Jvm.Cond.methodLink "GraphlineLaw" (259 : Nat) ({ cls := "GraphlineLaw", name := "seed", desc := "(LGraphline;I[J)I" } : Jvm.MethodName)) ∈ lw_all := lw_g (lw_at lw_m5 199 rfl) rfl
theorem q1177 : (Jvm.Cond.static ({ cls := "GraphlineLaw", name := "seed", desc := "(LGraphline;I[J)I" } : Jvm.MethodName)) ∈ lw_all := lw_g (lw_at lw_m5 200 rfl) rfl
theorem q1178 : (Jvm.Cond.codeWith ({ cls := "GraphlineLaw", name := "seed", desc := "(LGraphline;I[J)I" } : Jvm.MethodName) method_30_code (4 : Nat) (Option.some Jvm.ClassFile.FieldType.int) [((0 : Nat), (9 : Nat), (12 : Nat), (13 : Nat))]) ∈ lw_all := lw_g (lw_at lw_m5 201 rfl) rfl
theorem q1179 : (Jvm.Cond.methodLink "GraphlineLaw" (109 : Nat) ({ cls := "Graphline", name := "seed", desc := "(I)I" } : Jvm.MethodName)) ∈ lw_all := lw_g (lw_at lw_m5 202 rfl) rfl
theorem q1184 : (Jvm.Cond.methodLink "GraphlineLaw" (262 : Nat) ({ cls := "GraphlineLaw", name := "gross", desc := "(LGraphline;I[J)I" } : Jvm.MethodName)) ∈ lw_all := lw_g (lw_at lw_m5 207 rfl) rfl
theorem q1185 : (Jvm.Cond.static ({ cls := "GraphlineLaw", name := "gross", desc := "(LGraphline;I[J)I" } : Jvm.MethodName)) ∈ lw_all := lw_g (lw_at lw_m5 208 rfl) rfl
theorem q1186 : (Jvm.Cond.codeWith ({ cls := "GraphlineLaw", name := "gross", desc := "(LGraphline;I[J)I" } : Jvm.MethodName) method_31_code (4 : Nat) (Option.some Jvm.ClassFile.FieldType.int) [((0 : Nat), (9 : Nat), (12 : Nat), (13 : Nat)), ((0 : Nat), (9 : Nat), (15 : Nat), (15 : Nat))]) ∈ lw_all := lw_g (lw_at lw_m5 209 rfl) rfl
theorem q1187 : (Jvm.Cond.methodLink "GraphlineLaw" (112 : Nat) ({ cls := "Graphline", name := "gross", desc := "(I)I" } : Jvm.MethodName)) ∈ lw_all := lw_g (lw_at lw_m5 210 rfl) rfl
theorem q1210 : (Jvm.Cond.methodLink "GraphlineLaw" (265 : Nat) ({ cls := "GraphlineLaw", name := "pack", desc := "(LGraphline;III[J)I" } : Jvm.MethodName)) ∈ lw_all := lw_g (lw_at lw_m5 233 rfl) rfl
theorem q1211 : (Jvm.Cond.static ({ cls := "GraphlineLaw", name := "pack", desc := "(LGraphline;III[J)I" } : Jvm.MethodName)) ∈ lw_all := lw_g (lw_at lw_m5 234 rfl) rfl
theorem q1212 : (Jvm.Cond.codeWith ({ cls := "GraphlineLaw", name := "pack", desc := "(LGraphline;III[J)I" } : Jvm.MethodName) method_32_code (6 : Nat) (Option.some Jvm.ClassFile.FieldType.int) [((0 : Nat), (12 : Nat), (15 : Nat), (38 : Nat)), ((0 : Nat), (12 : Nat), (19 : Nat), (13 : Nat)), ((0 : Nat), (12 : Nat), (23 : Nat), (21 : Nat))]) ∈ lw_all := lw_g (lw_at lw_m5 235 rfl) rfl
theorem q1213 : (Jvm.Cond.methodLink "GraphlineLaw" (115 : Nat) ({ cls := "Graphline", name := "pack", desc := "(III)I" } : Jvm.MethodName)) ∈ lw_all := lw_g (lw_at lw_m5 236 rfl) rfl
theorem q1236 : (Jvm.Cond.methodLink "GraphlineLaw" (268 : Nat) ({ cls := "GraphlineLaw", name := "order", desc := "(LGraphline;III[J)I" } : Jvm.MethodName)) ∈ lw_all := lw_g (lw_at lw_m6 19 rfl) rfl
theorem q1237 : (Jvm.Cond.static ({ cls := "GraphlineLaw", name := "order", desc := "(LGraphline;III[J)I" } : Jvm.MethodName)) ∈ lw_all := lw_g (lw_at lw_m6 20 rfl) rfl
theorem q1238 : (Jvm.Cond.codeWith ({ cls := "GraphlineLaw", name := "order", desc := "(LGraphline;III[J)I" } : Jvm.MethodName) method_33_code (6 : Nat) (Option.some Jvm.ClassFile.FieldType.int) [((0 : Nat), (12 : Nat), (15 : Nat), (13 : Nat)), ((0 : Nat), (12 : Nat), (19 : Nat), (15 : Nat))]) ∈ lw_all := lw_g (lw_at lw_m6 21 rfl) rfl
theorem q1239 : (Jvm.Cond.methodLink "GraphlineLaw" (118 : Nat) ({ cls := "Graphline", name := "order", desc := "(III)I" } : Jvm.MethodName)) ∈ lw_all := lw_g (lw_at lw_m6 22 rfl) rfl
theorem q1268 : (Jvm.Cond.methodLink "GraphlineLaw" (271 : Nat) ({ cls := "GraphlineLaw", name := "ship", desc := "(LGraphline;II[J)I" } : Jvm.MethodName)) ∈ lw_all := lw_g (lw_at lw_m6 51 rfl) rfl
theorem q1269 : (Jvm.Cond.static ({ cls := "GraphlineLaw", name := "ship", desc := "(LGraphline;II[J)I" } : Jvm.MethodName)) ∈ lw_all := lw_g (lw_at lw_m6 52 rfl) rfl
theorem q1270 : (Jvm.Cond.codeWith ({ cls := "GraphlineLaw", name := "ship", desc := "(LGraphline;II[J)I" } : Jvm.MethodName) method_34_code (5 : Nat) (Option.some Jvm.ClassFile.FieldType.int) [((0 : Nat), (10 : Nat), (13 : Nat), (38 : Nat)), ((0 : Nat), (10 : Nat), (17 : Nat), (21 : Nat))]) ∈ lw_all := lw_g (lw_at lw_m6 53 rfl) rfl
theorem q1271 : (Jvm.Cond.methodLink "GraphlineLaw" (121 : Nat) ({ cls := "Graphline", name := "ship", desc := "(II)I" } : Jvm.MethodName)) ∈ lw_all := lw_g (lw_at lw_m6 54 rfl) rfl
theorem q1279 : (Jvm.Cond.methodLink "GraphlineLaw" (274 : Nat) ({ cls := "GraphlineLaw", name := "isLate", desc := "(LGraphline;I[J)I" } : Jvm.MethodName)) ∈ lw_all := lw_g (lw_at lw_m6 62 rfl) rfl
theorem q1280 : (Jvm.Cond.static ({ cls := "GraphlineLaw", name := "isLate", desc := "(LGraphline;I[J)I" } : Jvm.MethodName)) ∈ lw_all := lw_g (lw_at lw_m6 63 rfl) rfl
theorem q1281 : (Jvm.Cond.codeWith ({ cls := "GraphlineLaw", name := "isLate", desc := "(LGraphline;I[J)I" } : Jvm.MethodName) method_35_code (4 : Nat) (Option.some Jvm.ClassFile.FieldType.int) [((0 : Nat), (16 : Nat), (19 : Nat), (38 : Nat))]) ∈ lw_all := lw_g (lw_at lw_m6 64 rfl) rfl
theorem q1282 : (Jvm.Cond.methodLink "GraphlineLaw" (124 : Nat) ({ cls := "Graphline", name := "isLate", desc := "(I)Z" } : Jvm.MethodName)) ∈ lw_all := lw_g (lw_at lw_m6 65 rfl) rfl
theorem q1286 : (Jvm.Cond.methodLink "GraphlineLaw" (277 : Nat) ({ cls := "GraphlineLaw", name := "claim", desc := "(LGraphline;I[J)I" } : Jvm.MethodName)) ∈ lw_all := lw_g (lw_at lw_m6 69 rfl) rfl
theorem q1287 : (Jvm.Cond.static ({ cls := "GraphlineLaw", name := "claim", desc := "(LGraphline;I[J)I" } : Jvm.MethodName)) ∈ lw_all := lw_g (lw_at lw_m6 70 rfl) rfl
theorem q1288 : (Jvm.Cond.codeWith ({ cls := "GraphlineLaw", name := "claim", desc := "(LGraphline;I[J)I" } : Jvm.MethodName) method_36_code (4 : Nat) (Option.some Jvm.ClassFile.FieldType.int) [((0 : Nat), (16 : Nat), (19 : Nat), (38 : Nat))]) ∈ lw_all := lw_g (lw_at lw_m6 71 rfl) rfl
theorem q1289 : (Jvm.Cond.methodLink "GraphlineLaw" (128 : Nat) ({ cls := "Graphline", name := "claim", desc := "(I)Z" } : Jvm.MethodName)) ∈ lw_all := lw_g (lw_at lw_m6 72 rfl) rfl
theorem q1304 : (Jvm.Cond.methodLink "GraphlineLaw" (280 : Nat) ({ cls := "GraphlineLaw", name := "parts", desc := "(LGraphline;I[J)I" } : Jvm.MethodName)) ∈ lw_all := lw_g (lw_at lw_m6 87 rfl) rfl
theorem q1305 : (Jvm.Cond.static ({ cls := "GraphlineLaw", name := "parts", desc := "(LGraphline;I[J)I" } : Jvm.MethodName)) ∈ lw_all := lw_g (lw_at lw_m6 88 rfl) rfl
theorem q1306 : (Jvm.Cond.codeWith ({ cls := "GraphlineLaw", name := "parts", desc := "(LGraphline;I[J)I" } : Jvm.MethodName) method_37_code (4 : Nat) (Option.some Jvm.ClassFile.FieldType.int) [((0 : Nat), (9 : Nat), (12 : Nat), (38 : Nat))]) ∈ lw_all := lw_g (lw_at lw_m6 89 rfl) rfl
theorem q1307 : (Jvm.Cond.methodLink "GraphlineLaw" (131 : Nat) ({ cls := "Graphline", name := "parts", desc := "(I)I" } : Jvm.MethodName)) ∈ lw_all := lw_g (lw_at lw_m6 90 rfl) rfl
theorem q1311 : (Jvm.Cond.methodLink "GraphlineLaw" (283 : Nat) ({ cls := "GraphlineLaw", name := "trace", desc := "(LGraphline;IIC[J)I" } : Jvm.MethodName)) ∈ lw_all := lw_g (lw_at lw_m6 94 rfl) rfl
theorem q1312 : (Jvm.Cond.static ({ cls := "GraphlineLaw", name := "trace", desc := "(LGraphline;IIC[J)I" } : Jvm.MethodName)) ∈ lw_all := lw_g (lw_at lw_m6 95 rfl) rfl
theorem q1313 : (Jvm.Cond.codeWith ({ cls := "GraphlineLaw", name := "trace", desc := "(LGraphline;IIC[J)I" } : Jvm.MethodName) method_38_code (6 : Nat) (Option.some Jvm.ClassFile.FieldType.int) [((0 : Nat), (12 : Nat), (15 : Nat), (38 : Nat)), ((0 : Nat), (12 : Nat), (19 : Nat), (13 : Nat))]) ∈ lw_all := lw_g (lw_at lw_m6 96 rfl) rfl
theorem q1314 : (Jvm.Cond.methodLink "GraphlineLaw" (134 : Nat) ({ cls := "Graphline", name := "trace", desc := "(IIC)I" } : Jvm.MethodName)) ∈ lw_all := lw_g (lw_at lw_m6 97 rfl) rfl
theorem q1324 : (Jvm.Cond.methodLink "GraphlineLaw" (296 : Nat) ({ cls := "GraphlineLaw", name := "brokenShare", desc := "(LGraphline;[D)I" } : Jvm.MethodName)) ∈ lw_all := lw_g (lw_at lw_m6 107 rfl) rfl
theorem q1325 : (Jvm.Cond.static ({ cls := "GraphlineLaw", name := "brokenShare", desc := "(LGraphline;[D)I" } : Jvm.MethodName)) ∈ lw_all := lw_g (lw_at lw_m6 108 rfl) rfl
theorem q1326 : (Jvm.Cond.codeWith ({ cls := "GraphlineLaw", name := "brokenShare", desc := "(LGraphline;[D)I" } : Jvm.MethodName) method_39_code (3 : Nat) (Option.some Jvm.ClassFile.FieldType.int) [((0 : Nat), (8 : Nat), (11 : Nat), (142 : Nat))]) ∈ lw_all := lw_g (lw_at lw_m6 109 rfl) rfl
theorem q1327 : (Jvm.Cond.classLink "GraphlineLaw" (142 : Nat) "java/lang/ArithmeticException") ∈ lw_all := lw_g (lw_at lw_m6 110 rfl) rfl
theorem q1341 : (Jvm.Cond.methodLink "GraphlineLaw" (138 : Nat) ({ cls := "Graphline", name := "brokenShare", desc := "()F" } : Jvm.MethodName)) ∈ lw_all := lw_g (lw_at lw_m6 124 rfl) rfl
theorem q1354 : (Jvm.Cond.methodLink "GraphlineLaw" (300 : Nat) ({ cls := "GraphlineLaw", name := "meanDarkness", desc := "(LGraphline;[D)I" } : Jvm.MethodName)) ∈ lw_all := lw_g (lw_at lw_m6 137 rfl) rfl
theorem q1355 : (Jvm.Cond.static ({ cls := "GraphlineLaw", name := "meanDarkness", desc := "(LGraphline;[D)I" } : Jvm.MethodName)) ∈ lw_all := lw_g (lw_at lw_m6 138 rfl) rfl
theorem q1356 : (Jvm.Cond.codeWith ({ cls := "GraphlineLaw", name := "meanDarkness", desc := "(LGraphline;[D)I" } : Jvm.MethodName) method_40_code (3 : Nat) (Option.some Jvm.ClassFile.FieldType.int) [((0 : Nat), (7 : Nat), (10 : Nat), (142 : Nat))]) ∈ lw_all := lw_g (lw_at lw_m6 139 rfl) rfl
theorem q1357 : (Jvm.Cond.methodLink "GraphlineLaw" (144 : Nat) ({ cls := "Graphline", name := "meanDarkness", desc := "()D" } : Jvm.MethodName)) ∈ lw_all := lw_g (lw_at lw_m6 140 rfl) rfl
theorem q1377 : (Jvm.Cond.methodLink "GraphlineLaw" (158 : Nat) ({ cls := "GraphlineModel", name := "thrown", desc := "()I" } : Jvm.MethodName)) ∈ lw_all := lw_g (lw_at lw_m6 160 rfl) rfl
theorem q1381 : (Jvm.Cond.classLink "GraphlineLaw" (149 : Nat) "GraphlineModel") ∈ lw_all := lw_g (lw_at lw_m6 164 rfl) rfl
theorem q1383 : (Jvm.Cond.methodLink "GraphlineLaw" (151 : Nat) ({ cls := "GraphlineModel", name := "<init>", desc := "()V" } : Jvm.MethodName)) ∈ lw_all := lw_g (lw_at lw_m6 166 rfl) rfl
theorem q1444 : (Jvm.Cond.methodLink "GraphlineLaw" (157 : Nat) ({ cls := "GraphlineModel", name := "go", desc := "(I)I" } : Jvm.MethodName)) ∈ lw_all := lw_g (lw_at lw_m6 227 rfl) rfl
theorem q1460 : (Jvm.Cond.methodLink "GraphlineLaw" (166 : Nat) ({ cls := "GraphlineModel", name := "shaft", desc := "(Z)Z" } : Jvm.MethodName)) ∈ lw_all := lw_g (lw_at lw_m7 3 rfl) rfl
theorem q1464 : (Jvm.Cond.methodLink "GraphlineLaw" (170 : Nat) ({ cls := "GraphlineModel", name := "belt", desc := "(CC)C" } : Jvm.MethodName)) ∈ lw_all := lw_g (lw_at lw_m7 7 rfl) rfl
theorem q1471 : (Jvm.Cond.methodLink "GraphlineLaw" (174 : Nat) ({ cls := "GraphlineModel", name := "on", desc := "(CZ)Z" } : Jvm.MethodName)) ∈ lw_all := lw_g (lw_at lw_m7 14 rfl) rfl
theorem q1475 : (Jvm.Cond.methodLink "GraphlineLaw" (178 : Nat) ({ cls := "GraphlineModel", name := "runs", desc := "(C)Z" } : Jvm.MethodName)) ∈ lw_all := lw_g (lw_at lw_m7 18 rfl) rfl
theorem q1483 : (Jvm.Cond.methodLink "GraphlineLaw" (182 : Nat) ({ cls := "GraphlineModel", name := "lot", desc := "(CIII)I" } : Jvm.MethodName)) ∈ lw_all := lw_g (lw_at lw_m7 26 rfl) rfl
theorem q1494 : (Jvm.Cond.methodLink "GraphlineLaw" (185 : Nat) ({ cls := "GraphlineModel", name := "kilos", desc := "(I)I" } : Jvm.MethodName)) ∈ lw_all := lw_g (lw_at lw_m7 37 rfl) rfl
theorem q1508 : (Jvm.Cond.methodLink "GraphlineLaw" (189 : Nat) ({ cls := "GraphlineModel", name := "mix", desc := "(IIIII)I" } : Jvm.MethodName)) ∈ lw_all := lw_g (lw_at lw_m7 51 rfl) rfl
theorem q1514 : (Jvm.Cond.methodLink "GraphlineLaw" (193 : Nat) ({ cls := "GraphlineModel", name := "mixture", desc := "(IC)I" } : Jvm.MethodName)) ∈ lw_all := lw_g (lw_at lw_m7 57 rfl) rfl
theorem q1519 : (Jvm.Cond.methodLink "GraphlineLaw" (197 : Nat) ({ cls := "GraphlineModel", name := "press", desc := "(III)I" } : Jvm.MethodName)) ∈ lw_all := lw_g (lw_at lw_m7 62 rfl) rfl
theorem q1565 : (Jvm.Cond.methodLink "GraphlineLaw" (200 : Nat) ({ cls := "GraphlineModel", name := "worn", desc := "(I)I" } : Jvm.MethodName)) ∈ lw_all := lw_g (lw_at lw_m7 108 rfl) rfl
theorem q1569 : (Jvm.Cond.methodLink "GraphlineLaw" (203 : Nat) ({ cls := "GraphlineModel", name := "renew", desc := "(I)I" } : Jvm.MethodName)) ∈ lw_all := lw_g (lw_at lw_m7 112 rfl) rfl
theorem q1573 : (Jvm.Cond.methodLink "GraphlineLaw" (207 : Nat) ({ cls := "GraphlineModel", name := "dry", desc := "(II)I" } : Jvm.MethodName)) ∈ lw_all := lw_g (lw_at lw_m7 116 rfl) rfl
theorem q1586 : (Jvm.Cond.methodLink "GraphlineLaw" (211 : Nat) ({ cls := "GraphlineModel", name := "fire", desc := "(IIII)I" } : Jvm.MethodName)) ∈ lw_all := lw_g (lw_at lw_m7 129 rfl) rfl
theorem q1593 : (Jvm.Cond.methodLink "GraphlineLaw" (214 : Nat) ({ cls := "GraphlineModel", name := "soak", desc := "(II)I" } : Jvm.MethodName)) ∈ lw_all := lw_g (lw_at lw_m7 136 rfl) rfl
theorem q1601 : (Jvm.Cond.methodLink "GraphlineLaw" (217 : Nat) ({ cls := "GraphlineModel", name := "batch", desc := "(IC)I" } : Jvm.MethodName)) ∈ lw_all := lw_g (lw_at lw_m7 144 rfl) rfl
theorem q1606 : (Jvm.Cond.methodLink "GraphlineLaw" (220 : Nat) ({ cls := "GraphlineModel", name := "draw", desc := "(I)I" } : Jvm.MethodName)) ∈ lw_all := lw_g (lw_at lw_m7 149 rfl) rfl
theorem q1614 : (Jvm.Cond.methodLink "GraphlineLaw" (224 : Nat) ({ cls := "GraphlineModel", name := "check", desc := "()I" } : Jvm.MethodName)) ∈ lw_all := lw_g (lw_at lw_m7 157 rfl) rfl
theorem q1618 : (Jvm.Cond.methodLink "GraphlineLaw" (227 : Nat) ({ cls := "GraphlineModel", name := "slats", desc := "(CIII)I" } : Jvm.MethodName)) ∈ lw_all := lw_g (lw_at lw_m7 161 rfl) rfl
theorem q1648 : (Jvm.Cond.methodLink "GraphlineLaw" (230 : Nat) ({ cls := "GraphlineModel", name := "season", desc := "(II)I" } : Jvm.MethodName)) ∈ lw_all := lw_g (lw_at lw_m7 191 rfl) rfl
theorem q1657 : (Jvm.Cond.methodLink "GraphlineLaw" (233 : Nat) ({ cls := "GraphlineModel", name := "groove", desc := "(II)I" } : Jvm.MethodName)) ∈ lw_all := lw_g (lw_at lw_m7 200 rfl) rfl
theorem q1662 : (Jvm.Cond.methodLink "GraphlineLaw" (236 : Nat) ({ cls := "GraphlineModel", name := "slat", desc := "(IC)I" } : Jvm.MethodName)) ∈ lw_all := lw_g (lw_at lw_m7 205 rfl) rfl
theorem q1667 : (Jvm.Cond.methodLink "GraphlineLaw" (240 : Nat) ({ cls := "GraphlineModel", name := "lay", desc := "(IICII)I" } : Jvm.MethodName)) ∈ lw_all := lw_g (lw_at lw_m7 210 rfl) rfl
theorem q1715 : (Jvm.Cond.methodLink "GraphlineLaw" (243 : Nat) ({ cls := "GraphlineModel", name := "coat", desc := "(II)I" } : Jvm.MethodName)) ∈ lw_all := lw_g (lw_at lw_m8 18 rfl) rfl
theorem q1723 : (Jvm.Cond.methodLink "GraphlineLaw" (246 : Nat) ({ cls := "GraphlineModel", name := "stamp", desc := "(I)I" } : Jvm.MethodName)) ∈ lw_all := lw_g (lw_at lw_m8 26 rfl) rfl
theorem q1727 : (Jvm.Cond.methodLink "GraphlineLaw" (249 : Nat) ({ cls := "GraphlineModel", name := "erase", desc := "(II)I" } : Jvm.MethodName)) ∈ lw_all := lw_g (lw_at lw_m8 30 rfl) rfl
theorem q1731 : (Jvm.Cond.methodLink "GraphlineLaw" (252 : Nat) ({ cls := "GraphlineModel", name := "run", desc := "(IC)I" } : Jvm.MethodName)) ∈ lw_all := lw_g (lw_at lw_m8 34 rfl) rfl
theorem q1736 : (Jvm.Cond.methodLink "GraphlineLaw" (255 : Nat) ({ cls := "GraphlineModel", name := "fall", desc := "(II)I" } : Jvm.MethodName)) ∈ lw_all := lw_g (lw_at lw_m8 39 rfl) rfl
theorem q1740 : (Jvm.Cond.methodLink "GraphlineLaw" (258 : Nat) ({ cls := "GraphlineModel", name := "sample", desc := "(II)I" } : Jvm.MethodName)) ∈ lw_all := lw_g (lw_at lw_m8 43 rfl) rfl
theorem q1746 : (Jvm.Cond.methodLink "GraphlineLaw" (261 : Nat) ({ cls := "GraphlineModel", name := "seed", desc := "(I)I" } : Jvm.MethodName)) ∈ lw_all := lw_g (lw_at lw_m8 49 rfl) rfl
theorem q1751 : (Jvm.Cond.methodLink "GraphlineLaw" (264 : Nat) ({ cls := "GraphlineModel", name := "gross", desc := "(I)I" } : Jvm.MethodName)) ∈ lw_all := lw_g (lw_at lw_m8 54 rfl) rfl
theorem q1775 : (Jvm.Cond.methodLink "GraphlineLaw" (267 : Nat) ({ cls := "GraphlineModel", name := "pack", desc := "(III)I" } : Jvm.MethodName)) ∈ lw_all := lw_g (lw_at lw_m8 78 rfl) rfl
theorem q1791 : (Jvm.Cond.methodLink "GraphlineLaw" (270 : Nat) ({ cls := "GraphlineModel", name := "order", desc := "(III)I" } : Jvm.MethodName)) ∈ lw_all := lw_g (lw_at lw_m8 94 rfl) rfl
theorem q1796 : (Jvm.Cond.methodLink "GraphlineLaw" (273 : Nat) ({ cls := "GraphlineModel", name := "ship", desc := "(II)I" } : Jvm.MethodName)) ∈ lw_all := lw_g (lw_at lw_m8 99 rfl) rfl
theorem q1800 : (Jvm.Cond.methodLink "GraphlineLaw" (276 : Nat) ({ cls := "GraphlineModel", name := "isLate", desc := "(I)Z" } : Jvm.MethodName)) ∈ lw_all := lw_g (lw_at lw_m8 103 rfl) rfl
theorem q1804 : (Jvm.Cond.methodLink "GraphlineLaw" (279 : Nat) ({ cls := "GraphlineModel", name := "claim", desc := "(I)Z" } : Jvm.MethodName)) ∈ lw_all := lw_g (lw_at lw_m8 107 rfl) rfl
theorem q1818 : (Jvm.Cond.methodLink "GraphlineLaw" (282 : Nat) ({ cls := "GraphlineModel", name := "parts", desc := "(I)I" } : Jvm.MethodName)) ∈ lw_all := lw_g (lw_at lw_m8 121 rfl) rfl
theorem q1822 : (Jvm.Cond.methodLink "GraphlineLaw" (286 : Nat) ({ cls := "GraphlineModel", name := "trace", desc := "(IIC)I" } : Jvm.MethodName)) ∈ lw_all := lw_g (lw_at lw_m8 125 rfl) rfl
theorem q1827 : (Jvm.Cond.methodLink "GraphlineLaw" (290 : Nat) ({ cls := "GraphlineModel", name := "missing", desc := "()I" } : Jvm.MethodName)) ∈ lw_all := lw_g (lw_at lw_m8 130 rfl) rfl
theorem q1831 : (Jvm.Cond.methodLink "GraphlineLaw" (295 : Nat) ({ cls := "GraphlineModel", name := "checksum", desc := "()J" } : Jvm.MethodName)) ∈ lw_all := lw_g (lw_at lw_m8 134 rfl) rfl
theorem q1837 : (Jvm.Cond.methodLink "GraphlineLaw" (299 : Nat) ({ cls := "GraphlineModel", name := "brokenShare", desc := "()F" } : Jvm.MethodName)) ∈ lw_all := lw_g (lw_at lw_m8 140 rfl) rfl
theorem q1841 : (Jvm.Cond.methodLink "GraphlineLaw" (302 : Nat) ({ cls := "GraphlineModel", name := "meanDarkness", desc := "()D" } : Jvm.MethodName)) ∈ lw_all := lw_g (lw_at lw_m8 144 rfl) rfl
theorem q1845 : (Jvm.Cond.methodLink "GraphlineLaw" (307 : Nat) ({ cls := "GraphlineModel", name := "isSound", desc := "()Z" } : Jvm.MethodName)) ∈ lw_all := lw_g (lw_at lw_m8 148 rfl) rfl
