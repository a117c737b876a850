/-! GraphlineModel -/
set_option maxRecDepth 100000
def RX3 : String := "GraphlineModel"
def TX3 : u_T := fun k => match k with
  | 0 => ("GraphlineModel", "thrown", "I", false)
  | 1 => ("GraphlineModel", "clock", "I", false)
  | 2 => ("GraphlineModel", "shaft", "Z", false)
  | 3 => ("GraphlineModel", "isOn", "[Z", true)
  | 4 => ("GraphlineModel", "driven", "[I", true)
  | 5 => ("GraphlineModel", "lots", "Ljava/util/List;", true)
  | 6 => ("GraphlineModel", "mixtures", "Ljava/util/List;", true)
  | 7 => ("GraphlineModel", "dies", "[I", true)
  | 8 => ("GraphlineModel", "kilns", "[I", true)
  | 9 => ("GraphlineModel", "batches", "Ljava/util/List;", true)
  | 10 => ("GraphlineModel", "slats", "Ljava/util/List;", true)
  | 11 => ("GraphlineModel", "runs", "Ljava/util/List;", true)
  | 12 => ("GraphlineModel", "grosses", "Ljava/util/List;", true)
  | 13 => ("GraphlineModel", "orders", "Ljava/util/List;", true)
  | 14 => ("GraphlineModel", "firings", "I", false)
  | 15 => ("GraphlineModel", "draws", "I", false)
  | 16 => ("GraphlineModel", "bias", "I", false)
  | _ => ("GraphlineModel", "z", "I", false)
def tyX3 : Nat → FieldType := fun k => match k with
  | 0 => .int
  | 1 => .int
  | 2 => .boolean
  | 3 => .array .boolean
  | 4 => .array .int
  | 5 => .object "java/util/List"
  | 6 => .object "java/util/List"
  | 7 => .array .int
  | 8 => .array .int
  | 9 => .object "java/util/List"
  | 10 => .object "java/util/List"
  | 11 => .object "java/util/List"
  | 12 => .object "java/util/List"
  | 13 => .object "java/util/List"
  | 14 => .int
  | 15 => .int
  | 16 => .int
  | _ => .int
abbrev wsX30 : List Cond := u_ws RX3 TX3 18
set_option maxRecDepth 100000 in
theorem nmX3 : ∀ a, a < 18 → ∀ b, b < 18 → a ≠ b → (TX3 a).2.1 ≠ (TX3 b).2.1 := by decide +kernel
set_option maxRecDepth 100000 in
theorem tyX3_ok : ∀ k, k < 18 → parseFieldDescriptor (TX3 k).2.2.1 = some (tyX3 k) := by decide +kernel
abbrev cX3_thrown : ByteArray := prog_15_method_1_code
def yX3_thrown : MethodName := ⟨RX3, "thrown", "()I"⟩
theorem dX3_thrown_0 : decode cX3_thrown 0 = .ok (.aload_n 0, 1) := by decide +kernel
theorem dX3_thrown_1 : decode cX3_thrown 1 = .ok (.getfield 1, 3) := by decide +kernel
theorem dX3_thrown_4 : decode cX3_thrown 4 = .ok (.ireturn, 1) := by decide +kernel
abbrev cX3_init : ByteArray := prog_15_method_6_code
def yX3_init : MethodName := ⟨RX3, "<init>", "()V"⟩
def dkwX3_init_6 : List UInt8 := [183, 0, 37, 181, 0, 63, 42, 4, 181, 0, 66, 177]
abbrev dktX3_init_6 : List UInt8 := dkwX3_init_6 ++ []
def dkwX3_init_5 : List UInt8 := [183, 0, 37, 181, 0, 57, 42, 187, 0, 35, 89, 183, 0, 37, 181, 0, 60, 42, 187, 0, 35, 89]
abbrev dktX3_init_5 : List UInt8 := dkwX3_init_5 ++ dktX3_init_6
def dkwX3_init_4 : List UInt8 := [89, 183, 0, 37, 181, 0, 51, 42, 187, 0, 35, 89, 183, 0, 37, 181, 0, 54, 42, 187, 0, 35, 89]
abbrev dktX3_init_4 : List UInt8 := dkwX3_init_4 ++ dktX3_init_5
def dkwX3_init_3 : List UInt8 := [183, 0, 37, 181, 0, 42, 42, 7, 188, 10, 181, 0, 45, 42, 5, 188, 10, 181, 0, 48, 42, 187, 0, 35]
abbrev dktX3_init_3 : List UInt8 := dkwX3_init_3 ++ dktX3_init_4
def dkwX3_init_2 : List UInt8 := [89, 6, 2, 79, 181, 0, 31, 42, 187, 0, 35, 89, 183, 0, 37, 181, 0, 38, 42, 187, 0, 35, 89]
abbrev dktX3_init_2 : List UInt8 := dkwX3_init_2 ++ dktX3_init_3
def dkwX3_init_1 : List UInt8 := [84, 89, 6, 4, 84, 181, 0, 27, 42, 7, 188, 10, 89, 3, 2, 79, 89, 4, 2, 79, 89, 5, 2, 79]
abbrev dktX3_init_1 : List UInt8 := dkwX3_init_1 ++ dktX3_init_2
def dkwX3_init_0 : List UInt8 := [42, 183, 0, 17, 42, 4, 181, 0, 23, 42, 7, 188, 4, 89, 3, 4, 84, 89, 4, 4, 84, 89, 5, 4]
abbrev dktX3_init_0 : List UInt8 := dkwX3_init_0 ++ dktX3_init_1
theorem dksX3_init_0 : cX3_init.data.toList.drop 0 = dktX3_init_0 := by decide +kernel
theorem dksX3_init_1 : cX3_init.data.toList.drop 24 = dktX3_init_1 := dk_seg dksX3_init_0 24 rfl rfl
theorem dksX3_init_2 : cX3_init.data.toList.drop 48 = dktX3_init_2 := dk_seg dksX3_init_1 24 rfl rfl
theorem dksX3_init_3 : cX3_init.data.toList.drop 71 = dktX3_init_3 := dk_seg dksX3_init_2 23 rfl rfl
theorem dksX3_init_4 : cX3_init.data.toList.drop 95 = dktX3_init_4 := dk_seg dksX3_init_3 24 rfl rfl
theorem dksX3_init_5 : cX3_init.data.toList.drop 118 = dktX3_init_5 := dk_seg dksX3_init_4 23 rfl rfl
theorem dksX3_init_6 : cX3_init.data.toList.drop 140 = dktX3_init_6 := dk_seg dksX3_init_5 22 rfl rfl
theorem dX3_init_0 : decode cX3_init 0 = .ok (.aload_n 0, 1) := dk_42 (dk_at dksX3_init_0 0 rfl rfl)
theorem dX3_init_1 : decode cX3_init 1 = .ok (.invokespecial 17, 3) := dk_183 0 17 (dk_at dksX3_init_0 1 rfl rfl)
theorem dX3_init_4 : decode cX3_init 4 = .ok (.aload_n 0, 1) := dk_42 (dk_at dksX3_init_0 4 rfl rfl)
theorem dX3_init_5 : decode cX3_init 5 = .ok (.iconst 1, 1) := dk_4 (dk_at dksX3_init_0 5 rfl rfl)
theorem dX3_init_6 : decode cX3_init 6 = .ok (.putfield 23, 3) := dk_181 0 23 (dk_at dksX3_init_0 6 rfl rfl)
theorem dX3_init_9 : decode cX3_init 9 = .ok (.aload_n 0, 1) := dk_42 (dk_at dksX3_init_0 9 rfl rfl)
theorem dX3_init_10 : decode cX3_init 10 = .ok (.iconst 4, 1) := dk_7 (dk_at dksX3_init_0 10 rfl rfl)
theorem dX3_init_11 : decode cX3_init 11 = .ok (.newarray .boolean, 2) := dk_188_4 (dk_at dksX3_init_0 11 rfl rfl)
theorem dX3_init_13 : decode cX3_init 13 = .ok (.dup, 1) := dk_89 (dk_at dksX3_init_0 13 rfl rfl)
theorem dX3_init_14 : decode cX3_init 14 = .ok (.iconst 0, 1) := dk_3 (dk_at dksX3_init_0 14 rfl rfl)
theorem dX3_init_15 : decode cX3_init 15 = .ok (.iconst 1, 1) := dk_4 (dk_at dksX3_init_0 15 rfl rfl)
theorem dX3_init_16 : decode cX3_init 16 = .ok (.bastore, 1) := dk_84 (dk_at dksX3_init_0 16 rfl rfl)
theorem dX3_init_17 : decode cX3_init 17 = .ok (.dup, 1) := dk_89 (dk_at dksX3_init_0 17 rfl rfl)
theorem dX3_init_18 : decode cX3_init 18 = .ok (.iconst 1, 1) := dk_4 (dk_at dksX3_init_0 18 rfl rfl)
theorem dX3_init_19 : decode cX3_init 19 = .ok (.iconst 1, 1) := dk_4 (dk_at dksX3_init_0 19 rfl rfl)
theorem dX3_init_20 : decode cX3_init 20 = .ok (.bastore, 1) := dk_84 (dk_at dksX3_init_0 20 rfl rfl)
theorem dX3_init_21 : decode cX3_init 21 = .ok (.dup, 1) := dk_89 (dk_at dksX3_init_0 21 rfl rfl)
theorem dX3_init_22 : decode cX3_init 22 = .ok (.iconst 2, 1) := dk_5 (dk_at dksX3_init_0 22 rfl rfl)
theorem dX3_init_23 : decode cX3_init 23 = .ok (.iconst 1, 1) := dk_4 (dk_at dksX3_init_0 23 rfl rfl)
theorem dX3_init_24 : decode cX3_init 24 = .ok (.bastore, 1) := dk_84 (dk_at dksX3_init_1 0 rfl rfl)
theorem dX3_init_25 : decode cX3_init 25 = .ok (.dup, 1) := dk_89 (dk_at dksX3_init_1 1 rfl rfl)
theorem dX3_init_26 : decode cX3_init 26 = .ok (.iconst 3, 1) := dk_6 (dk_at dksX3_init_1 2 rfl rfl)
theorem dX3_init_27 : decode cX3_init 27 = .ok (.iconst 1, 1) := dk_4 (dk_at dksX3_init_1 3 rfl rfl)
theorem dX3_init_28 : decode cX3_init 28 = .ok (.bastore, 1) := dk_84 (dk_at dksX3_init_1 4 rfl rfl)
theorem dX3_init_29 : decode cX3_init 29 = .ok (.putfield 27, 3) := dk_181 0 27 (dk_at dksX3_init_1 5 rfl rfl)
theorem dX3_init_32 : decode cX3_init 32 = .ok (.aload_n 0, 1) := dk_42 (dk_at dksX3_init_1 8 rfl rfl)
theorem dX3_init_33 : decode cX3_init 33 = .ok (.iconst 4, 1) := dk_7 (dk_at dksX3_init_1 9 rfl rfl)
theorem dX3_init_34 : decode cX3_init 34 = .ok (.newarray .int, 2) := dk_188_10 (dk_at dksX3_init_1 10 rfl rfl)
theorem dX3_init_36 : decode cX3_init 36 = .ok (.dup, 1) := dk_89 (dk_at dksX3_init_1 12 rfl rfl)
theorem dX3_init_37 : decode cX3_init 37 = .ok (.iconst 0, 1) := dk_3 (dk_at dksX3_init_1 13 rfl rfl)
theorem dX3_init_38 : decode cX3_init 38 = .ok (.iconst (-1), 1) := dk_2 (dk_at dksX3_init_1 14 rfl rfl)
theorem dX3_init_39 : decode cX3_init 39 = .ok (.iastore, 1) := dk_79 (dk_at dksX3_init_1 15 rfl rfl)
theorem dX3_init_40 : decode cX3_init 40 = .ok (.dup, 1) := dk_89 (dk_at dksX3_init_1 16 rfl rfl)
theorem dX3_init_41 : decode cX3_init 41 = .ok (.iconst 1, 1) := dk_4 (dk_at dksX3_init_1 17 rfl rfl)
theorem dX3_init_42 : decode cX3_init 42 = .ok (.iconst (-1), 1) := dk_2 (dk_at dksX3_init_1 18 rfl rfl)
theorem dX3_init_43 : decode cX3_init 43 = .ok (.iastore, 1) := dk_79 (dk_at dksX3_init_1 19 rfl rfl)
theorem dX3_init_44 : decode cX3_init 44 = .ok (.dup, 1) := dk_89 (dk_at dksX3_init_1 20 rfl rfl)
theorem dX3_init_45 : decode cX3_init 45 = .ok (.iconst 2, 1) := dk_5 (dk_at dksX3_init_1 21 rfl rfl)
theorem dX3_init_46 : decode cX3_init 46 = .ok (.iconst (-1), 1) := dk_2 (dk_at dksX3_init_1 22 rfl rfl)
theorem dX3_init_47 : decode cX3_init 47 = .ok (.iastore, 1) := dk_79 (dk_at dksX3_init_1 23 rfl rfl)
theorem dX3_init_48 : decode cX3_init 48 = .ok (.dup, 1) := dk_89 (dk_at dksX3_init_2 0 rfl rfl)
theorem dX3_init_49 : decode cX3_init 49 = .ok (.iconst 3, 1) := dk_6 (dk_at dksX3_init_2 1 rfl rfl)
theorem dX3_init_50 : decode cX3_init 50 = .ok (.iconst (-1), 1) := dk_2 (dk_at dksX3_init_2 2 rfl rfl)
theorem dX3_init_51 : decode cX3_init 51 = .ok (.iastore, 1) := dk_79 (dk_at dksX3_init_2 3 rfl rfl)
theorem dX3_init_52 : decode cX3_init 52 = .ok (.putfield 31, 3) := dk_181 0 31 (dk_at dksX3_init_2 4 rfl rfl)
theorem dX3_init_55 : decode cX3_init 55 = .ok (.aload_n 0, 1) := dk_42 (dk_at dksX3_init_2 7 rfl rfl)
theorem dX3_init_56 : decode cX3_init 56 = .ok (.new 35, 3) := dk_187 0 35 (dk_at dksX3_init_2 8 rfl rfl)
theorem dX3_init_59 : decode cX3_init 59 = .ok (.dup, 1) := dk_89 (dk_at dksX3_init_2 11 rfl rfl)
theorem dX3_init_60 : decode cX3_init 60 = .ok (.invokespecial 37, 3) := dk_183 0 37 (dk_at dksX3_init_2 12 rfl rfl)
theorem dX3_init_63 : decode cX3_init 63 = .ok (.putfield 38, 3) := dk_181 0 38 (dk_at dksX3_init_2 15 rfl rfl)
theorem dX3_init_66 : decode cX3_init 66 = .ok (.aload_n 0, 1) := dk_42 (dk_at dksX3_init_2 18 rfl rfl)
theorem dX3_init_67 : decode cX3_init 67 = .ok (.new 35, 3) := dk_187 0 35 (dk_at dksX3_init_2 19 rfl rfl)
theorem dX3_init_70 : decode cX3_init 70 = .ok (.dup, 1) := dk_89 (dk_at dksX3_init_2 22 rfl rfl)
theorem dX3_init_71 : decode cX3_init 71 = .ok (.invokespecial 37, 3) := dk_183 0 37 (dk_at dksX3_init_3 0 rfl rfl)
theorem dX3_init_74 : decode cX3_init 74 = .ok (.putfield 42, 3) := dk_181 0 42 (dk_at dksX3_init_3 3 rfl rfl)
theorem dX3_init_77 : decode cX3_init 77 = .ok (.aload_n 0, 1) := dk_42 (dk_at dksX3_init_3 6 rfl rfl)
theorem dX3_init_78 : decode cX3_init 78 = .ok (.iconst 4, 1) := dk_7 (dk_at dksX3_init_3 7 rfl rfl)
theorem dX3_init_79 : decode cX3_init 79 = .ok (.newarray .int, 2) := dk_188_10 (dk_at dksX3_init_3 8 rfl rfl)
theorem dX3_init_81 : decode cX3_init 81 = .ok (.putfield 45, 3) := dk_181 0 45 (dk_at dksX3_init_3 10 rfl rfl)
theorem dX3_init_84 : decode cX3_init 84 = .ok (.aload_n 0, 1) := dk_42 (dk_at dksX3_init_3 13 rfl rfl)
theorem dX3_init_85 : decode cX3_init 85 = .ok (.iconst 2, 1) := dk_5 (dk_at dksX3_init_3 14 rfl rfl)
theorem dX3_init_86 : decode cX3_init 86 = .ok (.newarray .int, 2) := dk_188_10 (dk_at dksX3_init_3 15 rfl rfl)
theorem dX3_init_88 : decode cX3_init 88 = .ok (.putfield 48, 3) := dk_181 0 48 (dk_at dksX3_init_3 17 rfl rfl)
theorem dX3_init_91 : decode cX3_init 91 = .ok (.aload_n 0, 1) := dk_42 (dk_at dksX3_init_3 20 rfl rfl)
theorem dX3_init_92 : decode cX3_init 92 = .ok (.new 35, 3) := dk_187 0 35 (dk_at dksX3_init_3 21 rfl rfl)
theorem dX3_init_95 : decode cX3_init 95 = .ok (.dup, 1) := dk_89 (dk_at dksX3_init_4 0 rfl rfl)
theorem dX3_init_96 : decode cX3_init 96 = .ok (.invokespecial 37, 3) := dk_183 0 37 (dk_at dksX3_init_4 1 rfl rfl)
theorem dX3_init_99 : decode cX3_init 99 = .ok (.putfield 51, 3) := dk_181 0 51 (dk_at dksX3_init_4 4 rfl rfl)
theorem dX3_init_102 : decode cX3_init 102 = .ok (.aload_n 0, 1) := dk_42 (dk_at dksX3_init_4 7 rfl rfl)
theorem dX3_init_103 : decode cX3_init 103 = .ok (.new 35, 3) := dk_187 0 35 (dk_at dksX3_init_4 8 rfl rfl)
theorem dX3_init_106 : decode cX3_init 106 = .ok (.dup, 1) := dk_89 (dk_at dksX3_init_4 11 rfl rfl)
theorem dX3_init_107 : decode cX3_init 107 = .ok (.invokespecial 37, 3) := dk_183 0 37 (dk_at dksX3_init_4 12 rfl rfl)
theorem dX3_init_110 : decode cX3_init 110 = .ok (.putfield 54, 3) := dk_181 0 54 (dk_at dksX3_init_4 15 rfl rfl)
theorem dX3_init_113 : decode cX3_init 113 = .ok (.aload_n 0, 1) := dk_42 (dk_at dksX3_init_4 18 rfl rfl)
theorem dX3_init_114 : decode cX3_init 114 = .ok (.new 35, 3) := dk_187 0 35 (dk_at dksX3_init_4 19 rfl rfl)
theorem dX3_init_117 : decode cX3_init 117 = .ok (.dup, 1) := dk_89 (dk_at dksX3_init_4 22 rfl rfl)
theorem dX3_init_118 : decode cX3_init 118 = .ok (.invokespecial 37, 3) := dk_183 0 37 (dk_at dksX3_init_5 0 rfl rfl)
theorem dX3_init_121 : decode cX3_init 121 = .ok (.putfield 57, 3) := dk_181 0 57 (dk_at dksX3_init_5 3 rfl rfl)
theorem dX3_init_124 : decode cX3_init 124 = .ok (.aload_n 0, 1) := dk_42 (dk_at dksX3_init_5 6 rfl rfl)
theorem dX3_init_125 : decode cX3_init 125 = .ok (.new 35, 3) := dk_187 0 35 (dk_at dksX3_init_5 7 rfl rfl)
theorem dX3_init_128 : decode cX3_init 128 = .ok (.dup, 1) := dk_89 (dk_at dksX3_init_5 10 rfl rfl)
theorem dX3_init_129 : decode cX3_init 129 = .ok (.invokespecial 37, 3) := dk_183 0 37 (dk_at dksX3_init_5 11 rfl rfl)
theorem dX3_init_132 : decode cX3_init 132 = .ok (.putfield 60, 3) := dk_181 0 60 (dk_at dksX3_init_5 14 rfl rfl)
theorem dX3_init_135 : decode cX3_init 135 = .ok (.aload_n 0, 1) := dk_42 (dk_at dksX3_init_5 17 rfl rfl)
theorem dX3_init_136 : decode cX3_init 136 = .ok (.new 35, 3) := dk_187 0 35 (dk_at dksX3_init_5 18 rfl rfl)
theorem dX3_init_139 : decode cX3_init 139 = .ok (.dup, 1) := dk_89 (dk_at dksX3_init_5 21 rfl rfl)
theorem dX3_init_140 : decode cX3_init 140 = .ok (.invokespecial 37, 3) := dk_183 0 37 (dk_at dksX3_init_6 0 rfl rfl)
theorem dX3_init_143 : decode cX3_init 143 = .ok (.putfield 63, 3) := dk_181 0 63 (dk_at dksX3_init_6 3 rfl rfl)
theorem dX3_init_146 : decode cX3_init 146 = .ok (.aload_n 0, 1) := dk_42 (dk_at dksX3_init_6 6 rfl rfl)
theorem dX3_init_147 : decode cX3_init 147 = .ok (.iconst 1, 1) := dk_4 (dk_at dksX3_init_6 7 rfl rfl)
theorem dX3_init_148 : decode cX3_init 148 = .ok (.putfield 66, 3) := dk_181 0 66 (dk_at dksX3_init_6 8 rfl rfl)
theorem dX3_init_151 : decode cX3_init 151 = .ok (.return_, 1) := dk_177 (dk_at dksX3_init_6 11 rfl rfl)
abbrev cX3_go : ByteArray := prog_15_method_7_code
def yX3_go : MethodName := ⟨RX3, "go", "(I)I"⟩
def dkwX3_go_2 : List UInt8 := [5, 182, 0, 74, 153, 0, 5, 2, 172, 42, 89, 180, 0, 78, 27, 96, 181, 0, 78, 42, 180, 0, 78, 172]
abbrev dktX3_go_2 : List UInt8 := dkwX3_go_2 ++ []
def dkwX3_go_1 : List UInt8 := [182, 0, 74, 154, 0, 28, 42, 42, 180, 0, 78, 27, 96, 17, 39, 15, 164, 0, 7, 4, 167, 0, 4, 3]
abbrev dktX3_go_1 : List UInt8 := dkwX3_go_1 ++ dktX3_go_2
def dkwX3_go_0 : List UInt8 := [42, 182, 0, 69, 42, 27, 133, 10, 20, 0, 72, 184, 0, 13, 154, 0, 7, 4, 167, 0, 4, 3, 4]
abbrev dktX3_go_0 : List UInt8 := dkwX3_go_0 ++ dktX3_go_1
theorem dksX3_go_0 : cX3_go.data.toList.drop 0 = dktX3_go_0 := by decide +kernel
theorem dksX3_go_1 : cX3_go.data.toList.drop 23 = dktX3_go_1 := dk_seg dksX3_go_0 23 rfl rfl
theorem dksX3_go_2 : cX3_go.data.toList.drop 47 = dktX3_go_2 := dk_seg dksX3_go_1 24 rfl rfl
theorem dX3_go_0 : decode cX3_go 0 = .ok (.aload_n 0, 1) := dk_42 (dk_at dksX3_go_0 0 rfl rfl)
theorem dX3_go_1 : decode cX3_go 1 = .ok (.invokevirtual 69, 3) := dk_182 0 69 (dk_at dksX3_go_0 1 rfl rfl)
theorem dX3_go_4 : decode cX3_go 4 = .ok (.aload_n 0, 1) := dk_42 (dk_at dksX3_go_0 4 rfl rfl)
theorem dX3_go_5 : decode cX3_go 5 = .ok (.iload_n 1, 1) := dk_27 (dk_at dksX3_go_0 5 rfl rfl)
theorem dX3_go_6 : decode cX3_go 6 = .ok (.i2l, 1) := dk_133 (dk_at dksX3_go_0 6 rfl rfl)
theorem dX3_go_7 : decode cX3_go 7 = .ok (.lconst 1, 1) := dk_10 (dk_at dksX3_go_0 7 rfl rfl)
theorem dX3_go_8 : decode cX3_go 8 = .ok (.ldc2_w 72, 3) := dk_20 0 72 (dk_at dksX3_go_0 8 rfl rfl)
theorem dX3_go_11 : decode cX3_go 11 = .ok (.invokestatic 13, 3) := dk_184 0 13 (dk_at dksX3_go_0 11 rfl rfl)
theorem dX3_go_14 : decode cX3_go 14 = .ok (.ifCond .ne 7, 3) := dk_154 0 7 (dk_at dksX3_go_0 14 rfl rfl)
theorem dX3_go_17 : decode cX3_go 17 = .ok (.iconst 1, 1) := dk_4 (dk_at dksX3_go_0 17 rfl rfl)
theorem dX3_go_18 : decode cX3_go 18 = .ok (.goto 4, 3) := dk_167 0 4 (dk_at dksX3_go_0 18 rfl rfl)
theorem dX3_go_21 : decode cX3_go 21 = .ok (.iconst 0, 1) := dk_3 (dk_at dksX3_go_0 21 rfl rfl)
theorem dX3_go_22 : decode cX3_go 22 = .ok (.iconst 1, 1) := dk_4 (dk_at dksX3_go_0 22 rfl rfl)
theorem dX3_go_23 : decode cX3_go 23 = .ok (.invokevirtual 74, 3) := dk_182 0 74 (dk_at dksX3_go_1 0 rfl rfl)
theorem dX3_go_26 : decode cX3_go 26 = .ok (.ifCond .ne 28, 3) := dk_154 0 28 (dk_at dksX3_go_1 3 rfl rfl)
theorem dX3_go_29 : decode cX3_go 29 = .ok (.aload_n 0, 1) := dk_42 (dk_at dksX3_go_1 6 rfl rfl)
theorem dX3_go_30 : decode cX3_go 30 = .ok (.aload_n 0, 1) := dk_42 (dk_at dksX3_go_1 7 rfl rfl)
theorem dX3_go_31 : decode cX3_go 31 = .ok (.getfield 78, 3) := dk_180 0 78 (dk_at dksX3_go_1 8 rfl rfl)
theorem dX3_go_34 : decode cX3_go 34 = .ok (.iload_n 1, 1) := dk_27 (dk_at dksX3_go_1 11 rfl rfl)
theorem dX3_go_35 : decode cX3_go 35 = .ok (.iadd, 1) := dk_96 (dk_at dksX3_go_1 12 rfl rfl)
theorem dX3_go_36 : decode cX3_go 36 = .ok (.sipush 9999, 3) := dk_17 39 15 (dk_at dksX3_go_1 13 rfl rfl)
theorem dX3_go_39 : decode cX3_go 39 = .ok (.if_icmp .le 7, 3) := dk_164 0 7 (dk_at dksX3_go_1 16 rfl rfl)
theorem dX3_go_42 : decode cX3_go 42 = .ok (.iconst 1, 1) := dk_4 (dk_at dksX3_go_1 19 rfl rfl)
theorem dX3_go_43 : decode cX3_go 43 = .ok (.goto 4, 3) := dk_167 0 4 (dk_at dksX3_go_1 20 rfl rfl)
theorem dX3_go_46 : decode cX3_go 46 = .ok (.iconst 0, 1) := dk_3 (dk_at dksX3_go_1 23 rfl rfl)
theorem dX3_go_47 : decode cX3_go 47 = .ok (.iconst 2, 1) := dk_5 (dk_at dksX3_go_2 0 rfl rfl)
theorem dX3_go_48 : decode cX3_go 48 = .ok (.invokevirtual 74, 3) := dk_182 0 74 (dk_at dksX3_go_2 1 rfl rfl)
theorem dX3_go_51 : decode cX3_go 51 = .ok (.ifCond .eq 5, 3) := dk_153 0 5 (dk_at dksX3_go_2 4 rfl rfl)
theorem dX3_go_54 : decode cX3_go 54 = .ok (.iconst (-1), 1) := dk_2 (dk_at dksX3_go_2 7 rfl rfl)
theorem dX3_go_55 : decode cX3_go 55 = .ok (.ireturn, 1) := dk_172 (dk_at dksX3_go_2 8 rfl rfl)
theorem dX3_go_56 : decode cX3_go 56 = .ok (.aload_n 0, 1) := dk_42 (dk_at dksX3_go_2 9 rfl rfl)
theorem dX3_go_57 : decode cX3_go 57 = .ok (.dup, 1) := dk_89 (dk_at dksX3_go_2 10 rfl rfl)
theorem dX3_go_58 : decode cX3_go 58 = .ok (.getfield 78, 3) := dk_180 0 78 (dk_at dksX3_go_2 11 rfl rfl)
theorem dX3_go_61 : decode cX3_go 61 = .ok (.iload_n 1, 1) := dk_27 (dk_at dksX3_go_2 14 rfl rfl)
theorem dX3_go_62 : decode cX3_go 62 = .ok (.iadd, 1) := dk_96 (dk_at dksX3_go_2 15 rfl rfl)
theorem dX3_go_63 : decode cX3_go 63 = .ok (.putfield 78, 3) := dk_181 0 78 (dk_at dksX3_go_2 16 rfl rfl)
theorem dX3_go_66 : decode cX3_go 66 = .ok (.aload_n 0, 1) := dk_42 (dk_at dksX3_go_2 19 rfl rfl)
theorem dX3_go_67 : decode cX3_go 67 = .ok (.getfield 78, 3) := dk_180 0 78 (dk_at dksX3_go_2 20 rfl rfl)
theorem dX3_go_70 : decode cX3_go 70 = .ok (.ireturn, 1) := dk_172 (dk_at dksX3_go_2 23 rfl rfl)
abbrev cX3_begins : ByteArray := prog_15_method_5_code
def yX3_begins : MethodName := ⟨RX3, "begins", "()V"⟩
def dkwX3_begins_0 : List UInt8 := [42, 3, 181, 0, 1, 177]
abbrev dktX3_begins_0 : List UInt8 := dkwX3_begins_0 ++ []
theorem dksX3_begins_0 : cX3_begins.data.toList.drop 0 = dktX3_begins_0 := by decide +kernel
theorem dX3_begins_0 : decode cX3_begins 0 = .ok (.aload_n 0, 1) := dk_42 (dk_at dksX3_begins_0 0 rfl rfl)
theorem dX3_begins_1 : decode cX3_begins 1 = .ok (.iconst 0, 1) := dk_3 (dk_at dksX3_begins_0 1 rfl rfl)
theorem dX3_begins_2 : decode cX3_begins 2 = .ok (.putfield 1, 3) := dk_181 0 1 (dk_at dksX3_begins_0 2 rfl rfl)
theorem dX3_begins_5 : decode cX3_begins 5 = .ok (.return_, 1) := dk_177 (dk_at dksX3_begins_0 5 rfl rfl)
abbrev cX3_in : ByteArray := prog_15_method_2_code
def yX3_in : MethodName := ⟨RX3, "in", "(JJJ)Z"⟩
def dkwX3_in_0 : List UInt8 := [30, 32, 148, 155, 0, 14, 30, 22, 4, 148, 157, 0, 7, 4, 167, 0, 4, 3, 172]
abbrev dktX3_in_0 : List UInt8 := dkwX3_in_0 ++ []
theorem dksX3_in_0 : cX3_in.data.toList.drop 0 = dktX3_in_0 := by decide +kernel
theorem dX3_in_0 : decode cX3_in 0 = .ok (.lload_n 0, 1) := dk_30 (dk_at dksX3_in_0 0 rfl rfl)
theorem dX3_in_1 : decode cX3_in 1 = .ok (.lload_n 2, 1) := dk_32 (dk_at dksX3_in_0 1 rfl rfl)
theorem dX3_in_2 : decode cX3_in 2 = .ok (.lcmp, 1) := dk_148 (dk_at dksX3_in_0 2 rfl rfl)
theorem dX3_in_3 : decode cX3_in 3 = .ok (.ifCond .lt 14, 3) := dk_155 0 14 (dk_at dksX3_in_0 3 rfl rfl)
theorem dX3_in_6 : decode cX3_in 6 = .ok (.lload_n 0, 1) := dk_30 (dk_at dksX3_in_0 6 rfl rfl)
theorem dX3_in_7 : decode cX3_in 7 = .ok (.lload 4, 2) := dk_22 4 (dk_at dksX3_in_0 7 rfl rfl)
theorem dX3_in_9 : decode cX3_in 9 = .ok (.lcmp, 1) := dk_148 (dk_at dksX3_in_0 9 rfl rfl)
theorem dX3_in_10 : decode cX3_in 10 = .ok (.ifCond .gt 7, 3) := dk_157 0 7 (dk_at dksX3_in_0 10 rfl rfl)
theorem dX3_in_13 : decode cX3_in 13 = .ok (.iconst 1, 1) := dk_4 (dk_at dksX3_in_0 13 rfl rfl)
theorem dX3_in_14 : decode cX3_in 14 = .ok (.goto 4, 3) := dk_167 0 4 (dk_at dksX3_in_0 14 rfl rfl)
theorem dX3_in_17 : decode cX3_in 17 = .ok (.iconst 0, 1) := dk_3 (dk_at dksX3_in_0 17 rfl rfl)
theorem dX3_in_18 : decode cX3_in 18 = .ok (.ireturn, 1) := dk_172 (dk_at dksX3_in_0 18 rfl rfl)
abbrev cX3_fails : ByteArray := prog_15_method_4_code
def yX3_fails : MethodName := ⟨RX3, "fails", "(ZI)Z"⟩
def dkwX3_fails_1 : List UInt8 := [167, 0, 4, 3, 172]
abbrev dktX3_fails_1 : List UInt8 := dkwX3_fails_1 ++ []
def dkwX3_fails_0 : List UInt8 := [42, 180, 0, 1, 154, 0, 12, 27, 153, 0, 8, 42, 28, 181, 0, 1, 42, 180, 0, 1, 158, 0, 7, 4]
abbrev dktX3_fails_0 : List UInt8 := dkwX3_fails_0 ++ dktX3_fails_1
theorem dksX3_fails_0 : cX3_fails.data.toList.drop 0 = dktX3_fails_0 := by decide +kernel
theorem dksX3_fails_1 : cX3_fails.data.toList.drop 24 = dktX3_fails_1 := dk_seg dksX3_fails_0 24 rfl rfl
theorem dX3_fails_0 : decode cX3_fails 0 = .ok (.aload_n 0, 1) := dk_42 (dk_at dksX3_fails_0 0 rfl rfl)
theorem dX3_fails_1 : decode cX3_fails 1 = .ok (.getfield 1, 3) := dk_180 0 1 (dk_at dksX3_fails_0 1 rfl rfl)
theorem dX3_fails_4 : decode cX3_fails 4 = .ok (.ifCond .ne 12, 3) := dk_154 0 12 (dk_at dksX3_fails_0 4 rfl rfl)
theorem dX3_fails_7 : decode cX3_fails 7 = .ok (.iload_n 1, 1) := dk_27 (dk_at dksX3_fails_0 7 rfl rfl)
theorem dX3_fails_8 : decode cX3_fails 8 = .ok (.ifCond .eq 8, 3) := dk_153 0 8 (dk_at dksX3_fails_0 8 rfl rfl)
theorem dX3_fails_11 : decode cX3_fails 11 = .ok (.aload_n 0, 1) := dk_42 (dk_at dksX3_fails_0 11 rfl rfl)
theorem dX3_fails_12 : decode cX3_fails 12 = .ok (.iload_n 2, 1) := dk_28 (dk_at dksX3_fails_0 12 rfl rfl)
theorem dX3_fails_13 : decode cX3_fails 13 = .ok (.putfield 1, 3) := dk_181 0 1 (dk_at dksX3_fails_0 13 rfl rfl)
theorem dX3_fails_16 : decode cX3_fails 16 = .ok (.aload_n 0, 1) := dk_42 (dk_at dksX3_fails_0 16 rfl rfl)
theorem dX3_fails_17 : decode cX3_fails 17 = .ok (.getfield 1, 3) := dk_180 0 1 (dk_at dksX3_fails_0 17 rfl rfl)
theorem dX3_fails_20 : decode cX3_fails 20 = .ok (.ifCond .le 7, 3) := dk_158 0 7 (dk_at dksX3_fails_0 20 rfl rfl)
theorem dX3_fails_23 : decode cX3_fails 23 = .ok (.iconst 1, 1) := dk_4 (dk_at dksX3_fails_0 23 rfl rfl)
theorem dX3_fails_24 : decode cX3_fails 24 = .ok (.goto 4, 3) := dk_167 0 4 (dk_at dksX3_fails_1 0 rfl rfl)
theorem dX3_fails_27 : decode cX3_fails 27 = .ok (.iconst 0, 1) := dk_3 (dk_at dksX3_fails_1 3 rfl rfl)
theorem dX3_fails_28 : decode cX3_fails 28 = .ok (.ireturn, 1) := dk_172 (dk_at dksX3_fails_1 4 rfl rfl)
abbrev cX3_shaft : ByteArray := prog_15_method_8_code
def yX3_shaft : MethodName := ⟨RX3, "shaft", "(Z)Z"⟩
def dkwX3_shaft_0 : List UInt8 := [42, 182, 0, 69, 42, 180, 0, 23, 61, 42, 27, 181, 0, 23, 28, 172]
abbrev dktX3_shaft_0 : List UInt8 := dkwX3_shaft_0 ++ []
theorem dksX3_shaft_0 : cX3_shaft.data.toList.drop 0 = dktX3_shaft_0 := by decide +kernel
theorem dX3_shaft_0 : decode cX3_shaft 0 = .ok (.aload_n 0, 1) := dk_42 (dk_at dksX3_shaft_0 0 rfl rfl)
theorem dX3_shaft_1 : decode cX3_shaft 1 = .ok (.invokevirtual 69, 3) := dk_182 0 69 (dk_at dksX3_shaft_0 1 rfl rfl)
theorem dX3_shaft_4 : decode cX3_shaft 4 = .ok (.aload_n 0, 1) := dk_42 (dk_at dksX3_shaft_0 4 rfl rfl)
theorem dX3_shaft_5 : decode cX3_shaft 5 = .ok (.getfield 23, 3) := dk_180 0 23 (dk_at dksX3_shaft_0 5 rfl rfl)
theorem dX3_shaft_8 : decode cX3_shaft 8 = .ok (.istore_n 2, 1) := dk_61 (dk_at dksX3_shaft_0 8 rfl rfl)
theorem dX3_shaft_9 : decode cX3_shaft 9 = .ok (.aload_n 0, 1) := dk_42 (dk_at dksX3_shaft_0 9 rfl rfl)
theorem dX3_shaft_10 : decode cX3_shaft 10 = .ok (.iload_n 1, 1) := dk_27 (dk_at dksX3_shaft_0 10 rfl rfl)
theorem dX3_shaft_11 : decode cX3_shaft 11 = .ok (.putfield 23, 3) := dk_181 0 23 (dk_at dksX3_shaft_0 11 rfl rfl)
theorem dX3_shaft_14 : decode cX3_shaft 14 = .ok (.iload_n 2, 1) := dk_28 (dk_at dksX3_shaft_0 14 rfl rfl)
theorem dX3_shaft_15 : decode cX3_shaft 15 = .ok (.ireturn, 1) := dk_172 (dk_at dksX3_shaft_0 15 rfl rfl)
abbrev cX3_belt : ByteArray := prog_15_method_9_code
def yX3_belt : MethodName := ⟨RX3, "belt", "(CC)C"⟩
def dkwX3_belt_6 : List UInt8 := [21, 6, 182, 0, 89, 172]
abbrev dktX3_belt_6 : List UInt8 := dkwX3_belt_6 ++ []
def dkwX3_belt_5 : List UInt8 := [54, 6, 42, 180, 0, 31, 29, 21, 4, 79, 21, 6, 2, 160, 0, 8, 16, 45, 167, 0, 10, 18, 81]
abbrev dktX3_belt_5 : List UInt8 := dkwX3_belt_5 ++ dktX3_belt_6
def dkwX3_belt_4 : List UInt8 := [54, 6, 167, 255, 223, 42, 21, 5, 5, 182, 0, 74, 153, 0, 6, 16, 32, 172, 42, 180, 0, 31, 29, 46]
abbrev dktX3_belt_4 : List UInt8 := dkwX3_belt_4 ++ dktX3_belt_5
def dkwX3_belt_3 : List UInt8 := [154, 0, 28, 21, 6, 29, 160, 0, 7, 4, 167, 0, 4, 3, 54, 5, 42, 180, 0, 31, 21, 6, 46]
abbrev dktX3_belt_3 : List UInt8 := dkwX3_belt_3 ++ dktX3_belt_4
def dkwX3_belt_2 : List UInt8 := [182, 0, 74, 153, 0, 6, 16, 32, 172, 3, 54, 5, 21, 4, 54, 6, 21, 6, 2, 159, 0, 33, 21, 5]
abbrev dktX3_belt_2 : List UInt8 := dkwX3_belt_2 ++ dktX3_belt_3
def dkwX3_belt_1 : List UInt8 := [21, 4, 156, 0, 9, 28, 16, 45, 160, 0, 8, 27, 28, 160, 0, 7, 4, 167, 0, 4, 3, 4]
abbrev dktX3_belt_1 : List UInt8 := dkwX3_belt_1 ++ dktX3_belt_2
def dkwX3_belt_0 : List UInt8 := [42, 182, 0, 69, 18, 81, 27, 182, 0, 83, 62, 18, 81, 28, 182, 0, 83, 54, 4, 42, 29, 155, 0, 19]
abbrev dktX3_belt_0 : List UInt8 := dkwX3_belt_0 ++ dktX3_belt_1
theorem dksX3_belt_0 : cX3_belt.data.toList.drop 0 = dktX3_belt_0 := by decide +kernel
theorem dksX3_belt_1 : cX3_belt.data.toList.drop 24 = dktX3_belt_1 := dk_seg dksX3_belt_0 24 rfl rfl
theorem dksX3_belt_2 : cX3_belt.data.toList.drop 46 = dktX3_belt_2 := dk_seg dksX3_belt_1 22 rfl rfl
theorem dksX3_belt_3 : cX3_belt.data.toList.drop 70 = dktX3_belt_3 := dk_seg dksX3_belt_2 24 rfl rfl
theorem dksX3_belt_4 : cX3_belt.data.toList.drop 93 = dktX3_belt_4 := dk_seg dksX3_belt_3 23 rfl rfl
theorem dksX3_belt_5 : cX3_belt.data.toList.drop 117 = dktX3_belt_5 := dk_seg dksX3_belt_4 24 rfl rfl
theorem dksX3_belt_6 : cX3_belt.data.toList.drop 140 = dktX3_belt_6 := dk_seg dksX3_belt_5 23 rfl rfl
theorem dX3_belt_0 : decode cX3_belt 0 = .ok (.aload_n 0, 1) := dk_42 (dk_at dksX3_belt_0 0 rfl rfl)
theorem dX3_belt_1 : decode cX3_belt 1 = .ok (.invokevirtual 69, 3) := dk_182 0 69 (dk_at dksX3_belt_0 1 rfl rfl)
theorem dX3_belt_4 : decode cX3_belt 4 = .ok (.ldc 81, 2) := dk_18 81 (dk_at dksX3_belt_0 4 rfl rfl)
theorem dX3_belt_6 : decode cX3_belt 6 = .ok (.iload_n 1, 1) := dk_27 (dk_at dksX3_belt_0 6 rfl rfl)
theorem dX3_belt_7 : decode cX3_belt 7 = .ok (.invokevirtual 83, 3) := dk_182 0 83 (dk_at dksX3_belt_0 7 rfl rfl)
theorem dX3_belt_10 : decode cX3_belt 10 = .ok (.istore_n 3, 1) := dk_62 (dk_at dksX3_belt_0 10 rfl rfl)
theorem dX3_belt_11 : decode cX3_belt 11 = .ok (.ldc 81, 2) := dk_18 81 (dk_at dksX3_belt_0 11 rfl rfl)
theorem dX3_belt_13 : decode cX3_belt 13 = .ok (.iload_n 2, 1) := dk_28 (dk_at dksX3_belt_0 13 rfl rfl)
theorem dX3_belt_14 : decode cX3_belt 14 = .ok (.invokevirtual 83, 3) := dk_182 0 83 (dk_at dksX3_belt_0 14 rfl rfl)
theorem dX3_belt_17 : decode cX3_belt 17 = .ok (.istore 4, 2) := dk_54 4 (dk_at dksX3_belt_0 17 rfl rfl)
theorem dX3_belt_19 : decode cX3_belt 19 = .ok (.aload_n 0, 1) := dk_42 (dk_at dksX3_belt_0 19 rfl rfl)
theorem dX3_belt_20 : decode cX3_belt 20 = .ok (.iload_n 3, 1) := dk_29 (dk_at dksX3_belt_0 20 rfl rfl)
theorem dX3_belt_21 : decode cX3_belt 21 = .ok (.ifCond .lt 19, 3) := dk_155 0 19 (dk_at dksX3_belt_0 21 rfl rfl)
theorem dX3_belt_24 : decode cX3_belt 24 = .ok (.iload 4, 2) := dk_21 4 (dk_at dksX3_belt_1 0 rfl rfl)
theorem dX3_belt_26 : decode cX3_belt 26 = .ok (.ifCond .ge 9, 3) := dk_156 0 9 (dk_at dksX3_belt_1 2 rfl rfl)
theorem dX3_belt_29 : decode cX3_belt 29 = .ok (.iload_n 2, 1) := dk_28 (dk_at dksX3_belt_1 5 rfl rfl)
theorem dX3_belt_30 : decode cX3_belt 30 = .ok (.bipush 45, 2) := dk_16 45 (dk_at dksX3_belt_1 6 rfl rfl)
theorem dX3_belt_32 : decode cX3_belt 32 = .ok (.if_icmp .ne 8, 3) := dk_160 0 8 (dk_at dksX3_belt_1 8 rfl rfl)
theorem dX3_belt_35 : decode cX3_belt 35 = .ok (.iload_n 1, 1) := dk_27 (dk_at dksX3_belt_1 11 rfl rfl)
theorem dX3_belt_36 : decode cX3_belt 36 = .ok (.iload_n 2, 1) := dk_28 (dk_at dksX3_belt_1 12 rfl rfl)
theorem dX3_belt_37 : decode cX3_belt 37 = .ok (.if_icmp .ne 7, 3) := dk_160 0 7 (dk_at dksX3_belt_1 13 rfl rfl)
theorem dX3_belt_40 : decode cX3_belt 40 = .ok (.iconst 1, 1) := dk_4 (dk_at dksX3_belt_1 16 rfl rfl)
theorem dX3_belt_41 : decode cX3_belt 41 = .ok (.goto 4, 3) := dk_167 0 4 (dk_at dksX3_belt_1 17 rfl rfl)
theorem dX3_belt_44 : decode cX3_belt 44 = .ok (.iconst 0, 1) := dk_3 (dk_at dksX3_belt_1 20 rfl rfl)
theorem dX3_belt_45 : decode cX3_belt 45 = .ok (.iconst 1, 1) := dk_4 (dk_at dksX3_belt_1 21 rfl rfl)
theorem dX3_belt_46 : decode cX3_belt 46 = .ok (.invokevirtual 74, 3) := dk_182 0 74 (dk_at dksX3_belt_2 0 rfl rfl)
theorem dX3_belt_49 : decode cX3_belt 49 = .ok (.ifCond .eq 6, 3) := dk_153 0 6 (dk_at dksX3_belt_2 3 rfl rfl)
theorem dX3_belt_52 : decode cX3_belt 52 = .ok (.bipush 32, 2) := dk_16 32 (dk_at dksX3_belt_2 6 rfl rfl)
theorem dX3_belt_54 : decode cX3_belt 54 = .ok (.ireturn, 1) := dk_172 (dk_at dksX3_belt_2 8 rfl rfl)
theorem dX3_belt_55 : decode cX3_belt 55 = .ok (.iconst 0, 1) := dk_3 (dk_at dksX3_belt_2 9 rfl rfl)
theorem dX3_belt_56 : decode cX3_belt 56 = .ok (.istore 5, 2) := dk_54 5 (dk_at dksX3_belt_2 10 rfl rfl)
theorem dX3_belt_58 : decode cX3_belt 58 = .ok (.iload 4, 2) := dk_21 4 (dk_at dksX3_belt_2 12 rfl rfl)
theorem dX3_belt_60 : decode cX3_belt 60 = .ok (.istore 6, 2) := dk_54 6 (dk_at dksX3_belt_2 14 rfl rfl)
theorem dX3_belt_62 : decode cX3_belt 62 = .ok (.iload 6, 2) := dk_21 6 (dk_at dksX3_belt_2 16 rfl rfl)
theorem dX3_belt_64 : decode cX3_belt 64 = .ok (.iconst (-1), 1) := dk_2 (dk_at dksX3_belt_2 18 rfl rfl)
theorem dX3_belt_65 : decode cX3_belt 65 = .ok (.if_icmp .eq 33, 3) := dk_159 0 33 (dk_at dksX3_belt_2 19 rfl rfl)
theorem dX3_belt_68 : decode cX3_belt 68 = .ok (.iload 5, 2) := dk_21 5 (dk_at dksX3_belt_2 22 rfl rfl)
theorem dX3_belt_70 : decode cX3_belt 70 = .ok (.ifCond .ne 28, 3) := dk_154 0 28 (dk_at dksX3_belt_3 0 rfl rfl)
theorem dX3_belt_73 : decode cX3_belt 73 = .ok (.iload 6, 2) := dk_21 6 (dk_at dksX3_belt_3 3 rfl rfl)
theorem dX3_belt_75 : decode cX3_belt 75 = .ok (.iload_n 3, 1) := dk_29 (dk_at dksX3_belt_3 5 rfl rfl)
theorem dX3_belt_76 : decode cX3_belt 76 = .ok (.if_icmp .ne 7, 3) := dk_160 0 7 (dk_at dksX3_belt_3 6 rfl rfl)
theorem dX3_belt_79 : decode cX3_belt 79 = .ok (.iconst 1, 1) := dk_4 (dk_at dksX3_belt_3 9 rfl rfl)
theorem dX3_belt_80 : decode cX3_belt 80 = .ok (.goto 4, 3) := dk_167 0 4 (dk_at dksX3_belt_3 10 rfl rfl)
theorem dX3_belt_83 : decode cX3_belt 83 = .ok (.iconst 0, 1) := dk_3 (dk_at dksX3_belt_3 13 rfl rfl)
theorem dX3_belt_84 : decode cX3_belt 84 = .ok (.istore 5, 2) := dk_54 5 (dk_at dksX3_belt_3 14 rfl rfl)
theorem dX3_belt_86 : decode cX3_belt 86 = .ok (.aload_n 0, 1) := dk_42 (dk_at dksX3_belt_3 16 rfl rfl)
theorem dX3_belt_87 : decode cX3_belt 87 = .ok (.getfield 31, 3) := dk_180 0 31 (dk_at dksX3_belt_3 17 rfl rfl)
theorem dX3_belt_90 : decode cX3_belt 90 = .ok (.iload 6, 2) := dk_21 6 (dk_at dksX3_belt_3 20 rfl rfl)
theorem dX3_belt_92 : decode cX3_belt 92 = .ok (.iaload, 1) := dk_46 (dk_at dksX3_belt_3 22 rfl rfl)
theorem dX3_belt_93 : decode cX3_belt 93 = .ok (.istore 6, 2) := dk_54 6 (dk_at dksX3_belt_4 0 rfl rfl)
theorem dX3_belt_95 : decode cX3_belt 95 = .ok (.goto (-33), 3) := dk_167 255 223 (dk_at dksX3_belt_4 2 rfl rfl)
theorem dX3_belt_98 : decode cX3_belt 98 = .ok (.aload_n 0, 1) := dk_42 (dk_at dksX3_belt_4 5 rfl rfl)
theorem dX3_belt_99 : decode cX3_belt 99 = .ok (.iload 5, 2) := dk_21 5 (dk_at dksX3_belt_4 6 rfl rfl)
theorem dX3_belt_101 : decode cX3_belt 101 = .ok (.iconst 2, 1) := dk_5 (dk_at dksX3_belt_4 8 rfl rfl)
theorem dX3_belt_102 : decode cX3_belt 102 = .ok (.invokevirtual 74, 3) := dk_182 0 74 (dk_at dksX3_belt_4 9 rfl rfl)
theorem dX3_belt_105 : decode cX3_belt 105 = .ok (.ifCond .eq 6, 3) := dk_153 0 6 (dk_at dksX3_belt_4 12 rfl rfl)
theorem dX3_belt_108 : decode cX3_belt 108 = .ok (.bipush 32, 2) := dk_16 32 (dk_at dksX3_belt_4 15 rfl rfl)
theorem dX3_belt_110 : decode cX3_belt 110 = .ok (.ireturn, 1) := dk_172 (dk_at dksX3_belt_4 17 rfl rfl)
theorem dX3_belt_111 : decode cX3_belt 111 = .ok (.aload_n 0, 1) := dk_42 (dk_at dksX3_belt_4 18 rfl rfl)
theorem dX3_belt_112 : decode cX3_belt 112 = .ok (.getfield 31, 3) := dk_180 0 31 (dk_at dksX3_belt_4 19 rfl rfl)
theorem dX3_belt_115 : decode cX3_belt 115 = .ok (.iload_n 3, 1) := dk_29 (dk_at dksX3_belt_4 22 rfl rfl)
theorem dX3_belt_116 : decode cX3_belt 116 = .ok (.iaload, 1) := dk_46 (dk_at dksX3_belt_4 23 rfl rfl)
theorem dX3_belt_117 : decode cX3_belt 117 = .ok (.istore 6, 2) := dk_54 6 (dk_at dksX3_belt_5 0 rfl rfl)
theorem dX3_belt_119 : decode cX3_belt 119 = .ok (.aload_n 0, 1) := dk_42 (dk_at dksX3_belt_5 2 rfl rfl)
theorem dX3_belt_120 : decode cX3_belt 120 = .ok (.getfield 31, 3) := dk_180 0 31 (dk_at dksX3_belt_5 3 rfl rfl)
theorem dX3_belt_123 : decode cX3_belt 123 = .ok (.iload_n 3, 1) := dk_29 (dk_at dksX3_belt_5 6 rfl rfl)
theorem dX3_belt_124 : decode cX3_belt 124 = .ok (.iload 4, 2) := dk_21 4 (dk_at dksX3_belt_5 7 rfl rfl)
theorem dX3_belt_126 : decode cX3_belt 126 = .ok (.iastore, 1) := dk_79 (dk_at dksX3_belt_5 9 rfl rfl)
theorem dX3_belt_127 : decode cX3_belt 127 = .ok (.iload 6, 2) := dk_21 6 (dk_at dksX3_belt_5 10 rfl rfl)
theorem dX3_belt_129 : decode cX3_belt 129 = .ok (.iconst (-1), 1) := dk_2 (dk_at dksX3_belt_5 12 rfl rfl)
theorem dX3_belt_130 : decode cX3_belt 130 = .ok (.if_icmp .ne 8, 3) := dk_160 0 8 (dk_at dksX3_belt_5 13 rfl rfl)
theorem dX3_belt_133 : decode cX3_belt 133 = .ok (.bipush 45, 2) := dk_16 45 (dk_at dksX3_belt_5 16 rfl rfl)
theorem dX3_belt_135 : decode cX3_belt 135 = .ok (.goto 10, 3) := dk_167 0 10 (dk_at dksX3_belt_5 18 rfl rfl)
theorem dX3_belt_138 : decode cX3_belt 138 = .ok (.ldc 81, 2) := dk_18 81 (dk_at dksX3_belt_5 21 rfl rfl)
theorem dX3_belt_140 : decode cX3_belt 140 = .ok (.iload 6, 2) := dk_21 6 (dk_at dksX3_belt_6 0 rfl rfl)
theorem dX3_belt_142 : decode cX3_belt 142 = .ok (.invokevirtual 89, 3) := dk_182 0 89 (dk_at dksX3_belt_6 2 rfl rfl)
theorem dX3_belt_145 : decode cX3_belt 145 = .ok (.ireturn, 1) := dk_172 (dk_at dksX3_belt_6 5 rfl rfl)
abbrev cX3_on : ByteArray := prog_15_method_10_code
def yX3_on : MethodName := ⟨RX3, "on", "(CZ)Z"⟩
def dkwX3_on_2 : List UInt8 := [21, 4, 172]
abbrev dktX3_on_2 : List UInt8 := dkwX3_on_2 ++ []
def dkwX3_on_1 : List UInt8 := [182, 0, 74, 153, 0, 5, 3, 172, 42, 180, 0, 27, 29, 51, 54, 4, 42, 180, 0, 27, 29, 28, 84]
abbrev dktX3_on_1 : List UInt8 := dkwX3_on_1 ++ dktX3_on_2
def dkwX3_on_0 : List UInt8 := [42, 182, 0, 69, 18, 81, 27, 182, 0, 83, 62, 42, 29, 156, 0, 7, 4, 167, 0, 4, 3, 4]
abbrev dktX3_on_0 : List UInt8 := dkwX3_on_0 ++ dktX3_on_1
theorem dksX3_on_0 : cX3_on.data.toList.drop 0 = dktX3_on_0 := by decide +kernel
theorem dksX3_on_1 : cX3_on.data.toList.drop 22 = dktX3_on_1 := dk_seg dksX3_on_0 22 rfl rfl
theorem dksX3_on_2 : cX3_on.data.toList.drop 45 = dktX3_on_2 := dk_seg dksX3_on_1 23 rfl rfl
theorem dX3_on_0 : decode cX3_on 0 = .ok (.aload_n 0, 1) := dk_42 (dk_at dksX3_on_0 0 rfl rfl)
theorem dX3_on_1 : decode cX3_on 1 = .ok (.invokevirtual 69, 3) := dk_182 0 69 (dk_at dksX3_on_0 1 rfl rfl)
theorem dX3_on_4 : decode cX3_on 4 = .ok (.ldc 81, 2) := dk_18 81 (dk_at dksX3_on_0 4 rfl rfl)
theorem dX3_on_6 : decode cX3_on 6 = .ok (.iload_n 1, 1) := dk_27 (dk_at dksX3_on_0 6 rfl rfl)
theorem dX3_on_7 : decode cX3_on 7 = .ok (.invokevirtual 83, 3) := dk_182 0 83 (dk_at dksX3_on_0 7 rfl rfl)
theorem dX3_on_10 : decode cX3_on 10 = .ok (.istore_n 3, 1) := dk_62 (dk_at dksX3_on_0 10 rfl rfl)
theorem dX3_on_11 : decode cX3_on 11 = .ok (.aload_n 0, 1) := dk_42 (dk_at dksX3_on_0 11 rfl rfl)
theorem dX3_on_12 : decode cX3_on 12 = .ok (.iload_n 3, 1) := dk_29 (dk_at dksX3_on_0 12 rfl rfl)
theorem dX3_on_13 : decode cX3_on 13 = .ok (.ifCond .ge 7, 3) := dk_156 0 7 (dk_at dksX3_on_0 13 rfl rfl)
theorem dX3_on_16 : decode cX3_on 16 = .ok (.iconst 1, 1) := dk_4 (dk_at dksX3_on_0 16 rfl rfl)
theorem dX3_on_17 : decode cX3_on 17 = .ok (.goto 4, 3) := dk_167 0 4 (dk_at dksX3_on_0 17 rfl rfl)
theorem dX3_on_20 : decode cX3_on 20 = .ok (.iconst 0, 1) := dk_3 (dk_at dksX3_on_0 20 rfl rfl)
theorem dX3_on_21 : decode cX3_on 21 = .ok (.iconst 1, 1) := dk_4 (dk_at dksX3_on_0 21 rfl rfl)
theorem dX3_on_22 : decode cX3_on 22 = .ok (.invokevirtual 74, 3) := dk_182 0 74 (dk_at dksX3_on_1 0 rfl rfl)
theorem dX3_on_25 : decode cX3_on 25 = .ok (.ifCond .eq 5, 3) := dk_153 0 5 (dk_at dksX3_on_1 3 rfl rfl)
theorem dX3_on_28 : decode cX3_on 28 = .ok (.iconst 0, 1) := dk_3 (dk_at dksX3_on_1 6 rfl rfl)
theorem dX3_on_29 : decode cX3_on 29 = .ok (.ireturn, 1) := dk_172 (dk_at dksX3_on_1 7 rfl rfl)
theorem dX3_on_30 : decode cX3_on 30 = .ok (.aload_n 0, 1) := dk_42 (dk_at dksX3_on_1 8 rfl rfl)
theorem dX3_on_31 : decode cX3_on 31 = .ok (.getfield 27, 3) := dk_180 0 27 (dk_at dksX3_on_1 9 rfl rfl)
theorem dX3_on_34 : decode cX3_on 34 = .ok (.iload_n 3, 1) := dk_29 (dk_at dksX3_on_1 12 rfl rfl)
theorem dX3_on_35 : decode cX3_on 35 = .ok (.baload, 1) := dk_51 (dk_at dksX3_on_1 13 rfl rfl)
theorem dX3_on_36 : decode cX3_on 36 = .ok (.istore 4, 2) := dk_54 4 (dk_at dksX3_on_1 14 rfl rfl)
theorem dX3_on_38 : decode cX3_on 38 = .ok (.aload_n 0, 1) := dk_42 (dk_at dksX3_on_1 16 rfl rfl)
theorem dX3_on_39 : decode cX3_on 39 = .ok (.getfield 27, 3) := dk_180 0 27 (dk_at dksX3_on_1 17 rfl rfl)
theorem dX3_on_42 : decode cX3_on 42 = .ok (.iload_n 3, 1) := dk_29 (dk_at dksX3_on_1 20 rfl rfl)
theorem dX3_on_43 : decode cX3_on 43 = .ok (.iload_n 2, 1) := dk_28 (dk_at dksX3_on_1 21 rfl rfl)
theorem dX3_on_44 : decode cX3_on 44 = .ok (.bastore, 1) := dk_84 (dk_at dksX3_on_1 22 rfl rfl)
theorem dX3_on_45 : decode cX3_on 45 = .ok (.iload 4, 2) := dk_21 4 (dk_at dksX3_on_2 0 rfl rfl)
theorem dX3_on_47 : decode cX3_on 47 = .ok (.ireturn, 1) := dk_172 (dk_at dksX3_on_2 2 rfl rfl)
abbrev cX3_runs : ByteArray := prog_15_method_12_code
def yX3_runs : MethodName := ⟨RX3, "runs", "(C)Z"⟩
def dkwX3_runs_1 : List UInt8 := [182, 0, 74, 154, 0, 15, 42, 28, 182, 0, 93, 153, 0, 7, 4, 167, 0, 4, 3, 172]
abbrev dktX3_runs_1 : List UInt8 := dkwX3_runs_1 ++ []
def dkwX3_runs_0 : List UInt8 := [42, 182, 0, 69, 18, 81, 27, 182, 0, 83, 61, 42, 28, 156, 0, 7, 4, 167, 0, 4, 3, 4]
abbrev dktX3_runs_0 : List UInt8 := dkwX3_runs_0 ++ dktX3_runs_1
theorem dksX3_runs_0 : cX3_runs.data.toList.drop 0 = dktX3_runs_0 := by decide +kernel
theorem dksX3_runs_1 : cX3_runs.data.toList.drop 22 = dktX3_runs_1 := dk_seg dksX3_runs_0 22 rfl rfl
theorem dX3_runs_0 : decode cX3_runs 0 = .ok (.aload_n 0, 1) := dk_42 (dk_at dksX3_runs_0 0 rfl rfl)
theorem dX3_runs_1 : decode cX3_runs 1 = .ok (.invokevirtual 69, 3) := dk_182 0 69 (dk_at dksX3_runs_0 1 rfl rfl)
theorem dX3_runs_4 : decode cX3_runs 4 = .ok (.ldc 81, 2) := dk_18 81 (dk_at dksX3_runs_0 4 rfl rfl)
theorem dX3_runs_6 : decode cX3_runs 6 = .ok (.iload_n 1, 1) := dk_27 (dk_at dksX3_runs_0 6 rfl rfl)
theorem dX3_runs_7 : decode cX3_runs 7 = .ok (.invokevirtual 83, 3) := dk_182 0 83 (dk_at dksX3_runs_0 7 rfl rfl)
theorem dX3_runs_10 : decode cX3_runs 10 = .ok (.istore_n 2, 1) := dk_61 (dk_at dksX3_runs_0 10 rfl rfl)
theorem dX3_runs_11 : decode cX3_runs 11 = .ok (.aload_n 0, 1) := dk_42 (dk_at dksX3_runs_0 11 rfl rfl)
theorem dX3_runs_12 : decode cX3_runs 12 = .ok (.iload_n 2, 1) := dk_28 (dk_at dksX3_runs_0 12 rfl rfl)
theorem dX3_runs_13 : decode cX3_runs 13 = .ok (.ifCond .ge 7, 3) := dk_156 0 7 (dk_at dksX3_runs_0 13 rfl rfl)
theorem dX3_runs_16 : decode cX3_runs 16 = .ok (.iconst 1, 1) := dk_4 (dk_at dksX3_runs_0 16 rfl rfl)
theorem dX3_runs_17 : decode cX3_runs 17 = .ok (.goto 4, 3) := dk_167 0 4 (dk_at dksX3_runs_0 17 rfl rfl)
theorem dX3_runs_20 : decode cX3_runs 20 = .ok (.iconst 0, 1) := dk_3 (dk_at dksX3_runs_0 20 rfl rfl)
theorem dX3_runs_21 : decode cX3_runs 21 = .ok (.iconst 1, 1) := dk_4 (dk_at dksX3_runs_0 21 rfl rfl)
theorem dX3_runs_22 : decode cX3_runs 22 = .ok (.invokevirtual 74, 3) := dk_182 0 74 (dk_at dksX3_runs_1 0 rfl rfl)
theorem dX3_runs_25 : decode cX3_runs 25 = .ok (.ifCond .ne 15, 3) := dk_154 0 15 (dk_at dksX3_runs_1 3 rfl rfl)
theorem dX3_runs_28 : decode cX3_runs 28 = .ok (.aload_n 0, 1) := dk_42 (dk_at dksX3_runs_1 6 rfl rfl)
theorem dX3_runs_29 : decode cX3_runs 29 = .ok (.iload_n 2, 1) := dk_28 (dk_at dksX3_runs_1 7 rfl rfl)
theorem dX3_runs_30 : decode cX3_runs 30 = .ok (.invokevirtual 93, 3) := dk_182 0 93 (dk_at dksX3_runs_1 8 rfl rfl)
theorem dX3_runs_33 : decode cX3_runs 33 = .ok (.ifCond .eq 7, 3) := dk_153 0 7 (dk_at dksX3_runs_1 11 rfl rfl)
theorem dX3_runs_36 : decode cX3_runs 36 = .ok (.iconst 1, 1) := dk_4 (dk_at dksX3_runs_1 14 rfl rfl)
theorem dX3_runs_37 : decode cX3_runs 37 = .ok (.goto 4, 3) := dk_167 0 4 (dk_at dksX3_runs_1 15 rfl rfl)
theorem dX3_runs_40 : decode cX3_runs 40 = .ok (.iconst 0, 1) := dk_3 (dk_at dksX3_runs_1 18 rfl rfl)
theorem dX3_runs_41 : decode cX3_runs 41 = .ok (.ireturn, 1) := dk_172 (dk_at dksX3_runs_1 19 rfl rfl)
abbrev cX3_going : ByteArray := prog_15_method_11_code
def yX3_going : MethodName := ⟨RX3, "going", "(I)Z"⟩
def dkwX3_going_1 : List UInt8 := [153, 0, 7, 4, 167, 0, 4, 3, 61, 42, 180, 0, 31, 29, 46, 62, 167, 255, 225, 28, 172]
abbrev dktX3_going_1 : List UInt8 := dkwX3_going_1 ++ []
def dkwX3_going_0 : List UInt8 := [42, 180, 0, 23, 61, 27, 62, 29, 2, 159, 0, 32, 28, 153, 0, 16, 42, 180, 0, 27, 29, 51]
abbrev dktX3_going_0 : List UInt8 := dkwX3_going_0 ++ dktX3_going_1
theorem dksX3_going_0 : cX3_going.data.toList.drop 0 = dktX3_going_0 := by decide +kernel
theorem dksX3_going_1 : cX3_going.data.toList.drop 22 = dktX3_going_1 := dk_seg dksX3_going_0 22 rfl rfl
theorem dX3_going_0 : decode cX3_going 0 = .ok (.aload_n 0, 1) := dk_42 (dk_at dksX3_going_0 0 rfl rfl)
theorem dX3_going_1 : decode cX3_going 1 = .ok (.getfield 23, 3) := dk_180 0 23 (dk_at dksX3_going_0 1 rfl rfl)
theorem dX3_going_4 : decode cX3_going 4 = .ok (.istore_n 2, 1) := dk_61 (dk_at dksX3_going_0 4 rfl rfl)
theorem dX3_going_5 : decode cX3_going 5 = .ok (.iload_n 1, 1) := dk_27 (dk_at dksX3_going_0 5 rfl rfl)
theorem dX3_going_6 : decode cX3_going 6 = .ok (.istore_n 3, 1) := dk_62 (dk_at dksX3_going_0 6 rfl rfl)
theorem dX3_going_7 : decode cX3_going 7 = .ok (.iload_n 3, 1) := dk_29 (dk_at dksX3_going_0 7 rfl rfl)
theorem dX3_going_8 : decode cX3_going 8 = .ok (.iconst (-1), 1) := dk_2 (dk_at dksX3_going_0 8 rfl rfl)
theorem dX3_going_9 : decode cX3_going 9 = .ok (.if_icmp .eq 32, 3) := dk_159 0 32 (dk_at dksX3_going_0 9 rfl rfl)
theorem dX3_going_12 : decode cX3_going 12 = .ok (.iload_n 2, 1) := dk_28 (dk_at dksX3_going_0 12 rfl rfl)
theorem dX3_going_13 : decode cX3_going 13 = .ok (.ifCond .eq 16, 3) := dk_153 0 16 (dk_at dksX3_going_0 13 rfl rfl)
theorem dX3_going_16 : decode cX3_going 16 = .ok (.aload_n 0, 1) := dk_42 (dk_at dksX3_going_0 16 rfl rfl)
theorem dX3_going_17 : decode cX3_going 17 = .ok (.getfield 27, 3) := dk_180 0 27 (dk_at dksX3_going_0 17 rfl rfl)
theorem dX3_going_20 : decode cX3_going 20 = .ok (.iload_n 3, 1) := dk_29 (dk_at dksX3_going_0 20 rfl rfl)
theorem dX3_going_21 : decode cX3_going 21 = .ok (.baload, 1) := dk_51 (dk_at dksX3_going_0 21 rfl rfl)
theorem dX3_going_22 : decode cX3_going 22 = .ok (.ifCond .eq 7, 3) := dk_153 0 7 (dk_at dksX3_going_1 0 rfl rfl)
theorem dX3_going_25 : decode cX3_going 25 = .ok (.iconst 1, 1) := dk_4 (dk_at dksX3_going_1 3 rfl rfl)
theorem dX3_going_26 : decode cX3_going 26 = .ok (.goto 4, 3) := dk_167 0 4 (dk_at dksX3_going_1 4 rfl rfl)
theorem dX3_going_29 : decode cX3_going 29 = .ok (.iconst 0, 1) := dk_3 (dk_at dksX3_going_1 7 rfl rfl)
theorem dX3_going_30 : decode cX3_going 30 = .ok (.istore_n 2, 1) := dk_61 (dk_at dksX3_going_1 8 rfl rfl)
theorem dX3_going_31 : decode cX3_going 31 = .ok (.aload_n 0, 1) := dk_42 (dk_at dksX3_going_1 9 rfl rfl)
theorem dX3_going_32 : decode cX3_going 32 = .ok (.getfield 31, 3) := dk_180 0 31 (dk_at dksX3_going_1 10 rfl rfl)
theorem dX3_going_35 : decode cX3_going 35 = .ok (.iload_n 3, 1) := dk_29 (dk_at dksX3_going_1 13 rfl rfl)
theorem dX3_going_36 : decode cX3_going 36 = .ok (.iaload, 1) := dk_46 (dk_at dksX3_going_1 14 rfl rfl)
theorem dX3_going_37 : decode cX3_going 37 = .ok (.istore_n 3, 1) := dk_62 (dk_at dksX3_going_1 15 rfl rfl)
theorem dX3_going_38 : decode cX3_going 38 = .ok (.goto (-31), 3) := dk_167 255 225 (dk_at dksX3_going_1 16 rfl rfl)
theorem dX3_going_41 : decode cX3_going 41 = .ok (.iload_n 2, 1) := dk_28 (dk_at dksX3_going_1 19 rfl rfl)
theorem dX3_going_42 : decode cX3_going 42 = .ok (.ireturn, 1) := dk_172 (dk_at dksX3_going_1 20 rfl rfl)
abbrev cX3_lot : ByteArray := prog_15_method_14_code
def yX3_lot : MethodName := ⟨RX3, "lot", "(CIII)I"⟩
def dkwX3_lot_6 : List UInt8 := [180, 0, 38, 185, 0, 7, 1, 0, 4, 100, 172]
abbrev dktX3_lot_6 : List UInt8 := dkwX3_lot_6 ++ []
def dkwX3_lot_5 : List UInt8 := [89, 3, 27, 79, 89, 4, 28, 79, 89, 5, 29, 79, 89, 6, 21, 4, 79, 185, 0, 107, 2, 0, 87, 42]
abbrev dktX3_lot_5 : List UInt8 := dkwX3_lot_5 ++ dktX3_lot_6
def dkwX3_lot_4 : List UInt8 := [160, 0, 7, 4, 167, 0, 4, 3, 5, 182, 0, 74, 153, 0, 5, 2, 172, 42, 180, 0, 38, 7, 188, 10]
abbrev dktX3_lot_4 : List UInt8 := dkwX3_lot_4 ++ dktX3_lot_5
def dkwX3_lot_3 : List UInt8 := [167, 0, 4, 3, 4, 182, 0, 74, 154, 0, 30, 42, 42, 180, 0, 38, 185, 0, 7, 1, 0, 16, 16]
abbrev dktX3_lot_3 : List UInt8 := dkwX3_lot_3 ++ dktX3_lot_4
def dkwX3_lot_2 : List UInt8 := [20, 0, 72, 184, 0, 13, 153, 0, 7, 4, 167, 0, 4, 3, 54, 5, 42, 21, 5, 154, 0, 7, 4]
abbrev dktX3_lot_2 : List UInt8 := dkwX3_lot_2 ++ dktX3_lot_3
def dkwX3_lot_1 : List UInt8 := [184, 0, 13, 153, 0, 32, 29, 133, 10, 20, 0, 105, 184, 0, 13, 153, 0, 20, 21, 4, 133, 10]
abbrev dktX3_lot_1 : List UInt8 := dkwX3_lot_1 ++ dktX3_lot_2
def dkwX3_lot_0 : List UInt8 := [42, 182, 0, 69, 27, 16, 103, 159, 0, 9, 27, 16, 99, 160, 0, 46, 28, 133, 20, 0, 101, 20, 0, 103]
abbrev dktX3_lot_0 : List UInt8 := dkwX3_lot_0 ++ dktX3_lot_1
theorem dksX3_lot_0 : cX3_lot.data.toList.drop 0 = dktX3_lot_0 := by decide +kernel
theorem dksX3_lot_1 : cX3_lot.data.toList.drop 24 = dktX3_lot_1 := dk_seg dksX3_lot_0 24 rfl rfl
theorem dksX3_lot_2 : cX3_lot.data.toList.drop 46 = dktX3_lot_2 := dk_seg dksX3_lot_1 22 rfl rfl
theorem dksX3_lot_3 : cX3_lot.data.toList.drop 69 = dktX3_lot_3 := dk_seg dksX3_lot_2 23 rfl rfl
theorem dksX3_lot_4 : cX3_lot.data.toList.drop 92 = dktX3_lot_4 := dk_seg dksX3_lot_3 23 rfl rfl
theorem dksX3_lot_5 : cX3_lot.data.toList.drop 116 = dktX3_lot_5 := dk_seg dksX3_lot_4 24 rfl rfl
theorem dksX3_lot_6 : cX3_lot.data.toList.drop 140 = dktX3_lot_6 := dk_seg dksX3_lot_5 24 rfl rfl
theorem dX3_lot_0 : decode cX3_lot 0 = .ok (.aload_n 0, 1) := dk_42 (dk_at dksX3_lot_0 0 rfl rfl)
theorem dX3_lot_1 : decode cX3_lot 1 = .ok (.invokevirtual 69, 3) := dk_182 0 69 (dk_at dksX3_lot_0 1 rfl rfl)
theorem dX3_lot_4 : decode cX3_lot 4 = .ok (.iload_n 1, 1) := dk_27 (dk_at dksX3_lot_0 4 rfl rfl)
theorem dX3_lot_5 : decode cX3_lot 5 = .ok (.bipush 103, 2) := dk_16 103 (dk_at dksX3_lot_0 5 rfl rfl)
theorem dX3_lot_7 : decode cX3_lot 7 = .ok (.if_icmp .eq 9, 3) := dk_159 0 9 (dk_at dksX3_lot_0 7 rfl rfl)
theorem dX3_lot_10 : decode cX3_lot 10 = .ok (.iload_n 1, 1) := dk_27 (dk_at dksX3_lot_0 10 rfl rfl)
theorem dX3_lot_11 : decode cX3_lot 11 = .ok (.bipush 99, 2) := dk_16 99 (dk_at dksX3_lot_0 11 rfl rfl)
theorem dX3_lot_13 : decode cX3_lot 13 = .ok (.if_icmp .ne 46, 3) := dk_160 0 46 (dk_at dksX3_lot_0 13 rfl rfl)
theorem dX3_lot_16 : decode cX3_lot 16 = .ok (.iload_n 2, 1) := dk_28 (dk_at dksX3_lot_0 16 rfl rfl)
theorem dX3_lot_17 : decode cX3_lot 17 = .ok (.i2l, 1) := dk_133 (dk_at dksX3_lot_0 17 rfl rfl)
theorem dX3_lot_18 : decode cX3_lot 18 = .ok (.ldc2_w 101, 3) := dk_20 0 101 (dk_at dksX3_lot_0 18 rfl rfl)
theorem dX3_lot_21 : decode cX3_lot 21 = .ok (.ldc2_w 103, 3) := dk_20 0 103 (dk_at dksX3_lot_0 21 rfl rfl)
theorem dX3_lot_24 : decode cX3_lot 24 = .ok (.invokestatic 13, 3) := dk_184 0 13 (dk_at dksX3_lot_1 0 rfl rfl)
theorem dX3_lot_27 : decode cX3_lot 27 = .ok (.ifCond .eq 32, 3) := dk_153 0 32 (dk_at dksX3_lot_1 3 rfl rfl)
theorem dX3_lot_30 : decode cX3_lot 30 = .ok (.iload_n 3, 1) := dk_29 (dk_at dksX3_lot_1 6 rfl rfl)
theorem dX3_lot_31 : decode cX3_lot 31 = .ok (.i2l, 1) := dk_133 (dk_at dksX3_lot_1 7 rfl rfl)
theorem dX3_lot_32 : decode cX3_lot 32 = .ok (.lconst 1, 1) := dk_10 (dk_at dksX3_lot_1 8 rfl rfl)
theorem dX3_lot_33 : decode cX3_lot 33 = .ok (.ldc2_w 105, 3) := dk_20 0 105 (dk_at dksX3_lot_1 9 rfl rfl)
theorem dX3_lot_36 : decode cX3_lot 36 = .ok (.invokestatic 13, 3) := dk_184 0 13 (dk_at dksX3_lot_1 12 rfl rfl)
theorem dX3_lot_39 : decode cX3_lot 39 = .ok (.ifCond .eq 20, 3) := dk_153 0 20 (dk_at dksX3_lot_1 15 rfl rfl)
theorem dX3_lot_42 : decode cX3_lot 42 = .ok (.iload 4, 2) := dk_21 4 (dk_at dksX3_lot_1 18 rfl rfl)
theorem dX3_lot_44 : decode cX3_lot 44 = .ok (.i2l, 1) := dk_133 (dk_at dksX3_lot_1 20 rfl rfl)
theorem dX3_lot_45 : decode cX3_lot 45 = .ok (.lconst 1, 1) := dk_10 (dk_at dksX3_lot_1 21 rfl rfl)
theorem dX3_lot_46 : decode cX3_lot 46 = .ok (.ldc2_w 72, 3) := dk_20 0 72 (dk_at dksX3_lot_2 0 rfl rfl)
theorem dX3_lot_49 : decode cX3_lot 49 = .ok (.invokestatic 13, 3) := dk_184 0 13 (dk_at dksX3_lot_2 3 rfl rfl)
theorem dX3_lot_52 : decode cX3_lot 52 = .ok (.ifCond .eq 7, 3) := dk_153 0 7 (dk_at dksX3_lot_2 6 rfl rfl)
theorem dX3_lot_55 : decode cX3_lot 55 = .ok (.iconst 1, 1) := dk_4 (dk_at dksX3_lot_2 9 rfl rfl)
theorem dX3_lot_56 : decode cX3_lot 56 = .ok (.goto 4, 3) := dk_167 0 4 (dk_at dksX3_lot_2 10 rfl rfl)
theorem dX3_lot_59 : decode cX3_lot 59 = .ok (.iconst 0, 1) := dk_3 (dk_at dksX3_lot_2 13 rfl rfl)
theorem dX3_lot_60 : decode cX3_lot 60 = .ok (.istore 5, 2) := dk_54 5 (dk_at dksX3_lot_2 14 rfl rfl)
theorem dX3_lot_62 : decode cX3_lot 62 = .ok (.aload_n 0, 1) := dk_42 (dk_at dksX3_lot_2 16 rfl rfl)
theorem dX3_lot_63 : decode cX3_lot 63 = .ok (.iload 5, 2) := dk_21 5 (dk_at dksX3_lot_2 17 rfl rfl)
theorem dX3_lot_65 : decode cX3_lot 65 = .ok (.ifCond .ne 7, 3) := dk_154 0 7 (dk_at dksX3_lot_2 19 rfl rfl)
theorem dX3_lot_68 : decode cX3_lot 68 = .ok (.iconst 1, 1) := dk_4 (dk_at dksX3_lot_2 22 rfl rfl)
theorem dX3_lot_69 : decode cX3_lot 69 = .ok (.goto 4, 3) := dk_167 0 4 (dk_at dksX3_lot_3 0 rfl rfl)
theorem dX3_lot_72 : decode cX3_lot 72 = .ok (.iconst 0, 1) := dk_3 (dk_at dksX3_lot_3 3 rfl rfl)
theorem dX3_lot_73 : decode cX3_lot 73 = .ok (.iconst 1, 1) := dk_4 (dk_at dksX3_lot_3 4 rfl rfl)
theorem dX3_lot_74 : decode cX3_lot 74 = .ok (.invokevirtual 74, 3) := dk_182 0 74 (dk_at dksX3_lot_3 5 rfl rfl)
theorem dX3_lot_77 : decode cX3_lot 77 = .ok (.ifCond .ne 30, 3) := dk_154 0 30 (dk_at dksX3_lot_3 8 rfl rfl)
theorem dX3_lot_80 : decode cX3_lot 80 = .ok (.aload_n 0, 1) := dk_42 (dk_at dksX3_lot_3 11 rfl rfl)
theorem dX3_lot_81 : decode cX3_lot 81 = .ok (.aload_n 0, 1) := dk_42 (dk_at dksX3_lot_3 12 rfl rfl)
theorem dX3_lot_82 : decode cX3_lot 82 = .ok (.getfield 38, 3) := dk_180 0 38 (dk_at dksX3_lot_3 13 rfl rfl)
theorem dX3_lot_85 : decode cX3_lot 85 = .ok (.invokeinterface 7 1, 5) := by decide +kernel
theorem dX3_lot_90 : decode cX3_lot 90 = .ok (.bipush 16, 2) := dk_16 16 (dk_at dksX3_lot_3 21 rfl rfl)
theorem dX3_lot_92 : decode cX3_lot 92 = .ok (.if_icmp .ne 7, 3) := dk_160 0 7 (dk_at dksX3_lot_4 0 rfl rfl)
theorem dX3_lot_95 : decode cX3_lot 95 = .ok (.iconst 1, 1) := dk_4 (dk_at dksX3_lot_4 3 rfl rfl)
theorem dX3_lot_96 : decode cX3_lot 96 = .ok (.goto 4, 3) := dk_167 0 4 (dk_at dksX3_lot_4 4 rfl rfl)
theorem dX3_lot_99 : decode cX3_lot 99 = .ok (.iconst 0, 1) := dk_3 (dk_at dksX3_lot_4 7 rfl rfl)
theorem dX3_lot_100 : decode cX3_lot 100 = .ok (.iconst 2, 1) := dk_5 (dk_at dksX3_lot_4 8 rfl rfl)
theorem dX3_lot_101 : decode cX3_lot 101 = .ok (.invokevirtual 74, 3) := dk_182 0 74 (dk_at dksX3_lot_4 9 rfl rfl)
theorem dX3_lot_104 : decode cX3_lot 104 = .ok (.ifCond .eq 5, 3) := dk_153 0 5 (dk_at dksX3_lot_4 12 rfl rfl)
theorem dX3_lot_107 : decode cX3_lot 107 = .ok (.iconst (-1), 1) := dk_2 (dk_at dksX3_lot_4 15 rfl rfl)
theorem dX3_lot_108 : decode cX3_lot 108 = .ok (.ireturn, 1) := dk_172 (dk_at dksX3_lot_4 16 rfl rfl)
theorem dX3_lot_109 : decode cX3_lot 109 = .ok (.aload_n 0, 1) := dk_42 (dk_at dksX3_lot_4 17 rfl rfl)
theorem dX3_lot_110 : decode cX3_lot 110 = .ok (.getfield 38, 3) := dk_180 0 38 (dk_at dksX3_lot_4 18 rfl rfl)
theorem dX3_lot_113 : decode cX3_lot 113 = .ok (.iconst 4, 1) := dk_7 (dk_at dksX3_lot_4 21 rfl rfl)
theorem dX3_lot_114 : decode cX3_lot 114 = .ok (.newarray .int, 2) := dk_188_10 (dk_at dksX3_lot_4 22 rfl rfl)
theorem dX3_lot_116 : decode cX3_lot 116 = .ok (.dup, 1) := dk_89 (dk_at dksX3_lot_5 0 rfl rfl)
theorem dX3_lot_117 : decode cX3_lot 117 = .ok (.iconst 0, 1) := dk_3 (dk_at dksX3_lot_5 1 rfl rfl)
theorem dX3_lot_118 : decode cX3_lot 118 = .ok (.iload_n 1, 1) := dk_27 (dk_at dksX3_lot_5 2 rfl rfl)
theorem dX3_lot_119 : decode cX3_lot 119 = .ok (.iastore, 1) := dk_79 (dk_at dksX3_lot_5 3 rfl rfl)
theorem dX3_lot_120 : decode cX3_lot 120 = .ok (.dup, 1) := dk_89 (dk_at dksX3_lot_5 4 rfl rfl)
theorem dX3_lot_121 : decode cX3_lot 121 = .ok (.iconst 1, 1) := dk_4 (dk_at dksX3_lot_5 5 rfl rfl)
theorem dX3_lot_122 : decode cX3_lot 122 = .ok (.iload_n 2, 1) := dk_28 (dk_at dksX3_lot_5 6 rfl rfl)
theorem dX3_lot_123 : decode cX3_lot 123 = .ok (.iastore, 1) := dk_79 (dk_at dksX3_lot_5 7 rfl rfl)
theorem dX3_lot_124 : decode cX3_lot 124 = .ok (.dup, 1) := dk_89 (dk_at dksX3_lot_5 8 rfl rfl)
theorem dX3_lot_125 : decode cX3_lot 125 = .ok (.iconst 2, 1) := dk_5 (dk_at dksX3_lot_5 9 rfl rfl)
theorem dX3_lot_126 : decode cX3_lot 126 = .ok (.iload_n 3, 1) := dk_29 (dk_at dksX3_lot_5 10 rfl rfl)
theorem dX3_lot_127 : decode cX3_lot 127 = .ok (.iastore, 1) := dk_79 (dk_at dksX3_lot_5 11 rfl rfl)
theorem dX3_lot_128 : decode cX3_lot 128 = .ok (.dup, 1) := dk_89 (dk_at dksX3_lot_5 12 rfl rfl)
theorem dX3_lot_129 : decode cX3_lot 129 = .ok (.iconst 3, 1) := dk_6 (dk_at dksX3_lot_5 13 rfl rfl)
theorem dX3_lot_130 : decode cX3_lot 130 = .ok (.iload 4, 2) := dk_21 4 (dk_at dksX3_lot_5 14 rfl rfl)
theorem dX3_lot_132 : decode cX3_lot 132 = .ok (.iastore, 1) := dk_79 (dk_at dksX3_lot_5 16 rfl rfl)
theorem dX3_lot_133 : decode cX3_lot 133 = .ok (.invokeinterface 107 2, 5) := by decide +kernel
theorem dX3_lot_138 : decode cX3_lot 138 = .ok (.pop, 1) := dk_87 (dk_at dksX3_lot_5 22 rfl rfl)
theorem dX3_lot_139 : decode cX3_lot 139 = .ok (.aload_n 0, 1) := dk_42 (dk_at dksX3_lot_5 23 rfl rfl)
theorem dX3_lot_140 : decode cX3_lot 140 = .ok (.getfield 38, 3) := dk_180 0 38 (dk_at dksX3_lot_6 0 rfl rfl)
theorem dX3_lot_143 : decode cX3_lot 143 = .ok (.invokeinterface 7 1, 5) := by decide +kernel
theorem dX3_lot_148 : decode cX3_lot 148 = .ok (.iconst 1, 1) := dk_4 (dk_at dksX3_lot_6 8 rfl rfl)
theorem dX3_lot_149 : decode cX3_lot 149 = .ok (.isub, 1) := dk_100 (dk_at dksX3_lot_6 9 rfl rfl)
theorem dX3_lot_150 : decode cX3_lot 150 = .ok (.ireturn, 1) := dk_172 (dk_at dksX3_lot_6 10 rfl rfl)
abbrev cX3_kilos : ByteArray := prog_15_method_15_code
def yX3_kilos : MethodName := ⟨RX3, "kilos", "(I)I"⟩
def dkwX3_kilos_1 : List UInt8 := [185, 0, 114, 2, 0, 192, 0, 118, 6, 46, 172]
abbrev dktX3_kilos_1 : List UInt8 := dkwX3_kilos_1 ++ []
def dkwX3_kilos_0 : List UInt8 := [42, 182, 0, 69, 42, 27, 182, 0, 111, 153, 0, 7, 2, 167, 0, 18, 42, 180, 0, 38, 27]
abbrev dktX3_kilos_0 : List UInt8 := dkwX3_kilos_0 ++ dktX3_kilos_1
theorem dksX3_kilos_0 : cX3_kilos.data.toList.drop 0 = dktX3_kilos_0 := by decide +kernel
theorem dksX3_kilos_1 : cX3_kilos.data.toList.drop 21 = dktX3_kilos_1 := dk_seg dksX3_kilos_0 21 rfl rfl
theorem dX3_kilos_0 : decode cX3_kilos 0 = .ok (.aload_n 0, 1) := dk_42 (dk_at dksX3_kilos_0 0 rfl rfl)
theorem dX3_kilos_1 : decode cX3_kilos 1 = .ok (.invokevirtual 69, 3) := dk_182 0 69 (dk_at dksX3_kilos_0 1 rfl rfl)
theorem dX3_kilos_4 : decode cX3_kilos 4 = .ok (.aload_n 0, 1) := dk_42 (dk_at dksX3_kilos_0 4 rfl rfl)
theorem dX3_kilos_5 : decode cX3_kilos 5 = .ok (.iload_n 1, 1) := dk_27 (dk_at dksX3_kilos_0 5 rfl rfl)
theorem dX3_kilos_6 : decode cX3_kilos 6 = .ok (.invokevirtual 111, 3) := dk_182 0 111 (dk_at dksX3_kilos_0 6 rfl rfl)
theorem dX3_kilos_9 : decode cX3_kilos 9 = .ok (.ifCond .eq 7, 3) := dk_153 0 7 (dk_at dksX3_kilos_0 9 rfl rfl)
theorem dX3_kilos_12 : decode cX3_kilos 12 = .ok (.iconst (-1), 1) := dk_2 (dk_at dksX3_kilos_0 12 rfl rfl)
theorem dX3_kilos_13 : decode cX3_kilos 13 = .ok (.goto 18, 3) := dk_167 0 18 (dk_at dksX3_kilos_0 13 rfl rfl)
theorem dX3_kilos_16 : decode cX3_kilos 16 = .ok (.aload_n 0, 1) := dk_42 (dk_at dksX3_kilos_0 16 rfl rfl)
theorem dX3_kilos_17 : decode cX3_kilos 17 = .ok (.getfield 38, 3) := dk_180 0 38 (dk_at dksX3_kilos_0 17 rfl rfl)
theorem dX3_kilos_20 : decode cX3_kilos 20 = .ok (.iload_n 1, 1) := dk_27 (dk_at dksX3_kilos_0 20 rfl rfl)
theorem dX3_kilos_21 : decode cX3_kilos 21 = .ok (.invokeinterface 114 2, 5) := by decide +kernel
theorem dX3_kilos_26 : decode cX3_kilos 26 = .ok (.checkcast 118, 3) := dk_192 0 118 (dk_at dksX3_kilos_1 5 rfl rfl)
theorem dX3_kilos_29 : decode cX3_kilos 29 = .ok (.iconst 3, 1) := dk_6 (dk_at dksX3_kilos_1 8 rfl rfl)
theorem dX3_kilos_30 : decode cX3_kilos 30 = .ok (.iaload, 1) := dk_46 (dk_at dksX3_kilos_1 9 rfl rfl)
theorem dX3_kilos_31 : decode cX3_kilos 31 = .ok (.ireturn, 1) := dk_172 (dk_at dksX3_kilos_1 10 rfl rfl)
abbrev cX3_noLot : ByteArray := prog_15_method_13_code
def yX3_noLot : MethodName := ⟨RX3, "noLot", "(I)Z"⟩
def dkwX3_noLot_0 : List UInt8 := [42, 42, 180, 0, 38, 27, 184, 0, 97, 154, 0, 7, 4, 167, 0, 4, 3, 4, 182, 0, 74, 172]
abbrev dktX3_noLot_0 : List UInt8 := dkwX3_noLot_0 ++ []
theorem dksX3_noLot_0 : cX3_noLot.data.toList.drop 0 = dktX3_noLot_0 := by decide +kernel
theorem dX3_noLot_0 : decode cX3_noLot 0 = .ok (.aload_n 0, 1) := dk_42 (dk_at dksX3_noLot_0 0 rfl rfl)
theorem dX3_noLot_1 : decode cX3_noLot 1 = .ok (.aload_n 0, 1) := dk_42 (dk_at dksX3_noLot_0 1 rfl rfl)
theorem dX3_noLot_2 : decode cX3_noLot 2 = .ok (.getfield 38, 3) := dk_180 0 38 (dk_at dksX3_noLot_0 2 rfl rfl)
theorem dX3_noLot_5 : decode cX3_noLot 5 = .ok (.iload_n 1, 1) := dk_27 (dk_at dksX3_noLot_0 5 rfl rfl)
theorem dX3_noLot_6 : decode cX3_noLot 6 = .ok (.invokestatic 97, 3) := dk_184 0 97 (dk_at dksX3_noLot_0 6 rfl rfl)
theorem dX3_noLot_9 : decode cX3_noLot 9 = .ok (.ifCond .ne 7, 3) := dk_154 0 7 (dk_at dksX3_noLot_0 9 rfl rfl)
theorem dX3_noLot_12 : decode cX3_noLot 12 = .ok (.iconst 1, 1) := dk_4 (dk_at dksX3_noLot_0 12 rfl rfl)
theorem dX3_noLot_13 : decode cX3_noLot 13 = .ok (.goto 4, 3) := dk_167 0 4 (dk_at dksX3_noLot_0 13 rfl rfl)
theorem dX3_noLot_16 : decode cX3_noLot 16 = .ok (.iconst 0, 1) := dk_3 (dk_at dksX3_noLot_0 16 rfl rfl)
theorem dX3_noLot_17 : decode cX3_noLot 17 = .ok (.iconst 1, 1) := dk_4 (dk_at dksX3_noLot_0 17 rfl rfl)
theorem dX3_noLot_18 : decode cX3_noLot 18 = .ok (.invokevirtual 74, 3) := dk_182 0 74 (dk_at dksX3_noLot_0 18 rfl rfl)
theorem dX3_noLot_21 : decode cX3_noLot 21 = .ok (.ireturn, 1) := dk_172 (dk_at dksX3_noLot_0 21 rfl rfl)
abbrev cX3_isOf : ByteArray := prog_15_method_3_code
def yX3_isOf : MethodName := ⟨RX3, "isOf", "(Ljava/util/List;I)Z"⟩
def dkwX3_isOf_0 : List UInt8 := [27, 133, 9, 42, 185, 0, 7, 1, 0, 4, 100, 133, 184, 0, 13, 172]
abbrev dktX3_isOf_0 : List UInt8 := dkwX3_isOf_0 ++ []
theorem dksX3_isOf_0 : cX3_isOf.data.toList.drop 0 = dktX3_isOf_0 := by decide +kernel
theorem dX3_isOf_0 : decode cX3_isOf 0 = .ok (.iload_n 1, 1) := dk_27 (dk_at dksX3_isOf_0 0 rfl rfl)
theorem dX3_isOf_1 : decode cX3_isOf 1 = .ok (.i2l, 1) := dk_133 (dk_at dksX3_isOf_0 1 rfl rfl)
theorem dX3_isOf_2 : decode cX3_isOf 2 = .ok (.lconst 0, 1) := dk_9 (dk_at dksX3_isOf_0 2 rfl rfl)
theorem dX3_isOf_3 : decode cX3_isOf 3 = .ok (.aload_n 0, 1) := dk_42 (dk_at dksX3_isOf_0 3 rfl rfl)
theorem dX3_isOf_4 : decode cX3_isOf 4 = .ok (.invokeinterface 7 1, 5) := by decide +kernel
theorem dX3_isOf_9 : decode cX3_isOf 9 = .ok (.iconst 1, 1) := dk_4 (dk_at dksX3_isOf_0 9 rfl rfl)
theorem dX3_isOf_10 : decode cX3_isOf 10 = .ok (.isub, 1) := dk_100 (dk_at dksX3_isOf_0 10 rfl rfl)
theorem dX3_isOf_11 : decode cX3_isOf 11 = .ok (.i2l, 1) := dk_133 (dk_at dksX3_isOf_0 11 rfl rfl)
theorem dX3_isOf_12 : decode cX3_isOf 12 = .ok (.invokestatic 13, 3) := dk_184 0 13 (dk_at dksX3_isOf_0 12 rfl rfl)
theorem dX3_isOf_15 : decode cX3_isOf 15 = .ok (.ireturn, 1) := dk_172 (dk_at dksX3_isOf_0 15 rfl rfl)
abbrev cX3_mix : ByteArray := prog_15_method_16_code
def yX3_mix : MethodName := ⟨RX3, "mix", "(IIIII)I"⟩
def dkwX3_mix_13 : List UInt8 := [185, 0, 7, 1, 0, 4, 100, 172]
abbrev dktX3_mix_13 : List UInt8 := dkwX3_mix_13 ++ []
def dkwX3_mix_12 : List UInt8 := [184, 0, 125, 79, 89, 7, 29, 21, 4, 96, 79, 185, 0, 107, 2, 0, 87, 42, 180, 0, 42]
abbrev dktX3_mix_12 : List UInt8 := dkwX3_mix_12 ++ dktX3_mix_13
def dkwX3_mix_11 : List UInt8 := [29, 104, 25, 6, 4, 46, 104, 29, 21, 4, 96, 108, 79, 89, 6, 3, 16, 9, 21, 9, 184, 0, 119]
abbrev dktX3_mix_11 : List UInt8 := dkwX3_mix_11 ++ dktX3_mix_12
def dkwX3_mix_10 : List UInt8 := [6, 108, 100, 54, 9, 42, 180, 0, 42, 8, 188, 10, 89, 3, 27, 79, 89, 4, 28, 79, 89, 5, 16, 10]
abbrev dktX3_mix_10 : List UInt8 := dkwX3_mix_10 ++ dktX3_mix_11
def dkwX3_mix_9 : List UInt8 := [79, 25, 7, 6, 92, 46, 21, 4, 100, 79, 21, 5, 16, 9, 96, 25, 6, 5, 46, 100, 25, 7, 5, 46]
abbrev dktX3_mix_9 : List UInt8 := dkwX3_mix_9 ++ dktX3_mix_10
def dkwX3_mix_8 : List UInt8 := [160, 0, 7, 4, 167, 0, 4, 3, 7, 182, 0, 74, 153, 0, 5, 2, 172, 25, 6, 6, 92, 46, 29, 100]
abbrev dktX3_mix_8 : List UInt8 := dkwX3_mix_8 ++ dktX3_mix_9
def dkwX3_mix_7 : List UInt8 := [4, 167, 0, 4, 3, 6, 182, 0, 74, 154, 0, 30, 42, 42, 180, 0, 42, 185, 0, 7, 1, 0, 16, 12]
abbrev dktX3_mix_7 : List UInt8 := dkwX3_mix_7 ++ dktX3_mix_8
def dkwX3_mix_6 : List UInt8 := [161, 0, 15, 42, 3, 182, 0, 93, 153, 0, 7, 4, 167, 0, 4, 3, 54, 8, 42, 21, 8, 154, 0, 7]
abbrev dktX3_mix_6 : List UInt8 := dkwX3_mix_6 ++ dktX3_mix_7
def dkwX3_mix_5 : List UInt8 := [25, 7, 3, 46, 16, 99, 160, 0, 32, 25, 6, 6, 46, 29, 161, 0, 24, 25, 7, 6, 46, 21, 4]
abbrev dktX3_mix_5 : List UInt8 := dkwX3_mix_5 ++ dktX3_mix_6
def dkwX3_mix_4 : List UInt8 := [180, 0, 38, 28, 185, 0, 114, 2, 0, 192, 0, 118, 58, 7, 25, 6, 3, 46, 16, 103, 160, 0, 41]
abbrev dktX3_mix_4 : List UInt8 := dkwX3_mix_4 ++ dktX3_mix_5
def dkwX3_mix_3 : List UInt8 := [182, 0, 74, 153, 0, 5, 2, 172, 42, 180, 0, 38, 27, 185, 0, 114, 2, 0, 192, 0, 118, 58, 6, 42]
abbrev dktX3_mix_3 : List UInt8 := dkwX3_mix_3 ++ dktX3_mix_4
def dkwX3_mix_2 : List UInt8 := [161, 0, 16, 21, 5, 133, 10, 20, 0, 105, 184, 0, 13, 154, 0, 7, 4, 167, 0, 4, 3, 5]
abbrev dktX3_mix_2 : List UInt8 := dkwX3_mix_2 ++ dktX3_mix_3
def dkwX3_mix_1 : List UInt8 := [154, 0, 7, 4, 167, 0, 4, 3, 4, 182, 0, 74, 154, 0, 40, 42, 29, 4, 161, 0, 22, 21, 4, 4]
abbrev dktX3_mix_1 : List UInt8 := dkwX3_mix_1 ++ dktX3_mix_2
def dkwX3_mix_0 : List UInt8 := [42, 182, 0, 69, 42, 42, 180, 0, 38, 27, 184, 0, 97, 153, 0, 14, 42, 180, 0, 38, 28, 184, 0, 97]
abbrev dktX3_mix_0 : List UInt8 := dkwX3_mix_0 ++ dktX3_mix_1
theorem dksX3_mix_0 : cX3_mix.data.toList.drop 0 = dktX3_mix_0 := by decide +kernel
theorem dksX3_mix_1 : cX3_mix.data.toList.drop 24 = dktX3_mix_1 := dk_seg dksX3_mix_0 24 rfl rfl
theorem dksX3_mix_2 : cX3_mix.data.toList.drop 48 = dktX3_mix_2 := dk_seg dksX3_mix_1 24 rfl rfl
theorem dksX3_mix_3 : cX3_mix.data.toList.drop 70 = dktX3_mix_3 := dk_seg dksX3_mix_2 22 rfl rfl
theorem dksX3_mix_4 : cX3_mix.data.toList.drop 94 = dktX3_mix_4 := dk_seg dksX3_mix_3 24 rfl rfl
theorem dksX3_mix_5 : cX3_mix.data.toList.drop 117 = dktX3_mix_5 := dk_seg dksX3_mix_4 23 rfl rfl
theorem dksX3_mix_6 : cX3_mix.data.toList.drop 140 = dktX3_mix_6 := dk_seg dksX3_mix_5 23 rfl rfl
theorem dksX3_mix_7 : cX3_mix.data.toList.drop 164 = dktX3_mix_7 := dk_seg dksX3_mix_6 24 rfl rfl
theorem dksX3_mix_8 : cX3_mix.data.toList.drop 188 = dktX3_mix_8 := dk_seg dksX3_mix_7 24 rfl rfl
theorem dksX3_mix_9 : cX3_mix.data.toList.drop 212 = dktX3_mix_9 := dk_seg dksX3_mix_8 24 rfl rfl
theorem dksX3_mix_10 : cX3_mix.data.toList.drop 236 = dktX3_mix_10 := dk_seg dksX3_mix_9 24 rfl rfl
theorem dksX3_mix_11 : cX3_mix.data.toList.drop 260 = dktX3_mix_11 := dk_seg dksX3_mix_10 24 rfl rfl
theorem dksX3_mix_12 : cX3_mix.data.toList.drop 283 = dktX3_mix_12 := dk_seg dksX3_mix_11 23 rfl rfl
theorem dksX3_mix_13 : cX3_mix.data.toList.drop 304 = dktX3_mix_13 := dk_seg dksX3_mix_12 21 rfl rfl
theorem dX3_mix_0 : decode cX3_mix 0 = .ok (.aload_n 0, 1) := dk_42 (dk_at dksX3_mix_0 0 rfl rfl)
theorem dX3_mix_1 : decode cX3_mix 1 = .ok (.invokevirtual 69, 3) := dk_182 0 69 (dk_at dksX3_mix_0 1 rfl rfl)
theorem dX3_mix_4 : decode cX3_mix 4 = .ok (.aload_n 0, 1) := dk_42 (dk_at dksX3_mix_0 4 rfl rfl)
theorem dX3_mix_5 : decode cX3_mix 5 = .ok (.aload_n 0, 1) := dk_42 (dk_at dksX3_mix_0 5 rfl rfl)
theorem dX3_mix_6 : decode cX3_mix 6 = .ok (.getfield 38, 3) := dk_180 0 38 (dk_at dksX3_mix_0 6 rfl rfl)
theorem dX3_mix_9 : decode cX3_mix 9 = .ok (.iload_n 1, 1) := dk_27 (dk_at dksX3_mix_0 9 rfl rfl)
theorem dX3_mix_10 : decode cX3_mix 10 = .ok (.invokestatic 97, 3) := dk_184 0 97 (dk_at dksX3_mix_0 10 rfl rfl)
theorem dX3_mix_13 : decode cX3_mix 13 = .ok (.ifCond .eq 14, 3) := dk_153 0 14 (dk_at dksX3_mix_0 13 rfl rfl)
theorem dX3_mix_16 : decode cX3_mix 16 = .ok (.aload_n 0, 1) := dk_42 (dk_at dksX3_mix_0 16 rfl rfl)
theorem dX3_mix_17 : decode cX3_mix 17 = .ok (.getfield 38, 3) := dk_180 0 38 (dk_at dksX3_mix_0 17 rfl rfl)
theorem dX3_mix_20 : decode cX3_mix 20 = .ok (.iload_n 2, 1) := dk_28 (dk_at dksX3_mix_0 20 rfl rfl)
theorem dX3_mix_21 : decode cX3_mix 21 = .ok (.invokestatic 97, 3) := dk_184 0 97 (dk_at dksX3_mix_0 21 rfl rfl)
theorem dX3_mix_24 : decode cX3_mix 24 = .ok (.ifCond .ne 7, 3) := dk_154 0 7 (dk_at dksX3_mix_1 0 rfl rfl)
theorem dX3_mix_27 : decode cX3_mix 27 = .ok (.iconst 1, 1) := dk_4 (dk_at dksX3_mix_1 3 rfl rfl)
theorem dX3_mix_28 : decode cX3_mix 28 = .ok (.goto 4, 3) := dk_167 0 4 (dk_at dksX3_mix_1 4 rfl rfl)
theorem dX3_mix_31 : decode cX3_mix 31 = .ok (.iconst 0, 1) := dk_3 (dk_at dksX3_mix_1 7 rfl rfl)
theorem dX3_mix_32 : decode cX3_mix 32 = .ok (.iconst 1, 1) := dk_4 (dk_at dksX3_mix_1 8 rfl rfl)
theorem dX3_mix_33 : decode cX3_mix 33 = .ok (.invokevirtual 74, 3) := dk_182 0 74 (dk_at dksX3_mix_1 9 rfl rfl)
theorem dX3_mix_36 : decode cX3_mix 36 = .ok (.ifCond .ne 40, 3) := dk_154 0 40 (dk_at dksX3_mix_1 12 rfl rfl)
theorem dX3_mix_39 : decode cX3_mix 39 = .ok (.aload_n 0, 1) := dk_42 (dk_at dksX3_mix_1 15 rfl rfl)
theorem dX3_mix_40 : decode cX3_mix 40 = .ok (.iload_n 3, 1) := dk_29 (dk_at dksX3_mix_1 16 rfl rfl)
theorem dX3_mix_41 : decode cX3_mix 41 = .ok (.iconst 1, 1) := dk_4 (dk_at dksX3_mix_1 17 rfl rfl)
theorem dX3_mix_42 : decode cX3_mix 42 = .ok (.if_icmp .lt 22, 3) := dk_161 0 22 (dk_at dksX3_mix_1 18 rfl rfl)
theorem dX3_mix_45 : decode cX3_mix 45 = .ok (.iload 4, 2) := dk_21 4 (dk_at dksX3_mix_1 21 rfl rfl)
theorem dX3_mix_47 : decode cX3_mix 47 = .ok (.iconst 1, 1) := dk_4 (dk_at dksX3_mix_1 23 rfl rfl)
theorem dX3_mix_48 : decode cX3_mix 48 = .ok (.if_icmp .lt 16, 3) := dk_161 0 16 (dk_at dksX3_mix_2 0 rfl rfl)
theorem dX3_mix_51 : decode cX3_mix 51 = .ok (.iload 5, 2) := dk_21 5 (dk_at dksX3_mix_2 3 rfl rfl)
theorem dX3_mix_53 : decode cX3_mix 53 = .ok (.i2l, 1) := dk_133 (dk_at dksX3_mix_2 5 rfl rfl)
theorem dX3_mix_54 : decode cX3_mix 54 = .ok (.lconst 1, 1) := dk_10 (dk_at dksX3_mix_2 6 rfl rfl)
theorem dX3_mix_55 : decode cX3_mix 55 = .ok (.ldc2_w 105, 3) := dk_20 0 105 (dk_at dksX3_mix_2 7 rfl rfl)
theorem dX3_mix_58 : decode cX3_mix 58 = .ok (.invokestatic 13, 3) := dk_184 0 13 (dk_at dksX3_mix_2 10 rfl rfl)
theorem dX3_mix_61 : decode cX3_mix 61 = .ok (.ifCond .ne 7, 3) := dk_154 0 7 (dk_at dksX3_mix_2 13 rfl rfl)
theorem dX3_mix_64 : decode cX3_mix 64 = .ok (.iconst 1, 1) := dk_4 (dk_at dksX3_mix_2 16 rfl rfl)
theorem dX3_mix_65 : decode cX3_mix 65 = .ok (.goto 4, 3) := dk_167 0 4 (dk_at dksX3_mix_2 17 rfl rfl)
theorem dX3_mix_68 : decode cX3_mix 68 = .ok (.iconst 0, 1) := dk_3 (dk_at dksX3_mix_2 20 rfl rfl)
theorem dX3_mix_69 : decode cX3_mix 69 = .ok (.iconst 2, 1) := dk_5 (dk_at dksX3_mix_2 21 rfl rfl)
theorem dX3_mix_70 : decode cX3_mix 70 = .ok (.invokevirtual 74, 3) := dk_182 0 74 (dk_at dksX3_mix_3 0 rfl rfl)
theorem dX3_mix_73 : decode cX3_mix 73 = .ok (.ifCond .eq 5, 3) := dk_153 0 5 (dk_at dksX3_mix_3 3 rfl rfl)
theorem dX3_mix_76 : decode cX3_mix 76 = .ok (.iconst (-1), 1) := dk_2 (dk_at dksX3_mix_3 6 rfl rfl)
theorem dX3_mix_77 : decode cX3_mix 77 = .ok (.ireturn, 1) := dk_172 (dk_at dksX3_mix_3 7 rfl rfl)
theorem dX3_mix_78 : decode cX3_mix 78 = .ok (.aload_n 0, 1) := dk_42 (dk_at dksX3_mix_3 8 rfl rfl)
theorem dX3_mix_79 : decode cX3_mix 79 = .ok (.getfield 38, 3) := dk_180 0 38 (dk_at dksX3_mix_3 9 rfl rfl)
theorem dX3_mix_82 : decode cX3_mix 82 = .ok (.iload_n 1, 1) := dk_27 (dk_at dksX3_mix_3 12 rfl rfl)
theorem dX3_mix_83 : decode cX3_mix 83 = .ok (.invokeinterface 114 2, 5) := by decide +kernel
theorem dX3_mix_88 : decode cX3_mix 88 = .ok (.checkcast 118, 3) := dk_192 0 118 (dk_at dksX3_mix_3 18 rfl rfl)
theorem dX3_mix_91 : decode cX3_mix 91 = .ok (.astore 6, 2) := dk_58 6 (dk_at dksX3_mix_3 21 rfl rfl)
theorem dX3_mix_93 : decode cX3_mix 93 = .ok (.aload_n 0, 1) := dk_42 (dk_at dksX3_mix_3 23 rfl rfl)
theorem dX3_mix_94 : decode cX3_mix 94 = .ok (.getfield 38, 3) := dk_180 0 38 (dk_at dksX3_mix_4 0 rfl rfl)
theorem dX3_mix_97 : decode cX3_mix 97 = .ok (.iload_n 2, 1) := dk_28 (dk_at dksX3_mix_4 3 rfl rfl)
theorem dX3_mix_98 : decode cX3_mix 98 = .ok (.invokeinterface 114 2, 5) := by decide +kernel
theorem dX3_mix_103 : decode cX3_mix 103 = .ok (.checkcast 118, 3) := dk_192 0 118 (dk_at dksX3_mix_4 9 rfl rfl)
theorem dX3_mix_106 : decode cX3_mix 106 = .ok (.astore 7, 2) := dk_58 7 (dk_at dksX3_mix_4 12 rfl rfl)
theorem dX3_mix_108 : decode cX3_mix 108 = .ok (.aload 6, 2) := dk_25 6 (dk_at dksX3_mix_4 14 rfl rfl)
theorem dX3_mix_110 : decode cX3_mix 110 = .ok (.iconst 0, 1) := dk_3 (dk_at dksX3_mix_4 16 rfl rfl)
theorem dX3_mix_111 : decode cX3_mix 111 = .ok (.iaload, 1) := dk_46 (dk_at dksX3_mix_4 17 rfl rfl)
theorem dX3_mix_112 : decode cX3_mix 112 = .ok (.bipush 103, 2) := dk_16 103 (dk_at dksX3_mix_4 18 rfl rfl)
theorem dX3_mix_114 : decode cX3_mix 114 = .ok (.if_icmp .ne 41, 3) := dk_160 0 41 (dk_at dksX3_mix_4 20 rfl rfl)
theorem dX3_mix_117 : decode cX3_mix 117 = .ok (.aload 7, 2) := dk_25 7 (dk_at dksX3_mix_5 0 rfl rfl)
theorem dX3_mix_119 : decode cX3_mix 119 = .ok (.iconst 0, 1) := dk_3 (dk_at dksX3_mix_5 2 rfl rfl)
theorem dX3_mix_120 : decode cX3_mix 120 = .ok (.iaload, 1) := dk_46 (dk_at dksX3_mix_5 3 rfl rfl)
theorem dX3_mix_121 : decode cX3_mix 121 = .ok (.bipush 99, 2) := dk_16 99 (dk_at dksX3_mix_5 4 rfl rfl)
theorem dX3_mix_123 : decode cX3_mix 123 = .ok (.if_icmp .ne 32, 3) := dk_160 0 32 (dk_at dksX3_mix_5 6 rfl rfl)
theorem dX3_mix_126 : decode cX3_mix 126 = .ok (.aload 6, 2) := dk_25 6 (dk_at dksX3_mix_5 9 rfl rfl)
theorem dX3_mix_128 : decode cX3_mix 128 = .ok (.iconst 3, 1) := dk_6 (dk_at dksX3_mix_5 11 rfl rfl)
theorem dX3_mix_129 : decode cX3_mix 129 = .ok (.iaload, 1) := dk_46 (dk_at dksX3_mix_5 12 rfl rfl)
theorem dX3_mix_130 : decode cX3_mix 130 = .ok (.iload_n 3, 1) := dk_29 (dk_at dksX3_mix_5 13 rfl rfl)
theorem dX3_mix_131 : decode cX3_mix 131 = .ok (.if_icmp .lt 24, 3) := dk_161 0 24 (dk_at dksX3_mix_5 14 rfl rfl)
theorem dX3_mix_134 : decode cX3_mix 134 = .ok (.aload 7, 2) := dk_25 7 (dk_at dksX3_mix_5 17 rfl rfl)
theorem dX3_mix_136 : decode cX3_mix 136 = .ok (.iconst 3, 1) := dk_6 (dk_at dksX3_mix_5 19 rfl rfl)
theorem dX3_mix_137 : decode cX3_mix 137 = .ok (.iaload, 1) := dk_46 (dk_at dksX3_mix_5 20 rfl rfl)
theorem dX3_mix_138 : decode cX3_mix 138 = .ok (.iload 4, 2) := dk_21 4 (dk_at dksX3_mix_5 21 rfl rfl)
theorem dX3_mix_140 : decode cX3_mix 140 = .ok (.if_icmp .lt 15, 3) := dk_161 0 15 (dk_at dksX3_mix_6 0 rfl rfl)
theorem dX3_mix_143 : decode cX3_mix 143 = .ok (.aload_n 0, 1) := dk_42 (dk_at dksX3_mix_6 3 rfl rfl)
theorem dX3_mix_144 : decode cX3_mix 144 = .ok (.iconst 0, 1) := dk_3 (dk_at dksX3_mix_6 4 rfl rfl)
theorem dX3_mix_145 : decode cX3_mix 145 = .ok (.invokevirtual 93, 3) := dk_182 0 93 (dk_at dksX3_mix_6 5 rfl rfl)
theorem dX3_mix_148 : decode cX3_mix 148 = .ok (.ifCond .eq 7, 3) := dk_153 0 7 (dk_at dksX3_mix_6 8 rfl rfl)
theorem dX3_mix_151 : decode cX3_mix 151 = .ok (.iconst 1, 1) := dk_4 (dk_at dksX3_mix_6 11 rfl rfl)
theorem dX3_mix_152 : decode cX3_mix 152 = .ok (.goto 4, 3) := dk_167 0 4 (dk_at dksX3_mix_6 12 rfl rfl)
theorem dX3_mix_155 : decode cX3_mix 155 = .ok (.iconst 0, 1) := dk_3 (dk_at dksX3_mix_6 15 rfl rfl)
theorem dX3_mix_156 : decode cX3_mix 156 = .ok (.istore 8, 2) := dk_54 8 (dk_at dksX3_mix_6 16 rfl rfl)
theorem dX3_mix_158 : decode cX3_mix 158 = .ok (.aload_n 0, 1) := dk_42 (dk_at dksX3_mix_6 18 rfl rfl)
theorem dX3_mix_159 : decode cX3_mix 159 = .ok (.iload 8, 2) := dk_21 8 (dk_at dksX3_mix_6 19 rfl rfl)
theorem dX3_mix_161 : decode cX3_mix 161 = .ok (.ifCond .ne 7, 3) := dk_154 0 7 (dk_at dksX3_mix_6 21 rfl rfl)
theorem dX3_mix_164 : decode cX3_mix 164 = .ok (.iconst 1, 1) := dk_4 (dk_at dksX3_mix_7 0 rfl rfl)
theorem dX3_mix_165 : decode cX3_mix 165 = .ok (.goto 4, 3) := dk_167 0 4 (dk_at dksX3_mix_7 1 rfl rfl)
theorem dX3_mix_168 : decode cX3_mix 168 = .ok (.iconst 0, 1) := dk_3 (dk_at dksX3_mix_7 4 rfl rfl)
theorem dX3_mix_169 : decode cX3_mix 169 = .ok (.iconst 3, 1) := dk_6 (dk_at dksX3_mix_7 5 rfl rfl)
theorem dX3_mix_170 : decode cX3_mix 170 = .ok (.invokevirtual 74, 3) := dk_182 0 74 (dk_at dksX3_mix_7 6 rfl rfl)
theorem dX3_mix_173 : decode cX3_mix 173 = .ok (.ifCond .ne 30, 3) := dk_154 0 30 (dk_at dksX3_mix_7 9 rfl rfl)
theorem dX3_mix_176 : decode cX3_mix 176 = .ok (.aload_n 0, 1) := dk_42 (dk_at dksX3_mix_7 12 rfl rfl)
theorem dX3_mix_177 : decode cX3_mix 177 = .ok (.aload_n 0, 1) := dk_42 (dk_at dksX3_mix_7 13 rfl rfl)
theorem dX3_mix_178 : decode cX3_mix 178 = .ok (.getfield 42, 3) := dk_180 0 42 (dk_at dksX3_mix_7 14 rfl rfl)
theorem dX3_mix_181 : decode cX3_mix 181 = .ok (.invokeinterface 7 1, 5) := by decide +kernel
theorem dX3_mix_186 : decode cX3_mix 186 = .ok (.bipush 12, 2) := dk_16 12 (dk_at dksX3_mix_7 22 rfl rfl)
theorem dX3_mix_188 : decode cX3_mix 188 = .ok (.if_icmp .ne 7, 3) := dk_160 0 7 (dk_at dksX3_mix_8 0 rfl rfl)
theorem dX3_mix_191 : decode cX3_mix 191 = .ok (.iconst 1, 1) := dk_4 (dk_at dksX3_mix_8 3 rfl rfl)
theorem dX3_mix_192 : decode cX3_mix 192 = .ok (.goto 4, 3) := dk_167 0 4 (dk_at dksX3_mix_8 4 rfl rfl)
theorem dX3_mix_195 : decode cX3_mix 195 = .ok (.iconst 0, 1) := dk_3 (dk_at dksX3_mix_8 7 rfl rfl)
theorem dX3_mix_196 : decode cX3_mix 196 = .ok (.iconst 4, 1) := dk_7 (dk_at dksX3_mix_8 8 rfl rfl)
theorem dX3_mix_197 : decode cX3_mix 197 = .ok (.invokevirtual 74, 3) := dk_182 0 74 (dk_at dksX3_mix_8 9 rfl rfl)
theorem dX3_mix_200 : decode cX3_mix 200 = .ok (.ifCond .eq 5, 3) := dk_153 0 5 (dk_at dksX3_mix_8 12 rfl rfl)
theorem dX3_mix_203 : decode cX3_mix 203 = .ok (.iconst (-1), 1) := dk_2 (dk_at dksX3_mix_8 15 rfl rfl)
theorem dX3_mix_204 : decode cX3_mix 204 = .ok (.ireturn, 1) := dk_172 (dk_at dksX3_mix_8 16 rfl rfl)
theorem dX3_mix_205 : decode cX3_mix 205 = .ok (.aload 6, 2) := dk_25 6 (dk_at dksX3_mix_8 17 rfl rfl)
theorem dX3_mix_207 : decode cX3_mix 207 = .ok (.iconst 3, 1) := dk_6 (dk_at dksX3_mix_8 19 rfl rfl)
theorem dX3_mix_208 : decode cX3_mix 208 = .ok (.dup2, 1) := dk_92 (dk_at dksX3_mix_8 20 rfl rfl)
theorem dX3_mix_209 : decode cX3_mix 209 = .ok (.iaload, 1) := dk_46 (dk_at dksX3_mix_8 21 rfl rfl)
theorem dX3_mix_210 : decode cX3_mix 210 = .ok (.iload_n 3, 1) := dk_29 (dk_at dksX3_mix_8 22 rfl rfl)
theorem dX3_mix_211 : decode cX3_mix 211 = .ok (.isub, 1) := dk_100 (dk_at dksX3_mix_8 23 rfl rfl)
theorem dX3_mix_212 : decode cX3_mix 212 = .ok (.iastore, 1) := dk_79 (dk_at dksX3_mix_9 0 rfl rfl)
theorem dX3_mix_213 : decode cX3_mix 213 = .ok (.aload 7, 2) := dk_25 7 (dk_at dksX3_mix_9 1 rfl rfl)
theorem dX3_mix_215 : decode cX3_mix 215 = .ok (.iconst 3, 1) := dk_6 (dk_at dksX3_mix_9 3 rfl rfl)
theorem dX3_mix_216 : decode cX3_mix 216 = .ok (.dup2, 1) := dk_92 (dk_at dksX3_mix_9 4 rfl rfl)
theorem dX3_mix_217 : decode cX3_mix 217 = .ok (.iaload, 1) := dk_46 (dk_at dksX3_mix_9 5 rfl rfl)
theorem dX3_mix_218 : decode cX3_mix 218 = .ok (.iload 4, 2) := dk_21 4 (dk_at dksX3_mix_9 6 rfl rfl)
theorem dX3_mix_220 : decode cX3_mix 220 = .ok (.isub, 1) := dk_100 (dk_at dksX3_mix_9 8 rfl rfl)
theorem dX3_mix_221 : decode cX3_mix 221 = .ok (.iastore, 1) := dk_79 (dk_at dksX3_mix_9 9 rfl rfl)
theorem dX3_mix_222 : decode cX3_mix 222 = .ok (.iload 5, 2) := dk_21 5 (dk_at dksX3_mix_9 10 rfl rfl)
theorem dX3_mix_224 : decode cX3_mix 224 = .ok (.bipush 9, 2) := dk_16 9 (dk_at dksX3_mix_9 12 rfl rfl)
theorem dX3_mix_226 : decode cX3_mix 226 = .ok (.iadd, 1) := dk_96 (dk_at dksX3_mix_9 14 rfl rfl)
theorem dX3_mix_227 : decode cX3_mix 227 = .ok (.aload 6, 2) := dk_25 6 (dk_at dksX3_mix_9 15 rfl rfl)
theorem dX3_mix_229 : decode cX3_mix 229 = .ok (.iconst 2, 1) := dk_5 (dk_at dksX3_mix_9 17 rfl rfl)
theorem dX3_mix_230 : decode cX3_mix 230 = .ok (.iaload, 1) := dk_46 (dk_at dksX3_mix_9 18 rfl rfl)
theorem dX3_mix_231 : decode cX3_mix 231 = .ok (.isub, 1) := dk_100 (dk_at dksX3_mix_9 19 rfl rfl)
theorem dX3_mix_232 : decode cX3_mix 232 = .ok (.aload 7, 2) := dk_25 7 (dk_at dksX3_mix_9 20 rfl rfl)
theorem dX3_mix_234 : decode cX3_mix 234 = .ok (.iconst 2, 1) := dk_5 (dk_at dksX3_mix_9 22 rfl rfl)
theorem dX3_mix_235 : decode cX3_mix 235 = .ok (.iaload, 1) := dk_46 (dk_at dksX3_mix_9 23 rfl rfl)
theorem dX3_mix_236 : decode cX3_mix 236 = .ok (.iconst 3, 1) := dk_6 (dk_at dksX3_mix_10 0 rfl rfl)
theorem dX3_mix_237 : decode cX3_mix 237 = .ok (.idiv, 1) := dk_108 (dk_at dksX3_mix_10 1 rfl rfl)
theorem dX3_mix_238 : decode cX3_mix 238 = .ok (.isub, 1) := dk_100 (dk_at dksX3_mix_10 2 rfl rfl)
theorem dX3_mix_239 : decode cX3_mix 239 = .ok (.istore 9, 2) := dk_54 9 (dk_at dksX3_mix_10 3 rfl rfl)
theorem dX3_mix_241 : decode cX3_mix 241 = .ok (.aload_n 0, 1) := dk_42 (dk_at dksX3_mix_10 5 rfl rfl)
theorem dX3_mix_242 : decode cX3_mix 242 = .ok (.getfield 42, 3) := dk_180 0 42 (dk_at dksX3_mix_10 6 rfl rfl)
theorem dX3_mix_245 : decode cX3_mix 245 = .ok (.iconst 5, 1) := dk_8 (dk_at dksX3_mix_10 9 rfl rfl)
theorem dX3_mix_246 : decode cX3_mix 246 = .ok (.newarray .int, 2) := dk_188_10 (dk_at dksX3_mix_10 10 rfl rfl)
theorem dX3_mix_248 : decode cX3_mix 248 = .ok (.dup, 1) := dk_89 (dk_at dksX3_mix_10 12 rfl rfl)
theorem dX3_mix_249 : decode cX3_mix 249 = .ok (.iconst 0, 1) := dk_3 (dk_at dksX3_mix_10 13 rfl rfl)
theorem dX3_mix_250 : decode cX3_mix 250 = .ok (.iload_n 1, 1) := dk_27 (dk_at dksX3_mix_10 14 rfl rfl)
theorem dX3_mix_251 : decode cX3_mix 251 = .ok (.iastore, 1) := dk_79 (dk_at dksX3_mix_10 15 rfl rfl)
theorem dX3_mix_252 : decode cX3_mix 252 = .ok (.dup, 1) := dk_89 (dk_at dksX3_mix_10 16 rfl rfl)
theorem dX3_mix_253 : decode cX3_mix 253 = .ok (.iconst 1, 1) := dk_4 (dk_at dksX3_mix_10 17 rfl rfl)
theorem dX3_mix_254 : decode cX3_mix 254 = .ok (.iload_n 2, 1) := dk_28 (dk_at dksX3_mix_10 18 rfl rfl)
theorem dX3_mix_255 : decode cX3_mix 255 = .ok (.iastore, 1) := dk_79 (dk_at dksX3_mix_10 19 rfl rfl)
theorem dX3_mix_256 : decode cX3_mix 256 = .ok (.dup, 1) := dk_89 (dk_at dksX3_mix_10 20 rfl rfl)
theorem dX3_mix_257 : decode cX3_mix 257 = .ok (.iconst 2, 1) := dk_5 (dk_at dksX3_mix_10 21 rfl rfl)
theorem dX3_mix_258 : decode cX3_mix 258 = .ok (.bipush 10, 2) := dk_16 10 (dk_at dksX3_mix_10 22 rfl rfl)
theorem dX3_mix_260 : decode cX3_mix 260 = .ok (.iload_n 3, 1) := dk_29 (dk_at dksX3_mix_11 0 rfl rfl)
theorem dX3_mix_261 : decode cX3_mix 261 = .ok (.imul, 1) := dk_104 (dk_at dksX3_mix_11 1 rfl rfl)
theorem dX3_mix_262 : decode cX3_mix 262 = .ok (.aload 6, 2) := dk_25 6 (dk_at dksX3_mix_11 2 rfl rfl)
theorem dX3_mix_264 : decode cX3_mix 264 = .ok (.iconst 1, 1) := dk_4 (dk_at dksX3_mix_11 4 rfl rfl)
theorem dX3_mix_265 : decode cX3_mix 265 = .ok (.iaload, 1) := dk_46 (dk_at dksX3_mix_11 5 rfl rfl)
theorem dX3_mix_266 : decode cX3_mix 266 = .ok (.imul, 1) := dk_104 (dk_at dksX3_mix_11 6 rfl rfl)
theorem dX3_mix_267 : decode cX3_mix 267 = .ok (.iload_n 3, 1) := dk_29 (dk_at dksX3_mix_11 7 rfl rfl)
theorem dX3_mix_268 : decode cX3_mix 268 = .ok (.iload 4, 2) := dk_21 4 (dk_at dksX3_mix_11 8 rfl rfl)
theorem dX3_mix_270 : decode cX3_mix 270 = .ok (.iadd, 1) := dk_96 (dk_at dksX3_mix_11 10 rfl rfl)
theorem dX3_mix_271 : decode cX3_mix 271 = .ok (.idiv, 1) := dk_108 (dk_at dksX3_mix_11 11 rfl rfl)
theorem dX3_mix_272 : decode cX3_mix 272 = .ok (.iastore, 1) := dk_79 (dk_at dksX3_mix_11 12 rfl rfl)
theorem dX3_mix_273 : decode cX3_mix 273 = .ok (.dup, 1) := dk_89 (dk_at dksX3_mix_11 13 rfl rfl)
theorem dX3_mix_274 : decode cX3_mix 274 = .ok (.iconst 3, 1) := dk_6 (dk_at dksX3_mix_11 14 rfl rfl)
theorem dX3_mix_275 : decode cX3_mix 275 = .ok (.iconst 0, 1) := dk_3 (dk_at dksX3_mix_11 15 rfl rfl)
theorem dX3_mix_276 : decode cX3_mix 276 = .ok (.bipush 9, 2) := dk_16 9 (dk_at dksX3_mix_11 16 rfl rfl)
theorem dX3_mix_278 : decode cX3_mix 278 = .ok (.iload 9, 2) := dk_21 9 (dk_at dksX3_mix_11 18 rfl rfl)
theorem dX3_mix_280 : decode cX3_mix 280 = .ok (.invokestatic 119, 3) := dk_184 0 119 (dk_at dksX3_mix_11 20 rfl rfl)
theorem dX3_mix_283 : decode cX3_mix 283 = .ok (.invokestatic 125, 3) := dk_184 0 125 (dk_at dksX3_mix_12 0 rfl rfl)
theorem dX3_mix_286 : decode cX3_mix 286 = .ok (.iastore, 1) := dk_79 (dk_at dksX3_mix_12 3 rfl rfl)
theorem dX3_mix_287 : decode cX3_mix 287 = .ok (.dup, 1) := dk_89 (dk_at dksX3_mix_12 4 rfl rfl)
theorem dX3_mix_288 : decode cX3_mix 288 = .ok (.iconst 4, 1) := dk_7 (dk_at dksX3_mix_12 5 rfl rfl)
theorem dX3_mix_289 : decode cX3_mix 289 = .ok (.iload_n 3, 1) := dk_29 (dk_at dksX3_mix_12 6 rfl rfl)
theorem dX3_mix_290 : decode cX3_mix 290 = .ok (.iload 4, 2) := dk_21 4 (dk_at dksX3_mix_12 7 rfl rfl)
theorem dX3_mix_292 : decode cX3_mix 292 = .ok (.iadd, 1) := dk_96 (dk_at dksX3_mix_12 9 rfl rfl)
theorem dX3_mix_293 : decode cX3_mix 293 = .ok (.iastore, 1) := dk_79 (dk_at dksX3_mix_12 10 rfl rfl)
theorem dX3_mix_294 : decode cX3_mix 294 = .ok (.invokeinterface 107 2, 5) := by decide +kernel
theorem dX3_mix_299 : decode cX3_mix 299 = .ok (.pop, 1) := dk_87 (dk_at dksX3_mix_12 16 rfl rfl)
theorem dX3_mix_300 : decode cX3_mix 300 = .ok (.aload_n 0, 1) := dk_42 (dk_at dksX3_mix_12 17 rfl rfl)
theorem dX3_mix_301 : decode cX3_mix 301 = .ok (.getfield 42, 3) := dk_180 0 42 (dk_at dksX3_mix_12 18 rfl rfl)
theorem dX3_mix_304 : decode cX3_mix 304 = .ok (.invokeinterface 7 1, 5) := by decide +kernel
theorem dX3_mix_309 : decode cX3_mix 309 = .ok (.iconst 1, 1) := dk_4 (dk_at dksX3_mix_13 5 rfl rfl)
theorem dX3_mix_310 : decode cX3_mix 310 = .ok (.isub, 1) := dk_100 (dk_at dksX3_mix_13 6 rfl rfl)
theorem dX3_mix_311 : decode cX3_mix 311 = .ok (.ireturn, 1) := dk_172 (dk_at dksX3_mix_13 7 rfl rfl)
abbrev cX3_mixture : ByteArray := prog_15_method_17_code
def yX3_mixture : MethodName := ⟨RX3, "mixture", "(IC)I"⟩
def dkwX3_mixture_3 : List UInt8 := [28, 182, 0, 83, 96, 46, 172]
abbrev dktX3_mixture_3 : List UInt8 := dkwX3_mixture_3 ++ []
def dkwX3_mixture_2 : List UInt8 := [182, 0, 74, 153, 0, 5, 2, 172, 42, 180, 0, 42, 27, 185, 0, 114, 2, 0, 192, 0, 118, 5, 18, 128]
abbrev dktX3_mixture_2 : List UInt8 := dkwX3_mixture_2 ++ dktX3_mixture_3
def dkwX3_mixture_1 : List UInt8 := [182, 0, 74, 154, 0, 25, 42, 18, 128, 28, 182, 0, 83, 156, 0, 7, 4, 167, 0, 4, 3, 5]
abbrev dktX3_mixture_1 : List UInt8 := dkwX3_mixture_1 ++ dktX3_mixture_2
def dkwX3_mixture_0 : List UInt8 := [42, 182, 0, 69, 42, 42, 180, 0, 42, 27, 184, 0, 97, 154, 0, 7, 4, 167, 0, 4, 3, 4]
abbrev dktX3_mixture_0 : List UInt8 := dkwX3_mixture_0 ++ dktX3_mixture_1
theorem dksX3_mixture_0 : cX3_mixture.data.toList.drop 0 = dktX3_mixture_0 := by decide +kernel
theorem dksX3_mixture_1 : cX3_mixture.data.toList.drop 22 = dktX3_mixture_1 := dk_seg dksX3_mixture_0 22 rfl rfl
theorem dksX3_mixture_2 : cX3_mixture.data.toList.drop 44 = dktX3_mixture_2 := dk_seg dksX3_mixture_1 22 rfl rfl
theorem dksX3_mixture_3 : cX3_mixture.data.toList.drop 68 = dktX3_mixture_3 := dk_seg dksX3_mixture_2 24 rfl rfl
theorem dX3_mixture_0 : decode cX3_mixture 0 = .ok (.aload_n 0, 1) := dk_42 (dk_at dksX3_mixture_0 0 rfl rfl)
theorem dX3_mixture_1 : decode cX3_mixture 1 = .ok (.invokevirtual 69, 3) := dk_182 0 69 (dk_at dksX3_mixture_0 1 rfl rfl)
theorem dX3_mixture_4 : decode cX3_mixture 4 = .ok (.aload_n 0, 1) := dk_42 (dk_at dksX3_mixture_0 4 rfl rfl)
theorem dX3_mixture_5 : decode cX3_mixture 5 = .ok (.aload_n 0, 1) := dk_42 (dk_at dksX3_mixture_0 5 rfl rfl)
theorem dX3_mixture_6 : decode cX3_mixture 6 = .ok (.getfield 42, 3) := dk_180 0 42 (dk_at dksX3_mixture_0 6 rfl rfl)
theorem dX3_mixture_9 : decode cX3_mixture 9 = .ok (.iload_n 1, 1) := dk_27 (dk_at dksX3_mixture_0 9 rfl rfl)
theorem dX3_mixture_10 : decode cX3_mixture 10 = .ok (.invokestatic 97, 3) := dk_184 0 97 (dk_at dksX3_mixture_0 10 rfl rfl)
theorem dX3_mixture_13 : decode cX3_mixture 13 = .ok (.ifCond .ne 7, 3) := dk_154 0 7 (dk_at dksX3_mixture_0 13 rfl rfl)
theorem dX3_mixture_16 : decode cX3_mixture 16 = .ok (.iconst 1, 1) := dk_4 (dk_at dksX3_mixture_0 16 rfl rfl)
theorem dX3_mixture_17 : decode cX3_mixture 17 = .ok (.goto 4, 3) := dk_167 0 4 (dk_at dksX3_mixture_0 17 rfl rfl)
theorem dX3_mixture_20 : decode cX3_mixture 20 = .ok (.iconst 0, 1) := dk_3 (dk_at dksX3_mixture_0 20 rfl rfl)
theorem dX3_mixture_21 : decode cX3_mixture 21 = .ok (.iconst 1, 1) := dk_4 (dk_at dksX3_mixture_0 21 rfl rfl)
theorem dX3_mixture_22 : decode cX3_mixture 22 = .ok (.invokevirtual 74, 3) := dk_182 0 74 (dk_at dksX3_mixture_1 0 rfl rfl)
theorem dX3_mixture_25 : decode cX3_mixture 25 = .ok (.ifCond .ne 25, 3) := dk_154 0 25 (dk_at dksX3_mixture_1 3 rfl rfl)
theorem dX3_mixture_28 : decode cX3_mixture 28 = .ok (.aload_n 0, 1) := dk_42 (dk_at dksX3_mixture_1 6 rfl rfl)
theorem dX3_mixture_29 : decode cX3_mixture 29 = .ok (.ldc 128, 2) := dk_18 128 (dk_at dksX3_mixture_1 7 rfl rfl)
theorem dX3_mixture_31 : decode cX3_mixture 31 = .ok (.iload_n 2, 1) := dk_28 (dk_at dksX3_mixture_1 9 rfl rfl)
theorem dX3_mixture_32 : decode cX3_mixture 32 = .ok (.invokevirtual 83, 3) := dk_182 0 83 (dk_at dksX3_mixture_1 10 rfl rfl)
theorem dX3_mixture_35 : decode cX3_mixture 35 = .ok (.ifCond .ge 7, 3) := dk_156 0 7 (dk_at dksX3_mixture_1 13 rfl rfl)
theorem dX3_mixture_38 : decode cX3_mixture 38 = .ok (.iconst 1, 1) := dk_4 (dk_at dksX3_mixture_1 16 rfl rfl)
theorem dX3_mixture_39 : decode cX3_mixture 39 = .ok (.goto 4, 3) := dk_167 0 4 (dk_at dksX3_mixture_1 17 rfl rfl)
theorem dX3_mixture_42 : decode cX3_mixture 42 = .ok (.iconst 0, 1) := dk_3 (dk_at dksX3_mixture_1 20 rfl rfl)
theorem dX3_mixture_43 : decode cX3_mixture 43 = .ok (.iconst 2, 1) := dk_5 (dk_at dksX3_mixture_1 21 rfl rfl)
theorem dX3_mixture_44 : decode cX3_mixture 44 = .ok (.invokevirtual 74, 3) := dk_182 0 74 (dk_at dksX3_mixture_2 0 rfl rfl)
theorem dX3_mixture_47 : decode cX3_mixture 47 = .ok (.ifCond .eq 5, 3) := dk_153 0 5 (dk_at dksX3_mixture_2 3 rfl rfl)
theorem dX3_mixture_50 : decode cX3_mixture 50 = .ok (.iconst (-1), 1) := dk_2 (dk_at dksX3_mixture_2 6 rfl rfl)
theorem dX3_mixture_51 : decode cX3_mixture 51 = .ok (.ireturn, 1) := dk_172 (dk_at dksX3_mixture_2 7 rfl rfl)
theorem dX3_mixture_52 : decode cX3_mixture 52 = .ok (.aload_n 0, 1) := dk_42 (dk_at dksX3_mixture_2 8 rfl rfl)
theorem dX3_mixture_53 : decode cX3_mixture 53 = .ok (.getfield 42, 3) := dk_180 0 42 (dk_at dksX3_mixture_2 9 rfl rfl)
theorem dX3_mixture_56 : decode cX3_mixture 56 = .ok (.iload_n 1, 1) := dk_27 (dk_at dksX3_mixture_2 12 rfl rfl)
theorem dX3_mixture_57 : decode cX3_mixture 57 = .ok (.invokeinterface 114 2, 5) := by decide +kernel
theorem dX3_mixture_62 : decode cX3_mixture 62 = .ok (.checkcast 118, 3) := dk_192 0 118 (dk_at dksX3_mixture_2 18 rfl rfl)
theorem dX3_mixture_65 : decode cX3_mixture 65 = .ok (.iconst 2, 1) := dk_5 (dk_at dksX3_mixture_2 21 rfl rfl)
theorem dX3_mixture_66 : decode cX3_mixture 66 = .ok (.ldc 128, 2) := dk_18 128 (dk_at dksX3_mixture_2 22 rfl rfl)
theorem dX3_mixture_68 : decode cX3_mixture 68 = .ok (.iload_n 2, 1) := dk_28 (dk_at dksX3_mixture_3 0 rfl rfl)
theorem dX3_mixture_69 : decode cX3_mixture 69 = .ok (.invokevirtual 83, 3) := dk_182 0 83 (dk_at dksX3_mixture_3 1 rfl rfl)
theorem dX3_mixture_72 : decode cX3_mixture 72 = .ok (.iadd, 1) := dk_96 (dk_at dksX3_mixture_3 4 rfl rfl)
theorem dX3_mixture_73 : decode cX3_mixture 73 = .ok (.iaload, 1) := dk_46 (dk_at dksX3_mixture_3 5 rfl rfl)
theorem dX3_mixture_74 : decode cX3_mixture 74 = .ok (.ireturn, 1) := dk_172 (dk_at dksX3_mixture_3 6 rfl rfl)
abbrev cX3_press : ByteArray := prog_15_method_18_code
def yX3_press : MethodName := ⟨RX3, "press", "(III)I"⟩
def dkwX3_press_10 : List UInt8 := [4, 100, 172]
abbrev dktX3_press_10 : List UInt8 := dkwX3_press_10 ++ []
def dkwX3_press_9 : List UInt8 := [29, 100, 79, 42, 180, 0, 51, 25, 5, 185, 0, 107, 2, 0, 87, 42, 180, 0, 51, 185, 0, 7, 1, 0]
abbrev dktX3_press_9 : List UInt8 := dkwX3_press_9 ++ dktX3_press_10
def dkwX3_press_8 : List UInt8 := [180, 0, 45, 28, 92, 46, 29, 16, 10, 25, 4, 6, 46, 100, 104, 8, 108, 96, 79, 25, 4, 7, 92, 46]
abbrev dktX3_press_8 : List UInt8 := dkwX3_press_8 ++ dktX3_press_9
def dkwX3_press_7 : List UInt8 := [29, 104, 181, 0, 138, 25, 5, 16, 20, 42, 180, 0, 45, 28, 46, 16, 40, 108, 96, 181, 0, 141, 42]
abbrev dktX3_press_7 : List UInt8 := dkwX3_press_7 ++ dktX3_press_8
def dkwX3_press_6 : List UInt8 := [153, 0, 5, 2, 172, 187, 0, 132, 89, 183, 0, 134, 58, 5, 25, 5, 27, 181, 0, 135, 25, 5, 16, 20]
abbrev dktX3_press_6 : List UInt8 := dkwX3_press_6 ++ dktX3_press_7
def dkwX3_press_5 : List UInt8 := [42, 180, 0, 51, 185, 0, 7, 1, 0, 16, 16, 160, 0, 7, 4, 167, 0, 4, 3, 7, 182, 0, 74]
abbrev dktX3_press_5 : List UInt8 := dkwX3_press_5 ++ dktX3_press_6
def dkwX3_press_4 : List UInt8 := [162, 0, 11, 42, 4, 182, 0, 93, 154, 0, 7, 4, 167, 0, 4, 3, 6, 182, 0, 74, 154, 0, 30, 42]
abbrev dktX3_press_4 : List UInt8 := dkwX3_press_4 ++ dktX3_press_5
def dkwX3_press_3 : List UInt8 := [192, 0, 118, 58, 4, 42, 25, 4, 7, 46, 29, 161, 0, 23, 42, 180, 0, 45, 28, 46, 17, 0, 200]
abbrev dktX3_press_3 : List UInt8 := dkwX3_press_3 ++ dktX3_press_4
def dkwX3_press_2 : List UInt8 := [4, 167, 0, 4, 3, 5, 182, 0, 74, 153, 0, 5, 2, 172, 42, 180, 0, 42, 27, 185, 0, 114, 2, 0]
abbrev dktX3_press_2 : List UInt8 := dkwX3_press_2 ++ dktX3_press_3
def dkwX3_press_1 : List UInt8 := [182, 0, 74, 154, 0, 33, 42, 28, 133, 9, 20, 0, 130, 184, 0, 13, 153, 0, 8, 29, 4, 162, 0, 7]
abbrev dktX3_press_1 : List UInt8 := dkwX3_press_1 ++ dktX3_press_2
def dkwX3_press_0 : List UInt8 := [42, 182, 0, 69, 42, 42, 180, 0, 42, 27, 184, 0, 97, 154, 0, 7, 4, 167, 0, 4, 3, 4]
abbrev dktX3_press_0 : List UInt8 := dkwX3_press_0 ++ dktX3_press_1
theorem dksX3_press_0 : cX3_press.data.toList.drop 0 = dktX3_press_0 := by decide +kernel
theorem dksX3_press_1 : cX3_press.data.toList.drop 22 = dktX3_press_1 := dk_seg dksX3_press_0 22 rfl rfl
theorem dksX3_press_2 : cX3_press.data.toList.drop 46 = dktX3_press_2 := dk_seg dksX3_press_1 24 rfl rfl
theorem dksX3_press_3 : cX3_press.data.toList.drop 70 = dktX3_press_3 := dk_seg dksX3_press_2 24 rfl rfl
theorem dksX3_press_4 : cX3_press.data.toList.drop 93 = dktX3_press_4 := dk_seg dksX3_press_3 23 rfl rfl
theorem dksX3_press_5 : cX3_press.data.toList.drop 117 = dktX3_press_5 := dk_seg dksX3_press_4 24 rfl rfl
theorem dksX3_press_6 : cX3_press.data.toList.drop 140 = dktX3_press_6 := dk_seg dksX3_press_5 23 rfl rfl
theorem dksX3_press_7 : cX3_press.data.toList.drop 164 = dktX3_press_7 := dk_seg dksX3_press_6 24 rfl rfl
theorem dksX3_press_8 : cX3_press.data.toList.drop 187 = dktX3_press_8 := dk_seg dksX3_press_7 23 rfl rfl
theorem dksX3_press_9 : cX3_press.data.toList.drop 211 = dktX3_press_9 := dk_seg dksX3_press_8 24 rfl rfl
theorem dksX3_press_10 : cX3_press.data.toList.drop 235 = dktX3_press_10 := dk_seg dksX3_press_9 24 rfl rfl
theorem dX3_press_0 : decode cX3_press 0 = .ok (.aload_n 0, 1) := dk_42 (dk_at dksX3_press_0 0 rfl rfl)
theorem dX3_press_1 : decode cX3_press 1 = .ok (.invokevirtual 69, 3) := dk_182 0 69 (dk_at dksX3_press_0 1 rfl rfl)
theorem dX3_press_4 : decode cX3_press 4 = .ok (.aload_n 0, 1) := dk_42 (dk_at dksX3_press_0 4 rfl rfl)
theorem dX3_press_5 : decode cX3_press 5 = .ok (.aload_n 0, 1) := dk_42 (dk_at dksX3_press_0 5 rfl rfl)
theorem dX3_press_6 : decode cX3_press 6 = .ok (.getfield 42, 3) := dk_180 0 42 (dk_at dksX3_press_0 6 rfl rfl)
theorem dX3_press_9 : decode cX3_press 9 = .ok (.iload_n 1, 1) := dk_27 (dk_at dksX3_press_0 9 rfl rfl)
theorem dX3_press_10 : decode cX3_press 10 = .ok (.invokestatic 97, 3) := dk_184 0 97 (dk_at dksX3_press_0 10 rfl rfl)
theorem dX3_press_13 : decode cX3_press 13 = .ok (.ifCond .ne 7, 3) := dk_154 0 7 (dk_at dksX3_press_0 13 rfl rfl)
theorem dX3_press_16 : decode cX3_press 16 = .ok (.iconst 1, 1) := dk_4 (dk_at dksX3_press_0 16 rfl rfl)
theorem dX3_press_17 : decode cX3_press 17 = .ok (.goto 4, 3) := dk_167 0 4 (dk_at dksX3_press_0 17 rfl rfl)
theorem dX3_press_20 : decode cX3_press 20 = .ok (.iconst 0, 1) := dk_3 (dk_at dksX3_press_0 20 rfl rfl)
theorem dX3_press_21 : decode cX3_press 21 = .ok (.iconst 1, 1) := dk_4 (dk_at dksX3_press_0 21 rfl rfl)
theorem dX3_press_22 : decode cX3_press 22 = .ok (.invokevirtual 74, 3) := dk_182 0 74 (dk_at dksX3_press_1 0 rfl rfl)
theorem dX3_press_25 : decode cX3_press 25 = .ok (.ifCond .ne 33, 3) := dk_154 0 33 (dk_at dksX3_press_1 3 rfl rfl)
theorem dX3_press_28 : decode cX3_press 28 = .ok (.aload_n 0, 1) := dk_42 (dk_at dksX3_press_1 6 rfl rfl)
theorem dX3_press_29 : decode cX3_press 29 = .ok (.iload_n 2, 1) := dk_28 (dk_at dksX3_press_1 7 rfl rfl)
theorem dX3_press_30 : decode cX3_press 30 = .ok (.i2l, 1) := dk_133 (dk_at dksX3_press_1 8 rfl rfl)
theorem dX3_press_31 : decode cX3_press 31 = .ok (.lconst 0, 1) := dk_9 (dk_at dksX3_press_1 9 rfl rfl)
theorem dX3_press_32 : decode cX3_press 32 = .ok (.ldc2_w 130, 3) := dk_20 0 130 (dk_at dksX3_press_1 10 rfl rfl)
theorem dX3_press_35 : decode cX3_press 35 = .ok (.invokestatic 13, 3) := dk_184 0 13 (dk_at dksX3_press_1 13 rfl rfl)
theorem dX3_press_38 : decode cX3_press 38 = .ok (.ifCond .eq 8, 3) := dk_153 0 8 (dk_at dksX3_press_1 16 rfl rfl)
theorem dX3_press_41 : decode cX3_press 41 = .ok (.iload_n 3, 1) := dk_29 (dk_at dksX3_press_1 19 rfl rfl)
theorem dX3_press_42 : decode cX3_press 42 = .ok (.iconst 1, 1) := dk_4 (dk_at dksX3_press_1 20 rfl rfl)
theorem dX3_press_43 : decode cX3_press 43 = .ok (.if_icmp .ge 7, 3) := dk_162 0 7 (dk_at dksX3_press_1 21 rfl rfl)
theorem dX3_press_46 : decode cX3_press 46 = .ok (.iconst 1, 1) := dk_4 (dk_at dksX3_press_2 0 rfl rfl)
theorem dX3_press_47 : decode cX3_press 47 = .ok (.goto 4, 3) := dk_167 0 4 (dk_at dksX3_press_2 1 rfl rfl)
theorem dX3_press_50 : decode cX3_press 50 = .ok (.iconst 0, 1) := dk_3 (dk_at dksX3_press_2 4 rfl rfl)
theorem dX3_press_51 : decode cX3_press 51 = .ok (.iconst 2, 1) := dk_5 (dk_at dksX3_press_2 5 rfl rfl)
theorem dX3_press_52 : decode cX3_press 52 = .ok (.invokevirtual 74, 3) := dk_182 0 74 (dk_at dksX3_press_2 6 rfl rfl)
theorem dX3_press_55 : decode cX3_press 55 = .ok (.ifCond .eq 5, 3) := dk_153 0 5 (dk_at dksX3_press_2 9 rfl rfl)
theorem dX3_press_58 : decode cX3_press 58 = .ok (.iconst (-1), 1) := dk_2 (dk_at dksX3_press_2 12 rfl rfl)
theorem dX3_press_59 : decode cX3_press 59 = .ok (.ireturn, 1) := dk_172 (dk_at dksX3_press_2 13 rfl rfl)
theorem dX3_press_60 : decode cX3_press 60 = .ok (.aload_n 0, 1) := dk_42 (dk_at dksX3_press_2 14 rfl rfl)
theorem dX3_press_61 : decode cX3_press 61 = .ok (.getfield 42, 3) := dk_180 0 42 (dk_at dksX3_press_2 15 rfl rfl)
theorem dX3_press_64 : decode cX3_press 64 = .ok (.iload_n 1, 1) := dk_27 (dk_at dksX3_press_2 18 rfl rfl)
theorem dX3_press_65 : decode cX3_press 65 = .ok (.invokeinterface 114 2, 5) := by decide +kernel
theorem dX3_press_70 : decode cX3_press 70 = .ok (.checkcast 118, 3) := dk_192 0 118 (dk_at dksX3_press_3 0 rfl rfl)
theorem dX3_press_73 : decode cX3_press 73 = .ok (.astore 4, 2) := dk_58 4 (dk_at dksX3_press_3 3 rfl rfl)
theorem dX3_press_75 : decode cX3_press 75 = .ok (.aload_n 0, 1) := dk_42 (dk_at dksX3_press_3 5 rfl rfl)
theorem dX3_press_76 : decode cX3_press 76 = .ok (.aload 4, 2) := dk_25 4 (dk_at dksX3_press_3 6 rfl rfl)
theorem dX3_press_78 : decode cX3_press 78 = .ok (.iconst 4, 1) := dk_7 (dk_at dksX3_press_3 8 rfl rfl)
theorem dX3_press_79 : decode cX3_press 79 = .ok (.iaload, 1) := dk_46 (dk_at dksX3_press_3 9 rfl rfl)
theorem dX3_press_80 : decode cX3_press 80 = .ok (.iload_n 3, 1) := dk_29 (dk_at dksX3_press_3 10 rfl rfl)
theorem dX3_press_81 : decode cX3_press 81 = .ok (.if_icmp .lt 23, 3) := dk_161 0 23 (dk_at dksX3_press_3 11 rfl rfl)
theorem dX3_press_84 : decode cX3_press 84 = .ok (.aload_n 0, 1) := dk_42 (dk_at dksX3_press_3 14 rfl rfl)
theorem dX3_press_85 : decode cX3_press 85 = .ok (.getfield 45, 3) := dk_180 0 45 (dk_at dksX3_press_3 15 rfl rfl)
theorem dX3_press_88 : decode cX3_press 88 = .ok (.iload_n 2, 1) := dk_28 (dk_at dksX3_press_3 18 rfl rfl)
theorem dX3_press_89 : decode cX3_press 89 = .ok (.iaload, 1) := dk_46 (dk_at dksX3_press_3 19 rfl rfl)
theorem dX3_press_90 : decode cX3_press 90 = .ok (.sipush 200, 3) := dk_17 0 200 (dk_at dksX3_press_3 20 rfl rfl)
theorem dX3_press_93 : decode cX3_press 93 = .ok (.if_icmp .ge 11, 3) := dk_162 0 11 (dk_at dksX3_press_4 0 rfl rfl)
theorem dX3_press_96 : decode cX3_press 96 = .ok (.aload_n 0, 1) := dk_42 (dk_at dksX3_press_4 3 rfl rfl)
theorem dX3_press_97 : decode cX3_press 97 = .ok (.iconst 1, 1) := dk_4 (dk_at dksX3_press_4 4 rfl rfl)
theorem dX3_press_98 : decode cX3_press 98 = .ok (.invokevirtual 93, 3) := dk_182 0 93 (dk_at dksX3_press_4 5 rfl rfl)
theorem dX3_press_101 : decode cX3_press 101 = .ok (.ifCond .ne 7, 3) := dk_154 0 7 (dk_at dksX3_press_4 8 rfl rfl)
theorem dX3_press_104 : decode cX3_press 104 = .ok (.iconst 1, 1) := dk_4 (dk_at dksX3_press_4 11 rfl rfl)
theorem dX3_press_105 : decode cX3_press 105 = .ok (.goto 4, 3) := dk_167 0 4 (dk_at dksX3_press_4 12 rfl rfl)
theorem dX3_press_108 : decode cX3_press 108 = .ok (.iconst 0, 1) := dk_3 (dk_at dksX3_press_4 15 rfl rfl)
theorem dX3_press_109 : decode cX3_press 109 = .ok (.iconst 3, 1) := dk_6 (dk_at dksX3_press_4 16 rfl rfl)
theorem dX3_press_110 : decode cX3_press 110 = .ok (.invokevirtual 74, 3) := dk_182 0 74 (dk_at dksX3_press_4 17 rfl rfl)
theorem dX3_press_113 : decode cX3_press 113 = .ok (.ifCond .ne 30, 3) := dk_154 0 30 (dk_at dksX3_press_4 20 rfl rfl)
theorem dX3_press_116 : decode cX3_press 116 = .ok (.aload_n 0, 1) := dk_42 (dk_at dksX3_press_4 23 rfl rfl)
theorem dX3_press_117 : decode cX3_press 117 = .ok (.aload_n 0, 1) := dk_42 (dk_at dksX3_press_5 0 rfl rfl)
theorem dX3_press_118 : decode cX3_press 118 = .ok (.getfield 51, 3) := dk_180 0 51 (dk_at dksX3_press_5 1 rfl rfl)
theorem dX3_press_121 : decode cX3_press 121 = .ok (.invokeinterface 7 1, 5) := by decide +kernel
theorem dX3_press_126 : decode cX3_press 126 = .ok (.bipush 16, 2) := dk_16 16 (dk_at dksX3_press_5 9 rfl rfl)
theorem dX3_press_128 : decode cX3_press 128 = .ok (.if_icmp .ne 7, 3) := dk_160 0 7 (dk_at dksX3_press_5 11 rfl rfl)
theorem dX3_press_131 : decode cX3_press 131 = .ok (.iconst 1, 1) := dk_4 (dk_at dksX3_press_5 14 rfl rfl)
theorem dX3_press_132 : decode cX3_press 132 = .ok (.goto 4, 3) := dk_167 0 4 (dk_at dksX3_press_5 15 rfl rfl)
theorem dX3_press_135 : decode cX3_press 135 = .ok (.iconst 0, 1) := dk_3 (dk_at dksX3_press_5 18 rfl rfl)
theorem dX3_press_136 : decode cX3_press 136 = .ok (.iconst 4, 1) := dk_7 (dk_at dksX3_press_5 19 rfl rfl)
theorem dX3_press_137 : decode cX3_press 137 = .ok (.invokevirtual 74, 3) := dk_182 0 74 (dk_at dksX3_press_5 20 rfl rfl)
theorem dX3_press_140 : decode cX3_press 140 = .ok (.ifCond .eq 5, 3) := dk_153 0 5 (dk_at dksX3_press_6 0 rfl rfl)
theorem dX3_press_143 : decode cX3_press 143 = .ok (.iconst (-1), 1) := dk_2 (dk_at dksX3_press_6 3 rfl rfl)
theorem dX3_press_144 : decode cX3_press 144 = .ok (.ireturn, 1) := dk_172 (dk_at dksX3_press_6 4 rfl rfl)
theorem dX3_press_145 : decode cX3_press 145 = .ok (.new 132, 3) := dk_187 0 132 (dk_at dksX3_press_6 5 rfl rfl)
theorem dX3_press_148 : decode cX3_press 148 = .ok (.dup, 1) := dk_89 (dk_at dksX3_press_6 8 rfl rfl)
theorem dX3_press_149 : decode cX3_press 149 = .ok (.invokespecial 134, 3) := dk_183 0 134 (dk_at dksX3_press_6 9 rfl rfl)
theorem dX3_press_152 : decode cX3_press 152 = .ok (.astore 5, 2) := dk_58 5 (dk_at dksX3_press_6 12 rfl rfl)
theorem dX3_press_154 : decode cX3_press 154 = .ok (.aload 5, 2) := dk_25 5 (dk_at dksX3_press_6 14 rfl rfl)
theorem dX3_press_156 : decode cX3_press 156 = .ok (.iload_n 1, 1) := dk_27 (dk_at dksX3_press_6 16 rfl rfl)
theorem dX3_press_157 : decode cX3_press 157 = .ok (.putfield 135, 3) := dk_181 0 135 (dk_at dksX3_press_6 17 rfl rfl)
theorem dX3_press_160 : decode cX3_press 160 = .ok (.aload 5, 2) := dk_25 5 (dk_at dksX3_press_6 20 rfl rfl)
theorem dX3_press_162 : decode cX3_press 162 = .ok (.bipush 20, 2) := dk_16 20 (dk_at dksX3_press_6 22 rfl rfl)
theorem dX3_press_164 : decode cX3_press 164 = .ok (.iload_n 3, 1) := dk_29 (dk_at dksX3_press_7 0 rfl rfl)
theorem dX3_press_165 : decode cX3_press 165 = .ok (.imul, 1) := dk_104 (dk_at dksX3_press_7 1 rfl rfl)
theorem dX3_press_166 : decode cX3_press 166 = .ok (.putfield 138, 3) := dk_181 0 138 (dk_at dksX3_press_7 2 rfl rfl)
theorem dX3_press_169 : decode cX3_press 169 = .ok (.aload 5, 2) := dk_25 5 (dk_at dksX3_press_7 5 rfl rfl)
theorem dX3_press_171 : decode cX3_press 171 = .ok (.bipush 20, 2) := dk_16 20 (dk_at dksX3_press_7 7 rfl rfl)
theorem dX3_press_173 : decode cX3_press 173 = .ok (.aload_n 0, 1) := dk_42 (dk_at dksX3_press_7 9 rfl rfl)
theorem dX3_press_174 : decode cX3_press 174 = .ok (.getfield 45, 3) := dk_180 0 45 (dk_at dksX3_press_7 10 rfl rfl)
theorem dX3_press_177 : decode cX3_press 177 = .ok (.iload_n 2, 1) := dk_28 (dk_at dksX3_press_7 13 rfl rfl)
theorem dX3_press_178 : decode cX3_press 178 = .ok (.iaload, 1) := dk_46 (dk_at dksX3_press_7 14 rfl rfl)
theorem dX3_press_179 : decode cX3_press 179 = .ok (.bipush 40, 2) := dk_16 40 (dk_at dksX3_press_7 15 rfl rfl)
theorem dX3_press_181 : decode cX3_press 181 = .ok (.idiv, 1) := dk_108 (dk_at dksX3_press_7 17 rfl rfl)
theorem dX3_press_182 : decode cX3_press 182 = .ok (.iadd, 1) := dk_96 (dk_at dksX3_press_7 18 rfl rfl)
theorem dX3_press_183 : decode cX3_press 183 = .ok (.putfield 141, 3) := dk_181 0 141 (dk_at dksX3_press_7 19 rfl rfl)
theorem dX3_press_186 : decode cX3_press 186 = .ok (.aload_n 0, 1) := dk_42 (dk_at dksX3_press_7 22 rfl rfl)
theorem dX3_press_187 : decode cX3_press 187 = .ok (.getfield 45, 3) := dk_180 0 45 (dk_at dksX3_press_8 0 rfl rfl)
theorem dX3_press_190 : decode cX3_press 190 = .ok (.iload_n 2, 1) := dk_28 (dk_at dksX3_press_8 3 rfl rfl)
theorem dX3_press_191 : decode cX3_press 191 = .ok (.dup2, 1) := dk_92 (dk_at dksX3_press_8 4 rfl rfl)
theorem dX3_press_192 : decode cX3_press 192 = .ok (.iaload, 1) := dk_46 (dk_at dksX3_press_8 5 rfl rfl)
theorem dX3_press_193 : decode cX3_press 193 = .ok (.iload_n 3, 1) := dk_29 (dk_at dksX3_press_8 6 rfl rfl)
theorem dX3_press_194 : decode cX3_press 194 = .ok (.bipush 10, 2) := dk_16 10 (dk_at dksX3_press_8 7 rfl rfl)
theorem dX3_press_196 : decode cX3_press 196 = .ok (.aload 4, 2) := dk_25 4 (dk_at dksX3_press_8 9 rfl rfl)
theorem dX3_press_198 : decode cX3_press 198 = .ok (.iconst 3, 1) := dk_6 (dk_at dksX3_press_8 11 rfl rfl)
theorem dX3_press_199 : decode cX3_press 199 = .ok (.iaload, 1) := dk_46 (dk_at dksX3_press_8 12 rfl rfl)
theorem dX3_press_200 : decode cX3_press 200 = .ok (.isub, 1) := dk_100 (dk_at dksX3_press_8 13 rfl rfl)
theorem dX3_press_201 : decode cX3_press 201 = .ok (.imul, 1) := dk_104 (dk_at dksX3_press_8 14 rfl rfl)
theorem dX3_press_202 : decode cX3_press 202 = .ok (.iconst 5, 1) := dk_8 (dk_at dksX3_press_8 15 rfl rfl)
theorem dX3_press_203 : decode cX3_press 203 = .ok (.idiv, 1) := dk_108 (dk_at dksX3_press_8 16 rfl rfl)
theorem dX3_press_204 : decode cX3_press 204 = .ok (.iadd, 1) := dk_96 (dk_at dksX3_press_8 17 rfl rfl)
theorem dX3_press_205 : decode cX3_press 205 = .ok (.iastore, 1) := dk_79 (dk_at dksX3_press_8 18 rfl rfl)
theorem dX3_press_206 : decode cX3_press 206 = .ok (.aload 4, 2) := dk_25 4 (dk_at dksX3_press_8 19 rfl rfl)
theorem dX3_press_208 : decode cX3_press 208 = .ok (.iconst 4, 1) := dk_7 (dk_at dksX3_press_8 21 rfl rfl)
theorem dX3_press_209 : decode cX3_press 209 = .ok (.dup2, 1) := dk_92 (dk_at dksX3_press_8 22 rfl rfl)
theorem dX3_press_210 : decode cX3_press 210 = .ok (.iaload, 1) := dk_46 (dk_at dksX3_press_8 23 rfl rfl)
theorem dX3_press_211 : decode cX3_press 211 = .ok (.iload_n 3, 1) := dk_29 (dk_at dksX3_press_9 0 rfl rfl)
theorem dX3_press_212 : decode cX3_press 212 = .ok (.isub, 1) := dk_100 (dk_at dksX3_press_9 1 rfl rfl)
theorem dX3_press_213 : decode cX3_press 213 = .ok (.iastore, 1) := dk_79 (dk_at dksX3_press_9 2 rfl rfl)
theorem dX3_press_214 : decode cX3_press 214 = .ok (.aload_n 0, 1) := dk_42 (dk_at dksX3_press_9 3 rfl rfl)
theorem dX3_press_215 : decode cX3_press 215 = .ok (.getfield 51, 3) := dk_180 0 51 (dk_at dksX3_press_9 4 rfl rfl)
theorem dX3_press_218 : decode cX3_press 218 = .ok (.aload 5, 2) := dk_25 5 (dk_at dksX3_press_9 7 rfl rfl)
theorem dX3_press_220 : decode cX3_press 220 = .ok (.invokeinterface 107 2, 5) := by decide +kernel
theorem dX3_press_225 : decode cX3_press 225 = .ok (.pop, 1) := dk_87 (dk_at dksX3_press_9 14 rfl rfl)
theorem dX3_press_226 : decode cX3_press 226 = .ok (.aload_n 0, 1) := dk_42 (dk_at dksX3_press_9 15 rfl rfl)
theorem dX3_press_227 : decode cX3_press 227 = .ok (.getfield 51, 3) := dk_180 0 51 (dk_at dksX3_press_9 16 rfl rfl)
theorem dX3_press_230 : decode cX3_press 230 = .ok (.invokeinterface 7 1, 5) := by decide +kernel
theorem dX3_press_235 : decode cX3_press 235 = .ok (.iconst 1, 1) := dk_4 (dk_at dksX3_press_10 0 rfl rfl)
theorem dX3_press_236 : decode cX3_press 236 = .ok (.isub, 1) := dk_100 (dk_at dksX3_press_10 1 rfl rfl)
theorem dX3_press_237 : decode cX3_press 237 = .ok (.ireturn, 1) := dk_172 (dk_at dksX3_press_10 2 rfl rfl)
abbrev cX3_worn : ByteArray := prog_15_method_19_code
def yX3_worn : MethodName := ⟨RX3, "worn", "(I)I"⟩
def dkwX3_worn_1 : List UInt8 := [182, 0, 74, 153, 0, 7, 2, 167, 0, 9, 42, 180, 0, 45, 27, 46, 172]
abbrev dktX3_worn_1 : List UInt8 := dkwX3_worn_1 ++ []
def dkwX3_worn_0 : List UInt8 := [42, 182, 0, 69, 42, 27, 133, 9, 20, 0, 130, 184, 0, 13, 154, 0, 7, 4, 167, 0, 4, 3, 4]
abbrev dktX3_worn_0 : List UInt8 := dkwX3_worn_0 ++ dktX3_worn_1
theorem dksX3_worn_0 : cX3_worn.data.toList.drop 0 = dktX3_worn_0 := by decide +kernel
theorem dksX3_worn_1 : cX3_worn.data.toList.drop 23 = dktX3_worn_1 := dk_seg dksX3_worn_0 23 rfl rfl
theorem dX3_worn_0 : decode cX3_worn 0 = .ok (.aload_n 0, 1) := dk_42 (dk_at dksX3_worn_0 0 rfl rfl)
theorem dX3_worn_1 : decode cX3_worn 1 = .ok (.invokevirtual 69, 3) := dk_182 0 69 (dk_at dksX3_worn_0 1 rfl rfl)
theorem dX3_worn_4 : decode cX3_worn 4 = .ok (.aload_n 0, 1) := dk_42 (dk_at dksX3_worn_0 4 rfl rfl)
theorem dX3_worn_5 : decode cX3_worn 5 = .ok (.iload_n 1, 1) := dk_27 (dk_at dksX3_worn_0 5 rfl rfl)
theorem dX3_worn_6 : decode cX3_worn 6 = .ok (.i2l, 1) := dk_133 (dk_at dksX3_worn_0 6 rfl rfl)
theorem dX3_worn_7 : decode cX3_worn 7 = .ok (.lconst 0, 1) := dk_9 (dk_at dksX3_worn_0 7 rfl rfl)
theorem dX3_worn_8 : decode cX3_worn 8 = .ok (.ldc2_w 130, 3) := dk_20 0 130 (dk_at dksX3_worn_0 8 rfl rfl)
theorem dX3_worn_11 : decode cX3_worn 11 = .ok (.invokestatic 13, 3) := dk_184 0 13 (dk_at dksX3_worn_0 11 rfl rfl)
theorem dX3_worn_14 : decode cX3_worn 14 = .ok (.ifCond .ne 7, 3) := dk_154 0 7 (dk_at dksX3_worn_0 14 rfl rfl)
theorem dX3_worn_17 : decode cX3_worn 17 = .ok (.iconst 1, 1) := dk_4 (dk_at dksX3_worn_0 17 rfl rfl)
theorem dX3_worn_18 : decode cX3_worn 18 = .ok (.goto 4, 3) := dk_167 0 4 (dk_at dksX3_worn_0 18 rfl rfl)
theorem dX3_worn_21 : decode cX3_worn 21 = .ok (.iconst 0, 1) := dk_3 (dk_at dksX3_worn_0 21 rfl rfl)
theorem dX3_worn_22 : decode cX3_worn 22 = .ok (.iconst 1, 1) := dk_4 (dk_at dksX3_worn_0 22 rfl rfl)
theorem dX3_worn_23 : decode cX3_worn 23 = .ok (.invokevirtual 74, 3) := dk_182 0 74 (dk_at dksX3_worn_1 0 rfl rfl)
theorem dX3_worn_26 : decode cX3_worn 26 = .ok (.ifCond .eq 7, 3) := dk_153 0 7 (dk_at dksX3_worn_1 3 rfl rfl)
theorem dX3_worn_29 : decode cX3_worn 29 = .ok (.iconst (-1), 1) := dk_2 (dk_at dksX3_worn_1 6 rfl rfl)
theorem dX3_worn_30 : decode cX3_worn 30 = .ok (.goto 9, 3) := dk_167 0 9 (dk_at dksX3_worn_1 7 rfl rfl)
theorem dX3_worn_33 : decode cX3_worn 33 = .ok (.aload_n 0, 1) := dk_42 (dk_at dksX3_worn_1 10 rfl rfl)
theorem dX3_worn_34 : decode cX3_worn 34 = .ok (.getfield 45, 3) := dk_180 0 45 (dk_at dksX3_worn_1 11 rfl rfl)
theorem dX3_worn_37 : decode cX3_worn 37 = .ok (.iload_n 1, 1) := dk_27 (dk_at dksX3_worn_1 14 rfl rfl)
theorem dX3_worn_38 : decode cX3_worn 38 = .ok (.iaload, 1) := dk_46 (dk_at dksX3_worn_1 15 rfl rfl)
theorem dX3_worn_39 : decode cX3_worn 39 = .ok (.ireturn, 1) := dk_172 (dk_at dksX3_worn_1 16 rfl rfl)
abbrev cX3_renew : ByteArray := prog_15_method_20_code
def yX3_renew : MethodName := ⟨RX3, "renew", "(I)I"⟩
def dkwX3_renew_1 : List UInt8 := [182, 0, 74, 153, 0, 5, 2, 172, 42, 180, 0, 45, 27, 46, 61, 42, 180, 0, 45, 27, 3, 79, 28, 172]
abbrev dktX3_renew_1 : List UInt8 := dkwX3_renew_1 ++ []
def dkwX3_renew_0 : List UInt8 := [42, 182, 0, 69, 42, 27, 133, 9, 20, 0, 130, 184, 0, 13, 154, 0, 7, 4, 167, 0, 4, 3, 4]
abbrev dktX3_renew_0 : List UInt8 := dkwX3_renew_0 ++ dktX3_renew_1
theorem dksX3_renew_0 : cX3_renew.data.toList.drop 0 = dktX3_renew_0 := by decide +kernel
theorem dksX3_renew_1 : cX3_renew.data.toList.drop 23 = dktX3_renew_1 := dk_seg dksX3_renew_0 23 rfl rfl
theorem dX3_renew_0 : decode cX3_renew 0 = .ok (.aload_n 0, 1) := dk_42 (dk_at dksX3_renew_0 0 rfl rfl)
theorem dX3_renew_1 : decode cX3_renew 1 = .ok (.invokevirtual 69, 3) := dk_182 0 69 (dk_at dksX3_renew_0 1 rfl rfl)
theorem dX3_renew_4 : decode cX3_renew 4 = .ok (.aload_n 0, 1) := dk_42 (dk_at dksX3_renew_0 4 rfl rfl)
theorem dX3_renew_5 : decode cX3_renew 5 = .ok (.iload_n 1, 1) := dk_27 (dk_at dksX3_renew_0 5 rfl rfl)
theorem dX3_renew_6 : decode cX3_renew 6 = .ok (.i2l, 1) := dk_133 (dk_at dksX3_renew_0 6 rfl rfl)
theorem dX3_renew_7 : decode cX3_renew 7 = .ok (.lconst 0, 1) := dk_9 (dk_at dksX3_renew_0 7 rfl rfl)
theorem dX3_renew_8 : decode cX3_renew 8 = .ok (.ldc2_w 130, 3) := dk_20 0 130 (dk_at dksX3_renew_0 8 rfl rfl)
theorem dX3_renew_11 : decode cX3_renew 11 = .ok (.invokestatic 13, 3) := dk_184 0 13 (dk_at dksX3_renew_0 11 rfl rfl)
theorem dX3_renew_14 : decode cX3_renew 14 = .ok (.ifCond .ne 7, 3) := dk_154 0 7 (dk_at dksX3_renew_0 14 rfl rfl)
theorem dX3_renew_17 : decode cX3_renew 17 = .ok (.iconst 1, 1) := dk_4 (dk_at dksX3_renew_0 17 rfl rfl)
theorem dX3_renew_18 : decode cX3_renew 18 = .ok (.goto 4, 3) := dk_167 0 4 (dk_at dksX3_renew_0 18 rfl rfl)
theorem dX3_renew_21 : decode cX3_renew 21 = .ok (.iconst 0, 1) := dk_3 (dk_at dksX3_renew_0 21 rfl rfl)
theorem dX3_renew_22 : decode cX3_renew 22 = .ok (.iconst 1, 1) := dk_4 (dk_at dksX3_renew_0 22 rfl rfl)
theorem dX3_renew_23 : decode cX3_renew 23 = .ok (.invokevirtual 74, 3) := dk_182 0 74 (dk_at dksX3_renew_1 0 rfl rfl)
theorem dX3_renew_26 : decode cX3_renew 26 = .ok (.ifCond .eq 5, 3) := dk_153 0 5 (dk_at dksX3_renew_1 3 rfl rfl)
theorem dX3_renew_29 : decode cX3_renew 29 = .ok (.iconst (-1), 1) := dk_2 (dk_at dksX3_renew_1 6 rfl rfl)
theorem dX3_renew_30 : decode cX3_renew 30 = .ok (.ireturn, 1) := dk_172 (dk_at dksX3_renew_1 7 rfl rfl)
theorem dX3_renew_31 : decode cX3_renew 31 = .ok (.aload_n 0, 1) := dk_42 (dk_at dksX3_renew_1 8 rfl rfl)
theorem dX3_renew_32 : decode cX3_renew 32 = .ok (.getfield 45, 3) := dk_180 0 45 (dk_at dksX3_renew_1 9 rfl rfl)
theorem dX3_renew_35 : decode cX3_renew 35 = .ok (.iload_n 1, 1) := dk_27 (dk_at dksX3_renew_1 12 rfl rfl)
theorem dX3_renew_36 : decode cX3_renew 36 = .ok (.iaload, 1) := dk_46 (dk_at dksX3_renew_1 13 rfl rfl)
theorem dX3_renew_37 : decode cX3_renew 37 = .ok (.istore_n 2, 1) := dk_61 (dk_at dksX3_renew_1 14 rfl rfl)
theorem dX3_renew_38 : decode cX3_renew 38 = .ok (.aload_n 0, 1) := dk_42 (dk_at dksX3_renew_1 15 rfl rfl)
theorem dX3_renew_39 : decode cX3_renew 39 = .ok (.getfield 45, 3) := dk_180 0 45 (dk_at dksX3_renew_1 16 rfl rfl)
theorem dX3_renew_42 : decode cX3_renew 42 = .ok (.iload_n 1, 1) := dk_27 (dk_at dksX3_renew_1 19 rfl rfl)
theorem dX3_renew_43 : decode cX3_renew 43 = .ok (.iconst 0, 1) := dk_3 (dk_at dksX3_renew_1 20 rfl rfl)
theorem dX3_renew_44 : decode cX3_renew 44 = .ok (.iastore, 1) := dk_79 (dk_at dksX3_renew_1 21 rfl rfl)
theorem dX3_renew_45 : decode cX3_renew 45 = .ok (.iload_n 2, 1) := dk_28 (dk_at dksX3_renew_1 22 rfl rfl)
theorem dX3_renew_46 : decode cX3_renew 46 = .ok (.ireturn, 1) := dk_172 (dk_at dksX3_renew_1 23 rfl rfl)
abbrev cX3_dry : ByteArray := prog_15_method_23_code
def yX3_dry : MethodName := ⟨RX3, "dry", "(II)I"⟩
def dkwX3_dry_6 : List UInt8 := [180, 0, 152, 172]
abbrev dktX3_dry_6 : List UInt8 := dkwX3_dry_6 ++ []
def dkwX3_dry_5 : List UInt8 := [100, 104, 17, 1, 244, 108, 181, 0, 159, 45, 89, 180, 0, 138, 45, 180, 0, 159, 100, 181, 0, 138, 45]
abbrev dktX3_dry_5 : List UInt8 := dkwX3_dry_5 ++ dktX3_dry_6
def dkwX3_dry_4 : List UInt8 := [4, 100, 28, 108, 96, 181, 0, 152, 45, 45, 180, 0, 138, 28, 4, 100, 104, 16, 10, 42, 45, 182, 0, 155]
abbrev dktX3_dry_4 : List UInt8 := dkwX3_dry_4 ++ dktX3_dry_5
def dkwX3_dry_3 : List UInt8 := [27, 185, 0, 114, 2, 0, 192, 0, 132, 78, 45, 4, 181, 0, 149, 45, 42, 180, 0, 78, 16, 18, 28, 96]
abbrev dktX3_dry_3 : List UInt8 := dkwX3_dry_3 ++ dktX3_dry_4
def dkwX3_dry_2 : List UInt8 := [185, 0, 114, 2, 0, 192, 0, 132, 180, 0, 149, 6, 182, 0, 74, 153, 0, 5, 2, 172, 42, 180, 0, 51]
abbrev dktX3_dry_2 : List UInt8 := dkwX3_dry_2 ++ dktX3_dry_3
def dkwX3_dry_1 : List UInt8 := [154, 0, 7, 4, 167, 0, 4, 3, 5, 182, 0, 74, 154, 0, 27, 42, 42, 180, 0, 51, 27]
abbrev dktX3_dry_1 : List UInt8 := dkwX3_dry_1 ++ dktX3_dry_2
def dkwX3_dry_0 : List UInt8 := [42, 182, 0, 69, 42, 27, 182, 0, 144, 154, 0, 52, 42, 28, 133, 10, 20, 0, 147, 184, 0, 13]
abbrev dktX3_dry_0 : List UInt8 := dkwX3_dry_0 ++ dktX3_dry_1
theorem dksX3_dry_0 : cX3_dry.data.toList.drop 0 = dktX3_dry_0 := by decide +kernel
theorem dksX3_dry_1 : cX3_dry.data.toList.drop 22 = dktX3_dry_1 := dk_seg dksX3_dry_0 22 rfl rfl
theorem dksX3_dry_2 : cX3_dry.data.toList.drop 43 = dktX3_dry_2 := dk_seg dksX3_dry_1 21 rfl rfl
theorem dksX3_dry_3 : cX3_dry.data.toList.drop 67 = dktX3_dry_3 := dk_seg dksX3_dry_2 24 rfl rfl
theorem dksX3_dry_4 : cX3_dry.data.toList.drop 91 = dktX3_dry_4 := dk_seg dksX3_dry_3 24 rfl rfl
theorem dksX3_dry_5 : cX3_dry.data.toList.drop 115 = dktX3_dry_5 := dk_seg dksX3_dry_4 24 rfl rfl
theorem dksX3_dry_6 : cX3_dry.data.toList.drop 138 = dktX3_dry_6 := dk_seg dksX3_dry_5 23 rfl rfl
theorem dX3_dry_0 : decode cX3_dry 0 = .ok (.aload_n 0, 1) := dk_42 (dk_at dksX3_dry_0 0 rfl rfl)
theorem dX3_dry_1 : decode cX3_dry 1 = .ok (.invokevirtual 69, 3) := dk_182 0 69 (dk_at dksX3_dry_0 1 rfl rfl)
theorem dX3_dry_4 : decode cX3_dry 4 = .ok (.aload_n 0, 1) := dk_42 (dk_at dksX3_dry_0 4 rfl rfl)
theorem dX3_dry_5 : decode cX3_dry 5 = .ok (.iload_n 1, 1) := dk_27 (dk_at dksX3_dry_0 5 rfl rfl)
theorem dX3_dry_6 : decode cX3_dry 6 = .ok (.invokevirtual 144, 3) := dk_182 0 144 (dk_at dksX3_dry_0 6 rfl rfl)
theorem dX3_dry_9 : decode cX3_dry 9 = .ok (.ifCond .ne 52, 3) := dk_154 0 52 (dk_at dksX3_dry_0 9 rfl rfl)
theorem dX3_dry_12 : decode cX3_dry 12 = .ok (.aload_n 0, 1) := dk_42 (dk_at dksX3_dry_0 12 rfl rfl)
theorem dX3_dry_13 : decode cX3_dry 13 = .ok (.iload_n 2, 1) := dk_28 (dk_at dksX3_dry_0 13 rfl rfl)
theorem dX3_dry_14 : decode cX3_dry 14 = .ok (.i2l, 1) := dk_133 (dk_at dksX3_dry_0 14 rfl rfl)
theorem dX3_dry_15 : decode cX3_dry 15 = .ok (.lconst 1, 1) := dk_10 (dk_at dksX3_dry_0 15 rfl rfl)
theorem dX3_dry_16 : decode cX3_dry 16 = .ok (.ldc2_w 147, 3) := dk_20 0 147 (dk_at dksX3_dry_0 16 rfl rfl)
theorem dX3_dry_19 : decode cX3_dry 19 = .ok (.invokestatic 13, 3) := dk_184 0 13 (dk_at dksX3_dry_0 19 rfl rfl)
theorem dX3_dry_22 : decode cX3_dry 22 = .ok (.ifCond .ne 7, 3) := dk_154 0 7 (dk_at dksX3_dry_1 0 rfl rfl)
theorem dX3_dry_25 : decode cX3_dry 25 = .ok (.iconst 1, 1) := dk_4 (dk_at dksX3_dry_1 3 rfl rfl)
theorem dX3_dry_26 : decode cX3_dry 26 = .ok (.goto 4, 3) := dk_167 0 4 (dk_at dksX3_dry_1 4 rfl rfl)
theorem dX3_dry_29 : decode cX3_dry 29 = .ok (.iconst 0, 1) := dk_3 (dk_at dksX3_dry_1 7 rfl rfl)
theorem dX3_dry_30 : decode cX3_dry 30 = .ok (.iconst 2, 1) := dk_5 (dk_at dksX3_dry_1 8 rfl rfl)
theorem dX3_dry_31 : decode cX3_dry 31 = .ok (.invokevirtual 74, 3) := dk_182 0 74 (dk_at dksX3_dry_1 9 rfl rfl)
theorem dX3_dry_34 : decode cX3_dry 34 = .ok (.ifCond .ne 27, 3) := dk_154 0 27 (dk_at dksX3_dry_1 12 rfl rfl)
theorem dX3_dry_37 : decode cX3_dry 37 = .ok (.aload_n 0, 1) := dk_42 (dk_at dksX3_dry_1 15 rfl rfl)
theorem dX3_dry_38 : decode cX3_dry 38 = .ok (.aload_n 0, 1) := dk_42 (dk_at dksX3_dry_1 16 rfl rfl)
theorem dX3_dry_39 : decode cX3_dry 39 = .ok (.getfield 51, 3) := dk_180 0 51 (dk_at dksX3_dry_1 17 rfl rfl)
theorem dX3_dry_42 : decode cX3_dry 42 = .ok (.iload_n 1, 1) := dk_27 (dk_at dksX3_dry_1 20 rfl rfl)
theorem dX3_dry_43 : decode cX3_dry 43 = .ok (.invokeinterface 114 2, 5) := by decide +kernel
theorem dX3_dry_48 : decode cX3_dry 48 = .ok (.checkcast 132, 3) := dk_192 0 132 (dk_at dksX3_dry_2 5 rfl rfl)
theorem dX3_dry_51 : decode cX3_dry 51 = .ok (.getfield 149, 3) := dk_180 0 149 (dk_at dksX3_dry_2 8 rfl rfl)
theorem dX3_dry_54 : decode cX3_dry 54 = .ok (.iconst 3, 1) := dk_6 (dk_at dksX3_dry_2 11 rfl rfl)
theorem dX3_dry_55 : decode cX3_dry 55 = .ok (.invokevirtual 74, 3) := dk_182 0 74 (dk_at dksX3_dry_2 12 rfl rfl)
theorem dX3_dry_58 : decode cX3_dry 58 = .ok (.ifCond .eq 5, 3) := dk_153 0 5 (dk_at dksX3_dry_2 15 rfl rfl)
theorem dX3_dry_61 : decode cX3_dry 61 = .ok (.iconst (-1), 1) := dk_2 (dk_at dksX3_dry_2 18 rfl rfl)
theorem dX3_dry_62 : decode cX3_dry 62 = .ok (.ireturn, 1) := dk_172 (dk_at dksX3_dry_2 19 rfl rfl)
theorem dX3_dry_63 : decode cX3_dry 63 = .ok (.aload_n 0, 1) := dk_42 (dk_at dksX3_dry_2 20 rfl rfl)
theorem dX3_dry_64 : decode cX3_dry 64 = .ok (.getfield 51, 3) := dk_180 0 51 (dk_at dksX3_dry_2 21 rfl rfl)
theorem dX3_dry_67 : decode cX3_dry 67 = .ok (.iload_n 1, 1) := dk_27 (dk_at dksX3_dry_3 0 rfl rfl)
theorem dX3_dry_68 : decode cX3_dry 68 = .ok (.invokeinterface 114 2, 5) := by decide +kernel
theorem dX3_dry_73 : decode cX3_dry 73 = .ok (.checkcast 132, 3) := dk_192 0 132 (dk_at dksX3_dry_3 6 rfl rfl)
theorem dX3_dry_76 : decode cX3_dry 76 = .ok (.astore_n 3, 1) := dk_78 (dk_at dksX3_dry_3 9 rfl rfl)
theorem dX3_dry_77 : decode cX3_dry 77 = .ok (.aload_n 3, 1) := dk_45 (dk_at dksX3_dry_3 10 rfl rfl)
theorem dX3_dry_78 : decode cX3_dry 78 = .ok (.iconst 1, 1) := dk_4 (dk_at dksX3_dry_3 11 rfl rfl)
theorem dX3_dry_79 : decode cX3_dry 79 = .ok (.putfield 149, 3) := dk_181 0 149 (dk_at dksX3_dry_3 12 rfl rfl)
theorem dX3_dry_82 : decode cX3_dry 82 = .ok (.aload_n 3, 1) := dk_45 (dk_at dksX3_dry_3 15 rfl rfl)
theorem dX3_dry_83 : decode cX3_dry 83 = .ok (.aload_n 0, 1) := dk_42 (dk_at dksX3_dry_3 16 rfl rfl)
theorem dX3_dry_84 : decode cX3_dry 84 = .ok (.getfield 78, 3) := dk_180 0 78 (dk_at dksX3_dry_3 17 rfl rfl)
theorem dX3_dry_87 : decode cX3_dry 87 = .ok (.bipush 18, 2) := dk_16 18 (dk_at dksX3_dry_3 20 rfl rfl)
theorem dX3_dry_89 : decode cX3_dry 89 = .ok (.iload_n 2, 1) := dk_28 (dk_at dksX3_dry_3 22 rfl rfl)
theorem dX3_dry_90 : decode cX3_dry 90 = .ok (.iadd, 1) := dk_96 (dk_at dksX3_dry_3 23 rfl rfl)
theorem dX3_dry_91 : decode cX3_dry 91 = .ok (.iconst 1, 1) := dk_4 (dk_at dksX3_dry_4 0 rfl rfl)
theorem dX3_dry_92 : decode cX3_dry 92 = .ok (.isub, 1) := dk_100 (dk_at dksX3_dry_4 1 rfl rfl)
theorem dX3_dry_93 : decode cX3_dry 93 = .ok (.iload_n 2, 1) := dk_28 (dk_at dksX3_dry_4 2 rfl rfl)
theorem dX3_dry_94 : decode cX3_dry 94 = .ok (.idiv, 1) := dk_108 (dk_at dksX3_dry_4 3 rfl rfl)
theorem dX3_dry_95 : decode cX3_dry 95 = .ok (.iadd, 1) := dk_96 (dk_at dksX3_dry_4 4 rfl rfl)
theorem dX3_dry_96 : decode cX3_dry 96 = .ok (.putfield 152, 3) := dk_181 0 152 (dk_at dksX3_dry_4 5 rfl rfl)
theorem dX3_dry_99 : decode cX3_dry 99 = .ok (.aload_n 3, 1) := dk_45 (dk_at dksX3_dry_4 8 rfl rfl)
theorem dX3_dry_100 : decode cX3_dry 100 = .ok (.aload_n 3, 1) := dk_45 (dk_at dksX3_dry_4 9 rfl rfl)
theorem dX3_dry_101 : decode cX3_dry 101 = .ok (.getfield 138, 3) := dk_180 0 138 (dk_at dksX3_dry_4 10 rfl rfl)
theorem dX3_dry_104 : decode cX3_dry 104 = .ok (.iload_n 2, 1) := dk_28 (dk_at dksX3_dry_4 13 rfl rfl)
theorem dX3_dry_105 : decode cX3_dry 105 = .ok (.iconst 1, 1) := dk_4 (dk_at dksX3_dry_4 14 rfl rfl)
theorem dX3_dry_106 : decode cX3_dry 106 = .ok (.isub, 1) := dk_100 (dk_at dksX3_dry_4 15 rfl rfl)
theorem dX3_dry_107 : decode cX3_dry 107 = .ok (.imul, 1) := dk_104 (dk_at dksX3_dry_4 16 rfl rfl)
theorem dX3_dry_108 : decode cX3_dry 108 = .ok (.bipush 10, 2) := dk_16 10 (dk_at dksX3_dry_4 17 rfl rfl)
theorem dX3_dry_110 : decode cX3_dry 110 = .ok (.aload_n 0, 1) := dk_42 (dk_at dksX3_dry_4 19 rfl rfl)
theorem dX3_dry_111 : decode cX3_dry 111 = .ok (.aload_n 3, 1) := dk_45 (dk_at dksX3_dry_4 20 rfl rfl)
theorem dX3_dry_112 : decode cX3_dry 112 = .ok (.invokevirtual 155, 3) := dk_182 0 155 (dk_at dksX3_dry_4 21 rfl rfl)
theorem dX3_dry_115 : decode cX3_dry 115 = .ok (.isub, 1) := dk_100 (dk_at dksX3_dry_5 0 rfl rfl)
theorem dX3_dry_116 : decode cX3_dry 116 = .ok (.imul, 1) := dk_104 (dk_at dksX3_dry_5 1 rfl rfl)
theorem dX3_dry_117 : decode cX3_dry 117 = .ok (.sipush 500, 3) := dk_17 1 244 (dk_at dksX3_dry_5 2 rfl rfl)
theorem dX3_dry_120 : decode cX3_dry 120 = .ok (.idiv, 1) := dk_108 (dk_at dksX3_dry_5 5 rfl rfl)
theorem dX3_dry_121 : decode cX3_dry 121 = .ok (.putfield 159, 3) := dk_181 0 159 (dk_at dksX3_dry_5 6 rfl rfl)
theorem dX3_dry_124 : decode cX3_dry 124 = .ok (.aload_n 3, 1) := dk_45 (dk_at dksX3_dry_5 9 rfl rfl)
theorem dX3_dry_125 : decode cX3_dry 125 = .ok (.dup, 1) := dk_89 (dk_at dksX3_dry_5 10 rfl rfl)
theorem dX3_dry_126 : decode cX3_dry 126 = .ok (.getfield 138, 3) := dk_180 0 138 (dk_at dksX3_dry_5 11 rfl rfl)
theorem dX3_dry_129 : decode cX3_dry 129 = .ok (.aload_n 3, 1) := dk_45 (dk_at dksX3_dry_5 14 rfl rfl)
theorem dX3_dry_130 : decode cX3_dry 130 = .ok (.getfield 159, 3) := dk_180 0 159 (dk_at dksX3_dry_5 15 rfl rfl)
theorem dX3_dry_133 : decode cX3_dry 133 = .ok (.isub, 1) := dk_100 (dk_at dksX3_dry_5 18 rfl rfl)
theorem dX3_dry_134 : decode cX3_dry 134 = .ok (.putfield 138, 3) := dk_181 0 138 (dk_at dksX3_dry_5 19 rfl rfl)
theorem dX3_dry_137 : decode cX3_dry 137 = .ok (.aload_n 3, 1) := dk_45 (dk_at dksX3_dry_5 22 rfl rfl)
theorem dX3_dry_138 : decode cX3_dry 138 = .ok (.getfield 152, 3) := dk_180 0 152 (dk_at dksX3_dry_6 0 rfl rfl)
theorem dX3_dry_141 : decode cX3_dry 141 = .ok (.ireturn, 1) := dk_172 (dk_at dksX3_dry_6 3 rfl rfl)
abbrev cX3_noBatch : ByteArray := prog_15_method_21_code
def yX3_noBatch : MethodName := ⟨RX3, "noBatch", "(I)Z"⟩
def dkwX3_noBatch_0 : List UInt8 := [42, 42, 180, 0, 51, 27, 184, 0, 97, 154, 0, 7, 4, 167, 0, 4, 3, 4, 182, 0, 74, 172]
abbrev dktX3_noBatch_0 : List UInt8 := dkwX3_noBatch_0 ++ []
theorem dksX3_noBatch_0 : cX3_noBatch.data.toList.drop 0 = dktX3_noBatch_0 := by decide +kernel
theorem dX3_noBatch_0 : decode cX3_noBatch 0 = .ok (.aload_n 0, 1) := dk_42 (dk_at dksX3_noBatch_0 0 rfl rfl)
theorem dX3_noBatch_1 : decode cX3_noBatch 1 = .ok (.aload_n 0, 1) := dk_42 (dk_at dksX3_noBatch_0 1 rfl rfl)
theorem dX3_noBatch_2 : decode cX3_noBatch 2 = .ok (.getfield 51, 3) := dk_180 0 51 (dk_at dksX3_noBatch_0 2 rfl rfl)
theorem dX3_noBatch_5 : decode cX3_noBatch 5 = .ok (.iload_n 1, 1) := dk_27 (dk_at dksX3_noBatch_0 5 rfl rfl)
theorem dX3_noBatch_6 : decode cX3_noBatch 6 = .ok (.invokestatic 97, 3) := dk_184 0 97 (dk_at dksX3_noBatch_0 6 rfl rfl)
theorem dX3_noBatch_9 : decode cX3_noBatch 9 = .ok (.ifCond .ne 7, 3) := dk_154 0 7 (dk_at dksX3_noBatch_0 9 rfl rfl)
theorem dX3_noBatch_12 : decode cX3_noBatch 12 = .ok (.iconst 1, 1) := dk_4 (dk_at dksX3_noBatch_0 12 rfl rfl)
theorem dX3_noBatch_13 : decode cX3_noBatch 13 = .ok (.goto 4, 3) := dk_167 0 4 (dk_at dksX3_noBatch_0 13 rfl rfl)
theorem dX3_noBatch_16 : decode cX3_noBatch 16 = .ok (.iconst 0, 1) := dk_3 (dk_at dksX3_noBatch_0 16 rfl rfl)
theorem dX3_noBatch_17 : decode cX3_noBatch 17 = .ok (.iconst 1, 1) := dk_4 (dk_at dksX3_noBatch_0 17 rfl rfl)
theorem dX3_noBatch_18 : decode cX3_noBatch 18 = .ok (.invokevirtual 74, 3) := dk_182 0 74 (dk_at dksX3_noBatch_0 18 rfl rfl)
theorem dX3_noBatch_21 : decode cX3_noBatch 21 = .ok (.ireturn, 1) := dk_172 (dk_at dksX3_noBatch_0 21 rfl rfl)
abbrev cX3_fineness : ByteArray := prog_15_method_22_code
def yX3_fineness : MethodName := ⟨RX3, "fineness", "(LGraphlineModel$Batch;)I"⟩
def dkwX3_fineness_0 : List UInt8 := [42, 180, 0, 42, 43, 180, 0, 135, 185, 0, 114, 2, 0, 192, 0, 118, 6, 46, 172]
abbrev dktX3_fineness_0 : List UInt8 := dkwX3_fineness_0 ++ []
theorem dksX3_fineness_0 : cX3_fineness.data.toList.drop 0 = dktX3_fineness_0 := by decide +kernel
theorem dX3_fineness_0 : decode cX3_fineness 0 = .ok (.aload_n 0, 1) := dk_42 (dk_at dksX3_fineness_0 0 rfl rfl)
theorem dX3_fineness_1 : decode cX3_fineness 1 = .ok (.getfield 42, 3) := dk_180 0 42 (dk_at dksX3_fineness_0 1 rfl rfl)
theorem dX3_fineness_4 : decode cX3_fineness 4 = .ok (.aload_n 1, 1) := dk_43 (dk_at dksX3_fineness_0 4 rfl rfl)
theorem dX3_fineness_5 : decode cX3_fineness 5 = .ok (.getfield 135, 3) := dk_180 0 135 (dk_at dksX3_fineness_0 5 rfl rfl)
theorem dX3_fineness_8 : decode cX3_fineness 8 = .ok (.invokeinterface 114 2, 5) := by decide +kernel
theorem dX3_fineness_13 : decode cX3_fineness 13 = .ok (.checkcast 118, 3) := dk_192 0 118 (dk_at dksX3_fineness_0 13 rfl rfl)
theorem dX3_fineness_16 : decode cX3_fineness 16 = .ok (.iconst 3, 1) := dk_6 (dk_at dksX3_fineness_0 16 rfl rfl)
theorem dX3_fineness_17 : decode cX3_fineness 17 = .ok (.iaload, 1) := dk_46 (dk_at dksX3_fineness_0 17 rfl rfl)
theorem dX3_fineness_18 : decode cX3_fineness 18 = .ok (.ireturn, 1) := dk_172 (dk_at dksX3_fineness_0 18 rfl rfl)
abbrev cX3_fire : ByteArray := prog_15_method_24_code
def yX3_fire : MethodName := ⟨RX3, "fire", "(IIII)I"⟩
def dkwX3_fire_12 : List UInt8 := [180, 0, 168, 172]
abbrev dktX3_fire_12 : List UInt8 := dkwX3_fire_12 ++ []
def dkwX3_fire_11 : List UInt8 := [16, 10, 108, 100, 8, 42, 25, 5, 182, 0, 155, 104, 96, 184, 0, 119, 184, 0, 125, 181, 0, 180, 25, 5]
abbrev dktX3_fire_11 : List UInt8 := dkwX3_fire_11 ++ dktX3_fire_12
def dkwX3_fire_10 : List UInt8 := [104, 96, 8, 21, 4, 104, 96, 181, 0, 177, 25, 5, 3, 17, 3, 231, 21, 6, 29, 17, 2, 188, 100]
abbrev dktX3_fire_10 : List UInt8 := dkwX3_fire_10 ++ dktX3_fire_11
def dkwX3_fire_9 : List UInt8 := [17, 3, 232, 21, 6, 100, 29, 17, 2, 88, 100, 104, 17, 3, 232, 108, 16, 20, 42, 25, 5, 182, 0, 155]
abbrev dktX3_fire_9 : List UInt8 := dkwX3_fire_9 ++ dktX3_fire_10
def dkwX3_fire_8 : List UInt8 := [42, 180, 0, 78, 21, 4, 96, 181, 0, 152, 42, 180, 0, 48, 28, 25, 5, 180, 0, 152, 79, 25, 5]
abbrev dktX3_fire_8 : List UInt8 := dkwX3_fire_8 ++ dktX3_fire_9
def dkwX3_fire_7 : List UInt8 := [180, 0, 171, 181, 0, 168, 42, 89, 180, 0, 171, 4, 96, 181, 0, 171, 25, 5, 28, 181, 0, 174, 25, 5]
abbrev dktX3_fire_7 : List UInt8 := dkwX3_fire_7 ++ dktX3_fire_8
def dkwX3_fire_6 : List UInt8 := [180, 0, 42, 25, 5, 180, 0, 135, 185, 0, 114, 2, 0, 192, 0, 118, 5, 46, 54, 6, 25, 5, 42]
abbrev dktX3_fire_6 : List UInt8 := dkwX3_fire_6 ++ dktX3_fire_7
def dkwX3_fire_5 : List UInt8 := [180, 0, 48, 28, 46, 162, 0, 7, 4, 167, 0, 4, 3, 6, 182, 0, 74, 153, 0, 5, 2, 172, 42]
abbrev dktX3_fire_5 : List UInt8 := dkwX3_fire_5 ++ dktX3_fire_6
def dkwX3_fire_4 : List UInt8 := [25, 5, 180, 0, 152, 161, 0, 25, 25, 5, 180, 0, 168, 2, 160, 0, 16, 42, 180, 0, 78, 42]
abbrev dktX3_fire_4 : List UInt8 := dkwX3_fire_4 ++ dktX3_fire_5
def dkwX3_fire_3 : List UInt8 := [185, 0, 114, 2, 0, 192, 0, 132, 58, 5, 42, 25, 5, 180, 0, 149, 153, 0, 37, 42, 180, 0, 78]
abbrev dktX3_fire_3 : List UInt8 := dkwX3_fire_3 ++ dktX3_fire_4
def dkwX3_fire_2 : List UInt8 := [154, 0, 7, 4, 167, 0, 4, 3, 5, 182, 0, 74, 153, 0, 5, 2, 172, 42, 180, 0, 51, 27]
abbrev dktX3_fire_2 : List UInt8 := dkwX3_fire_2 ++ dktX3_fire_3
def dkwX3_fire_1 : List UInt8 := [133, 20, 0, 162, 20, 0, 164, 184, 0, 13, 153, 0, 16, 21, 4, 133, 10, 20, 0, 166, 184, 0, 13]
abbrev dktX3_fire_1 : List UInt8 := dkwX3_fire_1 ++ dktX3_fire_2
def dkwX3_fire_0 : List UInt8 := [42, 182, 0, 69, 42, 27, 182, 0, 144, 154, 0, 53, 42, 28, 133, 9, 10, 184, 0, 13, 153, 0, 30, 29]
abbrev dktX3_fire_0 : List UInt8 := dkwX3_fire_0 ++ dktX3_fire_1
theorem dksX3_fire_0 : cX3_fire.data.toList.drop 0 = dktX3_fire_0 := by decide +kernel
theorem dksX3_fire_1 : cX3_fire.data.toList.drop 24 = dktX3_fire_1 := dk_seg dksX3_fire_0 24 rfl rfl
theorem dksX3_fire_2 : cX3_fire.data.toList.drop 47 = dktX3_fire_2 := dk_seg dksX3_fire_1 23 rfl rfl
theorem dksX3_fire_3 : cX3_fire.data.toList.drop 69 = dktX3_fire_3 := dk_seg dksX3_fire_2 22 rfl rfl
theorem dksX3_fire_4 : cX3_fire.data.toList.drop 92 = dktX3_fire_4 := dk_seg dksX3_fire_3 23 rfl rfl
theorem dksX3_fire_5 : cX3_fire.data.toList.drop 114 = dktX3_fire_5 := dk_seg dksX3_fire_4 22 rfl rfl
theorem dksX3_fire_6 : cX3_fire.data.toList.drop 137 = dktX3_fire_6 := dk_seg dksX3_fire_5 23 rfl rfl
theorem dksX3_fire_7 : cX3_fire.data.toList.drop 160 = dktX3_fire_7 := dk_seg dksX3_fire_6 23 rfl rfl
theorem dksX3_fire_8 : cX3_fire.data.toList.drop 184 = dktX3_fire_8 := dk_seg dksX3_fire_7 24 rfl rfl
theorem dksX3_fire_9 : cX3_fire.data.toList.drop 207 = dktX3_fire_9 := dk_seg dksX3_fire_8 23 rfl rfl
theorem dksX3_fire_10 : cX3_fire.data.toList.drop 231 = dktX3_fire_10 := dk_seg dksX3_fire_9 24 rfl rfl
theorem dksX3_fire_11 : cX3_fire.data.toList.drop 254 = dktX3_fire_11 := dk_seg dksX3_fire_10 23 rfl rfl
theorem dksX3_fire_12 : cX3_fire.data.toList.drop 278 = dktX3_fire_12 := dk_seg dksX3_fire_11 24 rfl rfl
theorem dX3_fire_0 : decode cX3_fire 0 = .ok (.aload_n 0, 1) := dk_42 (dk_at dksX3_fire_0 0 rfl rfl)
theorem dX3_fire_1 : decode cX3_fire 1 = .ok (.invokevirtual 69, 3) := dk_182 0 69 (dk_at dksX3_fire_0 1 rfl rfl)
theorem dX3_fire_4 : decode cX3_fire 4 = .ok (.aload_n 0, 1) := dk_42 (dk_at dksX3_fire_0 4 rfl rfl)
theorem dX3_fire_5 : decode cX3_fire 5 = .ok (.iload_n 1, 1) := dk_27 (dk_at dksX3_fire_0 5 rfl rfl)
theorem dX3_fire_6 : decode cX3_fire 6 = .ok (.invokevirtual 144, 3) := dk_182 0 144 (dk_at dksX3_fire_0 6 rfl rfl)
theorem dX3_fire_9 : decode cX3_fire 9 = .ok (.ifCond .ne 53, 3) := dk_154 0 53 (dk_at dksX3_fire_0 9 rfl rfl)
theorem dX3_fire_12 : decode cX3_fire 12 = .ok (.aload_n 0, 1) := dk_42 (dk_at dksX3_fire_0 12 rfl rfl)
theorem dX3_fire_13 : decode cX3_fire 13 = .ok (.iload_n 2, 1) := dk_28 (dk_at dksX3_fire_0 13 rfl rfl)
theorem dX3_fire_14 : decode cX3_fire 14 = .ok (.i2l, 1) := dk_133 (dk_at dksX3_fire_0 14 rfl rfl)
theorem dX3_fire_15 : decode cX3_fire 15 = .ok (.lconst 0, 1) := dk_9 (dk_at dksX3_fire_0 15 rfl rfl)
theorem dX3_fire_16 : decode cX3_fire 16 = .ok (.lconst 1, 1) := dk_10 (dk_at dksX3_fire_0 16 rfl rfl)
theorem dX3_fire_17 : decode cX3_fire 17 = .ok (.invokestatic 13, 3) := dk_184 0 13 (dk_at dksX3_fire_0 17 rfl rfl)
theorem dX3_fire_20 : decode cX3_fire 20 = .ok (.ifCond .eq 30, 3) := dk_153 0 30 (dk_at dksX3_fire_0 20 rfl rfl)
theorem dX3_fire_23 : decode cX3_fire 23 = .ok (.iload_n 3, 1) := dk_29 (dk_at dksX3_fire_0 23 rfl rfl)
theorem dX3_fire_24 : decode cX3_fire 24 = .ok (.i2l, 1) := dk_133 (dk_at dksX3_fire_1 0 rfl rfl)
theorem dX3_fire_25 : decode cX3_fire 25 = .ok (.ldc2_w 162, 3) := dk_20 0 162 (dk_at dksX3_fire_1 1 rfl rfl)
theorem dX3_fire_28 : decode cX3_fire 28 = .ok (.ldc2_w 164, 3) := dk_20 0 164 (dk_at dksX3_fire_1 4 rfl rfl)
theorem dX3_fire_31 : decode cX3_fire 31 = .ok (.invokestatic 13, 3) := dk_184 0 13 (dk_at dksX3_fire_1 7 rfl rfl)
theorem dX3_fire_34 : decode cX3_fire 34 = .ok (.ifCond .eq 16, 3) := dk_153 0 16 (dk_at dksX3_fire_1 10 rfl rfl)
theorem dX3_fire_37 : decode cX3_fire 37 = .ok (.iload 4, 2) := dk_21 4 (dk_at dksX3_fire_1 13 rfl rfl)
theorem dX3_fire_39 : decode cX3_fire 39 = .ok (.i2l, 1) := dk_133 (dk_at dksX3_fire_1 15 rfl rfl)
theorem dX3_fire_40 : decode cX3_fire 40 = .ok (.lconst 1, 1) := dk_10 (dk_at dksX3_fire_1 16 rfl rfl)
theorem dX3_fire_41 : decode cX3_fire 41 = .ok (.ldc2_w 166, 3) := dk_20 0 166 (dk_at dksX3_fire_1 17 rfl rfl)
theorem dX3_fire_44 : decode cX3_fire 44 = .ok (.invokestatic 13, 3) := dk_184 0 13 (dk_at dksX3_fire_1 20 rfl rfl)
theorem dX3_fire_47 : decode cX3_fire 47 = .ok (.ifCond .ne 7, 3) := dk_154 0 7 (dk_at dksX3_fire_2 0 rfl rfl)
theorem dX3_fire_50 : decode cX3_fire 50 = .ok (.iconst 1, 1) := dk_4 (dk_at dksX3_fire_2 3 rfl rfl)
theorem dX3_fire_51 : decode cX3_fire 51 = .ok (.goto 4, 3) := dk_167 0 4 (dk_at dksX3_fire_2 4 rfl rfl)
theorem dX3_fire_54 : decode cX3_fire 54 = .ok (.iconst 0, 1) := dk_3 (dk_at dksX3_fire_2 7 rfl rfl)
theorem dX3_fire_55 : decode cX3_fire 55 = .ok (.iconst 2, 1) := dk_5 (dk_at dksX3_fire_2 8 rfl rfl)
theorem dX3_fire_56 : decode cX3_fire 56 = .ok (.invokevirtual 74, 3) := dk_182 0 74 (dk_at dksX3_fire_2 9 rfl rfl)
theorem dX3_fire_59 : decode cX3_fire 59 = .ok (.ifCond .eq 5, 3) := dk_153 0 5 (dk_at dksX3_fire_2 12 rfl rfl)
theorem dX3_fire_62 : decode cX3_fire 62 = .ok (.iconst (-1), 1) := dk_2 (dk_at dksX3_fire_2 15 rfl rfl)
theorem dX3_fire_63 : decode cX3_fire 63 = .ok (.ireturn, 1) := dk_172 (dk_at dksX3_fire_2 16 rfl rfl)
theorem dX3_fire_64 : decode cX3_fire 64 = .ok (.aload_n 0, 1) := dk_42 (dk_at dksX3_fire_2 17 rfl rfl)
theorem dX3_fire_65 : decode cX3_fire 65 = .ok (.getfield 51, 3) := dk_180 0 51 (dk_at dksX3_fire_2 18 rfl rfl)
theorem dX3_fire_68 : decode cX3_fire 68 = .ok (.iload_n 1, 1) := dk_27 (dk_at dksX3_fire_2 21 rfl rfl)
theorem dX3_fire_69 : decode cX3_fire 69 = .ok (.invokeinterface 114 2, 5) := by decide +kernel
theorem dX3_fire_74 : decode cX3_fire 74 = .ok (.checkcast 132, 3) := dk_192 0 132 (dk_at dksX3_fire_3 5 rfl rfl)
theorem dX3_fire_77 : decode cX3_fire 77 = .ok (.astore 5, 2) := dk_58 5 (dk_at dksX3_fire_3 8 rfl rfl)
theorem dX3_fire_79 : decode cX3_fire 79 = .ok (.aload_n 0, 1) := dk_42 (dk_at dksX3_fire_3 10 rfl rfl)
theorem dX3_fire_80 : decode cX3_fire 80 = .ok (.aload 5, 2) := dk_25 5 (dk_at dksX3_fire_3 11 rfl rfl)
theorem dX3_fire_82 : decode cX3_fire 82 = .ok (.getfield 149, 3) := dk_180 0 149 (dk_at dksX3_fire_3 13 rfl rfl)
theorem dX3_fire_85 : decode cX3_fire 85 = .ok (.ifCond .eq 37, 3) := dk_153 0 37 (dk_at dksX3_fire_3 16 rfl rfl)
theorem dX3_fire_88 : decode cX3_fire 88 = .ok (.aload_n 0, 1) := dk_42 (dk_at dksX3_fire_3 19 rfl rfl)
theorem dX3_fire_89 : decode cX3_fire 89 = .ok (.getfield 78, 3) := dk_180 0 78 (dk_at dksX3_fire_3 20 rfl rfl)
theorem dX3_fire_92 : decode cX3_fire 92 = .ok (.aload 5, 2) := dk_25 5 (dk_at dksX3_fire_4 0 rfl rfl)
theorem dX3_fire_94 : decode cX3_fire 94 = .ok (.getfield 152, 3) := dk_180 0 152 (dk_at dksX3_fire_4 2 rfl rfl)
theorem dX3_fire_97 : decode cX3_fire 97 = .ok (.if_icmp .lt 25, 3) := dk_161 0 25 (dk_at dksX3_fire_4 5 rfl rfl)
theorem dX3_fire_100 : decode cX3_fire 100 = .ok (.aload 5, 2) := dk_25 5 (dk_at dksX3_fire_4 8 rfl rfl)
theorem dX3_fire_102 : decode cX3_fire 102 = .ok (.getfield 168, 3) := dk_180 0 168 (dk_at dksX3_fire_4 10 rfl rfl)
theorem dX3_fire_105 : decode cX3_fire 105 = .ok (.iconst (-1), 1) := dk_2 (dk_at dksX3_fire_4 13 rfl rfl)
theorem dX3_fire_106 : decode cX3_fire 106 = .ok (.if_icmp .ne 16, 3) := dk_160 0 16 (dk_at dksX3_fire_4 14 rfl rfl)
theorem dX3_fire_109 : decode cX3_fire 109 = .ok (.aload_n 0, 1) := dk_42 (dk_at dksX3_fire_4 17 rfl rfl)
theorem dX3_fire_110 : decode cX3_fire 110 = .ok (.getfield 78, 3) := dk_180 0 78 (dk_at dksX3_fire_4 18 rfl rfl)
theorem dX3_fire_113 : decode cX3_fire 113 = .ok (.aload_n 0, 1) := dk_42 (dk_at dksX3_fire_4 21 rfl rfl)
theorem dX3_fire_114 : decode cX3_fire 114 = .ok (.getfield 48, 3) := dk_180 0 48 (dk_at dksX3_fire_5 0 rfl rfl)
theorem dX3_fire_117 : decode cX3_fire 117 = .ok (.iload_n 2, 1) := dk_28 (dk_at dksX3_fire_5 3 rfl rfl)
theorem dX3_fire_118 : decode cX3_fire 118 = .ok (.iaload, 1) := dk_46 (dk_at dksX3_fire_5 4 rfl rfl)
theorem dX3_fire_119 : decode cX3_fire 119 = .ok (.if_icmp .ge 7, 3) := dk_162 0 7 (dk_at dksX3_fire_5 5 rfl rfl)
theorem dX3_fire_122 : decode cX3_fire 122 = .ok (.iconst 1, 1) := dk_4 (dk_at dksX3_fire_5 8 rfl rfl)
theorem dX3_fire_123 : decode cX3_fire 123 = .ok (.goto 4, 3) := dk_167 0 4 (dk_at dksX3_fire_5 9 rfl rfl)
theorem dX3_fire_126 : decode cX3_fire 126 = .ok (.iconst 0, 1) := dk_3 (dk_at dksX3_fire_5 12 rfl rfl)
theorem dX3_fire_127 : decode cX3_fire 127 = .ok (.iconst 3, 1) := dk_6 (dk_at dksX3_fire_5 13 rfl rfl)
theorem dX3_fire_128 : decode cX3_fire 128 = .ok (.invokevirtual 74, 3) := dk_182 0 74 (dk_at dksX3_fire_5 14 rfl rfl)
theorem dX3_fire_131 : decode cX3_fire 131 = .ok (.ifCond .eq 5, 3) := dk_153 0 5 (dk_at dksX3_fire_5 17 rfl rfl)
theorem dX3_fire_134 : decode cX3_fire 134 = .ok (.iconst (-1), 1) := dk_2 (dk_at dksX3_fire_5 20 rfl rfl)
theorem dX3_fire_135 : decode cX3_fire 135 = .ok (.ireturn, 1) := dk_172 (dk_at dksX3_fire_5 21 rfl rfl)
theorem dX3_fire_136 : decode cX3_fire 136 = .ok (.aload_n 0, 1) := dk_42 (dk_at dksX3_fire_5 22 rfl rfl)
theorem dX3_fire_137 : decode cX3_fire 137 = .ok (.getfield 42, 3) := dk_180 0 42 (dk_at dksX3_fire_6 0 rfl rfl)
theorem dX3_fire_140 : decode cX3_fire 140 = .ok (.aload 5, 2) := dk_25 5 (dk_at dksX3_fire_6 3 rfl rfl)
theorem dX3_fire_142 : decode cX3_fire 142 = .ok (.getfield 135, 3) := dk_180 0 135 (dk_at dksX3_fire_6 5 rfl rfl)
theorem dX3_fire_145 : decode cX3_fire 145 = .ok (.invokeinterface 114 2, 5) := by decide +kernel
theorem dX3_fire_150 : decode cX3_fire 150 = .ok (.checkcast 118, 3) := dk_192 0 118 (dk_at dksX3_fire_6 13 rfl rfl)
theorem dX3_fire_153 : decode cX3_fire 153 = .ok (.iconst 2, 1) := dk_5 (dk_at dksX3_fire_6 16 rfl rfl)
theorem dX3_fire_154 : decode cX3_fire 154 = .ok (.iaload, 1) := dk_46 (dk_at dksX3_fire_6 17 rfl rfl)
theorem dX3_fire_155 : decode cX3_fire 155 = .ok (.istore 6, 2) := dk_54 6 (dk_at dksX3_fire_6 18 rfl rfl)
theorem dX3_fire_157 : decode cX3_fire 157 = .ok (.aload 5, 2) := dk_25 5 (dk_at dksX3_fire_6 20 rfl rfl)
theorem dX3_fire_159 : decode cX3_fire 159 = .ok (.aload_n 0, 1) := dk_42 (dk_at dksX3_fire_6 22 rfl rfl)
theorem dX3_fire_160 : decode cX3_fire 160 = .ok (.getfield 171, 3) := dk_180 0 171 (dk_at dksX3_fire_7 0 rfl rfl)
theorem dX3_fire_163 : decode cX3_fire 163 = .ok (.putfield 168, 3) := dk_181 0 168 (dk_at dksX3_fire_7 3 rfl rfl)
theorem dX3_fire_166 : decode cX3_fire 166 = .ok (.aload_n 0, 1) := dk_42 (dk_at dksX3_fire_7 6 rfl rfl)
theorem dX3_fire_167 : decode cX3_fire 167 = .ok (.dup, 1) := dk_89 (dk_at dksX3_fire_7 7 rfl rfl)
theorem dX3_fire_168 : decode cX3_fire 168 = .ok (.getfield 171, 3) := dk_180 0 171 (dk_at dksX3_fire_7 8 rfl rfl)
theorem dX3_fire_171 : decode cX3_fire 171 = .ok (.iconst 1, 1) := dk_4 (dk_at dksX3_fire_7 11 rfl rfl)
theorem dX3_fire_172 : decode cX3_fire 172 = .ok (.iadd, 1) := dk_96 (dk_at dksX3_fire_7 12 rfl rfl)
theorem dX3_fire_173 : decode cX3_fire 173 = .ok (.putfield 171, 3) := dk_181 0 171 (dk_at dksX3_fire_7 13 rfl rfl)
theorem dX3_fire_176 : decode cX3_fire 176 = .ok (.aload 5, 2) := dk_25 5 (dk_at dksX3_fire_7 16 rfl rfl)
theorem dX3_fire_178 : decode cX3_fire 178 = .ok (.iload_n 2, 1) := dk_28 (dk_at dksX3_fire_7 18 rfl rfl)
theorem dX3_fire_179 : decode cX3_fire 179 = .ok (.putfield 174, 3) := dk_181 0 174 (dk_at dksX3_fire_7 19 rfl rfl)
theorem dX3_fire_182 : decode cX3_fire 182 = .ok (.aload 5, 2) := dk_25 5 (dk_at dksX3_fire_7 22 rfl rfl)
theorem dX3_fire_184 : decode cX3_fire 184 = .ok (.aload_n 0, 1) := dk_42 (dk_at dksX3_fire_8 0 rfl rfl)
theorem dX3_fire_185 : decode cX3_fire 185 = .ok (.getfield 78, 3) := dk_180 0 78 (dk_at dksX3_fire_8 1 rfl rfl)
theorem dX3_fire_188 : decode cX3_fire 188 = .ok (.iload 4, 2) := dk_21 4 (dk_at dksX3_fire_8 4 rfl rfl)
theorem dX3_fire_190 : decode cX3_fire 190 = .ok (.iadd, 1) := dk_96 (dk_at dksX3_fire_8 6 rfl rfl)
theorem dX3_fire_191 : decode cX3_fire 191 = .ok (.putfield 152, 3) := dk_181 0 152 (dk_at dksX3_fire_8 7 rfl rfl)
theorem dX3_fire_194 : decode cX3_fire 194 = .ok (.aload_n 0, 1) := dk_42 (dk_at dksX3_fire_8 10 rfl rfl)
theorem dX3_fire_195 : decode cX3_fire 195 = .ok (.getfield 48, 3) := dk_180 0 48 (dk_at dksX3_fire_8 11 rfl rfl)
theorem dX3_fire_198 : decode cX3_fire 198 = .ok (.iload_n 2, 1) := dk_28 (dk_at dksX3_fire_8 14 rfl rfl)
theorem dX3_fire_199 : decode cX3_fire 199 = .ok (.aload 5, 2) := dk_25 5 (dk_at dksX3_fire_8 15 rfl rfl)
theorem dX3_fire_201 : decode cX3_fire 201 = .ok (.getfield 152, 3) := dk_180 0 152 (dk_at dksX3_fire_8 17 rfl rfl)
theorem dX3_fire_204 : decode cX3_fire 204 = .ok (.iastore, 1) := dk_79 (dk_at dksX3_fire_8 20 rfl rfl)
theorem dX3_fire_205 : decode cX3_fire 205 = .ok (.aload 5, 2) := dk_25 5 (dk_at dksX3_fire_8 21 rfl rfl)
theorem dX3_fire_207 : decode cX3_fire 207 = .ok (.sipush 1000, 3) := dk_17 3 232 (dk_at dksX3_fire_9 0 rfl rfl)
theorem dX3_fire_210 : decode cX3_fire 210 = .ok (.iload 6, 2) := dk_21 6 (dk_at dksX3_fire_9 3 rfl rfl)
theorem dX3_fire_212 : decode cX3_fire 212 = .ok (.isub, 1) := dk_100 (dk_at dksX3_fire_9 5 rfl rfl)
theorem dX3_fire_213 : decode cX3_fire 213 = .ok (.iload_n 3, 1) := dk_29 (dk_at dksX3_fire_9 6 rfl rfl)
theorem dX3_fire_214 : decode cX3_fire 214 = .ok (.sipush 600, 3) := dk_17 2 88 (dk_at dksX3_fire_9 7 rfl rfl)
theorem dX3_fire_217 : decode cX3_fire 217 = .ok (.isub, 1) := dk_100 (dk_at dksX3_fire_9 10 rfl rfl)
theorem dX3_fire_218 : decode cX3_fire 218 = .ok (.imul, 1) := dk_104 (dk_at dksX3_fire_9 11 rfl rfl)
theorem dX3_fire_219 : decode cX3_fire 219 = .ok (.sipush 1000, 3) := dk_17 3 232 (dk_at dksX3_fire_9 12 rfl rfl)
theorem dX3_fire_222 : decode cX3_fire 222 = .ok (.idiv, 1) := dk_108 (dk_at dksX3_fire_9 15 rfl rfl)
theorem dX3_fire_223 : decode cX3_fire 223 = .ok (.bipush 20, 2) := dk_16 20 (dk_at dksX3_fire_9 16 rfl rfl)
theorem dX3_fire_225 : decode cX3_fire 225 = .ok (.aload_n 0, 1) := dk_42 (dk_at dksX3_fire_9 18 rfl rfl)
theorem dX3_fire_226 : decode cX3_fire 226 = .ok (.aload 5, 2) := dk_25 5 (dk_at dksX3_fire_9 19 rfl rfl)
theorem dX3_fire_228 : decode cX3_fire 228 = .ok (.invokevirtual 155, 3) := dk_182 0 155 (dk_at dksX3_fire_9 21 rfl rfl)
theorem dX3_fire_231 : decode cX3_fire 231 = .ok (.imul, 1) := dk_104 (dk_at dksX3_fire_10 0 rfl rfl)
theorem dX3_fire_232 : decode cX3_fire 232 = .ok (.iadd, 1) := dk_96 (dk_at dksX3_fire_10 1 rfl rfl)
theorem dX3_fire_233 : decode cX3_fire 233 = .ok (.iconst 5, 1) := dk_8 (dk_at dksX3_fire_10 2 rfl rfl)
theorem dX3_fire_234 : decode cX3_fire 234 = .ok (.iload 4, 2) := dk_21 4 (dk_at dksX3_fire_10 3 rfl rfl)
theorem dX3_fire_236 : decode cX3_fire 236 = .ok (.imul, 1) := dk_104 (dk_at dksX3_fire_10 5 rfl rfl)
theorem dX3_fire_237 : decode cX3_fire 237 = .ok (.iadd, 1) := dk_96 (dk_at dksX3_fire_10 6 rfl rfl)
theorem dX3_fire_238 : decode cX3_fire 238 = .ok (.putfield 177, 3) := dk_181 0 177 (dk_at dksX3_fire_10 7 rfl rfl)
theorem dX3_fire_241 : decode cX3_fire 241 = .ok (.aload 5, 2) := dk_25 5 (dk_at dksX3_fire_10 10 rfl rfl)
theorem dX3_fire_243 : decode cX3_fire 243 = .ok (.iconst 0, 1) := dk_3 (dk_at dksX3_fire_10 12 rfl rfl)
theorem dX3_fire_244 : decode cX3_fire 244 = .ok (.sipush 999, 3) := dk_17 3 231 (dk_at dksX3_fire_10 13 rfl rfl)
theorem dX3_fire_247 : decode cX3_fire 247 = .ok (.iload 6, 2) := dk_21 6 (dk_at dksX3_fire_10 16 rfl rfl)
theorem dX3_fire_249 : decode cX3_fire 249 = .ok (.iload_n 3, 1) := dk_29 (dk_at dksX3_fire_10 18 rfl rfl)
theorem dX3_fire_250 : decode cX3_fire 250 = .ok (.sipush 700, 3) := dk_17 2 188 (dk_at dksX3_fire_10 19 rfl rfl)
theorem dX3_fire_253 : decode cX3_fire 253 = .ok (.isub, 1) := dk_100 (dk_at dksX3_fire_10 22 rfl rfl)
theorem dX3_fire_254 : decode cX3_fire 254 = .ok (.bipush 10, 2) := dk_16 10 (dk_at dksX3_fire_11 0 rfl rfl)
theorem dX3_fire_256 : decode cX3_fire 256 = .ok (.idiv, 1) := dk_108 (dk_at dksX3_fire_11 2 rfl rfl)
theorem dX3_fire_257 : decode cX3_fire 257 = .ok (.isub, 1) := dk_100 (dk_at dksX3_fire_11 3 rfl rfl)
theorem dX3_fire_258 : decode cX3_fire 258 = .ok (.iconst 5, 1) := dk_8 (dk_at dksX3_fire_11 4 rfl rfl)
theorem dX3_fire_259 : decode cX3_fire 259 = .ok (.aload_n 0, 1) := dk_42 (dk_at dksX3_fire_11 5 rfl rfl)
theorem dX3_fire_260 : decode cX3_fire 260 = .ok (.aload 5, 2) := dk_25 5 (dk_at dksX3_fire_11 6 rfl rfl)
theorem dX3_fire_262 : decode cX3_fire 262 = .ok (.invokevirtual 155, 3) := dk_182 0 155 (dk_at dksX3_fire_11 8 rfl rfl)
theorem dX3_fire_265 : decode cX3_fire 265 = .ok (.imul, 1) := dk_104 (dk_at dksX3_fire_11 11 rfl rfl)
theorem dX3_fire_266 : decode cX3_fire 266 = .ok (.iadd, 1) := dk_96 (dk_at dksX3_fire_11 12 rfl rfl)
theorem dX3_fire_267 : decode cX3_fire 267 = .ok (.invokestatic 119, 3) := dk_184 0 119 (dk_at dksX3_fire_11 13 rfl rfl)
theorem dX3_fire_270 : decode cX3_fire 270 = .ok (.invokestatic 125, 3) := dk_184 0 125 (dk_at dksX3_fire_11 16 rfl rfl)
theorem dX3_fire_273 : decode cX3_fire 273 = .ok (.putfield 180, 3) := dk_181 0 180 (dk_at dksX3_fire_11 19 rfl rfl)
theorem dX3_fire_276 : decode cX3_fire 276 = .ok (.aload 5, 2) := dk_25 5 (dk_at dksX3_fire_11 22 rfl rfl)
theorem dX3_fire_278 : decode cX3_fire 278 = .ok (.getfield 168, 3) := dk_180 0 168 (dk_at dksX3_fire_12 0 rfl rfl)
theorem dX3_fire_281 : decode cX3_fire 281 = .ok (.ireturn, 1) := dk_172 (dk_at dksX3_fire_12 3 rfl rfl)
abbrev cX3_soak : ByteArray := prog_15_method_26_code
def yX3_soak : MethodName := ⟨RX3, "soak", "(II)I"⟩
def dkwX3_soak_6 : List UInt8 := [181, 0, 180, 45, 180, 0, 177, 172]
abbrev dktX3_soak_6 : List UInt8 := dkwX3_soak_6 ++ []
def dkwX3_soak_5 : List UInt8 := [16, 10, 28, 104, 96, 181, 0, 177, 45, 17, 3, 231, 45, 180, 0, 180, 16, 8, 28, 104, 96, 184, 0, 119]
abbrev dktX3_soak_5 : List UInt8 := dkwX3_soak_5 ++ dktX3_soak_6
def dkwX3_soak_4 : List UInt8 := [180, 0, 51, 27, 185, 0, 114, 2, 0, 192, 0, 132, 78, 45, 4, 181, 0, 187, 45, 89, 180, 0, 177]
abbrev dktX3_soak_4 : List UInt8 := dkwX3_soak_4 ++ dktX3_soak_5
def dkwX3_soak_3 : List UInt8 := [192, 0, 132, 180, 0, 187, 153, 0, 7, 4, 167, 0, 4, 3, 6, 182, 0, 74, 153, 0, 5, 2, 172, 42]
abbrev dktX3_soak_3 : List UInt8 := dkwX3_soak_3 ++ dktX3_soak_4
def dkwX3_soak_2 : List UInt8 := [185, 0, 114, 2, 0, 192, 0, 132, 182, 0, 183, 153, 0, 22, 42, 180, 0, 51, 27, 185, 0, 114, 2, 0]
abbrev dktX3_soak_2 : List UInt8 := dkwX3_soak_2 ++ dktX3_soak_3
def dkwX3_soak_1 : List UInt8 := [154, 0, 7, 4, 167, 0, 4, 3, 5, 182, 0, 74, 154, 0, 55, 42, 42, 42, 180, 0, 51, 27]
abbrev dktX3_soak_1 : List UInt8 := dkwX3_soak_1 ++ dktX3_soak_2
def dkwX3_soak_0 : List UInt8 := [42, 182, 0, 69, 42, 27, 182, 0, 144, 154, 0, 80, 42, 28, 133, 10, 20, 0, 147, 184, 0, 13]
abbrev dktX3_soak_0 : List UInt8 := dkwX3_soak_0 ++ dktX3_soak_1
theorem dksX3_soak_0 : cX3_soak.data.toList.drop 0 = dktX3_soak_0 := by decide +kernel
theorem dksX3_soak_1 : cX3_soak.data.toList.drop 22 = dktX3_soak_1 := dk_seg dksX3_soak_0 22 rfl rfl
theorem dksX3_soak_2 : cX3_soak.data.toList.drop 44 = dktX3_soak_2 := dk_seg dksX3_soak_1 22 rfl rfl
theorem dksX3_soak_3 : cX3_soak.data.toList.drop 68 = dktX3_soak_3 := dk_seg dksX3_soak_2 24 rfl rfl
theorem dksX3_soak_4 : cX3_soak.data.toList.drop 92 = dktX3_soak_4 := dk_seg dksX3_soak_3 24 rfl rfl
theorem dksX3_soak_5 : cX3_soak.data.toList.drop 115 = dktX3_soak_5 := dk_seg dksX3_soak_4 23 rfl rfl
theorem dksX3_soak_6 : cX3_soak.data.toList.drop 139 = dktX3_soak_6 := dk_seg dksX3_soak_5 24 rfl rfl
theorem dX3_soak_0 : decode cX3_soak 0 = .ok (.aload_n 0, 1) := dk_42 (dk_at dksX3_soak_0 0 rfl rfl)
theorem dX3_soak_1 : decode cX3_soak 1 = .ok (.invokevirtual 69, 3) := dk_182 0 69 (dk_at dksX3_soak_0 1 rfl rfl)
theorem dX3_soak_4 : decode cX3_soak 4 = .ok (.aload_n 0, 1) := dk_42 (dk_at dksX3_soak_0 4 rfl rfl)
theorem dX3_soak_5 : decode cX3_soak 5 = .ok (.iload_n 1, 1) := dk_27 (dk_at dksX3_soak_0 5 rfl rfl)
theorem dX3_soak_6 : decode cX3_soak 6 = .ok (.invokevirtual 144, 3) := dk_182 0 144 (dk_at dksX3_soak_0 6 rfl rfl)
theorem dX3_soak_9 : decode cX3_soak 9 = .ok (.ifCond .ne 80, 3) := dk_154 0 80 (dk_at dksX3_soak_0 9 rfl rfl)
theorem dX3_soak_12 : decode cX3_soak 12 = .ok (.aload_n 0, 1) := dk_42 (dk_at dksX3_soak_0 12 rfl rfl)
theorem dX3_soak_13 : decode cX3_soak 13 = .ok (.iload_n 2, 1) := dk_28 (dk_at dksX3_soak_0 13 rfl rfl)
theorem dX3_soak_14 : decode cX3_soak 14 = .ok (.i2l, 1) := dk_133 (dk_at dksX3_soak_0 14 rfl rfl)
theorem dX3_soak_15 : decode cX3_soak 15 = .ok (.lconst 1, 1) := dk_10 (dk_at dksX3_soak_0 15 rfl rfl)
theorem dX3_soak_16 : decode cX3_soak 16 = .ok (.ldc2_w 147, 3) := dk_20 0 147 (dk_at dksX3_soak_0 16 rfl rfl)
theorem dX3_soak_19 : decode cX3_soak 19 = .ok (.invokestatic 13, 3) := dk_184 0 13 (dk_at dksX3_soak_0 19 rfl rfl)
theorem dX3_soak_22 : decode cX3_soak 22 = .ok (.ifCond .ne 7, 3) := dk_154 0 7 (dk_at dksX3_soak_1 0 rfl rfl)
theorem dX3_soak_25 : decode cX3_soak 25 = .ok (.iconst 1, 1) := dk_4 (dk_at dksX3_soak_1 3 rfl rfl)
theorem dX3_soak_26 : decode cX3_soak 26 = .ok (.goto 4, 3) := dk_167 0 4 (dk_at dksX3_soak_1 4 rfl rfl)
theorem dX3_soak_29 : decode cX3_soak 29 = .ok (.iconst 0, 1) := dk_3 (dk_at dksX3_soak_1 7 rfl rfl)
theorem dX3_soak_30 : decode cX3_soak 30 = .ok (.iconst 2, 1) := dk_5 (dk_at dksX3_soak_1 8 rfl rfl)
theorem dX3_soak_31 : decode cX3_soak 31 = .ok (.invokevirtual 74, 3) := dk_182 0 74 (dk_at dksX3_soak_1 9 rfl rfl)
theorem dX3_soak_34 : decode cX3_soak 34 = .ok (.ifCond .ne 55, 3) := dk_154 0 55 (dk_at dksX3_soak_1 12 rfl rfl)
theorem dX3_soak_37 : decode cX3_soak 37 = .ok (.aload_n 0, 1) := dk_42 (dk_at dksX3_soak_1 15 rfl rfl)
theorem dX3_soak_38 : decode cX3_soak 38 = .ok (.aload_n 0, 1) := dk_42 (dk_at dksX3_soak_1 16 rfl rfl)
theorem dX3_soak_39 : decode cX3_soak 39 = .ok (.aload_n 0, 1) := dk_42 (dk_at dksX3_soak_1 17 rfl rfl)
theorem dX3_soak_40 : decode cX3_soak 40 = .ok (.getfield 51, 3) := dk_180 0 51 (dk_at dksX3_soak_1 18 rfl rfl)
theorem dX3_soak_43 : decode cX3_soak 43 = .ok (.iload_n 1, 1) := dk_27 (dk_at dksX3_soak_1 21 rfl rfl)
theorem dX3_soak_44 : decode cX3_soak 44 = .ok (.invokeinterface 114 2, 5) := by decide +kernel
theorem dX3_soak_49 : decode cX3_soak 49 = .ok (.checkcast 132, 3) := dk_192 0 132 (dk_at dksX3_soak_2 5 rfl rfl)
theorem dX3_soak_52 : decode cX3_soak 52 = .ok (.invokevirtual 183, 3) := dk_182 0 183 (dk_at dksX3_soak_2 8 rfl rfl)
theorem dX3_soak_55 : decode cX3_soak 55 = .ok (.ifCond .eq 22, 3) := dk_153 0 22 (dk_at dksX3_soak_2 11 rfl rfl)
theorem dX3_soak_58 : decode cX3_soak 58 = .ok (.aload_n 0, 1) := dk_42 (dk_at dksX3_soak_2 14 rfl rfl)
theorem dX3_soak_59 : decode cX3_soak 59 = .ok (.getfield 51, 3) := dk_180 0 51 (dk_at dksX3_soak_2 15 rfl rfl)
theorem dX3_soak_62 : decode cX3_soak 62 = .ok (.iload_n 1, 1) := dk_27 (dk_at dksX3_soak_2 18 rfl rfl)
theorem dX3_soak_63 : decode cX3_soak 63 = .ok (.invokeinterface 114 2, 5) := by decide +kernel
theorem dX3_soak_68 : decode cX3_soak 68 = .ok (.checkcast 132, 3) := dk_192 0 132 (dk_at dksX3_soak_3 0 rfl rfl)
theorem dX3_soak_71 : decode cX3_soak 71 = .ok (.getfield 187, 3) := dk_180 0 187 (dk_at dksX3_soak_3 3 rfl rfl)
theorem dX3_soak_74 : decode cX3_soak 74 = .ok (.ifCond .eq 7, 3) := dk_153 0 7 (dk_at dksX3_soak_3 6 rfl rfl)
theorem dX3_soak_77 : decode cX3_soak 77 = .ok (.iconst 1, 1) := dk_4 (dk_at dksX3_soak_3 9 rfl rfl)
theorem dX3_soak_78 : decode cX3_soak 78 = .ok (.goto 4, 3) := dk_167 0 4 (dk_at dksX3_soak_3 10 rfl rfl)
theorem dX3_soak_81 : decode cX3_soak 81 = .ok (.iconst 0, 1) := dk_3 (dk_at dksX3_soak_3 13 rfl rfl)
theorem dX3_soak_82 : decode cX3_soak 82 = .ok (.iconst 3, 1) := dk_6 (dk_at dksX3_soak_3 14 rfl rfl)
theorem dX3_soak_83 : decode cX3_soak 83 = .ok (.invokevirtual 74, 3) := dk_182 0 74 (dk_at dksX3_soak_3 15 rfl rfl)
theorem dX3_soak_86 : decode cX3_soak 86 = .ok (.ifCond .eq 5, 3) := dk_153 0 5 (dk_at dksX3_soak_3 18 rfl rfl)
theorem dX3_soak_89 : decode cX3_soak 89 = .ok (.iconst (-1), 1) := dk_2 (dk_at dksX3_soak_3 21 rfl rfl)
theorem dX3_soak_90 : decode cX3_soak 90 = .ok (.ireturn, 1) := dk_172 (dk_at dksX3_soak_3 22 rfl rfl)
theorem dX3_soak_91 : decode cX3_soak 91 = .ok (.aload_n 0, 1) := dk_42 (dk_at dksX3_soak_3 23 rfl rfl)
theorem dX3_soak_92 : decode cX3_soak 92 = .ok (.getfield 51, 3) := dk_180 0 51 (dk_at dksX3_soak_4 0 rfl rfl)
theorem dX3_soak_95 : decode cX3_soak 95 = .ok (.iload_n 1, 1) := dk_27 (dk_at dksX3_soak_4 3 rfl rfl)
theorem dX3_soak_96 : decode cX3_soak 96 = .ok (.invokeinterface 114 2, 5) := by decide +kernel
theorem dX3_soak_101 : decode cX3_soak 101 = .ok (.checkcast 132, 3) := dk_192 0 132 (dk_at dksX3_soak_4 9 rfl rfl)
theorem dX3_soak_104 : decode cX3_soak 104 = .ok (.astore_n 3, 1) := dk_78 (dk_at dksX3_soak_4 12 rfl rfl)
theorem dX3_soak_105 : decode cX3_soak 105 = .ok (.aload_n 3, 1) := dk_45 (dk_at dksX3_soak_4 13 rfl rfl)
theorem dX3_soak_106 : decode cX3_soak 106 = .ok (.iconst 1, 1) := dk_4 (dk_at dksX3_soak_4 14 rfl rfl)
theorem dX3_soak_107 : decode cX3_soak 107 = .ok (.putfield 187, 3) := dk_181 0 187 (dk_at dksX3_soak_4 15 rfl rfl)
theorem dX3_soak_110 : decode cX3_soak 110 = .ok (.aload_n 3, 1) := dk_45 (dk_at dksX3_soak_4 18 rfl rfl)
theorem dX3_soak_111 : decode cX3_soak 111 = .ok (.dup, 1) := dk_89 (dk_at dksX3_soak_4 19 rfl rfl)
theorem dX3_soak_112 : decode cX3_soak 112 = .ok (.getfield 177, 3) := dk_180 0 177 (dk_at dksX3_soak_4 20 rfl rfl)
theorem dX3_soak_115 : decode cX3_soak 115 = .ok (.bipush 10, 2) := dk_16 10 (dk_at dksX3_soak_5 0 rfl rfl)
theorem dX3_soak_117 : decode cX3_soak 117 = .ok (.iload_n 2, 1) := dk_28 (dk_at dksX3_soak_5 2 rfl rfl)
theorem dX3_soak_118 : decode cX3_soak 118 = .ok (.imul, 1) := dk_104 (dk_at dksX3_soak_5 3 rfl rfl)
theorem dX3_soak_119 : decode cX3_soak 119 = .ok (.iadd, 1) := dk_96 (dk_at dksX3_soak_5 4 rfl rfl)
theorem dX3_soak_120 : decode cX3_soak 120 = .ok (.putfield 177, 3) := dk_181 0 177 (dk_at dksX3_soak_5 5 rfl rfl)
theorem dX3_soak_123 : decode cX3_soak 123 = .ok (.aload_n 3, 1) := dk_45 (dk_at dksX3_soak_5 8 rfl rfl)
theorem dX3_soak_124 : decode cX3_soak 124 = .ok (.sipush 999, 3) := dk_17 3 231 (dk_at dksX3_soak_5 9 rfl rfl)
theorem dX3_soak_127 : decode cX3_soak 127 = .ok (.aload_n 3, 1) := dk_45 (dk_at dksX3_soak_5 12 rfl rfl)
theorem dX3_soak_128 : decode cX3_soak 128 = .ok (.getfield 180, 3) := dk_180 0 180 (dk_at dksX3_soak_5 13 rfl rfl)
theorem dX3_soak_131 : decode cX3_soak 131 = .ok (.bipush 8, 2) := dk_16 8 (dk_at dksX3_soak_5 16 rfl rfl)
theorem dX3_soak_133 : decode cX3_soak 133 = .ok (.iload_n 2, 1) := dk_28 (dk_at dksX3_soak_5 18 rfl rfl)
theorem dX3_soak_134 : decode cX3_soak 134 = .ok (.imul, 1) := dk_104 (dk_at dksX3_soak_5 19 rfl rfl)
theorem dX3_soak_135 : decode cX3_soak 135 = .ok (.iadd, 1) := dk_96 (dk_at dksX3_soak_5 20 rfl rfl)
theorem dX3_soak_136 : decode cX3_soak 136 = .ok (.invokestatic 119, 3) := dk_184 0 119 (dk_at dksX3_soak_5 21 rfl rfl)
theorem dX3_soak_139 : decode cX3_soak 139 = .ok (.putfield 180, 3) := dk_181 0 180 (dk_at dksX3_soak_6 0 rfl rfl)
theorem dX3_soak_142 : decode cX3_soak 142 = .ok (.aload_n 3, 1) := dk_45 (dk_at dksX3_soak_6 3 rfl rfl)
theorem dX3_soak_143 : decode cX3_soak 143 = .ok (.getfield 177, 3) := dk_180 0 177 (dk_at dksX3_soak_6 4 rfl rfl)
theorem dX3_soak_146 : decode cX3_soak 146 = .ok (.ireturn, 1) := dk_172 (dk_at dksX3_soak_6 7 rfl rfl)
abbrev cX3_isFired : ByteArray := prog_15_method_25_code
def yX3_isFired : MethodName := ⟨RX3, "isFired", "(LGraphlineModel$Batch;)Z"⟩
def dkwX3_isFired_1 : List UInt8 := [172]
abbrev dktX3_isFired_1 : List UInt8 := dkwX3_isFired_1 ++ []
def dkwX3_isFired_0 : List UInt8 := [43, 180, 0, 168, 2, 159, 0, 18, 42, 180, 0, 78, 43, 180, 0, 152, 161, 0, 7, 4, 167, 0, 4, 3]
abbrev dktX3_isFired_0 : List UInt8 := dkwX3_isFired_0 ++ dktX3_isFired_1
theorem dksX3_isFired_0 : cX3_isFired.data.toList.drop 0 = dktX3_isFired_0 := by decide +kernel
theorem dksX3_isFired_1 : cX3_isFired.data.toList.drop 24 = dktX3_isFired_1 := dk_seg dksX3_isFired_0 24 rfl rfl
theorem dX3_isFired_0 : decode cX3_isFired 0 = .ok (.aload_n 1, 1) := dk_43 (dk_at dksX3_isFired_0 0 rfl rfl)
theorem dX3_isFired_1 : decode cX3_isFired 1 = .ok (.getfield 168, 3) := dk_180 0 168 (dk_at dksX3_isFired_0 1 rfl rfl)
theorem dX3_isFired_4 : decode cX3_isFired 4 = .ok (.iconst (-1), 1) := dk_2 (dk_at dksX3_isFired_0 4 rfl rfl)
theorem dX3_isFired_5 : decode cX3_isFired 5 = .ok (.if_icmp .eq 18, 3) := dk_159 0 18 (dk_at dksX3_isFired_0 5 rfl rfl)
theorem dX3_isFired_8 : decode cX3_isFired 8 = .ok (.aload_n 0, 1) := dk_42 (dk_at dksX3_isFired_0 8 rfl rfl)
theorem dX3_isFired_9 : decode cX3_isFired 9 = .ok (.getfield 78, 3) := dk_180 0 78 (dk_at dksX3_isFired_0 9 rfl rfl)
theorem dX3_isFired_12 : decode cX3_isFired 12 = .ok (.aload_n 1, 1) := dk_43 (dk_at dksX3_isFired_0 12 rfl rfl)
theorem dX3_isFired_13 : decode cX3_isFired 13 = .ok (.getfield 152, 3) := dk_180 0 152 (dk_at dksX3_isFired_0 13 rfl rfl)
theorem dX3_isFired_16 : decode cX3_isFired 16 = .ok (.if_icmp .lt 7, 3) := dk_161 0 7 (dk_at dksX3_isFired_0 16 rfl rfl)
theorem dX3_isFired_19 : decode cX3_isFired 19 = .ok (.iconst 1, 1) := dk_4 (dk_at dksX3_isFired_0 19 rfl rfl)
theorem dX3_isFired_20 : decode cX3_isFired 20 = .ok (.goto 4, 3) := dk_167 0 4 (dk_at dksX3_isFired_0 20 rfl rfl)
theorem dX3_isFired_23 : decode cX3_isFired 23 = .ok (.iconst 0, 1) := dk_3 (dk_at dksX3_isFired_0 23 rfl rfl)
theorem dX3_isFired_24 : decode cX3_isFired 24 = .ok (.ireturn, 1) := dk_172 (dk_at dksX3_isFired_1 0 rfl rfl)
abbrev cX3_batch : ByteArray := prog_15_method_27_code
def yX3_batch : MethodName := ⟨RX3, "batch", "(IC)I"⟩
def dkwX3_batch_5 : List UInt8 := [16, 100, 160, 0, 10, 45, 180, 0, 180, 167, 0, 7, 45, 180, 0, 168, 172]
abbrev dktX3_batch_5 : List UInt8 := dkwX3_batch_5 ++ []
def dkwX3_batch_4 : List UInt8 := [160, 0, 10, 45, 180, 0, 152, 167, 0, 33, 28, 16, 115, 160, 0, 10, 45, 180, 0, 177, 167, 0, 20, 28]
abbrev dktX3_batch_4 : List UInt8 := dkwX3_batch_4 ++ dktX3_batch_5
def dkwX3_batch_3 : List UInt8 := [180, 0, 159, 167, 0, 59, 28, 16, 98, 160, 0, 10, 45, 180, 0, 141, 167, 0, 46, 28, 16, 114]
abbrev dktX3_batch_3 : List UInt8 := dkwX3_batch_3 ++ dktX3_batch_4
def dkwX3_batch_2 : List UInt8 := [192, 0, 132, 78, 28, 16, 110, 160, 0, 10, 45, 180, 0, 138, 167, 0, 72, 28, 16, 119, 160, 0, 10, 45]
abbrev dktX3_batch_2 : List UInt8 := dkwX3_batch_2 ++ dktX3_batch_3
def dkwX3_batch_1 : List UInt8 := [167, 0, 4, 3, 5, 182, 0, 74, 153, 0, 5, 2, 172, 42, 180, 0, 51, 27, 185, 0, 114, 2, 0]
abbrev dktX3_batch_1 : List UInt8 := dkwX3_batch_1 ++ dktX3_batch_2
def dkwX3_batch_0 : List UInt8 := [42, 182, 0, 69, 42, 27, 182, 0, 144, 154, 0, 25, 42, 18, 190, 28, 182, 0, 83, 156, 0, 7, 4]
abbrev dktX3_batch_0 : List UInt8 := dkwX3_batch_0 ++ dktX3_batch_1
theorem dksX3_batch_0 : cX3_batch.data.toList.drop 0 = dktX3_batch_0 := by decide +kernel
theorem dksX3_batch_1 : cX3_batch.data.toList.drop 23 = dktX3_batch_1 := dk_seg dksX3_batch_0 23 rfl rfl
theorem dksX3_batch_2 : cX3_batch.data.toList.drop 46 = dktX3_batch_2 := dk_seg dksX3_batch_1 23 rfl rfl
theorem dksX3_batch_3 : cX3_batch.data.toList.drop 70 = dktX3_batch_3 := dk_seg dksX3_batch_2 24 rfl rfl
theorem dksX3_batch_4 : cX3_batch.data.toList.drop 92 = dktX3_batch_4 := dk_seg dksX3_batch_3 22 rfl rfl
theorem dksX3_batch_5 : cX3_batch.data.toList.drop 116 = dktX3_batch_5 := dk_seg dksX3_batch_4 24 rfl rfl
theorem dX3_batch_0 : decode cX3_batch 0 = .ok (.aload_n 0, 1) := dk_42 (dk_at dksX3_batch_0 0 rfl rfl)
theorem dX3_batch_1 : decode cX3_batch 1 = .ok (.invokevirtual 69, 3) := dk_182 0 69 (dk_at dksX3_batch_0 1 rfl rfl)
theorem dX3_batch_4 : decode cX3_batch 4 = .ok (.aload_n 0, 1) := dk_42 (dk_at dksX3_batch_0 4 rfl rfl)
theorem dX3_batch_5 : decode cX3_batch 5 = .ok (.iload_n 1, 1) := dk_27 (dk_at dksX3_batch_0 5 rfl rfl)
theorem dX3_batch_6 : decode cX3_batch 6 = .ok (.invokevirtual 144, 3) := dk_182 0 144 (dk_at dksX3_batch_0 6 rfl rfl)
theorem dX3_batch_9 : decode cX3_batch 9 = .ok (.ifCond .ne 25, 3) := dk_154 0 25 (dk_at dksX3_batch_0 9 rfl rfl)
theorem dX3_batch_12 : decode cX3_batch 12 = .ok (.aload_n 0, 1) := dk_42 (dk_at dksX3_batch_0 12 rfl rfl)
theorem dX3_batch_13 : decode cX3_batch 13 = .ok (.ldc 190, 2) := dk_18 190 (dk_at dksX3_batch_0 13 rfl rfl)
theorem dX3_batch_15 : decode cX3_batch 15 = .ok (.iload_n 2, 1) := dk_28 (dk_at dksX3_batch_0 15 rfl rfl)
theorem dX3_batch_16 : decode cX3_batch 16 = .ok (.invokevirtual 83, 3) := dk_182 0 83 (dk_at dksX3_batch_0 16 rfl rfl)
theorem dX3_batch_19 : decode cX3_batch 19 = .ok (.ifCond .ge 7, 3) := dk_156 0 7 (dk_at dksX3_batch_0 19 rfl rfl)
theorem dX3_batch_22 : decode cX3_batch 22 = .ok (.iconst 1, 1) := dk_4 (dk_at dksX3_batch_0 22 rfl rfl)
theorem dX3_batch_23 : decode cX3_batch 23 = .ok (.goto 4, 3) := dk_167 0 4 (dk_at dksX3_batch_1 0 rfl rfl)
theorem dX3_batch_26 : decode cX3_batch 26 = .ok (.iconst 0, 1) := dk_3 (dk_at dksX3_batch_1 3 rfl rfl)
theorem dX3_batch_27 : decode cX3_batch 27 = .ok (.iconst 2, 1) := dk_5 (dk_at dksX3_batch_1 4 rfl rfl)
theorem dX3_batch_28 : decode cX3_batch 28 = .ok (.invokevirtual 74, 3) := dk_182 0 74 (dk_at dksX3_batch_1 5 rfl rfl)
theorem dX3_batch_31 : decode cX3_batch 31 = .ok (.ifCond .eq 5, 3) := dk_153 0 5 (dk_at dksX3_batch_1 8 rfl rfl)
theorem dX3_batch_34 : decode cX3_batch 34 = .ok (.iconst (-1), 1) := dk_2 (dk_at dksX3_batch_1 11 rfl rfl)
theorem dX3_batch_35 : decode cX3_batch 35 = .ok (.ireturn, 1) := dk_172 (dk_at dksX3_batch_1 12 rfl rfl)
theorem dX3_batch_36 : decode cX3_batch 36 = .ok (.aload_n 0, 1) := dk_42 (dk_at dksX3_batch_1 13 rfl rfl)
theorem dX3_batch_37 : decode cX3_batch 37 = .ok (.getfield 51, 3) := dk_180 0 51 (dk_at dksX3_batch_1 14 rfl rfl)
theorem dX3_batch_40 : decode cX3_batch 40 = .ok (.iload_n 1, 1) := dk_27 (dk_at dksX3_batch_1 17 rfl rfl)
theorem dX3_batch_41 : decode cX3_batch 41 = .ok (.invokeinterface 114 2, 5) := by decide +kernel
theorem dX3_batch_46 : decode cX3_batch 46 = .ok (.checkcast 132, 3) := dk_192 0 132 (dk_at dksX3_batch_2 0 rfl rfl)
theorem dX3_batch_49 : decode cX3_batch 49 = .ok (.astore_n 3, 1) := dk_78 (dk_at dksX3_batch_2 3 rfl rfl)
theorem dX3_batch_50 : decode cX3_batch 50 = .ok (.iload_n 2, 1) := dk_28 (dk_at dksX3_batch_2 4 rfl rfl)
theorem dX3_batch_51 : decode cX3_batch 51 = .ok (.bipush 110, 2) := dk_16 110 (dk_at dksX3_batch_2 5 rfl rfl)
theorem dX3_batch_53 : decode cX3_batch 53 = .ok (.if_icmp .ne 10, 3) := dk_160 0 10 (dk_at dksX3_batch_2 7 rfl rfl)
theorem dX3_batch_56 : decode cX3_batch 56 = .ok (.aload_n 3, 1) := dk_45 (dk_at dksX3_batch_2 10 rfl rfl)
theorem dX3_batch_57 : decode cX3_batch 57 = .ok (.getfield 138, 3) := dk_180 0 138 (dk_at dksX3_batch_2 11 rfl rfl)
theorem dX3_batch_60 : decode cX3_batch 60 = .ok (.goto 72, 3) := dk_167 0 72 (dk_at dksX3_batch_2 14 rfl rfl)
theorem dX3_batch_63 : decode cX3_batch 63 = .ok (.iload_n 2, 1) := dk_28 (dk_at dksX3_batch_2 17 rfl rfl)
theorem dX3_batch_64 : decode cX3_batch 64 = .ok (.bipush 119, 2) := dk_16 119 (dk_at dksX3_batch_2 18 rfl rfl)
theorem dX3_batch_66 : decode cX3_batch 66 = .ok (.if_icmp .ne 10, 3) := dk_160 0 10 (dk_at dksX3_batch_2 20 rfl rfl)
theorem dX3_batch_69 : decode cX3_batch 69 = .ok (.aload_n 3, 1) := dk_45 (dk_at dksX3_batch_2 23 rfl rfl)
theorem dX3_batch_70 : decode cX3_batch 70 = .ok (.getfield 159, 3) := dk_180 0 159 (dk_at dksX3_batch_3 0 rfl rfl)
theorem dX3_batch_73 : decode cX3_batch 73 = .ok (.goto 59, 3) := dk_167 0 59 (dk_at dksX3_batch_3 3 rfl rfl)
theorem dX3_batch_76 : decode cX3_batch 76 = .ok (.iload_n 2, 1) := dk_28 (dk_at dksX3_batch_3 6 rfl rfl)
theorem dX3_batch_77 : decode cX3_batch 77 = .ok (.bipush 98, 2) := dk_16 98 (dk_at dksX3_batch_3 7 rfl rfl)
theorem dX3_batch_79 : decode cX3_batch 79 = .ok (.if_icmp .ne 10, 3) := dk_160 0 10 (dk_at dksX3_batch_3 9 rfl rfl)
theorem dX3_batch_82 : decode cX3_batch 82 = .ok (.aload_n 3, 1) := dk_45 (dk_at dksX3_batch_3 12 rfl rfl)
theorem dX3_batch_83 : decode cX3_batch 83 = .ok (.getfield 141, 3) := dk_180 0 141 (dk_at dksX3_batch_3 13 rfl rfl)
theorem dX3_batch_86 : decode cX3_batch 86 = .ok (.goto 46, 3) := dk_167 0 46 (dk_at dksX3_batch_3 16 rfl rfl)
theorem dX3_batch_89 : decode cX3_batch 89 = .ok (.iload_n 2, 1) := dk_28 (dk_at dksX3_batch_3 19 rfl rfl)
theorem dX3_batch_90 : decode cX3_batch 90 = .ok (.bipush 114, 2) := dk_16 114 (dk_at dksX3_batch_3 20 rfl rfl)
theorem dX3_batch_92 : decode cX3_batch 92 = .ok (.if_icmp .ne 10, 3) := dk_160 0 10 (dk_at dksX3_batch_4 0 rfl rfl)
theorem dX3_batch_95 : decode cX3_batch 95 = .ok (.aload_n 3, 1) := dk_45 (dk_at dksX3_batch_4 3 rfl rfl)
theorem dX3_batch_96 : decode cX3_batch 96 = .ok (.getfield 152, 3) := dk_180 0 152 (dk_at dksX3_batch_4 4 rfl rfl)
theorem dX3_batch_99 : decode cX3_batch 99 = .ok (.goto 33, 3) := dk_167 0 33 (dk_at dksX3_batch_4 7 rfl rfl)
theorem dX3_batch_102 : decode cX3_batch 102 = .ok (.iload_n 2, 1) := dk_28 (dk_at dksX3_batch_4 10 rfl rfl)
theorem dX3_batch_103 : decode cX3_batch 103 = .ok (.bipush 115, 2) := dk_16 115 (dk_at dksX3_batch_4 11 rfl rfl)
theorem dX3_batch_105 : decode cX3_batch 105 = .ok (.if_icmp .ne 10, 3) := dk_160 0 10 (dk_at dksX3_batch_4 13 rfl rfl)
theorem dX3_batch_108 : decode cX3_batch 108 = .ok (.aload_n 3, 1) := dk_45 (dk_at dksX3_batch_4 16 rfl rfl)
theorem dX3_batch_109 : decode cX3_batch 109 = .ok (.getfield 177, 3) := dk_180 0 177 (dk_at dksX3_batch_4 17 rfl rfl)
theorem dX3_batch_112 : decode cX3_batch 112 = .ok (.goto 20, 3) := dk_167 0 20 (dk_at dksX3_batch_4 20 rfl rfl)
theorem dX3_batch_115 : decode cX3_batch 115 = .ok (.iload_n 2, 1) := dk_28 (dk_at dksX3_batch_4 23 rfl rfl)
theorem dX3_batch_116 : decode cX3_batch 116 = .ok (.bipush 100, 2) := dk_16 100 (dk_at dksX3_batch_5 0 rfl rfl)
theorem dX3_batch_118 : decode cX3_batch 118 = .ok (.if_icmp .ne 10, 3) := dk_160 0 10 (dk_at dksX3_batch_5 2 rfl rfl)
theorem dX3_batch_121 : decode cX3_batch 121 = .ok (.aload_n 3, 1) := dk_45 (dk_at dksX3_batch_5 5 rfl rfl)
theorem dX3_batch_122 : decode cX3_batch 122 = .ok (.getfield 180, 3) := dk_180 0 180 (dk_at dksX3_batch_5 6 rfl rfl)
theorem dX3_batch_125 : decode cX3_batch 125 = .ok (.goto 7, 3) := dk_167 0 7 (dk_at dksX3_batch_5 9 rfl rfl)
theorem dX3_batch_128 : decode cX3_batch 128 = .ok (.aload_n 3, 1) := dk_45 (dk_at dksX3_batch_5 12 rfl rfl)
theorem dX3_batch_129 : decode cX3_batch 129 = .ok (.getfield 168, 3) := dk_180 0 168 (dk_at dksX3_batch_5 13 rfl rfl)
theorem dX3_batch_132 : decode cX3_batch 132 = .ok (.ireturn, 1) := dk_172 (dk_at dksX3_batch_5 16 rfl rfl)
abbrev cX3_draw : ByteArray := prog_15_method_29_code
def yX3_draw : MethodName := ⟨RX3, "draw", "(I)I"⟩
def dkwX3_draw_2 : List UInt8 := [167, 0, 20, 42, 42, 180, 0, 51, 27, 185, 0, 114, 2, 0, 192, 0, 132, 182, 0, 198, 172]
abbrev dktX3_draw_2 : List UInt8 := dkwX3_draw_2 ++ []
def dkwX3_draw_1 : List UInt8 := [192, 0, 132, 182, 0, 183, 154, 0, 7, 4, 167, 0, 4, 3, 5, 182, 0, 74, 153, 0, 7, 2]
abbrev dktX3_draw_1 : List UInt8 := dkwX3_draw_1 ++ dktX3_draw_2
def dkwX3_draw_0 : List UInt8 := [42, 182, 0, 69, 42, 27, 182, 0, 144, 154, 0, 36, 42, 42, 42, 180, 0, 51, 27, 185, 0, 114, 2, 0]
abbrev dktX3_draw_0 : List UInt8 := dkwX3_draw_0 ++ dktX3_draw_1
theorem dksX3_draw_0 : cX3_draw.data.toList.drop 0 = dktX3_draw_0 := by decide +kernel
theorem dksX3_draw_1 : cX3_draw.data.toList.drop 24 = dktX3_draw_1 := dk_seg dksX3_draw_0 24 rfl rfl
theorem dksX3_draw_2 : cX3_draw.data.toList.drop 46 = dktX3_draw_2 := dk_seg dksX3_draw_1 22 rfl rfl
theorem dX3_draw_0 : decode cX3_draw 0 = .ok (.aload_n 0, 1) := dk_42 (dk_at dksX3_draw_0 0 rfl rfl)
theorem dX3_draw_1 : decode cX3_draw 1 = .ok (.invokevirtual 69, 3) := dk_182 0 69 (dk_at dksX3_draw_0 1 rfl rfl)
theorem dX3_draw_4 : decode cX3_draw 4 = .ok (.aload_n 0, 1) := dk_42 (dk_at dksX3_draw_0 4 rfl rfl)
theorem dX3_draw_5 : decode cX3_draw 5 = .ok (.iload_n 1, 1) := dk_27 (dk_at dksX3_draw_0 5 rfl rfl)
theorem dX3_draw_6 : decode cX3_draw 6 = .ok (.invokevirtual 144, 3) := dk_182 0 144 (dk_at dksX3_draw_0 6 rfl rfl)
theorem dX3_draw_9 : decode cX3_draw 9 = .ok (.ifCond .ne 36, 3) := dk_154 0 36 (dk_at dksX3_draw_0 9 rfl rfl)
theorem dX3_draw_12 : decode cX3_draw 12 = .ok (.aload_n 0, 1) := dk_42 (dk_at dksX3_draw_0 12 rfl rfl)
theorem dX3_draw_13 : decode cX3_draw 13 = .ok (.aload_n 0, 1) := dk_42 (dk_at dksX3_draw_0 13 rfl rfl)
theorem dX3_draw_14 : decode cX3_draw 14 = .ok (.aload_n 0, 1) := dk_42 (dk_at dksX3_draw_0 14 rfl rfl)
theorem dX3_draw_15 : decode cX3_draw 15 = .ok (.getfield 51, 3) := dk_180 0 51 (dk_at dksX3_draw_0 15 rfl rfl)
theorem dX3_draw_18 : decode cX3_draw 18 = .ok (.iload_n 1, 1) := dk_27 (dk_at dksX3_draw_0 18 rfl rfl)
theorem dX3_draw_19 : decode cX3_draw 19 = .ok (.invokeinterface 114 2, 5) := by decide +kernel
theorem dX3_draw_24 : decode cX3_draw 24 = .ok (.checkcast 132, 3) := dk_192 0 132 (dk_at dksX3_draw_1 0 rfl rfl)
theorem dX3_draw_27 : decode cX3_draw 27 = .ok (.invokevirtual 183, 3) := dk_182 0 183 (dk_at dksX3_draw_1 3 rfl rfl)
theorem dX3_draw_30 : decode cX3_draw 30 = .ok (.ifCond .ne 7, 3) := dk_154 0 7 (dk_at dksX3_draw_1 6 rfl rfl)
theorem dX3_draw_33 : decode cX3_draw 33 = .ok (.iconst 1, 1) := dk_4 (dk_at dksX3_draw_1 9 rfl rfl)
theorem dX3_draw_34 : decode cX3_draw 34 = .ok (.goto 4, 3) := dk_167 0 4 (dk_at dksX3_draw_1 10 rfl rfl)
theorem dX3_draw_37 : decode cX3_draw 37 = .ok (.iconst 0, 1) := dk_3 (dk_at dksX3_draw_1 13 rfl rfl)
theorem dX3_draw_38 : decode cX3_draw 38 = .ok (.iconst 2, 1) := dk_5 (dk_at dksX3_draw_1 14 rfl rfl)
theorem dX3_draw_39 : decode cX3_draw 39 = .ok (.invokevirtual 74, 3) := dk_182 0 74 (dk_at dksX3_draw_1 15 rfl rfl)
theorem dX3_draw_42 : decode cX3_draw 42 = .ok (.ifCond .eq 7, 3) := dk_153 0 7 (dk_at dksX3_draw_1 18 rfl rfl)
theorem dX3_draw_45 : decode cX3_draw 45 = .ok (.iconst (-1), 1) := dk_2 (dk_at dksX3_draw_1 21 rfl rfl)
theorem dX3_draw_46 : decode cX3_draw 46 = .ok (.goto 20, 3) := dk_167 0 20 (dk_at dksX3_draw_2 0 rfl rfl)
theorem dX3_draw_49 : decode cX3_draw 49 = .ok (.aload_n 0, 1) := dk_42 (dk_at dksX3_draw_2 3 rfl rfl)
theorem dX3_draw_50 : decode cX3_draw 50 = .ok (.aload_n 0, 1) := dk_42 (dk_at dksX3_draw_2 4 rfl rfl)
theorem dX3_draw_51 : decode cX3_draw 51 = .ok (.getfield 51, 3) := dk_180 0 51 (dk_at dksX3_draw_2 5 rfl rfl)
theorem dX3_draw_54 : decode cX3_draw 54 = .ok (.iload_n 1, 1) := dk_27 (dk_at dksX3_draw_2 8 rfl rfl)
theorem dX3_draw_55 : decode cX3_draw 55 = .ok (.invokeinterface 114 2, 5) := by decide +kernel
theorem dX3_draw_60 : decode cX3_draw 60 = .ok (.checkcast 132, 3) := dk_192 0 132 (dk_at dksX3_draw_2 14 rfl rfl)
theorem dX3_draw_63 : decode cX3_draw 63 = .ok (.invokevirtual 198, 3) := dk_182 0 198 (dk_at dksX3_draw_2 17 rfl rfl)
theorem dX3_draw_66 : decode cX3_draw 66 = .ok (.ireturn, 1) := dk_172 (dk_at dksX3_draw_2 20 rfl rfl)
abbrev cX3_tells : ByteArray := prog_15_method_28_code
def yX3_tells : MethodName := ⟨RX3, "tells", "(LGraphlineModel$Batch;)I"⟩
def dkwX3_tells_2 : List UInt8 := [181, 0, 192, 28, 172]
abbrev dktX3_tells_2 : List UInt8 := dkwX3_tells_2 ++ []
def dkwX3_tells_1 : List UInt8 := [181, 0, 195, 42, 89, 180, 0, 192, 42, 180, 0, 195, 16, 8, 112, 154, 0, 7, 6, 167, 0, 4, 3, 96]
abbrev dktX3_tells_1 : List UInt8 := dkwX3_tells_1 ++ dktX3_tells_2
def dkwX3_tells_0 : List UInt8 := [17, 3, 231, 43, 180, 0, 180, 42, 180, 0, 192, 96, 184, 0, 119, 61, 42, 89, 180, 0, 195, 4, 96]
abbrev dktX3_tells_0 : List UInt8 := dkwX3_tells_0 ++ dktX3_tells_1
theorem dksX3_tells_0 : cX3_tells.data.toList.drop 0 = dktX3_tells_0 := by decide +kernel
theorem dksX3_tells_1 : cX3_tells.data.toList.drop 23 = dktX3_tells_1 := dk_seg dksX3_tells_0 23 rfl rfl
theorem dksX3_tells_2 : cX3_tells.data.toList.drop 47 = dktX3_tells_2 := dk_seg dksX3_tells_1 24 rfl rfl
theorem dX3_tells_0 : decode cX3_tells 0 = .ok (.sipush 999, 3) := dk_17 3 231 (dk_at dksX3_tells_0 0 rfl rfl)
theorem dX3_tells_3 : decode cX3_tells 3 = .ok (.aload_n 1, 1) := dk_43 (dk_at dksX3_tells_0 3 rfl rfl)
theorem dX3_tells_4 : decode cX3_tells 4 = .ok (.getfield 180, 3) := dk_180 0 180 (dk_at dksX3_tells_0 4 rfl rfl)
theorem dX3_tells_7 : decode cX3_tells 7 = .ok (.aload_n 0, 1) := dk_42 (dk_at dksX3_tells_0 7 rfl rfl)
theorem dX3_tells_8 : decode cX3_tells 8 = .ok (.getfield 192, 3) := dk_180 0 192 (dk_at dksX3_tells_0 8 rfl rfl)
theorem dX3_tells_11 : decode cX3_tells 11 = .ok (.iadd, 1) := dk_96 (dk_at dksX3_tells_0 11 rfl rfl)
theorem dX3_tells_12 : decode cX3_tells 12 = .ok (.invokestatic 119, 3) := dk_184 0 119 (dk_at dksX3_tells_0 12 rfl rfl)
theorem dX3_tells_15 : decode cX3_tells 15 = .ok (.istore_n 2, 1) := dk_61 (dk_at dksX3_tells_0 15 rfl rfl)
theorem dX3_tells_16 : decode cX3_tells 16 = .ok (.aload_n 0, 1) := dk_42 (dk_at dksX3_tells_0 16 rfl rfl)
theorem dX3_tells_17 : decode cX3_tells 17 = .ok (.dup, 1) := dk_89 (dk_at dksX3_tells_0 17 rfl rfl)
theorem dX3_tells_18 : decode cX3_tells 18 = .ok (.getfield 195, 3) := dk_180 0 195 (dk_at dksX3_tells_0 18 rfl rfl)
theorem dX3_tells_21 : decode cX3_tells 21 = .ok (.iconst 1, 1) := dk_4 (dk_at dksX3_tells_0 21 rfl rfl)
theorem dX3_tells_22 : decode cX3_tells 22 = .ok (.iadd, 1) := dk_96 (dk_at dksX3_tells_0 22 rfl rfl)
theorem dX3_tells_23 : decode cX3_tells 23 = .ok (.putfield 195, 3) := dk_181 0 195 (dk_at dksX3_tells_1 0 rfl rfl)
theorem dX3_tells_26 : decode cX3_tells 26 = .ok (.aload_n 0, 1) := dk_42 (dk_at dksX3_tells_1 3 rfl rfl)
theorem dX3_tells_27 : decode cX3_tells 27 = .ok (.dup, 1) := dk_89 (dk_at dksX3_tells_1 4 rfl rfl)
theorem dX3_tells_28 : decode cX3_tells 28 = .ok (.getfield 192, 3) := dk_180 0 192 (dk_at dksX3_tells_1 5 rfl rfl)
theorem dX3_tells_31 : decode cX3_tells 31 = .ok (.aload_n 0, 1) := dk_42 (dk_at dksX3_tells_1 8 rfl rfl)
theorem dX3_tells_32 : decode cX3_tells 32 = .ok (.getfield 195, 3) := dk_180 0 195 (dk_at dksX3_tells_1 9 rfl rfl)
theorem dX3_tells_35 : decode cX3_tells 35 = .ok (.bipush 8, 2) := dk_16 8 (dk_at dksX3_tells_1 12 rfl rfl)
theorem dX3_tells_37 : decode cX3_tells 37 = .ok (.irem, 1) := dk_112 (dk_at dksX3_tells_1 14 rfl rfl)
theorem dX3_tells_38 : decode cX3_tells 38 = .ok (.ifCond .ne 7, 3) := dk_154 0 7 (dk_at dksX3_tells_1 15 rfl rfl)
theorem dX3_tells_41 : decode cX3_tells 41 = .ok (.iconst 3, 1) := dk_6 (dk_at dksX3_tells_1 18 rfl rfl)
theorem dX3_tells_42 : decode cX3_tells 42 = .ok (.goto 4, 3) := dk_167 0 4 (dk_at dksX3_tells_1 19 rfl rfl)
theorem dX3_tells_45 : decode cX3_tells 45 = .ok (.iconst 0, 1) := dk_3 (dk_at dksX3_tells_1 22 rfl rfl)
theorem dX3_tells_46 : decode cX3_tells 46 = .ok (.iadd, 1) := dk_96 (dk_at dksX3_tells_1 23 rfl rfl)
theorem dX3_tells_47 : decode cX3_tells 47 = .ok (.putfield 192, 3) := dk_181 0 192 (dk_at dksX3_tells_2 0 rfl rfl)
theorem dX3_tells_50 : decode cX3_tells 50 = .ok (.iload_n 2, 1) := dk_28 (dk_at dksX3_tells_2 3 rfl rfl)
theorem dX3_tells_51 : decode cX3_tells 51 = .ok (.ireturn, 1) := dk_172 (dk_at dksX3_tells_2 4 rfl rfl)
abbrev cX3_check : ByteArray := prog_15_method_30_code
def yX3_check : MethodName := ⟨RX3, "check", "()I"⟩
def dkwX3_check_0 : List UInt8 := [42, 182, 0, 69, 42, 180, 0, 192, 60, 42, 3, 181, 0, 192, 42, 3, 181, 0, 195, 27, 172]
abbrev dktX3_check_0 : List UInt8 := dkwX3_check_0 ++ []
theorem dksX3_check_0 : cX3_check.data.toList.drop 0 = dktX3_check_0 := by decide +kernel
theorem dX3_check_0 : decode cX3_check 0 = .ok (.aload_n 0, 1) := dk_42 (dk_at dksX3_check_0 0 rfl rfl)
theorem dX3_check_1 : decode cX3_check 1 = .ok (.invokevirtual 69, 3) := dk_182 0 69 (dk_at dksX3_check_0 1 rfl rfl)
theorem dX3_check_4 : decode cX3_check 4 = .ok (.aload_n 0, 1) := dk_42 (dk_at dksX3_check_0 4 rfl rfl)
theorem dX3_check_5 : decode cX3_check 5 = .ok (.getfield 192, 3) := dk_180 0 192 (dk_at dksX3_check_0 5 rfl rfl)
theorem dX3_check_8 : decode cX3_check 8 = .ok (.istore_n 1, 1) := dk_60 (dk_at dksX3_check_0 8 rfl rfl)
theorem dX3_check_9 : decode cX3_check 9 = .ok (.aload_n 0, 1) := dk_42 (dk_at dksX3_check_0 9 rfl rfl)
theorem dX3_check_10 : decode cX3_check 10 = .ok (.iconst 0, 1) := dk_3 (dk_at dksX3_check_0 10 rfl rfl)
theorem dX3_check_11 : decode cX3_check 11 = .ok (.putfield 192, 3) := dk_181 0 192 (dk_at dksX3_check_0 11 rfl rfl)
theorem dX3_check_14 : decode cX3_check 14 = .ok (.aload_n 0, 1) := dk_42 (dk_at dksX3_check_0 14 rfl rfl)
theorem dX3_check_15 : decode cX3_check 15 = .ok (.iconst 0, 1) := dk_3 (dk_at dksX3_check_0 15 rfl rfl)
theorem dX3_check_16 : decode cX3_check 16 = .ok (.putfield 195, 3) := dk_181 0 195 (dk_at dksX3_check_0 16 rfl rfl)
theorem dX3_check_19 : decode cX3_check 19 = .ok (.iload_n 1, 1) := dk_27 (dk_at dksX3_check_0 19 rfl rfl)
theorem dX3_check_20 : decode cX3_check 20 = .ok (.ireturn, 1) := dk_172 (dk_at dksX3_check_0 20 rfl rfl)
abbrev cX3_slats : ByteArray := prog_15_method_32_code
def yX3_slats : MethodName := ⟨RX3, "slats", "(CIII)I"⟩
def dkwX3_slats_7 : List UInt8 := [4, 100, 172]
abbrev dktX3_slats_7 : List UInt8 := dkwX3_slats_7 ++ []
def dkwX3_slats_6 : List UInt8 := [181, 0, 216, 42, 180, 0, 54, 25, 6, 185, 0, 107, 2, 0, 87, 42, 180, 0, 54, 185, 0, 7, 1, 0]
abbrev dktX3_slats_6 : List UInt8 := dkwX3_slats_6 ++ dktX3_slats_7
def dkwX3_slats_5 : List UInt8 := [58, 6, 25, 6, 27, 181, 0, 206, 25, 6, 28, 181, 0, 210, 25, 6, 29, 181, 0, 213, 25, 6, 21, 4]
abbrev dktX3_slats_5 : List UInt8 := dkwX3_slats_5 ++ dktX3_slats_6
def dkwX3_slats_4 : List UInt8 := [160, 0, 7, 4, 167, 0, 4, 3, 5, 182, 0, 74, 153, 0, 5, 2, 172, 187, 0, 203, 89, 183, 0, 205]
abbrev dktX3_slats_4 : List UInt8 := dkwX3_slats_4 ++ dktX3_slats_5
def dkwX3_slats_3 : List UInt8 := [167, 0, 4, 3, 4, 182, 0, 74, 154, 0, 30, 42, 42, 180, 0, 54, 185, 0, 7, 1, 0, 16, 12]
abbrev dktX3_slats_3 : List UInt8 := dkwX3_slats_3 ++ dktX3_slats_4
def dkwX3_slats_2 : List UInt8 := [20, 0, 72, 184, 0, 13, 153, 0, 7, 4, 167, 0, 4, 3, 54, 5, 42, 21, 5, 154, 0, 7, 4]
abbrev dktX3_slats_2 : List UInt8 := dkwX3_slats_2 ++ dktX3_slats_3
def dkwX3_slats_1 : List UInt8 := [184, 0, 13, 153, 0, 32, 29, 133, 9, 20, 0, 201, 184, 0, 13, 153, 0, 20, 21, 4, 133, 10]
abbrev dktX3_slats_1 : List UInt8 := dkwX3_slats_1 ++ dktX3_slats_2
def dkwX3_slats_0 : List UInt8 := [42, 182, 0, 69, 27, 16, 99, 159, 0, 9, 27, 16, 98, 160, 0, 44, 28, 133, 9, 20, 0, 105]
abbrev dktX3_slats_0 : List UInt8 := dkwX3_slats_0 ++ dktX3_slats_1
theorem dksX3_slats_0 : cX3_slats.data.toList.drop 0 = dktX3_slats_0 := by decide +kernel
theorem dksX3_slats_1 : cX3_slats.data.toList.drop 22 = dktX3_slats_1 := dk_seg dksX3_slats_0 22 rfl rfl
theorem dksX3_slats_2 : cX3_slats.data.toList.drop 44 = dktX3_slats_2 := dk_seg dksX3_slats_1 22 rfl rfl
theorem dksX3_slats_3 : cX3_slats.data.toList.drop 67 = dktX3_slats_3 := dk_seg dksX3_slats_2 23 rfl rfl
theorem dksX3_slats_4 : cX3_slats.data.toList.drop 90 = dktX3_slats_4 := dk_seg dksX3_slats_3 23 rfl rfl
theorem dksX3_slats_5 : cX3_slats.data.toList.drop 114 = dktX3_slats_5 := dk_seg dksX3_slats_4 24 rfl rfl
theorem dksX3_slats_6 : cX3_slats.data.toList.drop 138 = dktX3_slats_6 := dk_seg dksX3_slats_5 24 rfl rfl
theorem dksX3_slats_7 : cX3_slats.data.toList.drop 162 = dktX3_slats_7 := dk_seg dksX3_slats_6 24 rfl rfl
theorem dX3_slats_0 : decode cX3_slats 0 = .ok (.aload_n 0, 1) := dk_42 (dk_at dksX3_slats_0 0 rfl rfl)
theorem dX3_slats_1 : decode cX3_slats 1 = .ok (.invokevirtual 69, 3) := dk_182 0 69 (dk_at dksX3_slats_0 1 rfl rfl)
theorem dX3_slats_4 : decode cX3_slats 4 = .ok (.iload_n 1, 1) := dk_27 (dk_at dksX3_slats_0 4 rfl rfl)
theorem dX3_slats_5 : decode cX3_slats 5 = .ok (.bipush 99, 2) := dk_16 99 (dk_at dksX3_slats_0 5 rfl rfl)
theorem dX3_slats_7 : decode cX3_slats 7 = .ok (.if_icmp .eq 9, 3) := dk_159 0 9 (dk_at dksX3_slats_0 7 rfl rfl)
theorem dX3_slats_10 : decode cX3_slats 10 = .ok (.iload_n 1, 1) := dk_27 (dk_at dksX3_slats_0 10 rfl rfl)
theorem dX3_slats_11 : decode cX3_slats 11 = .ok (.bipush 98, 2) := dk_16 98 (dk_at dksX3_slats_0 11 rfl rfl)
theorem dX3_slats_13 : decode cX3_slats 13 = .ok (.if_icmp .ne 44, 3) := dk_160 0 44 (dk_at dksX3_slats_0 13 rfl rfl)
theorem dX3_slats_16 : decode cX3_slats 16 = .ok (.iload_n 2, 1) := dk_28 (dk_at dksX3_slats_0 16 rfl rfl)
theorem dX3_slats_17 : decode cX3_slats 17 = .ok (.i2l, 1) := dk_133 (dk_at dksX3_slats_0 17 rfl rfl)
theorem dX3_slats_18 : decode cX3_slats 18 = .ok (.lconst 0, 1) := dk_9 (dk_at dksX3_slats_0 18 rfl rfl)
theorem dX3_slats_19 : decode cX3_slats 19 = .ok (.ldc2_w 105, 3) := dk_20 0 105 (dk_at dksX3_slats_0 19 rfl rfl)
theorem dX3_slats_22 : decode cX3_slats 22 = .ok (.invokestatic 13, 3) := dk_184 0 13 (dk_at dksX3_slats_1 0 rfl rfl)
theorem dX3_slats_25 : decode cX3_slats 25 = .ok (.ifCond .eq 32, 3) := dk_153 0 32 (dk_at dksX3_slats_1 3 rfl rfl)
theorem dX3_slats_28 : decode cX3_slats 28 = .ok (.iload_n 3, 1) := dk_29 (dk_at dksX3_slats_1 6 rfl rfl)
theorem dX3_slats_29 : decode cX3_slats 29 = .ok (.i2l, 1) := dk_133 (dk_at dksX3_slats_1 7 rfl rfl)
theorem dX3_slats_30 : decode cX3_slats 30 = .ok (.lconst 0, 1) := dk_9 (dk_at dksX3_slats_1 8 rfl rfl)
theorem dX3_slats_31 : decode cX3_slats 31 = .ok (.ldc2_w 201, 3) := dk_20 0 201 (dk_at dksX3_slats_1 9 rfl rfl)
theorem dX3_slats_34 : decode cX3_slats 34 = .ok (.invokestatic 13, 3) := dk_184 0 13 (dk_at dksX3_slats_1 12 rfl rfl)
theorem dX3_slats_37 : decode cX3_slats 37 = .ok (.ifCond .eq 20, 3) := dk_153 0 20 (dk_at dksX3_slats_1 15 rfl rfl)
theorem dX3_slats_40 : decode cX3_slats 40 = .ok (.iload 4, 2) := dk_21 4 (dk_at dksX3_slats_1 18 rfl rfl)
theorem dX3_slats_42 : decode cX3_slats 42 = .ok (.i2l, 1) := dk_133 (dk_at dksX3_slats_1 20 rfl rfl)
theorem dX3_slats_43 : decode cX3_slats 43 = .ok (.lconst 1, 1) := dk_10 (dk_at dksX3_slats_1 21 rfl rfl)
theorem dX3_slats_44 : decode cX3_slats 44 = .ok (.ldc2_w 72, 3) := dk_20 0 72 (dk_at dksX3_slats_2 0 rfl rfl)
theorem dX3_slats_47 : decode cX3_slats 47 = .ok (.invokestatic 13, 3) := dk_184 0 13 (dk_at dksX3_slats_2 3 rfl rfl)
theorem dX3_slats_50 : decode cX3_slats 50 = .ok (.ifCond .eq 7, 3) := dk_153 0 7 (dk_at dksX3_slats_2 6 rfl rfl)
theorem dX3_slats_53 : decode cX3_slats 53 = .ok (.iconst 1, 1) := dk_4 (dk_at dksX3_slats_2 9 rfl rfl)
theorem dX3_slats_54 : decode cX3_slats 54 = .ok (.goto 4, 3) := dk_167 0 4 (dk_at dksX3_slats_2 10 rfl rfl)
theorem dX3_slats_57 : decode cX3_slats 57 = .ok (.iconst 0, 1) := dk_3 (dk_at dksX3_slats_2 13 rfl rfl)
theorem dX3_slats_58 : decode cX3_slats 58 = .ok (.istore 5, 2) := dk_54 5 (dk_at dksX3_slats_2 14 rfl rfl)
theorem dX3_slats_60 : decode cX3_slats 60 = .ok (.aload_n 0, 1) := dk_42 (dk_at dksX3_slats_2 16 rfl rfl)
theorem dX3_slats_61 : decode cX3_slats 61 = .ok (.iload 5, 2) := dk_21 5 (dk_at dksX3_slats_2 17 rfl rfl)
theorem dX3_slats_63 : decode cX3_slats 63 = .ok (.ifCond .ne 7, 3) := dk_154 0 7 (dk_at dksX3_slats_2 19 rfl rfl)
theorem dX3_slats_66 : decode cX3_slats 66 = .ok (.iconst 1, 1) := dk_4 (dk_at dksX3_slats_2 22 rfl rfl)
theorem dX3_slats_67 : decode cX3_slats 67 = .ok (.goto 4, 3) := dk_167 0 4 (dk_at dksX3_slats_3 0 rfl rfl)
theorem dX3_slats_70 : decode cX3_slats 70 = .ok (.iconst 0, 1) := dk_3 (dk_at dksX3_slats_3 3 rfl rfl)
theorem dX3_slats_71 : decode cX3_slats 71 = .ok (.iconst 1, 1) := dk_4 (dk_at dksX3_slats_3 4 rfl rfl)
theorem dX3_slats_72 : decode cX3_slats 72 = .ok (.invokevirtual 74, 3) := dk_182 0 74 (dk_at dksX3_slats_3 5 rfl rfl)
theorem dX3_slats_75 : decode cX3_slats 75 = .ok (.ifCond .ne 30, 3) := dk_154 0 30 (dk_at dksX3_slats_3 8 rfl rfl)
theorem dX3_slats_78 : decode cX3_slats 78 = .ok (.aload_n 0, 1) := dk_42 (dk_at dksX3_slats_3 11 rfl rfl)
theorem dX3_slats_79 : decode cX3_slats 79 = .ok (.aload_n 0, 1) := dk_42 (dk_at dksX3_slats_3 12 rfl rfl)
theorem dX3_slats_80 : decode cX3_slats 80 = .ok (.getfield 54, 3) := dk_180 0 54 (dk_at dksX3_slats_3 13 rfl rfl)
theorem dX3_slats_83 : decode cX3_slats 83 = .ok (.invokeinterface 7 1, 5) := by decide +kernel
theorem dX3_slats_88 : decode cX3_slats 88 = .ok (.bipush 12, 2) := dk_16 12 (dk_at dksX3_slats_3 21 rfl rfl)
theorem dX3_slats_90 : decode cX3_slats 90 = .ok (.if_icmp .ne 7, 3) := dk_160 0 7 (dk_at dksX3_slats_4 0 rfl rfl)
theorem dX3_slats_93 : decode cX3_slats 93 = .ok (.iconst 1, 1) := dk_4 (dk_at dksX3_slats_4 3 rfl rfl)
theorem dX3_slats_94 : decode cX3_slats 94 = .ok (.goto 4, 3) := dk_167 0 4 (dk_at dksX3_slats_4 4 rfl rfl)
theorem dX3_slats_97 : decode cX3_slats 97 = .ok (.iconst 0, 1) := dk_3 (dk_at dksX3_slats_4 7 rfl rfl)
theorem dX3_slats_98 : decode cX3_slats 98 = .ok (.iconst 2, 1) := dk_5 (dk_at dksX3_slats_4 8 rfl rfl)
theorem dX3_slats_99 : decode cX3_slats 99 = .ok (.invokevirtual 74, 3) := dk_182 0 74 (dk_at dksX3_slats_4 9 rfl rfl)
theorem dX3_slats_102 : decode cX3_slats 102 = .ok (.ifCond .eq 5, 3) := dk_153 0 5 (dk_at dksX3_slats_4 12 rfl rfl)
theorem dX3_slats_105 : decode cX3_slats 105 = .ok (.iconst (-1), 1) := dk_2 (dk_at dksX3_slats_4 15 rfl rfl)
theorem dX3_slats_106 : decode cX3_slats 106 = .ok (.ireturn, 1) := dk_172 (dk_at dksX3_slats_4 16 rfl rfl)
theorem dX3_slats_107 : decode cX3_slats 107 = .ok (.new 203, 3) := dk_187 0 203 (dk_at dksX3_slats_4 17 rfl rfl)
theorem dX3_slats_110 : decode cX3_slats 110 = .ok (.dup, 1) := dk_89 (dk_at dksX3_slats_4 20 rfl rfl)
theorem dX3_slats_111 : decode cX3_slats 111 = .ok (.invokespecial 205, 3) := dk_183 0 205 (dk_at dksX3_slats_4 21 rfl rfl)
theorem dX3_slats_114 : decode cX3_slats 114 = .ok (.astore 6, 2) := dk_58 6 (dk_at dksX3_slats_5 0 rfl rfl)
theorem dX3_slats_116 : decode cX3_slats 116 = .ok (.aload 6, 2) := dk_25 6 (dk_at dksX3_slats_5 2 rfl rfl)
theorem dX3_slats_118 : decode cX3_slats 118 = .ok (.iload_n 1, 1) := dk_27 (dk_at dksX3_slats_5 4 rfl rfl)
theorem dX3_slats_119 : decode cX3_slats 119 = .ok (.putfield 206, 3) := dk_181 0 206 (dk_at dksX3_slats_5 5 rfl rfl)
theorem dX3_slats_122 : decode cX3_slats 122 = .ok (.aload 6, 2) := dk_25 6 (dk_at dksX3_slats_5 8 rfl rfl)
theorem dX3_slats_124 : decode cX3_slats 124 = .ok (.iload_n 2, 1) := dk_28 (dk_at dksX3_slats_5 10 rfl rfl)
theorem dX3_slats_125 : decode cX3_slats 125 = .ok (.putfield 210, 3) := dk_181 0 210 (dk_at dksX3_slats_5 11 rfl rfl)
theorem dX3_slats_128 : decode cX3_slats 128 = .ok (.aload 6, 2) := dk_25 6 (dk_at dksX3_slats_5 14 rfl rfl)
theorem dX3_slats_130 : decode cX3_slats 130 = .ok (.iload_n 3, 1) := dk_29 (dk_at dksX3_slats_5 16 rfl rfl)
theorem dX3_slats_131 : decode cX3_slats 131 = .ok (.putfield 213, 3) := dk_181 0 213 (dk_at dksX3_slats_5 17 rfl rfl)
theorem dX3_slats_134 : decode cX3_slats 134 = .ok (.aload 6, 2) := dk_25 6 (dk_at dksX3_slats_5 20 rfl rfl)
theorem dX3_slats_136 : decode cX3_slats 136 = .ok (.iload 4, 2) := dk_21 4 (dk_at dksX3_slats_5 22 rfl rfl)
theorem dX3_slats_138 : decode cX3_slats 138 = .ok (.putfield 216, 3) := dk_181 0 216 (dk_at dksX3_slats_6 0 rfl rfl)
theorem dX3_slats_141 : decode cX3_slats 141 = .ok (.aload_n 0, 1) := dk_42 (dk_at dksX3_slats_6 3 rfl rfl)
theorem dX3_slats_142 : decode cX3_slats 142 = .ok (.getfield 54, 3) := dk_180 0 54 (dk_at dksX3_slats_6 4 rfl rfl)
theorem dX3_slats_145 : decode cX3_slats 145 = .ok (.aload 6, 2) := dk_25 6 (dk_at dksX3_slats_6 7 rfl rfl)
theorem dX3_slats_147 : decode cX3_slats 147 = .ok (.invokeinterface 107 2, 5) := by decide +kernel
theorem dX3_slats_152 : decode cX3_slats 152 = .ok (.pop, 1) := dk_87 (dk_at dksX3_slats_6 14 rfl rfl)
theorem dX3_slats_153 : decode cX3_slats 153 = .ok (.aload_n 0, 1) := dk_42 (dk_at dksX3_slats_6 15 rfl rfl)
theorem dX3_slats_154 : decode cX3_slats 154 = .ok (.getfield 54, 3) := dk_180 0 54 (dk_at dksX3_slats_6 16 rfl rfl)
theorem dX3_slats_157 : decode cX3_slats 157 = .ok (.invokeinterface 7 1, 5) := by decide +kernel
theorem dX3_slats_162 : decode cX3_slats 162 = .ok (.iconst 1, 1) := dk_4 (dk_at dksX3_slats_7 0 rfl rfl)
theorem dX3_slats_163 : decode cX3_slats 163 = .ok (.isub, 1) := dk_100 (dk_at dksX3_slats_7 1 rfl rfl)
theorem dX3_slats_164 : decode cX3_slats 164 = .ok (.ireturn, 1) := dk_172 (dk_at dksX3_slats_7 2 rfl rfl)
abbrev cX3_season : ByteArray := prog_15_method_33_code
def yX3_season : MethodName := ⟨RX3, "season", "(II)I"⟩
def dkwX3_season_5 : List UInt8 := [184, 0, 125, 181, 0, 213, 45, 42, 180, 0, 78, 28, 96, 181, 0, 224, 45, 180, 0, 224, 172]
abbrev dktX3_season_5 : List UInt8 := dkwX3_season_5 ++ []
def dkwX3_season_4 : List UInt8 := [180, 0, 213, 28, 45, 180, 0, 206, 16, 99, 160, 0, 8, 16, 6, 167, 0, 5, 16, 9, 108, 100]
abbrev dktX3_season_4 : List UInt8 := dkwX3_season_4 ++ dktX3_season_5
def dkwX3_season_3 : List UInt8 := [153, 0, 5, 2, 172, 42, 180, 0, 54, 27, 185, 0, 114, 2, 0, 192, 0, 203, 78, 45, 3, 45]
abbrev dktX3_season_3 : List UInt8 := dkwX3_season_3 ++ dktX3_season_4
def dkwX3_season_2 : List UInt8 := [27, 185, 0, 114, 2, 0, 192, 0, 203, 180, 0, 224, 162, 0, 7, 4, 167, 0, 4, 3, 6, 182, 0, 74]
abbrev dktX3_season_2 : List UInt8 := dkwX3_season_2 ++ dktX3_season_3
def dkwX3_season_1 : List UInt8 := [154, 0, 7, 4, 167, 0, 4, 3, 5, 182, 0, 74, 154, 0, 39, 42, 42, 180, 0, 78, 42, 180, 0, 54]
abbrev dktX3_season_1 : List UInt8 := dkwX3_season_1 ++ dktX3_season_2
def dkwX3_season_0 : List UInt8 := [42, 182, 0, 69, 42, 27, 182, 0, 219, 154, 0, 64, 42, 28, 133, 10, 20, 0, 222, 184, 0, 13]
abbrev dktX3_season_0 : List UInt8 := dkwX3_season_0 ++ dktX3_season_1
theorem dksX3_season_0 : cX3_season.data.toList.drop 0 = dktX3_season_0 := by decide +kernel
theorem dksX3_season_1 : cX3_season.data.toList.drop 22 = dktX3_season_1 := dk_seg dksX3_season_0 22 rfl rfl
theorem dksX3_season_2 : cX3_season.data.toList.drop 46 = dktX3_season_2 := dk_seg dksX3_season_1 24 rfl rfl
theorem dksX3_season_3 : cX3_season.data.toList.drop 70 = dktX3_season_3 := dk_seg dksX3_season_2 24 rfl rfl
theorem dksX3_season_4 : cX3_season.data.toList.drop 92 = dktX3_season_4 := dk_seg dksX3_season_3 22 rfl rfl
theorem dksX3_season_5 : cX3_season.data.toList.drop 114 = dktX3_season_5 := dk_seg dksX3_season_4 22 rfl rfl
theorem dX3_season_0 : decode cX3_season 0 = .ok (.aload_n 0, 1) := dk_42 (dk_at dksX3_season_0 0 rfl rfl)
theorem dX3_season_1 : decode cX3_season 1 = .ok (.invokevirtual 69, 3) := dk_182 0 69 (dk_at dksX3_season_0 1 rfl rfl)
theorem dX3_season_4 : decode cX3_season 4 = .ok (.aload_n 0, 1) := dk_42 (dk_at dksX3_season_0 4 rfl rfl)
theorem dX3_season_5 : decode cX3_season 5 = .ok (.iload_n 1, 1) := dk_27 (dk_at dksX3_season_0 5 rfl rfl)
theorem dX3_season_6 : decode cX3_season 6 = .ok (.invokevirtual 219, 3) := dk_182 0 219 (dk_at dksX3_season_0 6 rfl rfl)
theorem dX3_season_9 : decode cX3_season 9 = .ok (.ifCond .ne 64, 3) := dk_154 0 64 (dk_at dksX3_season_0 9 rfl rfl)
theorem dX3_season_12 : decode cX3_season 12 = .ok (.aload_n 0, 1) := dk_42 (dk_at dksX3_season_0 12 rfl rfl)
theorem dX3_season_13 : decode cX3_season 13 = .ok (.iload_n 2, 1) := dk_28 (dk_at dksX3_season_0 13 rfl rfl)
theorem dX3_season_14 : decode cX3_season 14 = .ok (.i2l, 1) := dk_133 (dk_at dksX3_season_0 14 rfl rfl)
theorem dX3_season_15 : decode cX3_season 15 = .ok (.lconst 1, 1) := dk_10 (dk_at dksX3_season_0 15 rfl rfl)
theorem dX3_season_16 : decode cX3_season 16 = .ok (.ldc2_w 222, 3) := dk_20 0 222 (dk_at dksX3_season_0 16 rfl rfl)
theorem dX3_season_19 : decode cX3_season 19 = .ok (.invokestatic 13, 3) := dk_184 0 13 (dk_at dksX3_season_0 19 rfl rfl)
theorem dX3_season_22 : decode cX3_season 22 = .ok (.ifCond .ne 7, 3) := dk_154 0 7 (dk_at dksX3_season_1 0 rfl rfl)
theorem dX3_season_25 : decode cX3_season 25 = .ok (.iconst 1, 1) := dk_4 (dk_at dksX3_season_1 3 rfl rfl)
theorem dX3_season_26 : decode cX3_season 26 = .ok (.goto 4, 3) := dk_167 0 4 (dk_at dksX3_season_1 4 rfl rfl)
theorem dX3_season_29 : decode cX3_season 29 = .ok (.iconst 0, 1) := dk_3 (dk_at dksX3_season_1 7 rfl rfl)
theorem dX3_season_30 : decode cX3_season 30 = .ok (.iconst 2, 1) := dk_5 (dk_at dksX3_season_1 8 rfl rfl)
theorem dX3_season_31 : decode cX3_season 31 = .ok (.invokevirtual 74, 3) := dk_182 0 74 (dk_at dksX3_season_1 9 rfl rfl)
theorem dX3_season_34 : decode cX3_season 34 = .ok (.ifCond .ne 39, 3) := dk_154 0 39 (dk_at dksX3_season_1 12 rfl rfl)
theorem dX3_season_37 : decode cX3_season 37 = .ok (.aload_n 0, 1) := dk_42 (dk_at dksX3_season_1 15 rfl rfl)
theorem dX3_season_38 : decode cX3_season 38 = .ok (.aload_n 0, 1) := dk_42 (dk_at dksX3_season_1 16 rfl rfl)
theorem dX3_season_39 : decode cX3_season 39 = .ok (.getfield 78, 3) := dk_180 0 78 (dk_at dksX3_season_1 17 rfl rfl)
theorem dX3_season_42 : decode cX3_season 42 = .ok (.aload_n 0, 1) := dk_42 (dk_at dksX3_season_1 20 rfl rfl)
theorem dX3_season_43 : decode cX3_season 43 = .ok (.getfield 54, 3) := dk_180 0 54 (dk_at dksX3_season_1 21 rfl rfl)
theorem dX3_season_46 : decode cX3_season 46 = .ok (.iload_n 1, 1) := dk_27 (dk_at dksX3_season_2 0 rfl rfl)
theorem dX3_season_47 : decode cX3_season 47 = .ok (.invokeinterface 114 2, 5) := by decide +kernel
theorem dX3_season_52 : decode cX3_season 52 = .ok (.checkcast 203, 3) := dk_192 0 203 (dk_at dksX3_season_2 6 rfl rfl)
theorem dX3_season_55 : decode cX3_season 55 = .ok (.getfield 224, 3) := dk_180 0 224 (dk_at dksX3_season_2 9 rfl rfl)
theorem dX3_season_58 : decode cX3_season 58 = .ok (.if_icmp .ge 7, 3) := dk_162 0 7 (dk_at dksX3_season_2 12 rfl rfl)
theorem dX3_season_61 : decode cX3_season 61 = .ok (.iconst 1, 1) := dk_4 (dk_at dksX3_season_2 15 rfl rfl)
theorem dX3_season_62 : decode cX3_season 62 = .ok (.goto 4, 3) := dk_167 0 4 (dk_at dksX3_season_2 16 rfl rfl)
theorem dX3_season_65 : decode cX3_season 65 = .ok (.iconst 0, 1) := dk_3 (dk_at dksX3_season_2 19 rfl rfl)
theorem dX3_season_66 : decode cX3_season 66 = .ok (.iconst 3, 1) := dk_6 (dk_at dksX3_season_2 20 rfl rfl)
theorem dX3_season_67 : decode cX3_season 67 = .ok (.invokevirtual 74, 3) := dk_182 0 74 (dk_at dksX3_season_2 21 rfl rfl)
theorem dX3_season_70 : decode cX3_season 70 = .ok (.ifCond .eq 5, 3) := dk_153 0 5 (dk_at dksX3_season_3 0 rfl rfl)
theorem dX3_season_73 : decode cX3_season 73 = .ok (.iconst (-1), 1) := dk_2 (dk_at dksX3_season_3 3 rfl rfl)
theorem dX3_season_74 : decode cX3_season 74 = .ok (.ireturn, 1) := dk_172 (dk_at dksX3_season_3 4 rfl rfl)
theorem dX3_season_75 : decode cX3_season 75 = .ok (.aload_n 0, 1) := dk_42 (dk_at dksX3_season_3 5 rfl rfl)
theorem dX3_season_76 : decode cX3_season 76 = .ok (.getfield 54, 3) := dk_180 0 54 (dk_at dksX3_season_3 6 rfl rfl)
theorem dX3_season_79 : decode cX3_season 79 = .ok (.iload_n 1, 1) := dk_27 (dk_at dksX3_season_3 9 rfl rfl)
theorem dX3_season_80 : decode cX3_season 80 = .ok (.invokeinterface 114 2, 5) := by decide +kernel
theorem dX3_season_85 : decode cX3_season 85 = .ok (.checkcast 203, 3) := dk_192 0 203 (dk_at dksX3_season_3 15 rfl rfl)
theorem dX3_season_88 : decode cX3_season 88 = .ok (.astore_n 3, 1) := dk_78 (dk_at dksX3_season_3 18 rfl rfl)
theorem dX3_season_89 : decode cX3_season 89 = .ok (.aload_n 3, 1) := dk_45 (dk_at dksX3_season_3 19 rfl rfl)
theorem dX3_season_90 : decode cX3_season 90 = .ok (.iconst 0, 1) := dk_3 (dk_at dksX3_season_3 20 rfl rfl)
theorem dX3_season_91 : decode cX3_season 91 = .ok (.aload_n 3, 1) := dk_45 (dk_at dksX3_season_3 21 rfl rfl)
theorem dX3_season_92 : decode cX3_season 92 = .ok (.getfield 213, 3) := dk_180 0 213 (dk_at dksX3_season_4 0 rfl rfl)
theorem dX3_season_95 : decode cX3_season 95 = .ok (.iload_n 2, 1) := dk_28 (dk_at dksX3_season_4 3 rfl rfl)
theorem dX3_season_96 : decode cX3_season 96 = .ok (.aload_n 3, 1) := dk_45 (dk_at dksX3_season_4 4 rfl rfl)
theorem dX3_season_97 : decode cX3_season 97 = .ok (.getfield 206, 3) := dk_180 0 206 (dk_at dksX3_season_4 5 rfl rfl)
theorem dX3_season_100 : decode cX3_season 100 = .ok (.bipush 99, 2) := dk_16 99 (dk_at dksX3_season_4 8 rfl rfl)
theorem dX3_season_102 : decode cX3_season 102 = .ok (.if_icmp .ne 8, 3) := dk_160 0 8 (dk_at dksX3_season_4 10 rfl rfl)
theorem dX3_season_105 : decode cX3_season 105 = .ok (.bipush 6, 2) := dk_16 6 (dk_at dksX3_season_4 13 rfl rfl)
theorem dX3_season_107 : decode cX3_season 107 = .ok (.goto 5, 3) := dk_167 0 5 (dk_at dksX3_season_4 15 rfl rfl)
theorem dX3_season_110 : decode cX3_season 110 = .ok (.bipush 9, 2) := dk_16 9 (dk_at dksX3_season_4 18 rfl rfl)
theorem dX3_season_112 : decode cX3_season 112 = .ok (.idiv, 1) := dk_108 (dk_at dksX3_season_4 20 rfl rfl)
theorem dX3_season_113 : decode cX3_season 113 = .ok (.isub, 1) := dk_100 (dk_at dksX3_season_4 21 rfl rfl)
theorem dX3_season_114 : decode cX3_season 114 = .ok (.invokestatic 125, 3) := dk_184 0 125 (dk_at dksX3_season_5 0 rfl rfl)
theorem dX3_season_117 : decode cX3_season 117 = .ok (.putfield 213, 3) := dk_181 0 213 (dk_at dksX3_season_5 3 rfl rfl)
theorem dX3_season_120 : decode cX3_season 120 = .ok (.aload_n 3, 1) := dk_45 (dk_at dksX3_season_5 6 rfl rfl)
theorem dX3_season_121 : decode cX3_season 121 = .ok (.aload_n 0, 1) := dk_42 (dk_at dksX3_season_5 7 rfl rfl)
theorem dX3_season_122 : decode cX3_season 122 = .ok (.getfield 78, 3) := dk_180 0 78 (dk_at dksX3_season_5 8 rfl rfl)
theorem dX3_season_125 : decode cX3_season 125 = .ok (.iload_n 2, 1) := dk_28 (dk_at dksX3_season_5 11 rfl rfl)
theorem dX3_season_126 : decode cX3_season 126 = .ok (.iadd, 1) := dk_96 (dk_at dksX3_season_5 12 rfl rfl)
theorem dX3_season_127 : decode cX3_season 127 = .ok (.putfield 224, 3) := dk_181 0 224 (dk_at dksX3_season_5 13 rfl rfl)
theorem dX3_season_130 : decode cX3_season 130 = .ok (.aload_n 3, 1) := dk_45 (dk_at dksX3_season_5 16 rfl rfl)
theorem dX3_season_131 : decode cX3_season 131 = .ok (.getfield 224, 3) := dk_180 0 224 (dk_at dksX3_season_5 17 rfl rfl)
theorem dX3_season_134 : decode cX3_season 134 = .ok (.ireturn, 1) := dk_172 (dk_at dksX3_season_5 20 rfl rfl)
abbrev cX3_noSlats : ByteArray := prog_15_method_31_code
def yX3_noSlats : MethodName := ⟨RX3, "noSlats", "(I)Z"⟩
def dkwX3_noSlats_0 : List UInt8 := [42, 42, 180, 0, 54, 27, 184, 0, 97, 154, 0, 7, 4, 167, 0, 4, 3, 4, 182, 0, 74, 172]
abbrev dktX3_noSlats_0 : List UInt8 := dkwX3_noSlats_0 ++ []
theorem dksX3_noSlats_0 : cX3_noSlats.data.toList.drop 0 = dktX3_noSlats_0 := by decide +kernel
theorem dX3_noSlats_0 : decode cX3_noSlats 0 = .ok (.aload_n 0, 1) := dk_42 (dk_at dksX3_noSlats_0 0 rfl rfl)
theorem dX3_noSlats_1 : decode cX3_noSlats 1 = .ok (.aload_n 0, 1) := dk_42 (dk_at dksX3_noSlats_0 1 rfl rfl)
theorem dX3_noSlats_2 : decode cX3_noSlats 2 = .ok (.getfield 54, 3) := dk_180 0 54 (dk_at dksX3_noSlats_0 2 rfl rfl)
theorem dX3_noSlats_5 : decode cX3_noSlats 5 = .ok (.iload_n 1, 1) := dk_27 (dk_at dksX3_noSlats_0 5 rfl rfl)
theorem dX3_noSlats_6 : decode cX3_noSlats 6 = .ok (.invokestatic 97, 3) := dk_184 0 97 (dk_at dksX3_noSlats_0 6 rfl rfl)
theorem dX3_noSlats_9 : decode cX3_noSlats 9 = .ok (.ifCond .ne 7, 3) := dk_154 0 7 (dk_at dksX3_noSlats_0 9 rfl rfl)
theorem dX3_noSlats_12 : decode cX3_noSlats 12 = .ok (.iconst 1, 1) := dk_4 (dk_at dksX3_noSlats_0 12 rfl rfl)
theorem dX3_noSlats_13 : decode cX3_noSlats 13 = .ok (.goto 4, 3) := dk_167 0 4 (dk_at dksX3_noSlats_0 13 rfl rfl)
theorem dX3_noSlats_16 : decode cX3_noSlats 16 = .ok (.iconst 0, 1) := dk_3 (dk_at dksX3_noSlats_0 16 rfl rfl)
theorem dX3_noSlats_17 : decode cX3_noSlats 17 = .ok (.iconst 1, 1) := dk_4 (dk_at dksX3_noSlats_0 17 rfl rfl)
theorem dX3_noSlats_18 : decode cX3_noSlats 18 = .ok (.invokevirtual 74, 3) := dk_182 0 74 (dk_at dksX3_noSlats_0 18 rfl rfl)
theorem dX3_noSlats_21 : decode cX3_noSlats 21 = .ok (.ireturn, 1) := dk_172 (dk_at dksX3_noSlats_0 21 rfl rfl)
abbrev cX3_groove : ByteArray := prog_15_method_34_code
def yX3_groove : MethodName := ⟨RX3, "groove", "(II)I"⟩
def dkwX3_groove_4 : List UInt8 := [167, 0, 4, 3, 6, 182, 0, 74, 153, 0, 5, 2, 172, 45, 28, 181, 0, 227, 45, 180, 0, 216, 172]
abbrev dktX3_groove_4 : List UInt8 := dkwX3_groove_4 ++ []
def dkwX3_groove_3 : List UInt8 := [180, 0, 213, 16, 10, 163, 0, 18, 45, 180, 0, 227, 157, 0, 11, 42, 5, 182, 0, 93, 154, 0, 7, 4]
abbrev dktX3_groove_3 : List UInt8 := dkwX3_groove_3 ++ dktX3_groove_4
def dkwX3_groove_2 : List UInt8 := [185, 0, 114, 2, 0, 192, 0, 203, 78, 42, 42, 180, 0, 78, 45, 180, 0, 224, 161, 0, 27, 45]
abbrev dktX3_groove_2 : List UInt8 := dkwX3_groove_2 ++ dktX3_groove_3
def dkwX3_groove_1 : List UInt8 := [154, 0, 7, 4, 167, 0, 4, 3, 5, 182, 0, 74, 153, 0, 5, 2, 172, 42, 180, 0, 54, 27]
abbrev dktX3_groove_1 : List UInt8 := dkwX3_groove_1 ++ dktX3_groove_2
def dkwX3_groove_0 : List UInt8 := [42, 182, 0, 69, 42, 27, 182, 0, 219, 154, 0, 30, 42, 28, 133, 20, 0, 147, 20, 0, 225, 184, 0, 13]
abbrev dktX3_groove_0 : List UInt8 := dkwX3_groove_0 ++ dktX3_groove_1
theorem dksX3_groove_0 : cX3_groove.data.toList.drop 0 = dktX3_groove_0 := by decide +kernel
theorem dksX3_groove_1 : cX3_groove.data.toList.drop 24 = dktX3_groove_1 := dk_seg dksX3_groove_0 24 rfl rfl
theorem dksX3_groove_2 : cX3_groove.data.toList.drop 46 = dktX3_groove_2 := dk_seg dksX3_groove_1 22 rfl rfl
theorem dksX3_groove_3 : cX3_groove.data.toList.drop 68 = dktX3_groove_3 := dk_seg dksX3_groove_2 22 rfl rfl
theorem dksX3_groove_4 : cX3_groove.data.toList.drop 92 = dktX3_groove_4 := dk_seg dksX3_groove_3 24 rfl rfl
theorem dX3_groove_0 : decode cX3_groove 0 = .ok (.aload_n 0, 1) := dk_42 (dk_at dksX3_groove_0 0 rfl rfl)
theorem dX3_groove_1 : decode cX3_groove 1 = .ok (.invokevirtual 69, 3) := dk_182 0 69 (dk_at dksX3_groove_0 1 rfl rfl)
theorem dX3_groove_4 : decode cX3_groove 4 = .ok (.aload_n 0, 1) := dk_42 (dk_at dksX3_groove_0 4 rfl rfl)
theorem dX3_groove_5 : decode cX3_groove 5 = .ok (.iload_n 1, 1) := dk_27 (dk_at dksX3_groove_0 5 rfl rfl)
theorem dX3_groove_6 : decode cX3_groove 6 = .ok (.invokevirtual 219, 3) := dk_182 0 219 (dk_at dksX3_groove_0 6 rfl rfl)
theorem dX3_groove_9 : decode cX3_groove 9 = .ok (.ifCond .ne 30, 3) := dk_154 0 30 (dk_at dksX3_groove_0 9 rfl rfl)
theorem dX3_groove_12 : decode cX3_groove 12 = .ok (.aload_n 0, 1) := dk_42 (dk_at dksX3_groove_0 12 rfl rfl)
theorem dX3_groove_13 : decode cX3_groove 13 = .ok (.iload_n 2, 1) := dk_28 (dk_at dksX3_groove_0 13 rfl rfl)
theorem dX3_groove_14 : decode cX3_groove 14 = .ok (.i2l, 1) := dk_133 (dk_at dksX3_groove_0 14 rfl rfl)
theorem dX3_groove_15 : decode cX3_groove 15 = .ok (.ldc2_w 147, 3) := dk_20 0 147 (dk_at dksX3_groove_0 15 rfl rfl)
theorem dX3_groove_18 : decode cX3_groove 18 = .ok (.ldc2_w 225, 3) := dk_20 0 225 (dk_at dksX3_groove_0 18 rfl rfl)
theorem dX3_groove_21 : decode cX3_groove 21 = .ok (.invokestatic 13, 3) := dk_184 0 13 (dk_at dksX3_groove_0 21 rfl rfl)
theorem dX3_groove_24 : decode cX3_groove 24 = .ok (.ifCond .ne 7, 3) := dk_154 0 7 (dk_at dksX3_groove_1 0 rfl rfl)
theorem dX3_groove_27 : decode cX3_groove 27 = .ok (.iconst 1, 1) := dk_4 (dk_at dksX3_groove_1 3 rfl rfl)
theorem dX3_groove_28 : decode cX3_groove 28 = .ok (.goto 4, 3) := dk_167 0 4 (dk_at dksX3_groove_1 4 rfl rfl)
theorem dX3_groove_31 : decode cX3_groove 31 = .ok (.iconst 0, 1) := dk_3 (dk_at dksX3_groove_1 7 rfl rfl)
theorem dX3_groove_32 : decode cX3_groove 32 = .ok (.iconst 2, 1) := dk_5 (dk_at dksX3_groove_1 8 rfl rfl)
theorem dX3_groove_33 : decode cX3_groove 33 = .ok (.invokevirtual 74, 3) := dk_182 0 74 (dk_at dksX3_groove_1 9 rfl rfl)
theorem dX3_groove_36 : decode cX3_groove 36 = .ok (.ifCond .eq 5, 3) := dk_153 0 5 (dk_at dksX3_groove_1 12 rfl rfl)
theorem dX3_groove_39 : decode cX3_groove 39 = .ok (.iconst (-1), 1) := dk_2 (dk_at dksX3_groove_1 15 rfl rfl)
theorem dX3_groove_40 : decode cX3_groove 40 = .ok (.ireturn, 1) := dk_172 (dk_at dksX3_groove_1 16 rfl rfl)
theorem dX3_groove_41 : decode cX3_groove 41 = .ok (.aload_n 0, 1) := dk_42 (dk_at dksX3_groove_1 17 rfl rfl)
theorem dX3_groove_42 : decode cX3_groove 42 = .ok (.getfield 54, 3) := dk_180 0 54 (dk_at dksX3_groove_1 18 rfl rfl)
theorem dX3_groove_45 : decode cX3_groove 45 = .ok (.iload_n 1, 1) := dk_27 (dk_at dksX3_groove_1 21 rfl rfl)
theorem dX3_groove_46 : decode cX3_groove 46 = .ok (.invokeinterface 114 2, 5) := by decide +kernel
theorem dX3_groove_51 : decode cX3_groove 51 = .ok (.checkcast 203, 3) := dk_192 0 203 (dk_at dksX3_groove_2 5 rfl rfl)
theorem dX3_groove_54 : decode cX3_groove 54 = .ok (.astore_n 3, 1) := dk_78 (dk_at dksX3_groove_2 8 rfl rfl)
theorem dX3_groove_55 : decode cX3_groove 55 = .ok (.aload_n 0, 1) := dk_42 (dk_at dksX3_groove_2 9 rfl rfl)
theorem dX3_groove_56 : decode cX3_groove 56 = .ok (.aload_n 0, 1) := dk_42 (dk_at dksX3_groove_2 10 rfl rfl)
theorem dX3_groove_57 : decode cX3_groove 57 = .ok (.getfield 78, 3) := dk_180 0 78 (dk_at dksX3_groove_2 11 rfl rfl)
theorem dX3_groove_60 : decode cX3_groove 60 = .ok (.aload_n 3, 1) := dk_45 (dk_at dksX3_groove_2 14 rfl rfl)
theorem dX3_groove_61 : decode cX3_groove 61 = .ok (.getfield 224, 3) := dk_180 0 224 (dk_at dksX3_groove_2 15 rfl rfl)
theorem dX3_groove_64 : decode cX3_groove 64 = .ok (.if_icmp .lt 27, 3) := dk_161 0 27 (dk_at dksX3_groove_2 18 rfl rfl)
theorem dX3_groove_67 : decode cX3_groove 67 = .ok (.aload_n 3, 1) := dk_45 (dk_at dksX3_groove_2 21 rfl rfl)
theorem dX3_groove_68 : decode cX3_groove 68 = .ok (.getfield 213, 3) := dk_180 0 213 (dk_at dksX3_groove_3 0 rfl rfl)
theorem dX3_groove_71 : decode cX3_groove 71 = .ok (.bipush 10, 2) := dk_16 10 (dk_at dksX3_groove_3 3 rfl rfl)
theorem dX3_groove_73 : decode cX3_groove 73 = .ok (.if_icmp .gt 18, 3) := dk_163 0 18 (dk_at dksX3_groove_3 5 rfl rfl)
theorem dX3_groove_76 : decode cX3_groove 76 = .ok (.aload_n 3, 1) := dk_45 (dk_at dksX3_groove_3 8 rfl rfl)
theorem dX3_groove_77 : decode cX3_groove 77 = .ok (.getfield 227, 3) := dk_180 0 227 (dk_at dksX3_groove_3 9 rfl rfl)
theorem dX3_groove_80 : decode cX3_groove 80 = .ok (.ifCond .gt 11, 3) := dk_157 0 11 (dk_at dksX3_groove_3 12 rfl rfl)
theorem dX3_groove_83 : decode cX3_groove 83 = .ok (.aload_n 0, 1) := dk_42 (dk_at dksX3_groove_3 15 rfl rfl)
theorem dX3_groove_84 : decode cX3_groove 84 = .ok (.iconst 2, 1) := dk_5 (dk_at dksX3_groove_3 16 rfl rfl)
theorem dX3_groove_85 : decode cX3_groove 85 = .ok (.invokevirtual 93, 3) := dk_182 0 93 (dk_at dksX3_groove_3 17 rfl rfl)
theorem dX3_groove_88 : decode cX3_groove 88 = .ok (.ifCond .ne 7, 3) := dk_154 0 7 (dk_at dksX3_groove_3 20 rfl rfl)
theorem dX3_groove_91 : decode cX3_groove 91 = .ok (.iconst 1, 1) := dk_4 (dk_at dksX3_groove_3 23 rfl rfl)
theorem dX3_groove_92 : decode cX3_groove 92 = .ok (.goto 4, 3) := dk_167 0 4 (dk_at dksX3_groove_4 0 rfl rfl)
theorem dX3_groove_95 : decode cX3_groove 95 = .ok (.iconst 0, 1) := dk_3 (dk_at dksX3_groove_4 3 rfl rfl)
theorem dX3_groove_96 : decode cX3_groove 96 = .ok (.iconst 3, 1) := dk_6 (dk_at dksX3_groove_4 4 rfl rfl)
theorem dX3_groove_97 : decode cX3_groove 97 = .ok (.invokevirtual 74, 3) := dk_182 0 74 (dk_at dksX3_groove_4 5 rfl rfl)
theorem dX3_groove_100 : decode cX3_groove 100 = .ok (.ifCond .eq 5, 3) := dk_153 0 5 (dk_at dksX3_groove_4 8 rfl rfl)
theorem dX3_groove_103 : decode cX3_groove 103 = .ok (.iconst (-1), 1) := dk_2 (dk_at dksX3_groove_4 11 rfl rfl)
theorem dX3_groove_104 : decode cX3_groove 104 = .ok (.ireturn, 1) := dk_172 (dk_at dksX3_groove_4 12 rfl rfl)
theorem dX3_groove_105 : decode cX3_groove 105 = .ok (.aload_n 3, 1) := dk_45 (dk_at dksX3_groove_4 13 rfl rfl)
theorem dX3_groove_106 : decode cX3_groove 106 = .ok (.iload_n 2, 1) := dk_28 (dk_at dksX3_groove_4 14 rfl rfl)
theorem dX3_groove_107 : decode cX3_groove 107 = .ok (.putfield 227, 3) := dk_181 0 227 (dk_at dksX3_groove_4 15 rfl rfl)
theorem dX3_groove_110 : decode cX3_groove 110 = .ok (.aload_n 3, 1) := dk_45 (dk_at dksX3_groove_4 18 rfl rfl)
theorem dX3_groove_111 : decode cX3_groove 111 = .ok (.getfield 216, 3) := dk_180 0 216 (dk_at dksX3_groove_4 19 rfl rfl)
theorem dX3_groove_114 : decode cX3_groove 114 = .ok (.ireturn, 1) := dk_172 (dk_at dksX3_groove_4 22 rfl rfl)
abbrev cX3_slat : ByteArray := prog_15_method_35_code
def yX3_slat : MethodName := ⟨RX3, "slat", "(IC)I"⟩
def dkwX3_slat_3 : List UInt8 := [180, 0, 213, 167, 0, 20, 28, 16, 103, 160, 0, 10, 45, 180, 0, 227, 167, 0, 7, 45, 180, 0, 224, 172]
abbrev dktX3_slat_3 : List UInt8 := dkwX3_slat_3 ++ []
def dkwX3_slat_2 : List UInt8 := [192, 0, 203, 78, 28, 16, 110, 160, 0, 10, 45, 180, 0, 216, 167, 0, 33, 28, 16, 119, 160, 0, 10, 45]
abbrev dktX3_slat_2 : List UInt8 := dkwX3_slat_2 ++ dktX3_slat_3
def dkwX3_slat_1 : List UInt8 := [167, 0, 4, 3, 5, 182, 0, 74, 153, 0, 5, 2, 172, 42, 180, 0, 54, 27, 185, 0, 114, 2, 0]
abbrev dktX3_slat_1 : List UInt8 := dkwX3_slat_1 ++ dktX3_slat_2
def dkwX3_slat_0 : List UInt8 := [42, 182, 0, 69, 42, 27, 182, 0, 219, 154, 0, 25, 42, 18, 230, 28, 182, 0, 83, 156, 0, 7, 4]
abbrev dktX3_slat_0 : List UInt8 := dkwX3_slat_0 ++ dktX3_slat_1
theorem dksX3_slat_0 : cX3_slat.data.toList.drop 0 = dktX3_slat_0 := by decide +kernel
theorem dksX3_slat_1 : cX3_slat.data.toList.drop 23 = dktX3_slat_1 := dk_seg dksX3_slat_0 23 rfl rfl
theorem dksX3_slat_2 : cX3_slat.data.toList.drop 46 = dktX3_slat_2 := dk_seg dksX3_slat_1 23 rfl rfl
theorem dksX3_slat_3 : cX3_slat.data.toList.drop 70 = dktX3_slat_3 := dk_seg dksX3_slat_2 24 rfl rfl
theorem dX3_slat_0 : decode cX3_slat 0 = .ok (.aload_n 0, 1) := dk_42 (dk_at dksX3_slat_0 0 rfl rfl)
theorem dX3_slat_1 : decode cX3_slat 1 = .ok (.invokevirtual 69, 3) := dk_182 0 69 (dk_at dksX3_slat_0 1 rfl rfl)
theorem dX3_slat_4 : decode cX3_slat 4 = .ok (.aload_n 0, 1) := dk_42 (dk_at dksX3_slat_0 4 rfl rfl)
theorem dX3_slat_5 : decode cX3_slat 5 = .ok (.iload_n 1, 1) := dk_27 (dk_at dksX3_slat_0 5 rfl rfl)
theorem dX3_slat_6 : decode cX3_slat 6 = .ok (.invokevirtual 219, 3) := dk_182 0 219 (dk_at dksX3_slat_0 6 rfl rfl)
theorem dX3_slat_9 : decode cX3_slat 9 = .ok (.ifCond .ne 25, 3) := dk_154 0 25 (dk_at dksX3_slat_0 9 rfl rfl)
theorem dX3_slat_12 : decode cX3_slat 12 = .ok (.aload_n 0, 1) := dk_42 (dk_at dksX3_slat_0 12 rfl rfl)
theorem dX3_slat_13 : decode cX3_slat 13 = .ok (.ldc 230, 2) := dk_18 230 (dk_at dksX3_slat_0 13 rfl rfl)
theorem dX3_slat_15 : decode cX3_slat 15 = .ok (.iload_n 2, 1) := dk_28 (dk_at dksX3_slat_0 15 rfl rfl)
theorem dX3_slat_16 : decode cX3_slat 16 = .ok (.invokevirtual 83, 3) := dk_182 0 83 (dk_at dksX3_slat_0 16 rfl rfl)
theorem dX3_slat_19 : decode cX3_slat 19 = .ok (.ifCond .ge 7, 3) := dk_156 0 7 (dk_at dksX3_slat_0 19 rfl rfl)
theorem dX3_slat_22 : decode cX3_slat 22 = .ok (.iconst 1, 1) := dk_4 (dk_at dksX3_slat_0 22 rfl rfl)
theorem dX3_slat_23 : decode cX3_slat 23 = .ok (.goto 4, 3) := dk_167 0 4 (dk_at dksX3_slat_1 0 rfl rfl)
theorem dX3_slat_26 : decode cX3_slat 26 = .ok (.iconst 0, 1) := dk_3 (dk_at dksX3_slat_1 3 rfl rfl)
theorem dX3_slat_27 : decode cX3_slat 27 = .ok (.iconst 2, 1) := dk_5 (dk_at dksX3_slat_1 4 rfl rfl)
theorem dX3_slat_28 : decode cX3_slat 28 = .ok (.invokevirtual 74, 3) := dk_182 0 74 (dk_at dksX3_slat_1 5 rfl rfl)
theorem dX3_slat_31 : decode cX3_slat 31 = .ok (.ifCond .eq 5, 3) := dk_153 0 5 (dk_at dksX3_slat_1 8 rfl rfl)
theorem dX3_slat_34 : decode cX3_slat 34 = .ok (.iconst (-1), 1) := dk_2 (dk_at dksX3_slat_1 11 rfl rfl)
theorem dX3_slat_35 : decode cX3_slat 35 = .ok (.ireturn, 1) := dk_172 (dk_at dksX3_slat_1 12 rfl rfl)
theorem dX3_slat_36 : decode cX3_slat 36 = .ok (.aload_n 0, 1) := dk_42 (dk_at dksX3_slat_1 13 rfl rfl)
theorem dX3_slat_37 : decode cX3_slat 37 = .ok (.getfield 54, 3) := dk_180 0 54 (dk_at dksX3_slat_1 14 rfl rfl)
theorem dX3_slat_40 : decode cX3_slat 40 = .ok (.iload_n 1, 1) := dk_27 (dk_at dksX3_slat_1 17 rfl rfl)
theorem dX3_slat_41 : decode cX3_slat 41 = .ok (.invokeinterface 114 2, 5) := by decide +kernel
theorem dX3_slat_46 : decode cX3_slat 46 = .ok (.checkcast 203, 3) := dk_192 0 203 (dk_at dksX3_slat_2 0 rfl rfl)
theorem dX3_slat_49 : decode cX3_slat 49 = .ok (.astore_n 3, 1) := dk_78 (dk_at dksX3_slat_2 3 rfl rfl)
theorem dX3_slat_50 : decode cX3_slat 50 = .ok (.iload_n 2, 1) := dk_28 (dk_at dksX3_slat_2 4 rfl rfl)
theorem dX3_slat_51 : decode cX3_slat 51 = .ok (.bipush 110, 2) := dk_16 110 (dk_at dksX3_slat_2 5 rfl rfl)
theorem dX3_slat_53 : decode cX3_slat 53 = .ok (.if_icmp .ne 10, 3) := dk_160 0 10 (dk_at dksX3_slat_2 7 rfl rfl)
theorem dX3_slat_56 : decode cX3_slat 56 = .ok (.aload_n 3, 1) := dk_45 (dk_at dksX3_slat_2 10 rfl rfl)
theorem dX3_slat_57 : decode cX3_slat 57 = .ok (.getfield 216, 3) := dk_180 0 216 (dk_at dksX3_slat_2 11 rfl rfl)
theorem dX3_slat_60 : decode cX3_slat 60 = .ok (.goto 33, 3) := dk_167 0 33 (dk_at dksX3_slat_2 14 rfl rfl)
theorem dX3_slat_63 : decode cX3_slat 63 = .ok (.iload_n 2, 1) := dk_28 (dk_at dksX3_slat_2 17 rfl rfl)
theorem dX3_slat_64 : decode cX3_slat 64 = .ok (.bipush 119, 2) := dk_16 119 (dk_at dksX3_slat_2 18 rfl rfl)
theorem dX3_slat_66 : decode cX3_slat 66 = .ok (.if_icmp .ne 10, 3) := dk_160 0 10 (dk_at dksX3_slat_2 20 rfl rfl)
theorem dX3_slat_69 : decode cX3_slat 69 = .ok (.aload_n 3, 1) := dk_45 (dk_at dksX3_slat_2 23 rfl rfl)
theorem dX3_slat_70 : decode cX3_slat 70 = .ok (.getfield 213, 3) := dk_180 0 213 (dk_at dksX3_slat_3 0 rfl rfl)
theorem dX3_slat_73 : decode cX3_slat 73 = .ok (.goto 20, 3) := dk_167 0 20 (dk_at dksX3_slat_3 3 rfl rfl)
theorem dX3_slat_76 : decode cX3_slat 76 = .ok (.iload_n 2, 1) := dk_28 (dk_at dksX3_slat_3 6 rfl rfl)
theorem dX3_slat_77 : decode cX3_slat 77 = .ok (.bipush 103, 2) := dk_16 103 (dk_at dksX3_slat_3 7 rfl rfl)
theorem dX3_slat_79 : decode cX3_slat 79 = .ok (.if_icmp .ne 10, 3) := dk_160 0 10 (dk_at dksX3_slat_3 9 rfl rfl)
theorem dX3_slat_82 : decode cX3_slat 82 = .ok (.aload_n 3, 1) := dk_45 (dk_at dksX3_slat_3 12 rfl rfl)
theorem dX3_slat_83 : decode cX3_slat 83 = .ok (.getfield 227, 3) := dk_180 0 227 (dk_at dksX3_slat_3 13 rfl rfl)
theorem dX3_slat_86 : decode cX3_slat 86 = .ok (.goto 7, 3) := dk_167 0 7 (dk_at dksX3_slat_3 16 rfl rfl)
theorem dX3_slat_89 : decode cX3_slat 89 = .ok (.aload_n 3, 1) := dk_45 (dk_at dksX3_slat_3 19 rfl rfl)
theorem dX3_slat_90 : decode cX3_slat 90 = .ok (.getfield 224, 3) := dk_180 0 224 (dk_at dksX3_slat_3 20 rfl rfl)
theorem dX3_slat_93 : decode cX3_slat 93 = .ok (.ireturn, 1) := dk_172 (dk_at dksX3_slat_3 23 rfl rfl)
abbrev cX3_lay : ByteArray := prog_15_method_36_code
def yX3_lay : MethodName := ⟨RX3, "lay", "(IICII)I"⟩
def dkwX3_lay_16 : List UInt8 := [180, 0, 57, 25, 12, 185, 0, 107, 2, 0, 87, 42, 180, 0, 57, 185, 0, 7, 1, 0, 4, 100, 172]
abbrev dktX3_lay_16 : List UInt8 := dkwX3_lay_16 ++ []
def dkwX3_lay_15 : List UInt8 := [180, 0, 210, 7, 108, 96, 181, 0, 249, 25, 12, 42, 180, 0, 78, 16, 6, 96, 181, 0, 252, 42]
abbrev dktX3_lay_15 : List UInt8 := dkwX3_lay_15 ++ dktX3_lay_16
def dkwX3_lay_14 : List UInt8 := [181, 0, 243, 25, 12, 21, 5, 181, 0, 245, 25, 12, 21, 4, 181, 0, 248, 25, 12, 21, 9, 25, 8]
abbrev dktX3_lay_14 : List UInt8 := dkwX3_lay_14 ++ dktX3_lay_15
def dkwX3_lay_13 : List UInt8 := [21, 10, 100, 181, 0, 216, 187, 0, 237, 89, 183, 0, 239, 58, 12, 25, 12, 27, 181, 0, 240, 25, 12, 28]
abbrev dktX3_lay_13 : List UInt8 := dkwX3_lay_13 ++ dktX3_lay_14
def dkwX3_lay_12 : List UInt8 := [153, 0, 5, 2, 172, 25, 7, 89, 180, 0, 138, 21, 4, 100, 181, 0, 138, 25, 8, 89, 180, 0, 216]
abbrev dktX3_lay_12 : List UInt8 := dkwX3_lay_12 ++ dktX3_lay_13
def dkwX3_lay_11 : List UInt8 := [42, 42, 180, 0, 57, 185, 0, 7, 1, 0, 16, 16, 160, 0, 7, 4, 167, 0, 4, 3, 7, 182, 0, 74]
abbrev dktX3_lay_11 : List UInt8 := dkwX3_lay_11 ++ dktX3_lay_12
def dkwX3_lay_10 : List UInt8 := [167, 0, 4, 3, 54, 11, 42, 21, 11, 154, 0, 7, 4, 167, 0, 4, 3, 6, 182, 0, 74, 154, 0, 30]
abbrev dktX3_lay_10 : List UInt8 := dkwX3_lay_10 ++ dktX3_lay_11
def dkwX3_lay_9 : List UInt8 := [163, 0, 27, 25, 7, 180, 0, 138, 21, 4, 161, 0, 17, 25, 8, 180, 0, 216, 21, 10, 161, 0, 7, 4]
abbrev dktX3_lay_9 : List UInt8 := dkwX3_lay_9 ++ dktX3_lay_10
def dkwX3_lay_8 : List UInt8 := [180, 0, 78, 25, 8, 180, 0, 224, 161, 0, 41, 25, 8, 180, 0, 227, 158, 0, 33, 21, 9, 5]
abbrev dktX3_lay_8 : List UInt8 := dkwX3_lay_8 ++ dktX3_lay_9
def dkwX3_lay_7 : List UInt8 := [21, 4, 21, 6, 96, 4, 100, 21, 6, 108, 104, 54, 10, 42, 25, 7, 182, 0, 183, 153, 0, 53, 42]
abbrev dktX3_lay_7 : List UInt8 := dkwX3_lay_7 ++ dktX3_lay_8
def dkwX3_lay_6 : List UInt8 := [192, 0, 203, 58, 8, 5, 25, 8, 180, 0, 227, 104, 25, 7, 180, 0, 141, 100, 184, 0, 234, 54, 9, 5]
abbrev dktX3_lay_6 : List UInt8 := dkwX3_lay_6 ++ dktX3_lay_7
def dkwX3_lay_5 : List UInt8 := [180, 0, 51, 27, 185, 0, 114, 2, 0, 192, 0, 132, 58, 7, 42, 180, 0, 54, 28, 185, 0, 114, 2, 0]
abbrev dktX3_lay_5 : List UInt8 := dkwX3_lay_5 ++ dktX3_lay_6
def dkwX3_lay_4 : List UInt8 := [20, 0, 105, 184, 0, 13, 154, 0, 7, 4, 167, 0, 4, 3, 5, 182, 0, 74, 153, 0, 5, 2, 172, 42]
abbrev dktX3_lay_4 : List UInt8 := dkwX3_lay_4 ++ dktX3_lay_5
def dkwX3_lay_3 : List UInt8 := [182, 0, 83, 155, 0, 29, 21, 4, 133, 10, 20, 0, 72, 184, 0, 13, 153, 0, 16, 21, 5, 133, 9]
abbrev dktX3_lay_3 : List UInt8 := dkwX3_lay_3 ++ dktX3_lay_4
def dkwX3_lay_2 : List UInt8 := [184, 0, 97, 154, 0, 7, 4, 167, 0, 4, 3, 4, 182, 0, 74, 154, 0, 51, 42, 18, 232, 29]
abbrev dktX3_lay_2 : List UInt8 := dkwX3_lay_2 ++ dktX3_lay_3
def dkwX3_lay_1 : List UInt8 := [167, 0, 5, 16, 7, 54, 6, 42, 42, 180, 0, 51, 27, 184, 0, 97, 153, 0, 14, 42, 180, 0, 54, 28]
abbrev dktX3_lay_1 : List UInt8 := dkwX3_lay_1 ++ dktX3_lay_2
def dkwX3_lay_0 : List UInt8 := [42, 182, 0, 69, 29, 16, 54, 160, 0, 8, 16, 6, 167, 0, 15, 29, 16, 48, 160, 0, 7, 8]
abbrev dktX3_lay_0 : List UInt8 := dkwX3_lay_0 ++ dktX3_lay_1
theorem dksX3_lay_0 : cX3_lay.data.toList.drop 0 = dktX3_lay_0 := by decide +kernel
theorem dksX3_lay_1 : cX3_lay.data.toList.drop 22 = dktX3_lay_1 := dk_seg dksX3_lay_0 22 rfl rfl
theorem dksX3_lay_2 : cX3_lay.data.toList.drop 46 = dktX3_lay_2 := dk_seg dksX3_lay_1 24 rfl rfl
theorem dksX3_lay_3 : cX3_lay.data.toList.drop 68 = dktX3_lay_3 := dk_seg dksX3_lay_2 22 rfl rfl
theorem dksX3_lay_4 : cX3_lay.data.toList.drop 91 = dktX3_lay_4 := dk_seg dksX3_lay_3 23 rfl rfl
theorem dksX3_lay_5 : cX3_lay.data.toList.drop 115 = dktX3_lay_5 := dk_seg dksX3_lay_4 24 rfl rfl
theorem dksX3_lay_6 : cX3_lay.data.toList.drop 139 = dktX3_lay_6 := dk_seg dksX3_lay_5 24 rfl rfl
theorem dksX3_lay_7 : cX3_lay.data.toList.drop 163 = dktX3_lay_7 := dk_seg dksX3_lay_6 24 rfl rfl
theorem dksX3_lay_8 : cX3_lay.data.toList.drop 186 = dktX3_lay_8 := dk_seg dksX3_lay_7 23 rfl rfl
theorem dksX3_lay_9 : cX3_lay.data.toList.drop 208 = dktX3_lay_9 := dk_seg dksX3_lay_8 22 rfl rfl
theorem dksX3_lay_10 : cX3_lay.data.toList.drop 232 = dktX3_lay_10 := dk_seg dksX3_lay_9 24 rfl rfl
theorem dksX3_lay_11 : cX3_lay.data.toList.drop 256 = dktX3_lay_11 := dk_seg dksX3_lay_10 24 rfl rfl
theorem dksX3_lay_12 : cX3_lay.data.toList.drop 280 = dktX3_lay_12 := dk_seg dksX3_lay_11 24 rfl rfl
theorem dksX3_lay_13 : cX3_lay.data.toList.drop 303 = dktX3_lay_13 := dk_seg dksX3_lay_12 23 rfl rfl
theorem dksX3_lay_14 : cX3_lay.data.toList.drop 327 = dktX3_lay_14 := dk_seg dksX3_lay_13 24 rfl rfl
theorem dksX3_lay_15 : cX3_lay.data.toList.drop 350 = dktX3_lay_15 := dk_seg dksX3_lay_14 23 rfl rfl
theorem dksX3_lay_16 : cX3_lay.data.toList.drop 372 = dktX3_lay_16 := dk_seg dksX3_lay_15 22 rfl rfl
theorem dX3_lay_0 : decode cX3_lay 0 = .ok (.aload_n 0, 1) := dk_42 (dk_at dksX3_lay_0 0 rfl rfl)
theorem dX3_lay_1 : decode cX3_lay 1 = .ok (.invokevirtual 69, 3) := dk_182 0 69 (dk_at dksX3_lay_0 1 rfl rfl)
theorem dX3_lay_4 : decode cX3_lay 4 = .ok (.iload_n 3, 1) := dk_29 (dk_at dksX3_lay_0 4 rfl rfl)
theorem dX3_lay_5 : decode cX3_lay 5 = .ok (.bipush 54, 2) := dk_16 54 (dk_at dksX3_lay_0 5 rfl rfl)
theorem dX3_lay_7 : decode cX3_lay 7 = .ok (.if_icmp .ne 8, 3) := dk_160 0 8 (dk_at dksX3_lay_0 7 rfl rfl)
theorem dX3_lay_10 : decode cX3_lay 10 = .ok (.bipush 6, 2) := dk_16 6 (dk_at dksX3_lay_0 10 rfl rfl)
theorem dX3_lay_12 : decode cX3_lay 12 = .ok (.goto 15, 3) := dk_167 0 15 (dk_at dksX3_lay_0 12 rfl rfl)
theorem dX3_lay_15 : decode cX3_lay 15 = .ok (.iload_n 3, 1) := dk_29 (dk_at dksX3_lay_0 15 rfl rfl)
theorem dX3_lay_16 : decode cX3_lay 16 = .ok (.bipush 48, 2) := dk_16 48 (dk_at dksX3_lay_0 16 rfl rfl)
theorem dX3_lay_18 : decode cX3_lay 18 = .ok (.if_icmp .ne 7, 3) := dk_160 0 7 (dk_at dksX3_lay_0 18 rfl rfl)
theorem dX3_lay_21 : decode cX3_lay 21 = .ok (.iconst 5, 1) := dk_8 (dk_at dksX3_lay_0 21 rfl rfl)
theorem dX3_lay_22 : decode cX3_lay 22 = .ok (.goto 5, 3) := dk_167 0 5 (dk_at dksX3_lay_1 0 rfl rfl)
theorem dX3_lay_25 : decode cX3_lay 25 = .ok (.bipush 7, 2) := dk_16 7 (dk_at dksX3_lay_1 3 rfl rfl)
theorem dX3_lay_27 : decode cX3_lay 27 = .ok (.istore 6, 2) := dk_54 6 (dk_at dksX3_lay_1 5 rfl rfl)
theorem dX3_lay_29 : decode cX3_lay 29 = .ok (.aload_n 0, 1) := dk_42 (dk_at dksX3_lay_1 7 rfl rfl)
theorem dX3_lay_30 : decode cX3_lay 30 = .ok (.aload_n 0, 1) := dk_42 (dk_at dksX3_lay_1 8 rfl rfl)
theorem dX3_lay_31 : decode cX3_lay 31 = .ok (.getfield 51, 3) := dk_180 0 51 (dk_at dksX3_lay_1 9 rfl rfl)
theorem dX3_lay_34 : decode cX3_lay 34 = .ok (.iload_n 1, 1) := dk_27 (dk_at dksX3_lay_1 12 rfl rfl)
theorem dX3_lay_35 : decode cX3_lay 35 = .ok (.invokestatic 97, 3) := dk_184 0 97 (dk_at dksX3_lay_1 13 rfl rfl)
theorem dX3_lay_38 : decode cX3_lay 38 = .ok (.ifCond .eq 14, 3) := dk_153 0 14 (dk_at dksX3_lay_1 16 rfl rfl)
theorem dX3_lay_41 : decode cX3_lay 41 = .ok (.aload_n 0, 1) := dk_42 (dk_at dksX3_lay_1 19 rfl rfl)
theorem dX3_lay_42 : decode cX3_lay 42 = .ok (.getfield 54, 3) := dk_180 0 54 (dk_at dksX3_lay_1 20 rfl rfl)
theorem dX3_lay_45 : decode cX3_lay 45 = .ok (.iload_n 2, 1) := dk_28 (dk_at dksX3_lay_1 23 rfl rfl)
theorem dX3_lay_46 : decode cX3_lay 46 = .ok (.invokestatic 97, 3) := dk_184 0 97 (dk_at dksX3_lay_2 0 rfl rfl)
theorem dX3_lay_49 : decode cX3_lay 49 = .ok (.ifCond .ne 7, 3) := dk_154 0 7 (dk_at dksX3_lay_2 3 rfl rfl)
theorem dX3_lay_52 : decode cX3_lay 52 = .ok (.iconst 1, 1) := dk_4 (dk_at dksX3_lay_2 6 rfl rfl)
theorem dX3_lay_53 : decode cX3_lay 53 = .ok (.goto 4, 3) := dk_167 0 4 (dk_at dksX3_lay_2 7 rfl rfl)
theorem dX3_lay_56 : decode cX3_lay 56 = .ok (.iconst 0, 1) := dk_3 (dk_at dksX3_lay_2 10 rfl rfl)
theorem dX3_lay_57 : decode cX3_lay 57 = .ok (.iconst 1, 1) := dk_4 (dk_at dksX3_lay_2 11 rfl rfl)
theorem dX3_lay_58 : decode cX3_lay 58 = .ok (.invokevirtual 74, 3) := dk_182 0 74 (dk_at dksX3_lay_2 12 rfl rfl)
theorem dX3_lay_61 : decode cX3_lay 61 = .ok (.ifCond .ne 51, 3) := dk_154 0 51 (dk_at dksX3_lay_2 15 rfl rfl)
theorem dX3_lay_64 : decode cX3_lay 64 = .ok (.aload_n 0, 1) := dk_42 (dk_at dksX3_lay_2 18 rfl rfl)
theorem dX3_lay_65 : decode cX3_lay 65 = .ok (.ldc 232, 2) := dk_18 232 (dk_at dksX3_lay_2 19 rfl rfl)
theorem dX3_lay_67 : decode cX3_lay 67 = .ok (.iload_n 3, 1) := dk_29 (dk_at dksX3_lay_2 21 rfl rfl)
theorem dX3_lay_68 : decode cX3_lay 68 = .ok (.invokevirtual 83, 3) := dk_182 0 83 (dk_at dksX3_lay_3 0 rfl rfl)
theorem dX3_lay_71 : decode cX3_lay 71 = .ok (.ifCond .lt 29, 3) := dk_155 0 29 (dk_at dksX3_lay_3 3 rfl rfl)
theorem dX3_lay_74 : decode cX3_lay 74 = .ok (.iload 4, 2) := dk_21 4 (dk_at dksX3_lay_3 6 rfl rfl)
theorem dX3_lay_76 : decode cX3_lay 76 = .ok (.i2l, 1) := dk_133 (dk_at dksX3_lay_3 8 rfl rfl)
theorem dX3_lay_77 : decode cX3_lay 77 = .ok (.lconst 1, 1) := dk_10 (dk_at dksX3_lay_3 9 rfl rfl)
theorem dX3_lay_78 : decode cX3_lay 78 = .ok (.ldc2_w 72, 3) := dk_20 0 72 (dk_at dksX3_lay_3 10 rfl rfl)
theorem dX3_lay_81 : decode cX3_lay 81 = .ok (.invokestatic 13, 3) := dk_184 0 13 (dk_at dksX3_lay_3 13 rfl rfl)
theorem dX3_lay_84 : decode cX3_lay 84 = .ok (.ifCond .eq 16, 3) := dk_153 0 16 (dk_at dksX3_lay_3 16 rfl rfl)
theorem dX3_lay_87 : decode cX3_lay 87 = .ok (.iload 5, 2) := dk_21 5 (dk_at dksX3_lay_3 19 rfl rfl)
theorem dX3_lay_89 : decode cX3_lay 89 = .ok (.i2l, 1) := dk_133 (dk_at dksX3_lay_3 21 rfl rfl)
theorem dX3_lay_90 : decode cX3_lay 90 = .ok (.lconst 0, 1) := dk_9 (dk_at dksX3_lay_3 22 rfl rfl)
theorem dX3_lay_91 : decode cX3_lay 91 = .ok (.ldc2_w 105, 3) := dk_20 0 105 (dk_at dksX3_lay_4 0 rfl rfl)
theorem dX3_lay_94 : decode cX3_lay 94 = .ok (.invokestatic 13, 3) := dk_184 0 13 (dk_at dksX3_lay_4 3 rfl rfl)
theorem dX3_lay_97 : decode cX3_lay 97 = .ok (.ifCond .ne 7, 3) := dk_154 0 7 (dk_at dksX3_lay_4 6 rfl rfl)
theorem dX3_lay_100 : decode cX3_lay 100 = .ok (.iconst 1, 1) := dk_4 (dk_at dksX3_lay_4 9 rfl rfl)
theorem dX3_lay_101 : decode cX3_lay 101 = .ok (.goto 4, 3) := dk_167 0 4 (dk_at dksX3_lay_4 10 rfl rfl)
theorem dX3_lay_104 : decode cX3_lay 104 = .ok (.iconst 0, 1) := dk_3 (dk_at dksX3_lay_4 13 rfl rfl)
theorem dX3_lay_105 : decode cX3_lay 105 = .ok (.iconst 2, 1) := dk_5 (dk_at dksX3_lay_4 14 rfl rfl)
theorem dX3_lay_106 : decode cX3_lay 106 = .ok (.invokevirtual 74, 3) := dk_182 0 74 (dk_at dksX3_lay_4 15 rfl rfl)
theorem dX3_lay_109 : decode cX3_lay 109 = .ok (.ifCond .eq 5, 3) := dk_153 0 5 (dk_at dksX3_lay_4 18 rfl rfl)
theorem dX3_lay_112 : decode cX3_lay 112 = .ok (.iconst (-1), 1) := dk_2 (dk_at dksX3_lay_4 21 rfl rfl)
theorem dX3_lay_113 : decode cX3_lay 113 = .ok (.ireturn, 1) := dk_172 (dk_at dksX3_lay_4 22 rfl rfl)
theorem dX3_lay_114 : decode cX3_lay 114 = .ok (.aload_n 0, 1) := dk_42 (dk_at dksX3_lay_4 23 rfl rfl)
theorem dX3_lay_115 : decode cX3_lay 115 = .ok (.getfield 51, 3) := dk_180 0 51 (dk_at dksX3_lay_5 0 rfl rfl)
theorem dX3_lay_118 : decode cX3_lay 118 = .ok (.iload_n 1, 1) := dk_27 (dk_at dksX3_lay_5 3 rfl rfl)
theorem dX3_lay_119 : decode cX3_lay 119 = .ok (.invokeinterface 114 2, 5) := by decide +kernel
theorem dX3_lay_124 : decode cX3_lay 124 = .ok (.checkcast 132, 3) := dk_192 0 132 (dk_at dksX3_lay_5 9 rfl rfl)
theorem dX3_lay_127 : decode cX3_lay 127 = .ok (.astore 7, 2) := dk_58 7 (dk_at dksX3_lay_5 12 rfl rfl)
theorem dX3_lay_129 : decode cX3_lay 129 = .ok (.aload_n 0, 1) := dk_42 (dk_at dksX3_lay_5 14 rfl rfl)
theorem dX3_lay_130 : decode cX3_lay 130 = .ok (.getfield 54, 3) := dk_180 0 54 (dk_at dksX3_lay_5 15 rfl rfl)
theorem dX3_lay_133 : decode cX3_lay 133 = .ok (.iload_n 2, 1) := dk_28 (dk_at dksX3_lay_5 18 rfl rfl)
theorem dX3_lay_134 : decode cX3_lay 134 = .ok (.invokeinterface 114 2, 5) := by decide +kernel
theorem dX3_lay_139 : decode cX3_lay 139 = .ok (.checkcast 203, 3) := dk_192 0 203 (dk_at dksX3_lay_6 0 rfl rfl)
theorem dX3_lay_142 : decode cX3_lay 142 = .ok (.astore 8, 2) := dk_58 8 (dk_at dksX3_lay_6 3 rfl rfl)
theorem dX3_lay_144 : decode cX3_lay 144 = .ok (.iconst 2, 1) := dk_5 (dk_at dksX3_lay_6 5 rfl rfl)
theorem dX3_lay_145 : decode cX3_lay 145 = .ok (.aload 8, 2) := dk_25 8 (dk_at dksX3_lay_6 6 rfl rfl)
theorem dX3_lay_147 : decode cX3_lay 147 = .ok (.getfield 227, 3) := dk_180 0 227 (dk_at dksX3_lay_6 8 rfl rfl)
theorem dX3_lay_150 : decode cX3_lay 150 = .ok (.imul, 1) := dk_104 (dk_at dksX3_lay_6 11 rfl rfl)
theorem dX3_lay_151 : decode cX3_lay 151 = .ok (.aload 7, 2) := dk_25 7 (dk_at dksX3_lay_6 12 rfl rfl)
theorem dX3_lay_153 : decode cX3_lay 153 = .ok (.getfield 141, 3) := dk_180 0 141 (dk_at dksX3_lay_6 14 rfl rfl)
theorem dX3_lay_156 : decode cX3_lay 156 = .ok (.isub, 1) := dk_100 (dk_at dksX3_lay_6 17 rfl rfl)
theorem dX3_lay_157 : decode cX3_lay 157 = .ok (.invokestatic 234, 3) := dk_184 0 234 (dk_at dksX3_lay_6 18 rfl rfl)
theorem dX3_lay_160 : decode cX3_lay 160 = .ok (.istore 9, 2) := dk_54 9 (dk_at dksX3_lay_6 21 rfl rfl)
theorem dX3_lay_162 : decode cX3_lay 162 = .ok (.iconst 2, 1) := dk_5 (dk_at dksX3_lay_6 23 rfl rfl)
theorem dX3_lay_163 : decode cX3_lay 163 = .ok (.iload 4, 2) := dk_21 4 (dk_at dksX3_lay_7 0 rfl rfl)
theorem dX3_lay_165 : decode cX3_lay 165 = .ok (.iload 6, 2) := dk_21 6 (dk_at dksX3_lay_7 2 rfl rfl)
theorem dX3_lay_167 : decode cX3_lay 167 = .ok (.iadd, 1) := dk_96 (dk_at dksX3_lay_7 4 rfl rfl)
theorem dX3_lay_168 : decode cX3_lay 168 = .ok (.iconst 1, 1) := dk_4 (dk_at dksX3_lay_7 5 rfl rfl)
theorem dX3_lay_169 : decode cX3_lay 169 = .ok (.isub, 1) := dk_100 (dk_at dksX3_lay_7 6 rfl rfl)
theorem dX3_lay_170 : decode cX3_lay 170 = .ok (.iload 6, 2) := dk_21 6 (dk_at dksX3_lay_7 7 rfl rfl)
theorem dX3_lay_172 : decode cX3_lay 172 = .ok (.idiv, 1) := dk_108 (dk_at dksX3_lay_7 9 rfl rfl)
theorem dX3_lay_173 : decode cX3_lay 173 = .ok (.imul, 1) := dk_104 (dk_at dksX3_lay_7 10 rfl rfl)
theorem dX3_lay_174 : decode cX3_lay 174 = .ok (.istore 10, 2) := dk_54 10 (dk_at dksX3_lay_7 11 rfl rfl)
theorem dX3_lay_176 : decode cX3_lay 176 = .ok (.aload_n 0, 1) := dk_42 (dk_at dksX3_lay_7 13 rfl rfl)
theorem dX3_lay_177 : decode cX3_lay 177 = .ok (.aload 7, 2) := dk_25 7 (dk_at dksX3_lay_7 14 rfl rfl)
theorem dX3_lay_179 : decode cX3_lay 179 = .ok (.invokevirtual 183, 3) := dk_182 0 183 (dk_at dksX3_lay_7 16 rfl rfl)
theorem dX3_lay_182 : decode cX3_lay 182 = .ok (.ifCond .eq 53, 3) := dk_153 0 53 (dk_at dksX3_lay_7 19 rfl rfl)
theorem dX3_lay_185 : decode cX3_lay 185 = .ok (.aload_n 0, 1) := dk_42 (dk_at dksX3_lay_7 22 rfl rfl)
theorem dX3_lay_186 : decode cX3_lay 186 = .ok (.getfield 78, 3) := dk_180 0 78 (dk_at dksX3_lay_8 0 rfl rfl)
theorem dX3_lay_189 : decode cX3_lay 189 = .ok (.aload 8, 2) := dk_25 8 (dk_at dksX3_lay_8 3 rfl rfl)
theorem dX3_lay_191 : decode cX3_lay 191 = .ok (.getfield 224, 3) := dk_180 0 224 (dk_at dksX3_lay_8 5 rfl rfl)
theorem dX3_lay_194 : decode cX3_lay 194 = .ok (.if_icmp .lt 41, 3) := dk_161 0 41 (dk_at dksX3_lay_8 8 rfl rfl)
theorem dX3_lay_197 : decode cX3_lay 197 = .ok (.aload 8, 2) := dk_25 8 (dk_at dksX3_lay_8 11 rfl rfl)
theorem dX3_lay_199 : decode cX3_lay 199 = .ok (.getfield 227, 3) := dk_180 0 227 (dk_at dksX3_lay_8 13 rfl rfl)
theorem dX3_lay_202 : decode cX3_lay 202 = .ok (.ifCond .le 33, 3) := dk_158 0 33 (dk_at dksX3_lay_8 16 rfl rfl)
theorem dX3_lay_205 : decode cX3_lay 205 = .ok (.iload 9, 2) := dk_21 9 (dk_at dksX3_lay_8 19 rfl rfl)
theorem dX3_lay_207 : decode cX3_lay 207 = .ok (.iconst 2, 1) := dk_5 (dk_at dksX3_lay_8 21 rfl rfl)
theorem dX3_lay_208 : decode cX3_lay 208 = .ok (.if_icmp .gt 27, 3) := dk_163 0 27 (dk_at dksX3_lay_9 0 rfl rfl)
theorem dX3_lay_211 : decode cX3_lay 211 = .ok (.aload 7, 2) := dk_25 7 (dk_at dksX3_lay_9 3 rfl rfl)
theorem dX3_lay_213 : decode cX3_lay 213 = .ok (.getfield 138, 3) := dk_180 0 138 (dk_at dksX3_lay_9 5 rfl rfl)
theorem dX3_lay_216 : decode cX3_lay 216 = .ok (.iload 4, 2) := dk_21 4 (dk_at dksX3_lay_9 8 rfl rfl)
theorem dX3_lay_218 : decode cX3_lay 218 = .ok (.if_icmp .lt 17, 3) := dk_161 0 17 (dk_at dksX3_lay_9 10 rfl rfl)
theorem dX3_lay_221 : decode cX3_lay 221 = .ok (.aload 8, 2) := dk_25 8 (dk_at dksX3_lay_9 13 rfl rfl)
theorem dX3_lay_223 : decode cX3_lay 223 = .ok (.getfield 216, 3) := dk_180 0 216 (dk_at dksX3_lay_9 15 rfl rfl)
theorem dX3_lay_226 : decode cX3_lay 226 = .ok (.iload 10, 2) := dk_21 10 (dk_at dksX3_lay_9 18 rfl rfl)
theorem dX3_lay_228 : decode cX3_lay 228 = .ok (.if_icmp .lt 7, 3) := dk_161 0 7 (dk_at dksX3_lay_9 20 rfl rfl)
theorem dX3_lay_231 : decode cX3_lay 231 = .ok (.iconst 1, 1) := dk_4 (dk_at dksX3_lay_9 23 rfl rfl)
theorem dX3_lay_232 : decode cX3_lay 232 = .ok (.goto 4, 3) := dk_167 0 4 (dk_at dksX3_lay_10 0 rfl rfl)
theorem dX3_lay_235 : decode cX3_lay 235 = .ok (.iconst 0, 1) := dk_3 (dk_at dksX3_lay_10 3 rfl rfl)
theorem dX3_lay_236 : decode cX3_lay 236 = .ok (.istore 11, 2) := dk_54 11 (dk_at dksX3_lay_10 4 rfl rfl)
theorem dX3_lay_238 : decode cX3_lay 238 = .ok (.aload_n 0, 1) := dk_42 (dk_at dksX3_lay_10 6 rfl rfl)
theorem dX3_lay_239 : decode cX3_lay 239 = .ok (.iload 11, 2) := dk_21 11 (dk_at dksX3_lay_10 7 rfl rfl)
theorem dX3_lay_241 : decode cX3_lay 241 = .ok (.ifCond .ne 7, 3) := dk_154 0 7 (dk_at dksX3_lay_10 9 rfl rfl)
theorem dX3_lay_244 : decode cX3_lay 244 = .ok (.iconst 1, 1) := dk_4 (dk_at dksX3_lay_10 12 rfl rfl)
theorem dX3_lay_245 : decode cX3_lay 245 = .ok (.goto 4, 3) := dk_167 0 4 (dk_at dksX3_lay_10 13 rfl rfl)
theorem dX3_lay_248 : decode cX3_lay 248 = .ok (.iconst 0, 1) := dk_3 (dk_at dksX3_lay_10 16 rfl rfl)
theorem dX3_lay_249 : decode cX3_lay 249 = .ok (.iconst 3, 1) := dk_6 (dk_at dksX3_lay_10 17 rfl rfl)
theorem dX3_lay_250 : decode cX3_lay 250 = .ok (.invokevirtual 74, 3) := dk_182 0 74 (dk_at dksX3_lay_10 18 rfl rfl)
theorem dX3_lay_253 : decode cX3_lay 253 = .ok (.ifCond .ne 30, 3) := dk_154 0 30 (dk_at dksX3_lay_10 21 rfl rfl)
theorem dX3_lay_256 : decode cX3_lay 256 = .ok (.aload_n 0, 1) := dk_42 (dk_at dksX3_lay_11 0 rfl rfl)
theorem dX3_lay_257 : decode cX3_lay 257 = .ok (.aload_n 0, 1) := dk_42 (dk_at dksX3_lay_11 1 rfl rfl)
theorem dX3_lay_258 : decode cX3_lay 258 = .ok (.getfield 57, 3) := dk_180 0 57 (dk_at dksX3_lay_11 2 rfl rfl)
theorem dX3_lay_261 : decode cX3_lay 261 = .ok (.invokeinterface 7 1, 5) := by decide +kernel
theorem dX3_lay_266 : decode cX3_lay 266 = .ok (.bipush 16, 2) := dk_16 16 (dk_at dksX3_lay_11 10 rfl rfl)
theorem dX3_lay_268 : decode cX3_lay 268 = .ok (.if_icmp .ne 7, 3) := dk_160 0 7 (dk_at dksX3_lay_11 12 rfl rfl)
theorem dX3_lay_271 : decode cX3_lay 271 = .ok (.iconst 1, 1) := dk_4 (dk_at dksX3_lay_11 15 rfl rfl)
theorem dX3_lay_272 : decode cX3_lay 272 = .ok (.goto 4, 3) := dk_167 0 4 (dk_at dksX3_lay_11 16 rfl rfl)
theorem dX3_lay_275 : decode cX3_lay 275 = .ok (.iconst 0, 1) := dk_3 (dk_at dksX3_lay_11 19 rfl rfl)
theorem dX3_lay_276 : decode cX3_lay 276 = .ok (.iconst 4, 1) := dk_7 (dk_at dksX3_lay_11 20 rfl rfl)
theorem dX3_lay_277 : decode cX3_lay 277 = .ok (.invokevirtual 74, 3) := dk_182 0 74 (dk_at dksX3_lay_11 21 rfl rfl)
theorem dX3_lay_280 : decode cX3_lay 280 = .ok (.ifCond .eq 5, 3) := dk_153 0 5 (dk_at dksX3_lay_12 0 rfl rfl)
theorem dX3_lay_283 : decode cX3_lay 283 = .ok (.iconst (-1), 1) := dk_2 (dk_at dksX3_lay_12 3 rfl rfl)
theorem dX3_lay_284 : decode cX3_lay 284 = .ok (.ireturn, 1) := dk_172 (dk_at dksX3_lay_12 4 rfl rfl)
theorem dX3_lay_285 : decode cX3_lay 285 = .ok (.aload 7, 2) := dk_25 7 (dk_at dksX3_lay_12 5 rfl rfl)
theorem dX3_lay_287 : decode cX3_lay 287 = .ok (.dup, 1) := dk_89 (dk_at dksX3_lay_12 7 rfl rfl)
theorem dX3_lay_288 : decode cX3_lay 288 = .ok (.getfield 138, 3) := dk_180 0 138 (dk_at dksX3_lay_12 8 rfl rfl)
theorem dX3_lay_291 : decode cX3_lay 291 = .ok (.iload 4, 2) := dk_21 4 (dk_at dksX3_lay_12 11 rfl rfl)
theorem dX3_lay_293 : decode cX3_lay 293 = .ok (.isub, 1) := dk_100 (dk_at dksX3_lay_12 13 rfl rfl)
theorem dX3_lay_294 : decode cX3_lay 294 = .ok (.putfield 138, 3) := dk_181 0 138 (dk_at dksX3_lay_12 14 rfl rfl)
theorem dX3_lay_297 : decode cX3_lay 297 = .ok (.aload 8, 2) := dk_25 8 (dk_at dksX3_lay_12 17 rfl rfl)
theorem dX3_lay_299 : decode cX3_lay 299 = .ok (.dup, 1) := dk_89 (dk_at dksX3_lay_12 19 rfl rfl)
theorem dX3_lay_300 : decode cX3_lay 300 = .ok (.getfield 216, 3) := dk_180 0 216 (dk_at dksX3_lay_12 20 rfl rfl)
theorem dX3_lay_303 : decode cX3_lay 303 = .ok (.iload 10, 2) := dk_21 10 (dk_at dksX3_lay_13 0 rfl rfl)
theorem dX3_lay_305 : decode cX3_lay 305 = .ok (.isub, 1) := dk_100 (dk_at dksX3_lay_13 2 rfl rfl)
theorem dX3_lay_306 : decode cX3_lay 306 = .ok (.putfield 216, 3) := dk_181 0 216 (dk_at dksX3_lay_13 3 rfl rfl)
theorem dX3_lay_309 : decode cX3_lay 309 = .ok (.new 237, 3) := dk_187 0 237 (dk_at dksX3_lay_13 6 rfl rfl)
theorem dX3_lay_312 : decode cX3_lay 312 = .ok (.dup, 1) := dk_89 (dk_at dksX3_lay_13 9 rfl rfl)
theorem dX3_lay_313 : decode cX3_lay 313 = .ok (.invokespecial 239, 3) := dk_183 0 239 (dk_at dksX3_lay_13 10 rfl rfl)
theorem dX3_lay_316 : decode cX3_lay 316 = .ok (.astore 12, 2) := dk_58 12 (dk_at dksX3_lay_13 13 rfl rfl)
theorem dX3_lay_318 : decode cX3_lay 318 = .ok (.aload 12, 2) := dk_25 12 (dk_at dksX3_lay_13 15 rfl rfl)
theorem dX3_lay_320 : decode cX3_lay 320 = .ok (.iload_n 1, 1) := dk_27 (dk_at dksX3_lay_13 17 rfl rfl)
theorem dX3_lay_321 : decode cX3_lay 321 = .ok (.putfield 240, 3) := dk_181 0 240 (dk_at dksX3_lay_13 18 rfl rfl)
theorem dX3_lay_324 : decode cX3_lay 324 = .ok (.aload 12, 2) := dk_25 12 (dk_at dksX3_lay_13 21 rfl rfl)
theorem dX3_lay_326 : decode cX3_lay 326 = .ok (.iload_n 2, 1) := dk_28 (dk_at dksX3_lay_13 23 rfl rfl)
theorem dX3_lay_327 : decode cX3_lay 327 = .ok (.putfield 243, 3) := dk_181 0 243 (dk_at dksX3_lay_14 0 rfl rfl)
theorem dX3_lay_330 : decode cX3_lay 330 = .ok (.aload 12, 2) := dk_25 12 (dk_at dksX3_lay_14 3 rfl rfl)
theorem dX3_lay_332 : decode cX3_lay 332 = .ok (.iload 5, 2) := dk_21 5 (dk_at dksX3_lay_14 5 rfl rfl)
theorem dX3_lay_334 : decode cX3_lay 334 = .ok (.putfield 245, 3) := dk_181 0 245 (dk_at dksX3_lay_14 7 rfl rfl)
theorem dX3_lay_337 : decode cX3_lay 337 = .ok (.aload 12, 2) := dk_25 12 (dk_at dksX3_lay_14 10 rfl rfl)
theorem dX3_lay_339 : decode cX3_lay 339 = .ok (.iload 4, 2) := dk_21 4 (dk_at dksX3_lay_14 12 rfl rfl)
theorem dX3_lay_341 : decode cX3_lay 341 = .ok (.putfield 248, 3) := dk_181 0 248 (dk_at dksX3_lay_14 14 rfl rfl)
theorem dX3_lay_344 : decode cX3_lay 344 = .ok (.aload 12, 2) := dk_25 12 (dk_at dksX3_lay_14 17 rfl rfl)
theorem dX3_lay_346 : decode cX3_lay 346 = .ok (.iload 9, 2) := dk_21 9 (dk_at dksX3_lay_14 19 rfl rfl)
theorem dX3_lay_348 : decode cX3_lay 348 = .ok (.aload 8, 2) := dk_25 8 (dk_at dksX3_lay_14 21 rfl rfl)
theorem dX3_lay_350 : decode cX3_lay 350 = .ok (.getfield 210, 3) := dk_180 0 210 (dk_at dksX3_lay_15 0 rfl rfl)
theorem dX3_lay_353 : decode cX3_lay 353 = .ok (.iconst 4, 1) := dk_7 (dk_at dksX3_lay_15 3 rfl rfl)
theorem dX3_lay_354 : decode cX3_lay 354 = .ok (.idiv, 1) := dk_108 (dk_at dksX3_lay_15 4 rfl rfl)
theorem dX3_lay_355 : decode cX3_lay 355 = .ok (.iadd, 1) := dk_96 (dk_at dksX3_lay_15 5 rfl rfl)
theorem dX3_lay_356 : decode cX3_lay 356 = .ok (.putfield 249, 3) := dk_181 0 249 (dk_at dksX3_lay_15 6 rfl rfl)
theorem dX3_lay_359 : decode cX3_lay 359 = .ok (.aload 12, 2) := dk_25 12 (dk_at dksX3_lay_15 9 rfl rfl)
theorem dX3_lay_361 : decode cX3_lay 361 = .ok (.aload_n 0, 1) := dk_42 (dk_at dksX3_lay_15 11 rfl rfl)
theorem dX3_lay_362 : decode cX3_lay 362 = .ok (.getfield 78, 3) := dk_180 0 78 (dk_at dksX3_lay_15 12 rfl rfl)
theorem dX3_lay_365 : decode cX3_lay 365 = .ok (.bipush 6, 2) := dk_16 6 (dk_at dksX3_lay_15 15 rfl rfl)
theorem dX3_lay_367 : decode cX3_lay 367 = .ok (.iadd, 1) := dk_96 (dk_at dksX3_lay_15 17 rfl rfl)
theorem dX3_lay_368 : decode cX3_lay 368 = .ok (.putfield 252, 3) := dk_181 0 252 (dk_at dksX3_lay_15 18 rfl rfl)
theorem dX3_lay_371 : decode cX3_lay 371 = .ok (.aload_n 0, 1) := dk_42 (dk_at dksX3_lay_15 21 rfl rfl)
theorem dX3_lay_372 : decode cX3_lay 372 = .ok (.getfield 57, 3) := dk_180 0 57 (dk_at dksX3_lay_16 0 rfl rfl)
theorem dX3_lay_375 : decode cX3_lay 375 = .ok (.aload 12, 2) := dk_25 12 (dk_at dksX3_lay_16 3 rfl rfl)
theorem dX3_lay_377 : decode cX3_lay 377 = .ok (.invokeinterface 107 2, 5) := by decide +kernel
theorem dX3_lay_382 : decode cX3_lay 382 = .ok (.pop, 1) := dk_87 (dk_at dksX3_lay_16 10 rfl rfl)
theorem dX3_lay_383 : decode cX3_lay 383 = .ok (.aload_n 0, 1) := dk_42 (dk_at dksX3_lay_16 11 rfl rfl)
theorem dX3_lay_384 : decode cX3_lay 384 = .ok (.getfield 57, 3) := dk_180 0 57 (dk_at dksX3_lay_16 12 rfl rfl)
theorem dX3_lay_387 : decode cX3_lay 387 = .ok (.invokeinterface 7 1, 5) := by decide +kernel
theorem dX3_lay_392 : decode cX3_lay 392 = .ok (.iconst 1, 1) := dk_4 (dk_at dksX3_lay_16 20 rfl rfl)
theorem dX3_lay_393 : decode cX3_lay 393 = .ok (.isub, 1) := dk_100 (dk_at dksX3_lay_16 21 rfl rfl)
theorem dX3_lay_394 : decode cX3_lay 394 = .ok (.ireturn, 1) := dk_172 (dk_at dksX3_lay_16 22 rfl rfl)
abbrev cX3_coat : ByteArray := prog_15_method_38_code
def yX3_coat : MethodName := ⟨RX3, "coat", "(II)I"⟩
def dkwX3_coat_5 : List UInt8 := [42, 180, 0, 78, 16, 8, 96, 181, 0, 252, 45, 180, 1, 0, 172]
abbrev dktX3_coat_5 : List UInt8 := dkwX3_coat_5 ++ []
def dkwX3_coat_4 : List UInt8 := [182, 0, 74, 153, 0, 5, 2, 172, 45, 89, 180, 1, 0, 4, 96, 181, 1, 0, 45, 28, 181, 1, 3, 45]
abbrev dktX3_coat_4 : List UInt8 := dkwX3_coat_4 ++ dktX3_coat_5
def dkwX3_coat_3 : List UInt8 := [180, 1, 0, 16, 8, 159, 0, 11, 42, 6, 182, 0, 93, 154, 0, 7, 4, 167, 0, 4, 3, 6]
abbrev dktX3_coat_3 : List UInt8 := dkwX3_coat_3 ++ dktX3_coat_4
def dkwX3_coat_2 : List UInt8 := [185, 0, 114, 2, 0, 192, 0, 237, 78, 42, 42, 180, 0, 78, 45, 180, 0, 252, 161, 0, 20, 45]
abbrev dktX3_coat_2 : List UInt8 := dkwX3_coat_2 ++ dktX3_coat_3
def dkwX3_coat_1 : List UInt8 := [154, 0, 7, 4, 167, 0, 4, 3, 5, 182, 0, 74, 153, 0, 5, 2, 172, 42, 180, 0, 57, 27]
abbrev dktX3_coat_1 : List UInt8 := dkwX3_coat_1 ++ dktX3_coat_2
def dkwX3_coat_0 : List UInt8 := [42, 182, 0, 69, 42, 27, 182, 0, 253, 154, 0, 28, 42, 28, 133, 9, 20, 0, 105, 184, 0, 13]
abbrev dktX3_coat_0 : List UInt8 := dkwX3_coat_0 ++ dktX3_coat_1
theorem dksX3_coat_0 : cX3_coat.data.toList.drop 0 = dktX3_coat_0 := by decide +kernel
theorem dksX3_coat_1 : cX3_coat.data.toList.drop 22 = dktX3_coat_1 := dk_seg dksX3_coat_0 22 rfl rfl
theorem dksX3_coat_2 : cX3_coat.data.toList.drop 44 = dktX3_coat_2 := dk_seg dksX3_coat_1 22 rfl rfl
theorem dksX3_coat_3 : cX3_coat.data.toList.drop 66 = dktX3_coat_3 := dk_seg dksX3_coat_2 22 rfl rfl
theorem dksX3_coat_4 : cX3_coat.data.toList.drop 88 = dktX3_coat_4 := dk_seg dksX3_coat_3 22 rfl rfl
theorem dksX3_coat_5 : cX3_coat.data.toList.drop 112 = dktX3_coat_5 := dk_seg dksX3_coat_4 24 rfl rfl
theorem dX3_coat_0 : decode cX3_coat 0 = .ok (.aload_n 0, 1) := dk_42 (dk_at dksX3_coat_0 0 rfl rfl)
theorem dX3_coat_1 : decode cX3_coat 1 = .ok (.invokevirtual 69, 3) := dk_182 0 69 (dk_at dksX3_coat_0 1 rfl rfl)
theorem dX3_coat_4 : decode cX3_coat 4 = .ok (.aload_n 0, 1) := dk_42 (dk_at dksX3_coat_0 4 rfl rfl)
theorem dX3_coat_5 : decode cX3_coat 5 = .ok (.iload_n 1, 1) := dk_27 (dk_at dksX3_coat_0 5 rfl rfl)
theorem dX3_coat_6 : decode cX3_coat 6 = .ok (.invokevirtual 253, 3) := dk_182 0 253 (dk_at dksX3_coat_0 6 rfl rfl)
theorem dX3_coat_9 : decode cX3_coat 9 = .ok (.ifCond .ne 28, 3) := dk_154 0 28 (dk_at dksX3_coat_0 9 rfl rfl)
theorem dX3_coat_12 : decode cX3_coat 12 = .ok (.aload_n 0, 1) := dk_42 (dk_at dksX3_coat_0 12 rfl rfl)
theorem dX3_coat_13 : decode cX3_coat 13 = .ok (.iload_n 2, 1) := dk_28 (dk_at dksX3_coat_0 13 rfl rfl)
theorem dX3_coat_14 : decode cX3_coat 14 = .ok (.i2l, 1) := dk_133 (dk_at dksX3_coat_0 14 rfl rfl)
theorem dX3_coat_15 : decode cX3_coat 15 = .ok (.lconst 0, 1) := dk_9 (dk_at dksX3_coat_0 15 rfl rfl)
theorem dX3_coat_16 : decode cX3_coat 16 = .ok (.ldc2_w 105, 3) := dk_20 0 105 (dk_at dksX3_coat_0 16 rfl rfl)
theorem dX3_coat_19 : decode cX3_coat 19 = .ok (.invokestatic 13, 3) := dk_184 0 13 (dk_at dksX3_coat_0 19 rfl rfl)
theorem dX3_coat_22 : decode cX3_coat 22 = .ok (.ifCond .ne 7, 3) := dk_154 0 7 (dk_at dksX3_coat_1 0 rfl rfl)
theorem dX3_coat_25 : decode cX3_coat 25 = .ok (.iconst 1, 1) := dk_4 (dk_at dksX3_coat_1 3 rfl rfl)
theorem dX3_coat_26 : decode cX3_coat 26 = .ok (.goto 4, 3) := dk_167 0 4 (dk_at dksX3_coat_1 4 rfl rfl)
theorem dX3_coat_29 : decode cX3_coat 29 = .ok (.iconst 0, 1) := dk_3 (dk_at dksX3_coat_1 7 rfl rfl)
theorem dX3_coat_30 : decode cX3_coat 30 = .ok (.iconst 2, 1) := dk_5 (dk_at dksX3_coat_1 8 rfl rfl)
theorem dX3_coat_31 : decode cX3_coat 31 = .ok (.invokevirtual 74, 3) := dk_182 0 74 (dk_at dksX3_coat_1 9 rfl rfl)
theorem dX3_coat_34 : decode cX3_coat 34 = .ok (.ifCond .eq 5, 3) := dk_153 0 5 (dk_at dksX3_coat_1 12 rfl rfl)
theorem dX3_coat_37 : decode cX3_coat 37 = .ok (.iconst (-1), 1) := dk_2 (dk_at dksX3_coat_1 15 rfl rfl)
theorem dX3_coat_38 : decode cX3_coat 38 = .ok (.ireturn, 1) := dk_172 (dk_at dksX3_coat_1 16 rfl rfl)
theorem dX3_coat_39 : decode cX3_coat 39 = .ok (.aload_n 0, 1) := dk_42 (dk_at dksX3_coat_1 17 rfl rfl)
theorem dX3_coat_40 : decode cX3_coat 40 = .ok (.getfield 57, 3) := dk_180 0 57 (dk_at dksX3_coat_1 18 rfl rfl)
theorem dX3_coat_43 : decode cX3_coat 43 = .ok (.iload_n 1, 1) := dk_27 (dk_at dksX3_coat_1 21 rfl rfl)
theorem dX3_coat_44 : decode cX3_coat 44 = .ok (.invokeinterface 114 2, 5) := by decide +kernel
theorem dX3_coat_49 : decode cX3_coat 49 = .ok (.checkcast 237, 3) := dk_192 0 237 (dk_at dksX3_coat_2 5 rfl rfl)
theorem dX3_coat_52 : decode cX3_coat 52 = .ok (.astore_n 3, 1) := dk_78 (dk_at dksX3_coat_2 8 rfl rfl)
theorem dX3_coat_53 : decode cX3_coat 53 = .ok (.aload_n 0, 1) := dk_42 (dk_at dksX3_coat_2 9 rfl rfl)
theorem dX3_coat_54 : decode cX3_coat 54 = .ok (.aload_n 0, 1) := dk_42 (dk_at dksX3_coat_2 10 rfl rfl)
theorem dX3_coat_55 : decode cX3_coat 55 = .ok (.getfield 78, 3) := dk_180 0 78 (dk_at dksX3_coat_2 11 rfl rfl)
theorem dX3_coat_58 : decode cX3_coat 58 = .ok (.aload_n 3, 1) := dk_45 (dk_at dksX3_coat_2 14 rfl rfl)
theorem dX3_coat_59 : decode cX3_coat 59 = .ok (.getfield 252, 3) := dk_180 0 252 (dk_at dksX3_coat_2 15 rfl rfl)
theorem dX3_coat_62 : decode cX3_coat 62 = .ok (.if_icmp .lt 20, 3) := dk_161 0 20 (dk_at dksX3_coat_2 18 rfl rfl)
theorem dX3_coat_65 : decode cX3_coat 65 = .ok (.aload_n 3, 1) := dk_45 (dk_at dksX3_coat_2 21 rfl rfl)
theorem dX3_coat_66 : decode cX3_coat 66 = .ok (.getfield 256, 3) := dk_180 1 0 (dk_at dksX3_coat_3 0 rfl rfl)
theorem dX3_coat_69 : decode cX3_coat 69 = .ok (.bipush 8, 2) := dk_16 8 (dk_at dksX3_coat_3 3 rfl rfl)
theorem dX3_coat_71 : decode cX3_coat 71 = .ok (.if_icmp .eq 11, 3) := dk_159 0 11 (dk_at dksX3_coat_3 5 rfl rfl)
theorem dX3_coat_74 : decode cX3_coat 74 = .ok (.aload_n 0, 1) := dk_42 (dk_at dksX3_coat_3 8 rfl rfl)
theorem dX3_coat_75 : decode cX3_coat 75 = .ok (.iconst 3, 1) := dk_6 (dk_at dksX3_coat_3 9 rfl rfl)
theorem dX3_coat_76 : decode cX3_coat 76 = .ok (.invokevirtual 93, 3) := dk_182 0 93 (dk_at dksX3_coat_3 10 rfl rfl)
theorem dX3_coat_79 : decode cX3_coat 79 = .ok (.ifCond .ne 7, 3) := dk_154 0 7 (dk_at dksX3_coat_3 13 rfl rfl)
theorem dX3_coat_82 : decode cX3_coat 82 = .ok (.iconst 1, 1) := dk_4 (dk_at dksX3_coat_3 16 rfl rfl)
theorem dX3_coat_83 : decode cX3_coat 83 = .ok (.goto 4, 3) := dk_167 0 4 (dk_at dksX3_coat_3 17 rfl rfl)
theorem dX3_coat_86 : decode cX3_coat 86 = .ok (.iconst 0, 1) := dk_3 (dk_at dksX3_coat_3 20 rfl rfl)
theorem dX3_coat_87 : decode cX3_coat 87 = .ok (.iconst 3, 1) := dk_6 (dk_at dksX3_coat_3 21 rfl rfl)
theorem dX3_coat_88 : decode cX3_coat 88 = .ok (.invokevirtual 74, 3) := dk_182 0 74 (dk_at dksX3_coat_4 0 rfl rfl)
theorem dX3_coat_91 : decode cX3_coat 91 = .ok (.ifCond .eq 5, 3) := dk_153 0 5 (dk_at dksX3_coat_4 3 rfl rfl)
theorem dX3_coat_94 : decode cX3_coat 94 = .ok (.iconst (-1), 1) := dk_2 (dk_at dksX3_coat_4 6 rfl rfl)
theorem dX3_coat_95 : decode cX3_coat 95 = .ok (.ireturn, 1) := dk_172 (dk_at dksX3_coat_4 7 rfl rfl)
theorem dX3_coat_96 : decode cX3_coat 96 = .ok (.aload_n 3, 1) := dk_45 (dk_at dksX3_coat_4 8 rfl rfl)
theorem dX3_coat_97 : decode cX3_coat 97 = .ok (.dup, 1) := dk_89 (dk_at dksX3_coat_4 9 rfl rfl)
theorem dX3_coat_98 : decode cX3_coat 98 = .ok (.getfield 256, 3) := dk_180 1 0 (dk_at dksX3_coat_4 10 rfl rfl)
theorem dX3_coat_101 : decode cX3_coat 101 = .ok (.iconst 1, 1) := dk_4 (dk_at dksX3_coat_4 13 rfl rfl)
theorem dX3_coat_102 : decode cX3_coat 102 = .ok (.iadd, 1) := dk_96 (dk_at dksX3_coat_4 14 rfl rfl)
theorem dX3_coat_103 : decode cX3_coat 103 = .ok (.putfield 256, 3) := dk_181 1 0 (dk_at dksX3_coat_4 15 rfl rfl)
theorem dX3_coat_106 : decode cX3_coat 106 = .ok (.aload_n 3, 1) := dk_45 (dk_at dksX3_coat_4 18 rfl rfl)
theorem dX3_coat_107 : decode cX3_coat 107 = .ok (.iload_n 2, 1) := dk_28 (dk_at dksX3_coat_4 19 rfl rfl)
theorem dX3_coat_108 : decode cX3_coat 108 = .ok (.putfield 259, 3) := dk_181 1 3 (dk_at dksX3_coat_4 20 rfl rfl)
theorem dX3_coat_111 : decode cX3_coat 111 = .ok (.aload_n 3, 1) := dk_45 (dk_at dksX3_coat_4 23 rfl rfl)
theorem dX3_coat_112 : decode cX3_coat 112 = .ok (.aload_n 0, 1) := dk_42 (dk_at dksX3_coat_5 0 rfl rfl)
theorem dX3_coat_113 : decode cX3_coat 113 = .ok (.getfield 78, 3) := dk_180 0 78 (dk_at dksX3_coat_5 1 rfl rfl)
theorem dX3_coat_116 : decode cX3_coat 116 = .ok (.bipush 8, 2) := dk_16 8 (dk_at dksX3_coat_5 4 rfl rfl)
theorem dX3_coat_118 : decode cX3_coat 118 = .ok (.iadd, 1) := dk_96 (dk_at dksX3_coat_5 6 rfl rfl)
theorem dX3_coat_119 : decode cX3_coat 119 = .ok (.putfield 252, 3) := dk_181 0 252 (dk_at dksX3_coat_5 7 rfl rfl)
theorem dX3_coat_122 : decode cX3_coat 122 = .ok (.aload_n 3, 1) := dk_45 (dk_at dksX3_coat_5 10 rfl rfl)
theorem dX3_coat_123 : decode cX3_coat 123 = .ok (.getfield 256, 3) := dk_180 1 0 (dk_at dksX3_coat_5 11 rfl rfl)
theorem dX3_coat_126 : decode cX3_coat 126 = .ok (.ireturn, 1) := dk_172 (dk_at dksX3_coat_5 14 rfl rfl)
abbrev cX3_noRun : ByteArray := prog_15_method_37_code
def yX3_noRun : MethodName := ⟨RX3, "noRun", "(I)Z"⟩
def dkwX3_noRun_0 : List UInt8 := [42, 42, 180, 0, 57, 27, 184, 0, 97, 154, 0, 7, 4, 167, 0, 4, 3, 4, 182, 0, 74, 172]
abbrev dktX3_noRun_0 : List UInt8 := dkwX3_noRun_0 ++ []
theorem dksX3_noRun_0 : cX3_noRun.data.toList.drop 0 = dktX3_noRun_0 := by decide +kernel
theorem dX3_noRun_0 : decode cX3_noRun 0 = .ok (.aload_n 0, 1) := dk_42 (dk_at dksX3_noRun_0 0 rfl rfl)
theorem dX3_noRun_1 : decode cX3_noRun 1 = .ok (.aload_n 0, 1) := dk_42 (dk_at dksX3_noRun_0 1 rfl rfl)
theorem dX3_noRun_2 : decode cX3_noRun 2 = .ok (.getfield 57, 3) := dk_180 0 57 (dk_at dksX3_noRun_0 2 rfl rfl)
theorem dX3_noRun_5 : decode cX3_noRun 5 = .ok (.iload_n 1, 1) := dk_27 (dk_at dksX3_noRun_0 5 rfl rfl)
theorem dX3_noRun_6 : decode cX3_noRun 6 = .ok (.invokestatic 97, 3) := dk_184 0 97 (dk_at dksX3_noRun_0 6 rfl rfl)
theorem dX3_noRun_9 : decode cX3_noRun 9 = .ok (.ifCond .ne 7, 3) := dk_154 0 7 (dk_at dksX3_noRun_0 9 rfl rfl)
theorem dX3_noRun_12 : decode cX3_noRun 12 = .ok (.iconst 1, 1) := dk_4 (dk_at dksX3_noRun_0 12 rfl rfl)
theorem dX3_noRun_13 : decode cX3_noRun 13 = .ok (.goto 4, 3) := dk_167 0 4 (dk_at dksX3_noRun_0 13 rfl rfl)
theorem dX3_noRun_16 : decode cX3_noRun 16 = .ok (.iconst 0, 1) := dk_3 (dk_at dksX3_noRun_0 16 rfl rfl)
theorem dX3_noRun_17 : decode cX3_noRun 17 = .ok (.iconst 1, 1) := dk_4 (dk_at dksX3_noRun_0 17 rfl rfl)
theorem dX3_noRun_18 : decode cX3_noRun 18 = .ok (.invokevirtual 74, 3) := dk_182 0 74 (dk_at dksX3_noRun_0 18 rfl rfl)
theorem dX3_noRun_21 : decode cX3_noRun 21 = .ok (.ireturn, 1) := dk_172 (dk_at dksX3_noRun_0 21 rfl rfl)
abbrev cX3_stamp : ByteArray := prog_15_method_39_code
def yX3_stamp : MethodName := ⟨RX3, "stamp", "(I)I"⟩
def dkwX3_stamp_5 : List UInt8 := [182, 0, 198, 16, 50, 108, 181, 1, 6, 44, 180, 1, 6, 172]
abbrev dktX3_stamp_5 : List UInt8 := dkwX3_stamp_5 ++ []
def dkwX3_stamp_4 : List UInt8 := [153, 0, 5, 2, 172, 44, 42, 42, 180, 0, 51, 44, 180, 0, 240, 185, 0, 114, 2, 0, 192, 0, 132]
abbrev dktX3_stamp_4 : List UInt8 := dkwX3_stamp_4 ++ dktX3_stamp_5
def dkwX3_stamp_3 : List UInt8 := [185, 0, 114, 2, 0, 192, 0, 132, 180, 0, 152, 162, 0, 7, 4, 167, 0, 4, 3, 5, 182, 0, 74]
abbrev dktX3_stamp_3 : List UInt8 := dkwX3_stamp_3 ++ dktX3_stamp_4
def dkwX3_stamp_2 : List UInt8 := [44, 180, 1, 6, 2, 160, 0, 29, 42, 180, 0, 78, 42, 180, 0, 51, 44, 180, 0, 240]
abbrev dktX3_stamp_2 : List UInt8 := dkwX3_stamp_2 ++ dktX3_stamp_3
def dkwX3_stamp_1 : List UInt8 := [192, 0, 237, 77, 42, 42, 180, 0, 78, 44, 180, 0, 252, 161, 0, 45, 44, 180, 1, 0, 6, 161, 0, 37]
abbrev dktX3_stamp_1 : List UInt8 := dkwX3_stamp_1 ++ dktX3_stamp_2
def dkwX3_stamp_0 : List UInt8 := [42, 182, 0, 69, 42, 27, 182, 0, 253, 153, 0, 5, 2, 172, 42, 180, 0, 57, 27, 185, 0, 114, 2, 0]
abbrev dktX3_stamp_0 : List UInt8 := dkwX3_stamp_0 ++ dktX3_stamp_1
theorem dksX3_stamp_0 : cX3_stamp.data.toList.drop 0 = dktX3_stamp_0 := by decide +kernel
theorem dksX3_stamp_1 : cX3_stamp.data.toList.drop 24 = dktX3_stamp_1 := dk_seg dksX3_stamp_0 24 rfl rfl
theorem dksX3_stamp_2 : cX3_stamp.data.toList.drop 48 = dktX3_stamp_2 := dk_seg dksX3_stamp_1 24 rfl rfl
theorem dksX3_stamp_3 : cX3_stamp.data.toList.drop 68 = dktX3_stamp_3 := dk_seg dksX3_stamp_2 20 rfl rfl
theorem dksX3_stamp_4 : cX3_stamp.data.toList.drop 91 = dktX3_stamp_4 := dk_seg dksX3_stamp_3 23 rfl rfl
theorem dksX3_stamp_5 : cX3_stamp.data.toList.drop 114 = dktX3_stamp_5 := dk_seg dksX3_stamp_4 23 rfl rfl
theorem dX3_stamp_0 : decode cX3_stamp 0 = .ok (.aload_n 0, 1) := dk_42 (dk_at dksX3_stamp_0 0 rfl rfl)
theorem dX3_stamp_1 : decode cX3_stamp 1 = .ok (.invokevirtual 69, 3) := dk_182 0 69 (dk_at dksX3_stamp_0 1 rfl rfl)
theorem dX3_stamp_4 : decode cX3_stamp 4 = .ok (.aload_n 0, 1) := dk_42 (dk_at dksX3_stamp_0 4 rfl rfl)
theorem dX3_stamp_5 : decode cX3_stamp 5 = .ok (.iload_n 1, 1) := dk_27 (dk_at dksX3_stamp_0 5 rfl rfl)
theorem dX3_stamp_6 : decode cX3_stamp 6 = .ok (.invokevirtual 253, 3) := dk_182 0 253 (dk_at dksX3_stamp_0 6 rfl rfl)
theorem dX3_stamp_9 : decode cX3_stamp 9 = .ok (.ifCond .eq 5, 3) := dk_153 0 5 (dk_at dksX3_stamp_0 9 rfl rfl)
theorem dX3_stamp_12 : decode cX3_stamp 12 = .ok (.iconst (-1), 1) := dk_2 (dk_at dksX3_stamp_0 12 rfl rfl)
theorem dX3_stamp_13 : decode cX3_stamp 13 = .ok (.ireturn, 1) := dk_172 (dk_at dksX3_stamp_0 13 rfl rfl)
theorem dX3_stamp_14 : decode cX3_stamp 14 = .ok (.aload_n 0, 1) := dk_42 (dk_at dksX3_stamp_0 14 rfl rfl)
theorem dX3_stamp_15 : decode cX3_stamp 15 = .ok (.getfield 57, 3) := dk_180 0 57 (dk_at dksX3_stamp_0 15 rfl rfl)
theorem dX3_stamp_18 : decode cX3_stamp 18 = .ok (.iload_n 1, 1) := dk_27 (dk_at dksX3_stamp_0 18 rfl rfl)
theorem dX3_stamp_19 : decode cX3_stamp 19 = .ok (.invokeinterface 114 2, 5) := by decide +kernel
theorem dX3_stamp_24 : decode cX3_stamp 24 = .ok (.checkcast 237, 3) := dk_192 0 237 (dk_at dksX3_stamp_1 0 rfl rfl)
theorem dX3_stamp_27 : decode cX3_stamp 27 = .ok (.astore_n 2, 1) := dk_77 (dk_at dksX3_stamp_1 3 rfl rfl)
theorem dX3_stamp_28 : decode cX3_stamp 28 = .ok (.aload_n 0, 1) := dk_42 (dk_at dksX3_stamp_1 4 rfl rfl)
theorem dX3_stamp_29 : decode cX3_stamp 29 = .ok (.aload_n 0, 1) := dk_42 (dk_at dksX3_stamp_1 5 rfl rfl)
theorem dX3_stamp_30 : decode cX3_stamp 30 = .ok (.getfield 78, 3) := dk_180 0 78 (dk_at dksX3_stamp_1 6 rfl rfl)
theorem dX3_stamp_33 : decode cX3_stamp 33 = .ok (.aload_n 2, 1) := dk_44 (dk_at dksX3_stamp_1 9 rfl rfl)
theorem dX3_stamp_34 : decode cX3_stamp 34 = .ok (.getfield 252, 3) := dk_180 0 252 (dk_at dksX3_stamp_1 10 rfl rfl)
theorem dX3_stamp_37 : decode cX3_stamp 37 = .ok (.if_icmp .lt 45, 3) := dk_161 0 45 (dk_at dksX3_stamp_1 13 rfl rfl)
theorem dX3_stamp_40 : decode cX3_stamp 40 = .ok (.aload_n 2, 1) := dk_44 (dk_at dksX3_stamp_1 16 rfl rfl)
theorem dX3_stamp_41 : decode cX3_stamp 41 = .ok (.getfield 256, 3) := dk_180 1 0 (dk_at dksX3_stamp_1 17 rfl rfl)
theorem dX3_stamp_44 : decode cX3_stamp 44 = .ok (.iconst 3, 1) := dk_6 (dk_at dksX3_stamp_1 20 rfl rfl)
theorem dX3_stamp_45 : decode cX3_stamp 45 = .ok (.if_icmp .lt 37, 3) := dk_161 0 37 (dk_at dksX3_stamp_1 21 rfl rfl)
theorem dX3_stamp_48 : decode cX3_stamp 48 = .ok (.aload_n 2, 1) := dk_44 (dk_at dksX3_stamp_2 0 rfl rfl)
theorem dX3_stamp_49 : decode cX3_stamp 49 = .ok (.getfield 262, 3) := dk_180 1 6 (dk_at dksX3_stamp_2 1 rfl rfl)
theorem dX3_stamp_52 : decode cX3_stamp 52 = .ok (.iconst (-1), 1) := dk_2 (dk_at dksX3_stamp_2 4 rfl rfl)
theorem dX3_stamp_53 : decode cX3_stamp 53 = .ok (.if_icmp .ne 29, 3) := dk_160 0 29 (dk_at dksX3_stamp_2 5 rfl rfl)
theorem dX3_stamp_56 : decode cX3_stamp 56 = .ok (.aload_n 0, 1) := dk_42 (dk_at dksX3_stamp_2 8 rfl rfl)
theorem dX3_stamp_57 : decode cX3_stamp 57 = .ok (.getfield 78, 3) := dk_180 0 78 (dk_at dksX3_stamp_2 9 rfl rfl)
theorem dX3_stamp_60 : decode cX3_stamp 60 = .ok (.aload_n 0, 1) := dk_42 (dk_at dksX3_stamp_2 12 rfl rfl)
theorem dX3_stamp_61 : decode cX3_stamp 61 = .ok (.getfield 51, 3) := dk_180 0 51 (dk_at dksX3_stamp_2 13 rfl rfl)
theorem dX3_stamp_64 : decode cX3_stamp 64 = .ok (.aload_n 2, 1) := dk_44 (dk_at dksX3_stamp_2 16 rfl rfl)
theorem dX3_stamp_65 : decode cX3_stamp 65 = .ok (.getfield 240, 3) := dk_180 0 240 (dk_at dksX3_stamp_2 17 rfl rfl)
theorem dX3_stamp_68 : decode cX3_stamp 68 = .ok (.invokeinterface 114 2, 5) := by decide +kernel
theorem dX3_stamp_73 : decode cX3_stamp 73 = .ok (.checkcast 132, 3) := dk_192 0 132 (dk_at dksX3_stamp_3 5 rfl rfl)
theorem dX3_stamp_76 : decode cX3_stamp 76 = .ok (.getfield 152, 3) := dk_180 0 152 (dk_at dksX3_stamp_3 8 rfl rfl)
theorem dX3_stamp_79 : decode cX3_stamp 79 = .ok (.if_icmp .ge 7, 3) := dk_162 0 7 (dk_at dksX3_stamp_3 11 rfl rfl)
theorem dX3_stamp_82 : decode cX3_stamp 82 = .ok (.iconst 1, 1) := dk_4 (dk_at dksX3_stamp_3 14 rfl rfl)
theorem dX3_stamp_83 : decode cX3_stamp 83 = .ok (.goto 4, 3) := dk_167 0 4 (dk_at dksX3_stamp_3 15 rfl rfl)
theorem dX3_stamp_86 : decode cX3_stamp 86 = .ok (.iconst 0, 1) := dk_3 (dk_at dksX3_stamp_3 18 rfl rfl)
theorem dX3_stamp_87 : decode cX3_stamp 87 = .ok (.iconst 2, 1) := dk_5 (dk_at dksX3_stamp_3 19 rfl rfl)
theorem dX3_stamp_88 : decode cX3_stamp 88 = .ok (.invokevirtual 74, 3) := dk_182 0 74 (dk_at dksX3_stamp_3 20 rfl rfl)
theorem dX3_stamp_91 : decode cX3_stamp 91 = .ok (.ifCond .eq 5, 3) := dk_153 0 5 (dk_at dksX3_stamp_4 0 rfl rfl)
theorem dX3_stamp_94 : decode cX3_stamp 94 = .ok (.iconst (-1), 1) := dk_2 (dk_at dksX3_stamp_4 3 rfl rfl)
theorem dX3_stamp_95 : decode cX3_stamp 95 = .ok (.ireturn, 1) := dk_172 (dk_at dksX3_stamp_4 4 rfl rfl)
theorem dX3_stamp_96 : decode cX3_stamp 96 = .ok (.aload_n 2, 1) := dk_44 (dk_at dksX3_stamp_4 5 rfl rfl)
theorem dX3_stamp_97 : decode cX3_stamp 97 = .ok (.aload_n 0, 1) := dk_42 (dk_at dksX3_stamp_4 6 rfl rfl)
theorem dX3_stamp_98 : decode cX3_stamp 98 = .ok (.aload_n 0, 1) := dk_42 (dk_at dksX3_stamp_4 7 rfl rfl)
theorem dX3_stamp_99 : decode cX3_stamp 99 = .ok (.getfield 51, 3) := dk_180 0 51 (dk_at dksX3_stamp_4 8 rfl rfl)
theorem dX3_stamp_102 : decode cX3_stamp 102 = .ok (.aload_n 2, 1) := dk_44 (dk_at dksX3_stamp_4 11 rfl rfl)
theorem dX3_stamp_103 : decode cX3_stamp 103 = .ok (.getfield 240, 3) := dk_180 0 240 (dk_at dksX3_stamp_4 12 rfl rfl)
theorem dX3_stamp_106 : decode cX3_stamp 106 = .ok (.invokeinterface 114 2, 5) := by decide +kernel
theorem dX3_stamp_111 : decode cX3_stamp 111 = .ok (.checkcast 132, 3) := dk_192 0 132 (dk_at dksX3_stamp_4 20 rfl rfl)
theorem dX3_stamp_114 : decode cX3_stamp 114 = .ok (.invokevirtual 198, 3) := dk_182 0 198 (dk_at dksX3_stamp_5 0 rfl rfl)
theorem dX3_stamp_117 : decode cX3_stamp 117 = .ok (.bipush 50, 2) := dk_16 50 (dk_at dksX3_stamp_5 3 rfl rfl)
theorem dX3_stamp_119 : decode cX3_stamp 119 = .ok (.idiv, 1) := dk_108 (dk_at dksX3_stamp_5 5 rfl rfl)
theorem dX3_stamp_120 : decode cX3_stamp 120 = .ok (.putfield 262, 3) := dk_181 1 6 (dk_at dksX3_stamp_5 6 rfl rfl)
theorem dX3_stamp_123 : decode cX3_stamp 123 = .ok (.aload_n 2, 1) := dk_44 (dk_at dksX3_stamp_5 9 rfl rfl)
theorem dX3_stamp_124 : decode cX3_stamp 124 = .ok (.getfield 262, 3) := dk_180 1 6 (dk_at dksX3_stamp_5 10 rfl rfl)
theorem dX3_stamp_127 : decode cX3_stamp 127 = .ok (.ireturn, 1) := dk_172 (dk_at dksX3_stamp_5 13 rfl rfl)
abbrev cX3_erase : ByteArray := prog_15_method_40_code
def yX3_erase : MethodName := ⟨RX3, "erase", "(II)I"⟩
def dkwX3_erase_5 : List UInt8 := [180, 0, 57, 27, 185, 0, 114, 2, 0, 192, 0, 237, 180, 0, 248, 172]
abbrev dktX3_erase_5 : List UInt8 := dkwX3_erase_5 ++ []
def dkwX3_erase_4 : List UInt8 := [153, 0, 5, 2, 172, 42, 180, 0, 57, 27, 185, 0, 114, 2, 0, 192, 0, 237, 4, 181, 1, 9, 42]
abbrev dktX3_erase_4 : List UInt8 := dkwX3_erase_4 ++ dktX3_erase_5
def dkwX3_erase_3 : List UInt8 := [185, 0, 114, 2, 0, 192, 0, 237, 180, 1, 9, 153, 0, 7, 4, 167, 0, 4, 3, 6, 182, 0, 74]
abbrev dktX3_erase_3 : List UInt8 := dkwX3_erase_3 ++ dktX3_erase_4
def dkwX3_erase_2 : List UInt8 := [185, 0, 114, 2, 0, 192, 0, 237, 180, 1, 6, 2, 159, 0, 22, 42, 180, 0, 57, 27]
abbrev dktX3_erase_2 : List UInt8 := dkwX3_erase_2 ++ dktX3_erase_3
def dkwX3_erase_1 : List UInt8 := [154, 0, 7, 4, 167, 0, 4, 3, 5, 182, 0, 74, 154, 0, 55, 42, 42, 180, 0, 57, 27]
abbrev dktX3_erase_1 : List UInt8 := dkwX3_erase_1 ++ dktX3_erase_2
def dkwX3_erase_0 : List UInt8 := [42, 182, 0, 69, 42, 27, 182, 0, 253, 154, 0, 80, 42, 28, 133, 9, 20, 0, 105, 184, 0, 13]
abbrev dktX3_erase_0 : List UInt8 := dkwX3_erase_0 ++ dktX3_erase_1
theorem dksX3_erase_0 : cX3_erase.data.toList.drop 0 = dktX3_erase_0 := by decide +kernel
theorem dksX3_erase_1 : cX3_erase.data.toList.drop 22 = dktX3_erase_1 := dk_seg dksX3_erase_0 22 rfl rfl
theorem dksX3_erase_2 : cX3_erase.data.toList.drop 43 = dktX3_erase_2 := dk_seg dksX3_erase_1 21 rfl rfl
theorem dksX3_erase_3 : cX3_erase.data.toList.drop 63 = dktX3_erase_3 := dk_seg dksX3_erase_2 20 rfl rfl
theorem dksX3_erase_4 : cX3_erase.data.toList.drop 86 = dktX3_erase_4 := dk_seg dksX3_erase_3 23 rfl rfl
theorem dksX3_erase_5 : cX3_erase.data.toList.drop 109 = dktX3_erase_5 := dk_seg dksX3_erase_4 23 rfl rfl
theorem dX3_erase_0 : decode cX3_erase 0 = .ok (.aload_n 0, 1) := dk_42 (dk_at dksX3_erase_0 0 rfl rfl)
theorem dX3_erase_1 : decode cX3_erase 1 = .ok (.invokevirtual 69, 3) := dk_182 0 69 (dk_at dksX3_erase_0 1 rfl rfl)
theorem dX3_erase_4 : decode cX3_erase 4 = .ok (.aload_n 0, 1) := dk_42 (dk_at dksX3_erase_0 4 rfl rfl)
theorem dX3_erase_5 : decode cX3_erase 5 = .ok (.iload_n 1, 1) := dk_27 (dk_at dksX3_erase_0 5 rfl rfl)
theorem dX3_erase_6 : decode cX3_erase 6 = .ok (.invokevirtual 253, 3) := dk_182 0 253 (dk_at dksX3_erase_0 6 rfl rfl)
theorem dX3_erase_9 : decode cX3_erase 9 = .ok (.ifCond .ne 80, 3) := dk_154 0 80 (dk_at dksX3_erase_0 9 rfl rfl)
theorem dX3_erase_12 : decode cX3_erase 12 = .ok (.aload_n 0, 1) := dk_42 (dk_at dksX3_erase_0 12 rfl rfl)
theorem dX3_erase_13 : decode cX3_erase 13 = .ok (.iload_n 2, 1) := dk_28 (dk_at dksX3_erase_0 13 rfl rfl)
theorem dX3_erase_14 : decode cX3_erase 14 = .ok (.i2l, 1) := dk_133 (dk_at dksX3_erase_0 14 rfl rfl)
theorem dX3_erase_15 : decode cX3_erase 15 = .ok (.lconst 0, 1) := dk_9 (dk_at dksX3_erase_0 15 rfl rfl)
theorem dX3_erase_16 : decode cX3_erase 16 = .ok (.ldc2_w 105, 3) := dk_20 0 105 (dk_at dksX3_erase_0 16 rfl rfl)
theorem dX3_erase_19 : decode cX3_erase 19 = .ok (.invokestatic 13, 3) := dk_184 0 13 (dk_at dksX3_erase_0 19 rfl rfl)
theorem dX3_erase_22 : decode cX3_erase 22 = .ok (.ifCond .ne 7, 3) := dk_154 0 7 (dk_at dksX3_erase_1 0 rfl rfl)
theorem dX3_erase_25 : decode cX3_erase 25 = .ok (.iconst 1, 1) := dk_4 (dk_at dksX3_erase_1 3 rfl rfl)
theorem dX3_erase_26 : decode cX3_erase 26 = .ok (.goto 4, 3) := dk_167 0 4 (dk_at dksX3_erase_1 4 rfl rfl)
theorem dX3_erase_29 : decode cX3_erase 29 = .ok (.iconst 0, 1) := dk_3 (dk_at dksX3_erase_1 7 rfl rfl)
theorem dX3_erase_30 : decode cX3_erase 30 = .ok (.iconst 2, 1) := dk_5 (dk_at dksX3_erase_1 8 rfl rfl)
theorem dX3_erase_31 : decode cX3_erase 31 = .ok (.invokevirtual 74, 3) := dk_182 0 74 (dk_at dksX3_erase_1 9 rfl rfl)
theorem dX3_erase_34 : decode cX3_erase 34 = .ok (.ifCond .ne 55, 3) := dk_154 0 55 (dk_at dksX3_erase_1 12 rfl rfl)
theorem dX3_erase_37 : decode cX3_erase 37 = .ok (.aload_n 0, 1) := dk_42 (dk_at dksX3_erase_1 15 rfl rfl)
theorem dX3_erase_38 : decode cX3_erase 38 = .ok (.aload_n 0, 1) := dk_42 (dk_at dksX3_erase_1 16 rfl rfl)
theorem dX3_erase_39 : decode cX3_erase 39 = .ok (.getfield 57, 3) := dk_180 0 57 (dk_at dksX3_erase_1 17 rfl rfl)
theorem dX3_erase_42 : decode cX3_erase 42 = .ok (.iload_n 1, 1) := dk_27 (dk_at dksX3_erase_1 20 rfl rfl)
theorem dX3_erase_43 : decode cX3_erase 43 = .ok (.invokeinterface 114 2, 5) := by decide +kernel
theorem dX3_erase_48 : decode cX3_erase 48 = .ok (.checkcast 237, 3) := dk_192 0 237 (dk_at dksX3_erase_2 5 rfl rfl)
theorem dX3_erase_51 : decode cX3_erase 51 = .ok (.getfield 262, 3) := dk_180 1 6 (dk_at dksX3_erase_2 8 rfl rfl)
theorem dX3_erase_54 : decode cX3_erase 54 = .ok (.iconst (-1), 1) := dk_2 (dk_at dksX3_erase_2 11 rfl rfl)
theorem dX3_erase_55 : decode cX3_erase 55 = .ok (.if_icmp .eq 22, 3) := dk_159 0 22 (dk_at dksX3_erase_2 12 rfl rfl)
theorem dX3_erase_58 : decode cX3_erase 58 = .ok (.aload_n 0, 1) := dk_42 (dk_at dksX3_erase_2 15 rfl rfl)
theorem dX3_erase_59 : decode cX3_erase 59 = .ok (.getfield 57, 3) := dk_180 0 57 (dk_at dksX3_erase_2 16 rfl rfl)
theorem dX3_erase_62 : decode cX3_erase 62 = .ok (.iload_n 1, 1) := dk_27 (dk_at dksX3_erase_2 19 rfl rfl)
theorem dX3_erase_63 : decode cX3_erase 63 = .ok (.invokeinterface 114 2, 5) := by decide +kernel
theorem dX3_erase_68 : decode cX3_erase 68 = .ok (.checkcast 237, 3) := dk_192 0 237 (dk_at dksX3_erase_3 5 rfl rfl)
theorem dX3_erase_71 : decode cX3_erase 71 = .ok (.getfield 265, 3) := dk_180 1 9 (dk_at dksX3_erase_3 8 rfl rfl)
theorem dX3_erase_74 : decode cX3_erase 74 = .ok (.ifCond .eq 7, 3) := dk_153 0 7 (dk_at dksX3_erase_3 11 rfl rfl)
theorem dX3_erase_77 : decode cX3_erase 77 = .ok (.iconst 1, 1) := dk_4 (dk_at dksX3_erase_3 14 rfl rfl)
theorem dX3_erase_78 : decode cX3_erase 78 = .ok (.goto 4, 3) := dk_167 0 4 (dk_at dksX3_erase_3 15 rfl rfl)
theorem dX3_erase_81 : decode cX3_erase 81 = .ok (.iconst 0, 1) := dk_3 (dk_at dksX3_erase_3 18 rfl rfl)
theorem dX3_erase_82 : decode cX3_erase 82 = .ok (.iconst 3, 1) := dk_6 (dk_at dksX3_erase_3 19 rfl rfl)
theorem dX3_erase_83 : decode cX3_erase 83 = .ok (.invokevirtual 74, 3) := dk_182 0 74 (dk_at dksX3_erase_3 20 rfl rfl)
theorem dX3_erase_86 : decode cX3_erase 86 = .ok (.ifCond .eq 5, 3) := dk_153 0 5 (dk_at dksX3_erase_4 0 rfl rfl)
theorem dX3_erase_89 : decode cX3_erase 89 = .ok (.iconst (-1), 1) := dk_2 (dk_at dksX3_erase_4 3 rfl rfl)
theorem dX3_erase_90 : decode cX3_erase 90 = .ok (.ireturn, 1) := dk_172 (dk_at dksX3_erase_4 4 rfl rfl)
theorem dX3_erase_91 : decode cX3_erase 91 = .ok (.aload_n 0, 1) := dk_42 (dk_at dksX3_erase_4 5 rfl rfl)
theorem dX3_erase_92 : decode cX3_erase 92 = .ok (.getfield 57, 3) := dk_180 0 57 (dk_at dksX3_erase_4 6 rfl rfl)
theorem dX3_erase_95 : decode cX3_erase 95 = .ok (.iload_n 1, 1) := dk_27 (dk_at dksX3_erase_4 9 rfl rfl)
theorem dX3_erase_96 : decode cX3_erase 96 = .ok (.invokeinterface 114 2, 5) := by decide +kernel
theorem dX3_erase_101 : decode cX3_erase 101 = .ok (.checkcast 237, 3) := dk_192 0 237 (dk_at dksX3_erase_4 15 rfl rfl)
theorem dX3_erase_104 : decode cX3_erase 104 = .ok (.iconst 1, 1) := dk_4 (dk_at dksX3_erase_4 18 rfl rfl)
theorem dX3_erase_105 : decode cX3_erase 105 = .ok (.putfield 265, 3) := dk_181 1 9 (dk_at dksX3_erase_4 19 rfl rfl)
theorem dX3_erase_108 : decode cX3_erase 108 = .ok (.aload_n 0, 1) := dk_42 (dk_at dksX3_erase_4 22 rfl rfl)
theorem dX3_erase_109 : decode cX3_erase 109 = .ok (.getfield 57, 3) := dk_180 0 57 (dk_at dksX3_erase_5 0 rfl rfl)
theorem dX3_erase_112 : decode cX3_erase 112 = .ok (.iload_n 1, 1) := dk_27 (dk_at dksX3_erase_5 3 rfl rfl)
theorem dX3_erase_113 : decode cX3_erase 113 = .ok (.invokeinterface 114 2, 5) := by decide +kernel
theorem dX3_erase_118 : decode cX3_erase 118 = .ok (.checkcast 237, 3) := dk_192 0 237 (dk_at dksX3_erase_5 9 rfl rfl)
theorem dX3_erase_121 : decode cX3_erase 121 = .ok (.getfield 248, 3) := dk_180 0 248 (dk_at dksX3_erase_5 12 rfl rfl)
theorem dX3_erase_124 : decode cX3_erase 124 = .ok (.ireturn, 1) := dk_172 (dk_at dksX3_erase_5 15 rfl rfl)
abbrev cX3_run : ByteArray := prog_15_method_41_code
def yX3_run : MethodName := ⟨RX3, "run", "(IC)I"⟩
def dkwX3_run_5 : List UInt8 := [16, 111, 160, 0, 10, 45, 180, 0, 249, 167, 0, 7, 45, 180, 0, 252, 172]
abbrev dktX3_run_5 : List UInt8 := dkwX3_run_5 ++ []
def dkwX3_run_4 : List UInt8 := [160, 0, 10, 45, 180, 1, 3, 167, 0, 33, 28, 16, 103, 160, 0, 10, 45, 180, 1, 6, 167, 0, 20, 28]
abbrev dktX3_run_4 : List UInt8 := dkwX3_run_4 ++ dktX3_run_5
def dkwX3_run_3 : List UInt8 := [180, 1, 14, 167, 0, 59, 28, 16, 99, 160, 0, 10, 45, 180, 1, 0, 167, 0, 46, 28, 16, 108]
abbrev dktX3_run_3 : List UInt8 := dkwX3_run_3 ++ dktX3_run_4
def dkwX3_run_2 : List UInt8 := [192, 0, 237, 78, 28, 16, 110, 160, 0, 10, 45, 180, 0, 248, 167, 0, 72, 28, 16, 98, 160, 0, 10, 45]
abbrev dktX3_run_2 : List UInt8 := dkwX3_run_2 ++ dktX3_run_3
def dkwX3_run_1 : List UInt8 := [167, 0, 4, 3, 5, 182, 0, 74, 153, 0, 5, 2, 172, 42, 180, 0, 57, 27, 185, 0, 114, 2, 0]
abbrev dktX3_run_1 : List UInt8 := dkwX3_run_1 ++ dktX3_run_2
def dkwX3_run_0 : List UInt8 := [42, 182, 0, 69, 42, 27, 182, 0, 253, 154, 0, 26, 42, 19, 1, 12, 28, 182, 0, 83, 156, 0, 7, 4]
abbrev dktX3_run_0 : List UInt8 := dkwX3_run_0 ++ dktX3_run_1
theorem dksX3_run_0 : cX3_run.data.toList.drop 0 = dktX3_run_0 := by decide +kernel
theorem dksX3_run_1 : cX3_run.data.toList.drop 24 = dktX3_run_1 := dk_seg dksX3_run_0 24 rfl rfl
theorem dksX3_run_2 : cX3_run.data.toList.drop 47 = dktX3_run_2 := dk_seg dksX3_run_1 23 rfl rfl
theorem dksX3_run_3 : cX3_run.data.toList.drop 71 = dktX3_run_3 := dk_seg dksX3_run_2 24 rfl rfl
theorem dksX3_run_4 : cX3_run.data.toList.drop 93 = dktX3_run_4 := dk_seg dksX3_run_3 22 rfl rfl
theorem dksX3_run_5 : cX3_run.data.toList.drop 117 = dktX3_run_5 := dk_seg dksX3_run_4 24 rfl rfl
theorem dX3_run_0 : decode cX3_run 0 = .ok (.aload_n 0, 1) := dk_42 (dk_at dksX3_run_0 0 rfl rfl)
theorem dX3_run_1 : decode cX3_run 1 = .ok (.invokevirtual 69, 3) := dk_182 0 69 (dk_at dksX3_run_0 1 rfl rfl)
theorem dX3_run_4 : decode cX3_run 4 = .ok (.aload_n 0, 1) := dk_42 (dk_at dksX3_run_0 4 rfl rfl)
theorem dX3_run_5 : decode cX3_run 5 = .ok (.iload_n 1, 1) := dk_27 (dk_at dksX3_run_0 5 rfl rfl)
theorem dX3_run_6 : decode cX3_run 6 = .ok (.invokevirtual 253, 3) := dk_182 0 253 (dk_at dksX3_run_0 6 rfl rfl)
theorem dX3_run_9 : decode cX3_run 9 = .ok (.ifCond .ne 26, 3) := dk_154 0 26 (dk_at dksX3_run_0 9 rfl rfl)
theorem dX3_run_12 : decode cX3_run 12 = .ok (.aload_n 0, 1) := dk_42 (dk_at dksX3_run_0 12 rfl rfl)
theorem dX3_run_13 : decode cX3_run 13 = .ok (.ldc_w 268, 3) := dk_19 1 12 (dk_at dksX3_run_0 13 rfl rfl)
theorem dX3_run_16 : decode cX3_run 16 = .ok (.iload_n 2, 1) := dk_28 (dk_at dksX3_run_0 16 rfl rfl)
theorem dX3_run_17 : decode cX3_run 17 = .ok (.invokevirtual 83, 3) := dk_182 0 83 (dk_at dksX3_run_0 17 rfl rfl)
theorem dX3_run_20 : decode cX3_run 20 = .ok (.ifCond .ge 7, 3) := dk_156 0 7 (dk_at dksX3_run_0 20 rfl rfl)
theorem dX3_run_23 : decode cX3_run 23 = .ok (.iconst 1, 1) := dk_4 (dk_at dksX3_run_0 23 rfl rfl)
theorem dX3_run_24 : decode cX3_run 24 = .ok (.goto 4, 3) := dk_167 0 4 (dk_at dksX3_run_1 0 rfl rfl)
theorem dX3_run_27 : decode cX3_run 27 = .ok (.iconst 0, 1) := dk_3 (dk_at dksX3_run_1 3 rfl rfl)
theorem dX3_run_28 : decode cX3_run 28 = .ok (.iconst 2, 1) := dk_5 (dk_at dksX3_run_1 4 rfl rfl)
theorem dX3_run_29 : decode cX3_run 29 = .ok (.invokevirtual 74, 3) := dk_182 0 74 (dk_at dksX3_run_1 5 rfl rfl)
theorem dX3_run_32 : decode cX3_run 32 = .ok (.ifCond .eq 5, 3) := dk_153 0 5 (dk_at dksX3_run_1 8 rfl rfl)
theorem dX3_run_35 : decode cX3_run 35 = .ok (.iconst (-1), 1) := dk_2 (dk_at dksX3_run_1 11 rfl rfl)
theorem dX3_run_36 : decode cX3_run 36 = .ok (.ireturn, 1) := dk_172 (dk_at dksX3_run_1 12 rfl rfl)
theorem dX3_run_37 : decode cX3_run 37 = .ok (.aload_n 0, 1) := dk_42 (dk_at dksX3_run_1 13 rfl rfl)
theorem dX3_run_38 : decode cX3_run 38 = .ok (.getfield 57, 3) := dk_180 0 57 (dk_at dksX3_run_1 14 rfl rfl)
theorem dX3_run_41 : decode cX3_run 41 = .ok (.iload_n 1, 1) := dk_27 (dk_at dksX3_run_1 17 rfl rfl)
theorem dX3_run_42 : decode cX3_run 42 = .ok (.invokeinterface 114 2, 5) := by decide +kernel
theorem dX3_run_47 : decode cX3_run 47 = .ok (.checkcast 237, 3) := dk_192 0 237 (dk_at dksX3_run_2 0 rfl rfl)
theorem dX3_run_50 : decode cX3_run 50 = .ok (.astore_n 3, 1) := dk_78 (dk_at dksX3_run_2 3 rfl rfl)
theorem dX3_run_51 : decode cX3_run 51 = .ok (.iload_n 2, 1) := dk_28 (dk_at dksX3_run_2 4 rfl rfl)
theorem dX3_run_52 : decode cX3_run 52 = .ok (.bipush 110, 2) := dk_16 110 (dk_at dksX3_run_2 5 rfl rfl)
theorem dX3_run_54 : decode cX3_run 54 = .ok (.if_icmp .ne 10, 3) := dk_160 0 10 (dk_at dksX3_run_2 7 rfl rfl)
theorem dX3_run_57 : decode cX3_run 57 = .ok (.aload_n 3, 1) := dk_45 (dk_at dksX3_run_2 10 rfl rfl)
theorem dX3_run_58 : decode cX3_run 58 = .ok (.getfield 248, 3) := dk_180 0 248 (dk_at dksX3_run_2 11 rfl rfl)
theorem dX3_run_61 : decode cX3_run 61 = .ok (.goto 72, 3) := dk_167 0 72 (dk_at dksX3_run_2 14 rfl rfl)
theorem dX3_run_64 : decode cX3_run 64 = .ok (.iload_n 2, 1) := dk_28 (dk_at dksX3_run_2 17 rfl rfl)
theorem dX3_run_65 : decode cX3_run 65 = .ok (.bipush 98, 2) := dk_16 98 (dk_at dksX3_run_2 18 rfl rfl)
theorem dX3_run_67 : decode cX3_run 67 = .ok (.if_icmp .ne 10, 3) := dk_160 0 10 (dk_at dksX3_run_2 20 rfl rfl)
theorem dX3_run_70 : decode cX3_run 70 = .ok (.aload_n 3, 1) := dk_45 (dk_at dksX3_run_2 23 rfl rfl)
theorem dX3_run_71 : decode cX3_run 71 = .ok (.getfield 270, 3) := dk_180 1 14 (dk_at dksX3_run_3 0 rfl rfl)
theorem dX3_run_74 : decode cX3_run 74 = .ok (.goto 59, 3) := dk_167 0 59 (dk_at dksX3_run_3 3 rfl rfl)
theorem dX3_run_77 : decode cX3_run 77 = .ok (.iload_n 2, 1) := dk_28 (dk_at dksX3_run_3 6 rfl rfl)
theorem dX3_run_78 : decode cX3_run 78 = .ok (.bipush 99, 2) := dk_16 99 (dk_at dksX3_run_3 7 rfl rfl)
theorem dX3_run_80 : decode cX3_run 80 = .ok (.if_icmp .ne 10, 3) := dk_160 0 10 (dk_at dksX3_run_3 9 rfl rfl)
theorem dX3_run_83 : decode cX3_run 83 = .ok (.aload_n 3, 1) := dk_45 (dk_at dksX3_run_3 12 rfl rfl)
theorem dX3_run_84 : decode cX3_run 84 = .ok (.getfield 256, 3) := dk_180 1 0 (dk_at dksX3_run_3 13 rfl rfl)
theorem dX3_run_87 : decode cX3_run 87 = .ok (.goto 46, 3) := dk_167 0 46 (dk_at dksX3_run_3 16 rfl rfl)
theorem dX3_run_90 : decode cX3_run 90 = .ok (.iload_n 2, 1) := dk_28 (dk_at dksX3_run_3 19 rfl rfl)
theorem dX3_run_91 : decode cX3_run 91 = .ok (.bipush 108, 2) := dk_16 108 (dk_at dksX3_run_3 20 rfl rfl)
theorem dX3_run_93 : decode cX3_run 93 = .ok (.if_icmp .ne 10, 3) := dk_160 0 10 (dk_at dksX3_run_4 0 rfl rfl)
theorem dX3_run_96 : decode cX3_run 96 = .ok (.aload_n 3, 1) := dk_45 (dk_at dksX3_run_4 3 rfl rfl)
theorem dX3_run_97 : decode cX3_run 97 = .ok (.getfield 259, 3) := dk_180 1 3 (dk_at dksX3_run_4 4 rfl rfl)
theorem dX3_run_100 : decode cX3_run 100 = .ok (.goto 33, 3) := dk_167 0 33 (dk_at dksX3_run_4 7 rfl rfl)
theorem dX3_run_103 : decode cX3_run 103 = .ok (.iload_n 2, 1) := dk_28 (dk_at dksX3_run_4 10 rfl rfl)
theorem dX3_run_104 : decode cX3_run 104 = .ok (.bipush 103, 2) := dk_16 103 (dk_at dksX3_run_4 11 rfl rfl)
theorem dX3_run_106 : decode cX3_run 106 = .ok (.if_icmp .ne 10, 3) := dk_160 0 10 (dk_at dksX3_run_4 13 rfl rfl)
theorem dX3_run_109 : decode cX3_run 109 = .ok (.aload_n 3, 1) := dk_45 (dk_at dksX3_run_4 16 rfl rfl)
theorem dX3_run_110 : decode cX3_run 110 = .ok (.getfield 262, 3) := dk_180 1 6 (dk_at dksX3_run_4 17 rfl rfl)
theorem dX3_run_113 : decode cX3_run 113 = .ok (.goto 20, 3) := dk_167 0 20 (dk_at dksX3_run_4 20 rfl rfl)
theorem dX3_run_116 : decode cX3_run 116 = .ok (.iload_n 2, 1) := dk_28 (dk_at dksX3_run_4 23 rfl rfl)
theorem dX3_run_117 : decode cX3_run 117 = .ok (.bipush 111, 2) := dk_16 111 (dk_at dksX3_run_5 0 rfl rfl)
theorem dX3_run_119 : decode cX3_run 119 = .ok (.if_icmp .ne 10, 3) := dk_160 0 10 (dk_at dksX3_run_5 2 rfl rfl)
theorem dX3_run_122 : decode cX3_run 122 = .ok (.aload_n 3, 1) := dk_45 (dk_at dksX3_run_5 5 rfl rfl)
theorem dX3_run_123 : decode cX3_run 123 = .ok (.getfield 249, 3) := dk_180 0 249 (dk_at dksX3_run_5 6 rfl rfl)
theorem dX3_run_126 : decode cX3_run 126 = .ok (.goto 7, 3) := dk_167 0 7 (dk_at dksX3_run_5 9 rfl rfl)
theorem dX3_run_129 : decode cX3_run 129 = .ok (.aload_n 3, 1) := dk_45 (dk_at dksX3_run_5 12 rfl rfl)
theorem dX3_run_130 : decode cX3_run 130 = .ok (.getfield 252, 3) := dk_180 0 252 (dk_at dksX3_run_5 13 rfl rfl)
theorem dX3_run_133 : decode cX3_run 133 = .ok (.ireturn, 1) := dk_172 (dk_at dksX3_run_5 16 rfl rfl)
abbrev cX3_fall : ByteArray := prog_15_method_42_code
def yX3_fall : MethodName := ⟨RX3, "fall", "(II)I"⟩
def dkwX3_fall_5 : List UInt8 := [54, 5, 45, 89, 180, 1, 14, 21, 5, 96, 181, 1, 14, 21, 5, 172]
abbrev dktX3_fall_5 : List UInt8 := dkwX3_fall_5 ++ []
def dkwX3_fall_4 : List UInt8 := [45, 180, 0, 248, 45, 180, 1, 14, 100, 45, 180, 0, 248, 21, 4, 104, 17, 1, 144, 108, 184, 0, 119]
abbrev dktX3_fall_4 : List UInt8 := dkwX3_fall_4 ++ dktX3_fall_5
def dkwX3_fall_3 : List UInt8 := [180, 0, 51, 45, 180, 0, 240, 185, 0, 114, 2, 0, 192, 0, 132, 180, 0, 177, 100, 184, 0, 125, 54, 4]
abbrev dktX3_fall_3 : List UInt8 := dkwX3_fall_3 ++ dktX3_fall_4
def dkwX3_fall_2 : List UInt8 := [185, 0, 114, 2, 0, 192, 0, 237, 78, 3, 16, 40, 28, 104, 16, 20, 45, 180, 0, 249, 104, 96, 42]
abbrev dktX3_fall_2 : List UInt8 := dkwX3_fall_2 ++ dktX3_fall_3
def dkwX3_fall_1 : List UInt8 := [154, 0, 7, 4, 167, 0, 4, 3, 5, 182, 0, 74, 153, 0, 5, 2, 172, 42, 180, 0, 57, 27]
abbrev dktX3_fall_1 : List UInt8 := dkwX3_fall_1 ++ dktX3_fall_2
def dkwX3_fall_0 : List UInt8 := [42, 182, 0, 69, 42, 27, 182, 0, 253, 154, 0, 28, 42, 28, 133, 10, 20, 0, 105, 184, 0, 13]
abbrev dktX3_fall_0 : List UInt8 := dkwX3_fall_0 ++ dktX3_fall_1
theorem dksX3_fall_0 : cX3_fall.data.toList.drop 0 = dktX3_fall_0 := by decide +kernel
theorem dksX3_fall_1 : cX3_fall.data.toList.drop 22 = dktX3_fall_1 := dk_seg dksX3_fall_0 22 rfl rfl
theorem dksX3_fall_2 : cX3_fall.data.toList.drop 44 = dktX3_fall_2 := dk_seg dksX3_fall_1 22 rfl rfl
theorem dksX3_fall_3 : cX3_fall.data.toList.drop 67 = dktX3_fall_3 := dk_seg dksX3_fall_2 23 rfl rfl
theorem dksX3_fall_4 : cX3_fall.data.toList.drop 91 = dktX3_fall_4 := dk_seg dksX3_fall_3 24 rfl rfl
theorem dksX3_fall_5 : cX3_fall.data.toList.drop 114 = dktX3_fall_5 := dk_seg dksX3_fall_4 23 rfl rfl
theorem dX3_fall_0 : decode cX3_fall 0 = .ok (.aload_n 0, 1) := dk_42 (dk_at dksX3_fall_0 0 rfl rfl)
theorem dX3_fall_1 : decode cX3_fall 1 = .ok (.invokevirtual 69, 3) := dk_182 0 69 (dk_at dksX3_fall_0 1 rfl rfl)
theorem dX3_fall_4 : decode cX3_fall 4 = .ok (.aload_n 0, 1) := dk_42 (dk_at dksX3_fall_0 4 rfl rfl)
theorem dX3_fall_5 : decode cX3_fall 5 = .ok (.iload_n 1, 1) := dk_27 (dk_at dksX3_fall_0 5 rfl rfl)
theorem dX3_fall_6 : decode cX3_fall 6 = .ok (.invokevirtual 253, 3) := dk_182 0 253 (dk_at dksX3_fall_0 6 rfl rfl)
theorem dX3_fall_9 : decode cX3_fall 9 = .ok (.ifCond .ne 28, 3) := dk_154 0 28 (dk_at dksX3_fall_0 9 rfl rfl)
theorem dX3_fall_12 : decode cX3_fall 12 = .ok (.aload_n 0, 1) := dk_42 (dk_at dksX3_fall_0 12 rfl rfl)
theorem dX3_fall_13 : decode cX3_fall 13 = .ok (.iload_n 2, 1) := dk_28 (dk_at dksX3_fall_0 13 rfl rfl)
theorem dX3_fall_14 : decode cX3_fall 14 = .ok (.i2l, 1) := dk_133 (dk_at dksX3_fall_0 14 rfl rfl)
theorem dX3_fall_15 : decode cX3_fall 15 = .ok (.lconst 1, 1) := dk_10 (dk_at dksX3_fall_0 15 rfl rfl)
theorem dX3_fall_16 : decode cX3_fall 16 = .ok (.ldc2_w 105, 3) := dk_20 0 105 (dk_at dksX3_fall_0 16 rfl rfl)
theorem dX3_fall_19 : decode cX3_fall 19 = .ok (.invokestatic 13, 3) := dk_184 0 13 (dk_at dksX3_fall_0 19 rfl rfl)
theorem dX3_fall_22 : decode cX3_fall 22 = .ok (.ifCond .ne 7, 3) := dk_154 0 7 (dk_at dksX3_fall_1 0 rfl rfl)
theorem dX3_fall_25 : decode cX3_fall 25 = .ok (.iconst 1, 1) := dk_4 (dk_at dksX3_fall_1 3 rfl rfl)
theorem dX3_fall_26 : decode cX3_fall 26 = .ok (.goto 4, 3) := dk_167 0 4 (dk_at dksX3_fall_1 4 rfl rfl)
theorem dX3_fall_29 : decode cX3_fall 29 = .ok (.iconst 0, 1) := dk_3 (dk_at dksX3_fall_1 7 rfl rfl)
theorem dX3_fall_30 : decode cX3_fall 30 = .ok (.iconst 2, 1) := dk_5 (dk_at dksX3_fall_1 8 rfl rfl)
theorem dX3_fall_31 : decode cX3_fall 31 = .ok (.invokevirtual 74, 3) := dk_182 0 74 (dk_at dksX3_fall_1 9 rfl rfl)
theorem dX3_fall_34 : decode cX3_fall 34 = .ok (.ifCond .eq 5, 3) := dk_153 0 5 (dk_at dksX3_fall_1 12 rfl rfl)
theorem dX3_fall_37 : decode cX3_fall 37 = .ok (.iconst (-1), 1) := dk_2 (dk_at dksX3_fall_1 15 rfl rfl)
theorem dX3_fall_38 : decode cX3_fall 38 = .ok (.ireturn, 1) := dk_172 (dk_at dksX3_fall_1 16 rfl rfl)
theorem dX3_fall_39 : decode cX3_fall 39 = .ok (.aload_n 0, 1) := dk_42 (dk_at dksX3_fall_1 17 rfl rfl)
theorem dX3_fall_40 : decode cX3_fall 40 = .ok (.getfield 57, 3) := dk_180 0 57 (dk_at dksX3_fall_1 18 rfl rfl)
theorem dX3_fall_43 : decode cX3_fall 43 = .ok (.iload_n 1, 1) := dk_27 (dk_at dksX3_fall_1 21 rfl rfl)
theorem dX3_fall_44 : decode cX3_fall 44 = .ok (.invokeinterface 114 2, 5) := by decide +kernel
theorem dX3_fall_49 : decode cX3_fall 49 = .ok (.checkcast 237, 3) := dk_192 0 237 (dk_at dksX3_fall_2 5 rfl rfl)
theorem dX3_fall_52 : decode cX3_fall 52 = .ok (.astore_n 3, 1) := dk_78 (dk_at dksX3_fall_2 8 rfl rfl)
theorem dX3_fall_53 : decode cX3_fall 53 = .ok (.iconst 0, 1) := dk_3 (dk_at dksX3_fall_2 9 rfl rfl)
theorem dX3_fall_54 : decode cX3_fall 54 = .ok (.bipush 40, 2) := dk_16 40 (dk_at dksX3_fall_2 10 rfl rfl)
theorem dX3_fall_56 : decode cX3_fall 56 = .ok (.iload_n 2, 1) := dk_28 (dk_at dksX3_fall_2 12 rfl rfl)
theorem dX3_fall_57 : decode cX3_fall 57 = .ok (.imul, 1) := dk_104 (dk_at dksX3_fall_2 13 rfl rfl)
theorem dX3_fall_58 : decode cX3_fall 58 = .ok (.bipush 20, 2) := dk_16 20 (dk_at dksX3_fall_2 14 rfl rfl)
theorem dX3_fall_60 : decode cX3_fall 60 = .ok (.aload_n 3, 1) := dk_45 (dk_at dksX3_fall_2 16 rfl rfl)
theorem dX3_fall_61 : decode cX3_fall 61 = .ok (.getfield 249, 3) := dk_180 0 249 (dk_at dksX3_fall_2 17 rfl rfl)
theorem dX3_fall_64 : decode cX3_fall 64 = .ok (.imul, 1) := dk_104 (dk_at dksX3_fall_2 20 rfl rfl)
theorem dX3_fall_65 : decode cX3_fall 65 = .ok (.iadd, 1) := dk_96 (dk_at dksX3_fall_2 21 rfl rfl)
theorem dX3_fall_66 : decode cX3_fall 66 = .ok (.aload_n 0, 1) := dk_42 (dk_at dksX3_fall_2 22 rfl rfl)
theorem dX3_fall_67 : decode cX3_fall 67 = .ok (.getfield 51, 3) := dk_180 0 51 (dk_at dksX3_fall_3 0 rfl rfl)
theorem dX3_fall_70 : decode cX3_fall 70 = .ok (.aload_n 3, 1) := dk_45 (dk_at dksX3_fall_3 3 rfl rfl)
theorem dX3_fall_71 : decode cX3_fall 71 = .ok (.getfield 240, 3) := dk_180 0 240 (dk_at dksX3_fall_3 4 rfl rfl)
theorem dX3_fall_74 : decode cX3_fall 74 = .ok (.invokeinterface 114 2, 5) := by decide +kernel
theorem dX3_fall_79 : decode cX3_fall 79 = .ok (.checkcast 132, 3) := dk_192 0 132 (dk_at dksX3_fall_3 12 rfl rfl)
theorem dX3_fall_82 : decode cX3_fall 82 = .ok (.getfield 177, 3) := dk_180 0 177 (dk_at dksX3_fall_3 15 rfl rfl)
theorem dX3_fall_85 : decode cX3_fall 85 = .ok (.isub, 1) := dk_100 (dk_at dksX3_fall_3 18 rfl rfl)
theorem dX3_fall_86 : decode cX3_fall 86 = .ok (.invokestatic 125, 3) := dk_184 0 125 (dk_at dksX3_fall_3 19 rfl rfl)
theorem dX3_fall_89 : decode cX3_fall 89 = .ok (.istore 4, 2) := dk_54 4 (dk_at dksX3_fall_3 22 rfl rfl)
theorem dX3_fall_91 : decode cX3_fall 91 = .ok (.aload_n 3, 1) := dk_45 (dk_at dksX3_fall_4 0 rfl rfl)
theorem dX3_fall_92 : decode cX3_fall 92 = .ok (.getfield 248, 3) := dk_180 0 248 (dk_at dksX3_fall_4 1 rfl rfl)
theorem dX3_fall_95 : decode cX3_fall 95 = .ok (.aload_n 3, 1) := dk_45 (dk_at dksX3_fall_4 4 rfl rfl)
theorem dX3_fall_96 : decode cX3_fall 96 = .ok (.getfield 270, 3) := dk_180 1 14 (dk_at dksX3_fall_4 5 rfl rfl)
theorem dX3_fall_99 : decode cX3_fall 99 = .ok (.isub, 1) := dk_100 (dk_at dksX3_fall_4 8 rfl rfl)
theorem dX3_fall_100 : decode cX3_fall 100 = .ok (.aload_n 3, 1) := dk_45 (dk_at dksX3_fall_4 9 rfl rfl)
theorem dX3_fall_101 : decode cX3_fall 101 = .ok (.getfield 248, 3) := dk_180 0 248 (dk_at dksX3_fall_4 10 rfl rfl)
theorem dX3_fall_104 : decode cX3_fall 104 = .ok (.iload 4, 2) := dk_21 4 (dk_at dksX3_fall_4 13 rfl rfl)
theorem dX3_fall_106 : decode cX3_fall 106 = .ok (.imul, 1) := dk_104 (dk_at dksX3_fall_4 15 rfl rfl)
theorem dX3_fall_107 : decode cX3_fall 107 = .ok (.sipush 400, 3) := dk_17 1 144 (dk_at dksX3_fall_4 16 rfl rfl)
theorem dX3_fall_110 : decode cX3_fall 110 = .ok (.idiv, 1) := dk_108 (dk_at dksX3_fall_4 19 rfl rfl)
theorem dX3_fall_111 : decode cX3_fall 111 = .ok (.invokestatic 119, 3) := dk_184 0 119 (dk_at dksX3_fall_4 20 rfl rfl)
theorem dX3_fall_114 : decode cX3_fall 114 = .ok (.istore 5, 2) := dk_54 5 (dk_at dksX3_fall_5 0 rfl rfl)
theorem dX3_fall_116 : decode cX3_fall 116 = .ok (.aload_n 3, 1) := dk_45 (dk_at dksX3_fall_5 2 rfl rfl)
theorem dX3_fall_117 : decode cX3_fall 117 = .ok (.dup, 1) := dk_89 (dk_at dksX3_fall_5 3 rfl rfl)
theorem dX3_fall_118 : decode cX3_fall 118 = .ok (.getfield 270, 3) := dk_180 1 14 (dk_at dksX3_fall_5 4 rfl rfl)
theorem dX3_fall_121 : decode cX3_fall 121 = .ok (.iload 5, 2) := dk_21 5 (dk_at dksX3_fall_5 7 rfl rfl)
theorem dX3_fall_123 : decode cX3_fall 123 = .ok (.iadd, 1) := dk_96 (dk_at dksX3_fall_5 9 rfl rfl)
theorem dX3_fall_124 : decode cX3_fall 124 = .ok (.putfield 270, 3) := dk_181 1 14 (dk_at dksX3_fall_5 10 rfl rfl)
theorem dX3_fall_127 : decode cX3_fall 127 = .ok (.iload 5, 2) := dk_21 5 (dk_at dksX3_fall_5 13 rfl rfl)
theorem dX3_fall_129 : decode cX3_fall 129 = .ok (.ireturn, 1) := dk_172 (dk_at dksX3_fall_5 15 rfl rfl)
abbrev cX3_sample : ByteArray := prog_15_method_43_code
def yX3_sample : MethodName := ⟨RX3, "sample", "(II)I"⟩
def dkwX3_sample_7 : List UInt8 := [21, 4, 172]
abbrev dktX3_sample_7 : List UInt8 := dkwX3_sample_7 ++ []
def dkwX3_sample_6 : List UInt8 := [4, 100, 181, 1, 14, 132, 4, 1, 45, 89, 180, 0, 248, 4, 100, 181, 0, 248, 132, 5, 1, 167, 255, 190]
abbrev dktX3_sample_6 : List UInt8 := dkwX3_sample_6 ++ dktX3_sample_7
def dkwX3_sample_5 : List UInt8 := [181, 0, 66, 42, 180, 0, 66, 45, 180, 0, 248, 112, 45, 180, 1, 14, 162, 0, 16, 45, 89, 180, 1, 14]
abbrev dktX3_sample_5 : List UInt8 := dkwX3_sample_5 ++ dktX3_sample_6
def dkwX3_sample_4 : List UInt8 := [54, 5, 21, 5, 28, 162, 0, 66, 42, 42, 180, 0, 66, 133, 20, 1, 17, 105, 20, 1, 19, 113, 136]
abbrev dktX3_sample_4 : List UInt8 := dkwX3_sample_4 ++ dktX3_sample_5
def dkwX3_sample_3 : List UInt8 := [153, 0, 5, 2, 172, 42, 180, 0, 57, 27, 185, 0, 114, 2, 0, 192, 0, 237, 78, 3, 54, 4, 3]
abbrev dktX3_sample_3 : List UInt8 := dkwX3_sample_3 ++ dktX3_sample_4
def dkwX3_sample_2 : List UInt8 := [185, 0, 114, 2, 0, 192, 0, 237, 180, 0, 248, 28, 162, 0, 7, 4, 167, 0, 4, 3, 6, 182, 0, 74]
abbrev dktX3_sample_2 : List UInt8 := dkwX3_sample_2 ++ dktX3_sample_3
def dkwX3_sample_1 : List UInt8 := [154, 0, 7, 4, 167, 0, 4, 3, 5, 182, 0, 74, 154, 0, 36, 42, 42, 180, 0, 57, 27]
abbrev dktX3_sample_1 : List UInt8 := dkwX3_sample_1 ++ dktX3_sample_2
def dkwX3_sample_0 : List UInt8 := [42, 182, 0, 69, 42, 27, 182, 0, 253, 154, 0, 61, 42, 28, 133, 10, 20, 0, 101, 184, 0, 13]
abbrev dktX3_sample_0 : List UInt8 := dkwX3_sample_0 ++ dktX3_sample_1
theorem dksX3_sample_0 : cX3_sample.data.toList.drop 0 = dktX3_sample_0 := by decide +kernel
theorem dksX3_sample_1 : cX3_sample.data.toList.drop 22 = dktX3_sample_1 := dk_seg dksX3_sample_0 22 rfl rfl
theorem dksX3_sample_2 : cX3_sample.data.toList.drop 43 = dktX3_sample_2 := dk_seg dksX3_sample_1 21 rfl rfl
theorem dksX3_sample_3 : cX3_sample.data.toList.drop 67 = dktX3_sample_3 := dk_seg dksX3_sample_2 24 rfl rfl
theorem dksX3_sample_4 : cX3_sample.data.toList.drop 90 = dktX3_sample_4 := dk_seg dksX3_sample_3 23 rfl rfl
theorem dksX3_sample_5 : cX3_sample.data.toList.drop 113 = dktX3_sample_5 := dk_seg dksX3_sample_4 23 rfl rfl
theorem dksX3_sample_6 : cX3_sample.data.toList.drop 137 = dktX3_sample_6 := dk_seg dksX3_sample_5 24 rfl rfl
theorem dksX3_sample_7 : cX3_sample.data.toList.drop 161 = dktX3_sample_7 := dk_seg dksX3_sample_6 24 rfl rfl
theorem dX3_sample_0 : decode cX3_sample 0 = .ok (.aload_n 0, 1) := dk_42 (dk_at dksX3_sample_0 0 rfl rfl)
theorem dX3_sample_1 : decode cX3_sample 1 = .ok (.invokevirtual 69, 3) := dk_182 0 69 (dk_at dksX3_sample_0 1 rfl rfl)
theorem dX3_sample_4 : decode cX3_sample 4 = .ok (.aload_n 0, 1) := dk_42 (dk_at dksX3_sample_0 4 rfl rfl)
theorem dX3_sample_5 : decode cX3_sample 5 = .ok (.iload_n 1, 1) := dk_27 (dk_at dksX3_sample_0 5 rfl rfl)
theorem dX3_sample_6 : decode cX3_sample 6 = .ok (.invokevirtual 253, 3) := dk_182 0 253 (dk_at dksX3_sample_0 6 rfl rfl)
theorem dX3_sample_9 : decode cX3_sample 9 = .ok (.ifCond .ne 61, 3) := dk_154 0 61 (dk_at dksX3_sample_0 9 rfl rfl)
theorem dX3_sample_12 : decode cX3_sample 12 = .ok (.aload_n 0, 1) := dk_42 (dk_at dksX3_sample_0 12 rfl rfl)
theorem dX3_sample_13 : decode cX3_sample 13 = .ok (.iload_n 2, 1) := dk_28 (dk_at dksX3_sample_0 13 rfl rfl)
theorem dX3_sample_14 : decode cX3_sample 14 = .ok (.i2l, 1) := dk_133 (dk_at dksX3_sample_0 14 rfl rfl)
theorem dX3_sample_15 : decode cX3_sample 15 = .ok (.lconst 1, 1) := dk_10 (dk_at dksX3_sample_0 15 rfl rfl)
theorem dX3_sample_16 : decode cX3_sample 16 = .ok (.ldc2_w 101, 3) := dk_20 0 101 (dk_at dksX3_sample_0 16 rfl rfl)
theorem dX3_sample_19 : decode cX3_sample 19 = .ok (.invokestatic 13, 3) := dk_184 0 13 (dk_at dksX3_sample_0 19 rfl rfl)
theorem dX3_sample_22 : decode cX3_sample 22 = .ok (.ifCond .ne 7, 3) := dk_154 0 7 (dk_at dksX3_sample_1 0 rfl rfl)
theorem dX3_sample_25 : decode cX3_sample 25 = .ok (.iconst 1, 1) := dk_4 (dk_at dksX3_sample_1 3 rfl rfl)
theorem dX3_sample_26 : decode cX3_sample 26 = .ok (.goto 4, 3) := dk_167 0 4 (dk_at dksX3_sample_1 4 rfl rfl)
theorem dX3_sample_29 : decode cX3_sample 29 = .ok (.iconst 0, 1) := dk_3 (dk_at dksX3_sample_1 7 rfl rfl)
theorem dX3_sample_30 : decode cX3_sample 30 = .ok (.iconst 2, 1) := dk_5 (dk_at dksX3_sample_1 8 rfl rfl)
theorem dX3_sample_31 : decode cX3_sample 31 = .ok (.invokevirtual 74, 3) := dk_182 0 74 (dk_at dksX3_sample_1 9 rfl rfl)
theorem dX3_sample_34 : decode cX3_sample 34 = .ok (.ifCond .ne 36, 3) := dk_154 0 36 (dk_at dksX3_sample_1 12 rfl rfl)
theorem dX3_sample_37 : decode cX3_sample 37 = .ok (.aload_n 0, 1) := dk_42 (dk_at dksX3_sample_1 15 rfl rfl)
theorem dX3_sample_38 : decode cX3_sample 38 = .ok (.aload_n 0, 1) := dk_42 (dk_at dksX3_sample_1 16 rfl rfl)
theorem dX3_sample_39 : decode cX3_sample 39 = .ok (.getfield 57, 3) := dk_180 0 57 (dk_at dksX3_sample_1 17 rfl rfl)
theorem dX3_sample_42 : decode cX3_sample 42 = .ok (.iload_n 1, 1) := dk_27 (dk_at dksX3_sample_1 20 rfl rfl)
theorem dX3_sample_43 : decode cX3_sample 43 = .ok (.invokeinterface 114 2, 5) := by decide +kernel
theorem dX3_sample_48 : decode cX3_sample 48 = .ok (.checkcast 237, 3) := dk_192 0 237 (dk_at dksX3_sample_2 5 rfl rfl)
theorem dX3_sample_51 : decode cX3_sample 51 = .ok (.getfield 248, 3) := dk_180 0 248 (dk_at dksX3_sample_2 8 rfl rfl)
theorem dX3_sample_54 : decode cX3_sample 54 = .ok (.iload_n 2, 1) := dk_28 (dk_at dksX3_sample_2 11 rfl rfl)
theorem dX3_sample_55 : decode cX3_sample 55 = .ok (.if_icmp .ge 7, 3) := dk_162 0 7 (dk_at dksX3_sample_2 12 rfl rfl)
theorem dX3_sample_58 : decode cX3_sample 58 = .ok (.iconst 1, 1) := dk_4 (dk_at dksX3_sample_2 15 rfl rfl)
theorem dX3_sample_59 : decode cX3_sample 59 = .ok (.goto 4, 3) := dk_167 0 4 (dk_at dksX3_sample_2 16 rfl rfl)
theorem dX3_sample_62 : decode cX3_sample 62 = .ok (.iconst 0, 1) := dk_3 (dk_at dksX3_sample_2 19 rfl rfl)
theorem dX3_sample_63 : decode cX3_sample 63 = .ok (.iconst 3, 1) := dk_6 (dk_at dksX3_sample_2 20 rfl rfl)
theorem dX3_sample_64 : decode cX3_sample 64 = .ok (.invokevirtual 74, 3) := dk_182 0 74 (dk_at dksX3_sample_2 21 rfl rfl)
theorem dX3_sample_67 : decode cX3_sample 67 = .ok (.ifCond .eq 5, 3) := dk_153 0 5 (dk_at dksX3_sample_3 0 rfl rfl)
theorem dX3_sample_70 : decode cX3_sample 70 = .ok (.iconst (-1), 1) := dk_2 (dk_at dksX3_sample_3 3 rfl rfl)
theorem dX3_sample_71 : decode cX3_sample 71 = .ok (.ireturn, 1) := dk_172 (dk_at dksX3_sample_3 4 rfl rfl)
theorem dX3_sample_72 : decode cX3_sample 72 = .ok (.aload_n 0, 1) := dk_42 (dk_at dksX3_sample_3 5 rfl rfl)
theorem dX3_sample_73 : decode cX3_sample 73 = .ok (.getfield 57, 3) := dk_180 0 57 (dk_at dksX3_sample_3 6 rfl rfl)
theorem dX3_sample_76 : decode cX3_sample 76 = .ok (.iload_n 1, 1) := dk_27 (dk_at dksX3_sample_3 9 rfl rfl)
theorem dX3_sample_77 : decode cX3_sample 77 = .ok (.invokeinterface 114 2, 5) := by decide +kernel
theorem dX3_sample_82 : decode cX3_sample 82 = .ok (.checkcast 237, 3) := dk_192 0 237 (dk_at dksX3_sample_3 15 rfl rfl)
theorem dX3_sample_85 : decode cX3_sample 85 = .ok (.astore_n 3, 1) := dk_78 (dk_at dksX3_sample_3 18 rfl rfl)
theorem dX3_sample_86 : decode cX3_sample 86 = .ok (.iconst 0, 1) := dk_3 (dk_at dksX3_sample_3 19 rfl rfl)
theorem dX3_sample_87 : decode cX3_sample 87 = .ok (.istore 4, 2) := dk_54 4 (dk_at dksX3_sample_3 20 rfl rfl)
theorem dX3_sample_89 : decode cX3_sample 89 = .ok (.iconst 0, 1) := dk_3 (dk_at dksX3_sample_3 22 rfl rfl)
theorem dX3_sample_90 : decode cX3_sample 90 = .ok (.istore 5, 2) := dk_54 5 (dk_at dksX3_sample_4 0 rfl rfl)
theorem dX3_sample_92 : decode cX3_sample 92 = .ok (.iload 5, 2) := dk_21 5 (dk_at dksX3_sample_4 2 rfl rfl)
theorem dX3_sample_94 : decode cX3_sample 94 = .ok (.iload_n 2, 1) := dk_28 (dk_at dksX3_sample_4 4 rfl rfl)
theorem dX3_sample_95 : decode cX3_sample 95 = .ok (.if_icmp .ge 66, 3) := dk_162 0 66 (dk_at dksX3_sample_4 5 rfl rfl)
theorem dX3_sample_98 : decode cX3_sample 98 = .ok (.aload_n 0, 1) := dk_42 (dk_at dksX3_sample_4 8 rfl rfl)
theorem dX3_sample_99 : decode cX3_sample 99 = .ok (.aload_n 0, 1) := dk_42 (dk_at dksX3_sample_4 9 rfl rfl)
theorem dX3_sample_100 : decode cX3_sample 100 = .ok (.getfield 66, 3) := dk_180 0 66 (dk_at dksX3_sample_4 10 rfl rfl)
theorem dX3_sample_103 : decode cX3_sample 103 = .ok (.i2l, 1) := dk_133 (dk_at dksX3_sample_4 13 rfl rfl)
theorem dX3_sample_104 : decode cX3_sample 104 = .ok (.ldc2_w 273, 3) := dk_20 1 17 (dk_at dksX3_sample_4 14 rfl rfl)
theorem dX3_sample_107 : decode cX3_sample 107 = .ok (.lmul, 1) := dk_105 (dk_at dksX3_sample_4 17 rfl rfl)
theorem dX3_sample_108 : decode cX3_sample 108 = .ok (.ldc2_w 275, 3) := dk_20 1 19 (dk_at dksX3_sample_4 18 rfl rfl)
theorem dX3_sample_111 : decode cX3_sample 111 = .ok (.lrem, 1) := dk_113 (dk_at dksX3_sample_4 21 rfl rfl)
theorem dX3_sample_112 : decode cX3_sample 112 = .ok (.l2i, 1) := dk_136 (dk_at dksX3_sample_4 22 rfl rfl)
theorem dX3_sample_113 : decode cX3_sample 113 = .ok (.putfield 66, 3) := dk_181 0 66 (dk_at dksX3_sample_5 0 rfl rfl)
theorem dX3_sample_116 : decode cX3_sample 116 = .ok (.aload_n 0, 1) := dk_42 (dk_at dksX3_sample_5 3 rfl rfl)
theorem dX3_sample_117 : decode cX3_sample 117 = .ok (.getfield 66, 3) := dk_180 0 66 (dk_at dksX3_sample_5 4 rfl rfl)
theorem dX3_sample_120 : decode cX3_sample 120 = .ok (.aload_n 3, 1) := dk_45 (dk_at dksX3_sample_5 7 rfl rfl)
theorem dX3_sample_121 : decode cX3_sample 121 = .ok (.getfield 248, 3) := dk_180 0 248 (dk_at dksX3_sample_5 8 rfl rfl)
theorem dX3_sample_124 : decode cX3_sample 124 = .ok (.irem, 1) := dk_112 (dk_at dksX3_sample_5 11 rfl rfl)
theorem dX3_sample_125 : decode cX3_sample 125 = .ok (.aload_n 3, 1) := dk_45 (dk_at dksX3_sample_5 12 rfl rfl)
theorem dX3_sample_126 : decode cX3_sample 126 = .ok (.getfield 270, 3) := dk_180 1 14 (dk_at dksX3_sample_5 13 rfl rfl)
theorem dX3_sample_129 : decode cX3_sample 129 = .ok (.if_icmp .ge 16, 3) := dk_162 0 16 (dk_at dksX3_sample_5 16 rfl rfl)
theorem dX3_sample_132 : decode cX3_sample 132 = .ok (.aload_n 3, 1) := dk_45 (dk_at dksX3_sample_5 19 rfl rfl)
theorem dX3_sample_133 : decode cX3_sample 133 = .ok (.dup, 1) := dk_89 (dk_at dksX3_sample_5 20 rfl rfl)
theorem dX3_sample_134 : decode cX3_sample 134 = .ok (.getfield 270, 3) := dk_180 1 14 (dk_at dksX3_sample_5 21 rfl rfl)
theorem dX3_sample_137 : decode cX3_sample 137 = .ok (.iconst 1, 1) := dk_4 (dk_at dksX3_sample_6 0 rfl rfl)
theorem dX3_sample_138 : decode cX3_sample 138 = .ok (.isub, 1) := dk_100 (dk_at dksX3_sample_6 1 rfl rfl)
theorem dX3_sample_139 : decode cX3_sample 139 = .ok (.putfield 270, 3) := dk_181 1 14 (dk_at dksX3_sample_6 2 rfl rfl)
theorem dX3_sample_142 : decode cX3_sample 142 = .ok (.iinc 4 1, 3) := dk_132 4 1 (dk_at dksX3_sample_6 5 rfl rfl)
theorem dX3_sample_145 : decode cX3_sample 145 = .ok (.aload_n 3, 1) := dk_45 (dk_at dksX3_sample_6 8 rfl rfl)
theorem dX3_sample_146 : decode cX3_sample 146 = .ok (.dup, 1) := dk_89 (dk_at dksX3_sample_6 9 rfl rfl)
theorem dX3_sample_147 : decode cX3_sample 147 = .ok (.getfield 248, 3) := dk_180 0 248 (dk_at dksX3_sample_6 10 rfl rfl)
theorem dX3_sample_150 : decode cX3_sample 150 = .ok (.iconst 1, 1) := dk_4 (dk_at dksX3_sample_6 13 rfl rfl)
theorem dX3_sample_151 : decode cX3_sample 151 = .ok (.isub, 1) := dk_100 (dk_at dksX3_sample_6 14 rfl rfl)
theorem dX3_sample_152 : decode cX3_sample 152 = .ok (.putfield 248, 3) := dk_181 0 248 (dk_at dksX3_sample_6 15 rfl rfl)
theorem dX3_sample_155 : decode cX3_sample 155 = .ok (.iinc 5 1, 3) := dk_132 5 1 (dk_at dksX3_sample_6 18 rfl rfl)
theorem dX3_sample_158 : decode cX3_sample 158 = .ok (.goto (-66), 3) := dk_167 255 190 (dk_at dksX3_sample_6 21 rfl rfl)
theorem dX3_sample_161 : decode cX3_sample 161 = .ok (.iload 4, 2) := dk_21 4 (dk_at dksX3_sample_7 0 rfl rfl)
theorem dX3_sample_163 : decode cX3_sample 163 = .ok (.ireturn, 1) := dk_172 (dk_at dksX3_sample_7 2 rfl rfl)
abbrev cX3_seed : ByteArray := prog_15_method_44_code
def yX3_seed : MethodName := ⟨RX3, "seed", "(I)I"⟩
def dkwX3_seed_1 : List UInt8 := [182, 0, 74, 153, 0, 5, 2, 172, 42, 180, 0, 66, 61, 42, 27, 181, 0, 66, 28, 172]
abbrev dktX3_seed_1 : List UInt8 := dkwX3_seed_1 ++ []
def dkwX3_seed_0 : List UInt8 := [42, 182, 0, 69, 42, 27, 133, 10, 20, 1, 21, 184, 0, 13, 154, 0, 7, 4, 167, 0, 4, 3, 4]
abbrev dktX3_seed_0 : List UInt8 := dkwX3_seed_0 ++ dktX3_seed_1
theorem dksX3_seed_0 : cX3_seed.data.toList.drop 0 = dktX3_seed_0 := by decide +kernel
theorem dksX3_seed_1 : cX3_seed.data.toList.drop 23 = dktX3_seed_1 := dk_seg dksX3_seed_0 23 rfl rfl
theorem dX3_seed_0 : decode cX3_seed 0 = .ok (.aload_n 0, 1) := dk_42 (dk_at dksX3_seed_0 0 rfl rfl)
theorem dX3_seed_1 : decode cX3_seed 1 = .ok (.invokevirtual 69, 3) := dk_182 0 69 (dk_at dksX3_seed_0 1 rfl rfl)
theorem dX3_seed_4 : decode cX3_seed 4 = .ok (.aload_n 0, 1) := dk_42 (dk_at dksX3_seed_0 4 rfl rfl)
theorem dX3_seed_5 : decode cX3_seed 5 = .ok (.iload_n 1, 1) := dk_27 (dk_at dksX3_seed_0 5 rfl rfl)
theorem dX3_seed_6 : decode cX3_seed 6 = .ok (.i2l, 1) := dk_133 (dk_at dksX3_seed_0 6 rfl rfl)
theorem dX3_seed_7 : decode cX3_seed 7 = .ok (.lconst 1, 1) := dk_10 (dk_at dksX3_seed_0 7 rfl rfl)
theorem dX3_seed_8 : decode cX3_seed 8 = .ok (.ldc2_w 277, 3) := dk_20 1 21 (dk_at dksX3_seed_0 8 rfl rfl)
theorem dX3_seed_11 : decode cX3_seed 11 = .ok (.invokestatic 13, 3) := dk_184 0 13 (dk_at dksX3_seed_0 11 rfl rfl)
theorem dX3_seed_14 : decode cX3_seed 14 = .ok (.ifCond .ne 7, 3) := dk_154 0 7 (dk_at dksX3_seed_0 14 rfl rfl)
theorem dX3_seed_17 : decode cX3_seed 17 = .ok (.iconst 1, 1) := dk_4 (dk_at dksX3_seed_0 17 rfl rfl)
theorem dX3_seed_18 : decode cX3_seed 18 = .ok (.goto 4, 3) := dk_167 0 4 (dk_at dksX3_seed_0 18 rfl rfl)
theorem dX3_seed_21 : decode cX3_seed 21 = .ok (.iconst 0, 1) := dk_3 (dk_at dksX3_seed_0 21 rfl rfl)
theorem dX3_seed_22 : decode cX3_seed 22 = .ok (.iconst 1, 1) := dk_4 (dk_at dksX3_seed_0 22 rfl rfl)
theorem dX3_seed_23 : decode cX3_seed 23 = .ok (.invokevirtual 74, 3) := dk_182 0 74 (dk_at dksX3_seed_1 0 rfl rfl)
theorem dX3_seed_26 : decode cX3_seed 26 = .ok (.ifCond .eq 5, 3) := dk_153 0 5 (dk_at dksX3_seed_1 3 rfl rfl)
theorem dX3_seed_29 : decode cX3_seed 29 = .ok (.iconst (-1), 1) := dk_2 (dk_at dksX3_seed_1 6 rfl rfl)
theorem dX3_seed_30 : decode cX3_seed 30 = .ok (.ireturn, 1) := dk_172 (dk_at dksX3_seed_1 7 rfl rfl)
theorem dX3_seed_31 : decode cX3_seed 31 = .ok (.aload_n 0, 1) := dk_42 (dk_at dksX3_seed_1 8 rfl rfl)
theorem dX3_seed_32 : decode cX3_seed 32 = .ok (.getfield 66, 3) := dk_180 0 66 (dk_at dksX3_seed_1 9 rfl rfl)
theorem dX3_seed_35 : decode cX3_seed 35 = .ok (.istore_n 2, 1) := dk_61 (dk_at dksX3_seed_1 12 rfl rfl)
theorem dX3_seed_36 : decode cX3_seed 36 = .ok (.aload_n 0, 1) := dk_42 (dk_at dksX3_seed_1 13 rfl rfl)
theorem dX3_seed_37 : decode cX3_seed 37 = .ok (.iload_n 1, 1) := dk_27 (dk_at dksX3_seed_1 14 rfl rfl)
theorem dX3_seed_38 : decode cX3_seed 38 = .ok (.putfield 66, 3) := dk_181 0 66 (dk_at dksX3_seed_1 15 rfl rfl)
theorem dX3_seed_41 : decode cX3_seed 41 = .ok (.iload_n 2, 1) := dk_28 (dk_at dksX3_seed_1 18 rfl rfl)
theorem dX3_seed_42 : decode cX3_seed 42 = .ok (.ireturn, 1) := dk_172 (dk_at dksX3_seed_1 19 rfl rfl)
abbrev cX3_gross : ByteArray := prog_15_method_45_code
def yX3_gross : MethodName := ⟨RX3, "gross", "(I)I"⟩
def dkwX3_gross_4 : List UInt8 := [100, 172]
abbrev dktX3_gross_4 : List UInt8 := dkwX3_gross_4 ++ []
def dkwX3_gross_3 : List UInt8 := [181, 1, 28, 42, 180, 0, 60, 44, 185, 0, 107, 2, 0, 87, 42, 180, 0, 60, 185, 0, 7, 1, 0, 4]
abbrev dktX3_gross_3 : List UInt8 := dkwX3_gross_3 ++ dktX3_gross_4
def dkwX3_gross_2 : List UInt8 := [167, 0, 4, 3, 5, 182, 0, 74, 153, 0, 5, 2, 172, 187, 1, 25, 89, 183, 1, 27, 77, 44, 27]
abbrev dktX3_gross_2 : List UInt8 := dkwX3_gross_2 ++ dktX3_gross_3
def dkwX3_gross_1 : List UInt8 := [182, 0, 74, 154, 0, 30, 42, 42, 180, 0, 60, 185, 0, 7, 1, 0, 16, 30, 160, 0, 7, 4]
abbrev dktX3_gross_1 : List UInt8 := dkwX3_gross_1 ++ dktX3_gross_2
def dkwX3_gross_0 : List UInt8 := [42, 182, 0, 69, 42, 27, 133, 9, 20, 1, 23, 184, 0, 13, 154, 0, 7, 4, 167, 0, 4, 3, 4]
abbrev dktX3_gross_0 : List UInt8 := dkwX3_gross_0 ++ dktX3_gross_1
theorem dksX3_gross_0 : cX3_gross.data.toList.drop 0 = dktX3_gross_0 := by decide +kernel
theorem dksX3_gross_1 : cX3_gross.data.toList.drop 23 = dktX3_gross_1 := dk_seg dksX3_gross_0 23 rfl rfl
theorem dksX3_gross_2 : cX3_gross.data.toList.drop 45 = dktX3_gross_2 := dk_seg dksX3_gross_1 22 rfl rfl
theorem dksX3_gross_3 : cX3_gross.data.toList.drop 68 = dktX3_gross_3 := dk_seg dksX3_gross_2 23 rfl rfl
theorem dksX3_gross_4 : cX3_gross.data.toList.drop 92 = dktX3_gross_4 := dk_seg dksX3_gross_3 24 rfl rfl
theorem dX3_gross_0 : decode cX3_gross 0 = .ok (.aload_n 0, 1) := dk_42 (dk_at dksX3_gross_0 0 rfl rfl)
theorem dX3_gross_1 : decode cX3_gross 1 = .ok (.invokevirtual 69, 3) := dk_182 0 69 (dk_at dksX3_gross_0 1 rfl rfl)
theorem dX3_gross_4 : decode cX3_gross 4 = .ok (.aload_n 0, 1) := dk_42 (dk_at dksX3_gross_0 4 rfl rfl)
theorem dX3_gross_5 : decode cX3_gross 5 = .ok (.iload_n 1, 1) := dk_27 (dk_at dksX3_gross_0 5 rfl rfl)
theorem dX3_gross_6 : decode cX3_gross 6 = .ok (.i2l, 1) := dk_133 (dk_at dksX3_gross_0 6 rfl rfl)
theorem dX3_gross_7 : decode cX3_gross 7 = .ok (.lconst 0, 1) := dk_9 (dk_at dksX3_gross_0 7 rfl rfl)
theorem dX3_gross_8 : decode cX3_gross 8 = .ok (.ldc2_w 279, 3) := dk_20 1 23 (dk_at dksX3_gross_0 8 rfl rfl)
theorem dX3_gross_11 : decode cX3_gross 11 = .ok (.invokestatic 13, 3) := dk_184 0 13 (dk_at dksX3_gross_0 11 rfl rfl)
theorem dX3_gross_14 : decode cX3_gross 14 = .ok (.ifCond .ne 7, 3) := dk_154 0 7 (dk_at dksX3_gross_0 14 rfl rfl)
theorem dX3_gross_17 : decode cX3_gross 17 = .ok (.iconst 1, 1) := dk_4 (dk_at dksX3_gross_0 17 rfl rfl)
theorem dX3_gross_18 : decode cX3_gross 18 = .ok (.goto 4, 3) := dk_167 0 4 (dk_at dksX3_gross_0 18 rfl rfl)
theorem dX3_gross_21 : decode cX3_gross 21 = .ok (.iconst 0, 1) := dk_3 (dk_at dksX3_gross_0 21 rfl rfl)
theorem dX3_gross_22 : decode cX3_gross 22 = .ok (.iconst 1, 1) := dk_4 (dk_at dksX3_gross_0 22 rfl rfl)
theorem dX3_gross_23 : decode cX3_gross 23 = .ok (.invokevirtual 74, 3) := dk_182 0 74 (dk_at dksX3_gross_1 0 rfl rfl)
theorem dX3_gross_26 : decode cX3_gross 26 = .ok (.ifCond .ne 30, 3) := dk_154 0 30 (dk_at dksX3_gross_1 3 rfl rfl)
theorem dX3_gross_29 : decode cX3_gross 29 = .ok (.aload_n 0, 1) := dk_42 (dk_at dksX3_gross_1 6 rfl rfl)
theorem dX3_gross_30 : decode cX3_gross 30 = .ok (.aload_n 0, 1) := dk_42 (dk_at dksX3_gross_1 7 rfl rfl)
theorem dX3_gross_31 : decode cX3_gross 31 = .ok (.getfield 60, 3) := dk_180 0 60 (dk_at dksX3_gross_1 8 rfl rfl)
theorem dX3_gross_34 : decode cX3_gross 34 = .ok (.invokeinterface 7 1, 5) := by decide +kernel
theorem dX3_gross_39 : decode cX3_gross 39 = .ok (.bipush 30, 2) := dk_16 30 (dk_at dksX3_gross_1 16 rfl rfl)
theorem dX3_gross_41 : decode cX3_gross 41 = .ok (.if_icmp .ne 7, 3) := dk_160 0 7 (dk_at dksX3_gross_1 18 rfl rfl)
theorem dX3_gross_44 : decode cX3_gross 44 = .ok (.iconst 1, 1) := dk_4 (dk_at dksX3_gross_1 21 rfl rfl)
theorem dX3_gross_45 : decode cX3_gross 45 = .ok (.goto 4, 3) := dk_167 0 4 (dk_at dksX3_gross_2 0 rfl rfl)
theorem dX3_gross_48 : decode cX3_gross 48 = .ok (.iconst 0, 1) := dk_3 (dk_at dksX3_gross_2 3 rfl rfl)
theorem dX3_gross_49 : decode cX3_gross 49 = .ok (.iconst 2, 1) := dk_5 (dk_at dksX3_gross_2 4 rfl rfl)
theorem dX3_gross_50 : decode cX3_gross 50 = .ok (.invokevirtual 74, 3) := dk_182 0 74 (dk_at dksX3_gross_2 5 rfl rfl)
theorem dX3_gross_53 : decode cX3_gross 53 = .ok (.ifCond .eq 5, 3) := dk_153 0 5 (dk_at dksX3_gross_2 8 rfl rfl)
theorem dX3_gross_56 : decode cX3_gross 56 = .ok (.iconst (-1), 1) := dk_2 (dk_at dksX3_gross_2 11 rfl rfl)
theorem dX3_gross_57 : decode cX3_gross 57 = .ok (.ireturn, 1) := dk_172 (dk_at dksX3_gross_2 12 rfl rfl)
theorem dX3_gross_58 : decode cX3_gross 58 = .ok (.new 281, 3) := dk_187 1 25 (dk_at dksX3_gross_2 13 rfl rfl)
theorem dX3_gross_61 : decode cX3_gross 61 = .ok (.dup, 1) := dk_89 (dk_at dksX3_gross_2 16 rfl rfl)
theorem dX3_gross_62 : decode cX3_gross 62 = .ok (.invokespecial 283, 3) := dk_183 1 27 (dk_at dksX3_gross_2 17 rfl rfl)
theorem dX3_gross_65 : decode cX3_gross 65 = .ok (.astore_n 2, 1) := dk_77 (dk_at dksX3_gross_2 20 rfl rfl)
theorem dX3_gross_66 : decode cX3_gross 66 = .ok (.aload_n 2, 1) := dk_44 (dk_at dksX3_gross_2 21 rfl rfl)
theorem dX3_gross_67 : decode cX3_gross 67 = .ok (.iload_n 1, 1) := dk_27 (dk_at dksX3_gross_2 22 rfl rfl)
theorem dX3_gross_68 : decode cX3_gross 68 = .ok (.putfield 284, 3) := dk_181 1 28 (dk_at dksX3_gross_3 0 rfl rfl)
theorem dX3_gross_71 : decode cX3_gross 71 = .ok (.aload_n 0, 1) := dk_42 (dk_at dksX3_gross_3 3 rfl rfl)
theorem dX3_gross_72 : decode cX3_gross 72 = .ok (.getfield 60, 3) := dk_180 0 60 (dk_at dksX3_gross_3 4 rfl rfl)
theorem dX3_gross_75 : decode cX3_gross 75 = .ok (.aload_n 2, 1) := dk_44 (dk_at dksX3_gross_3 7 rfl rfl)
theorem dX3_gross_76 : decode cX3_gross 76 = .ok (.invokeinterface 107 2, 5) := by decide +kernel
theorem dX3_gross_81 : decode cX3_gross 81 = .ok (.pop, 1) := dk_87 (dk_at dksX3_gross_3 13 rfl rfl)
theorem dX3_gross_82 : decode cX3_gross 82 = .ok (.aload_n 0, 1) := dk_42 (dk_at dksX3_gross_3 14 rfl rfl)
theorem dX3_gross_83 : decode cX3_gross 83 = .ok (.getfield 60, 3) := dk_180 0 60 (dk_at dksX3_gross_3 15 rfl rfl)
theorem dX3_gross_86 : decode cX3_gross 86 = .ok (.invokeinterface 7 1, 5) := by decide +kernel
theorem dX3_gross_91 : decode cX3_gross 91 = .ok (.iconst 1, 1) := dk_4 (dk_at dksX3_gross_3 23 rfl rfl)
theorem dX3_gross_92 : decode cX3_gross 92 = .ok (.isub, 1) := dk_100 (dk_at dksX3_gross_4 0 rfl rfl)
theorem dX3_gross_93 : decode cX3_gross 93 = .ok (.ireturn, 1) := dk_172 (dk_at dksX3_gross_4 1 rfl rfl)
abbrev cX3_pack : ByteArray := prog_15_method_46_code
def yX3_pack : MethodName := ⟨RX3, "pack", "(III)I"⟩
def dkwX3_pack_10 : List UInt8 := [185, 0, 107, 2, 0, 87, 25, 4, 182, 1, 33, 172]
abbrev dktX3_pack_10 : List UInt8 := dkwX3_pack_10 ++ []
def dkwX3_pack_9 : List UInt8 := [25, 4, 180, 1, 38, 6, 188, 10, 89, 3, 28, 79, 89, 4, 29, 79, 89, 5, 21, 6, 79]
abbrev dktX3_pack_9 : List UInt8 := dkwX3_pack_9 ++ dktX3_pack_10
def dkwX3_pack_8 : List UInt8 := [25, 5, 89, 180, 0, 248, 29, 100, 181, 0, 248, 25, 5, 89, 180, 1, 14, 21, 6, 100, 181, 1, 14]
abbrev dktX3_pack_8 : List UInt8 := dkwX3_pack_8 ++ dktX3_pack_9
def dkwX3_pack_7 : List UInt8 := [153, 0, 5, 2, 172, 3, 29, 25, 5, 180, 0, 248, 25, 5, 180, 1, 14, 100, 100, 184, 0, 125, 54, 6]
abbrev dktX3_pack_7 : List UInt8 := dkwX3_pack_7 ++ dktX3_pack_8
def dkwX3_pack_6 : List UInt8 := [17, 0, 144, 163, 0, 11, 25, 4, 180, 1, 35, 153, 0, 7, 4, 167, 0, 4, 3, 6, 182, 0, 74]
abbrev dktX3_pack_6 : List UInt8 := dkwX3_pack_6 ++ dktX3_pack_7
def dkwX3_pack_5 : List UInt8 := [180, 0, 252, 161, 0, 33, 25, 5, 180, 0, 248, 29, 161, 0, 24, 25, 4, 182, 1, 33, 29, 96]
abbrev dktX3_pack_5 : List UInt8 := dkwX3_pack_5 ++ dktX3_pack_6
def dkwX3_pack_4 : List UInt8 := [58, 5, 42, 25, 5, 180, 1, 6, 25, 4, 180, 1, 28, 160, 0, 45, 42, 180, 0, 78, 25, 5]
abbrev dktX3_pack_4 : List UInt8 := dkwX3_pack_4 ++ dktX3_pack_5
def dkwX3_pack_3 : List UInt8 := [27, 185, 0, 114, 2, 0, 192, 1, 25, 58, 4, 42, 180, 0, 57, 28, 185, 0, 114, 2, 0, 192, 0, 237]
abbrev dktX3_pack_3 : List UInt8 := dkwX3_pack_3 ++ dktX3_pack_4
def dkwX3_pack_2 : List UInt8 := [184, 0, 13, 154, 0, 7, 4, 167, 0, 4, 3, 5, 182, 0, 74, 153, 0, 5, 2, 172, 42, 180, 0, 60]
abbrev dktX3_pack_2 : List UInt8 := dkwX3_pack_2 ++ dktX3_pack_3
def dkwX3_pack_1 : List UInt8 := [154, 0, 7, 4, 167, 0, 4, 3, 4, 182, 0, 74, 154, 0, 28, 42, 29, 133, 10, 20, 1, 31]
abbrev dktX3_pack_1 : List UInt8 := dkwX3_pack_1 ++ dktX3_pack_2
def dkwX3_pack_0 : List UInt8 := [42, 182, 0, 69, 42, 42, 180, 0, 60, 27, 184, 0, 97, 153, 0, 14, 42, 180, 0, 57, 28, 184, 0, 97]
abbrev dktX3_pack_0 : List UInt8 := dkwX3_pack_0 ++ dktX3_pack_1
theorem dksX3_pack_0 : cX3_pack.data.toList.drop 0 = dktX3_pack_0 := by decide +kernel
theorem dksX3_pack_1 : cX3_pack.data.toList.drop 24 = dktX3_pack_1 := dk_seg dksX3_pack_0 24 rfl rfl
theorem dksX3_pack_2 : cX3_pack.data.toList.drop 46 = dktX3_pack_2 := dk_seg dksX3_pack_1 22 rfl rfl
theorem dksX3_pack_3 : cX3_pack.data.toList.drop 70 = dktX3_pack_3 := dk_seg dksX3_pack_2 24 rfl rfl
theorem dksX3_pack_4 : cX3_pack.data.toList.drop 94 = dktX3_pack_4 := dk_seg dksX3_pack_3 24 rfl rfl
theorem dksX3_pack_5 : cX3_pack.data.toList.drop 116 = dktX3_pack_5 := dk_seg dksX3_pack_4 22 rfl rfl
theorem dksX3_pack_6 : cX3_pack.data.toList.drop 138 = dktX3_pack_6 := dk_seg dksX3_pack_5 22 rfl rfl
theorem dksX3_pack_7 : cX3_pack.data.toList.drop 161 = dktX3_pack_7 := dk_seg dksX3_pack_6 23 rfl rfl
theorem dksX3_pack_8 : cX3_pack.data.toList.drop 185 = dktX3_pack_8 := dk_seg dksX3_pack_7 24 rfl rfl
theorem dksX3_pack_9 : cX3_pack.data.toList.drop 208 = dktX3_pack_9 := dk_seg dksX3_pack_8 23 rfl rfl
theorem dksX3_pack_10 : cX3_pack.data.toList.drop 229 = dktX3_pack_10 := dk_seg dksX3_pack_9 21 rfl rfl
theorem dX3_pack_0 : decode cX3_pack 0 = .ok (.aload_n 0, 1) := dk_42 (dk_at dksX3_pack_0 0 rfl rfl)
theorem dX3_pack_1 : decode cX3_pack 1 = .ok (.invokevirtual 69, 3) := dk_182 0 69 (dk_at dksX3_pack_0 1 rfl rfl)
theorem dX3_pack_4 : decode cX3_pack 4 = .ok (.aload_n 0, 1) := dk_42 (dk_at dksX3_pack_0 4 rfl rfl)
theorem dX3_pack_5 : decode cX3_pack 5 = .ok (.aload_n 0, 1) := dk_42 (dk_at dksX3_pack_0 5 rfl rfl)
theorem dX3_pack_6 : decode cX3_pack 6 = .ok (.getfield 60, 3) := dk_180 0 60 (dk_at dksX3_pack_0 6 rfl rfl)
theorem dX3_pack_9 : decode cX3_pack 9 = .ok (.iload_n 1, 1) := dk_27 (dk_at dksX3_pack_0 9 rfl rfl)
theorem dX3_pack_10 : decode cX3_pack 10 = .ok (.invokestatic 97, 3) := dk_184 0 97 (dk_at dksX3_pack_0 10 rfl rfl)
theorem dX3_pack_13 : decode cX3_pack 13 = .ok (.ifCond .eq 14, 3) := dk_153 0 14 (dk_at dksX3_pack_0 13 rfl rfl)
theorem dX3_pack_16 : decode cX3_pack 16 = .ok (.aload_n 0, 1) := dk_42 (dk_at dksX3_pack_0 16 rfl rfl)
theorem dX3_pack_17 : decode cX3_pack 17 = .ok (.getfield 57, 3) := dk_180 0 57 (dk_at dksX3_pack_0 17 rfl rfl)
theorem dX3_pack_20 : decode cX3_pack 20 = .ok (.iload_n 2, 1) := dk_28 (dk_at dksX3_pack_0 20 rfl rfl)
theorem dX3_pack_21 : decode cX3_pack 21 = .ok (.invokestatic 97, 3) := dk_184 0 97 (dk_at dksX3_pack_0 21 rfl rfl)
theorem dX3_pack_24 : decode cX3_pack 24 = .ok (.ifCond .ne 7, 3) := dk_154 0 7 (dk_at dksX3_pack_1 0 rfl rfl)
theorem dX3_pack_27 : decode cX3_pack 27 = .ok (.iconst 1, 1) := dk_4 (dk_at dksX3_pack_1 3 rfl rfl)
theorem dX3_pack_28 : decode cX3_pack 28 = .ok (.goto 4, 3) := dk_167 0 4 (dk_at dksX3_pack_1 4 rfl rfl)
theorem dX3_pack_31 : decode cX3_pack 31 = .ok (.iconst 0, 1) := dk_3 (dk_at dksX3_pack_1 7 rfl rfl)
theorem dX3_pack_32 : decode cX3_pack 32 = .ok (.iconst 1, 1) := dk_4 (dk_at dksX3_pack_1 8 rfl rfl)
theorem dX3_pack_33 : decode cX3_pack 33 = .ok (.invokevirtual 74, 3) := dk_182 0 74 (dk_at dksX3_pack_1 9 rfl rfl)
theorem dX3_pack_36 : decode cX3_pack 36 = .ok (.ifCond .ne 28, 3) := dk_154 0 28 (dk_at dksX3_pack_1 12 rfl rfl)
theorem dX3_pack_39 : decode cX3_pack 39 = .ok (.aload_n 0, 1) := dk_42 (dk_at dksX3_pack_1 15 rfl rfl)
theorem dX3_pack_40 : decode cX3_pack 40 = .ok (.iload_n 3, 1) := dk_29 (dk_at dksX3_pack_1 16 rfl rfl)
theorem dX3_pack_41 : decode cX3_pack 41 = .ok (.i2l, 1) := dk_133 (dk_at dksX3_pack_1 17 rfl rfl)
theorem dX3_pack_42 : decode cX3_pack 42 = .ok (.lconst 1, 1) := dk_10 (dk_at dksX3_pack_1 18 rfl rfl)
theorem dX3_pack_43 : decode cX3_pack 43 = .ok (.ldc2_w 287, 3) := dk_20 1 31 (dk_at dksX3_pack_1 19 rfl rfl)
theorem dX3_pack_46 : decode cX3_pack 46 = .ok (.invokestatic 13, 3) := dk_184 0 13 (dk_at dksX3_pack_2 0 rfl rfl)
theorem dX3_pack_49 : decode cX3_pack 49 = .ok (.ifCond .ne 7, 3) := dk_154 0 7 (dk_at dksX3_pack_2 3 rfl rfl)
theorem dX3_pack_52 : decode cX3_pack 52 = .ok (.iconst 1, 1) := dk_4 (dk_at dksX3_pack_2 6 rfl rfl)
theorem dX3_pack_53 : decode cX3_pack 53 = .ok (.goto 4, 3) := dk_167 0 4 (dk_at dksX3_pack_2 7 rfl rfl)
theorem dX3_pack_56 : decode cX3_pack 56 = .ok (.iconst 0, 1) := dk_3 (dk_at dksX3_pack_2 10 rfl rfl)
theorem dX3_pack_57 : decode cX3_pack 57 = .ok (.iconst 2, 1) := dk_5 (dk_at dksX3_pack_2 11 rfl rfl)
theorem dX3_pack_58 : decode cX3_pack 58 = .ok (.invokevirtual 74, 3) := dk_182 0 74 (dk_at dksX3_pack_2 12 rfl rfl)
theorem dX3_pack_61 : decode cX3_pack 61 = .ok (.ifCond .eq 5, 3) := dk_153 0 5 (dk_at dksX3_pack_2 15 rfl rfl)
theorem dX3_pack_64 : decode cX3_pack 64 = .ok (.iconst (-1), 1) := dk_2 (dk_at dksX3_pack_2 18 rfl rfl)
theorem dX3_pack_65 : decode cX3_pack 65 = .ok (.ireturn, 1) := dk_172 (dk_at dksX3_pack_2 19 rfl rfl)
theorem dX3_pack_66 : decode cX3_pack 66 = .ok (.aload_n 0, 1) := dk_42 (dk_at dksX3_pack_2 20 rfl rfl)
theorem dX3_pack_67 : decode cX3_pack 67 = .ok (.getfield 60, 3) := dk_180 0 60 (dk_at dksX3_pack_2 21 rfl rfl)
theorem dX3_pack_70 : decode cX3_pack 70 = .ok (.iload_n 1, 1) := dk_27 (dk_at dksX3_pack_3 0 rfl rfl)
theorem dX3_pack_71 : decode cX3_pack 71 = .ok (.invokeinterface 114 2, 5) := by decide +kernel
theorem dX3_pack_76 : decode cX3_pack 76 = .ok (.checkcast 281, 3) := dk_192 1 25 (dk_at dksX3_pack_3 6 rfl rfl)
theorem dX3_pack_79 : decode cX3_pack 79 = .ok (.astore 4, 2) := dk_58 4 (dk_at dksX3_pack_3 9 rfl rfl)
theorem dX3_pack_81 : decode cX3_pack 81 = .ok (.aload_n 0, 1) := dk_42 (dk_at dksX3_pack_3 11 rfl rfl)
theorem dX3_pack_82 : decode cX3_pack 82 = .ok (.getfield 57, 3) := dk_180 0 57 (dk_at dksX3_pack_3 12 rfl rfl)
theorem dX3_pack_85 : decode cX3_pack 85 = .ok (.iload_n 2, 1) := dk_28 (dk_at dksX3_pack_3 15 rfl rfl)
theorem dX3_pack_86 : decode cX3_pack 86 = .ok (.invokeinterface 114 2, 5) := by decide +kernel
theorem dX3_pack_91 : decode cX3_pack 91 = .ok (.checkcast 237, 3) := dk_192 0 237 (dk_at dksX3_pack_3 21 rfl rfl)
theorem dX3_pack_94 : decode cX3_pack 94 = .ok (.astore 5, 2) := dk_58 5 (dk_at dksX3_pack_4 0 rfl rfl)
theorem dX3_pack_96 : decode cX3_pack 96 = .ok (.aload_n 0, 1) := dk_42 (dk_at dksX3_pack_4 2 rfl rfl)
theorem dX3_pack_97 : decode cX3_pack 97 = .ok (.aload 5, 2) := dk_25 5 (dk_at dksX3_pack_4 3 rfl rfl)
theorem dX3_pack_99 : decode cX3_pack 99 = .ok (.getfield 262, 3) := dk_180 1 6 (dk_at dksX3_pack_4 5 rfl rfl)
theorem dX3_pack_102 : decode cX3_pack 102 = .ok (.aload 4, 2) := dk_25 4 (dk_at dksX3_pack_4 8 rfl rfl)
theorem dX3_pack_104 : decode cX3_pack 104 = .ok (.getfield 284, 3) := dk_180 1 28 (dk_at dksX3_pack_4 10 rfl rfl)
theorem dX3_pack_107 : decode cX3_pack 107 = .ok (.if_icmp .ne 45, 3) := dk_160 0 45 (dk_at dksX3_pack_4 13 rfl rfl)
theorem dX3_pack_110 : decode cX3_pack 110 = .ok (.aload_n 0, 1) := dk_42 (dk_at dksX3_pack_4 16 rfl rfl)
theorem dX3_pack_111 : decode cX3_pack 111 = .ok (.getfield 78, 3) := dk_180 0 78 (dk_at dksX3_pack_4 17 rfl rfl)
theorem dX3_pack_114 : decode cX3_pack 114 = .ok (.aload 5, 2) := dk_25 5 (dk_at dksX3_pack_4 20 rfl rfl)
theorem dX3_pack_116 : decode cX3_pack 116 = .ok (.getfield 252, 3) := dk_180 0 252 (dk_at dksX3_pack_5 0 rfl rfl)
theorem dX3_pack_119 : decode cX3_pack 119 = .ok (.if_icmp .lt 33, 3) := dk_161 0 33 (dk_at dksX3_pack_5 3 rfl rfl)
theorem dX3_pack_122 : decode cX3_pack 122 = .ok (.aload 5, 2) := dk_25 5 (dk_at dksX3_pack_5 6 rfl rfl)
theorem dX3_pack_124 : decode cX3_pack 124 = .ok (.getfield 248, 3) := dk_180 0 248 (dk_at dksX3_pack_5 8 rfl rfl)
theorem dX3_pack_127 : decode cX3_pack 127 = .ok (.iload_n 3, 1) := dk_29 (dk_at dksX3_pack_5 11 rfl rfl)
theorem dX3_pack_128 : decode cX3_pack 128 = .ok (.if_icmp .lt 24, 3) := dk_161 0 24 (dk_at dksX3_pack_5 12 rfl rfl)
theorem dX3_pack_131 : decode cX3_pack 131 = .ok (.aload 4, 2) := dk_25 4 (dk_at dksX3_pack_5 15 rfl rfl)
theorem dX3_pack_133 : decode cX3_pack 133 = .ok (.invokevirtual 289, 3) := dk_182 1 33 (dk_at dksX3_pack_5 17 rfl rfl)
theorem dX3_pack_136 : decode cX3_pack 136 = .ok (.iload_n 3, 1) := dk_29 (dk_at dksX3_pack_5 20 rfl rfl)
theorem dX3_pack_137 : decode cX3_pack 137 = .ok (.iadd, 1) := dk_96 (dk_at dksX3_pack_5 21 rfl rfl)
theorem dX3_pack_138 : decode cX3_pack 138 = .ok (.sipush 144, 3) := dk_17 0 144 (dk_at dksX3_pack_6 0 rfl rfl)
theorem dX3_pack_141 : decode cX3_pack 141 = .ok (.if_icmp .gt 11, 3) := dk_163 0 11 (dk_at dksX3_pack_6 3 rfl rfl)
theorem dX3_pack_144 : decode cX3_pack 144 = .ok (.aload 4, 2) := dk_25 4 (dk_at dksX3_pack_6 6 rfl rfl)
theorem dX3_pack_146 : decode cX3_pack 146 = .ok (.getfield 291, 3) := dk_180 1 35 (dk_at dksX3_pack_6 8 rfl rfl)
theorem dX3_pack_149 : decode cX3_pack 149 = .ok (.ifCond .eq 7, 3) := dk_153 0 7 (dk_at dksX3_pack_6 11 rfl rfl)
theorem dX3_pack_152 : decode cX3_pack 152 = .ok (.iconst 1, 1) := dk_4 (dk_at dksX3_pack_6 14 rfl rfl)
theorem dX3_pack_153 : decode cX3_pack 153 = .ok (.goto 4, 3) := dk_167 0 4 (dk_at dksX3_pack_6 15 rfl rfl)
theorem dX3_pack_156 : decode cX3_pack 156 = .ok (.iconst 0, 1) := dk_3 (dk_at dksX3_pack_6 18 rfl rfl)
theorem dX3_pack_157 : decode cX3_pack 157 = .ok (.iconst 3, 1) := dk_6 (dk_at dksX3_pack_6 19 rfl rfl)
theorem dX3_pack_158 : decode cX3_pack 158 = .ok (.invokevirtual 74, 3) := dk_182 0 74 (dk_at dksX3_pack_6 20 rfl rfl)
theorem dX3_pack_161 : decode cX3_pack 161 = .ok (.ifCond .eq 5, 3) := dk_153 0 5 (dk_at dksX3_pack_7 0 rfl rfl)
theorem dX3_pack_164 : decode cX3_pack 164 = .ok (.iconst (-1), 1) := dk_2 (dk_at dksX3_pack_7 3 rfl rfl)
theorem dX3_pack_165 : decode cX3_pack 165 = .ok (.ireturn, 1) := dk_172 (dk_at dksX3_pack_7 4 rfl rfl)
theorem dX3_pack_166 : decode cX3_pack 166 = .ok (.iconst 0, 1) := dk_3 (dk_at dksX3_pack_7 5 rfl rfl)
theorem dX3_pack_167 : decode cX3_pack 167 = .ok (.iload_n 3, 1) := dk_29 (dk_at dksX3_pack_7 6 rfl rfl)
theorem dX3_pack_168 : decode cX3_pack 168 = .ok (.aload 5, 2) := dk_25 5 (dk_at dksX3_pack_7 7 rfl rfl)
theorem dX3_pack_170 : decode cX3_pack 170 = .ok (.getfield 248, 3) := dk_180 0 248 (dk_at dksX3_pack_7 9 rfl rfl)
theorem dX3_pack_173 : decode cX3_pack 173 = .ok (.aload 5, 2) := dk_25 5 (dk_at dksX3_pack_7 12 rfl rfl)
theorem dX3_pack_175 : decode cX3_pack 175 = .ok (.getfield 270, 3) := dk_180 1 14 (dk_at dksX3_pack_7 14 rfl rfl)
theorem dX3_pack_178 : decode cX3_pack 178 = .ok (.isub, 1) := dk_100 (dk_at dksX3_pack_7 17 rfl rfl)
theorem dX3_pack_179 : decode cX3_pack 179 = .ok (.isub, 1) := dk_100 (dk_at dksX3_pack_7 18 rfl rfl)
theorem dX3_pack_180 : decode cX3_pack 180 = .ok (.invokestatic 125, 3) := dk_184 0 125 (dk_at dksX3_pack_7 19 rfl rfl)
theorem dX3_pack_183 : decode cX3_pack 183 = .ok (.istore 6, 2) := dk_54 6 (dk_at dksX3_pack_7 22 rfl rfl)
theorem dX3_pack_185 : decode cX3_pack 185 = .ok (.aload 5, 2) := dk_25 5 (dk_at dksX3_pack_8 0 rfl rfl)
theorem dX3_pack_187 : decode cX3_pack 187 = .ok (.dup, 1) := dk_89 (dk_at dksX3_pack_8 2 rfl rfl)
theorem dX3_pack_188 : decode cX3_pack 188 = .ok (.getfield 248, 3) := dk_180 0 248 (dk_at dksX3_pack_8 3 rfl rfl)
theorem dX3_pack_191 : decode cX3_pack 191 = .ok (.iload_n 3, 1) := dk_29 (dk_at dksX3_pack_8 6 rfl rfl)
theorem dX3_pack_192 : decode cX3_pack 192 = .ok (.isub, 1) := dk_100 (dk_at dksX3_pack_8 7 rfl rfl)
theorem dX3_pack_193 : decode cX3_pack 193 = .ok (.putfield 248, 3) := dk_181 0 248 (dk_at dksX3_pack_8 8 rfl rfl)
theorem dX3_pack_196 : decode cX3_pack 196 = .ok (.aload 5, 2) := dk_25 5 (dk_at dksX3_pack_8 11 rfl rfl)
theorem dX3_pack_198 : decode cX3_pack 198 = .ok (.dup, 1) := dk_89 (dk_at dksX3_pack_8 13 rfl rfl)
theorem dX3_pack_199 : decode cX3_pack 199 = .ok (.getfield 270, 3) := dk_180 1 14 (dk_at dksX3_pack_8 14 rfl rfl)
theorem dX3_pack_202 : decode cX3_pack 202 = .ok (.iload 6, 2) := dk_21 6 (dk_at dksX3_pack_8 17 rfl rfl)
theorem dX3_pack_204 : decode cX3_pack 204 = .ok (.isub, 1) := dk_100 (dk_at dksX3_pack_8 19 rfl rfl)
theorem dX3_pack_205 : decode cX3_pack 205 = .ok (.putfield 270, 3) := dk_181 1 14 (dk_at dksX3_pack_8 20 rfl rfl)
theorem dX3_pack_208 : decode cX3_pack 208 = .ok (.aload 4, 2) := dk_25 4 (dk_at dksX3_pack_9 0 rfl rfl)
theorem dX3_pack_210 : decode cX3_pack 210 = .ok (.getfield 294, 3) := dk_180 1 38 (dk_at dksX3_pack_9 2 rfl rfl)
theorem dX3_pack_213 : decode cX3_pack 213 = .ok (.iconst 3, 1) := dk_6 (dk_at dksX3_pack_9 5 rfl rfl)
theorem dX3_pack_214 : decode cX3_pack 214 = .ok (.newarray .int, 2) := dk_188_10 (dk_at dksX3_pack_9 6 rfl rfl)
theorem dX3_pack_216 : decode cX3_pack 216 = .ok (.dup, 1) := dk_89 (dk_at dksX3_pack_9 8 rfl rfl)
theorem dX3_pack_217 : decode cX3_pack 217 = .ok (.iconst 0, 1) := dk_3 (dk_at dksX3_pack_9 9 rfl rfl)
theorem dX3_pack_218 : decode cX3_pack 218 = .ok (.iload_n 2, 1) := dk_28 (dk_at dksX3_pack_9 10 rfl rfl)
theorem dX3_pack_219 : decode cX3_pack 219 = .ok (.iastore, 1) := dk_79 (dk_at dksX3_pack_9 11 rfl rfl)
theorem dX3_pack_220 : decode cX3_pack 220 = .ok (.dup, 1) := dk_89 (dk_at dksX3_pack_9 12 rfl rfl)
theorem dX3_pack_221 : decode cX3_pack 221 = .ok (.iconst 1, 1) := dk_4 (dk_at dksX3_pack_9 13 rfl rfl)
theorem dX3_pack_222 : decode cX3_pack 222 = .ok (.iload_n 3, 1) := dk_29 (dk_at dksX3_pack_9 14 rfl rfl)
theorem dX3_pack_223 : decode cX3_pack 223 = .ok (.iastore, 1) := dk_79 (dk_at dksX3_pack_9 15 rfl rfl)
theorem dX3_pack_224 : decode cX3_pack 224 = .ok (.dup, 1) := dk_89 (dk_at dksX3_pack_9 16 rfl rfl)
theorem dX3_pack_225 : decode cX3_pack 225 = .ok (.iconst 2, 1) := dk_5 (dk_at dksX3_pack_9 17 rfl rfl)
theorem dX3_pack_226 : decode cX3_pack 226 = .ok (.iload 6, 2) := dk_21 6 (dk_at dksX3_pack_9 18 rfl rfl)
theorem dX3_pack_228 : decode cX3_pack 228 = .ok (.iastore, 1) := dk_79 (dk_at dksX3_pack_9 20 rfl rfl)
theorem dX3_pack_229 : decode cX3_pack 229 = .ok (.invokeinterface 107 2, 5) := by decide +kernel
theorem dX3_pack_234 : decode cX3_pack 234 = .ok (.pop, 1) := dk_87 (dk_at dksX3_pack_10 5 rfl rfl)
theorem dX3_pack_235 : decode cX3_pack 235 = .ok (.aload 4, 2) := dk_25 4 (dk_at dksX3_pack_10 6 rfl rfl)
theorem dX3_pack_237 : decode cX3_pack 237 = .ok (.invokevirtual 289, 3) := dk_182 1 33 (dk_at dksX3_pack_10 8 rfl rfl)
theorem dX3_pack_240 : decode cX3_pack 240 = .ok (.ireturn, 1) := dk_172 (dk_at dksX3_pack_10 11 rfl rfl)
abbrev cX3_order : ByteArray := prog_15_method_47_code
def yX3_order : MethodName := ⟨RX3, "order", "(III)I"⟩
def dkwX3_order_5 : List UInt8 := [180, 0, 63, 185, 0, 7, 1, 0, 4, 100, 172]
abbrev dktX3_order_5 : List UInt8 := dkwX3_order_5 ++ []
def dkwX3_order_4 : List UInt8 := [89, 3, 27, 79, 89, 4, 28, 79, 89, 5, 29, 79, 89, 6, 3, 79, 185, 0, 107, 2, 0, 87, 42]
abbrev dktX3_order_4 : List UInt8 := dkwX3_order_4 ++ dktX3_order_5
def dkwX3_order_3 : List UInt8 := [160, 0, 7, 4, 167, 0, 4, 3, 5, 182, 0, 74, 153, 0, 5, 2, 172, 42, 180, 0, 63, 7, 188, 10]
abbrev dktX3_order_3 : List UInt8 := dkwX3_order_3 ++ dktX3_order_4
def dkwX3_order_2 : List UInt8 := [167, 0, 4, 3, 4, 182, 0, 74, 154, 0, 30, 42, 42, 180, 0, 63, 185, 0, 7, 1, 0, 16, 12]
abbrev dktX3_order_2 : List UInt8 := dkwX3_order_2 ++ dktX3_order_3
def dkwX3_order_1 : List UInt8 := [184, 0, 13, 153, 0, 19, 29, 133, 42, 180, 0, 78, 133, 20, 1, 41, 184, 0, 13, 154, 0, 7, 4]
abbrev dktX3_order_1 : List UInt8 := dkwX3_order_1 ++ dktX3_order_2
def dkwX3_order_0 : List UInt8 := [42, 182, 0, 69, 42, 27, 133, 9, 20, 1, 23, 184, 0, 13, 153, 0, 31, 28, 133, 10, 20, 0, 105]
abbrev dktX3_order_0 : List UInt8 := dkwX3_order_0 ++ dktX3_order_1
theorem dksX3_order_0 : cX3_order.data.toList.drop 0 = dktX3_order_0 := by decide +kernel
theorem dksX3_order_1 : cX3_order.data.toList.drop 23 = dktX3_order_1 := dk_seg dksX3_order_0 23 rfl rfl
theorem dksX3_order_2 : cX3_order.data.toList.drop 46 = dktX3_order_2 := dk_seg dksX3_order_1 23 rfl rfl
theorem dksX3_order_3 : cX3_order.data.toList.drop 69 = dktX3_order_3 := dk_seg dksX3_order_2 23 rfl rfl
theorem dksX3_order_4 : cX3_order.data.toList.drop 93 = dktX3_order_4 := dk_seg dksX3_order_3 24 rfl rfl
theorem dksX3_order_5 : cX3_order.data.toList.drop 116 = dktX3_order_5 := dk_seg dksX3_order_4 23 rfl rfl
theorem dX3_order_0 : decode cX3_order 0 = .ok (.aload_n 0, 1) := dk_42 (dk_at dksX3_order_0 0 rfl rfl)
theorem dX3_order_1 : decode cX3_order 1 = .ok (.invokevirtual 69, 3) := dk_182 0 69 (dk_at dksX3_order_0 1 rfl rfl)
theorem dX3_order_4 : decode cX3_order 4 = .ok (.aload_n 0, 1) := dk_42 (dk_at dksX3_order_0 4 rfl rfl)
theorem dX3_order_5 : decode cX3_order 5 = .ok (.iload_n 1, 1) := dk_27 (dk_at dksX3_order_0 5 rfl rfl)
theorem dX3_order_6 : decode cX3_order 6 = .ok (.i2l, 1) := dk_133 (dk_at dksX3_order_0 6 rfl rfl)
theorem dX3_order_7 : decode cX3_order 7 = .ok (.lconst 0, 1) := dk_9 (dk_at dksX3_order_0 7 rfl rfl)
theorem dX3_order_8 : decode cX3_order 8 = .ok (.ldc2_w 279, 3) := dk_20 1 23 (dk_at dksX3_order_0 8 rfl rfl)
theorem dX3_order_11 : decode cX3_order 11 = .ok (.invokestatic 13, 3) := dk_184 0 13 (dk_at dksX3_order_0 11 rfl rfl)
theorem dX3_order_14 : decode cX3_order 14 = .ok (.ifCond .eq 31, 3) := dk_153 0 31 (dk_at dksX3_order_0 14 rfl rfl)
theorem dX3_order_17 : decode cX3_order 17 = .ok (.iload_n 2, 1) := dk_28 (dk_at dksX3_order_0 17 rfl rfl)
theorem dX3_order_18 : decode cX3_order 18 = .ok (.i2l, 1) := dk_133 (dk_at dksX3_order_0 18 rfl rfl)
theorem dX3_order_19 : decode cX3_order 19 = .ok (.lconst 1, 1) := dk_10 (dk_at dksX3_order_0 19 rfl rfl)
theorem dX3_order_20 : decode cX3_order 20 = .ok (.ldc2_w 105, 3) := dk_20 0 105 (dk_at dksX3_order_0 20 rfl rfl)
theorem dX3_order_23 : decode cX3_order 23 = .ok (.invokestatic 13, 3) := dk_184 0 13 (dk_at dksX3_order_1 0 rfl rfl)
theorem dX3_order_26 : decode cX3_order 26 = .ok (.ifCond .eq 19, 3) := dk_153 0 19 (dk_at dksX3_order_1 3 rfl rfl)
theorem dX3_order_29 : decode cX3_order 29 = .ok (.iload_n 3, 1) := dk_29 (dk_at dksX3_order_1 6 rfl rfl)
theorem dX3_order_30 : decode cX3_order 30 = .ok (.i2l, 1) := dk_133 (dk_at dksX3_order_1 7 rfl rfl)
theorem dX3_order_31 : decode cX3_order 31 = .ok (.aload_n 0, 1) := dk_42 (dk_at dksX3_order_1 8 rfl rfl)
theorem dX3_order_32 : decode cX3_order 32 = .ok (.getfield 78, 3) := dk_180 0 78 (dk_at dksX3_order_1 9 rfl rfl)
theorem dX3_order_35 : decode cX3_order 35 = .ok (.i2l, 1) := dk_133 (dk_at dksX3_order_1 12 rfl rfl)
theorem dX3_order_36 : decode cX3_order 36 = .ok (.ldc2_w 297, 3) := dk_20 1 41 (dk_at dksX3_order_1 13 rfl rfl)
theorem dX3_order_39 : decode cX3_order 39 = .ok (.invokestatic 13, 3) := dk_184 0 13 (dk_at dksX3_order_1 16 rfl rfl)
theorem dX3_order_42 : decode cX3_order 42 = .ok (.ifCond .ne 7, 3) := dk_154 0 7 (dk_at dksX3_order_1 19 rfl rfl)
theorem dX3_order_45 : decode cX3_order 45 = .ok (.iconst 1, 1) := dk_4 (dk_at dksX3_order_1 22 rfl rfl)
theorem dX3_order_46 : decode cX3_order 46 = .ok (.goto 4, 3) := dk_167 0 4 (dk_at dksX3_order_2 0 rfl rfl)
theorem dX3_order_49 : decode cX3_order 49 = .ok (.iconst 0, 1) := dk_3 (dk_at dksX3_order_2 3 rfl rfl)
theorem dX3_order_50 : decode cX3_order 50 = .ok (.iconst 1, 1) := dk_4 (dk_at dksX3_order_2 4 rfl rfl)
theorem dX3_order_51 : decode cX3_order 51 = .ok (.invokevirtual 74, 3) := dk_182 0 74 (dk_at dksX3_order_2 5 rfl rfl)
theorem dX3_order_54 : decode cX3_order 54 = .ok (.ifCond .ne 30, 3) := dk_154 0 30 (dk_at dksX3_order_2 8 rfl rfl)
theorem dX3_order_57 : decode cX3_order 57 = .ok (.aload_n 0, 1) := dk_42 (dk_at dksX3_order_2 11 rfl rfl)
theorem dX3_order_58 : decode cX3_order 58 = .ok (.aload_n 0, 1) := dk_42 (dk_at dksX3_order_2 12 rfl rfl)
theorem dX3_order_59 : decode cX3_order 59 = .ok (.getfield 63, 3) := dk_180 0 63 (dk_at dksX3_order_2 13 rfl rfl)
theorem dX3_order_62 : decode cX3_order 62 = .ok (.invokeinterface 7 1, 5) := by decide +kernel
theorem dX3_order_67 : decode cX3_order 67 = .ok (.bipush 12, 2) := dk_16 12 (dk_at dksX3_order_2 21 rfl rfl)
theorem dX3_order_69 : decode cX3_order 69 = .ok (.if_icmp .ne 7, 3) := dk_160 0 7 (dk_at dksX3_order_3 0 rfl rfl)
theorem dX3_order_72 : decode cX3_order 72 = .ok (.iconst 1, 1) := dk_4 (dk_at dksX3_order_3 3 rfl rfl)
theorem dX3_order_73 : decode cX3_order 73 = .ok (.goto 4, 3) := dk_167 0 4 (dk_at dksX3_order_3 4 rfl rfl)
theorem dX3_order_76 : decode cX3_order 76 = .ok (.iconst 0, 1) := dk_3 (dk_at dksX3_order_3 7 rfl rfl)
theorem dX3_order_77 : decode cX3_order 77 = .ok (.iconst 2, 1) := dk_5 (dk_at dksX3_order_3 8 rfl rfl)
theorem dX3_order_78 : decode cX3_order 78 = .ok (.invokevirtual 74, 3) := dk_182 0 74 (dk_at dksX3_order_3 9 rfl rfl)
theorem dX3_order_81 : decode cX3_order 81 = .ok (.ifCond .eq 5, 3) := dk_153 0 5 (dk_at dksX3_order_3 12 rfl rfl)
theorem dX3_order_84 : decode cX3_order 84 = .ok (.iconst (-1), 1) := dk_2 (dk_at dksX3_order_3 15 rfl rfl)
theorem dX3_order_85 : decode cX3_order 85 = .ok (.ireturn, 1) := dk_172 (dk_at dksX3_order_3 16 rfl rfl)
theorem dX3_order_86 : decode cX3_order 86 = .ok (.aload_n 0, 1) := dk_42 (dk_at dksX3_order_3 17 rfl rfl)
theorem dX3_order_87 : decode cX3_order 87 = .ok (.getfield 63, 3) := dk_180 0 63 (dk_at dksX3_order_3 18 rfl rfl)
theorem dX3_order_90 : decode cX3_order 90 = .ok (.iconst 4, 1) := dk_7 (dk_at dksX3_order_3 21 rfl rfl)
theorem dX3_order_91 : decode cX3_order 91 = .ok (.newarray .int, 2) := dk_188_10 (dk_at dksX3_order_3 22 rfl rfl)
theorem dX3_order_93 : decode cX3_order 93 = .ok (.dup, 1) := dk_89 (dk_at dksX3_order_4 0 rfl rfl)
theorem dX3_order_94 : decode cX3_order 94 = .ok (.iconst 0, 1) := dk_3 (dk_at dksX3_order_4 1 rfl rfl)
theorem dX3_order_95 : decode cX3_order 95 = .ok (.iload_n 1, 1) := dk_27 (dk_at dksX3_order_4 2 rfl rfl)
theorem dX3_order_96 : decode cX3_order 96 = .ok (.iastore, 1) := dk_79 (dk_at dksX3_order_4 3 rfl rfl)
theorem dX3_order_97 : decode cX3_order 97 = .ok (.dup, 1) := dk_89 (dk_at dksX3_order_4 4 rfl rfl)
theorem dX3_order_98 : decode cX3_order 98 = .ok (.iconst 1, 1) := dk_4 (dk_at dksX3_order_4 5 rfl rfl)
theorem dX3_order_99 : decode cX3_order 99 = .ok (.iload_n 2, 1) := dk_28 (dk_at dksX3_order_4 6 rfl rfl)
theorem dX3_order_100 : decode cX3_order 100 = .ok (.iastore, 1) := dk_79 (dk_at dksX3_order_4 7 rfl rfl)
theorem dX3_order_101 : decode cX3_order 101 = .ok (.dup, 1) := dk_89 (dk_at dksX3_order_4 8 rfl rfl)
theorem dX3_order_102 : decode cX3_order 102 = .ok (.iconst 2, 1) := dk_5 (dk_at dksX3_order_4 9 rfl rfl)
theorem dX3_order_103 : decode cX3_order 103 = .ok (.iload_n 3, 1) := dk_29 (dk_at dksX3_order_4 10 rfl rfl)
theorem dX3_order_104 : decode cX3_order 104 = .ok (.iastore, 1) := dk_79 (dk_at dksX3_order_4 11 rfl rfl)
theorem dX3_order_105 : decode cX3_order 105 = .ok (.dup, 1) := dk_89 (dk_at dksX3_order_4 12 rfl rfl)
theorem dX3_order_106 : decode cX3_order 106 = .ok (.iconst 3, 1) := dk_6 (dk_at dksX3_order_4 13 rfl rfl)
theorem dX3_order_107 : decode cX3_order 107 = .ok (.iconst 0, 1) := dk_3 (dk_at dksX3_order_4 14 rfl rfl)
theorem dX3_order_108 : decode cX3_order 108 = .ok (.iastore, 1) := dk_79 (dk_at dksX3_order_4 15 rfl rfl)
theorem dX3_order_109 : decode cX3_order 109 = .ok (.invokeinterface 107 2, 5) := by decide +kernel
theorem dX3_order_114 : decode cX3_order 114 = .ok (.pop, 1) := dk_87 (dk_at dksX3_order_4 21 rfl rfl)
theorem dX3_order_115 : decode cX3_order 115 = .ok (.aload_n 0, 1) := dk_42 (dk_at dksX3_order_4 22 rfl rfl)
theorem dX3_order_116 : decode cX3_order 116 = .ok (.getfield 63, 3) := dk_180 0 63 (dk_at dksX3_order_5 0 rfl rfl)
theorem dX3_order_119 : decode cX3_order 119 = .ok (.invokeinterface 7 1, 5) := by decide +kernel
theorem dX3_order_124 : decode cX3_order 124 = .ok (.iconst 1, 1) := dk_4 (dk_at dksX3_order_5 8 rfl rfl)
theorem dX3_order_125 : decode cX3_order 125 = .ok (.isub, 1) := dk_100 (dk_at dksX3_order_5 9 rfl rfl)
theorem dX3_order_126 : decode cX3_order 126 = .ok (.ireturn, 1) := dk_172 (dk_at dksX3_order_5 10 rfl rfl)
abbrev cX3_ship : ByteArray := prog_15_method_48_code
def yX3_ship : MethodName := ⟨RX3, "ship", "(II)I"⟩
def dkwX3_ship_6 : List UInt8 := [45, 5, 46, 164, 0, 7, 4, 167, 0, 6, 45, 6, 46, 79, 45, 4, 46, 172]
abbrev dktX3_ship_6 : List UInt8 := dkwX3_ship_6 ++ []
def dkwX3_ship_5 : List UInt8 := [153, 0, 5, 2, 172, 25, 4, 4, 181, 1, 35, 45, 4, 92, 46, 4, 100, 79, 45, 6, 42, 180, 0, 78]
abbrev dktX3_ship_5 : List UInt8 := dkwX3_ship_5 ++ dktX3_ship_6
def dkwX3_ship_4 : List UInt8 := [25, 4, 180, 1, 35, 154, 0, 9, 45, 4, 46, 154, 0, 7, 4, 167, 0, 4, 3, 5, 182, 0, 74]
abbrev dktX3_ship_4 : List UInt8 := dkwX3_ship_4 ++ dktX3_ship_5
def dkwX3_ship_3 : List UInt8 := [42, 25, 4, 182, 1, 33, 17, 0, 144, 161, 0, 28, 25, 4, 180, 1, 28, 45, 3, 46, 160, 0, 17]
abbrev dktX3_ship_3 : List UInt8 := dkwX3_ship_3 ++ dktX3_ship_4
def dkwX3_ship_2 : List UInt8 := [185, 0, 114, 2, 0, 192, 0, 118, 78, 42, 180, 0, 60, 28, 185, 0, 114, 2, 0, 192, 1, 25, 58, 4]
abbrev dktX3_ship_2 : List UInt8 := dkwX3_ship_2 ++ dktX3_ship_3
def dkwX3_ship_1 : List UInt8 := [154, 0, 7, 4, 167, 0, 4, 3, 4, 182, 0, 74, 153, 0, 5, 2, 172, 42, 180, 0, 63, 27]
abbrev dktX3_ship_1 : List UInt8 := dkwX3_ship_1 ++ dktX3_ship_2
def dkwX3_ship_0 : List UInt8 := [42, 182, 0, 69, 42, 42, 180, 0, 63, 27, 184, 0, 97, 153, 0, 14, 42, 180, 0, 60, 28, 184, 0, 97]
abbrev dktX3_ship_0 : List UInt8 := dkwX3_ship_0 ++ dktX3_ship_1
theorem dksX3_ship_0 : cX3_ship.data.toList.drop 0 = dktX3_ship_0 := by decide +kernel
theorem dksX3_ship_1 : cX3_ship.data.toList.drop 24 = dktX3_ship_1 := dk_seg dksX3_ship_0 24 rfl rfl
theorem dksX3_ship_2 : cX3_ship.data.toList.drop 46 = dktX3_ship_2 := dk_seg dksX3_ship_1 22 rfl rfl
theorem dksX3_ship_3 : cX3_ship.data.toList.drop 70 = dktX3_ship_3 := dk_seg dksX3_ship_2 24 rfl rfl
theorem dksX3_ship_4 : cX3_ship.data.toList.drop 93 = dktX3_ship_4 := dk_seg dksX3_ship_3 23 rfl rfl
theorem dksX3_ship_5 : cX3_ship.data.toList.drop 116 = dktX3_ship_5 := dk_seg dksX3_ship_4 23 rfl rfl
theorem dksX3_ship_6 : cX3_ship.data.toList.drop 140 = dktX3_ship_6 := dk_seg dksX3_ship_5 24 rfl rfl
theorem dX3_ship_0 : decode cX3_ship 0 = .ok (.aload_n 0, 1) := dk_42 (dk_at dksX3_ship_0 0 rfl rfl)
theorem dX3_ship_1 : decode cX3_ship 1 = .ok (.invokevirtual 69, 3) := dk_182 0 69 (dk_at dksX3_ship_0 1 rfl rfl)
theorem dX3_ship_4 : decode cX3_ship 4 = .ok (.aload_n 0, 1) := dk_42 (dk_at dksX3_ship_0 4 rfl rfl)
theorem dX3_ship_5 : decode cX3_ship 5 = .ok (.aload_n 0, 1) := dk_42 (dk_at dksX3_ship_0 5 rfl rfl)
theorem dX3_ship_6 : decode cX3_ship 6 = .ok (.getfield 63, 3) := dk_180 0 63 (dk_at dksX3_ship_0 6 rfl rfl)
theorem dX3_ship_9 : decode cX3_ship 9 = .ok (.iload_n 1, 1) := dk_27 (dk_at dksX3_ship_0 9 rfl rfl)
theorem dX3_ship_10 : decode cX3_ship 10 = .ok (.invokestatic 97, 3) := dk_184 0 97 (dk_at dksX3_ship_0 10 rfl rfl)
theorem dX3_ship_13 : decode cX3_ship 13 = .ok (.ifCond .eq 14, 3) := dk_153 0 14 (dk_at dksX3_ship_0 13 rfl rfl)
theorem dX3_ship_16 : decode cX3_ship 16 = .ok (.aload_n 0, 1) := dk_42 (dk_at dksX3_ship_0 16 rfl rfl)
theorem dX3_ship_17 : decode cX3_ship 17 = .ok (.getfield 60, 3) := dk_180 0 60 (dk_at dksX3_ship_0 17 rfl rfl)
theorem dX3_ship_20 : decode cX3_ship 20 = .ok (.iload_n 2, 1) := dk_28 (dk_at dksX3_ship_0 20 rfl rfl)
theorem dX3_ship_21 : decode cX3_ship 21 = .ok (.invokestatic 97, 3) := dk_184 0 97 (dk_at dksX3_ship_0 21 rfl rfl)
theorem dX3_ship_24 : decode cX3_ship 24 = .ok (.ifCond .ne 7, 3) := dk_154 0 7 (dk_at dksX3_ship_1 0 rfl rfl)
theorem dX3_ship_27 : decode cX3_ship 27 = .ok (.iconst 1, 1) := dk_4 (dk_at dksX3_ship_1 3 rfl rfl)
theorem dX3_ship_28 : decode cX3_ship 28 = .ok (.goto 4, 3) := dk_167 0 4 (dk_at dksX3_ship_1 4 rfl rfl)
theorem dX3_ship_31 : decode cX3_ship 31 = .ok (.iconst 0, 1) := dk_3 (dk_at dksX3_ship_1 7 rfl rfl)
theorem dX3_ship_32 : decode cX3_ship 32 = .ok (.iconst 1, 1) := dk_4 (dk_at dksX3_ship_1 8 rfl rfl)
theorem dX3_ship_33 : decode cX3_ship 33 = .ok (.invokevirtual 74, 3) := dk_182 0 74 (dk_at dksX3_ship_1 9 rfl rfl)
theorem dX3_ship_36 : decode cX3_ship 36 = .ok (.ifCond .eq 5, 3) := dk_153 0 5 (dk_at dksX3_ship_1 12 rfl rfl)
theorem dX3_ship_39 : decode cX3_ship 39 = .ok (.iconst (-1), 1) := dk_2 (dk_at dksX3_ship_1 15 rfl rfl)
theorem dX3_ship_40 : decode cX3_ship 40 = .ok (.ireturn, 1) := dk_172 (dk_at dksX3_ship_1 16 rfl rfl)
theorem dX3_ship_41 : decode cX3_ship 41 = .ok (.aload_n 0, 1) := dk_42 (dk_at dksX3_ship_1 17 rfl rfl)
theorem dX3_ship_42 : decode cX3_ship 42 = .ok (.getfield 63, 3) := dk_180 0 63 (dk_at dksX3_ship_1 18 rfl rfl)
theorem dX3_ship_45 : decode cX3_ship 45 = .ok (.iload_n 1, 1) := dk_27 (dk_at dksX3_ship_1 21 rfl rfl)
theorem dX3_ship_46 : decode cX3_ship 46 = .ok (.invokeinterface 114 2, 5) := by decide +kernel
theorem dX3_ship_51 : decode cX3_ship 51 = .ok (.checkcast 118, 3) := dk_192 0 118 (dk_at dksX3_ship_2 5 rfl rfl)
theorem dX3_ship_54 : decode cX3_ship 54 = .ok (.astore_n 3, 1) := dk_78 (dk_at dksX3_ship_2 8 rfl rfl)
theorem dX3_ship_55 : decode cX3_ship 55 = .ok (.aload_n 0, 1) := dk_42 (dk_at dksX3_ship_2 9 rfl rfl)
theorem dX3_ship_56 : decode cX3_ship 56 = .ok (.getfield 60, 3) := dk_180 0 60 (dk_at dksX3_ship_2 10 rfl rfl)
theorem dX3_ship_59 : decode cX3_ship 59 = .ok (.iload_n 2, 1) := dk_28 (dk_at dksX3_ship_2 13 rfl rfl)
theorem dX3_ship_60 : decode cX3_ship 60 = .ok (.invokeinterface 114 2, 5) := by decide +kernel
theorem dX3_ship_65 : decode cX3_ship 65 = .ok (.checkcast 281, 3) := dk_192 1 25 (dk_at dksX3_ship_2 19 rfl rfl)
theorem dX3_ship_68 : decode cX3_ship 68 = .ok (.astore 4, 2) := dk_58 4 (dk_at dksX3_ship_2 22 rfl rfl)
theorem dX3_ship_70 : decode cX3_ship 70 = .ok (.aload_n 0, 1) := dk_42 (dk_at dksX3_ship_3 0 rfl rfl)
theorem dX3_ship_71 : decode cX3_ship 71 = .ok (.aload 4, 2) := dk_25 4 (dk_at dksX3_ship_3 1 rfl rfl)
theorem dX3_ship_73 : decode cX3_ship 73 = .ok (.invokevirtual 289, 3) := dk_182 1 33 (dk_at dksX3_ship_3 3 rfl rfl)
theorem dX3_ship_76 : decode cX3_ship 76 = .ok (.sipush 144, 3) := dk_17 0 144 (dk_at dksX3_ship_3 6 rfl rfl)
theorem dX3_ship_79 : decode cX3_ship 79 = .ok (.if_icmp .lt 28, 3) := dk_161 0 28 (dk_at dksX3_ship_3 9 rfl rfl)
theorem dX3_ship_82 : decode cX3_ship 82 = .ok (.aload 4, 2) := dk_25 4 (dk_at dksX3_ship_3 12 rfl rfl)
theorem dX3_ship_84 : decode cX3_ship 84 = .ok (.getfield 284, 3) := dk_180 1 28 (dk_at dksX3_ship_3 14 rfl rfl)
theorem dX3_ship_87 : decode cX3_ship 87 = .ok (.aload_n 3, 1) := dk_45 (dk_at dksX3_ship_3 17 rfl rfl)
theorem dX3_ship_88 : decode cX3_ship 88 = .ok (.iconst 0, 1) := dk_3 (dk_at dksX3_ship_3 18 rfl rfl)
theorem dX3_ship_89 : decode cX3_ship 89 = .ok (.iaload, 1) := dk_46 (dk_at dksX3_ship_3 19 rfl rfl)
theorem dX3_ship_90 : decode cX3_ship 90 = .ok (.if_icmp .ne 17, 3) := dk_160 0 17 (dk_at dksX3_ship_3 20 rfl rfl)
theorem dX3_ship_93 : decode cX3_ship 93 = .ok (.aload 4, 2) := dk_25 4 (dk_at dksX3_ship_4 0 rfl rfl)
theorem dX3_ship_95 : decode cX3_ship 95 = .ok (.getfield 291, 3) := dk_180 1 35 (dk_at dksX3_ship_4 2 rfl rfl)
theorem dX3_ship_98 : decode cX3_ship 98 = .ok (.ifCond .ne 9, 3) := dk_154 0 9 (dk_at dksX3_ship_4 5 rfl rfl)
theorem dX3_ship_101 : decode cX3_ship 101 = .ok (.aload_n 3, 1) := dk_45 (dk_at dksX3_ship_4 8 rfl rfl)
theorem dX3_ship_102 : decode cX3_ship 102 = .ok (.iconst 1, 1) := dk_4 (dk_at dksX3_ship_4 9 rfl rfl)
theorem dX3_ship_103 : decode cX3_ship 103 = .ok (.iaload, 1) := dk_46 (dk_at dksX3_ship_4 10 rfl rfl)
theorem dX3_ship_104 : decode cX3_ship 104 = .ok (.ifCond .ne 7, 3) := dk_154 0 7 (dk_at dksX3_ship_4 11 rfl rfl)
theorem dX3_ship_107 : decode cX3_ship 107 = .ok (.iconst 1, 1) := dk_4 (dk_at dksX3_ship_4 14 rfl rfl)
theorem dX3_ship_108 : decode cX3_ship 108 = .ok (.goto 4, 3) := dk_167 0 4 (dk_at dksX3_ship_4 15 rfl rfl)
theorem dX3_ship_111 : decode cX3_ship 111 = .ok (.iconst 0, 1) := dk_3 (dk_at dksX3_ship_4 18 rfl rfl)
theorem dX3_ship_112 : decode cX3_ship 112 = .ok (.iconst 2, 1) := dk_5 (dk_at dksX3_ship_4 19 rfl rfl)
theorem dX3_ship_113 : decode cX3_ship 113 = .ok (.invokevirtual 74, 3) := dk_182 0 74 (dk_at dksX3_ship_4 20 rfl rfl)
theorem dX3_ship_116 : decode cX3_ship 116 = .ok (.ifCond .eq 5, 3) := dk_153 0 5 (dk_at dksX3_ship_5 0 rfl rfl)
theorem dX3_ship_119 : decode cX3_ship 119 = .ok (.iconst (-1), 1) := dk_2 (dk_at dksX3_ship_5 3 rfl rfl)
theorem dX3_ship_120 : decode cX3_ship 120 = .ok (.ireturn, 1) := dk_172 (dk_at dksX3_ship_5 4 rfl rfl)
theorem dX3_ship_121 : decode cX3_ship 121 = .ok (.aload 4, 2) := dk_25 4 (dk_at dksX3_ship_5 5 rfl rfl)
theorem dX3_ship_123 : decode cX3_ship 123 = .ok (.iconst 1, 1) := dk_4 (dk_at dksX3_ship_5 7 rfl rfl)
theorem dX3_ship_124 : decode cX3_ship 124 = .ok (.putfield 291, 3) := dk_181 1 35 (dk_at dksX3_ship_5 8 rfl rfl)
theorem dX3_ship_127 : decode cX3_ship 127 = .ok (.aload_n 3, 1) := dk_45 (dk_at dksX3_ship_5 11 rfl rfl)
theorem dX3_ship_128 : decode cX3_ship 128 = .ok (.iconst 1, 1) := dk_4 (dk_at dksX3_ship_5 12 rfl rfl)
theorem dX3_ship_129 : decode cX3_ship 129 = .ok (.dup2, 1) := dk_92 (dk_at dksX3_ship_5 13 rfl rfl)
theorem dX3_ship_130 : decode cX3_ship 130 = .ok (.iaload, 1) := dk_46 (dk_at dksX3_ship_5 14 rfl rfl)
theorem dX3_ship_131 : decode cX3_ship 131 = .ok (.iconst 1, 1) := dk_4 (dk_at dksX3_ship_5 15 rfl rfl)
theorem dX3_ship_132 : decode cX3_ship 132 = .ok (.isub, 1) := dk_100 (dk_at dksX3_ship_5 16 rfl rfl)
theorem dX3_ship_133 : decode cX3_ship 133 = .ok (.iastore, 1) := dk_79 (dk_at dksX3_ship_5 17 rfl rfl)
theorem dX3_ship_134 : decode cX3_ship 134 = .ok (.aload_n 3, 1) := dk_45 (dk_at dksX3_ship_5 18 rfl rfl)
theorem dX3_ship_135 : decode cX3_ship 135 = .ok (.iconst 3, 1) := dk_6 (dk_at dksX3_ship_5 19 rfl rfl)
theorem dX3_ship_136 : decode cX3_ship 136 = .ok (.aload_n 0, 1) := dk_42 (dk_at dksX3_ship_5 20 rfl rfl)
theorem dX3_ship_137 : decode cX3_ship 137 = .ok (.getfield 78, 3) := dk_180 0 78 (dk_at dksX3_ship_5 21 rfl rfl)
theorem dX3_ship_140 : decode cX3_ship 140 = .ok (.aload_n 3, 1) := dk_45 (dk_at dksX3_ship_6 0 rfl rfl)
theorem dX3_ship_141 : decode cX3_ship 141 = .ok (.iconst 2, 1) := dk_5 (dk_at dksX3_ship_6 1 rfl rfl)
theorem dX3_ship_142 : decode cX3_ship 142 = .ok (.iaload, 1) := dk_46 (dk_at dksX3_ship_6 2 rfl rfl)
theorem dX3_ship_143 : decode cX3_ship 143 = .ok (.if_icmp .le 7, 3) := dk_164 0 7 (dk_at dksX3_ship_6 3 rfl rfl)
theorem dX3_ship_146 : decode cX3_ship 146 = .ok (.iconst 1, 1) := dk_4 (dk_at dksX3_ship_6 6 rfl rfl)
theorem dX3_ship_147 : decode cX3_ship 147 = .ok (.goto 6, 3) := dk_167 0 6 (dk_at dksX3_ship_6 7 rfl rfl)
theorem dX3_ship_150 : decode cX3_ship 150 = .ok (.aload_n 3, 1) := dk_45 (dk_at dksX3_ship_6 10 rfl rfl)
theorem dX3_ship_151 : decode cX3_ship 151 = .ok (.iconst 3, 1) := dk_6 (dk_at dksX3_ship_6 11 rfl rfl)
theorem dX3_ship_152 : decode cX3_ship 152 = .ok (.iaload, 1) := dk_46 (dk_at dksX3_ship_6 12 rfl rfl)
theorem dX3_ship_153 : decode cX3_ship 153 = .ok (.iastore, 1) := dk_79 (dk_at dksX3_ship_6 13 rfl rfl)
theorem dX3_ship_154 : decode cX3_ship 154 = .ok (.aload_n 3, 1) := dk_45 (dk_at dksX3_ship_6 14 rfl rfl)
theorem dX3_ship_155 : decode cX3_ship 155 = .ok (.iconst 1, 1) := dk_4 (dk_at dksX3_ship_6 15 rfl rfl)
theorem dX3_ship_156 : decode cX3_ship 156 = .ok (.iaload, 1) := dk_46 (dk_at dksX3_ship_6 16 rfl rfl)
theorem dX3_ship_157 : decode cX3_ship 157 = .ok (.ireturn, 1) := dk_172 (dk_at dksX3_ship_6 17 rfl rfl)
abbrev cX3_isLate : ByteArray := prog_15_method_49_code
def yX3_isLate : MethodName := ⟨RX3, "isLate", "(I)Z"⟩
def dkwX3_isLate_4 : List UInt8 := [167, 0, 4, 3, 172]
abbrev dktX3_isLate_4 : List UInt8 := dkwX3_isLate_4 ++ []
def dkwX3_isLate_3 : List UInt8 := [180, 0, 78, 42, 180, 0, 63, 27, 185, 0, 114, 2, 0, 192, 0, 118, 5, 46, 164, 0, 7, 4]
abbrev dktX3_isLate_3 : List UInt8 := dkwX3_isLate_3 ++ dktX3_isLate_4
def dkwX3_isLate_2 : List UInt8 := [159, 0, 43, 42, 180, 0, 63, 27, 185, 0, 114, 2, 0, 192, 0, 118, 4, 46, 158, 0, 29, 42]
abbrev dktX3_isLate_2 : List UInt8 := dkwX3_isLate_2 ++ dktX3_isLate_3
def dkwX3_isLate_1 : List UInt8 := [182, 0, 74, 154, 0, 66, 42, 180, 0, 63, 27, 185, 0, 114, 2, 0, 192, 0, 118, 6, 46, 4]
abbrev dktX3_isLate_1 : List UInt8 := dkwX3_isLate_1 ++ dktX3_isLate_2
def dkwX3_isLate_0 : List UInt8 := [42, 182, 0, 69, 42, 42, 180, 0, 63, 27, 184, 0, 97, 154, 0, 7, 4, 167, 0, 4, 3, 4]
abbrev dktX3_isLate_0 : List UInt8 := dkwX3_isLate_0 ++ dktX3_isLate_1
theorem dksX3_isLate_0 : cX3_isLate.data.toList.drop 0 = dktX3_isLate_0 := by decide +kernel
theorem dksX3_isLate_1 : cX3_isLate.data.toList.drop 22 = dktX3_isLate_1 := dk_seg dksX3_isLate_0 22 rfl rfl
theorem dksX3_isLate_2 : cX3_isLate.data.toList.drop 44 = dktX3_isLate_2 := dk_seg dksX3_isLate_1 22 rfl rfl
theorem dksX3_isLate_3 : cX3_isLate.data.toList.drop 66 = dktX3_isLate_3 := dk_seg dksX3_isLate_2 22 rfl rfl
theorem dksX3_isLate_4 : cX3_isLate.data.toList.drop 88 = dktX3_isLate_4 := dk_seg dksX3_isLate_3 22 rfl rfl
theorem dX3_isLate_0 : decode cX3_isLate 0 = .ok (.aload_n 0, 1) := dk_42 (dk_at dksX3_isLate_0 0 rfl rfl)
theorem dX3_isLate_1 : decode cX3_isLate 1 = .ok (.invokevirtual 69, 3) := dk_182 0 69 (dk_at dksX3_isLate_0 1 rfl rfl)
theorem dX3_isLate_4 : decode cX3_isLate 4 = .ok (.aload_n 0, 1) := dk_42 (dk_at dksX3_isLate_0 4 rfl rfl)
theorem dX3_isLate_5 : decode cX3_isLate 5 = .ok (.aload_n 0, 1) := dk_42 (dk_at dksX3_isLate_0 5 rfl rfl)
theorem dX3_isLate_6 : decode cX3_isLate 6 = .ok (.getfield 63, 3) := dk_180 0 63 (dk_at dksX3_isLate_0 6 rfl rfl)
theorem dX3_isLate_9 : decode cX3_isLate 9 = .ok (.iload_n 1, 1) := dk_27 (dk_at dksX3_isLate_0 9 rfl rfl)
theorem dX3_isLate_10 : decode cX3_isLate 10 = .ok (.invokestatic 97, 3) := dk_184 0 97 (dk_at dksX3_isLate_0 10 rfl rfl)
theorem dX3_isLate_13 : decode cX3_isLate 13 = .ok (.ifCond .ne 7, 3) := dk_154 0 7 (dk_at dksX3_isLate_0 13 rfl rfl)
theorem dX3_isLate_16 : decode cX3_isLate 16 = .ok (.iconst 1, 1) := dk_4 (dk_at dksX3_isLate_0 16 rfl rfl)
theorem dX3_isLate_17 : decode cX3_isLate 17 = .ok (.goto 4, 3) := dk_167 0 4 (dk_at dksX3_isLate_0 17 rfl rfl)
theorem dX3_isLate_20 : decode cX3_isLate 20 = .ok (.iconst 0, 1) := dk_3 (dk_at dksX3_isLate_0 20 rfl rfl)
theorem dX3_isLate_21 : decode cX3_isLate 21 = .ok (.iconst 1, 1) := dk_4 (dk_at dksX3_isLate_0 21 rfl rfl)
theorem dX3_isLate_22 : decode cX3_isLate 22 = .ok (.invokevirtual 74, 3) := dk_182 0 74 (dk_at dksX3_isLate_1 0 rfl rfl)
theorem dX3_isLate_25 : decode cX3_isLate 25 = .ok (.ifCond .ne 66, 3) := dk_154 0 66 (dk_at dksX3_isLate_1 3 rfl rfl)
theorem dX3_isLate_28 : decode cX3_isLate 28 = .ok (.aload_n 0, 1) := dk_42 (dk_at dksX3_isLate_1 6 rfl rfl)
theorem dX3_isLate_29 : decode cX3_isLate 29 = .ok (.getfield 63, 3) := dk_180 0 63 (dk_at dksX3_isLate_1 7 rfl rfl)
theorem dX3_isLate_32 : decode cX3_isLate 32 = .ok (.iload_n 1, 1) := dk_27 (dk_at dksX3_isLate_1 10 rfl rfl)
theorem dX3_isLate_33 : decode cX3_isLate 33 = .ok (.invokeinterface 114 2, 5) := by decide +kernel
theorem dX3_isLate_38 : decode cX3_isLate 38 = .ok (.checkcast 118, 3) := dk_192 0 118 (dk_at dksX3_isLate_1 16 rfl rfl)
theorem dX3_isLate_41 : decode cX3_isLate 41 = .ok (.iconst 3, 1) := dk_6 (dk_at dksX3_isLate_1 19 rfl rfl)
theorem dX3_isLate_42 : decode cX3_isLate 42 = .ok (.iaload, 1) := dk_46 (dk_at dksX3_isLate_1 20 rfl rfl)
theorem dX3_isLate_43 : decode cX3_isLate 43 = .ok (.iconst 1, 1) := dk_4 (dk_at dksX3_isLate_1 21 rfl rfl)
theorem dX3_isLate_44 : decode cX3_isLate 44 = .ok (.if_icmp .eq 43, 3) := dk_159 0 43 (dk_at dksX3_isLate_2 0 rfl rfl)
theorem dX3_isLate_47 : decode cX3_isLate 47 = .ok (.aload_n 0, 1) := dk_42 (dk_at dksX3_isLate_2 3 rfl rfl)
theorem dX3_isLate_48 : decode cX3_isLate 48 = .ok (.getfield 63, 3) := dk_180 0 63 (dk_at dksX3_isLate_2 4 rfl rfl)
theorem dX3_isLate_51 : decode cX3_isLate 51 = .ok (.iload_n 1, 1) := dk_27 (dk_at dksX3_isLate_2 7 rfl rfl)
theorem dX3_isLate_52 : decode cX3_isLate 52 = .ok (.invokeinterface 114 2, 5) := by decide +kernel
theorem dX3_isLate_57 : decode cX3_isLate 57 = .ok (.checkcast 118, 3) := dk_192 0 118 (dk_at dksX3_isLate_2 13 rfl rfl)
theorem dX3_isLate_60 : decode cX3_isLate 60 = .ok (.iconst 1, 1) := dk_4 (dk_at dksX3_isLate_2 16 rfl rfl)
theorem dX3_isLate_61 : decode cX3_isLate 61 = .ok (.iaload, 1) := dk_46 (dk_at dksX3_isLate_2 17 rfl rfl)
theorem dX3_isLate_62 : decode cX3_isLate 62 = .ok (.ifCond .le 29, 3) := dk_158 0 29 (dk_at dksX3_isLate_2 18 rfl rfl)
theorem dX3_isLate_65 : decode cX3_isLate 65 = .ok (.aload_n 0, 1) := dk_42 (dk_at dksX3_isLate_2 21 rfl rfl)
theorem dX3_isLate_66 : decode cX3_isLate 66 = .ok (.getfield 78, 3) := dk_180 0 78 (dk_at dksX3_isLate_3 0 rfl rfl)
theorem dX3_isLate_69 : decode cX3_isLate 69 = .ok (.aload_n 0, 1) := dk_42 (dk_at dksX3_isLate_3 3 rfl rfl)
theorem dX3_isLate_70 : decode cX3_isLate 70 = .ok (.getfield 63, 3) := dk_180 0 63 (dk_at dksX3_isLate_3 4 rfl rfl)
theorem dX3_isLate_73 : decode cX3_isLate 73 = .ok (.iload_n 1, 1) := dk_27 (dk_at dksX3_isLate_3 7 rfl rfl)
theorem dX3_isLate_74 : decode cX3_isLate 74 = .ok (.invokeinterface 114 2, 5) := by decide +kernel
theorem dX3_isLate_79 : decode cX3_isLate 79 = .ok (.checkcast 118, 3) := dk_192 0 118 (dk_at dksX3_isLate_3 13 rfl rfl)
theorem dX3_isLate_82 : decode cX3_isLate 82 = .ok (.iconst 2, 1) := dk_5 (dk_at dksX3_isLate_3 16 rfl rfl)
theorem dX3_isLate_83 : decode cX3_isLate 83 = .ok (.iaload, 1) := dk_46 (dk_at dksX3_isLate_3 17 rfl rfl)
theorem dX3_isLate_84 : decode cX3_isLate 84 = .ok (.if_icmp .le 7, 3) := dk_164 0 7 (dk_at dksX3_isLate_3 18 rfl rfl)
theorem dX3_isLate_87 : decode cX3_isLate 87 = .ok (.iconst 1, 1) := dk_4 (dk_at dksX3_isLate_3 21 rfl rfl)
theorem dX3_isLate_88 : decode cX3_isLate 88 = .ok (.goto 4, 3) := dk_167 0 4 (dk_at dksX3_isLate_4 0 rfl rfl)
theorem dX3_isLate_91 : decode cX3_isLate 91 = .ok (.iconst 0, 1) := dk_3 (dk_at dksX3_isLate_4 3 rfl rfl)
theorem dX3_isLate_92 : decode cX3_isLate 92 = .ok (.ireturn, 1) := dk_172 (dk_at dksX3_isLate_4 4 rfl rfl)
abbrev cX3_claim : ByteArray := prog_15_method_51_code
def yX3_claim : MethodName := ⟨RX3, "claim", "(I)Z"⟩
def dkwX3_claim_6 : List UInt8 := [61, 167, 255, 154, 28, 172]
abbrev dktX3_claim_6 : List UInt8 := dkwX3_claim_6 ++ []
def dkwX3_claim_5 : List UInt8 := [185, 0, 114, 2, 0, 192, 1, 25, 180, 1, 28, 100, 184, 0, 234, 4, 163, 0, 7, 4, 167, 0, 4, 3]
abbrev dktX3_claim_5 : List UInt8 := dkwX3_claim_5 ++ dktX3_claim_6
def dkwX3_claim_4 : List UInt8 := [16, 50, 108, 54, 5, 28, 153, 0, 40, 25, 4, 5, 46, 154, 0, 33, 21, 5, 42, 180, 0, 60, 27]
abbrev dktX3_claim_4 : List UInt8 := dkwX3_claim_4 ++ dktX3_claim_5
def dkwX3_claim_3 : List UInt8 := [3, 46, 185, 0, 114, 2, 0, 192, 0, 237, 180, 0, 240, 185, 0, 114, 2, 0, 192, 0, 132, 180, 0, 180]
abbrev dktX3_claim_3 : List UInt8 := dkwX3_claim_3 ++ dktX3_claim_4
def dkwX3_claim_2 : List UInt8 := [153, 0, 99, 45, 185, 1, 56, 1, 0, 192, 0, 118, 58, 4, 42, 180, 0, 51, 42, 180, 0, 57, 25, 4]
abbrev dktX3_claim_2 : List UInt8 := dkwX3_claim_2 ++ dktX3_claim_3
def dkwX3_claim_1 : List UInt8 := [185, 0, 114, 2, 0, 192, 1, 25, 180, 1, 38, 185, 1, 46, 1, 0, 78, 45, 185, 1, 50, 1, 0]
abbrev dktX3_claim_1 : List UInt8 := dkwX3_claim_1 ++ dktX3_claim_2
def dkwX3_claim_0 : List UInt8 := [42, 182, 0, 69, 42, 27, 182, 1, 43, 153, 0, 5, 3, 172, 4, 61, 42, 180, 0, 60, 27]
abbrev dktX3_claim_0 : List UInt8 := dkwX3_claim_0 ++ dktX3_claim_1
theorem dksX3_claim_0 : cX3_claim.data.toList.drop 0 = dktX3_claim_0 := by decide +kernel
theorem dksX3_claim_1 : cX3_claim.data.toList.drop 21 = dktX3_claim_1 := dk_seg dksX3_claim_0 21 rfl rfl
theorem dksX3_claim_2 : cX3_claim.data.toList.drop 44 = dktX3_claim_2 := dk_seg dksX3_claim_1 23 rfl rfl
theorem dksX3_claim_3 : cX3_claim.data.toList.drop 68 = dktX3_claim_3 := dk_seg dksX3_claim_2 24 rfl rfl
theorem dksX3_claim_4 : cX3_claim.data.toList.drop 92 = dktX3_claim_4 := dk_seg dksX3_claim_3 24 rfl rfl
theorem dksX3_claim_5 : cX3_claim.data.toList.drop 115 = dktX3_claim_5 := dk_seg dksX3_claim_4 23 rfl rfl
theorem dksX3_claim_6 : cX3_claim.data.toList.drop 139 = dktX3_claim_6 := dk_seg dksX3_claim_5 24 rfl rfl
theorem dX3_claim_0 : decode cX3_claim 0 = .ok (.aload_n 0, 1) := dk_42 (dk_at dksX3_claim_0 0 rfl rfl)
theorem dX3_claim_1 : decode cX3_claim 1 = .ok (.invokevirtual 69, 3) := dk_182 0 69 (dk_at dksX3_claim_0 1 rfl rfl)
theorem dX3_claim_4 : decode cX3_claim 4 = .ok (.aload_n 0, 1) := dk_42 (dk_at dksX3_claim_0 4 rfl rfl)
theorem dX3_claim_5 : decode cX3_claim 5 = .ok (.iload_n 1, 1) := dk_27 (dk_at dksX3_claim_0 5 rfl rfl)
theorem dX3_claim_6 : decode cX3_claim 6 = .ok (.invokevirtual 299, 3) := dk_182 1 43 (dk_at dksX3_claim_0 6 rfl rfl)
theorem dX3_claim_9 : decode cX3_claim 9 = .ok (.ifCond .eq 5, 3) := dk_153 0 5 (dk_at dksX3_claim_0 9 rfl rfl)
theorem dX3_claim_12 : decode cX3_claim 12 = .ok (.iconst 0, 1) := dk_3 (dk_at dksX3_claim_0 12 rfl rfl)
theorem dX3_claim_13 : decode cX3_claim 13 = .ok (.ireturn, 1) := dk_172 (dk_at dksX3_claim_0 13 rfl rfl)
theorem dX3_claim_14 : decode cX3_claim 14 = .ok (.iconst 1, 1) := dk_4 (dk_at dksX3_claim_0 14 rfl rfl)
theorem dX3_claim_15 : decode cX3_claim 15 = .ok (.istore_n 2, 1) := dk_61 (dk_at dksX3_claim_0 15 rfl rfl)
theorem dX3_claim_16 : decode cX3_claim 16 = .ok (.aload_n 0, 1) := dk_42 (dk_at dksX3_claim_0 16 rfl rfl)
theorem dX3_claim_17 : decode cX3_claim 17 = .ok (.getfield 60, 3) := dk_180 0 60 (dk_at dksX3_claim_0 17 rfl rfl)
theorem dX3_claim_20 : decode cX3_claim 20 = .ok (.iload_n 1, 1) := dk_27 (dk_at dksX3_claim_0 20 rfl rfl)
theorem dX3_claim_21 : decode cX3_claim 21 = .ok (.invokeinterface 114 2, 5) := by decide +kernel
theorem dX3_claim_26 : decode cX3_claim 26 = .ok (.checkcast 281, 3) := dk_192 1 25 (dk_at dksX3_claim_1 5 rfl rfl)
theorem dX3_claim_29 : decode cX3_claim 29 = .ok (.getfield 294, 3) := dk_180 1 38 (dk_at dksX3_claim_1 8 rfl rfl)
theorem dX3_claim_32 : decode cX3_claim 32 = .ok (.invokeinterface 302 1, 5) := by decide +kernel
theorem dX3_claim_37 : decode cX3_claim 37 = .ok (.astore_n 3, 1) := dk_78 (dk_at dksX3_claim_1 16 rfl rfl)
theorem dX3_claim_38 : decode cX3_claim 38 = .ok (.aload_n 3, 1) := dk_45 (dk_at dksX3_claim_1 17 rfl rfl)
theorem dX3_claim_39 : decode cX3_claim 39 = .ok (.invokeinterface 306 1, 5) := by decide +kernel
theorem dX3_claim_44 : decode cX3_claim 44 = .ok (.ifCond .eq 99, 3) := dk_153 0 99 (dk_at dksX3_claim_2 0 rfl rfl)
theorem dX3_claim_47 : decode cX3_claim 47 = .ok (.aload_n 3, 1) := dk_45 (dk_at dksX3_claim_2 3 rfl rfl)
theorem dX3_claim_48 : decode cX3_claim 48 = .ok (.invokeinterface 312 1, 5) := by decide +kernel
theorem dX3_claim_53 : decode cX3_claim 53 = .ok (.checkcast 118, 3) := dk_192 0 118 (dk_at dksX3_claim_2 9 rfl rfl)
theorem dX3_claim_56 : decode cX3_claim 56 = .ok (.astore 4, 2) := dk_58 4 (dk_at dksX3_claim_2 12 rfl rfl)
theorem dX3_claim_58 : decode cX3_claim 58 = .ok (.aload_n 0, 1) := dk_42 (dk_at dksX3_claim_2 14 rfl rfl)
theorem dX3_claim_59 : decode cX3_claim 59 = .ok (.getfield 51, 3) := dk_180 0 51 (dk_at dksX3_claim_2 15 rfl rfl)
theorem dX3_claim_62 : decode cX3_claim 62 = .ok (.aload_n 0, 1) := dk_42 (dk_at dksX3_claim_2 18 rfl rfl)
theorem dX3_claim_63 : decode cX3_claim 63 = .ok (.getfield 57, 3) := dk_180 0 57 (dk_at dksX3_claim_2 19 rfl rfl)
theorem dX3_claim_66 : decode cX3_claim 66 = .ok (.aload 4, 2) := dk_25 4 (dk_at dksX3_claim_2 22 rfl rfl)
theorem dX3_claim_68 : decode cX3_claim 68 = .ok (.iconst 0, 1) := dk_3 (dk_at dksX3_claim_3 0 rfl rfl)
theorem dX3_claim_69 : decode cX3_claim 69 = .ok (.iaload, 1) := dk_46 (dk_at dksX3_claim_3 1 rfl rfl)
theorem dX3_claim_70 : decode cX3_claim 70 = .ok (.invokeinterface 114 2, 5) := by decide +kernel
theorem dX3_claim_75 : decode cX3_claim 75 = .ok (.checkcast 237, 3) := dk_192 0 237 (dk_at dksX3_claim_3 7 rfl rfl)
theorem dX3_claim_78 : decode cX3_claim 78 = .ok (.getfield 240, 3) := dk_180 0 240 (dk_at dksX3_claim_3 10 rfl rfl)
theorem dX3_claim_81 : decode cX3_claim 81 = .ok (.invokeinterface 114 2, 5) := by decide +kernel
theorem dX3_claim_86 : decode cX3_claim 86 = .ok (.checkcast 132, 3) := dk_192 0 132 (dk_at dksX3_claim_3 18 rfl rfl)
theorem dX3_claim_89 : decode cX3_claim 89 = .ok (.getfield 180, 3) := dk_180 0 180 (dk_at dksX3_claim_3 21 rfl rfl)
theorem dX3_claim_92 : decode cX3_claim 92 = .ok (.bipush 50, 2) := dk_16 50 (dk_at dksX3_claim_4 0 rfl rfl)
theorem dX3_claim_94 : decode cX3_claim 94 = .ok (.idiv, 1) := dk_108 (dk_at dksX3_claim_4 2 rfl rfl)
theorem dX3_claim_95 : decode cX3_claim 95 = .ok (.istore 5, 2) := dk_54 5 (dk_at dksX3_claim_4 3 rfl rfl)
theorem dX3_claim_97 : decode cX3_claim 97 = .ok (.iload_n 2, 1) := dk_28 (dk_at dksX3_claim_4 5 rfl rfl)
theorem dX3_claim_98 : decode cX3_claim 98 = .ok (.ifCond .eq 40, 3) := dk_153 0 40 (dk_at dksX3_claim_4 6 rfl rfl)
theorem dX3_claim_101 : decode cX3_claim 101 = .ok (.aload 4, 2) := dk_25 4 (dk_at dksX3_claim_4 9 rfl rfl)
theorem dX3_claim_103 : decode cX3_claim 103 = .ok (.iconst 2, 1) := dk_5 (dk_at dksX3_claim_4 11 rfl rfl)
theorem dX3_claim_104 : decode cX3_claim 104 = .ok (.iaload, 1) := dk_46 (dk_at dksX3_claim_4 12 rfl rfl)
theorem dX3_claim_105 : decode cX3_claim 105 = .ok (.ifCond .ne 33, 3) := dk_154 0 33 (dk_at dksX3_claim_4 13 rfl rfl)
theorem dX3_claim_108 : decode cX3_claim 108 = .ok (.iload 5, 2) := dk_21 5 (dk_at dksX3_claim_4 16 rfl rfl)
theorem dX3_claim_110 : decode cX3_claim 110 = .ok (.aload_n 0, 1) := dk_42 (dk_at dksX3_claim_4 18 rfl rfl)
theorem dX3_claim_111 : decode cX3_claim 111 = .ok (.getfield 60, 3) := dk_180 0 60 (dk_at dksX3_claim_4 19 rfl rfl)
theorem dX3_claim_114 : decode cX3_claim 114 = .ok (.iload_n 1, 1) := dk_27 (dk_at dksX3_claim_4 22 rfl rfl)
theorem dX3_claim_115 : decode cX3_claim 115 = .ok (.invokeinterface 114 2, 5) := by decide +kernel
theorem dX3_claim_120 : decode cX3_claim 120 = .ok (.checkcast 281, 3) := dk_192 1 25 (dk_at dksX3_claim_5 5 rfl rfl)
theorem dX3_claim_123 : decode cX3_claim 123 = .ok (.getfield 284, 3) := dk_180 1 28 (dk_at dksX3_claim_5 8 rfl rfl)
theorem dX3_claim_126 : decode cX3_claim 126 = .ok (.isub, 1) := dk_100 (dk_at dksX3_claim_5 11 rfl rfl)
theorem dX3_claim_127 : decode cX3_claim 127 = .ok (.invokestatic 234, 3) := dk_184 0 234 (dk_at dksX3_claim_5 12 rfl rfl)
theorem dX3_claim_130 : decode cX3_claim 130 = .ok (.iconst 1, 1) := dk_4 (dk_at dksX3_claim_5 15 rfl rfl)
theorem dX3_claim_131 : decode cX3_claim 131 = .ok (.if_icmp .gt 7, 3) := dk_163 0 7 (dk_at dksX3_claim_5 16 rfl rfl)
theorem dX3_claim_134 : decode cX3_claim 134 = .ok (.iconst 1, 1) := dk_4 (dk_at dksX3_claim_5 19 rfl rfl)
theorem dX3_claim_135 : decode cX3_claim 135 = .ok (.goto 4, 3) := dk_167 0 4 (dk_at dksX3_claim_5 20 rfl rfl)
theorem dX3_claim_138 : decode cX3_claim 138 = .ok (.iconst 0, 1) := dk_3 (dk_at dksX3_claim_5 23 rfl rfl)
theorem dX3_claim_139 : decode cX3_claim 139 = .ok (.istore_n 2, 1) := dk_61 (dk_at dksX3_claim_6 0 rfl rfl)
theorem dX3_claim_140 : decode cX3_claim 140 = .ok (.goto (-102), 3) := dk_167 255 154 (dk_at dksX3_claim_6 1 rfl rfl)
theorem dX3_claim_143 : decode cX3_claim 143 = .ok (.iload_n 2, 1) := dk_28 (dk_at dksX3_claim_6 4 rfl rfl)
theorem dX3_claim_144 : decode cX3_claim 144 = .ok (.ireturn, 1) := dk_172 (dk_at dksX3_claim_6 5 rfl rfl)
abbrev cX3_noGross : ByteArray := prog_15_method_50_code
def yX3_noGross : MethodName := ⟨RX3, "noGross", "(I)Z"⟩
def dkwX3_noGross_0 : List UInt8 := [42, 42, 180, 0, 60, 27, 184, 0, 97, 154, 0, 7, 4, 167, 0, 4, 3, 4, 182, 0, 74, 172]
abbrev dktX3_noGross_0 : List UInt8 := dkwX3_noGross_0 ++ []
theorem dksX3_noGross_0 : cX3_noGross.data.toList.drop 0 = dktX3_noGross_0 := by decide +kernel
theorem dX3_noGross_0 : decode cX3_noGross 0 = .ok (.aload_n 0, 1) := dk_42 (dk_at dksX3_noGross_0 0 rfl rfl)
theorem dX3_noGross_1 : decode cX3_noGross 1 = .ok (.aload_n 0, 1) := dk_42 (dk_at dksX3_noGross_0 1 rfl rfl)
theorem dX3_noGross_2 : decode cX3_noGross 2 = .ok (.getfield 60, 3) := dk_180 0 60 (dk_at dksX3_noGross_0 2 rfl rfl)
theorem dX3_noGross_5 : decode cX3_noGross 5 = .ok (.iload_n 1, 1) := dk_27 (dk_at dksX3_noGross_0 5 rfl rfl)
theorem dX3_noGross_6 : decode cX3_noGross 6 = .ok (.invokestatic 97, 3) := dk_184 0 97 (dk_at dksX3_noGross_0 6 rfl rfl)
theorem dX3_noGross_9 : decode cX3_noGross 9 = .ok (.ifCond .ne 7, 3) := dk_154 0 7 (dk_at dksX3_noGross_0 9 rfl rfl)
theorem dX3_noGross_12 : decode cX3_noGross 12 = .ok (.iconst 1, 1) := dk_4 (dk_at dksX3_noGross_0 12 rfl rfl)
theorem dX3_noGross_13 : decode cX3_noGross 13 = .ok (.goto 4, 3) := dk_167 0 4 (dk_at dksX3_noGross_0 13 rfl rfl)
theorem dX3_noGross_16 : decode cX3_noGross 16 = .ok (.iconst 0, 1) := dk_3 (dk_at dksX3_noGross_0 16 rfl rfl)
theorem dX3_noGross_17 : decode cX3_noGross 17 = .ok (.iconst 1, 1) := dk_4 (dk_at dksX3_noGross_0 17 rfl rfl)
theorem dX3_noGross_18 : decode cX3_noGross 18 = .ok (.invokevirtual 74, 3) := dk_182 0 74 (dk_at dksX3_noGross_0 18 rfl rfl)
theorem dX3_noGross_21 : decode cX3_noGross 21 = .ok (.ireturn, 1) := dk_172 (dk_at dksX3_noGross_0 21 rfl rfl)
abbrev cX3_parts : ByteArray := prog_15_method_52_code
def yX3_parts : MethodName := ⟨RX3, "parts", "(I)I"⟩
def dkwX3_parts_1 : List UInt8 := [185, 0, 114, 2, 0, 192, 1, 25, 180, 1, 38, 185, 0, 7, 1, 0, 172]
abbrev dktX3_parts_1 : List UInt8 := dkwX3_parts_1 ++ []
def dkwX3_parts_0 : List UInt8 := [42, 182, 0, 69, 42, 27, 182, 1, 43, 153, 0, 7, 2, 167, 0, 24, 42, 180, 0, 60, 27]
abbrev dktX3_parts_0 : List UInt8 := dkwX3_parts_0 ++ dktX3_parts_1
theorem dksX3_parts_0 : cX3_parts.data.toList.drop 0 = dktX3_parts_0 := by decide +kernel
theorem dksX3_parts_1 : cX3_parts.data.toList.drop 21 = dktX3_parts_1 := dk_seg dksX3_parts_0 21 rfl rfl
theorem dX3_parts_0 : decode cX3_parts 0 = .ok (.aload_n 0, 1) := dk_42 (dk_at dksX3_parts_0 0 rfl rfl)
theorem dX3_parts_1 : decode cX3_parts 1 = .ok (.invokevirtual 69, 3) := dk_182 0 69 (dk_at dksX3_parts_0 1 rfl rfl)
theorem dX3_parts_4 : decode cX3_parts 4 = .ok (.aload_n 0, 1) := dk_42 (dk_at dksX3_parts_0 4 rfl rfl)
theorem dX3_parts_5 : decode cX3_parts 5 = .ok (.iload_n 1, 1) := dk_27 (dk_at dksX3_parts_0 5 rfl rfl)
theorem dX3_parts_6 : decode cX3_parts 6 = .ok (.invokevirtual 299, 3) := dk_182 1 43 (dk_at dksX3_parts_0 6 rfl rfl)
theorem dX3_parts_9 : decode cX3_parts 9 = .ok (.ifCond .eq 7, 3) := dk_153 0 7 (dk_at dksX3_parts_0 9 rfl rfl)
theorem dX3_parts_12 : decode cX3_parts 12 = .ok (.iconst (-1), 1) := dk_2 (dk_at dksX3_parts_0 12 rfl rfl)
theorem dX3_parts_13 : decode cX3_parts 13 = .ok (.goto 24, 3) := dk_167 0 24 (dk_at dksX3_parts_0 13 rfl rfl)
theorem dX3_parts_16 : decode cX3_parts 16 = .ok (.aload_n 0, 1) := dk_42 (dk_at dksX3_parts_0 16 rfl rfl)
theorem dX3_parts_17 : decode cX3_parts 17 = .ok (.getfield 60, 3) := dk_180 0 60 (dk_at dksX3_parts_0 17 rfl rfl)
theorem dX3_parts_20 : decode cX3_parts 20 = .ok (.iload_n 1, 1) := dk_27 (dk_at dksX3_parts_0 20 rfl rfl)
theorem dX3_parts_21 : decode cX3_parts 21 = .ok (.invokeinterface 114 2, 5) := by decide +kernel
theorem dX3_parts_26 : decode cX3_parts 26 = .ok (.checkcast 281, 3) := dk_192 1 25 (dk_at dksX3_parts_1 5 rfl rfl)
theorem dX3_parts_29 : decode cX3_parts 29 = .ok (.getfield 294, 3) := dk_180 1 38 (dk_at dksX3_parts_1 8 rfl rfl)
theorem dX3_parts_32 : decode cX3_parts 32 = .ok (.invokeinterface 7 1, 5) := by decide +kernel
theorem dX3_parts_37 : decode cX3_parts 37 = .ok (.ireturn, 1) := dk_172 (dk_at dksX3_parts_1 16 rfl rfl)
abbrev cX3_trace : ByteArray := prog_15_method_53_code
def yX3_trace : MethodName := ⟨RX3, "trace", "(IIC)I"⟩
def dkwX3_trace_10 : List UInt8 := [3, 46, 172, 25, 7, 4, 46, 172]
abbrev dktX3_trace_10 : List UInt8 := dkwX3_trace_10 ++ []
def dkwX3_trace_9 : List UInt8 := [180, 0, 168, 172, 25, 6, 180, 0, 174, 172, 25, 5, 180, 0, 243, 172, 25, 5, 180, 0, 245, 172, 25, 7]
abbrev dktX3_trace_9 : List UInt8 := dkwX3_trace_9 ++ dktX3_trace_10
def dkwX3_trace_8 : List UInt8 := [25, 4, 3, 46, 172, 25, 4, 4, 46, 172, 25, 4, 5, 46, 172, 25, 5, 180, 0, 240, 172, 25, 6]
abbrev dktX3_trace_8 : List UInt8 := dkwX3_trace_8 ++ dktX3_trace_9
def dkwX3_trace_7 : List UInt8 := [170, 0, 0, 0, 0, 0, 0, 158, 0, 0, 0, 98, 0, 0, 0, 120, 0, 0, 0, 123, 0, 0, 0, 158, 0, 0, 0, 158, 0, 0, 0, 158, 0, 0, 0, 129, 0, 0, 0, 153, 0, 0, 0, 147, 0, 0, 0, 158, 0, 0, 0, 158, 0, 0, 0, 135, 0, 0, 0, 158, 0, 0, 0, 158, 0, 0, 0, 113, 0, 0, 0, 158, 0, 0, 0, 158, 0, 0, 0, 158, 0, 0, 0, 108, 0, 0, 0, 141, 0, 0, 0, 158, 0, 0, 0, 158, 0, 0, 0, 158, 0, 0, 0, 158, 0, 0, 0, 118]
abbrev dktX3_trace_7 : List UInt8 := dkwX3_trace_7 ++ dktX3_trace_8
def dkwX3_trace_6 : List UInt8 := [42, 180, 0, 42, 25, 6, 180, 0, 135, 185, 0, 114, 2, 0, 192, 0, 118, 58, 7, 29]
abbrev dktX3_trace_6 : List UInt8 := dkwX3_trace_6 ++ dktX3_trace_7
def dkwX3_trace_5 : List UInt8 := [192, 0, 237, 58, 5, 42, 180, 0, 51, 25, 5, 180, 0, 240, 185, 0, 114, 2, 0, 192, 0, 132, 58, 6]
abbrev dktX3_trace_5 : List UInt8 := dkwX3_trace_5 ++ dktX3_trace_6
def dkwX3_trace_4 : List UInt8 := [28, 185, 0, 114, 2, 0, 192, 0, 118, 58, 4, 42, 180, 0, 57, 25, 4, 3, 46, 185, 0, 114, 2, 0]
abbrev dktX3_trace_4 : List UInt8 := dkwX3_trace_4 ++ dktX3_trace_5
def dkwX3_trace_3 : List UInt8 := [182, 0, 74, 153, 0, 5, 2, 172, 42, 180, 0, 60, 27, 185, 0, 114, 2, 0, 192, 1, 25, 180, 1, 38]
abbrev dktX3_trace_3 : List UInt8 := dkwX3_trace_3 ++ dktX3_trace_4
def dkwX3_trace_2 : List UInt8 := [182, 0, 74, 154, 0, 26, 42, 19, 1, 60, 29, 182, 0, 83, 156, 0, 7, 4, 167, 0, 4, 3, 5]
abbrev dktX3_trace_2 : List UInt8 := dkwX3_trace_2 ++ dktX3_trace_3
def dkwX3_trace_1 : List UInt8 := [185, 0, 114, 2, 0, 192, 1, 25, 180, 1, 38, 28, 184, 0, 97, 154, 0, 7, 4, 167, 0, 4, 3, 4]
abbrev dktX3_trace_1 : List UInt8 := dkwX3_trace_1 ++ dktX3_trace_2
def dkwX3_trace_0 : List UInt8 := [42, 182, 0, 69, 42, 42, 180, 0, 60, 27, 184, 0, 97, 153, 0, 26, 42, 180, 0, 60, 27]
abbrev dktX3_trace_0 : List UInt8 := dkwX3_trace_0 ++ dktX3_trace_1
theorem dksX3_trace_0 : cX3_trace.data.toList.drop 0 = dktX3_trace_0 := by decide +kernel
theorem dksX3_trace_1 : cX3_trace.data.toList.drop 21 = dktX3_trace_1 := dk_seg dksX3_trace_0 21 rfl rfl
theorem dksX3_trace_2 : cX3_trace.data.toList.drop 45 = dktX3_trace_2 := dk_seg dksX3_trace_1 24 rfl rfl
theorem dksX3_trace_3 : cX3_trace.data.toList.drop 68 = dktX3_trace_3 := dk_seg dksX3_trace_2 23 rfl rfl
theorem dksX3_trace_4 : cX3_trace.data.toList.drop 92 = dktX3_trace_4 := dk_seg dksX3_trace_3 24 rfl rfl
theorem dksX3_trace_5 : cX3_trace.data.toList.drop 116 = dktX3_trace_5 := dk_seg dksX3_trace_4 24 rfl rfl
theorem dksX3_trace_6 : cX3_trace.data.toList.drop 140 = dktX3_trace_6 := dk_seg dksX3_trace_5 24 rfl rfl
theorem dksX3_trace_7 : cX3_trace.data.toList.drop 160 = dktX3_trace_7 := dk_seg dksX3_trace_6 20 rfl rfl
theorem dksX3_trace_8 : cX3_trace.data.toList.drop 268 = dktX3_trace_8 := dk_seg dksX3_trace_7 108 rfl rfl
theorem dksX3_trace_9 : cX3_trace.data.toList.drop 291 = dktX3_trace_9 := dk_seg dksX3_trace_8 23 rfl rfl
theorem dksX3_trace_10 : cX3_trace.data.toList.drop 315 = dktX3_trace_10 := dk_seg dksX3_trace_9 24 rfl rfl
theorem dX3_trace_0 : decode cX3_trace 0 = .ok (.aload_n 0, 1) := dk_42 (dk_at dksX3_trace_0 0 rfl rfl)
theorem dX3_trace_1 : decode cX3_trace 1 = .ok (.invokevirtual 69, 3) := dk_182 0 69 (dk_at dksX3_trace_0 1 rfl rfl)
theorem dX3_trace_4 : decode cX3_trace 4 = .ok (.aload_n 0, 1) := dk_42 (dk_at dksX3_trace_0 4 rfl rfl)
theorem dX3_trace_5 : decode cX3_trace 5 = .ok (.aload_n 0, 1) := dk_42 (dk_at dksX3_trace_0 5 rfl rfl)
theorem dX3_trace_6 : decode cX3_trace 6 = .ok (.getfield 60, 3) := dk_180 0 60 (dk_at dksX3_trace_0 6 rfl rfl)
theorem dX3_trace_9 : decode cX3_trace 9 = .ok (.iload_n 1, 1) := dk_27 (dk_at dksX3_trace_0 9 rfl rfl)
theorem dX3_trace_10 : decode cX3_trace 10 = .ok (.invokestatic 97, 3) := dk_184 0 97 (dk_at dksX3_trace_0 10 rfl rfl)
theorem dX3_trace_13 : decode cX3_trace 13 = .ok (.ifCond .eq 26, 3) := dk_153 0 26 (dk_at dksX3_trace_0 13 rfl rfl)
theorem dX3_trace_16 : decode cX3_trace 16 = .ok (.aload_n 0, 1) := dk_42 (dk_at dksX3_trace_0 16 rfl rfl)
theorem dX3_trace_17 : decode cX3_trace 17 = .ok (.getfield 60, 3) := dk_180 0 60 (dk_at dksX3_trace_0 17 rfl rfl)
theorem dX3_trace_20 : decode cX3_trace 20 = .ok (.iload_n 1, 1) := dk_27 (dk_at dksX3_trace_0 20 rfl rfl)
theorem dX3_trace_21 : decode cX3_trace 21 = .ok (.invokeinterface 114 2, 5) := by decide +kernel
theorem dX3_trace_26 : decode cX3_trace 26 = .ok (.checkcast 281, 3) := dk_192 1 25 (dk_at dksX3_trace_1 5 rfl rfl)
theorem dX3_trace_29 : decode cX3_trace 29 = .ok (.getfield 294, 3) := dk_180 1 38 (dk_at dksX3_trace_1 8 rfl rfl)
theorem dX3_trace_32 : decode cX3_trace 32 = .ok (.iload_n 2, 1) := dk_28 (dk_at dksX3_trace_1 11 rfl rfl)
theorem dX3_trace_33 : decode cX3_trace 33 = .ok (.invokestatic 97, 3) := dk_184 0 97 (dk_at dksX3_trace_1 12 rfl rfl)
theorem dX3_trace_36 : decode cX3_trace 36 = .ok (.ifCond .ne 7, 3) := dk_154 0 7 (dk_at dksX3_trace_1 15 rfl rfl)
theorem dX3_trace_39 : decode cX3_trace 39 = .ok (.iconst 1, 1) := dk_4 (dk_at dksX3_trace_1 18 rfl rfl)
theorem dX3_trace_40 : decode cX3_trace 40 = .ok (.goto 4, 3) := dk_167 0 4 (dk_at dksX3_trace_1 19 rfl rfl)
theorem dX3_trace_43 : decode cX3_trace 43 = .ok (.iconst 0, 1) := dk_3 (dk_at dksX3_trace_1 22 rfl rfl)
theorem dX3_trace_44 : decode cX3_trace 44 = .ok (.iconst 1, 1) := dk_4 (dk_at dksX3_trace_1 23 rfl rfl)
theorem dX3_trace_45 : decode cX3_trace 45 = .ok (.invokevirtual 74, 3) := dk_182 0 74 (dk_at dksX3_trace_2 0 rfl rfl)
theorem dX3_trace_48 : decode cX3_trace 48 = .ok (.ifCond .ne 26, 3) := dk_154 0 26 (dk_at dksX3_trace_2 3 rfl rfl)
theorem dX3_trace_51 : decode cX3_trace 51 = .ok (.aload_n 0, 1) := dk_42 (dk_at dksX3_trace_2 6 rfl rfl)
theorem dX3_trace_52 : decode cX3_trace 52 = .ok (.ldc_w 316, 3) := dk_19 1 60 (dk_at dksX3_trace_2 7 rfl rfl)
theorem dX3_trace_55 : decode cX3_trace 55 = .ok (.iload_n 3, 1) := dk_29 (dk_at dksX3_trace_2 10 rfl rfl)
theorem dX3_trace_56 : decode cX3_trace 56 = .ok (.invokevirtual 83, 3) := dk_182 0 83 (dk_at dksX3_trace_2 11 rfl rfl)
theorem dX3_trace_59 : decode cX3_trace 59 = .ok (.ifCond .ge 7, 3) := dk_156 0 7 (dk_at dksX3_trace_2 14 rfl rfl)
theorem dX3_trace_62 : decode cX3_trace 62 = .ok (.iconst 1, 1) := dk_4 (dk_at dksX3_trace_2 17 rfl rfl)
theorem dX3_trace_63 : decode cX3_trace 63 = .ok (.goto 4, 3) := dk_167 0 4 (dk_at dksX3_trace_2 18 rfl rfl)
theorem dX3_trace_66 : decode cX3_trace 66 = .ok (.iconst 0, 1) := dk_3 (dk_at dksX3_trace_2 21 rfl rfl)
theorem dX3_trace_67 : decode cX3_trace 67 = .ok (.iconst 2, 1) := dk_5 (dk_at dksX3_trace_2 22 rfl rfl)
theorem dX3_trace_68 : decode cX3_trace 68 = .ok (.invokevirtual 74, 3) := dk_182 0 74 (dk_at dksX3_trace_3 0 rfl rfl)
theorem dX3_trace_71 : decode cX3_trace 71 = .ok (.ifCond .eq 5, 3) := dk_153 0 5 (dk_at dksX3_trace_3 3 rfl rfl)
theorem dX3_trace_74 : decode cX3_trace 74 = .ok (.iconst (-1), 1) := dk_2 (dk_at dksX3_trace_3 6 rfl rfl)
theorem dX3_trace_75 : decode cX3_trace 75 = .ok (.ireturn, 1) := dk_172 (dk_at dksX3_trace_3 7 rfl rfl)
theorem dX3_trace_76 : decode cX3_trace 76 = .ok (.aload_n 0, 1) := dk_42 (dk_at dksX3_trace_3 8 rfl rfl)
theorem dX3_trace_77 : decode cX3_trace 77 = .ok (.getfield 60, 3) := dk_180 0 60 (dk_at dksX3_trace_3 9 rfl rfl)
theorem dX3_trace_80 : decode cX3_trace 80 = .ok (.iload_n 1, 1) := dk_27 (dk_at dksX3_trace_3 12 rfl rfl)
theorem dX3_trace_81 : decode cX3_trace 81 = .ok (.invokeinterface 114 2, 5) := by decide +kernel
theorem dX3_trace_86 : decode cX3_trace 86 = .ok (.checkcast 281, 3) := dk_192 1 25 (dk_at dksX3_trace_3 18 rfl rfl)
theorem dX3_trace_89 : decode cX3_trace 89 = .ok (.getfield 294, 3) := dk_180 1 38 (dk_at dksX3_trace_3 21 rfl rfl)
theorem dX3_trace_92 : decode cX3_trace 92 = .ok (.iload_n 2, 1) := dk_28 (dk_at dksX3_trace_4 0 rfl rfl)
theorem dX3_trace_93 : decode cX3_trace 93 = .ok (.invokeinterface 114 2, 5) := by decide +kernel
theorem dX3_trace_98 : decode cX3_trace 98 = .ok (.checkcast 118, 3) := dk_192 0 118 (dk_at dksX3_trace_4 6 rfl rfl)
theorem dX3_trace_101 : decode cX3_trace 101 = .ok (.astore 4, 2) := dk_58 4 (dk_at dksX3_trace_4 9 rfl rfl)
theorem dX3_trace_103 : decode cX3_trace 103 = .ok (.aload_n 0, 1) := dk_42 (dk_at dksX3_trace_4 11 rfl rfl)
theorem dX3_trace_104 : decode cX3_trace 104 = .ok (.getfield 57, 3) := dk_180 0 57 (dk_at dksX3_trace_4 12 rfl rfl)
theorem dX3_trace_107 : decode cX3_trace 107 = .ok (.aload 4, 2) := dk_25 4 (dk_at dksX3_trace_4 15 rfl rfl)
theorem dX3_trace_109 : decode cX3_trace 109 = .ok (.iconst 0, 1) := dk_3 (dk_at dksX3_trace_4 17 rfl rfl)
theorem dX3_trace_110 : decode cX3_trace 110 = .ok (.iaload, 1) := dk_46 (dk_at dksX3_trace_4 18 rfl rfl)
theorem dX3_trace_111 : decode cX3_trace 111 = .ok (.invokeinterface 114 2, 5) := by decide +kernel
theorem dX3_trace_116 : decode cX3_trace 116 = .ok (.checkcast 237, 3) := dk_192 0 237 (dk_at dksX3_trace_5 0 rfl rfl)
theorem dX3_trace_119 : decode cX3_trace 119 = .ok (.astore 5, 2) := dk_58 5 (dk_at dksX3_trace_5 3 rfl rfl)
theorem dX3_trace_121 : decode cX3_trace 121 = .ok (.aload_n 0, 1) := dk_42 (dk_at dksX3_trace_5 5 rfl rfl)
theorem dX3_trace_122 : decode cX3_trace 122 = .ok (.getfield 51, 3) := dk_180 0 51 (dk_at dksX3_trace_5 6 rfl rfl)
theorem dX3_trace_125 : decode cX3_trace 125 = .ok (.aload 5, 2) := dk_25 5 (dk_at dksX3_trace_5 9 rfl rfl)
theorem dX3_trace_127 : decode cX3_trace 127 = .ok (.getfield 240, 3) := dk_180 0 240 (dk_at dksX3_trace_5 11 rfl rfl)
theorem dX3_trace_130 : decode cX3_trace 130 = .ok (.invokeinterface 114 2, 5) := by decide +kernel
theorem dX3_trace_135 : decode cX3_trace 135 = .ok (.checkcast 132, 3) := dk_192 0 132 (dk_at dksX3_trace_5 19 rfl rfl)
theorem dX3_trace_138 : decode cX3_trace 138 = .ok (.astore 6, 2) := dk_58 6 (dk_at dksX3_trace_5 22 rfl rfl)
theorem dX3_trace_140 : decode cX3_trace 140 = .ok (.aload_n 0, 1) := dk_42 (dk_at dksX3_trace_6 0 rfl rfl)
theorem dX3_trace_141 : decode cX3_trace 141 = .ok (.getfield 42, 3) := dk_180 0 42 (dk_at dksX3_trace_6 1 rfl rfl)
theorem dX3_trace_144 : decode cX3_trace 144 = .ok (.aload 6, 2) := dk_25 6 (dk_at dksX3_trace_6 4 rfl rfl)
theorem dX3_trace_146 : decode cX3_trace 146 = .ok (.getfield 135, 3) := dk_180 0 135 (dk_at dksX3_trace_6 6 rfl rfl)
theorem dX3_trace_149 : decode cX3_trace 149 = .ok (.invokeinterface 114 2, 5) := by decide +kernel
theorem dX3_trace_154 : decode cX3_trace 154 = .ok (.checkcast 118, 3) := dk_192 0 118 (dk_at dksX3_trace_6 14 rfl rfl)
theorem dX3_trace_157 : decode cX3_trace 157 = .ok (.astore 7, 2) := dk_58 7 (dk_at dksX3_trace_6 17 rfl rfl)
theorem dX3_trace_159 : decode cX3_trace 159 = .ok (.iload_n 3, 1) := dk_29 (dk_at dksX3_trace_6 19 rfl rfl)
theorem dX3_trace_160 : decode cX3_trace 160 = .ok (.tableswitch 158 98 120 #[123, 158, 158, 158, 129, 153, 147, 158, 158, 135, 158, 158, 113, 158, 158, 158, 108, 141, 158, 158, 158, 158, 118], 108) := by decide +kernel
theorem dX3_trace_268 : decode cX3_trace 268 = .ok (.aload 4, 2) := dk_25 4 (dk_at dksX3_trace_8 0 rfl rfl)
theorem dX3_trace_270 : decode cX3_trace 270 = .ok (.iconst 0, 1) := dk_3 (dk_at dksX3_trace_8 2 rfl rfl)
theorem dX3_trace_271 : decode cX3_trace 271 = .ok (.iaload, 1) := dk_46 (dk_at dksX3_trace_8 3 rfl rfl)
theorem dX3_trace_272 : decode cX3_trace 272 = .ok (.ireturn, 1) := dk_172 (dk_at dksX3_trace_8 4 rfl rfl)
theorem dX3_trace_273 : decode cX3_trace 273 = .ok (.aload 4, 2) := dk_25 4 (dk_at dksX3_trace_8 5 rfl rfl)
theorem dX3_trace_275 : decode cX3_trace 275 = .ok (.iconst 1, 1) := dk_4 (dk_at dksX3_trace_8 7 rfl rfl)
theorem dX3_trace_276 : decode cX3_trace 276 = .ok (.iaload, 1) := dk_46 (dk_at dksX3_trace_8 8 rfl rfl)
theorem dX3_trace_277 : decode cX3_trace 277 = .ok (.ireturn, 1) := dk_172 (dk_at dksX3_trace_8 9 rfl rfl)
theorem dX3_trace_278 : decode cX3_trace 278 = .ok (.aload 4, 2) := dk_25 4 (dk_at dksX3_trace_8 10 rfl rfl)
theorem dX3_trace_280 : decode cX3_trace 280 = .ok (.iconst 2, 1) := dk_5 (dk_at dksX3_trace_8 12 rfl rfl)
theorem dX3_trace_281 : decode cX3_trace 281 = .ok (.iaload, 1) := dk_46 (dk_at dksX3_trace_8 13 rfl rfl)
theorem dX3_trace_282 : decode cX3_trace 282 = .ok (.ireturn, 1) := dk_172 (dk_at dksX3_trace_8 14 rfl rfl)
theorem dX3_trace_283 : decode cX3_trace 283 = .ok (.aload 5, 2) := dk_25 5 (dk_at dksX3_trace_8 15 rfl rfl)
theorem dX3_trace_285 : decode cX3_trace 285 = .ok (.getfield 240, 3) := dk_180 0 240 (dk_at dksX3_trace_8 17 rfl rfl)
theorem dX3_trace_288 : decode cX3_trace 288 = .ok (.ireturn, 1) := dk_172 (dk_at dksX3_trace_8 20 rfl rfl)
theorem dX3_trace_289 : decode cX3_trace 289 = .ok (.aload 6, 2) := dk_25 6 (dk_at dksX3_trace_8 21 rfl rfl)
theorem dX3_trace_291 : decode cX3_trace 291 = .ok (.getfield 168, 3) := dk_180 0 168 (dk_at dksX3_trace_9 0 rfl rfl)
theorem dX3_trace_294 : decode cX3_trace 294 = .ok (.ireturn, 1) := dk_172 (dk_at dksX3_trace_9 3 rfl rfl)
theorem dX3_trace_295 : decode cX3_trace 295 = .ok (.aload 6, 2) := dk_25 6 (dk_at dksX3_trace_9 4 rfl rfl)
theorem dX3_trace_297 : decode cX3_trace 297 = .ok (.getfield 174, 3) := dk_180 0 174 (dk_at dksX3_trace_9 6 rfl rfl)
theorem dX3_trace_300 : decode cX3_trace 300 = .ok (.ireturn, 1) := dk_172 (dk_at dksX3_trace_9 9 rfl rfl)
theorem dX3_trace_301 : decode cX3_trace 301 = .ok (.aload 5, 2) := dk_25 5 (dk_at dksX3_trace_9 10 rfl rfl)
theorem dX3_trace_303 : decode cX3_trace 303 = .ok (.getfield 243, 3) := dk_180 0 243 (dk_at dksX3_trace_9 12 rfl rfl)
theorem dX3_trace_306 : decode cX3_trace 306 = .ok (.ireturn, 1) := dk_172 (dk_at dksX3_trace_9 15 rfl rfl)
theorem dX3_trace_307 : decode cX3_trace 307 = .ok (.aload 5, 2) := dk_25 5 (dk_at dksX3_trace_9 16 rfl rfl)
theorem dX3_trace_309 : decode cX3_trace 309 = .ok (.getfield 245, 3) := dk_180 0 245 (dk_at dksX3_trace_9 18 rfl rfl)
theorem dX3_trace_312 : decode cX3_trace 312 = .ok (.ireturn, 1) := dk_172 (dk_at dksX3_trace_9 21 rfl rfl)
theorem dX3_trace_313 : decode cX3_trace 313 = .ok (.aload 7, 2) := dk_25 7 (dk_at dksX3_trace_9 22 rfl rfl)
theorem dX3_trace_315 : decode cX3_trace 315 = .ok (.iconst 0, 1) := dk_3 (dk_at dksX3_trace_10 0 rfl rfl)
theorem dX3_trace_316 : decode cX3_trace 316 = .ok (.iaload, 1) := dk_46 (dk_at dksX3_trace_10 1 rfl rfl)
theorem dX3_trace_317 : decode cX3_trace 317 = .ok (.ireturn, 1) := dk_172 (dk_at dksX3_trace_10 2 rfl rfl)
theorem dX3_trace_318 : decode cX3_trace 318 = .ok (.aload 7, 2) := dk_25 7 (dk_at dksX3_trace_10 3 rfl rfl)
theorem dX3_trace_320 : decode cX3_trace 320 = .ok (.iconst 1, 1) := dk_4 (dk_at dksX3_trace_10 5 rfl rfl)
theorem dX3_trace_321 : decode cX3_trace 321 = .ok (.iaload, 1) := dk_46 (dk_at dksX3_trace_10 6 rfl rfl)
theorem dX3_trace_322 : decode cX3_trace 322 = .ok (.ireturn, 1) := dk_172 (dk_at dksX3_trace_10 7 rfl rfl)
abbrev cX3_missing : ByteArray := prog_15_method_54_code
def yX3_missing : MethodName := ⟨RX3, "missing", "()I"⟩
def dkwX3_missing_0 : List UInt8 := [42, 182, 0, 69, 3, 172]
abbrev dktX3_missing_0 : List UInt8 := dkwX3_missing_0 ++ []
theorem dksX3_missing_0 : cX3_missing.data.toList.drop 0 = dktX3_missing_0 := by decide +kernel
theorem dX3_missing_0 : decode cX3_missing 0 = .ok (.aload_n 0, 1) := dk_42 (dk_at dksX3_missing_0 0 rfl rfl)
theorem dX3_missing_1 : decode cX3_missing 1 = .ok (.invokevirtual 69, 3) := dk_182 0 69 (dk_at dksX3_missing_0 1 rfl rfl)
theorem dX3_missing_4 : decode cX3_missing 4 = .ok (.iconst 0, 1) := dk_3 (dk_at dksX3_missing_0 4 rfl rfl)
theorem dX3_missing_5 : decode cX3_missing 5 = .ok (.ireturn, 1) := dk_172 (dk_at dksX3_missing_0 5 rfl rfl)
abbrev cX3_checksum : ByteArray := prog_15_method_55_code
def yX3_checksum : MethodName := ⟨RX3, "checksum", "()J"⟩
def dkwX3_checksum_8 : List UInt8 := [167, 255, 223, 31, 173]
abbrev dktX3_checksum_8 : List UInt8 := dkwX3_checksum_8 ++ []
def dkwX3_checksum_7 : List UInt8 := [185, 1, 56, 1, 0, 192, 1, 25, 58, 4, 20, 1, 64, 31, 105, 25, 4, 182, 1, 33, 133, 97, 64]
abbrev dktX3_checksum_7 : List UInt8 := dkwX3_checksum_7 ++ dktX3_checksum_8
def dkwX3_checksum_6 : List UInt8 := [42, 180, 0, 60, 185, 1, 46, 1, 0, 78, 45, 185, 1, 50, 1, 0, 153, 0, 30, 45]
abbrev dktX3_checksum_6 : List UInt8 := dkwX3_checksum_6 ++ dktX3_checksum_7
def dkwX3_checksum_5 : List UInt8 := [25, 4, 180, 0, 248, 133, 97, 64, 20, 1, 64, 31, 105, 25, 4, 180, 1, 14, 133, 97, 64, 167, 255, 210]
abbrev dktX3_checksum_5 : List UInt8 := dkwX3_checksum_5 ++ dktX3_checksum_6
def dkwX3_checksum_4 : List UInt8 := [185, 1, 50, 1, 0, 153, 0, 43, 45, 185, 1, 56, 1, 0, 192, 0, 237, 58, 4, 20, 1, 64, 31, 105]
abbrev dktX3_checksum_4 : List UInt8 := dkwX3_checksum_4 ++ dktX3_checksum_5
def dkwX3_checksum_3 : List UInt8 := [180, 0, 177, 133, 97, 64, 167, 255, 197, 42, 180, 0, 57, 185, 1, 46, 1, 0, 78, 45]
abbrev dktX3_checksum_3 : List UInt8 := dkwX3_checksum_3 ++ dktX3_checksum_4
def dkwX3_checksum_2 : List UInt8 := [133, 97, 64, 20, 1, 64, 31, 105, 25, 4, 180, 0, 180, 133, 97, 64, 20, 1, 64, 31, 105, 25, 4]
abbrev dktX3_checksum_2 : List UInt8 := dkwX3_checksum_2 ++ dktX3_checksum_3
def dkwX3_checksum_1 : List UInt8 := [153, 0, 56, 45, 185, 1, 56, 1, 0, 192, 0, 132, 58, 4, 20, 1, 64, 31, 105, 25, 4, 180, 0, 138]
abbrev dktX3_checksum_1 : List UInt8 := dkwX3_checksum_1 ++ dktX3_checksum_2
def dkwX3_checksum_0 : List UInt8 := [42, 182, 0, 69, 20, 1, 62, 64, 42, 180, 0, 51, 185, 1, 46, 1, 0, 78, 45, 185, 1, 50, 1, 0]
abbrev dktX3_checksum_0 : List UInt8 := dkwX3_checksum_0 ++ dktX3_checksum_1
theorem dksX3_checksum_0 : cX3_checksum.data.toList.drop 0 = dktX3_checksum_0 := by decide +kernel
theorem dksX3_checksum_1 : cX3_checksum.data.toList.drop 24 = dktX3_checksum_1 := dk_seg dksX3_checksum_0 24 rfl rfl
theorem dksX3_checksum_2 : cX3_checksum.data.toList.drop 48 = dktX3_checksum_2 := dk_seg dksX3_checksum_1 24 rfl rfl
theorem dksX3_checksum_3 : cX3_checksum.data.toList.drop 71 = dktX3_checksum_3 := dk_seg dksX3_checksum_2 23 rfl rfl
theorem dksX3_checksum_4 : cX3_checksum.data.toList.drop 91 = dktX3_checksum_4 := dk_seg dksX3_checksum_3 20 rfl rfl
theorem dksX3_checksum_5 : cX3_checksum.data.toList.drop 115 = dktX3_checksum_5 := dk_seg dksX3_checksum_4 24 rfl rfl
theorem dksX3_checksum_6 : cX3_checksum.data.toList.drop 139 = dktX3_checksum_6 := dk_seg dksX3_checksum_5 24 rfl rfl
theorem dksX3_checksum_7 : cX3_checksum.data.toList.drop 159 = dktX3_checksum_7 := dk_seg dksX3_checksum_6 20 rfl rfl
theorem dksX3_checksum_8 : cX3_checksum.data.toList.drop 182 = dktX3_checksum_8 := dk_seg dksX3_checksum_7 23 rfl rfl
theorem dX3_checksum_0 : decode cX3_checksum 0 = .ok (.aload_n 0, 1) := dk_42 (dk_at dksX3_checksum_0 0 rfl rfl)
theorem dX3_checksum_1 : decode cX3_checksum 1 = .ok (.invokevirtual 69, 3) := dk_182 0 69 (dk_at dksX3_checksum_0 1 rfl rfl)
theorem dX3_checksum_4 : decode cX3_checksum 4 = .ok (.ldc2_w 318, 3) := dk_20 1 62 (dk_at dksX3_checksum_0 4 rfl rfl)
theorem dX3_checksum_7 : decode cX3_checksum 7 = .ok (.lstore_n 1, 1) := dk_64 (dk_at dksX3_checksum_0 7 rfl rfl)
theorem dX3_checksum_8 : decode cX3_checksum 8 = .ok (.aload_n 0, 1) := dk_42 (dk_at dksX3_checksum_0 8 rfl rfl)
theorem dX3_checksum_9 : decode cX3_checksum 9 = .ok (.getfield 51, 3) := dk_180 0 51 (dk_at dksX3_checksum_0 9 rfl rfl)
theorem dX3_checksum_12 : decode cX3_checksum 12 = .ok (.invokeinterface 302 1, 5) := by decide +kernel
theorem dX3_checksum_17 : decode cX3_checksum 17 = .ok (.astore_n 3, 1) := dk_78 (dk_at dksX3_checksum_0 17 rfl rfl)
theorem dX3_checksum_18 : decode cX3_checksum 18 = .ok (.aload_n 3, 1) := dk_45 (dk_at dksX3_checksum_0 18 rfl rfl)
theorem dX3_checksum_19 : decode cX3_checksum 19 = .ok (.invokeinterface 306 1, 5) := by decide +kernel
theorem dX3_checksum_24 : decode cX3_checksum 24 = .ok (.ifCond .eq 56, 3) := dk_153 0 56 (dk_at dksX3_checksum_1 0 rfl rfl)
theorem dX3_checksum_27 : decode cX3_checksum 27 = .ok (.aload_n 3, 1) := dk_45 (dk_at dksX3_checksum_1 3 rfl rfl)
theorem dX3_checksum_28 : decode cX3_checksum 28 = .ok (.invokeinterface 312 1, 5) := by decide +kernel
theorem dX3_checksum_33 : decode cX3_checksum 33 = .ok (.checkcast 132, 3) := dk_192 0 132 (dk_at dksX3_checksum_1 9 rfl rfl)
theorem dX3_checksum_36 : decode cX3_checksum 36 = .ok (.astore 4, 2) := dk_58 4 (dk_at dksX3_checksum_1 12 rfl rfl)
theorem dX3_checksum_38 : decode cX3_checksum 38 = .ok (.ldc2_w 320, 3) := dk_20 1 64 (dk_at dksX3_checksum_1 14 rfl rfl)
theorem dX3_checksum_41 : decode cX3_checksum 41 = .ok (.lload_n 1, 1) := dk_31 (dk_at dksX3_checksum_1 17 rfl rfl)
theorem dX3_checksum_42 : decode cX3_checksum 42 = .ok (.lmul, 1) := dk_105 (dk_at dksX3_checksum_1 18 rfl rfl)
theorem dX3_checksum_43 : decode cX3_checksum 43 = .ok (.aload 4, 2) := dk_25 4 (dk_at dksX3_checksum_1 19 rfl rfl)
theorem dX3_checksum_45 : decode cX3_checksum 45 = .ok (.getfield 138, 3) := dk_180 0 138 (dk_at dksX3_checksum_1 21 rfl rfl)
theorem dX3_checksum_48 : decode cX3_checksum 48 = .ok (.i2l, 1) := dk_133 (dk_at dksX3_checksum_2 0 rfl rfl)
theorem dX3_checksum_49 : decode cX3_checksum 49 = .ok (.ladd, 1) := dk_97 (dk_at dksX3_checksum_2 1 rfl rfl)
theorem dX3_checksum_50 : decode cX3_checksum 50 = .ok (.lstore_n 1, 1) := dk_64 (dk_at dksX3_checksum_2 2 rfl rfl)
theorem dX3_checksum_51 : decode cX3_checksum 51 = .ok (.ldc2_w 320, 3) := dk_20 1 64 (dk_at dksX3_checksum_2 3 rfl rfl)
theorem dX3_checksum_54 : decode cX3_checksum 54 = .ok (.lload_n 1, 1) := dk_31 (dk_at dksX3_checksum_2 6 rfl rfl)
theorem dX3_checksum_55 : decode cX3_checksum 55 = .ok (.lmul, 1) := dk_105 (dk_at dksX3_checksum_2 7 rfl rfl)
theorem dX3_checksum_56 : decode cX3_checksum 56 = .ok (.aload 4, 2) := dk_25 4 (dk_at dksX3_checksum_2 8 rfl rfl)
theorem dX3_checksum_58 : decode cX3_checksum 58 = .ok (.getfield 180, 3) := dk_180 0 180 (dk_at dksX3_checksum_2 10 rfl rfl)
theorem dX3_checksum_61 : decode cX3_checksum 61 = .ok (.i2l, 1) := dk_133 (dk_at dksX3_checksum_2 13 rfl rfl)
theorem dX3_checksum_62 : decode cX3_checksum 62 = .ok (.ladd, 1) := dk_97 (dk_at dksX3_checksum_2 14 rfl rfl)
theorem dX3_checksum_63 : decode cX3_checksum 63 = .ok (.lstore_n 1, 1) := dk_64 (dk_at dksX3_checksum_2 15 rfl rfl)
theorem dX3_checksum_64 : decode cX3_checksum 64 = .ok (.ldc2_w 320, 3) := dk_20 1 64 (dk_at dksX3_checksum_2 16 rfl rfl)
theorem dX3_checksum_67 : decode cX3_checksum 67 = .ok (.lload_n 1, 1) := dk_31 (dk_at dksX3_checksum_2 19 rfl rfl)
theorem dX3_checksum_68 : decode cX3_checksum 68 = .ok (.lmul, 1) := dk_105 (dk_at dksX3_checksum_2 20 rfl rfl)
theorem dX3_checksum_69 : decode cX3_checksum 69 = .ok (.aload 4, 2) := dk_25 4 (dk_at dksX3_checksum_2 21 rfl rfl)
theorem dX3_checksum_71 : decode cX3_checksum 71 = .ok (.getfield 177, 3) := dk_180 0 177 (dk_at dksX3_checksum_3 0 rfl rfl)
theorem dX3_checksum_74 : decode cX3_checksum 74 = .ok (.i2l, 1) := dk_133 (dk_at dksX3_checksum_3 3 rfl rfl)
theorem dX3_checksum_75 : decode cX3_checksum 75 = .ok (.ladd, 1) := dk_97 (dk_at dksX3_checksum_3 4 rfl rfl)
theorem dX3_checksum_76 : decode cX3_checksum 76 = .ok (.lstore_n 1, 1) := dk_64 (dk_at dksX3_checksum_3 5 rfl rfl)
theorem dX3_checksum_77 : decode cX3_checksum 77 = .ok (.goto (-59), 3) := dk_167 255 197 (dk_at dksX3_checksum_3 6 rfl rfl)
theorem dX3_checksum_80 : decode cX3_checksum 80 = .ok (.aload_n 0, 1) := dk_42 (dk_at dksX3_checksum_3 9 rfl rfl)
theorem dX3_checksum_81 : decode cX3_checksum 81 = .ok (.getfield 57, 3) := dk_180 0 57 (dk_at dksX3_checksum_3 10 rfl rfl)
theorem dX3_checksum_84 : decode cX3_checksum 84 = .ok (.invokeinterface 302 1, 5) := by decide +kernel
theorem dX3_checksum_89 : decode cX3_checksum 89 = .ok (.astore_n 3, 1) := dk_78 (dk_at dksX3_checksum_3 18 rfl rfl)
theorem dX3_checksum_90 : decode cX3_checksum 90 = .ok (.aload_n 3, 1) := dk_45 (dk_at dksX3_checksum_3 19 rfl rfl)
theorem dX3_checksum_91 : decode cX3_checksum 91 = .ok (.invokeinterface 306 1, 5) := by decide +kernel
theorem dX3_checksum_96 : decode cX3_checksum 96 = .ok (.ifCond .eq 43, 3) := dk_153 0 43 (dk_at dksX3_checksum_4 5 rfl rfl)
theorem dX3_checksum_99 : decode cX3_checksum 99 = .ok (.aload_n 3, 1) := dk_45 (dk_at dksX3_checksum_4 8 rfl rfl)
theorem dX3_checksum_100 : decode cX3_checksum 100 = .ok (.invokeinterface 312 1, 5) := by decide +kernel
theorem dX3_checksum_105 : decode cX3_checksum 105 = .ok (.checkcast 237, 3) := dk_192 0 237 (dk_at dksX3_checksum_4 14 rfl rfl)
theorem dX3_checksum_108 : decode cX3_checksum 108 = .ok (.astore 4, 2) := dk_58 4 (dk_at dksX3_checksum_4 17 rfl rfl)
theorem dX3_checksum_110 : decode cX3_checksum 110 = .ok (.ldc2_w 320, 3) := dk_20 1 64 (dk_at dksX3_checksum_4 19 rfl rfl)
theorem dX3_checksum_113 : decode cX3_checksum 113 = .ok (.lload_n 1, 1) := dk_31 (dk_at dksX3_checksum_4 22 rfl rfl)
theorem dX3_checksum_114 : decode cX3_checksum 114 = .ok (.lmul, 1) := dk_105 (dk_at dksX3_checksum_4 23 rfl rfl)
theorem dX3_checksum_115 : decode cX3_checksum 115 = .ok (.aload 4, 2) := dk_25 4 (dk_at dksX3_checksum_5 0 rfl rfl)
theorem dX3_checksum_117 : decode cX3_checksum 117 = .ok (.getfield 248, 3) := dk_180 0 248 (dk_at dksX3_checksum_5 2 rfl rfl)
theorem dX3_checksum_120 : decode cX3_checksum 120 = .ok (.i2l, 1) := dk_133 (dk_at dksX3_checksum_5 5 rfl rfl)
theorem dX3_checksum_121 : decode cX3_checksum 121 = .ok (.ladd, 1) := dk_97 (dk_at dksX3_checksum_5 6 rfl rfl)
theorem dX3_checksum_122 : decode cX3_checksum 122 = .ok (.lstore_n 1, 1) := dk_64 (dk_at dksX3_checksum_5 7 rfl rfl)
theorem dX3_checksum_123 : decode cX3_checksum 123 = .ok (.ldc2_w 320, 3) := dk_20 1 64 (dk_at dksX3_checksum_5 8 rfl rfl)
theorem dX3_checksum_126 : decode cX3_checksum 126 = .ok (.lload_n 1, 1) := dk_31 (dk_at dksX3_checksum_5 11 rfl rfl)
theorem dX3_checksum_127 : decode cX3_checksum 127 = .ok (.lmul, 1) := dk_105 (dk_at dksX3_checksum_5 12 rfl rfl)
theorem dX3_checksum_128 : decode cX3_checksum 128 = .ok (.aload 4, 2) := dk_25 4 (dk_at dksX3_checksum_5 13 rfl rfl)
theorem dX3_checksum_130 : decode cX3_checksum 130 = .ok (.getfield 270, 3) := dk_180 1 14 (dk_at dksX3_checksum_5 15 rfl rfl)
theorem dX3_checksum_133 : decode cX3_checksum 133 = .ok (.i2l, 1) := dk_133 (dk_at dksX3_checksum_5 18 rfl rfl)
theorem dX3_checksum_134 : decode cX3_checksum 134 = .ok (.ladd, 1) := dk_97 (dk_at dksX3_checksum_5 19 rfl rfl)
theorem dX3_checksum_135 : decode cX3_checksum 135 = .ok (.lstore_n 1, 1) := dk_64 (dk_at dksX3_checksum_5 20 rfl rfl)
theorem dX3_checksum_136 : decode cX3_checksum 136 = .ok (.goto (-46), 3) := dk_167 255 210 (dk_at dksX3_checksum_5 21 rfl rfl)
theorem dX3_checksum_139 : decode cX3_checksum 139 = .ok (.aload_n 0, 1) := dk_42 (dk_at dksX3_checksum_6 0 rfl rfl)
theorem dX3_checksum_140 : decode cX3_checksum 140 = .ok (.getfield 60, 3) := dk_180 0 60 (dk_at dksX3_checksum_6 1 rfl rfl)
theorem dX3_checksum_143 : decode cX3_checksum 143 = .ok (.invokeinterface 302 1, 5) := by decide +kernel
theorem dX3_checksum_148 : decode cX3_checksum 148 = .ok (.astore_n 3, 1) := dk_78 (dk_at dksX3_checksum_6 9 rfl rfl)
theorem dX3_checksum_149 : decode cX3_checksum 149 = .ok (.aload_n 3, 1) := dk_45 (dk_at dksX3_checksum_6 10 rfl rfl)
theorem dX3_checksum_150 : decode cX3_checksum 150 = .ok (.invokeinterface 306 1, 5) := by decide +kernel
theorem dX3_checksum_155 : decode cX3_checksum 155 = .ok (.ifCond .eq 30, 3) := dk_153 0 30 (dk_at dksX3_checksum_6 16 rfl rfl)
theorem dX3_checksum_158 : decode cX3_checksum 158 = .ok (.aload_n 3, 1) := dk_45 (dk_at dksX3_checksum_6 19 rfl rfl)
theorem dX3_checksum_159 : decode cX3_checksum 159 = .ok (.invokeinterface 312 1, 5) := by decide +kernel
theorem dX3_checksum_164 : decode cX3_checksum 164 = .ok (.checkcast 281, 3) := dk_192 1 25 (dk_at dksX3_checksum_7 5 rfl rfl)
theorem dX3_checksum_167 : decode cX3_checksum 167 = .ok (.astore 4, 2) := dk_58 4 (dk_at dksX3_checksum_7 8 rfl rfl)
theorem dX3_checksum_169 : decode cX3_checksum 169 = .ok (.ldc2_w 320, 3) := dk_20 1 64 (dk_at dksX3_checksum_7 10 rfl rfl)
theorem dX3_checksum_172 : decode cX3_checksum 172 = .ok (.lload_n 1, 1) := dk_31 (dk_at dksX3_checksum_7 13 rfl rfl)
theorem dX3_checksum_173 : decode cX3_checksum 173 = .ok (.lmul, 1) := dk_105 (dk_at dksX3_checksum_7 14 rfl rfl)
theorem dX3_checksum_174 : decode cX3_checksum 174 = .ok (.aload 4, 2) := dk_25 4 (dk_at dksX3_checksum_7 15 rfl rfl)
theorem dX3_checksum_176 : decode cX3_checksum 176 = .ok (.invokevirtual 289, 3) := dk_182 1 33 (dk_at dksX3_checksum_7 17 rfl rfl)
theorem dX3_checksum_179 : decode cX3_checksum 179 = .ok (.i2l, 1) := dk_133 (dk_at dksX3_checksum_7 20 rfl rfl)
theorem dX3_checksum_180 : decode cX3_checksum 180 = .ok (.ladd, 1) := dk_97 (dk_at dksX3_checksum_7 21 rfl rfl)
theorem dX3_checksum_181 : decode cX3_checksum 181 = .ok (.lstore_n 1, 1) := dk_64 (dk_at dksX3_checksum_7 22 rfl rfl)
theorem dX3_checksum_182 : decode cX3_checksum 182 = .ok (.goto (-33), 3) := dk_167 255 223 (dk_at dksX3_checksum_8 0 rfl rfl)
theorem dX3_checksum_185 : decode cX3_checksum 185 = .ok (.lload_n 1, 1) := dk_31 (dk_at dksX3_checksum_8 3 rfl rfl)
theorem dX3_checksum_186 : decode cX3_checksum 186 = .ok (.lreturn, 1) := dk_173 (dk_at dksX3_checksum_8 4 rfl rfl)
abbrev cX3_brokenShare : ByteArray := prog_15_method_56_code
def yX3_brokenShare : MethodName := ⟨RX3, "brokenShare", "()F"⟩
def dkwX3_brokenShare_3 : List UInt8 := [153, 0, 7, 11, 167, 0, 8, 28, 134, 27, 134, 110, 174]
abbrev dktX3_brokenShare_3 : List UInt8 := dkwX3_brokenShare_3 ++ []
def dkwX3_brokenShare_2 : List UInt8 := [25, 4, 180, 1, 14, 96, 61, 167, 255, 220, 42, 27, 154, 0, 7, 4, 167, 0, 4, 3, 4, 182, 0, 74]
abbrev dktX3_brokenShare_2 : List UInt8 := dkwX3_brokenShare_2 ++ dktX3_brokenShare_3
def dkwX3_brokenShare_1 : List UInt8 := [153, 0, 33, 45, 185, 1, 56, 1, 0, 192, 0, 237, 58, 4, 27, 25, 4, 180, 0, 248, 96, 60, 28]
abbrev dktX3_brokenShare_1 : List UInt8 := dkwX3_brokenShare_1 ++ dktX3_brokenShare_2
def dkwX3_brokenShare_0 : List UInt8 := [42, 182, 0, 69, 3, 60, 3, 61, 42, 180, 0, 57, 185, 1, 46, 1, 0, 78, 45, 185, 1, 50, 1, 0]
abbrev dktX3_brokenShare_0 : List UInt8 := dkwX3_brokenShare_0 ++ dktX3_brokenShare_1
theorem dksX3_brokenShare_0 : cX3_brokenShare.data.toList.drop 0 = dktX3_brokenShare_0 := by decide +kernel
theorem dksX3_brokenShare_1 : cX3_brokenShare.data.toList.drop 24 = dktX3_brokenShare_1 := dk_seg dksX3_brokenShare_0 24 rfl rfl
theorem dksX3_brokenShare_2 : cX3_brokenShare.data.toList.drop 47 = dktX3_brokenShare_2 := dk_seg dksX3_brokenShare_1 23 rfl rfl
theorem dksX3_brokenShare_3 : cX3_brokenShare.data.toList.drop 71 = dktX3_brokenShare_3 := dk_seg dksX3_brokenShare_2 24 rfl rfl
theorem dX3_brokenShare_0 : decode cX3_brokenShare 0 = .ok (.aload_n 0, 1) := dk_42 (dk_at dksX3_brokenShare_0 0 rfl rfl)
theorem dX3_brokenShare_1 : decode cX3_brokenShare 1 = .ok (.invokevirtual 69, 3) := dk_182 0 69 (dk_at dksX3_brokenShare_0 1 rfl rfl)
theorem dX3_brokenShare_4 : decode cX3_brokenShare 4 = .ok (.iconst 0, 1) := dk_3 (dk_at dksX3_brokenShare_0 4 rfl rfl)
theorem dX3_brokenShare_5 : decode cX3_brokenShare 5 = .ok (.istore_n 1, 1) := dk_60 (dk_at dksX3_brokenShare_0 5 rfl rfl)
theorem dX3_brokenShare_6 : decode cX3_brokenShare 6 = .ok (.iconst 0, 1) := dk_3 (dk_at dksX3_brokenShare_0 6 rfl rfl)
theorem dX3_brokenShare_7 : decode cX3_brokenShare 7 = .ok (.istore_n 2, 1) := dk_61 (dk_at dksX3_brokenShare_0 7 rfl rfl)
theorem dX3_brokenShare_8 : decode cX3_brokenShare 8 = .ok (.aload_n 0, 1) := dk_42 (dk_at dksX3_brokenShare_0 8 rfl rfl)
theorem dX3_brokenShare_9 : decode cX3_brokenShare 9 = .ok (.getfield 57, 3) := dk_180 0 57 (dk_at dksX3_brokenShare_0 9 rfl rfl)
theorem dX3_brokenShare_12 : decode cX3_brokenShare 12 = .ok (.invokeinterface 302 1, 5) := by decide +kernel
theorem dX3_brokenShare_17 : decode cX3_brokenShare 17 = .ok (.astore_n 3, 1) := dk_78 (dk_at dksX3_brokenShare_0 17 rfl rfl)
theorem dX3_brokenShare_18 : decode cX3_brokenShare 18 = .ok (.aload_n 3, 1) := dk_45 (dk_at dksX3_brokenShare_0 18 rfl rfl)
theorem dX3_brokenShare_19 : decode cX3_brokenShare 19 = .ok (.invokeinterface 306 1, 5) := by decide +kernel
theorem dX3_brokenShare_24 : decode cX3_brokenShare 24 = .ok (.ifCond .eq 33, 3) := dk_153 0 33 (dk_at dksX3_brokenShare_1 0 rfl rfl)
theorem dX3_brokenShare_27 : decode cX3_brokenShare 27 = .ok (.aload_n 3, 1) := dk_45 (dk_at dksX3_brokenShare_1 3 rfl rfl)
theorem dX3_brokenShare_28 : decode cX3_brokenShare 28 = .ok (.invokeinterface 312 1, 5) := by decide +kernel
theorem dX3_brokenShare_33 : decode cX3_brokenShare 33 = .ok (.checkcast 237, 3) := dk_192 0 237 (dk_at dksX3_brokenShare_1 9 rfl rfl)
theorem dX3_brokenShare_36 : decode cX3_brokenShare 36 = .ok (.astore 4, 2) := dk_58 4 (dk_at dksX3_brokenShare_1 12 rfl rfl)
theorem dX3_brokenShare_38 : decode cX3_brokenShare 38 = .ok (.iload_n 1, 1) := dk_27 (dk_at dksX3_brokenShare_1 14 rfl rfl)
theorem dX3_brokenShare_39 : decode cX3_brokenShare 39 = .ok (.aload 4, 2) := dk_25 4 (dk_at dksX3_brokenShare_1 15 rfl rfl)
theorem dX3_brokenShare_41 : decode cX3_brokenShare 41 = .ok (.getfield 248, 3) := dk_180 0 248 (dk_at dksX3_brokenShare_1 17 rfl rfl)
theorem dX3_brokenShare_44 : decode cX3_brokenShare 44 = .ok (.iadd, 1) := dk_96 (dk_at dksX3_brokenShare_1 20 rfl rfl)
theorem dX3_brokenShare_45 : decode cX3_brokenShare 45 = .ok (.istore_n 1, 1) := dk_60 (dk_at dksX3_brokenShare_1 21 rfl rfl)
theorem dX3_brokenShare_46 : decode cX3_brokenShare 46 = .ok (.iload_n 2, 1) := dk_28 (dk_at dksX3_brokenShare_1 22 rfl rfl)
theorem dX3_brokenShare_47 : decode cX3_brokenShare 47 = .ok (.aload 4, 2) := dk_25 4 (dk_at dksX3_brokenShare_2 0 rfl rfl)
theorem dX3_brokenShare_49 : decode cX3_brokenShare 49 = .ok (.getfield 270, 3) := dk_180 1 14 (dk_at dksX3_brokenShare_2 2 rfl rfl)
theorem dX3_brokenShare_52 : decode cX3_brokenShare 52 = .ok (.iadd, 1) := dk_96 (dk_at dksX3_brokenShare_2 5 rfl rfl)
theorem dX3_brokenShare_53 : decode cX3_brokenShare 53 = .ok (.istore_n 2, 1) := dk_61 (dk_at dksX3_brokenShare_2 6 rfl rfl)
theorem dX3_brokenShare_54 : decode cX3_brokenShare 54 = .ok (.goto (-36), 3) := dk_167 255 220 (dk_at dksX3_brokenShare_2 7 rfl rfl)
theorem dX3_brokenShare_57 : decode cX3_brokenShare 57 = .ok (.aload_n 0, 1) := dk_42 (dk_at dksX3_brokenShare_2 10 rfl rfl)
theorem dX3_brokenShare_58 : decode cX3_brokenShare 58 = .ok (.iload_n 1, 1) := dk_27 (dk_at dksX3_brokenShare_2 11 rfl rfl)
theorem dX3_brokenShare_59 : decode cX3_brokenShare 59 = .ok (.ifCond .ne 7, 3) := dk_154 0 7 (dk_at dksX3_brokenShare_2 12 rfl rfl)
theorem dX3_brokenShare_62 : decode cX3_brokenShare 62 = .ok (.iconst 1, 1) := dk_4 (dk_at dksX3_brokenShare_2 15 rfl rfl)
theorem dX3_brokenShare_63 : decode cX3_brokenShare 63 = .ok (.goto 4, 3) := dk_167 0 4 (dk_at dksX3_brokenShare_2 16 rfl rfl)
theorem dX3_brokenShare_66 : decode cX3_brokenShare 66 = .ok (.iconst 0, 1) := dk_3 (dk_at dksX3_brokenShare_2 19 rfl rfl)
theorem dX3_brokenShare_67 : decode cX3_brokenShare 67 = .ok (.iconst 1, 1) := dk_4 (dk_at dksX3_brokenShare_2 20 rfl rfl)
theorem dX3_brokenShare_68 : decode cX3_brokenShare 68 = .ok (.invokevirtual 74, 3) := dk_182 0 74 (dk_at dksX3_brokenShare_2 21 rfl rfl)
theorem dX3_brokenShare_71 : decode cX3_brokenShare 71 = .ok (.ifCond .eq 7, 3) := dk_153 0 7 (dk_at dksX3_brokenShare_3 0 rfl rfl)
theorem dX3_brokenShare_74 : decode cX3_brokenShare 74 = .ok (.fconst 0, 1) := dk_11 (dk_at dksX3_brokenShare_3 3 rfl rfl)
theorem dX3_brokenShare_75 : decode cX3_brokenShare 75 = .ok (.goto 8, 3) := dk_167 0 8 (dk_at dksX3_brokenShare_3 4 rfl rfl)
theorem dX3_brokenShare_78 : decode cX3_brokenShare 78 = .ok (.iload_n 2, 1) := dk_28 (dk_at dksX3_brokenShare_3 7 rfl rfl)
theorem dX3_brokenShare_79 : decode cX3_brokenShare 79 = .ok (.i2f, 1) := dk_134 (dk_at dksX3_brokenShare_3 8 rfl rfl)
theorem dX3_brokenShare_80 : decode cX3_brokenShare 80 = .ok (.iload_n 1, 1) := dk_27 (dk_at dksX3_brokenShare_3 9 rfl rfl)
theorem dX3_brokenShare_81 : decode cX3_brokenShare 81 = .ok (.i2f, 1) := dk_134 (dk_at dksX3_brokenShare_3 10 rfl rfl)
theorem dX3_brokenShare_82 : decode cX3_brokenShare 82 = .ok (.fdiv, 1) := dk_110 (dk_at dksX3_brokenShare_3 11 rfl rfl)
theorem dX3_brokenShare_83 : decode cX3_brokenShare 83 = .ok (.freturn, 1) := dk_174 (dk_at dksX3_brokenShare_3 12 rfl rfl)
abbrev cX3_meanDarkness : ByteArray := prog_15_method_57_code
def yX3_meanDarkness : MethodName := ⟨RX3, "meanDarkness", "()D"⟩
def dkwX3_meanDarkness_4 : List UInt8 := [153, 0, 7, 14, 167, 0, 8, 27, 135, 28, 135, 111, 175]
abbrev dktX3_meanDarkness_4 : List UInt8 := dkwX3_meanDarkness_4 ++ []
def dkwX3_meanDarkness_3 : List UInt8 := [167, 0, 4, 4, 96, 61, 167, 255, 198, 42, 28, 154, 0, 7, 4, 167, 0, 4, 3, 4, 182, 0, 74]
abbrev dktX3_meanDarkness_3 : List UInt8 := dkwX3_meanDarkness_3 ++ dktX3_meanDarkness_4
def dkwX3_meanDarkness_2 : List UInt8 := [3, 167, 0, 8, 25, 4, 180, 0, 180, 96, 60, 28, 25, 4, 180, 0, 168, 2, 160, 0, 7, 3]
abbrev dktX3_meanDarkness_2 : List UInt8 := dkwX3_meanDarkness_2 ++ dktX3_meanDarkness_3
def dkwX3_meanDarkness_1 : List UInt8 := [153, 0, 55, 45, 185, 1, 56, 1, 0, 192, 0, 132, 58, 4, 27, 25, 4, 180, 0, 168, 2, 160, 0, 7]
abbrev dktX3_meanDarkness_1 : List UInt8 := dkwX3_meanDarkness_1 ++ dktX3_meanDarkness_2
def dkwX3_meanDarkness_0 : List UInt8 := [42, 182, 0, 69, 3, 60, 3, 61, 42, 180, 0, 51, 185, 1, 46, 1, 0, 78, 45, 185, 1, 50, 1, 0]
abbrev dktX3_meanDarkness_0 : List UInt8 := dkwX3_meanDarkness_0 ++ dktX3_meanDarkness_1
theorem dksX3_meanDarkness_0 : cX3_meanDarkness.data.toList.drop 0 = dktX3_meanDarkness_0 := by decide +kernel
theorem dksX3_meanDarkness_1 : cX3_meanDarkness.data.toList.drop 24 = dktX3_meanDarkness_1 := dk_seg dksX3_meanDarkness_0 24 rfl rfl
theorem dksX3_meanDarkness_2 : cX3_meanDarkness.data.toList.drop 48 = dktX3_meanDarkness_2 := dk_seg dksX3_meanDarkness_1 24 rfl rfl
theorem dksX3_meanDarkness_3 : cX3_meanDarkness.data.toList.drop 70 = dktX3_meanDarkness_3 := dk_seg dksX3_meanDarkness_2 22 rfl rfl
theorem dksX3_meanDarkness_4 : cX3_meanDarkness.data.toList.drop 93 = dktX3_meanDarkness_4 := dk_seg dksX3_meanDarkness_3 23 rfl rfl
theorem dX3_meanDarkness_0 : decode cX3_meanDarkness 0 = .ok (.aload_n 0, 1) := dk_42 (dk_at dksX3_meanDarkness_0 0 rfl rfl)
theorem dX3_meanDarkness_1 : decode cX3_meanDarkness 1 = .ok (.invokevirtual 69, 3) := dk_182 0 69 (dk_at dksX3_meanDarkness_0 1 rfl rfl)
theorem dX3_meanDarkness_4 : decode cX3_meanDarkness 4 = .ok (.iconst 0, 1) := dk_3 (dk_at dksX3_meanDarkness_0 4 rfl rfl)
theorem dX3_meanDarkness_5 : decode cX3_meanDarkness 5 = .ok (.istore_n 1, 1) := dk_60 (dk_at dksX3_meanDarkness_0 5 rfl rfl)
theorem dX3_meanDarkness_6 : decode cX3_meanDarkness 6 = .ok (.iconst 0, 1) := dk_3 (dk_at dksX3_meanDarkness_0 6 rfl rfl)
theorem dX3_meanDarkness_7 : decode cX3_meanDarkness 7 = .ok (.istore_n 2, 1) := dk_61 (dk_at dksX3_meanDarkness_0 7 rfl rfl)
theorem dX3_meanDarkness_8 : decode cX3_meanDarkness 8 = .ok (.aload_n 0, 1) := dk_42 (dk_at dksX3_meanDarkness_0 8 rfl rfl)
theorem dX3_meanDarkness_9 : decode cX3_meanDarkness 9 = .ok (.getfield 51, 3) := dk_180 0 51 (dk_at dksX3_meanDarkness_0 9 rfl rfl)
theorem dX3_meanDarkness_12 : decode cX3_meanDarkness 12 = .ok (.invokeinterface 302 1, 5) := by decide +kernel
theorem dX3_meanDarkness_17 : decode cX3_meanDarkness 17 = .ok (.astore_n 3, 1) := dk_78 (dk_at dksX3_meanDarkness_0 17 rfl rfl)
theorem dX3_meanDarkness_18 : decode cX3_meanDarkness 18 = .ok (.aload_n 3, 1) := dk_45 (dk_at dksX3_meanDarkness_0 18 rfl rfl)
theorem dX3_meanDarkness_19 : decode cX3_meanDarkness 19 = .ok (.invokeinterface 306 1, 5) := by decide +kernel
theorem dX3_meanDarkness_24 : decode cX3_meanDarkness 24 = .ok (.ifCond .eq 55, 3) := dk_153 0 55 (dk_at dksX3_meanDarkness_1 0 rfl rfl)
theorem dX3_meanDarkness_27 : decode cX3_meanDarkness 27 = .ok (.aload_n 3, 1) := dk_45 (dk_at dksX3_meanDarkness_1 3 rfl rfl)
theorem dX3_meanDarkness_28 : decode cX3_meanDarkness 28 = .ok (.invokeinterface 312 1, 5) := by decide +kernel
theorem dX3_meanDarkness_33 : decode cX3_meanDarkness 33 = .ok (.checkcast 132, 3) := dk_192 0 132 (dk_at dksX3_meanDarkness_1 9 rfl rfl)
theorem dX3_meanDarkness_36 : decode cX3_meanDarkness 36 = .ok (.astore 4, 2) := dk_58 4 (dk_at dksX3_meanDarkness_1 12 rfl rfl)
theorem dX3_meanDarkness_38 : decode cX3_meanDarkness 38 = .ok (.iload_n 1, 1) := dk_27 (dk_at dksX3_meanDarkness_1 14 rfl rfl)
theorem dX3_meanDarkness_39 : decode cX3_meanDarkness 39 = .ok (.aload 4, 2) := dk_25 4 (dk_at dksX3_meanDarkness_1 15 rfl rfl)
theorem dX3_meanDarkness_41 : decode cX3_meanDarkness 41 = .ok (.getfield 168, 3) := dk_180 0 168 (dk_at dksX3_meanDarkness_1 17 rfl rfl)
theorem dX3_meanDarkness_44 : decode cX3_meanDarkness 44 = .ok (.iconst (-1), 1) := dk_2 (dk_at dksX3_meanDarkness_1 20 rfl rfl)
theorem dX3_meanDarkness_45 : decode cX3_meanDarkness 45 = .ok (.if_icmp .ne 7, 3) := dk_160 0 7 (dk_at dksX3_meanDarkness_1 21 rfl rfl)
theorem dX3_meanDarkness_48 : decode cX3_meanDarkness 48 = .ok (.iconst 0, 1) := dk_3 (dk_at dksX3_meanDarkness_2 0 rfl rfl)
theorem dX3_meanDarkness_49 : decode cX3_meanDarkness 49 = .ok (.goto 8, 3) := dk_167 0 8 (dk_at dksX3_meanDarkness_2 1 rfl rfl)
theorem dX3_meanDarkness_52 : decode cX3_meanDarkness 52 = .ok (.aload 4, 2) := dk_25 4 (dk_at dksX3_meanDarkness_2 4 rfl rfl)
theorem dX3_meanDarkness_54 : decode cX3_meanDarkness 54 = .ok (.getfield 180, 3) := dk_180 0 180 (dk_at dksX3_meanDarkness_2 6 rfl rfl)
theorem dX3_meanDarkness_57 : decode cX3_meanDarkness 57 = .ok (.iadd, 1) := dk_96 (dk_at dksX3_meanDarkness_2 9 rfl rfl)
theorem dX3_meanDarkness_58 : decode cX3_meanDarkness 58 = .ok (.istore_n 1, 1) := dk_60 (dk_at dksX3_meanDarkness_2 10 rfl rfl)
theorem dX3_meanDarkness_59 : decode cX3_meanDarkness 59 = .ok (.iload_n 2, 1) := dk_28 (dk_at dksX3_meanDarkness_2 11 rfl rfl)
theorem dX3_meanDarkness_60 : decode cX3_meanDarkness 60 = .ok (.aload 4, 2) := dk_25 4 (dk_at dksX3_meanDarkness_2 12 rfl rfl)
theorem dX3_meanDarkness_62 : decode cX3_meanDarkness 62 = .ok (.getfield 168, 3) := dk_180 0 168 (dk_at dksX3_meanDarkness_2 14 rfl rfl)
theorem dX3_meanDarkness_65 : decode cX3_meanDarkness 65 = .ok (.iconst (-1), 1) := dk_2 (dk_at dksX3_meanDarkness_2 17 rfl rfl)
theorem dX3_meanDarkness_66 : decode cX3_meanDarkness 66 = .ok (.if_icmp .ne 7, 3) := dk_160 0 7 (dk_at dksX3_meanDarkness_2 18 rfl rfl)
theorem dX3_meanDarkness_69 : decode cX3_meanDarkness 69 = .ok (.iconst 0, 1) := dk_3 (dk_at dksX3_meanDarkness_2 21 rfl rfl)
theorem dX3_meanDarkness_70 : decode cX3_meanDarkness 70 = .ok (.goto 4, 3) := dk_167 0 4 (dk_at dksX3_meanDarkness_3 0 rfl rfl)
theorem dX3_meanDarkness_73 : decode cX3_meanDarkness 73 = .ok (.iconst 1, 1) := dk_4 (dk_at dksX3_meanDarkness_3 3 rfl rfl)
theorem dX3_meanDarkness_74 : decode cX3_meanDarkness 74 = .ok (.iadd, 1) := dk_96 (dk_at dksX3_meanDarkness_3 4 rfl rfl)
theorem dX3_meanDarkness_75 : decode cX3_meanDarkness 75 = .ok (.istore_n 2, 1) := dk_61 (dk_at dksX3_meanDarkness_3 5 rfl rfl)
theorem dX3_meanDarkness_76 : decode cX3_meanDarkness 76 = .ok (.goto (-58), 3) := dk_167 255 198 (dk_at dksX3_meanDarkness_3 6 rfl rfl)
theorem dX3_meanDarkness_79 : decode cX3_meanDarkness 79 = .ok (.aload_n 0, 1) := dk_42 (dk_at dksX3_meanDarkness_3 9 rfl rfl)
theorem dX3_meanDarkness_80 : decode cX3_meanDarkness 80 = .ok (.iload_n 2, 1) := dk_28 (dk_at dksX3_meanDarkness_3 10 rfl rfl)
theorem dX3_meanDarkness_81 : decode cX3_meanDarkness 81 = .ok (.ifCond .ne 7, 3) := dk_154 0 7 (dk_at dksX3_meanDarkness_3 11 rfl rfl)
theorem dX3_meanDarkness_84 : decode cX3_meanDarkness 84 = .ok (.iconst 1, 1) := dk_4 (dk_at dksX3_meanDarkness_3 14 rfl rfl)
theorem dX3_meanDarkness_85 : decode cX3_meanDarkness 85 = .ok (.goto 4, 3) := dk_167 0 4 (dk_at dksX3_meanDarkness_3 15 rfl rfl)
theorem dX3_meanDarkness_88 : decode cX3_meanDarkness 88 = .ok (.iconst 0, 1) := dk_3 (dk_at dksX3_meanDarkness_3 18 rfl rfl)
theorem dX3_meanDarkness_89 : decode cX3_meanDarkness 89 = .ok (.iconst 1, 1) := dk_4 (dk_at dksX3_meanDarkness_3 19 rfl rfl)
theorem dX3_meanDarkness_90 : decode cX3_meanDarkness 90 = .ok (.invokevirtual 74, 3) := dk_182 0 74 (dk_at dksX3_meanDarkness_3 20 rfl rfl)
theorem dX3_meanDarkness_93 : decode cX3_meanDarkness 93 = .ok (.ifCond .eq 7, 3) := dk_153 0 7 (dk_at dksX3_meanDarkness_4 0 rfl rfl)
theorem dX3_meanDarkness_96 : decode cX3_meanDarkness 96 = .ok (.dconst 0, 1) := dk_14 (dk_at dksX3_meanDarkness_4 3 rfl rfl)
theorem dX3_meanDarkness_97 : decode cX3_meanDarkness 97 = .ok (.goto 8, 3) := dk_167 0 8 (dk_at dksX3_meanDarkness_4 4 rfl rfl)
theorem dX3_meanDarkness_100 : decode cX3_meanDarkness 100 = .ok (.iload_n 1, 1) := dk_27 (dk_at dksX3_meanDarkness_4 7 rfl rfl)
theorem dX3_meanDarkness_101 : decode cX3_meanDarkness 101 = .ok (.i2d, 1) := dk_135 (dk_at dksX3_meanDarkness_4 8 rfl rfl)
theorem dX3_meanDarkness_102 : decode cX3_meanDarkness 102 = .ok (.iload_n 2, 1) := dk_28 (dk_at dksX3_meanDarkness_4 9 rfl rfl)
theorem dX3_meanDarkness_103 : decode cX3_meanDarkness 103 = .ok (.i2d, 1) := dk_135 (dk_at dksX3_meanDarkness_4 10 rfl rfl)
theorem dX3_meanDarkness_104 : decode cX3_meanDarkness 104 = .ok (.ddiv, 1) := dk_111 (dk_at dksX3_meanDarkness_4 11 rfl rfl)
theorem dX3_meanDarkness_105 : decode cX3_meanDarkness 105 = .ok (.dreturn, 1) := dk_175 (dk_at dksX3_meanDarkness_4 12 rfl rfl)
abbrev cX3_isSound : ByteArray := prog_15_method_58_code
def yX3_isSound : MethodName := ⟨RX3, "isSound", "()Z"⟩
def dkwX3_isSound_0 : List UInt8 := [42, 182, 0, 69, 4, 172]
abbrev dktX3_isSound_0 : List UInt8 := dkwX3_isSound_0 ++ []
theorem dksX3_isSound_0 : cX3_isSound.data.toList.drop 0 = dktX3_isSound_0 := by decide +kernel
theorem dX3_isSound_0 : decode cX3_isSound 0 = .ok (.aload_n 0, 1) := dk_42 (dk_at dksX3_isSound_0 0 rfl rfl)
theorem dX3_isSound_1 : decode cX3_isSound 1 = .ok (.invokevirtual 69, 3) := dk_182 0 69 (dk_at dksX3_isSound_0 1 rfl rfl)
theorem dX3_isSound_4 : decode cX3_isSound 4 = .ok (.iconst 1, 1) := dk_4 (dk_at dksX3_isSound_0 4 rfl rfl)
theorem dX3_isSound_5 : decode cX3_isSound 5 = .ok (.ireturn, 1) := dk_172 (dk_at dksX3_isSound_0 5 rfl rfl)
theorem q25 : (Jvm.Cond.initialized "GraphlineModel") ∈ lw_all := lw_g (lw_at lw_m1 8 rfl) rfl
theorem q723 : (Jvm.Cond.selects "GraphlineModel" ({ cls := "java/lang/Object", name := "getClass", desc := "()Ljava/lang/Class;" } : Jvm.MethodName) ({ cls := "java/lang/Object", name := "getClass", desc := "()Ljava/lang/Class;" } : Jvm.MethodName)) ∈ lw_all := lw_g (lw_at lw_m3 226 rfl) rfl
theorem q1378 : (Jvm.Cond.instanceMethod ({ cls := "GraphlineModel", name := "thrown", desc := "()I" } : Jvm.MethodName)) ∈ lw_all := lw_g (lw_at lw_m6 161 rfl) rfl
theorem q1379 : (Jvm.Cond.selects "GraphlineModel" ({ cls := "GraphlineModel", name := "thrown", desc := "()I" } : Jvm.MethodName) ({ cls := "GraphlineModel", name := "thrown", desc := "()I" } : Jvm.MethodName)) ∈ lw_all := lw_g (lw_at lw_m6 162 rfl) rfl
theorem q1380 : (Jvm.Cond.code ({ cls := "GraphlineModel", name := "thrown", desc := "()I" } : Jvm.MethodName) prog_15_method_1_code (1 : Nat) (Option.some Jvm.ClassFile.FieldType.int)) ∈ lw_all := lw_g (lw_at lw_m6 163 rfl) rfl
theorem q1382 : (Jvm.Cond.instantiable "GraphlineModel" (18 : Nat)) ∈ lw_all := lw_g (lw_at lw_m6 165 rfl) rfl
theorem q1384 : (Jvm.Cond.instanceMethod ({ cls := "GraphlineModel", name := "<init>", desc := "()V" } : Jvm.MethodName)) ∈ lw_all := lw_g (lw_at lw_m6 167 rfl) rfl
theorem q1385 : (Jvm.Cond.code ({ cls := "GraphlineModel", name := "<init>", desc := "()V" } : Jvm.MethodName) prog_15_method_6_code (1 : Nat) (Option.none : Option Jvm.ClassFile.FieldType)) ∈ lw_all := lw_g (lw_at lw_m6 168 rfl) rfl
theorem q1386 : (Jvm.Cond.methodLink "GraphlineModel" (17 : Nat) ({ cls := "java/lang/Object", name := "<init>", desc := "()V" } : Jvm.MethodName)) ∈ lw_all := lw_g (lw_at lw_m6 169 rfl) rfl
theorem q1387 : (Jvm.Cond.classLink "GraphlineModel" (35 : Nat) "java/util/ArrayList") ∈ lw_all := lw_g (lw_at lw_m6 170 rfl) rfl
theorem q1388 : (Jvm.Cond.methodLink "GraphlineModel" (37 : Nat) ({ cls := "java/util/ArrayList", name := "<init>", desc := "()V" } : Jvm.MethodName)) ∈ lw_all := lw_g (lw_at lw_m6 171 rfl) rfl
theorem q1389 : (Jvm.Cond.fieldLink "GraphlineModel" (1 : Nat) "GraphlineModel" "thrown" "I") ∈ lw_all := lw_g (lw_at lw_m6 172 rfl) rfl
theorem q1390 : (Jvm.Cond.fieldLink "GraphlineModel" (78 : Nat) "GraphlineModel" "clock" "I") ∈ lw_all := lw_g (lw_at lw_m6 173 rfl) rfl
theorem q1391 : (Jvm.Cond.fieldLink "GraphlineModel" (23 : Nat) "GraphlineModel" "shaft" "Z") ∈ lw_all := lw_g (lw_at lw_m6 174 rfl) rfl
theorem q1392 : (Jvm.Cond.fieldLink "GraphlineModel" (27 : Nat) "GraphlineModel" "isOn" "[Z") ∈ lw_all := lw_g (lw_at lw_m6 175 rfl) rfl
theorem q1393 : (Jvm.Cond.fieldLink "GraphlineModel" (31 : Nat) "GraphlineModel" "driven" "[I") ∈ lw_all := lw_g (lw_at lw_m6 176 rfl) rfl
theorem q1394 : (Jvm.Cond.fieldLink "GraphlineModel" (38 : Nat) "GraphlineModel" "lots" "Ljava/util/List;") ∈ lw_all := lw_g (lw_at lw_m6 177 rfl) rfl
theorem q1395 : (Jvm.Cond.fieldLink "GraphlineModel" (42 : Nat) "GraphlineModel" "mixtures" "Ljava/util/List;") ∈ lw_all := lw_g (lw_at lw_m6 178 rfl) rfl
theorem q1396 : (Jvm.Cond.fieldLink "GraphlineModel" (45 : Nat) "GraphlineModel" "dies" "[I") ∈ lw_all := lw_g (lw_at lw_m6 179 rfl) rfl
theorem q1397 : (Jvm.Cond.fieldLink "GraphlineModel" (48 : Nat) "GraphlineModel" "kilns" "[I") ∈ lw_all := lw_g (lw_at lw_m6 180 rfl) rfl
theorem q1398 : (Jvm.Cond.fieldLink "GraphlineModel" (51 : Nat) "GraphlineModel" "batches" "Ljava/util/List;") ∈ lw_all := lw_g (lw_at lw_m6 181 rfl) rfl
theorem q1399 : (Jvm.Cond.fieldLink "GraphlineModel" (54 : Nat) "GraphlineModel" "slats" "Ljava/util/List;") ∈ lw_all := lw_g (lw_at lw_m6 182 rfl) rfl
theorem q1400 : (Jvm.Cond.fieldLink "GraphlineModel" (57 : Nat) "GraphlineModel" "runs" "Ljava/util/List;") ∈ lw_all := lw_g (lw_at lw_m6 183 rfl) rfl
theorem q1401 : (Jvm.Cond.fieldLink "GraphlineModel" (60 : Nat) "GraphlineModel" "grosses" "Ljava/util/List;") ∈ lw_all := lw_g (lw_at lw_m6 184 rfl) rfl
theorem q1402 : (Jvm.Cond.fieldLink "GraphlineModel" (63 : Nat) "GraphlineModel" "orders" "Ljava/util/List;") ∈ lw_all := lw_g (lw_at lw_m6 185 rfl) rfl
theorem q1403 : (Jvm.Cond.fieldLink "GraphlineModel" (171 : Nat) "GraphlineModel" "firings" "I") ∈ lw_all := lw_g (lw_at lw_m6 186 rfl) rfl
theorem q1404 : (Jvm.Cond.fieldLink "GraphlineModel" (195 : Nat) "GraphlineModel" "draws" "I") ∈ lw_all := lw_g (lw_at lw_m6 187 rfl) rfl
theorem q1405 : (Jvm.Cond.fieldLink "GraphlineModel" (192 : Nat) "GraphlineModel" "bias" "I") ∈ lw_all := lw_g (lw_at lw_m6 188 rfl) rfl
theorem q1406 : (Jvm.Cond.fieldLink "GraphlineModel" (66 : Nat) "GraphlineModel" "z" "I") ∈ lw_all := lw_g (lw_at lw_m6 189 rfl) rfl
theorem q1407 : (Jvm.Cond.lays "GraphlineModel" "GraphlineModel" "thrown" "I") ∈ lw_all := lw_g (lw_at lw_m6 190 rfl) rfl
theorem q1408 : (Jvm.Cond.soleField "GraphlineModel" "thrown") ∈ lw_all := lw_g (lw_at lw_m6 191 rfl) rfl
theorem q1409 : (Jvm.Cond.lays "GraphlineModel" "GraphlineModel" "clock" "I") ∈ lw_all := lw_g (lw_at lw_m6 192 rfl) rfl
theorem q1410 : (Jvm.Cond.soleField "GraphlineModel" "clock") ∈ lw_all := lw_g (lw_at lw_m6 193 rfl) rfl
theorem q1411 : (Jvm.Cond.lays "GraphlineModel" "GraphlineModel" "shaft" "Z") ∈ lw_all := lw_g (lw_at lw_m6 194 rfl) rfl
theorem q1412 : (Jvm.Cond.soleField "GraphlineModel" "shaft") ∈ lw_all := lw_g (lw_at lw_m6 195 rfl) rfl
theorem q1413 : (Jvm.Cond.laysFinal "GraphlineModel" "GraphlineModel" "isOn" "[Z") ∈ lw_all := lw_g (lw_at lw_m6 196 rfl) rfl
theorem q1414 : (Jvm.Cond.soleField "GraphlineModel" "isOn") ∈ lw_all := lw_g (lw_at lw_m6 197 rfl) rfl
theorem q1415 : (Jvm.Cond.laysFinal "GraphlineModel" "GraphlineModel" "driven" "[I") ∈ lw_all := lw_g (lw_at lw_m6 198 rfl) rfl
theorem q1416 : (Jvm.Cond.soleField "GraphlineModel" "driven") ∈ lw_all := lw_g (lw_at lw_m6 199 rfl) rfl
theorem q1417 : (Jvm.Cond.laysFinal "GraphlineModel" "GraphlineModel" "lots" "Ljava/util/List;") ∈ lw_all := lw_g (lw_at lw_m6 200 rfl) rfl
theorem q1418 : (Jvm.Cond.soleField "GraphlineModel" "lots") ∈ lw_all := lw_g (lw_at lw_m6 201 rfl) rfl
theorem q1419 : (Jvm.Cond.laysFinal "GraphlineModel" "GraphlineModel" "mixtures" "Ljava/util/List;") ∈ lw_all := lw_g (lw_at lw_m6 202 rfl) rfl
theorem q1420 : (Jvm.Cond.soleField "GraphlineModel" "mixtures") ∈ lw_all := lw_g (lw_at lw_m6 203 rfl) rfl
theorem q1421 : (Jvm.Cond.laysFinal "GraphlineModel" "GraphlineModel" "dies" "[I") ∈ lw_all := lw_g (lw_at lw_m6 204 rfl) rfl
theorem q1422 : (Jvm.Cond.soleField "GraphlineModel" "dies") ∈ lw_all := lw_g (lw_at lw_m6 205 rfl) rfl
theorem q1423 : (Jvm.Cond.laysFinal "GraphlineModel" "GraphlineModel" "kilns" "[I") ∈ lw_all := lw_g (lw_at lw_m6 206 rfl) rfl
theorem q1424 : (Jvm.Cond.soleField "GraphlineModel" "kilns") ∈ lw_all := lw_g (lw_at lw_m6 207 rfl) rfl
theorem q1425 : (Jvm.Cond.laysFinal "GraphlineModel" "GraphlineModel" "batches" "Ljava/util/List;") ∈ lw_all := lw_g (lw_at lw_m6 208 rfl) rfl
theorem q1426 : (Jvm.Cond.soleField "GraphlineModel" "batches") ∈ lw_all := lw_g (lw_at lw_m6 209 rfl) rfl
theorem q1427 : (Jvm.Cond.laysFinal "GraphlineModel" "GraphlineModel" "slats" "Ljava/util/List;") ∈ lw_all := lw_g (lw_at lw_m6 210 rfl) rfl
theorem q1428 : (Jvm.Cond.soleField "GraphlineModel" "slats") ∈ lw_all := lw_g (lw_at lw_m6 211 rfl) rfl
theorem q1429 : (Jvm.Cond.laysFinal "GraphlineModel" "GraphlineModel" "runs" "Ljava/util/List;") ∈ lw_all := lw_g (lw_at lw_m6 212 rfl) rfl
theorem q1430 : (Jvm.Cond.soleField "GraphlineModel" "runs") ∈ lw_all := lw_g (lw_at lw_m6 213 rfl) rfl
theorem q1431 : (Jvm.Cond.laysFinal "GraphlineModel" "GraphlineModel" "grosses" "Ljava/util/List;") ∈ lw_all := lw_g (lw_at lw_m6 214 rfl) rfl
theorem q1432 : (Jvm.Cond.soleField "GraphlineModel" "grosses") ∈ lw_all := lw_g (lw_at lw_m6 215 rfl) rfl
theorem q1433 : (Jvm.Cond.laysFinal "GraphlineModel" "GraphlineModel" "orders" "Ljava/util/List;") ∈ lw_all := lw_g (lw_at lw_m6 216 rfl) rfl
theorem q1434 : (Jvm.Cond.soleField "GraphlineModel" "orders") ∈ lw_all := lw_g (lw_at lw_m6 217 rfl) rfl
theorem q1435 : (Jvm.Cond.lays "GraphlineModel" "GraphlineModel" "firings" "I") ∈ lw_all := lw_g (lw_at lw_m6 218 rfl) rfl
theorem q1436 : (Jvm.Cond.soleField "GraphlineModel" "firings") ∈ lw_all := lw_g (lw_at lw_m6 219 rfl) rfl
theorem q1437 : (Jvm.Cond.lays "GraphlineModel" "GraphlineModel" "draws" "I") ∈ lw_all := lw_g (lw_at lw_m6 220 rfl) rfl
theorem q1438 : (Jvm.Cond.soleField "GraphlineModel" "draws") ∈ lw_all := lw_g (lw_at lw_m6 221 rfl) rfl
theorem q1439 : (Jvm.Cond.lays "GraphlineModel" "GraphlineModel" "bias" "I") ∈ lw_all := lw_g (lw_at lw_m6 222 rfl) rfl
theorem q1440 : (Jvm.Cond.soleField "GraphlineModel" "bias") ∈ lw_all := lw_g (lw_at lw_m6 223 rfl) rfl
theorem q1441 : (Jvm.Cond.lays "GraphlineModel" "GraphlineModel" "z" "I") ∈ lw_all := lw_g (lw_at lw_m6 224 rfl) rfl
theorem q1442 : (Jvm.Cond.soleField "GraphlineModel" "z") ∈ lw_all := lw_g (lw_at lw_m6 225 rfl) rfl
theorem q1443 : (Jvm.Cond.superclass "GraphlineModel" "java/lang/Object") ∈ lw_all := lw_g (lw_at lw_m6 226 rfl) rfl
theorem q1445 : (Jvm.Cond.instanceMethod ({ cls := "GraphlineModel", name := "go", desc := "(I)I" } : Jvm.MethodName)) ∈ lw_all := lw_g (lw_at lw_m6 228 rfl) rfl
theorem q1446 : (Jvm.Cond.selects "GraphlineModel" ({ cls := "GraphlineModel", name := "go", desc := "(I)I" } : Jvm.MethodName) ({ cls := "GraphlineModel", name := "go", desc := "(I)I" } : Jvm.MethodName)) ∈ lw_all := lw_g (lw_at lw_m6 229 rfl) rfl
theorem q1447 : (Jvm.Cond.code ({ cls := "GraphlineModel", name := "go", desc := "(I)I" } : Jvm.MethodName) prog_15_method_7_code (2 : Nat) (Option.some Jvm.ClassFile.FieldType.int)) ∈ lw_all := lw_g (lw_at lw_m6 230 rfl) rfl
theorem q1448 : (Jvm.Cond.methodLink "GraphlineModel" (69 : Nat) ({ cls := "GraphlineModel", name := "begins", desc := "()V" } : Jvm.MethodName)) ∈ lw_all := lw_g (lw_at lw_m6 231 rfl) rfl
theorem q1449 : (Jvm.Cond.privateMethod ({ cls := "GraphlineModel", name := "begins", desc := "()V" } : Jvm.MethodName)) ∈ lw_tbl := lw_at lw_m6 232 rfl
theorem q1450 : (Jvm.Cond.instanceMethod ({ cls := "GraphlineModel", name := "begins", desc := "()V" } : Jvm.MethodName)) ∈ lw_all := lw_g (lw_at lw_m6 233 rfl) rfl
theorem q1451 : (Jvm.Cond.code ({ cls := "GraphlineModel", name := "begins", desc := "()V" } : Jvm.MethodName) prog_15_method_5_code (1 : Nat) (Option.none : Option Jvm.ClassFile.FieldType)) ∈ lw_all := lw_g (lw_at lw_m6 234 rfl) rfl
theorem q1452 : (Jvm.Cond.constantLong "GraphlineModel" (72 : Nat) (500 : Int64)) ∈ lw_all := lw_g (lw_at lw_m6 235 rfl) rfl
theorem q1453 : (Jvm.Cond.methodLink "GraphlineModel" (13 : Nat) ({ cls := "GraphlineModel", name := "in", desc := "(JJJ)Z" } : Jvm.MethodName)) ∈ lw_all := lw_g (lw_at lw_m6 236 rfl) rfl
theorem q1454 : (Jvm.Cond.static ({ cls := "GraphlineModel", name := "in", desc := "(JJJ)Z" } : Jvm.MethodName)) ∈ lw_all := lw_g (lw_at lw_m6 237 rfl) rfl
theorem q1455 : (Jvm.Cond.code ({ cls := "GraphlineModel", name := "in", desc := "(JJJ)Z" } : Jvm.MethodName) prog_15_method_2_code (6 : Nat) (Option.some Jvm.ClassFile.FieldType.boolean)) ∈ lw_all := lw_g (lw_at lw_m6 238 rfl) rfl
theorem q1456 : (Jvm.Cond.methodLink "GraphlineModel" (74 : Nat) ({ cls := "GraphlineModel", name := "fails", desc := "(ZI)Z" } : Jvm.MethodName)) ∈ lw_all := lw_g (lw_at lw_m6 239 rfl) rfl
theorem q1457 : (Jvm.Cond.privateMethod ({ cls := "GraphlineModel", name := "fails", desc := "(ZI)Z" } : Jvm.MethodName)) ∈ lw_tbl := lw_at lw_m7 0 rfl
theorem q1458 : (Jvm.Cond.instanceMethod ({ cls := "GraphlineModel", name := "fails", desc := "(ZI)Z" } : Jvm.MethodName)) ∈ lw_all := lw_g (lw_at lw_m7 1 rfl) rfl
theorem q1459 : (Jvm.Cond.code ({ cls := "GraphlineModel", name := "fails", desc := "(ZI)Z" } : Jvm.MethodName) prog_15_method_4_code (3 : Nat) (Option.some Jvm.ClassFile.FieldType.boolean)) ∈ lw_all := lw_g (lw_at lw_m7 2 rfl) rfl
theorem q1461 : (Jvm.Cond.instanceMethod ({ cls := "GraphlineModel", name := "shaft", desc := "(Z)Z" } : Jvm.MethodName)) ∈ lw_all := lw_g (lw_at lw_m7 4 rfl) rfl
theorem q1462 : (Jvm.Cond.selects "GraphlineModel" ({ cls := "GraphlineModel", name := "shaft", desc := "(Z)Z" } : Jvm.MethodName) ({ cls := "GraphlineModel", name := "shaft", desc := "(Z)Z" } : Jvm.MethodName)) ∈ lw_all := lw_g (lw_at lw_m7 5 rfl) rfl
theorem q1463 : (Jvm.Cond.code ({ cls := "GraphlineModel", name := "shaft", desc := "(Z)Z" } : Jvm.MethodName) prog_15_method_8_code (3 : Nat) (Option.some Jvm.ClassFile.FieldType.boolean)) ∈ lw_all := lw_g (lw_at lw_m7 6 rfl) rfl
theorem q1465 : (Jvm.Cond.instanceMethod ({ cls := "GraphlineModel", name := "belt", desc := "(CC)C" } : Jvm.MethodName)) ∈ lw_all := lw_g (lw_at lw_m7 8 rfl) rfl
theorem q1466 : (Jvm.Cond.selects "GraphlineModel" ({ cls := "GraphlineModel", name := "belt", desc := "(CC)C" } : Jvm.MethodName) ({ cls := "GraphlineModel", name := "belt", desc := "(CC)C" } : Jvm.MethodName)) ∈ lw_all := lw_g (lw_at lw_m7 9 rfl) rfl
theorem q1467 : (Jvm.Cond.code ({ cls := "GraphlineModel", name := "belt", desc := "(CC)C" } : Jvm.MethodName) prog_15_method_9_code (7 : Nat) (Option.some Jvm.ClassFile.FieldType.char)) ∈ lw_all := lw_g (lw_at lw_m7 10 rfl) rfl
theorem q1468 : (Jvm.Cond.stringRef "GraphlineModel" (81 : Nat) "mpgc") ∈ lw_tbl := lw_at lw_m7 11 rfl
theorem q1469 : (Jvm.Cond.methodLink "GraphlineModel" (83 : Nat) ({ cls := "java/lang/String", name := "indexOf", desc := "(I)I" } : Jvm.MethodName)) ∈ lw_all := lw_g (lw_at lw_m7 12 rfl) rfl
theorem q1470 : (Jvm.Cond.methodLink "GraphlineModel" (89 : Nat) ({ cls := "java/lang/String", name := "charAt", desc := "(I)C" } : Jvm.MethodName)) ∈ lw_all := lw_g (lw_at lw_m7 13 rfl) rfl
theorem q1472 : (Jvm.Cond.instanceMethod ({ cls := "GraphlineModel", name := "on", desc := "(CZ)Z" } : Jvm.MethodName)) ∈ lw_all := lw_g (lw_at lw_m7 15 rfl) rfl
theorem q1473 : (Jvm.Cond.selects "GraphlineModel" ({ cls := "GraphlineModel", name := "on", desc := "(CZ)Z" } : Jvm.MethodName) ({ cls := "GraphlineModel", name := "on", desc := "(CZ)Z" } : Jvm.MethodName)) ∈ lw_all := lw_g (lw_at lw_m7 16 rfl) rfl
theorem q1474 : (Jvm.Cond.code ({ cls := "GraphlineModel", name := "on", desc := "(CZ)Z" } : Jvm.MethodName) prog_15_method_10_code (5 : Nat) (Option.some Jvm.ClassFile.FieldType.boolean)) ∈ lw_all := lw_g (lw_at lw_m7 17 rfl) rfl
theorem q1476 : (Jvm.Cond.instanceMethod ({ cls := "GraphlineModel", name := "runs", desc := "(C)Z" } : Jvm.MethodName)) ∈ lw_all := lw_g (lw_at lw_m7 19 rfl) rfl
theorem q1477 : (Jvm.Cond.selects "GraphlineModel" ({ cls := "GraphlineModel", name := "runs", desc := "(C)Z" } : Jvm.MethodName) ({ cls := "GraphlineModel", name := "runs", desc := "(C)Z" } : Jvm.MethodName)) ∈ lw_all := lw_g (lw_at lw_m7 20 rfl) rfl
theorem q1478 : (Jvm.Cond.code ({ cls := "GraphlineModel", name := "runs", desc := "(C)Z" } : Jvm.MethodName) prog_15_method_12_code (3 : Nat) (Option.some Jvm.ClassFile.FieldType.boolean)) ∈ lw_all := lw_g (lw_at lw_m7 21 rfl) rfl
theorem q1479 : (Jvm.Cond.methodLink "GraphlineModel" (93 : Nat) ({ cls := "GraphlineModel", name := "going", desc := "(I)Z" } : Jvm.MethodName)) ∈ lw_all := lw_g (lw_at lw_m7 22 rfl) rfl
theorem q1480 : (Jvm.Cond.privateMethod ({ cls := "GraphlineModel", name := "going", desc := "(I)Z" } : Jvm.MethodName)) ∈ lw_tbl := lw_at lw_m7 23 rfl
theorem q1481 : (Jvm.Cond.instanceMethod ({ cls := "GraphlineModel", name := "going", desc := "(I)Z" } : Jvm.MethodName)) ∈ lw_all := lw_g (lw_at lw_m7 24 rfl) rfl
theorem q1482 : (Jvm.Cond.code ({ cls := "GraphlineModel", name := "going", desc := "(I)Z" } : Jvm.MethodName) prog_15_method_11_code (4 : Nat) (Option.some Jvm.ClassFile.FieldType.boolean)) ∈ lw_all := lw_g (lw_at lw_m7 25 rfl) rfl
theorem q1484 : (Jvm.Cond.instanceMethod ({ cls := "GraphlineModel", name := "lot", desc := "(CIII)I" } : Jvm.MethodName)) ∈ lw_all := lw_g (lw_at lw_m7 27 rfl) rfl
theorem q1485 : (Jvm.Cond.selects "GraphlineModel" ({ cls := "GraphlineModel", name := "lot", desc := "(CIII)I" } : Jvm.MethodName) ({ cls := "GraphlineModel", name := "lot", desc := "(CIII)I" } : Jvm.MethodName)) ∈ lw_all := lw_g (lw_at lw_m7 28 rfl) rfl
theorem q1486 : (Jvm.Cond.code ({ cls := "GraphlineModel", name := "lot", desc := "(CIII)I" } : Jvm.MethodName) prog_15_method_14_code (6 : Nat) (Option.some Jvm.ClassFile.FieldType.int)) ∈ lw_all := lw_g (lw_at lw_m7 29 rfl) rfl
theorem q1487 : (Jvm.Cond.constantLong "GraphlineModel" (101 : Nat) (50 : Int64)) ∈ lw_all := lw_g (lw_at lw_m7 30 rfl) rfl
theorem q1488 : (Jvm.Cond.constantLong "GraphlineModel" (103 : Nat) (99 : Int64)) ∈ lw_all := lw_g (lw_at lw_m7 31 rfl) rfl
theorem q1489 : (Jvm.Cond.constantLong "GraphlineModel" (105 : Nat) (9 : Int64)) ∈ lw_all := lw_g (lw_at lw_m7 32 rfl) rfl
theorem q1490 : (Jvm.Cond.interfaceEntry "GraphlineModel" (7 : Nat)) ∈ lw_tbl := lw_at lw_m7 33 rfl
theorem q1491 : (Jvm.Cond.methodLink "GraphlineModel" (7 : Nat) ({ cls := "java/util/List", name := "size", desc := "()I" } : Jvm.MethodName)) ∈ lw_all := lw_g (lw_at lw_m7 34 rfl) rfl
theorem q1492 : (Jvm.Cond.interfaceEntry "GraphlineModel" (107 : Nat)) ∈ lw_tbl := lw_at lw_m7 35 rfl
theorem q1493 : (Jvm.Cond.methodLink "GraphlineModel" (107 : Nat) ({ cls := "java/util/List", name := "add", desc := "(Ljava/lang/Object;)Z" } : Jvm.MethodName)) ∈ lw_all := lw_g (lw_at lw_m7 36 rfl) rfl
theorem q1495 : (Jvm.Cond.instanceMethod ({ cls := "GraphlineModel", name := "kilos", desc := "(I)I" } : Jvm.MethodName)) ∈ lw_all := lw_g (lw_at lw_m7 38 rfl) rfl
theorem q1496 : (Jvm.Cond.selects "GraphlineModel" ({ cls := "GraphlineModel", name := "kilos", desc := "(I)I" } : Jvm.MethodName) ({ cls := "GraphlineModel", name := "kilos", desc := "(I)I" } : Jvm.MethodName)) ∈ lw_all := lw_g (lw_at lw_m7 39 rfl) rfl
theorem q1497 : (Jvm.Cond.code ({ cls := "GraphlineModel", name := "kilos", desc := "(I)I" } : Jvm.MethodName) prog_15_method_15_code (2 : Nat) (Option.some Jvm.ClassFile.FieldType.int)) ∈ lw_all := lw_g (lw_at lw_m7 40 rfl) rfl
theorem q1498 : (Jvm.Cond.methodLink "GraphlineModel" (111 : Nat) ({ cls := "GraphlineModel", name := "noLot", desc := "(I)Z" } : Jvm.MethodName)) ∈ lw_all := lw_g (lw_at lw_m7 41 rfl) rfl
theorem q1499 : (Jvm.Cond.privateMethod ({ cls := "GraphlineModel", name := "noLot", desc := "(I)Z" } : Jvm.MethodName)) ∈ lw_tbl := lw_at lw_m7 42 rfl
theorem q1500 : (Jvm.Cond.instanceMethod ({ cls := "GraphlineModel", name := "noLot", desc := "(I)Z" } : Jvm.MethodName)) ∈ lw_all := lw_g (lw_at lw_m7 43 rfl) rfl
theorem q1501 : (Jvm.Cond.code ({ cls := "GraphlineModel", name := "noLot", desc := "(I)Z" } : Jvm.MethodName) prog_15_method_13_code (2 : Nat) (Option.some Jvm.ClassFile.FieldType.boolean)) ∈ lw_all := lw_g (lw_at lw_m7 44 rfl) rfl
theorem q1502 : (Jvm.Cond.methodLink "GraphlineModel" (97 : Nat) ({ cls := "GraphlineModel", name := "isOf", desc := "(Ljava/util/List;I)Z" } : Jvm.MethodName)) ∈ lw_all := lw_g (lw_at lw_m7 45 rfl) rfl
theorem q1503 : (Jvm.Cond.static ({ cls := "GraphlineModel", name := "isOf", desc := "(Ljava/util/List;I)Z" } : Jvm.MethodName)) ∈ lw_all := lw_g (lw_at lw_m7 46 rfl) rfl
theorem q1504 : (Jvm.Cond.code ({ cls := "GraphlineModel", name := "isOf", desc := "(Ljava/util/List;I)Z" } : Jvm.MethodName) prog_15_method_3_code (2 : Nat) (Option.some Jvm.ClassFile.FieldType.boolean)) ∈ lw_all := lw_g (lw_at lw_m7 47 rfl) rfl
theorem q1505 : (Jvm.Cond.interfaceEntry "GraphlineModel" (114 : Nat)) ∈ lw_tbl := lw_at lw_m7 48 rfl
theorem q1506 : (Jvm.Cond.methodLink "GraphlineModel" (114 : Nat) ({ cls := "java/util/List", name := "get", desc := "(I)Ljava/lang/Object;" } : Jvm.MethodName)) ∈ lw_all := lw_g (lw_at lw_m7 49 rfl) rfl
theorem q1507 : (Jvm.Cond.classLink "GraphlineModel" (118 : Nat) "[I") ∈ lw_all := lw_g (lw_at lw_m7 50 rfl) rfl
theorem q1509 : (Jvm.Cond.instanceMethod ({ cls := "GraphlineModel", name := "mix", desc := "(IIIII)I" } : Jvm.MethodName)) ∈ lw_all := lw_g (lw_at lw_m7 52 rfl) rfl
theorem q1510 : (Jvm.Cond.selects "GraphlineModel" ({ cls := "GraphlineModel", name := "mix", desc := "(IIIII)I" } : Jvm.MethodName) ({ cls := "GraphlineModel", name := "mix", desc := "(IIIII)I" } : Jvm.MethodName)) ∈ lw_all := lw_g (lw_at lw_m7 53 rfl) rfl
theorem q1511 : (Jvm.Cond.code ({ cls := "GraphlineModel", name := "mix", desc := "(IIIII)I" } : Jvm.MethodName) prog_15_method_16_code (10 : Nat) (Option.some Jvm.ClassFile.FieldType.int)) ∈ lw_all := lw_g (lw_at lw_m7 54 rfl) rfl
theorem q1512 : (Jvm.Cond.methodLink "GraphlineModel" (119 : Nat) ({ cls := "java/lang/Math", name := "min", desc := "(II)I" } : Jvm.MethodName)) ∈ lw_all := lw_g (lw_at lw_m7 55 rfl) rfl
theorem q1513 : (Jvm.Cond.methodLink "GraphlineModel" (125 : Nat) ({ cls := "java/lang/Math", name := "max", desc := "(II)I" } : Jvm.MethodName)) ∈ lw_all := lw_g (lw_at lw_m7 56 rfl) rfl
theorem q1515 : (Jvm.Cond.instanceMethod ({ cls := "GraphlineModel", name := "mixture", desc := "(IC)I" } : Jvm.MethodName)) ∈ lw_all := lw_g (lw_at lw_m7 58 rfl) rfl
theorem q1516 : (Jvm.Cond.selects "GraphlineModel" ({ cls := "GraphlineModel", name := "mixture", desc := "(IC)I" } : Jvm.MethodName) ({ cls := "GraphlineModel", name := "mixture", desc := "(IC)I" } : Jvm.MethodName)) ∈ lw_all := lw_g (lw_at lw_m7 59 rfl) rfl
theorem q1517 : (Jvm.Cond.code ({ cls := "GraphlineModel", name := "mixture", desc := "(IC)I" } : Jvm.MethodName) prog_15_method_17_code (3 : Nat) (Option.some Jvm.ClassFile.FieldType.int)) ∈ lw_all := lw_g (lw_at lw_m7 60 rfl) rfl
theorem q1518 : (Jvm.Cond.stringRef "GraphlineModel" (128 : Nat) "cfk") ∈ lw_tbl := lw_at lw_m7 61 rfl
theorem q1520 : (Jvm.Cond.instanceMethod ({ cls := "GraphlineModel", name := "press", desc := "(III)I" } : Jvm.MethodName)) ∈ lw_all := lw_g (lw_at lw_m7 63 rfl) rfl
theorem q1521 : (Jvm.Cond.selects "GraphlineModel" ({ cls := "GraphlineModel", name := "press", desc := "(III)I" } : Jvm.MethodName) ({ cls := "GraphlineModel", name := "press", desc := "(III)I" } : Jvm.MethodName)) ∈ lw_all := lw_g (lw_at lw_m7 64 rfl) rfl
theorem q1522 : (Jvm.Cond.code ({ cls := "GraphlineModel", name := "press", desc := "(III)I" } : Jvm.MethodName) prog_15_method_18_code (6 : Nat) (Option.some Jvm.ClassFile.FieldType.int)) ∈ lw_all := lw_g (lw_at lw_m7 65 rfl) rfl
theorem q1523 : (Jvm.Cond.constantLong "GraphlineModel" (130 : Nat) (3 : Int64)) ∈ lw_all := lw_g (lw_at lw_m7 66 rfl) rfl
theorem q1524 : (Jvm.Cond.classLink "GraphlineModel" (132 : Nat) "GraphlineModel$Batch") ∈ lw_all := lw_g (lw_at lw_m7 67 rfl) rfl
theorem q1526 : (Jvm.Cond.methodLinkNest "GraphlineModel" (134 : Nat) ({ cls := "GraphlineModel$Batch", name := "<init>", desc := "()V" } : Jvm.MethodName) "GraphlineModel") ∈ lw_tbl := lw_at lw_m7 69 rfl
theorem q1530 : (Jvm.Cond.fieldLinkNest "GraphlineModel" (135 : Nat) "GraphlineModel$Batch" "mixture" "I" "GraphlineModel") ∈ lw_tbl := lw_at lw_m7 73 rfl
theorem q1531 : (Jvm.Cond.fieldLinkNest "GraphlineModel" (138 : Nat) "GraphlineModel$Batch" "leads" "I" "GraphlineModel") ∈ lw_tbl := lw_at lw_m7 74 rfl
theorem q1532 : (Jvm.Cond.fieldLinkNest "GraphlineModel" (159 : Nat) "GraphlineModel$Batch" "warped" "I" "GraphlineModel") ∈ lw_tbl := lw_at lw_m7 75 rfl
theorem q1533 : (Jvm.Cond.fieldLinkNest "GraphlineModel" (141 : Nat) "GraphlineModel$Batch" "bore" "I" "GraphlineModel") ∈ lw_tbl := lw_at lw_m7 76 rfl
theorem q1534 : (Jvm.Cond.fieldLinkNest "GraphlineModel" (152 : Nat) "GraphlineModel$Batch" "ready" "I" "GraphlineModel") ∈ lw_tbl := lw_at lw_m7 77 rfl
theorem q1535 : (Jvm.Cond.fieldLinkNest "GraphlineModel" (149 : Nat) "GraphlineModel$Batch" "dried" "Z" "GraphlineModel") ∈ lw_tbl := lw_at lw_m7 78 rfl
theorem q1537 : (Jvm.Cond.fieldLinkNest "GraphlineModel" (168 : Nat) "GraphlineModel$Batch" "firing" "I" "GraphlineModel") ∈ lw_tbl := lw_at lw_m7 80 rfl
theorem q1538 : (Jvm.Cond.fieldLinkNest "GraphlineModel" (174 : Nat) "GraphlineModel$Batch" "kiln" "I" "GraphlineModel") ∈ lw_tbl := lw_at lw_m7 81 rfl
theorem q1539 : (Jvm.Cond.fieldLinkNest "GraphlineModel" (187 : Nat) "GraphlineModel$Batch" "soaked" "Z" "GraphlineModel") ∈ lw_tbl := lw_at lw_m7 82 rfl
theorem q1540 : (Jvm.Cond.fieldLinkNest "GraphlineModel" (177 : Nat) "GraphlineModel$Batch" "strength" "I" "GraphlineModel") ∈ lw_tbl := lw_at lw_m7 83 rfl
theorem q1541 : (Jvm.Cond.fieldLinkNest "GraphlineModel" (180 : Nat) "GraphlineModel$Batch" "darkness" "I" "GraphlineModel") ∈ lw_tbl := lw_at lw_m7 84 rfl
theorem q1566 : (Jvm.Cond.instanceMethod ({ cls := "GraphlineModel", name := "worn", desc := "(I)I" } : Jvm.MethodName)) ∈ lw_all := lw_g (lw_at lw_m7 109 rfl) rfl
theorem q1567 : (Jvm.Cond.selects "GraphlineModel" ({ cls := "GraphlineModel", name := "worn", desc := "(I)I" } : Jvm.MethodName) ({ cls := "GraphlineModel", name := "worn", desc := "(I)I" } : Jvm.MethodName)) ∈ lw_all := lw_g (lw_at lw_m7 110 rfl) rfl
theorem q1568 : (Jvm.Cond.code ({ cls := "GraphlineModel", name := "worn", desc := "(I)I" } : Jvm.MethodName) prog_15_method_19_code (2 : Nat) (Option.some Jvm.ClassFile.FieldType.int)) ∈ lw_all := lw_g (lw_at lw_m7 111 rfl) rfl
theorem q1570 : (Jvm.Cond.instanceMethod ({ cls := "GraphlineModel", name := "renew", desc := "(I)I" } : Jvm.MethodName)) ∈ lw_all := lw_g (lw_at lw_m7 113 rfl) rfl
theorem q1571 : (Jvm.Cond.selects "GraphlineModel" ({ cls := "GraphlineModel", name := "renew", desc := "(I)I" } : Jvm.MethodName) ({ cls := "GraphlineModel", name := "renew", desc := "(I)I" } : Jvm.MethodName)) ∈ lw_all := lw_g (lw_at lw_m7 114 rfl) rfl
theorem q1572 : (Jvm.Cond.code ({ cls := "GraphlineModel", name := "renew", desc := "(I)I" } : Jvm.MethodName) prog_15_method_20_code (3 : Nat) (Option.some Jvm.ClassFile.FieldType.int)) ∈ lw_all := lw_g (lw_at lw_m7 115 rfl) rfl
theorem q1574 : (Jvm.Cond.instanceMethod ({ cls := "GraphlineModel", name := "dry", desc := "(II)I" } : Jvm.MethodName)) ∈ lw_all := lw_g (lw_at lw_m7 117 rfl) rfl
theorem q1575 : (Jvm.Cond.selects "GraphlineModel" ({ cls := "GraphlineModel", name := "dry", desc := "(II)I" } : Jvm.MethodName) ({ cls := "GraphlineModel", name := "dry", desc := "(II)I" } : Jvm.MethodName)) ∈ lw_all := lw_g (lw_at lw_m7 118 rfl) rfl
theorem q1576 : (Jvm.Cond.code ({ cls := "GraphlineModel", name := "dry", desc := "(II)I" } : Jvm.MethodName) prog_15_method_23_code (4 : Nat) (Option.some Jvm.ClassFile.FieldType.int)) ∈ lw_all := lw_g (lw_at lw_m7 119 rfl) rfl
theorem q1577 : (Jvm.Cond.methodLink "GraphlineModel" (144 : Nat) ({ cls := "GraphlineModel", name := "noBatch", desc := "(I)Z" } : Jvm.MethodName)) ∈ lw_all := lw_g (lw_at lw_m7 120 rfl) rfl
theorem q1578 : (Jvm.Cond.privateMethod ({ cls := "GraphlineModel", name := "noBatch", desc := "(I)Z" } : Jvm.MethodName)) ∈ lw_tbl := lw_at lw_m7 121 rfl
theorem q1579 : (Jvm.Cond.instanceMethod ({ cls := "GraphlineModel", name := "noBatch", desc := "(I)Z" } : Jvm.MethodName)) ∈ lw_all := lw_g (lw_at lw_m7 122 rfl) rfl
theorem q1580 : (Jvm.Cond.code ({ cls := "GraphlineModel", name := "noBatch", desc := "(I)Z" } : Jvm.MethodName) prog_15_method_21_code (2 : Nat) (Option.some Jvm.ClassFile.FieldType.boolean)) ∈ lw_all := lw_g (lw_at lw_m7 123 rfl) rfl
theorem q1581 : (Jvm.Cond.constantLong "GraphlineModel" (147 : Nat) (5 : Int64)) ∈ lw_all := lw_g (lw_at lw_m7 124 rfl) rfl
theorem q1582 : (Jvm.Cond.methodLink "GraphlineModel" (155 : Nat) ({ cls := "GraphlineModel", name := "fineness", desc := "(LGraphlineModel$Batch;)I" } : Jvm.MethodName)) ∈ lw_all := lw_g (lw_at lw_m7 125 rfl) rfl
theorem q1583 : (Jvm.Cond.privateMethod ({ cls := "GraphlineModel", name := "fineness", desc := "(LGraphlineModel$Batch;)I" } : Jvm.MethodName)) ∈ lw_tbl := lw_at lw_m7 126 rfl
theorem q1584 : (Jvm.Cond.instanceMethod ({ cls := "GraphlineModel", name := "fineness", desc := "(LGraphlineModel$Batch;)I" } : Jvm.MethodName)) ∈ lw_all := lw_g (lw_at lw_m7 127 rfl) rfl
theorem q1585 : (Jvm.Cond.code ({ cls := "GraphlineModel", name := "fineness", desc := "(LGraphlineModel$Batch;)I" } : Jvm.MethodName) prog_15_method_22_code (2 : Nat) (Option.some Jvm.ClassFile.FieldType.int)) ∈ lw_all := lw_g (lw_at lw_m7 128 rfl) rfl
theorem q1587 : (Jvm.Cond.instanceMethod ({ cls := "GraphlineModel", name := "fire", desc := "(IIII)I" } : Jvm.MethodName)) ∈ lw_all := lw_g (lw_at lw_m7 130 rfl) rfl
theorem q1588 : (Jvm.Cond.selects "GraphlineModel" ({ cls := "GraphlineModel", name := "fire", desc := "(IIII)I" } : Jvm.MethodName) ({ cls := "GraphlineModel", name := "fire", desc := "(IIII)I" } : Jvm.MethodName)) ∈ lw_all := lw_g (lw_at lw_m7 131 rfl) rfl
theorem q1589 : (Jvm.Cond.code ({ cls := "GraphlineModel", name := "fire", desc := "(IIII)I" } : Jvm.MethodName) prog_15_method_24_code (7 : Nat) (Option.some Jvm.ClassFile.FieldType.int)) ∈ lw_all := lw_g (lw_at lw_m7 132 rfl) rfl
theorem q1590 : (Jvm.Cond.constantLong "GraphlineModel" (162 : Nat) (700 : Int64)) ∈ lw_all := lw_g (lw_at lw_m7 133 rfl) rfl
theorem q1591 : (Jvm.Cond.constantLong "GraphlineModel" (164 : Nat) (1200 : Int64)) ∈ lw_all := lw_g (lw_at lw_m7 134 rfl) rfl
theorem q1592 : (Jvm.Cond.constantLong "GraphlineModel" (166 : Nat) (12 : Int64)) ∈ lw_all := lw_g (lw_at lw_m7 135 rfl) rfl
theorem q1594 : (Jvm.Cond.instanceMethod ({ cls := "GraphlineModel", name := "soak", desc := "(II)I" } : Jvm.MethodName)) ∈ lw_all := lw_g (lw_at lw_m7 137 rfl) rfl
theorem q1595 : (Jvm.Cond.selects "GraphlineModel" ({ cls := "GraphlineModel", name := "soak", desc := "(II)I" } : Jvm.MethodName) ({ cls := "GraphlineModel", name := "soak", desc := "(II)I" } : Jvm.MethodName)) ∈ lw_all := lw_g (lw_at lw_m7 138 rfl) rfl
theorem q1596 : (Jvm.Cond.code ({ cls := "GraphlineModel", name := "soak", desc := "(II)I" } : Jvm.MethodName) prog_15_method_26_code (4 : Nat) (Option.some Jvm.ClassFile.FieldType.int)) ∈ lw_all := lw_g (lw_at lw_m7 139 rfl) rfl
theorem q1597 : (Jvm.Cond.methodLink "GraphlineModel" (183 : Nat) ({ cls := "GraphlineModel", name := "isFired", desc := "(LGraphlineModel$Batch;)Z" } : Jvm.MethodName)) ∈ lw_all := lw_g (lw_at lw_m7 140 rfl) rfl
theorem q1598 : (Jvm.Cond.privateMethod ({ cls := "GraphlineModel", name := "isFired", desc := "(LGraphlineModel$Batch;)Z" } : Jvm.MethodName)) ∈ lw_tbl := lw_at lw_m7 141 rfl
theorem q1599 : (Jvm.Cond.instanceMethod ({ cls := "GraphlineModel", name := "isFired", desc := "(LGraphlineModel$Batch;)Z" } : Jvm.MethodName)) ∈ lw_all := lw_g (lw_at lw_m7 142 rfl) rfl
theorem q1600 : (Jvm.Cond.code ({ cls := "GraphlineModel", name := "isFired", desc := "(LGraphlineModel$Batch;)Z" } : Jvm.MethodName) prog_15_method_25_code (2 : Nat) (Option.some Jvm.ClassFile.FieldType.boolean)) ∈ lw_all := lw_g (lw_at lw_m7 143 rfl) rfl
theorem q1602 : (Jvm.Cond.instanceMethod ({ cls := "GraphlineModel", name := "batch", desc := "(IC)I" } : Jvm.MethodName)) ∈ lw_all := lw_g (lw_at lw_m7 145 rfl) rfl
theorem q1603 : (Jvm.Cond.selects "GraphlineModel" ({ cls := "GraphlineModel", name := "batch", desc := "(IC)I" } : Jvm.MethodName) ({ cls := "GraphlineModel", name := "batch", desc := "(IC)I" } : Jvm.MethodName)) ∈ lw_all := lw_g (lw_at lw_m7 146 rfl) rfl
theorem q1604 : (Jvm.Cond.code ({ cls := "GraphlineModel", name := "batch", desc := "(IC)I" } : Jvm.MethodName) prog_15_method_27_code (4 : Nat) (Option.some Jvm.ClassFile.FieldType.int)) ∈ lw_all := lw_g (lw_at lw_m7 147 rfl) rfl
theorem q1605 : (Jvm.Cond.stringRef "GraphlineModel" (190 : Nat) "nwbrsdf") ∈ lw_tbl := lw_at lw_m7 148 rfl
theorem q1607 : (Jvm.Cond.instanceMethod ({ cls := "GraphlineModel", name := "draw", desc := "(I)I" } : Jvm.MethodName)) ∈ lw_all := lw_g (lw_at lw_m7 150 rfl) rfl
theorem q1608 : (Jvm.Cond.selects "GraphlineModel" ({ cls := "GraphlineModel", name := "draw", desc := "(I)I" } : Jvm.MethodName) ({ cls := "GraphlineModel", name := "draw", desc := "(I)I" } : Jvm.MethodName)) ∈ lw_all := lw_g (lw_at lw_m7 151 rfl) rfl
theorem q1609 : (Jvm.Cond.code ({ cls := "GraphlineModel", name := "draw", desc := "(I)I" } : Jvm.MethodName) prog_15_method_29_code (2 : Nat) (Option.some Jvm.ClassFile.FieldType.int)) ∈ lw_all := lw_g (lw_at lw_m7 152 rfl) rfl
theorem q1610 : (Jvm.Cond.methodLink "GraphlineModel" (198 : Nat) ({ cls := "GraphlineModel", name := "tells", desc := "(LGraphlineModel$Batch;)I" } : Jvm.MethodName)) ∈ lw_all := lw_g (lw_at lw_m7 153 rfl) rfl
theorem q1611 : (Jvm.Cond.privateMethod ({ cls := "GraphlineModel", name := "tells", desc := "(LGraphlineModel$Batch;)I" } : Jvm.MethodName)) ∈ lw_tbl := lw_at lw_m7 154 rfl
theorem q1612 : (Jvm.Cond.instanceMethod ({ cls := "GraphlineModel", name := "tells", desc := "(LGraphlineModel$Batch;)I" } : Jvm.MethodName)) ∈ lw_all := lw_g (lw_at lw_m7 155 rfl) rfl
theorem q1613 : (Jvm.Cond.code ({ cls := "GraphlineModel", name := "tells", desc := "(LGraphlineModel$Batch;)I" } : Jvm.MethodName) prog_15_method_28_code (3 : Nat) (Option.some Jvm.ClassFile.FieldType.int)) ∈ lw_all := lw_g (lw_at lw_m7 156 rfl) rfl
theorem q1615 : (Jvm.Cond.instanceMethod ({ cls := "GraphlineModel", name := "check", desc := "()I" } : Jvm.MethodName)) ∈ lw_all := lw_g (lw_at lw_m7 158 rfl) rfl
theorem q1616 : (Jvm.Cond.selects "GraphlineModel" ({ cls := "GraphlineModel", name := "check", desc := "()I" } : Jvm.MethodName) ({ cls := "GraphlineModel", name := "check", desc := "()I" } : Jvm.MethodName)) ∈ lw_all := lw_g (lw_at lw_m7 159 rfl) rfl
theorem q1617 : (Jvm.Cond.code ({ cls := "GraphlineModel", name := "check", desc := "()I" } : Jvm.MethodName) prog_15_method_30_code (2 : Nat) (Option.some Jvm.ClassFile.FieldType.int)) ∈ lw_all := lw_g (lw_at lw_m7 160 rfl) rfl
theorem q1619 : (Jvm.Cond.instanceMethod ({ cls := "GraphlineModel", name := "slats", desc := "(CIII)I" } : Jvm.MethodName)) ∈ lw_all := lw_g (lw_at lw_m7 162 rfl) rfl
theorem q1620 : (Jvm.Cond.selects "GraphlineModel" ({ cls := "GraphlineModel", name := "slats", desc := "(CIII)I" } : Jvm.MethodName) ({ cls := "GraphlineModel", name := "slats", desc := "(CIII)I" } : Jvm.MethodName)) ∈ lw_all := lw_g (lw_at lw_m7 163 rfl) rfl
theorem q1621 : (Jvm.Cond.code ({ cls := "GraphlineModel", name := "slats", desc := "(CIII)I" } : Jvm.MethodName) prog_15_method_32_code (7 : Nat) (Option.some Jvm.ClassFile.FieldType.int)) ∈ lw_all := lw_g (lw_at lw_m7 164 rfl) rfl
theorem q1622 : (Jvm.Cond.constantLong "GraphlineModel" (201 : Nat) (40 : Int64)) ∈ lw_all := lw_g (lw_at lw_m7 165 rfl) rfl
theorem q1623 : (Jvm.Cond.classLink "GraphlineModel" (203 : Nat) "GraphlineModel$Slat") ∈ lw_all := lw_g (lw_at lw_m7 166 rfl) rfl
theorem q1625 : (Jvm.Cond.methodLinkNest "GraphlineModel" (205 : Nat) ({ cls := "GraphlineModel$Slat", name := "<init>", desc := "()V" } : Jvm.MethodName) "GraphlineModel") ∈ lw_tbl := lw_at lw_m7 168 rfl
theorem q1629 : (Jvm.Cond.fieldLinkNest "GraphlineModel" (206 : Nat) "GraphlineModel$Slat" "wood" "C" "GraphlineModel") ∈ lw_tbl := lw_at lw_m7 172 rfl
theorem q1630 : (Jvm.Cond.fieldLinkNest "GraphlineModel" (210 : Nat) "GraphlineModel$Slat" "grain" "I" "GraphlineModel") ∈ lw_tbl := lw_at lw_m7 173 rfl
theorem q1631 : (Jvm.Cond.fieldLinkNest "GraphlineModel" (213 : Nat) "GraphlineModel$Slat" "wet" "I" "GraphlineModel") ∈ lw_tbl := lw_at lw_m7 174 rfl
theorem q1632 : (Jvm.Cond.fieldLinkNest "GraphlineModel" (216 : Nat) "GraphlineModel$Slat" "many" "I" "GraphlineModel") ∈ lw_tbl := lw_at lw_m7 175 rfl
theorem q1633 : (Jvm.Cond.fieldLinkNest "GraphlineModel" (227 : Nat) "GraphlineModel$Slat" "width" "I" "GraphlineModel") ∈ lw_tbl := lw_at lw_m7 176 rfl
theorem q1634 : (Jvm.Cond.fieldLinkNest "GraphlineModel" (224 : Nat) "GraphlineModel$Slat" "ready" "I" "GraphlineModel") ∈ lw_tbl := lw_at lw_m7 177 rfl
theorem q1649 : (Jvm.Cond.instanceMethod ({ cls := "GraphlineModel", name := "season", desc := "(II)I" } : Jvm.MethodName)) ∈ lw_all := lw_g (lw_at lw_m7 192 rfl) rfl
theorem q1650 : (Jvm.Cond.selects "GraphlineModel" ({ cls := "GraphlineModel", name := "season", desc := "(II)I" } : Jvm.MethodName) ({ cls := "GraphlineModel", name := "season", desc := "(II)I" } : Jvm.MethodName)) ∈ lw_all := lw_g (lw_at lw_m7 193 rfl) rfl
theorem q1651 : (Jvm.Cond.code ({ cls := "GraphlineModel", name := "season", desc := "(II)I" } : Jvm.MethodName) prog_15_method_33_code (4 : Nat) (Option.some Jvm.ClassFile.FieldType.int)) ∈ lw_all := lw_g (lw_at lw_m7 194 rfl) rfl
theorem q1652 : (Jvm.Cond.methodLink "GraphlineModel" (219 : Nat) ({ cls := "GraphlineModel", name := "noSlats", desc := "(I)Z" } : Jvm.MethodName)) ∈ lw_all := lw_g (lw_at lw_m7 195 rfl) rfl
theorem q1653 : (Jvm.Cond.privateMethod ({ cls := "GraphlineModel", name := "noSlats", desc := "(I)Z" } : Jvm.MethodName)) ∈ lw_tbl := lw_at lw_m7 196 rfl
theorem q1654 : (Jvm.Cond.instanceMethod ({ cls := "GraphlineModel", name := "noSlats", desc := "(I)Z" } : Jvm.MethodName)) ∈ lw_all := lw_g (lw_at lw_m7 197 rfl) rfl
theorem q1655 : (Jvm.Cond.code ({ cls := "GraphlineModel", name := "noSlats", desc := "(I)Z" } : Jvm.MethodName) prog_15_method_31_code (2 : Nat) (Option.some Jvm.ClassFile.FieldType.boolean)) ∈ lw_all := lw_g (lw_at lw_m7 198 rfl) rfl
theorem q1656 : (Jvm.Cond.constantLong "GraphlineModel" (222 : Nat) (200 : Int64)) ∈ lw_all := lw_g (lw_at lw_m7 199 rfl) rfl
theorem q1658 : (Jvm.Cond.instanceMethod ({ cls := "GraphlineModel", name := "groove", desc := "(II)I" } : Jvm.MethodName)) ∈ lw_all := lw_g (lw_at lw_m7 201 rfl) rfl
theorem q1659 : (Jvm.Cond.selects "GraphlineModel" ({ cls := "GraphlineModel", name := "groove", desc := "(II)I" } : Jvm.MethodName) ({ cls := "GraphlineModel", name := "groove", desc := "(II)I" } : Jvm.MethodName)) ∈ lw_all := lw_g (lw_at lw_m7 202 rfl) rfl
theorem q1660 : (Jvm.Cond.code ({ cls := "GraphlineModel", name := "groove", desc := "(II)I" } : Jvm.MethodName) prog_15_method_34_code (4 : Nat) (Option.some Jvm.ClassFile.FieldType.int)) ∈ lw_all := lw_g (lw_at lw_m7 203 rfl) rfl
theorem q1661 : (Jvm.Cond.constantLong "GraphlineModel" (225 : Nat) (30 : Int64)) ∈ lw_all := lw_g (lw_at lw_m7 204 rfl) rfl
theorem q1663 : (Jvm.Cond.instanceMethod ({ cls := "GraphlineModel", name := "slat", desc := "(IC)I" } : Jvm.MethodName)) ∈ lw_all := lw_g (lw_at lw_m7 206 rfl) rfl
theorem q1664 : (Jvm.Cond.selects "GraphlineModel" ({ cls := "GraphlineModel", name := "slat", desc := "(IC)I" } : Jvm.MethodName) ({ cls := "GraphlineModel", name := "slat", desc := "(IC)I" } : Jvm.MethodName)) ∈ lw_all := lw_g (lw_at lw_m7 207 rfl) rfl
theorem q1665 : (Jvm.Cond.code ({ cls := "GraphlineModel", name := "slat", desc := "(IC)I" } : Jvm.MethodName) prog_15_method_35_code (4 : Nat) (Option.some Jvm.ClassFile.FieldType.int)) ∈ lw_all := lw_g (lw_at lw_m7 208 rfl) rfl
theorem q1666 : (Jvm.Cond.stringRef "GraphlineModel" (230 : Nat) "nwgr") ∈ lw_tbl := lw_at lw_m7 209 rfl
theorem q1668 : (Jvm.Cond.instanceMethod ({ cls := "GraphlineModel", name := "lay", desc := "(IICII)I" } : Jvm.MethodName)) ∈ lw_all := lw_g (lw_at lw_m7 211 rfl) rfl
theorem q1669 : (Jvm.Cond.selects "GraphlineModel" ({ cls := "GraphlineModel", name := "lay", desc := "(IICII)I" } : Jvm.MethodName) ({ cls := "GraphlineModel", name := "lay", desc := "(IICII)I" } : Jvm.MethodName)) ∈ lw_all := lw_g (lw_at lw_m7 212 rfl) rfl
theorem q1670 : (Jvm.Cond.code ({ cls := "GraphlineModel", name := "lay", desc := "(IICII)I" } : Jvm.MethodName) prog_15_method_36_code (13 : Nat) (Option.some Jvm.ClassFile.FieldType.int)) ∈ lw_all := lw_g (lw_at lw_m7 213 rfl) rfl
theorem q1671 : (Jvm.Cond.stringRef "GraphlineModel" (232 : Nat) "603") ∈ lw_tbl := lw_at lw_m7 214 rfl
theorem q1672 : (Jvm.Cond.methodLink "GraphlineModel" (234 : Nat) ({ cls := "java/lang/Math", name := "abs", desc := "(I)I" } : Jvm.MethodName)) ∈ lw_all := lw_g (lw_at lw_m7 215 rfl) rfl
theorem q1673 : (Jvm.Cond.classLink "GraphlineModel" (237 : Nat) "GraphlineModel$Run") ∈ lw_all := lw_g (lw_at lw_m7 216 rfl) rfl
theorem q1675 : (Jvm.Cond.methodLinkNest "GraphlineModel" (239 : Nat) ({ cls := "GraphlineModel$Run", name := "<init>", desc := "()V" } : Jvm.MethodName) "GraphlineModel") ∈ lw_tbl := lw_at lw_m7 218 rfl
theorem q1679 : (Jvm.Cond.fieldLinkNest "GraphlineModel" (240 : Nat) "GraphlineModel$Run" "batch" "I" "GraphlineModel") ∈ lw_tbl := lw_at lw_m7 222 rfl
theorem q1680 : (Jvm.Cond.fieldLinkNest "GraphlineModel" (243 : Nat) "GraphlineModel$Run" "slats" "I" "GraphlineModel") ∈ lw_tbl := lw_at lw_m7 223 rfl
theorem q1681 : (Jvm.Cond.fieldLinkNest "GraphlineModel" (245 : Nat) "GraphlineModel$Run" "hand" "I" "GraphlineModel") ∈ lw_tbl := lw_at lw_m7 224 rfl
theorem q1682 : (Jvm.Cond.fieldLinkNest "GraphlineModel" (248 : Nat) "GraphlineModel$Run" "many" "I" "GraphlineModel") ∈ lw_tbl := lw_at lw_m7 225 rfl
theorem q1683 : (Jvm.Cond.fieldLinkNest "GraphlineModel" (270 : Nat) "GraphlineModel$Run" "broken" "I" "GraphlineModel") ∈ lw_tbl := lw_at lw_m7 226 rfl
theorem q1684 : (Jvm.Cond.fieldLinkNest "GraphlineModel" (249 : Nat) "GraphlineModel$Run" "off" "I" "GraphlineModel") ∈ lw_tbl := lw_at lw_m7 227 rfl
theorem q1685 : (Jvm.Cond.fieldLinkNest "GraphlineModel" (252 : Nat) "GraphlineModel$Run" "ready" "I" "GraphlineModel") ∈ lw_tbl := lw_at lw_m7 228 rfl
theorem q1686 : (Jvm.Cond.fieldLinkNest "GraphlineModel" (256 : Nat) "GraphlineModel$Run" "coats" "I" "GraphlineModel") ∈ lw_tbl := lw_at lw_m7 229 rfl
theorem q1688 : (Jvm.Cond.fieldLinkNest "GraphlineModel" (259 : Nat) "GraphlineModel$Run" "colour" "I" "GraphlineModel") ∈ lw_tbl := lw_at lw_m7 231 rfl
theorem q1690 : (Jvm.Cond.fieldLinkNest "GraphlineModel" (262 : Nat) "GraphlineModel$Run" "stamp" "I" "GraphlineModel") ∈ lw_tbl := lw_at lw_m7 233 rfl
theorem q1691 : (Jvm.Cond.fieldLinkNest "GraphlineModel" (265 : Nat) "GraphlineModel$Run" "erased" "Z" "GraphlineModel") ∈ lw_tbl := lw_at lw_m7 234 rfl
theorem q1716 : (Jvm.Cond.instanceMethod ({ cls := "GraphlineModel", name := "coat", desc := "(II)I" } : Jvm.MethodName)) ∈ lw_all := lw_g (lw_at lw_m8 19 rfl) rfl
theorem q1717 : (Jvm.Cond.selects "GraphlineModel" ({ cls := "GraphlineModel", name := "coat", desc := "(II)I" } : Jvm.MethodName) ({ cls := "GraphlineModel", name := "coat", desc := "(II)I" } : Jvm.MethodName)) ∈ lw_all := lw_g (lw_at lw_m8 20 rfl) rfl
theorem q1718 : (Jvm.Cond.code ({ cls := "GraphlineModel", name := "coat", desc := "(II)I" } : Jvm.MethodName) prog_15_method_38_code (4 : Nat) (Option.some Jvm.ClassFile.FieldType.int)) ∈ lw_all := lw_g (lw_at lw_m8 21 rfl) rfl
theorem q1719 : (Jvm.Cond.methodLink "GraphlineModel" (253 : Nat) ({ cls := "GraphlineModel", name := "noRun", desc := "(I)Z" } : Jvm.MethodName)) ∈ lw_all := lw_g (lw_at lw_m8 22 rfl) rfl
theorem q1720 : (Jvm.Cond.privateMethod ({ cls := "GraphlineModel", name := "noRun", desc := "(I)Z" } : Jvm.MethodName)) ∈ lw_tbl := lw_at lw_m8 23 rfl
theorem q1721 : (Jvm.Cond.instanceMethod ({ cls := "GraphlineModel", name := "noRun", desc := "(I)Z" } : Jvm.MethodName)) ∈ lw_all := lw_g (lw_at lw_m8 24 rfl) rfl
theorem q1722 : (Jvm.Cond.code ({ cls := "GraphlineModel", name := "noRun", desc := "(I)Z" } : Jvm.MethodName) prog_15_method_37_code (2 : Nat) (Option.some Jvm.ClassFile.FieldType.boolean)) ∈ lw_all := lw_g (lw_at lw_m8 25 rfl) rfl
theorem q1724 : (Jvm.Cond.instanceMethod ({ cls := "GraphlineModel", name := "stamp", desc := "(I)I" } : Jvm.MethodName)) ∈ lw_all := lw_g (lw_at lw_m8 27 rfl) rfl
theorem q1725 : (Jvm.Cond.selects "GraphlineModel" ({ cls := "GraphlineModel", name := "stamp", desc := "(I)I" } : Jvm.MethodName) ({ cls := "GraphlineModel", name := "stamp", desc := "(I)I" } : Jvm.MethodName)) ∈ lw_all := lw_g (lw_at lw_m8 28 rfl) rfl
theorem q1726 : (Jvm.Cond.code ({ cls := "GraphlineModel", name := "stamp", desc := "(I)I" } : Jvm.MethodName) prog_15_method_39_code (3 : Nat) (Option.some Jvm.ClassFile.FieldType.int)) ∈ lw_all := lw_g (lw_at lw_m8 29 rfl) rfl
theorem q1728 : (Jvm.Cond.instanceMethod ({ cls := "GraphlineModel", name := "erase", desc := "(II)I" } : Jvm.MethodName)) ∈ lw_all := lw_g (lw_at lw_m8 31 rfl) rfl
theorem q1729 : (Jvm.Cond.selects "GraphlineModel" ({ cls := "GraphlineModel", name := "erase", desc := "(II)I" } : Jvm.MethodName) ({ cls := "GraphlineModel", name := "erase", desc := "(II)I" } : Jvm.MethodName)) ∈ lw_all := lw_g (lw_at lw_m8 32 rfl) rfl
theorem q1730 : (Jvm.Cond.code ({ cls := "GraphlineModel", name := "erase", desc := "(II)I" } : Jvm.MethodName) prog_15_method_40_code (3 : Nat) (Option.some Jvm.ClassFile.FieldType.int)) ∈ lw_all := lw_g (lw_at lw_m8 33 rfl) rfl
theorem q1732 : (Jvm.Cond.instanceMethod ({ cls := "GraphlineModel", name := "run", desc := "(IC)I" } : Jvm.MethodName)) ∈ lw_all := lw_g (lw_at lw_m8 35 rfl) rfl
theorem q1733 : (Jvm.Cond.selects "GraphlineModel" ({ cls := "GraphlineModel", name := "run", desc := "(IC)I" } : Jvm.MethodName) ({ cls := "GraphlineModel", name := "run", desc := "(IC)I" } : Jvm.MethodName)) ∈ lw_all := lw_g (lw_at lw_m8 36 rfl) rfl
theorem q1734 : (Jvm.Cond.code ({ cls := "GraphlineModel", name := "run", desc := "(IC)I" } : Jvm.MethodName) prog_15_method_41_code (4 : Nat) (Option.some Jvm.ClassFile.FieldType.int)) ∈ lw_all := lw_g (lw_at lw_m8 37 rfl) rfl
theorem q1735 : (Jvm.Cond.stringRef "GraphlineModel" (268 : Nat) "nbclgor") ∈ lw_tbl := lw_at lw_m8 38 rfl
theorem q1737 : (Jvm.Cond.instanceMethod ({ cls := "GraphlineModel", name := "fall", desc := "(II)I" } : Jvm.MethodName)) ∈ lw_all := lw_g (lw_at lw_m8 40 rfl) rfl
theorem q1738 : (Jvm.Cond.selects "GraphlineModel" ({ cls := "GraphlineModel", name := "fall", desc := "(II)I" } : Jvm.MethodName) ({ cls := "GraphlineModel", name := "fall", desc := "(II)I" } : Jvm.MethodName)) ∈ lw_all := lw_g (lw_at lw_m8 41 rfl) rfl
theorem q1739 : (Jvm.Cond.code ({ cls := "GraphlineModel", name := "fall", desc := "(II)I" } : Jvm.MethodName) prog_15_method_42_code (6 : Nat) (Option.some Jvm.ClassFile.FieldType.int)) ∈ lw_all := lw_g (lw_at lw_m8 42 rfl) rfl
theorem q1741 : (Jvm.Cond.instanceMethod ({ cls := "GraphlineModel", name := "sample", desc := "(II)I" } : Jvm.MethodName)) ∈ lw_all := lw_g (lw_at lw_m8 44 rfl) rfl
theorem q1742 : (Jvm.Cond.selects "GraphlineModel" ({ cls := "GraphlineModel", name := "sample", desc := "(II)I" } : Jvm.MethodName) ({ cls := "GraphlineModel", name := "sample", desc := "(II)I" } : Jvm.MethodName)) ∈ lw_all := lw_g (lw_at lw_m8 45 rfl) rfl
theorem q1743 : (Jvm.Cond.code ({ cls := "GraphlineModel", name := "sample", desc := "(II)I" } : Jvm.MethodName) prog_15_method_43_code (6 : Nat) (Option.some Jvm.ClassFile.FieldType.int)) ∈ lw_all := lw_g (lw_at lw_m8 46 rfl) rfl
theorem q1744 : (Jvm.Cond.constantLong "GraphlineModel" (273 : Nat) (48271 : Int64)) ∈ lw_all := lw_g (lw_at lw_m8 47 rfl) rfl
theorem q1745 : (Jvm.Cond.constantLong "GraphlineModel" (275 : Nat) (2147483647 : Int64)) ∈ lw_all := lw_g (lw_at lw_m8 48 rfl) rfl
theorem q1747 : (Jvm.Cond.instanceMethod ({ cls := "GraphlineModel", name := "seed", desc := "(I)I" } : Jvm.MethodName)) ∈ lw_all := lw_g (lw_at lw_m8 50 rfl) rfl
theorem q1748 : (Jvm.Cond.selects "GraphlineModel" ({ cls := "GraphlineModel", name := "seed", desc := "(I)I" } : Jvm.MethodName) ({ cls := "GraphlineModel", name := "seed", desc := "(I)I" } : Jvm.MethodName)) ∈ lw_all := lw_g (lw_at lw_m8 51 rfl) rfl
theorem q1749 : (Jvm.Cond.code ({ cls := "GraphlineModel", name := "seed", desc := "(I)I" } : Jvm.MethodName) prog_15_method_44_code (3 : Nat) (Option.some Jvm.ClassFile.FieldType.int)) ∈ lw_all := lw_g (lw_at lw_m8 52 rfl) rfl
theorem q1750 : (Jvm.Cond.constantLong "GraphlineModel" (277 : Nat) (2147483646 : Int64)) ∈ lw_all := lw_g (lw_at lw_m8 53 rfl) rfl
theorem q1752 : (Jvm.Cond.instanceMethod ({ cls := "GraphlineModel", name := "gross", desc := "(I)I" } : Jvm.MethodName)) ∈ lw_all := lw_g (lw_at lw_m8 55 rfl) rfl
theorem q1753 : (Jvm.Cond.selects "GraphlineModel" ({ cls := "GraphlineModel", name := "gross", desc := "(I)I" } : Jvm.MethodName) ({ cls := "GraphlineModel", name := "gross", desc := "(I)I" } : Jvm.MethodName)) ∈ lw_all := lw_g (lw_at lw_m8 56 rfl) rfl
theorem q1754 : (Jvm.Cond.code ({ cls := "GraphlineModel", name := "gross", desc := "(I)I" } : Jvm.MethodName) prog_15_method_45_code (3 : Nat) (Option.some Jvm.ClassFile.FieldType.int)) ∈ lw_all := lw_g (lw_at lw_m8 57 rfl) rfl
theorem q1755 : (Jvm.Cond.constantLong "GraphlineModel" (279 : Nat) (19 : Int64)) ∈ lw_all := lw_g (lw_at lw_m8 58 rfl) rfl
theorem q1756 : (Jvm.Cond.classLink "GraphlineModel" (281 : Nat) "GraphlineModel$Gross") ∈ lw_all := lw_g (lw_at lw_m8 59 rfl) rfl
theorem q1758 : (Jvm.Cond.methodLinkNest "GraphlineModel" (283 : Nat) ({ cls := "GraphlineModel$Gross", name := "<init>", desc := "()V" } : Jvm.MethodName) "GraphlineModel") ∈ lw_tbl := lw_at lw_m8 61 rfl
theorem q1764 : (Jvm.Cond.fieldLinkNest "GraphlineModel" (284 : Nat) "GraphlineModel$Gross" "grade" "I" "GraphlineModel") ∈ lw_tbl := lw_at lw_m8 67 rfl
theorem q1766 : (Jvm.Cond.fieldLinkNest "GraphlineModel" (294 : Nat) "GraphlineModel$Gross" "parts" "Ljava/util/List;" "GraphlineModel") ∈ lw_tbl := lw_at lw_m8 69 rfl
theorem q1767 : (Jvm.Cond.fieldLinkNest "GraphlineModel" (291 : Nat) "GraphlineModel$Gross" "shipped" "Z" "GraphlineModel") ∈ lw_tbl := lw_at lw_m8 70 rfl
theorem q1776 : (Jvm.Cond.instanceMethod ({ cls := "GraphlineModel", name := "pack", desc := "(III)I" } : Jvm.MethodName)) ∈ lw_all := lw_g (lw_at lw_m8 79 rfl) rfl
theorem q1777 : (Jvm.Cond.selects "GraphlineModel" ({ cls := "GraphlineModel", name := "pack", desc := "(III)I" } : Jvm.MethodName) ({ cls := "GraphlineModel", name := "pack", desc := "(III)I" } : Jvm.MethodName)) ∈ lw_all := lw_g (lw_at lw_m8 80 rfl) rfl
theorem q1778 : (Jvm.Cond.code ({ cls := "GraphlineModel", name := "pack", desc := "(III)I" } : Jvm.MethodName) prog_15_method_46_code (7 : Nat) (Option.some Jvm.ClassFile.FieldType.int)) ∈ lw_all := lw_g (lw_at lw_m8 81 rfl) rfl
theorem q1779 : (Jvm.Cond.constantLong "GraphlineModel" (287 : Nat) (144 : Int64)) ∈ lw_all := lw_g (lw_at lw_m8 82 rfl) rfl
theorem q1780 : (Jvm.Cond.methodLink "GraphlineModel" (289 : Nat) ({ cls := "GraphlineModel$Gross", name := "many", desc := "()I" } : Jvm.MethodName)) ∈ lw_all := lw_g (lw_at lw_m8 83 rfl) rfl
theorem q1792 : (Jvm.Cond.instanceMethod ({ cls := "GraphlineModel", name := "order", desc := "(III)I" } : Jvm.MethodName)) ∈ lw_all := lw_g (lw_at lw_m8 95 rfl) rfl
theorem q1793 : (Jvm.Cond.selects "GraphlineModel" ({ cls := "GraphlineModel", name := "order", desc := "(III)I" } : Jvm.MethodName) ({ cls := "GraphlineModel", name := "order", desc := "(III)I" } : Jvm.MethodName)) ∈ lw_all := lw_g (lw_at lw_m8 96 rfl) rfl
theorem q1794 : (Jvm.Cond.code ({ cls := "GraphlineModel", name := "order", desc := "(III)I" } : Jvm.MethodName) prog_15_method_47_code (4 : Nat) (Option.some Jvm.ClassFile.FieldType.int)) ∈ lw_all := lw_g (lw_at lw_m8 97 rfl) rfl
theorem q1795 : (Jvm.Cond.constantLong "GraphlineModel" (297 : Nat) (9999 : Int64)) ∈ lw_all := lw_g (lw_at lw_m8 98 rfl) rfl
theorem q1797 : (Jvm.Cond.instanceMethod ({ cls := "GraphlineModel", name := "ship", desc := "(II)I" } : Jvm.MethodName)) ∈ lw_all := lw_g (lw_at lw_m8 100 rfl) rfl
theorem q1798 : (Jvm.Cond.selects "GraphlineModel" ({ cls := "GraphlineModel", name := "ship", desc := "(II)I" } : Jvm.MethodName) ({ cls := "GraphlineModel", name := "ship", desc := "(II)I" } : Jvm.MethodName)) ∈ lw_all := lw_g (lw_at lw_m8 101 rfl) rfl
theorem q1799 : (Jvm.Cond.code ({ cls := "GraphlineModel", name := "ship", desc := "(II)I" } : Jvm.MethodName) prog_15_method_48_code (5 : Nat) (Option.some Jvm.ClassFile.FieldType.int)) ∈ lw_all := lw_g (lw_at lw_m8 102 rfl) rfl
theorem q1801 : (Jvm.Cond.instanceMethod ({ cls := "GraphlineModel", name := "isLate", desc := "(I)Z" } : Jvm.MethodName)) ∈ lw_all := lw_g (lw_at lw_m8 104 rfl) rfl
theorem q1802 : (Jvm.Cond.selects "GraphlineModel" ({ cls := "GraphlineModel", name := "isLate", desc := "(I)Z" } : Jvm.MethodName) ({ cls := "GraphlineModel", name := "isLate", desc := "(I)Z" } : Jvm.MethodName)) ∈ lw_all := lw_g (lw_at lw_m8 105 rfl) rfl
theorem q1803 : (Jvm.Cond.code ({ cls := "GraphlineModel", name := "isLate", desc := "(I)Z" } : Jvm.MethodName) prog_15_method_49_code (2 : Nat) (Option.some Jvm.ClassFile.FieldType.boolean)) ∈ lw_all := lw_g (lw_at lw_m8 106 rfl) rfl
theorem q1805 : (Jvm.Cond.instanceMethod ({ cls := "GraphlineModel", name := "claim", desc := "(I)Z" } : Jvm.MethodName)) ∈ lw_all := lw_g (lw_at lw_m8 108 rfl) rfl
theorem q1806 : (Jvm.Cond.selects "GraphlineModel" ({ cls := "GraphlineModel", name := "claim", desc := "(I)Z" } : Jvm.MethodName) ({ cls := "GraphlineModel", name := "claim", desc := "(I)Z" } : Jvm.MethodName)) ∈ lw_all := lw_g (lw_at lw_m8 109 rfl) rfl
theorem q1807 : (Jvm.Cond.code ({ cls := "GraphlineModel", name := "claim", desc := "(I)Z" } : Jvm.MethodName) prog_15_method_51_code (6 : Nat) (Option.some Jvm.ClassFile.FieldType.boolean)) ∈ lw_all := lw_g (lw_at lw_m8 110 rfl) rfl
theorem q1808 : (Jvm.Cond.methodLink "GraphlineModel" (299 : Nat) ({ cls := "GraphlineModel", name := "noGross", desc := "(I)Z" } : Jvm.MethodName)) ∈ lw_all := lw_g (lw_at lw_m8 111 rfl) rfl
theorem q1809 : (Jvm.Cond.privateMethod ({ cls := "GraphlineModel", name := "noGross", desc := "(I)Z" } : Jvm.MethodName)) ∈ lw_tbl := lw_at lw_m8 112 rfl
theorem q1810 : (Jvm.Cond.instanceMethod ({ cls := "GraphlineModel", name := "noGross", desc := "(I)Z" } : Jvm.MethodName)) ∈ lw_all := lw_g (lw_at lw_m8 113 rfl) rfl
theorem q1811 : (Jvm.Cond.code ({ cls := "GraphlineModel", name := "noGross", desc := "(I)Z" } : Jvm.MethodName) prog_15_method_50_code (2 : Nat) (Option.some Jvm.ClassFile.FieldType.boolean)) ∈ lw_all := lw_g (lw_at lw_m8 114 rfl) rfl
theorem q1812 : (Jvm.Cond.interfaceEntry "GraphlineModel" (302 : Nat)) ∈ lw_tbl := lw_at lw_m8 115 rfl
theorem q1813 : (Jvm.Cond.methodLink "GraphlineModel" (302 : Nat) ({ cls := "java/util/List", name := "iterator", desc := "()Ljava/util/Iterator;" } : Jvm.MethodName)) ∈ lw_all := lw_g (lw_at lw_m8 116 rfl) rfl
theorem q1814 : (Jvm.Cond.interfaceEntry "GraphlineModel" (306 : Nat)) ∈ lw_tbl := lw_at lw_m8 117 rfl
theorem q1815 : (Jvm.Cond.methodLink "GraphlineModel" (306 : Nat) ({ cls := "java/util/Iterator", name := "hasNext", desc := "()Z" } : Jvm.MethodName)) ∈ lw_all := lw_g (lw_at lw_m8 118 rfl) rfl
theorem q1816 : (Jvm.Cond.interfaceEntry "GraphlineModel" (312 : Nat)) ∈ lw_tbl := lw_at lw_m8 119 rfl
theorem q1817 : (Jvm.Cond.methodLink "GraphlineModel" (312 : Nat) ({ cls := "java/util/Iterator", name := "next", desc := "()Ljava/lang/Object;" } : Jvm.MethodName)) ∈ lw_all := lw_g (lw_at lw_m8 120 rfl) rfl
theorem q1819 : (Jvm.Cond.instanceMethod ({ cls := "GraphlineModel", name := "parts", desc := "(I)I" } : Jvm.MethodName)) ∈ lw_all := lw_g (lw_at lw_m8 122 rfl) rfl
theorem q1820 : (Jvm.Cond.selects "GraphlineModel" ({ cls := "GraphlineModel", name := "parts", desc := "(I)I" } : Jvm.MethodName) ({ cls := "GraphlineModel", name := "parts", desc := "(I)I" } : Jvm.MethodName)) ∈ lw_all := lw_g (lw_at lw_m8 123 rfl) rfl
theorem q1821 : (Jvm.Cond.code ({ cls := "GraphlineModel", name := "parts", desc := "(I)I" } : Jvm.MethodName) prog_15_method_52_code (2 : Nat) (Option.some Jvm.ClassFile.FieldType.int)) ∈ lw_all := lw_g (lw_at lw_m8 124 rfl) rfl
theorem q1823 : (Jvm.Cond.instanceMethod ({ cls := "GraphlineModel", name := "trace", desc := "(IIC)I" } : Jvm.MethodName)) ∈ lw_all := lw_g (lw_at lw_m8 126 rfl) rfl
theorem q1824 : (Jvm.Cond.selects "GraphlineModel" ({ cls := "GraphlineModel", name := "trace", desc := "(IIC)I" } : Jvm.MethodName) ({ cls := "GraphlineModel", name := "trace", desc := "(IIC)I" } : Jvm.MethodName)) ∈ lw_all := lw_g (lw_at lw_m8 127 rfl) rfl
theorem q1825 : (Jvm.Cond.code ({ cls := "GraphlineModel", name := "trace", desc := "(IIC)I" } : Jvm.MethodName) prog_15_method_53_code (8 : Nat) (Option.some Jvm.ClassFile.FieldType.int)) ∈ lw_all := lw_g (lw_at lw_m8 128 rfl) rfl
theorem q1826 : (Jvm.Cond.stringRef "GraphlineModel" (316 : Nat) "rnxbfkshgc") ∈ lw_tbl := lw_at lw_m8 129 rfl
theorem q1828 : (Jvm.Cond.instanceMethod ({ cls := "GraphlineModel", name := "missing", desc := "()I" } : Jvm.MethodName)) ∈ lw_all := lw_g (lw_at lw_m8 131 rfl) rfl
theorem q1829 : (Jvm.Cond.selects "GraphlineModel" ({ cls := "GraphlineModel", name := "missing", desc := "()I" } : Jvm.MethodName) ({ cls := "GraphlineModel", name := "missing", desc := "()I" } : Jvm.MethodName)) ∈ lw_all := lw_g (lw_at lw_m8 132 rfl) rfl
theorem q1830 : (Jvm.Cond.code ({ cls := "GraphlineModel", name := "missing", desc := "()I" } : Jvm.MethodName) prog_15_method_54_code (1 : Nat) (Option.some Jvm.ClassFile.FieldType.int)) ∈ lw_all := lw_g (lw_at lw_m8 133 rfl) rfl
theorem q1832 : (Jvm.Cond.instanceMethod ({ cls := "GraphlineModel", name := "checksum", desc := "()J" } : Jvm.MethodName)) ∈ lw_all := lw_g (lw_at lw_m8 135 rfl) rfl
theorem q1833 : (Jvm.Cond.selects "GraphlineModel" ({ cls := "GraphlineModel", name := "checksum", desc := "()J" } : Jvm.MethodName) ({ cls := "GraphlineModel", name := "checksum", desc := "()J" } : Jvm.MethodName)) ∈ lw_all := lw_g (lw_at lw_m8 136 rfl) rfl
theorem q1834 : (Jvm.Cond.code ({ cls := "GraphlineModel", name := "checksum", desc := "()J" } : Jvm.MethodName) prog_15_method_55_code (5 : Nat) (Option.some Jvm.ClassFile.FieldType.long)) ∈ lw_all := lw_g (lw_at lw_m8 137 rfl) rfl
theorem q1835 : (Jvm.Cond.constantLong "GraphlineModel" (318 : Nat) (7 : Int64)) ∈ lw_all := lw_g (lw_at lw_m8 138 rfl) rfl
theorem q1836 : (Jvm.Cond.constantLong "GraphlineModel" (320 : Nat) (31 : Int64)) ∈ lw_all := lw_g (lw_at lw_m8 139 rfl) rfl
theorem q1838 : (Jvm.Cond.instanceMethod ({ cls := "GraphlineModel", name := "brokenShare", desc := "()F" } : Jvm.MethodName)) ∈ lw_all := lw_g (lw_at lw_m8 141 rfl) rfl
theorem q1839 : (Jvm.Cond.selects "GraphlineModel" ({ cls := "GraphlineModel", name := "brokenShare", desc := "()F" } : Jvm.MethodName) ({ cls := "GraphlineModel", name := "brokenShare", desc := "()F" } : Jvm.MethodName)) ∈ lw_all := lw_g (lw_at lw_m8 142 rfl) rfl
theorem q1840 : (Jvm.Cond.code ({ cls := "GraphlineModel", name := "brokenShare", desc := "()F" } : Jvm.MethodName) prog_15_method_56_code (5 : Nat) (Option.some Jvm.ClassFile.FieldType.float)) ∈ lw_all := lw_g (lw_at lw_m8 143 rfl) rfl
theorem q1842 : (Jvm.Cond.instanceMethod ({ cls := "GraphlineModel", name := "meanDarkness", desc := "()D" } : Jvm.MethodName)) ∈ lw_all := lw_g (lw_at lw_m8 145 rfl) rfl
theorem q1843 : (Jvm.Cond.selects "GraphlineModel" ({ cls := "GraphlineModel", name := "meanDarkness", desc := "()D" } : Jvm.MethodName) ({ cls := "GraphlineModel", name := "meanDarkness", desc := "()D" } : Jvm.MethodName)) ∈ lw_all := lw_g (lw_at lw_m8 146 rfl) rfl
theorem q1844 : (Jvm.Cond.code ({ cls := "GraphlineModel", name := "meanDarkness", desc := "()D" } : Jvm.MethodName) prog_15_method_57_code (5 : Nat) (Option.some Jvm.ClassFile.FieldType.double)) ∈ lw_all := lw_g (lw_at lw_m8 147 rfl) rfl
theorem q1846 : (Jvm.Cond.instanceMethod ({ cls := "GraphlineModel", name := "isSound", desc := "()Z" } : Jvm.MethodName)) ∈ lw_all := lw_g (lw_at lw_m8 149 rfl) rfl
theorem q1847 : (Jvm.Cond.selects "GraphlineModel" ({ cls := "GraphlineModel", name := "isSound", desc := "()Z" } : Jvm.MethodName) ({ cls := "GraphlineModel", name := "isSound", desc := "()Z" } : Jvm.MethodName)) ∈ lw_all := lw_g (lw_at lw_m8 150 rfl) rfl
theorem q1848 : (Jvm.Cond.code ({ cls := "GraphlineModel", name := "isSound", desc := "()Z" } : Jvm.MethodName) prog_15_method_58_code (1 : Nat) (Option.some Jvm.ClassFile.FieldType.boolean)) ∈ lw_all := lw_g (lw_at lw_m8 151 rfl) rfl
theorem q1859 : (Jvm.Cond.castable "GraphlineModel" "java/lang/Object") ∈ lw_tbl := lw_at lw_m8 162 rfl
theorem in_X3 : ∀ w ∈ wsX30, w ∈ lw_all := lw_in wsX30 [1407, 1409, 1411, 1413, 1415, 1417, 1419, 1421, 1423, 1425, 1427, 1429, 1431, 1433, 1435, 1437, 1439, 1441] (by decide +kernel) (by decide +kernel)
