/-! Graphline -/
set_option maxRecDepth 100000
def RX1 : String := "Graphline"
def TX1 : u_T := fun k => match k with
  | 0 => ("Graphline", "now", "I", false)
  | 1 => ("Graphline", "isShaftOn", "Z", false)
  | 2 => ("Graphline", "drivers", "[I", true)
  | 3 => ("Graphline", "areOn", "[Z", true)
  | 4 => ("Graphline", "worn", "[I", true)
  | 5 => ("Graphline", "kilnReady", "[I", true)
  | 6 => ("Graphline", "z", "J", false)
  | 7 => ("Graphline", "lots", "Ljava/util/List;", true)
  | 8 => ("Graphline", "mixtures", "Ljava/util/List;", true)
  | 9 => ("Graphline", "batches", "Ljava/util/List;", true)
  | 10 => ("Graphline", "firings", "I", false)
  | 11 => ("Graphline", "wheel", "LGraphline$Wheel;", true)
  | 12 => ("Graphline", "slats", "Ljava/util/List;", true)
  | 13 => ("Graphline", "runs", "Ljava/util/List;", true)
  | 14 => ("Graphline", "laid", "I", false)
  | 15 => ("Graphline", "sampled", "I", false)
  | 16 => ("Graphline", "grosses", "Ljava/util/List;", true)
  | _ => ("Graphline", "orders", "Ljava/util/List;", true)
def tyX1 : Nat → FieldType := fun k => match k with
  | 0 => .int
  | 1 => .boolean
  | 2 => .array .int
  | 3 => .array .boolean
  | 4 => .array .int
  | 5 => .array .int
  | 6 => .long
  | 7 => .object "java/util/List"
  | 8 => .object "java/util/List"
  | 9 => .object "java/util/List"
  | 10 => .int
  | 11 => .object "Graphline$Wheel"
  | 12 => .object "java/util/List"
  | 13 => .object "java/util/List"
  | 14 => .int
  | 15 => .int
  | 16 => .object "java/util/List"
  | _ => .object "java/util/List"
abbrev wsX10 : List Cond := u_ws RX1 TX1 18
set_option maxRecDepth 100000 in
theorem nmX1 : ∀ a, a < 18 → ∀ b, b < 18 → a ≠ b → (TX1 a).2.1 ≠ (TX1 b).2.1 := by decide +kernel
set_option maxRecDepth 100000 in
theorem tyX1_ok : ∀ k, k < 18 → parseFieldDescriptor (TX1 k).2.2.1 = some (tyX1 k) := by decide +kernel
abbrev cX1_init : ByteArray := prog_1_method_8_code
def yX1_init : MethodName := ⟨RX1, "<init>", "()V"⟩
def dkwX1_init_0 : List UInt8 := [42, 18, 36, 182, 0, 38, 183, 0, 43, 177]
abbrev dktX1_init_0 : List UInt8 := dkwX1_init_0 ++ []
theorem dksX1_init_0 : cX1_init.data.toList.drop 0 = dktX1_init_0 := by decide +kernel
theorem dX1_init_0 : decode cX1_init 0 = .ok (.aload_n 0, 1) := dk_42 (dk_at dksX1_init_0 0 rfl rfl)
theorem dX1_init_1 : decode cX1_init 1 = .ok (.ldc 36, 2) := dk_18 36 (dk_at dksX1_init_0 1 rfl rfl)
theorem dX1_init_3 : decode cX1_init 3 = .ok (.invokevirtual 38, 3) := dk_182 0 38 (dk_at dksX1_init_0 3 rfl rfl)
theorem dX1_init_6 : decode cX1_init 6 = .ok (.invokespecial 43, 3) := dk_183 0 43 (dk_at dksX1_init_0 6 rfl rfl)
theorem dX1_init_9 : decode cX1_init 9 = .ok (.return_, 1) := dk_177 (dk_at dksX1_init_0 9 rfl rfl)
abbrev cX1_init_2 : ByteArray := prog_1_method_9_code
def yX1_init_2 : MethodName := ⟨RX1, "<init>", "(I)V"⟩
def dkwX1_init_2_6 : List UInt8 := [184, 0, 105, 42, 180, 0, 101, 4, 184, 0, 111, 177]
abbrev dktX1_init_2_6 : List UInt8 := dkwX1_init_2_6 ++ []
def dkwX1_init_2_5 : List UInt8 := [181, 0, 95, 42, 27, 188, 10, 181, 0, 98, 42, 27, 188, 4, 181, 0, 101, 42, 180, 0, 98, 2]
abbrev dktX1_init_2_5 : List UInt8 := dkwX1_init_2_5 ++ dktX1_init_2_6
def dkwX1_init_2_4 : List UInt8 := [181, 0, 89, 42, 187, 0, 64, 89, 183, 0, 66, 181, 0, 92, 42, 187, 0, 64, 89, 183, 0, 66]
abbrev dktX1_init_2_4 : List UInt8 := dkwX1_init_2_4 ++ dktX1_init_2_5
def dkwX1_init_2_3 : List UInt8 := [181, 0, 82, 42, 187, 0, 64, 89, 183, 0, 66, 181, 0, 86, 42, 187, 0, 64, 89, 183, 0, 66]
abbrev dktX1_init_2_3 : List UInt8 := dkwX1_init_2_3 ++ dktX1_init_2_4
def dkwX1_init_2_2 : List UInt8 := [181, 0, 71, 42, 187, 0, 64, 89, 183, 0, 66, 181, 0, 74, 42, 187, 0, 77, 89, 42, 183, 0, 79]
abbrev dktX1_init_2_2 : List UInt8 := dkwX1_init_2_2 ++ dktX1_init_2_3
def dkwX1_init_2_1 : List UInt8 := [10, 181, 0, 60, 42, 187, 0, 64, 89, 183, 0, 66, 181, 0, 67, 42, 187, 0, 64, 89, 183, 0, 66]
abbrev dktX1_init_2_1 : List UInt8 := dkwX1_init_2_1 ++ dktX1_init_2_2
def dkwX1_init_2_0 : List UInt8 := [42, 183, 0, 46, 42, 4, 181, 0, 49, 42, 7, 188, 10, 181, 0, 53, 42, 5, 188, 10, 181, 0, 57, 42]
abbrev dktX1_init_2_0 : List UInt8 := dkwX1_init_2_0 ++ dktX1_init_2_1
theorem dksX1_init_2_0 : cX1_init_2.data.toList.drop 0 = dktX1_init_2_0 := by decide +kernel
theorem dksX1_init_2_1 : cX1_init_2.data.toList.drop 24 = dktX1_init_2_1 := dk_seg dksX1_init_2_0 24 rfl rfl
theorem dksX1_init_2_2 : cX1_init_2.data.toList.drop 47 = dktX1_init_2_2 := dk_seg dksX1_init_2_1 23 rfl rfl
theorem dksX1_init_2_3 : cX1_init_2.data.toList.drop 70 = dktX1_init_2_3 := dk_seg dksX1_init_2_2 23 rfl rfl
theorem dksX1_init_2_4 : cX1_init_2.data.toList.drop 92 = dktX1_init_2_4 := dk_seg dksX1_init_2_3 22 rfl rfl
theorem dksX1_init_2_5 : cX1_init_2.data.toList.drop 114 = dktX1_init_2_5 := dk_seg dksX1_init_2_4 22 rfl rfl
theorem dksX1_init_2_6 : cX1_init_2.data.toList.drop 136 = dktX1_init_2_6 := dk_seg dksX1_init_2_5 22 rfl rfl
theorem dX1_init_2_0 : decode cX1_init_2 0 = .ok (.aload_n 0, 1) := dk_42 (dk_at dksX1_init_2_0 0 rfl rfl)
theorem dX1_init_2_1 : decode cX1_init_2 1 = .ok (.invokespecial 46, 3) := dk_183 0 46 (dk_at dksX1_init_2_0 1 rfl rfl)
theorem dX1_init_2_4 : decode cX1_init_2 4 = .ok (.aload_n 0, 1) := dk_42 (dk_at dksX1_init_2_0 4 rfl rfl)
theorem dX1_init_2_5 : decode cX1_init_2 5 = .ok (.iconst 1, 1) := dk_4 (dk_at dksX1_init_2_0 5 rfl rfl)
theorem dX1_init_2_6 : decode cX1_init_2 6 = .ok (.putfield 49, 3) := dk_181 0 49 (dk_at dksX1_init_2_0 6 rfl rfl)
theorem dX1_init_2_9 : decode cX1_init_2 9 = .ok (.aload_n 0, 1) := dk_42 (dk_at dksX1_init_2_0 9 rfl rfl)
theorem dX1_init_2_10 : decode cX1_init_2 10 = .ok (.iconst 4, 1) := dk_7 (dk_at dksX1_init_2_0 10 rfl rfl)
theorem dX1_init_2_11 : decode cX1_init_2 11 = .ok (.newarray .int, 2) := dk_188_10 (dk_at dksX1_init_2_0 11 rfl rfl)
theorem dX1_init_2_13 : decode cX1_init_2 13 = .ok (.putfield 53, 3) := dk_181 0 53 (dk_at dksX1_init_2_0 13 rfl rfl)
theorem dX1_init_2_16 : decode cX1_init_2 16 = .ok (.aload_n 0, 1) := dk_42 (dk_at dksX1_init_2_0 16 rfl rfl)
theorem dX1_init_2_17 : decode cX1_init_2 17 = .ok (.iconst 2, 1) := dk_5 (dk_at dksX1_init_2_0 17 rfl rfl)
theorem dX1_init_2_18 : decode cX1_init_2 18 = .ok (.newarray .int, 2) := dk_188_10 (dk_at dksX1_init_2_0 18 rfl rfl)
theorem dX1_init_2_20 : decode cX1_init_2 20 = .ok (.putfield 57, 3) := dk_181 0 57 (dk_at dksX1_init_2_0 20 rfl rfl)
theorem dX1_init_2_23 : decode cX1_init_2 23 = .ok (.aload_n 0, 1) := dk_42 (dk_at dksX1_init_2_0 23 rfl rfl)
theorem dX1_init_2_24 : decode cX1_init_2 24 = .ok (.lconst 1, 1) := dk_10 (dk_at dksX1_init_2_1 0 rfl rfl)
theorem dX1_init_2_25 : decode cX1_init_2 25 = .ok (.putfield 60, 3) := dk_181 0 60 (dk_at dksX1_init_2_1 1 rfl rfl)
theorem dX1_init_2_28 : decode cX1_init_2 28 = .ok (.aload_n 0, 1) := dk_42 (dk_at dksX1_init_2_1 4 rfl rfl)
theorem dX1_init_2_29 : decode cX1_init_2 29 = .ok (.new 64, 3) := dk_187 0 64 (dk_at dksX1_init_2_1 5 rfl rfl)
theorem dX1_init_2_32 : decode cX1_init_2 32 = .ok (.dup, 1) := dk_89 (dk_at dksX1_init_2_1 8 rfl rfl)
theorem dX1_init_2_33 : decode cX1_init_2 33 = .ok (.invokespecial 66, 3) := dk_183 0 66 (dk_at dksX1_init_2_1 9 rfl rfl)
theorem dX1_init_2_36 : decode cX1_init_2 36 = .ok (.putfield 67, 3) := dk_181 0 67 (dk_at dksX1_init_2_1 12 rfl rfl)
theorem dX1_init_2_39 : decode cX1_init_2 39 = .ok (.aload_n 0, 1) := dk_42 (dk_at dksX1_init_2_1 15 rfl rfl)
theorem dX1_init_2_40 : decode cX1_init_2 40 = .ok (.new 64, 3) := dk_187 0 64 (dk_at dksX1_init_2_1 16 rfl rfl)
theorem dX1_init_2_43 : decode cX1_init_2 43 = .ok (.dup, 1) := dk_89 (dk_at dksX1_init_2_1 19 rfl rfl)
theorem dX1_init_2_44 : decode cX1_init_2 44 = .ok (.invokespecial 66, 3) := dk_183 0 66 (dk_at dksX1_init_2_1 20 rfl rfl)
theorem dX1_init_2_47 : decode cX1_init_2 47 = .ok (.putfield 71, 3) := dk_181 0 71 (dk_at dksX1_init_2_2 0 rfl rfl)
theorem dX1_init_2_50 : decode cX1_init_2 50 = .ok (.aload_n 0, 1) := dk_42 (dk_at dksX1_init_2_2 3 rfl rfl)
theorem dX1_init_2_51 : decode cX1_init_2 51 = .ok (.new 64, 3) := dk_187 0 64 (dk_at dksX1_init_2_2 4 rfl rfl)
theorem dX1_init_2_54 : decode cX1_init_2 54 = .ok (.dup, 1) := dk_89 (dk_at dksX1_init_2_2 7 rfl rfl)
theorem dX1_init_2_55 : decode cX1_init_2 55 = .ok (.invokespecial 66, 3) := dk_183 0 66 (dk_at dksX1_init_2_2 8 rfl rfl)
theorem dX1_init_2_58 : decode cX1_init_2 58 = .ok (.putfield 74, 3) := dk_181 0 74 (dk_at dksX1_init_2_2 11 rfl rfl)
theorem dX1_init_2_61 : decode cX1_init_2 61 = .ok (.aload_n 0, 1) := dk_42 (dk_at dksX1_init_2_2 14 rfl rfl)
theorem dX1_init_2_62 : decode cX1_init_2 62 = .ok (.new 77, 3) := dk_187 0 77 (dk_at dksX1_init_2_2 15 rfl rfl)
theorem dX1_init_2_65 : decode cX1_init_2 65 = .ok (.dup, 1) := dk_89 (dk_at dksX1_init_2_2 18 rfl rfl)
theorem dX1_init_2_66 : decode cX1_init_2 66 = .ok (.aload_n 0, 1) := dk_42 (dk_at dksX1_init_2_2 19 rfl rfl)
theorem dX1_init_2_67 : decode cX1_init_2 67 = .ok (.invokespecial 79, 3) := dk_183 0 79 (dk_at dksX1_init_2_2 20 rfl rfl)
theorem dX1_init_2_70 : decode cX1_init_2 70 = .ok (.putfield 82, 3) := dk_181 0 82 (dk_at dksX1_init_2_3 0 rfl rfl)
theorem dX1_init_2_73 : decode cX1_init_2 73 = .ok (.aload_n 0, 1) := dk_42 (dk_at dksX1_init_2_3 3 rfl rfl)
theorem dX1_init_2_74 : decode cX1_init_2 74 = .ok (.new 64, 3) := dk_187 0 64 (dk_at dksX1_init_2_3 4 rfl rfl)
theorem dX1_init_2_77 : decode cX1_init_2 77 = .ok (.dup, 1) := dk_89 (dk_at dksX1_init_2_3 7 rfl rfl)
theorem dX1_init_2_78 : decode cX1_init_2 78 = .ok (.invokespecial 66, 3) := dk_183 0 66 (dk_at dksX1_init_2_3 8 rfl rfl)
theorem dX1_init_2_81 : decode cX1_init_2 81 = .ok (.putfield 86, 3) := dk_181 0 86 (dk_at dksX1_init_2_3 11 rfl rfl)
theorem dX1_init_2_84 : decode cX1_init_2 84 = .ok (.aload_n 0, 1) := dk_42 (dk_at dksX1_init_2_3 14 rfl rfl)
theorem dX1_init_2_85 : decode cX1_init_2 85 = .ok (.new 64, 3) := dk_187 0 64 (dk_at dksX1_init_2_3 15 rfl rfl)
theorem dX1_init_2_88 : decode cX1_init_2 88 = .ok (.dup, 1) := dk_89 (dk_at dksX1_init_2_3 18 rfl rfl)
theorem dX1_init_2_89 : decode cX1_init_2 89 = .ok (.invokespecial 66, 3) := dk_183 0 66 (dk_at dksX1_init_2_3 19 rfl rfl)
theorem dX1_init_2_92 : decode cX1_init_2 92 = .ok (.putfield 89, 3) := dk_181 0 89 (dk_at dksX1_init_2_4 0 rfl rfl)
theorem dX1_init_2_95 : decode cX1_init_2 95 = .ok (.aload_n 0, 1) := dk_42 (dk_at dksX1_init_2_4 3 rfl rfl)
theorem dX1_init_2_96 : decode cX1_init_2 96 = .ok (.new 64, 3) := dk_187 0 64 (dk_at dksX1_init_2_4 4 rfl rfl)
theorem dX1_init_2_99 : decode cX1_init_2 99 = .ok (.dup, 1) := dk_89 (dk_at dksX1_init_2_4 7 rfl rfl)
theorem dX1_init_2_100 : decode cX1_init_2 100 = .ok (.invokespecial 66, 3) := dk_183 0 66 (dk_at dksX1_init_2_4 8 rfl rfl)
theorem dX1_init_2_103 : decode cX1_init_2 103 = .ok (.putfield 92, 3) := dk_181 0 92 (dk_at dksX1_init_2_4 11 rfl rfl)
theorem dX1_init_2_106 : decode cX1_init_2 106 = .ok (.aload_n 0, 1) := dk_42 (dk_at dksX1_init_2_4 14 rfl rfl)
theorem dX1_init_2_107 : decode cX1_init_2 107 = .ok (.new 64, 3) := dk_187 0 64 (dk_at dksX1_init_2_4 15 rfl rfl)
theorem dX1_init_2_110 : decode cX1_init_2 110 = .ok (.dup, 1) := dk_89 (dk_at dksX1_init_2_4 18 rfl rfl)
theorem dX1_init_2_111 : decode cX1_init_2 111 = .ok (.invokespecial 66, 3) := dk_183 0 66 (dk_at dksX1_init_2_4 19 rfl rfl)
theorem dX1_init_2_114 : decode cX1_init_2 114 = .ok (.putfield 95, 3) := dk_181 0 95 (dk_at dksX1_init_2_5 0 rfl rfl)
theorem dX1_init_2_117 : decode cX1_init_2 117 = .ok (.aload_n 0, 1) := dk_42 (dk_at dksX1_init_2_5 3 rfl rfl)
theorem dX1_init_2_118 : decode cX1_init_2 118 = .ok (.iload_n 1, 1) := dk_27 (dk_at dksX1_init_2_5 4 rfl rfl)
theorem dX1_init_2_119 : decode cX1_init_2 119 = .ok (.newarray .int, 2) := dk_188_10 (dk_at dksX1_init_2_5 5 rfl rfl)
theorem dX1_init_2_121 : decode cX1_init_2 121 = .ok (.putfield 98, 3) := dk_181 0 98 (dk_at dksX1_init_2_5 7 rfl rfl)
theorem dX1_init_2_124 : decode cX1_init_2 124 = .ok (.aload_n 0, 1) := dk_42 (dk_at dksX1_init_2_5 10 rfl rfl)
theorem dX1_init_2_125 : decode cX1_init_2 125 = .ok (.iload_n 1, 1) := dk_27 (dk_at dksX1_init_2_5 11 rfl rfl)
theorem dX1_init_2_126 : decode cX1_init_2 126 = .ok (.newarray .boolean, 2) := dk_188_4 (dk_at dksX1_init_2_5 12 rfl rfl)
theorem dX1_init_2_128 : decode cX1_init_2 128 = .ok (.putfield 101, 3) := dk_181 0 101 (dk_at dksX1_init_2_5 14 rfl rfl)
theorem dX1_init_2_131 : decode cX1_init_2 131 = .ok (.aload_n 0, 1) := dk_42 (dk_at dksX1_init_2_5 17 rfl rfl)
theorem dX1_init_2_132 : decode cX1_init_2 132 = .ok (.getfield 98, 3) := dk_180 0 98 (dk_at dksX1_init_2_5 18 rfl rfl)
theorem dX1_init_2_135 : decode cX1_init_2 135 = .ok (.iconst (-1), 1) := dk_2 (dk_at dksX1_init_2_5 21 rfl rfl)
theorem dX1_init_2_136 : decode cX1_init_2 136 = .ok (.invokestatic 105, 3) := dk_184 0 105 (dk_at dksX1_init_2_6 0 rfl rfl)
theorem dX1_init_2_139 : decode cX1_init_2 139 = .ok (.aload_n 0, 1) := dk_42 (dk_at dksX1_init_2_6 3 rfl rfl)
theorem dX1_init_2_140 : decode cX1_init_2 140 = .ok (.getfield 101, 3) := dk_180 0 101 (dk_at dksX1_init_2_6 4 rfl rfl)
theorem dX1_init_2_143 : decode cX1_init_2 143 = .ok (.iconst 1, 1) := dk_4 (dk_at dksX1_init_2_6 7 rfl rfl)
theorem dX1_init_2_144 : decode cX1_init_2 144 = .ok (.invokestatic 111, 3) := dk_184 0 111 (dk_at dksX1_init_2_6 8 rfl rfl)
theorem dX1_init_2_147 : decode cX1_init_2 147 = .ok (.return_, 1) := dk_177 (dk_at dksX1_init_2_6 11 rfl rfl)
abbrev cX1_shaft : ByteArray := prog_1_method_11_code
def yX1_shaft : MethodName := ⟨RX1, "shaft", "(Z)Z"⟩
def dkwX1_shaft_0 : List UInt8 := [42, 180, 0, 49, 61, 42, 27, 181, 0, 49, 28, 172]
abbrev dktX1_shaft_0 : List UInt8 := dkwX1_shaft_0 ++ []
theorem dksX1_shaft_0 : cX1_shaft.data.toList.drop 0 = dktX1_shaft_0 := by decide +kernel
theorem dX1_shaft_0 : decode cX1_shaft 0 = .ok (.aload_n 0, 1) := dk_42 (dk_at dksX1_shaft_0 0 rfl rfl)
theorem dX1_shaft_1 : decode cX1_shaft 1 = .ok (.getfield 49, 3) := dk_180 0 49 (dk_at dksX1_shaft_0 1 rfl rfl)
theorem dX1_shaft_4 : decode cX1_shaft 4 = .ok (.istore_n 2, 1) := dk_61 (dk_at dksX1_shaft_0 4 rfl rfl)
theorem dX1_shaft_5 : decode cX1_shaft 5 = .ok (.aload_n 0, 1) := dk_42 (dk_at dksX1_shaft_0 5 rfl rfl)
theorem dX1_shaft_6 : decode cX1_shaft 6 = .ok (.iload_n 1, 1) := dk_27 (dk_at dksX1_shaft_0 6 rfl rfl)
theorem dX1_shaft_7 : decode cX1_shaft 7 = .ok (.putfield 49, 3) := dk_181 0 49 (dk_at dksX1_shaft_0 7 rfl rfl)
theorem dX1_shaft_10 : decode cX1_shaft 10 = .ok (.iload_n 2, 1) := dk_28 (dk_at dksX1_shaft_0 10 rfl rfl)
theorem dX1_shaft_11 : decode cX1_shaft 11 = .ok (.ireturn, 1) := dk_172 (dk_at dksX1_shaft_0 11 rfl rfl)
abbrev cX1_check : ByteArray := prog_1_method_30_code
def yX1_check : MethodName := ⟨RX1, "check", "()I"⟩
def dkwX1_check_0 : List UInt8 := [42, 180, 0, 82, 182, 1, 2, 172]
abbrev dktX1_check_0 : List UInt8 := dkwX1_check_0 ++ []
theorem dksX1_check_0 : cX1_check.data.toList.drop 0 = dktX1_check_0 := by decide +kernel
theorem dX1_check_0 : decode cX1_check 0 = .ok (.aload_n 0, 1) := dk_42 (dk_at dksX1_check_0 0 rfl rfl)
theorem dX1_check_1 : decode cX1_check 1 = .ok (.getfield 82, 3) := dk_180 0 82 (dk_at dksX1_check_0 1 rfl rfl)
theorem dX1_check_4 : decode cX1_check 4 = .ok (.invokevirtual 258, 3) := dk_182 1 2 (dk_at dksX1_check_0 4 rfl rfl)
theorem dX1_check_7 : decode cX1_check 7 = .ok (.ireturn, 1) := dk_172 (dk_at dksX1_check_0 7 rfl rfl)
abbrev cX1_missing : ByteArray := prog_1_method_51_code
def yX1_missing : MethodName := ⟨RX1, "missing", "()I"⟩
def dkwX1_missing_1 : List UInt8 := [186, 1, 159, 0, 0, 184, 1, 155, 100, 42, 180, 1, 77, 100, 172]
abbrev dktX1_missing_1 : List UInt8 := dkwX1_missing_1 ++ []
def dkwX1_missing_0 : List UInt8 := [42, 180, 1, 33, 42, 180, 0, 89, 186, 1, 151, 0, 0, 184, 1, 155, 100, 42, 180, 0, 92]
abbrev dktX1_missing_0 : List UInt8 := dkwX1_missing_0 ++ dktX1_missing_1
theorem dksX1_missing_0 : cX1_missing.data.toList.drop 0 = dktX1_missing_0 := by decide +kernel
theorem dksX1_missing_1 : cX1_missing.data.toList.drop 21 = dktX1_missing_1 := dk_seg dksX1_missing_0 21 rfl rfl
theorem dX1_missing_0 : decode cX1_missing 0 = .ok (.aload_n 0, 1) := dk_42 (dk_at dksX1_missing_0 0 rfl rfl)
theorem dX1_missing_1 : decode cX1_missing 1 = .ok (.getfield 289, 3) := dk_180 1 33 (dk_at dksX1_missing_0 1 rfl rfl)
theorem dX1_missing_4 : decode cX1_missing 4 = .ok (.aload_n 0, 1) := dk_42 (dk_at dksX1_missing_0 4 rfl rfl)
theorem dX1_missing_5 : decode cX1_missing 5 = .ok (.getfield 89, 3) := dk_180 0 89 (dk_at dksX1_missing_0 5 rfl rfl)
theorem dX1_missing_8 : decode cX1_missing 8 = .ok (.invokedynamic 407, 5) := by decide +kernel
theorem dX1_missing_13 : decode cX1_missing 13 = .ok (.invokestatic 411, 3) := dk_184 1 155 (dk_at dksX1_missing_0 13 rfl rfl)
theorem dX1_missing_16 : decode cX1_missing 16 = .ok (.isub, 1) := dk_100 (dk_at dksX1_missing_0 16 rfl rfl)
theorem dX1_missing_17 : decode cX1_missing 17 = .ok (.aload_n 0, 1) := dk_42 (dk_at dksX1_missing_0 17 rfl rfl)
theorem dX1_missing_18 : decode cX1_missing 18 = .ok (.getfield 92, 3) := dk_180 0 92 (dk_at dksX1_missing_0 18 rfl rfl)
theorem dX1_missing_21 : decode cX1_missing 21 = .ok (.invokedynamic 415, 5) := by decide +kernel
theorem dX1_missing_26 : decode cX1_missing 26 = .ok (.invokestatic 411, 3) := dk_184 1 155 (dk_at dksX1_missing_1 5 rfl rfl)
theorem dX1_missing_29 : decode cX1_missing 29 = .ok (.isub, 1) := dk_100 (dk_at dksX1_missing_1 8 rfl rfl)
theorem dX1_missing_30 : decode cX1_missing 30 = .ok (.aload_n 0, 1) := dk_42 (dk_at dksX1_missing_1 9 rfl rfl)
theorem dX1_missing_31 : decode cX1_missing 31 = .ok (.getfield 333, 3) := dk_180 1 77 (dk_at dksX1_missing_1 10 rfl rfl)
theorem dX1_missing_34 : decode cX1_missing 34 = .ok (.isub, 1) := dk_100 (dk_at dksX1_missing_1 13 rfl rfl)
theorem dX1_missing_35 : decode cX1_missing 35 = .ok (.ireturn, 1) := dk_172 (dk_at dksX1_missing_1 14 rfl rfl)
abbrev cX1_lambda_missing_1 : ByteArray := prog_1_method_67_code
def yX1_lambda_missing_1 : MethodName := ⟨RX1, "lambda$missing$1", "(LGraphline$Run;)I"⟩
theorem dX1_lambda_missing_1_0 : decode cX1_lambda_missing_1 0 = .ok (.aload_n 0, 1) := by decide +kernel
theorem dX1_lambda_missing_1_1 : decode cX1_lambda_missing_1 1 = .ok (.getfield 315, 3) := by decide +kernel
theorem dX1_lambda_missing_1_4 : decode cX1_lambda_missing_1 4 = .ok (.ireturn, 1) := by decide +kernel
abbrev cX1_sum : ByteArray := prog_1_method_7_code
def yX1_sum : MethodName := ⟨RX1, "sum", "(Ljava/util/List;Ljava/util/function/ToIntFunction;)I"⟩
def dkwX1_sum_0 : List UInt8 := [42, 43, 184, 0, 32, 172]
abbrev dktX1_sum_0 : List UInt8 := dkwX1_sum_0 ++ []
theorem dksX1_sum_0 : cX1_sum.data.toList.drop 0 = dktX1_sum_0 := by decide +kernel
theorem dX1_sum_0 : decode cX1_sum 0 = .ok (.aload_n 0, 1) := dk_42 (dk_at dksX1_sum_0 0 rfl rfl)
theorem dX1_sum_1 : decode cX1_sum 1 = .ok (.aload_n 1, 1) := dk_43 (dk_at dksX1_sum_0 1 rfl rfl)
theorem dX1_sum_2 : decode cX1_sum 2 = .ok (.invokestatic 32, 3) := dk_184 0 32 (dk_at dksX1_sum_0 2 rfl rfl)
theorem dX1_sum_5 : decode cX1_sum 5 = .ok (.ireturn, 1) := dk_172 (dk_at dksX1_sum_0 5 rfl rfl)
abbrev cX1_sumOf : ByteArray := prog_1_method_59_code
def yX1_sumOf : MethodName := ⟨RX1, "sumOf", "(Ljava/lang/Iterable;Ljava/util/function/ToIntFunction;)I"⟩
def dkwX1_sumOf_1 : List UInt8 := [58, 4, 28, 43, 25, 4, 185, 1, 208, 2, 0, 96, 61, 167, 255, 228, 28, 172]
abbrev dktX1_sumOf_1 : List UInt8 := dkwX1_sumOf_1 ++ []
def dkwX1_sumOf_0 : List UInt8 := [3, 61, 42, 185, 1, 201, 1, 0, 78, 45, 185, 1, 166, 1, 0, 153, 0, 25, 45, 185, 1, 171, 1, 0]
abbrev dktX1_sumOf_0 : List UInt8 := dkwX1_sumOf_0 ++ dktX1_sumOf_1
theorem dksX1_sumOf_0 : cX1_sumOf.data.toList.drop 0 = dktX1_sumOf_0 := by decide +kernel
theorem dksX1_sumOf_1 : cX1_sumOf.data.toList.drop 24 = dktX1_sumOf_1 := dk_seg dksX1_sumOf_0 24 rfl rfl
theorem dX1_sumOf_0 : decode cX1_sumOf 0 = .ok (.iconst 0, 1) := dk_3 (dk_at dksX1_sumOf_0 0 rfl rfl)
theorem dX1_sumOf_1 : decode cX1_sumOf 1 = .ok (.istore_n 2, 1) := dk_61 (dk_at dksX1_sumOf_0 1 rfl rfl)
theorem dX1_sumOf_2 : decode cX1_sumOf 2 = .ok (.aload_n 0, 1) := dk_42 (dk_at dksX1_sumOf_0 2 rfl rfl)
theorem dX1_sumOf_3 : decode cX1_sumOf 3 = .ok (.invokeinterface 457 1, 5) := by decide +kernel
theorem dX1_sumOf_8 : decode cX1_sumOf 8 = .ok (.astore_n 3, 1) := dk_78 (dk_at dksX1_sumOf_0 8 rfl rfl)
theorem dX1_sumOf_9 : decode cX1_sumOf 9 = .ok (.aload_n 3, 1) := dk_45 (dk_at dksX1_sumOf_0 9 rfl rfl)
theorem dX1_sumOf_10 : decode cX1_sumOf 10 = .ok (.invokeinterface 422 1, 5) := by decide +kernel
theorem dX1_sumOf_15 : decode cX1_sumOf 15 = .ok (.ifCond .eq 25, 3) := dk_153 0 25 (dk_at dksX1_sumOf_0 15 rfl rfl)
theorem dX1_sumOf_18 : decode cX1_sumOf 18 = .ok (.aload_n 3, 1) := dk_45 (dk_at dksX1_sumOf_0 18 rfl rfl)
theorem dX1_sumOf_19 : decode cX1_sumOf 19 = .ok (.invokeinterface 427 1, 5) := by decide +kernel
theorem dX1_sumOf_24 : decode cX1_sumOf 24 = .ok (.astore 4, 2) := dk_58 4 (dk_at dksX1_sumOf_1 0 rfl rfl)
theorem dX1_sumOf_26 : decode cX1_sumOf 26 = .ok (.iload_n 2, 1) := dk_28 (dk_at dksX1_sumOf_1 2 rfl rfl)
theorem dX1_sumOf_27 : decode cX1_sumOf 27 = .ok (.aload_n 1, 1) := dk_43 (dk_at dksX1_sumOf_1 3 rfl rfl)
theorem dX1_sumOf_28 : decode cX1_sumOf 28 = .ok (.aload 4, 2) := dk_25 4 (dk_at dksX1_sumOf_1 4 rfl rfl)
theorem dX1_sumOf_30 : decode cX1_sumOf 30 = .ok (.invokeinterface 464 2, 5) := by decide +kernel
theorem dX1_sumOf_35 : decode cX1_sumOf 35 = .ok (.iadd, 1) := dk_96 (dk_at dksX1_sumOf_1 11 rfl rfl)
theorem dX1_sumOf_36 : decode cX1_sumOf 36 = .ok (.istore_n 2, 1) := dk_61 (dk_at dksX1_sumOf_1 12 rfl rfl)
theorem dX1_sumOf_37 : decode cX1_sumOf 37 = .ok (.goto (-28), 3) := dk_167 255 228 (dk_at dksX1_sumOf_1 13 rfl rfl)
theorem dX1_sumOf_40 : decode cX1_sumOf 40 = .ok (.iload_n 2, 1) := dk_28 (dk_at dksX1_sumOf_1 16 rfl rfl)
theorem dX1_sumOf_41 : decode cX1_sumOf 41 = .ok (.ireturn, 1) := dk_172 (dk_at dksX1_sumOf_1 17 rfl rfl)
abbrev cX1_lambda_missing_2 : ByteArray := prog_1_method_66_code
def yX1_lambda_missing_2 : MethodName := ⟨RX1, "lambda$missing$2", "(LGraphline$Gross;)I"⟩
theorem dX1_lambda_missing_2_0 : decode cX1_lambda_missing_2 0 = .ok (.aload_n 0, 1) := by decide +kernel
theorem dX1_lambda_missing_2_1 : decode cX1_lambda_missing_2 1 = .ok (.invokevirtual 343, 3) := by decide +kernel
theorem dX1_lambda_missing_2_4 : decode cX1_lambda_missing_2 4 = .ok (.ireturn, 1) := by decide +kernel
abbrev cX1_checksum : ByteArray := prog_1_method_52_code
def yX1_checksum : MethodName := ⟨RX1, "checksum", "()J"⟩
def dkwX1_checksum_7 : List UInt8 := [25, 4, 182, 1, 87, 133, 97, 64, 167, 255, 223, 31, 173]
abbrev dktX1_checksum_7 : List UInt8 := dkwX1_checksum_7 ++ []
def dkwX1_checksum_6 : List UInt8 := [185, 1, 166, 1, 0, 153, 0, 30, 45, 185, 1, 171, 1, 0, 192, 1, 81, 58, 4, 20, 1, 175, 31, 105]
abbrev dktX1_checksum_6 : List UInt8 := dkwX1_checksum_6 ++ dktX1_checksum_7
def dkwX1_checksum_5 : List UInt8 := [97, 105, 25, 4, 180, 1, 64, 133, 97, 64, 167, 255, 212, 42, 180, 0, 92, 185, 1, 162, 1, 0, 78, 45]
abbrev dktX1_checksum_5 : List UInt8 := dkwX1_checksum_5 ++ dktX1_checksum_6
def dkwX1_checksum_4 : List UInt8 := [185, 1, 171, 1, 0, 192, 1, 28, 58, 4, 20, 1, 175, 20, 1, 175, 31, 105, 25, 4, 180, 1, 59, 133]
abbrev dktX1_checksum_4 : List UInt8 := dkwX1_checksum_4 ++ dktX1_checksum_5
def dkwX1_checksum_3 : List UInt8 := [167, 255, 201, 42, 180, 0, 89, 185, 1, 162, 1, 0, 78, 45, 185, 1, 166, 1, 0, 153, 0, 41, 45]
abbrev dktX1_checksum_3 : List UInt8 := dkwX1_checksum_3 ++ dktX1_checksum_4
def dkwX1_checksum_2 : List UInt8 := [180, 0, 204, 133, 97, 105, 25, 4, 180, 0, 234, 133, 97, 105, 25, 4, 180, 0, 222, 133, 97, 64]
abbrev dktX1_checksum_2 : List UInt8 := dkwX1_checksum_2 ++ dktX1_checksum_3
def dkwX1_checksum_1 : List UInt8 := [185, 1, 171, 1, 0, 192, 0, 193, 58, 4, 20, 1, 175, 20, 1, 175, 20, 1, 175, 31, 105, 25, 4]
abbrev dktX1_checksum_1 : List UInt8 := dkwX1_checksum_1 ++ dktX1_checksum_2
def dkwX1_checksum_0 : List UInt8 := [20, 1, 160, 64, 42, 180, 0, 74, 185, 1, 162, 1, 0, 78, 45, 185, 1, 166, 1, 0, 153, 0, 52, 45]
abbrev dktX1_checksum_0 : List UInt8 := dkwX1_checksum_0 ++ dktX1_checksum_1
theorem dksX1_checksum_0 : cX1_checksum.data.toList.drop 0 = dktX1_checksum_0 := by decide +kernel
theorem dksX1_checksum_1 : cX1_checksum.data.toList.drop 24 = dktX1_checksum_1 := dk_seg dksX1_checksum_0 24 rfl rfl
theorem dksX1_checksum_2 : cX1_checksum.data.toList.drop 47 = dktX1_checksum_2 := dk_seg dksX1_checksum_1 23 rfl rfl
theorem dksX1_checksum_3 : cX1_checksum.data.toList.drop 69 = dktX1_checksum_3 := dk_seg dksX1_checksum_2 22 rfl rfl
theorem dksX1_checksum_4 : cX1_checksum.data.toList.drop 92 = dktX1_checksum_4 := dk_seg dksX1_checksum_3 23 rfl rfl
theorem dksX1_checksum_5 : cX1_checksum.data.toList.drop 116 = dktX1_checksum_5 := dk_seg dksX1_checksum_4 24 rfl rfl
theorem dksX1_checksum_6 : cX1_checksum.data.toList.drop 140 = dktX1_checksum_6 := dk_seg dksX1_checksum_5 24 rfl rfl
theorem dksX1_checksum_7 : cX1_checksum.data.toList.drop 164 = dktX1_checksum_7 := dk_seg dksX1_checksum_6 24 rfl rfl
theorem dX1_checksum_0 : decode cX1_checksum 0 = .ok (.ldc2_w 416, 3) := dk_20 1 160 (dk_at dksX1_checksum_0 0 rfl rfl)
theorem dX1_checksum_3 : decode cX1_checksum 3 = .ok (.lstore_n 1, 1) := dk_64 (dk_at dksX1_checksum_0 3 rfl rfl)
theorem dX1_checksum_4 : decode cX1_checksum 4 = .ok (.aload_n 0, 1) := dk_42 (dk_at dksX1_checksum_0 4 rfl rfl)
theorem dX1_checksum_5 : decode cX1_checksum 5 = .ok (.getfield 74, 3) := dk_180 0 74 (dk_at dksX1_checksum_0 5 rfl rfl)
theorem dX1_checksum_8 : decode cX1_checksum 8 = .ok (.invokeinterface 418 1, 5) := by decide +kernel
theorem dX1_checksum_13 : decode cX1_checksum 13 = .ok (.astore_n 3, 1) := dk_78 (dk_at dksX1_checksum_0 13 rfl rfl)
theorem dX1_checksum_14 : decode cX1_checksum 14 = .ok (.aload_n 3, 1) := dk_45 (dk_at dksX1_checksum_0 14 rfl rfl)
theorem dX1_checksum_15 : decode cX1_checksum 15 = .ok (.invokeinterface 422 1, 5) := by decide +kernel
theorem dX1_checksum_20 : decode cX1_checksum 20 = .ok (.ifCond .eq 52, 3) := dk_153 0 52 (dk_at dksX1_checksum_0 20 rfl rfl)
theorem dX1_checksum_23 : decode cX1_checksum 23 = .ok (.aload_n 3, 1) := dk_45 (dk_at dksX1_checksum_0 23 rfl rfl)
theorem dX1_checksum_24 : decode cX1_checksum 24 = .ok (.invokeinterface 427 1, 5) := by decide +kernel
theorem dX1_checksum_29 : decode cX1_checksum 29 = .ok (.checkcast 193, 3) := dk_192 0 193 (dk_at dksX1_checksum_1 5 rfl rfl)
theorem dX1_checksum_32 : decode cX1_checksum 32 = .ok (.astore 4, 2) := dk_58 4 (dk_at dksX1_checksum_1 8 rfl rfl)
theorem dX1_checksum_34 : decode cX1_checksum 34 = .ok (.ldc2_w 431, 3) := dk_20 1 175 (dk_at dksX1_checksum_1 10 rfl rfl)
theorem dX1_checksum_37 : decode cX1_checksum 37 = .ok (.ldc2_w 431, 3) := dk_20 1 175 (dk_at dksX1_checksum_1 13 rfl rfl)
theorem dX1_checksum_40 : decode cX1_checksum 40 = .ok (.ldc2_w 431, 3) := dk_20 1 175 (dk_at dksX1_checksum_1 16 rfl rfl)
theorem dX1_checksum_43 : decode cX1_checksum 43 = .ok (.lload_n 1, 1) := dk_31 (dk_at dksX1_checksum_1 19 rfl rfl)
theorem dX1_checksum_44 : decode cX1_checksum 44 = .ok (.lmul, 1) := dk_105 (dk_at dksX1_checksum_1 20 rfl rfl)
theorem dX1_checksum_45 : decode cX1_checksum 45 = .ok (.aload 4, 2) := dk_25 4 (dk_at dksX1_checksum_1 21 rfl rfl)
theorem dX1_checksum_47 : decode cX1_checksum 47 = .ok (.getfield 204, 3) := dk_180 0 204 (dk_at dksX1_checksum_2 0 rfl rfl)
theorem dX1_checksum_50 : decode cX1_checksum 50 = .ok (.i2l, 1) := dk_133 (dk_at dksX1_checksum_2 3 rfl rfl)
theorem dX1_checksum_51 : decode cX1_checksum 51 = .ok (.ladd, 1) := dk_97 (dk_at dksX1_checksum_2 4 rfl rfl)
theorem dX1_checksum_52 : decode cX1_checksum 52 = .ok (.lmul, 1) := dk_105 (dk_at dksX1_checksum_2 5 rfl rfl)
theorem dX1_checksum_53 : decode cX1_checksum 53 = .ok (.aload 4, 2) := dk_25 4 (dk_at dksX1_checksum_2 6 rfl rfl)
theorem dX1_checksum_55 : decode cX1_checksum 55 = .ok (.getfield 234, 3) := dk_180 0 234 (dk_at dksX1_checksum_2 8 rfl rfl)
theorem dX1_checksum_58 : decode cX1_checksum 58 = .ok (.i2l, 1) := dk_133 (dk_at dksX1_checksum_2 11 rfl rfl)
theorem dX1_checksum_59 : decode cX1_checksum 59 = .ok (.ladd, 1) := dk_97 (dk_at dksX1_checksum_2 12 rfl rfl)
theorem dX1_checksum_60 : decode cX1_checksum 60 = .ok (.lmul, 1) := dk_105 (dk_at dksX1_checksum_2 13 rfl rfl)
theorem dX1_checksum_61 : decode cX1_checksum 61 = .ok (.aload 4, 2) := dk_25 4 (dk_at dksX1_checksum_2 14 rfl rfl)
theorem dX1_checksum_63 : decode cX1_checksum 63 = .ok (.getfield 222, 3) := dk_180 0 222 (dk_at dksX1_checksum_2 16 rfl rfl)
theorem dX1_checksum_66 : decode cX1_checksum 66 = .ok (.i2l, 1) := dk_133 (dk_at dksX1_checksum_2 19 rfl rfl)
theorem dX1_checksum_67 : decode cX1_checksum 67 = .ok (.ladd, 1) := dk_97 (dk_at dksX1_checksum_2 20 rfl rfl)
theorem dX1_checksum_68 : decode cX1_checksum 68 = .ok (.lstore_n 1, 1) := dk_64 (dk_at dksX1_checksum_2 21 rfl rfl)
theorem dX1_checksum_69 : decode cX1_checksum 69 = .ok (.goto (-55), 3) := dk_167 255 201 (dk_at dksX1_checksum_3 0 rfl rfl)
theorem dX1_checksum_72 : decode cX1_checksum 72 = .ok (.aload_n 0, 1) := dk_42 (dk_at dksX1_checksum_3 3 rfl rfl)
theorem dX1_checksum_73 : decode cX1_checksum 73 = .ok (.getfield 89, 3) := dk_180 0 89 (dk_at dksX1_checksum_3 4 rfl rfl)
theorem dX1_checksum_76 : decode cX1_checksum 76 = .ok (.invokeinterface 418 1, 5) := by decide +kernel
theorem dX1_checksum_81 : decode cX1_checksum 81 = .ok (.astore_n 3, 1) := dk_78 (dk_at dksX1_checksum_3 12 rfl rfl)
theorem dX1_checksum_82 : decode cX1_checksum 82 = .ok (.aload_n 3, 1) := dk_45 (dk_at dksX1_checksum_3 13 rfl rfl)
theorem dX1_checksum_83 : decode cX1_checksum 83 = .ok (.invokeinterface 422 1, 5) := by decide +kernel
theorem dX1_checksum_88 : decode cX1_checksum 88 = .ok (.ifCond .eq 41, 3) := dk_153 0 41 (dk_at dksX1_checksum_3 19 rfl rfl)
theorem dX1_checksum_91 : decode cX1_checksum 91 = .ok (.aload_n 3, 1) := dk_45 (dk_at dksX1_checksum_3 22 rfl rfl)
theorem dX1_checksum_92 : decode cX1_checksum 92 = .ok (.invokeinterface 427 1, 5) := by decide +kernel
theorem dX1_checksum_97 : decode cX1_checksum 97 = .ok (.checkcast 284, 3) := dk_192 1 28 (dk_at dksX1_checksum_4 5 rfl rfl)
theorem dX1_checksum_100 : decode cX1_checksum 100 = .ok (.astore 4, 2) := dk_58 4 (dk_at dksX1_checksum_4 8 rfl rfl)
theorem dX1_checksum_102 : decode cX1_checksum 102 = .ok (.ldc2_w 431, 3) := dk_20 1 175 (dk_at dksX1_checksum_4 10 rfl rfl)
theorem dX1_checksum_105 : decode cX1_checksum 105 = .ok (.ldc2_w 431, 3) := dk_20 1 175 (dk_at dksX1_checksum_4 13 rfl rfl)
theorem dX1_checksum_108 : decode cX1_checksum 108 = .ok (.lload_n 1, 1) := dk_31 (dk_at dksX1_checksum_4 16 rfl rfl)
theorem dX1_checksum_109 : decode cX1_checksum 109 = .ok (.lmul, 1) := dk_105 (dk_at dksX1_checksum_4 17 rfl rfl)
theorem dX1_checksum_110 : decode cX1_checksum 110 = .ok (.aload 4, 2) := dk_25 4 (dk_at dksX1_checksum_4 18 rfl rfl)
theorem dX1_checksum_112 : decode cX1_checksum 112 = .ok (.getfield 315, 3) := dk_180 1 59 (dk_at dksX1_checksum_4 20 rfl rfl)
theorem dX1_checksum_115 : decode cX1_checksum 115 = .ok (.i2l, 1) := dk_133 (dk_at dksX1_checksum_4 23 rfl rfl)
theorem dX1_checksum_116 : decode cX1_checksum 116 = .ok (.ladd, 1) := dk_97 (dk_at dksX1_checksum_5 0 rfl rfl)
theorem dX1_checksum_117 : decode cX1_checksum 117 = .ok (.lmul, 1) := dk_105 (dk_at dksX1_checksum_5 1 rfl rfl)
theorem dX1_checksum_118 : decode cX1_checksum 118 = .ok (.aload 4, 2) := dk_25 4 (dk_at dksX1_checksum_5 2 rfl rfl)
theorem dX1_checksum_120 : decode cX1_checksum 120 = .ok (.getfield 320, 3) := dk_180 1 64 (dk_at dksX1_checksum_5 4 rfl rfl)
theorem dX1_checksum_123 : decode cX1_checksum 123 = .ok (.i2l, 1) := dk_133 (dk_at dksX1_checksum_5 7 rfl rfl)
theorem dX1_checksum_124 : decode cX1_checksum 124 = .ok (.ladd, 1) := dk_97 (dk_at dksX1_checksum_5 8 rfl rfl)
theorem dX1_checksum_125 : decode cX1_checksum 125 = .ok (.lstore_n 1, 1) := dk_64 (dk_at dksX1_checksum_5 9 rfl rfl)
theorem dX1_checksum_126 : decode cX1_checksum 126 = .ok (.goto (-44), 3) := dk_167 255 212 (dk_at dksX1_checksum_5 10 rfl rfl)
theorem dX1_checksum_129 : decode cX1_checksum 129 = .ok (.aload_n 0, 1) := dk_42 (dk_at dksX1_checksum_5 13 rfl rfl)
theorem dX1_checksum_130 : decode cX1_checksum 130 = .ok (.getfield 92, 3) := dk_180 0 92 (dk_at dksX1_checksum_5 14 rfl rfl)
theorem dX1_checksum_133 : decode cX1_checksum 133 = .ok (.invokeinterface 418 1, 5) := by decide +kernel
theorem dX1_checksum_138 : decode cX1_checksum 138 = .ok (.astore_n 3, 1) := dk_78 (dk_at dksX1_checksum_5 22 rfl rfl)
theorem dX1_checksum_139 : decode cX1_checksum 139 = .ok (.aload_n 3, 1) := dk_45 (dk_at dksX1_checksum_5 23 rfl rfl)
theorem dX1_checksum_140 : decode cX1_checksum 140 = .ok (.invokeinterface 422 1, 5) := by decide +kernel
theorem dX1_checksum_145 : decode cX1_checksum 145 = .ok (.ifCond .eq 30, 3) := dk_153 0 30 (dk_at dksX1_checksum_6 5 rfl rfl)
theorem dX1_checksum_148 : decode cX1_checksum 148 = .ok (.aload_n 3, 1) := dk_45 (dk_at dksX1_checksum_6 8 rfl rfl)
theorem dX1_checksum_149 : decode cX1_checksum 149 = .ok (.invokeinterface 427 1, 5) := by decide +kernel
theorem dX1_checksum_154 : decode cX1_checksum 154 = .ok (.checkcast 337, 3) := dk_192 1 81 (dk_at dksX1_checksum_6 14 rfl rfl)
theorem dX1_checksum_157 : decode cX1_checksum 157 = .ok (.astore 4, 2) := dk_58 4 (dk_at dksX1_checksum_6 17 rfl rfl)
theorem dX1_checksum_159 : decode cX1_checksum 159 = .ok (.ldc2_w 431, 3) := dk_20 1 175 (dk_at dksX1_checksum_6 19 rfl rfl)
theorem dX1_checksum_162 : decode cX1_checksum 162 = .ok (.lload_n 1, 1) := dk_31 (dk_at dksX1_checksum_6 22 rfl rfl)
theorem dX1_checksum_163 : decode cX1_checksum 163 = .ok (.lmul, 1) := dk_105 (dk_at dksX1_checksum_6 23 rfl rfl)
theorem dX1_checksum_164 : decode cX1_checksum 164 = .ok (.aload 4, 2) := dk_25 4 (dk_at dksX1_checksum_7 0 rfl rfl)
theorem dX1_checksum_166 : decode cX1_checksum 166 = .ok (.invokevirtual 343, 3) := dk_182 1 87 (dk_at dksX1_checksum_7 2 rfl rfl)
theorem dX1_checksum_169 : decode cX1_checksum 169 = .ok (.i2l, 1) := dk_133 (dk_at dksX1_checksum_7 5 rfl rfl)
theorem dX1_checksum_170 : decode cX1_checksum 170 = .ok (.ladd, 1) := dk_97 (dk_at dksX1_checksum_7 6 rfl rfl)
theorem dX1_checksum_171 : decode cX1_checksum 171 = .ok (.lstore_n 1, 1) := dk_64 (dk_at dksX1_checksum_7 7 rfl rfl)
theorem dX1_checksum_172 : decode cX1_checksum 172 = .ok (.goto (-33), 3) := dk_167 255 223 (dk_at dksX1_checksum_7 8 rfl rfl)
theorem dX1_checksum_175 : decode cX1_checksum 175 = .ok (.lload_n 1, 1) := dk_31 (dk_at dksX1_checksum_7 11 rfl rfl)
theorem dX1_checksum_176 : decode cX1_checksum 176 = .ok (.lreturn, 1) := dk_173 (dk_at dksX1_checksum_7 12 rfl rfl)
abbrev cX1_isSound : ByteArray := prog_1_method_56_code
def yX1_isSound : MethodName := ⟨RX1, "isSound", "()Z"⟩
def dkwX1_isSound_3 : List UInt8 := [42, 182, 1, 198, 154, 0, 7, 4, 167, 0, 4, 3, 172]
abbrev dktX1_isSound_3 : List UInt8 := dkwX1_isSound_3 ++ []
def dkwX1_isSound_2 : List UInt8 := [186, 1, 192, 0, 0, 184, 1, 122, 126, 60, 167, 255, 221, 27, 153, 0, 21, 42, 182, 1, 195, 154, 0, 14]
abbrev dktX1_isSound_2 : List UInt8 := dkwX1_isSound_2 ++ dktX1_isSound_3
def dkwX1_isSound_1 : List UInt8 := [185, 1, 166, 1, 0, 153, 0, 32, 44, 185, 1, 171, 1, 0, 192, 1, 81, 78, 27, 45, 180, 1, 92, 45]
abbrev dktX1_isSound_1 : List UInt8 := dkwX1_isSound_1 ++ dktX1_isSound_2
def dkwX1_isSound_0 : List UInt8 := [42, 180, 0, 89, 186, 1, 191, 0, 0, 184, 1, 122, 60, 42, 180, 0, 92, 185, 1, 162, 1, 0, 77, 44]
abbrev dktX1_isSound_0 : List UInt8 := dkwX1_isSound_0 ++ dktX1_isSound_1
theorem dksX1_isSound_0 : cX1_isSound.data.toList.drop 0 = dktX1_isSound_0 := by decide +kernel
theorem dksX1_isSound_1 : cX1_isSound.data.toList.drop 24 = dktX1_isSound_1 := dk_seg dksX1_isSound_0 24 rfl rfl
theorem dksX1_isSound_2 : cX1_isSound.data.toList.drop 48 = dktX1_isSound_2 := dk_seg dksX1_isSound_1 24 rfl rfl
theorem dksX1_isSound_3 : cX1_isSound.data.toList.drop 72 = dktX1_isSound_3 := dk_seg dksX1_isSound_2 24 rfl rfl
theorem dX1_isSound_0 : decode cX1_isSound 0 = .ok (.aload_n 0, 1) := dk_42 (dk_at dksX1_isSound_0 0 rfl rfl)
theorem dX1_isSound_1 : decode cX1_isSound 1 = .ok (.getfield 89, 3) := dk_180 0 89 (dk_at dksX1_isSound_0 1 rfl rfl)
theorem dX1_isSound_4 : decode cX1_isSound 4 = .ok (.invokedynamic 447, 5) := by decide +kernel
theorem dX1_isSound_9 : decode cX1_isSound 9 = .ok (.invokestatic 378, 3) := dk_184 1 122 (dk_at dksX1_isSound_0 9 rfl rfl)
theorem dX1_isSound_12 : decode cX1_isSound 12 = .ok (.istore_n 1, 1) := dk_60 (dk_at dksX1_isSound_0 12 rfl rfl)
theorem dX1_isSound_13 : decode cX1_isSound 13 = .ok (.aload_n 0, 1) := dk_42 (dk_at dksX1_isSound_0 13 rfl rfl)
theorem dX1_isSound_14 : decode cX1_isSound 14 = .ok (.getfield 92, 3) := dk_180 0 92 (dk_at dksX1_isSound_0 14 rfl rfl)
theorem dX1_isSound_17 : decode cX1_isSound 17 = .ok (.invokeinterface 418 1, 5) := by decide +kernel
theorem dX1_isSound_22 : decode cX1_isSound 22 = .ok (.astore_n 2, 1) := dk_77 (dk_at dksX1_isSound_0 22 rfl rfl)
theorem dX1_isSound_23 : decode cX1_isSound 23 = .ok (.aload_n 2, 1) := dk_44 (dk_at dksX1_isSound_0 23 rfl rfl)
theorem dX1_isSound_24 : decode cX1_isSound 24 = .ok (.invokeinterface 422 1, 5) := by decide +kernel
theorem dX1_isSound_29 : decode cX1_isSound 29 = .ok (.ifCond .eq 32, 3) := dk_153 0 32 (dk_at dksX1_isSound_1 5 rfl rfl)
theorem dX1_isSound_32 : decode cX1_isSound 32 = .ok (.aload_n 2, 1) := dk_44 (dk_at dksX1_isSound_1 8 rfl rfl)
theorem dX1_isSound_33 : decode cX1_isSound 33 = .ok (.invokeinterface 427 1, 5) := by decide +kernel
theorem dX1_isSound_38 : decode cX1_isSound 38 = .ok (.checkcast 337, 3) := dk_192 1 81 (dk_at dksX1_isSound_1 14 rfl rfl)
theorem dX1_isSound_41 : decode cX1_isSound 41 = .ok (.astore_n 3, 1) := dk_78 (dk_at dksX1_isSound_1 17 rfl rfl)
theorem dX1_isSound_42 : decode cX1_isSound 42 = .ok (.iload_n 1, 1) := dk_27 (dk_at dksX1_isSound_1 18 rfl rfl)
theorem dX1_isSound_43 : decode cX1_isSound 43 = .ok (.aload_n 3, 1) := dk_45 (dk_at dksX1_isSound_1 19 rfl rfl)
theorem dX1_isSound_44 : decode cX1_isSound 44 = .ok (.getfield 348, 3) := dk_180 1 92 (dk_at dksX1_isSound_1 20 rfl rfl)
theorem dX1_isSound_47 : decode cX1_isSound 47 = .ok (.aload_n 3, 1) := dk_45 (dk_at dksX1_isSound_1 23 rfl rfl)
theorem dX1_isSound_48 : decode cX1_isSound 48 = .ok (.invokedynamic 448, 5) := by decide +kernel
theorem dX1_isSound_53 : decode cX1_isSound 53 = .ok (.invokestatic 378, 3) := dk_184 1 122 (dk_at dksX1_isSound_2 5 rfl rfl)
theorem dX1_isSound_56 : decode cX1_isSound 56 = .ok (.iand, 1) := dk_126 (dk_at dksX1_isSound_2 8 rfl rfl)
theorem dX1_isSound_57 : decode cX1_isSound 57 = .ok (.istore_n 1, 1) := dk_60 (dk_at dksX1_isSound_2 9 rfl rfl)
theorem dX1_isSound_58 : decode cX1_isSound 58 = .ok (.goto (-35), 3) := dk_167 255 221 (dk_at dksX1_isSound_2 10 rfl rfl)
theorem dX1_isSound_61 : decode cX1_isSound 61 = .ok (.iload_n 1, 1) := dk_27 (dk_at dksX1_isSound_2 13 rfl rfl)
theorem dX1_isSound_62 : decode cX1_isSound 62 = .ok (.ifCond .eq 21, 3) := dk_153 0 21 (dk_at dksX1_isSound_2 14 rfl rfl)
theorem dX1_isSound_65 : decode cX1_isSound 65 = .ok (.aload_n 0, 1) := dk_42 (dk_at dksX1_isSound_2 17 rfl rfl)
theorem dX1_isSound_66 : decode cX1_isSound 66 = .ok (.invokevirtual 451, 3) := dk_182 1 195 (dk_at dksX1_isSound_2 18 rfl rfl)
theorem dX1_isSound_69 : decode cX1_isSound 69 = .ok (.ifCond .ne 14, 3) := dk_154 0 14 (dk_at dksX1_isSound_2 21 rfl rfl)
theorem dX1_isSound_72 : decode cX1_isSound 72 = .ok (.aload_n 0, 1) := dk_42 (dk_at dksX1_isSound_3 0 rfl rfl)
theorem dX1_isSound_73 : decode cX1_isSound 73 = .ok (.invokevirtual 454, 3) := dk_182 1 198 (dk_at dksX1_isSound_3 1 rfl rfl)
theorem dX1_isSound_76 : decode cX1_isSound 76 = .ok (.ifCond .ne 7, 3) := dk_154 0 7 (dk_at dksX1_isSound_3 4 rfl rfl)
theorem dX1_isSound_79 : decode cX1_isSound 79 = .ok (.iconst 1, 1) := dk_4 (dk_at dksX1_isSound_3 7 rfl rfl)
theorem dX1_isSound_80 : decode cX1_isSound 80 = .ok (.goto 4, 3) := dk_167 0 4 (dk_at dksX1_isSound_3 8 rfl rfl)
theorem dX1_isSound_83 : decode cX1_isSound 83 = .ok (.iconst 0, 1) := dk_3 (dk_at dksX1_isSound_3 11 rfl rfl)
theorem dX1_isSound_84 : decode cX1_isSound 84 = .ok (.ireturn, 1) := dk_172 (dk_at dksX1_isSound_3 12 rfl rfl)
abbrev cX1_lambda_isSound_7 : ByteArray := prog_1_method_61_code
def yX1_lambda_isSound_7 : MethodName := ⟨RX1, "lambda$isSound$7", "(LGraphline$Run;)Z"⟩
def dkwX1_lambda_isSound_7_0 : List UInt8 := [3, 42, 180, 1, 59, 4, 188, 10, 89, 3, 42, 180, 1, 64, 79, 184, 0, 114, 172]
abbrev dktX1_lambda_isSound_7_0 : List UInt8 := dkwX1_lambda_isSound_7_0 ++ []
theorem dksX1_lambda_isSound_7_0 : cX1_lambda_isSound_7.data.toList.drop 0 = dktX1_lambda_isSound_7_0 := by decide +kernel
theorem dX1_lambda_isSound_7_0 : decode cX1_lambda_isSound_7 0 = .ok (.iconst 0, 1) := dk_3 (dk_at dksX1_lambda_isSound_7_0 0 rfl rfl)
theorem dX1_lambda_isSound_7_1 : decode cX1_lambda_isSound_7 1 = .ok (.aload_n 0, 1) := dk_42 (dk_at dksX1_lambda_isSound_7_0 1 rfl rfl)
theorem dX1_lambda_isSound_7_2 : decode cX1_lambda_isSound_7 2 = .ok (.getfield 315, 3) := dk_180 1 59 (dk_at dksX1_lambda_isSound_7_0 2 rfl rfl)
theorem dX1_lambda_isSound_7_5 : decode cX1_lambda_isSound_7 5 = .ok (.iconst 1, 1) := dk_4 (dk_at dksX1_lambda_isSound_7_0 5 rfl rfl)
theorem dX1_lambda_isSound_7_6 : decode cX1_lambda_isSound_7 6 = .ok (.newarray .int, 2) := dk_188_10 (dk_at dksX1_lambda_isSound_7_0 6 rfl rfl)
theorem dX1_lambda_isSound_7_8 : decode cX1_lambda_isSound_7 8 = .ok (.dup, 1) := dk_89 (dk_at dksX1_lambda_isSound_7_0 8 rfl rfl)
theorem dX1_lambda_isSound_7_9 : decode cX1_lambda_isSound_7 9 = .ok (.iconst 0, 1) := dk_3 (dk_at dksX1_lambda_isSound_7_0 9 rfl rfl)
theorem dX1_lambda_isSound_7_10 : decode cX1_lambda_isSound_7 10 = .ok (.aload_n 0, 1) := dk_42 (dk_at dksX1_lambda_isSound_7_0 10 rfl rfl)
theorem dX1_lambda_isSound_7_11 : decode cX1_lambda_isSound_7 11 = .ok (.getfield 320, 3) := dk_180 1 64 (dk_at dksX1_lambda_isSound_7_0 11 rfl rfl)
theorem dX1_lambda_isSound_7_14 : decode cX1_lambda_isSound_7 14 = .ok (.iastore, 1) := dk_79 (dk_at dksX1_lambda_isSound_7_0 14 rfl rfl)
theorem dX1_lambda_isSound_7_15 : decode cX1_lambda_isSound_7 15 = .ok (.invokestatic 114, 3) := dk_184 0 114 (dk_at dksX1_lambda_isSound_7_0 15 rfl rfl)
theorem dX1_lambda_isSound_7_18 : decode cX1_lambda_isSound_7 18 = .ok (.ireturn, 1) := dk_172 (dk_at dksX1_lambda_isSound_7_0 18 rfl rfl)
abbrev cX1_isIn : ByteArray := prog_1_method_6_code
def yX1_isIn : MethodName := ⟨RX1, "isIn", "(II[I)Z"⟩
def dkwX1_isIn_2 : List UInt8 := [132, 6, 1, 167, 255, 219, 29, 172]
abbrev dktX1_isIn_2 : List UInt8 := dkwX1_isIn_2 ++ []
def dkwX1_isIn_1 : List UInt8 := [46, 54, 7, 29, 26, 21, 7, 163, 0, 13, 21, 7, 27, 163, 0, 7, 4, 167, 0, 4, 3, 126, 62]
abbrev dktX1_isIn_1 : List UInt8 := dkwX1_isIn_1 ++ dktX1_isIn_2
def dkwX1_isIn_0 : List UInt8 := [4, 62, 44, 58, 4, 25, 4, 190, 54, 5, 3, 54, 6, 21, 6, 21, 5, 162, 0, 36, 25, 4, 21, 6]
abbrev dktX1_isIn_0 : List UInt8 := dkwX1_isIn_0 ++ dktX1_isIn_1
theorem dksX1_isIn_0 : cX1_isIn.data.toList.drop 0 = dktX1_isIn_0 := by decide +kernel
theorem dksX1_isIn_1 : cX1_isIn.data.toList.drop 24 = dktX1_isIn_1 := dk_seg dksX1_isIn_0 24 rfl rfl
theorem dksX1_isIn_2 : cX1_isIn.data.toList.drop 47 = dktX1_isIn_2 := dk_seg dksX1_isIn_1 23 rfl rfl
theorem dX1_isIn_0 : decode cX1_isIn 0 = .ok (.iconst 1, 1) := dk_4 (dk_at dksX1_isIn_0 0 rfl rfl)
theorem dX1_isIn_1 : decode cX1_isIn 1 = .ok (.istore_n 3, 1) := dk_62 (dk_at dksX1_isIn_0 1 rfl rfl)
theorem dX1_isIn_2 : decode cX1_isIn 2 = .ok (.aload_n 2, 1) := dk_44 (dk_at dksX1_isIn_0 2 rfl rfl)
theorem dX1_isIn_3 : decode cX1_isIn 3 = .ok (.astore 4, 2) := dk_58 4 (dk_at dksX1_isIn_0 3 rfl rfl)
theorem dX1_isIn_5 : decode cX1_isIn 5 = .ok (.aload 4, 2) := dk_25 4 (dk_at dksX1_isIn_0 5 rfl rfl)
theorem dX1_isIn_7 : decode cX1_isIn 7 = .ok (.arraylength, 1) := dk_190 (dk_at dksX1_isIn_0 7 rfl rfl)
theorem dX1_isIn_8 : decode cX1_isIn 8 = .ok (.istore 5, 2) := dk_54 5 (dk_at dksX1_isIn_0 8 rfl rfl)
theorem dX1_isIn_10 : decode cX1_isIn 10 = .ok (.iconst 0, 1) := dk_3 (dk_at dksX1_isIn_0 10 rfl rfl)
theorem dX1_isIn_11 : decode cX1_isIn 11 = .ok (.istore 6, 2) := dk_54 6 (dk_at dksX1_isIn_0 11 rfl rfl)
theorem dX1_isIn_13 : decode cX1_isIn 13 = .ok (.iload 6, 2) := dk_21 6 (dk_at dksX1_isIn_0 13 rfl rfl)
theorem dX1_isIn_15 : decode cX1_isIn 15 = .ok (.iload 5, 2) := dk_21 5 (dk_at dksX1_isIn_0 15 rfl rfl)
theorem dX1_isIn_17 : decode cX1_isIn 17 = .ok (.if_icmp .ge 36, 3) := dk_162 0 36 (dk_at dksX1_isIn_0 17 rfl rfl)
theorem dX1_isIn_20 : decode cX1_isIn 20 = .ok (.aload 4, 2) := dk_25 4 (dk_at dksX1_isIn_0 20 rfl rfl)
theorem dX1_isIn_22 : decode cX1_isIn 22 = .ok (.iload 6, 2) := dk_21 6 (dk_at dksX1_isIn_0 22 rfl rfl)
theorem dX1_isIn_24 : decode cX1_isIn 24 = .ok (.iaload, 1) := dk_46 (dk_at dksX1_isIn_1 0 rfl rfl)
theorem dX1_isIn_25 : decode cX1_isIn 25 = .ok (.istore 7, 2) := dk_54 7 (dk_at dksX1_isIn_1 1 rfl rfl)
theorem dX1_isIn_27 : decode cX1_isIn 27 = .ok (.iload_n 3, 1) := dk_29 (dk_at dksX1_isIn_1 3 rfl rfl)
theorem dX1_isIn_28 : decode cX1_isIn 28 = .ok (.iload_n 0, 1) := dk_26 (dk_at dksX1_isIn_1 4 rfl rfl)
theorem dX1_isIn_29 : decode cX1_isIn 29 = .ok (.iload 7, 2) := dk_21 7 (dk_at dksX1_isIn_1 5 rfl rfl)
theorem dX1_isIn_31 : decode cX1_isIn 31 = .ok (.if_icmp .gt 13, 3) := dk_163 0 13 (dk_at dksX1_isIn_1 7 rfl rfl)
theorem dX1_isIn_34 : decode cX1_isIn 34 = .ok (.iload 7, 2) := dk_21 7 (dk_at dksX1_isIn_1 10 rfl rfl)
theorem dX1_isIn_36 : decode cX1_isIn 36 = .ok (.iload_n 1, 1) := dk_27 (dk_at dksX1_isIn_1 12 rfl rfl)
theorem dX1_isIn_37 : decode cX1_isIn 37 = .ok (.if_icmp .gt 7, 3) := dk_163 0 7 (dk_at dksX1_isIn_1 13 rfl rfl)
theorem dX1_isIn_40 : decode cX1_isIn 40 = .ok (.iconst 1, 1) := dk_4 (dk_at dksX1_isIn_1 16 rfl rfl)
theorem dX1_isIn_41 : decode cX1_isIn 41 = .ok (.goto 4, 3) := dk_167 0 4 (dk_at dksX1_isIn_1 17 rfl rfl)
theorem dX1_isIn_44 : decode cX1_isIn 44 = .ok (.iconst 0, 1) := dk_3 (dk_at dksX1_isIn_1 20 rfl rfl)
theorem dX1_isIn_45 : decode cX1_isIn 45 = .ok (.iand, 1) := dk_126 (dk_at dksX1_isIn_1 21 rfl rfl)
theorem dX1_isIn_46 : decode cX1_isIn 46 = .ok (.istore_n 3, 1) := dk_62 (dk_at dksX1_isIn_1 22 rfl rfl)
theorem dX1_isIn_47 : decode cX1_isIn 47 = .ok (.iinc 6 1, 3) := dk_132 6 1 (dk_at dksX1_isIn_2 0 rfl rfl)
theorem dX1_isIn_50 : decode cX1_isIn 50 = .ok (.goto (-37), 3) := dk_167 255 219 (dk_at dksX1_isIn_2 3 rfl rfl)
theorem dX1_isIn_53 : decode cX1_isIn 53 = .ok (.iload_n 3, 1) := dk_29 (dk_at dksX1_isIn_2 6 rfl rfl)
theorem dX1_isIn_54 : decode cX1_isIn 54 = .ok (.ireturn, 1) := dk_172 (dk_at dksX1_isIn_2 7 rfl rfl)
abbrev cX1_allOf : ByteArray := prog_1_method_57_code
def yX1_allOf : MethodName := ⟨RX1, "allOf", "(Ljava/lang/Iterable;Ljava/util/function/Predicate;)Z"⟩
def dkwX1_allOf_1 : List UInt8 := [45, 185, 1, 204, 2, 0, 154, 0, 5, 3, 172, 167, 255, 228, 4, 172]
abbrev dktX1_allOf_1 : List UInt8 := dkwX1_allOf_1 ++ []
def dkwX1_allOf_0 : List UInt8 := [42, 185, 1, 201, 1, 0, 77, 44, 185, 1, 166, 1, 0, 153, 0, 25, 44, 185, 1, 171, 1, 0, 78, 43]
abbrev dktX1_allOf_0 : List UInt8 := dkwX1_allOf_0 ++ dktX1_allOf_1
theorem dksX1_allOf_0 : cX1_allOf.data.toList.drop 0 = dktX1_allOf_0 := by decide +kernel
theorem dksX1_allOf_1 : cX1_allOf.data.toList.drop 24 = dktX1_allOf_1 := dk_seg dksX1_allOf_0 24 rfl rfl
theorem dX1_allOf_0 : decode cX1_allOf 0 = .ok (.aload_n 0, 1) := dk_42 (dk_at dksX1_allOf_0 0 rfl rfl)
theorem dX1_allOf_1 : decode cX1_allOf 1 = .ok (.invokeinterface 457 1, 5) := by decide +kernel
theorem dX1_allOf_6 : decode cX1_allOf 6 = .ok (.astore_n 2, 1) := dk_77 (dk_at dksX1_allOf_0 6 rfl rfl)
theorem dX1_allOf_7 : decode cX1_allOf 7 = .ok (.aload_n 2, 1) := dk_44 (dk_at dksX1_allOf_0 7 rfl rfl)
theorem dX1_allOf_8 : decode cX1_allOf 8 = .ok (.invokeinterface 422 1, 5) := by decide +kernel
theorem dX1_allOf_13 : decode cX1_allOf 13 = .ok (.ifCond .eq 25, 3) := dk_153 0 25 (dk_at dksX1_allOf_0 13 rfl rfl)
theorem dX1_allOf_16 : decode cX1_allOf 16 = .ok (.aload_n 2, 1) := dk_44 (dk_at dksX1_allOf_0 16 rfl rfl)
theorem dX1_allOf_17 : decode cX1_allOf 17 = .ok (.invokeinterface 427 1, 5) := by decide +kernel
theorem dX1_allOf_22 : decode cX1_allOf 22 = .ok (.astore_n 3, 1) := dk_78 (dk_at dksX1_allOf_0 22 rfl rfl)
theorem dX1_allOf_23 : decode cX1_allOf 23 = .ok (.aload_n 1, 1) := dk_43 (dk_at dksX1_allOf_0 23 rfl rfl)
theorem dX1_allOf_24 : decode cX1_allOf 24 = .ok (.aload_n 3, 1) := dk_45 (dk_at dksX1_allOf_1 0 rfl rfl)
theorem dX1_allOf_25 : decode cX1_allOf 25 = .ok (.invokeinterface 460 2, 5) := by decide +kernel
theorem dX1_allOf_30 : decode cX1_allOf 30 = .ok (.ifCond .ne 5, 3) := dk_154 0 5 (dk_at dksX1_allOf_1 6 rfl rfl)
theorem dX1_allOf_33 : decode cX1_allOf 33 = .ok (.iconst 0, 1) := dk_3 (dk_at dksX1_allOf_1 9 rfl rfl)
theorem dX1_allOf_34 : decode cX1_allOf 34 = .ok (.ireturn, 1) := dk_172 (dk_at dksX1_allOf_1 10 rfl rfl)
theorem dX1_allOf_35 : decode cX1_allOf 35 = .ok (.goto (-28), 3) := dk_167 255 228 (dk_at dksX1_allOf_1 11 rfl rfl)
theorem dX1_allOf_38 : decode cX1_allOf 38 = .ok (.iconst 1, 1) := dk_4 (dk_at dksX1_allOf_1 14 rfl rfl)
theorem dX1_allOf_39 : decode cX1_allOf 39 = .ok (.ireturn, 1) := dk_172 (dk_at dksX1_allOf_1 15 rfl rfl)
abbrev cX1_lambda_isSound_8 : ByteArray := prog_1_method_60_code
def yX1_lambda_isSound_8 : MethodName := ⟨RX1, "lambda$isSound$8", "(LGraphline$Gross;LGraphline$Part;)Z"⟩
def dkwX1_lambda_isSound_8_0 : List UInt8 := [43, 182, 1, 128, 180, 1, 49, 42, 180, 1, 84, 160, 0, 7, 4, 167, 0, 4, 3, 172]
abbrev dktX1_lambda_isSound_8_0 : List UInt8 := dkwX1_lambda_isSound_8_0 ++ []
theorem dksX1_lambda_isSound_8_0 : cX1_lambda_isSound_8.data.toList.drop 0 = dktX1_lambda_isSound_8_0 := by decide +kernel
theorem dX1_lambda_isSound_8_0 : decode cX1_lambda_isSound_8 0 = .ok (.aload_n 1, 1) := dk_43 (dk_at dksX1_lambda_isSound_8_0 0 rfl rfl)
theorem dX1_lambda_isSound_8_1 : decode cX1_lambda_isSound_8 1 = .ok (.invokevirtual 384, 3) := dk_182 1 128 (dk_at dksX1_lambda_isSound_8_0 1 rfl rfl)
theorem dX1_lambda_isSound_8_4 : decode cX1_lambda_isSound_8 4 = .ok (.getfield 305, 3) := dk_180 1 49 (dk_at dksX1_lambda_isSound_8_0 4 rfl rfl)
theorem dX1_lambda_isSound_8_7 : decode cX1_lambda_isSound_8 7 = .ok (.aload_n 0, 1) := dk_42 (dk_at dksX1_lambda_isSound_8_0 7 rfl rfl)
theorem dX1_lambda_isSound_8_8 : decode cX1_lambda_isSound_8 8 = .ok (.getfield 340, 3) := dk_180 1 84 (dk_at dksX1_lambda_isSound_8_0 8 rfl rfl)
theorem dX1_lambda_isSound_8_11 : decode cX1_lambda_isSound_8 11 = .ok (.if_icmp .ne 7, 3) := dk_160 0 7 (dk_at dksX1_lambda_isSound_8_0 11 rfl rfl)
theorem dX1_lambda_isSound_8_14 : decode cX1_lambda_isSound_8 14 = .ok (.iconst 1, 1) := dk_4 (dk_at dksX1_lambda_isSound_8_0 14 rfl rfl)
theorem dX1_lambda_isSound_8_15 : decode cX1_lambda_isSound_8 15 = .ok (.goto 4, 3) := dk_167 0 4 (dk_at dksX1_lambda_isSound_8_0 15 rfl rfl)
theorem dX1_lambda_isSound_8_18 : decode cX1_lambda_isSound_8 18 = .ok (.iconst 0, 1) := dk_3 (dk_at dksX1_lambda_isSound_8_0 18 rfl rfl)
theorem dX1_lambda_isSound_8_19 : decode cX1_lambda_isSound_8 19 = .ok (.ireturn, 1) := dk_172 (dk_at dksX1_lambda_isSound_8_0 19 rfl rfl)
abbrev cX1_hasRing : ByteArray := prog_1_method_55_code
def yX1_hasRing : MethodName := ⟨RX1, "hasRing", "()Z"⟩
def dkwX1_hasRing_2 : List UInt8 := [2, 159, 0, 7, 4, 167, 0, 4, 3, 128, 60, 132, 2, 1, 167, 255, 198, 27, 172]
abbrev dktX1_hasRing_2 : List UInt8 := dkwX1_hasRing_2 ++ []
def dkwX1_hasRing_1 : List UInt8 := [190, 162, 0, 21, 29, 2, 159, 0, 16, 42, 180, 0, 98, 29, 46, 62, 132, 4, 1, 167, 255, 231, 27, 29]
abbrev dktX1_hasRing_1 : List UInt8 := dkwX1_hasRing_1 ++ dktX1_hasRing_2
def dkwX1_hasRing_0 : List UInt8 := [3, 60, 3, 61, 28, 42, 180, 0, 98, 190, 162, 0, 55, 28, 62, 3, 54, 4, 21, 4, 42, 180, 0, 98]
abbrev dktX1_hasRing_0 : List UInt8 := dkwX1_hasRing_0 ++ dktX1_hasRing_1
theorem dksX1_hasRing_0 : cX1_hasRing.data.toList.drop 0 = dktX1_hasRing_0 := by decide +kernel
theorem dksX1_hasRing_1 : cX1_hasRing.data.toList.drop 24 = dktX1_hasRing_1 := dk_seg dksX1_hasRing_0 24 rfl rfl
theorem dksX1_hasRing_2 : cX1_hasRing.data.toList.drop 48 = dktX1_hasRing_2 := dk_seg dksX1_hasRing_1 24 rfl rfl
theorem dX1_hasRing_0 : decode cX1_hasRing 0 = .ok (.iconst 0, 1) := dk_3 (dk_at dksX1_hasRing_0 0 rfl rfl)
theorem dX1_hasRing_1 : decode cX1_hasRing 1 = .ok (.istore_n 1, 1) := dk_60 (dk_at dksX1_hasRing_0 1 rfl rfl)
theorem dX1_hasRing_2 : decode cX1_hasRing 2 = .ok (.iconst 0, 1) := dk_3 (dk_at dksX1_hasRing_0 2 rfl rfl)
theorem dX1_hasRing_3 : decode cX1_hasRing 3 = .ok (.istore_n 2, 1) := dk_61 (dk_at dksX1_hasRing_0 3 rfl rfl)
theorem dX1_hasRing_4 : decode cX1_hasRing 4 = .ok (.iload_n 2, 1) := dk_28 (dk_at dksX1_hasRing_0 4 rfl rfl)
theorem dX1_hasRing_5 : decode cX1_hasRing 5 = .ok (.aload_n 0, 1) := dk_42 (dk_at dksX1_hasRing_0 5 rfl rfl)
theorem dX1_hasRing_6 : decode cX1_hasRing 6 = .ok (.getfield 98, 3) := dk_180 0 98 (dk_at dksX1_hasRing_0 6 rfl rfl)
theorem dX1_hasRing_9 : decode cX1_hasRing 9 = .ok (.arraylength, 1) := dk_190 (dk_at dksX1_hasRing_0 9 rfl rfl)
theorem dX1_hasRing_10 : decode cX1_hasRing 10 = .ok (.if_icmp .ge 55, 3) := dk_162 0 55 (dk_at dksX1_hasRing_0 10 rfl rfl)
theorem dX1_hasRing_13 : decode cX1_hasRing 13 = .ok (.iload_n 2, 1) := dk_28 (dk_at dksX1_hasRing_0 13 rfl rfl)
theorem dX1_hasRing_14 : decode cX1_hasRing 14 = .ok (.istore_n 3, 1) := dk_62 (dk_at dksX1_hasRing_0 14 rfl rfl)
theorem dX1_hasRing_15 : decode cX1_hasRing 15 = .ok (.iconst 0, 1) := dk_3 (dk_at dksX1_hasRing_0 15 rfl rfl)
theorem dX1_hasRing_16 : decode cX1_hasRing 16 = .ok (.istore 4, 2) := dk_54 4 (dk_at dksX1_hasRing_0 16 rfl rfl)
theorem dX1_hasRing_18 : decode cX1_hasRing 18 = .ok (.iload 4, 2) := dk_21 4 (dk_at dksX1_hasRing_0 18 rfl rfl)
theorem dX1_hasRing_20 : decode cX1_hasRing 20 = .ok (.aload_n 0, 1) := dk_42 (dk_at dksX1_hasRing_0 20 rfl rfl)
theorem dX1_hasRing_21 : decode cX1_hasRing 21 = .ok (.getfield 98, 3) := dk_180 0 98 (dk_at dksX1_hasRing_0 21 rfl rfl)
theorem dX1_hasRing_24 : decode cX1_hasRing 24 = .ok (.arraylength, 1) := dk_190 (dk_at dksX1_hasRing_1 0 rfl rfl)
theorem dX1_hasRing_25 : decode cX1_hasRing 25 = .ok (.if_icmp .ge 21, 3) := dk_162 0 21 (dk_at dksX1_hasRing_1 1 rfl rfl)
theorem dX1_hasRing_28 : decode cX1_hasRing 28 = .ok (.iload_n 3, 1) := dk_29 (dk_at dksX1_hasRing_1 4 rfl rfl)
theorem dX1_hasRing_29 : decode cX1_hasRing 29 = .ok (.iconst (-1), 1) := dk_2 (dk_at dksX1_hasRing_1 5 rfl rfl)
theorem dX1_hasRing_30 : decode cX1_hasRing 30 = .ok (.if_icmp .eq 16, 3) := dk_159 0 16 (dk_at dksX1_hasRing_1 6 rfl rfl)
theorem dX1_hasRing_33 : decode cX1_hasRing 33 = .ok (.aload_n 0, 1) := dk_42 (dk_at dksX1_hasRing_1 9 rfl rfl)
theorem dX1_hasRing_34 : decode cX1_hasRing 34 = .ok (.getfield 98, 3) := dk_180 0 98 (dk_at dksX1_hasRing_1 10 rfl rfl)
theorem dX1_hasRing_37 : decode cX1_hasRing 37 = .ok (.iload_n 3, 1) := dk_29 (dk_at dksX1_hasRing_1 13 rfl rfl)
theorem dX1_hasRing_38 : decode cX1_hasRing 38 = .ok (.iaload, 1) := dk_46 (dk_at dksX1_hasRing_1 14 rfl rfl)
theorem dX1_hasRing_39 : decode cX1_hasRing 39 = .ok (.istore_n 3, 1) := dk_62 (dk_at dksX1_hasRing_1 15 rfl rfl)
theorem dX1_hasRing_40 : decode cX1_hasRing 40 = .ok (.iinc 4 1, 3) := dk_132 4 1 (dk_at dksX1_hasRing_1 16 rfl rfl)
theorem dX1_hasRing_43 : decode cX1_hasRing 43 = .ok (.goto (-25), 3) := dk_167 255 231 (dk_at dksX1_hasRing_1 19 rfl rfl)
theorem dX1_hasRing_46 : decode cX1_hasRing 46 = .ok (.iload_n 1, 1) := dk_27 (dk_at dksX1_hasRing_1 22 rfl rfl)
theorem dX1_hasRing_47 : decode cX1_hasRing 47 = .ok (.iload_n 3, 1) := dk_29 (dk_at dksX1_hasRing_1 23 rfl rfl)
theorem dX1_hasRing_48 : decode cX1_hasRing 48 = .ok (.iconst (-1), 1) := dk_2 (dk_at dksX1_hasRing_2 0 rfl rfl)
theorem dX1_hasRing_49 : decode cX1_hasRing 49 = .ok (.if_icmp .eq 7, 3) := dk_159 0 7 (dk_at dksX1_hasRing_2 1 rfl rfl)
theorem dX1_hasRing_52 : decode cX1_hasRing 52 = .ok (.iconst 1, 1) := dk_4 (dk_at dksX1_hasRing_2 4 rfl rfl)
theorem dX1_hasRing_53 : decode cX1_hasRing 53 = .ok (.goto 4, 3) := dk_167 0 4 (dk_at dksX1_hasRing_2 5 rfl rfl)
theorem dX1_hasRing_56 : decode cX1_hasRing 56 = .ok (.iconst 0, 1) := dk_3 (dk_at dksX1_hasRing_2 8 rfl rfl)
theorem dX1_hasRing_57 : decode cX1_hasRing 57 = .ok (.ior, 1) := dk_128 (dk_at dksX1_hasRing_2 9 rfl rfl)
theorem dX1_hasRing_58 : decode cX1_hasRing 58 = .ok (.istore_n 1, 1) := dk_60 (dk_at dksX1_hasRing_2 10 rfl rfl)
theorem dX1_hasRing_59 : decode cX1_hasRing 59 = .ok (.iinc 2 1, 3) := dk_132 2 1 (dk_at dksX1_hasRing_2 11 rfl rfl)
theorem dX1_hasRing_62 : decode cX1_hasRing 62 = .ok (.goto (-58), 3) := dk_167 255 198 (dk_at dksX1_hasRing_2 14 rfl rfl)
theorem dX1_hasRing_65 : decode cX1_hasRing 65 = .ok (.iload_n 1, 1) := dk_27 (dk_at dksX1_hasRing_2 17 rfl rfl)
theorem dX1_hasRing_66 : decode cX1_hasRing 66 = .ok (.ireturn, 1) := dk_172 (dk_at dksX1_hasRing_2 18 rfl rfl)
abbrev cX1_go : ByteArray := prog_1_method_10_code
def yX1_go : MethodName := ⟨RX1, "go", "(I)I"⟩
def dkwX1_go_2 : List UInt8 := [42, 180, 0, 122, 172]
abbrev dktX1_go_2 : List UInt8 := dkwX1_go_2 ++ []
def dkwX1_go_1 : List UInt8 := [17, 39, 15, 163, 0, 7, 4, 167, 0, 4, 3, 184, 0, 126, 42, 89, 180, 0, 122, 27, 96, 181, 0, 122]
abbrev dktX1_go_1 : List UInt8 := dkwX1_go_1 ++ dktX1_go_2
def dkwX1_go_0 : List UInt8 := [4, 17, 1, 244, 4, 188, 10, 89, 3, 27, 79, 184, 0, 114, 184, 0, 118, 42, 180, 0, 122, 27, 96]
abbrev dktX1_go_0 : List UInt8 := dkwX1_go_0 ++ dktX1_go_1
theorem dksX1_go_0 : cX1_go.data.toList.drop 0 = dktX1_go_0 := by decide +kernel
theorem dksX1_go_1 : cX1_go.data.toList.drop 23 = dktX1_go_1 := dk_seg dksX1_go_0 23 rfl rfl
theorem dksX1_go_2 : cX1_go.data.toList.drop 47 = dktX1_go_2 := dk_seg dksX1_go_1 24 rfl rfl
theorem dX1_go_0 : decode cX1_go 0 = .ok (.iconst 1, 1) := dk_4 (dk_at dksX1_go_0 0 rfl rfl)
theorem dX1_go_1 : decode cX1_go 1 = .ok (.sipush 500, 3) := dk_17 1 244 (dk_at dksX1_go_0 1 rfl rfl)
theorem dX1_go_4 : decode cX1_go 4 = .ok (.iconst 1, 1) := dk_4 (dk_at dksX1_go_0 4 rfl rfl)
theorem dX1_go_5 : decode cX1_go 5 = .ok (.newarray .int, 2) := dk_188_10 (dk_at dksX1_go_0 5 rfl rfl)
theorem dX1_go_7 : decode cX1_go 7 = .ok (.dup, 1) := dk_89 (dk_at dksX1_go_0 7 rfl rfl)
theorem dX1_go_8 : decode cX1_go 8 = .ok (.iconst 0, 1) := dk_3 (dk_at dksX1_go_0 8 rfl rfl)
theorem dX1_go_9 : decode cX1_go 9 = .ok (.iload_n 1, 1) := dk_27 (dk_at dksX1_go_0 9 rfl rfl)
theorem dX1_go_10 : decode cX1_go 10 = .ok (.iastore, 1) := dk_79 (dk_at dksX1_go_0 10 rfl rfl)
theorem dX1_go_11 : decode cX1_go 11 = .ok (.invokestatic 114, 3) := dk_184 0 114 (dk_at dksX1_go_0 11 rfl rfl)
theorem dX1_go_14 : decode cX1_go 14 = .ok (.invokestatic 118, 3) := dk_184 0 118 (dk_at dksX1_go_0 14 rfl rfl)
theorem dX1_go_17 : decode cX1_go 17 = .ok (.aload_n 0, 1) := dk_42 (dk_at dksX1_go_0 17 rfl rfl)
theorem dX1_go_18 : decode cX1_go 18 = .ok (.getfield 122, 3) := dk_180 0 122 (dk_at dksX1_go_0 18 rfl rfl)
theorem dX1_go_21 : decode cX1_go 21 = .ok (.iload_n 1, 1) := dk_27 (dk_at dksX1_go_0 21 rfl rfl)
theorem dX1_go_22 : decode cX1_go 22 = .ok (.iadd, 1) := dk_96 (dk_at dksX1_go_0 22 rfl rfl)
theorem dX1_go_23 : decode cX1_go 23 = .ok (.sipush 9999, 3) := dk_17 39 15 (dk_at dksX1_go_1 0 rfl rfl)
theorem dX1_go_26 : decode cX1_go 26 = .ok (.if_icmp .gt 7, 3) := dk_163 0 7 (dk_at dksX1_go_1 3 rfl rfl)
theorem dX1_go_29 : decode cX1_go 29 = .ok (.iconst 1, 1) := dk_4 (dk_at dksX1_go_1 6 rfl rfl)
theorem dX1_go_30 : decode cX1_go 30 = .ok (.goto 4, 3) := dk_167 0 4 (dk_at dksX1_go_1 7 rfl rfl)
theorem dX1_go_33 : decode cX1_go 33 = .ok (.iconst 0, 1) := dk_3 (dk_at dksX1_go_1 10 rfl rfl)
theorem dX1_go_34 : decode cX1_go 34 = .ok (.invokestatic 126, 3) := dk_184 0 126 (dk_at dksX1_go_1 11 rfl rfl)
theorem dX1_go_37 : decode cX1_go 37 = .ok (.aload_n 0, 1) := dk_42 (dk_at dksX1_go_1 14 rfl rfl)
theorem dX1_go_38 : decode cX1_go 38 = .ok (.dup, 1) := dk_89 (dk_at dksX1_go_1 15 rfl rfl)
theorem dX1_go_39 : decode cX1_go 39 = .ok (.getfield 122, 3) := dk_180 0 122 (dk_at dksX1_go_1 16 rfl rfl)
theorem dX1_go_42 : decode cX1_go 42 = .ok (.iload_n 1, 1) := dk_27 (dk_at dksX1_go_1 19 rfl rfl)
theorem dX1_go_43 : decode cX1_go 43 = .ok (.iadd, 1) := dk_96 (dk_at dksX1_go_1 20 rfl rfl)
theorem dX1_go_44 : decode cX1_go 44 = .ok (.putfield 122, 3) := dk_181 0 122 (dk_at dksX1_go_1 21 rfl rfl)
theorem dX1_go_47 : decode cX1_go 47 = .ok (.aload_n 0, 1) := dk_42 (dk_at dksX1_go_2 0 rfl rfl)
theorem dX1_go_48 : decode cX1_go 48 = .ok (.getfield 122, 3) := dk_180 0 122 (dk_at dksX1_go_2 1 rfl rfl)
theorem dX1_go_51 : decode cX1_go 51 = .ok (.ireturn, 1) := dk_172 (dk_at dksX1_go_2 4 rfl rfl)
abbrev cX1_requireArgument : ByteArray := prog_1_method_3_code
def yX1_requireArgument : MethodName := ⟨RX1, "requireArgument", "(Z)V"⟩
def dkwX1_requireArgument_0 : List UInt8 := [26, 154, 0, 11, 187, 0, 23, 89, 183, 0, 25, 191, 177]
abbrev dktX1_requireArgument_0 : List UInt8 := dkwX1_requireArgument_0 ++ []
theorem dksX1_requireArgument_0 : cX1_requireArgument.data.toList.drop 0 = dktX1_requireArgument_0 := by decide +kernel
theorem dX1_requireArgument_0 : decode cX1_requireArgument 0 = .ok (.iload_n 0, 1) := dk_26 (dk_at dksX1_requireArgument_0 0 rfl rfl)
theorem dX1_requireArgument_1 : decode cX1_requireArgument 1 = .ok (.ifCond .ne 11, 3) := dk_154 0 11 (dk_at dksX1_requireArgument_0 1 rfl rfl)
theorem dX1_requireArgument_4 : decode cX1_requireArgument 4 = .ok (.new 23, 3) := dk_187 0 23 (dk_at dksX1_requireArgument_0 4 rfl rfl)
theorem dX1_requireArgument_7 : decode cX1_requireArgument 7 = .ok (.dup, 1) := dk_89 (dk_at dksX1_requireArgument_0 7 rfl rfl)
theorem dX1_requireArgument_8 : decode cX1_requireArgument 8 = .ok (.invokespecial 25, 3) := dk_183 0 25 (dk_at dksX1_requireArgument_0 8 rfl rfl)
theorem dX1_requireArgument_11 : decode cX1_requireArgument 11 = .ok (.athrow, 1) := dk_191 (dk_at dksX1_requireArgument_0 11 rfl rfl)
theorem dX1_requireArgument_12 : decode cX1_requireArgument 12 = .ok (.return_, 1) := dk_177 (dk_at dksX1_requireArgument_0 12 rfl rfl)
abbrev cX1_requireState : ByteArray := prog_1_method_4_code
def yX1_requireState : MethodName := ⟨RX1, "requireState", "(Z)V"⟩
def dkwX1_requireState_0 : List UInt8 := [26, 154, 0, 11, 187, 0, 26, 89, 183, 0, 28, 191, 177]
abbrev dktX1_requireState_0 : List UInt8 := dkwX1_requireState_0 ++ []
theorem dksX1_requireState_0 : cX1_requireState.data.toList.drop 0 = dktX1_requireState_0 := by decide +kernel
theorem dX1_requireState_0 : decode cX1_requireState 0 = .ok (.iload_n 0, 1) := dk_26 (dk_at dksX1_requireState_0 0 rfl rfl)
theorem dX1_requireState_1 : decode cX1_requireState 1 = .ok (.ifCond .ne 11, 3) := dk_154 0 11 (dk_at dksX1_requireState_0 1 rfl rfl)
theorem dX1_requireState_4 : decode cX1_requireState 4 = .ok (.new 26, 3) := dk_187 0 26 (dk_at dksX1_requireState_0 4 rfl rfl)
theorem dX1_requireState_7 : decode cX1_requireState 7 = .ok (.dup, 1) := dk_89 (dk_at dksX1_requireState_0 7 rfl rfl)
theorem dX1_requireState_8 : decode cX1_requireState 8 = .ok (.invokespecial 28, 3) := dk_183 0 28 (dk_at dksX1_requireState_0 8 rfl rfl)
theorem dX1_requireState_11 : decode cX1_requireState 11 = .ok (.athrow, 1) := dk_191 (dk_at dksX1_requireState_0 11 rfl rfl)
theorem dX1_requireState_12 : decode cX1_requireState 12 = .ok (.return_, 1) := dk_177 (dk_at dksX1_requireState_0 12 rfl rfl)
abbrev cX1_belt : ByteArray := prog_1_method_13_code
def yX1_belt : MethodName := ⟨RX1, "belt", "(CC)C"⟩
def dkwX1_belt_4 : List UInt8 := [182, 0, 140, 54, 5, 42, 180, 0, 98, 29, 21, 4, 79, 21, 5, 172]
abbrev dktX1_belt_4 : List UInt8 := dkwX1_belt_4 ++ []
def dkwX1_belt_3 : List UInt8 := [180, 0, 98, 29, 46, 2, 160, 0, 8, 16, 45, 167, 0, 14, 18, 36, 42, 180, 0, 98, 29, 46]
abbrev dktX1_belt_3 : List UInt8 := dkwX1_belt_3 ++ dktX1_belt_4
def dkwX1_belt_2 : List UInt8 := [159, 0, 7, 4, 167, 0, 4, 3, 184, 0, 137, 42, 180, 0, 98, 21, 5, 46, 54, 5, 167, 255, 227, 42]
abbrev dktX1_belt_2 : List UInt8 := dkwX1_belt_2 ++ dktX1_belt_3
def dkwX1_belt_1 : List UInt8 := [159, 0, 7, 4, 167, 0, 4, 3, 184, 0, 118, 21, 4, 54, 5, 21, 5, 2, 159, 0, 29, 21, 5, 29]
abbrev dktX1_belt_1 : List UInt8 := dkwX1_belt_1 ++ dktX1_belt_2
def dkwX1_belt_0 : List UInt8 := [27, 184, 0, 133, 62, 28, 16, 45, 160, 0, 7, 2, 167, 0, 7, 28, 184, 0, 133, 54, 4, 29, 21, 4]
abbrev dktX1_belt_0 : List UInt8 := dkwX1_belt_0 ++ dktX1_belt_1
theorem dksX1_belt_0 : cX1_belt.data.toList.drop 0 = dktX1_belt_0 := by decide +kernel
theorem dksX1_belt_1 : cX1_belt.data.toList.drop 24 = dktX1_belt_1 := dk_seg dksX1_belt_0 24 rfl rfl
theorem dksX1_belt_2 : cX1_belt.data.toList.drop 48 = dktX1_belt_2 := dk_seg dksX1_belt_1 24 rfl rfl
theorem dksX1_belt_3 : cX1_belt.data.toList.drop 72 = dktX1_belt_3 := dk_seg dksX1_belt_2 24 rfl rfl
theorem dksX1_belt_4 : cX1_belt.data.toList.drop 94 = dktX1_belt_4 := dk_seg dksX1_belt_3 22 rfl rfl
theorem dX1_belt_0 : decode cX1_belt 0 = .ok (.iload_n 1, 1) := dk_27 (dk_at dksX1_belt_0 0 rfl rfl)
theorem dX1_belt_1 : decode cX1_belt 1 = .ok (.invokestatic 133, 3) := dk_184 0 133 (dk_at dksX1_belt_0 1 rfl rfl)
theorem dX1_belt_4 : decode cX1_belt 4 = .ok (.istore_n 3, 1) := dk_62 (dk_at dksX1_belt_0 4 rfl rfl)
theorem dX1_belt_5 : decode cX1_belt 5 = .ok (.iload_n 2, 1) := dk_28 (dk_at dksX1_belt_0 5 rfl rfl)
theorem dX1_belt_6 : decode cX1_belt 6 = .ok (.bipush 45, 2) := dk_16 45 (dk_at dksX1_belt_0 6 rfl rfl)
theorem dX1_belt_8 : decode cX1_belt 8 = .ok (.if_icmp .ne 7, 3) := dk_160 0 7 (dk_at dksX1_belt_0 8 rfl rfl)
theorem dX1_belt_11 : decode cX1_belt 11 = .ok (.iconst (-1), 1) := dk_2 (dk_at dksX1_belt_0 11 rfl rfl)
theorem dX1_belt_12 : decode cX1_belt 12 = .ok (.goto 7, 3) := dk_167 0 7 (dk_at dksX1_belt_0 12 rfl rfl)
theorem dX1_belt_15 : decode cX1_belt 15 = .ok (.iload_n 2, 1) := dk_28 (dk_at dksX1_belt_0 15 rfl rfl)
theorem dX1_belt_16 : decode cX1_belt 16 = .ok (.invokestatic 133, 3) := dk_184 0 133 (dk_at dksX1_belt_0 16 rfl rfl)
theorem dX1_belt_19 : decode cX1_belt 19 = .ok (.istore 4, 2) := dk_54 4 (dk_at dksX1_belt_0 19 rfl rfl)
theorem dX1_belt_21 : decode cX1_belt 21 = .ok (.iload_n 3, 1) := dk_29 (dk_at dksX1_belt_0 21 rfl rfl)
theorem dX1_belt_22 : decode cX1_belt 22 = .ok (.iload 4, 2) := dk_21 4 (dk_at dksX1_belt_0 22 rfl rfl)
theorem dX1_belt_24 : decode cX1_belt 24 = .ok (.if_icmp .eq 7, 3) := dk_159 0 7 (dk_at dksX1_belt_1 0 rfl rfl)
theorem dX1_belt_27 : decode cX1_belt 27 = .ok (.iconst 1, 1) := dk_4 (dk_at dksX1_belt_1 3 rfl rfl)
theorem dX1_belt_28 : decode cX1_belt 28 = .ok (.goto 4, 3) := dk_167 0 4 (dk_at dksX1_belt_1 4 rfl rfl)
theorem dX1_belt_31 : decode cX1_belt 31 = .ok (.iconst 0, 1) := dk_3 (dk_at dksX1_belt_1 7 rfl rfl)
theorem dX1_belt_32 : decode cX1_belt 32 = .ok (.invokestatic 118, 3) := dk_184 0 118 (dk_at dksX1_belt_1 8 rfl rfl)
theorem dX1_belt_35 : decode cX1_belt 35 = .ok (.iload 4, 2) := dk_21 4 (dk_at dksX1_belt_1 11 rfl rfl)
theorem dX1_belt_37 : decode cX1_belt 37 = .ok (.istore 5, 2) := dk_54 5 (dk_at dksX1_belt_1 13 rfl rfl)
theorem dX1_belt_39 : decode cX1_belt 39 = .ok (.iload 5, 2) := dk_21 5 (dk_at dksX1_belt_1 15 rfl rfl)
theorem dX1_belt_41 : decode cX1_belt 41 = .ok (.iconst (-1), 1) := dk_2 (dk_at dksX1_belt_1 17 rfl rfl)
theorem dX1_belt_42 : decode cX1_belt 42 = .ok (.if_icmp .eq 29, 3) := dk_159 0 29 (dk_at dksX1_belt_1 18 rfl rfl)
theorem dX1_belt_45 : decode cX1_belt 45 = .ok (.iload 5, 2) := dk_21 5 (dk_at dksX1_belt_1 21 rfl rfl)
theorem dX1_belt_47 : decode cX1_belt 47 = .ok (.iload_n 3, 1) := dk_29 (dk_at dksX1_belt_1 23 rfl rfl)
theorem dX1_belt_48 : decode cX1_belt 48 = .ok (.if_icmp .eq 7, 3) := dk_159 0 7 (dk_at dksX1_belt_2 0 rfl rfl)
theorem dX1_belt_51 : decode cX1_belt 51 = .ok (.iconst 1, 1) := dk_4 (dk_at dksX1_belt_2 3 rfl rfl)
theorem dX1_belt_52 : decode cX1_belt 52 = .ok (.goto 4, 3) := dk_167 0 4 (dk_at dksX1_belt_2 4 rfl rfl)
theorem dX1_belt_55 : decode cX1_belt 55 = .ok (.iconst 0, 1) := dk_3 (dk_at dksX1_belt_2 7 rfl rfl)
theorem dX1_belt_56 : decode cX1_belt 56 = .ok (.invokestatic 137, 3) := dk_184 0 137 (dk_at dksX1_belt_2 8 rfl rfl)
theorem dX1_belt_59 : decode cX1_belt 59 = .ok (.aload_n 0, 1) := dk_42 (dk_at dksX1_belt_2 11 rfl rfl)
theorem dX1_belt_60 : decode cX1_belt 60 = .ok (.getfield 98, 3) := dk_180 0 98 (dk_at dksX1_belt_2 12 rfl rfl)
theorem dX1_belt_63 : decode cX1_belt 63 = .ok (.iload 5, 2) := dk_21 5 (dk_at dksX1_belt_2 15 rfl rfl)
theorem dX1_belt_65 : decode cX1_belt 65 = .ok (.iaload, 1) := dk_46 (dk_at dksX1_belt_2 17 rfl rfl)
theorem dX1_belt_66 : decode cX1_belt 66 = .ok (.istore 5, 2) := dk_54 5 (dk_at dksX1_belt_2 18 rfl rfl)
theorem dX1_belt_68 : decode cX1_belt 68 = .ok (.goto (-29), 3) := dk_167 255 227 (dk_at dksX1_belt_2 20 rfl rfl)
theorem dX1_belt_71 : decode cX1_belt 71 = .ok (.aload_n 0, 1) := dk_42 (dk_at dksX1_belt_2 23 rfl rfl)
theorem dX1_belt_72 : decode cX1_belt 72 = .ok (.getfield 98, 3) := dk_180 0 98 (dk_at dksX1_belt_3 0 rfl rfl)
theorem dX1_belt_75 : decode cX1_belt 75 = .ok (.iload_n 3, 1) := dk_29 (dk_at dksX1_belt_3 3 rfl rfl)
theorem dX1_belt_76 : decode cX1_belt 76 = .ok (.iaload, 1) := dk_46 (dk_at dksX1_belt_3 4 rfl rfl)
theorem dX1_belt_77 : decode cX1_belt 77 = .ok (.iconst (-1), 1) := dk_2 (dk_at dksX1_belt_3 5 rfl rfl)
theorem dX1_belt_78 : decode cX1_belt 78 = .ok (.if_icmp .ne 8, 3) := dk_160 0 8 (dk_at dksX1_belt_3 6 rfl rfl)
theorem dX1_belt_81 : decode cX1_belt 81 = .ok (.bipush 45, 2) := dk_16 45 (dk_at dksX1_belt_3 9 rfl rfl)
theorem dX1_belt_83 : decode cX1_belt 83 = .ok (.goto 14, 3) := dk_167 0 14 (dk_at dksX1_belt_3 11 rfl rfl)
theorem dX1_belt_86 : decode cX1_belt 86 = .ok (.ldc 36, 2) := dk_18 36 (dk_at dksX1_belt_3 14 rfl rfl)
theorem dX1_belt_88 : decode cX1_belt 88 = .ok (.aload_n 0, 1) := dk_42 (dk_at dksX1_belt_3 16 rfl rfl)
theorem dX1_belt_89 : decode cX1_belt 89 = .ok (.getfield 98, 3) := dk_180 0 98 (dk_at dksX1_belt_3 17 rfl rfl)
theorem dX1_belt_92 : decode cX1_belt 92 = .ok (.iload_n 3, 1) := dk_29 (dk_at dksX1_belt_3 20 rfl rfl)
theorem dX1_belt_93 : decode cX1_belt 93 = .ok (.iaload, 1) := dk_46 (dk_at dksX1_belt_3 21 rfl rfl)
theorem dX1_belt_94 : decode cX1_belt 94 = .ok (.invokevirtual 140, 3) := dk_182 0 140 (dk_at dksX1_belt_4 0 rfl rfl)
theorem dX1_belt_97 : decode cX1_belt 97 = .ok (.istore 5, 2) := dk_54 5 (dk_at dksX1_belt_4 3 rfl rfl)
theorem dX1_belt_99 : decode cX1_belt 99 = .ok (.aload_n 0, 1) := dk_42 (dk_at dksX1_belt_4 5 rfl rfl)
theorem dX1_belt_100 : decode cX1_belt 100 = .ok (.getfield 98, 3) := dk_180 0 98 (dk_at dksX1_belt_4 6 rfl rfl)
theorem dX1_belt_103 : decode cX1_belt 103 = .ok (.iload_n 3, 1) := dk_29 (dk_at dksX1_belt_4 9 rfl rfl)
theorem dX1_belt_104 : decode cX1_belt 104 = .ok (.iload 4, 2) := dk_21 4 (dk_at dksX1_belt_4 10 rfl rfl)
theorem dX1_belt_106 : decode cX1_belt 106 = .ok (.iastore, 1) := dk_79 (dk_at dksX1_belt_4 12 rfl rfl)
theorem dX1_belt_107 : decode cX1_belt 107 = .ok (.iload 5, 2) := dk_21 5 (dk_at dksX1_belt_4 13 rfl rfl)
theorem dX1_belt_109 : decode cX1_belt 109 = .ok (.ireturn, 1) := dk_172 (dk_at dksX1_belt_4 15 rfl rfl)
abbrev cX1_requireMachine : ByteArray := prog_1_method_12_code
def yX1_requireMachine : MethodName := ⟨RX1, "requireMachine", "(C)I"⟩
def dkwX1_requireMachine_0 : List UInt8 := [18, 36, 26, 182, 0, 129, 60, 27, 155, 0, 7, 4, 167, 0, 4, 3, 184, 0, 118, 27, 172]
abbrev dktX1_requireMachine_0 : List UInt8 := dkwX1_requireMachine_0 ++ []
theorem dksX1_requireMachine_0 : cX1_requireMachine.data.toList.drop 0 = dktX1_requireMachine_0 := by decide +kernel
theorem dX1_requireMachine_0 : decode cX1_requireMachine 0 = .ok (.ldc 36, 2) := dk_18 36 (dk_at dksX1_requireMachine_0 0 rfl rfl)
theorem dX1_requireMachine_2 : decode cX1_requireMachine 2 = .ok (.iload_n 0, 1) := dk_26 (dk_at dksX1_requireMachine_0 2 rfl rfl)
theorem dX1_requireMachine_3 : decode cX1_requireMachine 3 = .ok (.invokevirtual 129, 3) := dk_182 0 129 (dk_at dksX1_requireMachine_0 3 rfl rfl)
theorem dX1_requireMachine_6 : decode cX1_requireMachine 6 = .ok (.istore_n 1, 1) := dk_60 (dk_at dksX1_requireMachine_0 6 rfl rfl)
theorem dX1_requireMachine_7 : decode cX1_requireMachine 7 = .ok (.iload_n 1, 1) := dk_27 (dk_at dksX1_requireMachine_0 7 rfl rfl)
theorem dX1_requireMachine_8 : decode cX1_requireMachine 8 = .ok (.ifCond .lt 7, 3) := dk_155 0 7 (dk_at dksX1_requireMachine_0 8 rfl rfl)
theorem dX1_requireMachine_11 : decode cX1_requireMachine 11 = .ok (.iconst 1, 1) := dk_4 (dk_at dksX1_requireMachine_0 11 rfl rfl)
theorem dX1_requireMachine_12 : decode cX1_requireMachine 12 = .ok (.goto 4, 3) := dk_167 0 4 (dk_at dksX1_requireMachine_0 12 rfl rfl)
theorem dX1_requireMachine_15 : decode cX1_requireMachine 15 = .ok (.iconst 0, 1) := dk_3 (dk_at dksX1_requireMachine_0 15 rfl rfl)
theorem dX1_requireMachine_16 : decode cX1_requireMachine 16 = .ok (.invokestatic 118, 3) := dk_184 0 118 (dk_at dksX1_requireMachine_0 16 rfl rfl)
theorem dX1_requireMachine_19 : decode cX1_requireMachine 19 = .ok (.iload_n 1, 1) := dk_27 (dk_at dksX1_requireMachine_0 19 rfl rfl)
theorem dX1_requireMachine_20 : decode cX1_requireMachine 20 = .ok (.ireturn, 1) := dk_172 (dk_at dksX1_requireMachine_0 20 rfl rfl)
abbrev cX1_requireSupported : ByteArray := prog_1_method_5_code
def yX1_requireSupported : MethodName := ⟨RX1, "requireSupported", "(Z)V"⟩
def dkwX1_requireSupported_0 : List UInt8 := [26, 154, 0, 11, 187, 0, 29, 89, 183, 0, 31, 191, 177]
abbrev dktX1_requireSupported_0 : List UInt8 := dkwX1_requireSupported_0 ++ []
theorem dksX1_requireSupported_0 : cX1_requireSupported.data.toList.drop 0 = dktX1_requireSupported_0 := by decide +kernel
theorem dX1_requireSupported_0 : decode cX1_requireSupported 0 = .ok (.iload_n 0, 1) := dk_26 (dk_at dksX1_requireSupported_0 0 rfl rfl)
theorem dX1_requireSupported_1 : decode cX1_requireSupported 1 = .ok (.ifCond .ne 11, 3) := dk_154 0 11 (dk_at dksX1_requireSupported_0 1 rfl rfl)
theorem dX1_requireSupported_4 : decode cX1_requireSupported 4 = .ok (.new 29, 3) := dk_187 0 29 (dk_at dksX1_requireSupported_0 4 rfl rfl)
theorem dX1_requireSupported_7 : decode cX1_requireSupported 7 = .ok (.dup, 1) := dk_89 (dk_at dksX1_requireSupported_0 7 rfl rfl)
theorem dX1_requireSupported_8 : decode cX1_requireSupported 8 = .ok (.invokespecial 31, 3) := dk_183 0 31 (dk_at dksX1_requireSupported_0 8 rfl rfl)
theorem dX1_requireSupported_11 : decode cX1_requireSupported 11 = .ok (.athrow, 1) := dk_191 (dk_at dksX1_requireSupported_0 11 rfl rfl)
theorem dX1_requireSupported_12 : decode cX1_requireSupported 12 = .ok (.return_, 1) := dk_177 (dk_at dksX1_requireSupported_0 12 rfl rfl)
abbrev cX1_on : ByteArray := prog_1_method_14_code
def yX1_on : MethodName := ⟨RX1, "on", "(CZ)Z"⟩
def dkwX1_on_0 : List UInt8 := [27, 184, 0, 133, 62, 42, 180, 0, 101, 29, 51, 54, 4, 42, 180, 0, 101, 29, 28, 84, 21, 4, 172]
abbrev dktX1_on_0 : List UInt8 := dkwX1_on_0 ++ []
theorem dksX1_on_0 : cX1_on.data.toList.drop 0 = dktX1_on_0 := by decide +kernel
theorem dX1_on_0 : decode cX1_on 0 = .ok (.iload_n 1, 1) := dk_27 (dk_at dksX1_on_0 0 rfl rfl)
theorem dX1_on_1 : decode cX1_on 1 = .ok (.invokestatic 133, 3) := dk_184 0 133 (dk_at dksX1_on_0 1 rfl rfl)
theorem dX1_on_4 : decode cX1_on 4 = .ok (.istore_n 3, 1) := dk_62 (dk_at dksX1_on_0 4 rfl rfl)
theorem dX1_on_5 : decode cX1_on 5 = .ok (.aload_n 0, 1) := dk_42 (dk_at dksX1_on_0 5 rfl rfl)
theorem dX1_on_6 : decode cX1_on 6 = .ok (.getfield 101, 3) := dk_180 0 101 (dk_at dksX1_on_0 6 rfl rfl)
theorem dX1_on_9 : decode cX1_on 9 = .ok (.iload_n 3, 1) := dk_29 (dk_at dksX1_on_0 9 rfl rfl)
theorem dX1_on_10 : decode cX1_on 10 = .ok (.baload, 1) := dk_51 (dk_at dksX1_on_0 10 rfl rfl)
theorem dX1_on_11 : decode cX1_on 11 = .ok (.istore 4, 2) := dk_54 4 (dk_at dksX1_on_0 11 rfl rfl)
theorem dX1_on_13 : decode cX1_on 13 = .ok (.aload_n 0, 1) := dk_42 (dk_at dksX1_on_0 13 rfl rfl)
theorem dX1_on_14 : decode cX1_on 14 = .ok (.getfield 101, 3) := dk_180 0 101 (dk_at dksX1_on_0 14 rfl rfl)
theorem dX1_on_17 : decode cX1_on 17 = .ok (.iload_n 3, 1) := dk_29 (dk_at dksX1_on_0 17 rfl rfl)
theorem dX1_on_18 : decode cX1_on 18 = .ok (.iload_n 2, 1) := dk_28 (dk_at dksX1_on_0 18 rfl rfl)
theorem dX1_on_19 : decode cX1_on 19 = .ok (.bastore, 1) := dk_84 (dk_at dksX1_on_0 19 rfl rfl)
theorem dX1_on_20 : decode cX1_on 20 = .ok (.iload 4, 2) := dk_21 4 (dk_at dksX1_on_0 20 rfl rfl)
theorem dX1_on_22 : decode cX1_on 22 = .ok (.ireturn, 1) := dk_172 (dk_at dksX1_on_0 22 rfl rfl)
abbrev cX1_runs : ByteArray := prog_1_method_16_code
def yX1_runs : MethodName := ⟨RX1, "runs", "(C)Z"⟩
def dkwX1_runs_0 : List UInt8 := [27, 184, 0, 133, 61, 42, 28, 182, 0, 149, 4, 172, 78, 3, 172]
abbrev dktX1_runs_0 : List UInt8 := dkwX1_runs_0 ++ []
theorem dksX1_runs_0 : cX1_runs.data.toList.drop 0 = dktX1_runs_0 := by decide +kernel
theorem dX1_runs_0 : decode cX1_runs 0 = .ok (.iload_n 1, 1) := dk_27 (dk_at dksX1_runs_0 0 rfl rfl)
theorem dX1_runs_1 : decode cX1_runs 1 = .ok (.invokestatic 133, 3) := dk_184 0 133 (dk_at dksX1_runs_0 1 rfl rfl)
theorem dX1_runs_4 : decode cX1_runs 4 = .ok (.istore_n 2, 1) := dk_61 (dk_at dksX1_runs_0 4 rfl rfl)
theorem dX1_runs_5 : decode cX1_runs 5 = .ok (.aload_n 0, 1) := dk_42 (dk_at dksX1_runs_0 5 rfl rfl)
theorem dX1_runs_6 : decode cX1_runs 6 = .ok (.iload_n 2, 1) := dk_28 (dk_at dksX1_runs_0 6 rfl rfl)
theorem dX1_runs_7 : decode cX1_runs 7 = .ok (.invokevirtual 149, 3) := dk_182 0 149 (dk_at dksX1_runs_0 7 rfl rfl)
theorem dX1_runs_10 : decode cX1_runs 10 = .ok (.iconst 1, 1) := dk_4 (dk_at dksX1_runs_0 10 rfl rfl)
theorem dX1_runs_11 : decode cX1_runs 11 = .ok (.ireturn, 1) := dk_172 (dk_at dksX1_runs_0 11 rfl rfl)
theorem dX1_runs_12 : decode cX1_runs 12 = .ok (.astore_n 3, 1) := dk_78 (dk_at dksX1_runs_0 12 rfl rfl)
theorem dX1_runs_13 : decode cX1_runs 13 = .ok (.iconst 0, 1) := dk_3 (dk_at dksX1_runs_0 13 rfl rfl)
theorem dX1_runs_14 : decode cX1_runs 14 = .ok (.ireturn, 1) := dk_172 (dk_at dksX1_runs_0 14 rfl rfl)
abbrev cX1_drive : ByteArray := prog_1_method_15_code
def yX1_drive : MethodName := ⟨RX1, "drive", "(I)V"⟩
def dkwX1_drive_3 : List UInt8 := [1, 183, 0, 146, 191, 177]
abbrev dktX1_drive_3 : List UInt8 := dkwX1_drive_3 ++ []
def dkwX1_drive_2 : List UInt8 := [44, 183, 0, 146, 191, 42, 180, 0, 101, 27, 51, 154, 0, 18, 187, 0, 144, 89, 18, 36, 27, 182, 0, 140]
abbrev dktX1_drive_2 : List UInt8 := dkwX1_drive_2 ++ dktX1_drive_3
def dkwX1_drive_1 : List UInt8 := [42, 42, 180, 0, 98, 27, 46, 182, 0, 149, 167, 0, 19, 77, 187, 0, 144, 89, 18, 36, 27, 182, 0, 140]
abbrev dktX1_drive_1 : List UInt8 := dkwX1_drive_1 ++ dktX1_drive_2
def dkwX1_drive_0 : List UInt8 := [27, 2, 160, 0, 22, 42, 180, 0, 49, 154, 0, 14, 187, 0, 144, 89, 16, 45, 1, 183, 0, 146, 191, 177]
abbrev dktX1_drive_0 : List UInt8 := dkwX1_drive_0 ++ dktX1_drive_1
theorem dksX1_drive_0 : cX1_drive.data.toList.drop 0 = dktX1_drive_0 := by decide +kernel
theorem dksX1_drive_1 : cX1_drive.data.toList.drop 24 = dktX1_drive_1 := dk_seg dksX1_drive_0 24 rfl rfl
theorem dksX1_drive_2 : cX1_drive.data.toList.drop 48 = dktX1_drive_2 := dk_seg dksX1_drive_1 24 rfl rfl
theorem dksX1_drive_3 : cX1_drive.data.toList.drop 72 = dktX1_drive_3 := dk_seg dksX1_drive_2 24 rfl rfl
theorem dX1_drive_0 : decode cX1_drive 0 = .ok (.iload_n 1, 1) := dk_27 (dk_at dksX1_drive_0 0 rfl rfl)
theorem dX1_drive_1 : decode cX1_drive 1 = .ok (.iconst (-1), 1) := dk_2 (dk_at dksX1_drive_0 1 rfl rfl)
theorem dX1_drive_2 : decode cX1_drive 2 = .ok (.if_icmp .ne 22, 3) := dk_160 0 22 (dk_at dksX1_drive_0 2 rfl rfl)
theorem dX1_drive_5 : decode cX1_drive 5 = .ok (.aload_n 0, 1) := dk_42 (dk_at dksX1_drive_0 5 rfl rfl)
theorem dX1_drive_6 : decode cX1_drive 6 = .ok (.getfield 49, 3) := dk_180 0 49 (dk_at dksX1_drive_0 6 rfl rfl)
theorem dX1_drive_9 : decode cX1_drive 9 = .ok (.ifCond .ne 14, 3) := dk_154 0 14 (dk_at dksX1_drive_0 9 rfl rfl)
theorem dX1_drive_12 : decode cX1_drive 12 = .ok (.new 144, 3) := dk_187 0 144 (dk_at dksX1_drive_0 12 rfl rfl)
theorem dX1_drive_15 : decode cX1_drive 15 = .ok (.dup, 1) := dk_89 (dk_at dksX1_drive_0 15 rfl rfl)
theorem dX1_drive_16 : decode cX1_drive 16 = .ok (.bipush 45, 2) := dk_16 45 (dk_at dksX1_drive_0 16 rfl rfl)
theorem dX1_drive_18 : decode cX1_drive 18 = .ok (.aconst_null, 1) := dk_1 (dk_at dksX1_drive_0 18 rfl rfl)
theorem dX1_drive_19 : decode cX1_drive 19 = .ok (.invokespecial 146, 3) := dk_183 0 146 (dk_at dksX1_drive_0 19 rfl rfl)
theorem dX1_drive_22 : decode cX1_drive 22 = .ok (.athrow, 1) := dk_191 (dk_at dksX1_drive_0 22 rfl rfl)
theorem dX1_drive_23 : decode cX1_drive 23 = .ok (.return_, 1) := dk_177 (dk_at dksX1_drive_0 23 rfl rfl)
theorem dX1_drive_24 : decode cX1_drive 24 = .ok (.aload_n 0, 1) := dk_42 (dk_at dksX1_drive_1 0 rfl rfl)
theorem dX1_drive_25 : decode cX1_drive 25 = .ok (.aload_n 0, 1) := dk_42 (dk_at dksX1_drive_1 1 rfl rfl)
theorem dX1_drive_26 : decode cX1_drive 26 = .ok (.getfield 98, 3) := dk_180 0 98 (dk_at dksX1_drive_1 2 rfl rfl)
theorem dX1_drive_29 : decode cX1_drive 29 = .ok (.iload_n 1, 1) := dk_27 (dk_at dksX1_drive_1 5 rfl rfl)
theorem dX1_drive_30 : decode cX1_drive 30 = .ok (.iaload, 1) := dk_46 (dk_at dksX1_drive_1 6 rfl rfl)
theorem dX1_drive_31 : decode cX1_drive 31 = .ok (.invokevirtual 149, 3) := dk_182 0 149 (dk_at dksX1_drive_1 7 rfl rfl)
theorem dX1_drive_34 : decode cX1_drive 34 = .ok (.goto 19, 3) := dk_167 0 19 (dk_at dksX1_drive_1 10 rfl rfl)
theorem dX1_drive_37 : decode cX1_drive 37 = .ok (.astore_n 2, 1) := dk_77 (dk_at dksX1_drive_1 13 rfl rfl)
theorem dX1_drive_38 : decode cX1_drive 38 = .ok (.new 144, 3) := dk_187 0 144 (dk_at dksX1_drive_1 14 rfl rfl)
theorem dX1_drive_41 : decode cX1_drive 41 = .ok (.dup, 1) := dk_89 (dk_at dksX1_drive_1 17 rfl rfl)
theorem dX1_drive_42 : decode cX1_drive 42 = .ok (.ldc 36, 2) := dk_18 36 (dk_at dksX1_drive_1 18 rfl rfl)
theorem dX1_drive_44 : decode cX1_drive 44 = .ok (.iload_n 1, 1) := dk_27 (dk_at dksX1_drive_1 20 rfl rfl)
theorem dX1_drive_45 : decode cX1_drive 45 = .ok (.invokevirtual 140, 3) := dk_182 0 140 (dk_at dksX1_drive_1 21 rfl rfl)
theorem dX1_drive_48 : decode cX1_drive 48 = .ok (.aload_n 2, 1) := dk_44 (dk_at dksX1_drive_2 0 rfl rfl)
theorem dX1_drive_49 : decode cX1_drive 49 = .ok (.invokespecial 146, 3) := dk_183 0 146 (dk_at dksX1_drive_2 1 rfl rfl)
theorem dX1_drive_52 : decode cX1_drive 52 = .ok (.athrow, 1) := dk_191 (dk_at dksX1_drive_2 4 rfl rfl)
theorem dX1_drive_53 : decode cX1_drive 53 = .ok (.aload_n 0, 1) := dk_42 (dk_at dksX1_drive_2 5 rfl rfl)
theorem dX1_drive_54 : decode cX1_drive 54 = .ok (.getfield 101, 3) := dk_180 0 101 (dk_at dksX1_drive_2 6 rfl rfl)
theorem dX1_drive_57 : decode cX1_drive 57 = .ok (.iload_n 1, 1) := dk_27 (dk_at dksX1_drive_2 9 rfl rfl)
theorem dX1_drive_58 : decode cX1_drive 58 = .ok (.baload, 1) := dk_51 (dk_at dksX1_drive_2 10 rfl rfl)
theorem dX1_drive_59 : decode cX1_drive 59 = .ok (.ifCond .ne 18, 3) := dk_154 0 18 (dk_at dksX1_drive_2 11 rfl rfl)
theorem dX1_drive_62 : decode cX1_drive 62 = .ok (.new 144, 3) := dk_187 0 144 (dk_at dksX1_drive_2 14 rfl rfl)
theorem dX1_drive_65 : decode cX1_drive 65 = .ok (.dup, 1) := dk_89 (dk_at dksX1_drive_2 17 rfl rfl)
theorem dX1_drive_66 : decode cX1_drive 66 = .ok (.ldc 36, 2) := dk_18 36 (dk_at dksX1_drive_2 18 rfl rfl)
theorem dX1_drive_68 : decode cX1_drive 68 = .ok (.iload_n 1, 1) := dk_27 (dk_at dksX1_drive_2 20 rfl rfl)
theorem dX1_drive_69 : decode cX1_drive 69 = .ok (.invokevirtual 140, 3) := dk_182 0 140 (dk_at dksX1_drive_2 21 rfl rfl)
theorem dX1_drive_72 : decode cX1_drive 72 = .ok (.aconst_null, 1) := dk_1 (dk_at dksX1_drive_3 0 rfl rfl)
theorem dX1_drive_73 : decode cX1_drive 73 = .ok (.invokespecial 146, 3) := dk_183 0 146 (dk_at dksX1_drive_3 1 rfl rfl)
theorem dX1_drive_76 : decode cX1_drive 76 = .ok (.athrow, 1) := dk_191 (dk_at dksX1_drive_3 4 rfl rfl)
theorem dX1_drive_77 : decode cX1_drive 77 = .ok (.return_, 1) := dk_177 (dk_at dksX1_drive_3 5 rfl rfl)
abbrev cX1_lot : ByteArray := prog_1_method_17_code
def yX1_lot : MethodName := ⟨RX1, "lot", "(CIII)I"⟩
def dkwX1_lot_7 : List UInt8 := [5, 21, 4, 79, 183, 0, 159, 185, 0, 160, 2, 0, 87, 21, 5, 172]
abbrev dktX1_lot_7 : List UInt8 := dkwX1_lot_7 ++ []
def dkwX1_lot_6 : List UInt8 := [183, 0, 154, 167, 0, 28, 187, 0, 157, 89, 21, 5, 6, 188, 10, 89, 3, 28, 79, 89, 4, 29, 79, 89]
abbrev dktX1_lot_6 : List UInt8 := dkwX1_lot_6 ++ dktX1_lot_7
def dkwX1_lot_5 : List UInt8 := [187, 0, 152, 89, 21, 5, 6, 188, 10, 89, 3, 28, 79, 89, 4, 29, 79, 89, 5, 21, 4, 79]
abbrev dktX1_lot_5 : List UInt8 := dkwX1_lot_5 ++ dktX1_lot_6
def dkwX1_lot_4 : List UInt8 := [184, 0, 126, 42, 180, 0, 67, 185, 0, 7, 1, 0, 54, 5, 42, 180, 0, 67, 27, 16, 103, 160, 0, 31]
abbrev dktX1_lot_4 : List UInt8 := dkwX1_lot_4 ++ dktX1_lot_5
def dkwX1_lot_3 : List UInt8 := [184, 0, 118, 42, 180, 0, 67, 185, 0, 7, 1, 0, 16, 16, 162, 0, 7, 4, 167, 0, 4, 3]
abbrev dktX1_lot_3 : List UInt8 := dkwX1_lot_3 ++ dktX1_lot_4
def dkwX1_lot_2 : List UInt8 := [17, 1, 244, 4, 188, 10, 89, 3, 21, 4, 79, 184, 0, 114, 153, 0, 7, 4, 167, 0, 4, 3]
abbrev dktX1_lot_2 : List UInt8 := dkwX1_lot_2 ++ dktX1_lot_3
def dkwX1_lot_1 : List UInt8 := [184, 0, 114, 153, 0, 41, 4, 16, 9, 4, 188, 10, 89, 3, 29, 79, 184, 0, 114, 153, 0, 25, 4]
abbrev dktX1_lot_1 : List UInt8 := dkwX1_lot_1 ++ dktX1_lot_2
def dkwX1_lot_0 : List UInt8 := [27, 16, 103, 159, 0, 9, 27, 16, 99, 160, 0, 58, 16, 50, 16, 99, 4, 188, 10, 89, 3, 28, 79]
abbrev dktX1_lot_0 : List UInt8 := dkwX1_lot_0 ++ dktX1_lot_1
theorem dksX1_lot_0 : cX1_lot.data.toList.drop 0 = dktX1_lot_0 := by decide +kernel
theorem dksX1_lot_1 : cX1_lot.data.toList.drop 23 = dktX1_lot_1 := dk_seg dksX1_lot_0 23 rfl rfl
theorem dksX1_lot_2 : cX1_lot.data.toList.drop 46 = dktX1_lot_2 := dk_seg dksX1_lot_1 23 rfl rfl
theorem dksX1_lot_3 : cX1_lot.data.toList.drop 68 = dktX1_lot_3 := dk_seg dksX1_lot_2 22 rfl rfl
theorem dksX1_lot_4 : cX1_lot.data.toList.drop 90 = dktX1_lot_4 := dk_seg dksX1_lot_3 22 rfl rfl
theorem dksX1_lot_5 : cX1_lot.data.toList.drop 114 = dktX1_lot_5 := dk_seg dksX1_lot_4 24 rfl rfl
theorem dksX1_lot_6 : cX1_lot.data.toList.drop 136 = dktX1_lot_6 := dk_seg dksX1_lot_5 22 rfl rfl
theorem dksX1_lot_7 : cX1_lot.data.toList.drop 160 = dktX1_lot_7 := dk_seg dksX1_lot_6 24 rfl rfl
theorem dX1_lot_0 : decode cX1_lot 0 = .ok (.iload_n 1, 1) := dk_27 (dk_at dksX1_lot_0 0 rfl rfl)
theorem dX1_lot_1 : decode cX1_lot 1 = .ok (.bipush 103, 2) := dk_16 103 (dk_at dksX1_lot_0 1 rfl rfl)
theorem dX1_lot_3 : decode cX1_lot 3 = .ok (.if_icmp .eq 9, 3) := dk_159 0 9 (dk_at dksX1_lot_0 3 rfl rfl)
theorem dX1_lot_6 : decode cX1_lot 6 = .ok (.iload_n 1, 1) := dk_27 (dk_at dksX1_lot_0 6 rfl rfl)
theorem dX1_lot_7 : decode cX1_lot 7 = .ok (.bipush 99, 2) := dk_16 99 (dk_at dksX1_lot_0 7 rfl rfl)
theorem dX1_lot_9 : decode cX1_lot 9 = .ok (.if_icmp .ne 58, 3) := dk_160 0 58 (dk_at dksX1_lot_0 9 rfl rfl)
theorem dX1_lot_12 : decode cX1_lot 12 = .ok (.bipush 50, 2) := dk_16 50 (dk_at dksX1_lot_0 12 rfl rfl)
theorem dX1_lot_14 : decode cX1_lot 14 = .ok (.bipush 99, 2) := dk_16 99 (dk_at dksX1_lot_0 14 rfl rfl)
theorem dX1_lot_16 : decode cX1_lot 16 = .ok (.iconst 1, 1) := dk_4 (dk_at dksX1_lot_0 16 rfl rfl)
theorem dX1_lot_17 : decode cX1_lot 17 = .ok (.newarray .int, 2) := dk_188_10 (dk_at dksX1_lot_0 17 rfl rfl)
theorem dX1_lot_19 : decode cX1_lot 19 = .ok (.dup, 1) := dk_89 (dk_at dksX1_lot_0 19 rfl rfl)
theorem dX1_lot_20 : decode cX1_lot 20 = .ok (.iconst 0, 1) := dk_3 (dk_at dksX1_lot_0 20 rfl rfl)
theorem dX1_lot_21 : decode cX1_lot 21 = .ok (.iload_n 2, 1) := dk_28 (dk_at dksX1_lot_0 21 rfl rfl)
theorem dX1_lot_22 : decode cX1_lot 22 = .ok (.iastore, 1) := dk_79 (dk_at dksX1_lot_0 22 rfl rfl)
theorem dX1_lot_23 : decode cX1_lot 23 = .ok (.invokestatic 114, 3) := dk_184 0 114 (dk_at dksX1_lot_1 0 rfl rfl)
theorem dX1_lot_26 : decode cX1_lot 26 = .ok (.ifCond .eq 41, 3) := dk_153 0 41 (dk_at dksX1_lot_1 3 rfl rfl)
theorem dX1_lot_29 : decode cX1_lot 29 = .ok (.iconst 1, 1) := dk_4 (dk_at dksX1_lot_1 6 rfl rfl)
theorem dX1_lot_30 : decode cX1_lot 30 = .ok (.bipush 9, 2) := dk_16 9 (dk_at dksX1_lot_1 7 rfl rfl)
theorem dX1_lot_32 : decode cX1_lot 32 = .ok (.iconst 1, 1) := dk_4 (dk_at dksX1_lot_1 9 rfl rfl)
theorem dX1_lot_33 : decode cX1_lot 33 = .ok (.newarray .int, 2) := dk_188_10 (dk_at dksX1_lot_1 10 rfl rfl)
theorem dX1_lot_35 : decode cX1_lot 35 = .ok (.dup, 1) := dk_89 (dk_at dksX1_lot_1 12 rfl rfl)
theorem dX1_lot_36 : decode cX1_lot 36 = .ok (.iconst 0, 1) := dk_3 (dk_at dksX1_lot_1 13 rfl rfl)
theorem dX1_lot_37 : decode cX1_lot 37 = .ok (.iload_n 3, 1) := dk_29 (dk_at dksX1_lot_1 14 rfl rfl)
theorem dX1_lot_38 : decode cX1_lot 38 = .ok (.iastore, 1) := dk_79 (dk_at dksX1_lot_1 15 rfl rfl)
theorem dX1_lot_39 : decode cX1_lot 39 = .ok (.invokestatic 114, 3) := dk_184 0 114 (dk_at dksX1_lot_1 16 rfl rfl)
theorem dX1_lot_42 : decode cX1_lot 42 = .ok (.ifCond .eq 25, 3) := dk_153 0 25 (dk_at dksX1_lot_1 19 rfl rfl)
theorem dX1_lot_45 : decode cX1_lot 45 = .ok (.iconst 1, 1) := dk_4 (dk_at dksX1_lot_1 22 rfl rfl)
theorem dX1_lot_46 : decode cX1_lot 46 = .ok (.sipush 500, 3) := dk_17 1 244 (dk_at dksX1_lot_2 0 rfl rfl)
theorem dX1_lot_49 : decode cX1_lot 49 = .ok (.iconst 1, 1) := dk_4 (dk_at dksX1_lot_2 3 rfl rfl)
theorem dX1_lot_50 : decode cX1_lot 50 = .ok (.newarray .int, 2) := dk_188_10 (dk_at dksX1_lot_2 4 rfl rfl)
theorem dX1_lot_52 : decode cX1_lot 52 = .ok (.dup, 1) := dk_89 (dk_at dksX1_lot_2 6 rfl rfl)
theorem dX1_lot_53 : decode cX1_lot 53 = .ok (.iconst 0, 1) := dk_3 (dk_at dksX1_lot_2 7 rfl rfl)
theorem dX1_lot_54 : decode cX1_lot 54 = .ok (.iload 4, 2) := dk_21 4 (dk_at dksX1_lot_2 8 rfl rfl)
theorem dX1_lot_56 : decode cX1_lot 56 = .ok (.iastore, 1) := dk_79 (dk_at dksX1_lot_2 10 rfl rfl)
theorem dX1_lot_57 : decode cX1_lot 57 = .ok (.invokestatic 114, 3) := dk_184 0 114 (dk_at dksX1_lot_2 11 rfl rfl)
theorem dX1_lot_60 : decode cX1_lot 60 = .ok (.ifCond .eq 7, 3) := dk_153 0 7 (dk_at dksX1_lot_2 14 rfl rfl)
theorem dX1_lot_63 : decode cX1_lot 63 = .ok (.iconst 1, 1) := dk_4 (dk_at dksX1_lot_2 17 rfl rfl)
theorem dX1_lot_64 : decode cX1_lot 64 = .ok (.goto 4, 3) := dk_167 0 4 (dk_at dksX1_lot_2 18 rfl rfl)
theorem dX1_lot_67 : decode cX1_lot 67 = .ok (.iconst 0, 1) := dk_3 (dk_at dksX1_lot_2 21 rfl rfl)
theorem dX1_lot_68 : decode cX1_lot 68 = .ok (.invokestatic 118, 3) := dk_184 0 118 (dk_at dksX1_lot_3 0 rfl rfl)
theorem dX1_lot_71 : decode cX1_lot 71 = .ok (.aload_n 0, 1) := dk_42 (dk_at dksX1_lot_3 3 rfl rfl)
theorem dX1_lot_72 : decode cX1_lot 72 = .ok (.getfield 67, 3) := dk_180 0 67 (dk_at dksX1_lot_3 4 rfl rfl)
theorem dX1_lot_75 : decode cX1_lot 75 = .ok (.invokeinterface 7 1, 5) := by decide +kernel
theorem dX1_lot_80 : decode cX1_lot 80 = .ok (.bipush 16, 2) := dk_16 16 (dk_at dksX1_lot_3 12 rfl rfl)
theorem dX1_lot_82 : decode cX1_lot 82 = .ok (.if_icmp .ge 7, 3) := dk_162 0 7 (dk_at dksX1_lot_3 14 rfl rfl)
theorem dX1_lot_85 : decode cX1_lot 85 = .ok (.iconst 1, 1) := dk_4 (dk_at dksX1_lot_3 17 rfl rfl)
theorem dX1_lot_86 : decode cX1_lot 86 = .ok (.goto 4, 3) := dk_167 0 4 (dk_at dksX1_lot_3 18 rfl rfl)
theorem dX1_lot_89 : decode cX1_lot 89 = .ok (.iconst 0, 1) := dk_3 (dk_at dksX1_lot_3 21 rfl rfl)
theorem dX1_lot_90 : decode cX1_lot 90 = .ok (.invokestatic 126, 3) := dk_184 0 126 (dk_at dksX1_lot_4 0 rfl rfl)
theorem dX1_lot_93 : decode cX1_lot 93 = .ok (.aload_n 0, 1) := dk_42 (dk_at dksX1_lot_4 3 rfl rfl)
theorem dX1_lot_94 : decode cX1_lot 94 = .ok (.getfield 67, 3) := dk_180 0 67 (dk_at dksX1_lot_4 4 rfl rfl)
theorem dX1_lot_97 : decode cX1_lot 97 = .ok (.invokeinterface 7 1, 5) := by decide +kernel
theorem dX1_lot_102 : decode cX1_lot 102 = .ok (.istore 5, 2) := dk_54 5 (dk_at dksX1_lot_4 12 rfl rfl)
theorem dX1_lot_104 : decode cX1_lot 104 = .ok (.aload_n 0, 1) := dk_42 (dk_at dksX1_lot_4 14 rfl rfl)
theorem dX1_lot_105 : decode cX1_lot 105 = .ok (.getfield 67, 3) := dk_180 0 67 (dk_at dksX1_lot_4 15 rfl rfl)
theorem dX1_lot_108 : decode cX1_lot 108 = .ok (.iload_n 1, 1) := dk_27 (dk_at dksX1_lot_4 18 rfl rfl)
theorem dX1_lot_109 : decode cX1_lot 109 = .ok (.bipush 103, 2) := dk_16 103 (dk_at dksX1_lot_4 19 rfl rfl)
theorem dX1_lot_111 : decode cX1_lot 111 = .ok (.if_icmp .ne 31, 3) := dk_160 0 31 (dk_at dksX1_lot_4 21 rfl rfl)
theorem dX1_lot_114 : decode cX1_lot 114 = .ok (.new 152, 3) := dk_187 0 152 (dk_at dksX1_lot_5 0 rfl rfl)
theorem dX1_lot_117 : decode cX1_lot 117 = .ok (.dup, 1) := dk_89 (dk_at dksX1_lot_5 3 rfl rfl)
theorem dX1_lot_118 : decode cX1_lot 118 = .ok (.iload 5, 2) := dk_21 5 (dk_at dksX1_lot_5 4 rfl rfl)
theorem dX1_lot_120 : decode cX1_lot 120 = .ok (.iconst 3, 1) := dk_6 (dk_at dksX1_lot_5 6 rfl rfl)
theorem dX1_lot_121 : decode cX1_lot 121 = .ok (.newarray .int, 2) := dk_188_10 (dk_at dksX1_lot_5 7 rfl rfl)
theorem dX1_lot_123 : decode cX1_lot 123 = .ok (.dup, 1) := dk_89 (dk_at dksX1_lot_5 9 rfl rfl)
theorem dX1_lot_124 : decode cX1_lot 124 = .ok (.iconst 0, 1) := dk_3 (dk_at dksX1_lot_5 10 rfl rfl)
theorem dX1_lot_125 : decode cX1_lot 125 = .ok (.iload_n 2, 1) := dk_28 (dk_at dksX1_lot_5 11 rfl rfl)
theorem dX1_lot_126 : decode cX1_lot 126 = .ok (.iastore, 1) := dk_79 (dk_at dksX1_lot_5 12 rfl rfl)
theorem dX1_lot_127 : decode cX1_lot 127 = .ok (.dup, 1) := dk_89 (dk_at dksX1_lot_5 13 rfl rfl)
theorem dX1_lot_128 : decode cX1_lot 128 = .ok (.iconst 1, 1) := dk_4 (dk_at dksX1_lot_5 14 rfl rfl)
theorem dX1_lot_129 : decode cX1_lot 129 = .ok (.iload_n 3, 1) := dk_29 (dk_at dksX1_lot_5 15 rfl rfl)
theorem dX1_lot_130 : decode cX1_lot 130 = .ok (.iastore, 1) := dk_79 (dk_at dksX1_lot_5 16 rfl rfl)
theorem dX1_lot_131 : decode cX1_lot 131 = .ok (.dup, 1) := dk_89 (dk_at dksX1_lot_5 17 rfl rfl)
theorem dX1_lot_132 : decode cX1_lot 132 = .ok (.iconst 2, 1) := dk_5 (dk_at dksX1_lot_5 18 rfl rfl)
theorem dX1_lot_133 : decode cX1_lot 133 = .ok (.iload 4, 2) := dk_21 4 (dk_at dksX1_lot_5 19 rfl rfl)
theorem dX1_lot_135 : decode cX1_lot 135 = .ok (.iastore, 1) := dk_79 (dk_at dksX1_lot_5 21 rfl rfl)
theorem dX1_lot_136 : decode cX1_lot 136 = .ok (.invokespecial 154, 3) := dk_183 0 154 (dk_at dksX1_lot_6 0 rfl rfl)
theorem dX1_lot_139 : decode cX1_lot 139 = .ok (.goto 28, 3) := dk_167 0 28 (dk_at dksX1_lot_6 3 rfl rfl)
theorem dX1_lot_142 : decode cX1_lot 142 = .ok (.new 157, 3) := dk_187 0 157 (dk_at dksX1_lot_6 6 rfl rfl)
theorem dX1_lot_145 : decode cX1_lot 145 = .ok (.dup, 1) := dk_89 (dk_at dksX1_lot_6 9 rfl rfl)
theorem dX1_lot_146 : decode cX1_lot 146 = .ok (.iload 5, 2) := dk_21 5 (dk_at dksX1_lot_6 10 rfl rfl)
theorem dX1_lot_148 : decode cX1_lot 148 = .ok (.iconst 3, 1) := dk_6 (dk_at dksX1_lot_6 12 rfl rfl)
theorem dX1_lot_149 : decode cX1_lot 149 = .ok (.newarray .int, 2) := dk_188_10 (dk_at dksX1_lot_6 13 rfl rfl)
theorem dX1_lot_151 : decode cX1_lot 151 = .ok (.dup, 1) := dk_89 (dk_at dksX1_lot_6 15 rfl rfl)
theorem dX1_lot_152 : decode cX1_lot 152 = .ok (.iconst 0, 1) := dk_3 (dk_at dksX1_lot_6 16 rfl rfl)
theorem dX1_lot_153 : decode cX1_lot 153 = .ok (.iload_n 2, 1) := dk_28 (dk_at dksX1_lot_6 17 rfl rfl)
theorem dX1_lot_154 : decode cX1_lot 154 = .ok (.iastore, 1) := dk_79 (dk_at dksX1_lot_6 18 rfl rfl)
theorem dX1_lot_155 : decode cX1_lot 155 = .ok (.dup, 1) := dk_89 (dk_at dksX1_lot_6 19 rfl rfl)
theorem dX1_lot_156 : decode cX1_lot 156 = .ok (.iconst 1, 1) := dk_4 (dk_at dksX1_lot_6 20 rfl rfl)
theorem dX1_lot_157 : decode cX1_lot 157 = .ok (.iload_n 3, 1) := dk_29 (dk_at dksX1_lot_6 21 rfl rfl)
theorem dX1_lot_158 : decode cX1_lot 158 = .ok (.iastore, 1) := dk_79 (dk_at dksX1_lot_6 22 rfl rfl)
theorem dX1_lot_159 : decode cX1_lot 159 = .ok (.dup, 1) := dk_89 (dk_at dksX1_lot_6 23 rfl rfl)
theorem dX1_lot_160 : decode cX1_lot 160 = .ok (.iconst 2, 1) := dk_5 (dk_at dksX1_lot_7 0 rfl rfl)
theorem dX1_lot_161 : decode cX1_lot 161 = .ok (.iload 4, 2) := dk_21 4 (dk_at dksX1_lot_7 1 rfl rfl)
theorem dX1_lot_163 : decode cX1_lot 163 = .ok (.iastore, 1) := dk_79 (dk_at dksX1_lot_7 3 rfl rfl)
theorem dX1_lot_164 : decode cX1_lot 164 = .ok (.invokespecial 159, 3) := dk_183 0 159 (dk_at dksX1_lot_7 4 rfl rfl)
theorem dX1_lot_167 : decode cX1_lot 167 = .ok (.invokeinterface 160 2, 5) := by decide +kernel
theorem dX1_lot_172 : decode cX1_lot 172 = .ok (.pop, 1) := dk_87 (dk_at dksX1_lot_7 12 rfl rfl)
theorem dX1_lot_173 : decode cX1_lot 173 = .ok (.iload 5, 2) := dk_21 5 (dk_at dksX1_lot_7 13 rfl rfl)
theorem dX1_lot_175 : decode cX1_lot 175 = .ok (.ireturn, 1) := dk_172 (dk_at dksX1_lot_7 15 rfl rfl)
abbrev cX1_kilos : ByteArray := prog_1_method_18_code
def yX1_kilos : MethodName := ⟨RX1, "kilos", "(I)I"⟩
def dkwX1_kilos_0 : List UInt8 := [42, 180, 0, 67, 27, 184, 0, 164, 192, 0, 168, 180, 0, 170, 172]
abbrev dktX1_kilos_0 : List UInt8 := dkwX1_kilos_0 ++ []
theorem dksX1_kilos_0 : cX1_kilos.data.toList.drop 0 = dktX1_kilos_0 := by decide +kernel
theorem dX1_kilos_0 : decode cX1_kilos 0 = .ok (.aload_n 0, 1) := dk_42 (dk_at dksX1_kilos_0 0 rfl rfl)
theorem dX1_kilos_1 : decode cX1_kilos 1 = .ok (.getfield 67, 3) := dk_180 0 67 (dk_at dksX1_kilos_0 1 rfl rfl)
theorem dX1_kilos_4 : decode cX1_kilos 4 = .ok (.iload_n 1, 1) := dk_27 (dk_at dksX1_kilos_0 4 rfl rfl)
theorem dX1_kilos_5 : decode cX1_kilos 5 = .ok (.invokestatic 164, 3) := dk_184 0 164 (dk_at dksX1_kilos_0 5 rfl rfl)
theorem dX1_kilos_8 : decode cX1_kilos 8 = .ok (.checkcast 168, 3) := dk_192 0 168 (dk_at dksX1_kilos_0 8 rfl rfl)
theorem dX1_kilos_11 : decode cX1_kilos 11 = .ok (.getfield 170, 3) := dk_180 0 170 (dk_at dksX1_kilos_0 11 rfl rfl)
theorem dX1_kilos_14 : decode cX1_kilos 14 = .ok (.ireturn, 1) := dk_172 (dk_at dksX1_kilos_0 14 rfl rfl)
abbrev cX1_require : ByteArray := prog_1_method_2_code
def yX1_require : MethodName := ⟨RX1, "require", "(Ljava/util/List;I)Ljava/lang/Object;"⟩
def dkwX1_require_0 : List UInt8 := [27, 42, 185, 0, 7, 1, 0, 184, 0, 13, 42, 27, 185, 0, 19, 2, 0, 176]
abbrev dktX1_require_0 : List UInt8 := dkwX1_require_0 ++ []
theorem dksX1_require_0 : cX1_require.data.toList.drop 0 = dktX1_require_0 := by decide +kernel
theorem dX1_require_0 : decode cX1_require 0 = .ok (.iload_n 1, 1) := dk_27 (dk_at dksX1_require_0 0 rfl rfl)
theorem dX1_require_1 : decode cX1_require 1 = .ok (.aload_n 0, 1) := dk_42 (dk_at dksX1_require_0 1 rfl rfl)
theorem dX1_require_2 : decode cX1_require 2 = .ok (.invokeinterface 7 1, 5) := by decide +kernel
theorem dX1_require_7 : decode cX1_require 7 = .ok (.invokestatic 13, 3) := dk_184 0 13 (dk_at dksX1_require_0 7 rfl rfl)
theorem dX1_require_10 : decode cX1_require 10 = .ok (.aload_n 0, 1) := dk_42 (dk_at dksX1_require_0 10 rfl rfl)
theorem dX1_require_11 : decode cX1_require 11 = .ok (.iload_n 1, 1) := dk_27 (dk_at dksX1_require_0 11 rfl rfl)
theorem dX1_require_12 : decode cX1_require 12 = .ok (.invokeinterface 19 2, 5) := by decide +kernel
theorem dX1_require_17 : decode cX1_require 17 = .ok (.areturn, 1) := dk_176 (dk_at dksX1_require_0 17 rfl rfl)
abbrev cX1_requireIndex : ByteArray := prog_1_method_1_code
def yX1_requireIndex : MethodName := ⟨RX1, "requireIndex", "(II)V"⟩
def dkwX1_requireIndex_0 : List UInt8 := [26, 155, 0, 8, 26, 27, 161, 0, 11, 187, 0, 1, 89, 183, 0, 3, 191, 177]
abbrev dktX1_requireIndex_0 : List UInt8 := dkwX1_requireIndex_0 ++ []
theorem dksX1_requireIndex_0 : cX1_requireIndex.data.toList.drop 0 = dktX1_requireIndex_0 := by decide +kernel
theorem dX1_requireIndex_0 : decode cX1_requireIndex 0 = .ok (.iload_n 0, 1) := dk_26 (dk_at dksX1_requireIndex_0 0 rfl rfl)
theorem dX1_requireIndex_1 : decode cX1_requireIndex 1 = .ok (.ifCond .lt 8, 3) := dk_155 0 8 (dk_at dksX1_requireIndex_0 1 rfl rfl)
theorem dX1_requireIndex_4 : decode cX1_requireIndex 4 = .ok (.iload_n 0, 1) := dk_26 (dk_at dksX1_requireIndex_0 4 rfl rfl)
theorem dX1_requireIndex_5 : decode cX1_requireIndex 5 = .ok (.iload_n 1, 1) := dk_27 (dk_at dksX1_requireIndex_0 5 rfl rfl)
theorem dX1_requireIndex_6 : decode cX1_requireIndex 6 = .ok (.if_icmp .lt 11, 3) := dk_161 0 11 (dk_at dksX1_requireIndex_0 6 rfl rfl)
theorem dX1_requireIndex_9 : decode cX1_requireIndex 9 = .ok (.new 1, 3) := dk_187 0 1 (dk_at dksX1_requireIndex_0 9 rfl rfl)
theorem dX1_requireIndex_12 : decode cX1_requireIndex 12 = .ok (.dup, 1) := dk_89 (dk_at dksX1_requireIndex_0 12 rfl rfl)
theorem dX1_requireIndex_13 : decode cX1_requireIndex 13 = .ok (.invokespecial 3, 3) := dk_183 0 3 (dk_at dksX1_requireIndex_0 13 rfl rfl)
theorem dX1_requireIndex_16 : decode cX1_requireIndex 16 = .ok (.athrow, 1) := dk_191 (dk_at dksX1_requireIndex_0 16 rfl rfl)
theorem dX1_requireIndex_17 : decode cX1_requireIndex 17 = .ok (.return_, 1) := dk_177 (dk_at dksX1_requireIndex_0 17 rfl rfl)
abbrev cX1_mix : ByteArray := prog_1_method_19_code
def yX1_mix : MethodName := ⟨RX1, "mix", "(IIIII)I"⟩
def dkwX1_mix_8 : List UInt8 := [183, 0, 178, 185, 0, 160, 2, 0, 87, 42, 180, 0, 71, 185, 0, 7, 1, 0, 4, 100, 172]
abbrev dktX1_mix_8 : List UInt8 := dkwX1_mix_8 ++ []
def dkwX1_mix_7 : List UInt8 := [21, 4, 100, 181, 0, 170, 42, 180, 0, 71, 187, 0, 176, 89, 25, 6, 25, 7, 29, 21, 4, 21, 5]
abbrev dktX1_mix_7 : List UInt8 := dkwX1_mix_7 ++ dktX1_mix_8
def dkwX1_mix_6 : List UInt8 := [167, 0, 4, 3, 184, 0, 126, 25, 6, 89, 180, 0, 170, 29, 100, 181, 0, 170, 25, 7, 89, 180, 0, 170]
abbrev dktX1_mix_6 : List UInt8 := dkwX1_mix_6 ++ dktX1_mix_7
def dkwX1_mix_5 : List UInt8 := [167, 0, 4, 3, 184, 0, 137, 42, 180, 0, 71, 185, 0, 7, 1, 0, 16, 12, 162, 0, 7, 4]
abbrev dktX1_mix_5 : List UInt8 := dkwX1_mix_5 ++ dktX1_mix_6
def dkwX1_mix_4 : List UInt8 := [161, 0, 26, 25, 7, 180, 0, 170, 21, 4, 161, 0, 16, 42, 16, 109, 182, 0, 173, 153, 0, 7, 4]
abbrev dktX1_mix_4 : List UInt8 := dkwX1_mix_4 ++ dktX1_mix_5
def dkwX1_mix_3 : List UInt8 := [193, 0, 157, 153, 0, 7, 4, 167, 0, 4, 3, 54, 8, 21, 8, 153, 0, 35, 25, 6, 180, 0, 170, 29]
abbrev dktX1_mix_3 : List UInt8 := dkwX1_mix_3 ++ dktX1_mix_4
def dkwX1_mix_2 : List UInt8 := [184, 0, 114, 153, 0, 7, 4, 167, 0, 4, 3, 184, 0, 118, 25, 6, 193, 0, 152, 153, 0, 15, 25, 7]
abbrev dktX1_mix_2 : List UInt8 := dkwX1_mix_2 ++ dktX1_mix_3
def dkwX1_mix_1 : List UInt8 := [58, 7, 29, 4, 161, 0, 30, 21, 4, 4, 161, 0, 24, 4, 16, 9, 4, 188, 10, 89, 3, 21, 5, 79]
abbrev dktX1_mix_1 : List UInt8 := dkwX1_mix_1 ++ dktX1_mix_2
def dkwX1_mix_0 : List UInt8 := [42, 180, 0, 67, 27, 184, 0, 164, 192, 0, 168, 58, 6, 42, 180, 0, 67, 28, 184, 0, 164, 192, 0, 168]
abbrev dktX1_mix_0 : List UInt8 := dkwX1_mix_0 ++ dktX1_mix_1
theorem dksX1_mix_0 : cX1_mix.data.toList.drop 0 = dktX1_mix_0 := by decide +kernel
theorem dksX1_mix_1 : cX1_mix.data.toList.drop 24 = dktX1_mix_1 := dk_seg dksX1_mix_0 24 rfl rfl
theorem dksX1_mix_2 : cX1_mix.data.toList.drop 48 = dktX1_mix_2 := dk_seg dksX1_mix_1 24 rfl rfl
theorem dksX1_mix_3 : cX1_mix.data.toList.drop 72 = dktX1_mix_3 := dk_seg dksX1_mix_2 24 rfl rfl
theorem dksX1_mix_4 : cX1_mix.data.toList.drop 96 = dktX1_mix_4 := dk_seg dksX1_mix_3 24 rfl rfl
theorem dksX1_mix_5 : cX1_mix.data.toList.drop 119 = dktX1_mix_5 := dk_seg dksX1_mix_4 23 rfl rfl
theorem dksX1_mix_6 : cX1_mix.data.toList.drop 141 = dktX1_mix_6 := dk_seg dksX1_mix_5 22 rfl rfl
theorem dksX1_mix_7 : cX1_mix.data.toList.drop 165 = dktX1_mix_7 := dk_seg dksX1_mix_6 24 rfl rfl
theorem dksX1_mix_8 : cX1_mix.data.toList.drop 188 = dktX1_mix_8 := dk_seg dksX1_mix_7 23 rfl rfl
theorem dX1_mix_0 : decode cX1_mix 0 = .ok (.aload_n 0, 1) := dk_42 (dk_at dksX1_mix_0 0 rfl rfl)
theorem dX1_mix_1 : decode cX1_mix 1 = .ok (.getfield 67, 3) := dk_180 0 67 (dk_at dksX1_mix_0 1 rfl rfl)
theorem dX1_mix_4 : decode cX1_mix 4 = .ok (.iload_n 1, 1) := dk_27 (dk_at dksX1_mix_0 4 rfl rfl)
theorem dX1_mix_5 : decode cX1_mix 5 = .ok (.invokestatic 164, 3) := dk_184 0 164 (dk_at dksX1_mix_0 5 rfl rfl)
theorem dX1_mix_8 : decode cX1_mix 8 = .ok (.checkcast 168, 3) := dk_192 0 168 (dk_at dksX1_mix_0 8 rfl rfl)
theorem dX1_mix_11 : decode cX1_mix 11 = .ok (.astore 6, 2) := dk_58 6 (dk_at dksX1_mix_0 11 rfl rfl)
theorem dX1_mix_13 : decode cX1_mix 13 = .ok (.aload_n 0, 1) := dk_42 (dk_at dksX1_mix_0 13 rfl rfl)
theorem dX1_mix_14 : decode cX1_mix 14 = .ok (.getfield 67, 3) := dk_180 0 67 (dk_at dksX1_mix_0 14 rfl rfl)
theorem dX1_mix_17 : decode cX1_mix 17 = .ok (.iload_n 2, 1) := dk_28 (dk_at dksX1_mix_0 17 rfl rfl)
theorem dX1_mix_18 : decode cX1_mix 18 = .ok (.invokestatic 164, 3) := dk_184 0 164 (dk_at dksX1_mix_0 18 rfl rfl)
theorem dX1_mix_21 : decode cX1_mix 21 = .ok (.checkcast 168, 3) := dk_192 0 168 (dk_at dksX1_mix_0 21 rfl rfl)
theorem dX1_mix_24 : decode cX1_mix 24 = .ok (.astore 7, 2) := dk_58 7 (dk_at dksX1_mix_1 0 rfl rfl)
theorem dX1_mix_26 : decode cX1_mix 26 = .ok (.iload_n 3, 1) := dk_29 (dk_at dksX1_mix_1 2 rfl rfl)
theorem dX1_mix_27 : decode cX1_mix 27 = .ok (.iconst 1, 1) := dk_4 (dk_at dksX1_mix_1 3 rfl rfl)
theorem dX1_mix_28 : decode cX1_mix 28 = .ok (.if_icmp .lt 30, 3) := dk_161 0 30 (dk_at dksX1_mix_1 4 rfl rfl)
theorem dX1_mix_31 : decode cX1_mix 31 = .ok (.iload 4, 2) := dk_21 4 (dk_at dksX1_mix_1 7 rfl rfl)
theorem dX1_mix_33 : decode cX1_mix 33 = .ok (.iconst 1, 1) := dk_4 (dk_at dksX1_mix_1 9 rfl rfl)
theorem dX1_mix_34 : decode cX1_mix 34 = .ok (.if_icmp .lt 24, 3) := dk_161 0 24 (dk_at dksX1_mix_1 10 rfl rfl)
theorem dX1_mix_37 : decode cX1_mix 37 = .ok (.iconst 1, 1) := dk_4 (dk_at dksX1_mix_1 13 rfl rfl)
theorem dX1_mix_38 : decode cX1_mix 38 = .ok (.bipush 9, 2) := dk_16 9 (dk_at dksX1_mix_1 14 rfl rfl)
theorem dX1_mix_40 : decode cX1_mix 40 = .ok (.iconst 1, 1) := dk_4 (dk_at dksX1_mix_1 16 rfl rfl)
theorem dX1_mix_41 : decode cX1_mix 41 = .ok (.newarray .int, 2) := dk_188_10 (dk_at dksX1_mix_1 17 rfl rfl)
theorem dX1_mix_43 : decode cX1_mix 43 = .ok (.dup, 1) := dk_89 (dk_at dksX1_mix_1 19 rfl rfl)
theorem dX1_mix_44 : decode cX1_mix 44 = .ok (.iconst 0, 1) := dk_3 (dk_at dksX1_mix_1 20 rfl rfl)
theorem dX1_mix_45 : decode cX1_mix 45 = .ok (.iload 5, 2) := dk_21 5 (dk_at dksX1_mix_1 21 rfl rfl)
theorem dX1_mix_47 : decode cX1_mix 47 = .ok (.iastore, 1) := dk_79 (dk_at dksX1_mix_1 23 rfl rfl)
theorem dX1_mix_48 : decode cX1_mix 48 = .ok (.invokestatic 114, 3) := dk_184 0 114 (dk_at dksX1_mix_2 0 rfl rfl)
theorem dX1_mix_51 : decode cX1_mix 51 = .ok (.ifCond .eq 7, 3) := dk_153 0 7 (dk_at dksX1_mix_2 3 rfl rfl)
theorem dX1_mix_54 : decode cX1_mix 54 = .ok (.iconst 1, 1) := dk_4 (dk_at dksX1_mix_2 6 rfl rfl)
theorem dX1_mix_55 : decode cX1_mix 55 = .ok (.goto 4, 3) := dk_167 0 4 (dk_at dksX1_mix_2 7 rfl rfl)
theorem dX1_mix_58 : decode cX1_mix 58 = .ok (.iconst 0, 1) := dk_3 (dk_at dksX1_mix_2 10 rfl rfl)
theorem dX1_mix_59 : decode cX1_mix 59 = .ok (.invokestatic 118, 3) := dk_184 0 118 (dk_at dksX1_mix_2 11 rfl rfl)
theorem dX1_mix_62 : decode cX1_mix 62 = .ok (.aload 6, 2) := dk_25 6 (dk_at dksX1_mix_2 14 rfl rfl)
theorem dX1_mix_64 : decode cX1_mix 64 = .ok (.instanceof 152, 3) := dk_193 0 152 (dk_at dksX1_mix_2 16 rfl rfl)
theorem dX1_mix_67 : decode cX1_mix 67 = .ok (.ifCond .eq 15, 3) := dk_153 0 15 (dk_at dksX1_mix_2 19 rfl rfl)
theorem dX1_mix_70 : decode cX1_mix 70 = .ok (.aload 7, 2) := dk_25 7 (dk_at dksX1_mix_2 22 rfl rfl)
theorem dX1_mix_72 : decode cX1_mix 72 = .ok (.instanceof 157, 3) := dk_193 0 157 (dk_at dksX1_mix_3 0 rfl rfl)
theorem dX1_mix_75 : decode cX1_mix 75 = .ok (.ifCond .eq 7, 3) := dk_153 0 7 (dk_at dksX1_mix_3 3 rfl rfl)
theorem dX1_mix_78 : decode cX1_mix 78 = .ok (.iconst 1, 1) := dk_4 (dk_at dksX1_mix_3 6 rfl rfl)
theorem dX1_mix_79 : decode cX1_mix 79 = .ok (.goto 4, 3) := dk_167 0 4 (dk_at dksX1_mix_3 7 rfl rfl)
theorem dX1_mix_82 : decode cX1_mix 82 = .ok (.iconst 0, 1) := dk_3 (dk_at dksX1_mix_3 10 rfl rfl)
theorem dX1_mix_83 : decode cX1_mix 83 = .ok (.istore 8, 2) := dk_54 8 (dk_at dksX1_mix_3 11 rfl rfl)
theorem dX1_mix_85 : decode cX1_mix 85 = .ok (.iload 8, 2) := dk_21 8 (dk_at dksX1_mix_3 13 rfl rfl)
theorem dX1_mix_87 : decode cX1_mix 87 = .ok (.ifCond .eq 35, 3) := dk_153 0 35 (dk_at dksX1_mix_3 15 rfl rfl)
theorem dX1_mix_90 : decode cX1_mix 90 = .ok (.aload 6, 2) := dk_25 6 (dk_at dksX1_mix_3 18 rfl rfl)
theorem dX1_mix_92 : decode cX1_mix 92 = .ok (.getfield 170, 3) := dk_180 0 170 (dk_at dksX1_mix_3 20 rfl rfl)
theorem dX1_mix_95 : decode cX1_mix 95 = .ok (.iload_n 3, 1) := dk_29 (dk_at dksX1_mix_3 23 rfl rfl)
theorem dX1_mix_96 : decode cX1_mix 96 = .ok (.if_icmp .lt 26, 3) := dk_161 0 26 (dk_at dksX1_mix_4 0 rfl rfl)
theorem dX1_mix_99 : decode cX1_mix 99 = .ok (.aload 7, 2) := dk_25 7 (dk_at dksX1_mix_4 3 rfl rfl)
theorem dX1_mix_101 : decode cX1_mix 101 = .ok (.getfield 170, 3) := dk_180 0 170 (dk_at dksX1_mix_4 5 rfl rfl)
theorem dX1_mix_104 : decode cX1_mix 104 = .ok (.iload 4, 2) := dk_21 4 (dk_at dksX1_mix_4 8 rfl rfl)
theorem dX1_mix_106 : decode cX1_mix 106 = .ok (.if_icmp .lt 16, 3) := dk_161 0 16 (dk_at dksX1_mix_4 10 rfl rfl)
theorem dX1_mix_109 : decode cX1_mix 109 = .ok (.aload_n 0, 1) := dk_42 (dk_at dksX1_mix_4 13 rfl rfl)
theorem dX1_mix_110 : decode cX1_mix 110 = .ok (.bipush 109, 2) := dk_16 109 (dk_at dksX1_mix_4 14 rfl rfl)
theorem dX1_mix_112 : decode cX1_mix 112 = .ok (.invokevirtual 173, 3) := dk_182 0 173 (dk_at dksX1_mix_4 16 rfl rfl)
theorem dX1_mix_115 : decode cX1_mix 115 = .ok (.ifCond .eq 7, 3) := dk_153 0 7 (dk_at dksX1_mix_4 19 rfl rfl)
theorem dX1_mix_118 : decode cX1_mix 118 = .ok (.iconst 1, 1) := dk_4 (dk_at dksX1_mix_4 22 rfl rfl)
theorem dX1_mix_119 : decode cX1_mix 119 = .ok (.goto 4, 3) := dk_167 0 4 (dk_at dksX1_mix_5 0 rfl rfl)
theorem dX1_mix_122 : decode cX1_mix 122 = .ok (.iconst 0, 1) := dk_3 (dk_at dksX1_mix_5 3 rfl rfl)
theorem dX1_mix_123 : decode cX1_mix 123 = .ok (.invokestatic 137, 3) := dk_184 0 137 (dk_at dksX1_mix_5 4 rfl rfl)
theorem dX1_mix_126 : decode cX1_mix 126 = .ok (.aload_n 0, 1) := dk_42 (dk_at dksX1_mix_5 7 rfl rfl)
theorem dX1_mix_127 : decode cX1_mix 127 = .ok (.getfield 71, 3) := dk_180 0 71 (dk_at dksX1_mix_5 8 rfl rfl)
theorem dX1_mix_130 : decode cX1_mix 130 = .ok (.invokeinterface 7 1, 5) := by decide +kernel
theorem dX1_mix_135 : decode cX1_mix 135 = .ok (.bipush 12, 2) := dk_16 12 (dk_at dksX1_mix_5 16 rfl rfl)
theorem dX1_mix_137 : decode cX1_mix 137 = .ok (.if_icmp .ge 7, 3) := dk_162 0 7 (dk_at dksX1_mix_5 18 rfl rfl)
theorem dX1_mix_140 : decode cX1_mix 140 = .ok (.iconst 1, 1) := dk_4 (dk_at dksX1_mix_5 21 rfl rfl)
theorem dX1_mix_141 : decode cX1_mix 141 = .ok (.goto 4, 3) := dk_167 0 4 (dk_at dksX1_mix_6 0 rfl rfl)
theorem dX1_mix_144 : decode cX1_mix 144 = .ok (.iconst 0, 1) := dk_3 (dk_at dksX1_mix_6 3 rfl rfl)
theorem dX1_mix_145 : decode cX1_mix 145 = .ok (.invokestatic 126, 3) := dk_184 0 126 (dk_at dksX1_mix_6 4 rfl rfl)
theorem dX1_mix_148 : decode cX1_mix 148 = .ok (.aload 6, 2) := dk_25 6 (dk_at dksX1_mix_6 7 rfl rfl)
theorem dX1_mix_150 : decode cX1_mix 150 = .ok (.dup, 1) := dk_89 (dk_at dksX1_mix_6 9 rfl rfl)
theorem dX1_mix_151 : decode cX1_mix 151 = .ok (.getfield 170, 3) := dk_180 0 170 (dk_at dksX1_mix_6 10 rfl rfl)
theorem dX1_mix_154 : decode cX1_mix 154 = .ok (.iload_n 3, 1) := dk_29 (dk_at dksX1_mix_6 13 rfl rfl)
theorem dX1_mix_155 : decode cX1_mix 155 = .ok (.isub, 1) := dk_100 (dk_at dksX1_mix_6 14 rfl rfl)
theorem dX1_mix_156 : decode cX1_mix 156 = .ok (.putfield 170, 3) := dk_181 0 170 (dk_at dksX1_mix_6 15 rfl rfl)
theorem dX1_mix_159 : decode cX1_mix 159 = .ok (.aload 7, 2) := dk_25 7 (dk_at dksX1_mix_6 18 rfl rfl)
theorem dX1_mix_161 : decode cX1_mix 161 = .ok (.dup, 1) := dk_89 (dk_at dksX1_mix_6 20 rfl rfl)
theorem dX1_mix_162 : decode cX1_mix 162 = .ok (.getfield 170, 3) := dk_180 0 170 (dk_at dksX1_mix_6 21 rfl rfl)
theorem dX1_mix_165 : decode cX1_mix 165 = .ok (.iload 4, 2) := dk_21 4 (dk_at dksX1_mix_7 0 rfl rfl)
theorem dX1_mix_167 : decode cX1_mix 167 = .ok (.isub, 1) := dk_100 (dk_at dksX1_mix_7 2 rfl rfl)
theorem dX1_mix_168 : decode cX1_mix 168 = .ok (.putfield 170, 3) := dk_181 0 170 (dk_at dksX1_mix_7 3 rfl rfl)
theorem dX1_mix_171 : decode cX1_mix 171 = .ok (.aload_n 0, 1) := dk_42 (dk_at dksX1_mix_7 6 rfl rfl)
theorem dX1_mix_172 : decode cX1_mix 172 = .ok (.getfield 71, 3) := dk_180 0 71 (dk_at dksX1_mix_7 7 rfl rfl)
theorem dX1_mix_175 : decode cX1_mix 175 = .ok (.new 176, 3) := dk_187 0 176 (dk_at dksX1_mix_7 10 rfl rfl)
theorem dX1_mix_178 : decode cX1_mix 178 = .ok (.dup, 1) := dk_89 (dk_at dksX1_mix_7 13 rfl rfl)
theorem dX1_mix_179 : decode cX1_mix 179 = .ok (.aload 6, 2) := dk_25 6 (dk_at dksX1_mix_7 14 rfl rfl)
theorem dX1_mix_181 : decode cX1_mix 181 = .ok (.aload 7, 2) := dk_25 7 (dk_at dksX1_mix_7 16 rfl rfl)
theorem dX1_mix_183 : decode cX1_mix 183 = .ok (.iload_n 3, 1) := dk_29 (dk_at dksX1_mix_7 18 rfl rfl)
theorem dX1_mix_184 : decode cX1_mix 184 = .ok (.iload 4, 2) := dk_21 4 (dk_at dksX1_mix_7 19 rfl rfl)
theorem dX1_mix_186 : decode cX1_mix 186 = .ok (.iload 5, 2) := dk_21 5 (dk_at dksX1_mix_7 21 rfl rfl)
theorem dX1_mix_188 : decode cX1_mix 188 = .ok (.invokespecial 178, 3) := dk_183 0 178 (dk_at dksX1_mix_8 0 rfl rfl)
theorem dX1_mix_191 : decode cX1_mix 191 = .ok (.invokeinterface 160 2, 5) := by decide +kernel
theorem dX1_mix_196 : decode cX1_mix 196 = .ok (.pop, 1) := dk_87 (dk_at dksX1_mix_8 8 rfl rfl)
theorem dX1_mix_197 : decode cX1_mix 197 = .ok (.aload_n 0, 1) := dk_42 (dk_at dksX1_mix_8 9 rfl rfl)
theorem dX1_mix_198 : decode cX1_mix 198 = .ok (.getfield 71, 3) := dk_180 0 71 (dk_at dksX1_mix_8 10 rfl rfl)
theorem dX1_mix_201 : decode cX1_mix 201 = .ok (.invokeinterface 7 1, 5) := by decide +kernel
theorem dX1_mix_206 : decode cX1_mix 206 = .ok (.iconst 1, 1) := dk_4 (dk_at dksX1_mix_8 18 rfl rfl)
theorem dX1_mix_207 : decode cX1_mix 207 = .ok (.isub, 1) := dk_100 (dk_at dksX1_mix_8 19 rfl rfl)
theorem dX1_mix_208 : decode cX1_mix 208 = .ok (.ireturn, 1) := dk_172 (dk_at dksX1_mix_8 20 rfl rfl)
abbrev cX1_mixture : ByteArray := prog_1_method_20_code
def yX1_mixture : MethodName := ⟨RX1, "mixture", "(IC)I"⟩
def dkwX1_mixture_2 : List UInt8 := [160, 0, 10, 45, 180, 0, 186, 167, 0, 7, 45, 180, 0, 189, 172]
abbrev dktX1_mixture_2 : List UInt8 := dkwX1_mixture_2 ++ []
def dkwX1_mixture_1 : List UInt8 := [167, 0, 4, 3, 184, 0, 118, 28, 16, 99, 160, 0, 10, 45, 180, 0, 183, 167, 0, 20, 28, 16, 102]
abbrev dktX1_mixture_1 : List UInt8 := dkwX1_mixture_1 ++ dktX1_mixture_2
def dkwX1_mixture_0 : List UInt8 := [42, 180, 0, 71, 27, 184, 0, 164, 192, 0, 176, 78, 18, 181, 28, 182, 0, 129, 155, 0, 7, 4]
abbrev dktX1_mixture_0 : List UInt8 := dkwX1_mixture_0 ++ dktX1_mixture_1
theorem dksX1_mixture_0 : cX1_mixture.data.toList.drop 0 = dktX1_mixture_0 := by decide +kernel
theorem dksX1_mixture_1 : cX1_mixture.data.toList.drop 22 = dktX1_mixture_1 := dk_seg dksX1_mixture_0 22 rfl rfl
theorem dksX1_mixture_2 : cX1_mixture.data.toList.drop 45 = dktX1_mixture_2 := dk_seg dksX1_mixture_1 23 rfl rfl
theorem dX1_mixture_0 : decode cX1_mixture 0 = .ok (.aload_n 0, 1) := dk_42 (dk_at dksX1_mixture_0 0 rfl rfl)
theorem dX1_mixture_1 : decode cX1_mixture 1 = .ok (.getfield 71, 3) := dk_180 0 71 (dk_at dksX1_mixture_0 1 rfl rfl)
theorem dX1_mixture_4 : decode cX1_mixture 4 = .ok (.iload_n 1, 1) := dk_27 (dk_at dksX1_mixture_0 4 rfl rfl)
theorem dX1_mixture_5 : decode cX1_mixture 5 = .ok (.invokestatic 164, 3) := dk_184 0 164 (dk_at dksX1_mixture_0 5 rfl rfl)
theorem dX1_mixture_8 : decode cX1_mixture 8 = .ok (.checkcast 176, 3) := dk_192 0 176 (dk_at dksX1_mixture_0 8 rfl rfl)
theorem dX1_mixture_11 : decode cX1_mixture 11 = .ok (.astore_n 3, 1) := dk_78 (dk_at dksX1_mixture_0 11 rfl rfl)
theorem dX1_mixture_12 : decode cX1_mixture 12 = .ok (.ldc 181, 2) := dk_18 181 (dk_at dksX1_mixture_0 12 rfl rfl)
theorem dX1_mixture_14 : decode cX1_mixture 14 = .ok (.iload_n 2, 1) := dk_28 (dk_at dksX1_mixture_0 14 rfl rfl)
theorem dX1_mixture_15 : decode cX1_mixture 15 = .ok (.invokevirtual 129, 3) := dk_182 0 129 (dk_at dksX1_mixture_0 15 rfl rfl)
theorem dX1_mixture_18 : decode cX1_mixture 18 = .ok (.ifCond .lt 7, 3) := dk_155 0 7 (dk_at dksX1_mixture_0 18 rfl rfl)
theorem dX1_mixture_21 : decode cX1_mixture 21 = .ok (.iconst 1, 1) := dk_4 (dk_at dksX1_mixture_0 21 rfl rfl)
theorem dX1_mixture_22 : decode cX1_mixture 22 = .ok (.goto 4, 3) := dk_167 0 4 (dk_at dksX1_mixture_1 0 rfl rfl)
theorem dX1_mixture_25 : decode cX1_mixture 25 = .ok (.iconst 0, 1) := dk_3 (dk_at dksX1_mixture_1 3 rfl rfl)
theorem dX1_mixture_26 : decode cX1_mixture 26 = .ok (.invokestatic 118, 3) := dk_184 0 118 (dk_at dksX1_mixture_1 4 rfl rfl)
theorem dX1_mixture_29 : decode cX1_mixture 29 = .ok (.iload_n 2, 1) := dk_28 (dk_at dksX1_mixture_1 7 rfl rfl)
theorem dX1_mixture_30 : decode cX1_mixture 30 = .ok (.bipush 99, 2) := dk_16 99 (dk_at dksX1_mixture_1 8 rfl rfl)
theorem dX1_mixture_32 : decode cX1_mixture 32 = .ok (.if_icmp .ne 10, 3) := dk_160 0 10 (dk_at dksX1_mixture_1 10 rfl rfl)
theorem dX1_mixture_35 : decode cX1_mixture 35 = .ok (.aload_n 3, 1) := dk_45 (dk_at dksX1_mixture_1 13 rfl rfl)
theorem dX1_mixture_36 : decode cX1_mixture 36 = .ok (.getfield 183, 3) := dk_180 0 183 (dk_at dksX1_mixture_1 14 rfl rfl)
theorem dX1_mixture_39 : decode cX1_mixture 39 = .ok (.goto 20, 3) := dk_167 0 20 (dk_at dksX1_mixture_1 17 rfl rfl)
theorem dX1_mixture_42 : decode cX1_mixture 42 = .ok (.iload_n 2, 1) := dk_28 (dk_at dksX1_mixture_1 20 rfl rfl)
theorem dX1_mixture_43 : decode cX1_mixture 43 = .ok (.bipush 102, 2) := dk_16 102 (dk_at dksX1_mixture_1 21 rfl rfl)
theorem dX1_mixture_45 : decode cX1_mixture 45 = .ok (.if_icmp .ne 10, 3) := dk_160 0 10 (dk_at dksX1_mixture_2 0 rfl rfl)
theorem dX1_mixture_48 : decode cX1_mixture 48 = .ok (.aload_n 3, 1) := dk_45 (dk_at dksX1_mixture_2 3 rfl rfl)
theorem dX1_mixture_49 : decode cX1_mixture 49 = .ok (.getfield 186, 3) := dk_180 0 186 (dk_at dksX1_mixture_2 4 rfl rfl)
theorem dX1_mixture_52 : decode cX1_mixture 52 = .ok (.goto 7, 3) := dk_167 0 7 (dk_at dksX1_mixture_2 7 rfl rfl)
theorem dX1_mixture_55 : decode cX1_mixture 55 = .ok (.aload_n 3, 1) := dk_45 (dk_at dksX1_mixture_2 10 rfl rfl)
theorem dX1_mixture_56 : decode cX1_mixture 56 = .ok (.getfield 189, 3) := dk_180 0 189 (dk_at dksX1_mixture_2 11 rfl rfl)
theorem dX1_mixture_59 : decode cX1_mixture 59 = .ok (.ireturn, 1) := dk_172 (dk_at dksX1_mixture_2 14 rfl rfl)
abbrev cX1_press : ByteArray := prog_1_method_22_code
def yX1_press : MethodName := ⟨RX1, "press", "(III)I"⟩
def dkwX1_press_7 : List UInt8 := [180, 0, 186, 100, 104, 8, 108, 96, 79, 42, 180, 0, 74, 185, 0, 7, 1, 0, 4, 100, 172]
abbrev dktX1_press_7 : List UInt8 := dkwX1_press_7 ++ []
def dkwX1_press_6 : List UInt8 := [25, 4, 89, 180, 0, 189, 29, 100, 181, 0, 189, 42, 180, 0, 53, 28, 92, 46, 29, 16, 10, 25, 4]
abbrev dktX1_press_6 : List UInt8 := dkwX1_press_6 ++ dktX1_press_7
def dkwX1_press_5 : List UInt8 := [42, 180, 0, 53, 28, 46, 16, 40, 108, 96, 16, 20, 29, 104, 183, 0, 195, 185, 0, 160, 2, 0, 87]
abbrev dktX1_press_5 : List UInt8 := dkwX1_press_5 ++ dktX1_press_6
def dkwX1_press_4 : List UInt8 := [184, 0, 126, 42, 180, 0, 74, 187, 0, 193, 89, 42, 180, 0, 74, 185, 0, 7, 1, 0, 25, 4, 16, 20]
abbrev dktX1_press_4 : List UInt8 := dkwX1_press_4 ++ dktX1_press_5
def dkwX1_press_3 : List UInt8 := [184, 0, 137, 42, 180, 0, 74, 185, 0, 7, 1, 0, 16, 16, 162, 0, 7, 4, 167, 0, 4, 3]
abbrev dktX1_press_3 : List UInt8 := dkwX1_press_3 ++ dktX1_press_4
def dkwX1_press_2 : List UInt8 := [28, 46, 17, 0, 200, 162, 0, 16, 42, 16, 112, 182, 0, 173, 153, 0, 7, 4, 167, 0, 4, 3]
abbrev dktX1_press_2 : List UInt8 := dkwX1_press_2 ++ dktX1_press_3
def dkwX1_press_1 : List UInt8 := [160, 0, 7, 4, 167, 0, 4, 3, 184, 0, 118, 25, 4, 180, 0, 189, 29, 161, 0, 28, 42, 180, 0, 53]
abbrev dktX1_press_1 : List UInt8 := dkwX1_press_1 ++ dktX1_press_2
def dkwX1_press_0 : List UInt8 := [42, 180, 0, 71, 27, 184, 0, 164, 192, 0, 176, 58, 4, 29, 4, 161, 0, 15, 28, 184, 0, 190, 28]
abbrev dktX1_press_0 : List UInt8 := dkwX1_press_0 ++ dktX1_press_1
theorem dksX1_press_0 : cX1_press.data.toList.drop 0 = dktX1_press_0 := by decide +kernel
theorem dksX1_press_1 : cX1_press.data.toList.drop 23 = dktX1_press_1 := dk_seg dksX1_press_0 23 rfl rfl
theorem dksX1_press_2 : cX1_press.data.toList.drop 47 = dktX1_press_2 := dk_seg dksX1_press_1 24 rfl rfl
theorem dksX1_press_3 : cX1_press.data.toList.drop 69 = dktX1_press_3 := dk_seg dksX1_press_2 22 rfl rfl
theorem dksX1_press_4 : cX1_press.data.toList.drop 91 = dktX1_press_4 := dk_seg dksX1_press_3 22 rfl rfl
theorem dksX1_press_5 : cX1_press.data.toList.drop 115 = dktX1_press_5 := dk_seg dksX1_press_4 24 rfl rfl
theorem dksX1_press_6 : cX1_press.data.toList.drop 138 = dktX1_press_6 := dk_seg dksX1_press_5 23 rfl rfl
theorem dksX1_press_7 : cX1_press.data.toList.drop 161 = dktX1_press_7 := dk_seg dksX1_press_6 23 rfl rfl
theorem dX1_press_0 : decode cX1_press 0 = .ok (.aload_n 0, 1) := dk_42 (dk_at dksX1_press_0 0 rfl rfl)
theorem dX1_press_1 : decode cX1_press 1 = .ok (.getfield 71, 3) := dk_180 0 71 (dk_at dksX1_press_0 1 rfl rfl)
theorem dX1_press_4 : decode cX1_press 4 = .ok (.iload_n 1, 1) := dk_27 (dk_at dksX1_press_0 4 rfl rfl)
theorem dX1_press_5 : decode cX1_press 5 = .ok (.invokestatic 164, 3) := dk_184 0 164 (dk_at dksX1_press_0 5 rfl rfl)
theorem dX1_press_8 : decode cX1_press 8 = .ok (.checkcast 176, 3) := dk_192 0 176 (dk_at dksX1_press_0 8 rfl rfl)
theorem dX1_press_11 : decode cX1_press 11 = .ok (.astore 4, 2) := dk_58 4 (dk_at dksX1_press_0 11 rfl rfl)
theorem dX1_press_13 : decode cX1_press 13 = .ok (.iload_n 3, 1) := dk_29 (dk_at dksX1_press_0 13 rfl rfl)
theorem dX1_press_14 : decode cX1_press 14 = .ok (.iconst 1, 1) := dk_4 (dk_at dksX1_press_0 14 rfl rfl)
theorem dX1_press_15 : decode cX1_press 15 = .ok (.if_icmp .lt 15, 3) := dk_161 0 15 (dk_at dksX1_press_0 15 rfl rfl)
theorem dX1_press_18 : decode cX1_press 18 = .ok (.iload_n 2, 1) := dk_28 (dk_at dksX1_press_0 18 rfl rfl)
theorem dX1_press_19 : decode cX1_press 19 = .ok (.invokestatic 190, 3) := dk_184 0 190 (dk_at dksX1_press_0 19 rfl rfl)
theorem dX1_press_22 : decode cX1_press 22 = .ok (.iload_n 2, 1) := dk_28 (dk_at dksX1_press_0 22 rfl rfl)
theorem dX1_press_23 : decode cX1_press 23 = .ok (.if_icmp .ne 7, 3) := dk_160 0 7 (dk_at dksX1_press_1 0 rfl rfl)
theorem dX1_press_26 : decode cX1_press 26 = .ok (.iconst 1, 1) := dk_4 (dk_at dksX1_press_1 3 rfl rfl)
theorem dX1_press_27 : decode cX1_press 27 = .ok (.goto 4, 3) := dk_167 0 4 (dk_at dksX1_press_1 4 rfl rfl)
theorem dX1_press_30 : decode cX1_press 30 = .ok (.iconst 0, 1) := dk_3 (dk_at dksX1_press_1 7 rfl rfl)
theorem dX1_press_31 : decode cX1_press 31 = .ok (.invokestatic 118, 3) := dk_184 0 118 (dk_at dksX1_press_1 8 rfl rfl)
theorem dX1_press_34 : decode cX1_press 34 = .ok (.aload 4, 2) := dk_25 4 (dk_at dksX1_press_1 11 rfl rfl)
theorem dX1_press_36 : decode cX1_press 36 = .ok (.getfield 189, 3) := dk_180 0 189 (dk_at dksX1_press_1 13 rfl rfl)
theorem dX1_press_39 : decode cX1_press 39 = .ok (.iload_n 3, 1) := dk_29 (dk_at dksX1_press_1 16 rfl rfl)
theorem dX1_press_40 : decode cX1_press 40 = .ok (.if_icmp .lt 28, 3) := dk_161 0 28 (dk_at dksX1_press_1 17 rfl rfl)
theorem dX1_press_43 : decode cX1_press 43 = .ok (.aload_n 0, 1) := dk_42 (dk_at dksX1_press_1 20 rfl rfl)
theorem dX1_press_44 : decode cX1_press 44 = .ok (.getfield 53, 3) := dk_180 0 53 (dk_at dksX1_press_1 21 rfl rfl)
theorem dX1_press_47 : decode cX1_press 47 = .ok (.iload_n 2, 1) := dk_28 (dk_at dksX1_press_2 0 rfl rfl)
theorem dX1_press_48 : decode cX1_press 48 = .ok (.iaload, 1) := dk_46 (dk_at dksX1_press_2 1 rfl rfl)
theorem dX1_press_49 : decode cX1_press 49 = .ok (.sipush 200, 3) := dk_17 0 200 (dk_at dksX1_press_2 2 rfl rfl)
theorem dX1_press_52 : decode cX1_press 52 = .ok (.if_icmp .ge 16, 3) := dk_162 0 16 (dk_at dksX1_press_2 5 rfl rfl)
theorem dX1_press_55 : decode cX1_press 55 = .ok (.aload_n 0, 1) := dk_42 (dk_at dksX1_press_2 8 rfl rfl)
theorem dX1_press_56 : decode cX1_press 56 = .ok (.bipush 112, 2) := dk_16 112 (dk_at dksX1_press_2 9 rfl rfl)
theorem dX1_press_58 : decode cX1_press 58 = .ok (.invokevirtual 173, 3) := dk_182 0 173 (dk_at dksX1_press_2 11 rfl rfl)
theorem dX1_press_61 : decode cX1_press 61 = .ok (.ifCond .eq 7, 3) := dk_153 0 7 (dk_at dksX1_press_2 14 rfl rfl)
theorem dX1_press_64 : decode cX1_press 64 = .ok (.iconst 1, 1) := dk_4 (dk_at dksX1_press_2 17 rfl rfl)
theorem dX1_press_65 : decode cX1_press 65 = .ok (.goto 4, 3) := dk_167 0 4 (dk_at dksX1_press_2 18 rfl rfl)
theorem dX1_press_68 : decode cX1_press 68 = .ok (.iconst 0, 1) := dk_3 (dk_at dksX1_press_2 21 rfl rfl)
theorem dX1_press_69 : decode cX1_press 69 = .ok (.invokestatic 137, 3) := dk_184 0 137 (dk_at dksX1_press_3 0 rfl rfl)
theorem dX1_press_72 : decode cX1_press 72 = .ok (.aload_n 0, 1) := dk_42 (dk_at dksX1_press_3 3 rfl rfl)
theorem dX1_press_73 : decode cX1_press 73 = .ok (.getfield 74, 3) := dk_180 0 74 (dk_at dksX1_press_3 4 rfl rfl)
theorem dX1_press_76 : decode cX1_press 76 = .ok (.invokeinterface 7 1, 5) := by decide +kernel
theorem dX1_press_81 : decode cX1_press 81 = .ok (.bipush 16, 2) := dk_16 16 (dk_at dksX1_press_3 12 rfl rfl)
theorem dX1_press_83 : decode cX1_press 83 = .ok (.if_icmp .ge 7, 3) := dk_162 0 7 (dk_at dksX1_press_3 14 rfl rfl)
theorem dX1_press_86 : decode cX1_press 86 = .ok (.iconst 1, 1) := dk_4 (dk_at dksX1_press_3 17 rfl rfl)
theorem dX1_press_87 : decode cX1_press 87 = .ok (.goto 4, 3) := dk_167 0 4 (dk_at dksX1_press_3 18 rfl rfl)
theorem dX1_press_90 : decode cX1_press 90 = .ok (.iconst 0, 1) := dk_3 (dk_at dksX1_press_3 21 rfl rfl)
theorem dX1_press_91 : decode cX1_press 91 = .ok (.invokestatic 126, 3) := dk_184 0 126 (dk_at dksX1_press_4 0 rfl rfl)
theorem dX1_press_94 : decode cX1_press 94 = .ok (.aload_n 0, 1) := dk_42 (dk_at dksX1_press_4 3 rfl rfl)
theorem dX1_press_95 : decode cX1_press 95 = .ok (.getfield 74, 3) := dk_180 0 74 (dk_at dksX1_press_4 4 rfl rfl)
theorem dX1_press_98 : decode cX1_press 98 = .ok (.new 193, 3) := dk_187 0 193 (dk_at dksX1_press_4 7 rfl rfl)
theorem dX1_press_101 : decode cX1_press 101 = .ok (.dup, 1) := dk_89 (dk_at dksX1_press_4 10 rfl rfl)
theorem dX1_press_102 : decode cX1_press 102 = .ok (.aload_n 0, 1) := dk_42 (dk_at dksX1_press_4 11 rfl rfl)
theorem dX1_press_103 : decode cX1_press 103 = .ok (.getfield 74, 3) := dk_180 0 74 (dk_at dksX1_press_4 12 rfl rfl)
theorem dX1_press_106 : decode cX1_press 106 = .ok (.invokeinterface 7 1, 5) := by decide +kernel
theorem dX1_press_111 : decode cX1_press 111 = .ok (.aload 4, 2) := dk_25 4 (dk_at dksX1_press_4 20 rfl rfl)
theorem dX1_press_113 : decode cX1_press 113 = .ok (.bipush 20, 2) := dk_16 20 (dk_at dksX1_press_4 22 rfl rfl)
theorem dX1_press_115 : decode cX1_press 115 = .ok (.aload_n 0, 1) := dk_42 (dk_at dksX1_press_5 0 rfl rfl)
theorem dX1_press_116 : decode cX1_press 116 = .ok (.getfield 53, 3) := dk_180 0 53 (dk_at dksX1_press_5 1 rfl rfl)
theorem dX1_press_119 : decode cX1_press 119 = .ok (.iload_n 2, 1) := dk_28 (dk_at dksX1_press_5 4 rfl rfl)
theorem dX1_press_120 : decode cX1_press 120 = .ok (.iaload, 1) := dk_46 (dk_at dksX1_press_5 5 rfl rfl)
theorem dX1_press_121 : decode cX1_press 121 = .ok (.bipush 40, 2) := dk_16 40 (dk_at dksX1_press_5 6 rfl rfl)
theorem dX1_press_123 : decode cX1_press 123 = .ok (.idiv, 1) := dk_108 (dk_at dksX1_press_5 8 rfl rfl)
theorem dX1_press_124 : decode cX1_press 124 = .ok (.iadd, 1) := dk_96 (dk_at dksX1_press_5 9 rfl rfl)
theorem dX1_press_125 : decode cX1_press 125 = .ok (.bipush 20, 2) := dk_16 20 (dk_at dksX1_press_5 10 rfl rfl)
theorem dX1_press_127 : decode cX1_press 127 = .ok (.iload_n 3, 1) := dk_29 (dk_at dksX1_press_5 12 rfl rfl)
theorem dX1_press_128 : decode cX1_press 128 = .ok (.imul, 1) := dk_104 (dk_at dksX1_press_5 13 rfl rfl)
theorem dX1_press_129 : decode cX1_press 129 = .ok (.invokespecial 195, 3) := dk_183 0 195 (dk_at dksX1_press_5 14 rfl rfl)
theorem dX1_press_132 : decode cX1_press 132 = .ok (.invokeinterface 160 2, 5) := by decide +kernel
theorem dX1_press_137 : decode cX1_press 137 = .ok (.pop, 1) := dk_87 (dk_at dksX1_press_5 22 rfl rfl)
theorem dX1_press_138 : decode cX1_press 138 = .ok (.aload 4, 2) := dk_25 4 (dk_at dksX1_press_6 0 rfl rfl)
theorem dX1_press_140 : decode cX1_press 140 = .ok (.dup, 1) := dk_89 (dk_at dksX1_press_6 2 rfl rfl)
theorem dX1_press_141 : decode cX1_press 141 = .ok (.getfield 189, 3) := dk_180 0 189 (dk_at dksX1_press_6 3 rfl rfl)
theorem dX1_press_144 : decode cX1_press 144 = .ok (.iload_n 3, 1) := dk_29 (dk_at dksX1_press_6 6 rfl rfl)
theorem dX1_press_145 : decode cX1_press 145 = .ok (.isub, 1) := dk_100 (dk_at dksX1_press_6 7 rfl rfl)
theorem dX1_press_146 : decode cX1_press 146 = .ok (.putfield 189, 3) := dk_181 0 189 (dk_at dksX1_press_6 8 rfl rfl)
theorem dX1_press_149 : decode cX1_press 149 = .ok (.aload_n 0, 1) := dk_42 (dk_at dksX1_press_6 11 rfl rfl)
theorem dX1_press_150 : decode cX1_press 150 = .ok (.getfield 53, 3) := dk_180 0 53 (dk_at dksX1_press_6 12 rfl rfl)
theorem dX1_press_153 : decode cX1_press 153 = .ok (.iload_n 2, 1) := dk_28 (dk_at dksX1_press_6 15 rfl rfl)
theorem dX1_press_154 : decode cX1_press 154 = .ok (.dup2, 1) := dk_92 (dk_at dksX1_press_6 16 rfl rfl)
theorem dX1_press_155 : decode cX1_press 155 = .ok (.iaload, 1) := dk_46 (dk_at dksX1_press_6 17 rfl rfl)
theorem dX1_press_156 : decode cX1_press 156 = .ok (.iload_n 3, 1) := dk_29 (dk_at dksX1_press_6 18 rfl rfl)
theorem dX1_press_157 : decode cX1_press 157 = .ok (.bipush 10, 2) := dk_16 10 (dk_at dksX1_press_6 19 rfl rfl)
theorem dX1_press_159 : decode cX1_press 159 = .ok (.aload 4, 2) := dk_25 4 (dk_at dksX1_press_6 21 rfl rfl)
theorem dX1_press_161 : decode cX1_press 161 = .ok (.getfield 186, 3) := dk_180 0 186 (dk_at dksX1_press_7 0 rfl rfl)
theorem dX1_press_164 : decode cX1_press 164 = .ok (.isub, 1) := dk_100 (dk_at dksX1_press_7 3 rfl rfl)
theorem dX1_press_165 : decode cX1_press 165 = .ok (.imul, 1) := dk_104 (dk_at dksX1_press_7 4 rfl rfl)
theorem dX1_press_166 : decode cX1_press 166 = .ok (.iconst 5, 1) := dk_8 (dk_at dksX1_press_7 5 rfl rfl)
theorem dX1_press_167 : decode cX1_press 167 = .ok (.idiv, 1) := dk_108 (dk_at dksX1_press_7 6 rfl rfl)
theorem dX1_press_168 : decode cX1_press 168 = .ok (.iadd, 1) := dk_96 (dk_at dksX1_press_7 7 rfl rfl)
theorem dX1_press_169 : decode cX1_press 169 = .ok (.iastore, 1) := dk_79 (dk_at dksX1_press_7 8 rfl rfl)
theorem dX1_press_170 : decode cX1_press 170 = .ok (.aload_n 0, 1) := dk_42 (dk_at dksX1_press_7 9 rfl rfl)
theorem dX1_press_171 : decode cX1_press 171 = .ok (.getfield 74, 3) := dk_180 0 74 (dk_at dksX1_press_7 10 rfl rfl)
theorem dX1_press_174 : decode cX1_press 174 = .ok (.invokeinterface 7 1, 5) := by decide +kernel
theorem dX1_press_179 : decode cX1_press 179 = .ok (.iconst 1, 1) := dk_4 (dk_at dksX1_press_7 18 rfl rfl)
theorem dX1_press_180 : decode cX1_press 180 = .ok (.isub, 1) := dk_100 (dk_at dksX1_press_7 19 rfl rfl)
theorem dX1_press_181 : decode cX1_press 181 = .ok (.ireturn, 1) := dk_172 (dk_at dksX1_press_7 20 rfl rfl)
abbrev cX1_requireDie : ByteArray := prog_1_method_21_code
def yX1_requireDie : MethodName := ⟨RX1, "requireDie", "(I)I"⟩
def dkwX1_requireDie_0 : List UInt8 := [3, 6, 4, 188, 10, 89, 3, 26, 79, 184, 0, 114, 184, 0, 118, 26, 172]
abbrev dktX1_requireDie_0 : List UInt8 := dkwX1_requireDie_0 ++ []
theorem dksX1_requireDie_0 : cX1_requireDie.data.toList.drop 0 = dktX1_requireDie_0 := by decide +kernel
theorem dX1_requireDie_0 : decode cX1_requireDie 0 = .ok (.iconst 0, 1) := dk_3 (dk_at dksX1_requireDie_0 0 rfl rfl)
theorem dX1_requireDie_1 : decode cX1_requireDie 1 = .ok (.iconst 3, 1) := dk_6 (dk_at dksX1_requireDie_0 1 rfl rfl)
theorem dX1_requireDie_2 : decode cX1_requireDie 2 = .ok (.iconst 1, 1) := dk_4 (dk_at dksX1_requireDie_0 2 rfl rfl)
theorem dX1_requireDie_3 : decode cX1_requireDie 3 = .ok (.newarray .int, 2) := dk_188_10 (dk_at dksX1_requireDie_0 3 rfl rfl)
theorem dX1_requireDie_5 : decode cX1_requireDie 5 = .ok (.dup, 1) := dk_89 (dk_at dksX1_requireDie_0 5 rfl rfl)
theorem dX1_requireDie_6 : decode cX1_requireDie 6 = .ok (.iconst 0, 1) := dk_3 (dk_at dksX1_requireDie_0 6 rfl rfl)
theorem dX1_requireDie_7 : decode cX1_requireDie 7 = .ok (.iload_n 0, 1) := dk_26 (dk_at dksX1_requireDie_0 7 rfl rfl)
theorem dX1_requireDie_8 : decode cX1_requireDie 8 = .ok (.iastore, 1) := dk_79 (dk_at dksX1_requireDie_0 8 rfl rfl)
theorem dX1_requireDie_9 : decode cX1_requireDie 9 = .ok (.invokestatic 114, 3) := dk_184 0 114 (dk_at dksX1_requireDie_0 9 rfl rfl)
theorem dX1_requireDie_12 : decode cX1_requireDie 12 = .ok (.invokestatic 118, 3) := dk_184 0 118 (dk_at dksX1_requireDie_0 12 rfl rfl)
theorem dX1_requireDie_15 : decode cX1_requireDie 15 = .ok (.iload_n 0, 1) := dk_26 (dk_at dksX1_requireDie_0 15 rfl rfl)
theorem dX1_requireDie_16 : decode cX1_requireDie 16 = .ok (.ireturn, 1) := dk_172 (dk_at dksX1_requireDie_0 16 rfl rfl)
abbrev cX1_worn : ByteArray := prog_1_method_23_code
def yX1_worn : MethodName := ⟨RX1, "worn", "(I)I"⟩
def dkwX1_worn_0 : List UInt8 := [42, 180, 0, 53, 27, 184, 0, 190, 46, 172]
abbrev dktX1_worn_0 : List UInt8 := dkwX1_worn_0 ++ []
theorem dksX1_worn_0 : cX1_worn.data.toList.drop 0 = dktX1_worn_0 := by decide +kernel
theorem dX1_worn_0 : decode cX1_worn 0 = .ok (.aload_n 0, 1) := dk_42 (dk_at dksX1_worn_0 0 rfl rfl)
theorem dX1_worn_1 : decode cX1_worn 1 = .ok (.getfield 53, 3) := dk_180 0 53 (dk_at dksX1_worn_0 1 rfl rfl)
theorem dX1_worn_4 : decode cX1_worn 4 = .ok (.iload_n 1, 1) := dk_27 (dk_at dksX1_worn_0 4 rfl rfl)
theorem dX1_worn_5 : decode cX1_worn 5 = .ok (.invokestatic 190, 3) := dk_184 0 190 (dk_at dksX1_worn_0 5 rfl rfl)
theorem dX1_worn_8 : decode cX1_worn 8 = .ok (.iaload, 1) := dk_46 (dk_at dksX1_worn_0 8 rfl rfl)
theorem dX1_worn_9 : decode cX1_worn 9 = .ok (.ireturn, 1) := dk_172 (dk_at dksX1_worn_0 9 rfl rfl)
abbrev cX1_renew : ByteArray := prog_1_method_24_code
def yX1_renew : MethodName := ⟨RX1, "renew", "(I)I"⟩
def dkwX1_renew_0 : List UInt8 := [42, 180, 0, 53, 27, 184, 0, 190, 46, 61, 42, 180, 0, 53, 27, 3, 79, 28, 172]
abbrev dktX1_renew_0 : List UInt8 := dkwX1_renew_0 ++ []
theorem dksX1_renew_0 : cX1_renew.data.toList.drop 0 = dktX1_renew_0 := by decide +kernel
theorem dX1_renew_0 : decode cX1_renew 0 = .ok (.aload_n 0, 1) := dk_42 (dk_at dksX1_renew_0 0 rfl rfl)
theorem dX1_renew_1 : decode cX1_renew 1 = .ok (.getfield 53, 3) := dk_180 0 53 (dk_at dksX1_renew_0 1 rfl rfl)
theorem dX1_renew_4 : decode cX1_renew 4 = .ok (.iload_n 1, 1) := dk_27 (dk_at dksX1_renew_0 4 rfl rfl)
theorem dX1_renew_5 : decode cX1_renew 5 = .ok (.invokestatic 190, 3) := dk_184 0 190 (dk_at dksX1_renew_0 5 rfl rfl)
theorem dX1_renew_8 : decode cX1_renew 8 = .ok (.iaload, 1) := dk_46 (dk_at dksX1_renew_0 8 rfl rfl)
theorem dX1_renew_9 : decode cX1_renew 9 = .ok (.istore_n 2, 1) := dk_61 (dk_at dksX1_renew_0 9 rfl rfl)
theorem dX1_renew_10 : decode cX1_renew 10 = .ok (.aload_n 0, 1) := dk_42 (dk_at dksX1_renew_0 10 rfl rfl)
theorem dX1_renew_11 : decode cX1_renew 11 = .ok (.getfield 53, 3) := dk_180 0 53 (dk_at dksX1_renew_0 11 rfl rfl)
theorem dX1_renew_14 : decode cX1_renew 14 = .ok (.iload_n 1, 1) := dk_27 (dk_at dksX1_renew_0 14 rfl rfl)
theorem dX1_renew_15 : decode cX1_renew 15 = .ok (.iconst 0, 1) := dk_3 (dk_at dksX1_renew_0 15 rfl rfl)
theorem dX1_renew_16 : decode cX1_renew 16 = .ok (.iastore, 1) := dk_79 (dk_at dksX1_renew_0 16 rfl rfl)
theorem dX1_renew_17 : decode cX1_renew 17 = .ok (.iload_n 2, 1) := dk_28 (dk_at dksX1_renew_0 17 rfl rfl)
theorem dX1_renew_18 : decode cX1_renew 18 = .ok (.ireturn, 1) := dk_172 (dk_at dksX1_renew_0 18 rfl rfl)
abbrev cX1_dry : ByteArray := prog_1_method_25_code
def yX1_dry : MethodName := ⟨RX1, "dry", "(II)I"⟩
def dkwX1_dry_4 : List UInt8 := [45, 180, 0, 211, 100, 181, 0, 204, 45, 180, 0, 201, 172]
abbrev dktX1_dry_4 : List UInt8 := dkwX1_dry_4 ++ []
def dkwX1_dry_3 : List UInt8 := [104, 16, 10, 45, 180, 0, 207, 180, 0, 186, 100, 104, 17, 1, 244, 108, 181, 0, 211, 45, 89, 180, 0, 204]
abbrev dktX1_dry_3 : List UInt8 := dkwX1_dry_3 ++ dktX1_dry_4
def dkwX1_dry_2 : List UInt8 := [42, 180, 0, 122, 16, 18, 28, 96, 4, 100, 28, 108, 96, 181, 0, 201, 45, 45, 180, 0, 204, 28, 4, 100]
abbrev dktX1_dry_2 : List UInt8 := dkwX1_dry_2 ++ dktX1_dry_3
def dkwX1_dry_1 : List UInt8 := [184, 0, 118, 45, 180, 0, 198, 154, 0, 7, 4, 167, 0, 4, 3, 184, 0, 137, 45, 4, 181, 0, 198, 45]
abbrev dktX1_dry_1 : List UInt8 := dkwX1_dry_1 ++ dktX1_dry_2
def dkwX1_dry_0 : List UInt8 := [42, 180, 0, 74, 27, 184, 0, 164, 192, 0, 193, 78, 4, 8, 4, 188, 10, 89, 3, 28, 79, 184, 0, 114]
abbrev dktX1_dry_0 : List UInt8 := dkwX1_dry_0 ++ dktX1_dry_1
theorem dksX1_dry_0 : cX1_dry.data.toList.drop 0 = dktX1_dry_0 := by decide +kernel
theorem dksX1_dry_1 : cX1_dry.data.toList.drop 24 = dktX1_dry_1 := dk_seg dksX1_dry_0 24 rfl rfl
theorem dksX1_dry_2 : cX1_dry.data.toList.drop 48 = dktX1_dry_2 := dk_seg dksX1_dry_1 24 rfl rfl
theorem dksX1_dry_3 : cX1_dry.data.toList.drop 72 = dktX1_dry_3 := dk_seg dksX1_dry_2 24 rfl rfl
theorem dksX1_dry_4 : cX1_dry.data.toList.drop 96 = dktX1_dry_4 := dk_seg dksX1_dry_3 24 rfl rfl
theorem dX1_dry_0 : decode cX1_dry 0 = .ok (.aload_n 0, 1) := dk_42 (dk_at dksX1_dry_0 0 rfl rfl)
theorem dX1_dry_1 : decode cX1_dry 1 = .ok (.getfield 74, 3) := dk_180 0 74 (dk_at dksX1_dry_0 1 rfl rfl)
theorem dX1_dry_4 : decode cX1_dry 4 = .ok (.iload_n 1, 1) := dk_27 (dk_at dksX1_dry_0 4 rfl rfl)
theorem dX1_dry_5 : decode cX1_dry 5 = .ok (.invokestatic 164, 3) := dk_184 0 164 (dk_at dksX1_dry_0 5 rfl rfl)
theorem dX1_dry_8 : decode cX1_dry 8 = .ok (.checkcast 193, 3) := dk_192 0 193 (dk_at dksX1_dry_0 8 rfl rfl)
theorem dX1_dry_11 : decode cX1_dry 11 = .ok (.astore_n 3, 1) := dk_78 (dk_at dksX1_dry_0 11 rfl rfl)
theorem dX1_dry_12 : decode cX1_dry 12 = .ok (.iconst 1, 1) := dk_4 (dk_at dksX1_dry_0 12 rfl rfl)
theorem dX1_dry_13 : decode cX1_dry 13 = .ok (.iconst 5, 1) := dk_8 (dk_at dksX1_dry_0 13 rfl rfl)
theorem dX1_dry_14 : decode cX1_dry 14 = .ok (.iconst 1, 1) := dk_4 (dk_at dksX1_dry_0 14 rfl rfl)
theorem dX1_dry_15 : decode cX1_dry 15 = .ok (.newarray .int, 2) := dk_188_10 (dk_at dksX1_dry_0 15 rfl rfl)
theorem dX1_dry_17 : decode cX1_dry 17 = .ok (.dup, 1) := dk_89 (dk_at dksX1_dry_0 17 rfl rfl)
theorem dX1_dry_18 : decode cX1_dry 18 = .ok (.iconst 0, 1) := dk_3 (dk_at dksX1_dry_0 18 rfl rfl)
theorem dX1_dry_19 : decode cX1_dry 19 = .ok (.iload_n 2, 1) := dk_28 (dk_at dksX1_dry_0 19 rfl rfl)
theorem dX1_dry_20 : decode cX1_dry 20 = .ok (.iastore, 1) := dk_79 (dk_at dksX1_dry_0 20 rfl rfl)
theorem dX1_dry_21 : decode cX1_dry 21 = .ok (.invokestatic 114, 3) := dk_184 0 114 (dk_at dksX1_dry_0 21 rfl rfl)
theorem dX1_dry_24 : decode cX1_dry 24 = .ok (.invokestatic 118, 3) := dk_184 0 118 (dk_at dksX1_dry_1 0 rfl rfl)
theorem dX1_dry_27 : decode cX1_dry 27 = .ok (.aload_n 3, 1) := dk_45 (dk_at dksX1_dry_1 3 rfl rfl)
theorem dX1_dry_28 : decode cX1_dry 28 = .ok (.getfield 198, 3) := dk_180 0 198 (dk_at dksX1_dry_1 4 rfl rfl)
theorem dX1_dry_31 : decode cX1_dry 31 = .ok (.ifCond .ne 7, 3) := dk_154 0 7 (dk_at dksX1_dry_1 7 rfl rfl)
theorem dX1_dry_34 : decode cX1_dry 34 = .ok (.iconst 1, 1) := dk_4 (dk_at dksX1_dry_1 10 rfl rfl)
theorem dX1_dry_35 : decode cX1_dry 35 = .ok (.goto 4, 3) := dk_167 0 4 (dk_at dksX1_dry_1 11 rfl rfl)
theorem dX1_dry_38 : decode cX1_dry 38 = .ok (.iconst 0, 1) := dk_3 (dk_at dksX1_dry_1 14 rfl rfl)
theorem dX1_dry_39 : decode cX1_dry 39 = .ok (.invokestatic 137, 3) := dk_184 0 137 (dk_at dksX1_dry_1 15 rfl rfl)
theorem dX1_dry_42 : decode cX1_dry 42 = .ok (.aload_n 3, 1) := dk_45 (dk_at dksX1_dry_1 18 rfl rfl)
theorem dX1_dry_43 : decode cX1_dry 43 = .ok (.iconst 1, 1) := dk_4 (dk_at dksX1_dry_1 19 rfl rfl)
theorem dX1_dry_44 : decode cX1_dry 44 = .ok (.putfield 198, 3) := dk_181 0 198 (dk_at dksX1_dry_1 20 rfl rfl)
theorem dX1_dry_47 : decode cX1_dry 47 = .ok (.aload_n 3, 1) := dk_45 (dk_at dksX1_dry_1 23 rfl rfl)
theorem dX1_dry_48 : decode cX1_dry 48 = .ok (.aload_n 0, 1) := dk_42 (dk_at dksX1_dry_2 0 rfl rfl)
theorem dX1_dry_49 : decode cX1_dry 49 = .ok (.getfield 122, 3) := dk_180 0 122 (dk_at dksX1_dry_2 1 rfl rfl)
theorem dX1_dry_52 : decode cX1_dry 52 = .ok (.bipush 18, 2) := dk_16 18 (dk_at dksX1_dry_2 4 rfl rfl)
theorem dX1_dry_54 : decode cX1_dry 54 = .ok (.iload_n 2, 1) := dk_28 (dk_at dksX1_dry_2 6 rfl rfl)
theorem dX1_dry_55 : decode cX1_dry 55 = .ok (.iadd, 1) := dk_96 (dk_at dksX1_dry_2 7 rfl rfl)
theorem dX1_dry_56 : decode cX1_dry 56 = .ok (.iconst 1, 1) := dk_4 (dk_at dksX1_dry_2 8 rfl rfl)
theorem dX1_dry_57 : decode cX1_dry 57 = .ok (.isub, 1) := dk_100 (dk_at dksX1_dry_2 9 rfl rfl)
theorem dX1_dry_58 : decode cX1_dry 58 = .ok (.iload_n 2, 1) := dk_28 (dk_at dksX1_dry_2 10 rfl rfl)
theorem dX1_dry_59 : decode cX1_dry 59 = .ok (.idiv, 1) := dk_108 (dk_at dksX1_dry_2 11 rfl rfl)
theorem dX1_dry_60 : decode cX1_dry 60 = .ok (.iadd, 1) := dk_96 (dk_at dksX1_dry_2 12 rfl rfl)
theorem dX1_dry_61 : decode cX1_dry 61 = .ok (.putfield 201, 3) := dk_181 0 201 (dk_at dksX1_dry_2 13 rfl rfl)
theorem dX1_dry_64 : decode cX1_dry 64 = .ok (.aload_n 3, 1) := dk_45 (dk_at dksX1_dry_2 16 rfl rfl)
theorem dX1_dry_65 : decode cX1_dry 65 = .ok (.aload_n 3, 1) := dk_45 (dk_at dksX1_dry_2 17 rfl rfl)
theorem dX1_dry_66 : decode cX1_dry 66 = .ok (.getfield 204, 3) := dk_180 0 204 (dk_at dksX1_dry_2 18 rfl rfl)
theorem dX1_dry_69 : decode cX1_dry 69 = .ok (.iload_n 2, 1) := dk_28 (dk_at dksX1_dry_2 21 rfl rfl)
theorem dX1_dry_70 : decode cX1_dry 70 = .ok (.iconst 1, 1) := dk_4 (dk_at dksX1_dry_2 22 rfl rfl)
theorem dX1_dry_71 : decode cX1_dry 71 = .ok (.isub, 1) := dk_100 (dk_at dksX1_dry_2 23 rfl rfl)
theorem dX1_dry_72 : decode cX1_dry 72 = .ok (.imul, 1) := dk_104 (dk_at dksX1_dry_3 0 rfl rfl)
theorem dX1_dry_73 : decode cX1_dry 73 = .ok (.bipush 10, 2) := dk_16 10 (dk_at dksX1_dry_3 1 rfl rfl)
theorem dX1_dry_75 : decode cX1_dry 75 = .ok (.aload_n 3, 1) := dk_45 (dk_at dksX1_dry_3 3 rfl rfl)
theorem dX1_dry_76 : decode cX1_dry 76 = .ok (.getfield 207, 3) := dk_180 0 207 (dk_at dksX1_dry_3 4 rfl rfl)
theorem dX1_dry_79 : decode cX1_dry 79 = .ok (.getfield 186, 3) := dk_180 0 186 (dk_at dksX1_dry_3 7 rfl rfl)
theorem dX1_dry_82 : decode cX1_dry 82 = .ok (.isub, 1) := dk_100 (dk_at dksX1_dry_3 10 rfl rfl)
theorem dX1_dry_83 : decode cX1_dry 83 = .ok (.imul, 1) := dk_104 (dk_at dksX1_dry_3 11 rfl rfl)
theorem dX1_dry_84 : decode cX1_dry 84 = .ok (.sipush 500, 3) := dk_17 1 244 (dk_at dksX1_dry_3 12 rfl rfl)
theorem dX1_dry_87 : decode cX1_dry 87 = .ok (.idiv, 1) := dk_108 (dk_at dksX1_dry_3 15 rfl rfl)
theorem dX1_dry_88 : decode cX1_dry 88 = .ok (.putfield 211, 3) := dk_181 0 211 (dk_at dksX1_dry_3 16 rfl rfl)
theorem dX1_dry_91 : decode cX1_dry 91 = .ok (.aload_n 3, 1) := dk_45 (dk_at dksX1_dry_3 19 rfl rfl)
theorem dX1_dry_92 : decode cX1_dry 92 = .ok (.dup, 1) := dk_89 (dk_at dksX1_dry_3 20 rfl rfl)
theorem dX1_dry_93 : decode cX1_dry 93 = .ok (.getfield 204, 3) := dk_180 0 204 (dk_at dksX1_dry_3 21 rfl rfl)
theorem dX1_dry_96 : decode cX1_dry 96 = .ok (.aload_n 3, 1) := dk_45 (dk_at dksX1_dry_4 0 rfl rfl)
theorem dX1_dry_97 : decode cX1_dry 97 = .ok (.getfield 211, 3) := dk_180 0 211 (dk_at dksX1_dry_4 1 rfl rfl)
theorem dX1_dry_100 : decode cX1_dry 100 = .ok (.isub, 1) := dk_100 (dk_at dksX1_dry_4 4 rfl rfl)
theorem dX1_dry_101 : decode cX1_dry 101 = .ok (.putfield 204, 3) := dk_181 0 204 (dk_at dksX1_dry_4 5 rfl rfl)
theorem dX1_dry_104 : decode cX1_dry 104 = .ok (.aload_n 3, 1) := dk_45 (dk_at dksX1_dry_4 8 rfl rfl)
theorem dX1_dry_105 : decode cX1_dry 105 = .ok (.getfield 201, 3) := dk_180 0 201 (dk_at dksX1_dry_4 9 rfl rfl)
theorem dX1_dry_108 : decode cX1_dry 108 = .ok (.ireturn, 1) := dk_172 (dk_at dksX1_dry_4 12 rfl rfl)
abbrev cX1_fire : ByteArray := prog_1_method_26_code
def yX1_fire : MethodName := ⟨RX1, "fire", "(IIII)I"⟩
def dkwX1_fire_11 : List UInt8 := [180, 0, 243, 172]
abbrev dktX1_fire_11 : List UInt8 := dkwX1_fire_11 ++ []
def dkwX1_fire_10 : List UInt8 := [180, 0, 57, 28, 25, 5, 180, 0, 201, 79, 42, 89, 180, 0, 240, 4, 96, 181, 0, 240, 25, 5]
abbrev dktX1_fire_10 : List UInt8 := dkwX1_fire_10 ++ dktX1_fire_11
def dkwX1_fire_9 : List UInt8 := [25, 5, 42, 180, 0, 240, 181, 0, 243, 25, 5, 42, 180, 0, 122, 21, 4, 96, 181, 0, 201, 42]
abbrev dktX1_fire_9 : List UInt8 := dkwX1_fire_9 ++ dktX1_fire_10
def dkwX1_fire_8 : List UInt8 := [8, 25, 6, 180, 0, 186, 104, 96, 184, 0, 225, 184, 0, 231, 181, 0, 234, 25, 5, 28, 181, 0, 237]
abbrev dktX1_fire_8 : List UInt8 := dkwX1_fire_8 ++ dktX1_fire_9
def dkwX1_fire_7 : List UInt8 := [96, 181, 0, 222, 25, 5, 3, 17, 3, 231, 25, 6, 180, 0, 183, 29, 17, 2, 188, 100, 16, 10, 108, 100]
abbrev dktX1_fire_7 : List UInt8 := dkwX1_fire_7 ++ dktX1_fire_8
def dkwX1_fire_6 : List UInt8 := [100, 29, 17, 2, 88, 100, 104, 17, 3, 232, 108, 16, 20, 25, 6, 180, 0, 186, 104, 96, 8, 21, 4, 104]
abbrev dktX1_fire_6 : List UInt8 := dkwX1_fire_6 ++ dktX1_fire_7
def dkwX1_fire_5 : List UInt8 := [167, 0, 4, 3, 184, 0, 137, 25, 5, 180, 0, 207, 58, 6, 25, 5, 17, 3, 232, 25, 6, 180, 0, 183]
abbrev dktX1_fire_5 : List UInt8 := dkwX1_fire_5 ++ dktX1_fire_6
def dkwX1_fire_4 : List UInt8 := [25, 5, 182, 0, 218, 154, 0, 20, 42, 180, 0, 122, 42, 180, 0, 57, 28, 46, 161, 0, 7, 4]
abbrev dktX1_fire_4 : List UInt8 := dkwX1_fire_4 ++ dktX1_fire_5
def dkwX1_fire_3 : List UInt8 := [3, 184, 0, 118, 25, 5, 180, 0, 198, 153, 0, 40, 25, 5, 42, 180, 0, 122, 182, 0, 214, 153, 0, 28]
abbrev dktX1_fire_3 : List UInt8 := dkwX1_fire_3 ++ dktX1_fire_4
def dkwX1_fire_2 : List UInt8 := [153, 0, 24, 4, 16, 12, 4, 188, 10, 89, 3, 21, 4, 79, 184, 0, 114, 153, 0, 7, 4, 167, 0, 4]
abbrev dktX1_fire_2 : List UInt8 := dkwX1_fire_2 ++ dktX1_fire_3
def dkwX1_fire_1 : List UInt8 := [184, 0, 114, 153, 0, 43, 17, 2, 188, 17, 4, 176, 4, 188, 10, 89, 3, 29, 79, 184, 0, 114]
abbrev dktX1_fire_1 : List UInt8 := dkwX1_fire_1 ++ dktX1_fire_2
def dkwX1_fire_0 : List UInt8 := [42, 180, 0, 74, 27, 184, 0, 164, 192, 0, 193, 58, 5, 3, 4, 4, 188, 10, 89, 3, 28, 79]
abbrev dktX1_fire_0 : List UInt8 := dkwX1_fire_0 ++ dktX1_fire_1
theorem dksX1_fire_0 : cX1_fire.data.toList.drop 0 = dktX1_fire_0 := by decide +kernel
theorem dksX1_fire_1 : cX1_fire.data.toList.drop 22 = dktX1_fire_1 := dk_seg dksX1_fire_0 22 rfl rfl
theorem dksX1_fire_2 : cX1_fire.data.toList.drop 44 = dktX1_fire_2 := dk_seg dksX1_fire_1 22 rfl rfl
theorem dksX1_fire_3 : cX1_fire.data.toList.drop 68 = dktX1_fire_3 := dk_seg dksX1_fire_2 24 rfl rfl
theorem dksX1_fire_4 : cX1_fire.data.toList.drop 92 = dktX1_fire_4 := dk_seg dksX1_fire_3 24 rfl rfl
theorem dksX1_fire_5 : cX1_fire.data.toList.drop 114 = dktX1_fire_5 := dk_seg dksX1_fire_4 22 rfl rfl
theorem dksX1_fire_6 : cX1_fire.data.toList.drop 138 = dktX1_fire_6 := dk_seg dksX1_fire_5 24 rfl rfl
theorem dksX1_fire_7 : cX1_fire.data.toList.drop 162 = dktX1_fire_7 := dk_seg dksX1_fire_6 24 rfl rfl
theorem dksX1_fire_8 : cX1_fire.data.toList.drop 186 = dktX1_fire_8 := dk_seg dksX1_fire_7 24 rfl rfl
theorem dksX1_fire_9 : cX1_fire.data.toList.drop 209 = dktX1_fire_9 := dk_seg dksX1_fire_8 23 rfl rfl
theorem dksX1_fire_10 : cX1_fire.data.toList.drop 231 = dktX1_fire_10 := dk_seg dksX1_fire_9 22 rfl rfl
theorem dksX1_fire_11 : cX1_fire.data.toList.drop 253 = dktX1_fire_11 := dk_seg dksX1_fire_10 22 rfl rfl
theorem dX1_fire_0 : decode cX1_fire 0 = .ok (.aload_n 0, 1) := dk_42 (dk_at dksX1_fire_0 0 rfl rfl)
theorem dX1_fire_1 : decode cX1_fire 1 = .ok (.getfield 74, 3) := dk_180 0 74 (dk_at dksX1_fire_0 1 rfl rfl)
theorem dX1_fire_4 : decode cX1_fire 4 = .ok (.iload_n 1, 1) := dk_27 (dk_at dksX1_fire_0 4 rfl rfl)
theorem dX1_fire_5 : decode cX1_fire 5 = .ok (.invokestatic 164, 3) := dk_184 0 164 (dk_at dksX1_fire_0 5 rfl rfl)
theorem dX1_fire_8 : decode cX1_fire 8 = .ok (.checkcast 193, 3) := dk_192 0 193 (dk_at dksX1_fire_0 8 rfl rfl)
theorem dX1_fire_11 : decode cX1_fire 11 = .ok (.astore 5, 2) := dk_58 5 (dk_at dksX1_fire_0 11 rfl rfl)
theorem dX1_fire_13 : decode cX1_fire 13 = .ok (.iconst 0, 1) := dk_3 (dk_at dksX1_fire_0 13 rfl rfl)
theorem dX1_fire_14 : decode cX1_fire 14 = .ok (.iconst 1, 1) := dk_4 (dk_at dksX1_fire_0 14 rfl rfl)
theorem dX1_fire_15 : decode cX1_fire 15 = .ok (.iconst 1, 1) := dk_4 (dk_at dksX1_fire_0 15 rfl rfl)
theorem dX1_fire_16 : decode cX1_fire 16 = .ok (.newarray .int, 2) := dk_188_10 (dk_at dksX1_fire_0 16 rfl rfl)
theorem dX1_fire_18 : decode cX1_fire 18 = .ok (.dup, 1) := dk_89 (dk_at dksX1_fire_0 18 rfl rfl)
theorem dX1_fire_19 : decode cX1_fire 19 = .ok (.iconst 0, 1) := dk_3 (dk_at dksX1_fire_0 19 rfl rfl)
theorem dX1_fire_20 : decode cX1_fire 20 = .ok (.iload_n 2, 1) := dk_28 (dk_at dksX1_fire_0 20 rfl rfl)
theorem dX1_fire_21 : decode cX1_fire 21 = .ok (.iastore, 1) := dk_79 (dk_at dksX1_fire_0 21 rfl rfl)
theorem dX1_fire_22 : decode cX1_fire 22 = .ok (.invokestatic 114, 3) := dk_184 0 114 (dk_at dksX1_fire_1 0 rfl rfl)
theorem dX1_fire_25 : decode cX1_fire 25 = .ok (.ifCond .eq 43, 3) := dk_153 0 43 (dk_at dksX1_fire_1 3 rfl rfl)
theorem dX1_fire_28 : decode cX1_fire 28 = .ok (.sipush 700, 3) := dk_17 2 188 (dk_at dksX1_fire_1 6 rfl rfl)
theorem dX1_fire_31 : decode cX1_fire 31 = .ok (.sipush 1200, 3) := dk_17 4 176 (dk_at dksX1_fire_1 9 rfl rfl)
theorem dX1_fire_34 : decode cX1_fire 34 = .ok (.iconst 1, 1) := dk_4 (dk_at dksX1_fire_1 12 rfl rfl)
theorem dX1_fire_35 : decode cX1_fire 35 = .ok (.newarray .int, 2) := dk_188_10 (dk_at dksX1_fire_1 13 rfl rfl)
theorem dX1_fire_37 : decode cX1_fire 37 = .ok (.dup, 1) := dk_89 (dk_at dksX1_fire_1 15 rfl rfl)
theorem dX1_fire_38 : decode cX1_fire 38 = .ok (.iconst 0, 1) := dk_3 (dk_at dksX1_fire_1 16 rfl rfl)
theorem dX1_fire_39 : decode cX1_fire 39 = .ok (.iload_n 3, 1) := dk_29 (dk_at dksX1_fire_1 17 rfl rfl)
theorem dX1_fire_40 : decode cX1_fire 40 = .ok (.iastore, 1) := dk_79 (dk_at dksX1_fire_1 18 rfl rfl)
theorem dX1_fire_41 : decode cX1_fire 41 = .ok (.invokestatic 114, 3) := dk_184 0 114 (dk_at dksX1_fire_1 19 rfl rfl)
theorem dX1_fire_44 : decode cX1_fire 44 = .ok (.ifCond .eq 24, 3) := dk_153 0 24 (dk_at dksX1_fire_2 0 rfl rfl)
theorem dX1_fire_47 : decode cX1_fire 47 = .ok (.iconst 1, 1) := dk_4 (dk_at dksX1_fire_2 3 rfl rfl)
theorem dX1_fire_48 : decode cX1_fire 48 = .ok (.bipush 12, 2) := dk_16 12 (dk_at dksX1_fire_2 4 rfl rfl)
theorem dX1_fire_50 : decode cX1_fire 50 = .ok (.iconst 1, 1) := dk_4 (dk_at dksX1_fire_2 6 rfl rfl)
theorem dX1_fire_51 : decode cX1_fire 51 = .ok (.newarray .int, 2) := dk_188_10 (dk_at dksX1_fire_2 7 rfl rfl)
theorem dX1_fire_53 : decode cX1_fire 53 = .ok (.dup, 1) := dk_89 (dk_at dksX1_fire_2 9 rfl rfl)
theorem dX1_fire_54 : decode cX1_fire 54 = .ok (.iconst 0, 1) := dk_3 (dk_at dksX1_fire_2 10 rfl rfl)
theorem dX1_fire_55 : decode cX1_fire 55 = .ok (.iload 4, 2) := dk_21 4 (dk_at dksX1_fire_2 11 rfl rfl)
theorem dX1_fire_57 : decode cX1_fire 57 = .ok (.iastore, 1) := dk_79 (dk_at dksX1_fire_2 13 rfl rfl)
theorem dX1_fire_58 : decode cX1_fire 58 = .ok (.invokestatic 114, 3) := dk_184 0 114 (dk_at dksX1_fire_2 14 rfl rfl)
theorem dX1_fire_61 : decode cX1_fire 61 = .ok (.ifCond .eq 7, 3) := dk_153 0 7 (dk_at dksX1_fire_2 17 rfl rfl)
theorem dX1_fire_64 : decode cX1_fire 64 = .ok (.iconst 1, 1) := dk_4 (dk_at dksX1_fire_2 20 rfl rfl)
theorem dX1_fire_65 : decode cX1_fire 65 = .ok (.goto 4, 3) := dk_167 0 4 (dk_at dksX1_fire_2 21 rfl rfl)
theorem dX1_fire_68 : decode cX1_fire 68 = .ok (.iconst 0, 1) := dk_3 (dk_at dksX1_fire_3 0 rfl rfl)
theorem dX1_fire_69 : decode cX1_fire 69 = .ok (.invokestatic 118, 3) := dk_184 0 118 (dk_at dksX1_fire_3 1 rfl rfl)
theorem dX1_fire_72 : decode cX1_fire 72 = .ok (.aload 5, 2) := dk_25 5 (dk_at dksX1_fire_3 4 rfl rfl)
theorem dX1_fire_74 : decode cX1_fire 74 = .ok (.getfield 198, 3) := dk_180 0 198 (dk_at dksX1_fire_3 6 rfl rfl)
theorem dX1_fire_77 : decode cX1_fire 77 = .ok (.ifCond .eq 40, 3) := dk_153 0 40 (dk_at dksX1_fire_3 9 rfl rfl)
theorem dX1_fire_80 : decode cX1_fire 80 = .ok (.aload 5, 2) := dk_25 5 (dk_at dksX1_fire_3 12 rfl rfl)
theorem dX1_fire_82 : decode cX1_fire 82 = .ok (.aload_n 0, 1) := dk_42 (dk_at dksX1_fire_3 14 rfl rfl)
theorem dX1_fire_83 : decode cX1_fire 83 = .ok (.getfield 122, 3) := dk_180 0 122 (dk_at dksX1_fire_3 15 rfl rfl)
theorem dX1_fire_86 : decode cX1_fire 86 = .ok (.invokevirtual 214, 3) := dk_182 0 214 (dk_at dksX1_fire_3 18 rfl rfl)
theorem dX1_fire_89 : decode cX1_fire 89 = .ok (.ifCond .eq 28, 3) := dk_153 0 28 (dk_at dksX1_fire_3 21 rfl rfl)
theorem dX1_fire_92 : decode cX1_fire 92 = .ok (.aload 5, 2) := dk_25 5 (dk_at dksX1_fire_4 0 rfl rfl)
theorem dX1_fire_94 : decode cX1_fire 94 = .ok (.invokevirtual 218, 3) := dk_182 0 218 (dk_at dksX1_fire_4 2 rfl rfl)
theorem dX1_fire_97 : decode cX1_fire 97 = .ok (.ifCond .ne 20, 3) := dk_154 0 20 (dk_at dksX1_fire_4 5 rfl rfl)
theorem dX1_fire_100 : decode cX1_fire 100 = .ok (.aload_n 0, 1) := dk_42 (dk_at dksX1_fire_4 8 rfl rfl)
theorem dX1_fire_101 : decode cX1_fire 101 = .ok (.getfield 122, 3) := dk_180 0 122 (dk_at dksX1_fire_4 9 rfl rfl)
theorem dX1_fire_104 : decode cX1_fire 104 = .ok (.aload_n 0, 1) := dk_42 (dk_at dksX1_fire_4 12 rfl rfl)
theorem dX1_fire_105 : decode cX1_fire 105 = .ok (.getfield 57, 3) := dk_180 0 57 (dk_at dksX1_fire_4 13 rfl rfl)
theorem dX1_fire_108 : decode cX1_fire 108 = .ok (.iload_n 2, 1) := dk_28 (dk_at dksX1_fire_4 16 rfl rfl)
theorem dX1_fire_109 : decode cX1_fire 109 = .ok (.iaload, 1) := dk_46 (dk_at dksX1_fire_4 17 rfl rfl)
theorem dX1_fire_110 : decode cX1_fire 110 = .ok (.if_icmp .lt 7, 3) := dk_161 0 7 (dk_at dksX1_fire_4 18 rfl rfl)
theorem dX1_fire_113 : decode cX1_fire 113 = .ok (.iconst 1, 1) := dk_4 (dk_at dksX1_fire_4 21 rfl rfl)
theorem dX1_fire_114 : decode cX1_fire 114 = .ok (.goto 4, 3) := dk_167 0 4 (dk_at dksX1_fire_5 0 rfl rfl)
theorem dX1_fire_117 : decode cX1_fire 117 = .ok (.iconst 0, 1) := dk_3 (dk_at dksX1_fire_5 3 rfl rfl)
theorem dX1_fire_118 : decode cX1_fire 118 = .ok (.invokestatic 137, 3) := dk_184 0 137 (dk_at dksX1_fire_5 4 rfl rfl)
theorem dX1_fire_121 : decode cX1_fire 121 = .ok (.aload 5, 2) := dk_25 5 (dk_at dksX1_fire_5 7 rfl rfl)
theorem dX1_fire_123 : decode cX1_fire 123 = .ok (.getfield 207, 3) := dk_180 0 207 (dk_at dksX1_fire_5 9 rfl rfl)
theorem dX1_fire_126 : decode cX1_fire 126 = .ok (.astore 6, 2) := dk_58 6 (dk_at dksX1_fire_5 12 rfl rfl)
theorem dX1_fire_128 : decode cX1_fire 128 = .ok (.aload 5, 2) := dk_25 5 (dk_at dksX1_fire_5 14 rfl rfl)
theorem dX1_fire_130 : decode cX1_fire 130 = .ok (.sipush 1000, 3) := dk_17 3 232 (dk_at dksX1_fire_5 16 rfl rfl)
theorem dX1_fire_133 : decode cX1_fire 133 = .ok (.aload 6, 2) := dk_25 6 (dk_at dksX1_fire_5 19 rfl rfl)
theorem dX1_fire_135 : decode cX1_fire 135 = .ok (.getfield 183, 3) := dk_180 0 183 (dk_at dksX1_fire_5 21 rfl rfl)
theorem dX1_fire_138 : decode cX1_fire 138 = .ok (.isub, 1) := dk_100 (dk_at dksX1_fire_6 0 rfl rfl)
theorem dX1_fire_139 : decode cX1_fire 139 = .ok (.iload_n 3, 1) := dk_29 (dk_at dksX1_fire_6 1 rfl rfl)
theorem dX1_fire_140 : decode cX1_fire 140 = .ok (.sipush 600, 3) := dk_17 2 88 (dk_at dksX1_fire_6 2 rfl rfl)
theorem dX1_fire_143 : decode cX1_fire 143 = .ok (.isub, 1) := dk_100 (dk_at dksX1_fire_6 5 rfl rfl)
theorem dX1_fire_144 : decode cX1_fire 144 = .ok (.imul, 1) := dk_104 (dk_at dksX1_fire_6 6 rfl rfl)
theorem dX1_fire_145 : decode cX1_fire 145 = .ok (.sipush 1000, 3) := dk_17 3 232 (dk_at dksX1_fire_6 7 rfl rfl)
theorem dX1_fire_148 : decode cX1_fire 148 = .ok (.idiv, 1) := dk_108 (dk_at dksX1_fire_6 10 rfl rfl)
theorem dX1_fire_149 : decode cX1_fire 149 = .ok (.bipush 20, 2) := dk_16 20 (dk_at dksX1_fire_6 11 rfl rfl)
theorem dX1_fire_151 : decode cX1_fire 151 = .ok (.aload 6, 2) := dk_25 6 (dk_at dksX1_fire_6 13 rfl rfl)
theorem dX1_fire_153 : decode cX1_fire 153 = .ok (.getfield 186, 3) := dk_180 0 186 (dk_at dksX1_fire_6 15 rfl rfl)
theorem dX1_fire_156 : decode cX1_fire 156 = .ok (.imul, 1) := dk_104 (dk_at dksX1_fire_6 18 rfl rfl)
theorem dX1_fire_157 : decode cX1_fire 157 = .ok (.iadd, 1) := dk_96 (dk_at dksX1_fire_6 19 rfl rfl)
theorem dX1_fire_158 : decode cX1_fire 158 = .ok (.iconst 5, 1) := dk_8 (dk_at dksX1_fire_6 20 rfl rfl)
theorem dX1_fire_159 : decode cX1_fire 159 = .ok (.iload 4, 2) := dk_21 4 (dk_at dksX1_fire_6 21 rfl rfl)
theorem dX1_fire_161 : decode cX1_fire 161 = .ok (.imul, 1) := dk_104 (dk_at dksX1_fire_6 23 rfl rfl)
theorem dX1_fire_162 : decode cX1_fire 162 = .ok (.iadd, 1) := dk_96 (dk_at dksX1_fire_7 0 rfl rfl)
theorem dX1_fire_163 : decode cX1_fire 163 = .ok (.putfield 222, 3) := dk_181 0 222 (dk_at dksX1_fire_7 1 rfl rfl)
theorem dX1_fire_166 : decode cX1_fire 166 = .ok (.aload 5, 2) := dk_25 5 (dk_at dksX1_fire_7 4 rfl rfl)
theorem dX1_fire_168 : decode cX1_fire 168 = .ok (.iconst 0, 1) := dk_3 (dk_at dksX1_fire_7 6 rfl rfl)
theorem dX1_fire_169 : decode cX1_fire 169 = .ok (.sipush 999, 3) := dk_17 3 231 (dk_at dksX1_fire_7 7 rfl rfl)
theorem dX1_fire_172 : decode cX1_fire 172 = .ok (.aload 6, 2) := dk_25 6 (dk_at dksX1_fire_7 10 rfl rfl)
theorem dX1_fire_174 : decode cX1_fire 174 = .ok (.getfield 183, 3) := dk_180 0 183 (dk_at dksX1_fire_7 12 rfl rfl)
theorem dX1_fire_177 : decode cX1_fire 177 = .ok (.iload_n 3, 1) := dk_29 (dk_at dksX1_fire_7 15 rfl rfl)
theorem dX1_fire_178 : decode cX1_fire 178 = .ok (.sipush 700, 3) := dk_17 2 188 (dk_at dksX1_fire_7 16 rfl rfl)
theorem dX1_fire_181 : decode cX1_fire 181 = .ok (.isub, 1) := dk_100 (dk_at dksX1_fire_7 19 rfl rfl)
theorem dX1_fire_182 : decode cX1_fire 182 = .ok (.bipush 10, 2) := dk_16 10 (dk_at dksX1_fire_7 20 rfl rfl)
theorem dX1_fire_184 : decode cX1_fire 184 = .ok (.idiv, 1) := dk_108 (dk_at dksX1_fire_7 22 rfl rfl)
theorem dX1_fire_185 : decode cX1_fire 185 = .ok (.isub, 1) := dk_100 (dk_at dksX1_fire_7 23 rfl rfl)
theorem dX1_fire_186 : decode cX1_fire 186 = .ok (.iconst 5, 1) := dk_8 (dk_at dksX1_fire_8 0 rfl rfl)
theorem dX1_fire_187 : decode cX1_fire 187 = .ok (.aload 6, 2) := dk_25 6 (dk_at dksX1_fire_8 1 rfl rfl)
theorem dX1_fire_189 : decode cX1_fire 189 = .ok (.getfield 186, 3) := dk_180 0 186 (dk_at dksX1_fire_8 3 rfl rfl)
theorem dX1_fire_192 : decode cX1_fire 192 = .ok (.imul, 1) := dk_104 (dk_at dksX1_fire_8 6 rfl rfl)
theorem dX1_fire_193 : decode cX1_fire 193 = .ok (.iadd, 1) := dk_96 (dk_at dksX1_fire_8 7 rfl rfl)
theorem dX1_fire_194 : decode cX1_fire 194 = .ok (.invokestatic 225, 3) := dk_184 0 225 (dk_at dksX1_fire_8 8 rfl rfl)
theorem dX1_fire_197 : decode cX1_fire 197 = .ok (.invokestatic 231, 3) := dk_184 0 231 (dk_at dksX1_fire_8 11 rfl rfl)
theorem dX1_fire_200 : decode cX1_fire 200 = .ok (.putfield 234, 3) := dk_181 0 234 (dk_at dksX1_fire_8 14 rfl rfl)
theorem dX1_fire_203 : decode cX1_fire 203 = .ok (.aload 5, 2) := dk_25 5 (dk_at dksX1_fire_8 17 rfl rfl)
theorem dX1_fire_205 : decode cX1_fire 205 = .ok (.iload_n 2, 1) := dk_28 (dk_at dksX1_fire_8 19 rfl rfl)
theorem dX1_fire_206 : decode cX1_fire 206 = .ok (.putfield 237, 3) := dk_181 0 237 (dk_at dksX1_fire_8 20 rfl rfl)
theorem dX1_fire_209 : decode cX1_fire 209 = .ok (.aload 5, 2) := dk_25 5 (dk_at dksX1_fire_9 0 rfl rfl)
theorem dX1_fire_211 : decode cX1_fire 211 = .ok (.aload_n 0, 1) := dk_42 (dk_at dksX1_fire_9 2 rfl rfl)
theorem dX1_fire_212 : decode cX1_fire 212 = .ok (.getfield 240, 3) := dk_180 0 240 (dk_at dksX1_fire_9 3 rfl rfl)
theorem dX1_fire_215 : decode cX1_fire 215 = .ok (.putfield 243, 3) := dk_181 0 243 (dk_at dksX1_fire_9 6 rfl rfl)
theorem dX1_fire_218 : decode cX1_fire 218 = .ok (.aload 5, 2) := dk_25 5 (dk_at dksX1_fire_9 9 rfl rfl)
theorem dX1_fire_220 : decode cX1_fire 220 = .ok (.aload_n 0, 1) := dk_42 (dk_at dksX1_fire_9 11 rfl rfl)
theorem dX1_fire_221 : decode cX1_fire 221 = .ok (.getfield 122, 3) := dk_180 0 122 (dk_at dksX1_fire_9 12 rfl rfl)
theorem dX1_fire_224 : decode cX1_fire 224 = .ok (.iload 4, 2) := dk_21 4 (dk_at dksX1_fire_9 15 rfl rfl)
theorem dX1_fire_226 : decode cX1_fire 226 = .ok (.iadd, 1) := dk_96 (dk_at dksX1_fire_9 17 rfl rfl)
theorem dX1_fire_227 : decode cX1_fire 227 = .ok (.putfield 201, 3) := dk_181 0 201 (dk_at dksX1_fire_9 18 rfl rfl)
theorem dX1_fire_230 : decode cX1_fire 230 = .ok (.aload_n 0, 1) := dk_42 (dk_at dksX1_fire_9 21 rfl rfl)
theorem dX1_fire_231 : decode cX1_fire 231 = .ok (.getfield 57, 3) := dk_180 0 57 (dk_at dksX1_fire_10 0 rfl rfl)
theorem dX1_fire_234 : decode cX1_fire 234 = .ok (.iload_n 2, 1) := dk_28 (dk_at dksX1_fire_10 3 rfl rfl)
theorem dX1_fire_235 : decode cX1_fire 235 = .ok (.aload 5, 2) := dk_25 5 (dk_at dksX1_fire_10 4 rfl rfl)
theorem dX1_fire_237 : decode cX1_fire 237 = .ok (.getfield 201, 3) := dk_180 0 201 (dk_at dksX1_fire_10 6 rfl rfl)
theorem dX1_fire_240 : decode cX1_fire 240 = .ok (.iastore, 1) := dk_79 (dk_at dksX1_fire_10 9 rfl rfl)
theorem dX1_fire_241 : decode cX1_fire 241 = .ok (.aload_n 0, 1) := dk_42 (dk_at dksX1_fire_10 10 rfl rfl)
theorem dX1_fire_242 : decode cX1_fire 242 = .ok (.dup, 1) := dk_89 (dk_at dksX1_fire_10 11 rfl rfl)
theorem dX1_fire_243 : decode cX1_fire 243 = .ok (.getfield 240, 3) := dk_180 0 240 (dk_at dksX1_fire_10 12 rfl rfl)
theorem dX1_fire_246 : decode cX1_fire 246 = .ok (.iconst 1, 1) := dk_4 (dk_at dksX1_fire_10 15 rfl rfl)
theorem dX1_fire_247 : decode cX1_fire 247 = .ok (.iadd, 1) := dk_96 (dk_at dksX1_fire_10 16 rfl rfl)
theorem dX1_fire_248 : decode cX1_fire 248 = .ok (.putfield 240, 3) := dk_181 0 240 (dk_at dksX1_fire_10 17 rfl rfl)
theorem dX1_fire_251 : decode cX1_fire 251 = .ok (.aload 5, 2) := dk_25 5 (dk_at dksX1_fire_10 20 rfl rfl)
theorem dX1_fire_253 : decode cX1_fire 253 = .ok (.getfield 243, 3) := dk_180 0 243 (dk_at dksX1_fire_11 0 rfl rfl)
theorem dX1_fire_256 : decode cX1_fire 256 = .ok (.ireturn, 1) := dk_172 (dk_at dksX1_fire_11 3 rfl rfl)
abbrev cX1_soak : ByteArray := prog_1_method_27_code
def yX1_soak : MethodName := ⟨RX1, "soak", "(II)I"⟩
def dkwX1_soak_4 : List UInt8 := [181, 0, 234, 45, 180, 0, 222, 172]
abbrev dktX1_soak_4 : List UInt8 := dkwX1_soak_4 ++ []
def dkwX1_soak_3 : List UInt8 := [16, 10, 28, 104, 96, 181, 0, 222, 45, 17, 3, 231, 45, 180, 0, 234, 16, 8, 28, 104, 96, 184, 0, 225]
abbrev dktX1_soak_3 : List UInt8 := dkwX1_soak_3 ++ dktX1_soak_4
def dkwX1_soak_2 : List UInt8 := [180, 0, 246, 154, 0, 7, 4, 167, 0, 4, 3, 184, 0, 137, 45, 4, 181, 0, 246, 45, 89, 180, 0, 222]
abbrev dktX1_soak_2 : List UInt8 := dkwX1_soak_2 ++ dktX1_soak_3
def dkwX1_soak_1 : List UInt8 := [184, 0, 118, 45, 182, 0, 218, 153, 0, 25, 45, 42, 180, 0, 122, 182, 0, 214, 153, 0, 14, 45]
abbrev dktX1_soak_1 : List UInt8 := dkwX1_soak_1 ++ dktX1_soak_2
def dkwX1_soak_0 : List UInt8 := [42, 180, 0, 74, 27, 184, 0, 164, 192, 0, 193, 78, 4, 8, 4, 188, 10, 89, 3, 28, 79, 184, 0, 114]
abbrev dktX1_soak_0 : List UInt8 := dkwX1_soak_0 ++ dktX1_soak_1
theorem dksX1_soak_0 : cX1_soak.data.toList.drop 0 = dktX1_soak_0 := by decide +kernel
theorem dksX1_soak_1 : cX1_soak.data.toList.drop 24 = dktX1_soak_1 := dk_seg dksX1_soak_0 24 rfl rfl
theorem dksX1_soak_2 : cX1_soak.data.toList.drop 46 = dktX1_soak_2 := dk_seg dksX1_soak_1 22 rfl rfl
theorem dksX1_soak_3 : cX1_soak.data.toList.drop 70 = dktX1_soak_3 := dk_seg dksX1_soak_2 24 rfl rfl
theorem dksX1_soak_4 : cX1_soak.data.toList.drop 94 = dktX1_soak_4 := dk_seg dksX1_soak_3 24 rfl rfl
theorem dX1_soak_0 : decode cX1_soak 0 = .ok (.aload_n 0, 1) := dk_42 (dk_at dksX1_soak_0 0 rfl rfl)
theorem dX1_soak_1 : decode cX1_soak 1 = .ok (.getfield 74, 3) := dk_180 0 74 (dk_at dksX1_soak_0 1 rfl rfl)
theorem dX1_soak_4 : decode cX1_soak 4 = .ok (.iload_n 1, 1) := dk_27 (dk_at dksX1_soak_0 4 rfl rfl)
theorem dX1_soak_5 : decode cX1_soak 5 = .ok (.invokestatic 164, 3) := dk_184 0 164 (dk_at dksX1_soak_0 5 rfl rfl)
theorem dX1_soak_8 : decode cX1_soak 8 = .ok (.checkcast 193, 3) := dk_192 0 193 (dk_at dksX1_soak_0 8 rfl rfl)
theorem dX1_soak_11 : decode cX1_soak 11 = .ok (.astore_n 3, 1) := dk_78 (dk_at dksX1_soak_0 11 rfl rfl)
theorem dX1_soak_12 : decode cX1_soak 12 = .ok (.iconst 1, 1) := dk_4 (dk_at dksX1_soak_0 12 rfl rfl)
theorem dX1_soak_13 : decode cX1_soak 13 = .ok (.iconst 5, 1) := dk_8 (dk_at dksX1_soak_0 13 rfl rfl)
theorem dX1_soak_14 : decode cX1_soak 14 = .ok (.iconst 1, 1) := dk_4 (dk_at dksX1_soak_0 14 rfl rfl)
theorem dX1_soak_15 : decode cX1_soak 15 = .ok (.newarray .int, 2) := dk_188_10 (dk_at dksX1_soak_0 15 rfl rfl)
theorem dX1_soak_17 : decode cX1_soak 17 = .ok (.dup, 1) := dk_89 (dk_at dksX1_soak_0 17 rfl rfl)
theorem dX1_soak_18 : decode cX1_soak 18 = .ok (.iconst 0, 1) := dk_3 (dk_at dksX1_soak_0 18 rfl rfl)
theorem dX1_soak_19 : decode cX1_soak 19 = .ok (.iload_n 2, 1) := dk_28 (dk_at dksX1_soak_0 19 rfl rfl)
theorem dX1_soak_20 : decode cX1_soak 20 = .ok (.iastore, 1) := dk_79 (dk_at dksX1_soak_0 20 rfl rfl)
theorem dX1_soak_21 : decode cX1_soak 21 = .ok (.invokestatic 114, 3) := dk_184 0 114 (dk_at dksX1_soak_0 21 rfl rfl)
theorem dX1_soak_24 : decode cX1_soak 24 = .ok (.invokestatic 118, 3) := dk_184 0 118 (dk_at dksX1_soak_1 0 rfl rfl)
theorem dX1_soak_27 : decode cX1_soak 27 = .ok (.aload_n 3, 1) := dk_45 (dk_at dksX1_soak_1 3 rfl rfl)
theorem dX1_soak_28 : decode cX1_soak 28 = .ok (.invokevirtual 218, 3) := dk_182 0 218 (dk_at dksX1_soak_1 4 rfl rfl)
theorem dX1_soak_31 : decode cX1_soak 31 = .ok (.ifCond .eq 25, 3) := dk_153 0 25 (dk_at dksX1_soak_1 7 rfl rfl)
theorem dX1_soak_34 : decode cX1_soak 34 = .ok (.aload_n 3, 1) := dk_45 (dk_at dksX1_soak_1 10 rfl rfl)
theorem dX1_soak_35 : decode cX1_soak 35 = .ok (.aload_n 0, 1) := dk_42 (dk_at dksX1_soak_1 11 rfl rfl)
theorem dX1_soak_36 : decode cX1_soak 36 = .ok (.getfield 122, 3) := dk_180 0 122 (dk_at dksX1_soak_1 12 rfl rfl)
theorem dX1_soak_39 : decode cX1_soak 39 = .ok (.invokevirtual 214, 3) := dk_182 0 214 (dk_at dksX1_soak_1 15 rfl rfl)
theorem dX1_soak_42 : decode cX1_soak 42 = .ok (.ifCond .eq 14, 3) := dk_153 0 14 (dk_at dksX1_soak_1 18 rfl rfl)
theorem dX1_soak_45 : decode cX1_soak 45 = .ok (.aload_n 3, 1) := dk_45 (dk_at dksX1_soak_1 21 rfl rfl)
theorem dX1_soak_46 : decode cX1_soak 46 = .ok (.getfield 246, 3) := dk_180 0 246 (dk_at dksX1_soak_2 0 rfl rfl)
theorem dX1_soak_49 : decode cX1_soak 49 = .ok (.ifCond .ne 7, 3) := dk_154 0 7 (dk_at dksX1_soak_2 3 rfl rfl)
theorem dX1_soak_52 : decode cX1_soak 52 = .ok (.iconst 1, 1) := dk_4 (dk_at dksX1_soak_2 6 rfl rfl)
theorem dX1_soak_53 : decode cX1_soak 53 = .ok (.goto 4, 3) := dk_167 0 4 (dk_at dksX1_soak_2 7 rfl rfl)
theorem dX1_soak_56 : decode cX1_soak 56 = .ok (.iconst 0, 1) := dk_3 (dk_at dksX1_soak_2 10 rfl rfl)
theorem dX1_soak_57 : decode cX1_soak 57 = .ok (.invokestatic 137, 3) := dk_184 0 137 (dk_at dksX1_soak_2 11 rfl rfl)
theorem dX1_soak_60 : decode cX1_soak 60 = .ok (.aload_n 3, 1) := dk_45 (dk_at dksX1_soak_2 14 rfl rfl)
theorem dX1_soak_61 : decode cX1_soak 61 = .ok (.iconst 1, 1) := dk_4 (dk_at dksX1_soak_2 15 rfl rfl)
theorem dX1_soak_62 : decode cX1_soak 62 = .ok (.putfield 246, 3) := dk_181 0 246 (dk_at dksX1_soak_2 16 rfl rfl)
theorem dX1_soak_65 : decode cX1_soak 65 = .ok (.aload_n 3, 1) := dk_45 (dk_at dksX1_soak_2 19 rfl rfl)
theorem dX1_soak_66 : decode cX1_soak 66 = .ok (.dup, 1) := dk_89 (dk_at dksX1_soak_2 20 rfl rfl)
theorem dX1_soak_67 : decode cX1_soak 67 = .ok (.getfield 222, 3) := dk_180 0 222 (dk_at dksX1_soak_2 21 rfl rfl)
theorem dX1_soak_70 : decode cX1_soak 70 = .ok (.bipush 10, 2) := dk_16 10 (dk_at dksX1_soak_3 0 rfl rfl)
theorem dX1_soak_72 : decode cX1_soak 72 = .ok (.iload_n 2, 1) := dk_28 (dk_at dksX1_soak_3 2 rfl rfl)
theorem dX1_soak_73 : decode cX1_soak 73 = .ok (.imul, 1) := dk_104 (dk_at dksX1_soak_3 3 rfl rfl)
theorem dX1_soak_74 : decode cX1_soak 74 = .ok (.iadd, 1) := dk_96 (dk_at dksX1_soak_3 4 rfl rfl)
theorem dX1_soak_75 : decode cX1_soak 75 = .ok (.putfield 222, 3) := dk_181 0 222 (dk_at dksX1_soak_3 5 rfl rfl)
theorem dX1_soak_78 : decode cX1_soak 78 = .ok (.aload_n 3, 1) := dk_45 (dk_at dksX1_soak_3 8 rfl rfl)
theorem dX1_soak_79 : decode cX1_soak 79 = .ok (.sipush 999, 3) := dk_17 3 231 (dk_at dksX1_soak_3 9 rfl rfl)
theorem dX1_soak_82 : decode cX1_soak 82 = .ok (.aload_n 3, 1) := dk_45 (dk_at dksX1_soak_3 12 rfl rfl)
theorem dX1_soak_83 : decode cX1_soak 83 = .ok (.getfield 234, 3) := dk_180 0 234 (dk_at dksX1_soak_3 13 rfl rfl)
theorem dX1_soak_86 : decode cX1_soak 86 = .ok (.bipush 8, 2) := dk_16 8 (dk_at dksX1_soak_3 16 rfl rfl)
theorem dX1_soak_88 : decode cX1_soak 88 = .ok (.iload_n 2, 1) := dk_28 (dk_at dksX1_soak_3 18 rfl rfl)
theorem dX1_soak_89 : decode cX1_soak 89 = .ok (.imul, 1) := dk_104 (dk_at dksX1_soak_3 19 rfl rfl)
theorem dX1_soak_90 : decode cX1_soak 90 = .ok (.iadd, 1) := dk_96 (dk_at dksX1_soak_3 20 rfl rfl)
theorem dX1_soak_91 : decode cX1_soak 91 = .ok (.invokestatic 225, 3) := dk_184 0 225 (dk_at dksX1_soak_3 21 rfl rfl)
theorem dX1_soak_94 : decode cX1_soak 94 = .ok (.putfield 234, 3) := dk_181 0 234 (dk_at dksX1_soak_4 0 rfl rfl)
theorem dX1_soak_97 : decode cX1_soak 97 = .ok (.aload_n 3, 1) := dk_45 (dk_at dksX1_soak_4 3 rfl rfl)
theorem dX1_soak_98 : decode cX1_soak 98 = .ok (.getfield 222, 3) := dk_180 0 222 (dk_at dksX1_soak_4 4 rfl rfl)
theorem dX1_soak_101 : decode cX1_soak 101 = .ok (.ireturn, 1) := dk_172 (dk_at dksX1_soak_4 7 rfl rfl)
abbrev cX1_batch : ByteArray := prog_1_method_28_code
def yX1_batch : MethodName := ⟨RX1, "batch", "(IC)I"⟩
def dkwX1_batch_5 : List UInt8 := [172]
abbrev dktX1_batch_5 : List UInt8 := dkwX1_batch_5 ++ []
def dkwX1_batch_4 : List UInt8 := [180, 0, 201, 167, 0, 21, 45, 180, 0, 222, 167, 0, 14, 45, 180, 0, 234, 167, 0, 7, 45, 180, 0, 243]
abbrev dktX1_batch_4 : List UInt8 := dkwX1_batch_4 ++ dktX1_batch_5
def dkwX1_batch_3 : List UInt8 := [45, 180, 0, 204, 167, 0, 42, 45, 180, 0, 211, 167, 0, 35, 45, 180, 0, 251, 167, 0, 28, 45]
abbrev dktX1_batch_3 : List UInt8 := dkwX1_batch_3 ++ dktX1_batch_4
def dkwX1_batch_2 : List UInt8 := [171, 0, 0, 0, 0, 100, 0, 0, 0, 6, 0, 0, 0, 98, 0, 0, 0, 72, 0, 0, 0, 100, 0, 0, 0, 93, 0, 0, 0, 110, 0, 0, 0, 58, 0, 0, 0, 114, 0, 0, 0, 79, 0, 0, 0, 115, 0, 0, 0, 86, 0, 0, 0, 119, 0, 0, 0, 65]
abbrev dktX1_batch_2 : List UInt8 := dkwX1_batch_2 ++ dktX1_batch_3
def dkwX1_batch_1 : List UInt8 := [167, 0, 4, 3, 184, 0, 118, 28]
abbrev dktX1_batch_1 : List UInt8 := dkwX1_batch_1 ++ dktX1_batch_2
def dkwX1_batch_0 : List UInt8 := [42, 180, 0, 74, 27, 184, 0, 164, 192, 0, 193, 78, 18, 249, 28, 182, 0, 129, 155, 0, 7, 4]
abbrev dktX1_batch_0 : List UInt8 := dkwX1_batch_0 ++ dktX1_batch_1
theorem dksX1_batch_0 : cX1_batch.data.toList.drop 0 = dktX1_batch_0 := by decide +kernel
theorem dksX1_batch_1 : cX1_batch.data.toList.drop 22 = dktX1_batch_1 := dk_seg dksX1_batch_0 22 rfl rfl
theorem dksX1_batch_2 : cX1_batch.data.toList.drop 30 = dktX1_batch_2 := dk_seg dksX1_batch_1 8 rfl rfl
theorem dksX1_batch_3 : cX1_batch.data.toList.drop 88 = dktX1_batch_3 := dk_seg dksX1_batch_2 58 rfl rfl
theorem dksX1_batch_4 : cX1_batch.data.toList.drop 110 = dktX1_batch_4 := dk_seg dksX1_batch_3 22 rfl rfl
theorem dksX1_batch_5 : cX1_batch.data.toList.drop 134 = dktX1_batch_5 := dk_seg dksX1_batch_4 24 rfl rfl
theorem dX1_batch_0 : decode cX1_batch 0 = .ok (.aload_n 0, 1) := dk_42 (dk_at dksX1_batch_0 0 rfl rfl)
theorem dX1_batch_1 : decode cX1_batch 1 = .ok (.getfield 74, 3) := dk_180 0 74 (dk_at dksX1_batch_0 1 rfl rfl)
theorem dX1_batch_4 : decode cX1_batch 4 = .ok (.iload_n 1, 1) := dk_27 (dk_at dksX1_batch_0 4 rfl rfl)
theorem dX1_batch_5 : decode cX1_batch 5 = .ok (.invokestatic 164, 3) := dk_184 0 164 (dk_at dksX1_batch_0 5 rfl rfl)
theorem dX1_batch_8 : decode cX1_batch 8 = .ok (.checkcast 193, 3) := dk_192 0 193 (dk_at dksX1_batch_0 8 rfl rfl)
theorem dX1_batch_11 : decode cX1_batch 11 = .ok (.astore_n 3, 1) := dk_78 (dk_at dksX1_batch_0 11 rfl rfl)
theorem dX1_batch_12 : decode cX1_batch 12 = .ok (.ldc 249, 2) := dk_18 249 (dk_at dksX1_batch_0 12 rfl rfl)
theorem dX1_batch_14 : decode cX1_batch 14 = .ok (.iload_n 2, 1) := dk_28 (dk_at dksX1_batch_0 14 rfl rfl)
theorem dX1_batch_15 : decode cX1_batch 15 = .ok (.invokevirtual 129, 3) := dk_182 0 129 (dk_at dksX1_batch_0 15 rfl rfl)
theorem dX1_batch_18 : decode cX1_batch 18 = .ok (.ifCond .lt 7, 3) := dk_155 0 7 (dk_at dksX1_batch_0 18 rfl rfl)
theorem dX1_batch_21 : decode cX1_batch 21 = .ok (.iconst 1, 1) := dk_4 (dk_at dksX1_batch_0 21 rfl rfl)
theorem dX1_batch_22 : decode cX1_batch 22 = .ok (.goto 4, 3) := dk_167 0 4 (dk_at dksX1_batch_1 0 rfl rfl)
theorem dX1_batch_25 : decode cX1_batch 25 = .ok (.iconst 0, 1) := dk_3 (dk_at dksX1_batch_1 3 rfl rfl)
theorem dX1_batch_26 : decode cX1_batch 26 = .ok (.invokestatic 118, 3) := dk_184 0 118 (dk_at dksX1_batch_1 4 rfl rfl)
theorem dX1_batch_29 : decode cX1_batch 29 = .ok (.iload_n 2, 1) := dk_28 (dk_at dksX1_batch_1 7 rfl rfl)
theorem dX1_batch_30 : decode cX1_batch 30 = .ok (.lookupswitch 100 #[(98, 72), (100, 93), (110, 58), (114, 79), (115, 86), (119, 65)], 58) := by decide +kernel
theorem dX1_batch_88 : decode cX1_batch 88 = .ok (.aload_n 3, 1) := dk_45 (dk_at dksX1_batch_3 0 rfl rfl)
theorem dX1_batch_89 : decode cX1_batch 89 = .ok (.getfield 204, 3) := dk_180 0 204 (dk_at dksX1_batch_3 1 rfl rfl)
theorem dX1_batch_92 : decode cX1_batch 92 = .ok (.goto 42, 3) := dk_167 0 42 (dk_at dksX1_batch_3 4 rfl rfl)
theorem dX1_batch_95 : decode cX1_batch 95 = .ok (.aload_n 3, 1) := dk_45 (dk_at dksX1_batch_3 7 rfl rfl)
theorem dX1_batch_96 : decode cX1_batch 96 = .ok (.getfield 211, 3) := dk_180 0 211 (dk_at dksX1_batch_3 8 rfl rfl)
theorem dX1_batch_99 : decode cX1_batch 99 = .ok (.goto 35, 3) := dk_167 0 35 (dk_at dksX1_batch_3 11 rfl rfl)
theorem dX1_batch_102 : decode cX1_batch 102 = .ok (.aload_n 3, 1) := dk_45 (dk_at dksX1_batch_3 14 rfl rfl)
theorem dX1_batch_103 : decode cX1_batch 103 = .ok (.getfield 251, 3) := dk_180 0 251 (dk_at dksX1_batch_3 15 rfl rfl)
theorem dX1_batch_106 : decode cX1_batch 106 = .ok (.goto 28, 3) := dk_167 0 28 (dk_at dksX1_batch_3 18 rfl rfl)
theorem dX1_batch_109 : decode cX1_batch 109 = .ok (.aload_n 3, 1) := dk_45 (dk_at dksX1_batch_3 21 rfl rfl)
theorem dX1_batch_110 : decode cX1_batch 110 = .ok (.getfield 201, 3) := dk_180 0 201 (dk_at dksX1_batch_4 0 rfl rfl)
theorem dX1_batch_113 : decode cX1_batch 113 = .ok (.goto 21, 3) := dk_167 0 21 (dk_at dksX1_batch_4 3 rfl rfl)
theorem dX1_batch_116 : decode cX1_batch 116 = .ok (.aload_n 3, 1) := dk_45 (dk_at dksX1_batch_4 6 rfl rfl)
theorem dX1_batch_117 : decode cX1_batch 117 = .ok (.getfield 222, 3) := dk_180 0 222 (dk_at dksX1_batch_4 7 rfl rfl)
theorem dX1_batch_120 : decode cX1_batch 120 = .ok (.goto 14, 3) := dk_167 0 14 (dk_at dksX1_batch_4 10 rfl rfl)
theorem dX1_batch_123 : decode cX1_batch 123 = .ok (.aload_n 3, 1) := dk_45 (dk_at dksX1_batch_4 13 rfl rfl)
theorem dX1_batch_124 : decode cX1_batch 124 = .ok (.getfield 234, 3) := dk_180 0 234 (dk_at dksX1_batch_4 14 rfl rfl)
theorem dX1_batch_127 : decode cX1_batch 127 = .ok (.goto 7, 3) := dk_167 0 7 (dk_at dksX1_batch_4 17 rfl rfl)
theorem dX1_batch_130 : decode cX1_batch 130 = .ok (.aload_n 3, 1) := dk_45 (dk_at dksX1_batch_4 20 rfl rfl)
theorem dX1_batch_131 : decode cX1_batch 131 = .ok (.getfield 243, 3) := dk_180 0 243 (dk_at dksX1_batch_4 21 rfl rfl)
theorem dX1_batch_134 : decode cX1_batch 134 = .ok (.ireturn, 1) := dk_172 (dk_at dksX1_batch_5 0 rfl rfl)
abbrev cX1_draw : ByteArray := prog_1_method_29_code
def yX1_draw : MethodName := ⟨RX1, "draw", "(I)I"⟩
def dkwX1_draw_1 : List UInt8 := [182, 0, 214, 153, 0, 7, 4, 167, 0, 4, 3, 184, 0, 137, 42, 180, 0, 82, 44, 182, 0, 254, 172]
abbrev dktX1_draw_1 : List UInt8 := dkwX1_draw_1 ++ []
def dkwX1_draw_0 : List UInt8 := [42, 180, 0, 74, 27, 184, 0, 164, 192, 0, 193, 77, 44, 182, 0, 218, 153, 0, 18, 44, 42, 180, 0, 122]
abbrev dktX1_draw_0 : List UInt8 := dkwX1_draw_0 ++ dktX1_draw_1
theorem dksX1_draw_0 : cX1_draw.data.toList.drop 0 = dktX1_draw_0 := by decide +kernel
theorem dksX1_draw_1 : cX1_draw.data.toList.drop 24 = dktX1_draw_1 := dk_seg dksX1_draw_0 24 rfl rfl
theorem dX1_draw_0 : decode cX1_draw 0 = .ok (.aload_n 0, 1) := dk_42 (dk_at dksX1_draw_0 0 rfl rfl)
theorem dX1_draw_1 : decode cX1_draw 1 = .ok (.getfield 74, 3) := dk_180 0 74 (dk_at dksX1_draw_0 1 rfl rfl)
theorem dX1_draw_4 : decode cX1_draw 4 = .ok (.iload_n 1, 1) := dk_27 (dk_at dksX1_draw_0 4 rfl rfl)
theorem dX1_draw_5 : decode cX1_draw 5 = .ok (.invokestatic 164, 3) := dk_184 0 164 (dk_at dksX1_draw_0 5 rfl rfl)
theorem dX1_draw_8 : decode cX1_draw 8 = .ok (.checkcast 193, 3) := dk_192 0 193 (dk_at dksX1_draw_0 8 rfl rfl)
theorem dX1_draw_11 : decode cX1_draw 11 = .ok (.astore_n 2, 1) := dk_77 (dk_at dksX1_draw_0 11 rfl rfl)
theorem dX1_draw_12 : decode cX1_draw 12 = .ok (.aload_n 2, 1) := dk_44 (dk_at dksX1_draw_0 12 rfl rfl)
theorem dX1_draw_13 : decode cX1_draw 13 = .ok (.invokevirtual 218, 3) := dk_182 0 218 (dk_at dksX1_draw_0 13 rfl rfl)
theorem dX1_draw_16 : decode cX1_draw 16 = .ok (.ifCond .eq 18, 3) := dk_153 0 18 (dk_at dksX1_draw_0 16 rfl rfl)
theorem dX1_draw_19 : decode cX1_draw 19 = .ok (.aload_n 2, 1) := dk_44 (dk_at dksX1_draw_0 19 rfl rfl)
theorem dX1_draw_20 : decode cX1_draw 20 = .ok (.aload_n 0, 1) := dk_42 (dk_at dksX1_draw_0 20 rfl rfl)
theorem dX1_draw_21 : decode cX1_draw 21 = .ok (.getfield 122, 3) := dk_180 0 122 (dk_at dksX1_draw_0 21 rfl rfl)
theorem dX1_draw_24 : decode cX1_draw 24 = .ok (.invokevirtual 214, 3) := dk_182 0 214 (dk_at dksX1_draw_1 0 rfl rfl)
theorem dX1_draw_27 : decode cX1_draw 27 = .ok (.ifCond .eq 7, 3) := dk_153 0 7 (dk_at dksX1_draw_1 3 rfl rfl)
theorem dX1_draw_30 : decode cX1_draw 30 = .ok (.iconst 1, 1) := dk_4 (dk_at dksX1_draw_1 6 rfl rfl)
theorem dX1_draw_31 : decode cX1_draw 31 = .ok (.goto 4, 3) := dk_167 0 4 (dk_at dksX1_draw_1 7 rfl rfl)
theorem dX1_draw_34 : decode cX1_draw 34 = .ok (.iconst 0, 1) := dk_3 (dk_at dksX1_draw_1 10 rfl rfl)
theorem dX1_draw_35 : decode cX1_draw 35 = .ok (.invokestatic 137, 3) := dk_184 0 137 (dk_at dksX1_draw_1 11 rfl rfl)
theorem dX1_draw_38 : decode cX1_draw 38 = .ok (.aload_n 0, 1) := dk_42 (dk_at dksX1_draw_1 14 rfl rfl)
theorem dX1_draw_39 : decode cX1_draw 39 = .ok (.getfield 82, 3) := dk_180 0 82 (dk_at dksX1_draw_1 15 rfl rfl)
theorem dX1_draw_42 : decode cX1_draw 42 = .ok (.aload_n 2, 1) := dk_44 (dk_at dksX1_draw_1 18 rfl rfl)
theorem dX1_draw_43 : decode cX1_draw 43 = .ok (.invokevirtual 254, 3) := dk_182 0 254 (dk_at dksX1_draw_1 19 rfl rfl)
theorem dX1_draw_46 : decode cX1_draw 46 = .ok (.ireturn, 1) := dk_172 (dk_at dksX1_draw_1 22 rfl rfl)
abbrev cX1_slats : ByteArray := prog_1_method_31_code
def yX1_slats : MethodName := ⟨RX1, "slats", "(CIII)I"⟩
def dkwX1_slats_6 : List UInt8 := [180, 0, 86, 185, 0, 7, 1, 0, 4, 100, 172]
abbrev dktX1_slats_6 : List UInt8 := dkwX1_slats_6 ++ []
def dkwX1_slats_5 : List UInt8 := [160, 0, 7, 4, 167, 0, 4, 3, 28, 29, 21, 4, 183, 1, 7, 185, 0, 160, 2, 0, 87, 42]
abbrev dktX1_slats_5 : List UInt8 := dkwX1_slats_5 ++ dktX1_slats_6
def dkwX1_slats_4 : List UInt8 := [184, 0, 126, 42, 180, 0, 86, 187, 1, 5, 89, 42, 180, 0, 86, 185, 0, 7, 1, 0, 27, 16, 99]
abbrev dktX1_slats_4 : List UInt8 := dkwX1_slats_4 ++ dktX1_slats_5
def dkwX1_slats_3 : List UInt8 := [184, 0, 118, 42, 180, 0, 86, 185, 0, 7, 1, 0, 16, 12, 162, 0, 7, 4, 167, 0, 4, 3]
abbrev dktX1_slats_3 : List UInt8 := dkwX1_slats_3 ++ dktX1_slats_4
def dkwX1_slats_2 : List UInt8 := [17, 1, 244, 4, 188, 10, 89, 3, 21, 4, 79, 184, 0, 114, 153, 0, 7, 4, 167, 0, 4, 3]
abbrev dktX1_slats_2 : List UInt8 := dkwX1_slats_2 ++ dktX1_slats_3
def dkwX1_slats_1 : List UInt8 := [184, 0, 114, 153, 0, 41, 3, 16, 40, 4, 188, 10, 89, 3, 29, 79, 184, 0, 114, 153, 0, 25, 4]
abbrev dktX1_slats_1 : List UInt8 := dkwX1_slats_1 ++ dktX1_slats_2
def dkwX1_slats_0 : List UInt8 := [27, 16, 99, 159, 0, 9, 27, 16, 98, 160, 0, 57, 3, 16, 9, 4, 188, 10, 89, 3, 28, 79]
abbrev dktX1_slats_0 : List UInt8 := dkwX1_slats_0 ++ dktX1_slats_1
theorem dksX1_slats_0 : cX1_slats.data.toList.drop 0 = dktX1_slats_0 := by decide +kernel
theorem dksX1_slats_1 : cX1_slats.data.toList.drop 22 = dktX1_slats_1 := dk_seg dksX1_slats_0 22 rfl rfl
theorem dksX1_slats_2 : cX1_slats.data.toList.drop 45 = dktX1_slats_2 := dk_seg dksX1_slats_1 23 rfl rfl
theorem dksX1_slats_3 : cX1_slats.data.toList.drop 67 = dktX1_slats_3 := dk_seg dksX1_slats_2 22 rfl rfl
theorem dksX1_slats_4 : cX1_slats.data.toList.drop 89 = dktX1_slats_4 := dk_seg dksX1_slats_3 22 rfl rfl
theorem dksX1_slats_5 : cX1_slats.data.toList.drop 112 = dktX1_slats_5 := dk_seg dksX1_slats_4 23 rfl rfl
theorem dksX1_slats_6 : cX1_slats.data.toList.drop 134 = dktX1_slats_6 := dk_seg dksX1_slats_5 22 rfl rfl
theorem dX1_slats_0 : decode cX1_slats 0 = .ok (.iload_n 1, 1) := dk_27 (dk_at dksX1_slats_0 0 rfl rfl)
theorem dX1_slats_1 : decode cX1_slats 1 = .ok (.bipush 99, 2) := dk_16 99 (dk_at dksX1_slats_0 1 rfl rfl)
theorem dX1_slats_3 : decode cX1_slats 3 = .ok (.if_icmp .eq 9, 3) := dk_159 0 9 (dk_at dksX1_slats_0 3 rfl rfl)
theorem dX1_slats_6 : decode cX1_slats 6 = .ok (.iload_n 1, 1) := dk_27 (dk_at dksX1_slats_0 6 rfl rfl)
theorem dX1_slats_7 : decode cX1_slats 7 = .ok (.bipush 98, 2) := dk_16 98 (dk_at dksX1_slats_0 7 rfl rfl)
theorem dX1_slats_9 : decode cX1_slats 9 = .ok (.if_icmp .ne 57, 3) := dk_160 0 57 (dk_at dksX1_slats_0 9 rfl rfl)
theorem dX1_slats_12 : decode cX1_slats 12 = .ok (.iconst 0, 1) := dk_3 (dk_at dksX1_slats_0 12 rfl rfl)
theorem dX1_slats_13 : decode cX1_slats 13 = .ok (.bipush 9, 2) := dk_16 9 (dk_at dksX1_slats_0 13 rfl rfl)
theorem dX1_slats_15 : decode cX1_slats 15 = .ok (.iconst 1, 1) := dk_4 (dk_at dksX1_slats_0 15 rfl rfl)
theorem dX1_slats_16 : decode cX1_slats 16 = .ok (.newarray .int, 2) := dk_188_10 (dk_at dksX1_slats_0 16 rfl rfl)
theorem dX1_slats_18 : decode cX1_slats 18 = .ok (.dup, 1) := dk_89 (dk_at dksX1_slats_0 18 rfl rfl)
theorem dX1_slats_19 : decode cX1_slats 19 = .ok (.iconst 0, 1) := dk_3 (dk_at dksX1_slats_0 19 rfl rfl)
theorem dX1_slats_20 : decode cX1_slats 20 = .ok (.iload_n 2, 1) := dk_28 (dk_at dksX1_slats_0 20 rfl rfl)
theorem dX1_slats_21 : decode cX1_slats 21 = .ok (.iastore, 1) := dk_79 (dk_at dksX1_slats_0 21 rfl rfl)
theorem dX1_slats_22 : decode cX1_slats 22 = .ok (.invokestatic 114, 3) := dk_184 0 114 (dk_at dksX1_slats_1 0 rfl rfl)
theorem dX1_slats_25 : decode cX1_slats 25 = .ok (.ifCond .eq 41, 3) := dk_153 0 41 (dk_at dksX1_slats_1 3 rfl rfl)
theorem dX1_slats_28 : decode cX1_slats 28 = .ok (.iconst 0, 1) := dk_3 (dk_at dksX1_slats_1 6 rfl rfl)
theorem dX1_slats_29 : decode cX1_slats 29 = .ok (.bipush 40, 2) := dk_16 40 (dk_at dksX1_slats_1 7 rfl rfl)
theorem dX1_slats_31 : decode cX1_slats 31 = .ok (.iconst 1, 1) := dk_4 (dk_at dksX1_slats_1 9 rfl rfl)
theorem dX1_slats_32 : decode cX1_slats 32 = .ok (.newarray .int, 2) := dk_188_10 (dk_at dksX1_slats_1 10 rfl rfl)
theorem dX1_slats_34 : decode cX1_slats 34 = .ok (.dup, 1) := dk_89 (dk_at dksX1_slats_1 12 rfl rfl)
theorem dX1_slats_35 : decode cX1_slats 35 = .ok (.iconst 0, 1) := dk_3 (dk_at dksX1_slats_1 13 rfl rfl)
theorem dX1_slats_36 : decode cX1_slats 36 = .ok (.iload_n 3, 1) := dk_29 (dk_at dksX1_slats_1 14 rfl rfl)
theorem dX1_slats_37 : decode cX1_slats 37 = .ok (.iastore, 1) := dk_79 (dk_at dksX1_slats_1 15 rfl rfl)
theorem dX1_slats_38 : decode cX1_slats 38 = .ok (.invokestatic 114, 3) := dk_184 0 114 (dk_at dksX1_slats_1 16 rfl rfl)
theorem dX1_slats_41 : decode cX1_slats 41 = .ok (.ifCond .eq 25, 3) := dk_153 0 25 (dk_at dksX1_slats_1 19 rfl rfl)
theorem dX1_slats_44 : decode cX1_slats 44 = .ok (.iconst 1, 1) := dk_4 (dk_at dksX1_slats_1 22 rfl rfl)
theorem dX1_slats_45 : decode cX1_slats 45 = .ok (.sipush 500, 3) := dk_17 1 244 (dk_at dksX1_slats_2 0 rfl rfl)
theorem dX1_slats_48 : decode cX1_slats 48 = .ok (.iconst 1, 1) := dk_4 (dk_at dksX1_slats_2 3 rfl rfl)
theorem dX1_slats_49 : decode cX1_slats 49 = .ok (.newarray .int, 2) := dk_188_10 (dk_at dksX1_slats_2 4 rfl rfl)
theorem dX1_slats_51 : decode cX1_slats 51 = .ok (.dup, 1) := dk_89 (dk_at dksX1_slats_2 6 rfl rfl)
theorem dX1_slats_52 : decode cX1_slats 52 = .ok (.iconst 0, 1) := dk_3 (dk_at dksX1_slats_2 7 rfl rfl)
theorem dX1_slats_53 : decode cX1_slats 53 = .ok (.iload 4, 2) := dk_21 4 (dk_at dksX1_slats_2 8 rfl rfl)
theorem dX1_slats_55 : decode cX1_slats 55 = .ok (.iastore, 1) := dk_79 (dk_at dksX1_slats_2 10 rfl rfl)
theorem dX1_slats_56 : decode cX1_slats 56 = .ok (.invokestatic 114, 3) := dk_184 0 114 (dk_at dksX1_slats_2 11 rfl rfl)
theorem dX1_slats_59 : decode cX1_slats 59 = .ok (.ifCond .eq 7, 3) := dk_153 0 7 (dk_at dksX1_slats_2 14 rfl rfl)
theorem dX1_slats_62 : decode cX1_slats 62 = .ok (.iconst 1, 1) := dk_4 (dk_at dksX1_slats_2 17 rfl rfl)
theorem dX1_slats_63 : decode cX1_slats 63 = .ok (.goto 4, 3) := dk_167 0 4 (dk_at dksX1_slats_2 18 rfl rfl)
theorem dX1_slats_66 : decode cX1_slats 66 = .ok (.iconst 0, 1) := dk_3 (dk_at dksX1_slats_2 21 rfl rfl)
theorem dX1_slats_67 : decode cX1_slats 67 = .ok (.invokestatic 118, 3) := dk_184 0 118 (dk_at dksX1_slats_3 0 rfl rfl)
theorem dX1_slats_70 : decode cX1_slats 70 = .ok (.aload_n 0, 1) := dk_42 (dk_at dksX1_slats_3 3 rfl rfl)
theorem dX1_slats_71 : decode cX1_slats 71 = .ok (.getfield 86, 3) := dk_180 0 86 (dk_at dksX1_slats_3 4 rfl rfl)
theorem dX1_slats_74 : decode cX1_slats 74 = .ok (.invokeinterface 7 1, 5) := by decide +kernel
theorem dX1_slats_79 : decode cX1_slats 79 = .ok (.bipush 12, 2) := dk_16 12 (dk_at dksX1_slats_3 12 rfl rfl)
theorem dX1_slats_81 : decode cX1_slats 81 = .ok (.if_icmp .ge 7, 3) := dk_162 0 7 (dk_at dksX1_slats_3 14 rfl rfl)
theorem dX1_slats_84 : decode cX1_slats 84 = .ok (.iconst 1, 1) := dk_4 (dk_at dksX1_slats_3 17 rfl rfl)
theorem dX1_slats_85 : decode cX1_slats 85 = .ok (.goto 4, 3) := dk_167 0 4 (dk_at dksX1_slats_3 18 rfl rfl)
theorem dX1_slats_88 : decode cX1_slats 88 = .ok (.iconst 0, 1) := dk_3 (dk_at dksX1_slats_3 21 rfl rfl)
theorem dX1_slats_89 : decode cX1_slats 89 = .ok (.invokestatic 126, 3) := dk_184 0 126 (dk_at dksX1_slats_4 0 rfl rfl)
theorem dX1_slats_92 : decode cX1_slats 92 = .ok (.aload_n 0, 1) := dk_42 (dk_at dksX1_slats_4 3 rfl rfl)
theorem dX1_slats_93 : decode cX1_slats 93 = .ok (.getfield 86, 3) := dk_180 0 86 (dk_at dksX1_slats_4 4 rfl rfl)
theorem dX1_slats_96 : decode cX1_slats 96 = .ok (.new 261, 3) := dk_187 1 5 (dk_at dksX1_slats_4 7 rfl rfl)
theorem dX1_slats_99 : decode cX1_slats 99 = .ok (.dup, 1) := dk_89 (dk_at dksX1_slats_4 10 rfl rfl)
theorem dX1_slats_100 : decode cX1_slats 100 = .ok (.aload_n 0, 1) := dk_42 (dk_at dksX1_slats_4 11 rfl rfl)
theorem dX1_slats_101 : decode cX1_slats 101 = .ok (.getfield 86, 3) := dk_180 0 86 (dk_at dksX1_slats_4 12 rfl rfl)
theorem dX1_slats_104 : decode cX1_slats 104 = .ok (.invokeinterface 7 1, 5) := by decide +kernel
theorem dX1_slats_109 : decode cX1_slats 109 = .ok (.iload_n 1, 1) := dk_27 (dk_at dksX1_slats_4 20 rfl rfl)
theorem dX1_slats_110 : decode cX1_slats 110 = .ok (.bipush 99, 2) := dk_16 99 (dk_at dksX1_slats_4 21 rfl rfl)
theorem dX1_slats_112 : decode cX1_slats 112 = .ok (.if_icmp .ne 7, 3) := dk_160 0 7 (dk_at dksX1_slats_5 0 rfl rfl)
theorem dX1_slats_115 : decode cX1_slats 115 = .ok (.iconst 1, 1) := dk_4 (dk_at dksX1_slats_5 3 rfl rfl)
theorem dX1_slats_116 : decode cX1_slats 116 = .ok (.goto 4, 3) := dk_167 0 4 (dk_at dksX1_slats_5 4 rfl rfl)
theorem dX1_slats_119 : decode cX1_slats 119 = .ok (.iconst 0, 1) := dk_3 (dk_at dksX1_slats_5 7 rfl rfl)
theorem dX1_slats_120 : decode cX1_slats 120 = .ok (.iload_n 2, 1) := dk_28 (dk_at dksX1_slats_5 8 rfl rfl)
theorem dX1_slats_121 : decode cX1_slats 121 = .ok (.iload_n 3, 1) := dk_29 (dk_at dksX1_slats_5 9 rfl rfl)
theorem dX1_slats_122 : decode cX1_slats 122 = .ok (.iload 4, 2) := dk_21 4 (dk_at dksX1_slats_5 10 rfl rfl)
theorem dX1_slats_124 : decode cX1_slats 124 = .ok (.invokespecial 263, 3) := dk_183 1 7 (dk_at dksX1_slats_5 12 rfl rfl)
theorem dX1_slats_127 : decode cX1_slats 127 = .ok (.invokeinterface 160 2, 5) := by decide +kernel
theorem dX1_slats_132 : decode cX1_slats 132 = .ok (.pop, 1) := dk_87 (dk_at dksX1_slats_5 20 rfl rfl)
theorem dX1_slats_133 : decode cX1_slats 133 = .ok (.aload_n 0, 1) := dk_42 (dk_at dksX1_slats_5 21 rfl rfl)
theorem dX1_slats_134 : decode cX1_slats 134 = .ok (.getfield 86, 3) := dk_180 0 86 (dk_at dksX1_slats_6 0 rfl rfl)
theorem dX1_slats_137 : decode cX1_slats 137 = .ok (.invokeinterface 7 1, 5) := by decide +kernel
theorem dX1_slats_142 : decode cX1_slats 142 = .ok (.iconst 1, 1) := dk_4 (dk_at dksX1_slats_6 8 rfl rfl)
theorem dX1_slats_143 : decode cX1_slats 143 = .ok (.isub, 1) := dk_100 (dk_at dksX1_slats_6 9 rfl rfl)
theorem dX1_slats_144 : decode cX1_slats 144 = .ok (.ireturn, 1) := dk_172 (dk_at dksX1_slats_6 10 rfl rfl)
abbrev cX1_season : ByteArray := prog_1_method_32_code
def yX1_season : MethodName := ⟨RX1, "season", "(II)I"⟩
def dkwX1_season_3 : List UInt8 := [108, 100, 184, 0, 231, 181, 1, 11, 45, 42, 180, 0, 122, 28, 96, 181, 1, 10, 45, 180, 1, 10, 172]
abbrev dktX1_season_3 : List UInt8 := dkwX1_season_3 ++ []
def dkwX1_season_2 : List UInt8 := [184, 0, 137, 45, 3, 45, 180, 1, 11, 28, 45, 180, 1, 14, 153, 0, 8, 16, 6, 167, 0, 5, 16, 9]
abbrev dktX1_season_2 : List UInt8 := dkwX1_season_2 ++ dktX1_season_3
def dkwX1_season_1 : List UInt8 := [184, 0, 114, 184, 0, 118, 42, 180, 0, 122, 45, 180, 1, 10, 161, 0, 7, 4, 167, 0, 4, 3]
abbrev dktX1_season_1 : List UInt8 := dkwX1_season_1 ++ dktX1_season_2
def dkwX1_season_0 : List UInt8 := [42, 180, 0, 86, 27, 184, 0, 164, 192, 1, 5, 78, 4, 17, 0, 200, 4, 188, 10, 89, 3, 28, 79]
abbrev dktX1_season_0 : List UInt8 := dkwX1_season_0 ++ dktX1_season_1
theorem dksX1_season_0 : cX1_season.data.toList.drop 0 = dktX1_season_0 := by decide +kernel
theorem dksX1_season_1 : cX1_season.data.toList.drop 23 = dktX1_season_1 := dk_seg dksX1_season_0 23 rfl rfl
theorem dksX1_season_2 : cX1_season.data.toList.drop 45 = dktX1_season_2 := dk_seg dksX1_season_1 22 rfl rfl
theorem dksX1_season_3 : cX1_season.data.toList.drop 69 = dktX1_season_3 := dk_seg dksX1_season_2 24 rfl rfl
theorem dX1_season_0 : decode cX1_season 0 = .ok (.aload_n 0, 1) := dk_42 (dk_at dksX1_season_0 0 rfl rfl)
theorem dX1_season_1 : decode cX1_season 1 = .ok (.getfield 86, 3) := dk_180 0 86 (dk_at dksX1_season_0 1 rfl rfl)
theorem dX1_season_4 : decode cX1_season 4 = .ok (.iload_n 1, 1) := dk_27 (dk_at dksX1_season_0 4 rfl rfl)
theorem dX1_season_5 : decode cX1_season 5 = .ok (.invokestatic 164, 3) := dk_184 0 164 (dk_at dksX1_season_0 5 rfl rfl)
theorem dX1_season_8 : decode cX1_season 8 = .ok (.checkcast 261, 3) := dk_192 1 5 (dk_at dksX1_season_0 8 rfl rfl)
theorem dX1_season_11 : decode cX1_season 11 = .ok (.astore_n 3, 1) := dk_78 (dk_at dksX1_season_0 11 rfl rfl)
theorem dX1_season_12 : decode cX1_season 12 = .ok (.iconst 1, 1) := dk_4 (dk_at dksX1_season_0 12 rfl rfl)
theorem dX1_season_13 : decode cX1_season 13 = .ok (.sipush 200, 3) := dk_17 0 200 (dk_at dksX1_season_0 13 rfl rfl)
theorem dX1_season_16 : decode cX1_season 16 = .ok (.iconst 1, 1) := dk_4 (dk_at dksX1_season_0 16 rfl rfl)
theorem dX1_season_17 : decode cX1_season 17 = .ok (.newarray .int, 2) := dk_188_10 (dk_at dksX1_season_0 17 rfl rfl)
theorem dX1_season_19 : decode cX1_season 19 = .ok (.dup, 1) := dk_89 (dk_at dksX1_season_0 19 rfl rfl)
theorem dX1_season_20 : decode cX1_season 20 = .ok (.iconst 0, 1) := dk_3 (dk_at dksX1_season_0 20 rfl rfl)
theorem dX1_season_21 : decode cX1_season 21 = .ok (.iload_n 2, 1) := dk_28 (dk_at dksX1_season_0 21 rfl rfl)
theorem dX1_season_22 : decode cX1_season 22 = .ok (.iastore, 1) := dk_79 (dk_at dksX1_season_0 22 rfl rfl)
theorem dX1_season_23 : decode cX1_season 23 = .ok (.invokestatic 114, 3) := dk_184 0 114 (dk_at dksX1_season_1 0 rfl rfl)
theorem dX1_season_26 : decode cX1_season 26 = .ok (.invokestatic 118, 3) := dk_184 0 118 (dk_at dksX1_season_1 3 rfl rfl)
theorem dX1_season_29 : decode cX1_season 29 = .ok (.aload_n 0, 1) := dk_42 (dk_at dksX1_season_1 6 rfl rfl)
theorem dX1_season_30 : decode cX1_season 30 = .ok (.getfield 122, 3) := dk_180 0 122 (dk_at dksX1_season_1 7 rfl rfl)
theorem dX1_season_33 : decode cX1_season 33 = .ok (.aload_n 3, 1) := dk_45 (dk_at dksX1_season_1 10 rfl rfl)
theorem dX1_season_34 : decode cX1_season 34 = .ok (.getfield 266, 3) := dk_180 1 10 (dk_at dksX1_season_1 11 rfl rfl)
theorem dX1_season_37 : decode cX1_season 37 = .ok (.if_icmp .lt 7, 3) := dk_161 0 7 (dk_at dksX1_season_1 14 rfl rfl)
theorem dX1_season_40 : decode cX1_season 40 = .ok (.iconst 1, 1) := dk_4 (dk_at dksX1_season_1 17 rfl rfl)
theorem dX1_season_41 : decode cX1_season 41 = .ok (.goto 4, 3) := dk_167 0 4 (dk_at dksX1_season_1 18 rfl rfl)
theorem dX1_season_44 : decode cX1_season 44 = .ok (.iconst 0, 1) := dk_3 (dk_at dksX1_season_1 21 rfl rfl)
theorem dX1_season_45 : decode cX1_season 45 = .ok (.invokestatic 137, 3) := dk_184 0 137 (dk_at dksX1_season_2 0 rfl rfl)
theorem dX1_season_48 : decode cX1_season 48 = .ok (.aload_n 3, 1) := dk_45 (dk_at dksX1_season_2 3 rfl rfl)
theorem dX1_season_49 : decode cX1_season 49 = .ok (.iconst 0, 1) := dk_3 (dk_at dksX1_season_2 4 rfl rfl)
theorem dX1_season_50 : decode cX1_season 50 = .ok (.aload_n 3, 1) := dk_45 (dk_at dksX1_season_2 5 rfl rfl)
theorem dX1_season_51 : decode cX1_season 51 = .ok (.getfield 267, 3) := dk_180 1 11 (dk_at dksX1_season_2 6 rfl rfl)
theorem dX1_season_54 : decode cX1_season 54 = .ok (.iload_n 2, 1) := dk_28 (dk_at dksX1_season_2 9 rfl rfl)
theorem dX1_season_55 : decode cX1_season 55 = .ok (.aload_n 3, 1) := dk_45 (dk_at dksX1_season_2 10 rfl rfl)
theorem dX1_season_56 : decode cX1_season 56 = .ok (.getfield 270, 3) := dk_180 1 14 (dk_at dksX1_season_2 11 rfl rfl)
theorem dX1_season_59 : decode cX1_season 59 = .ok (.ifCond .eq 8, 3) := dk_153 0 8 (dk_at dksX1_season_2 14 rfl rfl)
theorem dX1_season_62 : decode cX1_season 62 = .ok (.bipush 6, 2) := dk_16 6 (dk_at dksX1_season_2 17 rfl rfl)
theorem dX1_season_64 : decode cX1_season 64 = .ok (.goto 5, 3) := dk_167 0 5 (dk_at dksX1_season_2 19 rfl rfl)
theorem dX1_season_67 : decode cX1_season 67 = .ok (.bipush 9, 2) := dk_16 9 (dk_at dksX1_season_2 22 rfl rfl)
theorem dX1_season_69 : decode cX1_season 69 = .ok (.idiv, 1) := dk_108 (dk_at dksX1_season_3 0 rfl rfl)
theorem dX1_season_70 : decode cX1_season 70 = .ok (.isub, 1) := dk_100 (dk_at dksX1_season_3 1 rfl rfl)
theorem dX1_season_71 : decode cX1_season 71 = .ok (.invokestatic 231, 3) := dk_184 0 231 (dk_at dksX1_season_3 2 rfl rfl)
theorem dX1_season_74 : decode cX1_season 74 = .ok (.putfield 267, 3) := dk_181 1 11 (dk_at dksX1_season_3 5 rfl rfl)
theorem dX1_season_77 : decode cX1_season 77 = .ok (.aload_n 3, 1) := dk_45 (dk_at dksX1_season_3 8 rfl rfl)
theorem dX1_season_78 : decode cX1_season 78 = .ok (.aload_n 0, 1) := dk_42 (dk_at dksX1_season_3 9 rfl rfl)
theorem dX1_season_79 : decode cX1_season 79 = .ok (.getfield 122, 3) := dk_180 0 122 (dk_at dksX1_season_3 10 rfl rfl)
theorem dX1_season_82 : decode cX1_season 82 = .ok (.iload_n 2, 1) := dk_28 (dk_at dksX1_season_3 13 rfl rfl)
theorem dX1_season_83 : decode cX1_season 83 = .ok (.iadd, 1) := dk_96 (dk_at dksX1_season_3 14 rfl rfl)
theorem dX1_season_84 : decode cX1_season 84 = .ok (.putfield 266, 3) := dk_181 1 10 (dk_at dksX1_season_3 15 rfl rfl)
theorem dX1_season_87 : decode cX1_season 87 = .ok (.aload_n 3, 1) := dk_45 (dk_at dksX1_season_3 18 rfl rfl)
theorem dX1_season_88 : decode cX1_season 88 = .ok (.getfield 266, 3) := dk_180 1 10 (dk_at dksX1_season_3 19 rfl rfl)
theorem dX1_season_91 : decode cX1_season 91 = .ok (.ireturn, 1) := dk_172 (dk_at dksX1_season_3 22 rfl rfl)
abbrev cX1_groove : ByteArray := prog_1_method_33_code
def yX1_groove : MethodName := ⟨RX1, "groove", "(II)I"⟩
def dkwX1_groove_3 : List UInt8 := [184, 0, 137, 45, 28, 181, 1, 17, 45, 180, 1, 20, 172]
abbrev dktX1_groove_3 : List UInt8 := dkwX1_groove_3 ++ []
def dkwX1_groove_2 : List UInt8 := [163, 0, 23, 45, 180, 1, 17, 154, 0, 16, 42, 16, 103, 182, 0, 173, 153, 0, 7, 4, 167, 0, 4, 3]
abbrev dktX1_groove_2 : List UInt8 := dkwX1_groove_2 ++ dktX1_groove_3
def dkwX1_groove_1 : List UInt8 := [184, 0, 114, 184, 0, 118, 42, 180, 0, 122, 45, 180, 1, 10, 161, 0, 32, 45, 180, 1, 11, 16, 10]
abbrev dktX1_groove_1 : List UInt8 := dkwX1_groove_1 ++ dktX1_groove_2
def dkwX1_groove_0 : List UInt8 := [42, 180, 0, 86, 27, 184, 0, 164, 192, 1, 5, 78, 8, 16, 30, 4, 188, 10, 89, 3, 28, 79]
abbrev dktX1_groove_0 : List UInt8 := dkwX1_groove_0 ++ dktX1_groove_1
theorem dksX1_groove_0 : cX1_groove.data.toList.drop 0 = dktX1_groove_0 := by decide +kernel
theorem dksX1_groove_1 : cX1_groove.data.toList.drop 22 = dktX1_groove_1 := dk_seg dksX1_groove_0 22 rfl rfl
theorem dksX1_groove_2 : cX1_groove.data.toList.drop 45 = dktX1_groove_2 := dk_seg dksX1_groove_1 23 rfl rfl
theorem dksX1_groove_3 : cX1_groove.data.toList.drop 69 = dktX1_groove_3 := dk_seg dksX1_groove_2 24 rfl rfl
theorem dX1_groove_0 : decode cX1_groove 0 = .ok (.aload_n 0, 1) := dk_42 (dk_at dksX1_groove_0 0 rfl rfl)
theorem dX1_groove_1 : decode cX1_groove 1 = .ok (.getfield 86, 3) := dk_180 0 86 (dk_at dksX1_groove_0 1 rfl rfl)
theorem dX1_groove_4 : decode cX1_groove 4 = .ok (.iload_n 1, 1) := dk_27 (dk_at dksX1_groove_0 4 rfl rfl)
theorem dX1_groove_5 : decode cX1_groove 5 = .ok (.invokestatic 164, 3) := dk_184 0 164 (dk_at dksX1_groove_0 5 rfl rfl)
theorem dX1_groove_8 : decode cX1_groove 8 = .ok (.checkcast 261, 3) := dk_192 1 5 (dk_at dksX1_groove_0 8 rfl rfl)
theorem dX1_groove_11 : decode cX1_groove 11 = .ok (.astore_n 3, 1) := dk_78 (dk_at dksX1_groove_0 11 rfl rfl)
theorem dX1_groove_12 : decode cX1_groove 12 = .ok (.iconst 5, 1) := dk_8 (dk_at dksX1_groove_0 12 rfl rfl)
theorem dX1_groove_13 : decode cX1_groove 13 = .ok (.bipush 30, 2) := dk_16 30 (dk_at dksX1_groove_0 13 rfl rfl)
theorem dX1_groove_15 : decode cX1_groove 15 = .ok (.iconst 1, 1) := dk_4 (dk_at dksX1_groove_0 15 rfl rfl)
theorem dX1_groove_16 : decode cX1_groove 16 = .ok (.newarray .int, 2) := dk_188_10 (dk_at dksX1_groove_0 16 rfl rfl)
theorem dX1_groove_18 : decode cX1_groove 18 = .ok (.dup, 1) := dk_89 (dk_at dksX1_groove_0 18 rfl rfl)
theorem dX1_groove_19 : decode cX1_groove 19 = .ok (.iconst 0, 1) := dk_3 (dk_at dksX1_groove_0 19 rfl rfl)
theorem dX1_groove_20 : decode cX1_groove 20 = .ok (.iload_n 2, 1) := dk_28 (dk_at dksX1_groove_0 20 rfl rfl)
theorem dX1_groove_21 : decode cX1_groove 21 = .ok (.iastore, 1) := dk_79 (dk_at dksX1_groove_0 21 rfl rfl)
theorem dX1_groove_22 : decode cX1_groove 22 = .ok (.invokestatic 114, 3) := dk_184 0 114 (dk_at dksX1_groove_1 0 rfl rfl)
theorem dX1_groove_25 : decode cX1_groove 25 = .ok (.invokestatic 118, 3) := dk_184 0 118 (dk_at dksX1_groove_1 3 rfl rfl)
theorem dX1_groove_28 : decode cX1_groove 28 = .ok (.aload_n 0, 1) := dk_42 (dk_at dksX1_groove_1 6 rfl rfl)
theorem dX1_groove_29 : decode cX1_groove 29 = .ok (.getfield 122, 3) := dk_180 0 122 (dk_at dksX1_groove_1 7 rfl rfl)
theorem dX1_groove_32 : decode cX1_groove 32 = .ok (.aload_n 3, 1) := dk_45 (dk_at dksX1_groove_1 10 rfl rfl)
theorem dX1_groove_33 : decode cX1_groove 33 = .ok (.getfield 266, 3) := dk_180 1 10 (dk_at dksX1_groove_1 11 rfl rfl)
theorem dX1_groove_36 : decode cX1_groove 36 = .ok (.if_icmp .lt 32, 3) := dk_161 0 32 (dk_at dksX1_groove_1 14 rfl rfl)
theorem dX1_groove_39 : decode cX1_groove 39 = .ok (.aload_n 3, 1) := dk_45 (dk_at dksX1_groove_1 17 rfl rfl)
theorem dX1_groove_40 : decode cX1_groove 40 = .ok (.getfield 267, 3) := dk_180 1 11 (dk_at dksX1_groove_1 18 rfl rfl)
theorem dX1_groove_43 : decode cX1_groove 43 = .ok (.bipush 10, 2) := dk_16 10 (dk_at dksX1_groove_1 21 rfl rfl)
theorem dX1_groove_45 : decode cX1_groove 45 = .ok (.if_icmp .gt 23, 3) := dk_163 0 23 (dk_at dksX1_groove_2 0 rfl rfl)
theorem dX1_groove_48 : decode cX1_groove 48 = .ok (.aload_n 3, 1) := dk_45 (dk_at dksX1_groove_2 3 rfl rfl)
theorem dX1_groove_49 : decode cX1_groove 49 = .ok (.getfield 273, 3) := dk_180 1 17 (dk_at dksX1_groove_2 4 rfl rfl)
theorem dX1_groove_52 : decode cX1_groove 52 = .ok (.ifCond .ne 16, 3) := dk_154 0 16 (dk_at dksX1_groove_2 7 rfl rfl)
theorem dX1_groove_55 : decode cX1_groove 55 = .ok (.aload_n 0, 1) := dk_42 (dk_at dksX1_groove_2 10 rfl rfl)
theorem dX1_groove_56 : decode cX1_groove 56 = .ok (.bipush 103, 2) := dk_16 103 (dk_at dksX1_groove_2 11 rfl rfl)
theorem dX1_groove_58 : decode cX1_groove 58 = .ok (.invokevirtual 173, 3) := dk_182 0 173 (dk_at dksX1_groove_2 13 rfl rfl)
theorem dX1_groove_61 : decode cX1_groove 61 = .ok (.ifCond .eq 7, 3) := dk_153 0 7 (dk_at dksX1_groove_2 16 rfl rfl)
theorem dX1_groove_64 : decode cX1_groove 64 = .ok (.iconst 1, 1) := dk_4 (dk_at dksX1_groove_2 19 rfl rfl)
theorem dX1_groove_65 : decode cX1_groove 65 = .ok (.goto 4, 3) := dk_167 0 4 (dk_at dksX1_groove_2 20 rfl rfl)
theorem dX1_groove_68 : decode cX1_groove 68 = .ok (.iconst 0, 1) := dk_3 (dk_at dksX1_groove_2 23 rfl rfl)
theorem dX1_groove_69 : decode cX1_groove 69 = .ok (.invokestatic 137, 3) := dk_184 0 137 (dk_at dksX1_groove_3 0 rfl rfl)
theorem dX1_groove_72 : decode cX1_groove 72 = .ok (.aload_n 3, 1) := dk_45 (dk_at dksX1_groove_3 3 rfl rfl)
theorem dX1_groove_73 : decode cX1_groove 73 = .ok (.iload_n 2, 1) := dk_28 (dk_at dksX1_groove_3 4 rfl rfl)
theorem dX1_groove_74 : decode cX1_groove 74 = .ok (.putfield 273, 3) := dk_181 1 17 (dk_at dksX1_groove_3 5 rfl rfl)
theorem dX1_groove_77 : decode cX1_groove 77 = .ok (.aload_n 3, 1) := dk_45 (dk_at dksX1_groove_3 8 rfl rfl)
theorem dX1_groove_78 : decode cX1_groove 78 = .ok (.getfield 276, 3) := dk_180 1 20 (dk_at dksX1_groove_3 9 rfl rfl)
theorem dX1_groove_81 : decode cX1_groove 81 = .ok (.ireturn, 1) := dk_172 (dk_at dksX1_groove_3 12 rfl rfl)
abbrev cX1_slat : ByteArray := prog_1_method_34_code
def yX1_slat : MethodName := ⟨RX1, "slat", "(IC)I"⟩
def dkwX1_slat_3 : List UInt8 := [180, 1, 10, 172]
abbrev dktX1_slat_3 : List UInt8 := dkwX1_slat_3 ++ []
def dkwX1_slat_2 : List UInt8 := [160, 0, 10, 45, 180, 1, 11, 167, 0, 20, 28, 16, 103, 160, 0, 10, 45, 180, 1, 17, 167, 0, 7, 45]
abbrev dktX1_slat_2 : List UInt8 := dkwX1_slat_2 ++ dktX1_slat_3
def dkwX1_slat_1 : List UInt8 := [167, 0, 4, 3, 184, 0, 118, 28, 16, 110, 160, 0, 10, 45, 180, 1, 20, 167, 0, 33, 28, 16, 119]
abbrev dktX1_slat_1 : List UInt8 := dkwX1_slat_1 ++ dktX1_slat_2
def dkwX1_slat_0 : List UInt8 := [42, 180, 0, 86, 27, 184, 0, 164, 192, 1, 5, 78, 19, 1, 23, 28, 182, 0, 129, 155, 0, 7, 4]
abbrev dktX1_slat_0 : List UInt8 := dkwX1_slat_0 ++ dktX1_slat_1
theorem dksX1_slat_0 : cX1_slat.data.toList.drop 0 = dktX1_slat_0 := by decide +kernel
theorem dksX1_slat_1 : cX1_slat.data.toList.drop 23 = dktX1_slat_1 := dk_seg dksX1_slat_0 23 rfl rfl
theorem dksX1_slat_2 : cX1_slat.data.toList.drop 46 = dktX1_slat_2 := dk_seg dksX1_slat_1 23 rfl rfl
theorem dksX1_slat_3 : cX1_slat.data.toList.drop 70 = dktX1_slat_3 := dk_seg dksX1_slat_2 24 rfl rfl
theorem dX1_slat_0 : decode cX1_slat 0 = .ok (.aload_n 0, 1) := dk_42 (dk_at dksX1_slat_0 0 rfl rfl)
theorem dX1_slat_1 : decode cX1_slat 1 = .ok (.getfield 86, 3) := dk_180 0 86 (dk_at dksX1_slat_0 1 rfl rfl)
theorem dX1_slat_4 : decode cX1_slat 4 = .ok (.iload_n 1, 1) := dk_27 (dk_at dksX1_slat_0 4 rfl rfl)
theorem dX1_slat_5 : decode cX1_slat 5 = .ok (.invokestatic 164, 3) := dk_184 0 164 (dk_at dksX1_slat_0 5 rfl rfl)
theorem dX1_slat_8 : decode cX1_slat 8 = .ok (.checkcast 261, 3) := dk_192 1 5 (dk_at dksX1_slat_0 8 rfl rfl)
theorem dX1_slat_11 : decode cX1_slat 11 = .ok (.astore_n 3, 1) := dk_78 (dk_at dksX1_slat_0 11 rfl rfl)
theorem dX1_slat_12 : decode cX1_slat 12 = .ok (.ldc_w 279, 3) := dk_19 1 23 (dk_at dksX1_slat_0 12 rfl rfl)
theorem dX1_slat_15 : decode cX1_slat 15 = .ok (.iload_n 2, 1) := dk_28 (dk_at dksX1_slat_0 15 rfl rfl)
theorem dX1_slat_16 : decode cX1_slat 16 = .ok (.invokevirtual 129, 3) := dk_182 0 129 (dk_at dksX1_slat_0 16 rfl rfl)
theorem dX1_slat_19 : decode cX1_slat 19 = .ok (.ifCond .lt 7, 3) := dk_155 0 7 (dk_at dksX1_slat_0 19 rfl rfl)
theorem dX1_slat_22 : decode cX1_slat 22 = .ok (.iconst 1, 1) := dk_4 (dk_at dksX1_slat_0 22 rfl rfl)
theorem dX1_slat_23 : decode cX1_slat 23 = .ok (.goto 4, 3) := dk_167 0 4 (dk_at dksX1_slat_1 0 rfl rfl)
theorem dX1_slat_26 : decode cX1_slat 26 = .ok (.iconst 0, 1) := dk_3 (dk_at dksX1_slat_1 3 rfl rfl)
theorem dX1_slat_27 : decode cX1_slat 27 = .ok (.invokestatic 118, 3) := dk_184 0 118 (dk_at dksX1_slat_1 4 rfl rfl)
theorem dX1_slat_30 : decode cX1_slat 30 = .ok (.iload_n 2, 1) := dk_28 (dk_at dksX1_slat_1 7 rfl rfl)
theorem dX1_slat_31 : decode cX1_slat 31 = .ok (.bipush 110, 2) := dk_16 110 (dk_at dksX1_slat_1 8 rfl rfl)
theorem dX1_slat_33 : decode cX1_slat 33 = .ok (.if_icmp .ne 10, 3) := dk_160 0 10 (dk_at dksX1_slat_1 10 rfl rfl)
theorem dX1_slat_36 : decode cX1_slat 36 = .ok (.aload_n 3, 1) := dk_45 (dk_at dksX1_slat_1 13 rfl rfl)
theorem dX1_slat_37 : decode cX1_slat 37 = .ok (.getfield 276, 3) := dk_180 1 20 (dk_at dksX1_slat_1 14 rfl rfl)
theorem dX1_slat_40 : decode cX1_slat 40 = .ok (.goto 33, 3) := dk_167 0 33 (dk_at dksX1_slat_1 17 rfl rfl)
theorem dX1_slat_43 : decode cX1_slat 43 = .ok (.iload_n 2, 1) := dk_28 (dk_at dksX1_slat_1 20 rfl rfl)
theorem dX1_slat_44 : decode cX1_slat 44 = .ok (.bipush 119, 2) := dk_16 119 (dk_at dksX1_slat_1 21 rfl rfl)
theorem dX1_slat_46 : decode cX1_slat 46 = .ok (.if_icmp .ne 10, 3) := dk_160 0 10 (dk_at dksX1_slat_2 0 rfl rfl)
theorem dX1_slat_49 : decode cX1_slat 49 = .ok (.aload_n 3, 1) := dk_45 (dk_at dksX1_slat_2 3 rfl rfl)
theorem dX1_slat_50 : decode cX1_slat 50 = .ok (.getfield 267, 3) := dk_180 1 11 (dk_at dksX1_slat_2 4 rfl rfl)
theorem dX1_slat_53 : decode cX1_slat 53 = .ok (.goto 20, 3) := dk_167 0 20 (dk_at dksX1_slat_2 7 rfl rfl)
theorem dX1_slat_56 : decode cX1_slat 56 = .ok (.iload_n 2, 1) := dk_28 (dk_at dksX1_slat_2 10 rfl rfl)
theorem dX1_slat_57 : decode cX1_slat 57 = .ok (.bipush 103, 2) := dk_16 103 (dk_at dksX1_slat_2 11 rfl rfl)
theorem dX1_slat_59 : decode cX1_slat 59 = .ok (.if_icmp .ne 10, 3) := dk_160 0 10 (dk_at dksX1_slat_2 13 rfl rfl)
theorem dX1_slat_62 : decode cX1_slat 62 = .ok (.aload_n 3, 1) := dk_45 (dk_at dksX1_slat_2 16 rfl rfl)
theorem dX1_slat_63 : decode cX1_slat 63 = .ok (.getfield 273, 3) := dk_180 1 17 (dk_at dksX1_slat_2 17 rfl rfl)
theorem dX1_slat_66 : decode cX1_slat 66 = .ok (.goto 7, 3) := dk_167 0 7 (dk_at dksX1_slat_2 20 rfl rfl)
theorem dX1_slat_69 : decode cX1_slat 69 = .ok (.aload_n 3, 1) := dk_45 (dk_at dksX1_slat_2 23 rfl rfl)
theorem dX1_slat_70 : decode cX1_slat 70 = .ok (.getfield 266, 3) := dk_180 1 10 (dk_at dksX1_slat_3 0 rfl rfl)
theorem dX1_slat_73 : decode cX1_slat 73 = .ok (.ireturn, 1) := dk_172 (dk_at dksX1_slat_3 3 rfl rfl)
abbrev cX1_lay : ByteArray := prog_1_method_35_code
def yX1_lay : MethodName := ⟨RX1, "lay", "(IICII)I"⟩
def dkwX1_lay_13 : List UInt8 := [180, 0, 89, 25, 11, 185, 0, 160, 2, 0, 87, 25, 11, 180, 1, 40, 172]
abbrev dktX1_lay_13 : List UInt8 := dkwX1_lay_13 ++ []
def dkwX1_lay_12 : List UInt8 := [21, 4, 21, 5, 183, 1, 36, 58, 11, 25, 11, 42, 180, 0, 122, 16, 6, 96, 181, 1, 39, 42]
abbrev dktX1_lay_12 : List UInt8 := dkwX1_lay_12 ++ dktX1_lay_13
def dkwX1_lay_11 : List UInt8 := [21, 4, 96, 181, 1, 33, 187, 1, 28, 89, 42, 180, 0, 89, 185, 0, 7, 1, 0, 25, 6, 25, 7]
abbrev dktX1_lay_11 : List UInt8 := dkwX1_lay_11 ++ dktX1_lay_12
def dkwX1_lay_10 : List UInt8 := [21, 4, 100, 181, 0, 204, 25, 7, 89, 180, 1, 20, 21, 9, 100, 181, 1, 20, 42, 89, 180, 1, 33]
abbrev dktX1_lay_10 : List UInt8 := dkwX1_lay_10 ++ dktX1_lay_11
def dkwX1_lay_9 : List UInt8 := [185, 0, 7, 1, 0, 16, 16, 162, 0, 7, 4, 167, 0, 4, 3, 184, 0, 126, 25, 6, 89, 180, 0, 204]
abbrev dktX1_lay_9 : List UInt8 := dkwX1_lay_9 ++ dktX1_lay_10
def dkwX1_lay_8 : List UInt8 := [25, 7, 180, 1, 20, 21, 9, 161, 0, 7, 4, 167, 0, 4, 3, 184, 0, 137, 42, 180, 0, 89]
abbrev dktX1_lay_8 : List UInt8 := dkwX1_lay_8 ++ dktX1_lay_9
def dkwX1_lay_7 : List UInt8 := [153, 0, 38, 25, 6, 25, 7, 184, 1, 27, 5, 163, 0, 27, 25, 6, 180, 0, 204, 21, 4, 161, 0, 17]
abbrev dktX1_lay_7 : List UInt8 := dkwX1_lay_7 ++ dktX1_lay_8
def dkwX1_lay_6 : List UInt8 := [180, 1, 10, 161, 0, 15, 25, 7, 180, 1, 17, 158, 0, 7, 4, 167, 0, 4, 3, 54, 10, 21, 10]
abbrev dktX1_lay_6 : List UInt8 := dkwX1_lay_6 ++ dktX1_lay_7
def dkwX1_lay_5 : List UInt8 := [182, 0, 218, 153, 0, 39, 25, 6, 42, 180, 0, 122, 182, 0, 214, 153, 0, 27, 42, 180, 0, 122, 25, 7]
abbrev dktX1_lay_5 : List UInt8 := dkwX1_lay_5 ++ dktX1_lay_6
def dkwX1_lay_4 : List UInt8 := [8, 167, 0, 5, 16, 7, 54, 8, 5, 21, 4, 21, 8, 96, 4, 100, 21, 8, 108, 104, 54, 9, 25, 6]
abbrev dktX1_lay_4 : List UInt8 := dkwX1_lay_4 ++ dktX1_lay_5
def dkwX1_lay_3 : List UInt8 := [167, 0, 4, 3, 184, 0, 118, 29, 16, 54, 160, 0, 8, 16, 6, 167, 0, 15, 29, 16, 48, 160, 0, 7]
abbrev dktX1_lay_3 : List UInt8 := dkwX1_lay_3 ++ dktX1_lay_4
def dkwX1_lay_2 : List UInt8 := [184, 0, 114, 153, 0, 24, 3, 16, 9, 4, 188, 10, 89, 3, 21, 5, 79, 184, 0, 114, 153, 0, 7, 4]
abbrev dktX1_lay_2 : List UInt8 := dkwX1_lay_2 ++ dktX1_lay_3
def dkwX1_lay_1 : List UInt8 := [58, 7, 19, 1, 25, 29, 182, 0, 129, 155, 0, 42, 4, 17, 1, 244, 4, 188, 10, 89, 3, 21, 4, 79]
abbrev dktX1_lay_1 : List UInt8 := dkwX1_lay_1 ++ dktX1_lay_2
def dkwX1_lay_0 : List UInt8 := [42, 180, 0, 74, 27, 184, 0, 164, 192, 0, 193, 58, 6, 42, 180, 0, 86, 28, 184, 0, 164, 192, 1, 5]
abbrev dktX1_lay_0 : List UInt8 := dkwX1_lay_0 ++ dktX1_lay_1
theorem dksX1_lay_0 : cX1_lay.data.toList.drop 0 = dktX1_lay_0 := by decide +kernel
theorem dksX1_lay_1 : cX1_lay.data.toList.drop 24 = dktX1_lay_1 := dk_seg dksX1_lay_0 24 rfl rfl
theorem dksX1_lay_2 : cX1_lay.data.toList.drop 48 = dktX1_lay_2 := dk_seg dksX1_lay_1 24 rfl rfl
theorem dksX1_lay_3 : cX1_lay.data.toList.drop 72 = dktX1_lay_3 := dk_seg dksX1_lay_2 24 rfl rfl
theorem dksX1_lay_4 : cX1_lay.data.toList.drop 96 = dktX1_lay_4 := dk_seg dksX1_lay_3 24 rfl rfl
theorem dksX1_lay_5 : cX1_lay.data.toList.drop 120 = dktX1_lay_5 := dk_seg dksX1_lay_4 24 rfl rfl
theorem dksX1_lay_6 : cX1_lay.data.toList.drop 144 = dktX1_lay_6 := dk_seg dksX1_lay_5 24 rfl rfl
theorem dksX1_lay_7 : cX1_lay.data.toList.drop 167 = dktX1_lay_7 := dk_seg dksX1_lay_6 23 rfl rfl
theorem dksX1_lay_8 : cX1_lay.data.toList.drop 191 = dktX1_lay_8 := dk_seg dksX1_lay_7 24 rfl rfl
theorem dksX1_lay_9 : cX1_lay.data.toList.drop 213 = dktX1_lay_9 := dk_seg dksX1_lay_8 22 rfl rfl
theorem dksX1_lay_10 : cX1_lay.data.toList.drop 237 = dktX1_lay_10 := dk_seg dksX1_lay_9 24 rfl rfl
theorem dksX1_lay_11 : cX1_lay.data.toList.drop 260 = dktX1_lay_11 := dk_seg dksX1_lay_10 23 rfl rfl
theorem dksX1_lay_12 : cX1_lay.data.toList.drop 283 = dktX1_lay_12 := dk_seg dksX1_lay_11 23 rfl rfl
theorem dksX1_lay_13 : cX1_lay.data.toList.drop 305 = dktX1_lay_13 := dk_seg dksX1_lay_12 22 rfl rfl
theorem dX1_lay_0 : decode cX1_lay 0 = .ok (.aload_n 0, 1) := dk_42 (dk_at dksX1_lay_0 0 rfl rfl)
theorem dX1_lay_1 : decode cX1_lay 1 = .ok (.getfield 74, 3) := dk_180 0 74 (dk_at dksX1_lay_0 1 rfl rfl)
theorem dX1_lay_4 : decode cX1_lay 4 = .ok (.iload_n 1, 1) := dk_27 (dk_at dksX1_lay_0 4 rfl rfl)
theorem dX1_lay_5 : decode cX1_lay 5 = .ok (.invokestatic 164, 3) := dk_184 0 164 (dk_at dksX1_lay_0 5 rfl rfl)
theorem dX1_lay_8 : decode cX1_lay 8 = .ok (.checkcast 193, 3) := dk_192 0 193 (dk_at dksX1_lay_0 8 rfl rfl)
theorem dX1_lay_11 : decode cX1_lay 11 = .ok (.astore 6, 2) := dk_58 6 (dk_at dksX1_lay_0 11 rfl rfl)
theorem dX1_lay_13 : decode cX1_lay 13 = .ok (.aload_n 0, 1) := dk_42 (dk_at dksX1_lay_0 13 rfl rfl)
theorem dX1_lay_14 : decode cX1_lay 14 = .ok (.getfield 86, 3) := dk_180 0 86 (dk_at dksX1_lay_0 14 rfl rfl)
theorem dX1_lay_17 : decode cX1_lay 17 = .ok (.iload_n 2, 1) := dk_28 (dk_at dksX1_lay_0 17 rfl rfl)
theorem dX1_lay_18 : decode cX1_lay 18 = .ok (.invokestatic 164, 3) := dk_184 0 164 (dk_at dksX1_lay_0 18 rfl rfl)
theorem dX1_lay_21 : decode cX1_lay 21 = .ok (.checkcast 261, 3) := dk_192 1 5 (dk_at dksX1_lay_0 21 rfl rfl)
theorem dX1_lay_24 : decode cX1_lay 24 = .ok (.astore 7, 2) := dk_58 7 (dk_at dksX1_lay_1 0 rfl rfl)
theorem dX1_lay_26 : decode cX1_lay 26 = .ok (.ldc_w 281, 3) := dk_19 1 25 (dk_at dksX1_lay_1 2 rfl rfl)
theorem dX1_lay_29 : decode cX1_lay 29 = .ok (.iload_n 3, 1) := dk_29 (dk_at dksX1_lay_1 5 rfl rfl)
theorem dX1_lay_30 : decode cX1_lay 30 = .ok (.invokevirtual 129, 3) := dk_182 0 129 (dk_at dksX1_lay_1 6 rfl rfl)
theorem dX1_lay_33 : decode cX1_lay 33 = .ok (.ifCond .lt 42, 3) := dk_155 0 42 (dk_at dksX1_lay_1 9 rfl rfl)
theorem dX1_lay_36 : decode cX1_lay 36 = .ok (.iconst 1, 1) := dk_4 (dk_at dksX1_lay_1 12 rfl rfl)
theorem dX1_lay_37 : decode cX1_lay 37 = .ok (.sipush 500, 3) := dk_17 1 244 (dk_at dksX1_lay_1 13 rfl rfl)
theorem dX1_lay_40 : decode cX1_lay 40 = .ok (.iconst 1, 1) := dk_4 (dk_at dksX1_lay_1 16 rfl rfl)
theorem dX1_lay_41 : decode cX1_lay 41 = .ok (.newarray .int, 2) := dk_188_10 (dk_at dksX1_lay_1 17 rfl rfl)
theorem dX1_lay_43 : decode cX1_lay 43 = .ok (.dup, 1) := dk_89 (dk_at dksX1_lay_1 19 rfl rfl)
theorem dX1_lay_44 : decode cX1_lay 44 = .ok (.iconst 0, 1) := dk_3 (dk_at dksX1_lay_1 20 rfl rfl)
theorem dX1_lay_45 : decode cX1_lay 45 = .ok (.iload 4, 2) := dk_21 4 (dk_at dksX1_lay_1 21 rfl rfl)
theorem dX1_lay_47 : decode cX1_lay 47 = .ok (.iastore, 1) := dk_79 (dk_at dksX1_lay_1 23 rfl rfl)
theorem dX1_lay_48 : decode cX1_lay 48 = .ok (.invokestatic 114, 3) := dk_184 0 114 (dk_at dksX1_lay_2 0 rfl rfl)
theorem dX1_lay_51 : decode cX1_lay 51 = .ok (.ifCond .eq 24, 3) := dk_153 0 24 (dk_at dksX1_lay_2 3 rfl rfl)
theorem dX1_lay_54 : decode cX1_lay 54 = .ok (.iconst 0, 1) := dk_3 (dk_at dksX1_lay_2 6 rfl rfl)
theorem dX1_lay_55 : decode cX1_lay 55 = .ok (.bipush 9, 2) := dk_16 9 (dk_at dksX1_lay_2 7 rfl rfl)
theorem dX1_lay_57 : decode cX1_lay 57 = .ok (.iconst 1, 1) := dk_4 (dk_at dksX1_lay_2 9 rfl rfl)
theorem dX1_lay_58 : decode cX1_lay 58 = .ok (.newarray .int, 2) := dk_188_10 (dk_at dksX1_lay_2 10 rfl rfl)
theorem dX1_lay_60 : decode cX1_lay 60 = .ok (.dup, 1) := dk_89 (dk_at dksX1_lay_2 12 rfl rfl)
theorem dX1_lay_61 : decode cX1_lay 61 = .ok (.iconst 0, 1) := dk_3 (dk_at dksX1_lay_2 13 rfl rfl)
theorem dX1_lay_62 : decode cX1_lay 62 = .ok (.iload 5, 2) := dk_21 5 (dk_at dksX1_lay_2 14 rfl rfl)
theorem dX1_lay_64 : decode cX1_lay 64 = .ok (.iastore, 1) := dk_79 (dk_at dksX1_lay_2 16 rfl rfl)
theorem dX1_lay_65 : decode cX1_lay 65 = .ok (.invokestatic 114, 3) := dk_184 0 114 (dk_at dksX1_lay_2 17 rfl rfl)
theorem dX1_lay_68 : decode cX1_lay 68 = .ok (.ifCond .eq 7, 3) := dk_153 0 7 (dk_at dksX1_lay_2 20 rfl rfl)
theorem dX1_lay_71 : decode cX1_lay 71 = .ok (.iconst 1, 1) := dk_4 (dk_at dksX1_lay_2 23 rfl rfl)
theorem dX1_lay_72 : decode cX1_lay 72 = .ok (.goto 4, 3) := dk_167 0 4 (dk_at dksX1_lay_3 0 rfl rfl)
theorem dX1_lay_75 : decode cX1_lay 75 = .ok (.iconst 0, 1) := dk_3 (dk_at dksX1_lay_3 3 rfl rfl)
theorem dX1_lay_76 : decode cX1_lay 76 = .ok (.invokestatic 118, 3) := dk_184 0 118 (dk_at dksX1_lay_3 4 rfl rfl)
theorem dX1_lay_79 : decode cX1_lay 79 = .ok (.iload_n 3, 1) := dk_29 (dk_at dksX1_lay_3 7 rfl rfl)
theorem dX1_lay_80 : decode cX1_lay 80 = .ok (.bipush 54, 2) := dk_16 54 (dk_at dksX1_lay_3 8 rfl rfl)
theorem dX1_lay_82 : decode cX1_lay 82 = .ok (.if_icmp .ne 8, 3) := dk_160 0 8 (dk_at dksX1_lay_3 10 rfl rfl)
theorem dX1_lay_85 : decode cX1_lay 85 = .ok (.bipush 6, 2) := dk_16 6 (dk_at dksX1_lay_3 13 rfl rfl)
theorem dX1_lay_87 : decode cX1_lay 87 = .ok (.goto 15, 3) := dk_167 0 15 (dk_at dksX1_lay_3 15 rfl rfl)
theorem dX1_lay_90 : decode cX1_lay 90 = .ok (.iload_n 3, 1) := dk_29 (dk_at dksX1_lay_3 18 rfl rfl)
theorem dX1_lay_91 : decode cX1_lay 91 = .ok (.bipush 48, 2) := dk_16 48 (dk_at dksX1_lay_3 19 rfl rfl)
theorem dX1_lay_93 : decode cX1_lay 93 = .ok (.if_icmp .ne 7, 3) := dk_160 0 7 (dk_at dksX1_lay_3 21 rfl rfl)
theorem dX1_lay_96 : decode cX1_lay 96 = .ok (.iconst 5, 1) := dk_8 (dk_at dksX1_lay_4 0 rfl rfl)
theorem dX1_lay_97 : decode cX1_lay 97 = .ok (.goto 5, 3) := dk_167 0 5 (dk_at dksX1_lay_4 1 rfl rfl)
theorem dX1_lay_100 : decode cX1_lay 100 = .ok (.bipush 7, 2) := dk_16 7 (dk_at dksX1_lay_4 4 rfl rfl)
theorem dX1_lay_102 : decode cX1_lay 102 = .ok (.istore 8, 2) := dk_54 8 (dk_at dksX1_lay_4 6 rfl rfl)
theorem dX1_lay_104 : decode cX1_lay 104 = .ok (.iconst 2, 1) := dk_5 (dk_at dksX1_lay_4 8 rfl rfl)
theorem dX1_lay_105 : decode cX1_lay 105 = .ok (.iload 4, 2) := dk_21 4 (dk_at dksX1_lay_4 9 rfl rfl)
theorem dX1_lay_107 : decode cX1_lay 107 = .ok (.iload 8, 2) := dk_21 8 (dk_at dksX1_lay_4 11 rfl rfl)
theorem dX1_lay_109 : decode cX1_lay 109 = .ok (.iadd, 1) := dk_96 (dk_at dksX1_lay_4 13 rfl rfl)
theorem dX1_lay_110 : decode cX1_lay 110 = .ok (.iconst 1, 1) := dk_4 (dk_at dksX1_lay_4 14 rfl rfl)
theorem dX1_lay_111 : decode cX1_lay 111 = .ok (.isub, 1) := dk_100 (dk_at dksX1_lay_4 15 rfl rfl)
theorem dX1_lay_112 : decode cX1_lay 112 = .ok (.iload 8, 2) := dk_21 8 (dk_at dksX1_lay_4 16 rfl rfl)
theorem dX1_lay_114 : decode cX1_lay 114 = .ok (.idiv, 1) := dk_108 (dk_at dksX1_lay_4 18 rfl rfl)
theorem dX1_lay_115 : decode cX1_lay 115 = .ok (.imul, 1) := dk_104 (dk_at dksX1_lay_4 19 rfl rfl)
theorem dX1_lay_116 : decode cX1_lay 116 = .ok (.istore 9, 2) := dk_54 9 (dk_at dksX1_lay_4 20 rfl rfl)
theorem dX1_lay_118 : decode cX1_lay 118 = .ok (.aload 6, 2) := dk_25 6 (dk_at dksX1_lay_4 22 rfl rfl)
theorem dX1_lay_120 : decode cX1_lay 120 = .ok (.invokevirtual 218, 3) := dk_182 0 218 (dk_at dksX1_lay_5 0 rfl rfl)
theorem dX1_lay_123 : decode cX1_lay 123 = .ok (.ifCond .eq 39, 3) := dk_153 0 39 (dk_at dksX1_lay_5 3 rfl rfl)
theorem dX1_lay_126 : decode cX1_lay 126 = .ok (.aload 6, 2) := dk_25 6 (dk_at dksX1_lay_5 6 rfl rfl)
theorem dX1_lay_128 : decode cX1_lay 128 = .ok (.aload_n 0, 1) := dk_42 (dk_at dksX1_lay_5 8 rfl rfl)
theorem dX1_lay_129 : decode cX1_lay 129 = .ok (.getfield 122, 3) := dk_180 0 122 (dk_at dksX1_lay_5 9 rfl rfl)
theorem dX1_lay_132 : decode cX1_lay 132 = .ok (.invokevirtual 214, 3) := dk_182 0 214 (dk_at dksX1_lay_5 12 rfl rfl)
theorem dX1_lay_135 : decode cX1_lay 135 = .ok (.ifCond .eq 27, 3) := dk_153 0 27 (dk_at dksX1_lay_5 15 rfl rfl)
theorem dX1_lay_138 : decode cX1_lay 138 = .ok (.aload_n 0, 1) := dk_42 (dk_at dksX1_lay_5 18 rfl rfl)
theorem dX1_lay_139 : decode cX1_lay 139 = .ok (.getfield 122, 3) := dk_180 0 122 (dk_at dksX1_lay_5 19 rfl rfl)
theorem dX1_lay_142 : decode cX1_lay 142 = .ok (.aload 7, 2) := dk_25 7 (dk_at dksX1_lay_5 22 rfl rfl)
theorem dX1_lay_144 : decode cX1_lay 144 = .ok (.getfield 266, 3) := dk_180 1 10 (dk_at dksX1_lay_6 0 rfl rfl)
theorem dX1_lay_147 : decode cX1_lay 147 = .ok (.if_icmp .lt 15, 3) := dk_161 0 15 (dk_at dksX1_lay_6 3 rfl rfl)
theorem dX1_lay_150 : decode cX1_lay 150 = .ok (.aload 7, 2) := dk_25 7 (dk_at dksX1_lay_6 6 rfl rfl)
theorem dX1_lay_152 : decode cX1_lay 152 = .ok (.getfield 273, 3) := dk_180 1 17 (dk_at dksX1_lay_6 8 rfl rfl)
theorem dX1_lay_155 : decode cX1_lay 155 = .ok (.ifCond .le 7, 3) := dk_158 0 7 (dk_at dksX1_lay_6 11 rfl rfl)
theorem dX1_lay_158 : decode cX1_lay 158 = .ok (.iconst 1, 1) := dk_4 (dk_at dksX1_lay_6 14 rfl rfl)
theorem dX1_lay_159 : decode cX1_lay 159 = .ok (.goto 4, 3) := dk_167 0 4 (dk_at dksX1_lay_6 15 rfl rfl)
theorem dX1_lay_162 : decode cX1_lay 162 = .ok (.iconst 0, 1) := dk_3 (dk_at dksX1_lay_6 18 rfl rfl)
theorem dX1_lay_163 : decode cX1_lay 163 = .ok (.istore 10, 2) := dk_54 10 (dk_at dksX1_lay_6 19 rfl rfl)
theorem dX1_lay_165 : decode cX1_lay 165 = .ok (.iload 10, 2) := dk_21 10 (dk_at dksX1_lay_6 21 rfl rfl)
theorem dX1_lay_167 : decode cX1_lay 167 = .ok (.ifCond .eq 38, 3) := dk_153 0 38 (dk_at dksX1_lay_7 0 rfl rfl)
theorem dX1_lay_170 : decode cX1_lay 170 = .ok (.aload 6, 2) := dk_25 6 (dk_at dksX1_lay_7 3 rfl rfl)
theorem dX1_lay_172 : decode cX1_lay 172 = .ok (.aload 7, 2) := dk_25 7 (dk_at dksX1_lay_7 5 rfl rfl)
theorem dX1_lay_174 : decode cX1_lay 174 = .ok (.invokestatic 283, 3) := dk_184 1 27 (dk_at dksX1_lay_7 7 rfl rfl)
theorem dX1_lay_177 : decode cX1_lay 177 = .ok (.iconst 2, 1) := dk_5 (dk_at dksX1_lay_7 10 rfl rfl)
theorem dX1_lay_178 : decode cX1_lay 178 = .ok (.if_icmp .gt 27, 3) := dk_163 0 27 (dk_at dksX1_lay_7 11 rfl rfl)
theorem dX1_lay_181 : decode cX1_lay 181 = .ok (.aload 6, 2) := dk_25 6 (dk_at dksX1_lay_7 14 rfl rfl)
theorem dX1_lay_183 : decode cX1_lay 183 = .ok (.getfield 204, 3) := dk_180 0 204 (dk_at dksX1_lay_7 16 rfl rfl)
theorem dX1_lay_186 : decode cX1_lay 186 = .ok (.iload 4, 2) := dk_21 4 (dk_at dksX1_lay_7 19 rfl rfl)
theorem dX1_lay_188 : decode cX1_lay 188 = .ok (.if_icmp .lt 17, 3) := dk_161 0 17 (dk_at dksX1_lay_7 21 rfl rfl)
theorem dX1_lay_191 : decode cX1_lay 191 = .ok (.aload 7, 2) := dk_25 7 (dk_at dksX1_lay_8 0 rfl rfl)
theorem dX1_lay_193 : decode cX1_lay 193 = .ok (.getfield 276, 3) := dk_180 1 20 (dk_at dksX1_lay_8 2 rfl rfl)
theorem dX1_lay_196 : decode cX1_lay 196 = .ok (.iload 9, 2) := dk_21 9 (dk_at dksX1_lay_8 5 rfl rfl)
theorem dX1_lay_198 : decode cX1_lay 198 = .ok (.if_icmp .lt 7, 3) := dk_161 0 7 (dk_at dksX1_lay_8 7 rfl rfl)
theorem dX1_lay_201 : decode cX1_lay 201 = .ok (.iconst 1, 1) := dk_4 (dk_at dksX1_lay_8 10 rfl rfl)
theorem dX1_lay_202 : decode cX1_lay 202 = .ok (.goto 4, 3) := dk_167 0 4 (dk_at dksX1_lay_8 11 rfl rfl)
theorem dX1_lay_205 : decode cX1_lay 205 = .ok (.iconst 0, 1) := dk_3 (dk_at dksX1_lay_8 14 rfl rfl)
theorem dX1_lay_206 : decode cX1_lay 206 = .ok (.invokestatic 137, 3) := dk_184 0 137 (dk_at dksX1_lay_8 15 rfl rfl)
theorem dX1_lay_209 : decode cX1_lay 209 = .ok (.aload_n 0, 1) := dk_42 (dk_at dksX1_lay_8 18 rfl rfl)
theorem dX1_lay_210 : decode cX1_lay 210 = .ok (.getfield 89, 3) := dk_180 0 89 (dk_at dksX1_lay_8 19 rfl rfl)
theorem dX1_lay_213 : decode cX1_lay 213 = .ok (.invokeinterface 7 1, 5) := by decide +kernel
theorem dX1_lay_218 : decode cX1_lay 218 = .ok (.bipush 16, 2) := dk_16 16 (dk_at dksX1_lay_9 5 rfl rfl)
theorem dX1_lay_220 : decode cX1_lay 220 = .ok (.if_icmp .ge 7, 3) := dk_162 0 7 (dk_at dksX1_lay_9 7 rfl rfl)
theorem dX1_lay_223 : decode cX1_lay 223 = .ok (.iconst 1, 1) := dk_4 (dk_at dksX1_lay_9 10 rfl rfl)
theorem dX1_lay_224 : decode cX1_lay 224 = .ok (.goto 4, 3) := dk_167 0 4 (dk_at dksX1_lay_9 11 rfl rfl)
theorem dX1_lay_227 : decode cX1_lay 227 = .ok (.iconst 0, 1) := dk_3 (dk_at dksX1_lay_9 14 rfl rfl)
theorem dX1_lay_228 : decode cX1_lay 228 = .ok (.invokestatic 126, 3) := dk_184 0 126 (dk_at dksX1_lay_9 15 rfl rfl)
theorem dX1_lay_231 : decode cX1_lay 231 = .ok (.aload 6, 2) := dk_25 6 (dk_at dksX1_lay_9 18 rfl rfl)
theorem dX1_lay_233 : decode cX1_lay 233 = .ok (.dup, 1) := dk_89 (dk_at dksX1_lay_9 20 rfl rfl)
theorem dX1_lay_234 : decode cX1_lay 234 = .ok (.getfield 204, 3) := dk_180 0 204 (dk_at dksX1_lay_9 21 rfl rfl)
theorem dX1_lay_237 : decode cX1_lay 237 = .ok (.iload 4, 2) := dk_21 4 (dk_at dksX1_lay_10 0 rfl rfl)
theorem dX1_lay_239 : decode cX1_lay 239 = .ok (.isub, 1) := dk_100 (dk_at dksX1_lay_10 2 rfl rfl)
theorem dX1_lay_240 : decode cX1_lay 240 = .ok (.putfield 204, 3) := dk_181 0 204 (dk_at dksX1_lay_10 3 rfl rfl)
theorem dX1_lay_243 : decode cX1_lay 243 = .ok (.aload 7, 2) := dk_25 7 (dk_at dksX1_lay_10 6 rfl rfl)
theorem dX1_lay_245 : decode cX1_lay 245 = .ok (.dup, 1) := dk_89 (dk_at dksX1_lay_10 8 rfl rfl)
theorem dX1_lay_246 : decode cX1_lay 246 = .ok (.getfield 276, 3) := dk_180 1 20 (dk_at dksX1_lay_10 9 rfl rfl)
theorem dX1_lay_249 : decode cX1_lay 249 = .ok (.iload 9, 2) := dk_21 9 (dk_at dksX1_lay_10 12 rfl rfl)
theorem dX1_lay_251 : decode cX1_lay 251 = .ok (.isub, 1) := dk_100 (dk_at dksX1_lay_10 14 rfl rfl)
theorem dX1_lay_252 : decode cX1_lay 252 = .ok (.putfield 276, 3) := dk_181 1 20 (dk_at dksX1_lay_10 15 rfl rfl)
theorem dX1_lay_255 : decode cX1_lay 255 = .ok (.aload_n 0, 1) := dk_42 (dk_at dksX1_lay_10 18 rfl rfl)
theorem dX1_lay_256 : decode cX1_lay 256 = .ok (.dup, 1) := dk_89 (dk_at dksX1_lay_10 19 rfl rfl)
theorem dX1_lay_257 : decode cX1_lay 257 = .ok (.getfield 289, 3) := dk_180 1 33 (dk_at dksX1_lay_10 20 rfl rfl)
theorem dX1_lay_260 : decode cX1_lay 260 = .ok (.iload 4, 2) := dk_21 4 (dk_at dksX1_lay_11 0 rfl rfl)
theorem dX1_lay_262 : decode cX1_lay 262 = .ok (.iadd, 1) := dk_96 (dk_at dksX1_lay_11 2 rfl rfl)
theorem dX1_lay_263 : decode cX1_lay 263 = .ok (.putfield 289, 3) := dk_181 1 33 (dk_at dksX1_lay_11 3 rfl rfl)
theorem dX1_lay_266 : decode cX1_lay 266 = .ok (.new 284, 3) := dk_187 1 28 (dk_at dksX1_lay_11 6 rfl rfl)
theorem dX1_lay_269 : decode cX1_lay 269 = .ok (.dup, 1) := dk_89 (dk_at dksX1_lay_11 9 rfl rfl)
theorem dX1_lay_270 : decode cX1_lay 270 = .ok (.aload_n 0, 1) := dk_42 (dk_at dksX1_lay_11 10 rfl rfl)
theorem dX1_lay_271 : decode cX1_lay 271 = .ok (.getfield 89, 3) := dk_180 0 89 (dk_at dksX1_lay_11 11 rfl rfl)
theorem dX1_lay_274 : decode cX1_lay 274 = .ok (.invokeinterface 7 1, 5) := by decide +kernel
theorem dX1_lay_279 : decode cX1_lay 279 = .ok (.aload 6, 2) := dk_25 6 (dk_at dksX1_lay_11 19 rfl rfl)
theorem dX1_lay_281 : decode cX1_lay 281 = .ok (.aload 7, 2) := dk_25 7 (dk_at dksX1_lay_11 21 rfl rfl)
theorem dX1_lay_283 : decode cX1_lay 283 = .ok (.iload 4, 2) := dk_21 4 (dk_at dksX1_lay_12 0 rfl rfl)
theorem dX1_lay_285 : decode cX1_lay 285 = .ok (.iload 5, 2) := dk_21 5 (dk_at dksX1_lay_12 2 rfl rfl)
theorem dX1_lay_287 : decode cX1_lay 287 = .ok (.invokespecial 292, 3) := dk_183 1 36 (dk_at dksX1_lay_12 4 rfl rfl)
theorem dX1_lay_290 : decode cX1_lay 290 = .ok (.astore 11, 2) := dk_58 11 (dk_at dksX1_lay_12 7 rfl rfl)
theorem dX1_lay_292 : decode cX1_lay 292 = .ok (.aload 11, 2) := dk_25 11 (dk_at dksX1_lay_12 9 rfl rfl)
theorem dX1_lay_294 : decode cX1_lay 294 = .ok (.aload_n 0, 1) := dk_42 (dk_at dksX1_lay_12 11 rfl rfl)
theorem dX1_lay_295 : decode cX1_lay 295 = .ok (.getfield 122, 3) := dk_180 0 122 (dk_at dksX1_lay_12 12 rfl rfl)
theorem dX1_lay_298 : decode cX1_lay 298 = .ok (.bipush 6, 2) := dk_16 6 (dk_at dksX1_lay_12 15 rfl rfl)
theorem dX1_lay_300 : decode cX1_lay 300 = .ok (.iadd, 1) := dk_96 (dk_at dksX1_lay_12 17 rfl rfl)
theorem dX1_lay_301 : decode cX1_lay 301 = .ok (.putfield 295, 3) := dk_181 1 39 (dk_at dksX1_lay_12 18 rfl rfl)
theorem dX1_lay_304 : decode cX1_lay 304 = .ok (.aload_n 0, 1) := dk_42 (dk_at dksX1_lay_12 21 rfl rfl)
theorem dX1_lay_305 : decode cX1_lay 305 = .ok (.getfield 89, 3) := dk_180 0 89 (dk_at dksX1_lay_13 0 rfl rfl)
theorem dX1_lay_308 : decode cX1_lay 308 = .ok (.aload 11, 2) := dk_25 11 (dk_at dksX1_lay_13 3 rfl rfl)
theorem dX1_lay_310 : decode cX1_lay 310 = .ok (.invokeinterface 160 2, 5) := by decide +kernel
theorem dX1_lay_315 : decode cX1_lay 315 = .ok (.pop, 1) := dk_87 (dk_at dksX1_lay_13 10 rfl rfl)
theorem dX1_lay_316 : decode cX1_lay 316 = .ok (.aload 11, 2) := dk_25 11 (dk_at dksX1_lay_13 11 rfl rfl)
theorem dX1_lay_318 : decode cX1_lay 318 = .ok (.getfield 296, 3) := dk_180 1 40 (dk_at dksX1_lay_13 13 rfl rfl)
theorem dX1_lay_321 : decode cX1_lay 321 = .ok (.ireturn, 1) := dk_172 (dk_at dksX1_lay_13 16 rfl rfl)
abbrev cX1_coat : ByteArray := prog_1_method_36_code
def yX1_coat : MethodName := ⟨RX1, "coat", "(II)I"⟩
def dkwX1_coat_4 : List UInt8 := [45, 180, 1, 43, 172]
abbrev dktX1_coat_4 : List UInt8 := dkwX1_coat_4 ++ []
def dkwX1_coat_3 : List UInt8 := [180, 1, 43, 4, 96, 181, 1, 43, 45, 28, 181, 1, 46, 45, 42, 180, 0, 122, 16, 8, 96, 181, 1, 39]
abbrev dktX1_coat_3 : List UInt8 := dkwX1_coat_3 ++ dktX1_coat_4
def dkwX1_coat_2 : List UInt8 := [162, 0, 16, 42, 16, 99, 182, 0, 173, 153, 0, 7, 4, 167, 0, 4, 3, 184, 0, 137, 45, 89]
abbrev dktX1_coat_2 : List UInt8 := dkwX1_coat_2 ++ dktX1_coat_3
def dkwX1_coat_1 : List UInt8 := [184, 0, 114, 184, 0, 118, 42, 180, 0, 122, 45, 180, 1, 39, 161, 0, 25, 45, 180, 1, 43, 16, 8]
abbrev dktX1_coat_1 : List UInt8 := dkwX1_coat_1 ++ dktX1_coat_2
def dkwX1_coat_0 : List UInt8 := [42, 180, 0, 89, 27, 184, 0, 164, 192, 1, 28, 78, 3, 16, 9, 4, 188, 10, 89, 3, 28, 79]
abbrev dktX1_coat_0 : List UInt8 := dkwX1_coat_0 ++ dktX1_coat_1
theorem dksX1_coat_0 : cX1_coat.data.toList.drop 0 = dktX1_coat_0 := by decide +kernel
theorem dksX1_coat_1 : cX1_coat.data.toList.drop 22 = dktX1_coat_1 := dk_seg dksX1_coat_0 22 rfl rfl
theorem dksX1_coat_2 : cX1_coat.data.toList.drop 45 = dktX1_coat_2 := dk_seg dksX1_coat_1 23 rfl rfl
theorem dksX1_coat_3 : cX1_coat.data.toList.drop 67 = dktX1_coat_3 := dk_seg dksX1_coat_2 22 rfl rfl
theorem dksX1_coat_4 : cX1_coat.data.toList.drop 91 = dktX1_coat_4 := dk_seg dksX1_coat_3 24 rfl rfl
theorem dX1_coat_0 : decode cX1_coat 0 = .ok (.aload_n 0, 1) := dk_42 (dk_at dksX1_coat_0 0 rfl rfl)
theorem dX1_coat_1 : decode cX1_coat 1 = .ok (.getfield 89, 3) := dk_180 0 89 (dk_at dksX1_coat_0 1 rfl rfl)
theorem dX1_coat_4 : decode cX1_coat 4 = .ok (.iload_n 1, 1) := dk_27 (dk_at dksX1_coat_0 4 rfl rfl)
theorem dX1_coat_5 : decode cX1_coat 5 = .ok (.invokestatic 164, 3) := dk_184 0 164 (dk_at dksX1_coat_0 5 rfl rfl)
theorem dX1_coat_8 : decode cX1_coat 8 = .ok (.checkcast 284, 3) := dk_192 1 28 (dk_at dksX1_coat_0 8 rfl rfl)
theorem dX1_coat_11 : decode cX1_coat 11 = .ok (.astore_n 3, 1) := dk_78 (dk_at dksX1_coat_0 11 rfl rfl)
theorem dX1_coat_12 : decode cX1_coat 12 = .ok (.iconst 0, 1) := dk_3 (dk_at dksX1_coat_0 12 rfl rfl)
theorem dX1_coat_13 : decode cX1_coat 13 = .ok (.bipush 9, 2) := dk_16 9 (dk_at dksX1_coat_0 13 rfl rfl)
theorem dX1_coat_15 : decode cX1_coat 15 = .ok (.iconst 1, 1) := dk_4 (dk_at dksX1_coat_0 15 rfl rfl)
theorem dX1_coat_16 : decode cX1_coat 16 = .ok (.newarray .int, 2) := dk_188_10 (dk_at dksX1_coat_0 16 rfl rfl)
theorem dX1_coat_18 : decode cX1_coat 18 = .ok (.dup, 1) := dk_89 (dk_at dksX1_coat_0 18 rfl rfl)
theorem dX1_coat_19 : decode cX1_coat 19 = .ok (.iconst 0, 1) := dk_3 (dk_at dksX1_coat_0 19 rfl rfl)
theorem dX1_coat_20 : decode cX1_coat 20 = .ok (.iload_n 2, 1) := dk_28 (dk_at dksX1_coat_0 20 rfl rfl)
theorem dX1_coat_21 : decode cX1_coat 21 = .ok (.iastore, 1) := dk_79 (dk_at dksX1_coat_0 21 rfl rfl)
theorem dX1_coat_22 : decode cX1_coat 22 = .ok (.invokestatic 114, 3) := dk_184 0 114 (dk_at dksX1_coat_1 0 rfl rfl)
theorem dX1_coat_25 : decode cX1_coat 25 = .ok (.invokestatic 118, 3) := dk_184 0 118 (dk_at dksX1_coat_1 3 rfl rfl)
theorem dX1_coat_28 : decode cX1_coat 28 = .ok (.aload_n 0, 1) := dk_42 (dk_at dksX1_coat_1 6 rfl rfl)
theorem dX1_coat_29 : decode cX1_coat 29 = .ok (.getfield 122, 3) := dk_180 0 122 (dk_at dksX1_coat_1 7 rfl rfl)
theorem dX1_coat_32 : decode cX1_coat 32 = .ok (.aload_n 3, 1) := dk_45 (dk_at dksX1_coat_1 10 rfl rfl)
theorem dX1_coat_33 : decode cX1_coat 33 = .ok (.getfield 295, 3) := dk_180 1 39 (dk_at dksX1_coat_1 11 rfl rfl)
theorem dX1_coat_36 : decode cX1_coat 36 = .ok (.if_icmp .lt 25, 3) := dk_161 0 25 (dk_at dksX1_coat_1 14 rfl rfl)
theorem dX1_coat_39 : decode cX1_coat 39 = .ok (.aload_n 3, 1) := dk_45 (dk_at dksX1_coat_1 17 rfl rfl)
theorem dX1_coat_40 : decode cX1_coat 40 = .ok (.getfield 299, 3) := dk_180 1 43 (dk_at dksX1_coat_1 18 rfl rfl)
theorem dX1_coat_43 : decode cX1_coat 43 = .ok (.bipush 8, 2) := dk_16 8 (dk_at dksX1_coat_1 21 rfl rfl)
theorem dX1_coat_45 : decode cX1_coat 45 = .ok (.if_icmp .ge 16, 3) := dk_162 0 16 (dk_at dksX1_coat_2 0 rfl rfl)
theorem dX1_coat_48 : decode cX1_coat 48 = .ok (.aload_n 0, 1) := dk_42 (dk_at dksX1_coat_2 3 rfl rfl)
theorem dX1_coat_49 : decode cX1_coat 49 = .ok (.bipush 99, 2) := dk_16 99 (dk_at dksX1_coat_2 4 rfl rfl)
theorem dX1_coat_51 : decode cX1_coat 51 = .ok (.invokevirtual 173, 3) := dk_182 0 173 (dk_at dksX1_coat_2 6 rfl rfl)
theorem dX1_coat_54 : decode cX1_coat 54 = .ok (.ifCond .eq 7, 3) := dk_153 0 7 (dk_at dksX1_coat_2 9 rfl rfl)
theorem dX1_coat_57 : decode cX1_coat 57 = .ok (.iconst 1, 1) := dk_4 (dk_at dksX1_coat_2 12 rfl rfl)
theorem dX1_coat_58 : decode cX1_coat 58 = .ok (.goto 4, 3) := dk_167 0 4 (dk_at dksX1_coat_2 13 rfl rfl)
theorem dX1_coat_61 : decode cX1_coat 61 = .ok (.iconst 0, 1) := dk_3 (dk_at dksX1_coat_2 16 rfl rfl)
theorem dX1_coat_62 : decode cX1_coat 62 = .ok (.invokestatic 137, 3) := dk_184 0 137 (dk_at dksX1_coat_2 17 rfl rfl)
theorem dX1_coat_65 : decode cX1_coat 65 = .ok (.aload_n 3, 1) := dk_45 (dk_at dksX1_coat_2 20 rfl rfl)
theorem dX1_coat_66 : decode cX1_coat 66 = .ok (.dup, 1) := dk_89 (dk_at dksX1_coat_2 21 rfl rfl)
theorem dX1_coat_67 : decode cX1_coat 67 = .ok (.getfield 299, 3) := dk_180 1 43 (dk_at dksX1_coat_3 0 rfl rfl)
theorem dX1_coat_70 : decode cX1_coat 70 = .ok (.iconst 1, 1) := dk_4 (dk_at dksX1_coat_3 3 rfl rfl)
theorem dX1_coat_71 : decode cX1_coat 71 = .ok (.iadd, 1) := dk_96 (dk_at dksX1_coat_3 4 rfl rfl)
theorem dX1_coat_72 : decode cX1_coat 72 = .ok (.putfield 299, 3) := dk_181 1 43 (dk_at dksX1_coat_3 5 rfl rfl)
theorem dX1_coat_75 : decode cX1_coat 75 = .ok (.aload_n 3, 1) := dk_45 (dk_at dksX1_coat_3 8 rfl rfl)
theorem dX1_coat_76 : decode cX1_coat 76 = .ok (.iload_n 2, 1) := dk_28 (dk_at dksX1_coat_3 9 rfl rfl)
theorem dX1_coat_77 : decode cX1_coat 77 = .ok (.putfield 302, 3) := dk_181 1 46 (dk_at dksX1_coat_3 10 rfl rfl)
theorem dX1_coat_80 : decode cX1_coat 80 = .ok (.aload_n 3, 1) := dk_45 (dk_at dksX1_coat_3 13 rfl rfl)
theorem dX1_coat_81 : decode cX1_coat 81 = .ok (.aload_n 0, 1) := dk_42 (dk_at dksX1_coat_3 14 rfl rfl)
theorem dX1_coat_82 : decode cX1_coat 82 = .ok (.getfield 122, 3) := dk_180 0 122 (dk_at dksX1_coat_3 15 rfl rfl)
theorem dX1_coat_85 : decode cX1_coat 85 = .ok (.bipush 8, 2) := dk_16 8 (dk_at dksX1_coat_3 18 rfl rfl)
theorem dX1_coat_87 : decode cX1_coat 87 = .ok (.iadd, 1) := dk_96 (dk_at dksX1_coat_3 20 rfl rfl)
theorem dX1_coat_88 : decode cX1_coat 88 = .ok (.putfield 295, 3) := dk_181 1 39 (dk_at dksX1_coat_3 21 rfl rfl)
theorem dX1_coat_91 : decode cX1_coat 91 = .ok (.aload_n 3, 1) := dk_45 (dk_at dksX1_coat_4 0 rfl rfl)
theorem dX1_coat_92 : decode cX1_coat 92 = .ok (.getfield 299, 3) := dk_180 1 43 (dk_at dksX1_coat_4 1 rfl rfl)
theorem dX1_coat_95 : decode cX1_coat 95 = .ok (.ireturn, 1) := dk_172 (dk_at dksX1_coat_4 4 rfl rfl)
abbrev cX1_stamp : ByteArray := prog_1_method_37_code
def yX1_stamp : MethodName := ⟨RX1, "stamp", "(I)I"⟩
def dkwX1_stamp_3 : List UInt8 := [182, 0, 254, 16, 50, 108, 181, 1, 49, 44, 180, 1, 49, 172]
abbrev dktX1_stamp_3 : List UInt8 := dkwX1_stamp_3 ++ []
def dkwX1_stamp_2 : List UInt8 := [182, 0, 214, 153, 0, 7, 4, 167, 0, 4, 3, 184, 0, 137, 44, 42, 180, 0, 82, 44, 180, 1, 52]
abbrev dktX1_stamp_2 : List UInt8 := dkwX1_stamp_2 ++ dktX1_stamp_3
def dkwX1_stamp_1 : List UInt8 := [180, 1, 43, 6, 161, 0, 29, 44, 180, 1, 49, 2, 160, 0, 21, 44, 180, 1, 52, 42, 180, 0, 122]
abbrev dktX1_stamp_1 : List UInt8 := dkwX1_stamp_1 ++ dktX1_stamp_2
def dkwX1_stamp_0 : List UInt8 := [42, 180, 0, 89, 27, 184, 0, 164, 192, 1, 28, 77, 42, 180, 0, 122, 44, 180, 1, 39, 161, 0, 37, 44]
abbrev dktX1_stamp_0 : List UInt8 := dkwX1_stamp_0 ++ dktX1_stamp_1
theorem dksX1_stamp_0 : cX1_stamp.data.toList.drop 0 = dktX1_stamp_0 := by decide +kernel
theorem dksX1_stamp_1 : cX1_stamp.data.toList.drop 24 = dktX1_stamp_1 := dk_seg dksX1_stamp_0 24 rfl rfl
theorem dksX1_stamp_2 : cX1_stamp.data.toList.drop 47 = dktX1_stamp_2 := dk_seg dksX1_stamp_1 23 rfl rfl
theorem dksX1_stamp_3 : cX1_stamp.data.toList.drop 70 = dktX1_stamp_3 := dk_seg dksX1_stamp_2 23 rfl rfl
theorem dX1_stamp_0 : decode cX1_stamp 0 = .ok (.aload_n 0, 1) := dk_42 (dk_at dksX1_stamp_0 0 rfl rfl)
theorem dX1_stamp_1 : decode cX1_stamp 1 = .ok (.getfield 89, 3) := dk_180 0 89 (dk_at dksX1_stamp_0 1 rfl rfl)
theorem dX1_stamp_4 : decode cX1_stamp 4 = .ok (.iload_n 1, 1) := dk_27 (dk_at dksX1_stamp_0 4 rfl rfl)
theorem dX1_stamp_5 : decode cX1_stamp 5 = .ok (.invokestatic 164, 3) := dk_184 0 164 (dk_at dksX1_stamp_0 5 rfl rfl)
theorem dX1_stamp_8 : decode cX1_stamp 8 = .ok (.checkcast 284, 3) := dk_192 1 28 (dk_at dksX1_stamp_0 8 rfl rfl)
theorem dX1_stamp_11 : decode cX1_stamp 11 = .ok (.astore_n 2, 1) := dk_77 (dk_at dksX1_stamp_0 11 rfl rfl)
theorem dX1_stamp_12 : decode cX1_stamp 12 = .ok (.aload_n 0, 1) := dk_42 (dk_at dksX1_stamp_0 12 rfl rfl)
theorem dX1_stamp_13 : decode cX1_stamp 13 = .ok (.getfield 122, 3) := dk_180 0 122 (dk_at dksX1_stamp_0 13 rfl rfl)
theorem dX1_stamp_16 : decode cX1_stamp 16 = .ok (.aload_n 2, 1) := dk_44 (dk_at dksX1_stamp_0 16 rfl rfl)
theorem dX1_stamp_17 : decode cX1_stamp 17 = .ok (.getfield 295, 3) := dk_180 1 39 (dk_at dksX1_stamp_0 17 rfl rfl)
theorem dX1_stamp_20 : decode cX1_stamp 20 = .ok (.if_icmp .lt 37, 3) := dk_161 0 37 (dk_at dksX1_stamp_0 20 rfl rfl)
theorem dX1_stamp_23 : decode cX1_stamp 23 = .ok (.aload_n 2, 1) := dk_44 (dk_at dksX1_stamp_0 23 rfl rfl)
theorem dX1_stamp_24 : decode cX1_stamp 24 = .ok (.getfield 299, 3) := dk_180 1 43 (dk_at dksX1_stamp_1 0 rfl rfl)
theorem dX1_stamp_27 : decode cX1_stamp 27 = .ok (.iconst 3, 1) := dk_6 (dk_at dksX1_stamp_1 3 rfl rfl)
theorem dX1_stamp_28 : decode cX1_stamp 28 = .ok (.if_icmp .lt 29, 3) := dk_161 0 29 (dk_at dksX1_stamp_1 4 rfl rfl)
theorem dX1_stamp_31 : decode cX1_stamp 31 = .ok (.aload_n 2, 1) := dk_44 (dk_at dksX1_stamp_1 7 rfl rfl)
theorem dX1_stamp_32 : decode cX1_stamp 32 = .ok (.getfield 305, 3) := dk_180 1 49 (dk_at dksX1_stamp_1 8 rfl rfl)
theorem dX1_stamp_35 : decode cX1_stamp 35 = .ok (.iconst (-1), 1) := dk_2 (dk_at dksX1_stamp_1 11 rfl rfl)
theorem dX1_stamp_36 : decode cX1_stamp 36 = .ok (.if_icmp .ne 21, 3) := dk_160 0 21 (dk_at dksX1_stamp_1 12 rfl rfl)
theorem dX1_stamp_39 : decode cX1_stamp 39 = .ok (.aload_n 2, 1) := dk_44 (dk_at dksX1_stamp_1 15 rfl rfl)
theorem dX1_stamp_40 : decode cX1_stamp 40 = .ok (.getfield 308, 3) := dk_180 1 52 (dk_at dksX1_stamp_1 16 rfl rfl)
theorem dX1_stamp_43 : decode cX1_stamp 43 = .ok (.aload_n 0, 1) := dk_42 (dk_at dksX1_stamp_1 19 rfl rfl)
theorem dX1_stamp_44 : decode cX1_stamp 44 = .ok (.getfield 122, 3) := dk_180 0 122 (dk_at dksX1_stamp_1 20 rfl rfl)
theorem dX1_stamp_47 : decode cX1_stamp 47 = .ok (.invokevirtual 214, 3) := dk_182 0 214 (dk_at dksX1_stamp_2 0 rfl rfl)
theorem dX1_stamp_50 : decode cX1_stamp 50 = .ok (.ifCond .eq 7, 3) := dk_153 0 7 (dk_at dksX1_stamp_2 3 rfl rfl)
theorem dX1_stamp_53 : decode cX1_stamp 53 = .ok (.iconst 1, 1) := dk_4 (dk_at dksX1_stamp_2 6 rfl rfl)
theorem dX1_stamp_54 : decode cX1_stamp 54 = .ok (.goto 4, 3) := dk_167 0 4 (dk_at dksX1_stamp_2 7 rfl rfl)
theorem dX1_stamp_57 : decode cX1_stamp 57 = .ok (.iconst 0, 1) := dk_3 (dk_at dksX1_stamp_2 10 rfl rfl)
theorem dX1_stamp_58 : decode cX1_stamp 58 = .ok (.invokestatic 137, 3) := dk_184 0 137 (dk_at dksX1_stamp_2 11 rfl rfl)
theorem dX1_stamp_61 : decode cX1_stamp 61 = .ok (.aload_n 2, 1) := dk_44 (dk_at dksX1_stamp_2 14 rfl rfl)
theorem dX1_stamp_62 : decode cX1_stamp 62 = .ok (.aload_n 0, 1) := dk_42 (dk_at dksX1_stamp_2 15 rfl rfl)
theorem dX1_stamp_63 : decode cX1_stamp 63 = .ok (.getfield 82, 3) := dk_180 0 82 (dk_at dksX1_stamp_2 16 rfl rfl)
theorem dX1_stamp_66 : decode cX1_stamp 66 = .ok (.aload_n 2, 1) := dk_44 (dk_at dksX1_stamp_2 19 rfl rfl)
theorem dX1_stamp_67 : decode cX1_stamp 67 = .ok (.getfield 308, 3) := dk_180 1 52 (dk_at dksX1_stamp_2 20 rfl rfl)
theorem dX1_stamp_70 : decode cX1_stamp 70 = .ok (.invokevirtual 254, 3) := dk_182 0 254 (dk_at dksX1_stamp_3 0 rfl rfl)
theorem dX1_stamp_73 : decode cX1_stamp 73 = .ok (.bipush 50, 2) := dk_16 50 (dk_at dksX1_stamp_3 3 rfl rfl)
theorem dX1_stamp_75 : decode cX1_stamp 75 = .ok (.idiv, 1) := dk_108 (dk_at dksX1_stamp_3 5 rfl rfl)
theorem dX1_stamp_76 : decode cX1_stamp 76 = .ok (.putfield 305, 3) := dk_181 1 49 (dk_at dksX1_stamp_3 6 rfl rfl)
theorem dX1_stamp_79 : decode cX1_stamp 79 = .ok (.aload_n 2, 1) := dk_44 (dk_at dksX1_stamp_3 9 rfl rfl)
theorem dX1_stamp_80 : decode cX1_stamp 80 = .ok (.getfield 305, 3) := dk_180 1 49 (dk_at dksX1_stamp_3 10 rfl rfl)
theorem dX1_stamp_83 : decode cX1_stamp 83 = .ok (.ireturn, 1) := dk_172 (dk_at dksX1_stamp_3 13 rfl rfl)
abbrev cX1_erase : ByteArray := prog_1_method_38_code
def yX1_erase : MethodName := ⟨RX1, "erase", "(II)I"⟩
def dkwX1_erase_2 : List UInt8 := [167, 0, 4, 3, 184, 0, 137, 45, 4, 181, 1, 56, 45, 180, 1, 59, 172]
abbrev dktX1_erase_2 : List UInt8 := dkwX1_erase_2 ++ []
def dkwX1_erase_1 : List UInt8 := [184, 0, 114, 184, 0, 118, 45, 180, 1, 49, 2, 159, 0, 14, 45, 180, 1, 56, 154, 0, 7, 4]
abbrev dktX1_erase_1 : List UInt8 := dkwX1_erase_1 ++ dktX1_erase_2
def dkwX1_erase_0 : List UInt8 := [42, 180, 0, 89, 27, 184, 0, 164, 192, 1, 28, 78, 3, 16, 9, 4, 188, 10, 89, 3, 28, 79]
abbrev dktX1_erase_0 : List UInt8 := dkwX1_erase_0 ++ dktX1_erase_1
theorem dksX1_erase_0 : cX1_erase.data.toList.drop 0 = dktX1_erase_0 := by decide +kernel
theorem dksX1_erase_1 : cX1_erase.data.toList.drop 22 = dktX1_erase_1 := dk_seg dksX1_erase_0 22 rfl rfl
theorem dksX1_erase_2 : cX1_erase.data.toList.drop 44 = dktX1_erase_2 := dk_seg dksX1_erase_1 22 rfl rfl
theorem dX1_erase_0 : decode cX1_erase 0 = .ok (.aload_n 0, 1) := dk_42 (dk_at dksX1_erase_0 0 rfl rfl)
theorem dX1_erase_1 : decode cX1_erase 1 = .ok (.getfield 89, 3) := dk_180 0 89 (dk_at dksX1_erase_0 1 rfl rfl)
theorem dX1_erase_4 : decode cX1_erase 4 = .ok (.iload_n 1, 1) := dk_27 (dk_at dksX1_erase_0 4 rfl rfl)
theorem dX1_erase_5 : decode cX1_erase 5 = .ok (.invokestatic 164, 3) := dk_184 0 164 (dk_at dksX1_erase_0 5 rfl rfl)
theorem dX1_erase_8 : decode cX1_erase 8 = .ok (.checkcast 284, 3) := dk_192 1 28 (dk_at dksX1_erase_0 8 rfl rfl)
theorem dX1_erase_11 : decode cX1_erase 11 = .ok (.astore_n 3, 1) := dk_78 (dk_at dksX1_erase_0 11 rfl rfl)
theorem dX1_erase_12 : decode cX1_erase 12 = .ok (.iconst 0, 1) := dk_3 (dk_at dksX1_erase_0 12 rfl rfl)
theorem dX1_erase_13 : decode cX1_erase 13 = .ok (.bipush 9, 2) := dk_16 9 (dk_at dksX1_erase_0 13 rfl rfl)
theorem dX1_erase_15 : decode cX1_erase 15 = .ok (.iconst 1, 1) := dk_4 (dk_at dksX1_erase_0 15 rfl rfl)
theorem dX1_erase_16 : decode cX1_erase 16 = .ok (.newarray .int, 2) := dk_188_10 (dk_at dksX1_erase_0 16 rfl rfl)
theorem dX1_erase_18 : decode cX1_erase 18 = .ok (.dup, 1) := dk_89 (dk_at dksX1_erase_0 18 rfl rfl)
theorem dX1_erase_19 : decode cX1_erase 19 = .ok (.iconst 0, 1) := dk_3 (dk_at dksX1_erase_0 19 rfl rfl)
theorem dX1_erase_20 : decode cX1_erase 20 = .ok (.iload_n 2, 1) := dk_28 (dk_at dksX1_erase_0 20 rfl rfl)
theorem dX1_erase_21 : decode cX1_erase 21 = .ok (.iastore, 1) := dk_79 (dk_at dksX1_erase_0 21 rfl rfl)
theorem dX1_erase_22 : decode cX1_erase 22 = .ok (.invokestatic 114, 3) := dk_184 0 114 (dk_at dksX1_erase_1 0 rfl rfl)
theorem dX1_erase_25 : decode cX1_erase 25 = .ok (.invokestatic 118, 3) := dk_184 0 118 (dk_at dksX1_erase_1 3 rfl rfl)
theorem dX1_erase_28 : decode cX1_erase 28 = .ok (.aload_n 3, 1) := dk_45 (dk_at dksX1_erase_1 6 rfl rfl)
theorem dX1_erase_29 : decode cX1_erase 29 = .ok (.getfield 305, 3) := dk_180 1 49 (dk_at dksX1_erase_1 7 rfl rfl)
theorem dX1_erase_32 : decode cX1_erase 32 = .ok (.iconst (-1), 1) := dk_2 (dk_at dksX1_erase_1 10 rfl rfl)
theorem dX1_erase_33 : decode cX1_erase 33 = .ok (.if_icmp .eq 14, 3) := dk_159 0 14 (dk_at dksX1_erase_1 11 rfl rfl)
theorem dX1_erase_36 : decode cX1_erase 36 = .ok (.aload_n 3, 1) := dk_45 (dk_at dksX1_erase_1 14 rfl rfl)
theorem dX1_erase_37 : decode cX1_erase 37 = .ok (.getfield 312, 3) := dk_180 1 56 (dk_at dksX1_erase_1 15 rfl rfl)
theorem dX1_erase_40 : decode cX1_erase 40 = .ok (.ifCond .ne 7, 3) := dk_154 0 7 (dk_at dksX1_erase_1 18 rfl rfl)
theorem dX1_erase_43 : decode cX1_erase 43 = .ok (.iconst 1, 1) := dk_4 (dk_at dksX1_erase_1 21 rfl rfl)
theorem dX1_erase_44 : decode cX1_erase 44 = .ok (.goto 4, 3) := dk_167 0 4 (dk_at dksX1_erase_2 0 rfl rfl)
theorem dX1_erase_47 : decode cX1_erase 47 = .ok (.iconst 0, 1) := dk_3 (dk_at dksX1_erase_2 3 rfl rfl)
theorem dX1_erase_48 : decode cX1_erase 48 = .ok (.invokestatic 137, 3) := dk_184 0 137 (dk_at dksX1_erase_2 4 rfl rfl)
theorem dX1_erase_51 : decode cX1_erase 51 = .ok (.aload_n 3, 1) := dk_45 (dk_at dksX1_erase_2 7 rfl rfl)
theorem dX1_erase_52 : decode cX1_erase 52 = .ok (.iconst 1, 1) := dk_4 (dk_at dksX1_erase_2 8 rfl rfl)
theorem dX1_erase_53 : decode cX1_erase 53 = .ok (.putfield 312, 3) := dk_181 1 56 (dk_at dksX1_erase_2 9 rfl rfl)
theorem dX1_erase_56 : decode cX1_erase 56 = .ok (.aload_n 3, 1) := dk_45 (dk_at dksX1_erase_2 12 rfl rfl)
theorem dX1_erase_57 : decode cX1_erase 57 = .ok (.getfield 315, 3) := dk_180 1 59 (dk_at dksX1_erase_2 13 rfl rfl)
theorem dX1_erase_60 : decode cX1_erase 60 = .ok (.ireturn, 1) := dk_172 (dk_at dksX1_erase_2 16 rfl rfl)
abbrev cX1_run : ByteArray := prog_1_method_39_code
def yX1_run : MethodName := ⟨RX1, "run", "(IC)I"⟩
def dkwX1_run_5 : List UInt8 := [172]
abbrev dktX1_run_5 : List UInt8 := dkwX1_run_5 ++ []
def dkwX1_run_4 : List UInt8 := [180, 1, 46, 167, 0, 21, 45, 180, 1, 49, 167, 0, 14, 45, 180, 1, 67, 167, 0, 7, 45, 180, 1, 39]
abbrev dktX1_run_4 : List UInt8 := dkwX1_run_4 ++ dktX1_run_5
def dkwX1_run_3 : List UInt8 := [45, 180, 1, 59, 167, 0, 42, 45, 180, 1, 64, 167, 0, 35, 45, 180, 1, 43, 167, 0, 28, 45]
abbrev dktX1_run_3 : List UInt8 := dkwX1_run_3 ++ dktX1_run_4
def dkwX1_run_2 : List UInt8 := [170, 0, 0, 0, 111, 0, 0, 0, 98, 0, 0, 0, 111, 0, 0, 0, 76, 0, 0, 0, 83, 0, 0, 0, 111, 0, 0, 0, 111, 0, 0, 0, 111, 0, 0, 0, 97, 0, 0, 0, 111, 0, 0, 0, 111, 0, 0, 0, 111, 0, 0, 0, 111, 0, 0, 0, 90, 0, 0, 0, 111, 0, 0, 0, 69, 0, 0, 0, 104]
abbrev dktX1_run_2 : List UInt8 := dkwX1_run_2 ++ dktX1_run_3
def dkwX1_run_1 : List UInt8 := [167, 0, 4, 3, 184, 0, 118, 28]
abbrev dktX1_run_1 : List UInt8 := dkwX1_run_1 ++ dktX1_run_2
def dkwX1_run_0 : List UInt8 := [42, 180, 0, 89, 27, 184, 0, 164, 192, 1, 28, 78, 19, 1, 62, 28, 182, 0, 129, 155, 0, 7, 4]
abbrev dktX1_run_0 : List UInt8 := dkwX1_run_0 ++ dktX1_run_1
theorem dksX1_run_0 : cX1_run.data.toList.drop 0 = dktX1_run_0 := by decide +kernel
theorem dksX1_run_1 : cX1_run.data.toList.drop 23 = dktX1_run_1 := dk_seg dksX1_run_0 23 rfl rfl
theorem dksX1_run_2 : cX1_run.data.toList.drop 31 = dktX1_run_2 := dk_seg dksX1_run_1 8 rfl rfl
theorem dksX1_run_3 : cX1_run.data.toList.drop 100 = dktX1_run_3 := dk_seg dksX1_run_2 69 rfl rfl
theorem dksX1_run_4 : cX1_run.data.toList.drop 122 = dktX1_run_4 := dk_seg dksX1_run_3 22 rfl rfl
theorem dksX1_run_5 : cX1_run.data.toList.drop 146 = dktX1_run_5 := dk_seg dksX1_run_4 24 rfl rfl
theorem dX1_run_0 : decode cX1_run 0 = .ok (.aload_n 0, 1) := dk_42 (dk_at dksX1_run_0 0 rfl rfl)
theorem dX1_run_1 : decode cX1_run 1 = .ok (.getfield 89, 3) := dk_180 0 89 (dk_at dksX1_run_0 1 rfl rfl)
theorem dX1_run_4 : decode cX1_run 4 = .ok (.iload_n 1, 1) := dk_27 (dk_at dksX1_run_0 4 rfl rfl)
theorem dX1_run_5 : decode cX1_run 5 = .ok (.invokestatic 164, 3) := dk_184 0 164 (dk_at dksX1_run_0 5 rfl rfl)
theorem dX1_run_8 : decode cX1_run 8 = .ok (.checkcast 284, 3) := dk_192 1 28 (dk_at dksX1_run_0 8 rfl rfl)
theorem dX1_run_11 : decode cX1_run 11 = .ok (.astore_n 3, 1) := dk_78 (dk_at dksX1_run_0 11 rfl rfl)
theorem dX1_run_12 : decode cX1_run 12 = .ok (.ldc_w 318, 3) := dk_19 1 62 (dk_at dksX1_run_0 12 rfl rfl)
theorem dX1_run_15 : decode cX1_run 15 = .ok (.iload_n 2, 1) := dk_28 (dk_at dksX1_run_0 15 rfl rfl)
theorem dX1_run_16 : decode cX1_run 16 = .ok (.invokevirtual 129, 3) := dk_182 0 129 (dk_at dksX1_run_0 16 rfl rfl)
theorem dX1_run_19 : decode cX1_run 19 = .ok (.ifCond .lt 7, 3) := dk_155 0 7 (dk_at dksX1_run_0 19 rfl rfl)
theorem dX1_run_22 : decode cX1_run 22 = .ok (.iconst 1, 1) := dk_4 (dk_at dksX1_run_0 22 rfl rfl)
theorem dX1_run_23 : decode cX1_run 23 = .ok (.goto 4, 3) := dk_167 0 4 (dk_at dksX1_run_1 0 rfl rfl)
theorem dX1_run_26 : decode cX1_run 26 = .ok (.iconst 0, 1) := dk_3 (dk_at dksX1_run_1 3 rfl rfl)
theorem dX1_run_27 : decode cX1_run 27 = .ok (.invokestatic 118, 3) := dk_184 0 118 (dk_at dksX1_run_1 4 rfl rfl)
theorem dX1_run_30 : decode cX1_run 30 = .ok (.iload_n 2, 1) := dk_28 (dk_at dksX1_run_1 7 rfl rfl)
theorem dX1_run_31 : decode cX1_run 31 = .ok (.tableswitch 111 98 111 #[76, 83, 111, 111, 111, 97, 111, 111, 111, 111, 90, 111, 69, 104], 69) := by decide +kernel
theorem dX1_run_100 : decode cX1_run 100 = .ok (.aload_n 3, 1) := dk_45 (dk_at dksX1_run_3 0 rfl rfl)
theorem dX1_run_101 : decode cX1_run 101 = .ok (.getfield 315, 3) := dk_180 1 59 (dk_at dksX1_run_3 1 rfl rfl)
theorem dX1_run_104 : decode cX1_run 104 = .ok (.goto 42, 3) := dk_167 0 42 (dk_at dksX1_run_3 4 rfl rfl)
theorem dX1_run_107 : decode cX1_run 107 = .ok (.aload_n 3, 1) := dk_45 (dk_at dksX1_run_3 7 rfl rfl)
theorem dX1_run_108 : decode cX1_run 108 = .ok (.getfield 320, 3) := dk_180 1 64 (dk_at dksX1_run_3 8 rfl rfl)
theorem dX1_run_111 : decode cX1_run 111 = .ok (.goto 35, 3) := dk_167 0 35 (dk_at dksX1_run_3 11 rfl rfl)
theorem dX1_run_114 : decode cX1_run 114 = .ok (.aload_n 3, 1) := dk_45 (dk_at dksX1_run_3 14 rfl rfl)
theorem dX1_run_115 : decode cX1_run 115 = .ok (.getfield 299, 3) := dk_180 1 43 (dk_at dksX1_run_3 15 rfl rfl)
theorem dX1_run_118 : decode cX1_run 118 = .ok (.goto 28, 3) := dk_167 0 28 (dk_at dksX1_run_3 18 rfl rfl)
theorem dX1_run_121 : decode cX1_run 121 = .ok (.aload_n 3, 1) := dk_45 (dk_at dksX1_run_3 21 rfl rfl)
theorem dX1_run_122 : decode cX1_run 122 = .ok (.getfield 302, 3) := dk_180 1 46 (dk_at dksX1_run_4 0 rfl rfl)
theorem dX1_run_125 : decode cX1_run 125 = .ok (.goto 21, 3) := dk_167 0 21 (dk_at dksX1_run_4 3 rfl rfl)
theorem dX1_run_128 : decode cX1_run 128 = .ok (.aload_n 3, 1) := dk_45 (dk_at dksX1_run_4 6 rfl rfl)
theorem dX1_run_129 : decode cX1_run 129 = .ok (.getfield 305, 3) := dk_180 1 49 (dk_at dksX1_run_4 7 rfl rfl)
theorem dX1_run_132 : decode cX1_run 132 = .ok (.goto 14, 3) := dk_167 0 14 (dk_at dksX1_run_4 10 rfl rfl)
theorem dX1_run_135 : decode cX1_run 135 = .ok (.aload_n 3, 1) := dk_45 (dk_at dksX1_run_4 13 rfl rfl)
theorem dX1_run_136 : decode cX1_run 136 = .ok (.getfield 323, 3) := dk_180 1 67 (dk_at dksX1_run_4 14 rfl rfl)
theorem dX1_run_139 : decode cX1_run 139 = .ok (.goto 7, 3) := dk_167 0 7 (dk_at dksX1_run_4 17 rfl rfl)
theorem dX1_run_142 : decode cX1_run 142 = .ok (.aload_n 3, 1) := dk_45 (dk_at dksX1_run_4 20 rfl rfl)
theorem dX1_run_143 : decode cX1_run 143 = .ok (.getfield 295, 3) := dk_180 1 39 (dk_at dksX1_run_4 21 rfl rfl)
theorem dX1_run_146 : decode cX1_run 146 = .ok (.ireturn, 1) := dk_172 (dk_at dksX1_run_5 0 rfl rfl)
abbrev cX1_fall : ByteArray := prog_1_method_40_code
def yX1_fall : MethodName := ⟨RX1, "fall", "(II)I"⟩
def dkwX1_fall_3 : List UInt8 := [184, 0, 225, 54, 5, 45, 89, 180, 1, 64, 21, 5, 96, 181, 1, 64, 21, 5, 172]
abbrev dktX1_fall_3 : List UInt8 := dkwX1_fall_3 ++ []
def dkwX1_fall_2 : List UInt8 := [180, 0, 222, 100, 184, 0, 231, 54, 4, 45, 182, 1, 70, 45, 180, 1, 59, 21, 4, 104, 17, 1, 144, 108]
abbrev dktX1_fall_2 : List UInt8 := dkwX1_fall_2 ++ dktX1_fall_3
def dkwX1_fall_1 : List UInt8 := [184, 0, 114, 184, 0, 118, 3, 16, 40, 28, 104, 16, 20, 45, 180, 1, 67, 104, 96, 45, 180, 1, 52]
abbrev dktX1_fall_1 : List UInt8 := dkwX1_fall_1 ++ dktX1_fall_2
def dkwX1_fall_0 : List UInt8 := [42, 180, 0, 89, 27, 184, 0, 164, 192, 1, 28, 78, 4, 16, 9, 4, 188, 10, 89, 3, 28, 79]
abbrev dktX1_fall_0 : List UInt8 := dkwX1_fall_0 ++ dktX1_fall_1
theorem dksX1_fall_0 : cX1_fall.data.toList.drop 0 = dktX1_fall_0 := by decide +kernel
theorem dksX1_fall_1 : cX1_fall.data.toList.drop 22 = dktX1_fall_1 := dk_seg dksX1_fall_0 22 rfl rfl
theorem dksX1_fall_2 : cX1_fall.data.toList.drop 45 = dktX1_fall_2 := dk_seg dksX1_fall_1 23 rfl rfl
theorem dksX1_fall_3 : cX1_fall.data.toList.drop 69 = dktX1_fall_3 := dk_seg dksX1_fall_2 24 rfl rfl
theorem dX1_fall_0 : decode cX1_fall 0 = .ok (.aload_n 0, 1) := dk_42 (dk_at dksX1_fall_0 0 rfl rfl)
theorem dX1_fall_1 : decode cX1_fall 1 = .ok (.getfield 89, 3) := dk_180 0 89 (dk_at dksX1_fall_0 1 rfl rfl)
theorem dX1_fall_4 : decode cX1_fall 4 = .ok (.iload_n 1, 1) := dk_27 (dk_at dksX1_fall_0 4 rfl rfl)
theorem dX1_fall_5 : decode cX1_fall 5 = .ok (.invokestatic 164, 3) := dk_184 0 164 (dk_at dksX1_fall_0 5 rfl rfl)
theorem dX1_fall_8 : decode cX1_fall 8 = .ok (.checkcast 284, 3) := dk_192 1 28 (dk_at dksX1_fall_0 8 rfl rfl)
theorem dX1_fall_11 : decode cX1_fall 11 = .ok (.astore_n 3, 1) := dk_78 (dk_at dksX1_fall_0 11 rfl rfl)
theorem dX1_fall_12 : decode cX1_fall 12 = .ok (.iconst 1, 1) := dk_4 (dk_at dksX1_fall_0 12 rfl rfl)
theorem dX1_fall_13 : decode cX1_fall 13 = .ok (.bipush 9, 2) := dk_16 9 (dk_at dksX1_fall_0 13 rfl rfl)
theorem dX1_fall_15 : decode cX1_fall 15 = .ok (.iconst 1, 1) := dk_4 (dk_at dksX1_fall_0 15 rfl rfl)
theorem dX1_fall_16 : decode cX1_fall 16 = .ok (.newarray .int, 2) := dk_188_10 (dk_at dksX1_fall_0 16 rfl rfl)
theorem dX1_fall_18 : decode cX1_fall 18 = .ok (.dup, 1) := dk_89 (dk_at dksX1_fall_0 18 rfl rfl)
theorem dX1_fall_19 : decode cX1_fall 19 = .ok (.iconst 0, 1) := dk_3 (dk_at dksX1_fall_0 19 rfl rfl)
theorem dX1_fall_20 : decode cX1_fall 20 = .ok (.iload_n 2, 1) := dk_28 (dk_at dksX1_fall_0 20 rfl rfl)
theorem dX1_fall_21 : decode cX1_fall 21 = .ok (.iastore, 1) := dk_79 (dk_at dksX1_fall_0 21 rfl rfl)
theorem dX1_fall_22 : decode cX1_fall 22 = .ok (.invokestatic 114, 3) := dk_184 0 114 (dk_at dksX1_fall_1 0 rfl rfl)
theorem dX1_fall_25 : decode cX1_fall 25 = .ok (.invokestatic 118, 3) := dk_184 0 118 (dk_at dksX1_fall_1 3 rfl rfl)
theorem dX1_fall_28 : decode cX1_fall 28 = .ok (.iconst 0, 1) := dk_3 (dk_at dksX1_fall_1 6 rfl rfl)
theorem dX1_fall_29 : decode cX1_fall 29 = .ok (.bipush 40, 2) := dk_16 40 (dk_at dksX1_fall_1 7 rfl rfl)
theorem dX1_fall_31 : decode cX1_fall 31 = .ok (.iload_n 2, 1) := dk_28 (dk_at dksX1_fall_1 9 rfl rfl)
theorem dX1_fall_32 : decode cX1_fall 32 = .ok (.imul, 1) := dk_104 (dk_at dksX1_fall_1 10 rfl rfl)
theorem dX1_fall_33 : decode cX1_fall 33 = .ok (.bipush 20, 2) := dk_16 20 (dk_at dksX1_fall_1 11 rfl rfl)
theorem dX1_fall_35 : decode cX1_fall 35 = .ok (.aload_n 3, 1) := dk_45 (dk_at dksX1_fall_1 13 rfl rfl)
theorem dX1_fall_36 : decode cX1_fall 36 = .ok (.getfield 323, 3) := dk_180 1 67 (dk_at dksX1_fall_1 14 rfl rfl)
theorem dX1_fall_39 : decode cX1_fall 39 = .ok (.imul, 1) := dk_104 (dk_at dksX1_fall_1 17 rfl rfl)
theorem dX1_fall_40 : decode cX1_fall 40 = .ok (.iadd, 1) := dk_96 (dk_at dksX1_fall_1 18 rfl rfl)
theorem dX1_fall_41 : decode cX1_fall 41 = .ok (.aload_n 3, 1) := dk_45 (dk_at dksX1_fall_1 19 rfl rfl)
theorem dX1_fall_42 : decode cX1_fall 42 = .ok (.getfield 308, 3) := dk_180 1 52 (dk_at dksX1_fall_1 20 rfl rfl)
theorem dX1_fall_45 : decode cX1_fall 45 = .ok (.getfield 222, 3) := dk_180 0 222 (dk_at dksX1_fall_2 0 rfl rfl)
theorem dX1_fall_48 : decode cX1_fall 48 = .ok (.isub, 1) := dk_100 (dk_at dksX1_fall_2 3 rfl rfl)
theorem dX1_fall_49 : decode cX1_fall 49 = .ok (.invokestatic 231, 3) := dk_184 0 231 (dk_at dksX1_fall_2 4 rfl rfl)
theorem dX1_fall_52 : decode cX1_fall 52 = .ok (.istore 4, 2) := dk_54 4 (dk_at dksX1_fall_2 7 rfl rfl)
theorem dX1_fall_54 : decode cX1_fall 54 = .ok (.aload_n 3, 1) := dk_45 (dk_at dksX1_fall_2 9 rfl rfl)
theorem dX1_fall_55 : decode cX1_fall 55 = .ok (.invokevirtual 326, 3) := dk_182 1 70 (dk_at dksX1_fall_2 10 rfl rfl)
theorem dX1_fall_58 : decode cX1_fall 58 = .ok (.aload_n 3, 1) := dk_45 (dk_at dksX1_fall_2 13 rfl rfl)
theorem dX1_fall_59 : decode cX1_fall 59 = .ok (.getfield 315, 3) := dk_180 1 59 (dk_at dksX1_fall_2 14 rfl rfl)
theorem dX1_fall_62 : decode cX1_fall 62 = .ok (.iload 4, 2) := dk_21 4 (dk_at dksX1_fall_2 17 rfl rfl)
theorem dX1_fall_64 : decode cX1_fall 64 = .ok (.imul, 1) := dk_104 (dk_at dksX1_fall_2 19 rfl rfl)
theorem dX1_fall_65 : decode cX1_fall 65 = .ok (.sipush 400, 3) := dk_17 1 144 (dk_at dksX1_fall_2 20 rfl rfl)
theorem dX1_fall_68 : decode cX1_fall 68 = .ok (.idiv, 1) := dk_108 (dk_at dksX1_fall_2 23 rfl rfl)
theorem dX1_fall_69 : decode cX1_fall 69 = .ok (.invokestatic 225, 3) := dk_184 0 225 (dk_at dksX1_fall_3 0 rfl rfl)
theorem dX1_fall_72 : decode cX1_fall 72 = .ok (.istore 5, 2) := dk_54 5 (dk_at dksX1_fall_3 3 rfl rfl)
theorem dX1_fall_74 : decode cX1_fall 74 = .ok (.aload_n 3, 1) := dk_45 (dk_at dksX1_fall_3 5 rfl rfl)
theorem dX1_fall_75 : decode cX1_fall 75 = .ok (.dup, 1) := dk_89 (dk_at dksX1_fall_3 6 rfl rfl)
theorem dX1_fall_76 : decode cX1_fall 76 = .ok (.getfield 320, 3) := dk_180 1 64 (dk_at dksX1_fall_3 7 rfl rfl)
theorem dX1_fall_79 : decode cX1_fall 79 = .ok (.iload 5, 2) := dk_21 5 (dk_at dksX1_fall_3 10 rfl rfl)
theorem dX1_fall_81 : decode cX1_fall 81 = .ok (.iadd, 1) := dk_96 (dk_at dksX1_fall_3 12 rfl rfl)
theorem dX1_fall_82 : decode cX1_fall 82 = .ok (.putfield 320, 3) := dk_181 1 64 (dk_at dksX1_fall_3 13 rfl rfl)
theorem dX1_fall_85 : decode cX1_fall 85 = .ok (.iload 5, 2) := dk_21 5 (dk_at dksX1_fall_3 16 rfl rfl)
theorem dX1_fall_87 : decode cX1_fall 87 = .ok (.ireturn, 1) := dk_172 (dk_at dksX1_fall_3 18 rfl rfl)
abbrev cX1_sample : ByteArray := prog_1_method_41_code
def yX1_sample : MethodName := ⟨RX1, "sample", "(II)I"⟩
def dkwX1_sample_6 : List UInt8 := [181, 1, 77, 21, 4, 172]
abbrev dktX1_sample_6 : List UInt8 := dkwX1_sample_6 ++ []
def dkwX1_sample_5 : List UInt8 := [45, 89, 180, 1, 59, 4, 100, 181, 1, 59, 132, 5, 1, 167, 255, 177, 42, 89, 180, 1, 77, 28, 96]
abbrev dktX1_sample_5 : List UInt8 := dkwX1_sample_5 ++ dktX1_sample_6
def dkwX1_sample_4 : List UInt8 := [167, 0, 4, 3, 54, 6, 21, 4, 21, 6, 96, 54, 4, 45, 89, 180, 1, 64, 21, 6, 100, 181, 1, 64]
abbrev dktX1_sample_4 : List UInt8 := dkwX1_sample_4 ++ dktX1_sample_5
def dkwX1_sample_3 : List UInt8 := [181, 0, 60, 42, 180, 0, 60, 45, 180, 1, 59, 133, 113, 45, 180, 1, 64, 133, 148, 156, 0, 7, 4]
abbrev dktX1_sample_3 : List UInt8 := dkwX1_sample_3 ++ dktX1_sample_4
def dkwX1_sample_2 : List UInt8 := [54, 4, 3, 54, 5, 21, 5, 28, 162, 0, 79, 42, 42, 180, 0, 60, 20, 1, 73, 105, 20, 1, 75, 113]
abbrev dktX1_sample_2 : List UInt8 := dkwX1_sample_2 ++ dktX1_sample_3
def dkwX1_sample_1 : List UInt8 := [184, 0, 114, 184, 0, 118, 45, 180, 1, 59, 28, 161, 0, 7, 4, 167, 0, 4, 3, 184, 0, 137, 3]
abbrev dktX1_sample_1 : List UInt8 := dkwX1_sample_1 ++ dktX1_sample_2
def dkwX1_sample_0 : List UInt8 := [42, 180, 0, 89, 27, 184, 0, 164, 192, 1, 28, 78, 4, 16, 50, 4, 188, 10, 89, 3, 28, 79]
abbrev dktX1_sample_0 : List UInt8 := dkwX1_sample_0 ++ dktX1_sample_1
theorem dksX1_sample_0 : cX1_sample.data.toList.drop 0 = dktX1_sample_0 := by decide +kernel
theorem dksX1_sample_1 : cX1_sample.data.toList.drop 22 = dktX1_sample_1 := dk_seg dksX1_sample_0 22 rfl rfl
theorem dksX1_sample_2 : cX1_sample.data.toList.drop 45 = dktX1_sample_2 := dk_seg dksX1_sample_1 23 rfl rfl
theorem dksX1_sample_3 : cX1_sample.data.toList.drop 69 = dktX1_sample_3 := dk_seg dksX1_sample_2 24 rfl rfl
theorem dksX1_sample_4 : cX1_sample.data.toList.drop 92 = dktX1_sample_4 := dk_seg dksX1_sample_3 23 rfl rfl
theorem dksX1_sample_5 : cX1_sample.data.toList.drop 116 = dktX1_sample_5 := dk_seg dksX1_sample_4 24 rfl rfl
theorem dksX1_sample_6 : cX1_sample.data.toList.drop 139 = dktX1_sample_6 := dk_seg dksX1_sample_5 23 rfl rfl
theorem dX1_sample_0 : decode cX1_sample 0 = .ok (.aload_n 0, 1) := dk_42 (dk_at dksX1_sample_0 0 rfl rfl)
theorem dX1_sample_1 : decode cX1_sample 1 = .ok (.getfield 89, 3) := dk_180 0 89 (dk_at dksX1_sample_0 1 rfl rfl)
theorem dX1_sample_4 : decode cX1_sample 4 = .ok (.iload_n 1, 1) := dk_27 (dk_at dksX1_sample_0 4 rfl rfl)
theorem dX1_sample_5 : decode cX1_sample 5 = .ok (.invokestatic 164, 3) := dk_184 0 164 (dk_at dksX1_sample_0 5 rfl rfl)
theorem dX1_sample_8 : decode cX1_sample 8 = .ok (.checkcast 284, 3) := dk_192 1 28 (dk_at dksX1_sample_0 8 rfl rfl)
theorem dX1_sample_11 : decode cX1_sample 11 = .ok (.astore_n 3, 1) := dk_78 (dk_at dksX1_sample_0 11 rfl rfl)
theorem dX1_sample_12 : decode cX1_sample 12 = .ok (.iconst 1, 1) := dk_4 (dk_at dksX1_sample_0 12 rfl rfl)
theorem dX1_sample_13 : decode cX1_sample 13 = .ok (.bipush 50, 2) := dk_16 50 (dk_at dksX1_sample_0 13 rfl rfl)
theorem dX1_sample_15 : decode cX1_sample 15 = .ok (.iconst 1, 1) := dk_4 (dk_at dksX1_sample_0 15 rfl rfl)
theorem dX1_sample_16 : decode cX1_sample 16 = .ok (.newarray .int, 2) := dk_188_10 (dk_at dksX1_sample_0 16 rfl rfl)
theorem dX1_sample_18 : decode cX1_sample 18 = .ok (.dup, 1) := dk_89 (dk_at dksX1_sample_0 18 rfl rfl)
theorem dX1_sample_19 : decode cX1_sample 19 = .ok (.iconst 0, 1) := dk_3 (dk_at dksX1_sample_0 19 rfl rfl)
theorem dX1_sample_20 : decode cX1_sample 20 = .ok (.iload_n 2, 1) := dk_28 (dk_at dksX1_sample_0 20 rfl rfl)
theorem dX1_sample_21 : decode cX1_sample 21 = .ok (.iastore, 1) := dk_79 (dk_at dksX1_sample_0 21 rfl rfl)
theorem dX1_sample_22 : decode cX1_sample 22 = .ok (.invokestatic 114, 3) := dk_184 0 114 (dk_at dksX1_sample_1 0 rfl rfl)
theorem dX1_sample_25 : decode cX1_sample 25 = .ok (.invokestatic 118, 3) := dk_184 0 118 (dk_at dksX1_sample_1 3 rfl rfl)
theorem dX1_sample_28 : decode cX1_sample 28 = .ok (.aload_n 3, 1) := dk_45 (dk_at dksX1_sample_1 6 rfl rfl)
theorem dX1_sample_29 : decode cX1_sample 29 = .ok (.getfield 315, 3) := dk_180 1 59 (dk_at dksX1_sample_1 7 rfl rfl)
theorem dX1_sample_32 : decode cX1_sample 32 = .ok (.iload_n 2, 1) := dk_28 (dk_at dksX1_sample_1 10 rfl rfl)
theorem dX1_sample_33 : decode cX1_sample 33 = .ok (.if_icmp .lt 7, 3) := dk_161 0 7 (dk_at dksX1_sample_1 11 rfl rfl)
theorem dX1_sample_36 : decode cX1_sample 36 = .ok (.iconst 1, 1) := dk_4 (dk_at dksX1_sample_1 14 rfl rfl)
theorem dX1_sample_37 : decode cX1_sample 37 = .ok (.goto 4, 3) := dk_167 0 4 (dk_at dksX1_sample_1 15 rfl rfl)
theorem dX1_sample_40 : decode cX1_sample 40 = .ok (.iconst 0, 1) := dk_3 (dk_at dksX1_sample_1 18 rfl rfl)
theorem dX1_sample_41 : decode cX1_sample 41 = .ok (.invokestatic 137, 3) := dk_184 0 137 (dk_at dksX1_sample_1 19 rfl rfl)
theorem dX1_sample_44 : decode cX1_sample 44 = .ok (.iconst 0, 1) := dk_3 (dk_at dksX1_sample_1 22 rfl rfl)
theorem dX1_sample_45 : decode cX1_sample 45 = .ok (.istore 4, 2) := dk_54 4 (dk_at dksX1_sample_2 0 rfl rfl)
theorem dX1_sample_47 : decode cX1_sample 47 = .ok (.iconst 0, 1) := dk_3 (dk_at dksX1_sample_2 2 rfl rfl)
theorem dX1_sample_48 : decode cX1_sample 48 = .ok (.istore 5, 2) := dk_54 5 (dk_at dksX1_sample_2 3 rfl rfl)
theorem dX1_sample_50 : decode cX1_sample 50 = .ok (.iload 5, 2) := dk_21 5 (dk_at dksX1_sample_2 5 rfl rfl)
theorem dX1_sample_52 : decode cX1_sample 52 = .ok (.iload_n 2, 1) := dk_28 (dk_at dksX1_sample_2 7 rfl rfl)
theorem dX1_sample_53 : decode cX1_sample 53 = .ok (.if_icmp .ge 79, 3) := dk_162 0 79 (dk_at dksX1_sample_2 8 rfl rfl)
theorem dX1_sample_56 : decode cX1_sample 56 = .ok (.aload_n 0, 1) := dk_42 (dk_at dksX1_sample_2 11 rfl rfl)
theorem dX1_sample_57 : decode cX1_sample 57 = .ok (.aload_n 0, 1) := dk_42 (dk_at dksX1_sample_2 12 rfl rfl)
theorem dX1_sample_58 : decode cX1_sample 58 = .ok (.getfield 60, 3) := dk_180 0 60 (dk_at dksX1_sample_2 13 rfl rfl)
theorem dX1_sample_61 : decode cX1_sample 61 = .ok (.ldc2_w 329, 3) := dk_20 1 73 (dk_at dksX1_sample_2 16 rfl rfl)
theorem dX1_sample_64 : decode cX1_sample 64 = .ok (.lmul, 1) := dk_105 (dk_at dksX1_sample_2 19 rfl rfl)
theorem dX1_sample_65 : decode cX1_sample 65 = .ok (.ldc2_w 331, 3) := dk_20 1 75 (dk_at dksX1_sample_2 20 rfl rfl)
theorem dX1_sample_68 : decode cX1_sample 68 = .ok (.lrem, 1) := dk_113 (dk_at dksX1_sample_2 23 rfl rfl)
theorem dX1_sample_69 : decode cX1_sample 69 = .ok (.putfield 60, 3) := dk_181 0 60 (dk_at dksX1_sample_3 0 rfl rfl)
theorem dX1_sample_72 : decode cX1_sample 72 = .ok (.aload_n 0, 1) := dk_42 (dk_at dksX1_sample_3 3 rfl rfl)
theorem dX1_sample_73 : decode cX1_sample 73 = .ok (.getfield 60, 3) := dk_180 0 60 (dk_at dksX1_sample_3 4 rfl rfl)
theorem dX1_sample_76 : decode cX1_sample 76 = .ok (.aload_n 3, 1) := dk_45 (dk_at dksX1_sample_3 7 rfl rfl)
theorem dX1_sample_77 : decode cX1_sample 77 = .ok (.getfield 315, 3) := dk_180 1 59 (dk_at dksX1_sample_3 8 rfl rfl)
theorem dX1_sample_80 : decode cX1_sample 80 = .ok (.i2l, 1) := dk_133 (dk_at dksX1_sample_3 11 rfl rfl)
theorem dX1_sample_81 : decode cX1_sample 81 = .ok (.lrem, 1) := dk_113 (dk_at dksX1_sample_3 12 rfl rfl)
theorem dX1_sample_82 : decode cX1_sample 82 = .ok (.aload_n 3, 1) := dk_45 (dk_at dksX1_sample_3 13 rfl rfl)
theorem dX1_sample_83 : decode cX1_sample 83 = .ok (.getfield 320, 3) := dk_180 1 64 (dk_at dksX1_sample_3 14 rfl rfl)
theorem dX1_sample_86 : decode cX1_sample 86 = .ok (.i2l, 1) := dk_133 (dk_at dksX1_sample_3 17 rfl rfl)
theorem dX1_sample_87 : decode cX1_sample 87 = .ok (.lcmp, 1) := dk_148 (dk_at dksX1_sample_3 18 rfl rfl)
theorem dX1_sample_88 : decode cX1_sample 88 = .ok (.ifCond .ge 7, 3) := dk_156 0 7 (dk_at dksX1_sample_3 19 rfl rfl)
theorem dX1_sample_91 : decode cX1_sample 91 = .ok (.iconst 1, 1) := dk_4 (dk_at dksX1_sample_3 22 rfl rfl)
theorem dX1_sample_92 : decode cX1_sample 92 = .ok (.goto 4, 3) := dk_167 0 4 (dk_at dksX1_sample_4 0 rfl rfl)
theorem dX1_sample_95 : decode cX1_sample 95 = .ok (.iconst 0, 1) := dk_3 (dk_at dksX1_sample_4 3 rfl rfl)
theorem dX1_sample_96 : decode cX1_sample 96 = .ok (.istore 6, 2) := dk_54 6 (dk_at dksX1_sample_4 4 rfl rfl)
theorem dX1_sample_98 : decode cX1_sample 98 = .ok (.iload 4, 2) := dk_21 4 (dk_at dksX1_sample_4 6 rfl rfl)
theorem dX1_sample_100 : decode cX1_sample 100 = .ok (.iload 6, 2) := dk_21 6 (dk_at dksX1_sample_4 8 rfl rfl)
theorem dX1_sample_102 : decode cX1_sample 102 = .ok (.iadd, 1) := dk_96 (dk_at dksX1_sample_4 10 rfl rfl)
theorem dX1_sample_103 : decode cX1_sample 103 = .ok (.istore 4, 2) := dk_54 4 (dk_at dksX1_sample_4 11 rfl rfl)
theorem dX1_sample_105 : decode cX1_sample 105 = .ok (.aload_n 3, 1) := dk_45 (dk_at dksX1_sample_4 13 rfl rfl)
theorem dX1_sample_106 : decode cX1_sample 106 = .ok (.dup, 1) := dk_89 (dk_at dksX1_sample_4 14 rfl rfl)
theorem dX1_sample_107 : decode cX1_sample 107 = .ok (.getfield 320, 3) := dk_180 1 64 (dk_at dksX1_sample_4 15 rfl rfl)
theorem dX1_sample_110 : decode cX1_sample 110 = .ok (.iload 6, 2) := dk_21 6 (dk_at dksX1_sample_4 18 rfl rfl)
theorem dX1_sample_112 : decode cX1_sample 112 = .ok (.isub, 1) := dk_100 (dk_at dksX1_sample_4 20 rfl rfl)
theorem dX1_sample_113 : decode cX1_sample 113 = .ok (.putfield 320, 3) := dk_181 1 64 (dk_at dksX1_sample_4 21 rfl rfl)
theorem dX1_sample_116 : decode cX1_sample 116 = .ok (.aload_n 3, 1) := dk_45 (dk_at dksX1_sample_5 0 rfl rfl)
theorem dX1_sample_117 : decode cX1_sample 117 = .ok (.dup, 1) := dk_89 (dk_at dksX1_sample_5 1 rfl rfl)
theorem dX1_sample_118 : decode cX1_sample 118 = .ok (.getfield 315, 3) := dk_180 1 59 (dk_at dksX1_sample_5 2 rfl rfl)
theorem dX1_sample_121 : decode cX1_sample 121 = .ok (.iconst 1, 1) := dk_4 (dk_at dksX1_sample_5 5 rfl rfl)
theorem dX1_sample_122 : decode cX1_sample 122 = .ok (.isub, 1) := dk_100 (dk_at dksX1_sample_5 6 rfl rfl)
theorem dX1_sample_123 : decode cX1_sample 123 = .ok (.putfield 315, 3) := dk_181 1 59 (dk_at dksX1_sample_5 7 rfl rfl)
theorem dX1_sample_126 : decode cX1_sample 126 = .ok (.iinc 5 1, 3) := dk_132 5 1 (dk_at dksX1_sample_5 10 rfl rfl)
theorem dX1_sample_129 : decode cX1_sample 129 = .ok (.goto (-79), 3) := dk_167 255 177 (dk_at dksX1_sample_5 13 rfl rfl)
theorem dX1_sample_132 : decode cX1_sample 132 = .ok (.aload_n 0, 1) := dk_42 (dk_at dksX1_sample_5 16 rfl rfl)
theorem dX1_sample_133 : decode cX1_sample 133 = .ok (.dup, 1) := dk_89 (dk_at dksX1_sample_5 17 rfl rfl)
theorem dX1_sample_134 : decode cX1_sample 134 = .ok (.getfield 333, 3) := dk_180 1 77 (dk_at dksX1_sample_5 18 rfl rfl)
theorem dX1_sample_137 : decode cX1_sample 137 = .ok (.iload_n 2, 1) := dk_28 (dk_at dksX1_sample_5 21 rfl rfl)
theorem dX1_sample_138 : decode cX1_sample 138 = .ok (.iadd, 1) := dk_96 (dk_at dksX1_sample_5 22 rfl rfl)
theorem dX1_sample_139 : decode cX1_sample 139 = .ok (.putfield 333, 3) := dk_181 1 77 (dk_at dksX1_sample_6 0 rfl rfl)
theorem dX1_sample_142 : decode cX1_sample 142 = .ok (.iload 4, 2) := dk_21 4 (dk_at dksX1_sample_6 3 rfl rfl)
theorem dX1_sample_144 : decode cX1_sample 144 = .ok (.ireturn, 1) := dk_172 (dk_at dksX1_sample_6 5 rfl rfl)
abbrev cX1_seed : ByteArray := prog_1_method_42_code
def yX1_seed : MethodName := ⟨RX1, "seed", "(I)I"⟩
def dkwX1_seed_1 : List UInt8 := [27, 133, 181, 0, 60, 28, 172]
abbrev dktX1_seed_1 : List UInt8 := dkwX1_seed_1 ++ []
def dkwX1_seed_0 : List UInt8 := [4, 19, 1, 80, 4, 188, 10, 89, 3, 27, 79, 184, 0, 114, 184, 0, 118, 42, 180, 0, 60, 136, 61, 42]
abbrev dktX1_seed_0 : List UInt8 := dkwX1_seed_0 ++ dktX1_seed_1
theorem dksX1_seed_0 : cX1_seed.data.toList.drop 0 = dktX1_seed_0 := by decide +kernel
theorem dksX1_seed_1 : cX1_seed.data.toList.drop 24 = dktX1_seed_1 := dk_seg dksX1_seed_0 24 rfl rfl
theorem dX1_seed_0 : decode cX1_seed 0 = .ok (.iconst 1, 1) := dk_4 (dk_at dksX1_seed_0 0 rfl rfl)
theorem dX1_seed_1 : decode cX1_seed 1 = .ok (.ldc_w 336, 3) := dk_19 1 80 (dk_at dksX1_seed_0 1 rfl rfl)
theorem dX1_seed_4 : decode cX1_seed 4 = .ok (.iconst 1, 1) := dk_4 (dk_at dksX1_seed_0 4 rfl rfl)
theorem dX1_seed_5 : decode cX1_seed 5 = .ok (.newarray .int, 2) := dk_188_10 (dk_at dksX1_seed_0 5 rfl rfl)
theorem dX1_seed_7 : decode cX1_seed 7 = .ok (.dup, 1) := dk_89 (dk_at dksX1_seed_0 7 rfl rfl)
theorem dX1_seed_8 : decode cX1_seed 8 = .ok (.iconst 0, 1) := dk_3 (dk_at dksX1_seed_0 8 rfl rfl)
theorem dX1_seed_9 : decode cX1_seed 9 = .ok (.iload_n 1, 1) := dk_27 (dk_at dksX1_seed_0 9 rfl rfl)
theorem dX1_seed_10 : decode cX1_seed 10 = .ok (.iastore, 1) := dk_79 (dk_at dksX1_seed_0 10 rfl rfl)
theorem dX1_seed_11 : decode cX1_seed 11 = .ok (.invokestatic 114, 3) := dk_184 0 114 (dk_at dksX1_seed_0 11 rfl rfl)
theorem dX1_seed_14 : decode cX1_seed 14 = .ok (.invokestatic 118, 3) := dk_184 0 118 (dk_at dksX1_seed_0 14 rfl rfl)
theorem dX1_seed_17 : decode cX1_seed 17 = .ok (.aload_n 0, 1) := dk_42 (dk_at dksX1_seed_0 17 rfl rfl)
theorem dX1_seed_18 : decode cX1_seed 18 = .ok (.getfield 60, 3) := dk_180 0 60 (dk_at dksX1_seed_0 18 rfl rfl)
theorem dX1_seed_21 : decode cX1_seed 21 = .ok (.l2i, 1) := dk_136 (dk_at dksX1_seed_0 21 rfl rfl)
theorem dX1_seed_22 : decode cX1_seed 22 = .ok (.istore_n 2, 1) := dk_61 (dk_at dksX1_seed_0 22 rfl rfl)
theorem dX1_seed_23 : decode cX1_seed 23 = .ok (.aload_n 0, 1) := dk_42 (dk_at dksX1_seed_0 23 rfl rfl)
theorem dX1_seed_24 : decode cX1_seed 24 = .ok (.iload_n 1, 1) := dk_27 (dk_at dksX1_seed_1 0 rfl rfl)
theorem dX1_seed_25 : decode cX1_seed 25 = .ok (.i2l, 1) := dk_133 (dk_at dksX1_seed_1 1 rfl rfl)
theorem dX1_seed_26 : decode cX1_seed 26 = .ok (.putfield 60, 3) := dk_181 0 60 (dk_at dksX1_seed_1 2 rfl rfl)
theorem dX1_seed_29 : decode cX1_seed 29 = .ok (.iload_n 2, 1) := dk_28 (dk_at dksX1_seed_1 5 rfl rfl)
theorem dX1_seed_30 : decode cX1_seed 30 = .ok (.ireturn, 1) := dk_172 (dk_at dksX1_seed_1 6 rfl rfl)
abbrev cX1_gross : ByteArray := prog_1_method_43_code
def yX1_gross : MethodName := ⟨RX1, "gross", "(I)I"⟩
def dkwX1_gross_3 : List UInt8 := [100, 172]
abbrev dktX1_gross_3 : List UInt8 := dkwX1_gross_3 ++ []
def dkwX1_gross_2 : List UInt8 := [187, 1, 81, 89, 27, 183, 1, 83, 185, 0, 160, 2, 0, 87, 42, 180, 0, 92, 185, 0, 7, 1, 0, 4]
abbrev dktX1_gross_2 : List UInt8 := dkwX1_gross_2 ++ dktX1_gross_3
def dkwX1_gross_1 : List UInt8 := [185, 0, 7, 1, 0, 16, 30, 162, 0, 7, 4, 167, 0, 4, 3, 184, 0, 126, 42, 180, 0, 92]
abbrev dktX1_gross_1 : List UInt8 := dkwX1_gross_1 ++ dktX1_gross_2
def dkwX1_gross_0 : List UInt8 := [3, 16, 19, 4, 188, 10, 89, 3, 27, 79, 184, 0, 114, 184, 0, 118, 42, 180, 0, 92]
abbrev dktX1_gross_0 : List UInt8 := dkwX1_gross_0 ++ dktX1_gross_1
theorem dksX1_gross_0 : cX1_gross.data.toList.drop 0 = dktX1_gross_0 := by decide +kernel
theorem dksX1_gross_1 : cX1_gross.data.toList.drop 20 = dktX1_gross_1 := dk_seg dksX1_gross_0 20 rfl rfl
theorem dksX1_gross_2 : cX1_gross.data.toList.drop 42 = dktX1_gross_2 := dk_seg dksX1_gross_1 22 rfl rfl
theorem dksX1_gross_3 : cX1_gross.data.toList.drop 66 = dktX1_gross_3 := dk_seg dksX1_gross_2 24 rfl rfl
theorem dX1_gross_0 : decode cX1_gross 0 = .ok (.iconst 0, 1) := dk_3 (dk_at dksX1_gross_0 0 rfl rfl)
theorem dX1_gross_1 : decode cX1_gross 1 = .ok (.bipush 19, 2) := dk_16 19 (dk_at dksX1_gross_0 1 rfl rfl)
theorem dX1_gross_3 : decode cX1_gross 3 = .ok (.iconst 1, 1) := dk_4 (dk_at dksX1_gross_0 3 rfl rfl)
theorem dX1_gross_4 : decode cX1_gross 4 = .ok (.newarray .int, 2) := dk_188_10 (dk_at dksX1_gross_0 4 rfl rfl)
theorem dX1_gross_6 : decode cX1_gross 6 = .ok (.dup, 1) := dk_89 (dk_at dksX1_gross_0 6 rfl rfl)
theorem dX1_gross_7 : decode cX1_gross 7 = .ok (.iconst 0, 1) := dk_3 (dk_at dksX1_gross_0 7 rfl rfl)
theorem dX1_gross_8 : decode cX1_gross 8 = .ok (.iload_n 1, 1) := dk_27 (dk_at dksX1_gross_0 8 rfl rfl)
theorem dX1_gross_9 : decode cX1_gross 9 = .ok (.iastore, 1) := dk_79 (dk_at dksX1_gross_0 9 rfl rfl)
theorem dX1_gross_10 : decode cX1_gross 10 = .ok (.invokestatic 114, 3) := dk_184 0 114 (dk_at dksX1_gross_0 10 rfl rfl)
theorem dX1_gross_13 : decode cX1_gross 13 = .ok (.invokestatic 118, 3) := dk_184 0 118 (dk_at dksX1_gross_0 13 rfl rfl)
theorem dX1_gross_16 : decode cX1_gross 16 = .ok (.aload_n 0, 1) := dk_42 (dk_at dksX1_gross_0 16 rfl rfl)
theorem dX1_gross_17 : decode cX1_gross 17 = .ok (.getfield 92, 3) := dk_180 0 92 (dk_at dksX1_gross_0 17 rfl rfl)
theorem dX1_gross_20 : decode cX1_gross 20 = .ok (.invokeinterface 7 1, 5) := by decide +kernel
theorem dX1_gross_25 : decode cX1_gross 25 = .ok (.bipush 30, 2) := dk_16 30 (dk_at dksX1_gross_1 5 rfl rfl)
theorem dX1_gross_27 : decode cX1_gross 27 = .ok (.if_icmp .ge 7, 3) := dk_162 0 7 (dk_at dksX1_gross_1 7 rfl rfl)
theorem dX1_gross_30 : decode cX1_gross 30 = .ok (.iconst 1, 1) := dk_4 (dk_at dksX1_gross_1 10 rfl rfl)
theorem dX1_gross_31 : decode cX1_gross 31 = .ok (.goto 4, 3) := dk_167 0 4 (dk_at dksX1_gross_1 11 rfl rfl)
theorem dX1_gross_34 : decode cX1_gross 34 = .ok (.iconst 0, 1) := dk_3 (dk_at dksX1_gross_1 14 rfl rfl)
theorem dX1_gross_35 : decode cX1_gross 35 = .ok (.invokestatic 126, 3) := dk_184 0 126 (dk_at dksX1_gross_1 15 rfl rfl)
theorem dX1_gross_38 : decode cX1_gross 38 = .ok (.aload_n 0, 1) := dk_42 (dk_at dksX1_gross_1 18 rfl rfl)
theorem dX1_gross_39 : decode cX1_gross 39 = .ok (.getfield 92, 3) := dk_180 0 92 (dk_at dksX1_gross_1 19 rfl rfl)
theorem dX1_gross_42 : decode cX1_gross 42 = .ok (.new 337, 3) := dk_187 1 81 (dk_at dksX1_gross_2 0 rfl rfl)
theorem dX1_gross_45 : decode cX1_gross 45 = .ok (.dup, 1) := dk_89 (dk_at dksX1_gross_2 3 rfl rfl)
theorem dX1_gross_46 : decode cX1_gross 46 = .ok (.iload_n 1, 1) := dk_27 (dk_at dksX1_gross_2 4 rfl rfl)
theorem dX1_gross_47 : decode cX1_gross 47 = .ok (.invokespecial 339, 3) := dk_183 1 83 (dk_at dksX1_gross_2 5 rfl rfl)
theorem dX1_gross_50 : decode cX1_gross 50 = .ok (.invokeinterface 160 2, 5) := by decide +kernel
theorem dX1_gross_55 : decode cX1_gross 55 = .ok (.pop, 1) := dk_87 (dk_at dksX1_gross_2 13 rfl rfl)
theorem dX1_gross_56 : decode cX1_gross 56 = .ok (.aload_n 0, 1) := dk_42 (dk_at dksX1_gross_2 14 rfl rfl)
theorem dX1_gross_57 : decode cX1_gross 57 = .ok (.getfield 92, 3) := dk_180 0 92 (dk_at dksX1_gross_2 15 rfl rfl)
theorem dX1_gross_60 : decode cX1_gross 60 = .ok (.invokeinterface 7 1, 5) := by decide +kernel
theorem dX1_gross_65 : decode cX1_gross 65 = .ok (.iconst 1, 1) := dk_4 (dk_at dksX1_gross_2 23 rfl rfl)
theorem dX1_gross_66 : decode cX1_gross 66 = .ok (.isub, 1) := dk_100 (dk_at dksX1_gross_3 0 rfl rfl)
theorem dX1_gross_67 : decode cX1_gross 67 = .ok (.ireturn, 1) := dk_172 (dk_at dksX1_gross_3 1 rfl rfl)
abbrev cX1_pack : ByteArray := prog_1_method_44_code
def yX1_pack : MethodName := ⟨RX1, "pack", "(III)I"⟩
def dkwX1_pack_7 : List UInt8 := [25, 5, 89, 180, 1, 64, 21, 7, 100, 181, 1, 64, 25, 4, 182, 1, 87, 172]
abbrev dktX1_pack_7 : List UInt8 := dkwX1_pack_7 ++ []
def dkwX1_pack_6 : List UInt8 := [29, 21, 7, 183, 1, 97, 185, 0, 160, 2, 0, 87, 25, 5, 89, 180, 1, 59, 29, 100, 181, 1, 59]
abbrev dktX1_pack_6 : List UInt8 := dkwX1_pack_6 ++ dktX1_pack_7
def dkwX1_pack_5 : List UInt8 := [3, 29, 25, 5, 182, 1, 70, 100, 184, 0, 231, 54, 7, 25, 4, 180, 1, 92, 187, 1, 95, 89, 25, 5]
abbrev dktX1_pack_5 : List UInt8 := dkwX1_pack_5 ++ dktX1_pack_6
def dkwX1_pack_4 : List UInt8 := [29, 96, 17, 0, 144, 163, 0, 15, 25, 4, 180, 1, 89, 154, 0, 7, 4, 167, 0, 4, 3, 184, 0, 137]
abbrev dktX1_pack_4 : List UInt8 := dkwX1_pack_4 ++ dktX1_pack_5
def dkwX1_pack_3 : List UInt8 := [180, 1, 59, 29, 161, 0, 7, 4, 167, 0, 4, 3, 54, 6, 21, 6, 153, 0, 28, 25, 4, 182, 1, 87]
abbrev dktX1_pack_3 : List UInt8 := dkwX1_pack_3 ++ dktX1_pack_4
def dkwX1_pack_2 : List UInt8 := [25, 4, 180, 1, 84, 160, 0, 28, 42, 180, 0, 122, 25, 5, 180, 1, 39, 161, 0, 16, 25, 5]
abbrev dktX1_pack_2 : List UInt8 := dkwX1_pack_2 ++ dktX1_pack_3
def dkwX1_pack_1 : List UInt8 := [58, 5, 4, 17, 0, 144, 4, 188, 10, 89, 3, 29, 79, 184, 0, 114, 184, 0, 118, 25, 5, 180, 1, 49]
abbrev dktX1_pack_1 : List UInt8 := dkwX1_pack_1 ++ dktX1_pack_2
def dkwX1_pack_0 : List UInt8 := [42, 180, 0, 92, 27, 184, 0, 164, 192, 1, 81, 58, 4, 42, 180, 0, 89, 28, 184, 0, 164, 192, 1, 28]
abbrev dktX1_pack_0 : List UInt8 := dkwX1_pack_0 ++ dktX1_pack_1
theorem dksX1_pack_0 : cX1_pack.data.toList.drop 0 = dktX1_pack_0 := by decide +kernel
theorem dksX1_pack_1 : cX1_pack.data.toList.drop 24 = dktX1_pack_1 := dk_seg dksX1_pack_0 24 rfl rfl
theorem dksX1_pack_2 : cX1_pack.data.toList.drop 48 = dktX1_pack_2 := dk_seg dksX1_pack_1 24 rfl rfl
theorem dksX1_pack_3 : cX1_pack.data.toList.drop 70 = dktX1_pack_3 := dk_seg dksX1_pack_2 22 rfl rfl
theorem dksX1_pack_4 : cX1_pack.data.toList.drop 94 = dktX1_pack_4 := dk_seg dksX1_pack_3 24 rfl rfl
theorem dksX1_pack_5 : cX1_pack.data.toList.drop 118 = dktX1_pack_5 := dk_seg dksX1_pack_4 24 rfl rfl
theorem dksX1_pack_6 : cX1_pack.data.toList.drop 142 = dktX1_pack_6 := dk_seg dksX1_pack_5 24 rfl rfl
theorem dksX1_pack_7 : cX1_pack.data.toList.drop 165 = dktX1_pack_7 := dk_seg dksX1_pack_6 23 rfl rfl
theorem dX1_pack_0 : decode cX1_pack 0 = .ok (.aload_n 0, 1) := dk_42 (dk_at dksX1_pack_0 0 rfl rfl)
theorem dX1_pack_1 : decode cX1_pack 1 = .ok (.getfield 92, 3) := dk_180 0 92 (dk_at dksX1_pack_0 1 rfl rfl)
theorem dX1_pack_4 : decode cX1_pack 4 = .ok (.iload_n 1, 1) := dk_27 (dk_at dksX1_pack_0 4 rfl rfl)
theorem dX1_pack_5 : decode cX1_pack 5 = .ok (.invokestatic 164, 3) := dk_184 0 164 (dk_at dksX1_pack_0 5 rfl rfl)
theorem dX1_pack_8 : decode cX1_pack 8 = .ok (.checkcast 337, 3) := dk_192 1 81 (dk_at dksX1_pack_0 8 rfl rfl)
theorem dX1_pack_11 : decode cX1_pack 11 = .ok (.astore 4, 2) := dk_58 4 (dk_at dksX1_pack_0 11 rfl rfl)
theorem dX1_pack_13 : decode cX1_pack 13 = .ok (.aload_n 0, 1) := dk_42 (dk_at dksX1_pack_0 13 rfl rfl)
theorem dX1_pack_14 : decode cX1_pack 14 = .ok (.getfield 89, 3) := dk_180 0 89 (dk_at dksX1_pack_0 14 rfl rfl)
theorem dX1_pack_17 : decode cX1_pack 17 = .ok (.iload_n 2, 1) := dk_28 (dk_at dksX1_pack_0 17 rfl rfl)
theorem dX1_pack_18 : decode cX1_pack 18 = .ok (.invokestatic 164, 3) := dk_184 0 164 (dk_at dksX1_pack_0 18 rfl rfl)
theorem dX1_pack_21 : decode cX1_pack 21 = .ok (.checkcast 284, 3) := dk_192 1 28 (dk_at dksX1_pack_0 21 rfl rfl)
theorem dX1_pack_24 : decode cX1_pack 24 = .ok (.astore 5, 2) := dk_58 5 (dk_at dksX1_pack_1 0 rfl rfl)
theorem dX1_pack_26 : decode cX1_pack 26 = .ok (.iconst 1, 1) := dk_4 (dk_at dksX1_pack_1 2 rfl rfl)
theorem dX1_pack_27 : decode cX1_pack 27 = .ok (.sipush 144, 3) := dk_17 0 144 (dk_at dksX1_pack_1 3 rfl rfl)
theorem dX1_pack_30 : decode cX1_pack 30 = .ok (.iconst 1, 1) := dk_4 (dk_at dksX1_pack_1 6 rfl rfl)
theorem dX1_pack_31 : decode cX1_pack 31 = .ok (.newarray .int, 2) := dk_188_10 (dk_at dksX1_pack_1 7 rfl rfl)
theorem dX1_pack_33 : decode cX1_pack 33 = .ok (.dup, 1) := dk_89 (dk_at dksX1_pack_1 9 rfl rfl)
theorem dX1_pack_34 : decode cX1_pack 34 = .ok (.iconst 0, 1) := dk_3 (dk_at dksX1_pack_1 10 rfl rfl)
theorem dX1_pack_35 : decode cX1_pack 35 = .ok (.iload_n 3, 1) := dk_29 (dk_at dksX1_pack_1 11 rfl rfl)
theorem dX1_pack_36 : decode cX1_pack 36 = .ok (.iastore, 1) := dk_79 (dk_at dksX1_pack_1 12 rfl rfl)
theorem dX1_pack_37 : decode cX1_pack 37 = .ok (.invokestatic 114, 3) := dk_184 0 114 (dk_at dksX1_pack_1 13 rfl rfl)
theorem dX1_pack_40 : decode cX1_pack 40 = .ok (.invokestatic 118, 3) := dk_184 0 118 (dk_at dksX1_pack_1 16 rfl rfl)
theorem dX1_pack_43 : decode cX1_pack 43 = .ok (.aload 5, 2) := dk_25 5 (dk_at dksX1_pack_1 19 rfl rfl)
theorem dX1_pack_45 : decode cX1_pack 45 = .ok (.getfield 305, 3) := dk_180 1 49 (dk_at dksX1_pack_1 21 rfl rfl)
theorem dX1_pack_48 : decode cX1_pack 48 = .ok (.aload 4, 2) := dk_25 4 (dk_at dksX1_pack_2 0 rfl rfl)
theorem dX1_pack_50 : decode cX1_pack 50 = .ok (.getfield 340, 3) := dk_180 1 84 (dk_at dksX1_pack_2 2 rfl rfl)
theorem dX1_pack_53 : decode cX1_pack 53 = .ok (.if_icmp .ne 28, 3) := dk_160 0 28 (dk_at dksX1_pack_2 5 rfl rfl)
theorem dX1_pack_56 : decode cX1_pack 56 = .ok (.aload_n 0, 1) := dk_42 (dk_at dksX1_pack_2 8 rfl rfl)
theorem dX1_pack_57 : decode cX1_pack 57 = .ok (.getfield 122, 3) := dk_180 0 122 (dk_at dksX1_pack_2 9 rfl rfl)
theorem dX1_pack_60 : decode cX1_pack 60 = .ok (.aload 5, 2) := dk_25 5 (dk_at dksX1_pack_2 12 rfl rfl)
theorem dX1_pack_62 : decode cX1_pack 62 = .ok (.getfield 295, 3) := dk_180 1 39 (dk_at dksX1_pack_2 14 rfl rfl)
theorem dX1_pack_65 : decode cX1_pack 65 = .ok (.if_icmp .lt 16, 3) := dk_161 0 16 (dk_at dksX1_pack_2 17 rfl rfl)
theorem dX1_pack_68 : decode cX1_pack 68 = .ok (.aload 5, 2) := dk_25 5 (dk_at dksX1_pack_2 20 rfl rfl)
theorem dX1_pack_70 : decode cX1_pack 70 = .ok (.getfield 315, 3) := dk_180 1 59 (dk_at dksX1_pack_3 0 rfl rfl)
theorem dX1_pack_73 : decode cX1_pack 73 = .ok (.iload_n 3, 1) := dk_29 (dk_at dksX1_pack_3 3 rfl rfl)
theorem dX1_pack_74 : decode cX1_pack 74 = .ok (.if_icmp .lt 7, 3) := dk_161 0 7 (dk_at dksX1_pack_3 4 rfl rfl)
theorem dX1_pack_77 : decode cX1_pack 77 = .ok (.iconst 1, 1) := dk_4 (dk_at dksX1_pack_3 7 rfl rfl)
theorem dX1_pack_78 : decode cX1_pack 78 = .ok (.goto 4, 3) := dk_167 0 4 (dk_at dksX1_pack_3 8 rfl rfl)
theorem dX1_pack_81 : decode cX1_pack 81 = .ok (.iconst 0, 1) := dk_3 (dk_at dksX1_pack_3 11 rfl rfl)
theorem dX1_pack_82 : decode cX1_pack 82 = .ok (.istore 6, 2) := dk_54 6 (dk_at dksX1_pack_3 12 rfl rfl)
theorem dX1_pack_84 : decode cX1_pack 84 = .ok (.iload 6, 2) := dk_21 6 (dk_at dksX1_pack_3 14 rfl rfl)
theorem dX1_pack_86 : decode cX1_pack 86 = .ok (.ifCond .eq 28, 3) := dk_153 0 28 (dk_at dksX1_pack_3 16 rfl rfl)
theorem dX1_pack_89 : decode cX1_pack 89 = .ok (.aload 4, 2) := dk_25 4 (dk_at dksX1_pack_3 19 rfl rfl)
theorem dX1_pack_91 : decode cX1_pack 91 = .ok (.invokevirtual 343, 3) := dk_182 1 87 (dk_at dksX1_pack_3 21 rfl rfl)
theorem dX1_pack_94 : decode cX1_pack 94 = .ok (.iload_n 3, 1) := dk_29 (dk_at dksX1_pack_4 0 rfl rfl)
theorem dX1_pack_95 : decode cX1_pack 95 = .ok (.iadd, 1) := dk_96 (dk_at dksX1_pack_4 1 rfl rfl)
theorem dX1_pack_96 : decode cX1_pack 96 = .ok (.sipush 144, 3) := dk_17 0 144 (dk_at dksX1_pack_4 2 rfl rfl)
theorem dX1_pack_99 : decode cX1_pack 99 = .ok (.if_icmp .gt 15, 3) := dk_163 0 15 (dk_at dksX1_pack_4 5 rfl rfl)
theorem dX1_pack_102 : decode cX1_pack 102 = .ok (.aload 4, 2) := dk_25 4 (dk_at dksX1_pack_4 8 rfl rfl)
theorem dX1_pack_104 : decode cX1_pack 104 = .ok (.getfield 345, 3) := dk_180 1 89 (dk_at dksX1_pack_4 10 rfl rfl)
theorem dX1_pack_107 : decode cX1_pack 107 = .ok (.ifCond .ne 7, 3) := dk_154 0 7 (dk_at dksX1_pack_4 13 rfl rfl)
theorem dX1_pack_110 : decode cX1_pack 110 = .ok (.iconst 1, 1) := dk_4 (dk_at dksX1_pack_4 16 rfl rfl)
theorem dX1_pack_111 : decode cX1_pack 111 = .ok (.goto 4, 3) := dk_167 0 4 (dk_at dksX1_pack_4 17 rfl rfl)
theorem dX1_pack_114 : decode cX1_pack 114 = .ok (.iconst 0, 1) := dk_3 (dk_at dksX1_pack_4 20 rfl rfl)
theorem dX1_pack_115 : decode cX1_pack 115 = .ok (.invokestatic 137, 3) := dk_184 0 137 (dk_at dksX1_pack_4 21 rfl rfl)
theorem dX1_pack_118 : decode cX1_pack 118 = .ok (.iconst 0, 1) := dk_3 (dk_at dksX1_pack_5 0 rfl rfl)
theorem dX1_pack_119 : decode cX1_pack 119 = .ok (.iload_n 3, 1) := dk_29 (dk_at dksX1_pack_5 1 rfl rfl)
theorem dX1_pack_120 : decode cX1_pack 120 = .ok (.aload 5, 2) := dk_25 5 (dk_at dksX1_pack_5 2 rfl rfl)
theorem dX1_pack_122 : decode cX1_pack 122 = .ok (.invokevirtual 326, 3) := dk_182 1 70 (dk_at dksX1_pack_5 4 rfl rfl)
theorem dX1_pack_125 : decode cX1_pack 125 = .ok (.isub, 1) := dk_100 (dk_at dksX1_pack_5 7 rfl rfl)
theorem dX1_pack_126 : decode cX1_pack 126 = .ok (.invokestatic 231, 3) := dk_184 0 231 (dk_at dksX1_pack_5 8 rfl rfl)
theorem dX1_pack_129 : decode cX1_pack 129 = .ok (.istore 7, 2) := dk_54 7 (dk_at dksX1_pack_5 11 rfl rfl)
theorem dX1_pack_131 : decode cX1_pack 131 = .ok (.aload 4, 2) := dk_25 4 (dk_at dksX1_pack_5 13 rfl rfl)
theorem dX1_pack_133 : decode cX1_pack 133 = .ok (.getfield 348, 3) := dk_180 1 92 (dk_at dksX1_pack_5 15 rfl rfl)
theorem dX1_pack_136 : decode cX1_pack 136 = .ok (.new 351, 3) := dk_187 1 95 (dk_at dksX1_pack_5 18 rfl rfl)
theorem dX1_pack_139 : decode cX1_pack 139 = .ok (.dup, 1) := dk_89 (dk_at dksX1_pack_5 21 rfl rfl)
theorem dX1_pack_140 : decode cX1_pack 140 = .ok (.aload 5, 2) := dk_25 5 (dk_at dksX1_pack_5 22 rfl rfl)
theorem dX1_pack_142 : decode cX1_pack 142 = .ok (.iload_n 3, 1) := dk_29 (dk_at dksX1_pack_6 0 rfl rfl)
theorem dX1_pack_143 : decode cX1_pack 143 = .ok (.iload 7, 2) := dk_21 7 (dk_at dksX1_pack_6 1 rfl rfl)
theorem dX1_pack_145 : decode cX1_pack 145 = .ok (.invokespecial 353, 3) := dk_183 1 97 (dk_at dksX1_pack_6 3 rfl rfl)
theorem dX1_pack_148 : decode cX1_pack 148 = .ok (.invokeinterface 160 2, 5) := by decide +kernel
theorem dX1_pack_153 : decode cX1_pack 153 = .ok (.pop, 1) := dk_87 (dk_at dksX1_pack_6 11 rfl rfl)
theorem dX1_pack_154 : decode cX1_pack 154 = .ok (.aload 5, 2) := dk_25 5 (dk_at dksX1_pack_6 12 rfl rfl)
theorem dX1_pack_156 : decode cX1_pack 156 = .ok (.dup, 1) := dk_89 (dk_at dksX1_pack_6 14 rfl rfl)
theorem dX1_pack_157 : decode cX1_pack 157 = .ok (.getfield 315, 3) := dk_180 1 59 (dk_at dksX1_pack_6 15 rfl rfl)
theorem dX1_pack_160 : decode cX1_pack 160 = .ok (.iload_n 3, 1) := dk_29 (dk_at dksX1_pack_6 18 rfl rfl)
theorem dX1_pack_161 : decode cX1_pack 161 = .ok (.isub, 1) := dk_100 (dk_at dksX1_pack_6 19 rfl rfl)
theorem dX1_pack_162 : decode cX1_pack 162 = .ok (.putfield 315, 3) := dk_181 1 59 (dk_at dksX1_pack_6 20 rfl rfl)
theorem dX1_pack_165 : decode cX1_pack 165 = .ok (.aload 5, 2) := dk_25 5 (dk_at dksX1_pack_7 0 rfl rfl)
theorem dX1_pack_167 : decode cX1_pack 167 = .ok (.dup, 1) := dk_89 (dk_at dksX1_pack_7 2 rfl rfl)
theorem dX1_pack_168 : decode cX1_pack 168 = .ok (.getfield 320, 3) := dk_180 1 64 (dk_at dksX1_pack_7 3 rfl rfl)
theorem dX1_pack_171 : decode cX1_pack 171 = .ok (.iload 7, 2) := dk_21 7 (dk_at dksX1_pack_7 6 rfl rfl)
theorem dX1_pack_173 : decode cX1_pack 173 = .ok (.isub, 1) := dk_100 (dk_at dksX1_pack_7 8 rfl rfl)
theorem dX1_pack_174 : decode cX1_pack 174 = .ok (.putfield 320, 3) := dk_181 1 64 (dk_at dksX1_pack_7 9 rfl rfl)
theorem dX1_pack_177 : decode cX1_pack 177 = .ok (.aload 4, 2) := dk_25 4 (dk_at dksX1_pack_7 12 rfl rfl)
theorem dX1_pack_179 : decode cX1_pack 179 = .ok (.invokevirtual 343, 3) := dk_182 1 87 (dk_at dksX1_pack_7 14 rfl rfl)
theorem dX1_pack_182 : decode cX1_pack 182 = .ok (.ireturn, 1) := dk_172 (dk_at dksX1_pack_7 17 rfl rfl)
abbrev cX1_order : ByteArray := prog_1_method_45_code
def yX1_order : MethodName := ⟨RX1, "order", "(III)I"⟩
def dkwX1_order_4 : List UInt8 := [183, 1, 102, 185, 0, 160, 2, 0, 87, 42, 180, 0, 95, 185, 0, 7, 1, 0, 4, 100, 172]
abbrev dktX1_order_4 : List UInt8 := dkwX1_order_4 ++ []
def dkwX1_order_3 : List UInt8 := [16, 12, 162, 0, 7, 4, 167, 0, 4, 3, 184, 0, 126, 42, 180, 0, 95, 187, 1, 100, 89, 27, 28, 29]
abbrev dktX1_order_3 : List UInt8 := dkwX1_order_3 ++ dktX1_order_4
def dkwX1_order_2 : List UInt8 := [184, 0, 114, 153, 0, 7, 4, 167, 0, 4, 3, 184, 0, 118, 42, 180, 0, 95, 185, 0, 7, 1, 0]
abbrev dktX1_order_2 : List UInt8 := dkwX1_order_2 ++ dktX1_order_3
def dkwX1_order_1 : List UInt8 := [28, 79, 184, 0, 114, 153, 0, 27, 42, 180, 0, 122, 17, 39, 15, 4, 188, 10, 89, 3, 29, 79]
abbrev dktX1_order_1 : List UInt8 := dkwX1_order_1 ++ dktX1_order_2
def dkwX1_order_0 : List UInt8 := [3, 16, 19, 4, 188, 10, 89, 3, 27, 79, 184, 0, 114, 153, 0, 43, 4, 16, 9, 4, 188, 10, 89, 3]
abbrev dktX1_order_0 : List UInt8 := dkwX1_order_0 ++ dktX1_order_1
theorem dksX1_order_0 : cX1_order.data.toList.drop 0 = dktX1_order_0 := by decide +kernel
theorem dksX1_order_1 : cX1_order.data.toList.drop 24 = dktX1_order_1 := dk_seg dksX1_order_0 24 rfl rfl
theorem dksX1_order_2 : cX1_order.data.toList.drop 46 = dktX1_order_2 := dk_seg dksX1_order_1 22 rfl rfl
theorem dksX1_order_3 : cX1_order.data.toList.drop 69 = dktX1_order_3 := dk_seg dksX1_order_2 23 rfl rfl
theorem dksX1_order_4 : cX1_order.data.toList.drop 93 = dktX1_order_4 := dk_seg dksX1_order_3 24 rfl rfl
theorem dX1_order_0 : decode cX1_order 0 = .ok (.iconst 0, 1) := dk_3 (dk_at dksX1_order_0 0 rfl rfl)
theorem dX1_order_1 : decode cX1_order 1 = .ok (.bipush 19, 2) := dk_16 19 (dk_at dksX1_order_0 1 rfl rfl)
theorem dX1_order_3 : decode cX1_order 3 = .ok (.iconst 1, 1) := dk_4 (dk_at dksX1_order_0 3 rfl rfl)
theorem dX1_order_4 : decode cX1_order 4 = .ok (.newarray .int, 2) := dk_188_10 (dk_at dksX1_order_0 4 rfl rfl)
theorem dX1_order_6 : decode cX1_order 6 = .ok (.dup, 1) := dk_89 (dk_at dksX1_order_0 6 rfl rfl)
theorem dX1_order_7 : decode cX1_order 7 = .ok (.iconst 0, 1) := dk_3 (dk_at dksX1_order_0 7 rfl rfl)
theorem dX1_order_8 : decode cX1_order 8 = .ok (.iload_n 1, 1) := dk_27 (dk_at dksX1_order_0 8 rfl rfl)
theorem dX1_order_9 : decode cX1_order 9 = .ok (.iastore, 1) := dk_79 (dk_at dksX1_order_0 9 rfl rfl)
theorem dX1_order_10 : decode cX1_order 10 = .ok (.invokestatic 114, 3) := dk_184 0 114 (dk_at dksX1_order_0 10 rfl rfl)
theorem dX1_order_13 : decode cX1_order 13 = .ok (.ifCond .eq 43, 3) := dk_153 0 43 (dk_at dksX1_order_0 13 rfl rfl)
theorem dX1_order_16 : decode cX1_order 16 = .ok (.iconst 1, 1) := dk_4 (dk_at dksX1_order_0 16 rfl rfl)
theorem dX1_order_17 : decode cX1_order 17 = .ok (.bipush 9, 2) := dk_16 9 (dk_at dksX1_order_0 17 rfl rfl)
theorem dX1_order_19 : decode cX1_order 19 = .ok (.iconst 1, 1) := dk_4 (dk_at dksX1_order_0 19 rfl rfl)
theorem dX1_order_20 : decode cX1_order 20 = .ok (.newarray .int, 2) := dk_188_10 (dk_at dksX1_order_0 20 rfl rfl)
theorem dX1_order_22 : decode cX1_order 22 = .ok (.dup, 1) := dk_89 (dk_at dksX1_order_0 22 rfl rfl)
theorem dX1_order_23 : decode cX1_order 23 = .ok (.iconst 0, 1) := dk_3 (dk_at dksX1_order_0 23 rfl rfl)
theorem dX1_order_24 : decode cX1_order 24 = .ok (.iload_n 2, 1) := dk_28 (dk_at dksX1_order_1 0 rfl rfl)
theorem dX1_order_25 : decode cX1_order 25 = .ok (.iastore, 1) := dk_79 (dk_at dksX1_order_1 1 rfl rfl)
theorem dX1_order_26 : decode cX1_order 26 = .ok (.invokestatic 114, 3) := dk_184 0 114 (dk_at dksX1_order_1 2 rfl rfl)
theorem dX1_order_29 : decode cX1_order 29 = .ok (.ifCond .eq 27, 3) := dk_153 0 27 (dk_at dksX1_order_1 5 rfl rfl)
theorem dX1_order_32 : decode cX1_order 32 = .ok (.aload_n 0, 1) := dk_42 (dk_at dksX1_order_1 8 rfl rfl)
theorem dX1_order_33 : decode cX1_order 33 = .ok (.getfield 122, 3) := dk_180 0 122 (dk_at dksX1_order_1 9 rfl rfl)
theorem dX1_order_36 : decode cX1_order 36 = .ok (.sipush 9999, 3) := dk_17 39 15 (dk_at dksX1_order_1 12 rfl rfl)
theorem dX1_order_39 : decode cX1_order 39 = .ok (.iconst 1, 1) := dk_4 (dk_at dksX1_order_1 15 rfl rfl)
theorem dX1_order_40 : decode cX1_order 40 = .ok (.newarray .int, 2) := dk_188_10 (dk_at dksX1_order_1 16 rfl rfl)
theorem dX1_order_42 : decode cX1_order 42 = .ok (.dup, 1) := dk_89 (dk_at dksX1_order_1 18 rfl rfl)
theorem dX1_order_43 : decode cX1_order 43 = .ok (.iconst 0, 1) := dk_3 (dk_at dksX1_order_1 19 rfl rfl)
theorem dX1_order_44 : decode cX1_order 44 = .ok (.iload_n 3, 1) := dk_29 (dk_at dksX1_order_1 20 rfl rfl)
theorem dX1_order_45 : decode cX1_order 45 = .ok (.iastore, 1) := dk_79 (dk_at dksX1_order_1 21 rfl rfl)
theorem dX1_order_46 : decode cX1_order 46 = .ok (.invokestatic 114, 3) := dk_184 0 114 (dk_at dksX1_order_2 0 rfl rfl)
theorem dX1_order_49 : decode cX1_order 49 = .ok (.ifCond .eq 7, 3) := dk_153 0 7 (dk_at dksX1_order_2 3 rfl rfl)
theorem dX1_order_52 : decode cX1_order 52 = .ok (.iconst 1, 1) := dk_4 (dk_at dksX1_order_2 6 rfl rfl)
theorem dX1_order_53 : decode cX1_order 53 = .ok (.goto 4, 3) := dk_167 0 4 (dk_at dksX1_order_2 7 rfl rfl)
theorem dX1_order_56 : decode cX1_order 56 = .ok (.iconst 0, 1) := dk_3 (dk_at dksX1_order_2 10 rfl rfl)
theorem dX1_order_57 : decode cX1_order 57 = .ok (.invokestatic 118, 3) := dk_184 0 118 (dk_at dksX1_order_2 11 rfl rfl)
theorem dX1_order_60 : decode cX1_order 60 = .ok (.aload_n 0, 1) := dk_42 (dk_at dksX1_order_2 14 rfl rfl)
theorem dX1_order_61 : decode cX1_order 61 = .ok (.getfield 95, 3) := dk_180 0 95 (dk_at dksX1_order_2 15 rfl rfl)
theorem dX1_order_64 : decode cX1_order 64 = .ok (.invokeinterface 7 1, 5) := by decide +kernel
theorem dX1_order_69 : decode cX1_order 69 = .ok (.bipush 12, 2) := dk_16 12 (dk_at dksX1_order_3 0 rfl rfl)
theorem dX1_order_71 : decode cX1_order 71 = .ok (.if_icmp .ge 7, 3) := dk_162 0 7 (dk_at dksX1_order_3 2 rfl rfl)
theorem dX1_order_74 : decode cX1_order 74 = .ok (.iconst 1, 1) := dk_4 (dk_at dksX1_order_3 5 rfl rfl)
theorem dX1_order_75 : decode cX1_order 75 = .ok (.goto 4, 3) := dk_167 0 4 (dk_at dksX1_order_3 6 rfl rfl)
theorem dX1_order_78 : decode cX1_order 78 = .ok (.iconst 0, 1) := dk_3 (dk_at dksX1_order_3 9 rfl rfl)
theorem dX1_order_79 : decode cX1_order 79 = .ok (.invokestatic 126, 3) := dk_184 0 126 (dk_at dksX1_order_3 10 rfl rfl)
theorem dX1_order_82 : decode cX1_order 82 = .ok (.aload_n 0, 1) := dk_42 (dk_at dksX1_order_3 13 rfl rfl)
theorem dX1_order_83 : decode cX1_order 83 = .ok (.getfield 95, 3) := dk_180 0 95 (dk_at dksX1_order_3 14 rfl rfl)
theorem dX1_order_86 : decode cX1_order 86 = .ok (.new 356, 3) := dk_187 1 100 (dk_at dksX1_order_3 17 rfl rfl)
theorem dX1_order_89 : decode cX1_order 89 = .ok (.dup, 1) := dk_89 (dk_at dksX1_order_3 20 rfl rfl)
theorem dX1_order_90 : decode cX1_order 90 = .ok (.iload_n 1, 1) := dk_27 (dk_at dksX1_order_3 21 rfl rfl)
theorem dX1_order_91 : decode cX1_order 91 = .ok (.iload_n 2, 1) := dk_28 (dk_at dksX1_order_3 22 rfl rfl)
theorem dX1_order_92 : decode cX1_order 92 = .ok (.iload_n 3, 1) := dk_29 (dk_at dksX1_order_3 23 rfl rfl)
theorem dX1_order_93 : decode cX1_order 93 = .ok (.invokespecial 358, 3) := dk_183 1 102 (dk_at dksX1_order_4 0 rfl rfl)
theorem dX1_order_96 : decode cX1_order 96 = .ok (.invokeinterface 160 2, 5) := by decide +kernel
theorem dX1_order_101 : decode cX1_order 101 = .ok (.pop, 1) := dk_87 (dk_at dksX1_order_4 8 rfl rfl)
theorem dX1_order_102 : decode cX1_order 102 = .ok (.aload_n 0, 1) := dk_42 (dk_at dksX1_order_4 9 rfl rfl)
theorem dX1_order_103 : decode cX1_order 103 = .ok (.getfield 95, 3) := dk_180 0 95 (dk_at dksX1_order_4 10 rfl rfl)
theorem dX1_order_106 : decode cX1_order 106 = .ok (.invokeinterface 7 1, 5) := by decide +kernel
theorem dX1_order_111 : decode cX1_order 111 = .ok (.iconst 1, 1) := dk_4 (dk_at dksX1_order_4 18 rfl rfl)
theorem dX1_order_112 : decode cX1_order 112 = .ok (.isub, 1) := dk_100 (dk_at dksX1_order_4 19 rfl rfl)
theorem dX1_order_113 : decode cX1_order 113 = .ok (.ireturn, 1) := dk_172 (dk_at dksX1_order_4 20 rfl rfl)
abbrev cX1_ship : ByteArray := prog_1_method_46_code
def yX1_ship : MethodName := ⟨RX1, "ship", "(II)I"⟩
def dkwX1_ship_5 : List UInt8 := [172]
abbrev dktX1_ship_5 : List UInt8 := dkwX1_ship_5 ++ []
def dkwX1_ship_4 : List UInt8 := [42, 180, 0, 122, 45, 180, 1, 115, 164, 0, 7, 4, 167, 0, 4, 3, 128, 181, 1, 112, 45, 182, 1, 106]
abbrev dktX1_ship_4 : List UInt8 := dkwX1_ship_4 ++ dktX1_ship_5
def dkwX1_ship_3 : List UInt8 := [184, 0, 137, 25, 4, 4, 181, 1, 89, 45, 89, 180, 1, 109, 4, 96, 181, 1, 109, 45, 89, 180, 1, 112]
abbrev dktX1_ship_3 : List UInt8 := dkwX1_ship_3 ++ dktX1_ship_4
def dkwX1_ship_2 : List UInt8 := [160, 0, 22, 25, 4, 180, 1, 89, 154, 0, 14, 45, 182, 1, 106, 158, 0, 7, 4, 167, 0, 4, 3]
abbrev dktX1_ship_2 : List UInt8 := dkwX1_ship_2 ++ dktX1_ship_3
def dkwX1_ship_1 : List UInt8 := [58, 4, 25, 4, 182, 1, 87, 17, 0, 144, 160, 0, 34, 25, 4, 180, 1, 84, 45, 180, 1, 105]
abbrev dktX1_ship_1 : List UInt8 := dkwX1_ship_1 ++ dktX1_ship_2
def dkwX1_ship_0 : List UInt8 := [42, 180, 0, 95, 27, 184, 0, 164, 192, 1, 100, 78, 42, 180, 0, 92, 28, 184, 0, 164, 192, 1, 81]
abbrev dktX1_ship_0 : List UInt8 := dkwX1_ship_0 ++ dktX1_ship_1
theorem dksX1_ship_0 : cX1_ship.data.toList.drop 0 = dktX1_ship_0 := by decide +kernel
theorem dksX1_ship_1 : cX1_ship.data.toList.drop 23 = dktX1_ship_1 := dk_seg dksX1_ship_0 23 rfl rfl
theorem dksX1_ship_2 : cX1_ship.data.toList.drop 45 = dktX1_ship_2 := dk_seg dksX1_ship_1 22 rfl rfl
theorem dksX1_ship_3 : cX1_ship.data.toList.drop 68 = dktX1_ship_3 := dk_seg dksX1_ship_2 23 rfl rfl
theorem dksX1_ship_4 : cX1_ship.data.toList.drop 92 = dktX1_ship_4 := dk_seg dksX1_ship_3 24 rfl rfl
theorem dksX1_ship_5 : cX1_ship.data.toList.drop 116 = dktX1_ship_5 := dk_seg dksX1_ship_4 24 rfl rfl
theorem dX1_ship_0 : decode cX1_ship 0 = .ok (.aload_n 0, 1) := dk_42 (dk_at dksX1_ship_0 0 rfl rfl)
theorem dX1_ship_1 : decode cX1_ship 1 = .ok (.getfield 95, 3) := dk_180 0 95 (dk_at dksX1_ship_0 1 rfl rfl)
theorem dX1_ship_4 : decode cX1_ship 4 = .ok (.iload_n 1, 1) := dk_27 (dk_at dksX1_ship_0 4 rfl rfl)
theorem dX1_ship_5 : decode cX1_ship 5 = .ok (.invokestatic 164, 3) := dk_184 0 164 (dk_at dksX1_ship_0 5 rfl rfl)
theorem dX1_ship_8 : decode cX1_ship 8 = .ok (.checkcast 356, 3) := dk_192 1 100 (dk_at dksX1_ship_0 8 rfl rfl)
theorem dX1_ship_11 : decode cX1_ship 11 = .ok (.astore_n 3, 1) := dk_78 (dk_at dksX1_ship_0 11 rfl rfl)
theorem dX1_ship_12 : decode cX1_ship 12 = .ok (.aload_n 0, 1) := dk_42 (dk_at dksX1_ship_0 12 rfl rfl)
theorem dX1_ship_13 : decode cX1_ship 13 = .ok (.getfield 92, 3) := dk_180 0 92 (dk_at dksX1_ship_0 13 rfl rfl)
theorem dX1_ship_16 : decode cX1_ship 16 = .ok (.iload_n 2, 1) := dk_28 (dk_at dksX1_ship_0 16 rfl rfl)
theorem dX1_ship_17 : decode cX1_ship 17 = .ok (.invokestatic 164, 3) := dk_184 0 164 (dk_at dksX1_ship_0 17 rfl rfl)
theorem dX1_ship_20 : decode cX1_ship 20 = .ok (.checkcast 337, 3) := dk_192 1 81 (dk_at dksX1_ship_0 20 rfl rfl)
theorem dX1_ship_23 : decode cX1_ship 23 = .ok (.astore 4, 2) := dk_58 4 (dk_at dksX1_ship_1 0 rfl rfl)
theorem dX1_ship_25 : decode cX1_ship 25 = .ok (.aload 4, 2) := dk_25 4 (dk_at dksX1_ship_1 2 rfl rfl)
theorem dX1_ship_27 : decode cX1_ship 27 = .ok (.invokevirtual 343, 3) := dk_182 1 87 (dk_at dksX1_ship_1 4 rfl rfl)
theorem dX1_ship_30 : decode cX1_ship 30 = .ok (.sipush 144, 3) := dk_17 0 144 (dk_at dksX1_ship_1 7 rfl rfl)
theorem dX1_ship_33 : decode cX1_ship 33 = .ok (.if_icmp .ne 34, 3) := dk_160 0 34 (dk_at dksX1_ship_1 10 rfl rfl)
theorem dX1_ship_36 : decode cX1_ship 36 = .ok (.aload 4, 2) := dk_25 4 (dk_at dksX1_ship_1 13 rfl rfl)
theorem dX1_ship_38 : decode cX1_ship 38 = .ok (.getfield 340, 3) := dk_180 1 84 (dk_at dksX1_ship_1 15 rfl rfl)
theorem dX1_ship_41 : decode cX1_ship 41 = .ok (.aload_n 3, 1) := dk_45 (dk_at dksX1_ship_1 18 rfl rfl)
theorem dX1_ship_42 : decode cX1_ship 42 = .ok (.getfield 361, 3) := dk_180 1 105 (dk_at dksX1_ship_1 19 rfl rfl)
theorem dX1_ship_45 : decode cX1_ship 45 = .ok (.if_icmp .ne 22, 3) := dk_160 0 22 (dk_at dksX1_ship_2 0 rfl rfl)
theorem dX1_ship_48 : decode cX1_ship 48 = .ok (.aload 4, 2) := dk_25 4 (dk_at dksX1_ship_2 3 rfl rfl)
theorem dX1_ship_50 : decode cX1_ship 50 = .ok (.getfield 345, 3) := dk_180 1 89 (dk_at dksX1_ship_2 5 rfl rfl)
theorem dX1_ship_53 : decode cX1_ship 53 = .ok (.ifCond .ne 14, 3) := dk_154 0 14 (dk_at dksX1_ship_2 8 rfl rfl)
theorem dX1_ship_56 : decode cX1_ship 56 = .ok (.aload_n 3, 1) := dk_45 (dk_at dksX1_ship_2 11 rfl rfl)
theorem dX1_ship_57 : decode cX1_ship 57 = .ok (.invokevirtual 362, 3) := dk_182 1 106 (dk_at dksX1_ship_2 12 rfl rfl)
theorem dX1_ship_60 : decode cX1_ship 60 = .ok (.ifCond .le 7, 3) := dk_158 0 7 (dk_at dksX1_ship_2 15 rfl rfl)
theorem dX1_ship_63 : decode cX1_ship 63 = .ok (.iconst 1, 1) := dk_4 (dk_at dksX1_ship_2 18 rfl rfl)
theorem dX1_ship_64 : decode cX1_ship 64 = .ok (.goto 4, 3) := dk_167 0 4 (dk_at dksX1_ship_2 19 rfl rfl)
theorem dX1_ship_67 : decode cX1_ship 67 = .ok (.iconst 0, 1) := dk_3 (dk_at dksX1_ship_2 22 rfl rfl)
theorem dX1_ship_68 : decode cX1_ship 68 = .ok (.invokestatic 137, 3) := dk_184 0 137 (dk_at dksX1_ship_3 0 rfl rfl)
theorem dX1_ship_71 : decode cX1_ship 71 = .ok (.aload 4, 2) := dk_25 4 (dk_at dksX1_ship_3 3 rfl rfl)
theorem dX1_ship_73 : decode cX1_ship 73 = .ok (.iconst 1, 1) := dk_4 (dk_at dksX1_ship_3 5 rfl rfl)
theorem dX1_ship_74 : decode cX1_ship 74 = .ok (.putfield 345, 3) := dk_181 1 89 (dk_at dksX1_ship_3 6 rfl rfl)
theorem dX1_ship_77 : decode cX1_ship 77 = .ok (.aload_n 3, 1) := dk_45 (dk_at dksX1_ship_3 9 rfl rfl)
theorem dX1_ship_78 : decode cX1_ship 78 = .ok (.dup, 1) := dk_89 (dk_at dksX1_ship_3 10 rfl rfl)
theorem dX1_ship_79 : decode cX1_ship 79 = .ok (.getfield 365, 3) := dk_180 1 109 (dk_at dksX1_ship_3 11 rfl rfl)
theorem dX1_ship_82 : decode cX1_ship 82 = .ok (.iconst 1, 1) := dk_4 (dk_at dksX1_ship_3 14 rfl rfl)
theorem dX1_ship_83 : decode cX1_ship 83 = .ok (.iadd, 1) := dk_96 (dk_at dksX1_ship_3 15 rfl rfl)
theorem dX1_ship_84 : decode cX1_ship 84 = .ok (.putfield 365, 3) := dk_181 1 109 (dk_at dksX1_ship_3 16 rfl rfl)
theorem dX1_ship_87 : decode cX1_ship 87 = .ok (.aload_n 3, 1) := dk_45 (dk_at dksX1_ship_3 19 rfl rfl)
theorem dX1_ship_88 : decode cX1_ship 88 = .ok (.dup, 1) := dk_89 (dk_at dksX1_ship_3 20 rfl rfl)
theorem dX1_ship_89 : decode cX1_ship 89 = .ok (.getfield 368, 3) := dk_180 1 112 (dk_at dksX1_ship_3 21 rfl rfl)
theorem dX1_ship_92 : decode cX1_ship 92 = .ok (.aload_n 0, 1) := dk_42 (dk_at dksX1_ship_4 0 rfl rfl)
theorem dX1_ship_93 : decode cX1_ship 93 = .ok (.getfield 122, 3) := dk_180 0 122 (dk_at dksX1_ship_4 1 rfl rfl)
theorem dX1_ship_96 : decode cX1_ship 96 = .ok (.aload_n 3, 1) := dk_45 (dk_at dksX1_ship_4 4 rfl rfl)
theorem dX1_ship_97 : decode cX1_ship 97 = .ok (.getfield 371, 3) := dk_180 1 115 (dk_at dksX1_ship_4 5 rfl rfl)
theorem dX1_ship_100 : decode cX1_ship 100 = .ok (.if_icmp .le 7, 3) := dk_164 0 7 (dk_at dksX1_ship_4 8 rfl rfl)
theorem dX1_ship_103 : decode cX1_ship 103 = .ok (.iconst 1, 1) := dk_4 (dk_at dksX1_ship_4 11 rfl rfl)
theorem dX1_ship_104 : decode cX1_ship 104 = .ok (.goto 4, 3) := dk_167 0 4 (dk_at dksX1_ship_4 12 rfl rfl)
theorem dX1_ship_107 : decode cX1_ship 107 = .ok (.iconst 0, 1) := dk_3 (dk_at dksX1_ship_4 15 rfl rfl)
theorem dX1_ship_108 : decode cX1_ship 108 = .ok (.ior, 1) := dk_128 (dk_at dksX1_ship_4 16 rfl rfl)
theorem dX1_ship_109 : decode cX1_ship 109 = .ok (.putfield 368, 3) := dk_181 1 112 (dk_at dksX1_ship_4 17 rfl rfl)
theorem dX1_ship_112 : decode cX1_ship 112 = .ok (.aload_n 3, 1) := dk_45 (dk_at dksX1_ship_4 20 rfl rfl)
theorem dX1_ship_113 : decode cX1_ship 113 = .ok (.invokevirtual 362, 3) := dk_182 1 106 (dk_at dksX1_ship_4 21 rfl rfl)
theorem dX1_ship_116 : decode cX1_ship 116 = .ok (.ireturn, 1) := dk_172 (dk_at dksX1_ship_5 0 rfl rfl)
abbrev cX1_isLate : ByteArray := prog_1_method_47_code
def yX1_isLate : MethodName := ⟨RX1, "isLate", "(I)Z"⟩
def dkwX1_isLate_1 : List UInt8 := [158, 0, 18, 42, 180, 0, 122, 44, 180, 1, 115, 164, 0, 7, 4, 167, 0, 4, 3, 172]
abbrev dktX1_isLate_1 : List UInt8 := dkwX1_isLate_1 ++ []
def dkwX1_isLate_0 : List UInt8 := [42, 180, 0, 95, 27, 184, 0, 164, 192, 1, 100, 77, 44, 180, 1, 112, 154, 0, 21, 44, 182, 1, 106]
abbrev dktX1_isLate_0 : List UInt8 := dkwX1_isLate_0 ++ dktX1_isLate_1
theorem dksX1_isLate_0 : cX1_isLate.data.toList.drop 0 = dktX1_isLate_0 := by decide +kernel
theorem dksX1_isLate_1 : cX1_isLate.data.toList.drop 23 = dktX1_isLate_1 := dk_seg dksX1_isLate_0 23 rfl rfl
theorem dX1_isLate_0 : decode cX1_isLate 0 = .ok (.aload_n 0, 1) := dk_42 (dk_at dksX1_isLate_0 0 rfl rfl)
theorem dX1_isLate_1 : decode cX1_isLate 1 = .ok (.getfield 95, 3) := dk_180 0 95 (dk_at dksX1_isLate_0 1 rfl rfl)
theorem dX1_isLate_4 : decode cX1_isLate 4 = .ok (.iload_n 1, 1) := dk_27 (dk_at dksX1_isLate_0 4 rfl rfl)
theorem dX1_isLate_5 : decode cX1_isLate 5 = .ok (.invokestatic 164, 3) := dk_184 0 164 (dk_at dksX1_isLate_0 5 rfl rfl)
theorem dX1_isLate_8 : decode cX1_isLate 8 = .ok (.checkcast 356, 3) := dk_192 1 100 (dk_at dksX1_isLate_0 8 rfl rfl)
theorem dX1_isLate_11 : decode cX1_isLate 11 = .ok (.astore_n 2, 1) := dk_77 (dk_at dksX1_isLate_0 11 rfl rfl)
theorem dX1_isLate_12 : decode cX1_isLate 12 = .ok (.aload_n 2, 1) := dk_44 (dk_at dksX1_isLate_0 12 rfl rfl)
theorem dX1_isLate_13 : decode cX1_isLate 13 = .ok (.getfield 368, 3) := dk_180 1 112 (dk_at dksX1_isLate_0 13 rfl rfl)
theorem dX1_isLate_16 : decode cX1_isLate 16 = .ok (.ifCond .ne 21, 3) := dk_154 0 21 (dk_at dksX1_isLate_0 16 rfl rfl)
theorem dX1_isLate_19 : decode cX1_isLate 19 = .ok (.aload_n 2, 1) := dk_44 (dk_at dksX1_isLate_0 19 rfl rfl)
theorem dX1_isLate_20 : decode cX1_isLate 20 = .ok (.invokevirtual 362, 3) := dk_182 1 106 (dk_at dksX1_isLate_0 20 rfl rfl)
theorem dX1_isLate_23 : decode cX1_isLate 23 = .ok (.ifCond .le 18, 3) := dk_158 0 18 (dk_at dksX1_isLate_1 0 rfl rfl)
theorem dX1_isLate_26 : decode cX1_isLate 26 = .ok (.aload_n 0, 1) := dk_42 (dk_at dksX1_isLate_1 3 rfl rfl)
theorem dX1_isLate_27 : decode cX1_isLate 27 = .ok (.getfield 122, 3) := dk_180 0 122 (dk_at dksX1_isLate_1 4 rfl rfl)
theorem dX1_isLate_30 : decode cX1_isLate 30 = .ok (.aload_n 2, 1) := dk_44 (dk_at dksX1_isLate_1 7 rfl rfl)
theorem dX1_isLate_31 : decode cX1_isLate 31 = .ok (.getfield 371, 3) := dk_180 1 115 (dk_at dksX1_isLate_1 8 rfl rfl)
theorem dX1_isLate_34 : decode cX1_isLate 34 = .ok (.if_icmp .le 7, 3) := dk_164 0 7 (dk_at dksX1_isLate_1 11 rfl rfl)
theorem dX1_isLate_37 : decode cX1_isLate 37 = .ok (.iconst 1, 1) := dk_4 (dk_at dksX1_isLate_1 14 rfl rfl)
theorem dX1_isLate_38 : decode cX1_isLate 38 = .ok (.goto 4, 3) := dk_167 0 4 (dk_at dksX1_isLate_1 15 rfl rfl)
theorem dX1_isLate_41 : decode cX1_isLate 41 = .ok (.iconst 0, 1) := dk_3 (dk_at dksX1_isLate_1 18 rfl rfl)
theorem dX1_isLate_42 : decode cX1_isLate 42 = .ok (.ireturn, 1) := dk_172 (dk_at dksX1_isLate_1 19 rfl rfl)
abbrev cX1_claim : ByteArray := prog_1_method_48_code
def yX1_claim : MethodName := ⟨RX1, "claim", "(I)Z"⟩
def dkwX1_claim_0 : List UInt8 := [42, 180, 0, 92, 27, 184, 0, 164, 192, 1, 81, 180, 1, 92, 186, 1, 118, 0, 0, 184, 1, 122, 172]
abbrev dktX1_claim_0 : List UInt8 := dkwX1_claim_0 ++ []
theorem dksX1_claim_0 : cX1_claim.data.toList.drop 0 = dktX1_claim_0 := by decide +kernel
theorem dX1_claim_0 : decode cX1_claim 0 = .ok (.aload_n 0, 1) := dk_42 (dk_at dksX1_claim_0 0 rfl rfl)
theorem dX1_claim_1 : decode cX1_claim 1 = .ok (.getfield 92, 3) := dk_180 0 92 (dk_at dksX1_claim_0 1 rfl rfl)
theorem dX1_claim_4 : decode cX1_claim 4 = .ok (.iload_n 1, 1) := dk_27 (dk_at dksX1_claim_0 4 rfl rfl)
theorem dX1_claim_5 : decode cX1_claim 5 = .ok (.invokestatic 164, 3) := dk_184 0 164 (dk_at dksX1_claim_0 5 rfl rfl)
theorem dX1_claim_8 : decode cX1_claim 8 = .ok (.checkcast 337, 3) := dk_192 1 81 (dk_at dksX1_claim_0 8 rfl rfl)
theorem dX1_claim_11 : decode cX1_claim 11 = .ok (.getfield 348, 3) := dk_180 1 92 (dk_at dksX1_claim_0 11 rfl rfl)
theorem dX1_claim_14 : decode cX1_claim 14 = .ok (.invokedynamic 374, 5) := by decide +kernel
theorem dX1_claim_19 : decode cX1_claim 19 = .ok (.invokestatic 378, 3) := dk_184 1 122 (dk_at dksX1_claim_0 19 rfl rfl)
theorem dX1_claim_22 : decode cX1_claim 22 = .ok (.ireturn, 1) := dk_172 (dk_at dksX1_claim_0 22 rfl rfl)
abbrev cX1_lambda_claim_0 : ByteArray := prog_1_method_68_code
def yX1_lambda_claim_0 : MethodName := ⟨RX1, "lambda$claim$0", "(LGraphline$Part;)Z"⟩
theorem dX1_lambda_claim_0_0 : decode cX1_lambda_claim_0 0 = .ok (.aload_n 0, 1) := by decide +kernel
theorem dX1_lambda_claim_0_1 : decode cX1_lambda_claim_0 1 = .ok (.invokevirtual 469, 3) := by decide +kernel
theorem dX1_lambda_claim_0_4 : decode cX1_lambda_claim_0 4 = .ok (.ireturn, 1) := by decide +kernel
abbrev cX1_parts : ByteArray := prog_1_method_49_code
def yX1_parts : MethodName := ⟨RX1, "parts", "(I)I"⟩
def dkwX1_parts_0 : List UInt8 := [42, 180, 0, 92, 27, 184, 0, 164, 192, 1, 81, 180, 1, 92, 185, 0, 7, 1, 0, 172]
abbrev dktX1_parts_0 : List UInt8 := dkwX1_parts_0 ++ []
theorem dksX1_parts_0 : cX1_parts.data.toList.drop 0 = dktX1_parts_0 := by decide +kernel
theorem dX1_parts_0 : decode cX1_parts 0 = .ok (.aload_n 0, 1) := dk_42 (dk_at dksX1_parts_0 0 rfl rfl)
theorem dX1_parts_1 : decode cX1_parts 1 = .ok (.getfield 92, 3) := dk_180 0 92 (dk_at dksX1_parts_0 1 rfl rfl)
theorem dX1_parts_4 : decode cX1_parts 4 = .ok (.iload_n 1, 1) := dk_27 (dk_at dksX1_parts_0 4 rfl rfl)
theorem dX1_parts_5 : decode cX1_parts 5 = .ok (.invokestatic 164, 3) := dk_184 0 164 (dk_at dksX1_parts_0 5 rfl rfl)
theorem dX1_parts_8 : decode cX1_parts 8 = .ok (.checkcast 337, 3) := dk_192 1 81 (dk_at dksX1_parts_0 8 rfl rfl)
theorem dX1_parts_11 : decode cX1_parts 11 = .ok (.getfield 348, 3) := dk_180 1 92 (dk_at dksX1_parts_0 11 rfl rfl)
theorem dX1_parts_14 : decode cX1_parts 14 = .ok (.invokeinterface 7 1, 5) := by decide +kernel
theorem dX1_parts_19 : decode cX1_parts 19 = .ok (.ireturn, 1) := dk_172 (dk_at dksX1_parts_0 19 rfl rfl)
abbrev cX1_trace : ByteArray := prog_1_method_50_code
def yX1_trace : MethodName := ⟨RX1, "trace", "(IIC)I"⟩
def dkwX1_trace_8 : List UInt8 := [25, 5, 180, 1, 52, 180, 0, 207, 180, 1, 148, 180, 1, 147, 172]
abbrev dktX1_trace_8 : List UInt8 := dkwX1_trace_8 ++ []
def dkwX1_trace_7 : List UInt8 := [180, 1, 140, 167, 0, 34, 25, 5, 180, 1, 52, 180, 0, 207, 180, 1, 143, 180, 1, 147, 167, 0, 17]
abbrev dktX1_trace_7 : List UInt8 := dkwX1_trace_7 ++ dktX1_trace_8
def dkwX1_trace_6 : List UInt8 := [180, 1, 52, 180, 0, 237, 167, 0, 53, 25, 5, 180, 1, 136, 180, 1, 139, 167, 0, 42, 25, 5]
abbrev dktX1_trace_6 : List UInt8 := dkwX1_trace_6 ++ dktX1_trace_7
def dkwX1_trace_5 : List UInt8 := [25, 5, 180, 1, 52, 180, 1, 135, 167, 0, 75, 25, 5, 180, 1, 52, 180, 0, 243, 167, 0, 64, 25, 5]
abbrev dktX1_trace_5 : List UInt8 := dkwX1_trace_5 ++ dktX1_trace_6
def dkwX1_trace_4 : List UInt8 := [25, 5, 180, 1, 40, 167, 0, 102, 25, 4, 182, 1, 132, 167, 0, 94, 25, 4, 182, 1, 133, 167, 0, 86]
abbrev dktX1_trace_4 : List UInt8 := dkwX1_trace_4 ++ dktX1_trace_5
def dkwX1_trace_3 : List UInt8 := [170, 0, 0, 0, 0, 0, 200, 0, 0, 0, 98, 0, 0, 0, 120, 0, 0, 0, 131, 0, 0, 0, 200, 0, 0, 0, 200, 0, 0, 0, 200, 0, 0, 0, 142, 0, 0, 0, 183, 0, 0, 0, 175, 0, 0, 0, 200, 0, 0, 0, 200, 0, 0, 0, 153, 0, 0, 0, 200, 0, 0, 0, 200, 0, 0, 0, 115, 0, 0, 0, 200, 0, 0, 0, 200, 0, 0, 0, 200, 0, 0, 0, 107, 0, 0, 0, 164, 0, 0, 0, 200, 0, 0, 0, 200, 0, 0, 0, 200, 0, 0, 0, 200, 0, 0, 0, 123]
abbrev dktX1_trace_3 : List UInt8 := dkwX1_trace_3 ++ dktX1_trace_4
def dkwX1_trace_2 : List UInt8 := [58, 5, 29]
abbrev dktX1_trace_2 : List UInt8 := dkwX1_trace_2 ++ dktX1_trace_3
def dkwX1_trace_1 : List UInt8 := [19, 1, 126, 29, 182, 0, 129, 155, 0, 7, 4, 167, 0, 4, 3, 184, 0, 118, 25, 4, 182, 1, 128]
abbrev dktX1_trace_1 : List UInt8 := dkwX1_trace_1 ++ dktX1_trace_2
def dkwX1_trace_0 : List UInt8 := [42, 180, 0, 92, 27, 184, 0, 164, 192, 1, 81, 180, 1, 92, 28, 184, 0, 164, 192, 1, 95, 58, 4]
abbrev dktX1_trace_0 : List UInt8 := dkwX1_trace_0 ++ dktX1_trace_1
theorem dksX1_trace_0 : cX1_trace.data.toList.drop 0 = dktX1_trace_0 := by decide +kernel
theorem dksX1_trace_1 : cX1_trace.data.toList.drop 23 = dktX1_trace_1 := dk_seg dksX1_trace_0 23 rfl rfl
theorem dksX1_trace_2 : cX1_trace.data.toList.drop 46 = dktX1_trace_2 := dk_seg dksX1_trace_1 23 rfl rfl
theorem dksX1_trace_3 : cX1_trace.data.toList.drop 49 = dktX1_trace_3 := dk_seg dksX1_trace_2 3 rfl rfl
theorem dksX1_trace_4 : cX1_trace.data.toList.drop 156 = dktX1_trace_4 := dk_seg dksX1_trace_3 107 rfl rfl
theorem dksX1_trace_5 : cX1_trace.data.toList.drop 180 = dktX1_trace_5 := dk_seg dksX1_trace_4 24 rfl rfl
theorem dksX1_trace_6 : cX1_trace.data.toList.drop 204 = dktX1_trace_6 := dk_seg dksX1_trace_5 24 rfl rfl
theorem dksX1_trace_7 : cX1_trace.data.toList.drop 226 = dktX1_trace_7 := dk_seg dksX1_trace_6 22 rfl rfl
theorem dksX1_trace_8 : cX1_trace.data.toList.drop 249 = dktX1_trace_8 := dk_seg dksX1_trace_7 23 rfl rfl
theorem dX1_trace_0 : decode cX1_trace 0 = .ok (.aload_n 0, 1) := dk_42 (dk_at dksX1_trace_0 0 rfl rfl)
theorem dX1_trace_1 : decode cX1_trace 1 = .ok (.getfield 92, 3) := dk_180 0 92 (dk_at dksX1_trace_0 1 rfl rfl)
theorem dX1_trace_4 : decode cX1_trace 4 = .ok (.iload_n 1, 1) := dk_27 (dk_at dksX1_trace_0 4 rfl rfl)
theorem dX1_trace_5 : decode cX1_trace 5 = .ok (.invokestatic 164, 3) := dk_184 0 164 (dk_at dksX1_trace_0 5 rfl rfl)
theorem dX1_trace_8 : decode cX1_trace 8 = .ok (.checkcast 337, 3) := dk_192 1 81 (dk_at dksX1_trace_0 8 rfl rfl)
theorem dX1_trace_11 : decode cX1_trace 11 = .ok (.getfield 348, 3) := dk_180 1 92 (dk_at dksX1_trace_0 11 rfl rfl)
theorem dX1_trace_14 : decode cX1_trace 14 = .ok (.iload_n 2, 1) := dk_28 (dk_at dksX1_trace_0 14 rfl rfl)
theorem dX1_trace_15 : decode cX1_trace 15 = .ok (.invokestatic 164, 3) := dk_184 0 164 (dk_at dksX1_trace_0 15 rfl rfl)
theorem dX1_trace_18 : decode cX1_trace 18 = .ok (.checkcast 351, 3) := dk_192 1 95 (dk_at dksX1_trace_0 18 rfl rfl)
theorem dX1_trace_21 : decode cX1_trace 21 = .ok (.astore 4, 2) := dk_58 4 (dk_at dksX1_trace_0 21 rfl rfl)
theorem dX1_trace_23 : decode cX1_trace 23 = .ok (.ldc_w 382, 3) := dk_19 1 126 (dk_at dksX1_trace_1 0 rfl rfl)
theorem dX1_trace_26 : decode cX1_trace 26 = .ok (.iload_n 3, 1) := dk_29 (dk_at dksX1_trace_1 3 rfl rfl)
theorem dX1_trace_27 : decode cX1_trace 27 = .ok (.invokevirtual 129, 3) := dk_182 0 129 (dk_at dksX1_trace_1 4 rfl rfl)
theorem dX1_trace_30 : decode cX1_trace 30 = .ok (.ifCond .lt 7, 3) := dk_155 0 7 (dk_at dksX1_trace_1 7 rfl rfl)
theorem dX1_trace_33 : decode cX1_trace 33 = .ok (.iconst 1, 1) := dk_4 (dk_at dksX1_trace_1 10 rfl rfl)
theorem dX1_trace_34 : decode cX1_trace 34 = .ok (.goto 4, 3) := dk_167 0 4 (dk_at dksX1_trace_1 11 rfl rfl)
theorem dX1_trace_37 : decode cX1_trace 37 = .ok (.iconst 0, 1) := dk_3 (dk_at dksX1_trace_1 14 rfl rfl)
theorem dX1_trace_38 : decode cX1_trace 38 = .ok (.invokestatic 118, 3) := dk_184 0 118 (dk_at dksX1_trace_1 15 rfl rfl)
theorem dX1_trace_41 : decode cX1_trace 41 = .ok (.aload 4, 2) := dk_25 4 (dk_at dksX1_trace_1 18 rfl rfl)
theorem dX1_trace_43 : decode cX1_trace 43 = .ok (.invokevirtual 384, 3) := dk_182 1 128 (dk_at dksX1_trace_1 20 rfl rfl)
theorem dX1_trace_46 : decode cX1_trace 46 = .ok (.astore 5, 2) := dk_58 5 (dk_at dksX1_trace_2 0 rfl rfl)
theorem dX1_trace_48 : decode cX1_trace 48 = .ok (.iload_n 3, 1) := dk_29 (dk_at dksX1_trace_2 2 rfl rfl)
theorem dX1_trace_49 : decode cX1_trace 49 = .ok (.tableswitch 200 98 120 #[131, 200, 200, 200, 142, 183, 175, 200, 200, 153, 200, 200, 115, 200, 200, 200, 107, 164, 200, 200, 200, 200, 123], 107) := by decide +kernel
theorem dX1_trace_156 : decode cX1_trace 156 = .ok (.aload 5, 2) := dk_25 5 (dk_at dksX1_trace_4 0 rfl rfl)
theorem dX1_trace_158 : decode cX1_trace 158 = .ok (.getfield 296, 3) := dk_180 1 40 (dk_at dksX1_trace_4 2 rfl rfl)
theorem dX1_trace_161 : decode cX1_trace 161 = .ok (.goto 102, 3) := dk_167 0 102 (dk_at dksX1_trace_4 5 rfl rfl)
theorem dX1_trace_164 : decode cX1_trace 164 = .ok (.aload 4, 2) := dk_25 4 (dk_at dksX1_trace_4 8 rfl rfl)
theorem dX1_trace_166 : decode cX1_trace 166 = .ok (.invokevirtual 388, 3) := dk_182 1 132 (dk_at dksX1_trace_4 10 rfl rfl)
theorem dX1_trace_169 : decode cX1_trace 169 = .ok (.goto 94, 3) := dk_167 0 94 (dk_at dksX1_trace_4 13 rfl rfl)
theorem dX1_trace_172 : decode cX1_trace 172 = .ok (.aload 4, 2) := dk_25 4 (dk_at dksX1_trace_4 16 rfl rfl)
theorem dX1_trace_174 : decode cX1_trace 174 = .ok (.invokevirtual 389, 3) := dk_182 1 133 (dk_at dksX1_trace_4 18 rfl rfl)
theorem dX1_trace_177 : decode cX1_trace 177 = .ok (.goto 86, 3) := dk_167 0 86 (dk_at dksX1_trace_4 21 rfl rfl)
theorem dX1_trace_180 : decode cX1_trace 180 = .ok (.aload 5, 2) := dk_25 5 (dk_at dksX1_trace_5 0 rfl rfl)
theorem dX1_trace_182 : decode cX1_trace 182 = .ok (.getfield 308, 3) := dk_180 1 52 (dk_at dksX1_trace_5 2 rfl rfl)
theorem dX1_trace_185 : decode cX1_trace 185 = .ok (.getfield 391, 3) := dk_180 1 135 (dk_at dksX1_trace_5 5 rfl rfl)
theorem dX1_trace_188 : decode cX1_trace 188 = .ok (.goto 75, 3) := dk_167 0 75 (dk_at dksX1_trace_5 8 rfl rfl)
theorem dX1_trace_191 : decode cX1_trace 191 = .ok (.aload 5, 2) := dk_25 5 (dk_at dksX1_trace_5 11 rfl rfl)
theorem dX1_trace_193 : decode cX1_trace 193 = .ok (.getfield 308, 3) := dk_180 1 52 (dk_at dksX1_trace_5 13 rfl rfl)
theorem dX1_trace_196 : decode cX1_trace 196 = .ok (.getfield 243, 3) := dk_180 0 243 (dk_at dksX1_trace_5 16 rfl rfl)
theorem dX1_trace_199 : decode cX1_trace 199 = .ok (.goto 64, 3) := dk_167 0 64 (dk_at dksX1_trace_5 19 rfl rfl)
theorem dX1_trace_202 : decode cX1_trace 202 = .ok (.aload 5, 2) := dk_25 5 (dk_at dksX1_trace_5 22 rfl rfl)
theorem dX1_trace_204 : decode cX1_trace 204 = .ok (.getfield 308, 3) := dk_180 1 52 (dk_at dksX1_trace_6 0 rfl rfl)
theorem dX1_trace_207 : decode cX1_trace 207 = .ok (.getfield 237, 3) := dk_180 0 237 (dk_at dksX1_trace_6 3 rfl rfl)
theorem dX1_trace_210 : decode cX1_trace 210 = .ok (.goto 53, 3) := dk_167 0 53 (dk_at dksX1_trace_6 6 rfl rfl)
theorem dX1_trace_213 : decode cX1_trace 213 = .ok (.aload 5, 2) := dk_25 5 (dk_at dksX1_trace_6 9 rfl rfl)
theorem dX1_trace_215 : decode cX1_trace 215 = .ok (.getfield 392, 3) := dk_180 1 136 (dk_at dksX1_trace_6 11 rfl rfl)
theorem dX1_trace_218 : decode cX1_trace 218 = .ok (.getfield 395, 3) := dk_180 1 139 (dk_at dksX1_trace_6 14 rfl rfl)
theorem dX1_trace_221 : decode cX1_trace 221 = .ok (.goto 42, 3) := dk_167 0 42 (dk_at dksX1_trace_6 17 rfl rfl)
theorem dX1_trace_224 : decode cX1_trace 224 = .ok (.aload 5, 2) := dk_25 5 (dk_at dksX1_trace_6 20 rfl rfl)
theorem dX1_trace_226 : decode cX1_trace 226 = .ok (.getfield 396, 3) := dk_180 1 140 (dk_at dksX1_trace_7 0 rfl rfl)
theorem dX1_trace_229 : decode cX1_trace 229 = .ok (.goto 34, 3) := dk_167 0 34 (dk_at dksX1_trace_7 3 rfl rfl)
theorem dX1_trace_232 : decode cX1_trace 232 = .ok (.aload 5, 2) := dk_25 5 (dk_at dksX1_trace_7 6 rfl rfl)
theorem dX1_trace_234 : decode cX1_trace 234 = .ok (.getfield 308, 3) := dk_180 1 52 (dk_at dksX1_trace_7 8 rfl rfl)
theorem dX1_trace_237 : decode cX1_trace 237 = .ok (.getfield 207, 3) := dk_180 0 207 (dk_at dksX1_trace_7 11 rfl rfl)
theorem dX1_trace_240 : decode cX1_trace 240 = .ok (.getfield 399, 3) := dk_180 1 143 (dk_at dksX1_trace_7 14 rfl rfl)
theorem dX1_trace_243 : decode cX1_trace 243 = .ok (.getfield 403, 3) := dk_180 1 147 (dk_at dksX1_trace_7 17 rfl rfl)
theorem dX1_trace_246 : decode cX1_trace 246 = .ok (.goto 17, 3) := dk_167 0 17 (dk_at dksX1_trace_7 20 rfl rfl)
theorem dX1_trace_249 : decode cX1_trace 249 = .ok (.aload 5, 2) := dk_25 5 (dk_at dksX1_trace_8 0 rfl rfl)
theorem dX1_trace_251 : decode cX1_trace 251 = .ok (.getfield 308, 3) := dk_180 1 52 (dk_at dksX1_trace_8 2 rfl rfl)
theorem dX1_trace_254 : decode cX1_trace 254 = .ok (.getfield 207, 3) := dk_180 0 207 (dk_at dksX1_trace_8 5 rfl rfl)
theorem dX1_trace_257 : decode cX1_trace 257 = .ok (.getfield 404, 3) := dk_180 1 148 (dk_at dksX1_trace_8 8 rfl rfl)
theorem dX1_trace_260 : decode cX1_trace 260 = .ok (.getfield 403, 3) := dk_180 1 147 (dk_at dksX1_trace_8 11 rfl rfl)
theorem dX1_trace_263 : decode cX1_trace 263 = .ok (.ireturn, 1) := dk_172 (dk_at dksX1_trace_8 14 rfl rfl)
abbrev cX1_brokenShare : ByteArray := prog_1_method_53_code
def yX1_brokenShare : MethodName := ⟨RX1, "brokenShare", "()F"⟩
def dkwX1_brokenShare_1 : List UInt8 := [191, 42, 180, 0, 89, 186, 1, 181, 0, 0, 184, 1, 155, 134, 27, 134, 110, 174]
abbrev dktX1_brokenShare_1 : List UInt8 := dkwX1_brokenShare_1 ++ []
def dkwX1_brokenShare_0 : List UInt8 := [42, 180, 0, 89, 186, 1, 177, 0, 0, 184, 1, 155, 60, 27, 154, 0, 11, 187, 1, 178, 89, 183, 1, 180]
abbrev dktX1_brokenShare_0 : List UInt8 := dkwX1_brokenShare_0 ++ dktX1_brokenShare_1
theorem dksX1_brokenShare_0 : cX1_brokenShare.data.toList.drop 0 = dktX1_brokenShare_0 := by decide +kernel
theorem dksX1_brokenShare_1 : cX1_brokenShare.data.toList.drop 24 = dktX1_brokenShare_1 := dk_seg dksX1_brokenShare_0 24 rfl rfl
theorem dX1_brokenShare_0 : decode cX1_brokenShare 0 = .ok (.aload_n 0, 1) := dk_42 (dk_at dksX1_brokenShare_0 0 rfl rfl)
theorem dX1_brokenShare_1 : decode cX1_brokenShare 1 = .ok (.getfield 89, 3) := dk_180 0 89 (dk_at dksX1_brokenShare_0 1 rfl rfl)
theorem dX1_brokenShare_4 : decode cX1_brokenShare 4 = .ok (.invokedynamic 433, 5) := by decide +kernel
theorem dX1_brokenShare_9 : decode cX1_brokenShare 9 = .ok (.invokestatic 411, 3) := dk_184 1 155 (dk_at dksX1_brokenShare_0 9 rfl rfl)
theorem dX1_brokenShare_12 : decode cX1_brokenShare 12 = .ok (.istore_n 1, 1) := dk_60 (dk_at dksX1_brokenShare_0 12 rfl rfl)
theorem dX1_brokenShare_13 : decode cX1_brokenShare 13 = .ok (.iload_n 1, 1) := dk_27 (dk_at dksX1_brokenShare_0 13 rfl rfl)
theorem dX1_brokenShare_14 : decode cX1_brokenShare 14 = .ok (.ifCond .ne 11, 3) := dk_154 0 11 (dk_at dksX1_brokenShare_0 14 rfl rfl)
theorem dX1_brokenShare_17 : decode cX1_brokenShare 17 = .ok (.new 434, 3) := dk_187 1 178 (dk_at dksX1_brokenShare_0 17 rfl rfl)
theorem dX1_brokenShare_20 : decode cX1_brokenShare 20 = .ok (.dup, 1) := dk_89 (dk_at dksX1_brokenShare_0 20 rfl rfl)
theorem dX1_brokenShare_21 : decode cX1_brokenShare 21 = .ok (.invokespecial 436, 3) := dk_183 1 180 (dk_at dksX1_brokenShare_0 21 rfl rfl)
theorem dX1_brokenShare_24 : decode cX1_brokenShare 24 = .ok (.athrow, 1) := dk_191 (dk_at dksX1_brokenShare_1 0 rfl rfl)
theorem dX1_brokenShare_25 : decode cX1_brokenShare 25 = .ok (.aload_n 0, 1) := dk_42 (dk_at dksX1_brokenShare_1 1 rfl rfl)
theorem dX1_brokenShare_26 : decode cX1_brokenShare 26 = .ok (.getfield 89, 3) := dk_180 0 89 (dk_at dksX1_brokenShare_1 2 rfl rfl)
theorem dX1_brokenShare_29 : decode cX1_brokenShare 29 = .ok (.invokedynamic 437, 5) := by decide +kernel
theorem dX1_brokenShare_34 : decode cX1_brokenShare 34 = .ok (.invokestatic 411, 3) := dk_184 1 155 (dk_at dksX1_brokenShare_1 10 rfl rfl)
theorem dX1_brokenShare_37 : decode cX1_brokenShare 37 = .ok (.i2f, 1) := dk_134 (dk_at dksX1_brokenShare_1 13 rfl rfl)
theorem dX1_brokenShare_38 : decode cX1_brokenShare 38 = .ok (.iload_n 1, 1) := dk_27 (dk_at dksX1_brokenShare_1 14 rfl rfl)
theorem dX1_brokenShare_39 : decode cX1_brokenShare 39 = .ok (.i2f, 1) := dk_134 (dk_at dksX1_brokenShare_1 15 rfl rfl)
theorem dX1_brokenShare_40 : decode cX1_brokenShare 40 = .ok (.fdiv, 1) := dk_110 (dk_at dksX1_brokenShare_1 16 rfl rfl)
theorem dX1_brokenShare_41 : decode cX1_brokenShare 41 = .ok (.freturn, 1) := dk_174 (dk_at dksX1_brokenShare_1 17 rfl rfl)
abbrev cX1_lambda_brokenShare_3 : ByteArray := prog_1_method_65_code
def yX1_lambda_brokenShare_3 : MethodName := ⟨RX1, "lambda$brokenShare$3", "(LGraphline$Run;)I"⟩
theorem dX1_lambda_brokenShare_3_0 : decode cX1_lambda_brokenShare_3 0 = .ok (.aload_n 0, 1) := by decide +kernel
theorem dX1_lambda_brokenShare_3_1 : decode cX1_lambda_brokenShare_3 1 = .ok (.getfield 315, 3) := by decide +kernel
theorem dX1_lambda_brokenShare_3_4 : decode cX1_lambda_brokenShare_3 4 = .ok (.ireturn, 1) := by decide +kernel
abbrev cX1_lambda_brokenShare_4 : ByteArray := prog_1_method_64_code
def yX1_lambda_brokenShare_4 : MethodName := ⟨RX1, "lambda$brokenShare$4", "(LGraphline$Run;)I"⟩
theorem dX1_lambda_brokenShare_4_0 : decode cX1_lambda_brokenShare_4 0 = .ok (.aload_n 0, 1) := by decide +kernel
theorem dX1_lambda_brokenShare_4_1 : decode cX1_lambda_brokenShare_4 1 = .ok (.getfield 320, 3) := by decide +kernel
theorem dX1_lambda_brokenShare_4_4 : decode cX1_lambda_brokenShare_4 4 = .ok (.ireturn, 1) := by decide +kernel
abbrev cX1_meanDarkness : ByteArray := prog_1_method_54_code
def yX1_meanDarkness : MethodName := ⟨RX1, "meanDarkness", "()D"⟩
def dkwX1_meanDarkness_2 : List UInt8 := [135, 111, 175]
abbrev dktX1_meanDarkness_2 : List UInt8 := dkwX1_meanDarkness_2 ++ []
def dkwX1_meanDarkness_1 : List UInt8 := [187, 1, 178, 89, 183, 1, 180, 191, 43, 186, 1, 190, 0, 0, 184, 1, 155, 135, 43, 185, 0, 7, 1, 0]
abbrev dktX1_meanDarkness_1 : List UInt8 := dkwX1_meanDarkness_1 ++ dktX1_meanDarkness_2
def dkwX1_meanDarkness_0 : List UInt8 := [42, 180, 0, 74, 186, 1, 182, 0, 0, 184, 1, 183, 76, 43, 185, 1, 187, 1, 0, 153, 0, 11]
abbrev dktX1_meanDarkness_0 : List UInt8 := dkwX1_meanDarkness_0 ++ dktX1_meanDarkness_1
theorem dksX1_meanDarkness_0 : cX1_meanDarkness.data.toList.drop 0 = dktX1_meanDarkness_0 := by decide +kernel
theorem dksX1_meanDarkness_1 : cX1_meanDarkness.data.toList.drop 22 = dktX1_meanDarkness_1 := dk_seg dksX1_meanDarkness_0 22 rfl rfl
theorem dksX1_meanDarkness_2 : cX1_meanDarkness.data.toList.drop 46 = dktX1_meanDarkness_2 := dk_seg dksX1_meanDarkness_1 24 rfl rfl
theorem dX1_meanDarkness_0 : decode cX1_meanDarkness 0 = .ok (.aload_n 0, 1) := dk_42 (dk_at dksX1_meanDarkness_0 0 rfl rfl)
theorem dX1_meanDarkness_1 : decode cX1_meanDarkness 1 = .ok (.getfield 74, 3) := dk_180 0 74 (dk_at dksX1_meanDarkness_0 1 rfl rfl)
theorem dX1_meanDarkness_4 : decode cX1_meanDarkness 4 = .ok (.invokedynamic 438, 5) := by decide +kernel
theorem dX1_meanDarkness_9 : decode cX1_meanDarkness 9 = .ok (.invokestatic 439, 3) := dk_184 1 183 (dk_at dksX1_meanDarkness_0 9 rfl rfl)
theorem dX1_meanDarkness_12 : decode cX1_meanDarkness 12 = .ok (.astore_n 1, 1) := dk_76 (dk_at dksX1_meanDarkness_0 12 rfl rfl)
theorem dX1_meanDarkness_13 : decode cX1_meanDarkness 13 = .ok (.aload_n 1, 1) := dk_43 (dk_at dksX1_meanDarkness_0 13 rfl rfl)
theorem dX1_meanDarkness_14 : decode cX1_meanDarkness 14 = .ok (.invokeinterface 443 1, 5) := by decide +kernel
theorem dX1_meanDarkness_19 : decode cX1_meanDarkness 19 = .ok (.ifCond .eq 11, 3) := dk_153 0 11 (dk_at dksX1_meanDarkness_0 19 rfl rfl)
theorem dX1_meanDarkness_22 : decode cX1_meanDarkness 22 = .ok (.new 434, 3) := dk_187 1 178 (dk_at dksX1_meanDarkness_1 0 rfl rfl)
theorem dX1_meanDarkness_25 : decode cX1_meanDarkness 25 = .ok (.dup, 1) := dk_89 (dk_at dksX1_meanDarkness_1 3 rfl rfl)
theorem dX1_meanDarkness_26 : decode cX1_meanDarkness 26 = .ok (.invokespecial 436, 3) := dk_183 1 180 (dk_at dksX1_meanDarkness_1 4 rfl rfl)
theorem dX1_meanDarkness_29 : decode cX1_meanDarkness 29 = .ok (.athrow, 1) := dk_191 (dk_at dksX1_meanDarkness_1 7 rfl rfl)
theorem dX1_meanDarkness_30 : decode cX1_meanDarkness 30 = .ok (.aload_n 1, 1) := dk_43 (dk_at dksX1_meanDarkness_1 8 rfl rfl)
theorem dX1_meanDarkness_31 : decode cX1_meanDarkness 31 = .ok (.invokedynamic 446, 5) := by decide +kernel
theorem dX1_meanDarkness_36 : decode cX1_meanDarkness 36 = .ok (.invokestatic 411, 3) := dk_184 1 155 (dk_at dksX1_meanDarkness_1 14 rfl rfl)
theorem dX1_meanDarkness_39 : decode cX1_meanDarkness 39 = .ok (.i2d, 1) := dk_135 (dk_at dksX1_meanDarkness_1 17 rfl rfl)
theorem dX1_meanDarkness_40 : decode cX1_meanDarkness 40 = .ok (.aload_n 1, 1) := dk_43 (dk_at dksX1_meanDarkness_1 18 rfl rfl)
theorem dX1_meanDarkness_41 : decode cX1_meanDarkness 41 = .ok (.invokeinterface 7 1, 5) := by decide +kernel
theorem dX1_meanDarkness_46 : decode cX1_meanDarkness 46 = .ok (.i2d, 1) := dk_135 (dk_at dksX1_meanDarkness_2 0 rfl rfl)
theorem dX1_meanDarkness_47 : decode cX1_meanDarkness 47 = .ok (.ddiv, 1) := dk_111 (dk_at dksX1_meanDarkness_2 1 rfl rfl)
theorem dX1_meanDarkness_48 : decode cX1_meanDarkness 48 = .ok (.dreturn, 1) := dk_175 (dk_at dksX1_meanDarkness_2 2 rfl rfl)
abbrev cX1_lambda_meanDarkness_5 : ByteArray := prog_1_method_63_code
def yX1_lambda_meanDarkness_5 : MethodName := ⟨RX1, "lambda$meanDarkness$5", "(LGraphline$Batch;)Z"⟩
theorem dX1_lambda_meanDarkness_5_0 : decode cX1_lambda_meanDarkness_5 0 = .ok (.aload_n 0, 1) := by decide +kernel
theorem dX1_lambda_meanDarkness_5_1 : decode cX1_lambda_meanDarkness_5 1 = .ok (.invokevirtual 218, 3) := by decide +kernel
theorem dX1_lambda_meanDarkness_5_4 : decode cX1_lambda_meanDarkness_5 4 = .ok (.ireturn, 1) := by decide +kernel
abbrev cX1_those : ByteArray := prog_1_method_58_code
def yX1_those : MethodName := ⟨RX1, "those", "(Ljava/lang/Iterable;Ljava/util/function/Predicate;)Ljava/util/List;"⟩
def dkwX1_those_2 : List UInt8 := [185, 0, 160, 2, 0, 87, 167, 255, 219, 44, 176]
abbrev dktX1_those_2 : List UInt8 := dkwX1_those_2 ++ []
def dkwX1_those_1 : List UInt8 := [45, 185, 1, 171, 1, 0, 58, 4, 43, 25, 4, 185, 1, 204, 2, 0, 153, 0, 12, 44, 25, 4]
abbrev dktX1_those_1 : List UInt8 := dkwX1_those_1 ++ dktX1_those_2
def dkwX1_those_0 : List UInt8 := [187, 0, 64, 89, 183, 0, 66, 77, 42, 185, 1, 201, 1, 0, 78, 45, 185, 1, 166, 1, 0, 153, 0, 34]
abbrev dktX1_those_0 : List UInt8 := dkwX1_those_0 ++ dktX1_those_1
theorem dksX1_those_0 : cX1_those.data.toList.drop 0 = dktX1_those_0 := by decide +kernel
theorem dksX1_those_1 : cX1_those.data.toList.drop 24 = dktX1_those_1 := dk_seg dksX1_those_0 24 rfl rfl
theorem dksX1_those_2 : cX1_those.data.toList.drop 46 = dktX1_those_2 := dk_seg dksX1_those_1 22 rfl rfl
theorem dX1_those_0 : decode cX1_those 0 = .ok (.new 64, 3) := dk_187 0 64 (dk_at dksX1_those_0 0 rfl rfl)
theorem dX1_those_3 : decode cX1_those 3 = .ok (.dup, 1) := dk_89 (dk_at dksX1_those_0 3 rfl rfl)
theorem dX1_those_4 : decode cX1_those 4 = .ok (.invokespecial 66, 3) := dk_183 0 66 (dk_at dksX1_those_0 4 rfl rfl)
theorem dX1_those_7 : decode cX1_those 7 = .ok (.astore_n 2, 1) := dk_77 (dk_at dksX1_those_0 7 rfl rfl)
theorem dX1_those_8 : decode cX1_those 8 = .ok (.aload_n 0, 1) := dk_42 (dk_at dksX1_those_0 8 rfl rfl)
theorem dX1_those_9 : decode cX1_those 9 = .ok (.invokeinterface 457 1, 5) := by decide +kernel
theorem dX1_those_14 : decode cX1_those 14 = .ok (.astore_n 3, 1) := dk_78 (dk_at dksX1_those_0 14 rfl rfl)
theorem dX1_those_15 : decode cX1_those 15 = .ok (.aload_n 3, 1) := dk_45 (dk_at dksX1_those_0 15 rfl rfl)
theorem dX1_those_16 : decode cX1_those 16 = .ok (.invokeinterface 422 1, 5) := by decide +kernel
theorem dX1_those_21 : decode cX1_those 21 = .ok (.ifCond .eq 34, 3) := dk_153 0 34 (dk_at dksX1_those_0 21 rfl rfl)
theorem dX1_those_24 : decode cX1_those 24 = .ok (.aload_n 3, 1) := dk_45 (dk_at dksX1_those_1 0 rfl rfl)
theorem dX1_those_25 : decode cX1_those 25 = .ok (.invokeinterface 427 1, 5) := by decide +kernel
theorem dX1_those_30 : decode cX1_those 30 = .ok (.astore 4, 2) := dk_58 4 (dk_at dksX1_those_1 6 rfl rfl)
theorem dX1_those_32 : decode cX1_those 32 = .ok (.aload_n 1, 1) := dk_43 (dk_at dksX1_those_1 8 rfl rfl)
theorem dX1_those_33 : decode cX1_those 33 = .ok (.aload 4, 2) := dk_25 4 (dk_at dksX1_those_1 9 rfl rfl)
theorem dX1_those_35 : decode cX1_those 35 = .ok (.invokeinterface 460 2, 5) := by decide +kernel
theorem dX1_those_40 : decode cX1_those 40 = .ok (.ifCond .eq 12, 3) := dk_153 0 12 (dk_at dksX1_those_1 16 rfl rfl)
theorem dX1_those_43 : decode cX1_those 43 = .ok (.aload_n 2, 1) := dk_44 (dk_at dksX1_those_1 19 rfl rfl)
theorem dX1_those_44 : decode cX1_those 44 = .ok (.aload 4, 2) := dk_25 4 (dk_at dksX1_those_1 20 rfl rfl)
theorem dX1_those_46 : decode cX1_those 46 = .ok (.invokeinterface 160 2, 5) := by decide +kernel
theorem dX1_those_51 : decode cX1_those 51 = .ok (.pop, 1) := dk_87 (dk_at dksX1_those_2 5 rfl rfl)
theorem dX1_those_52 : decode cX1_those 52 = .ok (.goto (-37), 3) := dk_167 255 219 (dk_at dksX1_those_2 6 rfl rfl)
theorem dX1_those_55 : decode cX1_those 55 = .ok (.aload_n 2, 1) := dk_44 (dk_at dksX1_those_2 9 rfl rfl)
theorem dX1_those_56 : decode cX1_those 56 = .ok (.areturn, 1) := dk_176 (dk_at dksX1_those_2 10 rfl rfl)
abbrev cX1_lambda_meanDarkness_6 : ByteArray := prog_1_method_62_code
def yX1_lambda_meanDarkness_6 : MethodName := ⟨RX1, "lambda$meanDarkness$6", "(LGraphline$Batch;)I"⟩
theorem dX1_lambda_meanDarkness_6_0 : decode cX1_lambda_meanDarkness_6 0 = .ok (.aload_n 0, 1) := by decide +kernel
theorem dX1_lambda_meanDarkness_6_1 : decode cX1_lambda_meanDarkness_6 1 = .ok (.getfield 234, 3) := by decide +kernel
theorem dX1_lambda_meanDarkness_6_4 : decode cX1_lambda_meanDarkness_6 4 = .ok (.ireturn, 1) := by decide +kernel
theorem q18 : (Jvm.Cond.initialized "Graphline") ∈ lw_all := lw_g (lw_at lw_m1 1 rfl) rfl
theorem q61 : (Jvm.Cond.instantiable "Graphline" (18 : Nat)) ∈ lw_all := lw_g (lw_at lw_m1 44 rfl) rfl
theorem q63 : (Jvm.Cond.instanceMethod ({ cls := "Graphline", name := "<init>", desc := "()V" } : Jvm.MethodName)) ∈ lw_all := lw_g (lw_at lw_m1 46 rfl) rfl
theorem q64 : (Jvm.Cond.code ({ cls := "Graphline", name := "<init>", desc := "()V" } : Jvm.MethodName) prog_1_method_8_code (1 : Nat) (Option.none : Option Jvm.ClassFile.FieldType)) ∈ lw_all := lw_g (lw_at lw_m1 47 rfl) rfl
theorem q65 : (Jvm.Cond.stringRef "Graphline" (36 : Nat) "mpgc") ∈ lw_tbl := lw_at lw_m1 48 rfl
theorem q66 : (Jvm.Cond.methodLink "Graphline" (38 : Nat) ({ cls := "java/lang/String", name := "length", desc := "()I" } : Jvm.MethodName)) ∈ lw_all := lw_g (lw_at lw_m1 49 rfl) rfl
theorem q76 : (Jvm.Cond.methodLink "Graphline" (43 : Nat) ({ cls := "Graphline", name := "<init>", desc := "(I)V" } : Jvm.MethodName)) ∈ lw_all := lw_g (lw_at lw_m1 59 rfl) rfl
theorem q77 : (Jvm.Cond.instanceMethod ({ cls := "Graphline", name := "<init>", desc := "(I)V" } : Jvm.MethodName)) ∈ lw_all := lw_g (lw_at lw_m1 60 rfl) rfl
theorem q78 : (Jvm.Cond.code ({ cls := "Graphline", name := "<init>", desc := "(I)V" } : Jvm.MethodName) prog_1_method_9_code (2 : Nat) (Option.none : Option Jvm.ClassFile.FieldType)) ∈ lw_all := lw_g (lw_at lw_m1 61 rfl) rfl
theorem q79 : (Jvm.Cond.methodLink "Graphline" (46 : Nat) ({ cls := "java/lang/Object", name := "<init>", desc := "()V" } : Jvm.MethodName)) ∈ lw_all := lw_g (lw_at lw_m1 62 rfl) rfl
theorem q82 : (Jvm.Cond.classLink "Graphline" (64 : Nat) "java/util/ArrayList") ∈ lw_all := lw_g (lw_at lw_m1 65 rfl) rfl
theorem q84 : (Jvm.Cond.methodLink "Graphline" (66 : Nat) ({ cls := "java/util/ArrayList", name := "<init>", desc := "()V" } : Jvm.MethodName)) ∈ lw_all := lw_g (lw_at lw_m1 67 rfl) rfl
theorem q113 : (Jvm.Cond.classLink "Graphline" (77 : Nat) "Graphline$Wheel") ∈ lw_all := lw_g (lw_at lw_m1 96 rfl) rfl
theorem q115 : (Jvm.Cond.methodLinkNest "Graphline" (79 : Nat) ({ cls := "Graphline$Wheel", name := "<init>", desc := "(LGraphline;)V" } : Jvm.MethodName) "Graphline") ∈ lw_tbl := lw_at lw_m1 98 rfl
theorem q129 : (Jvm.Cond.methodLink "Graphline" (105 : Nat) ({ cls := "java/util/Arrays", name := "fill", desc := "([II)V" } : Jvm.MethodName)) ∈ lw_all := lw_g (lw_at lw_m1 112 rfl) rfl
theorem q132 : (Jvm.Cond.methodLink "Graphline" (111 : Nat) ({ cls := "java/util/Arrays", name := "fill", desc := "([ZZ)V" } : Jvm.MethodName)) ∈ lw_all := lw_g (lw_at lw_m1 115 rfl) rfl
theorem q135 : (Jvm.Cond.fieldLink "Graphline" (122 : Nat) "Graphline" "now" "I") ∈ lw_all := lw_g (lw_at lw_m1 118 rfl) rfl
theorem q136 : (Jvm.Cond.fieldLink "Graphline" (49 : Nat) "Graphline" "isShaftOn" "Z") ∈ lw_all := lw_g (lw_at lw_m1 119 rfl) rfl
theorem q137 : (Jvm.Cond.fieldLink "Graphline" (98 : Nat) "Graphline" "drivers" "[I") ∈ lw_all := lw_g (lw_at lw_m1 120 rfl) rfl
theorem q138 : (Jvm.Cond.fieldLink "Graphline" (101 : Nat) "Graphline" "areOn" "[Z") ∈ lw_all := lw_g (lw_at lw_m1 121 rfl) rfl
theorem q139 : (Jvm.Cond.fieldLink "Graphline" (53 : Nat) "Graphline" "worn" "[I") ∈ lw_all := lw_g (lw_at lw_m1 122 rfl) rfl
theorem q140 : (Jvm.Cond.fieldLink "Graphline" (57 : Nat) "Graphline" "kilnReady" "[I") ∈ lw_all := lw_g (lw_at lw_m1 123 rfl) rfl
theorem q141 : (Jvm.Cond.fieldLink "Graphline" (60 : Nat) "Graphline" "z" "J") ∈ lw_all := lw_g (lw_at lw_m1 124 rfl) rfl
theorem q142 : (Jvm.Cond.fieldLink "Graphline" (67 : Nat) "Graphline" "lots" "Ljava/util/List;") ∈ lw_all := lw_g (lw_at lw_m1 125 rfl) rfl
theorem q143 : (Jvm.Cond.fieldLink "Graphline" (71 : Nat) "Graphline" "mixtures" "Ljava/util/List;") ∈ lw_all := lw_g (lw_at lw_m1 126 rfl) rfl
theorem q144 : (Jvm.Cond.fieldLink "Graphline" (74 : Nat) "Graphline" "batches" "Ljava/util/List;") ∈ lw_all := lw_g (lw_at lw_m1 127 rfl) rfl
theorem q145 : (Jvm.Cond.fieldLink "Graphline" (240 : Nat) "Graphline" "firings" "I") ∈ lw_all := lw_g (lw_at lw_m1 128 rfl) rfl
theorem q146 : (Jvm.Cond.fieldLink "Graphline" (82 : Nat) "Graphline" "wheel" "LGraphline$Wheel;") ∈ lw_all := lw_g (lw_at lw_m1 129 rfl) rfl
theorem q147 : (Jvm.Cond.fieldLink "Graphline" (86 : Nat) "Graphline" "slats" "Ljava/util/List;") ∈ lw_all := lw_g (lw_at lw_m1 130 rfl) rfl
theorem q148 : (Jvm.Cond.fieldLink "Graphline" (89 : Nat) "Graphline" "runs" "Ljava/util/List;") ∈ lw_all := lw_g (lw_at lw_m1 131 rfl) rfl
theorem q149 : (Jvm.Cond.fieldLink "Graphline" (289 : Nat) "Graphline" "laid" "I") ∈ lw_all := lw_g (lw_at lw_m1 132 rfl) rfl
theorem q150 : (Jvm.Cond.fieldLink "Graphline" (333 : Nat) "Graphline" "sampled" "I") ∈ lw_all := lw_g (lw_at lw_m1 133 rfl) rfl
theorem q151 : (Jvm.Cond.fieldLink "Graphline" (92 : Nat) "Graphline" "grosses" "Ljava/util/List;") ∈ lw_all := lw_g (lw_at lw_m1 134 rfl) rfl
theorem q152 : (Jvm.Cond.fieldLink "Graphline" (95 : Nat) "Graphline" "orders" "Ljava/util/List;") ∈ lw_all := lw_g (lw_at lw_m1 135 rfl) rfl
theorem q153 : (Jvm.Cond.lays "Graphline" "Graphline" "now" "I") ∈ lw_all := lw_g (lw_at lw_m1 136 rfl) rfl
theorem q154 : (Jvm.Cond.soleField "Graphline" "now") ∈ lw_all := lw_g (lw_at lw_m1 137 rfl) rfl
theorem q155 : (Jvm.Cond.lays "Graphline" "Graphline" "isShaftOn" "Z") ∈ lw_all := lw_g (lw_at lw_m1 138 rfl) rfl
theorem q156 : (Jvm.Cond.soleField "Graphline" "isShaftOn") ∈ lw_all := lw_g (lw_at lw_m1 139 rfl) rfl
theorem q157 : (Jvm.Cond.laysFinal "Graphline" "Graphline" "drivers" "[I") ∈ lw_all := lw_g (lw_at lw_m1 140 rfl) rfl
theorem q158 : (Jvm.Cond.soleField "Graphline" "drivers") ∈ lw_all := lw_g (lw_at lw_m1 141 rfl) rfl
theorem q159 : (Jvm.Cond.laysFinal "Graphline" "Graphline" "areOn" "[Z") ∈ lw_all := lw_g (lw_at lw_m1 142 rfl) rfl
theorem q160 : (Jvm.Cond.soleField "Graphline" "areOn") ∈ lw_all := lw_g (lw_at lw_m1 143 rfl) rfl
theorem q161 : (Jvm.Cond.laysFinal "Graphline" "Graphline" "worn" "[I") ∈ lw_all := lw_g (lw_at lw_m1 144 rfl) rfl
theorem q162 : (Jvm.Cond.soleField "Graphline" "worn") ∈ lw_all := lw_g (lw_at lw_m1 145 rfl) rfl
theorem q163 : (Jvm.Cond.laysFinal "Graphline" "Graphline" "kilnReady" "[I") ∈ lw_all := lw_g (lw_at lw_m1 146 rfl) rfl
theorem q164 : (Jvm.Cond.soleField "Graphline" "kilnReady") ∈ lw_all := lw_g (lw_at lw_m1 147 rfl) rfl
theorem q165 : (Jvm.Cond.lays "Graphline" "Graphline" "z" "J") ∈ lw_all := lw_g (lw_at lw_m1 148 rfl) rfl
theorem q166 : (Jvm.Cond.soleField "Graphline" "z") ∈ lw_all := lw_g (lw_at lw_m1 149 rfl) rfl
theorem q167 : (Jvm.Cond.laysFinal "Graphline" "Graphline" "lots" "Ljava/util/List;") ∈ lw_all := lw_g (lw_at lw_m1 150 rfl) rfl
theorem q168 : (Jvm.Cond.soleField "Graphline" "lots") ∈ lw_all := lw_g (lw_at lw_m1 151 rfl) rfl
theorem q169 : (Jvm.Cond.laysFinal "Graphline" "Graphline" "mixtures" "Ljava/util/List;") ∈ lw_all := lw_g (lw_at lw_m1 152 rfl) rfl
theorem q170 : (Jvm.Cond.soleField "Graphline" "mixtures") ∈ lw_all := lw_g (lw_at lw_m1 153 rfl) rfl
theorem q171 : (Jvm.Cond.laysFinal "Graphline" "Graphline" "batches" "Ljava/util/List;") ∈ lw_all := lw_g (lw_at lw_m1 154 rfl) rfl
theorem q172 : (Jvm.Cond.soleField "Graphline" "batches") ∈ lw_all := lw_g (lw_at lw_m1 155 rfl) rfl
theorem q173 : (Jvm.Cond.lays "Graphline" "Graphline" "firings" "I") ∈ lw_all := lw_g (lw_at lw_m1 156 rfl) rfl
theorem q174 : (Jvm.Cond.soleField "Graphline" "firings") ∈ lw_all := lw_g (lw_at lw_m1 157 rfl) rfl
theorem q175 : (Jvm.Cond.laysFinal "Graphline" "Graphline" "wheel" "LGraphline$Wheel;") ∈ lw_all := lw_g (lw_at lw_m1 158 rfl) rfl
theorem q176 : (Jvm.Cond.soleField "Graphline" "wheel") ∈ lw_all := lw_g (lw_at lw_m1 159 rfl) rfl
theorem q177 : (Jvm.Cond.laysFinal "Graphline" "Graphline" "slats" "Ljava/util/List;") ∈ lw_all := lw_g (lw_at lw_m1 160 rfl) rfl
theorem q178 : (Jvm.Cond.soleField "Graphline" "slats") ∈ lw_all := lw_g (lw_at lw_m1 161 rfl) rfl
theorem q179 : (Jvm.Cond.laysFinal "Graphline" "Graphline" "runs" "Ljava/util/List;") ∈ lw_all := lw_g (lw_at lw_m1 162 rfl) rfl
theorem q180 : (Jvm.Cond.soleField "Graphline" "runs") ∈ lw_all := lw_g (lw_at lw_m1 163 rfl) rfl
theorem q181 : (Jvm.Cond.lays "Graphline" "Graphline" "laid" "I") ∈ lw_all := lw_g (lw_at lw_m1 164 rfl) rfl
theorem q182 : (Jvm.Cond.soleField "Graphline" "laid") ∈ lw_all := lw_g (lw_at lw_m1 165 rfl) rfl
theorem q183 : (Jvm.Cond.lays "Graphline" "Graphline" "sampled" "I") ∈ lw_all := lw_g (lw_at lw_m1 166 rfl) rfl
theorem q184 : (Jvm.Cond.soleField "Graphline" "sampled") ∈ lw_all := lw_g (lw_at lw_m1 167 rfl) rfl
theorem q185 : (Jvm.Cond.laysFinal "Graphline" "Graphline" "grosses" "Ljava/util/List;") ∈ lw_all := lw_g (lw_at lw_m1 168 rfl) rfl
theorem q186 : (Jvm.Cond.soleField "Graphline" "grosses") ∈ lw_all := lw_g (lw_at lw_m1 169 rfl) rfl
theorem q187 : (Jvm.Cond.laysFinal "Graphline" "Graphline" "orders" "Ljava/util/List;") ∈ lw_all := lw_g (lw_at lw_m1 170 rfl) rfl
theorem q188 : (Jvm.Cond.soleField "Graphline" "orders") ∈ lw_all := lw_g (lw_at lw_m1 171 rfl) rfl
theorem q189 : (Jvm.Cond.superclass "Graphline" "java/lang/Object") ∈ lw_all := lw_g (lw_at lw_m1 172 rfl) rfl
theorem q192 : (Jvm.Cond.instanceMethod ({ cls := "Graphline", name := "shaft", desc := "(Z)Z" } : Jvm.MethodName)) ∈ lw_all := lw_g (lw_at lw_m1 175 rfl) rfl
theorem q193 : (Jvm.Cond.selects "Graphline" ({ cls := "Graphline", name := "shaft", desc := "(Z)Z" } : Jvm.MethodName) ({ cls := "Graphline", name := "shaft", desc := "(Z)Z" } : Jvm.MethodName)) ∈ lw_all := lw_g (lw_at lw_m1 176 rfl) rfl
theorem q194 : (Jvm.Cond.code ({ cls := "Graphline", name := "shaft", desc := "(Z)Z" } : Jvm.MethodName) prog_1_method_11_code (3 : Nat) (Option.some Jvm.ClassFile.FieldType.boolean)) ∈ lw_all := lw_g (lw_at lw_m1 177 rfl) rfl
theorem q196 : (Jvm.Cond.instanceMethod ({ cls := "Graphline", name := "check", desc := "()I" } : Jvm.MethodName)) ∈ lw_all := lw_g (lw_at lw_m1 179 rfl) rfl
theorem q197 : (Jvm.Cond.selects "Graphline" ({ cls := "Graphline", name := "check", desc := "()I" } : Jvm.MethodName) ({ cls := "Graphline", name := "check", desc := "()I" } : Jvm.MethodName)) ∈ lw_all := lw_g (lw_at lw_m1 180 rfl) rfl
theorem q198 : (Jvm.Cond.code ({ cls := "Graphline", name := "check", desc := "()I" } : Jvm.MethodName) prog_1_method_30_code (1 : Nat) (Option.some Jvm.ClassFile.FieldType.int)) ∈ lw_all := lw_g (lw_at lw_m1 181 rfl) rfl
theorem q199 : (Jvm.Cond.methodLink "Graphline" (258 : Nat) ({ cls := "Graphline$Wheel", name := "check", desc := "()I" } : Jvm.MethodName)) ∈ lw_all := lw_g (lw_at lw_m1 182 rfl) rfl
theorem q204 : (Jvm.Cond.instanceMethod ({ cls := "Graphline", name := "missing", desc := "()I" } : Jvm.MethodName)) ∈ lw_all := lw_g (lw_at lw_m1 187 rfl) rfl
theorem q205 : (Jvm.Cond.selects "Graphline" ({ cls := "Graphline", name := "missing", desc := "()I" } : Jvm.MethodName) ({ cls := "Graphline", name := "missing", desc := "()I" } : Jvm.MethodName)) ∈ lw_all := lw_g (lw_at lw_m1 188 rfl) rfl
theorem q206 : (Jvm.Cond.code ({ cls := "Graphline", name := "missing", desc := "()I" } : Jvm.MethodName) prog_1_method_51_code (1 : Nat) (Option.some Jvm.ClassFile.FieldType.int)) ∈ lw_all := lw_g (lw_at lw_m1 189 rfl) rfl
theorem q207 : (Jvm.Cond.static ({ cls := "Graphline", name := "lambda$missing$1", desc := "(LGraphline$Run;)I" } : Jvm.MethodName)) ∈ lw_all := lw_g (lw_at lw_m1 190 rfl) rfl
theorem q208 : (Jvm.Cond.code ({ cls := "Graphline", name := "lambda$missing$1", desc := "(LGraphline$Run;)I" } : Jvm.MethodName) prog_1_method_67_code (1 : Nat) (Option.some Jvm.ClassFile.FieldType.int)) ∈ lw_all := lw_g (lw_at lw_m1 191 rfl) rfl
theorem q209 : (Jvm.Cond.methodLink "Graphline" (411 : Nat) ({ cls := "Graphline", name := "sum", desc := "(Ljava/util/List;Ljava/util/function/ToIntFunction;)I" } : Jvm.MethodName)) ∈ lw_all := lw_g (lw_at lw_m1 192 rfl) rfl
theorem q210 : (Jvm.Cond.static ({ cls := "Graphline", name := "sum", desc := "(Ljava/util/List;Ljava/util/function/ToIntFunction;)I" } : Jvm.MethodName)) ∈ lw_all := lw_g (lw_at lw_m1 193 rfl) rfl
theorem q211 : (Jvm.Cond.code ({ cls := "Graphline", name := "sum", desc := "(Ljava/util/List;Ljava/util/function/ToIntFunction;)I" } : Jvm.MethodName) prog_1_method_7_code (2 : Nat) (Option.some Jvm.ClassFile.FieldType.int)) ∈ lw_all := lw_g (lw_at lw_m1 194 rfl) rfl
theorem q212 : (Jvm.Cond.methodLink "Graphline" (32 : Nat) ({ cls := "Graphline", name := "sumOf", desc := "(Ljava/lang/Iterable;Ljava/util/function/ToIntFunction;)I" } : Jvm.MethodName)) ∈ lw_all := lw_g (lw_at lw_m1 195 rfl) rfl
theorem q213 : (Jvm.Cond.static ({ cls := "Graphline", name := "sumOf", desc := "(Ljava/lang/Iterable;Ljava/util/function/ToIntFunction;)I" } : Jvm.MethodName)) ∈ lw_all := lw_g (lw_at lw_m1 196 rfl) rfl
theorem q214 : (Jvm.Cond.code ({ cls := "Graphline", name := "sumOf", desc := "(Ljava/lang/Iterable;Ljava/util/function/ToIntFunction;)I" } : Jvm.MethodName) prog_1_method_59_code (5 : Nat) (Option.some Jvm.ClassFile.FieldType.int)) ∈ lw_all := lw_g (lw_at lw_m1 197 rfl) rfl
theorem q215 : (Jvm.Cond.interfaceEntry "Graphline" (457 : Nat)) ∈ lw_tbl := lw_at lw_m1 198 rfl
theorem q216 : (Jvm.Cond.methodLink "Graphline" (457 : Nat) ({ cls := "java/lang/Iterable", name := "iterator", desc := "()Ljava/util/Iterator;" } : Jvm.MethodName)) ∈ lw_all := lw_g (lw_at lw_m1 199 rfl) rfl
theorem q244 : (Jvm.Cond.interfaceEntry "Graphline" (422 : Nat)) ∈ lw_tbl := lw_at lw_m1 227 rfl
theorem q245 : (Jvm.Cond.methodLink "Graphline" (422 : Nat) ({ cls := "java/util/Iterator", name := "hasNext", desc := "()Z" } : Jvm.MethodName)) ∈ lw_all := lw_g (lw_at lw_m1 228 rfl) rfl
theorem q254 : (Jvm.Cond.interfaceEntry "Graphline" (427 : Nat)) ∈ lw_tbl := lw_at lw_m1 237 rfl
theorem q255 : (Jvm.Cond.methodLink "Graphline" (427 : Nat) ({ cls := "java/util/Iterator", name := "next", desc := "()Ljava/lang/Object;" } : Jvm.MethodName)) ∈ lw_all := lw_g (lw_at lw_m1 238 rfl) rfl
theorem q267 : (Jvm.Cond.interfaceEntry "Graphline" (464 : Nat)) ∈ lw_tbl := lw_at lw_m2 10 rfl
theorem q268 : (Jvm.Cond.methodLink "Graphline" (464 : Nat) ({ cls := "java/util/function/ToIntFunction", name := "applyAsInt", desc := "(Ljava/lang/Object;)I" } : Jvm.MethodName)) ∈ lw_all := lw_g (lw_at lw_m2 11 rfl) rfl
theorem q271 : (Jvm.Cond.static ({ cls := "Graphline", name := "lambda$missing$2", desc := "(LGraphline$Gross;)I" } : Jvm.MethodName)) ∈ lw_all := lw_g (lw_at lw_m2 14 rfl) rfl
theorem q272 : (Jvm.Cond.code ({ cls := "Graphline", name := "lambda$missing$2", desc := "(LGraphline$Gross;)I" } : Jvm.MethodName) prog_1_method_66_code (1 : Nat) (Option.some Jvm.ClassFile.FieldType.int)) ∈ lw_all := lw_g (lw_at lw_m2 15 rfl) rfl
theorem q273 : (Jvm.Cond.methodLink "Graphline" (343 : Nat) ({ cls := "Graphline$Gross", name := "many", desc := "()I" } : Jvm.MethodName)) ∈ lw_all := lw_g (lw_at lw_m2 16 rfl) rfl
theorem q285 : (Jvm.Cond.instanceMethod ({ cls := "Graphline", name := "checksum", desc := "()J" } : Jvm.MethodName)) ∈ lw_all := lw_g (lw_at lw_m2 28 rfl) rfl
theorem q286 : (Jvm.Cond.selects "Graphline" ({ cls := "Graphline", name := "checksum", desc := "()J" } : Jvm.MethodName) ({ cls := "Graphline", name := "checksum", desc := "()J" } : Jvm.MethodName)) ∈ lw_all := lw_g (lw_at lw_m2 29 rfl) rfl
theorem q287 : (Jvm.Cond.code ({ cls := "Graphline", name := "checksum", desc := "()J" } : Jvm.MethodName) prog_1_method_52_code (5 : Nat) (Option.some Jvm.ClassFile.FieldType.long)) ∈ lw_all := lw_g (lw_at lw_m2 30 rfl) rfl
theorem q288 : (Jvm.Cond.constantLong "Graphline" (416 : Nat) (7 : Int64)) ∈ lw_all := lw_g (lw_at lw_m2 31 rfl) rfl
theorem q289 : (Jvm.Cond.interfaceEntry "Graphline" (418 : Nat)) ∈ lw_tbl := lw_at lw_m2 32 rfl
theorem q290 : (Jvm.Cond.methodLink "Graphline" (418 : Nat) ({ cls := "java/util/List", name := "iterator", desc := "()Ljava/util/Iterator;" } : Jvm.MethodName)) ∈ lw_all := lw_g (lw_at lw_m2 33 rfl) rfl
theorem q295 : (Jvm.Cond.classLink "Graphline" (193 : Nat) "Graphline$Batch") ∈ lw_all := lw_g (lw_at lw_m2 38 rfl) rfl
theorem q296 : (Jvm.Cond.constantLong "Graphline" (431 : Nat) (31 : Int64)) ∈ lw_all := lw_g (lw_at lw_m2 39 rfl) rfl
theorem q297 : (Jvm.Cond.classLink "Graphline" (284 : Nat) "Graphline$Run") ∈ lw_all := lw_g (lw_at lw_m2 40 rfl) rfl
theorem q298 : (Jvm.Cond.classLink "Graphline" (337 : Nat) "Graphline$Gross") ∈ lw_all := lw_g (lw_at lw_m2 41 rfl) rfl
theorem q300 : (Jvm.Cond.instanceMethod ({ cls := "Graphline", name := "isSound", desc := "()Z" } : Jvm.MethodName)) ∈ lw_all := lw_g (lw_at lw_m2 43 rfl) rfl
theorem q301 : (Jvm.Cond.selects "Graphline" ({ cls := "Graphline", name := "isSound", desc := "()Z" } : Jvm.MethodName) ({ cls := "Graphline", name := "isSound", desc := "()Z" } : Jvm.MethodName)) ∈ lw_all := lw_g (lw_at lw_m2 44 rfl) rfl
theorem q302 : (Jvm.Cond.code ({ cls := "Graphline", name := "isSound", desc := "()Z" } : Jvm.MethodName) prog_1_method_56_code (4 : Nat) (Option.some Jvm.ClassFile.FieldType.boolean)) ∈ lw_all := lw_g (lw_at lw_m2 45 rfl) rfl
theorem q303 : (Jvm.Cond.static ({ cls := "Graphline", name := "lambda$isSound$7", desc := "(LGraphline$Run;)Z" } : Jvm.MethodName)) ∈ lw_all := lw_g (lw_at lw_m2 46 rfl) rfl
theorem q304 : (Jvm.Cond.code ({ cls := "Graphline", name := "lambda$isSound$7", desc := "(LGraphline$Run;)Z" } : Jvm.MethodName) prog_1_method_61_code (1 : Nat) (Option.some Jvm.ClassFile.FieldType.boolean)) ∈ lw_all := lw_g (lw_at lw_m2 47 rfl) rfl
theorem q305 : (Jvm.Cond.methodLink "Graphline" (114 : Nat) ({ cls := "Graphline", name := "isIn", desc := "(II[I)Z" } : Jvm.MethodName)) ∈ lw_all := lw_g (lw_at lw_m2 48 rfl) rfl
theorem q306 : (Jvm.Cond.static ({ cls := "Graphline", name := "isIn", desc := "(II[I)Z" } : Jvm.MethodName)) ∈ lw_all := lw_g (lw_at lw_m2 49 rfl) rfl
theorem q307 : (Jvm.Cond.code ({ cls := "Graphline", name := "isIn", desc := "(II[I)Z" } : Jvm.MethodName) prog_1_method_6_code (8 : Nat) (Option.some Jvm.ClassFile.FieldType.boolean)) ∈ lw_all := lw_g (lw_at lw_m2 50 rfl) rfl
theorem q308 : (Jvm.Cond.methodLink "Graphline" (378 : Nat) ({ cls := "Graphline", name := "allOf", desc := "(Ljava/lang/Iterable;Ljava/util/function/Predicate;)Z" } : Jvm.MethodName)) ∈ lw_all := lw_g (lw_at lw_m2 51 rfl) rfl
theorem q309 : (Jvm.Cond.static ({ cls := "Graphline", name := "allOf", desc := "(Ljava/lang/Iterable;Ljava/util/function/Predicate;)Z" } : Jvm.MethodName)) ∈ lw_all := lw_g (lw_at lw_m2 52 rfl) rfl
theorem q310 : (Jvm.Cond.code ({ cls := "Graphline", name := "allOf", desc := "(Ljava/lang/Iterable;Ljava/util/function/Predicate;)Z" } : Jvm.MethodName) prog_1_method_57_code (4 : Nat) (Option.some Jvm.ClassFile.FieldType.boolean)) ∈ lw_all := lw_g (lw_at lw_m2 53 rfl) rfl
theorem q311 : (Jvm.Cond.interfaceEntry "Graphline" (460 : Nat)) ∈ lw_tbl := lw_at lw_m2 54 rfl
theorem q312 : (Jvm.Cond.methodLink "Graphline" (460 : Nat) ({ cls := "java/util/function/Predicate", name := "test", desc := "(Ljava/lang/Object;)Z" } : Jvm.MethodName)) ∈ lw_all := lw_g (lw_at lw_m2 55 rfl) rfl
theorem q315 : (Jvm.Cond.static ({ cls := "Graphline", name := "lambda$isSound$8", desc := "(LGraphline$Gross;LGraphline$Part;)Z" } : Jvm.MethodName)) ∈ lw_all := lw_g (lw_at lw_m2 58 rfl) rfl
theorem q316 : (Jvm.Cond.code ({ cls := "Graphline", name := "lambda$isSound$8", desc := "(LGraphline$Gross;LGraphline$Part;)Z" } : Jvm.MethodName) prog_1_method_60_code (2 : Nat) (Option.some Jvm.ClassFile.FieldType.boolean)) ∈ lw_all := lw_g (lw_at lw_m2 59 rfl) rfl
theorem q317 : (Jvm.Cond.methodLink "Graphline" (384 : Nat) ({ cls := "Graphline$Part", name := "run", desc := "()LGraphline$Run;" } : Jvm.MethodName)) ∈ lw_all := lw_g (lw_at lw_m2 60 rfl) rfl
theorem q321 : (Jvm.Cond.methodLink "Graphline" (451 : Nat) ({ cls := "Graphline", name := "missing", desc := "()I" } : Jvm.MethodName)) ∈ lw_all := lw_g (lw_at lw_m2 64 rfl) rfl
theorem q322 : (Jvm.Cond.methodLink "Graphline" (454 : Nat) ({ cls := "Graphline", name := "hasRing", desc := "()Z" } : Jvm.MethodName)) ∈ lw_all := lw_g (lw_at lw_m2 65 rfl) rfl
theorem q323 : (Jvm.Cond.privateMethod ({ cls := "Graphline", name := "hasRing", desc := "()Z" } : Jvm.MethodName)) ∈ lw_tbl := lw_at lw_m2 66 rfl
theorem q324 : (Jvm.Cond.instanceMethod ({ cls := "Graphline", name := "hasRing", desc := "()Z" } : Jvm.MethodName)) ∈ lw_all := lw_g (lw_at lw_m2 67 rfl) rfl
theorem q325 : (Jvm.Cond.code ({ cls := "Graphline", name := "hasRing", desc := "()Z" } : Jvm.MethodName) prog_1_method_55_code (5 : Nat) (Option.some Jvm.ClassFile.FieldType.boolean)) ∈ lw_all := lw_g (lw_at lw_m2 68 rfl) rfl
theorem q332 : (Jvm.Cond.instanceMethod ({ cls := "Graphline", name := "go", desc := "(I)I" } : Jvm.MethodName)) ∈ lw_all := lw_g (lw_at lw_m2 75 rfl) rfl
theorem q333 : (Jvm.Cond.selects "Graphline" ({ cls := "Graphline", name := "go", desc := "(I)I" } : Jvm.MethodName) ({ cls := "Graphline", name := "go", desc := "(I)I" } : Jvm.MethodName)) ∈ lw_all := lw_g (lw_at lw_m2 76 rfl) rfl
theorem q334 : (Jvm.Cond.code ({ cls := "Graphline", name := "go", desc := "(I)I" } : Jvm.MethodName) prog_1_method_10_code (2 : Nat) (Option.some Jvm.ClassFile.FieldType.int)) ∈ lw_all := lw_g (lw_at lw_m2 77 rfl) rfl
theorem q335 : (Jvm.Cond.methodLink "Graphline" (118 : Nat) ({ cls := "Graphline", name := "requireArgument", desc := "(Z)V" } : Jvm.MethodName)) ∈ lw_all := lw_g (lw_at lw_m2 78 rfl) rfl
theorem q336 : (Jvm.Cond.static ({ cls := "Graphline", name := "requireArgument", desc := "(Z)V" } : Jvm.MethodName)) ∈ lw_all := lw_g (lw_at lw_m2 79 rfl) rfl
theorem q337 : (Jvm.Cond.code ({ cls := "Graphline", name := "requireArgument", desc := "(Z)V" } : Jvm.MethodName) prog_1_method_3_code (1 : Nat) (Option.none : Option Jvm.ClassFile.FieldType)) ∈ lw_all := lw_g (lw_at lw_m2 80 rfl) rfl
theorem q338 : (Jvm.Cond.classLink "Graphline" (23 : Nat) "java/lang/IllegalArgumentException") ∈ lw_all := lw_g (lw_at lw_m2 81 rfl) rfl
theorem q383 : (Jvm.Cond.methodLink "Graphline" (25 : Nat) ({ cls := "java/lang/IllegalArgumentException", name := "<init>", desc := "()V" } : Jvm.MethodName)) ∈ lw_all := lw_g (lw_at lw_m2 126 rfl) rfl
theorem q406 : (Jvm.Cond.methodLink "Graphline" (126 : Nat) ({ cls := "Graphline", name := "requireState", desc := "(Z)V" } : Jvm.MethodName)) ∈ lw_all := lw_g (lw_at lw_m2 149 rfl) rfl
theorem q407 : (Jvm.Cond.static ({ cls := "Graphline", name := "requireState", desc := "(Z)V" } : Jvm.MethodName)) ∈ lw_all := lw_g (lw_at lw_m2 150 rfl) rfl
theorem q408 : (Jvm.Cond.code ({ cls := "Graphline", name := "requireState", desc := "(Z)V" } : Jvm.MethodName) prog_1_method_4_code (1 : Nat) (Option.none : Option Jvm.ClassFile.FieldType)) ∈ lw_all := lw_g (lw_at lw_m2 151 rfl) rfl
theorem q409 : (Jvm.Cond.classLink "Graphline" (26 : Nat) "java/lang/IllegalStateException") ∈ lw_all := lw_g (lw_at lw_m2 152 rfl) rfl
theorem q418 : (Jvm.Cond.methodLink "Graphline" (28 : Nat) ({ cls := "java/lang/IllegalStateException", name := "<init>", desc := "()V" } : Jvm.MethodName)) ∈ lw_all := lw_g (lw_at lw_m2 161 rfl) rfl
theorem q429 : (Jvm.Cond.instanceMethod ({ cls := "Graphline", name := "belt", desc := "(CC)C" } : Jvm.MethodName)) ∈ lw_all := lw_g (lw_at lw_m2 172 rfl) rfl
theorem q430 : (Jvm.Cond.selects "Graphline" ({ cls := "Graphline", name := "belt", desc := "(CC)C" } : Jvm.MethodName) ({ cls := "Graphline", name := "belt", desc := "(CC)C" } : Jvm.MethodName)) ∈ lw_all := lw_g (lw_at lw_m2 173 rfl) rfl
theorem q431 : (Jvm.Cond.code ({ cls := "Graphline", name := "belt", desc := "(CC)C" } : Jvm.MethodName) prog_1_method_13_code (6 : Nat) (Option.some Jvm.ClassFile.FieldType.char)) ∈ lw_all := lw_g (lw_at lw_m2 174 rfl) rfl
theorem q432 : (Jvm.Cond.methodLink "Graphline" (133 : Nat) ({ cls := "Graphline", name := "requireMachine", desc := "(C)I" } : Jvm.MethodName)) ∈ lw_all := lw_g (lw_at lw_m2 175 rfl) rfl
theorem q433 : (Jvm.Cond.static ({ cls := "Graphline", name := "requireMachine", desc := "(C)I" } : Jvm.MethodName)) ∈ lw_all := lw_g (lw_at lw_m2 176 rfl) rfl
theorem q434 : (Jvm.Cond.code ({ cls := "Graphline", name := "requireMachine", desc := "(C)I" } : Jvm.MethodName) prog_1_method_12_code (2 : Nat) (Option.some Jvm.ClassFile.FieldType.int)) ∈ lw_all := lw_g (lw_at lw_m2 177 rfl) rfl
theorem q435 : (Jvm.Cond.methodLink "Graphline" (129 : Nat) ({ cls := "java/lang/String", name := "indexOf", desc := "(I)I" } : Jvm.MethodName)) ∈ lw_all := lw_g (lw_at lw_m2 178 rfl) rfl
theorem q512 : (Jvm.Cond.methodLink "Graphline" (137 : Nat) ({ cls := "Graphline", name := "requireSupported", desc := "(Z)V" } : Jvm.MethodName)) ∈ lw_all := lw_g (lw_at lw_m3 15 rfl) rfl
theorem q513 : (Jvm.Cond.static ({ cls := "Graphline", name := "requireSupported", desc := "(Z)V" } : Jvm.MethodName)) ∈ lw_all := lw_g (lw_at lw_m3 16 rfl) rfl
theorem q514 : (Jvm.Cond.code ({ cls := "Graphline", name := "requireSupported", desc := "(Z)V" } : Jvm.MethodName) prog_1_method_5_code (1 : Nat) (Option.none : Option Jvm.ClassFile.FieldType)) ∈ lw_all := lw_g (lw_at lw_m3 17 rfl) rfl
theorem q515 : (Jvm.Cond.classLink "Graphline" (29 : Nat) "java/lang/UnsupportedOperationException") ∈ lw_all := lw_g (lw_at lw_m3 18 rfl) rfl
theorem q524 : (Jvm.Cond.methodLink "Graphline" (31 : Nat) ({ cls := "java/lang/UnsupportedOperationException", name := "<init>", desc := "()V" } : Jvm.MethodName)) ∈ lw_all := lw_g (lw_at lw_m3 27 rfl) rfl
theorem q530 : (Jvm.Cond.methodLink "Graphline" (140 : Nat) ({ cls := "java/lang/String", name := "charAt", desc := "(I)C" } : Jvm.MethodName)) ∈ lw_all := lw_g (lw_at lw_m3 33 rfl) rfl
theorem q554 : (Jvm.Cond.instanceMethod ({ cls := "Graphline", name := "on", desc := "(CZ)Z" } : Jvm.MethodName)) ∈ lw_all := lw_g (lw_at lw_m3 57 rfl) rfl
theorem q555 : (Jvm.Cond.selects "Graphline" ({ cls := "Graphline", name := "on", desc := "(CZ)Z" } : Jvm.MethodName) ({ cls := "Graphline", name := "on", desc := "(CZ)Z" } : Jvm.MethodName)) ∈ lw_all := lw_g (lw_at lw_m3 58 rfl) rfl
theorem q556 : (Jvm.Cond.code ({ cls := "Graphline", name := "on", desc := "(CZ)Z" } : Jvm.MethodName) prog_1_method_14_code (5 : Nat) (Option.some Jvm.ClassFile.FieldType.boolean)) ∈ lw_all := lw_g (lw_at lw_m3 59 rfl) rfl
theorem q561 : (Jvm.Cond.instanceMethod ({ cls := "Graphline", name := "runs", desc := "(C)Z" } : Jvm.MethodName)) ∈ lw_all := lw_g (lw_at lw_m3 64 rfl) rfl
theorem q562 : (Jvm.Cond.selects "Graphline" ({ cls := "Graphline", name := "runs", desc := "(C)Z" } : Jvm.MethodName) ({ cls := "Graphline", name := "runs", desc := "(C)Z" } : Jvm.MethodName)) ∈ lw_all := lw_g (lw_at lw_m3 65 rfl) rfl
theorem q563 : (Jvm.Cond.codeWith ({ cls := "Graphline", name := "runs", desc := "(C)Z" } : Jvm.MethodName) prog_1_method_16_code (4 : Nat) (Option.some Jvm.ClassFile.FieldType.boolean) [((5 : Nat), (11 : Nat), (12 : Nat), (144 : Nat))]) ∈ lw_all := lw_g (lw_at lw_m3 66 rfl) rfl
theorem q564 : (Jvm.Cond.classLink "Graphline" (144 : Nat) "Graphline$Standstill") ∈ lw_all := lw_g (lw_at lw_m3 67 rfl) rfl
theorem q565 : (Jvm.Cond.methodLink "Graphline" (149 : Nat) ({ cls := "Graphline", name := "drive", desc := "(I)V" } : Jvm.MethodName)) ∈ lw_all := lw_g (lw_at lw_m3 68 rfl) rfl
theorem q566 : (Jvm.Cond.privateMethod ({ cls := "Graphline", name := "drive", desc := "(I)V" } : Jvm.MethodName)) ∈ lw_tbl := lw_at lw_m3 69 rfl
theorem q567 : (Jvm.Cond.instanceMethod ({ cls := "Graphline", name := "drive", desc := "(I)V" } : Jvm.MethodName)) ∈ lw_all := lw_g (lw_at lw_m3 70 rfl) rfl
theorem q568 : (Jvm.Cond.codeWith ({ cls := "Graphline", name := "drive", desc := "(I)V" } : Jvm.MethodName) prog_1_method_15_code (3 : Nat) (Option.none : Option Jvm.ClassFile.FieldType) [((24 : Nat), (34 : Nat), (37 : Nat), (144 : Nat))]) ∈ lw_all := lw_g (lw_at lw_m3 71 rfl) rfl
theorem q577 : (Jvm.Cond.methodLink "Graphline" (146 : Nat) ({ cls := "Graphline$Standstill", name := "<init>", desc := "(CLjava/lang/Throwable;)V" } : Jvm.MethodName)) ∈ lw_all := lw_g (lw_at lw_m3 80 rfl) rfl
theorem q627 : (Jvm.Cond.instanceMethod ({ cls := "Graphline", name := "lot", desc := "(CIII)I" } : Jvm.MethodName)) ∈ lw_all := lw_g (lw_at lw_m3 130 rfl) rfl
theorem q628 : (Jvm.Cond.selects "Graphline" ({ cls := "Graphline", name := "lot", desc := "(CIII)I" } : Jvm.MethodName) ({ cls := "Graphline", name := "lot", desc := "(CIII)I" } : Jvm.MethodName)) ∈ lw_all := lw_g (lw_at lw_m3 131 rfl) rfl
theorem q629 : (Jvm.Cond.code ({ cls := "Graphline", name := "lot", desc := "(CIII)I" } : Jvm.MethodName) prog_1_method_17_code (6 : Nat) (Option.some Jvm.ClassFile.FieldType.int)) ∈ lw_all := lw_g (lw_at lw_m3 132 rfl) rfl
theorem q630 : (Jvm.Cond.interfaceEntry "Graphline" (7 : Nat)) ∈ lw_tbl := lw_at lw_m3 133 rfl
theorem q631 : (Jvm.Cond.methodLink "Graphline" (7 : Nat) ({ cls := "java/util/List", name := "size", desc := "()I" } : Jvm.MethodName)) ∈ lw_all := lw_g (lw_at lw_m3 134 rfl) rfl
theorem q639 : (Jvm.Cond.classLink "Graphline" (152 : Nat) "Graphline$Graphite") ∈ lw_all := lw_g (lw_at lw_m3 142 rfl) rfl
theorem q641 : (Jvm.Cond.methodLink "Graphline" (154 : Nat) ({ cls := "Graphline$Graphite", name := "<init>", desc := "(I[I)V" } : Jvm.MethodName)) ∈ lw_all := lw_g (lw_at lw_m3 144 rfl) rfl
theorem q649 : (Jvm.Cond.fieldLinkNest "Graphline" (403 : Nat) "Graphline$Lot" "number" "I" "Graphline") ∈ lw_tbl := lw_at lw_m3 152 rfl
theorem q655 : (Jvm.Cond.fieldLinkNest "Graphline" (170 : Nat) "Graphline$Lot" "kilos" "I" "Graphline") ∈ lw_tbl := lw_at lw_m3 158 rfl
theorem q665 : (Jvm.Cond.classLink "Graphline" (157 : Nat) "Graphline$Clay") ∈ lw_all := lw_g (lw_at lw_m3 168 rfl) rfl
theorem q667 : (Jvm.Cond.methodLink "Graphline" (159 : Nat) ({ cls := "Graphline$Clay", name := "<init>", desc := "(I[I)V" } : Jvm.MethodName)) ∈ lw_all := lw_g (lw_at lw_m3 170 rfl) rfl
theorem q676 : (Jvm.Cond.interfaceEntry "Graphline" (160 : Nat)) ∈ lw_tbl := lw_at lw_m3 179 rfl
theorem q677 : (Jvm.Cond.methodLink "Graphline" (160 : Nat) ({ cls := "java/util/List", name := "add", desc := "(Ljava/lang/Object;)Z" } : Jvm.MethodName)) ∈ lw_all := lw_g (lw_at lw_m3 180 rfl) rfl
theorem q711 : (Jvm.Cond.selects "Graphline" ({ cls := "java/lang/Object", name := "getClass", desc := "()Ljava/lang/Class;" } : Jvm.MethodName) ({ cls := "java/lang/Object", name := "getClass", desc := "()Ljava/lang/Class;" } : Jvm.MethodName)) ∈ lw_all := lw_g (lw_at lw_m3 214 rfl) rfl
theorem q781 : (Jvm.Cond.instanceMethod ({ cls := "Graphline", name := "kilos", desc := "(I)I" } : Jvm.MethodName)) ∈ lw_all := lw_g (lw_at lw_m4 44 rfl) rfl
theorem q782 : (Jvm.Cond.selects "Graphline" ({ cls := "Graphline", name := "kilos", desc := "(I)I" } : Jvm.MethodName) ({ cls := "Graphline", name := "kilos", desc := "(I)I" } : Jvm.MethodName)) ∈ lw_all := lw_g (lw_at lw_m4 45 rfl) rfl
theorem q783 : (Jvm.Cond.code ({ cls := "Graphline", name := "kilos", desc := "(I)I" } : Jvm.MethodName) prog_1_method_18_code (2 : Nat) (Option.some Jvm.ClassFile.FieldType.int)) ∈ lw_all := lw_g (lw_at lw_m4 46 rfl) rfl
theorem q784 : (Jvm.Cond.methodLink "Graphline" (164 : Nat) ({ cls := "Graphline", name := "require", desc := "(Ljava/util/List;I)Ljava/lang/Object;" } : Jvm.MethodName)) ∈ lw_all := lw_g (lw_at lw_m4 47 rfl) rfl
theorem q785 : (Jvm.Cond.static ({ cls := "Graphline", name := "require", desc := "(Ljava/util/List;I)Ljava/lang/Object;" } : Jvm.MethodName)) ∈ lw_all := lw_g (lw_at lw_m4 48 rfl) rfl
theorem q786 : (Jvm.Cond.code ({ cls := "Graphline", name := "require", desc := "(Ljava/util/List;I)Ljava/lang/Object;" } : Jvm.MethodName) prog_1_method_2_code (2 : Nat) (Option.some (Jvm.ClassFile.FieldType.object "java/lang/Object"))) ∈ lw_all := lw_g (lw_at lw_m4 49 rfl) rfl
theorem q787 : (Jvm.Cond.methodLink "Graphline" (13 : Nat) ({ cls := "Graphline", name := "requireIndex", desc := "(II)V" } : Jvm.MethodName)) ∈ lw_all := lw_g (lw_at lw_m4 50 rfl) rfl
theorem q788 : (Jvm.Cond.static ({ cls := "Graphline", name := "requireIndex", desc := "(II)V" } : Jvm.MethodName)) ∈ lw_all := lw_g (lw_at lw_m4 51 rfl) rfl
theorem q789 : (Jvm.Cond.code ({ cls := "Graphline", name := "requireIndex", desc := "(II)V" } : Jvm.MethodName) prog_1_method_1_code (2 : Nat) (Option.none : Option Jvm.ClassFile.FieldType)) ∈ lw_all := lw_g (lw_at lw_m4 52 rfl) rfl
theorem q790 : (Jvm.Cond.classLink "Graphline" (1 : Nat) "java/lang/IndexOutOfBoundsException") ∈ lw_all := lw_g (lw_at lw_m4 53 rfl) rfl
theorem q799 : (Jvm.Cond.methodLink "Graphline" (3 : Nat) ({ cls := "java/lang/IndexOutOfBoundsException", name := "<init>", desc := "()V" } : Jvm.MethodName)) ∈ lw_all := lw_g (lw_at lw_m4 62 rfl) rfl
theorem q805 : (Jvm.Cond.interfaceEntry "Graphline" (19 : Nat)) ∈ lw_tbl := lw_at lw_m4 68 rfl
theorem q806 : (Jvm.Cond.methodLink "Graphline" (19 : Nat) ({ cls := "java/util/List", name := "get", desc := "(I)Ljava/lang/Object;" } : Jvm.MethodName)) ∈ lw_all := lw_g (lw_at lw_m4 69 rfl) rfl
theorem q822 : (Jvm.Cond.classLink "Graphline" (168 : Nat) "Graphline$Lot") ∈ lw_all := lw_g (lw_at lw_m4 85 rfl) rfl
theorem q827 : (Jvm.Cond.instanceMethod ({ cls := "Graphline", name := "mix", desc := "(IIIII)I" } : Jvm.MethodName)) ∈ lw_all := lw_g (lw_at lw_m4 90 rfl) rfl
theorem q828 : (Jvm.Cond.selects "Graphline" ({ cls := "Graphline", name := "mix", desc := "(IIIII)I" } : Jvm.MethodName) ({ cls := "Graphline", name := "mix", desc := "(IIIII)I" } : Jvm.MethodName)) ∈ lw_all := lw_g (lw_at lw_m4 91 rfl) rfl
theorem q829 : (Jvm.Cond.code ({ cls := "Graphline", name := "mix", desc := "(IIIII)I" } : Jvm.MethodName) prog_1_method_19_code (9 : Nat) (Option.some Jvm.ClassFile.FieldType.int)) ∈ lw_all := lw_g (lw_at lw_m4 92 rfl) rfl
theorem q830 : (Jvm.Cond.methodLink "Graphline" (173 : Nat) ({ cls := "Graphline", name := "runs", desc := "(C)Z" } : Jvm.MethodName)) ∈ lw_all := lw_g (lw_at lw_m4 93 rfl) rfl
theorem q831 : (Jvm.Cond.classLink "Graphline" (176 : Nat) "Graphline$Mixture") ∈ lw_all := lw_g (lw_at lw_m4 94 rfl) rfl
theorem q833 : (Jvm.Cond.methodLink "Graphline" (178 : Nat) ({ cls := "Graphline$Mixture", name := "<init>", desc := "(LGraphline$Lot;LGraphline$Lot;III)V" } : Jvm.MethodName)) ∈ lw_all := lw_g (lw_at lw_m4 96 rfl) rfl
theorem q840 : (Jvm.Cond.fieldLinkNest "Graphline" (399 : Nat) "Graphline$Mixture" "graphite" "LGraphline$Lot;" "Graphline") ∈ lw_tbl := lw_at lw_m4 103 rfl
theorem q842 : (Jvm.Cond.fieldLinkNest "Graphline" (404 : Nat) "Graphline$Mixture" "clay" "LGraphline$Lot;" "Graphline") ∈ lw_tbl := lw_at lw_m4 105 rfl
theorem q844 : (Jvm.Cond.fieldLinkNest "Graphline" (183 : Nat) "Graphline$Mixture" "carbon" "I" "Graphline") ∈ lw_tbl := lw_at lw_m4 107 rfl
theorem q846 : (Jvm.Cond.fieldLinkNest "Graphline" (186 : Nat) "Graphline$Mixture" "fineness" "I" "Graphline") ∈ lw_tbl := lw_at lw_m4 109 rfl
theorem q848 : (Jvm.Cond.fieldLinkNest "Graphline" (189 : Nat) "Graphline$Mixture" "kilos" "I" "Graphline") ∈ lw_tbl := lw_at lw_m4 111 rfl
theorem q864 : (Jvm.Cond.instanceMethod ({ cls := "Graphline", name := "mixture", desc := "(IC)I" } : Jvm.MethodName)) ∈ lw_all := lw_g (lw_at lw_m4 127 rfl) rfl
theorem q865 : (Jvm.Cond.selects "Graphline" ({ cls := "Graphline", name := "mixture", desc := "(IC)I" } : Jvm.MethodName) ({ cls := "Graphline", name := "mixture", desc := "(IC)I" } : Jvm.MethodName)) ∈ lw_all := lw_g (lw_at lw_m4 128 rfl) rfl
theorem q866 : (Jvm.Cond.code ({ cls := "Graphline", name := "mixture", desc := "(IC)I" } : Jvm.MethodName) prog_1_method_20_code (4 : Nat) (Option.some Jvm.ClassFile.FieldType.int)) ∈ lw_all := lw_g (lw_at lw_m4 129 rfl) rfl
theorem q867 : (Jvm.Cond.stringRef "Graphline" (181 : Nat) "cfk") ∈ lw_tbl := lw_at lw_m4 130 rfl
theorem q872 : (Jvm.Cond.instanceMethod ({ cls := "Graphline", name := "press", desc := "(III)I" } : Jvm.MethodName)) ∈ lw_all := lw_g (lw_at lw_m4 135 rfl) rfl
theorem q873 : (Jvm.Cond.selects "Graphline" ({ cls := "Graphline", name := "press", desc := "(III)I" } : Jvm.MethodName) ({ cls := "Graphline", name := "press", desc := "(III)I" } : Jvm.MethodName)) ∈ lw_all := lw_g (lw_at lw_m4 136 rfl) rfl
theorem q874 : (Jvm.Cond.code ({ cls := "Graphline", name := "press", desc := "(III)I" } : Jvm.MethodName) prog_1_method_22_code (5 : Nat) (Option.some Jvm.ClassFile.FieldType.int)) ∈ lw_all := lw_g (lw_at lw_m4 137 rfl) rfl
theorem q875 : (Jvm.Cond.methodLink "Graphline" (190 : Nat) ({ cls := "Graphline", name := "requireDie", desc := "(I)I" } : Jvm.MethodName)) ∈ lw_all := lw_g (lw_at lw_m4 138 rfl) rfl
theorem q876 : (Jvm.Cond.static ({ cls := "Graphline", name := "requireDie", desc := "(I)I" } : Jvm.MethodName)) ∈ lw_all := lw_g (lw_at lw_m4 139 rfl) rfl
theorem q877 : (Jvm.Cond.code ({ cls := "Graphline", name := "requireDie", desc := "(I)I" } : Jvm.MethodName) prog_1_method_21_code (1 : Nat) (Option.some Jvm.ClassFile.FieldType.int)) ∈ lw_all := lw_g (lw_at lw_m4 140 rfl) rfl
theorem q879 : (Jvm.Cond.methodLink "Graphline" (195 : Nat) ({ cls := "Graphline$Batch", name := "<init>", desc := "(ILGraphline$Mixture;II)V" } : Jvm.MethodName)) ∈ lw_all := lw_g (lw_at lw_m4 142 rfl) rfl
theorem q884 : (Jvm.Cond.fieldLinkNest "Graphline" (391 : Nat) "Graphline$Batch" "number" "I" "Graphline") ∈ lw_tbl := lw_at lw_m4 147 rfl
theorem q886 : (Jvm.Cond.fieldLinkNest "Graphline" (207 : Nat) "Graphline$Batch" "mixture" "LGraphline$Mixture;" "Graphline") ∈ lw_tbl := lw_at lw_m4 149 rfl
theorem q889 : (Jvm.Cond.fieldLinkNest "Graphline" (251 : Nat) "Graphline$Batch" "bore" "I" "Graphline") ∈ lw_tbl := lw_at lw_m4 152 rfl
theorem q891 : (Jvm.Cond.fieldLinkNest "Graphline" (204 : Nat) "Graphline$Batch" "leads" "I" "Graphline") ∈ lw_tbl := lw_at lw_m4 154 rfl
theorem q892 : (Jvm.Cond.fieldLinkNest "Graphline" (211 : Nat) "Graphline$Batch" "warped" "I" "Graphline") ∈ lw_tbl := lw_at lw_m4 155 rfl
theorem q894 : (Jvm.Cond.fieldLinkNest "Graphline" (201 : Nat) "Graphline$Batch" "ready" "I" "Graphline") ∈ lw_tbl := lw_at lw_m4 157 rfl
theorem q895 : (Jvm.Cond.fieldLinkNest "Graphline" (198 : Nat) "Graphline$Batch" "isDried" "Z" "Graphline") ∈ lw_tbl := lw_at lw_m4 158 rfl
theorem q896 : (Jvm.Cond.fieldLinkNest "Graphline" (246 : Nat) "Graphline$Batch" "isSoaked" "Z" "Graphline") ∈ lw_tbl := lw_at lw_m4 159 rfl
theorem q898 : (Jvm.Cond.fieldLinkNest "Graphline" (243 : Nat) "Graphline$Batch" "firing" "I" "Graphline") ∈ lw_tbl := lw_at lw_m4 161 rfl
theorem q900 : (Jvm.Cond.fieldLinkNest "Graphline" (237 : Nat) "Graphline$Batch" "kiln" "I" "Graphline") ∈ lw_tbl := lw_at lw_m4 163 rfl
theorem q901 : (Jvm.Cond.fieldLinkNest "Graphline" (222 : Nat) "Graphline$Batch" "strength" "I" "Graphline") ∈ lw_tbl := lw_at lw_m4 164 rfl
theorem q904 : (Jvm.Cond.fieldLinkNest "Graphline" (234 : Nat) "Graphline$Batch" "darkness" "I" "Graphline") ∈ lw_tbl := lw_at lw_m4 167 rfl
theorem q934 : (Jvm.Cond.instanceMethod ({ cls := "Graphline", name := "worn", desc := "(I)I" } : Jvm.MethodName)) ∈ lw_all := lw_g (lw_at lw_m4 197 rfl) rfl
theorem q935 : (Jvm.Cond.selects "Graphline" ({ cls := "Graphline", name := "worn", desc := "(I)I" } : Jvm.MethodName) ({ cls := "Graphline", name := "worn", desc := "(I)I" } : Jvm.MethodName)) ∈ lw_all := lw_g (lw_at lw_m4 198 rfl) rfl
theorem q936 : (Jvm.Cond.code ({ cls := "Graphline", name := "worn", desc := "(I)I" } : Jvm.MethodName) prog_1_method_23_code (2 : Nat) (Option.some Jvm.ClassFile.FieldType.int)) ∈ lw_all := lw_g (lw_at lw_m4 199 rfl) rfl
theorem q941 : (Jvm.Cond.instanceMethod ({ cls := "Graphline", name := "renew", desc := "(I)I" } : Jvm.MethodName)) ∈ lw_all := lw_g (lw_at lw_m4 204 rfl) rfl
theorem q942 : (Jvm.Cond.selects "Graphline" ({ cls := "Graphline", name := "renew", desc := "(I)I" } : Jvm.MethodName) ({ cls := "Graphline", name := "renew", desc := "(I)I" } : Jvm.MethodName)) ∈ lw_all := lw_g (lw_at lw_m4 205 rfl) rfl
theorem q943 : (Jvm.Cond.code ({ cls := "Graphline", name := "renew", desc := "(I)I" } : Jvm.MethodName) prog_1_method_24_code (3 : Nat) (Option.some Jvm.ClassFile.FieldType.int)) ∈ lw_all := lw_g (lw_at lw_m4 206 rfl) rfl
theorem q948 : (Jvm.Cond.instanceMethod ({ cls := "Graphline", name := "dry", desc := "(II)I" } : Jvm.MethodName)) ∈ lw_all := lw_g (lw_at lw_m4 211 rfl) rfl
theorem q949 : (Jvm.Cond.selects "Graphline" ({ cls := "Graphline", name := "dry", desc := "(II)I" } : Jvm.MethodName) ({ cls := "Graphline", name := "dry", desc := "(II)I" } : Jvm.MethodName)) ∈ lw_all := lw_g (lw_at lw_m4 212 rfl) rfl
theorem q950 : (Jvm.Cond.code ({ cls := "Graphline", name := "dry", desc := "(II)I" } : Jvm.MethodName) prog_1_method_25_code (4 : Nat) (Option.some Jvm.ClassFile.FieldType.int)) ∈ lw_all := lw_g (lw_at lw_m4 213 rfl) rfl
theorem q955 : (Jvm.Cond.instanceMethod ({ cls := "Graphline", name := "fire", desc := "(IIII)I" } : Jvm.MethodName)) ∈ lw_all := lw_g (lw_at lw_m4 218 rfl) rfl
theorem q956 : (Jvm.Cond.selects "Graphline" ({ cls := "Graphline", name := "fire", desc := "(IIII)I" } : Jvm.MethodName) ({ cls := "Graphline", name := "fire", desc := "(IIII)I" } : Jvm.MethodName)) ∈ lw_all := lw_g (lw_at lw_m4 219 rfl) rfl
theorem q957 : (Jvm.Cond.code ({ cls := "Graphline", name := "fire", desc := "(IIII)I" } : Jvm.MethodName) prog_1_method_26_code (7 : Nat) (Option.some Jvm.ClassFile.FieldType.int)) ∈ lw_all := lw_g (lw_at lw_m4 220 rfl) rfl
theorem q958 : (Jvm.Cond.methodLink "Graphline" (214 : Nat) ({ cls := "Graphline$Batch", name := "isReady", desc := "(I)Z" } : Jvm.MethodName)) ∈ lw_all := lw_g (lw_at lw_m4 221 rfl) rfl
theorem q962 : (Jvm.Cond.methodLink "Graphline" (218 : Nat) ({ cls := "Graphline$Batch", name := "isFired", desc := "()Z" } : Jvm.MethodName)) ∈ lw_all := lw_g (lw_at lw_m4 225 rfl) rfl
theorem q966 : (Jvm.Cond.methodLink "Graphline" (225 : Nat) ({ cls := "java/lang/Math", name := "min", desc := "(II)I" } : Jvm.MethodName)) ∈ lw_all := lw_g (lw_at lw_m4 229 rfl) rfl
theorem q967 : (Jvm.Cond.methodLink "Graphline" (231 : Nat) ({ cls := "java/lang/Math", name := "max", desc := "(II)I" } : Jvm.MethodName)) ∈ lw_all := lw_g (lw_at lw_m4 230 rfl) rfl
theorem q972 : (Jvm.Cond.instanceMethod ({ cls := "Graphline", name := "soak", desc := "(II)I" } : Jvm.MethodName)) ∈ lw_all := lw_g (lw_at lw_m4 235 rfl) rfl
theorem q973 : (Jvm.Cond.selects "Graphline" ({ cls := "Graphline", name := "soak", desc := "(II)I" } : Jvm.MethodName) ({ cls := "Graphline", name := "soak", desc := "(II)I" } : Jvm.MethodName)) ∈ lw_all := lw_g (lw_at lw_m4 236 rfl) rfl
theorem q974 : (Jvm.Cond.code ({ cls := "Graphline", name := "soak", desc := "(II)I" } : Jvm.MethodName) prog_1_method_27_code (4 : Nat) (Option.some Jvm.ClassFile.FieldType.int)) ∈ lw_all := lw_g (lw_at lw_m4 237 rfl) rfl
theorem q979 : (Jvm.Cond.instanceMethod ({ cls := "Graphline", name := "batch", desc := "(IC)I" } : Jvm.MethodName)) ∈ lw_all := lw_g (lw_at lw_m5 2 rfl) rfl
theorem q980 : (Jvm.Cond.selects "Graphline" ({ cls := "Graphline", name := "batch", desc := "(IC)I" } : Jvm.MethodName) ({ cls := "Graphline", name := "batch", desc := "(IC)I" } : Jvm.MethodName)) ∈ lw_all := lw_g (lw_at lw_m5 3 rfl) rfl
theorem q981 : (Jvm.Cond.code ({ cls := "Graphline", name := "batch", desc := "(IC)I" } : Jvm.MethodName) prog_1_method_28_code (4 : Nat) (Option.some Jvm.ClassFile.FieldType.int)) ∈ lw_all := lw_g (lw_at lw_m5 4 rfl) rfl
theorem q982 : (Jvm.Cond.stringRef "Graphline" (249 : Nat) "nwbrsdf") ∈ lw_tbl := lw_at lw_m5 5 rfl
theorem q987 : (Jvm.Cond.instanceMethod ({ cls := "Graphline", name := "draw", desc := "(I)I" } : Jvm.MethodName)) ∈ lw_all := lw_g (lw_at lw_m5 10 rfl) rfl
theorem q988 : (Jvm.Cond.selects "Graphline" ({ cls := "Graphline", name := "draw", desc := "(I)I" } : Jvm.MethodName) ({ cls := "Graphline", name := "draw", desc := "(I)I" } : Jvm.MethodName)) ∈ lw_all := lw_g (lw_at lw_m5 11 rfl) rfl
theorem q989 : (Jvm.Cond.code ({ cls := "Graphline", name := "draw", desc := "(I)I" } : Jvm.MethodName) prog_1_method_29_code (3 : Nat) (Option.some Jvm.ClassFile.FieldType.int)) ∈ lw_all := lw_g (lw_at lw_m5 12 rfl) rfl
theorem q990 : (Jvm.Cond.methodLink "Graphline" (254 : Nat) ({ cls := "Graphline$Wheel", name := "draws", desc := "(LGraphline$Batch;)I" } : Jvm.MethodName)) ∈ lw_all := lw_g (lw_at lw_m5 13 rfl) rfl
theorem q1000 : (Jvm.Cond.instanceMethod ({ cls := "Graphline", name := "slats", desc := "(CIII)I" } : Jvm.MethodName)) ∈ lw_all := lw_g (lw_at lw_m5 23 rfl) rfl
theorem q1001 : (Jvm.Cond.selects "Graphline" ({ cls := "Graphline", name := "slats", desc := "(CIII)I" } : Jvm.MethodName) ({ cls := "Graphline", name := "slats", desc := "(CIII)I" } : Jvm.MethodName)) ∈ lw_all := lw_g (lw_at lw_m5 24 rfl) rfl
theorem q1002 : (Jvm.Cond.code ({ cls := "Graphline", name := "slats", desc := "(CIII)I" } : Jvm.MethodName) prog_1_method_31_code (5 : Nat) (Option.some Jvm.ClassFile.FieldType.int)) ∈ lw_all := lw_g (lw_at lw_m5 25 rfl) rfl
theorem q1003 : (Jvm.Cond.classLink "Graphline" (261 : Nat) "Graphline$Slats") ∈ lw_all := lw_g (lw_at lw_m5 26 rfl) rfl
theorem q1005 : (Jvm.Cond.methodLink "Graphline" (263 : Nat) ({ cls := "Graphline$Slats", name := "<init>", desc := "(IZIII)V" } : Jvm.MethodName)) ∈ lw_all := lw_g (lw_at lw_m5 28 rfl) rfl
theorem q1010 : (Jvm.Cond.fieldLinkNest "Graphline" (395 : Nat) "Graphline$Slats" "number" "I" "Graphline") ∈ lw_tbl := lw_at lw_m5 33 rfl
theorem q1012 : (Jvm.Cond.fieldLinkNest "Graphline" (270 : Nat) "Graphline$Slats" "isCedar" "Z" "Graphline") ∈ lw_tbl := lw_at lw_m5 35 rfl
theorem q1016 : (Jvm.Cond.fieldLinkNest "Graphline" (267 : Nat) "Graphline$Slats" "wetness" "I" "Graphline") ∈ lw_tbl := lw_at lw_m5 39 rfl
theorem q1018 : (Jvm.Cond.fieldLinkNest "Graphline" (276 : Nat) "Graphline$Slats" "many" "I" "Graphline") ∈ lw_tbl := lw_at lw_m5 41 rfl
theorem q1020 : (Jvm.Cond.fieldLinkNest "Graphline" (273 : Nat) "Graphline$Slats" "width" "I" "Graphline") ∈ lw_tbl := lw_at lw_m5 43 rfl
theorem q1021 : (Jvm.Cond.fieldLinkNest "Graphline" (266 : Nat) "Graphline$Slats" "ready" "I" "Graphline") ∈ lw_tbl := lw_at lw_m5 44 rfl
theorem q1041 : (Jvm.Cond.instanceMethod ({ cls := "Graphline", name := "season", desc := "(II)I" } : Jvm.MethodName)) ∈ lw_all := lw_g (lw_at lw_m5 64 rfl) rfl
theorem q1042 : (Jvm.Cond.selects "Graphline" ({ cls := "Graphline", name := "season", desc := "(II)I" } : Jvm.MethodName) ({ cls := "Graphline", name := "season", desc := "(II)I" } : Jvm.MethodName)) ∈ lw_all := lw_g (lw_at lw_m5 65 rfl) rfl
theorem q1043 : (Jvm.Cond.code ({ cls := "Graphline", name := "season", desc := "(II)I" } : Jvm.MethodName) prog_1_method_32_code (4 : Nat) (Option.some Jvm.ClassFile.FieldType.int)) ∈ lw_all := lw_g (lw_at lw_m5 66 rfl) rfl
theorem q1048 : (Jvm.Cond.instanceMethod ({ cls := "Graphline", name := "groove", desc := "(II)I" } : Jvm.MethodName)) ∈ lw_all := lw_g (lw_at lw_m5 71 rfl) rfl
theorem q1049 : (Jvm.Cond.selects "Graphline" ({ cls := "Graphline", name := "groove", desc := "(II)I" } : Jvm.MethodName) ({ cls := "Graphline", name := "groove", desc := "(II)I" } : Jvm.MethodName)) ∈ lw_all := lw_g (lw_at lw_m5 72 rfl) rfl
theorem q1050 : (Jvm.Cond.code ({ cls := "Graphline", name := "groove", desc := "(II)I" } : Jvm.MethodName) prog_1_method_33_code (4 : Nat) (Option.some Jvm.ClassFile.FieldType.int)) ∈ lw_all := lw_g (lw_at lw_m5 73 rfl) rfl
theorem q1055 : (Jvm.Cond.instanceMethod ({ cls := "Graphline", name := "slat", desc := "(IC)I" } : Jvm.MethodName)) ∈ lw_all := lw_g (lw_at lw_m5 78 rfl) rfl
theorem q1056 : (Jvm.Cond.selects "Graphline" ({ cls := "Graphline", name := "slat", desc := "(IC)I" } : Jvm.MethodName) ({ cls := "Graphline", name := "slat", desc := "(IC)I" } : Jvm.MethodName)) ∈ lw_all := lw_g (lw_at lw_m5 79 rfl) rfl
theorem q1057 : (Jvm.Cond.code ({ cls := "Graphline", name := "slat", desc := "(IC)I" } : Jvm.MethodName) prog_1_method_34_code (4 : Nat) (Option.some Jvm.ClassFile.FieldType.int)) ∈ lw_all := lw_g (lw_at lw_m5 80 rfl) rfl
theorem q1058 : (Jvm.Cond.stringRef "Graphline" (279 : Nat) "nwgr") ∈ lw_tbl := lw_at lw_m5 81 rfl
theorem q1063 : (Jvm.Cond.instanceMethod ({ cls := "Graphline", name := "lay", desc := "(IICII)I" } : Jvm.MethodName)) ∈ lw_all := lw_g (lw_at lw_m5 86 rfl) rfl
theorem q1064 : (Jvm.Cond.selects "Graphline" ({ cls := "Graphline", name := "lay", desc := "(IICII)I" } : Jvm.MethodName) ({ cls := "Graphline", name := "lay", desc := "(IICII)I" } : Jvm.MethodName)) ∈ lw_all := lw_g (lw_at lw_m5 87 rfl) rfl
theorem q1065 : (Jvm.Cond.code ({ cls := "Graphline", name := "lay", desc := "(IICII)I" } : Jvm.MethodName) prog_1_method_35_code (12 : Nat) (Option.some Jvm.ClassFile.FieldType.int)) ∈ lw_all := lw_g (lw_at lw_m5 88 rfl) rfl
theorem q1066 : (Jvm.Cond.stringRef "Graphline" (281 : Nat) "603") ∈ lw_tbl := lw_at lw_m5 89 rfl
theorem q1067 : (Jvm.Cond.methodLink "Graphline" (283 : Nat) ({ cls := "Graphline$Run", name := "misfit", desc := "(LGraphline$Batch;LGraphline$Slats;)I" } : Jvm.MethodName)) ∈ lw_all := lw_g (lw_at lw_m5 90 rfl) rfl
theorem q1074 : (Jvm.Cond.methodLink "Graphline" (292 : Nat) ({ cls := "Graphline$Run", name := "<init>", desc := "(ILGraphline$Batch;LGraphline$Slats;II)V" } : Jvm.MethodName)) ∈ lw_all := lw_g (lw_at lw_m5 97 rfl) rfl
theorem q1080 : (Jvm.Cond.fieldLinkNest "Graphline" (296 : Nat) "Graphline$Run" "number" "I" "Graphline") ∈ lw_tbl := lw_at lw_m5 103 rfl
theorem q1083 : (Jvm.Cond.fieldLinkNest "Graphline" (308 : Nat) "Graphline$Run" "batch" "LGraphline$Batch;" "Graphline") ∈ lw_tbl := lw_at lw_m5 106 rfl
theorem q1085 : (Jvm.Cond.fieldLinkNest "Graphline" (392 : Nat) "Graphline$Run" "slats" "LGraphline$Slats;" "Graphline") ∈ lw_tbl := lw_at lw_m5 108 rfl
theorem q1087 : (Jvm.Cond.fieldLinkNest "Graphline" (396 : Nat) "Graphline$Run" "hand" "I" "Graphline") ∈ lw_tbl := lw_at lw_m5 110 rfl
theorem q1089 : (Jvm.Cond.fieldLinkNest "Graphline" (323 : Nat) "Graphline$Run" "off" "I" "Graphline") ∈ lw_tbl := lw_at lw_m5 112 rfl
theorem q1091 : (Jvm.Cond.fieldLinkNest "Graphline" (315 : Nat) "Graphline$Run" "pencils" "I" "Graphline") ∈ lw_tbl := lw_at lw_m5 114 rfl
theorem q1093 : (Jvm.Cond.fieldLinkNest "Graphline" (320 : Nat) "Graphline$Run" "broken" "I" "Graphline") ∈ lw_tbl := lw_at lw_m5 116 rfl
theorem q1094 : (Jvm.Cond.fieldLinkNest "Graphline" (299 : Nat) "Graphline$Run" "coats" "I" "Graphline") ∈ lw_tbl := lw_at lw_m5 117 rfl
theorem q1096 : (Jvm.Cond.fieldLinkNest "Graphline" (302 : Nat) "Graphline$Run" "colour" "I" "Graphline") ∈ lw_tbl := lw_at lw_m5 119 rfl
theorem q1099 : (Jvm.Cond.fieldLinkNest "Graphline" (305 : Nat) "Graphline$Run" "stamp" "I" "Graphline") ∈ lw_tbl := lw_at lw_m5 122 rfl
theorem q1100 : (Jvm.Cond.fieldLinkNest "Graphline" (295 : Nat) "Graphline$Run" "ready" "I" "Graphline") ∈ lw_tbl := lw_at lw_m5 123 rfl
theorem q1101 : (Jvm.Cond.fieldLinkNest "Graphline" (312 : Nat) "Graphline$Run" "hasErasers" "Z" "Graphline") ∈ lw_tbl := lw_at lw_m5 124 rfl
theorem q1131 : (Jvm.Cond.instanceMethod ({ cls := "Graphline", name := "coat", desc := "(II)I" } : Jvm.MethodName)) ∈ lw_all := lw_g (lw_at lw_m5 154 rfl) rfl
theorem q1132 : (Jvm.Cond.selects "Graphline" ({ cls := "Graphline", name := "coat", desc := "(II)I" } : Jvm.MethodName) ({ cls := "Graphline", name := "coat", desc := "(II)I" } : Jvm.MethodName)) ∈ lw_all := lw_g (lw_at lw_m5 155 rfl) rfl
theorem q1133 : (Jvm.Cond.code ({ cls := "Graphline", name := "coat", desc := "(II)I" } : Jvm.MethodName) prog_1_method_36_code (4 : Nat) (Option.some Jvm.ClassFile.FieldType.int)) ∈ lw_all := lw_g (lw_at lw_m5 156 rfl) rfl
theorem q1138 : (Jvm.Cond.instanceMethod ({ cls := "Graphline", name := "stamp", desc := "(I)I" } : Jvm.MethodName)) ∈ lw_all := lw_g (lw_at lw_m5 161 rfl) rfl
theorem q1139 : (Jvm.Cond.selects "Graphline" ({ cls := "Graphline", name := "stamp", desc := "(I)I" } : Jvm.MethodName) ({ cls := "Graphline", name := "stamp", desc := "(I)I" } : Jvm.MethodName)) ∈ lw_all := lw_g (lw_at lw_m5 162 rfl) rfl
theorem q1140 : (Jvm.Cond.code ({ cls := "Graphline", name := "stamp", desc := "(I)I" } : Jvm.MethodName) prog_1_method_37_code (3 : Nat) (Option.some Jvm.ClassFile.FieldType.int)) ∈ lw_all := lw_g (lw_at lw_m5 163 rfl) rfl
theorem q1145 : (Jvm.Cond.instanceMethod ({ cls := "Graphline", name := "erase", desc := "(II)I" } : Jvm.MethodName)) ∈ lw_all := lw_g (lw_at lw_m5 168 rfl) rfl
theorem q1146 : (Jvm.Cond.selects "Graphline" ({ cls := "Graphline", name := "erase", desc := "(II)I" } : Jvm.MethodName) ({ cls := "Graphline", name := "erase", desc := "(II)I" } : Jvm.MethodName)) ∈ lw_all := lw_g (lw_at lw_m5 169 rfl) rfl
theorem q1147 : (Jvm.Cond.code ({ cls := "Graphline", name := "erase", desc := "(II)I" } : Jvm.MethodName) prog_1_method_38_code (4 : Nat) (Option.some Jvm.ClassFile.FieldType.int)) ∈ lw_all := lw_g (lw_at lw_m5 170 rfl) rfl
theorem q1152 : (Jvm.Cond.instanceMethod ({ cls := "Graphline", name := "run", desc := "(IC)I" } : Jvm.MethodName)) ∈ lw_all := lw_g (lw_at lw_m5 175 rfl) rfl
theorem q1153 : (Jvm.Cond.selects "Graphline" ({ cls := "Graphline", name := "run", desc := "(IC)I" } : Jvm.MethodName) ({ cls := "Graphline", name := "run", desc := "(IC)I" } : Jvm.MethodName)) ∈ lw_all := lw_g (lw_at lw_m5 176 rfl) rfl
theorem q1154 : (Jvm.Cond.code ({ cls := "Graphline", name := "run", desc := "(IC)I" } : Jvm.MethodName) prog_1_method_39_code (4 : Nat) (Option.some Jvm.ClassFile.FieldType.int)) ∈ lw_all := lw_g (lw_at lw_m5 177 rfl) rfl
theorem q1155 : (Jvm.Cond.stringRef "Graphline" (318 : Nat) "nbclgor") ∈ lw_tbl := lw_at lw_m5 178 rfl
theorem q1160 : (Jvm.Cond.instanceMethod ({ cls := "Graphline", name := "fall", desc := "(II)I" } : Jvm.MethodName)) ∈ lw_all := lw_g (lw_at lw_m5 183 rfl) rfl
theorem q1161 : (Jvm.Cond.selects "Graphline" ({ cls := "Graphline", name := "fall", desc := "(II)I" } : Jvm.MethodName) ({ cls := "Graphline", name := "fall", desc := "(II)I" } : Jvm.MethodName)) ∈ lw_all := lw_g (lw_at lw_m5 184 rfl) rfl
theorem q1162 : (Jvm.Cond.code ({ cls := "Graphline", name := "fall", desc := "(II)I" } : Jvm.MethodName) prog_1_method_40_code (6 : Nat) (Option.some Jvm.ClassFile.FieldType.int)) ∈ lw_all := lw_g (lw_at lw_m5 185 rfl) rfl
theorem q1163 : (Jvm.Cond.methodLink "Graphline" (326 : Nat) ({ cls := "Graphline$Run", name := "whole", desc := "()I" } : Jvm.MethodName)) ∈ lw_all := lw_g (lw_at lw_m5 186 rfl) rfl
theorem q1171 : (Jvm.Cond.instanceMethod ({ cls := "Graphline", name := "sample", desc := "(II)I" } : Jvm.MethodName)) ∈ lw_all := lw_g (lw_at lw_m5 194 rfl) rfl
theorem q1172 : (Jvm.Cond.selects "Graphline" ({ cls := "Graphline", name := "sample", desc := "(II)I" } : Jvm.MethodName) ({ cls := "Graphline", name := "sample", desc := "(II)I" } : Jvm.MethodName)) ∈ lw_all := lw_g (lw_at lw_m5 195 rfl) rfl
theorem q1173 : (Jvm.Cond.code ({ cls := "Graphline", name := "sample", desc := "(II)I" } : Jvm.MethodName) prog_1_method_41_code (7 : Nat) (Option.some Jvm.ClassFile.FieldType.int)) ∈ lw_all := lw_g (lw_at lw_m5 196 rfl) rfl
theorem q1174 : (Jvm.Cond.constantLong "Graphline" (329 : Nat) (48271 : Int64)) ∈ lw_all := lw_g (lw_at lw_m5 197 rfl) rfl
theorem q1175 : (Jvm.Cond.constantLong "Graphline" (331 : Nat) (2147483647 : Int64)) ∈ lw_all := lw_g (lw_at lw_m5 198 rfl) rfl
theorem q1180 : (Jvm.Cond.instanceMethod ({ cls := "Graphline", name := "seed", desc := "(I)I" } : Jvm.MethodName)) ∈ lw_all := lw_g (lw_at lw_m5 203 rfl) rfl
theorem q1181 : (Jvm.Cond.selects "Graphline" ({ cls := "Graphline", name := "seed", desc := "(I)I" } : Jvm.MethodName) ({ cls := "Graphline", name := "seed", desc := "(I)I" } : Jvm.MethodName)) ∈ lw_all := lw_g (lw_at lw_m5 204 rfl) rfl
theorem q1182 : (Jvm.Cond.code ({ cls := "Graphline", name := "seed", desc := "(I)I" } : Jvm.MethodName) prog_1_method_42_code (3 : Nat) (Option.some Jvm.ClassFile.FieldType.int)) ∈ lw_all := lw_g (lw_at lw_m5 205 rfl) rfl
theorem q1183 : (Jvm.Cond.constant "Graphline" (336 : Nat) (2147483646 : Int32)) ∈ lw_all := lw_g (lw_at lw_m5 206 rfl) rfl
theorem q1188 : (Jvm.Cond.instanceMethod ({ cls := "Graphline", name := "gross", desc := "(I)I" } : Jvm.MethodName)) ∈ lw_all := lw_g (lw_at lw_m5 211 rfl) rfl
theorem q1189 : (Jvm.Cond.selects "Graphline" ({ cls := "Graphline", name := "gross", desc := "(I)I" } : Jvm.MethodName) ({ cls := "Graphline", name := "gross", desc := "(I)I" } : Jvm.MethodName)) ∈ lw_all := lw_g (lw_at lw_m5 212 rfl) rfl
theorem q1190 : (Jvm.Cond.code ({ cls := "Graphline", name := "gross", desc := "(I)I" } : Jvm.MethodName) prog_1_method_43_code (2 : Nat) (Option.some Jvm.ClassFile.FieldType.int)) ∈ lw_all := lw_g (lw_at lw_m5 213 rfl) rfl
theorem q1192 : (Jvm.Cond.methodLink "Graphline" (339 : Nat) ({ cls := "Graphline$Gross", name := "<init>", desc := "(I)V" } : Jvm.MethodName)) ∈ lw_all := lw_g (lw_at lw_m5 215 rfl) rfl
theorem q1199 : (Jvm.Cond.fieldLinkNest "Graphline" (340 : Nat) "Graphline$Gross" "grade" "I" "Graphline") ∈ lw_tbl := lw_at lw_m5 222 rfl
theorem q1201 : (Jvm.Cond.fieldLinkNest "Graphline" (348 : Nat) "Graphline$Gross" "parts" "Ljava/util/List;" "Graphline") ∈ lw_tbl := lw_at lw_m5 224 rfl
theorem q1202 : (Jvm.Cond.fieldLinkNest "Graphline" (345 : Nat) "Graphline$Gross" "isShipped" "Z" "Graphline") ∈ lw_tbl := lw_at lw_m5 225 rfl
theorem q1214 : (Jvm.Cond.instanceMethod ({ cls := "Graphline", name := "pack", desc := "(III)I" } : Jvm.MethodName)) ∈ lw_all := lw_g (lw_at lw_m5 237 rfl) rfl
theorem q1215 : (Jvm.Cond.selects "Graphline" ({ cls := "Graphline", name := "pack", desc := "(III)I" } : Jvm.MethodName) ({ cls := "Graphline", name := "pack", desc := "(III)I" } : Jvm.MethodName)) ∈ lw_all := lw_g (lw_at lw_m5 238 rfl) rfl
theorem q1216 : (Jvm.Cond.code ({ cls := "Graphline", name := "pack", desc := "(III)I" } : Jvm.MethodName) prog_1_method_44_code (8 : Nat) (Option.some Jvm.ClassFile.FieldType.int)) ∈ lw_all := lw_g (lw_at lw_m5 239 rfl) rfl
theorem q1217 : (Jvm.Cond.classLink "Graphline" (351 : Nat) "Graphline$Part") ∈ lw_all := lw_g (lw_at lw_m6 0 rfl) rfl
theorem q1219 : (Jvm.Cond.methodLinkNest "Graphline" (353 : Nat) ({ cls := "Graphline$Part", name := "<init>", desc := "(LGraphline$Run;II)V" } : Jvm.MethodName) "Graphline") ∈ lw_tbl := lw_at lw_m6 2 rfl
theorem q1240 : (Jvm.Cond.instanceMethod ({ cls := "Graphline", name := "order", desc := "(III)I" } : Jvm.MethodName)) ∈ lw_all := lw_g (lw_at lw_m6 23 rfl) rfl
theorem q1241 : (Jvm.Cond.selects "Graphline" ({ cls := "Graphline", name := "order", desc := "(III)I" } : Jvm.MethodName) ({ cls := "Graphline", name := "order", desc := "(III)I" } : Jvm.MethodName)) ∈ lw_all := lw_g (lw_at lw_m6 24 rfl) rfl
theorem q1242 : (Jvm.Cond.code ({ cls := "Graphline", name := "order", desc := "(III)I" } : Jvm.MethodName) prog_1_method_45_code (4 : Nat) (Option.some Jvm.ClassFile.FieldType.int)) ∈ lw_all := lw_g (lw_at lw_m6 25 rfl) rfl
theorem q1243 : (Jvm.Cond.classLink "Graphline" (356 : Nat) "Graphline$Order") ∈ lw_all := lw_g (lw_at lw_m6 26 rfl) rfl
theorem q1245 : (Jvm.Cond.methodLink "Graphline" (358 : Nat) ({ cls := "Graphline$Order", name := "<init>", desc := "(III)V" } : Jvm.MethodName)) ∈ lw_all := lw_g (lw_at lw_m6 28 rfl) rfl
theorem q1250 : (Jvm.Cond.fieldLinkNest "Graphline" (361 : Nat) "Graphline$Order" "grade" "I" "Graphline") ∈ lw_tbl := lw_at lw_m6 33 rfl
theorem q1253 : (Jvm.Cond.fieldLinkNest "Graphline" (371 : Nat) "Graphline$Order" "until" "I" "Graphline") ∈ lw_tbl := lw_at lw_m6 36 rfl
theorem q1255 : (Jvm.Cond.fieldLinkNest "Graphline" (365 : Nat) "Graphline$Order" "shipped" "I" "Graphline") ∈ lw_tbl := lw_at lw_m6 38 rfl
theorem q1256 : (Jvm.Cond.fieldLinkNest "Graphline" (368 : Nat) "Graphline$Order" "wasLate" "Z" "Graphline") ∈ lw_tbl := lw_at lw_m6 39 rfl
theorem q1272 : (Jvm.Cond.instanceMethod ({ cls := "Graphline", name := "ship", desc := "(II)I" } : Jvm.MethodName)) ∈ lw_all := lw_g (lw_at lw_m6 55 rfl) rfl
theorem q1273 : (Jvm.Cond.selects "Graphline" ({ cls := "Graphline", name := "ship", desc := "(II)I" } : Jvm.MethodName) ({ cls := "Graphline", name := "ship", desc := "(II)I" } : Jvm.MethodName)) ∈ lw_all := lw_g (lw_at lw_m6 56 rfl) rfl
theorem q1274 : (Jvm.Cond.code ({ cls := "Graphline", name := "ship", desc := "(II)I" } : Jvm.MethodName) prog_1_method_46_code (5 : Nat) (Option.some Jvm.ClassFile.FieldType.int)) ∈ lw_all := lw_g (lw_at lw_m6 57 rfl) rfl
theorem q1275 : (Jvm.Cond.methodLink "Graphline" (362 : Nat) ({ cls := "Graphline$Order", name := "lacks", desc := "()I" } : Jvm.MethodName)) ∈ lw_all := lw_g (lw_at lw_m6 58 rfl) rfl
theorem q1283 : (Jvm.Cond.instanceMethod ({ cls := "Graphline", name := "isLate", desc := "(I)Z" } : Jvm.MethodName)) ∈ lw_all := lw_g (lw_at lw_m6 66 rfl) rfl
theorem q1284 : (Jvm.Cond.selects "Graphline" ({ cls := "Graphline", name := "isLate", desc := "(I)Z" } : Jvm.MethodName) ({ cls := "Graphline", name := "isLate", desc := "(I)Z" } : Jvm.MethodName)) ∈ lw_all := lw_g (lw_at lw_m6 67 rfl) rfl
theorem q1285 : (Jvm.Cond.code ({ cls := "Graphline", name := "isLate", desc := "(I)Z" } : Jvm.MethodName) prog_1_method_47_code (3 : Nat) (Option.some Jvm.ClassFile.FieldType.boolean)) ∈ lw_all := lw_g (lw_at lw_m6 68 rfl) rfl
theorem q1290 : (Jvm.Cond.instanceMethod ({ cls := "Graphline", name := "claim", desc := "(I)Z" } : Jvm.MethodName)) ∈ lw_all := lw_g (lw_at lw_m6 73 rfl) rfl
theorem q1291 : (Jvm.Cond.selects "Graphline" ({ cls := "Graphline", name := "claim", desc := "(I)Z" } : Jvm.MethodName) ({ cls := "Graphline", name := "claim", desc := "(I)Z" } : Jvm.MethodName)) ∈ lw_all := lw_g (lw_at lw_m6 74 rfl) rfl
theorem q1292 : (Jvm.Cond.code ({ cls := "Graphline", name := "claim", desc := "(I)Z" } : Jvm.MethodName) prog_1_method_48_code (2 : Nat) (Option.some Jvm.ClassFile.FieldType.boolean)) ∈ lw_all := lw_g (lw_at lw_m6 75 rfl) rfl
theorem q1293 : (Jvm.Cond.static ({ cls := "Graphline", name := "lambda$claim$0", desc := "(LGraphline$Part;)Z" } : Jvm.MethodName)) ∈ lw_all := lw_g (lw_at lw_m6 76 rfl) rfl
theorem q1294 : (Jvm.Cond.code ({ cls := "Graphline", name := "lambda$claim$0", desc := "(LGraphline$Part;)Z" } : Jvm.MethodName) prog_1_method_68_code (1 : Nat) (Option.some Jvm.ClassFile.FieldType.boolean)) ∈ lw_all := lw_g (lw_at lw_m6 77 rfl) rfl
theorem q1295 : (Jvm.Cond.methodLink "Graphline" (469 : Nat) ({ cls := "Graphline$Part", name := "isTrue", desc := "()Z" } : Jvm.MethodName)) ∈ lw_all := lw_g (lw_at lw_m6 78 rfl) rfl
theorem q1308 : (Jvm.Cond.instanceMethod ({ cls := "Graphline", name := "parts", desc := "(I)I" } : Jvm.MethodName)) ∈ lw_all := lw_g (lw_at lw_m6 91 rfl) rfl
theorem q1309 : (Jvm.Cond.selects "Graphline" ({ cls := "Graphline", name := "parts", desc := "(I)I" } : Jvm.MethodName) ({ cls := "Graphline", name := "parts", desc := "(I)I" } : Jvm.MethodName)) ∈ lw_all := lw_g (lw_at lw_m6 92 rfl) rfl
theorem q1310 : (Jvm.Cond.code ({ cls := "Graphline", name := "parts", desc := "(I)I" } : Jvm.MethodName) prog_1_method_49_code (2 : Nat) (Option.some Jvm.ClassFile.FieldType.int)) ∈ lw_all := lw_g (lw_at lw_m6 93 rfl) rfl
theorem q1315 : (Jvm.Cond.instanceMethod ({ cls := "Graphline", name := "trace", desc := "(IIC)I" } : Jvm.MethodName)) ∈ lw_all := lw_g (lw_at lw_m6 98 rfl) rfl
theorem q1316 : (Jvm.Cond.selects "Graphline" ({ cls := "Graphline", name := "trace", desc := "(IIC)I" } : Jvm.MethodName) ({ cls := "Graphline", name := "trace", desc := "(IIC)I" } : Jvm.MethodName)) ∈ lw_all := lw_g (lw_at lw_m6 99 rfl) rfl
theorem q1317 : (Jvm.Cond.code ({ cls := "Graphline", name := "trace", desc := "(IIC)I" } : Jvm.MethodName) prog_1_method_50_code (6 : Nat) (Option.some Jvm.ClassFile.FieldType.int)) ∈ lw_all := lw_g (lw_at lw_m6 100 rfl) rfl
theorem q1318 : (Jvm.Cond.stringRef "Graphline" (382 : Nat) "rnxbfkshgc") ∈ lw_tbl := lw_at lw_m6 101 rfl
theorem q1319 : (Jvm.Cond.methodLink "Graphline" (388 : Nat) ({ cls := "Graphline$Part", name := "many", desc := "()I" } : Jvm.MethodName)) ∈ lw_all := lw_g (lw_at lw_m6 102 rfl) rfl
theorem q1320 : (Jvm.Cond.methodLink "Graphline" (389 : Nat) ({ cls := "Graphline$Part", name := "broken", desc := "()I" } : Jvm.MethodName)) ∈ lw_all := lw_g (lw_at lw_m6 103 rfl) rfl
theorem q1342 : (Jvm.Cond.instanceMethod ({ cls := "Graphline", name := "brokenShare", desc := "()F" } : Jvm.MethodName)) ∈ lw_all := lw_g (lw_at lw_m6 125 rfl) rfl
theorem q1343 : (Jvm.Cond.selects "Graphline" ({ cls := "Graphline", name := "brokenShare", desc := "()F" } : Jvm.MethodName) ({ cls := "Graphline", name := "brokenShare", desc := "()F" } : Jvm.MethodName)) ∈ lw_all := lw_g (lw_at lw_m6 126 rfl) rfl
theorem q1344 : (Jvm.Cond.code ({ cls := "Graphline", name := "brokenShare", desc := "()F" } : Jvm.MethodName) prog_1_method_53_code (2 : Nat) (Option.some Jvm.ClassFile.FieldType.float)) ∈ lw_all := lw_g (lw_at lw_m6 127 rfl) rfl
theorem q1345 : (Jvm.Cond.static ({ cls := "Graphline", name := "lambda$brokenShare$3", desc := "(LGraphline$Run;)I" } : Jvm.MethodName)) ∈ lw_all := lw_g (lw_at lw_m6 128 rfl) rfl
theorem q1346 : (Jvm.Cond.code ({ cls := "Graphline", name := "lambda$brokenShare$3", desc := "(LGraphline$Run;)I" } : Jvm.MethodName) prog_1_method_65_code (1 : Nat) (Option.some Jvm.ClassFile.FieldType.int)) ∈ lw_all := lw_g (lw_at lw_m6 129 rfl) rfl
theorem q1347 : (Jvm.Cond.classLink "Graphline" (434 : Nat) "java/lang/ArithmeticException") ∈ lw_all := lw_g (lw_at lw_m6 130 rfl) rfl
theorem q1348 : (Jvm.Cond.methodLink "Graphline" (436 : Nat) ({ cls := "java/lang/ArithmeticException", name := "<init>", desc := "()V" } : Jvm.MethodName)) ∈ lw_all := lw_g (lw_at lw_m6 131 rfl) rfl
theorem q1352 : (Jvm.Cond.static ({ cls := "Graphline", name := "lambda$brokenShare$4", desc := "(LGraphline$Run;)I" } : Jvm.MethodName)) ∈ lw_all := lw_g (lw_at lw_m6 135 rfl) rfl
theorem q1353 : (Jvm.Cond.code ({ cls := "Graphline", name := "lambda$brokenShare$4", desc := "(LGraphline$Run;)I" } : Jvm.MethodName) prog_1_method_64_code (1 : Nat) (Option.some Jvm.ClassFile.FieldType.int)) ∈ lw_all := lw_g (lw_at lw_m6 136 rfl) rfl
theorem q1358 : (Jvm.Cond.instanceMethod ({ cls := "Graphline", name := "meanDarkness", desc := "()D" } : Jvm.MethodName)) ∈ lw_all := lw_g (lw_at lw_m6 141 rfl) rfl
theorem q1359 : (Jvm.Cond.selects "Graphline" ({ cls := "Graphline", name := "meanDarkness", desc := "()D" } : Jvm.MethodName) ({ cls := "Graphline", name := "meanDarkness", desc := "()D" } : Jvm.MethodName)) ∈ lw_all := lw_g (lw_at lw_m6 142 rfl) rfl
theorem q1360 : (Jvm.Cond.code ({ cls := "Graphline", name := "meanDarkness", desc := "()D" } : Jvm.MethodName) prog_1_method_54_code (2 : Nat) (Option.some Jvm.ClassFile.FieldType.double)) ∈ lw_all := lw_g (lw_at lw_m6 143 rfl) rfl
theorem q1361 : (Jvm.Cond.static ({ cls := "Graphline", name := "lambda$meanDarkness$5", desc := "(LGraphline$Batch;)Z" } : Jvm.MethodName)) ∈ lw_all := lw_g (lw_at lw_m6 144 rfl) rfl
theorem q1362 : (Jvm.Cond.code ({ cls := "Graphline", name := "lambda$meanDarkness$5", desc := "(LGraphline$Batch;)Z" } : Jvm.MethodName) prog_1_method_63_code (1 : Nat) (Option.some Jvm.ClassFile.FieldType.boolean)) ∈ lw_all := lw_g (lw_at lw_m6 145 rfl) rfl
theorem q1363 : (Jvm.Cond.methodLink "Graphline" (439 : Nat) ({ cls := "Graphline", name := "those", desc := "(Ljava/lang/Iterable;Ljava/util/function/Predicate;)Ljava/util/List;" } : Jvm.MethodName)) ∈ lw_all := lw_g (lw_at lw_m6 146 rfl) rfl
theorem q1364 : (Jvm.Cond.static ({ cls := "Graphline", name := "those", desc := "(Ljava/lang/Iterable;Ljava/util/function/Predicate;)Ljava/util/List;" } : Jvm.MethodName)) ∈ lw_all := lw_g (lw_at lw_m6 147 rfl) rfl
theorem q1365 : (Jvm.Cond.code ({ cls := "Graphline", name := "those", desc := "(Ljava/lang/Iterable;Ljava/util/function/Predicate;)Ljava/util/List;" } : Jvm.MethodName) prog_1_method_58_code (5 : Nat) (Option.some (Jvm.ClassFile.FieldType.object "java/util/List"))) ∈ lw_all := lw_g (lw_at lw_m6 148 rfl) rfl
theorem q1366 : (Jvm.Cond.interfaceEntry "Graphline" (443 : Nat)) ∈ lw_tbl := lw_at lw_m6 149 rfl
theorem q1367 : (Jvm.Cond.methodLink "Graphline" (443 : Nat) ({ cls := "java/util/List", name := "isEmpty", desc := "()Z" } : Jvm.MethodName)) ∈ lw_all := lw_g (lw_at lw_m6 150 rfl) rfl
theorem q1375 : (Jvm.Cond.static ({ cls := "Graphline", name := "lambda$meanDarkness$6", desc := "(LGraphline$Batch;)I" } : Jvm.MethodName)) ∈ lw_all := lw_g (lw_at lw_m6 158 rfl) rfl
theorem q1376 : (Jvm.Cond.code ({ cls := "Graphline", name := "lambda$meanDarkness$6", desc := "(LGraphline$Batch;)I" } : Jvm.MethodName) prog_1_method_62_code (1 : Nat) (Option.some Jvm.ClassFile.FieldType.int)) ∈ lw_all := lw_g (lw_at lw_m6 159 rfl) rfl
theorem q1856 : (Jvm.Cond.castable "Graphline" "java/lang/Object") ∈ lw_tbl := lw_at lw_m8 159 rfl
theorem in_X1 : ∀ w ∈ wsX10, w ∈ lw_all := lw_in wsX10 [153, 155, 157, 159, 161, 163, 165, 167, 169, 171, 173, 175, 177, 179, 181, 183, 185, 187] (by decide +kernel) (by decide +kernel)
