/-! GraphlineModel$Batch -/
set_option maxRecDepth 100000
def RX10 : String := "GraphlineModel$Batch"
def TX10 : u_T := fun k => match k with
  | 0 => ("GraphlineModel$Batch", "mixture", "I", false)
  | 1 => ("GraphlineModel$Batch", "leads", "I", false)
  | 2 => ("GraphlineModel$Batch", "warped", "I", false)
  | 3 => ("GraphlineModel$Batch", "bore", "I", false)
  | 4 => ("GraphlineModel$Batch", "ready", "I", false)
  | 5 => ("GraphlineModel$Batch", "dried", "Z", false)
  | 6 => ("GraphlineModel$Batch", "firing", "I", false)
  | 7 => ("GraphlineModel$Batch", "kiln", "I", false)
  | 8 => ("GraphlineModel$Batch", "soaked", "Z", false)
  | 9 => ("GraphlineModel$Batch", "strength", "I", false)
  | _ => ("GraphlineModel$Batch", "darkness", "I", false)
def tyX10 : Nat → FieldType := fun k => match k with
  | 0 => .int
  | 1 => .int
  | 2 => .int
  | 3 => .int
  | 4 => .int
  | 5 => .boolean
  | 6 => .int
  | 7 => .int
  | 8 => .boolean
  | 9 => .int
  | _ => .int
abbrev wsX100 : List Cond := u_ws RX10 TX10 11
theorem nmX10 : ∀ a, a < 11 → ∀ b, b < 11 → a ≠ b → (TX10 a).2.1 ≠ (TX10 b).2.1 := by decide +kernel
theorem tyX10_ok : ∀ k, k < 11 → parseFieldDescriptor (TX10 k).2.2.1 = some (tyX10 k) := by decide +kernel
abbrev cX10_init : ByteArray := prog_16_method_1_code
def yX10_init : MethodName := ⟨RX10, "<init>", "()V"⟩
def dkwX10_init_0 : List UInt8 := [42, 183, 0, 3, 42, 2, 181, 0, 9, 177]
abbrev dktX10_init_0 : List UInt8 := dkwX10_init_0 ++ []
theorem dksX10_init_0 : cX10_init.data.toList.drop 0 = dktX10_init_0 := by decide +kernel
theorem dX10_init_0 : decode cX10_init 0 = .ok (.aload_n 0, 1) := dk_42 (dk_at dksX10_init_0 0 rfl rfl)
theorem dX10_init_1 : decode cX10_init 1 = .ok (.invokespecial 3, 3) := dk_183 0 3 (dk_at dksX10_init_0 1 rfl rfl)
theorem dX10_init_4 : decode cX10_init 4 = .ok (.aload_n 0, 1) := dk_42 (dk_at dksX10_init_0 4 rfl rfl)
theorem dX10_init_5 : decode cX10_init 5 = .ok (.iconst (-1), 1) := dk_2 (dk_at dksX10_init_0 5 rfl rfl)
theorem dX10_init_6 : decode cX10_init 6 = .ok (.putfield 9, 3) := dk_181 0 9 (dk_at dksX10_init_0 6 rfl rfl)
theorem dX10_init_9 : decode cX10_init 9 = .ok (.return_, 1) := dk_177 (dk_at dksX10_init_0 9 rfl rfl)
theorem q48 : (Jvm.Cond.initialized "GraphlineModel$Batch") ∈ lw_all := lw_g (lw_at lw_m1 31 rfl) rfl
theorem q724 : (Jvm.Cond.selects "GraphlineModel$Batch" ({ cls := "java/lang/Object", name := "getClass", desc := "()Ljava/lang/Class;" } : Jvm.MethodName) ({ cls := "java/lang/Object", name := "getClass", desc := "()Ljava/lang/Class;" } : Jvm.MethodName)) ∈ lw_all := lw_g (lw_at lw_m3 227 rfl) rfl
theorem q1525 : (Jvm.Cond.instantiable "GraphlineModel$Batch" (11 : Nat)) ∈ lw_all := lw_g (lw_at lw_m7 68 rfl) rfl
theorem q1527 : (Jvm.Cond.instanceMethod ({ cls := "GraphlineModel$Batch", name := "<init>", desc := "()V" } : Jvm.MethodName)) ∈ lw_all := lw_g (lw_at lw_m7 70 rfl) rfl
theorem q1528 : (Jvm.Cond.code ({ cls := "GraphlineModel$Batch", name := "<init>", desc := "()V" } : Jvm.MethodName) prog_16_method_1_code (1 : Nat) (Option.none : Option Jvm.ClassFile.FieldType)) ∈ lw_all := lw_g (lw_at lw_m7 71 rfl) rfl
theorem q1529 : (Jvm.Cond.methodLink "GraphlineModel$Batch" (3 : Nat) ({ cls := "java/lang/Object", name := "<init>", desc := "()V" } : Jvm.MethodName)) ∈ lw_all := lw_g (lw_at lw_m7 72 rfl) rfl
theorem q1536 : (Jvm.Cond.fieldLink "GraphlineModel$Batch" (9 : Nat) "GraphlineModel$Batch" "firing" "I") ∈ lw_all := lw_g (lw_at lw_m7 79 rfl) rfl
theorem q1542 : (Jvm.Cond.lays "GraphlineModel$Batch" "GraphlineModel$Batch" "mixture" "I") ∈ lw_all := lw_g (lw_at lw_m7 85 rfl) rfl
theorem q1543 : (Jvm.Cond.soleField "GraphlineModel$Batch" "mixture") ∈ lw_all := lw_g (lw_at lw_m7 86 rfl) rfl
theorem q1544 : (Jvm.Cond.lays "GraphlineModel$Batch" "GraphlineModel$Batch" "leads" "I") ∈ lw_all := lw_g (lw_at lw_m7 87 rfl) rfl
theorem q1545 : (Jvm.Cond.soleField "GraphlineModel$Batch" "leads") ∈ lw_all := lw_g (lw_at lw_m7 88 rfl) rfl
theorem q1546 : (Jvm.Cond.lays "GraphlineModel$Batch" "GraphlineModel$Batch" "warped" "I") ∈ lw_all := lw_g (lw_at lw_m7 89 rfl) rfl
theorem q1547 : (Jvm.Cond.soleField "GraphlineModel$Batch" "warped") ∈ lw_all := lw_g (lw_at lw_m7 90 rfl) rfl
theorem q1548 : (Jvm.Cond.lays "GraphlineModel$Batch" "GraphlineModel$Batch" "bore" "I") ∈ lw_all := lw_g (lw_at lw_m7 91 rfl) rfl
theorem q1549 : (Jvm.Cond.soleField "GraphlineModel$Batch" "bore") ∈ lw_all := lw_g (lw_at lw_m7 92 rfl) rfl
theorem q1550 : (Jvm.Cond.lays "GraphlineModel$Batch" "GraphlineModel$Batch" "ready" "I") ∈ lw_all := lw_g (lw_at lw_m7 93 rfl) rfl
theorem q1551 : (Jvm.Cond.soleField "GraphlineModel$Batch" "ready") ∈ lw_all := lw_g (lw_at lw_m7 94 rfl) rfl
theorem q1552 : (Jvm.Cond.lays "GraphlineModel$Batch" "GraphlineModel$Batch" "dried" "Z") ∈ lw_all := lw_g (lw_at lw_m7 95 rfl) rfl
theorem q1553 : (Jvm.Cond.soleField "GraphlineModel$Batch" "dried") ∈ lw_all := lw_g (lw_at lw_m7 96 rfl) rfl
theorem q1554 : (Jvm.Cond.lays "GraphlineModel$Batch" "GraphlineModel$Batch" "firing" "I") ∈ lw_all := lw_g (lw_at lw_m7 97 rfl) rfl
theorem q1555 : (Jvm.Cond.soleField "GraphlineModel$Batch" "firing") ∈ lw_all := lw_g (lw_at lw_m7 98 rfl) rfl
theorem q1556 : (Jvm.Cond.lays "GraphlineModel$Batch" "GraphlineModel$Batch" "kiln" "I") ∈ lw_all := lw_g (lw_at lw_m7 99 rfl) rfl
theorem q1557 : (Jvm.Cond.soleField "GraphlineModel$Batch" "kiln") ∈ lw_all := lw_g (lw_at lw_m7 100 rfl) rfl
theorem q1558 : (Jvm.Cond.lays "GraphlineModel$Batch" "GraphlineModel$Batch" "soaked" "Z") ∈ lw_all := lw_g (lw_at lw_m7 101 rfl) rfl
theorem q1559 : (Jvm.Cond.soleField "GraphlineModel$Batch" "soaked") ∈ lw_all := lw_g (lw_at lw_m7 102 rfl) rfl
theorem q1560 : (Jvm.Cond.lays "GraphlineModel$Batch" "GraphlineModel$Batch" "strength" "I") ∈ lw_all := lw_g (lw_at lw_m7 103 rfl) rfl
theorem q1561 : (Jvm.Cond.soleField "GraphlineModel$Batch" "strength") ∈ lw_all := lw_g (lw_at lw_m7 104 rfl) rfl
theorem q1562 : (Jvm.Cond.lays "GraphlineModel$Batch" "GraphlineModel$Batch" "darkness" "I") ∈ lw_all := lw_g (lw_at lw_m7 105 rfl) rfl
theorem q1563 : (Jvm.Cond.soleField "GraphlineModel$Batch" "darkness") ∈ lw_all := lw_g (lw_at lw_m7 106 rfl) rfl
theorem q1564 : (Jvm.Cond.superclass "GraphlineModel$Batch" "java/lang/Object") ∈ lw_all := lw_g (lw_at lw_m7 107 rfl) rfl
theorem q1871 : (Jvm.Cond.castable "GraphlineModel$Batch" "java/lang/Object") ∈ lw_tbl := lw_at lw_m8 174 rfl
theorem in_X10 : ∀ w ∈ wsX100, w ∈ lw_all := lw_in wsX100 [1542, 1544, 1546, 1548, 1550, 1552, 1554, 1556, 1558, 1560, 1562] (by decide +kernel) (by decide +kernel)

/-! Graphline$Slats -/
set_option maxRecDepth 100000
def RX11 : String := "Graphline$Slats"
def TX11 : u_T := fun k => match k with
  | 0 => ("Graphline$Slats", "number", "I", true)
  | 1 => ("Graphline$Slats", "isCedar", "Z", true)
  | 2 => ("Graphline$Slats", "grain", "I", true)
  | 3 => ("Graphline$Slats", "wetness", "I", false)
  | 4 => ("Graphline$Slats", "many", "I", false)
  | 5 => ("Graphline$Slats", "width", "I", false)
  | _ => ("Graphline$Slats", "ready", "I", false)
def tyX11 : Nat → FieldType := fun k => match k with
  | 0 => .int
  | 1 => .boolean
  | 2 => .int
  | 3 => .int
  | 4 => .int
  | 5 => .int
  | _ => .int
abbrev wsX110 : List Cond := u_ws RX11 TX11 7
theorem nmX11 : ∀ a, a < 7 → ∀ b, b < 7 → a ≠ b → (TX11 a).2.1 ≠ (TX11 b).2.1 := by decide +kernel
theorem tyX11_ok : ∀ k, k < 7 → parseFieldDescriptor (TX11 k).2.2.1 = some (tyX11 k) := by decide +kernel
abbrev cX11_init : ByteArray := prog_11_method_1_code
def yX11_init : MethodName := ⟨RX11, "<init>", "(IZIII)V"⟩
def dkwX11_init_1 : List UInt8 := [181, 0, 20, 42, 21, 5, 181, 0, 23, 177]
abbrev dktX11_init_1 : List UInt8 := dkwX11_init_1 ++ []
def dkwX11_init_0 : List UInt8 := [42, 183, 0, 1, 42, 27, 181, 0, 7, 42, 28, 181, 0, 13, 42, 29, 181, 0, 17, 42, 21, 4]
abbrev dktX11_init_0 : List UInt8 := dkwX11_init_0 ++ dktX11_init_1
theorem dksX11_init_0 : cX11_init.data.toList.drop 0 = dktX11_init_0 := by decide +kernel
theorem dksX11_init_1 : cX11_init.data.toList.drop 22 = dktX11_init_1 := dk_seg dksX11_init_0 22 rfl rfl
theorem dX11_init_0 : decode cX11_init 0 = .ok (.aload_n 0, 1) := dk_42 (dk_at dksX11_init_0 0 rfl rfl)
theorem dX11_init_1 : decode cX11_init 1 = .ok (.invokespecial 1, 3) := dk_183 0 1 (dk_at dksX11_init_0 1 rfl rfl)
theorem dX11_init_4 : decode cX11_init 4 = .ok (.aload_n 0, 1) := dk_42 (dk_at dksX11_init_0 4 rfl rfl)
theorem dX11_init_5 : decode cX11_init 5 = .ok (.iload_n 1, 1) := dk_27 (dk_at dksX11_init_0 5 rfl rfl)
theorem dX11_init_6 : decode cX11_init 6 = .ok (.putfield 7, 3) := dk_181 0 7 (dk_at dksX11_init_0 6 rfl rfl)
theorem dX11_init_9 : decode cX11_init 9 = .ok (.aload_n 0, 1) := dk_42 (dk_at dksX11_init_0 9 rfl rfl)
theorem dX11_init_10 : decode cX11_init 10 = .ok (.iload_n 2, 1) := dk_28 (dk_at dksX11_init_0 10 rfl rfl)
theorem dX11_init_11 : decode cX11_init 11 = .ok (.putfield 13, 3) := dk_181 0 13 (dk_at dksX11_init_0 11 rfl rfl)
theorem dX11_init_14 : decode cX11_init 14 = .ok (.aload_n 0, 1) := dk_42 (dk_at dksX11_init_0 14 rfl rfl)
theorem dX11_init_15 : decode cX11_init 15 = .ok (.iload_n 3, 1) := dk_29 (dk_at dksX11_init_0 15 rfl rfl)
theorem dX11_init_16 : decode cX11_init 16 = .ok (.putfield 17, 3) := dk_181 0 17 (dk_at dksX11_init_0 16 rfl rfl)
theorem dX11_init_19 : decode cX11_init 19 = .ok (.aload_n 0, 1) := dk_42 (dk_at dksX11_init_0 19 rfl rfl)
theorem dX11_init_20 : decode cX11_init 20 = .ok (.iload 4, 2) := dk_21 4 (dk_at dksX11_init_0 20 rfl rfl)
theorem dX11_init_22 : decode cX11_init 22 = .ok (.putfield 20, 3) := dk_181 0 20 (dk_at dksX11_init_1 0 rfl rfl)
theorem dX11_init_25 : decode cX11_init 25 = .ok (.aload_n 0, 1) := dk_42 (dk_at dksX11_init_1 3 rfl rfl)
theorem dX11_init_26 : decode cX11_init 26 = .ok (.iload 5, 2) := dk_21 5 (dk_at dksX11_init_1 4 rfl rfl)
theorem dX11_init_28 : decode cX11_init 28 = .ok (.putfield 23, 3) := dk_181 0 23 (dk_at dksX11_init_1 6 rfl rfl)
theorem dX11_init_31 : decode cX11_init 31 = .ok (.return_, 1) := dk_177 (dk_at dksX11_init_1 9 rfl rfl)
theorem q49 : (Jvm.Cond.initialized "Graphline$Slats") ∈ lw_all := lw_g (lw_at lw_m1 32 rfl) rfl
theorem q720 : (Jvm.Cond.selects "Graphline$Slats" ({ cls := "java/lang/Object", name := "getClass", desc := "()Ljava/lang/Class;" } : Jvm.MethodName) ({ cls := "java/lang/Object", name := "getClass", desc := "()Ljava/lang/Class;" } : Jvm.MethodName)) ∈ lw_all := lw_g (lw_at lw_m3 223 rfl) rfl
theorem q1004 : (Jvm.Cond.instantiable "Graphline$Slats" (7 : Nat)) ∈ lw_all := lw_g (lw_at lw_m5 27 rfl) rfl
theorem q1006 : (Jvm.Cond.instanceMethod ({ cls := "Graphline$Slats", name := "<init>", desc := "(IZIII)V" } : Jvm.MethodName)) ∈ lw_all := lw_g (lw_at lw_m5 29 rfl) rfl
theorem q1007 : (Jvm.Cond.code ({ cls := "Graphline$Slats", name := "<init>", desc := "(IZIII)V" } : Jvm.MethodName) prog_11_method_1_code (6 : Nat) (Option.none : Option Jvm.ClassFile.FieldType)) ∈ lw_all := lw_g (lw_at lw_m5 30 rfl) rfl
theorem q1008 : (Jvm.Cond.methodLink "Graphline$Slats" (1 : Nat) ({ cls := "java/lang/Object", name := "<init>", desc := "()V" } : Jvm.MethodName)) ∈ lw_all := lw_g (lw_at lw_m5 31 rfl) rfl
theorem q1009 : (Jvm.Cond.fieldLink "Graphline$Slats" (7 : Nat) "Graphline$Slats" "number" "I") ∈ lw_all := lw_g (lw_at lw_m5 32 rfl) rfl
theorem q1011 : (Jvm.Cond.fieldLink "Graphline$Slats" (13 : Nat) "Graphline$Slats" "isCedar" "Z") ∈ lw_all := lw_g (lw_at lw_m5 34 rfl) rfl
theorem q1013 : (Jvm.Cond.fieldLink "Graphline$Slats" (17 : Nat) "Graphline$Slats" "grain" "I") ∈ lw_all := lw_g (lw_at lw_m5 36 rfl) rfl
theorem q1015 : (Jvm.Cond.fieldLink "Graphline$Slats" (20 : Nat) "Graphline$Slats" "wetness" "I") ∈ lw_all := lw_g (lw_at lw_m5 38 rfl) rfl
theorem q1017 : (Jvm.Cond.fieldLink "Graphline$Slats" (23 : Nat) "Graphline$Slats" "many" "I") ∈ lw_all := lw_g (lw_at lw_m5 40 rfl) rfl
theorem q1022 : (Jvm.Cond.laysFinal "Graphline$Slats" "Graphline$Slats" "number" "I") ∈ lw_all := lw_g (lw_at lw_m5 45 rfl) rfl
theorem q1023 : (Jvm.Cond.soleField "Graphline$Slats" "number") ∈ lw_all := lw_g (lw_at lw_m5 46 rfl) rfl
theorem q1024 : (Jvm.Cond.laysFinal "Graphline$Slats" "Graphline$Slats" "isCedar" "Z") ∈ lw_all := lw_g (lw_at lw_m5 47 rfl) rfl
theorem q1025 : (Jvm.Cond.soleField "Graphline$Slats" "isCedar") ∈ lw_all := lw_g (lw_at lw_m5 48 rfl) rfl
theorem q1026 : (Jvm.Cond.laysFinal "Graphline$Slats" "Graphline$Slats" "grain" "I") ∈ lw_all := lw_g (lw_at lw_m5 49 rfl) rfl
theorem q1027 : (Jvm.Cond.soleField "Graphline$Slats" "grain") ∈ lw_all := lw_g (lw_at lw_m5 50 rfl) rfl
theorem q1028 : (Jvm.Cond.lays "Graphline$Slats" "Graphline$Slats" "wetness" "I") ∈ lw_all := lw_g (lw_at lw_m5 51 rfl) rfl
theorem q1029 : (Jvm.Cond.soleField "Graphline$Slats" "wetness") ∈ lw_all := lw_g (lw_at lw_m5 52 rfl) rfl
theorem q1030 : (Jvm.Cond.lays "Graphline$Slats" "Graphline$Slats" "many" "I") ∈ lw_all := lw_g (lw_at lw_m5 53 rfl) rfl
theorem q1031 : (Jvm.Cond.soleField "Graphline$Slats" "many") ∈ lw_all := lw_g (lw_at lw_m5 54 rfl) rfl
theorem q1032 : (Jvm.Cond.lays "Graphline$Slats" "Graphline$Slats" "width" "I") ∈ lw_all := lw_g (lw_at lw_m5 55 rfl) rfl
theorem q1033 : (Jvm.Cond.soleField "Graphline$Slats" "width") ∈ lw_all := lw_g (lw_at lw_m5 56 rfl) rfl
theorem q1034 : (Jvm.Cond.lays "Graphline$Slats" "Graphline$Slats" "ready" "I") ∈ lw_all := lw_g (lw_at lw_m5 57 rfl) rfl
theorem q1035 : (Jvm.Cond.soleField "Graphline$Slats" "ready") ∈ lw_all := lw_g (lw_at lw_m5 58 rfl) rfl
theorem q1036 : (Jvm.Cond.superclass "Graphline$Slats" "java/lang/Object") ∈ lw_all := lw_g (lw_at lw_m5 59 rfl) rfl
theorem q1872 : (Jvm.Cond.castable "Graphline$Slats" "java/lang/Object") ∈ lw_tbl := lw_at lw_m8 175 rfl
theorem in_X11 : ∀ w ∈ wsX110, w ∈ lw_all := lw_in wsX110 [1022, 1024, 1026, 1028, 1030, 1032, 1034] (by decide +kernel) (by decide +kernel)

/-! GraphlineModel$Slat -/
set_option maxRecDepth 100000
def RX12 : String := "GraphlineModel$Slat"
def TX12 : u_T := fun k => match k with
  | 0 => ("GraphlineModel$Slat", "wood", "C", false)
  | 1 => ("GraphlineModel$Slat", "grain", "I", false)
  | 2 => ("GraphlineModel$Slat", "wet", "I", false)
  | 3 => ("GraphlineModel$Slat", "many", "I", false)
  | 4 => ("GraphlineModel$Slat", "width", "I", false)
  | _ => ("GraphlineModel$Slat", "ready", "I", false)
def tyX12 : Nat → FieldType := fun k => match k with
  | 0 => .char
  | 1 => .int
  | 2 => .int
  | 3 => .int
  | 4 => .int
  | _ => .int
abbrev wsX120 : List Cond := u_ws RX12 TX12 6
theorem nmX12 : ∀ a, a < 6 → ∀ b, b < 6 → a ≠ b → (TX12 a).2.1 ≠ (TX12 b).2.1 := by decide +kernel
theorem tyX12_ok : ∀ k, k < 6 → parseFieldDescriptor (TX12 k).2.2.1 = some (tyX12 k) := by decide +kernel
abbrev cX12_init : ByteArray := prog_19_method_1_code
def yX12_init : MethodName := ⟨RX12, "<init>", "()V"⟩
theorem dX12_init_0 : decode cX12_init 0 = .ok (.aload_n 0, 1) := by decide +kernel
theorem dX12_init_1 : decode cX12_init 1 = .ok (.invokespecial 1, 3) := by decide +kernel
theorem dX12_init_4 : decode cX12_init 4 = .ok (.return_, 1) := by decide +kernel
theorem q50 : (Jvm.Cond.initialized "GraphlineModel$Slat") ∈ lw_all := lw_g (lw_at lw_m1 33 rfl) rfl
theorem q727 : (Jvm.Cond.selects "GraphlineModel$Slat" ({ cls := "java/lang/Object", name := "getClass", desc := "()Ljava/lang/Class;" } : Jvm.MethodName) ({ cls := "java/lang/Object", name := "getClass", desc := "()Ljava/lang/Class;" } : Jvm.MethodName)) ∈ lw_all := lw_g (lw_at lw_m3 230 rfl) rfl
theorem q1624 : (Jvm.Cond.instantiable "GraphlineModel$Slat" (6 : Nat)) ∈ lw_all := lw_g (lw_at lw_m7 167 rfl) rfl
theorem q1626 : (Jvm.Cond.instanceMethod ({ cls := "GraphlineModel$Slat", name := "<init>", desc := "()V" } : Jvm.MethodName)) ∈ lw_all := lw_g (lw_at lw_m7 169 rfl) rfl
theorem q1627 : (Jvm.Cond.code ({ cls := "GraphlineModel$Slat", name := "<init>", desc := "()V" } : Jvm.MethodName) prog_19_method_1_code (1 : Nat) (Option.none : Option Jvm.ClassFile.FieldType)) ∈ lw_all := lw_g (lw_at lw_m7 170 rfl) rfl
theorem q1628 : (Jvm.Cond.methodLink "GraphlineModel$Slat" (1 : Nat) ({ cls := "java/lang/Object", name := "<init>", desc := "()V" } : Jvm.MethodName)) ∈ lw_all := lw_g (lw_at lw_m7 171 rfl) rfl
theorem q1635 : (Jvm.Cond.lays "GraphlineModel$Slat" "GraphlineModel$Slat" "wood" "C") ∈ lw_all := lw_g (lw_at lw_m7 178 rfl) rfl
theorem q1636 : (Jvm.Cond.soleField "GraphlineModel$Slat" "wood") ∈ lw_all := lw_g (lw_at lw_m7 179 rfl) rfl
theorem q1637 : (Jvm.Cond.lays "GraphlineModel$Slat" "GraphlineModel$Slat" "grain" "I") ∈ lw_all := lw_g (lw_at lw_m7 180 rfl) rfl
theorem q1638 : (Jvm.Cond.soleField "GraphlineModel$Slat" "grain") ∈ lw_all := lw_g (lw_at lw_m7 181 rfl) rfl
theorem q1639 : (Jvm.Cond.lays "GraphlineModel$Slat" "GraphlineModel$Slat" "wet" "I") ∈ lw_all := lw_g (lw_at lw_m7 182 rfl) rfl
theorem q1640 : (Jvm.Cond.soleField "GraphlineModel$Slat" "wet") ∈ lw_all := lw_g (lw_at lw_m7 183 rfl) rfl
theorem q1641 : (Jvm.Cond.lays "GraphlineModel$Slat" "GraphlineModel$Slat" "many" "I") ∈ lw_all := lw_g (lw_at lw_m7 184 rfl) rfl
theorem q1642 : (Jvm.Cond.soleField "GraphlineModel$Slat" "many") ∈ lw_all := lw_g (lw_at lw_m7 185 rfl) rfl
theorem q1643 : (Jvm.Cond.lays "GraphlineModel$Slat" "GraphlineModel$Slat" "width" "I") ∈ lw_all := lw_g (lw_at lw_m7 186 rfl) rfl
theorem q1644 : (Jvm.Cond.soleField "GraphlineModel$Slat" "width") ∈ lw_all := lw_g (lw_at lw_m7 187 rfl) rfl
theorem q1645 : (Jvm.Cond.lays "GraphlineModel$Slat" "GraphlineModel$Slat" "ready" "I") ∈ lw_all := lw_g (lw_at lw_m7 188 rfl) rfl
theorem q1646 : (Jvm.Cond.soleField "GraphlineModel$Slat" "ready") ∈ lw_all := lw_g (lw_at lw_m7 189 rfl) rfl
theorem q1647 : (Jvm.Cond.superclass "GraphlineModel$Slat" "java/lang/Object") ∈ lw_all := lw_g (lw_at lw_m7 190 rfl) rfl
theorem q1873 : (Jvm.Cond.castable "GraphlineModel$Slat" "java/lang/Object") ∈ lw_tbl := lw_at lw_m8 176 rfl
theorem in_X12 : ∀ w ∈ wsX120, w ∈ lw_all := lw_in wsX120 [1635, 1637, 1639, 1641, 1643, 1645] (by decide +kernel) (by decide +kernel)

/-! Graphline$Run -/
set_option maxRecDepth 100000
def RX13 : String := "Graphline$Run"
def TX13 : u_T := fun k => match k with
  | 0 => ("Graphline$Run", "number", "I", true)
  | 1 => ("Graphline$Run", "batch", "LGraphline$Batch;", true)
  | 2 => ("Graphline$Run", "slats", "LGraphline$Slats;", true)
  | 3 => ("Graphline$Run", "hand", "I", true)
  | 4 => ("Graphline$Run", "off", "I", true)
  | 5 => ("Graphline$Run", "pencils", "I", false)
  | 6 => ("Graphline$Run", "broken", "I", false)
  | 7 => ("Graphline$Run", "coats", "I", false)
  | 8 => ("Graphline$Run", "colour", "I", false)
  | 9 => ("Graphline$Run", "stamp", "I", false)
  | 10 => ("Graphline$Run", "ready", "I", false)
  | _ => ("Graphline$Run", "hasErasers", "Z", false)
def tyX13 : Nat → FieldType := fun k => match k with
  | 0 => .int
  | 1 => .object "Graphline$Batch"
  | 2 => .object "Graphline$Slats"
  | 3 => .int
  | 4 => .int
  | 5 => .int
  | 6 => .int
  | 7 => .int
  | 8 => .int
  | 9 => .int
  | 10 => .int
  | _ => .boolean
abbrev wsX130 : List Cond := u_ws RX13 TX13 12
theorem nmX13 : ∀ a, a < 12 → ∀ b, b < 12 → a ≠ b → (TX13 a).2.1 ≠ (TX13 b).2.1 := by decide +kernel
theorem tyX13_ok : ∀ k, k < 12 → parseFieldDescriptor (TX13 k).2.2.1 = some (tyX13 k) := by decide +kernel
abbrev cX13_misfit : ByteArray := prog_10_method_2_code
def yX13_misfit : MethodName := ⟨RX13, "misfit", "(LGraphline$Batch;LGraphline$Slats;)I"⟩
def dkwX13_misfit_0 : List UInt8 := [5, 43, 180, 0, 47, 104, 42, 180, 0, 50, 100, 184, 0, 55, 172]
abbrev dktX13_misfit_0 : List UInt8 := dkwX13_misfit_0 ++ []
theorem dksX13_misfit_0 : cX13_misfit.data.toList.drop 0 = dktX13_misfit_0 := by decide +kernel
theorem dX13_misfit_0 : decode cX13_misfit 0 = .ok (.iconst 2, 1) := dk_5 (dk_at dksX13_misfit_0 0 rfl rfl)
theorem dX13_misfit_1 : decode cX13_misfit 1 = .ok (.aload_n 1, 1) := dk_43 (dk_at dksX13_misfit_0 1 rfl rfl)
theorem dX13_misfit_2 : decode cX13_misfit 2 = .ok (.getfield 47, 3) := dk_180 0 47 (dk_at dksX13_misfit_0 2 rfl rfl)
theorem dX13_misfit_5 : decode cX13_misfit 5 = .ok (.imul, 1) := dk_104 (dk_at dksX13_misfit_0 5 rfl rfl)
theorem dX13_misfit_6 : decode cX13_misfit 6 = .ok (.aload_n 0, 1) := dk_42 (dk_at dksX13_misfit_0 6 rfl rfl)
theorem dX13_misfit_7 : decode cX13_misfit 7 = .ok (.getfield 50, 3) := dk_180 0 50 (dk_at dksX13_misfit_0 7 rfl rfl)
theorem dX13_misfit_10 : decode cX13_misfit 10 = .ok (.isub, 1) := dk_100 (dk_at dksX13_misfit_0 10 rfl rfl)
theorem dX13_misfit_11 : decode cX13_misfit 11 = .ok (.invokestatic 55, 3) := dk_184 0 55 (dk_at dksX13_misfit_0 11 rfl rfl)
theorem dX13_misfit_14 : decode cX13_misfit 14 = .ok (.ireturn, 1) := dk_172 (dk_at dksX13_misfit_0 14 rfl rfl)
abbrev cX13_init : ByteArray := prog_10_method_1_code
def yX13_init : MethodName := ⟨RX13, "<init>", "(ILGraphline$Batch;LGraphline$Slats;II)V"⟩
def dkwX13_init_2 : List UInt8 := [180, 0, 39, 7, 108, 96, 181, 0, 44, 177]
abbrev dktX13_init_2 : List UInt8 := dkwX13_init_2 ++ []
def dkwX13_init_1 : List UInt8 := [42, 45, 181, 0, 25, 42, 21, 4, 181, 0, 29, 42, 21, 5, 181, 0, 32, 42, 44, 45, 184, 0, 35, 45]
abbrev dktX13_init_1 : List UInt8 := dkwX13_init_1 ++ dktX13_init_2
def dkwX13_init_0 : List UInt8 := [42, 183, 0, 3, 42, 2, 181, 0, 9, 42, 2, 181, 0, 15, 42, 27, 181, 0, 18, 42, 44, 181, 0, 21]
abbrev dktX13_init_0 : List UInt8 := dkwX13_init_0 ++ dktX13_init_1
theorem dksX13_init_0 : cX13_init.data.toList.drop 0 = dktX13_init_0 := by decide +kernel
theorem dksX13_init_1 : cX13_init.data.toList.drop 24 = dktX13_init_1 := dk_seg dksX13_init_0 24 rfl rfl
theorem dksX13_init_2 : cX13_init.data.toList.drop 48 = dktX13_init_2 := dk_seg dksX13_init_1 24 rfl rfl
theorem dX13_init_0 : decode cX13_init 0 = .ok (.aload_n 0, 1) := dk_42 (dk_at dksX13_init_0 0 rfl rfl)
theorem dX13_init_1 : decode cX13_init 1 = .ok (.invokespecial 3, 3) := dk_183 0 3 (dk_at dksX13_init_0 1 rfl rfl)
theorem dX13_init_4 : decode cX13_init 4 = .ok (.aload_n 0, 1) := dk_42 (dk_at dksX13_init_0 4 rfl rfl)
theorem dX13_init_5 : decode cX13_init 5 = .ok (.iconst (-1), 1) := dk_2 (dk_at dksX13_init_0 5 rfl rfl)
theorem dX13_init_6 : decode cX13_init 6 = .ok (.putfield 9, 3) := dk_181 0 9 (dk_at dksX13_init_0 6 rfl rfl)
theorem dX13_init_9 : decode cX13_init 9 = .ok (.aload_n 0, 1) := dk_42 (dk_at dksX13_init_0 9 rfl rfl)
theorem dX13_init_10 : decode cX13_init 10 = .ok (.iconst (-1), 1) := dk_2 (dk_at dksX13_init_0 10 rfl rfl)
theorem dX13_init_11 : decode cX13_init 11 = .ok (.putfield 15, 3) := dk_181 0 15 (dk_at dksX13_init_0 11 rfl rfl)
theorem dX13_init_14 : decode cX13_init 14 = .ok (.aload_n 0, 1) := dk_42 (dk_at dksX13_init_0 14 rfl rfl)
theorem dX13_init_15 : decode cX13_init 15 = .ok (.iload_n 1, 1) := dk_27 (dk_at dksX13_init_0 15 rfl rfl)
theorem dX13_init_16 : decode cX13_init 16 = .ok (.putfield 18, 3) := dk_181 0 18 (dk_at dksX13_init_0 16 rfl rfl)
theorem dX13_init_19 : decode cX13_init 19 = .ok (.aload_n 0, 1) := dk_42 (dk_at dksX13_init_0 19 rfl rfl)
theorem dX13_init_20 : decode cX13_init 20 = .ok (.aload_n 2, 1) := dk_44 (dk_at dksX13_init_0 20 rfl rfl)
theorem dX13_init_21 : decode cX13_init 21 = .ok (.putfield 21, 3) := dk_181 0 21 (dk_at dksX13_init_0 21 rfl rfl)
theorem dX13_init_24 : decode cX13_init 24 = .ok (.aload_n 0, 1) := dk_42 (dk_at dksX13_init_1 0 rfl rfl)
theorem dX13_init_25 : decode cX13_init 25 = .ok (.aload_n 3, 1) := dk_45 (dk_at dksX13_init_1 1 rfl rfl)
theorem dX13_init_26 : decode cX13_init 26 = .ok (.putfield 25, 3) := dk_181 0 25 (dk_at dksX13_init_1 2 rfl rfl)
theorem dX13_init_29 : decode cX13_init 29 = .ok (.aload_n 0, 1) := dk_42 (dk_at dksX13_init_1 5 rfl rfl)
theorem dX13_init_30 : decode cX13_init 30 = .ok (.iload 4, 2) := dk_21 4 (dk_at dksX13_init_1 6 rfl rfl)
theorem dX13_init_32 : decode cX13_init 32 = .ok (.putfield 29, 3) := dk_181 0 29 (dk_at dksX13_init_1 8 rfl rfl)
theorem dX13_init_35 : decode cX13_init 35 = .ok (.aload_n 0, 1) := dk_42 (dk_at dksX13_init_1 11 rfl rfl)
theorem dX13_init_36 : decode cX13_init 36 = .ok (.iload 5, 2) := dk_21 5 (dk_at dksX13_init_1 12 rfl rfl)
theorem dX13_init_38 : decode cX13_init 38 = .ok (.putfield 32, 3) := dk_181 0 32 (dk_at dksX13_init_1 14 rfl rfl)
theorem dX13_init_41 : decode cX13_init 41 = .ok (.aload_n 0, 1) := dk_42 (dk_at dksX13_init_1 17 rfl rfl)
theorem dX13_init_42 : decode cX13_init 42 = .ok (.aload_n 2, 1) := dk_44 (dk_at dksX13_init_1 18 rfl rfl)
theorem dX13_init_43 : decode cX13_init 43 = .ok (.aload_n 3, 1) := dk_45 (dk_at dksX13_init_1 19 rfl rfl)
theorem dX13_init_44 : decode cX13_init 44 = .ok (.invokestatic 35, 3) := dk_184 0 35 (dk_at dksX13_init_1 20 rfl rfl)
theorem dX13_init_47 : decode cX13_init 47 = .ok (.aload_n 3, 1) := dk_45 (dk_at dksX13_init_1 23 rfl rfl)
theorem dX13_init_48 : decode cX13_init 48 = .ok (.getfield 39, 3) := dk_180 0 39 (dk_at dksX13_init_2 0 rfl rfl)
theorem dX13_init_51 : decode cX13_init 51 = .ok (.iconst 4, 1) := dk_7 (dk_at dksX13_init_2 3 rfl rfl)
theorem dX13_init_52 : decode cX13_init 52 = .ok (.idiv, 1) := dk_108 (dk_at dksX13_init_2 4 rfl rfl)
theorem dX13_init_53 : decode cX13_init 53 = .ok (.iadd, 1) := dk_96 (dk_at dksX13_init_2 5 rfl rfl)
theorem dX13_init_54 : decode cX13_init 54 = .ok (.putfield 44, 3) := dk_181 0 44 (dk_at dksX13_init_2 6 rfl rfl)
theorem dX13_init_57 : decode cX13_init 57 = .ok (.return_, 1) := dk_177 (dk_at dksX13_init_2 9 rfl rfl)
abbrev cX13_whole : ByteArray := prog_10_method_3_code
def yX13_whole : MethodName := ⟨RX13, "whole", "()I"⟩
def dkwX13_whole_0 : List UInt8 := [42, 180, 0, 29, 42, 180, 0, 61, 100, 172]
abbrev dktX13_whole_0 : List UInt8 := dkwX13_whole_0 ++ []
theorem dksX13_whole_0 : cX13_whole.data.toList.drop 0 = dktX13_whole_0 := by decide +kernel
theorem dX13_whole_0 : decode cX13_whole 0 = .ok (.aload_n 0, 1) := dk_42 (dk_at dksX13_whole_0 0 rfl rfl)
theorem dX13_whole_1 : decode cX13_whole 1 = .ok (.getfield 29, 3) := dk_180 0 29 (dk_at dksX13_whole_0 1 rfl rfl)
theorem dX13_whole_4 : decode cX13_whole 4 = .ok (.aload_n 0, 1) := dk_42 (dk_at dksX13_whole_0 4 rfl rfl)
theorem dX13_whole_5 : decode cX13_whole 5 = .ok (.getfield 61, 3) := dk_180 0 61 (dk_at dksX13_whole_0 5 rfl rfl)
theorem dX13_whole_8 : decode cX13_whole 8 = .ok (.isub, 1) := dk_100 (dk_at dksX13_whole_0 8 rfl rfl)
theorem dX13_whole_9 : decode cX13_whole 9 = .ok (.ireturn, 1) := dk_172 (dk_at dksX13_whole_0 9 rfl rfl)
theorem q51 : (Jvm.Cond.initialized "Graphline$Run") ∈ lw_all := lw_g (lw_at lw_m1 34 rfl) rfl
theorem q719 : (Jvm.Cond.selects "Graphline$Run" ({ cls := "java/lang/Object", name := "getClass", desc := "()Ljava/lang/Class;" } : Jvm.MethodName) ({ cls := "java/lang/Object", name := "getClass", desc := "()Ljava/lang/Class;" } : Jvm.MethodName)) ∈ lw_all := lw_g (lw_at lw_m3 222 rfl) rfl
theorem q888 : (Jvm.Cond.fieldLinkNest "Graphline$Run" (50 : Nat) "Graphline$Batch" "bore" "I" "Graphline") ∈ lw_tbl := lw_at lw_m4 151 rfl
theorem q1014 : (Jvm.Cond.fieldLinkNest "Graphline$Run" (39 : Nat) "Graphline$Slats" "grain" "I" "Graphline") ∈ lw_tbl := lw_at lw_m5 37 rfl
theorem q1019 : (Jvm.Cond.fieldLinkNest "Graphline$Run" (47 : Nat) "Graphline$Slats" "width" "I" "Graphline") ∈ lw_tbl := lw_at lw_m5 42 rfl
theorem q1068 : (Jvm.Cond.static ({ cls := "Graphline$Run", name := "misfit", desc := "(LGraphline$Batch;LGraphline$Slats;)I" } : Jvm.MethodName)) ∈ lw_all := lw_g (lw_at lw_m5 91 rfl) rfl
theorem q1069 : (Jvm.Cond.code ({ cls := "Graphline$Run", name := "misfit", desc := "(LGraphline$Batch;LGraphline$Slats;)I" } : Jvm.MethodName) prog_10_method_2_code (2 : Nat) (Option.some Jvm.ClassFile.FieldType.int)) ∈ lw_all := lw_g (lw_at lw_m5 92 rfl) rfl
theorem q1070 : (Jvm.Cond.methodLink "Graphline$Run" (55 : Nat) ({ cls := "java/lang/Math", name := "abs", desc := "(I)I" } : Jvm.MethodName)) ∈ lw_all := lw_g (lw_at lw_m5 93 rfl) rfl
theorem q1073 : (Jvm.Cond.instantiable "Graphline$Run" (12 : Nat)) ∈ lw_all := lw_g (lw_at lw_m5 96 rfl) rfl
theorem q1075 : (Jvm.Cond.instanceMethod ({ cls := "Graphline$Run", name := "<init>", desc := "(ILGraphline$Batch;LGraphline$Slats;II)V" } : Jvm.MethodName)) ∈ lw_all := lw_g (lw_at lw_m5 98 rfl) rfl
theorem q1076 : (Jvm.Cond.code ({ cls := "Graphline$Run", name := "<init>", desc := "(ILGraphline$Batch;LGraphline$Slats;II)V" } : Jvm.MethodName) prog_10_method_1_code (6 : Nat) (Option.none : Option Jvm.ClassFile.FieldType)) ∈ lw_all := lw_g (lw_at lw_m5 99 rfl) rfl
theorem q1077 : (Jvm.Cond.methodLink "Graphline$Run" (3 : Nat) ({ cls := "java/lang/Object", name := "<init>", desc := "()V" } : Jvm.MethodName)) ∈ lw_all := lw_g (lw_at lw_m5 100 rfl) rfl
theorem q1078 : (Jvm.Cond.methodLink "Graphline$Run" (35 : Nat) ({ cls := "Graphline$Run", name := "misfit", desc := "(LGraphline$Batch;LGraphline$Slats;)I" } : Jvm.MethodName)) ∈ lw_all := lw_g (lw_at lw_m5 101 rfl) rfl
theorem q1079 : (Jvm.Cond.fieldLink "Graphline$Run" (18 : Nat) "Graphline$Run" "number" "I") ∈ lw_all := lw_g (lw_at lw_m5 102 rfl) rfl
theorem q1081 : (Jvm.Cond.fieldLink "Graphline$Run" (21 : Nat) "Graphline$Run" "batch" "LGraphline$Batch;") ∈ lw_all := lw_g (lw_at lw_m5 104 rfl) rfl
theorem q1084 : (Jvm.Cond.fieldLink "Graphline$Run" (25 : Nat) "Graphline$Run" "slats" "LGraphline$Slats;") ∈ lw_all := lw_g (lw_at lw_m5 107 rfl) rfl
theorem q1086 : (Jvm.Cond.fieldLink "Graphline$Run" (32 : Nat) "Graphline$Run" "hand" "I") ∈ lw_all := lw_g (lw_at lw_m5 109 rfl) rfl
theorem q1088 : (Jvm.Cond.fieldLink "Graphline$Run" (44 : Nat) "Graphline$Run" "off" "I") ∈ lw_all := lw_g (lw_at lw_m5 111 rfl) rfl
theorem q1090 : (Jvm.Cond.fieldLink "Graphline$Run" (29 : Nat) "Graphline$Run" "pencils" "I") ∈ lw_all := lw_g (lw_at lw_m5 113 rfl) rfl
theorem q1092 : (Jvm.Cond.fieldLink "Graphline$Run" (61 : Nat) "Graphline$Run" "broken" "I") ∈ lw_all := lw_g (lw_at lw_m5 115 rfl) rfl
theorem q1095 : (Jvm.Cond.fieldLink "Graphline$Run" (9 : Nat) "Graphline$Run" "colour" "I") ∈ lw_all := lw_g (lw_at lw_m5 118 rfl) rfl
theorem q1097 : (Jvm.Cond.fieldLink "Graphline$Run" (15 : Nat) "Graphline$Run" "stamp" "I") ∈ lw_all := lw_g (lw_at lw_m5 120 rfl) rfl
theorem q1102 : (Jvm.Cond.laysFinal "Graphline$Run" "Graphline$Run" "number" "I") ∈ lw_all := lw_g (lw_at lw_m5 125 rfl) rfl
theorem q1103 : (Jvm.Cond.soleField "Graphline$Run" "number") ∈ lw_all := lw_g (lw_at lw_m5 126 rfl) rfl
theorem q1104 : (Jvm.Cond.laysFinal "Graphline$Run" "Graphline$Run" "batch" "LGraphline$Batch;") ∈ lw_all := lw_g (lw_at lw_m5 127 rfl) rfl
theorem q1105 : (Jvm.Cond.soleField "Graphline$Run" "batch") ∈ lw_all := lw_g (lw_at lw_m5 128 rfl) rfl
theorem q1106 : (Jvm.Cond.laysFinal "Graphline$Run" "Graphline$Run" "slats" "LGraphline$Slats;") ∈ lw_all := lw_g (lw_at lw_m5 129 rfl) rfl
theorem q1107 : (Jvm.Cond.soleField "Graphline$Run" "slats") ∈ lw_all := lw_g (lw_at lw_m5 130 rfl) rfl
theorem q1108 : (Jvm.Cond.laysFinal "Graphline$Run" "Graphline$Run" "hand" "I") ∈ lw_all := lw_g (lw_at lw_m5 131 rfl) rfl
theorem q1109 : (Jvm.Cond.soleField "Graphline$Run" "hand") ∈ lw_all := lw_g (lw_at lw_m5 132 rfl) rfl
theorem q1110 : (Jvm.Cond.laysFinal "Graphline$Run" "Graphline$Run" "off" "I") ∈ lw_all := lw_g (lw_at lw_m5 133 rfl) rfl
theorem q1111 : (Jvm.Cond.soleField "Graphline$Run" "off") ∈ lw_all := lw_g (lw_at lw_m5 134 rfl) rfl
theorem q1112 : (Jvm.Cond.lays "Graphline$Run" "Graphline$Run" "pencils" "I") ∈ lw_all := lw_g (lw_at lw_m5 135 rfl) rfl
theorem q1113 : (Jvm.Cond.soleField "Graphline$Run" "pencils") ∈ lw_all := lw_g (lw_at lw_m5 136 rfl) rfl
theorem q1114 : (Jvm.Cond.lays "Graphline$Run" "Graphline$Run" "broken" "I") ∈ lw_all := lw_g (lw_at lw_m5 137 rfl) rfl
theorem q1115 : (Jvm.Cond.soleField "Graphline$Run" "broken") ∈ lw_all := lw_g (lw_at lw_m5 138 rfl) rfl
theorem q1116 : (Jvm.Cond.lays "Graphline$Run" "Graphline$Run" "coats" "I") ∈ lw_all := lw_g (lw_at lw_m5 139 rfl) rfl
theorem q1117 : (Jvm.Cond.soleField "Graphline$Run" "coats") ∈ lw_all := lw_g (lw_at lw_m5 140 rfl) rfl
theorem q1118 : (Jvm.Cond.lays "Graphline$Run" "Graphline$Run" "colour" "I") ∈ lw_all := lw_g (lw_at lw_m5 141 rfl) rfl
theorem q1119 : (Jvm.Cond.soleField "Graphline$Run" "colour") ∈ lw_all := lw_g (lw_at lw_m5 142 rfl) rfl
theorem q1120 : (Jvm.Cond.lays "Graphline$Run" "Graphline$Run" "stamp" "I") ∈ lw_all := lw_g (lw_at lw_m5 143 rfl) rfl
theorem q1121 : (Jvm.Cond.soleField "Graphline$Run" "stamp") ∈ lw_all := lw_g (lw_at lw_m5 144 rfl) rfl
theorem q1122 : (Jvm.Cond.lays "Graphline$Run" "Graphline$Run" "ready" "I") ∈ lw_all := lw_g (lw_at lw_m5 145 rfl) rfl
theorem q1123 : (Jvm.Cond.soleField "Graphline$Run" "ready") ∈ lw_all := lw_g (lw_at lw_m5 146 rfl) rfl
theorem q1124 : (Jvm.Cond.lays "Graphline$Run" "Graphline$Run" "hasErasers" "Z") ∈ lw_all := lw_g (lw_at lw_m5 147 rfl) rfl
theorem q1125 : (Jvm.Cond.soleField "Graphline$Run" "hasErasers") ∈ lw_all := lw_g (lw_at lw_m5 148 rfl) rfl
theorem q1126 : (Jvm.Cond.superclass "Graphline$Run" "java/lang/Object") ∈ lw_all := lw_g (lw_at lw_m5 149 rfl) rfl
theorem q1164 : (Jvm.Cond.instanceMethod ({ cls := "Graphline$Run", name := "whole", desc := "()I" } : Jvm.MethodName)) ∈ lw_all := lw_g (lw_at lw_m5 187 rfl) rfl
theorem q1165 : (Jvm.Cond.selects "Graphline$Run" ({ cls := "Graphline$Run", name := "whole", desc := "()I" } : Jvm.MethodName) ({ cls := "Graphline$Run", name := "whole", desc := "()I" } : Jvm.MethodName)) ∈ lw_all := lw_g (lw_at lw_m5 188 rfl) rfl
theorem q1166 : (Jvm.Cond.code ({ cls := "Graphline$Run", name := "whole", desc := "()I" } : Jvm.MethodName) prog_10_method_3_code (1 : Nat) (Option.some Jvm.ClassFile.FieldType.int)) ∈ lw_all := lw_g (lw_at lw_m5 189 rfl) rfl
theorem q1874 : (Jvm.Cond.castable "Graphline$Run" "java/lang/Object") ∈ lw_tbl := lw_at lw_m8 177 rfl
theorem in_X13 : ∀ w ∈ wsX130, w ∈ lw_all := lw_in wsX130 [1102, 1104, 1106, 1108, 1110, 1112, 1114, 1116, 1118, 1120, 1122, 1124] (by decide +kernel) (by decide +kernel)

/-! GraphlineModel$Run -/
set_option maxRecDepth 100000
def RX14 : String := "GraphlineModel$Run"
def TX14 : u_T := fun k => match k with
  | 0 => ("GraphlineModel$Run", "batch", "I", false)
  | 1 => ("GraphlineModel$Run", "slats", "I", false)
  | 2 => ("GraphlineModel$Run", "hand", "I", false)
  | 3 => ("GraphlineModel$Run", "many", "I", false)
  | 4 => ("GraphlineModel$Run", "broken", "I", false)
  | 5 => ("GraphlineModel$Run", "off", "I", false)
  | 6 => ("GraphlineModel$Run", "ready", "I", false)
  | 7 => ("GraphlineModel$Run", "coats", "I", false)
  | 8 => ("GraphlineModel$Run", "colour", "I", false)
  | 9 => ("GraphlineModel$Run", "stamp", "I", false)
  | _ => ("GraphlineModel$Run", "erased", "Z", false)
def tyX14 : Nat → FieldType := fun k => match k with
  | 0 => .int
  | 1 => .int
  | 2 => .int
  | 3 => .int
  | 4 => .int
  | 5 => .int
  | 6 => .int
  | 7 => .int
  | 8 => .int
  | 9 => .int
  | _ => .boolean
abbrev wsX140 : List Cond := u_ws RX14 TX14 11
theorem nmX14 : ∀ a, a < 11 → ∀ b, b < 11 → a ≠ b → (TX14 a).2.1 ≠ (TX14 b).2.1 := by decide +kernel
theorem tyX14_ok : ∀ k, k < 11 → parseFieldDescriptor (TX14 k).2.2.1 = some (tyX14 k) := by decide +kernel
abbrev cX14_init : ByteArray := prog_18_method_1_code
def yX14_init : MethodName := ⟨RX14, "<init>", "()V"⟩
def dkwX14_init_0 : List UInt8 := [42, 183, 0, 3, 42, 2, 181, 0, 9, 42, 2, 181, 0, 15, 177]
abbrev dktX14_init_0 : List UInt8 := dkwX14_init_0 ++ []
theorem dksX14_init_0 : cX14_init.data.toList.drop 0 = dktX14_init_0 := by decide +kernel
theorem dX14_init_0 : decode cX14_init 0 = .ok (.aload_n 0, 1) := dk_42 (dk_at dksX14_init_0 0 rfl rfl)
theorem dX14_init_1 : decode cX14_init 1 = .ok (.invokespecial 3, 3) := dk_183 0 3 (dk_at dksX14_init_0 1 rfl rfl)
theorem dX14_init_4 : decode cX14_init 4 = .ok (.aload_n 0, 1) := dk_42 (dk_at dksX14_init_0 4 rfl rfl)
theorem dX14_init_5 : decode cX14_init 5 = .ok (.iconst (-1), 1) := dk_2 (dk_at dksX14_init_0 5 rfl rfl)
theorem dX14_init_6 : decode cX14_init 6 = .ok (.putfield 9, 3) := dk_181 0 9 (dk_at dksX14_init_0 6 rfl rfl)
theorem dX14_init_9 : decode cX14_init 9 = .ok (.aload_n 0, 1) := dk_42 (dk_at dksX14_init_0 9 rfl rfl)
theorem dX14_init_10 : decode cX14_init 10 = .ok (.iconst (-1), 1) := dk_2 (dk_at dksX14_init_0 10 rfl rfl)
theorem dX14_init_11 : decode cX14_init 11 = .ok (.putfield 15, 3) := dk_181 0 15 (dk_at dksX14_init_0 11 rfl rfl)
theorem dX14_init_14 : decode cX14_init 14 = .ok (.return_, 1) := dk_177 (dk_at dksX14_init_0 14 rfl rfl)
theorem q52 : (Jvm.Cond.initialized "GraphlineModel$Run") ∈ lw_all := lw_g (lw_at lw_m1 35 rfl) rfl
theorem q726 : (Jvm.Cond.selects "GraphlineModel$Run" ({ cls := "java/lang/Object", name := "getClass", desc := "()Ljava/lang/Class;" } : Jvm.MethodName) ({ cls := "java/lang/Object", name := "getClass", desc := "()Ljava/lang/Class;" } : Jvm.MethodName)) ∈ lw_all := lw_g (lw_at lw_m3 229 rfl) rfl
theorem q1674 : (Jvm.Cond.instantiable "GraphlineModel$Run" (11 : Nat)) ∈ lw_all := lw_g (lw_at lw_m7 217 rfl) rfl
theorem q1676 : (Jvm.Cond.instanceMethod ({ cls := "GraphlineModel$Run", name := "<init>", desc := "()V" } : Jvm.MethodName)) ∈ lw_all := lw_g (lw_at lw_m7 219 rfl) rfl
theorem q1677 : (Jvm.Cond.code ({ cls := "GraphlineModel$Run", name := "<init>", desc := "()V" } : Jvm.MethodName) prog_18_method_1_code (1 : Nat) (Option.none : Option Jvm.ClassFile.FieldType)) ∈ lw_all := lw_g (lw_at lw_m7 220 rfl) rfl
theorem q1678 : (Jvm.Cond.methodLink "GraphlineModel$Run" (3 : Nat) ({ cls := "java/lang/Object", name := "<init>", desc := "()V" } : Jvm.MethodName)) ∈ lw_all := lw_g (lw_at lw_m7 221 rfl) rfl
theorem q1687 : (Jvm.Cond.fieldLink "GraphlineModel$Run" (9 : Nat) "GraphlineModel$Run" "colour" "I") ∈ lw_all := lw_g (lw_at lw_m7 230 rfl) rfl
theorem q1689 : (Jvm.Cond.fieldLink "GraphlineModel$Run" (15 : Nat) "GraphlineModel$Run" "stamp" "I") ∈ lw_all := lw_g (lw_at lw_m7 232 rfl) rfl
theorem q1692 : (Jvm.Cond.lays "GraphlineModel$Run" "GraphlineModel$Run" "batch" "I") ∈ lw_all := lw_g (lw_at lw_m7 235 rfl) rfl
theorem q1693 : (Jvm.Cond.soleField "GraphlineModel$Run" "batch") ∈ lw_all := lw_g (lw_at lw_m7 236 rfl) rfl
theorem q1694 : (Jvm.Cond.lays "GraphlineModel$Run" "GraphlineModel$Run" "slats" "I") ∈ lw_all := lw_g (lw_at lw_m7 237 rfl) rfl
theorem q1695 : (Jvm.Cond.soleField "GraphlineModel$Run" "slats") ∈ lw_all := lw_g (lw_at lw_m7 238 rfl) rfl
theorem q1696 : (Jvm.Cond.lays "GraphlineModel$Run" "GraphlineModel$Run" "hand" "I") ∈ lw_all := lw_g (lw_at lw_m7 239 rfl) rfl
theorem q1697 : (Jvm.Cond.soleField "GraphlineModel$Run" "hand") ∈ lw_all := lw_g (lw_at lw_m8 0 rfl) rfl
theorem q1698 : (Jvm.Cond.lays "GraphlineModel$Run" "GraphlineModel$Run" "many" "I") ∈ lw_all := lw_g (lw_at lw_m8 1 rfl) rfl
theorem q1699 : (Jvm.Cond.soleField "GraphlineModel$Run" "many") ∈ lw_all := lw_g (lw_at lw_m8 2 rfl) rfl
theorem q1700 : (Jvm.Cond.lays "GraphlineModel$Run" "GraphlineModel$Run" "broken" "I") ∈ lw_all := lw_g (lw_at lw_m8 3 rfl) rfl
theorem q1701 : (Jvm.Cond.soleField "GraphlineModel$Run" "broken") ∈ lw_all := lw_g (lw_at lw_m8 4 rfl) rfl
theorem q1702 : (Jvm.Cond.lays "GraphlineModel$Run" "GraphlineModel$Run" "off" "I") ∈ lw_all := lw_g (lw_at lw_m8 5 rfl) rfl
theorem q1703 : (Jvm.Cond.soleField "GraphlineModel$Run" "off") ∈ lw_all := lw_g (lw_at lw_m8 6 rfl) rfl
theorem q1704 : (Jvm.Cond.lays "GraphlineModel$Run" "GraphlineModel$Run" "ready" "I") ∈ lw_all := lw_g (lw_at lw_m8 7 rfl) rfl
theorem q1705 : (Jvm.Cond.soleField "GraphlineModel$Run" "ready") ∈ lw_all := lw_g (lw_at lw_m8 8 rfl) rfl
theorem q1706 : (Jvm.Cond.lays "GraphlineModel$Run" "GraphlineModel$Run" "coats" "I") ∈ lw_all := lw_g (lw_at lw_m8 9 rfl) rfl
theorem q1707 : (Jvm.Cond.soleField "GraphlineModel$Run" "coats") ∈ lw_all := lw_g (lw_at lw_m8 10 rfl) rfl
theorem q1708 : (Jvm.Cond.lays "GraphlineModel$Run" "GraphlineModel$Run" "colour" "I") ∈ lw_all := lw_g (lw_at lw_m8 11 rfl) rfl
theorem q1709 : (Jvm.Cond.soleField "GraphlineModel$Run" "colour") ∈ lw_all := lw_g (lw_at lw_m8 12 rfl) rfl
theorem q1710 : (Jvm.Cond.lays "GraphlineModel$Run" "GraphlineModel$Run" "stamp" "I") ∈ lw_all := lw_g (lw_at lw_m8 13 rfl) rfl
theorem q1711 : (Jvm.Cond.soleField "GraphlineModel$Run" "stamp") ∈ lw_all := lw_g (lw_at lw_m8 14 rfl) rfl
theorem q1712 : (Jvm.Cond.lays "GraphlineModel$Run" "GraphlineModel$Run" "erased" "Z") ∈ lw_all := lw_g (lw_at lw_m8 15 rfl) rfl
theorem q1713 : (Jvm.Cond.soleField "GraphlineModel$Run" "erased") ∈ lw_all := lw_g (lw_at lw_m8 16 rfl) rfl
theorem q1714 : (Jvm.Cond.superclass "GraphlineModel$Run" "java/lang/Object") ∈ lw_all := lw_g (lw_at lw_m8 17 rfl) rfl
theorem q1875 : (Jvm.Cond.castable "GraphlineModel$Run" "java/lang/Object") ∈ lw_tbl := lw_at lw_m8 178 rfl
theorem in_X14 : ∀ w ∈ wsX140, w ∈ lw_all := lw_in wsX140 [1692, 1694, 1696, 1698, 1700, 1702, 1704, 1706, 1708, 1710, 1712] (by decide +kernel) (by decide +kernel)

/-! Graphline$Gross -/
set_option maxRecDepth 100000
def RX15 : String := "Graphline$Gross"
def TX15 : u_T := fun k => match k with
  | 0 => ("Graphline$Gross", "grade", "I", true)
  | 1 => ("Graphline$Gross", "parts", "Ljava/util/List;", true)
  | _ => ("Graphline$Gross", "isShipped", "Z", false)
def tyX15 : Nat → FieldType := fun k => match k with
  | 0 => .int
  | 1 => .object "java/util/List"
  | _ => .boolean
abbrev wsX150 : List Cond := u_ws RX15 TX15 3
theorem nmX15 : ∀ a, a < 3 → ∀ b, b < 3 → a ≠ b → (TX15 a).2.1 ≠ (TX15 b).2.1 := by decide +kernel
theorem tyX15_ok : ∀ k, k < 3 → parseFieldDescriptor (TX15 k).2.2.1 = some (tyX15 k) := by decide +kernel
abbrev cX15_many : ByteArray := prog_5_method_2_code
def yX15_many : MethodName := ⟨RX15, "many", "()I"⟩
def dkwX15_many_0 : List UInt8 := [42, 180, 0, 10, 186, 0, 20, 0, 0, 184, 0, 24, 172]
abbrev dktX15_many_0 : List UInt8 := dkwX15_many_0 ++ []
theorem dksX15_many_0 : cX15_many.data.toList.drop 0 = dktX15_many_0 := by decide +kernel
theorem dX15_many_0 : decode cX15_many 0 = .ok (.aload_n 0, 1) := dk_42 (dk_at dksX15_many_0 0 rfl rfl)
theorem dX15_many_1 : decode cX15_many 1 = .ok (.getfield 10, 3) := dk_180 0 10 (dk_at dksX15_many_0 1 rfl rfl)
theorem dX15_many_4 : decode cX15_many 4 = .ok (.invokedynamic 20, 5) := by decide +kernel
theorem dX15_many_9 : decode cX15_many 9 = .ok (.invokestatic 24, 3) := dk_184 0 24 (dk_at dksX15_many_0 9 rfl rfl)
theorem dX15_many_12 : decode cX15_many 12 = .ok (.ireturn, 1) := dk_172 (dk_at dksX15_many_0 12 rfl rfl)
abbrev cX15_lambda_many_0 : ByteArray := prog_5_method_3_code
def yX15_lambda_many_0 : MethodName := ⟨RX15, "lambda$many$0", "(LGraphline$Part;)I"⟩
theorem dX15_lambda_many_0_0 : decode cX15_lambda_many_0 0 = .ok (.aload_n 0, 1) := by decide +kernel
theorem dX15_lambda_many_0_1 : decode cX15_lambda_many_0 1 = .ok (.invokevirtual 30, 3) := by decide +kernel
theorem dX15_lambda_many_0_4 : decode cX15_lambda_many_0 4 = .ok (.ireturn, 1) := by decide +kernel
abbrev cX15_init : ByteArray := prog_5_method_1_code
def yX15_init : MethodName := ⟨RX15, "<init>", "(I)V"⟩
def dkwX15_init_0 : List UInt8 := [42, 183, 0, 1, 42, 187, 0, 7, 89, 183, 0, 9, 181, 0, 10, 42, 27, 181, 0, 16, 177]
abbrev dktX15_init_0 : List UInt8 := dkwX15_init_0 ++ []
theorem dksX15_init_0 : cX15_init.data.toList.drop 0 = dktX15_init_0 := by decide +kernel
theorem dX15_init_0 : decode cX15_init 0 = .ok (.aload_n 0, 1) := dk_42 (dk_at dksX15_init_0 0 rfl rfl)
theorem dX15_init_1 : decode cX15_init 1 = .ok (.invokespecial 1, 3) := dk_183 0 1 (dk_at dksX15_init_0 1 rfl rfl)
theorem dX15_init_4 : decode cX15_init 4 = .ok (.aload_n 0, 1) := dk_42 (dk_at dksX15_init_0 4 rfl rfl)
theorem dX15_init_5 : decode cX15_init 5 = .ok (.new 7, 3) := dk_187 0 7 (dk_at dksX15_init_0 5 rfl rfl)
theorem dX15_init_8 : decode cX15_init 8 = .ok (.dup, 1) := dk_89 (dk_at dksX15_init_0 8 rfl rfl)
theorem dX15_init_9 : decode cX15_init 9 = .ok (.invokespecial 9, 3) := dk_183 0 9 (dk_at dksX15_init_0 9 rfl rfl)
theorem dX15_init_12 : decode cX15_init 12 = .ok (.putfield 10, 3) := dk_181 0 10 (dk_at dksX15_init_0 12 rfl rfl)
theorem dX15_init_15 : decode cX15_init 15 = .ok (.aload_n 0, 1) := dk_42 (dk_at dksX15_init_0 15 rfl rfl)
theorem dX15_init_16 : decode cX15_init 16 = .ok (.iload_n 1, 1) := dk_27 (dk_at dksX15_init_0 16 rfl rfl)
theorem dX15_init_17 : decode cX15_init 17 = .ok (.putfield 16, 3) := dk_181 0 16 (dk_at dksX15_init_0 17 rfl rfl)
theorem dX15_init_20 : decode cX15_init 20 = .ok (.return_, 1) := dk_177 (dk_at dksX15_init_0 20 rfl rfl)
theorem q53 : (Jvm.Cond.initialized "Graphline$Gross") ∈ lw_all := lw_g (lw_at lw_m1 36 rfl) rfl
theorem q274 : (Jvm.Cond.instanceMethod ({ cls := "Graphline$Gross", name := "many", desc := "()I" } : Jvm.MethodName)) ∈ lw_all := lw_g (lw_at lw_m2 17 rfl) rfl
theorem q275 : (Jvm.Cond.selects "Graphline$Gross" ({ cls := "Graphline$Gross", name := "many", desc := "()I" } : Jvm.MethodName) ({ cls := "Graphline$Gross", name := "many", desc := "()I" } : Jvm.MethodName)) ∈ lw_all := lw_g (lw_at lw_m2 18 rfl) rfl
theorem q276 : (Jvm.Cond.code ({ cls := "Graphline$Gross", name := "many", desc := "()I" } : Jvm.MethodName) prog_5_method_2_code (1 : Nat) (Option.some Jvm.ClassFile.FieldType.int)) ∈ lw_all := lw_g (lw_at lw_m2 19 rfl) rfl
theorem q277 : (Jvm.Cond.static ({ cls := "Graphline$Gross", name := "lambda$many$0", desc := "(LGraphline$Part;)I" } : Jvm.MethodName)) ∈ lw_all := lw_g (lw_at lw_m2 20 rfl) rfl
theorem q278 : (Jvm.Cond.code ({ cls := "Graphline$Gross", name := "lambda$many$0", desc := "(LGraphline$Part;)I" } : Jvm.MethodName) prog_5_method_3_code (1 : Nat) (Option.some Jvm.ClassFile.FieldType.int)) ∈ lw_all := lw_g (lw_at lw_m2 21 rfl) rfl
theorem q279 : (Jvm.Cond.methodLink "Graphline$Gross" (30 : Nat) ({ cls := "Graphline$Part", name := "many", desc := "()I" } : Jvm.MethodName)) ∈ lw_all := lw_g (lw_at lw_m2 22 rfl) rfl
theorem q283 : (Jvm.Cond.methodLinkNest "Graphline$Gross" (24 : Nat) ({ cls := "Graphline", name := "sum", desc := "(Ljava/util/List;Ljava/util/function/ToIntFunction;)I" } : Jvm.MethodName) "Graphline") ∈ lw_tbl := lw_at lw_m2 26 rfl
theorem q715 : (Jvm.Cond.selects "Graphline$Gross" ({ cls := "java/lang/Object", name := "getClass", desc := "()Ljava/lang/Class;" } : Jvm.MethodName) ({ cls := "java/lang/Object", name := "getClass", desc := "()Ljava/lang/Class;" } : Jvm.MethodName)) ∈ lw_all := lw_g (lw_at lw_m3 218 rfl) rfl
theorem q1191 : (Jvm.Cond.instantiable "Graphline$Gross" (3 : Nat)) ∈ lw_all := lw_g (lw_at lw_m5 214 rfl) rfl
theorem q1193 : (Jvm.Cond.instanceMethod ({ cls := "Graphline$Gross", name := "<init>", desc := "(I)V" } : Jvm.MethodName)) ∈ lw_all := lw_g (lw_at lw_m5 216 rfl) rfl
theorem q1194 : (Jvm.Cond.code ({ cls := "Graphline$Gross", name := "<init>", desc := "(I)V" } : Jvm.MethodName) prog_5_method_1_code (2 : Nat) (Option.none : Option Jvm.ClassFile.FieldType)) ∈ lw_all := lw_g (lw_at lw_m5 217 rfl) rfl
theorem q1195 : (Jvm.Cond.methodLink "Graphline$Gross" (1 : Nat) ({ cls := "java/lang/Object", name := "<init>", desc := "()V" } : Jvm.MethodName)) ∈ lw_all := lw_g (lw_at lw_m5 218 rfl) rfl
theorem q1196 : (Jvm.Cond.classLink "Graphline$Gross" (7 : Nat) "java/util/ArrayList") ∈ lw_all := lw_g (lw_at lw_m5 219 rfl) rfl
theorem q1197 : (Jvm.Cond.methodLink "Graphline$Gross" (9 : Nat) ({ cls := "java/util/ArrayList", name := "<init>", desc := "()V" } : Jvm.MethodName)) ∈ lw_all := lw_g (lw_at lw_m5 220 rfl) rfl
theorem q1198 : (Jvm.Cond.fieldLink "Graphline$Gross" (16 : Nat) "Graphline$Gross" "grade" "I") ∈ lw_all := lw_g (lw_at lw_m5 221 rfl) rfl
theorem q1200 : (Jvm.Cond.fieldLink "Graphline$Gross" (10 : Nat) "Graphline$Gross" "parts" "Ljava/util/List;") ∈ lw_all := lw_g (lw_at lw_m5 223 rfl) rfl
theorem q1203 : (Jvm.Cond.laysFinal "Graphline$Gross" "Graphline$Gross" "grade" "I") ∈ lw_all := lw_g (lw_at lw_m5 226 rfl) rfl
theorem q1204 : (Jvm.Cond.soleField "Graphline$Gross" "grade") ∈ lw_all := lw_g (lw_at lw_m5 227 rfl) rfl
theorem q1205 : (Jvm.Cond.laysFinal "Graphline$Gross" "Graphline$Gross" "parts" "Ljava/util/List;") ∈ lw_all := lw_g (lw_at lw_m5 228 rfl) rfl
theorem q1206 : (Jvm.Cond.soleField "Graphline$Gross" "parts") ∈ lw_all := lw_g (lw_at lw_m5 229 rfl) rfl
theorem q1207 : (Jvm.Cond.lays "Graphline$Gross" "Graphline$Gross" "isShipped" "Z") ∈ lw_all := lw_g (lw_at lw_m5 230 rfl) rfl
theorem q1208 : (Jvm.Cond.soleField "Graphline$Gross" "isShipped") ∈ lw_all := lw_g (lw_at lw_m5 231 rfl) rfl
theorem q1209 : (Jvm.Cond.superclass "Graphline$Gross" "java/lang/Object") ∈ lw_all := lw_g (lw_at lw_m5 232 rfl) rfl
theorem q1876 : (Jvm.Cond.castable "Graphline$Gross" "java/lang/Object") ∈ lw_tbl := lw_at lw_m8 179 rfl
theorem in_X15 : ∀ w ∈ wsX150, w ∈ lw_all := lw_in wsX150 [1203, 1205, 1207] (by decide +kernel) (by decide +kernel)

/-! GraphlineModel$Gross -/
set_option maxRecDepth 100000
def RX16 : String := "GraphlineModel$Gross"
def TX16 : u_T := fun k => match k with
  | 0 => ("GraphlineModel$Gross", "grade", "I", false)
  | 1 => ("GraphlineModel$Gross", "parts", "Ljava/util/List;", true)
  | _ => ("GraphlineModel$Gross", "shipped", "Z", false)
def tyX16 : Nat → FieldType := fun k => match k with
  | 0 => .int
  | 1 => .object "java/util/List"
  | _ => .boolean
abbrev wsX160 : List Cond := u_ws RX16 TX16 3
theorem nmX16 : ∀ a, a < 3 → ∀ b, b < 3 → a ≠ b → (TX16 a).2.1 ≠ (TX16 b).2.1 := by decide +kernel
theorem tyX16_ok : ∀ k, k < 3 → parseFieldDescriptor (TX16 k).2.2.1 = some (tyX16 k) := by decide +kernel
abbrev cX16_init : ByteArray := prog_17_method_1_code
def yX16_init : MethodName := ⟨RX16, "<init>", "()V"⟩
def dkwX16_init_0 : List UInt8 := [42, 183, 0, 1, 42, 187, 0, 7, 89, 183, 0, 9, 181, 0, 10, 177]
abbrev dktX16_init_0 : List UInt8 := dkwX16_init_0 ++ []
theorem dksX16_init_0 : cX16_init.data.toList.drop 0 = dktX16_init_0 := by decide +kernel
theorem dX16_init_0 : decode cX16_init 0 = .ok (.aload_n 0, 1) := dk_42 (dk_at dksX16_init_0 0 rfl rfl)
theorem dX16_init_1 : decode cX16_init 1 = .ok (.invokespecial 1, 3) := dk_183 0 1 (dk_at dksX16_init_0 1 rfl rfl)
theorem dX16_init_4 : decode cX16_init 4 = .ok (.aload_n 0, 1) := dk_42 (dk_at dksX16_init_0 4 rfl rfl)
theorem dX16_init_5 : decode cX16_init 5 = .ok (.new 7, 3) := dk_187 0 7 (dk_at dksX16_init_0 5 rfl rfl)
theorem dX16_init_8 : decode cX16_init 8 = .ok (.dup, 1) := dk_89 (dk_at dksX16_init_0 8 rfl rfl)
theorem dX16_init_9 : decode cX16_init 9 = .ok (.invokespecial 9, 3) := dk_183 0 9 (dk_at dksX16_init_0 9 rfl rfl)
theorem dX16_init_12 : decode cX16_init 12 = .ok (.putfield 10, 3) := dk_181 0 10 (dk_at dksX16_init_0 12 rfl rfl)
theorem dX16_init_15 : decode cX16_init 15 = .ok (.return_, 1) := dk_177 (dk_at dksX16_init_0 15 rfl rfl)
abbrev cX16_many : ByteArray := prog_17_method_2_code
def yX16_many : MethodName := ⟨RX16, "many", "()I"⟩
def dkwX16_many_1 : List UInt8 := [185, 0, 28, 1, 0, 192, 0, 32, 78, 27, 45, 4, 46, 96, 60, 167, 255, 231, 27, 172]
abbrev dktX16_many_1 : List UInt8 := dkwX16_many_1 ++ []
def dkwX16_many_0 : List UInt8 := [3, 60, 42, 180, 0, 10, 185, 0, 16, 1, 0, 77, 44, 185, 0, 22, 1, 0, 153, 0, 22, 44]
abbrev dktX16_many_0 : List UInt8 := dkwX16_many_0 ++ dktX16_many_1
theorem dksX16_many_0 : cX16_many.data.toList.drop 0 = dktX16_many_0 := by decide +kernel
theorem dksX16_many_1 : cX16_many.data.toList.drop 22 = dktX16_many_1 := dk_seg dksX16_many_0 22 rfl rfl
theorem dX16_many_0 : decode cX16_many 0 = .ok (.iconst 0, 1) := dk_3 (dk_at dksX16_many_0 0 rfl rfl)
theorem dX16_many_1 : decode cX16_many 1 = .ok (.istore_n 1, 1) := dk_60 (dk_at dksX16_many_0 1 rfl rfl)
theorem dX16_many_2 : decode cX16_many 2 = .ok (.aload_n 0, 1) := dk_42 (dk_at dksX16_many_0 2 rfl rfl)
theorem dX16_many_3 : decode cX16_many 3 = .ok (.getfield 10, 3) := dk_180 0 10 (dk_at dksX16_many_0 3 rfl rfl)
theorem dX16_many_6 : decode cX16_many 6 = .ok (.invokeinterface 16 1, 5) := by decide +kernel
theorem dX16_many_11 : decode cX16_many 11 = .ok (.astore_n 2, 1) := dk_77 (dk_at dksX16_many_0 11 rfl rfl)
theorem dX16_many_12 : decode cX16_many 12 = .ok (.aload_n 2, 1) := dk_44 (dk_at dksX16_many_0 12 rfl rfl)
theorem dX16_many_13 : decode cX16_many 13 = .ok (.invokeinterface 22 1, 5) := by decide +kernel
theorem dX16_many_18 : decode cX16_many 18 = .ok (.ifCond .eq 22, 3) := dk_153 0 22 (dk_at dksX16_many_0 18 rfl rfl)
theorem dX16_many_21 : decode cX16_many 21 = .ok (.aload_n 2, 1) := dk_44 (dk_at dksX16_many_0 21 rfl rfl)
theorem dX16_many_22 : decode cX16_many 22 = .ok (.invokeinterface 28 1, 5) := by decide +kernel
theorem dX16_many_27 : decode cX16_many 27 = .ok (.checkcast 32, 3) := dk_192 0 32 (dk_at dksX16_many_1 5 rfl rfl)
theorem dX16_many_30 : decode cX16_many 30 = .ok (.astore_n 3, 1) := dk_78 (dk_at dksX16_many_1 8 rfl rfl)
theorem dX16_many_31 : decode cX16_many 31 = .ok (.iload_n 1, 1) := dk_27 (dk_at dksX16_many_1 9 rfl rfl)
theorem dX16_many_32 : decode cX16_many 32 = .ok (.aload_n 3, 1) := dk_45 (dk_at dksX16_many_1 10 rfl rfl)
theorem dX16_many_33 : decode cX16_many 33 = .ok (.iconst 1, 1) := dk_4 (dk_at dksX16_many_1 11 rfl rfl)
theorem dX16_many_34 : decode cX16_many 34 = .ok (.iaload, 1) := dk_46 (dk_at dksX16_many_1 12 rfl rfl)
theorem dX16_many_35 : decode cX16_many 35 = .ok (.iadd, 1) := dk_96 (dk_at dksX16_many_1 13 rfl rfl)
theorem dX16_many_36 : decode cX16_many 36 = .ok (.istore_n 1, 1) := dk_60 (dk_at dksX16_many_1 14 rfl rfl)
theorem dX16_many_37 : decode cX16_many 37 = .ok (.goto (-25), 3) := dk_167 255 231 (dk_at dksX16_many_1 15 rfl rfl)
theorem dX16_many_40 : decode cX16_many 40 = .ok (.iload_n 1, 1) := dk_27 (dk_at dksX16_many_1 18 rfl rfl)
theorem dX16_many_41 : decode cX16_many 41 = .ok (.ireturn, 1) := dk_172 (dk_at dksX16_many_1 19 rfl rfl)
theorem q54 : (Jvm.Cond.initialized "GraphlineModel$Gross") ∈ lw_all := lw_g (lw_at lw_m1 37 rfl) rfl
theorem q725 : (Jvm.Cond.selects "GraphlineModel$Gross" ({ cls := "java/lang/Object", name := "getClass", desc := "()Ljava/lang/Class;" } : Jvm.MethodName) ({ cls := "java/lang/Object", name := "getClass", desc := "()Ljava/lang/Class;" } : Jvm.MethodName)) ∈ lw_all := lw_g (lw_at lw_m3 228 rfl) rfl
theorem q1757 : (Jvm.Cond.instantiable "GraphlineModel$Gross" (3 : Nat)) ∈ lw_all := lw_g (lw_at lw_m8 60 rfl) rfl
theorem q1759 : (Jvm.Cond.instanceMethod ({ cls := "GraphlineModel$Gross", name := "<init>", desc := "()V" } : Jvm.MethodName)) ∈ lw_all := lw_g (lw_at lw_m8 62 rfl) rfl
theorem q1760 : (Jvm.Cond.code ({ cls := "GraphlineModel$Gross", name := "<init>", desc := "()V" } : Jvm.MethodName) prog_17_method_1_code (1 : Nat) (Option.none : Option Jvm.ClassFile.FieldType)) ∈ lw_all := lw_g (lw_at lw_m8 63 rfl) rfl
theorem q1761 : (Jvm.Cond.methodLink "GraphlineModel$Gross" (1 : Nat) ({ cls := "java/lang/Object", name := "<init>", desc := "()V" } : Jvm.MethodName)) ∈ lw_all := lw_g (lw_at lw_m8 64 rfl) rfl
theorem q1762 : (Jvm.Cond.classLink "GraphlineModel$Gross" (7 : Nat) "java/util/ArrayList") ∈ lw_all := lw_g (lw_at lw_m8 65 rfl) rfl
theorem q1763 : (Jvm.Cond.methodLink "GraphlineModel$Gross" (9 : Nat) ({ cls := "java/util/ArrayList", name := "<init>", desc := "()V" } : Jvm.MethodName)) ∈ lw_all := lw_g (lw_at lw_m8 66 rfl) rfl
theorem q1765 : (Jvm.Cond.fieldLink "GraphlineModel$Gross" (10 : Nat) "GraphlineModel$Gross" "parts" "Ljava/util/List;") ∈ lw_all := lw_g (lw_at lw_m8 68 rfl) rfl
theorem q1768 : (Jvm.Cond.lays "GraphlineModel$Gross" "GraphlineModel$Gross" "grade" "I") ∈ lw_all := lw_g (lw_at lw_m8 71 rfl) rfl
theorem q1769 : (Jvm.Cond.soleField "GraphlineModel$Gross" "grade") ∈ lw_all := lw_g (lw_at lw_m8 72 rfl) rfl
theorem q1770 : (Jvm.Cond.laysFinal "GraphlineModel$Gross" "GraphlineModel$Gross" "parts" "Ljava/util/List;") ∈ lw_all := lw_g (lw_at lw_m8 73 rfl) rfl
theorem q1771 : (Jvm.Cond.soleField "GraphlineModel$Gross" "parts") ∈ lw_all := lw_g (lw_at lw_m8 74 rfl) rfl
theorem q1772 : (Jvm.Cond.lays "GraphlineModel$Gross" "GraphlineModel$Gross" "shipped" "Z") ∈ lw_all := lw_g (lw_at lw_m8 75 rfl) rfl
theorem q1773 : (Jvm.Cond.soleField "GraphlineModel$Gross" "shipped") ∈ lw_all := lw_g (lw_at lw_m8 76 rfl) rfl
theorem q1774 : (Jvm.Cond.superclass "GraphlineModel$Gross" "java/lang/Object") ∈ lw_all := lw_g (lw_at lw_m8 77 rfl) rfl
theorem q1781 : (Jvm.Cond.instanceMethod ({ cls := "GraphlineModel$Gross", name := "many", desc := "()I" } : Jvm.MethodName)) ∈ lw_all := lw_g (lw_at lw_m8 84 rfl) rfl
theorem q1782 : (Jvm.Cond.selects "GraphlineModel$Gross" ({ cls := "GraphlineModel$Gross", name := "many", desc := "()I" } : Jvm.MethodName) ({ cls := "GraphlineModel$Gross", name := "many", desc := "()I" } : Jvm.MethodName)) ∈ lw_all := lw_g (lw_at lw_m8 85 rfl) rfl
theorem q1783 : (Jvm.Cond.code ({ cls := "GraphlineModel$Gross", name := "many", desc := "()I" } : Jvm.MethodName) prog_17_method_2_code (4 : Nat) (Option.some Jvm.ClassFile.FieldType.int)) ∈ lw_all := lw_g (lw_at lw_m8 86 rfl) rfl
theorem q1784 : (Jvm.Cond.interfaceEntry "GraphlineModel$Gross" (16 : Nat)) ∈ lw_tbl := lw_at lw_m8 87 rfl
theorem q1785 : (Jvm.Cond.methodLink "GraphlineModel$Gross" (16 : Nat) ({ cls := "java/util/List", name := "iterator", desc := "()Ljava/util/Iterator;" } : Jvm.MethodName)) ∈ lw_all := lw_g (lw_at lw_m8 88 rfl) rfl
theorem q1786 : (Jvm.Cond.interfaceEntry "GraphlineModel$Gross" (22 : Nat)) ∈ lw_tbl := lw_at lw_m8 89 rfl
theorem q1787 : (Jvm.Cond.methodLink "GraphlineModel$Gross" (22 : Nat) ({ cls := "java/util/Iterator", name := "hasNext", desc := "()Z" } : Jvm.MethodName)) ∈ lw_all := lw_g (lw_at lw_m8 90 rfl) rfl
theorem q1788 : (Jvm.Cond.interfaceEntry "GraphlineModel$Gross" (28 : Nat)) ∈ lw_tbl := lw_at lw_m8 91 rfl
theorem q1789 : (Jvm.Cond.methodLink "GraphlineModel$Gross" (28 : Nat) ({ cls := "java/util/Iterator", name := "next", desc := "()Ljava/lang/Object;" } : Jvm.MethodName)) ∈ lw_all := lw_g (lw_at lw_m8 92 rfl) rfl
theorem q1790 : (Jvm.Cond.classLink "GraphlineModel$Gross" (32 : Nat) "[I") ∈ lw_all := lw_g (lw_at lw_m8 93 rfl) rfl
theorem q1877 : (Jvm.Cond.castable "GraphlineModel$Gross" "java/lang/Object") ∈ lw_tbl := lw_at lw_m8 180 rfl
theorem in_X16 : ∀ w ∈ wsX160, w ∈ lw_all := lw_in wsX160 [1768, 1770, 1772] (by decide +kernel) (by decide +kernel)

/-! Graphline$Part -/
set_option maxRecDepth 100000
def RX17 : String := "Graphline$Part"
def TX17 : u_T := fun k => match k with
  | 0 => ("Graphline$Part", "run", "LGraphline$Run;", true)
  | 1 => ("Graphline$Part", "many", "I", true)
  | _ => ("Graphline$Part", "broken", "I", true)
def tyX17 : Nat → FieldType := fun k => match k with
  | 0 => .object "Graphline$Run"
  | 1 => .int
  | _ => .int
abbrev wsX170 : List Cond := u_ws RX17 TX17 3
theorem nmX17 : ∀ a, a < 3 → ∀ b, b < 3 → a ≠ b → (TX17 a).2.1 ≠ (TX17 b).2.1 := by decide +kernel
theorem tyX17_ok : ∀ k, k < 3 → parseFieldDescriptor (TX17 k).2.2.1 = some (tyX17 k) := by decide +kernel
abbrev cX17_many : ByteArray := prog_9_method_7_code
def yX17_many : MethodName := ⟨RX17, "many", "()I"⟩
theorem dX17_many_0 : decode cX17_many 0 = .ok (.aload_n 0, 1) := by decide +kernel
theorem dX17_many_1 : decode cX17_many 1 = .ok (.getfield 13, 3) := by decide +kernel
theorem dX17_many_4 : decode cX17_many 4 = .ok (.ireturn, 1) := by decide +kernel
abbrev cX17_run : ByteArray := prog_9_method_6_code
def yX17_run : MethodName := ⟨RX17, "run", "()LGraphline$Run;"⟩
theorem dX17_run_0 : decode cX17_run 0 = .ok (.aload_n 0, 1) := by decide +kernel
theorem dX17_run_1 : decode cX17_run 1 = .ok (.getfield 7, 3) := by decide +kernel
theorem dX17_run_4 : decode cX17_run 4 = .ok (.areturn, 1) := by decide +kernel
abbrev cX17_init : ByteArray := prog_9_method_1_code
def yX17_init : MethodName := ⟨RX17, "<init>", "(LGraphline$Run;II)V"⟩
def dkwX17_init_0 : List UInt8 := [42, 183, 0, 1, 42, 43, 181, 0, 7, 42, 28, 181, 0, 13, 42, 29, 181, 0, 17, 177]
abbrev dktX17_init_0 : List UInt8 := dkwX17_init_0 ++ []
theorem dksX17_init_0 : cX17_init.data.toList.drop 0 = dktX17_init_0 := by decide +kernel
theorem dX17_init_0 : decode cX17_init 0 = .ok (.aload_n 0, 1) := dk_42 (dk_at dksX17_init_0 0 rfl rfl)
theorem dX17_init_1 : decode cX17_init 1 = .ok (.invokespecial 1, 3) := dk_183 0 1 (dk_at dksX17_init_0 1 rfl rfl)
theorem dX17_init_4 : decode cX17_init 4 = .ok (.aload_n 0, 1) := dk_42 (dk_at dksX17_init_0 4 rfl rfl)
theorem dX17_init_5 : decode cX17_init 5 = .ok (.aload_n 1, 1) := dk_43 (dk_at dksX17_init_0 5 rfl rfl)
theorem dX17_init_6 : decode cX17_init 6 = .ok (.putfield 7, 3) := dk_181 0 7 (dk_at dksX17_init_0 6 rfl rfl)
theorem dX17_init_9 : decode cX17_init 9 = .ok (.aload_n 0, 1) := dk_42 (dk_at dksX17_init_0 9 rfl rfl)
theorem dX17_init_10 : decode cX17_init 10 = .ok (.iload_n 2, 1) := dk_28 (dk_at dksX17_init_0 10 rfl rfl)
theorem dX17_init_11 : decode cX17_init 11 = .ok (.putfield 13, 3) := dk_181 0 13 (dk_at dksX17_init_0 11 rfl rfl)
theorem dX17_init_14 : decode cX17_init 14 = .ok (.aload_n 0, 1) := dk_42 (dk_at dksX17_init_0 14 rfl rfl)
theorem dX17_init_15 : decode cX17_init 15 = .ok (.iload_n 3, 1) := dk_29 (dk_at dksX17_init_0 15 rfl rfl)
theorem dX17_init_16 : decode cX17_init 16 = .ok (.putfield 17, 3) := dk_181 0 17 (dk_at dksX17_init_0 16 rfl rfl)
theorem dX17_init_19 : decode cX17_init 19 = .ok (.return_, 1) := dk_177 (dk_at dksX17_init_0 19 rfl rfl)
abbrev cX17_isTrue : ByteArray := prog_9_method_2_code
def yX17_isTrue : MethodName := ⟨RX17, "isTrue", "()Z"⟩
def dkwX17_isTrue_1 : List UInt8 := [100, 184, 0, 35, 4, 163, 0, 7, 4, 167, 0, 4, 3, 172]
abbrev dktX17_isTrue_1 : List UInt8 := dkwX17_isTrue_1 ++ []
def dkwX17_isTrue_0 : List UInt8 := [42, 180, 0, 17, 154, 0, 32, 42, 180, 0, 7, 180, 0, 20, 182, 0, 26, 42, 180, 0, 7, 180, 0, 32]
abbrev dktX17_isTrue_0 : List UInt8 := dkwX17_isTrue_0 ++ dktX17_isTrue_1
theorem dksX17_isTrue_0 : cX17_isTrue.data.toList.drop 0 = dktX17_isTrue_0 := by decide +kernel
theorem dksX17_isTrue_1 : cX17_isTrue.data.toList.drop 24 = dktX17_isTrue_1 := dk_seg dksX17_isTrue_0 24 rfl rfl
theorem dX17_isTrue_0 : decode cX17_isTrue 0 = .ok (.aload_n 0, 1) := dk_42 (dk_at dksX17_isTrue_0 0 rfl rfl)
theorem dX17_isTrue_1 : decode cX17_isTrue 1 = .ok (.getfield 17, 3) := dk_180 0 17 (dk_at dksX17_isTrue_0 1 rfl rfl)
theorem dX17_isTrue_4 : decode cX17_isTrue 4 = .ok (.ifCond .ne 32, 3) := dk_154 0 32 (dk_at dksX17_isTrue_0 4 rfl rfl)
theorem dX17_isTrue_7 : decode cX17_isTrue 7 = .ok (.aload_n 0, 1) := dk_42 (dk_at dksX17_isTrue_0 7 rfl rfl)
theorem dX17_isTrue_8 : decode cX17_isTrue 8 = .ok (.getfield 7, 3) := dk_180 0 7 (dk_at dksX17_isTrue_0 8 rfl rfl)
theorem dX17_isTrue_11 : decode cX17_isTrue 11 = .ok (.getfield 20, 3) := dk_180 0 20 (dk_at dksX17_isTrue_0 11 rfl rfl)
theorem dX17_isTrue_14 : decode cX17_isTrue 14 = .ok (.invokevirtual 26, 3) := dk_182 0 26 (dk_at dksX17_isTrue_0 14 rfl rfl)
theorem dX17_isTrue_17 : decode cX17_isTrue 17 = .ok (.aload_n 0, 1) := dk_42 (dk_at dksX17_isTrue_0 17 rfl rfl)
theorem dX17_isTrue_18 : decode cX17_isTrue 18 = .ok (.getfield 7, 3) := dk_180 0 7 (dk_at dksX17_isTrue_0 18 rfl rfl)
theorem dX17_isTrue_21 : decode cX17_isTrue 21 = .ok (.getfield 32, 3) := dk_180 0 32 (dk_at dksX17_isTrue_0 21 rfl rfl)
theorem dX17_isTrue_24 : decode cX17_isTrue 24 = .ok (.isub, 1) := dk_100 (dk_at dksX17_isTrue_1 0 rfl rfl)
theorem dX17_isTrue_25 : decode cX17_isTrue 25 = .ok (.invokestatic 35, 3) := dk_184 0 35 (dk_at dksX17_isTrue_1 1 rfl rfl)
theorem dX17_isTrue_28 : decode cX17_isTrue 28 = .ok (.iconst 1, 1) := dk_4 (dk_at dksX17_isTrue_1 4 rfl rfl)
theorem dX17_isTrue_29 : decode cX17_isTrue 29 = .ok (.if_icmp .gt 7, 3) := dk_163 0 7 (dk_at dksX17_isTrue_1 5 rfl rfl)
theorem dX17_isTrue_32 : decode cX17_isTrue 32 = .ok (.iconst 1, 1) := dk_4 (dk_at dksX17_isTrue_1 8 rfl rfl)
theorem dX17_isTrue_33 : decode cX17_isTrue 33 = .ok (.goto 4, 3) := dk_167 0 4 (dk_at dksX17_isTrue_1 9 rfl rfl)
theorem dX17_isTrue_36 : decode cX17_isTrue 36 = .ok (.iconst 0, 1) := dk_3 (dk_at dksX17_isTrue_1 12 rfl rfl)
theorem dX17_isTrue_37 : decode cX17_isTrue 37 = .ok (.ireturn, 1) := dk_172 (dk_at dksX17_isTrue_1 13 rfl rfl)
abbrev cX17_broken : ByteArray := prog_9_method_8_code
def yX17_broken : MethodName := ⟨RX17, "broken", "()I"⟩
theorem dX17_broken_0 : decode cX17_broken 0 = .ok (.aload_n 0, 1) := by decide +kernel
theorem dX17_broken_1 : decode cX17_broken 1 = .ok (.getfield 17, 3) := by decide +kernel
theorem dX17_broken_4 : decode cX17_broken 4 = .ok (.ireturn, 1) := by decide +kernel
theorem q57 : (Jvm.Cond.initialized "Graphline$Part") ∈ lw_all := lw_g (lw_at lw_m1 40 rfl) rfl
theorem q280 : (Jvm.Cond.instanceMethod ({ cls := "Graphline$Part", name := "many", desc := "()I" } : Jvm.MethodName)) ∈ lw_all := lw_g (lw_at lw_m2 23 rfl) rfl
theorem q281 : (Jvm.Cond.selects "Graphline$Part" ({ cls := "Graphline$Part", name := "many", desc := "()I" } : Jvm.MethodName) ({ cls := "Graphline$Part", name := "many", desc := "()I" } : Jvm.MethodName)) ∈ lw_all := lw_g (lw_at lw_m2 24 rfl) rfl
theorem q282 : (Jvm.Cond.code ({ cls := "Graphline$Part", name := "many", desc := "()I" } : Jvm.MethodName) prog_9_method_7_code (1 : Nat) (Option.some Jvm.ClassFile.FieldType.int)) ∈ lw_all := lw_g (lw_at lw_m2 25 rfl) rfl
theorem q318 : (Jvm.Cond.instanceMethod ({ cls := "Graphline$Part", name := "run", desc := "()LGraphline$Run;" } : Jvm.MethodName)) ∈ lw_all := lw_g (lw_at lw_m2 61 rfl) rfl
theorem q319 : (Jvm.Cond.selects "Graphline$Part" ({ cls := "Graphline$Part", name := "run", desc := "()LGraphline$Run;" } : Jvm.MethodName) ({ cls := "Graphline$Part", name := "run", desc := "()LGraphline$Run;" } : Jvm.MethodName)) ∈ lw_all := lw_g (lw_at lw_m2 62 rfl) rfl
theorem q320 : (Jvm.Cond.code ({ cls := "Graphline$Part", name := "run", desc := "()LGraphline$Run;" } : Jvm.MethodName) prog_9_method_6_code (1 : Nat) (Option.some (Jvm.ClassFile.FieldType.object "Graphline$Run"))) ∈ lw_all := lw_g (lw_at lw_m2 63 rfl) rfl
theorem q718 : (Jvm.Cond.selects "Graphline$Part" ({ cls := "java/lang/Object", name := "getClass", desc := "()Ljava/lang/Class;" } : Jvm.MethodName) ({ cls := "java/lang/Object", name := "getClass", desc := "()Ljava/lang/Class;" } : Jvm.MethodName)) ∈ lw_all := lw_g (lw_at lw_m3 221 rfl) rfl
theorem q1082 : (Jvm.Cond.fieldLinkNest "Graphline$Part" (20 : Nat) "Graphline$Run" "batch" "LGraphline$Batch;" "Graphline") ∈ lw_tbl := lw_at lw_m5 105 rfl
theorem q1098 : (Jvm.Cond.fieldLinkNest "Graphline$Part" (32 : Nat) "Graphline$Run" "stamp" "I" "Graphline") ∈ lw_tbl := lw_at lw_m5 121 rfl
theorem q1218 : (Jvm.Cond.instantiable "Graphline$Part" (3 : Nat)) ∈ lw_all := lw_g (lw_at lw_m6 1 rfl) rfl
theorem q1220 : (Jvm.Cond.instanceMethod ({ cls := "Graphline$Part", name := "<init>", desc := "(LGraphline$Run;II)V" } : Jvm.MethodName)) ∈ lw_all := lw_g (lw_at lw_m6 3 rfl) rfl
theorem q1221 : (Jvm.Cond.code ({ cls := "Graphline$Part", name := "<init>", desc := "(LGraphline$Run;II)V" } : Jvm.MethodName) prog_9_method_1_code (4 : Nat) (Option.none : Option Jvm.ClassFile.FieldType)) ∈ lw_all := lw_g (lw_at lw_m6 4 rfl) rfl
theorem q1222 : (Jvm.Cond.methodLink "Graphline$Part" (1 : Nat) ({ cls := "java/lang/Record", name := "<init>", desc := "()V" } : Jvm.MethodName)) ∈ lw_all := lw_g (lw_at lw_m6 5 rfl) rfl
theorem q1226 : (Jvm.Cond.fieldLink "Graphline$Part" (7 : Nat) "Graphline$Part" "run" "LGraphline$Run;") ∈ lw_all := lw_g (lw_at lw_m6 9 rfl) rfl
theorem q1227 : (Jvm.Cond.fieldLink "Graphline$Part" (13 : Nat) "Graphline$Part" "many" "I") ∈ lw_all := lw_g (lw_at lw_m6 10 rfl) rfl
theorem q1228 : (Jvm.Cond.fieldLink "Graphline$Part" (17 : Nat) "Graphline$Part" "broken" "I") ∈ lw_all := lw_g (lw_at lw_m6 11 rfl) rfl
theorem q1229 : (Jvm.Cond.laysFinal "Graphline$Part" "Graphline$Part" "run" "LGraphline$Run;") ∈ lw_all := lw_g (lw_at lw_m6 12 rfl) rfl
theorem q1230 : (Jvm.Cond.soleField "Graphline$Part" "run") ∈ lw_all := lw_g (lw_at lw_m6 13 rfl) rfl
theorem q1231 : (Jvm.Cond.laysFinal "Graphline$Part" "Graphline$Part" "many" "I") ∈ lw_all := lw_g (lw_at lw_m6 14 rfl) rfl
theorem q1232 : (Jvm.Cond.soleField "Graphline$Part" "many") ∈ lw_all := lw_g (lw_at lw_m6 15 rfl) rfl
theorem q1233 : (Jvm.Cond.laysFinal "Graphline$Part" "Graphline$Part" "broken" "I") ∈ lw_all := lw_g (lw_at lw_m6 16 rfl) rfl
theorem q1234 : (Jvm.Cond.soleField "Graphline$Part" "broken") ∈ lw_all := lw_g (lw_at lw_m6 17 rfl) rfl
theorem q1235 : (Jvm.Cond.superclass "Graphline$Part" "java/lang/Record") ∈ lw_all := lw_g (lw_at lw_m6 18 rfl) rfl
theorem q1296 : (Jvm.Cond.instanceMethod ({ cls := "Graphline$Part", name := "isTrue", desc := "()Z" } : Jvm.MethodName)) ∈ lw_all := lw_g (lw_at lw_m6 79 rfl) rfl
theorem q1297 : (Jvm.Cond.selects "Graphline$Part" ({ cls := "Graphline$Part", name := "isTrue", desc := "()Z" } : Jvm.MethodName) ({ cls := "Graphline$Part", name := "isTrue", desc := "()Z" } : Jvm.MethodName)) ∈ lw_all := lw_g (lw_at lw_m6 80 rfl) rfl
theorem q1298 : (Jvm.Cond.code ({ cls := "Graphline$Part", name := "isTrue", desc := "()Z" } : Jvm.MethodName) prog_9_method_2_code (1 : Nat) (Option.some Jvm.ClassFile.FieldType.boolean)) ∈ lw_all := lw_g (lw_at lw_m6 81 rfl) rfl
theorem q1299 : (Jvm.Cond.methodLink "Graphline$Part" (26 : Nat) ({ cls := "Graphline$Batch", name := "grade", desc := "()I" } : Jvm.MethodName)) ∈ lw_all := lw_g (lw_at lw_m6 82 rfl) rfl
theorem q1303 : (Jvm.Cond.methodLink "Graphline$Part" (35 : Nat) ({ cls := "java/lang/Math", name := "abs", desc := "(I)I" } : Jvm.MethodName)) ∈ lw_all := lw_g (lw_at lw_m6 86 rfl) rfl
theorem q1321 : (Jvm.Cond.instanceMethod ({ cls := "Graphline$Part", name := "broken", desc := "()I" } : Jvm.MethodName)) ∈ lw_all := lw_g (lw_at lw_m6 104 rfl) rfl
theorem q1322 : (Jvm.Cond.selects "Graphline$Part" ({ cls := "Graphline$Part", name := "broken", desc := "()I" } : Jvm.MethodName) ({ cls := "Graphline$Part", name := "broken", desc := "()I" } : Jvm.MethodName)) ∈ lw_all := lw_g (lw_at lw_m6 105 rfl) rfl
theorem q1323 : (Jvm.Cond.code ({ cls := "Graphline$Part", name := "broken", desc := "()I" } : Jvm.MethodName) prog_9_method_8_code (1 : Nat) (Option.some Jvm.ClassFile.FieldType.int)) ∈ lw_all := lw_g (lw_at lw_m6 106 rfl) rfl
theorem q1879 : (Jvm.Cond.castable "Graphline$Part" "java/lang/Object") ∈ lw_tbl := lw_at lw_m8 182 rfl
theorem in_X17 : ∀ w ∈ wsX170, w ∈ lw_all := lw_in wsX170 [1229, 1231, 1233] (by decide +kernel) (by decide +kernel)

/-! Graphline$Order -/
set_option maxRecDepth 100000
def RX18 : String := "Graphline$Order"
def TX18 : u_T := fun k => match k with
  | 0 => ("Graphline$Order", "grade", "I", true)
  | 1 => ("Graphline$Order", "grosses", "I", true)
  | 2 => ("Graphline$Order", "until", "I", true)
  | 3 => ("Graphline$Order", "shipped", "I", false)
  | _ => ("Graphline$Order", "wasLate", "Z", false)
def tyX18 : Nat → FieldType := fun k => match k with
  | 0 => .int
  | 1 => .int
  | 2 => .int
  | 3 => .int
  | _ => .boolean
abbrev wsX180 : List Cond := u_ws RX18 TX18 5
theorem nmX18 : ∀ a, a < 5 → ∀ b, b < 5 → a ≠ b → (TX18 a).2.1 ≠ (TX18 b).2.1 := by decide +kernel
theorem tyX18_ok : ∀ k, k < 5 → parseFieldDescriptor (TX18 k).2.2.1 = some (tyX18 k) := by decide +kernel
abbrev cX18_init : ByteArray := prog_8_method_1_code
def yX18_init : MethodName := ⟨RX18, "<init>", "(III)V"⟩
def dkwX18_init_0 : List UInt8 := [42, 183, 0, 1, 42, 27, 181, 0, 7, 42, 28, 181, 0, 13, 42, 29, 181, 0, 16, 177]
abbrev dktX18_init_0 : List UInt8 := dkwX18_init_0 ++ []
theorem dksX18_init_0 : cX18_init.data.toList.drop 0 = dktX18_init_0 := by decide +kernel
theorem dX18_init_0 : decode cX18_init 0 = .ok (.aload_n 0, 1) := dk_42 (dk_at dksX18_init_0 0 rfl rfl)
theorem dX18_init_1 : decode cX18_init 1 = .ok (.invokespecial 1, 3) := dk_183 0 1 (dk_at dksX18_init_0 1 rfl rfl)
theorem dX18_init_4 : decode cX18_init 4 = .ok (.aload_n 0, 1) := dk_42 (dk_at dksX18_init_0 4 rfl rfl)
theorem dX18_init_5 : decode cX18_init 5 = .ok (.iload_n 1, 1) := dk_27 (dk_at dksX18_init_0 5 rfl rfl)
theorem dX18_init_6 : decode cX18_init 6 = .ok (.putfield 7, 3) := dk_181 0 7 (dk_at dksX18_init_0 6 rfl rfl)
theorem dX18_init_9 : decode cX18_init 9 = .ok (.aload_n 0, 1) := dk_42 (dk_at dksX18_init_0 9 rfl rfl)
theorem dX18_init_10 : decode cX18_init 10 = .ok (.iload_n 2, 1) := dk_28 (dk_at dksX18_init_0 10 rfl rfl)
theorem dX18_init_11 : decode cX18_init 11 = .ok (.putfield 13, 3) := dk_181 0 13 (dk_at dksX18_init_0 11 rfl rfl)
theorem dX18_init_14 : decode cX18_init 14 = .ok (.aload_n 0, 1) := dk_42 (dk_at dksX18_init_0 14 rfl rfl)
theorem dX18_init_15 : decode cX18_init 15 = .ok (.iload_n 3, 1) := dk_29 (dk_at dksX18_init_0 15 rfl rfl)
theorem dX18_init_16 : decode cX18_init 16 = .ok (.putfield 16, 3) := dk_181 0 16 (dk_at dksX18_init_0 16 rfl rfl)
theorem dX18_init_19 : decode cX18_init 19 = .ok (.return_, 1) := dk_177 (dk_at dksX18_init_0 19 rfl rfl)
abbrev cX18_lacks : ByteArray := prog_8_method_2_code
def yX18_lacks : MethodName := ⟨RX18, "lacks", "()I"⟩
def dkwX18_lacks_0 : List UInt8 := [42, 180, 0, 13, 42, 180, 0, 19, 100, 172]
abbrev dktX18_lacks_0 : List UInt8 := dkwX18_lacks_0 ++ []
theorem dksX18_lacks_0 : cX18_lacks.data.toList.drop 0 = dktX18_lacks_0 := by decide +kernel
theorem dX18_lacks_0 : decode cX18_lacks 0 = .ok (.aload_n 0, 1) := dk_42 (dk_at dksX18_lacks_0 0 rfl rfl)
theorem dX18_lacks_1 : decode cX18_lacks 1 = .ok (.getfield 13, 3) := dk_180 0 13 (dk_at dksX18_lacks_0 1 rfl rfl)
theorem dX18_lacks_4 : decode cX18_lacks 4 = .ok (.aload_n 0, 1) := dk_42 (dk_at dksX18_lacks_0 4 rfl rfl)
theorem dX18_lacks_5 : decode cX18_lacks 5 = .ok (.getfield 19, 3) := dk_180 0 19 (dk_at dksX18_lacks_0 5 rfl rfl)
theorem dX18_lacks_8 : decode cX18_lacks 8 = .ok (.isub, 1) := dk_100 (dk_at dksX18_lacks_0 8 rfl rfl)
theorem dX18_lacks_9 : decode cX18_lacks 9 = .ok (.ireturn, 1) := dk_172 (dk_at dksX18_lacks_0 9 rfl rfl)
theorem q58 : (Jvm.Cond.initialized "Graphline$Order") ∈ lw_all := lw_g (lw_at lw_m1 41 rfl) rfl
theorem q717 : (Jvm.Cond.selects "Graphline$Order" ({ cls := "java/lang/Object", name := "getClass", desc := "()Ljava/lang/Class;" } : Jvm.MethodName) ({ cls := "java/lang/Object", name := "getClass", desc := "()Ljava/lang/Class;" } : Jvm.MethodName)) ∈ lw_all := lw_g (lw_at lw_m3 220 rfl) rfl
theorem q1244 : (Jvm.Cond.instantiable "Graphline$Order" (5 : Nat)) ∈ lw_all := lw_g (lw_at lw_m6 27 rfl) rfl
theorem q1246 : (Jvm.Cond.instanceMethod ({ cls := "Graphline$Order", name := "<init>", desc := "(III)V" } : Jvm.MethodName)) ∈ lw_all := lw_g (lw_at lw_m6 29 rfl) rfl
theorem q1247 : (Jvm.Cond.code ({ cls := "Graphline$Order", name := "<init>", desc := "(III)V" } : Jvm.MethodName) prog_8_method_1_code (4 : Nat) (Option.none : Option Jvm.ClassFile.FieldType)) ∈ lw_all := lw_g (lw_at lw_m6 30 rfl) rfl
theorem q1248 : (Jvm.Cond.methodLink "Graphline$Order" (1 : Nat) ({ cls := "java/lang/Object", name := "<init>", desc := "()V" } : Jvm.MethodName)) ∈ lw_all := lw_g (lw_at lw_m6 31 rfl) rfl
theorem q1249 : (Jvm.Cond.fieldLink "Graphline$Order" (7 : Nat) "Graphline$Order" "grade" "I") ∈ lw_all := lw_g (lw_at lw_m6 32 rfl) rfl
theorem q1251 : (Jvm.Cond.fieldLink "Graphline$Order" (13 : Nat) "Graphline$Order" "grosses" "I") ∈ lw_all := lw_g (lw_at lw_m6 34 rfl) rfl
theorem q1252 : (Jvm.Cond.fieldLink "Graphline$Order" (16 : Nat) "Graphline$Order" "until" "I") ∈ lw_all := lw_g (lw_at lw_m6 35 rfl) rfl
theorem q1254 : (Jvm.Cond.fieldLink "Graphline$Order" (19 : Nat) "Graphline$Order" "shipped" "I") ∈ lw_all := lw_g (lw_at lw_m6 37 rfl) rfl
theorem q1257 : (Jvm.Cond.laysFinal "Graphline$Order" "Graphline$Order" "grade" "I") ∈ lw_all := lw_g (lw_at lw_m6 40 rfl) rfl
theorem q1258 : (Jvm.Cond.soleField "Graphline$Order" "grade") ∈ lw_all := lw_g (lw_at lw_m6 41 rfl) rfl
theorem q1259 : (Jvm.Cond.laysFinal "Graphline$Order" "Graphline$Order" "grosses" "I") ∈ lw_all := lw_g (lw_at lw_m6 42 rfl) rfl
theorem q1260 : (Jvm.Cond.soleField "Graphline$Order" "grosses") ∈ lw_all := lw_g (lw_at lw_m6 43 rfl) rfl
theorem q1261 : (Jvm.Cond.laysFinal "Graphline$Order" "Graphline$Order" "until" "I") ∈ lw_all := lw_g (lw_at lw_m6 44 rfl) rfl
theorem q1262 : (Jvm.Cond.soleField "Graphline$Order" "until") ∈ lw_all := lw_g (lw_at lw_m6 45 rfl) rfl
theorem q1263 : (Jvm.Cond.lays "Graphline$Order" "Graphline$Order" "shipped" "I") ∈ lw_all := lw_g (lw_at lw_m6 46 rfl) rfl
theorem q1264 : (Jvm.Cond.soleField "Graphline$Order" "shipped") ∈ lw_all := lw_g (lw_at lw_m6 47 rfl) rfl
theorem q1265 : (Jvm.Cond.lays "Graphline$Order" "Graphline$Order" "wasLate" "Z") ∈ lw_all := lw_g (lw_at lw_m6 48 rfl) rfl
theorem q1266 : (Jvm.Cond.soleField "Graphline$Order" "wasLate") ∈ lw_all := lw_g (lw_at lw_m6 49 rfl) rfl
theorem q1267 : (Jvm.Cond.superclass "Graphline$Order" "java/lang/Object") ∈ lw_all := lw_g (lw_at lw_m6 50 rfl) rfl
theorem q1276 : (Jvm.Cond.instanceMethod ({ cls := "Graphline$Order", name := "lacks", desc := "()I" } : Jvm.MethodName)) ∈ lw_all := lw_g (lw_at lw_m6 59 rfl) rfl
theorem q1277 : (Jvm.Cond.selects "Graphline$Order" ({ cls := "Graphline$Order", name := "lacks", desc := "()I" } : Jvm.MethodName) ({ cls := "Graphline$Order", name := "lacks", desc := "()I" } : Jvm.MethodName)) ∈ lw_all := lw_g (lw_at lw_m6 60 rfl) rfl
theorem q1278 : (Jvm.Cond.code ({ cls := "Graphline$Order", name := "lacks", desc := "()I" } : Jvm.MethodName) prog_8_method_2_code (1 : Nat) (Option.some Jvm.ClassFile.FieldType.int)) ∈ lw_all := lw_g (lw_at lw_m6 61 rfl) rfl
theorem q1880 : (Jvm.Cond.castable "Graphline$Order" "java/lang/Object") ∈ lw_tbl := lw_at lw_m8 183 rfl
theorem in_X18 : ∀ w ∈ wsX180, w ∈ lw_all := lw_in wsX180 [1257, 1259, 1261, 1263, 1265] (by decide +kernel) (by decide +kernel)

/-! Graphline$Wheel -/
set_option maxRecDepth 100000
def RX2 : String := "Graphline$Wheel"
def TX2 : u_T := fun k => match k with
  | 0 => ("Graphline$Wheel", "bias", "I", false)
  | 1 => ("Graphline$Wheel", "draws", "I", false)
  | _ => ("Graphline$Wheel", "this$0", "LGraphline;", true)
def tyX2 : Nat → FieldType := fun k => match k with
  | 0 => .int
  | 1 => .int
  | _ => .object "Graphline"
abbrev wsX20 : List Cond := u_ws RX2 TX2 3
theorem nmX2 : ∀ a, a < 3 → ∀ b, b < 3 → a ≠ b → (TX2 a).2.1 ≠ (TX2 b).2.1 := by decide +kernel
theorem tyX2_ok : ∀ k, k < 3 → parseFieldDescriptor (TX2 k).2.2.1 = some (tyX2 k) := by decide +kernel
abbrev cX2_init : ByteArray := prog_13_method_1_code
def yX2_init : MethodName := ⟨RX2, "<init>", "(LGraphline;)V"⟩
def dkwX2_init_0 : List UInt8 := [42, 43, 181, 0, 3, 42, 183, 0, 9, 177]
abbrev dktX2_init_0 : List UInt8 := dkwX2_init_0 ++ []
theorem dksX2_init_0 : cX2_init.data.toList.drop 0 = dktX2_init_0 := by decide +kernel
theorem dX2_init_0 : decode cX2_init 0 = .ok (.aload_n 0, 1) := dk_42 (dk_at dksX2_init_0 0 rfl rfl)
theorem dX2_init_1 : decode cX2_init 1 = .ok (.aload_n 1, 1) := dk_43 (dk_at dksX2_init_0 1 rfl rfl)
theorem dX2_init_2 : decode cX2_init 2 = .ok (.putfield 3, 3) := dk_181 0 3 (dk_at dksX2_init_0 2 rfl rfl)
theorem dX2_init_5 : decode cX2_init 5 = .ok (.aload_n 0, 1) := dk_42 (dk_at dksX2_init_0 5 rfl rfl)
theorem dX2_init_6 : decode cX2_init 6 = .ok (.invokespecial 9, 3) := dk_183 0 9 (dk_at dksX2_init_0 6 rfl rfl)
theorem dX2_init_9 : decode cX2_init 9 = .ok (.return_, 1) := dk_177 (dk_at dksX2_init_0 9 rfl rfl)
abbrev cX2_check : ByteArray := prog_13_method_3_code
def yX2_check : MethodName := ⟨RX2, "check", "()I"⟩
def dkwX2_check_0 : List UInt8 := [42, 180, 0, 21, 60, 42, 3, 181, 0, 21, 42, 3, 181, 0, 33, 27, 172]
abbrev dktX2_check_0 : List UInt8 := dkwX2_check_0 ++ []
theorem dksX2_check_0 : cX2_check.data.toList.drop 0 = dktX2_check_0 := by decide +kernel
theorem dX2_check_0 : decode cX2_check 0 = .ok (.aload_n 0, 1) := dk_42 (dk_at dksX2_check_0 0 rfl rfl)
theorem dX2_check_1 : decode cX2_check 1 = .ok (.getfield 21, 3) := dk_180 0 21 (dk_at dksX2_check_0 1 rfl rfl)
theorem dX2_check_4 : decode cX2_check 4 = .ok (.istore_n 1, 1) := dk_60 (dk_at dksX2_check_0 4 rfl rfl)
theorem dX2_check_5 : decode cX2_check 5 = .ok (.aload_n 0, 1) := dk_42 (dk_at dksX2_check_0 5 rfl rfl)
theorem dX2_check_6 : decode cX2_check 6 = .ok (.iconst 0, 1) := dk_3 (dk_at dksX2_check_0 6 rfl rfl)
theorem dX2_check_7 : decode cX2_check 7 = .ok (.putfield 21, 3) := dk_181 0 21 (dk_at dksX2_check_0 7 rfl rfl)
theorem dX2_check_10 : decode cX2_check 10 = .ok (.aload_n 0, 1) := dk_42 (dk_at dksX2_check_0 10 rfl rfl)
theorem dX2_check_11 : decode cX2_check 11 = .ok (.iconst 0, 1) := dk_3 (dk_at dksX2_check_0 11 rfl rfl)
theorem dX2_check_12 : decode cX2_check 12 = .ok (.putfield 33, 3) := dk_181 0 33 (dk_at dksX2_check_0 12 rfl rfl)
theorem dX2_check_15 : decode cX2_check 15 = .ok (.iload_n 1, 1) := dk_27 (dk_at dksX2_check_0 15 rfl rfl)
theorem dX2_check_16 : decode cX2_check 16 = .ok (.ireturn, 1) := dk_172 (dk_at dksX2_check_0 16 rfl rfl)
abbrev cX2_draws : ByteArray := prog_13_method_2_code
def yX2_draws : MethodName := ⟨RX2, "draws", "(LGraphline$Batch;)I"⟩
def dkwX2_draws_2 : List UInt8 := [167, 0, 4, 3, 96, 181, 0, 21, 28, 172]
abbrev dktX2_draws_2 : List UInt8 := dkwX2_draws_2 ++ []
def dkwX2_draws_1 : List UInt8 := [180, 0, 33, 4, 96, 181, 0, 33, 42, 89, 180, 0, 21, 42, 180, 0, 33, 16, 8, 112, 154, 0, 7, 6]
abbrev dktX2_draws_1 : List UInt8 := dkwX2_draws_1 ++ dktX2_draws_2
def dkwX2_draws_0 : List UInt8 := [3, 17, 3, 231, 43, 180, 0, 15, 42, 180, 0, 21, 96, 184, 0, 24, 184, 0, 30, 61, 42, 89]
abbrev dktX2_draws_0 : List UInt8 := dkwX2_draws_0 ++ dktX2_draws_1
theorem dksX2_draws_0 : cX2_draws.data.toList.drop 0 = dktX2_draws_0 := by decide +kernel
theorem dksX2_draws_1 : cX2_draws.data.toList.drop 22 = dktX2_draws_1 := dk_seg dksX2_draws_0 22 rfl rfl
theorem dksX2_draws_2 : cX2_draws.data.toList.drop 46 = dktX2_draws_2 := dk_seg dksX2_draws_1 24 rfl rfl
theorem dX2_draws_0 : decode cX2_draws 0 = .ok (.iconst 0, 1) := dk_3 (dk_at dksX2_draws_0 0 rfl rfl)
theorem dX2_draws_1 : decode cX2_draws 1 = .ok (.sipush 999, 3) := dk_17 3 231 (dk_at dksX2_draws_0 1 rfl rfl)
theorem dX2_draws_4 : decode cX2_draws 4 = .ok (.aload_n 1, 1) := dk_43 (dk_at dksX2_draws_0 4 rfl rfl)
theorem dX2_draws_5 : decode cX2_draws 5 = .ok (.getfield 15, 3) := dk_180 0 15 (dk_at dksX2_draws_0 5 rfl rfl)
theorem dX2_draws_8 : decode cX2_draws 8 = .ok (.aload_n 0, 1) := dk_42 (dk_at dksX2_draws_0 8 rfl rfl)
theorem dX2_draws_9 : decode cX2_draws 9 = .ok (.getfield 21, 3) := dk_180 0 21 (dk_at dksX2_draws_0 9 rfl rfl)
theorem dX2_draws_12 : decode cX2_draws 12 = .ok (.iadd, 1) := dk_96 (dk_at dksX2_draws_0 12 rfl rfl)
theorem dX2_draws_13 : decode cX2_draws 13 = .ok (.invokestatic 24, 3) := dk_184 0 24 (dk_at dksX2_draws_0 13 rfl rfl)
theorem dX2_draws_16 : decode cX2_draws 16 = .ok (.invokestatic 30, 3) := dk_184 0 30 (dk_at dksX2_draws_0 16 rfl rfl)
theorem dX2_draws_19 : decode cX2_draws 19 = .ok (.istore_n 2, 1) := dk_61 (dk_at dksX2_draws_0 19 rfl rfl)
theorem dX2_draws_20 : decode cX2_draws 20 = .ok (.aload_n 0, 1) := dk_42 (dk_at dksX2_draws_0 20 rfl rfl)
theorem dX2_draws_21 : decode cX2_draws 21 = .ok (.dup, 1) := dk_89 (dk_at dksX2_draws_0 21 rfl rfl)
theorem dX2_draws_22 : decode cX2_draws 22 = .ok (.getfield 33, 3) := dk_180 0 33 (dk_at dksX2_draws_1 0 rfl rfl)
theorem dX2_draws_25 : decode cX2_draws 25 = .ok (.iconst 1, 1) := dk_4 (dk_at dksX2_draws_1 3 rfl rfl)
theorem dX2_draws_26 : decode cX2_draws 26 = .ok (.iadd, 1) := dk_96 (dk_at dksX2_draws_1 4 rfl rfl)
theorem dX2_draws_27 : decode cX2_draws 27 = .ok (.putfield 33, 3) := dk_181 0 33 (dk_at dksX2_draws_1 5 rfl rfl)
theorem dX2_draws_30 : decode cX2_draws 30 = .ok (.aload_n 0, 1) := dk_42 (dk_at dksX2_draws_1 8 rfl rfl)
theorem dX2_draws_31 : decode cX2_draws 31 = .ok (.dup, 1) := dk_89 (dk_at dksX2_draws_1 9 rfl rfl)
theorem dX2_draws_32 : decode cX2_draws 32 = .ok (.getfield 21, 3) := dk_180 0 21 (dk_at dksX2_draws_1 10 rfl rfl)
theorem dX2_draws_35 : decode cX2_draws 35 = .ok (.aload_n 0, 1) := dk_42 (dk_at dksX2_draws_1 13 rfl rfl)
theorem dX2_draws_36 : decode cX2_draws 36 = .ok (.getfield 33, 3) := dk_180 0 33 (dk_at dksX2_draws_1 14 rfl rfl)
theorem dX2_draws_39 : decode cX2_draws 39 = .ok (.bipush 8, 2) := dk_16 8 (dk_at dksX2_draws_1 17 rfl rfl)
theorem dX2_draws_41 : decode cX2_draws 41 = .ok (.irem, 1) := dk_112 (dk_at dksX2_draws_1 19 rfl rfl)
theorem dX2_draws_42 : decode cX2_draws 42 = .ok (.ifCond .ne 7, 3) := dk_154 0 7 (dk_at dksX2_draws_1 20 rfl rfl)
theorem dX2_draws_45 : decode cX2_draws 45 = .ok (.iconst 3, 1) := dk_6 (dk_at dksX2_draws_1 23 rfl rfl)
theorem dX2_draws_46 : decode cX2_draws 46 = .ok (.goto 4, 3) := dk_167 0 4 (dk_at dksX2_draws_2 0 rfl rfl)
theorem dX2_draws_49 : decode cX2_draws 49 = .ok (.iconst 0, 1) := dk_3 (dk_at dksX2_draws_2 3 rfl rfl)
theorem dX2_draws_50 : decode cX2_draws 50 = .ok (.iadd, 1) := dk_96 (dk_at dksX2_draws_2 4 rfl rfl)
theorem dX2_draws_51 : decode cX2_draws 51 = .ok (.putfield 21, 3) := dk_181 0 21 (dk_at dksX2_draws_2 5 rfl rfl)
theorem dX2_draws_54 : decode cX2_draws 54 = .ok (.iload_n 2, 1) := dk_28 (dk_at dksX2_draws_2 8 rfl rfl)
theorem dX2_draws_55 : decode cX2_draws 55 = .ok (.ireturn, 1) := dk_172 (dk_at dksX2_draws_2 9 rfl rfl)
theorem q23 : (Jvm.Cond.initialized "Graphline$Wheel") ∈ lw_all := lw_g (lw_at lw_m1 6 rfl) rfl
theorem q114 : (Jvm.Cond.instantiable "Graphline$Wheel" (3 : Nat)) ∈ lw_all := lw_g (lw_at lw_m1 97 rfl) rfl
theorem q116 : (Jvm.Cond.instanceMethod ({ cls := "Graphline$Wheel", name := "<init>", desc := "(LGraphline;)V" } : Jvm.MethodName)) ∈ lw_all := lw_g (lw_at lw_m1 99 rfl) rfl
theorem q117 : (Jvm.Cond.code ({ cls := "Graphline$Wheel", name := "<init>", desc := "(LGraphline;)V" } : Jvm.MethodName) prog_13_method_1_code (2 : Nat) (Option.none : Option Jvm.ClassFile.FieldType)) ∈ lw_all := lw_g (lw_at lw_m1 100 rfl) rfl
theorem q118 : (Jvm.Cond.methodLink "Graphline$Wheel" (9 : Nat) ({ cls := "java/lang/Object", name := "<init>", desc := "()V" } : Jvm.MethodName)) ∈ lw_all := lw_g (lw_at lw_m1 101 rfl) rfl
theorem q119 : (Jvm.Cond.fieldLink "Graphline$Wheel" (21 : Nat) "Graphline$Wheel" "bias" "I") ∈ lw_all := lw_g (lw_at lw_m1 102 rfl) rfl
theorem q120 : (Jvm.Cond.fieldLink "Graphline$Wheel" (33 : Nat) "Graphline$Wheel" "draws" "I") ∈ lw_all := lw_g (lw_at lw_m1 103 rfl) rfl
theorem q121 : (Jvm.Cond.fieldLink "Graphline$Wheel" (3 : Nat) "Graphline$Wheel" "this$0" "LGraphline;") ∈ lw_all := lw_g (lw_at lw_m1 104 rfl) rfl
theorem q122 : (Jvm.Cond.lays "Graphline$Wheel" "Graphline$Wheel" "bias" "I") ∈ lw_all := lw_g (lw_at lw_m1 105 rfl) rfl
theorem q123 : (Jvm.Cond.soleField "Graphline$Wheel" "bias") ∈ lw_all := lw_g (lw_at lw_m1 106 rfl) rfl
theorem q124 : (Jvm.Cond.lays "Graphline$Wheel" "Graphline$Wheel" "draws" "I") ∈ lw_all := lw_g (lw_at lw_m1 107 rfl) rfl
theorem q125 : (Jvm.Cond.soleField "Graphline$Wheel" "draws") ∈ lw_all := lw_g (lw_at lw_m1 108 rfl) rfl
theorem q126 : (Jvm.Cond.laysFinal "Graphline$Wheel" "Graphline$Wheel" "this$0" "LGraphline;") ∈ lw_all := lw_g (lw_at lw_m1 109 rfl) rfl
theorem q127 : (Jvm.Cond.soleField "Graphline$Wheel" "this$0") ∈ lw_all := lw_g (lw_at lw_m1 110 rfl) rfl
theorem q128 : (Jvm.Cond.superclass "Graphline$Wheel" "java/lang/Object") ∈ lw_all := lw_g (lw_at lw_m1 111 rfl) rfl
theorem q200 : (Jvm.Cond.instanceMethod ({ cls := "Graphline$Wheel", name := "check", desc := "()I" } : Jvm.MethodName)) ∈ lw_all := lw_g (lw_at lw_m1 183 rfl) rfl
theorem q201 : (Jvm.Cond.selects "Graphline$Wheel" ({ cls := "Graphline$Wheel", name := "check", desc := "()I" } : Jvm.MethodName) ({ cls := "Graphline$Wheel", name := "check", desc := "()I" } : Jvm.MethodName)) ∈ lw_all := lw_g (lw_at lw_m1 184 rfl) rfl
theorem q202 : (Jvm.Cond.code ({ cls := "Graphline$Wheel", name := "check", desc := "()I" } : Jvm.MethodName) prog_13_method_3_code (2 : Nat) (Option.some Jvm.ClassFile.FieldType.int)) ∈ lw_all := lw_g (lw_at lw_m1 185 rfl) rfl
theorem q722 : (Jvm.Cond.selects "Graphline$Wheel" ({ cls := "java/lang/Object", name := "getClass", desc := "()Ljava/lang/Class;" } : Jvm.MethodName) ({ cls := "java/lang/Object", name := "getClass", desc := "()Ljava/lang/Class;" } : Jvm.MethodName)) ∈ lw_all := lw_g (lw_at lw_m3 225 rfl) rfl
theorem q902 : (Jvm.Cond.fieldLinkNest "Graphline$Wheel" (15 : Nat) "Graphline$Batch" "darkness" "I" "Graphline") ∈ lw_tbl := lw_at lw_m4 165 rfl
theorem q991 : (Jvm.Cond.instanceMethod ({ cls := "Graphline$Wheel", name := "draws", desc := "(LGraphline$Batch;)I" } : Jvm.MethodName)) ∈ lw_all := lw_g (lw_at lw_m5 14 rfl) rfl
theorem q992 : (Jvm.Cond.selects "Graphline$Wheel" ({ cls := "Graphline$Wheel", name := "draws", desc := "(LGraphline$Batch;)I" } : Jvm.MethodName) ({ cls := "Graphline$Wheel", name := "draws", desc := "(LGraphline$Batch;)I" } : Jvm.MethodName)) ∈ lw_all := lw_g (lw_at lw_m5 15 rfl) rfl
theorem q993 : (Jvm.Cond.code ({ cls := "Graphline$Wheel", name := "draws", desc := "(LGraphline$Batch;)I" } : Jvm.MethodName) prog_13_method_2_code (3 : Nat) (Option.some Jvm.ClassFile.FieldType.int)) ∈ lw_all := lw_g (lw_at lw_m5 16 rfl) rfl
theorem q994 : (Jvm.Cond.methodLink "Graphline$Wheel" (24 : Nat) ({ cls := "java/lang/Math", name := "min", desc := "(II)I" } : Jvm.MethodName)) ∈ lw_all := lw_g (lw_at lw_m5 17 rfl) rfl
theorem q995 : (Jvm.Cond.methodLink "Graphline$Wheel" (30 : Nat) ({ cls := "java/lang/Math", name := "max", desc := "(II)I" } : Jvm.MethodName)) ∈ lw_all := lw_g (lw_at lw_m5 18 rfl) rfl
theorem q1858 : (Jvm.Cond.castable "Graphline$Wheel" "java/lang/Object") ∈ lw_tbl := lw_at lw_m8 161 rfl
theorem in_X2 : ∀ w ∈ wsX20, w ∈ lw_all := lw_in wsX20 [122, 124, 126] (by decide +kernel) (by decide +kernel)

/-! Graphline$Standstill -/
set_option maxRecDepth 100000
def RX4 : String := "Graphline$Standstill"
def TX4 : u_T := fun k => match k with
  | 0 => ("java/lang/Throwable", "cause", "Ljava/lang/Throwable;", false)
  | 1 => ("java/lang/Throwable", "stackTrace", "[Ljava/lang/StackTraceElement;", false)
  | 2 => ("java/lang/Throwable", "suppressedExceptions", "Ljava/util/List;", false)
  | 3 => ("java/lang/Throwable", "detailMessage", "Ljava/lang/String;", false)
  | 4 => ("java/lang/Throwable", "backtrace", "Ljava/lang/Object;", false)
  | _ => ("java/lang/Throwable", "depth", "I", false)
def tyX4 : Nat → FieldType := fun k => match k with
  | 0 => .object "java/lang/Throwable"
  | 1 => .array (.object "java/lang/StackTraceElement")
  | 2 => .object "java/util/List"
  | 3 => .object "java/lang/String"
  | 4 => .object "java/lang/Object"
  | _ => .int
abbrev wsX40 : List Cond := u_ws RX4 TX4 6
theorem nmX4 : ∀ a, a < 6 → ∀ b, b < 6 → a ≠ b → (TX4 a).2.1 ≠ (TX4 b).2.1 := by decide +kernel
theorem tyX4_ok : ∀ k, k < 6 → parseFieldDescriptor (TX4 k).2.2.1 = some (tyX4 k) := by decide +kernel
abbrev cX4_init : ByteArray := prog_12_method_1_code
def yX4_init : MethodName := ⟨RX4, "<init>", "(CLjava/lang/Throwable;)V"⟩
def dkwX4_init_0 : List UInt8 := [42, 27, 184, 0, 1, 44, 3, 3, 183, 0, 7, 177]
abbrev dktX4_init_0 : List UInt8 := dkwX4_init_0 ++ []
theorem dksX4_init_0 : cX4_init.data.toList.drop 0 = dktX4_init_0 := by decide +kernel
theorem dX4_init_0 : decode cX4_init 0 = .ok (.aload_n 0, 1) := dk_42 (dk_at dksX4_init_0 0 rfl rfl)
theorem dX4_init_1 : decode cX4_init 1 = .ok (.iload_n 1, 1) := dk_27 (dk_at dksX4_init_0 1 rfl rfl)
theorem dX4_init_2 : decode cX4_init 2 = .ok (.invokestatic 1, 3) := dk_184 0 1 (dk_at dksX4_init_0 2 rfl rfl)
theorem dX4_init_5 : decode cX4_init 5 = .ok (.aload_n 2, 1) := dk_44 (dk_at dksX4_init_0 5 rfl rfl)
theorem dX4_init_6 : decode cX4_init 6 = .ok (.iconst 0, 1) := dk_3 (dk_at dksX4_init_0 6 rfl rfl)
theorem dX4_init_7 : decode cX4_init 7 = .ok (.iconst 0, 1) := dk_3 (dk_at dksX4_init_0 7 rfl rfl)
theorem dX4_init_8 : decode cX4_init 8 = .ok (.invokespecial 7, 3) := dk_183 0 7 (dk_at dksX4_init_0 8 rfl rfl)
theorem dX4_init_11 : decode cX4_init 11 = .ok (.return_, 1) := dk_177 (dk_at dksX4_init_0 11 rfl rfl)
theorem q37 : (Jvm.Cond.initialized "Graphline$Standstill") ∈ lw_all := lw_g (lw_at lw_m1 20 rfl) rfl
theorem q371 : (Jvm.Cond.selects "Graphline$Standstill" ({ cls := "java/lang/Throwable", name := "fillInStackTrace", desc := "()Ljava/lang/Throwable;" } : Jvm.MethodName) ({ cls := "java/lang/Throwable", name := "fillInStackTrace", desc := "()Ljava/lang/Throwable;" } : Jvm.MethodName)) ∈ lw_all := lw_g (lw_at lw_m2 114 rfl) rfl
theorem q569 : (Jvm.Cond.instantiable "Graphline$Standstill" (6 : Nat)) ∈ lw_all := lw_g (lw_at lw_m3 72 rfl) rfl
theorem q570 : (Jvm.Cond.castable "Graphline$Standstill" "Graphline$Standstill") ∈ lw_tbl := lw_at lw_m3 73 rfl
theorem q571 : (Jvm.Cond.selects "Graphline$Standstill" ({ cls := "java/lang/Throwable", name := "fillInStackTrace", desc := "(I)Ljava/lang/Throwable;" } : Jvm.MethodName) ({ cls := "java/lang/Throwable", name := "fillInStackTrace", desc := "(I)Ljava/lang/Throwable;" } : Jvm.MethodName)) ∈ lw_all := lw_g (lw_at lw_m3 74 rfl) rfl
theorem q572 : (Jvm.Cond.lays "Graphline$Standstill" "java/lang/Throwable" "cause" "Ljava/lang/Throwable;") ∈ lw_all := lw_g (lw_at lw_m3 75 rfl) rfl
theorem q573 : (Jvm.Cond.lays "Graphline$Standstill" "java/lang/Throwable" "stackTrace" "[Ljava/lang/StackTraceElement;") ∈ lw_all := lw_g (lw_at lw_m3 76 rfl) rfl
theorem q574 : (Jvm.Cond.lays "Graphline$Standstill" "java/lang/Throwable" "suppressedExceptions" "Ljava/util/List;") ∈ lw_all := lw_g (lw_at lw_m3 77 rfl) rfl
theorem q575 : (Jvm.Cond.lays "Graphline$Standstill" "java/lang/Throwable" "detailMessage" "Ljava/lang/String;") ∈ lw_all := lw_g (lw_at lw_m3 78 rfl) rfl
theorem q576 : (Jvm.Cond.lays "Graphline$Standstill" "java/lang/Throwable" "backtrace" "Ljava/lang/Object;") ∈ lw_all := lw_g (lw_at lw_m3 79 rfl) rfl
theorem q578 : (Jvm.Cond.instanceMethod ({ cls := "Graphline$Standstill", name := "<init>", desc := "(CLjava/lang/Throwable;)V" } : Jvm.MethodName)) ∈ lw_all := lw_g (lw_at lw_m3 81 rfl) rfl
theorem q579 : (Jvm.Cond.code ({ cls := "Graphline$Standstill", name := "<init>", desc := "(CLjava/lang/Throwable;)V" } : Jvm.MethodName) prog_12_method_1_code (3 : Nat) (Option.none : Option Jvm.ClassFile.FieldType)) ∈ lw_all := lw_g (lw_at lw_m3 82 rfl) rfl
theorem q580 : (Jvm.Cond.methodLink "Graphline$Standstill" (1 : Nat) ({ cls := "java/lang/Character", name := "toString", desc := "(C)Ljava/lang/String;" } : Jvm.MethodName)) ∈ lw_all := lw_g (lw_at lw_m3 83 rfl) rfl
theorem q615 : (Jvm.Cond.methodLink "Graphline$Standstill" (7 : Nat) ({ cls := "java/lang/Exception", name := "<init>", desc := "(Ljava/lang/String;Ljava/lang/Throwable;ZZ)V" } : Jvm.MethodName)) ∈ lw_all := lw_g (lw_at lw_m3 118 rfl) rfl
theorem q621 : (Jvm.Cond.lays "Graphline$Standstill" "java/lang/Throwable" "depth" "I") ∈ lw_all := lw_g (lw_at lw_m3 124 rfl) rfl
theorem q622 : (Jvm.Cond.superclass "Graphline$Standstill" "java/lang/Exception") ∈ lw_all := lw_g (lw_at lw_m3 125 rfl) rfl
theorem q721 : (Jvm.Cond.selects "Graphline$Standstill" ({ cls := "java/lang/Object", name := "getClass", desc := "()Ljava/lang/Class;" } : Jvm.MethodName) ({ cls := "java/lang/Object", name := "getClass", desc := "()Ljava/lang/Class;" } : Jvm.MethodName)) ∈ lw_all := lw_g (lw_at lw_m3 224 rfl) rfl
theorem q1863 : (Jvm.Cond.castable "Graphline$Standstill" "java/lang/Object") ∈ lw_tbl := lw_at lw_m8 166 rfl
theorem in_X4 : ∀ w ∈ wsX40, w ∈ lw_all := lw_in wsX40 [572, 573, 574, 575, 576, 621] (by decide +kernel) (by decide +kernel)

/-! Graphline$Lot -/
set_option maxRecDepth 100000
def RX5 : String := "Graphline$Lot"
abbrev cX5_init : ByteArray := prog_6_method_1_code
def yX5_init : MethodName := ⟨RX5, "<init>", "(IIII)V"⟩
def dkwX5_init_1 : List UInt8 := [181, 0, 19, 177]
abbrev dktX5_init_1 : List UInt8 := dkwX5_init_1 ++ []
def dkwX5_init_0 : List UInt8 := [42, 183, 0, 1, 42, 27, 181, 0, 7, 42, 28, 181, 0, 13, 42, 29, 181, 0, 16, 42, 21, 4]
abbrev dktX5_init_0 : List UInt8 := dkwX5_init_0 ++ dktX5_init_1
theorem dksX5_init_0 : cX5_init.data.toList.drop 0 = dktX5_init_0 := by decide +kernel
theorem dksX5_init_1 : cX5_init.data.toList.drop 22 = dktX5_init_1 := dk_seg dksX5_init_0 22 rfl rfl
theorem dX5_init_0 : decode cX5_init 0 = .ok (.aload_n 0, 1) := dk_42 (dk_at dksX5_init_0 0 rfl rfl)
theorem dX5_init_1 : decode cX5_init 1 = .ok (.invokespecial 1, 3) := dk_183 0 1 (dk_at dksX5_init_0 1 rfl rfl)
theorem dX5_init_4 : decode cX5_init 4 = .ok (.aload_n 0, 1) := dk_42 (dk_at dksX5_init_0 4 rfl rfl)
theorem dX5_init_5 : decode cX5_init 5 = .ok (.iload_n 1, 1) := dk_27 (dk_at dksX5_init_0 5 rfl rfl)
theorem dX5_init_6 : decode cX5_init 6 = .ok (.putfield 7, 3) := dk_181 0 7 (dk_at dksX5_init_0 6 rfl rfl)
theorem dX5_init_9 : decode cX5_init 9 = .ok (.aload_n 0, 1) := dk_42 (dk_at dksX5_init_0 9 rfl rfl)
theorem dX5_init_10 : decode cX5_init 10 = .ok (.iload_n 2, 1) := dk_28 (dk_at dksX5_init_0 10 rfl rfl)
theorem dX5_init_11 : decode cX5_init 11 = .ok (.putfield 13, 3) := dk_181 0 13 (dk_at dksX5_init_0 11 rfl rfl)
theorem dX5_init_14 : decode cX5_init 14 = .ok (.aload_n 0, 1) := dk_42 (dk_at dksX5_init_0 14 rfl rfl)
theorem dX5_init_15 : decode cX5_init 15 = .ok (.iload_n 3, 1) := dk_29 (dk_at dksX5_init_0 15 rfl rfl)
theorem dX5_init_16 : decode cX5_init 16 = .ok (.putfield 16, 3) := dk_181 0 16 (dk_at dksX5_init_0 16 rfl rfl)
theorem dX5_init_19 : decode cX5_init 19 = .ok (.aload_n 0, 1) := dk_42 (dk_at dksX5_init_0 19 rfl rfl)
theorem dX5_init_20 : decode cX5_init 20 = .ok (.iload 4, 2) := dk_21 4 (dk_at dksX5_init_0 20 rfl rfl)
theorem dX5_init_22 : decode cX5_init 22 = .ok (.putfield 19, 3) := dk_181 0 19 (dk_at dksX5_init_1 0 rfl rfl)
theorem dX5_init_25 : decode cX5_init 25 = .ok (.return_, 1) := dk_177 (dk_at dksX5_init_1 3 rfl rfl)
theorem q38 : (Jvm.Cond.initialized "Graphline$Lot") ∈ lw_all := lw_g (lw_at lw_m1 21 rfl) rfl
theorem q645 : (Jvm.Cond.instanceMethod ({ cls := "Graphline$Lot", name := "<init>", desc := "(IIII)V" } : Jvm.MethodName)) ∈ lw_all := lw_g (lw_at lw_m3 148 rfl) rfl
theorem q646 : (Jvm.Cond.code ({ cls := "Graphline$Lot", name := "<init>", desc := "(IIII)V" } : Jvm.MethodName) prog_6_method_1_code (5 : Nat) (Option.none : Option Jvm.ClassFile.FieldType)) ∈ lw_all := lw_g (lw_at lw_m3 149 rfl) rfl
theorem q647 : (Jvm.Cond.methodLink "Graphline$Lot" (1 : Nat) ({ cls := "java/lang/Object", name := "<init>", desc := "()V" } : Jvm.MethodName)) ∈ lw_all := lw_g (lw_at lw_m3 150 rfl) rfl
theorem q648 : (Jvm.Cond.fieldLink "Graphline$Lot" (7 : Nat) "Graphline$Lot" "number" "I") ∈ lw_all := lw_g (lw_at lw_m3 151 rfl) rfl
theorem q650 : (Jvm.Cond.fieldLink "Graphline$Lot" (13 : Nat) "Graphline$Lot" "purity" "I") ∈ lw_all := lw_g (lw_at lw_m3 153 rfl) rfl
theorem q652 : (Jvm.Cond.fieldLink "Graphline$Lot" (16 : Nat) "Graphline$Lot" "size" "I") ∈ lw_all := lw_g (lw_at lw_m3 155 rfl) rfl
theorem q654 : (Jvm.Cond.fieldLink "Graphline$Lot" (19 : Nat) "Graphline$Lot" "kilos" "I") ∈ lw_all := lw_g (lw_at lw_m3 157 rfl) rfl
theorem q657 : (Jvm.Cond.soleField "Graphline$Lot" "number") ∈ lw_all := lw_g (lw_at lw_m3 160 rfl) rfl
theorem q659 : (Jvm.Cond.soleField "Graphline$Lot" "purity") ∈ lw_all := lw_g (lw_at lw_m3 162 rfl) rfl
theorem q661 : (Jvm.Cond.soleField "Graphline$Lot" "size") ∈ lw_all := lw_g (lw_at lw_m3 164 rfl) rfl
theorem q663 : (Jvm.Cond.soleField "Graphline$Lot" "kilos") ∈ lw_all := lw_g (lw_at lw_m3 166 rfl) rfl

/-! Graphline$Graphite -/
set_option maxRecDepth 100000
def RX6 : String := "Graphline$Graphite"
def TX6 : u_T := fun k => match k with
  | 0 => ("Graphline$Lot", "number", "I", true)
  | 1 => ("Graphline$Lot", "purity", "I", true)
  | 2 => ("Graphline$Lot", "size", "I", true)
  | _ => ("Graphline$Lot", "kilos", "I", false)
def tyX6 : Nat → FieldType := fun k => match k with
  | 0 => .int
  | 1 => .int
  | 2 => .int
  | _ => .int
abbrev wsX60 : List Cond := u_ws RX6 TX6 4
theorem nmX6 : ∀ a, a < 4 → ∀ b, b < 4 → a ≠ b → (TX6 a).2.1 ≠ (TX6 b).2.1 := by decide +kernel
theorem tyX6_ok : ∀ k, k < 4 → parseFieldDescriptor (TX6 k).2.2.1 = some (tyX6 k) := by decide +kernel
abbrev cX6_init : ByteArray := prog_4_method_1_code
def yX6_init : MethodName := ⟨RX6, "<init>", "(I[I)V"⟩
def dkwX6_init_0 : List UInt8 := [42, 27, 44, 3, 46, 44, 4, 46, 44, 5, 46, 183, 0, 1, 177]
abbrev dktX6_init_0 : List UInt8 := dkwX6_init_0 ++ []
theorem dksX6_init_0 : cX6_init.data.toList.drop 0 = dktX6_init_0 := by decide +kernel
theorem dX6_init_0 : decode cX6_init 0 = .ok (.aload_n 0, 1) := dk_42 (dk_at dksX6_init_0 0 rfl rfl)
theorem dX6_init_1 : decode cX6_init 1 = .ok (.iload_n 1, 1) := dk_27 (dk_at dksX6_init_0 1 rfl rfl)
theorem dX6_init_2 : decode cX6_init 2 = .ok (.aload_n 2, 1) := dk_44 (dk_at dksX6_init_0 2 rfl rfl)
theorem dX6_init_3 : decode cX6_init 3 = .ok (.iconst 0, 1) := dk_3 (dk_at dksX6_init_0 3 rfl rfl)
theorem dX6_init_4 : decode cX6_init 4 = .ok (.iaload, 1) := dk_46 (dk_at dksX6_init_0 4 rfl rfl)
theorem dX6_init_5 : decode cX6_init 5 = .ok (.aload_n 2, 1) := dk_44 (dk_at dksX6_init_0 5 rfl rfl)
theorem dX6_init_6 : decode cX6_init 6 = .ok (.iconst 1, 1) := dk_4 (dk_at dksX6_init_0 6 rfl rfl)
theorem dX6_init_7 : decode cX6_init 7 = .ok (.iaload, 1) := dk_46 (dk_at dksX6_init_0 7 rfl rfl)
theorem dX6_init_8 : decode cX6_init 8 = .ok (.aload_n 2, 1) := dk_44 (dk_at dksX6_init_0 8 rfl rfl)
theorem dX6_init_9 : decode cX6_init 9 = .ok (.iconst 2, 1) := dk_5 (dk_at dksX6_init_0 9 rfl rfl)
theorem dX6_init_10 : decode cX6_init 10 = .ok (.iaload, 1) := dk_46 (dk_at dksX6_init_0 10 rfl rfl)
theorem dX6_init_11 : decode cX6_init 11 = .ok (.invokespecial 1, 3) := dk_183 0 1 (dk_at dksX6_init_0 11 rfl rfl)
theorem dX6_init_14 : decode cX6_init 14 = .ok (.return_, 1) := dk_177 (dk_at dksX6_init_0 14 rfl rfl)
theorem q39 : (Jvm.Cond.initialized "Graphline$Graphite") ∈ lw_all := lw_g (lw_at lw_m1 22 rfl) rfl
theorem q640 : (Jvm.Cond.instantiable "Graphline$Graphite" (4 : Nat)) ∈ lw_all := lw_g (lw_at lw_m3 143 rfl) rfl
theorem q642 : (Jvm.Cond.instanceMethod ({ cls := "Graphline$Graphite", name := "<init>", desc := "(I[I)V" } : Jvm.MethodName)) ∈ lw_all := lw_g (lw_at lw_m3 145 rfl) rfl
theorem q643 : (Jvm.Cond.code ({ cls := "Graphline$Graphite", name := "<init>", desc := "(I[I)V" } : Jvm.MethodName) prog_4_method_1_code (3 : Nat) (Option.none : Option Jvm.ClassFile.FieldType)) ∈ lw_all := lw_g (lw_at lw_m3 146 rfl) rfl
theorem q644 : (Jvm.Cond.methodLink "Graphline$Graphite" (1 : Nat) ({ cls := "Graphline$Lot", name := "<init>", desc := "(IIII)V" } : Jvm.MethodName)) ∈ lw_all := lw_g (lw_at lw_m3 147 rfl) rfl
theorem q656 : (Jvm.Cond.laysFinal "Graphline$Graphite" "Graphline$Lot" "number" "I") ∈ lw_all := lw_g (lw_at lw_m3 159 rfl) rfl
theorem q658 : (Jvm.Cond.laysFinal "Graphline$Graphite" "Graphline$Lot" "purity" "I") ∈ lw_all := lw_g (lw_at lw_m3 161 rfl) rfl
theorem q660 : (Jvm.Cond.laysFinal "Graphline$Graphite" "Graphline$Lot" "size" "I") ∈ lw_all := lw_g (lw_at lw_m3 163 rfl) rfl
theorem q662 : (Jvm.Cond.lays "Graphline$Graphite" "Graphline$Lot" "kilos" "I") ∈ lw_all := lw_g (lw_at lw_m3 165 rfl) rfl
theorem q664 : (Jvm.Cond.superclass "Graphline$Graphite" "Graphline$Lot") ∈ lw_all := lw_g (lw_at lw_m3 167 rfl) rfl
theorem q714 : (Jvm.Cond.selects "Graphline$Graphite" ({ cls := "java/lang/Object", name := "getClass", desc := "()Ljava/lang/Class;" } : Jvm.MethodName) ({ cls := "java/lang/Object", name := "getClass", desc := "()Ljava/lang/Class;" } : Jvm.MethodName)) ∈ lw_all := lw_g (lw_at lw_m3 217 rfl) rfl
theorem q1855 : (Jvm.Cond.castable "Graphline$Graphite" "Graphline$Lot") ∈ lw_tbl := lw_at lw_m8 158 rfl
theorem q1865 : (Jvm.Cond.castable "Graphline$Graphite" "java/lang/Object") ∈ lw_tbl := lw_at lw_m8 168 rfl
theorem in_X6 : ∀ w ∈ wsX60, w ∈ lw_all := lw_in wsX60 [656, 658, 660, 662] (by decide +kernel) (by decide +kernel)

/-! Graphline$Clay -/
set_option maxRecDepth 100000
def RX7 : String := "Graphline$Clay"
def TX7 : u_T := fun k => match k with
  | 0 => ("Graphline$Lot", "number", "I", true)
  | 1 => ("Graphline$Lot", "purity", "I", true)
  | 2 => ("Graphline$Lot", "size", "I", true)
  | _ => ("Graphline$Lot", "kilos", "I", false)
def tyX7 : Nat → FieldType := fun k => match k with
  | 0 => .int
  | 1 => .int
  | 2 => .int
  | _ => .int
abbrev wsX70 : List Cond := u_ws RX7 TX7 4
theorem nmX7 : ∀ a, a < 4 → ∀ b, b < 4 → a ≠ b → (TX7 a).2.1 ≠ (TX7 b).2.1 := by decide +kernel
theorem tyX7_ok : ∀ k, k < 4 → parseFieldDescriptor (TX7 k).2.2.1 = some (tyX7 k) := by decide +kernel
abbrev cX7_init : ByteArray := prog_3_method_1_code
def yX7_init : MethodName := ⟨RX7, "<init>", "(I[I)V"⟩
def dkwX7_init_0 : List UInt8 := [42, 27, 44, 3, 46, 44, 4, 46, 44, 5, 46, 183, 0, 1, 177]
abbrev dktX7_init_0 : List UInt8 := dkwX7_init_0 ++ []
theorem dksX7_init_0 : cX7_init.data.toList.drop 0 = dktX7_init_0 := by decide +kernel
theorem dX7_init_0 : decode cX7_init 0 = .ok (.aload_n 0, 1) := dk_42 (dk_at dksX7_init_0 0 rfl rfl)
theorem dX7_init_1 : decode cX7_init 1 = .ok (.iload_n 1, 1) := dk_27 (dk_at dksX7_init_0 1 rfl rfl)
theorem dX7_init_2 : decode cX7_init 2 = .ok (.aload_n 2, 1) := dk_44 (dk_at dksX7_init_0 2 rfl rfl)
theorem dX7_init_3 : decode cX7_init 3 = .ok (.iconst 0, 1) := dk_3 (dk_at dksX7_init_0 3 rfl rfl)
theorem dX7_init_4 : decode cX7_init 4 = .ok (.iaload, 1) := dk_46 (dk_at dksX7_init_0 4 rfl rfl)
theorem dX7_init_5 : decode cX7_init 5 = .ok (.aload_n 2, 1) := dk_44 (dk_at dksX7_init_0 5 rfl rfl)
theorem dX7_init_6 : decode cX7_init 6 = .ok (.iconst 1, 1) := dk_4 (dk_at dksX7_init_0 6 rfl rfl)
theorem dX7_init_7 : decode cX7_init 7 = .ok (.iaload, 1) := dk_46 (dk_at dksX7_init_0 7 rfl rfl)
theorem dX7_init_8 : decode cX7_init 8 = .ok (.aload_n 2, 1) := dk_44 (dk_at dksX7_init_0 8 rfl rfl)
theorem dX7_init_9 : decode cX7_init 9 = .ok (.iconst 2, 1) := dk_5 (dk_at dksX7_init_0 9 rfl rfl)
theorem dX7_init_10 : decode cX7_init 10 = .ok (.iaload, 1) := dk_46 (dk_at dksX7_init_0 10 rfl rfl)
theorem dX7_init_11 : decode cX7_init 11 = .ok (.invokespecial 1, 3) := dk_183 0 1 (dk_at dksX7_init_0 11 rfl rfl)
theorem dX7_init_14 : decode cX7_init 14 = .ok (.return_, 1) := dk_177 (dk_at dksX7_init_0 14 rfl rfl)
theorem q40 : (Jvm.Cond.initialized "Graphline$Clay") ∈ lw_all := lw_g (lw_at lw_m1 23 rfl) rfl
theorem q666 : (Jvm.Cond.instantiable "Graphline$Clay" (4 : Nat)) ∈ lw_all := lw_g (lw_at lw_m3 169 rfl) rfl
theorem q668 : (Jvm.Cond.instanceMethod ({ cls := "Graphline$Clay", name := "<init>", desc := "(I[I)V" } : Jvm.MethodName)) ∈ lw_all := lw_g (lw_at lw_m3 171 rfl) rfl
theorem q669 : (Jvm.Cond.code ({ cls := "Graphline$Clay", name := "<init>", desc := "(I[I)V" } : Jvm.MethodName) prog_3_method_1_code (3 : Nat) (Option.none : Option Jvm.ClassFile.FieldType)) ∈ lw_all := lw_g (lw_at lw_m3 172 rfl) rfl
theorem q670 : (Jvm.Cond.methodLink "Graphline$Clay" (1 : Nat) ({ cls := "Graphline$Lot", name := "<init>", desc := "(IIII)V" } : Jvm.MethodName)) ∈ lw_all := lw_g (lw_at lw_m3 173 rfl) rfl
theorem q671 : (Jvm.Cond.laysFinal "Graphline$Clay" "Graphline$Lot" "number" "I") ∈ lw_all := lw_g (lw_at lw_m3 174 rfl) rfl
theorem q672 : (Jvm.Cond.laysFinal "Graphline$Clay" "Graphline$Lot" "purity" "I") ∈ lw_all := lw_g (lw_at lw_m3 175 rfl) rfl
theorem q673 : (Jvm.Cond.laysFinal "Graphline$Clay" "Graphline$Lot" "size" "I") ∈ lw_all := lw_g (lw_at lw_m3 176 rfl) rfl
theorem q674 : (Jvm.Cond.lays "Graphline$Clay" "Graphline$Lot" "kilos" "I") ∈ lw_all := lw_g (lw_at lw_m3 177 rfl) rfl
theorem q675 : (Jvm.Cond.superclass "Graphline$Clay" "Graphline$Lot") ∈ lw_all := lw_g (lw_at lw_m3 178 rfl) rfl
theorem q713 : (Jvm.Cond.selects "Graphline$Clay" ({ cls := "java/lang/Object", name := "getClass", desc := "()Ljava/lang/Class;" } : Jvm.MethodName) ({ cls := "java/lang/Object", name := "getClass", desc := "()Ljava/lang/Class;" } : Jvm.MethodName)) ∈ lw_all := lw_g (lw_at lw_m3 216 rfl) rfl
theorem q1854 : (Jvm.Cond.castable "Graphline$Clay" "Graphline$Lot") ∈ lw_tbl := lw_at lw_m8 157 rfl
theorem q1866 : (Jvm.Cond.castable "Graphline$Clay" "java/lang/Object") ∈ lw_tbl := lw_at lw_m8 169 rfl
theorem in_X7 : ∀ w ∈ wsX70, w ∈ lw_all := lw_in wsX70 [671, 672, 673, 674] (by decide +kernel) (by decide +kernel)

/-! Graphline$Mixture -/
set_option maxRecDepth 100000
def RX8 : String := "Graphline$Mixture"
def TX8 : u_T := fun k => match k with
  | 0 => ("Graphline$Mixture", "graphite", "LGraphline$Lot;", true)
  | 1 => ("Graphline$Mixture", "clay", "LGraphline$Lot;", true)
  | 2 => ("Graphline$Mixture", "carbon", "I", true)
  | 3 => ("Graphline$Mixture", "fineness", "I", true)
  | _ => ("Graphline$Mixture", "kilos", "I", false)
def tyX8 : Nat → FieldType := fun k => match k with
  | 0 => .object "Graphline$Lot"
  | 1 => .object "Graphline$Lot"
  | 2 => .int
  | 3 => .int
  | _ => .int
abbrev wsX80 : List Cond := u_ws RX8 TX8 5
theorem nmX8 : ∀ a, a < 5 → ∀ b, b < 5 → a ≠ b → (TX8 a).2.1 ≠ (TX8 b).2.1 := by decide +kernel
theorem tyX8_ok : ∀ k, k < 5 → parseFieldDescriptor (TX8 k).2.2.1 = some (tyX8 k) := by decide +kernel
abbrev cX8_init : ByteArray := prog_7_method_1_code
def yX8_init : MethodName := ⟨RX8, "<init>", "(LGraphline$Lot;LGraphline$Lot;III)V"⟩
def dkwX8_init_3 : List UInt8 := [177]
abbrev dktX8_init_3 : List UInt8 := dkwX8_init_3 ++ []
def dkwX8_init_2 : List UInt8 := [16, 9, 96, 43, 180, 0, 28, 100, 44, 180, 0, 28, 6, 108, 100, 184, 0, 31, 184, 0, 37, 181, 0, 40]
abbrev dktX8_init_2 : List UInt8 := dkwX8_init_2 ++ dktX8_init_3
def dkwX8_init_1 : List UInt8 := [16, 10, 29, 104, 43, 180, 0, 20, 104, 29, 21, 4, 96, 108, 181, 0, 25, 42, 3, 16, 9, 21, 5]
abbrev dktX8_init_1 : List UInt8 := dkwX8_init_1 ++ dktX8_init_2
def dkwX8_init_0 : List UInt8 := [42, 183, 0, 1, 42, 43, 181, 0, 7, 42, 44, 181, 0, 13, 42, 29, 21, 4, 96, 181, 0, 16, 42]
abbrev dktX8_init_0 : List UInt8 := dkwX8_init_0 ++ dktX8_init_1
theorem dksX8_init_0 : cX8_init.data.toList.drop 0 = dktX8_init_0 := by decide +kernel
theorem dksX8_init_1 : cX8_init.data.toList.drop 23 = dktX8_init_1 := dk_seg dksX8_init_0 23 rfl rfl
theorem dksX8_init_2 : cX8_init.data.toList.drop 46 = dktX8_init_2 := dk_seg dksX8_init_1 23 rfl rfl
theorem dksX8_init_3 : cX8_init.data.toList.drop 70 = dktX8_init_3 := dk_seg dksX8_init_2 24 rfl rfl
theorem dX8_init_0 : decode cX8_init 0 = .ok (.aload_n 0, 1) := dk_42 (dk_at dksX8_init_0 0 rfl rfl)
theorem dX8_init_1 : decode cX8_init 1 = .ok (.invokespecial 1, 3) := dk_183 0 1 (dk_at dksX8_init_0 1 rfl rfl)
theorem dX8_init_4 : decode cX8_init 4 = .ok (.aload_n 0, 1) := dk_42 (dk_at dksX8_init_0 4 rfl rfl)
theorem dX8_init_5 : decode cX8_init 5 = .ok (.aload_n 1, 1) := dk_43 (dk_at dksX8_init_0 5 rfl rfl)
theorem dX8_init_6 : decode cX8_init 6 = .ok (.putfield 7, 3) := dk_181 0 7 (dk_at dksX8_init_0 6 rfl rfl)
theorem dX8_init_9 : decode cX8_init 9 = .ok (.aload_n 0, 1) := dk_42 (dk_at dksX8_init_0 9 rfl rfl)
theorem dX8_init_10 : decode cX8_init 10 = .ok (.aload_n 2, 1) := dk_44 (dk_at dksX8_init_0 10 rfl rfl)
theorem dX8_init_11 : decode cX8_init 11 = .ok (.putfield 13, 3) := dk_181 0 13 (dk_at dksX8_init_0 11 rfl rfl)
theorem dX8_init_14 : decode cX8_init 14 = .ok (.aload_n 0, 1) := dk_42 (dk_at dksX8_init_0 14 rfl rfl)
theorem dX8_init_15 : decode cX8_init 15 = .ok (.iload_n 3, 1) := dk_29 (dk_at dksX8_init_0 15 rfl rfl)
theorem dX8_init_16 : decode cX8_init 16 = .ok (.iload 4, 2) := dk_21 4 (dk_at dksX8_init_0 16 rfl rfl)
theorem dX8_init_18 : decode cX8_init 18 = .ok (.iadd, 1) := dk_96 (dk_at dksX8_init_0 18 rfl rfl)
theorem dX8_init_19 : decode cX8_init 19 = .ok (.putfield 16, 3) := dk_181 0 16 (dk_at dksX8_init_0 19 rfl rfl)
theorem dX8_init_22 : decode cX8_init 22 = .ok (.aload_n 0, 1) := dk_42 (dk_at dksX8_init_0 22 rfl rfl)
theorem dX8_init_23 : decode cX8_init 23 = .ok (.bipush 10, 2) := dk_16 10 (dk_at dksX8_init_1 0 rfl rfl)
theorem dX8_init_25 : decode cX8_init 25 = .ok (.iload_n 3, 1) := dk_29 (dk_at dksX8_init_1 2 rfl rfl)
theorem dX8_init_26 : decode cX8_init 26 = .ok (.imul, 1) := dk_104 (dk_at dksX8_init_1 3 rfl rfl)
theorem dX8_init_27 : decode cX8_init 27 = .ok (.aload_n 1, 1) := dk_43 (dk_at dksX8_init_1 4 rfl rfl)
theorem dX8_init_28 : decode cX8_init 28 = .ok (.getfield 20, 3) := dk_180 0 20 (dk_at dksX8_init_1 5 rfl rfl)
theorem dX8_init_31 : decode cX8_init 31 = .ok (.imul, 1) := dk_104 (dk_at dksX8_init_1 8 rfl rfl)
theorem dX8_init_32 : decode cX8_init 32 = .ok (.iload_n 3, 1) := dk_29 (dk_at dksX8_init_1 9 rfl rfl)
theorem dX8_init_33 : decode cX8_init 33 = .ok (.iload 4, 2) := dk_21 4 (dk_at dksX8_init_1 10 rfl rfl)
theorem dX8_init_35 : decode cX8_init 35 = .ok (.iadd, 1) := dk_96 (dk_at dksX8_init_1 12 rfl rfl)
theorem dX8_init_36 : decode cX8_init 36 = .ok (.idiv, 1) := dk_108 (dk_at dksX8_init_1 13 rfl rfl)
theorem dX8_init_37 : decode cX8_init 37 = .ok (.putfield 25, 3) := dk_181 0 25 (dk_at dksX8_init_1 14 rfl rfl)
theorem dX8_init_40 : decode cX8_init 40 = .ok (.aload_n 0, 1) := dk_42 (dk_at dksX8_init_1 17 rfl rfl)
theorem dX8_init_41 : decode cX8_init 41 = .ok (.iconst 0, 1) := dk_3 (dk_at dksX8_init_1 18 rfl rfl)
theorem dX8_init_42 : decode cX8_init 42 = .ok (.bipush 9, 2) := dk_16 9 (dk_at dksX8_init_1 19 rfl rfl)
theorem dX8_init_44 : decode cX8_init 44 = .ok (.iload 5, 2) := dk_21 5 (dk_at dksX8_init_1 21 rfl rfl)
theorem dX8_init_46 : decode cX8_init 46 = .ok (.bipush 9, 2) := dk_16 9 (dk_at dksX8_init_2 0 rfl rfl)
theorem dX8_init_48 : decode cX8_init 48 = .ok (.iadd, 1) := dk_96 (dk_at dksX8_init_2 2 rfl rfl)
theorem dX8_init_49 : decode cX8_init 49 = .ok (.aload_n 1, 1) := dk_43 (dk_at dksX8_init_2 3 rfl rfl)
theorem dX8_init_50 : decode cX8_init 50 = .ok (.getfield 28, 3) := dk_180 0 28 (dk_at dksX8_init_2 4 rfl rfl)
theorem dX8_init_53 : decode cX8_init 53 = .ok (.isub, 1) := dk_100 (dk_at dksX8_init_2 7 rfl rfl)
theorem dX8_init_54 : decode cX8_init 54 = .ok (.aload_n 2, 1) := dk_44 (dk_at dksX8_init_2 8 rfl rfl)
theorem dX8_init_55 : decode cX8_init 55 = .ok (.getfield 28, 3) := dk_180 0 28 (dk_at dksX8_init_2 9 rfl rfl)
theorem dX8_init_58 : decode cX8_init 58 = .ok (.iconst 3, 1) := dk_6 (dk_at dksX8_init_2 12 rfl rfl)
theorem dX8_init_59 : decode cX8_init 59 = .ok (.idiv, 1) := dk_108 (dk_at dksX8_init_2 13 rfl rfl)
theorem dX8_init_60 : decode cX8_init 60 = .ok (.isub, 1) := dk_100 (dk_at dksX8_init_2 14 rfl rfl)
theorem dX8_init_61 : decode cX8_init 61 = .ok (.invokestatic 31, 3) := dk_184 0 31 (dk_at dksX8_init_2 15 rfl rfl)
theorem dX8_init_64 : decode cX8_init 64 = .ok (.invokestatic 37, 3) := dk_184 0 37 (dk_at dksX8_init_2 18 rfl rfl)
theorem dX8_init_67 : decode cX8_init 67 = .ok (.putfield 40, 3) := dk_181 0 40 (dk_at dksX8_init_2 21 rfl rfl)
theorem dX8_init_70 : decode cX8_init 70 = .ok (.return_, 1) := dk_177 (dk_at dksX8_init_3 0 rfl rfl)
theorem q46 : (Jvm.Cond.initialized "Graphline$Mixture") ∈ lw_all := lw_g (lw_at lw_m1 29 rfl) rfl
theorem q651 : (Jvm.Cond.fieldLinkNest "Graphline$Mixture" (20 : Nat) "Graphline$Lot" "purity" "I" "Graphline") ∈ lw_tbl := lw_at lw_m3 154 rfl
theorem q653 : (Jvm.Cond.fieldLinkNest "Graphline$Mixture" (28 : Nat) "Graphline$Lot" "size" "I" "Graphline") ∈ lw_tbl := lw_at lw_m3 156 rfl
theorem q716 : (Jvm.Cond.selects "Graphline$Mixture" ({ cls := "java/lang/Object", name := "getClass", desc := "()Ljava/lang/Class;" } : Jvm.MethodName) ({ cls := "java/lang/Object", name := "getClass", desc := "()Ljava/lang/Class;" } : Jvm.MethodName)) ∈ lw_all := lw_g (lw_at lw_m3 219 rfl) rfl
theorem q832 : (Jvm.Cond.instantiable "Graphline$Mixture" (5 : Nat)) ∈ lw_all := lw_g (lw_at lw_m4 95 rfl) rfl
theorem q834 : (Jvm.Cond.instanceMethod ({ cls := "Graphline$Mixture", name := "<init>", desc := "(LGraphline$Lot;LGraphline$Lot;III)V" } : Jvm.MethodName)) ∈ lw_all := lw_g (lw_at lw_m4 97 rfl) rfl
theorem q835 : (Jvm.Cond.code ({ cls := "Graphline$Mixture", name := "<init>", desc := "(LGraphline$Lot;LGraphline$Lot;III)V" } : Jvm.MethodName) prog_7_method_1_code (6 : Nat) (Option.none : Option Jvm.ClassFile.FieldType)) ∈ lw_all := lw_g (lw_at lw_m4 98 rfl) rfl
theorem q836 : (Jvm.Cond.methodLink "Graphline$Mixture" (1 : Nat) ({ cls := "java/lang/Object", name := "<init>", desc := "()V" } : Jvm.MethodName)) ∈ lw_all := lw_g (lw_at lw_m4 99 rfl) rfl
theorem q837 : (Jvm.Cond.methodLink "Graphline$Mixture" (31 : Nat) ({ cls := "java/lang/Math", name := "min", desc := "(II)I" } : Jvm.MethodName)) ∈ lw_all := lw_g (lw_at lw_m4 100 rfl) rfl
theorem q838 : (Jvm.Cond.methodLink "Graphline$Mixture" (37 : Nat) ({ cls := "java/lang/Math", name := "max", desc := "(II)I" } : Jvm.MethodName)) ∈ lw_all := lw_g (lw_at lw_m4 101 rfl) rfl
theorem q839 : (Jvm.Cond.fieldLink "Graphline$Mixture" (7 : Nat) "Graphline$Mixture" "graphite" "LGraphline$Lot;") ∈ lw_all := lw_g (lw_at lw_m4 102 rfl) rfl
theorem q841 : (Jvm.Cond.fieldLink "Graphline$Mixture" (13 : Nat) "Graphline$Mixture" "clay" "LGraphline$Lot;") ∈ lw_all := lw_g (lw_at lw_m4 104 rfl) rfl
theorem q843 : (Jvm.Cond.fieldLink "Graphline$Mixture" (25 : Nat) "Graphline$Mixture" "carbon" "I") ∈ lw_all := lw_g (lw_at lw_m4 106 rfl) rfl
theorem q845 : (Jvm.Cond.fieldLink "Graphline$Mixture" (40 : Nat) "Graphline$Mixture" "fineness" "I") ∈ lw_all := lw_g (lw_at lw_m4 108 rfl) rfl
theorem q847 : (Jvm.Cond.fieldLink "Graphline$Mixture" (16 : Nat) "Graphline$Mixture" "kilos" "I") ∈ lw_all := lw_g (lw_at lw_m4 110 rfl) rfl
theorem q849 : (Jvm.Cond.laysFinal "Graphline$Mixture" "Graphline$Mixture" "graphite" "LGraphline$Lot;") ∈ lw_all := lw_g (lw_at lw_m4 112 rfl) rfl
theorem q850 : (Jvm.Cond.soleField "Graphline$Mixture" "graphite") ∈ lw_all := lw_g (lw_at lw_m4 113 rfl) rfl
theorem q851 : (Jvm.Cond.laysFinal "Graphline$Mixture" "Graphline$Mixture" "clay" "LGraphline$Lot;") ∈ lw_all := lw_g (lw_at lw_m4 114 rfl) rfl
theorem q852 : (Jvm.Cond.soleField "Graphline$Mixture" "clay") ∈ lw_all := lw_g (lw_at lw_m4 115 rfl) rfl
theorem q853 : (Jvm.Cond.laysFinal "Graphline$Mixture" "Graphline$Mixture" "carbon" "I") ∈ lw_all := lw_g (lw_at lw_m4 116 rfl) rfl
theorem q854 : (Jvm.Cond.soleField "Graphline$Mixture" "carbon") ∈ lw_all := lw_g (lw_at lw_m4 117 rfl) rfl
theorem q855 : (Jvm.Cond.laysFinal "Graphline$Mixture" "Graphline$Mixture" "fineness" "I") ∈ lw_all := lw_g (lw_at lw_m4 118 rfl) rfl
theorem q856 : (Jvm.Cond.soleField "Graphline$Mixture" "fineness") ∈ lw_all := lw_g (lw_at lw_m4 119 rfl) rfl
theorem q857 : (Jvm.Cond.lays "Graphline$Mixture" "Graphline$Mixture" "kilos" "I") ∈ lw_all := lw_g (lw_at lw_m4 120 rfl) rfl
theorem q858 : (Jvm.Cond.soleField "Graphline$Mixture" "kilos") ∈ lw_all := lw_g (lw_at lw_m4 121 rfl) rfl
theorem q859 : (Jvm.Cond.superclass "Graphline$Mixture" "java/lang/Object") ∈ lw_all := lw_g (lw_at lw_m4 122 rfl) rfl
theorem q1869 : (Jvm.Cond.castable "Graphline$Mixture" "java/lang/Object") ∈ lw_tbl := lw_at lw_m8 172 rfl
theorem in_X8 : ∀ w ∈ wsX80, w ∈ lw_all := lw_in wsX80 [849, 851, 853, 855, 857] (by decide +kernel) (by decide +kernel)

/-! Graphline$Batch -/
set_option maxRecDepth 100000
def RX9 : String := "Graphline$Batch"
def TX9 : u_T := fun k => match k with
  | 0 => ("Graphline$Batch", "number", "I", true)
  | 1 => ("Graphline$Batch", "mixture", "LGraphline$Mixture;", true)
  | 2 => ("Graphline$Batch", "bore", "I", true)
  | 3 => ("Graphline$Batch", "leads", "I", false)
  | 4 => ("Graphline$Batch", "warped", "I", false)
  | 5 => ("Graphline$Batch", "ready", "I", false)
  | 6 => ("Graphline$Batch", "isDried", "Z", false)
  | 7 => ("Graphline$Batch", "isSoaked", "Z", false)
  | 8 => ("Graphline$Batch", "firing", "I", false)
  | 9 => ("Graphline$Batch", "kiln", "I", false)
  | 10 => ("Graphline$Batch", "strength", "I", false)
  | _ => ("Graphline$Batch", "darkness", "I", false)
def tyX9 : Nat → FieldType := fun k => match k with
  | 0 => .int
  | 1 => .object "Graphline$Mixture"
  | 2 => .int
  | 3 => .int
  | 4 => .int
  | 5 => .int
  | 6 => .boolean
  | 7 => .boolean
  | 8 => .int
  | 9 => .int
  | 10 => .int
  | _ => .int
abbrev wsX90 : List Cond := u_ws RX9 TX9 12
theorem nmX9 : ∀ a, a < 12 → ∀ b, b < 12 → a ≠ b → (TX9 a).2.1 ≠ (TX9 b).2.1 := by decide +kernel
theorem tyX9_ok : ∀ k, k < 12 → parseFieldDescriptor (TX9 k).2.2.1 = some (tyX9 k) := by decide +kernel
abbrev cX9_init : ByteArray := prog_2_method_1_code
def yX9_init : MethodName := ⟨RX9, "<init>", "(ILGraphline$Mixture;II)V"⟩
def dkwX9_init_1 : List UInt8 := [42, 29, 181, 0, 25, 42, 21, 4, 181, 0, 28, 177]
abbrev dktX9_init_1 : List UInt8 := dkwX9_init_1 ++ []
def dkwX9_init_0 : List UInt8 := [42, 183, 0, 3, 42, 2, 181, 0, 9, 42, 2, 181, 0, 15, 42, 27, 181, 0, 18, 42, 44, 181, 0, 21]
abbrev dktX9_init_0 : List UInt8 := dkwX9_init_0 ++ dktX9_init_1
theorem dksX9_init_0 : cX9_init.data.toList.drop 0 = dktX9_init_0 := by decide +kernel
theorem dksX9_init_1 : cX9_init.data.toList.drop 24 = dktX9_init_1 := dk_seg dksX9_init_0 24 rfl rfl
theorem dX9_init_0 : decode cX9_init 0 = .ok (.aload_n 0, 1) := dk_42 (dk_at dksX9_init_0 0 rfl rfl)
theorem dX9_init_1 : decode cX9_init 1 = .ok (.invokespecial 3, 3) := dk_183 0 3 (dk_at dksX9_init_0 1 rfl rfl)
theorem dX9_init_4 : decode cX9_init 4 = .ok (.aload_n 0, 1) := dk_42 (dk_at dksX9_init_0 4 rfl rfl)
theorem dX9_init_5 : decode cX9_init 5 = .ok (.iconst (-1), 1) := dk_2 (dk_at dksX9_init_0 5 rfl rfl)
theorem dX9_init_6 : decode cX9_init 6 = .ok (.putfield 9, 3) := dk_181 0 9 (dk_at dksX9_init_0 6 rfl rfl)
theorem dX9_init_9 : decode cX9_init 9 = .ok (.aload_n 0, 1) := dk_42 (dk_at dksX9_init_0 9 rfl rfl)
theorem dX9_init_10 : decode cX9_init 10 = .ok (.iconst (-1), 1) := dk_2 (dk_at dksX9_init_0 10 rfl rfl)
theorem dX9_init_11 : decode cX9_init 11 = .ok (.putfield 15, 3) := dk_181 0 15 (dk_at dksX9_init_0 11 rfl rfl)
theorem dX9_init_14 : decode cX9_init 14 = .ok (.aload_n 0, 1) := dk_42 (dk_at dksX9_init_0 14 rfl rfl)
theorem dX9_init_15 : decode cX9_init 15 = .ok (.iload_n 1, 1) := dk_27 (dk_at dksX9_init_0 15 rfl rfl)
theorem dX9_init_16 : decode cX9_init 16 = .ok (.putfield 18, 3) := dk_181 0 18 (dk_at dksX9_init_0 16 rfl rfl)
theorem dX9_init_19 : decode cX9_init 19 = .ok (.aload_n 0, 1) := dk_42 (dk_at dksX9_init_0 19 rfl rfl)
theorem dX9_init_20 : decode cX9_init 20 = .ok (.aload_n 2, 1) := dk_44 (dk_at dksX9_init_0 20 rfl rfl)
theorem dX9_init_21 : decode cX9_init 21 = .ok (.putfield 21, 3) := dk_181 0 21 (dk_at dksX9_init_0 21 rfl rfl)
theorem dX9_init_24 : decode cX9_init 24 = .ok (.aload_n 0, 1) := dk_42 (dk_at dksX9_init_1 0 rfl rfl)
theorem dX9_init_25 : decode cX9_init 25 = .ok (.iload_n 3, 1) := dk_29 (dk_at dksX9_init_1 1 rfl rfl)
theorem dX9_init_26 : decode cX9_init 26 = .ok (.putfield 25, 3) := dk_181 0 25 (dk_at dksX9_init_1 2 rfl rfl)
theorem dX9_init_29 : decode cX9_init 29 = .ok (.aload_n 0, 1) := dk_42 (dk_at dksX9_init_1 5 rfl rfl)
theorem dX9_init_30 : decode cX9_init 30 = .ok (.iload 4, 2) := dk_21 4 (dk_at dksX9_init_1 6 rfl rfl)
theorem dX9_init_32 : decode cX9_init 32 = .ok (.putfield 28, 3) := dk_181 0 28 (dk_at dksX9_init_1 8 rfl rfl)
theorem dX9_init_35 : decode cX9_init 35 = .ok (.return_, 1) := dk_177 (dk_at dksX9_init_1 11 rfl rfl)
abbrev cX9_isReady : ByteArray := prog_2_method_3_code
def yX9_isReady : MethodName := ⟨RX9, "isReady", "(I)Z"⟩
def dkwX9_isReady_0 : List UInt8 := [27, 42, 180, 0, 31, 161, 0, 7, 4, 167, 0, 4, 3, 172]
abbrev dktX9_isReady_0 : List UInt8 := dkwX9_isReady_0 ++ []
theorem dksX9_isReady_0 : cX9_isReady.data.toList.drop 0 = dktX9_isReady_0 := by decide +kernel
theorem dX9_isReady_0 : decode cX9_isReady 0 = .ok (.iload_n 1, 1) := dk_27 (dk_at dksX9_isReady_0 0 rfl rfl)
theorem dX9_isReady_1 : decode cX9_isReady 1 = .ok (.aload_n 0, 1) := dk_42 (dk_at dksX9_isReady_0 1 rfl rfl)
theorem dX9_isReady_2 : decode cX9_isReady 2 = .ok (.getfield 31, 3) := dk_180 0 31 (dk_at dksX9_isReady_0 2 rfl rfl)
theorem dX9_isReady_5 : decode cX9_isReady 5 = .ok (.if_icmp .lt 7, 3) := dk_161 0 7 (dk_at dksX9_isReady_0 5 rfl rfl)
theorem dX9_isReady_8 : decode cX9_isReady 8 = .ok (.iconst 1, 1) := dk_4 (dk_at dksX9_isReady_0 8 rfl rfl)
theorem dX9_isReady_9 : decode cX9_isReady 9 = .ok (.goto 4, 3) := dk_167 0 4 (dk_at dksX9_isReady_0 9 rfl rfl)
theorem dX9_isReady_12 : decode cX9_isReady 12 = .ok (.iconst 0, 1) := dk_3 (dk_at dksX9_isReady_0 12 rfl rfl)
theorem dX9_isReady_13 : decode cX9_isReady 13 = .ok (.ireturn, 1) := dk_172 (dk_at dksX9_isReady_0 13 rfl rfl)
abbrev cX9_isFired : ByteArray := prog_2_method_2_code
def yX9_isFired : MethodName := ⟨RX9, "isFired", "()Z"⟩
def dkwX9_isFired_0 : List UInt8 := [42, 180, 0, 9, 2, 159, 0, 7, 4, 167, 0, 4, 3, 172]
abbrev dktX9_isFired_0 : List UInt8 := dkwX9_isFired_0 ++ []
theorem dksX9_isFired_0 : cX9_isFired.data.toList.drop 0 = dktX9_isFired_0 := by decide +kernel
theorem dX9_isFired_0 : decode cX9_isFired 0 = .ok (.aload_n 0, 1) := dk_42 (dk_at dksX9_isFired_0 0 rfl rfl)
theorem dX9_isFired_1 : decode cX9_isFired 1 = .ok (.getfield 9, 3) := dk_180 0 9 (dk_at dksX9_isFired_0 1 rfl rfl)
theorem dX9_isFired_4 : decode cX9_isFired 4 = .ok (.iconst (-1), 1) := dk_2 (dk_at dksX9_isFired_0 4 rfl rfl)
theorem dX9_isFired_5 : decode cX9_isFired 5 = .ok (.if_icmp .eq 7, 3) := dk_159 0 7 (dk_at dksX9_isFired_0 5 rfl rfl)
theorem dX9_isFired_8 : decode cX9_isFired 8 = .ok (.iconst 1, 1) := dk_4 (dk_at dksX9_isFired_0 8 rfl rfl)
theorem dX9_isFired_9 : decode cX9_isFired 9 = .ok (.goto 4, 3) := dk_167 0 4 (dk_at dksX9_isFired_0 9 rfl rfl)
theorem dX9_isFired_12 : decode cX9_isFired 12 = .ok (.iconst 0, 1) := dk_3 (dk_at dksX9_isFired_0 12 rfl rfl)
theorem dX9_isFired_13 : decode cX9_isFired 13 = .ok (.ireturn, 1) := dk_172 (dk_at dksX9_isFired_0 13 rfl rfl)
abbrev cX9_grade : ByteArray := prog_2_method_4_code
def yX9_grade : MethodName := ⟨RX9, "grade", "()I"⟩
def dkwX9_grade_0 : List UInt8 := [42, 180, 0, 34, 16, 50, 108, 172]
abbrev dktX9_grade_0 : List UInt8 := dkwX9_grade_0 ++ []
theorem dksX9_grade_0 : cX9_grade.data.toList.drop 0 = dktX9_grade_0 := by decide +kernel
theorem dX9_grade_0 : decode cX9_grade 0 = .ok (.aload_n 0, 1) := dk_42 (dk_at dksX9_grade_0 0 rfl rfl)
theorem dX9_grade_1 : decode cX9_grade 1 = .ok (.getfield 34, 3) := dk_180 0 34 (dk_at dksX9_grade_0 1 rfl rfl)
theorem dX9_grade_4 : decode cX9_grade 4 = .ok (.bipush 50, 2) := dk_16 50 (dk_at dksX9_grade_0 4 rfl rfl)
theorem dX9_grade_6 : decode cX9_grade 6 = .ok (.idiv, 1) := dk_108 (dk_at dksX9_grade_0 6 rfl rfl)
theorem dX9_grade_7 : decode cX9_grade 7 = .ok (.ireturn, 1) := dk_172 (dk_at dksX9_grade_0 7 rfl rfl)
theorem q47 : (Jvm.Cond.initialized "Graphline$Batch") ∈ lw_all := lw_g (lw_at lw_m1 30 rfl) rfl
theorem q712 : (Jvm.Cond.selects "Graphline$Batch" ({ cls := "java/lang/Object", name := "getClass", desc := "()Ljava/lang/Class;" } : Jvm.MethodName) ({ cls := "java/lang/Object", name := "getClass", desc := "()Ljava/lang/Class;" } : Jvm.MethodName)) ∈ lw_all := lw_g (lw_at lw_m3 215 rfl) rfl
theorem q878 : (Jvm.Cond.instantiable "Graphline$Batch" (12 : Nat)) ∈ lw_all := lw_g (lw_at lw_m4 141 rfl) rfl
theorem q880 : (Jvm.Cond.instanceMethod ({ cls := "Graphline$Batch", name := "<init>", desc := "(ILGraphline$Mixture;II)V" } : Jvm.MethodName)) ∈ lw_all := lw_g (lw_at lw_m4 143 rfl) rfl
theorem q881 : (Jvm.Cond.code ({ cls := "Graphline$Batch", name := "<init>", desc := "(ILGraphline$Mixture;II)V" } : Jvm.MethodName) prog_2_method_1_code (5 : Nat) (Option.none : Option Jvm.ClassFile.FieldType)) ∈ lw_all := lw_g (lw_at lw_m4 144 rfl) rfl
theorem q882 : (Jvm.Cond.methodLink "Graphline$Batch" (3 : Nat) ({ cls := "java/lang/Object", name := "<init>", desc := "()V" } : Jvm.MethodName)) ∈ lw_all := lw_g (lw_at lw_m4 145 rfl) rfl
theorem q883 : (Jvm.Cond.fieldLink "Graphline$Batch" (18 : Nat) "Graphline$Batch" "number" "I") ∈ lw_all := lw_g (lw_at lw_m4 146 rfl) rfl
theorem q885 : (Jvm.Cond.fieldLink "Graphline$Batch" (21 : Nat) "Graphline$Batch" "mixture" "LGraphline$Mixture;") ∈ lw_all := lw_g (lw_at lw_m4 148 rfl) rfl
theorem q887 : (Jvm.Cond.fieldLink "Graphline$Batch" (25 : Nat) "Graphline$Batch" "bore" "I") ∈ lw_all := lw_g (lw_at lw_m4 150 rfl) rfl
theorem q890 : (Jvm.Cond.fieldLink "Graphline$Batch" (28 : Nat) "Graphline$Batch" "leads" "I") ∈ lw_all := lw_g (lw_at lw_m4 153 rfl) rfl
theorem q893 : (Jvm.Cond.fieldLink "Graphline$Batch" (31 : Nat) "Graphline$Batch" "ready" "I") ∈ lw_all := lw_g (lw_at lw_m4 156 rfl) rfl
theorem q897 : (Jvm.Cond.fieldLink "Graphline$Batch" (9 : Nat) "Graphline$Batch" "firing" "I") ∈ lw_all := lw_g (lw_at lw_m4 160 rfl) rfl
theorem q899 : (Jvm.Cond.fieldLink "Graphline$Batch" (15 : Nat) "Graphline$Batch" "kiln" "I") ∈ lw_all := lw_g (lw_at lw_m4 162 rfl) rfl
theorem q903 : (Jvm.Cond.fieldLink "Graphline$Batch" (34 : Nat) "Graphline$Batch" "darkness" "I") ∈ lw_all := lw_g (lw_at lw_m4 166 rfl) rfl
theorem q905 : (Jvm.Cond.laysFinal "Graphline$Batch" "Graphline$Batch" "number" "I") ∈ lw_all := lw_g (lw_at lw_m4 168 rfl) rfl
theorem q906 : (Jvm.Cond.soleField "Graphline$Batch" "number") ∈ lw_all := lw_g (lw_at lw_m4 169 rfl) rfl
theorem q907 : (Jvm.Cond.laysFinal "Graphline$Batch" "Graphline$Batch" "mixture" "LGraphline$Mixture;") ∈ lw_all := lw_g (lw_at lw_m4 170 rfl) rfl
theorem q908 : (Jvm.Cond.soleField "Graphline$Batch" "mixture") ∈ lw_all := lw_g (lw_at lw_m4 171 rfl) rfl
theorem q909 : (Jvm.Cond.laysFinal "Graphline$Batch" "Graphline$Batch" "bore" "I") ∈ lw_all := lw_g (lw_at lw_m4 172 rfl) rfl
theorem q910 : (Jvm.Cond.soleField "Graphline$Batch" "bore") ∈ lw_all := lw_g (lw_at lw_m4 173 rfl) rfl
theorem q911 : (Jvm.Cond.lays "Graphline$Batch" "Graphline$Batch" "leads" "I") ∈ lw_all := lw_g (lw_at lw_m4 174 rfl) rfl
theorem q912 : (Jvm.Cond.soleField "Graphline$Batch" "leads") ∈ lw_all := lw_g (lw_at lw_m4 175 rfl) rfl
theorem q913 : (Jvm.Cond.lays "Graphline$Batch" "Graphline$Batch" "warped" "I") ∈ lw_all := lw_g (lw_at lw_m4 176 rfl) rfl
theorem q914 : (Jvm.Cond.soleField "Graphline$Batch" "warped") ∈ lw_all := lw_g (lw_at lw_m4 177 rfl) rfl
theorem q915 : (Jvm.Cond.lays "Graphline$Batch" "Graphline$Batch" "ready" "I") ∈ lw_all := lw_g (lw_at lw_m4 178 rfl) rfl
theorem q916 : (Jvm.Cond.soleField "Graphline$Batch" "ready") ∈ lw_all := lw_g (lw_at lw_m4 179 rfl) rfl
theorem q917 : (Jvm.Cond.lays "Graphline$Batch" "Graphline$Batch" "isDried" "Z") ∈ lw_all := lw_g (lw_at lw_m4 180 rfl) rfl
theorem q918 : (Jvm.Cond.soleField "Graphline$Batch" "isDried") ∈ lw_all := lw_g (lw_at lw_m4 181 rfl) rfl
theorem q919 : (Jvm.Cond.lays "Graphline$Batch" "Graphline$Batch" "isSoaked" "Z") ∈ lw_all := lw_g (lw_at lw_m4 182 rfl) rfl
theorem q920 : (Jvm.Cond.soleField "Graphline$Batch" "isSoaked") ∈ lw_all := lw_g (lw_at lw_m4 183 rfl) rfl
theorem q921 : (Jvm.Cond.lays "Graphline$Batch" "Graphline$Batch" "firing" "I") ∈ lw_all := lw_g (lw_at lw_m4 184 rfl) rfl
theorem q922 : (Jvm.Cond.soleField "Graphline$Batch" "firing") ∈ lw_all := lw_g (lw_at lw_m4 185 rfl) rfl
theorem q923 : (Jvm.Cond.lays "Graphline$Batch" "Graphline$Batch" "kiln" "I") ∈ lw_all := lw_g (lw_at lw_m4 186 rfl) rfl
theorem q924 : (Jvm.Cond.soleField "Graphline$Batch" "kiln") ∈ lw_all := lw_g (lw_at lw_m4 187 rfl) rfl
theorem q925 : (Jvm.Cond.lays "Graphline$Batch" "Graphline$Batch" "strength" "I") ∈ lw_all := lw_g (lw_at lw_m4 188 rfl) rfl
theorem q926 : (Jvm.Cond.soleField "Graphline$Batch" "strength") ∈ lw_all := lw_g (lw_at lw_m4 189 rfl) rfl
theorem q927 : (Jvm.Cond.lays "Graphline$Batch" "Graphline$Batch" "darkness" "I") ∈ lw_all := lw_g (lw_at lw_m4 190 rfl) rfl
theorem q928 : (Jvm.Cond.soleField "Graphline$Batch" "darkness") ∈ lw_all := lw_g (lw_at lw_m4 191 rfl) rfl
theorem q929 : (Jvm.Cond.superclass "Graphline$Batch" "java/lang/Object") ∈ lw_all := lw_g (lw_at lw_m4 192 rfl) rfl
theorem q959 : (Jvm.Cond.instanceMethod ({ cls := "Graphline$Batch", name := "isReady", desc := "(I)Z" } : Jvm.MethodName)) ∈ lw_all := lw_g (lw_at lw_m4 222 rfl) rfl
theorem q960 : (Jvm.Cond.selects "Graphline$Batch" ({ cls := "Graphline$Batch", name := "isReady", desc := "(I)Z" } : Jvm.MethodName) ({ cls := "Graphline$Batch", name := "isReady", desc := "(I)Z" } : Jvm.MethodName)) ∈ lw_all := lw_g (lw_at lw_m4 223 rfl) rfl
theorem q961 : (Jvm.Cond.code ({ cls := "Graphline$Batch", name := "isReady", desc := "(I)Z" } : Jvm.MethodName) prog_2_method_3_code (2 : Nat) (Option.some Jvm.ClassFile.FieldType.boolean)) ∈ lw_all := lw_g (lw_at lw_m4 224 rfl) rfl
theorem q963 : (Jvm.Cond.instanceMethod ({ cls := "Graphline$Batch", name := "isFired", desc := "()Z" } : Jvm.MethodName)) ∈ lw_all := lw_g (lw_at lw_m4 226 rfl) rfl
theorem q964 : (Jvm.Cond.selects "Graphline$Batch" ({ cls := "Graphline$Batch", name := "isFired", desc := "()Z" } : Jvm.MethodName) ({ cls := "Graphline$Batch", name := "isFired", desc := "()Z" } : Jvm.MethodName)) ∈ lw_all := lw_g (lw_at lw_m4 227 rfl) rfl
theorem q965 : (Jvm.Cond.code ({ cls := "Graphline$Batch", name := "isFired", desc := "()Z" } : Jvm.MethodName) prog_2_method_2_code (1 : Nat) (Option.some Jvm.ClassFile.FieldType.boolean)) ∈ lw_all := lw_g (lw_at lw_m4 228 rfl) rfl
theorem q1300 : (Jvm.Cond.instanceMethod ({ cls := "Graphline$Batch", name := "grade", desc := "()I" } : Jvm.MethodName)) ∈ lw_all := lw_g (lw_at lw_m6 83 rfl) rfl
theorem q1301 : (Jvm.Cond.selects "Graphline$Batch" ({ cls := "Graphline$Batch", name := "grade", desc := "()I" } : Jvm.MethodName) ({ cls := "Graphline$Batch", name := "grade", desc := "()I" } : Jvm.MethodName)) ∈ lw_all := lw_g (lw_at lw_m6 84 rfl) rfl
theorem q1302 : (Jvm.Cond.code ({ cls := "Graphline$Batch", name := "grade", desc := "()I" } : Jvm.MethodName) prog_2_method_4_code (1 : Nat) (Option.some Jvm.ClassFile.FieldType.int)) ∈ lw_all := lw_g (lw_at lw_m6 85 rfl) rfl
theorem q1870 : (Jvm.Cond.castable "Graphline$Batch" "java/lang/Object") ∈ lw_tbl := lw_at lw_m8 173 rfl
theorem in_X9 : ∀ w ∈ wsX90, w ∈ lw_all := lw_in wsX90 [905, 907, 909, 911, 913, 915, 917, 919, 921, 923, 925, 927] (by decide +kernel) (by decide +kernel)
