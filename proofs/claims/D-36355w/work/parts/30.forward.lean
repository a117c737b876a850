/-! THE FORWARDERS: what the rule writes for each site -/
def fD (σ : Lambda.Shape) (own : String) : ClassFile := (σ.file own).getD { minorVersion := 0, majorVersion := 0, constantPool := #[], accessFlags := 0, thisClass := 0, superClass := 0, interfaces := #[], fields := #[], methods := #[], attributes := #[] }
def fM (σ : Lambda.Shape) (own : String) : Method := ((layoutMethods (fD σ own)).bind (·[1]?)).getD default
def fB (σ : Lambda.Shape) (own : String) : ByteArray := ((fM σ own).code.map (·.code)).getD ⟨#[]⟩
def fs1 : Lambda.Shape := { iface := "java/util/function/ToIntFunction", name := "applyAsInt", sam := ({ parameters := [(Jvm.ClassFile.FieldType.object "java/lang/Object")], returnType := (Option.some Jvm.ClassFile.FieldType.int) } : Jvm.ClassFile.MethodDescriptor), captured := [], kind := 6, implClass := "Graphline", implName := "lambda$missing$1", implDesc := ({ parameters := [(Jvm.ClassFile.FieldType.object "Graphline$Run")], returnType := (Option.some Jvm.ClassFile.FieldType.int) } : Jvm.ClassFile.MethodDescriptor), implItf := false, inst := ({ parameters := [(Jvm.ClassFile.FieldType.object "Graphline$Run")], returnType := (Option.some Jvm.ClassFile.FieldType.int) } : Jvm.ClassFile.MethodDescriptor) }
theorem ff1_is : (fs1.file "Graphline").isSome = true := by decide +kernel
theorem ff1_0 : decode (fB fs1 "Graphline") 0 = .ok (.aload_n 1, 1) := by decide +kernel
def fci1 : Nat := match decode (fB fs1 "Graphline") 1 with | .ok (.checkcast i, _) => i | _ => 0
theorem ff1_1 : decode (fB fs1 "Graphline") 1 = .ok (.checkcast fci1, 3) := by decide +kernel
def fmi1 : Nat := match decode (fB fs1 "Graphline") 4 with | .ok (.invokestatic i, _) => i | _ => 0
theorem ff1_4 : decode (fB fs1 "Graphline") 4 = .ok (.invokestatic fmi1, 3) := by decide +kernel
theorem ff1_7 : decode (fB fs1 "Graphline") 7 = .ok (.ireturn, 1) := by decide +kernel
def fs2 : Lambda.Shape := { iface := "java/util/function/ToIntFunction", name := "applyAsInt", sam := ({ parameters := [(Jvm.ClassFile.FieldType.object "java/lang/Object")], returnType := (Option.some Jvm.ClassFile.FieldType.int) } : Jvm.ClassFile.MethodDescriptor), captured := [], kind := 6, implClass := "Graphline", implName := "lambda$missing$2", implDesc := ({ parameters := [(Jvm.ClassFile.FieldType.object "Graphline$Gross")], returnType := (Option.some Jvm.ClassFile.FieldType.int) } : Jvm.ClassFile.MethodDescriptor), implItf := false, inst := ({ parameters := [(Jvm.ClassFile.FieldType.object "Graphline$Gross")], returnType := (Option.some Jvm.ClassFile.FieldType.int) } : Jvm.ClassFile.MethodDescriptor) }
theorem ff2_is : (fs2.file "Graphline").isSome = true := by decide +kernel
theorem ff2_0 : decode (fB fs2 "Graphline") 0 = .ok (.aload_n 1, 1) := by decide +kernel
def fci2 : Nat := match decode (fB fs2 "Graphline") 1 with | .ok (.checkcast i, _) => i | _ => 0
theorem ff2_1 : decode (fB fs2 "Graphline") 1 = .ok (.checkcast fci2, 3) := by decide +kernel
def fmi2 : Nat := match decode (fB fs2 "Graphline") 4 with | .ok (.invokestatic i, _) => i | _ => 0
theorem ff2_4 : decode (fB fs2 "Graphline") 4 = .ok (.invokestatic fmi2, 3) := by decide +kernel
theorem ff2_7 : decode (fB fs2 "Graphline") 7 = .ok (.ireturn, 1) := by decide +kernel
def fs3 : Lambda.Shape := { iface := "java/util/function/ToIntFunction", name := "applyAsInt", sam := ({ parameters := [(Jvm.ClassFile.FieldType.object "java/lang/Object")], returnType := (Option.some Jvm.ClassFile.FieldType.int) } : Jvm.ClassFile.MethodDescriptor), captured := [], kind := 6, implClass := "Graphline$Gross", implName := "lambda$many$0", implDesc := ({ parameters := [(Jvm.ClassFile.FieldType.object "Graphline$Part")], returnType := (Option.some Jvm.ClassFile.FieldType.int) } : Jvm.ClassFile.MethodDescriptor), implItf := false, inst := ({ parameters := [(Jvm.ClassFile.FieldType.object "Graphline$Part")], returnType := (Option.some Jvm.ClassFile.FieldType.int) } : Jvm.ClassFile.MethodDescriptor) }
theorem ff3_is : (fs3.file "Graphline$Gross").isSome = true := by decide +kernel
theorem ff3_0 : decode (fB fs3 "Graphline$Gross") 0 = .ok (.aload_n 1, 1) := by decide +kernel
def fci3 : Nat := match decode (fB fs3 "Graphline$Gross") 1 with | .ok (.checkcast i, _) => i | _ => 0
theorem ff3_1 : decode (fB fs3 "Graphline$Gross") 1 = .ok (.checkcast fci3, 3) := by decide +kernel
def fmi3 : Nat := match decode (fB fs3 "Graphline$Gross") 4 with | .ok (.invokestatic i, _) => i | _ => 0
theorem ff3_4 : decode (fB fs3 "Graphline$Gross") 4 = .ok (.invokestatic fmi3, 3) := by decide +kernel
theorem ff3_7 : decode (fB fs3 "Graphline$Gross") 7 = .ok (.ireturn, 1) := by decide +kernel
def fs4 : Lambda.Shape := { iface := "java/util/function/Predicate", name := "test", sam := ({ parameters := [(Jvm.ClassFile.FieldType.object "java/lang/Object")], returnType := (Option.some Jvm.ClassFile.FieldType.boolean) } : Jvm.ClassFile.MethodDescriptor), captured := [], kind := 6, implClass := "Graphline", implName := "lambda$isSound$7", implDesc := ({ parameters := [(Jvm.ClassFile.FieldType.object "Graphline$Run")], returnType := (Option.some Jvm.ClassFile.FieldType.boolean) } : Jvm.ClassFile.MethodDescriptor), implItf := false, inst := ({ parameters := [(Jvm.ClassFile.FieldType.object "Graphline$Run")], returnType := (Option.some Jvm.ClassFile.FieldType.boolean) } : Jvm.ClassFile.MethodDescriptor) }
theorem ff4_is : (fs4.file "Graphline").isSome = true := by decide +kernel
theorem ff4_0 : decode (fB fs4 "Graphline") 0 = .ok (.aload_n 1, 1) := by decide +kernel
def fci4 : Nat := match decode (fB fs4 "Graphline") 1 with | .ok (.checkcast i, _) => i | _ => 0
theorem ff4_1 : decode (fB fs4 "Graphline") 1 = .ok (.checkcast fci4, 3) := by decide +kernel
def fmi4 : Nat := match decode (fB fs4 "Graphline") 4 with | .ok (.invokestatic i, _) => i | _ => 0
theorem ff4_4 : decode (fB fs4 "Graphline") 4 = .ok (.invokestatic fmi4, 3) := by decide +kernel
theorem ff4_7 : decode (fB fs4 "Graphline") 7 = .ok (.ireturn, 1) := by decide +kernel
def fs5 : Lambda.Shape := { iface := "java/util/function/Predicate", name := "test", sam := ({ parameters := [(Jvm.ClassFile.FieldType.object "java/lang/Object")], returnType := (Option.some Jvm.ClassFile.FieldType.boolean) } : Jvm.ClassFile.MethodDescriptor), captured := [(Jvm.ClassFile.FieldType.object "Graphline$Gross")], kind := 6, implClass := "Graphline", implName := "lambda$isSound$8", implDesc := ({ parameters := [(Jvm.ClassFile.FieldType.object "Graphline$Gross"), (Jvm.ClassFile.FieldType.object "Graphline$Part")], returnType := (Option.some Jvm.ClassFile.FieldType.boolean) } : Jvm.ClassFile.MethodDescriptor), implItf := false, inst := ({ parameters := [(Jvm.ClassFile.FieldType.object "Graphline$Part")], returnType := (Option.some Jvm.ClassFile.FieldType.boolean) } : Jvm.ClassFile.MethodDescriptor) }
theorem ff5_is : (fs5.file "Graphline").isSome = true := by decide +kernel
def fs6 : Lambda.Shape := { iface := "java/util/function/Predicate", name := "test", sam := ({ parameters := [(Jvm.ClassFile.FieldType.object "java/lang/Object")], returnType := (Option.some Jvm.ClassFile.FieldType.boolean) } : Jvm.ClassFile.MethodDescriptor), captured := [], kind := 6, implClass := "Graphline", implName := "lambda$claim$0", implDesc := ({ parameters := [(Jvm.ClassFile.FieldType.object "Graphline$Part")], returnType := (Option.some Jvm.ClassFile.FieldType.boolean) } : Jvm.ClassFile.MethodDescriptor), implItf := false, inst := ({ parameters := [(Jvm.ClassFile.FieldType.object "Graphline$Part")], returnType := (Option.some Jvm.ClassFile.FieldType.boolean) } : Jvm.ClassFile.MethodDescriptor) }
theorem ff6_is : (fs6.file "Graphline").isSome = true := by decide +kernel
theorem ff6_0 : decode (fB fs6 "Graphline") 0 = .ok (.aload_n 1, 1) := by decide +kernel
def fci6 : Nat := match decode (fB fs6 "Graphline") 1 with | .ok (.checkcast i, _) => i | _ => 0
theorem ff6_1 : decode (fB fs6 "Graphline") 1 = .ok (.checkcast fci6, 3) := by decide +kernel
def fmi6 : Nat := match decode (fB fs6 "Graphline") 4 with | .ok (.invokestatic i, _) => i | _ => 0
theorem ff6_4 : decode (fB fs6 "Graphline") 4 = .ok (.invokestatic fmi6, 3) := by decide +kernel
theorem ff6_7 : decode (fB fs6 "Graphline") 7 = .ok (.ireturn, 1) := by decide +kernel
def fs7 : Lambda.Shape := { iface := "java/util/function/ToIntFunction", name := "applyAsInt", sam := ({ parameters := [(Jvm.ClassFile.FieldType.object "java/lang/Object")], returnType := (Option.some Jvm.ClassFile.FieldType.int) } : Jvm.ClassFile.MethodDescriptor), captured := [], kind := 6, implClass := "Graphline", implName := "lambda$brokenShare$3", implDesc := ({ parameters := [(Jvm.ClassFile.FieldType.object "Graphline$Run")], returnType := (Option.some Jvm.ClassFile.FieldType.int) } : Jvm.ClassFile.MethodDescriptor), implItf := false, inst := ({ parameters := [(Jvm.ClassFile.FieldType.object "Graphline$Run")], returnType := (Option.some Jvm.ClassFile.FieldType.int) } : Jvm.ClassFile.MethodDescriptor) }
theorem ff7_is : (fs7.file "Graphline").isSome = true := by decide +kernel
theorem ff7_0 : decode (fB fs7 "Graphline") 0 = .ok (.aload_n 1, 1) := by decide +kernel
def fci7 : Nat := match decode (fB fs7 "Graphline") 1 with | .ok (.checkcast i, _) => i | _ => 0
theorem ff7_1 : decode (fB fs7 "Graphline") 1 = .ok (.checkcast fci7, 3) := by decide +kernel
def fmi7 : Nat := match decode (fB fs7 "Graphline") 4 with | .ok (.invokestatic i, _) => i | _ => 0
theorem ff7_4 : decode (fB fs7 "Graphline") 4 = .ok (.invokestatic fmi7, 3) := by decide +kernel
theorem ff7_7 : decode (fB fs7 "Graphline") 7 = .ok (.ireturn, 1) := by decide +kernel
def fs8 : Lambda.Shape := { iface := "java/util/function/ToIntFunction", name := "applyAsInt", sam := ({ parameters := [(Jvm.ClassFile.FieldType.object "java/lang/Object")], returnType := (Option.some Jvm.ClassFile.FieldType.int) } : Jvm.ClassFile.MethodDescriptor), captured := [], kind := 6, implClass := "Graphline", implName := "lambda$brokenShare$4", implDesc := ({ parameters := [(Jvm.ClassFile.FieldType.object "Graphline$Run")], returnType := (Option.some Jvm.ClassFile.FieldType.int) } : Jvm.ClassFile.MethodDescriptor), implItf := false, inst := ({ parameters := [(Jvm.ClassFile.FieldType.object "Graphline$Run")], returnType := (Option.some Jvm.ClassFile.FieldType.int) } : Jvm.ClassFile.MethodDescriptor) }
theorem ff8_is : (fs8.file "Graphline").isSome = true := by decide +kernel
theorem ff8_0 : decode (fB fs8 "Graphline") 0 = .ok (.aload_n 1, 1) := by decide +kernel
def fci8 : Nat := match decode (fB fs8 "Graphline") 1 with | .ok (.checkcast i, _) => i | _ => 0
theorem ff8_1 : decode (fB fs8 "Graphline") 1 = .ok (.checkcast fci8, 3) := by decide +kernel
def fmi8 : Nat := match decode (fB fs8 "Graphline") 4 with | .ok (.invokestatic i, _) => i | _ => 0
theorem ff8_4 : decode (fB fs8 "Graphline") 4 = .ok (.invokestatic fmi8, 3) := by decide +kernel
theorem ff8_7 : decode (fB fs8 "Graphline") 7 = .ok (.ireturn, 1) := by decide +kernel
def fs9 : Lambda.Shape := { iface := "java/util/function/Predicate", name := "test", sam := ({ parameters := [(Jvm.ClassFile.FieldType.object "java/lang/Object")], returnType := (Option.some Jvm.ClassFile.FieldType.boolean) } : Jvm.ClassFile.MethodDescriptor), captured := [], kind := 6, implClass := "Graphline", implName := "lambda$meanDarkness$5", implDesc := ({ parameters := [(Jvm.ClassFile.FieldType.object "Graphline$Batch")], returnType := (Option.some Jvm.ClassFile.FieldType.boolean) } : Jvm.ClassFile.MethodDescriptor), implItf := false, inst := ({ parameters := [(Jvm.ClassFile.FieldType.object "Graphline$Batch")], returnType := (Option.some Jvm.ClassFile.FieldType.boolean) } : Jvm.ClassFile.MethodDescriptor) }
theorem ff9_is : (fs9.file "Graphline").isSome = true := by decide +kernel
theorem ff9_0 : decode (fB fs9 "Graphline") 0 = .ok (.aload_n 1, 1) := by decide +kernel
def fci9 : Nat := match decode (fB fs9 "Graphline") 1 with | .ok (.checkcast i, _) => i | _ => 0
theorem ff9_1 : decode (fB fs9 "Graphline") 1 = .ok (.checkcast fci9, 3) := by decide +kernel
def fmi9 : Nat := match decode (fB fs9 "Graphline") 4 with | .ok (.invokestatic i, _) => i | _ => 0
theorem ff9_4 : decode (fB fs9 "Graphline") 4 = .ok (.invokestatic fmi9, 3) := by decide +kernel
theorem ff9_7 : decode (fB fs9 "Graphline") 7 = .ok (.ireturn, 1) := by decide +kernel
def fs10 : Lambda.Shape := { iface := "java/util/function/ToIntFunction", name := "applyAsInt", sam := ({ parameters := [(Jvm.ClassFile.FieldType.object "java/lang/Object")], returnType := (Option.some Jvm.ClassFile.FieldType.int) } : Jvm.ClassFile.MethodDescriptor), captured := [], kind := 6, implClass := "Graphline", implName := "lambda$meanDarkness$6", implDesc := ({ parameters := [(Jvm.ClassFile.FieldType.object "Graphline$Batch")], returnType := (Option.some Jvm.ClassFile.FieldType.int) } : Jvm.ClassFile.MethodDescriptor), implItf := false, inst := ({ parameters := [(Jvm.ClassFile.FieldType.object "Graphline$Batch")], returnType := (Option.some Jvm.ClassFile.FieldType.int) } : Jvm.ClassFile.MethodDescriptor) }
theorem ff10_is : (fs10.file "Graphline").isSome = true := by decide +kernel
theorem ff10_0 : decode (fB fs10 "Graphline") 0 = .ok (.aload_n 1, 1) := by decide +kernel
def fci10 : Nat := match decode (fB fs10 "Graphline") 1 with | .ok (.checkcast i, _) => i | _ => 0
theorem ff10_1 : decode (fB fs10 "Graphline") 1 = .ok (.checkcast fci10, 3) := by decide +kernel
def fmi10 : Nat := match decode (fB fs10 "Graphline") 4 with | .ok (.invokestatic i, _) => i | _ => 0
theorem ff10_4 : decode (fB fs10 "Graphline") 4 = .ok (.invokestatic fmi10, 3) := by decide +kernel
theorem ff10_7 : decode (fB fs10 "Graphline") 7 = .ok (.ireturn, 1) := by decide +kernel
