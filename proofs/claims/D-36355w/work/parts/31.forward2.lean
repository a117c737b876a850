def fma1 : Nat := match (fD fs1 "Graphline").constantPool[fmi1]? with | some (.methodref a _) => a | _ => 0
def fmb1 : Nat := match (fD fs1 "Graphline").constantPool[fmi1]? with | some (.methodref _ b) => b | _ => 0
theorem fp1_m : (fD fs1 "Graphline").constantPool[fmi1]? = some (.methodref fma1 fmb1) ∧ (fD fs1 "Graphline").constantPool.className? fma1 = some fs1.implClass ∧ (fD fs1 "Graphline").constantPool.nameAndType? fmb1 = some (fs1.implName, fs1.implDesc.toString) := by decide +kernel
def fca1 : Nat := match (fD fs1 "Graphline").constantPool[fci1]? with | some (.class_ n) => n | _ => 0
theorem fp1_c : (fD fs1 "Graphline").constantPool[fci1]? = some (.class_ fca1) ∧ (fD fs1 "Graphline").constantPool.string? fca1 = some "Graphline$Run" ∧ fci1 ≠ (fD fs1 "Graphline").thisClass := by decide +kernel
theorem fq1 : (fM fs1 "Graphline").code.map (fun c => c.maxLocals) = some 2 ∧ (fM fs1 "Graphline").accessFlags = 0x0001 ∧ (fM fs1 "Graphline").name = fs1.name ∧ (fM fs1 "Graphline").sig.returnType = fs1.sam.returnType ∧ ((layoutMethods (fD fs1 "Graphline")).bind (·[1]?)).isSome = true := by decide +kernel
def fma2 : Nat := match (fD fs2 "Graphline").constantPool[fmi2]? with | some (.methodref a _) => a | _ => 0
def fmb2 : Nat := match (fD fs2 "Graphline").constantPool[fmi2]? with | some (.methodref _ b) => b | _ => 0
theorem fp2_m : (fD fs2 "Graphline").constantPool[fmi2]? = some (.methodref fma2 fmb2) ∧ (fD fs2 "Graphline").constantPool.className? fma2 = some fs2.implClass ∧ (fD fs2 "Graphline").constantPool.nameAndType? fmb2 = some (fs2.implName, fs2.implDesc.toString) := by decide +kernel
def fca2 : Nat := match (fD fs2 "Graphline").constantPool[fci2]? with | some (.class_ n) => n | _ => 0
theorem fp2_c : (fD fs2 "Graphline").constantPool[fci2]? = some (.class_ fca2) ∧ (fD fs2 "Graphline").constantPool.string? fca2 = some "Graphline$Gross" ∧ fci2 ≠ (fD fs2 "Graphline").thisClass := by decide +kernel
theorem fq2 : (fM fs2 "Graphline").code.map (fun c => c.maxLocals) = some 2 ∧ (fM fs2 "Graphline").accessFlags = 0x0001 ∧ (fM fs2 "Graphline").name = fs2.name ∧ (fM fs2 "Graphline").sig.returnType = fs2.sam.returnType ∧ ((layoutMethods (fD fs2 "Graphline")).bind (·[1]?)).isSome = true := by decide +kernel
def fma3 : Nat := match (fD fs3 "Graphline$Gross").constantPool[fmi3]? with | some (.methodref a _) => a | _ => 0
def fmb3 : Nat := match (fD fs3 "Graphline$Gross").constantPool[fmi3]? with | some (.methodref _ b) => b | _ => 0
theorem fp3_m : (fD fs3 "Graphline$Gross").constantPool[fmi3]? = some (.methodref fma3 fmb3) ∧ (fD fs3 "Graphline$Gross").constantPool.className? fma3 = some fs3.implClass ∧ (fD fs3 "Graphline$Gross").constantPool.nameAndType? fmb3 = some (fs3.implName, fs3.implDesc.toString) := by decide +kernel
def fca3 : Nat := match (fD fs3 "Graphline$Gross").constantPool[fci3]? with | some (.class_ n) => n | _ => 0
theorem fp3_c : (fD fs3 "Graphline$Gross").constantPool[fci3]? = some (.class_ fca3) ∧ (fD fs3 "Graphline$Gross").constantPool.string? fca3 = some "Graphline$Part" ∧ fci3 ≠ (fD fs3 "Graphline$Gross").thisClass := by decide +kernel
theorem fq3 : (fM fs3 "Graphline$Gross").code.map (fun c => c.maxLocals) = some 2 ∧ (fM fs3 "Graphline$Gross").accessFlags = 0x0001 ∧ (fM fs3 "Graphline$Gross").name = fs3.name ∧ (fM fs3 "Graphline$Gross").sig.returnType = fs3.sam.returnType ∧ ((layoutMethods (fD fs3 "Graphline$Gross")).bind (·[1]?)).isSome = true := by decide +kernel
def fma4 : Nat := match (fD fs4 "Graphline").constantPool[fmi4]? with | some (.methodref a _) => a | _ => 0
def fmb4 : Nat := match (fD fs4 "Graphline").constantPool[fmi4]? with | some (.methodref _ b) => b | _ => 0
theorem fp4_m : (fD fs4 "Graphline").constantPool[fmi4]? = some (.methodref fma4 fmb4) ∧ (fD fs4 "Graphline").constantPool.className? fma4 = some fs4.implClass ∧ (fD fs4 "Graphline").constantPool.nameAndType? fmb4 = some (fs4.implName, fs4.implDesc.toString) := by decide +kernel
def fca4 : Nat := match (fD fs4 "Graphline").constantPool[fci4]? with | some (.class_ n) => n | _ => 0
theorem fp4_c : (fD fs4 "Graphline").constantPool[fci4]? = some (.class_ fca4) ∧ (fD fs4 "Graphline").constantPool.string? fca4 = some "Graphline$Run" ∧ fci4 ≠ (fD fs4 "Graphline").thisClass := by decide +kernel
theorem fq4 : (fM fs4 "Graphline").code.map (fun c => c.maxLocals) = some 2 ∧ (fM fs4 "Graphline").accessFlags = 0x0001 ∧ (fM fs4 "Graphline").name = fs4.name ∧ (fM fs4 "Graphline").sig.returnType = fs4.sam.returnType ∧ ((layoutMethods (fD fs4 "Graphline")).bind (·[1]?)).isSome = true := by decide +kernel
def fma6 : Nat := match (fD fs6 "Graphline").constantPool[fmi6]? with | some (.methodref a _) => a | _ => 0
def fmb6 : Nat := match (fD fs6 "Graphline").constantPool[fmi6]? with | some (.methodref _ b) => b | _ => 0
theorem fp6_m : (fD fs6 "Graphline").constantPool[fmi6]? = some (.methodref fma6 fmb6) ∧ (fD fs6 "Graphline").constantPool.className? fma6 = some fs6.implClass ∧ (fD fs6 "Graphline").constantPool.nameAndType? fmb6 = some (fs6.implName, fs6.implDesc.toString) := by decide +kernel
def fca6 : Nat := match (fD fs6 "Graphline").constantPool[fci6]? with | some (.class_ n) => n | _ => 0
theorem fp6_c : (fD fs6 "Graphline").constantPool[fci6]? = some (.class_ fca6) ∧ (fD fs6 "Graphline").constantPool.string? fca6 = some "Graphline$Part" ∧ fci6 ≠ (fD fs6 "Graphline").thisClass := by decide +kernel
theorem fq6 : (fM fs6 "Graphline").code.map (fun c => c.maxLocals) = some 2 ∧ (fM fs6 "Graphline").accessFlags = 0x0001 ∧ (fM fs6 "Graphline").name = fs6.name ∧ (fM fs6 "Graphline").sig.returnType = fs6.sam.returnType ∧ ((layoutMethods (fD fs6 "Graphline")).bind (·[1]?)).isSome = true := by decide +kernel
def fma7 : Nat := match (fD fs7 "Graphline").constantPool[fmi7]? with | some (.methodref a _) => a | _ => 0
def fmb7 : Nat := match (fD fs7 "Graphline").constantPool[fmi7]? with | some (.methodref _ b) => b | _ => 0
theorem fp7_m : (fD fs7 "Graphline").constantPool[fmi7]? = some (.methodref fma7 fmb7) ∧ (fD fs7 "Graphline").constantPool.className? fma7 = some fs7.implClass ∧ (fD fs7 "Graphline").constantPool.nameAndType? fmb7 = some (fs7.implName, fs7.implDesc.toString) := by decide +kernel
def fca7 : Nat := match (fD fs7 "Graphline").constantPool[fci7]? with | some (.class_ n) => n | _ => 0
theorem fp7_c : (fD fs7 "Graphline").constantPool[fci7]? = some (.class_ fca7) ∧ (fD fs7 "Graphline").constantPool.string? fca7 = some "Graphline$Run" ∧ fci7 ≠ (fD fs7 "Graphline").thisClass := by decide +kernel
theorem fq7 : (fM fs7 "Graphline").code.map (fun c => c.maxLocals) = some 2 ∧ (fM fs7 "Graphline").accessFlags = 0x0001 ∧ (fM fs7 "Graphline").name = fs7.name ∧ (fM fs7 "Graphline").sig.returnType = fs7.sam.returnType ∧ ((layoutMethods (fD fs7 "Graphline")).bind (·[1]?)).isSome = true := by decide +kernel
def fma8 : Nat := match (fD fs8 "Graphline").constantPool[fmi8]? with | some (.methodref a _) => a | _ => 0
def fmb8 : Nat := match (fD fs8 "Graphline").constantPool[fmi8]? with | some (.methodref _ b) => b | _ => 0
theorem fp8_m : (fD fs8 "Graphline").constantPool[fmi8]? = some (.methodref fma8 fmb8) ∧ (fD fs8 "Graphline").constantPool.className? fma8 = some fs8.implClass ∧ (fD fs8 "Graphline").constantPool.nameAndType? fmb8 = some (fs8.implName, fs8.implDesc.toString) := by decide +kernel
def fca8 : Nat := match (fD fs8 "Graphline").constantPool[fci8]? with | some (.class_ n) => n | _ => 0
theorem fp8_c : (fD fs8 "Graphline").constantPool[fci8]? = some (.class_ fca8) ∧ (fD fs8 "Graphline").constantPool.string? fca8 = some "Graphline$Run" ∧ fci8 ≠ (fD fs8 "Graphline").thisClass := by decide +kernel
theorem fq8 : (fM fs8 "Graphline").code.map (fun c => c.maxLocals) = some 2 ∧ (fM fs8 "Graphline").accessFlags = 0x0001 ∧ (fM fs8 "Graphline").name = fs8.name ∧ (fM fs8 "Graphline").sig.returnType = fs8.sam.returnType ∧ ((layoutMethods (fD fs8 "Graphline")).bind (·[1]?)).isSome = true := by decide +kernel
def fma9 : Nat := match (fD fs9 "Graphline").constantPool[fmi9]? with | some (.methodref a _) => a | _ => 0
def fmb9 : Nat := match (fD fs9 "Graphline").constantPool[fmi9]? with | some (.methodref _ b) => b | _ => 0
theorem fp9_m : (fD fs9 "Graphline").constantPool[fmi9]? = some (.methodref fma9 fmb9) ∧ (fD fs9 "Graphline").constantPool.className? fma9 = some fs9.implClass ∧ (fD fs9 "Graphline").constantPool.nameAndType? fmb9 = some (fs9.implName, fs9.implDesc.toString) := by decide +kernel
def fca9 : Nat := match (fD fs9 "Graphline").constantPool[fci9]? with | some (.class_ n) => n | _ => 0
theorem fp9_c : (fD fs9 "Graphline").constantPool[fci9]? = some (.class_ fca9) ∧ (fD fs9 "Graphline").constantPool.string? fca9 = some "Graphline$Batch" ∧ fci9 ≠ (fD fs9 "Graphline").thisClass := by decide +kernel
theorem fq9 : (fM fs9 "Graphline").code.map (fun c => c.maxLocals) = some 2 ∧ (fM fs9 "Graphline").accessFlags = 0x0001 ∧ (fM fs9 "Graphline").name = fs9.name ∧ (fM fs9 "Graphline").sig.returnType = fs9.sam.returnType ∧ ((layoutMethods (fD fs9 "Graphline")).bind (·[1]?)).isSome = true := by decide +kernel
def fma10 : Nat := match (fD fs10 "Graphline").constantPool[fmi10]? with | some (.methodref a _) => a | _ => 0
def fmb10 : Nat := match (fD fs10 "Graphline").constantPool[fmi10]? with | some (.methodref _ b) => b | _ => 0
theorem fp10_m : (fD fs10 "Graphline").constantPool[fmi10]? = some (.methodref fma10 fmb10) ∧ (fD fs10 "Graphline").constantPool.className? fma10 = some fs10.implClass ∧ (fD fs10 "Graphline").constantPool.nameAndType? fmb10 = some (fs10.implName, fs10.implDesc.toString) := by decide +kernel
def fca10 : Nat := match (fD fs10 "Graphline").constantPool[fci10]? with | some (.class_ n) => n | _ => 0
theorem fp10_c : (fD fs10 "Graphline").constantPool[fci10]? = some (.class_ fca10) ∧ (fD fs10 "Graphline").constantPool.string? fca10 = some "Graphline$Batch" ∧ fci10 ≠ (fD fs10 "Graphline").thisClass := by decide +kernel
theorem fq10 : (fM fs10 "Graphline").code.map (fun c => c.maxLocals) = some 2 ∧ (fM fs10 "Graphline").accessFlags = 0x0001 ∧ (fM fs10 "Graphline").name = fs10.name ∧ (fM fs10 "Graphline").sig.returnType = fs10.sam.returnType ∧ ((layoutMethods (fD fs10 "Graphline")).bind (·[1]?)).isSome = true := by decide +kernel
