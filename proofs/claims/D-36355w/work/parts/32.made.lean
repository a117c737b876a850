/-! WHAT THE RULE MADE -/
theorem fD_is {σ : Lambda.Shape} {own : String} (h : (σ.file own).isSome = true) : σ.file own = some (fD σ own) := by
  obtain ⟨x, hx⟩ := Option.isSome_iff_exists.mp h
  unfold fD
  rw [hx]
  rfl
theorem fM_is {σ : Lambda.Shape} {own : String} (h : ((layoutMethods (fD σ own)).bind (·[1]?)).isSome = true) : ∀ ms, layoutMethods (fD σ own) = some ms → ms[1]? = some (fM σ own) := by
  intro ms hms
  obtain ⟨x, hx⟩ := Option.isSome_iff_exists.mp h
  have hf : fM σ own = x := by
    unfold fM
    rw [hx]
    rfl
  rw [hms] at hx
  rw [hf]
  exact hx
theorem gMade {e : Setting} {vm : Vm} {d c : ClassId} {dk : Class} {σ : Lambda.Shape} {own arg : String} {ci ca mi ma mb : Nat} (hd : vm.classes[d]? = some dk) (hname : dk.name = own) (h : Lambda.isMade e vm d σ c = true)
    (h1 : (σ.file own).isSome = true) (hm : (fD σ own).constantPool[mi]? = some (.methodref ma mb) ∧ (fD σ own).constantPool.className? ma = some σ.implClass ∧ (fD σ own).constantPool.nameAndType? mb = some (σ.implName, σ.implDesc.toString))
    (hc : (fD σ own).constantPool[ci]? = some (.class_ ca) ∧ (fD σ own).constantPool.string? ca = some arg ∧ ci ≠ (fD σ own).thisClass)
    (hq : (fM σ own).code.map (fun c => c.maxLocals) = some 2 ∧ (fM σ own).accessFlags = 0x0001 ∧ (fM σ own).name = σ.name ∧ (fM σ own).sig.returnType = σ.sam.returnType ∧ ((layoutMethods (fD σ own)).bind (·[1]?)).isSome = true) {kA : ClassId} (hA : vm.findClass arg = some kA) :
    ∃ (k tk : Class) (file : ClassFile) (methk : Method) (ck : Code) (toy : ClassId) (t : MethodId),
      vm.classes[c]? = some k ∧ k.name = own ++ "$$Lambda" ∧ k.cf = some file ∧ file.constantPool = (fD σ own).constantPool ∧
      vm.method? ⟨c, 1⟩ = some methk ∧ methk.code = some ck ∧ ck.code = fB σ own ∧ ck.maxLocals = 2 ∧ methk.locks = false ∧ methk.accessFlags = 0x0001 ∧ methk.sig.returnType = σ.sam.returnType ∧
      vm.findClass σ.implClass = some toy ∧ vm.classes[toy]? = some tk ∧ ((methodIn toy σ.implName σ.implDesc.toString tk.isInterface none).ask e vm).1 = .ok t ∧
      vm.methodReady c mi t ∧ vm.classReady c ci kA := by
  obtain ⟨dk', k, ok, tk, file, cf, object, iface, toy, lay, methods, target, found, hd', hk, hfile, hcf, -, -, -, -, hms, ht, htk, hg, -, hrec, -, -, -, -, hpool, hmeth, -, -, hres, -⟩ := Lambda.isMade_spec h
  cases hd.symm.trans hd'
  rw [hname, fD_is h1] at hcf
  cases hcf
  obtain ⟨b, hb, hsame⟩ := hmeth 1 (fM σ own) (fM_is hq.2.2.2.2 methods hms)
  simp only [Lambda.sameMethod, Bool.and_eq_true, decide_eq_true_eq] at hsame
  obtain ⟨⟨⟨hn, -, hsig, hfl⟩, hcode⟩⟩ := And.intro hsame trivial
  cases hfc : (fM σ own).code with
  | none => rw [hfc] at hq; cases hq.1
  | some x =>
    cases hbc : b.code with
    | none => simp [hfc, hbc] at hcode
    | some y =>
      simp only [hfc, hbc, Bool.and_eq_true, decide_eq_true_eq] at hcode
      have hfB : fB σ own = x.code := by
        unfold fB
        rw [hfc]
        rfl
      have hq1 : x.maxLocals = 2 := by
        have := hq.1
        rw [hfc] at this
        exact Option.some.inj this
      refine ⟨k, tk, file, b, y, toy, target, hk, by rw [hrec.1, hname], hfile, hpool.2.1, by simp [Vm.method?, hk, hb], hbc, ?_, by rw [← hcode.1.1.1.1.2.1]; exact hq1, ?_, by rw [← hfl]; exact hq.2.1, by rw [← hsig]; exact hq.2.2.2.1, ht, htk, hg,
        ⟨k, hk, hres mi _ (Lambda.resolvedOf_method hm.1 hm.2.1 ht htk hm.2.2 hg)⟩, ⟨k, hk, hres ci _ (Lambda.resolvedOf_class hc.1 hc.2.2 hc.2.1 hA)⟩⟩
      · rw [← hcode.1.1.1.1.2.2]
        exact hfB.symm
      · simp [Method.locks, Method.isSynchronized, ← hfl, hq.2.1, hasFlag, Acc.synchronized]
