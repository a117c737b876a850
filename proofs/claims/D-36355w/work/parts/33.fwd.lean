/-! THE CALL OF A LAMBDA: the forwarder's frame -/
section GFWD
variable {p : Program} {l : Launch} {e : Env} {R : Room} {s : State} {m : MethodId} {args : Array Value} {below : List Frame} {meth : Method} {c : Code} {T : State} {locs : List Loc} {cells slots : Nat}
theorem gFwd (X : Stand p l e R s m args below meth c T locs cells slots) (hexec : p.tables.exec = Jvm.exec) {g : JFrame} (hg : g.method = m) (hsize : g.locals.size = c.maxLocals) {ig : Instr} {len : Nat} (hdg : decode c.code g.pc = .ok (ig, len))
    {mk : MethodId} {methk : Method} {ck : Code} {FB : ByteArray} {ci mi : Nat} {rt : FieldType} (hmk : T.vm.method? mk = some methk) (hck : methk.code = some ck) (hbytes : ck.code = FB) (hml : ck.maxLocals = 2) (hlk : methk.locks = false) (hpk : T.plainMethod mk) (hretk : methk.sig.returnType = some rt)
    (d0 : decode FB 0 = .ok (.aload_n 1, 1)) (d1 : decode FB 1 = .ok (.checkcast ci, 3)) (d4 : decode FB 4 = .ok (.invokestatic mi, 3)) (d7 : decode FB 7 = .ok (.ireturn, 1))
    {kA : ClassId} (hcr : T.vm.classReady mk.cls ci kA) {a q : Addr} {cq : Cell} {kq kt' : Class} (hcq : T.heap[q]? = some cq) (hvq : ∀ k, cq.vm ≠ .statics k) (hkq : T.vm.classes[cq.cls]? = some kq) (hkA : T.vm.classes[kA]? = some kt') (hasg : T.vm.assignable cq.cls kA = true)
    {t : MethodId} {kt : Class} {metht : Method} (href : plainRef T e mk.cls mi) (hready : T.vm.methodReady mk.cls mi t) (hkt : T.vm.classes[t.cls]? = some kt) (hmt : T.vm.method? t = some metht) (hpoly : signaturePolymorphic kt metht = false) (hstatic : metht.isStatic = true) (hinit : kt.init = .initialized) (hpar : metht.sig.parameters.length = 1)
    {R' : Room} (hframes : R'.frames + 1 ≤ R.frames) (hlocals : 2 * g.monitorRoom + (g.stack.map fun v => v.category).sum + (2 + 11) + R'.locals ≤ R.locals) (hcells : cells + R'.cells ≤ R.cells) (hslots : slots + R'.slots ≤ R.slots)
    {Post : State → Int32 → State → Prop} {mc ms : Nat}
    (hcall : ∀ (U : State), U = (T.setTop g).pushFrame (.java (entryFrame mk #[.ref a, .ref q] 2)) → Stand p l e R' (T.calling g mk #[.ref a, .ref q]) mk #[.ref a, .ref q] (.java g :: below) methk ck U [] 0 0 →
      ∃ (v : Int32) (U2 : State) (L : List Loc), Stand p l e R' (T.calling g mk #[.ref a, .ref q]) mk #[.ref a, .ref q] (.java g :: below) methk ck U2 L mc ms ∧ Post U v U2 ∧ narrow rt (.int v) = .int v ∧
        ∀ acts, Steps p.tables e (.java g :: below) (doInvoke e (U.setTop { method := mk, pc := 4, locals := #[.val (.ref a), .val (.ref q)], stack := [], locked := none }) acts t #[.ref q]).1 (U2.setTop { method := mk, pc := 7, locals := #[.val (.ref a), .val (.ref q)], stack := [.int v], locked := none })) :
    ∃ (U : State) (v : Int32) (U2 T' : State) (L : List Loc), U = (T.setTop g).pushFrame (.java (entryFrame mk #[.ref a, .ref q] 2)) ∧ Post U v U2 ∧ Stand p l e R s m args below meth c T' (locs ++ L) (cells + mc) (slots + ms) ∧ T'.heap = U2.heap ∧ T'.vm = U2.vm ∧
      ∀ acts, Steps p.tables e below (doInvoke e (T.setTop g) acts mk #[.ref a, .ref q]).1 (T'.setTop { g with pc := g.pc + len, stack := .int v :: g.stack }) := by
  obtain ⟨Y₀, hin⟩ := X.into hg hsize hdg #[.ref a, .ref q] (R' := R') hmk hck hlk hpk hframes (by rw [hml]; exact hlocals) hcells hslots
  rw [hml] at Y₀ hin
  generalize hU : (T.setTop g).pushFrame (.java (entryFrame mk #[.ref a, .ref q] 2)) = U at Y₀ hin
  have hvm : U.vm = T.vm := by rw [← hU]; rfl
  have hheap : U.heap = T.heap := by rw [← hU]; rfl
  obtain ⟨v, U2, L, Y₁, hpost, hnr, hsteps⟩ := hcall U hU.symm Y₀
  obtain ⟨fs, hleave, -, hended, hWe, hsame⟩ := Y₁.leave (v := some (.int v)) (fun h => by rw [hretk] at h; cases h) hlk
  obtain ⟨T', X', hW', -, ht⟩ := X.outOf hg hdg hended hWe hsame
  have hT1 : T'.heap = U2.heap := by
    have h1 : (T'.setTop { g with pc := g.pc + len, stack := (some (Value.int v)).toList ++ g.stack }).heap = (U2.setFrames fs).heap := by rw [← ht]
    exact h1
  have hT2 : T'.vm = U2.vm := by
    have h1 : (T'.setTop { g with pc := g.pc + len, stack := (some (Value.int v)).toList ++ g.stack }).vm = (U2.setFrames fs).vm := by rw [← ht]
    exact h1
  refine ⟨U, v, U2, T', L, rfl, hpost, X', hT1, hT2, fun acts => ?_⟩
  rw [hin acts]
  show Steps p.tables e below _ (T'.setTop { g with pc := g.pc + len, stack := (some (Value.int v)).toList ++ g.stack })
  rw [← ht]
  refine Steps.weaken (mid := [.java g]) ?_
  have hloc : entryFrame mk #[.ref a, .ref q] 2 = { method := mk, pc := 0, locals := #[.val (.ref a), .val (.ref q)], stack := [], locked := none } := rfl
  rw [hloc]
  have hs : U.topJava?.isSome := Y₀.here.top
  jvm_step Y₀.here [hexec, hbytes, d0]
  have hc : Steps p.tables e (.java g :: below) (U.setTop { method := mk, pc := 1, locals := #[.val (.ref a), .val (.ref q)], stack := [.ref q], locked := none }) (U.setTop { method := mk, pc := 4, locals := #[.val (.ref a), .val (.ref q)], stack := [.ref q], locked := none }) := by
    jvm_step Y₀.here [hexec, hbytes, d1, checkcast.wp_ready (e := e) (s := U) (c := kA) (x := .ref q) (rest := []) (f := { method := mk, pc := 1, locals := #[.val (.ref a), .val (.ref q)], stack := [.ref q], locked := none }) hs (by rw [hvm]; exact hcr) rfl]
    exact ⟨cq, by rw [hheap]; exact hcq, hvq, kq, by rw [hvm]; exact hkq, kt', by rw [hvm]; exact hkA, by rw [if_pos (by rw [hvm]; exact hasg)]; exact Steps.refl _⟩
  refine ⟨rfl, hc.trans ?_⟩
  jvm_step Y₀.here [hexec, hbytes, d4, invokestatic.wp_ready (e := e) (s := U) (m := t) (k := kt) (meth := metht) (args := [.ref q]) (rest := []) (f := { method := mk, pc := 4, locals := #[.val (.ref a), .val (.ref q)], stack := [.ref q], locked := none }) hs (by rw [← hU]; exact href) (by rw [hvm]; exact hready) (by rw [hvm]; exact hkt) (by rw [hvm]; exact hmt) hpoly hstatic hinit hpar.symm rfl]
  intro acts'
  refine (hsteps acts').trans ?_
  jvm_step Y₁.here [Y₁.here.top, hexec, hbytes, d7, Y₁.method', hretk, hnr]
  intro acts''
  rw [hleave { method := mk, pc := 7, locals := #[.val (.ref a), .val (.ref q)], stack := [], locked := none } acts'' rfl rfl rfl]
  exact Steps.refl _
end GFWD
