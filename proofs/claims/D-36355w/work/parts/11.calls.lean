section GCALL
variable {Y : gY} {cc : ByteArray} {own : String} {rm : Room} {hh : gHh} {ret : Option FieldType} {P : gH → Prop} {lv : List (Nat × Value)} {pc k n : Nat} {st : List Value}
/-- the end that a body owes -/
def gEn (Y : gY) (rm : Room) (Qr : Option Value → gH → Prop) (Qx : String → gH → Prop) : Prop := Y.2.2.2 = gQ Y.1.2.2.2.2.2.2.2.1 Y.1.2.2.2.2.2.2.1 Y.1.2.2.2.2.1 rm.cells rm.slots Y.2.1 Qr Qx
theorem gMet_of {l : Launch} {y : MethodName} {rm : Room} {G : gG} {av : List Value} {P : gH → Prop} {Qr : Option Value → gH → Prop} {Qx : String → gH → Prop} {cc : ByteArray} {maxL : Nat} {ret : Option FieldType} (hl : l.stackTraces = false) (hy : plainName y.cls = true) (hav : (lg_sl av).length ≤ maxL)
    (body : ∀ (X : gC) (Q : State → Prop), X.2.1 = l → gF (X, G, maxL, Q) cc y.cls rm [] ret → gEn (X, G, maxL, Q) rm Qr Qx → X.2.2.2.2.2.2.2.2.1.name = y.name → gW (X, G, maxL, Q) P (lv_args 0 av) 0 [] 0 0) :
    gMet l y (ws_ y cc maxL ret) rm G av P Qr Qx := by
  refine vx_ofW (cc := cc) (maxL := maxL) (ret := ret) hy rfl ?_
  intro p e s m args below meth c s₁ B hml ht hv
  obtain ⟨rfl, ⟨h, hP, hR⟩, hK⟩ := hv
  have hts := atoms_spec (ws := ws_ y cc maxL ret) B.pre
  have htb : c.exceptionTable.toList = tableOf [] := by
    cases hx : c.exceptionTable.toList with
    | nil => rfl
    | cons a b => exact (ht a (by rw [hx]; exact List.mem_cons_self)).elim
  have h1 := body (p, l, e, rm, s, m, av.toArray, below, meth, c) (gQ below av.toArray s rm.cells rm.slots G Qr Qx) rfl
    ⟨B.exec, B.bytes, hml, findClass_of_methodNamed B.named, fun w h => hts w (List.mem_cons_of_mem _ h), rfl, B.notSynchronized, hl, htb, B.returns, hK, hR.2.2, hR.2.1⟩ rfl (name_of_methodNamed B.named B.method).1
  have hlv := lv_entry av (n := maxL) hav
  rw [lg_entry_eq]
  exact h1 s.heap [] _ h hP hR (fun z hz => by cases hz) hlv
theorem gMet_ofW {l : Launch} {y : MethodName} {rm : Room} {G : gG} {av : List Value} {P : gH → Prop} {Qr : Option Value → gH → Prop} {Qx : String → gH → Prop} {cc : ByteArray} {maxL : Nat} {ret : Option FieldType} {hh : gHh} (hl : l.stackTraces = false) (hy : plainName y.cls = true) (hav : (lg_sl av).length ≤ maxL)
    (body : ∀ (X : gC) (Q : State → Prop), X.2.1 = l → gF (X, G, maxL, Q) cc y.cls rm hh ret → gEn (X, G, maxL, Q) rm Qr Qx → X.2.2.2.2.2.2.2.2.1.name = y.name → gW (X, G, maxL, Q) P (lv_args 0 av) 0 [] 0 0) :
    gMet l y (wsW_ y cc maxL ret hh) rm G av P Qr Qx := by
  refine vx_ofWH (cc := cc) (maxL := maxL) (ret := ret) (hh := hh) hy rfl ?_
  intro p e s m args below meth c s₁ B hml hv
  obtain ⟨rfl, ⟨h, hP, hR⟩, hK⟩ := hv
  have hts := atoms_spec (ws := wsW_ y cc maxL ret hh) B.pre
  have htb : c.exceptionTable.toList = tableOf hh := vx_table (x := y) B (hts _ List.mem_cons_self)
  have h1 := body (p, l, e, rm, s, m, av.toArray, below, meth, c) (gQ below av.toArray s rm.cells rm.slots G Qr Qx) rfl
    ⟨B.exec, B.bytes, hml, findClass_of_methodNamed B.named, fun w h => hts w (List.mem_cons_of_mem _ h), rfl, B.notSynchronized, hl, htb, B.returns, hK, hR.2.2, hR.2.1⟩ rfl (name_of_methodNamed B.named B.method).1
  have hlv := lv_entry av (n := maxL) hav
  rw [lg_entry_eq]
  exact h1 s.heap [] _ h hP hR (fun z hz => by cases hz) hlv
/-- ends -/
theorem g_retV (F : gF Y cc own rm hh ret) {Qr : Option Value → gH → Prop} {Qx : String → gH → Prop} (E : gEn Y rm Qr Qx) (hr : ret = none) (hk : k ≤ rm.cells) (hn : n ≤ rm.slots) (d : decode cc pc = .ok (.return_, 1)) (hq : ∀ h, P h → Qr none h) : gW Y P lv pc [] k n := by
  intro H locs ls h hP hR hL hl
  rw [show Y.2.2.2 = _ from E]
  refine W.widen hk hn (vx_ret ?_)
  exact W.vret F.1 F.2.1 (F.2.2.2.2.2.2.2.2.2.1.trans hr) (fun t ht hW => ⟨none, h, rfl, hq h hP, by rw [ht]; exact hR⟩) hL d F.2.2.2.2.2.2.1
theorem g_retI (F : gF Y cc own rm hh ret) {Qr : Option Value → gH → Prop} {Qx : String → gH → Prop} (E : gEn Y rm Qr Qx) {v : Int32} {ty : FieldType} (hr : ret = some ty) (hnr : narrow ty (.int v) = .int v) (hk : k ≤ rm.cells) (hn : n ≤ rm.slots) (d : decode cc pc = .ok (.ireturn, 1)) (hq : ∀ h, P h → Qr (some (.int v)) h) : gW Y P lv pc [.int v] k n := by
  intro H locs ls h hP hR hL hl
  rw [show Y.2.2.2 = _ from E]
  refine W.widen hk hn (vx_ret ?_)
  exact W.zret F.1 F.2.1 (F.2.2.2.2.2.2.2.2.2.1.trans hr) hnr (fun t ht hW => ⟨_, h, rfl, hq h hP, by rw [ht]; exact hR⟩) hL d F.2.2.2.2.2.2.1
theorem g_retL (F : gF Y cc own rm hh ret) {Qr : Option Value → gH → Prop} {Qx : String → gH → Prop} (E : gEn Y rm Qr Qx) {v : Int64} (hr : ret = some .long) (hk : k ≤ rm.cells) (hn : n ≤ rm.slots) (d : decode cc pc = .ok (.lreturn, 1)) (hq : ∀ h, P h → Qr (some (.long v)) h) : gW Y P lv pc [.long v] k n := by
  intro H locs ls h hP hR hL hl
  rw [show Y.2.2.2 = _ from E]
  refine W.widen hk hn (vx_ret ?_)
  exact W.lret F.1 F.2.1 (F.2.2.2.2.2.2.2.2.2.1.trans hr) (fun t ht hW => ⟨_, h, rfl, hq h hP, by rw [ht]; exact hR⟩) hL d F.2.2.2.2.2.2.1
theorem g_retF (F : gF Y cc own rm hh ret) {Qr : Option Value → gH → Prop} {Qx : String → gH → Prop} (E : gEn Y rm Qr Qx) {v : UInt32} (hr : ret = some .float) (hk : k ≤ rm.cells) (hn : n ≤ rm.slots) (d : decode cc pc = .ok (.freturn, 1)) (hq : ∀ h, P h → Qr (some (.float v)) h) : gW Y P lv pc [.float v] k n := by
  intro H locs ls h hP hR hL hl
  rw [show Y.2.2.2 = _ from E]
  refine W.widen hk hn (vx_ret ?_)
  exact W.fret F.1 F.2.1 (F.2.2.2.2.2.2.2.2.2.1.trans hr) (fun t ht hW => ⟨_, h, rfl, hq h hP, by rw [ht]; exact hR⟩) hL d F.2.2.2.2.2.2.1
theorem g_retD (F : gF Y cc own rm hh ret) {Qr : Option Value → gH → Prop} {Qx : String → gH → Prop} (E : gEn Y rm Qr Qx) {v : UInt64} (hr : ret = some .double) (hk : k ≤ rm.cells) (hn : n ≤ rm.slots) (d : decode cc pc = .ok (.dreturn, 1)) (hq : ∀ h, P h → Qr (some (.double v)) h) : gW Y P lv pc [.double v] k n := by
  intro H locs ls h hP hR hL hl
  rw [show Y.2.2.2 = _ from E]
  refine W.widen hk hn (vx_ret ?_)
  exact W.dret F.1 F.2.1 (F.2.2.2.2.2.2.2.2.2.1.trans hr) (fun t ht hW => ⟨_, h, rfl, hq h hP, by rw [ht]; exact hR⟩) hL d F.2.2.2.2.2.2.1
theorem g_retA (F : gF Y cc own rm hh ret) {Qr : Option Value → gH → Prop} {Qx : String → gH → Prop} (E : gEn Y rm Qr Qx) {v : Value} {rt : FieldType} (hr : ret = some rt) (hrt : (∃ n, rt = .object n) ∨ ∃ t, rt = .array t) (hv : v = .null ∨ ∃ a, v = .ref a) (hk : k ≤ rm.cells) (hn : n ≤ rm.slots) (d : decode cc pc = .ok (.areturn, 1)) (hq : ∀ h, P h → Qr (some v) h) : gW Y P lv pc [v] k n := by
  intro H locs ls h hP hR hL hl
  rw [show Y.2.2.2 = _ from E]
  refine W.widen hk hn (vx_ret ?_)
  exact W.aret F.1 F.2.1 (F.2.2.2.2.2.2.2.2.2.1.trans hr) hrt hv (fun t ht hW => ⟨_, h, rfl, hq h hP, by rw [ht]; exact hR⟩) hL d F.2.2.2.2.2.2.1
/-- an exception that no row of the table takes goes on to the caller; 'ps': for each row that covers, what passes it -/
theorem g_out (F : gF Y cc own rm hh ret) {Qr : Option Value → gH → Prop} {Qx : String → gH → Prop} (E : gEn Y rm Qr Qx) {ex : String} (hpass : ∀ z ∈ tableOf hh, covers z pc = false ∨ (z.catchType ≠ 0 ∧ ∃ nm : String, Cond.classLink own z.catchType nm ∈ lw_all ∧ (ex, nm) ∈ gNo)) (hk : k ≤ rm.cells) (hn : n ≤ rm.slots) (hq : ∀ h, P h → Qx ex h) : gX Y P lv pc k n ex := by
  intro H locs ls h q ce rest hP hR hL hl hce hcv hcl
  rw [show Y.2.2.2 = _ from E]
  refine vx_outP F.2.2.2.1 F.2.2.2.2.2.2.1 (fun z hz => ?_) hce hcv hcl (fun t ht hA => ⟨h, hq h hP, by rw [ht]; exact hR⟩) hL hk hn
  rw [F.2.2.2.2.2.2.2.2.1] at hz
  rcases hpass z hz with h1 | ⟨h1, nm, h2, h3⟩
  · exact Or.inl h1
  · exact Or.inr ⟨h1, nm, gF_t F h2, (gF_g F).2.2.2.2.2.2.2.2.2.1 _ h3⟩
/-- an exception is caught by the row x of the table -/
theorem g_catch (F : gF Y cc own rm hh ret) {ex name : String} (pre : List ExceptionTableEntry) (x : ExceptionTableEntry) (suf : List ExceptionTableEntry) (hs : tableOf hh = pre ++ x :: suf) (hpass : ∀ z ∈ pre, covers z pc = false ∨ (z.catchType ≠ 0 ∧ ∃ nm : String, Cond.classLink own z.catchType nm ∈ lw_all ∧ (ex, nm) ∈ gNo)) (hx : covers x pc = true) (h0 : x.catchType ≠ 0) (hlink : Cond.classLink own x.catchType name ∈ lw_all) (hcast : Cond.castable ex name ∈ gT) {tgt : Nat} (ht : x.handlerPc = tgt)
    (kk : ∀ q : Nat, gW Y P lv tgt [.ref q] k n) : gX Y P lv pc k n ex := by
  subst ht
  intro H locs ls h q ce rest hP hR hL hl hce hcv hcl
  refine vx_catch F.2.2.2.1 pre x suf (F.2.2.2.2.2.2.2.2.1.trans hs) (fun z hz => ?_) hx h0 (gF_t F hlink) (va_Nw.use rfl (gF_T F hcast)) hce hcv hcl (kk q H locs ls h hP hR hL hl)
  rcases hpass z hz with h1 | ⟨h1, nm, h2, h3⟩
  · exact Or.inl h1
  · exact Or.inr ⟨h1, nm, gF_t F h2, (gF_g F).2.2.2.2.2.2.2.2.2.1 _ h3⟩
/-- .. of the row's own class -/
theorem g_catchS (F : gF Y cc own rm hh ret) {ex : String} (pre : List ExceptionTableEntry) (x : ExceptionTableEntry) (suf : List ExceptionTableEntry) (hs : tableOf hh = pre ++ x :: suf) (hpass : ∀ z ∈ pre, covers z pc = false ∨ (z.catchType ≠ 0 ∧ ∃ nm : String, Cond.classLink own z.catchType nm ∈ lw_all ∧ (ex, nm) ∈ gNo)) (hx : covers x pc = true) (h0 : x.catchType ≠ 0) (hlink : Cond.classLink own x.catchType ex ∈ lw_all) {tgt : Nat} (ht : x.handlerPc = tgt)
    (kk : ∀ q : Nat, gW Y P lv tgt [.ref q] k n) : gX Y P lv pc k n ex := by
  subst ht
  intro H locs ls h q ce rest hP hR hL hl hce hcv hcl
  obtain ⟨k9, hk9, -⟩ := Vm.findClass_spec hcl
  have hcast : (Cond.castable ex ex).before Y.1.2.2.2.2.2.2.1 Y.1.2.2.2.2.1 = true := by
    simp [Cond.before, Cond.holds, Cond.value, hcl, va_asg]
  refine vx_catch F.2.2.2.1 pre x suf (F.2.2.2.2.2.2.2.2.1.trans hs) (fun z hz => ?_) hx h0 (gF_t F hlink) hcast hce hcv hcl (kk q H locs ls h hP hR hL hl)
  rcases hpass z hz with h1 | ⟨h1, nm, h2, h3⟩
  · exact Or.inl h1
  · exact Or.inr ⟨h1, nm, gF_t F h2, (gF_g F).2.2.2.2.2.2.2.2.2.1 _ h3⟩
theorem gX_mono {P2 : gH → Prop} {ex : String} (hp : ∀ h, P h → P2 h) (kk : gX Y P2 lv pc k n ex) : gX Y P lv pc k n ex := fun H locs ls h q ce rest hP hR hL hl hce hcv hcl => kk H locs ls h q ce rest (hp h hP) hR hL hl hce hcv hcl
theorem gX_pure {A : Prop} {ex : String} (hp : ∀ h, P h → A) (kk : A → gX Y P lv pc k n ex) : gX Y P lv pc k n ex := fun H locs ls h q ce rest hP hR hL hl hce hcv hcl => kk (hp h hP) H locs ls h q ce rest hP hR hL hl hce hcv hcl
theorem gX_and {A : Prop} {ex : String} (kk : A → gX Y P lv pc k n ex) : gX Y (fun h => A ∧ P h) lv pc k n ex := fun H locs ls h q ce rest hP hR hL hl hce hcv hcl => kk hP.1 H locs ls h q ce rest hP.2 hR hL hl hce hcv hcl
theorem gX_ex {α : Type} {Pa : α → gH → Prop} {ex : String} (kk : ∀ a, gX Y (Pa a) lv pc k n ex) : gX Y (fun h => ∃ a, Pa a h) lv pc k n ex := fun H locs ls h q ce rest hP hR hL hl hce hcv hcl => by
  obtain ⟨a, ha⟩ := hP
  exact kk a H locs ls h q ce rest ha hR hL hl hce hcv hcl
theorem gX_no {ex : String} (hp : ∀ h, ¬ P h) : gX Y P lv pc k n ex := fun H locs ls h q ce rest hP hR hL hl hce hcv hcl => (hp h hP).elim
/-- calls -/
theorem gPc_blind {G : gG} {As : List Value} {P : gH → Prop} : FrameBlind (va_Pc As (fun U => (∃ h, P h ∧ gR G h U.heap) ∧ gK G U)) := by
  intro a U g mk ⟨q0, q1, q2⟩
  exact ⟨q0, q1, gK_same (s := U) (U := U.calling g mk a) rfl q2⟩
theorem g_run (F : gF Y cc own rm hh ret) {mc ms k2 n2 : Nat} {rest : List Value} {Qr : Option Value → gH → Prop} {Qx : String → gH → Prop} {H : Heap} {locs : List Loc} {ls : Array Slot} {Qa : State → Outcome → State → Prop} (hqa : ∀ st o t, Qa st o t → ∃ v h, o = .returned v ∧ Qr v h ∧ gR Y.2.1 h t.heap)
    (hr : vx_Run Y.1.1 Y.1.2.1 Y.1.2.2.1 Y.1.2.2.2.1 Y.1.2.2.2.2.1 Y.1.2.2.2.2.2.1 Y.1.2.2.2.2.2.2.1 Y.1.2.2.2.2.2.2.2.1 Y.1.2.2.2.2.2.2.2.2.1 Y.1.2.2.2.2.2.2.2.2.2 H locs k n mc ms (F0 Y.1.2.2.2.2.2.1 pc ls st) rest Qa (fun E _ t => ∃ h, Qx E h ∧ gR Y.2.1 h t.heap) (gA Y.2.1.2.2.1))
    (hL : ∀ z ∈ locs, Y.2.1.2.2.1 ≤ z.base) (hl : lv_has ls Y.2.2.1 lv) (hk : k + mc ≤ k2) (hn : n + ms ≤ n2) (kx : ∀ E, gX Y (Qx E) lv pc k2 n2 E) (kk : ∀ v, gW Y (Qr v) lv (pc + 3) (v.toList ++ rest) k2 n2) :
    W Y.1.1 Y.1.2.1 Y.1.2.2.1 Y.1.2.2.2.1 Y.1.2.2.2.2.1 Y.1.2.2.2.2.2.1 Y.1.2.2.2.2.2.2.1 Y.1.2.2.2.2.2.2.2.1 Y.1.2.2.2.2.2.2.2.2.1 Y.1.2.2.2.2.2.2.2.2.2 H locs k n Y.2.2.2 (F0 Y.1.2.2.2.2.2.1 pc ls st) := by
  intro T hT X
  rcases hr T hT X with ⟨v, st₀, t, T', L, h0, X', hLl, e1, e2, hqq, st⟩ | ⟨q, st₀, t, T', L, E, ce, h0, X', hLl, e1, e2, ⟨h, hqx, hR⟩, hce, hcv, hcl, st⟩
  · obtain ⟨v', h, hv, hqr, hR⟩ := hqa _ _ _ hqq
    cases hv
    obtain ⟨t2, a1, b1⟩ := W.widen hk hn (kk v T'.heap (locs ++ L) ls h hqr (by rw [e1]; exact hR) (fun z hz => (List.mem_append.mp hz).elim (hL z) (hLl z)) hl) T' rfl X'
    exact ⟨t2, st t2 a1, b1⟩
  · obtain ⟨t2, a1, b1⟩ := vx_widen hk hn (kx E T'.heap (locs ++ L) ls h q ce rest hqx (by rw [e1]; exact hR) (fun z hz => (List.mem_append.mp hz).elim (hL z) (hLl z)) hl (by rw [e1]; exact hce) hcv hcl) T' rfl X'
    exact ⟨t2, st.trans a1, b1⟩
theorem g_run5 (F : gF Y cc own rm hh ret) {mc ms k2 n2 : Nat} {rest : List Value} {Qr : Option Value → gH → Prop} {Qx : String → gH → Prop} {H : Heap} {locs : List Loc} {ls : Array Slot} {Qa : State → Outcome → State → Prop} (hqa : ∀ st o t, Qa st o t → ∃ v h, o = .returned v ∧ Qr v h ∧ gR Y.2.1 h t.heap)
    (hr : vx_Run5 Y.1.1 Y.1.2.1 Y.1.2.2.1 Y.1.2.2.2.1 Y.1.2.2.2.2.1 Y.1.2.2.2.2.2.1 Y.1.2.2.2.2.2.2.1 Y.1.2.2.2.2.2.2.2.1 Y.1.2.2.2.2.2.2.2.2.1 Y.1.2.2.2.2.2.2.2.2.2 H locs k n mc ms (F0 Y.1.2.2.2.2.2.1 pc ls st) rest Qa (fun E _ t => ∃ h, Qx E h ∧ gR Y.2.1 h t.heap) (gA Y.2.1.2.2.1))
    (hL : ∀ z ∈ locs, Y.2.1.2.2.1 ≤ z.base) (hl : lv_has ls Y.2.2.1 lv) (hk : k + mc ≤ k2) (hn : n + ms ≤ n2) (kx : ∀ E, gX Y (Qx E) lv pc k2 n2 E) (kk : ∀ v, gW Y (Qr v) lv (pc + 5) (v.toList ++ rest) k2 n2) :
    W Y.1.1 Y.1.2.1 Y.1.2.2.1 Y.1.2.2.2.1 Y.1.2.2.2.2.1 Y.1.2.2.2.2.2.1 Y.1.2.2.2.2.2.2.1 Y.1.2.2.2.2.2.2.2.1 Y.1.2.2.2.2.2.2.2.2.1 Y.1.2.2.2.2.2.2.2.2.2 H locs k n Y.2.2.2 (F0 Y.1.2.2.2.2.2.1 pc ls st) := by
  intro T hT X
  rcases hr T hT X with ⟨v, st₀, t, T', L, h0, X', hLl, e1, e2, hqq, st⟩ | ⟨q, st₀, t, T', L, E, ce, h0, X', hLl, e1, e2, ⟨h, hqx, hR⟩, hce, hcv, hcl, st⟩
  · obtain ⟨v', h, hv, hqr, hR⟩ := hqa _ _ _ hqq
    cases hv
    obtain ⟨t2, a1, b1⟩ := W.widen hk hn (kk v T'.heap (locs ++ L) ls h hqr (by rw [e1]; exact hR) (fun z hz => (List.mem_append.mp hz).elim (hL z) (hLl z)) hl) T' rfl X'
    exact ⟨t2, st t2 a1, b1⟩
  · obtain ⟨t2, a1, b1⟩ := vx_widen hk hn (kx E T'.heap (locs ++ L) ls h q ce rest hqx (by rw [e1]; exact hR) (fun z hz => (List.mem_append.mp hz).elim (hL z) (hLl z)) hl (by rw [e1]; exact hce) hcv hcl) T' rfl X'
    exact ⟨t2, st.trans a1, b1⟩
def gMd (y : MethodName) (n : Nat) : Prop := y.cls ≠ "java/lang/invoke/MethodHandle" ∧ y.cls ≠ "java/lang/invoke/VarHandle" ∧ (parseMethodDescriptor y.desc).map (fun d => d.parameters.length) = some n
/-- a room fits a room -/
def gRm (rm2 rm : Room) (maxL : Nat) : Prop := rm2.frames + 1 ≤ rm.frames ∧ 8 + (maxL + 11) + rm2.locals ≤ rm.locals
theorem gF_S (F : gF Y cc own rm hh ret) : CallFix Y.1.1 Y.1.2.2.2.2.2.1 Y.1.2.2.2.2.2.2.2.2.2 cc Y.2.2.1 Y.1.2.2.2.2.1 Y.1.2.2.2.2.2.2.1 lw_all own := ⟨F.1, F.2.1, F.2.2.1, F.2.2.2.1, F.2.2.2.2.1⟩
theorem g_PreS (F : gF Y cc own rm hh ret) {As : List Value} {H : Heap} {h : gH} (hP : P h) (hR : gR Y.2.1 h H) : PreS Y.1.2.2.2.2.1 H (va_Pc As (fun U => (∃ h, P h ∧ gR Y.2.1 h U.heap) ∧ gK Y.2.1 U)) As :=
  ⟨gPc_blind, fun U hU hW => ⟨rfl, ⟨h, hP, by rw [hU]; exact hR⟩, gK_warm hW (gF_g F)⟩⟩
theorem g_callS (F : gF Y cc own rm hh ret) {y : MethodName} {bytes : ByteArray} {maxL index : Nat} {r : Option FieldType} {rm2 : Room} {As rest : List Value} {Qr : Option Value → gH → Prop} {Qx : String → gH → Prop} {nA : Nat} (hM : gMet Y.1.2.1 y (ws_ y bytes maxL r) rm2 Y.2.1 As P Qr Qx) (hq : GoodIn lw_all (va_wsS own index y (ws_ y bytes maxL r))) (hd : gMd y nA) (hR : gRm rm2 rm maxL) (hn : As.length = nA) (hst : st = As.reverse ++ rest) (hcat : (rest.map fun v => v.category).sum ≤ 8) (k2 n2 : Nat) (hk : k + rm2.cells ≤ k2) (hn2 : n + rm2.slots ≤ n2) (hkr : k2 ≤ rm.cells) (hnr : n2 ≤ rm.slots) (d : decode cc pc = .ok (.invokestatic index, 3))
    (kx : ∀ E, gX Y (Qx E) lv pc k2 n2 E) (kk : ∀ v, gW Y (Qr v) lv (pc + 3) (v.toList ++ rest) k2 n2) : gW Y P lv pc st k n := by
  intro H locs ls h hP hRR hL hl
  have hrm := gF_R F
  refine g_run F (mc := rm2.cells) (ms := rm2.slots) (fun _ _ _ h => h) (vx_runS (gF_S F) hM (va_cwS nA F.2.2.2.2.1 hq rfl rfl rfl hd (by rw [hrm]; exact hR)) (g_PreS F hP hRR) rfl hn hl.1 hst (lv_room hcat) d ⟨by rw [hrm]; omega, by rw [hrm]; omega⟩) hL hl hk hn2 kx kk
theorem g_callI (F : gF Y cc own rm hh ret) {y : MethodName} {bytes : ByteArray} {maxL index b : Nat} {rm2 : Room} {As rest : List Value} {Qr : Option Value → gH → Prop} {Qx : String → gH → Prop} {nA : Nat} (hM : gMet Y.1.2.1 y (ws_ y bytes maxL none) rm2 Y.2.1 (.ref b :: As) P Qr Qx) (hy1 : y.name = "<init>") (q1 : Cond.methodLink own index y ∈ lw_all) (q2 : Cond.instanceMethod y ∈ lw_all) (q3 : Cond.initialized y.cls ∈ lw_all) (q4 : Cond.code y bytes maxL none ∈ lw_all) (hd : gMd y nA) (hR : gRm rm2 rm maxL) (hn : As.length = nA) (hst : st = As.reverse ++ .ref b :: rest) (hcat : (rest.map fun v => v.category).sum ≤ 8) (k2 n2 : Nat) (hk : k + rm2.cells ≤ k2) (hn2 : n + rm2.slots ≤ n2) (hkr : k2 ≤ rm.cells) (hnr : n2 ≤ rm.slots) (d : decode cc pc = .ok (.invokespecial index, 3))
    (kx : ∀ E, gX Y (Qx E) lv pc k2 n2 E) (kk : ∀ v, gW Y (Qr v) lv (pc + 3) (v.toList ++ rest) k2 n2) : gW Y P lv pc st k n := by
  intro H locs ls h hP hRR hL hl
  have hrm := gF_R F
  refine g_run F (mc := rm2.cells) (ms := rm2.slots) (fun _ _ _ h => h) (vx_runI (gF_S F) hM (cwI nA F.2.2.2.2.1 (lw_meth q4) rfl rfl rfl (gF_t F q3) (gF_t F q1) (gF_t F q2) hy1 hd (by rw [hrm]; exact hR)) (g_PreS F hP hRR) rfl hn hl.1 hst (lv_room hcat) d ⟨by rw [hrm]; omega, by rw [hrm]; omega⟩) hL hl hk hn2 kx kk
/-- the receiver is an object of the class -/
def gRecv (Y : gY) (P : gH → Prop) (b : Nat) (C : String) : Prop := ∀ (H : Heap) (h : gH), P h → gR Y.2.1 h H → ∃ cell : Cell, H[b]? = some cell ∧ cell.vm.isStatics = false ∧ Y.1.2.2.2.2.1.vm.findClass C = some cell.cls
theorem g_recv (F : gF Y cc own rm hh ret) {ci N b : Nat} {C : String} {T : u_T} {ty : Nat → FieldType} (hc : gCl ci C T N ty) (hg : ∀ h, P h → ∃ τ fs, h b = some (τ, .inr (ci, fs))) : gRecv Y P b C := by
  intro H h hP hR
  obtain ⟨τ, fs, h1⟩ := hg h hP
  exact va_recv (gF_K F) (gR_P hR h1) hc.1 (q0 := 0) rfl
theorem g_callV (F : gF Y cc own rm hh ret) {y : MethodName} {bytes : ByteArray} {maxL index b : Nat} {r : Option FieldType} {rm2 : Room} {As rest : List Value} {Qr : Option Value → gH → Prop} {Qx : String → gH → Prop} {nA : Nat} (hM : gMet Y.1.2.1 y (ws_ y bytes maxL r) rm2 Y.2.1 (.ref b :: As) P Qr Qx) (hrv : gRecv Y P b y.cls) (q1 : Cond.methodLink own index y ∈ lw_all) (q2 : Cond.instanceMethod y ∈ lw_all) (q3 : Cond.selects y.cls y y ∈ lw_all) (q4 : Cond.initialized y.cls ∈ lw_all) (q5 : Cond.code y bytes maxL r ∈ lw_all) (hd : gMd y nA) (hR : gRm rm2 rm maxL) (hn : As.length = nA) (hst : st = As.reverse ++ .ref b :: rest) (hcat : (rest.map fun v => v.category).sum ≤ 8) (k2 n2 : Nat) (hk : k + rm2.cells ≤ k2) (hn2 : n + rm2.slots ≤ n2) (hkr : k2 ≤ rm.cells) (hnr : n2 ≤ rm.slots) (d : decode cc pc = .ok (.invokevirtual index, 3))
    (kx : ∀ E, gX Y (Qx E) lv pc k2 n2 E) (kk : ∀ v, gW Y (Qr v) lv (pc + 3) (v.toList ++ rest) k2 n2) : gW Y P lv pc st k n := by
  intro H locs ls h hP hRR hL hl
  have hrm := gF_R F
  have hpre := g_PreS F (As := .ref b :: As) hP hRR
  refine g_run F (mc := rm2.cells) (ms := rm2.slots) (fun _ _ _ h => h) (vx_runV (C := y.cls) (gF_S F) hM (cwV nA F.2.2.2.2.1 (lw_V q1 q2 q3 q4 q5) rfl rfl rfl ⟨rfl, hd⟩ (by rw [hrm]; exact hR)) ⟨hpre.1, hrv H h hP hRR, hpre.2⟩ rfl hn hl.1 hst (lv_room hcat) d ⟨by rw [hrm]; omega, by rw [hrm]; omega⟩) hL hl hk hn2 kx kk
/-- methods with a table of their own -/
theorem g_callSW (F : gF Y cc own rm hh ret) {y : MethodName} {bytes : ByteArray} {maxL index : Nat} {r : Option FieldType} {hh2 : gHh} {rm2 : Room} {As rest : List Value} {Qr : Option Value → gH → Prop} {Qx : String → gH → Prop} {nA : Nat} (hM : gMet Y.1.2.1 y (wsW_ y bytes maxL r hh2) rm2 Y.2.1 As P Qr Qx) (q1 : Cond.methodLink own index y ∈ lw_all) (q2 : Cond.static y ∈ lw_all) (q3 : Cond.initialized y.cls ∈ lw_all) (q4 : Cond.codeWith y bytes maxL r hh2 ∈ lw_all) (hd : gMd y nA) (hR : gRm rm2 rm maxL) (hn : As.length = nA) (hst : st = As.reverse ++ rest) (hcat : (rest.map fun v => v.category).sum ≤ 8) (k2 n2 : Nat) (hk : k + rm2.cells ≤ k2) (hn2 : n + rm2.slots ≤ n2) (hkr : k2 ≤ rm.cells) (hnr : n2 ≤ rm.slots) (d : decode cc pc = .ok (.invokestatic index, 3))
    (kx : ∀ E, gX Y (Qx E) lv pc k2 n2 E) (kk : ∀ v, gW Y (Qr v) lv (pc + 3) (v.toList ++ rest) k2 n2) : gW Y P lv pc st k n := by
  intro H locs ls h hP hRR hL hl
  have hrm := gF_R F
  refine g_run F (mc := rm2.cells) (ms := rm2.slots) (fun _ _ _ h => h) (vx_runSX (gF_S F) hM (vx_cwSW nA F.2.2.2.2.1 (lw_SW q1 q2 q3 q4) rfl rfl rfl hd (by rw [hrm]; exact hR)) (g_PreS F hP hRR) rfl hn hl.1 hst (lv_room hcat) d ⟨by rw [hrm]; omega, by rw [hrm]; omega⟩) hL hl hk hn2 kx kk
theorem g_callVW (F : gF Y cc own rm hh ret) {y : MethodName} {bytes : ByteArray} {maxL index b : Nat} {r : Option FieldType} {hh2 : gHh} {rm2 : Room} {As rest : List Value} {Qr : Option Value → gH → Prop} {Qx : String → gH → Prop} {nA : Nat} (hM : gMet Y.1.2.1 y (wsW_ y bytes maxL r hh2) rm2 Y.2.1 (.ref b :: As) P Qr Qx) (hrv : gRecv Y P b y.cls) (q1 : Cond.methodLink own index y ∈ lw_all) (q2 : Cond.instanceMethod y ∈ lw_all) (q3 : Cond.selects y.cls y y ∈ lw_all) (q4 : Cond.initialized y.cls ∈ lw_all) (q5 : Cond.codeWith y bytes maxL r hh2 ∈ lw_all) (hd : gMd y nA) (hR : gRm rm2 rm maxL) (hn : As.length = nA) (hst : st = As.reverse ++ .ref b :: rest) (hcat : (rest.map fun v => v.category).sum ≤ 8) (k2 n2 : Nat) (hk : k + rm2.cells ≤ k2) (hn2 : n + rm2.slots ≤ n2) (hkr : k2 ≤ rm.cells) (hnr : n2 ≤ rm.slots) (d : decode cc pc = .ok (.invokevirtual index, 3))
    (kx : ∀ E, gX Y (Qx E) lv pc k2 n2 E) (kk : ∀ v, gW Y (Qr v) lv (pc + 3) (v.toList ++ rest) k2 n2) : gW Y P lv pc st k n := by
  intro H locs ls h hP hRR hL hl
  have hrm := gF_R F
  have hpre := g_PreS F (As := .ref b :: As) hP hRR
  refine g_run F (mc := rm2.cells) (ms := rm2.slots) (fun _ _ _ h => h) (vx_runVX (C := y.cls) (gF_S F) hM (vx_cwVW nA F.2.2.2.2.1 (lw_VW q1 q2 q3 q4 q5) rfl rfl rfl ⟨rfl, hd⟩ (by rw [hrm]; exact hR)) ⟨hpre.1, hrv H h hP hRR, hpre.2⟩ rfl hn hl.1 hst (lv_room hcat) d ⟨by rw [hrm]; omega, by rw [hrm]; omega⟩) hL hl hk hn2 kx kk
end GCALL
