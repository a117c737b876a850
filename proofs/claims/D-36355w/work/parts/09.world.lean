/-! THE WORLD AS A FUNCTION: an abstract heap (address to tag and cell), one judgement gW over it, one contract gMet. Every cell that the run makes lies at gB or above; nothing below is ever written. -/
abbrev gC : Type := Program × Launch × Env × Room × State × MethodId × Array Value × List Frame × Method × Code
/-- the run's constants: class numbers, array classes, the base, the heap at the run's start, the literals' addresses and their arrays', other addresses, what is known of lambdas -/
abbrev gG : Type := va_G × (Nat → ClassId) × Nat × Heap × (Nat → Nat) × (Nat → Nat) × (Nat → Nat) × (State → Prop)
abbrev gY : Type := gC × gG × Nat × (State → Prop)
abbrev gH : Type := Nat → Option ((Nat × Nat) × va_E)
def gset (h : gH) (a : Nat) (τ : Nat × Nat) (e : va_E) : gH := fun b => if b = a then some (τ, e) else h b
theorem gset_s {h : gH} {a : Nat} {τ : Nat × Nat} {e : va_E} : gset h a τ e a = some (τ, e) := if_pos rfl
theorem gset_n {h : gH} {a b : Nat} {τ : Nat × Nat} {e : va_E} (n : b ≠ a) : gset h a τ e b = h b := if_neg n
def gcl : List vw_C := [(RX1, TX1, 18), (RX2, TX2, 3), (RX3, TX3, 18), (RX6, TX6, 4), (RX7, TX7, 4), (RX8, TX8, 5), (RX9, TX9, 12), (RX10, TX10, 11), (RX11, TX11, 7), (RX12, TX12, 6), (RX13, TX13, 12), (RX14, TX14, 11), (RX15, TX15, 3), (RX16, TX16, 3), (RX17, TX17, 3), (RX18, TX18, 5), (RJ3, TJ3, 3), (RJ20, TJ20, 4), (RX4, TX4, 6), (RJ0, TJ0, 4)]
def gtys (ac : Nat → ClassId) : List (ClassId × FieldType) := [(ac 0, .int), (ac 1, .boolean), (ac 2, .long), (ac 3, .double), (ac 4, .object "java/lang/Object"), (ac 5, .byte)]
/-- the words that no reader of steady words carries -/
def gTok : Cond → Bool
  | .fieldLinkNest _ _ _ _ _ _ => true
  | .methodLinkNest _ _ _ _ => true
  | .castable _ _ => true
  | .declares _ => true
  | .publicMethod _ => true
  | .unhidden _ _ _ => true
  | .arrayOver (.object _) => true
  | _ => false
def gT : List Cond := lw_tbl.filter gTok
theorem gT_w {w : Cond} (h : w ∈ lw_tbl) (g : gTok w = true) : w ∈ gT := List.mem_filter.mpr ⟨h, g⟩
def gFaces : List MethodName := [⟨"java/util/List", "size", "()I"⟩, ⟨"java/util/List", "get", "(I)Ljava/lang/Object;"⟩, ⟨"java/util/List", "add", "(Ljava/lang/Object;)Z"⟩, ⟨"java/util/List", "isEmpty", "()Z"⟩, ⟨"java/util/List", "iterator", "()Ljava/util/Iterator;"⟩, ⟨"java/lang/Iterable", "iterator", "()Ljava/util/Iterator;"⟩, ⟨"java/util/Iterator", "hasNext", "()Z"⟩, ⟨"java/util/Iterator", "next", "()Ljava/lang/Object;"⟩, ⟨"java/util/function/Predicate", "test", "(Ljava/lang/Object;)Z"⟩, ⟨"java/util/function/ToIntFunction", "applyAsInt", "(Ljava/lang/Object;)I"⟩]
/-- the literals: by place, the length and the bytes -/
def gLen : List Nat := [4, 3, 7, 4, 3, 7, 10]
def gByt : List (List Int32) := [[109, 112, 103, 99], [99, 102, 107], [110, 119, 98, 114, 115, 100, 102], [110, 119, 103, 114], [54, 48, 51], [110, 98, 99, 108, 103, 111, 114], [114, 110, 120, 98, 102, 107, 115, 104, 103, 99]]
def gStr : List (String × Nat × String × Nat) := [("Graphline", 36, "mpgc", 0), ("Graphline", 181, "cfk", 1), ("Graphline", 249, "nwbrsdf", 2), ("Graphline", 279, "nwgr", 3), ("Graphline", 281, "603", 4), ("Graphline", 318, "nbclgor", 5), ("Graphline", 382, "rnxbfkshgc", 6), ("GraphlineModel", 81, "mpgc", 0), ("GraphlineModel", 128, "cfk", 1), ("GraphlineModel", 190, "nwbrsdf", 2), ("GraphlineModel", 230, "nwgr", 3), ("GraphlineModel", 232, "603", 4), ("GraphlineModel", 268, "nbclgor", 5), ("GraphlineModel", 316, "rnxbfkshgc", 6)]
/-- pairs of classes: no object of the first is one of the second -/
def gNo : List (String × String) := [("java/lang/IllegalStateException", "java/lang/IllegalArgumentException"), ("java/lang/UnsupportedOperationException", "java/lang/IllegalArgumentException"), ("java/lang/IllegalArgumentException", "java/lang/IndexOutOfBoundsException"), ("java/lang/UnsupportedOperationException", "java/lang/IndexOutOfBoundsException"), ("java/lang/IllegalStateException", "java/lang/IndexOutOfBoundsException"), ("java/lang/IllegalStateException", "java/lang/UnsupportedOperationException"), ("Graphline$Clay", "Graphline$Graphite"), ("Graphline$Graphite", "Graphline$Clay")]
/-- the words of the interfaces' methods: kept apart, for their own carrier -/
def gFw (U : State) : Prop := ∀ x ∈ gFaces, (Cond.interfaceMethod x.cls x.cls x.name x.desc).before #[] U = true ∧ (Cond.declares x).before #[] U = true
abbrev gA (B : Nat) : Nat → Prop := fun q => B ≤ q
/-- what is known of the classes, literals and statics all through the run -/
def gK (G : gG) (U : State) : Prop :=
  va_K G.1 gcl (gtys G.2.1) U ∧ (∀ w ∈ gT, va_Nw w U) ∧ gFw U ∧ (vk_S 7 gLen gByt G.2.2.2.2.1 G.2.2.2.2.2.1 (gA G.2.2.1) U G.2.2.2.1 ∧ ∀ r ∈ gStr, vk_R r.1 r.2.1 r.2.2.1 (G.2.2.2.2.1 r.2.2.2) U) ∧
  (va_Z "java/util/ArrayList" "DEFAULTCAPACITY_EMPTY_ELEMENTDATA" "[Ljava/lang/Object;" (.ref (G.2.2.2.2.2.2.1 0)) (gA G.2.2.1) U G.2.2.2.1 ∧ va_T (.object "java/lang/Object") (G.2.2.2.2.2.2.1 0) 0 (fun _ => .null) (gA G.2.2.1) U G.2.2.2.1) ∧
  va_Z "java/lang/String" "COMPACT_STRINGS" "Z" (.int 1) (gA G.2.2.1) U G.2.2.2.1 ∧ va_Zq "jdk/internal/util/Preconditions" "SIOOBE_FORMATTER" "Ljava/util/function/BiFunction;" (gA G.2.2.1) U G.2.2.2.1 ∧
  (vx_Zq Bundle.tN "UNASSIGNED_STACK" Bundle.steD (gA G.2.2.1) U G.2.2.2.1 ∧ vx_Zq Bundle.tN "SUPPRESSED_SENTINEL" Bundle.listD (gA G.2.2.1) U G.2.2.2.1) ∧ va_Mi "[Ljava/lang/Object;" (G.2.2.2.2.2.2.1 1) U ∧ (∀ r ∈ gNo, va_Nc r.1 r.2 U) ∧
  (G.2.2.2.2.2.2.2 U ∧ (∀ s U : State, s.WarmedH U.vm → G.2.2.2.2.2.2.2 s → G.2.2.2.2.2.2.2 U) ∧ ∀ s U : State, U.vm = s.vm → G.2.2.2.2.2.2.2 s → G.2.2.2.2.2.2.2 U)
theorem gT_warm {s U : State} (hW : s.WarmedH U.vm) (h : ∀ w ∈ gT, va_Nw w s) : ∀ w ∈ gT, va_Nw w U := by
  intro w hw
  have h1 := h w hw
  have h2 := (List.mem_filter.mp hw).2
  have tr : ∀ {c : Cond}, c.onTables = true → c.before #[] (s.setVm U.vm) = true → va_Nw c U := by
    intro c hc hz
    exact va_tabs hc (rfl : (s.setVm U.vm).vm = U.vm) hz
  cases w <;> first | exact Bool.noConfusion (show false = true from h2) | skip
  all_goals first
    | exact va_Nw.warmF hW h1
    | exact va_Nw.warmM hW h1
    | exact va_Nw.warmC hW h1
    | exact va_Nw.warmD hW h1
    | exact tr rfl (by rw [Cond.publicMethod_setVm hW.alike]; exact h1)
    | exact tr rfl (by rw [Cond.unhidden_setVm hW.alike]; exact h1)
    | skip
  all_goals (rename_i ty; cases ty <;> first | exact Bool.noConfusion (show false = true from h2) | exact (va_AO.moved hW.alike (va_AO.of h1)))
theorem gFw_moved {u U : State} (hvm : u.vm.Alike U.vm) (h : gFw u) : gFw U := by
  intro x hx
  obtain ⟨h2, h1⟩ := h x hx
  obtain ⟨r, meth, hn, -⟩ := Cond.declares_spec h1
  have hx2 : x.cls ≠ "java/lang/invoke/MethodHandle" ∧ x.cls ≠ "java/lang/invoke/VarHandle" := by
    have : ∀ x ∈ gFaces, x.cls ≠ "java/lang/invoke/MethodHandle" ∧ x.cls ≠ "java/lang/invoke/VarHandle" := by decide +kernel
    exact this x hx
  have tr : ∀ {c : Cond}, c.onTables = true → c.before #[] (u.setVm U.vm) = true → c.before #[] U = true := by
    intro c hc hz
    exact va_tabs hc (rfl : (u.setVm U.vm).vm = U.vm) hz
  exact ⟨tr rfl (by rw [Cond.interfaceMethod_setVm hvm (r := r) hn hx2]; exact h2), tr rfl (by rw [Cond.declares_setVm hvm]; exact h1)⟩
theorem gK_warm {G : gG} {s U : State} (hW : s.WarmedH U.vm) (h : gK G s) : gK G U := by
  obtain ⟨h1, h2, h3, ⟨h4, h5⟩, ⟨h6, h7⟩, h8, h9, ⟨h10, h11⟩, h12, hN, h13, h14, h15⟩ := h
  have hA := hW.alike
  exact ⟨va_K.moved hA h1, gT_warm hW h2, gFw_moved hA h3, ⟨vk_S.moved hA h4, fun r hr => vk_R.warm hW (h5 r hr)⟩, ⟨va_Z.moved hA h6, va_T.moved hA h7⟩, va_Z.moved hA h8, va_Zq.moved hA h9, ⟨vx_Zq.moved hA h10, vx_Zq.moved hA h11⟩, va_Mi.moved hA h12, fun r hr => va_Nc.moved hA (hN r hr), h14 s U hW h13, h14, h15⟩
theorem gK_same {G : gG} {s U : State} (hv : U.vm = s.vm) (h : gK G s) : gK G U := by
  obtain ⟨h1, h2, h3, ⟨h4, h5⟩, ⟨h6, h7⟩, h8, h9, ⟨h10, h11⟩, h12, hN, h13, h14, h15⟩ := h
  have hA : s.vm.Alike U.vm := by rw [hv]; exact Vm.Alike.refl _
  refine ⟨va_K.moved hA h1, fun w hw => ?_, gFw_moved hA h3, ⟨vk_S.moved hA h4, fun r hr => vk_R.same hv (h5 r hr)⟩, ⟨va_Z.moved hA h6, va_T.moved hA h7⟩, va_Z.moved hA h8, va_Zq.moved hA h9, ⟨vx_Zq.moved hA h10, vx_Zq.moved hA h11⟩, va_Mi.moved hA h12, fun r hr => va_Nc.moved hA (hN r hr), h15 s U hv h13, h14, h15⟩
  have h1 := h2 w hw
  have hz := (List.mem_filter.mp hw).2
  cases w <;> first | exact Bool.noConfusion (show false = true from hz) | exact va_Nw.same rfl hv.symm h1 | (rename_i ty; cases ty <;> first | exact Bool.noConfusion (show false = true from hz) | exact va_AO.moved hA (va_AO.of h1))
/-- the heap H holds the abstract heap h -/
def gR (G : gG) (h : gH) (H : Heap) : Prop := (∀ a τ e, h a = some (τ, e) → G.2.2.1 ≤ a ∧ va_at G.1 gcl (a, e) H) ∧ (∀ q, q < G.2.2.1 → H[q]? = G.2.2.2.1[q]?) ∧ G.2.2.1 ≤ H.size
theorem gR_lt {G : gG} {h : gH} {H : Heap} (hR : gR G h H) {a : Nat} {x : (Nat × Nat) × va_E} (ha : h a = some x) : a < H.size := (hR.1 a x.1 x.2 ha).2.lt
theorem gR_fresh {G : gG} {h : gH} {H : Heap} (hR : gR G h H) : h H.size = none := by
  cases hx : h H.size with
  | none => rfl
  | some x => exact absurd (gR_lt hR hx) (Nat.lt_irrefl _)
theorem gR_put {G : gG} {h : gH} {H H1 : Heap} (hR : gR G h H) {a : Nat} {τ : Nat × Nat} {e e1 : va_E} (ha : h a = some (τ, e)) (he : va_at G.1 gcl (a, e1) H1) (z : H1.size = H.size) (oq : ∀ q : Nat, q ≠ a → H1[q]? = H[q]?) (τ1 : Nat × Nat) : gR G (gset h a τ1 e1) H1 := by
  obtain ⟨h1, h2, h3⟩ := hR
  have hB := (h1 a τ e ha).1
  refine ⟨fun b τ' e' hb => ?_, fun q hq => ?_, by rw [z]; exact h3⟩
  · by_cases hba : b = a
    · subst hba
      rw [gset_s] at hb
      cases hb
      exact ⟨hB, he⟩
    · rw [gset_n hba] at hb
      exact ⟨(h1 b τ' e' hb).1, (h1 b τ' e' hb).2.kept (oq b hba)⟩
  · rw [oq q (by omega)]
    exact h2 q hq
theorem gR_push {G : gG} {h : gH} {H H1 : Heap} (hR : gR G h H) {e1 : va_E} (he : va_at G.1 gcl (H.size, e1) H1) (z : H1.size = H.size + 1) (oq : ∀ q : Nat, q < H.size → H1[q]? = H[q]?) (τ1 : Nat × Nat) : gR G (gset h H.size τ1 e1) H1 := by
  obtain ⟨h1, h2, h3⟩ := hR
  refine ⟨fun b τ' e' hb => ?_, fun q hq => ?_, by omega⟩
  · by_cases hba : b = H.size
    · subst hba
      rw [gset_s] at hb
      cases hb
      exact ⟨h3, he⟩
    · rw [gset_n hba] at hb
      have hl : b < H.size := (h1 b τ' e' hb).2.lt
      exact ⟨(h1 b τ' e' hb).1, (h1 b τ' e' hb).2.kept (oq b hl)⟩
  · rw [oq q (by omega)]
    exact h2 q hq
theorem gR_P {G : gG} {h : gH} {H : Heap} (hR : gR G h H) {a : Nat} {τ : Nat × Nat} {e : va_E} (ha : h a = some (τ, e)) : va_P G.1 gcl [(a, e)] H := by
  intro k q hk
  match k, hk with
  | 0, hk => cases hk; exact (hR.1 a τ e ha).2
  | k + 1, hk => simp at hk
theorem gD1 {A : Nat → Prop} {a : Nat} {e : va_E} (h : A a) : va_D A [(a, e)] := by
  refine ⟨fun i j p q hi hj _ => ?_, fun k q hk => ?_⟩
  · have h1 : i < 1 := (List.getElem?_eq_some_iff.mp hi).1
    have h2 : j < 1 := (List.getElem?_eq_some_iff.mp hj).1
    omega
  · match k, hk with
    | 0, hk => cases hk; exact h
    | k + 1, hk => simp at hk
/-- THE JUDGEMENT: from this abstract state the run comes to Q -/
def gW (Y : gY) (P : gH → Prop) (lv : List (Nat × Value)) (pc : Nat) (st : List Value) (k n : Nat) : Prop :=
  ∀ (H : Heap) (locs : List Loc) (ls : Array Slot) (h : gH), P h → gR Y.2.1 h H → (∀ z ∈ locs, Y.2.1.2.2.1 ≤ z.base) → lv_has ls Y.2.2.1 lv →
    W Y.1.1 Y.1.2.1 Y.1.2.2.1 Y.1.2.2.2.1 Y.1.2.2.2.2.1 Y.1.2.2.2.2.2.1 Y.1.2.2.2.2.2.2.1 Y.1.2.2.2.2.2.2.2.1 Y.1.2.2.2.2.2.2.2.2.1 Y.1.2.2.2.2.2.2.2.2.2 H locs k n Y.2.2.2 (F0 Y.1.2.2.2.2.2.1 pc ls st)
/-- an exception of the class E has come at pc -/
def gX (Y : gY) (P : gH → Prop) (lv : List (Nat × Value)) (pc : Nat) (k n : Nat) (E : String) : Prop :=
  ∀ (H : Heap) (locs : List Loc) (ls : Array Slot) (h : gH) (q : Nat) (ce : Cell) (rest : List Value), P h → gR Y.2.1 h H → (∀ z ∈ locs, Y.2.1.2.2.1 ≤ z.base) → lv_has ls Y.2.2.1 lv → H[q]? = some ce → ce.vm = .none → Y.1.2.2.2.2.1.vm.findClass E = some ce.cls →
    vx_W Y.1.1 Y.1.2.1 Y.1.2.2.1 Y.1.2.2.2.1 Y.1.2.2.2.2.1 Y.1.2.2.2.2.2.1 Y.1.2.2.2.2.2.2.1 Y.1.2.2.2.2.2.2.2.1 Y.1.2.2.2.2.2.2.2.2.1 Y.1.2.2.2.2.2.2.2.2.2 H locs k n Y.2.2.2 (F0 Y.1.2.2.2.2.2.1 pc ls rest) q
abbrev gHh : Type := List (Nat × Nat × Nat × Nat)
/-- what holds all through the method -/
def gF (Y : gY) (cc : ByteArray) (own : String) (rm : Room) (hh : gHh) (ret : Option FieldType) : Prop :=
  Y.1.1.tables.exec = Jvm.exec ∧ Y.1.2.2.2.2.2.2.2.2.2.code = cc ∧ Y.1.2.2.2.2.2.2.2.2.2.maxLocals = Y.2.2.1 ∧ Y.1.2.2.2.2.1.vm.findClass own = some Y.1.2.2.2.2.2.1.cls ∧ (∀ w ∈ lw_all, w.before Y.1.2.2.2.2.2.2.1 Y.1.2.2.2.2.1 = true) ∧ Y.1.2.2.2.1 = rm ∧
  Y.1.2.2.2.2.2.2.2.2.1.locks = false ∧ Y.1.2.1.stackTraces = false ∧ Y.1.2.2.2.2.2.2.2.2.2.exceptionTable.toList = tableOf hh ∧ Y.1.2.2.2.2.2.2.2.2.1.sig.returnType = ret ∧ gK Y.2.1 Y.1.2.2.2.2.1 ∧ Y.2.1.2.2.1 ≤ Y.1.2.2.2.2.1.heap.size ∧ ∀ q, q < Y.2.1.2.2.1 → Y.1.2.2.2.2.1.heap[q]? = Y.2.1.2.2.2.1[q]?
/-- a contract: av the arguments; P what the heap holds; Qr what it holds behind a return; Qx behind a throw of the class -/
def gMet (l : Launch) (y : MethodName) (ws : List Cond) (rm : Room) (G : gG) (av : List Value) (P : gH → Prop) (Qr : Option Value → gH → Prop) (Qx : String → gH → Prop) : Prop :=
  vx_Met l y ws rm (va_Pc av (fun U => (∃ h, P h ∧ gR G h U.heap) ∧ gK G U)) (fun _ _ o t => ∃ v h, o = .returned v ∧ Qr v h ∧ gR G h t.heap) (fun E _ t => ∃ h, Qx E h ∧ gR G h t.heap) rm.cells rm.slots (gA G.2.2.1)
/-- a method's end -/
def gQ (below : List Frame) (a : Array Value) (s : State) (mc ms : Nat) (G : gG) (Qr : Option Value → gH → Prop) (Qx : String → gH → Prop) : State → Prop :=
  vx_MQ below (fun _ _ o t => ∃ v h, o = .returned v ∧ Qr v h ∧ gR G h t.heap) (fun E _ t => ∃ h, Qx E h ∧ gR G h t.heap) a s mc ms (gA G.2.2.1)
section GRULES
variable {Y : gY} {cc : ByteArray} {own : String} {rm : Room} {hh : gHh} {ret : Option FieldType} {P : gH → Prop} {lv : List (Nat × Value)} {pc k n : Nat} {st : List Value}
theorem g_iconst (F : gF Y cc own rm hh ret) {i : Int} {v : Int32} (hv : Int32.ofInt i = v) (d : decode cc pc = .ok (.iconst i, 1)) (kk : gW Y P lv (pc + 1) (.int v :: st) k n) : gW Y P lv pc (st) k n :=
  fun H locs ls h hP hR hL hl => lv_iconst F.1 F.2.1 d hv (kk H locs ls h hP hR hL hl)
theorem g_bipush (F : gF Y cc own rm hh ret) {i : Int} {v : Int32} (hv : (Int8.ofInt i).toInt32 = v) (d : decode cc pc = .ok (.bipush i, 2)) (kk : gW Y P lv (pc + 2) (.int v :: st) k n) : gW Y P lv pc (st) k n :=
  fun H locs ls h hP hR hL hl => lv_bipush F.1 F.2.1 d hv (kk H locs ls h hP hR hL hl)
theorem g_sipush (F : gF Y cc own rm hh ret) {i : Int} {v : Int32} (hv : (Int16.ofInt i).toInt32 = v) (d : decode cc pc = .ok (.sipush i, 3)) (kk : gW Y P lv (pc + 3) (.int v :: st) k n) : gW Y P lv pc (st) k n :=
  fun H locs ls h hP hR hL hl => lv_sipush F.1 F.2.1 d hv (kk H locs ls h hP hR hL hl)
theorem g_lconst (F : gF Y cc own rm hh ret) {i : Fin 2} {v : Int64} (hv : Int64.ofNat (i : Nat) = v) (d : decode cc pc = .ok (.lconst i, 1)) (kk : gW Y P lv (pc + 1) (.long v :: st) k n) : gW Y P lv pc (st) k n :=
  fun H locs ls h hP hR hL hl => lv_lconst F.1 F.2.1 d hv (kk H locs ls h hP hR hL hl)
theorem g_fconst0 (F : gF Y cc own rm hh ret) (d : decode cc pc = .ok (.fconst 0, 1)) (kk : gW Y P lv (pc + 1) (.float 0 :: st) k n) : gW Y P lv pc (st) k n :=
  fun H locs ls h hP hR hL hl => lv_fconst0 F.1 F.2.1 d (kk H locs ls h hP hR hL hl)
theorem g_dconst0 (F : gF Y cc own rm hh ret) (d : decode cc pc = .ok (.dconst 0, 1)) (kk : gW Y P lv (pc + 1) (.double 0 :: st) k n) : gW Y P lv pc (st) k n :=
  fun H locs ls h hP hR hL hl => lv_dconst0 F.1 F.2.1 d (kk H locs ls h hP hR hL hl)
theorem g_null (F : gF Y cc own rm hh ret) (d : decode cc pc = .ok (.aconst_null, 1)) (kk : gW Y P lv (pc + 1) (.null :: st) k n) : gW Y P lv pc (st) k n :=
  fun H locs ls h hP hR hL hl => lv_null F.1 F.2.1 d (kk H locs ls h hP hR hL hl)
theorem g_iload_n (F : gF Y cc own rm hh ret) {i : Fin 4} {j : Nat} {x : Int32} (q : Nat) (hi : (i : Nat) = j) (hq : lv[q]? = some (j, .int x)) (d : decode cc pc = .ok (.iload_n i, 1)) (kk : gW Y P lv (pc + 1) (.int x :: st) k n) : gW Y P lv pc (st) k n :=
  fun H locs ls h hP hR hL hl => lv_iload_n F.1 F.2.1 d hi (lv_at hl q hq) (kk H locs ls h hP hR hL hl)
theorem g_iload (F : gF Y cc own rm hh ret) {i : Nat} {x : Int32} (q : Nat) (hq : lv[q]? = some (i, .int x)) (d : decode cc pc = .ok (.iload i, 2)) (kk : gW Y P lv (pc + 2) (.int x :: st) k n) : gW Y P lv pc (st) k n :=
  fun H locs ls h hP hR hL hl => lv_iload F.1 F.2.1 d (lv_at hl q hq) (kk H locs ls h hP hR hL hl)
theorem g_lload_n (F : gF Y cc own rm hh ret) {i : Fin 4} {j : Nat} {x : Int64} (q : Nat) (hi : (i : Nat) = j) (hq : lv[q]? = some (j, .long x)) (d : decode cc pc = .ok (.lload_n i, 1)) (kk : gW Y P lv (pc + 1) (.long x :: st) k n) : gW Y P lv pc (st) k n :=
  fun H locs ls h hP hR hL hl => lv_lload_n F.1 F.2.1 d hi (lv_at hl q hq) (kk H locs ls h hP hR hL hl)
theorem g_lload (F : gF Y cc own rm hh ret) {i : Nat} {x : Int64} (q : Nat) (hq : lv[q]? = some (i, .long x)) (d : decode cc pc = .ok (.lload i, 2)) (kk : gW Y P lv (pc + 2) (.long x :: st) k n) : gW Y P lv pc (st) k n :=
  fun H locs ls h hP hR hL hl => lv_lload F.1 F.2.1 d (lv_at hl q hq) (kk H locs ls h hP hR hL hl)
theorem g_aload_n (F : gF Y cc own rm hh ret) {i : Fin 4} {j : Nat} {x : Nat} (q : Nat) (hi : (i : Nat) = j) (hq : lv[q]? = some (j, .ref x)) (d : decode cc pc = .ok (.aload_n i, 1)) (kk : gW Y P lv (pc + 1) (.ref x :: st) k n) : gW Y P lv pc (st) k n :=
  fun H locs ls h hP hR hL hl => lv_aload_n F.1 F.2.1 d hi (lv_at hl q hq) (kk H locs ls h hP hR hL hl)
theorem g_aload (F : gF Y cc own rm hh ret) {i : Nat} {x : Nat} (q : Nat) (hq : lv[q]? = some (i, .ref x)) (d : decode cc pc = .ok (.aload i, 2)) (kk : gW Y P lv (pc + 2) (.ref x :: st) k n) : gW Y P lv pc (st) k n :=
  fun H locs ls h hP hR hL hl => lv_aload F.1 F.2.1 d (lv_at hl q hq) (kk H locs ls h hP hR hL hl)
theorem g_fload_n (F : gF Y cc own rm hh ret) {i : Fin 4} {j : Nat} {x : UInt32} (q : Nat) (hi : (i : Nat) = j) (hq : lv[q]? = some (j, .float x)) (d : decode cc pc = .ok (.fload_n i, 1)) (kk : gW Y P lv (pc + 1) (.float x :: st) k n) : gW Y P lv pc (st) k n :=
  fun H locs ls h hP hR hL hl => lv_fload_n F.1 F.2.1 d hi (lv_at hl q hq) (kk H locs ls h hP hR hL hl)
theorem g_fload (F : gF Y cc own rm hh ret) {i : Nat} {x : UInt32} (q : Nat) (hq : lv[q]? = some (i, .float x)) (d : decode cc pc = .ok (.fload i, 2)) (kk : gW Y P lv (pc + 2) (.float x :: st) k n) : gW Y P lv pc (st) k n :=
  fun H locs ls h hP hR hL hl => lv_fload F.1 F.2.1 d (lv_at hl q hq) (kk H locs ls h hP hR hL hl)
theorem g_dload_n (F : gF Y cc own rm hh ret) {i : Fin 4} {j : Nat} {x : UInt64} (q : Nat) (hi : (i : Nat) = j) (hq : lv[q]? = some (j, .double x)) (d : decode cc pc = .ok (.dload_n i, 1)) (kk : gW Y P lv (pc + 1) (.double x :: st) k n) : gW Y P lv pc (st) k n :=
  fun H locs ls h hP hR hL hl => lv_dload_n F.1 F.2.1 d hi (lv_at hl q hq) (kk H locs ls h hP hR hL hl)
theorem g_dload (F : gF Y cc own rm hh ret) {i : Nat} {x : UInt64} (q : Nat) (hq : lv[q]? = some (i, .double x)) (d : decode cc pc = .ok (.dload i, 2)) (kk : gW Y P lv (pc + 2) (.double x :: st) k n) : gW Y P lv pc (st) k n :=
  fun H locs ls h hP hR hL hl => lv_dload F.1 F.2.1 d (lv_at hl q hq) (kk H locs ls h hP hR hL hl)
theorem g_aload_nN (F : gF Y cc own rm hh ret) {i : Fin 4} {j : Nat} (q : Nat) (hi : (i : Nat) = j) (hq : lv[q]? = some (j, .null)) (d : decode cc pc = .ok (.aload_n i, 1)) (kk : gW Y P lv (pc + 1) (.null :: st) k n) : gW Y P lv pc (st) k n :=
  fun H locs ls h hP hR hL hl => lv_aload_nN F.1 F.2.1 d hi (lv_at hl q hq) (kk H locs ls h hP hR hL hl)
theorem g_istore_n (F : gF Y cc own rm hh ret) {i : Fin 4} {j : Nat} {x : Int32} {lv2 : List (Nat × Value)} (hi : (i : Nat) = j) (hn : j < Y.2.2.1) (h2 : (j, Value.int x) :: lv.filter (fun q => !(q.1 == j) && !(q.1 + 1 == j && q.2.category == 2)) = lv2) (d : decode cc pc = .ok (.istore_n i, 1)) (kk : gW Y P lv2 (pc + 1) st k n) : gW Y P lv pc (.int x :: st) k n :=
  fun H locs ls h hP hR hL hl => lv_istore_n F.1 F.2.1 d hi hl hn h2 (fun ls2 hl2 => kk H locs ls2 h hP hR hL hl2)
theorem g_istore (F : gF Y cc own rm hh ret) {i : Nat} {x : Int32} {lv2 : List (Nat × Value)} (hn : i < Y.2.2.1) (h2 : (i, Value.int x) :: lv.filter (fun q => !(q.1 == i) && !(q.1 + 1 == i && q.2.category == 2)) = lv2) (d : decode cc pc = .ok (.istore i, 2)) (kk : gW Y P lv2 (pc + 2) st k n) : gW Y P lv pc (.int x :: st) k n :=
  fun H locs ls h hP hR hL hl => lv_istore F.1 F.2.1 d hl hn h2 (fun ls2 hl2 => kk H locs ls2 h hP hR hL hl2)
theorem g_lstore_n (F : gF Y cc own rm hh ret) {i : Fin 4} {j : Nat} {x : Int64} {lv2 : List (Nat × Value)} (hi : (i : Nat) = j) (hn : j + 1 < Y.2.2.1) (h2 : (j, Value.long x) :: lv.filter (fun q => !(q.1 == j) && (!(q.1 == j + 1) && !(q.1 + 1 == j && q.2.category == 2))) = lv2) (d : decode cc pc = .ok (.lstore_n i, 1)) (kk : gW Y P lv2 (pc + 1) st k n) : gW Y P lv pc (.long x :: st) k n :=
  fun H locs ls h hP hR hL hl => lv_lstore_n F.1 F.2.1 d hi hl hn h2 (fun ls2 hl2 => kk H locs ls2 h hP hR hL hl2)
theorem g_lstore (F : gF Y cc own rm hh ret) {i : Nat} {x : Int64} {lv2 : List (Nat × Value)} (hn : i + 1 < Y.2.2.1) (h2 : (i, Value.long x) :: lv.filter (fun q => !(q.1 == i) && (!(q.1 == i + 1) && !(q.1 + 1 == i && q.2.category == 2))) = lv2) (d : decode cc pc = .ok (.lstore i, 2)) (kk : gW Y P lv2 (pc + 2) st k n) : gW Y P lv pc (.long x :: st) k n :=
  fun H locs ls h hP hR hL hl => lv_lstore F.1 F.2.1 d hl hn h2 (fun ls2 hl2 => kk H locs ls2 h hP hR hL hl2)
theorem g_astore_n (F : gF Y cc own rm hh ret) {i : Fin 4} {j : Nat} {x : Nat} {lv2 : List (Nat × Value)} (hi : (i : Nat) = j) (hn : j < Y.2.2.1) (h2 : (j, Value.ref x) :: lv.filter (fun q => !(q.1 == j) && !(q.1 + 1 == j && q.2.category == 2)) = lv2) (d : decode cc pc = .ok (.astore_n i, 1)) (kk : gW Y P lv2 (pc + 1) st k n) : gW Y P lv pc (.ref x :: st) k n :=
  fun H locs ls h hP hR hL hl => lv_astore_n F.1 F.2.1 d hi hl hn h2 (fun ls2 hl2 => kk H locs ls2 h hP hR hL hl2)
theorem g_astore (F : gF Y cc own rm hh ret) {i : Nat} {x : Nat} {lv2 : List (Nat × Value)} (hn : i < Y.2.2.1) (h2 : (i, Value.ref x) :: lv.filter (fun q => !(q.1 == i) && !(q.1 + 1 == i && q.2.category == 2)) = lv2) (d : decode cc pc = .ok (.astore i, 2)) (kk : gW Y P lv2 (pc + 2) st k n) : gW Y P lv pc (.ref x :: st) k n :=
  fun H locs ls h hP hR hL hl => lv_astore F.1 F.2.1 d hl hn h2 (fun ls2 hl2 => kk H locs ls2 h hP hR hL hl2)
theorem g_fstore_n (F : gF Y cc own rm hh ret) {i : Fin 4} {j : Nat} {x : UInt32} {lv2 : List (Nat × Value)} (hi : (i : Nat) = j) (hn : j < Y.2.2.1) (h2 : (j, Value.float x) :: lv.filter (fun q => !(q.1 == j) && !(q.1 + 1 == j && q.2.category == 2)) = lv2) (d : decode cc pc = .ok (.fstore_n i, 1)) (kk : gW Y P lv2 (pc + 1) st k n) : gW Y P lv pc (.float x :: st) k n :=
  fun H locs ls h hP hR hL hl => lv_fstore_n F.1 F.2.1 d hi hl hn h2 (fun ls2 hl2 => kk H locs ls2 h hP hR hL hl2)
theorem g_fstore (F : gF Y cc own rm hh ret) {i : Nat} {x : UInt32} {lv2 : List (Nat × Value)} (hn : i < Y.2.2.1) (h2 : (i, Value.float x) :: lv.filter (fun q => !(q.1 == i) && !(q.1 + 1 == i && q.2.category == 2)) = lv2) (d : decode cc pc = .ok (.fstore i, 2)) (kk : gW Y P lv2 (pc + 2) st k n) : gW Y P lv pc (.float x :: st) k n :=
  fun H locs ls h hP hR hL hl => lv_fstore F.1 F.2.1 d hl hn h2 (fun ls2 hl2 => kk H locs ls2 h hP hR hL hl2)
theorem g_dstore_n (F : gF Y cc own rm hh ret) {i : Fin 4} {j : Nat} {x : UInt64} {lv2 : List (Nat × Value)} (hi : (i : Nat) = j) (hn : j + 1 < Y.2.2.1) (h2 : (j, Value.double x) :: lv.filter (fun q => !(q.1 == j) && (!(q.1 == j + 1) && !(q.1 + 1 == j && q.2.category == 2))) = lv2) (d : decode cc pc = .ok (.dstore_n i, 1)) (kk : gW Y P lv2 (pc + 1) st k n) : gW Y P lv pc (.double x :: st) k n :=
  fun H locs ls h hP hR hL hl => lv_dstore_n F.1 F.2.1 d hi hl hn h2 (fun ls2 hl2 => kk H locs ls2 h hP hR hL hl2)
theorem g_dstore (F : gF Y cc own rm hh ret) {i : Nat} {x : UInt64} {lv2 : List (Nat × Value)} (hn : i + 1 < Y.2.2.1) (h2 : (i, Value.double x) :: lv.filter (fun q => !(q.1 == i) && (!(q.1 == i + 1) && !(q.1 + 1 == i && q.2.category == 2))) = lv2) (d : decode cc pc = .ok (.dstore i, 2)) (kk : gW Y P lv2 (pc + 2) st k n) : gW Y P lv pc (.double x :: st) k n :=
  fun H locs ls h hP hR hL hl => lv_dstore F.1 F.2.1 d hl hn h2 (fun ls2 hl2 => kk H locs ls2 h hP hR hL hl2)
theorem g_iinc (F : gF Y cc own rm hh ret) {i : Nat} {c : Int} {x v : Int32} {lv2 : List (Nat × Value)} (q : Nat) (hq : lv[q]? = some (i, .int x)) (hv : x + Int32.ofInt c = v) (hn : i < Y.2.2.1) (h2 : (i, Value.int v) :: lv.filter (fun q => !(q.1 == i) && !(q.1 + 1 == i && q.2.category == 2)) = lv2) (d : decode cc pc = .ok (.iinc i c, 3)) (kk : gW Y P lv2 (pc + 3) st k n) : gW Y P lv pc st k n :=
  fun H locs ls h hP hR hL hl => lv_iinc F.1 F.2.1 d hl (k := q) hq hv hn h2 (fun ls2 hl2 => kk H locs ls2 h hP hR hL hl2)
theorem g_iadd (F : gF Y cc own rm hh ret) {x y : Int32} (d : decode cc pc = .ok (.iadd, 1)) (kk : gW Y P lv (pc + 1) (.int (x + y) :: st) k n) : gW Y P lv pc (.int y :: .int x :: st) k n :=
  fun H locs ls h hP hR hL hl => lv_iadd F.1 F.2.1 d (kk H locs ls h hP hR hL hl)
theorem g_isub (F : gF Y cc own rm hh ret) {x y : Int32} (d : decode cc pc = .ok (.isub, 1)) (kk : gW Y P lv (pc + 1) (.int (x - y) :: st) k n) : gW Y P lv pc (.int y :: .int x :: st) k n :=
  fun H locs ls h hP hR hL hl => lv_isub F.1 F.2.1 d (kk H locs ls h hP hR hL hl)
theorem g_imul (F : gF Y cc own rm hh ret) {x y : Int32} (d : decode cc pc = .ok (.imul, 1)) (kk : gW Y P lv (pc + 1) (.int (x * y) :: st) k n) : gW Y P lv pc (.int y :: .int x :: st) k n :=
  fun H locs ls h hP hR hL hl => lv_imul F.1 F.2.1 d (kk H locs ls h hP hR hL hl)
theorem g_iand (F : gF Y cc own rm hh ret) {x y : Int32} (d : decode cc pc = .ok (.iand, 1)) (kk : gW Y P lv (pc + 1) (.int (x &&& y) :: st) k n) : gW Y P lv pc (.int y :: .int x :: st) k n :=
  fun H locs ls h hP hR hL hl => lv_iand F.1 F.2.1 d (kk H locs ls h hP hR hL hl)
theorem g_ior (F : gF Y cc own rm hh ret) {x y : Int32} (d : decode cc pc = .ok (.ior, 1)) (kk : gW Y P lv (pc + 1) (.int (x ||| y) :: st) k n) : gW Y P lv pc (.int y :: .int x :: st) k n :=
  fun H locs ls h hP hR hL hl => lv_ior F.1 F.2.1 d (kk H locs ls h hP hR hL hl)
theorem g_idiv (F : gF Y cc own rm hh ret) {x y : Int32} (hne : ¬ y = 0) (d : decode cc pc = .ok (.idiv, 1)) (kk : gW Y P lv (pc + 1) (.int (x / y) :: st) k n) : gW Y P lv pc (.int y :: .int x :: st) k n :=
  fun H locs ls h hP hR hL hl => lv_idiv F.1 F.2.1 d hne (kk H locs ls h hP hR hL hl)
theorem g_irem (F : gF Y cc own rm hh ret) {x y : Int32} (hne : ¬ y = 0) (d : decode cc pc = .ok (.irem, 1)) (kk : gW Y P lv (pc + 1) (.int (x - x / y * y) :: st) k n) : gW Y P lv pc (.int y :: .int x :: st) k n :=
  fun H locs ls h hP hR hL hl => lv_irem F.1 F.2.1 d hne (kk H locs ls h hP hR hL hl)
theorem g_ineg (F : gF Y cc own rm hh ret) {x : Int32} (d : decode cc pc = .ok (.ineg, 1)) (kk : gW Y P lv (pc + 1) (.int (-x) :: st) k n) : gW Y P lv pc (.int x :: st) k n :=
  fun H locs ls h hP hR hL hl => lv_ineg F.1 F.2.1 d (kk H locs ls h hP hR hL hl)
theorem g_ladd (F : gF Y cc own rm hh ret) {x y : Int64} (d : decode cc pc = .ok (.ladd, 1)) (kk : gW Y P lv (pc + 1) (.long (x + y) :: st) k n) : gW Y P lv pc (.long y :: .long x :: st) k n :=
  fun H locs ls h hP hR hL hl => lv_ladd F.1 F.2.1 d (kk H locs ls h hP hR hL hl)
theorem g_lmul (F : gF Y cc own rm hh ret) {x y : Int64} (d : decode cc pc = .ok (.lmul, 1)) (kk : gW Y P lv (pc + 1) (.long (x * y) :: st) k n) : gW Y P lv pc (.long y :: .long x :: st) k n :=
  fun H locs ls h hP hR hL hl => lv_lmul F.1 F.2.1 d (kk H locs ls h hP hR hL hl)
theorem g_lrem (F : gF Y cc own rm hh ret) {x y : Int64} (hne : ¬ y = 0) (d : decode cc pc = .ok (.lrem, 1)) (kk : gW Y P lv (pc + 1) (.long (x - x / y * y) :: st) k n) : gW Y P lv pc (.long y :: .long x :: st) k n :=
  fun H locs ls h hP hR hL hl => lv_lrem F.1 F.2.1 d hne (kk H locs ls h hP hR hL hl)
theorem g_ishr (F : gF Y cc own rm hh ret) {x y : Int32} (d : decode cc pc = .ok (.ishr, 1)) (kk : gW Y P lv (pc + 1) (.int (x >>> (y &&& 31)) :: st) k n) : gW Y P lv pc (.int y :: .int x :: st) k n :=
  fun H locs ls h hP hR hL hl => lv_ishr F.1 F.2.1 d (kk H locs ls h hP hR hL hl)
theorem g_i2l (F : gF Y cc own rm hh ret) {x : Int32} (d : decode cc pc = .ok (.i2l, 1)) (kk : gW Y P lv (pc + 1) (.long x.toInt64 :: st) k n) : gW Y P lv pc (.int x :: st) k n :=
  fun H locs ls h hP hR hL hl => lv_i2l F.1 F.2.1 d rfl (kk H locs ls h hP hR hL hl)
theorem g_l2i (F : gF Y cc own rm hh ret) {x : Int64} (d : decode cc pc = .ok (.l2i, 1)) (kk : gW Y P lv (pc + 1) (.int x.toInt32 :: st) k n) : gW Y P lv pc (.long x :: st) k n :=
  fun H locs ls h hP hR hL hl => lv_l2i F.1 F.2.1 d rfl (kk H locs ls h hP hR hL hl)
theorem g_i2c (F : gF Y cc own rm hh ret) {x : Int32} (d : decode cc pc = .ok (.i2c, 1)) (kk : gW Y P lv (pc + 1) (.int (x.toUInt32 % 65536).toInt32 :: st) k n) : gW Y P lv pc (.int x :: st) k n :=
  fun H locs ls h hP hR hL hl => lv_i2c F.1 F.2.1 d rfl (kk H locs ls h hP hR hL hl)
theorem g_i2b (F : gF Y cc own rm hh ret) {x : Int32} (d : decode cc pc = .ok (.i2b, 1)) (kk : gW Y P lv (pc + 1) (.int x.toInt8.toInt32 :: st) k n) : gW Y P lv pc (.int x :: st) k n :=
  fun H locs ls h hP hR hL hl => lv_i2b F.1 F.2.1 d rfl (kk H locs ls h hP hR hL hl)
theorem g_dup (F : gF Y cc own rm hh ret) {v : Value} (hv : v.category = 1) (d : decode cc pc = .ok (.dup, 1)) (kk : gW Y P lv (pc + 1) (v :: v :: st) k n) : gW Y P lv pc (v :: st) k n :=
  fun H locs ls h hP hR hL hl => lv_dup F.1 F.2.1 d hv (kk H locs ls h hP hR hL hl)
theorem g_pop (F : gF Y cc own rm hh ret) {v : Value} (hv : v.category = 1) (d : decode cc pc = .ok (.pop, 1)) (kk : gW Y P lv (pc + 1) (st) k n) : gW Y P lv pc (v :: st) k n :=
  fun H locs ls h hP hR hL hl => lv_pop F.1 F.2.1 d hv (kk H locs ls h hP hR hL hl)
theorem g_dup2 (F : gF Y cc own rm hh ret) {v w : Value} (hv : v.category = 1) (hw : w.category = 1) (d : decode cc pc = .ok (.dup2, 1)) (kk : gW Y P lv (pc + 1) (v :: w :: v :: w :: st) k n) : gW Y P lv pc (v :: w :: st) k n :=
  fun H locs ls h hP hR hL hl => lv_dup2_11 F.1 F.2.1 d hv hw (kk H locs ls h hP hR hL hl)
theorem g_dup_x1 (F : gF Y cc own rm hh ret) {v w : Value} (hv : v.category = 1) (hw : w.category = 1) (d : decode cc pc = .ok (.dup_x1, 1)) (kk : gW Y P lv (pc + 1) (v :: w :: v :: st) k n) : gW Y P lv pc (v :: w :: st) k n :=
  fun H locs ls h hP hR hL hl => lv_dup_x1 F.1 F.2.1 d hv hw (kk H locs ls h hP hR hL hl)
theorem g_goto (F : gF Y cc own rm hh ret) {off : Int} {tgt : Nat} (ht : (pc : Int) + off = (tgt : Int)) (d : decode cc pc = .ok (.goto off, 3)) (kk : gW Y P lv tgt st k n) : gW Y P lv pc st k n :=
  fun H locs ls h hP hR hL hl => lv_goto F.1 F.2.1 d ht (kk H locs ls h hP hR hL hl)
theorem g_if_eq (F : gF Y cc own rm hh ret) {x : Int32} {off : Int} {tgt : Nat} (ht : (pc : Int) + off = (tgt : Int)) (d : decode cc pc = .ok (.ifCond .eq off, 3)) (kt : x = 0 → gW Y P lv tgt st k n) (kf : ¬ x = 0 → gW Y P lv (pc + 3) st k n) : gW Y P lv pc (.int x :: st) k n :=
  fun H locs ls h hP hR hL hl => lv_if_eq F.1 F.2.1 d ht (fun c => kt c H locs ls h hP hR hL hl) (fun c => kf c H locs ls h hP hR hL hl)
theorem g_icmp_eq (F : gF Y cc own rm hh ret) {x y : Int32} {off : Int} {tgt : Nat} (ht : (pc : Int) + off = (tgt : Int)) (d : decode cc pc = .ok (.if_icmp .eq off, 3)) (kt : x = y → gW Y P lv tgt st k n) (kf : ¬ x = y → gW Y P lv (pc + 3) st k n) : gW Y P lv pc (.int y :: .int x :: st) k n :=
  fun H locs ls h hP hR hL hl => lv_icmp_eq F.1 F.2.1 d ht (fun c => kt c H locs ls h hP hR hL hl) (fun c => kf c H locs ls h hP hR hL hl)
theorem g_if_ne (F : gF Y cc own rm hh ret) {x : Int32} {off : Int} {tgt : Nat} (ht : (pc : Int) + off = (tgt : Int)) (d : decode cc pc = .ok (.ifCond .ne off, 3)) (kt : ¬ x = 0 → gW Y P lv tgt st k n) (kf : x = 0 → gW Y P lv (pc + 3) st k n) : gW Y P lv pc (.int x :: st) k n :=
  fun H locs ls h hP hR hL hl => lv_if_ne F.1 F.2.1 d ht (fun c => kt c H locs ls h hP hR hL hl) (fun c => kf c H locs ls h hP hR hL hl)
theorem g_icmp_ne (F : gF Y cc own rm hh ret) {x y : Int32} {off : Int} {tgt : Nat} (ht : (pc : Int) + off = (tgt : Int)) (d : decode cc pc = .ok (.if_icmp .ne off, 3)) (kt : ¬ x = y → gW Y P lv tgt st k n) (kf : x = y → gW Y P lv (pc + 3) st k n) : gW Y P lv pc (.int y :: .int x :: st) k n :=
  fun H locs ls h hP hR hL hl => lv_icmp_ne F.1 F.2.1 d ht (fun c => kt c H locs ls h hP hR hL hl) (fun c => kf c H locs ls h hP hR hL hl)
theorem g_if_lt (F : gF Y cc own rm hh ret) {x : Int32} {off : Int} {tgt : Nat} (ht : (pc : Int) + off = (tgt : Int)) (d : decode cc pc = .ok (.ifCond .lt off, 3)) (kt : x < 0 → gW Y P lv tgt st k n) (kf : ¬ x < 0 → gW Y P lv (pc + 3) st k n) : gW Y P lv pc (.int x :: st) k n :=
  fun H locs ls h hP hR hL hl => lv_if_lt F.1 F.2.1 d ht (fun c => kt c H locs ls h hP hR hL hl) (fun c => kf c H locs ls h hP hR hL hl)
theorem g_icmp_lt (F : gF Y cc own rm hh ret) {x y : Int32} {off : Int} {tgt : Nat} (ht : (pc : Int) + off = (tgt : Int)) (d : decode cc pc = .ok (.if_icmp .lt off, 3)) (kt : x < y → gW Y P lv tgt st k n) (kf : ¬ x < y → gW Y P lv (pc + 3) st k n) : gW Y P lv pc (.int y :: .int x :: st) k n :=
  fun H locs ls h hP hR hL hl => lv_icmp_lt F.1 F.2.1 d ht (fun c => kt c H locs ls h hP hR hL hl) (fun c => kf c H locs ls h hP hR hL hl)
theorem g_if_ge (F : gF Y cc own rm hh ret) {x : Int32} {off : Int} {tgt : Nat} (ht : (pc : Int) + off = (tgt : Int)) (d : decode cc pc = .ok (.ifCond .ge off, 3)) (kt : 0 ≤ x → gW Y P lv tgt st k n) (kf : ¬ 0 ≤ x → gW Y P lv (pc + 3) st k n) : gW Y P lv pc (.int x :: st) k n :=
  fun H locs ls h hP hR hL hl => lv_if_ge F.1 F.2.1 d ht (fun c => kt c H locs ls h hP hR hL hl) (fun c => kf c H locs ls h hP hR hL hl)
theorem g_icmp_ge (F : gF Y cc own rm hh ret) {x y : Int32} {off : Int} {tgt : Nat} (ht : (pc : Int) + off = (tgt : Int)) (d : decode cc pc = .ok (.if_icmp .ge off, 3)) (kt : y ≤ x → gW Y P lv tgt st k n) (kf : ¬ y ≤ x → gW Y P lv (pc + 3) st k n) : gW Y P lv pc (.int y :: .int x :: st) k n :=
  fun H locs ls h hP hR hL hl => lv_icmp_ge F.1 F.2.1 d ht (fun c => kt c H locs ls h hP hR hL hl) (fun c => kf c H locs ls h hP hR hL hl)
theorem g_if_gt (F : gF Y cc own rm hh ret) {x : Int32} {off : Int} {tgt : Nat} (ht : (pc : Int) + off = (tgt : Int)) (d : decode cc pc = .ok (.ifCond .gt off, 3)) (kt : 0 < x → gW Y P lv tgt st k n) (kf : ¬ 0 < x → gW Y P lv (pc + 3) st k n) : gW Y P lv pc (.int x :: st) k n :=
  fun H locs ls h hP hR hL hl => lv_if_gt F.1 F.2.1 d ht (fun c => kt c H locs ls h hP hR hL hl) (fun c => kf c H locs ls h hP hR hL hl)
theorem g_icmp_gt (F : gF Y cc own rm hh ret) {x y : Int32} {off : Int} {tgt : Nat} (ht : (pc : Int) + off = (tgt : Int)) (d : decode cc pc = .ok (.if_icmp .gt off, 3)) (kt : y < x → gW Y P lv tgt st k n) (kf : ¬ y < x → gW Y P lv (pc + 3) st k n) : gW Y P lv pc (.int y :: .int x :: st) k n :=
  fun H locs ls h hP hR hL hl => lv_icmp_gt F.1 F.2.1 d ht (fun c => kt c H locs ls h hP hR hL hl) (fun c => kf c H locs ls h hP hR hL hl)
theorem g_if_le (F : gF Y cc own rm hh ret) {x : Int32} {off : Int} {tgt : Nat} (ht : (pc : Int) + off = (tgt : Int)) (d : decode cc pc = .ok (.ifCond .le off, 3)) (kt : x ≤ 0 → gW Y P lv tgt st k n) (kf : ¬ x ≤ 0 → gW Y P lv (pc + 3) st k n) : gW Y P lv pc (.int x :: st) k n :=
  fun H locs ls h hP hR hL hl => lv_if_le F.1 F.2.1 d ht (fun c => kt c H locs ls h hP hR hL hl) (fun c => kf c H locs ls h hP hR hL hl)
theorem g_icmp_le (F : gF Y cc own rm hh ret) {x y : Int32} {off : Int} {tgt : Nat} (ht : (pc : Int) + off = (tgt : Int)) (d : decode cc pc = .ok (.if_icmp .le off, 3)) (kt : x ≤ y → gW Y P lv tgt st k n) (kf : ¬ x ≤ y → gW Y P lv (pc + 3) st k n) : gW Y P lv pc (.int y :: .int x :: st) k n :=
  fun H locs ls h hP hR hL hl => lv_icmp_le F.1 F.2.1 d ht (fun c => kt c H locs ls h hP hR hL hl) (fun c => kf c H locs ls h hP hR hL hl)
theorem g_acmp_eq (F : gF Y cc own rm hh ret) {rx ry : Option Nat} {off : Int} {tgt : Nat} (ht : (pc : Int) + off = (tgt : Int)) (d : decode cc pc = .ok (.if_acmp .eq off, 3)) (kt : rx = ry → gW Y P lv tgt st k n) (kf : ¬ rx = ry → gW Y P lv (pc + 3) st k n) : gW Y P lv pc (va_rf ry :: va_rf rx :: st) k n :=
  fun H locs ls h hP hR hL hl => lv_acmp_eq F.1 F.2.1 d ht (fun c => kt c H locs ls h hP hR hL hl) (fun c => kf c H locs ls h hP hR hL hl)
theorem g_acmp_ne (F : gF Y cc own rm hh ret) {rx ry : Option Nat} {off : Int} {tgt : Nat} (ht : (pc : Int) + off = (tgt : Int)) (d : decode cc pc = .ok (.if_acmp .ne off, 3)) (kt : ¬ rx = ry → gW Y P lv tgt st k n) (kf : rx = ry → gW Y P lv (pc + 3) st k n) : gW Y P lv pc (va_rf ry :: va_rf rx :: st) k n :=
  fun H locs ls h hP hR hL hl => lv_acmp_ne F.1 F.2.1 d ht (fun c => kt c H locs ls h hP hR hL hl) (fun c => kf c H locs ls h hP hR hL hl)
theorem g_ifnonnull (F : gF Y cc own rm hh ret) {x : Nat} {off : Int} {tgt : Nat} (ht : (pc : Int) + off = (tgt : Int)) (d : decode cc pc = .ok (.ifnonnull off, 3)) (kk : gW Y P lv tgt st k n) : gW Y P lv pc (.ref x :: st) k n :=
  fun H locs ls h hP hR hL hl => lv_ifnonnull F.1 F.2.1 d ht (kk H locs ls h hP hR hL hl)
theorem g_ifnull (F : gF Y cc own rm hh ret) {x : Nat} {off : Int} (d : decode cc pc = .ok (.ifnull off, 3)) (kk : gW Y P lv (pc + 3) st k n) : gW Y P lv pc (.ref x :: st) k n :=
  fun H locs ls h hP hR hL hl => lv_ifnull F.1 F.2.1 d (kk H locs ls h hP hR hL hl)
theorem g_ifnullN (F : gF Y cc own rm hh ret) {off : Int} {tgt : Nat} (ht : (pc : Int) + off = (tgt : Int)) (d : decode cc pc = .ok (.ifnull off, 3)) (kk : gW Y P lv tgt st k n) : gW Y P lv pc (.null :: st) k n :=
  fun H locs ls h hP hR hL hl => lv_ifnullN F.1 F.2.1 d ht (kk H locs ls h hP hR hL hl)
theorem g_ifnonnullN (F : gF Y cc own rm hh ret) {off : Int} (d : decode cc pc = .ok (.ifnonnull off, 3)) (kk : gW Y P lv (pc + 3) st k n) : gW Y P lv pc (.null :: st) k n :=
  fun H locs ls h hP hR hL hl => lv_ifnonnullN F.1 F.2.1 d (kk H locs ls h hP hR hL hl)
theorem g_lookup (F : gF Y cc own rm hh ret) {dflt : Int} {ps : Array (Int × Int)} {len : Nat} {x : Int32} {off : Int} {tgt : Nat} (hp : (ps.toList.zip (ps.toList.drop 1)).all (fun (a, next) => a.1 < next.1) = true) (ho : Op.lookupswitch.offset ps.toList dflt x.toInt = off) (ht : (pc : Int) + off = (tgt : Int)) (d : decode cc pc = .ok (.lookupswitch dflt ps, len)) (kk : gW Y P lv tgt st k n) : gW Y P lv pc (.int x :: st) k n :=
  fun H locs ls h hP hR hL hl => lv_lookup F.1 F.2.1 d hp ho ht (kk H locs ls h hP hR hL hl)
theorem g_tableOut (F : gF Y cc own rm hh ret) {dflt lo hi : Int} {offs : Array Int} {len : Nat} {x : Int32} {tgt : Nat} (h : x.toInt < lo ∨ hi < x.toInt) (ht : (pc : Int) + dflt = (tgt : Int)) (d : decode cc pc = .ok (.tableswitch dflt lo hi offs, len)) (kk : gW Y P lv tgt st k n) : gW Y P lv pc (.int x :: st) k n :=
  fun H locs ls h9 hP hR hL hl => lv_tableOut F.1 F.2.1 d h ht (kk H locs ls h9 hP hR hL hl)
theorem g_tableIn (F : gF Y cc own rm hh ret) {dflt lo hi : Int} {offs : Array Int} {len : Nat} {x : Int32} {off : Int} {tgt : Nat} (h1 : ¬ x.toInt < lo) (h2 : ¬ hi < x.toInt) (ho : offs[(x.toInt - lo).toNat]? = some off) (ht : (pc : Int) + off = (tgt : Int)) (d : decode cc pc = .ok (.tableswitch dflt lo hi offs, len)) (kk : gW Y P lv tgt st k n) : gW Y P lv pc (.int x :: st) k n :=
  fun H locs ls h hP hR hL hl => lv_tableIn F.1 F.2.1 d h1 h2 ho ht (kk H locs ls h hP hR hL hl)
theorem g_lcmp (F : gF Y cc own rm hh ret) {x y : Int64} (d : decode cc pc = .ok (.lcmp, 1)) (kk : gW Y P lv (pc + 1) (.int (lg_cmp x y) :: st) k n) : gW Y P lv pc (.long y :: .long x :: st) k n := by
  intro H locs ls h hP hR hL hl
  exact W.lcmp F.1 F.2.1 d (kk H locs ls h hP hR hL hl)
theorem g_fcmp (F : gF Y cc own rm hh ret) {x y : UInt32} {op : CmpOp} (d : decode cc pc = .ok (.fcmp op, 1)) (kk : gW Y P lv (pc + 1) (.int (Op.cmpValue (FP.fcmp x y) op) :: st) k n) : gW Y P lv pc (.float y :: .float x :: st) k n :=
  fun H locs ls h hP hR hL hl => lv_fcmp F.1 F.2.1 d (kk H locs ls h hP hR hL hl)
theorem g_dcmp (F : gF Y cc own rm hh ret) {x y : UInt64} {op : CmpOp} (d : decode cc pc = .ok (.dcmp op, 1)) (kk : gW Y P lv (pc + 1) (.int (Op.cmpValue (FP.dcmp x y) op) :: st) k n) : gW Y P lv pc (.double y :: .double x :: st) k n :=
  fun H locs ls h hP hR hL hl => lv_dcmp F.1 F.2.1 d (kk H locs ls h hP hR hL hl)
theorem g_i2f (F : gF Y cc own rm hh ret) {x : Int32} (d : decode cc pc = .ok (.i2f, 1)) (kk : gW Y P lv (pc + 1) (.float (FP.i2f x) :: st) k n) : gW Y P lv pc (.int x :: st) k n :=
  fun H locs ls h hP hR hL hl => lv_i2f F.1 F.2.1 d (kk H locs ls h hP hR hL hl)
theorem g_i2d (F : gF Y cc own rm hh ret) {x : Int32} (d : decode cc pc = .ok (.i2d, 1)) (kk : gW Y P lv (pc + 1) (.double (FP.i2d x) :: st) k n) : gW Y P lv pc (.int x :: st) k n :=
  fun H locs ls h hP hR hL hl => lv_i2d F.1 F.2.1 d (kk H locs ls h hP hR hL hl)
theorem g_f2d (F : gF Y cc own rm hh ret) {x : UInt32} (hne : vf_n64 (FP.f2d x)) (d : decode cc pc = .ok (.f2d, 1)) (kk : gW Y P lv (pc + 1) (.double (FP.f2d x) :: st) k n) : gW Y P lv pc (.float x :: st) k n :=
  fun H locs ls h hP hR hL hl => lv_f2d F.1 F.2.1 d hne (kk H locs ls h hP hR hL hl)
theorem g_fdiv (F : gF Y cc own rm hh ret) {x y : UInt32} (hne : vf_n32 (FP.fdiv x y)) (d : decode cc pc = .ok (.fdiv, 1)) (kk : gW Y P lv (pc + 1) (.float (FP.fdiv x y) :: st) k n) : gW Y P lv pc (.float y :: .float x :: st) k n :=
  fun H locs ls h hP hR hL hl => lv_fdiv F.1 F.2.1 d hne (kk H locs ls h hP hR hL hl)
theorem g_ddiv (F : gF Y cc own rm hh ret) {x y : UInt64} (hne : vf_n64 (FP.ddiv x y)) (d : decode cc pc = .ok (.ddiv, 1)) (kk : gW Y P lv (pc + 1) (.double (FP.ddiv x y) :: st) k n) : gW Y P lv pc (.double y :: .double x :: st) k n :=
  fun H locs ls h hP hR hL hl => lv_ddiv F.1 F.2.1 d hne (kk H locs ls h hP hR hL hl)
theorem g_ldc (F : gF Y cc own rm hh ret) {index : Nat} {v : Int32} (hq : Cond.constant own index v ∈ lw_all) (d : decode cc pc = .ok (.ldc index, 2)) (kk : gW Y P lv (pc + 2) (.int v :: st) k n) : gW Y P lv pc st k n :=
  fun H locs ls h hP hR hL hl => lv_ldc F.1 F.2.1 F.2.2.2.1 (F.2.2.2.2.1 _ hq) d (kk H locs ls h hP hR hL hl)
theorem g_ldcw (F : gF Y cc own rm hh ret) {index : Nat} {v : Int32} (hq : Cond.constant own index v ∈ lw_all) (d : decode cc pc = .ok (.ldc_w index, 3)) (kk : gW Y P lv (pc + 3) (.int v :: st) k n) : gW Y P lv pc st k n :=
  fun H locs ls h hP hR hL hl => lv_ldcw F.1 F.2.1 F.2.2.2.1 (F.2.2.2.2.1 _ hq) d (kk H locs ls h hP hR hL hl)
theorem g_ldc2 (F : gF Y cc own rm hh ret) {index : Nat} {v : Int64} (hq : Cond.constantLong own index v ∈ lw_all) (d : decode cc pc = .ok (.ldc2_w index, 3)) (kk : gW Y P lv (pc + 3) (.long v :: st) k n) : gW Y P lv pc st k n :=
  fun H locs ls h hP hR hL hl => lv_ldc2 F.1 F.2.1 F.2.2.2.1 (F.2.2.2.2.1 _ hq) d (kk H locs ls h hP hR hL hl)
end GRULES
