section GMORE
variable {Y : gY} {cc : ByteArray} {own : String} {rm : Room} {hh : gHh} {ret : Option FieldType} {P P2 : gH → Prop} {lv : List (Nat × Value)} {pc k n : Nat} {st : List Value}
theorem gT_use {w : Cond} (hw : w ∈ gT) {A : Array Value} {U : State} (h : va_Nw w U) : w.before A U = true := by
  have hz := (List.mem_filter.mp hw).2
  cases w <;> first | exact Bool.noConfusion (show false = true from hz) | exact va_Nw.use rfl h | (rename_i ty; cases ty <;> first | exact Bool.noConfusion (show false = true from hz) | exact va_AO.use h)
theorem gR_kept {G : gG} {h : gH} {H : Heap} (hR : gR G h H) : ∀ a : Nat, a < G.2.2.2.1.size → ¬ gA G.2.2.1 a → H[a]? = G.2.2.2.1[a]? := fun a _ ha => hR.2.1 a (Nat.lt_of_not_le ha)
theorem g_objInit (F : gF Y cc own rm hh ret) {idx a : Nat} (hlink : Cond.methodLink own idx objectInit ∈ lw_all) (d : decode cc pc = .ok (.invokespecial idx, 3)) (hfr : 1 ≤ rm.frames) (hlo : (st.map fun v => v.category).sum + 12 ≤ rm.locals) (kk : gW Y P lv (pc + 3) st k n) : gW Y P lv pc (.ref a :: st) k n := by
  intro H locs ls h hP hR hL hl
  have hrm := gF_R F
  refine W.objInit F.1 F.2.1 F.2.2.2.1 (gF_t F hlink) (gF_t F q80) (gF_t F q81) rfl (by rw [F.2.2.1]; exact hl.1) rfl d (by rw [hrm]; exact hfr) (by rw [hrm]; show 2 * 0 + _ + 12 ≤ _; omega) ?_
  exact kk H locs ls h hP hR hL hl
/-- statics -/
theorem g_gets (F : gF Y cc own rm hh ret) {C n2 dsc : String} {v : Value} {index : Nat} (hZ : va_Z C n2 dsc v (gA Y.2.1.2.2.1) Y.1.2.2.2.2.1 Y.2.1.2.2.2.1) (hlink : Cond.fieldLink own index C n2 dsc ∈ lw_all) (d : decode cc pc = .ok (.getstatic index, 3)) (kk : gW Y P lv (pc + 3) (v :: st) k n) : gW Y P lv pc st k n := by
  intro H locs ls h hP hR hL hl
  obtain ⟨cf, kf, fi, f, a, cell, h1, h2, h3, h4, h5, h6, h7, h8⟩ := hZ.kept (gR_kept hR)
  exact W.gets F.1 F.2.1 F.2.2.2.1 (gF_t F hlink) h1 h2 h3 h4 h5 (fun e => by rw [e] at h6; cases h6) h7 rfl d (kk H locs ls h hP hR hL hl)
theorem g_getsq (F : gF Y cc own rm hh ret) {C n2 dsc : String} {index : Nat} (hZ : va_Zq C n2 dsc (gA Y.2.1.2.2.1) Y.1.2.2.2.2.1 Y.2.1.2.2.2.1) (hlink : Cond.fieldLink own index C n2 dsc ∈ lw_all) (d : decode cc pc = .ok (.getstatic index, 3)) (kk : ∀ v : Value, (v = .null ∨ ∃ t, v = .ref t) → gW Y P lv (pc + 3) (v :: st) k n) : gW Y P lv pc st k n := by
  rcases hZ with hZ | ⟨t, hZ⟩
  · exact g_gets F hZ hlink d (kk .null (Or.inl rfl))
  · exact g_gets F hZ hlink d (kk (.ref t) (Or.inr ⟨t, rfl⟩))
theorem gF_empty (F : gF Y cc own rm hh ret) : va_Z "java/util/ArrayList" "DEFAULTCAPACITY_EMPTY_ELEMENTDATA" "[Ljava/lang/Object;" (.ref (Y.2.1.2.2.2.2.2.2.1 0)) (gA Y.2.1.2.2.1) Y.1.2.2.2.2.1 Y.2.1.2.2.2.1 ∧ va_T (.object "java/lang/Object") (Y.2.1.2.2.2.2.2.2.1 0) 0 (fun _ => .null) (gA Y.2.1.2.2.1) Y.1.2.2.2.2.1 Y.2.1.2.2.2.1 := (gF_g F).2.2.2.2.1
theorem gF_str (F : gF Y cc own rm hh ret) : vk_S 7 gLen gByt Y.2.1.2.2.2.2.1 Y.2.1.2.2.2.2.2.1 (gA Y.2.1.2.2.1) Y.1.2.2.2.2.1 Y.2.1.2.2.2.1 ∧ ∀ r ∈ gStr, vk_R r.1 r.2.1 r.2.2.1 (Y.2.1.2.2.2.2.1 r.2.2.2) Y.1.2.2.2.2.1 := (gF_g F).2.2.2.1
theorem gF_compact (F : gF Y cc own rm hh ret) : va_Z "java/lang/String" "COMPACT_STRINGS" "Z" (.int 1) (gA Y.2.1.2.2.1) Y.1.2.2.2.2.1 Y.2.1.2.2.2.1 := (gF_g F).2.2.2.2.2.1
theorem gF_sioobe (F : gF Y cc own rm hh ret) : va_Zq "jdk/internal/util/Preconditions" "SIOOBE_FORMATTER" "Ljava/util/function/BiFunction;" (gA Y.2.1.2.2.1) Y.1.2.2.2.2.1 Y.2.1.2.2.2.1 := (gF_g F).2.2.2.2.2.2.1
theorem gF_thr (F : gF Y cc own rm hh ret) : vx_Zq Bundle.tN "UNASSIGNED_STACK" Bundle.steD (gA Y.2.1.2.2.1) Y.1.2.2.2.2.1 Y.2.1.2.2.2.1 ∧ vx_Zq Bundle.tN "SUPPRESSED_SENTINEL" Bundle.listD (gA Y.2.1.2.2.1) Y.1.2.2.2.2.1 Y.2.1.2.2.2.1 := (gF_g F).2.2.2.2.2.2.2.1
theorem gF_mirror (F : gF Y cc own rm hh ret) : va_Mi "[Ljava/lang/Object;" (Y.2.1.2.2.2.2.2.2.1 1) Y.1.2.2.2.2.1 := (gF_g F).2.2.2.2.2.2.2.2.1
/-- the length of the shared empty array -/
theorem g_alenE (F : gF Y cc own rm hh ret) (d : decode cc pc = .ok (.arraylength, 1)) (kk : gW Y P lv (pc + 1) (.int 0 :: st) k n) : gW Y P lv pc (.ref (Y.2.1.2.2.2.2.2.2.1 0) :: st) k n := by
  intro H locs ls h hP hR hL hl
  obtain ⟨cell, h1, h2, h3, h4, h5, h6, h7⟩ := (gF_empty F).2.kept (gR_kept hR)
  exact W.alen (n := Int32.ofNat 0) F.1 F.2.1 h1 h2 h5 rfl rfl d (kk H locs ls h hP hR hL hl)
/-- the literals -/
theorem g_ldcS (F : gF Y cc own rm hh ret) {tx : String} {index i : Nat} (hr : (own, index, tx, i) ∈ gStr) (d : decode cc pc = .ok (.ldc index, 2)) (kk : gW Y P lv (pc + 2) (.ref (Y.2.1.2.2.2.2.1 i) :: st) k n) : gW Y P lv pc st k n := by
  intro H locs ls h hP hR hL hl
  exact va_ldcS F.1 F.2.1 F.2.2.2.1 ((gF_str F).2 _ hr) d (kk H locs ls h hP hR hL hl)
theorem g_ldcSW (F : gF Y cc own rm hh ret) {tx : String} {index i : Nat} (hr : (own, index, tx, i) ∈ gStr) (d : decode cc pc = .ok (.ldc_w index, 3)) (kk : gW Y P lv (pc + 3) (.ref (Y.2.1.2.2.2.2.1 i) :: st) k n) : gW Y P lv pc st k n := by
  intro H locs ls h hP hR hL hl T hT X
  have hZ := (gF_str F).2 _ hr
  obtain ⟨t, a1, b1⟩ := kk H locs ls h hP hR hL hl T hT X
  have hown : Y.1.2.2.2.2.1.vm.findClass own = some Y.1.2.2.2.2.2.1.cls := F.2.2.2.1
  exact ⟨t, X.ldcStringW F.1 hown (text := tx) (a := Y.2.1.2.2.2.2.1 i) hZ.1 hZ.2 (g := F0 Y.1.2.2.2.2.2.1 pc ls st) rfl (by rw [F.2.1]; exact d) t a1, b1⟩
theorem g_sval (F : gF Y cc own rm hh ret) {i index : Nat} (hi : i < 7) (hlink : Cond.fieldLink own index "java/lang/String" "value" "[B" ∈ lw_all) (d : decode cc pc = .ok (.getfield index, 3)) (kk : gW Y P lv (pc + 3) (.ref (Y.2.1.2.2.2.2.2.1 i) :: st) k n) : gW Y P lv pc (.ref (Y.2.1.2.2.2.2.1 i) :: st) k n := by
  intro H locs ls h hP hR hL hl
  obtain ⟨cf, k, fi, f, cell, h1, h2, h3, h4, h5, h6⟩ := (((gF_str F).1.1 i hi).2.2.1).kept (gR_kept hR)
  exact W.getf F.1 F.2.1 F.2.2.2.1 (gF_t F hlink) h1 h2 h3 h4 h5 rfl rfl d (kk H locs ls h hP hR hL hl)
theorem g_scoder (F : gF Y cc own rm hh ret) {i index : Nat} (hi : i < 7) (hlink : Cond.fieldLink own index "java/lang/String" "coder" "B" ∈ lw_all) (d : decode cc pc = .ok (.getfield index, 3)) (kk : gW Y P lv (pc + 3) (.int 0 :: st) k n) : gW Y P lv pc (.ref (Y.2.1.2.2.2.2.1 i) :: st) k n := by
  intro H locs ls h hP hR hL hl
  obtain ⟨cf, k, fi, f, cell, h1, h2, h3, h4, h5, h6⟩ := (((gF_str F).1.1 i hi).2.1).kept (gR_kept hR)
  exact W.getf F.1 F.2.1 F.2.2.2.1 (gF_t F hlink) h1 h2 h3 h4 h5 rfl rfl d (kk H locs ls h hP hR hL hl)
theorem g_slen (F : gF Y cc own rm hh ret) {i : Nat} (hi : i < 7) (d : decode cc pc = .ok (.arraylength, 1)) (kk : gW Y P lv (pc + 1) (.int (nI (gLen.getD i 0)) :: st) k n) : gW Y P lv pc (.ref (Y.2.1.2.2.2.2.2.1 i) :: st) k n := by
  intro H locs ls h hP hR hL hl
  obtain ⟨cell, h1, h2, h3, h4, h5, h6, h7⟩ := (((gF_str F).1.1 i hi).2.2.2).kept (gR_kept hR)
  exact W.alen (n := Int32.ofNat (gLen.getD i 0)) F.1 F.2.1 h1 h2 h5 rfl rfl d (kk H locs ls h hP hR hL hl)
theorem g_sbald (F : gF Y cc own rm hh ret) {i : Nat} {j : Int32} (hi : i < 7) (hin : vp_in j (gLen.getD i 0)) (d : decode cc pc = .ok (.baload, 1)) (kk : gW Y P lv (pc + 1) (.int ((gByt.getD i []).getD j.toNatClampNeg 0) :: st) k n) : gW Y P lv pc (.int j :: .ref (Y.2.1.2.2.2.2.2.1 i) :: st) k n := by
  intro H locs ls h hP hR hL hl
  obtain ⟨cell, h1, h2, h3, h4, h5, h6, h7⟩ := (((gF_str F).1.1 i hi).2.2.2).kept (gR_kept hR)
  have hlt : j.toNatClampNeg < gLen.getD i 0 := Nat.not_le.mp fun q => hin (Or.inr q)
  have hin' : ¬ (j < 0 ∨ cell.slots.size ≤ j.toNatClampNeg) := by
    intro q
    rcases q with q | q
    · exact hin (Or.inl q)
    · omega
  exact W.bald F.1 F.2.1 h1 h2 h3 hin' (h6 _ hlt) rfl rfl d (kk H locs ls h hP hR hL hl)
theorem g_srecv (F : gF Y cc own rm hh ret) {i : Nat} (hi : i < 7) : gRecv Y P (Y.2.1.2.2.2.2.1 i) "java/lang/String" := by
  intro H h hP hR
  obtain ⟨cell, h1, h2, h3, h4⟩ := (((gF_str F).1.1 i hi).1).kept (gR_kept hR)
  exact ⟨cell, h1, h2, h3⟩
/-- casts -/
theorem g_cast (F : gF Y cc own rm hh ret) {C nm : String} {index a : Nat} (hr : gRecv Y P a C) (hlink : Cond.classLink own index nm ∈ lw_all) (hc : Cond.castable C nm ∈ gT) (d : decode cc pc = .ok (.checkcast index, 3)) (kk : gW Y P lv (pc + 3) (.ref a :: st) k n) : gW Y P lv pc (.ref a :: st) k n := by
  intro H locs ls h hP hR hL hl
  exact va_castY F.1 F.2.1 F.2.2.2.1 (gF_t F hlink) (gF_T F hc) (hr H h hP hR) d (kk H locs ls h hP hR hL hl)
theorem g_castS (F : gF Y cc own rm hh ret) {nm : String} {index a : Nat} (hr : gRecv Y P a nm) (hlink : Cond.classLink own index nm ∈ lw_all) (d : decode cc pc = .ok (.checkcast index, 3)) (kk : gW Y P lv (pc + 3) (.ref a :: st) k n) : gW Y P lv pc (.ref a :: st) k n := by
  intro H locs ls h hP hR hL hl
  obtain ⟨cell, h1, h2, h3⟩ := hr H h hP hR
  intro T hT X
  obtain ⟨vm', X', st'⟩ := X.checkcastYes F.1 F.2.2.2.1 (gF_t F hlink) (by rw [hT]; exact h1) h2 h3 (va_asg _ _) (g := F0 Y.1.2.2.2.2.2.1 pc ls (.ref a :: st)) rfl rfl (by rw [F.2.1]; exact d)
  obtain ⟨t, a1, b1⟩ := kk H locs ls h hP hR hL hl (T.setVm vm') hT X'
  exact ⟨t, st' t a1, b1⟩
theorem g_instS (F : gF Y cc own rm hh ret) {nm : String} {index a : Nat} (hr : gRecv Y P a nm) (hlink : Cond.classLink own index nm ∈ lw_all) (d : decode cc pc = .ok (.instanceof index, 3)) (kk : gW Y P lv (pc + 3) (.int 1 :: st) k n) : gW Y P lv pc (.ref a :: st) k n := by
  intro H locs ls h hP hR hL hl
  exact va_instE F.1 F.2.1 F.2.2.2.1 (gF_t F hlink) (hr H h hP hR) d (kk H locs ls h hP hR hL hl)
theorem g_instNo (F : gF Y cc own rm hh ret) {C nm : String} {index a : Nat} (hr : gRecv Y P a C) (hlink : Cond.classLink own index nm ∈ lw_all) (hno : (C, nm) ∈ gNo) (d : decode cc pc = .ok (.instanceof index, 3)) (kk : gW Y P lv (pc + 3) (.int 0 :: st) k n) : gW Y P lv pc (.ref a :: st) k n := by
  intro H locs ls h hP hR hL hl
  exact va_instNo F.1 F.2.1 F.2.2.2.1 (gF_t F hlink) ((gF_g F).2.2.2.2.2.2.2.2.2.1 _ hno) (hr H h hP hR) d (kk H locs ls h hP hR hL hl)
theorem g_castN (F : gF Y cc own rm hh ret) {index : Nat} (d : decode cc pc = .ok (.checkcast index, 3)) (kk : gW Y P lv (pc + 3) (.null :: st) k n) : gW Y P lv pc (.null :: st) k n :=
  fun H locs ls h hP hR hL hl => lv_castN F.1 F.2.1 d (kk H locs ls h hP hR hL hl)
/-- Object[] stores -/
theorem g_aast (F : gF Y cc own rm hh ret) {a v N : Nat} {C : String} {f : Nat → Option Nat} {i : Int32} (hin : vp_in i N) (hr : gRecv Y P v C) (hc : Cond.castable C "java/lang/Object" ∈ gT) (hg : ∀ h, P h → ∃ τ, h a = some (τ, gOA Y.2.1 N f) ∧ P2 (gset h a τ (gOA Y.2.1 N (va_up f i.toNatClampNeg (some v))))) (d : decode cc pc = .ok (.aastore, 1)) (kk : gW Y P2 lv (pc + 1) st k n) : gW Y P lv pc (.ref v :: .int i :: .ref a :: st) k n := by
  intro H locs ls h hP hR hL hl
  obtain ⟨τ, h1, h2⟩ := hg h hP
  obtain ⟨cellV, g1, g2, g3⟩ := hr H h hP hR
  have hB := (hR.1 a τ _ h1).1
  have hlt : i.toNatClampNeg < N := Nat.not_le.mp fun q => hin (Or.inr q)
  have h0 : ¬ i < 0 := fun q => hin (Or.inl q)
  obtain ⟨kA, comp, k1, k2, k3, -⟩ := ((gF_K F).2 4 (Y.2.1.2.1 4, .object "java/lang/Object") rfl).2
  obtain ⟨kE, hkE, -⟩ := Vm.findClass_spec k3
  obtain ⟨c0, t1, f1, f2, f3⟩ := Cond.castable_spec (va_Nw.use (A := Y.1.2.2.2.2.2.2.1) rfl (gF_T F hc))
  cases g3.symm.trans f1
  cases k3.symm.trans f2
  obtain ⟨kC, hkC, -⟩ := Vm.findClass_spec f1
  refine W.aast F.1 F.2.1 (hR.1 a τ _ h1).2 (fun q h => by cases h) (fun h => by cases h) k1 k2 rfl hkE ⟨h0, by show _ < (arrV _ _ _).slots.size; rw [arrV_size]; exact hlt⟩ g1 (fun q h => by rw [h] at g2; cases g2) hkC f3 rfl rfl d fun H1 e z oq => ?_
  refine kk H1 _ ls _ h2 (gR_put (e1 := gOA Y.2.1 N (va_up f i.toNatClampNeg (some v))) hR h1 ?_ z oq τ) (g_loc hL hB) hl
  show H1[a]? = some (vp_cell _ _)
  rw [e]
  rw [vp_cell_q, vp_cell_q, arrV_store]
  congr 2
  funext q
  by_cases hq : q = i.toNatClampNeg
  · subst hq
    simp [updV, va_up, va_rf]
  · simp [updV, va_up, hq]
/-- a throw of an object at hand -/
theorem g_athrow (F : gF Y cc own rm hh ret) {ci N q : Nat} {C : String} {T : u_T} {ty : Nat → FieldType} (hc : gCl ci C T N ty) (hg : ∀ h, P h → ∃ τ fs, h q = some (τ, .inr (ci, fs))) (d : decode cc pc = .ok (.athrow, 1)) (kk : gX Y P lv pc k n C) : gW Y P lv pc (.ref q :: st) k n := by
  intro H locs ls h hP hR hL hl
  obtain ⟨τ, fs, h1⟩ := hg h hP
  obtain ⟨hB, r, g1, cell, q1, q2, q3, q4⟩ := hR.1 q τ _ h1
  have hr : r = (C, T, N) := Option.some.inj (g1.symm.trans hc.1)
  subst hr
  exact vx_athrow F.1 F.2.1 d (kk H locs ls h q cell st hP hR hL hl q1 q3 (by rw [q2]; exact ((gF_K F).1 ci _ hc.1).2.1))
/-- 'throw new E()' -/
theorem g_throw0 (F : gF Y cc own rm [] ret) {Qr : Option Value → gH → Prop} {Qx : String → gH → Prop} (E : gEn Y rm Qr Qx) {cls : String} {names : List String} {ik ic : Nat} (hcls : Bundle.fit cls = true) (hnames : ∀ n ∈ names, Bundle.fit n = true) (hk : Cond.classLink own ik cls ∈ lw_all) (hini : Cond.initialized cls ∈ lw_all) (hat : ∀ w ∈ vx_at0 own ic cls names, w ∈ lw_all ∨ w ∈ gT)
    (hgood : ∀ w ∈ Cond.classLink own ik cls :: Cond.initialized cls :: vx_at0 own ic cls names, vx_ot w = true) (d0 : decode cc pc = .ok (.new ik, 3)) (d3 : decode cc (pc + 3) = .ok (.dup, 1)) (d4 : decode cc (pc + 4) = .ok (.invokespecial ic, 3)) (d7 : decode cc (pc + 7) = .ok (.athrow, 1))
    (hf : names.length + 3 < rm.frames) (hlo : (st.map fun v => v.category).sum + (13 * (names.length + 1) + 42) ≤ rm.locals) (hkc : k + 1 ≤ rm.cells) (hns : n + 6 ≤ rm.slots) (hq : ∀ h, P h → Qx cls h) : gW Y P lv pc st k n := by
  intro H locs ls h hP hR hL hl
  have hrm := gF_R F
  rw [show Y.2.2.2 = _ from E]
  intro T hT X
  have hz := gF_thr F
  have hs0 : ∀ a : Nat, a < Y.2.1.2.2.2.1.size → ¬ gA Y.2.1.2.2.1 a → Y.1.2.2.2.2.1.heap[a]? = Y.2.1.2.2.2.1[a]? := fun a _ ha => F.2.2.2.2.2.2.2.2.2.2.2.2 a (Nat.lt_of_not_le ha)
  have hsz : Y.1.2.2.2.2.1.heap.size ≤ H.size := by
    rw [← hT]
    exact X.same.2.1
  have hS : va_S (gA Y.2.1.2.2.1) Y.1.2.2.2.2.1.heap H locs := ⟨hsz, fun q _ hq => (hR.2.1 q (Nat.lt_of_not_le hq)).trans (F.2.2.2.2.2.2.2.2.2.2.2.2 q (Nat.lt_of_not_le hq)).symm, hL⟩
  have hb : ∀ x ∈ Y.1.2.2.2.2.2.2.2.2.2.exceptionTable.toList, covers x (pc + 7) = false := by
    rw [F.2.2.2.2.2.2.2.2.1]
    intro x hx
    cases hx
  exact vx_throw0 F.1 F.2.1 F.2.2.2.2.2.2.2.1 F.2.2.2.1 hcls hnames (gF_t F hk) (gF_t F hini) (fun w hw => (hat w hw).elim (gF_t F) (fun h => gT_use h (gF_T F h))) hgood (hz.1.kept hs0) (hz.2.kept hs0) hS (hl.1.trans F.2.2.1.symm) d0 d3 d4 d7 hb (by rw [hrm]; exact hf) (by rw [hrm]; exact hlo) (by rw [hrm]; omega) (by rw [hrm]; omega) F.2.2.2.2.2.2.1 (fun t hA hz hke => ⟨h, hq h hP, ⟨fun a τ e ha => ⟨(hR.1 a τ e ha).1, (hR.1 a τ e ha).2.kept (hke a (gR_lt hR ha))⟩, fun q hq => (hke q (Nat.lt_of_lt_of_le hq hR.2.2)).trans (hR.2.1 q hq), Nat.le_trans hR.2.2 hz⟩⟩) hL hkc hns T hT X
end GMORE
