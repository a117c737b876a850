section GFACE
variable {Y : gY} {cc : ByteArray} {own : String} {rm : Room} {hh : gHh} {ret : Option FieldType} {P P2 : gH → Prop} {lv : List (Nat × Value)} {pc k n : Nat} {st : List Value}
/-- an int array as a receiver -/
theorem g_recvI (F : gF Y cc own rm hh ret) {b N : Nat} {f : Nat → Int32} (hg : ∀ h, P h → ∃ τ, h b = some (τ, gIA Y.2.1 N f)) : gRecv Y P b "[I" := by
  intro H h hP hR
  obtain ⟨τ, h1⟩ := hg h hP
  exact ⟨_, (hR.1 b τ _ h1).2, rfl, ((gF_K F).2 0 (Y.2.1.2.1 0, .int) rfl).2⟩
theorem g_recvO (F : gF Y cc own rm hh ret) {b N : Nat} {f : Nat → Option Nat} (hg : ∀ h, P h → ∃ τ, h b = some (τ, gOA Y.2.1 N f)) : gRecv Y P b "[Ljava/lang/Object;" := by
  intro H h hP hR
  obtain ⟨τ, h1⟩ := hg h hP
  obtain ⟨kA, comp, k1, k2, k3, k4⟩ := ((gF_K F).2 4 (Y.2.1.2.1 4, .object "java/lang/Object") rfl).2
  exact ⟨_, (hR.1 b τ _ h1).2, rfl, k4⟩
/-- calls by an interface -/
theorem g_callF (F : gF Y cc own rm hh ret) {ci N : Nat} {C : String} {T : u_T} {ty : Nat → FieldType} (hc : gCl ci C T N ty) {x y : MethodName} {bytes : ByteArray} {maxL index count b : Nat} {r : Option FieldType} {rm2 : Room} {As rest : List Value} {Qr : Option Value → gH → Prop} {Qx : String → gH → Prop} {nA : Nat} (hM : gMet Y.1.2.1 y (ws_ y bytes maxL r) rm2 Y.2.1 (.ref b :: As) P Qr Qx) (hrv : gRecv Y P b C) (q1 : Cond.methodLink own index x ∈ lw_all) (q2 : Cond.selects C x y ∈ lw_all) (q3 : Cond.instanceMethod y ∈ lw_all) (q4 : Cond.initialized y.cls ∈ lw_all) (q5 : Cond.code y bytes maxL r ∈ lw_all) (hx : x ∈ gFaces) (q6 : Cond.publicMethod y ∈ gT) (q7 : Cond.unhidden C x.name x.desc ∈ gT) (q8 : Cond.castable C x.cls ∈ gT) (hd : gMd x nA) (hR : gRm rm2 rm maxL) (hn : As.length = nA) (hst : st = As.reverse ++ .ref b :: rest) (hcat : (rest.map fun v => v.category).sum ≤ 8) (k2 n2 : Nat) (hk : k + rm2.cells ≤ k2) (hn2 : n + rm2.slots ≤ n2) (hkr : k2 ≤ rm.cells) (hnr : n2 ≤ rm.slots) (d : decode cc pc = .ok (.invokeinterface index count, 5))
    (kx : ∀ E, gX Y (Qx E) lv pc k2 n2 E) (kk : ∀ v, gW Y (Qr v) lv (pc + 5) (v.toList ++ rest) k2 n2) : gW Y P lv pc st k n := by
  intro H locs ls h hP hRR hL hl
  have hrm := gF_R F
  have hpre := g_PreS F (As := .ref b :: As) hP hRR
  have hf := (gF_g F).2.2.1 x hx
  have hG : GoodIn lw_all (va_wsF own index C x y (ws_ y bytes maxL r)) := by
    refine lw_app ?_ (lw_meth q5)
    intro w hw
    simp only [List.mem_cons, List.not_mem_nil, or_false] at hw
    rcases hw with e | e | e | e
    · rw [e]; exact q1
    · rw [e]; exact q2
    · rw [e]; exact q3
    · rw [e]; exact q4
  refine g_run5 F (mc := rm2.cells) (ms := rm2.slots) (fun _ _ _ h => h) (vx_runF (C := C) ((gF_K F).1 ci _ hc.1).2 (gF_S F) hM (va_cwF nA F.2.2.2.2.1 hG rfl rfl rfl ⟨hf.2, hf.1, gF_T F q6, gF_T F q7, gF_T F q8⟩ hd (by rw [hrm]; exact hR)) ⟨hpre.1, hrv H h hP hRR, hpre.2⟩ rfl hn hl.1 hst (lv_room hcat) d ⟨by rw [hrm]; omega, by rw [hrm]; omega⟩) hL hl hk hn2 kx kk
/-- a nest mate's private static method, and private constructor -/
theorem g_callSN (F : gF Y cc own rm hh ret) {y : MethodName} {bytes : ByteArray} {maxL index : Nat} {host : String} {r : Option FieldType} {rm2 : Room} {As rest : List Value} {Qr : Option Value → gH → Prop} {Qx : String → gH → Prop} {nA : Nat} (hM : gMet Y.1.2.1 y (ws_ y bytes maxL r) rm2 Y.2.1 As P Qr Qx) (q1 : Cond.methodLinkNest own index y host ∈ gT) (q2 : Cond.static y ∈ lw_all) (q3 : Cond.initialized y.cls ∈ lw_all) (q4 : Cond.code y bytes maxL r ∈ lw_all) (hd : gMd y nA) (hR : gRm rm2 rm maxL) (hn : As.length = nA) (hst : st = As.reverse ++ rest) (hcat : (rest.map fun v => v.category).sum ≤ 8) (k2 n2 : Nat) (hk : k + rm2.cells ≤ k2) (hn2 : n + rm2.slots ≤ n2) (hkr : k2 ≤ rm.cells) (hnr : n2 ≤ rm.slots) (d : decode cc pc = .ok (.invokestatic index, 3))
    (kx : ∀ E, gX Y (Qx E) lv pc k2 n2 E) (kk : ∀ v, gW Y (Qr v) lv (pc + 3) (v.toList ++ rest) k2 n2) : gW Y P lv pc st k n := by
  intro H locs ls h hP hRR hL hl
  have hrm := gF_R F
  refine g_run F (mc := rm2.cells) (ms := rm2.slots) (fun _ _ _ h => h) (vx_runSN (gF_S F) hM ⟨va_cnB nA F.2.2.2.2.1 (lw_meth q4) rfl rfl rfl (gF_T F q1) (gF_t F q3) hd (by rw [hrm]; exact hR), gF_t F q2, trivial⟩ (g_PreS F hP hRR) rfl hn hl.1 hst (lv_room hcat) d ⟨by rw [hrm]; omega, by rw [hrm]; omega⟩) hL hl hk hn2 kx kk
theorem g_callIN (F : gF Y cc own rm hh ret) {y : MethodName} {bytes : ByteArray} {maxL index b : Nat} {host : String} {rm2 : Room} {As rest : List Value} {Qr : Option Value → gH → Prop} {Qx : String → gH → Prop} {nA : Nat} (hM : gMet Y.1.2.1 y (ws_ y bytes maxL none) rm2 Y.2.1 (.ref b :: As) P Qr Qx) (hy1 : y.name = "<init>") (q1 : Cond.methodLinkNest own index y host ∈ gT) (q2 : Cond.instanceMethod y ∈ lw_all) (q3 : Cond.initialized y.cls ∈ lw_all) (q4 : Cond.code y bytes maxL none ∈ lw_all) (hd : gMd y nA) (hR : gRm rm2 rm maxL) (hn : As.length = nA) (hst : st = As.reverse ++ .ref b :: rest) (hcat : (rest.map fun v => v.category).sum ≤ 8) (k2 n2 : Nat) (hk : k + rm2.cells ≤ k2) (hn2 : n + rm2.slots ≤ n2) (hkr : k2 ≤ rm.cells) (hnr : n2 ≤ rm.slots) (d : decode cc pc = .ok (.invokespecial index, 3))
    (kx : ∀ E, gX Y (Qx E) lv pc k2 n2 E) (kk : ∀ v, gW Y (Qr v) lv (pc + 3) (v.toList ++ rest) k2 n2) : gW Y P lv pc st k n := by
  intro H locs ls h hP hRR hL hl
  have hrm := gF_R F
  refine g_run F (mc := rm2.cells) (ms := rm2.slots) (fun _ _ _ h => h) (vx_runIN (gF_S F) hM ⟨va_cnB nA F.2.2.2.2.1 (lw_meth q4) rfl rfl rfl (gF_T F q1) (gF_t F q3) hd (by rw [hrm]; exact hR), hy1, gF_t F q2⟩ (g_PreS F hP hRR) rfl hn hl.1 hst (lv_room hcat) d ⟨by rw [hrm]; omega, by rw [hrm]; omega⟩) hL hl hk hn2 kx kk
/-- System.arraycopy of a whole array of references into another -/
theorem g_copyq (F : gF Y cc own rm hh ret) {index a0 a n0 n1 : Nat} {f g : Nat → Option Nat} {x : Int32} {m : Nat} (hlink : Cond.methodLink own index arraycopyName ∈ lw_all) (hnat : Cond.native arraycopyName ∈ lw_all) (hstat : Cond.static arraycopyName ∈ lw_all) (hini : Cond.initialized "java/lang/System" ∈ lw_all) (hx : ¬ x < 0) (hm : x.toNatClampNeg = m) (h4 : m ≤ n0) (h5 : m ≤ n1) (hne : a0 ≠ a)
    (hg0 : ∀ h, P h → ∃ τ, h a0 = some (τ, gOA Y.2.1 n0 f)) (hg1 : ∀ h, P h → ∃ τ, h a = some (τ, gOA Y.2.1 n1 g) ∧ P2 (gset h a τ (gOA Y.2.1 n1 (va_cpy f g 0 0 m))))
    (hel : ∀ (H : Heap) (h : gH), P h → gR Y.2.1 h H → ∀ i : Nat, i < m → ∀ y : Nat, f i = some y → ∃ cellV : Cell, H[y]? = some cellV ∧ cellV.vm.isStatics = false ∧ ∃ C : String, Y.1.2.2.2.2.1.vm.findClass C = some cellV.cls ∧ Cond.castable C "java/lang/Object" ∈ gT)
    (hfr : 1 ≤ rm.frames) (hlo : (st.map fun v => v.category).sum + (nativeFrameWords "java/lang/System" "arraycopy" 5 + 11) ≤ rm.locals) (d : decode cc pc = .ok (.invokestatic index, 3)) (kk : gW Y P2 lv (pc + 3) st k n) : gW Y P lv pc (.int x :: .int 0 :: .ref a :: .int 0 :: .ref a0 :: st) k n := by
  subst hm
  intro H locs ls h hP hR hL hl
  have hrm := gF_R F
  obtain ⟨τ0, q0⟩ := hg0 h hP
  obtain ⟨τ1, q1, q2⟩ := hg1 h hP
  have hB := (hR.1 a τ1 _ q1).1
  intro T hT X
  have hc0 : H[a0]? = some (vp_cell (Y.2.1.2.1 4) (n0, .inr (.inr (.inr (.inr f))))) := (hR.1 a0 τ0 _ q0).2
  have hc1 : H[a]? = some (vp_cell (Y.2.1.2.1 4) (n1, .inr (.inr (.inr (.inr g))))) := (hR.1 a τ1 _ q1).2
  obtain ⟨hA4, kA, comp, r1, r2, r3, r4⟩ := (gF_K F).2 4 (Y.2.1.2.1 4, .object "java/lang/Object") rfl
  have z0 : (0 : Int32).toNatClampNeg = 0 := by decide
  have nx : x.toInt = (x.toNatClampNeg : Int) := by
    have hz0 : (0 : Int) ≤ x.toInt := by
      have := Int32.not_lt.mp hx
      simpa using Int32.le_iff_toInt_le.mp this
    show x.toInt = ((x.toInt.toNat : Nat) : Int)
    omega
  obtain ⟨vm', X', step⟩ := X.arraycopy F.1 F.2.2.2.1 (gF_t F hlink) (gF_t F hnat) (gF_t F hstat) (gF_t F hini) (src := a0) (dst := a) (cs := vp_cell (Y.2.1.2.1 4) (n0, .inr (.inr (.inr (.inr f))))) (cd := vp_cell (Y.2.1.2.1 4) (n1, .inr (.inr (.inr (.inr g))))) (srcPos := 0) (destPos := 0) (n := x) (by rw [hT]; exact hc0) (by rw [hT]; exact hc1)
    (fun _ h => by cases h) (fun _ h => by cases h) (fun h => by cases h) (fun h => by cases h) r1 r1 r2 r2 rfl (by decide) (by decide) hx
    (by rw [nx, Int32.toInt_zero]; show ¬ _ > ((arrV (Y.2.1.2.1 4) n0 (fun j => va_rf (f j))).slots.size : Int); rw [arrV_size]; omega)
    (by rw [nx, Int32.toInt_zero]; show ¬ _ > ((arrV (Y.2.1.2.1 4) n1 (fun j => va_rf (g j))).slots.size : Int); rw [arrV_size]; omega)
    (fun vm₁ hal i hi => by
      rw [z0, Nat.zero_add]
      have e : (vp_cell (Y.2.1.2.1 4) (n0, .inr (.inr (.inr (.inr f))))).slots.getD i .null = va_rf (f i) := by
        show (arrV (Y.2.1.2.1 4) n0 (fun j => va_rf (f j))).slots.getD _ _ = _
        rw [Array.getD_eq_getD_getElem?, arrV_read _ _ (by omega)]
        rfl
      rw [e]
      cases hy : f i with
      | none => exact ⟨rfl, trivial⟩
      | some y =>
        obtain ⟨cellV, g1, g2, C, g3, g4⟩ := hel H h hP hR i hi y hy
        obtain ⟨c0, t1, f1, f2, f3⟩ := Cond.castable_spec (va_Nw.use (A := Y.1.2.2.2.2.2.2.1) rfl (gF_T F g4))
        cases g3.symm.trans f1
        cases r3.symm.trans f2
        obtain ⟨kC, hkC, -⟩ := Vm.findClass_spec g3
        obtain ⟨kE, hkE, -⟩ := Vm.findClass_spec r3
        obtain ⟨kC', hkC', -⟩ := hal.2.2 _ _ hkC
        obtain ⟨kE', hkE', -⟩ := hal.2.2 _ _ hkE
        refine ⟨rfl, cellV, (show T.heap[y]? = some cellV by rw [hT]; exact g1), (fun q h => by rw [h] at g2; cases g2), ⟨kC', hkC'⟩, ?_, ?_⟩
        · exact ⟨kE', hkE'⟩
        · show vm₁.assignable _ _ = true
          rw [hal.assignable]
          exact f3)
    (g := F0 Y.1.2.2.2.2.2.1 pc ls (.int x :: .int 0 :: .ref a :: .int 0 :: .ref a0 :: st)) rfl (by rw [F.2.2.1]; exact hl.1) (rest := st) rfl (by rw [F.2.1]; exact d) (by rw [hrm]; exact hfr) (by rw [hrm]; show 2 * 0 + _ + _ ≤ _; omega)
  have e1 : copied (vp_cell (Y.2.1.2.1 4) (n0, .inr (.inr (.inr (.inr f))))) (vp_cell (Y.2.1.2.1 4) (n1, .inr (.inr (.inr (.inr g))))) 0 0 x = vp_cell (Y.2.1.2.1 4) (n1, .inr (.inr (.inr (.inr (va_cpy f g 0 0 x.toNatClampNeg))))) := by
    rw [vp_cell_q, vp_cell_q, vp_cell_q]
    have h9 : copied (arrV (Y.2.1.2.1 4) n0 (fun j => va_rf (f j))) (arrV (Y.2.1.2.1 4) n1 (fun j => va_rf (g j))) 0 0 x = arrV (Y.2.1.2.1 4) n1 (fun j => va_rf (va_cpy f g (0 : Int32).toNatClampNeg (0 : Int32).toNatClampNeg x.toNatClampNeg j)) := va_copied (fun z => va_rf z) (Y.2.1.2.1 4) (Y.2.1.2.1 4) f g (by rw [z0]; omega)
    rw [z0] at h9
    exact h9
  rw [e1] at X' step
  have hl1 : a < H.size := (Array.getElem?_eq_some_iff.mp hc1).1
  have hheap : ((T.setVm vm').setCell a (vp_cell (Y.2.1.2.1 4) (n1, .inr (.inr (.inr (.inr (va_cpy f g 0 0 x.toNatClampNeg))))))).heap = H.setIfInBounds a (vp_cell (Y.2.1.2.1 4) (n1, .inr (.inr (.inr (.inr (va_cpy f g 0 0 x.toNatClampNeg)))))) := by rw [← hT]; rfl
  have oq : ∀ q : Nat, q ≠ a → (H.setIfInBounds a (vp_cell (Y.2.1.2.1 4) (n1, .inr (.inr (.inr (.inr (va_cpy f g 0 0 x.toNatClampNeg)))))))[q]? = H[q]? := fun q hq => by simp [Array.getElem?_setIfInBounds, Ne.symm hq]
  obtain ⟨t, a1, b1⟩ := kk _ _ ls _ q2 (gR_put (e1 := gOA Y.2.1 n1 (va_cpy f g 0 0 x.toNatClampNeg)) (H1 := H.setIfInBounds a (vp_cell (Y.2.1.2.1 4) (n1, .inr (.inr (.inr (.inr (va_cpy f g 0 0 x.toNatClampNeg))))))) hR q1 (show (H.setIfInBounds a _)[a]? = some _ by simp [Array.getElem?_setIfInBounds, hl1]) (by simp) oq τ1) (fun z hz => by
      rcases List.mem_append.mp hz with h | h
      · exact hL z h
      · obtain ⟨w, -, hw⟩ := List.mem_map.mp h
        rw [← hw]
        exact hB) hl _ hheap X'
  exact ⟨t, step t a1, b1⟩
/-- getClass() of an Object[], and the class constant -/
theorem g_getC (F : gF Y cc own rm hh ret) {index a : Nat} (hr : gRecv Y P a "[Ljava/lang/Object;") (q1 : Cond.methodLink own index ⟨"java/lang/Object", "getClass", "()Ljava/lang/Class;"⟩ ∈ lw_all) (q2 : Cond.declares ⟨"java/lang/Object", "getClass", "()Ljava/lang/Class;"⟩ ∈ gT) (q3 : Cond.selects "[Ljava/lang/Object;" ⟨"java/lang/Object", "getClass", "()Ljava/lang/Class;"⟩ ⟨"java/lang/Object", "getClass", "()Ljava/lang/Class;"⟩ ∈ lw_all) (q4 : Cond.instanceMethod ⟨"java/lang/Object", "getClass", "()Ljava/lang/Class;"⟩ ∈ lw_all) (q5 : Cond.native ⟨"java/lang/Object", "getClass", "()Ljava/lang/Class;"⟩ ∈ lw_all) (hfr : 1 ≤ rm.frames) (hlo : (st.map fun v => v.category).sum + 14 ≤ rm.locals) (d : decode cc pc = .ok (.invokevirtual index, 3)) (kk : gW Y P lv (pc + 3) (.ref (Y.2.1.2.2.2.2.2.2.1 1) :: st) k n) : gW Y P lv pc (.ref a :: st) k n := by
  intro H locs ls h hP hR hL hl
  have hrm := gF_R F
  exact va_getC F.1 F.2.1 (F.2.2.1.trans hl.1.symm) F.2.2.2.1 (gF_t F q1) (gT_use q2 (gF_T F q2)) (gF_t F q3) (gF_t F q4) (gF_t F q5) (gF_mirror F) (hr H h hP hR) (by rw [hrm]; exact hfr) (by rw [hrm]; exact hlo) d (kk H locs ls h hP hR hL hl)
theorem g_ldcM (F : gF Y cc own rm hh ret) {index : Nat} (hlink : Cond.classLink own index "[Ljava/lang/Object;" ∈ lw_all) (d : decode cc pc = .ok (.ldc index, 2)) (kk : gW Y P lv (pc + 2) (.ref (Y.2.1.2.2.2.2.2.2.1 1) :: st) k n) : gW Y P lv pc st k n :=
  fun H locs ls h hP hR hL hl => va_ldcM F.1 F.2.1 F.2.2.2.1 (gF_t F hlink) (gF_mirror F) d (kk H locs ls h hP hR hL hl)
end GFACE
