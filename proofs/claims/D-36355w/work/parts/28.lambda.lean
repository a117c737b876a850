/-! LAMBDAS -/
/-- what the run carries of its start's tables -/
def gKL (s0 : State) : State → Prop := fun U => s0.WarmedH U.vm
/-- a call site that has been linked ahead of the run -/
def gSite (G : gG) (y : MethodName) (pc index : Nat) (σ : Lambda.Shape) (c : ClassId) (one : Option Nat) : Prop := ∃ s0 : State, G.2.2.2.2.2.2.2 = gKL s0 ∧ s0.heap = G.2.2.2.1 ∧ s0.lambdaAt? y pc index σ = some (c, one)
theorem gMet_ofN {l : Launch} {y : MethodName} {rm : Room} {G : gG} {av : List Value} {P : gH → Prop} {Qr : Option Value → gH → Prop} {Qx : String → gH → Prop} {cc : ByteArray} {maxL : Nat} {ret : Option FieldType} (hl : l.stackTraces = false) (hy : plainName y.cls = true) (hav : (lg_sl av).length ≤ maxL)
    (body : ∀ (X : gC) (Q : State → Prop), X.2.1 = l → gF (X, G, maxL, Q) cc y.cls rm [] ret → gEn (X, G, maxL, Q) rm Qr Qx → X.2.2.2.2.1.methodNamed? y = some X.2.2.2.2.2.1 → gW (X, G, maxL, Q) P (lv_args 0 av) 0 [] 0 0) :
    gMet l y (ws_ y cc maxL ret) rm G av P Qr Qx := by
  refine vx_ofW (cc := cc) (maxL := maxL) (ret := ret) hy rfl ?_
  intro p e s m args below meth c s₁ B hml ht hv
  obtain ⟨rfl, ⟨h, hP, hR⟩, hK⟩ := hv
  have hts := atoms_spec (ws := ws_ y cc maxL ret) B.pre
  have htb : c.exceptionTable.toList = tableOf [] := by
    cases hx : c.exceptionTable.toList with
    | nil => rfl
    | cons a b => exact (ht a (by rw [hx]; exact List.mem_cons_self)).elim
  have h1 := body (p, l, e, rm, s, m, av.toArray, below, meth, c) (gQ below av.toArray s rm.cells rm.slots G Qr Qx) rfl
    ⟨B.exec, B.bytes, hml, findClass_of_methodNamed B.named, fun w h => hts w (List.mem_cons_of_mem _ h), rfl, B.notSynchronized, hl, htb, B.returns, hK, hR.2.2, hR.2.1⟩ rfl B.named
  have hlv := lv_entry av (n := maxL) hav
  rw [lg_entry_eq]
  exact h1 s.heap [] _ h hP hR (fun z hz => by cases hz) hlv
theorem gMethodNamed_warm {s : State} {U : State} (hW : s.WarmedH U.vm) {x : MethodName} {m : MethodId} (hm : s.methodNamed? x = some m) : U.methodNamed? x = some m := by
  have := State.methodNamed?_setVm (s := s) hW.alike x
  rw [hm] at this
  exact this
section GW28
variable {Y : gY} {cc : ByteArray} {own : String} {rm : Room} {hh : gHh} {ret : Option FieldType} {P P2 : gH → Prop} {lv : List (Nat × Value)} {pc k n : Nat} {st : List Value}
theorem gF_KL (F : gF Y cc own rm hh ret) : Y.2.1.2.2.2.2.2.2.2 Y.1.2.2.2.2.1 := (gF_g F).2.2.2.2.2.2.2.2.2.2.1
/-- a site that captures nothing -/
theorem g_indyC (F : gF Y cc own rm hh ret) {y : MethodName} {index a : Nat} {σ : Lambda.Shape} {c : ClassId} (hN : Y.1.2.2.2.2.1.methodNamed? y = some Y.1.2.2.2.2.2.1) (hs : gSite Y.2.1 y pc index σ c (some a)) (hlo : (st.map fun v => v.category).sum + 3072 ≤ rm.locals) (d : decode cc pc = .ok (.invokedynamic index, 5)) (kk : gW Y P lv (pc + 5) (.ref a :: st) k n) : gW Y P lv pc st k n := by
  intro H locs ls h hP hR hL hl T hT X
  have hrm := gF_R F
  obtain ⟨s0, e1, e2, hat⟩ := hs
  have hK : s0.WarmedH Y.1.2.2.2.2.1.vm := by
    have := gF_KL F
    rw [e1] at this
    exact this
  obtain ⟨m0, k0, cf, i0, p0, lk, hm0, hk0, hcf, hsh, hin, hfind, hmade, hcan, hlk⟩ := State.lambdaAt?_spec hat
  obtain ⟨b, rfl, hb⟩ : ∃ b, lk = .constant b ∧ some a = some b := by
    rcases hlk with ⟨b, cell, q1, q2, -⟩ | ⟨-, q2, -⟩
    · exact ⟨b, q1, q2⟩
    · cases q2
  cases hb
  cases (gMethodNamed_warm hK hm0).symm.trans hN
  obtain ⟨k1, hk1, he1⟩ := hK.alike.2.2 _ _ hk0
  have hfind1 : (k1.callSites.find? fun y => y.1 == Y.1.2.2.2.2.2.1.idx && y.2.1 == pc) = some (i0, p0, .constant a) := by rw [he1]; exact hfind
  obtain ⟨t, a1, b1⟩ := kk H locs ls h hP hR hL hl T hT X
  refine ⟨t, X.lambdaConstant F.1 (g := F0 _ pc ls st) rfl (hl.1.trans F.2.2.1.symm) (by rw [F.2.1]; exact d) hk1 hfind1 ?_ a1, b1⟩
  rw [X.admits.platform, hrm]
  show 2 * 0 + (st.map fun v => v.category).sum + 3072 ≤ rm.locals
  omega
end GW28
