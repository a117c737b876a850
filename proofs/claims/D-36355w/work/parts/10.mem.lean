section GMEM
variable {Y : gY} {cc : ByteArray} {own : String} {rm : Room} {hh : gHh} {ret : Option FieldType} {P P2 : gH → Prop} {lv : List (Nat × Value)} {pc k n : Nat} {st : List Value}
/-- a class of the world, with all that the rows ask of it -/
def gCl (ci : Nat) (C : String) (T : u_T) (N : Nat) (ty : Nat → FieldType) : Prop := gcl[ci]? = some (C, T, N) ∧ (∀ w ∈ u_ws C T N, w ∈ lw_all) ∧ (∀ k, k < N → parseFieldDescriptor (T k).2.2.1 = some (ty k)) ∧ ∀ a, a < N → ∀ b, b < N → a ≠ b → (T a).2.1 ≠ (T b).2.1
abbrev gIA (G : gG) (N : Nat) (f : Nat → Int32) : va_E := .inl (G.2.1 0, N, .inl f)
abbrev gZA (G : gG) (N : Nat) (f : Nat → Int32) : va_E := .inl (G.2.1 1, N, .inl f)
abbrev gJA (G : gG) (N : Nat) (f : Nat → Int64) : va_E := .inl (G.2.1 2, N, .inr (.inl f))
abbrev gDA (G : gG) (N : Nat) (f : Nat → UInt64) : va_E := .inl (G.2.1 3, N, .inr (.inr (.inr (.inl f))))
abbrev gOA (G : gG) (N : Nat) (f : Nat → Option Nat) : va_E := .inl (G.2.1 4, N, .inr (.inr (.inr (.inr f))))
abbrev gBA (G : gG) (N : Nat) (f : Nat → Int32) : va_E := .inl (G.2.1 5, N, .inl f)
theorem gF_g (F : gF Y cc own rm hh ret) : gK Y.2.1 Y.1.2.2.2.2.1 := F.2.2.2.2.2.2.2.2.2.2.1
theorem gF_K (F : gF Y cc own rm hh ret) : va_K Y.2.1.1 gcl (gtys Y.2.1.2.1) Y.1.2.2.2.2.1 := (gF_g F).1
theorem gF_t (F : gF Y cc own rm hh ret) {w : Cond} (h : w ∈ lw_all) : w.before Y.1.2.2.2.2.2.2.1 Y.1.2.2.2.2.1 = true := F.2.2.2.2.1 w h
theorem gF_T (F : gF Y cc own rm hh ret) {w : Cond} (h : w ∈ gT) : va_Nw w Y.1.2.2.2.2.1 := (gF_g F).2.1 w h
theorem gF_R (F : gF Y cc own rm hh ret) : Y.1.2.2.2.1 = rm := F.2.2.2.2.2.1
/-- the heap's picture may be read another way -/
theorem g_mono (hp : ∀ h, P h → P2 h) (kk : gW Y P2 lv pc st k n) : gW Y P lv pc st k n := fun H locs ls h hP hR hL hl => kk H locs ls h (hp h hP) hR hL hl
theorem g_sub (hp : ∀ h, P h → ∃ h2, P2 h2 ∧ ∀ a x, h2 a = some x → h a = some x) (kk : gW Y P2 lv pc st k n) : gW Y P lv pc st k n := by
  intro H locs ls h hP hR hL hl
  obtain ⟨h2, q1, q2⟩ := hp h hP
  exact kk H locs ls h2 q1 ⟨fun a τ e ha => hR.1 a τ e (q2 _ _ ha), hR.2⟩ hL hl
theorem g_pure {A : Prop} (hp : ∀ h, P h → A) (kk : A → gW Y P lv pc st k n) : gW Y P lv pc st k n := fun H locs ls h hP hR hL hl => kk (hp h hP) H locs ls h hP hR hL hl
theorem g_and {A : Prop} (kk : A → gW Y P lv pc st k n) : gW Y (fun h => A ∧ P h) lv pc st k n := fun H locs ls h hP hR hL hl => kk hP.1 H locs ls h hP.2 hR hL hl
theorem g_ex {α : Type} {Pa : α → gH → Prop} (kk : ∀ a, gW Y (Pa a) lv pc st k n) : gW Y (fun h => ∃ a, Pa a h) lv pc st k n := fun H locs ls h hP hR hL hl => by
  obtain ⟨a, ha⟩ := hP
  exact kk a H locs ls h ha hR hL hl
theorem g_widen {k2 n2 : Nat} (h1 : k ≤ k2) (h2 : n ≤ n2) (kk : gW Y P lv pc st k2 n2) : gW Y P lv pc st k n := fun H locs ls h hP hR hL hl => W.widen h1 h2 (kk H locs ls h hP hR hL hl)
theorem g_lv {lv2 : List (Nat × Value)} (ks : List Nat) (hs : lv_pick lv ks = lv2) (kk : gW Y P lv2 pc st k n) : gW Y P lv pc st k n := fun H locs ls h hP hR hL hl => kk H locs ls h hP hR hL (lv_sub hl ks hs)
theorem g_topi {x : Int32} (kk : ∀ y : Int32, y = x → gW Y P lv pc (.int y :: st) k n) : gW Y P lv pc (.int x :: st) k n := kk x rfl
/-- fields -/
theorem g_get (F : gF Y cc own rm hh ret) {ci N index a : Nat} {C : String} {T : u_T} {ty : Nat → FieldType} (hc : gCl ci C T N ty) (f : Nat) {v : Value} (hf : f < N) (hlink : Cond.fieldLink own index (T f).1 (T f).2.1 (T f).2.2.1 ∈ lw_all)
    (hg : ∀ h, P h → ∃ τ fs, h a = some (τ, .inr (ci, fs)) ∧ fs[f]? = some v) (d : decode cc pc = .ok (.getfield index, 3)) (kk : gW Y P lv (pc + 3) (v :: st) k n) : gW Y P lv pc (.ref a :: st) k n := by
  intro H locs ls h hP hR hL hl
  obtain ⟨τ, fs, h1, h2⟩ := hg h hP
  exact va_get F.1 F.2.1 F.2.2.2.2.1 hc.2.1 F.2.2.2.1 (gF_K F) (gR_P hR h1) 0 rfl hc.1 f hf (gF_t F hlink) (fun _ h9 => h9) h2 d (kk H locs ls h hP hR hL hl)
theorem g_getU (F : gF Y cc own rm hh ret) {ci N index a : Nat} {C ref : String} {T : u_T} {ty : Nat → FieldType} (hc : gCl ci C T N ty) (f : Nat) {v : Value} (hf : f < N) (hlink : Cond.fieldLink own index ref (T f).2.1 (T f).2.2.1 ∈ lw_all) (hsm : Cond.sameField ref (T f).1 (T f).2.1 (T f).2.2.1 ∈ lw_all)
    (hg : ∀ h, P h → ∃ τ fs, h a = some (τ, .inr (ci, fs)) ∧ fs[f]? = some v) (d : decode cc pc = .ok (.getfield index, 3)) (kk : gW Y P lv (pc + 3) (v :: st) k n) : gW Y P lv pc (.ref a :: st) k n := by
  intro H locs ls h hP hR hL hl
  obtain ⟨τ, fs, h1, h2⟩ := hg h hP
  exact va_get F.1 F.2.1 F.2.2.2.2.1 hc.2.1 F.2.2.2.1 (gF_K F) (gR_P hR h1) 0 rfl hc.1 f hf (gF_t F hlink) (u_same (gF_t F hsm)) h2 d (kk H locs ls h hP hR hL hl)
theorem g_getN (F : gF Y cc own rm hh ret) {ci N index a : Nat} {C host : String} {T : u_T} {ty : Nat → FieldType} (hc : gCl ci C T N ty) (f : Nat) {v : Value} (hf : f < N) (hlink : Cond.fieldLinkNest own index (T f).1 (T f).2.1 (T f).2.2.1 host ∈ gT)
    (hg : ∀ h, P h → ∃ τ fs, h a = some (τ, .inr (ci, fs)) ∧ fs[f]? = some v) (d : decode cc pc = .ok (.getfield index, 3)) (kk : gW Y P lv (pc + 3) (v :: st) k n) : gW Y P lv pc (.ref a :: st) k n := by
  intro H locs ls h hP hR hL hl
  obtain ⟨τ, fs, h1, h2⟩ := hg h hP
  exact va_getN F.1 F.2.1 F.2.2.2.2.1 hc.2.1 F.2.2.2.1 (gF_K F) (gR_P hR h1) 0 rfl hc.1 f hf (va_Nw.use rfl (gF_T F hlink)) (fun _ h9 => h9) h2 d (kk H locs ls h hP hR hL hl)
theorem g_loc {locs : List Loc} {B a f : Nat} (hL : ∀ z ∈ locs, B ≤ z.base) (hB : B ≤ a) : ∀ z ∈ locs ++ [(⟨a, f⟩ : Loc)], B ≤ z.base := by
  intro z hz
  rcases List.mem_append.mp hz with h | h
  · exact hL z h
  · rw [List.mem_singleton.mp h]
    exact hB
theorem g_putAt {Y : gY} {ci N a f : Nat} {C : String} {T : u_T} {ty : Nat → FieldType} (hc : gCl ci C T N ty) (hf : f < N) {h : gH} {H H1 : Heap} {τ : Nat × Nat} {fs : List Value} {v : Value} {cell : Cell} {Ts : List Cond} {args : Array Value} {s : State} (hts : ∀ w ∈ Ts, w.before args s = true) (hin : ∀ w ∈ u_ws C T N, w ∈ Ts) (hK : va_K Y.2.1.1 gcl (gtys Y.2.1.2.1) s) (hR : gR Y.2.1 h H) (h1 : h a = some (τ, .inr (ci, fs))) (hl : f < fs.length)
    (q2 : cell.cls = Y.2.1.1.1 ci) (q3 : cell.vm = .none) (q4 : ∀ k, k < N → cell.slots[Y.2.1.1.2 ci k]? = some (vp_V fs k)) (e1 : H1[a]? = some (cell.setSlot (Y.2.1.1.2 ci f) v)) (e2 : H1.size = H.size) (e3 : ∀ q, q ≠ a → H1[q]? = H[q]?) : gR Y.2.1 (gset h a τ (.inr (ci, fs.set f v))) H1 := by
  have hap := va_apart (own := C) hts hin ty hc.2.2.1 hc.2.2.2 hK hc.1
  exact gR_put (e1 := .inr (ci, fs.set f v)) (H1 := H1) hR h1 ⟨_, hc.1, t_OB.to (V := updV (vp_V fs) f v) ⟨_, e1, q2, q3, t_set q4 hap hf v⟩ (fun j _ => vp_updV_set hl v j)⟩ e2 e3 τ
theorem g_put (F : gF Y cc own rm hh ret) {ci N index a : Nat} {C : String} {T : u_T} {ty : Nat → FieldType} (hc : gCl ci C T N ty) (f : Nat) {v : Value} (hf : f < N) (hlink : Cond.fieldLink own index (T f).1 (T f).2.1 (T f).2.2.1 ∈ lw_all) (hfin : (T f).2.2.2 = false) (hn : narrow (ty f) v = v) (hfit : fits (ty f) v = true)
    (hg : ∀ h, P h → ∃ τ fs, h a = some (τ, .inr (ci, fs)) ∧ f < fs.length ∧ P2 (gset h a τ (.inr (ci, fs.set f v)))) (d : decode cc pc = .ok (.putfield index, 3)) (kk : gW Y P2 lv (pc + 3) st k n) : gW Y P lv pc (v :: .ref a :: st) k n := by
  intro H locs ls h hP hR hL hl
  obtain ⟨τ, fs, h1, h2, h3⟩ := hg h hP
  obtain ⟨hB, r, g1, cell, q1, q2, q3, q4⟩ := hR.1 a τ _ h1
  have hr : r = (C, T, N) := Option.some.inj (g1.symm.trans hc.1)
  subst hr
  obtain ⟨hS, hfc, kC, hkC, hkind⟩ := (gF_K F).1 ci _ hc.1
  obtain ⟨cf, kf, fi, fd, hi, hsl⟩ := hS f hf
  have hlay := F.2.2.2.2.1 _ (hc.2.1 _ (u_in_lay hf))
  unfold u_lay at hlay
  rw [if_neg (by rw [hfin]; decide)] at hlay
  have hst := (u_facts hfc hkC (u_lays F.2.2.2.2.1 hc.2.1 hf) hi).1
  have h6 := u_store hfc hkC hkind hlay hi (hc.2.2.1 f hf) hn hfit
  refine W.putK F.1 F.2.1 (f := fd) ⟨F.2.2.2.1, gF_t F hlink, ⟨_, _, _, hi⟩, hst⟩ (by rw [q2]; exact h6) q1 q3 (by rw [hsl]; exact k2_hasslot (q4 f hf)) rfl rfl d fun H1 e1 e2 e3 => ?_
  rw [hsl] at e1
  exact kk H1 _ ls _ h3 (g_putAt hc hf F.2.2.2.2.1 hc.2.1 (gF_K F) hR h1 h2 q2 q3 q4 e1 e2 e3) (g_loc hL hB) hl
theorem g_putU (F : gF Y cc own rm hh ret) {ci N index a : Nat} {C ref : String} {T : u_T} {ty : Nat → FieldType} (hc : gCl ci C T N ty) (f : Nat) {v : Value} (hf : f < N) (hlink : Cond.fieldLink own index ref (T f).2.1 (T f).2.2.1 ∈ lw_all) (hsm : Cond.sameField ref (T f).1 (T f).2.1 (T f).2.2.1 ∈ lw_all) (hfin : (T f).2.2.2 = false) (hn : narrow (ty f) v = v) (hfit : fits (ty f) v = true)
    (hg : ∀ h, P h → ∃ τ fs, h a = some (τ, .inr (ci, fs)) ∧ f < fs.length ∧ P2 (gset h a τ (.inr (ci, fs.set f v)))) (d : decode cc pc = .ok (.putfield index, 3)) (kk : gW Y P2 lv (pc + 3) st k n) : gW Y P lv pc (v :: .ref a :: st) k n := by
  intro H locs ls h hP hR hL hl
  obtain ⟨τ, fs, h1, h2, h3⟩ := hg h hP
  obtain ⟨hB, r, g1, cell, q1, q2, q3, q4⟩ := hR.1 a τ _ h1
  have hr : r = (C, T, N) := Option.some.inj (g1.symm.trans hc.1)
  subst hr
  obtain ⟨hS, hfc, kC, hkC, hkind⟩ := (gF_K F).1 ci _ hc.1
  obtain ⟨cf, kf, fi, fd, hi, hsl⟩ := hS f hf
  have hlay := F.2.2.2.2.1 _ (hc.2.1 _ (u_in_lay hf))
  unfold u_lay at hlay
  rw [if_neg (by rw [hfin]; decide)] at hlay
  have hst := (u_facts hfc hkC (u_lays F.2.2.2.2.1 hc.2.1 hf) hi).1
  have h6 := u_store hfc hkC hkind hlay hi (hc.2.2.1 f hf) hn hfit
  refine W.putK F.1 F.2.1 (f := fd) ⟨F.2.2.2.1, gF_t F hlink, ⟨_, _, _, u_same (gF_t F hsm) _ hi⟩, hst⟩ (by rw [q2]; exact h6) q1 q3 (by rw [hsl]; exact k2_hasslot (q4 f hf)) rfl rfl d fun H1 e1 e2 e3 => ?_
  rw [hsl] at e1
  exact kk H1 _ ls _ h3 (g_putAt hc hf F.2.2.2.2.1 hc.2.1 (gF_K F) hR h1 h2 q2 q3 q4 e1 e2 e3) (g_loc hL hB) hl
theorem g_putN (F : gF Y cc own rm hh ret) {ci N index a : Nat} {C host : String} {T : u_T} {ty : Nat → FieldType} (hc : gCl ci C T N ty) (f : Nat) {v : Value} (hf : f < N) (hlink : Cond.fieldLinkNest own index (T f).1 (T f).2.1 (T f).2.2.1 host ∈ gT) (hfin : (T f).2.2.2 = false) (hn : narrow (ty f) v = v) (hfit : fits (ty f) v = true)
    (hg : ∀ h, P h → ∃ τ fs, h a = some (τ, .inr (ci, fs)) ∧ f < fs.length ∧ P2 (gset h a τ (.inr (ci, fs.set f v)))) (d : decode cc pc = .ok (.putfield index, 3)) (kk : gW Y P2 lv (pc + 3) st k n) : gW Y P lv pc (v :: .ref a :: st) k n := by
  intro H locs ls h hP hR hL hl
  obtain ⟨τ, fs, h1, h2, h3⟩ := hg h hP
  obtain ⟨hB, r, g1, cell, q1, q2, q3, q4⟩ := hR.1 a τ _ h1
  have hr : r = (C, T, N) := Option.some.inj (g1.symm.trans hc.1)
  subst hr
  obtain ⟨hS, hfc, kC, hkC, hkind⟩ := (gF_K F).1 ci _ hc.1
  obtain ⟨cf, kf, fi, fd, hi, hsl⟩ := hS f hf
  have hlay := F.2.2.2.2.1 _ (hc.2.1 _ (u_in_lay hf))
  unfold u_lay at hlay
  rw [if_neg (by rw [hfin]; decide)] at hlay
  have hst := (u_facts hfc hkC (u_lays F.2.2.2.2.1 hc.2.1 hf) hi).1
  have h6 := u_store hfc hkC hkind hlay hi (hc.2.2.1 f hf) hn hfit
  refine va_WputK F.1 F.2.1 (f := fd) F.2.2.2.1 (va_Nw.use rfl (gF_T F hlink)) hi hst (by rw [q2]; exact h6) q1 q3 (by rw [hsl]; exact k2_hasslot (q4 f hf)) rfl rfl d fun H1 e1 e2 e3 => ?_
  rw [hsl] at e1
  exact kk H1 _ ls _ h3 (g_putAt hc hf F.2.2.2.2.1 hc.2.1 (gF_K F) hR h1 h2 q2 q3 q4 e1 e2 e3) (g_loc hL hB) hl
theorem g_putF (F : gF Y cc own rm hh ret) (hin : Y.1.2.2.2.2.2.2.2.2.1.name = "<init>") {ci N index a : Nat} {C : String} {T : u_T} {ty : Nat → FieldType} (hc : gCl ci C T N ty) (f : Nat) {v : Value} (hf : f < N) (hlink : Cond.fieldLink own index (T f).1 (T f).2.1 (T f).2.2.1 ∈ lw_all) (hfin : (T f).2.2.2 = true) (hdecl : (T f).1 = own) (hn : narrow (ty f) v = v) (hfit : fits (ty f) v = true)
    (hg : ∀ h, P h → ∃ τ fs, h a = some (τ, .inr (ci, fs)) ∧ f < fs.length ∧ P2 (gset h a τ (.inr (ci, fs.set f v)))) (d : decode cc pc = .ok (.putfield index, 3)) (kk : gW Y P2 lv (pc + 3) st k n) : gW Y P lv pc (v :: .ref a :: st) k n := by
  intro H locs ls h hP hR hL hl
  obtain ⟨τ, fs, h1, h2, h3⟩ := hg h hP
  obtain ⟨hB, r, g1, cell, q1, q2, q3, q4⟩ := hR.1 a τ _ h1
  have hr : r = (C, T, N) := Option.some.inj (g1.symm.trans hc.1)
  subst hr
  obtain ⟨hS, hfc, kC, hkC, hkind⟩ := (gF_K F).1 ci _ hc.1
  obtain ⟨cf, kf, fi, fd, hi, hsl⟩ := hS f hf
  have hlay := F.2.2.2.2.1 _ (hc.2.1 _ (u_in_lay hf))
  unfold u_lay at hlay
  rw [if_pos hfin] at hlay
  have hst := (u_facts hfc hkC (u_lays F.2.2.2.2.1 hc.2.1 hf) hi).1
  have hcf : Y.1.2.2.2.2.2.1.cls = cf := by
    obtain ⟨_, _, c', _, _, _, -, -, hf', -, -, -, hown2, -⟩ := Cond.laysFinal_spec hlay
    have e1 : c' = cf := by have := hi.symm.trans hf'; simp at this; exact this.1.symm
    rw [hdecl] at hown2
    rw [← e1]; exact Option.some.inj (F.2.2.2.1.symm.trans hown2)
  have h6 := u_fits hfc hkC hkind (Or.inr hlay) hi (hc.2.2.1 f hf) hn hfit
  refine W.putFinK F.1 F.2.1 F.2.2.2.1 (gF_t F hlink) hi hst hcf hin (by rw [q2]; exact h6) q1 q3 (by rw [hsl]; exact k2_hasslot (q4 f hf)) rfl rfl d fun H1 e1 e2 e3 => ?_
  rw [hsl] at e1
  exact kk H1 _ ls _ h3 (g_putAt hc hf F.2.2.2.2.1 hc.2.1 (gF_K F) hR h1 h2 q2 q3 q4 e1 e2 e3) (g_loc hL hB) hl
/-- a new object -/
theorem g_new (F : gF Y cc own rm hh ret) {ci N index : Nat} {C : String} {T : u_T} {ty : Nat → FieldType} (hc : gCl ci C T N ty) (hcl : Cond.classLink own index C ∈ lw_all) (hinst : Cond.instantiable C N ∈ lw_all) (hini : Cond.initialized C ∈ lw_all) (τ : Nat × Nat) {fs : List Value} (hfs : fs = (List.range N).map (fun j => defaultValue (ty j))) (k2 n2 : Nat) (hk : k + 1 ≤ k2) (hn : n + N ≤ n2) (hkr : k2 ≤ rm.cells) (hnr : n2 ≤ rm.slots)
    {Pa : Nat → gH → Prop} (hp : ∀ h a, P h → h a = none → Pa a (gset h a τ (.inr (ci, fs)))) (d : decode cc pc = .ok (.new index, 3)) (kk : ∀ a, gW Y (Pa a) lv (pc + 3) (.ref a :: st) k2 n2) : gW Y P lv pc st k n := by
  intro H locs ls h hP hR hL hl
  have hKn := (gF_K F).1 ci _ hc.1
  have hrm := gF_R F
  refine W.newcK F.1 F.2.1 F.2.2.2.1 (gF_t F hcl) (gF_t F hinst) (gF_t F hini) rfl d (by rw [hrm]; omega) (by rw [hrm]; omega) hKn.2.1 rfl fun H1 kC hkC e1 z1 o1 => ?_
  refine W.widen hk hn ?_
  refine kk H.size H1 locs ls _ (hp h H.size hP (gR_fresh hR)) (gR_push (e1 := .inr (ci, fs)) (H1 := H1) hR ⟨_, hc.1, (u_born ty F.2.2.2.2.1 hc.2.1 hKn hkC e1 hc.2.2.1).to fun j hj => ?_⟩ z1 o1 τ) hL hl
  rw [hfs]
  simp [vp_V, List.getD_eq_getElem?_getD, List.getElem?_map, List.getElem?_range, hj]
/-- a new array of numbers -/
theorem g_newa (F : gF Y cc own rm hh ret) {atype : ArrayType} {ty : FieldType} (t : Nat) (a0 : vp_A) (hty : newarray.typeOf atype = ty) (harr : Cond.arrayClass ty ∈ lw_all) {cA : ClassId} (ht : (gtys Y.2.1.2.1)[t]? = some (cA, ty)) (hra : va_RA Y.1.2.2.2.2.1 cA ty → Y.1.2.2.2.2.1.vm.findClass ("[" ++ ty.toString) = some cA) (τ : Nat × Nat) {x : Int32} {N : Nat} (ha0 : vp_cell cA a0 = arrV cA N (fun _ => defaultValue ty)) (hx : ¬ x < 0) (hN : x.toNatClampNeg = N) (hby : N * componentBytes ty ≤ 536870912) (k2 n2 : Nat) (hk : k + 1 ≤ k2) (hn : n + N ≤ n2) (hkr : k2 ≤ rm.cells) (hnr : n2 ≤ rm.slots)
    {Pa : Nat → gH → Prop} (hp : ∀ h a, P h → h a = none → Pa a (gset h a τ (.inl (cA, a0)))) (d : decode cc pc = .ok (.newarray atype, 2)) (kk : ∀ a, gW Y (Pa a) lv (pc + 2) (.ref a :: st) k2 n2) : gW Y P lv pc (.int x :: st) k n := by
  subst hty
  intro H locs ls h hP hR hL hl
  have hrm := gF_R F
  refine va_newaK F.1 F.2.1 (gF_t F harr) rfl d rfl hx hN hby (by rw [hrm]; omega) (by rw [hrm]; omega) rfl fun H1 cA1 e1 z1 o1 hAr hNm => ?_
  have hcA : cA1 = cA := Option.some.inj (hNm.symm.trans (hra ((gF_K F).2 t _ ht).2))
  subst hcA
  refine W.widen hk hn ?_
  exact kk H.size H1 locs ls _ (hp h H.size hP (gR_fresh hR)) (gR_push (e1 := .inl (cA1, a0)) (H1 := H1) hR (show H1[H.size]? = some (vp_cell cA1 a0) by rw [ha0]; exact e1) z1 o1 τ) hL hl
/-- a new array of references -/
theorem g_newq (F : gF Y cc own rm hh ret) {index : Nat} (hcl : Cond.classLink own index "java/lang/Object" ∈ lw_all) (hover : Cond.arrayOver (.object "java/lang/Object") ∈ gT) (τ : Nat × Nat) {x : Int32} {N : Nat} (hx : ¬ x < 0) (hN : x.toNatClampNeg = N) (hby : N * 4 ≤ 536870912) (k2 n2 : Nat) (hk : k + 1 ≤ k2) (hn : n + N ≤ n2) (hkr : k2 ≤ rm.cells) (hnr : n2 ≤ rm.slots)
    {Pa : Nat → gH → Prop} (hp : ∀ h a, P h → h a = none → Pa a (gset h a τ (gOA Y.2.1 N (fun _ => none)))) (d : decode cc pc = .ok (.anewarray index, 3)) (kk : ∀ a, gW Y (Pa a) lv (pc + 3) (.ref a :: st) k2 n2) : gW Y P lv pc (.int x :: st) k n := by
  subst hN
  intro H locs ls h hP hR hL hl
  have hrm := gF_R F
  refine W.anew F.1 F.2.1 F.2.2.2.1 (gF_t F hcl) (va_AO.use (gF_T F hover)) rfl d rfl hx hby (by rw [hrm]; omega) (by rw [hrm]; omega) fun cA kA comp f1 f2 f3 f4 => ?_
  obtain ⟨-, kA9, comp9, r1, r2, r3, r4⟩ := (gF_K F).2 4 (Y.2.1.2.1 4, .object "java/lang/Object") rfl
  have hcA : cA = Y.2.1.2.1 4 := Option.some.inj (f1.symm.trans r4)
  subst hcA
  refine W.widen hk hn ?_
  generalize hH1 : H.push ({ cls := Y.2.1.2.1 4, slots := Array.replicate x.toNatClampNeg .null, vm := .none } : Cell) = H1
  have z1 : H1.size = H.size + 1 := by rw [← hH1, Array.size_push]
  have e1 : H1[H.size]? = some (arrV (Y.2.1.2.1 4) x.toNatClampNeg (fun _ => .null)) := by rw [← hH1, Array.getElem?_push_size, ← arrV_new]
  have o1 : ∀ q : Nat, q < H.size → H1[q]? = H[q]? := fun q hq => by rw [← hH1, Array.getElem?_push, if_neg (Nat.ne_of_lt hq)]
  exact kk H.size H1 locs ls _ (hp h H.size hP (gR_fresh hR)) (gR_push (e1 := gOA Y.2.1 x.toNatClampNeg (fun _ => none)) (H1 := H1) hR (show H1[H.size]? = some (vp_cell (Y.2.1.2.1 4) (x.toNatClampNeg, .inr (.inr (.inr (.inr (fun _ => none)))))) by rw [vp_cell_q]; exact e1) z1 o1 τ) hL hl
/-- arrays -/
theorem g_alen (F : gF Y cc own rm hh ret) (t : Nat) {a : Nat} {x : vp_A} {cA : ClassId} {ty : FieldType} (ht : (gtys Y.2.1.2.1)[t]? = some (cA, ty)) {v : Int32} (hv : Int32.ofNat x.1 = v) (hg : ∀ h, P h → ∃ τ, h a = some (τ, .inl (cA, x))) (d : decode cc pc = .ok (.arraylength, 1)) (kk : gW Y P lv (pc + 1) (.int v :: st) k n) : gW Y P lv pc (.ref a :: st) k n := by
  intro H locs ls h hP hR hL hl
  obtain ⟨τ, h1⟩ := hg h hP
  exact va_alen F.1 F.2.1 (gF_K F) (gR_P hR h1) 0 t rfl ht hv d (kk H locs ls h hP hR hL hl)
theorem g_iald (F : gF Y cc own rm hh ret) {a N : Nat} {f : Nat → Int32} {i : Int32} (hin : vp_in i N) (hg : ∀ h, P h → ∃ τ, h a = some (τ, gIA Y.2.1 N f)) (d : decode cc pc = .ok (.iaload, 1)) (kk : gW Y P lv (pc + 1) (.int (f i.toNatClampNeg) :: st) k n) : gW Y P lv pc (.int i :: .ref a :: st) k n := by
  intro H locs ls h hP hR hL hl
  obtain ⟨τ, h1⟩ := hg h hP
  exact va_iald F.1 F.2.1 (gF_K F) (gR_P hR h1) 0 0 rfl rfl hin d (kk H locs ls h hP hR hL hl)
theorem g_zald (F : gF Y cc own rm hh ret) {a N : Nat} {f : Nat → Int32} {i : Int32} (hin : vp_in i N) (hg : ∀ h, P h → ∃ τ, h a = some (τ, gZA Y.2.1 N f)) (d : decode cc pc = .ok (.baload, 1)) (kk : gW Y P lv (pc + 1) (.int (f i.toNatClampNeg) :: st) k n) : gW Y P lv pc (.int i :: .ref a :: st) k n := by
  intro H locs ls h hP hR hL hl
  obtain ⟨τ, h1⟩ := hg h hP
  exact va_zald F.1 F.2.1 (gF_K F) (gR_P hR h1) 0 1 rfl rfl hin d (kk H locs ls h hP hR hL hl)
theorem g_lald (F : gF Y cc own rm hh ret) {a N : Nat} {f : Nat → Int64} {i : Int32} (hin : vp_in i N) (hg : ∀ h, P h → ∃ τ, h a = some (τ, gJA Y.2.1 N f)) (d : decode cc pc = .ok (.laload, 1)) (kk : gW Y P lv (pc + 1) (.long (f i.toNatClampNeg) :: st) k n) : gW Y P lv pc (.int i :: .ref a :: st) k n := by
  intro H locs ls h hP hR hL hl
  obtain ⟨τ, h1⟩ := hg h hP
  exact va_lald F.1 F.2.1 (gF_K F) (gR_P hR h1) 0 2 rfl rfl hin d (kk H locs ls h hP hR hL hl)
theorem g_dald (F : gF Y cc own rm hh ret) {a N : Nat} {f : Nat → UInt64} {i : Int32} (hin : vp_in i N) (hg : ∀ h, P h → ∃ τ, h a = some (τ, gDA Y.2.1 N f)) (d : decode cc pc = .ok (.daload, 1)) (kk : gW Y P lv (pc + 1) (.double (f i.toNatClampNeg) :: st) k n) : gW Y P lv pc (.int i :: .ref a :: st) k n := by
  intro H locs ls h hP hR hL hl
  obtain ⟨τ, h1⟩ := hg h hP
  exact va_dald F.1 F.2.1 (gF_K F) (gR_P hR h1) 0 3 rfl rfl hin d (kk H locs ls h hP hR hL hl)
theorem g_aald (F : gF Y cc own rm hh ret) {a N : Nat} {f : Nat → Option Nat} {i : Int32} (hin : vp_in i N) (hg : ∀ h, P h → ∃ τ, h a = some (τ, gOA Y.2.1 N f)) (d : decode cc pc = .ok (.aaload, 1)) (kk : gW Y P lv (pc + 1) (va_rf (f i.toNatClampNeg) :: st) k n) : gW Y P lv pc (.int i :: .ref a :: st) k n := by
  intro H locs ls h hP hR hL hl
  obtain ⟨τ, h1⟩ := hg h hP
  exact va_aldq F.1 F.2.1 (gF_K F) (gR_P hR h1) 0 4 rfl rfl hin d (kk H locs ls h hP hR hL hl)
theorem g_iast (F : gF Y cc own rm hh ret) {a N : Nat} {f : Nat → Int32} {i x : Int32} (hin : vp_in i N) (hg : ∀ h, P h → ∃ τ, h a = some (τ, gIA Y.2.1 N f) ∧ P2 (gset h a τ (gIA Y.2.1 N (upd f i.toNatClampNeg x)))) (d : decode cc pc = .ok (.iastore, 1)) (kk : gW Y P2 lv (pc + 1) st k n) : gW Y P lv pc (.int x :: .int i :: .ref a :: st) k n := by
  intro H locs ls h hP hR hL hl
  obtain ⟨τ, h1, h2⟩ := hg h hP
  have hB := (hR.1 a τ _ h1).1
  refine W.iast F.1 F.2.1 (hR.1 a τ _ h1).2 (((gF_K F).2 0 (Y.2.1.2.1 0, .int) rfl).1 N (fun j => .int (f j))) (fun q => by cases q) (by show ¬ (i < 0 ∨ (arrV _ _ _).slots.size ≤ _); rw [arrV_size]; exact hin) rfl rfl d fun H1 e z oq => ?_
  refine kk H1 _ ls _ h2 (gR_put (e1 := gIA Y.2.1 N (upd f i.toNatClampNeg x)) hR h1 ?_ z oq τ) (g_loc hL hB) hl
  show H1[a]? = some (vp_cell _ _)
  rw [e]
  rw [vp_cell_i, vp_cell_i, arrV_store]
  congr 2
  funext q
  by_cases hq : q = i.toNatClampNeg
  · subst hq
    simp [updV, upd]
  · simp [updV, upd, hq]
theorem g_zast (F : gF Y cc own rm hh ret) {a N : Nat} {f : Nat → Int32} {i x : Int32} (hin : vp_in i N) (hx : vp_nar .boolean x = x) (hg : ∀ h, P h → ∃ τ, h a = some (τ, gZA Y.2.1 N f) ∧ P2 (gset h a τ (gZA Y.2.1 N (upd f i.toNatClampNeg x)))) (d : decode cc pc = .ok (.bastore, 1)) (kk : gW Y P2 lv (pc + 1) st k n) : gW Y P lv pc (.int x :: .int i :: .ref a :: st) k n := by
  intro H locs ls h hP hR hL hl
  obtain ⟨τ, h1, h2⟩ := hg h hP
  have hB := (hR.1 a τ _ h1).1
  refine W.zast F.1 F.2.1 (hR.1 a τ _ h1).2 (((gF_K F).2 1 (Y.2.1.2.1 1, .boolean) rfl).1 N (fun j => .int (f j))) (fun q => by cases q) (by show ¬ (i < 0 ∨ (arrV _ _ _).slots.size ≤ _); rw [arrV_size]; exact hin) rfl rfl d fun H1 e z oq => ?_
  refine kk H1 _ ls _ h2 (gR_put (e1 := gZA Y.2.1 N (upd f i.toNatClampNeg x)) hR h1 ?_ z oq τ) (g_loc hL hB) hl
  show H1[a]? = some (vp_cell _ _)
  rw [e]
  rw [vp_cell_i, vp_cell_i, arrV_store]
  congr 2
  funext q
  by_cases hq : q = i.toNatClampNeg
  · subst hq
    simp [updV, upd]
    first | exact congrArg Value.int hx | (unfold vp_nar at hx; simp_all [narrow])
  · simp [updV, upd, hq]
theorem g_last (F : gF Y cc own rm hh ret) {a N : Nat} {f : Nat → Int64} {i : Int32} {x : Int64} (hin : vp_in i N) (hg : ∀ h, P h → ∃ τ, h a = some (τ, gJA Y.2.1 N f) ∧ P2 (gset h a τ (gJA Y.2.1 N (vp_updL f i.toNatClampNeg x)))) (d : decode cc pc = .ok (.lastore, 1)) (kk : gW Y P2 lv (pc + 1) st k n) : gW Y P lv pc (.long x :: .int i :: .ref a :: st) k n := by
  intro H locs ls h hP hR hL hl
  obtain ⟨τ, h1, h2⟩ := hg h hP
  have hB := (hR.1 a τ _ h1).1
  refine W.last F.1 F.2.1 (hR.1 a τ _ h1).2 (((gF_K F).2 2 (Y.2.1.2.1 2, .long) rfl).1 N (fun j => .long (f j))) (fun q => by cases q) (by show ¬ (i < 0 ∨ (arrV _ _ _).slots.size ≤ _); rw [arrV_size]; exact hin) rfl rfl d fun H1 e z oq => ?_
  refine kk H1 _ ls _ h2 (gR_put (e1 := gJA Y.2.1 N (vp_updL f i.toNatClampNeg x)) hR h1 ?_ z oq τ) (g_loc hL hB) hl
  show H1[a]? = some (vp_cell _ _)
  rw [e]
  rw [vp_cell_l, vp_cell_l, arrV_store]
  congr 2
  funext q
  by_cases hq : q = i.toNatClampNeg
  · subst hq
    simp [updV, vp_updL]
  · simp [updV, vp_updL, hq]
theorem g_dast (F : gF Y cc own rm hh ret) {a N : Nat} {f : Nat → UInt64} {i : Int32} {x : UInt64} (hin : vp_in i N) (hg : ∀ h, P h → ∃ τ, h a = some (τ, gDA Y.2.1 N f) ∧ P2 (gset h a τ (gDA Y.2.1 N (vf_upd f i.toNatClampNeg x)))) (d : decode cc pc = .ok (.dastore, 1)) (kk : gW Y P2 lv (pc + 1) st k n) : gW Y P lv pc (.double x :: .int i :: .ref a :: st) k n := by
  intro H locs ls h hP hR hL hl
  obtain ⟨τ, h1, h2⟩ := hg h hP
  have hB := (hR.1 a τ _ h1).1
  refine W.dast F.1 F.2.1 (hR.1 a τ _ h1).2 (((gF_K F).2 3 (Y.2.1.2.1 3, .double) rfl).1 N (fun j => .double (f j))) (fun q => by cases q) (by show ¬ (i < 0 ∨ (arrV _ _ _).slots.size ≤ _); rw [arrV_size]; exact hin) rfl rfl d fun H1 e z oq => ?_
  refine kk H1 _ ls _ h2 (gR_put (e1 := gDA Y.2.1 N (vf_upd f i.toNatClampNeg x)) hR h1 ?_ z oq τ) (g_loc hL hB) hl
  show H1[a]? = some (vp_cell _ _)
  rw [e]
  rw [vp_cell_d, vp_cell_d, arrV_store]
  congr 2
  funext q
  by_cases hq : q = i.toNatClampNeg
  · subst hq
    simp [updV, vf_upd]
  · simp [updV, vf_upd, hq]
end GMEM
