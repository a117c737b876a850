/-! SHORT FORMS for walks -/
def gAt (P : gH → Prop) (a : Nat) (e : va_E) : Prop := ∀ h, P h → ∃ τ, h a = some (τ, e)
/-- P's heap, but the cell a (it held c0) holds c1 -/
def gUp (P : gH → Prop) (a : Nat) (c0 c1 : va_E) : gH → Prop := fun h => ∃ h0 τ, P h0 ∧ h0 a = some (τ, c0) ∧ h = gset h0 a τ c1
theorem gset_self {h : gH} {a : Nat} {τ : Nat × Nat} {e : va_E} (ha : h a = some (τ, e)) : gset h a τ e = h := by
  funext b
  by_cases q : b = a
  · subst q; rw [gset_s, ha]
  · rw [gset_n q]
theorem gset_gset {h : gH} {a : Nat} {τ : Nat × Nat} {e e1 : va_E} : gset (gset h a τ e) a τ e1 = gset h a τ e1 := by
  funext b
  by_cases q : b = a
  · subst q; rw [gset_s, gset_s]
  · rw [gset_n q, gset_n q, gset_n q]
theorem gUp_0 {P : gH → Prop} {a : Nat} {c0 : va_E} (ha : gAt P a c0) : ∀ h, P h → gUp P a c0 c0 h := fun h hp => by
  obtain ⟨τ, h1⟩ := ha h hp
  exact ⟨h, τ, hp, h1, (gset_self h1).symm⟩
theorem gUp_at {P : gH → Prop} {a : Nat} {c0 c1 : va_E} : gAt (gUp P a c0 c1) a c1 := fun h hp => by
  obtain ⟨h0, τ, q1, q2, rfl⟩ := hp
  exact ⟨τ, gset_s⟩
theorem gUp_rd {P : gH → Prop} {a b : Nat} {c0 c1 e : va_E} (hb : gAt P b e) (hn : e ≠ c0) : gAt (gUp P a c0 c1) b e := fun h hp => by
  obtain ⟨h0, τ, q1, q2, rfl⟩ := hp
  obtain ⟨τ2, q3⟩ := hb h0 q1
  refine ⟨τ2, ?_⟩
  rw [gset_n]
  · exact q3
  · intro q
    subst q
    rw [q2] at q3
    cases q3
    exact hn rfl
theorem gUp_put {P : gH → Prop} {a ci f : Nat} {c0 : va_E} {fs : List Value} {v : Value} (hf : f < fs.length) : ∀ h, gUp P a c0 (.inr (ci, fs)) h → ∃ τ fs', h a = some (τ, .inr (ci, fs')) ∧ f < fs'.length ∧ gUp P a c0 (.inr (ci, fs.set f v)) (gset h a τ (.inr (ci, fs'.set f v))) := fun h hp => by
  obtain ⟨h0, τ, q1, q2, rfl⟩ := hp
  exact ⟨τ, fs, gset_s, hf, h0, τ, q1, q2, gset_gset⟩
theorem gUp_set {P : gH → Prop} {a : Nat} {c0 e e1 : va_E} : ∀ h, gUp P a c0 e h → ∃ τ, h a = some (τ, e) ∧ gUp P a c0 e1 (gset h a τ e1) := fun h hp => by
  obtain ⟨h0, τ, q1, q2, rfl⟩ := hp
  exact ⟨τ, gset_s, h0, τ, q1, q2, gset_gset⟩
theorem gUp_up {P : gH → Prop} {a : Nat} {c0 c1 c2 : va_E} : ∀ h, gUp (gUp P a c0 c1) a c1 c2 h → gUp P a c0 c2 h := fun h hp => by
  obtain ⟨h0, τ, ⟨h1, τ1, q1, q2, rfl⟩, q3, rfl⟩ := hp
  rw [gset_s] at q3
  cases q3
  exact ⟨h1, τ, q1, q2, gset_gset⟩
section GSHORT
variable {Y : gY} {cc : ByteArray} {own : String} {rm : Room} {hh : gHh} {ret : Option FieldType} {P P2 : gH → Prop} {lv : List (Nat × Value)} {pc k n : Nat} {st : List Value}
theorem gd_get {a ci f : Nat} {fs : List Value} {v : Value} (ha : gAt P a (.inr (ci, fs))) (hv : fs[f]? = some v) : ∀ h, P h → ∃ τ fs, h a = some (τ, .inr (ci, fs)) ∧ fs[f]? = some v := fun h hp => by
  obtain ⟨τ, q⟩ := ha h hp
  exact ⟨τ, fs, q, hv⟩
theorem gd_obj {a ci : Nat} {fs : List Value} (ha : gAt P a (.inr (ci, fs))) : ∀ h, P h → ∃ τ fs, h a = some (τ, .inr (ci, fs)) := fun h hp => by
  obtain ⟨τ, q⟩ := ha h hp
  exact ⟨τ, fs, q⟩
/-- what callees promise -/
def gqI (w : Value) (P : gH → Prop) : Option Value → gH → Prop := fun v h => v = some w ∧ P h
def gqV (P : gH → Prop) : Option Value → gH → Prop := fun v h => v = none ∧ P h
def gqC (C : Prop) (P : gH → Prop) : Option Value → gH → Prop := fun v h => v = none ∧ C ∧ P h
def gqX {α : Type} (val : α → Value) (Pa : α → gH → Prop) : Option Value → gH → Prop := fun v h => ∃ x, v = some (val x) ∧ Pa x h
def gxN : String → gH → Prop := fun _ _ => False
def gx1 (E0 : String) (C : Prop) (P : gH → Prop) : String → gH → Prop := fun E h => E = E0 ∧ C ∧ P h
theorem gv_i {w : Value} (kk : gW Y P lv pc (w :: st) k n) : ∀ v, gW Y (gqI w P v) lv pc (v.toList ++ st) k n := fun v H locs ls h hP hR hL hl => by
  obtain ⟨rfl, hP⟩ := hP
  exact kk H locs ls h hP hR hL hl
theorem gv_v (kk : gW Y P lv pc st k n) : ∀ v, gW Y (gqV P v) lv pc (v.toList ++ st) k n := fun v H locs ls h hP hR hL hl => by
  obtain ⟨rfl, hP⟩ := hP
  exact kk H locs ls h hP hR hL hl
theorem gv_c {C : Prop} (kk : C → gW Y P lv pc st k n) : ∀ v, gW Y (gqC C P v) lv pc (v.toList ++ st) k n := fun v H locs ls h hP hR hL hl => by
  obtain ⟨rfl, hC, hP⟩ := hP
  exact kk hC H locs ls h hP hR hL hl
theorem gv_x {α : Type} {val : α → Value} {Pa : α → gH → Prop} (kk : ∀ x, gW Y (Pa x) lv pc (val x :: st) k n) : ∀ v, gW Y (gqX val Pa v) lv pc (v.toList ++ st) k n := fun v H locs ls h hP hR hL hl => by
  obtain ⟨x, rfl, hP⟩ := hP
  exact kk x H locs ls h hP hR hL hl
theorem gx_n : ∀ E, gX Y (gxN E) lv pc k n E := fun E => gX_no fun _ h => h
theorem gx_1 {E0 : String} {C : Prop} (kk : C → gX Y P lv pc k n E0) : ∀ E, gX Y (gx1 E0 C P E) lv pc k n E := fun E H locs ls h q ce rest hP hR hL hl hce hcv hcl => by
  obtain ⟨rfl, hC, hP⟩ := hP
  exact kk hC H locs ls h q ce rest hP hR hL hl hce hcv hcl
/-- an int on top, spelt another way -/
theorem g_top {x y : Int32} (e : x = y) (kk : gW Y P lv pc (.int y :: st) k n) : gW Y P lv pc (.int x :: st) k n := e ▸ kk
theorem g_topv {x y : Value} (e : x = y) (kk : gW Y P lv pc (y :: st) k n) : gW Y P lv pc (x :: st) k n := e ▸ kk
theorem g_ialdN (F : gF Y cc own rm hh ret) {a N m : Nat} {f : Nat → Int32} {i : Int32} (hi : i = nI m) (hm : m < N) (hN : N < 2 ^ 31) (hg : gAt P a (gIA Y.2.1 N f)) (d : decode cc pc = .ok (.iaload, 1)) (kk : gW Y P lv (pc + 1) (.int (f m) :: st) k n) : gW Y P lv pc (.int i :: .ref a :: st) k n := by
  subst hi
  refine g_iald F (vp_in_nI hm hN) hg d ?_
  rw [nI_clamp (by omega)]
  exact kk
theorem g_zaldN (F : gF Y cc own rm hh ret) {a N m : Nat} {f : Nat → Int32} {i : Int32} (hi : i = nI m) (hm : m < N) (hN : N < 2 ^ 31) (hg : gAt P a (gZA Y.2.1 N f)) (d : decode cc pc = .ok (.baload, 1)) (kk : gW Y P lv (pc + 1) (.int (f m) :: st) k n) : gW Y P lv pc (.int i :: .ref a :: st) k n := by
  subst hi
  refine g_zald F (vp_in_nI hm hN) hg d ?_
  rw [nI_clamp (by omega)]
  exact kk
theorem g_laldN (F : gF Y cc own rm hh ret) {a N m : Nat} {f : Nat → Int64} {i : Int32} (hi : i = nI m) (hm : m < N) (hN : N < 2 ^ 31) (hg : gAt P a (gJA Y.2.1 N f)) (d : decode cc pc = .ok (.laload, 1)) (kk : gW Y P lv (pc + 1) (.long (f m) :: st) k n) : gW Y P lv pc (.int i :: .ref a :: st) k n := by
  subst hi
  refine g_lald F (vp_in_nI hm hN) hg d ?_
  rw [nI_clamp (by omega)]
  exact kk
theorem g_daldN (F : gF Y cc own rm hh ret) {a N m : Nat} {f : Nat → UInt64} {i : Int32} (hi : i = nI m) (hm : m < N) (hN : N < 2 ^ 31) (hg : gAt P a (gDA Y.2.1 N f)) (d : decode cc pc = .ok (.daload, 1)) (kk : gW Y P lv (pc + 1) (.double (f m) :: st) k n) : gW Y P lv pc (.int i :: .ref a :: st) k n := by
  subst hi
  refine g_dald F (vp_in_nI hm hN) hg d ?_
  rw [nI_clamp (by omega)]
  exact kk
theorem g_iastN (F : gF Y cc own rm hh ret) {a N m : Nat} {f : Nat → Int32} {i x : Int32} (hi : i = nI m) (hm : m < N) (hN : N < 2 ^ 31) (hg : ∀ h, P h → ∃ τ, h a = some (τ, gIA Y.2.1 N f) ∧ P2 (gset h a τ (gIA Y.2.1 N (upd f m x)))) (d : decode cc pc = .ok (.iastore, 1)) (kk : gW Y P2 lv (pc + 1) st k n) : gW Y P lv pc (.int x :: .int i :: .ref a :: st) k n := by
  subst hi
  exact g_iast F (vp_in_nI hm hN) (by rw [nI_clamp (by omega)]; exact hg) d kk
theorem g_zastN (F : gF Y cc own rm hh ret) {a N m : Nat} {f : Nat → Int32} {i x : Int32} (hi : i = nI m) (hm : m < N) (hN : N < 2 ^ 31) (hx : vp_nar .boolean x = x) (hg : ∀ h, P h → ∃ τ, h a = some (τ, gZA Y.2.1 N f) ∧ P2 (gset h a τ (gZA Y.2.1 N (upd f m x)))) (d : decode cc pc = .ok (.bastore, 1)) (kk : gW Y P2 lv (pc + 1) st k n) : gW Y P lv pc (.int x :: .int i :: .ref a :: st) k n := by
  subst hi
  exact g_zast F (vp_in_nI hm hN) hx (by rw [nI_clamp (by omega)]; exact hg) d kk
theorem g_lastN (F : gF Y cc own rm hh ret) {a N m : Nat} {f : Nat → Int64} {i : Int32} {x : Int64} (hi : i = nI m) (hm : m < N) (hN : N < 2 ^ 31) (hg : ∀ h, P h → ∃ τ, h a = some (τ, gJA Y.2.1 N f) ∧ P2 (gset h a τ (gJA Y.2.1 N (vp_updL f m x)))) (d : decode cc pc = .ok (.lastore, 1)) (kk : gW Y P2 lv (pc + 1) st k n) : gW Y P lv pc (.long x :: .int i :: .ref a :: st) k n := by
  subst hi
  exact g_last F (vp_in_nI hm hN) (by rw [nI_clamp (by omega)]; exact hg) d kk
theorem g_dastN (F : gF Y cc own rm hh ret) {a N m : Nat} {f : Nat → UInt64} {i : Int32} {x : UInt64} (hi : i = nI m) (hm : m < N) (hN : N < 2 ^ 31) (hg : ∀ h, P h → ∃ τ, h a = some (τ, gDA Y.2.1 N f) ∧ P2 (gset h a τ (gDA Y.2.1 N (vf_upd f m x)))) (d : decode cc pc = .ok (.dastore, 1)) (kk : gW Y P2 lv (pc + 1) st k n) : gW Y P lv pc (.double x :: .int i :: .ref a :: st) k n := by
  subst hi
  exact g_dast F (vp_in_nI hm hN) (by rw [nI_clamp (by omega)]; exact hg) d kk
/-- new arrays of the five kinds, of a known length -/
theorem g_newI (F : gF Y cc own rm hh ret) (τ : Nat × Nat) {x : Int32} {N : Nat} (hx : x = nI N) (hN : N < 2 ^ 20) (k2 n2 : Nat) (hk : k + 1 ≤ k2) (hn : n + N ≤ n2) (hkr : k2 ≤ rm.cells) (hnr : n2 ≤ rm.slots) {Pa : Nat → gH → Prop} (hp : ∀ h a, P h → h a = none → Pa a (gset h a τ (gIA Y.2.1 N (fun _ => 0)))) (d : decode cc pc = .ok (.newarray .int, 2)) (kk : ∀ a, gW Y (Pa a) lv (pc + 2) (.ref a :: st) k2 n2) : gW Y P lv pc (.int x :: st) k n := by
  subst hx
  exact g_newa F (atype := .int) (ty := .int) 0 (N, .inl (fun _ => 0)) rfl q112 rfl (fun h => h) τ rfl (nI_pos (by omega)) (nI_clamp (by omega)) (by show N * 4 ≤ _; omega) k2 n2 hk hn hkr hnr hp d kk
theorem g_newZ (F : gF Y cc own rm hh ret) (τ : Nat × Nat) {x : Int32} {N : Nat} (hx : x = nI N) (hN : N < 2 ^ 20) (k2 n2 : Nat) (hk : k + 1 ≤ k2) (hn : n + N ≤ n2) (hkr : k2 ≤ rm.cells) (hnr : n2 ≤ rm.slots) {Pa : Nat → gH → Prop} (hp : ∀ h a, P h → h a = none → Pa a (gset h a τ (gZA Y.2.1 N (fun _ => 0)))) (d : decode cc pc = .ok (.newarray .boolean, 2)) (kk : ∀ a, gW Y (Pa a) lv (pc + 2) (.ref a :: st) k2 n2) : gW Y P lv pc (.int x :: st) k n := by
  subst hx
  exact g_newa F (atype := .boolean) (ty := .boolean) 1 (N, .inl (fun _ => 0)) rfl q190 rfl (fun h => h) τ rfl (nI_pos (by omega)) (nI_clamp (by omega)) (by show N * 1 ≤ _; omega) k2 n2 hk hn hkr hnr hp d kk
theorem g_newJ (F : gF Y cc own rm hh ret) (τ : Nat × Nat) {x : Int32} {N : Nat} (hx : x = nI N) (hN : N < 2 ^ 20) (k2 n2 : Nat) (hk : k + 1 ≤ k2) (hn : n + N ≤ n2) (hkr : k2 ≤ rm.cells) (hnr : n2 ≤ rm.slots) {Pa : Nat → gH → Prop} (hp : ∀ h a, P h → h a = none → Pa a (gset h a τ (gJA Y.2.1 N (fun _ => 0)))) (d : decode cc pc = .ok (.newarray .long, 2)) (kk : ∀ a, gW Y (Pa a) lv (pc + 2) (.ref a :: st) k2 n2) : gW Y P lv pc (.int x :: st) k n := by
  subst hx
  exact g_newa F (atype := .long) (ty := .long) 2 (N, .inr (.inl (fun _ => 0))) rfl q1849 rfl (fun h => h) τ rfl (nI_pos (by omega)) (nI_clamp (by omega)) (by show N * 8 ≤ _; omega) k2 n2 hk hn hkr hnr hp d kk
theorem g_newD (F : gF Y cc own rm hh ret) (τ : Nat × Nat) {x : Int32} {N : Nat} (hx : x = nI N) (hN : N < 2 ^ 20) (k2 n2 : Nat) (hk : k + 1 ≤ k2) (hn : n + N ≤ n2) (hkr : k2 ≤ rm.cells) (hnr : n2 ≤ rm.slots) {Pa : Nat → gH → Prop} (hp : ∀ h a, P h → h a = none → Pa a (gset h a τ (gDA Y.2.1 N (fun _ => 0)))) (d : decode cc pc = .ok (.newarray .double, 2)) (kk : ∀ a, gW Y (Pa a) lv (pc + 2) (.ref a :: st) k2 n2) : gW Y P lv pc (.int x :: st) k n := by
  subst hx
  exact g_newa F (atype := .double) (ty := .double) 3 (N, .inr (.inr (.inr (.inl (fun _ => 0))))) rfl q1850 rfl (fun h => h) τ rfl (nI_pos (by omega)) (nI_clamp (by omega)) (by show N * 8 ≤ _; omega) k2 n2 hk hn hkr hnr hp d kk
theorem g_newB (F : gF Y cc own rm hh ret) (τ : Nat × Nat) {x : Int32} {N : Nat} (hx : x = nI N) (hN : N < 2 ^ 20) (k2 n2 : Nat) (hk : k + 1 ≤ k2) (hn : n + N ≤ n2) (hkr : k2 ≤ rm.cells) (hnr : n2 ≤ rm.slots) {Pa : Nat → gH → Prop} (hp : ∀ h a, P h → h a = none → Pa a (gset h a τ (gBA Y.2.1 N (fun _ => 0)))) (d : decode cc pc = .ok (.newarray .byte, 2)) (kk : ∀ a, gW Y (Pa a) lv (pc + 2) (.ref a :: st) k2 n2) : gW Y P lv pc (.int x :: st) k n := by
  subst hx
  exact g_newa F (atype := .byte) (ty := .byte) 5 (N, .inl (fun _ => 0)) rfl q111 rfl (fun h => h) τ rfl (nI_pos (by omega)) (nI_clamp (by omega)) (by show N * 1 ≤ _; omega) k2 n2 hk hn hkr hnr hp d kk
end GSHORT
section GDB2
variable {M : Nat} {G : gG} {S : gS} {A : Nat → Nat → Nat} {Fr : gH → Prop} {T : List (Nat × va_E)}
/-- a passing cell rewritten by a callee -/
theorem pr_up (hM : M ≤ 1) (hF : gFr M Fr) {j a : Nat} {c0 c1 : va_E} (hj : T[j]? = some (a, c0)) : ∀ h, gUp (gP M G S A Fr T) a c0 c1 h → gP M G S A Fr (T.set j (a, c1)) h := fun h hp => by
  obtain ⟨h0, τ, q1, q2, rfl⟩ := hp
  have h9 := pr_setTAt (e1 := c1) hM hF hj q1
  have e : τ = (5000 + j, 0) := congrArg Prod.fst (Option.some.inj (q2.symm.trans h9.1))
  rw [e]
  exact h9.2
theorem pr_upRow (hM : M ≤ 1) (hF : gFr M Fr) {κ i : Nat} {e e1 : va_E} (r : Nat → Int32) (hk : κ < 300) (hi : i < gcnt S κ) (he : gcell M G A κ i (S.1 κ i) = some e) (he1 : gcell M G A κ i r = some e1) : ∀ h, gUp (gP M G S A Fr T) (A κ i) e e1 h → gP M G (gsr S.1 κ i r, S.2) A Fr T h := fun h hp => by
  obtain ⟨h0, τ, q1, q2, rfl⟩ := hp
  have h9 := pr_setAt hM hF hk hi he he1 q1
  have e : τ = (κ + 1000 * M, i) := congrArg Prod.fst (Option.some.inj (q2.symm.trans h9.1))
  rw [e]
  exact h9.2
theorem pr_at {κ i : Nat} {e : va_E} (hk : κ < 300) (hi : i < gcnt S κ) (he : gcell M G A κ i (S.1 κ i) = some e) : gAt (gP M G S A Fr T) (A κ i) e := pr_row hk hi he
theorem pr_atT {j a : Nat} {e : va_E} (hj : T[j]? = some (a, e)) : gAt (gP M G S A Fr T) a e := pr_T hj
end GDB2
theorem gc1 {S : gS} {κ : Nat} (h : κ < 6) : 0 < gcnt S κ := by
  unfold gcnt
  rw [if_pos h]
  decide
theorem gc6 {S : gS} {κ i : Nat} (h : ¬ κ < 6) (hi : i < S.2 κ) : i < gcnt S κ := by
  unfold gcnt
  rw [if_neg h]
  exact hi
theorem gce {M : Nat} {G : gG} {A : Nat → Nat → Nat} {κ i : Nat} {r r2 : Nat → Int32} {e : va_E} (h : r2 = r) (he : gcell M G A κ i r = some e) : gcell M G A κ i r2 = some e := h ▸ he
theorem gT_set {T : List (Nat × va_E)} {j : Nat} {x y : Nat × va_E} (h : T[j]? = some x) : (T.set j y)[j]? = some y := List.getElem?_set_self (List.getElem?_eq_some_iff.mp h).1
