/-! FOR THE PRINTED WALKS -/
theorem gF_l {Y : gY} {cc : ByteArray} {own : String} {rm : Room} {hh : gHh} {ret : Option FieldType} (F : gF Y cc own rm hh ret) : Y.1.2.1.stackTraces = false := F.2.2.2.2.2.2.2.1
theorem gle {a b : Nat} (h : Nat.ble a b = true) : a ≤ b := Nat.le_of_ble_eq_true h
theorem gnl {a b : Nat} (h : Nat.ble (a + 1) b = true) : a < b := Nat.le_of_ble_eq_true h
theorem gno {c : Prop} {A : Prop} (h : ¬ c) (k : c) : A := absurd k h
def gmax (x y : Int32) : Int32 := if x < y then y else x
def gmin (x y : Int32) : Int32 := if y < x then y else x
def gabs (x : Int32) : Int32 := if 0 ≤ x then x else 0 - x
theorem gb_zn {c : Prop} [Decidable c] : vp_nar .boolean (gb c) = gb c := by
  unfold gb
  by_cases h : c
  · rw [if_pos h]; rfl
  · rw [if_neg h]; rfl
theorem gsr_p {σ : Nat → Nat → Nat → Int32} {κ κ0 i i0 : Nat} {r r0 : Nat → Int32} (h : κ ≠ κ0) (e : σ κ i = r) : gsr σ κ0 i0 r0 κ i = r := (gsr_n fun q => h q.1).trans e
/-- P's heap with one new cell -/
def gNw (P : gH → Prop) (τ : Nat × Nat) (a : Nat) (c : va_E) : gH → Prop := fun h => ∃ h0, P h0 ∧ h0 a = none ∧ h = gset h0 a τ c
theorem gNw_new {P : gH → Prop} {τ : Nat × Nat} {c : va_E} : ∀ (h : gH) (a : Nat), P h → h a = none → gNw P τ a c (gset h a τ c) := fun h _ hp ha => ⟨h, hp, ha, rfl⟩
theorem gNw_at {P : gH → Prop} {τ : Nat × Nat} {a : Nat} {c : va_E} : gAt (gNw P τ a c) a c := fun h hp => by
  obtain ⟨h0, q1, q2, rfl⟩ := hp
  exact ⟨τ, gset_s⟩
theorem gNw_h {P : gH → Prop} {τ : Nat × Nat} {a : Nat} {c : va_E} {h0 : gH} {b : Nat} {x : (Nat × Nat) × va_E} (q2 : h0 a = none) (q3 : h0 b = some x) : gset h0 a τ c b = some x := by
  rw [gset_n]
  · exact q3
  · intro q
    subst q
    rw [q2] at q3
    cases q3
theorem gNw_rd {P : gH → Prop} {τ : Nat × Nat} {a b : Nat} {c e : va_E} (hb : gAt P b e) : gAt (gNw P τ a c) b e := fun h hp => by
  obtain ⟨h0, q1, q2, rfl⟩ := hp
  obtain ⟨τ2, q3⟩ := hb h0 q1
  exact ⟨τ2, gNw_h (P := P) q2 q3⟩
theorem gNw_set {P : gH → Prop} {τ : Nat × Nat} {a : Nat} {c c1 : va_E} : ∀ h, gNw P τ a c h → ∃ τ2, h a = some (τ2, c) ∧ gNw P τ a c1 (gset h a τ2 c1) := fun h hp => by
  obtain ⟨h0, q1, q2, rfl⟩ := hp
  exact ⟨τ, gset_s, h0, q1, q2, gset_gset⟩
theorem gNw_ne {P : gH → Prop} {τ : Nat × Nat} {a b : Nat} {c e : va_E} (hb : gAt P b e) : ∀ h, gNw P τ a c h → b ≠ a := fun h hp q => by
  obtain ⟨h0, q1, q2, rfl⟩ := hp
  obtain ⟨τ2, q3⟩ := hb h0 q1
  subst q
  rw [q2] at q3
  cases q3
theorem gNw_up {P : gH → Prop} {τ : Nat × Nat} {a : Nat} {c c1 : va_E} : ∀ h, gUp (gNw P τ a c) a c c1 h → gNw P τ a c1 h := fun h hp => by
  obtain ⟨h0, τ2, ⟨h1, q1, q2, rfl⟩, q3, rfl⟩ := hp
  rw [gset_s] at q3
  cases q3
  exact ⟨h1, q1, q2, gset_gset⟩
theorem g_toInt_ne {x y : Int32} (h : ¬ x = y) : ¬ x.toInt = y.toInt := fun q => h (Int32.toInt_inj.mp q)
section GW17
variable {Y : gY} {cc : ByteArray} {own : String} {rm : Room} {hh : gHh} {ret : Option FieldType} {P P2 : gH → Prop} {lv : List (Nat × Value)} {pc k n : Nat} {st : List Value}
theorem gb_if_eq (F : gF Y cc own rm hh ret) {c : Prop} [Decidable c] {off : Int} {tgt : Nat} (ht : (pc : Int) + off = (tgt : Int)) (d : decode cc pc = .ok (.ifCond .eq off, 3)) (kt : ¬ c → gW Y P lv tgt st k n) (kf : c → gW Y P lv (pc + 3) st k n) : gW Y P lv pc (.int (gb c) :: st) k n :=
  g_if_eq F ht d (fun h => kt (gb_0.mp h)) (fun h => kf (gb_n0.mp h))
theorem gb_if_ne (F : gF Y cc own rm hh ret) {c : Prop} [Decidable c] {off : Int} {tgt : Nat} (ht : (pc : Int) + off = (tgt : Int)) (d : decode cc pc = .ok (.ifCond .ne off, 3)) (kt : c → gW Y P lv tgt st k n) (kf : ¬ c → gW Y P lv (pc + 3) st k n) : gW Y P lv pc (.int (gb c) :: st) k n :=
  g_if_ne F ht d (fun h => kt (gb_n0.mp h)) (fun h => kf (gb_0.mp h))
theorem g_cases {x : Int32} (y : Int32) (kt : x = y → gW Y P lv pc st k n) (kf : ¬ x = y → gW Y P lv pc st k n) : gW Y P lv pc st k n := by
  by_cases h : x = y
  · exact kt h
  · exact kf h
theorem gm_maxB : cJ11_max = Lib.Math.max.code := by decide +kernel
theorem g_mmax (F : gF Y cc own rm hh ret) {x y : Int32} {index : Nat} (hlink : Cond.methodLink own index yJ11_max ∈ lw_all) (hfr : 1 ≤ rm.frames) (hlo : (st.map fun v => v.category).sum + 13 ≤ rm.locals) (hc : k ≤ rm.cells) (hs : n ≤ rm.slots) (d : decode cc pc = .ok (.invokestatic index, 3)) (kk : gW Y P lv (pc + 3) (.int (gmax x y) :: st) k n) : gW Y P lv pc (.int y :: .int x :: st) k n := by
  intro H locs ls h hP hR hL hl
  have hrm := gF_R F
  refine va_mmax F.1 F.2.1 (F.2.2.1.trans hl.1.symm) F.2.2.2.1 (gF_t F hlink) (gF_t F q455) (gF_t F q32) (gF_t F (gm_maxB ▸ q456)) (by rw [hrm]; exact hfr) (by rw [hrm]; exact hlo) (by rw [hrm]; exact hc) (by rw [hrm]; exact hs) d (kk H locs ls h hP hR hL hl)
theorem gm_minB : cJ11_min = Lib.Math.min.code := by decide +kernel
theorem g_mmin (F : gF Y cc own rm hh ret) {x y : Int32} {index : Nat} (hlink : Cond.methodLink own index yJ11_min ∈ lw_all) (hfr : 1 ≤ rm.frames) (hlo : (st.map fun v => v.category).sum + 13 ≤ rm.locals) (hc : k ≤ rm.cells) (hs : n ≤ rm.slots) (d : decode cc pc = .ok (.invokestatic index, 3)) (kk : gW Y P lv (pc + 3) (.int (gmin x y) :: st) k n) : gW Y P lv pc (.int y :: .int x :: st) k n := by
  intro H locs ls h hP hR hL hl
  have hrm := gF_R F
  refine va_mmin F.1 F.2.1 (F.2.2.1.trans hl.1.symm) F.2.2.2.1 (gF_t F hlink) (gF_t F q458) (gF_t F q32) (gF_t F (gm_minB ▸ q459)) (by rw [hrm]; exact hfr) (by rw [hrm]; exact hlo) (by rw [hrm]; exact hc) (by rw [hrm]; exact hs) d (kk H locs ls h hP hR hL hl)
theorem gm_absB : cJ11_abs = Lib.Math.abs.code := by decide +kernel
theorem g_mabs (F : gF Y cc own rm hh ret) {x : Int32} {index : Nat} (hlink : Cond.methodLink own index yJ11_abs ∈ lw_all) (hfr : 1 ≤ rm.frames) (hlo : (st.map fun v => v.category).sum + 13 ≤ rm.locals) (hc : k ≤ rm.cells) (hs : n ≤ rm.slots) (d : decode cc pc = .ok (.invokestatic index, 3)) (kk : gW Y P lv (pc + 3) (.int (gabs x) :: st) k n) : gW Y P lv pc (.int x :: st) k n := by
  intro H locs ls h hP hR hL hl
  have hrm := gF_R F
  refine va_mabs F.1 F.2.1 (F.2.2.1.trans hl.1.symm) F.2.2.2.1 (gF_t F hlink) (gF_t F q1071) (gF_t F q32) (gF_t F (gm_absB ▸ q1072)) (by rw [hrm]; exact hfr) (by rw [hrm]; exact hlo) (by rw [hrm]; exact hc) (by rw [hrm]; exact hs) d (kk H locs ls h hP hR hL hl)
theorem gv_c9 {α : Type} {Pa : α → gH → Prop} (kk : ∀ x, gW Y (Pa x) lv pc st k n) {v : Option Value} : gW Y (fun h => v = none ∧ ∃ x, Pa x h) lv pc (v.toList ++ st) k n := fun H locs ls h hP hR hL hl => by
  obtain ⟨rfl, x, hP⟩ := hP
  exact kk x H locs ls h hP hR hL hl
/-- a split of what is known of the heap -/
theorem g_or {P1 P2 : gH → Prop} (h1 : gW Y P1 lv pc st k n) (h2 : gW Y P2 lv pc st k n) : gW Y (fun h => P1 h ∨ P2 h) lv pc st k n := fun H locs ls h hP hR hL hl => hP.elim (fun q => h1 H locs ls h q hR hL hl) (fun q => h2 H locs ls h q hR hL hl)
end GW17
theorem gface_0 : gMd ⟨"java/util/List", "size", "()I"⟩ 0 := by unfold gMd; decide +kernel
theorem gface_1 : gMd ⟨"java/util/List", "get", "(I)Ljava/lang/Object;"⟩ 1 := by unfold gMd; decide +kernel
theorem gface_2 : gMd ⟨"java/util/List", "add", "(Ljava/lang/Object;)Z"⟩ 1 := by unfold gMd; decide +kernel
theorem gface_3 : gMd ⟨"java/util/List", "isEmpty", "()Z"⟩ 0 := by unfold gMd; decide +kernel
theorem gface_4 : gMd ⟨"java/util/List", "iterator", "()Ljava/util/Iterator;"⟩ 0 := by unfold gMd; decide +kernel
theorem gface_5 : gMd ⟨"java/lang/Iterable", "iterator", "()Ljava/util/Iterator;"⟩ 0 := by unfold gMd; decide +kernel
theorem gface_6 : gMd ⟨"java/util/Iterator", "hasNext", "()Z"⟩ 0 := by unfold gMd; decide +kernel
theorem gface_7 : gMd ⟨"java/util/Iterator", "next", "()Ljava/lang/Object;"⟩ 0 := by unfold gMd; decide +kernel
theorem gface_8 : gMd ⟨"java/util/function/Predicate", "test", "(Ljava/lang/Object;)Z"⟩ 1 := by unfold gMd; decide +kernel
theorem gface_9 : gMd ⟨"java/util/function/ToIntFunction", "applyAsInt", "(Ljava/lang/Object;)I"⟩ 1 := by unfold gMd; decide +kernel
theorem pnJ0 : plainName RJ0 = true := by decide +kernel
theorem pnJ1 : plainName RJ1 = true := by decide +kernel
theorem pnJ10 : plainName RJ10 = true := by decide +kernel
theorem pnJ12 : plainName RJ12 = true := by decide +kernel
theorem pnJ13 : plainName RJ13 = true := by decide +kernel
theorem pnJ14 : plainName RJ14 = true := by decide +kernel
theorem pnJ15 : plainName RJ15 = true := by decide +kernel
theorem pnJ16 : plainName RJ16 = true := by decide +kernel
theorem pnJ17 : plainName RJ17 = true := by decide +kernel
theorem pnJ18 : plainName RJ18 = true := by decide +kernel
theorem pnJ19 : plainName RJ19 = true := by decide +kernel
theorem pnJ2 : plainName RJ2 = true := by decide +kernel
theorem pnJ20 : plainName RJ20 = true := by decide +kernel
theorem pnJ21 : plainName RJ21 = true := by decide +kernel
theorem pnJ22 : plainName RJ22 = true := by decide +kernel
theorem pnJ3 : plainName RJ3 = true := by decide +kernel
theorem pnJ4 : plainName RJ4 = true := by decide +kernel
theorem pnJ5 : plainName RJ5 = true := by decide +kernel
theorem pnJ6 : plainName RJ6 = true := by decide +kernel
theorem pnJ7 : plainName RJ7 = true := by decide +kernel
theorem pnJ8 : plainName RJ8 = true := by decide +kernel
theorem pnJ9 : plainName RJ9 = true := by decide +kernel
theorem pnX0 : plainName RX0 = true := by decide +kernel
theorem pnX1 : plainName RX1 = true := by decide +kernel
theorem pnX10 : plainName RX10 = true := by decide +kernel
theorem pnX11 : plainName RX11 = true := by decide +kernel
theorem pnX12 : plainName RX12 = true := by decide +kernel
theorem pnX13 : plainName RX13 = true := by decide +kernel
theorem pnX14 : plainName RX14 = true := by decide +kernel
theorem pnX15 : plainName RX15 = true := by decide +kernel
theorem pnX16 : plainName RX16 = true := by decide +kernel
theorem pnX17 : plainName RX17 = true := by decide +kernel
theorem pnX18 : plainName RX18 = true := by decide +kernel
theorem pnX2 : plainName RX2 = true := by decide +kernel
theorem pnX3 : plainName RX3 = true := by decide +kernel
theorem pnX4 : plainName RX4 = true := by decide +kernel
theorem pnX5 : plainName RX5 = true := by decide +kernel
theorem pnX6 : plainName RX6 = true := by decide +kernel
theorem pnX7 : plainName RX7 = true := by decide +kernel
theorem pnX8 : plainName RX8 = true := by decide +kernel
theorem pnX9 : plainName RX9 = true := by decide +kernel
/-! LISTS -/
def gL1 (P : gH → Prop) (G : gG) (t1 t2 a len : Nat) (el : Nat → Nat) (mc : Int32) (ed cap : Nat) (f : Nat → Option Nat) : gH → Prop := fun h => P h ∧ h a = some ((t1, 0), .inr (16, [.int mc, .ref ed, .int (nI len)])) ∧ ((ed = G.2.2.2.2.2.2.1 0 ∧ len = 0 ∧ cap = 0) ∨ (h ed = some ((t2, 0), gOA G cap f) ∧ len ≤ cap ∧ 2 ≤ cap ∧ cap ≤ 150)) ∧ ∀ j, j < len → f j = some (el j)
def gL2 (P : gH → Prop) (G : gG) (t1 t2 a len : Nat) (mc : Int32) (ed cap : Nat) (f : Nat → Option Nat) : gH → Prop := fun h => P h ∧ h a = some ((t1, 0), .inr (16, [.int mc, .ref ed, .int (nI len)])) ∧ h ed = some ((t2, 0), gOA G cap f)
theorem gL1_at {P : gH → Prop} {G : gG} {t1 t2 a len : Nat} {el : Nat → Nat} {mc : Int32} {ed cap : Nat} {f : Nat → Option Nat} : gAt (gL1 P G t1 t2 a len el mc ed cap f) a (.inr (16, [.int mc, .ref ed, .int (nI len)])) := fun _ hp => ⟨_, hp.2.1⟩
theorem gL2_at {P : gH → Prop} {G : gG} {t1 t2 a len : Nat} {mc : Int32} {ed cap : Nat} {f : Nat → Option Nat} : gAt (gL2 P G t1 t2 a len mc ed cap f) a (.inr (16, [.int mc, .ref ed, .int (nI len)])) := fun _ hp => ⟨_, hp.2.1⟩
theorem gL2_ed {P : gH → Prop} {G : gG} {t1 t2 a len : Nat} {mc : Int32} {ed cap : Nat} {f : Nat → Option Nat} : gAt (gL2 P G t1 t2 a len mc ed cap f) ed (gOA G cap f) := fun _ hp => ⟨_, hp.2.2⟩
/-- after 'add' -/
def gAdd (P : gH → Prop) (G : gG) (t1 t2 a len : Nat) (el : Nat → Nat) (v : Nat) : gH → Prop := fun h2 => ∃ h, P h ∧ (∀ b τ e, h b = some (τ, e) → τ ≠ (t1, 0) → τ ≠ (t2, 0) → h2 b = some (τ, e)) ∧ gLs G h2 t1 t2 a (len + 1) (va_up el len v)
section GLISTS
variable {Y : gY} {cc : ByteArray} {own : String} {rm : Room} {hh : gHh} {ret : Option FieldType} {P P2 : gH → Prop} {lv : List (Nat × Value)} {pc k n : Nat} {st : List Value}
theorem g_ls {G : gG} {t1 t2 a len : Nat} {el : Nat → Nat} (hls : ∀ h, P h → gLs G h t1 t2 a len el) (kk : ∀ mc ed cap f, gW Y (gL1 P G t1 t2 a len el mc ed cap f) lv pc st k n) : gW Y P lv pc st k n := fun H locs ls h hP hR hL hl => by
  obtain ⟨mc, ed, cap, f, h1, h2, h3⟩ := hls h hP
  exact kk mc ed cap f H locs ls h ⟨hP, h1, h2, h3⟩ hR hL hl
theorem g_ls2 {G : gG} {t1 t2 a len : Nat} {el : Nat → Nat} (hls : ∀ h, P h → gLs G h t1 t2 a len el) (h0 : 0 < len) (kk : ∀ mc ed cap f, len ≤ cap → 2 ≤ cap → cap ≤ 150 → (∀ j, j < len → f j = some (el j)) → gW Y (gL2 P G t1 t2 a len mc ed cap f) lv pc st k n) : gW Y P lv pc st k n := fun H locs ls h hP hR hL hl => by
  obtain ⟨mc, ed, cap, f, h1, h2, h3⟩ := hls h hP
  rcases h2 with h2 | h2
  · omega
  · exact kk mc ed cap f h2.2.1 h2.2.2.1 h2.2.2.2 h3 H locs ls h ⟨hP, h1, h2.1⟩ hR hL hl
/-- .. with the split: empty, room left, full -/
theorem g_ls3 {G : gG} {t1 t2 a len : Nat} {el : Nat → Nat} (hls : ∀ h, P h → gLs G h t1 t2 a len el) (k0 : ∀ mc, len = 0 → gW Y (fun h => P h ∧ h a = some ((t1, 0), .inr (16, [.int mc, .ref (G.2.2.2.2.2.2.1 0), .int (nI len)]))) lv pc st k n) (k1 : ∀ mc ed cap f, len ≤ cap → 2 ≤ cap → cap ≤ 150 → (∀ j, j < len → f j = some (el j)) → gW Y (gL2 P G t1 t2 a len mc ed cap f) lv pc st k n) : gW Y P lv pc st k n := fun H locs ls h hP hR hL hl => by
  obtain ⟨mc, ed, cap, f, h1, h2, h3⟩ := hls h hP
  rcases h2 with ⟨rfl, h2, -⟩ | h2
  · exact k0 mc h2 H locs ls h ⟨hP, h1⟩ hR hL hl
  · exact k1 mc ed cap f h2.2.1 h2.2.2.1 h2.2.2.2 h3 H locs ls h ⟨hP, h1, h2.1⟩ hR hL hl
/-- what a list may hold -/
def gOk (G : gG) (e : va_E) : Prop := (∃ ci fs, e = .inr (ci, fs) ∧ 3 ≤ ci ∧ ci ≤ 15) ∨ ∃ N f, e = gIA G N f
def gEl (G : gG) (P : gH → Prop) (a : Nat) : Prop := ∀ h, P h → ∃ τ e, h a = some (τ, e) ∧ gOk G e
theorem gOk_cl : ∀ ci, 3 ≤ ci → ci ≤ 15 → ∃ (C : String) (T : u_T) (N : Nat) (ty : Nat → FieldType), gCl ci C T N ty ∧ Cond.castable C "java/lang/Object" ∈ gT := by
  intro ci h1 h2
  match ci, h1, h2 with
  | 3, _, _ => exact ⟨_, _, _, _, clX6, gT_w q1865 rfl⟩
  | 4, _, _ => exact ⟨_, _, _, _, clX7, gT_w q1866 rfl⟩
  | 5, _, _ => exact ⟨_, _, _, _, clX8, gT_w q1869 rfl⟩
  | 6, _, _ => exact ⟨_, _, _, _, clX9, gT_w q1870 rfl⟩
  | 7, _, _ => exact ⟨_, _, _, _, clX10, gT_w q1871 rfl⟩
  | 8, _, _ => exact ⟨_, _, _, _, clX11, gT_w q1872 rfl⟩
  | 9, _, _ => exact ⟨_, _, _, _, clX12, gT_w q1873 rfl⟩
  | 10, _, _ => exact ⟨_, _, _, _, clX13, gT_w q1874 rfl⟩
  | 11, _, _ => exact ⟨_, _, _, _, clX14, gT_w q1875 rfl⟩
  | 12, _, _ => exact ⟨_, _, _, _, clX15, gT_w q1876 rfl⟩
  | 13, _, _ => exact ⟨_, _, _, _, clX16, gT_w q1877 rfl⟩
  | 14, _, _ => exact ⟨_, _, _, _, clX17, gT_w q1879 rfl⟩
  | 15, _, _ => exact ⟨_, _, _, _, clX18, gT_w q1880 rfl⟩
theorem gEl_recv (F : gF Y cc own rm hh ret) {a : Nat} (h : gEl Y.2.1 P a) : ∀ (H : Heap) (h9 : gH), P h9 → gR Y.2.1 h9 H → ∃ cell : Cell, H[a]? = some cell ∧ cell.vm.isStatics = false ∧ ∃ C : String, Y.1.2.2.2.2.1.vm.findClass C = some cell.cls ∧ Cond.castable C "java/lang/Object" ∈ gT := by
  intro H h9 hp hR
  obtain ⟨τ, e, h1, h2⟩ := h h9 hp
  rcases h2 with ⟨ci, fs, rfl, h3, h4⟩ | ⟨N, f, rfl⟩
  · obtain ⟨C, T, N, ty, hc, hcast⟩ := gOk_cl ci h3 h4
    obtain ⟨cell, q1, q2, q3⟩ := g_recv (P := fun h => h = h9) F hc (b := a) (fun h he => ⟨τ, fs, by rw [he]; exact h1⟩) H h9 rfl hR
    exact ⟨cell, q1, q2, C, q3, hcast⟩
  · obtain ⟨cell, q1, q2, q3⟩ := g_recvI (P := fun h => h = h9) F (b := a) (fun h he => ⟨τ, by rw [he]; exact h1⟩) H h9 rfl hR
    exact ⟨cell, q1, q2, "[I", q3, gT_w q1887 rfl⟩
theorem g_aastE (F : gF Y cc own rm hh ret) {a v N : Nat} {f : Nat → Option Nat} {i : Int32} (hin : vp_in i N) (hel : gEl Y.2.1 P v) (hg : ∀ h, P h → ∃ τ, h a = some (τ, gOA Y.2.1 N f) ∧ P2 (gset h a τ (gOA Y.2.1 N (va_up f i.toNatClampNeg (some v))))) (d : decode cc pc = .ok (.aastore, 1)) (kk : gW Y P2 lv (pc + 1) st k n) : gW Y P lv pc (.ref v :: .int i :: .ref a :: st) k n := by
  intro H locs ls h hP hR hL hl
  obtain ⟨τ, e, h1, h2⟩ := hel h hP
  rcases h2 with ⟨ci, fs, rfl, h3, h4⟩ | ⟨N, f, rfl⟩
  · obtain ⟨C, T, N, ty, hc, hcast⟩ := gOk_cl ci h3 h4
    exact g_aast (P := fun h9 => h9 = h) F hin (g_recv F hc (fun h9 he => ⟨τ, fs, by rw [he]; exact h1⟩)) hcast (fun h9 he => by subst he; exact hg _ hP) d kk H locs ls h rfl hR hL hl
  · exact g_aast (P := fun h9 => h9 = h) F hin (g_recvI F (fun h9 he => ⟨τ, by rw [he]; exact h1⟩)) (gT_w q1887 rfl) (fun h9 he => by subst he; exact hg _ hP) d kk H locs ls h rfl hR hL hl
theorem g_bast (F : gF Y cc own rm hh ret) {a N : Nat} {f : Nat → Int32} {i x : Int32} (hin : vp_in i N) (hx : vp_nar .byte x = x) (hg : ∀ h, P h → ∃ τ, h a = some (τ, gBA Y.2.1 N f) ∧ P2 (gset h a τ (gBA Y.2.1 N (upd f i.toNatClampNeg x)))) (d : decode cc pc = .ok (.bastore, 1)) (kk : gW Y P2 lv (pc + 1) st k n) : gW Y P lv pc (.int x :: .int i :: .ref a :: st) k n := by
  intro H locs ls h hP hR hL hl
  obtain ⟨τ, h1, h2⟩ := hg h hP
  have hB := (hR.1 a τ _ h1).1
  refine W.bast F.1 F.2.1 (hR.1 a τ _ h1).2 (((gF_K F).2 5 (Y.2.1.2.1 5, .byte) rfl).1 N (fun j => .int (f j))) (fun q => by cases q) (by show ¬ (i < 0 ∨ (arrV _ _ _).slots.size ≤ _); rw [arrV_size]; exact hin) rfl rfl d fun H1 e z oq => ?_
  refine kk H1 _ ls _ h2 (gR_put (e1 := gBA Y.2.1 N (upd f i.toNatClampNeg x)) hR h1 ?_ z oq τ) (g_loc hL hB) hl
  show H1[a]? = some (vp_cell _ _)
  rw [e]
  rw [vp_cell_i, vp_cell_i, arrV_store]
  congr 2
  funext q
  by_cases hq : q = i.toNatClampNeg
  · subst hq
    simp [updV, upd]
    first | exact congrArg Value.int hx | (unfold vp_nar at hx; simp_all [narrow])
  · simp [updV, upd, hq]
theorem g_bastN (F : gF Y cc own rm hh ret) {a N m : Nat} {f : Nat → Int32} {i x : Int32} (hi : i = nI m) (hm : m < N) (hN : N < 2 ^ 31) (hx : vp_nar .byte x = x) (hg : ∀ h, P h → ∃ τ, h a = some (τ, gBA Y.2.1 N f) ∧ P2 (gset h a τ (gBA Y.2.1 N (upd f m x)))) (d : decode cc pc = .ok (.bastore, 1)) (kk : gW Y P2 lv (pc + 1) st k n) : gW Y P lv pc (.int x :: .int i :: .ref a :: st) k n := by
  subst hi
  exact g_bast F (vp_in_nI hm hN) hx (by rw [nI_clamp (by omega)]; exact hg) d kk
end GLISTS
theorem vp_nar_b8 (x : Int32) : vp_nar .byte x.toInt8.toInt32 = x.toInt8.toInt32 := by
  show x.toInt8.toInt32.toInt8.toInt32 = _
  simp
/-- P's heap with what else has been made meanwhile -/
def gJk (P : gH → Prop) : gH → Prop := fun h => ∃ h0, P h0 ∧ ∀ b τ e, h0 b = some (τ, e) → h b = some (τ, e)
theorem gJk_0 {P : gH → Prop} : ∀ h, P h → gJk P h := fun h hp => ⟨h, hp, fun _ _ _ q => q⟩
theorem gJk_at {P : gH → Prop} {a : Nat} {e : va_E} (ha : gAt P a e) : gAt (gJk P) a e := fun h hp => by
  obtain ⟨h0, q1, q2⟩ := hp
  obtain ⟨τ, q3⟩ := ha h0 q1
  exact ⟨τ, q2 _ _ _ q3⟩
theorem gJk_nw {P : gH → Prop} {τ : Nat × Nat} {a : Nat} {c : va_E} : ∀ h, gNw (gJk P) τ a c h → gJk P h := fun h hp => by
  obtain ⟨h1, ⟨h0, q1, q2⟩, q3, rfl⟩ := hp
  exact ⟨h0, q1, fun b τ e hb => gNw_h (P := P) q3 (q2 b τ e hb)⟩
theorem gJk_nw2 {P : gH → Prop} {τ : Nat × Nat} {a : Nat} {c c1 : va_E} : ∀ h, gUp (gNw (gJk P) τ a c) a c c1 h → gJk P h := fun h hp => gJk_nw h (gNw_up h hp)
theorem gEl_nw {G : gG} {P : gH → Prop} {τ : Nat × Nat} {a y : Nat} {c : va_E} (h : gEl G P y) : gEl G (gNw P τ a c) y := fun h9 hp => by
  obtain ⟨h0, q1, q2, rfl⟩ := hp
  obtain ⟨τ2, e, q3, q4⟩ := h h0 q1
  exact ⟨τ2, e, gNw_h (P := P) q2 q3, q4⟩
theorem gEl_up {G : gG} {P : gH → Prop} {a y : Nat} {c0 c1 : va_E} (h : gEl G P y) (ho : gOk G c0 → gOk G c1) : gEl G (gUp P a c0 c1) y := fun h9 hp => by
  obtain ⟨h0, τ, q1, q2, rfl⟩ := hp
  obtain ⟨τ2, e, q3, q4⟩ := h h0 q1
  by_cases q : y = a
  · subst q
    rw [q2] at q3
    cases q3
    exact ⟨_, _, gset_s, ho q4⟩
  · exact ⟨τ2, e, by rw [gset_n q]; exact q3, q4⟩
theorem gOk_16 {G : gG} {fs : List Value} {c1 : va_E} (h : gOk G (.inr (16, fs))) : gOk G c1 := by
  rcases h with ⟨ci, f2, q, h1, h2⟩ | ⟨N, f, q⟩
  · injection q with q
    injection q with q1 q2
    omega
  · cases q
theorem gOk_O {N : Nat} {G : gG} {f : Nat → Option Nat} {c1 : va_E} (h : gOk G (gOA G N f)) : gOk G c1 := by
  rcases h with ⟨ci, f2, q, h1, h2⟩ | ⟨N, f, q⟩
  · cases q
  · injection q with q
    injection q with q1 q2
    injection q2 with q2 q3
    cases q3
theorem gmin_le {a b : Nat} (h : a ≤ b) (hb : b < 2 ^ 31) : gmin (nI a) (nI b) = nI a := by
  unfold gmin
  rw [if_neg (nI_nlt h hb)]
theorem grw : ∀ c, c < 101 → 2 ≤ c → (nI c + gmax (nI c + 1 - nI c) (nI c >>> ((1 : Int32) &&& 31)) = nI (c + c / 2)) := by decide +kernel
/-- 'add' in the three cases -/
theorem gAdd_r {P : gH → Prop} {G : gG} {t1 t2 a len : Nat} {el : Nat → Nat} {v : Nat} {mc mc2 : Int32} {ed cap : Nat} {f : Nat → Option Nat} (hlt : len < cap) (h2 : 2 ≤ cap) (h3 : cap ≤ 150) (hf : ∀ j, j < len → f j = some (el j)) : ∀ h, gUp (gUp (gUp (gL2 P G t1 t2 a len mc ed cap f) a (.inr (16, [.int mc, .ref ed, .int (nI len)])) (.inr (16, [.int mc2, .ref ed, .int (nI len)]))) ed (gOA G cap f) (gOA G cap (va_up f len (some v)))) a (.inr (16, [.int mc2, .ref ed, .int (nI len)])) (.inr (16, [.int mc2, .ref ed, .int (nI (len + 1))])) h → gAdd P G t1 t2 a len el v h := fun h hp => by
  obtain ⟨h1, τ1, ⟨h2, τ2, ⟨h3, τ3, ⟨p1, p2, p3⟩, q3, rfl⟩, q2, rfl⟩, q1, rfl⟩ := hp
  have hne : ed ≠ a := by
    intro q
    subst q
    rw [p2] at p3
    cases p3
  have e3 : τ3 = (t1, 0) := by rw [p2] at q3; cases q3; rfl
  have e2 : τ2 = (t2, 0) := by rw [gset_n hne, p3] at q2; cases q2; rfl
  have e1 : τ1 = (t1, 0) := by rw [gset_n (Ne.symm hne), gset_s] at q1; cases q1; exact e3
  refine ⟨h3, p1, fun b τ e hb n1 n2 => ?_, mc2, ed, cap, va_up f len (some v), ?_, Or.inr ⟨?_, hlt, by assumption, by assumption⟩, fun j hj => ?_⟩
  · have b1 : b ≠ a := by
      intro q
      subst q
      rw [p2] at hb
      cases hb
      exact n1 rfl
    have b2 : b ≠ ed := by
      intro q
      subst q
      rw [p3] at hb
      cases hb
      exact n2 rfl
    rw [gset_n b1, gset_n b2, gset_n b1, hb]
  · rw [gset_s, e1]
  · rw [gset_n hne, gset_s, e2]
  · unfold va_up
    by_cases q : j = len
    · rw [if_pos q, if_pos q]
    · rw [if_neg q, if_neg q]
      exact hf j (by omega)
/-- .. with a new array -/
theorem gAdd_n {P P1 : gH → Prop} {G : gG} {t1 t2 a len : Nat} {el : Nat → Nat} {v : Nat} {mc mc2 : Int32} {ed na cap : Nat} {f : Nat → Option Nat} (hP1 : ∀ h, P1 h → P h ∧ h a = some ((t1, 0), .inr (16, [.int mc, .ref ed, .int (nI len)]))) (hlt : len < cap) (h2 : 2 ≤ cap) (h3 : cap ≤ 150) (hf : ∀ j, j < len → f j = some (el j)) : ∀ h, gUp (gUp (gUp (gNw (gUp P1 a (.inr (16, [.int mc, .ref ed, .int (nI len)])) (.inr (16, [.int mc2, .ref ed, .int (nI len)]))) (t2, 0) na (gOA G cap f)) a (.inr (16, [.int mc2, .ref ed, .int (nI len)])) (.inr (16, [.int mc2, .ref na, .int (nI len)]))) na (gOA G cap f) (gOA G cap (va_up f len (some v)))) a (.inr (16, [.int mc2, .ref na, .int (nI len)])) (.inr (16, [.int mc2, .ref na, .int (nI (len + 1))])) h → gAdd P G t1 t2 a len el v h := fun h hp => by
  obtain ⟨h1, τ1, ⟨h2, τ2, ⟨h3, τ3, ⟨h4, ⟨h5, τ5, q5, q6, rfl⟩, q4, rfl⟩, q3, rfl⟩, q2, rfl⟩, q1, rfl⟩ := hp
  obtain ⟨p1, p2⟩ := hP1 _ q5
  have hne : na ≠ a := by
    intro q
    subst q
    rw [gset_s] at q4
    cases q4
  have e5 : τ5 = (t1, 0) := by rw [p2] at q6; cases q6; rfl
  have e3 : τ3 = (t1, 0) := by rw [gset_n (Ne.symm hne), gset_s] at q3; cases q3; exact e5
  have e2 : τ2 = (t2, 0) := by rw [gset_n hne, gset_s] at q2; cases q2; rfl
  have e1 : τ1 = (t1, 0) := by rw [gset_n (Ne.symm hne), gset_s] at q1; cases q1; exact e3
  rw [gset_n hne] at q4
  refine ⟨h5, p1, fun b τ e hb n1 n2 => ?_, mc2, na, cap, va_up f len (some v), ?_, Or.inr ⟨?_, hlt, by assumption, by assumption⟩, fun j hj => ?_⟩
  · have b1 : b ≠ a := by
      intro q
      subst q
      rw [p2] at hb
      cases hb
      exact n1 rfl
    have b2 : b ≠ na := by
      intro q
      subst q
      rw [q4] at hb
      cases hb
    rw [gset_n b1, gset_n b2, gset_n b1, gset_n b2, gset_n b1, hb]
  · rw [gset_s, e1]
  · rw [gset_n hne, gset_s, e2]
  · unfold va_up
    by_cases q : j = len
    · rw [if_pos q, if_pos q]
    · rw [if_neg q, if_neg q]
      exact hf j (by omega)
/-- a string and its bytes: both are junk -/
theorem gJk_st {P : gH → Prop} {τ τ2 : Nat × Nat} {a b : Nat} {c c1 c2 : va_E} : ∀ h, gUp (gNw (gNw (gJk P) τ a c) τ2 b c2) a c c1 h → gJk P h := fun h hp => by
  obtain ⟨h1, τ3, ⟨h2, ⟨h3, ⟨h4, p1, p2⟩, q4, rfl⟩, q3, rfl⟩, q2, rfl⟩ := hp
  refine ⟨h4, p1, fun x τ e hx => ?_⟩
  have hx3 := p2 _ _ _ hx
  have n1 : x ≠ a := by
    intro q
    subst q
    rw [q4] at hx3
    cases hx3
  rw [gset_n n1, gNw_h (P := P) q3]
  rw [gset_n n1]
  exact hx3
/-! STRINGS -/
def gix : List Int32 → Int32 → Nat → Int32
  | [], _, _ => -1
  | b :: bs, c, j => if b = c then nI j else gix bs c (j + 1)
def gidx (i : Nat) (c : Int32) : Int32 := gix (gByt.getD i []) c 0
theorem gLen_sh : ∀ i, i < 7 → nI (gLen.getD i 0) >>> ((0 : Int32) &&& 31) = nI (gLen.getD i 0) := by decide +kernel
theorem gLen_le : ∀ i, i < 7 → gLen.getD i 0 ≤ 10 := by decide +kernel
theorem gLen_by : ∀ i, i < 7 → gLen.getD i 0 = (gByt.getD i []).length := by decide +kernel
theorem gix_miss {c : Int32} : ∀ (bs : List Int32) (j : Nat), (∀ k, k < bs.length → bs.getD k 0 ≠ c) → gix bs c j = -1
  | [], _, _ => rfl
  | b :: bs, j, h => by
    unfold gix
    rw [if_neg (show ¬ b = c from h 0 (Nat.zero_lt_succ _))]
    exact gix_miss bs (j + 1) (fun k hk => h (k + 1) (Nat.succ_lt_succ hk))
theorem gix_hit {c : Int32} : ∀ (bs : List Int32) (m j : Nat), j < bs.length → (∀ k, k < j → bs.getD k 0 ≠ c) → bs.getD j 0 = c → gix bs c m = nI (m + j)
  | [], _, _, h, _, _ => absurd h (Nat.not_lt_zero _)
  | b :: bs, m, 0, _, _, h => by
    unfold gix
    rw [if_pos (show b = c from h)]
    rfl
  | b :: bs, m, j + 1, hj, hn, h => by
    unfold gix
    rw [if_neg (show ¬ b = c from hn 0 (Nat.zero_lt_succ _)), gix_hit bs (m + 1) j (Nat.lt_of_succ_lt_succ hj) (fun k hk => hn (k + 1) (Nat.succ_lt_succ hk)) h]
    congr 1
    omega
theorem gidx_miss {i : Nat} {ch : Int32} (hi : i < 7) (h : ∀ k, k < gLen.getD i 0 → (gByt.getD i []).getD k 0 ≠ ch) : gidx i ch = -1 := gix_miss _ _ (by rw [← gLen_by i hi]; exact h)
theorem gidx_hit {i j : Nat} {ch : Int32} (hi : i < 7) (hj : j < gLen.getD i 0) (h : ∀ k, k < j → (gByt.getD i []).getD k 0 ≠ ch) (he : (gByt.getD i []).getD j 0 = ch) : gidx i ch = nI j := by
  have := gix_hit _ 0 j (by rw [← gLen_by i hi]; exact hj) h he
  rwa [Nat.zero_add] at this
theorem gby_b : ∀ c, c < 256 → (nI c).toInt8.toInt32 = if c < 128 then nI c else nI c - 256 := by decide +kernel
theorem gby_r : ∀ i, i < 7 → ∀ j, j < 10 → 0 ≤ (gByt.getD i []).getD j 0 ∧ (gByt.getD i []).getD j 0 < 128 := by decide +kernel
theorem gby_n : ∀ c, c < 256 → 128 ≤ c → nI c - 256 < 0 ∧ 128 ≤ nI c := by decide +kernel
theorem gnI_of {x : Int32} (h0 : ¬ x < 0) : x = nI x.toNatClampNeg := by
  have h1 : 0 ≤ x.toInt := by
    have : ¬ x.toInt < 0 := fun q => h0 (Int32.lt_iff_toInt_lt.mpr (by simpa using q))
    omega
  have h2 : x.toInt < 2 ^ 31 := Int32.toInt_lt x
  apply Int32.toInt_inj.mp
  rw [nI_toInt (by unfold Int32.toNatClampNeg; omega)]
  unfold Int32.toNatClampNeg
  omega
theorem gby_ch {i j : Nat} {ch : Int32} (hi : i < 7) (hj : j < gLen.getD i 0) (h0 : ¬ ch < 0) (h1 : ¬ 255 < ch) : (gByt.getD i []).getD j 0 = ch.toInt8.toInt32 ↔ (gByt.getD i []).getD j 0 = ch := by
  have hr := gby_r i hi j (Nat.lt_of_lt_of_le hj (gLen_le i hi))
  have hc := gnI_of h0
  have hc2 : ch.toNatClampNeg < 256 := by
    rw [Int32.lt_iff_toInt_lt] at h1
    have : (255 : Int32).toInt = 255 := by decide
    rw [this] at h1
    unfold Int32.toNatClampNeg
    omega
  rw [hc, gby_b _ hc2]
  by_cases q : ch.toNatClampNeg < 128
  · rw [if_pos q]
  · rw [if_neg q]
    have hn := gby_n _ hc2 (by omega)
    constructor
    · intro e
      rw [e] at hr
      exact absurd hr.1 (Int32.not_le.mpr hn.1)
    · intro e
      rw [e] at hr
      exact absurd hr.2 (Int32.not_lt.mpr hn.2)
theorem gLen_po : ∀ i, i < 7 → 0 < gLen.getD i 0 := by decide +kernel
theorem gidx_big {i : Nat} {ch : Int32} (hi : i < 7) (h : 255 < ch) : gidx i ch = -1 := gidx_miss hi fun k hk q => by
  have hr := gby_r i hi k (Nat.lt_of_lt_of_le hk (gLen_le i hi))
  rw [q] at hr
  exact absurd (Int32.lt_trans hr.2 (show (128 : Int32) < 255 by decide)) (Int32.not_lt.mpr (Int32.le_of_lt h))
theorem gby_c : ∀ i, i < 7 → ∀ j, j < 10 → (((gByt.getD i []).getD j 0 &&& 255).toUInt32 % 65536).toInt32 = (gByt.getD i []).getD j 0 := by decide +kernel
theorem gby_cn : ∀ i, i < 7 → ∀ j, j < 10 → narrow .char (.int ((gByt.getD i []).getD j 0)) = .int ((gByt.getD i []).getD j 0) := by decide +kernel
theorem gilt {i : Int32} {n : Nat} (h0 : ¬ i < 0) (h : i.toNatClampNeg < n) (hn : n < 2 ^ 31) : i < nI n := by
  rw [Int32.lt_iff_toInt_lt, nI_toInt hn]
  have h1 : i.toInt = (i.toNatClampNeg : Int) := by
    have : ¬ i.toInt < 0 := fun q => h0 (Int32.lt_iff_toInt_lt.mpr (by simpa using q))
    unfold Int32.toNatClampNeg
    omega
  omega
