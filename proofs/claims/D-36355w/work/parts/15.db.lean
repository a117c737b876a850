/-! THE DATA BASE: what the system and its reference hold, as rows of numbers; how the cells show them -/
def gb (c : Prop) [Decidable c] : Int32 := if c then 1 else 0
theorem gb_t {c : Prop} [Decidable c] (h : c) : (1 : Int32) = gb c := (if_pos h).symm
theorem gb_f {c : Prop} [Decidable c] (h : ¬ c) : (0 : Int32) = gb c := (if_neg h).symm
theorem gb_0 {c : Prop} [Decidable c] : gb c = 0 ↔ ¬ c := by
  unfold gb
  by_cases h : c
  · rw [if_pos h]; exact ⟨fun q => absurd q (by decide), fun q => absurd h q⟩
  · rw [if_neg h]; exact ⟨fun _ => h, fun _ => rfl⟩
theorem gb_1 {c : Prop} [Decidable c] : gb c = 1 ↔ c := by
  unfold gb
  by_cases h : c
  · rw [if_pos h]; exact ⟨fun _ => h, fun _ => rfl⟩
  · rw [if_neg h]; exact ⟨fun q => absurd q (by decide), fun q => absurd q h⟩
theorem gb_n0 {c : Prop} [Decidable c] : ¬ gb c = 0 ↔ c := by
  rw [gb_0]
  exact Decidable.not_not
theorem gb_z {c : Prop} [Decidable c] : narrow .boolean (.int (gb c)) = .int (gb c) := by
  unfold gb
  by_cases h : c
  · rw [if_pos h]; rfl
  · rw [if_neg h]; rfl
abbrev gS : Type := (Nat → Nat → Nat → Int32) × (Nat → Nat)
def gsr (σ : Nat → Nat → Nat → Int32) (κ i : Nat) (r : Nat → Int32) : Nat → Nat → Nat → Int32 := fun a b => if a = κ ∧ b = i then r else σ a b
theorem gsr_s {σ : Nat → Nat → Nat → Int32} {κ i : Nat} {r : Nat → Int32} : gsr σ κ i r κ i = r := if_pos ⟨rfl, rfl⟩
theorem gsr_n {σ : Nat → Nat → Nat → Int32} {κ i a b : Nat} {r : Nat → Int32} (h : ¬ (a = κ ∧ b = i)) : gsr σ κ i r a b = σ a b := if_neg h
def gcnt (S : gS) (κ : Nat) : Nat := if κ < 6 then 1 else S.2 κ
def gcellC (G : gG) (A : Nat → Nat → Nat) (κ i : Nat) (r : Nat → Int32) : Option va_E := match κ with
  | 0 => some (.inr (0, [.int (r 0), .int (r 1), .ref (A 1 0), .ref (A 2 0), .ref (A 3 0), .ref (A 4 0), .long (r 5).toInt64, .ref (A 306 0), .ref (A 307 0), .ref (A 308 0), .int (r 2), .ref (A 5 0), .ref (A 309 0), .ref (A 310 0), .int (r 3), .int (r 4), .ref (A 311 0), .ref (A 313 0)]))
  | 1 => some (gIA G 4 r)
  | 2 => some (gZA G 4 r)
  | 3 => some (gIA G 4 r)
  | 4 => some (gIA G 2 r)
  | 5 => some (.inr (1, [.int (r 0), .int (r 1), .ref (A 0 0)]))
  | 6 => some (.inr (if r 0 = 103 then 3 else 4, [.int (nI i), .int (r 1), .int (r 2), .int (r 3)]))
  | 7 => some (.inr (5, [.ref (A 6 (r 0).toNatClampNeg), .ref (A 6 (r 1).toNatClampNeg), .int (r 2), .int (r 3), .int (r 4)]))
  | 8 => some (.inr (6, [.int (nI i), .ref (A 7 (r 0).toNatClampNeg), .int (r 3), .int (r 1), .int (r 2), .int (r 4), .int (r 5), .int (r 8), .int (r 6), .int (r 7), .int (r 9), .int (r 10)]))
  | 9 => some (.inr (8, [.int (nI i), .int (gb (r 0 = 99)), .int (r 1), .int (r 2), .int (r 3), .int (r 4), .int (r 5)]))
  | 10 => some (.inr (10, [.int (nI i), .ref (A 8 (r 0).toNatClampNeg), .ref (A 9 (r 1).toNatClampNeg), .int (r 2), .int (r 5), .int (r 3), .int (r 4), .int (r 7), .int (r 8), .int (r 9), .int (r 6), .int (r 10)]))
  | 11 => some (.inr (12, [.int (r 0), .ref (A (400 + i) 0), .int (r 1)]))
  | 12 => none
  | 13 => some (.inr (15, [.int (r 0), .int (r 1), .int (r 2), .int (r 3), .int (r 4)]))
  | _ => some (.inr (14, [.ref (A 10 (r 0).toNatClampNeg), .int (r 1), .int (r 2)]))
def gcellM (G : gG) (A : Nat → Nat → Nat) (κ i : Nat) (r : Nat → Int32) : Option va_E := match κ with
  | 0 => some (.inr (2, [.int (r 8), .int (r 0), .int (r 1), .ref (A 2 0), .ref (A 1 0), .ref (A 306 0), .ref (A 307 0), .ref (A 3 0), .ref (A 4 0), .ref (A 308 0), .ref (A 309 0), .ref (A 310 0), .ref (A 311 0), .ref (A 312 0), .int (r 2), .int (r 7), .int (r 6), .int (r 5)]))
  | 1 => some (gIA G 4 r)
  | 2 => some (gZA G 4 r)
  | 3 => some (gIA G 4 r)
  | 4 => some (gIA G 2 r)
  | 5 => none
  | 6 => some (gIA G 4 r)
  | 7 => some (gIA G 5 r)
  | 8 => some (.inr (7, [.int (r 0), .int (r 1), .int (r 2), .int (r 3), .int (r 4), .int (r 5), .int (r 6), .int (r 11), .int (r 8), .int (r 9), .int (r 10)]))
  | 9 => some (.inr (9, [.int (r 0), .int (r 1), .int (r 2), .int (r 3), .int (r 4), .int (r 5)]))
  | 10 => some (.inr (11, [.int (r 0), .int (r 1), .int (r 2), .int (r 3), .int (r 4), .int (r 5), .int (r 6), .int (r 7), .int (r 8), .int (r 9), .int (r 10)]))
  | 11 => some (.inr (13, [.int (r 0), .ref (A (400 + i) 0), .int (r 1)]))
  | 12 => some (gIA G 4 r)
  | 13 => none
  | _ => some (gIA G 3 r)
def gcell (M : Nat) (G : gG) (A : Nat → Nat → Nat) (κ i : Nat) (r : Nat → Int32) : Option va_E := match M with
  | 0 => gcellC G A κ i r
  | _ => gcellM G A κ i r
/-- a list: its object a (tag t1), its array (tag t2, or the shared empty one), its elements -/
def gLs (G : gG) (h : gH) (t1 t2 a len : Nat) (el : Nat → Nat) : Prop := ∃ (mc : Int32) (ed cap : Nat) (f : Nat → Option Nat), h a = some ((t1, 0), .inr (16, [.int mc, .ref ed, .int (nI len)])) ∧ ((ed = G.2.2.2.2.2.2.1 0 ∧ len = 0 ∧ cap = 0) ∨ (h ed = some ((t2, 0), gOA G cap f) ∧ len ≤ cap ∧ 2 ≤ cap ∧ cap ≤ 150)) ∧ ∀ j, j < len → f j = some (el j)
def gIsL (S : gS) (κ : Nat) : Prop := (6 ≤ κ ∧ κ ≤ 13) ∨ (100 ≤ κ ∧ κ < 100 + S.2 11)
def gRep (M : Nat) (G : gG) (S : gS) (A : Nat → Nat → Nat) (h : gH) : Prop := (∀ κ i e, κ < 300 → i < gcnt S κ → gcell M G A κ i (S.1 κ i) = some e → h (A κ i) = some ((κ + 1000 * M, i), e)) ∧ ∀ κ, κ < 300 → gIsL S κ → (M = 0 → κ ≠ 12) → (M = 1 → κ ≠ 13) → gLs G h (κ + 300 + 1000 * M) (κ + 600 + 1000 * M) (A (κ + 300) 0) (S.2 κ) (A κ)
/-- the tags that a side owns, and the passing ones -/
def gown (M κ : Nat) : Prop := (1000 * M ≤ κ ∧ κ < 1000 * M + 1000) ∨ 5000 ≤ κ
def gFr (M : Nat) (Fr : gH → Prop) : Prop := ∀ h h2 : gH, Fr h → (∀ a τ e, h a = some (τ, e) → ¬ gown M τ.1 → h2 a = some (τ, e)) → Fr h2
def gTm (T : List (Nat × va_E)) (h : gH) : Prop := ∀ (j a : Nat) (e : va_E), T[j]? = some (a, e) → h a = some ((5000 + j, 0), e)
def gP (M : Nat) (G : gG) (S : gS) (A : Nat → Nat → Nat) (Fr : gH → Prop) (T : List (Nat × va_E)) (h : gH) : Prop := gRep M G S A h ∧ Fr h ∧ gTm T h
theorem gLs_keep {G : gG} {h h2 : gH} {t1 t2 a len : Nat} {el : Nat → Nat} (H : gLs G h t1 t2 a len el) (k : ∀ b τ e, h b = some (τ, e) → (τ = (t1, 0) ∨ τ = (t2, 0)) → h2 b = some (τ, e)) : gLs G h2 t1 t2 a len el := by
  obtain ⟨mc, ed, cap, f, h1, h3, h4⟩ := H
  exact ⟨mc, ed, cap, f, k _ _ _ h1 (Or.inl rfl), h3.imp id (fun q => ⟨k _ _ _ q.1 (Or.inr rfl), q.2⟩), h4⟩
theorem gRep_keep {M : Nat} {G : gG} {S : gS} {A : Nat → Nat → Nat} {h h2 : gH} (H : gRep M G S A h) (k : ∀ b τ e, h b = some (τ, e) → (1000 * M ≤ τ.1 ∧ τ.1 < 1000 * M + 1000) → h2 b = some (τ, e)) : gRep M G S A h2 := by
  refine ⟨fun κ i e hk hi he => k _ _ _ (H.1 κ i e hk hi he) ⟨by show 1000 * M ≤ κ + 1000 * M; omega, by show κ + 1000 * M < _; omega⟩, fun κ hk hL h3 h4 => gLs_keep (H.2 κ hk hL h3 h4) fun b τ e hb ht => k b τ e hb ?_⟩
  rcases ht with rfl | rfl
  · exact ⟨by show 1000 * M ≤ κ + 300 + 1000 * M; omega, by show κ + 300 + 1000 * M < _; omega⟩
  · exact ⟨by show 1000 * M ≤ κ + 600 + 1000 * M; omega, by show κ + 600 + 1000 * M < _; omega⟩
/-- one cell written: what keeps -/
theorem gset_keep {h : gH} {a : Nat} {τ : Nat × Nat} {e e1 : va_E} (ha : h a = some (τ, e)) (b : Nat) (τ' : Nat × Nat) (e' : va_E) (hb : h b = some (τ', e')) (hn : τ' ≠ τ) : gset h a τ e1 b = some (τ', e') := by
  rw [gset_n]
  · exact hb
  · intro q
    subst q
    rw [ha] at hb
    cases hb
    exact hn rfl
theorem gset_new {h : gH} {a : Nat} {τ : Nat × Nat} {e1 : va_E} (ha : h a = none) (b : Nat) (x : (Nat × Nat) × va_E) (hb : h b = some x) : gset h a τ e1 b = some x := by
  rw [gset_n]
  · exact hb
  · intro q
    subst q
    rw [ha] at hb
    cases hb
section GDB
variable {M : Nat} {G : gG} {S : gS} {A : Nat → Nat → Nat} {Fr : gH → Prop} {T : List (Nat × va_E)}
/-- reading -/
theorem pr_get {κ i ci f : Nat} {fs : List Value} {v : Value} (hk : κ < 300) (hi : i < gcnt S κ) (he : gcell M G A κ i (S.1 κ i) = some (.inr (ci, fs))) (hv : fs[f]? = some v) : ∀ h, gP M G S A Fr T h → ∃ τ fs, h (A κ i) = some (τ, .inr (ci, fs)) ∧ fs[f]? = some v :=
  fun _ hp => ⟨_, _, hp.1.1 κ i _ hk hi he, hv⟩
theorem pr_row {κ i : Nat} {e : va_E} (hk : κ < 300) (hi : i < gcnt S κ) (he : gcell M G A κ i (S.1 κ i) = some e) : ∀ h, gP M G S A Fr T h → ∃ τ, h (A κ i) = some (τ, e) :=
  fun _ hp => ⟨_, hp.1.1 κ i _ hk hi he⟩
theorem pr_obj {κ i ci : Nat} {fs : List Value} (hk : κ < 300) (hi : i < gcnt S κ) (he : gcell M G A κ i (S.1 κ i) = some (.inr (ci, fs))) : ∀ h, gP M G S A Fr T h → ∃ τ fs, h (A κ i) = some (τ, .inr (ci, fs)) :=
  fun _ hp => ⟨_, _, hp.1.1 κ i _ hk hi he⟩
theorem pr_T {j a : Nat} {e : va_E} (hj : T[j]? = some (a, e)) : ∀ h, gP M G S A Fr T h → ∃ τ, h a = some (τ, e) := fun _ hp => ⟨_, hp.2.2 j a e hj⟩
theorem pr_getT {j a ci f : Nat} {fs : List Value} {v : Value} (hj : T[j]? = some (a, .inr (ci, fs))) (hv : fs[f]? = some v) : ∀ h, gP M G S A Fr T h → ∃ τ fs, h a = some (τ, .inr (ci, fs)) ∧ fs[f]? = some v := fun _ hp => ⟨_, _, hp.2.2 j a _ hj, hv⟩
theorem pr_objT {j a ci : Nat} {fs : List Value} (hj : T[j]? = some (a, .inr (ci, fs))) : ∀ h, gP M G S A Fr T h → ∃ τ fs, h a = some (τ, .inr (ci, fs)) := fun _ hp => ⟨_, _, hp.2.2 j a _ hj⟩
/-- writing a row's cell -/
theorem pr_setAt (hM : M ≤ 1) (hF : gFr M Fr) {κ i : Nat} {e e1 : va_E} {r : Nat → Int32} (hk : κ < 300) (hi : i < gcnt S κ) (he : gcell M G A κ i (S.1 κ i) = some e) (he1 : gcell M G A κ i r = some e1) {h : gH} (hp : gP M G S A Fr T h) : h (A κ i) = some ((κ + 1000 * M, i), e) ∧ gP M G (gsr S.1 κ i r, S.2) A Fr T (gset h (A κ i) (κ + 1000 * M, i) e1) := by
  have ha := hp.1.1 κ i e hk hi he
  refine ⟨ha, ⟨fun κ' i' e' hk' hi' he' => ?_, fun κ' hk' hL h3 h4 => gLs_keep (hp.1.2 κ' hk' hL h3 h4) fun b τ e' hb ht => gset_keep ha b τ e' hb ?_⟩, hF h _ hp.2.1 fun b τ e' hb ht => gset_keep ha b τ e' hb ?_, fun j b e' hj => gset_keep ha b _ e' (hp.2.2 j b e' hj) ?_⟩
  · by_cases hz : κ' = κ ∧ i' = i
    · obtain ⟨rfl, rfl⟩ := hz
      dsimp only at he'
      rw [gsr_s] at he'
      rw [gset_s]
      rw [he1] at he'
      cases he'
      rfl
    · dsimp only at he'
      rw [gsr_n hz] at he'
      refine gset_keep ha _ _ _ (hp.1.1 κ' i' e' hk' hi' he') fun q => hz ?_
      have q1 : κ' + 1000 * M = κ + 1000 * M := congrArg Prod.fst q
      exact ⟨by omega, congrArg Prod.snd q⟩
  · intro q
    rcases ht with z | z
    · have q1 : κ' + 300 + 1000 * M = κ + 1000 * M := congrArg Prod.fst (z.symm.trans q)
      omega
    · have q1 : κ' + 600 + 1000 * M = κ + 1000 * M := congrArg Prod.fst (z.symm.trans q)
      omega
  · intro q
    refine ht (Or.inl ?_)
    rw [q]
    exact ⟨by show 1000 * M ≤ κ + 1000 * M; omega, by show κ + 1000 * M < _; omega⟩
  · intro q
    have q1 : 5000 + j = κ + 1000 * M := congrArg Prod.fst q
    omega
theorem pr_put (hM : M ≤ 1) (hF : gFr M Fr) {κ i ci f : Nat} {fs : List Value} {v : Value} (r : Nat → Int32) (hk : κ < 300) (hi : i < gcnt S κ) (he : gcell M G A κ i (S.1 κ i) = some (.inr (ci, fs))) (hf : f < fs.length) (he1 : gcell M G A κ i r = some (.inr (ci, fs.set f v))) :
    ∀ h, gP M G S A Fr T h → ∃ τ fs, h (A κ i) = some (τ, .inr (ci, fs)) ∧ f < fs.length ∧ gP M G (gsr S.1 κ i r, S.2) A Fr T (gset h (A κ i) τ (.inr (ci, fs.set f v))) :=
  fun _ hp => ⟨_, _, (pr_setAt hM hF hk hi he he1 hp).1, hf, (pr_setAt hM hF hk hi he he1 hp).2⟩
theorem pr_setRow (hM : M ≤ 1) (hF : gFr M Fr) {κ i : Nat} {e e1 : va_E} (r : Nat → Int32) (hk : κ < 300) (hi : i < gcnt S κ) (he : gcell M G A κ i (S.1 κ i) = some e) (he1 : gcell M G A κ i r = some e1) :
    ∀ h, gP M G S A Fr T h → ∃ τ, h (A κ i) = some (τ, e) ∧ gP M G (gsr S.1 κ i r, S.2) A Fr T (gset h (A κ i) τ e1) :=
  fun _ hp => ⟨_, (pr_setAt hM hF hk hi he he1 hp).1, (pr_setAt hM hF hk hi he he1 hp).2⟩
/-- writing a passing cell -/
theorem pr_setTAt (hM : M ≤ 1) (hF : gFr M Fr) {j a : Nat} {e e1 : va_E} (hj : T[j]? = some (a, e)) {h : gH} (hp : gP M G S A Fr T h) : h a = some ((5000 + j, 0), e) ∧ gP M G S A Fr (T.set j (a, e1)) (gset h a (5000 + j, 0) e1) := by
  have ha := hp.2.2 j a e hj
  refine ⟨ha, gRep_keep hp.1 fun b τ e' hb ht => gset_keep ha b τ e' hb ?_, hF h _ hp.2.1 fun b τ e' hb ht => gset_keep ha b τ e' hb ?_, fun j2 b e' hj2 => ?_⟩
  · intro q
    subst q
    have : 5000 + j < 1000 * M + 1000 := ht.2
    omega
  · intro q
    subst q
    exact ht (Or.inr (Nat.le_add_right _ _))
  · by_cases hz : j2 = j
    · subst hz
      rw [List.getElem?_set_self (List.getElem?_eq_some_iff.mp hj).1] at hj2
      cases hj2
      exact gset_s
    · rw [List.getElem?_set_ne (Ne.symm hz)] at hj2
      refine gset_keep ha b _ e' (hp.2.2 j2 b e' hj2) fun q => hz ?_
      have q1 : 5000 + j2 = 5000 + j := congrArg Prod.fst q
      omega
theorem pr_setT (hM : M ≤ 1) (hF : gFr M Fr) {j a : Nat} {e e1 : va_E} (hj : T[j]? = some (a, e)) : ∀ h, gP M G S A Fr T h → ∃ τ, h a = some (τ, e) ∧ gP M G S A Fr (T.set j (a, e1)) (gset h a τ e1) :=
  fun _ hp => ⟨_, (pr_setTAt (e1 := e1) hM hF hj hp).1, (pr_setTAt hM hF hj hp).2⟩
theorem pr_putT (hM : M ≤ 1) (hF : gFr M Fr) {j a ci f : Nat} {fs : List Value} {v : Value} (hj : T[j]? = some (a, .inr (ci, fs))) (hf : f < fs.length) :
    ∀ h, gP M G S A Fr T h → ∃ τ fs, h a = some (τ, .inr (ci, fs)) ∧ f < fs.length ∧ gP M G S A Fr (T.set j (a, .inr (ci, fs.set f v))) (gset h a τ (.inr (ci, fs.set f v))) :=
  fun _ hp => ⟨_, _, (pr_setTAt (e1 := .inr (ci, fs.set f v)) hM hF hj hp).1, hf, (pr_setTAt hM hF hj hp).2⟩
/-- a new passing cell -/
theorem pr_new (hF : gFr M Fr) {e : va_E} : ∀ h a, gP M G S A Fr T h → h a = none → gP M G S A Fr (T ++ [(a, e)]) (gset h a (5000 + T.length, 0) e) := by
  intro h a hp ha
  refine ⟨gRep_keep hp.1 fun b τ e' hb _ => gset_new ha b _ hb, hF h _ hp.2.1 fun b τ e' hb _ => gset_new ha b _ hb, fun j b e' hj => ?_⟩
  by_cases hl : j < T.length
  · rw [List.getElem?_append_left hl] at hj
    exact gset_new ha b _ (hp.2.2 j b e' hj)
  · rw [List.getElem?_append_right (by omega)] at hj
    have hz : j - T.length < 1 := (List.getElem?_eq_some_iff.mp hj).1
    have hj0 : j = T.length := by omega
    subst hj0
    rw [Nat.sub_self] at hj
    cases hj
    exact gset_s
theorem gP_T0 {h : gH} (hp : gP M G S A Fr T h) : gP M G S A Fr [] h := ⟨hp.1, hp.2.1, fun j a e hj => by simp at hj⟩
theorem gP_Tl {h : gH} (m : Nat) (hp : gP M G S A Fr T h) : gP M G S A Fr (T.take m) h := ⟨hp.1, hp.2.1, fun j a e hj => hp.2.2 j a e (by
  rw [List.getElem?_take] at hj
  split at hj
  · exact hj
  · cases hj)⟩
/-- a column that this side doesn't show -/
theorem gP_col {h : gH} {κ i : Nat} {r : Nat → Int32} (hr : gcell M G A κ i r = gcell M G A κ i (S.1 κ i)) (hp : gP M G S A Fr T h) : gP M G (gsr S.1 κ i r, S.2) A Fr T h := by
  refine ⟨⟨fun κ' i' e' hk' hi' he' => ?_, hp.1.2⟩, hp.2⟩
  by_cases hz : κ' = κ ∧ i' = i
  · obtain ⟨rfl, rfl⟩ := hz
    dsimp only at he'
    rw [gsr_s, hr] at he'
    exact hp.1.1 κ' i' e' hk' hi' he'
  · dsimp only at he'
    rw [gsr_n hz] at he'
    exact hp.1.1 κ' i' e' hk' hi' he'
theorem pr_ls {κ : Nat} (hk : κ < 300) (hL : gIsL S κ) (h3 : M = 0 → κ ≠ 12) (h4 : M = 1 → κ ≠ 13) : ∀ h, gP M G S A Fr T h → gLs G h (κ + 300 + 1000 * M) (κ + 600 + 1000 * M) (A (κ + 300) 0) (S.2 κ) (A κ) := fun _ hp => hp.1.2 κ hk hL h3 h4
end GDB
