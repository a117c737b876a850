/-! THE SYSTEM'S SHAPE -/
/-- up the belts -/
def gIt (r : Nat → Int32) : Nat → Int32 → Int32
  | 0, x => x
  | n + 1, x => if x = -1 then -1 else gIt r n (r x.toNatClampNeg)
def gDrv (r : Nat → Int32) : Prop := (∀ i, i < 4 → r i = -1 ∨ gIn (r i) 4) ∧ ∀ i, i < 4 → gIt r 4 (nI i) = -1
def gGo (r on : Nat → Int32) (sh : Int32) : Nat → Int32 → Bool
  | 0, _ => !(sh == 0)
  | n + 1, x => if x = -1 then !(sh == 0) else !(on x.toNatClampNeg == 0) && gGo r on sh n (r x.toNatClampNeg)
abbrev gGoes (S : gS) (x : Int32) : Prop := gGo (S.1 1 0) (S.1 2 0) (S.1 0 0 1) 4 x = true
def gBl (x : Int32) : Prop := x = 0 ∨ x = 1
theorem gBl_n {x : Int32} (h : gBl x) : narrow .boolean (.int x) = .int x := by
  rcases h with rfl | rfl <;> rfl
theorem gBl_gb {c : Prop} [Decidable c] : gBl (gb c) := by
  unfold gb
  by_cases h : c
  · rw [if_pos h]; exact Or.inr rfl
  · rw [if_neg h]; exact Or.inl rfl
theorem gBl_or {x y : Int32} (h : gBl x) (h2 : gBl y) : gBl (x ||| y) := by
  rcases h with rfl | rfl <;> rcases h2 with rfl | rfl <;> first | exact Or.inl rfl | exact Or.inr rfl
/-- the indices lie within -/
def gWf (S : gS) : Prop := ((∀ i, i < S.2 7 → gIn (S.1 7 i 0) (S.2 6) ∧ gIn (S.1 7 i 1) (S.2 6)) ∧ (∀ i, i < S.2 8 → gIn (S.1 8 i 0) (S.2 7)) ∧ (∀ i, i < S.2 10 → gIn (S.1 10 i 0) (S.2 8) ∧ gIn (S.1 10 i 1) (S.2 9)) ∧ ∀ g i, g < S.2 11 → i < S.2 (100 + g) → gIn (S.1 (100 + g) i 0) (S.2 10)) ∧ ((∀ κ, S.2 κ ≤ 64) ∧ ∀ κ, 14 ≤ κ → (κ < 100 ∨ 100 + S.2 11 ≤ κ) → S.2 κ = 0) ∧ S.2 11 ≤ 30 ∧ gDrv (S.1 1 0) ∧ gBl (S.1 0 0 1) ∧ (∀ j, j < 4 → gBl (S.1 2 0 j)) ∧ ∀ i, i < S.2 13 → gBl (S.1 13 i 4)
theorem gw_7_0 {S : gS} {i : Nat} (h : gWf S) (hi : i < S.2 7) : gIn (S.1 7 i 0) (S.2 6) := (h.1.1 i hi).1
theorem gw_7_1 {S : gS} {i : Nat} (h : gWf S) (hi : i < S.2 7) : gIn (S.1 7 i 1) (S.2 6) := (h.1.1 i hi).2
theorem gw_8_0 {S : gS} {i : Nat} (h : gWf S) (hi : i < S.2 8) : gIn (S.1 8 i 0) (S.2 7) := h.1.2.1 i hi
theorem gw_10_0 {S : gS} {i : Nat} (h : gWf S) (hi : i < S.2 10) : gIn (S.1 10 i 0) (S.2 8) := (h.1.2.2.1 i hi).1
theorem gw_10_1 {S : gS} {i : Nat} (h : gWf S) (hi : i < S.2 10) : gIn (S.1 10 i 1) (S.2 9) := (h.1.2.2.1 i hi).2
theorem gw_p_0 {S : gS} {g i : Nat} (h : gWf S) (hg : g < S.2 11) (hi : i < S.2 (100 + g)) : gIn (S.1 (100 + g) i 0) (S.2 10) := h.1.2.2.2 g i hg hi
theorem gw_n {S : gS} (h : gWf S) (κ : Nat) : S.2 κ ≤ 150 := Nat.le_trans (h.2.1.1 κ) (by decide)
theorem gw_64 {S : gS} (h : gWf S) (κ : Nat) : S.2 κ ≤ 64 := h.2.1.1 κ
theorem gw_z {S : gS} (h : gWf S) {κ : Nat} (h1 : 14 ≤ κ) (h2 : κ < 100 ∨ 100 + S.2 11 ≤ κ) : S.2 κ = 0 := h.2.1.2 κ h1 h2
theorem gw_11 {S : gS} (h : gWf S) : S.2 11 ≤ 30 := h.2.2.1
theorem gw_d {S : gS} (h : gWf S) : gDrv (S.1 1 0) := h.2.2.2.1
/-- the state, its addresses left open -/
def gPE (M : Nat) (G : gG) (S : gS) (a0 : Nat) (Fr : gH → Prop) : gH → Prop := fun h => ∃ A : Nat → Nat → Nat, A 0 0 = a0 ∧ gP M G S A Fr [] h
abbrev gO : Type := String ⊕ (Value × gS)
def gqS (o : gO) (M : Nat) (G : gG) (a0 : Nat) (Fr : gH → Prop) : Option Value → gH → Prop := fun v h => ∃ (w : Value) (S2 : gS), o = .inr (w, S2) ∧ v = some w ∧ gPE M G S2 a0 Fr h
def gxS (o : gO) (M : Nat) (G : gG) (S : gS) (a0 : Nat) (Fr : gH → Prop) : String → gH → Prop := fun E h => o = .inl E ∧ gPE M G S a0 Fr h
def gqM (o : Value × gS) (G : gG) (a0 : Nat) (Fr : gH → Prop) : Option Value → gH → Prop := fun v h => v = some o.1 ∧ gPE 1 G o.2 a0 Fr h
theorem gPE_0 {M : Nat} {G : gG} {S : gS} {A : Nat → Nat → Nat} {Fr : gH → Prop} {T : List (Nat × va_E)} : ∀ h, gP M G S A Fr T h → gPE M G S (A 0 0) Fr h := fun _ hp => ⟨A, rfl, gP_T0 hp⟩
theorem gP_jk {M : Nat} {G : gG} {S : gS} {A : Nat → Nat → Nat} {Fr : gH → Prop} {T : List (Nat × va_E)} (hF : gFr M Fr) : ∀ h, gJk (gP M G S A Fr T) h → gP M G S A Fr T h := fun h hp => by
  obtain ⟨h0, ⟨p1, p2, p3⟩, q⟩ := hp
  exact ⟨gRep_keep p1 fun b τ e hb _ => q b τ e hb, hF h0 h p2 fun b τ e hb _ => q b τ e hb, fun j a e hj => q _ _ _ (p3 j a e hj)⟩
theorem glot3 {G : gG} {A : Nat → Nat → Nat} {i : Nat} {r : Nat → Int32} (h : r 0 = 103) : gcell 0 G A 6 i r = some (.inr (3, [.int (nI i), .int (r 1), .int (r 2), .int (r 3)])) := by
  show some (Sum.inr (if r 0 = 103 then 3 else 4, _)) = _
  rw [if_pos h]
theorem glot4 {G : gG} {A : Nat → Nat → Nat} {i : Nat} {r : Nat → Int32} (h : ¬ r 0 = 103) : gcell 0 G A 6 i r = some (.inr (4, [.int (nI i), .int (r 1), .int (r 2), .int (r 3)])) := by
  show some (Sum.inr (if r 0 = 103 then 3 else 4, _)) = _
  rw [if_neg h]
theorem gvp {d K : Int32} {N : Nat} (hK : K.toInt < N) (h : ¬ d < 0 ∧ ¬ K < d) : vp_in d N := by
  have h0 : ¬ d.toInt < 0 := fun q => h.1 (Int32.lt_iff_toInt_lt.mpr (by simpa using q))
  have h1 : ¬ K.toInt < d.toInt := fun q => h.2 (Int32.lt_iff_toInt_lt.mpr q)
  refine fun q => q.elim h.1 fun q => ?_
  unfold Int32.toNatClampNeg at q
  omega
theorem gidx_lt {i : Nat} (hi : i < 7) {ch : Int32} (h : ¬ gidx i ch < 0) : ∃ j, j < gLen.getD i 0 ∧ gidx i ch = nI j := by
  have hz : ∀ (bs : List Int32) (m : Nat), gix bs ch m = -1 ∨ ∃ j, j < bs.length ∧ gix bs ch m = nI (m + j) := by
    intro bs
    induction bs with
    | nil => exact fun m => Or.inl rfl
    | cons b bs ih =>
      intro m
      unfold gix
      by_cases q : b = ch
      · rw [if_pos q]; exact Or.inr ⟨0, Nat.zero_lt_succ _, rfl⟩
      · rw [if_neg q]
        rcases ih (m + 1) with h1 | ⟨j, h1, h2⟩
        · exact Or.inl h1
        · exact Or.inr ⟨j + 1, Nat.succ_lt_succ h1, by rw [h2]; congr 1; omega⟩
  rcases hz (gByt.getD i []) 0 with h1 | ⟨j, h1, h2⟩
  · exact absurd (show gidx i ch < 0 by unfold gidx; rw [h1]; decide) h
  · exact ⟨j, by rw [gLen_by i hi]; exact h1, by unfold gidx; rw [h2, Nat.zero_add]⟩
theorem gidx_vp {i : Nat} (hi : i < 7) {ch : Int32} (h : ¬ gidx i ch < 0) : vp_in (gidx i ch) (gLen.getD i 0) := by
  obtain ⟨j, h1, h2⟩ := gidx_lt hi h
  rw [h2]
  exact vp_in_nI h1 (Nat.lt_of_le_of_lt (gLen_le i hi) (by decide))
theorem gnz1 {x : Int32} (h : ¬ x < 1) : ¬ x = 0 := fun q => h (by rw [q]; decide)
theorem gGo_m {r on : Nat → Int32} {sh : Int32} {n : Nat} {x : Int32} (h : x = -1) : gGo r on sh n x = !(sh == 0) := by
  subst h
  cases n <;> rfl
theorem gGo_mt {r on : Nat → Int32} {sh : Int32} {n : Nat} {x : Int32} (h : x = -1) (h2 : ¬ sh = 0) : gGo r on sh n x = true := by rw [gGo_m h]; simp [h2]
theorem gGo_mf {r on : Nat → Int32} {sh : Int32} {n : Nat} {x : Int32} (h : x = -1) (h2 : sh = 0) : ¬ gGo r on sh n x = true := by rw [gGo_m h]; simp [h2]
theorem gGo_s {r on : Nat → Int32} {sh : Int32} {n : Nat} {x : Int32} (h : ¬ x = -1) : gGo r on sh (n + 1) x = (!(on x.toNatClampNeg == 0) && gGo r on sh n (r x.toNatClampNeg)) := if_neg h
theorem gGo_st {r on : Nat → Int32} {sh : Int32} {n : Nat} {x : Int32} (h : ¬ x = -1) (h1 : gGo r on sh n (r x.toNatClampNeg) = true) (h2 : ¬ on x.toNatClampNeg = 0) : gGo r on sh (n + 1) x = true := by rw [gGo_s h]; simp [h1, h2]
theorem gGo_s1 {r on : Nat → Int32} {sh : Int32} {n : Nat} {x : Int32} (h : ¬ x = -1) (h1 : ¬ gGo r on sh n (r x.toNatClampNeg) = true) : ¬ gGo r on sh (n + 1) x = true := by rw [gGo_s h]; simp [h1]
theorem gGo_s2 {r on : Nat → Int32} {sh : Int32} {n : Nat} {x : Int32} (h : ¬ x = -1) (h1 : on x.toNatClampNeg = 0) : ¬ gGo r on sh (n + 1) x = true := by rw [gGo_s h]; simp [h1]
theorem gIt_s {r : Nat → Int32} {n : Nat} {x : Int32} (h : ¬ x = -1) (he : gIt r (n + 1) x = -1) : gIt r n (r x.toNatClampNeg) = -1 := by
  have : gIt r (n + 1) x = gIt r n (r x.toNatClampNeg) := if_neg h
  rw [← this]; exact he
theorem gDrv_n {r : Nat → Int32} (h : gDrv r) {x : Int32} (hx : gIn x 4) : r x.toNatClampNeg = -1 ∨ gIn (r x.toNatClampNeg) 4 := h.1 _ hx.2
theorem gDrv_e {r : Nat → Int32} (h : gDrv r) {x : Int32} (hx : gIn x 4) : gIt r 4 x = -1 := by
  rw [gIn_eq hx]
  exact h.2 _ hx.2
theorem gm_ch : ∀ j, j < 4 → ¬ (gByt.getD 0 []).getD j 0 < 0 ∧ ¬ 127 < (gByt.getD 0 []).getD j 0 := by decide +kernel
theorem gor_of {x : Int32} (h : x = -1 ∨ gIn x 4) (n : ¬ x = -1) : gIn x 4 := h.resolve_left n
theorem gidx_in {i : Nat} (hi : i < 7) {ch : Int32} (h : ¬ gidx i ch < 0) : gIn (gidx i ch) (gLen.getD i 0) := by
  obtain ⟨j, h1, h2⟩ := gidx_lt hi h
  have h3 := gLen_le i hi
  rw [h2]
  exact ⟨nI_pos (by omega), by rw [nI_clamp (by omega)]; exact h1⟩
theorem gUp_mono {P P2 : gH → Prop} {a : Nat} {c0 c1 : va_E} (h : ∀ h, P h → P2 h) : ∀ h, gUp P a c0 c1 h → gUp P2 a c0 c1 h := fun _ hp => by
  obtain ⟨h0, τ, q1, q2, q3⟩ := hp
  exact ⟨h0, τ, h h0 q1, q2, q3⟩
theorem gPT {M : Nat} {G : gG} {S : gS} {A : Nat → Nat → Nat} {Fr : gH → Prop} {T : List (Nat × va_E)} {h : gH} (hp : gP M G S A Fr T h) : gP M G S A Fr [] h := gP_T0 hp
theorem gpass {own ex : String} {hh : gHh} {pc : Nat} (h : ∀ z ∈ tableOf hh, covers z pc = false) : ∀ z ∈ tableOf hh, covers z pc = false ∨ (z.catchType ≠ 0 ∧ ∃ nm : String, Cond.classLink own z.catchType nm ∈ lw_all ∧ (ex, nm) ∈ gNo) := fun z hz => Or.inl (h z hz)
theorem gM0 : (0 : Nat) ≤ 1 := by decide
theorem gM1 : (1 : Nat) ≤ 1 := by decide
theorem goff_d : ∀ (ps : List (Int × Int)) {d x : Int}, (∀ p ∈ ps, ¬ x = p.1) → Op.lookupswitch.offset ps d x = d
  | [], _, _, _ => rfl
  | (a, o) :: ps, d, x, h => by
    rw [Op.lookupswitch.offset_cons, if_neg (fun q => h (a, o) List.mem_cons_self q.symm)]
    exact goff_d ps (fun p hp => h p (List.mem_cons_of_mem _ hp))
theorem gb_fit {c : Prop} [Decidable c] : fits .boolean (.int (gb c)) = true := by
  unfold gb
  by_cases h : c
  · rw [if_pos h]; rfl
  · rw [if_neg h]; rfl
theorem gBl_fit {x : Int32} (h : gBl x) : fits .boolean (.int x) = true := by
  rcases h with rfl | rfl <;> rfl
section GW21
variable {Y : gY} {cc : ByteArray} {own : String} {rm : Room} {hh : gHh} {ret : Option FieldType} {P P2 : gH → Prop} {lv : List (Nat × Value)} {pc k n : Nat} {st : List Value}
theorem g_retag (hp : ∀ h, P h → ∃ h2, P2 h2 ∧ ∀ a τ e, h2 a = some (τ, e) → ∃ τ2, h a = some (τ2, e)) (kk : gW Y P2 lv pc st k n) : gW Y P lv pc st k n := by
  intro H locs ls h hP hR hL hl
  obtain ⟨h2, q1, q2⟩ := hp h hP
  refine kk H locs ls h2 q1 ⟨fun a τ e ha => ?_, hR.2⟩ hL hl
  obtain ⟨τ2, q3⟩ := q2 a τ e ha
  exact hR.1 a τ2 e q3
theorem gAc {α : Type} {p : α → Prop} {a : α} {l : List α} (h : p a) (hs : ∀ x ∈ l, p x) : ∀ x ∈ a :: l, p x := fun x hx => by
  rcases List.mem_cons.mp hx with rfl | hx
  · exact h
  · exact hs x hx
theorem gAn {α : Type} {p : α → Prop} : ∀ x ∈ ([] : List α), p x := fun _ hx => by cases hx
theorem g_tableD (F : gF Y cc own rm hh ret) {dflt lo hi : Int} {offs : Array Int} {len : Nat} {x : Int32} {tgt : Nat} (keys : List Nat) (hsz : hi - lo + 1 = (offs.size : Int)) (hk : ∀ j, j < offs.size → j ∈ keys ∨ offs[j]? = some dflt) (hx : ∀ j ∈ keys, ¬ x.toInt = lo + (j : Int)) (ht : (pc : Int) + dflt = (tgt : Int)) (d : decode cc pc = .ok (.tableswitch dflt lo hi offs, len)) (kk : gW Y P lv tgt st k n) : gW Y P lv pc (.int x :: st) k n := by
  by_cases h1 : x.toInt < lo
  · exact g_tableOut F (Or.inl h1) ht d kk
  · by_cases h2 : hi < x.toInt
    · exact g_tableOut F (Or.inr h2) ht d kk
    · refine g_tableIn F h1 h2 ?_ ht d kk
      rcases hk (x.toInt - lo).toNat (by omega) with h3 | h3
      · exact absurd (by omega) (hx _ h3)
      · exact h3
theorem g_pe {M : Nat} {G : gG} {S : gS} {a0 : Nat} {Fr : gH → Prop} (kk : ∀ A : Nat → Nat → Nat, A 0 0 = a0 → gW Y (gP M G S A Fr []) lv pc st k n) : gW Y (gPE M G S a0 Fr) lv pc st k n := fun H locs ls h hP hR hL hl => by
  obtain ⟨A, hA, hP⟩ := hP
  exact kk A hA H locs ls h hP hR hL hl
/-- lots: one of two classes -/
theorem g_lot {c : Prop} [Decidable c] {a : Nat} {fs : List Value} (ha : gAt P a (.inr (if c then 3 else 4, fs))) (k1 : gAt P a (.inr (3, fs)) → c → gW Y P lv pc st k n) (k2 : gAt P a (.inr (4, fs)) → ¬ c → gW Y P lv pc st k n) : gW Y P lv pc st k n := by
  by_cases h : c
  · rw [if_pos h] at ha; exact k1 ha h
  · rw [if_neg h] at ha; exact k2 ha h
end GW21

theorem gw_b {S : gS} (h : gWf S) : gBl (S.1 0 0 1) := h.2.2.2.2.1
theorem gw_on {S : gS} (h : gWf S) {j : Nat} (hj : j < 4) : gBl (S.1 2 0 j) := h.2.2.2.2.2.1 j hj
theorem gw_late {S : gS} (h : gWf S) {i : Nat} (hi : i < S.2 13) : gBl (S.1 13 i 4) := h.2.2.2.2.2.2 i hi
/-- the wheel's bias after one more draw -/
def gnb (bi dr : Int32) : Int32 := bi + (if dr + 1 - (dr + 1) / 8 * 8 = 0 then 3 else 0)
/-! A NEW ROW -/
def gAa (A : Nat → Nat → Nat) (κ n v : Nat) : Nat → Nat → Nat := fun a b => if a = κ ∧ b = n then v else A a b
theorem gAa_s {A : Nat → Nat → Nat} {κ n v : Nat} : gAa A κ n v κ n = v := if_pos ⟨rfl, rfl⟩
theorem gAa_n {A : Nat → Nat → Nat} {κ n v a b : Nat} (h : ¬ (a = κ ∧ b = n)) : gAa A κ n v a b = A a b := if_neg h
theorem gAa_k {A : Nat → Nat → Nat} {κ n v a b : Nat} (h : a ≠ κ) : gAa A κ n v a b = A a b := if_neg fun q => h q.1
theorem gAa_b {A : Nat → Nat → Nat} {S : gS} {κ v a b : Nat} (h : b < S.2 a) : gAa A κ (S.2 κ) v a b = A a b := if_neg fun q => by
  obtain ⟨rfl, rfl⟩ := q
  exact Nat.lt_irrefl _ h
theorem gcell_A {M : Nat} {G : gG} {S : gS} {A : Nat → Nat → Nat} {κ v : Nat} (hM : M ≤ 1) (h6 : 6 ≤ κ) (hk : κ < 300) (hW : gWf S) {κ2 i : Nat} (hi : i < gcnt S κ2) : gcell M G (gAa A κ (S.2 κ) v) κ2 i (S.1 κ2 i) = gcell M G A κ2 i (S.1 κ2 i) := by
  have hA : ∀ a b, a ≠ κ → gAa A κ (S.2 κ) v a b = A a b := fun a b h => gAa_k h
  have hS : ∀ a, a < 6 ∨ 300 ≤ a → a ≠ κ := by intro a h; omega
  have hB : ∀ a b, b < S.2 a → gAa A κ (S.2 κ) v a b = A a b := fun a b h => gAa_b h
  have hi6 : 6 ≤ κ2 → i < S.2 κ2 := fun h => by
    have := hi
    unfold gcnt at this
    rwa [if_neg (by omega)] at this
  have hM2 : M = 0 ∨ M = 1 := by omega
  rcases hM2 with rfl | rfl
  · show gcellC G _ κ2 i _ = gcellC G A κ2 i _
    match κ2, hi6 with
    | 0, _ =>
      unfold gcellC
      simp only [hA 1 0 (hS 1 (by decide)), hA 2 0 (hS 2 (by decide)), hA 3 0 (hS 3 (by decide)), hA 4 0 (hS 4 (by decide)), hA 5 0 (hS 5 (by decide)), hA 306 0 (hS 306 (by decide)), hA 307 0 (hS 307 (by decide)), hA 308 0 (hS 308 (by decide)), hA 309 0 (hS 309 (by decide)), hA 310 0 (hS 310 (by decide)), hA 311 0 (hS 311 (by decide)), hA 313 0 (hS 313 (by decide))]
    | 1, _ => rfl
    | 2, _ => rfl
    | 3, _ => rfl
    | 4, _ => rfl
    | 5, _ =>
      unfold gcellC
      simp only [hA 0 0 (hS 0 (by decide))]
    | 6, _ => rfl
    | 7, hi6 =>
      have h7 := hi6 (by decide)
      unfold gcellC
      simp only [hB 6 _ (gw_7_0 hW h7).2, hB 6 _ (gw_7_1 hW h7).2]
    | 8, hi6 =>
      have h7 := hi6 (by decide)
      unfold gcellC
      simp only [hB 7 _ (gw_8_0 hW h7).2]
    | 9, _ => rfl
    | 10, hi6 =>
      have h7 := hi6 (by decide)
      unfold gcellC
      simp only [hB 8 _ (gw_10_0 hW h7).2, hB 9 _ (gw_10_1 hW h7).2]
    | 11, _ =>
      unfold gcellC
      simp only [hA (400 + i) 0 (hS _ (by omega))]
    | 12, _ => rfl
    | 13, _ => rfl
    | k2 + 14, hi6 =>
      have h7 := hi6 (by omega)
      have h8 : ¬ (k2 + 14 < 100 ∨ 100 + S.2 11 ≤ k2 + 14) := fun q => by
        have := gw_z hW (κ := k2 + 14) (by omega) q
        omega
      obtain ⟨g, hg⟩ : ∃ g, k2 + 14 = 100 + g := ⟨k2 + 14 - 100, by omega⟩
      have h9 : gIn (S.1 (k2 + 14) i 0) (S.2 10) := by
        rw [hg]
        exact gw_p_0 hW (by omega) (by rw [← hg]; exact h7)
      unfold gcellC
      simp only [hB 10 _ h9.2]
  · show gcellM G _ κ2 i _ = gcellM G A κ2 i _
    match κ2, hi6 with
    | 0, _ =>
      unfold gcellM
      simp only [hA 1 0 (hS 1 (by decide)), hA 2 0 (hS 2 (by decide)), hA 3 0 (hS 3 (by decide)), hA 4 0 (hS 4 (by decide)), hA 306 0 (hS 306 (by decide)), hA 307 0 (hS 307 (by decide)), hA 308 0 (hS 308 (by decide)), hA 309 0 (hS 309 (by decide)), hA 310 0 (hS 310 (by decide)), hA 311 0 (hS 311 (by decide)), hA 312 0 (hS 312 (by decide))]
    | 1, _ => rfl
    | 2, _ => rfl
    | 3, _ => rfl
    | 4, _ => rfl
    | 5, _ => rfl
    | 6, _ => rfl
    | 7, _ => rfl
    | 8, _ => rfl
    | 9, _ => rfl
    | 10, _ => rfl
    | 11, _ =>
      unfold gcellM
      simp only [hA (400 + i) 0 (hS _ (by omega))]
    | 12, _ => rfl
    | 13, _ => rfl
    | k2 + 14, _ => rfl
theorem gLs_el {G : gG} {h : gH} {t1 t2 a len : Nat} {el el2 : Nat → Nat} (H : gLs G h t1 t2 a len el) (he : ∀ j, j < len → el j = el2 j) : gLs G h t1 t2 a len el2 := by
  obtain ⟨mc, ed, cap, f, h1, h2, h3⟩ := H
  exact ⟨mc, ed, cap, f, h1, h2, fun j hj => by rw [h3 j hj, he j hj]⟩
theorem pr_add {M : Nat} {G : gG} {S : gS} {A : Nat → Nat → Nat} {Fr : gH → Prop} {T0 : List (Nat × va_E)} {κ v : Nat} {e : va_E} (hM : M ≤ 1) (hF : gFr M Fr) (hW : gWf S) (h6 : 6 ≤ κ) (hk : κ < 300) (h11 : κ ≠ 11) (r : Nat → Int32) (he : gcell M G (gAa A κ (S.2 κ) v) κ (S.2 κ) r = some e) : ∀ h, gAdd (gP M G S A Fr (T0 ++ [(v, e)])) G (κ + 300 + 1000 * M) (κ + 600 + 1000 * M) (A (κ + 300) 0) (S.2 κ) (A κ) v h → ∃ h2, gP M G (gsr S.1 κ (S.2 κ) r, va_up S.2 κ (S.2 κ + 1)) (gAa A κ (S.2 κ) v) Fr T0 h2 ∧ ∀ a τ e, h2 a = some (τ, e) → ∃ τ2, h a = some (τ2, e) := by
  intro h hp
  obtain ⟨h0, ⟨pR, pF, pT⟩, keep, gl⟩ := hp
  have hv0 : h0 v = some ((5000 + T0.length, 0), e) := pT T0.length v e (by rw [List.getElem?_append_right (Nat.le_refl _), Nat.sub_self]; rfl)
  have hv : h v = some ((5000 + T0.length, 0), e) := keep _ _ _ hv0 (fun q => by
    have q1 : 5000 + T0.length = κ + 300 + 1000 * M := congrArg Prod.fst q
    omega) (fun q => by
    have q1 : 5000 + T0.length = κ + 600 + 1000 * M := congrArg Prod.fst q
    omega)
  have hne0 : ∀ b τ e2, h0 b = some (τ, e2) → τ.1 < 5000 → b ≠ v := fun b τ e2 hb hτ q => by
    subst q
    rw [hv0] at hb
    cases hb
    exact absurd hτ (by show ¬ 5000 + T0.length < 5000; omega)
  have hne : ∀ b τ e2, h b = some (τ, e2) → τ.1 < 5000 → b ≠ v := fun b τ e2 hb hτ q => by
    subst q
    rw [hv] at hb
    cases hb
    exact absurd hτ (by show ¬ 5000 + T0.length < 5000; omega)
  have hk2 : ∀ b τ e2, h0 b = some (τ, e2) → τ.1 < 5000 → τ ≠ (κ + 300 + 1000 * M, 0) → τ ≠ (κ + 600 + 1000 * M, 0) → gset h v (κ + 1000 * M, S.2 κ) e b = some (τ, e2) := fun b τ e2 hb hτ n1 n2 => by
    rw [gset_n (hne0 b τ e2 hb hτ)]
    exact keep b τ e2 hb n1 n2
  refine ⟨gset h v (κ + 1000 * M, S.2 κ) e, ⟨⟨fun κ' i e' hk' hi' he' => ?_, fun κ' hk' hL h3 h4 => ?_⟩, hF h0 _ pF fun b τ e2 hb no => ?_, fun j b e2 hj => ?_⟩, fun b τ e2 hb => ?_⟩
  · by_cases hz : κ' = κ ∧ i = S.2 κ
    · obtain ⟨rfl, rfl⟩ := hz
      rw [gAa_s, gset_s]
      dsimp only at he'
      rw [gsr_s, he] at he'
      cases he'
      rfl
    · dsimp only at he'
      rw [gsr_n hz] at he'
      have hi2 : i < gcnt S κ' := by
        unfold gcnt at hi' ⊢
        by_cases q : κ' < 6
        · rw [if_pos q] at hi' ⊢; exact hi'
        · rw [if_neg q] at hi' ⊢
          have hi3 : i < va_up S.2 κ (S.2 κ + 1) κ' := hi'
          unfold va_up at hi3
          by_cases q2 : κ' = κ
          · rw [if_pos q2] at hi3
            subst q2
            have : i ≠ S.2 κ' := fun q3 => hz ⟨rfl, q3⟩
            omega
          · rw [if_neg q2] at hi3; exact hi3
      rw [gcell_A hM h6 hk hW hi2] at he'
      have h9 := pR.1 κ' i e' hk' hi2 he'
      rw [gAa_n hz]
      refine hk2 _ _ _ h9 (by show κ' + 1000 * M < 5000; omega) (fun q => ?_) (fun q => ?_)
      · have q1 : κ' + 1000 * M = κ + 300 + 1000 * M := congrArg Prod.fst q
        omega
      · have q1 : κ' + 1000 * M = κ + 600 + 1000 * M := congrArg Prod.fst q
        omega
  · have hL2 : gIsL S κ' := by
      rcases hL with q | q
      · exact Or.inl q
      · refine Or.inr ⟨q.1, ?_⟩
        have q2 : κ' < 100 + va_up S.2 κ (S.2 κ + 1) 11 := q.2
        unfold va_up at q2
        rw [if_neg (Ne.symm h11)] at q2
        exact q2
    rw [gAa_k (show κ' + 300 ≠ κ by omega)]
    by_cases q : κ' = κ
    · subst q
      have hl : va_up S.2 κ' (S.2 κ' + 1) κ' = S.2 κ' + 1 := if_pos rfl
      show gLs G _ _ _ _ (va_up S.2 κ' (S.2 κ' + 1) κ') _
      rw [hl]
      refine gLs_el (gLs_keep gl fun b τ e2 hb ht => ?_) fun j hj => ?_
      · rw [gset_n]
        · exact hb
        · refine hne b τ e2 hb ?_
          rcases ht with rfl | rfl
          · show κ' + 300 + 1000 * M < 5000; omega
          · show κ' + 600 + 1000 * M < 5000; omega
      · unfold va_up gAa
        by_cases q : j = S.2 κ'
        · rw [if_pos q, if_pos ⟨rfl, q⟩]
        · rw [if_neg q, if_neg (fun z => q z.2)]
    · have hl : va_up S.2 κ (S.2 κ + 1) κ' = S.2 κ' := if_neg q
      show gLs G _ _ _ _ (va_up S.2 κ (S.2 κ + 1) κ') _
      rw [hl]
      refine gLs_el (gLs_keep (pR.2 κ' hk' hL2 h3 h4) fun b τ e2 hb ht => ?_) fun j hj => (gAa_k q).symm
      refine hk2 b τ e2 hb ?_ ?_ ?_
      · rcases ht with rfl | rfl
        · show κ' + 300 + 1000 * M < 5000; omega
        · show κ' + 600 + 1000 * M < 5000; omega
      · intro z
        rcases ht with rfl | rfl
        · have q1 : κ' + 300 + 1000 * M = κ + 300 + 1000 * M := congrArg Prod.fst z
          omega
        · have q1 : κ' + 600 + 1000 * M = κ + 300 + 1000 * M := congrArg Prod.fst z
          omega
      · intro z
        rcases ht with rfl | rfl
        · have q1 : κ' + 300 + 1000 * M = κ + 600 + 1000 * M := congrArg Prod.fst z
          omega
        · have q1 : κ' + 600 + 1000 * M = κ + 600 + 1000 * M := congrArg Prod.fst z
          omega
  · have hτ : τ.1 < 5000 := Nat.lt_of_not_le fun q => no (Or.inr q)
    refine hk2 b τ e2 hb hτ (fun q => no (Or.inl ?_)) (fun q => no (Or.inl ?_))
    · rw [q]; exact ⟨by show 1000 * M ≤ κ + 300 + 1000 * M; omega, by show κ + 300 + 1000 * M < _; omega⟩
    · rw [q]; exact ⟨by show 1000 * M ≤ κ + 600 + 1000 * M; omega, by show κ + 600 + 1000 * M < _; omega⟩
  · have hj2 : j < T0.length := (List.getElem?_eq_some_iff.mp hj).1
    have h9 := pT j b e2 (by rw [List.getElem?_append_left hj2]; exact hj)
    have hb2 : b ≠ v := fun q => by
      subst q
      rw [hv0] at h9
      have q1 : 5000 + T0.length = 5000 + j := congrArg (fun z => z.1.1) (Option.some.inj h9)
      omega
    rw [gset_n hb2]
    refine keep _ _ _ h9 (fun q => ?_) (fun q => ?_)
    · have q1 : 5000 + j = κ + 300 + 1000 * M := congrArg Prod.fst q
      omega
    · have q1 : 5000 + j = κ + 600 + 1000 * M := congrArg Prod.fst q
      omega
  · by_cases q : b = v
    · subst q
      rw [gset_s] at hb
      cases hb
      exact ⟨_, hv⟩
    · rw [gset_n q] at hb
      exact ⟨τ, hb⟩
/-- the addresses of the lists of parts enter the rows of the grosses alone -/
theorem gcell_A4 {M : Nat} {G : gG} {A A2 : Nat → Nat → Nat} {κ i : Nat} {r : Nat → Int32} (hM : M ≤ 1) (h : ∀ a b, a < 400 → A2 a b = A a b) (hk : κ ≠ 11) : gcell M G A2 κ i r = gcell M G A κ i r := by
  have hM2 : M = 0 ∨ M = 1 := by omega
  rcases hM2 with rfl | rfl
  · show gcellC G A2 κ i r = gcellC G A κ i r
    unfold gcellC
    split <;> first | exact absurd rfl hk | simp only [h _ _ (show (0 : Nat) < 400 by decide), h _ _ (show 1 < 400 by decide), h _ _ (show 2 < 400 by decide), h _ _ (show 3 < 400 by decide), h _ _ (show 4 < 400 by decide), h _ _ (show 5 < 400 by decide), h _ _ (show 6 < 400 by decide), h _ _ (show 7 < 400 by decide), h _ _ (show 8 < 400 by decide), h _ _ (show 9 < 400 by decide), h _ _ (show 10 < 400 by decide), h _ _ (show 306 < 400 by decide), h _ _ (show 307 < 400 by decide), h _ _ (show 308 < 400 by decide), h _ _ (show 309 < 400 by decide), h _ _ (show 310 < 400 by decide), h _ _ (show 311 < 400 by decide), h _ _ (show 313 < 400 by decide)]
  · show gcellM G A2 κ i r = gcellM G A κ i r
    unfold gcellM
    split <;> first | exact absurd rfl hk | rfl | simp only [h _ _ (show 1 < 400 by decide), h _ _ (show 2 < 400 by decide), h _ _ (show 3 < 400 by decide), h _ _ (show 4 < 400 by decide), h _ _ (show 306 < 400 by decide), h _ _ (show 307 < 400 by decide), h _ _ (show 308 < 400 by decide), h _ _ (show 309 < 400 by decide), h _ _ (show 310 < 400 by decide), h _ _ (show 311 < 400 by decide), h _ _ (show 312 < 400 by decide)]
theorem pr_addG {M : Nat} {G : gG} {S : gS} {A : Nat → Nat → Nat} {Fr : gH → Prop} {T0 : List (Nat × va_E)} {v l : Nat} {e : va_E} (hM : M ≤ 1) (hF : gFr M Fr) (hW : gWf S) (h30 : S.2 11 < 30) (r : Nat → Int32) (he : gcell M G (gAa (gAa A 11 (S.2 11) v) (400 + S.2 11) 0 l) 11 (S.2 11) r = some e) : ∀ h, gAdd (gP M G S A Fr (T0 ++ [(v, e), (l, .inr (16, [.int 0, .ref (G.2.2.2.2.2.2.1 0), .int 0]))])) G (11 + 300 + 1000 * M) (11 + 600 + 1000 * M) (A (11 + 300) 0) (S.2 11) (A 11) v h → ∃ h2, gP M G (gsr S.1 11 (S.2 11) r, va_up S.2 11 (S.2 11 + 1)) (gAa (gAa A 11 (S.2 11) v) (400 + S.2 11) 0 l) Fr T0 h2 ∧ ∀ a τ e, h2 a = some (τ, e) → ∃ τ2, h a = some (τ2, e) := by
  intro h hp
  obtain ⟨h0, ⟨pR, pF, pT⟩, keep, gl⟩ := hp
  have hz0 : S.2 (100 + S.2 11) = 0 := gw_z hW (by omega) (Or.inr (Nat.le_refl _))
  have hl0 : h0 l = some ((5000 + (T0.length + 1), 0), .inr (16, [.int 0, .ref (G.2.2.2.2.2.2.1 0), .int 0])) := pT (T0.length + 1) l _ (by rw [List.getElem?_append_right (Nat.le_add_right _ _), Nat.add_sub_cancel_left]; rfl)
  have hv0 : h0 v = some ((5000 + T0.length, 0), e) := pT T0.length v e (by rw [List.getElem?_append_right (Nat.le_refl _), Nat.sub_self]; rfl)
  have big : ∀ (m : Nat) (b : Nat) (e2 : va_E), h0 b = some ((5000 + m, 0), e2) → h b = some ((5000 + m, 0), e2) := fun m b e2 hb => keep _ _ _ hb (fun q => by
    have q1 : 5000 + m = 11 + 300 + 1000 * M := congrArg Prod.fst q
    omega) (fun q => by
    have q1 : 5000 + m = 11 + 600 + 1000 * M := congrArg Prod.fst q
    omega)
  have hv := big _ _ _ hv0
  have hl := big _ _ _ hl0
  have hvl : v ≠ l := fun q => by
    rw [q, hl] at hv
    have q1 : 5000 + (T0.length + 1) = 5000 + T0.length := congrArg (fun z => z.1.1) (Option.some.inj hv)
    omega
  have hne : ∀ b τ e2, h b = some (τ, e2) → τ.1 < 5000 → b ≠ v ∧ b ≠ l := fun b τ e2 hb hτ => ⟨fun q => by
    subst q
    rw [hv] at hb
    cases hb
    exact absurd hτ (by show ¬ 5000 + T0.length < 5000; omega), fun q => by
    subst q
    rw [hl] at hb
    cases hb
    exact absurd hτ (by show ¬ 5000 + (T0.length + 1) < 5000; omega)⟩
  have hk1 : ∀ b τ e2, h b = some (τ, e2) → τ.1 < 5000 → gset (gset h v (11 + 1000 * M, S.2 11) e) l (100 + S.2 11 + 300 + 1000 * M, 0) (.inr (16, [.int 0, .ref (G.2.2.2.2.2.2.1 0), .int 0])) b = some (τ, e2) := fun b τ e2 hb hτ => by
    rw [gset_n (hne b τ e2 hb hτ).2, gset_n (hne b τ e2 hb hτ).1, hb]
  have hk2 : ∀ b τ e2, h0 b = some (τ, e2) → τ.1 < 5000 → τ ≠ (11 + 300 + 1000 * M, 0) → τ ≠ (11 + 600 + 1000 * M, 0) → gset (gset h v (11 + 1000 * M, S.2 11) e) l (100 + S.2 11 + 300 + 1000 * M, 0) (.inr (16, [.int 0, .ref (G.2.2.2.2.2.2.1 0), .int 0])) b = some (τ, e2) := fun b τ e2 hb hτ n1 n2 => hk1 b τ e2 (keep b τ e2 hb n1 n2) hτ
  have hAk : ∀ a b, a < 300 → gAa (gAa A 11 (S.2 11) v) (400 + S.2 11) 0 l a b = gAa A 11 (S.2 11) v a b := fun a b ha => gAa_k (by omega)
  refine ⟨gset (gset h v (11 + 1000 * M, S.2 11) e) l (100 + S.2 11 + 300 + 1000 * M, 0) (.inr (16, [.int 0, .ref (G.2.2.2.2.2.2.1 0), .int 0])), ⟨⟨fun κ' i e' hk' hi' he' => ?_, fun κ' hk' hL h3 h4 => ?_⟩, hF h0 _ pF fun b τ e2 hb no => ?_, fun j b e2 hj => ?_⟩, fun b τ e2 hb => ?_⟩
  · rw [hAk κ' i hk']
    by_cases hz : κ' = 11 ∧ i = S.2 11
    · obtain ⟨rfl, rfl⟩ := hz
      rw [gAa_s, gset_n hvl, gset_s]
      dsimp only at he'
      rw [gsr_s, he] at he'
      cases he'
      rfl
    · dsimp only at he'
      rw [gsr_n hz] at he'
      have hi2 : i < gcnt S κ' := by
        unfold gcnt at hi' ⊢
        by_cases q : κ' < 6
        · rw [if_pos q] at hi' ⊢; exact hi'
        · rw [if_neg q] at hi' ⊢
          have hi3 : i < va_up S.2 11 (S.2 11 + 1) κ' := hi'
          unfold va_up at hi3
          by_cases q2 : κ' = 11
          · rw [if_pos q2] at hi3
            have : i ≠ S.2 11 := fun q3 => hz ⟨q2, q3⟩
            rw [q2]
            omega
          · rw [if_neg q2] at hi3; exact hi3
      have hcell : gcell M G (gAa (gAa A 11 (S.2 11) v) (400 + S.2 11) 0 l) κ' i (S.1 κ' i) = gcell M G (gAa A 11 (S.2 11) v) κ' i (S.1 κ' i) := by
        by_cases q : κ' = 11
        · subst q
          have h6 : i < S.2 11 := by
            have := hi2
            unfold gcnt at this
            rwa [if_neg (by decide)] at this
          have hA4 : gAa (gAa A 11 (S.2 11) v) (400 + S.2 11) 0 l (400 + i) 0 = gAa A 11 (S.2 11) v (400 + i) 0 := gAa_k (by omega)
          have hM2 : M = 0 ∨ M = 1 := by omega
          rcases hM2 with rfl | rfl
          · show gcellC G _ 11 i _ = gcellC G _ 11 i _
            unfold gcellC
            simp only [hA4]
          · show gcellM G _ 11 i _ = gcellM G _ 11 i _
            unfold gcellM
            simp only [hA4]
        · exact gcell_A4 hM (fun a b ha => gAa_k (by omega)) q
      rw [hcell, gcell_A hM (by decide) (by decide) hW hi2] at he'
      have h9 := pR.1 κ' i e' hk' hi2 he'
      rw [gAa_n hz]
      refine hk2 _ _ _ h9 (by show κ' + 1000 * M < 5000; omega) (fun q => ?_) (fun q => ?_)
      · have q1 : κ' + 1000 * M = 11 + 300 + 1000 * M := congrArg Prod.fst q
        omega
      · have q1 : κ' + 1000 * M = 11 + 600 + 1000 * M := congrArg Prod.fst q
        omega
  · by_cases qn : κ' = 100 + S.2 11
    · subst qn
      have hl9 : va_up S.2 11 (S.2 11 + 1) (100 + S.2 11) = 0 := (if_neg (by omega)).trans hz0
      show gLs G _ _ _ _ (va_up S.2 11 (S.2 11 + 1) (100 + S.2 11)) _
      rw [hl9, show 100 + S.2 11 + 300 = 400 + S.2 11 from by omega, gAa_s]
      exact ⟨0, _, 0, fun _ => none, by rw [show 400 + S.2 11 = 100 + S.2 11 + 300 from by omega]; exact gset_s, Or.inl ⟨rfl, rfl, rfl⟩, fun j hj => absurd hj (Nat.not_lt_zero _)⟩
    · have hL2 : gIsL S κ' := by
        rcases hL with q | q
        · exact Or.inl q
        · refine Or.inr ⟨q.1, ?_⟩
          have q2 : κ' < 100 + (S.2 11 + 1) := by
            have q3 : κ' < 100 + va_up S.2 11 (S.2 11 + 1) 11 := q.2
            rw [va_up_self] at q3
            exact q3
          omega
      have hA3 : gAa (gAa A 11 (S.2 11) v) (400 + S.2 11) 0 l (κ' + 300) 0 = A (κ' + 300) 0 := by
        rw [gAa_k (by omega), gAa_k (by omega)]
      rw [hA3]
      by_cases q : κ' = 11
      · subst q
        have hl9 : va_up S.2 11 (S.2 11 + 1) 11 = S.2 11 + 1 := if_pos rfl
        show gLs G _ _ _ _ (va_up S.2 11 (S.2 11 + 1) 11) _
        rw [hl9]
        refine gLs_el (gLs_keep gl fun b τ e2 hb ht => hk1 b τ e2 hb ?_) fun j hj => ?_
        · rcases ht with rfl | rfl
          · show 11 + 300 + 1000 * M < 5000; omega
          · show 11 + 600 + 1000 * M < 5000; omega
        · rw [hAk 11 j (by decide)]
          unfold va_up gAa
          by_cases q : j = S.2 11
          · rw [if_pos q, if_pos ⟨rfl, q⟩]
          · rw [if_neg q, if_neg (fun z => q z.2)]
      · have hl9 : va_up S.2 11 (S.2 11 + 1) κ' = S.2 κ' := if_neg q
        show gLs G _ _ _ _ (va_up S.2 11 (S.2 11 + 1) κ') _
        rw [hl9]
        refine gLs_el (gLs_keep (pR.2 κ' hk' hL2 h3 h4) fun b τ e2 hb ht => ?_) fun j hj => by rw [hAk κ' j hk', gAa_k q]
        refine hk2 b τ e2 hb ?_ ?_ ?_
        · rcases ht with rfl | rfl
          · show κ' + 300 + 1000 * M < 5000; omega
          · show κ' + 600 + 1000 * M < 5000; omega
        · intro z
          rcases ht with rfl | rfl
          · have q1 : κ' + 300 + 1000 * M = 11 + 300 + 1000 * M := congrArg Prod.fst z
            omega
          · have q1 : κ' + 600 + 1000 * M = 11 + 300 + 1000 * M := congrArg Prod.fst z
            omega
        · intro z
          rcases ht with rfl | rfl
          · have q1 : κ' + 300 + 1000 * M = 11 + 600 + 1000 * M := congrArg Prod.fst z
            omega
          · have q1 : κ' + 600 + 1000 * M = 11 + 600 + 1000 * M := congrArg Prod.fst z
            omega
  · have hτ : τ.1 < 5000 := Nat.lt_of_not_le fun q => no (Or.inr q)
    refine hk2 b τ e2 hb hτ (fun q => no (Or.inl ?_)) (fun q => no (Or.inl ?_))
    · rw [q]; exact ⟨by show 1000 * M ≤ 11 + 300 + 1000 * M; omega, by show 11 + 300 + 1000 * M < _; omega⟩
    · rw [q]; exact ⟨by show 1000 * M ≤ 11 + 600 + 1000 * M; omega, by show 11 + 600 + 1000 * M < _; omega⟩
  · have hj2 : j < T0.length := (List.getElem?_eq_some_iff.mp hj).1
    have h9 := pT j b e2 (by rw [List.getElem?_append_left hj2]; exact hj)
    have hb2 : b ≠ v := fun q => by
      subst q
      rw [hv0] at h9
      have q1 : 5000 + T0.length = 5000 + j := congrArg (fun z => z.1.1) (Option.some.inj h9)
      omega
    have hb3 : b ≠ l := fun q => by
      subst q
      rw [hl0] at h9
      have q1 : 5000 + (T0.length + 1) = 5000 + j := congrArg (fun z => z.1.1) (Option.some.inj h9)
      omega
    rw [gset_n hb3, gset_n hb2]
    exact big _ _ _ h9
  · by_cases q : b = l
    · subst q
      rw [gset_s] at hb
      cases hb
      exact ⟨_, hl⟩
    · rw [gset_n q] at hb
      by_cases q2 : b = v
      · subst q2
        rw [gset_s] at hb
        cases hb
        exact ⟨_, hv⟩
      · rw [gset_n q2] at hb
        exact ⟨τ, hb⟩
/-- what lies in the lists may lie there -/
theorem gcell_ok {M : Nat} {G : gG} {A : Nat → Nat → Nat} {κ i : Nat} {r : Nat → Int32} {e : va_E} (h6 : 6 ≤ κ) (he : gcell M G A κ i r = some e) : gOk G e := by
  by_cases hM : M = 0
  · subst hM
    have he2 : gcellC G A κ i r = some e := he
    match κ, h6 with
    | 6, _ =>
      unfold gcellC at he2
      cases he2
      by_cases q : r 0 = 103
      · rw [if_pos q]; exact Or.inl ⟨3, _, rfl, by decide, by decide⟩
      · rw [if_neg q]; exact Or.inl ⟨4, _, rfl, by decide, by decide⟩
    | 7, _ => cases he2; exact Or.inl ⟨_, _, rfl, by decide, by decide⟩
    | 8, _ => cases he2; exact Or.inl ⟨_, _, rfl, by decide, by decide⟩
    | 9, _ => cases he2; exact Or.inl ⟨_, _, rfl, by decide, by decide⟩
    | 10, _ => cases he2; exact Or.inl ⟨_, _, rfl, by decide, by decide⟩
    | 11, _ => cases he2; exact Or.inl ⟨_, _, rfl, by decide, by decide⟩
    | 12, _ => cases he2
    | 13, _ => cases he2; exact Or.inl ⟨_, _, rfl, by decide, by decide⟩
    | k + 14, _ => cases he2; exact Or.inl ⟨_, _, rfl, by decide, by decide⟩
  · obtain ⟨m, rfl⟩ := Nat.exists_eq_succ_of_ne_zero hM
    have he2 : gcellM G A κ i r = some e := he
    match κ, h6 with
    | 6, _ => cases he2; exact Or.inr ⟨_, _, rfl⟩
    | 7, _ => cases he2; exact Or.inr ⟨_, _, rfl⟩
    | 8, _ => cases he2; exact Or.inl ⟨_, _, rfl, by decide, by decide⟩
    | 9, _ => cases he2; exact Or.inl ⟨_, _, rfl, by decide, by decide⟩
    | 10, _ => cases he2; exact Or.inl ⟨_, _, rfl, by decide, by decide⟩
    | 11, _ => cases he2; exact Or.inl ⟨_, _, rfl, by decide, by decide⟩
    | 12, _ => cases he2; exact Or.inr ⟨_, _, rfl⟩
    | 13, _ => cases he2
    | k + 14, _ => cases he2; exact Or.inr ⟨_, _, rfl⟩
theorem gcell_so {M : Nat} {G : gG} {A : Nat → Nat → Nat} {κ i : Nat} {r : Nat → Int32} (h12 : M = 0 → κ ≠ 12) (h13 : M ≠ 0 → κ ≠ 13 ∧ κ ≠ 5) : ∃ e, gcell M G A κ i r = some e := by
  by_cases hM : M = 0
  · subst hM
    have := h12 rfl
    show ∃ e, gcellC G A κ i r = some e
    unfold gcellC
    split <;> first | exact ⟨_, rfl⟩ | exact absurd rfl this
  · obtain ⟨m, rfl⟩ := Nat.exists_eq_succ_of_ne_zero hM
    have := h13 hM
    show ∃ e, gcellM G A κ i r = some e
    unfold gcellM
    split <;> first | exact ⟨_, rfl⟩ | exact absurd rfl this.1 | exact absurd rfl this.2
theorem pr_el {M : Nat} {G : gG} {S : gS} {A : Nat → Nat → Nat} {Fr : gH → Prop} {T : List (Nat × va_E)} {κ : Nat} (h6 : 6 ≤ κ) (hk : κ < 300) (h12 : M = 0 → κ ≠ 12) (h13 : M ≠ 0 → κ ≠ 13) : ∀ i, i < S.2 κ → gEl G (gP M G S A Fr T) (A κ i) := fun i hi h hp => by
  obtain ⟨e, he⟩ := gcell_so (M := M) (G := G) (A := A) (κ := κ) (i := i) (r := S.1 κ i) h12 (fun q => ⟨h13 q, by omega⟩)
  exact ⟨_, e, hp.1.1 κ i e hk (gc6 (by omega) hi) he, gcell_ok h6 he⟩
theorem pr_elT {M : Nat} {G : gG} {S : gS} {A : Nat → Nat → Nat} {Fr : gH → Prop} {T : List (Nat × va_E)} {j v : Nat} {e : va_E} (hj : T[j]? = some (v, e)) (ho : gOk G e) : gEl G (gP M G S A Fr T) v := fun h hp => ⟨_, e, hp.2.2 j v e hj, ho⟩
def gRw (L : List Int32) : Nat → Int32 := fun c => L.getD c 0
theorem pr_atN {M : Nat} {G : gG} {S : gS} {A : Nat → Nat → Nat} {Fr : gH → Prop} {T : List (Nat × va_E)} {κ n v : Nat} {e : va_E} (hk : κ < 300) (hi : n < gcnt S κ) (he : gcell M G (gAa A κ n v) κ n (S.1 κ n) = some e) : gAt (gP M G S (gAa A κ n v) Fr T) v e := by
  have h := pr_at (Fr := Fr) (T := T) hk hi he
  rwa [gAa_s] at h
/-! the indices stay within -/
theorem gWf_n {S : gS} (h : gWf S) {κ i : Nat} {r : Nat → Int32} (hk : κ = 3 ∨ κ = 4 ∨ κ = 5 ∨ κ = 6 ∨ κ = 9 ∨ κ = 11 ∨ κ = 12) : gWf (gsr S.1 κ i r, S.2) := by
  have hs : ∀ a b, (a = 0 ∨ a = 1 ∨ a = 2 ∨ a = 7 ∨ a = 8 ∨ a = 10 ∨ a = 13 ∨ 100 ≤ a) → gsr S.1 κ i r a b = S.1 a b := fun a b ha => gsr_n (by omega)
  obtain ⟨⟨h1, h2, h3, h4⟩, h5, h6, h7, h8, h9, h10⟩ := h
  refine ⟨⟨fun j hj => ?_, fun j hj => ?_, fun j hj => ?_, fun g j hg hj => ?_⟩, h5, h6, ?_, ?_, fun j hj => ?_, fun j hj => ?_⟩
  · dsimp only; rw [hs 7 j (by omega)]; exact h1 j hj
  · dsimp only; rw [hs 8 j (by omega)]; exact h2 j hj
  · dsimp only; rw [hs 10 j (by omega)]; exact h3 j hj
  · dsimp only; rw [hs (100 + g) j (by omega)]; exact h4 g j hg hj
  · show gDrv (gsr S.1 κ i r 1 0); rw [hs 1 0 (by omega)]; exact h7
  · show gBl (gsr S.1 κ i r 0 0 1); rw [hs 0 0 (by omega)]; exact h8
  · show gBl (gsr S.1 κ i r 2 0 j); rw [hs 2 0 (by omega)]; exact h9 j hj
  · show gBl (gsr S.1 κ i r 13 j 4); rw [hs 13 j (by omega)]; exact h10 j hj
theorem gsr_row {p : (Nat → Int32) → Prop} {σ : Nat → Nat → Nat → Int32} {κ i a b : Nat} {r : Nat → Int32} (h1 : a = κ ∧ b = i → p r) (h2 : p (σ a b)) : p (gsr σ κ i r a b) := by
  unfold gsr
  by_cases h : a = κ ∧ b = i
  · rw [if_pos h]; exact h1 h
  · rw [if_neg h]; exact h2
/-- a row written whose indices stay -/
theorem gWf_s {S : gS} (h : gWf S) {κ i : Nat} {r : Nat → Int32} (h0 : κ = 0 → gBl (r 1)) (h1 : κ = 1 → gDrv r) (h2 : κ = 2 → ∀ j, j < 4 → gBl (r j)) (h7 : κ = 7 → r 0 = S.1 7 i 0 ∧ r 1 = S.1 7 i 1) (h8 : κ = 8 → r 0 = S.1 8 i 0) (hx : κ = 10 → r 0 = S.1 10 i 0 ∧ r 1 = S.1 10 i 1) (h13 : κ = 13 → gBl (r 4)) (hp : 100 ≤ κ → r 0 = S.1 κ i 0) : gWf (gsr S.1 κ i r, S.2) := by
  obtain ⟨⟨q1, q2, q3, q4⟩, q5, q6, q7, q8, q9, q10⟩ := h
  refine ⟨⟨fun j hj => ?_, fun j hj => ?_, fun j hj => ?_, fun g j hg hj => ?_⟩, q5, q6, ?_, ?_, fun j hj => ?_, fun j hj => ?_⟩
  · refine gsr_row (p := fun z => gIn (z 0) (S.2 6) ∧ gIn (z 1) (S.2 6)) (fun q => ?_) (q1 j hj)
    obtain ⟨rfl, rfl⟩ := q
    rw [(h7 rfl).1, (h7 rfl).2]; exact q1 j hj
  · refine gsr_row (p := fun z => gIn (z 0) (S.2 7)) (fun q => ?_) (q2 j hj)
    obtain ⟨rfl, rfl⟩ := q
    rw [h8 rfl]; exact q2 j hj
  · refine gsr_row (p := fun z => gIn (z 0) (S.2 8) ∧ gIn (z 1) (S.2 9)) (fun q => ?_) (q3 j hj)
    obtain ⟨rfl, rfl⟩ := q
    rw [(hx rfl).1, (hx rfl).2]; exact q3 j hj
  · refine gsr_row (p := fun z => gIn (z 0) (S.2 10)) (fun q => ?_) (q4 g j hg hj)
    obtain ⟨rfl, rfl⟩ := q
    rw [hp (Nat.le_add_right _ _)]; exact q4 g j hg hj
  · exact gsr_row (p := gDrv) (fun q => h1 q.1.symm) q7
  · exact gsr_row (p := fun z => gBl (z 1)) (fun q => h0 q.1.symm) q8
  · exact gsr_row (p := fun z => gBl (z j)) (fun q => h2 q.1.symm j hj) (q9 j hj)
  · exact gsr_row (p := fun z => gBl (z 4)) (fun q => h13 q.1.symm) (q10 j hj)
theorem gWf_8 {S : gS} (h : gWf S) {i : Nat} {r : Nat → Int32} (h8 : r 0 = S.1 8 i 0) : gWf (gsr S.1 8 i r, S.2) := gWf_s h (fun q => by cases q) (fun q => by cases q) (fun q => by cases q) (fun q => by cases q) (fun _ => h8) (fun q => by cases q) (fun q => by cases q) (fun q => by omega)
theorem gWf_7 {S : gS} (h : gWf S) {i : Nat} {r : Nat → Int32} (h0 : r 0 = S.1 7 i 0) (h1 : r 1 = S.1 7 i 1) : gWf (gsr S.1 7 i r, S.2) := gWf_s h (fun q => by cases q) (fun q => by cases q) (fun q => by cases q) (fun _ => ⟨h0, h1⟩) (fun q => by cases q) (fun q => by cases q) (fun q => by cases q) (fun q => by omega)
theorem gWf_10 {S : gS} (h : gWf S) {i : Nat} {r : Nat → Int32} (h0 : r 0 = S.1 10 i 0) (h1 : r 1 = S.1 10 i 1) : gWf (gsr S.1 10 i r, S.2) := gWf_s h (fun q => by cases q) (fun q => by cases q) (fun q => by cases q) (fun q => by cases q) (fun q => by cases q) (fun _ => ⟨h0, h1⟩) (fun q => by cases q) (fun q => by omega)
theorem gWf_0 {S : gS} (h : gWf S) {r : Nat → Int32} (h0 : gBl (r 1)) : gWf (gsr S.1 0 0 r, S.2) := gWf_s h (fun _ => h0) (fun q => by cases q) (fun q => by cases q) (fun q => by cases q) (fun q => by cases q) (fun q => by cases q) (fun q => by cases q) (fun q => by omega)
theorem gWf_13 {S : gS} (h : gWf S) {i : Nat} {r : Nat → Int32} (h0 : gBl (r 4)) : gWf (gsr S.1 13 i r, S.2) := gWf_s h (fun q => by cases q) (fun q => by cases q) (fun q => by cases q) (fun q => by cases q) (fun q => by cases q) (fun q => by cases q) (fun _ => h0) (fun q => by omega)
theorem lotne {S : gS} {i j : Nat} (hi : S.1 6 i 0 = 103) (hj : ¬ S.1 6 j 0 = 103) : i ≠ j := fun q => hj (by rw [← q]; exact hi)
theorem gsr_q {σ : Nat → Nat → Nat → Int32} {κ i i0 : Nat} {r r0 : Nat → Int32} (h : i ≠ i0) (e : σ κ i = r) : gsr σ κ i0 r0 κ i = r := (gsr_n fun q => h q.2).trans e
theorem mixnz {k m a b : Int32} (h1 : ¬ k < 1) (h2 : ¬ m < 1) (h3 : ¬ a < k) (h4 : ¬ b < m) (h5 : ¬ (500 : Int32) < a) (h6 : ¬ (500 : Int32) < b) : ¬ k + m = 0 := by
  have e1 : ¬ k.toInt < 1 := fun q => h1 (Int32.lt_iff_toInt_lt.mpr q)
  have e2 : ¬ m.toInt < 1 := fun q => h2 (Int32.lt_iff_toInt_lt.mpr q)
  have e3 : ¬ a.toInt < k.toInt := fun q => h3 (Int32.lt_iff_toInt_lt.mpr q)
  have e4 : ¬ b.toInt < m.toInt := fun q => h4 (Int32.lt_iff_toInt_lt.mpr q)
  have e5 : ¬ (500 : Int) < a.toInt := fun q => h5 (Int32.lt_iff_toInt_lt.mpr q)
  have e6 : ¬ (500 : Int) < b.toInt := fun q => h6 (Int32.lt_iff_toInt_lt.mpr q)
  intro q
  have q1 := congrArg Int32.toInt q
  rw [Int32.toInt_add, Int32.toInt_zero, Int.bmod_eq_of_le (by omega) (by omega)] at q1
  omega
theorem pr_putX {M : Nat} {G : gG} {S : gS} {A : Nat → Nat → Nat} {Fr : gH → Prop} {T : List (Nat × va_E)} (hM : M ≤ 1) (hF : gFr M Fr) {j a ci f : Nat} {fs : List Value} {v : Value} (hj : T[j]? = some (a, .inr (ci, fs))) (hf : f < fs.length) :
    ∀ h, gP M G S A Fr T h → ∃ τ fs2, h a = some (τ, .inr (ci, fs2)) ∧ f < fs2.length ∧ gP M G S A Fr (T.set j (a, .inr (ci, fs.set f v))) (gset h a τ (.inr (ci, fs2.set f v))) :=
  fun _ hp => ⟨_, fs, (pr_setTAt (e1 := .inr (ci, fs.set f v)) hM hF hj hp).1, hf, (pr_setTAt hM hF hj hp).2⟩
/-! THE BELTS' LOOPS -/
def gHit (r : Nat → Int32) (t : Int32) : Nat → Int32 → Bool
  | 0, _ => false
  | n + 1, x => if x = -1 then false else (x == t) || gHit r t n (r x.toNatClampNeg)
theorem gHit_m {r : Nat → Int32} {t : Int32} {n : Nat} {x : Int32} (h : x = -1) : ¬ gHit r t n x = true := by
  subst h
  cases n <;> simp [gHit]
theorem gHit_s {r : Nat → Int32} {t : Int32} {n : Nat} {x : Int32} (h : ¬ x = -1) : gHit r t (n + 1) x = ((x == t) || gHit r t n (r x.toNatClampNeg)) := if_neg h
theorem gHit_e {r : Nat → Int32} {t : Int32} {n : Nat} {x : Int32} (h : ¬ x = -1) (h2 : ¬ ¬ x = t) : gHit r t (n + 1) x = true := by
  rw [gHit_s h, Decidable.not_not.mp h2]; simp
theorem gHit_i {r : Nat → Int32} {t : Int32} {n : Nat} {x : Int32} (h : ¬ x = -1) (h2 : ¬ x = t) : gHit r t (n + 1) x = gHit r t n (r x.toNatClampNeg) := by
  rw [gHit_s h]; simp [h2]
theorem gDrv_o {r : Nat → Int32} (h : gDrv r) {x : Int32} (hx : x = -1 ∨ gIn x 4) : gIt r 4 x = -1 := by
  rcases hx with rfl | hx
  · rfl
  · exact gDrv_e h hx
theorem gidx_or {ch : Int32} : gidx 0 ch = -1 ∨ gIn (gidx 0 ch) 4 := by
  by_cases h : gidx 0 ch < 0
  · refine Or.inl ?_
    have hz : ∀ (bs : List Int32) (m : Nat), bs.length + m < 2 ^ 31 → gix bs ch m = -1 ∨ ¬ gix bs ch m < 0 := by
      intro bs
      induction bs with
      | nil => exact fun m _ => Or.inl rfl
      | cons b bs ih =>
        intro m hm
        unfold gix
        by_cases q : b = ch
        · rw [if_pos q]; exact Or.inr (nI_pos (by simp at hm; omega))
        · rw [if_neg q]; exact ih (m + 1) (by simp at hm; omega)
    exact (hz _ 0 (by decide)).resolve_right (fun q => q h)
  · exact Or.inr (gidx_in (i := 0) (by decide) h)
theorem gchar_n (j : Nat) : narrow .char (.int ((gByt.getD 0 []).getD j 0)) = .int ((gByt.getD 0 []).getD j 0) := by
  by_cases h : j < 10
  · exact gby_cn 0 (by decide) j h
  · have : (gByt.getD 0 []).getD j 0 = 0 := by
      show ([109, 112, 103, 99] : List Int32).getD j 0 = 0
      rw [List.getD_eq_getElem?_getD, List.getElem?_eq_none (by simp; omega)]
      rfl
    rw [this]
    rfl
theorem gbelt_n {c : Prop} [Decidable c] {j : Nat} : narrow .char (.int (if c then 45 else (gByt.getD 0 []).getD j 0)) = .int (if c then 45 else (gByt.getD 0 []).getD j 0) := by
  by_cases h : c
  · rw [if_pos h]; rfl
  · rw [if_neg h]; exact gchar_n j
/-! SAMPLES -/
def gz (z : Int32) : Int32 := (z.toInt64 * 48271 - z.toInt64 * 48271 / 2147483647 * 2147483647).toInt32
theorem gz_l {z : Int32} (h : ¬ z < 0) : z.toInt64 * 48271 - z.toInt64 * 48271 / 2147483647 * 2147483647 = (gz z).toInt64 ∧ ¬ gz z < 0 := by
  have h0 : 0 ≤ z.toInt := by
    have : ¬ z.toInt < 0 := fun q => h (Int32.lt_iff_toInt_lt.mpr (by simpa using q))
    omega
  have h1 := Int32.toInt_lt z
  have e1 : (z.toInt64 * 48271).toInt = z.toInt * 48271 := by
    rw [Int64.toInt_mul, Int32.toInt_toInt64, show (48271 : Int64).toInt = 48271 from by decide]
    exact Int.bmod_eq_of_le (by omega) (by omega)
  have e2 : (z.toInt64 * 48271 / 2147483647).toInt = z.toInt * 48271 / 2147483647 := by
    rw [Int64.toInt_div_of_ne_right _ _ (by decide), e1, show (2147483647 : Int64).toInt = 2147483647 from by decide, Int.tdiv_eq_ediv_of_nonneg (by omega)]
  have e3 : (z.toInt64 * 48271 / 2147483647 * 2147483647).toInt = z.toInt * 48271 / 2147483647 * 2147483647 := by
    rw [Int64.toInt_mul, e2, show (2147483647 : Int64).toInt = 2147483647 from by decide]
    exact Int.bmod_eq_of_le (by omega) (by omega)
  have e4 : (z.toInt64 * 48271 - z.toInt64 * 48271 / 2147483647 * 2147483647).toInt = z.toInt * 48271 - z.toInt * 48271 / 2147483647 * 2147483647 := by
    rw [Int64.toInt_sub, e1, e3]
    exact Int.bmod_eq_of_le (by omega) (by omega)
  have e5 : (gz z).toInt = z.toInt * 48271 - z.toInt * 48271 / 2147483647 * 2147483647 := by
    unfold gz
    rw [Int64.toInt_toInt32, e4]
    exact Int.bmod_eq_of_le (by omega) (by omega)
  refine ⟨Int64.toInt_inj.mp (by rw [e4, Int32.toInt_toInt64, e5]), fun q => ?_⟩
  rw [Int32.lt_iff_toInt_lt, e5, Int32.toInt_zero] at q
  omega
/-- the component's and the reference's rounds: z, pencils, broken, found -/
def gbC (z pe br : Int32) : Int32 := gb (¬ (0 ≤ lg_cmp (z.toInt64 - z.toInt64 / pe.toInt64 * pe.toInt64) br.toInt64))
def gSaC : Nat → Int32 → Int32 → Int32 → Int32 → Int32 × Int32 × Int32 × Int32
  | 0, z, pe, br, fo => (z, pe, br, fo)
  | n + 1, z, pe, br, fo => gSaC n (gz z) (pe - 1) (br - gbC (gz z) pe br) (fo + gbC (gz z) pe br)
def gSaM : Nat → Int32 → Int32 → Int32 → Int32 → Int32 × Int32 × Int32 × Int32
  | 0, z, pe, br, fo => (z, pe, br, fo)
  | n + 1, z, pe, br, fo => if gz z - gz z / pe * pe < br then gSaM n (gz z) (pe - 1) (br - 1) (fo + 1) else gSaM n (gz z) (pe - 1) br fo
theorem gsr_id {σ : Nat → Nat → Nat → Int32} {κ i : Nat} : gsr σ κ i (σ κ i) = σ := by
  funext a b
  unfold gsr
  by_cases h : a = κ ∧ b = i
  · rw [if_pos h, h.1, h.2]
  · rw [if_neg h]
theorem upd_id {f : Nat → Int32} {m : Nat} : upd f m (f m) = f := by
  funext c
  unfold upd
  by_cases h : c = m
  · rw [if_pos h, h]
  · rw [if_neg h]
theorem gsr_ss {σ : Nat → Nat → Nat → Int32} {κ i : Nat} {r r2 : Nat → Int32} : gsr (gsr σ κ i r) κ i r2 = gsr σ κ i r2 := by
  funext a b
  unfold gsr
  by_cases h : a = κ ∧ b = i
  · rw [if_pos h, if_pos h]
  · rw [if_neg h, if_neg h, if_neg h]
theorem gsr_sw {σ : Nat → Nat → Nat → Int32} {κ i κ2 i2 : Nat} {r r2 : Nat → Int32} (hk : κ ≠ κ2) : gsr (gsr σ κ i r) κ2 i2 r2 = gsr (gsr σ κ2 i2 r2) κ i r := by
  funext a b
  unfold gsr
  by_cases h : a = κ ∧ b = i
  · have h2 : ¬ (a = κ2 ∧ b = i2) := fun q => hk (h.1.symm.trans q.1)
    rw [if_neg h2, if_pos h, if_pos h]
  · rw [if_neg h, if_neg h]
theorem can3 {σ : Nat → Nat → Nat → Int32} {i : Nat} {a b a2 b2 b3 : Nat → Int32} : gsr (gsr (gsr (gsr (gsr σ 0 0 a) 10 i b) 0 0 a2) 10 i b2) 10 i b3 = gsr (gsr σ 0 0 a2) 10 i b3 := by
  rw [gsr_ss, gsr_sw (κ := 10) (κ2 := 0) (by decide), gsr_ss, gsr_ss]
theorem can2 {σ : Nat → Nat → Nat → Int32} {i : Nat} {a b a2 b3 : Nat → Int32} : gsr (gsr (gsr (gsr σ 0 0 a) 10 i b) 0 0 a2) 10 i b3 = gsr (gsr σ 0 0 a2) 10 i b3 := by
  rw [gsr_sw (κ := 10) (κ2 := 0) (by decide), gsr_ss, gsr_ss]
theorem upd_uu {f : Nat → Int32} {m : Nat} {x y : Int32} : upd (upd f m x) m y = upd f m y := by
  funext c
  unfold upd
  by_cases h : c = m
  · rw [if_pos h, if_pos h]
  · rw [if_neg h, if_neg h, if_neg h]
theorem upd_sw {f : Nat → Int32} {m n : Nat} {x y : Int32} (h : m ≠ n) : upd (upd f m x) n y = upd (upd f n y) m x := by
  funext c
  unfold upd
  by_cases q : c = n
  · rw [if_pos q, if_neg (fun z => h (z.symm.trans q)), if_pos q]
  · rw [if_neg q, if_neg q]
theorem gP_S {M : Nat} {G : gG} {S S2 : gS} {A : Nat → Nat → Nat} {Fr : gH → Prop} {T : List (Nat × va_E)} (e : S = S2) : ∀ h, gP M G S A Fr T h → gP M G S2 A Fr T h := fun _ hp => e ▸ hp
theorem gpe_1 {pe : Int32} {n : Nat} (hn : n < 100) (h : ¬ pe < nI (n + 1)) : ¬ pe = 0 ∧ ¬ pe - 1 < nI n := by
  have h1 : ¬ pe.toInt < (n + 1 : Int) := by
    rw [Int32.lt_iff_toInt_lt, nI_toInt (by omega)] at h
    omega
  have h2 := Int32.toInt_lt pe
  refine ⟨fun q => ?_, fun q => ?_⟩
  · rw [q, Int32.toInt_zero] at h1; omega
  · rw [Int32.lt_iff_toInt_lt, nI_toInt (by omega), Int32.toInt_sub, show (1 : Int32).toInt = 1 from by decide, Int.bmod_eq_of_le (by omega) (by omega)] at q
    omega
theorem gpe_64 {pe : Int32} (h : ¬ pe = 0) : ¬ pe.toInt64 = 0 := fun q => h (by
  have h1 := congrArg Int64.toInt q
  rw [Int32.toInt_toInt64] at h1
  exact Int32.toInt_inj.mp h1)
theorem gm_of {m : Int32} (h1 : ¬ m < 1) (h2 : ¬ (50 : Int32) < m) : ∃ n, m = nI n ∧ n ≤ 50 := by
  have a1 : ¬ m.toInt < 1 := fun q => h1 (Int32.lt_iff_toInt_lt.mpr q)
  have a2 : ¬ (50 : Int) < m.toInt := fun q => h2 (Int32.lt_iff_toInt_lt.mpr q)
  refine ⟨m.toInt.toNat, Int32.toInt_inj.mp ?_, by omega⟩
  rw [nI_toInt (by omega)]
  omega
theorem gm_of2 {m : Int32} (h1 : ¬ m < 1) (h2 : ¬ (50 : Int32) < m) : m = nI m.toNatClampNeg ∧ m.toNatClampNeg ≤ 50 := by
  obtain ⟨n, rfl, hn⟩ := gm_of h1 h2
  rw [nI_clamp (by omega)]
  exact ⟨rfl, hn⟩
theorem gSaC_s {n : Nat} {z pe br fo : Int32} : gSaC (n + 1) z pe br fo = gSaC n (gz z) (pe - 1) (br - gbC (gz z) pe br) (fo + gbC (gz z) pe br) := by
  delta gSaC
  rfl
theorem gSaM_s {n : Nat} {z pe br fo : Int32} : gSaM (n + 1) z pe br fo = if gz z - gz z / pe * pe < br then gSaM n (gz z) (pe - 1) (br - 1) (fo + 1) else gSaM n (gz z) (pe - 1) br fo := by
  delta gSaM
  rfl
/-! LISTS OF PARTS -/
theorem gk3 {S : gS} (h : gWf S) {g : Nat} (hg : g < S.2 11) : 100 + g < 300 := by
  have := gw_11 h
  omega
theorem gcell_p0 {G : gG} {A : Nat → Nat → Nat} {g i : Nat} {r : Nat → Int32} : gcell 0 G A (100 + g) i r = some (.inr (14, [.ref (A 10 (r 0).toNatClampNeg), .int (r 1), .int (r 2)])) := by
  rw [show 100 + g = (g + 86) + 14 from by omega]
  rfl
theorem gcell_p1 {G : gG} {A : Nat → Nat → Nat} {g i : Nat} {r : Nat → Int32} : gcell 1 G A (100 + g) i r = some (gIA G 3 r) := by
  rw [show 100 + g = (g + 86) + 14 from by omega]
  rfl
theorem pr_lsp {M : Nat} {G : gG} {S : gS} {A : Nat → Nat → Nat} {Fr : gH → Prop} {T : List (Nat × va_E)} {g : Nat} (hW : gWf S) (hg : g < S.2 11) : ∀ h, gP M G S A Fr T h → gLs G h (100 + g + 300 + 1000 * M) (100 + g + 600 + 1000 * M) (A (400 + g) 0) (S.2 (100 + g)) (A (100 + g)) := by
  have h := pr_ls (M := M) (G := G) (S := S) (A := A) (Fr := Fr) (T := T) (κ := 100 + g) (gk3 hW hg) (Or.inr ⟨Nat.le_add_right _ _, Nat.add_lt_add_left hg 100⟩) (fun _ => by omega) (fun _ => by omega)
  rwa [show 100 + g + 300 = 400 + g from by omega] at h ⊢
theorem pr_nw {M : Nat} {G : gG} {S : gS} {A : Nat → Nat → Nat} {Fr : gH → Prop} {T : List (Nat × va_E)} {a : Nat} {e : va_E} (hF : gFr M Fr) : ∀ h, gNw (gP M G S A Fr T) (5000 + T.length, 0) a e h → gP M G S A Fr (T ++ [(a, e)]) h := fun h hp => by
  obtain ⟨h0, q1, q2, rfl⟩ := hp
  exact pr_new hF h0 a q1 q2
theorem gcell_g0 {G : gG} {A : Nat → Nat → Nat} {n l : Nat} {r : Nat → Int32} : gcell 0 G (gAa A (400 + n) 0 l) 11 n r = some (.inr (12, [.int (r 0), .ref l, .int (r 1)])) := by
  show some (Sum.inr (12, [Value.int (r 0), Value.ref (gAa A (400 + n) 0 l (400 + n) 0), Value.int (r 1)])) = _
  rw [gAa_s]
theorem gcell_g1 {G : gG} {A : Nat → Nat → Nat} {n l : Nat} {r : Nat → Int32} : gcell 1 G (gAa A (400 + n) 0 l) 11 n r = some (.inr (13, [.int (r 0), .ref l, .int (r 1)])) := by
  show some (Sum.inr (13, [Value.int (r 0), Value.ref (gAa A (400 + n) 0 l (400 + n) 0), Value.int (r 1)])) = _
  rw [gAa_s]
theorem g30C {N : Nat} (h : ¬ (30 : Int32) ≤ nI N) (hN : N ≤ 30) : N < 30 := Nat.lt_of_le_of_ne hN fun q => h (by subst q; decide)
theorem g30M {N : Nat} (h : ¬ nI N = 30) (hN : N ≤ 30) : N < 30 := Nat.lt_of_le_of_ne hN fun q => h (by subst q; rfl)
theorem pr_atA4 {M : Nat} {G : gG} {S : gS} {A : Nat → Nat → Nat} {Fr : gH → Prop} {T : List (Nat × va_E)} {κ i n l : Nat} {e : va_E} (hM : M ≤ 1) (hk : κ < 300) (h11 : κ ≠ 11) (hi : i < gcnt S κ) (he : gcell M G A κ i (S.1 κ i) = some e) : gAt (gP M G S (gAa A (400 + n) 0 l) Fr T) (A κ i) e := by
  have h := pr_at (M := M) (G := G) (S := S) (A := gAa A (400 + n) 0 l) (Fr := Fr) (T := T) (κ := κ) (i := i) (e := e) hk hi (by rw [gcell_A4 hM (fun a b h => gAa_k (by omega)) h11]; exact he)
  rwa [gAa_k (by omega)] at h
theorem pr_lsA4 {M : Nat} {G : gG} {S : gS} {A : Nat → Nat → Nat} {Fr : gH → Prop} {T : List (Nat × va_E)} {κ n l : Nat} (hk : κ < 14) (hL : gIsL S κ) (h3 : M = 0 → κ ≠ 12) (h4 : M = 1 → κ ≠ 13) : ∀ h, gP M G S (gAa A (400 + n) 0 l) Fr T h → gLs G h (κ + 300 + 1000 * M) (κ + 600 + 1000 * M) (A (κ + 300) 0) (S.2 κ) (A κ) := by
  intro h hp
  have h9 := pr_ls (M := M) (G := G) (S := S) (A := gAa A (400 + n) 0 l) (Fr := Fr) (T := T) (κ := κ) (by omega) hL h3 h4 h hp
  rw [gAa_k (by omega)] at h9
  exact gLs_el h9 fun j _ => gAa_k (by omega)
theorem gAa4_00 {A : Nat → Nat → Nat} {n v l m : Nat} : gAa (gAa A 11 m v) (400 + n) 0 l 0 0 = A 0 0 := by
  rw [gAa_k (by omega), gAa_k (by decide)]
