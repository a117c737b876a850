/-! THE SYSTEM'S SHAPE -/
/-- up the belts -/
def gIt (r : Nat → Int32) : Nat → Int32 → Int32
  | 0, x => x
  | n + 1, x => if x = -1 then -1 else gIt r n (r x.toNatClampNeg)
def gDrv (r : Nat → Int32) : Prop := (∀ i, i < 4 → r i = -1 ∨ gIn (r i) 4) ∧ ∀ i, i < 4 → gIt r 4 (nI i) = -1
def gGo (r on : Nat → Int32) (sh : Int32) : Nat → Int32 → Bool
  | 0, _ => !(sh == 0)
  | n + 1, x => if x = -1 then !(sh == 0) else !(on x.toNatClampNeg == 0) && gGo r on sh n (r x.toNatClampNeg)
abbrev gGoes (S : gS) (x : Int32) : Prop := gGo (S.1 1 0) (S.1 2 0) (S.1 0 0 1) 4 x = true
def gBl (x : Int32) : Prop := x = 0 ∨ x = 1
theorem gBl_n {x : Int32} (h : gBl x) : narrow .boolean (.int x) = .int x := by
  rcases h with rfl | rfl <;> rfl
theorem gBl_gb {c : Prop} [Decidable c] : gBl (gb c) := by
  unfold gb
  by_cases h : c
  · rw [if_pos h]; exact Or.inr rfl
  · rw [if_neg h]; exact Or.inl rfl
theorem gBl_or {x y : Int32} (h : gBl x) (h2 : gBl y) : gBl (x ||| y) := by
  rcases h with rfl | rfl <;> rcases h2 with rfl | rfl <;> first | exact Or.inl rfl | exact Or.inr rfl
/-- the indices lie within -/
def gWf (S : gS) : Prop := ((∀ i, i < S.2 7 → gIn (S.1 7 i 0) (S.2 6) ∧ gIn (S.1 7 i 1) (S.2 6)) ∧ (∀ i, i < S.2 8 → gIn (S.1 8 i 0) (S.2 7)) ∧ (∀ i, i < S.2 10 → gIn (S.1 10 i 0) (S.2 8) ∧ gIn (S.1 10 i 1) (S.2 9)) ∧ ∀ g i, g < S.2 11 → i < S.2 (100 + g) → gIn (S.1 (100 + g) i 0) (S.2 10)) ∧ ((∀ κ, S.2 κ ≤ 64) ∧ ∀ κ, 14 ≤ κ → (κ < 100 ∨ 100 + S.2 11 ≤ κ) → S.2 κ = 0) ∧ S.2 11 ≤ 30 ∧ gDrv (S.1 1 0) ∧ gBl (S.1 0 0 1) ∧ (∀ j, j < 4 → gBl (S.1 2 0 j)) ∧ ∀ i, i < S.2 13 → gBl (S.1 13 i 4)
theorem gw_7_0 {S : gS} {i : Nat} (h : gWf S) (hi : i < S.2 7) : gIn (S.1 7 i 0) (S.2 6) := (h.1.1 i hi).1
theorem gw_7_1 {S : gS} {i : Nat} (h : gWf S) (hi : i < S.2 7) : gIn (S.1 7 i 1) (S.2 6) := (h.1.1 i hi).2
theorem gw_8_0 {S : gS} {i : Nat} (h : gWf S) (hi : i < S.2 8) : gIn (S.1 8 i 0) (S.2 7) := h.1.2.1 i hi
theorem gw_10_0 {S : gS} {i : Nat} (h : gWf S) (hi : i < S.2 10) : gIn (S.1 10 i 0) (S.2 8) := (h.1.2.2.1 i hi).1
theorem gw_10_1 {S : gS} {i : Nat} (h : gWf S) (hi : i < S.2 10) : gIn (S.1 10 i 1) (S.2 9) := (h.1.2.2.1 i hi).2
theorem gw_p_0 {S : gS} {g i : Nat} (h : gWf S) (hg : g < S.2 11) (hi : i < S.2 (100 + g)) : gIn (S.1 (100 + g) i 0) (S.2 10) := h.1.2.2.2 g i hg hi
theorem gw_n {S : gS} (h : gWf S) (κ : Nat) : S.2 κ ≤ 150 := Nat.le_trans (h.2.1.1 κ) (by decide)
theorem gw_64 {S : gS} (h : gWf S) (κ : Nat) : S.2 κ ≤ 64 := h.2.1.1 κ
theorem gw_z {S : gS} (h : gWf S) {κ : Nat} (h1 : 14 ≤ κ) (h2 : κ < 100 ∨ 100 + S.2 11 ≤ κ) : S.2 κ = 0 := h.2.1.2 κ h1 h2
theorem gw_11 {S : gS} (h : gWf S) : S.2 11 ≤ 30 := h.2.2.1
theorem gw_d {S : gS} (h : gWf S) : gDrv (S.1 1 0) := h.2.2.2.1
/-- the state, its addresses left open -/
def gPE (M : Nat) (G : gG) (S : gS) (a0 : Nat) (Fr : gH → Prop) : gH → Prop := fun h => ∃ A : Nat → Nat → Nat, A 0 0 = a0 ∧ gP M G S A Fr [] h
abbrev gO : Type := String ⊕ (Value × gS)
def gqS (o : gO) (M : Nat) (G : gG) (a0 : Nat) (Fr : gH → Prop) : Option Value → gH → Prop := fun v h => ∃ (w : Value) (S2 : gS), o = .inr (w, S2) ∧ v = some w ∧ gPE M G S2 a0 Fr h
def gxS (o : gO) (M : Nat) (G : gG) (S : gS) (a0 : Nat) (Fr : gH → Prop) : String → gH → Prop := fun E h => o = .inl E ∧ gPE M G S a0 Fr h
def gqM (o : Value × gS) (G : gG) (a0 : Nat) (Fr : gH → Prop) : Option Value → gH → Prop := fun v h => v = some o.1 ∧ gPE 1 G o.2 a0 Fr h
theorem gPE_0 {M : Nat} {G : gG} {S : gS} {A : Nat → Nat → Nat} {Fr : gH → Prop} {T : List (Nat × va_E)} : ∀ h, gP M G S A Fr T h → gPE M G S (A 0 0) Fr h := fun _ hp => ⟨A, rfl, gP_T0 hp⟩
theorem gP_jk {M : Nat} {G : gG} {S : gS} {A : Nat → Nat → Nat} {Fr : gH → Prop} {T : List (Nat × va_E)} (hF : gFr M Fr) : ∀ h, gJk (gP M G S A Fr T) h → gP M G S A Fr T h := fun h hp => by
  obtain ⟨h0, ⟨p1, p2, p3⟩, q⟩ := hp
  exact ⟨gRep_keep p1 fun b τ e hb _ => q b τ e hb, hF h0 h p2 fun b τ e hb _ => q b τ e hb, fun j a e hj => q _ _ _ (p3 j a e hj)⟩
theorem glot3 {G : gG} {A : Nat → Nat → Nat} {i : Nat} {r : Nat → Int32} (h : r 0 = 103) : gcell 0 G A 6 i r = some (.inr (3, [.int (nI i), .int (r 1), .int (r 2), .int (r 3)])) := by
  show some (Sum.inr (if r 0 = 103 then 3 else 4, _)) = _
  rw [if_pos h]
theorem glot4 {G : gG} {A : Nat → Nat → Nat} {i : Nat} {r : Nat → Int32} (h : ¬ r 0 = 103) : gcell 0 G A 6 i r = some (.inr (4, [.int (nI i), .int (r 1), .int (r 2), .int (r 3)])) := by
  show some (Sum.inr (if r 0 = 103 then 3 else 4, _)) = _
  rw [if_neg h]
theorem gvp {d K : Int32} {N : Nat} (hK : K.toInt < N) (h : ¬ d < 0 ∧ ¬ K < d) : vp_in d N := by
  have h0 : ¬ d.toInt < 0 := fun q => h.1 (Int32.lt_iff_toInt_lt.mpr (by simpa using q))
  have h1 : ¬ K.toInt < d.toInt := fun q => h.2 (Int32.lt_iff_toInt_lt.mpr q)
  refine fun q => q.elim h.1 fun q => ?_
  unfold Int32.toNatClampNeg at q
  omega
theorem gidx_lt {i : Nat} (hi : i < 7) {ch : Int32} (h : ¬ gidx i ch < 0) : ∃ j, j < gLen.getD i 0 ∧ gidx i ch = nI j := by
  have hz : ∀ (bs : List Int32) (m : Nat), gix bs ch m = -1 ∨ ∃ j, j < bs.length ∧ gix bs ch m = nI (m + j) := by
    intro bs
    induction bs with
    | nil => exact fun m => Or.inl rfl
    | cons b bs ih =>
      intro m
      unfold gix
      by_cases q : b = ch
      · rw [if_pos q]; exact Or.inr ⟨0, Nat.zero_lt_succ _, rfl⟩
      · rw [if_neg q]
        rcases ih (m + 1) with h1 | ⟨j, h1, h2⟩
        · exact Or.inl h1
        · exact Or.inr ⟨j + 1, Nat.succ_lt_succ h1, by rw [h2]; congr 1; omega⟩
  rcases hz (gByt.getD i []) 0 with h1 | ⟨j, h1, h2⟩
  · exact absurd (show gidx i ch < 0 by unfold gidx; rw [h1]; decide) h
  · exact ⟨j, by rw [gLen_by i hi]; exact h1, by unfold gidx; rw [h2, Nat.zero_add]⟩
theorem gidx_vp {i : Nat} (hi : i < 7) {ch : Int32} (h : ¬ gidx i ch < 0) : vp_in (gidx i ch) (gLen.getD i 0) := by
  obtain ⟨j, h1, h2⟩ := gidx_lt hi h
  rw [h2]
  exact vp_in_nI h1 (Nat.lt_of_le_of_lt (gLen_le i hi) (by decide))
theorem gnz1 {x : Int32} (h : ¬ x < 1) : ¬ x = 0 := fun q => h (by rw [q]; decide)
theorem gGo_m {r on : Nat → Int32} {sh : Int32} {n : Nat} {x : Int32} (h : x = -1) : gGo r on sh n x = !(sh == 0) := by
  subst h
  cases n <;> rfl
theorem gGo_mt {r on : Nat → Int32} {sh : Int32} {n : Nat} {x : Int32} (h : x = -1) (h2 : ¬ sh = 0) : gGo r on sh n x = true := by rw [gGo_m h]; simp [h2]
theorem gGo_mf {r on : Nat → Int32} {sh : Int32} {n : Nat} {x : Int32} (h : x = -1) (h2 : sh = 0) : ¬ gGo r on sh n x = true := by rw [gGo_m h]; simp [h2]
theorem gGo_s {r on : Nat → Int32} {sh : Int32} {n : Nat} {x : Int32} (h : ¬ x = -1) : gGo r on sh (n + 1) x = (!(on x.toNatClampNeg == 0) && gGo r on sh n (r x.toNatClampNeg)) := if_neg h
theorem gGo_st {r on : Nat → Int32} {sh : Int32} {n : Nat} {x : Int32} (h : ¬ x = -1) (h1 : gGo r on sh n (r x.toNatClampNeg) = true) (h2 : ¬ on x.toNatClampNeg = 0) : gGo r on sh (n + 1) x = true := by rw [gGo_s h]; simp [h1, h2]
theorem gGo_s1 {r on : Nat → Int32} {sh : Int32} {n : Nat} {x : Int32} (h : ¬ x = -1) (h1 : ¬ gGo r on sh n (r x.toNatClampNeg) = true) : ¬ gGo r on sh (n + 1) x = true := by rw [gGo_s h]; simp [h1]
theorem gGo_s2 {r on : Nat → Int32} {sh : Int32} {n : Nat} {x : Int32} (h : ¬ x = -1) (h1 : on x.toNatClampNeg = 0) : ¬ gGo r on sh (n + 1) x = true := by rw [gGo_s h]; simp [h1]
theorem gIt_s {r : Nat → Int32} {n : Nat} {x : Int32} (h : ¬ x = -1) (he : gIt r (n + 1) x = -1) : gIt r n (r x.toNatClampNeg) = -1 := by
  have : gIt r (n + 1) x = gIt r n (r x.toNatClampNeg) := if_neg h
  rw [← this]; exact he
theorem gDrv_n {r : Nat → Int32} (h : gDrv r) {x : Int32} (hx : gIn x 4) : r x.toNatClampNeg = -1 ∨ gIn (r x.toNatClampNeg) 4 := h.1 _ hx.2
theorem gDrv_e {r : Nat → Int32} (h : gDrv r) {x : Int32} (hx : gIn x 4) : gIt r 4 x = -1 := by
  rw [gIn_eq hx]
  exact h.2 _ hx.2
theorem gm_ch : ∀ j, j < 4 → ¬ (gByt.getD 0 []).getD j 0 < 0 ∧ ¬ 127 < (gByt.getD 0 []).getD j 0 := by decide +kernel
theorem gor_of {x : Int32} (h : x = -1 ∨ gIn x 4) (n : ¬ x = -1) : gIn x 4 := h.resolve_left n
theorem gidx_in {i : Nat} (hi : i < 7) {ch : Int32} (h : ¬ gidx i ch < 0) : gIn (gidx i ch) (gLen.getD i 0) := by
  obtain ⟨j, h1, h2⟩ := gidx_lt hi h
  have h3 := gLen_le i hi
  rw [h2]
  exact ⟨nI_pos (by omega), by rw [nI_clamp (by omega)]; exact h1⟩
theorem gUp_mono {P P2 : gH → Prop} {a : Nat} {c0 c1 : va_E} (h : ∀ h, P h → P2 h) : ∀ h, gUp P a c0 c1 h → gUp P2 a c0 c1 h := fun _ hp => by
  obtain ⟨h0, τ, q1, q2, q3⟩ := hp
  exact ⟨h0, τ, h h0 q1, q2, q3⟩
theorem gPT {M : Nat} {G : gG} {S : gS} {A : Nat → Nat → Nat} {Fr : gH → Prop} {T : List (Nat × va_E)} {h : gH} (hp : gP M G S A Fr T h) : gP M G S A Fr [] h := gP_T0 hp
theorem gpass {own ex : String} {hh : gHh} {pc : Nat} (h : ∀ z ∈ tableOf hh, covers z pc = false) : ∀ z ∈ tableOf hh, covers z pc = false ∨ (z.catchType ≠ 0 ∧ ∃ nm : String, Cond.classLink own z.catchType nm ∈ lw_all ∧ (ex, nm) ∈ gNo) := fun z hz => Or.inl (h z hz)
theorem gM0 : (0 : Nat) ≤ 1 := by decide
theorem gM1 : (1 : Nat) ≤ 1 := by decide
section GW21
variable {Y : gY} {cc : ByteArray} {own : String} {rm : Room} {hh : gHh} {ret : Option FieldType} {P P2 : gH → Prop} {lv : List (Nat × Value)} {pc k n : Nat} {st : List Value}
theorem g_retag (hp : ∀ h, P h → ∃ h2, P2 h2 ∧ ∀ a τ e, h2 a = some (τ, e) → ∃ τ2, h a = some (τ2, e)) (kk : gW Y P2 lv pc st k n) : gW Y P lv pc st k n := by
  intro H locs ls h hP hR hL hl
  obtain ⟨h2, q1, q2⟩ := hp h hP
  refine kk H locs ls h2 q1 ⟨fun a τ e ha => ?_, hR.2⟩ hL hl
  obtain ⟨τ2, q3⟩ := q2 a τ e ha
  exact hR.1 a τ2 e q3
theorem g_pe {M : Nat} {G : gG} {S : gS} {a0 : Nat} {Fr : gH → Prop} (kk : ∀ A : Nat → Nat → Nat, A 0 0 = a0 → gW Y (gP M G S A Fr []) lv pc st k n) : gW Y (gPE M G S a0 Fr) lv pc st k n := fun H locs ls h hP hR hL hl => by
  obtain ⟨A, hA, hP⟩ := hP
  exact kk A hA H locs ls h hP hR hL hl
/-- lots: one of two classes -/
theorem g_lot {c : Prop} [Decidable c] {a : Nat} {fs : List Value} (ha : gAt P a (.inr (if c then 3 else 4, fs))) (k1 : gAt P a (.inr (3, fs)) → c → gW Y P lv pc st k n) (k2 : gAt P a (.inr (4, fs)) → ¬ c → gW Y P lv pc st k n) : gW Y P lv pc st k n := by
  by_cases h : c
  · rw [if_pos h] at ha; exact k1 ha h
  · rw [if_neg h] at ha; exact k2 ha h
end GW21

theorem gw_b {S : gS} (h : gWf S) : gBl (S.1 0 0 1) := h.2.2.2.2.1
theorem gw_on {S : gS} (h : gWf S) {j : Nat} (hj : j < 4) : gBl (S.1 2 0 j) := h.2.2.2.2.2.1 j hj
theorem gw_late {S : gS} (h : gWf S) {i : Nat} (hi : i < S.2 13) : gBl (S.1 13 i 4) := h.2.2.2.2.2.2 i hi
/-! A NEW ROW -/
def gAa (A : Nat → Nat → Nat) (κ n v : Nat) : Nat → Nat → Nat := fun a b => if a = κ ∧ b = n then v else A a b
theorem gAa_s {A : Nat → Nat → Nat} {κ n v : Nat} : gAa A κ n v κ n = v := if_pos ⟨rfl, rfl⟩
theorem gAa_n {A : Nat → Nat → Nat} {κ n v a b : Nat} (h : ¬ (a = κ ∧ b = n)) : gAa A κ n v a b = A a b := if_neg h
theorem gAa_k {A : Nat → Nat → Nat} {κ n v a b : Nat} (h : a ≠ κ) : gAa A κ n v a b = A a b := if_neg fun q => h q.1
theorem gAa_b {A : Nat → Nat → Nat} {S : gS} {κ v a b : Nat} (h : b < S.2 a) : gAa A κ (S.2 κ) v a b = A a b := if_neg fun q => by
  obtain ⟨rfl, rfl⟩ := q
  exact Nat.lt_irrefl _ h
theorem gcell_A {M : Nat} {G : gG} {S : gS} {A : Nat → Nat → Nat} {κ v : Nat} (hM : M ≤ 1) (h6 : 6 ≤ κ) (hk : κ < 300) (hW : gWf S) {κ2 i : Nat} (hi : i < gcnt S κ2) : gcell M G (gAa A κ (S.2 κ) v) κ2 i (S.1 κ2 i) = gcell M G A κ2 i (S.1 κ2 i) := by
  have hA : ∀ a b, a ≠ κ → gAa A κ (S.2 κ) v a b = A a b := fun a b h => gAa_k h
  have hS : ∀ a, a < 6 ∨ 300 ≤ a → a ≠ κ := by intro a h; omega
  have hB : ∀ a b, b < S.2 a → gAa A κ (S.2 κ) v a b = A a b := fun a b h => gAa_b h
  have hi6 : 6 ≤ κ2 → i < S.2 κ2 := fun h => by
    have := hi
    unfold gcnt at this
    rwa [if_neg (by omega)] at this
  have hM2 : M = 0 ∨ M = 1 := by omega
  rcases hM2 with rfl | rfl
  · show gcellC G _ κ2 i _ = gcellC G A κ2 i _
    match κ2, hi6 with
    | 0, _ =>
      unfold gcellC
      simp only [hA 1 0 (hS 1 (by decide)), hA 2 0 (hS 2 (by decide)), hA 3 0 (hS 3 (by decide)), hA 4 0 (hS 4 (by decide)), hA 5 0 (hS 5 (by decide)), hA 306 0 (hS 306 (by decide)), hA 307 0 (hS 307 (by decide)), hA 308 0 (hS 308 (by decide)), hA 309 0 (hS 309 (by decide)), hA 310 0 (hS 310 (by decide)), hA 311 0 (hS 311 (by decide)), hA 313 0 (hS 313 (by decide))]
    | 1, _ => rfl
    | 2, _ => rfl
    | 3, _ => rfl
    | 4, _ => rfl
    | 5, _ =>
      unfold gcellC
      simp only [hA 0 0 (hS 0 (by decide))]
    | 6, _ => rfl
    | 7, hi6 =>
      have h7 := hi6 (by decide)
      unfold gcellC
      simp only [hB 6 _ (gw_7_0 hW h7).2, hB 6 _ (gw_7_1 hW h7).2]
    | 8, hi6 =>
      have h7 := hi6 (by decide)
      unfold gcellC
      simp only [hB 7 _ (gw_8_0 hW h7).2]
    | 9, _ => rfl
    | 10, hi6 =>
      have h7 := hi6 (by decide)
      unfold gcellC
      simp only [hB 8 _ (gw_10_0 hW h7).2, hB 9 _ (gw_10_1 hW h7).2]
    | 11, _ =>
      unfold gcellC
      simp only [hA (400 + i) 0 (hS _ (by omega))]
    | 12, _ => rfl
    | 13, _ => rfl
    | k2 + 14, hi6 =>
      have h7 := hi6 (by omega)
      have h8 : ¬ (k2 + 14 < 100 ∨ 100 + S.2 11 ≤ k2 + 14) := fun q => by
        have := gw_z hW (κ := k2 + 14) (by omega) q
        omega
      obtain ⟨g, hg⟩ : ∃ g, k2 + 14 = 100 + g := ⟨k2 + 14 - 100, by omega⟩
      have h9 : gIn (S.1 (k2 + 14) i 0) (S.2 10) := by
        rw [hg]
        exact gw_p_0 hW (by omega) (by rw [← hg]; exact h7)
      unfold gcellC
      simp only [hB 10 _ h9.2]
  · show gcellM G _ κ2 i _ = gcellM G A κ2 i _
    match κ2, hi6 with
    | 0, _ =>
      unfold gcellM
      simp only [hA 1 0 (hS 1 (by decide)), hA 2 0 (hS 2 (by decide)), hA 3 0 (hS 3 (by decide)), hA 4 0 (hS 4 (by decide)), hA 306 0 (hS 306 (by decide)), hA 307 0 (hS 307 (by decide)), hA 308 0 (hS 308 (by decide)), hA 309 0 (hS 309 (by decide)), hA 310 0 (hS 310 (by decide)), hA 311 0 (hS 311 (by decide)), hA 312 0 (hS 312 (by decide))]
    | 1, _ => rfl
    | 2, _ => rfl
    | 3, _ => rfl
    | 4, _ => rfl
    | 5, _ => rfl
    | 6, _ => rfl
    | 7, _ => rfl
    | 8, _ => rfl
    | 9, _ => rfl
    | 10, _ => rfl
    | 11, _ =>
      unfold gcellM
      simp only [hA (400 + i) 0 (hS _ (by omega))]
    | 12, _ => rfl
    | 13, _ => rfl
    | k2 + 14, _ => rfl
theorem gLs_el {G : gG} {h : gH} {t1 t2 a len : Nat} {el el2 : Nat → Nat} (H : gLs G h t1 t2 a len el) (he : ∀ j, j < len → el j = el2 j) : gLs G h t1 t2 a len el2 := by
  obtain ⟨mc, ed, cap, f, h1, h2, h3⟩ := H
  exact ⟨mc, ed, cap, f, h1, h2, fun j hj => by rw [h3 j hj, he j hj]⟩
theorem pr_add {M : Nat} {G : gG} {S : gS} {A : Nat → Nat → Nat} {Fr : gH → Prop} {T0 : List (Nat × va_E)} {κ v : Nat} {e : va_E} (hM : M ≤ 1) (hF : gFr M Fr) (hW : gWf S) (h6 : 6 ≤ κ) (hk : κ < 300) (h11 : κ ≠ 11) (r : Nat → Int32) (he : gcell M G (gAa A κ (S.2 κ) v) κ (S.2 κ) r = some e) : ∀ h, gAdd (gP M G S A Fr (T0 ++ [(v, e)])) G (κ + 300 + 1000 * M) (κ + 600 + 1000 * M) (A (κ + 300) 0) (S.2 κ) (A κ) v h → ∃ h2, gP M G (gsr S.1 κ (S.2 κ) r, va_up S.2 κ (S.2 κ + 1)) (gAa A κ (S.2 κ) v) Fr T0 h2 ∧ ∀ a τ e, h2 a = some (τ, e) → ∃ τ2, h a = some (τ2, e) := by
  intro h hp
  obtain ⟨h0, ⟨pR, pF, pT⟩, keep, gl⟩ := hp
  have hv0 : h0 v = some ((5000 + T0.length, 0), e) := pT T0.length v e (by rw [List.getElem?_append_right (Nat.le_refl _), Nat.sub_self]; rfl)
  have hv : h v = some ((5000 + T0.length, 0), e) := keep _ _ _ hv0 (fun q => by
    have q1 : 5000 + T0.length = κ + 300 + 1000 * M := congrArg Prod.fst q
    omega) (fun q => by
    have q1 : 5000 + T0.length = κ + 600 + 1000 * M := congrArg Prod.fst q
    omega)
  have hne0 : ∀ b τ e2, h0 b = some (τ, e2) → τ.1 < 5000 → b ≠ v := fun b τ e2 hb hτ q => by
    subst q
    rw [hv0] at hb
    cases hb
    exact absurd hτ (by show ¬ 5000 + T0.length < 5000; omega)
  have hne : ∀ b τ e2, h b = some (τ, e2) → τ.1 < 5000 → b ≠ v := fun b τ e2 hb hτ q => by
    subst q
    rw [hv] at hb
    cases hb
    exact absurd hτ (by show ¬ 5000 + T0.length < 5000; omega)
  have hk2 : ∀ b τ e2, h0 b = some (τ, e2) → τ.1 < 5000 → τ ≠ (κ + 300 + 1000 * M, 0) → τ ≠ (κ + 600 + 1000 * M, 0) → gset h v (κ + 1000 * M, S.2 κ) e b = some (τ, e2) := fun b τ e2 hb hτ n1 n2 => by
    rw [gset_n (hne0 b τ e2 hb hτ)]
    exact keep b τ e2 hb n1 n2
  refine ⟨gset h v (κ + 1000 * M, S.2 κ) e, ⟨⟨fun κ' i e' hk' hi' he' => ?_, fun κ' hk' hL h3 h4 => ?_⟩, hF h0 _ pF fun b τ e2 hb no => ?_, fun j b e2 hj => ?_⟩, fun b τ e2 hb => ?_⟩
  · by_cases hz : κ' = κ ∧ i = S.2 κ
    · obtain ⟨rfl, rfl⟩ := hz
      rw [gAa_s, gset_s]
      dsimp only at he'
      rw [gsr_s, he] at he'
      cases he'
      rfl
    · dsimp only at he'
      rw [gsr_n hz] at he'
      have hi2 : i < gcnt S κ' := by
        unfold gcnt at hi' ⊢
        by_cases q : κ' < 6
        · rw [if_pos q] at hi' ⊢; exact hi'
        · rw [if_neg q] at hi' ⊢
          have hi3 : i < va_up S.2 κ (S.2 κ + 1) κ' := hi'
          unfold va_up at hi3
          by_cases q2 : κ' = κ
          · rw [if_pos q2] at hi3
            subst q2
            have : i ≠ S.2 κ' := fun q3 => hz ⟨rfl, q3⟩
            omega
          · rw [if_neg q2] at hi3; exact hi3
      rw [gcell_A hM h6 hk hW hi2] at he'
      have h9 := pR.1 κ' i e' hk' hi2 he'
      rw [gAa_n hz]
      refine hk2 _ _ _ h9 (by show κ' + 1000 * M < 5000; omega) (fun q => ?_) (fun q => ?_)
      · have q1 : κ' + 1000 * M = κ + 300 + 1000 * M := congrArg Prod.fst q
        omega
      · have q1 : κ' + 1000 * M = κ + 600 + 1000 * M := congrArg Prod.fst q
        omega
  · have hL2 : gIsL S κ' := by
      rcases hL with q | q
      · exact Or.inl q
      · refine Or.inr ⟨q.1, ?_⟩
        have q2 : κ' < 100 + va_up S.2 κ (S.2 κ + 1) 11 := q.2
        unfold va_up at q2
        rw [if_neg (Ne.symm h11)] at q2
        exact q2
    rw [gAa_k (show κ' + 300 ≠ κ by omega)]
    by_cases q : κ' = κ
    · subst q
      have hl : va_up S.2 κ' (S.2 κ' + 1) κ' = S.2 κ' + 1 := if_pos rfl
      show gLs G _ _ _ _ (va_up S.2 κ' (S.2 κ' + 1) κ') _
      rw [hl]
      refine gLs_el (gLs_keep gl fun b τ e2 hb ht => ?_) fun j hj => ?_
      · rw [gset_n]
        · exact hb
        · refine hne b τ e2 hb ?_
          rcases ht with rfl | rfl
          · show κ' + 300 + 1000 * M < 5000; omega
          · show κ' + 600 + 1000 * M < 5000; omega
      · unfold va_up gAa
        by_cases q : j = S.2 κ'
        · rw [if_pos q, if_pos ⟨rfl, q⟩]
        · rw [if_neg q, if_neg (fun z => q z.2)]
    · have hl : va_up S.2 κ (S.2 κ + 1) κ' = S.2 κ' := if_neg q
      show gLs G _ _ _ _ (va_up S.2 κ (S.2 κ + 1) κ') _
      rw [hl]
      refine gLs_el (gLs_keep (pR.2 κ' hk' hL2 h3 h4) fun b τ e2 hb ht => ?_) fun j hj => (gAa_k q).symm
      refine hk2 b τ e2 hb ?_ ?_ ?_
      · rcases ht with rfl | rfl
        · show κ' + 300 + 1000 * M < 5000; omega
        · show κ' + 600 + 1000 * M < 5000; omega
      · intro z
        rcases ht with rfl | rfl
        · have q1 : κ' + 300 + 1000 * M = κ + 300 + 1000 * M := congrArg Prod.fst z
          omega
        · have q1 : κ' + 600 + 1000 * M = κ + 300 + 1000 * M := congrArg Prod.fst z
          omega
      · intro z
        rcases ht with rfl | rfl
        · have q1 : κ' + 300 + 1000 * M = κ + 600 + 1000 * M := congrArg Prod.fst z
          omega
        · have q1 : κ' + 600 + 1000 * M = κ + 600 + 1000 * M := congrArg Prod.fst z
          omega
  · have hτ : τ.1 < 5000 := Nat.lt_of_not_le fun q => no (Or.inr q)
    refine hk2 b τ e2 hb hτ (fun q => no (Or.inl ?_)) (fun q => no (Or.inl ?_))
    · rw [q]; exact ⟨by show 1000 * M ≤ κ + 300 + 1000 * M; omega, by show κ + 300 + 1000 * M < _; omega⟩
    · rw [q]; exact ⟨by show 1000 * M ≤ κ + 600 + 1000 * M; omega, by show κ + 600 + 1000 * M < _; omega⟩
  · have hj2 : j < T0.length := (List.getElem?_eq_some_iff.mp hj).1
    have h9 := pT j b e2 (by rw [List.getElem?_append_left hj2]; exact hj)
    have hb2 : b ≠ v := fun q => by
      subst q
      rw [hv0] at h9
      have q1 : 5000 + T0.length = 5000 + j := congrArg (fun z => z.1.1) (Option.some.inj h9)
      omega
    rw [gset_n hb2]
    refine keep _ _ _ h9 (fun q => ?_) (fun q => ?_)
    · have q1 : 5000 + j = κ + 300 + 1000 * M := congrArg Prod.fst q
      omega
    · have q1 : 5000 + j = κ + 600 + 1000 * M := congrArg Prod.fst q
      omega
  · by_cases q : b = v
    · subst q
      rw [gset_s] at hb
      cases hb
      exact ⟨_, hv⟩
    · rw [gset_n q] at hb
      exact ⟨τ, hb⟩
/-- what lies in the lists may lie there -/
theorem gcell_ok {M : Nat} {G : gG} {A : Nat → Nat → Nat} {κ i : Nat} {r : Nat → Int32} {e : va_E} (h6 : 6 ≤ κ) (he : gcell M G A κ i r = some e) : gOk G e := by
  by_cases hM : M = 0
  · subst hM
    have he2 : gcellC G A κ i r = some e := he
    match κ, h6 with
    | 6, _ =>
      unfold gcellC at he2
      cases he2
      by_cases q : r 0 = 103
      · rw [if_pos q]; exact Or.inl ⟨3, _, rfl, by decide, by decide⟩
      · rw [if_neg q]; exact Or.inl ⟨4, _, rfl, by decide, by decide⟩
    | 7, _ => cases he2; exact Or.inl ⟨_, _, rfl, by decide, by decide⟩
    | 8, _ => cases he2; exact Or.inl ⟨_, _, rfl, by decide, by decide⟩
    | 9, _ => cases he2; exact Or.inl ⟨_, _, rfl, by decide, by decide⟩
    | 10, _ => cases he2; exact Or.inl ⟨_, _, rfl, by decide, by decide⟩
    | 11, _ => cases he2; exact Or.inl ⟨_, _, rfl, by decide, by decide⟩
    | 12, _ => cases he2
    | 13, _ => cases he2; exact Or.inl ⟨_, _, rfl, by decide, by decide⟩
    | k + 14, _ => cases he2; exact Or.inl ⟨_, _, rfl, by decide, by decide⟩
  · obtain ⟨m, rfl⟩ := Nat.exists_eq_succ_of_ne_zero hM
    have he2 : gcellM G A κ i r = some e := he
    match κ, h6 with
    | 6, _ => cases he2; exact Or.inr ⟨_, _, rfl⟩
    | 7, _ => cases he2; exact Or.inr ⟨_, _, rfl⟩
    | 8, _ => cases he2; exact Or.inl ⟨_, _, rfl, by decide, by decide⟩
    | 9, _ => cases he2; exact Or.inl ⟨_, _, rfl, by decide, by decide⟩
    | 10, _ => cases he2; exact Or.inl ⟨_, _, rfl, by decide, by decide⟩
    | 11, _ => cases he2; exact Or.inl ⟨_, _, rfl, by decide, by decide⟩
    | 12, _ => cases he2; exact Or.inr ⟨_, _, rfl⟩
    | 13, _ => cases he2
    | k + 14, _ => cases he2; exact Or.inr ⟨_, _, rfl⟩
theorem gcell_so {M : Nat} {G : gG} {A : Nat → Nat → Nat} {κ i : Nat} {r : Nat → Int32} (h12 : M = 0 → κ ≠ 12) (h13 : M ≠ 0 → κ ≠ 13 ∧ κ ≠ 5) : ∃ e, gcell M G A κ i r = some e := by
  by_cases hM : M = 0
  · subst hM
    have := h12 rfl
    show ∃ e, gcellC G A κ i r = some e
    unfold gcellC
    split <;> first | exact ⟨_, rfl⟩ | exact absurd rfl this
  · obtain ⟨m, rfl⟩ := Nat.exists_eq_succ_of_ne_zero hM
    have := h13 hM
    show ∃ e, gcellM G A κ i r = some e
    unfold gcellM
    split <;> first | exact ⟨_, rfl⟩ | exact absurd rfl this.1 | exact absurd rfl this.2
theorem pr_el {M : Nat} {G : gG} {S : gS} {A : Nat → Nat → Nat} {Fr : gH → Prop} {T : List (Nat × va_E)} {κ : Nat} (h6 : 6 ≤ κ) (hk : κ < 300) (h12 : M = 0 → κ ≠ 12) (h13 : M ≠ 0 → κ ≠ 13) : ∀ i, i < S.2 κ → gEl G (gP M G S A Fr T) (A κ i) := fun i hi h hp => by
  obtain ⟨e, he⟩ := gcell_so (M := M) (G := G) (A := A) (κ := κ) (i := i) (r := S.1 κ i) h12 (fun q => ⟨h13 q, by omega⟩)
  exact ⟨_, e, hp.1.1 κ i e hk (gc6 (by omega) hi) he, gcell_ok h6 he⟩
theorem pr_elT {M : Nat} {G : gG} {S : gS} {A : Nat → Nat → Nat} {Fr : gH → Prop} {T : List (Nat × va_E)} {j v : Nat} {e : va_E} (hj : T[j]? = some (v, e)) (ho : gOk G e) : gEl G (gP M G S A Fr T) v := fun h hp => ⟨_, e, hp.2.2 j v e hj, ho⟩
theorem kX1_requireDie {l : Launch} {G : gG} (hl : l.stackTraces = false) {P : gH → Prop} {d : Int32} : gMet l yX1_requireDie (ws_ yX1_requireDie cX1_requireDie 1 (some .int)) ⟨7, 2, 7, 101⟩ G [.int d] P (gqY (¬ d < 0 ∧ ¬ 3 < d) (.int d) (gJk P)) (gx1 "java/lang/IllegalArgumentException" (¬ (¬ d < 0 ∧ ¬ 3 < d)) (gJk P)) := by
  refine gMet_of hl pnX1 (gle rfl) (fun X Q hX F E hNm => ?_)
  subst hX
  change gW (X, G, 1, Q) P [(0, .int d)] 0 [] 0 0
  refine g_mono (P2 := gJk P) gJk_0 ?_
  refine g_iconst F (v := (0 : Int32)) (by decide) dX1_requireDie_0 ?_
  refine g_iconst F (v := (3 : Int32)) (by decide) dX1_requireDie_1 ?_
  refine g_iconst F (v := (1 : Int32)) (by decide) dX1_requireDie_2 ?_
  refine g_newI F (5000, 0) (N := 1) rfl (by decide) 1 1 (gle rfl) (gle rfl) (gle rfl) (gle rfl) (Pa := fun a_1 => (gNw (gJk P) (5000, 0) a_1 (gIA G 1 (fun _ => 0)))) gNw_new dX1_requireDie_3 (fun a_1 => ?_)
  refine g_dup F rfl dX1_requireDie_5 ?_
  refine g_iconst F (v := (0 : Int32)) (by decide) dX1_requireDie_6 ?_
  refine g_iload_n F 0 rfl rfl dX1_requireDie_7 ?_
  refine g_iastN (P2 := (gNw (gJk P) (5000, 0) a_1 (gIA G 1 (upd (fun _ => 0) 0 d)))) F (m := 0) rfl (by decide) (by decide) gNw_set dX1_requireDie_8 ?_
  refine g_callS F (kX1_isIn hl gNw_at) (lw_S q305 q306 q18 q307) myX1_isIn ⟨by decide, by decide⟩ rfl rfl (gle rfl) 1 1 (gle rfl) (gle rfl) (gle rfl) (gle rfl) dX1_requireDie_9 gx_n (gv_i ?_)
  refine g_top (show _ = gb (¬ d < (0 : Int32) ∧ ¬ (3 : Int32) < d) from rfl) ?_
  refine g_mono gJk_nw ?_
  refine g_callS F (kX1_requireArgument hl (c := ¬ d < (0 : Int32) ∧ ¬ (3 : Int32) < d)) (lw_S q335 q336 q18 q337) myX1_requireArgument ⟨by decide, by decide⟩ rfl rfl (gle rfl) 2 7 (gle rfl) (gle rfl) (gle rfl) (gle rfl) dX1_requireDie_12 (gx_1 (fun c_2 => g_out0 F E (gle rfl) (gle rfl) (fun _ hp => ⟨rfl, c_2, hp⟩))) (gv_c (fun c_2 => ?_))
  refine g_iload_n F 0 rfl rfl dX1_requireDie_15 ?_
  exact g_retI F E rfl rfl (gle rfl) (gle rfl) dX1_requireDie_16 (fun _ hp => ⟨rfl, c_2, hp⟩)

theorem kX9_isReady {l : Launch} {G : gG} (hl : l.stackTraces = false) {P : gH → Prop} {a : Nat} {w0 w1 w2 w3 w4 w6 w7 w8 w9 w10 w11 : Value} {ready : Int32} {now : Int32} (ha : gAt P a (.inr (6, [w0, w1, w2, w3, w4, .int ready, w6, w7, w8, w9, w10, w11]))) : gMet l yX9_isReady (ws_ yX9_isReady cX9_isReady 2 (some .boolean)) ⟨0, 0, 0, 0⟩ G [.ref a, .int now] P (gqI (.int (gb (¬ (now < ready)))) P) gxN := by
  refine gMet_of hl pnX9 (gle rfl) (fun X Q hX F E hNm => ?_)
  subst hX
  change gW (X, G, 2, Q) P [(0, .ref a), (1, .int now)] 0 [] 0 0
  refine g_iload_n F 1 rfl rfl dX9_isReady_0 ?_
  refine g_aload_n F 0 rfl rfl dX9_isReady_1 ?_
  refine g_get F clX9 5 (by decide) q893 (v := .int ready) (gd_get ha rfl) dX9_isReady_2 ?_
  have J_2 : gW (X, G, 2, Q) P [(0, .ref a), (1, .int now)] 13 [.int (gb (¬ (now < ready)))] 0 0 := by
    exact g_retI F E rfl gb_z (gle rfl) (gle rfl) dX9_isReady_13 (fun _ hp => ⟨rfl, hp⟩)
  refine g_icmp_lt F (tgt := 12) (by decide) dX9_isReady_5 (fun c_1 => ?_) (fun c_1 => ?_)
  · skip
    refine g_iconst F (v := (0 : Int32)) (by decide) dX9_isReady_12 ?_
    exact g_top (gb_f (fun q => q c_1)) J_2
  · skip
    refine g_iconst F (v := (1 : Int32)) (by decide) dX9_isReady_8 ?_
    refine g_goto F (tgt := 13) (by decide) dX9_isReady_9 ?_
    exact g_top (gb_t c_1) J_2

theorem kX9_isFired {l : Launch} {G : gG} (hl : l.stackTraces = false) {P : gH → Prop} {a : Nat} {w0 w1 w2 w3 w4 w5 w6 w7 w9 w10 w11 : Value} {firing : Int32}  (ha : gAt P a (.inr (6, [w0, w1, w2, w3, w4, w5, w6, w7, .int firing, w9, w10, w11]))) : gMet l yX9_isFired (ws_ yX9_isFired cX9_isFired 1 (some .boolean)) ⟨0, 0, 0, 0⟩ G [.ref a] P (gqI (.int (gb (¬ (firing = (-1 : Int32))))) P) gxN := by
  refine gMet_of hl pnX9 (gle rfl) (fun X Q hX F E hNm => ?_)
  subst hX
  change gW (X, G, 1, Q) P [(0, .ref a)] 0 [] 0 0
  refine g_aload_n F 0 rfl rfl dX9_isFired_0 ?_
  refine g_get F clX9 8 (by decide) q897 (v := .int firing) (gd_get ha rfl) dX9_isFired_1 ?_
  refine g_iconst F (v := (-1 : Int32)) (by decide) dX9_isFired_4 ?_
  have J_2 : gW (X, G, 1, Q) P [(0, .ref a)] 13 [.int (gb (¬ (firing = (-1 : Int32))))] 0 0 := by
    exact g_retI F E rfl gb_z (gle rfl) (gle rfl) dX9_isFired_13 (fun _ hp => ⟨rfl, hp⟩)
  refine g_icmp_eq F (tgt := 12) (by decide) dX9_isFired_5 (fun c_1 => ?_) (fun c_1 => ?_)
  · skip
    refine g_iconst F (v := (0 : Int32)) (by decide) dX9_isFired_12 ?_
    exact g_top (gb_f (fun q => q c_1)) J_2
  · skip
    refine g_iconst F (v := (1 : Int32)) (by decide) dX9_isFired_8 ?_
    refine g_goto F (tgt := 13) (by decide) dX9_isFired_9 ?_
    exact g_top (gb_t c_1) J_2

theorem kX9_grade {l : Launch} {G : gG} (hl : l.stackTraces = false) {P : gH → Prop} {a : Nat} {w0 w1 w2 w3 w4 w5 w6 w7 w8 w9 w10 : Value} {dk : Int32}  (ha : gAt P a (.inr (6, [w0, w1, w2, w3, w4, w5, w6, w7, w8, w9, w10, .int dk]))) : gMet l yX9_grade (ws_ yX9_grade cX9_grade 1 (some .int)) ⟨0, 0, 0, 0⟩ G [.ref a] P (gqI (.int (dk / 50)) P) gxN := by
  refine gMet_of hl pnX9 (gle rfl) (fun X Q hX F E hNm => ?_)
  subst hX
  change gW (X, G, 1, Q) P [(0, .ref a)] 0 [] 0 0
  refine g_aload_n F 0 rfl rfl dX9_grade_0 ?_
  refine g_get F clX9 11 (by decide) q903 (v := .int dk) (gd_get ha rfl) dX9_grade_1 ?_
  refine g_bipush F (v := (50 : Int32)) (by decide) dX9_grade_4 ?_
  refine g_idiv F (by decide) dX9_grade_6 ?_
  exact g_retI F E rfl rfl (gle rfl) (gle rfl) dX9_grade_7 (fun _ hp => ⟨rfl, hp⟩)

theorem kX13_whole {l : Launch} {G : gG} (hl : l.stackTraces = false) {P : gH → Prop} {a : Nat} {w0 w1 w2 w3 w4 w7 w8 w9 w10 w11 : Value} {pn br : Int32}  (ha : gAt P a (.inr (10, [w0, w1, w2, w3, w4, .int pn, .int br, w7, w8, w9, w10, w11]))) : gMet l yX13_whole (ws_ yX13_whole cX13_whole 1 (some .int)) ⟨0, 0, 0, 0⟩ G [.ref a] P (gqI (.int (pn - br)) P) gxN := by
  refine gMet_of hl pnX13 (gle rfl) (fun X Q hX F E hNm => ?_)
  subst hX
  change gW (X, G, 1, Q) P [(0, .ref a)] 0 [] 0 0
  refine g_aload_n F 0 rfl rfl dX13_whole_0 ?_
  refine g_get F clX13 5 (by decide) q1090 (v := .int pn) (gd_get ha rfl) dX13_whole_1 ?_
  refine g_aload_n F 0 rfl rfl dX13_whole_4 ?_
  refine g_get F clX13 6 (by decide) q1092 (v := .int br) (gd_get ha rfl) dX13_whole_5 ?_
  refine g_isub F dX13_whole_8 ?_
  exact g_retI F E rfl rfl (gle rfl) (gle rfl) dX13_whole_9 (fun _ hp => ⟨rfl, hp⟩)

theorem kX18_lacks {l : Launch} {G : gG} (hl : l.stackTraces = false) {P : gH → Prop} {a : Nat} {w0 w2 w4 : Value} {gr sh : Int32}  (ha : gAt P a (.inr (15, [w0, .int gr, w2, .int sh, w4]))) : gMet l yX18_lacks (ws_ yX18_lacks cX18_lacks 1 (some .int)) ⟨0, 0, 0, 0⟩ G [.ref a] P (gqI (.int (gr - sh)) P) gxN := by
  refine gMet_of hl pnX18 (gle rfl) (fun X Q hX F E hNm => ?_)
  subst hX
  change gW (X, G, 1, Q) P [(0, .ref a)] 0 [] 0 0
  refine g_aload_n F 0 rfl rfl dX18_lacks_0 ?_
  refine g_get F clX18 1 (by decide) q1251 (v := .int gr) (gd_get ha rfl) dX18_lacks_1 ?_
  refine g_aload_n F 0 rfl rfl dX18_lacks_4 ?_
  refine g_get F clX18 3 (by decide) q1254 (v := .int sh) (gd_get ha rfl) dX18_lacks_5 ?_
  refine g_isub F dX18_lacks_8 ?_
  exact g_retI F E rfl rfl (gle rfl) (gle rfl) dX18_lacks_9 (fun _ hp => ⟨rfl, hp⟩)

theorem kX17_many {l : Launch} {G : gG} (hl : l.stackTraces = false) {P : gH → Prop} {a : Nat} {w0 w2 : Value} {m : Int32}  (ha : gAt P a (.inr (14, [w0, .int m, w2]))) : gMet l yX17_many (ws_ yX17_many cX17_many 1 (some .int)) ⟨0, 0, 0, 0⟩ G [.ref a] P (gqI (.int m) P) gxN := by
  refine gMet_of hl pnX17 (gle rfl) (fun X Q hX F E hNm => ?_)
  subst hX
  change gW (X, G, 1, Q) P [(0, .ref a)] 0 [] 0 0
  refine g_aload_n F 0 rfl rfl dX17_many_0 ?_
  refine g_get F clX17 1 (by decide) q1227 (v := .int m) (gd_get ha rfl) dX17_many_1 ?_
  exact g_retI F E rfl rfl (gle rfl) (gle rfl) dX17_many_4 (fun _ hp => ⟨rfl, hp⟩)

theorem kX17_broken {l : Launch} {G : gG} (hl : l.stackTraces = false) {P : gH → Prop} {a : Nat} {w0 w1 : Value} {m : Int32}  (ha : gAt P a (.inr (14, [w0, w1, .int m]))) : gMet l yX17_broken (ws_ yX17_broken cX17_broken 1 (some .int)) ⟨0, 0, 0, 0⟩ G [.ref a] P (gqI (.int m) P) gxN := by
  refine gMet_of hl pnX17 (gle rfl) (fun X Q hX F E hNm => ?_)
  subst hX
  change gW (X, G, 1, Q) P [(0, .ref a)] 0 [] 0 0
  refine g_aload_n F 0 rfl rfl dX17_broken_0 ?_
  refine g_get F clX17 2 (by decide) q1228 (v := .int m) (gd_get ha rfl) dX17_broken_1 ?_
  exact g_retI F E rfl rfl (gle rfl) (gle rfl) dX17_broken_4 (fun _ hp => ⟨rfl, hp⟩)

theorem kX17_run {l : Launch} {G : gG} (hl : l.stackTraces = false) {P : gH → Prop} {a r: Nat} {w1 w2 : Value}   (ha : gAt P a (.inr (14, [.ref r, w1, w2]))) : gMet l yX17_run (ws_ yX17_run cX17_run 1 (some (.object "Graphline$Run"))) ⟨0, 0, 0, 0⟩ G [.ref a] P (gqI (.ref r) P) gxN := by
  refine gMet_of hl pnX17 (gle rfl) (fun X Q hX F E hNm => ?_)
  subst hX
  change gW (X, G, 1, Q) P [(0, .ref a)] 0 [] 0 0
  refine g_aload_n F 0 rfl rfl dX17_run_0 ?_
  refine g_get F clX17 0 (by decide) q1226 (v := .ref r) (gd_get ha rfl) dX17_run_1 ?_
  exact g_retA F E rfl (Or.inl ⟨_, rfl⟩) (Or.inr ⟨_, rfl⟩) (gle rfl) (gle rfl) dX17_run_4 (fun _ hp => ⟨rfl, hp⟩)

theorem kX13_misfit {l : Launch} {G : gG} (hl : l.stackTraces = false) {P : gH → Prop} {a b : Nat} {w0 w1 w3 w4 w5 w6 w7 w8 w9 w10 w11 x0 x1 x2 x3 x4 x6 : Value} {bore width : Int32} (ha : gAt P a (.inr (6, [w0, w1, .int bore, w3, w4, w5, w6, w7, w8, w9, w10, w11]))) (hb : gAt P b (.inr (8, [x0, x1, x2, x3, x4, .int width, x6]))) : gMet l yX13_misfit (ws_ yX13_misfit cX13_misfit 2 (some .int)) ⟨1, 0, 0, 13⟩ G [.ref a, .ref b] P (gqI (.int (gabs (2 * width - bore))) P) gxN := by
  refine gMet_of hl pnX13 (gle rfl) (fun X Q hX F E hNm => ?_)
  subst hX
  change gW (X, G, 2, Q) P [(0, .ref a), (1, .ref b)] 0 [] 0 0
  refine g_iconst F (v := (2 : Int32)) (by decide) dX13_misfit_0 ?_
  refine g_aload_n F 1 rfl rfl dX13_misfit_1 ?_
  refine g_getN F clX11 5 (by decide) (gT_w q1019 rfl) (v := .int width) (gd_get hb rfl) dX13_misfit_2 ?_
  refine g_imul F dX13_misfit_5 ?_
  refine g_aload_n F 0 rfl rfl dX13_misfit_6 ?_
  refine g_getN F clX9 2 (by decide) (gT_w q888 rfl) (v := .int bore) (gd_get ha rfl) dX13_misfit_7 ?_
  refine g_isub F dX13_misfit_10 ?_
  refine g_mabs F q1070 (gle rfl) (gle rfl) (gle rfl) (gle rfl) dX13_misfit_11 ?_
  exact g_retI F E rfl rfl (gle rfl) (gle rfl) dX13_misfit_14 (fun _ hp => ⟨rfl, hp⟩)

theorem kX1_drive_0 {l : Launch} {G : gG} (hl : l.stackTraces = false) {S : gS} {A : Nat → Nat → Nat} {Fr : gH → Prop} (hF : gFr 0 Fr) (hD : gDrv (S.1 1 0)) {x : Int32} (hx : x = -1 ∨ gIn x 4) (he : gIt (S.1 1 0) 0 x = -1) : gMet l yX1_drive (wsW_ yX1_drive cX1_drive 3 none [((24 : Nat), (34 : Nat), (37 : Nat), (144 : Nat))]) ⟨5, 3, 11, 96⟩ G [.ref (A 0 0), .int x] (gP 0 G S A Fr []) (gqC (gGo (S.1 1 0) (S.1 2 0) (S.1 0 0 1) 0 x = true) (gP 0 G S A Fr [])) (gx1 "Graphline$Standstill" (¬ gGo (S.1 1 0) (S.1 2 0) (S.1 0 0 1) 0 x = true) (gP 0 G S A Fr [])) := by
  refine gMet_ofW hl pnX1 (gle rfl) (fun X Q hX F E hNm => ?_)
  subst hX
  change gW (X, G, 3, Q) (gP 0 G S A Fr []) [(0, .ref (A 0 0)), (1, .int x)] 0 [] 0 0
  refine g_iload_n F 1 rfl rfl dX1_drive_0 ?_
  refine g_iconst F (v := (-1 : Int32)) (by decide) dX1_drive_1 ?_
  refine g_icmp_ne F (tgt := 24) (by decide) dX1_drive_2 (fun c => absurd (show x = -1 from he) c) (fun _ => ?_)
  refine g_aload_n F 0 rfl rfl dX1_drive_5 ?_
  refine g_get F clX1 1 (by decide) q136 (v := .int (S.1 0 0 1)) (gd_get (pr_at (κ := 0) (i := 0) (by decide) (gc1 (gnl rfl)) (gce rfl rfl)) rfl) dX1_drive_6 ?_
  refine g_if_ne F (tgt := 23) (by decide) dX1_drive_9 (fun c_1 => ?_) (fun c_1 => ?_)
  · skip
    exact g_retV F E rfl (gle rfl) (gle rfl) dX1_drive_23 (fun _ hp => ⟨rfl, gGo_mt (show x = -1 from he) c_1, hp⟩)
  · skip
    refine g_new F clX4 q564 q569 q37 (5000, 0) (fs := [.null, .null, .null, .null, .null, .int (0 : Int32)]) rfl 1 6 (gle rfl) (gle rfl) (gle rfl) (gle rfl) (Pa := fun a_2 => gP 0 G S A Fr [(a_2, .inr (18, [.null, .null, .null, .null, .null, .int (0 : Int32)]))]) (pr_new hF) dX1_drive_12 (fun a_2 => ?_)
    refine g_dup F rfl dX1_drive_15 ?_
    refine g_bipush F (v := (45 : Int32)) (by decide) dX1_drive_16 ?_
    refine g_null F dX1_drive_18 ?_
    refine g_callI F (kX4_initN hl (by decide) (by decide) (pr_atT (j := 0) rfl)) rfl q577 q578 q37 q579 myX4_init ⟨by decide, by decide⟩ rfl rfl (gle rfl) 3 11 (gle rfl) (gle rfl) (gle rfl) (gle rfl) dX1_drive_19 gx_n (fun v9 => gv_c9 (fun fs_3 => ?_))
    refine g_mono (P2 := gP 0 G S A Fr [(a_2, .inr (18, fs_3))]) (fun _ hp => pr_up gM0 hF (j := 0) rfl _ (gUp_mono (gP_jk hF) _ hp)) ?_
    refine g_athrow F clX4 (fun _ hp => ⟨_, _, hp.2.2 0 _ _ rfl⟩) dX1_drive_22 ?_
    exact g_out F E (gpass (by decide)) (gle rfl) (gle rfl) (fun _ hp => ⟨rfl, gGo_mf (show x = -1 from he) c_1, gPT hp⟩)

theorem kX1_drive_1 {l : Launch} {G : gG} (hl : l.stackTraces = false) {S : gS} {A : Nat → Nat → Nat} {Fr : gH → Prop} (hF : gFr 0 Fr) (hD : gDrv (S.1 1 0)) {x : Int32} (hx : x = -1 ∨ gIn x 4) (he : gIt (S.1 1 0) 1 x = -1) : gMet l yX1_drive (wsW_ yX1_drive cX1_drive 3 none [((24 : Nat), (34 : Nat), (37 : Nat), (144 : Nat))]) ⟨6, 6, 22, 118⟩ G [.ref (A 0 0), .int x] (gP 0 G S A Fr []) (gqC (gGo (S.1 1 0) (S.1 2 0) (S.1 0 0 1) 1 x = true) (gP 0 G S A Fr [])) (gx1 "Graphline$Standstill" (¬ gGo (S.1 1 0) (S.1 2 0) (S.1 0 0 1) 1 x = true) (gP 0 G S A Fr [])) := by
  refine gMet_ofW hl pnX1 (gle rfl) (fun X Q hX F E hNm => ?_)
  subst hX
  change gW (X, G, 3, Q) (gP 0 G S A Fr []) [(0, .ref (A 0 0)), (1, .int x)] 0 [] 0 0
  refine g_iload_n F 1 rfl rfl dX1_drive_0 ?_
  refine g_iconst F (v := (-1 : Int32)) (by decide) dX1_drive_1 ?_
  refine g_icmp_ne F (tgt := 24) (by decide) dX1_drive_2 (fun c_1 => ?_) (fun c_1 => ?_)
  · skip
    refine g_aload_n F 0 rfl rfl dX1_drive_24 ?_
    refine g_aload_n F 0 rfl rfl dX1_drive_25 ?_
    refine g_get F clX1 2 (by decide) q137 (v := .ref (A 1 0)) (gd_get (pr_at (κ := 0) (i := 0) (by decide) (gc1 (gnl rfl)) (gce rfl rfl)) rfl) dX1_drive_26 ?_
    refine g_iload_n F 1 rfl rfl dX1_drive_29 ?_
    refine g_iald F (gIn_vp (gor_of hx c_1)) (pr_at (κ := 1) (i := 0) (by decide) (gc1 (gnl rfl)) (gce rfl rfl)) dX1_drive_30 ?_
    change gW _ _ _ _ (.int (S.1 1 0 x.toNatClampNeg) :: _) _ _
    refine g_callVW F (kX1_drive_0 hl hF hD (gDrv_n hD (gor_of hx c_1)) (gIt_s c_1 he)) (g_recv F clX1 (gd_obj (pr_at (κ := 0) (i := 0) (by decide) (gc1 (gnl rfl)) (gce rfl rfl)))) q565 q567 qs2 q18 q568 myX1_drive ⟨by decide, by decide⟩ rfl rfl (gle rfl) 3 11 (gle rfl) (gle rfl) (gle rfl) (gle rfl) dX1_drive_31 (gx_1 (fun c_2 => g_catchS F [] _ [] rfl (fun z hz => by cases hz) (by decide) (by decide) q564 (tgt := 37) rfl (fun q9 => ?_))) (gv_c (fun c_2 => ?_))
    · skip
      refine g_astore_n F rfl (by show 2 < 3; decide) (lv2 := [(2, .ref q9), (0, .ref (A 0 0)), (1, .int x)]) rfl dX1_drive_37 ?_
      refine g_new F clX4 q564 q569 q37 (5000, 0) (fs := [.null, .null, .null, .null, .null, .int (0 : Int32)]) rfl 4 17 (gle rfl) (gle rfl) (gle rfl) (gle rfl) (Pa := fun a_3 => gP 0 G S A Fr [(a_3, .inr (18, [.null, .null, .null, .null, .null, .int (0 : Int32)]))]) (pr_new hF) dX1_drive_38 (fun a_3 => ?_)
      refine g_dup F rfl dX1_drive_41 ?_
      refine g_ldcS F (i := 0) (List.mem_of_getElem? (i := 0) rfl) dX1_drive_42 ?_
      refine g_iload_n F 2 rfl rfl dX1_drive_44 ?_
      refine g_callV F (kJ0_charAt hl (i := 0) (by decide) (gor_of hx c_1).2 (gIn_eq (gor_of hx c_1))) (g_srecv F (by decide)) q530 q531 q532 q19 q533 myJ0_charAt ⟨by decide, by decide⟩ rfl rfl (gle rfl) 4 17 (gle rfl) (gle rfl) (gle rfl) (gle rfl) dX1_drive_45 gx_n (gv_i ?_)
      refine g_aload_n F 0 rfl rfl dX1_drive_48 ?_
      refine g_callI F (kX4_initR hl (gm_ch _ (gor_of hx c_1).2).1 (gm_ch _ (gor_of hx c_1).2).2 (pr_atT (j := 0) rfl)) rfl q577 q578 q37 q579 myX4_init ⟨by decide, by decide⟩ rfl rfl (gle rfl) 6 22 (gle rfl) (gle rfl) (gle rfl) (gle rfl) dX1_drive_49 gx_n (fun v9 => gv_c9 (fun fs_4 => ?_))
      refine g_mono (P2 := gP 0 G S A Fr [(a_3, .inr (18, fs_4))]) (fun _ hp => pr_up gM0 hF (j := 0) rfl _ (gUp_mono (gP_jk hF) _ hp)) ?_
      refine g_athrow F clX4 (fun _ hp => ⟨_, _, hp.2.2 0 _ _ rfl⟩) dX1_drive_52 ?_
      exact g_out F E (gpass (by decide)) (gle rfl) (gle rfl) (fun _ hp => ⟨rfl, gGo_s1 c_1 c_2, gPT hp⟩)
    · skip
      refine g_goto F (tgt := 53) (by decide) dX1_drive_34 ?_
      refine g_aload_n F 0 rfl rfl dX1_drive_53 ?_
      refine g_get F clX1 3 (by decide) q138 (v := .ref (A 2 0)) (gd_get (pr_at (κ := 0) (i := 0) (by decide) (gc1 (gnl rfl)) (gce rfl rfl)) rfl) dX1_drive_54 ?_
      refine g_iload_n F 1 rfl rfl dX1_drive_57 ?_
      refine g_zald F (gIn_vp (gor_of hx c_1)) (pr_at (κ := 2) (i := 0) (by decide) (gc1 (gnl rfl)) (gce rfl rfl)) dX1_drive_58 ?_
      change gW _ _ _ _ (.int (S.1 2 0 x.toNatClampNeg) :: _) _ _
      refine g_if_ne F (tgt := 77) (by decide) dX1_drive_59 (fun c_5 => ?_) (fun c_5 => ?_)
      · skip
        exact g_retV F E rfl (gle rfl) (gle rfl) dX1_drive_77 (fun _ hp => ⟨rfl, gGo_st c_1 c_2 c_5, hp⟩)
      · skip
        refine g_new F clX4 q564 q569 q37 (5000, 0) (fs := [.null, .null, .null, .null, .null, .int (0 : Int32)]) rfl 4 17 (gle rfl) (gle rfl) (gle rfl) (gle rfl) (Pa := fun a_6 => gP 0 G S A Fr [(a_6, .inr (18, [.null, .null, .null, .null, .null, .int (0 : Int32)]))]) (pr_new hF) dX1_drive_62 (fun a_6 => ?_)
        refine g_dup F rfl dX1_drive_65 ?_
        refine g_ldcS F (i := 0) (List.mem_of_getElem? (i := 0) rfl) dX1_drive_66 ?_
        refine g_iload_n F 1 rfl rfl dX1_drive_68 ?_
        refine g_callV F (kJ0_charAt hl (i := 0) (by decide) (gor_of hx c_1).2 (gIn_eq (gor_of hx c_1))) (g_srecv F (by decide)) q530 q531 q532 q19 q533 myJ0_charAt ⟨by decide, by decide⟩ rfl rfl (gle rfl) 4 17 (gle rfl) (gle rfl) (gle rfl) (gle rfl) dX1_drive_69 gx_n (gv_i ?_)
        refine g_null F dX1_drive_72 ?_
        refine g_callI F (kX4_initN hl (gm_ch _ (gor_of hx c_1).2).1 (gm_ch _ (gor_of hx c_1).2).2 (pr_atT (j := 0) rfl)) rfl q577 q578 q37 q579 myX4_init ⟨by decide, by decide⟩ rfl rfl (gle rfl) 6 22 (gle rfl) (gle rfl) (gle rfl) (gle rfl) dX1_drive_73 gx_n (fun v9 => gv_c9 (fun fs_7 => ?_))
        refine g_mono (P2 := gP 0 G S A Fr [(a_6, .inr (18, fs_7))]) (fun _ hp => pr_up gM0 hF (j := 0) rfl _ (gUp_mono (gP_jk hF) _ hp)) ?_
        refine g_athrow F clX4 (fun _ hp => ⟨_, _, hp.2.2 0 _ _ rfl⟩) dX1_drive_76 ?_
        exact g_out F E (gpass (by decide)) (gle rfl) (gle rfl) (fun _ hp => ⟨rfl, gGo_s2 c_1 c_5, gPT hp⟩)
  · skip
    refine g_aload_n F 0 rfl rfl dX1_drive_5 ?_
    refine g_get F clX1 1 (by decide) q136 (v := .int (S.1 0 0 1)) (gd_get (pr_at (κ := 0) (i := 0) (by decide) (gc1 (gnl rfl)) (gce rfl rfl)) rfl) dX1_drive_6 ?_
    refine g_if_ne F (tgt := 23) (by decide) dX1_drive_9 (fun c_8 => ?_) (fun c_8 => ?_)
    · skip
      exact g_retV F E rfl (gle rfl) (gle rfl) dX1_drive_23 (fun _ hp => ⟨rfl, gGo_mt c_1 c_8, hp⟩)
    · skip
      refine g_new F clX4 q564 q569 q37 (5000, 0) (fs := [.null, .null, .null, .null, .null, .int (0 : Int32)]) rfl 1 6 (gle rfl) (gle rfl) (gle rfl) (gle rfl) (Pa := fun a_9 => gP 0 G S A Fr [(a_9, .inr (18, [.null, .null, .null, .null, .null, .int (0 : Int32)]))]) (pr_new hF) dX1_drive_12 (fun a_9 => ?_)
      refine g_dup F rfl dX1_drive_15 ?_
      refine g_bipush F (v := (45 : Int32)) (by decide) dX1_drive_16 ?_
      refine g_null F dX1_drive_18 ?_
      refine g_callI F (kX4_initN hl (by decide) (by decide) (pr_atT (j := 0) rfl)) rfl q577 q578 q37 q579 myX4_init ⟨by decide, by decide⟩ rfl rfl (gle rfl) 3 11 (gle rfl) (gle rfl) (gle rfl) (gle rfl) dX1_drive_19 gx_n (fun v9 => gv_c9 (fun fs_10 => ?_))
      refine g_mono (P2 := gP 0 G S A Fr [(a_9, .inr (18, fs_10))]) (fun _ hp => pr_up gM0 hF (j := 0) rfl _ (gUp_mono (gP_jk hF) _ hp)) ?_
      refine g_athrow F clX4 (fun _ hp => ⟨_, _, hp.2.2 0 _ _ rfl⟩) dX1_drive_22 ?_
      exact g_out F E (gpass (by decide)) (gle rfl) (gle rfl) (fun _ hp => ⟨rfl, gGo_mf c_1 c_8, gPT hp⟩)

theorem kX1_drive_2 {l : Launch} {G : gG} (hl : l.stackTraces = false) {S : gS} {A : Nat → Nat → Nat} {Fr : gH → Prop} (hF : gFr 0 Fr) (hD : gDrv (S.1 1 0)) {x : Int32} (hx : x = -1 ∨ gIn x 4) (he : gIt (S.1 1 0) 2 x = -1) : gMet l yX1_drive (wsW_ yX1_drive cX1_drive 3 none [((24 : Nat), (34 : Nat), (37 : Nat), (144 : Nat))]) ⟨7, 9, 33, 140⟩ G [.ref (A 0 0), .int x] (gP 0 G S A Fr []) (gqC (gGo (S.1 1 0) (S.1 2 0) (S.1 0 0 1) 2 x = true) (gP 0 G S A Fr [])) (gx1 "Graphline$Standstill" (¬ gGo (S.1 1 0) (S.1 2 0) (S.1 0 0 1) 2 x = true) (gP 0 G S A Fr [])) := by
  refine gMet_ofW hl pnX1 (gle rfl) (fun X Q hX F E hNm => ?_)
  subst hX
  change gW (X, G, 3, Q) (gP 0 G S A Fr []) [(0, .ref (A 0 0)), (1, .int x)] 0 [] 0 0
  refine g_iload_n F 1 rfl rfl dX1_drive_0 ?_
  refine g_iconst F (v := (-1 : Int32)) (by decide) dX1_drive_1 ?_
  refine g_icmp_ne F (tgt := 24) (by decide) dX1_drive_2 (fun c_1 => ?_) (fun c_1 => ?_)
  · skip
    refine g_aload_n F 0 rfl rfl dX1_drive_24 ?_
    refine g_aload_n F 0 rfl rfl dX1_drive_25 ?_
    refine g_get F clX1 2 (by decide) q137 (v := .ref (A 1 0)) (gd_get (pr_at (κ := 0) (i := 0) (by decide) (gc1 (gnl rfl)) (gce rfl rfl)) rfl) dX1_drive_26 ?_
    refine g_iload_n F 1 rfl rfl dX1_drive_29 ?_
    refine g_iald F (gIn_vp (gor_of hx c_1)) (pr_at (κ := 1) (i := 0) (by decide) (gc1 (gnl rfl)) (gce rfl rfl)) dX1_drive_30 ?_
    change gW _ _ _ _ (.int (S.1 1 0 x.toNatClampNeg) :: _) _ _
    refine g_callVW F (kX1_drive_1 hl hF hD (gDrv_n hD (gor_of hx c_1)) (gIt_s c_1 he)) (g_recv F clX1 (gd_obj (pr_at (κ := 0) (i := 0) (by decide) (gc1 (gnl rfl)) (gce rfl rfl)))) q565 q567 qs2 q18 q568 myX1_drive ⟨by decide, by decide⟩ rfl rfl (gle rfl) 6 22 (gle rfl) (gle rfl) (gle rfl) (gle rfl) dX1_drive_31 (gx_1 (fun c_2 => g_catchS F [] _ [] rfl (fun z hz => by cases hz) (by decide) (by decide) q564 (tgt := 37) rfl (fun q9 => ?_))) (gv_c (fun c_2 => ?_))
    · skip
      refine g_astore_n F rfl (by show 2 < 3; decide) (lv2 := [(2, .ref q9), (0, .ref (A 0 0)), (1, .int x)]) rfl dX1_drive_37 ?_
      refine g_new F clX4 q564 q569 q37 (5000, 0) (fs := [.null, .null, .null, .null, .null, .int (0 : Int32)]) rfl 7 28 (gle rfl) (gle rfl) (gle rfl) (gle rfl) (Pa := fun a_3 => gP 0 G S A Fr [(a_3, .inr (18, [.null, .null, .null, .null, .null, .int (0 : Int32)]))]) (pr_new hF) dX1_drive_38 (fun a_3 => ?_)
      refine g_dup F rfl dX1_drive_41 ?_
      refine g_ldcS F (i := 0) (List.mem_of_getElem? (i := 0) rfl) dX1_drive_42 ?_
      refine g_iload_n F 2 rfl rfl dX1_drive_44 ?_
      refine g_callV F (kJ0_charAt hl (i := 0) (by decide) (gor_of hx c_1).2 (gIn_eq (gor_of hx c_1))) (g_srecv F (by decide)) q530 q531 q532 q19 q533 myJ0_charAt ⟨by decide, by decide⟩ rfl rfl (gle rfl) 7 28 (gle rfl) (gle rfl) (gle rfl) (gle rfl) dX1_drive_45 gx_n (gv_i ?_)
      refine g_aload_n F 0 rfl rfl dX1_drive_48 ?_
      refine g_callI F (kX4_initR hl (gm_ch _ (gor_of hx c_1).2).1 (gm_ch _ (gor_of hx c_1).2).2 (pr_atT (j := 0) rfl)) rfl q577 q578 q37 q579 myX4_init ⟨by decide, by decide⟩ rfl rfl (gle rfl) 9 33 (gle rfl) (gle rfl) (gle rfl) (gle rfl) dX1_drive_49 gx_n (fun v9 => gv_c9 (fun fs_4 => ?_))
      refine g_mono (P2 := gP 0 G S A Fr [(a_3, .inr (18, fs_4))]) (fun _ hp => pr_up gM0 hF (j := 0) rfl _ (gUp_mono (gP_jk hF) _ hp)) ?_
      refine g_athrow F clX4 (fun _ hp => ⟨_, _, hp.2.2 0 _ _ rfl⟩) dX1_drive_52 ?_
      exact g_out F E (gpass (by decide)) (gle rfl) (gle rfl) (fun _ hp => ⟨rfl, gGo_s1 c_1 c_2, gPT hp⟩)
    · skip
      refine g_goto F (tgt := 53) (by decide) dX1_drive_34 ?_
      refine g_aload_n F 0 rfl rfl dX1_drive_53 ?_
      refine g_get F clX1 3 (by decide) q138 (v := .ref (A 2 0)) (gd_get (pr_at (κ := 0) (i := 0) (by decide) (gc1 (gnl rfl)) (gce rfl rfl)) rfl) dX1_drive_54 ?_
      refine g_iload_n F 1 rfl rfl dX1_drive_57 ?_
      refine g_zald F (gIn_vp (gor_of hx c_1)) (pr_at (κ := 2) (i := 0) (by decide) (gc1 (gnl rfl)) (gce rfl rfl)) dX1_drive_58 ?_
      change gW _ _ _ _ (.int (S.1 2 0 x.toNatClampNeg) :: _) _ _
      refine g_if_ne F (tgt := 77) (by decide) dX1_drive_59 (fun c_5 => ?_) (fun c_5 => ?_)
      · skip
        exact g_retV F E rfl (gle rfl) (gle rfl) dX1_drive_77 (fun _ hp => ⟨rfl, gGo_st c_1 c_2 c_5, hp⟩)
      · skip
        refine g_new F clX4 q564 q569 q37 (5000, 0) (fs := [.null, .null, .null, .null, .null, .int (0 : Int32)]) rfl 7 28 (gle rfl) (gle rfl) (gle rfl) (gle rfl) (Pa := fun a_6 => gP 0 G S A Fr [(a_6, .inr (18, [.null, .null, .null, .null, .null, .int (0 : Int32)]))]) (pr_new hF) dX1_drive_62 (fun a_6 => ?_)
        refine g_dup F rfl dX1_drive_65 ?_
        refine g_ldcS F (i := 0) (List.mem_of_getElem? (i := 0) rfl) dX1_drive_66 ?_
        refine g_iload_n F 1 rfl rfl dX1_drive_68 ?_
        refine g_callV F (kJ0_charAt hl (i := 0) (by decide) (gor_of hx c_1).2 (gIn_eq (gor_of hx c_1))) (g_srecv F (by decide)) q530 q531 q532 q19 q533 myJ0_charAt ⟨by decide, by decide⟩ rfl rfl (gle rfl) 7 28 (gle rfl) (gle rfl) (gle rfl) (gle rfl) dX1_drive_69 gx_n (gv_i ?_)
        refine g_null F dX1_drive_72 ?_
        refine g_callI F (kX4_initN hl (gm_ch _ (gor_of hx c_1).2).1 (gm_ch _ (gor_of hx c_1).2).2 (pr_atT (j := 0) rfl)) rfl q577 q578 q37 q579 myX4_init ⟨by decide, by decide⟩ rfl rfl (gle rfl) 9 33 (gle rfl) (gle rfl) (gle rfl) (gle rfl) dX1_drive_73 gx_n (fun v9 => gv_c9 (fun fs_7 => ?_))
        refine g_mono (P2 := gP 0 G S A Fr [(a_6, .inr (18, fs_7))]) (fun _ hp => pr_up gM0 hF (j := 0) rfl _ (gUp_mono (gP_jk hF) _ hp)) ?_
        refine g_athrow F clX4 (fun _ hp => ⟨_, _, hp.2.2 0 _ _ rfl⟩) dX1_drive_76 ?_
        exact g_out F E (gpass (by decide)) (gle rfl) (gle rfl) (fun _ hp => ⟨rfl, gGo_s2 c_1 c_5, gPT hp⟩)
  · skip
    refine g_aload_n F 0 rfl rfl dX1_drive_5 ?_
    refine g_get F clX1 1 (by decide) q136 (v := .int (S.1 0 0 1)) (gd_get (pr_at (κ := 0) (i := 0) (by decide) (gc1 (gnl rfl)) (gce rfl rfl)) rfl) dX1_drive_6 ?_
    refine g_if_ne F (tgt := 23) (by decide) dX1_drive_9 (fun c_8 => ?_) (fun c_8 => ?_)
    · skip
      exact g_retV F E rfl (gle rfl) (gle rfl) dX1_drive_23 (fun _ hp => ⟨rfl, gGo_mt c_1 c_8, hp⟩)
    · skip
      refine g_new F clX4 q564 q569 q37 (5000, 0) (fs := [.null, .null, .null, .null, .null, .int (0 : Int32)]) rfl 1 6 (gle rfl) (gle rfl) (gle rfl) (gle rfl) (Pa := fun a_9 => gP 0 G S A Fr [(a_9, .inr (18, [.null, .null, .null, .null, .null, .int (0 : Int32)]))]) (pr_new hF) dX1_drive_12 (fun a_9 => ?_)
      refine g_dup F rfl dX1_drive_15 ?_
      refine g_bipush F (v := (45 : Int32)) (by decide) dX1_drive_16 ?_
      refine g_null F dX1_drive_18 ?_
      refine g_callI F (kX4_initN hl (by decide) (by decide) (pr_atT (j := 0) rfl)) rfl q577 q578 q37 q579 myX4_init ⟨by decide, by decide⟩ rfl rfl (gle rfl) 3 11 (gle rfl) (gle rfl) (gle rfl) (gle rfl) dX1_drive_19 gx_n (fun v9 => gv_c9 (fun fs_10 => ?_))
      refine g_mono (P2 := gP 0 G S A Fr [(a_9, .inr (18, fs_10))]) (fun _ hp => pr_up gM0 hF (j := 0) rfl _ (gUp_mono (gP_jk hF) _ hp)) ?_
      refine g_athrow F clX4 (fun _ hp => ⟨_, _, hp.2.2 0 _ _ rfl⟩) dX1_drive_22 ?_
      exact g_out F E (gpass (by decide)) (gle rfl) (gle rfl) (fun _ hp => ⟨rfl, gGo_mf c_1 c_8, gPT hp⟩)

theorem kX1_drive_3 {l : Launch} {G : gG} (hl : l.stackTraces = false) {S : gS} {A : Nat → Nat → Nat} {Fr : gH → Prop} (hF : gFr 0 Fr) (hD : gDrv (S.1 1 0)) {x : Int32} (hx : x = -1 ∨ gIn x 4) (he : gIt (S.1 1 0) 3 x = -1) : gMet l yX1_drive (wsW_ yX1_drive cX1_drive 3 none [((24 : Nat), (34 : Nat), (37 : Nat), (144 : Nat))]) ⟨8, 12, 44, 162⟩ G [.ref (A 0 0), .int x] (gP 0 G S A Fr []) (gqC (gGo (S.1 1 0) (S.1 2 0) (S.1 0 0 1) 3 x = true) (gP 0 G S A Fr [])) (gx1 "Graphline$Standstill" (¬ gGo (S.1 1 0) (S.1 2 0) (S.1 0 0 1) 3 x = true) (gP 0 G S A Fr [])) := by
  refine gMet_ofW hl pnX1 (gle rfl) (fun X Q hX F E hNm => ?_)
  subst hX
  change gW (X, G, 3, Q) (gP 0 G S A Fr []) [(0, .ref (A 0 0)), (1, .int x)] 0 [] 0 0
  refine g_iload_n F 1 rfl rfl dX1_drive_0 ?_
  refine g_iconst F (v := (-1 : Int32)) (by decide) dX1_drive_1 ?_
  refine g_icmp_ne F (tgt := 24) (by decide) dX1_drive_2 (fun c_1 => ?_) (fun c_1 => ?_)
  · skip
    refine g_aload_n F 0 rfl rfl dX1_drive_24 ?_
    refine g_aload_n F 0 rfl rfl dX1_drive_25 ?_
    refine g_get F clX1 2 (by decide) q137 (v := .ref (A 1 0)) (gd_get (pr_at (κ := 0) (i := 0) (by decide) (gc1 (gnl rfl)) (gce rfl rfl)) rfl) dX1_drive_26 ?_
    refine g_iload_n F 1 rfl rfl dX1_drive_29 ?_
    refine g_iald F (gIn_vp (gor_of hx c_1)) (pr_at (κ := 1) (i := 0) (by decide) (gc1 (gnl rfl)) (gce rfl rfl)) dX1_drive_30 ?_
    change gW _ _ _ _ (.int (S.1 1 0 x.toNatClampNeg) :: _) _ _
    refine g_callVW F (kX1_drive_2 hl hF hD (gDrv_n hD (gor_of hx c_1)) (gIt_s c_1 he)) (g_recv F clX1 (gd_obj (pr_at (κ := 0) (i := 0) (by decide) (gc1 (gnl rfl)) (gce rfl rfl)))) q565 q567 qs2 q18 q568 myX1_drive ⟨by decide, by decide⟩ rfl rfl (gle rfl) 9 33 (gle rfl) (gle rfl) (gle rfl) (gle rfl) dX1_drive_31 (gx_1 (fun c_2 => g_catchS F [] _ [] rfl (fun z hz => by cases hz) (by decide) (by decide) q564 (tgt := 37) rfl (fun q9 => ?_))) (gv_c (fun c_2 => ?_))
    · skip
      refine g_astore_n F rfl (by show 2 < 3; decide) (lv2 := [(2, .ref q9), (0, .ref (A 0 0)), (1, .int x)]) rfl dX1_drive_37 ?_
      refine g_new F clX4 q564 q569 q37 (5000, 0) (fs := [.null, .null, .null, .null, .null, .int (0 : Int32)]) rfl 10 39 (gle rfl) (gle rfl) (gle rfl) (gle rfl) (Pa := fun a_3 => gP 0 G S A Fr [(a_3, .inr (18, [.null, .null, .null, .null, .null, .int (0 : Int32)]))]) (pr_new hF) dX1_drive_38 (fun a_3 => ?_)
      refine g_dup F rfl dX1_drive_41 ?_
      refine g_ldcS F (i := 0) (List.mem_of_getElem? (i := 0) rfl) dX1_drive_42 ?_
      refine g_iload_n F 2 rfl rfl dX1_drive_44 ?_
      refine g_callV F (kJ0_charAt hl (i := 0) (by decide) (gor_of hx c_1).2 (gIn_eq (gor_of hx c_1))) (g_srecv F (by decide)) q530 q531 q532 q19 q533 myJ0_charAt ⟨by decide, by decide⟩ rfl rfl (gle rfl) 10 39 (gle rfl) (gle rfl) (gle rfl) (gle rfl) dX1_drive_45 gx_n (gv_i ?_)
      refine g_aload_n F 0 rfl rfl dX1_drive_48 ?_
      refine g_callI F (kX4_initR hl (gm_ch _ (gor_of hx c_1).2).1 (gm_ch _ (gor_of hx c_1).2).2 (pr_atT (j := 0) rfl)) rfl q577 q578 q37 q579 myX4_init ⟨by decide, by decide⟩ rfl rfl (gle rfl) 12 44 (gle rfl) (gle rfl) (gle rfl) (gle rfl) dX1_drive_49 gx_n (fun v9 => gv_c9 (fun fs_4 => ?_))
      refine g_mono (P2 := gP 0 G S A Fr [(a_3, .inr (18, fs_4))]) (fun _ hp => pr_up gM0 hF (j := 0) rfl _ (gUp_mono (gP_jk hF) _ hp)) ?_
      refine g_athrow F clX4 (fun _ hp => ⟨_, _, hp.2.2 0 _ _ rfl⟩) dX1_drive_52 ?_
      exact g_out F E (gpass (by decide)) (gle rfl) (gle rfl) (fun _ hp => ⟨rfl, gGo_s1 c_1 c_2, gPT hp⟩)
    · skip
      refine g_goto F (tgt := 53) (by decide) dX1_drive_34 ?_
      refine g_aload_n F 0 rfl rfl dX1_drive_53 ?_
      refine g_get F clX1 3 (by decide) q138 (v := .ref (A 2 0)) (gd_get (pr_at (κ := 0) (i := 0) (by decide) (gc1 (gnl rfl)) (gce rfl rfl)) rfl) dX1_drive_54 ?_
      refine g_iload_n F 1 rfl rfl dX1_drive_57 ?_
      refine g_zald F (gIn_vp (gor_of hx c_1)) (pr_at (κ := 2) (i := 0) (by decide) (gc1 (gnl rfl)) (gce rfl rfl)) dX1_drive_58 ?_
      change gW _ _ _ _ (.int (S.1 2 0 x.toNatClampNeg) :: _) _ _
      refine g_if_ne F (tgt := 77) (by decide) dX1_drive_59 (fun c_5 => ?_) (fun c_5 => ?_)
      · skip
        exact g_retV F E rfl (gle rfl) (gle rfl) dX1_drive_77 (fun _ hp => ⟨rfl, gGo_st c_1 c_2 c_5, hp⟩)
      · skip
        refine g_new F clX4 q564 q569 q37 (5000, 0) (fs := [.null, .null, .null, .null, .null, .int (0 : Int32)]) rfl 10 39 (gle rfl) (gle rfl) (gle rfl) (gle rfl) (Pa := fun a_6 => gP 0 G S A Fr [(a_6, .inr (18, [.null, .null, .null, .null, .null, .int (0 : Int32)]))]) (pr_new hF) dX1_drive_62 (fun a_6 => ?_)
        refine g_dup F rfl dX1_drive_65 ?_
        refine g_ldcS F (i := 0) (List.mem_of_getElem? (i := 0) rfl) dX1_drive_66 ?_
        refine g_iload_n F 1 rfl rfl dX1_drive_68 ?_
        refine g_callV F (kJ0_charAt hl (i := 0) (by decide) (gor_of hx c_1).2 (gIn_eq (gor_of hx c_1))) (g_srecv F (by decide)) q530 q531 q532 q19 q533 myJ0_charAt ⟨by decide, by decide⟩ rfl rfl (gle rfl) 10 39 (gle rfl) (gle rfl) (gle rfl) (gle rfl) dX1_drive_69 gx_n (gv_i ?_)
        refine g_null F dX1_drive_72 ?_
        refine g_callI F (kX4_initN hl (gm_ch _ (gor_of hx c_1).2).1 (gm_ch _ (gor_of hx c_1).2).2 (pr_atT (j := 0) rfl)) rfl q577 q578 q37 q579 myX4_init ⟨by decide, by decide⟩ rfl rfl (gle rfl) 12 44 (gle rfl) (gle rfl) (gle rfl) (gle rfl) dX1_drive_73 gx_n (fun v9 => gv_c9 (fun fs_7 => ?_))
        refine g_mono (P2 := gP 0 G S A Fr [(a_6, .inr (18, fs_7))]) (fun _ hp => pr_up gM0 hF (j := 0) rfl _ (gUp_mono (gP_jk hF) _ hp)) ?_
        refine g_athrow F clX4 (fun _ hp => ⟨_, _, hp.2.2 0 _ _ rfl⟩) dX1_drive_76 ?_
        exact g_out F E (gpass (by decide)) (gle rfl) (gle rfl) (fun _ hp => ⟨rfl, gGo_s2 c_1 c_5, gPT hp⟩)
  · skip
    refine g_aload_n F 0 rfl rfl dX1_drive_5 ?_
    refine g_get F clX1 1 (by decide) q136 (v := .int (S.1 0 0 1)) (gd_get (pr_at (κ := 0) (i := 0) (by decide) (gc1 (gnl rfl)) (gce rfl rfl)) rfl) dX1_drive_6 ?_
    refine g_if_ne F (tgt := 23) (by decide) dX1_drive_9 (fun c_8 => ?_) (fun c_8 => ?_)
    · skip
      exact g_retV F E rfl (gle rfl) (gle rfl) dX1_drive_23 (fun _ hp => ⟨rfl, gGo_mt c_1 c_8, hp⟩)
    · skip
      refine g_new F clX4 q564 q569 q37 (5000, 0) (fs := [.null, .null, .null, .null, .null, .int (0 : Int32)]) rfl 1 6 (gle rfl) (gle rfl) (gle rfl) (gle rfl) (Pa := fun a_9 => gP 0 G S A Fr [(a_9, .inr (18, [.null, .null, .null, .null, .null, .int (0 : Int32)]))]) (pr_new hF) dX1_drive_12 (fun a_9 => ?_)
      refine g_dup F rfl dX1_drive_15 ?_
      refine g_bipush F (v := (45 : Int32)) (by decide) dX1_drive_16 ?_
      refine g_null F dX1_drive_18 ?_
      refine g_callI F (kX4_initN hl (by decide) (by decide) (pr_atT (j := 0) rfl)) rfl q577 q578 q37 q579 myX4_init ⟨by decide, by decide⟩ rfl rfl (gle rfl) 3 11 (gle rfl) (gle rfl) (gle rfl) (gle rfl) dX1_drive_19 gx_n (fun v9 => gv_c9 (fun fs_10 => ?_))
      refine g_mono (P2 := gP 0 G S A Fr [(a_9, .inr (18, fs_10))]) (fun _ hp => pr_up gM0 hF (j := 0) rfl _ (gUp_mono (gP_jk hF) _ hp)) ?_
      refine g_athrow F clX4 (fun _ hp => ⟨_, _, hp.2.2 0 _ _ rfl⟩) dX1_drive_22 ?_
      exact g_out F E (gpass (by decide)) (gle rfl) (gle rfl) (fun _ hp => ⟨rfl, gGo_mf c_1 c_8, gPT hp⟩)

theorem kX1_drive_4 {l : Launch} {G : gG} (hl : l.stackTraces = false) {S : gS} {A : Nat → Nat → Nat} {Fr : gH → Prop} (hF : gFr 0 Fr) (hD : gDrv (S.1 1 0)) {x : Int32} (hx : x = -1 ∨ gIn x 4) (he : gIt (S.1 1 0) 4 x = -1) : gMet l yX1_drive (wsW_ yX1_drive cX1_drive 3 none [((24 : Nat), (34 : Nat), (37 : Nat), (144 : Nat))]) ⟨9, 15, 55, 184⟩ G [.ref (A 0 0), .int x] (gP 0 G S A Fr []) (gqC (gGo (S.1 1 0) (S.1 2 0) (S.1 0 0 1) 4 x = true) (gP 0 G S A Fr [])) (gx1 "Graphline$Standstill" (¬ gGo (S.1 1 0) (S.1 2 0) (S.1 0 0 1) 4 x = true) (gP 0 G S A Fr [])) := by
  refine gMet_ofW hl pnX1 (gle rfl) (fun X Q hX F E hNm => ?_)
  subst hX
  change gW (X, G, 3, Q) (gP 0 G S A Fr []) [(0, .ref (A 0 0)), (1, .int x)] 0 [] 0 0
  refine g_iload_n F 1 rfl rfl dX1_drive_0 ?_
  refine g_iconst F (v := (-1 : Int32)) (by decide) dX1_drive_1 ?_
  refine g_icmp_ne F (tgt := 24) (by decide) dX1_drive_2 (fun c_1 => ?_) (fun c_1 => ?_)
  · skip
    refine g_aload_n F 0 rfl rfl dX1_drive_24 ?_
    refine g_aload_n F 0 rfl rfl dX1_drive_25 ?_
    refine g_get F clX1 2 (by decide) q137 (v := .ref (A 1 0)) (gd_get (pr_at (κ := 0) (i := 0) (by decide) (gc1 (gnl rfl)) (gce rfl rfl)) rfl) dX1_drive_26 ?_
    refine g_iload_n F 1 rfl rfl dX1_drive_29 ?_
    refine g_iald F (gIn_vp (gor_of hx c_1)) (pr_at (κ := 1) (i := 0) (by decide) (gc1 (gnl rfl)) (gce rfl rfl)) dX1_drive_30 ?_
    change gW _ _ _ _ (.int (S.1 1 0 x.toNatClampNeg) :: _) _ _
    refine g_callVW F (kX1_drive_3 hl hF hD (gDrv_n hD (gor_of hx c_1)) (gIt_s c_1 he)) (g_recv F clX1 (gd_obj (pr_at (κ := 0) (i := 0) (by decide) (gc1 (gnl rfl)) (gce rfl rfl)))) q565 q567 qs2 q18 q568 myX1_drive ⟨by decide, by decide⟩ rfl rfl (gle rfl) 12 44 (gle rfl) (gle rfl) (gle rfl) (gle rfl) dX1_drive_31 (gx_1 (fun c_2 => g_catchS F [] _ [] rfl (fun z hz => by cases hz) (by decide) (by decide) q564 (tgt := 37) rfl (fun q9 => ?_))) (gv_c (fun c_2 => ?_))
    · skip
      refine g_astore_n F rfl (by show 2 < 3; decide) (lv2 := [(2, .ref q9), (0, .ref (A 0 0)), (1, .int x)]) rfl dX1_drive_37 ?_
      refine g_new F clX4 q564 q569 q37 (5000, 0) (fs := [.null, .null, .null, .null, .null, .int (0 : Int32)]) rfl 13 50 (gle rfl) (gle rfl) (gle rfl) (gle rfl) (Pa := fun a_3 => gP 0 G S A Fr [(a_3, .inr (18, [.null, .null, .null, .null, .null, .int (0 : Int32)]))]) (pr_new hF) dX1_drive_38 (fun a_3 => ?_)
      refine g_dup F rfl dX1_drive_41 ?_
      refine g_ldcS F (i := 0) (List.mem_of_getElem? (i := 0) rfl) dX1_drive_42 ?_
      refine g_iload_n F 2 rfl rfl dX1_drive_44 ?_
      refine g_callV F (kJ0_charAt hl (i := 0) (by decide) (gor_of hx c_1).2 (gIn_eq (gor_of hx c_1))) (g_srecv F (by decide)) q530 q531 q532 q19 q533 myJ0_charAt ⟨by decide, by decide⟩ rfl rfl (gle rfl) 13 50 (gle rfl) (gle rfl) (gle rfl) (gle rfl) dX1_drive_45 gx_n (gv_i ?_)
      refine g_aload_n F 0 rfl rfl dX1_drive_48 ?_
      refine g_callI F (kX4_initR hl (gm_ch _ (gor_of hx c_1).2).1 (gm_ch _ (gor_of hx c_1).2).2 (pr_atT (j := 0) rfl)) rfl q577 q578 q37 q579 myX4_init ⟨by decide, by decide⟩ rfl rfl (gle rfl) 15 55 (gle rfl) (gle rfl) (gle rfl) (gle rfl) dX1_drive_49 gx_n (fun v9 => gv_c9 (fun fs_4 => ?_))
      refine g_mono (P2 := gP 0 G S A Fr [(a_3, .inr (18, fs_4))]) (fun _ hp => pr_up gM0 hF (j := 0) rfl _ (gUp_mono (gP_jk hF) _ hp)) ?_
      refine g_athrow F clX4 (fun _ hp => ⟨_, _, hp.2.2 0 _ _ rfl⟩) dX1_drive_52 ?_
      exact g_out F E (gpass (by decide)) (gle rfl) (gle rfl) (fun _ hp => ⟨rfl, gGo_s1 c_1 c_2, gPT hp⟩)
    · skip
      refine g_goto F (tgt := 53) (by decide) dX1_drive_34 ?_
      refine g_aload_n F 0 rfl rfl dX1_drive_53 ?_
      refine g_get F clX1 3 (by decide) q138 (v := .ref (A 2 0)) (gd_get (pr_at (κ := 0) (i := 0) (by decide) (gc1 (gnl rfl)) (gce rfl rfl)) rfl) dX1_drive_54 ?_
      refine g_iload_n F 1 rfl rfl dX1_drive_57 ?_
      refine g_zald F (gIn_vp (gor_of hx c_1)) (pr_at (κ := 2) (i := 0) (by decide) (gc1 (gnl rfl)) (gce rfl rfl)) dX1_drive_58 ?_
      change gW _ _ _ _ (.int (S.1 2 0 x.toNatClampNeg) :: _) _ _
      refine g_if_ne F (tgt := 77) (by decide) dX1_drive_59 (fun c_5 => ?_) (fun c_5 => ?_)
      · skip
        exact g_retV F E rfl (gle rfl) (gle rfl) dX1_drive_77 (fun _ hp => ⟨rfl, gGo_st c_1 c_2 c_5, hp⟩)
      · skip
        refine g_new F clX4 q564 q569 q37 (5000, 0) (fs := [.null, .null, .null, .null, .null, .int (0 : Int32)]) rfl 13 50 (gle rfl) (gle rfl) (gle rfl) (gle rfl) (Pa := fun a_6 => gP 0 G S A Fr [(a_6, .inr (18, [.null, .null, .null, .null, .null, .int (0 : Int32)]))]) (pr_new hF) dX1_drive_62 (fun a_6 => ?_)
        refine g_dup F rfl dX1_drive_65 ?_
        refine g_ldcS F (i := 0) (List.mem_of_getElem? (i := 0) rfl) dX1_drive_66 ?_
        refine g_iload_n F 1 rfl rfl dX1_drive_68 ?_
        refine g_callV F (kJ0_charAt hl (i := 0) (by decide) (gor_of hx c_1).2 (gIn_eq (gor_of hx c_1))) (g_srecv F (by decide)) q530 q531 q532 q19 q533 myJ0_charAt ⟨by decide, by decide⟩ rfl rfl (gle rfl) 13 50 (gle rfl) (gle rfl) (gle rfl) (gle rfl) dX1_drive_69 gx_n (gv_i ?_)
        refine g_null F dX1_drive_72 ?_
        refine g_callI F (kX4_initN hl (gm_ch _ (gor_of hx c_1).2).1 (gm_ch _ (gor_of hx c_1).2).2 (pr_atT (j := 0) rfl)) rfl q577 q578 q37 q579 myX4_init ⟨by decide, by decide⟩ rfl rfl (gle rfl) 15 55 (gle rfl) (gle rfl) (gle rfl) (gle rfl) dX1_drive_73 gx_n (fun v9 => gv_c9 (fun fs_7 => ?_))
        refine g_mono (P2 := gP 0 G S A Fr [(a_6, .inr (18, fs_7))]) (fun _ hp => pr_up gM0 hF (j := 0) rfl _ (gUp_mono (gP_jk hF) _ hp)) ?_
        refine g_athrow F clX4 (fun _ hp => ⟨_, _, hp.2.2 0 _ _ rfl⟩) dX1_drive_76 ?_
        exact g_out F E (gpass (by decide)) (gle rfl) (gle rfl) (fun _ hp => ⟨rfl, gGo_s2 c_1 c_5, gPT hp⟩)
  · skip
    refine g_aload_n F 0 rfl rfl dX1_drive_5 ?_
    refine g_get F clX1 1 (by decide) q136 (v := .int (S.1 0 0 1)) (gd_get (pr_at (κ := 0) (i := 0) (by decide) (gc1 (gnl rfl)) (gce rfl rfl)) rfl) dX1_drive_6 ?_
    refine g_if_ne F (tgt := 23) (by decide) dX1_drive_9 (fun c_8 => ?_) (fun c_8 => ?_)
    · skip
      exact g_retV F E rfl (gle rfl) (gle rfl) dX1_drive_23 (fun _ hp => ⟨rfl, gGo_mt c_1 c_8, hp⟩)
    · skip
      refine g_new F clX4 q564 q569 q37 (5000, 0) (fs := [.null, .null, .null, .null, .null, .int (0 : Int32)]) rfl 1 6 (gle rfl) (gle rfl) (gle rfl) (gle rfl) (Pa := fun a_9 => gP 0 G S A Fr [(a_9, .inr (18, [.null, .null, .null, .null, .null, .int (0 : Int32)]))]) (pr_new hF) dX1_drive_12 (fun a_9 => ?_)
      refine g_dup F rfl dX1_drive_15 ?_
      refine g_bipush F (v := (45 : Int32)) (by decide) dX1_drive_16 ?_
      refine g_null F dX1_drive_18 ?_
      refine g_callI F (kX4_initN hl (by decide) (by decide) (pr_atT (j := 0) rfl)) rfl q577 q578 q37 q579 myX4_init ⟨by decide, by decide⟩ rfl rfl (gle rfl) 3 11 (gle rfl) (gle rfl) (gle rfl) (gle rfl) dX1_drive_19 gx_n (fun v9 => gv_c9 (fun fs_10 => ?_))
      refine g_mono (P2 := gP 0 G S A Fr [(a_9, .inr (18, fs_10))]) (fun _ hp => pr_up gM0 hF (j := 0) rfl _ (gUp_mono (gP_jk hF) _ hp)) ?_
      refine g_athrow F clX4 (fun _ hp => ⟨_, _, hp.2.2 0 _ _ rfl⟩) dX1_drive_22 ?_
      exact g_out F E (gpass (by decide)) (gle rfl) (gle rfl) (fun _ hp => ⟨rfl, gGo_mf c_1 c_8, gPT hp⟩)

def sC_worn (S : gS) (die : Int32) : gO := if ¬ die < 0 ∧ ¬ 3 < die then (.inr (.int (S.1 3 0 die.toNatClampNeg), S)) else (.inl "java/lang/IllegalArgumentException")
theorem kX1_worn {l : Launch} {G : gG} (hl : l.stackTraces = false) {S : gS} {a0 : Nat} {Fr : gH → Prop} (hF : gFr 0 Fr) (hW : gWf S) {die : Int32}  : gMet l yX1_worn (ws_ yX1_worn cX1_worn 2 (some .int)) ⟨8, 2, 7, 121⟩ G [.ref a0, .int die] (gPE 0 G S a0 Fr) (gqS (sC_worn S die) 0 G a0 Fr) (gxS (sC_worn S die) 0 G S a0 Fr) := by
  refine gMet_of hl pnX1 (gle rfl) (fun X Q hX F E hNm => ?_)
  subst hX
  change gW (X, G, 2, Q) (gPE 0 G S a0 Fr) [(0, .ref a0), (1, .int die)] 0 [] 0 0
  refine g_pe (fun A hA => ?_)
  subst hA
  change gW _ _ [(0, .ref (A 0 0)), (1, .int die)] 0 [] 0 0
  refine g_aload_n F 0 rfl rfl dX1_worn_0 ?_
  refine g_get F clX1 4 (by decide) q139 (v := .ref (A 3 0)) (gd_get (pr_at (κ := 0) (i := 0) (by decide) (gc1 (gnl rfl)) (gce rfl rfl)) rfl) dX1_worn_1 ?_
  refine g_iload_n F 1 rfl rfl dX1_worn_4 ?_
  refine g_callS F (kX1_requireDie hl (d := die)) (lw_S q875 q876 q18 q877) myX1_requireDie ⟨by decide, by decide⟩ rfl rfl (gle rfl) 2 7 (gle rfl) (gle rfl) (gle rfl) (gle rfl) dX1_worn_5 (gx_1 (fun c_1 => g_out0 F E (gle rfl) (gle rfl) (fun _ hp => ⟨(if_neg c_1), gPE_0 _ (gP_jk hF _ hp)⟩))) (gv_y (fun c_1 => ?_))
  refine g_mono (gP_jk hF) ?_
  refine g_iald F (gvp (K := 3) (by decide) ⟨c_1.1, c_1.2⟩) (pr_at (κ := 3) (i := 0) (by decide) (gc1 (gnl rfl)) (gce rfl rfl)) dX1_worn_8 ?_
  change gW _ _ _ _ (.int (S.1 3 0 die.toNatClampNeg) :: _) _ _
  exact g_retI F E rfl rfl (gle rfl) (gle rfl) dX1_worn_9 (fun _ hp => ⟨_, _, (if_pos c_1), rfl, gPE_0 _ hp⟩)

def sC_renew (S : gS) (die : Int32) : gO := if ¬ die < 0 ∧ ¬ 3 < die then (.inr (.int (S.1 3 0 die.toNatClampNeg), (gsr S.1 3 0 (upd (S.1 3 0) die.toNatClampNeg (0 : Int32)), S.2))) else (.inl "java/lang/IllegalArgumentException")
theorem kX1_renew {l : Launch} {G : gG} (hl : l.stackTraces = false) {S : gS} {a0 : Nat} {Fr : gH → Prop} (hF : gFr 0 Fr) (hW : gWf S) {die : Int32}  : gMet l yX1_renew (ws_ yX1_renew cX1_renew 3 (some .int)) ⟨8, 2, 7, 121⟩ G [.ref a0, .int die] (gPE 0 G S a0 Fr) (gqS (sC_renew S die) 0 G a0 Fr) (gxS (sC_renew S die) 0 G S a0 Fr) := by
  refine gMet_of hl pnX1 (gle rfl) (fun X Q hX F E hNm => ?_)
  subst hX
  change gW (X, G, 3, Q) (gPE 0 G S a0 Fr) [(0, .ref a0), (1, .int die)] 0 [] 0 0
  refine g_pe (fun A hA => ?_)
  subst hA
  change gW _ _ [(0, .ref (A 0 0)), (1, .int die)] 0 [] 0 0
  refine g_aload_n F 0 rfl rfl dX1_renew_0 ?_
  refine g_get F clX1 4 (by decide) q139 (v := .ref (A 3 0)) (gd_get (pr_at (κ := 0) (i := 0) (by decide) (gc1 (gnl rfl)) (gce rfl rfl)) rfl) dX1_renew_1 ?_
  refine g_iload_n F 1 rfl rfl dX1_renew_4 ?_
  refine g_callS F (kX1_requireDie hl (d := die)) (lw_S q875 q876 q18 q877) myX1_requireDie ⟨by decide, by decide⟩ rfl rfl (gle rfl) 2 7 (gle rfl) (gle rfl) (gle rfl) (gle rfl) dX1_renew_5 (gx_1 (fun c_1 => g_out0 F E (gle rfl) (gle rfl) (fun _ hp => ⟨(if_neg c_1), gPE_0 _ (gP_jk hF _ hp)⟩))) (gv_y (fun c_1 => ?_))
  refine g_mono (gP_jk hF) ?_
  refine g_iald F (gvp (K := 3) (by decide) ⟨c_1.1, c_1.2⟩) (pr_at (κ := 3) (i := 0) (by decide) (gc1 (gnl rfl)) (gce rfl rfl)) dX1_renew_8 ?_
  change gW _ _ _ _ (.int (S.1 3 0 die.toNatClampNeg) :: _) _ _
  refine g_istore_n F rfl (by show 2 < 3; decide) (lv2 := [(2, .int (S.1 3 0 die.toNatClampNeg)), (0, .ref (A 0 0)), (1, .int die)]) rfl dX1_renew_9 ?_
  refine g_aload_n F 1 rfl rfl dX1_renew_10 ?_
  refine g_get F clX1 4 (by decide) q139 (v := .ref (A 3 0)) (gd_get (pr_at (κ := 0) (i := 0) (by decide) (gc1 (gnl rfl)) (gce rfl rfl)) rfl) dX1_renew_11 ?_
  refine g_iload_n F 2 rfl rfl dX1_renew_14 ?_
  refine g_iconst F (v := (0 : Int32)) (by decide) dX1_renew_15 ?_
  refine g_iast (P2 := gP 0 G (gsr S.1 3 0 (upd (S.1 3 0) die.toNatClampNeg (0 : Int32)), S.2) A Fr []) F (gvp (K := 3) (by decide) ⟨c_1.1, c_1.2⟩) (pr_setRow (κ := 3) (i := 0) gM0 hF (upd (S.1 3 0) die.toNatClampNeg (0 : Int32)) (by decide) (gc1 (gnl rfl)) (gce rfl rfl) rfl) dX1_renew_16 ?_
  refine g_iload_n F 0 rfl rfl dX1_renew_17 ?_
  exact g_retI F E rfl rfl (gle rfl) (gle rfl) dX1_renew_18 (fun _ hp => ⟨_, _, (if_pos c_1), rfl, gPE_0 _ hp⟩)

def sC_kilos (S : gS) (lot : Int32) : gO := if gIn lot (S.2 6) then (if S.1 6 lot.toNatClampNeg 0 = (103 : Int32) then (.inr (.int (S.1 6 lot.toNatClampNeg 3), S)) else (.inr (.int (S.1 6 lot.toNatClampNeg 3), S))) else (.inl "java/lang/IndexOutOfBoundsException")
theorem kX1_kilos {l : Launch} {G : gG} (hl : l.stackTraces = false) {S : gS} {a0 : Nat} {Fr : gH → Prop} (hF : gFr 0 Fr) (hW : gWf S) {lot : Int32}  : gMet l yX1_kilos (ws_ yX1_kilos cX1_kilos 2 (some .int)) ⟨8, 1, 6, 123⟩ G [.ref a0, .int lot] (gPE 0 G S a0 Fr) (gqS (sC_kilos S lot) 0 G a0 Fr) (gxS (sC_kilos S lot) 0 G S a0 Fr) := by
  refine gMet_of hl pnX1 (gle rfl) (fun X Q hX F E hNm => ?_)
  subst hX
  change gW (X, G, 2, Q) (gPE 0 G S a0 Fr) [(0, .ref a0), (1, .int lot)] 0 [] 0 0
  refine g_pe (fun A hA => ?_)
  subst hA
  change gW _ _ [(0, .ref (A 0 0)), (1, .int lot)] 0 [] 0 0
  refine g_aload_n F 0 rfl rfl dX1_kilos_0 ?_
  refine g_get F clX1 7 (by decide) q142 (v := .ref (A 306 0)) (gd_get (pr_at (κ := 0) (i := 0) (by decide) (gc1 (gnl rfl)) (gce rfl rfl)) rfl) dX1_kilos_1 ?_
  refine g_iload_n F 1 rfl rfl dX1_kilos_4 ?_
  refine g_callS F (kX1_require hl (pr_ls (κ := 6) (by decide) (Or.inl ⟨by decide, by decide⟩) (fun _ => by decide) (fun _ => by decide)) (gw_n hW _) (x := lot)) (lw_S q784 q785 q18 q786) myX1_require ⟨by decide, by decide⟩ rfl rfl (gle rfl) 1 6 (gle rfl) (gle rfl) (gle rfl) (gle rfl) dX1_kilos_5 (gx_1 (fun c_1 => g_out0 F E (gle rfl) (gle rfl) (fun _ hp => ⟨(if_neg c_1), gPE_0 _ hp⟩))) (gv_y (fun c_1 => ?_))
  refine g_cases (x := S.1 6 lot.toNatClampNeg 0) (103 : Int32) (fun w_2 => ?_) (fun w_2 => ?_)
  · skip
    refine g_cast F (g_recv F clX6 (gd_obj (pr_at (κ := 6) (i := lot.toNatClampNeg) (by decide) (gc6 (by decide) c_1.2) (gce rfl (glot3 w_2))))) q822 (gT_w q1855 rfl) dX1_kilos_8 ?_
    refine g_getN F clX6 3 (by decide) (gT_w q655 rfl) (v := .int (S.1 6 lot.toNatClampNeg 3)) (gd_get (pr_at (κ := 6) (i := lot.toNatClampNeg) (by decide) (gc6 (by decide) c_1.2) (gce rfl (glot3 w_2))) rfl) dX1_kilos_11 ?_
    exact g_retI F E rfl rfl (gle rfl) (gle rfl) dX1_kilos_14 (fun _ hp => ⟨_, _, ((if_pos c_1).trans (if_pos w_2)), rfl, gPE_0 _ hp⟩)
  · skip
    refine g_cast F (g_recv F clX7 (gd_obj (pr_at (κ := 6) (i := lot.toNatClampNeg) (by decide) (gc6 (by decide) c_1.2) (gce rfl (glot4 w_2))))) q822 (gT_w q1854 rfl) dX1_kilos_8 ?_
    refine g_getN F clX7 3 (by decide) (gT_w q655 rfl) (v := .int (S.1 6 lot.toNatClampNeg 3)) (gd_get (pr_at (κ := 6) (i := lot.toNatClampNeg) (by decide) (gc6 (by decide) c_1.2) (gce rfl (glot4 w_2))) rfl) dX1_kilos_11 ?_
    exact g_retI F E rfl rfl (gle rfl) (gle rfl) dX1_kilos_14 (fun _ hp => ⟨_, _, ((if_pos c_1).trans (if_neg w_2)), rfl, gPE_0 _ hp⟩)

def sC_go (S : gS) (hours : Int32) : gO := if ¬ hours < (1 : Int32) ∧ ¬ (500 : Int32) < hours then (if ¬ ((9999 : Int32) < ((S.1 0 0 0) + hours)) then (.inr (.int ((S.1 0 0 0) + hours), (gsr S.1 0 0 (upd (S.1 0 0) 0 ((S.1 0 0 0) + hours)), S.2))) else (.inl "java/lang/IllegalStateException")) else (.inl "java/lang/IllegalArgumentException")
theorem kX1_go {l : Launch} {G : gG} (hl : l.stackTraces = false) {S : gS} {a0 : Nat} {Fr : gH → Prop} (hF : gFr 0 Fr) (hW : gWf S) {hours : Int32}  : gMet l yX1_go (ws_ yX1_go cX1_go 2 (some .int)) ⟨7, 3, 13, 101⟩ G [.ref a0, .int hours] (gPE 0 G S a0 Fr) (gqS (sC_go S hours) 0 G a0 Fr) (gxS (sC_go S hours) 0 G S a0 Fr) := by
  refine gMet_of hl pnX1 (gle rfl) (fun X Q hX F E hNm => ?_)
  subst hX
  change gW (X, G, 2, Q) (gPE 0 G S a0 Fr) [(0, .ref a0), (1, .int hours)] 0 [] 0 0
  refine g_pe (fun A hA => ?_)
  subst hA
  change gW _ _ [(0, .ref (A 0 0)), (1, .int hours)] 0 [] 0 0
  refine g_iconst F (v := (1 : Int32)) (by decide) dX1_go_0 ?_
  refine g_sipush F (v := (500 : Int32)) (by decide) dX1_go_1 ?_
  refine g_iconst F (v := (1 : Int32)) (by decide) dX1_go_4 ?_
  refine g_newI F (5000, 0) (N := 1) rfl (by decide) 1 1 (gle rfl) (gle rfl) (gle rfl) (gle rfl) (Pa := fun a_1 => gP 0 G S A Fr [(a_1, gIA G 1 (fun _ => 0))]) (pr_new hF) dX1_go_5 (fun a_1 => ?_)
  refine g_dup F rfl dX1_go_7 ?_
  refine g_iconst F (v := (0 : Int32)) (by decide) dX1_go_8 ?_
  refine g_iload_n F 1 rfl rfl dX1_go_9 ?_
  refine g_iastN (P2 := gP 0 G S A Fr [(a_1, gIA G 1 (upd (fun _ => 0) 0 hours))]) F (m := 0) rfl (by decide) (by decide) (pr_setT gM0 hF (j := 0) rfl) dX1_go_10 ?_
  refine g_callS F (kX1_isIn hl (pr_atT (j := 0) rfl)) (lw_S q305 q306 q18 q307) myX1_isIn ⟨by decide, by decide⟩ rfl rfl (gle rfl) 1 1 (gle rfl) (gle rfl) (gle rfl) (gle rfl) dX1_go_11 gx_n (gv_i ?_)
  refine g_top (show _ = gb (¬ hours < (1 : Int32) ∧ ¬ (500 : Int32) < hours) from rfl) ?_
  refine g_mono (P2 := gP 0 G S A Fr []) (fun _ hp => gP_Tl 0 hp) ?_
  refine g_callS F (kX1_requireArgument hl (c := ¬ hours < (1 : Int32) ∧ ¬ (500 : Int32) < hours)) (lw_S q335 q336 q18 q337) myX1_requireArgument ⟨by decide, by decide⟩ rfl rfl (gle rfl) 2 7 (gle rfl) (gle rfl) (gle rfl) (gle rfl) dX1_go_14 (gx_1 (fun c_2 => g_out0 F E (gle rfl) (gle rfl) (fun _ hp => ⟨(if_neg c_2), gPE_0 _ hp⟩))) (gv_c (fun c_2 => ?_))
  refine g_aload_n F 0 rfl rfl dX1_go_17 ?_
  refine g_get F clX1 0 (by decide) q135 (v := .int (S.1 0 0 0)) (gd_get (pr_at (κ := 0) (i := 0) (by decide) (gc1 (gnl rfl)) (gce rfl rfl)) rfl) dX1_go_18 ?_
  refine g_iload_n F 1 rfl rfl dX1_go_21 ?_
  refine g_iadd F dX1_go_22 ?_
  refine g_sipush F (v := (9999 : Int32)) (by decide) dX1_go_23 ?_
  have J_4 : gW (X, G, 2, Q) (gP 0 G S A Fr []) [(0, .ref (A 0 0)), (1, .int hours)] 34 [.int (gb (¬ ((9999 : Int32) < ((S.1 0 0 0) + hours))))] 2 7 := by
    refine g_callS F (kX1_requireState hl (c := ¬ ((9999 : Int32) < ((S.1 0 0 0) + hours)))) (lw_S q406 q407 q18 q408) myX1_requireState ⟨by decide, by decide⟩ rfl rfl (gle rfl) 3 13 (gle rfl) (gle rfl) (gle rfl) (gle rfl) dX1_go_34 (gx_1 (fun c_5 => g_out0 F E (gle rfl) (gle rfl) (fun _ hp => ⟨((if_pos c_2).trans (if_neg c_5)), gPE_0 _ hp⟩))) (gv_c (fun c_5 => ?_))
    refine g_aload_n F 0 rfl rfl dX1_go_37 ?_
    refine g_dup F rfl dX1_go_38 ?_
    refine g_get F clX1 0 (by decide) q135 (v := .int (S.1 0 0 0)) (gd_get (pr_at (κ := 0) (i := 0) (by decide) (gc1 (gnl rfl)) (gce rfl rfl)) rfl) dX1_go_39 ?_
    refine g_iload_n F 1 rfl rfl dX1_go_42 ?_
    refine g_iadd F dX1_go_43 ?_
    refine g_put (P2 := gP 0 G (gsr S.1 0 0 (upd (S.1 0 0) 0 ((S.1 0 0 0) + hours)), S.2) A Fr []) F clX1 0 (by decide) q135 rfl rfl rfl (pr_put (κ := 0) (i := 0) gM0 hF (upd (S.1 0 0) 0 ((S.1 0 0 0) + hours)) (by decide) (gc1 (gnl rfl)) (gce rfl rfl) (gnl rfl) rfl) dX1_go_44 ?_
    refine g_aload_n F 0 rfl rfl dX1_go_47 ?_
    refine g_get F clX1 0 (by decide) q135 (v := .int ((S.1 0 0 0) + hours)) (gd_get (pr_at (κ := 0) (i := 0) (by decide) (gc1 (gnl rfl)) (gce (show (gsr S.1 0 0 (upd (S.1 0 0) 0 ((S.1 0 0 0) + hours))) 0 0 = upd (S.1 0 0) 0 ((S.1 0 0 0) + hours) from gsr_s) rfl)) rfl) dX1_go_48 ?_
    exact g_retI F E rfl rfl (gle rfl) (gle rfl) dX1_go_51 (fun _ hp => ⟨_, _, ((if_pos c_2).trans (if_pos c_5)), rfl, gPE_0 _ hp⟩)
  refine g_icmp_gt F (tgt := 33) (by decide) dX1_go_26 (fun c_3 => ?_) (fun c_3 => ?_)
  · skip
    refine g_iconst F (v := (0 : Int32)) (by decide) dX1_go_33 ?_
    exact g_top (gb_f (fun q => q c_3)) J_4
  · skip
    refine g_iconst F (v := (1 : Int32)) (by decide) dX1_go_29 ?_
    refine g_goto F (tgt := 34) (by decide) dX1_go_30 ?_
    exact g_top (gb_t c_3) J_4

def sC_fire (S : gS) (batch kiln heat hours : Int32) : gO := if gIn batch (S.2 8) then (if (¬ kiln < (0 : Int32) ∧ ¬ (1 : Int32) < kiln) ∧ ((¬ heat < (700 : Int32) ∧ ¬ (1200 : Int32) < heat) ∧ (¬ hours < (1 : Int32) ∧ ¬ (12 : Int32) < hours)) then (if ¬ ((S.1 8 batch.toNatClampNeg 5) = 0) ∧ ((¬ ((S.1 0 0 0) < (S.1 8 batch.toNatClampNeg 4))) ∧ (¬ (¬ ((S.1 8 batch.toNatClampNeg 6) = (-1 : Int32))) ∧ (¬ ((S.1 0 0 0) < (S.1 4 0 kiln.toNatClampNeg))))) then (.inr (.int (S.1 0 0 2), (gsr (gsr (gsr (gsr (gsr (gsr (gsr S.1 8 batch.toNatClampNeg (upd (S.1 8 batch.toNatClampNeg) 9 ((((((1000 : Int32) - (S.1 7 ((S.1 8 batch.toNatClampNeg 0).toNatClampNeg) 2)) * (heat - (600 : Int32))) / (1000 : Int32)) + ((20 : Int32) * (S.1 7 ((S.1 8 batch.toNatClampNeg 0).toNatClampNeg) 3))) + ((5 : Int32) * hours)))) 8 batch.toNatClampNeg (upd (upd (S.1 8 batch.toNatClampNeg) 9 ((((((1000 : Int32) - (S.1 7 ((S.1 8 batch.toNatClampNeg 0).toNatClampNeg) 2)) * (heat - (600 : Int32))) / (1000 : Int32)) + ((20 : Int32) * (S.1 7 ((S.1 8 batch.toNatClampNeg 0).toNatClampNeg) 3))) + ((5 : Int32) * hours))) 10 (gmax (0 : Int32) (gmin (999 : Int32) (((S.1 7 ((S.1 8 batch.toNatClampNeg 0).toNatClampNeg) 2) - ((heat - (700 : Int32)) / (10 : Int32))) + ((5 : Int32) * (S.1 7 ((S.1 8 batch.toNatClampNeg 0).toNatClampNeg) 3))))))) 8 batch.toNatClampNeg (upd (upd (upd (S.1 8 batch.toNatClampNeg) 9 ((((((1000 : Int32) - (S.1 7 ((S.1 8 batch.toNatClampNeg 0).toNatClampNeg) 2)) * (heat - (600 : Int32))) / (1000 : Int32)) + ((20 : Int32) * (S.1 7 ((S.1 8 batch.toNatClampNeg 0).toNatClampNeg) 3))) + ((5 : Int32) * hours))) 10 (gmax (0 : Int32) (gmin (999 : Int32) (((S.1 7 ((S.1 8 batch.toNatClampNeg 0).toNatClampNeg) 2) - ((heat - (700 : Int32)) / (10 : Int32))) + ((5 : Int32) * (S.1 7 ((S.1 8 batch.toNatClampNeg 0).toNatClampNeg) 3)))))) 7 kiln)) 8 batch.toNatClampNeg (upd (upd (upd (upd (S.1 8 batch.toNatClampNeg) 9 ((((((1000 : Int32) - (S.1 7 ((S.1 8 batch.toNatClampNeg 0).toNatClampNeg) 2)) * (heat - (600 : Int32))) / (1000 : Int32)) + ((20 : Int32) * (S.1 7 ((S.1 8 batch.toNatClampNeg 0).toNatClampNeg) 3))) + ((5 : Int32) * hours))) 10 (gmax (0 : Int32) (gmin (999 : Int32) (((S.1 7 ((S.1 8 batch.toNatClampNeg 0).toNatClampNeg) 2) - ((heat - (700 : Int32)) / (10 : Int32))) + ((5 : Int32) * (S.1 7 ((S.1 8 batch.toNatClampNeg 0).toNatClampNeg) 3)))))) 7 kiln) 6 (S.1 0 0 2))) 8 batch.toNatClampNeg (upd (upd (upd (upd (upd (S.1 8 batch.toNatClampNeg) 9 ((((((1000 : Int32) - (S.1 7 ((S.1 8 batch.toNatClampNeg 0).toNatClampNeg) 2)) * (heat - (600 : Int32))) / (1000 : Int32)) + ((20 : Int32) * (S.1 7 ((S.1 8 batch.toNatClampNeg 0).toNatClampNeg) 3))) + ((5 : Int32) * hours))) 10 (gmax (0 : Int32) (gmin (999 : Int32) (((S.1 7 ((S.1 8 batch.toNatClampNeg 0).toNatClampNeg) 2) - ((heat - (700 : Int32)) / (10 : Int32))) + ((5 : Int32) * (S.1 7 ((S.1 8 batch.toNatClampNeg 0).toNatClampNeg) 3)))))) 7 kiln) 6 (S.1 0 0 2)) 4 ((S.1 0 0 0) + hours))) 4 0 (upd (S.1 4 0) kiln.toNatClampNeg ((S.1 0 0 0) + hours))) 0 0 (upd (S.1 0 0) 2 ((S.1 0 0 2) + (1 : Int32))), S.2))) else (.inl "java/lang/UnsupportedOperationException")) else (.inl "java/lang/IllegalArgumentException")) else (.inl "java/lang/IndexOutOfBoundsException")
theorem kX1_fire {l : Launch} {G : gG} (hl : l.stackTraces = false) {S : gS} {a0 : Nat} {Fr : gH → Prop} (hF : gFr 0 Fr) (hW : gWf S) {batch kiln heat hours : Int32}  : gMet l yX1_fire (ws_ yX1_fire cX1_fire 7 (some .int)) ⟨8, 6, 21, 123⟩ G [.ref a0, .int batch, .int kiln, .int heat, .int hours] (gPE 0 G S a0 Fr) (gqS (sC_fire S batch kiln heat hours) 0 G a0 Fr) (gxS (sC_fire S batch kiln heat hours) 0 G S a0 Fr) := by
  refine gMet_of hl pnX1 (gle rfl) (fun X Q hX F E hNm => ?_)
  subst hX
  change gW (X, G, 7, Q) (gPE 0 G S a0 Fr) [(0, .ref a0), (1, .int batch), (2, .int kiln), (3, .int heat), (4, .int hours)] 0 [] 0 0
  refine g_pe (fun A hA => ?_)
  subst hA
  change gW _ _ [(0, .ref (A 0 0)), (1, .int batch), (2, .int kiln), (3, .int heat), (4, .int hours)] 0 [] 0 0
  refine g_aload_n F 0 rfl rfl dX1_fire_0 ?_
  refine g_get F clX1 9 (by decide) q144 (v := .ref (A 308 0)) (gd_get (pr_at (κ := 0) (i := 0) (by decide) (gc1 (gnl rfl)) (gce rfl rfl)) rfl) dX1_fire_1 ?_
  refine g_iload_n F 1 rfl rfl dX1_fire_4 ?_
  refine g_callS F (kX1_require hl (pr_ls (κ := 8) (by decide) (Or.inl ⟨by decide, by decide⟩) (fun _ => by decide) (fun _ => by decide)) (gw_n hW _) (x := batch)) (lw_S q784 q785 q18 q786) myX1_require ⟨by decide, by decide⟩ rfl rfl (gle rfl) 1 6 (gle rfl) (gle rfl) (gle rfl) (gle rfl) dX1_fire_5 (gx_1 (fun c_1 => g_out0 F E (gle rfl) (gle rfl) (fun _ hp => ⟨(if_neg c_1), gPE_0 _ hp⟩))) (gv_y (fun c_1 => ?_))
  refine g_castS F (g_recv F clX9 (gd_obj (pr_at (κ := 8) (i := batch.toNatClampNeg) (by decide) (gc6 (by decide) c_1.2) (gce rfl rfl)))) q295 dX1_fire_8 ?_
  refine g_astore F (by show 5 < 7; decide) (lv2 := [(5, .ref (A 8 batch.toNatClampNeg)), (0, .ref (A 0 0)), (1, .int batch), (2, .int kiln), (3, .int heat), (4, .int hours)]) rfl dX1_fire_11 ?_
  refine g_iconst F (v := (0 : Int32)) (by decide) dX1_fire_13 ?_
  refine g_iconst F (v := (1 : Int32)) (by decide) dX1_fire_14 ?_
  refine g_iconst F (v := (1 : Int32)) (by decide) dX1_fire_15 ?_
  refine g_newI F (5000, 0) (N := 1) rfl (by decide) 2 7 (gle rfl) (gle rfl) (gle rfl) (gle rfl) (Pa := fun a_2 => gP 0 G S A Fr [(a_2, gIA G 1 (fun _ => 0))]) (pr_new hF) dX1_fire_16 (fun a_2 => ?_)
  refine g_dup F rfl dX1_fire_18 ?_
  refine g_iconst F (v := (0 : Int32)) (by decide) dX1_fire_19 ?_
  refine g_iload_n F 3 rfl rfl dX1_fire_20 ?_
  refine g_iastN (P2 := gP 0 G S A Fr [(a_2, gIA G 1 (upd (fun _ => 0) 0 kiln))]) F (m := 0) rfl (by decide) (by decide) (pr_setT gM0 hF (j := 0) rfl) dX1_fire_21 ?_
  refine g_callS F (kX1_isIn hl (pr_atT (j := 0) rfl)) (lw_S q305 q306 q18 q307) myX1_isIn ⟨by decide, by decide⟩ rfl rfl (gle rfl) 2 7 (gle rfl) (gle rfl) (gle rfl) (gle rfl) dX1_fire_22 gx_n (gv_i ?_)
  refine g_top (show _ = gb (¬ kiln < (0 : Int32) ∧ ¬ (1 : Int32) < kiln) from rfl) ?_
  refine g_mono (P2 := gP 0 G S A Fr []) (fun _ hp => gP_Tl 0 hp) ?_
  have J_8 : gW (X, G, 7, Q) (gP 0 G S A Fr []) [(5, .ref (A 8 batch.toNatClampNeg)), (0, .ref (A 0 0)), (1, .int batch), (2, .int kiln), (3, .int heat), (4, .int hours)] 69 [.int (gb ((¬ kiln < (0 : Int32) ∧ ¬ (1 : Int32) < kiln) ∧ ((¬ heat < (700 : Int32) ∧ ¬ (1200 : Int32) < heat) ∧ (¬ hours < (1 : Int32) ∧ ¬ (12 : Int32) < hours))))] 4 9 := by
    refine g_callS F (kX1_requireArgument hl (c := (¬ kiln < (0 : Int32) ∧ ¬ (1 : Int32) < kiln) ∧ ((¬ heat < (700 : Int32) ∧ ¬ (1200 : Int32) < heat) ∧ (¬ hours < (1 : Int32) ∧ ¬ (12 : Int32) < hours)))) (lw_S q335 q336 q18 q337) myX1_requireArgument ⟨by decide, by decide⟩ rfl rfl (gle rfl) 5 15 (gle rfl) (gle rfl) (gle rfl) (gle rfl) dX1_fire_69 (gx_1 (fun c_9 => g_out0 F E (gle rfl) (gle rfl) (fun _ hp => ⟨((if_pos c_1).trans (if_neg c_9)), gPE_0 _ hp⟩))) (gv_c (fun c_9 => ?_))
    refine g_aload F 0 rfl dX1_fire_72 ?_
    refine g_getN F clX9 6 (by decide) (gT_w q895 rfl) (v := .int (S.1 8 batch.toNatClampNeg 5)) (gd_get (pr_at (κ := 8) (i := batch.toNatClampNeg) (by decide) (gc6 (by decide) c_1.2) (gce rfl rfl)) rfl) dX1_fire_74 ?_
    have J_14 : gW (X, G, 7, Q) (gP 0 G S A Fr []) [(5, .ref (A 8 batch.toNatClampNeg)), (0, .ref (A 0 0)), (1, .int batch), (2, .int kiln), (3, .int heat), (4, .int hours)] 118 [.int (gb (¬ ((S.1 8 batch.toNatClampNeg 5) = 0) ∧ ((¬ ((S.1 0 0 0) < (S.1 8 batch.toNatClampNeg 4))) ∧ (¬ (¬ ((S.1 8 batch.toNatClampNeg 6) = (-1 : Int32))) ∧ (¬ ((S.1 0 0 0) < (S.1 4 0 kiln.toNatClampNeg)))))))] 5 15 := by
      refine g_callS F (kX1_requireSupported hl (c := ¬ ((S.1 8 batch.toNatClampNeg 5) = 0) ∧ ((¬ ((S.1 0 0 0) < (S.1 8 batch.toNatClampNeg 4))) ∧ (¬ (¬ ((S.1 8 batch.toNatClampNeg 6) = (-1 : Int32))) ∧ (¬ ((S.1 0 0 0) < (S.1 4 0 kiln.toNatClampNeg))))))) (lw_S q512 q513 q18 q514) myX1_requireSupported ⟨by decide, by decide⟩ rfl rfl (gle rfl) 6 21 (gle rfl) (gle rfl) (gle rfl) (gle rfl) dX1_fire_118 (gx_1 (fun c_15 => g_out0 F E (gle rfl) (gle rfl) (fun _ hp => ⟨((if_pos c_1).trans ((if_pos c_9).trans (if_neg c_15))), gPE_0 _ hp⟩))) (gv_c (fun c_15 => ?_))
      refine g_aload F 0 rfl dX1_fire_121 ?_
      refine g_getN F clX9 1 (by decide) (gT_w q886 rfl) (v := .ref (A 7 (S.1 8 batch.toNatClampNeg 0).toNatClampNeg)) (gd_get (pr_at (κ := 8) (i := batch.toNatClampNeg) (by decide) (gc6 (by decide) c_1.2) (gce rfl rfl)) rfl) dX1_fire_123 ?_
      refine g_astore F (by show 6 < 7; decide) (lv2 := [(6, .ref (A 7 (S.1 8 batch.toNatClampNeg 0).toNatClampNeg)), (5, .ref (A 8 batch.toNatClampNeg)), (0, .ref (A 0 0)), (1, .int batch), (2, .int kiln), (3, .int heat), (4, .int hours)]) rfl dX1_fire_126 ?_
      refine g_aload F 1 rfl dX1_fire_128 ?_
      refine g_sipush F (v := (1000 : Int32)) (by decide) dX1_fire_130 ?_
      refine g_aload F 0 rfl dX1_fire_133 ?_
      refine g_getN F clX8 2 (by decide) (gT_w q844 rfl) (v := .int (S.1 7 ((S.1 8 batch.toNatClampNeg 0).toNatClampNeg) 2)) (gd_get (pr_at (κ := 7) (i := (S.1 8 batch.toNatClampNeg 0).toNatClampNeg) (by decide) (gc6 (by decide) (gw_8_0 hW c_1.2).2) (gce rfl rfl)) rfl) dX1_fire_135 ?_
      refine g_isub F dX1_fire_138 ?_
      refine g_iload_n F 5 rfl rfl dX1_fire_139 ?_
      refine g_sipush F (v := (600 : Int32)) (by decide) dX1_fire_140 ?_
      refine g_isub F dX1_fire_143 ?_
      refine g_imul F dX1_fire_144 ?_
      refine g_sipush F (v := (1000 : Int32)) (by decide) dX1_fire_145 ?_
      refine g_idiv F (by decide) dX1_fire_148 ?_
      refine g_bipush F (v := (20 : Int32)) (by decide) dX1_fire_149 ?_
      refine g_aload F 0 rfl dX1_fire_151 ?_
      refine g_getN F clX8 3 (by decide) (gT_w q846 rfl) (v := .int (S.1 7 ((S.1 8 batch.toNatClampNeg 0).toNatClampNeg) 3)) (gd_get (pr_at (κ := 7) (i := (S.1 8 batch.toNatClampNeg 0).toNatClampNeg) (by decide) (gc6 (by decide) (gw_8_0 hW c_1.2).2) (gce rfl rfl)) rfl) dX1_fire_153 ?_
      refine g_imul F dX1_fire_156 ?_
      refine g_iadd F dX1_fire_157 ?_
      refine g_iconst F (v := (5 : Int32)) (by decide) dX1_fire_158 ?_
      refine g_iload F 6 rfl dX1_fire_159 ?_
      refine g_imul F dX1_fire_161 ?_
      refine g_iadd F dX1_fire_162 ?_
      refine g_putN (P2 := gP 0 G (gsr S.1 8 batch.toNatClampNeg (upd (S.1 8 batch.toNatClampNeg) 9 ((((((1000 : Int32) - (S.1 7 ((S.1 8 batch.toNatClampNeg 0).toNatClampNeg) 2)) * (heat - (600 : Int32))) / (1000 : Int32)) + ((20 : Int32) * (S.1 7 ((S.1 8 batch.toNatClampNeg 0).toNatClampNeg) 3))) + ((5 : Int32) * hours))), S.2) A Fr []) F clX9 10 (by decide) (gT_w q901 rfl) rfl rfl rfl (pr_put (κ := 8) (i := batch.toNatClampNeg) gM0 hF (upd (S.1 8 batch.toNatClampNeg) 9 ((((((1000 : Int32) - (S.1 7 ((S.1 8 batch.toNatClampNeg 0).toNatClampNeg) 2)) * (heat - (600 : Int32))) / (1000 : Int32)) + ((20 : Int32) * (S.1 7 ((S.1 8 batch.toNatClampNeg 0).toNatClampNeg) 3))) + ((5 : Int32) * hours))) (by decide) (gc6 (by decide) c_1.2) (gce rfl rfl) (gnl rfl) rfl) dX1_fire_163 ?_
      refine g_aload F 1 rfl dX1_fire_166 ?_
      refine g_iconst F (v := (0 : Int32)) (by decide) dX1_fire_168 ?_
      refine g_sipush F (v := (999 : Int32)) (by decide) dX1_fire_169 ?_
      refine g_aload F 0 rfl dX1_fire_172 ?_
      refine g_getN F clX8 2 (by decide) (gT_w q844 rfl) (v := .int (S.1 7 ((S.1 8 batch.toNatClampNeg 0).toNatClampNeg) 2)) (gd_get (pr_at (κ := 7) (i := (S.1 8 batch.toNatClampNeg 0).toNatClampNeg) (by decide) (gc6 (by decide) (gw_8_0 hW c_1.2).2) (gce (show (gsr S.1 8 batch.toNatClampNeg (upd (S.1 8 batch.toNatClampNeg) 9 ((((((1000 : Int32) - (S.1 7 ((S.1 8 batch.toNatClampNeg 0).toNatClampNeg) 2)) * (heat - (600 : Int32))) / (1000 : Int32)) + ((20 : Int32) * (S.1 7 ((S.1 8 batch.toNatClampNeg 0).toNatClampNeg) 3))) + ((5 : Int32) * hours)))) 7 ((S.1 8 batch.toNatClampNeg 0).toNatClampNeg) = S.1 7 ((S.1 8 batch.toNatClampNeg 0).toNatClampNeg) from (gsr_p (by decide) rfl)) rfl)) rfl) dX1_fire_174 ?_
      refine g_iload_n F 5 rfl rfl dX1_fire_177 ?_
      refine g_sipush F (v := (700 : Int32)) (by decide) dX1_fire_178 ?_
      refine g_isub F dX1_fire_181 ?_
      refine g_bipush F (v := (10 : Int32)) (by decide) dX1_fire_182 ?_
      refine g_idiv F (by decide) dX1_fire_184 ?_
      refine g_isub F dX1_fire_185 ?_
      refine g_iconst F (v := (5 : Int32)) (by decide) dX1_fire_186 ?_
      refine g_aload F 0 rfl dX1_fire_187 ?_
      refine g_getN F clX8 3 (by decide) (gT_w q846 rfl) (v := .int (S.1 7 ((S.1 8 batch.toNatClampNeg 0).toNatClampNeg) 3)) (gd_get (pr_at (κ := 7) (i := (S.1 8 batch.toNatClampNeg 0).toNatClampNeg) (by decide) (gc6 (by decide) (gw_8_0 hW c_1.2).2) (gce (show (gsr S.1 8 batch.toNatClampNeg (upd (S.1 8 batch.toNatClampNeg) 9 ((((((1000 : Int32) - (S.1 7 ((S.1 8 batch.toNatClampNeg 0).toNatClampNeg) 2)) * (heat - (600 : Int32))) / (1000 : Int32)) + ((20 : Int32) * (S.1 7 ((S.1 8 batch.toNatClampNeg 0).toNatClampNeg) 3))) + ((5 : Int32) * hours)))) 7 ((S.1 8 batch.toNatClampNeg 0).toNatClampNeg) = S.1 7 ((S.1 8 batch.toNatClampNeg 0).toNatClampNeg) from (gsr_p (by decide) rfl)) rfl)) rfl) dX1_fire_189 ?_
      refine g_imul F dX1_fire_192 ?_
      refine g_iadd F dX1_fire_193 ?_
      refine g_mmin F q966 (gle rfl) (gle rfl) (gle rfl) (gle rfl) dX1_fire_194 ?_
      refine g_mmax F q967 (gle rfl) (gle rfl) (gle rfl) (gle rfl) dX1_fire_197 ?_
      refine g_putN (P2 := gP 0 G (gsr (gsr S.1 8 batch.toNatClampNeg (upd (S.1 8 batch.toNatClampNeg) 9 ((((((1000 : Int32) - (S.1 7 ((S.1 8 batch.toNatClampNeg 0).toNatClampNeg) 2)) * (heat - (600 : Int32))) / (1000 : Int32)) + ((20 : Int32) * (S.1 7 ((S.1 8 batch.toNatClampNeg 0).toNatClampNeg) 3))) + ((5 : Int32) * hours)))) 8 batch.toNatClampNeg (upd (upd (S.1 8 batch.toNatClampNeg) 9 ((((((1000 : Int32) - (S.1 7 ((S.1 8 batch.toNatClampNeg 0).toNatClampNeg) 2)) * (heat - (600 : Int32))) / (1000 : Int32)) + ((20 : Int32) * (S.1 7 ((S.1 8 batch.toNatClampNeg 0).toNatClampNeg) 3))) + ((5 : Int32) * hours))) 10 (gmax (0 : Int32) (gmin (999 : Int32) (((S.1 7 ((S.1 8 batch.toNatClampNeg 0).toNatClampNeg) 2) - ((heat - (700 : Int32)) / (10 : Int32))) + ((5 : Int32) * (S.1 7 ((S.1 8 batch.toNatClampNeg 0).toNatClampNeg) 3)))))), S.2) A Fr []) F clX9 11 (by decide) (gT_w q904 rfl) rfl rfl rfl (pr_put (κ := 8) (i := batch.toNatClampNeg) gM0 hF (upd (upd (S.1 8 batch.toNatClampNeg) 9 ((((((1000 : Int32) - (S.1 7 ((S.1 8 batch.toNatClampNeg 0).toNatClampNeg) 2)) * (heat - (600 : Int32))) / (1000 : Int32)) + ((20 : Int32) * (S.1 7 ((S.1 8 batch.toNatClampNeg 0).toNatClampNeg) 3))) + ((5 : Int32) * hours))) 10 (gmax (0 : Int32) (gmin (999 : Int32) (((S.1 7 ((S.1 8 batch.toNatClampNeg 0).toNatClampNeg) 2) - ((heat - (700 : Int32)) / (10 : Int32))) + ((5 : Int32) * (S.1 7 ((S.1 8 batch.toNatClampNeg 0).toNatClampNeg) 3)))))) (by decide) (gc6 (by decide) c_1.2) (gce (show (gsr S.1 8 batch.toNatClampNeg (upd (S.1 8 batch.toNatClampNeg) 9 ((((((1000 : Int32) - (S.1 7 ((S.1 8 batch.toNatClampNeg 0).toNatClampNeg) 2)) * (heat - (600 : Int32))) / (1000 : Int32)) + ((20 : Int32) * (S.1 7 ((S.1 8 batch.toNatClampNeg 0).toNatClampNeg) 3))) + ((5 : Int32) * hours)))) 8 batch.toNatClampNeg = upd (S.1 8 batch.toNatClampNeg) 9 ((((((1000 : Int32) - (S.1 7 ((S.1 8 batch.toNatClampNeg 0).toNatClampNeg) 2)) * (heat - (600 : Int32))) / (1000 : Int32)) + ((20 : Int32) * (S.1 7 ((S.1 8 batch.toNatClampNeg 0).toNatClampNeg) 3))) + ((5 : Int32) * hours)) from gsr_s) rfl) (gnl rfl) rfl) dX1_fire_200 ?_
      refine g_aload F 1 rfl dX1_fire_203 ?_
      refine g_iload_n F 4 rfl rfl dX1_fire_205 ?_
      refine g_putN (P2 := gP 0 G (gsr (gsr (gsr S.1 8 batch.toNatClampNeg (upd (S.1 8 batch.toNatClampNeg) 9 ((((((1000 : Int32) - (S.1 7 ((S.1 8 batch.toNatClampNeg 0).toNatClampNeg) 2)) * (heat - (600 : Int32))) / (1000 : Int32)) + ((20 : Int32) * (S.1 7 ((S.1 8 batch.toNatClampNeg 0).toNatClampNeg) 3))) + ((5 : Int32) * hours)))) 8 batch.toNatClampNeg (upd (upd (S.1 8 batch.toNatClampNeg) 9 ((((((1000 : Int32) - (S.1 7 ((S.1 8 batch.toNatClampNeg 0).toNatClampNeg) 2)) * (heat - (600 : Int32))) / (1000 : Int32)) + ((20 : Int32) * (S.1 7 ((S.1 8 batch.toNatClampNeg 0).toNatClampNeg) 3))) + ((5 : Int32) * hours))) 10 (gmax (0 : Int32) (gmin (999 : Int32) (((S.1 7 ((S.1 8 batch.toNatClampNeg 0).toNatClampNeg) 2) - ((heat - (700 : Int32)) / (10 : Int32))) + ((5 : Int32) * (S.1 7 ((S.1 8 batch.toNatClampNeg 0).toNatClampNeg) 3))))))) 8 batch.toNatClampNeg (upd (upd (upd (S.1 8 batch.toNatClampNeg) 9 ((((((1000 : Int32) - (S.1 7 ((S.1 8 batch.toNatClampNeg 0).toNatClampNeg) 2)) * (heat - (600 : Int32))) / (1000 : Int32)) + ((20 : Int32) * (S.1 7 ((S.1 8 batch.toNatClampNeg 0).toNatClampNeg) 3))) + ((5 : Int32) * hours))) 10 (gmax (0 : Int32) (gmin (999 : Int32) (((S.1 7 ((S.1 8 batch.toNatClampNeg 0).toNatClampNeg) 2) - ((heat - (700 : Int32)) / (10 : Int32))) + ((5 : Int32) * (S.1 7 ((S.1 8 batch.toNatClampNeg 0).toNatClampNeg) 3)))))) 7 kiln), S.2) A Fr []) F clX9 9 (by decide) (gT_w q900 rfl) rfl rfl rfl (pr_put (κ := 8) (i := batch.toNatClampNeg) gM0 hF (upd (upd (upd (S.1 8 batch.toNatClampNeg) 9 ((((((1000 : Int32) - (S.1 7 ((S.1 8 batch.toNatClampNeg 0).toNatClampNeg) 2)) * (heat - (600 : Int32))) / (1000 : Int32)) + ((20 : Int32) * (S.1 7 ((S.1 8 batch.toNatClampNeg 0).toNatClampNeg) 3))) + ((5 : Int32) * hours))) 10 (gmax (0 : Int32) (gmin (999 : Int32) (((S.1 7 ((S.1 8 batch.toNatClampNeg 0).toNatClampNeg) 2) - ((heat - (700 : Int32)) / (10 : Int32))) + ((5 : Int32) * (S.1 7 ((S.1 8 batch.toNatClampNeg 0).toNatClampNeg) 3)))))) 7 kiln) (by decide) (gc6 (by decide) c_1.2) (gce (show (gsr (gsr S.1 8 batch.toNatClampNeg (upd (S.1 8 batch.toNatClampNeg) 9 ((((((1000 : Int32) - (S.1 7 ((S.1 8 batch.toNatClampNeg 0).toNatClampNeg) 2)) * (heat - (600 : Int32))) / (1000 : Int32)) + ((20 : Int32) * (S.1 7 ((S.1 8 batch.toNatClampNeg 0).toNatClampNeg) 3))) + ((5 : Int32) * hours)))) 8 batch.toNatClampNeg (upd (upd (S.1 8 batch.toNatClampNeg) 9 ((((((1000 : Int32) - (S.1 7 ((S.1 8 batch.toNatClampNeg 0).toNatClampNeg) 2)) * (heat - (600 : Int32))) / (1000 : Int32)) + ((20 : Int32) * (S.1 7 ((S.1 8 batch.toNatClampNeg 0).toNatClampNeg) 3))) + ((5 : Int32) * hours))) 10 (gmax (0 : Int32) (gmin (999 : Int32) (((S.1 7 ((S.1 8 batch.toNatClampNeg 0).toNatClampNeg) 2) - ((heat - (700 : Int32)) / (10 : Int32))) + ((5 : Int32) * (S.1 7 ((S.1 8 batch.toNatClampNeg 0).toNatClampNeg) 3))))))) 8 batch.toNatClampNeg = upd (upd (S.1 8 batch.toNatClampNeg) 9 ((((((1000 : Int32) - (S.1 7 ((S.1 8 batch.toNatClampNeg 0).toNatClampNeg) 2)) * (heat - (600 : Int32))) / (1000 : Int32)) + ((20 : Int32) * (S.1 7 ((S.1 8 batch.toNatClampNeg 0).toNatClampNeg) 3))) + ((5 : Int32) * hours))) 10 (gmax (0 : Int32) (gmin (999 : Int32) (((S.1 7 ((S.1 8 batch.toNatClampNeg 0).toNatClampNeg) 2) - ((heat - (700 : Int32)) / (10 : Int32))) + ((5 : Int32) * (S.1 7 ((S.1 8 batch.toNatClampNeg 0).toNatClampNeg) 3))))) from gsr_s) rfl) (gnl rfl) rfl) dX1_fire_206 ?_
      refine g_aload F 1 rfl dX1_fire_209 ?_
      refine g_aload_n F 2 rfl rfl dX1_fire_211 ?_
      refine g_get F clX1 10 (by decide) q145 (v := .int (S.1 0 0 2)) (gd_get (pr_at (κ := 0) (i := 0) (by decide) (gc1 (gnl rfl)) (gce (show (gsr (gsr (gsr S.1 8 batch.toNatClampNeg (upd (S.1 8 batch.toNatClampNeg) 9 ((((((1000 : Int32) - (S.1 7 ((S.1 8 batch.toNatClampNeg 0).toNatClampNeg) 2)) * (heat - (600 : Int32))) / (1000 : Int32)) + ((20 : Int32) * (S.1 7 ((S.1 8 batch.toNatClampNeg 0).toNatClampNeg) 3))) + ((5 : Int32) * hours)))) 8 batch.toNatClampNeg (upd (upd (S.1 8 batch.toNatClampNeg) 9 ((((((1000 : Int32) - (S.1 7 ((S.1 8 batch.toNatClampNeg 0).toNatClampNeg) 2)) * (heat - (600 : Int32))) / (1000 : Int32)) + ((20 : Int32) * (S.1 7 ((S.1 8 batch.toNatClampNeg 0).toNatClampNeg) 3))) + ((5 : Int32) * hours))) 10 (gmax (0 : Int32) (gmin (999 : Int32) (((S.1 7 ((S.1 8 batch.toNatClampNeg 0).toNatClampNeg) 2) - ((heat - (700 : Int32)) / (10 : Int32))) + ((5 : Int32) * (S.1 7 ((S.1 8 batch.toNatClampNeg 0).toNatClampNeg) 3))))))) 8 batch.toNatClampNeg (upd (upd (upd (S.1 8 batch.toNatClampNeg) 9 ((((((1000 : Int32) - (S.1 7 ((S.1 8 batch.toNatClampNeg 0).toNatClampNeg) 2)) * (heat - (600 : Int32))) / (1000 : Int32)) + ((20 : Int32) * (S.1 7 ((S.1 8 batch.toNatClampNeg 0).toNatClampNeg) 3))) + ((5 : Int32) * hours))) 10 (gmax (0 : Int32) (gmin (999 : Int32) (((S.1 7 ((S.1 8 batch.toNatClampNeg 0).toNatClampNeg) 2) - ((heat - (700 : Int32)) / (10 : Int32))) + ((5 : Int32) * (S.1 7 ((S.1 8 batch.toNatClampNeg 0).toNatClampNeg) 3)))))) 7 kiln)) 0 0 = S.1 0 0 from (gsr_p (by decide) (gsr_p (by decide) (gsr_p (by decide) rfl)))) rfl)) rfl) dX1_fire_212 ?_
      refine g_putN (P2 := gP 0 G (gsr (gsr (gsr (gsr S.1 8 batch.toNatClampNeg (upd (S.1 8 batch.toNatClampNeg) 9 ((((((1000 : Int32) - (S.1 7 ((S.1 8 batch.toNatClampNeg 0).toNatClampNeg) 2)) * (heat - (600 : Int32))) / (1000 : Int32)) + ((20 : Int32) * (S.1 7 ((S.1 8 batch.toNatClampNeg 0).toNatClampNeg) 3))) + ((5 : Int32) * hours)))) 8 batch.toNatClampNeg (upd (upd (S.1 8 batch.toNatClampNeg) 9 ((((((1000 : Int32) - (S.1 7 ((S.1 8 batch.toNatClampNeg 0).toNatClampNeg) 2)) * (heat - (600 : Int32))) / (1000 : Int32)) + ((20 : Int32) * (S.1 7 ((S.1 8 batch.toNatClampNeg 0).toNatClampNeg) 3))) + ((5 : Int32) * hours))) 10 (gmax (0 : Int32) (gmin (999 : Int32) (((S.1 7 ((S.1 8 batch.toNatClampNeg 0).toNatClampNeg) 2) - ((heat - (700 : Int32)) / (10 : Int32))) + ((5 : Int32) * (S.1 7 ((S.1 8 batch.toNatClampNeg 0).toNatClampNeg) 3))))))) 8 batch.toNatClampNeg (upd (upd (upd (S.1 8 batch.toNatClampNeg) 9 ((((((1000 : Int32) - (S.1 7 ((S.1 8 batch.toNatClampNeg 0).toNatClampNeg) 2)) * (heat - (600 : Int32))) / (1000 : Int32)) + ((20 : Int32) * (S.1 7 ((S.1 8 batch.toNatClampNeg 0).toNatClampNeg) 3))) + ((5 : Int32) * hours))) 10 (gmax (0 : Int32) (gmin (999 : Int32) (((S.1 7 ((S.1 8 batch.toNatClampNeg 0).toNatClampNeg) 2) - ((heat - (700 : Int32)) / (10 : Int32))) + ((5 : Int32) * (S.1 7 ((S.1 8 batch.toNatClampNeg 0).toNatClampNeg) 3)))))) 7 kiln)) 8 batch.toNatClampNeg (upd (upd (upd (upd (S.1 8 batch.toNatClampNeg) 9 ((((((1000 : Int32) - (S.1 7 ((S.1 8 batch.toNatClampNeg 0).toNatClampNeg) 2)) * (heat - (600 : Int32))) / (1000 : Int32)) + ((20 : Int32) * (S.1 7 ((S.1 8 batch.toNatClampNeg 0).toNatClampNeg) 3))) + ((5 : Int32) * hours))) 10 (gmax (0 : Int32) (gmin (999 : Int32) (((S.1 7 ((S.1 8 batch.toNatClampNeg 0).toNatClampNeg) 2) - ((heat - (700 : Int32)) / (10 : Int32))) + ((5 : Int32) * (S.1 7 ((S.1 8 batch.toNatClampNeg 0).toNatClampNeg) 3)))))) 7 kiln) 6 (S.1 0 0 2)), S.2) A Fr []) F clX9 8 (by decide) (gT_w q898 rfl) rfl rfl rfl (pr_put (κ := 8) (i := batch.toNatClampNeg) gM0 hF (upd (upd (upd (upd (S.1 8 batch.toNatClampNeg) 9 ((((((1000 : Int32) - (S.1 7 ((S.1 8 batch.toNatClampNeg 0).toNatClampNeg) 2)) * (heat - (600 : Int32))) / (1000 : Int32)) + ((20 : Int32) * (S.1 7 ((S.1 8 batch.toNatClampNeg 0).toNatClampNeg) 3))) + ((5 : Int32) * hours))) 10 (gmax (0 : Int32) (gmin (999 : Int32) (((S.1 7 ((S.1 8 batch.toNatClampNeg 0).toNatClampNeg) 2) - ((heat - (700 : Int32)) / (10 : Int32))) + ((5 : Int32) * (S.1 7 ((S.1 8 batch.toNatClampNeg 0).toNatClampNeg) 3)))))) 7 kiln) 6 (S.1 0 0 2)) (by decide) (gc6 (by decide) c_1.2) (gce (show (gsr (gsr (gsr S.1 8 batch.toNatClampNeg (upd (S.1 8 batch.toNatClampNeg) 9 ((((((1000 : Int32) - (S.1 7 ((S.1 8 batch.toNatClampNeg 0).toNatClampNeg) 2)) * (heat - (600 : Int32))) / (1000 : Int32)) + ((20 : Int32) * (S.1 7 ((S.1 8 batch.toNatClampNeg 0).toNatClampNeg) 3))) + ((5 : Int32) * hours)))) 8 batch.toNatClampNeg (upd (upd (S.1 8 batch.toNatClampNeg) 9 ((((((1000 : Int32) - (S.1 7 ((S.1 8 batch.toNatClampNeg 0).toNatClampNeg) 2)) * (heat - (600 : Int32))) / (1000 : Int32)) + ((20 : Int32) * (S.1 7 ((S.1 8 batch.toNatClampNeg 0).toNatClampNeg) 3))) + ((5 : Int32) * hours))) 10 (gmax (0 : Int32) (gmin (999 : Int32) (((S.1 7 ((S.1 8 batch.toNatClampNeg 0).toNatClampNeg) 2) - ((heat - (700 : Int32)) / (10 : Int32))) + ((5 : Int32) * (S.1 7 ((S.1 8 batch.toNatClampNeg 0).toNatClampNeg) 3))))))) 8 batch.toNatClampNeg (upd (upd (upd (S.1 8 batch.toNatClampNeg) 9 ((((((1000 : Int32) - (S.1 7 ((S.1 8 batch.toNatClampNeg 0).toNatClampNeg) 2)) * (heat - (600 : Int32))) / (1000 : Int32)) + ((20 : Int32) * (S.1 7 ((S.1 8 batch.toNatClampNeg 0).toNatClampNeg) 3))) + ((5 : Int32) * hours))) 10 (gmax (0 : Int32) (gmin (999 : Int32) (((S.1 7 ((S.1 8 batch.toNatClampNeg 0).toNatClampNeg) 2) - ((heat - (700 : Int32)) / (10 : Int32))) + ((5 : Int32) * (S.1 7 ((S.1 8 batch.toNatClampNeg 0).toNatClampNeg) 3)))))) 7 kiln)) 8 batch.toNatClampNeg = upd (upd (upd (S.1 8 batch.toNatClampNeg) 9 ((((((1000 : Int32) - (S.1 7 ((S.1 8 batch.toNatClampNeg 0).toNatClampNeg) 2)) * (heat - (600 : Int32))) / (1000 : Int32)) + ((20 : Int32) * (S.1 7 ((S.1 8 batch.toNatClampNeg 0).toNatClampNeg) 3))) + ((5 : Int32) * hours))) 10 (gmax (0 : Int32) (gmin (999 : Int32) (((S.1 7 ((S.1 8 batch.toNatClampNeg 0).toNatClampNeg) 2) - ((heat - (700 : Int32)) / (10 : Int32))) + ((5 : Int32) * (S.1 7 ((S.1 8 batch.toNatClampNeg 0).toNatClampNeg) 3)))))) 7 kiln from gsr_s) rfl) (gnl rfl) rfl) dX1_fire_215 ?_
      refine g_aload F 1 rfl dX1_fire_218 ?_
      refine g_aload_n F 2 rfl rfl dX1_fire_220 ?_
      refine g_get F clX1 0 (by decide) q135 (v := .int (S.1 0 0 0)) (gd_get (pr_at (κ := 0) (i := 0) (by decide) (gc1 (gnl rfl)) (gce (show (gsr (gsr (gsr (gsr S.1 8 batch.toNatClampNeg (upd (S.1 8 batch.toNatClampNeg) 9 ((((((1000 : Int32) - (S.1 7 ((S.1 8 batch.toNatClampNeg 0).toNatClampNeg) 2)) * (heat - (600 : Int32))) / (1000 : Int32)) + ((20 : Int32) * (S.1 7 ((S.1 8 batch.toNatClampNeg 0).toNatClampNeg) 3))) + ((5 : Int32) * hours)))) 8 batch.toNatClampNeg (upd (upd (S.1 8 batch.toNatClampNeg) 9 ((((((1000 : Int32) - (S.1 7 ((S.1 8 batch.toNatClampNeg 0).toNatClampNeg) 2)) * (heat - (600 : Int32))) / (1000 : Int32)) + ((20 : Int32) * (S.1 7 ((S.1 8 batch.toNatClampNeg 0).toNatClampNeg) 3))) + ((5 : Int32) * hours))) 10 (gmax (0 : Int32) (gmin (999 : Int32) (((S.1 7 ((S.1 8 batch.toNatClampNeg 0).toNatClampNeg) 2) - ((heat - (700 : Int32)) / (10 : Int32))) + ((5 : Int32) * (S.1 7 ((S.1 8 batch.toNatClampNeg 0).toNatClampNeg) 3))))))) 8 batch.toNatClampNeg (upd (upd (upd (S.1 8 batch.toNatClampNeg) 9 ((((((1000 : Int32) - (S.1 7 ((S.1 8 batch.toNatClampNeg 0).toNatClampNeg) 2)) * (heat - (600 : Int32))) / (1000 : Int32)) + ((20 : Int32) * (S.1 7 ((S.1 8 batch.toNatClampNeg 0).toNatClampNeg) 3))) + ((5 : Int32) * hours))) 10 (gmax (0 : Int32) (gmin (999 : Int32) (((S.1 7 ((S.1 8 batch.toNatClampNeg 0).toNatClampNeg) 2) - ((heat - (700 : Int32)) / (10 : Int32))) + ((5 : Int32) * (S.1 7 ((S.1 8 batch.toNatClampNeg 0).toNatClampNeg) 3)))))) 7 kiln)) 8 batch.toNatClampNeg (upd (upd (upd (upd (S.1 8 batch.toNatClampNeg) 9 ((((((1000 : Int32) - (S.1 7 ((S.1 8 batch.toNatClampNeg 0).toNatClampNeg) 2)) * (heat - (600 : Int32))) / (1000 : Int32)) + ((20 : Int32) * (S.1 7 ((S.1 8 batch.toNatClampNeg 0).toNatClampNeg) 3))) + ((5 : Int32) * hours))) 10 (gmax (0 : Int32) (gmin (999 : Int32) (((S.1 7 ((S.1 8 batch.toNatClampNeg 0).toNatClampNeg) 2) - ((heat - (700 : Int32)) / (10 : Int32))) + ((5 : Int32) * (S.1 7 ((S.1 8 batch.toNatClampNeg 0).toNatClampNeg) 3)))))) 7 kiln) 6 (S.1 0 0 2))) 0 0 = S.1 0 0 from (gsr_p (by decide) (gsr_p (by decide) (gsr_p (by decide) (gsr_p (by decide) rfl))))) rfl)) rfl) dX1_fire_221 ?_
      refine g_iload F 6 rfl dX1_fire_224 ?_
      refine g_iadd F dX1_fire_226 ?_
      refine g_putN (P2 := gP 0 G (gsr (gsr (gsr (gsr (gsr S.1 8 batch.toNatClampNeg (upd (S.1 8 batch.toNatClampNeg) 9 ((((((1000 : Int32) - (S.1 7 ((S.1 8 batch.toNatClampNeg 0).toNatClampNeg) 2)) * (heat - (600 : Int32))) / (1000 : Int32)) + ((20 : Int32) * (S.1 7 ((S.1 8 batch.toNatClampNeg 0).toNatClampNeg) 3))) + ((5 : Int32) * hours)))) 8 batch.toNatClampNeg (upd (upd (S.1 8 batch.toNatClampNeg) 9 ((((((1000 : Int32) - (S.1 7 ((S.1 8 batch.toNatClampNeg 0).toNatClampNeg) 2)) * (heat - (600 : Int32))) / (1000 : Int32)) + ((20 : Int32) * (S.1 7 ((S.1 8 batch.toNatClampNeg 0).toNatClampNeg) 3))) + ((5 : Int32) * hours))) 10 (gmax (0 : Int32) (gmin (999 : Int32) (((S.1 7 ((S.1 8 batch.toNatClampNeg 0).toNatClampNeg) 2) - ((heat - (700 : Int32)) / (10 : Int32))) + ((5 : Int32) * (S.1 7 ((S.1 8 batch.toNatClampNeg 0).toNatClampNeg) 3))))))) 8 batch.toNatClampNeg (upd (upd (upd (S.1 8 batch.toNatClampNeg) 9 ((((((1000 : Int32) - (S.1 7 ((S.1 8 batch.toNatClampNeg 0).toNatClampNeg) 2)) * (heat - (600 : Int32))) / (1000 : Int32)) + ((20 : Int32) * (S.1 7 ((S.1 8 batch.toNatClampNeg 0).toNatClampNeg) 3))) + ((5 : Int32) * hours))) 10 (gmax (0 : Int32) (gmin (999 : Int32) (((S.1 7 ((S.1 8 batch.toNatClampNeg 0).toNatClampNeg) 2) - ((heat - (700 : Int32)) / (10 : Int32))) + ((5 : Int32) * (S.1 7 ((S.1 8 batch.toNatClampNeg 0).toNatClampNeg) 3)))))) 7 kiln)) 8 batch.toNatClampNeg (upd (upd (upd (upd (S.1 8 batch.toNatClampNeg) 9 ((((((1000 : Int32) - (S.1 7 ((S.1 8 batch.toNatClampNeg 0).toNatClampNeg) 2)) * (heat - (600 : Int32))) / (1000 : Int32)) + ((20 : Int32) * (S.1 7 ((S.1 8 batch.toNatClampNeg 0).toNatClampNeg) 3))) + ((5 : Int32) * hours))) 10 (gmax (0 : Int32) (gmin (999 : Int32) (((S.1 7 ((S.1 8 batch.toNatClampNeg 0).toNatClampNeg) 2) - ((heat - (700 : Int32)) / (10 : Int32))) + ((5 : Int32) * (S.1 7 ((S.1 8 batch.toNatClampNeg 0).toNatClampNeg) 3)))))) 7 kiln) 6 (S.1 0 0 2))) 8 batch.toNatClampNeg (upd (upd (upd (upd (upd (S.1 8 batch.toNatClampNeg) 9 ((((((1000 : Int32) - (S.1 7 ((S.1 8 batch.toNatClampNeg 0).toNatClampNeg) 2)) * (heat - (600 : Int32))) / (1000 : Int32)) + ((20 : Int32) * (S.1 7 ((S.1 8 batch.toNatClampNeg 0).toNatClampNeg) 3))) + ((5 : Int32) * hours))) 10 (gmax (0 : Int32) (gmin (999 : Int32) (((S.1 7 ((S.1 8 batch.toNatClampNeg 0).toNatClampNeg) 2) - ((heat - (700 : Int32)) / (10 : Int32))) + ((5 : Int32) * (S.1 7 ((S.1 8 batch.toNatClampNeg 0).toNatClampNeg) 3)))))) 7 kiln) 6 (S.1 0 0 2)) 4 ((S.1 0 0 0) + hours)), S.2) A Fr []) F clX9 5 (by decide) (gT_w q894 rfl) rfl rfl rfl (pr_put (κ := 8) (i := batch.toNatClampNeg) gM0 hF (upd (upd (upd (upd (upd (S.1 8 batch.toNatClampNeg) 9 ((((((1000 : Int32) - (S.1 7 ((S.1 8 batch.toNatClampNeg 0).toNatClampNeg) 2)) * (heat - (600 : Int32))) / (1000 : Int32)) + ((20 : Int32) * (S.1 7 ((S.1 8 batch.toNatClampNeg 0).toNatClampNeg) 3))) + ((5 : Int32) * hours))) 10 (gmax (0 : Int32) (gmin (999 : Int32) (((S.1 7 ((S.1 8 batch.toNatClampNeg 0).toNatClampNeg) 2) - ((heat - (700 : Int32)) / (10 : Int32))) + ((5 : Int32) * (S.1 7 ((S.1 8 batch.toNatClampNeg 0).toNatClampNeg) 3)))))) 7 kiln) 6 (S.1 0 0 2)) 4 ((S.1 0 0 0) + hours)) (by decide) (gc6 (by decide) c_1.2) (gce (show (gsr (gsr (gsr (gsr S.1 8 batch.toNatClampNeg (upd (S.1 8 batch.toNatClampNeg) 9 ((((((1000 : Int32) - (S.1 7 ((S.1 8 batch.toNatClampNeg 0).toNatClampNeg) 2)) * (heat - (600 : Int32))) / (1000 : Int32)) + ((20 : Int32) * (S.1 7 ((S.1 8 batch.toNatClampNeg 0).toNatClampNeg) 3))) + ((5 : Int32) * hours)))) 8 batch.toNatClampNeg (upd (upd (S.1 8 batch.toNatClampNeg) 9 ((((((1000 : Int32) - (S.1 7 ((S.1 8 batch.toNatClampNeg 0).toNatClampNeg) 2)) * (heat - (600 : Int32))) / (1000 : Int32)) + ((20 : Int32) * (S.1 7 ((S.1 8 batch.toNatClampNeg 0).toNatClampNeg) 3))) + ((5 : Int32) * hours))) 10 (gmax (0 : Int32) (gmin (999 : Int32) (((S.1 7 ((S.1 8 batch.toNatClampNeg 0).toNatClampNeg) 2) - ((heat - (700 : Int32)) / (10 : Int32))) + ((5 : Int32) * (S.1 7 ((S.1 8 batch.toNatClampNeg 0).toNatClampNeg) 3))))))) 8 batch.toNatClampNeg (upd (upd (upd (S.1 8 batch.toNatClampNeg) 9 ((((((1000 : Int32) - (S.1 7 ((S.1 8 batch.toNatClampNeg 0).toNatClampNeg) 2)) * (heat - (600 : Int32))) / (1000 : Int32)) + ((20 : Int32) * (S.1 7 ((S.1 8 batch.toNatClampNeg 0).toNatClampNeg) 3))) + ((5 : Int32) * hours))) 10 (gmax (0 : Int32) (gmin (999 : Int32) (((S.1 7 ((S.1 8 batch.toNatClampNeg 0).toNatClampNeg) 2) - ((heat - (700 : Int32)) / (10 : Int32))) + ((5 : Int32) * (S.1 7 ((S.1 8 batch.toNatClampNeg 0).toNatClampNeg) 3)))))) 7 kiln)) 8 batch.toNatClampNeg (upd (upd (upd (upd (S.1 8 batch.toNatClampNeg) 9 ((((((1000 : Int32) - (S.1 7 ((S.1 8 batch.toNatClampNeg 0).toNatClampNeg) 2)) * (heat - (600 : Int32))) / (1000 : Int32)) + ((20 : Int32) * (S.1 7 ((S.1 8 batch.toNatClampNeg 0).toNatClampNeg) 3))) + ((5 : Int32) * hours))) 10 (gmax (0 : Int32) (gmin (999 : Int32) (((S.1 7 ((S.1 8 batch.toNatClampNeg 0).toNatClampNeg) 2) - ((heat - (700 : Int32)) / (10 : Int32))) + ((5 : Int32) * (S.1 7 ((S.1 8 batch.toNatClampNeg 0).toNatClampNeg) 3)))))) 7 kiln) 6 (S.1 0 0 2))) 8 batch.toNatClampNeg = upd (upd (upd (upd (S.1 8 batch.toNatClampNeg) 9 ((((((1000 : Int32) - (S.1 7 ((S.1 8 batch.toNatClampNeg 0).toNatClampNeg) 2)) * (heat - (600 : Int32))) / (1000 : Int32)) + ((20 : Int32) * (S.1 7 ((S.1 8 batch.toNatClampNeg 0).toNatClampNeg) 3))) + ((5 : Int32) * hours))) 10 (gmax (0 : Int32) (gmin (999 : Int32) (((S.1 7 ((S.1 8 batch.toNatClampNeg 0).toNatClampNeg) 2) - ((heat - (700 : Int32)) / (10 : Int32))) + ((5 : Int32) * (S.1 7 ((S.1 8 batch.toNatClampNeg 0).toNatClampNeg) 3)))))) 7 kiln) 6 (S.1 0 0 2) from gsr_s) rfl) (gnl rfl) rfl) dX1_fire_227 ?_
      refine g_aload_n F 2 rfl rfl dX1_fire_230 ?_
      refine g_get F clX1 5 (by decide) q140 (v := .ref (A 4 0)) (gd_get (pr_at (κ := 0) (i := 0) (by decide) (gc1 (gnl rfl)) (gce (show (gsr (gsr (gsr (gsr (gsr S.1 8 batch.toNatClampNeg (upd (S.1 8 batch.toNatClampNeg) 9 ((((((1000 : Int32) - (S.1 7 ((S.1 8 batch.toNatClampNeg 0).toNatClampNeg) 2)) * (heat - (600 : Int32))) / (1000 : Int32)) + ((20 : Int32) * (S.1 7 ((S.1 8 batch.toNatClampNeg 0).toNatClampNeg) 3))) + ((5 : Int32) * hours)))) 8 batch.toNatClampNeg (upd (upd (S.1 8 batch.toNatClampNeg) 9 ((((((1000 : Int32) - (S.1 7 ((S.1 8 batch.toNatClampNeg 0).toNatClampNeg) 2)) * (heat - (600 : Int32))) / (1000 : Int32)) + ((20 : Int32) * (S.1 7 ((S.1 8 batch.toNatClampNeg 0).toNatClampNeg) 3))) + ((5 : Int32) * hours))) 10 (gmax (0 : Int32) (gmin (999 : Int32) (((S.1 7 ((S.1 8 batch.toNatClampNeg 0).toNatClampNeg) 2) - ((heat - (700 : Int32)) / (10 : Int32))) + ((5 : Int32) * (S.1 7 ((S.1 8 batch.toNatClampNeg 0).toNatClampNeg) 3))))))) 8 batch.toNatClampNeg (upd (upd (upd (S.1 8 batch.toNatClampNeg) 9 ((((((1000 : Int32) - (S.1 7 ((S.1 8 batch.toNatClampNeg 0).toNatClampNeg) 2)) * (heat - (600 : Int32))) / (1000 : Int32)) + ((20 : Int32) * (S.1 7 ((S.1 8 batch.toNatClampNeg 0).toNatClampNeg) 3))) + ((5 : Int32) * hours))) 10 (gmax (0 : Int32) (gmin (999 : Int32) (((S.1 7 ((S.1 8 batch.toNatClampNeg 0).toNatClampNeg) 2) - ((heat - (700 : Int32)) / (10 : Int32))) + ((5 : Int32) * (S.1 7 ((S.1 8 batch.toNatClampNeg 0).toNatClampNeg) 3)))))) 7 kiln)) 8 batch.toNatClampNeg (upd (upd (upd (upd (S.1 8 batch.toNatClampNeg) 9 ((((((1000 : Int32) - (S.1 7 ((S.1 8 batch.toNatClampNeg 0).toNatClampNeg) 2)) * (heat - (600 : Int32))) / (1000 : Int32)) + ((20 : Int32) * (S.1 7 ((S.1 8 batch.toNatClampNeg 0).toNatClampNeg) 3))) + ((5 : Int32) * hours))) 10 (gmax (0 : Int32) (gmin (999 : Int32) (((S.1 7 ((S.1 8 batch.toNatClampNeg 0).toNatClampNeg) 2) - ((heat - (700 : Int32)) / (10 : Int32))) + ((5 : Int32) * (S.1 7 ((S.1 8 batch.toNatClampNeg 0).toNatClampNeg) 3)))))) 7 kiln) 6 (S.1 0 0 2))) 8 batch.toNatClampNeg (upd (upd (upd (upd (upd (S.1 8 batch.toNatClampNeg) 9 ((((((1000 : Int32) - (S.1 7 ((S.1 8 batch.toNatClampNeg 0).toNatClampNeg) 2)) * (heat - (600 : Int32))) / (1000 : Int32)) + ((20 : Int32) * (S.1 7 ((S.1 8 batch.toNatClampNeg 0).toNatClampNeg) 3))) + ((5 : Int32) * hours))) 10 (gmax (0 : Int32) (gmin (999 : Int32) (((S.1 7 ((S.1 8 batch.toNatClampNeg 0).toNatClampNeg) 2) - ((heat - (700 : Int32)) / (10 : Int32))) + ((5 : Int32) * (S.1 7 ((S.1 8 batch.toNatClampNeg 0).toNatClampNeg) 3)))))) 7 kiln) 6 (S.1 0 0 2)) 4 ((S.1 0 0 0) + hours))) 0 0 = S.1 0 0 from (gsr_p (by decide) (gsr_p (by decide) (gsr_p (by decide) (gsr_p (by decide) (gsr_p (by decide) rfl)))))) rfl)) rfl) dX1_fire_231 ?_
      refine g_iload_n F 4 rfl rfl dX1_fire_234 ?_
      refine g_aload F 1 rfl dX1_fire_235 ?_
      refine g_getN F clX9 5 (by decide) (gT_w q894 rfl) (v := .int ((S.1 0 0 0) + hours)) (gd_get (pr_at (κ := 8) (i := batch.toNatClampNeg) (by decide) (gc6 (by decide) c_1.2) (gce (show (gsr (gsr (gsr (gsr (gsr S.1 8 batch.toNatClampNeg (upd (S.1 8 batch.toNatClampNeg) 9 ((((((1000 : Int32) - (S.1 7 ((S.1 8 batch.toNatClampNeg 0).toNatClampNeg) 2)) * (heat - (600 : Int32))) / (1000 : Int32)) + ((20 : Int32) * (S.1 7 ((S.1 8 batch.toNatClampNeg 0).toNatClampNeg) 3))) + ((5 : Int32) * hours)))) 8 batch.toNatClampNeg (upd (upd (S.1 8 batch.toNatClampNeg) 9 ((((((1000 : Int32) - (S.1 7 ((S.1 8 batch.toNatClampNeg 0).toNatClampNeg) 2)) * (heat - (600 : Int32))) / (1000 : Int32)) + ((20 : Int32) * (S.1 7 ((S.1 8 batch.toNatClampNeg 0).toNatClampNeg) 3))) + ((5 : Int32) * hours))) 10 (gmax (0 : Int32) (gmin (999 : Int32) (((S.1 7 ((S.1 8 batch.toNatClampNeg 0).toNatClampNeg) 2) - ((heat - (700 : Int32)) / (10 : Int32))) + ((5 : Int32) * (S.1 7 ((S.1 8 batch.toNatClampNeg 0).toNatClampNeg) 3))))))) 8 batch.toNatClampNeg (upd (upd (upd (S.1 8 batch.toNatClampNeg) 9 ((((((1000 : Int32) - (S.1 7 ((S.1 8 batch.toNatClampNeg 0).toNatClampNeg) 2)) * (heat - (600 : Int32))) / (1000 : Int32)) + ((20 : Int32) * (S.1 7 ((S.1 8 batch.toNatClampNeg 0).toNatClampNeg) 3))) + ((5 : Int32) * hours))) 10 (gmax (0 : Int32) (gmin (999 : Int32) (((S.1 7 ((S.1 8 batch.toNatClampNeg 0).toNatClampNeg) 2) - ((heat - (700 : Int32)) / (10 : Int32))) + ((5 : Int32) * (S.1 7 ((S.1 8 batch.toNatClampNeg 0).toNatClampNeg) 3)))))) 7 kiln)) 8 batch.toNatClampNeg (upd (upd (upd (upd (S.1 8 batch.toNatClampNeg) 9 ((((((1000 : Int32) - (S.1 7 ((S.1 8 batch.toNatClampNeg 0).toNatClampNeg) 2)) * (heat - (600 : Int32))) / (1000 : Int32)) + ((20 : Int32) * (S.1 7 ((S.1 8 batch.toNatClampNeg 0).toNatClampNeg) 3))) + ((5 : Int32) * hours))) 10 (gmax (0 : Int32) (gmin (999 : Int32) (((S.1 7 ((S.1 8 batch.toNatClampNeg 0).toNatClampNeg) 2) - ((heat - (700 : Int32)) / (10 : Int32))) + ((5 : Int32) * (S.1 7 ((S.1 8 batch.toNatClampNeg 0).toNatClampNeg) 3)))))) 7 kiln) 6 (S.1 0 0 2))) 8 batch.toNatClampNeg (upd (upd (upd (upd (upd (S.1 8 batch.toNatClampNeg) 9 ((((((1000 : Int32) - (S.1 7 ((S.1 8 batch.toNatClampNeg 0).toNatClampNeg) 2)) * (heat - (600 : Int32))) / (1000 : Int32)) + ((20 : Int32) * (S.1 7 ((S.1 8 batch.toNatClampNeg 0).toNatClampNeg) 3))) + ((5 : Int32) * hours))) 10 (gmax (0 : Int32) (gmin (999 : Int32) (((S.1 7 ((S.1 8 batch.toNatClampNeg 0).toNatClampNeg) 2) - ((heat - (700 : Int32)) / (10 : Int32))) + ((5 : Int32) * (S.1 7 ((S.1 8 batch.toNatClampNeg 0).toNatClampNeg) 3)))))) 7 kiln) 6 (S.1 0 0 2)) 4 ((S.1 0 0 0) + hours))) 8 batch.toNatClampNeg = upd (upd (upd (upd (upd (S.1 8 batch.toNatClampNeg) 9 ((((((1000 : Int32) - (S.1 7 ((S.1 8 batch.toNatClampNeg 0).toNatClampNeg) 2)) * (heat - (600 : Int32))) / (1000 : Int32)) + ((20 : Int32) * (S.1 7 ((S.1 8 batch.toNatClampNeg 0).toNatClampNeg) 3))) + ((5 : Int32) * hours))) 10 (gmax (0 : Int32) (gmin (999 : Int32) (((S.1 7 ((S.1 8 batch.toNatClampNeg 0).toNatClampNeg) 2) - ((heat - (700 : Int32)) / (10 : Int32))) + ((5 : Int32) * (S.1 7 ((S.1 8 batch.toNatClampNeg 0).toNatClampNeg) 3)))))) 7 kiln) 6 (S.1 0 0 2)) 4 ((S.1 0 0 0) + hours) from gsr_s) rfl)) rfl) dX1_fire_237 ?_
      refine g_iast (P2 := gP 0 G (gsr (gsr (gsr (gsr (gsr (gsr S.1 8 batch.toNatClampNeg (upd (S.1 8 batch.toNatClampNeg) 9 ((((((1000 : Int32) - (S.1 7 ((S.1 8 batch.toNatClampNeg 0).toNatClampNeg) 2)) * (heat - (600 : Int32))) / (1000 : Int32)) + ((20 : Int32) * (S.1 7 ((S.1 8 batch.toNatClampNeg 0).toNatClampNeg) 3))) + ((5 : Int32) * hours)))) 8 batch.toNatClampNeg (upd (upd (S.1 8 batch.toNatClampNeg) 9 ((((((1000 : Int32) - (S.1 7 ((S.1 8 batch.toNatClampNeg 0).toNatClampNeg) 2)) * (heat - (600 : Int32))) / (1000 : Int32)) + ((20 : Int32) * (S.1 7 ((S.1 8 batch.toNatClampNeg 0).toNatClampNeg) 3))) + ((5 : Int32) * hours))) 10 (gmax (0 : Int32) (gmin (999 : Int32) (((S.1 7 ((S.1 8 batch.toNatClampNeg 0).toNatClampNeg) 2) - ((heat - (700 : Int32)) / (10 : Int32))) + ((5 : Int32) * (S.1 7 ((S.1 8 batch.toNatClampNeg 0).toNatClampNeg) 3))))))) 8 batch.toNatClampNeg (upd (upd (upd (S.1 8 batch.toNatClampNeg) 9 ((((((1000 : Int32) - (S.1 7 ((S.1 8 batch.toNatClampNeg 0).toNatClampNeg) 2)) * (heat - (600 : Int32))) / (1000 : Int32)) + ((20 : Int32) * (S.1 7 ((S.1 8 batch.toNatClampNeg 0).toNatClampNeg) 3))) + ((5 : Int32) * hours))) 10 (gmax (0 : Int32) (gmin (999 : Int32) (((S.1 7 ((S.1 8 batch.toNatClampNeg 0).toNatClampNeg) 2) - ((heat - (700 : Int32)) / (10 : Int32))) + ((5 : Int32) * (S.1 7 ((S.1 8 batch.toNatClampNeg 0).toNatClampNeg) 3)))))) 7 kiln)) 8 batch.toNatClampNeg (upd (upd (upd (upd (S.1 8 batch.toNatClampNeg) 9 ((((((1000 : Int32) - (S.1 7 ((S.1 8 batch.toNatClampNeg 0).toNatClampNeg) 2)) * (heat - (600 : Int32))) / (1000 : Int32)) + ((20 : Int32) * (S.1 7 ((S.1 8 batch.toNatClampNeg 0).toNatClampNeg) 3))) + ((5 : Int32) * hours))) 10 (gmax (0 : Int32) (gmin (999 : Int32) (((S.1 7 ((S.1 8 batch.toNatClampNeg 0).toNatClampNeg) 2) - ((heat - (700 : Int32)) / (10 : Int32))) + ((5 : Int32) * (S.1 7 ((S.1 8 batch.toNatClampNeg 0).toNatClampNeg) 3)))))) 7 kiln) 6 (S.1 0 0 2))) 8 batch.toNatClampNeg (upd (upd (upd (upd (upd (S.1 8 batch.toNatClampNeg) 9 ((((((1000 : Int32) - (S.1 7 ((S.1 8 batch.toNatClampNeg 0).toNatClampNeg) 2)) * (heat - (600 : Int32))) / (1000 : Int32)) + ((20 : Int32) * (S.1 7 ((S.1 8 batch.toNatClampNeg 0).toNatClampNeg) 3))) + ((5 : Int32) * hours))) 10 (gmax (0 : Int32) (gmin (999 : Int32) (((S.1 7 ((S.1 8 batch.toNatClampNeg 0).toNatClampNeg) 2) - ((heat - (700 : Int32)) / (10 : Int32))) + ((5 : Int32) * (S.1 7 ((S.1 8 batch.toNatClampNeg 0).toNatClampNeg) 3)))))) 7 kiln) 6 (S.1 0 0 2)) 4 ((S.1 0 0 0) + hours))) 4 0 (upd (S.1 4 0) kiln.toNatClampNeg ((S.1 0 0 0) + hours)), S.2) A Fr []) F (gvp (K := (1 : Int32)) (by decide) ⟨c_9.1.1, c_9.1.2⟩) (pr_setRow (κ := 4) (i := 0) gM0 hF (upd (S.1 4 0) kiln.toNatClampNeg ((S.1 0 0 0) + hours)) (by decide) (gc1 (gnl rfl)) (gce (show (gsr (gsr (gsr (gsr (gsr S.1 8 batch.toNatClampNeg (upd (S.1 8 batch.toNatClampNeg) 9 ((((((1000 : Int32) - (S.1 7 ((S.1 8 batch.toNatClampNeg 0).toNatClampNeg) 2)) * (heat - (600 : Int32))) / (1000 : Int32)) + ((20 : Int32) * (S.1 7 ((S.1 8 batch.toNatClampNeg 0).toNatClampNeg) 3))) + ((5 : Int32) * hours)))) 8 batch.toNatClampNeg (upd (upd (S.1 8 batch.toNatClampNeg) 9 ((((((1000 : Int32) - (S.1 7 ((S.1 8 batch.toNatClampNeg 0).toNatClampNeg) 2)) * (heat - (600 : Int32))) / (1000 : Int32)) + ((20 : Int32) * (S.1 7 ((S.1 8 batch.toNatClampNeg 0).toNatClampNeg) 3))) + ((5 : Int32) * hours))) 10 (gmax (0 : Int32) (gmin (999 : Int32) (((S.1 7 ((S.1 8 batch.toNatClampNeg 0).toNatClampNeg) 2) - ((heat - (700 : Int32)) / (10 : Int32))) + ((5 : Int32) * (S.1 7 ((S.1 8 batch.toNatClampNeg 0).toNatClampNeg) 3))))))) 8 batch.toNatClampNeg (upd (upd (upd (S.1 8 batch.toNatClampNeg) 9 ((((((1000 : Int32) - (S.1 7 ((S.1 8 batch.toNatClampNeg 0).toNatClampNeg) 2)) * (heat - (600 : Int32))) / (1000 : Int32)) + ((20 : Int32) * (S.1 7 ((S.1 8 batch.toNatClampNeg 0).toNatClampNeg) 3))) + ((5 : Int32) * hours))) 10 (gmax (0 : Int32) (gmin (999 : Int32) (((S.1 7 ((S.1 8 batch.toNatClampNeg 0).toNatClampNeg) 2) - ((heat - (700 : Int32)) / (10 : Int32))) + ((5 : Int32) * (S.1 7 ((S.1 8 batch.toNatClampNeg 0).toNatClampNeg) 3)))))) 7 kiln)) 8 batch.toNatClampNeg (upd (upd (upd (upd (S.1 8 batch.toNatClampNeg) 9 ((((((1000 : Int32) - (S.1 7 ((S.1 8 batch.toNatClampNeg 0).toNatClampNeg) 2)) * (heat - (600 : Int32))) / (1000 : Int32)) + ((20 : Int32) * (S.1 7 ((S.1 8 batch.toNatClampNeg 0).toNatClampNeg) 3))) + ((5 : Int32) * hours))) 10 (gmax (0 : Int32) (gmin (999 : Int32) (((S.1 7 ((S.1 8 batch.toNatClampNeg 0).toNatClampNeg) 2) - ((heat - (700 : Int32)) / (10 : Int32))) + ((5 : Int32) * (S.1 7 ((S.1 8 batch.toNatClampNeg 0).toNatClampNeg) 3)))))) 7 kiln) 6 (S.1 0 0 2))) 8 batch.toNatClampNeg (upd (upd (upd (upd (upd (S.1 8 batch.toNatClampNeg) 9 ((((((1000 : Int32) - (S.1 7 ((S.1 8 batch.toNatClampNeg 0).toNatClampNeg) 2)) * (heat - (600 : Int32))) / (1000 : Int32)) + ((20 : Int32) * (S.1 7 ((S.1 8 batch.toNatClampNeg 0).toNatClampNeg) 3))) + ((5 : Int32) * hours))) 10 (gmax (0 : Int32) (gmin (999 : Int32) (((S.1 7 ((S.1 8 batch.toNatClampNeg 0).toNatClampNeg) 2) - ((heat - (700 : Int32)) / (10 : Int32))) + ((5 : Int32) * (S.1 7 ((S.1 8 batch.toNatClampNeg 0).toNatClampNeg) 3)))))) 7 kiln) 6 (S.1 0 0 2)) 4 ((S.1 0 0 0) + hours))) 4 0 = S.1 4 0 from (gsr_p (by decide) (gsr_p (by decide) (gsr_p (by decide) (gsr_p (by decide) (gsr_p (by decide) rfl)))))) rfl) rfl) dX1_fire_240 ?_
      refine g_aload_n F 2 rfl rfl dX1_fire_241 ?_
      refine g_dup F rfl dX1_fire_242 ?_
      refine g_get F clX1 10 (by decide) q145 (v := .int (S.1 0 0 2)) (gd_get (pr_at (κ := 0) (i := 0) (by decide) (gc1 (gnl rfl)) (gce (show (gsr (gsr (gsr (gsr (gsr (gsr S.1 8 batch.toNatClampNeg (upd (S.1 8 batch.toNatClampNeg) 9 ((((((1000 : Int32) - (S.1 7 ((S.1 8 batch.toNatClampNeg 0).toNatClampNeg) 2)) * (heat - (600 : Int32))) / (1000 : Int32)) + ((20 : Int32) * (S.1 7 ((S.1 8 batch.toNatClampNeg 0).toNatClampNeg) 3))) + ((5 : Int32) * hours)))) 8 batch.toNatClampNeg (upd (upd (S.1 8 batch.toNatClampNeg) 9 ((((((1000 : Int32) - (S.1 7 ((S.1 8 batch.toNatClampNeg 0).toNatClampNeg) 2)) * (heat - (600 : Int32))) / (1000 : Int32)) + ((20 : Int32) * (S.1 7 ((S.1 8 batch.toNatClampNeg 0).toNatClampNeg) 3))) + ((5 : Int32) * hours))) 10 (gmax (0 : Int32) (gmin (999 : Int32) (((S.1 7 ((S.1 8 batch.toNatClampNeg 0).toNatClampNeg) 2) - ((heat - (700 : Int32)) / (10 : Int32))) + ((5 : Int32) * (S.1 7 ((S.1 8 batch.toNatClampNeg 0).toNatClampNeg) 3))))))) 8 batch.toNatClampNeg (upd (upd (upd (S.1 8 batch.toNatClampNeg) 9 ((((((1000 : Int32) - (S.1 7 ((S.1 8 batch.toNatClampNeg 0).toNatClampNeg) 2)) * (heat - (600 : Int32))) / (1000 : Int32)) + ((20 : Int32) * (S.1 7 ((S.1 8 batch.toNatClampNeg 0).toNatClampNeg) 3))) + ((5 : Int32) * hours))) 10 (gmax (0 : Int32) (gmin (999 : Int32) (((S.1 7 ((S.1 8 batch.toNatClampNeg 0).toNatClampNeg) 2) - ((heat - (700 : Int32)) / (10 : Int32))) + ((5 : Int32) * (S.1 7 ((S.1 8 batch.toNatClampNeg 0).toNatClampNeg) 3)))))) 7 kiln)) 8 batch.toNatClampNeg (upd (upd (upd (upd (S.1 8 batch.toNatClampNeg) 9 ((((((1000 : Int32) - (S.1 7 ((S.1 8 batch.toNatClampNeg 0).toNatClampNeg) 2)) * (heat - (600 : Int32))) / (1000 : Int32)) + ((20 : Int32) * (S.1 7 ((S.1 8 batch.toNatClampNeg 0).toNatClampNeg) 3))) + ((5 : Int32) * hours))) 10 (gmax (0 : Int32) (gmin (999 : Int32) (((S.1 7 ((S.1 8 batch.toNatClampNeg 0).toNatClampNeg) 2) - ((heat - (700 : Int32)) / (10 : Int32))) + ((5 : Int32) * (S.1 7 ((S.1 8 batch.toNatClampNeg 0).toNatClampNeg) 3)))))) 7 kiln) 6 (S.1 0 0 2))) 8 batch.toNatClampNeg (upd (upd (upd (upd (upd (S.1 8 batch.toNatClampNeg) 9 ((((((1000 : Int32) - (S.1 7 ((S.1 8 batch.toNatClampNeg 0).toNatClampNeg) 2)) * (heat - (600 : Int32))) / (1000 : Int32)) + ((20 : Int32) * (S.1 7 ((S.1 8 batch.toNatClampNeg 0).toNatClampNeg) 3))) + ((5 : Int32) * hours))) 10 (gmax (0 : Int32) (gmin (999 : Int32) (((S.1 7 ((S.1 8 batch.toNatClampNeg 0).toNatClampNeg) 2) - ((heat - (700 : Int32)) / (10 : Int32))) + ((5 : Int32) * (S.1 7 ((S.1 8 batch.toNatClampNeg 0).toNatClampNeg) 3)))))) 7 kiln) 6 (S.1 0 0 2)) 4 ((S.1 0 0 0) + hours))) 4 0 (upd (S.1 4 0) kiln.toNatClampNeg ((S.1 0 0 0) + hours))) 0 0 = S.1 0 0 from (gsr_p (by decide) (gsr_p (by decide) (gsr_p (by decide) (gsr_p (by decide) (gsr_p (by decide) (gsr_p (by decide) rfl))))))) rfl)) rfl) dX1_fire_243 ?_
      refine g_iconst F (v := (1 : Int32)) (by decide) dX1_fire_246 ?_
      refine g_iadd F dX1_fire_247 ?_
      refine g_put (P2 := gP 0 G (gsr (gsr (gsr (gsr (gsr (gsr (gsr S.1 8 batch.toNatClampNeg (upd (S.1 8 batch.toNatClampNeg) 9 ((((((1000 : Int32) - (S.1 7 ((S.1 8 batch.toNatClampNeg 0).toNatClampNeg) 2)) * (heat - (600 : Int32))) / (1000 : Int32)) + ((20 : Int32) * (S.1 7 ((S.1 8 batch.toNatClampNeg 0).toNatClampNeg) 3))) + ((5 : Int32) * hours)))) 8 batch.toNatClampNeg (upd (upd (S.1 8 batch.toNatClampNeg) 9 ((((((1000 : Int32) - (S.1 7 ((S.1 8 batch.toNatClampNeg 0).toNatClampNeg) 2)) * (heat - (600 : Int32))) / (1000 : Int32)) + ((20 : Int32) * (S.1 7 ((S.1 8 batch.toNatClampNeg 0).toNatClampNeg) 3))) + ((5 : Int32) * hours))) 10 (gmax (0 : Int32) (gmin (999 : Int32) (((S.1 7 ((S.1 8 batch.toNatClampNeg 0).toNatClampNeg) 2) - ((heat - (700 : Int32)) / (10 : Int32))) + ((5 : Int32) * (S.1 7 ((S.1 8 batch.toNatClampNeg 0).toNatClampNeg) 3))))))) 8 batch.toNatClampNeg (upd (upd (upd (S.1 8 batch.toNatClampNeg) 9 ((((((1000 : Int32) - (S.1 7 ((S.1 8 batch.toNatClampNeg 0).toNatClampNeg) 2)) * (heat - (600 : Int32))) / (1000 : Int32)) + ((20 : Int32) * (S.1 7 ((S.1 8 batch.toNatClampNeg 0).toNatClampNeg) 3))) + ((5 : Int32) * hours))) 10 (gmax (0 : Int32) (gmin (999 : Int32) (((S.1 7 ((S.1 8 batch.toNatClampNeg 0).toNatClampNeg) 2) - ((heat - (700 : Int32)) / (10 : Int32))) + ((5 : Int32) * (S.1 7 ((S.1 8 batch.toNatClampNeg 0).toNatClampNeg) 3)))))) 7 kiln)) 8 batch.toNatClampNeg (upd (upd (upd (upd (S.1 8 batch.toNatClampNeg) 9 ((((((1000 : Int32) - (S.1 7 ((S.1 8 batch.toNatClampNeg 0).toNatClampNeg) 2)) * (heat - (600 : Int32))) / (1000 : Int32)) + ((20 : Int32) * (S.1 7 ((S.1 8 batch.toNatClampNeg 0).toNatClampNeg) 3))) + ((5 : Int32) * hours))) 10 (gmax (0 : Int32) (gmin (999 : Int32) (((S.1 7 ((S.1 8 batch.toNatClampNeg 0).toNatClampNeg) 2) - ((heat - (700 : Int32)) / (10 : Int32))) + ((5 : Int32) * (S.1 7 ((S.1 8 batch.toNatClampNeg 0).toNatClampNeg) 3)))))) 7 kiln) 6 (S.1 0 0 2))) 8 batch.toNatClampNeg (upd (upd (upd (upd (upd (S.1 8 batch.toNatClampNeg) 9 ((((((1000 : Int32) - (S.1 7 ((S.1 8 batch.toNatClampNeg 0).toNatClampNeg) 2)) * (heat - (600 : Int32))) / (1000 : Int32)) + ((20 : Int32) * (S.1 7 ((S.1 8 batch.toNatClampNeg 0).toNatClampNeg) 3))) + ((5 : Int32) * hours))) 10 (gmax (0 : Int32) (gmin (999 : Int32) (((S.1 7 ((S.1 8 batch.toNatClampNeg 0).toNatClampNeg) 2) - ((heat - (700 : Int32)) / (10 : Int32))) + ((5 : Int32) * (S.1 7 ((S.1 8 batch.toNatClampNeg 0).toNatClampNeg) 3)))))) 7 kiln) 6 (S.1 0 0 2)) 4 ((S.1 0 0 0) + hours))) 4 0 (upd (S.1 4 0) kiln.toNatClampNeg ((S.1 0 0 0) + hours))) 0 0 (upd (S.1 0 0) 2 ((S.1 0 0 2) + (1 : Int32))), S.2) A Fr []) F clX1 10 (by decide) q145 rfl rfl rfl (pr_put (κ := 0) (i := 0) gM0 hF (upd (S.1 0 0) 2 ((S.1 0 0 2) + (1 : Int32))) (by decide) (gc1 (gnl rfl)) (gce (show (gsr (gsr (gsr (gsr (gsr (gsr S.1 8 batch.toNatClampNeg (upd (S.1 8 batch.toNatClampNeg) 9 ((((((1000 : Int32) - (S.1 7 ((S.1 8 batch.toNatClampNeg 0).toNatClampNeg) 2)) * (heat - (600 : Int32))) / (1000 : Int32)) + ((20 : Int32) * (S.1 7 ((S.1 8 batch.toNatClampNeg 0).toNatClampNeg) 3))) + ((5 : Int32) * hours)))) 8 batch.toNatClampNeg (upd (upd (S.1 8 batch.toNatClampNeg) 9 ((((((1000 : Int32) - (S.1 7 ((S.1 8 batch.toNatClampNeg 0).toNatClampNeg) 2)) * (heat - (600 : Int32))) / (1000 : Int32)) + ((20 : Int32) * (S.1 7 ((S.1 8 batch.toNatClampNeg 0).toNatClampNeg) 3))) + ((5 : Int32) * hours))) 10 (gmax (0 : Int32) (gmin (999 : Int32) (((S.1 7 ((S.1 8 batch.toNatClampNeg 0).toNatClampNeg) 2) - ((heat - (700 : Int32)) / (10 : Int32))) + ((5 : Int32) * (S.1 7 ((S.1 8 batch.toNatClampNeg 0).toNatClampNeg) 3))))))) 8 batch.toNatClampNeg (upd (upd (upd (S.1 8 batch.toNatClampNeg) 9 ((((((1000 : Int32) - (S.1 7 ((S.1 8 batch.toNatClampNeg 0).toNatClampNeg) 2)) * (heat - (600 : Int32))) / (1000 : Int32)) + ((20 : Int32) * (S.1 7 ((S.1 8 batch.toNatClampNeg 0).toNatClampNeg) 3))) + ((5 : Int32) * hours))) 10 (gmax (0 : Int32) (gmin (999 : Int32) (((S.1 7 ((S.1 8 batch.toNatClampNeg 0).toNatClampNeg) 2) - ((heat - (700 : Int32)) / (10 : Int32))) + ((5 : Int32) * (S.1 7 ((S.1 8 batch.toNatClampNeg 0).toNatClampNeg) 3)))))) 7 kiln)) 8 batch.toNatClampNeg (upd (upd (upd (upd (S.1 8 batch.toNatClampNeg) 9 ((((((1000 : Int32) - (S.1 7 ((S.1 8 batch.toNatClampNeg 0).toNatClampNeg) 2)) * (heat - (600 : Int32))) / (1000 : Int32)) + ((20 : Int32) * (S.1 7 ((S.1 8 batch.toNatClampNeg 0).toNatClampNeg) 3))) + ((5 : Int32) * hours))) 10 (gmax (0 : Int32) (gmin (999 : Int32) (((S.1 7 ((S.1 8 batch.toNatClampNeg 0).toNatClampNeg) 2) - ((heat - (700 : Int32)) / (10 : Int32))) + ((5 : Int32) * (S.1 7 ((S.1 8 batch.toNatClampNeg 0).toNatClampNeg) 3)))))) 7 kiln) 6 (S.1 0 0 2))) 8 batch.toNatClampNeg (upd (upd (upd (upd (upd (S.1 8 batch.toNatClampNeg) 9 ((((((1000 : Int32) - (S.1 7 ((S.1 8 batch.toNatClampNeg 0).toNatClampNeg) 2)) * (heat - (600 : Int32))) / (1000 : Int32)) + ((20 : Int32) * (S.1 7 ((S.1 8 batch.toNatClampNeg 0).toNatClampNeg) 3))) + ((5 : Int32) * hours))) 10 (gmax (0 : Int32) (gmin (999 : Int32) (((S.1 7 ((S.1 8 batch.toNatClampNeg 0).toNatClampNeg) 2) - ((heat - (700 : Int32)) / (10 : Int32))) + ((5 : Int32) * (S.1 7 ((S.1 8 batch.toNatClampNeg 0).toNatClampNeg) 3)))))) 7 kiln) 6 (S.1 0 0 2)) 4 ((S.1 0 0 0) + hours))) 4 0 (upd (S.1 4 0) kiln.toNatClampNeg ((S.1 0 0 0) + hours))) 0 0 = S.1 0 0 from (gsr_p (by decide) (gsr_p (by decide) (gsr_p (by decide) (gsr_p (by decide) (gsr_p (by decide) (gsr_p (by decide) rfl))))))) rfl) (gnl rfl) rfl) dX1_fire_248 ?_
      refine g_aload F 1 rfl dX1_fire_251 ?_
      refine g_getN F clX9 8 (by decide) (gT_w q898 rfl) (v := .int (S.1 0 0 2)) (gd_get (pr_at (κ := 8) (i := batch.toNatClampNeg) (by decide) (gc6 (by decide) c_1.2) (gce (show (gsr (gsr (gsr (gsr (gsr (gsr (gsr S.1 8 batch.toNatClampNeg (upd (S.1 8 batch.toNatClampNeg) 9 ((((((1000 : Int32) - (S.1 7 ((S.1 8 batch.toNatClampNeg 0).toNatClampNeg) 2)) * (heat - (600 : Int32))) / (1000 : Int32)) + ((20 : Int32) * (S.1 7 ((S.1 8 batch.toNatClampNeg 0).toNatClampNeg) 3))) + ((5 : Int32) * hours)))) 8 batch.toNatClampNeg (upd (upd (S.1 8 batch.toNatClampNeg) 9 ((((((1000 : Int32) - (S.1 7 ((S.1 8 batch.toNatClampNeg 0).toNatClampNeg) 2)) * (heat - (600 : Int32))) / (1000 : Int32)) + ((20 : Int32) * (S.1 7 ((S.1 8 batch.toNatClampNeg 0).toNatClampNeg) 3))) + ((5 : Int32) * hours))) 10 (gmax (0 : Int32) (gmin (999 : Int32) (((S.1 7 ((S.1 8 batch.toNatClampNeg 0).toNatClampNeg) 2) - ((heat - (700 : Int32)) / (10 : Int32))) + ((5 : Int32) * (S.1 7 ((S.1 8 batch.toNatClampNeg 0).toNatClampNeg) 3))))))) 8 batch.toNatClampNeg (upd (upd (upd (S.1 8 batch.toNatClampNeg) 9 ((((((1000 : Int32) - (S.1 7 ((S.1 8 batch.toNatClampNeg 0).toNatClampNeg) 2)) * (heat - (600 : Int32))) / (1000 : Int32)) + ((20 : Int32) * (S.1 7 ((S.1 8 batch.toNatClampNeg 0).toNatClampNeg) 3))) + ((5 : Int32) * hours))) 10 (gmax (0 : Int32) (gmin (999 : Int32) (((S.1 7 ((S.1 8 batch.toNatClampNeg 0).toNatClampNeg) 2) - ((heat - (700 : Int32)) / (10 : Int32))) + ((5 : Int32) * (S.1 7 ((S.1 8 batch.toNatClampNeg 0).toNatClampNeg) 3)))))) 7 kiln)) 8 batch.toNatClampNeg (upd (upd (upd (upd (S.1 8 batch.toNatClampNeg) 9 ((((((1000 : Int32) - (S.1 7 ((S.1 8 batch.toNatClampNeg 0).toNatClampNeg) 2)) * (heat - (600 : Int32))) / (1000 : Int32)) + ((20 : Int32) * (S.1 7 ((S.1 8 batch.toNatClampNeg 0).toNatClampNeg) 3))) + ((5 : Int32) * hours))) 10 (gmax (0 : Int32) (gmin (999 : Int32) (((S.1 7 ((S.1 8 batch.toNatClampNeg 0).toNatClampNeg) 2) - ((heat - (700 : Int32)) / (10 : Int32))) + ((5 : Int32) * (S.1 7 ((S.1 8 batch.toNatClampNeg 0).toNatClampNeg) 3)))))) 7 kiln) 6 (S.1 0 0 2))) 8 batch.toNatClampNeg (upd (upd (upd (upd (upd (S.1 8 batch.toNatClampNeg) 9 ((((((1000 : Int32) - (S.1 7 ((S.1 8 batch.toNatClampNeg 0).toNatClampNeg) 2)) * (heat - (600 : Int32))) / (1000 : Int32)) + ((20 : Int32) * (S.1 7 ((S.1 8 batch.toNatClampNeg 0).toNatClampNeg) 3))) + ((5 : Int32) * hours))) 10 (gmax (0 : Int32) (gmin (999 : Int32) (((S.1 7 ((S.1 8 batch.toNatClampNeg 0).toNatClampNeg) 2) - ((heat - (700 : Int32)) / (10 : Int32))) + ((5 : Int32) * (S.1 7 ((S.1 8 batch.toNatClampNeg 0).toNatClampNeg) 3)))))) 7 kiln) 6 (S.1 0 0 2)) 4 ((S.1 0 0 0) + hours))) 4 0 (upd (S.1 4 0) kiln.toNatClampNeg ((S.1 0 0 0) + hours))) 0 0 (upd (S.1 0 0) 2 ((S.1 0 0 2) + (1 : Int32)))) 8 batch.toNatClampNeg = upd (upd (upd (upd (upd (S.1 8 batch.toNatClampNeg) 9 ((((((1000 : Int32) - (S.1 7 ((S.1 8 batch.toNatClampNeg 0).toNatClampNeg) 2)) * (heat - (600 : Int32))) / (1000 : Int32)) + ((20 : Int32) * (S.1 7 ((S.1 8 batch.toNatClampNeg 0).toNatClampNeg) 3))) + ((5 : Int32) * hours))) 10 (gmax (0 : Int32) (gmin (999 : Int32) (((S.1 7 ((S.1 8 batch.toNatClampNeg 0).toNatClampNeg) 2) - ((heat - (700 : Int32)) / (10 : Int32))) + ((5 : Int32) * (S.1 7 ((S.1 8 batch.toNatClampNeg 0).toNatClampNeg) 3)))))) 7 kiln) 6 (S.1 0 0 2)) 4 ((S.1 0 0 0) + hours) from (gsr_p (by decide) (gsr_p (by decide) gsr_s))) rfl)) rfl) dX1_fire_253 ?_
      exact g_retI F E rfl rfl (gle rfl) (gle rfl) dX1_fire_256 (fun _ hp => ⟨_, _, ((if_pos c_1).trans ((if_pos c_9).trans (if_pos c_15))), rfl, gPE_0 _ hp⟩)
    refine g_if_eq F (tgt := 117) (by decide) dX1_fire_77 (fun c_10 => ?_) (fun c_10 => ?_)
    · skip
      refine g_iconst F (v := (0 : Int32)) (by decide) dX1_fire_117 ?_
      exact g_top (gb_f (fun q => q.1 c_10)) J_14
    · skip
      refine g_aload F 0 rfl dX1_fire_80 ?_
      refine g_aload_n F 1 rfl rfl dX1_fire_82 ?_
      refine g_get F clX1 0 (by decide) q135 (v := .int (S.1 0 0 0)) (gd_get (pr_at (κ := 0) (i := 0) (by decide) (gc1 (gnl rfl)) (gce rfl rfl)) rfl) dX1_fire_83 ?_
      refine g_callV F (kX9_isReady hl (pr_at (κ := 8) (i := batch.toNatClampNeg) (by decide) (gc6 (by decide) c_1.2) (gce rfl rfl))) (g_recv F clX9 (gd_obj (pr_at (κ := 8) (i := batch.toNatClampNeg) (by decide) (gc6 (by decide) c_1.2) (gce rfl rfl)))) q958 q959 q960 q47 q961 myX9_isReady ⟨by decide, by decide⟩ rfl rfl (gle rfl) 5 15 (gle rfl) (gle rfl) (gle rfl) (gle rfl) dX1_fire_86 gx_n (gv_i ?_)
      refine gb_if_eq F (tgt := 117) (by decide) dX1_fire_89 (fun c_11 => ?_) (fun c_11 => ?_)
      · skip
        refine g_iconst F (v := (0 : Int32)) (by decide) dX1_fire_117 ?_
        exact g_top (gb_f (fun q => (fun q => c_11 q.1) q.2)) J_14
      · skip
        refine g_aload F 0 rfl dX1_fire_92 ?_
        refine g_callV F (kX9_isFired hl (pr_at (κ := 8) (i := batch.toNatClampNeg) (by decide) (gc6 (by decide) c_1.2) (gce rfl rfl))) (g_recv F clX9 (gd_obj (pr_at (κ := 8) (i := batch.toNatClampNeg) (by decide) (gc6 (by decide) c_1.2) (gce rfl rfl)))) q962 q963 q964 q47 q965 myX9_isFired ⟨by decide, by decide⟩ rfl rfl (gle rfl) 5 15 (gle rfl) (gle rfl) (gle rfl) (gle rfl) dX1_fire_94 gx_n (gv_i ?_)
        refine gb_if_ne F (tgt := 117) (by decide) dX1_fire_97 (fun c_12 => ?_) (fun c_12 => ?_)
        · skip
          refine g_iconst F (v := (0 : Int32)) (by decide) dX1_fire_117 ?_
          exact g_top (gb_f (fun q => (fun q => (fun q => q.1 c_12) q.2) q.2)) J_14
        · skip
          refine g_aload_n F 1 rfl rfl dX1_fire_100 ?_
          refine g_get F clX1 0 (by decide) q135 (v := .int (S.1 0 0 0)) (gd_get (pr_at (κ := 0) (i := 0) (by decide) (gc1 (gnl rfl)) (gce rfl rfl)) rfl) dX1_fire_101 ?_
          refine g_aload_n F 1 rfl rfl dX1_fire_104 ?_
          refine g_get F clX1 5 (by decide) q140 (v := .ref (A 4 0)) (gd_get (pr_at (κ := 0) (i := 0) (by decide) (gc1 (gnl rfl)) (gce rfl rfl)) rfl) dX1_fire_105 ?_
          refine g_iload_n F 3 rfl rfl dX1_fire_108 ?_
          refine g_iald F (gvp (K := (1 : Int32)) (by decide) ⟨c_9.1.1, c_9.1.2⟩) (pr_at (κ := 4) (i := 0) (by decide) (gc1 (gnl rfl)) (gce rfl rfl)) dX1_fire_109 ?_
          change gW _ _ _ _ (.int (S.1 4 0 kiln.toNatClampNeg) :: _) _ _
          refine g_icmp_lt F (tgt := 117) (by decide) dX1_fire_110 (fun c_13 => ?_) (fun c_13 => ?_)
          · skip
            refine g_iconst F (v := (0 : Int32)) (by decide) dX1_fire_117 ?_
            exact g_top (gb_f (fun q => (fun q => (fun q => (fun q => q c_13) q.2) q.2) q.2)) J_14
          · skip
            refine g_iconst F (v := (1 : Int32)) (by decide) dX1_fire_113 ?_
            refine g_goto F (tgt := 118) (by decide) dX1_fire_114 ?_
            exact g_top (gb_t (⟨c_10, ⟨c_11, ⟨c_12, c_13⟩⟩⟩)) J_14
  refine gb_if_eq F (tgt := 68) (by decide) dX1_fire_25 (fun c_3 => ?_) (fun c_3 => ?_)
  · skip
    refine g_iconst F (v := (0 : Int32)) (by decide) dX1_fire_68 ?_
    exact g_widen (by decide) (by decide) <| g_top (gb_f (fun q => c_3 q.1)) J_8
  · skip
    refine g_sipush F (v := (700 : Int32)) (by decide) dX1_fire_28 ?_
    refine g_sipush F (v := (1200 : Int32)) (by decide) dX1_fire_31 ?_
    refine g_iconst F (v := (1 : Int32)) (by decide) dX1_fire_34 ?_
    refine g_newI F (5000, 0) (N := 1) rfl (by decide) 3 8 (gle rfl) (gle rfl) (gle rfl) (gle rfl) (Pa := fun a_4 => gP 0 G S A Fr [(a_4, gIA G 1 (fun _ => 0))]) (pr_new hF) dX1_fire_35 (fun a_4 => ?_)
    refine g_dup F rfl dX1_fire_37 ?_
    refine g_iconst F (v := (0 : Int32)) (by decide) dX1_fire_38 ?_
    refine g_iload_n F 4 rfl rfl dX1_fire_39 ?_
    refine g_iastN (P2 := gP 0 G S A Fr [(a_4, gIA G 1 (upd (fun _ => 0) 0 heat))]) F (m := 0) rfl (by decide) (by decide) (pr_setT gM0 hF (j := 0) rfl) dX1_fire_40 ?_
    refine g_callS F (kX1_isIn hl (pr_atT (j := 0) rfl)) (lw_S q305 q306 q18 q307) myX1_isIn ⟨by decide, by decide⟩ rfl rfl (gle rfl) 3 8 (gle rfl) (gle rfl) (gle rfl) (gle rfl) dX1_fire_41 gx_n (gv_i ?_)
    refine g_top (show _ = gb (¬ heat < (700 : Int32) ∧ ¬ (1200 : Int32) < heat) from rfl) ?_
    refine g_mono (P2 := gP 0 G S A Fr []) (fun _ hp => gP_Tl 0 hp) ?_
    refine gb_if_eq F (tgt := 68) (by decide) dX1_fire_44 (fun c_5 => ?_) (fun c_5 => ?_)
    · skip
      refine g_iconst F (v := (0 : Int32)) (by decide) dX1_fire_68 ?_
      exact g_widen (by decide) (by decide) <| g_top (gb_f (fun q => (fun q => c_5 q.1) q.2)) J_8
    · skip
      refine g_iconst F (v := (1 : Int32)) (by decide) dX1_fire_47 ?_
      refine g_bipush F (v := (12 : Int32)) (by decide) dX1_fire_48 ?_
      refine g_iconst F (v := (1 : Int32)) (by decide) dX1_fire_50 ?_
      refine g_newI F (5000, 0) (N := 1) rfl (by decide) 4 9 (gle rfl) (gle rfl) (gle rfl) (gle rfl) (Pa := fun a_6 => gP 0 G S A Fr [(a_6, gIA G 1 (fun _ => 0))]) (pr_new hF) dX1_fire_51 (fun a_6 => ?_)
      refine g_dup F rfl dX1_fire_53 ?_
      refine g_iconst F (v := (0 : Int32)) (by decide) dX1_fire_54 ?_
      refine g_iload F 5 rfl dX1_fire_55 ?_
      refine g_iastN (P2 := gP 0 G S A Fr [(a_6, gIA G 1 (upd (fun _ => 0) 0 hours))]) F (m := 0) rfl (by decide) (by decide) (pr_setT gM0 hF (j := 0) rfl) dX1_fire_57 ?_
      refine g_callS F (kX1_isIn hl (pr_atT (j := 0) rfl)) (lw_S q305 q306 q18 q307) myX1_isIn ⟨by decide, by decide⟩ rfl rfl (gle rfl) 4 9 (gle rfl) (gle rfl) (gle rfl) (gle rfl) dX1_fire_58 gx_n (gv_i ?_)
      refine g_top (show _ = gb (¬ hours < (1 : Int32) ∧ ¬ (12 : Int32) < hours) from rfl) ?_
      refine g_mono (P2 := gP 0 G S A Fr []) (fun _ hp => gP_Tl 0 hp) ?_
      refine gb_if_eq F (tgt := 68) (by decide) dX1_fire_61 (fun c_7 => ?_) (fun c_7 => ?_)
      · skip
        refine g_iconst F (v := (0 : Int32)) (by decide) dX1_fire_68 ?_
        exact g_top (gb_f (fun q => (fun q => c_7 q.2) q.2)) J_8
      · skip
        refine g_iconst F (v := (1 : Int32)) (by decide) dX1_fire_64 ?_
        refine g_goto F (tgt := 69) (by decide) dX1_fire_65 ?_
        exact g_top (gb_t (⟨c_3, ⟨c_5, c_7⟩⟩)) J_8

def sC_dry (S : gS) (batch speed : Int32) : gO := if gIn batch (S.2 8) then (if ¬ speed < (1 : Int32) ∧ ¬ (5 : Int32) < speed then (if (S.1 8 batch.toNatClampNeg 5) = 0 then (.inr (.int ((S.1 0 0 0) + ((((18 : Int32) + speed) - (1 : Int32)) / speed)), (gsr (gsr (gsr (gsr S.1 8 batch.toNatClampNeg (upd (S.1 8 batch.toNatClampNeg) 5 (1 : Int32))) 8 batch.toNatClampNeg (upd (upd (S.1 8 batch.toNatClampNeg) 5 (1 : Int32)) 4 ((S.1 0 0 0) + ((((18 : Int32) + speed) - (1 : Int32)) / speed)))) 8 batch.toNatClampNeg (upd (upd (upd (S.1 8 batch.toNatClampNeg) 5 (1 : Int32)) 4 ((S.1 0 0 0) + ((((18 : Int32) + speed) - (1 : Int32)) / speed))) 2 ((((S.1 8 batch.toNatClampNeg 1) * (speed - (1 : Int32))) * ((10 : Int32) - (S.1 7 ((S.1 8 batch.toNatClampNeg 0).toNatClampNeg) 3))) / (500 : Int32)))) 8 batch.toNatClampNeg (upd (upd (upd (upd (S.1 8 batch.toNatClampNeg) 5 (1 : Int32)) 4 ((S.1 0 0 0) + ((((18 : Int32) + speed) - (1 : Int32)) / speed))) 2 ((((S.1 8 batch.toNatClampNeg 1) * (speed - (1 : Int32))) * ((10 : Int32) - (S.1 7 ((S.1 8 batch.toNatClampNeg 0).toNatClampNeg) 3))) / (500 : Int32))) 1 ((S.1 8 batch.toNatClampNeg 1) - ((((S.1 8 batch.toNatClampNeg 1) * (speed - (1 : Int32))) * ((10 : Int32) - (S.1 7 ((S.1 8 batch.toNatClampNeg 0).toNatClampNeg) 3))) / (500 : Int32)))), S.2))) else (.inl "java/lang/UnsupportedOperationException")) else (.inl "java/lang/IllegalArgumentException")) else (.inl "java/lang/IndexOutOfBoundsException")
theorem kX1_dry {l : Launch} {G : gG} (hl : l.stackTraces = false) {S : gS} {a0 : Nat} {Fr : gH → Prop} (hF : gFr 0 Fr) (hW : gWf S) {batch speed : Int32}  : gMet l yX1_dry (ws_ yX1_dry cX1_dry 4 (some .int)) ⟨8, 4, 19, 123⟩ G [.ref a0, .int batch, .int speed] (gPE 0 G S a0 Fr) (gqS (sC_dry S batch speed) 0 G a0 Fr) (gxS (sC_dry S batch speed) 0 G S a0 Fr) := by
  refine gMet_of hl pnX1 (gle rfl) (fun X Q hX F E hNm => ?_)
  subst hX
  change gW (X, G, 4, Q) (gPE 0 G S a0 Fr) [(0, .ref a0), (1, .int batch), (2, .int speed)] 0 [] 0 0
  refine g_pe (fun A hA => ?_)
  subst hA
  change gW _ _ [(0, .ref (A 0 0)), (1, .int batch), (2, .int speed)] 0 [] 0 0
  refine g_aload_n F 0 rfl rfl dX1_dry_0 ?_
  refine g_get F clX1 9 (by decide) q144 (v := .ref (A 308 0)) (gd_get (pr_at (κ := 0) (i := 0) (by decide) (gc1 (gnl rfl)) (gce rfl rfl)) rfl) dX1_dry_1 ?_
  refine g_iload_n F 1 rfl rfl dX1_dry_4 ?_
  refine g_callS F (kX1_require hl (pr_ls (κ := 8) (by decide) (Or.inl ⟨by decide, by decide⟩) (fun _ => by decide) (fun _ => by decide)) (gw_n hW _) (x := batch)) (lw_S q784 q785 q18 q786) myX1_require ⟨by decide, by decide⟩ rfl rfl (gle rfl) 1 6 (gle rfl) (gle rfl) (gle rfl) (gle rfl) dX1_dry_5 (gx_1 (fun c_1 => g_out0 F E (gle rfl) (gle rfl) (fun _ hp => ⟨(if_neg c_1), gPE_0 _ hp⟩))) (gv_y (fun c_1 => ?_))
  refine g_castS F (g_recv F clX9 (gd_obj (pr_at (κ := 8) (i := batch.toNatClampNeg) (by decide) (gc6 (by decide) c_1.2) (gce rfl rfl)))) q295 dX1_dry_8 ?_
  refine g_astore_n F rfl (by show 3 < 4; decide) (lv2 := [(3, .ref (A 8 batch.toNatClampNeg)), (0, .ref (A 0 0)), (1, .int batch), (2, .int speed)]) rfl dX1_dry_11 ?_
  refine g_iconst F (v := (1 : Int32)) (by decide) dX1_dry_12 ?_
  refine g_iconst F (v := (5 : Int32)) (by decide) dX1_dry_13 ?_
  refine g_iconst F (v := (1 : Int32)) (by decide) dX1_dry_14 ?_
  refine g_newI F (5000, 0) (N := 1) rfl (by decide) 2 7 (gle rfl) (gle rfl) (gle rfl) (gle rfl) (Pa := fun a_2 => gP 0 G S A Fr [(a_2, gIA G 1 (fun _ => 0))]) (pr_new hF) dX1_dry_15 (fun a_2 => ?_)
  refine g_dup F rfl dX1_dry_17 ?_
  refine g_iconst F (v := (0 : Int32)) (by decide) dX1_dry_18 ?_
  refine g_iload_n F 3 rfl rfl dX1_dry_19 ?_
  refine g_iastN (P2 := gP 0 G S A Fr [(a_2, gIA G 1 (upd (fun _ => 0) 0 speed))]) F (m := 0) rfl (by decide) (by decide) (pr_setT gM0 hF (j := 0) rfl) dX1_dry_20 ?_
  refine g_callS F (kX1_isIn hl (pr_atT (j := 0) rfl)) (lw_S q305 q306 q18 q307) myX1_isIn ⟨by decide, by decide⟩ rfl rfl (gle rfl) 2 7 (gle rfl) (gle rfl) (gle rfl) (gle rfl) dX1_dry_21 gx_n (gv_i ?_)
  refine g_top (show _ = gb (¬ speed < (1 : Int32) ∧ ¬ (5 : Int32) < speed) from rfl) ?_
  refine g_mono (P2 := gP 0 G S A Fr []) (fun _ hp => gP_Tl 0 hp) ?_
  refine g_callS F (kX1_requireArgument hl (c := ¬ speed < (1 : Int32) ∧ ¬ (5 : Int32) < speed)) (lw_S q335 q336 q18 q337) myX1_requireArgument ⟨by decide, by decide⟩ rfl rfl (gle rfl) 3 13 (gle rfl) (gle rfl) (gle rfl) (gle rfl) dX1_dry_24 (gx_1 (fun c_3 => g_out0 F E (gle rfl) (gle rfl) (fun _ hp => ⟨((if_pos c_1).trans (if_neg c_3)), gPE_0 _ hp⟩))) (gv_c (fun c_3 => ?_))
  refine g_aload_n F 0 rfl rfl dX1_dry_27 ?_
  refine g_getN F clX9 6 (by decide) (gT_w q895 rfl) (v := .int (S.1 8 batch.toNatClampNeg 5)) (gd_get (pr_at (κ := 8) (i := batch.toNatClampNeg) (by decide) (gc6 (by decide) c_1.2) (gce rfl rfl)) rfl) dX1_dry_28 ?_
  have J_5 : gW (X, G, 4, Q) (gP 0 G S A Fr []) [(3, .ref (A 8 batch.toNatClampNeg)), (0, .ref (A 0 0)), (1, .int batch), (2, .int speed)] 39 [.int (gb ((S.1 8 batch.toNatClampNeg 5) = 0))] 3 13 := by
    refine g_callS F (kX1_requireSupported hl (c := (S.1 8 batch.toNatClampNeg 5) = 0)) (lw_S q512 q513 q18 q514) myX1_requireSupported ⟨by decide, by decide⟩ rfl rfl (gle rfl) 4 19 (gle rfl) (gle rfl) (gle rfl) (gle rfl) dX1_dry_39 (gx_1 (fun c_6 => g_out0 F E (gle rfl) (gle rfl) (fun _ hp => ⟨((if_pos c_1).trans ((if_pos c_3).trans (if_neg c_6))), gPE_0 _ hp⟩))) (gv_c (fun c_6 => ?_))
    refine g_aload_n F 0 rfl rfl dX1_dry_42 ?_
    refine g_iconst F (v := (1 : Int32)) (by decide) dX1_dry_43 ?_
    refine g_putN (P2 := gP 0 G (gsr S.1 8 batch.toNatClampNeg (upd (S.1 8 batch.toNatClampNeg) 5 (1 : Int32)), S.2) A Fr []) F clX9 6 (by decide) (gT_w q895 rfl) rfl rfl rfl (pr_put (κ := 8) (i := batch.toNatClampNeg) gM0 hF (upd (S.1 8 batch.toNatClampNeg) 5 (1 : Int32)) (by decide) (gc6 (by decide) c_1.2) (gce rfl rfl) (gnl rfl) rfl) dX1_dry_44 ?_
    refine g_aload_n F 0 rfl rfl dX1_dry_47 ?_
    refine g_aload_n F 1 rfl rfl dX1_dry_48 ?_
    refine g_get F clX1 0 (by decide) q135 (v := .int (S.1 0 0 0)) (gd_get (pr_at (κ := 0) (i := 0) (by decide) (gc1 (gnl rfl)) (gce (show (gsr S.1 8 batch.toNatClampNeg (upd (S.1 8 batch.toNatClampNeg) 5 (1 : Int32))) 0 0 = S.1 0 0 from (gsr_p (by decide) rfl)) rfl)) rfl) dX1_dry_49 ?_
    refine g_bipush F (v := (18 : Int32)) (by decide) dX1_dry_52 ?_
    refine g_iload_n F 3 rfl rfl dX1_dry_54 ?_
    refine g_iadd F dX1_dry_55 ?_
    refine g_iconst F (v := (1 : Int32)) (by decide) dX1_dry_56 ?_
    refine g_isub F dX1_dry_57 ?_
    refine g_iload_n F 3 rfl rfl dX1_dry_58 ?_
    refine g_idiv F (gnz1 c_3.1) dX1_dry_59 ?_
    refine g_iadd F dX1_dry_60 ?_
    refine g_putN (P2 := gP 0 G (gsr (gsr S.1 8 batch.toNatClampNeg (upd (S.1 8 batch.toNatClampNeg) 5 (1 : Int32))) 8 batch.toNatClampNeg (upd (upd (S.1 8 batch.toNatClampNeg) 5 (1 : Int32)) 4 ((S.1 0 0 0) + ((((18 : Int32) + speed) - (1 : Int32)) / speed))), S.2) A Fr []) F clX9 5 (by decide) (gT_w q894 rfl) rfl rfl rfl (pr_put (κ := 8) (i := batch.toNatClampNeg) gM0 hF (upd (upd (S.1 8 batch.toNatClampNeg) 5 (1 : Int32)) 4 ((S.1 0 0 0) + ((((18 : Int32) + speed) - (1 : Int32)) / speed))) (by decide) (gc6 (by decide) c_1.2) (gce (show (gsr S.1 8 batch.toNatClampNeg (upd (S.1 8 batch.toNatClampNeg) 5 (1 : Int32))) 8 batch.toNatClampNeg = upd (S.1 8 batch.toNatClampNeg) 5 (1 : Int32) from gsr_s) rfl) (gnl rfl) rfl) dX1_dry_61 ?_
    refine g_aload_n F 0 rfl rfl dX1_dry_64 ?_
    refine g_aload_n F 0 rfl rfl dX1_dry_65 ?_
    refine g_getN F clX9 3 (by decide) (gT_w q891 rfl) (v := .int (S.1 8 batch.toNatClampNeg 1)) (gd_get (pr_at (κ := 8) (i := batch.toNatClampNeg) (by decide) (gc6 (by decide) c_1.2) (gce (show (gsr (gsr S.1 8 batch.toNatClampNeg (upd (S.1 8 batch.toNatClampNeg) 5 (1 : Int32))) 8 batch.toNatClampNeg (upd (upd (S.1 8 batch.toNatClampNeg) 5 (1 : Int32)) 4 ((S.1 0 0 0) + ((((18 : Int32) + speed) - (1 : Int32)) / speed)))) 8 batch.toNatClampNeg = upd (upd (S.1 8 batch.toNatClampNeg) 5 (1 : Int32)) 4 ((S.1 0 0 0) + ((((18 : Int32) + speed) - (1 : Int32)) / speed)) from gsr_s) rfl)) rfl) dX1_dry_66 ?_
    refine g_iload_n F 3 rfl rfl dX1_dry_69 ?_
    refine g_iconst F (v := (1 : Int32)) (by decide) dX1_dry_70 ?_
    refine g_isub F dX1_dry_71 ?_
    refine g_imul F dX1_dry_72 ?_
    refine g_bipush F (v := (10 : Int32)) (by decide) dX1_dry_73 ?_
    refine g_aload_n F 0 rfl rfl dX1_dry_75 ?_
    refine g_getN F clX9 1 (by decide) (gT_w q886 rfl) (v := .ref (A 7 (S.1 8 batch.toNatClampNeg 0).toNatClampNeg)) (gd_get (pr_at (κ := 8) (i := batch.toNatClampNeg) (by decide) (gc6 (by decide) c_1.2) (gce (show (gsr (gsr S.1 8 batch.toNatClampNeg (upd (S.1 8 batch.toNatClampNeg) 5 (1 : Int32))) 8 batch.toNatClampNeg (upd (upd (S.1 8 batch.toNatClampNeg) 5 (1 : Int32)) 4 ((S.1 0 0 0) + ((((18 : Int32) + speed) - (1 : Int32)) / speed)))) 8 batch.toNatClampNeg = upd (upd (S.1 8 batch.toNatClampNeg) 5 (1 : Int32)) 4 ((S.1 0 0 0) + ((((18 : Int32) + speed) - (1 : Int32)) / speed)) from gsr_s) rfl)) rfl) dX1_dry_76 ?_
    refine g_getN F clX8 3 (by decide) (gT_w q846 rfl) (v := .int (S.1 7 ((S.1 8 batch.toNatClampNeg 0).toNatClampNeg) 3)) (gd_get (pr_at (κ := 7) (i := (S.1 8 batch.toNatClampNeg 0).toNatClampNeg) (by decide) (gc6 (by decide) (gw_8_0 hW c_1.2).2) (gce (show (gsr (gsr S.1 8 batch.toNatClampNeg (upd (S.1 8 batch.toNatClampNeg) 5 (1 : Int32))) 8 batch.toNatClampNeg (upd (upd (S.1 8 batch.toNatClampNeg) 5 (1 : Int32)) 4 ((S.1 0 0 0) + ((((18 : Int32) + speed) - (1 : Int32)) / speed)))) 7 ((S.1 8 batch.toNatClampNeg 0).toNatClampNeg) = S.1 7 ((S.1 8 batch.toNatClampNeg 0).toNatClampNeg) from (gsr_p (by decide) (gsr_p (by decide) rfl))) rfl)) rfl) dX1_dry_79 ?_
    refine g_isub F dX1_dry_82 ?_
    refine g_imul F dX1_dry_83 ?_
    refine g_sipush F (v := (500 : Int32)) (by decide) dX1_dry_84 ?_
    refine g_idiv F (by decide) dX1_dry_87 ?_
    refine g_putN (P2 := gP 0 G (gsr (gsr (gsr S.1 8 batch.toNatClampNeg (upd (S.1 8 batch.toNatClampNeg) 5 (1 : Int32))) 8 batch.toNatClampNeg (upd (upd (S.1 8 batch.toNatClampNeg) 5 (1 : Int32)) 4 ((S.1 0 0 0) + ((((18 : Int32) + speed) - (1 : Int32)) / speed)))) 8 batch.toNatClampNeg (upd (upd (upd (S.1 8 batch.toNatClampNeg) 5 (1 : Int32)) 4 ((S.1 0 0 0) + ((((18 : Int32) + speed) - (1 : Int32)) / speed))) 2 ((((S.1 8 batch.toNatClampNeg 1) * (speed - (1 : Int32))) * ((10 : Int32) - (S.1 7 ((S.1 8 batch.toNatClampNeg 0).toNatClampNeg) 3))) / (500 : Int32))), S.2) A Fr []) F clX9 4 (by decide) (gT_w q892 rfl) rfl rfl rfl (pr_put (κ := 8) (i := batch.toNatClampNeg) gM0 hF (upd (upd (upd (S.1 8 batch.toNatClampNeg) 5 (1 : Int32)) 4 ((S.1 0 0 0) + ((((18 : Int32) + speed) - (1 : Int32)) / speed))) 2 ((((S.1 8 batch.toNatClampNeg 1) * (speed - (1 : Int32))) * ((10 : Int32) - (S.1 7 ((S.1 8 batch.toNatClampNeg 0).toNatClampNeg) 3))) / (500 : Int32))) (by decide) (gc6 (by decide) c_1.2) (gce (show (gsr (gsr S.1 8 batch.toNatClampNeg (upd (S.1 8 batch.toNatClampNeg) 5 (1 : Int32))) 8 batch.toNatClampNeg (upd (upd (S.1 8 batch.toNatClampNeg) 5 (1 : Int32)) 4 ((S.1 0 0 0) + ((((18 : Int32) + speed) - (1 : Int32)) / speed)))) 8 batch.toNatClampNeg = upd (upd (S.1 8 batch.toNatClampNeg) 5 (1 : Int32)) 4 ((S.1 0 0 0) + ((((18 : Int32) + speed) - (1 : Int32)) / speed)) from gsr_s) rfl) (gnl rfl) rfl) dX1_dry_88 ?_
    refine g_aload_n F 0 rfl rfl dX1_dry_91 ?_
    refine g_dup F rfl dX1_dry_92 ?_
    refine g_getN F clX9 3 (by decide) (gT_w q891 rfl) (v := .int (S.1 8 batch.toNatClampNeg 1)) (gd_get (pr_at (κ := 8) (i := batch.toNatClampNeg) (by decide) (gc6 (by decide) c_1.2) (gce (show (gsr (gsr (gsr S.1 8 batch.toNatClampNeg (upd (S.1 8 batch.toNatClampNeg) 5 (1 : Int32))) 8 batch.toNatClampNeg (upd (upd (S.1 8 batch.toNatClampNeg) 5 (1 : Int32)) 4 ((S.1 0 0 0) + ((((18 : Int32) + speed) - (1 : Int32)) / speed)))) 8 batch.toNatClampNeg (upd (upd (upd (S.1 8 batch.toNatClampNeg) 5 (1 : Int32)) 4 ((S.1 0 0 0) + ((((18 : Int32) + speed) - (1 : Int32)) / speed))) 2 ((((S.1 8 batch.toNatClampNeg 1) * (speed - (1 : Int32))) * ((10 : Int32) - (S.1 7 ((S.1 8 batch.toNatClampNeg 0).toNatClampNeg) 3))) / (500 : Int32)))) 8 batch.toNatClampNeg = upd (upd (upd (S.1 8 batch.toNatClampNeg) 5 (1 : Int32)) 4 ((S.1 0 0 0) + ((((18 : Int32) + speed) - (1 : Int32)) / speed))) 2 ((((S.1 8 batch.toNatClampNeg 1) * (speed - (1 : Int32))) * ((10 : Int32) - (S.1 7 ((S.1 8 batch.toNatClampNeg 0).toNatClampNeg) 3))) / (500 : Int32)) from gsr_s) rfl)) rfl) dX1_dry_93 ?_
    refine g_aload_n F 0 rfl rfl dX1_dry_96 ?_
    refine g_getN F clX9 4 (by decide) (gT_w q892 rfl) (v := .int ((((S.1 8 batch.toNatClampNeg 1) * (speed - (1 : Int32))) * ((10 : Int32) - (S.1 7 ((S.1 8 batch.toNatClampNeg 0).toNatClampNeg) 3))) / (500 : Int32))) (gd_get (pr_at (κ := 8) (i := batch.toNatClampNeg) (by decide) (gc6 (by decide) c_1.2) (gce (show (gsr (gsr (gsr S.1 8 batch.toNatClampNeg (upd (S.1 8 batch.toNatClampNeg) 5 (1 : Int32))) 8 batch.toNatClampNeg (upd (upd (S.1 8 batch.toNatClampNeg) 5 (1 : Int32)) 4 ((S.1 0 0 0) + ((((18 : Int32) + speed) - (1 : Int32)) / speed)))) 8 batch.toNatClampNeg (upd (upd (upd (S.1 8 batch.toNatClampNeg) 5 (1 : Int32)) 4 ((S.1 0 0 0) + ((((18 : Int32) + speed) - (1 : Int32)) / speed))) 2 ((((S.1 8 batch.toNatClampNeg 1) * (speed - (1 : Int32))) * ((10 : Int32) - (S.1 7 ((S.1 8 batch.toNatClampNeg 0).toNatClampNeg) 3))) / (500 : Int32)))) 8 batch.toNatClampNeg = upd (upd (upd (S.1 8 batch.toNatClampNeg) 5 (1 : Int32)) 4 ((S.1 0 0 0) + ((((18 : Int32) + speed) - (1 : Int32)) / speed))) 2 ((((S.1 8 batch.toNatClampNeg 1) * (speed - (1 : Int32))) * ((10 : Int32) - (S.1 7 ((S.1 8 batch.toNatClampNeg 0).toNatClampNeg) 3))) / (500 : Int32)) from gsr_s) rfl)) rfl) dX1_dry_97 ?_
    refine g_isub F dX1_dry_100 ?_
    refine g_putN (P2 := gP 0 G (gsr (gsr (gsr (gsr S.1 8 batch.toNatClampNeg (upd (S.1 8 batch.toNatClampNeg) 5 (1 : Int32))) 8 batch.toNatClampNeg (upd (upd (S.1 8 batch.toNatClampNeg) 5 (1 : Int32)) 4 ((S.1 0 0 0) + ((((18 : Int32) + speed) - (1 : Int32)) / speed)))) 8 batch.toNatClampNeg (upd (upd (upd (S.1 8 batch.toNatClampNeg) 5 (1 : Int32)) 4 ((S.1 0 0 0) + ((((18 : Int32) + speed) - (1 : Int32)) / speed))) 2 ((((S.1 8 batch.toNatClampNeg 1) * (speed - (1 : Int32))) * ((10 : Int32) - (S.1 7 ((S.1 8 batch.toNatClampNeg 0).toNatClampNeg) 3))) / (500 : Int32)))) 8 batch.toNatClampNeg (upd (upd (upd (upd (S.1 8 batch.toNatClampNeg) 5 (1 : Int32)) 4 ((S.1 0 0 0) + ((((18 : Int32) + speed) - (1 : Int32)) / speed))) 2 ((((S.1 8 batch.toNatClampNeg 1) * (speed - (1 : Int32))) * ((10 : Int32) - (S.1 7 ((S.1 8 batch.toNatClampNeg 0).toNatClampNeg) 3))) / (500 : Int32))) 1 ((S.1 8 batch.toNatClampNeg 1) - ((((S.1 8 batch.toNatClampNeg 1) * (speed - (1 : Int32))) * ((10 : Int32) - (S.1 7 ((S.1 8 batch.toNatClampNeg 0).toNatClampNeg) 3))) / (500 : Int32)))), S.2) A Fr []) F clX9 3 (by decide) (gT_w q891 rfl) rfl rfl rfl (pr_put (κ := 8) (i := batch.toNatClampNeg) gM0 hF (upd (upd (upd (upd (S.1 8 batch.toNatClampNeg) 5 (1 : Int32)) 4 ((S.1 0 0 0) + ((((18 : Int32) + speed) - (1 : Int32)) / speed))) 2 ((((S.1 8 batch.toNatClampNeg 1) * (speed - (1 : Int32))) * ((10 : Int32) - (S.1 7 ((S.1 8 batch.toNatClampNeg 0).toNatClampNeg) 3))) / (500 : Int32))) 1 ((S.1 8 batch.toNatClampNeg 1) - ((((S.1 8 batch.toNatClampNeg 1) * (speed - (1 : Int32))) * ((10 : Int32) - (S.1 7 ((S.1 8 batch.toNatClampNeg 0).toNatClampNeg) 3))) / (500 : Int32)))) (by decide) (gc6 (by decide) c_1.2) (gce (show (gsr (gsr (gsr S.1 8 batch.toNatClampNeg (upd (S.1 8 batch.toNatClampNeg) 5 (1 : Int32))) 8 batch.toNatClampNeg (upd (upd (S.1 8 batch.toNatClampNeg) 5 (1 : Int32)) 4 ((S.1 0 0 0) + ((((18 : Int32) + speed) - (1 : Int32)) / speed)))) 8 batch.toNatClampNeg (upd (upd (upd (S.1 8 batch.toNatClampNeg) 5 (1 : Int32)) 4 ((S.1 0 0 0) + ((((18 : Int32) + speed) - (1 : Int32)) / speed))) 2 ((((S.1 8 batch.toNatClampNeg 1) * (speed - (1 : Int32))) * ((10 : Int32) - (S.1 7 ((S.1 8 batch.toNatClampNeg 0).toNatClampNeg) 3))) / (500 : Int32)))) 8 batch.toNatClampNeg = upd (upd (upd (S.1 8 batch.toNatClampNeg) 5 (1 : Int32)) 4 ((S.1 0 0 0) + ((((18 : Int32) + speed) - (1 : Int32)) / speed))) 2 ((((S.1 8 batch.toNatClampNeg 1) * (speed - (1 : Int32))) * ((10 : Int32) - (S.1 7 ((S.1 8 batch.toNatClampNeg 0).toNatClampNeg) 3))) / (500 : Int32)) from gsr_s) rfl) (gnl rfl) rfl) dX1_dry_101 ?_
    refine g_aload_n F 0 rfl rfl dX1_dry_104 ?_
    refine g_getN F clX9 5 (by decide) (gT_w q894 rfl) (v := .int ((S.1 0 0 0) + ((((18 : Int32) + speed) - (1 : Int32)) / speed))) (gd_get (pr_at (κ := 8) (i := batch.toNatClampNeg) (by decide) (gc6 (by decide) c_1.2) (gce (show (gsr (gsr (gsr (gsr S.1 8 batch.toNatClampNeg (upd (S.1 8 batch.toNatClampNeg) 5 (1 : Int32))) 8 batch.toNatClampNeg (upd (upd (S.1 8 batch.toNatClampNeg) 5 (1 : Int32)) 4 ((S.1 0 0 0) + ((((18 : Int32) + speed) - (1 : Int32)) / speed)))) 8 batch.toNatClampNeg (upd (upd (upd (S.1 8 batch.toNatClampNeg) 5 (1 : Int32)) 4 ((S.1 0 0 0) + ((((18 : Int32) + speed) - (1 : Int32)) / speed))) 2 ((((S.1 8 batch.toNatClampNeg 1) * (speed - (1 : Int32))) * ((10 : Int32) - (S.1 7 ((S.1 8 batch.toNatClampNeg 0).toNatClampNeg) 3))) / (500 : Int32)))) 8 batch.toNatClampNeg (upd (upd (upd (upd (S.1 8 batch.toNatClampNeg) 5 (1 : Int32)) 4 ((S.1 0 0 0) + ((((18 : Int32) + speed) - (1 : Int32)) / speed))) 2 ((((S.1 8 batch.toNatClampNeg 1) * (speed - (1 : Int32))) * ((10 : Int32) - (S.1 7 ((S.1 8 batch.toNatClampNeg 0).toNatClampNeg) 3))) / (500 : Int32))) 1 ((S.1 8 batch.toNatClampNeg 1) - ((((S.1 8 batch.toNatClampNeg 1) * (speed - (1 : Int32))) * ((10 : Int32) - (S.1 7 ((S.1 8 batch.toNatClampNeg 0).toNatClampNeg) 3))) / (500 : Int32))))) 8 batch.toNatClampNeg = upd (upd (upd (upd (S.1 8 batch.toNatClampNeg) 5 (1 : Int32)) 4 ((S.1 0 0 0) + ((((18 : Int32) + speed) - (1 : Int32)) / speed))) 2 ((((S.1 8 batch.toNatClampNeg 1) * (speed - (1 : Int32))) * ((10 : Int32) - (S.1 7 ((S.1 8 batch.toNatClampNeg 0).toNatClampNeg) 3))) / (500 : Int32))) 1 ((S.1 8 batch.toNatClampNeg 1) - ((((S.1 8 batch.toNatClampNeg 1) * (speed - (1 : Int32))) * ((10 : Int32) - (S.1 7 ((S.1 8 batch.toNatClampNeg 0).toNatClampNeg) 3))) / (500 : Int32))) from gsr_s) rfl)) rfl) dX1_dry_105 ?_
    exact g_retI F E rfl rfl (gle rfl) (gle rfl) dX1_dry_108 (fun _ hp => ⟨_, _, ((if_pos c_1).trans ((if_pos c_3).trans (if_pos c_6))), rfl, gPE_0 _ hp⟩)
  refine g_if_ne F (tgt := 38) (by decide) dX1_dry_31 (fun c_4 => ?_) (fun c_4 => ?_)
  · skip
    refine g_iconst F (v := (0 : Int32)) (by decide) dX1_dry_38 ?_
    exact g_top (gb_f c_4) J_5
  · skip
    refine g_iconst F (v := (1 : Int32)) (by decide) dX1_dry_34 ?_
    refine g_goto F (tgt := 39) (by decide) dX1_dry_35 ?_
    exact g_top (gb_t c_4) J_5

def sC_soak (S : gS) (batch wax : Int32) : gO := if gIn batch (S.2 8) then (if ¬ wax < (1 : Int32) ∧ ¬ (5 : Int32) < wax then (if (¬ ((S.1 8 batch.toNatClampNeg 6) = (-1 : Int32))) ∧ ((¬ ((S.1 0 0 0) < (S.1 8 batch.toNatClampNeg 4))) ∧ ((S.1 8 batch.toNatClampNeg 8) = 0)) then (.inr (.int ((S.1 8 batch.toNatClampNeg 9) + ((10 : Int32) * wax)), (gsr (gsr (gsr S.1 8 batch.toNatClampNeg (upd (S.1 8 batch.toNatClampNeg) 8 (1 : Int32))) 8 batch.toNatClampNeg (upd (upd (S.1 8 batch.toNatClampNeg) 8 (1 : Int32)) 9 ((S.1 8 batch.toNatClampNeg 9) + ((10 : Int32) * wax)))) 8 batch.toNatClampNeg (upd (upd (upd (S.1 8 batch.toNatClampNeg) 8 (1 : Int32)) 9 ((S.1 8 batch.toNatClampNeg 9) + ((10 : Int32) * wax))) 10 (gmin (999 : Int32) ((S.1 8 batch.toNatClampNeg 10) + ((8 : Int32) * wax)))), S.2))) else (.inl "java/lang/UnsupportedOperationException")) else (.inl "java/lang/IllegalArgumentException")) else (.inl "java/lang/IndexOutOfBoundsException")
theorem kX1_soak {l : Launch} {G : gG} (hl : l.stackTraces = false) {S : gS} {a0 : Nat} {Fr : gH → Prop} (hF : gFr 0 Fr) (hW : gWf S) {batch wax : Int32}  : gMet l yX1_soak (ws_ yX1_soak cX1_soak 4 (some .int)) ⟨8, 4, 19, 123⟩ G [.ref a0, .int batch, .int wax] (gPE 0 G S a0 Fr) (gqS (sC_soak S batch wax) 0 G a0 Fr) (gxS (sC_soak S batch wax) 0 G S a0 Fr) := by
  refine gMet_of hl pnX1 (gle rfl) (fun X Q hX F E hNm => ?_)
  subst hX
  change gW (X, G, 4, Q) (gPE 0 G S a0 Fr) [(0, .ref a0), (1, .int batch), (2, .int wax)] 0 [] 0 0
  refine g_pe (fun A hA => ?_)
  subst hA
  change gW _ _ [(0, .ref (A 0 0)), (1, .int batch), (2, .int wax)] 0 [] 0 0
  refine g_aload_n F 0 rfl rfl dX1_soak_0 ?_
  refine g_get F clX1 9 (by decide) q144 (v := .ref (A 308 0)) (gd_get (pr_at (κ := 0) (i := 0) (by decide) (gc1 (gnl rfl)) (gce rfl rfl)) rfl) dX1_soak_1 ?_
  refine g_iload_n F 1 rfl rfl dX1_soak_4 ?_
  refine g_callS F (kX1_require hl (pr_ls (κ := 8) (by decide) (Or.inl ⟨by decide, by decide⟩) (fun _ => by decide) (fun _ => by decide)) (gw_n hW _) (x := batch)) (lw_S q784 q785 q18 q786) myX1_require ⟨by decide, by decide⟩ rfl rfl (gle rfl) 1 6 (gle rfl) (gle rfl) (gle rfl) (gle rfl) dX1_soak_5 (gx_1 (fun c_1 => g_out0 F E (gle rfl) (gle rfl) (fun _ hp => ⟨(if_neg c_1), gPE_0 _ hp⟩))) (gv_y (fun c_1 => ?_))
  refine g_castS F (g_recv F clX9 (gd_obj (pr_at (κ := 8) (i := batch.toNatClampNeg) (by decide) (gc6 (by decide) c_1.2) (gce rfl rfl)))) q295 dX1_soak_8 ?_
  refine g_astore_n F rfl (by show 3 < 4; decide) (lv2 := [(3, .ref (A 8 batch.toNatClampNeg)), (0, .ref (A 0 0)), (1, .int batch), (2, .int wax)]) rfl dX1_soak_11 ?_
  refine g_iconst F (v := (1 : Int32)) (by decide) dX1_soak_12 ?_
  refine g_iconst F (v := (5 : Int32)) (by decide) dX1_soak_13 ?_
  refine g_iconst F (v := (1 : Int32)) (by decide) dX1_soak_14 ?_
  refine g_newI F (5000, 0) (N := 1) rfl (by decide) 2 7 (gle rfl) (gle rfl) (gle rfl) (gle rfl) (Pa := fun a_2 => gP 0 G S A Fr [(a_2, gIA G 1 (fun _ => 0))]) (pr_new hF) dX1_soak_15 (fun a_2 => ?_)
  refine g_dup F rfl dX1_soak_17 ?_
  refine g_iconst F (v := (0 : Int32)) (by decide) dX1_soak_18 ?_
  refine g_iload_n F 3 rfl rfl dX1_soak_19 ?_
  refine g_iastN (P2 := gP 0 G S A Fr [(a_2, gIA G 1 (upd (fun _ => 0) 0 wax))]) F (m := 0) rfl (by decide) (by decide) (pr_setT gM0 hF (j := 0) rfl) dX1_soak_20 ?_
  refine g_callS F (kX1_isIn hl (pr_atT (j := 0) rfl)) (lw_S q305 q306 q18 q307) myX1_isIn ⟨by decide, by decide⟩ rfl rfl (gle rfl) 2 7 (gle rfl) (gle rfl) (gle rfl) (gle rfl) dX1_soak_21 gx_n (gv_i ?_)
  refine g_top (show _ = gb (¬ wax < (1 : Int32) ∧ ¬ (5 : Int32) < wax) from rfl) ?_
  refine g_mono (P2 := gP 0 G S A Fr []) (fun _ hp => gP_Tl 0 hp) ?_
  refine g_callS F (kX1_requireArgument hl (c := ¬ wax < (1 : Int32) ∧ ¬ (5 : Int32) < wax)) (lw_S q335 q336 q18 q337) myX1_requireArgument ⟨by decide, by decide⟩ rfl rfl (gle rfl) 3 13 (gle rfl) (gle rfl) (gle rfl) (gle rfl) dX1_soak_24 (gx_1 (fun c_3 => g_out0 F E (gle rfl) (gle rfl) (fun _ hp => ⟨((if_pos c_1).trans (if_neg c_3)), gPE_0 _ hp⟩))) (gv_c (fun c_3 => ?_))
  refine g_aload_n F 0 rfl rfl dX1_soak_27 ?_
  refine g_callV F (kX9_isFired hl (pr_at (κ := 8) (i := batch.toNatClampNeg) (by decide) (gc6 (by decide) c_1.2) (gce rfl rfl))) (g_recv F clX9 (gd_obj (pr_at (κ := 8) (i := batch.toNatClampNeg) (by decide) (gc6 (by decide) c_1.2) (gce rfl rfl)))) q962 q963 q964 q47 q965 myX9_isFired ⟨by decide, by decide⟩ rfl rfl (gle rfl) 3 13 (gle rfl) (gle rfl) (gle rfl) (gle rfl) dX1_soak_28 gx_n (gv_i ?_)
  have J_7 : gW (X, G, 4, Q) (gP 0 G S A Fr []) [(3, .ref (A 8 batch.toNatClampNeg)), (0, .ref (A 0 0)), (1, .int batch), (2, .int wax)] 57 [.int (gb ((¬ ((S.1 8 batch.toNatClampNeg 6) = (-1 : Int32))) ∧ ((¬ ((S.1 0 0 0) < (S.1 8 batch.toNatClampNeg 4))) ∧ ((S.1 8 batch.toNatClampNeg 8) = 0))))] 3 13 := by
    refine g_callS F (kX1_requireSupported hl (c := (¬ ((S.1 8 batch.toNatClampNeg 6) = (-1 : Int32))) ∧ ((¬ ((S.1 0 0 0) < (S.1 8 batch.toNatClampNeg 4))) ∧ ((S.1 8 batch.toNatClampNeg 8) = 0)))) (lw_S q512 q513 q18 q514) myX1_requireSupported ⟨by decide, by decide⟩ rfl rfl (gle rfl) 4 19 (gle rfl) (gle rfl) (gle rfl) (gle rfl) dX1_soak_57 (gx_1 (fun c_8 => g_out0 F E (gle rfl) (gle rfl) (fun _ hp => ⟨((if_pos c_1).trans ((if_pos c_3).trans (if_neg c_8))), gPE_0 _ hp⟩))) (gv_c (fun c_8 => ?_))
    refine g_aload_n F 0 rfl rfl dX1_soak_60 ?_
    refine g_iconst F (v := (1 : Int32)) (by decide) dX1_soak_61 ?_
    refine g_putN (P2 := gP 0 G (gsr S.1 8 batch.toNatClampNeg (upd (S.1 8 batch.toNatClampNeg) 8 (1 : Int32)), S.2) A Fr []) F clX9 7 (by decide) (gT_w q896 rfl) rfl rfl rfl (pr_put (κ := 8) (i := batch.toNatClampNeg) gM0 hF (upd (S.1 8 batch.toNatClampNeg) 8 (1 : Int32)) (by decide) (gc6 (by decide) c_1.2) (gce rfl rfl) (gnl rfl) rfl) dX1_soak_62 ?_
    refine g_aload_n F 0 rfl rfl dX1_soak_65 ?_
    refine g_dup F rfl dX1_soak_66 ?_
    refine g_getN F clX9 10 (by decide) (gT_w q901 rfl) (v := .int (S.1 8 batch.toNatClampNeg 9)) (gd_get (pr_at (κ := 8) (i := batch.toNatClampNeg) (by decide) (gc6 (by decide) c_1.2) (gce (show (gsr S.1 8 batch.toNatClampNeg (upd (S.1 8 batch.toNatClampNeg) 8 (1 : Int32))) 8 batch.toNatClampNeg = upd (S.1 8 batch.toNatClampNeg) 8 (1 : Int32) from gsr_s) rfl)) rfl) dX1_soak_67 ?_
    refine g_bipush F (v := (10 : Int32)) (by decide) dX1_soak_70 ?_
    refine g_iload_n F 3 rfl rfl dX1_soak_72 ?_
    refine g_imul F dX1_soak_73 ?_
    refine g_iadd F dX1_soak_74 ?_
    refine g_putN (P2 := gP 0 G (gsr (gsr S.1 8 batch.toNatClampNeg (upd (S.1 8 batch.toNatClampNeg) 8 (1 : Int32))) 8 batch.toNatClampNeg (upd (upd (S.1 8 batch.toNatClampNeg) 8 (1 : Int32)) 9 ((S.1 8 batch.toNatClampNeg 9) + ((10 : Int32) * wax))), S.2) A Fr []) F clX9 10 (by decide) (gT_w q901 rfl) rfl rfl rfl (pr_put (κ := 8) (i := batch.toNatClampNeg) gM0 hF (upd (upd (S.1 8 batch.toNatClampNeg) 8 (1 : Int32)) 9 ((S.1 8 batch.toNatClampNeg 9) + ((10 : Int32) * wax))) (by decide) (gc6 (by decide) c_1.2) (gce (show (gsr S.1 8 batch.toNatClampNeg (upd (S.1 8 batch.toNatClampNeg) 8 (1 : Int32))) 8 batch.toNatClampNeg = upd (S.1 8 batch.toNatClampNeg) 8 (1 : Int32) from gsr_s) rfl) (gnl rfl) rfl) dX1_soak_75 ?_
    refine g_aload_n F 0 rfl rfl dX1_soak_78 ?_
    refine g_sipush F (v := (999 : Int32)) (by decide) dX1_soak_79 ?_
    refine g_aload_n F 0 rfl rfl dX1_soak_82 ?_
    refine g_getN F clX9 11 (by decide) (gT_w q904 rfl) (v := .int (S.1 8 batch.toNatClampNeg 10)) (gd_get (pr_at (κ := 8) (i := batch.toNatClampNeg) (by decide) (gc6 (by decide) c_1.2) (gce (show (gsr (gsr S.1 8 batch.toNatClampNeg (upd (S.1 8 batch.toNatClampNeg) 8 (1 : Int32))) 8 batch.toNatClampNeg (upd (upd (S.1 8 batch.toNatClampNeg) 8 (1 : Int32)) 9 ((S.1 8 batch.toNatClampNeg 9) + ((10 : Int32) * wax)))) 8 batch.toNatClampNeg = upd (upd (S.1 8 batch.toNatClampNeg) 8 (1 : Int32)) 9 ((S.1 8 batch.toNatClampNeg 9) + ((10 : Int32) * wax)) from gsr_s) rfl)) rfl) dX1_soak_83 ?_
    refine g_bipush F (v := (8 : Int32)) (by decide) dX1_soak_86 ?_
    refine g_iload_n F 3 rfl rfl dX1_soak_88 ?_
    refine g_imul F dX1_soak_89 ?_
    refine g_iadd F dX1_soak_90 ?_
    refine g_mmin F q966 (gle rfl) (gle rfl) (gle rfl) (gle rfl) dX1_soak_91 ?_
    refine g_putN (P2 := gP 0 G (gsr (gsr (gsr S.1 8 batch.toNatClampNeg (upd (S.1 8 batch.toNatClampNeg) 8 (1 : Int32))) 8 batch.toNatClampNeg (upd (upd (S.1 8 batch.toNatClampNeg) 8 (1 : Int32)) 9 ((S.1 8 batch.toNatClampNeg 9) + ((10 : Int32) * wax)))) 8 batch.toNatClampNeg (upd (upd (upd (S.1 8 batch.toNatClampNeg) 8 (1 : Int32)) 9 ((S.1 8 batch.toNatClampNeg 9) + ((10 : Int32) * wax))) 10 (gmin (999 : Int32) ((S.1 8 batch.toNatClampNeg 10) + ((8 : Int32) * wax)))), S.2) A Fr []) F clX9 11 (by decide) (gT_w q904 rfl) rfl rfl rfl (pr_put (κ := 8) (i := batch.toNatClampNeg) gM0 hF (upd (upd (upd (S.1 8 batch.toNatClampNeg) 8 (1 : Int32)) 9 ((S.1 8 batch.toNatClampNeg 9) + ((10 : Int32) * wax))) 10 (gmin (999 : Int32) ((S.1 8 batch.toNatClampNeg 10) + ((8 : Int32) * wax)))) (by decide) (gc6 (by decide) c_1.2) (gce (show (gsr (gsr S.1 8 batch.toNatClampNeg (upd (S.1 8 batch.toNatClampNeg) 8 (1 : Int32))) 8 batch.toNatClampNeg (upd (upd (S.1 8 batch.toNatClampNeg) 8 (1 : Int32)) 9 ((S.1 8 batch.toNatClampNeg 9) + ((10 : Int32) * wax)))) 8 batch.toNatClampNeg = upd (upd (S.1 8 batch.toNatClampNeg) 8 (1 : Int32)) 9 ((S.1 8 batch.toNatClampNeg 9) + ((10 : Int32) * wax)) from gsr_s) rfl) (gnl rfl) rfl) dX1_soak_94 ?_
    refine g_aload_n F 0 rfl rfl dX1_soak_97 ?_
    refine g_getN F clX9 10 (by decide) (gT_w q901 rfl) (v := .int ((S.1 8 batch.toNatClampNeg 9) + ((10 : Int32) * wax))) (gd_get (pr_at (κ := 8) (i := batch.toNatClampNeg) (by decide) (gc6 (by decide) c_1.2) (gce (show (gsr (gsr (gsr S.1 8 batch.toNatClampNeg (upd (S.1 8 batch.toNatClampNeg) 8 (1 : Int32))) 8 batch.toNatClampNeg (upd (upd (S.1 8 batch.toNatClampNeg) 8 (1 : Int32)) 9 ((S.1 8 batch.toNatClampNeg 9) + ((10 : Int32) * wax)))) 8 batch.toNatClampNeg (upd (upd (upd (S.1 8 batch.toNatClampNeg) 8 (1 : Int32)) 9 ((S.1 8 batch.toNatClampNeg 9) + ((10 : Int32) * wax))) 10 (gmin (999 : Int32) ((S.1 8 batch.toNatClampNeg 10) + ((8 : Int32) * wax))))) 8 batch.toNatClampNeg = upd (upd (upd (S.1 8 batch.toNatClampNeg) 8 (1 : Int32)) 9 ((S.1 8 batch.toNatClampNeg 9) + ((10 : Int32) * wax))) 10 (gmin (999 : Int32) ((S.1 8 batch.toNatClampNeg 10) + ((8 : Int32) * wax))) from gsr_s) rfl)) rfl) dX1_soak_98 ?_
    exact g_retI F E rfl rfl (gle rfl) (gle rfl) dX1_soak_101 (fun _ hp => ⟨_, _, ((if_pos c_1).trans ((if_pos c_3).trans (if_pos c_8))), rfl, gPE_0 _ hp⟩)
  refine gb_if_eq F (tgt := 56) (by decide) dX1_soak_31 (fun c_4 => ?_) (fun c_4 => ?_)
  · skip
    refine g_iconst F (v := (0 : Int32)) (by decide) dX1_soak_56 ?_
    exact g_top (gb_f (fun q => c_4 q.1)) J_7
  · skip
    refine g_aload_n F 0 rfl rfl dX1_soak_34 ?_
    refine g_aload_n F 1 rfl rfl dX1_soak_35 ?_
    refine g_get F clX1 0 (by decide) q135 (v := .int (S.1 0 0 0)) (gd_get (pr_at (κ := 0) (i := 0) (by decide) (gc1 (gnl rfl)) (gce rfl rfl)) rfl) dX1_soak_36 ?_
    refine g_callV F (kX9_isReady hl (pr_at (κ := 8) (i := batch.toNatClampNeg) (by decide) (gc6 (by decide) c_1.2) (gce rfl rfl))) (g_recv F clX9 (gd_obj (pr_at (κ := 8) (i := batch.toNatClampNeg) (by decide) (gc6 (by decide) c_1.2) (gce rfl rfl)))) q958 q959 q960 q47 q961 myX9_isReady ⟨by decide, by decide⟩ rfl rfl (gle rfl) 3 13 (gle rfl) (gle rfl) (gle rfl) (gle rfl) dX1_soak_39 gx_n (gv_i ?_)
    refine gb_if_eq F (tgt := 56) (by decide) dX1_soak_42 (fun c_5 => ?_) (fun c_5 => ?_)
    · skip
      refine g_iconst F (v := (0 : Int32)) (by decide) dX1_soak_56 ?_
      exact g_top (gb_f (fun q => (fun q => c_5 q.1) q.2)) J_7
    · skip
      refine g_aload_n F 0 rfl rfl dX1_soak_45 ?_
      refine g_getN F clX9 7 (by decide) (gT_w q896 rfl) (v := .int (S.1 8 batch.toNatClampNeg 8)) (gd_get (pr_at (κ := 8) (i := batch.toNatClampNeg) (by decide) (gc6 (by decide) c_1.2) (gce rfl rfl)) rfl) dX1_soak_46 ?_
      refine g_if_ne F (tgt := 56) (by decide) dX1_soak_49 (fun c_6 => ?_) (fun c_6 => ?_)
      · skip
        refine g_iconst F (v := (0 : Int32)) (by decide) dX1_soak_56 ?_
        exact g_top (gb_f (fun q => (fun q => c_6 q.2) q.2)) J_7
      · skip
        refine g_iconst F (v := (1 : Int32)) (by decide) dX1_soak_52 ?_
        refine g_goto F (tgt := 57) (by decide) dX1_soak_53 ?_
        exact g_top (gb_t (⟨c_4, ⟨c_5, c_6⟩⟩)) J_7

def sC_season (S : gS) (slats hours : Int32) : gO := if gIn slats (S.2 9) then (if ¬ hours < (1 : Int32) ∧ ¬ (200 : Int32) < hours then (if ¬ ((S.1 0 0 0) < (S.1 9 slats.toNatClampNeg 5)) then (.inr (.int ((S.1 0 0 0) + hours), (gsr (gsr S.1 9 slats.toNatClampNeg (upd (S.1 9 slats.toNatClampNeg) 2 (gmax (0 : Int32) ((S.1 9 slats.toNatClampNeg 2) - (hours / (if S.1 9 slats.toNatClampNeg 0 = 99 then (6 : Int32) else (9 : Int32))))))) 9 slats.toNatClampNeg (upd (upd (S.1 9 slats.toNatClampNeg) 2 (gmax (0 : Int32) ((S.1 9 slats.toNatClampNeg 2) - (hours / (if S.1 9 slats.toNatClampNeg 0 = 99 then (6 : Int32) else (9 : Int32)))))) 5 ((S.1 0 0 0) + hours)), S.2))) else (.inl "java/lang/UnsupportedOperationException")) else (.inl "java/lang/IllegalArgumentException")) else (.inl "java/lang/IndexOutOfBoundsException")
theorem kX1_season {l : Launch} {G : gG} (hl : l.stackTraces = false) {S : gS} {a0 : Nat} {Fr : gH → Prop} (hF : gFr 0 Fr) (hW : gWf S) {slats hours : Int32}  : gMet l yX1_season (ws_ yX1_season cX1_season 4 (some .int)) ⟨8, 4, 19, 123⟩ G [.ref a0, .int slats, .int hours] (gPE 0 G S a0 Fr) (gqS (sC_season S slats hours) 0 G a0 Fr) (gxS (sC_season S slats hours) 0 G S a0 Fr) := by
  refine gMet_of hl pnX1 (gle rfl) (fun X Q hX F E hNm => ?_)
  subst hX
  change gW (X, G, 4, Q) (gPE 0 G S a0 Fr) [(0, .ref a0), (1, .int slats), (2, .int hours)] 0 [] 0 0
  refine g_pe (fun A hA => ?_)
  subst hA
  change gW _ _ [(0, .ref (A 0 0)), (1, .int slats), (2, .int hours)] 0 [] 0 0
  refine g_aload_n F 0 rfl rfl dX1_season_0 ?_
  refine g_get F clX1 12 (by decide) q147 (v := .ref (A 309 0)) (gd_get (pr_at (κ := 0) (i := 0) (by decide) (gc1 (gnl rfl)) (gce rfl rfl)) rfl) dX1_season_1 ?_
  refine g_iload_n F 1 rfl rfl dX1_season_4 ?_
  refine g_callS F (kX1_require hl (pr_ls (κ := 9) (by decide) (Or.inl ⟨by decide, by decide⟩) (fun _ => by decide) (fun _ => by decide)) (gw_n hW _) (x := slats)) (lw_S q784 q785 q18 q786) myX1_require ⟨by decide, by decide⟩ rfl rfl (gle rfl) 1 6 (gle rfl) (gle rfl) (gle rfl) (gle rfl) dX1_season_5 (gx_1 (fun c_1 => g_out0 F E (gle rfl) (gle rfl) (fun _ hp => ⟨(if_neg c_1), gPE_0 _ hp⟩))) (gv_y (fun c_1 => ?_))
  refine g_castS F (g_recv F clX11 (gd_obj (pr_at (κ := 9) (i := slats.toNatClampNeg) (by decide) (gc6 (by decide) c_1.2) (gce rfl rfl)))) q1003 dX1_season_8 ?_
  refine g_astore_n F rfl (by show 3 < 4; decide) (lv2 := [(3, .ref (A 9 slats.toNatClampNeg)), (0, .ref (A 0 0)), (1, .int slats), (2, .int hours)]) rfl dX1_season_11 ?_
  refine g_iconst F (v := (1 : Int32)) (by decide) dX1_season_12 ?_
  refine g_sipush F (v := (200 : Int32)) (by decide) dX1_season_13 ?_
  refine g_iconst F (v := (1 : Int32)) (by decide) dX1_season_16 ?_
  refine g_newI F (5000, 0) (N := 1) rfl (by decide) 2 7 (gle rfl) (gle rfl) (gle rfl) (gle rfl) (Pa := fun a_2 => gP 0 G S A Fr [(a_2, gIA G 1 (fun _ => 0))]) (pr_new hF) dX1_season_17 (fun a_2 => ?_)
  refine g_dup F rfl dX1_season_19 ?_
  refine g_iconst F (v := (0 : Int32)) (by decide) dX1_season_20 ?_
  refine g_iload_n F 3 rfl rfl dX1_season_21 ?_
  refine g_iastN (P2 := gP 0 G S A Fr [(a_2, gIA G 1 (upd (fun _ => 0) 0 hours))]) F (m := 0) rfl (by decide) (by decide) (pr_setT gM0 hF (j := 0) rfl) dX1_season_22 ?_
  refine g_callS F (kX1_isIn hl (pr_atT (j := 0) rfl)) (lw_S q305 q306 q18 q307) myX1_isIn ⟨by decide, by decide⟩ rfl rfl (gle rfl) 2 7 (gle rfl) (gle rfl) (gle rfl) (gle rfl) dX1_season_23 gx_n (gv_i ?_)
  refine g_top (show _ = gb (¬ hours < (1 : Int32) ∧ ¬ (200 : Int32) < hours) from rfl) ?_
  refine g_mono (P2 := gP 0 G S A Fr []) (fun _ hp => gP_Tl 0 hp) ?_
  refine g_callS F (kX1_requireArgument hl (c := ¬ hours < (1 : Int32) ∧ ¬ (200 : Int32) < hours)) (lw_S q335 q336 q18 q337) myX1_requireArgument ⟨by decide, by decide⟩ rfl rfl (gle rfl) 3 13 (gle rfl) (gle rfl) (gle rfl) (gle rfl) dX1_season_26 (gx_1 (fun c_3 => g_out0 F E (gle rfl) (gle rfl) (fun _ hp => ⟨((if_pos c_1).trans (if_neg c_3)), gPE_0 _ hp⟩))) (gv_c (fun c_3 => ?_))
  refine g_aload_n F 1 rfl rfl dX1_season_29 ?_
  refine g_get F clX1 0 (by decide) q135 (v := .int (S.1 0 0 0)) (gd_get (pr_at (κ := 0) (i := 0) (by decide) (gc1 (gnl rfl)) (gce rfl rfl)) rfl) dX1_season_30 ?_
  refine g_aload_n F 0 rfl rfl dX1_season_33 ?_
  refine g_getN F clX11 6 (by decide) (gT_w q1021 rfl) (v := .int (S.1 9 slats.toNatClampNeg 5)) (gd_get (pr_at (κ := 9) (i := slats.toNatClampNeg) (by decide) (gc6 (by decide) c_1.2) (gce rfl rfl)) rfl) dX1_season_34 ?_
  have J_5 : gW (X, G, 4, Q) (gP 0 G S A Fr []) [(3, .ref (A 9 slats.toNatClampNeg)), (0, .ref (A 0 0)), (1, .int slats), (2, .int hours)] 45 [.int (gb (¬ ((S.1 0 0 0) < (S.1 9 slats.toNatClampNeg 5))))] 3 13 := by
    refine g_callS F (kX1_requireSupported hl (c := ¬ ((S.1 0 0 0) < (S.1 9 slats.toNatClampNeg 5)))) (lw_S q512 q513 q18 q514) myX1_requireSupported ⟨by decide, by decide⟩ rfl rfl (gle rfl) 4 19 (gle rfl) (gle rfl) (gle rfl) (gle rfl) dX1_season_45 (gx_1 (fun c_6 => g_out0 F E (gle rfl) (gle rfl) (fun _ hp => ⟨((if_pos c_1).trans ((if_pos c_3).trans (if_neg c_6))), gPE_0 _ hp⟩))) (gv_c (fun c_6 => ?_))
    refine g_aload_n F 0 rfl rfl dX1_season_48 ?_
    refine g_iconst F (v := (0 : Int32)) (by decide) dX1_season_49 ?_
    refine g_aload_n F 0 rfl rfl dX1_season_50 ?_
    refine g_getN F clX11 3 (by decide) (gT_w q1016 rfl) (v := .int (S.1 9 slats.toNatClampNeg 2)) (gd_get (pr_at (κ := 9) (i := slats.toNatClampNeg) (by decide) (gc6 (by decide) c_1.2) (gce rfl rfl)) rfl) dX1_season_51 ?_
    refine g_iload_n F 3 rfl rfl dX1_season_54 ?_
    refine g_aload_n F 0 rfl rfl dX1_season_55 ?_
    refine g_getN F clX11 1 (by decide) (gT_w q1012 rfl) (v := .int (gb (S.1 9 slats.toNatClampNeg 0 = 99))) (gd_get (pr_at (κ := 9) (i := slats.toNatClampNeg) (by decide) (gc6 (by decide) c_1.2) (gce rfl rfl)) rfl) dX1_season_56 ?_
    have J_8 : gW (X, G, 4, Q) (gP 0 G S A Fr []) [(3, .ref (A 9 slats.toNatClampNeg)), (0, .ref (A 0 0)), (1, .int slats), (2, .int hours)] 69 [.int (if S.1 9 slats.toNatClampNeg 0 = 99 then (6 : Int32) else (9 : Int32)), .int hours, .int (S.1 9 slats.toNatClampNeg 2), .int (0 : Int32), .ref (A 9 slats.toNatClampNeg)] 4 19 := by
      refine g_idiv F (by split <;> decide) dX1_season_69 ?_
      refine g_isub F dX1_season_70 ?_
      refine g_mmax F q967 (gle rfl) (gle rfl) (gle rfl) (gle rfl) dX1_season_71 ?_
      refine g_putN (P2 := gP 0 G (gsr S.1 9 slats.toNatClampNeg (upd (S.1 9 slats.toNatClampNeg) 2 (gmax (0 : Int32) ((S.1 9 slats.toNatClampNeg 2) - (hours / (if S.1 9 slats.toNatClampNeg 0 = 99 then (6 : Int32) else (9 : Int32)))))), S.2) A Fr []) F clX11 3 (by decide) (gT_w q1016 rfl) rfl rfl rfl (pr_put (κ := 9) (i := slats.toNatClampNeg) gM0 hF (upd (S.1 9 slats.toNatClampNeg) 2 (gmax (0 : Int32) ((S.1 9 slats.toNatClampNeg 2) - (hours / (if S.1 9 slats.toNatClampNeg 0 = 99 then (6 : Int32) else (9 : Int32)))))) (by decide) (gc6 (by decide) c_1.2) (gce rfl rfl) (gnl rfl) rfl) dX1_season_74 ?_
      refine g_aload_n F 0 rfl rfl dX1_season_77 ?_
      refine g_aload_n F 1 rfl rfl dX1_season_78 ?_
      refine g_get F clX1 0 (by decide) q135 (v := .int (S.1 0 0 0)) (gd_get (pr_at (κ := 0) (i := 0) (by decide) (gc1 (gnl rfl)) (gce (show (gsr S.1 9 slats.toNatClampNeg (upd (S.1 9 slats.toNatClampNeg) 2 (gmax (0 : Int32) ((S.1 9 slats.toNatClampNeg 2) - (hours / (if S.1 9 slats.toNatClampNeg 0 = 99 then (6 : Int32) else (9 : Int32))))))) 0 0 = S.1 0 0 from (gsr_p (by decide) rfl)) rfl)) rfl) dX1_season_79 ?_
      refine g_iload_n F 3 rfl rfl dX1_season_82 ?_
      refine g_iadd F dX1_season_83 ?_
      refine g_putN (P2 := gP 0 G (gsr (gsr S.1 9 slats.toNatClampNeg (upd (S.1 9 slats.toNatClampNeg) 2 (gmax (0 : Int32) ((S.1 9 slats.toNatClampNeg 2) - (hours / (if S.1 9 slats.toNatClampNeg 0 = 99 then (6 : Int32) else (9 : Int32))))))) 9 slats.toNatClampNeg (upd (upd (S.1 9 slats.toNatClampNeg) 2 (gmax (0 : Int32) ((S.1 9 slats.toNatClampNeg 2) - (hours / (if S.1 9 slats.toNatClampNeg 0 = 99 then (6 : Int32) else (9 : Int32)))))) 5 ((S.1 0 0 0) + hours)), S.2) A Fr []) F clX11 6 (by decide) (gT_w q1021 rfl) rfl rfl rfl (pr_put (κ := 9) (i := slats.toNatClampNeg) gM0 hF (upd (upd (S.1 9 slats.toNatClampNeg) 2 (gmax (0 : Int32) ((S.1 9 slats.toNatClampNeg 2) - (hours / (if S.1 9 slats.toNatClampNeg 0 = 99 then (6 : Int32) else (9 : Int32)))))) 5 ((S.1 0 0 0) + hours)) (by decide) (gc6 (by decide) c_1.2) (gce (show (gsr S.1 9 slats.toNatClampNeg (upd (S.1 9 slats.toNatClampNeg) 2 (gmax (0 : Int32) ((S.1 9 slats.toNatClampNeg 2) - (hours / (if S.1 9 slats.toNatClampNeg 0 = 99 then (6 : Int32) else (9 : Int32))))))) 9 slats.toNatClampNeg = upd (S.1 9 slats.toNatClampNeg) 2 (gmax (0 : Int32) ((S.1 9 slats.toNatClampNeg 2) - (hours / (if S.1 9 slats.toNatClampNeg 0 = 99 then (6 : Int32) else (9 : Int32))))) from gsr_s) rfl) (gnl rfl) rfl) dX1_season_84 ?_
      refine g_aload_n F 0 rfl rfl dX1_season_87 ?_
      refine g_getN F clX11 6 (by decide) (gT_w q1021 rfl) (v := .int ((S.1 0 0 0) + hours)) (gd_get (pr_at (κ := 9) (i := slats.toNatClampNeg) (by decide) (gc6 (by decide) c_1.2) (gce (show (gsr (gsr S.1 9 slats.toNatClampNeg (upd (S.1 9 slats.toNatClampNeg) 2 (gmax (0 : Int32) ((S.1 9 slats.toNatClampNeg 2) - (hours / (if S.1 9 slats.toNatClampNeg 0 = 99 then (6 : Int32) else (9 : Int32))))))) 9 slats.toNatClampNeg (upd (upd (S.1 9 slats.toNatClampNeg) 2 (gmax (0 : Int32) ((S.1 9 slats.toNatClampNeg 2) - (hours / (if S.1 9 slats.toNatClampNeg 0 = 99 then (6 : Int32) else (9 : Int32)))))) 5 ((S.1 0 0 0) + hours))) 9 slats.toNatClampNeg = upd (upd (S.1 9 slats.toNatClampNeg) 2 (gmax (0 : Int32) ((S.1 9 slats.toNatClampNeg 2) - (hours / (if S.1 9 slats.toNatClampNeg 0 = 99 then (6 : Int32) else (9 : Int32)))))) 5 ((S.1 0 0 0) + hours) from gsr_s) rfl)) rfl) dX1_season_88 ?_
      exact g_retI F E rfl rfl (gle rfl) (gle rfl) dX1_season_91 (fun _ hp => ⟨_, _, ((if_pos c_1).trans ((if_pos c_3).trans (if_pos c_6))), rfl, gPE_0 _ hp⟩)
    refine gb_if_eq F (tgt := 67) (by decide) dX1_season_59 (fun c_7 => ?_) (fun c_7 => ?_)
    · skip
      refine g_bipush F (v := (9 : Int32)) (by decide) dX1_season_67 ?_
      exact g_top (by rw [if_neg c_7]) J_8
    · skip
      refine g_bipush F (v := (6 : Int32)) (by decide) dX1_season_62 ?_
      refine g_goto F (tgt := 69) (by decide) dX1_season_64 ?_
      exact g_top (by rw [if_pos c_7]) J_8
  refine g_icmp_lt F (tgt := 44) (by decide) dX1_season_37 (fun c_4 => ?_) (fun c_4 => ?_)
  · skip
    refine g_iconst F (v := (0 : Int32)) (by decide) dX1_season_44 ?_
    exact g_top (gb_f (fun q => q c_4)) J_5
  · skip
    refine g_iconst F (v := (1 : Int32)) (by decide) dX1_season_40 ?_
    refine g_goto F (tgt := 45) (by decide) dX1_season_41 ?_
    exact g_top (gb_t c_4) J_5

def sC_fall (S : gS) (run height : Int32) : gO := if gIn run (S.2 10) then (if ¬ height < (1 : Int32) ∧ ¬ (9 : Int32) < height then (.inr (.int (gmin ((S.1 10 run.toNatClampNeg 3) - (S.1 10 run.toNatClampNeg 4)) (((S.1 10 run.toNatClampNeg 3) * (gmax (0 : Int32) ((((40 : Int32) * height) + ((20 : Int32) * (S.1 10 run.toNatClampNeg 5))) - (S.1 8 ((S.1 10 run.toNatClampNeg 0).toNatClampNeg) 9)))) / (400 : Int32))), (gsr S.1 10 run.toNatClampNeg (upd (S.1 10 run.toNatClampNeg) 4 ((S.1 10 run.toNatClampNeg 4) + (gmin ((S.1 10 run.toNatClampNeg 3) - (S.1 10 run.toNatClampNeg 4)) (((S.1 10 run.toNatClampNeg 3) * (gmax (0 : Int32) ((((40 : Int32) * height) + ((20 : Int32) * (S.1 10 run.toNatClampNeg 5))) - (S.1 8 ((S.1 10 run.toNatClampNeg 0).toNatClampNeg) 9)))) / (400 : Int32))))), S.2))) else (.inl "java/lang/IllegalArgumentException")) else (.inl "java/lang/IndexOutOfBoundsException")
theorem kX1_fall {l : Launch} {G : gG} (hl : l.stackTraces = false) {S : gS} {a0 : Nat} {Fr : gH → Prop} (hF : gFr 0 Fr) (hW : gWf S) {run height : Int32}  : gMet l yX1_fall (ws_ yX1_fall cX1_fall 6 (some .int)) ⟨8, 3, 13, 123⟩ G [.ref a0, .int run, .int height] (gPE 0 G S a0 Fr) (gqS (sC_fall S run height) 0 G a0 Fr) (gxS (sC_fall S run height) 0 G S a0 Fr) := by
  refine gMet_of hl pnX1 (gle rfl) (fun X Q hX F E hNm => ?_)
  subst hX
  change gW (X, G, 6, Q) (gPE 0 G S a0 Fr) [(0, .ref a0), (1, .int run), (2, .int height)] 0 [] 0 0
  refine g_pe (fun A hA => ?_)
  subst hA
  change gW _ _ [(0, .ref (A 0 0)), (1, .int run), (2, .int height)] 0 [] 0 0
  refine g_aload_n F 0 rfl rfl dX1_fall_0 ?_
  refine g_get F clX1 13 (by decide) q148 (v := .ref (A 310 0)) (gd_get (pr_at (κ := 0) (i := 0) (by decide) (gc1 (gnl rfl)) (gce rfl rfl)) rfl) dX1_fall_1 ?_
  refine g_iload_n F 1 rfl rfl dX1_fall_4 ?_
  refine g_callS F (kX1_require hl (pr_ls (κ := 10) (by decide) (Or.inl ⟨by decide, by decide⟩) (fun _ => by decide) (fun _ => by decide)) (gw_n hW _) (x := run)) (lw_S q784 q785 q18 q786) myX1_require ⟨by decide, by decide⟩ rfl rfl (gle rfl) 1 6 (gle rfl) (gle rfl) (gle rfl) (gle rfl) dX1_fall_5 (gx_1 (fun c_1 => g_out0 F E (gle rfl) (gle rfl) (fun _ hp => ⟨(if_neg c_1), gPE_0 _ hp⟩))) (gv_y (fun c_1 => ?_))
  refine g_castS F (g_recv F clX13 (gd_obj (pr_at (κ := 10) (i := run.toNatClampNeg) (by decide) (gc6 (by decide) c_1.2) (gce rfl rfl)))) q297 dX1_fall_8 ?_
  refine g_astore_n F rfl (by show 3 < 6; decide) (lv2 := [(3, .ref (A 10 run.toNatClampNeg)), (0, .ref (A 0 0)), (1, .int run), (2, .int height)]) rfl dX1_fall_11 ?_
  refine g_iconst F (v := (1 : Int32)) (by decide) dX1_fall_12 ?_
  refine g_bipush F (v := (9 : Int32)) (by decide) dX1_fall_13 ?_
  refine g_iconst F (v := (1 : Int32)) (by decide) dX1_fall_15 ?_
  refine g_newI F (5000, 0) (N := 1) rfl (by decide) 2 7 (gle rfl) (gle rfl) (gle rfl) (gle rfl) (Pa := fun a_2 => gP 0 G S A Fr [(a_2, gIA G 1 (fun _ => 0))]) (pr_new hF) dX1_fall_16 (fun a_2 => ?_)
  refine g_dup F rfl dX1_fall_18 ?_
  refine g_iconst F (v := (0 : Int32)) (by decide) dX1_fall_19 ?_
  refine g_iload_n F 3 rfl rfl dX1_fall_20 ?_
  refine g_iastN (P2 := gP 0 G S A Fr [(a_2, gIA G 1 (upd (fun _ => 0) 0 height))]) F (m := 0) rfl (by decide) (by decide) (pr_setT gM0 hF (j := 0) rfl) dX1_fall_21 ?_
  refine g_callS F (kX1_isIn hl (pr_atT (j := 0) rfl)) (lw_S q305 q306 q18 q307) myX1_isIn ⟨by decide, by decide⟩ rfl rfl (gle rfl) 2 7 (gle rfl) (gle rfl) (gle rfl) (gle rfl) dX1_fall_22 gx_n (gv_i ?_)
  refine g_top (show _ = gb (¬ height < (1 : Int32) ∧ ¬ (9 : Int32) < height) from rfl) ?_
  refine g_mono (P2 := gP 0 G S A Fr []) (fun _ hp => gP_Tl 0 hp) ?_
  refine g_callS F (kX1_requireArgument hl (c := ¬ height < (1 : Int32) ∧ ¬ (9 : Int32) < height)) (lw_S q335 q336 q18 q337) myX1_requireArgument ⟨by decide, by decide⟩ rfl rfl (gle rfl) 3 13 (gle rfl) (gle rfl) (gle rfl) (gle rfl) dX1_fall_25 (gx_1 (fun c_3 => g_out0 F E (gle rfl) (gle rfl) (fun _ hp => ⟨((if_pos c_1).trans (if_neg c_3)), gPE_0 _ hp⟩))) (gv_c (fun c_3 => ?_))
  refine g_iconst F (v := (0 : Int32)) (by decide) dX1_fall_28 ?_
  refine g_bipush F (v := (40 : Int32)) (by decide) dX1_fall_29 ?_
  refine g_iload_n F 3 rfl rfl dX1_fall_31 ?_
  refine g_imul F dX1_fall_32 ?_
  refine g_bipush F (v := (20 : Int32)) (by decide) dX1_fall_33 ?_
  refine g_aload_n F 0 rfl rfl dX1_fall_35 ?_
  refine g_getN F clX13 4 (by decide) (gT_w q1089 rfl) (v := .int (S.1 10 run.toNatClampNeg 5)) (gd_get (pr_at (κ := 10) (i := run.toNatClampNeg) (by decide) (gc6 (by decide) c_1.2) (gce rfl rfl)) rfl) dX1_fall_36 ?_
  refine g_imul F dX1_fall_39 ?_
  refine g_iadd F dX1_fall_40 ?_
  refine g_aload_n F 0 rfl rfl dX1_fall_41 ?_
  refine g_getN F clX13 1 (by decide) (gT_w q1083 rfl) (v := .ref (A 8 (S.1 10 run.toNatClampNeg 0).toNatClampNeg)) (gd_get (pr_at (κ := 10) (i := run.toNatClampNeg) (by decide) (gc6 (by decide) c_1.2) (gce rfl rfl)) rfl) dX1_fall_42 ?_
  refine g_getN F clX9 10 (by decide) (gT_w q901 rfl) (v := .int (S.1 8 ((S.1 10 run.toNatClampNeg 0).toNatClampNeg) 9)) (gd_get (pr_at (κ := 8) (i := (S.1 10 run.toNatClampNeg 0).toNatClampNeg) (by decide) (gc6 (by decide) (gw_10_0 hW c_1.2).2) (gce rfl rfl)) rfl) dX1_fall_45 ?_
  refine g_isub F dX1_fall_48 ?_
  refine g_mmax F q967 (gle rfl) (gle rfl) (gle rfl) (gle rfl) dX1_fall_49 ?_
  refine g_istore F (by show 4 < 6; decide) (lv2 := [(4, .int (gmax (0 : Int32) ((((40 : Int32) * height) + ((20 : Int32) * (S.1 10 run.toNatClampNeg 5))) - (S.1 8 ((S.1 10 run.toNatClampNeg 0).toNatClampNeg) 9)))), (3, .ref (A 10 run.toNatClampNeg)), (0, .ref (A 0 0)), (1, .int run), (2, .int height)]) rfl dX1_fall_52 ?_
  refine g_aload_n F 1 rfl rfl dX1_fall_54 ?_
  refine g_callV F (kX13_whole hl (pr_at (κ := 10) (i := run.toNatClampNeg) (by decide) (gc6 (by decide) c_1.2) (gce rfl rfl))) (g_recv F clX13 (gd_obj (pr_at (κ := 10) (i := run.toNatClampNeg) (by decide) (gc6 (by decide) c_1.2) (gce rfl rfl)))) q1163 q1164 q1165 q51 q1166 myX13_whole ⟨by decide, by decide⟩ rfl rfl (gle rfl) 3 13 (gle rfl) (gle rfl) (gle rfl) (gle rfl) dX1_fall_55 gx_n (gv_i ?_)
  refine g_aload_n F 1 rfl rfl dX1_fall_58 ?_
  refine g_getN F clX13 5 (by decide) (gT_w q1091 rfl) (v := .int (S.1 10 run.toNatClampNeg 3)) (gd_get (pr_at (κ := 10) (i := run.toNatClampNeg) (by decide) (gc6 (by decide) c_1.2) (gce rfl rfl)) rfl) dX1_fall_59 ?_
  refine g_iload F 0 rfl dX1_fall_62 ?_
  refine g_imul F dX1_fall_64 ?_
  refine g_sipush F (v := (400 : Int32)) (by decide) dX1_fall_65 ?_
  refine g_idiv F (by decide) dX1_fall_68 ?_
  refine g_mmin F q966 (gle rfl) (gle rfl) (gle rfl) (gle rfl) dX1_fall_69 ?_
  refine g_istore F (by show 5 < 6; decide) (lv2 := [(5, .int (gmin ((S.1 10 run.toNatClampNeg 3) - (S.1 10 run.toNatClampNeg 4)) (((S.1 10 run.toNatClampNeg 3) * (gmax (0 : Int32) ((((40 : Int32) * height) + ((20 : Int32) * (S.1 10 run.toNatClampNeg 5))) - (S.1 8 ((S.1 10 run.toNatClampNeg 0).toNatClampNeg) 9)))) / (400 : Int32)))), (4, .int (gmax (0 : Int32) ((((40 : Int32) * height) + ((20 : Int32) * (S.1 10 run.toNatClampNeg 5))) - (S.1 8 ((S.1 10 run.toNatClampNeg 0).toNatClampNeg) 9)))), (3, .ref (A 10 run.toNatClampNeg)), (0, .ref (A 0 0)), (1, .int run), (2, .int height)]) rfl dX1_fall_72 ?_
  refine g_aload_n F 2 rfl rfl dX1_fall_74 ?_
  refine g_dup F rfl dX1_fall_75 ?_
  refine g_getN F clX13 6 (by decide) (gT_w q1093 rfl) (v := .int (S.1 10 run.toNatClampNeg 4)) (gd_get (pr_at (κ := 10) (i := run.toNatClampNeg) (by decide) (gc6 (by decide) c_1.2) (gce rfl rfl)) rfl) dX1_fall_76 ?_
  refine g_iload F 0 rfl dX1_fall_79 ?_
  refine g_iadd F dX1_fall_81 ?_
  refine g_putN (P2 := gP 0 G (gsr S.1 10 run.toNatClampNeg (upd (S.1 10 run.toNatClampNeg) 4 ((S.1 10 run.toNatClampNeg 4) + (gmin ((S.1 10 run.toNatClampNeg 3) - (S.1 10 run.toNatClampNeg 4)) (((S.1 10 run.toNatClampNeg 3) * (gmax (0 : Int32) ((((40 : Int32) * height) + ((20 : Int32) * (S.1 10 run.toNatClampNeg 5))) - (S.1 8 ((S.1 10 run.toNatClampNeg 0).toNatClampNeg) 9)))) / (400 : Int32))))), S.2) A Fr []) F clX13 6 (by decide) (gT_w q1093 rfl) rfl rfl rfl (pr_put (κ := 10) (i := run.toNatClampNeg) gM0 hF (upd (S.1 10 run.toNatClampNeg) 4 ((S.1 10 run.toNatClampNeg 4) + (gmin ((S.1 10 run.toNatClampNeg 3) - (S.1 10 run.toNatClampNeg 4)) (((S.1 10 run.toNatClampNeg 3) * (gmax (0 : Int32) ((((40 : Int32) * height) + ((20 : Int32) * (S.1 10 run.toNatClampNeg 5))) - (S.1 8 ((S.1 10 run.toNatClampNeg 0).toNatClampNeg) 9)))) / (400 : Int32))))) (by decide) (gc6 (by decide) c_1.2) (gce rfl rfl) (gnl rfl) rfl) dX1_fall_82 ?_
  refine g_iload F 0 rfl dX1_fall_85 ?_
  exact g_retI F E rfl rfl (gle rfl) (gle rfl) dX1_fall_87 (fun _ hp => ⟨_, _, ((if_pos c_1).trans (if_pos c_3)), rfl, gPE_0 _ hp⟩)

def sC_erase (S : gS) (run pumice : Int32) : gO := if gIn run (S.2 10) then (if ¬ pumice < (0 : Int32) ∧ ¬ (9 : Int32) < pumice then (if ¬ ((S.1 10 run.toNatClampNeg 9) = (-1 : Int32)) ∧ ((S.1 10 run.toNatClampNeg 10) = 0) then (.inr (.int (S.1 10 run.toNatClampNeg 3), (gsr S.1 10 run.toNatClampNeg (upd (S.1 10 run.toNatClampNeg) 10 (1 : Int32)), S.2))) else (.inl "java/lang/UnsupportedOperationException")) else (.inl "java/lang/IllegalArgumentException")) else (.inl "java/lang/IndexOutOfBoundsException")
theorem kX1_erase {l : Launch} {G : gG} (hl : l.stackTraces = false) {S : gS} {a0 : Nat} {Fr : gH → Prop} (hF : gFr 0 Fr) (hW : gWf S) {run pumice : Int32}  : gMet l yX1_erase (ws_ yX1_erase cX1_erase 4 (some .int)) ⟨8, 4, 19, 123⟩ G [.ref a0, .int run, .int pumice] (gPE 0 G S a0 Fr) (gqS (sC_erase S run pumice) 0 G a0 Fr) (gxS (sC_erase S run pumice) 0 G S a0 Fr) := by
  refine gMet_of hl pnX1 (gle rfl) (fun X Q hX F E hNm => ?_)
  subst hX
  change gW (X, G, 4, Q) (gPE 0 G S a0 Fr) [(0, .ref a0), (1, .int run), (2, .int pumice)] 0 [] 0 0
  refine g_pe (fun A hA => ?_)
  subst hA
  change gW _ _ [(0, .ref (A 0 0)), (1, .int run), (2, .int pumice)] 0 [] 0 0
  refine g_aload_n F 0 rfl rfl dX1_erase_0 ?_
  refine g_get F clX1 13 (by decide) q148 (v := .ref (A 310 0)) (gd_get (pr_at (κ := 0) (i := 0) (by decide) (gc1 (gnl rfl)) (gce rfl rfl)) rfl) dX1_erase_1 ?_
  refine g_iload_n F 1 rfl rfl dX1_erase_4 ?_
  refine g_callS F (kX1_require hl (pr_ls (κ := 10) (by decide) (Or.inl ⟨by decide, by decide⟩) (fun _ => by decide) (fun _ => by decide)) (gw_n hW _) (x := run)) (lw_S q784 q785 q18 q786) myX1_require ⟨by decide, by decide⟩ rfl rfl (gle rfl) 1 6 (gle rfl) (gle rfl) (gle rfl) (gle rfl) dX1_erase_5 (gx_1 (fun c_1 => g_out0 F E (gle rfl) (gle rfl) (fun _ hp => ⟨(if_neg c_1), gPE_0 _ hp⟩))) (gv_y (fun c_1 => ?_))
  refine g_castS F (g_recv F clX13 (gd_obj (pr_at (κ := 10) (i := run.toNatClampNeg) (by decide) (gc6 (by decide) c_1.2) (gce rfl rfl)))) q297 dX1_erase_8 ?_
  refine g_astore_n F rfl (by show 3 < 4; decide) (lv2 := [(3, .ref (A 10 run.toNatClampNeg)), (0, .ref (A 0 0)), (1, .int run), (2, .int pumice)]) rfl dX1_erase_11 ?_
  refine g_iconst F (v := (0 : Int32)) (by decide) dX1_erase_12 ?_
  refine g_bipush F (v := (9 : Int32)) (by decide) dX1_erase_13 ?_
  refine g_iconst F (v := (1 : Int32)) (by decide) dX1_erase_15 ?_
  refine g_newI F (5000, 0) (N := 1) rfl (by decide) 2 7 (gle rfl) (gle rfl) (gle rfl) (gle rfl) (Pa := fun a_2 => gP 0 G S A Fr [(a_2, gIA G 1 (fun _ => 0))]) (pr_new hF) dX1_erase_16 (fun a_2 => ?_)
  refine g_dup F rfl dX1_erase_18 ?_
  refine g_iconst F (v := (0 : Int32)) (by decide) dX1_erase_19 ?_
  refine g_iload_n F 3 rfl rfl dX1_erase_20 ?_
  refine g_iastN (P2 := gP 0 G S A Fr [(a_2, gIA G 1 (upd (fun _ => 0) 0 pumice))]) F (m := 0) rfl (by decide) (by decide) (pr_setT gM0 hF (j := 0) rfl) dX1_erase_21 ?_
  refine g_callS F (kX1_isIn hl (pr_atT (j := 0) rfl)) (lw_S q305 q306 q18 q307) myX1_isIn ⟨by decide, by decide⟩ rfl rfl (gle rfl) 2 7 (gle rfl) (gle rfl) (gle rfl) (gle rfl) dX1_erase_22 gx_n (gv_i ?_)
  refine g_top (show _ = gb (¬ pumice < (0 : Int32) ∧ ¬ (9 : Int32) < pumice) from rfl) ?_
  refine g_mono (P2 := gP 0 G S A Fr []) (fun _ hp => gP_Tl 0 hp) ?_
  refine g_callS F (kX1_requireArgument hl (c := ¬ pumice < (0 : Int32) ∧ ¬ (9 : Int32) < pumice)) (lw_S q335 q336 q18 q337) myX1_requireArgument ⟨by decide, by decide⟩ rfl rfl (gle rfl) 3 13 (gle rfl) (gle rfl) (gle rfl) (gle rfl) dX1_erase_25 (gx_1 (fun c_3 => g_out0 F E (gle rfl) (gle rfl) (fun _ hp => ⟨((if_pos c_1).trans (if_neg c_3)), gPE_0 _ hp⟩))) (gv_c (fun c_3 => ?_))
  refine g_aload_n F 0 rfl rfl dX1_erase_28 ?_
  refine g_getN F clX13 9 (by decide) (gT_w q1099 rfl) (v := .int (S.1 10 run.toNatClampNeg 9)) (gd_get (pr_at (κ := 10) (i := run.toNatClampNeg) (by decide) (gc6 (by decide) c_1.2) (gce rfl rfl)) rfl) dX1_erase_29 ?_
  refine g_iconst F (v := (-1 : Int32)) (by decide) dX1_erase_32 ?_
  have J_6 : gW (X, G, 4, Q) (gP 0 G S A Fr []) [(3, .ref (A 10 run.toNatClampNeg)), (0, .ref (A 0 0)), (1, .int run), (2, .int pumice)] 48 [.int (gb (¬ ((S.1 10 run.toNatClampNeg 9) = (-1 : Int32)) ∧ ((S.1 10 run.toNatClampNeg 10) = 0)))] 3 13 := by
    refine g_callS F (kX1_requireSupported hl (c := ¬ ((S.1 10 run.toNatClampNeg 9) = (-1 : Int32)) ∧ ((S.1 10 run.toNatClampNeg 10) = 0))) (lw_S q512 q513 q18 q514) myX1_requireSupported ⟨by decide, by decide⟩ rfl rfl (gle rfl) 4 19 (gle rfl) (gle rfl) (gle rfl) (gle rfl) dX1_erase_48 (gx_1 (fun c_7 => g_out0 F E (gle rfl) (gle rfl) (fun _ hp => ⟨((if_pos c_1).trans ((if_pos c_3).trans (if_neg c_7))), gPE_0 _ hp⟩))) (gv_c (fun c_7 => ?_))
    refine g_aload_n F 0 rfl rfl dX1_erase_51 ?_
    refine g_iconst F (v := (1 : Int32)) (by decide) dX1_erase_52 ?_
    refine g_putN (P2 := gP 0 G (gsr S.1 10 run.toNatClampNeg (upd (S.1 10 run.toNatClampNeg) 10 (1 : Int32)), S.2) A Fr []) F clX13 11 (by decide) (gT_w q1101 rfl) rfl rfl rfl (pr_put (κ := 10) (i := run.toNatClampNeg) gM0 hF (upd (S.1 10 run.toNatClampNeg) 10 (1 : Int32)) (by decide) (gc6 (by decide) c_1.2) (gce rfl rfl) (gnl rfl) rfl) dX1_erase_53 ?_
    refine g_aload_n F 0 rfl rfl dX1_erase_56 ?_
    refine g_getN F clX13 5 (by decide) (gT_w q1091 rfl) (v := .int (S.1 10 run.toNatClampNeg 3)) (gd_get (pr_at (κ := 10) (i := run.toNatClampNeg) (by decide) (gc6 (by decide) c_1.2) (gce (show (gsr S.1 10 run.toNatClampNeg (upd (S.1 10 run.toNatClampNeg) 10 (1 : Int32))) 10 run.toNatClampNeg = upd (S.1 10 run.toNatClampNeg) 10 (1 : Int32) from gsr_s) rfl)) rfl) dX1_erase_57 ?_
    exact g_retI F E rfl rfl (gle rfl) (gle rfl) dX1_erase_60 (fun _ hp => ⟨_, _, ((if_pos c_1).trans ((if_pos c_3).trans (if_pos c_7))), rfl, gPE_0 _ hp⟩)
  refine g_icmp_eq F (tgt := 47) (by decide) dX1_erase_33 (fun c_4 => ?_) (fun c_4 => ?_)
  · skip
    refine g_iconst F (v := (0 : Int32)) (by decide) dX1_erase_47 ?_
    exact g_top (gb_f (fun q => q.1 c_4)) J_6
  · skip
    refine g_aload_n F 0 rfl rfl dX1_erase_36 ?_
    refine g_getN F clX13 11 (by decide) (gT_w q1101 rfl) (v := .int (S.1 10 run.toNatClampNeg 10)) (gd_get (pr_at (κ := 10) (i := run.toNatClampNeg) (by decide) (gc6 (by decide) c_1.2) (gce rfl rfl)) rfl) dX1_erase_37 ?_
    refine g_if_ne F (tgt := 47) (by decide) dX1_erase_40 (fun c_5 => ?_) (fun c_5 => ?_)
    · skip
      refine g_iconst F (v := (0 : Int32)) (by decide) dX1_erase_47 ?_
      exact g_top (gb_f (fun q => c_5 q.2)) J_6
    · skip
      refine g_iconst F (v := (1 : Int32)) (by decide) dX1_erase_43 ?_
      refine g_goto F (tgt := 48) (by decide) dX1_erase_44 ?_
      exact g_top (gb_t (⟨c_4, c_5⟩)) J_6
