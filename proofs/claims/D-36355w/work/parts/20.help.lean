/-! OWN HELPERS: forms -/
abbrev gIn (x : Int32) (N : Nat) : Prop := ¬ x < 0 ∧ x.toNatClampNeg < N
theorem gIn_t {x : Int32} {N : Nat} (h0 : ¬ x < 0) (h1 : x < nI N) (hN : N < 2 ^ 31) : gIn x N := by
  refine ⟨h0, ?_⟩
  have h2 : ¬ x.toInt < 0 := fun q => h0 (Int32.lt_iff_toInt_lt.mpr (by simpa using q))
  rw [Int32.lt_iff_toInt_lt, nI_toInt hN] at h1
  unfold Int32.toNatClampNeg
  omega
theorem gls_obj {P : gH → Prop} {G : gG} {t1 t2 a len : Nat} {el : Nat → Nat} (hls : ∀ h, P h → gLs G h t1 t2 a len el) : ∀ h, P h → ∃ τ fs, h a = some (τ, .inr (16, fs)) := fun h hp => by
  obtain ⟨mc, ed, cap, f, h1, -⟩ := hls h hp
  exact ⟨_, _, h1⟩
theorem gIn_lt {x : Int32} {N : Nat} (h : gIn x N) (hN : N < 2 ^ 31) : x < nI N := gilt h.1 h.2 hN
theorem gIn_f1 {x : Int32} {N : Nat} (h : x < 0) : ¬ gIn x N := fun q => q.1 h
theorem gIn_f2 {x : Int32} {N : Nat} (h : ¬ x < nI N) (hN : N < 2 ^ 31) : ¬ gIn x N := fun q => h (gIn_lt q hN)
theorem gIn_vp {x : Int32} {N : Nat} (h : gIn x N) : vp_in x N := fun q => q.elim h.1 (Nat.not_le.mpr h.2)
theorem gIn_eq {x : Int32} {N : Nat} (h : gIn x N) : x = nI x.toNatClampNeg := gnI_of h.1
def gqY (C : Prop) (w : Value) (P : gH → Prop) : Option Value → gH → Prop := fun v h => v = some w ∧ C ∧ P h
theorem gb_and {a b : Prop} [Decidable a] [Decidable b] : gb a &&& gb b = gb (a ∧ b) := by
  unfold gb
  by_cases h : a <;> by_cases h2 : b <;> simp [h, h2] <;> rfl
theorem gb_or {a b : Prop} [Decidable a] [Decidable b] : gb a ||| gb b = gb (a ∨ b) := by
  unfold gb
  by_cases h : a <;> by_cases h2 : b <;> simp [h, h2] <;> rfl
theorem g1_and {a : Prop} [Decidable a] : (1 : Int32) &&& gb a = gb a := by
  unfold gb
  by_cases h : a <;> simp [h] <;> rfl
theorem g0_or {a : Prop} [Decidable a] : (0 : Int32) ||| gb a = gb a := by
  unfold gb
  by_cases h : a <;> simp [h] <;> rfl
theorem gb_c {a b : Prop} [Decidable a] [Decidable b] (h : a ↔ b) : gb a = gb b := by
  unfold gb
  by_cases q : a
  · rw [if_pos q, if_pos (h.mp q)]
  · rw [if_neg q, if_neg (fun z => q (h.mpr z))]
section GW20
variable {Y : gY} {cc : ByteArray} {own : String} {rm : Room} {hh : gHh} {ret : Option FieldType} {P P2 : gH → Prop} {lv : List (Nat × Value)} {pc k n : Nat} {st : List Value}
theorem gv_y {C : Prop} {w : Value} (kk : C → gW Y P lv pc (w :: st) k n) : ∀ v, gW Y (gqY C w P v) lv pc (v.toList ++ st) k n := fun v H locs ls h hP hR hL hl => by
  obtain ⟨rfl, hC, hP⟩ := hP
  exact kk hC H locs ls h hP hR hL hl
theorem g_out0 (F : gF Y cc own rm [] ret) {Qr : Option Value → gH → Prop} {Qx : String → gH → Prop} (E : gEn Y rm Qr Qx) {ex : String} (hk : k ≤ rm.cells) (hn : n ≤ rm.slots) (hq : ∀ h, P h → Qx ex h) : gX Y P lv pc k n ex := g_out F E (fun z hz => by cases hz) hk hn hq
theorem gw_decI {c1 c2 : Prop} {x : Int32} (i1 : c1 → x = 1) (i2 : ¬ c1 → x = 0) [Decidable c1] : x = gb c1 := by
  by_cases h : c1
  · rw [i1 h]; exact gb_t h
  · rw [i2 h]; exact gb_f h
end GW20
theorem kX1_requireArgument {l : Launch} {G : gG} (hl : l.stackTraces = false) {P : gH → Prop} {c : Prop} [Decidable c] : gMet l yX1_requireArgument (ws_ yX1_requireArgument cX1_requireArgument 1 none) ⟨6, 1, 6, 81⟩ G [.int (gb c)] P (gqC c P) (gx1 "java/lang/IllegalArgumentException" (¬ c) P) := by
  refine gMet_of hl pnX1 (gle rfl) (fun X Q hX F E hNm => ?_)
  subst hX
  change gW (X, G, 1, Q) P [(0, .int (gb c))] 0 [] 0 0
  refine g_iload_n F 0 rfl rfl dX1_requireArgument_0 ?_
  refine gb_if_ne F (tgt := 12) (by decide) dX1_requireArgument_1 (fun c_1 => ?_) (fun c_1 => ?_)
  · skip
    exact g_retV F E rfl (gle rfl) (gle rfl) dX1_requireArgument_12 (fun _ hp => ⟨rfl, c_1, hp⟩)
  · skip
    exact g_throw0 F E (names := ["java/lang/RuntimeException", "java/lang/Exception"]) (ic := 25) (by decide +kernel) (by decide +kernel) q338 q29 tw_Graphline_iae.1 tw_Graphline_iae.2 dX1_requireArgument_4 dX1_requireArgument_7 dX1_requireArgument_8 dX1_requireArgument_11 (gle rfl) (gle rfl) (gle rfl) (gle rfl) (fun _ hp => ⟨rfl, c_1, hp⟩)

theorem kX1_requireState {l : Launch} {G : gG} (hl : l.stackTraces = false) {P : gH → Prop} {c : Prop} [Decidable c] : gMet l yX1_requireState (ws_ yX1_requireState cX1_requireState 1 none) ⟨6, 1, 6, 81⟩ G [.int (gb c)] P (gqC c P) (gx1 "java/lang/IllegalStateException" (¬ c) P) := by
  refine gMet_of hl pnX1 (gle rfl) (fun X Q hX F E hNm => ?_)
  subst hX
  change gW (X, G, 1, Q) P [(0, .int (gb c))] 0 [] 0 0
  refine g_iload_n F 0 rfl rfl dX1_requireState_0 ?_
  refine gb_if_ne F (tgt := 12) (by decide) dX1_requireState_1 (fun c_1 => ?_) (fun c_1 => ?_)
  · skip
    exact g_retV F E rfl (gle rfl) (gle rfl) dX1_requireState_12 (fun _ hp => ⟨rfl, c_1, hp⟩)
  · skip
    exact g_throw0 F E (names := ["java/lang/RuntimeException", "java/lang/Exception"]) (ic := 28) (by decide +kernel) (by decide +kernel) q409 q30 tw_Graphline_ise.1 tw_Graphline_ise.2 dX1_requireState_4 dX1_requireState_7 dX1_requireState_8 dX1_requireState_11 (gle rfl) (gle rfl) (gle rfl) (gle rfl) (fun _ hp => ⟨rfl, c_1, hp⟩)

theorem kX1_requireSupported {l : Launch} {G : gG} (hl : l.stackTraces = false) {P : gH → Prop} {c : Prop} [Decidable c] : gMet l yX1_requireSupported (ws_ yX1_requireSupported cX1_requireSupported 1 none) ⟨6, 1, 6, 81⟩ G [.int (gb c)] P (gqC c P) (gx1 "java/lang/UnsupportedOperationException" (¬ c) P) := by
  refine gMet_of hl pnX1 (gle rfl) (fun X Q hX F E hNm => ?_)
  subst hX
  change gW (X, G, 1, Q) P [(0, .int (gb c))] 0 [] 0 0
  refine g_iload_n F 0 rfl rfl dX1_requireSupported_0 ?_
  refine gb_if_ne F (tgt := 12) (by decide) dX1_requireSupported_1 (fun c_1 => ?_) (fun c_1 => ?_)
  · skip
    exact g_retV F E rfl (gle rfl) (gle rfl) dX1_requireSupported_12 (fun _ hp => ⟨rfl, c_1, hp⟩)
  · skip
    exact g_throw0 F E (names := ["java/lang/RuntimeException", "java/lang/Exception"]) (ic := 31) (by decide +kernel) (by decide +kernel) q515 q36 tw_Graphline_uoe.1 tw_Graphline_uoe.2 dX1_requireSupported_4 dX1_requireSupported_7 dX1_requireSupported_8 dX1_requireSupported_11 (gle rfl) (gle rfl) (gle rfl) (gle rfl) (fun _ hp => ⟨rfl, c_1, hp⟩)

theorem kX1_requireIndex {l : Launch} {G : gG} (hl : l.stackTraces = false) {P : gH → Prop} {x : Int32} {N : Nat} (hN : N < 2 ^ 31) : gMet l yX1_requireIndex (ws_ yX1_requireIndex cX1_requireIndex 2 none) ⟨6, 1, 6, 81⟩ G [.int x, .int (nI N)] P (gqC (gIn x N) P) (gx1 "java/lang/IndexOutOfBoundsException" (¬ gIn x N) P) := by
  refine gMet_of hl pnX1 (gle rfl) (fun X Q hX F E hNm => ?_)
  subst hX
  change gW (X, G, 2, Q) P [(0, .int x), (1, .int (nI N))] 0 [] 0 0
  refine g_iload_n F 0 rfl rfl dX1_requireIndex_0 ?_
  refine g_if_lt F (tgt := 9) (by decide) dX1_requireIndex_1 (fun c_1 => ?_) (fun c_1 => ?_)
  · skip
    exact g_throw0 F E (names := ["java/lang/RuntimeException", "java/lang/Exception"]) (ic := 3) (by decide +kernel) (by decide +kernel) q790 q43 tw_Graphline_ioobe.1 tw_Graphline_ioobe.2 dX1_requireIndex_9 dX1_requireIndex_12 dX1_requireIndex_13 dX1_requireIndex_16 (gle rfl) (gle rfl) (gle rfl) (gle rfl) (fun _ hp => ⟨rfl, gIn_f1 c_1, hp⟩)
  · skip
    refine g_iload_n F 0 rfl rfl dX1_requireIndex_4 ?_
    refine g_iload_n F 1 rfl rfl dX1_requireIndex_5 ?_
    refine g_icmp_lt F (tgt := 17) (by decide) dX1_requireIndex_6 (fun c_2 => ?_) (fun c_2 => ?_)
    · skip
      exact g_retV F E rfl (gle rfl) (gle rfl) dX1_requireIndex_17 (fun _ hp => ⟨rfl, gIn_t c_1 c_2 hN, hp⟩)
    · skip
      exact g_throw0 F E (names := ["java/lang/RuntimeException", "java/lang/Exception"]) (ic := 3) (by decide +kernel) (by decide +kernel) q790 q43 tw_Graphline_ioobe.1 tw_Graphline_ioobe.2 dX1_requireIndex_9 dX1_requireIndex_12 dX1_requireIndex_13 dX1_requireIndex_16 (gle rfl) (gle rfl) (gle rfl) (gle rfl) (fun _ hp => ⟨rfl, gIn_f2 c_2 hN, hp⟩)

theorem kX1_require {l : Launch} {G : gG} (hl : l.stackTraces = false) {P : gH → Prop} {t1 t2 a len : Nat} {el : Nat → Nat} (hls : ∀ h, P h → gLs G h t1 t2 a len el) (hlen : len ≤ 150) {x : Int32} : gMet l yX1_require (ws_ yX1_require cX1_require 2 (some (.object "java/lang/Object"))) ⟨7, 1, 6, 102⟩ G [.ref a, .int x] P (gqY (gIn x len) (.ref (el x.toNatClampNeg)) P) (gx1 "java/lang/IndexOutOfBoundsException" (¬ gIn x len) P) := by
  refine gMet_of hl pnX1 (gle rfl) (fun X Q hX F E hNm => ?_)
  subst hX
  change gW (X, G, 2, Q) P [(0, .ref a), (1, .int x)] 0 [] 0 0
  refine g_iload_n F 1 rfl rfl dX1_require_0 ?_
  refine g_aload_n F 0 rfl rfl dX1_require_1 ?_
  refine g_callF F clJ3 (kJ3_size hl hls) (g_recv F clJ3 (gls_obj hls)) q631 q634 q636 q22 q638 (List.mem_of_getElem? (i := 0) rfl) (gT_w q637 rfl) (gT_w q635 rfl) (gT_w q293 rfl) gface_0 ⟨by decide, by decide⟩ rfl rfl (gle rfl) 0 0 (gle rfl) (gle rfl) (gle rfl) (gle rfl) dX1_require_2 gx_n (gv_i ?_)
  refine g_callS F (kX1_requireIndex hl (x := x) (by omega)) (lw_S q787 q788 q18 q789) myX1_requireIndex ⟨by decide, by decide⟩ rfl rfl (gle rfl) 1 6 (gle rfl) (gle rfl) (gle rfl) (gle rfl) dX1_require_7 (gx_1 (fun c_1 => g_out0 F E (gle rfl) (gle rfl) (fun _ hp => ⟨rfl, c_1, hp⟩))) (gv_c (fun c_1 => ?_))
  refine g_aload_n F 0 rfl rfl dX1_require_10 ?_
  refine g_iload_n F 1 rfl rfl dX1_require_11 ?_
  refine g_callF F clJ3 (kJ3_get hl hls c_1.2 hlen rfl c_1.1) (g_recv F clJ3 (gls_obj hls)) q806 q809 q811 q22 q813 (List.mem_of_getElem? (i := 1) rfl) (gT_w q812 rfl) (gT_w q810 rfl) (gT_w q293 rfl) gface_1 ⟨by decide, by decide⟩ rfl rfl (gle rfl) 1 6 (gle rfl) (gle rfl) (gle rfl) (gle rfl) dX1_require_12 gx_n (gv_i ?_)
  exact g_retA F E rfl (Or.inl ⟨_, rfl⟩) (Or.inr ⟨_, rfl⟩) (gle rfl) (gle rfl) dX1_require_17 (fun _ hp => ⟨rfl, c_1, hp⟩)

theorem kX1_isIn {l : Launch} {G : gG} (hl : l.stackTraces = false) {P : gH → Prop} {a : Nat} {lo hi : Int32} {f : Nat → Int32} (ha : gAt P a (gIA G 1 f)) : gMet l yX1_isIn (ws_ yX1_isIn cX1_isIn 8 (some .boolean)) ⟨0, 0, 0, 0⟩ G [.int lo, .int hi, .ref a] P (gqI (.int (gb (¬ f 0 < lo ∧ ¬ hi < f 0))) P) gxN := by
  refine gMet_of hl pnX1 (gle rfl) (fun X Q hX F E hNm => ?_)
  subst hX
  change gW (X, G, 8, Q) P [(0, .int lo), (1, .int hi), (2, .ref a)] 0 [] 0 0
  refine g_iconst F (v := (1 : Int32)) (by decide) dX1_isIn_0 ?_
  refine g_istore_n F rfl (by show 3 < 8; decide) (lv2 := [(3, .int (1 : Int32)), (0, .int lo), (1, .int hi), (2, .ref a)]) rfl dX1_isIn_1 ?_
  refine g_aload_n F 3 rfl rfl dX1_isIn_2 ?_
  refine g_astore F (by show 4 < 8; decide) (lv2 := [(4, .ref a), (3, .int (1 : Int32)), (0, .int lo), (1, .int hi), (2, .ref a)]) rfl dX1_isIn_3 ?_
  refine g_aload F 0 rfl dX1_isIn_5 ?_
  refine g_alen F 0 rfl (v := (1 : Int32)) rfl ha dX1_isIn_7 ?_
  refine g_istore F (by show 5 < 8; decide) (lv2 := [(5, .int (1 : Int32)), (4, .ref a), (3, .int (1 : Int32)), (0, .int lo), (1, .int hi), (2, .ref a)]) rfl dX1_isIn_8 ?_
  refine g_iconst F (v := (0 : Int32)) (by decide) dX1_isIn_10 ?_
  refine g_istore F (by show 6 < 8; decide) (lv2 := [(6, .int (0 : Int32)), (5, .int (1 : Int32)), (4, .ref a), (3, .int (1 : Int32)), (0, .int lo), (1, .int hi), (2, .ref a)]) rfl dX1_isIn_11 ?_
  refine g_iload F 0 rfl dX1_isIn_13 ?_
  refine g_iload F 1 rfl dX1_isIn_15 ?_
  refine g_icmp_ge F (tgt := 53) (by decide) dX1_isIn_17 (fun c => absurd c (by decide)) (fun _ => ?_)
  refine g_aload F 2 rfl dX1_isIn_20 ?_
  refine g_iload F 0 rfl dX1_isIn_22 ?_
  refine g_ialdN F (m := 0) rfl (by decide) (by decide) ha dX1_isIn_24 ?_
  change gW _ _ _ _ (.int (f 0) :: _) _ _
  refine g_istore F (by show 7 < 8; decide) (lv2 := [(7, .int (f 0)), (6, .int (0 : Int32)), (5, .int (1 : Int32)), (4, .ref a), (3, .int (1 : Int32)), (0, .int lo), (1, .int hi), (2, .ref a)]) rfl dX1_isIn_25 ?_
  refine g_iload_n F 4 rfl rfl dX1_isIn_27 ?_
  refine g_iload_n F 5 rfl rfl dX1_isIn_28 ?_
  refine g_iload F 0 rfl dX1_isIn_29 ?_
  have J_3 : gW (X, G, 8, Q) P [(7, .int (f 0)), (6, .int (0 : Int32)), (5, .int (1 : Int32)), (4, .ref a), (3, .int (1 : Int32)), (0, .int lo), (1, .int hi), (2, .ref a)] 45 [.int (gb (¬ ((f 0) < lo) ∧ (¬ (hi < (f 0))))), .int (1 : Int32)] 0 0 := by
    refine g_iand F dX1_isIn_45 ?_
    refine g_top g1_and ?_
    refine g_istore_n F rfl (by show 3 < 8; decide) (lv2 := [(3, .int (gb (¬ ((f 0) < lo) ∧ (¬ (hi < (f 0)))))), (7, .int (f 0)), (6, .int (0 : Int32)), (5, .int (1 : Int32)), (4, .ref a), (0, .int lo), (1, .int hi), (2, .ref a)]) rfl dX1_isIn_46 ?_
    refine g_iinc F 2 rfl (v := (1 : Int32)) (by rfl) (by show 6 < 8; decide) (lv2 := [(6, .int (1 : Int32)), (3, .int (gb (¬ ((f 0) < lo) ∧ (¬ (hi < (f 0)))))), (7, .int (f 0)), (5, .int (1 : Int32)), (4, .ref a), (0, .int lo), (1, .int hi), (2, .ref a)]) rfl dX1_isIn_47 ?_
    refine g_goto F (tgt := 13) (by decide) dX1_isIn_50 ?_
    refine g_iload F 0 rfl dX1_isIn_13 ?_
    refine g_iload F 3 rfl dX1_isIn_15 ?_
    refine g_icmp_ge F (tgt := 53) (by decide) dX1_isIn_17 (fun _ => ?_) (fun c => absurd c (by decide))
    refine g_iload_n F 1 rfl rfl dX1_isIn_53 ?_
    exact g_retI F E rfl gb_z (gle rfl) (gle rfl) dX1_isIn_54 (fun _ hp => ⟨rfl, hp⟩)
  refine g_icmp_gt F (tgt := 44) (by decide) dX1_isIn_31 (fun c_1 => ?_) (fun c_1 => ?_)
  · skip
    refine g_iconst F (v := (0 : Int32)) (by decide) dX1_isIn_44 ?_
    exact g_top (gb_f (fun q => q.1 c_1)) J_3
  · skip
    refine g_iload F 0 rfl dX1_isIn_34 ?_
    refine g_iload_n F 6 rfl rfl dX1_isIn_36 ?_
    refine g_icmp_gt F (tgt := 44) (by decide) dX1_isIn_37 (fun c_2 => ?_) (fun c_2 => ?_)
    · skip
      refine g_iconst F (v := (0 : Int32)) (by decide) dX1_isIn_44 ?_
      exact g_top (gb_f (fun q => (fun q => q c_2) q.2)) J_3
    · skip
      refine g_iconst F (v := (1 : Int32)) (by decide) dX1_isIn_40 ?_
      refine g_goto F (tgt := 45) (by decide) dX1_isIn_41 ?_
      exact g_top (gb_t (⟨c_1, c_2⟩)) J_3

theorem kX1_requireMachine {l : Launch} {G : gG} (hl : l.stackTraces = false) {P : gH → Prop} {ch : Int32} (h0 : ¬ ch < 0) : gMet l yX1_requireMachine (ws_ yX1_requireMachine cX1_requireMachine 2 (some .int)) ⟨7, 1, 6, 101⟩ G [.int ch] P (gqY (¬ gidx 0 ch < 0) (.int (gidx 0 ch)) P) (gx1 "java/lang/IllegalArgumentException" (¬ ¬ gidx 0 ch < 0) P) := by
  refine gMet_of hl pnX1 (gle rfl) (fun X Q hX F E hNm => ?_)
  subst hX
  change gW (X, G, 2, Q) P [(0, .int ch)] 0 [] 0 0
  refine g_ldcS F (i := 0) (List.mem_of_getElem? (i := 0) rfl) dX1_requireMachine_0 ?_
  refine g_iload_n F 0 rfl rfl dX1_requireMachine_2 ?_
  refine g_callV F (kJ0_indexOf hl (by decide) (ch := ch) h0) (g_srecv F (by decide)) q435 q436 q437 q19 q438 myJ0_indexOf ⟨by decide, by decide⟩ rfl rfl (gle rfl) 0 0 (gle rfl) (gle rfl) (gle rfl) (gle rfl) dX1_requireMachine_3 gx_n (gv_i ?_)
  refine g_istore_n F rfl (by show 1 < 2; decide) (lv2 := [(1, .int (gidx 0 ch)), (0, .int ch)]) rfl dX1_requireMachine_6 ?_
  refine g_iload_n F 0 rfl rfl dX1_requireMachine_7 ?_
  have J_2 : gW (X, G, 2, Q) P [(1, .int (gidx 0 ch)), (0, .int ch)] 16 [.int (gb (¬ ((gidx 0 ch) < 0)))] 0 0 := by
    refine g_callS F (kX1_requireArgument hl (c := ¬ ((gidx 0 ch) < 0))) (lw_S q335 q336 q18 q337) myX1_requireArgument ⟨by decide, by decide⟩ rfl rfl (gle rfl) 1 6 (gle rfl) (gle rfl) (gle rfl) (gle rfl) dX1_requireMachine_16 (gx_1 (fun c_3 => g_out0 F E (gle rfl) (gle rfl) (fun _ hp => ⟨rfl, c_3, hp⟩))) (gv_c (fun c_3 => ?_))
    refine g_iload_n F 0 rfl rfl dX1_requireMachine_19 ?_
    exact g_retI F E rfl rfl (gle rfl) (gle rfl) dX1_requireMachine_20 (fun _ hp => ⟨rfl, c_3, hp⟩)
  refine g_if_lt F (tgt := 15) (by decide) dX1_requireMachine_8 (fun c_1 => ?_) (fun c_1 => ?_)
  · skip
    refine g_iconst F (v := (0 : Int32)) (by decide) dX1_requireMachine_15 ?_
    exact g_top (gb_f (fun q => q c_1)) J_2
  · skip
    refine g_iconst F (v := (1 : Int32)) (by decide) dX1_requireMachine_11 ?_
    refine g_goto F (tgt := 16) (by decide) dX1_requireMachine_12 ?_
    exact g_top (gb_t c_1) J_2
