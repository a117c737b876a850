/-! THE REFERENCE: forms -/
theorem lg_lt {a b : Int64} : lg_cmp a b < 0 ↔ a < b := by
  have h := lg_cmp_ge a b
  rw [← Int32.not_le, ← Int64.not_le]
  exact not_congr h
theorem lg_gt {a b : Int64} : 0 < lg_cmp a b ↔ b < a := by
  have h := lg_cmp_le a b
  rw [← Int32.not_le, ← Int64.not_le]
  exact not_congr h
theorem gin_c {x lo hi : Int32} : (¬ lg_cmp x.toInt64 lo.toInt64 < 0 ∧ ¬ 0 < lg_cmp x.toInt64 hi.toInt64) ↔ (¬ x < lo ∧ ¬ hi < x) := by
  rw [lg_lt, lg_gt, Int32.toInt64_lt, Int32.toInt64_lt]
/-- two ends -/
def gqF (c : Prop) (P1 P0 : gH → Prop) : Option Value → gH → Prop := fun v h => (c ∧ v = some (.int 1) ∧ P1 h) ∨ (¬ c ∧ v = some (.int 0) ∧ P0 h)
def gqN (o : Value × gS) (G : gG) (a0 : Nat) (Fr : gH → Prop) : Option Value → gH → Prop := fun v h => ∃ (w : Value) (S2 : gS), o = (w, S2) ∧ v = some w ∧ gPE 1 G S2 a0 Fr h
section GW24
variable {Y : gY} {cc : ByteArray} {own : String} {rm : Room} {hh : gHh} {ret : Option FieldType} {P P2 P1 P0 : gH → Prop} {lv : List (Nat × Value)} {pc k n : Nat} {st : List Value}
theorem gv_f {c : Prop} (kt : c → gW Y P1 lv pc (.int 1 :: st) k n) (kf : ¬ c → gW Y P0 lv pc (.int 0 :: st) k n) : ∀ v, gW Y (gqF c P1 P0 v) lv pc (v.toList ++ st) k n := fun v H locs ls h hP hR hL hl => by
  rcases hP with ⟨hc, rfl, hP⟩ | ⟨hc, rfl, hP⟩
  · exact kt hc H locs ls h hP hR hL hl
  · exact kf hc H locs ls h hP hR hL hl
end GW24
theorem gIn_iff {x : Int32} {N : Nat} (hN : N < 2 ^ 30) : (¬ x < 0 ∧ ¬ nI N - 1 < x) ↔ gIn x N := by
  constructor
  · intro ⟨h0, h1⟩
    refine gIn_t h0 ?_ (by omega)
    rw [Int32.lt_iff_toInt_lt] at h1 ⊢
    rw [Int32.toInt_sub, nI_toInt (by omega), show (1 : Int32).toInt = 1 from by decide, Int.bmod_eq_of_le (by omega) (by omega)] at h1
    rw [nI_toInt (by omega)]
    omega
  · intro h
    refine ⟨h.1, fun q => ?_⟩
    have h2 := gIn_lt h (by omega)
    rw [Int32.lt_iff_toInt_lt] at q h2
    rw [Int32.toInt_sub, nI_toInt (by omega), show (1 : Int32).toInt = 1 from by decide, Int.bmod_eq_of_le (by omega) (by omega)] at q
    rw [nI_toInt (by omega)] at h2
    omega
theorem gGo_sh {r on : Nat → Int32} {sh : Int32} : ∀ (n : Nat) (x : Int32), gGo r on sh n x = (!(sh == 0) && gGo r on 1 n x)
  | 0, _ => by simp [gGo]
  | n + 1, x => by
    unfold gGo
    by_cases h : x = -1
    · simp [h]
    · rw [if_neg h, if_neg h, gGo_sh n]
      cases (!(on x.toNatClampNeg == 0)) <;> cases (!(sh == 0)) <;> rfl
theorem gBl_b {x : Int32} (h : gBl x) : x = gb ((!(x == 0)) = true) := by
  rcases h with rfl | rfl <;> rfl
theorem gmix_vp {ch : Int32} (h : ¬ gidx 1 ch < 0) : vp_in (2 + gidx 1 ch) 5 := by
  obtain ⟨j, h1, h2⟩ := gidx_lt (i := 1) (by decide) h
  rw [h2]
  have h3 : j < 3 := h1
  have e : ∀ j, j < 3 → (2 : Int32) + nI j = nI (j + 2) := by decide +kernel
  rw [e j h3]
  exact vp_in_nI (by omega) (by decide)
theorem mixne {S : gS} {i j : Nat} (hi : S.1 6 i 0 = 103) (hj : S.1 6 j 0 = 99) : i ≠ j := fun q => by
  rw [q, hj] at hi
  exact absurd hi (by decide)
theorem kX3_begins {l : Launch} {G : gG} (hl : l.stackTraces = false) {P : gH → Prop} {a : Nat} {t : Int32} {w1 w2 w3 w4 w5 w6 w7 w8 w9 w10 w11 w12 w13 w14 w15 w16 w17 : Value} (ha : gAt P a (.inr (2, [.int t, w1, w2, w3, w4, w5, w6, w7, w8, w9, w10, w11, w12, w13, w14, w15, w16, w17]))) : gMet l yX3_begins (ws_ yX3_begins cX3_begins 1 none) ⟨0, 0, 0, 0⟩ G [.ref a] P (gqV (gUp P a (.inr (2, [.int t, w1, w2, w3, w4, w5, w6, w7, w8, w9, w10, w11, w12, w13, w14, w15, w16, w17])) (.inr (2, [.int (0 : Int32), w1, w2, w3, w4, w5, w6, w7, w8, w9, w10, w11, w12, w13, w14, w15, w16, w17])))) gxN := by
  refine gMet_of hl pnX3 (gle rfl) (fun X Q hX F E hNm => ?_)
  subst hX
  change gW (X, G, 1, Q) P [(0, .ref a)] 0 [] 0 0
  refine g_mono (gUp_0 ha) ?_
  refine g_aload_n F 0 rfl rfl dX3_begins_0 ?_
  refine g_iconst F (v := (0 : Int32)) (by decide) dX3_begins_1 ?_
  refine g_put (P2 := (gUp P a (.inr (2, [.int t, w1, w2, w3, w4, w5, w6, w7, w8, w9, w10, w11, w12, w13, w14, w15, w16, w17])) (.inr (2, [.int (0 : Int32), w1, w2, w3, w4, w5, w6, w7, w8, w9, w10, w11, w12, w13, w14, w15, w16, w17])))) F clX3 0 (by decide) q1389 rfl rfl rfl (gUp_put (gnl rfl)) dX3_begins_2 ?_
  exact g_retV F E rfl (gle rfl) (gle rfl) dX3_begins_5 (fun _ hp => ⟨rfl, hp⟩)

theorem kX3_in {l : Launch} {G : gG} (hl : l.stackTraces = false) {P : gH → Prop} {x lo hi : Int32} {l1 h1 : Int64} (hlo : l1 = lo.toInt64) (hhi : h1 = hi.toInt64) : gMet l yX3_in (ws_ yX3_in cX3_in 6 (some .boolean)) ⟨0, 0, 0, 0⟩ G [.long x.toInt64, .long l1, .long h1] P (gqI (.int (gb (¬ x < lo ∧ ¬ hi < x))) P) gxN := by
  refine gMet_of hl pnX3 (gle rfl) (fun X Q hX F E hNm => ?_)
  subst hX
  change gW (X, G, 6, Q) P [(0, .long x.toInt64), (2, .long l1), (4, .long h1)] 0 [] 0 0
  refine g_lload_n F 0 rfl rfl dX3_in_0 ?_
  refine g_lload_n F 1 rfl rfl dX3_in_1 ?_
  refine g_lcmp F dX3_in_2 ?_
  have J_3 : gW (X, G, 6, Q) P [(0, .long x.toInt64), (2, .long l1), (4, .long h1)] 18 [.int (gb (¬ ((lg_cmp x.toInt64 l1) < 0) ∧ (¬ (0 < (lg_cmp x.toInt64 h1)))))] 0 0 := by
    exact g_retI F E rfl gb_z (gle rfl) (gle rfl) dX3_in_18 (fun _ hp => ⟨by subst hlo hhi; rw [gb_c gin_c], hp⟩)
  refine g_if_lt F (tgt := 17) (by decide) dX3_in_3 (fun c_1 => ?_) (fun c_1 => ?_)
  · skip
    refine g_iconst F (v := (0 : Int32)) (by decide) dX3_in_17 ?_
    exact g_top (gb_f (fun q => q.1 c_1)) J_3
  · skip
    refine g_lload_n F 0 rfl rfl dX3_in_6 ?_
    refine g_lload F 2 rfl dX3_in_7 ?_
    refine g_lcmp F dX3_in_9 ?_
    refine g_if_gt F (tgt := 17) (by decide) dX3_in_10 (fun c_2 => ?_) (fun c_2 => ?_)
    · skip
      refine g_iconst F (v := (0 : Int32)) (by decide) dX3_in_17 ?_
      exact g_top (gb_f (fun q => (fun q => q c_2) q.2)) J_3
    · skip
      refine g_iconst F (v := (1 : Int32)) (by decide) dX3_in_13 ?_
      refine g_goto F (tgt := 18) (by decide) dX3_in_14 ?_
      exact g_top (gb_t (⟨c_1, c_2⟩)) J_3

theorem kX3_isOf {l : Launch} {G : gG} (hl : l.stackTraces = false) {P : gH → Prop} {t1 t2 a len : Nat} {el : Nat → Nat} (hls : ∀ h, P h → gLs G h t1 t2 a len el) (hlen : len ≤ 150) {x : Int32} : gMet l yX3_isOf (ws_ yX3_isOf cX3_isOf 2 (some .boolean)) ⟨1, 0, 0, 25⟩ G [.ref a, .int x] P (gqI (.int (gb (gIn x len))) P) gxN := by
  refine gMet_of hl pnX3 (gle rfl) (fun X Q hX F E hNm => ?_)
  subst hX
  change gW (X, G, 2, Q) P [(0, .ref a), (1, .int x)] 0 [] 0 0
  refine g_iload_n F 1 rfl rfl dX3_isOf_0 ?_
  refine g_i2l F dX3_isOf_1 ?_
  refine g_lconst F (v := (0 : Int64)) (by decide) dX3_isOf_2 ?_
  refine g_aload_n F 0 rfl rfl dX3_isOf_3 ?_
  refine g_callF F clJ3 (kJ3_size hl hls) (g_recv F clJ3 (gls_obj hls)) q1491 q634 q636 q22 q638 (List.mem_of_getElem? (i := 0) rfl) (gT_w q637 rfl) (gT_w q635 rfl) (gT_w q293 rfl) gface_0 ⟨by decide, by decide⟩ rfl rfl (gle rfl) 0 0 (gle rfl) (gle rfl) (gle rfl) (gle rfl) dX3_isOf_4 gx_n (gv_i ?_)
  refine g_iconst F (v := (1 : Int32)) (by decide) dX3_isOf_9 ?_
  refine g_isub F dX3_isOf_10 ?_
  refine g_i2l F dX3_isOf_11 ?_
  refine g_callS F (kX3_in hl (x := x) (lo := (0 : Int32)) (hi := ((nI len) - (1 : Int32))) (by decide) rfl) (lw_S q1453 q1454 q25 q1455) myX3_in ⟨by decide, by decide⟩ rfl rfl (gle rfl) 0 0 (gle rfl) (gle rfl) (gle rfl) (gle rfl) dX3_isOf_12 gx_n (gv_i ?_)
  exact g_retI F E rfl gb_z (gle rfl) (gle rfl) dX3_isOf_15 (fun _ hp => ⟨by rw [← gb_c (gIn_iff (by omega))], hp⟩)

theorem kX3_fails {l : Launch} {G : gG} (hl : l.stackTraces = false) {P : gH → Prop} {a : Nat} {b nu : Int32} {c : Prop} (hb : ¬ b = 0 ↔ c) (hnu : ¬ nu ≤ 0) {w1 w2 w3 w4 w5 w6 w7 w8 w9 w10 w11 w12 w13 w14 w15 w16 w17 : Value} (ha : gAt P a (.inr (2, [.int (0 : Int32), w1, w2, w3, w4, w5, w6, w7, w8, w9, w10, w11, w12, w13, w14, w15, w16, w17]))) : gMet l yX3_fails (ws_ yX3_fails cX3_fails 3 (some .boolean)) ⟨0, 0, 0, 0⟩ G [.ref a, .int b, .int nu] P (gqF c (gUp P a (.inr (2, [.int (0 : Int32), w1, w2, w3, w4, w5, w6, w7, w8, w9, w10, w11, w12, w13, w14, w15, w16, w17])) (.inr (2, [.int nu, w1, w2, w3, w4, w5, w6, w7, w8, w9, w10, w11, w12, w13, w14, w15, w16, w17]))) P) gxN := by
  refine gMet_of hl pnX3 (gle rfl) (fun X Q hX F E hNm => ?_)
  subst hX
  change gW (X, G, 3, Q) P [(0, .ref a), (1, .int b), (2, .int nu)] 0 [] 0 0
  refine g_aload_n F 0 rfl rfl dX3_fails_0 ?_
  refine g_get F clX3 0 (by decide) q1389 (v := .int (0 : Int32)) (gd_get ha rfl) dX3_fails_1 ?_
  refine g_if_ne F (tgt := 16) (by decide) dX3_fails_4 (fun c => absurd c (by decide)) (fun _ => ?_)
  refine g_iload_n F 1 rfl rfl dX3_fails_7 ?_
  refine g_if_eq F (tgt := 16) (by decide) dX3_fails_8 (fun c_1 => ?_) (fun c_1 => ?_)
  · skip
    refine g_aload_n F 0 rfl rfl dX3_fails_16 ?_
    refine g_get F clX3 0 (by decide) q1389 (v := .int (0 : Int32)) (gd_get ha rfl) dX3_fails_17 ?_
    refine g_if_le F (tgt := 27) (by decide) dX3_fails_20 (fun _ => ?_) (fun c => absurd c (by decide))
    refine g_iconst F (v := (0 : Int32)) (by decide) dX3_fails_27 ?_
    exact g_retI F E rfl rfl (gle rfl) (gle rfl) dX3_fails_28 (fun _ hp => Or.inr ⟨fun q => hb.mpr q c_1, rfl, hp⟩)
  · skip
    refine g_mono (gUp_0 ha) ?_
    refine g_aload_n F 0 rfl rfl dX3_fails_11 ?_
    refine g_iload_n F 2 rfl rfl dX3_fails_12 ?_
    refine g_put (P2 := (gUp P a (.inr (2, [.int (0 : Int32), w1, w2, w3, w4, w5, w6, w7, w8, w9, w10, w11, w12, w13, w14, w15, w16, w17])) (.inr (2, [.int nu, w1, w2, w3, w4, w5, w6, w7, w8, w9, w10, w11, w12, w13, w14, w15, w16, w17])))) F clX3 0 (by decide) q1389 rfl rfl rfl (gUp_put (gnl rfl)) dX3_fails_13 ?_
    refine g_aload_n F 0 rfl rfl dX3_fails_16 ?_
    refine g_get F clX3 0 (by decide) q1389 (v := .int nu) (gd_get gUp_at rfl) dX3_fails_17 ?_
    refine g_if_le F (tgt := 27) (by decide) dX3_fails_20 (fun c => absurd c hnu) (fun _ => ?_)
    refine g_iconst F (v := (1 : Int32)) (by decide) dX3_fails_23 ?_
    refine g_goto F (tgt := 28) (by decide) dX3_fails_24 ?_
    exact g_retI F E rfl rfl (gle rfl) (gle rfl) dX3_fails_28 (fun _ hp => Or.inl ⟨hb.mp c_1, rfl, hp⟩)

theorem kX3_noLot {l : Launch} {G : gG} (hl : l.stackTraces = false) {S : gS} {A : Nat → Nat → Nat} {Fr : gH → Prop} (hF : gFr 1 Fr) (hW : gWf S) {x : Int32} : gMet l yX3_noLot (ws_ yX3_noLot cX3_noLot 2 (some .boolean)) ⟨2, 0, 0, 46⟩ G [.ref (A 0 0), .int x] (gP 1 G (gsr S.1 0 0 (upd (S.1 0 0) 8 0), S.2) A Fr []) (gqF (¬ gIn x (S.2 6)) (gP 1 G (gsr (gsr S.1 0 0 (upd (S.1 0 0) 8 0)) 0 0 (upd (upd (S.1 0 0) 8 0) 8 1), S.2) A Fr []) (gP 1 G (gsr S.1 0 0 (upd (S.1 0 0) 8 0), S.2) A Fr [])) gxN := by
  refine gMet_of hl pnX3 (gle rfl) (fun X Q hX F E hNm => ?_)
  subst hX
  change gW (X, G, 2, Q) (gP 1 G (gsr S.1 0 0 (upd (S.1 0 0) 8 0), S.2) A Fr []) [(0, .ref (A 0 0)), (1, .int x)] 0 [] 0 0
  refine g_aload_n F 0 rfl rfl dX3_noLot_0 ?_
  refine g_aload_n F 0 rfl rfl dX3_noLot_1 ?_
  refine g_get F clX3 5 (by decide) q1394 (v := .ref (A 306 0)) (gd_get (pr_at (κ := 0) (i := 0) (by decide) (gc1 (gnl rfl)) (gce (show (gsr S.1 0 0 (upd (S.1 0 0) 8 0)) 0 0 = upd (S.1 0 0) 8 0 from gsr_s) rfl)) rfl) dX3_noLot_2 ?_
  refine g_iload_n F 1 rfl rfl dX3_noLot_5 ?_
  refine g_callS F (kX3_isOf hl (pr_ls (M := 1) (S := (gsr S.1 0 0 (upd (S.1 0 0) 8 0), S.2)) (A := A) (κ := 6) (by decide) (Or.inl ⟨by decide, by decide⟩) (fun q => by first | decide | exact absurd q (by decide)) (fun q => by first | decide | exact absurd q (by decide))) (gw_n hW _) (x := x)) (lw_S q1502 q1503 q25 q1504) myX3_isOf ⟨by decide, by decide⟩ rfl rfl (gle rfl) 0 0 (gle rfl) (gle rfl) (gle rfl) (gle rfl) dX3_noLot_6 gx_n (gv_i ?_)
  have J_2 : gW (X, G, 2, Q) (gP 1 G (gsr S.1 0 0 (upd (S.1 0 0) 8 0), S.2) A Fr []) [(0, .ref (A 0 0)), (1, .int x)] 17 [.int (gb (¬ (gIn x (S.2 6)))), .ref (A 0 0)] 0 0 := by
    refine g_iconst F (v := (1 : Int32)) (by decide) dX3_noLot_17 ?_
    refine g_callV F (kX3_fails hl (b := gb (¬ (gIn x (S.2 6)))) (nu := (1 : Int32)) (c := ¬ (gIn x (S.2 6))) gb_n0 (by decide) (pr_at (κ := 0) (i := 0) (by decide) (gc1 (gnl rfl)) (gce (show (gsr S.1 0 0 (upd (S.1 0 0) 8 0)) 0 0 = upd (S.1 0 0) 8 0 from gsr_s) rfl))) (g_recv F clX3 (gd_obj (pr_at (κ := 0) (i := 0) (by decide) (gc1 (gnl rfl)) (gce (show (gsr S.1 0 0 (upd (S.1 0 0) 8 0)) 0 0 = upd (S.1 0 0) 8 0 from gsr_s) rfl)))) q1456 q1458 qs7 q25 q1459 myX3_fails ⟨by decide, by decide⟩ rfl rfl (gle rfl) 0 0 (gle rfl) (gle rfl) (gle rfl) (gle rfl) dX3_noLot_18 gx_n (gv_f (fun c_3 => ?_) (fun c_3 => ?_))
    · skip
      refine g_mono (P2 := gP 1 G (gsr (gsr S.1 0 0 (upd (S.1 0 0) 8 0)) 0 0 (upd (upd (S.1 0 0) 8 0) 8 (1 : Int32)), S.2) A Fr []) (pr_upRow (κ := 0) (i := 0) gM1 hF (upd (upd (S.1 0 0) 8 0) 8 (1 : Int32)) (by decide) (gc1 (gnl rfl)) (gce (show (gsr S.1 0 0 (upd (S.1 0 0) 8 0)) 0 0 = upd (S.1 0 0) 8 0 from gsr_s) rfl) rfl) ?_
      exact g_retI F E rfl rfl (gle rfl) (gle rfl) dX3_noLot_21 (fun _ hp => Or.inl ⟨c_3, rfl, hp⟩)
    · skip
      exact g_retI F E rfl rfl (gle rfl) (gle rfl) dX3_noLot_21 (fun _ hp => Or.inr ⟨c_3, rfl, hp⟩)
  refine gb_if_ne F (tgt := 16) (by decide) dX3_noLot_9 (fun c_1 => ?_) (fun c_1 => ?_)
  · skip
    refine g_iconst F (v := (0 : Int32)) (by decide) dX3_noLot_16 ?_
    exact g_top (gb_f (fun q => q c_1)) J_2
  · skip
    refine g_iconst F (v := (1 : Int32)) (by decide) dX3_noLot_12 ?_
    refine g_goto F (tgt := 17) (by decide) dX3_noLot_13 ?_
    exact g_top (gb_t c_1) J_2

theorem kX3_noBatch {l : Launch} {G : gG} (hl : l.stackTraces = false) {S : gS} {A : Nat → Nat → Nat} {Fr : gH → Prop} (hF : gFr 1 Fr) (hW : gWf S) {x : Int32} : gMet l yX3_noBatch (ws_ yX3_noBatch cX3_noBatch 2 (some .boolean)) ⟨2, 0, 0, 46⟩ G [.ref (A 0 0), .int x] (gP 1 G (gsr S.1 0 0 (upd (S.1 0 0) 8 0), S.2) A Fr []) (gqF (¬ gIn x (S.2 8)) (gP 1 G (gsr (gsr S.1 0 0 (upd (S.1 0 0) 8 0)) 0 0 (upd (upd (S.1 0 0) 8 0) 8 1), S.2) A Fr []) (gP 1 G (gsr S.1 0 0 (upd (S.1 0 0) 8 0), S.2) A Fr [])) gxN := by
  refine gMet_of hl pnX3 (gle rfl) (fun X Q hX F E hNm => ?_)
  subst hX
  change gW (X, G, 2, Q) (gP 1 G (gsr S.1 0 0 (upd (S.1 0 0) 8 0), S.2) A Fr []) [(0, .ref (A 0 0)), (1, .int x)] 0 [] 0 0
  refine g_aload_n F 0 rfl rfl dX3_noBatch_0 ?_
  refine g_aload_n F 0 rfl rfl dX3_noBatch_1 ?_
  refine g_get F clX3 9 (by decide) q1398 (v := .ref (A 308 0)) (gd_get (pr_at (κ := 0) (i := 0) (by decide) (gc1 (gnl rfl)) (gce (show (gsr S.1 0 0 (upd (S.1 0 0) 8 0)) 0 0 = upd (S.1 0 0) 8 0 from gsr_s) rfl)) rfl) dX3_noBatch_2 ?_
  refine g_iload_n F 1 rfl rfl dX3_noBatch_5 ?_
  refine g_callS F (kX3_isOf hl (pr_ls (M := 1) (S := (gsr S.1 0 0 (upd (S.1 0 0) 8 0), S.2)) (A := A) (κ := 8) (by decide) (Or.inl ⟨by decide, by decide⟩) (fun q => by first | decide | exact absurd q (by decide)) (fun q => by first | decide | exact absurd q (by decide))) (gw_n hW _) (x := x)) (lw_S q1502 q1503 q25 q1504) myX3_isOf ⟨by decide, by decide⟩ rfl rfl (gle rfl) 0 0 (gle rfl) (gle rfl) (gle rfl) (gle rfl) dX3_noBatch_6 gx_n (gv_i ?_)
  have J_2 : gW (X, G, 2, Q) (gP 1 G (gsr S.1 0 0 (upd (S.1 0 0) 8 0), S.2) A Fr []) [(0, .ref (A 0 0)), (1, .int x)] 17 [.int (gb (¬ (gIn x (S.2 8)))), .ref (A 0 0)] 0 0 := by
    refine g_iconst F (v := (1 : Int32)) (by decide) dX3_noBatch_17 ?_
    refine g_callV F (kX3_fails hl (b := gb (¬ (gIn x (S.2 8)))) (nu := (1 : Int32)) (c := ¬ (gIn x (S.2 8))) gb_n0 (by decide) (pr_at (κ := 0) (i := 0) (by decide) (gc1 (gnl rfl)) (gce (show (gsr S.1 0 0 (upd (S.1 0 0) 8 0)) 0 0 = upd (S.1 0 0) 8 0 from gsr_s) rfl))) (g_recv F clX3 (gd_obj (pr_at (κ := 0) (i := 0) (by decide) (gc1 (gnl rfl)) (gce (show (gsr S.1 0 0 (upd (S.1 0 0) 8 0)) 0 0 = upd (S.1 0 0) 8 0 from gsr_s) rfl)))) q1456 q1458 qs7 q25 q1459 myX3_fails ⟨by decide, by decide⟩ rfl rfl (gle rfl) 0 0 (gle rfl) (gle rfl) (gle rfl) (gle rfl) dX3_noBatch_18 gx_n (gv_f (fun c_3 => ?_) (fun c_3 => ?_))
    · skip
      refine g_mono (P2 := gP 1 G (gsr (gsr S.1 0 0 (upd (S.1 0 0) 8 0)) 0 0 (upd (upd (S.1 0 0) 8 0) 8 (1 : Int32)), S.2) A Fr []) (pr_upRow (κ := 0) (i := 0) gM1 hF (upd (upd (S.1 0 0) 8 0) 8 (1 : Int32)) (by decide) (gc1 (gnl rfl)) (gce (show (gsr S.1 0 0 (upd (S.1 0 0) 8 0)) 0 0 = upd (S.1 0 0) 8 0 from gsr_s) rfl) rfl) ?_
      exact g_retI F E rfl rfl (gle rfl) (gle rfl) dX3_noBatch_21 (fun _ hp => Or.inl ⟨c_3, rfl, hp⟩)
    · skip
      exact g_retI F E rfl rfl (gle rfl) (gle rfl) dX3_noBatch_21 (fun _ hp => Or.inr ⟨c_3, rfl, hp⟩)
  refine gb_if_ne F (tgt := 16) (by decide) dX3_noBatch_9 (fun c_1 => ?_) (fun c_1 => ?_)
  · skip
    refine g_iconst F (v := (0 : Int32)) (by decide) dX3_noBatch_16 ?_
    exact g_top (gb_f (fun q => q c_1)) J_2
  · skip
    refine g_iconst F (v := (1 : Int32)) (by decide) dX3_noBatch_12 ?_
    refine g_goto F (tgt := 17) (by decide) dX3_noBatch_13 ?_
    exact g_top (gb_t c_1) J_2

theorem kX3_noSlats {l : Launch} {G : gG} (hl : l.stackTraces = false) {S : gS} {A : Nat → Nat → Nat} {Fr : gH → Prop} (hF : gFr 1 Fr) (hW : gWf S) {x : Int32} : gMet l yX3_noSlats (ws_ yX3_noSlats cX3_noSlats 2 (some .boolean)) ⟨2, 0, 0, 46⟩ G [.ref (A 0 0), .int x] (gP 1 G (gsr S.1 0 0 (upd (S.1 0 0) 8 0), S.2) A Fr []) (gqF (¬ gIn x (S.2 9)) (gP 1 G (gsr (gsr S.1 0 0 (upd (S.1 0 0) 8 0)) 0 0 (upd (upd (S.1 0 0) 8 0) 8 1), S.2) A Fr []) (gP 1 G (gsr S.1 0 0 (upd (S.1 0 0) 8 0), S.2) A Fr [])) gxN := by
  refine gMet_of hl pnX3 (gle rfl) (fun X Q hX F E hNm => ?_)
  subst hX
  change gW (X, G, 2, Q) (gP 1 G (gsr S.1 0 0 (upd (S.1 0 0) 8 0), S.2) A Fr []) [(0, .ref (A 0 0)), (1, .int x)] 0 [] 0 0
  refine g_aload_n F 0 rfl rfl dX3_noSlats_0 ?_
  refine g_aload_n F 0 rfl rfl dX3_noSlats_1 ?_
  refine g_get F clX3 10 (by decide) q1399 (v := .ref (A 309 0)) (gd_get (pr_at (κ := 0) (i := 0) (by decide) (gc1 (gnl rfl)) (gce (show (gsr S.1 0 0 (upd (S.1 0 0) 8 0)) 0 0 = upd (S.1 0 0) 8 0 from gsr_s) rfl)) rfl) dX3_noSlats_2 ?_
  refine g_iload_n F 1 rfl rfl dX3_noSlats_5 ?_
  refine g_callS F (kX3_isOf hl (pr_ls (M := 1) (S := (gsr S.1 0 0 (upd (S.1 0 0) 8 0), S.2)) (A := A) (κ := 9) (by decide) (Or.inl ⟨by decide, by decide⟩) (fun q => by first | decide | exact absurd q (by decide)) (fun q => by first | decide | exact absurd q (by decide))) (gw_n hW _) (x := x)) (lw_S q1502 q1503 q25 q1504) myX3_isOf ⟨by decide, by decide⟩ rfl rfl (gle rfl) 0 0 (gle rfl) (gle rfl) (gle rfl) (gle rfl) dX3_noSlats_6 gx_n (gv_i ?_)
  have J_2 : gW (X, G, 2, Q) (gP 1 G (gsr S.1 0 0 (upd (S.1 0 0) 8 0), S.2) A Fr []) [(0, .ref (A 0 0)), (1, .int x)] 17 [.int (gb (¬ (gIn x (S.2 9)))), .ref (A 0 0)] 0 0 := by
    refine g_iconst F (v := (1 : Int32)) (by decide) dX3_noSlats_17 ?_
    refine g_callV F (kX3_fails hl (b := gb (¬ (gIn x (S.2 9)))) (nu := (1 : Int32)) (c := ¬ (gIn x (S.2 9))) gb_n0 (by decide) (pr_at (κ := 0) (i := 0) (by decide) (gc1 (gnl rfl)) (gce (show (gsr S.1 0 0 (upd (S.1 0 0) 8 0)) 0 0 = upd (S.1 0 0) 8 0 from gsr_s) rfl))) (g_recv F clX3 (gd_obj (pr_at (κ := 0) (i := 0) (by decide) (gc1 (gnl rfl)) (gce (show (gsr S.1 0 0 (upd (S.1 0 0) 8 0)) 0 0 = upd (S.1 0 0) 8 0 from gsr_s) rfl)))) q1456 q1458 qs7 q25 q1459 myX3_fails ⟨by decide, by decide⟩ rfl rfl (gle rfl) 0 0 (gle rfl) (gle rfl) (gle rfl) (gle rfl) dX3_noSlats_18 gx_n (gv_f (fun c_3 => ?_) (fun c_3 => ?_))
    · skip
      refine g_mono (P2 := gP 1 G (gsr (gsr S.1 0 0 (upd (S.1 0 0) 8 0)) 0 0 (upd (upd (S.1 0 0) 8 0) 8 (1 : Int32)), S.2) A Fr []) (pr_upRow (κ := 0) (i := 0) gM1 hF (upd (upd (S.1 0 0) 8 0) 8 (1 : Int32)) (by decide) (gc1 (gnl rfl)) (gce (show (gsr S.1 0 0 (upd (S.1 0 0) 8 0)) 0 0 = upd (S.1 0 0) 8 0 from gsr_s) rfl) rfl) ?_
      exact g_retI F E rfl rfl (gle rfl) (gle rfl) dX3_noSlats_21 (fun _ hp => Or.inl ⟨c_3, rfl, hp⟩)
    · skip
      exact g_retI F E rfl rfl (gle rfl) (gle rfl) dX3_noSlats_21 (fun _ hp => Or.inr ⟨c_3, rfl, hp⟩)
  refine gb_if_ne F (tgt := 16) (by decide) dX3_noSlats_9 (fun c_1 => ?_) (fun c_1 => ?_)
  · skip
    refine g_iconst F (v := (0 : Int32)) (by decide) dX3_noSlats_16 ?_
    exact g_top (gb_f (fun q => q c_1)) J_2
  · skip
    refine g_iconst F (v := (1 : Int32)) (by decide) dX3_noSlats_12 ?_
    refine g_goto F (tgt := 17) (by decide) dX3_noSlats_13 ?_
    exact g_top (gb_t c_1) J_2

theorem kX3_noRun {l : Launch} {G : gG} (hl : l.stackTraces = false) {S : gS} {A : Nat → Nat → Nat} {Fr : gH → Prop} (hF : gFr 1 Fr) (hW : gWf S) {x : Int32} : gMet l yX3_noRun (ws_ yX3_noRun cX3_noRun 2 (some .boolean)) ⟨2, 0, 0, 46⟩ G [.ref (A 0 0), .int x] (gP 1 G (gsr S.1 0 0 (upd (S.1 0 0) 8 0), S.2) A Fr []) (gqF (¬ gIn x (S.2 10)) (gP 1 G (gsr (gsr S.1 0 0 (upd (S.1 0 0) 8 0)) 0 0 (upd (upd (S.1 0 0) 8 0) 8 1), S.2) A Fr []) (gP 1 G (gsr S.1 0 0 (upd (S.1 0 0) 8 0), S.2) A Fr [])) gxN := by
  refine gMet_of hl pnX3 (gle rfl) (fun X Q hX F E hNm => ?_)
  subst hX
  change gW (X, G, 2, Q) (gP 1 G (gsr S.1 0 0 (upd (S.1 0 0) 8 0), S.2) A Fr []) [(0, .ref (A 0 0)), (1, .int x)] 0 [] 0 0
  refine g_aload_n F 0 rfl rfl dX3_noRun_0 ?_
  refine g_aload_n F 0 rfl rfl dX3_noRun_1 ?_
  refine g_get F clX3 11 (by decide) q1400 (v := .ref (A 310 0)) (gd_get (pr_at (κ := 0) (i := 0) (by decide) (gc1 (gnl rfl)) (gce (show (gsr S.1 0 0 (upd (S.1 0 0) 8 0)) 0 0 = upd (S.1 0 0) 8 0 from gsr_s) rfl)) rfl) dX3_noRun_2 ?_
  refine g_iload_n F 1 rfl rfl dX3_noRun_5 ?_
  refine g_callS F (kX3_isOf hl (pr_ls (M := 1) (S := (gsr S.1 0 0 (upd (S.1 0 0) 8 0), S.2)) (A := A) (κ := 10) (by decide) (Or.inl ⟨by decide, by decide⟩) (fun q => by first | decide | exact absurd q (by decide)) (fun q => by first | decide | exact absurd q (by decide))) (gw_n hW _) (x := x)) (lw_S q1502 q1503 q25 q1504) myX3_isOf ⟨by decide, by decide⟩ rfl rfl (gle rfl) 0 0 (gle rfl) (gle rfl) (gle rfl) (gle rfl) dX3_noRun_6 gx_n (gv_i ?_)
  have J_2 : gW (X, G, 2, Q) (gP 1 G (gsr S.1 0 0 (upd (S.1 0 0) 8 0), S.2) A Fr []) [(0, .ref (A 0 0)), (1, .int x)] 17 [.int (gb (¬ (gIn x (S.2 10)))), .ref (A 0 0)] 0 0 := by
    refine g_iconst F (v := (1 : Int32)) (by decide) dX3_noRun_17 ?_
    refine g_callV F (kX3_fails hl (b := gb (¬ (gIn x (S.2 10)))) (nu := (1 : Int32)) (c := ¬ (gIn x (S.2 10))) gb_n0 (by decide) (pr_at (κ := 0) (i := 0) (by decide) (gc1 (gnl rfl)) (gce (show (gsr S.1 0 0 (upd (S.1 0 0) 8 0)) 0 0 = upd (S.1 0 0) 8 0 from gsr_s) rfl))) (g_recv F clX3 (gd_obj (pr_at (κ := 0) (i := 0) (by decide) (gc1 (gnl rfl)) (gce (show (gsr S.1 0 0 (upd (S.1 0 0) 8 0)) 0 0 = upd (S.1 0 0) 8 0 from gsr_s) rfl)))) q1456 q1458 qs7 q25 q1459 myX3_fails ⟨by decide, by decide⟩ rfl rfl (gle rfl) 0 0 (gle rfl) (gle rfl) (gle rfl) (gle rfl) dX3_noRun_18 gx_n (gv_f (fun c_3 => ?_) (fun c_3 => ?_))
    · skip
      refine g_mono (P2 := gP 1 G (gsr (gsr S.1 0 0 (upd (S.1 0 0) 8 0)) 0 0 (upd (upd (S.1 0 0) 8 0) 8 (1 : Int32)), S.2) A Fr []) (pr_upRow (κ := 0) (i := 0) gM1 hF (upd (upd (S.1 0 0) 8 0) 8 (1 : Int32)) (by decide) (gc1 (gnl rfl)) (gce (show (gsr S.1 0 0 (upd (S.1 0 0) 8 0)) 0 0 = upd (S.1 0 0) 8 0 from gsr_s) rfl) rfl) ?_
      exact g_retI F E rfl rfl (gle rfl) (gle rfl) dX3_noRun_21 (fun _ hp => Or.inl ⟨c_3, rfl, hp⟩)
    · skip
      exact g_retI F E rfl rfl (gle rfl) (gle rfl) dX3_noRun_21 (fun _ hp => Or.inr ⟨c_3, rfl, hp⟩)
  refine gb_if_ne F (tgt := 16) (by decide) dX3_noRun_9 (fun c_1 => ?_) (fun c_1 => ?_)
  · skip
    refine g_iconst F (v := (0 : Int32)) (by decide) dX3_noRun_16 ?_
    exact g_top (gb_f (fun q => q c_1)) J_2
  · skip
    refine g_iconst F (v := (1 : Int32)) (by decide) dX3_noRun_12 ?_
    refine g_goto F (tgt := 17) (by decide) dX3_noRun_13 ?_
    exact g_top (gb_t c_1) J_2

theorem kX3_noGross {l : Launch} {G : gG} (hl : l.stackTraces = false) {S : gS} {A : Nat → Nat → Nat} {Fr : gH → Prop} (hF : gFr 1 Fr) (hW : gWf S) {x : Int32} : gMet l yX3_noGross (ws_ yX3_noGross cX3_noGross 2 (some .boolean)) ⟨2, 0, 0, 46⟩ G [.ref (A 0 0), .int x] (gP 1 G (gsr S.1 0 0 (upd (S.1 0 0) 8 0), S.2) A Fr []) (gqF (¬ gIn x (S.2 11)) (gP 1 G (gsr (gsr S.1 0 0 (upd (S.1 0 0) 8 0)) 0 0 (upd (upd (S.1 0 0) 8 0) 8 1), S.2) A Fr []) (gP 1 G (gsr S.1 0 0 (upd (S.1 0 0) 8 0), S.2) A Fr [])) gxN := by
  refine gMet_of hl pnX3 (gle rfl) (fun X Q hX F E hNm => ?_)
  subst hX
  change gW (X, G, 2, Q) (gP 1 G (gsr S.1 0 0 (upd (S.1 0 0) 8 0), S.2) A Fr []) [(0, .ref (A 0 0)), (1, .int x)] 0 [] 0 0
  refine g_aload_n F 0 rfl rfl dX3_noGross_0 ?_
  refine g_aload_n F 0 rfl rfl dX3_noGross_1 ?_
  refine g_get F clX3 12 (by decide) q1401 (v := .ref (A 311 0)) (gd_get (pr_at (κ := 0) (i := 0) (by decide) (gc1 (gnl rfl)) (gce (show (gsr S.1 0 0 (upd (S.1 0 0) 8 0)) 0 0 = upd (S.1 0 0) 8 0 from gsr_s) rfl)) rfl) dX3_noGross_2 ?_
  refine g_iload_n F 1 rfl rfl dX3_noGross_5 ?_
  refine g_callS F (kX3_isOf hl (pr_ls (M := 1) (S := (gsr S.1 0 0 (upd (S.1 0 0) 8 0), S.2)) (A := A) (κ := 11) (by decide) (Or.inl ⟨by decide, by decide⟩) (fun q => by first | decide | exact absurd q (by decide)) (fun q => by first | decide | exact absurd q (by decide))) (gw_n hW _) (x := x)) (lw_S q1502 q1503 q25 q1504) myX3_isOf ⟨by decide, by decide⟩ rfl rfl (gle rfl) 0 0 (gle rfl) (gle rfl) (gle rfl) (gle rfl) dX3_noGross_6 gx_n (gv_i ?_)
  have J_2 : gW (X, G, 2, Q) (gP 1 G (gsr S.1 0 0 (upd (S.1 0 0) 8 0), S.2) A Fr []) [(0, .ref (A 0 0)), (1, .int x)] 17 [.int (gb (¬ (gIn x (S.2 11)))), .ref (A 0 0)] 0 0 := by
    refine g_iconst F (v := (1 : Int32)) (by decide) dX3_noGross_17 ?_
    refine g_callV F (kX3_fails hl (b := gb (¬ (gIn x (S.2 11)))) (nu := (1 : Int32)) (c := ¬ (gIn x (S.2 11))) gb_n0 (by decide) (pr_at (κ := 0) (i := 0) (by decide) (gc1 (gnl rfl)) (gce (show (gsr S.1 0 0 (upd (S.1 0 0) 8 0)) 0 0 = upd (S.1 0 0) 8 0 from gsr_s) rfl))) (g_recv F clX3 (gd_obj (pr_at (κ := 0) (i := 0) (by decide) (gc1 (gnl rfl)) (gce (show (gsr S.1 0 0 (upd (S.1 0 0) 8 0)) 0 0 = upd (S.1 0 0) 8 0 from gsr_s) rfl)))) q1456 q1458 qs7 q25 q1459 myX3_fails ⟨by decide, by decide⟩ rfl rfl (gle rfl) 0 0 (gle rfl) (gle rfl) (gle rfl) (gle rfl) dX3_noGross_18 gx_n (gv_f (fun c_3 => ?_) (fun c_3 => ?_))
    · skip
      refine g_mono (P2 := gP 1 G (gsr (gsr S.1 0 0 (upd (S.1 0 0) 8 0)) 0 0 (upd (upd (S.1 0 0) 8 0) 8 (1 : Int32)), S.2) A Fr []) (pr_upRow (κ := 0) (i := 0) gM1 hF (upd (upd (S.1 0 0) 8 0) 8 (1 : Int32)) (by decide) (gc1 (gnl rfl)) (gce (show (gsr S.1 0 0 (upd (S.1 0 0) 8 0)) 0 0 = upd (S.1 0 0) 8 0 from gsr_s) rfl) rfl) ?_
      exact g_retI F E rfl rfl (gle rfl) (gle rfl) dX3_noGross_21 (fun _ hp => Or.inl ⟨c_3, rfl, hp⟩)
    · skip
      exact g_retI F E rfl rfl (gle rfl) (gle rfl) dX3_noGross_21 (fun _ hp => Or.inr ⟨c_3, rfl, hp⟩)
  refine gb_if_ne F (tgt := 16) (by decide) dX3_noGross_9 (fun c_1 => ?_) (fun c_1 => ?_)
  · skip
    refine g_iconst F (v := (0 : Int32)) (by decide) dX3_noGross_16 ?_
    exact g_top (gb_f (fun q => q c_1)) J_2
  · skip
    refine g_iconst F (v := (1 : Int32)) (by decide) dX3_noGross_12 ?_
    refine g_goto F (tgt := 17) (by decide) dX3_noGross_13 ?_
    exact g_top (gb_t c_1) J_2

theorem kX3_isFired {l : Launch} {G : gG} (hl : l.stackTraces = false) {P : gH → Prop} {a b : Nat} {ck rd fi : Int32} {v0 v1 v2 v3 v5 v7 v8 v9 v10 w0 w2 w3 w4 w5 w6 w7 w8 w9 w10 w11 w12 w13 w14 w15 w16 w17 : Value} (ha : gAt P a (.inr (2, [w0, .int ck, w2, w3, w4, w5, w6, w7, w8, w9, w10, w11, w12, w13, w14, w15, w16, w17]))) (hb : gAt P b (.inr (7, [v0, v1, v2, v3, .int rd, v5, .int fi, v7, v8, v9, v10]))) : gMet l yX3_isFired (ws_ yX3_isFired cX3_isFired 2 (some .boolean)) ⟨0, 0, 0, 0⟩ G [.ref a, .ref b] P (gqI (.int (gb (¬ (fi = (-1 : Int32)) ∧ ¬ (ck < rd)))) P) gxN := by
  refine gMet_of hl pnX3 (gle rfl) (fun X Q hX F E hNm => ?_)
  subst hX
  change gW (X, G, 2, Q) P [(0, .ref a), (1, .ref b)] 0 [] 0 0
  refine g_aload_n F 1 rfl rfl dX3_isFired_0 ?_
  refine g_getN F clX10 6 (by decide) (gT_w q1537 rfl) (v := .int fi) (gd_get hb rfl) dX3_isFired_1 ?_
  refine g_iconst F (v := (-1 : Int32)) (by decide) dX3_isFired_4 ?_
  have J_3 : gW (X, G, 2, Q) P [(0, .ref a), (1, .ref b)] 24 [.int (gb (¬ (fi = (-1 : Int32)) ∧ (¬ (ck < rd))))] 0 0 := by
    exact g_retI F E rfl gb_z (gle rfl) (gle rfl) dX3_isFired_24 (fun _ hp => ⟨rfl, hp⟩)
  refine g_icmp_eq F (tgt := 23) (by decide) dX3_isFired_5 (fun c_1 => ?_) (fun c_1 => ?_)
  · skip
    refine g_iconst F (v := (0 : Int32)) (by decide) dX3_isFired_23 ?_
    exact g_top (gb_f (fun q => q.1 c_1)) J_3
  · skip
    refine g_aload_n F 0 rfl rfl dX3_isFired_8 ?_
    refine g_get F clX3 1 (by decide) q1390 (v := .int ck) (gd_get ha rfl) dX3_isFired_9 ?_
    refine g_aload_n F 1 rfl rfl dX3_isFired_12 ?_
    refine g_getN F clX10 4 (by decide) (gT_w q1534 rfl) (v := .int rd) (gd_get hb rfl) dX3_isFired_13 ?_
    refine g_icmp_lt F (tgt := 23) (by decide) dX3_isFired_16 (fun c_2 => ?_) (fun c_2 => ?_)
    · skip
      refine g_iconst F (v := (0 : Int32)) (by decide) dX3_isFired_23 ?_
      exact g_top (gb_f (fun q => (fun q => q c_2) q.2)) J_3
    · skip
      refine g_iconst F (v := (1 : Int32)) (by decide) dX3_isFired_19 ?_
      refine g_goto F (tgt := 24) (by decide) dX3_isFired_20 ?_
      exact g_top (gb_t (⟨c_1, c_2⟩)) J_3

theorem kX3_tells {l : Launch} {G : gG} (hl : l.stackTraces = false) {P : gH → Prop} {a b : Nat} {dr bi dk : Int32} {v0 v1 v2 v3 v4 v5 v6 v7 v8 v9 w0 w1 w2 w3 w4 w5 w6 w7 w8 w9 w10 w11 w12 w13 w14 w17 : Value} (ha : gAt P a (.inr (2, [w0, w1, w2, w3, w4, w5, w6, w7, w8, w9, w10, w11, w12, w13, w14, .int dr, .int bi, w17]))) (hb : gAt P b (.inr (7, [v0, v1, v2, v3, v4, v5, v6, v7, v8, v9, .int dk]))) : gMet l yX3_tells (ws_ yX3_tells cX3_tells 3 (some .int)) ⟨1, 0, 0, 13⟩ G [.ref a, .ref b] P (gqI (.int (gmin 999 (dk + bi))) (gUp P a (.inr (2, [w0, w1, w2, w3, w4, w5, w6, w7, w8, w9, w10, w11, w12, w13, w14, .int dr, .int bi, w17])) (.inr (2, [w0, w1, w2, w3, w4, w5, w6, w7, w8, w9, w10, w11, w12, w13, w14, .int (dr + 1), .int (gnb bi dr), w17])))) gxN := by
  refine gMet_of hl pnX3 (gle rfl) (fun X Q hX F E hNm => ?_)
  subst hX
  change gW (X, G, 3, Q) P [(0, .ref a), (1, .ref b)] 0 [] 0 0
  refine g_mono (gUp_0 ha) ?_
  refine g_sipush F (v := (999 : Int32)) (by decide) dX3_tells_0 ?_
  refine g_aload_n F 1 rfl rfl dX3_tells_3 ?_
  refine g_getN F clX10 10 (by decide) (gT_w q1541 rfl) (v := .int dk) (gd_get (gUp_rd hb (by intro q; injection q with q; injection q with q1 q2; exact absurd q1 (by decide))) rfl) dX3_tells_4 ?_
  refine g_aload_n F 0 rfl rfl dX3_tells_7 ?_
  refine g_get F clX3 16 (by decide) q1405 (v := .int bi) (gd_get gUp_at rfl) dX3_tells_8 ?_
  refine g_iadd F dX3_tells_11 ?_
  refine g_mmin F q1512 (gle rfl) (gle rfl) (gle rfl) (gle rfl) dX3_tells_12 ?_
  refine g_istore_n F rfl (by show 2 < 3; decide) (lv2 := [(2, .int (gmin (999 : Int32) (dk + bi))), (0, .ref a), (1, .ref b)]) rfl dX3_tells_15 ?_
  refine g_aload_n F 1 rfl rfl dX3_tells_16 ?_
  refine g_dup F rfl dX3_tells_17 ?_
  refine g_get F clX3 15 (by decide) q1404 (v := .int dr) (gd_get gUp_at rfl) dX3_tells_18 ?_
  refine g_iconst F (v := (1 : Int32)) (by decide) dX3_tells_21 ?_
  refine g_iadd F dX3_tells_22 ?_
  refine g_put (P2 := (gUp P a (.inr (2, [w0, w1, w2, w3, w4, w5, w6, w7, w8, w9, w10, w11, w12, w13, w14, .int dr, .int bi, w17])) (.inr (2, [w0, w1, w2, w3, w4, w5, w6, w7, w8, w9, w10, w11, w12, w13, w14, .int (dr + (1 : Int32)), .int bi, w17])))) F clX3 15 (by decide) q1404 rfl rfl rfl (gUp_put (gnl rfl)) dX3_tells_23 ?_
  refine g_aload_n F 1 rfl rfl dX3_tells_26 ?_
  refine g_dup F rfl dX3_tells_27 ?_
  refine g_get F clX3 16 (by decide) q1405 (v := .int bi) (gd_get gUp_at rfl) dX3_tells_28 ?_
  refine g_aload_n F 1 rfl rfl dX3_tells_31 ?_
  refine g_get F clX3 15 (by decide) q1404 (v := .int (dr + (1 : Int32))) (gd_get gUp_at rfl) dX3_tells_32 ?_
  refine g_bipush F (v := (8 : Int32)) (by decide) dX3_tells_35 ?_
  refine g_irem F (by decide) dX3_tells_37 ?_
  have J_2 : gW (X, G, 3, Q) (gUp P a (.inr (2, [w0, w1, w2, w3, w4, w5, w6, w7, w8, w9, w10, w11, w12, w13, w14, .int dr, .int bi, w17])) (.inr (2, [w0, w1, w2, w3, w4, w5, w6, w7, w8, w9, w10, w11, w12, w13, w14, .int (dr + (1 : Int32)), .int bi, w17]))) [(2, .int (gmin (999 : Int32) (dk + bi))), (0, .ref a), (1, .ref b)] 46 [.int (if ((dr + (1 : Int32)) - (dr + (1 : Int32)) / (8 : Int32) * (8 : Int32)) = 0 then (3 : Int32) else (0 : Int32)), .int bi, .ref a] 0 0 := by
    refine g_iadd F dX3_tells_46 ?_
    refine g_put (P2 := (gUp P a (.inr (2, [w0, w1, w2, w3, w4, w5, w6, w7, w8, w9, w10, w11, w12, w13, w14, .int dr, .int bi, w17])) (.inr (2, [w0, w1, w2, w3, w4, w5, w6, w7, w8, w9, w10, w11, w12, w13, w14, .int (dr + (1 : Int32)), .int (bi + (if ((dr + (1 : Int32)) - (dr + (1 : Int32)) / (8 : Int32) * (8 : Int32)) = 0 then (3 : Int32) else (0 : Int32))), w17])))) F clX3 16 (by decide) q1405 rfl rfl rfl (gUp_put (gnl rfl)) dX3_tells_47 ?_
    refine g_iload_n F 0 rfl rfl dX3_tells_50 ?_
    exact g_retI F E rfl rfl (gle rfl) (gle rfl) dX3_tells_51 (fun _ hp => ⟨rfl, hp⟩)
  refine g_if_ne F (tgt := 45) (by decide) dX3_tells_38 (fun c_1 => ?_) (fun c_1 => ?_)
  · skip
    refine g_iconst F (v := (0 : Int32)) (by decide) dX3_tells_45 ?_
    exact g_top (by rw [if_neg c_1]) J_2
  · skip
    refine g_iconst F (v := (3 : Int32)) (by decide) dX3_tells_41 ?_
    refine g_goto F (tgt := 46) (by decide) dX3_tells_42 ?_
    exact g_top (by rw [if_pos c_1]) J_2

theorem kX3_fineness {l : Launch} {G : gG} (hl : l.stackTraces = false) {P : gH → Prop} {a b a1 t1 t2 len : Nat} {el : Nat → Nat} {mi : Int32} {f : Nat → Int32} {w0 w1 w2 w3 w4 w5 w7 w8 w9 w10 w11 w12 w13 w14 w15 w16 w17 v1 v2 v3 v4 v5 v6 v7 v8 v9 v10 : Value} (ha : gAt P a (.inr (2, [w0, w1, w2, w3, w4, w5, .ref a1, w7, w8, w9, w10, w11, w12, w13, w14, w15, w16, w17]))) (hb : gAt P b (.inr (7, [.int mi, v1, v2, v3, v4, v5, v6, v7, v8, v9, v10]))) (hls : ∀ h, P h → gLs G h t1 t2 a1 len el) (hlen : len ≤ 150) (hi : gIn mi len) (hm : gAt P (el mi.toNatClampNeg) (gIA G 5 f)) : gMet l yX3_fineness (ws_ yX3_fineness cX3_fineness 2 (some .int)) ⟨3, 0, 0, 64⟩ G [.ref a, .ref b] P (gqI (.int (f 3)) P) gxN := by
  refine gMet_of hl pnX3 (gle rfl) (fun X Q hX F E hNm => ?_)
  subst hX
  change gW (X, G, 2, Q) P [(0, .ref a), (1, .ref b)] 0 [] 0 0
  refine g_aload_n F 0 rfl rfl dX3_fineness_0 ?_
  refine g_get F clX3 6 (by decide) q1395 (v := .ref a1) (gd_get ha rfl) dX3_fineness_1 ?_
  refine g_aload_n F 1 rfl rfl dX3_fineness_4 ?_
  refine g_getN F clX10 0 (by decide) (gT_w q1530 rfl) (v := .int mi) (gd_get hb rfl) dX3_fineness_5 ?_
  refine g_callF F clJ3 (kJ3_get hl hls (j := mi.toNatClampNeg) hi.2 hlen rfl hi.1) (g_recv F clJ3 (gls_obj hls)) q1506 q809 q811 q22 q813 (List.mem_of_getElem? (i := 1) rfl) (gT_w q812 rfl) (gT_w q810 rfl) (gT_w q293 rfl) gface_1 ⟨by decide, by decide⟩ rfl rfl (gle rfl) 0 0 (gle rfl) (gle rfl) (gle rfl) (gle rfl) dX3_fineness_8 gx_n (gv_i ?_)
  refine g_castS F (g_recvI F hm) q1507 dX3_fineness_13 ?_
  refine g_iconst F (v := (3 : Int32)) (by decide) dX3_fineness_16 ?_
  refine g_ialdN F (m := 3) rfl (by decide) (by decide) hm dX3_fineness_17 ?_
  change gW _ _ _ _ (.int (f 3) :: _) _ _
  exact g_retI F E rfl rfl (gle rfl) (gle rfl) dX3_fineness_18 (fun _ hp => ⟨rfl, hp⟩)

def sM_thrown (S : gS)  : Value × gS := (.int (S.1 0 0 8), S)
theorem kX3_thrown {l : Launch} {G : gG} (hl : l.stackTraces = false) {S : gS} {a0 : Nat} {Fr : gH → Prop} (hF : gFr 1 Fr) (hW : gWf S)   : gMet l yX3_thrown (ws_ yX3_thrown cX3_thrown 1 (some .int)) ⟨0, 0, 0, 0⟩ G [.ref a0] (gPE 1 G S a0 Fr) (gqN (sM_thrown S ) G a0 Fr) gxN := by
  refine gMet_of hl pnX3 (gle rfl) (fun X Q hX F E hNm => ?_)
  subst hX
  change gW (X, G, 1, Q) (gPE 1 G S a0 Fr) [(0, .ref a0)] 0 [] 0 0
  refine g_pe (fun A hA => ?_)
  subst hA
  change gW _ _ [(0, .ref (A 0 0))] 0 [] 0 0
  refine g_aload_n F 0 rfl rfl dX3_thrown_0 ?_
  refine g_get F clX3 0 (by decide) q1389 (v := .int (S.1 0 0 8)) (gd_get (pr_at (κ := 0) (i := 0) (by decide) (gc1 (gnl rfl)) (gce rfl rfl)) rfl) dX3_thrown_1 ?_
  exact g_retI F E rfl rfl (gle rfl) (gle rfl) dX3_thrown_4 (fun _ hp => ⟨_, _, rfl, rfl, ⟨A, rfl, gP_T0 hp⟩⟩)

def sM_go (S : gS) (hours : Int32) : Value × gS := if ¬ (¬ hours < (1 : Int32) ∧ ¬ (500 : Int32) < hours) then (.int (-1 : Int32), (gsr (gsr S.1 0 0 (upd (S.1 0 0) 8 0)) 0 0 (upd (upd (S.1 0 0) 8 0) 8 (1 : Int32)), S.2)) else (if ¬ (((S.1 0 0 0) + hours) ≤ (9999 : Int32)) then (.int (-1 : Int32), (gsr (gsr S.1 0 0 (upd (S.1 0 0) 8 0)) 0 0 (upd (upd (S.1 0 0) 8 0) 8 (2 : Int32)), S.2)) else (.int ((S.1 0 0 0) + hours), (gsr (gsr S.1 0 0 (upd (S.1 0 0) 8 0)) 0 0 (upd (upd (S.1 0 0) 8 0) 0 ((S.1 0 0 0) + hours)), S.2)))
theorem kX3_go {l : Launch} {G : gG} (hl : l.stackTraces = false) {S : gS} {a0 : Nat} {Fr : gH → Prop} (hF : gFr 1 Fr) (hW : gWf S) {hours : Int32}  : gMet l yX3_go (ws_ yX3_go cX3_go 2 (some .int)) ⟨1, 0, 0, 25⟩ G [.ref a0, .int hours] (gPE 1 G S a0 Fr) (gqN (sM_go S hours) G a0 Fr) gxN := by
  refine gMet_of hl pnX3 (gle rfl) (fun X Q hX F E hNm => ?_)
  subst hX
  change gW (X, G, 2, Q) (gPE 1 G S a0 Fr) [(0, .ref a0), (1, .int hours)] 0 [] 0 0
  refine g_pe (fun A hA => ?_)
  subst hA
  change gW _ _ [(0, .ref (A 0 0)), (1, .int hours)] 0 [] 0 0
  refine g_aload_n F 0 rfl rfl dX3_go_0 ?_
  refine g_callV F (kX3_begins hl (pr_at (κ := 0) (i := 0) (by decide) (gc1 (gnl rfl)) (gce rfl rfl))) (g_recv F clX3 (gd_obj (pr_at (κ := 0) (i := 0) (by decide) (gc1 (gnl rfl)) (gce rfl rfl)))) q1448 q1450 qs6 q25 q1451 myX3_begins ⟨by decide, by decide⟩ rfl rfl (gle rfl) 0 0 (gle rfl) (gle rfl) (gle rfl) (gle rfl) dX3_go_1 gx_n (gv_v ?_)
  refine g_mono (P2 := gP 1 G (gsr S.1 0 0 (upd (S.1 0 0) 8 0), S.2) A Fr []) (pr_upRow (κ := 0) (i := 0) gM1 hF (upd (S.1 0 0) 8 0) (by decide) (gc1 (gnl rfl)) (gce rfl rfl) rfl) ?_
  refine g_aload_n F 0 rfl rfl dX3_go_4 ?_
  refine g_iload_n F 1 rfl rfl dX3_go_5 ?_
  refine g_i2l F dX3_go_6 ?_
  refine g_lconst F (v := (1 : Int64)) (by decide) dX3_go_7 ?_
  refine g_ldc2 F (v := (500 : Int64)) q1452 dX3_go_8 ?_
  refine g_callS F (kX3_in hl (x := hours) (lo := (1 : Int32)) (hi := (500 : Int32)) (by decide) (by decide)) (lw_S q1453 q1454 q25 q1455) myX3_in ⟨by decide, by decide⟩ rfl rfl (gle rfl) 0 0 (gle rfl) (gle rfl) (gle rfl) (gle rfl) dX3_go_11 gx_n (gv_i ?_)
  have J_2 : gW (X, G, 2, Q) (gP 1 G (gsr S.1 0 0 (upd (S.1 0 0) 8 0), S.2) A Fr []) [(0, .ref (A 0 0)), (1, .int hours)] 22 [.int (gb (¬ (¬ hours < (1 : Int32) ∧ ¬ (500 : Int32) < hours))), .ref (A 0 0)] 0 0 := by
    refine g_iconst F (v := (1 : Int32)) (by decide) dX3_go_22 ?_
    refine g_callV F (kX3_fails hl (b := gb (¬ (¬ hours < (1 : Int32) ∧ ¬ (500 : Int32) < hours))) (nu := (1 : Int32)) (c := ¬ (¬ hours < (1 : Int32) ∧ ¬ (500 : Int32) < hours)) gb_n0 (by decide) (pr_at (κ := 0) (i := 0) (by decide) (gc1 (gnl rfl)) (gce (show (gsr S.1 0 0 (upd (S.1 0 0) 8 0)) 0 0 = upd (S.1 0 0) 8 0 from gsr_s) rfl))) (g_recv F clX3 (gd_obj (pr_at (κ := 0) (i := 0) (by decide) (gc1 (gnl rfl)) (gce (show (gsr S.1 0 0 (upd (S.1 0 0) 8 0)) 0 0 = upd (S.1 0 0) 8 0 from gsr_s) rfl)))) q1456 q1458 qs7 q25 q1459 myX3_fails ⟨by decide, by decide⟩ rfl rfl (gle rfl) 0 0 (gle rfl) (gle rfl) (gle rfl) (gle rfl) dX3_go_23 gx_n (gv_f (fun c_3 => ?_) (fun c_3 => ?_))
    · skip
      refine g_mono (P2 := gP 1 G (gsr (gsr S.1 0 0 (upd (S.1 0 0) 8 0)) 0 0 (upd (upd (S.1 0 0) 8 0) 8 (1 : Int32)), S.2) A Fr []) (pr_upRow (κ := 0) (i := 0) gM1 hF (upd (upd (S.1 0 0) 8 0) 8 (1 : Int32)) (by decide) (gc1 (gnl rfl)) (gce (show (gsr S.1 0 0 (upd (S.1 0 0) 8 0)) 0 0 = upd (S.1 0 0) 8 0 from gsr_s) rfl) rfl) ?_
      refine g_if_ne F (tgt := 54) (by decide) dX3_go_26 (fun _ => ?_) (fun c => absurd c (by decide))
      refine g_iconst F (v := (-1 : Int32)) (by decide) dX3_go_54 ?_
      exact g_retI F E rfl rfl (gle rfl) (gle rfl) dX3_go_55 (fun _ hp => ⟨_, _, (if_pos c_3), rfl, ⟨A, rfl, gP_T0 hp⟩⟩)
    · skip
      refine g_if_ne F (tgt := 54) (by decide) dX3_go_26 (fun c => absurd c (by decide)) (fun _ => ?_)
      refine g_aload_n F 0 rfl rfl dX3_go_29 ?_
      refine g_aload_n F 0 rfl rfl dX3_go_30 ?_
      refine g_get F clX3 1 (by decide) q1390 (v := .int (S.1 0 0 0)) (gd_get (pr_at (κ := 0) (i := 0) (by decide) (gc1 (gnl rfl)) (gce (show (gsr S.1 0 0 (upd (S.1 0 0) 8 0)) 0 0 = upd (S.1 0 0) 8 0 from gsr_s) rfl)) rfl) dX3_go_31 ?_
      refine g_iload_n F 1 rfl rfl dX3_go_34 ?_
      refine g_iadd F dX3_go_35 ?_
      refine g_sipush F (v := (9999 : Int32)) (by decide) dX3_go_36 ?_
      have J_5 : gW (X, G, 2, Q) (gP 1 G (gsr S.1 0 0 (upd (S.1 0 0) 8 0), S.2) A Fr []) [(0, .ref (A 0 0)), (1, .int hours)] 47 [.int (gb (¬ (((S.1 0 0 0) + hours) ≤ (9999 : Int32)))), .ref (A 0 0)] 0 0 := by
        refine g_iconst F (v := (2 : Int32)) (by decide) dX3_go_47 ?_
        refine g_callV F (kX3_fails hl (b := gb (¬ (((S.1 0 0 0) + hours) ≤ (9999 : Int32)))) (nu := (2 : Int32)) (c := ¬ (((S.1 0 0 0) + hours) ≤ (9999 : Int32))) gb_n0 (by decide) (pr_at (κ := 0) (i := 0) (by decide) (gc1 (gnl rfl)) (gce (show (gsr S.1 0 0 (upd (S.1 0 0) 8 0)) 0 0 = upd (S.1 0 0) 8 0 from gsr_s) rfl))) (g_recv F clX3 (gd_obj (pr_at (κ := 0) (i := 0) (by decide) (gc1 (gnl rfl)) (gce (show (gsr S.1 0 0 (upd (S.1 0 0) 8 0)) 0 0 = upd (S.1 0 0) 8 0 from gsr_s) rfl)))) q1456 q1458 qs7 q25 q1459 myX3_fails ⟨by decide, by decide⟩ rfl rfl (gle rfl) 0 0 (gle rfl) (gle rfl) (gle rfl) (gle rfl) dX3_go_48 gx_n (gv_f (fun c_6 => ?_) (fun c_6 => ?_))
        · skip
          refine g_mono (P2 := gP 1 G (gsr (gsr S.1 0 0 (upd (S.1 0 0) 8 0)) 0 0 (upd (upd (S.1 0 0) 8 0) 8 (2 : Int32)), S.2) A Fr []) (pr_upRow (κ := 0) (i := 0) gM1 hF (upd (upd (S.1 0 0) 8 0) 8 (2 : Int32)) (by decide) (gc1 (gnl rfl)) (gce (show (gsr S.1 0 0 (upd (S.1 0 0) 8 0)) 0 0 = upd (S.1 0 0) 8 0 from gsr_s) rfl) rfl) ?_
          refine g_if_eq F (tgt := 56) (by decide) dX3_go_51 (fun c => absurd c (by decide)) (fun _ => ?_)
          refine g_iconst F (v := (-1 : Int32)) (by decide) dX3_go_54 ?_
          exact g_retI F E rfl rfl (gle rfl) (gle rfl) dX3_go_55 (fun _ hp => ⟨_, _, ((if_neg c_3).trans (if_pos c_6)), rfl, ⟨A, rfl, gP_T0 hp⟩⟩)
        · skip
          refine g_if_eq F (tgt := 56) (by decide) dX3_go_51 (fun _ => ?_) (fun c => absurd c (by decide))
          refine g_aload_n F 0 rfl rfl dX3_go_56 ?_
          refine g_dup F rfl dX3_go_57 ?_
          refine g_get F clX3 1 (by decide) q1390 (v := .int (S.1 0 0 0)) (gd_get (pr_at (κ := 0) (i := 0) (by decide) (gc1 (gnl rfl)) (gce (show (gsr S.1 0 0 (upd (S.1 0 0) 8 0)) 0 0 = upd (S.1 0 0) 8 0 from gsr_s) rfl)) rfl) dX3_go_58 ?_
          refine g_iload_n F 1 rfl rfl dX3_go_61 ?_
          refine g_iadd F dX3_go_62 ?_
          refine g_put (P2 := gP 1 G (gsr (gsr S.1 0 0 (upd (S.1 0 0) 8 0)) 0 0 (upd (upd (S.1 0 0) 8 0) 0 ((S.1 0 0 0) + hours)), S.2) A Fr []) F clX3 1 (by decide) q1390 rfl rfl rfl (pr_put (κ := 0) (i := 0) gM1 hF (upd (upd (S.1 0 0) 8 0) 0 ((S.1 0 0 0) + hours)) (by decide) (gc1 (gnl rfl)) (gce (show (gsr S.1 0 0 (upd (S.1 0 0) 8 0)) 0 0 = upd (S.1 0 0) 8 0 from gsr_s) rfl) (gnl rfl) rfl) dX3_go_63 ?_
          refine g_aload_n F 0 rfl rfl dX3_go_66 ?_
          refine g_get F clX3 1 (by decide) q1390 (v := .int ((S.1 0 0 0) + hours)) (gd_get (pr_at (κ := 0) (i := 0) (by decide) (gc1 (gnl rfl)) (gce (show (gsr (gsr S.1 0 0 (upd (S.1 0 0) 8 0)) 0 0 (upd (upd (S.1 0 0) 8 0) 0 ((S.1 0 0 0) + hours))) 0 0 = upd (upd (S.1 0 0) 8 0) 0 ((S.1 0 0 0) + hours) from gsr_s) rfl)) rfl) dX3_go_67 ?_
          exact g_retI F E rfl rfl (gle rfl) (gle rfl) dX3_go_70 (fun _ hp => ⟨_, _, ((if_neg c_3).trans (if_neg c_6)), rfl, ⟨A, rfl, gP_T0 hp⟩⟩)
      refine g_icmp_le F (tgt := 46) (by decide) dX3_go_39 (fun c_4 => ?_) (fun c_4 => ?_)
      · skip
        refine g_iconst F (v := (0 : Int32)) (by decide) dX3_go_46 ?_
        exact g_top (gb_f (fun q => q c_4)) J_5
      · skip
        refine g_iconst F (v := (1 : Int32)) (by decide) dX3_go_42 ?_
        refine g_goto F (tgt := 47) (by decide) dX3_go_43 ?_
        exact g_top (gb_t c_4) J_5
  refine gb_if_ne F (tgt := 21) (by decide) dX3_go_14 (fun c_1 => ?_) (fun c_1 => ?_)
  · skip
    refine g_iconst F (v := (0 : Int32)) (by decide) dX3_go_21 ?_
    exact g_top (gb_f (fun q => q c_1)) J_2
  · skip
    refine g_iconst F (v := (1 : Int32)) (by decide) dX3_go_17 ?_
    refine g_goto F (tgt := 22) (by decide) dX3_go_18 ?_
    exact g_top (gb_t c_1) J_2

def sM_worn (S : gS) (die : Int32) : Value × gS := if ¬ (¬ die < (0 : Int32) ∧ ¬ (3 : Int32) < die) then (.int (-1 : Int32), (gsr (gsr S.1 0 0 (upd (S.1 0 0) 8 0)) 0 0 (upd (upd (S.1 0 0) 8 0) 8 (1 : Int32)), S.2)) else (.int (S.1 3 0 die.toNatClampNeg), (gsr S.1 0 0 (upd (S.1 0 0) 8 0), S.2))
theorem kX3_worn {l : Launch} {G : gG} (hl : l.stackTraces = false) {S : gS} {a0 : Nat} {Fr : gH → Prop} (hF : gFr 1 Fr) (hW : gWf S) {die : Int32}  : gMet l yX3_worn (ws_ yX3_worn cX3_worn 2 (some .int)) ⟨1, 0, 0, 25⟩ G [.ref a0, .int die] (gPE 1 G S a0 Fr) (gqN (sM_worn S die) G a0 Fr) gxN := by
  refine gMet_of hl pnX3 (gle rfl) (fun X Q hX F E hNm => ?_)
  subst hX
  change gW (X, G, 2, Q) (gPE 1 G S a0 Fr) [(0, .ref a0), (1, .int die)] 0 [] 0 0
  refine g_pe (fun A hA => ?_)
  subst hA
  change gW _ _ [(0, .ref (A 0 0)), (1, .int die)] 0 [] 0 0
  refine g_aload_n F 0 rfl rfl dX3_worn_0 ?_
  refine g_callV F (kX3_begins hl (pr_at (κ := 0) (i := 0) (by decide) (gc1 (gnl rfl)) (gce rfl rfl))) (g_recv F clX3 (gd_obj (pr_at (κ := 0) (i := 0) (by decide) (gc1 (gnl rfl)) (gce rfl rfl)))) q1448 q1450 qs6 q25 q1451 myX3_begins ⟨by decide, by decide⟩ rfl rfl (gle rfl) 0 0 (gle rfl) (gle rfl) (gle rfl) (gle rfl) dX3_worn_1 gx_n (gv_v ?_)
  refine g_mono (P2 := gP 1 G (gsr S.1 0 0 (upd (S.1 0 0) 8 0), S.2) A Fr []) (pr_upRow (κ := 0) (i := 0) gM1 hF (upd (S.1 0 0) 8 0) (by decide) (gc1 (gnl rfl)) (gce rfl rfl) rfl) ?_
  refine g_aload_n F 0 rfl rfl dX3_worn_4 ?_
  refine g_iload_n F 1 rfl rfl dX3_worn_5 ?_
  refine g_i2l F dX3_worn_6 ?_
  refine g_lconst F (v := (0 : Int64)) (by decide) dX3_worn_7 ?_
  refine g_ldc2 F (v := (3 : Int64)) q1523 dX3_worn_8 ?_
  refine g_callS F (kX3_in hl (x := die) (lo := (0 : Int32)) (hi := (3 : Int32)) (by decide) (by decide)) (lw_S q1453 q1454 q25 q1455) myX3_in ⟨by decide, by decide⟩ rfl rfl (gle rfl) 0 0 (gle rfl) (gle rfl) (gle rfl) (gle rfl) dX3_worn_11 gx_n (gv_i ?_)
  have J_2 : gW (X, G, 2, Q) (gP 1 G (gsr S.1 0 0 (upd (S.1 0 0) 8 0), S.2) A Fr []) [(0, .ref (A 0 0)), (1, .int die)] 22 [.int (gb (¬ (¬ die < (0 : Int32) ∧ ¬ (3 : Int32) < die))), .ref (A 0 0)] 0 0 := by
    refine g_iconst F (v := (1 : Int32)) (by decide) dX3_worn_22 ?_
    refine g_callV F (kX3_fails hl (b := gb (¬ (¬ die < (0 : Int32) ∧ ¬ (3 : Int32) < die))) (nu := (1 : Int32)) (c := ¬ (¬ die < (0 : Int32) ∧ ¬ (3 : Int32) < die)) gb_n0 (by decide) (pr_at (κ := 0) (i := 0) (by decide) (gc1 (gnl rfl)) (gce (show (gsr S.1 0 0 (upd (S.1 0 0) 8 0)) 0 0 = upd (S.1 0 0) 8 0 from gsr_s) rfl))) (g_recv F clX3 (gd_obj (pr_at (κ := 0) (i := 0) (by decide) (gc1 (gnl rfl)) (gce (show (gsr S.1 0 0 (upd (S.1 0 0) 8 0)) 0 0 = upd (S.1 0 0) 8 0 from gsr_s) rfl)))) q1456 q1458 qs7 q25 q1459 myX3_fails ⟨by decide, by decide⟩ rfl rfl (gle rfl) 0 0 (gle rfl) (gle rfl) (gle rfl) (gle rfl) dX3_worn_23 gx_n (gv_f (fun c_3 => ?_) (fun c_3 => ?_))
    · skip
      refine g_mono (P2 := gP 1 G (gsr (gsr S.1 0 0 (upd (S.1 0 0) 8 0)) 0 0 (upd (upd (S.1 0 0) 8 0) 8 (1 : Int32)), S.2) A Fr []) (pr_upRow (κ := 0) (i := 0) gM1 hF (upd (upd (S.1 0 0) 8 0) 8 (1 : Int32)) (by decide) (gc1 (gnl rfl)) (gce (show (gsr S.1 0 0 (upd (S.1 0 0) 8 0)) 0 0 = upd (S.1 0 0) 8 0 from gsr_s) rfl) rfl) ?_
      refine g_if_eq F (tgt := 33) (by decide) dX3_worn_26 (fun c => absurd c (by decide)) (fun _ => ?_)
      refine g_iconst F (v := (-1 : Int32)) (by decide) dX3_worn_29 ?_
      refine g_goto F (tgt := 39) (by decide) dX3_worn_30 ?_
      exact g_retI F E rfl rfl (gle rfl) (gle rfl) dX3_worn_39 (fun _ hp => ⟨_, _, (if_pos c_3), rfl, ⟨A, rfl, gP_T0 hp⟩⟩)
    · skip
      refine g_if_eq F (tgt := 33) (by decide) dX3_worn_26 (fun _ => ?_) (fun c => absurd c (by decide))
      refine g_aload_n F 0 rfl rfl dX3_worn_33 ?_
      refine g_get F clX3 7 (by decide) q1396 (v := .ref (A 3 0)) (gd_get (pr_at (κ := 0) (i := 0) (by decide) (gc1 (gnl rfl)) (gce (show (gsr S.1 0 0 (upd (S.1 0 0) 8 0)) 0 0 = upd (S.1 0 0) 8 0 from gsr_s) rfl)) rfl) dX3_worn_34 ?_
      refine g_iload_n F 1 rfl rfl dX3_worn_37 ?_
      refine g_iald F (gvp (K := 3) (by decide) ⟨(Decidable.not_not.mp c_3).1, (Decidable.not_not.mp c_3).2⟩) (pr_at (κ := 3) (i := 0) (by decide) (gc1 (gnl rfl)) (gce (show (gsr S.1 0 0 (upd (S.1 0 0) 8 0)) 3 0 = S.1 3 0 from (gsr_p (by decide) rfl)) rfl)) dX3_worn_38 ?_
      change gW _ _ _ _ (.int (S.1 3 0 die.toNatClampNeg) :: _) _ _
      exact g_retI F E rfl rfl (gle rfl) (gle rfl) dX3_worn_39 (fun _ hp => ⟨_, _, (if_neg c_3), rfl, ⟨A, rfl, gP_T0 hp⟩⟩)
  refine gb_if_ne F (tgt := 21) (by decide) dX3_worn_14 (fun c_1 => ?_) (fun c_1 => ?_)
  · skip
    refine g_iconst F (v := (0 : Int32)) (by decide) dX3_worn_21 ?_
    exact g_top (gb_f (fun q => q c_1)) J_2
  · skip
    refine g_iconst F (v := (1 : Int32)) (by decide) dX3_worn_17 ?_
    refine g_goto F (tgt := 22) (by decide) dX3_worn_18 ?_
    exact g_top (gb_t c_1) J_2

def sM_renew (S : gS) (die : Int32) : Value × gS := if ¬ (¬ die < (0 : Int32) ∧ ¬ (3 : Int32) < die) then (.int (-1 : Int32), (gsr (gsr S.1 0 0 (upd (S.1 0 0) 8 0)) 0 0 (upd (upd (S.1 0 0) 8 0) 8 (1 : Int32)), S.2)) else (.int (S.1 3 0 die.toNatClampNeg), (gsr (gsr S.1 0 0 (upd (S.1 0 0) 8 0)) 3 0 (upd (S.1 3 0) die.toNatClampNeg (0 : Int32)), S.2))
theorem kX3_renew {l : Launch} {G : gG} (hl : l.stackTraces = false) {S : gS} {a0 : Nat} {Fr : gH → Prop} (hF : gFr 1 Fr) (hW : gWf S) {die : Int32}  : gMet l yX3_renew (ws_ yX3_renew cX3_renew 3 (some .int)) ⟨1, 0, 0, 25⟩ G [.ref a0, .int die] (gPE 1 G S a0 Fr) (gqN (sM_renew S die) G a0 Fr) gxN := by
  refine gMet_of hl pnX3 (gle rfl) (fun X Q hX F E hNm => ?_)
  subst hX
  change gW (X, G, 3, Q) (gPE 1 G S a0 Fr) [(0, .ref a0), (1, .int die)] 0 [] 0 0
  refine g_pe (fun A hA => ?_)
  subst hA
  change gW _ _ [(0, .ref (A 0 0)), (1, .int die)] 0 [] 0 0
  refine g_aload_n F 0 rfl rfl dX3_renew_0 ?_
  refine g_callV F (kX3_begins hl (pr_at (κ := 0) (i := 0) (by decide) (gc1 (gnl rfl)) (gce rfl rfl))) (g_recv F clX3 (gd_obj (pr_at (κ := 0) (i := 0) (by decide) (gc1 (gnl rfl)) (gce rfl rfl)))) q1448 q1450 qs6 q25 q1451 myX3_begins ⟨by decide, by decide⟩ rfl rfl (gle rfl) 0 0 (gle rfl) (gle rfl) (gle rfl) (gle rfl) dX3_renew_1 gx_n (gv_v ?_)
  refine g_mono (P2 := gP 1 G (gsr S.1 0 0 (upd (S.1 0 0) 8 0), S.2) A Fr []) (pr_upRow (κ := 0) (i := 0) gM1 hF (upd (S.1 0 0) 8 0) (by decide) (gc1 (gnl rfl)) (gce rfl rfl) rfl) ?_
  refine g_aload_n F 0 rfl rfl dX3_renew_4 ?_
  refine g_iload_n F 1 rfl rfl dX3_renew_5 ?_
  refine g_i2l F dX3_renew_6 ?_
  refine g_lconst F (v := (0 : Int64)) (by decide) dX3_renew_7 ?_
  refine g_ldc2 F (v := (3 : Int64)) q1523 dX3_renew_8 ?_
  refine g_callS F (kX3_in hl (x := die) (lo := (0 : Int32)) (hi := (3 : Int32)) (by decide) (by decide)) (lw_S q1453 q1454 q25 q1455) myX3_in ⟨by decide, by decide⟩ rfl rfl (gle rfl) 0 0 (gle rfl) (gle rfl) (gle rfl) (gle rfl) dX3_renew_11 gx_n (gv_i ?_)
  have J_2 : gW (X, G, 3, Q) (gP 1 G (gsr S.1 0 0 (upd (S.1 0 0) 8 0), S.2) A Fr []) [(0, .ref (A 0 0)), (1, .int die)] 22 [.int (gb (¬ (¬ die < (0 : Int32) ∧ ¬ (3 : Int32) < die))), .ref (A 0 0)] 0 0 := by
    refine g_iconst F (v := (1 : Int32)) (by decide) dX3_renew_22 ?_
    refine g_callV F (kX3_fails hl (b := gb (¬ (¬ die < (0 : Int32) ∧ ¬ (3 : Int32) < die))) (nu := (1 : Int32)) (c := ¬ (¬ die < (0 : Int32) ∧ ¬ (3 : Int32) < die)) gb_n0 (by decide) (pr_at (κ := 0) (i := 0) (by decide) (gc1 (gnl rfl)) (gce (show (gsr S.1 0 0 (upd (S.1 0 0) 8 0)) 0 0 = upd (S.1 0 0) 8 0 from gsr_s) rfl))) (g_recv F clX3 (gd_obj (pr_at (κ := 0) (i := 0) (by decide) (gc1 (gnl rfl)) (gce (show (gsr S.1 0 0 (upd (S.1 0 0) 8 0)) 0 0 = upd (S.1 0 0) 8 0 from gsr_s) rfl)))) q1456 q1458 qs7 q25 q1459 myX3_fails ⟨by decide, by decide⟩ rfl rfl (gle rfl) 0 0 (gle rfl) (gle rfl) (gle rfl) (gle rfl) dX3_renew_23 gx_n (gv_f (fun c_3 => ?_) (fun c_3 => ?_))
    · skip
      refine g_mono (P2 := gP 1 G (gsr (gsr S.1 0 0 (upd (S.1 0 0) 8 0)) 0 0 (upd (upd (S.1 0 0) 8 0) 8 (1 : Int32)), S.2) A Fr []) (pr_upRow (κ := 0) (i := 0) gM1 hF (upd (upd (S.1 0 0) 8 0) 8 (1 : Int32)) (by decide) (gc1 (gnl rfl)) (gce (show (gsr S.1 0 0 (upd (S.1 0 0) 8 0)) 0 0 = upd (S.1 0 0) 8 0 from gsr_s) rfl) rfl) ?_
      refine g_if_eq F (tgt := 31) (by decide) dX3_renew_26 (fun c => absurd c (by decide)) (fun _ => ?_)
      refine g_iconst F (v := (-1 : Int32)) (by decide) dX3_renew_29 ?_
      exact g_retI F E rfl rfl (gle rfl) (gle rfl) dX3_renew_30 (fun _ hp => ⟨_, _, (if_pos c_3), rfl, ⟨A, rfl, gP_T0 hp⟩⟩)
    · skip
      refine g_if_eq F (tgt := 31) (by decide) dX3_renew_26 (fun _ => ?_) (fun c => absurd c (by decide))
      refine g_aload_n F 0 rfl rfl dX3_renew_31 ?_
      refine g_get F clX3 7 (by decide) q1396 (v := .ref (A 3 0)) (gd_get (pr_at (κ := 0) (i := 0) (by decide) (gc1 (gnl rfl)) (gce (show (gsr S.1 0 0 (upd (S.1 0 0) 8 0)) 0 0 = upd (S.1 0 0) 8 0 from gsr_s) rfl)) rfl) dX3_renew_32 ?_
      refine g_iload_n F 1 rfl rfl dX3_renew_35 ?_
      refine g_iald F (gvp (K := 3) (by decide) ⟨(Decidable.not_not.mp c_3).1, (Decidable.not_not.mp c_3).2⟩) (pr_at (κ := 3) (i := 0) (by decide) (gc1 (gnl rfl)) (gce (show (gsr S.1 0 0 (upd (S.1 0 0) 8 0)) 3 0 = S.1 3 0 from (gsr_p (by decide) rfl)) rfl)) dX3_renew_36 ?_
      change gW _ _ _ _ (.int (S.1 3 0 die.toNatClampNeg) :: _) _ _
      refine g_istore_n F rfl (by show 2 < 3; decide) (lv2 := [(2, .int (S.1 3 0 die.toNatClampNeg)), (0, .ref (A 0 0)), (1, .int die)]) rfl dX3_renew_37 ?_
      refine g_aload_n F 1 rfl rfl dX3_renew_38 ?_
      refine g_get F clX3 7 (by decide) q1396 (v := .ref (A 3 0)) (gd_get (pr_at (κ := 0) (i := 0) (by decide) (gc1 (gnl rfl)) (gce (show (gsr S.1 0 0 (upd (S.1 0 0) 8 0)) 0 0 = upd (S.1 0 0) 8 0 from gsr_s) rfl)) rfl) dX3_renew_39 ?_
      refine g_iload_n F 2 rfl rfl dX3_renew_42 ?_
      refine g_iconst F (v := (0 : Int32)) (by decide) dX3_renew_43 ?_
      refine g_iast (P2 := gP 1 G (gsr (gsr S.1 0 0 (upd (S.1 0 0) 8 0)) 3 0 (upd (S.1 3 0) die.toNatClampNeg (0 : Int32)), S.2) A Fr []) F (gvp (K := 3) (by decide) ⟨(Decidable.not_not.mp c_3).1, (Decidable.not_not.mp c_3).2⟩) (pr_setRow (κ := 3) (i := 0) gM1 hF (upd (S.1 3 0) die.toNatClampNeg (0 : Int32)) (by decide) (gc1 (gnl rfl)) (gce (show (gsr S.1 0 0 (upd (S.1 0 0) 8 0)) 3 0 = S.1 3 0 from (gsr_p (by decide) rfl)) rfl) rfl) dX3_renew_44 ?_
      refine g_iload_n F 0 rfl rfl dX3_renew_45 ?_
      exact g_retI F E rfl rfl (gle rfl) (gle rfl) dX3_renew_46 (fun _ hp => ⟨_, _, (if_neg c_3), rfl, ⟨A, rfl, gP_T0 hp⟩⟩)
  refine gb_if_ne F (tgt := 21) (by decide) dX3_renew_14 (fun c_1 => ?_) (fun c_1 => ?_)
  · skip
    refine g_iconst F (v := (0 : Int32)) (by decide) dX3_renew_21 ?_
    exact g_top (gb_f (fun q => q c_1)) J_2
  · skip
    refine g_iconst F (v := (1 : Int32)) (by decide) dX3_renew_17 ?_
    refine g_goto F (tgt := 22) (by decide) dX3_renew_18 ?_
    exact g_top (gb_t c_1) J_2

def sM_kilos (S : gS) (lot : Int32) : Value × gS := if ¬ gIn lot (S.2 6) then (.int (-1 : Int32), (gsr (gsr S.1 0 0 (upd (S.1 0 0) 8 0)) 0 0 (upd (upd (S.1 0 0) 8 0) 8 1), S.2)) else (.int (S.1 6 lot.toNatClampNeg 3), (gsr S.1 0 0 (upd (S.1 0 0) 8 0), S.2))
theorem kX3_kilos {l : Launch} {G : gG} (hl : l.stackTraces = false) {S : gS} {a0 : Nat} {Fr : gH → Prop} (hF : gFr 1 Fr) (hW : gWf S) {lot : Int32}  : gMet l yX3_kilos (ws_ yX3_kilos cX3_kilos 2 (some .int)) ⟨3, 0, 0, 67⟩ G [.ref a0, .int lot] (gPE 1 G S a0 Fr) (gqN (sM_kilos S lot) G a0 Fr) gxN := by
  refine gMet_of hl pnX3 (gle rfl) (fun X Q hX F E hNm => ?_)
  subst hX
  change gW (X, G, 2, Q) (gPE 1 G S a0 Fr) [(0, .ref a0), (1, .int lot)] 0 [] 0 0
  refine g_pe (fun A hA => ?_)
  subst hA
  change gW _ _ [(0, .ref (A 0 0)), (1, .int lot)] 0 [] 0 0
  refine g_aload_n F 0 rfl rfl dX3_kilos_0 ?_
  refine g_callV F (kX3_begins hl (pr_at (κ := 0) (i := 0) (by decide) (gc1 (gnl rfl)) (gce rfl rfl))) (g_recv F clX3 (gd_obj (pr_at (κ := 0) (i := 0) (by decide) (gc1 (gnl rfl)) (gce rfl rfl)))) q1448 q1450 qs6 q25 q1451 myX3_begins ⟨by decide, by decide⟩ rfl rfl (gle rfl) 0 0 (gle rfl) (gle rfl) (gle rfl) (gle rfl) dX3_kilos_1 gx_n (gv_v ?_)
  refine g_mono (P2 := gP 1 G (gsr S.1 0 0 (upd (S.1 0 0) 8 0), S.2) A Fr []) (pr_upRow (κ := 0) (i := 0) gM1 hF (upd (S.1 0 0) 8 0) (by decide) (gc1 (gnl rfl)) (gce rfl rfl) rfl) ?_
  refine g_aload_n F 0 rfl rfl dX3_kilos_4 ?_
  refine g_iload_n F 1 rfl rfl dX3_kilos_5 ?_
  refine g_callV F (kX3_noLot hl hF hW (x := lot)) (g_recv F clX3 (gd_obj (pr_at (κ := 0) (i := 0) (by decide) (gc1 (gnl rfl)) (gce (show (gsr S.1 0 0 (upd (S.1 0 0) 8 0)) 0 0 = upd (S.1 0 0) 8 0 from gsr_s) rfl)))) q1498 q1500 qs9 q25 q1501 myX3_noLot ⟨by decide, by decide⟩ rfl rfl (gle rfl) 0 0 (gle rfl) (gle rfl) (gle rfl) (gle rfl) dX3_kilos_6 gx_n (gv_f (fun c_1 => ?_) (fun c_1 => ?_))
  · skip
    refine g_if_eq F (tgt := 16) (by decide) dX3_kilos_9 (fun c => absurd c (by decide)) (fun _ => ?_)
    refine g_iconst F (v := (-1 : Int32)) (by decide) dX3_kilos_12 ?_
    refine g_goto F (tgt := 31) (by decide) dX3_kilos_13 ?_
    exact g_retI F E rfl rfl (gle rfl) (gle rfl) dX3_kilos_31 (fun _ hp => ⟨_, _, (if_pos c_1), rfl, ⟨A, rfl, gP_T0 hp⟩⟩)
  · skip
    refine g_if_eq F (tgt := 16) (by decide) dX3_kilos_9 (fun _ => ?_) (fun c => absurd c (by decide))
    refine g_aload_n F 0 rfl rfl dX3_kilos_16 ?_
    refine g_get F clX3 5 (by decide) q1394 (v := .ref (A 306 0)) (gd_get (pr_at (κ := 0) (i := 0) (by decide) (gc1 (gnl rfl)) (gce (show (gsr S.1 0 0 (upd (S.1 0 0) 8 0)) 0 0 = upd (S.1 0 0) 8 0 from gsr_s) rfl)) rfl) dX3_kilos_17 ?_
    refine g_iload_n F 1 rfl rfl dX3_kilos_20 ?_
    refine g_callF F clJ3 (kJ3_get hl (pr_ls (M := 1) (S := (gsr S.1 0 0 (upd (S.1 0 0) 8 0), S.2)) (A := A) (κ := 6) (by decide) (Or.inl ⟨by decide, by decide⟩) (fun q => by first | decide | exact absurd q (by decide)) (fun q => by first | decide | exact absurd q (by decide))) (j := lot.toNatClampNeg) (Decidable.not_not.mp c_1).2 (gw_n hW _) rfl (Decidable.not_not.mp c_1).1) (g_recv F clJ3 (gls_obj (pr_ls (M := 1) (S := (gsr S.1 0 0 (upd (S.1 0 0) 8 0), S.2)) (A := A) (κ := 6) (by decide) (Or.inl ⟨by decide, by decide⟩) (fun q => by first | decide | exact absurd q (by decide)) (fun q => by first | decide | exact absurd q (by decide))))) q1506 q809 q811 q22 q813 (List.mem_of_getElem? (i := 1) rfl) (gT_w q812 rfl) (gT_w q810 rfl) (gT_w q293 rfl) gface_1 ⟨by decide, by decide⟩ rfl rfl (gle rfl) 0 0 (gle rfl) (gle rfl) (gle rfl) (gle rfl) dX3_kilos_21 gx_n (gv_i ?_)
    refine g_castS F (g_recvI F (pr_at (κ := 6) (i := lot.toNatClampNeg) (by decide) (gc6 (by decide) (Decidable.not_not.mp c_1).2) (gce (show (gsr S.1 0 0 (upd (S.1 0 0) 8 0)) 6 lot.toNatClampNeg = S.1 6 lot.toNatClampNeg from (gsr_p (by decide) rfl)) rfl))) q1507 dX3_kilos_26 ?_
    refine g_iconst F (v := (3 : Int32)) (by decide) dX3_kilos_29 ?_
    refine g_ialdN F (m := 3) rfl (by decide) (by decide) (pr_at (κ := 6) (i := lot.toNatClampNeg) (by decide) (gc6 (by decide) (Decidable.not_not.mp c_1).2) (gce (show (gsr S.1 0 0 (upd (S.1 0 0) 8 0)) 6 lot.toNatClampNeg = S.1 6 lot.toNatClampNeg from (gsr_p (by decide) rfl)) rfl)) dX3_kilos_30 ?_
    change gW _ _ _ _ (.int (S.1 6 lot.toNatClampNeg 3) :: _) _ _
    exact g_retI F E rfl rfl (gle rfl) (gle rfl) dX3_kilos_31 (fun _ hp => ⟨_, _, (if_neg c_1), rfl, ⟨A, rfl, gP_T0 hp⟩⟩)

def sM_dry (S : gS) (batch speed : Int32) : Value × gS := if ¬ gIn batch (S.2 8) then (.int (-1 : Int32), (gsr (gsr S.1 0 0 (upd (S.1 0 0) 8 0)) 0 0 (upd (upd (S.1 0 0) 8 0) 8 1), S.2)) else (if ¬ (¬ speed < (1 : Int32) ∧ ¬ (5 : Int32) < speed) then (.int (-1 : Int32), (gsr (gsr S.1 0 0 (upd (S.1 0 0) 8 0)) 0 0 (upd (upd (S.1 0 0) 8 0) 8 (2 : Int32)), S.2)) else (if ¬ (S.1 8 batch.toNatClampNeg 5) = 0 then (.int (-1 : Int32), (gsr (gsr S.1 0 0 (upd (S.1 0 0) 8 0)) 0 0 (upd (upd (S.1 0 0) 8 0) 8 (3 : Int32)), S.2)) else (.int ((S.1 0 0 0) + ((((18 : Int32) + speed) - (1 : Int32)) / speed)), (gsr (gsr (gsr (gsr (gsr S.1 0 0 (upd (S.1 0 0) 8 0)) 8 batch.toNatClampNeg (upd (S.1 8 batch.toNatClampNeg) 5 (1 : Int32))) 8 batch.toNatClampNeg (upd (upd (S.1 8 batch.toNatClampNeg) 5 (1 : Int32)) 4 ((S.1 0 0 0) + ((((18 : Int32) + speed) - (1 : Int32)) / speed)))) 8 batch.toNatClampNeg (upd (upd (upd (S.1 8 batch.toNatClampNeg) 5 (1 : Int32)) 4 ((S.1 0 0 0) + ((((18 : Int32) + speed) - (1 : Int32)) / speed))) 2 ((((S.1 8 batch.toNatClampNeg 1) * (speed - (1 : Int32))) * ((10 : Int32) - (S.1 7 ((S.1 8 batch.toNatClampNeg 0).toNatClampNeg) 3))) / (500 : Int32)))) 8 batch.toNatClampNeg (upd (upd (upd (upd (S.1 8 batch.toNatClampNeg) 5 (1 : Int32)) 4 ((S.1 0 0 0) + ((((18 : Int32) + speed) - (1 : Int32)) / speed))) 2 ((((S.1 8 batch.toNatClampNeg 1) * (speed - (1 : Int32))) * ((10 : Int32) - (S.1 7 ((S.1 8 batch.toNatClampNeg 0).toNatClampNeg) 3))) / (500 : Int32))) 1 ((S.1 8 batch.toNatClampNeg 1) - ((((S.1 8 batch.toNatClampNeg 1) * (speed - (1 : Int32))) * ((10 : Int32) - (S.1 7 ((S.1 8 batch.toNatClampNeg 0).toNatClampNeg) 3))) / (500 : Int32)))), S.2))))
theorem kX3_dry {l : Launch} {G : gG} (hl : l.stackTraces = false) {S : gS} {a0 : Nat} {Fr : gH → Prop} (hF : gFr 1 Fr) (hW : gWf S) {batch speed : Int32}  : gMet l yX3_dry (ws_ yX3_dry cX3_dry 4 (some .int)) ⟨4, 0, 0, 85⟩ G [.ref a0, .int batch, .int speed] (gPE 1 G S a0 Fr) (gqN (sM_dry S batch speed) G a0 Fr) gxN := by
  refine gMet_of hl pnX3 (gle rfl) (fun X Q hX F E hNm => ?_)
  subst hX
  change gW (X, G, 4, Q) (gPE 1 G S a0 Fr) [(0, .ref a0), (1, .int batch), (2, .int speed)] 0 [] 0 0
  refine g_pe (fun A hA => ?_)
  subst hA
  change gW _ _ [(0, .ref (A 0 0)), (1, .int batch), (2, .int speed)] 0 [] 0 0
  refine g_aload_n F 0 rfl rfl dX3_dry_0 ?_
  refine g_callV F (kX3_begins hl (pr_at (κ := 0) (i := 0) (by decide) (gc1 (gnl rfl)) (gce rfl rfl))) (g_recv F clX3 (gd_obj (pr_at (κ := 0) (i := 0) (by decide) (gc1 (gnl rfl)) (gce rfl rfl)))) q1448 q1450 qs6 q25 q1451 myX3_begins ⟨by decide, by decide⟩ rfl rfl (gle rfl) 0 0 (gle rfl) (gle rfl) (gle rfl) (gle rfl) dX3_dry_1 gx_n (gv_v ?_)
  refine g_mono (P2 := gP 1 G (gsr S.1 0 0 (upd (S.1 0 0) 8 0), S.2) A Fr []) (pr_upRow (κ := 0) (i := 0) gM1 hF (upd (S.1 0 0) 8 0) (by decide) (gc1 (gnl rfl)) (gce rfl rfl) rfl) ?_
  refine g_aload_n F 0 rfl rfl dX3_dry_4 ?_
  refine g_iload_n F 1 rfl rfl dX3_dry_5 ?_
  refine g_callV F (kX3_noBatch hl hF hW (x := batch)) (g_recv F clX3 (gd_obj (pr_at (κ := 0) (i := 0) (by decide) (gc1 (gnl rfl)) (gce (show (gsr S.1 0 0 (upd (S.1 0 0) 8 0)) 0 0 = upd (S.1 0 0) 8 0 from gsr_s) rfl)))) q1577 q1579 qs10 q25 q1580 myX3_noBatch ⟨by decide, by decide⟩ rfl rfl (gle rfl) 0 0 (gle rfl) (gle rfl) (gle rfl) (gle rfl) dX3_dry_6 gx_n (gv_f (fun c_1 => ?_) (fun c_1 => ?_))
  · skip
    refine g_if_ne F (tgt := 61) (by decide) dX3_dry_9 (fun _ => ?_) (fun c => absurd c (by decide))
    refine g_iconst F (v := (-1 : Int32)) (by decide) dX3_dry_61 ?_
    exact g_retI F E rfl rfl (gle rfl) (gle rfl) dX3_dry_62 (fun _ hp => ⟨_, _, (if_pos c_1), rfl, ⟨A, rfl, gP_T0 hp⟩⟩)
  · skip
    refine g_if_ne F (tgt := 61) (by decide) dX3_dry_9 (fun c => absurd c (by decide)) (fun _ => ?_)
    refine g_aload_n F 0 rfl rfl dX3_dry_12 ?_
    refine g_iload_n F 2 rfl rfl dX3_dry_13 ?_
    refine g_i2l F dX3_dry_14 ?_
    refine g_lconst F (v := (1 : Int64)) (by decide) dX3_dry_15 ?_
    refine g_ldc2 F (v := (5 : Int64)) q1581 dX3_dry_16 ?_
    refine g_callS F (kX3_in hl (x := speed) (lo := (1 : Int32)) (hi := (5 : Int32)) (by decide) (by decide)) (lw_S q1453 q1454 q25 q1455) myX3_in ⟨by decide, by decide⟩ rfl rfl (gle rfl) 0 0 (gle rfl) (gle rfl) (gle rfl) (gle rfl) dX3_dry_19 gx_n (gv_i ?_)
    have J_3 : gW (X, G, 4, Q) (gP 1 G (gsr S.1 0 0 (upd (S.1 0 0) 8 0), S.2) A Fr []) [(0, .ref (A 0 0)), (1, .int batch), (2, .int speed)] 30 [.int (gb (¬ (¬ speed < (1 : Int32) ∧ ¬ (5 : Int32) < speed))), .ref (A 0 0)] 0 0 := by
      refine g_iconst F (v := (2 : Int32)) (by decide) dX3_dry_30 ?_
      refine g_callV F (kX3_fails hl (b := gb (¬ (¬ speed < (1 : Int32) ∧ ¬ (5 : Int32) < speed))) (nu := (2 : Int32)) (c := ¬ (¬ speed < (1 : Int32) ∧ ¬ (5 : Int32) < speed)) gb_n0 (by decide) (pr_at (κ := 0) (i := 0) (by decide) (gc1 (gnl rfl)) (gce (show (gsr S.1 0 0 (upd (S.1 0 0) 8 0)) 0 0 = upd (S.1 0 0) 8 0 from gsr_s) rfl))) (g_recv F clX3 (gd_obj (pr_at (κ := 0) (i := 0) (by decide) (gc1 (gnl rfl)) (gce (show (gsr S.1 0 0 (upd (S.1 0 0) 8 0)) 0 0 = upd (S.1 0 0) 8 0 from gsr_s) rfl)))) q1456 q1458 qs7 q25 q1459 myX3_fails ⟨by decide, by decide⟩ rfl rfl (gle rfl) 0 0 (gle rfl) (gle rfl) (gle rfl) (gle rfl) dX3_dry_31 gx_n (gv_f (fun c_4 => ?_) (fun c_4 => ?_))
      · skip
        refine g_mono (P2 := gP 1 G (gsr (gsr S.1 0 0 (upd (S.1 0 0) 8 0)) 0 0 (upd (upd (S.1 0 0) 8 0) 8 (2 : Int32)), S.2) A Fr []) (pr_upRow (κ := 0) (i := 0) gM1 hF (upd (upd (S.1 0 0) 8 0) 8 (2 : Int32)) (by decide) (gc1 (gnl rfl)) (gce (show (gsr S.1 0 0 (upd (S.1 0 0) 8 0)) 0 0 = upd (S.1 0 0) 8 0 from gsr_s) rfl) rfl) ?_
        refine g_if_ne F (tgt := 61) (by decide) dX3_dry_34 (fun _ => ?_) (fun c => absurd c (by decide))
        refine g_iconst F (v := (-1 : Int32)) (by decide) dX3_dry_61 ?_
        exact g_retI F E rfl rfl (gle rfl) (gle rfl) dX3_dry_62 (fun _ hp => ⟨_, _, ((if_neg c_1).trans (if_pos c_4)), rfl, ⟨A, rfl, gP_T0 hp⟩⟩)
      · skip
        refine g_if_ne F (tgt := 61) (by decide) dX3_dry_34 (fun c => absurd c (by decide)) (fun _ => ?_)
        refine g_aload_n F 0 rfl rfl dX3_dry_37 ?_
        refine g_aload_n F 0 rfl rfl dX3_dry_38 ?_
        refine g_get F clX3 9 (by decide) q1398 (v := .ref (A 308 0)) (gd_get (pr_at (κ := 0) (i := 0) (by decide) (gc1 (gnl rfl)) (gce (show (gsr S.1 0 0 (upd (S.1 0 0) 8 0)) 0 0 = upd (S.1 0 0) 8 0 from gsr_s) rfl)) rfl) dX3_dry_39 ?_
        refine g_iload_n F 1 rfl rfl dX3_dry_42 ?_
        refine g_callF F clJ3 (kJ3_get hl (pr_ls (M := 1) (S := (gsr S.1 0 0 (upd (S.1 0 0) 8 0), S.2)) (A := A) (κ := 8) (by decide) (Or.inl ⟨by decide, by decide⟩) (fun q => by first | decide | exact absurd q (by decide)) (fun q => by first | decide | exact absurd q (by decide))) (j := batch.toNatClampNeg) (Decidable.not_not.mp c_1).2 (gw_n hW _) rfl (Decidable.not_not.mp c_1).1) (g_recv F clJ3 (gls_obj (pr_ls (M := 1) (S := (gsr S.1 0 0 (upd (S.1 0 0) 8 0), S.2)) (A := A) (κ := 8) (by decide) (Or.inl ⟨by decide, by decide⟩) (fun q => by first | decide | exact absurd q (by decide)) (fun q => by first | decide | exact absurd q (by decide))))) q1506 q809 q811 q22 q813 (List.mem_of_getElem? (i := 1) rfl) (gT_w q812 rfl) (gT_w q810 rfl) (gT_w q293 rfl) gface_1 ⟨by decide, by decide⟩ rfl rfl (gle rfl) 0 0 (gle rfl) (gle rfl) (gle rfl) (gle rfl) dX3_dry_43 gx_n (gv_i ?_)
        refine g_castS F (g_recv F clX10 (gd_obj (pr_at (κ := 8) (i := batch.toNatClampNeg) (by decide) (gc6 (by decide) (Decidable.not_not.mp c_1).2) (gce (show (gsr S.1 0 0 (upd (S.1 0 0) 8 0)) 8 batch.toNatClampNeg = S.1 8 batch.toNatClampNeg from (gsr_p (by decide) rfl)) rfl)))) q1524 dX3_dry_48 ?_
        refine g_getN F clX10 5 (by decide) (gT_w q1535 rfl) (v := .int (S.1 8 batch.toNatClampNeg 5)) (gd_get (pr_at (κ := 8) (i := batch.toNatClampNeg) (by decide) (gc6 (by decide) (Decidable.not_not.mp c_1).2) (gce (show (gsr S.1 0 0 (upd (S.1 0 0) 8 0)) 8 batch.toNatClampNeg = S.1 8 batch.toNatClampNeg from (gsr_p (by decide) rfl)) rfl)) rfl) dX3_dry_51 ?_
        refine g_iconst F (v := (3 : Int32)) (by decide) dX3_dry_54 ?_
        refine g_callV F (kX3_fails hl (b := S.1 8 batch.toNatClampNeg 5) (nu := (3 : Int32)) (c := ¬ (S.1 8 batch.toNatClampNeg 5) = 0) Iff.rfl (by decide) (pr_at (κ := 0) (i := 0) (by decide) (gc1 (gnl rfl)) (gce (show (gsr S.1 0 0 (upd (S.1 0 0) 8 0)) 0 0 = upd (S.1 0 0) 8 0 from gsr_s) rfl))) (g_recv F clX3 (gd_obj (pr_at (κ := 0) (i := 0) (by decide) (gc1 (gnl rfl)) (gce (show (gsr S.1 0 0 (upd (S.1 0 0) 8 0)) 0 0 = upd (S.1 0 0) 8 0 from gsr_s) rfl)))) q1456 q1458 qs7 q25 q1459 myX3_fails ⟨by decide, by decide⟩ rfl rfl (gle rfl) 0 0 (gle rfl) (gle rfl) (gle rfl) (gle rfl) dX3_dry_55 gx_n (gv_f (fun c_5 => ?_) (fun c_5 => ?_))
        · skip
          refine g_mono (P2 := gP 1 G (gsr (gsr S.1 0 0 (upd (S.1 0 0) 8 0)) 0 0 (upd (upd (S.1 0 0) 8 0) 8 (3 : Int32)), S.2) A Fr []) (pr_upRow (κ := 0) (i := 0) gM1 hF (upd (upd (S.1 0 0) 8 0) 8 (3 : Int32)) (by decide) (gc1 (gnl rfl)) (gce (show (gsr S.1 0 0 (upd (S.1 0 0) 8 0)) 0 0 = upd (S.1 0 0) 8 0 from gsr_s) rfl) rfl) ?_
          refine g_if_eq F (tgt := 63) (by decide) dX3_dry_58 (fun c => absurd c (by decide)) (fun _ => ?_)
          refine g_iconst F (v := (-1 : Int32)) (by decide) dX3_dry_61 ?_
          exact g_retI F E rfl rfl (gle rfl) (gle rfl) dX3_dry_62 (fun _ hp => ⟨_, _, ((if_neg c_1).trans ((if_neg c_4).trans (if_pos c_5))), rfl, ⟨A, rfl, gP_T0 hp⟩⟩)
        · skip
          refine g_if_eq F (tgt := 63) (by decide) dX3_dry_58 (fun _ => ?_) (fun c => absurd c (by decide))
          refine g_aload_n F 0 rfl rfl dX3_dry_63 ?_
          refine g_get F clX3 9 (by decide) q1398 (v := .ref (A 308 0)) (gd_get (pr_at (κ := 0) (i := 0) (by decide) (gc1 (gnl rfl)) (gce (show (gsr S.1 0 0 (upd (S.1 0 0) 8 0)) 0 0 = upd (S.1 0 0) 8 0 from gsr_s) rfl)) rfl) dX3_dry_64 ?_
          refine g_iload_n F 1 rfl rfl dX3_dry_67 ?_
          refine g_callF F clJ3 (kJ3_get hl (pr_ls (M := 1) (S := (gsr S.1 0 0 (upd (S.1 0 0) 8 0), S.2)) (A := A) (κ := 8) (by decide) (Or.inl ⟨by decide, by decide⟩) (fun q => by first | decide | exact absurd q (by decide)) (fun q => by first | decide | exact absurd q (by decide))) (j := batch.toNatClampNeg) (Decidable.not_not.mp c_1).2 (gw_n hW _) rfl (Decidable.not_not.mp c_1).1) (g_recv F clJ3 (gls_obj (pr_ls (M := 1) (S := (gsr S.1 0 0 (upd (S.1 0 0) 8 0), S.2)) (A := A) (κ := 8) (by decide) (Or.inl ⟨by decide, by decide⟩) (fun q => by first | decide | exact absurd q (by decide)) (fun q => by first | decide | exact absurd q (by decide))))) q1506 q809 q811 q22 q813 (List.mem_of_getElem? (i := 1) rfl) (gT_w q812 rfl) (gT_w q810 rfl) (gT_w q293 rfl) gface_1 ⟨by decide, by decide⟩ rfl rfl (gle rfl) 0 0 (gle rfl) (gle rfl) (gle rfl) (gle rfl) dX3_dry_68 gx_n (gv_i ?_)
          refine g_castS F (g_recv F clX10 (gd_obj (pr_at (κ := 8) (i := batch.toNatClampNeg) (by decide) (gc6 (by decide) (Decidable.not_not.mp c_1).2) (gce (show (gsr S.1 0 0 (upd (S.1 0 0) 8 0)) 8 batch.toNatClampNeg = S.1 8 batch.toNatClampNeg from (gsr_p (by decide) rfl)) rfl)))) q1524 dX3_dry_73 ?_
          refine g_astore_n F rfl (by show 3 < 4; decide) (lv2 := [(3, .ref (A 8 batch.toNatClampNeg)), (0, .ref (A 0 0)), (1, .int batch), (2, .int speed)]) rfl dX3_dry_76 ?_
          refine g_aload_n F 0 rfl rfl dX3_dry_77 ?_
          refine g_iconst F (v := (1 : Int32)) (by decide) dX3_dry_78 ?_
          refine g_putN (P2 := gP 1 G (gsr (gsr S.1 0 0 (upd (S.1 0 0) 8 0)) 8 batch.toNatClampNeg (upd (S.1 8 batch.toNatClampNeg) 5 (1 : Int32)), S.2) A Fr []) F clX10 5 (by decide) (gT_w q1535 rfl) rfl rfl rfl (pr_put (κ := 8) (i := batch.toNatClampNeg) gM1 hF (upd (S.1 8 batch.toNatClampNeg) 5 (1 : Int32)) (by decide) (gc6 (by decide) (Decidable.not_not.mp c_1).2) (gce (show (gsr S.1 0 0 (upd (S.1 0 0) 8 0)) 8 batch.toNatClampNeg = S.1 8 batch.toNatClampNeg from (gsr_p (by decide) rfl)) rfl) (gnl rfl) rfl) dX3_dry_79 ?_
          refine g_aload_n F 0 rfl rfl dX3_dry_82 ?_
          refine g_aload_n F 1 rfl rfl dX3_dry_83 ?_
          refine g_get F clX3 1 (by decide) q1390 (v := .int (S.1 0 0 0)) (gd_get (pr_at (κ := 0) (i := 0) (by decide) (gc1 (gnl rfl)) (gce (show (gsr (gsr S.1 0 0 (upd (S.1 0 0) 8 0)) 8 batch.toNatClampNeg (upd (S.1 8 batch.toNatClampNeg) 5 (1 : Int32))) 0 0 = upd (S.1 0 0) 8 0 from (gsr_p (by decide) gsr_s)) rfl)) rfl) dX3_dry_84 ?_
          refine g_bipush F (v := (18 : Int32)) (by decide) dX3_dry_87 ?_
          refine g_iload_n F 3 rfl rfl dX3_dry_89 ?_
          refine g_iadd F dX3_dry_90 ?_
          refine g_iconst F (v := (1 : Int32)) (by decide) dX3_dry_91 ?_
          refine g_isub F dX3_dry_92 ?_
          refine g_iload_n F 3 rfl rfl dX3_dry_93 ?_
          refine g_idiv F (gnz1 (Decidable.not_not.mp c_4).1) dX3_dry_94 ?_
          refine g_iadd F dX3_dry_95 ?_
          refine g_putN (P2 := gP 1 G (gsr (gsr (gsr S.1 0 0 (upd (S.1 0 0) 8 0)) 8 batch.toNatClampNeg (upd (S.1 8 batch.toNatClampNeg) 5 (1 : Int32))) 8 batch.toNatClampNeg (upd (upd (S.1 8 batch.toNatClampNeg) 5 (1 : Int32)) 4 ((S.1 0 0 0) + ((((18 : Int32) + speed) - (1 : Int32)) / speed))), S.2) A Fr []) F clX10 4 (by decide) (gT_w q1534 rfl) rfl rfl rfl (pr_put (κ := 8) (i := batch.toNatClampNeg) gM1 hF (upd (upd (S.1 8 batch.toNatClampNeg) 5 (1 : Int32)) 4 ((S.1 0 0 0) + ((((18 : Int32) + speed) - (1 : Int32)) / speed))) (by decide) (gc6 (by decide) (Decidable.not_not.mp c_1).2) (gce (show (gsr (gsr S.1 0 0 (upd (S.1 0 0) 8 0)) 8 batch.toNatClampNeg (upd (S.1 8 batch.toNatClampNeg) 5 (1 : Int32))) 8 batch.toNatClampNeg = upd (S.1 8 batch.toNatClampNeg) 5 (1 : Int32) from gsr_s) rfl) (gnl rfl) rfl) dX3_dry_96 ?_
          refine g_aload_n F 0 rfl rfl dX3_dry_99 ?_
          refine g_aload_n F 0 rfl rfl dX3_dry_100 ?_
          refine g_getN F clX10 1 (by decide) (gT_w q1531 rfl) (v := .int (S.1 8 batch.toNatClampNeg 1)) (gd_get (pr_at (κ := 8) (i := batch.toNatClampNeg) (by decide) (gc6 (by decide) (Decidable.not_not.mp c_1).2) (gce (show (gsr (gsr (gsr S.1 0 0 (upd (S.1 0 0) 8 0)) 8 batch.toNatClampNeg (upd (S.1 8 batch.toNatClampNeg) 5 (1 : Int32))) 8 batch.toNatClampNeg (upd (upd (S.1 8 batch.toNatClampNeg) 5 (1 : Int32)) 4 ((S.1 0 0 0) + ((((18 : Int32) + speed) - (1 : Int32)) / speed)))) 8 batch.toNatClampNeg = upd (upd (S.1 8 batch.toNatClampNeg) 5 (1 : Int32)) 4 ((S.1 0 0 0) + ((((18 : Int32) + speed) - (1 : Int32)) / speed)) from gsr_s) rfl)) rfl) dX3_dry_101 ?_
          refine g_iload_n F 3 rfl rfl dX3_dry_104 ?_
          refine g_iconst F (v := (1 : Int32)) (by decide) dX3_dry_105 ?_
          refine g_isub F dX3_dry_106 ?_
          refine g_imul F dX3_dry_107 ?_
          refine g_bipush F (v := (10 : Int32)) (by decide) dX3_dry_108 ?_
          refine g_aload_n F 1 rfl rfl dX3_dry_110 ?_
          refine g_aload_n F 0 rfl rfl dX3_dry_111 ?_
          refine g_callV F (kX3_fineness hl (pr_at (κ := 0) (i := 0) (by decide) (gc1 (gnl rfl)) (gce (show (gsr (gsr (gsr S.1 0 0 (upd (S.1 0 0) 8 0)) 8 batch.toNatClampNeg (upd (S.1 8 batch.toNatClampNeg) 5 (1 : Int32))) 8 batch.toNatClampNeg (upd (upd (S.1 8 batch.toNatClampNeg) 5 (1 : Int32)) 4 ((S.1 0 0 0) + ((((18 : Int32) + speed) - (1 : Int32)) / speed)))) 0 0 = upd (S.1 0 0) 8 0 from (gsr_p (by decide) (gsr_p (by decide) gsr_s))) rfl)) (pr_at (κ := 8) (i := batch.toNatClampNeg) (by decide) (gc6 (by decide) (Decidable.not_not.mp c_1).2) (gce (show (gsr (gsr (gsr S.1 0 0 (upd (S.1 0 0) 8 0)) 8 batch.toNatClampNeg (upd (S.1 8 batch.toNatClampNeg) 5 (1 : Int32))) 8 batch.toNatClampNeg (upd (upd (S.1 8 batch.toNatClampNeg) 5 (1 : Int32)) 4 ((S.1 0 0 0) + ((((18 : Int32) + speed) - (1 : Int32)) / speed)))) 8 batch.toNatClampNeg = upd (upd (S.1 8 batch.toNatClampNeg) 5 (1 : Int32)) 4 ((S.1 0 0 0) + ((((18 : Int32) + speed) - (1 : Int32)) / speed)) from gsr_s) rfl)) (pr_ls (M := 1) (S := (gsr (gsr (gsr S.1 0 0 (upd (S.1 0 0) 8 0)) 8 batch.toNatClampNeg (upd (S.1 8 batch.toNatClampNeg) 5 (1 : Int32))) 8 batch.toNatClampNeg (upd (upd (S.1 8 batch.toNatClampNeg) 5 (1 : Int32)) 4 ((S.1 0 0 0) + ((((18 : Int32) + speed) - (1 : Int32)) / speed))), S.2)) (A := A) (κ := 7) (by decide) (Or.inl ⟨by decide, by decide⟩) (fun q => by first | decide | exact absurd q (by decide)) (fun q => by first | decide | exact absurd q (by decide))) (gw_n hW _) (gw_8_0 hW (Decidable.not_not.mp c_1).2) (pr_at (κ := 7) (i := (S.1 8 batch.toNatClampNeg 0).toNatClampNeg) (by decide) (gc6 (by decide) (gw_8_0 hW (Decidable.not_not.mp c_1).2).2) (gce (show (gsr (gsr (gsr S.1 0 0 (upd (S.1 0 0) 8 0)) 8 batch.toNatClampNeg (upd (S.1 8 batch.toNatClampNeg) 5 (1 : Int32))) 8 batch.toNatClampNeg (upd (upd (S.1 8 batch.toNatClampNeg) 5 (1 : Int32)) 4 ((S.1 0 0 0) + ((((18 : Int32) + speed) - (1 : Int32)) / speed)))) 7 ((S.1 8 batch.toNatClampNeg 0).toNatClampNeg) = S.1 7 ((S.1 8 batch.toNatClampNeg 0).toNatClampNeg) from (gsr_p (by decide) (gsr_p (by decide) (gsr_p (by decide) rfl)))) rfl))) (g_recv F clX3 (gd_obj (pr_at (κ := 0) (i := 0) (by decide) (gc1 (gnl rfl)) (gce (show (gsr (gsr (gsr S.1 0 0 (upd (S.1 0 0) 8 0)) 8 batch.toNatClampNeg (upd (S.1 8 batch.toNatClampNeg) 5 (1 : Int32))) 8 batch.toNatClampNeg (upd (upd (S.1 8 batch.toNatClampNeg) 5 (1 : Int32)) 4 ((S.1 0 0 0) + ((((18 : Int32) + speed) - (1 : Int32)) / speed)))) 0 0 = upd (S.1 0 0) 8 0 from (gsr_p (by decide) (gsr_p (by decide) gsr_s))) rfl)))) q1582 q1584 qs11 q25 q1585 myX3_fineness ⟨by decide, by decide⟩ rfl rfl (gle rfl) 0 0 (gle rfl) (gle rfl) (gle rfl) (gle rfl) dX3_dry_112 gx_n (gv_i ?_)
          refine g_isub F dX3_dry_115 ?_
          refine g_imul F dX3_dry_116 ?_
          refine g_sipush F (v := (500 : Int32)) (by decide) dX3_dry_117 ?_
          refine g_idiv F (by decide) dX3_dry_120 ?_
          refine g_putN (P2 := gP 1 G (gsr (gsr (gsr (gsr S.1 0 0 (upd (S.1 0 0) 8 0)) 8 batch.toNatClampNeg (upd (S.1 8 batch.toNatClampNeg) 5 (1 : Int32))) 8 batch.toNatClampNeg (upd (upd (S.1 8 batch.toNatClampNeg) 5 (1 : Int32)) 4 ((S.1 0 0 0) + ((((18 : Int32) + speed) - (1 : Int32)) / speed)))) 8 batch.toNatClampNeg (upd (upd (upd (S.1 8 batch.toNatClampNeg) 5 (1 : Int32)) 4 ((S.1 0 0 0) + ((((18 : Int32) + speed) - (1 : Int32)) / speed))) 2 ((((S.1 8 batch.toNatClampNeg 1) * (speed - (1 : Int32))) * ((10 : Int32) - (S.1 7 ((S.1 8 batch.toNatClampNeg 0).toNatClampNeg) 3))) / (500 : Int32))), S.2) A Fr []) F clX10 2 (by decide) (gT_w q1532 rfl) rfl rfl rfl (pr_put (κ := 8) (i := batch.toNatClampNeg) gM1 hF (upd (upd (upd (S.1 8 batch.toNatClampNeg) 5 (1 : Int32)) 4 ((S.1 0 0 0) + ((((18 : Int32) + speed) - (1 : Int32)) / speed))) 2 ((((S.1 8 batch.toNatClampNeg 1) * (speed - (1 : Int32))) * ((10 : Int32) - (S.1 7 ((S.1 8 batch.toNatClampNeg 0).toNatClampNeg) 3))) / (500 : Int32))) (by decide) (gc6 (by decide) (Decidable.not_not.mp c_1).2) (gce (show (gsr (gsr (gsr S.1 0 0 (upd (S.1 0 0) 8 0)) 8 batch.toNatClampNeg (upd (S.1 8 batch.toNatClampNeg) 5 (1 : Int32))) 8 batch.toNatClampNeg (upd (upd (S.1 8 batch.toNatClampNeg) 5 (1 : Int32)) 4 ((S.1 0 0 0) + ((((18 : Int32) + speed) - (1 : Int32)) / speed)))) 8 batch.toNatClampNeg = upd (upd (S.1 8 batch.toNatClampNeg) 5 (1 : Int32)) 4 ((S.1 0 0 0) + ((((18 : Int32) + speed) - (1 : Int32)) / speed)) from gsr_s) rfl) (gnl rfl) rfl) dX3_dry_121 ?_
          refine g_aload_n F 0 rfl rfl dX3_dry_124 ?_
          refine g_dup F rfl dX3_dry_125 ?_
          refine g_getN F clX10 1 (by decide) (gT_w q1531 rfl) (v := .int (S.1 8 batch.toNatClampNeg 1)) (gd_get (pr_at (κ := 8) (i := batch.toNatClampNeg) (by decide) (gc6 (by decide) (Decidable.not_not.mp c_1).2) (gce (show (gsr (gsr (gsr (gsr S.1 0 0 (upd (S.1 0 0) 8 0)) 8 batch.toNatClampNeg (upd (S.1 8 batch.toNatClampNeg) 5 (1 : Int32))) 8 batch.toNatClampNeg (upd (upd (S.1 8 batch.toNatClampNeg) 5 (1 : Int32)) 4 ((S.1 0 0 0) + ((((18 : Int32) + speed) - (1 : Int32)) / speed)))) 8 batch.toNatClampNeg (upd (upd (upd (S.1 8 batch.toNatClampNeg) 5 (1 : Int32)) 4 ((S.1 0 0 0) + ((((18 : Int32) + speed) - (1 : Int32)) / speed))) 2 ((((S.1 8 batch.toNatClampNeg 1) * (speed - (1 : Int32))) * ((10 : Int32) - (S.1 7 ((S.1 8 batch.toNatClampNeg 0).toNatClampNeg) 3))) / (500 : Int32)))) 8 batch.toNatClampNeg = upd (upd (upd (S.1 8 batch.toNatClampNeg) 5 (1 : Int32)) 4 ((S.1 0 0 0) + ((((18 : Int32) + speed) - (1 : Int32)) / speed))) 2 ((((S.1 8 batch.toNatClampNeg 1) * (speed - (1 : Int32))) * ((10 : Int32) - (S.1 7 ((S.1 8 batch.toNatClampNeg 0).toNatClampNeg) 3))) / (500 : Int32)) from gsr_s) rfl)) rfl) dX3_dry_126 ?_
          refine g_aload_n F 0 rfl rfl dX3_dry_129 ?_
          refine g_getN F clX10 2 (by decide) (gT_w q1532 rfl) (v := .int ((((S.1 8 batch.toNatClampNeg 1) * (speed - (1 : Int32))) * ((10 : Int32) - (S.1 7 ((S.1 8 batch.toNatClampNeg 0).toNatClampNeg) 3))) / (500 : Int32))) (gd_get (pr_at (κ := 8) (i := batch.toNatClampNeg) (by decide) (gc6 (by decide) (Decidable.not_not.mp c_1).2) (gce (show (gsr (gsr (gsr (gsr S.1 0 0 (upd (S.1 0 0) 8 0)) 8 batch.toNatClampNeg (upd (S.1 8 batch.toNatClampNeg) 5 (1 : Int32))) 8 batch.toNatClampNeg (upd (upd (S.1 8 batch.toNatClampNeg) 5 (1 : Int32)) 4 ((S.1 0 0 0) + ((((18 : Int32) + speed) - (1 : Int32)) / speed)))) 8 batch.toNatClampNeg (upd (upd (upd (S.1 8 batch.toNatClampNeg) 5 (1 : Int32)) 4 ((S.1 0 0 0) + ((((18 : Int32) + speed) - (1 : Int32)) / speed))) 2 ((((S.1 8 batch.toNatClampNeg 1) * (speed - (1 : Int32))) * ((10 : Int32) - (S.1 7 ((S.1 8 batch.toNatClampNeg 0).toNatClampNeg) 3))) / (500 : Int32)))) 8 batch.toNatClampNeg = upd (upd (upd (S.1 8 batch.toNatClampNeg) 5 (1 : Int32)) 4 ((S.1 0 0 0) + ((((18 : Int32) + speed) - (1 : Int32)) / speed))) 2 ((((S.1 8 batch.toNatClampNeg 1) * (speed - (1 : Int32))) * ((10 : Int32) - (S.1 7 ((S.1 8 batch.toNatClampNeg 0).toNatClampNeg) 3))) / (500 : Int32)) from gsr_s) rfl)) rfl) dX3_dry_130 ?_
          refine g_isub F dX3_dry_133 ?_
          refine g_putN (P2 := gP 1 G (gsr (gsr (gsr (gsr (gsr S.1 0 0 (upd (S.1 0 0) 8 0)) 8 batch.toNatClampNeg (upd (S.1 8 batch.toNatClampNeg) 5 (1 : Int32))) 8 batch.toNatClampNeg (upd (upd (S.1 8 batch.toNatClampNeg) 5 (1 : Int32)) 4 ((S.1 0 0 0) + ((((18 : Int32) + speed) - (1 : Int32)) / speed)))) 8 batch.toNatClampNeg (upd (upd (upd (S.1 8 batch.toNatClampNeg) 5 (1 : Int32)) 4 ((S.1 0 0 0) + ((((18 : Int32) + speed) - (1 : Int32)) / speed))) 2 ((((S.1 8 batch.toNatClampNeg 1) * (speed - (1 : Int32))) * ((10 : Int32) - (S.1 7 ((S.1 8 batch.toNatClampNeg 0).toNatClampNeg) 3))) / (500 : Int32)))) 8 batch.toNatClampNeg (upd (upd (upd (upd (S.1 8 batch.toNatClampNeg) 5 (1 : Int32)) 4 ((S.1 0 0 0) + ((((18 : Int32) + speed) - (1 : Int32)) / speed))) 2 ((((S.1 8 batch.toNatClampNeg 1) * (speed - (1 : Int32))) * ((10 : Int32) - (S.1 7 ((S.1 8 batch.toNatClampNeg 0).toNatClampNeg) 3))) / (500 : Int32))) 1 ((S.1 8 batch.toNatClampNeg 1) - ((((S.1 8 batch.toNatClampNeg 1) * (speed - (1 : Int32))) * ((10 : Int32) - (S.1 7 ((S.1 8 batch.toNatClampNeg 0).toNatClampNeg) 3))) / (500 : Int32)))), S.2) A Fr []) F clX10 1 (by decide) (gT_w q1531 rfl) rfl rfl rfl (pr_put (κ := 8) (i := batch.toNatClampNeg) gM1 hF (upd (upd (upd (upd (S.1 8 batch.toNatClampNeg) 5 (1 : Int32)) 4 ((S.1 0 0 0) + ((((18 : Int32) + speed) - (1 : Int32)) / speed))) 2 ((((S.1 8 batch.toNatClampNeg 1) * (speed - (1 : Int32))) * ((10 : Int32) - (S.1 7 ((S.1 8 batch.toNatClampNeg 0).toNatClampNeg) 3))) / (500 : Int32))) 1 ((S.1 8 batch.toNatClampNeg 1) - ((((S.1 8 batch.toNatClampNeg 1) * (speed - (1 : Int32))) * ((10 : Int32) - (S.1 7 ((S.1 8 batch.toNatClampNeg 0).toNatClampNeg) 3))) / (500 : Int32)))) (by decide) (gc6 (by decide) (Decidable.not_not.mp c_1).2) (gce (show (gsr (gsr (gsr (gsr S.1 0 0 (upd (S.1 0 0) 8 0)) 8 batch.toNatClampNeg (upd (S.1 8 batch.toNatClampNeg) 5 (1 : Int32))) 8 batch.toNatClampNeg (upd (upd (S.1 8 batch.toNatClampNeg) 5 (1 : Int32)) 4 ((S.1 0 0 0) + ((((18 : Int32) + speed) - (1 : Int32)) / speed)))) 8 batch.toNatClampNeg (upd (upd (upd (S.1 8 batch.toNatClampNeg) 5 (1 : Int32)) 4 ((S.1 0 0 0) + ((((18 : Int32) + speed) - (1 : Int32)) / speed))) 2 ((((S.1 8 batch.toNatClampNeg 1) * (speed - (1 : Int32))) * ((10 : Int32) - (S.1 7 ((S.1 8 batch.toNatClampNeg 0).toNatClampNeg) 3))) / (500 : Int32)))) 8 batch.toNatClampNeg = upd (upd (upd (S.1 8 batch.toNatClampNeg) 5 (1 : Int32)) 4 ((S.1 0 0 0) + ((((18 : Int32) + speed) - (1 : Int32)) / speed))) 2 ((((S.1 8 batch.toNatClampNeg 1) * (speed - (1 : Int32))) * ((10 : Int32) - (S.1 7 ((S.1 8 batch.toNatClampNeg 0).toNatClampNeg) 3))) / (500 : Int32)) from gsr_s) rfl) (gnl rfl) rfl) dX3_dry_134 ?_
          refine g_aload_n F 0 rfl rfl dX3_dry_137 ?_
          refine g_getN F clX10 4 (by decide) (gT_w q1534 rfl) (v := .int ((S.1 0 0 0) + ((((18 : Int32) + speed) - (1 : Int32)) / speed))) (gd_get (pr_at (κ := 8) (i := batch.toNatClampNeg) (by decide) (gc6 (by decide) (Decidable.not_not.mp c_1).2) (gce (show (gsr (gsr (gsr (gsr (gsr S.1 0 0 (upd (S.1 0 0) 8 0)) 8 batch.toNatClampNeg (upd (S.1 8 batch.toNatClampNeg) 5 (1 : Int32))) 8 batch.toNatClampNeg (upd (upd (S.1 8 batch.toNatClampNeg) 5 (1 : Int32)) 4 ((S.1 0 0 0) + ((((18 : Int32) + speed) - (1 : Int32)) / speed)))) 8 batch.toNatClampNeg (upd (upd (upd (S.1 8 batch.toNatClampNeg) 5 (1 : Int32)) 4 ((S.1 0 0 0) + ((((18 : Int32) + speed) - (1 : Int32)) / speed))) 2 ((((S.1 8 batch.toNatClampNeg 1) * (speed - (1 : Int32))) * ((10 : Int32) - (S.1 7 ((S.1 8 batch.toNatClampNeg 0).toNatClampNeg) 3))) / (500 : Int32)))) 8 batch.toNatClampNeg (upd (upd (upd (upd (S.1 8 batch.toNatClampNeg) 5 (1 : Int32)) 4 ((S.1 0 0 0) + ((((18 : Int32) + speed) - (1 : Int32)) / speed))) 2 ((((S.1 8 batch.toNatClampNeg 1) * (speed - (1 : Int32))) * ((10 : Int32) - (S.1 7 ((S.1 8 batch.toNatClampNeg 0).toNatClampNeg) 3))) / (500 : Int32))) 1 ((S.1 8 batch.toNatClampNeg 1) - ((((S.1 8 batch.toNatClampNeg 1) * (speed - (1 : Int32))) * ((10 : Int32) - (S.1 7 ((S.1 8 batch.toNatClampNeg 0).toNatClampNeg) 3))) / (500 : Int32))))) 8 batch.toNatClampNeg = upd (upd (upd (upd (S.1 8 batch.toNatClampNeg) 5 (1 : Int32)) 4 ((S.1 0 0 0) + ((((18 : Int32) + speed) - (1 : Int32)) / speed))) 2 ((((S.1 8 batch.toNatClampNeg 1) * (speed - (1 : Int32))) * ((10 : Int32) - (S.1 7 ((S.1 8 batch.toNatClampNeg 0).toNatClampNeg) 3))) / (500 : Int32))) 1 ((S.1 8 batch.toNatClampNeg 1) - ((((S.1 8 batch.toNatClampNeg 1) * (speed - (1 : Int32))) * ((10 : Int32) - (S.1 7 ((S.1 8 batch.toNatClampNeg 0).toNatClampNeg) 3))) / (500 : Int32))) from gsr_s) rfl)) rfl) dX3_dry_138 ?_
          exact g_retI F E rfl rfl (gle rfl) (gle rfl) dX3_dry_141 (fun _ hp => ⟨_, _, ((if_neg c_1).trans ((if_neg c_4).trans (if_neg c_5))), rfl, ⟨A, rfl, gP_T0 hp⟩⟩)
    refine gb_if_ne F (tgt := 29) (by decide) dX3_dry_22 (fun c_2 => ?_) (fun c_2 => ?_)
    · skip
      refine g_iconst F (v := (0 : Int32)) (by decide) dX3_dry_29 ?_
      exact g_top (gb_f (fun q => q c_2)) J_3
    · skip
      refine g_iconst F (v := (1 : Int32)) (by decide) dX3_dry_25 ?_
      refine g_goto F (tgt := 30) (by decide) dX3_dry_26 ?_
      exact g_top (gb_t c_2) J_3

def sM_fire (S : gS) (batch kiln heat hours : Int32) : Value × gS := if ¬ gIn batch (S.2 8) then (.int (-1 : Int32), (gsr (gsr S.1 0 0 (upd (S.1 0 0) 8 0)) 0 0 (upd (upd (S.1 0 0) 8 0) 8 1), S.2)) else (if ¬ (¬ kiln < (0 : Int32) ∧ ¬ (1 : Int32) < kiln) ∨ (¬ (¬ heat < (700 : Int32) ∧ ¬ (1200 : Int32) < heat) ∨ (¬ (¬ hours < (1 : Int32) ∧ ¬ (12 : Int32) < hours))) then (.int (-1 : Int32), (gsr (gsr S.1 0 0 (upd (S.1 0 0) 8 0)) 0 0 (upd (upd (S.1 0 0) 8 0) 8 (2 : Int32)), S.2)) else (if ((S.1 8 batch.toNatClampNeg 5) = 0) ∨ (((S.1 0 0 0) < (S.1 8 batch.toNatClampNeg 4)) ∨ (¬ ((S.1 8 batch.toNatClampNeg 6) = (-1 : Int32)) ∨ (¬ ((S.1 4 0 kiln.toNatClampNeg) ≤ (S.1 0 0 0))))) then (.int (-1 : Int32), (gsr (gsr S.1 0 0 (upd (S.1 0 0) 8 0)) 0 0 (upd (upd (S.1 0 0) 8 0) 8 (3 : Int32)), S.2)) else (.int (S.1 0 0 2), (gsr (gsr (gsr (gsr (gsr (gsr (gsr (gsr S.1 0 0 (upd (S.1 0 0) 8 0)) 8 batch.toNatClampNeg (upd (S.1 8 batch.toNatClampNeg) 6 (S.1 0 0 2))) 0 0 (upd (upd (S.1 0 0) 8 0) 2 ((S.1 0 0 2) + (1 : Int32)))) 8 batch.toNatClampNeg (upd (upd (S.1 8 batch.toNatClampNeg) 6 (S.1 0 0 2)) 11 kiln)) 8 batch.toNatClampNeg (upd (upd (upd (S.1 8 batch.toNatClampNeg) 6 (S.1 0 0 2)) 11 kiln) 4 ((S.1 0 0 0) + hours))) 4 0 (upd (S.1 4 0) kiln.toNatClampNeg ((S.1 0 0 0) + hours))) 8 batch.toNatClampNeg (upd (upd (upd (upd (S.1 8 batch.toNatClampNeg) 6 (S.1 0 0 2)) 11 kiln) 4 ((S.1 0 0 0) + hours)) 9 ((((((1000 : Int32) - (S.1 7 ((S.1 8 batch.toNatClampNeg 0).toNatClampNeg) 2)) * (heat - (600 : Int32))) / (1000 : Int32)) + ((20 : Int32) * (S.1 7 ((S.1 8 batch.toNatClampNeg 0).toNatClampNeg) 3))) + ((5 : Int32) * hours)))) 8 batch.toNatClampNeg (upd (upd (upd (upd (upd (S.1 8 batch.toNatClampNeg) 6 (S.1 0 0 2)) 11 kiln) 4 ((S.1 0 0 0) + hours)) 9 ((((((1000 : Int32) - (S.1 7 ((S.1 8 batch.toNatClampNeg 0).toNatClampNeg) 2)) * (heat - (600 : Int32))) / (1000 : Int32)) + ((20 : Int32) * (S.1 7 ((S.1 8 batch.toNatClampNeg 0).toNatClampNeg) 3))) + ((5 : Int32) * hours))) 10 (gmax (0 : Int32) (gmin (999 : Int32) (((S.1 7 ((S.1 8 batch.toNatClampNeg 0).toNatClampNeg) 2) - ((heat - (700 : Int32)) / (10 : Int32))) + ((5 : Int32) * (S.1 7 ((S.1 8 batch.toNatClampNeg 0).toNatClampNeg) 3)))))), S.2))))
theorem kX3_fire {l : Launch} {G : gG} (hl : l.stackTraces = false) {S : gS} {a0 : Nat} {Fr : gH → Prop} (hF : gFr 1 Fr) (hW : gWf S) {batch kiln heat hours : Int32}  : gMet l yX3_fire (ws_ yX3_fire cX3_fire 7 (some .int)) ⟨4, 0, 0, 85⟩ G [.ref a0, .int batch, .int kiln, .int heat, .int hours] (gPE 1 G S a0 Fr) (gqN (sM_fire S batch kiln heat hours) G a0 Fr) gxN := by
  refine gMet_of hl pnX3 (gle rfl) (fun X Q hX F E hNm => ?_)
  subst hX
  change gW (X, G, 7, Q) (gPE 1 G S a0 Fr) [(0, .ref a0), (1, .int batch), (2, .int kiln), (3, .int heat), (4, .int hours)] 0 [] 0 0
  refine g_pe (fun A hA => ?_)
  subst hA
  change gW _ _ [(0, .ref (A 0 0)), (1, .int batch), (2, .int kiln), (3, .int heat), (4, .int hours)] 0 [] 0 0
  refine g_aload_n F 0 rfl rfl dX3_fire_0 ?_
  refine g_callV F (kX3_begins hl (pr_at (κ := 0) (i := 0) (by decide) (gc1 (gnl rfl)) (gce rfl rfl))) (g_recv F clX3 (gd_obj (pr_at (κ := 0) (i := 0) (by decide) (gc1 (gnl rfl)) (gce rfl rfl)))) q1448 q1450 qs6 q25 q1451 myX3_begins ⟨by decide, by decide⟩ rfl rfl (gle rfl) 0 0 (gle rfl) (gle rfl) (gle rfl) (gle rfl) dX3_fire_1 gx_n (gv_v ?_)
  refine g_mono (P2 := gP 1 G (gsr S.1 0 0 (upd (S.1 0 0) 8 0), S.2) A Fr []) (pr_upRow (κ := 0) (i := 0) gM1 hF (upd (S.1 0 0) 8 0) (by decide) (gc1 (gnl rfl)) (gce rfl rfl) rfl) ?_
  refine g_aload_n F 0 rfl rfl dX3_fire_4 ?_
  refine g_iload_n F 1 rfl rfl dX3_fire_5 ?_
  refine g_callV F (kX3_noBatch hl hF hW (x := batch)) (g_recv F clX3 (gd_obj (pr_at (κ := 0) (i := 0) (by decide) (gc1 (gnl rfl)) (gce (show (gsr S.1 0 0 (upd (S.1 0 0) 8 0)) 0 0 = upd (S.1 0 0) 8 0 from gsr_s) rfl)))) q1577 q1579 qs10 q25 q1580 myX3_noBatch ⟨by decide, by decide⟩ rfl rfl (gle rfl) 0 0 (gle rfl) (gle rfl) (gle rfl) (gle rfl) dX3_fire_6 gx_n (gv_f (fun c_1 => ?_) (fun c_1 => ?_))
  · skip
    refine g_if_ne F (tgt := 62) (by decide) dX3_fire_9 (fun _ => ?_) (fun c => absurd c (by decide))
    refine g_iconst F (v := (-1 : Int32)) (by decide) dX3_fire_62 ?_
    exact g_retI F E rfl rfl (gle rfl) (gle rfl) dX3_fire_63 (fun _ hp => ⟨_, _, (if_pos c_1), rfl, ⟨A, rfl, gP_T0 hp⟩⟩)
  · skip
    refine g_if_ne F (tgt := 62) (by decide) dX3_fire_9 (fun c => absurd c (by decide)) (fun _ => ?_)
    refine g_aload_n F 0 rfl rfl dX3_fire_12 ?_
    refine g_iload_n F 2 rfl rfl dX3_fire_13 ?_
    refine g_i2l F dX3_fire_14 ?_
    refine g_lconst F (v := (0 : Int64)) (by decide) dX3_fire_15 ?_
    refine g_lconst F (v := (1 : Int64)) (by decide) dX3_fire_16 ?_
    refine g_callS F (kX3_in hl (x := kiln) (lo := (0 : Int32)) (hi := (1 : Int32)) (by decide) (by decide)) (lw_S q1453 q1454 q25 q1455) myX3_in ⟨by decide, by decide⟩ rfl rfl (gle rfl) 0 0 (gle rfl) (gle rfl) (gle rfl) (gle rfl) dX3_fire_17 gx_n (gv_i ?_)
    have J_5 : gW (X, G, 7, Q) (gP 1 G (gsr S.1 0 0 (upd (S.1 0 0) 8 0), S.2) A Fr []) [(0, .ref (A 0 0)), (1, .int batch), (2, .int kiln), (3, .int heat), (4, .int hours)] 55 [.int (gb (¬ (¬ kiln < (0 : Int32) ∧ ¬ (1 : Int32) < kiln) ∨ (¬ (¬ heat < (700 : Int32) ∧ ¬ (1200 : Int32) < heat) ∨ (¬ (¬ hours < (1 : Int32) ∧ ¬ (12 : Int32) < hours))))), .ref (A 0 0)] 0 0 := by
      refine g_iconst F (v := (2 : Int32)) (by decide) dX3_fire_55 ?_
      refine g_callV F (kX3_fails hl (b := gb (¬ (¬ kiln < (0 : Int32) ∧ ¬ (1 : Int32) < kiln) ∨ (¬ (¬ heat < (700 : Int32) ∧ ¬ (1200 : Int32) < heat) ∨ (¬ (¬ hours < (1 : Int32) ∧ ¬ (12 : Int32) < hours))))) (nu := (2 : Int32)) (c := ¬ (¬ kiln < (0 : Int32) ∧ ¬ (1 : Int32) < kiln) ∨ (¬ (¬ heat < (700 : Int32) ∧ ¬ (1200 : Int32) < heat) ∨ (¬ (¬ hours < (1 : Int32) ∧ ¬ (12 : Int32) < hours)))) gb_n0 (by decide) (pr_at (κ := 0) (i := 0) (by decide) (gc1 (gnl rfl)) (gce (show (gsr S.1 0 0 (upd (S.1 0 0) 8 0)) 0 0 = upd (S.1 0 0) 8 0 from gsr_s) rfl))) (g_recv F clX3 (gd_obj (pr_at (κ := 0) (i := 0) (by decide) (gc1 (gnl rfl)) (gce (show (gsr S.1 0 0 (upd (S.1 0 0) 8 0)) 0 0 = upd (S.1 0 0) 8 0 from gsr_s) rfl)))) q1456 q1458 qs7 q25 q1459 myX3_fails ⟨by decide, by decide⟩ rfl rfl (gle rfl) 0 0 (gle rfl) (gle rfl) (gle rfl) (gle rfl) dX3_fire_56 gx_n (gv_f (fun c_6 => ?_) (fun c_6 => ?_))
      · skip
        refine g_mono (P2 := gP 1 G (gsr (gsr S.1 0 0 (upd (S.1 0 0) 8 0)) 0 0 (upd (upd (S.1 0 0) 8 0) 8 (2 : Int32)), S.2) A Fr []) (pr_upRow (κ := 0) (i := 0) gM1 hF (upd (upd (S.1 0 0) 8 0) 8 (2 : Int32)) (by decide) (gc1 (gnl rfl)) (gce (show (gsr S.1 0 0 (upd (S.1 0 0) 8 0)) 0 0 = upd (S.1 0 0) 8 0 from gsr_s) rfl) rfl) ?_
        refine g_if_eq F (tgt := 64) (by decide) dX3_fire_59 (fun c => absurd c (by decide)) (fun _ => ?_)
        refine g_iconst F (v := (-1 : Int32)) (by decide) dX3_fire_62 ?_
        exact g_retI F E rfl rfl (gle rfl) (gle rfl) dX3_fire_63 (fun _ hp => ⟨_, _, ((if_neg c_1).trans (if_pos c_6)), rfl, ⟨A, rfl, gP_T0 hp⟩⟩)
      · skip
        refine g_if_eq F (tgt := 64) (by decide) dX3_fire_59 (fun _ => ?_) (fun c => absurd c (by decide))
        refine g_aload_n F 0 rfl rfl dX3_fire_64 ?_
        refine g_get F clX3 9 (by decide) q1398 (v := .ref (A 308 0)) (gd_get (pr_at (κ := 0) (i := 0) (by decide) (gc1 (gnl rfl)) (gce (show (gsr S.1 0 0 (upd (S.1 0 0) 8 0)) 0 0 = upd (S.1 0 0) 8 0 from gsr_s) rfl)) rfl) dX3_fire_65 ?_
        refine g_iload_n F 1 rfl rfl dX3_fire_68 ?_
        refine g_callF F clJ3 (kJ3_get hl (pr_ls (M := 1) (S := (gsr S.1 0 0 (upd (S.1 0 0) 8 0), S.2)) (A := A) (κ := 8) (by decide) (Or.inl ⟨by decide, by decide⟩) (fun q => by first | decide | exact absurd q (by decide)) (fun q => by first | decide | exact absurd q (by decide))) (j := batch.toNatClampNeg) (Decidable.not_not.mp c_1).2 (gw_n hW _) rfl (Decidable.not_not.mp c_1).1) (g_recv F clJ3 (gls_obj (pr_ls (M := 1) (S := (gsr S.1 0 0 (upd (S.1 0 0) 8 0), S.2)) (A := A) (κ := 8) (by decide) (Or.inl ⟨by decide, by decide⟩) (fun q => by first | decide | exact absurd q (by decide)) (fun q => by first | decide | exact absurd q (by decide))))) q1506 q809 q811 q22 q813 (List.mem_of_getElem? (i := 1) rfl) (gT_w q812 rfl) (gT_w q810 rfl) (gT_w q293 rfl) gface_1 ⟨by decide, by decide⟩ rfl rfl (gle rfl) 0 0 (gle rfl) (gle rfl) (gle rfl) (gle rfl) dX3_fire_69 gx_n (gv_i ?_)
        refine g_castS F (g_recv F clX10 (gd_obj (pr_at (κ := 8) (i := batch.toNatClampNeg) (by decide) (gc6 (by decide) (Decidable.not_not.mp c_1).2) (gce (show (gsr S.1 0 0 (upd (S.1 0 0) 8 0)) 8 batch.toNatClampNeg = S.1 8 batch.toNatClampNeg from (gsr_p (by decide) rfl)) rfl)))) q1524 dX3_fire_74 ?_
        refine g_astore F (by show 5 < 7; decide) (lv2 := [(5, .ref (A 8 batch.toNatClampNeg)), (0, .ref (A 0 0)), (1, .int batch), (2, .int kiln), (3, .int heat), (4, .int hours)]) rfl dX3_fire_77 ?_
        refine g_aload_n F 1 rfl rfl dX3_fire_79 ?_
        refine g_aload F 0 rfl dX3_fire_80 ?_
        refine g_getN F clX10 5 (by decide) (gT_w q1535 rfl) (v := .int (S.1 8 batch.toNatClampNeg 5)) (gd_get (pr_at (κ := 8) (i := batch.toNatClampNeg) (by decide) (gc6 (by decide) (Decidable.not_not.mp c_1).2) (gce (show (gsr S.1 0 0 (upd (S.1 0 0) 8 0)) 8 batch.toNatClampNeg = S.1 8 batch.toNatClampNeg from (gsr_p (by decide) rfl)) rfl)) rfl) dX3_fire_82 ?_
        have J_11 : gW (X, G, 7, Q) (gP 1 G (gsr S.1 0 0 (upd (S.1 0 0) 8 0), S.2) A Fr []) [(5, .ref (A 8 batch.toNatClampNeg)), (0, .ref (A 0 0)), (1, .int batch), (2, .int kiln), (3, .int heat), (4, .int hours)] 127 [.int (gb (((S.1 8 batch.toNatClampNeg 5) = 0) ∨ (((S.1 0 0 0) < (S.1 8 batch.toNatClampNeg 4)) ∨ (¬ ((S.1 8 batch.toNatClampNeg 6) = (-1 : Int32)) ∨ (¬ ((S.1 4 0 kiln.toNatClampNeg) ≤ (S.1 0 0 0))))))), .ref (A 0 0)] 0 0 := by
          refine g_iconst F (v := (3 : Int32)) (by decide) dX3_fire_127 ?_
          refine g_callV F (kX3_fails hl (b := gb (((S.1 8 batch.toNatClampNeg 5) = 0) ∨ (((S.1 0 0 0) < (S.1 8 batch.toNatClampNeg 4)) ∨ (¬ ((S.1 8 batch.toNatClampNeg 6) = (-1 : Int32)) ∨ (¬ ((S.1 4 0 kiln.toNatClampNeg) ≤ (S.1 0 0 0))))))) (nu := (3 : Int32)) (c := ((S.1 8 batch.toNatClampNeg 5) = 0) ∨ (((S.1 0 0 0) < (S.1 8 batch.toNatClampNeg 4)) ∨ (¬ ((S.1 8 batch.toNatClampNeg 6) = (-1 : Int32)) ∨ (¬ ((S.1 4 0 kiln.toNatClampNeg) ≤ (S.1 0 0 0)))))) gb_n0 (by decide) (pr_at (κ := 0) (i := 0) (by decide) (gc1 (gnl rfl)) (gce (show (gsr S.1 0 0 (upd (S.1 0 0) 8 0)) 0 0 = upd (S.1 0 0) 8 0 from gsr_s) rfl))) (g_recv F clX3 (gd_obj (pr_at (κ := 0) (i := 0) (by decide) (gc1 (gnl rfl)) (gce (show (gsr S.1 0 0 (upd (S.1 0 0) 8 0)) 0 0 = upd (S.1 0 0) 8 0 from gsr_s) rfl)))) q1456 q1458 qs7 q25 q1459 myX3_fails ⟨by decide, by decide⟩ rfl rfl (gle rfl) 0 0 (gle rfl) (gle rfl) (gle rfl) (gle rfl) dX3_fire_128 gx_n (gv_f (fun c_12 => ?_) (fun c_12 => ?_))
          · skip
            refine g_mono (P2 := gP 1 G (gsr (gsr S.1 0 0 (upd (S.1 0 0) 8 0)) 0 0 (upd (upd (S.1 0 0) 8 0) 8 (3 : Int32)), S.2) A Fr []) (pr_upRow (κ := 0) (i := 0) gM1 hF (upd (upd (S.1 0 0) 8 0) 8 (3 : Int32)) (by decide) (gc1 (gnl rfl)) (gce (show (gsr S.1 0 0 (upd (S.1 0 0) 8 0)) 0 0 = upd (S.1 0 0) 8 0 from gsr_s) rfl) rfl) ?_
            refine g_if_eq F (tgt := 136) (by decide) dX3_fire_131 (fun c => absurd c (by decide)) (fun _ => ?_)
            refine g_iconst F (v := (-1 : Int32)) (by decide) dX3_fire_134 ?_
            exact g_retI F E rfl rfl (gle rfl) (gle rfl) dX3_fire_135 (fun _ hp => ⟨_, _, ((if_neg c_1).trans ((if_neg c_6).trans (if_pos c_12))), rfl, ⟨A, rfl, gP_T0 hp⟩⟩)
          · skip
            refine g_if_eq F (tgt := 136) (by decide) dX3_fire_131 (fun _ => ?_) (fun c => absurd c (by decide))
            refine g_aload_n F 1 rfl rfl dX3_fire_136 ?_
            refine g_get F clX3 6 (by decide) q1395 (v := .ref (A 307 0)) (gd_get (pr_at (κ := 0) (i := 0) (by decide) (gc1 (gnl rfl)) (gce (show (gsr S.1 0 0 (upd (S.1 0 0) 8 0)) 0 0 = upd (S.1 0 0) 8 0 from gsr_s) rfl)) rfl) dX3_fire_137 ?_
            refine g_aload F 0 rfl dX3_fire_140 ?_
            refine g_getN F clX10 0 (by decide) (gT_w q1530 rfl) (v := .int (S.1 8 batch.toNatClampNeg 0)) (gd_get (pr_at (κ := 8) (i := batch.toNatClampNeg) (by decide) (gc6 (by decide) (Decidable.not_not.mp c_1).2) (gce (show (gsr S.1 0 0 (upd (S.1 0 0) 8 0)) 8 batch.toNatClampNeg = S.1 8 batch.toNatClampNeg from (gsr_p (by decide) rfl)) rfl)) rfl) dX3_fire_142 ?_
            refine g_callF F clJ3 (kJ3_get hl (pr_ls (M := 1) (S := (gsr S.1 0 0 (upd (S.1 0 0) 8 0), S.2)) (A := A) (κ := 7) (by decide) (Or.inl ⟨by decide, by decide⟩) (fun q => by first | decide | exact absurd q (by decide)) (fun q => by first | decide | exact absurd q (by decide))) (j := (S.1 8 batch.toNatClampNeg 0).toNatClampNeg) (gw_8_0 hW (Decidable.not_not.mp c_1).2).2 (gw_n hW _) rfl (gw_8_0 hW (Decidable.not_not.mp c_1).2).1) (g_recv F clJ3 (gls_obj (pr_ls (M := 1) (S := (gsr S.1 0 0 (upd (S.1 0 0) 8 0), S.2)) (A := A) (κ := 7) (by decide) (Or.inl ⟨by decide, by decide⟩) (fun q => by first | decide | exact absurd q (by decide)) (fun q => by first | decide | exact absurd q (by decide))))) q1506 q809 q811 q22 q813 (List.mem_of_getElem? (i := 1) rfl) (gT_w q812 rfl) (gT_w q810 rfl) (gT_w q293 rfl) gface_1 ⟨by decide, by decide⟩ rfl rfl (gle rfl) 0 0 (gle rfl) (gle rfl) (gle rfl) (gle rfl) dX3_fire_145 gx_n (gv_i ?_)
            refine g_castS F (g_recvI F (pr_at (κ := 7) (i := (S.1 8 batch.toNatClampNeg 0).toNatClampNeg) (by decide) (gc6 (by decide) (gw_8_0 hW (Decidable.not_not.mp c_1).2).2) (gce (show (gsr S.1 0 0 (upd (S.1 0 0) 8 0)) 7 ((S.1 8 batch.toNatClampNeg 0).toNatClampNeg) = S.1 7 ((S.1 8 batch.toNatClampNeg 0).toNatClampNeg) from (gsr_p (by decide) rfl)) rfl))) q1507 dX3_fire_150 ?_
            refine g_iconst F (v := (2 : Int32)) (by decide) dX3_fire_153 ?_
            refine g_ialdN F (m := 2) rfl (by decide) (by decide) (pr_at (κ := 7) (i := (S.1 8 batch.toNatClampNeg 0).toNatClampNeg) (by decide) (gc6 (by decide) (gw_8_0 hW (Decidable.not_not.mp c_1).2).2) (gce (show (gsr S.1 0 0 (upd (S.1 0 0) 8 0)) 7 ((S.1 8 batch.toNatClampNeg 0).toNatClampNeg) = S.1 7 ((S.1 8 batch.toNatClampNeg 0).toNatClampNeg) from (gsr_p (by decide) rfl)) rfl)) dX3_fire_154 ?_
            change gW _ _ _ _ (.int (S.1 7 ((S.1 8 batch.toNatClampNeg 0).toNatClampNeg) 2) :: _) _ _
            refine g_istore F (by show 6 < 7; decide) (lv2 := [(6, .int (S.1 7 ((S.1 8 batch.toNatClampNeg 0).toNatClampNeg) 2)), (5, .ref (A 8 batch.toNatClampNeg)), (0, .ref (A 0 0)), (1, .int batch), (2, .int kiln), (3, .int heat), (4, .int hours)]) rfl dX3_fire_155 ?_
            refine g_aload F 1 rfl dX3_fire_157 ?_
            refine g_aload_n F 2 rfl rfl dX3_fire_159 ?_
            refine g_get F clX3 14 (by decide) q1403 (v := .int (S.1 0 0 2)) (gd_get (pr_at (κ := 0) (i := 0) (by decide) (gc1 (gnl rfl)) (gce (show (gsr S.1 0 0 (upd (S.1 0 0) 8 0)) 0 0 = upd (S.1 0 0) 8 0 from gsr_s) rfl)) rfl) dX3_fire_160 ?_
            refine g_putN (P2 := gP 1 G (gsr (gsr S.1 0 0 (upd (S.1 0 0) 8 0)) 8 batch.toNatClampNeg (upd (S.1 8 batch.toNatClampNeg) 6 (S.1 0 0 2)), S.2) A Fr []) F clX10 6 (by decide) (gT_w q1537 rfl) rfl rfl rfl (pr_put (κ := 8) (i := batch.toNatClampNeg) gM1 hF (upd (S.1 8 batch.toNatClampNeg) 6 (S.1 0 0 2)) (by decide) (gc6 (by decide) (Decidable.not_not.mp c_1).2) (gce (show (gsr S.1 0 0 (upd (S.1 0 0) 8 0)) 8 batch.toNatClampNeg = S.1 8 batch.toNatClampNeg from (gsr_p (by decide) rfl)) rfl) (gnl rfl) rfl) dX3_fire_163 ?_
            refine g_aload_n F 2 rfl rfl dX3_fire_166 ?_
            refine g_dup F rfl dX3_fire_167 ?_
            refine g_get F clX3 14 (by decide) q1403 (v := .int (S.1 0 0 2)) (gd_get (pr_at (κ := 0) (i := 0) (by decide) (gc1 (gnl rfl)) (gce (show (gsr (gsr S.1 0 0 (upd (S.1 0 0) 8 0)) 8 batch.toNatClampNeg (upd (S.1 8 batch.toNatClampNeg) 6 (S.1 0 0 2))) 0 0 = upd (S.1 0 0) 8 0 from (gsr_p (by decide) gsr_s)) rfl)) rfl) dX3_fire_168 ?_
            refine g_iconst F (v := (1 : Int32)) (by decide) dX3_fire_171 ?_
            refine g_iadd F dX3_fire_172 ?_
            refine g_put (P2 := gP 1 G (gsr (gsr (gsr S.1 0 0 (upd (S.1 0 0) 8 0)) 8 batch.toNatClampNeg (upd (S.1 8 batch.toNatClampNeg) 6 (S.1 0 0 2))) 0 0 (upd (upd (S.1 0 0) 8 0) 2 ((S.1 0 0 2) + (1 : Int32))), S.2) A Fr []) F clX3 14 (by decide) q1403 rfl rfl rfl (pr_put (κ := 0) (i := 0) gM1 hF (upd (upd (S.1 0 0) 8 0) 2 ((S.1 0 0 2) + (1 : Int32))) (by decide) (gc1 (gnl rfl)) (gce (show (gsr (gsr S.1 0 0 (upd (S.1 0 0) 8 0)) 8 batch.toNatClampNeg (upd (S.1 8 batch.toNatClampNeg) 6 (S.1 0 0 2))) 0 0 = upd (S.1 0 0) 8 0 from (gsr_p (by decide) gsr_s)) rfl) (gnl rfl) rfl) dX3_fire_173 ?_
            refine g_aload F 1 rfl dX3_fire_176 ?_
            refine g_iload_n F 4 rfl rfl dX3_fire_178 ?_
            refine g_putN (P2 := gP 1 G (gsr (gsr (gsr (gsr S.1 0 0 (upd (S.1 0 0) 8 0)) 8 batch.toNatClampNeg (upd (S.1 8 batch.toNatClampNeg) 6 (S.1 0 0 2))) 0 0 (upd (upd (S.1 0 0) 8 0) 2 ((S.1 0 0 2) + (1 : Int32)))) 8 batch.toNatClampNeg (upd (upd (S.1 8 batch.toNatClampNeg) 6 (S.1 0 0 2)) 11 kiln), S.2) A Fr []) F clX10 7 (by decide) (gT_w q1538 rfl) rfl rfl rfl (pr_put (κ := 8) (i := batch.toNatClampNeg) gM1 hF (upd (upd (S.1 8 batch.toNatClampNeg) 6 (S.1 0 0 2)) 11 kiln) (by decide) (gc6 (by decide) (Decidable.not_not.mp c_1).2) (gce (show (gsr (gsr (gsr S.1 0 0 (upd (S.1 0 0) 8 0)) 8 batch.toNatClampNeg (upd (S.1 8 batch.toNatClampNeg) 6 (S.1 0 0 2))) 0 0 (upd (upd (S.1 0 0) 8 0) 2 ((S.1 0 0 2) + (1 : Int32)))) 8 batch.toNatClampNeg = upd (S.1 8 batch.toNatClampNeg) 6 (S.1 0 0 2) from (gsr_p (by decide) gsr_s)) rfl) (gnl rfl) rfl) dX3_fire_179 ?_
            refine g_aload F 1 rfl dX3_fire_182 ?_
            refine g_aload_n F 2 rfl rfl dX3_fire_184 ?_
            refine g_get F clX3 1 (by decide) q1390 (v := .int (S.1 0 0 0)) (gd_get (pr_at (κ := 0) (i := 0) (by decide) (gc1 (gnl rfl)) (gce (show (gsr (gsr (gsr (gsr S.1 0 0 (upd (S.1 0 0) 8 0)) 8 batch.toNatClampNeg (upd (S.1 8 batch.toNatClampNeg) 6 (S.1 0 0 2))) 0 0 (upd (upd (S.1 0 0) 8 0) 2 ((S.1 0 0 2) + (1 : Int32)))) 8 batch.toNatClampNeg (upd (upd (S.1 8 batch.toNatClampNeg) 6 (S.1 0 0 2)) 11 kiln)) 0 0 = upd (upd (S.1 0 0) 8 0) 2 ((S.1 0 0 2) + (1 : Int32)) from (gsr_p (by decide) gsr_s)) rfl)) rfl) dX3_fire_185 ?_
            refine g_iload F 6 rfl dX3_fire_188 ?_
            refine g_iadd F dX3_fire_190 ?_
            refine g_putN (P2 := gP 1 G (gsr (gsr (gsr (gsr (gsr S.1 0 0 (upd (S.1 0 0) 8 0)) 8 batch.toNatClampNeg (upd (S.1 8 batch.toNatClampNeg) 6 (S.1 0 0 2))) 0 0 (upd (upd (S.1 0 0) 8 0) 2 ((S.1 0 0 2) + (1 : Int32)))) 8 batch.toNatClampNeg (upd (upd (S.1 8 batch.toNatClampNeg) 6 (S.1 0 0 2)) 11 kiln)) 8 batch.toNatClampNeg (upd (upd (upd (S.1 8 batch.toNatClampNeg) 6 (S.1 0 0 2)) 11 kiln) 4 ((S.1 0 0 0) + hours)), S.2) A Fr []) F clX10 4 (by decide) (gT_w q1534 rfl) rfl rfl rfl (pr_put (κ := 8) (i := batch.toNatClampNeg) gM1 hF (upd (upd (upd (S.1 8 batch.toNatClampNeg) 6 (S.1 0 0 2)) 11 kiln) 4 ((S.1 0 0 0) + hours)) (by decide) (gc6 (by decide) (Decidable.not_not.mp c_1).2) (gce (show (gsr (gsr (gsr (gsr S.1 0 0 (upd (S.1 0 0) 8 0)) 8 batch.toNatClampNeg (upd (S.1 8 batch.toNatClampNeg) 6 (S.1 0 0 2))) 0 0 (upd (upd (S.1 0 0) 8 0) 2 ((S.1 0 0 2) + (1 : Int32)))) 8 batch.toNatClampNeg (upd (upd (S.1 8 batch.toNatClampNeg) 6 (S.1 0 0 2)) 11 kiln)) 8 batch.toNatClampNeg = upd (upd (S.1 8 batch.toNatClampNeg) 6 (S.1 0 0 2)) 11 kiln from gsr_s) rfl) (gnl rfl) rfl) dX3_fire_191 ?_
            refine g_aload_n F 2 rfl rfl dX3_fire_194 ?_
            refine g_get F clX3 8 (by decide) q1397 (v := .ref (A 4 0)) (gd_get (pr_at (κ := 0) (i := 0) (by decide) (gc1 (gnl rfl)) (gce (show (gsr (gsr (gsr (gsr (gsr S.1 0 0 (upd (S.1 0 0) 8 0)) 8 batch.toNatClampNeg (upd (S.1 8 batch.toNatClampNeg) 6 (S.1 0 0 2))) 0 0 (upd (upd (S.1 0 0) 8 0) 2 ((S.1 0 0 2) + (1 : Int32)))) 8 batch.toNatClampNeg (upd (upd (S.1 8 batch.toNatClampNeg) 6 (S.1 0 0 2)) 11 kiln)) 8 batch.toNatClampNeg (upd (upd (upd (S.1 8 batch.toNatClampNeg) 6 (S.1 0 0 2)) 11 kiln) 4 ((S.1 0 0 0) + hours))) 0 0 = upd (upd (S.1 0 0) 8 0) 2 ((S.1 0 0 2) + (1 : Int32)) from (gsr_p (by decide) (gsr_p (by decide) gsr_s))) rfl)) rfl) dX3_fire_195 ?_
            refine g_iload_n F 4 rfl rfl dX3_fire_198 ?_
            refine g_aload F 1 rfl dX3_fire_199 ?_
            refine g_getN F clX10 4 (by decide) (gT_w q1534 rfl) (v := .int ((S.1 0 0 0) + hours)) (gd_get (pr_at (κ := 8) (i := batch.toNatClampNeg) (by decide) (gc6 (by decide) (Decidable.not_not.mp c_1).2) (gce (show (gsr (gsr (gsr (gsr (gsr S.1 0 0 (upd (S.1 0 0) 8 0)) 8 batch.toNatClampNeg (upd (S.1 8 batch.toNatClampNeg) 6 (S.1 0 0 2))) 0 0 (upd (upd (S.1 0 0) 8 0) 2 ((S.1 0 0 2) + (1 : Int32)))) 8 batch.toNatClampNeg (upd (upd (S.1 8 batch.toNatClampNeg) 6 (S.1 0 0 2)) 11 kiln)) 8 batch.toNatClampNeg (upd (upd (upd (S.1 8 batch.toNatClampNeg) 6 (S.1 0 0 2)) 11 kiln) 4 ((S.1 0 0 0) + hours))) 8 batch.toNatClampNeg = upd (upd (upd (S.1 8 batch.toNatClampNeg) 6 (S.1 0 0 2)) 11 kiln) 4 ((S.1 0 0 0) + hours) from gsr_s) rfl)) rfl) dX3_fire_201 ?_
            refine g_iast (P2 := gP 1 G (gsr (gsr (gsr (gsr (gsr (gsr S.1 0 0 (upd (S.1 0 0) 8 0)) 8 batch.toNatClampNeg (upd (S.1 8 batch.toNatClampNeg) 6 (S.1 0 0 2))) 0 0 (upd (upd (S.1 0 0) 8 0) 2 ((S.1 0 0 2) + (1 : Int32)))) 8 batch.toNatClampNeg (upd (upd (S.1 8 batch.toNatClampNeg) 6 (S.1 0 0 2)) 11 kiln)) 8 batch.toNatClampNeg (upd (upd (upd (S.1 8 batch.toNatClampNeg) 6 (S.1 0 0 2)) 11 kiln) 4 ((S.1 0 0 0) + hours))) 4 0 (upd (S.1 4 0) kiln.toNatClampNeg ((S.1 0 0 0) + hours)), S.2) A Fr []) F (gvp (K := 1) (by decide) ⟨(Decidable.not_not.mp (fun q => c_6 (Or.inl q))).1, (Decidable.not_not.mp (fun q => c_6 (Or.inl q))).2⟩) (pr_setRow (κ := 4) (i := 0) gM1 hF (upd (S.1 4 0) kiln.toNatClampNeg ((S.1 0 0 0) + hours)) (by decide) (gc1 (gnl rfl)) (gce (show (gsr (gsr (gsr (gsr (gsr S.1 0 0 (upd (S.1 0 0) 8 0)) 8 batch.toNatClampNeg (upd (S.1 8 batch.toNatClampNeg) 6 (S.1 0 0 2))) 0 0 (upd (upd (S.1 0 0) 8 0) 2 ((S.1 0 0 2) + (1 : Int32)))) 8 batch.toNatClampNeg (upd (upd (S.1 8 batch.toNatClampNeg) 6 (S.1 0 0 2)) 11 kiln)) 8 batch.toNatClampNeg (upd (upd (upd (S.1 8 batch.toNatClampNeg) 6 (S.1 0 0 2)) 11 kiln) 4 ((S.1 0 0 0) + hours))) 4 0 = S.1 4 0 from (gsr_p (by decide) (gsr_p (by decide) (gsr_p (by decide) (gsr_p (by decide) (gsr_p (by decide) rfl)))))) rfl) rfl) dX3_fire_204 ?_
            refine g_aload F 1 rfl dX3_fire_205 ?_
            refine g_sipush F (v := (1000 : Int32)) (by decide) dX3_fire_207 ?_
            refine g_iload F 0 rfl dX3_fire_210 ?_
            refine g_isub F dX3_fire_212 ?_
            refine g_iload_n F 5 rfl rfl dX3_fire_213 ?_
            refine g_sipush F (v := (600 : Int32)) (by decide) dX3_fire_214 ?_
            refine g_isub F dX3_fire_217 ?_
            refine g_imul F dX3_fire_218 ?_
            refine g_sipush F (v := (1000 : Int32)) (by decide) dX3_fire_219 ?_
            refine g_idiv F (by decide) dX3_fire_222 ?_
            refine g_bipush F (v := (20 : Int32)) (by decide) dX3_fire_223 ?_
            refine g_aload_n F 2 rfl rfl dX3_fire_225 ?_
            refine g_aload F 1 rfl dX3_fire_226 ?_
            refine g_callV F (kX3_fineness hl (pr_at (κ := 0) (i := 0) (by decide) (gc1 (gnl rfl)) (gce (show (gsr (gsr (gsr (gsr (gsr (gsr S.1 0 0 (upd (S.1 0 0) 8 0)) 8 batch.toNatClampNeg (upd (S.1 8 batch.toNatClampNeg) 6 (S.1 0 0 2))) 0 0 (upd (upd (S.1 0 0) 8 0) 2 ((S.1 0 0 2) + (1 : Int32)))) 8 batch.toNatClampNeg (upd (upd (S.1 8 batch.toNatClampNeg) 6 (S.1 0 0 2)) 11 kiln)) 8 batch.toNatClampNeg (upd (upd (upd (S.1 8 batch.toNatClampNeg) 6 (S.1 0 0 2)) 11 kiln) 4 ((S.1 0 0 0) + hours))) 4 0 (upd (S.1 4 0) kiln.toNatClampNeg ((S.1 0 0 0) + hours))) 0 0 = upd (upd (S.1 0 0) 8 0) 2 ((S.1 0 0 2) + (1 : Int32)) from (gsr_p (by decide) (gsr_p (by decide) (gsr_p (by decide) gsr_s)))) rfl)) (pr_at (κ := 8) (i := batch.toNatClampNeg) (by decide) (gc6 (by decide) (Decidable.not_not.mp c_1).2) (gce (show (gsr (gsr (gsr (gsr (gsr (gsr S.1 0 0 (upd (S.1 0 0) 8 0)) 8 batch.toNatClampNeg (upd (S.1 8 batch.toNatClampNeg) 6 (S.1 0 0 2))) 0 0 (upd (upd (S.1 0 0) 8 0) 2 ((S.1 0 0 2) + (1 : Int32)))) 8 batch.toNatClampNeg (upd (upd (S.1 8 batch.toNatClampNeg) 6 (S.1 0 0 2)) 11 kiln)) 8 batch.toNatClampNeg (upd (upd (upd (S.1 8 batch.toNatClampNeg) 6 (S.1 0 0 2)) 11 kiln) 4 ((S.1 0 0 0) + hours))) 4 0 (upd (S.1 4 0) kiln.toNatClampNeg ((S.1 0 0 0) + hours))) 8 batch.toNatClampNeg = upd (upd (upd (S.1 8 batch.toNatClampNeg) 6 (S.1 0 0 2)) 11 kiln) 4 ((S.1 0 0 0) + hours) from (gsr_p (by decide) gsr_s)) rfl)) (pr_ls (M := 1) (S := (gsr (gsr (gsr (gsr (gsr (gsr S.1 0 0 (upd (S.1 0 0) 8 0)) 8 batch.toNatClampNeg (upd (S.1 8 batch.toNatClampNeg) 6 (S.1 0 0 2))) 0 0 (upd (upd (S.1 0 0) 8 0) 2 ((S.1 0 0 2) + (1 : Int32)))) 8 batch.toNatClampNeg (upd (upd (S.1 8 batch.toNatClampNeg) 6 (S.1 0 0 2)) 11 kiln)) 8 batch.toNatClampNeg (upd (upd (upd (S.1 8 batch.toNatClampNeg) 6 (S.1 0 0 2)) 11 kiln) 4 ((S.1 0 0 0) + hours))) 4 0 (upd (S.1 4 0) kiln.toNatClampNeg ((S.1 0 0 0) + hours)), S.2)) (A := A) (κ := 7) (by decide) (Or.inl ⟨by decide, by decide⟩) (fun q => by first | decide | exact absurd q (by decide)) (fun q => by first | decide | exact absurd q (by decide))) (gw_n hW _) (gw_8_0 hW (Decidable.not_not.mp c_1).2) (pr_at (κ := 7) (i := (S.1 8 batch.toNatClampNeg 0).toNatClampNeg) (by decide) (gc6 (by decide) (gw_8_0 hW (Decidable.not_not.mp c_1).2).2) (gce (show (gsr (gsr (gsr (gsr (gsr (gsr S.1 0 0 (upd (S.1 0 0) 8 0)) 8 batch.toNatClampNeg (upd (S.1 8 batch.toNatClampNeg) 6 (S.1 0 0 2))) 0 0 (upd (upd (S.1 0 0) 8 0) 2 ((S.1 0 0 2) + (1 : Int32)))) 8 batch.toNatClampNeg (upd (upd (S.1 8 batch.toNatClampNeg) 6 (S.1 0 0 2)) 11 kiln)) 8 batch.toNatClampNeg (upd (upd (upd (S.1 8 batch.toNatClampNeg) 6 (S.1 0 0 2)) 11 kiln) 4 ((S.1 0 0 0) + hours))) 4 0 (upd (S.1 4 0) kiln.toNatClampNeg ((S.1 0 0 0) + hours))) 7 ((S.1 8 batch.toNatClampNeg 0).toNatClampNeg) = S.1 7 ((S.1 8 batch.toNatClampNeg 0).toNatClampNeg) from (gsr_p (by decide) (gsr_p (by decide) (gsr_p (by decide) (gsr_p (by decide) (gsr_p (by decide) (gsr_p (by decide) rfl))))))) rfl))) (g_recv F clX3 (gd_obj (pr_at (κ := 0) (i := 0) (by decide) (gc1 (gnl rfl)) (gce (show (gsr (gsr (gsr (gsr (gsr (gsr S.1 0 0 (upd (S.1 0 0) 8 0)) 8 batch.toNatClampNeg (upd (S.1 8 batch.toNatClampNeg) 6 (S.1 0 0 2))) 0 0 (upd (upd (S.1 0 0) 8 0) 2 ((S.1 0 0 2) + (1 : Int32)))) 8 batch.toNatClampNeg (upd (upd (S.1 8 batch.toNatClampNeg) 6 (S.1 0 0 2)) 11 kiln)) 8 batch.toNatClampNeg (upd (upd (upd (S.1 8 batch.toNatClampNeg) 6 (S.1 0 0 2)) 11 kiln) 4 ((S.1 0 0 0) + hours))) 4 0 (upd (S.1 4 0) kiln.toNatClampNeg ((S.1 0 0 0) + hours))) 0 0 = upd (upd (S.1 0 0) 8 0) 2 ((S.1 0 0 2) + (1 : Int32)) from (gsr_p (by decide) (gsr_p (by decide) (gsr_p (by decide) gsr_s)))) rfl)))) q1582 q1584 qs11 q25 q1585 myX3_fineness ⟨by decide, by decide⟩ rfl rfl (gle rfl) 0 0 (gle rfl) (gle rfl) (gle rfl) (gle rfl) dX3_fire_228 gx_n (gv_i ?_)
            refine g_imul F dX3_fire_231 ?_
            refine g_iadd F dX3_fire_232 ?_
            refine g_iconst F (v := (5 : Int32)) (by decide) dX3_fire_233 ?_
            refine g_iload F 6 rfl dX3_fire_234 ?_
            refine g_imul F dX3_fire_236 ?_
            refine g_iadd F dX3_fire_237 ?_
            refine g_putN (P2 := gP 1 G (gsr (gsr (gsr (gsr (gsr (gsr (gsr S.1 0 0 (upd (S.1 0 0) 8 0)) 8 batch.toNatClampNeg (upd (S.1 8 batch.toNatClampNeg) 6 (S.1 0 0 2))) 0 0 (upd (upd (S.1 0 0) 8 0) 2 ((S.1 0 0 2) + (1 : Int32)))) 8 batch.toNatClampNeg (upd (upd (S.1 8 batch.toNatClampNeg) 6 (S.1 0 0 2)) 11 kiln)) 8 batch.toNatClampNeg (upd (upd (upd (S.1 8 batch.toNatClampNeg) 6 (S.1 0 0 2)) 11 kiln) 4 ((S.1 0 0 0) + hours))) 4 0 (upd (S.1 4 0) kiln.toNatClampNeg ((S.1 0 0 0) + hours))) 8 batch.toNatClampNeg (upd (upd (upd (upd (S.1 8 batch.toNatClampNeg) 6 (S.1 0 0 2)) 11 kiln) 4 ((S.1 0 0 0) + hours)) 9 ((((((1000 : Int32) - (S.1 7 ((S.1 8 batch.toNatClampNeg 0).toNatClampNeg) 2)) * (heat - (600 : Int32))) / (1000 : Int32)) + ((20 : Int32) * (S.1 7 ((S.1 8 batch.toNatClampNeg 0).toNatClampNeg) 3))) + ((5 : Int32) * hours))), S.2) A Fr []) F clX10 9 (by decide) (gT_w q1540 rfl) rfl rfl rfl (pr_put (κ := 8) (i := batch.toNatClampNeg) gM1 hF (upd (upd (upd (upd (S.1 8 batch.toNatClampNeg) 6 (S.1 0 0 2)) 11 kiln) 4 ((S.1 0 0 0) + hours)) 9 ((((((1000 : Int32) - (S.1 7 ((S.1 8 batch.toNatClampNeg 0).toNatClampNeg) 2)) * (heat - (600 : Int32))) / (1000 : Int32)) + ((20 : Int32) * (S.1 7 ((S.1 8 batch.toNatClampNeg 0).toNatClampNeg) 3))) + ((5 : Int32) * hours))) (by decide) (gc6 (by decide) (Decidable.not_not.mp c_1).2) (gce (show (gsr (gsr (gsr (gsr (gsr (gsr S.1 0 0 (upd (S.1 0 0) 8 0)) 8 batch.toNatClampNeg (upd (S.1 8 batch.toNatClampNeg) 6 (S.1 0 0 2))) 0 0 (upd (upd (S.1 0 0) 8 0) 2 ((S.1 0 0 2) + (1 : Int32)))) 8 batch.toNatClampNeg (upd (upd (S.1 8 batch.toNatClampNeg) 6 (S.1 0 0 2)) 11 kiln)) 8 batch.toNatClampNeg (upd (upd (upd (S.1 8 batch.toNatClampNeg) 6 (S.1 0 0 2)) 11 kiln) 4 ((S.1 0 0 0) + hours))) 4 0 (upd (S.1 4 0) kiln.toNatClampNeg ((S.1 0 0 0) + hours))) 8 batch.toNatClampNeg = upd (upd (upd (S.1 8 batch.toNatClampNeg) 6 (S.1 0 0 2)) 11 kiln) 4 ((S.1 0 0 0) + hours) from (gsr_p (by decide) gsr_s)) rfl) (gnl rfl) rfl) dX3_fire_238 ?_
            refine g_aload F 1 rfl dX3_fire_241 ?_
            refine g_iconst F (v := (0 : Int32)) (by decide) dX3_fire_243 ?_
            refine g_sipush F (v := (999 : Int32)) (by decide) dX3_fire_244 ?_
            refine g_iload F 0 rfl dX3_fire_247 ?_
            refine g_iload_n F 5 rfl rfl dX3_fire_249 ?_
            refine g_sipush F (v := (700 : Int32)) (by decide) dX3_fire_250 ?_
            refine g_isub F dX3_fire_253 ?_
            refine g_bipush F (v := (10 : Int32)) (by decide) dX3_fire_254 ?_
            refine g_idiv F (by decide) dX3_fire_256 ?_
            refine g_isub F dX3_fire_257 ?_
            refine g_iconst F (v := (5 : Int32)) (by decide) dX3_fire_258 ?_
            refine g_aload_n F 2 rfl rfl dX3_fire_259 ?_
            refine g_aload F 1 rfl dX3_fire_260 ?_
            refine g_callV F (kX3_fineness hl (pr_at (κ := 0) (i := 0) (by decide) (gc1 (gnl rfl)) (gce (show (gsr (gsr (gsr (gsr (gsr (gsr (gsr S.1 0 0 (upd (S.1 0 0) 8 0)) 8 batch.toNatClampNeg (upd (S.1 8 batch.toNatClampNeg) 6 (S.1 0 0 2))) 0 0 (upd (upd (S.1 0 0) 8 0) 2 ((S.1 0 0 2) + (1 : Int32)))) 8 batch.toNatClampNeg (upd (upd (S.1 8 batch.toNatClampNeg) 6 (S.1 0 0 2)) 11 kiln)) 8 batch.toNatClampNeg (upd (upd (upd (S.1 8 batch.toNatClampNeg) 6 (S.1 0 0 2)) 11 kiln) 4 ((S.1 0 0 0) + hours))) 4 0 (upd (S.1 4 0) kiln.toNatClampNeg ((S.1 0 0 0) + hours))) 8 batch.toNatClampNeg (upd (upd (upd (upd (S.1 8 batch.toNatClampNeg) 6 (S.1 0 0 2)) 11 kiln) 4 ((S.1 0 0 0) + hours)) 9 ((((((1000 : Int32) - (S.1 7 ((S.1 8 batch.toNatClampNeg 0).toNatClampNeg) 2)) * (heat - (600 : Int32))) / (1000 : Int32)) + ((20 : Int32) * (S.1 7 ((S.1 8 batch.toNatClampNeg 0).toNatClampNeg) 3))) + ((5 : Int32) * hours)))) 0 0 = upd (upd (S.1 0 0) 8 0) 2 ((S.1 0 0 2) + (1 : Int32)) from (gsr_p (by decide) (gsr_p (by decide) (gsr_p (by decide) (gsr_p (by decide) gsr_s))))) rfl)) (pr_at (κ := 8) (i := batch.toNatClampNeg) (by decide) (gc6 (by decide) (Decidable.not_not.mp c_1).2) (gce (show (gsr (gsr (gsr (gsr (gsr (gsr (gsr S.1 0 0 (upd (S.1 0 0) 8 0)) 8 batch.toNatClampNeg (upd (S.1 8 batch.toNatClampNeg) 6 (S.1 0 0 2))) 0 0 (upd (upd (S.1 0 0) 8 0) 2 ((S.1 0 0 2) + (1 : Int32)))) 8 batch.toNatClampNeg (upd (upd (S.1 8 batch.toNatClampNeg) 6 (S.1 0 0 2)) 11 kiln)) 8 batch.toNatClampNeg (upd (upd (upd (S.1 8 batch.toNatClampNeg) 6 (S.1 0 0 2)) 11 kiln) 4 ((S.1 0 0 0) + hours))) 4 0 (upd (S.1 4 0) kiln.toNatClampNeg ((S.1 0 0 0) + hours))) 8 batch.toNatClampNeg (upd (upd (upd (upd (S.1 8 batch.toNatClampNeg) 6 (S.1 0 0 2)) 11 kiln) 4 ((S.1 0 0 0) + hours)) 9 ((((((1000 : Int32) - (S.1 7 ((S.1 8 batch.toNatClampNeg 0).toNatClampNeg) 2)) * (heat - (600 : Int32))) / (1000 : Int32)) + ((20 : Int32) * (S.1 7 ((S.1 8 batch.toNatClampNeg 0).toNatClampNeg) 3))) + ((5 : Int32) * hours)))) 8 batch.toNatClampNeg = upd (upd (upd (upd (S.1 8 batch.toNatClampNeg) 6 (S.1 0 0 2)) 11 kiln) 4 ((S.1 0 0 0) + hours)) 9 ((((((1000 : Int32) - (S.1 7 ((S.1 8 batch.toNatClampNeg 0).toNatClampNeg) 2)) * (heat - (600 : Int32))) / (1000 : Int32)) + ((20 : Int32) * (S.1 7 ((S.1 8 batch.toNatClampNeg 0).toNatClampNeg) 3))) + ((5 : Int32) * hours)) from gsr_s) rfl)) (pr_ls (M := 1) (S := (gsr (gsr (gsr (gsr (gsr (gsr (gsr S.1 0 0 (upd (S.1 0 0) 8 0)) 8 batch.toNatClampNeg (upd (S.1 8 batch.toNatClampNeg) 6 (S.1 0 0 2))) 0 0 (upd (upd (S.1 0 0) 8 0) 2 ((S.1 0 0 2) + (1 : Int32)))) 8 batch.toNatClampNeg (upd (upd (S.1 8 batch.toNatClampNeg) 6 (S.1 0 0 2)) 11 kiln)) 8 batch.toNatClampNeg (upd (upd (upd (S.1 8 batch.toNatClampNeg) 6 (S.1 0 0 2)) 11 kiln) 4 ((S.1 0 0 0) + hours))) 4 0 (upd (S.1 4 0) kiln.toNatClampNeg ((S.1 0 0 0) + hours))) 8 batch.toNatClampNeg (upd (upd (upd (upd (S.1 8 batch.toNatClampNeg) 6 (S.1 0 0 2)) 11 kiln) 4 ((S.1 0 0 0) + hours)) 9 ((((((1000 : Int32) - (S.1 7 ((S.1 8 batch.toNatClampNeg 0).toNatClampNeg) 2)) * (heat - (600 : Int32))) / (1000 : Int32)) + ((20 : Int32) * (S.1 7 ((S.1 8 batch.toNatClampNeg 0).toNatClampNeg) 3))) + ((5 : Int32) * hours))), S.2)) (A := A) (κ := 7) (by decide) (Or.inl ⟨by decide, by decide⟩) (fun q => by first | decide | exact absurd q (by decide)) (fun q => by first | decide | exact absurd q (by decide))) (gw_n hW _) (gw_8_0 hW (Decidable.not_not.mp c_1).2) (pr_at (κ := 7) (i := (S.1 8 batch.toNatClampNeg 0).toNatClampNeg) (by decide) (gc6 (by decide) (gw_8_0 hW (Decidable.not_not.mp c_1).2).2) (gce (show (gsr (gsr (gsr (gsr (gsr (gsr (gsr S.1 0 0 (upd (S.1 0 0) 8 0)) 8 batch.toNatClampNeg (upd (S.1 8 batch.toNatClampNeg) 6 (S.1 0 0 2))) 0 0 (upd (upd (S.1 0 0) 8 0) 2 ((S.1 0 0 2) + (1 : Int32)))) 8 batch.toNatClampNeg (upd (upd (S.1 8 batch.toNatClampNeg) 6 (S.1 0 0 2)) 11 kiln)) 8 batch.toNatClampNeg (upd (upd (upd (S.1 8 batch.toNatClampNeg) 6 (S.1 0 0 2)) 11 kiln) 4 ((S.1 0 0 0) + hours))) 4 0 (upd (S.1 4 0) kiln.toNatClampNeg ((S.1 0 0 0) + hours))) 8 batch.toNatClampNeg (upd (upd (upd (upd (S.1 8 batch.toNatClampNeg) 6 (S.1 0 0 2)) 11 kiln) 4 ((S.1 0 0 0) + hours)) 9 ((((((1000 : Int32) - (S.1 7 ((S.1 8 batch.toNatClampNeg 0).toNatClampNeg) 2)) * (heat - (600 : Int32))) / (1000 : Int32)) + ((20 : Int32) * (S.1 7 ((S.1 8 batch.toNatClampNeg 0).toNatClampNeg) 3))) + ((5 : Int32) * hours)))) 7 ((S.1 8 batch.toNatClampNeg 0).toNatClampNeg) = S.1 7 ((S.1 8 batch.toNatClampNeg 0).toNatClampNeg) from (gsr_p (by decide) (gsr_p (by decide) (gsr_p (by decide) (gsr_p (by decide) (gsr_p (by decide) (gsr_p (by decide) (gsr_p (by decide) rfl)))))))) rfl))) (g_recv F clX3 (gd_obj (pr_at (κ := 0) (i := 0) (by decide) (gc1 (gnl rfl)) (gce (show (gsr (gsr (gsr (gsr (gsr (gsr (gsr S.1 0 0 (upd (S.1 0 0) 8 0)) 8 batch.toNatClampNeg (upd (S.1 8 batch.toNatClampNeg) 6 (S.1 0 0 2))) 0 0 (upd (upd (S.1 0 0) 8 0) 2 ((S.1 0 0 2) + (1 : Int32)))) 8 batch.toNatClampNeg (upd (upd (S.1 8 batch.toNatClampNeg) 6 (S.1 0 0 2)) 11 kiln)) 8 batch.toNatClampNeg (upd (upd (upd (S.1 8 batch.toNatClampNeg) 6 (S.1 0 0 2)) 11 kiln) 4 ((S.1 0 0 0) + hours))) 4 0 (upd (S.1 4 0) kiln.toNatClampNeg ((S.1 0 0 0) + hours))) 8 batch.toNatClampNeg (upd (upd (upd (upd (S.1 8 batch.toNatClampNeg) 6 (S.1 0 0 2)) 11 kiln) 4 ((S.1 0 0 0) + hours)) 9 ((((((1000 : Int32) - (S.1 7 ((S.1 8 batch.toNatClampNeg 0).toNatClampNeg) 2)) * (heat - (600 : Int32))) / (1000 : Int32)) + ((20 : Int32) * (S.1 7 ((S.1 8 batch.toNatClampNeg 0).toNatClampNeg) 3))) + ((5 : Int32) * hours)))) 0 0 = upd (upd (S.1 0 0) 8 0) 2 ((S.1 0 0 2) + (1 : Int32)) from (gsr_p (by decide) (gsr_p (by decide) (gsr_p (by decide) (gsr_p (by decide) gsr_s))))) rfl)))) q1582 q1584 qs11 q25 q1585 myX3_fineness ⟨by decide, by decide⟩ rfl rfl (gle rfl) 0 0 (gle rfl) (gle rfl) (gle rfl) (gle rfl) dX3_fire_262 gx_n (gv_i ?_)
            refine g_imul F dX3_fire_265 ?_
            refine g_iadd F dX3_fire_266 ?_
            refine g_mmin F q1512 (gle rfl) (gle rfl) (gle rfl) (gle rfl) dX3_fire_267 ?_
            refine g_mmax F q1513 (gle rfl) (gle rfl) (gle rfl) (gle rfl) dX3_fire_270 ?_
            refine g_putN (P2 := gP 1 G (gsr (gsr (gsr (gsr (gsr (gsr (gsr (gsr S.1 0 0 (upd (S.1 0 0) 8 0)) 8 batch.toNatClampNeg (upd (S.1 8 batch.toNatClampNeg) 6 (S.1 0 0 2))) 0 0 (upd (upd (S.1 0 0) 8 0) 2 ((S.1 0 0 2) + (1 : Int32)))) 8 batch.toNatClampNeg (upd (upd (S.1 8 batch.toNatClampNeg) 6 (S.1 0 0 2)) 11 kiln)) 8 batch.toNatClampNeg (upd (upd (upd (S.1 8 batch.toNatClampNeg) 6 (S.1 0 0 2)) 11 kiln) 4 ((S.1 0 0 0) + hours))) 4 0 (upd (S.1 4 0) kiln.toNatClampNeg ((S.1 0 0 0) + hours))) 8 batch.toNatClampNeg (upd (upd (upd (upd (S.1 8 batch.toNatClampNeg) 6 (S.1 0 0 2)) 11 kiln) 4 ((S.1 0 0 0) + hours)) 9 ((((((1000 : Int32) - (S.1 7 ((S.1 8 batch.toNatClampNeg 0).toNatClampNeg) 2)) * (heat - (600 : Int32))) / (1000 : Int32)) + ((20 : Int32) * (S.1 7 ((S.1 8 batch.toNatClampNeg 0).toNatClampNeg) 3))) + ((5 : Int32) * hours)))) 8 batch.toNatClampNeg (upd (upd (upd (upd (upd (S.1 8 batch.toNatClampNeg) 6 (S.1 0 0 2)) 11 kiln) 4 ((S.1 0 0 0) + hours)) 9 ((((((1000 : Int32) - (S.1 7 ((S.1 8 batch.toNatClampNeg 0).toNatClampNeg) 2)) * (heat - (600 : Int32))) / (1000 : Int32)) + ((20 : Int32) * (S.1 7 ((S.1 8 batch.toNatClampNeg 0).toNatClampNeg) 3))) + ((5 : Int32) * hours))) 10 (gmax (0 : Int32) (gmin (999 : Int32) (((S.1 7 ((S.1 8 batch.toNatClampNeg 0).toNatClampNeg) 2) - ((heat - (700 : Int32)) / (10 : Int32))) + ((5 : Int32) * (S.1 7 ((S.1 8 batch.toNatClampNeg 0).toNatClampNeg) 3)))))), S.2) A Fr []) F clX10 10 (by decide) (gT_w q1541 rfl) rfl rfl rfl (pr_put (κ := 8) (i := batch.toNatClampNeg) gM1 hF (upd (upd (upd (upd (upd (S.1 8 batch.toNatClampNeg) 6 (S.1 0 0 2)) 11 kiln) 4 ((S.1 0 0 0) + hours)) 9 ((((((1000 : Int32) - (S.1 7 ((S.1 8 batch.toNatClampNeg 0).toNatClampNeg) 2)) * (heat - (600 : Int32))) / (1000 : Int32)) + ((20 : Int32) * (S.1 7 ((S.1 8 batch.toNatClampNeg 0).toNatClampNeg) 3))) + ((5 : Int32) * hours))) 10 (gmax (0 : Int32) (gmin (999 : Int32) (((S.1 7 ((S.1 8 batch.toNatClampNeg 0).toNatClampNeg) 2) - ((heat - (700 : Int32)) / (10 : Int32))) + ((5 : Int32) * (S.1 7 ((S.1 8 batch.toNatClampNeg 0).toNatClampNeg) 3)))))) (by decide) (gc6 (by decide) (Decidable.not_not.mp c_1).2) (gce (show (gsr (gsr (gsr (gsr (gsr (gsr (gsr S.1 0 0 (upd (S.1 0 0) 8 0)) 8 batch.toNatClampNeg (upd (S.1 8 batch.toNatClampNeg) 6 (S.1 0 0 2))) 0 0 (upd (upd (S.1 0 0) 8 0) 2 ((S.1 0 0 2) + (1 : Int32)))) 8 batch.toNatClampNeg (upd (upd (S.1 8 batch.toNatClampNeg) 6 (S.1 0 0 2)) 11 kiln)) 8 batch.toNatClampNeg (upd (upd (upd (S.1 8 batch.toNatClampNeg) 6 (S.1 0 0 2)) 11 kiln) 4 ((S.1 0 0 0) + hours))) 4 0 (upd (S.1 4 0) kiln.toNatClampNeg ((S.1 0 0 0) + hours))) 8 batch.toNatClampNeg (upd (upd (upd (upd (S.1 8 batch.toNatClampNeg) 6 (S.1 0 0 2)) 11 kiln) 4 ((S.1 0 0 0) + hours)) 9 ((((((1000 : Int32) - (S.1 7 ((S.1 8 batch.toNatClampNeg 0).toNatClampNeg) 2)) * (heat - (600 : Int32))) / (1000 : Int32)) + ((20 : Int32) * (S.1 7 ((S.1 8 batch.toNatClampNeg 0).toNatClampNeg) 3))) + ((5 : Int32) * hours)))) 8 batch.toNatClampNeg = upd (upd (upd (upd (S.1 8 batch.toNatClampNeg) 6 (S.1 0 0 2)) 11 kiln) 4 ((S.1 0 0 0) + hours)) 9 ((((((1000 : Int32) - (S.1 7 ((S.1 8 batch.toNatClampNeg 0).toNatClampNeg) 2)) * (heat - (600 : Int32))) / (1000 : Int32)) + ((20 : Int32) * (S.1 7 ((S.1 8 batch.toNatClampNeg 0).toNatClampNeg) 3))) + ((5 : Int32) * hours)) from gsr_s) rfl) (gnl rfl) rfl) dX3_fire_273 ?_
            refine g_aload F 1 rfl dX3_fire_276 ?_
            refine g_getN F clX10 6 (by decide) (gT_w q1537 rfl) (v := .int (S.1 0 0 2)) (gd_get (pr_at (κ := 8) (i := batch.toNatClampNeg) (by decide) (gc6 (by decide) (Decidable.not_not.mp c_1).2) (gce (show (gsr (gsr (gsr (gsr (gsr (gsr (gsr (gsr S.1 0 0 (upd (S.1 0 0) 8 0)) 8 batch.toNatClampNeg (upd (S.1 8 batch.toNatClampNeg) 6 (S.1 0 0 2))) 0 0 (upd (upd (S.1 0 0) 8 0) 2 ((S.1 0 0 2) + (1 : Int32)))) 8 batch.toNatClampNeg (upd (upd (S.1 8 batch.toNatClampNeg) 6 (S.1 0 0 2)) 11 kiln)) 8 batch.toNatClampNeg (upd (upd (upd (S.1 8 batch.toNatClampNeg) 6 (S.1 0 0 2)) 11 kiln) 4 ((S.1 0 0 0) + hours))) 4 0 (upd (S.1 4 0) kiln.toNatClampNeg ((S.1 0 0 0) + hours))) 8 batch.toNatClampNeg (upd (upd (upd (upd (S.1 8 batch.toNatClampNeg) 6 (S.1 0 0 2)) 11 kiln) 4 ((S.1 0 0 0) + hours)) 9 ((((((1000 : Int32) - (S.1 7 ((S.1 8 batch.toNatClampNeg 0).toNatClampNeg) 2)) * (heat - (600 : Int32))) / (1000 : Int32)) + ((20 : Int32) * (S.1 7 ((S.1 8 batch.toNatClampNeg 0).toNatClampNeg) 3))) + ((5 : Int32) * hours)))) 8 batch.toNatClampNeg (upd (upd (upd (upd (upd (S.1 8 batch.toNatClampNeg) 6 (S.1 0 0 2)) 11 kiln) 4 ((S.1 0 0 0) + hours)) 9 ((((((1000 : Int32) - (S.1 7 ((S.1 8 batch.toNatClampNeg 0).toNatClampNeg) 2)) * (heat - (600 : Int32))) / (1000 : Int32)) + ((20 : Int32) * (S.1 7 ((S.1 8 batch.toNatClampNeg 0).toNatClampNeg) 3))) + ((5 : Int32) * hours))) 10 (gmax (0 : Int32) (gmin (999 : Int32) (((S.1 7 ((S.1 8 batch.toNatClampNeg 0).toNatClampNeg) 2) - ((heat - (700 : Int32)) / (10 : Int32))) + ((5 : Int32) * (S.1 7 ((S.1 8 batch.toNatClampNeg 0).toNatClampNeg) 3))))))) 8 batch.toNatClampNeg = upd (upd (upd (upd (upd (S.1 8 batch.toNatClampNeg) 6 (S.1 0 0 2)) 11 kiln) 4 ((S.1 0 0 0) + hours)) 9 ((((((1000 : Int32) - (S.1 7 ((S.1 8 batch.toNatClampNeg 0).toNatClampNeg) 2)) * (heat - (600 : Int32))) / (1000 : Int32)) + ((20 : Int32) * (S.1 7 ((S.1 8 batch.toNatClampNeg 0).toNatClampNeg) 3))) + ((5 : Int32) * hours))) 10 (gmax (0 : Int32) (gmin (999 : Int32) (((S.1 7 ((S.1 8 batch.toNatClampNeg 0).toNatClampNeg) 2) - ((heat - (700 : Int32)) / (10 : Int32))) + ((5 : Int32) * (S.1 7 ((S.1 8 batch.toNatClampNeg 0).toNatClampNeg) 3))))) from gsr_s) rfl)) rfl) dX3_fire_278 ?_
            exact g_retI F E rfl rfl (gle rfl) (gle rfl) dX3_fire_281 (fun _ hp => ⟨_, _, ((if_neg c_1).trans ((if_neg c_6).trans (if_neg c_12))), rfl, ⟨A, rfl, gP_T0 hp⟩⟩)
        refine g_if_eq F (tgt := 122) (by decide) dX3_fire_85 (fun c_7 => ?_) (fun c_7 => ?_)
        · skip
          refine g_iconst F (v := (1 : Int32)) (by decide) dX3_fire_122 ?_
          refine g_goto F (tgt := 127) (by decide) dX3_fire_123 ?_
          exact g_top (gb_t (Or.inl c_7)) J_11
        · skip
          refine g_aload_n F 1 rfl rfl dX3_fire_88 ?_
          refine g_get F clX3 1 (by decide) q1390 (v := .int (S.1 0 0 0)) (gd_get (pr_at (κ := 0) (i := 0) (by decide) (gc1 (gnl rfl)) (gce (show (gsr S.1 0 0 (upd (S.1 0 0) 8 0)) 0 0 = upd (S.1 0 0) 8 0 from gsr_s) rfl)) rfl) dX3_fire_89 ?_
          refine g_aload F 0 rfl dX3_fire_92 ?_
          refine g_getN F clX10 4 (by decide) (gT_w q1534 rfl) (v := .int (S.1 8 batch.toNatClampNeg 4)) (gd_get (pr_at (κ := 8) (i := batch.toNatClampNeg) (by decide) (gc6 (by decide) (Decidable.not_not.mp c_1).2) (gce (show (gsr S.1 0 0 (upd (S.1 0 0) 8 0)) 8 batch.toNatClampNeg = S.1 8 batch.toNatClampNeg from (gsr_p (by decide) rfl)) rfl)) rfl) dX3_fire_94 ?_
          refine g_icmp_lt F (tgt := 122) (by decide) dX3_fire_97 (fun c_8 => ?_) (fun c_8 => ?_)
          · skip
            refine g_iconst F (v := (1 : Int32)) (by decide) dX3_fire_122 ?_
            refine g_goto F (tgt := 127) (by decide) dX3_fire_123 ?_
            exact g_top (gb_t (Or.inr (Or.inl c_8))) J_11
          · skip
            refine g_aload F 0 rfl dX3_fire_100 ?_
            refine g_getN F clX10 6 (by decide) (gT_w q1537 rfl) (v := .int (S.1 8 batch.toNatClampNeg 6)) (gd_get (pr_at (κ := 8) (i := batch.toNatClampNeg) (by decide) (gc6 (by decide) (Decidable.not_not.mp c_1).2) (gce (show (gsr S.1 0 0 (upd (S.1 0 0) 8 0)) 8 batch.toNatClampNeg = S.1 8 batch.toNatClampNeg from (gsr_p (by decide) rfl)) rfl)) rfl) dX3_fire_102 ?_
            refine g_iconst F (v := (-1 : Int32)) (by decide) dX3_fire_105 ?_
            refine g_icmp_ne F (tgt := 122) (by decide) dX3_fire_106 (fun c_9 => ?_) (fun c_9 => ?_)
            · skip
              refine g_iconst F (v := (1 : Int32)) (by decide) dX3_fire_122 ?_
              refine g_goto F (tgt := 127) (by decide) dX3_fire_123 ?_
              exact g_top (gb_t (Or.inr (Or.inr (Or.inl c_9)))) J_11
            · skip
              refine g_aload_n F 1 rfl rfl dX3_fire_109 ?_
              refine g_get F clX3 1 (by decide) q1390 (v := .int (S.1 0 0 0)) (gd_get (pr_at (κ := 0) (i := 0) (by decide) (gc1 (gnl rfl)) (gce (show (gsr S.1 0 0 (upd (S.1 0 0) 8 0)) 0 0 = upd (S.1 0 0) 8 0 from gsr_s) rfl)) rfl) dX3_fire_110 ?_
              refine g_aload_n F 1 rfl rfl dX3_fire_113 ?_
              refine g_get F clX3 8 (by decide) q1397 (v := .ref (A 4 0)) (gd_get (pr_at (κ := 0) (i := 0) (by decide) (gc1 (gnl rfl)) (gce (show (gsr S.1 0 0 (upd (S.1 0 0) 8 0)) 0 0 = upd (S.1 0 0) 8 0 from gsr_s) rfl)) rfl) dX3_fire_114 ?_
              refine g_iload_n F 3 rfl rfl dX3_fire_117 ?_
              refine g_iald F (gvp (K := 1) (by decide) ⟨(Decidable.not_not.mp (fun q => c_6 (Or.inl q))).1, (Decidable.not_not.mp (fun q => c_6 (Or.inl q))).2⟩) (pr_at (κ := 4) (i := 0) (by decide) (gc1 (gnl rfl)) (gce (show (gsr S.1 0 0 (upd (S.1 0 0) 8 0)) 4 0 = S.1 4 0 from (gsr_p (by decide) rfl)) rfl)) dX3_fire_118 ?_
              change gW _ _ _ _ (.int (S.1 4 0 kiln.toNatClampNeg) :: _) _ _
              refine g_icmp_ge F (tgt := 126) (by decide) dX3_fire_119 (fun c_10 => ?_) (fun c_10 => ?_)
              · skip
                refine g_iconst F (v := (0 : Int32)) (by decide) dX3_fire_126 ?_
                exact g_top (gb_f (fun q => q.elim c_7 (fun q => q.elim c_8 (fun q => q.elim (fun z => z c_9) (fun q => q c_10))))) J_11
              · skip
                refine g_iconst F (v := (1 : Int32)) (by decide) dX3_fire_122 ?_
                refine g_goto F (tgt := 127) (by decide) dX3_fire_123 ?_
                exact g_top (gb_t (Or.inr (Or.inr (Or.inr c_10)))) J_11
    refine gb_if_eq F (tgt := 50) (by decide) dX3_fire_20 (fun c_2 => ?_) (fun c_2 => ?_)
    · skip
      refine g_iconst F (v := (1 : Int32)) (by decide) dX3_fire_50 ?_
      refine g_goto F (tgt := 55) (by decide) dX3_fire_51 ?_
      exact g_top (gb_t (Or.inl c_2)) J_5
    · skip
      refine g_iload_n F 3 rfl rfl dX3_fire_23 ?_
      refine g_i2l F dX3_fire_24 ?_
      refine g_ldc2 F (v := (700 : Int64)) q1590 dX3_fire_25 ?_
      refine g_ldc2 F (v := (1200 : Int64)) q1591 dX3_fire_28 ?_
      refine g_callS F (kX3_in hl (x := heat) (lo := (700 : Int32)) (hi := (1200 : Int32)) (by decide) (by decide)) (lw_S q1453 q1454 q25 q1455) myX3_in ⟨by decide, by decide⟩ rfl rfl (gle rfl) 0 0 (gle rfl) (gle rfl) (gle rfl) (gle rfl) dX3_fire_31 gx_n (gv_i ?_)
      refine gb_if_eq F (tgt := 50) (by decide) dX3_fire_34 (fun c_3 => ?_) (fun c_3 => ?_)
      · skip
        refine g_iconst F (v := (1 : Int32)) (by decide) dX3_fire_50 ?_
        refine g_goto F (tgt := 55) (by decide) dX3_fire_51 ?_
        exact g_top (gb_t (Or.inr (Or.inl c_3))) J_5
      · skip
        refine g_iload F 4 rfl dX3_fire_37 ?_
        refine g_i2l F dX3_fire_39 ?_
        refine g_lconst F (v := (1 : Int64)) (by decide) dX3_fire_40 ?_
        refine g_ldc2 F (v := (12 : Int64)) q1592 dX3_fire_41 ?_
        refine g_callS F (kX3_in hl (x := hours) (lo := (1 : Int32)) (hi := (12 : Int32)) (by decide) (by decide)) (lw_S q1453 q1454 q25 q1455) myX3_in ⟨by decide, by decide⟩ rfl rfl (gle rfl) 0 0 (gle rfl) (gle rfl) (gle rfl) (gle rfl) dX3_fire_44 gx_n (gv_i ?_)
        refine gb_if_ne F (tgt := 54) (by decide) dX3_fire_47 (fun c_4 => ?_) (fun c_4 => ?_)
        · skip
          refine g_iconst F (v := (0 : Int32)) (by decide) dX3_fire_54 ?_
          exact g_top (gb_f (fun q => q.elim (fun z => z c_2) (fun q => q.elim (fun z => z c_3) (fun q => q c_4)))) J_5
        · skip
          refine g_iconst F (v := (1 : Int32)) (by decide) dX3_fire_50 ?_
          refine g_goto F (tgt := 55) (by decide) dX3_fire_51 ?_
          exact g_top (gb_t (Or.inr (Or.inr c_4))) J_5

def sM_soak (S : gS) (batch wax : Int32) : Value × gS := if ¬ gIn batch (S.2 8) then (.int (-1 : Int32), (gsr (gsr S.1 0 0 (upd (S.1 0 0) 8 0)) 0 0 (upd (upd (S.1 0 0) 8 0) 8 1), S.2)) else (if ¬ (¬ wax < (1 : Int32) ∧ ¬ (5 : Int32) < wax) then (.int (-1 : Int32), (gsr (gsr S.1 0 0 (upd (S.1 0 0) 8 0)) 0 0 (upd (upd (S.1 0 0) 8 0) 8 (2 : Int32)), S.2)) else (if ¬ (¬ ((S.1 8 batch.toNatClampNeg 6) = (-1 : Int32)) ∧ ¬ ((S.1 0 0 0) < (S.1 8 batch.toNatClampNeg 4))) ∨ (¬ ((S.1 8 batch.toNatClampNeg 8) = 0)) then (.int (-1 : Int32), (gsr (gsr S.1 0 0 (upd (S.1 0 0) 8 0)) 0 0 (upd (upd (S.1 0 0) 8 0) 8 (3 : Int32)), S.2)) else (.int ((S.1 8 batch.toNatClampNeg 9) + ((10 : Int32) * wax)), (gsr (gsr (gsr (gsr S.1 0 0 (upd (S.1 0 0) 8 0)) 8 batch.toNatClampNeg (upd (S.1 8 batch.toNatClampNeg) 8 (1 : Int32))) 8 batch.toNatClampNeg (upd (upd (S.1 8 batch.toNatClampNeg) 8 (1 : Int32)) 9 ((S.1 8 batch.toNatClampNeg 9) + ((10 : Int32) * wax)))) 8 batch.toNatClampNeg (upd (upd (upd (S.1 8 batch.toNatClampNeg) 8 (1 : Int32)) 9 ((S.1 8 batch.toNatClampNeg 9) + ((10 : Int32) * wax))) 10 (gmin (999 : Int32) ((S.1 8 batch.toNatClampNeg 10) + ((8 : Int32) * wax)))), S.2))))
theorem kX3_soak {l : Launch} {G : gG} (hl : l.stackTraces = false) {S : gS} {a0 : Nat} {Fr : gH → Prop} (hF : gFr 1 Fr) (hW : gWf S) {batch wax : Int32}  : gMet l yX3_soak (ws_ yX3_soak cX3_soak 4 (some .int)) ⟨3, 0, 0, 67⟩ G [.ref a0, .int batch, .int wax] (gPE 1 G S a0 Fr) (gqN (sM_soak S batch wax) G a0 Fr) gxN := by
  refine gMet_of hl pnX3 (gle rfl) (fun X Q hX F E hNm => ?_)
  subst hX
  change gW (X, G, 4, Q) (gPE 1 G S a0 Fr) [(0, .ref a0), (1, .int batch), (2, .int wax)] 0 [] 0 0
  refine g_pe (fun A hA => ?_)
  subst hA
  change gW _ _ [(0, .ref (A 0 0)), (1, .int batch), (2, .int wax)] 0 [] 0 0
  refine g_aload_n F 0 rfl rfl dX3_soak_0 ?_
  refine g_callV F (kX3_begins hl (pr_at (κ := 0) (i := 0) (by decide) (gc1 (gnl rfl)) (gce rfl rfl))) (g_recv F clX3 (gd_obj (pr_at (κ := 0) (i := 0) (by decide) (gc1 (gnl rfl)) (gce rfl rfl)))) q1448 q1450 qs6 q25 q1451 myX3_begins ⟨by decide, by decide⟩ rfl rfl (gle rfl) 0 0 (gle rfl) (gle rfl) (gle rfl) (gle rfl) dX3_soak_1 gx_n (gv_v ?_)
  refine g_mono (P2 := gP 1 G (gsr S.1 0 0 (upd (S.1 0 0) 8 0), S.2) A Fr []) (pr_upRow (κ := 0) (i := 0) gM1 hF (upd (S.1 0 0) 8 0) (by decide) (gc1 (gnl rfl)) (gce rfl rfl) rfl) ?_
  refine g_aload_n F 0 rfl rfl dX3_soak_4 ?_
  refine g_iload_n F 1 rfl rfl dX3_soak_5 ?_
  refine g_callV F (kX3_noBatch hl hF hW (x := batch)) (g_recv F clX3 (gd_obj (pr_at (κ := 0) (i := 0) (by decide) (gc1 (gnl rfl)) (gce (show (gsr S.1 0 0 (upd (S.1 0 0) 8 0)) 0 0 = upd (S.1 0 0) 8 0 from gsr_s) rfl)))) q1577 q1579 qs10 q25 q1580 myX3_noBatch ⟨by decide, by decide⟩ rfl rfl (gle rfl) 0 0 (gle rfl) (gle rfl) (gle rfl) (gle rfl) dX3_soak_6 gx_n (gv_f (fun c_1 => ?_) (fun c_1 => ?_))
  · skip
    refine g_if_ne F (tgt := 89) (by decide) dX3_soak_9 (fun _ => ?_) (fun c => absurd c (by decide))
    refine g_iconst F (v := (-1 : Int32)) (by decide) dX3_soak_89 ?_
    exact g_retI F E rfl rfl (gle rfl) (gle rfl) dX3_soak_90 (fun _ hp => ⟨_, _, (if_pos c_1), rfl, ⟨A, rfl, gP_T0 hp⟩⟩)
  · skip
    refine g_if_ne F (tgt := 89) (by decide) dX3_soak_9 (fun c => absurd c (by decide)) (fun _ => ?_)
    refine g_aload_n F 0 rfl rfl dX3_soak_12 ?_
    refine g_iload_n F 2 rfl rfl dX3_soak_13 ?_
    refine g_i2l F dX3_soak_14 ?_
    refine g_lconst F (v := (1 : Int64)) (by decide) dX3_soak_15 ?_
    refine g_ldc2 F (v := (5 : Int64)) q1581 dX3_soak_16 ?_
    refine g_callS F (kX3_in hl (x := wax) (lo := (1 : Int32)) (hi := (5 : Int32)) (by decide) (by decide)) (lw_S q1453 q1454 q25 q1455) myX3_in ⟨by decide, by decide⟩ rfl rfl (gle rfl) 0 0 (gle rfl) (gle rfl) (gle rfl) (gle rfl) dX3_soak_19 gx_n (gv_i ?_)
    have J_3 : gW (X, G, 4, Q) (gP 1 G (gsr S.1 0 0 (upd (S.1 0 0) 8 0), S.2) A Fr []) [(0, .ref (A 0 0)), (1, .int batch), (2, .int wax)] 30 [.int (gb (¬ (¬ wax < (1 : Int32) ∧ ¬ (5 : Int32) < wax))), .ref (A 0 0)] 0 0 := by
      refine g_iconst F (v := (2 : Int32)) (by decide) dX3_soak_30 ?_
      refine g_callV F (kX3_fails hl (b := gb (¬ (¬ wax < (1 : Int32) ∧ ¬ (5 : Int32) < wax))) (nu := (2 : Int32)) (c := ¬ (¬ wax < (1 : Int32) ∧ ¬ (5 : Int32) < wax)) gb_n0 (by decide) (pr_at (κ := 0) (i := 0) (by decide) (gc1 (gnl rfl)) (gce (show (gsr S.1 0 0 (upd (S.1 0 0) 8 0)) 0 0 = upd (S.1 0 0) 8 0 from gsr_s) rfl))) (g_recv F clX3 (gd_obj (pr_at (κ := 0) (i := 0) (by decide) (gc1 (gnl rfl)) (gce (show (gsr S.1 0 0 (upd (S.1 0 0) 8 0)) 0 0 = upd (S.1 0 0) 8 0 from gsr_s) rfl)))) q1456 q1458 qs7 q25 q1459 myX3_fails ⟨by decide, by decide⟩ rfl rfl (gle rfl) 0 0 (gle rfl) (gle rfl) (gle rfl) (gle rfl) dX3_soak_31 gx_n (gv_f (fun c_4 => ?_) (fun c_4 => ?_))
      · skip
        refine g_mono (P2 := gP 1 G (gsr (gsr S.1 0 0 (upd (S.1 0 0) 8 0)) 0 0 (upd (upd (S.1 0 0) 8 0) 8 (2 : Int32)), S.2) A Fr []) (pr_upRow (κ := 0) (i := 0) gM1 hF (upd (upd (S.1 0 0) 8 0) 8 (2 : Int32)) (by decide) (gc1 (gnl rfl)) (gce (show (gsr S.1 0 0 (upd (S.1 0 0) 8 0)) 0 0 = upd (S.1 0 0) 8 0 from gsr_s) rfl) rfl) ?_
        refine g_if_ne F (tgt := 89) (by decide) dX3_soak_34 (fun _ => ?_) (fun c => absurd c (by decide))
        refine g_iconst F (v := (-1 : Int32)) (by decide) dX3_soak_89 ?_
        exact g_retI F E rfl rfl (gle rfl) (gle rfl) dX3_soak_90 (fun _ hp => ⟨_, _, ((if_neg c_1).trans (if_pos c_4)), rfl, ⟨A, rfl, gP_T0 hp⟩⟩)
      · skip
        refine g_if_ne F (tgt := 89) (by decide) dX3_soak_34 (fun c => absurd c (by decide)) (fun _ => ?_)
        refine g_aload_n F 0 rfl rfl dX3_soak_37 ?_
        refine g_aload_n F 0 rfl rfl dX3_soak_38 ?_
        refine g_aload_n F 0 rfl rfl dX3_soak_39 ?_
        refine g_get F clX3 9 (by decide) q1398 (v := .ref (A 308 0)) (gd_get (pr_at (κ := 0) (i := 0) (by decide) (gc1 (gnl rfl)) (gce (show (gsr S.1 0 0 (upd (S.1 0 0) 8 0)) 0 0 = upd (S.1 0 0) 8 0 from gsr_s) rfl)) rfl) dX3_soak_40 ?_
        refine g_iload_n F 1 rfl rfl dX3_soak_43 ?_
        refine g_callF F clJ3 (kJ3_get hl (pr_ls (M := 1) (S := (gsr S.1 0 0 (upd (S.1 0 0) 8 0), S.2)) (A := A) (κ := 8) (by decide) (Or.inl ⟨by decide, by decide⟩) (fun q => by first | decide | exact absurd q (by decide)) (fun q => by first | decide | exact absurd q (by decide))) (j := batch.toNatClampNeg) (Decidable.not_not.mp c_1).2 (gw_n hW _) rfl (Decidable.not_not.mp c_1).1) (g_recv F clJ3 (gls_obj (pr_ls (M := 1) (S := (gsr S.1 0 0 (upd (S.1 0 0) 8 0), S.2)) (A := A) (κ := 8) (by decide) (Or.inl ⟨by decide, by decide⟩) (fun q => by first | decide | exact absurd q (by decide)) (fun q => by first | decide | exact absurd q (by decide))))) q1506 q809 q811 q22 q813 (List.mem_of_getElem? (i := 1) rfl) (gT_w q812 rfl) (gT_w q810 rfl) (gT_w q293 rfl) gface_1 ⟨by decide, by decide⟩ rfl rfl (gle rfl) 0 0 (gle rfl) (gle rfl) (gle rfl) (gle rfl) dX3_soak_44 gx_n (gv_i ?_)
        refine g_castS F (g_recv F clX10 (gd_obj (pr_at (κ := 8) (i := batch.toNatClampNeg) (by decide) (gc6 (by decide) (Decidable.not_not.mp c_1).2) (gce (show (gsr S.1 0 0 (upd (S.1 0 0) 8 0)) 8 batch.toNatClampNeg = S.1 8 batch.toNatClampNeg from (gsr_p (by decide) rfl)) rfl)))) q1524 dX3_soak_49 ?_
        refine g_callV F (kX3_isFired hl (pr_at (κ := 0) (i := 0) (by decide) (gc1 (gnl rfl)) (gce (show (gsr S.1 0 0 (upd (S.1 0 0) 8 0)) 0 0 = upd (S.1 0 0) 8 0 from gsr_s) rfl)) (pr_at (κ := 8) (i := batch.toNatClampNeg) (by decide) (gc6 (by decide) (Decidable.not_not.mp c_1).2) (gce (show (gsr S.1 0 0 (upd (S.1 0 0) 8 0)) 8 batch.toNatClampNeg = S.1 8 batch.toNatClampNeg from (gsr_p (by decide) rfl)) rfl))) (g_recv F clX3 (gd_obj (pr_at (κ := 0) (i := 0) (by decide) (gc1 (gnl rfl)) (gce (show (gsr S.1 0 0 (upd (S.1 0 0) 8 0)) 0 0 = upd (S.1 0 0) 8 0 from gsr_s) rfl)))) q1597 q1599 qs12 q25 q1600 myX3_isFired ⟨by decide, by decide⟩ rfl rfl (gle rfl) 0 0 (gle rfl) (gle rfl) (gle rfl) (gle rfl) dX3_soak_52 gx_n (gv_i ?_)
        have J_7 : gW (X, G, 4, Q) (gP 1 G (gsr S.1 0 0 (upd (S.1 0 0) 8 0), S.2) A Fr []) [(0, .ref (A 0 0)), (1, .int batch), (2, .int wax)] 82 [.int (gb (¬ (¬ ((S.1 8 batch.toNatClampNeg 6) = (-1 : Int32)) ∧ ¬ ((S.1 0 0 0) < (S.1 8 batch.toNatClampNeg 4))) ∨ (¬ ((S.1 8 batch.toNatClampNeg 8) = 0)))), .ref (A 0 0)] 0 0 := by
          refine g_iconst F (v := (3 : Int32)) (by decide) dX3_soak_82 ?_
          refine g_callV F (kX3_fails hl (b := gb (¬ (¬ ((S.1 8 batch.toNatClampNeg 6) = (-1 : Int32)) ∧ ¬ ((S.1 0 0 0) < (S.1 8 batch.toNatClampNeg 4))) ∨ (¬ ((S.1 8 batch.toNatClampNeg 8) = 0)))) (nu := (3 : Int32)) (c := ¬ (¬ ((S.1 8 batch.toNatClampNeg 6) = (-1 : Int32)) ∧ ¬ ((S.1 0 0 0) < (S.1 8 batch.toNatClampNeg 4))) ∨ (¬ ((S.1 8 batch.toNatClampNeg 8) = 0))) gb_n0 (by decide) (pr_at (κ := 0) (i := 0) (by decide) (gc1 (gnl rfl)) (gce (show (gsr S.1 0 0 (upd (S.1 0 0) 8 0)) 0 0 = upd (S.1 0 0) 8 0 from gsr_s) rfl))) (g_recv F clX3 (gd_obj (pr_at (κ := 0) (i := 0) (by decide) (gc1 (gnl rfl)) (gce (show (gsr S.1 0 0 (upd (S.1 0 0) 8 0)) 0 0 = upd (S.1 0 0) 8 0 from gsr_s) rfl)))) q1456 q1458 qs7 q25 q1459 myX3_fails ⟨by decide, by decide⟩ rfl rfl (gle rfl) 0 0 (gle rfl) (gle rfl) (gle rfl) (gle rfl) dX3_soak_83 gx_n (gv_f (fun c_8 => ?_) (fun c_8 => ?_))
          · skip
            refine g_mono (P2 := gP 1 G (gsr (gsr S.1 0 0 (upd (S.1 0 0) 8 0)) 0 0 (upd (upd (S.1 0 0) 8 0) 8 (3 : Int32)), S.2) A Fr []) (pr_upRow (κ := 0) (i := 0) gM1 hF (upd (upd (S.1 0 0) 8 0) 8 (3 : Int32)) (by decide) (gc1 (gnl rfl)) (gce (show (gsr S.1 0 0 (upd (S.1 0 0) 8 0)) 0 0 = upd (S.1 0 0) 8 0 from gsr_s) rfl) rfl) ?_
            refine g_if_eq F (tgt := 91) (by decide) dX3_soak_86 (fun c => absurd c (by decide)) (fun _ => ?_)
            refine g_iconst F (v := (-1 : Int32)) (by decide) dX3_soak_89 ?_
            exact g_retI F E rfl rfl (gle rfl) (gle rfl) dX3_soak_90 (fun _ hp => ⟨_, _, ((if_neg c_1).trans ((if_neg c_4).trans (if_pos c_8))), rfl, ⟨A, rfl, gP_T0 hp⟩⟩)
          · skip
            refine g_if_eq F (tgt := 91) (by decide) dX3_soak_86 (fun _ => ?_) (fun c => absurd c (by decide))
            refine g_aload_n F 0 rfl rfl dX3_soak_91 ?_
            refine g_get F clX3 9 (by decide) q1398 (v := .ref (A 308 0)) (gd_get (pr_at (κ := 0) (i := 0) (by decide) (gc1 (gnl rfl)) (gce (show (gsr S.1 0 0 (upd (S.1 0 0) 8 0)) 0 0 = upd (S.1 0 0) 8 0 from gsr_s) rfl)) rfl) dX3_soak_92 ?_
            refine g_iload_n F 1 rfl rfl dX3_soak_95 ?_
            refine g_callF F clJ3 (kJ3_get hl (pr_ls (M := 1) (S := (gsr S.1 0 0 (upd (S.1 0 0) 8 0), S.2)) (A := A) (κ := 8) (by decide) (Or.inl ⟨by decide, by decide⟩) (fun q => by first | decide | exact absurd q (by decide)) (fun q => by first | decide | exact absurd q (by decide))) (j := batch.toNatClampNeg) (Decidable.not_not.mp c_1).2 (gw_n hW _) rfl (Decidable.not_not.mp c_1).1) (g_recv F clJ3 (gls_obj (pr_ls (M := 1) (S := (gsr S.1 0 0 (upd (S.1 0 0) 8 0), S.2)) (A := A) (κ := 8) (by decide) (Or.inl ⟨by decide, by decide⟩) (fun q => by first | decide | exact absurd q (by decide)) (fun q => by first | decide | exact absurd q (by decide))))) q1506 q809 q811 q22 q813 (List.mem_of_getElem? (i := 1) rfl) (gT_w q812 rfl) (gT_w q810 rfl) (gT_w q293 rfl) gface_1 ⟨by decide, by decide⟩ rfl rfl (gle rfl) 0 0 (gle rfl) (gle rfl) (gle rfl) (gle rfl) dX3_soak_96 gx_n (gv_i ?_)
            refine g_castS F (g_recv F clX10 (gd_obj (pr_at (κ := 8) (i := batch.toNatClampNeg) (by decide) (gc6 (by decide) (Decidable.not_not.mp c_1).2) (gce (show (gsr S.1 0 0 (upd (S.1 0 0) 8 0)) 8 batch.toNatClampNeg = S.1 8 batch.toNatClampNeg from (gsr_p (by decide) rfl)) rfl)))) q1524 dX3_soak_101 ?_
            refine g_astore_n F rfl (by show 3 < 4; decide) (lv2 := [(3, .ref (A 8 batch.toNatClampNeg)), (0, .ref (A 0 0)), (1, .int batch), (2, .int wax)]) rfl dX3_soak_104 ?_
            refine g_aload_n F 0 rfl rfl dX3_soak_105 ?_
            refine g_iconst F (v := (1 : Int32)) (by decide) dX3_soak_106 ?_
            refine g_putN (P2 := gP 1 G (gsr (gsr S.1 0 0 (upd (S.1 0 0) 8 0)) 8 batch.toNatClampNeg (upd (S.1 8 batch.toNatClampNeg) 8 (1 : Int32)), S.2) A Fr []) F clX10 8 (by decide) (gT_w q1539 rfl) rfl rfl rfl (pr_put (κ := 8) (i := batch.toNatClampNeg) gM1 hF (upd (S.1 8 batch.toNatClampNeg) 8 (1 : Int32)) (by decide) (gc6 (by decide) (Decidable.not_not.mp c_1).2) (gce (show (gsr S.1 0 0 (upd (S.1 0 0) 8 0)) 8 batch.toNatClampNeg = S.1 8 batch.toNatClampNeg from (gsr_p (by decide) rfl)) rfl) (gnl rfl) rfl) dX3_soak_107 ?_
            refine g_aload_n F 0 rfl rfl dX3_soak_110 ?_
            refine g_dup F rfl dX3_soak_111 ?_
            refine g_getN F clX10 9 (by decide) (gT_w q1540 rfl) (v := .int (S.1 8 batch.toNatClampNeg 9)) (gd_get (pr_at (κ := 8) (i := batch.toNatClampNeg) (by decide) (gc6 (by decide) (Decidable.not_not.mp c_1).2) (gce (show (gsr (gsr S.1 0 0 (upd (S.1 0 0) 8 0)) 8 batch.toNatClampNeg (upd (S.1 8 batch.toNatClampNeg) 8 (1 : Int32))) 8 batch.toNatClampNeg = upd (S.1 8 batch.toNatClampNeg) 8 (1 : Int32) from gsr_s) rfl)) rfl) dX3_soak_112 ?_
            refine g_bipush F (v := (10 : Int32)) (by decide) dX3_soak_115 ?_
            refine g_iload_n F 3 rfl rfl dX3_soak_117 ?_
            refine g_imul F dX3_soak_118 ?_
            refine g_iadd F dX3_soak_119 ?_
            refine g_putN (P2 := gP 1 G (gsr (gsr (gsr S.1 0 0 (upd (S.1 0 0) 8 0)) 8 batch.toNatClampNeg (upd (S.1 8 batch.toNatClampNeg) 8 (1 : Int32))) 8 batch.toNatClampNeg (upd (upd (S.1 8 batch.toNatClampNeg) 8 (1 : Int32)) 9 ((S.1 8 batch.toNatClampNeg 9) + ((10 : Int32) * wax))), S.2) A Fr []) F clX10 9 (by decide) (gT_w q1540 rfl) rfl rfl rfl (pr_put (κ := 8) (i := batch.toNatClampNeg) gM1 hF (upd (upd (S.1 8 batch.toNatClampNeg) 8 (1 : Int32)) 9 ((S.1 8 batch.toNatClampNeg 9) + ((10 : Int32) * wax))) (by decide) (gc6 (by decide) (Decidable.not_not.mp c_1).2) (gce (show (gsr (gsr S.1 0 0 (upd (S.1 0 0) 8 0)) 8 batch.toNatClampNeg (upd (S.1 8 batch.toNatClampNeg) 8 (1 : Int32))) 8 batch.toNatClampNeg = upd (S.1 8 batch.toNatClampNeg) 8 (1 : Int32) from gsr_s) rfl) (gnl rfl) rfl) dX3_soak_120 ?_
            refine g_aload_n F 0 rfl rfl dX3_soak_123 ?_
            refine g_sipush F (v := (999 : Int32)) (by decide) dX3_soak_124 ?_
            refine g_aload_n F 0 rfl rfl dX3_soak_127 ?_
            refine g_getN F clX10 10 (by decide) (gT_w q1541 rfl) (v := .int (S.1 8 batch.toNatClampNeg 10)) (gd_get (pr_at (κ := 8) (i := batch.toNatClampNeg) (by decide) (gc6 (by decide) (Decidable.not_not.mp c_1).2) (gce (show (gsr (gsr (gsr S.1 0 0 (upd (S.1 0 0) 8 0)) 8 batch.toNatClampNeg (upd (S.1 8 batch.toNatClampNeg) 8 (1 : Int32))) 8 batch.toNatClampNeg (upd (upd (S.1 8 batch.toNatClampNeg) 8 (1 : Int32)) 9 ((S.1 8 batch.toNatClampNeg 9) + ((10 : Int32) * wax)))) 8 batch.toNatClampNeg = upd (upd (S.1 8 batch.toNatClampNeg) 8 (1 : Int32)) 9 ((S.1 8 batch.toNatClampNeg 9) + ((10 : Int32) * wax)) from gsr_s) rfl)) rfl) dX3_soak_128 ?_
            refine g_bipush F (v := (8 : Int32)) (by decide) dX3_soak_131 ?_
            refine g_iload_n F 3 rfl rfl dX3_soak_133 ?_
            refine g_imul F dX3_soak_134 ?_
            refine g_iadd F dX3_soak_135 ?_
            refine g_mmin F q1512 (gle rfl) (gle rfl) (gle rfl) (gle rfl) dX3_soak_136 ?_
            refine g_putN (P2 := gP 1 G (gsr (gsr (gsr (gsr S.1 0 0 (upd (S.1 0 0) 8 0)) 8 batch.toNatClampNeg (upd (S.1 8 batch.toNatClampNeg) 8 (1 : Int32))) 8 batch.toNatClampNeg (upd (upd (S.1 8 batch.toNatClampNeg) 8 (1 : Int32)) 9 ((S.1 8 batch.toNatClampNeg 9) + ((10 : Int32) * wax)))) 8 batch.toNatClampNeg (upd (upd (upd (S.1 8 batch.toNatClampNeg) 8 (1 : Int32)) 9 ((S.1 8 batch.toNatClampNeg 9) + ((10 : Int32) * wax))) 10 (gmin (999 : Int32) ((S.1 8 batch.toNatClampNeg 10) + ((8 : Int32) * wax)))), S.2) A Fr []) F clX10 10 (by decide) (gT_w q1541 rfl) rfl rfl rfl (pr_put (κ := 8) (i := batch.toNatClampNeg) gM1 hF (upd (upd (upd (S.1 8 batch.toNatClampNeg) 8 (1 : Int32)) 9 ((S.1 8 batch.toNatClampNeg 9) + ((10 : Int32) * wax))) 10 (gmin (999 : Int32) ((S.1 8 batch.toNatClampNeg 10) + ((8 : Int32) * wax)))) (by decide) (gc6 (by decide) (Decidable.not_not.mp c_1).2) (gce (show (gsr (gsr (gsr S.1 0 0 (upd (S.1 0 0) 8 0)) 8 batch.toNatClampNeg (upd (S.1 8 batch.toNatClampNeg) 8 (1 : Int32))) 8 batch.toNatClampNeg (upd (upd (S.1 8 batch.toNatClampNeg) 8 (1 : Int32)) 9 ((S.1 8 batch.toNatClampNeg 9) + ((10 : Int32) * wax)))) 8 batch.toNatClampNeg = upd (upd (S.1 8 batch.toNatClampNeg) 8 (1 : Int32)) 9 ((S.1 8 batch.toNatClampNeg 9) + ((10 : Int32) * wax)) from gsr_s) rfl) (gnl rfl) rfl) dX3_soak_139 ?_
            refine g_aload_n F 0 rfl rfl dX3_soak_142 ?_
            refine g_getN F clX10 9 (by decide) (gT_w q1540 rfl) (v := .int ((S.1 8 batch.toNatClampNeg 9) + ((10 : Int32) * wax))) (gd_get (pr_at (κ := 8) (i := batch.toNatClampNeg) (by decide) (gc6 (by decide) (Decidable.not_not.mp c_1).2) (gce (show (gsr (gsr (gsr (gsr S.1 0 0 (upd (S.1 0 0) 8 0)) 8 batch.toNatClampNeg (upd (S.1 8 batch.toNatClampNeg) 8 (1 : Int32))) 8 batch.toNatClampNeg (upd (upd (S.1 8 batch.toNatClampNeg) 8 (1 : Int32)) 9 ((S.1 8 batch.toNatClampNeg 9) + ((10 : Int32) * wax)))) 8 batch.toNatClampNeg (upd (upd (upd (S.1 8 batch.toNatClampNeg) 8 (1 : Int32)) 9 ((S.1 8 batch.toNatClampNeg 9) + ((10 : Int32) * wax))) 10 (gmin (999 : Int32) ((S.1 8 batch.toNatClampNeg 10) + ((8 : Int32) * wax))))) 8 batch.toNatClampNeg = upd (upd (upd (S.1 8 batch.toNatClampNeg) 8 (1 : Int32)) 9 ((S.1 8 batch.toNatClampNeg 9) + ((10 : Int32) * wax))) 10 (gmin (999 : Int32) ((S.1 8 batch.toNatClampNeg 10) + ((8 : Int32) * wax))) from gsr_s) rfl)) rfl) dX3_soak_143 ?_
            exact g_retI F E rfl rfl (gle rfl) (gle rfl) dX3_soak_146 (fun _ hp => ⟨_, _, ((if_neg c_1).trans ((if_neg c_4).trans (if_neg c_8))), rfl, ⟨A, rfl, gP_T0 hp⟩⟩)
        refine gb_if_eq F (tgt := 77) (by decide) dX3_soak_55 (fun c_5 => ?_) (fun c_5 => ?_)
        · skip
          refine g_iconst F (v := (1 : Int32)) (by decide) dX3_soak_77 ?_
          refine g_goto F (tgt := 82) (by decide) dX3_soak_78 ?_
          exact g_top (gb_t (Or.inl c_5)) J_7
        · skip
          refine g_aload_n F 0 rfl rfl dX3_soak_58 ?_
          refine g_get F clX3 9 (by decide) q1398 (v := .ref (A 308 0)) (gd_get (pr_at (κ := 0) (i := 0) (by decide) (gc1 (gnl rfl)) (gce (show (gsr S.1 0 0 (upd (S.1 0 0) 8 0)) 0 0 = upd (S.1 0 0) 8 0 from gsr_s) rfl)) rfl) dX3_soak_59 ?_
          refine g_iload_n F 1 rfl rfl dX3_soak_62 ?_
          refine g_callF F clJ3 (kJ3_get hl (pr_ls (M := 1) (S := (gsr S.1 0 0 (upd (S.1 0 0) 8 0), S.2)) (A := A) (κ := 8) (by decide) (Or.inl ⟨by decide, by decide⟩) (fun q => by first | decide | exact absurd q (by decide)) (fun q => by first | decide | exact absurd q (by decide))) (j := batch.toNatClampNeg) (Decidable.not_not.mp c_1).2 (gw_n hW _) rfl (Decidable.not_not.mp c_1).1) (g_recv F clJ3 (gls_obj (pr_ls (M := 1) (S := (gsr S.1 0 0 (upd (S.1 0 0) 8 0), S.2)) (A := A) (κ := 8) (by decide) (Or.inl ⟨by decide, by decide⟩) (fun q => by first | decide | exact absurd q (by decide)) (fun q => by first | decide | exact absurd q (by decide))))) q1506 q809 q811 q22 q813 (List.mem_of_getElem? (i := 1) rfl) (gT_w q812 rfl) (gT_w q810 rfl) (gT_w q293 rfl) gface_1 ⟨by decide, by decide⟩ rfl rfl (gle rfl) 0 0 (gle rfl) (gle rfl) (gle rfl) (gle rfl) dX3_soak_63 gx_n (gv_i ?_)
          refine g_castS F (g_recv F clX10 (gd_obj (pr_at (κ := 8) (i := batch.toNatClampNeg) (by decide) (gc6 (by decide) (Decidable.not_not.mp c_1).2) (gce (show (gsr S.1 0 0 (upd (S.1 0 0) 8 0)) 8 batch.toNatClampNeg = S.1 8 batch.toNatClampNeg from (gsr_p (by decide) rfl)) rfl)))) q1524 dX3_soak_68 ?_
          refine g_getN F clX10 8 (by decide) (gT_w q1539 rfl) (v := .int (S.1 8 batch.toNatClampNeg 8)) (gd_get (pr_at (κ := 8) (i := batch.toNatClampNeg) (by decide) (gc6 (by decide) (Decidable.not_not.mp c_1).2) (gce (show (gsr S.1 0 0 (upd (S.1 0 0) 8 0)) 8 batch.toNatClampNeg = S.1 8 batch.toNatClampNeg from (gsr_p (by decide) rfl)) rfl)) rfl) dX3_soak_71 ?_
          refine g_if_eq F (tgt := 81) (by decide) dX3_soak_74 (fun c_6 => ?_) (fun c_6 => ?_)
          · skip
            refine g_iconst F (v := (0 : Int32)) (by decide) dX3_soak_81 ?_
            exact g_top (gb_f (fun q => q.elim (fun z => z c_5) (fun q => q c_6))) J_7
          · skip
            refine g_iconst F (v := (1 : Int32)) (by decide) dX3_soak_77 ?_
            refine g_goto F (tgt := 82) (by decide) dX3_soak_78 ?_
            exact g_top (gb_t (Or.inr c_6)) J_7
    refine gb_if_ne F (tgt := 29) (by decide) dX3_soak_22 (fun c_2 => ?_) (fun c_2 => ?_)
    · skip
      refine g_iconst F (v := (0 : Int32)) (by decide) dX3_soak_29 ?_
      exact g_top (gb_f (fun q => q c_2)) J_3
    · skip
      refine g_iconst F (v := (1 : Int32)) (by decide) dX3_soak_25 ?_
      refine g_goto F (tgt := 30) (by decide) dX3_soak_26 ?_
      exact g_top (gb_t c_2) J_3

theorem kX3_going {l : Launch} {G : gG} (hl : l.stackTraces = false) {S : gS} {A : Nat → Nat → Nat} {Fr : gH → Prop} (hF : gFr 1 Fr) (hW : gWf S) {x : Int32} (hx : gIn x 4) {w9 : Int32} (hw9 : w9 = gb (gGoes S x)) : gMet l yX3_going (ws_ yX3_going cX3_going 4 (some .boolean)) ⟨0, 0, 0, 0⟩ G [.ref (A 0 0), .int x] (gP 1 G (gsr S.1 0 0 (upd (S.1 0 0) 8 0), S.2) A Fr []) (gqI (.int w9) (gP 1 G (gsr S.1 0 0 (upd (S.1 0 0) 8 0), S.2) A Fr [])) gxN := by
  refine gMet_of hl pnX3 (gle rfl) (fun X Q hX F E hNm => ?_)
  subst hX
  change gW (X, G, 4, Q) (gP 1 G (gsr S.1 0 0 (upd (S.1 0 0) 8 0), S.2) A Fr []) [(0, .ref (A 0 0)), (1, .int x)] 0 [] 0 0
  refine g_aload_n F 0 rfl rfl dX3_going_0 ?_
  refine g_get F clX3 2 (by decide) q1391 (v := .int (S.1 0 0 1)) (gd_get (pr_at (κ := 0) (i := 0) (by decide) (gc1 (gnl rfl)) (gce (show (gsr S.1 0 0 (upd (S.1 0 0) 8 0)) 0 0 = upd (S.1 0 0) 8 0 from gsr_s) rfl)) rfl) dX3_going_1 ?_
  refine g_istore_n F rfl (by show 2 < 4; decide) (lv2 := [(2, .int (S.1 0 0 1)), (0, .ref (A 0 0)), (1, .int x)]) rfl dX3_going_4 ?_
  refine g_iload_n F 2 rfl rfl dX3_going_5 ?_
  refine g_istore_n F rfl (by show 3 < 4; decide) (lv2 := [(3, .int x), (2, .int (S.1 0 0 1)), (0, .ref (A 0 0)), (1, .int x)]) rfl dX3_going_6 ?_
  have LP : ∀ n (x5 g : Int32) (b : Bool), (x5 = -1 ∨ gIn x5 4) → gIt (S.1 1 0) n x5 = -1 → g = gb (b = true) → gGo (S.1 1 0) (S.1 2 0) 1 n x5 = gGo (S.1 1 0) (S.1 2 0) 1 n x5 → (gb ((b && gGo (S.1 1 0) (S.1 2 0) 1 n x5) = true) = w9 → gW (X, G, 4, Q) (gP 1 G (gsr S.1 0 0 (upd (S.1 0 0) 8 0), S.2) A Fr []) [(2, .int g), (3, .int x5), (0, .ref (A 0 0)), (1, .int x)] 7 [] 0 0) := by
    intro n
    induction n with
    | zero =>
      intro x5 g b hx he hg _ hw
      subst hg
      refine g_iload_n F 1 rfl rfl dX3_going_7 ?_
      refine g_iconst F (v := (-1 : Int32)) (by decide) dX3_going_8 ?_
      refine g_icmp_eq F (tgt := 41) (by decide) dX3_going_9 (fun _ => ?_) (fun c => absurd (show x5 = -1 from he) c)
      refine g_iload_n F 0 rfl rfl dX3_going_41 ?_
      exact g_retI F E rfl gb_z (gle rfl) (gle rfl) dX3_going_42 (fun _ hp => ⟨by rw [← hw, gGo_m (show x5 = -1 from he)]; congr 3; cases b <;> rfl, hp⟩)
    | succ n IH =>
      intro x5 g b hx he hg _ hw
      subst hg
      refine g_iload_n F 1 rfl rfl dX3_going_7 ?_
      refine g_iconst F (v := (-1 : Int32)) (by decide) dX3_going_8 ?_
      refine g_icmp_eq F (tgt := 41) (by decide) dX3_going_9 (fun c_1 => ?_) (fun c_1 => ?_)
      · skip
        refine g_iload_n F 0 rfl rfl dX3_going_41 ?_
        exact g_retI F E rfl gb_z (gle rfl) (gle rfl) dX3_going_42 (fun _ hp => ⟨by rw [← hw, gGo_m c_1]; congr 3; cases b <;> rfl, hp⟩)
      · skip
        refine g_iload_n F 0 rfl rfl dX3_going_12 ?_
        have J_4 : gW (X, G, 4, Q) (gP 1 G (gsr S.1 0 0 (upd (S.1 0 0) 8 0), S.2) A Fr []) [(2, .int (gb (b = true))), (3, .int x5), (0, .ref (A 0 0)), (1, .int x)] 30 [.int (gb ((b = true) ∧ (¬ ((S.1 2 0 x5.toNatClampNeg) = 0))))] 0 0 := by
          refine g_istore_n F rfl (by show 2 < 4; decide) (lv2 := [(2, .int (gb ((b = true) ∧ (¬ ((S.1 2 0 x5.toNatClampNeg) = 0))))), (3, .int x5), (0, .ref (A 0 0)), (1, .int x)]) rfl dX3_going_30 ?_
          refine g_aload_n F 2 rfl rfl dX3_going_31 ?_
          refine g_get F clX3 4 (by decide) q1393 (v := .ref (A 1 0)) (gd_get (pr_at (κ := 0) (i := 0) (by decide) (gc1 (gnl rfl)) (gce (show (gsr S.1 0 0 (upd (S.1 0 0) 8 0)) 0 0 = upd (S.1 0 0) 8 0 from gsr_s) rfl)) rfl) dX3_going_32 ?_
          refine g_iload_n F 1 rfl rfl dX3_going_35 ?_
          refine g_iald F (gIn_vp (gor_of hx c_1)) (pr_at (κ := 1) (i := 0) (by decide) (gc1 (gnl rfl)) (gce (show (gsr S.1 0 0 (upd (S.1 0 0) 8 0)) 1 0 = S.1 1 0 from (gsr_p (by decide) rfl)) rfl)) dX3_going_36 ?_
          change gW _ _ _ _ (.int (S.1 1 0 x5.toNatClampNeg) :: _) _ _
          refine g_istore_n F rfl (by show 3 < 4; decide) (lv2 := [(3, .int (S.1 1 0 x5.toNatClampNeg)), (2, .int (gb ((b = true) ∧ (¬ ((S.1 2 0 x5.toNatClampNeg) = 0))))), (0, .ref (A 0 0)), (1, .int x)]) rfl dX3_going_37 ?_
          refine g_goto F (tgt := 7) (by decide) dX3_going_38 ?_
          refine g_lv [1,0,2,3] (lv2 := [(2, .int (gb ((b = true) ∧ (¬ ((S.1 2 0 x5.toNatClampNeg) = 0))))), (3, .int (S.1 1 0 x5.toNatClampNeg)), (0, .ref (A 0 0)), (1, .int x)]) rfl ?_
          exact IH _ _ (b && !((S.1 2 0) x5.toNatClampNeg == 0)) (gDrv_n (gw_d hW) (gor_of hx c_1)) (gIt_s c_1 he) (gb_c (by cases b <;> simp)) rfl (by rw [← hw, gGo_s c_1, Bool.and_assoc])
        refine gb_if_eq F (tgt := 29) (by decide) dX3_going_13 (fun c_2 => ?_) (fun c_2 => ?_)
        · skip
          refine g_iconst F (v := (0 : Int32)) (by decide) dX3_going_29 ?_
          exact g_top (gb_f (fun q => c_2 q.1)) J_4
        · skip
          refine g_aload_n F 2 rfl rfl dX3_going_16 ?_
          refine g_get F clX3 3 (by decide) q1392 (v := .ref (A 2 0)) (gd_get (pr_at (κ := 0) (i := 0) (by decide) (gc1 (gnl rfl)) (gce (show (gsr S.1 0 0 (upd (S.1 0 0) 8 0)) 0 0 = upd (S.1 0 0) 8 0 from gsr_s) rfl)) rfl) dX3_going_17 ?_
          refine g_iload_n F 1 rfl rfl dX3_going_20 ?_
          refine g_zald F (gIn_vp (gor_of hx c_1)) (pr_at (κ := 2) (i := 0) (by decide) (gc1 (gnl rfl)) (gce (show (gsr S.1 0 0 (upd (S.1 0 0) 8 0)) 2 0 = S.1 2 0 from (gsr_p (by decide) rfl)) rfl)) dX3_going_21 ?_
          change gW _ _ _ _ (.int (S.1 2 0 x5.toNatClampNeg) :: _) _ _
          refine g_if_eq F (tgt := 29) (by decide) dX3_going_22 (fun c_3 => ?_) (fun c_3 => ?_)
          · skip
            refine g_iconst F (v := (0 : Int32)) (by decide) dX3_going_29 ?_
            exact g_top (gb_f (fun q => (fun q => q c_3) q.2)) J_4
          · skip
            refine g_iconst F (v := (1 : Int32)) (by decide) dX3_going_25 ?_
            refine g_goto F (tgt := 30) (by decide) dX3_going_26 ?_
            exact g_top (gb_t (⟨c_2, c_3⟩)) J_4
  refine g_lv [1,0,2,3] (lv2 := [(2, .int (S.1 0 0 1)), (3, .int x), (0, .ref (A 0 0)), (1, .int x)]) rfl ?_
  exact LP 4 x _ (!(S.1 0 0 1 == 0)) (Or.inr hx) (gDrv_e (gw_d hW) hx) (gBl_b (gw_b hW)) rfl (by rw [hw9]; exact gb_c (by rw [← gGo_sh]))

theorem kX10_init {l : Launch} {G : gG} (hl : l.stackTraces = false) {P : gH → Prop} {a : Nat}  (ha : gAt P a (.inr (7, [.int (0 : Int32), .int (0 : Int32), .int (0 : Int32), .int (0 : Int32), .int (0 : Int32), .int (0 : Int32), .int (0 : Int32), .int (0 : Int32), .int (0 : Int32), .int (0 : Int32), .int (0 : Int32)])))   : gMet l yX10_init (ws_ yX10_init cX10_init 1 none) ⟨1, 0, 0, 12⟩ G [.ref a] P (gqV (gUp P a (.inr (7, [.int (0 : Int32), .int (0 : Int32), .int (0 : Int32), .int (0 : Int32), .int (0 : Int32), .int (0 : Int32), .int (0 : Int32), .int (0 : Int32), .int (0 : Int32), .int (0 : Int32), .int (0 : Int32)])) (.inr (7, [.int (0 : Int32), .int (0 : Int32), .int (0 : Int32), .int (0 : Int32), .int (0 : Int32), .int (0 : Int32), .int (-1 : Int32), .int (0 : Int32), .int (0 : Int32), .int (0 : Int32), .int (0 : Int32)])))) gxN := by
  refine gMet_of hl pnX10 (gle rfl) (fun X Q hX F E hNm => ?_)
  subst hX
  change gW (X, G, 1, Q) P [(0, .ref a)] 0 [] 0 0
  refine g_mono (gUp_0 ha) ?_
  refine g_aload_n F 0 rfl rfl dX10_init_0 ?_
  refine g_objInit F q1529 dX10_init_1 (gle rfl) (gle rfl) ?_
  refine g_aload_n F 0 rfl rfl dX10_init_4 ?_
  refine g_iconst F (v := (-1 : Int32)) (by decide) dX10_init_5 ?_
  refine g_put (P2 := (gUp P a (.inr (7, [.int (0 : Int32), .int (0 : Int32), .int (0 : Int32), .int (0 : Int32), .int (0 : Int32), .int (0 : Int32), .int (0 : Int32), .int (0 : Int32), .int (0 : Int32), .int (0 : Int32), .int (0 : Int32)])) (.inr (7, [.int (0 : Int32), .int (0 : Int32), .int (0 : Int32), .int (0 : Int32), .int (0 : Int32), .int (0 : Int32), .int (-1 : Int32), .int (0 : Int32), .int (0 : Int32), .int (0 : Int32), .int (0 : Int32)])))) F clX10 6 (by decide) q1536 rfl rfl rfl (gUp_put (gnl rfl)) dX10_init_6 ?_
  exact g_retV F E rfl (gle rfl) (gle rfl) dX10_init_9 (fun _ hp => ⟨rfl, hp⟩)

theorem kX12_init {l : Launch} {G : gG} (hl : l.stackTraces = false) {P : gH → Prop} {a : Nat}  (ha : gAt P a (.inr (9, [.int (0 : Int32), .int (0 : Int32), .int (0 : Int32), .int (0 : Int32), .int (0 : Int32), .int (0 : Int32)])))   : gMet l yX12_init (ws_ yX12_init cX12_init 1 none) ⟨1, 0, 0, 12⟩ G [.ref a] P (gqV (gUp P a (.inr (9, [.int (0 : Int32), .int (0 : Int32), .int (0 : Int32), .int (0 : Int32), .int (0 : Int32), .int (0 : Int32)])) (.inr (9, [.int (0 : Int32), .int (0 : Int32), .int (0 : Int32), .int (0 : Int32), .int (0 : Int32), .int (0 : Int32)])))) gxN := by
  refine gMet_of hl pnX12 (gle rfl) (fun X Q hX F E hNm => ?_)
  subst hX
  change gW (X, G, 1, Q) P [(0, .ref a)] 0 [] 0 0
  refine g_mono (gUp_0 ha) ?_
  refine g_aload_n F 0 rfl rfl dX12_init_0 ?_
  refine g_objInit F q1628 dX12_init_1 (gle rfl) (gle rfl) ?_
  exact g_retV F E rfl (gle rfl) (gle rfl) dX12_init_4 (fun _ hp => ⟨rfl, hp⟩)

theorem kX14_init {l : Launch} {G : gG} (hl : l.stackTraces = false) {P : gH → Prop} {a : Nat}  (ha : gAt P a (.inr (11, [.int (0 : Int32), .int (0 : Int32), .int (0 : Int32), .int (0 : Int32), .int (0 : Int32), .int (0 : Int32), .int (0 : Int32), .int (0 : Int32), .int (0 : Int32), .int (0 : Int32), .int (0 : Int32)])))   : gMet l yX14_init (ws_ yX14_init cX14_init 1 none) ⟨1, 0, 0, 12⟩ G [.ref a] P (gqV (gUp P a (.inr (11, [.int (0 : Int32), .int (0 : Int32), .int (0 : Int32), .int (0 : Int32), .int (0 : Int32), .int (0 : Int32), .int (0 : Int32), .int (0 : Int32), .int (0 : Int32), .int (0 : Int32), .int (0 : Int32)])) (.inr (11, [.int (0 : Int32), .int (0 : Int32), .int (0 : Int32), .int (0 : Int32), .int (0 : Int32), .int (0 : Int32), .int (0 : Int32), .int (0 : Int32), .int (-1 : Int32), .int (-1 : Int32), .int (0 : Int32)])))) gxN := by
  refine gMet_of hl pnX14 (gle rfl) (fun X Q hX F E hNm => ?_)
  subst hX
  change gW (X, G, 1, Q) P [(0, .ref a)] 0 [] 0 0
  refine g_mono (gUp_0 ha) ?_
  refine g_aload_n F 0 rfl rfl dX14_init_0 ?_
  refine g_objInit F q1678 dX14_init_1 (gle rfl) (gle rfl) ?_
  refine g_aload_n F 0 rfl rfl dX14_init_4 ?_
  refine g_iconst F (v := (-1 : Int32)) (by decide) dX14_init_5 ?_
  refine g_put (P2 := (gUp P a (.inr (11, [.int (0 : Int32), .int (0 : Int32), .int (0 : Int32), .int (0 : Int32), .int (0 : Int32), .int (0 : Int32), .int (0 : Int32), .int (0 : Int32), .int (0 : Int32), .int (0 : Int32), .int (0 : Int32)])) (.inr (11, [.int (0 : Int32), .int (0 : Int32), .int (0 : Int32), .int (0 : Int32), .int (0 : Int32), .int (0 : Int32), .int (0 : Int32), .int (0 : Int32), .int (-1 : Int32), .int (0 : Int32), .int (0 : Int32)])))) F clX14 8 (by decide) q1687 rfl rfl rfl (gUp_put (gnl rfl)) dX14_init_6 ?_
  refine g_aload_n F 0 rfl rfl dX14_init_9 ?_
  refine g_iconst F (v := (-1 : Int32)) (by decide) dX14_init_10 ?_
  refine g_put (P2 := (gUp P a (.inr (11, [.int (0 : Int32), .int (0 : Int32), .int (0 : Int32), .int (0 : Int32), .int (0 : Int32), .int (0 : Int32), .int (0 : Int32), .int (0 : Int32), .int (0 : Int32), .int (0 : Int32), .int (0 : Int32)])) (.inr (11, [.int (0 : Int32), .int (0 : Int32), .int (0 : Int32), .int (0 : Int32), .int (0 : Int32), .int (0 : Int32), .int (0 : Int32), .int (0 : Int32), .int (-1 : Int32), .int (-1 : Int32), .int (0 : Int32)])))) F clX14 9 (by decide) q1689 rfl rfl rfl (gUp_put (gnl rfl)) dX14_init_11 ?_
  exact g_retV F E rfl (gle rfl) (gle rfl) dX14_init_14 (fun _ hp => ⟨rfl, hp⟩)

def sM_shaft (S : gS) (c : Prop) [Decidable c] : Value × gS := (.int (S.1 0 0 1), (gsr (gsr S.1 0 0 (upd (S.1 0 0) 8 0)) 0 0 (upd (upd (S.1 0 0) 8 0) 1 (gb c)), S.2))
theorem kX3_shaft {l : Launch} {G : gG} (hl : l.stackTraces = false) {S : gS} {a0 : Nat} {Fr : gH → Prop} (hF : gFr 1 Fr) (hW : gWf S) {c : Prop} [Decidable c]  : gMet l yX3_shaft (ws_ yX3_shaft cX3_shaft 3 (some .boolean)) ⟨1, 0, 0, 20⟩ G [.ref a0, .int (gb c)] (gPE 1 G S a0 Fr) (gqN (sM_shaft S c) G a0 Fr) gxN := by
  refine gMet_of hl pnX3 (gle rfl) (fun X Q hX F E hNm => ?_)
  subst hX
  change gW (X, G, 3, Q) (gPE 1 G S a0 Fr) [(0, .ref a0), (1, .int (gb c))] 0 [] 0 0
  refine g_pe (fun A hA => ?_)
  subst hA
  change gW _ _ [(0, .ref (A 0 0)), (1, .int (gb c))] 0 [] 0 0
  refine g_aload_n F 0 rfl rfl dX3_shaft_0 ?_
  refine g_callV F (kX3_begins hl (pr_at (κ := 0) (i := 0) (by decide) (gc1 (gnl rfl)) (gce rfl rfl))) (g_recv F clX3 (gd_obj (pr_at (κ := 0) (i := 0) (by decide) (gc1 (gnl rfl)) (gce rfl rfl)))) q1448 q1450 qs6 q25 q1451 myX3_begins ⟨by decide, by decide⟩ rfl rfl (gle rfl) 0 0 (gle rfl) (gle rfl) (gle rfl) (gle rfl) dX3_shaft_1 gx_n (gv_v ?_)
  refine g_mono (P2 := gP 1 G (gsr S.1 0 0 (upd (S.1 0 0) 8 0), S.2) A Fr []) (pr_upRow (κ := 0) (i := 0) gM1 hF (upd (S.1 0 0) 8 0) (by decide) (gc1 (gnl rfl)) (gce rfl rfl) rfl) ?_
  refine g_aload_n F 0 rfl rfl dX3_shaft_4 ?_
  refine g_get F clX3 2 (by decide) q1391 (v := .int (S.1 0 0 1)) (gd_get (pr_at (κ := 0) (i := 0) (by decide) (gc1 (gnl rfl)) (gce (show (gsr S.1 0 0 (upd (S.1 0 0) 8 0)) 0 0 = upd (S.1 0 0) 8 0 from gsr_s) rfl)) rfl) dX3_shaft_5 ?_
  refine g_istore_n F rfl (by show 2 < 3; decide) (lv2 := [(2, .int (S.1 0 0 1)), (0, .ref (A 0 0)), (1, .int (gb c))]) rfl dX3_shaft_8 ?_
  refine g_aload_n F 1 rfl rfl dX3_shaft_9 ?_
  refine g_iload_n F 2 rfl rfl dX3_shaft_10 ?_
  refine g_put (P2 := gP 1 G (gsr (gsr S.1 0 0 (upd (S.1 0 0) 8 0)) 0 0 (upd (upd (S.1 0 0) 8 0) 1 (gb c)), S.2) A Fr []) F clX3 2 (by decide) q1391 rfl gb_z gb_fit (pr_put (κ := 0) (i := 0) gM1 hF (upd (upd (S.1 0 0) 8 0) 1 (gb c)) (by decide) (gc1 (gnl rfl)) (gce (show (gsr S.1 0 0 (upd (S.1 0 0) 8 0)) 0 0 = upd (S.1 0 0) 8 0 from gsr_s) rfl) (gnl rfl) rfl) dX3_shaft_11 ?_
  refine g_iload_n F 0 rfl rfl dX3_shaft_14 ?_
  exact g_retI F E rfl (gBl_n (gw_b hW)) (gle rfl) (gle rfl) dX3_shaft_15 (fun _ hp => ⟨_, _, rfl, rfl, ⟨A, rfl, gP_T0 hp⟩⟩)

def sM_on (S : gS) (ch : Int32) (c : Prop) [Decidable c] : Value × gS := if ¬ (0 ≤ (gidx 0 ch)) then (.int (0 : Int32), (gsr (gsr S.1 0 0 (upd (S.1 0 0) 8 0)) 0 0 (upd (upd (S.1 0 0) 8 0) 8 (1 : Int32)), S.2)) else (.int (S.1 2 0 ((gidx 0 ch).toNatClampNeg)), (gsr (gsr S.1 0 0 (upd (S.1 0 0) 8 0)) 2 0 (upd (S.1 2 0) ((gidx 0 ch).toNatClampNeg) (gb c)), S.2))
theorem kX3_on {l : Launch} {G : gG} (hl : l.stackTraces = false) {S : gS} {a0 : Nat} {Fr : gH → Prop} (hF : gFr 1 Fr) (hW : gWf S) {ch : Int32} {c : Prop} [Decidable c] (h_ch : ¬ ch < 0) : gMet l yX3_on (ws_ yX3_on cX3_on 5 (some .boolean)) ⟨4, 0, 0, 91⟩ G [.ref a0, .int ch, .int (gb c)] (gPE 1 G S a0 Fr) (gqN (sM_on S ch c) G a0 Fr) gxN := by
  refine gMet_of hl pnX3 (gle rfl) (fun X Q hX F E hNm => ?_)
  subst hX
  change gW (X, G, 5, Q) (gPE 1 G S a0 Fr) [(0, .ref a0), (1, .int ch), (2, .int (gb c))] 0 [] 0 0
  refine g_pe (fun A hA => ?_)
  subst hA
  change gW _ _ [(0, .ref (A 0 0)), (1, .int ch), (2, .int (gb c))] 0 [] 0 0
  refine g_aload_n F 0 rfl rfl dX3_on_0 ?_
  refine g_callV F (kX3_begins hl (pr_at (κ := 0) (i := 0) (by decide) (gc1 (gnl rfl)) (gce rfl rfl))) (g_recv F clX3 (gd_obj (pr_at (κ := 0) (i := 0) (by decide) (gc1 (gnl rfl)) (gce rfl rfl)))) q1448 q1450 qs6 q25 q1451 myX3_begins ⟨by decide, by decide⟩ rfl rfl (gle rfl) 0 0 (gle rfl) (gle rfl) (gle rfl) (gle rfl) dX3_on_1 gx_n (gv_v ?_)
  refine g_mono (P2 := gP 1 G (gsr S.1 0 0 (upd (S.1 0 0) 8 0), S.2) A Fr []) (pr_upRow (κ := 0) (i := 0) gM1 hF (upd (S.1 0 0) 8 0) (by decide) (gc1 (gnl rfl)) (gce rfl rfl) rfl) ?_
  refine g_ldcS F (i := 0) (List.mem_of_getElem? (i := 7) rfl) dX3_on_4 ?_
  refine g_iload_n F 1 rfl rfl dX3_on_6 ?_
  refine g_callV F (kJ0_indexOf hl (by decide) (ch := ch) h_ch) (g_srecv F (by decide)) q1469 q436 q437 q19 q438 myJ0_indexOf ⟨by decide, by decide⟩ rfl rfl (gle rfl) 0 0 (gle rfl) (gle rfl) (gle rfl) (gle rfl) dX3_on_7 gx_n (gv_i ?_)
  refine g_istore_n F rfl (by show 3 < 5; decide) (lv2 := [(3, .int (gidx 0 ch)), (0, .ref (A 0 0)), (1, .int ch), (2, .int (gb c))]) rfl dX3_on_10 ?_
  refine g_aload_n F 1 rfl rfl dX3_on_11 ?_
  refine g_iload_n F 0 rfl rfl dX3_on_12 ?_
  have J_2 : gW (X, G, 5, Q) (gP 1 G (gsr S.1 0 0 (upd (S.1 0 0) 8 0), S.2) A Fr []) [(3, .int (gidx 0 ch)), (0, .ref (A 0 0)), (1, .int ch), (2, .int (gb c))] 21 [.int (gb (¬ (0 ≤ (gidx 0 ch)))), .ref (A 0 0)] 0 0 := by
    refine g_iconst F (v := (1 : Int32)) (by decide) dX3_on_21 ?_
    refine g_callV F (kX3_fails hl (b := gb (¬ (0 ≤ (gidx 0 ch)))) (nu := (1 : Int32)) (c := ¬ (0 ≤ (gidx 0 ch))) gb_n0 (by decide) (pr_at (κ := 0) (i := 0) (by decide) (gc1 (gnl rfl)) (gce (show (gsr S.1 0 0 (upd (S.1 0 0) 8 0)) 0 0 = upd (S.1 0 0) 8 0 from gsr_s) rfl))) (g_recv F clX3 (gd_obj (pr_at (κ := 0) (i := 0) (by decide) (gc1 (gnl rfl)) (gce (show (gsr S.1 0 0 (upd (S.1 0 0) 8 0)) 0 0 = upd (S.1 0 0) 8 0 from gsr_s) rfl)))) q1456 q1458 qs7 q25 q1459 myX3_fails ⟨by decide, by decide⟩ rfl rfl (gle rfl) 0 0 (gle rfl) (gle rfl) (gle rfl) (gle rfl) dX3_on_22 gx_n (gv_f (fun c_3 => ?_) (fun c_3 => ?_))
    · skip
      refine g_mono (P2 := gP 1 G (gsr (gsr S.1 0 0 (upd (S.1 0 0) 8 0)) 0 0 (upd (upd (S.1 0 0) 8 0) 8 (1 : Int32)), S.2) A Fr []) (pr_upRow (κ := 0) (i := 0) gM1 hF (upd (upd (S.1 0 0) 8 0) 8 (1 : Int32)) (by decide) (gc1 (gnl rfl)) (gce (show (gsr S.1 0 0 (upd (S.1 0 0) 8 0)) 0 0 = upd (S.1 0 0) 8 0 from gsr_s) rfl) rfl) ?_
      refine g_if_eq F (tgt := 30) (by decide) dX3_on_25 (fun c => absurd c (by decide)) (fun _ => ?_)
      refine g_iconst F (v := (0 : Int32)) (by decide) dX3_on_28 ?_
      exact g_retI F E rfl rfl (gle rfl) (gle rfl) dX3_on_29 (fun _ hp => ⟨_, _, (if_pos c_3), rfl, ⟨A, rfl, gP_T0 hp⟩⟩)
    · skip
      refine g_if_eq F (tgt := 30) (by decide) dX3_on_25 (fun _ => ?_) (fun c => absurd c (by decide))
      refine g_aload_n F 1 rfl rfl dX3_on_30 ?_
      refine g_get F clX3 3 (by decide) q1392 (v := .ref (A 2 0)) (gd_get (pr_at (κ := 0) (i := 0) (by decide) (gc1 (gnl rfl)) (gce (show (gsr S.1 0 0 (upd (S.1 0 0) 8 0)) 0 0 = upd (S.1 0 0) 8 0 from gsr_s) rfl)) rfl) dX3_on_31 ?_
      refine g_iload_n F 0 rfl rfl dX3_on_34 ?_
      refine g_zald F (gidx_vp (i := 0) (by decide) (Int32.not_lt.mpr (Decidable.not_not.mp c_3))) (pr_at (κ := 2) (i := 0) (by decide) (gc1 (gnl rfl)) (gce (show (gsr S.1 0 0 (upd (S.1 0 0) 8 0)) 2 0 = S.1 2 0 from (gsr_p (by decide) rfl)) rfl)) dX3_on_35 ?_
      change gW _ _ _ _ (.int (S.1 2 0 ((gidx 0 ch).toNatClampNeg)) :: _) _ _
      refine g_istore F (by show 4 < 5; decide) (lv2 := [(4, .int (S.1 2 0 ((gidx 0 ch).toNatClampNeg))), (3, .int (gidx 0 ch)), (0, .ref (A 0 0)), (1, .int ch), (2, .int (gb c))]) rfl dX3_on_36 ?_
      refine g_aload_n F 2 rfl rfl dX3_on_38 ?_
      refine g_get F clX3 3 (by decide) q1392 (v := .ref (A 2 0)) (gd_get (pr_at (κ := 0) (i := 0) (by decide) (gc1 (gnl rfl)) (gce (show (gsr S.1 0 0 (upd (S.1 0 0) 8 0)) 0 0 = upd (S.1 0 0) 8 0 from gsr_s) rfl)) rfl) dX3_on_39 ?_
      refine g_iload_n F 1 rfl rfl dX3_on_42 ?_
      refine g_iload_n F 4 rfl rfl dX3_on_43 ?_
      refine g_zast (P2 := gP 1 G (gsr (gsr S.1 0 0 (upd (S.1 0 0) 8 0)) 2 0 (upd (S.1 2 0) ((gidx 0 ch).toNatClampNeg) (gb c)), S.2) A Fr []) F (gidx_vp (i := 0) (by decide) (Int32.not_lt.mpr (Decidable.not_not.mp c_3))) gb_zn (pr_setRow (κ := 2) (i := 0) gM1 hF (upd (S.1 2 0) ((gidx 0 ch).toNatClampNeg) (gb c)) (by decide) (gc1 (gnl rfl)) (gce (show (gsr S.1 0 0 (upd (S.1 0 0) 8 0)) 2 0 = S.1 2 0 from (gsr_p (by decide) rfl)) rfl) rfl) dX3_on_44 ?_
      refine g_iload F 0 rfl dX3_on_45 ?_
      exact g_retI F E rfl (gBl_n (gw_on hW (gidx_in (i := 0) (by decide) (Int32.not_lt.mpr (Decidable.not_not.mp c_3))).2)) (gle rfl) (gle rfl) dX3_on_47 (fun _ hp => ⟨_, _, (if_neg c_3), rfl, ⟨A, rfl, gP_T0 hp⟩⟩)
  refine g_if_ge F (tgt := 20) (by decide) dX3_on_13 (fun c_1 => ?_) (fun c_1 => ?_)
  · skip
    refine g_iconst F (v := (0 : Int32)) (by decide) dX3_on_20 ?_
    exact g_top (gb_f (fun q => q c_1)) J_2
  · skip
    refine g_iconst F (v := (1 : Int32)) (by decide) dX3_on_16 ?_
    refine g_goto F (tgt := 21) (by decide) dX3_on_17 ?_
    exact g_top (gb_t c_1) J_2

def sM_runs (S : gS) (ch : Int32) : Value × gS := if ¬ (0 ≤ (gidx 0 ch)) then (.int (0 : Int32), (gsr (gsr S.1 0 0 (upd (S.1 0 0) 8 0)) 0 0 (upd (upd (S.1 0 0) 8 0) 8 (1 : Int32)), S.2)) else (.int (gb (gGoes S (gidx 0 ch))), (gsr S.1 0 0 (upd (S.1 0 0) 8 0), S.2))
theorem kX3_runs {l : Launch} {G : gG} (hl : l.stackTraces = false) {S : gS} {a0 : Nat} {Fr : gH → Prop} (hF : gFr 1 Fr) (hW : gWf S) {ch : Int32} (h_ch : ¬ ch < 0) : gMet l yX3_runs (ws_ yX3_runs cX3_runs 3 (some .boolean)) ⟨4, 0, 0, 91⟩ G [.ref a0, .int ch] (gPE 1 G S a0 Fr) (gqN (sM_runs S ch) G a0 Fr) gxN := by
  refine gMet_of hl pnX3 (gle rfl) (fun X Q hX F E hNm => ?_)
  subst hX
  change gW (X, G, 3, Q) (gPE 1 G S a0 Fr) [(0, .ref a0), (1, .int ch)] 0 [] 0 0
  refine g_pe (fun A hA => ?_)
  subst hA
  change gW _ _ [(0, .ref (A 0 0)), (1, .int ch)] 0 [] 0 0
  refine g_aload_n F 0 rfl rfl dX3_runs_0 ?_
  refine g_callV F (kX3_begins hl (pr_at (κ := 0) (i := 0) (by decide) (gc1 (gnl rfl)) (gce rfl rfl))) (g_recv F clX3 (gd_obj (pr_at (κ := 0) (i := 0) (by decide) (gc1 (gnl rfl)) (gce rfl rfl)))) q1448 q1450 qs6 q25 q1451 myX3_begins ⟨by decide, by decide⟩ rfl rfl (gle rfl) 0 0 (gle rfl) (gle rfl) (gle rfl) (gle rfl) dX3_runs_1 gx_n (gv_v ?_)
  refine g_mono (P2 := gP 1 G (gsr S.1 0 0 (upd (S.1 0 0) 8 0), S.2) A Fr []) (pr_upRow (κ := 0) (i := 0) gM1 hF (upd (S.1 0 0) 8 0) (by decide) (gc1 (gnl rfl)) (gce rfl rfl) rfl) ?_
  refine g_ldcS F (i := 0) (List.mem_of_getElem? (i := 7) rfl) dX3_runs_4 ?_
  refine g_iload_n F 1 rfl rfl dX3_runs_6 ?_
  refine g_callV F (kJ0_indexOf hl (by decide) (ch := ch) h_ch) (g_srecv F (by decide)) q1469 q436 q437 q19 q438 myJ0_indexOf ⟨by decide, by decide⟩ rfl rfl (gle rfl) 0 0 (gle rfl) (gle rfl) (gle rfl) (gle rfl) dX3_runs_7 gx_n (gv_i ?_)
  refine g_istore_n F rfl (by show 2 < 3; decide) (lv2 := [(2, .int (gidx 0 ch)), (0, .ref (A 0 0)), (1, .int ch)]) rfl dX3_runs_10 ?_
  refine g_aload_n F 1 rfl rfl dX3_runs_11 ?_
  refine g_iload_n F 0 rfl rfl dX3_runs_12 ?_
  have J_2 : gW (X, G, 3, Q) (gP 1 G (gsr S.1 0 0 (upd (S.1 0 0) 8 0), S.2) A Fr []) [(2, .int (gidx 0 ch)), (0, .ref (A 0 0)), (1, .int ch)] 21 [.int (gb (¬ (0 ≤ (gidx 0 ch)))), .ref (A 0 0)] 0 0 := by
    refine g_iconst F (v := (1 : Int32)) (by decide) dX3_runs_21 ?_
    refine g_callV F (kX3_fails hl (b := gb (¬ (0 ≤ (gidx 0 ch)))) (nu := (1 : Int32)) (c := ¬ (0 ≤ (gidx 0 ch))) gb_n0 (by decide) (pr_at (κ := 0) (i := 0) (by decide) (gc1 (gnl rfl)) (gce (show (gsr S.1 0 0 (upd (S.1 0 0) 8 0)) 0 0 = upd (S.1 0 0) 8 0 from gsr_s) rfl))) (g_recv F clX3 (gd_obj (pr_at (κ := 0) (i := 0) (by decide) (gc1 (gnl rfl)) (gce (show (gsr S.1 0 0 (upd (S.1 0 0) 8 0)) 0 0 = upd (S.1 0 0) 8 0 from gsr_s) rfl)))) q1456 q1458 qs7 q25 q1459 myX3_fails ⟨by decide, by decide⟩ rfl rfl (gle rfl) 0 0 (gle rfl) (gle rfl) (gle rfl) (gle rfl) dX3_runs_22 gx_n (gv_f (fun c_3 => ?_) (fun c_3 => ?_))
    · skip
      refine g_mono (P2 := gP 1 G (gsr (gsr S.1 0 0 (upd (S.1 0 0) 8 0)) 0 0 (upd (upd (S.1 0 0) 8 0) 8 (1 : Int32)), S.2) A Fr []) (pr_upRow (κ := 0) (i := 0) gM1 hF (upd (upd (S.1 0 0) 8 0) 8 (1 : Int32)) (by decide) (gc1 (gnl rfl)) (gce (show (gsr S.1 0 0 (upd (S.1 0 0) 8 0)) 0 0 = upd (S.1 0 0) 8 0 from gsr_s) rfl) rfl) ?_
      refine g_if_ne F (tgt := 40) (by decide) dX3_runs_25 (fun _ => ?_) (fun c => absurd c (by decide))
      refine g_iconst F (v := (0 : Int32)) (by decide) dX3_runs_40 ?_
      exact g_retI F E rfl rfl (gle rfl) (gle rfl) dX3_runs_41 (fun _ hp => ⟨_, _, (if_pos c_3), rfl, ⟨A, rfl, gP_T0 hp⟩⟩)
    · skip
      refine g_if_ne F (tgt := 40) (by decide) dX3_runs_25 (fun c => absurd c (by decide)) (fun _ => ?_)
      refine g_aload_n F 1 rfl rfl dX3_runs_28 ?_
      refine g_iload_n F 0 rfl rfl dX3_runs_29 ?_
      refine g_callV F (kX3_going hl hF hW (x := gidx 0 ch) (gidx_in (i := 0) (by decide) (Int32.not_lt.mpr (Decidable.not_not.mp c_3))) rfl) (g_recv F clX3 (gd_obj (pr_at (κ := 0) (i := 0) (by decide) (gc1 (gnl rfl)) (gce (show (gsr S.1 0 0 (upd (S.1 0 0) 8 0)) 0 0 = upd (S.1 0 0) 8 0 from gsr_s) rfl)))) q1479 q1481 qs8 q25 q1482 myX3_going ⟨by decide, by decide⟩ rfl rfl (gle rfl) 0 0 (gle rfl) (gle rfl) (gle rfl) (gle rfl) dX3_runs_30 gx_n (gv_i ?_)
      have J_5 : gW (X, G, 3, Q) (gP 1 G (gsr S.1 0 0 (upd (S.1 0 0) 8 0), S.2) A Fr []) [(2, .int (gidx 0 ch)), (0, .ref (A 0 0)), (1, .int ch)] 41 [.int (gb (gGoes S (gidx 0 ch)))] 0 0 := by
        exact g_retI F E rfl gb_z (gle rfl) (gle rfl) dX3_runs_41 (fun _ hp => ⟨_, _, (if_neg c_3), rfl, ⟨A, rfl, gP_T0 hp⟩⟩)
      refine gb_if_eq F (tgt := 40) (by decide) dX3_runs_33 (fun c_4 => ?_) (fun c_4 => ?_)
      · skip
        refine g_iconst F (v := (0 : Int32)) (by decide) dX3_runs_40 ?_
        exact g_top (gb_f c_4) J_5
      · skip
        refine g_iconst F (v := (1 : Int32)) (by decide) dX3_runs_36 ?_
        refine g_goto F (tgt := 41) (by decide) dX3_runs_37 ?_
        exact g_top (gb_t c_4) J_5
  refine g_if_ge F (tgt := 20) (by decide) dX3_runs_13 (fun c_1 => ?_) (fun c_1 => ?_)
  · skip
    refine g_iconst F (v := (0 : Int32)) (by decide) dX3_runs_20 ?_
    exact g_top (gb_f (fun q => q c_1)) J_2
  · skip
    refine g_iconst F (v := (1 : Int32)) (by decide) dX3_runs_16 ?_
    refine g_goto F (tgt := 21) (by decide) dX3_runs_17 ?_
    exact g_top (gb_t c_1) J_2

def sM_season (S : gS) (slats hours : Int32) : Value × gS := if ¬ gIn slats (S.2 9) then (.int (-1 : Int32), (gsr (gsr S.1 0 0 (upd (S.1 0 0) 8 0)) 0 0 (upd (upd (S.1 0 0) 8 0) 8 1), S.2)) else (if ¬ (¬ hours < (1 : Int32) ∧ ¬ (200 : Int32) < hours) then (.int (-1 : Int32), (gsr (gsr S.1 0 0 (upd (S.1 0 0) 8 0)) 0 0 (upd (upd (S.1 0 0) 8 0) 8 (2 : Int32)), S.2)) else (if ¬ ((S.1 9 slats.toNatClampNeg 5) ≤ (S.1 0 0 0)) then (.int (-1 : Int32), (gsr (gsr S.1 0 0 (upd (S.1 0 0) 8 0)) 0 0 (upd (upd (S.1 0 0) 8 0) 8 (3 : Int32)), S.2)) else (.int ((S.1 0 0 0) + hours), (gsr (gsr (gsr S.1 0 0 (upd (S.1 0 0) 8 0)) 9 slats.toNatClampNeg (upd (S.1 9 slats.toNatClampNeg) 2 (gmax (0 : Int32) ((S.1 9 slats.toNatClampNeg 2) - (hours / (if (S.1 9 slats.toNatClampNeg 0) = (99 : Int32) then (6 : Int32) else (9 : Int32))))))) 9 slats.toNatClampNeg (upd (upd (S.1 9 slats.toNatClampNeg) 2 (gmax (0 : Int32) ((S.1 9 slats.toNatClampNeg 2) - (hours / (if (S.1 9 slats.toNatClampNeg 0) = (99 : Int32) then (6 : Int32) else (9 : Int32)))))) 5 ((S.1 0 0 0) + hours)), S.2))))
theorem kX3_season {l : Launch} {G : gG} (hl : l.stackTraces = false) {S : gS} {a0 : Nat} {Fr : gH → Prop} (hF : gFr 1 Fr) (hW : gWf S) {slats hours : Int32}  : gMet l yX3_season (ws_ yX3_season cX3_season 4 (some .int)) ⟨3, 0, 0, 67⟩ G [.ref a0, .int slats, .int hours] (gPE 1 G S a0 Fr) (gqN (sM_season S slats hours) G a0 Fr) gxN := by
  refine gMet_of hl pnX3 (gle rfl) (fun X Q hX F E hNm => ?_)
  subst hX
  change gW (X, G, 4, Q) (gPE 1 G S a0 Fr) [(0, .ref a0), (1, .int slats), (2, .int hours)] 0 [] 0 0
  refine g_pe (fun A hA => ?_)
  subst hA
  change gW _ _ [(0, .ref (A 0 0)), (1, .int slats), (2, .int hours)] 0 [] 0 0
  refine g_aload_n F 0 rfl rfl dX3_season_0 ?_
  refine g_callV F (kX3_begins hl (pr_at (κ := 0) (i := 0) (by decide) (gc1 (gnl rfl)) (gce rfl rfl))) (g_recv F clX3 (gd_obj (pr_at (κ := 0) (i := 0) (by decide) (gc1 (gnl rfl)) (gce rfl rfl)))) q1448 q1450 qs6 q25 q1451 myX3_begins ⟨by decide, by decide⟩ rfl rfl (gle rfl) 0 0 (gle rfl) (gle rfl) (gle rfl) (gle rfl) dX3_season_1 gx_n (gv_v ?_)
  refine g_mono (P2 := gP 1 G (gsr S.1 0 0 (upd (S.1 0 0) 8 0), S.2) A Fr []) (pr_upRow (κ := 0) (i := 0) gM1 hF (upd (S.1 0 0) 8 0) (by decide) (gc1 (gnl rfl)) (gce rfl rfl) rfl) ?_
  refine g_aload_n F 0 rfl rfl dX3_season_4 ?_
  refine g_iload_n F 1 rfl rfl dX3_season_5 ?_
  refine g_callV F (kX3_noSlats hl hF hW (x := slats)) (g_recv F clX3 (gd_obj (pr_at (κ := 0) (i := 0) (by decide) (gc1 (gnl rfl)) (gce (show (gsr S.1 0 0 (upd (S.1 0 0) 8 0)) 0 0 = upd (S.1 0 0) 8 0 from gsr_s) rfl)))) q1652 q1654 qs14 q25 q1655 myX3_noSlats ⟨by decide, by decide⟩ rfl rfl (gle rfl) 0 0 (gle rfl) (gle rfl) (gle rfl) (gle rfl) dX3_season_6 gx_n (gv_f (fun c_1 => ?_) (fun c_1 => ?_))
  · skip
    refine g_if_ne F (tgt := 73) (by decide) dX3_season_9 (fun _ => ?_) (fun c => absurd c (by decide))
    refine g_iconst F (v := (-1 : Int32)) (by decide) dX3_season_73 ?_
    exact g_retI F E rfl rfl (gle rfl) (gle rfl) dX3_season_74 (fun _ hp => ⟨_, _, (if_pos c_1), rfl, ⟨A, rfl, gP_T0 hp⟩⟩)
  · skip
    refine g_if_ne F (tgt := 73) (by decide) dX3_season_9 (fun c => absurd c (by decide)) (fun _ => ?_)
    refine g_aload_n F 0 rfl rfl dX3_season_12 ?_
    refine g_iload_n F 2 rfl rfl dX3_season_13 ?_
    refine g_i2l F dX3_season_14 ?_
    refine g_lconst F (v := (1 : Int64)) (by decide) dX3_season_15 ?_
    refine g_ldc2 F (v := (200 : Int64)) q1656 dX3_season_16 ?_
    refine g_callS F (kX3_in hl (x := hours) (lo := (1 : Int32)) (hi := (200 : Int32)) (by decide) (by decide)) (lw_S q1453 q1454 q25 q1455) myX3_in ⟨by decide, by decide⟩ rfl rfl (gle rfl) 0 0 (gle rfl) (gle rfl) (gle rfl) (gle rfl) dX3_season_19 gx_n (gv_i ?_)
    have J_3 : gW (X, G, 4, Q) (gP 1 G (gsr S.1 0 0 (upd (S.1 0 0) 8 0), S.2) A Fr []) [(0, .ref (A 0 0)), (1, .int slats), (2, .int hours)] 30 [.int (gb (¬ (¬ hours < (1 : Int32) ∧ ¬ (200 : Int32) < hours))), .ref (A 0 0)] 0 0 := by
      refine g_iconst F (v := (2 : Int32)) (by decide) dX3_season_30 ?_
      refine g_callV F (kX3_fails hl (b := gb (¬ (¬ hours < (1 : Int32) ∧ ¬ (200 : Int32) < hours))) (nu := (2 : Int32)) (c := ¬ (¬ hours < (1 : Int32) ∧ ¬ (200 : Int32) < hours)) gb_n0 (by decide) (pr_at (κ := 0) (i := 0) (by decide) (gc1 (gnl rfl)) (gce (show (gsr S.1 0 0 (upd (S.1 0 0) 8 0)) 0 0 = upd (S.1 0 0) 8 0 from gsr_s) rfl))) (g_recv F clX3 (gd_obj (pr_at (κ := 0) (i := 0) (by decide) (gc1 (gnl rfl)) (gce (show (gsr S.1 0 0 (upd (S.1 0 0) 8 0)) 0 0 = upd (S.1 0 0) 8 0 from gsr_s) rfl)))) q1456 q1458 qs7 q25 q1459 myX3_fails ⟨by decide, by decide⟩ rfl rfl (gle rfl) 0 0 (gle rfl) (gle rfl) (gle rfl) (gle rfl) dX3_season_31 gx_n (gv_f (fun c_4 => ?_) (fun c_4 => ?_))
      · skip
        refine g_mono (P2 := gP 1 G (gsr (gsr S.1 0 0 (upd (S.1 0 0) 8 0)) 0 0 (upd (upd (S.1 0 0) 8 0) 8 (2 : Int32)), S.2) A Fr []) (pr_upRow (κ := 0) (i := 0) gM1 hF (upd (upd (S.1 0 0) 8 0) 8 (2 : Int32)) (by decide) (gc1 (gnl rfl)) (gce (show (gsr S.1 0 0 (upd (S.1 0 0) 8 0)) 0 0 = upd (S.1 0 0) 8 0 from gsr_s) rfl) rfl) ?_
        refine g_if_ne F (tgt := 73) (by decide) dX3_season_34 (fun _ => ?_) (fun c => absurd c (by decide))
        refine g_iconst F (v := (-1 : Int32)) (by decide) dX3_season_73 ?_
        exact g_retI F E rfl rfl (gle rfl) (gle rfl) dX3_season_74 (fun _ hp => ⟨_, _, ((if_neg c_1).trans (if_pos c_4)), rfl, ⟨A, rfl, gP_T0 hp⟩⟩)
      · skip
        refine g_if_ne F (tgt := 73) (by decide) dX3_season_34 (fun c => absurd c (by decide)) (fun _ => ?_)
        refine g_aload_n F 0 rfl rfl dX3_season_37 ?_
        refine g_aload_n F 0 rfl rfl dX3_season_38 ?_
        refine g_get F clX3 1 (by decide) q1390 (v := .int (S.1 0 0 0)) (gd_get (pr_at (κ := 0) (i := 0) (by decide) (gc1 (gnl rfl)) (gce (show (gsr S.1 0 0 (upd (S.1 0 0) 8 0)) 0 0 = upd (S.1 0 0) 8 0 from gsr_s) rfl)) rfl) dX3_season_39 ?_
        refine g_aload_n F 0 rfl rfl dX3_season_42 ?_
        refine g_get F clX3 10 (by decide) q1399 (v := .ref (A 309 0)) (gd_get (pr_at (κ := 0) (i := 0) (by decide) (gc1 (gnl rfl)) (gce (show (gsr S.1 0 0 (upd (S.1 0 0) 8 0)) 0 0 = upd (S.1 0 0) 8 0 from gsr_s) rfl)) rfl) dX3_season_43 ?_
        refine g_iload_n F 1 rfl rfl dX3_season_46 ?_
        refine g_callF F clJ3 (kJ3_get hl (pr_ls (M := 1) (S := (gsr S.1 0 0 (upd (S.1 0 0) 8 0), S.2)) (A := A) (κ := 9) (by decide) (Or.inl ⟨by decide, by decide⟩) (fun q => by first | decide | exact absurd q (by decide)) (fun q => by first | decide | exact absurd q (by decide))) (j := slats.toNatClampNeg) (Decidable.not_not.mp c_1).2 (gw_n hW _) rfl (Decidable.not_not.mp c_1).1) (g_recv F clJ3 (gls_obj (pr_ls (M := 1) (S := (gsr S.1 0 0 (upd (S.1 0 0) 8 0), S.2)) (A := A) (κ := 9) (by decide) (Or.inl ⟨by decide, by decide⟩) (fun q => by first | decide | exact absurd q (by decide)) (fun q => by first | decide | exact absurd q (by decide))))) q1506 q809 q811 q22 q813 (List.mem_of_getElem? (i := 1) rfl) (gT_w q812 rfl) (gT_w q810 rfl) (gT_w q293 rfl) gface_1 ⟨by decide, by decide⟩ rfl rfl (gle rfl) 0 0 (gle rfl) (gle rfl) (gle rfl) (gle rfl) dX3_season_47 gx_n (gv_i ?_)
        refine g_castS F (g_recv F clX12 (gd_obj (pr_at (κ := 9) (i := slats.toNatClampNeg) (by decide) (gc6 (by decide) (Decidable.not_not.mp c_1).2) (gce (show (gsr S.1 0 0 (upd (S.1 0 0) 8 0)) 9 slats.toNatClampNeg = S.1 9 slats.toNatClampNeg from (gsr_p (by decide) rfl)) rfl)))) q1623 dX3_season_52 ?_
        refine g_getN F clX12 5 (by decide) (gT_w q1634 rfl) (v := .int (S.1 9 slats.toNatClampNeg 5)) (gd_get (pr_at (κ := 9) (i := slats.toNatClampNeg) (by decide) (gc6 (by decide) (Decidable.not_not.mp c_1).2) (gce (show (gsr S.1 0 0 (upd (S.1 0 0) 8 0)) 9 slats.toNatClampNeg = S.1 9 slats.toNatClampNeg from (gsr_p (by decide) rfl)) rfl)) rfl) dX3_season_55 ?_
        have J_6 : gW (X, G, 4, Q) (gP 1 G (gsr S.1 0 0 (upd (S.1 0 0) 8 0), S.2) A Fr []) [(0, .ref (A 0 0)), (1, .int slats), (2, .int hours)] 66 [.int (gb (¬ ((S.1 9 slats.toNatClampNeg 5) ≤ (S.1 0 0 0)))), .ref (A 0 0)] 0 0 := by
          refine g_iconst F (v := (3 : Int32)) (by decide) dX3_season_66 ?_
          refine g_callV F (kX3_fails hl (b := gb (¬ ((S.1 9 slats.toNatClampNeg 5) ≤ (S.1 0 0 0)))) (nu := (3 : Int32)) (c := ¬ ((S.1 9 slats.toNatClampNeg 5) ≤ (S.1 0 0 0))) gb_n0 (by decide) (pr_at (κ := 0) (i := 0) (by decide) (gc1 (gnl rfl)) (gce (show (gsr S.1 0 0 (upd (S.1 0 0) 8 0)) 0 0 = upd (S.1 0 0) 8 0 from gsr_s) rfl))) (g_recv F clX3 (gd_obj (pr_at (κ := 0) (i := 0) (by decide) (gc1 (gnl rfl)) (gce (show (gsr S.1 0 0 (upd (S.1 0 0) 8 0)) 0 0 = upd (S.1 0 0) 8 0 from gsr_s) rfl)))) q1456 q1458 qs7 q25 q1459 myX3_fails ⟨by decide, by decide⟩ rfl rfl (gle rfl) 0 0 (gle rfl) (gle rfl) (gle rfl) (gle rfl) dX3_season_67 gx_n (gv_f (fun c_7 => ?_) (fun c_7 => ?_))
          · skip
            refine g_mono (P2 := gP 1 G (gsr (gsr S.1 0 0 (upd (S.1 0 0) 8 0)) 0 0 (upd (upd (S.1 0 0) 8 0) 8 (3 : Int32)), S.2) A Fr []) (pr_upRow (κ := 0) (i := 0) gM1 hF (upd (upd (S.1 0 0) 8 0) 8 (3 : Int32)) (by decide) (gc1 (gnl rfl)) (gce (show (gsr S.1 0 0 (upd (S.1 0 0) 8 0)) 0 0 = upd (S.1 0 0) 8 0 from gsr_s) rfl) rfl) ?_
            refine g_if_eq F (tgt := 75) (by decide) dX3_season_70 (fun c => absurd c (by decide)) (fun _ => ?_)
            refine g_iconst F (v := (-1 : Int32)) (by decide) dX3_season_73 ?_
            exact g_retI F E rfl rfl (gle rfl) (gle rfl) dX3_season_74 (fun _ hp => ⟨_, _, ((if_neg c_1).trans ((if_neg c_4).trans (if_pos c_7))), rfl, ⟨A, rfl, gP_T0 hp⟩⟩)
          · skip
            refine g_if_eq F (tgt := 75) (by decide) dX3_season_70 (fun _ => ?_) (fun c => absurd c (by decide))
            refine g_aload_n F 0 rfl rfl dX3_season_75 ?_
            refine g_get F clX3 10 (by decide) q1399 (v := .ref (A 309 0)) (gd_get (pr_at (κ := 0) (i := 0) (by decide) (gc1 (gnl rfl)) (gce (show (gsr S.1 0 0 (upd (S.1 0 0) 8 0)) 0 0 = upd (S.1 0 0) 8 0 from gsr_s) rfl)) rfl) dX3_season_76 ?_
            refine g_iload_n F 1 rfl rfl dX3_season_79 ?_
            refine g_callF F clJ3 (kJ3_get hl (pr_ls (M := 1) (S := (gsr S.1 0 0 (upd (S.1 0 0) 8 0), S.2)) (A := A) (κ := 9) (by decide) (Or.inl ⟨by decide, by decide⟩) (fun q => by first | decide | exact absurd q (by decide)) (fun q => by first | decide | exact absurd q (by decide))) (j := slats.toNatClampNeg) (Decidable.not_not.mp c_1).2 (gw_n hW _) rfl (Decidable.not_not.mp c_1).1) (g_recv F clJ3 (gls_obj (pr_ls (M := 1) (S := (gsr S.1 0 0 (upd (S.1 0 0) 8 0), S.2)) (A := A) (κ := 9) (by decide) (Or.inl ⟨by decide, by decide⟩) (fun q => by first | decide | exact absurd q (by decide)) (fun q => by first | decide | exact absurd q (by decide))))) q1506 q809 q811 q22 q813 (List.mem_of_getElem? (i := 1) rfl) (gT_w q812 rfl) (gT_w q810 rfl) (gT_w q293 rfl) gface_1 ⟨by decide, by decide⟩ rfl rfl (gle rfl) 0 0 (gle rfl) (gle rfl) (gle rfl) (gle rfl) dX3_season_80 gx_n (gv_i ?_)
            refine g_castS F (g_recv F clX12 (gd_obj (pr_at (κ := 9) (i := slats.toNatClampNeg) (by decide) (gc6 (by decide) (Decidable.not_not.mp c_1).2) (gce (show (gsr S.1 0 0 (upd (S.1 0 0) 8 0)) 9 slats.toNatClampNeg = S.1 9 slats.toNatClampNeg from (gsr_p (by decide) rfl)) rfl)))) q1623 dX3_season_85 ?_
            refine g_astore_n F rfl (by show 3 < 4; decide) (lv2 := [(3, .ref (A 9 slats.toNatClampNeg)), (0, .ref (A 0 0)), (1, .int slats), (2, .int hours)]) rfl dX3_season_88 ?_
            refine g_aload_n F 0 rfl rfl dX3_season_89 ?_
            refine g_iconst F (v := (0 : Int32)) (by decide) dX3_season_90 ?_
            refine g_aload_n F 0 rfl rfl dX3_season_91 ?_
            refine g_getN F clX12 2 (by decide) (gT_w q1631 rfl) (v := .int (S.1 9 slats.toNatClampNeg 2)) (gd_get (pr_at (κ := 9) (i := slats.toNatClampNeg) (by decide) (gc6 (by decide) (Decidable.not_not.mp c_1).2) (gce (show (gsr S.1 0 0 (upd (S.1 0 0) 8 0)) 9 slats.toNatClampNeg = S.1 9 slats.toNatClampNeg from (gsr_p (by decide) rfl)) rfl)) rfl) dX3_season_92 ?_
            refine g_iload_n F 3 rfl rfl dX3_season_95 ?_
            refine g_aload_n F 0 rfl rfl dX3_season_96 ?_
            refine g_getN F clX12 0 (by decide) (gT_w q1629 rfl) (v := .int (S.1 9 slats.toNatClampNeg 0)) (gd_get (pr_at (κ := 9) (i := slats.toNatClampNeg) (by decide) (gc6 (by decide) (Decidable.not_not.mp c_1).2) (gce (show (gsr S.1 0 0 (upd (S.1 0 0) 8 0)) 9 slats.toNatClampNeg = S.1 9 slats.toNatClampNeg from (gsr_p (by decide) rfl)) rfl)) rfl) dX3_season_97 ?_
            refine g_bipush F (v := (99 : Int32)) (by decide) dX3_season_100 ?_
            have J_9 : gW (X, G, 4, Q) (gP 1 G (gsr S.1 0 0 (upd (S.1 0 0) 8 0), S.2) A Fr []) [(3, .ref (A 9 slats.toNatClampNeg)), (0, .ref (A 0 0)), (1, .int slats), (2, .int hours)] 112 [.int (if (S.1 9 slats.toNatClampNeg 0) = (99 : Int32) then (6 : Int32) else (9 : Int32)), .int hours, .int (S.1 9 slats.toNatClampNeg 2), .int (0 : Int32), .ref (A 9 slats.toNatClampNeg)] 0 0 := by
              refine g_idiv F (by (repeat' split) <;> decide) dX3_season_112 ?_
              refine g_isub F dX3_season_113 ?_
              refine g_mmax F q1513 (gle rfl) (gle rfl) (gle rfl) (gle rfl) dX3_season_114 ?_
              refine g_putN (P2 := gP 1 G (gsr (gsr S.1 0 0 (upd (S.1 0 0) 8 0)) 9 slats.toNatClampNeg (upd (S.1 9 slats.toNatClampNeg) 2 (gmax (0 : Int32) ((S.1 9 slats.toNatClampNeg 2) - (hours / (if (S.1 9 slats.toNatClampNeg 0) = (99 : Int32) then (6 : Int32) else (9 : Int32)))))), S.2) A Fr []) F clX12 2 (by decide) (gT_w q1631 rfl) rfl rfl rfl (pr_put (κ := 9) (i := slats.toNatClampNeg) gM1 hF (upd (S.1 9 slats.toNatClampNeg) 2 (gmax (0 : Int32) ((S.1 9 slats.toNatClampNeg 2) - (hours / (if (S.1 9 slats.toNatClampNeg 0) = (99 : Int32) then (6 : Int32) else (9 : Int32)))))) (by decide) (gc6 (by decide) (Decidable.not_not.mp c_1).2) (gce (show (gsr S.1 0 0 (upd (S.1 0 0) 8 0)) 9 slats.toNatClampNeg = S.1 9 slats.toNatClampNeg from (gsr_p (by decide) rfl)) rfl) (gnl rfl) rfl) dX3_season_117 ?_
              refine g_aload_n F 0 rfl rfl dX3_season_120 ?_
              refine g_aload_n F 1 rfl rfl dX3_season_121 ?_
              refine g_get F clX3 1 (by decide) q1390 (v := .int (S.1 0 0 0)) (gd_get (pr_at (κ := 0) (i := 0) (by decide) (gc1 (gnl rfl)) (gce (show (gsr (gsr S.1 0 0 (upd (S.1 0 0) 8 0)) 9 slats.toNatClampNeg (upd (S.1 9 slats.toNatClampNeg) 2 (gmax (0 : Int32) ((S.1 9 slats.toNatClampNeg 2) - (hours / (if (S.1 9 slats.toNatClampNeg 0) = (99 : Int32) then (6 : Int32) else (9 : Int32))))))) 0 0 = upd (S.1 0 0) 8 0 from (gsr_p (by decide) gsr_s)) rfl)) rfl) dX3_season_122 ?_
              refine g_iload_n F 3 rfl rfl dX3_season_125 ?_
              refine g_iadd F dX3_season_126 ?_
              refine g_putN (P2 := gP 1 G (gsr (gsr (gsr S.1 0 0 (upd (S.1 0 0) 8 0)) 9 slats.toNatClampNeg (upd (S.1 9 slats.toNatClampNeg) 2 (gmax (0 : Int32) ((S.1 9 slats.toNatClampNeg 2) - (hours / (if (S.1 9 slats.toNatClampNeg 0) = (99 : Int32) then (6 : Int32) else (9 : Int32))))))) 9 slats.toNatClampNeg (upd (upd (S.1 9 slats.toNatClampNeg) 2 (gmax (0 : Int32) ((S.1 9 slats.toNatClampNeg 2) - (hours / (if (S.1 9 slats.toNatClampNeg 0) = (99 : Int32) then (6 : Int32) else (9 : Int32)))))) 5 ((S.1 0 0 0) + hours)), S.2) A Fr []) F clX12 5 (by decide) (gT_w q1634 rfl) rfl rfl rfl (pr_put (κ := 9) (i := slats.toNatClampNeg) gM1 hF (upd (upd (S.1 9 slats.toNatClampNeg) 2 (gmax (0 : Int32) ((S.1 9 slats.toNatClampNeg 2) - (hours / (if (S.1 9 slats.toNatClampNeg 0) = (99 : Int32) then (6 : Int32) else (9 : Int32)))))) 5 ((S.1 0 0 0) + hours)) (by decide) (gc6 (by decide) (Decidable.not_not.mp c_1).2) (gce (show (gsr (gsr S.1 0 0 (upd (S.1 0 0) 8 0)) 9 slats.toNatClampNeg (upd (S.1 9 slats.toNatClampNeg) 2 (gmax (0 : Int32) ((S.1 9 slats.toNatClampNeg 2) - (hours / (if (S.1 9 slats.toNatClampNeg 0) = (99 : Int32) then (6 : Int32) else (9 : Int32))))))) 9 slats.toNatClampNeg = upd (S.1 9 slats.toNatClampNeg) 2 (gmax (0 : Int32) ((S.1 9 slats.toNatClampNeg 2) - (hours / (if (S.1 9 slats.toNatClampNeg 0) = (99 : Int32) then (6 : Int32) else (9 : Int32))))) from gsr_s) rfl) (gnl rfl) rfl) dX3_season_127 ?_
              refine g_aload_n F 0 rfl rfl dX3_season_130 ?_
              refine g_getN F clX12 5 (by decide) (gT_w q1634 rfl) (v := .int ((S.1 0 0 0) + hours)) (gd_get (pr_at (κ := 9) (i := slats.toNatClampNeg) (by decide) (gc6 (by decide) (Decidable.not_not.mp c_1).2) (gce (show (gsr (gsr (gsr S.1 0 0 (upd (S.1 0 0) 8 0)) 9 slats.toNatClampNeg (upd (S.1 9 slats.toNatClampNeg) 2 (gmax (0 : Int32) ((S.1 9 slats.toNatClampNeg 2) - (hours / (if (S.1 9 slats.toNatClampNeg 0) = (99 : Int32) then (6 : Int32) else (9 : Int32))))))) 9 slats.toNatClampNeg (upd (upd (S.1 9 slats.toNatClampNeg) 2 (gmax (0 : Int32) ((S.1 9 slats.toNatClampNeg 2) - (hours / (if (S.1 9 slats.toNatClampNeg 0) = (99 : Int32) then (6 : Int32) else (9 : Int32)))))) 5 ((S.1 0 0 0) + hours))) 9 slats.toNatClampNeg = upd (upd (S.1 9 slats.toNatClampNeg) 2 (gmax (0 : Int32) ((S.1 9 slats.toNatClampNeg 2) - (hours / (if (S.1 9 slats.toNatClampNeg 0) = (99 : Int32) then (6 : Int32) else (9 : Int32)))))) 5 ((S.1 0 0 0) + hours) from gsr_s) rfl)) rfl) dX3_season_131 ?_
              exact g_retI F E rfl rfl (gle rfl) (gle rfl) dX3_season_134 (fun _ hp => ⟨_, _, ((if_neg c_1).trans ((if_neg c_4).trans (if_neg c_7))), rfl, ⟨A, rfl, gP_T0 hp⟩⟩)
            refine g_icmp_ne F (tgt := 110) (by decide) dX3_season_102 (fun c_8 => ?_) (fun c_8 => ?_)
            · skip
              refine g_bipush F (v := (9 : Int32)) (by decide) dX3_season_110 ?_
              exact g_top (by rw [if_neg c_8]) J_9
            · skip
              refine g_bipush F (v := (6 : Int32)) (by decide) dX3_season_105 ?_
              refine g_goto F (tgt := 112) (by decide) dX3_season_107 ?_
              exact g_top (by rw [if_pos c_8]) J_9
        refine g_icmp_ge F (tgt := 65) (by decide) dX3_season_58 (fun c_5 => ?_) (fun c_5 => ?_)
        · skip
          refine g_iconst F (v := (0 : Int32)) (by decide) dX3_season_65 ?_
          exact g_top (gb_f (fun q => q c_5)) J_6
        · skip
          refine g_iconst F (v := (1 : Int32)) (by decide) dX3_season_61 ?_
          refine g_goto F (tgt := 66) (by decide) dX3_season_62 ?_
          exact g_top (gb_t c_5) J_6
    refine gb_if_ne F (tgt := 29) (by decide) dX3_season_22 (fun c_2 => ?_) (fun c_2 => ?_)
    · skip
      refine g_iconst F (v := (0 : Int32)) (by decide) dX3_season_29 ?_
      exact g_top (gb_f (fun q => q c_2)) J_3
    · skip
      refine g_iconst F (v := (1 : Int32)) (by decide) dX3_season_25 ?_
      refine g_goto F (tgt := 30) (by decide) dX3_season_26 ?_
      exact g_top (gb_t c_2) J_3

def sM_groove (S : gS) (slats width : Int32) : Value × gS := if ¬ gIn slats (S.2 9) then (.int (-1 : Int32), (gsr (gsr S.1 0 0 (upd (S.1 0 0) 8 0)) 0 0 (upd (upd (S.1 0 0) 8 0) 8 1), S.2)) else (if ¬ (¬ width < (5 : Int32) ∧ ¬ (30 : Int32) < width) then (.int (-1 : Int32), (gsr (gsr S.1 0 0 (upd (S.1 0 0) 8 0)) 0 0 (upd (upd (S.1 0 0) 8 0) 8 (2 : Int32)), S.2)) else (if ((S.1 0 0 0) < (S.1 9 slats.toNatClampNeg 5)) ∨ (((10 : Int32) < (S.1 9 slats.toNatClampNeg 2)) ∨ ((0 < (S.1 9 slats.toNatClampNeg 4)) ∨ (¬ (gGoes S (2 : Int32))))) then (.int (-1 : Int32), (gsr (gsr S.1 0 0 (upd (S.1 0 0) 8 0)) 0 0 (upd (upd (S.1 0 0) 8 0) 8 (3 : Int32)), S.2)) else (.int (S.1 9 slats.toNatClampNeg 3), (gsr (gsr S.1 0 0 (upd (S.1 0 0) 8 0)) 9 slats.toNatClampNeg (upd (S.1 9 slats.toNatClampNeg) 4 width), S.2))))
theorem kX3_groove {l : Launch} {G : gG} (hl : l.stackTraces = false) {S : gS} {a0 : Nat} {Fr : gH → Prop} (hF : gFr 1 Fr) (hW : gWf S) {slats width : Int32}  : gMet l yX3_groove (ws_ yX3_groove cX3_groove 4 (some .int)) ⟨3, 0, 0, 67⟩ G [.ref a0, .int slats, .int width] (gPE 1 G S a0 Fr) (gqN (sM_groove S slats width) G a0 Fr) gxN := by
  refine gMet_of hl pnX3 (gle rfl) (fun X Q hX F E hNm => ?_)
  subst hX
  change gW (X, G, 4, Q) (gPE 1 G S a0 Fr) [(0, .ref a0), (1, .int slats), (2, .int width)] 0 [] 0 0
  refine g_pe (fun A hA => ?_)
  subst hA
  change gW _ _ [(0, .ref (A 0 0)), (1, .int slats), (2, .int width)] 0 [] 0 0
  refine g_aload_n F 0 rfl rfl dX3_groove_0 ?_
  refine g_callV F (kX3_begins hl (pr_at (κ := 0) (i := 0) (by decide) (gc1 (gnl rfl)) (gce rfl rfl))) (g_recv F clX3 (gd_obj (pr_at (κ := 0) (i := 0) (by decide) (gc1 (gnl rfl)) (gce rfl rfl)))) q1448 q1450 qs6 q25 q1451 myX3_begins ⟨by decide, by decide⟩ rfl rfl (gle rfl) 0 0 (gle rfl) (gle rfl) (gle rfl) (gle rfl) dX3_groove_1 gx_n (gv_v ?_)
  refine g_mono (P2 := gP 1 G (gsr S.1 0 0 (upd (S.1 0 0) 8 0), S.2) A Fr []) (pr_upRow (κ := 0) (i := 0) gM1 hF (upd (S.1 0 0) 8 0) (by decide) (gc1 (gnl rfl)) (gce rfl rfl) rfl) ?_
  refine g_aload_n F 0 rfl rfl dX3_groove_4 ?_
  refine g_iload_n F 1 rfl rfl dX3_groove_5 ?_
  refine g_callV F (kX3_noSlats hl hF hW (x := slats)) (g_recv F clX3 (gd_obj (pr_at (κ := 0) (i := 0) (by decide) (gc1 (gnl rfl)) (gce (show (gsr S.1 0 0 (upd (S.1 0 0) 8 0)) 0 0 = upd (S.1 0 0) 8 0 from gsr_s) rfl)))) q1652 q1654 qs14 q25 q1655 myX3_noSlats ⟨by decide, by decide⟩ rfl rfl (gle rfl) 0 0 (gle rfl) (gle rfl) (gle rfl) (gle rfl) dX3_groove_6 gx_n (gv_f (fun c_1 => ?_) (fun c_1 => ?_))
  · skip
    refine g_if_ne F (tgt := 39) (by decide) dX3_groove_9 (fun _ => ?_) (fun c => absurd c (by decide))
    refine g_iconst F (v := (-1 : Int32)) (by decide) dX3_groove_39 ?_
    exact g_retI F E rfl rfl (gle rfl) (gle rfl) dX3_groove_40 (fun _ hp => ⟨_, _, (if_pos c_1), rfl, ⟨A, rfl, gP_T0 hp⟩⟩)
  · skip
    refine g_if_ne F (tgt := 39) (by decide) dX3_groove_9 (fun c => absurd c (by decide)) (fun _ => ?_)
    refine g_aload_n F 0 rfl rfl dX3_groove_12 ?_
    refine g_iload_n F 2 rfl rfl dX3_groove_13 ?_
    refine g_i2l F dX3_groove_14 ?_
    refine g_ldc2 F (v := (5 : Int64)) q1581 dX3_groove_15 ?_
    refine g_ldc2 F (v := (30 : Int64)) q1661 dX3_groove_18 ?_
    refine g_callS F (kX3_in hl (x := width) (lo := (5 : Int32)) (hi := (30 : Int32)) (by decide) (by decide)) (lw_S q1453 q1454 q25 q1455) myX3_in ⟨by decide, by decide⟩ rfl rfl (gle rfl) 0 0 (gle rfl) (gle rfl) (gle rfl) (gle rfl) dX3_groove_21 gx_n (gv_i ?_)
    have J_3 : gW (X, G, 4, Q) (gP 1 G (gsr S.1 0 0 (upd (S.1 0 0) 8 0), S.2) A Fr []) [(0, .ref (A 0 0)), (1, .int slats), (2, .int width)] 32 [.int (gb (¬ (¬ width < (5 : Int32) ∧ ¬ (30 : Int32) < width))), .ref (A 0 0)] 0 0 := by
      refine g_iconst F (v := (2 : Int32)) (by decide) dX3_groove_32 ?_
      refine g_callV F (kX3_fails hl (b := gb (¬ (¬ width < (5 : Int32) ∧ ¬ (30 : Int32) < width))) (nu := (2 : Int32)) (c := ¬ (¬ width < (5 : Int32) ∧ ¬ (30 : Int32) < width)) gb_n0 (by decide) (pr_at (κ := 0) (i := 0) (by decide) (gc1 (gnl rfl)) (gce (show (gsr S.1 0 0 (upd (S.1 0 0) 8 0)) 0 0 = upd (S.1 0 0) 8 0 from gsr_s) rfl))) (g_recv F clX3 (gd_obj (pr_at (κ := 0) (i := 0) (by decide) (gc1 (gnl rfl)) (gce (show (gsr S.1 0 0 (upd (S.1 0 0) 8 0)) 0 0 = upd (S.1 0 0) 8 0 from gsr_s) rfl)))) q1456 q1458 qs7 q25 q1459 myX3_fails ⟨by decide, by decide⟩ rfl rfl (gle rfl) 0 0 (gle rfl) (gle rfl) (gle rfl) (gle rfl) dX3_groove_33 gx_n (gv_f (fun c_4 => ?_) (fun c_4 => ?_))
      · skip
        refine g_mono (P2 := gP 1 G (gsr (gsr S.1 0 0 (upd (S.1 0 0) 8 0)) 0 0 (upd (upd (S.1 0 0) 8 0) 8 (2 : Int32)), S.2) A Fr []) (pr_upRow (κ := 0) (i := 0) gM1 hF (upd (upd (S.1 0 0) 8 0) 8 (2 : Int32)) (by decide) (gc1 (gnl rfl)) (gce (show (gsr S.1 0 0 (upd (S.1 0 0) 8 0)) 0 0 = upd (S.1 0 0) 8 0 from gsr_s) rfl) rfl) ?_
        refine g_if_eq F (tgt := 41) (by decide) dX3_groove_36 (fun c => absurd c (by decide)) (fun _ => ?_)
        refine g_iconst F (v := (-1 : Int32)) (by decide) dX3_groove_39 ?_
        exact g_retI F E rfl rfl (gle rfl) (gle rfl) dX3_groove_40 (fun _ hp => ⟨_, _, ((if_neg c_1).trans (if_pos c_4)), rfl, ⟨A, rfl, gP_T0 hp⟩⟩)
      · skip
        refine g_if_eq F (tgt := 41) (by decide) dX3_groove_36 (fun _ => ?_) (fun c => absurd c (by decide))
        refine g_aload_n F 0 rfl rfl dX3_groove_41 ?_
        refine g_get F clX3 10 (by decide) q1399 (v := .ref (A 309 0)) (gd_get (pr_at (κ := 0) (i := 0) (by decide) (gc1 (gnl rfl)) (gce (show (gsr S.1 0 0 (upd (S.1 0 0) 8 0)) 0 0 = upd (S.1 0 0) 8 0 from gsr_s) rfl)) rfl) dX3_groove_42 ?_
        refine g_iload_n F 1 rfl rfl dX3_groove_45 ?_
        refine g_callF F clJ3 (kJ3_get hl (pr_ls (M := 1) (S := (gsr S.1 0 0 (upd (S.1 0 0) 8 0), S.2)) (A := A) (κ := 9) (by decide) (Or.inl ⟨by decide, by decide⟩) (fun q => by first | decide | exact absurd q (by decide)) (fun q => by first | decide | exact absurd q (by decide))) (j := slats.toNatClampNeg) (Decidable.not_not.mp c_1).2 (gw_n hW _) rfl (Decidable.not_not.mp c_1).1) (g_recv F clJ3 (gls_obj (pr_ls (M := 1) (S := (gsr S.1 0 0 (upd (S.1 0 0) 8 0), S.2)) (A := A) (κ := 9) (by decide) (Or.inl ⟨by decide, by decide⟩) (fun q => by first | decide | exact absurd q (by decide)) (fun q => by first | decide | exact absurd q (by decide))))) q1506 q809 q811 q22 q813 (List.mem_of_getElem? (i := 1) rfl) (gT_w q812 rfl) (gT_w q810 rfl) (gT_w q293 rfl) gface_1 ⟨by decide, by decide⟩ rfl rfl (gle rfl) 0 0 (gle rfl) (gle rfl) (gle rfl) (gle rfl) dX3_groove_46 gx_n (gv_i ?_)
        refine g_castS F (g_recv F clX12 (gd_obj (pr_at (κ := 9) (i := slats.toNatClampNeg) (by decide) (gc6 (by decide) (Decidable.not_not.mp c_1).2) (gce (show (gsr S.1 0 0 (upd (S.1 0 0) 8 0)) 9 slats.toNatClampNeg = S.1 9 slats.toNatClampNeg from (gsr_p (by decide) rfl)) rfl)))) q1623 dX3_groove_51 ?_
        refine g_astore_n F rfl (by show 3 < 4; decide) (lv2 := [(3, .ref (A 9 slats.toNatClampNeg)), (0, .ref (A 0 0)), (1, .int slats), (2, .int width)]) rfl dX3_groove_54 ?_
        refine g_aload_n F 1 rfl rfl dX3_groove_55 ?_
        refine g_aload_n F 1 rfl rfl dX3_groove_56 ?_
        refine g_get F clX3 1 (by decide) q1390 (v := .int (S.1 0 0 0)) (gd_get (pr_at (κ := 0) (i := 0) (by decide) (gc1 (gnl rfl)) (gce (show (gsr S.1 0 0 (upd (S.1 0 0) 8 0)) 0 0 = upd (S.1 0 0) 8 0 from gsr_s) rfl)) rfl) dX3_groove_57 ?_
        refine g_aload_n F 0 rfl rfl dX3_groove_60 ?_
        refine g_getN F clX12 5 (by decide) (gT_w q1634 rfl) (v := .int (S.1 9 slats.toNatClampNeg 5)) (gd_get (pr_at (κ := 9) (i := slats.toNatClampNeg) (by decide) (gc6 (by decide) (Decidable.not_not.mp c_1).2) (gce (show (gsr S.1 0 0 (upd (S.1 0 0) 8 0)) 9 slats.toNatClampNeg = S.1 9 slats.toNatClampNeg from (gsr_p (by decide) rfl)) rfl)) rfl) dX3_groove_61 ?_
        have J_9 : gW (X, G, 4, Q) (gP 1 G (gsr S.1 0 0 (upd (S.1 0 0) 8 0), S.2) A Fr []) [(3, .ref (A 9 slats.toNatClampNeg)), (0, .ref (A 0 0)), (1, .int slats), (2, .int width)] 96 [.int (gb (((S.1 0 0 0) < (S.1 9 slats.toNatClampNeg 5)) ∨ (((10 : Int32) < (S.1 9 slats.toNatClampNeg 2)) ∨ ((0 < (S.1 9 slats.toNatClampNeg 4)) ∨ (¬ (gGoes S (2 : Int32))))))), .ref (A 0 0)] 0 0 := by
          refine g_iconst F (v := (3 : Int32)) (by decide) dX3_groove_96 ?_
          refine g_callV F (kX3_fails hl (b := gb (((S.1 0 0 0) < (S.1 9 slats.toNatClampNeg 5)) ∨ (((10 : Int32) < (S.1 9 slats.toNatClampNeg 2)) ∨ ((0 < (S.1 9 slats.toNatClampNeg 4)) ∨ (¬ (gGoes S (2 : Int32))))))) (nu := (3 : Int32)) (c := ((S.1 0 0 0) < (S.1 9 slats.toNatClampNeg 5)) ∨ (((10 : Int32) < (S.1 9 slats.toNatClampNeg 2)) ∨ ((0 < (S.1 9 slats.toNatClampNeg 4)) ∨ (¬ (gGoes S (2 : Int32)))))) gb_n0 (by decide) (pr_at (κ := 0) (i := 0) (by decide) (gc1 (gnl rfl)) (gce (show (gsr S.1 0 0 (upd (S.1 0 0) 8 0)) 0 0 = upd (S.1 0 0) 8 0 from gsr_s) rfl))) (g_recv F clX3 (gd_obj (pr_at (κ := 0) (i := 0) (by decide) (gc1 (gnl rfl)) (gce (show (gsr S.1 0 0 (upd (S.1 0 0) 8 0)) 0 0 = upd (S.1 0 0) 8 0 from gsr_s) rfl)))) q1456 q1458 qs7 q25 q1459 myX3_fails ⟨by decide, by decide⟩ rfl rfl (gle rfl) 0 0 (gle rfl) (gle rfl) (gle rfl) (gle rfl) dX3_groove_97 gx_n (gv_f (fun c_10 => ?_) (fun c_10 => ?_))
          · skip
            refine g_mono (P2 := gP 1 G (gsr (gsr S.1 0 0 (upd (S.1 0 0) 8 0)) 0 0 (upd (upd (S.1 0 0) 8 0) 8 (3 : Int32)), S.2) A Fr []) (pr_upRow (κ := 0) (i := 0) gM1 hF (upd (upd (S.1 0 0) 8 0) 8 (3 : Int32)) (by decide) (gc1 (gnl rfl)) (gce (show (gsr S.1 0 0 (upd (S.1 0 0) 8 0)) 0 0 = upd (S.1 0 0) 8 0 from gsr_s) rfl) rfl) ?_
            refine g_if_eq F (tgt := 105) (by decide) dX3_groove_100 (fun c => absurd c (by decide)) (fun _ => ?_)
            refine g_iconst F (v := (-1 : Int32)) (by decide) dX3_groove_103 ?_
            exact g_retI F E rfl rfl (gle rfl) (gle rfl) dX3_groove_104 (fun _ hp => ⟨_, _, ((if_neg c_1).trans ((if_neg c_4).trans (if_pos c_10))), rfl, ⟨A, rfl, gP_T0 hp⟩⟩)
          · skip
            refine g_if_eq F (tgt := 105) (by decide) dX3_groove_100 (fun _ => ?_) (fun c => absurd c (by decide))
            refine g_aload_n F 0 rfl rfl dX3_groove_105 ?_
            refine g_iload_n F 3 rfl rfl dX3_groove_106 ?_
            refine g_putN (P2 := gP 1 G (gsr (gsr S.1 0 0 (upd (S.1 0 0) 8 0)) 9 slats.toNatClampNeg (upd (S.1 9 slats.toNatClampNeg) 4 width), S.2) A Fr []) F clX12 4 (by decide) (gT_w q1633 rfl) rfl rfl rfl (pr_put (κ := 9) (i := slats.toNatClampNeg) gM1 hF (upd (S.1 9 slats.toNatClampNeg) 4 width) (by decide) (gc6 (by decide) (Decidable.not_not.mp c_1).2) (gce (show (gsr S.1 0 0 (upd (S.1 0 0) 8 0)) 9 slats.toNatClampNeg = S.1 9 slats.toNatClampNeg from (gsr_p (by decide) rfl)) rfl) (gnl rfl) rfl) dX3_groove_107 ?_
            refine g_aload_n F 0 rfl rfl dX3_groove_110 ?_
            refine g_getN F clX12 3 (by decide) (gT_w q1632 rfl) (v := .int (S.1 9 slats.toNatClampNeg 3)) (gd_get (pr_at (κ := 9) (i := slats.toNatClampNeg) (by decide) (gc6 (by decide) (Decidable.not_not.mp c_1).2) (gce (show (gsr (gsr S.1 0 0 (upd (S.1 0 0) 8 0)) 9 slats.toNatClampNeg (upd (S.1 9 slats.toNatClampNeg) 4 width)) 9 slats.toNatClampNeg = upd (S.1 9 slats.toNatClampNeg) 4 width from gsr_s) rfl)) rfl) dX3_groove_111 ?_
            exact g_retI F E rfl rfl (gle rfl) (gle rfl) dX3_groove_114 (fun _ hp => ⟨_, _, ((if_neg c_1).trans ((if_neg c_4).trans (if_neg c_10))), rfl, ⟨A, rfl, gP_T0 hp⟩⟩)
        refine g_icmp_lt F (tgt := 91) (by decide) dX3_groove_64 (fun c_5 => ?_) (fun c_5 => ?_)
        · skip
          refine g_iconst F (v := (1 : Int32)) (by decide) dX3_groove_91 ?_
          refine g_goto F (tgt := 96) (by decide) dX3_groove_92 ?_
          exact g_top (gb_t (Or.inl c_5)) J_9
        · skip
          refine g_aload_n F 0 rfl rfl dX3_groove_67 ?_
          refine g_getN F clX12 2 (by decide) (gT_w q1631 rfl) (v := .int (S.1 9 slats.toNatClampNeg 2)) (gd_get (pr_at (κ := 9) (i := slats.toNatClampNeg) (by decide) (gc6 (by decide) (Decidable.not_not.mp c_1).2) (gce (show (gsr S.1 0 0 (upd (S.1 0 0) 8 0)) 9 slats.toNatClampNeg = S.1 9 slats.toNatClampNeg from (gsr_p (by decide) rfl)) rfl)) rfl) dX3_groove_68 ?_
          refine g_bipush F (v := (10 : Int32)) (by decide) dX3_groove_71 ?_
          refine g_icmp_gt F (tgt := 91) (by decide) dX3_groove_73 (fun c_6 => ?_) (fun c_6 => ?_)
          · skip
            refine g_iconst F (v := (1 : Int32)) (by decide) dX3_groove_91 ?_
            refine g_goto F (tgt := 96) (by decide) dX3_groove_92 ?_
            exact g_top (gb_t (Or.inr (Or.inl c_6))) J_9
          · skip
            refine g_aload_n F 0 rfl rfl dX3_groove_76 ?_
            refine g_getN F clX12 4 (by decide) (gT_w q1633 rfl) (v := .int (S.1 9 slats.toNatClampNeg 4)) (gd_get (pr_at (κ := 9) (i := slats.toNatClampNeg) (by decide) (gc6 (by decide) (Decidable.not_not.mp c_1).2) (gce (show (gsr S.1 0 0 (upd (S.1 0 0) 8 0)) 9 slats.toNatClampNeg = S.1 9 slats.toNatClampNeg from (gsr_p (by decide) rfl)) rfl)) rfl) dX3_groove_77 ?_
            refine g_if_gt F (tgt := 91) (by decide) dX3_groove_80 (fun c_7 => ?_) (fun c_7 => ?_)
            · skip
              refine g_iconst F (v := (1 : Int32)) (by decide) dX3_groove_91 ?_
              refine g_goto F (tgt := 96) (by decide) dX3_groove_92 ?_
              exact g_top (gb_t (Or.inr (Or.inr (Or.inl c_7)))) J_9
            · skip
              refine g_aload_n F 1 rfl rfl dX3_groove_83 ?_
              refine g_iconst F (v := (2 : Int32)) (by decide) dX3_groove_84 ?_
              refine g_callV F (kX3_going hl hF hW (x := (2 : Int32)) (by decide) rfl) (g_recv F clX3 (gd_obj (pr_at (κ := 0) (i := 0) (by decide) (gc1 (gnl rfl)) (gce (show (gsr S.1 0 0 (upd (S.1 0 0) 8 0)) 0 0 = upd (S.1 0 0) 8 0 from gsr_s) rfl)))) q1479 q1481 qs8 q25 q1482 myX3_going ⟨by decide, by decide⟩ rfl rfl (gle rfl) 0 0 (gle rfl) (gle rfl) (gle rfl) (gle rfl) dX3_groove_85 gx_n (gv_i ?_)
              refine gb_if_ne F (tgt := 95) (by decide) dX3_groove_88 (fun c_8 => ?_) (fun c_8 => ?_)
              · skip
                refine g_iconst F (v := (0 : Int32)) (by decide) dX3_groove_95 ?_
                exact g_top (gb_f (fun q => q.elim c_5 (fun q => q.elim c_6 (fun q => q.elim c_7 (fun q => q c_8))))) J_9
              · skip
                refine g_iconst F (v := (1 : Int32)) (by decide) dX3_groove_91 ?_
                refine g_goto F (tgt := 96) (by decide) dX3_groove_92 ?_
                exact g_top (gb_t (Or.inr (Or.inr (Or.inr c_8)))) J_9
    refine gb_if_ne F (tgt := 31) (by decide) dX3_groove_24 (fun c_2 => ?_) (fun c_2 => ?_)
    · skip
      refine g_iconst F (v := (0 : Int32)) (by decide) dX3_groove_31 ?_
      exact g_top (gb_f (fun q => q c_2)) J_3
    · skip
      refine g_iconst F (v := (1 : Int32)) (by decide) dX3_groove_27 ?_
      refine g_goto F (tgt := 32) (by decide) dX3_groove_28 ?_
      exact g_top (gb_t c_2) J_3

def sM_coat (S : gS) (run colour : Int32) : Value × gS := if ¬ gIn run (S.2 10) then (.int (-1 : Int32), (gsr (gsr S.1 0 0 (upd (S.1 0 0) 8 0)) 0 0 (upd (upd (S.1 0 0) 8 0) 8 1), S.2)) else (if ¬ (¬ colour < (0 : Int32) ∧ ¬ (9 : Int32) < colour) then (.int (-1 : Int32), (gsr (gsr S.1 0 0 (upd (S.1 0 0) 8 0)) 0 0 (upd (upd (S.1 0 0) 8 0) 8 (2 : Int32)), S.2)) else (if ((S.1 0 0 0) < (S.1 10 run.toNatClampNeg 6)) ∨ (((S.1 10 run.toNatClampNeg 7) = (8 : Int32)) ∨ (¬ (gGoes S (3 : Int32)))) then (.int (-1 : Int32), (gsr (gsr S.1 0 0 (upd (S.1 0 0) 8 0)) 0 0 (upd (upd (S.1 0 0) 8 0) 8 (3 : Int32)), S.2)) else (.int ((S.1 10 run.toNatClampNeg 7) + (1 : Int32)), (gsr (gsr (gsr (gsr S.1 0 0 (upd (S.1 0 0) 8 0)) 10 run.toNatClampNeg (upd (S.1 10 run.toNatClampNeg) 7 ((S.1 10 run.toNatClampNeg 7) + (1 : Int32)))) 10 run.toNatClampNeg (upd (upd (S.1 10 run.toNatClampNeg) 7 ((S.1 10 run.toNatClampNeg 7) + (1 : Int32))) 8 colour)) 10 run.toNatClampNeg (upd (upd (upd (S.1 10 run.toNatClampNeg) 7 ((S.1 10 run.toNatClampNeg 7) + (1 : Int32))) 8 colour) 6 ((S.1 0 0 0) + (8 : Int32))), S.2))))
theorem kX3_coat {l : Launch} {G : gG} (hl : l.stackTraces = false) {S : gS} {a0 : Nat} {Fr : gH → Prop} (hF : gFr 1 Fr) (hW : gWf S) {run colour : Int32}  : gMet l yX3_coat (ws_ yX3_coat cX3_coat 4 (some .int)) ⟨3, 0, 0, 67⟩ G [.ref a0, .int run, .int colour] (gPE 1 G S a0 Fr) (gqN (sM_coat S run colour) G a0 Fr) gxN := by
  refine gMet_of hl pnX3 (gle rfl) (fun X Q hX F E hNm => ?_)
  subst hX
  change gW (X, G, 4, Q) (gPE 1 G S a0 Fr) [(0, .ref a0), (1, .int run), (2, .int colour)] 0 [] 0 0
  refine g_pe (fun A hA => ?_)
  subst hA
  change gW _ _ [(0, .ref (A 0 0)), (1, .int run), (2, .int colour)] 0 [] 0 0
  refine g_aload_n F 0 rfl rfl dX3_coat_0 ?_
  refine g_callV F (kX3_begins hl (pr_at (κ := 0) (i := 0) (by decide) (gc1 (gnl rfl)) (gce rfl rfl))) (g_recv F clX3 (gd_obj (pr_at (κ := 0) (i := 0) (by decide) (gc1 (gnl rfl)) (gce rfl rfl)))) q1448 q1450 qs6 q25 q1451 myX3_begins ⟨by decide, by decide⟩ rfl rfl (gle rfl) 0 0 (gle rfl) (gle rfl) (gle rfl) (gle rfl) dX3_coat_1 gx_n (gv_v ?_)
  refine g_mono (P2 := gP 1 G (gsr S.1 0 0 (upd (S.1 0 0) 8 0), S.2) A Fr []) (pr_upRow (κ := 0) (i := 0) gM1 hF (upd (S.1 0 0) 8 0) (by decide) (gc1 (gnl rfl)) (gce rfl rfl) rfl) ?_
  refine g_aload_n F 0 rfl rfl dX3_coat_4 ?_
  refine g_iload_n F 1 rfl rfl dX3_coat_5 ?_
  refine g_callV F (kX3_noRun hl hF hW (x := run)) (g_recv F clX3 (gd_obj (pr_at (κ := 0) (i := 0) (by decide) (gc1 (gnl rfl)) (gce (show (gsr S.1 0 0 (upd (S.1 0 0) 8 0)) 0 0 = upd (S.1 0 0) 8 0 from gsr_s) rfl)))) q1719 q1721 qs15 q25 q1722 myX3_noRun ⟨by decide, by decide⟩ rfl rfl (gle rfl) 0 0 (gle rfl) (gle rfl) (gle rfl) (gle rfl) dX3_coat_6 gx_n (gv_f (fun c_1 => ?_) (fun c_1 => ?_))
  · skip
    refine g_if_ne F (tgt := 37) (by decide) dX3_coat_9 (fun _ => ?_) (fun c => absurd c (by decide))
    refine g_iconst F (v := (-1 : Int32)) (by decide) dX3_coat_37 ?_
    exact g_retI F E rfl rfl (gle rfl) (gle rfl) dX3_coat_38 (fun _ hp => ⟨_, _, (if_pos c_1), rfl, ⟨A, rfl, gP_T0 hp⟩⟩)
  · skip
    refine g_if_ne F (tgt := 37) (by decide) dX3_coat_9 (fun c => absurd c (by decide)) (fun _ => ?_)
    refine g_aload_n F 0 rfl rfl dX3_coat_12 ?_
    refine g_iload_n F 2 rfl rfl dX3_coat_13 ?_
    refine g_i2l F dX3_coat_14 ?_
    refine g_lconst F (v := (0 : Int64)) (by decide) dX3_coat_15 ?_
    refine g_ldc2 F (v := (9 : Int64)) q1489 dX3_coat_16 ?_
    refine g_callS F (kX3_in hl (x := colour) (lo := (0 : Int32)) (hi := (9 : Int32)) (by decide) (by decide)) (lw_S q1453 q1454 q25 q1455) myX3_in ⟨by decide, by decide⟩ rfl rfl (gle rfl) 0 0 (gle rfl) (gle rfl) (gle rfl) (gle rfl) dX3_coat_19 gx_n (gv_i ?_)
    have J_3 : gW (X, G, 4, Q) (gP 1 G (gsr S.1 0 0 (upd (S.1 0 0) 8 0), S.2) A Fr []) [(0, .ref (A 0 0)), (1, .int run), (2, .int colour)] 30 [.int (gb (¬ (¬ colour < (0 : Int32) ∧ ¬ (9 : Int32) < colour))), .ref (A 0 0)] 0 0 := by
      refine g_iconst F (v := (2 : Int32)) (by decide) dX3_coat_30 ?_
      refine g_callV F (kX3_fails hl (b := gb (¬ (¬ colour < (0 : Int32) ∧ ¬ (9 : Int32) < colour))) (nu := (2 : Int32)) (c := ¬ (¬ colour < (0 : Int32) ∧ ¬ (9 : Int32) < colour)) gb_n0 (by decide) (pr_at (κ := 0) (i := 0) (by decide) (gc1 (gnl rfl)) (gce (show (gsr S.1 0 0 (upd (S.1 0 0) 8 0)) 0 0 = upd (S.1 0 0) 8 0 from gsr_s) rfl))) (g_recv F clX3 (gd_obj (pr_at (κ := 0) (i := 0) (by decide) (gc1 (gnl rfl)) (gce (show (gsr S.1 0 0 (upd (S.1 0 0) 8 0)) 0 0 = upd (S.1 0 0) 8 0 from gsr_s) rfl)))) q1456 q1458 qs7 q25 q1459 myX3_fails ⟨by decide, by decide⟩ rfl rfl (gle rfl) 0 0 (gle rfl) (gle rfl) (gle rfl) (gle rfl) dX3_coat_31 gx_n (gv_f (fun c_4 => ?_) (fun c_4 => ?_))
      · skip
        refine g_mono (P2 := gP 1 G (gsr (gsr S.1 0 0 (upd (S.1 0 0) 8 0)) 0 0 (upd (upd (S.1 0 0) 8 0) 8 (2 : Int32)), S.2) A Fr []) (pr_upRow (κ := 0) (i := 0) gM1 hF (upd (upd (S.1 0 0) 8 0) 8 (2 : Int32)) (by decide) (gc1 (gnl rfl)) (gce (show (gsr S.1 0 0 (upd (S.1 0 0) 8 0)) 0 0 = upd (S.1 0 0) 8 0 from gsr_s) rfl) rfl) ?_
        refine g_if_eq F (tgt := 39) (by decide) dX3_coat_34 (fun c => absurd c (by decide)) (fun _ => ?_)
        refine g_iconst F (v := (-1 : Int32)) (by decide) dX3_coat_37 ?_
        exact g_retI F E rfl rfl (gle rfl) (gle rfl) dX3_coat_38 (fun _ hp => ⟨_, _, ((if_neg c_1).trans (if_pos c_4)), rfl, ⟨A, rfl, gP_T0 hp⟩⟩)
      · skip
        refine g_if_eq F (tgt := 39) (by decide) dX3_coat_34 (fun _ => ?_) (fun c => absurd c (by decide))
        refine g_aload_n F 0 rfl rfl dX3_coat_39 ?_
        refine g_get F clX3 11 (by decide) q1400 (v := .ref (A 310 0)) (gd_get (pr_at (κ := 0) (i := 0) (by decide) (gc1 (gnl rfl)) (gce (show (gsr S.1 0 0 (upd (S.1 0 0) 8 0)) 0 0 = upd (S.1 0 0) 8 0 from gsr_s) rfl)) rfl) dX3_coat_40 ?_
        refine g_iload_n F 1 rfl rfl dX3_coat_43 ?_
        refine g_callF F clJ3 (kJ3_get hl (pr_ls (M := 1) (S := (gsr S.1 0 0 (upd (S.1 0 0) 8 0), S.2)) (A := A) (κ := 10) (by decide) (Or.inl ⟨by decide, by decide⟩) (fun q => by first | decide | exact absurd q (by decide)) (fun q => by first | decide | exact absurd q (by decide))) (j := run.toNatClampNeg) (Decidable.not_not.mp c_1).2 (gw_n hW _) rfl (Decidable.not_not.mp c_1).1) (g_recv F clJ3 (gls_obj (pr_ls (M := 1) (S := (gsr S.1 0 0 (upd (S.1 0 0) 8 0), S.2)) (A := A) (κ := 10) (by decide) (Or.inl ⟨by decide, by decide⟩) (fun q => by first | decide | exact absurd q (by decide)) (fun q => by first | decide | exact absurd q (by decide))))) q1506 q809 q811 q22 q813 (List.mem_of_getElem? (i := 1) rfl) (gT_w q812 rfl) (gT_w q810 rfl) (gT_w q293 rfl) gface_1 ⟨by decide, by decide⟩ rfl rfl (gle rfl) 0 0 (gle rfl) (gle rfl) (gle rfl) (gle rfl) dX3_coat_44 gx_n (gv_i ?_)
        refine g_castS F (g_recv F clX14 (gd_obj (pr_at (κ := 10) (i := run.toNatClampNeg) (by decide) (gc6 (by decide) (Decidable.not_not.mp c_1).2) (gce (show (gsr S.1 0 0 (upd (S.1 0 0) 8 0)) 10 run.toNatClampNeg = S.1 10 run.toNatClampNeg from (gsr_p (by decide) rfl)) rfl)))) q1673 dX3_coat_49 ?_
        refine g_astore_n F rfl (by show 3 < 4; decide) (lv2 := [(3, .ref (A 10 run.toNatClampNeg)), (0, .ref (A 0 0)), (1, .int run), (2, .int colour)]) rfl dX3_coat_52 ?_
        refine g_aload_n F 1 rfl rfl dX3_coat_53 ?_
        refine g_aload_n F 1 rfl rfl dX3_coat_54 ?_
        refine g_get F clX3 1 (by decide) q1390 (v := .int (S.1 0 0 0)) (gd_get (pr_at (κ := 0) (i := 0) (by decide) (gc1 (gnl rfl)) (gce (show (gsr S.1 0 0 (upd (S.1 0 0) 8 0)) 0 0 = upd (S.1 0 0) 8 0 from gsr_s) rfl)) rfl) dX3_coat_55 ?_
        refine g_aload_n F 0 rfl rfl dX3_coat_58 ?_
        refine g_getN F clX14 6 (by decide) (gT_w q1685 rfl) (v := .int (S.1 10 run.toNatClampNeg 6)) (gd_get (pr_at (κ := 10) (i := run.toNatClampNeg) (by decide) (gc6 (by decide) (Decidable.not_not.mp c_1).2) (gce (show (gsr S.1 0 0 (upd (S.1 0 0) 8 0)) 10 run.toNatClampNeg = S.1 10 run.toNatClampNeg from (gsr_p (by decide) rfl)) rfl)) rfl) dX3_coat_59 ?_
        have J_8 : gW (X, G, 4, Q) (gP 1 G (gsr S.1 0 0 (upd (S.1 0 0) 8 0), S.2) A Fr []) [(3, .ref (A 10 run.toNatClampNeg)), (0, .ref (A 0 0)), (1, .int run), (2, .int colour)] 87 [.int (gb (((S.1 0 0 0) < (S.1 10 run.toNatClampNeg 6)) ∨ (((S.1 10 run.toNatClampNeg 7) = (8 : Int32)) ∨ (¬ (gGoes S (3 : Int32)))))), .ref (A 0 0)] 0 0 := by
          refine g_iconst F (v := (3 : Int32)) (by decide) dX3_coat_87 ?_
          refine g_callV F (kX3_fails hl (b := gb (((S.1 0 0 0) < (S.1 10 run.toNatClampNeg 6)) ∨ (((S.1 10 run.toNatClampNeg 7) = (8 : Int32)) ∨ (¬ (gGoes S (3 : Int32)))))) (nu := (3 : Int32)) (c := ((S.1 0 0 0) < (S.1 10 run.toNatClampNeg 6)) ∨ (((S.1 10 run.toNatClampNeg 7) = (8 : Int32)) ∨ (¬ (gGoes S (3 : Int32))))) gb_n0 (by decide) (pr_at (κ := 0) (i := 0) (by decide) (gc1 (gnl rfl)) (gce (show (gsr S.1 0 0 (upd (S.1 0 0) 8 0)) 0 0 = upd (S.1 0 0) 8 0 from gsr_s) rfl))) (g_recv F clX3 (gd_obj (pr_at (κ := 0) (i := 0) (by decide) (gc1 (gnl rfl)) (gce (show (gsr S.1 0 0 (upd (S.1 0 0) 8 0)) 0 0 = upd (S.1 0 0) 8 0 from gsr_s) rfl)))) q1456 q1458 qs7 q25 q1459 myX3_fails ⟨by decide, by decide⟩ rfl rfl (gle rfl) 0 0 (gle rfl) (gle rfl) (gle rfl) (gle rfl) dX3_coat_88 gx_n (gv_f (fun c_9 => ?_) (fun c_9 => ?_))
          · skip
            refine g_mono (P2 := gP 1 G (gsr (gsr S.1 0 0 (upd (S.1 0 0) 8 0)) 0 0 (upd (upd (S.1 0 0) 8 0) 8 (3 : Int32)), S.2) A Fr []) (pr_upRow (κ := 0) (i := 0) gM1 hF (upd (upd (S.1 0 0) 8 0) 8 (3 : Int32)) (by decide) (gc1 (gnl rfl)) (gce (show (gsr S.1 0 0 (upd (S.1 0 0) 8 0)) 0 0 = upd (S.1 0 0) 8 0 from gsr_s) rfl) rfl) ?_
            refine g_if_eq F (tgt := 96) (by decide) dX3_coat_91 (fun c => absurd c (by decide)) (fun _ => ?_)
            refine g_iconst F (v := (-1 : Int32)) (by decide) dX3_coat_94 ?_
            exact g_retI F E rfl rfl (gle rfl) (gle rfl) dX3_coat_95 (fun _ hp => ⟨_, _, ((if_neg c_1).trans ((if_neg c_4).trans (if_pos c_9))), rfl, ⟨A, rfl, gP_T0 hp⟩⟩)
          · skip
            refine g_if_eq F (tgt := 96) (by decide) dX3_coat_91 (fun _ => ?_) (fun c => absurd c (by decide))
            refine g_aload_n F 0 rfl rfl dX3_coat_96 ?_
            refine g_dup F rfl dX3_coat_97 ?_
            refine g_getN F clX14 7 (by decide) (gT_w q1686 rfl) (v := .int (S.1 10 run.toNatClampNeg 7)) (gd_get (pr_at (κ := 10) (i := run.toNatClampNeg) (by decide) (gc6 (by decide) (Decidable.not_not.mp c_1).2) (gce (show (gsr S.1 0 0 (upd (S.1 0 0) 8 0)) 10 run.toNatClampNeg = S.1 10 run.toNatClampNeg from (gsr_p (by decide) rfl)) rfl)) rfl) dX3_coat_98 ?_
            refine g_iconst F (v := (1 : Int32)) (by decide) dX3_coat_101 ?_
            refine g_iadd F dX3_coat_102 ?_
            refine g_putN (P2 := gP 1 G (gsr (gsr S.1 0 0 (upd (S.1 0 0) 8 0)) 10 run.toNatClampNeg (upd (S.1 10 run.toNatClampNeg) 7 ((S.1 10 run.toNatClampNeg 7) + (1 : Int32))), S.2) A Fr []) F clX14 7 (by decide) (gT_w q1686 rfl) rfl rfl rfl (pr_put (κ := 10) (i := run.toNatClampNeg) gM1 hF (upd (S.1 10 run.toNatClampNeg) 7 ((S.1 10 run.toNatClampNeg 7) + (1 : Int32))) (by decide) (gc6 (by decide) (Decidable.not_not.mp c_1).2) (gce (show (gsr S.1 0 0 (upd (S.1 0 0) 8 0)) 10 run.toNatClampNeg = S.1 10 run.toNatClampNeg from (gsr_p (by decide) rfl)) rfl) (gnl rfl) rfl) dX3_coat_103 ?_
            refine g_aload_n F 0 rfl rfl dX3_coat_106 ?_
            refine g_iload_n F 3 rfl rfl dX3_coat_107 ?_
            refine g_putN (P2 := gP 1 G (gsr (gsr (gsr S.1 0 0 (upd (S.1 0 0) 8 0)) 10 run.toNatClampNeg (upd (S.1 10 run.toNatClampNeg) 7 ((S.1 10 run.toNatClampNeg 7) + (1 : Int32)))) 10 run.toNatClampNeg (upd (upd (S.1 10 run.toNatClampNeg) 7 ((S.1 10 run.toNatClampNeg 7) + (1 : Int32))) 8 colour), S.2) A Fr []) F clX14 8 (by decide) (gT_w q1688 rfl) rfl rfl rfl (pr_put (κ := 10) (i := run.toNatClampNeg) gM1 hF (upd (upd (S.1 10 run.toNatClampNeg) 7 ((S.1 10 run.toNatClampNeg 7) + (1 : Int32))) 8 colour) (by decide) (gc6 (by decide) (Decidable.not_not.mp c_1).2) (gce (show (gsr (gsr S.1 0 0 (upd (S.1 0 0) 8 0)) 10 run.toNatClampNeg (upd (S.1 10 run.toNatClampNeg) 7 ((S.1 10 run.toNatClampNeg 7) + (1 : Int32)))) 10 run.toNatClampNeg = upd (S.1 10 run.toNatClampNeg) 7 ((S.1 10 run.toNatClampNeg 7) + (1 : Int32)) from gsr_s) rfl) (gnl rfl) rfl) dX3_coat_108 ?_
            refine g_aload_n F 0 rfl rfl dX3_coat_111 ?_
            refine g_aload_n F 1 rfl rfl dX3_coat_112 ?_
            refine g_get F clX3 1 (by decide) q1390 (v := .int (S.1 0 0 0)) (gd_get (pr_at (κ := 0) (i := 0) (by decide) (gc1 (gnl rfl)) (gce (show (gsr (gsr (gsr S.1 0 0 (upd (S.1 0 0) 8 0)) 10 run.toNatClampNeg (upd (S.1 10 run.toNatClampNeg) 7 ((S.1 10 run.toNatClampNeg 7) + (1 : Int32)))) 10 run.toNatClampNeg (upd (upd (S.1 10 run.toNatClampNeg) 7 ((S.1 10 run.toNatClampNeg 7) + (1 : Int32))) 8 colour)) 0 0 = upd (S.1 0 0) 8 0 from (gsr_p (by decide) (gsr_p (by decide) gsr_s))) rfl)) rfl) dX3_coat_113 ?_
            refine g_bipush F (v := (8 : Int32)) (by decide) dX3_coat_116 ?_
            refine g_iadd F dX3_coat_118 ?_
            refine g_putN (P2 := gP 1 G (gsr (gsr (gsr (gsr S.1 0 0 (upd (S.1 0 0) 8 0)) 10 run.toNatClampNeg (upd (S.1 10 run.toNatClampNeg) 7 ((S.1 10 run.toNatClampNeg 7) + (1 : Int32)))) 10 run.toNatClampNeg (upd (upd (S.1 10 run.toNatClampNeg) 7 ((S.1 10 run.toNatClampNeg 7) + (1 : Int32))) 8 colour)) 10 run.toNatClampNeg (upd (upd (upd (S.1 10 run.toNatClampNeg) 7 ((S.1 10 run.toNatClampNeg 7) + (1 : Int32))) 8 colour) 6 ((S.1 0 0 0) + (8 : Int32))), S.2) A Fr []) F clX14 6 (by decide) (gT_w q1685 rfl) rfl rfl rfl (pr_put (κ := 10) (i := run.toNatClampNeg) gM1 hF (upd (upd (upd (S.1 10 run.toNatClampNeg) 7 ((S.1 10 run.toNatClampNeg 7) + (1 : Int32))) 8 colour) 6 ((S.1 0 0 0) + (8 : Int32))) (by decide) (gc6 (by decide) (Decidable.not_not.mp c_1).2) (gce (show (gsr (gsr (gsr S.1 0 0 (upd (S.1 0 0) 8 0)) 10 run.toNatClampNeg (upd (S.1 10 run.toNatClampNeg) 7 ((S.1 10 run.toNatClampNeg 7) + (1 : Int32)))) 10 run.toNatClampNeg (upd (upd (S.1 10 run.toNatClampNeg) 7 ((S.1 10 run.toNatClampNeg 7) + (1 : Int32))) 8 colour)) 10 run.toNatClampNeg = upd (upd (S.1 10 run.toNatClampNeg) 7 ((S.1 10 run.toNatClampNeg 7) + (1 : Int32))) 8 colour from gsr_s) rfl) (gnl rfl) rfl) dX3_coat_119 ?_
            refine g_aload_n F 0 rfl rfl dX3_coat_122 ?_
            refine g_getN F clX14 7 (by decide) (gT_w q1686 rfl) (v := .int ((S.1 10 run.toNatClampNeg 7) + (1 : Int32))) (gd_get (pr_at (κ := 10) (i := run.toNatClampNeg) (by decide) (gc6 (by decide) (Decidable.not_not.mp c_1).2) (gce (show (gsr (gsr (gsr (gsr S.1 0 0 (upd (S.1 0 0) 8 0)) 10 run.toNatClampNeg (upd (S.1 10 run.toNatClampNeg) 7 ((S.1 10 run.toNatClampNeg 7) + (1 : Int32)))) 10 run.toNatClampNeg (upd (upd (S.1 10 run.toNatClampNeg) 7 ((S.1 10 run.toNatClampNeg 7) + (1 : Int32))) 8 colour)) 10 run.toNatClampNeg (upd (upd (upd (S.1 10 run.toNatClampNeg) 7 ((S.1 10 run.toNatClampNeg 7) + (1 : Int32))) 8 colour) 6 ((S.1 0 0 0) + (8 : Int32)))) 10 run.toNatClampNeg = upd (upd (upd (S.1 10 run.toNatClampNeg) 7 ((S.1 10 run.toNatClampNeg 7) + (1 : Int32))) 8 colour) 6 ((S.1 0 0 0) + (8 : Int32)) from gsr_s) rfl)) rfl) dX3_coat_123 ?_
            exact g_retI F E rfl rfl (gle rfl) (gle rfl) dX3_coat_126 (fun _ hp => ⟨_, _, ((if_neg c_1).trans ((if_neg c_4).trans (if_neg c_9))), rfl, ⟨A, rfl, gP_T0 hp⟩⟩)
        refine g_icmp_lt F (tgt := 82) (by decide) dX3_coat_62 (fun c_5 => ?_) (fun c_5 => ?_)
        · skip
          refine g_iconst F (v := (1 : Int32)) (by decide) dX3_coat_82 ?_
          refine g_goto F (tgt := 87) (by decide) dX3_coat_83 ?_
          exact g_top (gb_t (Or.inl c_5)) J_8
        · skip
          refine g_aload_n F 0 rfl rfl dX3_coat_65 ?_
          refine g_getN F clX14 7 (by decide) (gT_w q1686 rfl) (v := .int (S.1 10 run.toNatClampNeg 7)) (gd_get (pr_at (κ := 10) (i := run.toNatClampNeg) (by decide) (gc6 (by decide) (Decidable.not_not.mp c_1).2) (gce (show (gsr S.1 0 0 (upd (S.1 0 0) 8 0)) 10 run.toNatClampNeg = S.1 10 run.toNatClampNeg from (gsr_p (by decide) rfl)) rfl)) rfl) dX3_coat_66 ?_
          refine g_bipush F (v := (8 : Int32)) (by decide) dX3_coat_69 ?_
          refine g_icmp_eq F (tgt := 82) (by decide) dX3_coat_71 (fun c_6 => ?_) (fun c_6 => ?_)
          · skip
            refine g_iconst F (v := (1 : Int32)) (by decide) dX3_coat_82 ?_
            refine g_goto F (tgt := 87) (by decide) dX3_coat_83 ?_
            exact g_top (gb_t (Or.inr (Or.inl c_6))) J_8
          · skip
            refine g_aload_n F 1 rfl rfl dX3_coat_74 ?_
            refine g_iconst F (v := (3 : Int32)) (by decide) dX3_coat_75 ?_
            refine g_callV F (kX3_going hl hF hW (x := (3 : Int32)) (by decide) rfl) (g_recv F clX3 (gd_obj (pr_at (κ := 0) (i := 0) (by decide) (gc1 (gnl rfl)) (gce (show (gsr S.1 0 0 (upd (S.1 0 0) 8 0)) 0 0 = upd (S.1 0 0) 8 0 from gsr_s) rfl)))) q1479 q1481 qs8 q25 q1482 myX3_going ⟨by decide, by decide⟩ rfl rfl (gle rfl) 0 0 (gle rfl) (gle rfl) (gle rfl) (gle rfl) dX3_coat_76 gx_n (gv_i ?_)
            refine gb_if_ne F (tgt := 86) (by decide) dX3_coat_79 (fun c_7 => ?_) (fun c_7 => ?_)
            · skip
              refine g_iconst F (v := (0 : Int32)) (by decide) dX3_coat_86 ?_
              exact g_top (gb_f (fun q => q.elim c_5 (fun q => q.elim c_6 (fun q => q c_7)))) J_8
            · skip
              refine g_iconst F (v := (1 : Int32)) (by decide) dX3_coat_82 ?_
              refine g_goto F (tgt := 87) (by decide) dX3_coat_83 ?_
              exact g_top (gb_t (Or.inr (Or.inr c_7))) J_8
    refine gb_if_ne F (tgt := 29) (by decide) dX3_coat_22 (fun c_2 => ?_) (fun c_2 => ?_)
    · skip
      refine g_iconst F (v := (0 : Int32)) (by decide) dX3_coat_29 ?_
      exact g_top (gb_f (fun q => q c_2)) J_3
    · skip
      refine g_iconst F (v := (1 : Int32)) (by decide) dX3_coat_25 ?_
      refine g_goto F (tgt := 30) (by decide) dX3_coat_26 ?_
      exact g_top (gb_t c_2) J_3

def sM_check (S : gS)  : Value × gS := (.int (S.1 0 0 6), (gsr (gsr (gsr S.1 0 0 (upd (S.1 0 0) 8 0)) 0 0 (upd (upd (S.1 0 0) 8 0) 6 (0 : Int32))) 0 0 (upd (upd (upd (S.1 0 0) 8 0) 6 (0 : Int32)) 7 (0 : Int32)), S.2))
theorem kX3_check {l : Launch} {G : gG} (hl : l.stackTraces = false) {S : gS} {a0 : Nat} {Fr : gH → Prop} (hF : gFr 1 Fr) (hW : gWf S)   : gMet l yX3_check (ws_ yX3_check cX3_check 2 (some .int)) ⟨1, 0, 0, 20⟩ G [.ref a0] (gPE 1 G S a0 Fr) (gqN (sM_check S ) G a0 Fr) gxN := by
  refine gMet_of hl pnX3 (gle rfl) (fun X Q hX F E hNm => ?_)
  subst hX
  change gW (X, G, 2, Q) (gPE 1 G S a0 Fr) [(0, .ref a0)] 0 [] 0 0
  refine g_pe (fun A hA => ?_)
  subst hA
  change gW _ _ [(0, .ref (A 0 0))] 0 [] 0 0
  refine g_aload_n F 0 rfl rfl dX3_check_0 ?_
  refine g_callV F (kX3_begins hl (pr_at (κ := 0) (i := 0) (by decide) (gc1 (gnl rfl)) (gce rfl rfl))) (g_recv F clX3 (gd_obj (pr_at (κ := 0) (i := 0) (by decide) (gc1 (gnl rfl)) (gce rfl rfl)))) q1448 q1450 qs6 q25 q1451 myX3_begins ⟨by decide, by decide⟩ rfl rfl (gle rfl) 0 0 (gle rfl) (gle rfl) (gle rfl) (gle rfl) dX3_check_1 gx_n (gv_v ?_)
  refine g_mono (P2 := gP 1 G (gsr S.1 0 0 (upd (S.1 0 0) 8 0), S.2) A Fr []) (pr_upRow (κ := 0) (i := 0) gM1 hF (upd (S.1 0 0) 8 0) (by decide) (gc1 (gnl rfl)) (gce rfl rfl) rfl) ?_
  refine g_aload_n F 0 rfl rfl dX3_check_4 ?_
  refine g_get F clX3 16 (by decide) q1405 (v := .int (S.1 0 0 6)) (gd_get (pr_at (κ := 0) (i := 0) (by decide) (gc1 (gnl rfl)) (gce (show (gsr S.1 0 0 (upd (S.1 0 0) 8 0)) 0 0 = upd (S.1 0 0) 8 0 from gsr_s) rfl)) rfl) dX3_check_5 ?_
  refine g_istore_n F rfl (by show 1 < 2; decide) (lv2 := [(1, .int (S.1 0 0 6)), (0, .ref (A 0 0))]) rfl dX3_check_8 ?_
  refine g_aload_n F 1 rfl rfl dX3_check_9 ?_
  refine g_iconst F (v := (0 : Int32)) (by decide) dX3_check_10 ?_
  refine g_put (P2 := gP 1 G (gsr (gsr S.1 0 0 (upd (S.1 0 0) 8 0)) 0 0 (upd (upd (S.1 0 0) 8 0) 6 (0 : Int32)), S.2) A Fr []) F clX3 16 (by decide) q1405 rfl rfl rfl (pr_put (κ := 0) (i := 0) gM1 hF (upd (upd (S.1 0 0) 8 0) 6 (0 : Int32)) (by decide) (gc1 (gnl rfl)) (gce (show (gsr S.1 0 0 (upd (S.1 0 0) 8 0)) 0 0 = upd (S.1 0 0) 8 0 from gsr_s) rfl) (gnl rfl) rfl) dX3_check_11 ?_
  refine g_aload_n F 1 rfl rfl dX3_check_14 ?_
  refine g_iconst F (v := (0 : Int32)) (by decide) dX3_check_15 ?_
  refine g_put (P2 := gP 1 G (gsr (gsr (gsr S.1 0 0 (upd (S.1 0 0) 8 0)) 0 0 (upd (upd (S.1 0 0) 8 0) 6 (0 : Int32))) 0 0 (upd (upd (upd (S.1 0 0) 8 0) 6 (0 : Int32)) 7 (0 : Int32)), S.2) A Fr []) F clX3 15 (by decide) q1404 rfl rfl rfl (pr_put (κ := 0) (i := 0) gM1 hF (upd (upd (upd (S.1 0 0) 8 0) 6 (0 : Int32)) 7 (0 : Int32)) (by decide) (gc1 (gnl rfl)) (gce (show (gsr (gsr S.1 0 0 (upd (S.1 0 0) 8 0)) 0 0 (upd (upd (S.1 0 0) 8 0) 6 (0 : Int32))) 0 0 = upd (upd (S.1 0 0) 8 0) 6 (0 : Int32) from gsr_s) rfl) (gnl rfl) rfl) dX3_check_16 ?_
  refine g_iload_n F 0 rfl rfl dX3_check_19 ?_
  exact g_retI F E rfl rfl (gle rfl) (gle rfl) dX3_check_20 (fun _ hp => ⟨_, _, rfl, rfl, ⟨A, rfl, gP_T0 hp⟩⟩)

def sM_draw (S : gS) (batch : Int32) : Value × gS := if ¬ gIn batch (S.2 8) then (.int (-1 : Int32), (gsr (gsr S.1 0 0 (upd (S.1 0 0) 8 0)) 0 0 (upd (upd (S.1 0 0) 8 0) 8 1), S.2)) else (if ¬ (¬ ((S.1 8 batch.toNatClampNeg 6) = (-1 : Int32)) ∧ ¬ ((S.1 0 0 0) < (S.1 8 batch.toNatClampNeg 4))) then (.int (-1 : Int32), (gsr (gsr S.1 0 0 (upd (S.1 0 0) 8 0)) 0 0 (upd (upd (S.1 0 0) 8 0) 8 (2 : Int32)), S.2)) else (.int (gmin 999 ((S.1 8 batch.toNatClampNeg 10) + (S.1 0 0 6))), (gsr (gsr S.1 0 0 (upd (S.1 0 0) 8 0)) 0 0 (upd (upd (upd (S.1 0 0) 8 0) 7 ((S.1 0 0 7) + 1)) 6 (gnb (S.1 0 0 6) (S.1 0 0 7))), S.2)))
theorem kX3_draw {l : Launch} {G : gG} (hl : l.stackTraces = false) {S : gS} {a0 : Nat} {Fr : gH → Prop} (hF : gFr 1 Fr) (hW : gWf S) {batch : Int32}  : gMet l yX3_draw (ws_ yX3_draw cX3_draw 2 (some .int)) ⟨3, 0, 0, 67⟩ G [.ref a0, .int batch] (gPE 1 G S a0 Fr) (gqN (sM_draw S batch) G a0 Fr) gxN := by
  refine gMet_of hl pnX3 (gle rfl) (fun X Q hX F E hNm => ?_)
  subst hX
  change gW (X, G, 2, Q) (gPE 1 G S a0 Fr) [(0, .ref a0), (1, .int batch)] 0 [] 0 0
  refine g_pe (fun A hA => ?_)
  subst hA
  change gW _ _ [(0, .ref (A 0 0)), (1, .int batch)] 0 [] 0 0
  refine g_aload_n F 0 rfl rfl dX3_draw_0 ?_
  refine g_callV F (kX3_begins hl (pr_at (κ := 0) (i := 0) (by decide) (gc1 (gnl rfl)) (gce rfl rfl))) (g_recv F clX3 (gd_obj (pr_at (κ := 0) (i := 0) (by decide) (gc1 (gnl rfl)) (gce rfl rfl)))) q1448 q1450 qs6 q25 q1451 myX3_begins ⟨by decide, by decide⟩ rfl rfl (gle rfl) 0 0 (gle rfl) (gle rfl) (gle rfl) (gle rfl) dX3_draw_1 gx_n (gv_v ?_)
  refine g_mono (P2 := gP 1 G (gsr S.1 0 0 (upd (S.1 0 0) 8 0), S.2) A Fr []) (pr_upRow (κ := 0) (i := 0) gM1 hF (upd (S.1 0 0) 8 0) (by decide) (gc1 (gnl rfl)) (gce rfl rfl) rfl) ?_
  refine g_aload_n F 0 rfl rfl dX3_draw_4 ?_
  refine g_iload_n F 1 rfl rfl dX3_draw_5 ?_
  refine g_callV F (kX3_noBatch hl hF hW (x := batch)) (g_recv F clX3 (gd_obj (pr_at (κ := 0) (i := 0) (by decide) (gc1 (gnl rfl)) (gce (show (gsr S.1 0 0 (upd (S.1 0 0) 8 0)) 0 0 = upd (S.1 0 0) 8 0 from gsr_s) rfl)))) q1577 q1579 qs10 q25 q1580 myX3_noBatch ⟨by decide, by decide⟩ rfl rfl (gle rfl) 0 0 (gle rfl) (gle rfl) (gle rfl) (gle rfl) dX3_draw_6 gx_n (gv_f (fun c_1 => ?_) (fun c_1 => ?_))
  · skip
    refine g_if_ne F (tgt := 45) (by decide) dX3_draw_9 (fun _ => ?_) (fun c => absurd c (by decide))
    refine g_iconst F (v := (-1 : Int32)) (by decide) dX3_draw_45 ?_
    refine g_goto F (tgt := 66) (by decide) dX3_draw_46 ?_
    exact g_retI F E rfl rfl (gle rfl) (gle rfl) dX3_draw_66 (fun _ hp => ⟨_, _, (if_pos c_1), rfl, ⟨A, rfl, gP_T0 hp⟩⟩)
  · skip
    refine g_if_ne F (tgt := 45) (by decide) dX3_draw_9 (fun c => absurd c (by decide)) (fun _ => ?_)
    refine g_aload_n F 0 rfl rfl dX3_draw_12 ?_
    refine g_aload_n F 0 rfl rfl dX3_draw_13 ?_
    refine g_aload_n F 0 rfl rfl dX3_draw_14 ?_
    refine g_get F clX3 9 (by decide) q1398 (v := .ref (A 308 0)) (gd_get (pr_at (κ := 0) (i := 0) (by decide) (gc1 (gnl rfl)) (gce (show (gsr S.1 0 0 (upd (S.1 0 0) 8 0)) 0 0 = upd (S.1 0 0) 8 0 from gsr_s) rfl)) rfl) dX3_draw_15 ?_
    refine g_iload_n F 1 rfl rfl dX3_draw_18 ?_
    refine g_callF F clJ3 (kJ3_get hl (pr_ls (M := 1) (S := (gsr S.1 0 0 (upd (S.1 0 0) 8 0), S.2)) (A := A) (κ := 8) (by decide) (Or.inl ⟨by decide, by decide⟩) (fun q => by first | decide | exact absurd q (by decide)) (fun q => by first | decide | exact absurd q (by decide))) (j := batch.toNatClampNeg) (Decidable.not_not.mp c_1).2 (gw_n hW _) rfl (Decidable.not_not.mp c_1).1) (g_recv F clJ3 (gls_obj (pr_ls (M := 1) (S := (gsr S.1 0 0 (upd (S.1 0 0) 8 0), S.2)) (A := A) (κ := 8) (by decide) (Or.inl ⟨by decide, by decide⟩) (fun q => by first | decide | exact absurd q (by decide)) (fun q => by first | decide | exact absurd q (by decide))))) q1506 q809 q811 q22 q813 (List.mem_of_getElem? (i := 1) rfl) (gT_w q812 rfl) (gT_w q810 rfl) (gT_w q293 rfl) gface_1 ⟨by decide, by decide⟩ rfl rfl (gle rfl) 0 0 (gle rfl) (gle rfl) (gle rfl) (gle rfl) dX3_draw_19 gx_n (gv_i ?_)
    refine g_castS F (g_recv F clX10 (gd_obj (pr_at (κ := 8) (i := batch.toNatClampNeg) (by decide) (gc6 (by decide) (Decidable.not_not.mp c_1).2) (gce (show (gsr S.1 0 0 (upd (S.1 0 0) 8 0)) 8 batch.toNatClampNeg = S.1 8 batch.toNatClampNeg from (gsr_p (by decide) rfl)) rfl)))) q1524 dX3_draw_24 ?_
    refine g_callV F (kX3_isFired hl (pr_at (κ := 0) (i := 0) (by decide) (gc1 (gnl rfl)) (gce (show (gsr S.1 0 0 (upd (S.1 0 0) 8 0)) 0 0 = upd (S.1 0 0) 8 0 from gsr_s) rfl)) (pr_at (κ := 8) (i := batch.toNatClampNeg) (by decide) (gc6 (by decide) (Decidable.not_not.mp c_1).2) (gce (show (gsr S.1 0 0 (upd (S.1 0 0) 8 0)) 8 batch.toNatClampNeg = S.1 8 batch.toNatClampNeg from (gsr_p (by decide) rfl)) rfl))) (g_recv F clX3 (gd_obj (pr_at (κ := 0) (i := 0) (by decide) (gc1 (gnl rfl)) (gce (show (gsr S.1 0 0 (upd (S.1 0 0) 8 0)) 0 0 = upd (S.1 0 0) 8 0 from gsr_s) rfl)))) q1597 q1599 qs12 q25 q1600 myX3_isFired ⟨by decide, by decide⟩ rfl rfl (gle rfl) 0 0 (gle rfl) (gle rfl) (gle rfl) (gle rfl) dX3_draw_27 gx_n (gv_i ?_)
    have J_3 : gW (X, G, 2, Q) (gP 1 G (gsr S.1 0 0 (upd (S.1 0 0) 8 0), S.2) A Fr []) [(0, .ref (A 0 0)), (1, .int batch)] 38 [.int (gb (¬ (¬ ((S.1 8 batch.toNatClampNeg 6) = (-1 : Int32)) ∧ ¬ ((S.1 0 0 0) < (S.1 8 batch.toNatClampNeg 4))))), .ref (A 0 0)] 0 0 := by
      refine g_iconst F (v := (2 : Int32)) (by decide) dX3_draw_38 ?_
      refine g_callV F (kX3_fails hl (b := gb (¬ (¬ ((S.1 8 batch.toNatClampNeg 6) = (-1 : Int32)) ∧ ¬ ((S.1 0 0 0) < (S.1 8 batch.toNatClampNeg 4))))) (nu := (2 : Int32)) (c := ¬ (¬ ((S.1 8 batch.toNatClampNeg 6) = (-1 : Int32)) ∧ ¬ ((S.1 0 0 0) < (S.1 8 batch.toNatClampNeg 4)))) gb_n0 (by decide) (pr_at (κ := 0) (i := 0) (by decide) (gc1 (gnl rfl)) (gce (show (gsr S.1 0 0 (upd (S.1 0 0) 8 0)) 0 0 = upd (S.1 0 0) 8 0 from gsr_s) rfl))) (g_recv F clX3 (gd_obj (pr_at (κ := 0) (i := 0) (by decide) (gc1 (gnl rfl)) (gce (show (gsr S.1 0 0 (upd (S.1 0 0) 8 0)) 0 0 = upd (S.1 0 0) 8 0 from gsr_s) rfl)))) q1456 q1458 qs7 q25 q1459 myX3_fails ⟨by decide, by decide⟩ rfl rfl (gle rfl) 0 0 (gle rfl) (gle rfl) (gle rfl) (gle rfl) dX3_draw_39 gx_n (gv_f (fun c_4 => ?_) (fun c_4 => ?_))
      · skip
        refine g_mono (P2 := gP 1 G (gsr (gsr S.1 0 0 (upd (S.1 0 0) 8 0)) 0 0 (upd (upd (S.1 0 0) 8 0) 8 (2 : Int32)), S.2) A Fr []) (pr_upRow (κ := 0) (i := 0) gM1 hF (upd (upd (S.1 0 0) 8 0) 8 (2 : Int32)) (by decide) (gc1 (gnl rfl)) (gce (show (gsr S.1 0 0 (upd (S.1 0 0) 8 0)) 0 0 = upd (S.1 0 0) 8 0 from gsr_s) rfl) rfl) ?_
        refine g_if_eq F (tgt := 49) (by decide) dX3_draw_42 (fun c => absurd c (by decide)) (fun _ => ?_)
        refine g_iconst F (v := (-1 : Int32)) (by decide) dX3_draw_45 ?_
        refine g_goto F (tgt := 66) (by decide) dX3_draw_46 ?_
        exact g_retI F E rfl rfl (gle rfl) (gle rfl) dX3_draw_66 (fun _ hp => ⟨_, _, ((if_neg c_1).trans (if_pos c_4)), rfl, ⟨A, rfl, gP_T0 hp⟩⟩)
      · skip
        refine g_if_eq F (tgt := 49) (by decide) dX3_draw_42 (fun _ => ?_) (fun c => absurd c (by decide))
        refine g_aload_n F 0 rfl rfl dX3_draw_49 ?_
        refine g_aload_n F 0 rfl rfl dX3_draw_50 ?_
        refine g_get F clX3 9 (by decide) q1398 (v := .ref (A 308 0)) (gd_get (pr_at (κ := 0) (i := 0) (by decide) (gc1 (gnl rfl)) (gce (show (gsr S.1 0 0 (upd (S.1 0 0) 8 0)) 0 0 = upd (S.1 0 0) 8 0 from gsr_s) rfl)) rfl) dX3_draw_51 ?_
        refine g_iload_n F 1 rfl rfl dX3_draw_54 ?_
        refine g_callF F clJ3 (kJ3_get hl (pr_ls (M := 1) (S := (gsr S.1 0 0 (upd (S.1 0 0) 8 0), S.2)) (A := A) (κ := 8) (by decide) (Or.inl ⟨by decide, by decide⟩) (fun q => by first | decide | exact absurd q (by decide)) (fun q => by first | decide | exact absurd q (by decide))) (j := batch.toNatClampNeg) (Decidable.not_not.mp c_1).2 (gw_n hW _) rfl (Decidable.not_not.mp c_1).1) (g_recv F clJ3 (gls_obj (pr_ls (M := 1) (S := (gsr S.1 0 0 (upd (S.1 0 0) 8 0), S.2)) (A := A) (κ := 8) (by decide) (Or.inl ⟨by decide, by decide⟩) (fun q => by first | decide | exact absurd q (by decide)) (fun q => by first | decide | exact absurd q (by decide))))) q1506 q809 q811 q22 q813 (List.mem_of_getElem? (i := 1) rfl) (gT_w q812 rfl) (gT_w q810 rfl) (gT_w q293 rfl) gface_1 ⟨by decide, by decide⟩ rfl rfl (gle rfl) 0 0 (gle rfl) (gle rfl) (gle rfl) (gle rfl) dX3_draw_55 gx_n (gv_i ?_)
        refine g_castS F (g_recv F clX10 (gd_obj (pr_at (κ := 8) (i := batch.toNatClampNeg) (by decide) (gc6 (by decide) (Decidable.not_not.mp c_1).2) (gce (show (gsr S.1 0 0 (upd (S.1 0 0) 8 0)) 8 batch.toNatClampNeg = S.1 8 batch.toNatClampNeg from (gsr_p (by decide) rfl)) rfl)))) q1524 dX3_draw_60 ?_
        refine g_callV F (kX3_tells hl (pr_at (κ := 0) (i := 0) (by decide) (gc1 (gnl rfl)) (gce (show (gsr S.1 0 0 (upd (S.1 0 0) 8 0)) 0 0 = upd (S.1 0 0) 8 0 from gsr_s) rfl)) (pr_at (κ := 8) (i := batch.toNatClampNeg) (by decide) (gc6 (by decide) (Decidable.not_not.mp c_1).2) (gce (show (gsr S.1 0 0 (upd (S.1 0 0) 8 0)) 8 batch.toNatClampNeg = S.1 8 batch.toNatClampNeg from (gsr_p (by decide) rfl)) rfl))) (g_recv F clX3 (gd_obj (pr_at (κ := 0) (i := 0) (by decide) (gc1 (gnl rfl)) (gce (show (gsr S.1 0 0 (upd (S.1 0 0) 8 0)) 0 0 = upd (S.1 0 0) 8 0 from gsr_s) rfl)))) q1610 q1612 qs13 q25 q1613 myX3_tells ⟨by decide, by decide⟩ rfl rfl (gle rfl) 0 0 (gle rfl) (gle rfl) (gle rfl) (gle rfl) dX3_draw_63 gx_n (gv_i ?_)
        refine g_mono (P2 := gP 1 G (gsr (gsr S.1 0 0 (upd (S.1 0 0) 8 0)) 0 0 (upd (upd (upd (S.1 0 0) 8 0) 7 ((S.1 0 0 7) + 1)) 6 (gnb (S.1 0 0 6) (S.1 0 0 7))), S.2) A Fr []) (pr_upRow (κ := 0) (i := 0) gM1 hF (upd (upd (upd (S.1 0 0) 8 0) 7 ((S.1 0 0 7) + 1)) 6 (gnb (S.1 0 0 6) (S.1 0 0 7))) (by decide) (gc1 (gnl rfl)) (gce (show (gsr S.1 0 0 (upd (S.1 0 0) 8 0)) 0 0 = upd (S.1 0 0) 8 0 from gsr_s) rfl) rfl) ?_
        exact g_retI F E rfl rfl (gle rfl) (gle rfl) dX3_draw_66 (fun _ hp => ⟨_, _, ((if_neg c_1).trans (if_neg c_4)), rfl, ⟨A, rfl, gP_T0 hp⟩⟩)
    refine gb_if_ne F (tgt := 37) (by decide) dX3_draw_30 (fun c_2 => ?_) (fun c_2 => ?_)
    · skip
      refine g_iconst F (v := (0 : Int32)) (by decide) dX3_draw_37 ?_
      exact g_top (gb_f (fun q => q c_2)) J_3
    · skip
      refine g_iconst F (v := (1 : Int32)) (by decide) dX3_draw_33 ?_
      refine g_goto F (tgt := 38) (by decide) dX3_draw_34 ?_
      exact g_top (gb_t c_2) J_3

def sM_stamp (S : gS) (run : Int32) : Value × gS := if ¬ gIn run (S.2 10) then (.int (-1 : Int32), (gsr (gsr S.1 0 0 (upd (S.1 0 0) 8 0)) 0 0 (upd (upd (S.1 0 0) 8 0) 8 1), S.2)) else (if ((S.1 0 0 0) < (S.1 10 run.toNatClampNeg 6)) ∨ (((S.1 10 run.toNatClampNeg 7) < (3 : Int32)) ∨ (¬ ((S.1 10 run.toNatClampNeg 9) = (-1 : Int32)) ∨ (¬ ((S.1 8 ((S.1 10 run.toNatClampNeg 0).toNatClampNeg) 4) ≤ (S.1 0 0 0))))) then (.int (-1 : Int32), (gsr (gsr S.1 0 0 (upd (S.1 0 0) 8 0)) 0 0 (upd (upd (S.1 0 0) 8 0) 8 (2 : Int32)), S.2)) else (.int ((gmin 999 ((S.1 8 ((S.1 10 run.toNatClampNeg 0).toNatClampNeg) 10) + (S.1 0 0 6))) / (50 : Int32)), (gsr (gsr (gsr S.1 0 0 (upd (S.1 0 0) 8 0)) 0 0 (upd (upd (upd (S.1 0 0) 8 0) 7 ((S.1 0 0 7) + 1)) 6 (gnb (S.1 0 0 6) (S.1 0 0 7)))) 10 run.toNatClampNeg (upd (S.1 10 run.toNatClampNeg) 9 ((gmin 999 ((S.1 8 ((S.1 10 run.toNatClampNeg 0).toNatClampNeg) 10) + (S.1 0 0 6))) / (50 : Int32))), S.2)))
theorem kX3_stamp {l : Launch} {G : gG} (hl : l.stackTraces = false) {S : gS} {a0 : Nat} {Fr : gH → Prop} (hF : gFr 1 Fr) (hW : gWf S) {run : Int32}  : gMet l yX3_stamp (ws_ yX3_stamp cX3_stamp 3 (some .int)) ⟨3, 0, 0, 67⟩ G [.ref a0, .int run] (gPE 1 G S a0 Fr) (gqN (sM_stamp S run) G a0 Fr) gxN := by
  refine gMet_of hl pnX3 (gle rfl) (fun X Q hX F E hNm => ?_)
  subst hX
  change gW (X, G, 3, Q) (gPE 1 G S a0 Fr) [(0, .ref a0), (1, .int run)] 0 [] 0 0
  refine g_pe (fun A hA => ?_)
  subst hA
  change gW _ _ [(0, .ref (A 0 0)), (1, .int run)] 0 [] 0 0
  refine g_aload_n F 0 rfl rfl dX3_stamp_0 ?_
  refine g_callV F (kX3_begins hl (pr_at (κ := 0) (i := 0) (by decide) (gc1 (gnl rfl)) (gce rfl rfl))) (g_recv F clX3 (gd_obj (pr_at (κ := 0) (i := 0) (by decide) (gc1 (gnl rfl)) (gce rfl rfl)))) q1448 q1450 qs6 q25 q1451 myX3_begins ⟨by decide, by decide⟩ rfl rfl (gle rfl) 0 0 (gle rfl) (gle rfl) (gle rfl) (gle rfl) dX3_stamp_1 gx_n (gv_v ?_)
  refine g_mono (P2 := gP 1 G (gsr S.1 0 0 (upd (S.1 0 0) 8 0), S.2) A Fr []) (pr_upRow (κ := 0) (i := 0) gM1 hF (upd (S.1 0 0) 8 0) (by decide) (gc1 (gnl rfl)) (gce rfl rfl) rfl) ?_
  refine g_aload_n F 0 rfl rfl dX3_stamp_4 ?_
  refine g_iload_n F 1 rfl rfl dX3_stamp_5 ?_
  refine g_callV F (kX3_noRun hl hF hW (x := run)) (g_recv F clX3 (gd_obj (pr_at (κ := 0) (i := 0) (by decide) (gc1 (gnl rfl)) (gce (show (gsr S.1 0 0 (upd (S.1 0 0) 8 0)) 0 0 = upd (S.1 0 0) 8 0 from gsr_s) rfl)))) q1719 q1721 qs15 q25 q1722 myX3_noRun ⟨by decide, by decide⟩ rfl rfl (gle rfl) 0 0 (gle rfl) (gle rfl) (gle rfl) (gle rfl) dX3_stamp_6 gx_n (gv_f (fun c_1 => ?_) (fun c_1 => ?_))
  · skip
    refine g_if_eq F (tgt := 14) (by decide) dX3_stamp_9 (fun c => absurd c (by decide)) (fun _ => ?_)
    refine g_iconst F (v := (-1 : Int32)) (by decide) dX3_stamp_12 ?_
    exact g_retI F E rfl rfl (gle rfl) (gle rfl) dX3_stamp_13 (fun _ hp => ⟨_, _, (if_pos c_1), rfl, ⟨A, rfl, gP_T0 hp⟩⟩)
  · skip
    refine g_if_eq F (tgt := 14) (by decide) dX3_stamp_9 (fun _ => ?_) (fun c => absurd c (by decide))
    refine g_aload_n F 0 rfl rfl dX3_stamp_14 ?_
    refine g_get F clX3 11 (by decide) q1400 (v := .ref (A 310 0)) (gd_get (pr_at (κ := 0) (i := 0) (by decide) (gc1 (gnl rfl)) (gce (show (gsr S.1 0 0 (upd (S.1 0 0) 8 0)) 0 0 = upd (S.1 0 0) 8 0 from gsr_s) rfl)) rfl) dX3_stamp_15 ?_
    refine g_iload_n F 1 rfl rfl dX3_stamp_18 ?_
    refine g_callF F clJ3 (kJ3_get hl (pr_ls (M := 1) (S := (gsr S.1 0 0 (upd (S.1 0 0) 8 0), S.2)) (A := A) (κ := 10) (by decide) (Or.inl ⟨by decide, by decide⟩) (fun q => by first | decide | exact absurd q (by decide)) (fun q => by first | decide | exact absurd q (by decide))) (j := run.toNatClampNeg) (Decidable.not_not.mp c_1).2 (gw_n hW _) rfl (Decidable.not_not.mp c_1).1) (g_recv F clJ3 (gls_obj (pr_ls (M := 1) (S := (gsr S.1 0 0 (upd (S.1 0 0) 8 0), S.2)) (A := A) (κ := 10) (by decide) (Or.inl ⟨by decide, by decide⟩) (fun q => by first | decide | exact absurd q (by decide)) (fun q => by first | decide | exact absurd q (by decide))))) q1506 q809 q811 q22 q813 (List.mem_of_getElem? (i := 1) rfl) (gT_w q812 rfl) (gT_w q810 rfl) (gT_w q293 rfl) gface_1 ⟨by decide, by decide⟩ rfl rfl (gle rfl) 0 0 (gle rfl) (gle rfl) (gle rfl) (gle rfl) dX3_stamp_19 gx_n (gv_i ?_)
    refine g_castS F (g_recv F clX14 (gd_obj (pr_at (κ := 10) (i := run.toNatClampNeg) (by decide) (gc6 (by decide) (Decidable.not_not.mp c_1).2) (gce (show (gsr S.1 0 0 (upd (S.1 0 0) 8 0)) 10 run.toNatClampNeg = S.1 10 run.toNatClampNeg from (gsr_p (by decide) rfl)) rfl)))) q1673 dX3_stamp_24 ?_
    refine g_astore_n F rfl (by show 2 < 3; decide) (lv2 := [(2, .ref (A 10 run.toNatClampNeg)), (0, .ref (A 0 0)), (1, .int run)]) rfl dX3_stamp_27 ?_
    refine g_aload_n F 1 rfl rfl dX3_stamp_28 ?_
    refine g_aload_n F 1 rfl rfl dX3_stamp_29 ?_
    refine g_get F clX3 1 (by decide) q1390 (v := .int (S.1 0 0 0)) (gd_get (pr_at (κ := 0) (i := 0) (by decide) (gc1 (gnl rfl)) (gce (show (gsr S.1 0 0 (upd (S.1 0 0) 8 0)) 0 0 = upd (S.1 0 0) 8 0 from gsr_s) rfl)) rfl) dX3_stamp_30 ?_
    refine g_aload_n F 0 rfl rfl dX3_stamp_33 ?_
    refine g_getN F clX14 6 (by decide) (gT_w q1685 rfl) (v := .int (S.1 10 run.toNatClampNeg 6)) (gd_get (pr_at (κ := 10) (i := run.toNatClampNeg) (by decide) (gc6 (by decide) (Decidable.not_not.mp c_1).2) (gce (show (gsr S.1 0 0 (upd (S.1 0 0) 8 0)) 10 run.toNatClampNeg = S.1 10 run.toNatClampNeg from (gsr_p (by decide) rfl)) rfl)) rfl) dX3_stamp_34 ?_
    have J_6 : gW (X, G, 3, Q) (gP 1 G (gsr S.1 0 0 (upd (S.1 0 0) 8 0), S.2) A Fr []) [(2, .ref (A 10 run.toNatClampNeg)), (0, .ref (A 0 0)), (1, .int run)] 87 [.int (gb (((S.1 0 0 0) < (S.1 10 run.toNatClampNeg 6)) ∨ (((S.1 10 run.toNatClampNeg 7) < (3 : Int32)) ∨ (¬ ((S.1 10 run.toNatClampNeg 9) = (-1 : Int32)) ∨ (¬ ((S.1 8 ((S.1 10 run.toNatClampNeg 0).toNatClampNeg) 4) ≤ (S.1 0 0 0))))))), .ref (A 0 0)] 0 0 := by
      refine g_iconst F (v := (2 : Int32)) (by decide) dX3_stamp_87 ?_
      refine g_callV F (kX3_fails hl (b := gb (((S.1 0 0 0) < (S.1 10 run.toNatClampNeg 6)) ∨ (((S.1 10 run.toNatClampNeg 7) < (3 : Int32)) ∨ (¬ ((S.1 10 run.toNatClampNeg 9) = (-1 : Int32)) ∨ (¬ ((S.1 8 ((S.1 10 run.toNatClampNeg 0).toNatClampNeg) 4) ≤ (S.1 0 0 0))))))) (nu := (2 : Int32)) (c := ((S.1 0 0 0) < (S.1 10 run.toNatClampNeg 6)) ∨ (((S.1 10 run.toNatClampNeg 7) < (3 : Int32)) ∨ (¬ ((S.1 10 run.toNatClampNeg 9) = (-1 : Int32)) ∨ (¬ ((S.1 8 ((S.1 10 run.toNatClampNeg 0).toNatClampNeg) 4) ≤ (S.1 0 0 0)))))) gb_n0 (by decide) (pr_at (κ := 0) (i := 0) (by decide) (gc1 (gnl rfl)) (gce (show (gsr S.1 0 0 (upd (S.1 0 0) 8 0)) 0 0 = upd (S.1 0 0) 8 0 from gsr_s) rfl))) (g_recv F clX3 (gd_obj (pr_at (κ := 0) (i := 0) (by decide) (gc1 (gnl rfl)) (gce (show (gsr S.1 0 0 (upd (S.1 0 0) 8 0)) 0 0 = upd (S.1 0 0) 8 0 from gsr_s) rfl)))) q1456 q1458 qs7 q25 q1459 myX3_fails ⟨by decide, by decide⟩ rfl rfl (gle rfl) 0 0 (gle rfl) (gle rfl) (gle rfl) (gle rfl) dX3_stamp_88 gx_n (gv_f (fun c_7 => ?_) (fun c_7 => ?_))
      · skip
        refine g_mono (P2 := gP 1 G (gsr (gsr S.1 0 0 (upd (S.1 0 0) 8 0)) 0 0 (upd (upd (S.1 0 0) 8 0) 8 (2 : Int32)), S.2) A Fr []) (pr_upRow (κ := 0) (i := 0) gM1 hF (upd (upd (S.1 0 0) 8 0) 8 (2 : Int32)) (by decide) (gc1 (gnl rfl)) (gce (show (gsr S.1 0 0 (upd (S.1 0 0) 8 0)) 0 0 = upd (S.1 0 0) 8 0 from gsr_s) rfl) rfl) ?_
        refine g_if_eq F (tgt := 96) (by decide) dX3_stamp_91 (fun c => absurd c (by decide)) (fun _ => ?_)
        refine g_iconst F (v := (-1 : Int32)) (by decide) dX3_stamp_94 ?_
        exact g_retI F E rfl rfl (gle rfl) (gle rfl) dX3_stamp_95 (fun _ hp => ⟨_, _, ((if_neg c_1).trans (if_pos c_7)), rfl, ⟨A, rfl, gP_T0 hp⟩⟩)
      · skip
        refine g_if_eq F (tgt := 96) (by decide) dX3_stamp_91 (fun _ => ?_) (fun c => absurd c (by decide))
        refine g_aload_n F 0 rfl rfl dX3_stamp_96 ?_
        refine g_aload_n F 1 rfl rfl dX3_stamp_97 ?_
        refine g_aload_n F 1 rfl rfl dX3_stamp_98 ?_
        refine g_get F clX3 9 (by decide) q1398 (v := .ref (A 308 0)) (gd_get (pr_at (κ := 0) (i := 0) (by decide) (gc1 (gnl rfl)) (gce (show (gsr S.1 0 0 (upd (S.1 0 0) 8 0)) 0 0 = upd (S.1 0 0) 8 0 from gsr_s) rfl)) rfl) dX3_stamp_99 ?_
        refine g_aload_n F 0 rfl rfl dX3_stamp_102 ?_
        refine g_getN F clX14 0 (by decide) (gT_w q1679 rfl) (v := .int (S.1 10 run.toNatClampNeg 0)) (gd_get (pr_at (κ := 10) (i := run.toNatClampNeg) (by decide) (gc6 (by decide) (Decidable.not_not.mp c_1).2) (gce (show (gsr S.1 0 0 (upd (S.1 0 0) 8 0)) 10 run.toNatClampNeg = S.1 10 run.toNatClampNeg from (gsr_p (by decide) rfl)) rfl)) rfl) dX3_stamp_103 ?_
        refine g_callF F clJ3 (kJ3_get hl (pr_ls (M := 1) (S := (gsr S.1 0 0 (upd (S.1 0 0) 8 0), S.2)) (A := A) (κ := 8) (by decide) (Or.inl ⟨by decide, by decide⟩) (fun q => by first | decide | exact absurd q (by decide)) (fun q => by first | decide | exact absurd q (by decide))) (j := (S.1 10 run.toNatClampNeg 0).toNatClampNeg) (gw_10_0 hW (Decidable.not_not.mp c_1).2).2 (gw_n hW _) rfl (gw_10_0 hW (Decidable.not_not.mp c_1).2).1) (g_recv F clJ3 (gls_obj (pr_ls (M := 1) (S := (gsr S.1 0 0 (upd (S.1 0 0) 8 0), S.2)) (A := A) (κ := 8) (by decide) (Or.inl ⟨by decide, by decide⟩) (fun q => by first | decide | exact absurd q (by decide)) (fun q => by first | decide | exact absurd q (by decide))))) q1506 q809 q811 q22 q813 (List.mem_of_getElem? (i := 1) rfl) (gT_w q812 rfl) (gT_w q810 rfl) (gT_w q293 rfl) gface_1 ⟨by decide, by decide⟩ rfl rfl (gle rfl) 0 0 (gle rfl) (gle rfl) (gle rfl) (gle rfl) dX3_stamp_106 gx_n (gv_i ?_)
        refine g_castS F (g_recv F clX10 (gd_obj (pr_at (κ := 8) (i := (S.1 10 run.toNatClampNeg 0).toNatClampNeg) (by decide) (gc6 (by decide) (gw_10_0 hW (Decidable.not_not.mp c_1).2).2) (gce (show (gsr S.1 0 0 (upd (S.1 0 0) 8 0)) 8 ((S.1 10 run.toNatClampNeg 0).toNatClampNeg) = S.1 8 ((S.1 10 run.toNatClampNeg 0).toNatClampNeg) from (gsr_p (by decide) rfl)) rfl)))) q1524 dX3_stamp_111 ?_
        refine g_callV F (kX3_tells hl (pr_at (κ := 0) (i := 0) (by decide) (gc1 (gnl rfl)) (gce (show (gsr S.1 0 0 (upd (S.1 0 0) 8 0)) 0 0 = upd (S.1 0 0) 8 0 from gsr_s) rfl)) (pr_at (κ := 8) (i := (S.1 10 run.toNatClampNeg 0).toNatClampNeg) (by decide) (gc6 (by decide) (gw_10_0 hW (Decidable.not_not.mp c_1).2).2) (gce (show (gsr S.1 0 0 (upd (S.1 0 0) 8 0)) 8 ((S.1 10 run.toNatClampNeg 0).toNatClampNeg) = S.1 8 ((S.1 10 run.toNatClampNeg 0).toNatClampNeg) from (gsr_p (by decide) rfl)) rfl))) (g_recv F clX3 (gd_obj (pr_at (κ := 0) (i := 0) (by decide) (gc1 (gnl rfl)) (gce (show (gsr S.1 0 0 (upd (S.1 0 0) 8 0)) 0 0 = upd (S.1 0 0) 8 0 from gsr_s) rfl)))) q1610 q1612 qs13 q25 q1613 myX3_tells ⟨by decide, by decide⟩ rfl rfl (gle rfl) 0 0 (gle rfl) (gle rfl) (gle rfl) (gle rfl) dX3_stamp_114 gx_n (gv_i ?_)
        refine g_mono (P2 := gP 1 G (gsr (gsr S.1 0 0 (upd (S.1 0 0) 8 0)) 0 0 (upd (upd (upd (S.1 0 0) 8 0) 7 ((S.1 0 0 7) + 1)) 6 (gnb (S.1 0 0 6) (S.1 0 0 7))), S.2) A Fr []) (pr_upRow (κ := 0) (i := 0) gM1 hF (upd (upd (upd (S.1 0 0) 8 0) 7 ((S.1 0 0 7) + 1)) 6 (gnb (S.1 0 0 6) (S.1 0 0 7))) (by decide) (gc1 (gnl rfl)) (gce (show (gsr S.1 0 0 (upd (S.1 0 0) 8 0)) 0 0 = upd (S.1 0 0) 8 0 from gsr_s) rfl) rfl) ?_
        refine g_bipush F (v := (50 : Int32)) (by decide) dX3_stamp_117 ?_
        refine g_idiv F (by decide) dX3_stamp_119 ?_
        refine g_putN (P2 := gP 1 G (gsr (gsr (gsr S.1 0 0 (upd (S.1 0 0) 8 0)) 0 0 (upd (upd (upd (S.1 0 0) 8 0) 7 ((S.1 0 0 7) + 1)) 6 (gnb (S.1 0 0 6) (S.1 0 0 7)))) 10 run.toNatClampNeg (upd (S.1 10 run.toNatClampNeg) 9 ((gmin 999 ((S.1 8 ((S.1 10 run.toNatClampNeg 0).toNatClampNeg) 10) + (S.1 0 0 6))) / (50 : Int32))), S.2) A Fr []) F clX14 9 (by decide) (gT_w q1690 rfl) rfl rfl rfl (pr_put (κ := 10) (i := run.toNatClampNeg) gM1 hF (upd (S.1 10 run.toNatClampNeg) 9 ((gmin 999 ((S.1 8 ((S.1 10 run.toNatClampNeg 0).toNatClampNeg) 10) + (S.1 0 0 6))) / (50 : Int32))) (by decide) (gc6 (by decide) (Decidable.not_not.mp c_1).2) (gce (show (gsr (gsr S.1 0 0 (upd (S.1 0 0) 8 0)) 0 0 (upd (upd (upd (S.1 0 0) 8 0) 7 ((S.1 0 0 7) + 1)) 6 (gnb (S.1 0 0 6) (S.1 0 0 7)))) 10 run.toNatClampNeg = S.1 10 run.toNatClampNeg from (gsr_p (by decide) (gsr_p (by decide) rfl))) rfl) (gnl rfl) rfl) dX3_stamp_120 ?_
        refine g_aload_n F 0 rfl rfl dX3_stamp_123 ?_
        refine g_getN F clX14 9 (by decide) (gT_w q1690 rfl) (v := .int ((gmin 999 ((S.1 8 ((S.1 10 run.toNatClampNeg 0).toNatClampNeg) 10) + (S.1 0 0 6))) / (50 : Int32))) (gd_get (pr_at (κ := 10) (i := run.toNatClampNeg) (by decide) (gc6 (by decide) (Decidable.not_not.mp c_1).2) (gce (show (gsr (gsr (gsr S.1 0 0 (upd (S.1 0 0) 8 0)) 0 0 (upd (upd (upd (S.1 0 0) 8 0) 7 ((S.1 0 0 7) + 1)) 6 (gnb (S.1 0 0 6) (S.1 0 0 7)))) 10 run.toNatClampNeg (upd (S.1 10 run.toNatClampNeg) 9 ((gmin 999 ((S.1 8 ((S.1 10 run.toNatClampNeg 0).toNatClampNeg) 10) + (S.1 0 0 6))) / (50 : Int32)))) 10 run.toNatClampNeg = upd (S.1 10 run.toNatClampNeg) 9 ((gmin 999 ((S.1 8 ((S.1 10 run.toNatClampNeg 0).toNatClampNeg) 10) + (S.1 0 0 6))) / (50 : Int32)) from gsr_s) rfl)) rfl) dX3_stamp_124 ?_
        exact g_retI F E rfl rfl (gle rfl) (gle rfl) dX3_stamp_127 (fun _ hp => ⟨_, _, ((if_neg c_1).trans (if_neg c_7)), rfl, ⟨A, rfl, gP_T0 hp⟩⟩)
    refine g_icmp_lt F (tgt := 82) (by decide) dX3_stamp_37 (fun c_2 => ?_) (fun c_2 => ?_)
    · skip
      refine g_iconst F (v := (1 : Int32)) (by decide) dX3_stamp_82 ?_
      refine g_goto F (tgt := 87) (by decide) dX3_stamp_83 ?_
      exact g_top (gb_t (Or.inl c_2)) J_6
    · skip
      refine g_aload_n F 0 rfl rfl dX3_stamp_40 ?_
      refine g_getN F clX14 7 (by decide) (gT_w q1686 rfl) (v := .int (S.1 10 run.toNatClampNeg 7)) (gd_get (pr_at (κ := 10) (i := run.toNatClampNeg) (by decide) (gc6 (by decide) (Decidable.not_not.mp c_1).2) (gce (show (gsr S.1 0 0 (upd (S.1 0 0) 8 0)) 10 run.toNatClampNeg = S.1 10 run.toNatClampNeg from (gsr_p (by decide) rfl)) rfl)) rfl) dX3_stamp_41 ?_
      refine g_iconst F (v := (3 : Int32)) (by decide) dX3_stamp_44 ?_
      refine g_icmp_lt F (tgt := 82) (by decide) dX3_stamp_45 (fun c_3 => ?_) (fun c_3 => ?_)
      · skip
        refine g_iconst F (v := (1 : Int32)) (by decide) dX3_stamp_82 ?_
        refine g_goto F (tgt := 87) (by decide) dX3_stamp_83 ?_
        exact g_top (gb_t (Or.inr (Or.inl c_3))) J_6
      · skip
        refine g_aload_n F 0 rfl rfl dX3_stamp_48 ?_
        refine g_getN F clX14 9 (by decide) (gT_w q1690 rfl) (v := .int (S.1 10 run.toNatClampNeg 9)) (gd_get (pr_at (κ := 10) (i := run.toNatClampNeg) (by decide) (gc6 (by decide) (Decidable.not_not.mp c_1).2) (gce (show (gsr S.1 0 0 (upd (S.1 0 0) 8 0)) 10 run.toNatClampNeg = S.1 10 run.toNatClampNeg from (gsr_p (by decide) rfl)) rfl)) rfl) dX3_stamp_49 ?_
        refine g_iconst F (v := (-1 : Int32)) (by decide) dX3_stamp_52 ?_
        refine g_icmp_ne F (tgt := 82) (by decide) dX3_stamp_53 (fun c_4 => ?_) (fun c_4 => ?_)
        · skip
          refine g_iconst F (v := (1 : Int32)) (by decide) dX3_stamp_82 ?_
          refine g_goto F (tgt := 87) (by decide) dX3_stamp_83 ?_
          exact g_top (gb_t (Or.inr (Or.inr (Or.inl c_4)))) J_6
        · skip
          refine g_aload_n F 1 rfl rfl dX3_stamp_56 ?_
          refine g_get F clX3 1 (by decide) q1390 (v := .int (S.1 0 0 0)) (gd_get (pr_at (κ := 0) (i := 0) (by decide) (gc1 (gnl rfl)) (gce (show (gsr S.1 0 0 (upd (S.1 0 0) 8 0)) 0 0 = upd (S.1 0 0) 8 0 from gsr_s) rfl)) rfl) dX3_stamp_57 ?_
          refine g_aload_n F 1 rfl rfl dX3_stamp_60 ?_
          refine g_get F clX3 9 (by decide) q1398 (v := .ref (A 308 0)) (gd_get (pr_at (κ := 0) (i := 0) (by decide) (gc1 (gnl rfl)) (gce (show (gsr S.1 0 0 (upd (S.1 0 0) 8 0)) 0 0 = upd (S.1 0 0) 8 0 from gsr_s) rfl)) rfl) dX3_stamp_61 ?_
          refine g_aload_n F 0 rfl rfl dX3_stamp_64 ?_
          refine g_getN F clX14 0 (by decide) (gT_w q1679 rfl) (v := .int (S.1 10 run.toNatClampNeg 0)) (gd_get (pr_at (κ := 10) (i := run.toNatClampNeg) (by decide) (gc6 (by decide) (Decidable.not_not.mp c_1).2) (gce (show (gsr S.1 0 0 (upd (S.1 0 0) 8 0)) 10 run.toNatClampNeg = S.1 10 run.toNatClampNeg from (gsr_p (by decide) rfl)) rfl)) rfl) dX3_stamp_65 ?_
          refine g_callF F clJ3 (kJ3_get hl (pr_ls (M := 1) (S := (gsr S.1 0 0 (upd (S.1 0 0) 8 0), S.2)) (A := A) (κ := 8) (by decide) (Or.inl ⟨by decide, by decide⟩) (fun q => by first | decide | exact absurd q (by decide)) (fun q => by first | decide | exact absurd q (by decide))) (j := (S.1 10 run.toNatClampNeg 0).toNatClampNeg) (gw_10_0 hW (Decidable.not_not.mp c_1).2).2 (gw_n hW _) rfl (gw_10_0 hW (Decidable.not_not.mp c_1).2).1) (g_recv F clJ3 (gls_obj (pr_ls (M := 1) (S := (gsr S.1 0 0 (upd (S.1 0 0) 8 0), S.2)) (A := A) (κ := 8) (by decide) (Or.inl ⟨by decide, by decide⟩) (fun q => by first | decide | exact absurd q (by decide)) (fun q => by first | decide | exact absurd q (by decide))))) q1506 q809 q811 q22 q813 (List.mem_of_getElem? (i := 1) rfl) (gT_w q812 rfl) (gT_w q810 rfl) (gT_w q293 rfl) gface_1 ⟨by decide, by decide⟩ rfl rfl (gle rfl) 0 0 (gle rfl) (gle rfl) (gle rfl) (gle rfl) dX3_stamp_68 gx_n (gv_i ?_)
          refine g_castS F (g_recv F clX10 (gd_obj (pr_at (κ := 8) (i := (S.1 10 run.toNatClampNeg 0).toNatClampNeg) (by decide) (gc6 (by decide) (gw_10_0 hW (Decidable.not_not.mp c_1).2).2) (gce (show (gsr S.1 0 0 (upd (S.1 0 0) 8 0)) 8 ((S.1 10 run.toNatClampNeg 0).toNatClampNeg) = S.1 8 ((S.1 10 run.toNatClampNeg 0).toNatClampNeg) from (gsr_p (by decide) rfl)) rfl)))) q1524 dX3_stamp_73 ?_
          refine g_getN F clX10 4 (by decide) (gT_w q1534 rfl) (v := .int (S.1 8 ((S.1 10 run.toNatClampNeg 0).toNatClampNeg) 4)) (gd_get (pr_at (κ := 8) (i := (S.1 10 run.toNatClampNeg 0).toNatClampNeg) (by decide) (gc6 (by decide) (gw_10_0 hW (Decidable.not_not.mp c_1).2).2) (gce (show (gsr S.1 0 0 (upd (S.1 0 0) 8 0)) 8 ((S.1 10 run.toNatClampNeg 0).toNatClampNeg) = S.1 8 ((S.1 10 run.toNatClampNeg 0).toNatClampNeg) from (gsr_p (by decide) rfl)) rfl)) rfl) dX3_stamp_76 ?_
          refine g_icmp_ge F (tgt := 86) (by decide) dX3_stamp_79 (fun c_5 => ?_) (fun c_5 => ?_)
          · skip
            refine g_iconst F (v := (0 : Int32)) (by decide) dX3_stamp_86 ?_
            exact g_top (gb_f (fun q => q.elim c_2 (fun q => q.elim c_3 (fun q => q.elim (fun z => z c_4) (fun q => q c_5))))) J_6
          · skip
            refine g_iconst F (v := (1 : Int32)) (by decide) dX3_stamp_82 ?_
            refine g_goto F (tgt := 87) (by decide) dX3_stamp_83 ?_
            exact g_top (gb_t (Or.inr (Or.inr (Or.inr c_5)))) J_6

def sM_erase (S : gS) (run pumice : Int32) : Value × gS := if ¬ gIn run (S.2 10) then (.int (-1 : Int32), (gsr (gsr S.1 0 0 (upd (S.1 0 0) 8 0)) 0 0 (upd (upd (S.1 0 0) 8 0) 8 1), S.2)) else (if ¬ (¬ pumice < (0 : Int32) ∧ ¬ (9 : Int32) < pumice) then (.int (-1 : Int32), (gsr (gsr S.1 0 0 (upd (S.1 0 0) 8 0)) 0 0 (upd (upd (S.1 0 0) 8 0) 8 (2 : Int32)), S.2)) else (if ((S.1 10 run.toNatClampNeg 9) = (-1 : Int32)) ∨ (¬ ((S.1 10 run.toNatClampNeg 10) = 0)) then (.int (-1 : Int32), (gsr (gsr S.1 0 0 (upd (S.1 0 0) 8 0)) 0 0 (upd (upd (S.1 0 0) 8 0) 8 (3 : Int32)), S.2)) else (.int (S.1 10 run.toNatClampNeg 3), (gsr (gsr S.1 0 0 (upd (S.1 0 0) 8 0)) 10 run.toNatClampNeg (upd (S.1 10 run.toNatClampNeg) 10 (1 : Int32)), S.2))))
theorem kX3_erase {l : Launch} {G : gG} (hl : l.stackTraces = false) {S : gS} {a0 : Nat} {Fr : gH → Prop} (hF : gFr 1 Fr) (hW : gWf S) {run pumice : Int32}  : gMet l yX3_erase (ws_ yX3_erase cX3_erase 3 (some .int)) ⟨3, 0, 0, 67⟩ G [.ref a0, .int run, .int pumice] (gPE 1 G S a0 Fr) (gqN (sM_erase S run pumice) G a0 Fr) gxN := by
  refine gMet_of hl pnX3 (gle rfl) (fun X Q hX F E hNm => ?_)
  subst hX
  change gW (X, G, 3, Q) (gPE 1 G S a0 Fr) [(0, .ref a0), (1, .int run), (2, .int pumice)] 0 [] 0 0
  refine g_pe (fun A hA => ?_)
  subst hA
  change gW _ _ [(0, .ref (A 0 0)), (1, .int run), (2, .int pumice)] 0 [] 0 0
  refine g_aload_n F 0 rfl rfl dX3_erase_0 ?_
  refine g_callV F (kX3_begins hl (pr_at (κ := 0) (i := 0) (by decide) (gc1 (gnl rfl)) (gce rfl rfl))) (g_recv F clX3 (gd_obj (pr_at (κ := 0) (i := 0) (by decide) (gc1 (gnl rfl)) (gce rfl rfl)))) q1448 q1450 qs6 q25 q1451 myX3_begins ⟨by decide, by decide⟩ rfl rfl (gle rfl) 0 0 (gle rfl) (gle rfl) (gle rfl) (gle rfl) dX3_erase_1 gx_n (gv_v ?_)
  refine g_mono (P2 := gP 1 G (gsr S.1 0 0 (upd (S.1 0 0) 8 0), S.2) A Fr []) (pr_upRow (κ := 0) (i := 0) gM1 hF (upd (S.1 0 0) 8 0) (by decide) (gc1 (gnl rfl)) (gce rfl rfl) rfl) ?_
  refine g_aload_n F 0 rfl rfl dX3_erase_4 ?_
  refine g_iload_n F 1 rfl rfl dX3_erase_5 ?_
  refine g_callV F (kX3_noRun hl hF hW (x := run)) (g_recv F clX3 (gd_obj (pr_at (κ := 0) (i := 0) (by decide) (gc1 (gnl rfl)) (gce (show (gsr S.1 0 0 (upd (S.1 0 0) 8 0)) 0 0 = upd (S.1 0 0) 8 0 from gsr_s) rfl)))) q1719 q1721 qs15 q25 q1722 myX3_noRun ⟨by decide, by decide⟩ rfl rfl (gle rfl) 0 0 (gle rfl) (gle rfl) (gle rfl) (gle rfl) dX3_erase_6 gx_n (gv_f (fun c_1 => ?_) (fun c_1 => ?_))
  · skip
    refine g_if_ne F (tgt := 89) (by decide) dX3_erase_9 (fun _ => ?_) (fun c => absurd c (by decide))
    refine g_iconst F (v := (-1 : Int32)) (by decide) dX3_erase_89 ?_
    exact g_retI F E rfl rfl (gle rfl) (gle rfl) dX3_erase_90 (fun _ hp => ⟨_, _, (if_pos c_1), rfl, ⟨A, rfl, gP_T0 hp⟩⟩)
  · skip
    refine g_if_ne F (tgt := 89) (by decide) dX3_erase_9 (fun c => absurd c (by decide)) (fun _ => ?_)
    refine g_aload_n F 0 rfl rfl dX3_erase_12 ?_
    refine g_iload_n F 2 rfl rfl dX3_erase_13 ?_
    refine g_i2l F dX3_erase_14 ?_
    refine g_lconst F (v := (0 : Int64)) (by decide) dX3_erase_15 ?_
    refine g_ldc2 F (v := (9 : Int64)) q1489 dX3_erase_16 ?_
    refine g_callS F (kX3_in hl (x := pumice) (lo := (0 : Int32)) (hi := (9 : Int32)) (by decide) (by decide)) (lw_S q1453 q1454 q25 q1455) myX3_in ⟨by decide, by decide⟩ rfl rfl (gle rfl) 0 0 (gle rfl) (gle rfl) (gle rfl) (gle rfl) dX3_erase_19 gx_n (gv_i ?_)
    have J_3 : gW (X, G, 3, Q) (gP 1 G (gsr S.1 0 0 (upd (S.1 0 0) 8 0), S.2) A Fr []) [(0, .ref (A 0 0)), (1, .int run), (2, .int pumice)] 30 [.int (gb (¬ (¬ pumice < (0 : Int32) ∧ ¬ (9 : Int32) < pumice))), .ref (A 0 0)] 0 0 := by
      refine g_iconst F (v := (2 : Int32)) (by decide) dX3_erase_30 ?_
      refine g_callV F (kX3_fails hl (b := gb (¬ (¬ pumice < (0 : Int32) ∧ ¬ (9 : Int32) < pumice))) (nu := (2 : Int32)) (c := ¬ (¬ pumice < (0 : Int32) ∧ ¬ (9 : Int32) < pumice)) gb_n0 (by decide) (pr_at (κ := 0) (i := 0) (by decide) (gc1 (gnl rfl)) (gce (show (gsr S.1 0 0 (upd (S.1 0 0) 8 0)) 0 0 = upd (S.1 0 0) 8 0 from gsr_s) rfl))) (g_recv F clX3 (gd_obj (pr_at (κ := 0) (i := 0) (by decide) (gc1 (gnl rfl)) (gce (show (gsr S.1 0 0 (upd (S.1 0 0) 8 0)) 0 0 = upd (S.1 0 0) 8 0 from gsr_s) rfl)))) q1456 q1458 qs7 q25 q1459 myX3_fails ⟨by decide, by decide⟩ rfl rfl (gle rfl) 0 0 (gle rfl) (gle rfl) (gle rfl) (gle rfl) dX3_erase_31 gx_n (gv_f (fun c_4 => ?_) (fun c_4 => ?_))
      · skip
        refine g_mono (P2 := gP 1 G (gsr (gsr S.1 0 0 (upd (S.1 0 0) 8 0)) 0 0 (upd (upd (S.1 0 0) 8 0) 8 (2 : Int32)), S.2) A Fr []) (pr_upRow (κ := 0) (i := 0) gM1 hF (upd (upd (S.1 0 0) 8 0) 8 (2 : Int32)) (by decide) (gc1 (gnl rfl)) (gce (show (gsr S.1 0 0 (upd (S.1 0 0) 8 0)) 0 0 = upd (S.1 0 0) 8 0 from gsr_s) rfl) rfl) ?_
        refine g_if_ne F (tgt := 89) (by decide) dX3_erase_34 (fun _ => ?_) (fun c => absurd c (by decide))
        refine g_iconst F (v := (-1 : Int32)) (by decide) dX3_erase_89 ?_
        exact g_retI F E rfl rfl (gle rfl) (gle rfl) dX3_erase_90 (fun _ hp => ⟨_, _, ((if_neg c_1).trans (if_pos c_4)), rfl, ⟨A, rfl, gP_T0 hp⟩⟩)
      · skip
        refine g_if_ne F (tgt := 89) (by decide) dX3_erase_34 (fun c => absurd c (by decide)) (fun _ => ?_)
        refine g_aload_n F 0 rfl rfl dX3_erase_37 ?_
        refine g_aload_n F 0 rfl rfl dX3_erase_38 ?_
        refine g_get F clX3 11 (by decide) q1400 (v := .ref (A 310 0)) (gd_get (pr_at (κ := 0) (i := 0) (by decide) (gc1 (gnl rfl)) (gce (show (gsr S.1 0 0 (upd (S.1 0 0) 8 0)) 0 0 = upd (S.1 0 0) 8 0 from gsr_s) rfl)) rfl) dX3_erase_39 ?_
        refine g_iload_n F 1 rfl rfl dX3_erase_42 ?_
        refine g_callF F clJ3 (kJ3_get hl (pr_ls (M := 1) (S := (gsr S.1 0 0 (upd (S.1 0 0) 8 0), S.2)) (A := A) (κ := 10) (by decide) (Or.inl ⟨by decide, by decide⟩) (fun q => by first | decide | exact absurd q (by decide)) (fun q => by first | decide | exact absurd q (by decide))) (j := run.toNatClampNeg) (Decidable.not_not.mp c_1).2 (gw_n hW _) rfl (Decidable.not_not.mp c_1).1) (g_recv F clJ3 (gls_obj (pr_ls (M := 1) (S := (gsr S.1 0 0 (upd (S.1 0 0) 8 0), S.2)) (A := A) (κ := 10) (by decide) (Or.inl ⟨by decide, by decide⟩) (fun q => by first | decide | exact absurd q (by decide)) (fun q => by first | decide | exact absurd q (by decide))))) q1506 q809 q811 q22 q813 (List.mem_of_getElem? (i := 1) rfl) (gT_w q812 rfl) (gT_w q810 rfl) (gT_w q293 rfl) gface_1 ⟨by decide, by decide⟩ rfl rfl (gle rfl) 0 0 (gle rfl) (gle rfl) (gle rfl) (gle rfl) dX3_erase_43 gx_n (gv_i ?_)
        refine g_castS F (g_recv F clX14 (gd_obj (pr_at (κ := 10) (i := run.toNatClampNeg) (by decide) (gc6 (by decide) (Decidable.not_not.mp c_1).2) (gce (show (gsr S.1 0 0 (upd (S.1 0 0) 8 0)) 10 run.toNatClampNeg = S.1 10 run.toNatClampNeg from (gsr_p (by decide) rfl)) rfl)))) q1673 dX3_erase_48 ?_
        refine g_getN F clX14 9 (by decide) (gT_w q1690 rfl) (v := .int (S.1 10 run.toNatClampNeg 9)) (gd_get (pr_at (κ := 10) (i := run.toNatClampNeg) (by decide) (gc6 (by decide) (Decidable.not_not.mp c_1).2) (gce (show (gsr S.1 0 0 (upd (S.1 0 0) 8 0)) 10 run.toNatClampNeg = S.1 10 run.toNatClampNeg from (gsr_p (by decide) rfl)) rfl)) rfl) dX3_erase_51 ?_
        refine g_iconst F (v := (-1 : Int32)) (by decide) dX3_erase_54 ?_
        have J_7 : gW (X, G, 3, Q) (gP 1 G (gsr S.1 0 0 (upd (S.1 0 0) 8 0), S.2) A Fr []) [(0, .ref (A 0 0)), (1, .int run), (2, .int pumice)] 82 [.int (gb (((S.1 10 run.toNatClampNeg 9) = (-1 : Int32)) ∨ (¬ ((S.1 10 run.toNatClampNeg 10) = 0)))), .ref (A 0 0)] 0 0 := by
          refine g_iconst F (v := (3 : Int32)) (by decide) dX3_erase_82 ?_
          refine g_callV F (kX3_fails hl (b := gb (((S.1 10 run.toNatClampNeg 9) = (-1 : Int32)) ∨ (¬ ((S.1 10 run.toNatClampNeg 10) = 0)))) (nu := (3 : Int32)) (c := ((S.1 10 run.toNatClampNeg 9) = (-1 : Int32)) ∨ (¬ ((S.1 10 run.toNatClampNeg 10) = 0))) gb_n0 (by decide) (pr_at (κ := 0) (i := 0) (by decide) (gc1 (gnl rfl)) (gce (show (gsr S.1 0 0 (upd (S.1 0 0) 8 0)) 0 0 = upd (S.1 0 0) 8 0 from gsr_s) rfl))) (g_recv F clX3 (gd_obj (pr_at (κ := 0) (i := 0) (by decide) (gc1 (gnl rfl)) (gce (show (gsr S.1 0 0 (upd (S.1 0 0) 8 0)) 0 0 = upd (S.1 0 0) 8 0 from gsr_s) rfl)))) q1456 q1458 qs7 q25 q1459 myX3_fails ⟨by decide, by decide⟩ rfl rfl (gle rfl) 0 0 (gle rfl) (gle rfl) (gle rfl) (gle rfl) dX3_erase_83 gx_n (gv_f (fun c_8 => ?_) (fun c_8 => ?_))
          · skip
            refine g_mono (P2 := gP 1 G (gsr (gsr S.1 0 0 (upd (S.1 0 0) 8 0)) 0 0 (upd (upd (S.1 0 0) 8 0) 8 (3 : Int32)), S.2) A Fr []) (pr_upRow (κ := 0) (i := 0) gM1 hF (upd (upd (S.1 0 0) 8 0) 8 (3 : Int32)) (by decide) (gc1 (gnl rfl)) (gce (show (gsr S.1 0 0 (upd (S.1 0 0) 8 0)) 0 0 = upd (S.1 0 0) 8 0 from gsr_s) rfl) rfl) ?_
            refine g_if_eq F (tgt := 91) (by decide) dX3_erase_86 (fun c => absurd c (by decide)) (fun _ => ?_)
            refine g_iconst F (v := (-1 : Int32)) (by decide) dX3_erase_89 ?_
            exact g_retI F E rfl rfl (gle rfl) (gle rfl) dX3_erase_90 (fun _ hp => ⟨_, _, ((if_neg c_1).trans ((if_neg c_4).trans (if_pos c_8))), rfl, ⟨A, rfl, gP_T0 hp⟩⟩)
          · skip
            refine g_if_eq F (tgt := 91) (by decide) dX3_erase_86 (fun _ => ?_) (fun c => absurd c (by decide))
            refine g_aload_n F 0 rfl rfl dX3_erase_91 ?_
            refine g_get F clX3 11 (by decide) q1400 (v := .ref (A 310 0)) (gd_get (pr_at (κ := 0) (i := 0) (by decide) (gc1 (gnl rfl)) (gce (show (gsr S.1 0 0 (upd (S.1 0 0) 8 0)) 0 0 = upd (S.1 0 0) 8 0 from gsr_s) rfl)) rfl) dX3_erase_92 ?_
            refine g_iload_n F 1 rfl rfl dX3_erase_95 ?_
            refine g_callF F clJ3 (kJ3_get hl (pr_ls (M := 1) (S := (gsr S.1 0 0 (upd (S.1 0 0) 8 0), S.2)) (A := A) (κ := 10) (by decide) (Or.inl ⟨by decide, by decide⟩) (fun q => by first | decide | exact absurd q (by decide)) (fun q => by first | decide | exact absurd q (by decide))) (j := run.toNatClampNeg) (Decidable.not_not.mp c_1).2 (gw_n hW _) rfl (Decidable.not_not.mp c_1).1) (g_recv F clJ3 (gls_obj (pr_ls (M := 1) (S := (gsr S.1 0 0 (upd (S.1 0 0) 8 0), S.2)) (A := A) (κ := 10) (by decide) (Or.inl ⟨by decide, by decide⟩) (fun q => by first | decide | exact absurd q (by decide)) (fun q => by first | decide | exact absurd q (by decide))))) q1506 q809 q811 q22 q813 (List.mem_of_getElem? (i := 1) rfl) (gT_w q812 rfl) (gT_w q810 rfl) (gT_w q293 rfl) gface_1 ⟨by decide, by decide⟩ rfl rfl (gle rfl) 0 0 (gle rfl) (gle rfl) (gle rfl) (gle rfl) dX3_erase_96 gx_n (gv_i ?_)
            refine g_castS F (g_recv F clX14 (gd_obj (pr_at (κ := 10) (i := run.toNatClampNeg) (by decide) (gc6 (by decide) (Decidable.not_not.mp c_1).2) (gce (show (gsr S.1 0 0 (upd (S.1 0 0) 8 0)) 10 run.toNatClampNeg = S.1 10 run.toNatClampNeg from (gsr_p (by decide) rfl)) rfl)))) q1673 dX3_erase_101 ?_
            refine g_iconst F (v := (1 : Int32)) (by decide) dX3_erase_104 ?_
            refine g_putN (P2 := gP 1 G (gsr (gsr S.1 0 0 (upd (S.1 0 0) 8 0)) 10 run.toNatClampNeg (upd (S.1 10 run.toNatClampNeg) 10 (1 : Int32)), S.2) A Fr []) F clX14 10 (by decide) (gT_w q1691 rfl) rfl rfl rfl (pr_put (κ := 10) (i := run.toNatClampNeg) gM1 hF (upd (S.1 10 run.toNatClampNeg) 10 (1 : Int32)) (by decide) (gc6 (by decide) (Decidable.not_not.mp c_1).2) (gce (show (gsr S.1 0 0 (upd (S.1 0 0) 8 0)) 10 run.toNatClampNeg = S.1 10 run.toNatClampNeg from (gsr_p (by decide) rfl)) rfl) (gnl rfl) rfl) dX3_erase_105 ?_
            refine g_aload_n F 0 rfl rfl dX3_erase_108 ?_
            refine g_get F clX3 11 (by decide) q1400 (v := .ref (A 310 0)) (gd_get (pr_at (κ := 0) (i := 0) (by decide) (gc1 (gnl rfl)) (gce (show (gsr (gsr S.1 0 0 (upd (S.1 0 0) 8 0)) 10 run.toNatClampNeg (upd (S.1 10 run.toNatClampNeg) 10 (1 : Int32))) 0 0 = upd (S.1 0 0) 8 0 from (gsr_p (by decide) gsr_s)) rfl)) rfl) dX3_erase_109 ?_
            refine g_iload_n F 1 rfl rfl dX3_erase_112 ?_
            refine g_callF F clJ3 (kJ3_get hl (pr_ls (M := 1) (S := (gsr (gsr S.1 0 0 (upd (S.1 0 0) 8 0)) 10 run.toNatClampNeg (upd (S.1 10 run.toNatClampNeg) 10 (1 : Int32)), S.2)) (A := A) (κ := 10) (by decide) (Or.inl ⟨by decide, by decide⟩) (fun q => by first | decide | exact absurd q (by decide)) (fun q => by first | decide | exact absurd q (by decide))) (j := run.toNatClampNeg) (Decidable.not_not.mp c_1).2 (gw_n hW _) rfl (Decidable.not_not.mp c_1).1) (g_recv F clJ3 (gls_obj (pr_ls (M := 1) (S := (gsr (gsr S.1 0 0 (upd (S.1 0 0) 8 0)) 10 run.toNatClampNeg (upd (S.1 10 run.toNatClampNeg) 10 (1 : Int32)), S.2)) (A := A) (κ := 10) (by decide) (Or.inl ⟨by decide, by decide⟩) (fun q => by first | decide | exact absurd q (by decide)) (fun q => by first | decide | exact absurd q (by decide))))) q1506 q809 q811 q22 q813 (List.mem_of_getElem? (i := 1) rfl) (gT_w q812 rfl) (gT_w q810 rfl) (gT_w q293 rfl) gface_1 ⟨by decide, by decide⟩ rfl rfl (gle rfl) 0 0 (gle rfl) (gle rfl) (gle rfl) (gle rfl) dX3_erase_113 gx_n (gv_i ?_)
            refine g_castS F (g_recv F clX14 (gd_obj (pr_at (κ := 10) (i := run.toNatClampNeg) (by decide) (gc6 (by decide) (Decidable.not_not.mp c_1).2) (gce (show (gsr (gsr S.1 0 0 (upd (S.1 0 0) 8 0)) 10 run.toNatClampNeg (upd (S.1 10 run.toNatClampNeg) 10 (1 : Int32))) 10 run.toNatClampNeg = upd (S.1 10 run.toNatClampNeg) 10 (1 : Int32) from gsr_s) rfl)))) q1673 dX3_erase_118 ?_
            refine g_getN F clX14 3 (by decide) (gT_w q1682 rfl) (v := .int (S.1 10 run.toNatClampNeg 3)) (gd_get (pr_at (κ := 10) (i := run.toNatClampNeg) (by decide) (gc6 (by decide) (Decidable.not_not.mp c_1).2) (gce (show (gsr (gsr S.1 0 0 (upd (S.1 0 0) 8 0)) 10 run.toNatClampNeg (upd (S.1 10 run.toNatClampNeg) 10 (1 : Int32))) 10 run.toNatClampNeg = upd (S.1 10 run.toNatClampNeg) 10 (1 : Int32) from gsr_s) rfl)) rfl) dX3_erase_121 ?_
            exact g_retI F E rfl rfl (gle rfl) (gle rfl) dX3_erase_124 (fun _ hp => ⟨_, _, ((if_neg c_1).trans ((if_neg c_4).trans (if_neg c_8))), rfl, ⟨A, rfl, gP_T0 hp⟩⟩)
        refine g_icmp_eq F (tgt := 77) (by decide) dX3_erase_55 (fun c_5 => ?_) (fun c_5 => ?_)
        · skip
          refine g_iconst F (v := (1 : Int32)) (by decide) dX3_erase_77 ?_
          refine g_goto F (tgt := 82) (by decide) dX3_erase_78 ?_
          exact g_top (gb_t (Or.inl c_5)) J_7
        · skip
          refine g_aload_n F 0 rfl rfl dX3_erase_58 ?_
          refine g_get F clX3 11 (by decide) q1400 (v := .ref (A 310 0)) (gd_get (pr_at (κ := 0) (i := 0) (by decide) (gc1 (gnl rfl)) (gce (show (gsr S.1 0 0 (upd (S.1 0 0) 8 0)) 0 0 = upd (S.1 0 0) 8 0 from gsr_s) rfl)) rfl) dX3_erase_59 ?_
          refine g_iload_n F 1 rfl rfl dX3_erase_62 ?_
          refine g_callF F clJ3 (kJ3_get hl (pr_ls (M := 1) (S := (gsr S.1 0 0 (upd (S.1 0 0) 8 0), S.2)) (A := A) (κ := 10) (by decide) (Or.inl ⟨by decide, by decide⟩) (fun q => by first | decide | exact absurd q (by decide)) (fun q => by first | decide | exact absurd q (by decide))) (j := run.toNatClampNeg) (Decidable.not_not.mp c_1).2 (gw_n hW _) rfl (Decidable.not_not.mp c_1).1) (g_recv F clJ3 (gls_obj (pr_ls (M := 1) (S := (gsr S.1 0 0 (upd (S.1 0 0) 8 0), S.2)) (A := A) (κ := 10) (by decide) (Or.inl ⟨by decide, by decide⟩) (fun q => by first | decide | exact absurd q (by decide)) (fun q => by first | decide | exact absurd q (by decide))))) q1506 q809 q811 q22 q813 (List.mem_of_getElem? (i := 1) rfl) (gT_w q812 rfl) (gT_w q810 rfl) (gT_w q293 rfl) gface_1 ⟨by decide, by decide⟩ rfl rfl (gle rfl) 0 0 (gle rfl) (gle rfl) (gle rfl) (gle rfl) dX3_erase_63 gx_n (gv_i ?_)
          refine g_castS F (g_recv F clX14 (gd_obj (pr_at (κ := 10) (i := run.toNatClampNeg) (by decide) (gc6 (by decide) (Decidable.not_not.mp c_1).2) (gce (show (gsr S.1 0 0 (upd (S.1 0 0) 8 0)) 10 run.toNatClampNeg = S.1 10 run.toNatClampNeg from (gsr_p (by decide) rfl)) rfl)))) q1673 dX3_erase_68 ?_
          refine g_getN F clX14 10 (by decide) (gT_w q1691 rfl) (v := .int (S.1 10 run.toNatClampNeg 10)) (gd_get (pr_at (κ := 10) (i := run.toNatClampNeg) (by decide) (gc6 (by decide) (Decidable.not_not.mp c_1).2) (gce (show (gsr S.1 0 0 (upd (S.1 0 0) 8 0)) 10 run.toNatClampNeg = S.1 10 run.toNatClampNeg from (gsr_p (by decide) rfl)) rfl)) rfl) dX3_erase_71 ?_
          refine g_if_eq F (tgt := 81) (by decide) dX3_erase_74 (fun c_6 => ?_) (fun c_6 => ?_)
          · skip
            refine g_iconst F (v := (0 : Int32)) (by decide) dX3_erase_81 ?_
            exact g_top (gb_f (fun q => q.elim c_5 (fun q => q c_6))) J_7
          · skip
            refine g_iconst F (v := (1 : Int32)) (by decide) dX3_erase_77 ?_
            refine g_goto F (tgt := 82) (by decide) dX3_erase_78 ?_
            exact g_top (gb_t (Or.inr c_6)) J_7
    refine gb_if_ne F (tgt := 29) (by decide) dX3_erase_22 (fun c_2 => ?_) (fun c_2 => ?_)
    · skip
      refine g_iconst F (v := (0 : Int32)) (by decide) dX3_erase_29 ?_
      exact g_top (gb_f (fun q => q c_2)) J_3
    · skip
      refine g_iconst F (v := (1 : Int32)) (by decide) dX3_erase_25 ?_
      refine g_goto F (tgt := 30) (by decide) dX3_erase_26 ?_
      exact g_top (gb_t c_2) J_3

def sM_fall (S : gS) (run height : Int32) : Value × gS := if ¬ gIn run (S.2 10) then (.int (-1 : Int32), (gsr (gsr S.1 0 0 (upd (S.1 0 0) 8 0)) 0 0 (upd (upd (S.1 0 0) 8 0) 8 1), S.2)) else (if ¬ (¬ height < (1 : Int32) ∧ ¬ (9 : Int32) < height) then (.int (-1 : Int32), (gsr (gsr S.1 0 0 (upd (S.1 0 0) 8 0)) 0 0 (upd (upd (S.1 0 0) 8 0) 8 (2 : Int32)), S.2)) else (.int (gmin ((S.1 10 run.toNatClampNeg 3) - (S.1 10 run.toNatClampNeg 4)) (((S.1 10 run.toNatClampNeg 3) * (gmax (0 : Int32) ((((40 : Int32) * height) + ((20 : Int32) * (S.1 10 run.toNatClampNeg 5))) - (S.1 8 ((S.1 10 run.toNatClampNeg 0).toNatClampNeg) 9)))) / (400 : Int32))), (gsr (gsr S.1 0 0 (upd (S.1 0 0) 8 0)) 10 run.toNatClampNeg (upd (S.1 10 run.toNatClampNeg) 4 ((S.1 10 run.toNatClampNeg 4) + (gmin ((S.1 10 run.toNatClampNeg 3) - (S.1 10 run.toNatClampNeg 4)) (((S.1 10 run.toNatClampNeg 3) * (gmax (0 : Int32) ((((40 : Int32) * height) + ((20 : Int32) * (S.1 10 run.toNatClampNeg 5))) - (S.1 8 ((S.1 10 run.toNatClampNeg 0).toNatClampNeg) 9)))) / (400 : Int32))))), S.2)))
theorem kX3_fall {l : Launch} {G : gG} (hl : l.stackTraces = false) {S : gS} {a0 : Nat} {Fr : gH → Prop} (hF : gFr 1 Fr) (hW : gWf S) {run height : Int32}  : gMet l yX3_fall (ws_ yX3_fall cX3_fall 6 (some .int)) ⟨3, 0, 0, 67⟩ G [.ref a0, .int run, .int height] (gPE 1 G S a0 Fr) (gqN (sM_fall S run height) G a0 Fr) gxN := by
  refine gMet_of hl pnX3 (gle rfl) (fun X Q hX F E hNm => ?_)
  subst hX
  change gW (X, G, 6, Q) (gPE 1 G S a0 Fr) [(0, .ref a0), (1, .int run), (2, .int height)] 0 [] 0 0
  refine g_pe (fun A hA => ?_)
  subst hA
  change gW _ _ [(0, .ref (A 0 0)), (1, .int run), (2, .int height)] 0 [] 0 0
  refine g_aload_n F 0 rfl rfl dX3_fall_0 ?_
  refine g_callV F (kX3_begins hl (pr_at (κ := 0) (i := 0) (by decide) (gc1 (gnl rfl)) (gce rfl rfl))) (g_recv F clX3 (gd_obj (pr_at (κ := 0) (i := 0) (by decide) (gc1 (gnl rfl)) (gce rfl rfl)))) q1448 q1450 qs6 q25 q1451 myX3_begins ⟨by decide, by decide⟩ rfl rfl (gle rfl) 0 0 (gle rfl) (gle rfl) (gle rfl) (gle rfl) dX3_fall_1 gx_n (gv_v ?_)
  refine g_mono (P2 := gP 1 G (gsr S.1 0 0 (upd (S.1 0 0) 8 0), S.2) A Fr []) (pr_upRow (κ := 0) (i := 0) gM1 hF (upd (S.1 0 0) 8 0) (by decide) (gc1 (gnl rfl)) (gce rfl rfl) rfl) ?_
  refine g_aload_n F 0 rfl rfl dX3_fall_4 ?_
  refine g_iload_n F 1 rfl rfl dX3_fall_5 ?_
  refine g_callV F (kX3_noRun hl hF hW (x := run)) (g_recv F clX3 (gd_obj (pr_at (κ := 0) (i := 0) (by decide) (gc1 (gnl rfl)) (gce (show (gsr S.1 0 0 (upd (S.1 0 0) 8 0)) 0 0 = upd (S.1 0 0) 8 0 from gsr_s) rfl)))) q1719 q1721 qs15 q25 q1722 myX3_noRun ⟨by decide, by decide⟩ rfl rfl (gle rfl) 0 0 (gle rfl) (gle rfl) (gle rfl) (gle rfl) dX3_fall_6 gx_n (gv_f (fun c_1 => ?_) (fun c_1 => ?_))
  · skip
    refine g_if_ne F (tgt := 37) (by decide) dX3_fall_9 (fun _ => ?_) (fun c => absurd c (by decide))
    refine g_iconst F (v := (-1 : Int32)) (by decide) dX3_fall_37 ?_
    exact g_retI F E rfl rfl (gle rfl) (gle rfl) dX3_fall_38 (fun _ hp => ⟨_, _, (if_pos c_1), rfl, ⟨A, rfl, gP_T0 hp⟩⟩)
  · skip
    refine g_if_ne F (tgt := 37) (by decide) dX3_fall_9 (fun c => absurd c (by decide)) (fun _ => ?_)
    refine g_aload_n F 0 rfl rfl dX3_fall_12 ?_
    refine g_iload_n F 2 rfl rfl dX3_fall_13 ?_
    refine g_i2l F dX3_fall_14 ?_
    refine g_lconst F (v := (1 : Int64)) (by decide) dX3_fall_15 ?_
    refine g_ldc2 F (v := (9 : Int64)) q1489 dX3_fall_16 ?_
    refine g_callS F (kX3_in hl (x := height) (lo := (1 : Int32)) (hi := (9 : Int32)) (by decide) (by decide)) (lw_S q1453 q1454 q25 q1455) myX3_in ⟨by decide, by decide⟩ rfl rfl (gle rfl) 0 0 (gle rfl) (gle rfl) (gle rfl) (gle rfl) dX3_fall_19 gx_n (gv_i ?_)
    have J_3 : gW (X, G, 6, Q) (gP 1 G (gsr S.1 0 0 (upd (S.1 0 0) 8 0), S.2) A Fr []) [(0, .ref (A 0 0)), (1, .int run), (2, .int height)] 30 [.int (gb (¬ (¬ height < (1 : Int32) ∧ ¬ (9 : Int32) < height))), .ref (A 0 0)] 0 0 := by
      refine g_iconst F (v := (2 : Int32)) (by decide) dX3_fall_30 ?_
      refine g_callV F (kX3_fails hl (b := gb (¬ (¬ height < (1 : Int32) ∧ ¬ (9 : Int32) < height))) (nu := (2 : Int32)) (c := ¬ (¬ height < (1 : Int32) ∧ ¬ (9 : Int32) < height)) gb_n0 (by decide) (pr_at (κ := 0) (i := 0) (by decide) (gc1 (gnl rfl)) (gce (show (gsr S.1 0 0 (upd (S.1 0 0) 8 0)) 0 0 = upd (S.1 0 0) 8 0 from gsr_s) rfl))) (g_recv F clX3 (gd_obj (pr_at (κ := 0) (i := 0) (by decide) (gc1 (gnl rfl)) (gce (show (gsr S.1 0 0 (upd (S.1 0 0) 8 0)) 0 0 = upd (S.1 0 0) 8 0 from gsr_s) rfl)))) q1456 q1458 qs7 q25 q1459 myX3_fails ⟨by decide, by decide⟩ rfl rfl (gle rfl) 0 0 (gle rfl) (gle rfl) (gle rfl) (gle rfl) dX3_fall_31 gx_n (gv_f (fun c_4 => ?_) (fun c_4 => ?_))
      · skip
        refine g_mono (P2 := gP 1 G (gsr (gsr S.1 0 0 (upd (S.1 0 0) 8 0)) 0 0 (upd (upd (S.1 0 0) 8 0) 8 (2 : Int32)), S.2) A Fr []) (pr_upRow (κ := 0) (i := 0) gM1 hF (upd (upd (S.1 0 0) 8 0) 8 (2 : Int32)) (by decide) (gc1 (gnl rfl)) (gce (show (gsr S.1 0 0 (upd (S.1 0 0) 8 0)) 0 0 = upd (S.1 0 0) 8 0 from gsr_s) rfl) rfl) ?_
        refine g_if_eq F (tgt := 39) (by decide) dX3_fall_34 (fun c => absurd c (by decide)) (fun _ => ?_)
        refine g_iconst F (v := (-1 : Int32)) (by decide) dX3_fall_37 ?_
        exact g_retI F E rfl rfl (gle rfl) (gle rfl) dX3_fall_38 (fun _ hp => ⟨_, _, ((if_neg c_1).trans (if_pos c_4)), rfl, ⟨A, rfl, gP_T0 hp⟩⟩)
      · skip
        refine g_if_eq F (tgt := 39) (by decide) dX3_fall_34 (fun _ => ?_) (fun c => absurd c (by decide))
        refine g_aload_n F 0 rfl rfl dX3_fall_39 ?_
        refine g_get F clX3 11 (by decide) q1400 (v := .ref (A 310 0)) (gd_get (pr_at (κ := 0) (i := 0) (by decide) (gc1 (gnl rfl)) (gce (show (gsr S.1 0 0 (upd (S.1 0 0) 8 0)) 0 0 = upd (S.1 0 0) 8 0 from gsr_s) rfl)) rfl) dX3_fall_40 ?_
        refine g_iload_n F 1 rfl rfl dX3_fall_43 ?_
        refine g_callF F clJ3 (kJ3_get hl (pr_ls (M := 1) (S := (gsr S.1 0 0 (upd (S.1 0 0) 8 0), S.2)) (A := A) (κ := 10) (by decide) (Or.inl ⟨by decide, by decide⟩) (fun q => by first | decide | exact absurd q (by decide)) (fun q => by first | decide | exact absurd q (by decide))) (j := run.toNatClampNeg) (Decidable.not_not.mp c_1).2 (gw_n hW _) rfl (Decidable.not_not.mp c_1).1) (g_recv F clJ3 (gls_obj (pr_ls (M := 1) (S := (gsr S.1 0 0 (upd (S.1 0 0) 8 0), S.2)) (A := A) (κ := 10) (by decide) (Or.inl ⟨by decide, by decide⟩) (fun q => by first | decide | exact absurd q (by decide)) (fun q => by first | decide | exact absurd q (by decide))))) q1506 q809 q811 q22 q813 (List.mem_of_getElem? (i := 1) rfl) (gT_w q812 rfl) (gT_w q810 rfl) (gT_w q293 rfl) gface_1 ⟨by decide, by decide⟩ rfl rfl (gle rfl) 0 0 (gle rfl) (gle rfl) (gle rfl) (gle rfl) dX3_fall_44 gx_n (gv_i ?_)
        refine g_castS F (g_recv F clX14 (gd_obj (pr_at (κ := 10) (i := run.toNatClampNeg) (by decide) (gc6 (by decide) (Decidable.not_not.mp c_1).2) (gce (show (gsr S.1 0 0 (upd (S.1 0 0) 8 0)) 10 run.toNatClampNeg = S.1 10 run.toNatClampNeg from (gsr_p (by decide) rfl)) rfl)))) q1673 dX3_fall_49 ?_
        refine g_astore_n F rfl (by show 3 < 6; decide) (lv2 := [(3, .ref (A 10 run.toNatClampNeg)), (0, .ref (A 0 0)), (1, .int run), (2, .int height)]) rfl dX3_fall_52 ?_
        refine g_iconst F (v := (0 : Int32)) (by decide) dX3_fall_53 ?_
        refine g_bipush F (v := (40 : Int32)) (by decide) dX3_fall_54 ?_
        refine g_iload_n F 3 rfl rfl dX3_fall_56 ?_
        refine g_imul F dX3_fall_57 ?_
        refine g_bipush F (v := (20 : Int32)) (by decide) dX3_fall_58 ?_
        refine g_aload_n F 0 rfl rfl dX3_fall_60 ?_
        refine g_getN F clX14 5 (by decide) (gT_w q1684 rfl) (v := .int (S.1 10 run.toNatClampNeg 5)) (gd_get (pr_at (κ := 10) (i := run.toNatClampNeg) (by decide) (gc6 (by decide) (Decidable.not_not.mp c_1).2) (gce (show (gsr S.1 0 0 (upd (S.1 0 0) 8 0)) 10 run.toNatClampNeg = S.1 10 run.toNatClampNeg from (gsr_p (by decide) rfl)) rfl)) rfl) dX3_fall_61 ?_
        refine g_imul F dX3_fall_64 ?_
        refine g_iadd F dX3_fall_65 ?_
        refine g_aload_n F 1 rfl rfl dX3_fall_66 ?_
        refine g_get F clX3 9 (by decide) q1398 (v := .ref (A 308 0)) (gd_get (pr_at (κ := 0) (i := 0) (by decide) (gc1 (gnl rfl)) (gce (show (gsr S.1 0 0 (upd (S.1 0 0) 8 0)) 0 0 = upd (S.1 0 0) 8 0 from gsr_s) rfl)) rfl) dX3_fall_67 ?_
        refine g_aload_n F 0 rfl rfl dX3_fall_70 ?_
        refine g_getN F clX14 0 (by decide) (gT_w q1679 rfl) (v := .int (S.1 10 run.toNatClampNeg 0)) (gd_get (pr_at (κ := 10) (i := run.toNatClampNeg) (by decide) (gc6 (by decide) (Decidable.not_not.mp c_1).2) (gce (show (gsr S.1 0 0 (upd (S.1 0 0) 8 0)) 10 run.toNatClampNeg = S.1 10 run.toNatClampNeg from (gsr_p (by decide) rfl)) rfl)) rfl) dX3_fall_71 ?_
        refine g_callF F clJ3 (kJ3_get hl (pr_ls (M := 1) (S := (gsr S.1 0 0 (upd (S.1 0 0) 8 0), S.2)) (A := A) (κ := 8) (by decide) (Or.inl ⟨by decide, by decide⟩) (fun q => by first | decide | exact absurd q (by decide)) (fun q => by first | decide | exact absurd q (by decide))) (j := (S.1 10 run.toNatClampNeg 0).toNatClampNeg) (gw_10_0 hW (Decidable.not_not.mp c_1).2).2 (gw_n hW _) rfl (gw_10_0 hW (Decidable.not_not.mp c_1).2).1) (g_recv F clJ3 (gls_obj (pr_ls (M := 1) (S := (gsr S.1 0 0 (upd (S.1 0 0) 8 0), S.2)) (A := A) (κ := 8) (by decide) (Or.inl ⟨by decide, by decide⟩) (fun q => by first | decide | exact absurd q (by decide)) (fun q => by first | decide | exact absurd q (by decide))))) q1506 q809 q811 q22 q813 (List.mem_of_getElem? (i := 1) rfl) (gT_w q812 rfl) (gT_w q810 rfl) (gT_w q293 rfl) gface_1 ⟨by decide, by decide⟩ rfl rfl (gle rfl) 0 0 (gle rfl) (gle rfl) (gle rfl) (gle rfl) dX3_fall_74 gx_n (gv_i ?_)
        refine g_castS F (g_recv F clX10 (gd_obj (pr_at (κ := 8) (i := (S.1 10 run.toNatClampNeg 0).toNatClampNeg) (by decide) (gc6 (by decide) (gw_10_0 hW (Decidable.not_not.mp c_1).2).2) (gce (show (gsr S.1 0 0 (upd (S.1 0 0) 8 0)) 8 ((S.1 10 run.toNatClampNeg 0).toNatClampNeg) = S.1 8 ((S.1 10 run.toNatClampNeg 0).toNatClampNeg) from (gsr_p (by decide) rfl)) rfl)))) q1524 dX3_fall_79 ?_
        refine g_getN F clX10 9 (by decide) (gT_w q1540 rfl) (v := .int (S.1 8 ((S.1 10 run.toNatClampNeg 0).toNatClampNeg) 9)) (gd_get (pr_at (κ := 8) (i := (S.1 10 run.toNatClampNeg 0).toNatClampNeg) (by decide) (gc6 (by decide) (gw_10_0 hW (Decidable.not_not.mp c_1).2).2) (gce (show (gsr S.1 0 0 (upd (S.1 0 0) 8 0)) 8 ((S.1 10 run.toNatClampNeg 0).toNatClampNeg) = S.1 8 ((S.1 10 run.toNatClampNeg 0).toNatClampNeg) from (gsr_p (by decide) rfl)) rfl)) rfl) dX3_fall_82 ?_
        refine g_isub F dX3_fall_85 ?_
        refine g_mmax F q1513 (gle rfl) (gle rfl) (gle rfl) (gle rfl) dX3_fall_86 ?_
        refine g_istore F (by show 4 < 6; decide) (lv2 := [(4, .int (gmax (0 : Int32) ((((40 : Int32) * height) + ((20 : Int32) * (S.1 10 run.toNatClampNeg 5))) - (S.1 8 ((S.1 10 run.toNatClampNeg 0).toNatClampNeg) 9)))), (3, .ref (A 10 run.toNatClampNeg)), (0, .ref (A 0 0)), (1, .int run), (2, .int height)]) rfl dX3_fall_89 ?_
        refine g_aload_n F 1 rfl rfl dX3_fall_91 ?_
        refine g_getN F clX14 3 (by decide) (gT_w q1682 rfl) (v := .int (S.1 10 run.toNatClampNeg 3)) (gd_get (pr_at (κ := 10) (i := run.toNatClampNeg) (by decide) (gc6 (by decide) (Decidable.not_not.mp c_1).2) (gce (show (gsr S.1 0 0 (upd (S.1 0 0) 8 0)) 10 run.toNatClampNeg = S.1 10 run.toNatClampNeg from (gsr_p (by decide) rfl)) rfl)) rfl) dX3_fall_92 ?_
        refine g_aload_n F 1 rfl rfl dX3_fall_95 ?_
        refine g_getN F clX14 4 (by decide) (gT_w q1683 rfl) (v := .int (S.1 10 run.toNatClampNeg 4)) (gd_get (pr_at (κ := 10) (i := run.toNatClampNeg) (by decide) (gc6 (by decide) (Decidable.not_not.mp c_1).2) (gce (show (gsr S.1 0 0 (upd (S.1 0 0) 8 0)) 10 run.toNatClampNeg = S.1 10 run.toNatClampNeg from (gsr_p (by decide) rfl)) rfl)) rfl) dX3_fall_96 ?_
        refine g_isub F dX3_fall_99 ?_
        refine g_aload_n F 1 rfl rfl dX3_fall_100 ?_
        refine g_getN F clX14 3 (by decide) (gT_w q1682 rfl) (v := .int (S.1 10 run.toNatClampNeg 3)) (gd_get (pr_at (κ := 10) (i := run.toNatClampNeg) (by decide) (gc6 (by decide) (Decidable.not_not.mp c_1).2) (gce (show (gsr S.1 0 0 (upd (S.1 0 0) 8 0)) 10 run.toNatClampNeg = S.1 10 run.toNatClampNeg from (gsr_p (by decide) rfl)) rfl)) rfl) dX3_fall_101 ?_
        refine g_iload F 0 rfl dX3_fall_104 ?_
        refine g_imul F dX3_fall_106 ?_
        refine g_sipush F (v := (400 : Int32)) (by decide) dX3_fall_107 ?_
        refine g_idiv F (by decide) dX3_fall_110 ?_
        refine g_mmin F q1512 (gle rfl) (gle rfl) (gle rfl) (gle rfl) dX3_fall_111 ?_
        refine g_istore F (by show 5 < 6; decide) (lv2 := [(5, .int (gmin ((S.1 10 run.toNatClampNeg 3) - (S.1 10 run.toNatClampNeg 4)) (((S.1 10 run.toNatClampNeg 3) * (gmax (0 : Int32) ((((40 : Int32) * height) + ((20 : Int32) * (S.1 10 run.toNatClampNeg 5))) - (S.1 8 ((S.1 10 run.toNatClampNeg 0).toNatClampNeg) 9)))) / (400 : Int32)))), (4, .int (gmax (0 : Int32) ((((40 : Int32) * height) + ((20 : Int32) * (S.1 10 run.toNatClampNeg 5))) - (S.1 8 ((S.1 10 run.toNatClampNeg 0).toNatClampNeg) 9)))), (3, .ref (A 10 run.toNatClampNeg)), (0, .ref (A 0 0)), (1, .int run), (2, .int height)]) rfl dX3_fall_114 ?_
        refine g_aload_n F 2 rfl rfl dX3_fall_116 ?_
        refine g_dup F rfl dX3_fall_117 ?_
        refine g_getN F clX14 4 (by decide) (gT_w q1683 rfl) (v := .int (S.1 10 run.toNatClampNeg 4)) (gd_get (pr_at (κ := 10) (i := run.toNatClampNeg) (by decide) (gc6 (by decide) (Decidable.not_not.mp c_1).2) (gce (show (gsr S.1 0 0 (upd (S.1 0 0) 8 0)) 10 run.toNatClampNeg = S.1 10 run.toNatClampNeg from (gsr_p (by decide) rfl)) rfl)) rfl) dX3_fall_118 ?_
        refine g_iload F 0 rfl dX3_fall_121 ?_
        refine g_iadd F dX3_fall_123 ?_
        refine g_putN (P2 := gP 1 G (gsr (gsr S.1 0 0 (upd (S.1 0 0) 8 0)) 10 run.toNatClampNeg (upd (S.1 10 run.toNatClampNeg) 4 ((S.1 10 run.toNatClampNeg 4) + (gmin ((S.1 10 run.toNatClampNeg 3) - (S.1 10 run.toNatClampNeg 4)) (((S.1 10 run.toNatClampNeg 3) * (gmax (0 : Int32) ((((40 : Int32) * height) + ((20 : Int32) * (S.1 10 run.toNatClampNeg 5))) - (S.1 8 ((S.1 10 run.toNatClampNeg 0).toNatClampNeg) 9)))) / (400 : Int32))))), S.2) A Fr []) F clX14 4 (by decide) (gT_w q1683 rfl) rfl rfl rfl (pr_put (κ := 10) (i := run.toNatClampNeg) gM1 hF (upd (S.1 10 run.toNatClampNeg) 4 ((S.1 10 run.toNatClampNeg 4) + (gmin ((S.1 10 run.toNatClampNeg 3) - (S.1 10 run.toNatClampNeg 4)) (((S.1 10 run.toNatClampNeg 3) * (gmax (0 : Int32) ((((40 : Int32) * height) + ((20 : Int32) * (S.1 10 run.toNatClampNeg 5))) - (S.1 8 ((S.1 10 run.toNatClampNeg 0).toNatClampNeg) 9)))) / (400 : Int32))))) (by decide) (gc6 (by decide) (Decidable.not_not.mp c_1).2) (gce (show (gsr S.1 0 0 (upd (S.1 0 0) 8 0)) 10 run.toNatClampNeg = S.1 10 run.toNatClampNeg from (gsr_p (by decide) rfl)) rfl) (gnl rfl) rfl) dX3_fall_124 ?_
        refine g_iload F 0 rfl dX3_fall_127 ?_
        exact g_retI F E rfl rfl (gle rfl) (gle rfl) dX3_fall_129 (fun _ hp => ⟨_, _, ((if_neg c_1).trans (if_neg c_4)), rfl, ⟨A, rfl, gP_T0 hp⟩⟩)
    refine gb_if_ne F (tgt := 29) (by decide) dX3_fall_22 (fun c_2 => ?_) (fun c_2 => ?_)
    · skip
      refine g_iconst F (v := (0 : Int32)) (by decide) dX3_fall_29 ?_
      exact g_top (gb_f (fun q => q c_2)) J_3
    · skip
      refine g_iconst F (v := (1 : Int32)) (by decide) dX3_fall_25 ?_
      refine g_goto F (tgt := 30) (by decide) dX3_fall_26 ?_
      exact g_top (gb_t c_2) J_3

def sM_seed (S : gS) (zz : Int32) : Value × gS := if ¬ (¬ zz < (1 : Int32) ∧ ¬ (2147483646 : Int32) < zz) then (.int (-1 : Int32), (gsr (gsr S.1 0 0 (upd (S.1 0 0) 8 0)) 0 0 (upd (upd (S.1 0 0) 8 0) 8 (1 : Int32)), S.2)) else (.int (S.1 0 0 5), (gsr (gsr S.1 0 0 (upd (S.1 0 0) 8 0)) 0 0 (upd (upd (S.1 0 0) 8 0) 5 zz), S.2))
theorem kX3_seed {l : Launch} {G : gG} (hl : l.stackTraces = false) {S : gS} {a0 : Nat} {Fr : gH → Prop} (hF : gFr 1 Fr) (hW : gWf S) {zz : Int32}  : gMet l yX3_seed (ws_ yX3_seed cX3_seed 3 (some .int)) ⟨1, 0, 0, 25⟩ G [.ref a0, .int zz] (gPE 1 G S a0 Fr) (gqN (sM_seed S zz) G a0 Fr) gxN := by
  refine gMet_of hl pnX3 (gle rfl) (fun X Q hX F E hNm => ?_)
  subst hX
  change gW (X, G, 3, Q) (gPE 1 G S a0 Fr) [(0, .ref a0), (1, .int zz)] 0 [] 0 0
  refine g_pe (fun A hA => ?_)
  subst hA
  change gW _ _ [(0, .ref (A 0 0)), (1, .int zz)] 0 [] 0 0
  refine g_aload_n F 0 rfl rfl dX3_seed_0 ?_
  refine g_callV F (kX3_begins hl (pr_at (κ := 0) (i := 0) (by decide) (gc1 (gnl rfl)) (gce rfl rfl))) (g_recv F clX3 (gd_obj (pr_at (κ := 0) (i := 0) (by decide) (gc1 (gnl rfl)) (gce rfl rfl)))) q1448 q1450 qs6 q25 q1451 myX3_begins ⟨by decide, by decide⟩ rfl rfl (gle rfl) 0 0 (gle rfl) (gle rfl) (gle rfl) (gle rfl) dX3_seed_1 gx_n (gv_v ?_)
  refine g_mono (P2 := gP 1 G (gsr S.1 0 0 (upd (S.1 0 0) 8 0), S.2) A Fr []) (pr_upRow (κ := 0) (i := 0) gM1 hF (upd (S.1 0 0) 8 0) (by decide) (gc1 (gnl rfl)) (gce rfl rfl) rfl) ?_
  refine g_aload_n F 0 rfl rfl dX3_seed_4 ?_
  refine g_iload_n F 1 rfl rfl dX3_seed_5 ?_
  refine g_i2l F dX3_seed_6 ?_
  refine g_lconst F (v := (1 : Int64)) (by decide) dX3_seed_7 ?_
  refine g_ldc2 F (v := (2147483646 : Int64)) q1750 dX3_seed_8 ?_
  refine g_callS F (kX3_in hl (x := zz) (lo := (1 : Int32)) (hi := (2147483646 : Int32)) (by decide) (by decide)) (lw_S q1453 q1454 q25 q1455) myX3_in ⟨by decide, by decide⟩ rfl rfl (gle rfl) 0 0 (gle rfl) (gle rfl) (gle rfl) (gle rfl) dX3_seed_11 gx_n (gv_i ?_)
  have J_2 : gW (X, G, 3, Q) (gP 1 G (gsr S.1 0 0 (upd (S.1 0 0) 8 0), S.2) A Fr []) [(0, .ref (A 0 0)), (1, .int zz)] 22 [.int (gb (¬ (¬ zz < (1 : Int32) ∧ ¬ (2147483646 : Int32) < zz))), .ref (A 0 0)] 0 0 := by
    refine g_iconst F (v := (1 : Int32)) (by decide) dX3_seed_22 ?_
    refine g_callV F (kX3_fails hl (b := gb (¬ (¬ zz < (1 : Int32) ∧ ¬ (2147483646 : Int32) < zz))) (nu := (1 : Int32)) (c := ¬ (¬ zz < (1 : Int32) ∧ ¬ (2147483646 : Int32) < zz)) gb_n0 (by decide) (pr_at (κ := 0) (i := 0) (by decide) (gc1 (gnl rfl)) (gce (show (gsr S.1 0 0 (upd (S.1 0 0) 8 0)) 0 0 = upd (S.1 0 0) 8 0 from gsr_s) rfl))) (g_recv F clX3 (gd_obj (pr_at (κ := 0) (i := 0) (by decide) (gc1 (gnl rfl)) (gce (show (gsr S.1 0 0 (upd (S.1 0 0) 8 0)) 0 0 = upd (S.1 0 0) 8 0 from gsr_s) rfl)))) q1456 q1458 qs7 q25 q1459 myX3_fails ⟨by decide, by decide⟩ rfl rfl (gle rfl) 0 0 (gle rfl) (gle rfl) (gle rfl) (gle rfl) dX3_seed_23 gx_n (gv_f (fun c_3 => ?_) (fun c_3 => ?_))
    · skip
      refine g_mono (P2 := gP 1 G (gsr (gsr S.1 0 0 (upd (S.1 0 0) 8 0)) 0 0 (upd (upd (S.1 0 0) 8 0) 8 (1 : Int32)), S.2) A Fr []) (pr_upRow (κ := 0) (i := 0) gM1 hF (upd (upd (S.1 0 0) 8 0) 8 (1 : Int32)) (by decide) (gc1 (gnl rfl)) (gce (show (gsr S.1 0 0 (upd (S.1 0 0) 8 0)) 0 0 = upd (S.1 0 0) 8 0 from gsr_s) rfl) rfl) ?_
      refine g_if_eq F (tgt := 31) (by decide) dX3_seed_26 (fun c => absurd c (by decide)) (fun _ => ?_)
      refine g_iconst F (v := (-1 : Int32)) (by decide) dX3_seed_29 ?_
      exact g_retI F E rfl rfl (gle rfl) (gle rfl) dX3_seed_30 (fun _ hp => ⟨_, _, (if_pos c_3), rfl, ⟨A, rfl, gP_T0 hp⟩⟩)
    · skip
      refine g_if_eq F (tgt := 31) (by decide) dX3_seed_26 (fun _ => ?_) (fun c => absurd c (by decide))
      refine g_aload_n F 0 rfl rfl dX3_seed_31 ?_
      refine g_get F clX3 17 (by decide) q1406 (v := .int (S.1 0 0 5)) (gd_get (pr_at (κ := 0) (i := 0) (by decide) (gc1 (gnl rfl)) (gce (show (gsr S.1 0 0 (upd (S.1 0 0) 8 0)) 0 0 = upd (S.1 0 0) 8 0 from gsr_s) rfl)) rfl) dX3_seed_32 ?_
      refine g_istore_n F rfl (by show 2 < 3; decide) (lv2 := [(2, .int (S.1 0 0 5)), (0, .ref (A 0 0)), (1, .int zz)]) rfl dX3_seed_35 ?_
      refine g_aload_n F 1 rfl rfl dX3_seed_36 ?_
      refine g_iload_n F 2 rfl rfl dX3_seed_37 ?_
      refine g_put (P2 := gP 1 G (gsr (gsr S.1 0 0 (upd (S.1 0 0) 8 0)) 0 0 (upd (upd (S.1 0 0) 8 0) 5 zz), S.2) A Fr []) F clX3 17 (by decide) q1406 rfl rfl rfl (pr_put (κ := 0) (i := 0) gM1 hF (upd (upd (S.1 0 0) 8 0) 5 zz) (by decide) (gc1 (gnl rfl)) (gce (show (gsr S.1 0 0 (upd (S.1 0 0) 8 0)) 0 0 = upd (S.1 0 0) 8 0 from gsr_s) rfl) (gnl rfl) rfl) dX3_seed_38 ?_
      refine g_iload_n F 0 rfl rfl dX3_seed_41 ?_
      exact g_retI F E rfl rfl (gle rfl) (gle rfl) dX3_seed_42 (fun _ hp => ⟨_, _, (if_neg c_3), rfl, ⟨A, rfl, gP_T0 hp⟩⟩)
  refine gb_if_ne F (tgt := 21) (by decide) dX3_seed_14 (fun c_1 => ?_) (fun c_1 => ?_)
  · skip
    refine g_iconst F (v := (0 : Int32)) (by decide) dX3_seed_21 ?_
    exact g_top (gb_f (fun q => q c_1)) J_2
  · skip
    refine g_iconst F (v := (1 : Int32)) (by decide) dX3_seed_17 ?_
    refine g_goto F (tgt := 22) (by decide) dX3_seed_18 ?_
    exact g_top (gb_t c_1) J_2

def sM_batch (S : gS) (batch what : Int32) : Value × gS := if ¬ gIn batch (S.2 8) then (.int (-1 : Int32), (gsr (gsr S.1 0 0 (upd (S.1 0 0) 8 0)) 0 0 (upd (upd (S.1 0 0) 8 0) 8 1), S.2)) else (if ¬ (0 ≤ (gidx 2 what)) then (.int (-1 : Int32), (gsr (gsr S.1 0 0 (upd (S.1 0 0) 8 0)) 0 0 (upd (upd (S.1 0 0) 8 0) 8 (2 : Int32)), S.2)) else (.int (if what = (110 : Int32) then (S.1 8 batch.toNatClampNeg 1) else (if what = (119 : Int32) then (S.1 8 batch.toNatClampNeg 2) else (if what = (98 : Int32) then (S.1 8 batch.toNatClampNeg 3) else (if what = (114 : Int32) then (S.1 8 batch.toNatClampNeg 4) else (if what = (115 : Int32) then (S.1 8 batch.toNatClampNeg 9) else (if what = (100 : Int32) then (S.1 8 batch.toNatClampNeg 10) else (S.1 8 batch.toNatClampNeg 6))))))), (gsr S.1 0 0 (upd (S.1 0 0) 8 0), S.2)))
theorem kX3_batch {l : Launch} {G : gG} (hl : l.stackTraces = false) {S : gS} {a0 : Nat} {Fr : gH → Prop} (hF : gFr 1 Fr) (hW : gWf S) {batch what : Int32} (h_what : ¬ what < 0) : gMet l yX3_batch (ws_ yX3_batch cX3_batch 4 (some .int)) ⟨4, 0, 0, 91⟩ G [.ref a0, .int batch, .int what] (gPE 1 G S a0 Fr) (gqN (sM_batch S batch what) G a0 Fr) gxN := by
  refine gMet_of hl pnX3 (gle rfl) (fun X Q hX F E hNm => ?_)
  subst hX
  change gW (X, G, 4, Q) (gPE 1 G S a0 Fr) [(0, .ref a0), (1, .int batch), (2, .int what)] 0 [] 0 0
  refine g_pe (fun A hA => ?_)
  subst hA
  change gW _ _ [(0, .ref (A 0 0)), (1, .int batch), (2, .int what)] 0 [] 0 0
  refine g_aload_n F 0 rfl rfl dX3_batch_0 ?_
  refine g_callV F (kX3_begins hl (pr_at (κ := 0) (i := 0) (by decide) (gc1 (gnl rfl)) (gce rfl rfl))) (g_recv F clX3 (gd_obj (pr_at (κ := 0) (i := 0) (by decide) (gc1 (gnl rfl)) (gce rfl rfl)))) q1448 q1450 qs6 q25 q1451 myX3_begins ⟨by decide, by decide⟩ rfl rfl (gle rfl) 0 0 (gle rfl) (gle rfl) (gle rfl) (gle rfl) dX3_batch_1 gx_n (gv_v ?_)
  refine g_mono (P2 := gP 1 G (gsr S.1 0 0 (upd (S.1 0 0) 8 0), S.2) A Fr []) (pr_upRow (κ := 0) (i := 0) gM1 hF (upd (S.1 0 0) 8 0) (by decide) (gc1 (gnl rfl)) (gce rfl rfl) rfl) ?_
  refine g_aload_n F 0 rfl rfl dX3_batch_4 ?_
  refine g_iload_n F 1 rfl rfl dX3_batch_5 ?_
  refine g_callV F (kX3_noBatch hl hF hW (x := batch)) (g_recv F clX3 (gd_obj (pr_at (κ := 0) (i := 0) (by decide) (gc1 (gnl rfl)) (gce (show (gsr S.1 0 0 (upd (S.1 0 0) 8 0)) 0 0 = upd (S.1 0 0) 8 0 from gsr_s) rfl)))) q1577 q1579 qs10 q25 q1580 myX3_noBatch ⟨by decide, by decide⟩ rfl rfl (gle rfl) 0 0 (gle rfl) (gle rfl) (gle rfl) (gle rfl) dX3_batch_6 gx_n (gv_f (fun c_1 => ?_) (fun c_1 => ?_))
  · skip
    refine g_if_ne F (tgt := 34) (by decide) dX3_batch_9 (fun _ => ?_) (fun c => absurd c (by decide))
    refine g_iconst F (v := (-1 : Int32)) (by decide) dX3_batch_34 ?_
    exact g_retI F E rfl rfl (gle rfl) (gle rfl) dX3_batch_35 (fun _ hp => ⟨_, _, (if_pos c_1), rfl, ⟨A, rfl, gP_T0 hp⟩⟩)
  · skip
    refine g_if_ne F (tgt := 34) (by decide) dX3_batch_9 (fun c => absurd c (by decide)) (fun _ => ?_)
    refine g_aload_n F 0 rfl rfl dX3_batch_12 ?_
    refine g_ldcS F (i := 2) (List.mem_of_getElem? (i := 9) rfl) dX3_batch_13 ?_
    refine g_iload_n F 2 rfl rfl dX3_batch_15 ?_
    refine g_callV F (kJ0_indexOf hl (by decide) (ch := what) h_what) (g_srecv F (by decide)) q1469 q436 q437 q19 q438 myJ0_indexOf ⟨by decide, by decide⟩ rfl rfl (gle rfl) 0 0 (gle rfl) (gle rfl) (gle rfl) (gle rfl) dX3_batch_16 gx_n (gv_i ?_)
    have J_3 : gW (X, G, 4, Q) (gP 1 G (gsr S.1 0 0 (upd (S.1 0 0) 8 0), S.2) A Fr []) [(0, .ref (A 0 0)), (1, .int batch), (2, .int what)] 27 [.int (gb (¬ (0 ≤ (gidx 2 what)))), .ref (A 0 0)] 0 0 := by
      refine g_iconst F (v := (2 : Int32)) (by decide) dX3_batch_27 ?_
      refine g_callV F (kX3_fails hl (b := gb (¬ (0 ≤ (gidx 2 what)))) (nu := (2 : Int32)) (c := ¬ (0 ≤ (gidx 2 what))) gb_n0 (by decide) (pr_at (κ := 0) (i := 0) (by decide) (gc1 (gnl rfl)) (gce (show (gsr S.1 0 0 (upd (S.1 0 0) 8 0)) 0 0 = upd (S.1 0 0) 8 0 from gsr_s) rfl))) (g_recv F clX3 (gd_obj (pr_at (κ := 0) (i := 0) (by decide) (gc1 (gnl rfl)) (gce (show (gsr S.1 0 0 (upd (S.1 0 0) 8 0)) 0 0 = upd (S.1 0 0) 8 0 from gsr_s) rfl)))) q1456 q1458 qs7 q25 q1459 myX3_fails ⟨by decide, by decide⟩ rfl rfl (gle rfl) 0 0 (gle rfl) (gle rfl) (gle rfl) (gle rfl) dX3_batch_28 gx_n (gv_f (fun c_4 => ?_) (fun c_4 => ?_))
      · skip
        refine g_mono (P2 := gP 1 G (gsr (gsr S.1 0 0 (upd (S.1 0 0) 8 0)) 0 0 (upd (upd (S.1 0 0) 8 0) 8 (2 : Int32)), S.2) A Fr []) (pr_upRow (κ := 0) (i := 0) gM1 hF (upd (upd (S.1 0 0) 8 0) 8 (2 : Int32)) (by decide) (gc1 (gnl rfl)) (gce (show (gsr S.1 0 0 (upd (S.1 0 0) 8 0)) 0 0 = upd (S.1 0 0) 8 0 from gsr_s) rfl) rfl) ?_
        refine g_if_eq F (tgt := 36) (by decide) dX3_batch_31 (fun c => absurd c (by decide)) (fun _ => ?_)
        refine g_iconst F (v := (-1 : Int32)) (by decide) dX3_batch_34 ?_
        exact g_retI F E rfl rfl (gle rfl) (gle rfl) dX3_batch_35 (fun _ hp => ⟨_, _, ((if_neg c_1).trans (if_pos c_4)), rfl, ⟨A, rfl, gP_T0 hp⟩⟩)
      · skip
        refine g_if_eq F (tgt := 36) (by decide) dX3_batch_31 (fun _ => ?_) (fun c => absurd c (by decide))
        refine g_aload_n F 0 rfl rfl dX3_batch_36 ?_
        refine g_get F clX3 9 (by decide) q1398 (v := .ref (A 308 0)) (gd_get (pr_at (κ := 0) (i := 0) (by decide) (gc1 (gnl rfl)) (gce (show (gsr S.1 0 0 (upd (S.1 0 0) 8 0)) 0 0 = upd (S.1 0 0) 8 0 from gsr_s) rfl)) rfl) dX3_batch_37 ?_
        refine g_iload_n F 1 rfl rfl dX3_batch_40 ?_
        refine g_callF F clJ3 (kJ3_get hl (pr_ls (M := 1) (S := (gsr S.1 0 0 (upd (S.1 0 0) 8 0), S.2)) (A := A) (κ := 8) (by decide) (Or.inl ⟨by decide, by decide⟩) (fun q => by first | decide | exact absurd q (by decide)) (fun q => by first | decide | exact absurd q (by decide))) (j := batch.toNatClampNeg) (Decidable.not_not.mp c_1).2 (gw_n hW _) rfl (Decidable.not_not.mp c_1).1) (g_recv F clJ3 (gls_obj (pr_ls (M := 1) (S := (gsr S.1 0 0 (upd (S.1 0 0) 8 0), S.2)) (A := A) (κ := 8) (by decide) (Or.inl ⟨by decide, by decide⟩) (fun q => by first | decide | exact absurd q (by decide)) (fun q => by first | decide | exact absurd q (by decide))))) q1506 q809 q811 q22 q813 (List.mem_of_getElem? (i := 1) rfl) (gT_w q812 rfl) (gT_w q810 rfl) (gT_w q293 rfl) gface_1 ⟨by decide, by decide⟩ rfl rfl (gle rfl) 0 0 (gle rfl) (gle rfl) (gle rfl) (gle rfl) dX3_batch_41 gx_n (gv_i ?_)
        refine g_castS F (g_recv F clX10 (gd_obj (pr_at (κ := 8) (i := batch.toNatClampNeg) (by decide) (gc6 (by decide) (Decidable.not_not.mp c_1).2) (gce (show (gsr S.1 0 0 (upd (S.1 0 0) 8 0)) 8 batch.toNatClampNeg = S.1 8 batch.toNatClampNeg from (gsr_p (by decide) rfl)) rfl)))) q1524 dX3_batch_46 ?_
        refine g_astore_n F rfl (by show 3 < 4; decide) (lv2 := [(3, .ref (A 8 batch.toNatClampNeg)), (0, .ref (A 0 0)), (1, .int batch), (2, .int what)]) rfl dX3_batch_49 ?_
        refine g_iload_n F 3 rfl rfl dX3_batch_50 ?_
        refine g_bipush F (v := (110 : Int32)) (by decide) dX3_batch_51 ?_
        have J_11 : gW (X, G, 4, Q) (gP 1 G (gsr S.1 0 0 (upd (S.1 0 0) 8 0), S.2) A Fr []) [(3, .ref (A 8 batch.toNatClampNeg)), (0, .ref (A 0 0)), (1, .int batch), (2, .int what)] 132 [.int (if what = (110 : Int32) then (S.1 8 batch.toNatClampNeg 1) else (if what = (119 : Int32) then (S.1 8 batch.toNatClampNeg 2) else (if what = (98 : Int32) then (S.1 8 batch.toNatClampNeg 3) else (if what = (114 : Int32) then (S.1 8 batch.toNatClampNeg 4) else (if what = (115 : Int32) then (S.1 8 batch.toNatClampNeg 9) else (if what = (100 : Int32) then (S.1 8 batch.toNatClampNeg 10) else (S.1 8 batch.toNatClampNeg 6)))))))] 0 0 := by
          exact g_retI F E rfl rfl (gle rfl) (gle rfl) dX3_batch_132 (fun _ hp => ⟨_, _, ((if_neg c_1).trans (if_neg c_4)), rfl, ⟨A, rfl, gP_T0 hp⟩⟩)
        refine g_icmp_ne F (tgt := 63) (by decide) dX3_batch_53 (fun c_5 => ?_) (fun c_5 => ?_)
        · skip
          refine g_iload_n F 3 rfl rfl dX3_batch_63 ?_
          refine g_bipush F (v := (119 : Int32)) (by decide) dX3_batch_64 ?_
          refine g_icmp_ne F (tgt := 76) (by decide) dX3_batch_66 (fun c_6 => ?_) (fun c_6 => ?_)
          · skip
            refine g_iload_n F 3 rfl rfl dX3_batch_76 ?_
            refine g_bipush F (v := (98 : Int32)) (by decide) dX3_batch_77 ?_
            refine g_icmp_ne F (tgt := 89) (by decide) dX3_batch_79 (fun c_7 => ?_) (fun c_7 => ?_)
            · skip
              refine g_iload_n F 3 rfl rfl dX3_batch_89 ?_
              refine g_bipush F (v := (114 : Int32)) (by decide) dX3_batch_90 ?_
              refine g_icmp_ne F (tgt := 102) (by decide) dX3_batch_92 (fun c_8 => ?_) (fun c_8 => ?_)
              · skip
                refine g_iload_n F 3 rfl rfl dX3_batch_102 ?_
                refine g_bipush F (v := (115 : Int32)) (by decide) dX3_batch_103 ?_
                refine g_icmp_ne F (tgt := 115) (by decide) dX3_batch_105 (fun c_9 => ?_) (fun c_9 => ?_)
                · skip
                  refine g_iload_n F 3 rfl rfl dX3_batch_115 ?_
                  refine g_bipush F (v := (100 : Int32)) (by decide) dX3_batch_116 ?_
                  refine g_icmp_ne F (tgt := 128) (by decide) dX3_batch_118 (fun c_10 => ?_) (fun c_10 => ?_)
                  · skip
                    refine g_aload_n F 0 rfl rfl dX3_batch_128 ?_
                    refine g_getN F clX10 6 (by decide) (gT_w q1537 rfl) (v := .int (S.1 8 batch.toNatClampNeg 6)) (gd_get (pr_at (κ := 8) (i := batch.toNatClampNeg) (by decide) (gc6 (by decide) (Decidable.not_not.mp c_1).2) (gce (show (gsr S.1 0 0 (upd (S.1 0 0) 8 0)) 8 batch.toNatClampNeg = S.1 8 batch.toNatClampNeg from (gsr_p (by decide) rfl)) rfl)) rfl) dX3_batch_129 ?_
                    exact g_top (by rw [if_neg c_5, if_neg c_6, if_neg c_7, if_neg c_8, if_neg c_9, if_neg c_10]) J_11
                  · skip
                    refine g_aload_n F 0 rfl rfl dX3_batch_121 ?_
                    refine g_getN F clX10 10 (by decide) (gT_w q1541 rfl) (v := .int (S.1 8 batch.toNatClampNeg 10)) (gd_get (pr_at (κ := 8) (i := batch.toNatClampNeg) (by decide) (gc6 (by decide) (Decidable.not_not.mp c_1).2) (gce (show (gsr S.1 0 0 (upd (S.1 0 0) 8 0)) 8 batch.toNatClampNeg = S.1 8 batch.toNatClampNeg from (gsr_p (by decide) rfl)) rfl)) rfl) dX3_batch_122 ?_
                    refine g_goto F (tgt := 132) (by decide) dX3_batch_125 ?_
                    exact g_top (by rw [if_neg c_5, if_neg c_6, if_neg c_7, if_neg c_8, if_neg c_9, if_pos c_10]) J_11
                · skip
                  refine g_aload_n F 0 rfl rfl dX3_batch_108 ?_
                  refine g_getN F clX10 9 (by decide) (gT_w q1540 rfl) (v := .int (S.1 8 batch.toNatClampNeg 9)) (gd_get (pr_at (κ := 8) (i := batch.toNatClampNeg) (by decide) (gc6 (by decide) (Decidable.not_not.mp c_1).2) (gce (show (gsr S.1 0 0 (upd (S.1 0 0) 8 0)) 8 batch.toNatClampNeg = S.1 8 batch.toNatClampNeg from (gsr_p (by decide) rfl)) rfl)) rfl) dX3_batch_109 ?_
                  refine g_goto F (tgt := 132) (by decide) dX3_batch_112 ?_
                  exact g_top (by rw [if_neg c_5, if_neg c_6, if_neg c_7, if_neg c_8, if_pos c_9]) J_11
              · skip
                refine g_aload_n F 0 rfl rfl dX3_batch_95 ?_
                refine g_getN F clX10 4 (by decide) (gT_w q1534 rfl) (v := .int (S.1 8 batch.toNatClampNeg 4)) (gd_get (pr_at (κ := 8) (i := batch.toNatClampNeg) (by decide) (gc6 (by decide) (Decidable.not_not.mp c_1).2) (gce (show (gsr S.1 0 0 (upd (S.1 0 0) 8 0)) 8 batch.toNatClampNeg = S.1 8 batch.toNatClampNeg from (gsr_p (by decide) rfl)) rfl)) rfl) dX3_batch_96 ?_
                refine g_goto F (tgt := 132) (by decide) dX3_batch_99 ?_
                exact g_top (by rw [if_neg c_5, if_neg c_6, if_neg c_7, if_pos c_8]) J_11
            · skip
              refine g_aload_n F 0 rfl rfl dX3_batch_82 ?_
              refine g_getN F clX10 3 (by decide) (gT_w q1533 rfl) (v := .int (S.1 8 batch.toNatClampNeg 3)) (gd_get (pr_at (κ := 8) (i := batch.toNatClampNeg) (by decide) (gc6 (by decide) (Decidable.not_not.mp c_1).2) (gce (show (gsr S.1 0 0 (upd (S.1 0 0) 8 0)) 8 batch.toNatClampNeg = S.1 8 batch.toNatClampNeg from (gsr_p (by decide) rfl)) rfl)) rfl) dX3_batch_83 ?_
              refine g_goto F (tgt := 132) (by decide) dX3_batch_86 ?_
              exact g_top (by rw [if_neg c_5, if_neg c_6, if_pos c_7]) J_11
          · skip
            refine g_aload_n F 0 rfl rfl dX3_batch_69 ?_
            refine g_getN F clX10 2 (by decide) (gT_w q1532 rfl) (v := .int (S.1 8 batch.toNatClampNeg 2)) (gd_get (pr_at (κ := 8) (i := batch.toNatClampNeg) (by decide) (gc6 (by decide) (Decidable.not_not.mp c_1).2) (gce (show (gsr S.1 0 0 (upd (S.1 0 0) 8 0)) 8 batch.toNatClampNeg = S.1 8 batch.toNatClampNeg from (gsr_p (by decide) rfl)) rfl)) rfl) dX3_batch_70 ?_
            refine g_goto F (tgt := 132) (by decide) dX3_batch_73 ?_
            exact g_top (by rw [if_neg c_5, if_pos c_6]) J_11
        · skip
          refine g_aload_n F 0 rfl rfl dX3_batch_56 ?_
          refine g_getN F clX10 1 (by decide) (gT_w q1531 rfl) (v := .int (S.1 8 batch.toNatClampNeg 1)) (gd_get (pr_at (κ := 8) (i := batch.toNatClampNeg) (by decide) (gc6 (by decide) (Decidable.not_not.mp c_1).2) (gce (show (gsr S.1 0 0 (upd (S.1 0 0) 8 0)) 8 batch.toNatClampNeg = S.1 8 batch.toNatClampNeg from (gsr_p (by decide) rfl)) rfl)) rfl) dX3_batch_57 ?_
          refine g_goto F (tgt := 132) (by decide) dX3_batch_60 ?_
          exact g_top (by rw [if_pos c_5]) J_11
    refine g_if_ge F (tgt := 26) (by decide) dX3_batch_19 (fun c_2 => ?_) (fun c_2 => ?_)
    · skip
      refine g_iconst F (v := (0 : Int32)) (by decide) dX3_batch_26 ?_
      exact g_top (gb_f (fun q => q c_2)) J_3
    · skip
      refine g_iconst F (v := (1 : Int32)) (by decide) dX3_batch_22 ?_
      refine g_goto F (tgt := 27) (by decide) dX3_batch_23 ?_
      exact g_top (gb_t c_2) J_3

def sM_slat (S : gS) (slats what : Int32) : Value × gS := if ¬ gIn slats (S.2 9) then (.int (-1 : Int32), (gsr (gsr S.1 0 0 (upd (S.1 0 0) 8 0)) 0 0 (upd (upd (S.1 0 0) 8 0) 8 1), S.2)) else (if ¬ (0 ≤ (gidx 3 what)) then (.int (-1 : Int32), (gsr (gsr S.1 0 0 (upd (S.1 0 0) 8 0)) 0 0 (upd (upd (S.1 0 0) 8 0) 8 (2 : Int32)), S.2)) else (.int (if what = (110 : Int32) then (S.1 9 slats.toNatClampNeg 3) else (if what = (119 : Int32) then (S.1 9 slats.toNatClampNeg 2) else (if what = (103 : Int32) then (S.1 9 slats.toNatClampNeg 4) else (S.1 9 slats.toNatClampNeg 5)))), (gsr S.1 0 0 (upd (S.1 0 0) 8 0), S.2)))
theorem kX3_slat {l : Launch} {G : gG} (hl : l.stackTraces = false) {S : gS} {a0 : Nat} {Fr : gH → Prop} (hF : gFr 1 Fr) (hW : gWf S) {slats what : Int32} (h_what : ¬ what < 0) : gMet l yX3_slat (ws_ yX3_slat cX3_slat 4 (some .int)) ⟨4, 0, 0, 91⟩ G [.ref a0, .int slats, .int what] (gPE 1 G S a0 Fr) (gqN (sM_slat S slats what) G a0 Fr) gxN := by
  refine gMet_of hl pnX3 (gle rfl) (fun X Q hX F E hNm => ?_)
  subst hX
  change gW (X, G, 4, Q) (gPE 1 G S a0 Fr) [(0, .ref a0), (1, .int slats), (2, .int what)] 0 [] 0 0
  refine g_pe (fun A hA => ?_)
  subst hA
  change gW _ _ [(0, .ref (A 0 0)), (1, .int slats), (2, .int what)] 0 [] 0 0
  refine g_aload_n F 0 rfl rfl dX3_slat_0 ?_
  refine g_callV F (kX3_begins hl (pr_at (κ := 0) (i := 0) (by decide) (gc1 (gnl rfl)) (gce rfl rfl))) (g_recv F clX3 (gd_obj (pr_at (κ := 0) (i := 0) (by decide) (gc1 (gnl rfl)) (gce rfl rfl)))) q1448 q1450 qs6 q25 q1451 myX3_begins ⟨by decide, by decide⟩ rfl rfl (gle rfl) 0 0 (gle rfl) (gle rfl) (gle rfl) (gle rfl) dX3_slat_1 gx_n (gv_v ?_)
  refine g_mono (P2 := gP 1 G (gsr S.1 0 0 (upd (S.1 0 0) 8 0), S.2) A Fr []) (pr_upRow (κ := 0) (i := 0) gM1 hF (upd (S.1 0 0) 8 0) (by decide) (gc1 (gnl rfl)) (gce rfl rfl) rfl) ?_
  refine g_aload_n F 0 rfl rfl dX3_slat_4 ?_
  refine g_iload_n F 1 rfl rfl dX3_slat_5 ?_
  refine g_callV F (kX3_noSlats hl hF hW (x := slats)) (g_recv F clX3 (gd_obj (pr_at (κ := 0) (i := 0) (by decide) (gc1 (gnl rfl)) (gce (show (gsr S.1 0 0 (upd (S.1 0 0) 8 0)) 0 0 = upd (S.1 0 0) 8 0 from gsr_s) rfl)))) q1652 q1654 qs14 q25 q1655 myX3_noSlats ⟨by decide, by decide⟩ rfl rfl (gle rfl) 0 0 (gle rfl) (gle rfl) (gle rfl) (gle rfl) dX3_slat_6 gx_n (gv_f (fun c_1 => ?_) (fun c_1 => ?_))
  · skip
    refine g_if_ne F (tgt := 34) (by decide) dX3_slat_9 (fun _ => ?_) (fun c => absurd c (by decide))
    refine g_iconst F (v := (-1 : Int32)) (by decide) dX3_slat_34 ?_
    exact g_retI F E rfl rfl (gle rfl) (gle rfl) dX3_slat_35 (fun _ hp => ⟨_, _, (if_pos c_1), rfl, ⟨A, rfl, gP_T0 hp⟩⟩)
  · skip
    refine g_if_ne F (tgt := 34) (by decide) dX3_slat_9 (fun c => absurd c (by decide)) (fun _ => ?_)
    refine g_aload_n F 0 rfl rfl dX3_slat_12 ?_
    refine g_ldcS F (i := 3) (List.mem_of_getElem? (i := 10) rfl) dX3_slat_13 ?_
    refine g_iload_n F 2 rfl rfl dX3_slat_15 ?_
    refine g_callV F (kJ0_indexOf hl (by decide) (ch := what) h_what) (g_srecv F (by decide)) q1469 q436 q437 q19 q438 myJ0_indexOf ⟨by decide, by decide⟩ rfl rfl (gle rfl) 0 0 (gle rfl) (gle rfl) (gle rfl) (gle rfl) dX3_slat_16 gx_n (gv_i ?_)
    have J_3 : gW (X, G, 4, Q) (gP 1 G (gsr S.1 0 0 (upd (S.1 0 0) 8 0), S.2) A Fr []) [(0, .ref (A 0 0)), (1, .int slats), (2, .int what)] 27 [.int (gb (¬ (0 ≤ (gidx 3 what)))), .ref (A 0 0)] 0 0 := by
      refine g_iconst F (v := (2 : Int32)) (by decide) dX3_slat_27 ?_
      refine g_callV F (kX3_fails hl (b := gb (¬ (0 ≤ (gidx 3 what)))) (nu := (2 : Int32)) (c := ¬ (0 ≤ (gidx 3 what))) gb_n0 (by decide) (pr_at (κ := 0) (i := 0) (by decide) (gc1 (gnl rfl)) (gce (show (gsr S.1 0 0 (upd (S.1 0 0) 8 0)) 0 0 = upd (S.1 0 0) 8 0 from gsr_s) rfl))) (g_recv F clX3 (gd_obj (pr_at (κ := 0) (i := 0) (by decide) (gc1 (gnl rfl)) (gce (show (gsr S.1 0 0 (upd (S.1 0 0) 8 0)) 0 0 = upd (S.1 0 0) 8 0 from gsr_s) rfl)))) q1456 q1458 qs7 q25 q1459 myX3_fails ⟨by decide, by decide⟩ rfl rfl (gle rfl) 0 0 (gle rfl) (gle rfl) (gle rfl) (gle rfl) dX3_slat_28 gx_n (gv_f (fun c_4 => ?_) (fun c_4 => ?_))
      · skip
        refine g_mono (P2 := gP 1 G (gsr (gsr S.1 0 0 (upd (S.1 0 0) 8 0)) 0 0 (upd (upd (S.1 0 0) 8 0) 8 (2 : Int32)), S.2) A Fr []) (pr_upRow (κ := 0) (i := 0) gM1 hF (upd (upd (S.1 0 0) 8 0) 8 (2 : Int32)) (by decide) (gc1 (gnl rfl)) (gce (show (gsr S.1 0 0 (upd (S.1 0 0) 8 0)) 0 0 = upd (S.1 0 0) 8 0 from gsr_s) rfl) rfl) ?_
        refine g_if_eq F (tgt := 36) (by decide) dX3_slat_31 (fun c => absurd c (by decide)) (fun _ => ?_)
        refine g_iconst F (v := (-1 : Int32)) (by decide) dX3_slat_34 ?_
        exact g_retI F E rfl rfl (gle rfl) (gle rfl) dX3_slat_35 (fun _ hp => ⟨_, _, ((if_neg c_1).trans (if_pos c_4)), rfl, ⟨A, rfl, gP_T0 hp⟩⟩)
      · skip
        refine g_if_eq F (tgt := 36) (by decide) dX3_slat_31 (fun _ => ?_) (fun c => absurd c (by decide))
        refine g_aload_n F 0 rfl rfl dX3_slat_36 ?_
        refine g_get F clX3 10 (by decide) q1399 (v := .ref (A 309 0)) (gd_get (pr_at (κ := 0) (i := 0) (by decide) (gc1 (gnl rfl)) (gce (show (gsr S.1 0 0 (upd (S.1 0 0) 8 0)) 0 0 = upd (S.1 0 0) 8 0 from gsr_s) rfl)) rfl) dX3_slat_37 ?_
        refine g_iload_n F 1 rfl rfl dX3_slat_40 ?_
        refine g_callF F clJ3 (kJ3_get hl (pr_ls (M := 1) (S := (gsr S.1 0 0 (upd (S.1 0 0) 8 0), S.2)) (A := A) (κ := 9) (by decide) (Or.inl ⟨by decide, by decide⟩) (fun q => by first | decide | exact absurd q (by decide)) (fun q => by first | decide | exact absurd q (by decide))) (j := slats.toNatClampNeg) (Decidable.not_not.mp c_1).2 (gw_n hW _) rfl (Decidable.not_not.mp c_1).1) (g_recv F clJ3 (gls_obj (pr_ls (M := 1) (S := (gsr S.1 0 0 (upd (S.1 0 0) 8 0), S.2)) (A := A) (κ := 9) (by decide) (Or.inl ⟨by decide, by decide⟩) (fun q => by first | decide | exact absurd q (by decide)) (fun q => by first | decide | exact absurd q (by decide))))) q1506 q809 q811 q22 q813 (List.mem_of_getElem? (i := 1) rfl) (gT_w q812 rfl) (gT_w q810 rfl) (gT_w q293 rfl) gface_1 ⟨by decide, by decide⟩ rfl rfl (gle rfl) 0 0 (gle rfl) (gle rfl) (gle rfl) (gle rfl) dX3_slat_41 gx_n (gv_i ?_)
        refine g_castS F (g_recv F clX12 (gd_obj (pr_at (κ := 9) (i := slats.toNatClampNeg) (by decide) (gc6 (by decide) (Decidable.not_not.mp c_1).2) (gce (show (gsr S.1 0 0 (upd (S.1 0 0) 8 0)) 9 slats.toNatClampNeg = S.1 9 slats.toNatClampNeg from (gsr_p (by decide) rfl)) rfl)))) q1623 dX3_slat_46 ?_
        refine g_astore_n F rfl (by show 3 < 4; decide) (lv2 := [(3, .ref (A 9 slats.toNatClampNeg)), (0, .ref (A 0 0)), (1, .int slats), (2, .int what)]) rfl dX3_slat_49 ?_
        refine g_iload_n F 3 rfl rfl dX3_slat_50 ?_
        refine g_bipush F (v := (110 : Int32)) (by decide) dX3_slat_51 ?_
        have J_8 : gW (X, G, 4, Q) (gP 1 G (gsr S.1 0 0 (upd (S.1 0 0) 8 0), S.2) A Fr []) [(3, .ref (A 9 slats.toNatClampNeg)), (0, .ref (A 0 0)), (1, .int slats), (2, .int what)] 93 [.int (if what = (110 : Int32) then (S.1 9 slats.toNatClampNeg 3) else (if what = (119 : Int32) then (S.1 9 slats.toNatClampNeg 2) else (if what = (103 : Int32) then (S.1 9 slats.toNatClampNeg 4) else (S.1 9 slats.toNatClampNeg 5))))] 0 0 := by
          exact g_retI F E rfl rfl (gle rfl) (gle rfl) dX3_slat_93 (fun _ hp => ⟨_, _, ((if_neg c_1).trans (if_neg c_4)), rfl, ⟨A, rfl, gP_T0 hp⟩⟩)
        refine g_icmp_ne F (tgt := 63) (by decide) dX3_slat_53 (fun c_5 => ?_) (fun c_5 => ?_)
        · skip
          refine g_iload_n F 3 rfl rfl dX3_slat_63 ?_
          refine g_bipush F (v := (119 : Int32)) (by decide) dX3_slat_64 ?_
          refine g_icmp_ne F (tgt := 76) (by decide) dX3_slat_66 (fun c_6 => ?_) (fun c_6 => ?_)
          · skip
            refine g_iload_n F 3 rfl rfl dX3_slat_76 ?_
            refine g_bipush F (v := (103 : Int32)) (by decide) dX3_slat_77 ?_
            refine g_icmp_ne F (tgt := 89) (by decide) dX3_slat_79 (fun c_7 => ?_) (fun c_7 => ?_)
            · skip
              refine g_aload_n F 0 rfl rfl dX3_slat_89 ?_
              refine g_getN F clX12 5 (by decide) (gT_w q1634 rfl) (v := .int (S.1 9 slats.toNatClampNeg 5)) (gd_get (pr_at (κ := 9) (i := slats.toNatClampNeg) (by decide) (gc6 (by decide) (Decidable.not_not.mp c_1).2) (gce (show (gsr S.1 0 0 (upd (S.1 0 0) 8 0)) 9 slats.toNatClampNeg = S.1 9 slats.toNatClampNeg from (gsr_p (by decide) rfl)) rfl)) rfl) dX3_slat_90 ?_
              exact g_top (by rw [if_neg c_5, if_neg c_6, if_neg c_7]) J_8
            · skip
              refine g_aload_n F 0 rfl rfl dX3_slat_82 ?_
              refine g_getN F clX12 4 (by decide) (gT_w q1633 rfl) (v := .int (S.1 9 slats.toNatClampNeg 4)) (gd_get (pr_at (κ := 9) (i := slats.toNatClampNeg) (by decide) (gc6 (by decide) (Decidable.not_not.mp c_1).2) (gce (show (gsr S.1 0 0 (upd (S.1 0 0) 8 0)) 9 slats.toNatClampNeg = S.1 9 slats.toNatClampNeg from (gsr_p (by decide) rfl)) rfl)) rfl) dX3_slat_83 ?_
              refine g_goto F (tgt := 93) (by decide) dX3_slat_86 ?_
              exact g_top (by rw [if_neg c_5, if_neg c_6, if_pos c_7]) J_8
          · skip
            refine g_aload_n F 0 rfl rfl dX3_slat_69 ?_
            refine g_getN F clX12 2 (by decide) (gT_w q1631 rfl) (v := .int (S.1 9 slats.toNatClampNeg 2)) (gd_get (pr_at (κ := 9) (i := slats.toNatClampNeg) (by decide) (gc6 (by decide) (Decidable.not_not.mp c_1).2) (gce (show (gsr S.1 0 0 (upd (S.1 0 0) 8 0)) 9 slats.toNatClampNeg = S.1 9 slats.toNatClampNeg from (gsr_p (by decide) rfl)) rfl)) rfl) dX3_slat_70 ?_
            refine g_goto F (tgt := 93) (by decide) dX3_slat_73 ?_
            exact g_top (by rw [if_neg c_5, if_pos c_6]) J_8
        · skip
          refine g_aload_n F 0 rfl rfl dX3_slat_56 ?_
          refine g_getN F clX12 3 (by decide) (gT_w q1632 rfl) (v := .int (S.1 9 slats.toNatClampNeg 3)) (gd_get (pr_at (κ := 9) (i := slats.toNatClampNeg) (by decide) (gc6 (by decide) (Decidable.not_not.mp c_1).2) (gce (show (gsr S.1 0 0 (upd (S.1 0 0) 8 0)) 9 slats.toNatClampNeg = S.1 9 slats.toNatClampNeg from (gsr_p (by decide) rfl)) rfl)) rfl) dX3_slat_57 ?_
          refine g_goto F (tgt := 93) (by decide) dX3_slat_60 ?_
          exact g_top (by rw [if_pos c_5]) J_8
    refine g_if_ge F (tgt := 26) (by decide) dX3_slat_19 (fun c_2 => ?_) (fun c_2 => ?_)
    · skip
      refine g_iconst F (v := (0 : Int32)) (by decide) dX3_slat_26 ?_
      exact g_top (gb_f (fun q => q c_2)) J_3
    · skip
      refine g_iconst F (v := (1 : Int32)) (by decide) dX3_slat_22 ?_
      refine g_goto F (tgt := 27) (by decide) dX3_slat_23 ?_
      exact g_top (gb_t c_2) J_3

def sM_run (S : gS) (run what : Int32) : Value × gS := if ¬ gIn run (S.2 10) then (.int (-1 : Int32), (gsr (gsr S.1 0 0 (upd (S.1 0 0) 8 0)) 0 0 (upd (upd (S.1 0 0) 8 0) 8 1), S.2)) else (if ¬ (0 ≤ (gidx 5 what)) then (.int (-1 : Int32), (gsr (gsr S.1 0 0 (upd (S.1 0 0) 8 0)) 0 0 (upd (upd (S.1 0 0) 8 0) 8 (2 : Int32)), S.2)) else (.int (if what = (110 : Int32) then (S.1 10 run.toNatClampNeg 3) else (if what = (98 : Int32) then (S.1 10 run.toNatClampNeg 4) else (if what = (99 : Int32) then (S.1 10 run.toNatClampNeg 7) else (if what = (108 : Int32) then (S.1 10 run.toNatClampNeg 8) else (if what = (103 : Int32) then (S.1 10 run.toNatClampNeg 9) else (if what = (111 : Int32) then (S.1 10 run.toNatClampNeg 5) else (S.1 10 run.toNatClampNeg 6))))))), (gsr S.1 0 0 (upd (S.1 0 0) 8 0), S.2)))
theorem kX3_run {l : Launch} {G : gG} (hl : l.stackTraces = false) {S : gS} {a0 : Nat} {Fr : gH → Prop} (hF : gFr 1 Fr) (hW : gWf S) {run what : Int32} (h_what : ¬ what < 0) : gMet l yX3_run (ws_ yX3_run cX3_run 4 (some .int)) ⟨4, 0, 0, 91⟩ G [.ref a0, .int run, .int what] (gPE 1 G S a0 Fr) (gqN (sM_run S run what) G a0 Fr) gxN := by
  refine gMet_of hl pnX3 (gle rfl) (fun X Q hX F E hNm => ?_)
  subst hX
  change gW (X, G, 4, Q) (gPE 1 G S a0 Fr) [(0, .ref a0), (1, .int run), (2, .int what)] 0 [] 0 0
  refine g_pe (fun A hA => ?_)
  subst hA
  change gW _ _ [(0, .ref (A 0 0)), (1, .int run), (2, .int what)] 0 [] 0 0
  refine g_aload_n F 0 rfl rfl dX3_run_0 ?_
  refine g_callV F (kX3_begins hl (pr_at (κ := 0) (i := 0) (by decide) (gc1 (gnl rfl)) (gce rfl rfl))) (g_recv F clX3 (gd_obj (pr_at (κ := 0) (i := 0) (by decide) (gc1 (gnl rfl)) (gce rfl rfl)))) q1448 q1450 qs6 q25 q1451 myX3_begins ⟨by decide, by decide⟩ rfl rfl (gle rfl) 0 0 (gle rfl) (gle rfl) (gle rfl) (gle rfl) dX3_run_1 gx_n (gv_v ?_)
  refine g_mono (P2 := gP 1 G (gsr S.1 0 0 (upd (S.1 0 0) 8 0), S.2) A Fr []) (pr_upRow (κ := 0) (i := 0) gM1 hF (upd (S.1 0 0) 8 0) (by decide) (gc1 (gnl rfl)) (gce rfl rfl) rfl) ?_
  refine g_aload_n F 0 rfl rfl dX3_run_4 ?_
  refine g_iload_n F 1 rfl rfl dX3_run_5 ?_
  refine g_callV F (kX3_noRun hl hF hW (x := run)) (g_recv F clX3 (gd_obj (pr_at (κ := 0) (i := 0) (by decide) (gc1 (gnl rfl)) (gce (show (gsr S.1 0 0 (upd (S.1 0 0) 8 0)) 0 0 = upd (S.1 0 0) 8 0 from gsr_s) rfl)))) q1719 q1721 qs15 q25 q1722 myX3_noRun ⟨by decide, by decide⟩ rfl rfl (gle rfl) 0 0 (gle rfl) (gle rfl) (gle rfl) (gle rfl) dX3_run_6 gx_n (gv_f (fun c_1 => ?_) (fun c_1 => ?_))
  · skip
    refine g_if_ne F (tgt := 35) (by decide) dX3_run_9 (fun _ => ?_) (fun c => absurd c (by decide))
    refine g_iconst F (v := (-1 : Int32)) (by decide) dX3_run_35 ?_
    exact g_retI F E rfl rfl (gle rfl) (gle rfl) dX3_run_36 (fun _ hp => ⟨_, _, (if_pos c_1), rfl, ⟨A, rfl, gP_T0 hp⟩⟩)
  · skip
    refine g_if_ne F (tgt := 35) (by decide) dX3_run_9 (fun c => absurd c (by decide)) (fun _ => ?_)
    refine g_aload_n F 0 rfl rfl dX3_run_12 ?_
    refine g_ldcSW F (i := 5) (List.mem_of_getElem? (i := 12) rfl) dX3_run_13 ?_
    refine g_iload_n F 2 rfl rfl dX3_run_16 ?_
    refine g_callV F (kJ0_indexOf hl (by decide) (ch := what) h_what) (g_srecv F (by decide)) q1469 q436 q437 q19 q438 myJ0_indexOf ⟨by decide, by decide⟩ rfl rfl (gle rfl) 0 0 (gle rfl) (gle rfl) (gle rfl) (gle rfl) dX3_run_17 gx_n (gv_i ?_)
    have J_3 : gW (X, G, 4, Q) (gP 1 G (gsr S.1 0 0 (upd (S.1 0 0) 8 0), S.2) A Fr []) [(0, .ref (A 0 0)), (1, .int run), (2, .int what)] 28 [.int (gb (¬ (0 ≤ (gidx 5 what)))), .ref (A 0 0)] 0 0 := by
      refine g_iconst F (v := (2 : Int32)) (by decide) dX3_run_28 ?_
      refine g_callV F (kX3_fails hl (b := gb (¬ (0 ≤ (gidx 5 what)))) (nu := (2 : Int32)) (c := ¬ (0 ≤ (gidx 5 what))) gb_n0 (by decide) (pr_at (κ := 0) (i := 0) (by decide) (gc1 (gnl rfl)) (gce (show (gsr S.1 0 0 (upd (S.1 0 0) 8 0)) 0 0 = upd (S.1 0 0) 8 0 from gsr_s) rfl))) (g_recv F clX3 (gd_obj (pr_at (κ := 0) (i := 0) (by decide) (gc1 (gnl rfl)) (gce (show (gsr S.1 0 0 (upd (S.1 0 0) 8 0)) 0 0 = upd (S.1 0 0) 8 0 from gsr_s) rfl)))) q1456 q1458 qs7 q25 q1459 myX3_fails ⟨by decide, by decide⟩ rfl rfl (gle rfl) 0 0 (gle rfl) (gle rfl) (gle rfl) (gle rfl) dX3_run_29 gx_n (gv_f (fun c_4 => ?_) (fun c_4 => ?_))
      · skip
        refine g_mono (P2 := gP 1 G (gsr (gsr S.1 0 0 (upd (S.1 0 0) 8 0)) 0 0 (upd (upd (S.1 0 0) 8 0) 8 (2 : Int32)), S.2) A Fr []) (pr_upRow (κ := 0) (i := 0) gM1 hF (upd (upd (S.1 0 0) 8 0) 8 (2 : Int32)) (by decide) (gc1 (gnl rfl)) (gce (show (gsr S.1 0 0 (upd (S.1 0 0) 8 0)) 0 0 = upd (S.1 0 0) 8 0 from gsr_s) rfl) rfl) ?_
        refine g_if_eq F (tgt := 37) (by decide) dX3_run_32 (fun c => absurd c (by decide)) (fun _ => ?_)
        refine g_iconst F (v := (-1 : Int32)) (by decide) dX3_run_35 ?_
        exact g_retI F E rfl rfl (gle rfl) (gle rfl) dX3_run_36 (fun _ hp => ⟨_, _, ((if_neg c_1).trans (if_pos c_4)), rfl, ⟨A, rfl, gP_T0 hp⟩⟩)
      · skip
        refine g_if_eq F (tgt := 37) (by decide) dX3_run_32 (fun _ => ?_) (fun c => absurd c (by decide))
        refine g_aload_n F 0 rfl rfl dX3_run_37 ?_
        refine g_get F clX3 11 (by decide) q1400 (v := .ref (A 310 0)) (gd_get (pr_at (κ := 0) (i := 0) (by decide) (gc1 (gnl rfl)) (gce (show (gsr S.1 0 0 (upd (S.1 0 0) 8 0)) 0 0 = upd (S.1 0 0) 8 0 from gsr_s) rfl)) rfl) dX3_run_38 ?_
        refine g_iload_n F 1 rfl rfl dX3_run_41 ?_
        refine g_callF F clJ3 (kJ3_get hl (pr_ls (M := 1) (S := (gsr S.1 0 0 (upd (S.1 0 0) 8 0), S.2)) (A := A) (κ := 10) (by decide) (Or.inl ⟨by decide, by decide⟩) (fun q => by first | decide | exact absurd q (by decide)) (fun q => by first | decide | exact absurd q (by decide))) (j := run.toNatClampNeg) (Decidable.not_not.mp c_1).2 (gw_n hW _) rfl (Decidable.not_not.mp c_1).1) (g_recv F clJ3 (gls_obj (pr_ls (M := 1) (S := (gsr S.1 0 0 (upd (S.1 0 0) 8 0), S.2)) (A := A) (κ := 10) (by decide) (Or.inl ⟨by decide, by decide⟩) (fun q => by first | decide | exact absurd q (by decide)) (fun q => by first | decide | exact absurd q (by decide))))) q1506 q809 q811 q22 q813 (List.mem_of_getElem? (i := 1) rfl) (gT_w q812 rfl) (gT_w q810 rfl) (gT_w q293 rfl) gface_1 ⟨by decide, by decide⟩ rfl rfl (gle rfl) 0 0 (gle rfl) (gle rfl) (gle rfl) (gle rfl) dX3_run_42 gx_n (gv_i ?_)
        refine g_castS F (g_recv F clX14 (gd_obj (pr_at (κ := 10) (i := run.toNatClampNeg) (by decide) (gc6 (by decide) (Decidable.not_not.mp c_1).2) (gce (show (gsr S.1 0 0 (upd (S.1 0 0) 8 0)) 10 run.toNatClampNeg = S.1 10 run.toNatClampNeg from (gsr_p (by decide) rfl)) rfl)))) q1673 dX3_run_47 ?_
        refine g_astore_n F rfl (by show 3 < 4; decide) (lv2 := [(3, .ref (A 10 run.toNatClampNeg)), (0, .ref (A 0 0)), (1, .int run), (2, .int what)]) rfl dX3_run_50 ?_
        refine g_iload_n F 3 rfl rfl dX3_run_51 ?_
        refine g_bipush F (v := (110 : Int32)) (by decide) dX3_run_52 ?_
        have J_11 : gW (X, G, 4, Q) (gP 1 G (gsr S.1 0 0 (upd (S.1 0 0) 8 0), S.2) A Fr []) [(3, .ref (A 10 run.toNatClampNeg)), (0, .ref (A 0 0)), (1, .int run), (2, .int what)] 133 [.int (if what = (110 : Int32) then (S.1 10 run.toNatClampNeg 3) else (if what = (98 : Int32) then (S.1 10 run.toNatClampNeg 4) else (if what = (99 : Int32) then (S.1 10 run.toNatClampNeg 7) else (if what = (108 : Int32) then (S.1 10 run.toNatClampNeg 8) else (if what = (103 : Int32) then (S.1 10 run.toNatClampNeg 9) else (if what = (111 : Int32) then (S.1 10 run.toNatClampNeg 5) else (S.1 10 run.toNatClampNeg 6)))))))] 0 0 := by
          exact g_retI F E rfl rfl (gle rfl) (gle rfl) dX3_run_133 (fun _ hp => ⟨_, _, ((if_neg c_1).trans (if_neg c_4)), rfl, ⟨A, rfl, gP_T0 hp⟩⟩)
        refine g_icmp_ne F (tgt := 64) (by decide) dX3_run_54 (fun c_5 => ?_) (fun c_5 => ?_)
        · skip
          refine g_iload_n F 3 rfl rfl dX3_run_64 ?_
          refine g_bipush F (v := (98 : Int32)) (by decide) dX3_run_65 ?_
          refine g_icmp_ne F (tgt := 77) (by decide) dX3_run_67 (fun c_6 => ?_) (fun c_6 => ?_)
          · skip
            refine g_iload_n F 3 rfl rfl dX3_run_77 ?_
            refine g_bipush F (v := (99 : Int32)) (by decide) dX3_run_78 ?_
            refine g_icmp_ne F (tgt := 90) (by decide) dX3_run_80 (fun c_7 => ?_) (fun c_7 => ?_)
            · skip
              refine g_iload_n F 3 rfl rfl dX3_run_90 ?_
              refine g_bipush F (v := (108 : Int32)) (by decide) dX3_run_91 ?_
              refine g_icmp_ne F (tgt := 103) (by decide) dX3_run_93 (fun c_8 => ?_) (fun c_8 => ?_)
              · skip
                refine g_iload_n F 3 rfl rfl dX3_run_103 ?_
                refine g_bipush F (v := (103 : Int32)) (by decide) dX3_run_104 ?_
                refine g_icmp_ne F (tgt := 116) (by decide) dX3_run_106 (fun c_9 => ?_) (fun c_9 => ?_)
                · skip
                  refine g_iload_n F 3 rfl rfl dX3_run_116 ?_
                  refine g_bipush F (v := (111 : Int32)) (by decide) dX3_run_117 ?_
                  refine g_icmp_ne F (tgt := 129) (by decide) dX3_run_119 (fun c_10 => ?_) (fun c_10 => ?_)
                  · skip
                    refine g_aload_n F 0 rfl rfl dX3_run_129 ?_
                    refine g_getN F clX14 6 (by decide) (gT_w q1685 rfl) (v := .int (S.1 10 run.toNatClampNeg 6)) (gd_get (pr_at (κ := 10) (i := run.toNatClampNeg) (by decide) (gc6 (by decide) (Decidable.not_not.mp c_1).2) (gce (show (gsr S.1 0 0 (upd (S.1 0 0) 8 0)) 10 run.toNatClampNeg = S.1 10 run.toNatClampNeg from (gsr_p (by decide) rfl)) rfl)) rfl) dX3_run_130 ?_
                    exact g_top (by rw [if_neg c_5, if_neg c_6, if_neg c_7, if_neg c_8, if_neg c_9, if_neg c_10]) J_11
                  · skip
                    refine g_aload_n F 0 rfl rfl dX3_run_122 ?_
                    refine g_getN F clX14 5 (by decide) (gT_w q1684 rfl) (v := .int (S.1 10 run.toNatClampNeg 5)) (gd_get (pr_at (κ := 10) (i := run.toNatClampNeg) (by decide) (gc6 (by decide) (Decidable.not_not.mp c_1).2) (gce (show (gsr S.1 0 0 (upd (S.1 0 0) 8 0)) 10 run.toNatClampNeg = S.1 10 run.toNatClampNeg from (gsr_p (by decide) rfl)) rfl)) rfl) dX3_run_123 ?_
                    refine g_goto F (tgt := 133) (by decide) dX3_run_126 ?_
                    exact g_top (by rw [if_neg c_5, if_neg c_6, if_neg c_7, if_neg c_8, if_neg c_9, if_pos c_10]) J_11
                · skip
                  refine g_aload_n F 0 rfl rfl dX3_run_109 ?_
                  refine g_getN F clX14 9 (by decide) (gT_w q1690 rfl) (v := .int (S.1 10 run.toNatClampNeg 9)) (gd_get (pr_at (κ := 10) (i := run.toNatClampNeg) (by decide) (gc6 (by decide) (Decidable.not_not.mp c_1).2) (gce (show (gsr S.1 0 0 (upd (S.1 0 0) 8 0)) 10 run.toNatClampNeg = S.1 10 run.toNatClampNeg from (gsr_p (by decide) rfl)) rfl)) rfl) dX3_run_110 ?_
                  refine g_goto F (tgt := 133) (by decide) dX3_run_113 ?_
                  exact g_top (by rw [if_neg c_5, if_neg c_6, if_neg c_7, if_neg c_8, if_pos c_9]) J_11
              · skip
                refine g_aload_n F 0 rfl rfl dX3_run_96 ?_
                refine g_getN F clX14 8 (by decide) (gT_w q1688 rfl) (v := .int (S.1 10 run.toNatClampNeg 8)) (gd_get (pr_at (κ := 10) (i := run.toNatClampNeg) (by decide) (gc6 (by decide) (Decidable.not_not.mp c_1).2) (gce (show (gsr S.1 0 0 (upd (S.1 0 0) 8 0)) 10 run.toNatClampNeg = S.1 10 run.toNatClampNeg from (gsr_p (by decide) rfl)) rfl)) rfl) dX3_run_97 ?_
                refine g_goto F (tgt := 133) (by decide) dX3_run_100 ?_
                exact g_top (by rw [if_neg c_5, if_neg c_6, if_neg c_7, if_pos c_8]) J_11
            · skip
              refine g_aload_n F 0 rfl rfl dX3_run_83 ?_
              refine g_getN F clX14 7 (by decide) (gT_w q1686 rfl) (v := .int (S.1 10 run.toNatClampNeg 7)) (gd_get (pr_at (κ := 10) (i := run.toNatClampNeg) (by decide) (gc6 (by decide) (Decidable.not_not.mp c_1).2) (gce (show (gsr S.1 0 0 (upd (S.1 0 0) 8 0)) 10 run.toNatClampNeg = S.1 10 run.toNatClampNeg from (gsr_p (by decide) rfl)) rfl)) rfl) dX3_run_84 ?_
              refine g_goto F (tgt := 133) (by decide) dX3_run_87 ?_
              exact g_top (by rw [if_neg c_5, if_neg c_6, if_pos c_7]) J_11
          · skip
            refine g_aload_n F 0 rfl rfl dX3_run_70 ?_
            refine g_getN F clX14 4 (by decide) (gT_w q1683 rfl) (v := .int (S.1 10 run.toNatClampNeg 4)) (gd_get (pr_at (κ := 10) (i := run.toNatClampNeg) (by decide) (gc6 (by decide) (Decidable.not_not.mp c_1).2) (gce (show (gsr S.1 0 0 (upd (S.1 0 0) 8 0)) 10 run.toNatClampNeg = S.1 10 run.toNatClampNeg from (gsr_p (by decide) rfl)) rfl)) rfl) dX3_run_71 ?_
            refine g_goto F (tgt := 133) (by decide) dX3_run_74 ?_
            exact g_top (by rw [if_neg c_5, if_pos c_6]) J_11
        · skip
          refine g_aload_n F 0 rfl rfl dX3_run_57 ?_
          refine g_getN F clX14 3 (by decide) (gT_w q1682 rfl) (v := .int (S.1 10 run.toNatClampNeg 3)) (gd_get (pr_at (κ := 10) (i := run.toNatClampNeg) (by decide) (gc6 (by decide) (Decidable.not_not.mp c_1).2) (gce (show (gsr S.1 0 0 (upd (S.1 0 0) 8 0)) 10 run.toNatClampNeg = S.1 10 run.toNatClampNeg from (gsr_p (by decide) rfl)) rfl)) rfl) dX3_run_58 ?_
          refine g_goto F (tgt := 133) (by decide) dX3_run_61 ?_
          exact g_top (by rw [if_pos c_5]) J_11
    refine g_if_ge F (tgt := 27) (by decide) dX3_run_20 (fun c_2 => ?_) (fun c_2 => ?_)
    · skip
      refine g_iconst F (v := (0 : Int32)) (by decide) dX3_run_27 ?_
      exact g_top (gb_f (fun q => q c_2)) J_3
    · skip
      refine g_iconst F (v := (1 : Int32)) (by decide) dX3_run_23 ?_
      refine g_goto F (tgt := 28) (by decide) dX3_run_24 ?_
      exact g_top (gb_t c_2) J_3

def sM_missing (S : gS)  : Value × gS := (.int (0 : Int32), (gsr S.1 0 0 (upd (S.1 0 0) 8 0), S.2))
theorem kX3_missing {l : Launch} {G : gG} (hl : l.stackTraces = false) {S : gS} {a0 : Nat} {Fr : gH → Prop} (hF : gFr 1 Fr) (hW : gWf S)   : gMet l yX3_missing (ws_ yX3_missing cX3_missing 1 (some .int)) ⟨1, 0, 0, 20⟩ G [.ref a0] (gPE 1 G S a0 Fr) (gqN (sM_missing S ) G a0 Fr) gxN := by
  refine gMet_of hl pnX3 (gle rfl) (fun X Q hX F E hNm => ?_)
  subst hX
  change gW (X, G, 1, Q) (gPE 1 G S a0 Fr) [(0, .ref a0)] 0 [] 0 0
  refine g_pe (fun A hA => ?_)
  subst hA
  change gW _ _ [(0, .ref (A 0 0))] 0 [] 0 0
  refine g_aload_n F 0 rfl rfl dX3_missing_0 ?_
  refine g_callV F (kX3_begins hl (pr_at (κ := 0) (i := 0) (by decide) (gc1 (gnl rfl)) (gce rfl rfl))) (g_recv F clX3 (gd_obj (pr_at (κ := 0) (i := 0) (by decide) (gc1 (gnl rfl)) (gce rfl rfl)))) q1448 q1450 qs6 q25 q1451 myX3_begins ⟨by decide, by decide⟩ rfl rfl (gle rfl) 0 0 (gle rfl) (gle rfl) (gle rfl) (gle rfl) dX3_missing_1 gx_n (gv_v ?_)
  refine g_mono (P2 := gP 1 G (gsr S.1 0 0 (upd (S.1 0 0) 8 0), S.2) A Fr []) (pr_upRow (κ := 0) (i := 0) gM1 hF (upd (S.1 0 0) 8 0) (by decide) (gc1 (gnl rfl)) (gce rfl rfl) rfl) ?_
  refine g_iconst F (v := (0 : Int32)) (by decide) dX3_missing_4 ?_
  exact g_retI F E rfl rfl (gle rfl) (gle rfl) dX3_missing_5 (fun _ hp => ⟨_, _, rfl, rfl, ⟨A, rfl, gP_T0 hp⟩⟩)

def sM_isSound (S : gS)  : Value × gS := (.int (1 : Int32), (gsr S.1 0 0 (upd (S.1 0 0) 8 0), S.2))
theorem kX3_isSound {l : Launch} {G : gG} (hl : l.stackTraces = false) {S : gS} {a0 : Nat} {Fr : gH → Prop} (hF : gFr 1 Fr) (hW : gWf S)   : gMet l yX3_isSound (ws_ yX3_isSound cX3_isSound 1 (some .boolean)) ⟨1, 0, 0, 20⟩ G [.ref a0] (gPE 1 G S a0 Fr) (gqN (sM_isSound S ) G a0 Fr) gxN := by
  refine gMet_of hl pnX3 (gle rfl) (fun X Q hX F E hNm => ?_)
  subst hX
  change gW (X, G, 1, Q) (gPE 1 G S a0 Fr) [(0, .ref a0)] 0 [] 0 0
  refine g_pe (fun A hA => ?_)
  subst hA
  change gW _ _ [(0, .ref (A 0 0))] 0 [] 0 0
  refine g_aload_n F 0 rfl rfl dX3_isSound_0 ?_
  refine g_callV F (kX3_begins hl (pr_at (κ := 0) (i := 0) (by decide) (gc1 (gnl rfl)) (gce rfl rfl))) (g_recv F clX3 (gd_obj (pr_at (κ := 0) (i := 0) (by decide) (gc1 (gnl rfl)) (gce rfl rfl)))) q1448 q1450 qs6 q25 q1451 myX3_begins ⟨by decide, by decide⟩ rfl rfl (gle rfl) 0 0 (gle rfl) (gle rfl) (gle rfl) (gle rfl) dX3_isSound_1 gx_n (gv_v ?_)
  refine g_mono (P2 := gP 1 G (gsr S.1 0 0 (upd (S.1 0 0) 8 0), S.2) A Fr []) (pr_upRow (κ := 0) (i := 0) gM1 hF (upd (S.1 0 0) 8 0) (by decide) (gc1 (gnl rfl)) (gce rfl rfl) rfl) ?_
  refine g_iconst F (v := (1 : Int32)) (by decide) dX3_isSound_4 ?_
  exact g_retI F E rfl rfl (gle rfl) (gle rfl) dX3_isSound_5 (fun _ hp => ⟨_, _, rfl, rfl, ⟨A, rfl, gP_T0 hp⟩⟩)

def sM_isLate (S : gS) (order : Int32) : Value × gS := if ¬ (gIn order (S.2 12)) then (.int (0 : Int32), (gsr (gsr S.1 0 0 (upd (S.1 0 0) 8 0)) 0 0 (upd (upd (S.1 0 0) 8 0) 8 (1 : Int32)), S.2)) else (.int (gb (((S.1 12 order.toNatClampNeg 3) = (1 : Int32)) ∨ (¬ ((S.1 12 order.toNatClampNeg 1) ≤ 0) ∧ (¬ ((S.1 0 0 0) ≤ (S.1 12 order.toNatClampNeg 2)))))), (gsr S.1 0 0 (upd (S.1 0 0) 8 0), S.2))
theorem kX3_isLate {l : Launch} {G : gG} (hl : l.stackTraces = false) {S : gS} {a0 : Nat} {Fr : gH → Prop} (hF : gFr 1 Fr) (hW : gWf S) {order : Int32}  : gMet l yX3_isLate (ws_ yX3_isLate cX3_isLate 2 (some .boolean)) ⟨3, 0, 0, 64⟩ G [.ref a0, .int order] (gPE 1 G S a0 Fr) (gqN (sM_isLate S order) G a0 Fr) gxN := by
  refine gMet_of hl pnX3 (gle rfl) (fun X Q hX F E hNm => ?_)
  subst hX
  change gW (X, G, 2, Q) (gPE 1 G S a0 Fr) [(0, .ref a0), (1, .int order)] 0 [] 0 0
  refine g_pe (fun A hA => ?_)
  subst hA
  change gW _ _ [(0, .ref (A 0 0)), (1, .int order)] 0 [] 0 0
  refine g_aload_n F 0 rfl rfl dX3_isLate_0 ?_
  refine g_callV F (kX3_begins hl (pr_at (κ := 0) (i := 0) (by decide) (gc1 (gnl rfl)) (gce rfl rfl))) (g_recv F clX3 (gd_obj (pr_at (κ := 0) (i := 0) (by decide) (gc1 (gnl rfl)) (gce rfl rfl)))) q1448 q1450 qs6 q25 q1451 myX3_begins ⟨by decide, by decide⟩ rfl rfl (gle rfl) 0 0 (gle rfl) (gle rfl) (gle rfl) (gle rfl) dX3_isLate_1 gx_n (gv_v ?_)
  refine g_mono (P2 := gP 1 G (gsr S.1 0 0 (upd (S.1 0 0) 8 0), S.2) A Fr []) (pr_upRow (κ := 0) (i := 0) gM1 hF (upd (S.1 0 0) 8 0) (by decide) (gc1 (gnl rfl)) (gce rfl rfl) rfl) ?_
  refine g_aload_n F 0 rfl rfl dX3_isLate_4 ?_
  refine g_aload_n F 0 rfl rfl dX3_isLate_5 ?_
  refine g_get F clX3 13 (by decide) q1402 (v := .ref (A 312 0)) (gd_get (pr_at (κ := 0) (i := 0) (by decide) (gc1 (gnl rfl)) (gce (show (gsr S.1 0 0 (upd (S.1 0 0) 8 0)) 0 0 = upd (S.1 0 0) 8 0 from gsr_s) rfl)) rfl) dX3_isLate_6 ?_
  refine g_iload_n F 1 rfl rfl dX3_isLate_9 ?_
  refine g_callS F (kX3_isOf hl (pr_ls (M := 1) (S := (gsr S.1 0 0 (upd (S.1 0 0) 8 0), S.2)) (A := A) (κ := 12) (by decide) (Or.inl ⟨by decide, by decide⟩) (fun q => by first | decide | exact absurd q (by decide)) (fun q => by first | decide | exact absurd q (by decide))) (gw_n hW _) (x := order)) (lw_S q1502 q1503 q25 q1504) myX3_isOf ⟨by decide, by decide⟩ rfl rfl (gle rfl) 0 0 (gle rfl) (gle rfl) (gle rfl) (gle rfl) dX3_isLate_10 gx_n (gv_i ?_)
  have J_2 : gW (X, G, 2, Q) (gP 1 G (gsr S.1 0 0 (upd (S.1 0 0) 8 0), S.2) A Fr []) [(0, .ref (A 0 0)), (1, .int order)] 21 [.int (gb (¬ (gIn order (S.2 12)))), .ref (A 0 0)] 0 0 := by
    refine g_iconst F (v := (1 : Int32)) (by decide) dX3_isLate_21 ?_
    refine g_callV F (kX3_fails hl (b := gb (¬ (gIn order (S.2 12)))) (nu := (1 : Int32)) (c := ¬ (gIn order (S.2 12))) gb_n0 (by decide) (pr_at (κ := 0) (i := 0) (by decide) (gc1 (gnl rfl)) (gce (show (gsr S.1 0 0 (upd (S.1 0 0) 8 0)) 0 0 = upd (S.1 0 0) 8 0 from gsr_s) rfl))) (g_recv F clX3 (gd_obj (pr_at (κ := 0) (i := 0) (by decide) (gc1 (gnl rfl)) (gce (show (gsr S.1 0 0 (upd (S.1 0 0) 8 0)) 0 0 = upd (S.1 0 0) 8 0 from gsr_s) rfl)))) q1456 q1458 qs7 q25 q1459 myX3_fails ⟨by decide, by decide⟩ rfl rfl (gle rfl) 0 0 (gle rfl) (gle rfl) (gle rfl) (gle rfl) dX3_isLate_22 gx_n (gv_f (fun c_3 => ?_) (fun c_3 => ?_))
    · skip
      refine g_mono (P2 := gP 1 G (gsr (gsr S.1 0 0 (upd (S.1 0 0) 8 0)) 0 0 (upd (upd (S.1 0 0) 8 0) 8 (1 : Int32)), S.2) A Fr []) (pr_upRow (κ := 0) (i := 0) gM1 hF (upd (upd (S.1 0 0) 8 0) 8 (1 : Int32)) (by decide) (gc1 (gnl rfl)) (gce (show (gsr S.1 0 0 (upd (S.1 0 0) 8 0)) 0 0 = upd (S.1 0 0) 8 0 from gsr_s) rfl) rfl) ?_
      refine g_if_ne F (tgt := 91) (by decide) dX3_isLate_25 (fun _ => ?_) (fun c => absurd c (by decide))
      refine g_iconst F (v := (0 : Int32)) (by decide) dX3_isLate_91 ?_
      exact g_retI F E rfl rfl (gle rfl) (gle rfl) dX3_isLate_92 (fun _ hp => ⟨_, _, (if_pos c_3), rfl, ⟨A, rfl, gP_T0 hp⟩⟩)
    · skip
      refine g_if_ne F (tgt := 91) (by decide) dX3_isLate_25 (fun c => absurd c (by decide)) (fun _ => ?_)
      refine g_aload_n F 0 rfl rfl dX3_isLate_28 ?_
      refine g_get F clX3 13 (by decide) q1402 (v := .ref (A 312 0)) (gd_get (pr_at (κ := 0) (i := 0) (by decide) (gc1 (gnl rfl)) (gce (show (gsr S.1 0 0 (upd (S.1 0 0) 8 0)) 0 0 = upd (S.1 0 0) 8 0 from gsr_s) rfl)) rfl) dX3_isLate_29 ?_
      refine g_iload_n F 1 rfl rfl dX3_isLate_32 ?_
      refine g_callF F clJ3 (kJ3_get hl (pr_ls (M := 1) (S := (gsr S.1 0 0 (upd (S.1 0 0) 8 0), S.2)) (A := A) (κ := 12) (by decide) (Or.inl ⟨by decide, by decide⟩) (fun q => by first | decide | exact absurd q (by decide)) (fun q => by first | decide | exact absurd q (by decide))) (j := order.toNatClampNeg) (Decidable.not_not.mp c_3).2 (gw_n hW _) rfl (Decidable.not_not.mp c_3).1) (g_recv F clJ3 (gls_obj (pr_ls (M := 1) (S := (gsr S.1 0 0 (upd (S.1 0 0) 8 0), S.2)) (A := A) (κ := 12) (by decide) (Or.inl ⟨by decide, by decide⟩) (fun q => by first | decide | exact absurd q (by decide)) (fun q => by first | decide | exact absurd q (by decide))))) q1506 q809 q811 q22 q813 (List.mem_of_getElem? (i := 1) rfl) (gT_w q812 rfl) (gT_w q810 rfl) (gT_w q293 rfl) gface_1 ⟨by decide, by decide⟩ rfl rfl (gle rfl) 0 0 (gle rfl) (gle rfl) (gle rfl) (gle rfl) dX3_isLate_33 gx_n (gv_i ?_)
      refine g_castS F (g_recvI F (pr_at (κ := 12) (i := order.toNatClampNeg) (by decide) (gc6 (by decide) (Decidable.not_not.mp c_3).2) (gce (show (gsr S.1 0 0 (upd (S.1 0 0) 8 0)) 12 order.toNatClampNeg = S.1 12 order.toNatClampNeg from (gsr_p (by decide) rfl)) rfl))) q1507 dX3_isLate_38 ?_
      refine g_iconst F (v := (3 : Int32)) (by decide) dX3_isLate_41 ?_
      refine g_ialdN F (m := 3) rfl (by decide) (by decide) (pr_at (κ := 12) (i := order.toNatClampNeg) (by decide) (gc6 (by decide) (Decidable.not_not.mp c_3).2) (gce (show (gsr S.1 0 0 (upd (S.1 0 0) 8 0)) 12 order.toNatClampNeg = S.1 12 order.toNatClampNeg from (gsr_p (by decide) rfl)) rfl)) dX3_isLate_42 ?_
      change gW _ _ _ _ (.int (S.1 12 order.toNatClampNeg 3) :: _) _ _
      refine g_iconst F (v := (1 : Int32)) (by decide) dX3_isLate_43 ?_
      have J_7 : gW (X, G, 2, Q) (gP 1 G (gsr S.1 0 0 (upd (S.1 0 0) 8 0), S.2) A Fr []) [(0, .ref (A 0 0)), (1, .int order)] 92 [.int (gb (((S.1 12 order.toNatClampNeg 3) = (1 : Int32)) ∨ (¬ ((S.1 12 order.toNatClampNeg 1) ≤ 0) ∧ (¬ ((S.1 0 0 0) ≤ (S.1 12 order.toNatClampNeg 2))))))] 0 0 := by
        exact g_retI F E rfl gb_z (gle rfl) (gle rfl) dX3_isLate_92 (fun _ hp => ⟨_, _, (if_neg c_3), rfl, ⟨A, rfl, gP_T0 hp⟩⟩)
      refine g_icmp_eq F (tgt := 87) (by decide) dX3_isLate_44 (fun c_4 => ?_) (fun c_4 => ?_)
      · skip
        refine g_iconst F (v := (1 : Int32)) (by decide) dX3_isLate_87 ?_
        refine g_goto F (tgt := 92) (by decide) dX3_isLate_88 ?_
        exact g_top (gb_t (Or.inl c_4)) J_7
      · skip
        refine g_aload_n F 0 rfl rfl dX3_isLate_47 ?_
        refine g_get F clX3 13 (by decide) q1402 (v := .ref (A 312 0)) (gd_get (pr_at (κ := 0) (i := 0) (by decide) (gc1 (gnl rfl)) (gce (show (gsr S.1 0 0 (upd (S.1 0 0) 8 0)) 0 0 = upd (S.1 0 0) 8 0 from gsr_s) rfl)) rfl) dX3_isLate_48 ?_
        refine g_iload_n F 1 rfl rfl dX3_isLate_51 ?_
        refine g_callF F clJ3 (kJ3_get hl (pr_ls (M := 1) (S := (gsr S.1 0 0 (upd (S.1 0 0) 8 0), S.2)) (A := A) (κ := 12) (by decide) (Or.inl ⟨by decide, by decide⟩) (fun q => by first | decide | exact absurd q (by decide)) (fun q => by first | decide | exact absurd q (by decide))) (j := order.toNatClampNeg) (Decidable.not_not.mp c_3).2 (gw_n hW _) rfl (Decidable.not_not.mp c_3).1) (g_recv F clJ3 (gls_obj (pr_ls (M := 1) (S := (gsr S.1 0 0 (upd (S.1 0 0) 8 0), S.2)) (A := A) (κ := 12) (by decide) (Or.inl ⟨by decide, by decide⟩) (fun q => by first | decide | exact absurd q (by decide)) (fun q => by first | decide | exact absurd q (by decide))))) q1506 q809 q811 q22 q813 (List.mem_of_getElem? (i := 1) rfl) (gT_w q812 rfl) (gT_w q810 rfl) (gT_w q293 rfl) gface_1 ⟨by decide, by decide⟩ rfl rfl (gle rfl) 0 0 (gle rfl) (gle rfl) (gle rfl) (gle rfl) dX3_isLate_52 gx_n (gv_i ?_)
        refine g_castS F (g_recvI F (pr_at (κ := 12) (i := order.toNatClampNeg) (by decide) (gc6 (by decide) (Decidable.not_not.mp c_3).2) (gce (show (gsr S.1 0 0 (upd (S.1 0 0) 8 0)) 12 order.toNatClampNeg = S.1 12 order.toNatClampNeg from (gsr_p (by decide) rfl)) rfl))) q1507 dX3_isLate_57 ?_
        refine g_iconst F (v := (1 : Int32)) (by decide) dX3_isLate_60 ?_
        refine g_ialdN F (m := 1) rfl (by decide) (by decide) (pr_at (κ := 12) (i := order.toNatClampNeg) (by decide) (gc6 (by decide) (Decidable.not_not.mp c_3).2) (gce (show (gsr S.1 0 0 (upd (S.1 0 0) 8 0)) 12 order.toNatClampNeg = S.1 12 order.toNatClampNeg from (gsr_p (by decide) rfl)) rfl)) dX3_isLate_61 ?_
        change gW _ _ _ _ (.int (S.1 12 order.toNatClampNeg 1) :: _) _ _
        refine g_if_le F (tgt := 91) (by decide) dX3_isLate_62 (fun c_5 => ?_) (fun c_5 => ?_)
        · skip
          refine g_iconst F (v := (0 : Int32)) (by decide) dX3_isLate_91 ?_
          exact g_top (gb_f (fun q => q.elim c_4 (fun q => q.1 c_5))) J_7
        · skip
          refine g_aload_n F 0 rfl rfl dX3_isLate_65 ?_
          refine g_get F clX3 1 (by decide) q1390 (v := .int (S.1 0 0 0)) (gd_get (pr_at (κ := 0) (i := 0) (by decide) (gc1 (gnl rfl)) (gce (show (gsr S.1 0 0 (upd (S.1 0 0) 8 0)) 0 0 = upd (S.1 0 0) 8 0 from gsr_s) rfl)) rfl) dX3_isLate_66 ?_
          refine g_aload_n F 0 rfl rfl dX3_isLate_69 ?_
          refine g_get F clX3 13 (by decide) q1402 (v := .ref (A 312 0)) (gd_get (pr_at (κ := 0) (i := 0) (by decide) (gc1 (gnl rfl)) (gce (show (gsr S.1 0 0 (upd (S.1 0 0) 8 0)) 0 0 = upd (S.1 0 0) 8 0 from gsr_s) rfl)) rfl) dX3_isLate_70 ?_
          refine g_iload_n F 1 rfl rfl dX3_isLate_73 ?_
          refine g_callF F clJ3 (kJ3_get hl (pr_ls (M := 1) (S := (gsr S.1 0 0 (upd (S.1 0 0) 8 0), S.2)) (A := A) (κ := 12) (by decide) (Or.inl ⟨by decide, by decide⟩) (fun q => by first | decide | exact absurd q (by decide)) (fun q => by first | decide | exact absurd q (by decide))) (j := order.toNatClampNeg) (Decidable.not_not.mp c_3).2 (gw_n hW _) rfl (Decidable.not_not.mp c_3).1) (g_recv F clJ3 (gls_obj (pr_ls (M := 1) (S := (gsr S.1 0 0 (upd (S.1 0 0) 8 0), S.2)) (A := A) (κ := 12) (by decide) (Or.inl ⟨by decide, by decide⟩) (fun q => by first | decide | exact absurd q (by decide)) (fun q => by first | decide | exact absurd q (by decide))))) q1506 q809 q811 q22 q813 (List.mem_of_getElem? (i := 1) rfl) (gT_w q812 rfl) (gT_w q810 rfl) (gT_w q293 rfl) gface_1 ⟨by decide, by decide⟩ rfl rfl (gle rfl) 0 0 (gle rfl) (gle rfl) (gle rfl) (gle rfl) dX3_isLate_74 gx_n (gv_i ?_)
          refine g_castS F (g_recvI F (pr_at (κ := 12) (i := order.toNatClampNeg) (by decide) (gc6 (by decide) (Decidable.not_not.mp c_3).2) (gce (show (gsr S.1 0 0 (upd (S.1 0 0) 8 0)) 12 order.toNatClampNeg = S.1 12 order.toNatClampNeg from (gsr_p (by decide) rfl)) rfl))) q1507 dX3_isLate_79 ?_
          refine g_iconst F (v := (2 : Int32)) (by decide) dX3_isLate_82 ?_
          refine g_ialdN F (m := 2) rfl (by decide) (by decide) (pr_at (κ := 12) (i := order.toNatClampNeg) (by decide) (gc6 (by decide) (Decidable.not_not.mp c_3).2) (gce (show (gsr S.1 0 0 (upd (S.1 0 0) 8 0)) 12 order.toNatClampNeg = S.1 12 order.toNatClampNeg from (gsr_p (by decide) rfl)) rfl)) dX3_isLate_83 ?_
          change gW _ _ _ _ (.int (S.1 12 order.toNatClampNeg 2) :: _) _ _
          refine g_icmp_le F (tgt := 91) (by decide) dX3_isLate_84 (fun c_6 => ?_) (fun c_6 => ?_)
          · skip
            refine g_iconst F (v := (0 : Int32)) (by decide) dX3_isLate_91 ?_
            exact g_top (gb_f (fun q => q.elim c_4 (fun q => (fun q => q c_6) q.2))) J_7
          · skip
            refine g_iconst F (v := (1 : Int32)) (by decide) dX3_isLate_87 ?_
            refine g_goto F (tgt := 92) (by decide) dX3_isLate_88 ?_
            exact g_top (gb_t (Or.inr ⟨c_5, c_6⟩)) J_7
  refine gb_if_ne F (tgt := 20) (by decide) dX3_isLate_13 (fun c_1 => ?_) (fun c_1 => ?_)
  · skip
    refine g_iconst F (v := (0 : Int32)) (by decide) dX3_isLate_20 ?_
    exact g_top (gb_f (fun q => q c_1)) J_2
  · skip
    refine g_iconst F (v := (1 : Int32)) (by decide) dX3_isLate_16 ?_
    refine g_goto F (tgt := 21) (by decide) dX3_isLate_17 ?_
    exact g_top (gb_t c_1) J_2

def sM_order (S : gS) (grade many due : Int32) : Value × gS := if ¬ (¬ grade < (0 : Int32) ∧ ¬ (19 : Int32) < grade) ∨ (¬ (¬ many < (1 : Int32) ∧ ¬ (9 : Int32) < many) ∨ (¬ (¬ due < (S.1 0 0 0) ∧ ¬ (9999 : Int32) < due))) then (.int (-1 : Int32), (gsr (gsr S.1 0 0 (upd (S.1 0 0) 8 0)) 0 0 (upd (upd (S.1 0 0) 8 0) 8 (1 : Int32)), S.2)) else (if (nI (S.2 12)) = (12 : Int32) then (.int (-1 : Int32), (gsr (gsr S.1 0 0 (upd (S.1 0 0) 8 0)) 0 0 (upd (upd (S.1 0 0) 8 0) 8 (2 : Int32)), S.2)) else (.int (nI (S.2 12)), (gsr (gsr S.1 0 0 (upd (S.1 0 0) 8 0)) 12 (S.2 12) (upd (upd (upd (upd (fun _ => 0) 0 grade) 1 many) 2 due) 3 (0 : Int32)), va_up S.2 12 (S.2 12 + 1))))
theorem kX3_order {l : Launch} {G : gG} (hl : l.stackTraces = false) {S : gS} {a0 : Nat} {Fr : gH → Prop} (hF : gFr 1 Fr) (hW : gWf S) {grade many due : Int32}  : gMet l yX3_order (ws_ yX3_order cX3_order 4 (some .int)) ⟨7, 2, 154, 731⟩ G [.ref a0, .int grade, .int many, .int due] (gPE 1 G S a0 Fr) (gqN (sM_order S grade many due) G a0 Fr) gxN := by
  refine gMet_of hl pnX3 (gle rfl) (fun X Q hX F E hNm => ?_)
  subst hX
  change gW (X, G, 4, Q) (gPE 1 G S a0 Fr) [(0, .ref a0), (1, .int grade), (2, .int many), (3, .int due)] 0 [] 0 0
  refine g_pe (fun A hA => ?_)
  subst hA
  change gW _ _ [(0, .ref (A 0 0)), (1, .int grade), (2, .int many), (3, .int due)] 0 [] 0 0
  refine g_aload_n F 0 rfl rfl dX3_order_0 ?_
  refine g_callV F (kX3_begins hl (pr_at (κ := 0) (i := 0) (by decide) (gc1 (gnl rfl)) (gce rfl rfl))) (g_recv F clX3 (gd_obj (pr_at (κ := 0) (i := 0) (by decide) (gc1 (gnl rfl)) (gce rfl rfl)))) q1448 q1450 qs6 q25 q1451 myX3_begins ⟨by decide, by decide⟩ rfl rfl (gle rfl) 0 0 (gle rfl) (gle rfl) (gle rfl) (gle rfl) dX3_order_1 gx_n (gv_v ?_)
  refine g_mono (P2 := gP 1 G (gsr S.1 0 0 (upd (S.1 0 0) 8 0), S.2) A Fr []) (pr_upRow (κ := 0) (i := 0) gM1 hF (upd (S.1 0 0) 8 0) (by decide) (gc1 (gnl rfl)) (gce rfl rfl) rfl) ?_
  refine g_aload_n F 0 rfl rfl dX3_order_4 ?_
  refine g_iload_n F 1 rfl rfl dX3_order_5 ?_
  refine g_i2l F dX3_order_6 ?_
  refine g_lconst F (v := (0 : Int64)) (by decide) dX3_order_7 ?_
  refine g_ldc2 F (v := (19 : Int64)) q1755 dX3_order_8 ?_
  refine g_callS F (kX3_in hl (x := grade) (lo := (0 : Int32)) (hi := (19 : Int32)) (by decide) (by decide)) (lw_S q1453 q1454 q25 q1455) myX3_in ⟨by decide, by decide⟩ rfl rfl (gle rfl) 0 0 (gle rfl) (gle rfl) (gle rfl) (gle rfl) dX3_order_11 gx_n (gv_i ?_)
  have J_4 : gW (X, G, 4, Q) (gP 1 G (gsr S.1 0 0 (upd (S.1 0 0) 8 0), S.2) A Fr []) [(0, .ref (A 0 0)), (1, .int grade), (2, .int many), (3, .int due)] 50 [.int (gb (¬ (¬ grade < (0 : Int32) ∧ ¬ (19 : Int32) < grade) ∨ (¬ (¬ many < (1 : Int32) ∧ ¬ (9 : Int32) < many) ∨ (¬ (¬ due < (S.1 0 0 0) ∧ ¬ (9999 : Int32) < due))))), .ref (A 0 0)] 0 0 := by
    refine g_iconst F (v := (1 : Int32)) (by decide) dX3_order_50 ?_
    refine g_callV F (kX3_fails hl (b := gb (¬ (¬ grade < (0 : Int32) ∧ ¬ (19 : Int32) < grade) ∨ (¬ (¬ many < (1 : Int32) ∧ ¬ (9 : Int32) < many) ∨ (¬ (¬ due < (S.1 0 0 0) ∧ ¬ (9999 : Int32) < due))))) (nu := (1 : Int32)) (c := ¬ (¬ grade < (0 : Int32) ∧ ¬ (19 : Int32) < grade) ∨ (¬ (¬ many < (1 : Int32) ∧ ¬ (9 : Int32) < many) ∨ (¬ (¬ due < (S.1 0 0 0) ∧ ¬ (9999 : Int32) < due)))) gb_n0 (by decide) (pr_at (κ := 0) (i := 0) (by decide) (gc1 (gnl rfl)) (gce (show (gsr S.1 0 0 (upd (S.1 0 0) 8 0)) 0 0 = upd (S.1 0 0) 8 0 from gsr_s) rfl))) (g_recv F clX3 (gd_obj (pr_at (κ := 0) (i := 0) (by decide) (gc1 (gnl rfl)) (gce (show (gsr S.1 0 0 (upd (S.1 0 0) 8 0)) 0 0 = upd (S.1 0 0) 8 0 from gsr_s) rfl)))) q1456 q1458 qs7 q25 q1459 myX3_fails ⟨by decide, by decide⟩ rfl rfl (gle rfl) 0 0 (gle rfl) (gle rfl) (gle rfl) (gle rfl) dX3_order_51 gx_n (gv_f (fun c_5 => ?_) (fun c_5 => ?_))
    · skip
      refine g_mono (P2 := gP 1 G (gsr (gsr S.1 0 0 (upd (S.1 0 0) 8 0)) 0 0 (upd (upd (S.1 0 0) 8 0) 8 (1 : Int32)), S.2) A Fr []) (pr_upRow (κ := 0) (i := 0) gM1 hF (upd (upd (S.1 0 0) 8 0) 8 (1 : Int32)) (by decide) (gc1 (gnl rfl)) (gce (show (gsr S.1 0 0 (upd (S.1 0 0) 8 0)) 0 0 = upd (S.1 0 0) 8 0 from gsr_s) rfl) rfl) ?_
      refine g_if_ne F (tgt := 84) (by decide) dX3_order_54 (fun _ => ?_) (fun c => absurd c (by decide))
      refine g_iconst F (v := (-1 : Int32)) (by decide) dX3_order_84 ?_
      exact g_retI F E rfl rfl (gle rfl) (gle rfl) dX3_order_85 (fun _ hp => ⟨_, _, (if_pos c_5), rfl, ⟨A, rfl, gP_T0 hp⟩⟩)
    · skip
      refine g_if_ne F (tgt := 84) (by decide) dX3_order_54 (fun c => absurd c (by decide)) (fun _ => ?_)
      refine g_aload_n F 0 rfl rfl dX3_order_57 ?_
      refine g_aload_n F 0 rfl rfl dX3_order_58 ?_
      refine g_get F clX3 13 (by decide) q1402 (v := .ref (A 312 0)) (gd_get (pr_at (κ := 0) (i := 0) (by decide) (gc1 (gnl rfl)) (gce (show (gsr S.1 0 0 (upd (S.1 0 0) 8 0)) 0 0 = upd (S.1 0 0) 8 0 from gsr_s) rfl)) rfl) dX3_order_59 ?_
      refine g_callF F clJ3 (kJ3_size hl (pr_ls (M := 1) (S := (gsr S.1 0 0 (upd (S.1 0 0) 8 0), S.2)) (A := A) (κ := 12) (by decide) (Or.inl ⟨by decide, by decide⟩) (fun q => by first | decide | exact absurd q (by decide)) (fun q => by first | decide | exact absurd q (by decide)))) (g_recv F clJ3 (gls_obj (pr_ls (M := 1) (S := (gsr S.1 0 0 (upd (S.1 0 0) 8 0), S.2)) (A := A) (κ := 12) (by decide) (Or.inl ⟨by decide, by decide⟩) (fun q => by first | decide | exact absurd q (by decide)) (fun q => by first | decide | exact absurd q (by decide))))) q1491 q634 q636 q22 q638 (List.mem_of_getElem? (i := 0) rfl) (gT_w q637 rfl) (gT_w q635 rfl) (gT_w q293 rfl) gface_0 ⟨by decide, by decide⟩ rfl rfl (gle rfl) 0 0 (gle rfl) (gle rfl) (gle rfl) (gle rfl) dX3_order_62 gx_n (gv_i ?_)
      refine g_bipush F (v := (12 : Int32)) (by decide) dX3_order_67 ?_
      have J_7 : gW (X, G, 4, Q) (gP 1 G (gsr S.1 0 0 (upd (S.1 0 0) 8 0), S.2) A Fr []) [(0, .ref (A 0 0)), (1, .int grade), (2, .int many), (3, .int due)] 77 [.int (gb ((nI (S.2 12)) = (12 : Int32))), .ref (A 0 0)] 0 0 := by
        refine g_iconst F (v := (2 : Int32)) (by decide) dX3_order_77 ?_
        refine g_callV F (kX3_fails hl (b := gb ((nI (S.2 12)) = (12 : Int32))) (nu := (2 : Int32)) (c := (nI (S.2 12)) = (12 : Int32)) gb_n0 (by decide) (pr_at (κ := 0) (i := 0) (by decide) (gc1 (gnl rfl)) (gce (show (gsr S.1 0 0 (upd (S.1 0 0) 8 0)) 0 0 = upd (S.1 0 0) 8 0 from gsr_s) rfl))) (g_recv F clX3 (gd_obj (pr_at (κ := 0) (i := 0) (by decide) (gc1 (gnl rfl)) (gce (show (gsr S.1 0 0 (upd (S.1 0 0) 8 0)) 0 0 = upd (S.1 0 0) 8 0 from gsr_s) rfl)))) q1456 q1458 qs7 q25 q1459 myX3_fails ⟨by decide, by decide⟩ rfl rfl (gle rfl) 0 0 (gle rfl) (gle rfl) (gle rfl) (gle rfl) dX3_order_78 gx_n (gv_f (fun c_8 => ?_) (fun c_8 => ?_))
        · skip
          refine g_mono (P2 := gP 1 G (gsr (gsr S.1 0 0 (upd (S.1 0 0) 8 0)) 0 0 (upd (upd (S.1 0 0) 8 0) 8 (2 : Int32)), S.2) A Fr []) (pr_upRow (κ := 0) (i := 0) gM1 hF (upd (upd (S.1 0 0) 8 0) 8 (2 : Int32)) (by decide) (gc1 (gnl rfl)) (gce (show (gsr S.1 0 0 (upd (S.1 0 0) 8 0)) 0 0 = upd (S.1 0 0) 8 0 from gsr_s) rfl) rfl) ?_
          refine g_if_eq F (tgt := 86) (by decide) dX3_order_81 (fun c => absurd c (by decide)) (fun _ => ?_)
          refine g_iconst F (v := (-1 : Int32)) (by decide) dX3_order_84 ?_
          exact g_retI F E rfl rfl (gle rfl) (gle rfl) dX3_order_85 (fun _ hp => ⟨_, _, ((if_neg c_5).trans (if_pos c_8)), rfl, ⟨A, rfl, gP_T0 hp⟩⟩)
        · skip
          refine g_if_eq F (tgt := 86) (by decide) dX3_order_81 (fun _ => ?_) (fun c => absurd c (by decide))
          refine g_aload_n F 0 rfl rfl dX3_order_86 ?_
          refine g_get F clX3 13 (by decide) q1402 (v := .ref (A 312 0)) (gd_get (pr_at (κ := 0) (i := 0) (by decide) (gc1 (gnl rfl)) (gce (show (gsr S.1 0 0 (upd (S.1 0 0) 8 0)) 0 0 = upd (S.1 0 0) 8 0 from gsr_s) rfl)) rfl) dX3_order_87 ?_
          refine g_iconst F (v := (4 : Int32)) (by decide) dX3_order_90 ?_
          refine g_newI F (5000, 0) (N := 4) rfl (by decide) 1 4 (gle rfl) (gle rfl) (gle rfl) (gle rfl) (Pa := fun a_9 => gP 1 G (gsr S.1 0 0 (upd (S.1 0 0) 8 0), S.2) A Fr [(a_9, gIA G 4 (fun _ => 0))]) (pr_new hF) dX3_order_91 (fun a_9 => ?_)
          refine g_dup F rfl dX3_order_93 ?_
          refine g_iconst F (v := (0 : Int32)) (by decide) dX3_order_94 ?_
          refine g_iload_n F 1 rfl rfl dX3_order_95 ?_
          refine g_iastN (P2 := gP 1 G (gsr S.1 0 0 (upd (S.1 0 0) 8 0), S.2) A Fr [(a_9, gIA G 4 (upd (fun _ => 0) 0 grade))]) F (m := 0) rfl (by decide) (by decide) (pr_setT gM1 hF (j := 0) rfl) dX3_order_96 ?_
          refine g_dup F rfl dX3_order_97 ?_
          refine g_iconst F (v := (1 : Int32)) (by decide) dX3_order_98 ?_
          refine g_iload_n F 2 rfl rfl dX3_order_99 ?_
          refine g_iastN (P2 := gP 1 G (gsr S.1 0 0 (upd (S.1 0 0) 8 0), S.2) A Fr [(a_9, gIA G 4 (upd (upd (fun _ => 0) 0 grade) 1 many))]) F (m := 1) rfl (by decide) (by decide) (pr_setT gM1 hF (j := 0) rfl) dX3_order_100 ?_
          refine g_dup F rfl dX3_order_101 ?_
          refine g_iconst F (v := (2 : Int32)) (by decide) dX3_order_102 ?_
          refine g_iload_n F 3 rfl rfl dX3_order_103 ?_
          refine g_iastN (P2 := gP 1 G (gsr S.1 0 0 (upd (S.1 0 0) 8 0), S.2) A Fr [(a_9, gIA G 4 (upd (upd (upd (fun _ => 0) 0 grade) 1 many) 2 due))]) F (m := 2) rfl (by decide) (by decide) (pr_setT gM1 hF (j := 0) rfl) dX3_order_104 ?_
          refine g_dup F rfl dX3_order_105 ?_
          refine g_iconst F (v := (3 : Int32)) (by decide) dX3_order_106 ?_
          refine g_iconst F (v := (0 : Int32)) (by decide) dX3_order_107 ?_
          refine g_iastN (P2 := gP 1 G (gsr S.1 0 0 (upd (S.1 0 0) 8 0), S.2) A Fr [(a_9, gIA G 4 (upd (upd (upd (upd (fun _ => 0) 0 grade) 1 many) 2 due) 3 (0 : Int32)))]) F (m := 3) rfl (by decide) (by decide) (pr_setT gM1 hF (j := 0) rfl) dX3_order_108 ?_
          refine g_callF F clJ3 (kJ3_add hl (pr_ls (M := 1) (S := (gsr S.1 0 0 (upd (S.1 0 0) 8 0), S.2)) (A := A) (κ := 12) (by decide) (Or.inl ⟨by decide, by decide⟩) (fun q => by first | decide | exact absurd q (by decide)) (fun q => by first | decide | exact absurd q (by decide))) (Nat.le_trans (gw_64 (gWf_0 (r := upd (S.1 0 0) 8 0) hW (gw_b hW)) _) (by decide)) (pr_elT (j := 0) rfl (Or.inr ⟨_, _, rfl⟩)) (pr_el (by decide) (by decide) (fun q => by first | decide | exact absurd q (by decide)) (fun q => by first | decide | exact absurd q (by decide)))) (g_recv F clJ3 (gls_obj (pr_ls (M := 1) (S := (gsr S.1 0 0 (upd (S.1 0 0) 8 0), S.2)) (A := A) (κ := 12) (by decide) (Or.inl ⟨by decide, by decide⟩) (fun q => by first | decide | exact absurd q (by decide)) (fun q => by first | decide | exact absurd q (by decide))))) q1493 q680 q682 q22 q684 (List.mem_of_getElem? (i := 2) rfl) (gT_w q683 rfl) (gT_w q681 rfl) (gT_w q293 rfl) gface_2 ⟨by decide, by decide⟩ rfl rfl (gle rfl) 2 154 (gle rfl) (gle rfl) (gle rfl) (gle rfl) dX3_order_109 gx_n (gv_i ?_)
          refine g_retag (P2 := gP 1 G (gsr (gsr S.1 0 0 (upd (S.1 0 0) 8 0)) 12 (S.2 12) (upd (upd (upd (upd (fun _ => 0) 0 grade) 1 many) 2 due) 3 (0 : Int32)), va_up S.2 12 (S.2 12 + 1)) (gAa A 12 (S.2 12) a_9) Fr []) (pr_add (T0 := []) (κ := 12) gM1 hF (gWf_0 (r := upd (S.1 0 0) 8 0) hW (gw_b hW)) (by decide) (by decide) (by decide) (upd (upd (upd (upd (fun _ => 0) 0 grade) 1 many) 2 due) 3 (0 : Int32)) rfl) ?_
          refine g_pop F rfl dX3_order_114 ?_
          refine g_aload_n F 0 rfl rfl dX3_order_115 ?_
          refine g_get F clX3 13 (by decide) q1402 (v := .ref (A 312 0)) (gd_get (pr_at (κ := 0) (i := 0) (by decide) (gc1 (gnl rfl)) (gce (show (gsr (gsr S.1 0 0 (upd (S.1 0 0) 8 0)) 12 (S.2 12) (upd (upd (upd (upd (fun _ => 0) 0 grade) 1 many) 2 due) 3 (0 : Int32))) 0 0 = upd (S.1 0 0) 8 0 from (gsr_p (by decide) gsr_s)) rfl)) rfl) dX3_order_116 ?_
          refine g_callF F clJ3 (kJ3_size hl (pr_ls (M := 1) (S := (gsr (gsr S.1 0 0 (upd (S.1 0 0) 8 0)) 12 (S.2 12) (upd (upd (upd (upd (fun _ => 0) 0 grade) 1 many) 2 due) 3 (0 : Int32)), va_up S.2 12 (S.2 12 + 1))) (A := gAa A 12 (S.2 12) a_9) (κ := 12) (by decide) (Or.inl ⟨by decide, by decide⟩) (fun q => by first | decide | exact absurd q (by decide)) (fun q => by first | decide | exact absurd q (by decide)))) (g_recv F clJ3 (gls_obj (pr_ls (M := 1) (S := (gsr (gsr S.1 0 0 (upd (S.1 0 0) 8 0)) 12 (S.2 12) (upd (upd (upd (upd (fun _ => 0) 0 grade) 1 many) 2 due) 3 (0 : Int32)), va_up S.2 12 (S.2 12 + 1))) (A := gAa A 12 (S.2 12) a_9) (κ := 12) (by decide) (Or.inl ⟨by decide, by decide⟩) (fun q => by first | decide | exact absurd q (by decide)) (fun q => by first | decide | exact absurd q (by decide))))) q1491 q634 q636 q22 q638 (List.mem_of_getElem? (i := 0) rfl) (gT_w q637 rfl) (gT_w q635 rfl) (gT_w q293 rfl) gface_0 ⟨by decide, by decide⟩ rfl rfl (gle rfl) 2 154 (gle rfl) (gle rfl) (gle rfl) (gle rfl) dX3_order_119 gx_n (gv_i ?_)
          refine g_iconst F (v := (1 : Int32)) (by decide) dX3_order_124 ?_
          refine g_isub F dX3_order_125 ?_
          refine g_top (nI_pred (S.2 12)) ?_
          exact g_retI F E rfl rfl (gle rfl) (gle rfl) dX3_order_126 (fun _ hp => ⟨_, _, ((if_neg c_5).trans (if_neg c_8)), rfl, ⟨gAa A 12 (S.2 12) a_9, rfl, gP_T0 hp⟩⟩)
      refine g_icmp_ne F (tgt := 76) (by decide) dX3_order_69 (fun c_6 => ?_) (fun c_6 => ?_)
      · skip
        refine g_iconst F (v := (0 : Int32)) (by decide) dX3_order_76 ?_
        exact g_top (gb_f c_6) J_7
      · skip
        refine g_iconst F (v := (1 : Int32)) (by decide) dX3_order_72 ?_
        refine g_goto F (tgt := 77) (by decide) dX3_order_73 ?_
        exact g_top (gb_t c_6) J_7
  refine gb_if_eq F (tgt := 45) (by decide) dX3_order_14 (fun c_1 => ?_) (fun c_1 => ?_)
  · skip
    refine g_iconst F (v := (1 : Int32)) (by decide) dX3_order_45 ?_
    refine g_goto F (tgt := 50) (by decide) dX3_order_46 ?_
    exact g_top (gb_t (Or.inl c_1)) J_4
  · skip
    refine g_iload_n F 2 rfl rfl dX3_order_17 ?_
    refine g_i2l F dX3_order_18 ?_
    refine g_lconst F (v := (1 : Int64)) (by decide) dX3_order_19 ?_
    refine g_ldc2 F (v := (9 : Int64)) q1489 dX3_order_20 ?_
    refine g_callS F (kX3_in hl (x := many) (lo := (1 : Int32)) (hi := (9 : Int32)) (by decide) (by decide)) (lw_S q1453 q1454 q25 q1455) myX3_in ⟨by decide, by decide⟩ rfl rfl (gle rfl) 0 0 (gle rfl) (gle rfl) (gle rfl) (gle rfl) dX3_order_23 gx_n (gv_i ?_)
    refine gb_if_eq F (tgt := 45) (by decide) dX3_order_26 (fun c_2 => ?_) (fun c_2 => ?_)
    · skip
      refine g_iconst F (v := (1 : Int32)) (by decide) dX3_order_45 ?_
      refine g_goto F (tgt := 50) (by decide) dX3_order_46 ?_
      exact g_top (gb_t (Or.inr (Or.inl c_2))) J_4
    · skip
      refine g_iload_n F 3 rfl rfl dX3_order_29 ?_
      refine g_i2l F dX3_order_30 ?_
      refine g_aload_n F 0 rfl rfl dX3_order_31 ?_
      refine g_get F clX3 1 (by decide) q1390 (v := .int (S.1 0 0 0)) (gd_get (pr_at (κ := 0) (i := 0) (by decide) (gc1 (gnl rfl)) (gce (show (gsr S.1 0 0 (upd (S.1 0 0) 8 0)) 0 0 = upd (S.1 0 0) 8 0 from gsr_s) rfl)) rfl) dX3_order_32 ?_
      refine g_i2l F dX3_order_35 ?_
      refine g_ldc2 F (v := (9999 : Int64)) q1795 dX3_order_36 ?_
      refine g_callS F (kX3_in hl (x := due) (lo := (S.1 0 0 0)) (hi := (9999 : Int32)) rfl (by decide)) (lw_S q1453 q1454 q25 q1455) myX3_in ⟨by decide, by decide⟩ rfl rfl (gle rfl) 0 0 (gle rfl) (gle rfl) (gle rfl) (gle rfl) dX3_order_39 gx_n (gv_i ?_)
      refine gb_if_ne F (tgt := 49) (by decide) dX3_order_42 (fun c_3 => ?_) (fun c_3 => ?_)
      · skip
        refine g_iconst F (v := (0 : Int32)) (by decide) dX3_order_49 ?_
        exact g_top (gb_f (fun q => q.elim (fun z => z c_1) (fun q => q.elim (fun z => z c_2) (fun q => q c_3)))) J_4
      · skip
        refine g_iconst F (v := (1 : Int32)) (by decide) dX3_order_45 ?_
        refine g_goto F (tgt := 50) (by decide) dX3_order_46 ?_
        exact g_top (gb_t (Or.inr (Or.inr c_3))) J_4

def sM_slats (S : gS) (wood grain wetness many : Int32) : Value × gS := if ¬ (((wood = (99 : Int32)) ∧ ((¬ grain < (0 : Int32) ∧ ¬ (9 : Int32) < grain) ∧ ((¬ wetness < (0 : Int32) ∧ ¬ (40 : Int32) < wetness) ∧ (¬ many < (1 : Int32) ∧ ¬ (500 : Int32) < many)))) ∨ (¬ (wood = (99 : Int32)) ∧ ((wood = (98 : Int32)) ∧ ((¬ grain < (0 : Int32) ∧ ¬ (9 : Int32) < grain) ∧ ((¬ wetness < (0 : Int32) ∧ ¬ (40 : Int32) < wetness) ∧ (¬ many < (1 : Int32) ∧ ¬ (500 : Int32) < many)))))) then (.int (-1 : Int32), (gsr (gsr S.1 0 0 (upd (S.1 0 0) 8 0)) 0 0 (upd (upd (S.1 0 0) 8 0) 8 (1 : Int32)), S.2)) else (if (nI (S.2 9)) = (12 : Int32) then (.int (-1 : Int32), (gsr (gsr S.1 0 0 (upd (S.1 0 0) 8 0)) 0 0 (upd (upd (S.1 0 0) 8 0) 8 (2 : Int32)), S.2)) else (.int (nI (S.2 9)), (gsr (gsr S.1 0 0 (upd (S.1 0 0) 8 0)) 9 (S.2 9) (gRw [wood, grain, wetness, many, (0 : Int32), (0 : Int32)]), va_up S.2 9 (S.2 9 + 1))))
theorem kX3_slats {l : Launch} {G : gG} (hl : l.stackTraces = false) {S : gS} {a0 : Nat} {Fr : gH → Prop} (hF : gFr 1 Fr) (hW : gWf S) {wood grain wetness many : Int32} (h_wc : narrow .char (.int wood) = .int wood) (h_wf : fits .char (.int wood) = true) : gMet l yX3_slats (ws_ yX3_slats cX3_slats 7 (some .int)) ⟨7, 2, 156, 731⟩ G [.ref a0, .int wood, .int grain, .int wetness, .int many] (gPE 1 G S a0 Fr) (gqN (sM_slats S wood grain wetness many) G a0 Fr) gxN := by
  refine gMet_of hl pnX3 (gle rfl) (fun X Q hX F E hNm => ?_)
  subst hX
  change gW (X, G, 7, Q) (gPE 1 G S a0 Fr) [(0, .ref a0), (1, .int wood), (2, .int grain), (3, .int wetness), (4, .int many)] 0 [] 0 0
  refine g_pe (fun A hA => ?_)
  subst hA
  change gW _ _ [(0, .ref (A 0 0)), (1, .int wood), (2, .int grain), (3, .int wetness), (4, .int many)] 0 [] 0 0
  refine g_aload_n F 0 rfl rfl dX3_slats_0 ?_
  refine g_callV F (kX3_begins hl (pr_at (κ := 0) (i := 0) (by decide) (gc1 (gnl rfl)) (gce rfl rfl))) (g_recv F clX3 (gd_obj (pr_at (κ := 0) (i := 0) (by decide) (gc1 (gnl rfl)) (gce rfl rfl)))) q1448 q1450 qs6 q25 q1451 myX3_begins ⟨by decide, by decide⟩ rfl rfl (gle rfl) 0 0 (gle rfl) (gle rfl) (gle rfl) (gle rfl) dX3_slats_1 gx_n (gv_v ?_)
  refine g_mono (P2 := gP 1 G (gsr S.1 0 0 (upd (S.1 0 0) 8 0), S.2) A Fr []) (pr_upRow (κ := 0) (i := 0) gM1 hF (upd (S.1 0 0) 8 0) (by decide) (gc1 (gnl rfl)) (gce rfl rfl) rfl) ?_
  refine g_iload_n F 1 rfl rfl dX3_slats_4 ?_
  refine g_bipush F (v := (99 : Int32)) (by decide) dX3_slats_5 ?_
  have J_9 : gW (X, G, 7, Q) (gP 1 G (gsr S.1 0 0 (upd (S.1 0 0) 8 0), S.2) A Fr []) [(0, .ref (A 0 0)), (1, .int wood), (2, .int grain), (3, .int wetness), (4, .int many)] 58 [.int (gb (((wood = (99 : Int32)) ∧ ((¬ grain < (0 : Int32) ∧ ¬ (9 : Int32) < grain) ∧ ((¬ wetness < (0 : Int32) ∧ ¬ (40 : Int32) < wetness) ∧ (¬ many < (1 : Int32) ∧ ¬ (500 : Int32) < many)))) ∨ (¬ (wood = (99 : Int32)) ∧ ((wood = (98 : Int32)) ∧ ((¬ grain < (0 : Int32) ∧ ¬ (9 : Int32) < grain) ∧ ((¬ wetness < (0 : Int32) ∧ ¬ (40 : Int32) < wetness) ∧ (¬ many < (1 : Int32) ∧ ¬ (500 : Int32) < many)))))))] 0 0 := by
    refine g_istore F (by show 5 < 7; decide) (lv2 := [(5, .int (gb (((wood = (99 : Int32)) ∧ ((¬ grain < (0 : Int32) ∧ ¬ (9 : Int32) < grain) ∧ ((¬ wetness < (0 : Int32) ∧ ¬ (40 : Int32) < wetness) ∧ (¬ many < (1 : Int32) ∧ ¬ (500 : Int32) < many)))) ∨ (¬ (wood = (99 : Int32)) ∧ ((wood = (98 : Int32)) ∧ ((¬ grain < (0 : Int32) ∧ ¬ (9 : Int32) < grain) ∧ ((¬ wetness < (0 : Int32) ∧ ¬ (40 : Int32) < wetness) ∧ (¬ many < (1 : Int32) ∧ ¬ (500 : Int32) < many)))))))), (0, .ref (A 0 0)), (1, .int wood), (2, .int grain), (3, .int wetness), (4, .int many)]) rfl dX3_slats_58 ?_
    refine g_aload_n F 1 rfl rfl dX3_slats_60 ?_
    refine g_iload F 0 rfl dX3_slats_61 ?_
    have J_11 : gW (X, G, 7, Q) (gP 1 G (gsr S.1 0 0 (upd (S.1 0 0) 8 0), S.2) A Fr []) [(5, .int (gb (((wood = (99 : Int32)) ∧ ((¬ grain < (0 : Int32) ∧ ¬ (9 : Int32) < grain) ∧ ((¬ wetness < (0 : Int32) ∧ ¬ (40 : Int32) < wetness) ∧ (¬ many < (1 : Int32) ∧ ¬ (500 : Int32) < many)))) ∨ (¬ (wood = (99 : Int32)) ∧ ((wood = (98 : Int32)) ∧ ((¬ grain < (0 : Int32) ∧ ¬ (9 : Int32) < grain) ∧ ((¬ wetness < (0 : Int32) ∧ ¬ (40 : Int32) < wetness) ∧ (¬ many < (1 : Int32) ∧ ¬ (500 : Int32) < many)))))))), (0, .ref (A 0 0)), (1, .int wood), (2, .int grain), (3, .int wetness), (4, .int many)] 71 [.int (gb (¬ (((wood = (99 : Int32)) ∧ ((¬ grain < (0 : Int32) ∧ ¬ (9 : Int32) < grain) ∧ ((¬ wetness < (0 : Int32) ∧ ¬ (40 : Int32) < wetness) ∧ (¬ many < (1 : Int32) ∧ ¬ (500 : Int32) < many)))) ∨ (¬ (wood = (99 : Int32)) ∧ ((wood = (98 : Int32)) ∧ ((¬ grain < (0 : Int32) ∧ ¬ (9 : Int32) < grain) ∧ ((¬ wetness < (0 : Int32) ∧ ¬ (40 : Int32) < wetness) ∧ (¬ many < (1 : Int32) ∧ ¬ (500 : Int32) < many)))))))), .ref (A 0 0)] 0 0 := by
      refine g_iconst F (v := (1 : Int32)) (by decide) dX3_slats_71 ?_
      refine g_callV F (kX3_fails hl (b := gb (¬ (((wood = (99 : Int32)) ∧ ((¬ grain < (0 : Int32) ∧ ¬ (9 : Int32) < grain) ∧ ((¬ wetness < (0 : Int32) ∧ ¬ (40 : Int32) < wetness) ∧ (¬ many < (1 : Int32) ∧ ¬ (500 : Int32) < many)))) ∨ (¬ (wood = (99 : Int32)) ∧ ((wood = (98 : Int32)) ∧ ((¬ grain < (0 : Int32) ∧ ¬ (9 : Int32) < grain) ∧ ((¬ wetness < (0 : Int32) ∧ ¬ (40 : Int32) < wetness) ∧ (¬ many < (1 : Int32) ∧ ¬ (500 : Int32) < many)))))))) (nu := (1 : Int32)) (c := ¬ (((wood = (99 : Int32)) ∧ ((¬ grain < (0 : Int32) ∧ ¬ (9 : Int32) < grain) ∧ ((¬ wetness < (0 : Int32) ∧ ¬ (40 : Int32) < wetness) ∧ (¬ many < (1 : Int32) ∧ ¬ (500 : Int32) < many)))) ∨ (¬ (wood = (99 : Int32)) ∧ ((wood = (98 : Int32)) ∧ ((¬ grain < (0 : Int32) ∧ ¬ (9 : Int32) < grain) ∧ ((¬ wetness < (0 : Int32) ∧ ¬ (40 : Int32) < wetness) ∧ (¬ many < (1 : Int32) ∧ ¬ (500 : Int32) < many))))))) gb_n0 (by decide) (pr_at (κ := 0) (i := 0) (by decide) (gc1 (gnl rfl)) (gce (show (gsr S.1 0 0 (upd (S.1 0 0) 8 0)) 0 0 = upd (S.1 0 0) 8 0 from gsr_s) rfl))) (g_recv F clX3 (gd_obj (pr_at (κ := 0) (i := 0) (by decide) (gc1 (gnl rfl)) (gce (show (gsr S.1 0 0 (upd (S.1 0 0) 8 0)) 0 0 = upd (S.1 0 0) 8 0 from gsr_s) rfl)))) q1456 q1458 qs7 q25 q1459 myX3_fails ⟨by decide, by decide⟩ rfl rfl (gle rfl) 0 0 (gle rfl) (gle rfl) (gle rfl) (gle rfl) dX3_slats_72 gx_n (gv_f (fun c_12 => ?_) (fun c_12 => ?_))
      · skip
        refine g_mono (P2 := gP 1 G (gsr (gsr S.1 0 0 (upd (S.1 0 0) 8 0)) 0 0 (upd (upd (S.1 0 0) 8 0) 8 (1 : Int32)), S.2) A Fr []) (pr_upRow (κ := 0) (i := 0) gM1 hF (upd (upd (S.1 0 0) 8 0) 8 (1 : Int32)) (by decide) (gc1 (gnl rfl)) (gce (show (gsr S.1 0 0 (upd (S.1 0 0) 8 0)) 0 0 = upd (S.1 0 0) 8 0 from gsr_s) rfl) rfl) ?_
        refine g_if_ne F (tgt := 105) (by decide) dX3_slats_75 (fun _ => ?_) (fun c => absurd c (by decide))
        refine g_iconst F (v := (-1 : Int32)) (by decide) dX3_slats_105 ?_
        exact g_retI F E rfl rfl (gle rfl) (gle rfl) dX3_slats_106 (fun _ hp => ⟨_, _, (if_pos c_12), rfl, ⟨A, rfl, gP_T0 hp⟩⟩)
      · skip
        refine g_if_ne F (tgt := 105) (by decide) dX3_slats_75 (fun c => absurd c (by decide)) (fun _ => ?_)
        refine g_aload_n F 1 rfl rfl dX3_slats_78 ?_
        refine g_aload_n F 1 rfl rfl dX3_slats_79 ?_
        refine g_get F clX3 10 (by decide) q1399 (v := .ref (A 309 0)) (gd_get (pr_at (κ := 0) (i := 0) (by decide) (gc1 (gnl rfl)) (gce (show (gsr S.1 0 0 (upd (S.1 0 0) 8 0)) 0 0 = upd (S.1 0 0) 8 0 from gsr_s) rfl)) rfl) dX3_slats_80 ?_
        refine g_callF F clJ3 (kJ3_size hl (pr_ls (M := 1) (S := (gsr S.1 0 0 (upd (S.1 0 0) 8 0), S.2)) (A := A) (κ := 9) (by decide) (Or.inl ⟨by decide, by decide⟩) (fun q => by first | decide | exact absurd q (by decide)) (fun q => by first | decide | exact absurd q (by decide)))) (g_recv F clJ3 (gls_obj (pr_ls (M := 1) (S := (gsr S.1 0 0 (upd (S.1 0 0) 8 0), S.2)) (A := A) (κ := 9) (by decide) (Or.inl ⟨by decide, by decide⟩) (fun q => by first | decide | exact absurd q (by decide)) (fun q => by first | decide | exact absurd q (by decide))))) q1491 q634 q636 q22 q638 (List.mem_of_getElem? (i := 0) rfl) (gT_w q637 rfl) (gT_w q635 rfl) (gT_w q293 rfl) gface_0 ⟨by decide, by decide⟩ rfl rfl (gle rfl) 0 0 (gle rfl) (gle rfl) (gle rfl) (gle rfl) dX3_slats_83 gx_n (gv_i ?_)
        refine g_bipush F (v := (12 : Int32)) (by decide) dX3_slats_88 ?_
        have J_14 : gW (X, G, 7, Q) (gP 1 G (gsr S.1 0 0 (upd (S.1 0 0) 8 0), S.2) A Fr []) [(5, .int (gb (((wood = (99 : Int32)) ∧ ((¬ grain < (0 : Int32) ∧ ¬ (9 : Int32) < grain) ∧ ((¬ wetness < (0 : Int32) ∧ ¬ (40 : Int32) < wetness) ∧ (¬ many < (1 : Int32) ∧ ¬ (500 : Int32) < many)))) ∨ (¬ (wood = (99 : Int32)) ∧ ((wood = (98 : Int32)) ∧ ((¬ grain < (0 : Int32) ∧ ¬ (9 : Int32) < grain) ∧ ((¬ wetness < (0 : Int32) ∧ ¬ (40 : Int32) < wetness) ∧ (¬ many < (1 : Int32) ∧ ¬ (500 : Int32) < many)))))))), (0, .ref (A 0 0)), (1, .int wood), (2, .int grain), (3, .int wetness), (4, .int many)] 98 [.int (gb ((nI (S.2 9)) = (12 : Int32))), .ref (A 0 0)] 0 0 := by
          refine g_iconst F (v := (2 : Int32)) (by decide) dX3_slats_98 ?_
          refine g_callV F (kX3_fails hl (b := gb ((nI (S.2 9)) = (12 : Int32))) (nu := (2 : Int32)) (c := (nI (S.2 9)) = (12 : Int32)) gb_n0 (by decide) (pr_at (κ := 0) (i := 0) (by decide) (gc1 (gnl rfl)) (gce (show (gsr S.1 0 0 (upd (S.1 0 0) 8 0)) 0 0 = upd (S.1 0 0) 8 0 from gsr_s) rfl))) (g_recv F clX3 (gd_obj (pr_at (κ := 0) (i := 0) (by decide) (gc1 (gnl rfl)) (gce (show (gsr S.1 0 0 (upd (S.1 0 0) 8 0)) 0 0 = upd (S.1 0 0) 8 0 from gsr_s) rfl)))) q1456 q1458 qs7 q25 q1459 myX3_fails ⟨by decide, by decide⟩ rfl rfl (gle rfl) 0 0 (gle rfl) (gle rfl) (gle rfl) (gle rfl) dX3_slats_99 gx_n (gv_f (fun c_15 => ?_) (fun c_15 => ?_))
          · skip
            refine g_mono (P2 := gP 1 G (gsr (gsr S.1 0 0 (upd (S.1 0 0) 8 0)) 0 0 (upd (upd (S.1 0 0) 8 0) 8 (2 : Int32)), S.2) A Fr []) (pr_upRow (κ := 0) (i := 0) gM1 hF (upd (upd (S.1 0 0) 8 0) 8 (2 : Int32)) (by decide) (gc1 (gnl rfl)) (gce (show (gsr S.1 0 0 (upd (S.1 0 0) 8 0)) 0 0 = upd (S.1 0 0) 8 0 from gsr_s) rfl) rfl) ?_
            refine g_if_eq F (tgt := 107) (by decide) dX3_slats_102 (fun c => absurd c (by decide)) (fun _ => ?_)
            refine g_iconst F (v := (-1 : Int32)) (by decide) dX3_slats_105 ?_
            exact g_retI F E rfl rfl (gle rfl) (gle rfl) dX3_slats_106 (fun _ hp => ⟨_, _, ((if_neg c_12).trans (if_pos c_15)), rfl, ⟨A, rfl, gP_T0 hp⟩⟩)
          · skip
            refine g_if_eq F (tgt := 107) (by decide) dX3_slats_102 (fun _ => ?_) (fun c => absurd c (by decide))
            refine g_new F clX12 q1623 q1624 q50 (5000, 0) (fs := [.int (0 : Int32), .int (0 : Int32), .int (0 : Int32), .int (0 : Int32), .int (0 : Int32), .int (0 : Int32)]) rfl 1 6 (gle rfl) (gle rfl) (gle rfl) (gle rfl) (Pa := fun a_16 => gP 1 G (gsr S.1 0 0 (upd (S.1 0 0) 8 0), S.2) A Fr [(a_16, .inr (9, [.int (0 : Int32), .int (0 : Int32), .int (0 : Int32), .int (0 : Int32), .int (0 : Int32), .int (0 : Int32)]))]) (pr_new hF) dX3_slats_107 (fun a_16 => ?_)
            refine g_dup F rfl dX3_slats_110 ?_
            refine g_callIN F (kX12_init hl (pr_atT (j := 0) rfl)) rfl (gT_w q1625 rfl) q1626 q50 q1627 myX12_init ⟨by decide, by decide⟩ rfl rfl (gle rfl) 1 6 (gle rfl) (gle rfl) (gle rfl) (gle rfl) dX3_slats_111 gx_n (gv_v ?_)
            refine g_mono (P2 := gP 1 G (gsr S.1 0 0 (upd (S.1 0 0) 8 0), S.2) A Fr [(a_16, .inr (9, [.int (0 : Int32), .int (0 : Int32), .int (0 : Int32), .int (0 : Int32), .int (0 : Int32), .int (0 : Int32)]))]) (pr_up gM1 hF (j := 0) rfl) ?_
            refine g_astore F (by show 6 < 7; decide) (lv2 := [(6, .ref a_16), (5, .int (gb (((wood = (99 : Int32)) ∧ ((¬ grain < (0 : Int32) ∧ ¬ (9 : Int32) < grain) ∧ ((¬ wetness < (0 : Int32) ∧ ¬ (40 : Int32) < wetness) ∧ (¬ many < (1 : Int32) ∧ ¬ (500 : Int32) < many)))) ∨ (¬ (wood = (99 : Int32)) ∧ ((wood = (98 : Int32)) ∧ ((¬ grain < (0 : Int32) ∧ ¬ (9 : Int32) < grain) ∧ ((¬ wetness < (0 : Int32) ∧ ¬ (40 : Int32) < wetness) ∧ (¬ many < (1 : Int32) ∧ ¬ (500 : Int32) < many)))))))), (0, .ref (A 0 0)), (1, .int wood), (2, .int grain), (3, .int wetness), (4, .int many)]) rfl dX3_slats_114 ?_
            refine g_aload F 0 rfl dX3_slats_116 ?_
            refine g_iload_n F 3 rfl rfl dX3_slats_118 ?_
            refine g_putN (P2 := gP 1 G (gsr S.1 0 0 (upd (S.1 0 0) 8 0), S.2) A Fr [(a_16, .inr (9, [.int wood, .int (0 : Int32), .int (0 : Int32), .int (0 : Int32), .int (0 : Int32), .int (0 : Int32)]))]) F clX12 0 (by decide) (gT_w q1629 rfl) rfl h_wc h_wf (pr_putX (f := 0) (T := [(a_16, .inr (9, [.int (0 : Int32), .int (0 : Int32), .int (0 : Int32), .int (0 : Int32), .int (0 : Int32), .int (0 : Int32)]))]) (fs := [.int (0 : Int32), .int (0 : Int32), .int (0 : Int32), .int (0 : Int32), .int (0 : Int32), .int (0 : Int32)]) (v := .int wood) gM1 hF (j := 0) rfl (gnl rfl)) dX3_slats_119 ?_
            refine g_aload F 0 rfl dX3_slats_122 ?_
            refine g_iload_n F 4 rfl rfl dX3_slats_124 ?_
            refine g_putN (P2 := gP 1 G (gsr S.1 0 0 (upd (S.1 0 0) 8 0), S.2) A Fr [(a_16, .inr (9, [.int wood, .int grain, .int (0 : Int32), .int (0 : Int32), .int (0 : Int32), .int (0 : Int32)]))]) F clX12 1 (by decide) (gT_w q1630 rfl) rfl rfl rfl (pr_putX (f := 1) (T := [(a_16, .inr (9, [.int wood, .int (0 : Int32), .int (0 : Int32), .int (0 : Int32), .int (0 : Int32), .int (0 : Int32)]))]) (fs := [.int wood, .int (0 : Int32), .int (0 : Int32), .int (0 : Int32), .int (0 : Int32), .int (0 : Int32)]) (v := .int grain) gM1 hF (j := 0) rfl (gnl rfl)) dX3_slats_125 ?_
            refine g_aload F 0 rfl dX3_slats_128 ?_
            refine g_iload_n F 5 rfl rfl dX3_slats_130 ?_
            refine g_putN (P2 := gP 1 G (gsr S.1 0 0 (upd (S.1 0 0) 8 0), S.2) A Fr [(a_16, .inr (9, [.int wood, .int grain, .int wetness, .int (0 : Int32), .int (0 : Int32), .int (0 : Int32)]))]) F clX12 2 (by decide) (gT_w q1631 rfl) rfl rfl rfl (pr_putX (f := 2) (T := [(a_16, .inr (9, [.int wood, .int grain, .int (0 : Int32), .int (0 : Int32), .int (0 : Int32), .int (0 : Int32)]))]) (fs := [.int wood, .int grain, .int (0 : Int32), .int (0 : Int32), .int (0 : Int32), .int (0 : Int32)]) (v := .int wetness) gM1 hF (j := 0) rfl (gnl rfl)) dX3_slats_131 ?_
            refine g_aload F 0 rfl dX3_slats_134 ?_
            refine g_iload F 6 rfl dX3_slats_136 ?_
            refine g_putN (P2 := gP 1 G (gsr S.1 0 0 (upd (S.1 0 0) 8 0), S.2) A Fr [(a_16, .inr (9, [.int wood, .int grain, .int wetness, .int many, .int (0 : Int32), .int (0 : Int32)]))]) F clX12 3 (by decide) (gT_w q1632 rfl) rfl rfl rfl (pr_putX (f := 3) (T := [(a_16, .inr (9, [.int wood, .int grain, .int wetness, .int (0 : Int32), .int (0 : Int32), .int (0 : Int32)]))]) (fs := [.int wood, .int grain, .int wetness, .int (0 : Int32), .int (0 : Int32), .int (0 : Int32)]) (v := .int many) gM1 hF (j := 0) rfl (gnl rfl)) dX3_slats_138 ?_
            refine g_aload_n F 2 rfl rfl dX3_slats_141 ?_
            refine g_get F clX3 10 (by decide) q1399 (v := .ref (A 309 0)) (gd_get (pr_at (κ := 0) (i := 0) (by decide) (gc1 (gnl rfl)) (gce (show (gsr S.1 0 0 (upd (S.1 0 0) 8 0)) 0 0 = upd (S.1 0 0) 8 0 from gsr_s) rfl)) rfl) dX3_slats_142 ?_
            refine g_aload F 0 rfl dX3_slats_145 ?_
            refine g_callF F clJ3 (kJ3_add hl (pr_ls (M := 1) (S := (gsr S.1 0 0 (upd (S.1 0 0) 8 0), S.2)) (A := A) (κ := 9) (by decide) (Or.inl ⟨by decide, by decide⟩) (fun q => by first | decide | exact absurd q (by decide)) (fun q => by first | decide | exact absurd q (by decide))) (Nat.le_trans (gw_64 (gWf_0 (r := upd (S.1 0 0) 8 0) hW (gw_b hW)) _) (by decide)) (pr_elT (j := 0) rfl (Or.inl ⟨_, _, rfl, by decide, by decide⟩)) (pr_el (by decide) (by decide) (fun q => by first | decide | exact absurd q (by decide)) (fun q => by first | decide | exact absurd q (by decide)))) (g_recv F clJ3 (gls_obj (pr_ls (M := 1) (S := (gsr S.1 0 0 (upd (S.1 0 0) 8 0), S.2)) (A := A) (κ := 9) (by decide) (Or.inl ⟨by decide, by decide⟩) (fun q => by first | decide | exact absurd q (by decide)) (fun q => by first | decide | exact absurd q (by decide))))) q1493 q680 q682 q22 q684 (List.mem_of_getElem? (i := 2) rfl) (gT_w q683 rfl) (gT_w q681 rfl) (gT_w q293 rfl) gface_2 ⟨by decide, by decide⟩ rfl rfl (gle rfl) 2 156 (gle rfl) (gle rfl) (gle rfl) (gle rfl) dX3_slats_147 gx_n (gv_i ?_)
            refine g_retag (P2 := gP 1 G (gsr (gsr S.1 0 0 (upd (S.1 0 0) 8 0)) 9 (S.2 9) (gRw [wood, grain, wetness, many, (0 : Int32), (0 : Int32)]), va_up S.2 9 (S.2 9 + 1)) (gAa A 9 (S.2 9) a_16) Fr []) (pr_add (T0 := []) (κ := 9) gM1 hF (gWf_0 (r := upd (S.1 0 0) 8 0) hW (gw_b hW)) (by decide) (by decide) (by decide) (gRw [wood, grain, wetness, many, (0 : Int32), (0 : Int32)]) rfl) ?_
            refine g_pop F rfl dX3_slats_152 ?_
            refine g_aload_n F 2 rfl rfl dX3_slats_153 ?_
            refine g_get F clX3 10 (by decide) q1399 (v := .ref (A 309 0)) (gd_get (pr_at (κ := 0) (i := 0) (by decide) (gc1 (gnl rfl)) (gce (show (gsr (gsr S.1 0 0 (upd (S.1 0 0) 8 0)) 9 (S.2 9) (gRw [wood, grain, wetness, many, (0 : Int32), (0 : Int32)])) 0 0 = upd (S.1 0 0) 8 0 from (gsr_p (by decide) gsr_s)) rfl)) rfl) dX3_slats_154 ?_
            refine g_callF F clJ3 (kJ3_size hl (pr_ls (M := 1) (S := (gsr (gsr S.1 0 0 (upd (S.1 0 0) 8 0)) 9 (S.2 9) (gRw [wood, grain, wetness, many, (0 : Int32), (0 : Int32)]), va_up S.2 9 (S.2 9 + 1))) (A := gAa A 9 (S.2 9) a_16) (κ := 9) (by decide) (Or.inl ⟨by decide, by decide⟩) (fun q => by first | decide | exact absurd q (by decide)) (fun q => by first | decide | exact absurd q (by decide)))) (g_recv F clJ3 (gls_obj (pr_ls (M := 1) (S := (gsr (gsr S.1 0 0 (upd (S.1 0 0) 8 0)) 9 (S.2 9) (gRw [wood, grain, wetness, many, (0 : Int32), (0 : Int32)]), va_up S.2 9 (S.2 9 + 1))) (A := gAa A 9 (S.2 9) a_16) (κ := 9) (by decide) (Or.inl ⟨by decide, by decide⟩) (fun q => by first | decide | exact absurd q (by decide)) (fun q => by first | decide | exact absurd q (by decide))))) q1491 q634 q636 q22 q638 (List.mem_of_getElem? (i := 0) rfl) (gT_w q637 rfl) (gT_w q635 rfl) (gT_w q293 rfl) gface_0 ⟨by decide, by decide⟩ rfl rfl (gle rfl) 2 156 (gle rfl) (gle rfl) (gle rfl) (gle rfl) dX3_slats_157 gx_n (gv_i ?_)
            refine g_iconst F (v := (1 : Int32)) (by decide) dX3_slats_162 ?_
            refine g_isub F dX3_slats_163 ?_
            refine g_top (nI_pred (S.2 9)) ?_
            exact g_retI F E rfl rfl (gle rfl) (gle rfl) dX3_slats_164 (fun _ hp => ⟨_, _, ((if_neg c_12).trans (if_neg c_15)), rfl, ⟨gAa A 9 (S.2 9) a_16, rfl, gP_T0 hp⟩⟩)
        refine g_icmp_ne F (tgt := 97) (by decide) dX3_slats_90 (fun c_13 => ?_) (fun c_13 => ?_)
        · skip
          refine g_iconst F (v := (0 : Int32)) (by decide) dX3_slats_97 ?_
          exact g_top (gb_f c_13) J_14
        · skip
          refine g_iconst F (v := (1 : Int32)) (by decide) dX3_slats_93 ?_
          refine g_goto F (tgt := 98) (by decide) dX3_slats_94 ?_
          exact g_top (gb_t c_13) J_14
    refine gb_if_ne F (tgt := 70) (by decide) dX3_slats_63 (fun c_10 => ?_) (fun c_10 => ?_)
    · skip
      refine g_iconst F (v := (0 : Int32)) (by decide) dX3_slats_70 ?_
      exact g_top (gb_f (fun q => q c_10)) J_11
    · skip
      refine g_iconst F (v := (1 : Int32)) (by decide) dX3_slats_66 ?_
      refine g_goto F (tgt := 71) (by decide) dX3_slats_67 ?_
      exact g_top (gb_t c_10) J_11
  refine g_icmp_eq F (tgt := 16) (by decide) dX3_slats_7 (fun c_1 => ?_) (fun c_1 => ?_)
  · skip
    refine g_iload_n F 2 rfl rfl dX3_slats_16 ?_
    refine g_i2l F dX3_slats_17 ?_
    refine g_lconst F (v := (0 : Int64)) (by decide) dX3_slats_18 ?_
    refine g_ldc2 F (v := (9 : Int64)) q1489 dX3_slats_19 ?_
    refine g_callS F (kX3_in hl (x := grain) (lo := (0 : Int32)) (hi := (9 : Int32)) (by decide) (by decide)) (lw_S q1453 q1454 q25 q1455) myX3_in ⟨by decide, by decide⟩ rfl rfl (gle rfl) 0 0 (gle rfl) (gle rfl) (gle rfl) (gle rfl) dX3_slats_22 gx_n (gv_i ?_)
    refine gb_if_eq F (tgt := 57) (by decide) dX3_slats_25 (fun c_2 => ?_) (fun c_2 => ?_)
    · skip
      refine g_iconst F (v := (0 : Int32)) (by decide) dX3_slats_57 ?_
      exact g_top (gb_f (fun q => q.elim (fun z => (fun q => c_2 q.1) z.2) (fun z => z.1 c_1))) J_9
    · skip
      refine g_iload_n F 3 rfl rfl dX3_slats_28 ?_
      refine g_i2l F dX3_slats_29 ?_
      refine g_lconst F (v := (0 : Int64)) (by decide) dX3_slats_30 ?_
      refine g_ldc2 F (v := (40 : Int64)) q1622 dX3_slats_31 ?_
      refine g_callS F (kX3_in hl (x := wetness) (lo := (0 : Int32)) (hi := (40 : Int32)) (by decide) (by decide)) (lw_S q1453 q1454 q25 q1455) myX3_in ⟨by decide, by decide⟩ rfl rfl (gle rfl) 0 0 (gle rfl) (gle rfl) (gle rfl) (gle rfl) dX3_slats_34 gx_n (gv_i ?_)
      refine gb_if_eq F (tgt := 57) (by decide) dX3_slats_37 (fun c_3 => ?_) (fun c_3 => ?_)
      · skip
        refine g_iconst F (v := (0 : Int32)) (by decide) dX3_slats_57 ?_
        exact g_top (gb_f (fun q => q.elim (fun z => (fun q => (fun q => c_3 q.1) q.2) z.2) (fun z => z.1 c_1))) J_9
      · skip
        refine g_iload F 4 rfl dX3_slats_40 ?_
        refine g_i2l F dX3_slats_42 ?_
        refine g_lconst F (v := (1 : Int64)) (by decide) dX3_slats_43 ?_
        refine g_ldc2 F (v := (500 : Int64)) q1452 dX3_slats_44 ?_
        refine g_callS F (kX3_in hl (x := many) (lo := (1 : Int32)) (hi := (500 : Int32)) (by decide) (by decide)) (lw_S q1453 q1454 q25 q1455) myX3_in ⟨by decide, by decide⟩ rfl rfl (gle rfl) 0 0 (gle rfl) (gle rfl) (gle rfl) (gle rfl) dX3_slats_47 gx_n (gv_i ?_)
        refine gb_if_eq F (tgt := 57) (by decide) dX3_slats_50 (fun c_4 => ?_) (fun c_4 => ?_)
        · skip
          refine g_iconst F (v := (0 : Int32)) (by decide) dX3_slats_57 ?_
          exact g_top (gb_f (fun q => q.elim (fun z => (fun q => (fun q => c_4 q.2) q.2) z.2) (fun z => z.1 c_1))) J_9
        · skip
          refine g_iconst F (v := (1 : Int32)) (by decide) dX3_slats_53 ?_
          refine g_goto F (tgt := 58) (by decide) dX3_slats_54 ?_
          exact g_top (gb_t (Or.inl ⟨c_1, ⟨c_2, ⟨c_3, c_4⟩⟩⟩)) J_9
  · skip
    refine g_iload_n F 1 rfl rfl dX3_slats_10 ?_
    refine g_bipush F (v := (98 : Int32)) (by decide) dX3_slats_11 ?_
    refine g_icmp_ne F (tgt := 57) (by decide) dX3_slats_13 (fun c_5 => ?_) (fun c_5 => ?_)
    · skip
      refine g_iconst F (v := (0 : Int32)) (by decide) dX3_slats_57 ?_
      exact g_top (gb_f (fun q => q.elim (fun z => c_1 z.1) (fun z => (fun q => c_5 q.1) z.2))) J_9
    · skip
      refine g_iload_n F 2 rfl rfl dX3_slats_16 ?_
      refine g_i2l F dX3_slats_17 ?_
      refine g_lconst F (v := (0 : Int64)) (by decide) dX3_slats_18 ?_
      refine g_ldc2 F (v := (9 : Int64)) q1489 dX3_slats_19 ?_
      refine g_callS F (kX3_in hl (x := grain) (lo := (0 : Int32)) (hi := (9 : Int32)) (by decide) (by decide)) (lw_S q1453 q1454 q25 q1455) myX3_in ⟨by decide, by decide⟩ rfl rfl (gle rfl) 0 0 (gle rfl) (gle rfl) (gle rfl) (gle rfl) dX3_slats_22 gx_n (gv_i ?_)
      refine gb_if_eq F (tgt := 57) (by decide) dX3_slats_25 (fun c_6 => ?_) (fun c_6 => ?_)
      · skip
        refine g_iconst F (v := (0 : Int32)) (by decide) dX3_slats_57 ?_
        exact g_top (gb_f (fun q => q.elim (fun z => c_1 z.1) (fun z => (fun q => (fun q => c_6 q.1) q.2) z.2))) J_9
      · skip
        refine g_iload_n F 3 rfl rfl dX3_slats_28 ?_
        refine g_i2l F dX3_slats_29 ?_
        refine g_lconst F (v := (0 : Int64)) (by decide) dX3_slats_30 ?_
        refine g_ldc2 F (v := (40 : Int64)) q1622 dX3_slats_31 ?_
        refine g_callS F (kX3_in hl (x := wetness) (lo := (0 : Int32)) (hi := (40 : Int32)) (by decide) (by decide)) (lw_S q1453 q1454 q25 q1455) myX3_in ⟨by decide, by decide⟩ rfl rfl (gle rfl) 0 0 (gle rfl) (gle rfl) (gle rfl) (gle rfl) dX3_slats_34 gx_n (gv_i ?_)
        refine gb_if_eq F (tgt := 57) (by decide) dX3_slats_37 (fun c_7 => ?_) (fun c_7 => ?_)
        · skip
          refine g_iconst F (v := (0 : Int32)) (by decide) dX3_slats_57 ?_
          exact g_top (gb_f (fun q => q.elim (fun z => c_1 z.1) (fun z => (fun q => (fun q => (fun q => c_7 q.1) q.2) q.2) z.2))) J_9
        · skip
          refine g_iload F 4 rfl dX3_slats_40 ?_
          refine g_i2l F dX3_slats_42 ?_
          refine g_lconst F (v := (1 : Int64)) (by decide) dX3_slats_43 ?_
          refine g_ldc2 F (v := (500 : Int64)) q1452 dX3_slats_44 ?_
          refine g_callS F (kX3_in hl (x := many) (lo := (1 : Int32)) (hi := (500 : Int32)) (by decide) (by decide)) (lw_S q1453 q1454 q25 q1455) myX3_in ⟨by decide, by decide⟩ rfl rfl (gle rfl) 0 0 (gle rfl) (gle rfl) (gle rfl) (gle rfl) dX3_slats_47 gx_n (gv_i ?_)
          refine gb_if_eq F (tgt := 57) (by decide) dX3_slats_50 (fun c_8 => ?_) (fun c_8 => ?_)
          · skip
            refine g_iconst F (v := (0 : Int32)) (by decide) dX3_slats_57 ?_
            exact g_top (gb_f (fun q => q.elim (fun z => c_1 z.1) (fun z => (fun q => (fun q => (fun q => c_8 q.2) q.2) q.2) z.2))) J_9
          · skip
            refine g_iconst F (v := (1 : Int32)) (by decide) dX3_slats_53 ?_
            refine g_goto F (tgt := 58) (by decide) dX3_slats_54 ?_
            exact g_top (gb_t (Or.inr ⟨c_1, ⟨c_5, ⟨c_6, ⟨c_7, c_8⟩⟩⟩⟩)) J_9

def sM_press (S : gS) (mixture die kilos : Int32) : Value × gS := if ¬ (gIn mixture (S.2 7)) then (.int (-1 : Int32), (gsr (gsr S.1 0 0 (upd (S.1 0 0) 8 0)) 0 0 (upd (upd (S.1 0 0) 8 0) 8 (1 : Int32)), S.2)) else (if ¬ (¬ die < (0 : Int32) ∧ ¬ (3 : Int32) < die) ∨ (¬ ((1 : Int32) ≤ kilos)) then (.int (-1 : Int32), (gsr (gsr S.1 0 0 (upd (S.1 0 0) 8 0)) 0 0 (upd (upd (S.1 0 0) 8 0) 8 (2 : Int32)), S.2)) else (if ((S.1 7 mixture.toNatClampNeg 4) < kilos) ∨ (((200 : Int32) ≤ (S.1 3 0 die.toNatClampNeg)) ∨ (¬ (gGoes S (1 : Int32)))) then (.int (-1 : Int32), (gsr (gsr S.1 0 0 (upd (S.1 0 0) 8 0)) 0 0 (upd (upd (S.1 0 0) 8 0) 8 (3 : Int32)), S.2)) else (if (nI (S.2 8)) = (16 : Int32) then (.int (-1 : Int32), (gsr (gsr S.1 0 0 (upd (S.1 0 0) 8 0)) 0 0 (upd (upd (S.1 0 0) 8 0) 8 (4 : Int32)), S.2)) else (.int (nI (S.2 8)), (gsr (gsr (gsr (gsr S.1 0 0 (upd (S.1 0 0) 8 0)) 3 0 (upd (S.1 3 0) die.toNatClampNeg ((S.1 3 0 die.toNatClampNeg) + ((kilos * ((10 : Int32) - (S.1 7 mixture.toNatClampNeg 3))) / (5 : Int32))))) 7 mixture.toNatClampNeg (upd (S.1 7 mixture.toNatClampNeg) 4 ((S.1 7 mixture.toNatClampNeg 4) - kilos))) 8 (S.2 8) (gRw [mixture, (20 : Int32) * kilos, (0 : Int32), (20 : Int32) + ((S.1 3 0 die.toNatClampNeg) / (40 : Int32)), (0 : Int32), (0 : Int32), (-1 : Int32), 0, (0 : Int32), (0 : Int32), (0 : Int32), (0 : Int32)]), va_up S.2 8 (S.2 8 + 1))))))
theorem kX3_press {l : Launch} {G : gG} (hl : l.stackTraces = false) {S : gS} {a0 : Nat} {Fr : gH → Prop} (hF : gFr 1 Fr) (hW : gWf S) {mixture die kilos : Int32}  : gMet l yX3_press (ws_ yX3_press cX3_press 6 (some .int)) ⟨7, 2, 161, 731⟩ G [.ref a0, .int mixture, .int die, .int kilos] (gPE 1 G S a0 Fr) (gqN (sM_press S mixture die kilos) G a0 Fr) gxN := by
  refine gMet_of hl pnX3 (gle rfl) (fun X Q hX F E hNm => ?_)
  subst hX
  change gW (X, G, 6, Q) (gPE 1 G S a0 Fr) [(0, .ref a0), (1, .int mixture), (2, .int die), (3, .int kilos)] 0 [] 0 0
  refine g_pe (fun A hA => ?_)
  subst hA
  change gW _ _ [(0, .ref (A 0 0)), (1, .int mixture), (2, .int die), (3, .int kilos)] 0 [] 0 0
  refine g_aload_n F 0 rfl rfl dX3_press_0 ?_
  refine g_callV F (kX3_begins hl (pr_at (κ := 0) (i := 0) (by decide) (gc1 (gnl rfl)) (gce rfl rfl))) (g_recv F clX3 (gd_obj (pr_at (κ := 0) (i := 0) (by decide) (gc1 (gnl rfl)) (gce rfl rfl)))) q1448 q1450 qs6 q25 q1451 myX3_begins ⟨by decide, by decide⟩ rfl rfl (gle rfl) 0 0 (gle rfl) (gle rfl) (gle rfl) (gle rfl) dX3_press_1 gx_n (gv_v ?_)
  refine g_mono (P2 := gP 1 G (gsr S.1 0 0 (upd (S.1 0 0) 8 0), S.2) A Fr []) (pr_upRow (κ := 0) (i := 0) gM1 hF (upd (S.1 0 0) 8 0) (by decide) (gc1 (gnl rfl)) (gce rfl rfl) rfl) ?_
  refine g_aload_n F 0 rfl rfl dX3_press_4 ?_
  refine g_aload_n F 0 rfl rfl dX3_press_5 ?_
  refine g_get F clX3 6 (by decide) q1395 (v := .ref (A 307 0)) (gd_get (pr_at (κ := 0) (i := 0) (by decide) (gc1 (gnl rfl)) (gce (show (gsr S.1 0 0 (upd (S.1 0 0) 8 0)) 0 0 = upd (S.1 0 0) 8 0 from gsr_s) rfl)) rfl) dX3_press_6 ?_
  refine g_iload_n F 1 rfl rfl dX3_press_9 ?_
  refine g_callS F (kX3_isOf hl (pr_ls (M := 1) (S := (gsr S.1 0 0 (upd (S.1 0 0) 8 0), S.2)) (A := A) (κ := 7) (by decide) (Or.inl ⟨by decide, by decide⟩) (fun q => by first | decide | exact absurd q (by decide)) (fun q => by first | decide | exact absurd q (by decide))) (gw_n hW _) (x := mixture)) (lw_S q1502 q1503 q25 q1504) myX3_isOf ⟨by decide, by decide⟩ rfl rfl (gle rfl) 0 0 (gle rfl) (gle rfl) (gle rfl) (gle rfl) dX3_press_10 gx_n (gv_i ?_)
  have J_2 : gW (X, G, 6, Q) (gP 1 G (gsr S.1 0 0 (upd (S.1 0 0) 8 0), S.2) A Fr []) [(0, .ref (A 0 0)), (1, .int mixture), (2, .int die), (3, .int kilos)] 21 [.int (gb (¬ (gIn mixture (S.2 7)))), .ref (A 0 0)] 0 0 := by
    refine g_iconst F (v := (1 : Int32)) (by decide) dX3_press_21 ?_
    refine g_callV F (kX3_fails hl (b := gb (¬ (gIn mixture (S.2 7)))) (nu := (1 : Int32)) (c := ¬ (gIn mixture (S.2 7))) gb_n0 (by decide) (pr_at (κ := 0) (i := 0) (by decide) (gc1 (gnl rfl)) (gce (show (gsr S.1 0 0 (upd (S.1 0 0) 8 0)) 0 0 = upd (S.1 0 0) 8 0 from gsr_s) rfl))) (g_recv F clX3 (gd_obj (pr_at (κ := 0) (i := 0) (by decide) (gc1 (gnl rfl)) (gce (show (gsr S.1 0 0 (upd (S.1 0 0) 8 0)) 0 0 = upd (S.1 0 0) 8 0 from gsr_s) rfl)))) q1456 q1458 qs7 q25 q1459 myX3_fails ⟨by decide, by decide⟩ rfl rfl (gle rfl) 0 0 (gle rfl) (gle rfl) (gle rfl) (gle rfl) dX3_press_22 gx_n (gv_f (fun c_3 => ?_) (fun c_3 => ?_))
    · skip
      refine g_mono (P2 := gP 1 G (gsr (gsr S.1 0 0 (upd (S.1 0 0) 8 0)) 0 0 (upd (upd (S.1 0 0) 8 0) 8 (1 : Int32)), S.2) A Fr []) (pr_upRow (κ := 0) (i := 0) gM1 hF (upd (upd (S.1 0 0) 8 0) 8 (1 : Int32)) (by decide) (gc1 (gnl rfl)) (gce (show (gsr S.1 0 0 (upd (S.1 0 0) 8 0)) 0 0 = upd (S.1 0 0) 8 0 from gsr_s) rfl) rfl) ?_
      refine g_if_ne F (tgt := 58) (by decide) dX3_press_25 (fun _ => ?_) (fun c => absurd c (by decide))
      refine g_iconst F (v := (-1 : Int32)) (by decide) dX3_press_58 ?_
      exact g_retI F E rfl rfl (gle rfl) (gle rfl) dX3_press_59 (fun _ hp => ⟨_, _, (if_pos c_3), rfl, ⟨A, rfl, gP_T0 hp⟩⟩)
    · skip
      refine g_if_ne F (tgt := 58) (by decide) dX3_press_25 (fun c => absurd c (by decide)) (fun _ => ?_)
      refine g_aload_n F 0 rfl rfl dX3_press_28 ?_
      refine g_iload_n F 2 rfl rfl dX3_press_29 ?_
      refine g_i2l F dX3_press_30 ?_
      refine g_lconst F (v := (0 : Int64)) (by decide) dX3_press_31 ?_
      refine g_ldc2 F (v := (3 : Int64)) q1523 dX3_press_32 ?_
      refine g_callS F (kX3_in hl (x := die) (lo := (0 : Int32)) (hi := (3 : Int32)) (by decide) (by decide)) (lw_S q1453 q1454 q25 q1455) myX3_in ⟨by decide, by decide⟩ rfl rfl (gle rfl) 0 0 (gle rfl) (gle rfl) (gle rfl) (gle rfl) dX3_press_35 gx_n (gv_i ?_)
      have J_6 : gW (X, G, 6, Q) (gP 1 G (gsr S.1 0 0 (upd (S.1 0 0) 8 0), S.2) A Fr []) [(0, .ref (A 0 0)), (1, .int mixture), (2, .int die), (3, .int kilos)] 51 [.int (gb (¬ (¬ die < (0 : Int32) ∧ ¬ (3 : Int32) < die) ∨ (¬ ((1 : Int32) ≤ kilos)))), .ref (A 0 0)] 0 0 := by
        refine g_iconst F (v := (2 : Int32)) (by decide) dX3_press_51 ?_
        refine g_callV F (kX3_fails hl (b := gb (¬ (¬ die < (0 : Int32) ∧ ¬ (3 : Int32) < die) ∨ (¬ ((1 : Int32) ≤ kilos)))) (nu := (2 : Int32)) (c := ¬ (¬ die < (0 : Int32) ∧ ¬ (3 : Int32) < die) ∨ (¬ ((1 : Int32) ≤ kilos))) gb_n0 (by decide) (pr_at (κ := 0) (i := 0) (by decide) (gc1 (gnl rfl)) (gce (show (gsr S.1 0 0 (upd (S.1 0 0) 8 0)) 0 0 = upd (S.1 0 0) 8 0 from gsr_s) rfl))) (g_recv F clX3 (gd_obj (pr_at (κ := 0) (i := 0) (by decide) (gc1 (gnl rfl)) (gce (show (gsr S.1 0 0 (upd (S.1 0 0) 8 0)) 0 0 = upd (S.1 0 0) 8 0 from gsr_s) rfl)))) q1456 q1458 qs7 q25 q1459 myX3_fails ⟨by decide, by decide⟩ rfl rfl (gle rfl) 0 0 (gle rfl) (gle rfl) (gle rfl) (gle rfl) dX3_press_52 gx_n (gv_f (fun c_7 => ?_) (fun c_7 => ?_))
        · skip
          refine g_mono (P2 := gP 1 G (gsr (gsr S.1 0 0 (upd (S.1 0 0) 8 0)) 0 0 (upd (upd (S.1 0 0) 8 0) 8 (2 : Int32)), S.2) A Fr []) (pr_upRow (κ := 0) (i := 0) gM1 hF (upd (upd (S.1 0 0) 8 0) 8 (2 : Int32)) (by decide) (gc1 (gnl rfl)) (gce (show (gsr S.1 0 0 (upd (S.1 0 0) 8 0)) 0 0 = upd (S.1 0 0) 8 0 from gsr_s) rfl) rfl) ?_
          refine g_if_eq F (tgt := 60) (by decide) dX3_press_55 (fun c => absurd c (by decide)) (fun _ => ?_)
          refine g_iconst F (v := (-1 : Int32)) (by decide) dX3_press_58 ?_
          exact g_retI F E rfl rfl (gle rfl) (gle rfl) dX3_press_59 (fun _ hp => ⟨_, _, ((if_neg c_3).trans (if_pos c_7)), rfl, ⟨A, rfl, gP_T0 hp⟩⟩)
        · skip
          refine g_if_eq F (tgt := 60) (by decide) dX3_press_55 (fun _ => ?_) (fun c => absurd c (by decide))
          refine g_aload_n F 0 rfl rfl dX3_press_60 ?_
          refine g_get F clX3 6 (by decide) q1395 (v := .ref (A 307 0)) (gd_get (pr_at (κ := 0) (i := 0) (by decide) (gc1 (gnl rfl)) (gce (show (gsr S.1 0 0 (upd (S.1 0 0) 8 0)) 0 0 = upd (S.1 0 0) 8 0 from gsr_s) rfl)) rfl) dX3_press_61 ?_
          refine g_iload_n F 1 rfl rfl dX3_press_64 ?_
          refine g_callF F clJ3 (kJ3_get hl (pr_ls (M := 1) (S := (gsr S.1 0 0 (upd (S.1 0 0) 8 0), S.2)) (A := A) (κ := 7) (by decide) (Or.inl ⟨by decide, by decide⟩) (fun q => by first | decide | exact absurd q (by decide)) (fun q => by first | decide | exact absurd q (by decide))) (j := mixture.toNatClampNeg) (Decidable.not_not.mp c_3).2 (gw_n hW _) rfl (Decidable.not_not.mp c_3).1) (g_recv F clJ3 (gls_obj (pr_ls (M := 1) (S := (gsr S.1 0 0 (upd (S.1 0 0) 8 0), S.2)) (A := A) (κ := 7) (by decide) (Or.inl ⟨by decide, by decide⟩) (fun q => by first | decide | exact absurd q (by decide)) (fun q => by first | decide | exact absurd q (by decide))))) q1506 q809 q811 q22 q813 (List.mem_of_getElem? (i := 1) rfl) (gT_w q812 rfl) (gT_w q810 rfl) (gT_w q293 rfl) gface_1 ⟨by decide, by decide⟩ rfl rfl (gle rfl) 0 0 (gle rfl) (gle rfl) (gle rfl) (gle rfl) dX3_press_65 gx_n (gv_i ?_)
          refine g_castS F (g_recvI F (pr_at (κ := 7) (i := mixture.toNatClampNeg) (by decide) (gc6 (by decide) (Decidable.not_not.mp c_3).2) (gce (show (gsr S.1 0 0 (upd (S.1 0 0) 8 0)) 7 mixture.toNatClampNeg = S.1 7 mixture.toNatClampNeg from (gsr_p (by decide) rfl)) rfl))) q1507 dX3_press_70 ?_
          refine g_astore F (by show 4 < 6; decide) (lv2 := [(4, .ref (A 7 mixture.toNatClampNeg)), (0, .ref (A 0 0)), (1, .int mixture), (2, .int die), (3, .int kilos)]) rfl dX3_press_73 ?_
          refine g_aload_n F 1 rfl rfl dX3_press_75 ?_
          refine g_aload F 0 rfl dX3_press_76 ?_
          refine g_iconst F (v := (4 : Int32)) (by decide) dX3_press_78 ?_
          refine g_ialdN F (m := 4) rfl (by decide) (by decide) (pr_at (κ := 7) (i := mixture.toNatClampNeg) (by decide) (gc6 (by decide) (Decidable.not_not.mp c_3).2) (gce (show (gsr S.1 0 0 (upd (S.1 0 0) 8 0)) 7 mixture.toNatClampNeg = S.1 7 mixture.toNatClampNeg from (gsr_p (by decide) rfl)) rfl)) dX3_press_79 ?_
          change gW _ _ _ _ (.int (S.1 7 mixture.toNatClampNeg 4) :: _) _ _
          refine g_iload_n F 4 rfl rfl dX3_press_80 ?_
          have J_11 : gW (X, G, 6, Q) (gP 1 G (gsr S.1 0 0 (upd (S.1 0 0) 8 0), S.2) A Fr []) [(4, .ref (A 7 mixture.toNatClampNeg)), (0, .ref (A 0 0)), (1, .int mixture), (2, .int die), (3, .int kilos)] 109 [.int (gb (((S.1 7 mixture.toNatClampNeg 4) < kilos) ∨ (((200 : Int32) ≤ (S.1 3 0 die.toNatClampNeg)) ∨ (¬ (gGoes S (1 : Int32)))))), .ref (A 0 0)] 0 0 := by
            refine g_iconst F (v := (3 : Int32)) (by decide) dX3_press_109 ?_
            refine g_callV F (kX3_fails hl (b := gb (((S.1 7 mixture.toNatClampNeg 4) < kilos) ∨ (((200 : Int32) ≤ (S.1 3 0 die.toNatClampNeg)) ∨ (¬ (gGoes S (1 : Int32)))))) (nu := (3 : Int32)) (c := ((S.1 7 mixture.toNatClampNeg 4) < kilos) ∨ (((200 : Int32) ≤ (S.1 3 0 die.toNatClampNeg)) ∨ (¬ (gGoes S (1 : Int32))))) gb_n0 (by decide) (pr_at (κ := 0) (i := 0) (by decide) (gc1 (gnl rfl)) (gce (show (gsr S.1 0 0 (upd (S.1 0 0) 8 0)) 0 0 = upd (S.1 0 0) 8 0 from gsr_s) rfl))) (g_recv F clX3 (gd_obj (pr_at (κ := 0) (i := 0) (by decide) (gc1 (gnl rfl)) (gce (show (gsr S.1 0 0 (upd (S.1 0 0) 8 0)) 0 0 = upd (S.1 0 0) 8 0 from gsr_s) rfl)))) q1456 q1458 qs7 q25 q1459 myX3_fails ⟨by decide, by decide⟩ rfl rfl (gle rfl) 0 0 (gle rfl) (gle rfl) (gle rfl) (gle rfl) dX3_press_110 gx_n (gv_f (fun c_12 => ?_) (fun c_12 => ?_))
            · skip
              refine g_mono (P2 := gP 1 G (gsr (gsr S.1 0 0 (upd (S.1 0 0) 8 0)) 0 0 (upd (upd (S.1 0 0) 8 0) 8 (3 : Int32)), S.2) A Fr []) (pr_upRow (κ := 0) (i := 0) gM1 hF (upd (upd (S.1 0 0) 8 0) 8 (3 : Int32)) (by decide) (gc1 (gnl rfl)) (gce (show (gsr S.1 0 0 (upd (S.1 0 0) 8 0)) 0 0 = upd (S.1 0 0) 8 0 from gsr_s) rfl) rfl) ?_
              refine g_if_ne F (tgt := 143) (by decide) dX3_press_113 (fun _ => ?_) (fun c => absurd c (by decide))
              refine g_iconst F (v := (-1 : Int32)) (by decide) dX3_press_143 ?_
              exact g_retI F E rfl rfl (gle rfl) (gle rfl) dX3_press_144 (fun _ hp => ⟨_, _, ((if_neg c_3).trans ((if_neg c_7).trans (if_pos c_12))), rfl, ⟨A, rfl, gP_T0 hp⟩⟩)
            · skip
              refine g_if_ne F (tgt := 143) (by decide) dX3_press_113 (fun c => absurd c (by decide)) (fun _ => ?_)
              refine g_aload_n F 1 rfl rfl dX3_press_116 ?_
              refine g_aload_n F 1 rfl rfl dX3_press_117 ?_
              refine g_get F clX3 9 (by decide) q1398 (v := .ref (A 308 0)) (gd_get (pr_at (κ := 0) (i := 0) (by decide) (gc1 (gnl rfl)) (gce (show (gsr S.1 0 0 (upd (S.1 0 0) 8 0)) 0 0 = upd (S.1 0 0) 8 0 from gsr_s) rfl)) rfl) dX3_press_118 ?_
              refine g_callF F clJ3 (kJ3_size hl (pr_ls (M := 1) (S := (gsr S.1 0 0 (upd (S.1 0 0) 8 0), S.2)) (A := A) (κ := 8) (by decide) (Or.inl ⟨by decide, by decide⟩) (fun q => by first | decide | exact absurd q (by decide)) (fun q => by first | decide | exact absurd q (by decide)))) (g_recv F clJ3 (gls_obj (pr_ls (M := 1) (S := (gsr S.1 0 0 (upd (S.1 0 0) 8 0), S.2)) (A := A) (κ := 8) (by decide) (Or.inl ⟨by decide, by decide⟩) (fun q => by first | decide | exact absurd q (by decide)) (fun q => by first | decide | exact absurd q (by decide))))) q1491 q634 q636 q22 q638 (List.mem_of_getElem? (i := 0) rfl) (gT_w q637 rfl) (gT_w q635 rfl) (gT_w q293 rfl) gface_0 ⟨by decide, by decide⟩ rfl rfl (gle rfl) 0 0 (gle rfl) (gle rfl) (gle rfl) (gle rfl) dX3_press_121 gx_n (gv_i ?_)
              refine g_bipush F (v := (16 : Int32)) (by decide) dX3_press_126 ?_
              have J_14 : gW (X, G, 6, Q) (gP 1 G (gsr S.1 0 0 (upd (S.1 0 0) 8 0), S.2) A Fr []) [(4, .ref (A 7 mixture.toNatClampNeg)), (0, .ref (A 0 0)), (1, .int mixture), (2, .int die), (3, .int kilos)] 136 [.int (gb ((nI (S.2 8)) = (16 : Int32))), .ref (A 0 0)] 0 0 := by
                refine g_iconst F (v := (4 : Int32)) (by decide) dX3_press_136 ?_
                refine g_callV F (kX3_fails hl (b := gb ((nI (S.2 8)) = (16 : Int32))) (nu := (4 : Int32)) (c := (nI (S.2 8)) = (16 : Int32)) gb_n0 (by decide) (pr_at (κ := 0) (i := 0) (by decide) (gc1 (gnl rfl)) (gce (show (gsr S.1 0 0 (upd (S.1 0 0) 8 0)) 0 0 = upd (S.1 0 0) 8 0 from gsr_s) rfl))) (g_recv F clX3 (gd_obj (pr_at (κ := 0) (i := 0) (by decide) (gc1 (gnl rfl)) (gce (show (gsr S.1 0 0 (upd (S.1 0 0) 8 0)) 0 0 = upd (S.1 0 0) 8 0 from gsr_s) rfl)))) q1456 q1458 qs7 q25 q1459 myX3_fails ⟨by decide, by decide⟩ rfl rfl (gle rfl) 0 0 (gle rfl) (gle rfl) (gle rfl) (gle rfl) dX3_press_137 gx_n (gv_f (fun c_15 => ?_) (fun c_15 => ?_))
                · skip
                  refine g_mono (P2 := gP 1 G (gsr (gsr S.1 0 0 (upd (S.1 0 0) 8 0)) 0 0 (upd (upd (S.1 0 0) 8 0) 8 (4 : Int32)), S.2) A Fr []) (pr_upRow (κ := 0) (i := 0) gM1 hF (upd (upd (S.1 0 0) 8 0) 8 (4 : Int32)) (by decide) (gc1 (gnl rfl)) (gce (show (gsr S.1 0 0 (upd (S.1 0 0) 8 0)) 0 0 = upd (S.1 0 0) 8 0 from gsr_s) rfl) rfl) ?_
                  refine g_if_eq F (tgt := 145) (by decide) dX3_press_140 (fun c => absurd c (by decide)) (fun _ => ?_)
                  refine g_iconst F (v := (-1 : Int32)) (by decide) dX3_press_143 ?_
                  exact g_retI F E rfl rfl (gle rfl) (gle rfl) dX3_press_144 (fun _ hp => ⟨_, _, ((if_neg c_3).trans ((if_neg c_7).trans ((if_neg c_12).trans (if_pos c_15)))), rfl, ⟨A, rfl, gP_T0 hp⟩⟩)
                · skip
                  refine g_if_eq F (tgt := 145) (by decide) dX3_press_140 (fun _ => ?_) (fun c => absurd c (by decide))
                  refine g_new F clX10 q1524 q1525 q48 (5000, 0) (fs := [.int (0 : Int32), .int (0 : Int32), .int (0 : Int32), .int (0 : Int32), .int (0 : Int32), .int (0 : Int32), .int (0 : Int32), .int (0 : Int32), .int (0 : Int32), .int (0 : Int32), .int (0 : Int32)]) rfl 1 11 (gle rfl) (gle rfl) (gle rfl) (gle rfl) (Pa := fun a_16 => gP 1 G (gsr S.1 0 0 (upd (S.1 0 0) 8 0), S.2) A Fr [(a_16, .inr (7, [.int (0 : Int32), .int (0 : Int32), .int (0 : Int32), .int (0 : Int32), .int (0 : Int32), .int (0 : Int32), .int (0 : Int32), .int (0 : Int32), .int (0 : Int32), .int (0 : Int32), .int (0 : Int32)]))]) (pr_new hF) dX3_press_145 (fun a_16 => ?_)
                  refine g_dup F rfl dX3_press_148 ?_
                  refine g_callIN F (kX10_init hl (pr_atT (j := 0) rfl)) rfl (gT_w q1526 rfl) q1527 q48 q1528 myX10_init ⟨by decide, by decide⟩ rfl rfl (gle rfl) 1 11 (gle rfl) (gle rfl) (gle rfl) (gle rfl) dX3_press_149 gx_n (gv_v ?_)
                  refine g_mono (P2 := gP 1 G (gsr S.1 0 0 (upd (S.1 0 0) 8 0), S.2) A Fr [(a_16, .inr (7, [.int (0 : Int32), .int (0 : Int32), .int (0 : Int32), .int (0 : Int32), .int (0 : Int32), .int (0 : Int32), .int (-1 : Int32), .int (0 : Int32), .int (0 : Int32), .int (0 : Int32), .int (0 : Int32)]))]) (pr_up gM1 hF (j := 0) rfl) ?_
                  refine g_astore F (by show 5 < 6; decide) (lv2 := [(5, .ref a_16), (4, .ref (A 7 mixture.toNatClampNeg)), (0, .ref (A 0 0)), (1, .int mixture), (2, .int die), (3, .int kilos)]) rfl dX3_press_152 ?_
                  refine g_aload F 0 rfl dX3_press_154 ?_
                  refine g_iload_n F 3 rfl rfl dX3_press_156 ?_
                  refine g_putN (P2 := gP 1 G (gsr S.1 0 0 (upd (S.1 0 0) 8 0), S.2) A Fr [(a_16, .inr (7, [.int mixture, .int (0 : Int32), .int (0 : Int32), .int (0 : Int32), .int (0 : Int32), .int (0 : Int32), .int (-1 : Int32), .int (0 : Int32), .int (0 : Int32), .int (0 : Int32), .int (0 : Int32)]))]) F clX10 0 (by decide) (gT_w q1530 rfl) rfl rfl rfl (pr_putX (f := 0) (T := [(a_16, .inr (7, [.int (0 : Int32), .int (0 : Int32), .int (0 : Int32), .int (0 : Int32), .int (0 : Int32), .int (0 : Int32), .int (-1 : Int32), .int (0 : Int32), .int (0 : Int32), .int (0 : Int32), .int (0 : Int32)]))]) (fs := [.int (0 : Int32), .int (0 : Int32), .int (0 : Int32), .int (0 : Int32), .int (0 : Int32), .int (0 : Int32), .int (-1 : Int32), .int (0 : Int32), .int (0 : Int32), .int (0 : Int32), .int (0 : Int32)]) (v := .int mixture) gM1 hF (j := 0) rfl (gnl rfl)) dX3_press_157 ?_
                  refine g_aload F 0 rfl dX3_press_160 ?_
                  refine g_bipush F (v := (20 : Int32)) (by decide) dX3_press_162 ?_
                  refine g_iload_n F 5 rfl rfl dX3_press_164 ?_
                  refine g_imul F dX3_press_165 ?_
                  refine g_putN (P2 := gP 1 G (gsr S.1 0 0 (upd (S.1 0 0) 8 0), S.2) A Fr [(a_16, .inr (7, [.int mixture, .int ((20 : Int32) * kilos), .int (0 : Int32), .int (0 : Int32), .int (0 : Int32), .int (0 : Int32), .int (-1 : Int32), .int (0 : Int32), .int (0 : Int32), .int (0 : Int32), .int (0 : Int32)]))]) F clX10 1 (by decide) (gT_w q1531 rfl) rfl rfl rfl (pr_putX (f := 1) (T := [(a_16, .inr (7, [.int mixture, .int (0 : Int32), .int (0 : Int32), .int (0 : Int32), .int (0 : Int32), .int (0 : Int32), .int (-1 : Int32), .int (0 : Int32), .int (0 : Int32), .int (0 : Int32), .int (0 : Int32)]))]) (fs := [.int mixture, .int (0 : Int32), .int (0 : Int32), .int (0 : Int32), .int (0 : Int32), .int (0 : Int32), .int (-1 : Int32), .int (0 : Int32), .int (0 : Int32), .int (0 : Int32), .int (0 : Int32)]) (v := .int ((20 : Int32) * kilos)) gM1 hF (j := 0) rfl (gnl rfl)) dX3_press_166 ?_
                  refine g_aload F 0 rfl dX3_press_169 ?_
                  refine g_bipush F (v := (20 : Int32)) (by decide) dX3_press_171 ?_
                  refine g_aload_n F 2 rfl rfl dX3_press_173 ?_
                  refine g_get F clX3 7 (by decide) q1396 (v := .ref (A 3 0)) (gd_get (pr_at (κ := 0) (i := 0) (by decide) (gc1 (gnl rfl)) (gce (show (gsr S.1 0 0 (upd (S.1 0 0) 8 0)) 0 0 = upd (S.1 0 0) 8 0 from gsr_s) rfl)) rfl) dX3_press_174 ?_
                  refine g_iload_n F 4 rfl rfl dX3_press_177 ?_
                  refine g_iald F (gvp (K := 3) (by decide) ⟨(Decidable.not_not.mp (fun q => c_7 (Or.inl q))).1, (Decidable.not_not.mp (fun q => c_7 (Or.inl q))).2⟩) (pr_at (κ := 3) (i := 0) (by decide) (gc1 (gnl rfl)) (gce (show (gsr S.1 0 0 (upd (S.1 0 0) 8 0)) 3 0 = S.1 3 0 from (gsr_p (by decide) rfl)) rfl)) dX3_press_178 ?_
                  change gW _ _ _ _ (.int (S.1 3 0 die.toNatClampNeg) :: _) _ _
                  refine g_bipush F (v := (40 : Int32)) (by decide) dX3_press_179 ?_
                  refine g_idiv F (by decide) dX3_press_181 ?_
                  refine g_iadd F dX3_press_182 ?_
                  refine g_putN (P2 := gP 1 G (gsr S.1 0 0 (upd (S.1 0 0) 8 0), S.2) A Fr [(a_16, .inr (7, [.int mixture, .int ((20 : Int32) * kilos), .int (0 : Int32), .int ((20 : Int32) + ((S.1 3 0 die.toNatClampNeg) / (40 : Int32))), .int (0 : Int32), .int (0 : Int32), .int (-1 : Int32), .int (0 : Int32), .int (0 : Int32), .int (0 : Int32), .int (0 : Int32)]))]) F clX10 3 (by decide) (gT_w q1533 rfl) rfl rfl rfl (pr_putX (f := 3) (T := [(a_16, .inr (7, [.int mixture, .int ((20 : Int32) * kilos), .int (0 : Int32), .int (0 : Int32), .int (0 : Int32), .int (0 : Int32), .int (-1 : Int32), .int (0 : Int32), .int (0 : Int32), .int (0 : Int32), .int (0 : Int32)]))]) (fs := [.int mixture, .int ((20 : Int32) * kilos), .int (0 : Int32), .int (0 : Int32), .int (0 : Int32), .int (0 : Int32), .int (-1 : Int32), .int (0 : Int32), .int (0 : Int32), .int (0 : Int32), .int (0 : Int32)]) (v := .int ((20 : Int32) + ((S.1 3 0 die.toNatClampNeg) / (40 : Int32)))) gM1 hF (j := 0) rfl (gnl rfl)) dX3_press_183 ?_
                  refine g_aload_n F 2 rfl rfl dX3_press_186 ?_
                  refine g_get F clX3 7 (by decide) q1396 (v := .ref (A 3 0)) (gd_get (pr_at (κ := 0) (i := 0) (by decide) (gc1 (gnl rfl)) (gce (show (gsr S.1 0 0 (upd (S.1 0 0) 8 0)) 0 0 = upd (S.1 0 0) 8 0 from gsr_s) rfl)) rfl) dX3_press_187 ?_
                  refine g_iload_n F 4 rfl rfl dX3_press_190 ?_
                  refine g_dup2 F rfl rfl dX3_press_191 ?_
                  refine g_iald F (gvp (K := 3) (by decide) ⟨(Decidable.not_not.mp (fun q => c_7 (Or.inl q))).1, (Decidable.not_not.mp (fun q => c_7 (Or.inl q))).2⟩) (pr_at (κ := 3) (i := 0) (by decide) (gc1 (gnl rfl)) (gce (show (gsr S.1 0 0 (upd (S.1 0 0) 8 0)) 3 0 = S.1 3 0 from (gsr_p (by decide) rfl)) rfl)) dX3_press_192 ?_
                  change gW _ _ _ _ (.int (S.1 3 0 die.toNatClampNeg) :: _) _ _
                  refine g_iload_n F 5 rfl rfl dX3_press_193 ?_
                  refine g_bipush F (v := (10 : Int32)) (by decide) dX3_press_194 ?_
                  refine g_aload F 1 rfl dX3_press_196 ?_
                  refine g_iconst F (v := (3 : Int32)) (by decide) dX3_press_198 ?_
                  refine g_ialdN F (m := 3) rfl (by decide) (by decide) (pr_at (κ := 7) (i := mixture.toNatClampNeg) (by decide) (gc6 (by decide) (Decidable.not_not.mp c_3).2) (gce (show (gsr S.1 0 0 (upd (S.1 0 0) 8 0)) 7 mixture.toNatClampNeg = S.1 7 mixture.toNatClampNeg from (gsr_p (by decide) rfl)) rfl)) dX3_press_199 ?_
                  change gW _ _ _ _ (.int (S.1 7 mixture.toNatClampNeg 3) :: _) _ _
                  refine g_isub F dX3_press_200 ?_
                  refine g_imul F dX3_press_201 ?_
                  refine g_iconst F (v := (5 : Int32)) (by decide) dX3_press_202 ?_
                  refine g_idiv F (by decide) dX3_press_203 ?_
                  refine g_iadd F dX3_press_204 ?_
                  refine g_iast (P2 := gP 1 G (gsr (gsr S.1 0 0 (upd (S.1 0 0) 8 0)) 3 0 (upd (S.1 3 0) die.toNatClampNeg ((S.1 3 0 die.toNatClampNeg) + ((kilos * ((10 : Int32) - (S.1 7 mixture.toNatClampNeg 3))) / (5 : Int32)))), S.2) A Fr [(a_16, .inr (7, [.int mixture, .int ((20 : Int32) * kilos), .int (0 : Int32), .int ((20 : Int32) + ((S.1 3 0 die.toNatClampNeg) / (40 : Int32))), .int (0 : Int32), .int (0 : Int32), .int (-1 : Int32), .int (0 : Int32), .int (0 : Int32), .int (0 : Int32), .int (0 : Int32)]))]) F (gvp (K := 3) (by decide) ⟨(Decidable.not_not.mp (fun q => c_7 (Or.inl q))).1, (Decidable.not_not.mp (fun q => c_7 (Or.inl q))).2⟩) (pr_setRow (κ := 3) (i := 0) gM1 hF (upd (S.1 3 0) die.toNatClampNeg ((S.1 3 0 die.toNatClampNeg) + ((kilos * ((10 : Int32) - (S.1 7 mixture.toNatClampNeg 3))) / (5 : Int32)))) (by decide) (gc1 (gnl rfl)) (gce (show (gsr S.1 0 0 (upd (S.1 0 0) 8 0)) 3 0 = S.1 3 0 from (gsr_p (by decide) rfl)) rfl) rfl) dX3_press_205 ?_
                  refine g_aload F 1 rfl dX3_press_206 ?_
                  refine g_iconst F (v := (4 : Int32)) (by decide) dX3_press_208 ?_
                  refine g_dup2 F rfl rfl dX3_press_209 ?_
                  refine g_ialdN F (m := 4) rfl (by decide) (by decide) (pr_at (κ := 7) (i := mixture.toNatClampNeg) (by decide) (gc6 (by decide) (Decidable.not_not.mp c_3).2) (gce (show (gsr (gsr S.1 0 0 (upd (S.1 0 0) 8 0)) 3 0 (upd (S.1 3 0) die.toNatClampNeg ((S.1 3 0 die.toNatClampNeg) + ((kilos * ((10 : Int32) - (S.1 7 mixture.toNatClampNeg 3))) / (5 : Int32))))) 7 mixture.toNatClampNeg = S.1 7 mixture.toNatClampNeg from (gsr_p (by decide) (gsr_p (by decide) rfl))) rfl)) dX3_press_210 ?_
                  change gW _ _ _ _ (.int (S.1 7 mixture.toNatClampNeg 4) :: _) _ _
                  refine g_iload_n F 5 rfl rfl dX3_press_211 ?_
                  refine g_isub F dX3_press_212 ?_
                  refine g_iastN (P2 := gP 1 G (gsr (gsr (gsr S.1 0 0 (upd (S.1 0 0) 8 0)) 3 0 (upd (S.1 3 0) die.toNatClampNeg ((S.1 3 0 die.toNatClampNeg) + ((kilos * ((10 : Int32) - (S.1 7 mixture.toNatClampNeg 3))) / (5 : Int32))))) 7 mixture.toNatClampNeg (upd (S.1 7 mixture.toNatClampNeg) 4 ((S.1 7 mixture.toNatClampNeg 4) - kilos)), S.2) A Fr [(a_16, .inr (7, [.int mixture, .int ((20 : Int32) * kilos), .int (0 : Int32), .int ((20 : Int32) + ((S.1 3 0 die.toNatClampNeg) / (40 : Int32))), .int (0 : Int32), .int (0 : Int32), .int (-1 : Int32), .int (0 : Int32), .int (0 : Int32), .int (0 : Int32), .int (0 : Int32)]))]) F (m := 4) rfl (by decide) (by decide) (pr_setRow (κ := 7) (i := mixture.toNatClampNeg) gM1 hF (upd (S.1 7 mixture.toNatClampNeg) 4 ((S.1 7 mixture.toNatClampNeg 4) - kilos)) (by decide) (gc6 (by decide) (Decidable.not_not.mp c_3).2) (gce (show (gsr (gsr S.1 0 0 (upd (S.1 0 0) 8 0)) 3 0 (upd (S.1 3 0) die.toNatClampNeg ((S.1 3 0 die.toNatClampNeg) + ((kilos * ((10 : Int32) - (S.1 7 mixture.toNatClampNeg 3))) / (5 : Int32))))) 7 mixture.toNatClampNeg = S.1 7 mixture.toNatClampNeg from (gsr_p (by decide) (gsr_p (by decide) rfl))) rfl) rfl) dX3_press_213 ?_
                  refine g_aload_n F 2 rfl rfl dX3_press_214 ?_
                  refine g_get F clX3 9 (by decide) q1398 (v := .ref (A 308 0)) (gd_get (pr_at (κ := 0) (i := 0) (by decide) (gc1 (gnl rfl)) (gce (show (gsr (gsr (gsr S.1 0 0 (upd (S.1 0 0) 8 0)) 3 0 (upd (S.1 3 0) die.toNatClampNeg ((S.1 3 0 die.toNatClampNeg) + ((kilos * ((10 : Int32) - (S.1 7 mixture.toNatClampNeg 3))) / (5 : Int32))))) 7 mixture.toNatClampNeg (upd (S.1 7 mixture.toNatClampNeg) 4 ((S.1 7 mixture.toNatClampNeg 4) - kilos))) 0 0 = upd (S.1 0 0) 8 0 from (gsr_p (by decide) (gsr_p (by decide) gsr_s))) rfl)) rfl) dX3_press_215 ?_
                  refine g_aload F 0 rfl dX3_press_218 ?_
                  refine g_callF F clJ3 (kJ3_add hl (pr_ls (M := 1) (S := (gsr (gsr (gsr S.1 0 0 (upd (S.1 0 0) 8 0)) 3 0 (upd (S.1 3 0) die.toNatClampNeg ((S.1 3 0 die.toNatClampNeg) + ((kilos * ((10 : Int32) - (S.1 7 mixture.toNatClampNeg 3))) / (5 : Int32))))) 7 mixture.toNatClampNeg (upd (S.1 7 mixture.toNatClampNeg) 4 ((S.1 7 mixture.toNatClampNeg 4) - kilos)), S.2)) (A := A) (κ := 8) (by decide) (Or.inl ⟨by decide, by decide⟩) (fun q => by first | decide | exact absurd q (by decide)) (fun q => by first | decide | exact absurd q (by decide))) (Nat.le_trans (gw_64 (gWf_7 (i := mixture.toNatClampNeg) (r := upd (S.1 7 mixture.toNatClampNeg) 4 ((S.1 7 mixture.toNatClampNeg 4) - kilos)) (gWf_n (κ := 3) (i := 0) (r := upd (S.1 3 0) die.toNatClampNeg ((S.1 3 0 die.toNatClampNeg) + ((kilos * ((10 : Int32) - (S.1 7 mixture.toNatClampNeg 3))) / (5 : Int32)))) (gWf_0 (r := upd (S.1 0 0) 8 0) hW (gw_b hW)) (by decide)) rfl rfl) _) (by decide)) (pr_elT (j := 0) rfl (Or.inl ⟨_, _, rfl, by decide, by decide⟩)) (pr_el (by decide) (by decide) (fun q => by first | decide | exact absurd q (by decide)) (fun q => by first | decide | exact absurd q (by decide)))) (g_recv F clJ3 (gls_obj (pr_ls (M := 1) (S := (gsr (gsr (gsr S.1 0 0 (upd (S.1 0 0) 8 0)) 3 0 (upd (S.1 3 0) die.toNatClampNeg ((S.1 3 0 die.toNatClampNeg) + ((kilos * ((10 : Int32) - (S.1 7 mixture.toNatClampNeg 3))) / (5 : Int32))))) 7 mixture.toNatClampNeg (upd (S.1 7 mixture.toNatClampNeg) 4 ((S.1 7 mixture.toNatClampNeg 4) - kilos)), S.2)) (A := A) (κ := 8) (by decide) (Or.inl ⟨by decide, by decide⟩) (fun q => by first | decide | exact absurd q (by decide)) (fun q => by first | decide | exact absurd q (by decide))))) q1493 q680 q682 q22 q684 (List.mem_of_getElem? (i := 2) rfl) (gT_w q683 rfl) (gT_w q681 rfl) (gT_w q293 rfl) gface_2 ⟨by decide, by decide⟩ rfl rfl (gle rfl) 2 161 (gle rfl) (gle rfl) (gle rfl) (gle rfl) dX3_press_220 gx_n (gv_i ?_)
                  refine g_retag (P2 := gP 1 G (gsr (gsr (gsr (gsr S.1 0 0 (upd (S.1 0 0) 8 0)) 3 0 (upd (S.1 3 0) die.toNatClampNeg ((S.1 3 0 die.toNatClampNeg) + ((kilos * ((10 : Int32) - (S.1 7 mixture.toNatClampNeg 3))) / (5 : Int32))))) 7 mixture.toNatClampNeg (upd (S.1 7 mixture.toNatClampNeg) 4 ((S.1 7 mixture.toNatClampNeg 4) - kilos))) 8 (S.2 8) (gRw [mixture, (20 : Int32) * kilos, (0 : Int32), (20 : Int32) + ((S.1 3 0 die.toNatClampNeg) / (40 : Int32)), (0 : Int32), (0 : Int32), (-1 : Int32), 0, (0 : Int32), (0 : Int32), (0 : Int32), (0 : Int32)]), va_up S.2 8 (S.2 8 + 1)) (gAa A 8 (S.2 8) a_16) Fr []) (pr_add (T0 := []) (κ := 8) gM1 hF (gWf_7 (i := mixture.toNatClampNeg) (r := upd (S.1 7 mixture.toNatClampNeg) 4 ((S.1 7 mixture.toNatClampNeg 4) - kilos)) (gWf_n (κ := 3) (i := 0) (r := upd (S.1 3 0) die.toNatClampNeg ((S.1 3 0 die.toNatClampNeg) + ((kilos * ((10 : Int32) - (S.1 7 mixture.toNatClampNeg 3))) / (5 : Int32)))) (gWf_0 (r := upd (S.1 0 0) 8 0) hW (gw_b hW)) (by decide)) rfl rfl) (by decide) (by decide) (by decide) (gRw [mixture, (20 : Int32) * kilos, (0 : Int32), (20 : Int32) + ((S.1 3 0 die.toNatClampNeg) / (40 : Int32)), (0 : Int32), (0 : Int32), (-1 : Int32), 0, (0 : Int32), (0 : Int32), (0 : Int32), (0 : Int32)]) rfl) ?_
                  refine g_pop F rfl dX3_press_225 ?_
                  refine g_aload_n F 2 rfl rfl dX3_press_226 ?_
                  refine g_get F clX3 9 (by decide) q1398 (v := .ref (A 308 0)) (gd_get (pr_at (κ := 0) (i := 0) (by decide) (gc1 (gnl rfl)) (gce (show (gsr (gsr (gsr (gsr S.1 0 0 (upd (S.1 0 0) 8 0)) 3 0 (upd (S.1 3 0) die.toNatClampNeg ((S.1 3 0 die.toNatClampNeg) + ((kilos * ((10 : Int32) - (S.1 7 mixture.toNatClampNeg 3))) / (5 : Int32))))) 7 mixture.toNatClampNeg (upd (S.1 7 mixture.toNatClampNeg) 4 ((S.1 7 mixture.toNatClampNeg 4) - kilos))) 8 (S.2 8) (gRw [mixture, (20 : Int32) * kilos, (0 : Int32), (20 : Int32) + ((S.1 3 0 die.toNatClampNeg) / (40 : Int32)), (0 : Int32), (0 : Int32), (-1 : Int32), 0, (0 : Int32), (0 : Int32), (0 : Int32), (0 : Int32)])) 0 0 = upd (S.1 0 0) 8 0 from (gsr_p (by decide) (gsr_p (by decide) (gsr_p (by decide) gsr_s)))) rfl)) rfl) dX3_press_227 ?_
                  refine g_callF F clJ3 (kJ3_size hl (pr_ls (M := 1) (S := (gsr (gsr (gsr (gsr S.1 0 0 (upd (S.1 0 0) 8 0)) 3 0 (upd (S.1 3 0) die.toNatClampNeg ((S.1 3 0 die.toNatClampNeg) + ((kilos * ((10 : Int32) - (S.1 7 mixture.toNatClampNeg 3))) / (5 : Int32))))) 7 mixture.toNatClampNeg (upd (S.1 7 mixture.toNatClampNeg) 4 ((S.1 7 mixture.toNatClampNeg 4) - kilos))) 8 (S.2 8) (gRw [mixture, (20 : Int32) * kilos, (0 : Int32), (20 : Int32) + ((S.1 3 0 die.toNatClampNeg) / (40 : Int32)), (0 : Int32), (0 : Int32), (-1 : Int32), 0, (0 : Int32), (0 : Int32), (0 : Int32), (0 : Int32)]), va_up S.2 8 (S.2 8 + 1))) (A := gAa A 8 (S.2 8) a_16) (κ := 8) (by decide) (Or.inl ⟨by decide, by decide⟩) (fun q => by first | decide | exact absurd q (by decide)) (fun q => by first | decide | exact absurd q (by decide)))) (g_recv F clJ3 (gls_obj (pr_ls (M := 1) (S := (gsr (gsr (gsr (gsr S.1 0 0 (upd (S.1 0 0) 8 0)) 3 0 (upd (S.1 3 0) die.toNatClampNeg ((S.1 3 0 die.toNatClampNeg) + ((kilos * ((10 : Int32) - (S.1 7 mixture.toNatClampNeg 3))) / (5 : Int32))))) 7 mixture.toNatClampNeg (upd (S.1 7 mixture.toNatClampNeg) 4 ((S.1 7 mixture.toNatClampNeg 4) - kilos))) 8 (S.2 8) (gRw [mixture, (20 : Int32) * kilos, (0 : Int32), (20 : Int32) + ((S.1 3 0 die.toNatClampNeg) / (40 : Int32)), (0 : Int32), (0 : Int32), (-1 : Int32), 0, (0 : Int32), (0 : Int32), (0 : Int32), (0 : Int32)]), va_up S.2 8 (S.2 8 + 1))) (A := gAa A 8 (S.2 8) a_16) (κ := 8) (by decide) (Or.inl ⟨by decide, by decide⟩) (fun q => by first | decide | exact absurd q (by decide)) (fun q => by first | decide | exact absurd q (by decide))))) q1491 q634 q636 q22 q638 (List.mem_of_getElem? (i := 0) rfl) (gT_w q637 rfl) (gT_w q635 rfl) (gT_w q293 rfl) gface_0 ⟨by decide, by decide⟩ rfl rfl (gle rfl) 2 161 (gle rfl) (gle rfl) (gle rfl) (gle rfl) dX3_press_230 gx_n (gv_i ?_)
                  refine g_iconst F (v := (1 : Int32)) (by decide) dX3_press_235 ?_
                  refine g_isub F dX3_press_236 ?_
                  refine g_top (nI_pred (S.2 8)) ?_
                  exact g_retI F E rfl rfl (gle rfl) (gle rfl) dX3_press_237 (fun _ hp => ⟨_, _, ((if_neg c_3).trans ((if_neg c_7).trans ((if_neg c_12).trans (if_neg c_15)))), rfl, ⟨gAa A 8 (S.2 8) a_16, rfl, gP_T0 hp⟩⟩)
              refine g_icmp_ne F (tgt := 135) (by decide) dX3_press_128 (fun c_13 => ?_) (fun c_13 => ?_)
              · skip
                refine g_iconst F (v := (0 : Int32)) (by decide) dX3_press_135 ?_
                exact g_top (gb_f c_13) J_14
              · skip
                refine g_iconst F (v := (1 : Int32)) (by decide) dX3_press_131 ?_
                refine g_goto F (tgt := 136) (by decide) dX3_press_132 ?_
                exact g_top (gb_t c_13) J_14
          refine g_icmp_lt F (tgt := 104) (by decide) dX3_press_81 (fun c_8 => ?_) (fun c_8 => ?_)
          · skip
            refine g_iconst F (v := (1 : Int32)) (by decide) dX3_press_104 ?_
            refine g_goto F (tgt := 109) (by decide) dX3_press_105 ?_
            exact g_top (gb_t (Or.inl c_8)) J_11
          · skip
            refine g_aload_n F 1 rfl rfl dX3_press_84 ?_
            refine g_get F clX3 7 (by decide) q1396 (v := .ref (A 3 0)) (gd_get (pr_at (κ := 0) (i := 0) (by decide) (gc1 (gnl rfl)) (gce (show (gsr S.1 0 0 (upd (S.1 0 0) 8 0)) 0 0 = upd (S.1 0 0) 8 0 from gsr_s) rfl)) rfl) dX3_press_85 ?_
            refine g_iload_n F 3 rfl rfl dX3_press_88 ?_
            refine g_iald F (gvp (K := 3) (by decide) ⟨(Decidable.not_not.mp (fun q => c_7 (Or.inl q))).1, (Decidable.not_not.mp (fun q => c_7 (Or.inl q))).2⟩) (pr_at (κ := 3) (i := 0) (by decide) (gc1 (gnl rfl)) (gce (show (gsr S.1 0 0 (upd (S.1 0 0) 8 0)) 3 0 = S.1 3 0 from (gsr_p (by decide) rfl)) rfl)) dX3_press_89 ?_
            change gW _ _ _ _ (.int (S.1 3 0 die.toNatClampNeg) :: _) _ _
            refine g_sipush F (v := (200 : Int32)) (by decide) dX3_press_90 ?_
            refine g_icmp_ge F (tgt := 104) (by decide) dX3_press_93 (fun c_9 => ?_) (fun c_9 => ?_)
            · skip
              refine g_iconst F (v := (1 : Int32)) (by decide) dX3_press_104 ?_
              refine g_goto F (tgt := 109) (by decide) dX3_press_105 ?_
              exact g_top (gb_t (Or.inr (Or.inl c_9))) J_11
            · skip
              refine g_aload_n F 1 rfl rfl dX3_press_96 ?_
              refine g_iconst F (v := (1 : Int32)) (by decide) dX3_press_97 ?_
              refine g_callV F (kX3_going hl hF hW (x := (1 : Int32)) (by decide) rfl) (g_recv F clX3 (gd_obj (pr_at (κ := 0) (i := 0) (by decide) (gc1 (gnl rfl)) (gce (show (gsr S.1 0 0 (upd (S.1 0 0) 8 0)) 0 0 = upd (S.1 0 0) 8 0 from gsr_s) rfl)))) q1479 q1481 qs8 q25 q1482 myX3_going ⟨by decide, by decide⟩ rfl rfl (gle rfl) 0 0 (gle rfl) (gle rfl) (gle rfl) (gle rfl) dX3_press_98 gx_n (gv_i ?_)
              refine gb_if_ne F (tgt := 108) (by decide) dX3_press_101 (fun c_10 => ?_) (fun c_10 => ?_)
              · skip
                refine g_iconst F (v := (0 : Int32)) (by decide) dX3_press_108 ?_
                exact g_top (gb_f (fun q => q.elim c_8 (fun q => q.elim c_9 (fun q => q c_10)))) J_11
              · skip
                refine g_iconst F (v := (1 : Int32)) (by decide) dX3_press_104 ?_
                refine g_goto F (tgt := 109) (by decide) dX3_press_105 ?_
                exact g_top (gb_t (Or.inr (Or.inr c_10))) J_11
      refine gb_if_eq F (tgt := 46) (by decide) dX3_press_38 (fun c_4 => ?_) (fun c_4 => ?_)
      · skip
        refine g_iconst F (v := (1 : Int32)) (by decide) dX3_press_46 ?_
        refine g_goto F (tgt := 51) (by decide) dX3_press_47 ?_
        exact g_top (gb_t (Or.inl c_4)) J_6
      · skip
        refine g_iload_n F 3 rfl rfl dX3_press_41 ?_
        refine g_iconst F (v := (1 : Int32)) (by decide) dX3_press_42 ?_
        refine g_icmp_ge F (tgt := 50) (by decide) dX3_press_43 (fun c_5 => ?_) (fun c_5 => ?_)
        · skip
          refine g_iconst F (v := (0 : Int32)) (by decide) dX3_press_50 ?_
          exact g_top (gb_f (fun q => q.elim (fun z => z c_4) (fun q => q c_5))) J_6
        · skip
          refine g_iconst F (v := (1 : Int32)) (by decide) dX3_press_46 ?_
          refine g_goto F (tgt := 51) (by decide) dX3_press_47 ?_
          exact g_top (gb_t (Or.inr c_5)) J_6
  refine gb_if_ne F (tgt := 20) (by decide) dX3_press_13 (fun c_1 => ?_) (fun c_1 => ?_)
  · skip
    refine g_iconst F (v := (0 : Int32)) (by decide) dX3_press_20 ?_
    exact g_top (gb_f (fun q => q c_1)) J_2
  · skip
    refine g_iconst F (v := (1 : Int32)) (by decide) dX3_press_16 ?_
    refine g_goto F (tgt := 21) (by decide) dX3_press_17 ?_
    exact g_top (gb_t c_1) J_2

def sM_lot (S : gS) (kind purity size kilos : Int32) : Value × gS := if ¬ (((kind = (103 : Int32)) ∧ ((¬ purity < (50 : Int32) ∧ ¬ (99 : Int32) < purity) ∧ ((¬ size < (1 : Int32) ∧ ¬ (9 : Int32) < size) ∧ (¬ kilos < (1 : Int32) ∧ ¬ (500 : Int32) < kilos)))) ∨ (¬ (kind = (103 : Int32)) ∧ ((kind = (99 : Int32)) ∧ ((¬ purity < (50 : Int32) ∧ ¬ (99 : Int32) < purity) ∧ ((¬ size < (1 : Int32) ∧ ¬ (9 : Int32) < size) ∧ (¬ kilos < (1 : Int32) ∧ ¬ (500 : Int32) < kilos)))))) then (.int (-1 : Int32), (gsr (gsr S.1 0 0 (upd (S.1 0 0) 8 0)) 0 0 (upd (upd (S.1 0 0) 8 0) 8 (1 : Int32)), S.2)) else (if (nI (S.2 6)) = (16 : Int32) then (.int (-1 : Int32), (gsr (gsr S.1 0 0 (upd (S.1 0 0) 8 0)) 0 0 (upd (upd (S.1 0 0) 8 0) 8 (2 : Int32)), S.2)) else (.int (nI (S.2 6)), (gsr (gsr S.1 0 0 (upd (S.1 0 0) 8 0)) 6 (S.2 6) (upd (upd (upd (upd (fun _ => 0) 0 kind) 1 purity) 2 size) 3 kilos), va_up S.2 6 (S.2 6 + 1))))
theorem kX3_lot {l : Launch} {G : gG} (hl : l.stackTraces = false) {S : gS} {a0 : Nat} {Fr : gH → Prop} (hF : gFr 1 Fr) (hW : gWf S) {kind purity size kilos : Int32}  : gMet l yX3_lot (ws_ yX3_lot cX3_lot 6 (some .int)) ⟨7, 2, 154, 731⟩ G [.ref a0, .int kind, .int purity, .int size, .int kilos] (gPE 1 G S a0 Fr) (gqN (sM_lot S kind purity size kilos) G a0 Fr) gxN := by
  refine gMet_of hl pnX3 (gle rfl) (fun X Q hX F E hNm => ?_)
  subst hX
  change gW (X, G, 6, Q) (gPE 1 G S a0 Fr) [(0, .ref a0), (1, .int kind), (2, .int purity), (3, .int size), (4, .int kilos)] 0 [] 0 0
  refine g_pe (fun A hA => ?_)
  subst hA
  change gW _ _ [(0, .ref (A 0 0)), (1, .int kind), (2, .int purity), (3, .int size), (4, .int kilos)] 0 [] 0 0
  refine g_aload_n F 0 rfl rfl dX3_lot_0 ?_
  refine g_callV F (kX3_begins hl (pr_at (κ := 0) (i := 0) (by decide) (gc1 (gnl rfl)) (gce rfl rfl))) (g_recv F clX3 (gd_obj (pr_at (κ := 0) (i := 0) (by decide) (gc1 (gnl rfl)) (gce rfl rfl)))) q1448 q1450 qs6 q25 q1451 myX3_begins ⟨by decide, by decide⟩ rfl rfl (gle rfl) 0 0 (gle rfl) (gle rfl) (gle rfl) (gle rfl) dX3_lot_1 gx_n (gv_v ?_)
  refine g_mono (P2 := gP 1 G (gsr S.1 0 0 (upd (S.1 0 0) 8 0), S.2) A Fr []) (pr_upRow (κ := 0) (i := 0) gM1 hF (upd (S.1 0 0) 8 0) (by decide) (gc1 (gnl rfl)) (gce rfl rfl) rfl) ?_
  refine g_iload_n F 1 rfl rfl dX3_lot_4 ?_
  refine g_bipush F (v := (103 : Int32)) (by decide) dX3_lot_5 ?_
  have J_9 : gW (X, G, 6, Q) (gP 1 G (gsr S.1 0 0 (upd (S.1 0 0) 8 0), S.2) A Fr []) [(0, .ref (A 0 0)), (1, .int kind), (2, .int purity), (3, .int size), (4, .int kilos)] 60 [.int (gb (((kind = (103 : Int32)) ∧ ((¬ purity < (50 : Int32) ∧ ¬ (99 : Int32) < purity) ∧ ((¬ size < (1 : Int32) ∧ ¬ (9 : Int32) < size) ∧ (¬ kilos < (1 : Int32) ∧ ¬ (500 : Int32) < kilos)))) ∨ (¬ (kind = (103 : Int32)) ∧ ((kind = (99 : Int32)) ∧ ((¬ purity < (50 : Int32) ∧ ¬ (99 : Int32) < purity) ∧ ((¬ size < (1 : Int32) ∧ ¬ (9 : Int32) < size) ∧ (¬ kilos < (1 : Int32) ∧ ¬ (500 : Int32) < kilos)))))))] 0 0 := by
    refine g_istore F (by show 5 < 6; decide) (lv2 := [(5, .int (gb (((kind = (103 : Int32)) ∧ ((¬ purity < (50 : Int32) ∧ ¬ (99 : Int32) < purity) ∧ ((¬ size < (1 : Int32) ∧ ¬ (9 : Int32) < size) ∧ (¬ kilos < (1 : Int32) ∧ ¬ (500 : Int32) < kilos)))) ∨ (¬ (kind = (103 : Int32)) ∧ ((kind = (99 : Int32)) ∧ ((¬ purity < (50 : Int32) ∧ ¬ (99 : Int32) < purity) ∧ ((¬ size < (1 : Int32) ∧ ¬ (9 : Int32) < size) ∧ (¬ kilos < (1 : Int32) ∧ ¬ (500 : Int32) < kilos)))))))), (0, .ref (A 0 0)), (1, .int kind), (2, .int purity), (3, .int size), (4, .int kilos)]) rfl dX3_lot_60 ?_
    refine g_aload_n F 1 rfl rfl dX3_lot_62 ?_
    refine g_iload F 0 rfl dX3_lot_63 ?_
    have J_11 : gW (X, G, 6, Q) (gP 1 G (gsr S.1 0 0 (upd (S.1 0 0) 8 0), S.2) A Fr []) [(5, .int (gb (((kind = (103 : Int32)) ∧ ((¬ purity < (50 : Int32) ∧ ¬ (99 : Int32) < purity) ∧ ((¬ size < (1 : Int32) ∧ ¬ (9 : Int32) < size) ∧ (¬ kilos < (1 : Int32) ∧ ¬ (500 : Int32) < kilos)))) ∨ (¬ (kind = (103 : Int32)) ∧ ((kind = (99 : Int32)) ∧ ((¬ purity < (50 : Int32) ∧ ¬ (99 : Int32) < purity) ∧ ((¬ size < (1 : Int32) ∧ ¬ (9 : Int32) < size) ∧ (¬ kilos < (1 : Int32) ∧ ¬ (500 : Int32) < kilos)))))))), (0, .ref (A 0 0)), (1, .int kind), (2, .int purity), (3, .int size), (4, .int kilos)] 73 [.int (gb (¬ (((kind = (103 : Int32)) ∧ ((¬ purity < (50 : Int32) ∧ ¬ (99 : Int32) < purity) ∧ ((¬ size < (1 : Int32) ∧ ¬ (9 : Int32) < size) ∧ (¬ kilos < (1 : Int32) ∧ ¬ (500 : Int32) < kilos)))) ∨ (¬ (kind = (103 : Int32)) ∧ ((kind = (99 : Int32)) ∧ ((¬ purity < (50 : Int32) ∧ ¬ (99 : Int32) < purity) ∧ ((¬ size < (1 : Int32) ∧ ¬ (9 : Int32) < size) ∧ (¬ kilos < (1 : Int32) ∧ ¬ (500 : Int32) < kilos)))))))), .ref (A 0 0)] 0 0 := by
      refine g_iconst F (v := (1 : Int32)) (by decide) dX3_lot_73 ?_
      refine g_callV F (kX3_fails hl (b := gb (¬ (((kind = (103 : Int32)) ∧ ((¬ purity < (50 : Int32) ∧ ¬ (99 : Int32) < purity) ∧ ((¬ size < (1 : Int32) ∧ ¬ (9 : Int32) < size) ∧ (¬ kilos < (1 : Int32) ∧ ¬ (500 : Int32) < kilos)))) ∨ (¬ (kind = (103 : Int32)) ∧ ((kind = (99 : Int32)) ∧ ((¬ purity < (50 : Int32) ∧ ¬ (99 : Int32) < purity) ∧ ((¬ size < (1 : Int32) ∧ ¬ (9 : Int32) < size) ∧ (¬ kilos < (1 : Int32) ∧ ¬ (500 : Int32) < kilos)))))))) (nu := (1 : Int32)) (c := ¬ (((kind = (103 : Int32)) ∧ ((¬ purity < (50 : Int32) ∧ ¬ (99 : Int32) < purity) ∧ ((¬ size < (1 : Int32) ∧ ¬ (9 : Int32) < size) ∧ (¬ kilos < (1 : Int32) ∧ ¬ (500 : Int32) < kilos)))) ∨ (¬ (kind = (103 : Int32)) ∧ ((kind = (99 : Int32)) ∧ ((¬ purity < (50 : Int32) ∧ ¬ (99 : Int32) < purity) ∧ ((¬ size < (1 : Int32) ∧ ¬ (9 : Int32) < size) ∧ (¬ kilos < (1 : Int32) ∧ ¬ (500 : Int32) < kilos))))))) gb_n0 (by decide) (pr_at (κ := 0) (i := 0) (by decide) (gc1 (gnl rfl)) (gce (show (gsr S.1 0 0 (upd (S.1 0 0) 8 0)) 0 0 = upd (S.1 0 0) 8 0 from gsr_s) rfl))) (g_recv F clX3 (gd_obj (pr_at (κ := 0) (i := 0) (by decide) (gc1 (gnl rfl)) (gce (show (gsr S.1 0 0 (upd (S.1 0 0) 8 0)) 0 0 = upd (S.1 0 0) 8 0 from gsr_s) rfl)))) q1456 q1458 qs7 q25 q1459 myX3_fails ⟨by decide, by decide⟩ rfl rfl (gle rfl) 0 0 (gle rfl) (gle rfl) (gle rfl) (gle rfl) dX3_lot_74 gx_n (gv_f (fun c_12 => ?_) (fun c_12 => ?_))
      · skip
        refine g_mono (P2 := gP 1 G (gsr (gsr S.1 0 0 (upd (S.1 0 0) 8 0)) 0 0 (upd (upd (S.1 0 0) 8 0) 8 (1 : Int32)), S.2) A Fr []) (pr_upRow (κ := 0) (i := 0) gM1 hF (upd (upd (S.1 0 0) 8 0) 8 (1 : Int32)) (by decide) (gc1 (gnl rfl)) (gce (show (gsr S.1 0 0 (upd (S.1 0 0) 8 0)) 0 0 = upd (S.1 0 0) 8 0 from gsr_s) rfl) rfl) ?_
        refine g_if_ne F (tgt := 107) (by decide) dX3_lot_77 (fun _ => ?_) (fun c => absurd c (by decide))
        refine g_iconst F (v := (-1 : Int32)) (by decide) dX3_lot_107 ?_
        exact g_retI F E rfl rfl (gle rfl) (gle rfl) dX3_lot_108 (fun _ hp => ⟨_, _, (if_pos c_12), rfl, ⟨A, rfl, gP_T0 hp⟩⟩)
      · skip
        refine g_if_ne F (tgt := 107) (by decide) dX3_lot_77 (fun c => absurd c (by decide)) (fun _ => ?_)
        refine g_aload_n F 1 rfl rfl dX3_lot_80 ?_
        refine g_aload_n F 1 rfl rfl dX3_lot_81 ?_
        refine g_get F clX3 5 (by decide) q1394 (v := .ref (A 306 0)) (gd_get (pr_at (κ := 0) (i := 0) (by decide) (gc1 (gnl rfl)) (gce (show (gsr S.1 0 0 (upd (S.1 0 0) 8 0)) 0 0 = upd (S.1 0 0) 8 0 from gsr_s) rfl)) rfl) dX3_lot_82 ?_
        refine g_callF F clJ3 (kJ3_size hl (pr_ls (M := 1) (S := (gsr S.1 0 0 (upd (S.1 0 0) 8 0), S.2)) (A := A) (κ := 6) (by decide) (Or.inl ⟨by decide, by decide⟩) (fun q => by first | decide | exact absurd q (by decide)) (fun q => by first | decide | exact absurd q (by decide)))) (g_recv F clJ3 (gls_obj (pr_ls (M := 1) (S := (gsr S.1 0 0 (upd (S.1 0 0) 8 0), S.2)) (A := A) (κ := 6) (by decide) (Or.inl ⟨by decide, by decide⟩) (fun q => by first | decide | exact absurd q (by decide)) (fun q => by first | decide | exact absurd q (by decide))))) q1491 q634 q636 q22 q638 (List.mem_of_getElem? (i := 0) rfl) (gT_w q637 rfl) (gT_w q635 rfl) (gT_w q293 rfl) gface_0 ⟨by decide, by decide⟩ rfl rfl (gle rfl) 0 0 (gle rfl) (gle rfl) (gle rfl) (gle rfl) dX3_lot_85 gx_n (gv_i ?_)
        refine g_bipush F (v := (16 : Int32)) (by decide) dX3_lot_90 ?_
        have J_14 : gW (X, G, 6, Q) (gP 1 G (gsr S.1 0 0 (upd (S.1 0 0) 8 0), S.2) A Fr []) [(5, .int (gb (((kind = (103 : Int32)) ∧ ((¬ purity < (50 : Int32) ∧ ¬ (99 : Int32) < purity) ∧ ((¬ size < (1 : Int32) ∧ ¬ (9 : Int32) < size) ∧ (¬ kilos < (1 : Int32) ∧ ¬ (500 : Int32) < kilos)))) ∨ (¬ (kind = (103 : Int32)) ∧ ((kind = (99 : Int32)) ∧ ((¬ purity < (50 : Int32) ∧ ¬ (99 : Int32) < purity) ∧ ((¬ size < (1 : Int32) ∧ ¬ (9 : Int32) < size) ∧ (¬ kilos < (1 : Int32) ∧ ¬ (500 : Int32) < kilos)))))))), (0, .ref (A 0 0)), (1, .int kind), (2, .int purity), (3, .int size), (4, .int kilos)] 100 [.int (gb ((nI (S.2 6)) = (16 : Int32))), .ref (A 0 0)] 0 0 := by
          refine g_iconst F (v := (2 : Int32)) (by decide) dX3_lot_100 ?_
          refine g_callV F (kX3_fails hl (b := gb ((nI (S.2 6)) = (16 : Int32))) (nu := (2 : Int32)) (c := (nI (S.2 6)) = (16 : Int32)) gb_n0 (by decide) (pr_at (κ := 0) (i := 0) (by decide) (gc1 (gnl rfl)) (gce (show (gsr S.1 0 0 (upd (S.1 0 0) 8 0)) 0 0 = upd (S.1 0 0) 8 0 from gsr_s) rfl))) (g_recv F clX3 (gd_obj (pr_at (κ := 0) (i := 0) (by decide) (gc1 (gnl rfl)) (gce (show (gsr S.1 0 0 (upd (S.1 0 0) 8 0)) 0 0 = upd (S.1 0 0) 8 0 from gsr_s) rfl)))) q1456 q1458 qs7 q25 q1459 myX3_fails ⟨by decide, by decide⟩ rfl rfl (gle rfl) 0 0 (gle rfl) (gle rfl) (gle rfl) (gle rfl) dX3_lot_101 gx_n (gv_f (fun c_15 => ?_) (fun c_15 => ?_))
          · skip
            refine g_mono (P2 := gP 1 G (gsr (gsr S.1 0 0 (upd (S.1 0 0) 8 0)) 0 0 (upd (upd (S.1 0 0) 8 0) 8 (2 : Int32)), S.2) A Fr []) (pr_upRow (κ := 0) (i := 0) gM1 hF (upd (upd (S.1 0 0) 8 0) 8 (2 : Int32)) (by decide) (gc1 (gnl rfl)) (gce (show (gsr S.1 0 0 (upd (S.1 0 0) 8 0)) 0 0 = upd (S.1 0 0) 8 0 from gsr_s) rfl) rfl) ?_
            refine g_if_eq F (tgt := 109) (by decide) dX3_lot_104 (fun c => absurd c (by decide)) (fun _ => ?_)
            refine g_iconst F (v := (-1 : Int32)) (by decide) dX3_lot_107 ?_
            exact g_retI F E rfl rfl (gle rfl) (gle rfl) dX3_lot_108 (fun _ hp => ⟨_, _, ((if_neg c_12).trans (if_pos c_15)), rfl, ⟨A, rfl, gP_T0 hp⟩⟩)
          · skip
            refine g_if_eq F (tgt := 109) (by decide) dX3_lot_104 (fun _ => ?_) (fun c => absurd c (by decide))
            refine g_aload_n F 1 rfl rfl dX3_lot_109 ?_
            refine g_get F clX3 5 (by decide) q1394 (v := .ref (A 306 0)) (gd_get (pr_at (κ := 0) (i := 0) (by decide) (gc1 (gnl rfl)) (gce (show (gsr S.1 0 0 (upd (S.1 0 0) 8 0)) 0 0 = upd (S.1 0 0) 8 0 from gsr_s) rfl)) rfl) dX3_lot_110 ?_
            refine g_iconst F (v := (4 : Int32)) (by decide) dX3_lot_113 ?_
            refine g_newI F (5000, 0) (N := 4) rfl (by decide) 1 4 (gle rfl) (gle rfl) (gle rfl) (gle rfl) (Pa := fun a_16 => gP 1 G (gsr S.1 0 0 (upd (S.1 0 0) 8 0), S.2) A Fr [(a_16, gIA G 4 (fun _ => 0))]) (pr_new hF) dX3_lot_114 (fun a_16 => ?_)
            refine g_dup F rfl dX3_lot_116 ?_
            refine g_iconst F (v := (0 : Int32)) (by decide) dX3_lot_117 ?_
            refine g_iload_n F 2 rfl rfl dX3_lot_118 ?_
            refine g_iastN (P2 := gP 1 G (gsr S.1 0 0 (upd (S.1 0 0) 8 0), S.2) A Fr [(a_16, gIA G 4 (upd (fun _ => 0) 0 kind))]) F (m := 0) rfl (by decide) (by decide) (pr_setT gM1 hF (j := 0) rfl) dX3_lot_119 ?_
            refine g_dup F rfl dX3_lot_120 ?_
            refine g_iconst F (v := (1 : Int32)) (by decide) dX3_lot_121 ?_
            refine g_iload_n F 3 rfl rfl dX3_lot_122 ?_
            refine g_iastN (P2 := gP 1 G (gsr S.1 0 0 (upd (S.1 0 0) 8 0), S.2) A Fr [(a_16, gIA G 4 (upd (upd (fun _ => 0) 0 kind) 1 purity))]) F (m := 1) rfl (by decide) (by decide) (pr_setT gM1 hF (j := 0) rfl) dX3_lot_123 ?_
            refine g_dup F rfl dX3_lot_124 ?_
            refine g_iconst F (v := (2 : Int32)) (by decide) dX3_lot_125 ?_
            refine g_iload_n F 4 rfl rfl dX3_lot_126 ?_
            refine g_iastN (P2 := gP 1 G (gsr S.1 0 0 (upd (S.1 0 0) 8 0), S.2) A Fr [(a_16, gIA G 4 (upd (upd (upd (fun _ => 0) 0 kind) 1 purity) 2 size))]) F (m := 2) rfl (by decide) (by decide) (pr_setT gM1 hF (j := 0) rfl) dX3_lot_127 ?_
            refine g_dup F rfl dX3_lot_128 ?_
            refine g_iconst F (v := (3 : Int32)) (by decide) dX3_lot_129 ?_
            refine g_iload F 5 rfl dX3_lot_130 ?_
            refine g_iastN (P2 := gP 1 G (gsr S.1 0 0 (upd (S.1 0 0) 8 0), S.2) A Fr [(a_16, gIA G 4 (upd (upd (upd (upd (fun _ => 0) 0 kind) 1 purity) 2 size) 3 kilos))]) F (m := 3) rfl (by decide) (by decide) (pr_setT gM1 hF (j := 0) rfl) dX3_lot_132 ?_
            refine g_callF F clJ3 (kJ3_add hl (pr_ls (M := 1) (S := (gsr S.1 0 0 (upd (S.1 0 0) 8 0), S.2)) (A := A) (κ := 6) (by decide) (Or.inl ⟨by decide, by decide⟩) (fun q => by first | decide | exact absurd q (by decide)) (fun q => by first | decide | exact absurd q (by decide))) (Nat.le_trans (gw_64 (gWf_0 (r := upd (S.1 0 0) 8 0) hW (gw_b hW)) _) (by decide)) (pr_elT (j := 0) rfl (Or.inr ⟨_, _, rfl⟩)) (pr_el (by decide) (by decide) (fun q => by first | decide | exact absurd q (by decide)) (fun q => by first | decide | exact absurd q (by decide)))) (g_recv F clJ3 (gls_obj (pr_ls (M := 1) (S := (gsr S.1 0 0 (upd (S.1 0 0) 8 0), S.2)) (A := A) (κ := 6) (by decide) (Or.inl ⟨by decide, by decide⟩) (fun q => by first | decide | exact absurd q (by decide)) (fun q => by first | decide | exact absurd q (by decide))))) q1493 q680 q682 q22 q684 (List.mem_of_getElem? (i := 2) rfl) (gT_w q683 rfl) (gT_w q681 rfl) (gT_w q293 rfl) gface_2 ⟨by decide, by decide⟩ rfl rfl (gle rfl) 2 154 (gle rfl) (gle rfl) (gle rfl) (gle rfl) dX3_lot_133 gx_n (gv_i ?_)
            refine g_retag (P2 := gP 1 G (gsr (gsr S.1 0 0 (upd (S.1 0 0) 8 0)) 6 (S.2 6) (upd (upd (upd (upd (fun _ => 0) 0 kind) 1 purity) 2 size) 3 kilos), va_up S.2 6 (S.2 6 + 1)) (gAa A 6 (S.2 6) a_16) Fr []) (pr_add (T0 := []) (κ := 6) gM1 hF (gWf_0 (r := upd (S.1 0 0) 8 0) hW (gw_b hW)) (by decide) (by decide) (by decide) (upd (upd (upd (upd (fun _ => 0) 0 kind) 1 purity) 2 size) 3 kilos) rfl) ?_
            refine g_pop F rfl dX3_lot_138 ?_
            refine g_aload_n F 1 rfl rfl dX3_lot_139 ?_
            refine g_get F clX3 5 (by decide) q1394 (v := .ref (A 306 0)) (gd_get (pr_at (κ := 0) (i := 0) (by decide) (gc1 (gnl rfl)) (gce (show (gsr (gsr S.1 0 0 (upd (S.1 0 0) 8 0)) 6 (S.2 6) (upd (upd (upd (upd (fun _ => 0) 0 kind) 1 purity) 2 size) 3 kilos)) 0 0 = upd (S.1 0 0) 8 0 from (gsr_p (by decide) gsr_s)) rfl)) rfl) dX3_lot_140 ?_
            refine g_callF F clJ3 (kJ3_size hl (pr_ls (M := 1) (S := (gsr (gsr S.1 0 0 (upd (S.1 0 0) 8 0)) 6 (S.2 6) (upd (upd (upd (upd (fun _ => 0) 0 kind) 1 purity) 2 size) 3 kilos), va_up S.2 6 (S.2 6 + 1))) (A := gAa A 6 (S.2 6) a_16) (κ := 6) (by decide) (Or.inl ⟨by decide, by decide⟩) (fun q => by first | decide | exact absurd q (by decide)) (fun q => by first | decide | exact absurd q (by decide)))) (g_recv F clJ3 (gls_obj (pr_ls (M := 1) (S := (gsr (gsr S.1 0 0 (upd (S.1 0 0) 8 0)) 6 (S.2 6) (upd (upd (upd (upd (fun _ => 0) 0 kind) 1 purity) 2 size) 3 kilos), va_up S.2 6 (S.2 6 + 1))) (A := gAa A 6 (S.2 6) a_16) (κ := 6) (by decide) (Or.inl ⟨by decide, by decide⟩) (fun q => by first | decide | exact absurd q (by decide)) (fun q => by first | decide | exact absurd q (by decide))))) q1491 q634 q636 q22 q638 (List.mem_of_getElem? (i := 0) rfl) (gT_w q637 rfl) (gT_w q635 rfl) (gT_w q293 rfl) gface_0 ⟨by decide, by decide⟩ rfl rfl (gle rfl) 2 154 (gle rfl) (gle rfl) (gle rfl) (gle rfl) dX3_lot_143 gx_n (gv_i ?_)
            refine g_iconst F (v := (1 : Int32)) (by decide) dX3_lot_148 ?_
            refine g_isub F dX3_lot_149 ?_
            refine g_top (nI_pred (S.2 6)) ?_
            exact g_retI F E rfl rfl (gle rfl) (gle rfl) dX3_lot_150 (fun _ hp => ⟨_, _, ((if_neg c_12).trans (if_neg c_15)), rfl, ⟨gAa A 6 (S.2 6) a_16, rfl, gP_T0 hp⟩⟩)
        refine g_icmp_ne F (tgt := 99) (by decide) dX3_lot_92 (fun c_13 => ?_) (fun c_13 => ?_)
        · skip
          refine g_iconst F (v := (0 : Int32)) (by decide) dX3_lot_99 ?_
          exact g_top (gb_f c_13) J_14
        · skip
          refine g_iconst F (v := (1 : Int32)) (by decide) dX3_lot_95 ?_
          refine g_goto F (tgt := 100) (by decide) dX3_lot_96 ?_
          exact g_top (gb_t c_13) J_14
    refine gb_if_ne F (tgt := 72) (by decide) dX3_lot_65 (fun c_10 => ?_) (fun c_10 => ?_)
    · skip
      refine g_iconst F (v := (0 : Int32)) (by decide) dX3_lot_72 ?_
      exact g_top (gb_f (fun q => q c_10)) J_11
    · skip
      refine g_iconst F (v := (1 : Int32)) (by decide) dX3_lot_68 ?_
      refine g_goto F (tgt := 73) (by decide) dX3_lot_69 ?_
      exact g_top (gb_t c_10) J_11
  refine g_icmp_eq F (tgt := 16) (by decide) dX3_lot_7 (fun c_1 => ?_) (fun c_1 => ?_)
  · skip
    refine g_iload_n F 2 rfl rfl dX3_lot_16 ?_
    refine g_i2l F dX3_lot_17 ?_
    refine g_ldc2 F (v := (50 : Int64)) q1487 dX3_lot_18 ?_
    refine g_ldc2 F (v := (99 : Int64)) q1488 dX3_lot_21 ?_
    refine g_callS F (kX3_in hl (x := purity) (lo := (50 : Int32)) (hi := (99 : Int32)) (by decide) (by decide)) (lw_S q1453 q1454 q25 q1455) myX3_in ⟨by decide, by decide⟩ rfl rfl (gle rfl) 0 0 (gle rfl) (gle rfl) (gle rfl) (gle rfl) dX3_lot_24 gx_n (gv_i ?_)
    refine gb_if_eq F (tgt := 59) (by decide) dX3_lot_27 (fun c_2 => ?_) (fun c_2 => ?_)
    · skip
      refine g_iconst F (v := (0 : Int32)) (by decide) dX3_lot_59 ?_
      exact g_top (gb_f (fun q => q.elim (fun z => (fun q => c_2 q.1) z.2) (fun z => z.1 c_1))) J_9
    · skip
      refine g_iload_n F 3 rfl rfl dX3_lot_30 ?_
      refine g_i2l F dX3_lot_31 ?_
      refine g_lconst F (v := (1 : Int64)) (by decide) dX3_lot_32 ?_
      refine g_ldc2 F (v := (9 : Int64)) q1489 dX3_lot_33 ?_
      refine g_callS F (kX3_in hl (x := size) (lo := (1 : Int32)) (hi := (9 : Int32)) (by decide) (by decide)) (lw_S q1453 q1454 q25 q1455) myX3_in ⟨by decide, by decide⟩ rfl rfl (gle rfl) 0 0 (gle rfl) (gle rfl) (gle rfl) (gle rfl) dX3_lot_36 gx_n (gv_i ?_)
      refine gb_if_eq F (tgt := 59) (by decide) dX3_lot_39 (fun c_3 => ?_) (fun c_3 => ?_)
      · skip
        refine g_iconst F (v := (0 : Int32)) (by decide) dX3_lot_59 ?_
        exact g_top (gb_f (fun q => q.elim (fun z => (fun q => (fun q => c_3 q.1) q.2) z.2) (fun z => z.1 c_1))) J_9
      · skip
        refine g_iload F 4 rfl dX3_lot_42 ?_
        refine g_i2l F dX3_lot_44 ?_
        refine g_lconst F (v := (1 : Int64)) (by decide) dX3_lot_45 ?_
        refine g_ldc2 F (v := (500 : Int64)) q1452 dX3_lot_46 ?_
        refine g_callS F (kX3_in hl (x := kilos) (lo := (1 : Int32)) (hi := (500 : Int32)) (by decide) (by decide)) (lw_S q1453 q1454 q25 q1455) myX3_in ⟨by decide, by decide⟩ rfl rfl (gle rfl) 0 0 (gle rfl) (gle rfl) (gle rfl) (gle rfl) dX3_lot_49 gx_n (gv_i ?_)
        refine gb_if_eq F (tgt := 59) (by decide) dX3_lot_52 (fun c_4 => ?_) (fun c_4 => ?_)
        · skip
          refine g_iconst F (v := (0 : Int32)) (by decide) dX3_lot_59 ?_
          exact g_top (gb_f (fun q => q.elim (fun z => (fun q => (fun q => c_4 q.2) q.2) z.2) (fun z => z.1 c_1))) J_9
        · skip
          refine g_iconst F (v := (1 : Int32)) (by decide) dX3_lot_55 ?_
          refine g_goto F (tgt := 60) (by decide) dX3_lot_56 ?_
          exact g_top (gb_t (Or.inl ⟨c_1, ⟨c_2, ⟨c_3, c_4⟩⟩⟩)) J_9
  · skip
    refine g_iload_n F 1 rfl rfl dX3_lot_10 ?_
    refine g_bipush F (v := (99 : Int32)) (by decide) dX3_lot_11 ?_
    refine g_icmp_ne F (tgt := 59) (by decide) dX3_lot_13 (fun c_5 => ?_) (fun c_5 => ?_)
    · skip
      refine g_iconst F (v := (0 : Int32)) (by decide) dX3_lot_59 ?_
      exact g_top (gb_f (fun q => q.elim (fun z => c_1 z.1) (fun z => (fun q => c_5 q.1) z.2))) J_9
    · skip
      refine g_iload_n F 2 rfl rfl dX3_lot_16 ?_
      refine g_i2l F dX3_lot_17 ?_
      refine g_ldc2 F (v := (50 : Int64)) q1487 dX3_lot_18 ?_
      refine g_ldc2 F (v := (99 : Int64)) q1488 dX3_lot_21 ?_
      refine g_callS F (kX3_in hl (x := purity) (lo := (50 : Int32)) (hi := (99 : Int32)) (by decide) (by decide)) (lw_S q1453 q1454 q25 q1455) myX3_in ⟨by decide, by decide⟩ rfl rfl (gle rfl) 0 0 (gle rfl) (gle rfl) (gle rfl) (gle rfl) dX3_lot_24 gx_n (gv_i ?_)
      refine gb_if_eq F (tgt := 59) (by decide) dX3_lot_27 (fun c_6 => ?_) (fun c_6 => ?_)
      · skip
        refine g_iconst F (v := (0 : Int32)) (by decide) dX3_lot_59 ?_
        exact g_top (gb_f (fun q => q.elim (fun z => c_1 z.1) (fun z => (fun q => (fun q => c_6 q.1) q.2) z.2))) J_9
      · skip
        refine g_iload_n F 3 rfl rfl dX3_lot_30 ?_
        refine g_i2l F dX3_lot_31 ?_
        refine g_lconst F (v := (1 : Int64)) (by decide) dX3_lot_32 ?_
        refine g_ldc2 F (v := (9 : Int64)) q1489 dX3_lot_33 ?_
        refine g_callS F (kX3_in hl (x := size) (lo := (1 : Int32)) (hi := (9 : Int32)) (by decide) (by decide)) (lw_S q1453 q1454 q25 q1455) myX3_in ⟨by decide, by decide⟩ rfl rfl (gle rfl) 0 0 (gle rfl) (gle rfl) (gle rfl) (gle rfl) dX3_lot_36 gx_n (gv_i ?_)
        refine gb_if_eq F (tgt := 59) (by decide) dX3_lot_39 (fun c_7 => ?_) (fun c_7 => ?_)
        · skip
          refine g_iconst F (v := (0 : Int32)) (by decide) dX3_lot_59 ?_
          exact g_top (gb_f (fun q => q.elim (fun z => c_1 z.1) (fun z => (fun q => (fun q => (fun q => c_7 q.1) q.2) q.2) z.2))) J_9
        · skip
          refine g_iload F 4 rfl dX3_lot_42 ?_
          refine g_i2l F dX3_lot_44 ?_
          refine g_lconst F (v := (1 : Int64)) (by decide) dX3_lot_45 ?_
          refine g_ldc2 F (v := (500 : Int64)) q1452 dX3_lot_46 ?_
          refine g_callS F (kX3_in hl (x := kilos) (lo := (1 : Int32)) (hi := (500 : Int32)) (by decide) (by decide)) (lw_S q1453 q1454 q25 q1455) myX3_in ⟨by decide, by decide⟩ rfl rfl (gle rfl) 0 0 (gle rfl) (gle rfl) (gle rfl) (gle rfl) dX3_lot_49 gx_n (gv_i ?_)
          refine gb_if_eq F (tgt := 59) (by decide) dX3_lot_52 (fun c_8 => ?_) (fun c_8 => ?_)
          · skip
            refine g_iconst F (v := (0 : Int32)) (by decide) dX3_lot_59 ?_
            exact g_top (gb_f (fun q => q.elim (fun z => c_1 z.1) (fun z => (fun q => (fun q => (fun q => c_8 q.2) q.2) q.2) z.2))) J_9
          · skip
            refine g_iconst F (v := (1 : Int32)) (by decide) dX3_lot_55 ?_
            refine g_goto F (tgt := 60) (by decide) dX3_lot_56 ?_
            exact g_top (gb_t (Or.inr ⟨c_1, ⟨c_5, ⟨c_6, ⟨c_7, c_8⟩⟩⟩⟩)) J_9

def sM_lay (S : gS) (batch slats shape many hand : Int32) : Value × gS := if ¬ (gIn batch (S.2 8)) ∨ (¬ (gIn slats (S.2 9))) then (.int (-1 : Int32), (gsr (gsr S.1 0 0 (upd (S.1 0 0) 8 0)) 0 0 (upd (upd (S.1 0 0) 8 0) 8 (1 : Int32)), S.2)) else (if ((gidx 4 shape) < 0) ∨ (¬ (¬ many < (1 : Int32) ∧ ¬ (500 : Int32) < many) ∨ (¬ (¬ hand < (0 : Int32) ∧ ¬ (9 : Int32) < hand))) then (.int (-1 : Int32), (gsr (gsr S.1 0 0 (upd (S.1 0 0) 8 0)) 0 0 (upd (upd (S.1 0 0) 8 0) 8 (2 : Int32)), S.2)) else (if ¬ ((¬ ((S.1 8 batch.toNatClampNeg 6) = (-1 : Int32)) ∧ ¬ ((S.1 0 0 0) < (S.1 8 batch.toNatClampNeg 4))) ∧ (¬ ((S.1 0 0 0) < (S.1 9 slats.toNatClampNeg 5)) ∧ (¬ ((S.1 9 slats.toNatClampNeg 4) ≤ 0) ∧ (¬ ((2 : Int32) < (gabs (((2 : Int32) * (S.1 9 slats.toNatClampNeg 4)) - (S.1 8 batch.toNatClampNeg 3)))) ∧ (¬ ((S.1 8 batch.toNatClampNeg 1) < many) ∧ (¬ ((S.1 9 slats.toNatClampNeg 3) < ((2 : Int32) * (((many + (if shape = (54 : Int32) then (6 : Int32) else (if shape = (48 : Int32) then (5 : Int32) else (7 : Int32)))) - (1 : Int32)) / (if shape = (54 : Int32) then (6 : Int32) else (if shape = (48 : Int32) then (5 : Int32) else (7 : Int32)))))))))))) then (.int (-1 : Int32), (gsr (gsr S.1 0 0 (upd (S.1 0 0) 8 0)) 0 0 (upd (upd (S.1 0 0) 8 0) 8 (3 : Int32)), S.2)) else (if (nI (S.2 10)) = (16 : Int32) then (.int (-1 : Int32), (gsr (gsr S.1 0 0 (upd (S.1 0 0) 8 0)) 0 0 (upd (upd (S.1 0 0) 8 0) 8 (4 : Int32)), S.2)) else (.int (nI (S.2 10)), (gsr (gsr (gsr (gsr S.1 0 0 (upd (S.1 0 0) 8 0)) 8 batch.toNatClampNeg (upd (S.1 8 batch.toNatClampNeg) 1 ((S.1 8 batch.toNatClampNeg 1) - many))) 9 slats.toNatClampNeg (upd (S.1 9 slats.toNatClampNeg) 3 ((S.1 9 slats.toNatClampNeg 3) - ((2 : Int32) * (((many + (if shape = (54 : Int32) then (6 : Int32) else (if shape = (48 : Int32) then (5 : Int32) else (7 : Int32)))) - (1 : Int32)) / (if shape = (54 : Int32) then (6 : Int32) else (if shape = (48 : Int32) then (5 : Int32) else (7 : Int32)))))))) 10 (S.2 10) (gRw [batch, slats, hand, many, (0 : Int32), (gabs (((2 : Int32) * (S.1 9 slats.toNatClampNeg 4)) - (S.1 8 batch.toNatClampNeg 3))) + ((S.1 9 slats.toNatClampNeg 1) / (4 : Int32)), (S.1 0 0 0) + (6 : Int32), (0 : Int32), (-1 : Int32), (-1 : Int32), (0 : Int32)]), va_up S.2 10 (S.2 10 + 1))))))
theorem kX3_lay {l : Launch} {G : gG} (hl : l.stackTraces = false) {S : gS} {a0 : Nat} {Fr : gH → Prop} (hF : gFr 1 Fr) (hW : gWf S) {batch slats shape many hand : Int32} (h_shape : ¬ shape < 0) : gMet l yX3_lay (ws_ yX3_lay cX3_lay 13 (some .int)) ⟨7, 2, 161, 731⟩ G [.ref a0, .int batch, .int slats, .int shape, .int many, .int hand] (gPE 1 G S a0 Fr) (gqN (sM_lay S batch slats shape many hand) G a0 Fr) gxN := by
  refine gMet_of hl pnX3 (gle rfl) (fun X Q hX F E hNm => ?_)
  subst hX
  change gW (X, G, 13, Q) (gPE 1 G S a0 Fr) [(0, .ref a0), (1, .int batch), (2, .int slats), (3, .int shape), (4, .int many), (5, .int hand)] 0 [] 0 0
  refine g_pe (fun A hA => ?_)
  subst hA
  change gW _ _ [(0, .ref (A 0 0)), (1, .int batch), (2, .int slats), (3, .int shape), (4, .int many), (5, .int hand)] 0 [] 0 0
  refine g_aload_n F 0 rfl rfl dX3_lay_0 ?_
  refine g_callV F (kX3_begins hl (pr_at (κ := 0) (i := 0) (by decide) (gc1 (gnl rfl)) (gce rfl rfl))) (g_recv F clX3 (gd_obj (pr_at (κ := 0) (i := 0) (by decide) (gc1 (gnl rfl)) (gce rfl rfl)))) q1448 q1450 qs6 q25 q1451 myX3_begins ⟨by decide, by decide⟩ rfl rfl (gle rfl) 0 0 (gle rfl) (gle rfl) (gle rfl) (gle rfl) dX3_lay_1 gx_n (gv_v ?_)
  refine g_mono (P2 := gP 1 G (gsr S.1 0 0 (upd (S.1 0 0) 8 0), S.2) A Fr []) (pr_upRow (κ := 0) (i := 0) gM1 hF (upd (S.1 0 0) 8 0) (by decide) (gc1 (gnl rfl)) (gce rfl rfl) rfl) ?_
  refine g_iload_n F 3 rfl rfl dX3_lay_4 ?_
  refine g_bipush F (v := (54 : Int32)) (by decide) dX3_lay_5 ?_
  have J_3 : gW (X, G, 13, Q) (gP 1 G (gsr S.1 0 0 (upd (S.1 0 0) 8 0), S.2) A Fr []) [(0, .ref (A 0 0)), (1, .int batch), (2, .int slats), (3, .int shape), (4, .int many), (5, .int hand)] 27 [.int (if shape = (54 : Int32) then (6 : Int32) else (if shape = (48 : Int32) then (5 : Int32) else (7 : Int32)))] 0 0 := by
    refine g_istore F (by show 6 < 13; decide) (lv2 := [(6, .int (if shape = (54 : Int32) then (6 : Int32) else (if shape = (48 : Int32) then (5 : Int32) else (7 : Int32)))), (0, .ref (A 0 0)), (1, .int batch), (2, .int slats), (3, .int shape), (4, .int many), (5, .int hand)]) rfl dX3_lay_27 ?_
    refine g_aload_n F 1 rfl rfl dX3_lay_29 ?_
    refine g_aload_n F 1 rfl rfl dX3_lay_30 ?_
    refine g_get F clX3 9 (by decide) q1398 (v := .ref (A 308 0)) (gd_get (pr_at (κ := 0) (i := 0) (by decide) (gc1 (gnl rfl)) (gce (show (gsr S.1 0 0 (upd (S.1 0 0) 8 0)) 0 0 = upd (S.1 0 0) 8 0 from gsr_s) rfl)) rfl) dX3_lay_31 ?_
    refine g_iload_n F 2 rfl rfl dX3_lay_34 ?_
    refine g_callS F (kX3_isOf hl (pr_ls (M := 1) (S := (gsr S.1 0 0 (upd (S.1 0 0) 8 0), S.2)) (A := A) (κ := 8) (by decide) (Or.inl ⟨by decide, by decide⟩) (fun q => by first | decide | exact absurd q (by decide)) (fun q => by first | decide | exact absurd q (by decide))) (gw_n hW _) (x := batch)) (lw_S q1502 q1503 q25 q1504) myX3_isOf ⟨by decide, by decide⟩ rfl rfl (gle rfl) 0 0 (gle rfl) (gle rfl) (gle rfl) (gle rfl) dX3_lay_35 gx_n (gv_i ?_)
    have J_6 : gW (X, G, 13, Q) (gP 1 G (gsr S.1 0 0 (upd (S.1 0 0) 8 0), S.2) A Fr []) [(6, .int (if shape = (54 : Int32) then (6 : Int32) else (if shape = (48 : Int32) then (5 : Int32) else (7 : Int32)))), (0, .ref (A 0 0)), (1, .int batch), (2, .int slats), (3, .int shape), (4, .int many), (5, .int hand)] 57 [.int (gb (¬ (gIn batch (S.2 8)) ∨ (¬ (gIn slats (S.2 9))))), .ref (A 0 0)] 0 0 := by
      refine g_iconst F (v := (1 : Int32)) (by decide) dX3_lay_57 ?_
      refine g_callV F (kX3_fails hl (b := gb (¬ (gIn batch (S.2 8)) ∨ (¬ (gIn slats (S.2 9))))) (nu := (1 : Int32)) (c := ¬ (gIn batch (S.2 8)) ∨ (¬ (gIn slats (S.2 9)))) gb_n0 (by decide) (pr_at (κ := 0) (i := 0) (by decide) (gc1 (gnl rfl)) (gce (show (gsr S.1 0 0 (upd (S.1 0 0) 8 0)) 0 0 = upd (S.1 0 0) 8 0 from gsr_s) rfl))) (g_recv F clX3 (gd_obj (pr_at (κ := 0) (i := 0) (by decide) (gc1 (gnl rfl)) (gce (show (gsr S.1 0 0 (upd (S.1 0 0) 8 0)) 0 0 = upd (S.1 0 0) 8 0 from gsr_s) rfl)))) q1456 q1458 qs7 q25 q1459 myX3_fails ⟨by decide, by decide⟩ rfl rfl (gle rfl) 0 0 (gle rfl) (gle rfl) (gle rfl) (gle rfl) dX3_lay_58 gx_n (gv_f (fun c_7 => ?_) (fun c_7 => ?_))
      · skip
        refine g_mono (P2 := gP 1 G (gsr (gsr S.1 0 0 (upd (S.1 0 0) 8 0)) 0 0 (upd (upd (S.1 0 0) 8 0) 8 (1 : Int32)), S.2) A Fr []) (pr_upRow (κ := 0) (i := 0) gM1 hF (upd (upd (S.1 0 0) 8 0) 8 (1 : Int32)) (by decide) (gc1 (gnl rfl)) (gce (show (gsr S.1 0 0 (upd (S.1 0 0) 8 0)) 0 0 = upd (S.1 0 0) 8 0 from gsr_s) rfl) rfl) ?_
        refine g_if_ne F (tgt := 112) (by decide) dX3_lay_61 (fun _ => ?_) (fun c => absurd c (by decide))
        refine g_iconst F (v := (-1 : Int32)) (by decide) dX3_lay_112 ?_
        exact g_retI F E rfl rfl (gle rfl) (gle rfl) dX3_lay_113 (fun _ hp => ⟨_, _, (if_pos c_7), rfl, ⟨A, rfl, gP_T0 hp⟩⟩)
      · skip
        refine g_if_ne F (tgt := 112) (by decide) dX3_lay_61 (fun c => absurd c (by decide)) (fun _ => ?_)
        refine g_aload_n F 1 rfl rfl dX3_lay_64 ?_
        refine g_ldcS F (i := 4) (List.mem_of_getElem? (i := 11) rfl) dX3_lay_65 ?_
        refine g_iload_n F 4 rfl rfl dX3_lay_67 ?_
        refine g_callV F (kJ0_indexOf hl (by decide) (ch := shape) h_shape) (g_srecv F (by decide)) q1469 q436 q437 q19 q438 myJ0_indexOf ⟨by decide, by decide⟩ rfl rfl (gle rfl) 0 0 (gle rfl) (gle rfl) (gle rfl) (gle rfl) dX3_lay_68 gx_n (gv_i ?_)
        have J_11 : gW (X, G, 13, Q) (gP 1 G (gsr S.1 0 0 (upd (S.1 0 0) 8 0), S.2) A Fr []) [(6, .int (if shape = (54 : Int32) then (6 : Int32) else (if shape = (48 : Int32) then (5 : Int32) else (7 : Int32)))), (0, .ref (A 0 0)), (1, .int batch), (2, .int slats), (3, .int shape), (4, .int many), (5, .int hand)] 105 [.int (gb (((gidx 4 shape) < 0) ∨ (¬ (¬ many < (1 : Int32) ∧ ¬ (500 : Int32) < many) ∨ (¬ (¬ hand < (0 : Int32) ∧ ¬ (9 : Int32) < hand))))), .ref (A 0 0)] 0 0 := by
          refine g_iconst F (v := (2 : Int32)) (by decide) dX3_lay_105 ?_
          refine g_callV F (kX3_fails hl (b := gb (((gidx 4 shape) < 0) ∨ (¬ (¬ many < (1 : Int32) ∧ ¬ (500 : Int32) < many) ∨ (¬ (¬ hand < (0 : Int32) ∧ ¬ (9 : Int32) < hand))))) (nu := (2 : Int32)) (c := ((gidx 4 shape) < 0) ∨ (¬ (¬ many < (1 : Int32) ∧ ¬ (500 : Int32) < many) ∨ (¬ (¬ hand < (0 : Int32) ∧ ¬ (9 : Int32) < hand)))) gb_n0 (by decide) (pr_at (κ := 0) (i := 0) (by decide) (gc1 (gnl rfl)) (gce (show (gsr S.1 0 0 (upd (S.1 0 0) 8 0)) 0 0 = upd (S.1 0 0) 8 0 from gsr_s) rfl))) (g_recv F clX3 (gd_obj (pr_at (κ := 0) (i := 0) (by decide) (gc1 (gnl rfl)) (gce (show (gsr S.1 0 0 (upd (S.1 0 0) 8 0)) 0 0 = upd (S.1 0 0) 8 0 from gsr_s) rfl)))) q1456 q1458 qs7 q25 q1459 myX3_fails ⟨by decide, by decide⟩ rfl rfl (gle rfl) 0 0 (gle rfl) (gle rfl) (gle rfl) (gle rfl) dX3_lay_106 gx_n (gv_f (fun c_12 => ?_) (fun c_12 => ?_))
          · skip
            refine g_mono (P2 := gP 1 G (gsr (gsr S.1 0 0 (upd (S.1 0 0) 8 0)) 0 0 (upd (upd (S.1 0 0) 8 0) 8 (2 : Int32)), S.2) A Fr []) (pr_upRow (κ := 0) (i := 0) gM1 hF (upd (upd (S.1 0 0) 8 0) 8 (2 : Int32)) (by decide) (gc1 (gnl rfl)) (gce (show (gsr S.1 0 0 (upd (S.1 0 0) 8 0)) 0 0 = upd (S.1 0 0) 8 0 from gsr_s) rfl) rfl) ?_
            refine g_if_eq F (tgt := 114) (by decide) dX3_lay_109 (fun c => absurd c (by decide)) (fun _ => ?_)
            refine g_iconst F (v := (-1 : Int32)) (by decide) dX3_lay_112 ?_
            exact g_retI F E rfl rfl (gle rfl) (gle rfl) dX3_lay_113 (fun _ hp => ⟨_, _, ((if_neg c_7).trans (if_pos c_12)), rfl, ⟨A, rfl, gP_T0 hp⟩⟩)
          · skip
            refine g_if_eq F (tgt := 114) (by decide) dX3_lay_109 (fun _ => ?_) (fun c => absurd c (by decide))
            refine g_aload_n F 1 rfl rfl dX3_lay_114 ?_
            refine g_get F clX3 9 (by decide) q1398 (v := .ref (A 308 0)) (gd_get (pr_at (κ := 0) (i := 0) (by decide) (gc1 (gnl rfl)) (gce (show (gsr S.1 0 0 (upd (S.1 0 0) 8 0)) 0 0 = upd (S.1 0 0) 8 0 from gsr_s) rfl)) rfl) dX3_lay_115 ?_
            refine g_iload_n F 2 rfl rfl dX3_lay_118 ?_
            refine g_callF F clJ3 (kJ3_get hl (pr_ls (M := 1) (S := (gsr S.1 0 0 (upd (S.1 0 0) 8 0), S.2)) (A := A) (κ := 8) (by decide) (Or.inl ⟨by decide, by decide⟩) (fun q => by first | decide | exact absurd q (by decide)) (fun q => by first | decide | exact absurd q (by decide))) (j := batch.toNatClampNeg) (Decidable.not_not.mp (fun q => c_7 (Or.inl q))).2 (gw_n hW _) rfl (Decidable.not_not.mp (fun q => c_7 (Or.inl q))).1) (g_recv F clJ3 (gls_obj (pr_ls (M := 1) (S := (gsr S.1 0 0 (upd (S.1 0 0) 8 0), S.2)) (A := A) (κ := 8) (by decide) (Or.inl ⟨by decide, by decide⟩) (fun q => by first | decide | exact absurd q (by decide)) (fun q => by first | decide | exact absurd q (by decide))))) q1506 q809 q811 q22 q813 (List.mem_of_getElem? (i := 1) rfl) (gT_w q812 rfl) (gT_w q810 rfl) (gT_w q293 rfl) gface_1 ⟨by decide, by decide⟩ rfl rfl (gle rfl) 0 0 (gle rfl) (gle rfl) (gle rfl) (gle rfl) dX3_lay_119 gx_n (gv_i ?_)
            refine g_castS F (g_recv F clX10 (gd_obj (pr_at (κ := 8) (i := batch.toNatClampNeg) (by decide) (gc6 (by decide) (Decidable.not_not.mp (fun q => c_7 (Or.inl q))).2) (gce (show (gsr S.1 0 0 (upd (S.1 0 0) 8 0)) 8 batch.toNatClampNeg = S.1 8 batch.toNatClampNeg from (gsr_p (by decide) rfl)) rfl)))) q1524 dX3_lay_124 ?_
            refine g_astore F (by show 7 < 13; decide) (lv2 := [(7, .ref (A 8 batch.toNatClampNeg)), (6, .int (if shape = (54 : Int32) then (6 : Int32) else (if shape = (48 : Int32) then (5 : Int32) else (7 : Int32)))), (0, .ref (A 0 0)), (1, .int batch), (2, .int slats), (3, .int shape), (4, .int many), (5, .int hand)]) rfl dX3_lay_127 ?_
            refine g_aload_n F 2 rfl rfl dX3_lay_129 ?_
            refine g_get F clX3 10 (by decide) q1399 (v := .ref (A 309 0)) (gd_get (pr_at (κ := 0) (i := 0) (by decide) (gc1 (gnl rfl)) (gce (show (gsr S.1 0 0 (upd (S.1 0 0) 8 0)) 0 0 = upd (S.1 0 0) 8 0 from gsr_s) rfl)) rfl) dX3_lay_130 ?_
            refine g_iload_n F 4 rfl rfl dX3_lay_133 ?_
            refine g_callF F clJ3 (kJ3_get hl (pr_ls (M := 1) (S := (gsr S.1 0 0 (upd (S.1 0 0) 8 0), S.2)) (A := A) (κ := 9) (by decide) (Or.inl ⟨by decide, by decide⟩) (fun q => by first | decide | exact absurd q (by decide)) (fun q => by first | decide | exact absurd q (by decide))) (j := slats.toNatClampNeg) (Decidable.not_not.mp (fun q => c_7 (Or.inr q))).2 (gw_n hW _) rfl (Decidable.not_not.mp (fun q => c_7 (Or.inr q))).1) (g_recv F clJ3 (gls_obj (pr_ls (M := 1) (S := (gsr S.1 0 0 (upd (S.1 0 0) 8 0), S.2)) (A := A) (κ := 9) (by decide) (Or.inl ⟨by decide, by decide⟩) (fun q => by first | decide | exact absurd q (by decide)) (fun q => by first | decide | exact absurd q (by decide))))) q1506 q809 q811 q22 q813 (List.mem_of_getElem? (i := 1) rfl) (gT_w q812 rfl) (gT_w q810 rfl) (gT_w q293 rfl) gface_1 ⟨by decide, by decide⟩ rfl rfl (gle rfl) 0 0 (gle rfl) (gle rfl) (gle rfl) (gle rfl) dX3_lay_134 gx_n (gv_i ?_)
            refine g_castS F (g_recv F clX12 (gd_obj (pr_at (κ := 9) (i := slats.toNatClampNeg) (by decide) (gc6 (by decide) (Decidable.not_not.mp (fun q => c_7 (Or.inr q))).2) (gce (show (gsr S.1 0 0 (upd (S.1 0 0) 8 0)) 9 slats.toNatClampNeg = S.1 9 slats.toNatClampNeg from (gsr_p (by decide) rfl)) rfl)))) q1623 dX3_lay_139 ?_
            refine g_astore F (by show 8 < 13; decide) (lv2 := [(8, .ref (A 9 slats.toNatClampNeg)), (7, .ref (A 8 batch.toNatClampNeg)), (6, .int (if shape = (54 : Int32) then (6 : Int32) else (if shape = (48 : Int32) then (5 : Int32) else (7 : Int32)))), (0, .ref (A 0 0)), (1, .int batch), (2, .int slats), (3, .int shape), (4, .int many), (5, .int hand)]) rfl dX3_lay_142 ?_
            refine g_iconst F (v := (2 : Int32)) (by decide) dX3_lay_144 ?_
            refine g_aload F 0 rfl dX3_lay_145 ?_
            refine g_getN F clX12 4 (by decide) (gT_w q1633 rfl) (v := .int (S.1 9 slats.toNatClampNeg 4)) (gd_get (pr_at (κ := 9) (i := slats.toNatClampNeg) (by decide) (gc6 (by decide) (Decidable.not_not.mp (fun q => c_7 (Or.inr q))).2) (gce (show (gsr S.1 0 0 (upd (S.1 0 0) 8 0)) 9 slats.toNatClampNeg = S.1 9 slats.toNatClampNeg from (gsr_p (by decide) rfl)) rfl)) rfl) dX3_lay_147 ?_
            refine g_imul F dX3_lay_150 ?_
            refine g_aload F 1 rfl dX3_lay_151 ?_
            refine g_getN F clX10 3 (by decide) (gT_w q1533 rfl) (v := .int (S.1 8 batch.toNatClampNeg 3)) (gd_get (pr_at (κ := 8) (i := batch.toNatClampNeg) (by decide) (gc6 (by decide) (Decidable.not_not.mp (fun q => c_7 (Or.inl q))).2) (gce (show (gsr S.1 0 0 (upd (S.1 0 0) 8 0)) 8 batch.toNatClampNeg = S.1 8 batch.toNatClampNeg from (gsr_p (by decide) rfl)) rfl)) rfl) dX3_lay_153 ?_
            refine g_isub F dX3_lay_156 ?_
            refine g_mabs F q1672 (gle rfl) (gle rfl) (gle rfl) (gle rfl) dX3_lay_157 ?_
            refine g_istore F (by show 9 < 13; decide) (lv2 := [(9, .int (gabs (((2 : Int32) * (S.1 9 slats.toNatClampNeg 4)) - (S.1 8 batch.toNatClampNeg 3)))), (8, .ref (A 9 slats.toNatClampNeg)), (7, .ref (A 8 batch.toNatClampNeg)), (6, .int (if shape = (54 : Int32) then (6 : Int32) else (if shape = (48 : Int32) then (5 : Int32) else (7 : Int32)))), (0, .ref (A 0 0)), (1, .int batch), (2, .int slats), (3, .int shape), (4, .int many), (5, .int hand)]) rfl dX3_lay_160 ?_
            refine g_iconst F (v := (2 : Int32)) (by decide) dX3_lay_162 ?_
            refine g_iload F 8 rfl dX3_lay_163 ?_
            refine g_iload F 3 rfl dX3_lay_165 ?_
            refine g_iadd F dX3_lay_167 ?_
            refine g_iconst F (v := (1 : Int32)) (by decide) dX3_lay_168 ?_
            refine g_isub F dX3_lay_169 ?_
            refine g_iload F 3 rfl dX3_lay_170 ?_
            refine g_idiv F (by (repeat' split) <;> decide) dX3_lay_172 ?_
            refine g_imul F dX3_lay_173 ?_
            refine g_istore F (by show 10 < 13; decide) (lv2 := [(10, .int ((2 : Int32) * (((many + (if shape = (54 : Int32) then (6 : Int32) else (if shape = (48 : Int32) then (5 : Int32) else (7 : Int32)))) - (1 : Int32)) / (if shape = (54 : Int32) then (6 : Int32) else (if shape = (48 : Int32) then (5 : Int32) else (7 : Int32)))))), (9, .int (gabs (((2 : Int32) * (S.1 9 slats.toNatClampNeg 4)) - (S.1 8 batch.toNatClampNeg 3)))), (8, .ref (A 9 slats.toNatClampNeg)), (7, .ref (A 8 batch.toNatClampNeg)), (6, .int (if shape = (54 : Int32) then (6 : Int32) else (if shape = (48 : Int32) then (5 : Int32) else (7 : Int32)))), (0, .ref (A 0 0)), (1, .int batch), (2, .int slats), (3, .int shape), (4, .int many), (5, .int hand)]) rfl dX3_lay_174 ?_
            refine g_aload_n F 5 rfl rfl dX3_lay_176 ?_
            refine g_aload F 3 rfl dX3_lay_177 ?_
            refine g_callV F (kX3_isFired hl (pr_at (κ := 0) (i := 0) (by decide) (gc1 (gnl rfl)) (gce (show (gsr S.1 0 0 (upd (S.1 0 0) 8 0)) 0 0 = upd (S.1 0 0) 8 0 from gsr_s) rfl)) (pr_at (κ := 8) (i := batch.toNatClampNeg) (by decide) (gc6 (by decide) (Decidable.not_not.mp (fun q => c_7 (Or.inl q))).2) (gce (show (gsr S.1 0 0 (upd (S.1 0 0) 8 0)) 8 batch.toNatClampNeg = S.1 8 batch.toNatClampNeg from (gsr_p (by decide) rfl)) rfl))) (g_recv F clX3 (gd_obj (pr_at (κ := 0) (i := 0) (by decide) (gc1 (gnl rfl)) (gce (show (gsr S.1 0 0 (upd (S.1 0 0) 8 0)) 0 0 = upd (S.1 0 0) 8 0 from gsr_s) rfl)))) q1597 q1599 qs12 q25 q1600 myX3_isFired ⟨by decide, by decide⟩ rfl rfl (gle rfl) 0 0 (gle rfl) (gle rfl) (gle rfl) (gle rfl) dX3_lay_179 gx_n (gv_i ?_)
            have J_19 : gW (X, G, 13, Q) (gP 1 G (gsr S.1 0 0 (upd (S.1 0 0) 8 0), S.2) A Fr []) [(10, .int ((2 : Int32) * (((many + (if shape = (54 : Int32) then (6 : Int32) else (if shape = (48 : Int32) then (5 : Int32) else (7 : Int32)))) - (1 : Int32)) / (if shape = (54 : Int32) then (6 : Int32) else (if shape = (48 : Int32) then (5 : Int32) else (7 : Int32)))))), (9, .int (gabs (((2 : Int32) * (S.1 9 slats.toNatClampNeg 4)) - (S.1 8 batch.toNatClampNeg 3)))), (8, .ref (A 9 slats.toNatClampNeg)), (7, .ref (A 8 batch.toNatClampNeg)), (6, .int (if shape = (54 : Int32) then (6 : Int32) else (if shape = (48 : Int32) then (5 : Int32) else (7 : Int32)))), (0, .ref (A 0 0)), (1, .int batch), (2, .int slats), (3, .int shape), (4, .int many), (5, .int hand)] 236 [.int (gb ((¬ ((S.1 8 batch.toNatClampNeg 6) = (-1 : Int32)) ∧ ¬ ((S.1 0 0 0) < (S.1 8 batch.toNatClampNeg 4))) ∧ (¬ ((S.1 0 0 0) < (S.1 9 slats.toNatClampNeg 5)) ∧ (¬ ((S.1 9 slats.toNatClampNeg 4) ≤ 0) ∧ (¬ ((2 : Int32) < (gabs (((2 : Int32) * (S.1 9 slats.toNatClampNeg 4)) - (S.1 8 batch.toNatClampNeg 3)))) ∧ (¬ ((S.1 8 batch.toNatClampNeg 1) < many) ∧ (¬ ((S.1 9 slats.toNatClampNeg 3) < ((2 : Int32) * (((many + (if shape = (54 : Int32) then (6 : Int32) else (if shape = (48 : Int32) then (5 : Int32) else (7 : Int32)))) - (1 : Int32)) / (if shape = (54 : Int32) then (6 : Int32) else (if shape = (48 : Int32) then (5 : Int32) else (7 : Int32)))))))))))))] 0 0 := by
              refine g_istore F (by show 11 < 13; decide) (lv2 := [(11, .int (gb ((¬ ((S.1 8 batch.toNatClampNeg 6) = (-1 : Int32)) ∧ ¬ ((S.1 0 0 0) < (S.1 8 batch.toNatClampNeg 4))) ∧ (¬ ((S.1 0 0 0) < (S.1 9 slats.toNatClampNeg 5)) ∧ (¬ ((S.1 9 slats.toNatClampNeg 4) ≤ 0) ∧ (¬ ((2 : Int32) < (gabs (((2 : Int32) * (S.1 9 slats.toNatClampNeg 4)) - (S.1 8 batch.toNatClampNeg 3)))) ∧ (¬ ((S.1 8 batch.toNatClampNeg 1) < many) ∧ (¬ ((S.1 9 slats.toNatClampNeg 3) < ((2 : Int32) * (((many + (if shape = (54 : Int32) then (6 : Int32) else (if shape = (48 : Int32) then (5 : Int32) else (7 : Int32)))) - (1 : Int32)) / (if shape = (54 : Int32) then (6 : Int32) else (if shape = (48 : Int32) then (5 : Int32) else (7 : Int32)))))))))))))), (10, .int ((2 : Int32) * (((many + (if shape = (54 : Int32) then (6 : Int32) else (if shape = (48 : Int32) then (5 : Int32) else (7 : Int32)))) - (1 : Int32)) / (if shape = (54 : Int32) then (6 : Int32) else (if shape = (48 : Int32) then (5 : Int32) else (7 : Int32)))))), (9, .int (gabs (((2 : Int32) * (S.1 9 slats.toNatClampNeg 4)) - (S.1 8 batch.toNatClampNeg 3)))), (8, .ref (A 9 slats.toNatClampNeg)), (7, .ref (A 8 batch.toNatClampNeg)), (6, .int (if shape = (54 : Int32) then (6 : Int32) else (if shape = (48 : Int32) then (5 : Int32) else (7 : Int32)))), (0, .ref (A 0 0)), (1, .int batch), (2, .int slats), (3, .int shape), (4, .int many), (5, .int hand)]) rfl dX3_lay_236 ?_
              refine g_aload_n F 6 rfl rfl dX3_lay_238 ?_
              refine g_iload F 0 rfl dX3_lay_239 ?_
              have J_21 : gW (X, G, 13, Q) (gP 1 G (gsr S.1 0 0 (upd (S.1 0 0) 8 0), S.2) A Fr []) [(11, .int (gb ((¬ ((S.1 8 batch.toNatClampNeg 6) = (-1 : Int32)) ∧ ¬ ((S.1 0 0 0) < (S.1 8 batch.toNatClampNeg 4))) ∧ (¬ ((S.1 0 0 0) < (S.1 9 slats.toNatClampNeg 5)) ∧ (¬ ((S.1 9 slats.toNatClampNeg 4) ≤ 0) ∧ (¬ ((2 : Int32) < (gabs (((2 : Int32) * (S.1 9 slats.toNatClampNeg 4)) - (S.1 8 batch.toNatClampNeg 3)))) ∧ (¬ ((S.1 8 batch.toNatClampNeg 1) < many) ∧ (¬ ((S.1 9 slats.toNatClampNeg 3) < ((2 : Int32) * (((many + (if shape = (54 : Int32) then (6 : Int32) else (if shape = (48 : Int32) then (5 : Int32) else (7 : Int32)))) - (1 : Int32)) / (if shape = (54 : Int32) then (6 : Int32) else (if shape = (48 : Int32) then (5 : Int32) else (7 : Int32)))))))))))))), (10, .int ((2 : Int32) * (((many + (if shape = (54 : Int32) then (6 : Int32) else (if shape = (48 : Int32) then (5 : Int32) else (7 : Int32)))) - (1 : Int32)) / (if shape = (54 : Int32) then (6 : Int32) else (if shape = (48 : Int32) then (5 : Int32) else (7 : Int32)))))), (9, .int (gabs (((2 : Int32) * (S.1 9 slats.toNatClampNeg 4)) - (S.1 8 batch.toNatClampNeg 3)))), (8, .ref (A 9 slats.toNatClampNeg)), (7, .ref (A 8 batch.toNatClampNeg)), (6, .int (if shape = (54 : Int32) then (6 : Int32) else (if shape = (48 : Int32) then (5 : Int32) else (7 : Int32)))), (0, .ref (A 0 0)), (1, .int batch), (2, .int slats), (3, .int shape), (4, .int many), (5, .int hand)] 249 [.int (gb (¬ ((¬ ((S.1 8 batch.toNatClampNeg 6) = (-1 : Int32)) ∧ ¬ ((S.1 0 0 0) < (S.1 8 batch.toNatClampNeg 4))) ∧ (¬ ((S.1 0 0 0) < (S.1 9 slats.toNatClampNeg 5)) ∧ (¬ ((S.1 9 slats.toNatClampNeg 4) ≤ 0) ∧ (¬ ((2 : Int32) < (gabs (((2 : Int32) * (S.1 9 slats.toNatClampNeg 4)) - (S.1 8 batch.toNatClampNeg 3)))) ∧ (¬ ((S.1 8 batch.toNatClampNeg 1) < many) ∧ (¬ ((S.1 9 slats.toNatClampNeg 3) < ((2 : Int32) * (((many + (if shape = (54 : Int32) then (6 : Int32) else (if shape = (48 : Int32) then (5 : Int32) else (7 : Int32)))) - (1 : Int32)) / (if shape = (54 : Int32) then (6 : Int32) else (if shape = (48 : Int32) then (5 : Int32) else (7 : Int32)))))))))))))), .ref (A 0 0)] 0 0 := by
                refine g_iconst F (v := (3 : Int32)) (by decide) dX3_lay_249 ?_
                refine g_callV F (kX3_fails hl (b := gb (¬ ((¬ ((S.1 8 batch.toNatClampNeg 6) = (-1 : Int32)) ∧ ¬ ((S.1 0 0 0) < (S.1 8 batch.toNatClampNeg 4))) ∧ (¬ ((S.1 0 0 0) < (S.1 9 slats.toNatClampNeg 5)) ∧ (¬ ((S.1 9 slats.toNatClampNeg 4) ≤ 0) ∧ (¬ ((2 : Int32) < (gabs (((2 : Int32) * (S.1 9 slats.toNatClampNeg 4)) - (S.1 8 batch.toNatClampNeg 3)))) ∧ (¬ ((S.1 8 batch.toNatClampNeg 1) < many) ∧ (¬ ((S.1 9 slats.toNatClampNeg 3) < ((2 : Int32) * (((many + (if shape = (54 : Int32) then (6 : Int32) else (if shape = (48 : Int32) then (5 : Int32) else (7 : Int32)))) - (1 : Int32)) / (if shape = (54 : Int32) then (6 : Int32) else (if shape = (48 : Int32) then (5 : Int32) else (7 : Int32)))))))))))))) (nu := (3 : Int32)) (c := ¬ ((¬ ((S.1 8 batch.toNatClampNeg 6) = (-1 : Int32)) ∧ ¬ ((S.1 0 0 0) < (S.1 8 batch.toNatClampNeg 4))) ∧ (¬ ((S.1 0 0 0) < (S.1 9 slats.toNatClampNeg 5)) ∧ (¬ ((S.1 9 slats.toNatClampNeg 4) ≤ 0) ∧ (¬ ((2 : Int32) < (gabs (((2 : Int32) * (S.1 9 slats.toNatClampNeg 4)) - (S.1 8 batch.toNatClampNeg 3)))) ∧ (¬ ((S.1 8 batch.toNatClampNeg 1) < many) ∧ (¬ ((S.1 9 slats.toNatClampNeg 3) < ((2 : Int32) * (((many + (if shape = (54 : Int32) then (6 : Int32) else (if shape = (48 : Int32) then (5 : Int32) else (7 : Int32)))) - (1 : Int32)) / (if shape = (54 : Int32) then (6 : Int32) else (if shape = (48 : Int32) then (5 : Int32) else (7 : Int32))))))))))))) gb_n0 (by decide) (pr_at (κ := 0) (i := 0) (by decide) (gc1 (gnl rfl)) (gce (show (gsr S.1 0 0 (upd (S.1 0 0) 8 0)) 0 0 = upd (S.1 0 0) 8 0 from gsr_s) rfl))) (g_recv F clX3 (gd_obj (pr_at (κ := 0) (i := 0) (by decide) (gc1 (gnl rfl)) (gce (show (gsr S.1 0 0 (upd (S.1 0 0) 8 0)) 0 0 = upd (S.1 0 0) 8 0 from gsr_s) rfl)))) q1456 q1458 qs7 q25 q1459 myX3_fails ⟨by decide, by decide⟩ rfl rfl (gle rfl) 0 0 (gle rfl) (gle rfl) (gle rfl) (gle rfl) dX3_lay_250 gx_n (gv_f (fun c_22 => ?_) (fun c_22 => ?_))
                · skip
                  refine g_mono (P2 := gP 1 G (gsr (gsr S.1 0 0 (upd (S.1 0 0) 8 0)) 0 0 (upd (upd (S.1 0 0) 8 0) 8 (3 : Int32)), S.2) A Fr []) (pr_upRow (κ := 0) (i := 0) gM1 hF (upd (upd (S.1 0 0) 8 0) 8 (3 : Int32)) (by decide) (gc1 (gnl rfl)) (gce (show (gsr S.1 0 0 (upd (S.1 0 0) 8 0)) 0 0 = upd (S.1 0 0) 8 0 from gsr_s) rfl) rfl) ?_
                  refine g_if_ne F (tgt := 283) (by decide) dX3_lay_253 (fun _ => ?_) (fun c => absurd c (by decide))
                  refine g_iconst F (v := (-1 : Int32)) (by decide) dX3_lay_283 ?_
                  exact g_retI F E rfl rfl (gle rfl) (gle rfl) dX3_lay_284 (fun _ hp => ⟨_, _, ((if_neg c_7).trans ((if_neg c_12).trans (if_pos c_22))), rfl, ⟨A, rfl, gP_T0 hp⟩⟩)
                · skip
                  refine g_if_ne F (tgt := 283) (by decide) dX3_lay_253 (fun c => absurd c (by decide)) (fun _ => ?_)
                  refine g_aload_n F 6 rfl rfl dX3_lay_256 ?_
                  refine g_aload_n F 6 rfl rfl dX3_lay_257 ?_
                  refine g_get F clX3 11 (by decide) q1400 (v := .ref (A 310 0)) (gd_get (pr_at (κ := 0) (i := 0) (by decide) (gc1 (gnl rfl)) (gce (show (gsr S.1 0 0 (upd (S.1 0 0) 8 0)) 0 0 = upd (S.1 0 0) 8 0 from gsr_s) rfl)) rfl) dX3_lay_258 ?_
                  refine g_callF F clJ3 (kJ3_size hl (pr_ls (M := 1) (S := (gsr S.1 0 0 (upd (S.1 0 0) 8 0), S.2)) (A := A) (κ := 10) (by decide) (Or.inl ⟨by decide, by decide⟩) (fun q => by first | decide | exact absurd q (by decide)) (fun q => by first | decide | exact absurd q (by decide)))) (g_recv F clJ3 (gls_obj (pr_ls (M := 1) (S := (gsr S.1 0 0 (upd (S.1 0 0) 8 0), S.2)) (A := A) (κ := 10) (by decide) (Or.inl ⟨by decide, by decide⟩) (fun q => by first | decide | exact absurd q (by decide)) (fun q => by first | decide | exact absurd q (by decide))))) q1491 q634 q636 q22 q638 (List.mem_of_getElem? (i := 0) rfl) (gT_w q637 rfl) (gT_w q635 rfl) (gT_w q293 rfl) gface_0 ⟨by decide, by decide⟩ rfl rfl (gle rfl) 0 0 (gle rfl) (gle rfl) (gle rfl) (gle rfl) dX3_lay_261 gx_n (gv_i ?_)
                  refine g_bipush F (v := (16 : Int32)) (by decide) dX3_lay_266 ?_
                  have J_24 : gW (X, G, 13, Q) (gP 1 G (gsr S.1 0 0 (upd (S.1 0 0) 8 0), S.2) A Fr []) [(11, .int (gb ((¬ ((S.1 8 batch.toNatClampNeg 6) = (-1 : Int32)) ∧ ¬ ((S.1 0 0 0) < (S.1 8 batch.toNatClampNeg 4))) ∧ (¬ ((S.1 0 0 0) < (S.1 9 slats.toNatClampNeg 5)) ∧ (¬ ((S.1 9 slats.toNatClampNeg 4) ≤ 0) ∧ (¬ ((2 : Int32) < (gabs (((2 : Int32) * (S.1 9 slats.toNatClampNeg 4)) - (S.1 8 batch.toNatClampNeg 3)))) ∧ (¬ ((S.1 8 batch.toNatClampNeg 1) < many) ∧ (¬ ((S.1 9 slats.toNatClampNeg 3) < ((2 : Int32) * (((many + (if shape = (54 : Int32) then (6 : Int32) else (if shape = (48 : Int32) then (5 : Int32) else (7 : Int32)))) - (1 : Int32)) / (if shape = (54 : Int32) then (6 : Int32) else (if shape = (48 : Int32) then (5 : Int32) else (7 : Int32)))))))))))))), (10, .int ((2 : Int32) * (((many + (if shape = (54 : Int32) then (6 : Int32) else (if shape = (48 : Int32) then (5 : Int32) else (7 : Int32)))) - (1 : Int32)) / (if shape = (54 : Int32) then (6 : Int32) else (if shape = (48 : Int32) then (5 : Int32) else (7 : Int32)))))), (9, .int (gabs (((2 : Int32) * (S.1 9 slats.toNatClampNeg 4)) - (S.1 8 batch.toNatClampNeg 3)))), (8, .ref (A 9 slats.toNatClampNeg)), (7, .ref (A 8 batch.toNatClampNeg)), (6, .int (if shape = (54 : Int32) then (6 : Int32) else (if shape = (48 : Int32) then (5 : Int32) else (7 : Int32)))), (0, .ref (A 0 0)), (1, .int batch), (2, .int slats), (3, .int shape), (4, .int many), (5, .int hand)] 276 [.int (gb ((nI (S.2 10)) = (16 : Int32))), .ref (A 0 0)] 0 0 := by
                    refine g_iconst F (v := (4 : Int32)) (by decide) dX3_lay_276 ?_
                    refine g_callV F (kX3_fails hl (b := gb ((nI (S.2 10)) = (16 : Int32))) (nu := (4 : Int32)) (c := (nI (S.2 10)) = (16 : Int32)) gb_n0 (by decide) (pr_at (κ := 0) (i := 0) (by decide) (gc1 (gnl rfl)) (gce (show (gsr S.1 0 0 (upd (S.1 0 0) 8 0)) 0 0 = upd (S.1 0 0) 8 0 from gsr_s) rfl))) (g_recv F clX3 (gd_obj (pr_at (κ := 0) (i := 0) (by decide) (gc1 (gnl rfl)) (gce (show (gsr S.1 0 0 (upd (S.1 0 0) 8 0)) 0 0 = upd (S.1 0 0) 8 0 from gsr_s) rfl)))) q1456 q1458 qs7 q25 q1459 myX3_fails ⟨by decide, by decide⟩ rfl rfl (gle rfl) 0 0 (gle rfl) (gle rfl) (gle rfl) (gle rfl) dX3_lay_277 gx_n (gv_f (fun c_25 => ?_) (fun c_25 => ?_))
                    · skip
                      refine g_mono (P2 := gP 1 G (gsr (gsr S.1 0 0 (upd (S.1 0 0) 8 0)) 0 0 (upd (upd (S.1 0 0) 8 0) 8 (4 : Int32)), S.2) A Fr []) (pr_upRow (κ := 0) (i := 0) gM1 hF (upd (upd (S.1 0 0) 8 0) 8 (4 : Int32)) (by decide) (gc1 (gnl rfl)) (gce (show (gsr S.1 0 0 (upd (S.1 0 0) 8 0)) 0 0 = upd (S.1 0 0) 8 0 from gsr_s) rfl) rfl) ?_
                      refine g_if_eq F (tgt := 285) (by decide) dX3_lay_280 (fun c => absurd c (by decide)) (fun _ => ?_)
                      refine g_iconst F (v := (-1 : Int32)) (by decide) dX3_lay_283 ?_
                      exact g_retI F E rfl rfl (gle rfl) (gle rfl) dX3_lay_284 (fun _ hp => ⟨_, _, ((if_neg c_7).trans ((if_neg c_12).trans ((if_neg c_22).trans (if_pos c_25)))), rfl, ⟨A, rfl, gP_T0 hp⟩⟩)
                    · skip
                      refine g_if_eq F (tgt := 285) (by decide) dX3_lay_280 (fun _ => ?_) (fun c => absurd c (by decide))
                      refine g_aload F 4 rfl dX3_lay_285 ?_
                      refine g_dup F rfl dX3_lay_287 ?_
                      refine g_getN F clX10 1 (by decide) (gT_w q1531 rfl) (v := .int (S.1 8 batch.toNatClampNeg 1)) (gd_get (pr_at (κ := 8) (i := batch.toNatClampNeg) (by decide) (gc6 (by decide) (Decidable.not_not.mp (fun q => c_7 (Or.inl q))).2) (gce (show (gsr S.1 0 0 (upd (S.1 0 0) 8 0)) 8 batch.toNatClampNeg = S.1 8 batch.toNatClampNeg from (gsr_p (by decide) rfl)) rfl)) rfl) dX3_lay_288 ?_
                      refine g_iload F 10 rfl dX3_lay_291 ?_
                      refine g_isub F dX3_lay_293 ?_
                      refine g_putN (P2 := gP 1 G (gsr (gsr S.1 0 0 (upd (S.1 0 0) 8 0)) 8 batch.toNatClampNeg (upd (S.1 8 batch.toNatClampNeg) 1 ((S.1 8 batch.toNatClampNeg 1) - many)), S.2) A Fr []) F clX10 1 (by decide) (gT_w q1531 rfl) rfl rfl rfl (pr_put (κ := 8) (i := batch.toNatClampNeg) gM1 hF (upd (S.1 8 batch.toNatClampNeg) 1 ((S.1 8 batch.toNatClampNeg 1) - many)) (by decide) (gc6 (by decide) (Decidable.not_not.mp (fun q => c_7 (Or.inl q))).2) (gce (show (gsr S.1 0 0 (upd (S.1 0 0) 8 0)) 8 batch.toNatClampNeg = S.1 8 batch.toNatClampNeg from (gsr_p (by decide) rfl)) rfl) (gnl rfl) rfl) dX3_lay_294 ?_
                      refine g_aload F 3 rfl dX3_lay_297 ?_
                      refine g_dup F rfl dX3_lay_299 ?_
                      refine g_getN F clX12 3 (by decide) (gT_w q1632 rfl) (v := .int (S.1 9 slats.toNatClampNeg 3)) (gd_get (pr_at (κ := 9) (i := slats.toNatClampNeg) (by decide) (gc6 (by decide) (Decidable.not_not.mp (fun q => c_7 (Or.inr q))).2) (gce (show (gsr (gsr S.1 0 0 (upd (S.1 0 0) 8 0)) 8 batch.toNatClampNeg (upd (S.1 8 batch.toNatClampNeg) 1 ((S.1 8 batch.toNatClampNeg 1) - many))) 9 slats.toNatClampNeg = S.1 9 slats.toNatClampNeg from (gsr_p (by decide) (gsr_p (by decide) rfl))) rfl)) rfl) dX3_lay_300 ?_
                      refine g_iload F 1 rfl dX3_lay_303 ?_
                      refine g_isub F dX3_lay_305 ?_
                      refine g_putN (P2 := gP 1 G (gsr (gsr (gsr S.1 0 0 (upd (S.1 0 0) 8 0)) 8 batch.toNatClampNeg (upd (S.1 8 batch.toNatClampNeg) 1 ((S.1 8 batch.toNatClampNeg 1) - many))) 9 slats.toNatClampNeg (upd (S.1 9 slats.toNatClampNeg) 3 ((S.1 9 slats.toNatClampNeg 3) - ((2 : Int32) * (((many + (if shape = (54 : Int32) then (6 : Int32) else (if shape = (48 : Int32) then (5 : Int32) else (7 : Int32)))) - (1 : Int32)) / (if shape = (54 : Int32) then (6 : Int32) else (if shape = (48 : Int32) then (5 : Int32) else (7 : Int32))))))), S.2) A Fr []) F clX12 3 (by decide) (gT_w q1632 rfl) rfl rfl rfl (pr_put (κ := 9) (i := slats.toNatClampNeg) gM1 hF (upd (S.1 9 slats.toNatClampNeg) 3 ((S.1 9 slats.toNatClampNeg 3) - ((2 : Int32) * (((many + (if shape = (54 : Int32) then (6 : Int32) else (if shape = (48 : Int32) then (5 : Int32) else (7 : Int32)))) - (1 : Int32)) / (if shape = (54 : Int32) then (6 : Int32) else (if shape = (48 : Int32) then (5 : Int32) else (7 : Int32))))))) (by decide) (gc6 (by decide) (Decidable.not_not.mp (fun q => c_7 (Or.inr q))).2) (gce (show (gsr (gsr S.1 0 0 (upd (S.1 0 0) 8 0)) 8 batch.toNatClampNeg (upd (S.1 8 batch.toNatClampNeg) 1 ((S.1 8 batch.toNatClampNeg 1) - many))) 9 slats.toNatClampNeg = S.1 9 slats.toNatClampNeg from (gsr_p (by decide) (gsr_p (by decide) rfl))) rfl) (gnl rfl) rfl) dX3_lay_306 ?_
                      refine g_new F clX14 q1673 q1674 q52 (5000, 0) (fs := [.int (0 : Int32), .int (0 : Int32), .int (0 : Int32), .int (0 : Int32), .int (0 : Int32), .int (0 : Int32), .int (0 : Int32), .int (0 : Int32), .int (0 : Int32), .int (0 : Int32), .int (0 : Int32)]) rfl 1 11 (gle rfl) (gle rfl) (gle rfl) (gle rfl) (Pa := fun a_26 => gP 1 G (gsr (gsr (gsr S.1 0 0 (upd (S.1 0 0) 8 0)) 8 batch.toNatClampNeg (upd (S.1 8 batch.toNatClampNeg) 1 ((S.1 8 batch.toNatClampNeg 1) - many))) 9 slats.toNatClampNeg (upd (S.1 9 slats.toNatClampNeg) 3 ((S.1 9 slats.toNatClampNeg 3) - ((2 : Int32) * (((many + (if shape = (54 : Int32) then (6 : Int32) else (if shape = (48 : Int32) then (5 : Int32) else (7 : Int32)))) - (1 : Int32)) / (if shape = (54 : Int32) then (6 : Int32) else (if shape = (48 : Int32) then (5 : Int32) else (7 : Int32))))))), S.2) A Fr [(a_26, .inr (11, [.int (0 : Int32), .int (0 : Int32), .int (0 : Int32), .int (0 : Int32), .int (0 : Int32), .int (0 : Int32), .int (0 : Int32), .int (0 : Int32), .int (0 : Int32), .int (0 : Int32), .int (0 : Int32)]))]) (pr_new hF) dX3_lay_309 (fun a_26 => ?_)
                      refine g_dup F rfl dX3_lay_312 ?_
                      refine g_callIN F (kX14_init hl (pr_atT (j := 0) rfl)) rfl (gT_w q1675 rfl) q1676 q52 q1677 myX14_init ⟨by decide, by decide⟩ rfl rfl (gle rfl) 1 11 (gle rfl) (gle rfl) (gle rfl) (gle rfl) dX3_lay_313 gx_n (gv_v ?_)
                      refine g_mono (P2 := gP 1 G (gsr (gsr (gsr S.1 0 0 (upd (S.1 0 0) 8 0)) 8 batch.toNatClampNeg (upd (S.1 8 batch.toNatClampNeg) 1 ((S.1 8 batch.toNatClampNeg 1) - many))) 9 slats.toNatClampNeg (upd (S.1 9 slats.toNatClampNeg) 3 ((S.1 9 slats.toNatClampNeg 3) - ((2 : Int32) * (((many + (if shape = (54 : Int32) then (6 : Int32) else (if shape = (48 : Int32) then (5 : Int32) else (7 : Int32)))) - (1 : Int32)) / (if shape = (54 : Int32) then (6 : Int32) else (if shape = (48 : Int32) then (5 : Int32) else (7 : Int32))))))), S.2) A Fr [(a_26, .inr (11, [.int (0 : Int32), .int (0 : Int32), .int (0 : Int32), .int (0 : Int32), .int (0 : Int32), .int (0 : Int32), .int (0 : Int32), .int (0 : Int32), .int (-1 : Int32), .int (-1 : Int32), .int (0 : Int32)]))]) (pr_up gM1 hF (j := 0) rfl) ?_
                      refine g_astore F (by show 12 < 13; decide) (lv2 := [(12, .ref a_26), (11, .int (gb ((¬ ((S.1 8 batch.toNatClampNeg 6) = (-1 : Int32)) ∧ ¬ ((S.1 0 0 0) < (S.1 8 batch.toNatClampNeg 4))) ∧ (¬ ((S.1 0 0 0) < (S.1 9 slats.toNatClampNeg 5)) ∧ (¬ ((S.1 9 slats.toNatClampNeg 4) ≤ 0) ∧ (¬ ((2 : Int32) < (gabs (((2 : Int32) * (S.1 9 slats.toNatClampNeg 4)) - (S.1 8 batch.toNatClampNeg 3)))) ∧ (¬ ((S.1 8 batch.toNatClampNeg 1) < many) ∧ (¬ ((S.1 9 slats.toNatClampNeg 3) < ((2 : Int32) * (((many + (if shape = (54 : Int32) then (6 : Int32) else (if shape = (48 : Int32) then (5 : Int32) else (7 : Int32)))) - (1 : Int32)) / (if shape = (54 : Int32) then (6 : Int32) else (if shape = (48 : Int32) then (5 : Int32) else (7 : Int32)))))))))))))), (10, .int ((2 : Int32) * (((many + (if shape = (54 : Int32) then (6 : Int32) else (if shape = (48 : Int32) then (5 : Int32) else (7 : Int32)))) - (1 : Int32)) / (if shape = (54 : Int32) then (6 : Int32) else (if shape = (48 : Int32) then (5 : Int32) else (7 : Int32)))))), (9, .int (gabs (((2 : Int32) * (S.1 9 slats.toNatClampNeg 4)) - (S.1 8 batch.toNatClampNeg 3)))), (8, .ref (A 9 slats.toNatClampNeg)), (7, .ref (A 8 batch.toNatClampNeg)), (6, .int (if shape = (54 : Int32) then (6 : Int32) else (if shape = (48 : Int32) then (5 : Int32) else (7 : Int32)))), (0, .ref (A 0 0)), (1, .int batch), (2, .int slats), (3, .int shape), (4, .int many), (5, .int hand)]) rfl dX3_lay_316 ?_
                      refine g_aload F 0 rfl dX3_lay_318 ?_
                      refine g_iload_n F 8 rfl rfl dX3_lay_320 ?_
                      refine g_putN (P2 := gP 1 G (gsr (gsr (gsr S.1 0 0 (upd (S.1 0 0) 8 0)) 8 batch.toNatClampNeg (upd (S.1 8 batch.toNatClampNeg) 1 ((S.1 8 batch.toNatClampNeg 1) - many))) 9 slats.toNatClampNeg (upd (S.1 9 slats.toNatClampNeg) 3 ((S.1 9 slats.toNatClampNeg 3) - ((2 : Int32) * (((many + (if shape = (54 : Int32) then (6 : Int32) else (if shape = (48 : Int32) then (5 : Int32) else (7 : Int32)))) - (1 : Int32)) / (if shape = (54 : Int32) then (6 : Int32) else (if shape = (48 : Int32) then (5 : Int32) else (7 : Int32))))))), S.2) A Fr [(a_26, .inr (11, [.int batch, .int (0 : Int32), .int (0 : Int32), .int (0 : Int32), .int (0 : Int32), .int (0 : Int32), .int (0 : Int32), .int (0 : Int32), .int (-1 : Int32), .int (-1 : Int32), .int (0 : Int32)]))]) F clX14 0 (by decide) (gT_w q1679 rfl) rfl rfl rfl (pr_putX (f := 0) (T := [(a_26, .inr (11, [.int (0 : Int32), .int (0 : Int32), .int (0 : Int32), .int (0 : Int32), .int (0 : Int32), .int (0 : Int32), .int (0 : Int32), .int (0 : Int32), .int (-1 : Int32), .int (-1 : Int32), .int (0 : Int32)]))]) (fs := [.int (0 : Int32), .int (0 : Int32), .int (0 : Int32), .int (0 : Int32), .int (0 : Int32), .int (0 : Int32), .int (0 : Int32), .int (0 : Int32), .int (-1 : Int32), .int (-1 : Int32), .int (0 : Int32)]) (v := .int batch) gM1 hF (j := 0) rfl (gnl rfl)) dX3_lay_321 ?_
                      refine g_aload F 0 rfl dX3_lay_324 ?_
                      refine g_iload_n F 9 rfl rfl dX3_lay_326 ?_
                      refine g_putN (P2 := gP 1 G (gsr (gsr (gsr S.1 0 0 (upd (S.1 0 0) 8 0)) 8 batch.toNatClampNeg (upd (S.1 8 batch.toNatClampNeg) 1 ((S.1 8 batch.toNatClampNeg 1) - many))) 9 slats.toNatClampNeg (upd (S.1 9 slats.toNatClampNeg) 3 ((S.1 9 slats.toNatClampNeg 3) - ((2 : Int32) * (((many + (if shape = (54 : Int32) then (6 : Int32) else (if shape = (48 : Int32) then (5 : Int32) else (7 : Int32)))) - (1 : Int32)) / (if shape = (54 : Int32) then (6 : Int32) else (if shape = (48 : Int32) then (5 : Int32) else (7 : Int32))))))), S.2) A Fr [(a_26, .inr (11, [.int batch, .int slats, .int (0 : Int32), .int (0 : Int32), .int (0 : Int32), .int (0 : Int32), .int (0 : Int32), .int (0 : Int32), .int (-1 : Int32), .int (-1 : Int32), .int (0 : Int32)]))]) F clX14 1 (by decide) (gT_w q1680 rfl) rfl rfl rfl (pr_putX (f := 1) (T := [(a_26, .inr (11, [.int batch, .int (0 : Int32), .int (0 : Int32), .int (0 : Int32), .int (0 : Int32), .int (0 : Int32), .int (0 : Int32), .int (0 : Int32), .int (-1 : Int32), .int (-1 : Int32), .int (0 : Int32)]))]) (fs := [.int batch, .int (0 : Int32), .int (0 : Int32), .int (0 : Int32), .int (0 : Int32), .int (0 : Int32), .int (0 : Int32), .int (0 : Int32), .int (-1 : Int32), .int (-1 : Int32), .int (0 : Int32)]) (v := .int slats) gM1 hF (j := 0) rfl (gnl rfl)) dX3_lay_327 ?_
                      refine g_aload F 0 rfl dX3_lay_330 ?_
                      refine g_iload F 12 rfl dX3_lay_332 ?_
                      refine g_putN (P2 := gP 1 G (gsr (gsr (gsr S.1 0 0 (upd (S.1 0 0) 8 0)) 8 batch.toNatClampNeg (upd (S.1 8 batch.toNatClampNeg) 1 ((S.1 8 batch.toNatClampNeg 1) - many))) 9 slats.toNatClampNeg (upd (S.1 9 slats.toNatClampNeg) 3 ((S.1 9 slats.toNatClampNeg 3) - ((2 : Int32) * (((many + (if shape = (54 : Int32) then (6 : Int32) else (if shape = (48 : Int32) then (5 : Int32) else (7 : Int32)))) - (1 : Int32)) / (if shape = (54 : Int32) then (6 : Int32) else (if shape = (48 : Int32) then (5 : Int32) else (7 : Int32))))))), S.2) A Fr [(a_26, .inr (11, [.int batch, .int slats, .int hand, .int (0 : Int32), .int (0 : Int32), .int (0 : Int32), .int (0 : Int32), .int (0 : Int32), .int (-1 : Int32), .int (-1 : Int32), .int (0 : Int32)]))]) F clX14 2 (by decide) (gT_w q1681 rfl) rfl rfl rfl (pr_putX (f := 2) (T := [(a_26, .inr (11, [.int batch, .int slats, .int (0 : Int32), .int (0 : Int32), .int (0 : Int32), .int (0 : Int32), .int (0 : Int32), .int (0 : Int32), .int (-1 : Int32), .int (-1 : Int32), .int (0 : Int32)]))]) (fs := [.int batch, .int slats, .int (0 : Int32), .int (0 : Int32), .int (0 : Int32), .int (0 : Int32), .int (0 : Int32), .int (0 : Int32), .int (-1 : Int32), .int (-1 : Int32), .int (0 : Int32)]) (v := .int hand) gM1 hF (j := 0) rfl (gnl rfl)) dX3_lay_334 ?_
                      refine g_aload F 0 rfl dX3_lay_337 ?_
                      refine g_iload F 11 rfl dX3_lay_339 ?_
                      refine g_putN (P2 := gP 1 G (gsr (gsr (gsr S.1 0 0 (upd (S.1 0 0) 8 0)) 8 batch.toNatClampNeg (upd (S.1 8 batch.toNatClampNeg) 1 ((S.1 8 batch.toNatClampNeg 1) - many))) 9 slats.toNatClampNeg (upd (S.1 9 slats.toNatClampNeg) 3 ((S.1 9 slats.toNatClampNeg 3) - ((2 : Int32) * (((many + (if shape = (54 : Int32) then (6 : Int32) else (if shape = (48 : Int32) then (5 : Int32) else (7 : Int32)))) - (1 : Int32)) / (if shape = (54 : Int32) then (6 : Int32) else (if shape = (48 : Int32) then (5 : Int32) else (7 : Int32))))))), S.2) A Fr [(a_26, .inr (11, [.int batch, .int slats, .int hand, .int many, .int (0 : Int32), .int (0 : Int32), .int (0 : Int32), .int (0 : Int32), .int (-1 : Int32), .int (-1 : Int32), .int (0 : Int32)]))]) F clX14 3 (by decide) (gT_w q1682 rfl) rfl rfl rfl (pr_putX (f := 3) (T := [(a_26, .inr (11, [.int batch, .int slats, .int hand, .int (0 : Int32), .int (0 : Int32), .int (0 : Int32), .int (0 : Int32), .int (0 : Int32), .int (-1 : Int32), .int (-1 : Int32), .int (0 : Int32)]))]) (fs := [.int batch, .int slats, .int hand, .int (0 : Int32), .int (0 : Int32), .int (0 : Int32), .int (0 : Int32), .int (0 : Int32), .int (-1 : Int32), .int (-1 : Int32), .int (0 : Int32)]) (v := .int many) gM1 hF (j := 0) rfl (gnl rfl)) dX3_lay_341 ?_
                      refine g_aload F 0 rfl dX3_lay_344 ?_
                      refine g_iload F 3 rfl dX3_lay_346 ?_
                      refine g_aload F 4 rfl dX3_lay_348 ?_
                      refine g_getN F clX12 1 (by decide) (gT_w q1630 rfl) (v := .int (S.1 9 slats.toNatClampNeg 1)) (gd_get (pr_at (κ := 9) (i := slats.toNatClampNeg) (by decide) (gc6 (by decide) (Decidable.not_not.mp (fun q => c_7 (Or.inr q))).2) (gce (show (gsr (gsr (gsr S.1 0 0 (upd (S.1 0 0) 8 0)) 8 batch.toNatClampNeg (upd (S.1 8 batch.toNatClampNeg) 1 ((S.1 8 batch.toNatClampNeg 1) - many))) 9 slats.toNatClampNeg (upd (S.1 9 slats.toNatClampNeg) 3 ((S.1 9 slats.toNatClampNeg 3) - ((2 : Int32) * (((many + (if shape = (54 : Int32) then (6 : Int32) else (if shape = (48 : Int32) then (5 : Int32) else (7 : Int32)))) - (1 : Int32)) / (if shape = (54 : Int32) then (6 : Int32) else (if shape = (48 : Int32) then (5 : Int32) else (7 : Int32)))))))) 9 slats.toNatClampNeg = upd (S.1 9 slats.toNatClampNeg) 3 ((S.1 9 slats.toNatClampNeg 3) - ((2 : Int32) * (((many + (if shape = (54 : Int32) then (6 : Int32) else (if shape = (48 : Int32) then (5 : Int32) else (7 : Int32)))) - (1 : Int32)) / (if shape = (54 : Int32) then (6 : Int32) else (if shape = (48 : Int32) then (5 : Int32) else (7 : Int32)))))) from gsr_s) rfl)) rfl) dX3_lay_350 ?_
                      refine g_iconst F (v := (4 : Int32)) (by decide) dX3_lay_353 ?_
                      refine g_idiv F (by decide) dX3_lay_354 ?_
                      refine g_iadd F dX3_lay_355 ?_
                      refine g_putN (P2 := gP 1 G (gsr (gsr (gsr S.1 0 0 (upd (S.1 0 0) 8 0)) 8 batch.toNatClampNeg (upd (S.1 8 batch.toNatClampNeg) 1 ((S.1 8 batch.toNatClampNeg 1) - many))) 9 slats.toNatClampNeg (upd (S.1 9 slats.toNatClampNeg) 3 ((S.1 9 slats.toNatClampNeg 3) - ((2 : Int32) * (((many + (if shape = (54 : Int32) then (6 : Int32) else (if shape = (48 : Int32) then (5 : Int32) else (7 : Int32)))) - (1 : Int32)) / (if shape = (54 : Int32) then (6 : Int32) else (if shape = (48 : Int32) then (5 : Int32) else (7 : Int32))))))), S.2) A Fr [(a_26, .inr (11, [.int batch, .int slats, .int hand, .int many, .int (0 : Int32), .int ((gabs (((2 : Int32) * (S.1 9 slats.toNatClampNeg 4)) - (S.1 8 batch.toNatClampNeg 3))) + ((S.1 9 slats.toNatClampNeg 1) / (4 : Int32))), .int (0 : Int32), .int (0 : Int32), .int (-1 : Int32), .int (-1 : Int32), .int (0 : Int32)]))]) F clX14 5 (by decide) (gT_w q1684 rfl) rfl rfl rfl (pr_putX (f := 5) (T := [(a_26, .inr (11, [.int batch, .int slats, .int hand, .int many, .int (0 : Int32), .int (0 : Int32), .int (0 : Int32), .int (0 : Int32), .int (-1 : Int32), .int (-1 : Int32), .int (0 : Int32)]))]) (fs := [.int batch, .int slats, .int hand, .int many, .int (0 : Int32), .int (0 : Int32), .int (0 : Int32), .int (0 : Int32), .int (-1 : Int32), .int (-1 : Int32), .int (0 : Int32)]) (v := .int ((gabs (((2 : Int32) * (S.1 9 slats.toNatClampNeg 4)) - (S.1 8 batch.toNatClampNeg 3))) + ((S.1 9 slats.toNatClampNeg 1) / (4 : Int32)))) gM1 hF (j := 0) rfl (gnl rfl)) dX3_lay_356 ?_
                      refine g_aload F 0 rfl dX3_lay_359 ?_
                      refine g_aload_n F 7 rfl rfl dX3_lay_361 ?_
                      refine g_get F clX3 1 (by decide) q1390 (v := .int (S.1 0 0 0)) (gd_get (pr_at (κ := 0) (i := 0) (by decide) (gc1 (gnl rfl)) (gce (show (gsr (gsr (gsr S.1 0 0 (upd (S.1 0 0) 8 0)) 8 batch.toNatClampNeg (upd (S.1 8 batch.toNatClampNeg) 1 ((S.1 8 batch.toNatClampNeg 1) - many))) 9 slats.toNatClampNeg (upd (S.1 9 slats.toNatClampNeg) 3 ((S.1 9 slats.toNatClampNeg 3) - ((2 : Int32) * (((many + (if shape = (54 : Int32) then (6 : Int32) else (if shape = (48 : Int32) then (5 : Int32) else (7 : Int32)))) - (1 : Int32)) / (if shape = (54 : Int32) then (6 : Int32) else (if shape = (48 : Int32) then (5 : Int32) else (7 : Int32)))))))) 0 0 = upd (S.1 0 0) 8 0 from (gsr_p (by decide) (gsr_p (by decide) gsr_s))) rfl)) rfl) dX3_lay_362 ?_
                      refine g_bipush F (v := (6 : Int32)) (by decide) dX3_lay_365 ?_
                      refine g_iadd F dX3_lay_367 ?_
                      refine g_putN (P2 := gP 1 G (gsr (gsr (gsr S.1 0 0 (upd (S.1 0 0) 8 0)) 8 batch.toNatClampNeg (upd (S.1 8 batch.toNatClampNeg) 1 ((S.1 8 batch.toNatClampNeg 1) - many))) 9 slats.toNatClampNeg (upd (S.1 9 slats.toNatClampNeg) 3 ((S.1 9 slats.toNatClampNeg 3) - ((2 : Int32) * (((many + (if shape = (54 : Int32) then (6 : Int32) else (if shape = (48 : Int32) then (5 : Int32) else (7 : Int32)))) - (1 : Int32)) / (if shape = (54 : Int32) then (6 : Int32) else (if shape = (48 : Int32) then (5 : Int32) else (7 : Int32))))))), S.2) A Fr [(a_26, .inr (11, [.int batch, .int slats, .int hand, .int many, .int (0 : Int32), .int ((gabs (((2 : Int32) * (S.1 9 slats.toNatClampNeg 4)) - (S.1 8 batch.toNatClampNeg 3))) + ((S.1 9 slats.toNatClampNeg 1) / (4 : Int32))), .int ((S.1 0 0 0) + (6 : Int32)), .int (0 : Int32), .int (-1 : Int32), .int (-1 : Int32), .int (0 : Int32)]))]) F clX14 6 (by decide) (gT_w q1685 rfl) rfl rfl rfl (pr_putX (f := 6) (T := [(a_26, .inr (11, [.int batch, .int slats, .int hand, .int many, .int (0 : Int32), .int ((gabs (((2 : Int32) * (S.1 9 slats.toNatClampNeg 4)) - (S.1 8 batch.toNatClampNeg 3))) + ((S.1 9 slats.toNatClampNeg 1) / (4 : Int32))), .int (0 : Int32), .int (0 : Int32), .int (-1 : Int32), .int (-1 : Int32), .int (0 : Int32)]))]) (fs := [.int batch, .int slats, .int hand, .int many, .int (0 : Int32), .int ((gabs (((2 : Int32) * (S.1 9 slats.toNatClampNeg 4)) - (S.1 8 batch.toNatClampNeg 3))) + ((S.1 9 slats.toNatClampNeg 1) / (4 : Int32))), .int (0 : Int32), .int (0 : Int32), .int (-1 : Int32), .int (-1 : Int32), .int (0 : Int32)]) (v := .int ((S.1 0 0 0) + (6 : Int32))) gM1 hF (j := 0) rfl (gnl rfl)) dX3_lay_368 ?_
                      refine g_aload_n F 7 rfl rfl dX3_lay_371 ?_
                      refine g_get F clX3 11 (by decide) q1400 (v := .ref (A 310 0)) (gd_get (pr_at (κ := 0) (i := 0) (by decide) (gc1 (gnl rfl)) (gce (show (gsr (gsr (gsr S.1 0 0 (upd (S.1 0 0) 8 0)) 8 batch.toNatClampNeg (upd (S.1 8 batch.toNatClampNeg) 1 ((S.1 8 batch.toNatClampNeg 1) - many))) 9 slats.toNatClampNeg (upd (S.1 9 slats.toNatClampNeg) 3 ((S.1 9 slats.toNatClampNeg 3) - ((2 : Int32) * (((many + (if shape = (54 : Int32) then (6 : Int32) else (if shape = (48 : Int32) then (5 : Int32) else (7 : Int32)))) - (1 : Int32)) / (if shape = (54 : Int32) then (6 : Int32) else (if shape = (48 : Int32) then (5 : Int32) else (7 : Int32)))))))) 0 0 = upd (S.1 0 0) 8 0 from (gsr_p (by decide) (gsr_p (by decide) gsr_s))) rfl)) rfl) dX3_lay_372 ?_
                      refine g_aload F 0 rfl dX3_lay_375 ?_
                      refine g_callF F clJ3 (kJ3_add hl (pr_ls (M := 1) (S := (gsr (gsr (gsr S.1 0 0 (upd (S.1 0 0) 8 0)) 8 batch.toNatClampNeg (upd (S.1 8 batch.toNatClampNeg) 1 ((S.1 8 batch.toNatClampNeg 1) - many))) 9 slats.toNatClampNeg (upd (S.1 9 slats.toNatClampNeg) 3 ((S.1 9 slats.toNatClampNeg 3) - ((2 : Int32) * (((many + (if shape = (54 : Int32) then (6 : Int32) else (if shape = (48 : Int32) then (5 : Int32) else (7 : Int32)))) - (1 : Int32)) / (if shape = (54 : Int32) then (6 : Int32) else (if shape = (48 : Int32) then (5 : Int32) else (7 : Int32))))))), S.2)) (A := A) (κ := 10) (by decide) (Or.inl ⟨by decide, by decide⟩) (fun q => by first | decide | exact absurd q (by decide)) (fun q => by first | decide | exact absurd q (by decide))) (Nat.le_trans (gw_64 (gWf_n (κ := 9) (i := slats.toNatClampNeg) (r := upd (S.1 9 slats.toNatClampNeg) 3 ((S.1 9 slats.toNatClampNeg 3) - ((2 : Int32) * (((many + (if shape = (54 : Int32) then (6 : Int32) else (if shape = (48 : Int32) then (5 : Int32) else (7 : Int32)))) - (1 : Int32)) / (if shape = (54 : Int32) then (6 : Int32) else (if shape = (48 : Int32) then (5 : Int32) else (7 : Int32))))))) (gWf_8 (i := batch.toNatClampNeg) (r := upd (S.1 8 batch.toNatClampNeg) 1 ((S.1 8 batch.toNatClampNeg 1) - many)) (gWf_0 (r := upd (S.1 0 0) 8 0) hW (gw_b hW)) rfl) (by decide)) _) (by decide)) (pr_elT (j := 0) rfl (Or.inl ⟨_, _, rfl, by decide, by decide⟩)) (pr_el (by decide) (by decide) (fun q => by first | decide | exact absurd q (by decide)) (fun q => by first | decide | exact absurd q (by decide)))) (g_recv F clJ3 (gls_obj (pr_ls (M := 1) (S := (gsr (gsr (gsr S.1 0 0 (upd (S.1 0 0) 8 0)) 8 batch.toNatClampNeg (upd (S.1 8 batch.toNatClampNeg) 1 ((S.1 8 batch.toNatClampNeg 1) - many))) 9 slats.toNatClampNeg (upd (S.1 9 slats.toNatClampNeg) 3 ((S.1 9 slats.toNatClampNeg 3) - ((2 : Int32) * (((many + (if shape = (54 : Int32) then (6 : Int32) else (if shape = (48 : Int32) then (5 : Int32) else (7 : Int32)))) - (1 : Int32)) / (if shape = (54 : Int32) then (6 : Int32) else (if shape = (48 : Int32) then (5 : Int32) else (7 : Int32))))))), S.2)) (A := A) (κ := 10) (by decide) (Or.inl ⟨by decide, by decide⟩) (fun q => by first | decide | exact absurd q (by decide)) (fun q => by first | decide | exact absurd q (by decide))))) q1493 q680 q682 q22 q684 (List.mem_of_getElem? (i := 2) rfl) (gT_w q683 rfl) (gT_w q681 rfl) (gT_w q293 rfl) gface_2 ⟨by decide, by decide⟩ rfl rfl (gle rfl) 2 161 (gle rfl) (gle rfl) (gle rfl) (gle rfl) dX3_lay_377 gx_n (gv_i ?_)
                      refine g_retag (P2 := gP 1 G (gsr (gsr (gsr (gsr S.1 0 0 (upd (S.1 0 0) 8 0)) 8 batch.toNatClampNeg (upd (S.1 8 batch.toNatClampNeg) 1 ((S.1 8 batch.toNatClampNeg 1) - many))) 9 slats.toNatClampNeg (upd (S.1 9 slats.toNatClampNeg) 3 ((S.1 9 slats.toNatClampNeg 3) - ((2 : Int32) * (((many + (if shape = (54 : Int32) then (6 : Int32) else (if shape = (48 : Int32) then (5 : Int32) else (7 : Int32)))) - (1 : Int32)) / (if shape = (54 : Int32) then (6 : Int32) else (if shape = (48 : Int32) then (5 : Int32) else (7 : Int32)))))))) 10 (S.2 10) (gRw [batch, slats, hand, many, (0 : Int32), (gabs (((2 : Int32) * (S.1 9 slats.toNatClampNeg 4)) - (S.1 8 batch.toNatClampNeg 3))) + ((S.1 9 slats.toNatClampNeg 1) / (4 : Int32)), (S.1 0 0 0) + (6 : Int32), (0 : Int32), (-1 : Int32), (-1 : Int32), (0 : Int32)]), va_up S.2 10 (S.2 10 + 1)) (gAa A 10 (S.2 10) a_26) Fr []) (pr_add (T0 := []) (κ := 10) gM1 hF (gWf_n (κ := 9) (i := slats.toNatClampNeg) (r := upd (S.1 9 slats.toNatClampNeg) 3 ((S.1 9 slats.toNatClampNeg 3) - ((2 : Int32) * (((many + (if shape = (54 : Int32) then (6 : Int32) else (if shape = (48 : Int32) then (5 : Int32) else (7 : Int32)))) - (1 : Int32)) / (if shape = (54 : Int32) then (6 : Int32) else (if shape = (48 : Int32) then (5 : Int32) else (7 : Int32))))))) (gWf_8 (i := batch.toNatClampNeg) (r := upd (S.1 8 batch.toNatClampNeg) 1 ((S.1 8 batch.toNatClampNeg 1) - many)) (gWf_0 (r := upd (S.1 0 0) 8 0) hW (gw_b hW)) rfl) (by decide)) (by decide) (by decide) (by decide) (gRw [batch, slats, hand, many, (0 : Int32), (gabs (((2 : Int32) * (S.1 9 slats.toNatClampNeg 4)) - (S.1 8 batch.toNatClampNeg 3))) + ((S.1 9 slats.toNatClampNeg 1) / (4 : Int32)), (S.1 0 0 0) + (6 : Int32), (0 : Int32), (-1 : Int32), (-1 : Int32), (0 : Int32)]) rfl) ?_
                      refine g_pop F rfl dX3_lay_382 ?_
                      refine g_aload_n F 7 rfl rfl dX3_lay_383 ?_
                      refine g_get F clX3 11 (by decide) q1400 (v := .ref (A 310 0)) (gd_get (pr_at (κ := 0) (i := 0) (by decide) (gc1 (gnl rfl)) (gce (show (gsr (gsr (gsr (gsr S.1 0 0 (upd (S.1 0 0) 8 0)) 8 batch.toNatClampNeg (upd (S.1 8 batch.toNatClampNeg) 1 ((S.1 8 batch.toNatClampNeg 1) - many))) 9 slats.toNatClampNeg (upd (S.1 9 slats.toNatClampNeg) 3 ((S.1 9 slats.toNatClampNeg 3) - ((2 : Int32) * (((many + (if shape = (54 : Int32) then (6 : Int32) else (if shape = (48 : Int32) then (5 : Int32) else (7 : Int32)))) - (1 : Int32)) / (if shape = (54 : Int32) then (6 : Int32) else (if shape = (48 : Int32) then (5 : Int32) else (7 : Int32)))))))) 10 (S.2 10) (gRw [batch, slats, hand, many, (0 : Int32), (gabs (((2 : Int32) * (S.1 9 slats.toNatClampNeg 4)) - (S.1 8 batch.toNatClampNeg 3))) + ((S.1 9 slats.toNatClampNeg 1) / (4 : Int32)), (S.1 0 0 0) + (6 : Int32), (0 : Int32), (-1 : Int32), (-1 : Int32), (0 : Int32)])) 0 0 = upd (S.1 0 0) 8 0 from (gsr_p (by decide) (gsr_p (by decide) (gsr_p (by decide) gsr_s)))) rfl)) rfl) dX3_lay_384 ?_
                      refine g_callF F clJ3 (kJ3_size hl (pr_ls (M := 1) (S := (gsr (gsr (gsr (gsr S.1 0 0 (upd (S.1 0 0) 8 0)) 8 batch.toNatClampNeg (upd (S.1 8 batch.toNatClampNeg) 1 ((S.1 8 batch.toNatClampNeg 1) - many))) 9 slats.toNatClampNeg (upd (S.1 9 slats.toNatClampNeg) 3 ((S.1 9 slats.toNatClampNeg 3) - ((2 : Int32) * (((many + (if shape = (54 : Int32) then (6 : Int32) else (if shape = (48 : Int32) then (5 : Int32) else (7 : Int32)))) - (1 : Int32)) / (if shape = (54 : Int32) then (6 : Int32) else (if shape = (48 : Int32) then (5 : Int32) else (7 : Int32)))))))) 10 (S.2 10) (gRw [batch, slats, hand, many, (0 : Int32), (gabs (((2 : Int32) * (S.1 9 slats.toNatClampNeg 4)) - (S.1 8 batch.toNatClampNeg 3))) + ((S.1 9 slats.toNatClampNeg 1) / (4 : Int32)), (S.1 0 0 0) + (6 : Int32), (0 : Int32), (-1 : Int32), (-1 : Int32), (0 : Int32)]), va_up S.2 10 (S.2 10 + 1))) (A := gAa A 10 (S.2 10) a_26) (κ := 10) (by decide) (Or.inl ⟨by decide, by decide⟩) (fun q => by first | decide | exact absurd q (by decide)) (fun q => by first | decide | exact absurd q (by decide)))) (g_recv F clJ3 (gls_obj (pr_ls (M := 1) (S := (gsr (gsr (gsr (gsr S.1 0 0 (upd (S.1 0 0) 8 0)) 8 batch.toNatClampNeg (upd (S.1 8 batch.toNatClampNeg) 1 ((S.1 8 batch.toNatClampNeg 1) - many))) 9 slats.toNatClampNeg (upd (S.1 9 slats.toNatClampNeg) 3 ((S.1 9 slats.toNatClampNeg 3) - ((2 : Int32) * (((many + (if shape = (54 : Int32) then (6 : Int32) else (if shape = (48 : Int32) then (5 : Int32) else (7 : Int32)))) - (1 : Int32)) / (if shape = (54 : Int32) then (6 : Int32) else (if shape = (48 : Int32) then (5 : Int32) else (7 : Int32)))))))) 10 (S.2 10) (gRw [batch, slats, hand, many, (0 : Int32), (gabs (((2 : Int32) * (S.1 9 slats.toNatClampNeg 4)) - (S.1 8 batch.toNatClampNeg 3))) + ((S.1 9 slats.toNatClampNeg 1) / (4 : Int32)), (S.1 0 0 0) + (6 : Int32), (0 : Int32), (-1 : Int32), (-1 : Int32), (0 : Int32)]), va_up S.2 10 (S.2 10 + 1))) (A := gAa A 10 (S.2 10) a_26) (κ := 10) (by decide) (Or.inl ⟨by decide, by decide⟩) (fun q => by first | decide | exact absurd q (by decide)) (fun q => by first | decide | exact absurd q (by decide))))) q1491 q634 q636 q22 q638 (List.mem_of_getElem? (i := 0) rfl) (gT_w q637 rfl) (gT_w q635 rfl) (gT_w q293 rfl) gface_0 ⟨by decide, by decide⟩ rfl rfl (gle rfl) 2 161 (gle rfl) (gle rfl) (gle rfl) (gle rfl) dX3_lay_387 gx_n (gv_i ?_)
                      refine g_iconst F (v := (1 : Int32)) (by decide) dX3_lay_392 ?_
                      refine g_isub F dX3_lay_393 ?_
                      refine g_top (nI_pred (S.2 10)) ?_
                      exact g_retI F E rfl rfl (gle rfl) (gle rfl) dX3_lay_394 (fun _ hp => ⟨_, _, ((if_neg c_7).trans ((if_neg c_12).trans ((if_neg c_22).trans (if_neg c_25)))), rfl, ⟨gAa A 10 (S.2 10) a_26, rfl, gP_T0 hp⟩⟩)
                  refine g_icmp_ne F (tgt := 275) (by decide) dX3_lay_268 (fun c_23 => ?_) (fun c_23 => ?_)
                  · skip
                    refine g_iconst F (v := (0 : Int32)) (by decide) dX3_lay_275 ?_
                    exact g_top (gb_f c_23) J_24
                  · skip
                    refine g_iconst F (v := (1 : Int32)) (by decide) dX3_lay_271 ?_
                    refine g_goto F (tgt := 276) (by decide) dX3_lay_272 ?_
                    exact g_top (gb_t c_23) J_24
              refine gb_if_ne F (tgt := 248) (by decide) dX3_lay_241 (fun c_20 => ?_) (fun c_20 => ?_)
              · skip
                refine g_iconst F (v := (0 : Int32)) (by decide) dX3_lay_248 ?_
                exact g_top (gb_f (fun q => q c_20)) J_21
              · skip
                refine g_iconst F (v := (1 : Int32)) (by decide) dX3_lay_244 ?_
                refine g_goto F (tgt := 249) (by decide) dX3_lay_245 ?_
                exact g_top (gb_t c_20) J_21
            refine gb_if_eq F (tgt := 235) (by decide) dX3_lay_182 (fun c_13 => ?_) (fun c_13 => ?_)
            · skip
              refine g_iconst F (v := (0 : Int32)) (by decide) dX3_lay_235 ?_
              exact g_top (gb_f (fun q => c_13 q.1)) J_19
            · skip
              refine g_aload_n F 5 rfl rfl dX3_lay_185 ?_
              refine g_get F clX3 1 (by decide) q1390 (v := .int (S.1 0 0 0)) (gd_get (pr_at (κ := 0) (i := 0) (by decide) (gc1 (gnl rfl)) (gce (show (gsr S.1 0 0 (upd (S.1 0 0) 8 0)) 0 0 = upd (S.1 0 0) 8 0 from gsr_s) rfl)) rfl) dX3_lay_186 ?_
              refine g_aload F 2 rfl dX3_lay_189 ?_
              refine g_getN F clX12 5 (by decide) (gT_w q1634 rfl) (v := .int (S.1 9 slats.toNatClampNeg 5)) (gd_get (pr_at (κ := 9) (i := slats.toNatClampNeg) (by decide) (gc6 (by decide) (Decidable.not_not.mp (fun q => c_7 (Or.inr q))).2) (gce (show (gsr S.1 0 0 (upd (S.1 0 0) 8 0)) 9 slats.toNatClampNeg = S.1 9 slats.toNatClampNeg from (gsr_p (by decide) rfl)) rfl)) rfl) dX3_lay_191 ?_
              refine g_icmp_lt F (tgt := 235) (by decide) dX3_lay_194 (fun c_14 => ?_) (fun c_14 => ?_)
              · skip
                refine g_iconst F (v := (0 : Int32)) (by decide) dX3_lay_235 ?_
                exact g_top (gb_f (fun q => (fun q => q.1 c_14) q.2)) J_19
              · skip
                refine g_aload F 2 rfl dX3_lay_197 ?_
                refine g_getN F clX12 4 (by decide) (gT_w q1633 rfl) (v := .int (S.1 9 slats.toNatClampNeg 4)) (gd_get (pr_at (κ := 9) (i := slats.toNatClampNeg) (by decide) (gc6 (by decide) (Decidable.not_not.mp (fun q => c_7 (Or.inr q))).2) (gce (show (gsr S.1 0 0 (upd (S.1 0 0) 8 0)) 9 slats.toNatClampNeg = S.1 9 slats.toNatClampNeg from (gsr_p (by decide) rfl)) rfl)) rfl) dX3_lay_199 ?_
                refine g_if_le F (tgt := 235) (by decide) dX3_lay_202 (fun c_15 => ?_) (fun c_15 => ?_)
                · skip
                  refine g_iconst F (v := (0 : Int32)) (by decide) dX3_lay_235 ?_
                  exact g_top (gb_f (fun q => (fun q => (fun q => q.1 c_15) q.2) q.2)) J_19
                · skip
                  refine g_iload F 1 rfl dX3_lay_205 ?_
                  refine g_iconst F (v := (2 : Int32)) (by decide) dX3_lay_207 ?_
                  refine g_icmp_gt F (tgt := 235) (by decide) dX3_lay_208 (fun c_16 => ?_) (fun c_16 => ?_)
                  · skip
                    refine g_iconst F (v := (0 : Int32)) (by decide) dX3_lay_235 ?_
                    exact g_top (gb_f (fun q => (fun q => (fun q => (fun q => q.1 c_16) q.2) q.2) q.2)) J_19
                  · skip
                    refine g_aload F 3 rfl dX3_lay_211 ?_
                    refine g_getN F clX10 1 (by decide) (gT_w q1531 rfl) (v := .int (S.1 8 batch.toNatClampNeg 1)) (gd_get (pr_at (κ := 8) (i := batch.toNatClampNeg) (by decide) (gc6 (by decide) (Decidable.not_not.mp (fun q => c_7 (Or.inl q))).2) (gce (show (gsr S.1 0 0 (upd (S.1 0 0) 8 0)) 8 batch.toNatClampNeg = S.1 8 batch.toNatClampNeg from (gsr_p (by decide) rfl)) rfl)) rfl) dX3_lay_213 ?_
                    refine g_iload F 9 rfl dX3_lay_216 ?_
                    refine g_icmp_lt F (tgt := 235) (by decide) dX3_lay_218 (fun c_17 => ?_) (fun c_17 => ?_)
                    · skip
                      refine g_iconst F (v := (0 : Int32)) (by decide) dX3_lay_235 ?_
                      exact g_top (gb_f (fun q => (fun q => (fun q => (fun q => (fun q => q.1 c_17) q.2) q.2) q.2) q.2)) J_19
                    · skip
                      refine g_aload F 2 rfl dX3_lay_221 ?_
                      refine g_getN F clX12 3 (by decide) (gT_w q1632 rfl) (v := .int (S.1 9 slats.toNatClampNeg 3)) (gd_get (pr_at (κ := 9) (i := slats.toNatClampNeg) (by decide) (gc6 (by decide) (Decidable.not_not.mp (fun q => c_7 (Or.inr q))).2) (gce (show (gsr S.1 0 0 (upd (S.1 0 0) 8 0)) 9 slats.toNatClampNeg = S.1 9 slats.toNatClampNeg from (gsr_p (by decide) rfl)) rfl)) rfl) dX3_lay_223 ?_
                      refine g_iload F 0 rfl dX3_lay_226 ?_
                      refine g_icmp_lt F (tgt := 235) (by decide) dX3_lay_228 (fun c_18 => ?_) (fun c_18 => ?_)
                      · skip
                        refine g_iconst F (v := (0 : Int32)) (by decide) dX3_lay_235 ?_
                        exact g_top (gb_f (fun q => (fun q => (fun q => (fun q => (fun q => (fun q => q c_18) q.2) q.2) q.2) q.2) q.2)) J_19
                      · skip
                        refine g_iconst F (v := (1 : Int32)) (by decide) dX3_lay_231 ?_
                        refine g_goto F (tgt := 236) (by decide) dX3_lay_232 ?_
                        exact g_top (gb_t (⟨c_13, ⟨c_14, ⟨c_15, ⟨c_16, ⟨c_17, c_18⟩⟩⟩⟩⟩)) J_19
        refine g_if_lt F (tgt := 100) (by decide) dX3_lay_71 (fun c_8 => ?_) (fun c_8 => ?_)
        · skip
          refine g_iconst F (v := (1 : Int32)) (by decide) dX3_lay_100 ?_
          refine g_goto F (tgt := 105) (by decide) dX3_lay_101 ?_
          exact g_top (gb_t (Or.inl c_8)) J_11
        · skip
          refine g_iload F 5 rfl dX3_lay_74 ?_
          refine g_i2l F dX3_lay_76 ?_
          refine g_lconst F (v := (1 : Int64)) (by decide) dX3_lay_77 ?_
          refine g_ldc2 F (v := (500 : Int64)) q1452 dX3_lay_78 ?_
          refine g_callS F (kX3_in hl (x := many) (lo := (1 : Int32)) (hi := (500 : Int32)) (by decide) (by decide)) (lw_S q1453 q1454 q25 q1455) myX3_in ⟨by decide, by decide⟩ rfl rfl (gle rfl) 0 0 (gle rfl) (gle rfl) (gle rfl) (gle rfl) dX3_lay_81 gx_n (gv_i ?_)
          refine gb_if_eq F (tgt := 100) (by decide) dX3_lay_84 (fun c_9 => ?_) (fun c_9 => ?_)
          · skip
            refine g_iconst F (v := (1 : Int32)) (by decide) dX3_lay_100 ?_
            refine g_goto F (tgt := 105) (by decide) dX3_lay_101 ?_
            exact g_top (gb_t (Or.inr (Or.inl c_9))) J_11
          · skip
            refine g_iload F 6 rfl dX3_lay_87 ?_
            refine g_i2l F dX3_lay_89 ?_
            refine g_lconst F (v := (0 : Int64)) (by decide) dX3_lay_90 ?_
            refine g_ldc2 F (v := (9 : Int64)) q1489 dX3_lay_91 ?_
            refine g_callS F (kX3_in hl (x := hand) (lo := (0 : Int32)) (hi := (9 : Int32)) (by decide) (by decide)) (lw_S q1453 q1454 q25 q1455) myX3_in ⟨by decide, by decide⟩ rfl rfl (gle rfl) 0 0 (gle rfl) (gle rfl) (gle rfl) (gle rfl) dX3_lay_94 gx_n (gv_i ?_)
            refine gb_if_ne F (tgt := 104) (by decide) dX3_lay_97 (fun c_10 => ?_) (fun c_10 => ?_)
            · skip
              refine g_iconst F (v := (0 : Int32)) (by decide) dX3_lay_104 ?_
              exact g_top (gb_f (fun q => q.elim c_8 (fun q => q.elim (fun z => z c_9) (fun q => q c_10)))) J_11
            · skip
              refine g_iconst F (v := (1 : Int32)) (by decide) dX3_lay_100 ?_
              refine g_goto F (tgt := 105) (by decide) dX3_lay_101 ?_
              exact g_top (gb_t (Or.inr (Or.inr c_10))) J_11
    refine gb_if_eq F (tgt := 52) (by decide) dX3_lay_38 (fun c_4 => ?_) (fun c_4 => ?_)
    · skip
      refine g_iconst F (v := (1 : Int32)) (by decide) dX3_lay_52 ?_
      refine g_goto F (tgt := 57) (by decide) dX3_lay_53 ?_
      exact g_top (gb_t (Or.inl c_4)) J_6
    · skip
      refine g_aload_n F 1 rfl rfl dX3_lay_41 ?_
      refine g_get F clX3 10 (by decide) q1399 (v := .ref (A 309 0)) (gd_get (pr_at (κ := 0) (i := 0) (by decide) (gc1 (gnl rfl)) (gce (show (gsr S.1 0 0 (upd (S.1 0 0) 8 0)) 0 0 = upd (S.1 0 0) 8 0 from gsr_s) rfl)) rfl) dX3_lay_42 ?_
      refine g_iload_n F 3 rfl rfl dX3_lay_45 ?_
      refine g_callS F (kX3_isOf hl (pr_ls (M := 1) (S := (gsr S.1 0 0 (upd (S.1 0 0) 8 0), S.2)) (A := A) (κ := 9) (by decide) (Or.inl ⟨by decide, by decide⟩) (fun q => by first | decide | exact absurd q (by decide)) (fun q => by first | decide | exact absurd q (by decide))) (gw_n hW _) (x := slats)) (lw_S q1502 q1503 q25 q1504) myX3_isOf ⟨by decide, by decide⟩ rfl rfl (gle rfl) 0 0 (gle rfl) (gle rfl) (gle rfl) (gle rfl) dX3_lay_46 gx_n (gv_i ?_)
      refine gb_if_ne F (tgt := 56) (by decide) dX3_lay_49 (fun c_5 => ?_) (fun c_5 => ?_)
      · skip
        refine g_iconst F (v := (0 : Int32)) (by decide) dX3_lay_56 ?_
        exact g_top (gb_f (fun q => q.elim (fun z => z c_4) (fun q => q c_5))) J_6
      · skip
        refine g_iconst F (v := (1 : Int32)) (by decide) dX3_lay_52 ?_
        refine g_goto F (tgt := 57) (by decide) dX3_lay_53 ?_
        exact g_top (gb_t (Or.inr c_5)) J_6
  refine g_icmp_ne F (tgt := 15) (by decide) dX3_lay_7 (fun c_1 => ?_) (fun c_1 => ?_)
  · skip
    refine g_iload_n F 3 rfl rfl dX3_lay_15 ?_
    refine g_bipush F (v := (48 : Int32)) (by decide) dX3_lay_16 ?_
    refine g_icmp_ne F (tgt := 25) (by decide) dX3_lay_18 (fun c_2 => ?_) (fun c_2 => ?_)
    · skip
      refine g_bipush F (v := (7 : Int32)) (by decide) dX3_lay_25 ?_
      exact g_top (by rw [if_neg c_1, if_neg c_2]) J_3
    · skip
      refine g_iconst F (v := (5 : Int32)) (by decide) dX3_lay_21 ?_
      refine g_goto F (tgt := 27) (by decide) dX3_lay_22 ?_
      exact g_top (by rw [if_neg c_1, if_pos c_2]) J_3
  · skip
    refine g_bipush F (v := (6 : Int32)) (by decide) dX3_lay_10 ?_
    refine g_goto F (tgt := 27) (by decide) dX3_lay_12 ?_
    exact g_top (by rw [if_pos c_1]) J_3

def sM_mixture (S : gS) (mixture what : Int32) : Value × gS := if ¬ (gIn mixture (S.2 7)) then (.int (-1 : Int32), (gsr (gsr S.1 0 0 (upd (S.1 0 0) 8 0)) 0 0 (upd (upd (S.1 0 0) 8 0) 8 (1 : Int32)), S.2)) else (if ¬ (0 ≤ (gidx 1 what)) then (.int (-1 : Int32), (gsr (gsr S.1 0 0 (upd (S.1 0 0) 8 0)) 0 0 (upd (upd (S.1 0 0) 8 0) 8 (2 : Int32)), S.2)) else (.int (S.1 7 mixture.toNatClampNeg (((2 : Int32) + (gidx 1 what)).toNatClampNeg)), (gsr S.1 0 0 (upd (S.1 0 0) 8 0), S.2)))
theorem kX3_mixture {l : Launch} {G : gG} (hl : l.stackTraces = false) {S : gS} {a0 : Nat} {Fr : gH → Prop} (hF : gFr 1 Fr) (hW : gWf S) {mixture what : Int32} (h_what : ¬ what < 0) : gMet l yX3_mixture (ws_ yX3_mixture cX3_mixture 3 (some .int)) ⟨4, 0, 0, 91⟩ G [.ref a0, .int mixture, .int what] (gPE 1 G S a0 Fr) (gqN (sM_mixture S mixture what) G a0 Fr) gxN := by
  refine gMet_of hl pnX3 (gle rfl) (fun X Q hX F E hNm => ?_)
  subst hX
  change gW (X, G, 3, Q) (gPE 1 G S a0 Fr) [(0, .ref a0), (1, .int mixture), (2, .int what)] 0 [] 0 0
  refine g_pe (fun A hA => ?_)
  subst hA
  change gW _ _ [(0, .ref (A 0 0)), (1, .int mixture), (2, .int what)] 0 [] 0 0
  refine g_aload_n F 0 rfl rfl dX3_mixture_0 ?_
  refine g_callV F (kX3_begins hl (pr_at (κ := 0) (i := 0) (by decide) (gc1 (gnl rfl)) (gce rfl rfl))) (g_recv F clX3 (gd_obj (pr_at (κ := 0) (i := 0) (by decide) (gc1 (gnl rfl)) (gce rfl rfl)))) q1448 q1450 qs6 q25 q1451 myX3_begins ⟨by decide, by decide⟩ rfl rfl (gle rfl) 0 0 (gle rfl) (gle rfl) (gle rfl) (gle rfl) dX3_mixture_1 gx_n (gv_v ?_)
  refine g_mono (P2 := gP 1 G (gsr S.1 0 0 (upd (S.1 0 0) 8 0), S.2) A Fr []) (pr_upRow (κ := 0) (i := 0) gM1 hF (upd (S.1 0 0) 8 0) (by decide) (gc1 (gnl rfl)) (gce rfl rfl) rfl) ?_
  refine g_aload_n F 0 rfl rfl dX3_mixture_4 ?_
  refine g_aload_n F 0 rfl rfl dX3_mixture_5 ?_
  refine g_get F clX3 6 (by decide) q1395 (v := .ref (A 307 0)) (gd_get (pr_at (κ := 0) (i := 0) (by decide) (gc1 (gnl rfl)) (gce (show (gsr S.1 0 0 (upd (S.1 0 0) 8 0)) 0 0 = upd (S.1 0 0) 8 0 from gsr_s) rfl)) rfl) dX3_mixture_6 ?_
  refine g_iload_n F 1 rfl rfl dX3_mixture_9 ?_
  refine g_callS F (kX3_isOf hl (pr_ls (M := 1) (S := (gsr S.1 0 0 (upd (S.1 0 0) 8 0), S.2)) (A := A) (κ := 7) (by decide) (Or.inl ⟨by decide, by decide⟩) (fun q => by first | decide | exact absurd q (by decide)) (fun q => by first | decide | exact absurd q (by decide))) (gw_n hW _) (x := mixture)) (lw_S q1502 q1503 q25 q1504) myX3_isOf ⟨by decide, by decide⟩ rfl rfl (gle rfl) 0 0 (gle rfl) (gle rfl) (gle rfl) (gle rfl) dX3_mixture_10 gx_n (gv_i ?_)
  have J_2 : gW (X, G, 3, Q) (gP 1 G (gsr S.1 0 0 (upd (S.1 0 0) 8 0), S.2) A Fr []) [(0, .ref (A 0 0)), (1, .int mixture), (2, .int what)] 21 [.int (gb (¬ (gIn mixture (S.2 7)))), .ref (A 0 0)] 0 0 := by
    refine g_iconst F (v := (1 : Int32)) (by decide) dX3_mixture_21 ?_
    refine g_callV F (kX3_fails hl (b := gb (¬ (gIn mixture (S.2 7)))) (nu := (1 : Int32)) (c := ¬ (gIn mixture (S.2 7))) gb_n0 (by decide) (pr_at (κ := 0) (i := 0) (by decide) (gc1 (gnl rfl)) (gce (show (gsr S.1 0 0 (upd (S.1 0 0) 8 0)) 0 0 = upd (S.1 0 0) 8 0 from gsr_s) rfl))) (g_recv F clX3 (gd_obj (pr_at (κ := 0) (i := 0) (by decide) (gc1 (gnl rfl)) (gce (show (gsr S.1 0 0 (upd (S.1 0 0) 8 0)) 0 0 = upd (S.1 0 0) 8 0 from gsr_s) rfl)))) q1456 q1458 qs7 q25 q1459 myX3_fails ⟨by decide, by decide⟩ rfl rfl (gle rfl) 0 0 (gle rfl) (gle rfl) (gle rfl) (gle rfl) dX3_mixture_22 gx_n (gv_f (fun c_3 => ?_) (fun c_3 => ?_))
    · skip
      refine g_mono (P2 := gP 1 G (gsr (gsr S.1 0 0 (upd (S.1 0 0) 8 0)) 0 0 (upd (upd (S.1 0 0) 8 0) 8 (1 : Int32)), S.2) A Fr []) (pr_upRow (κ := 0) (i := 0) gM1 hF (upd (upd (S.1 0 0) 8 0) 8 (1 : Int32)) (by decide) (gc1 (gnl rfl)) (gce (show (gsr S.1 0 0 (upd (S.1 0 0) 8 0)) 0 0 = upd (S.1 0 0) 8 0 from gsr_s) rfl) rfl) ?_
      refine g_if_ne F (tgt := 50) (by decide) dX3_mixture_25 (fun _ => ?_) (fun c => absurd c (by decide))
      refine g_iconst F (v := (-1 : Int32)) (by decide) dX3_mixture_50 ?_
      exact g_retI F E rfl rfl (gle rfl) (gle rfl) dX3_mixture_51 (fun _ hp => ⟨_, _, (if_pos c_3), rfl, ⟨A, rfl, gP_T0 hp⟩⟩)
    · skip
      refine g_if_ne F (tgt := 50) (by decide) dX3_mixture_25 (fun c => absurd c (by decide)) (fun _ => ?_)
      refine g_aload_n F 0 rfl rfl dX3_mixture_28 ?_
      refine g_ldcS F (i := 1) (List.mem_of_getElem? (i := 8) rfl) dX3_mixture_29 ?_
      refine g_iload_n F 2 rfl rfl dX3_mixture_31 ?_
      refine g_callV F (kJ0_indexOf hl (by decide) (ch := what) h_what) (g_srecv F (by decide)) q1469 q436 q437 q19 q438 myJ0_indexOf ⟨by decide, by decide⟩ rfl rfl (gle rfl) 0 0 (gle rfl) (gle rfl) (gle rfl) (gle rfl) dX3_mixture_32 gx_n (gv_i ?_)
      have J_5 : gW (X, G, 3, Q) (gP 1 G (gsr S.1 0 0 (upd (S.1 0 0) 8 0), S.2) A Fr []) [(0, .ref (A 0 0)), (1, .int mixture), (2, .int what)] 43 [.int (gb (¬ (0 ≤ (gidx 1 what)))), .ref (A 0 0)] 0 0 := by
        refine g_iconst F (v := (2 : Int32)) (by decide) dX3_mixture_43 ?_
        refine g_callV F (kX3_fails hl (b := gb (¬ (0 ≤ (gidx 1 what)))) (nu := (2 : Int32)) (c := ¬ (0 ≤ (gidx 1 what))) gb_n0 (by decide) (pr_at (κ := 0) (i := 0) (by decide) (gc1 (gnl rfl)) (gce (show (gsr S.1 0 0 (upd (S.1 0 0) 8 0)) 0 0 = upd (S.1 0 0) 8 0 from gsr_s) rfl))) (g_recv F clX3 (gd_obj (pr_at (κ := 0) (i := 0) (by decide) (gc1 (gnl rfl)) (gce (show (gsr S.1 0 0 (upd (S.1 0 0) 8 0)) 0 0 = upd (S.1 0 0) 8 0 from gsr_s) rfl)))) q1456 q1458 qs7 q25 q1459 myX3_fails ⟨by decide, by decide⟩ rfl rfl (gle rfl) 0 0 (gle rfl) (gle rfl) (gle rfl) (gle rfl) dX3_mixture_44 gx_n (gv_f (fun c_6 => ?_) (fun c_6 => ?_))
        · skip
          refine g_mono (P2 := gP 1 G (gsr (gsr S.1 0 0 (upd (S.1 0 0) 8 0)) 0 0 (upd (upd (S.1 0 0) 8 0) 8 (2 : Int32)), S.2) A Fr []) (pr_upRow (κ := 0) (i := 0) gM1 hF (upd (upd (S.1 0 0) 8 0) 8 (2 : Int32)) (by decide) (gc1 (gnl rfl)) (gce (show (gsr S.1 0 0 (upd (S.1 0 0) 8 0)) 0 0 = upd (S.1 0 0) 8 0 from gsr_s) rfl) rfl) ?_
          refine g_if_eq F (tgt := 52) (by decide) dX3_mixture_47 (fun c => absurd c (by decide)) (fun _ => ?_)
          refine g_iconst F (v := (-1 : Int32)) (by decide) dX3_mixture_50 ?_
          exact g_retI F E rfl rfl (gle rfl) (gle rfl) dX3_mixture_51 (fun _ hp => ⟨_, _, ((if_neg c_3).trans (if_pos c_6)), rfl, ⟨A, rfl, gP_T0 hp⟩⟩)
        · skip
          refine g_if_eq F (tgt := 52) (by decide) dX3_mixture_47 (fun _ => ?_) (fun c => absurd c (by decide))
          refine g_aload_n F 0 rfl rfl dX3_mixture_52 ?_
          refine g_get F clX3 6 (by decide) q1395 (v := .ref (A 307 0)) (gd_get (pr_at (κ := 0) (i := 0) (by decide) (gc1 (gnl rfl)) (gce (show (gsr S.1 0 0 (upd (S.1 0 0) 8 0)) 0 0 = upd (S.1 0 0) 8 0 from gsr_s) rfl)) rfl) dX3_mixture_53 ?_
          refine g_iload_n F 1 rfl rfl dX3_mixture_56 ?_
          refine g_callF F clJ3 (kJ3_get hl (pr_ls (M := 1) (S := (gsr S.1 0 0 (upd (S.1 0 0) 8 0), S.2)) (A := A) (κ := 7) (by decide) (Or.inl ⟨by decide, by decide⟩) (fun q => by first | decide | exact absurd q (by decide)) (fun q => by first | decide | exact absurd q (by decide))) (j := mixture.toNatClampNeg) (Decidable.not_not.mp c_3).2 (gw_n hW _) rfl (Decidable.not_not.mp c_3).1) (g_recv F clJ3 (gls_obj (pr_ls (M := 1) (S := (gsr S.1 0 0 (upd (S.1 0 0) 8 0), S.2)) (A := A) (κ := 7) (by decide) (Or.inl ⟨by decide, by decide⟩) (fun q => by first | decide | exact absurd q (by decide)) (fun q => by first | decide | exact absurd q (by decide))))) q1506 q809 q811 q22 q813 (List.mem_of_getElem? (i := 1) rfl) (gT_w q812 rfl) (gT_w q810 rfl) (gT_w q293 rfl) gface_1 ⟨by decide, by decide⟩ rfl rfl (gle rfl) 0 0 (gle rfl) (gle rfl) (gle rfl) (gle rfl) dX3_mixture_57 gx_n (gv_i ?_)
          refine g_castS F (g_recvI F (pr_at (κ := 7) (i := mixture.toNatClampNeg) (by decide) (gc6 (by decide) (Decidable.not_not.mp c_3).2) (gce (show (gsr S.1 0 0 (upd (S.1 0 0) 8 0)) 7 mixture.toNatClampNeg = S.1 7 mixture.toNatClampNeg from (gsr_p (by decide) rfl)) rfl))) q1507 dX3_mixture_62 ?_
          refine g_iconst F (v := (2 : Int32)) (by decide) dX3_mixture_65 ?_
          refine g_ldcS F (i := 1) (List.mem_of_getElem? (i := 8) rfl) dX3_mixture_66 ?_
          refine g_iload_n F 2 rfl rfl dX3_mixture_68 ?_
          refine g_callV F (kJ0_indexOf hl (by decide) (ch := what) h_what) (g_srecv F (by decide)) q1469 q436 q437 q19 q438 myJ0_indexOf ⟨by decide, by decide⟩ rfl rfl (gle rfl) 0 0 (gle rfl) (gle rfl) (gle rfl) (gle rfl) dX3_mixture_69 gx_n (gv_i ?_)
          refine g_iadd F dX3_mixture_72 ?_
          refine g_iald F (gmix_vp (Int32.not_lt.mpr (Decidable.not_not.mp c_6))) (pr_at (κ := 7) (i := mixture.toNatClampNeg) (by decide) (gc6 (by decide) (Decidable.not_not.mp c_3).2) (gce (show (gsr S.1 0 0 (upd (S.1 0 0) 8 0)) 7 mixture.toNatClampNeg = S.1 7 mixture.toNatClampNeg from (gsr_p (by decide) rfl)) rfl)) dX3_mixture_73 ?_
          change gW _ _ _ _ (.int (S.1 7 mixture.toNatClampNeg (((2 : Int32) + (gidx 1 what)).toNatClampNeg)) :: _) _ _
          exact g_retI F E rfl rfl (gle rfl) (gle rfl) dX3_mixture_74 (fun _ hp => ⟨_, _, ((if_neg c_3).trans (if_neg c_6)), rfl, ⟨A, rfl, gP_T0 hp⟩⟩)
      refine g_if_ge F (tgt := 42) (by decide) dX3_mixture_35 (fun c_4 => ?_) (fun c_4 => ?_)
      · skip
        refine g_iconst F (v := (0 : Int32)) (by decide) dX3_mixture_42 ?_
        exact g_top (gb_f (fun q => q c_4)) J_5
      · skip
        refine g_iconst F (v := (1 : Int32)) (by decide) dX3_mixture_38 ?_
        refine g_goto F (tgt := 43) (by decide) dX3_mixture_39 ?_
        exact g_top (gb_t c_4) J_5
  refine gb_if_ne F (tgt := 20) (by decide) dX3_mixture_13 (fun c_1 => ?_) (fun c_1 => ?_)
  · skip
    refine g_iconst F (v := (0 : Int32)) (by decide) dX3_mixture_20 ?_
    exact g_top (gb_f (fun q => q c_1)) J_2
  · skip
    refine g_iconst F (v := (1 : Int32)) (by decide) dX3_mixture_16 ?_
    refine g_goto F (tgt := 21) (by decide) dX3_mixture_17 ?_
    exact g_top (gb_t c_1) J_2

def sM_mix (S : gS) (graphite clay kilos more days : Int32) : Value × gS := if ¬ (gIn graphite (S.2 6)) ∨ (¬ (gIn clay (S.2 6))) then (.int (-1 : Int32), (gsr (gsr S.1 0 0 (upd (S.1 0 0) 8 0)) 0 0 (upd (upd (S.1 0 0) 8 0) 8 (1 : Int32)), S.2)) else (if (kilos < (1 : Int32)) ∨ ((more < (1 : Int32)) ∨ (¬ (¬ days < (1 : Int32) ∧ ¬ (9 : Int32) < days))) then (.int (-1 : Int32), (gsr (gsr S.1 0 0 (upd (S.1 0 0) 8 0)) 0 0 (upd (upd (S.1 0 0) 8 0) 8 (2 : Int32)), S.2)) else (if ¬ (((S.1 6 graphite.toNatClampNeg 0) = (103 : Int32)) ∧ (((S.1 6 clay.toNatClampNeg 0) = (99 : Int32)) ∧ (¬ ((S.1 6 graphite.toNatClampNeg 3) < kilos) ∧ (¬ ((S.1 6 clay.toNatClampNeg 3) < more) ∧ (gGoes S (0 : Int32)))))) then (.int (-1 : Int32), (gsr (gsr S.1 0 0 (upd (S.1 0 0) 8 0)) 0 0 (upd (upd (S.1 0 0) 8 0) 8 (3 : Int32)), S.2)) else (if (nI (S.2 7)) = (12 : Int32) then (.int (-1 : Int32), (gsr (gsr S.1 0 0 (upd (S.1 0 0) 8 0)) 0 0 (upd (upd (S.1 0 0) 8 0) 8 (4 : Int32)), S.2)) else (.int (nI (S.2 7)), (gsr (gsr (gsr (gsr S.1 0 0 (upd (S.1 0 0) 8 0)) 6 graphite.toNatClampNeg (upd (S.1 6 graphite.toNatClampNeg) 3 ((S.1 6 graphite.toNatClampNeg 3) - kilos))) 6 clay.toNatClampNeg (upd (S.1 6 clay.toNatClampNeg) 3 ((S.1 6 clay.toNatClampNeg 3) - more))) 7 (S.2 7) (upd (upd (upd (upd (upd (fun _ => 0) 0 graphite) 1 clay) 2 ((((10 : Int32) * kilos) * (S.1 6 graphite.toNatClampNeg 1)) / (kilos + more))) 3 (gmax (0 : Int32) (gmin (9 : Int32) (((days + (9 : Int32)) - (S.1 6 graphite.toNatClampNeg 2)) - ((S.1 6 clay.toNatClampNeg 2) / (3 : Int32)))))) 4 (kilos + more)), va_up S.2 7 (S.2 7 + 1))))))
theorem kX3_mix {l : Launch} {G : gG} (hl : l.stackTraces = false) {S : gS} {a0 : Nat} {Fr : gH → Prop} (hF : gFr 1 Fr) (hW : gWf S) {graphite clay kilos more days : Int32} (hL : ∀ i, i < S.2 6 → ¬ (500 : Int32) < S.1 6 i 3) : gMet l yX3_mix (ws_ yX3_mix cX3_mix 10 (some .int)) ⟨7, 2, 155, 731⟩ G [.ref a0, .int graphite, .int clay, .int kilos, .int more, .int days] (gPE 1 G S a0 Fr) (gqN (sM_mix S graphite clay kilos more days) G a0 Fr) gxN := by
  refine gMet_of hl pnX3 (gle rfl) (fun X Q hX F E hNm => ?_)
  subst hX
  change gW (X, G, 10, Q) (gPE 1 G S a0 Fr) [(0, .ref a0), (1, .int graphite), (2, .int clay), (3, .int kilos), (4, .int more), (5, .int days)] 0 [] 0 0
  refine g_pe (fun A hA => ?_)
  subst hA
  change gW _ _ [(0, .ref (A 0 0)), (1, .int graphite), (2, .int clay), (3, .int kilos), (4, .int more), (5, .int days)] 0 [] 0 0
  refine g_aload_n F 0 rfl rfl dX3_mix_0 ?_
  refine g_callV F (kX3_begins hl (pr_at (κ := 0) (i := 0) (by decide) (gc1 (gnl rfl)) (gce rfl rfl))) (g_recv F clX3 (gd_obj (pr_at (κ := 0) (i := 0) (by decide) (gc1 (gnl rfl)) (gce rfl rfl)))) q1448 q1450 qs6 q25 q1451 myX3_begins ⟨by decide, by decide⟩ rfl rfl (gle rfl) 0 0 (gle rfl) (gle rfl) (gle rfl) (gle rfl) dX3_mix_1 gx_n (gv_v ?_)
  refine g_mono (P2 := gP 1 G (gsr S.1 0 0 (upd (S.1 0 0) 8 0), S.2) A Fr []) (pr_upRow (κ := 0) (i := 0) gM1 hF (upd (S.1 0 0) 8 0) (by decide) (gc1 (gnl rfl)) (gce rfl rfl) rfl) ?_
  refine g_aload_n F 0 rfl rfl dX3_mix_4 ?_
  refine g_aload_n F 0 rfl rfl dX3_mix_5 ?_
  refine g_get F clX3 5 (by decide) q1394 (v := .ref (A 306 0)) (gd_get (pr_at (κ := 0) (i := 0) (by decide) (gc1 (gnl rfl)) (gce (show (gsr S.1 0 0 (upd (S.1 0 0) 8 0)) 0 0 = upd (S.1 0 0) 8 0 from gsr_s) rfl)) rfl) dX3_mix_6 ?_
  refine g_iload_n F 1 rfl rfl dX3_mix_9 ?_
  refine g_callS F (kX3_isOf hl (pr_ls (M := 1) (S := (gsr S.1 0 0 (upd (S.1 0 0) 8 0), S.2)) (A := A) (κ := 6) (by decide) (Or.inl ⟨by decide, by decide⟩) (fun q => by first | decide | exact absurd q (by decide)) (fun q => by first | decide | exact absurd q (by decide))) (gw_n hW _) (x := graphite)) (lw_S q1502 q1503 q25 q1504) myX3_isOf ⟨by decide, by decide⟩ rfl rfl (gle rfl) 0 0 (gle rfl) (gle rfl) (gle rfl) (gle rfl) dX3_mix_10 gx_n (gv_i ?_)
  have J_3 : gW (X, G, 10, Q) (gP 1 G (gsr S.1 0 0 (upd (S.1 0 0) 8 0), S.2) A Fr []) [(0, .ref (A 0 0)), (1, .int graphite), (2, .int clay), (3, .int kilos), (4, .int more), (5, .int days)] 32 [.int (gb (¬ (gIn graphite (S.2 6)) ∨ (¬ (gIn clay (S.2 6))))), .ref (A 0 0)] 0 0 := by
    refine g_iconst F (v := (1 : Int32)) (by decide) dX3_mix_32 ?_
    refine g_callV F (kX3_fails hl (b := gb (¬ (gIn graphite (S.2 6)) ∨ (¬ (gIn clay (S.2 6))))) (nu := (1 : Int32)) (c := ¬ (gIn graphite (S.2 6)) ∨ (¬ (gIn clay (S.2 6)))) gb_n0 (by decide) (pr_at (κ := 0) (i := 0) (by decide) (gc1 (gnl rfl)) (gce (show (gsr S.1 0 0 (upd (S.1 0 0) 8 0)) 0 0 = upd (S.1 0 0) 8 0 from gsr_s) rfl))) (g_recv F clX3 (gd_obj (pr_at (κ := 0) (i := 0) (by decide) (gc1 (gnl rfl)) (gce (show (gsr S.1 0 0 (upd (S.1 0 0) 8 0)) 0 0 = upd (S.1 0 0) 8 0 from gsr_s) rfl)))) q1456 q1458 qs7 q25 q1459 myX3_fails ⟨by decide, by decide⟩ rfl rfl (gle rfl) 0 0 (gle rfl) (gle rfl) (gle rfl) (gle rfl) dX3_mix_33 gx_n (gv_f (fun c_4 => ?_) (fun c_4 => ?_))
    · skip
      refine g_mono (P2 := gP 1 G (gsr (gsr S.1 0 0 (upd (S.1 0 0) 8 0)) 0 0 (upd (upd (S.1 0 0) 8 0) 8 (1 : Int32)), S.2) A Fr []) (pr_upRow (κ := 0) (i := 0) gM1 hF (upd (upd (S.1 0 0) 8 0) 8 (1 : Int32)) (by decide) (gc1 (gnl rfl)) (gce (show (gsr S.1 0 0 (upd (S.1 0 0) 8 0)) 0 0 = upd (S.1 0 0) 8 0 from gsr_s) rfl) rfl) ?_
      refine g_if_ne F (tgt := 76) (by decide) dX3_mix_36 (fun _ => ?_) (fun c => absurd c (by decide))
      refine g_iconst F (v := (-1 : Int32)) (by decide) dX3_mix_76 ?_
      exact g_retI F E rfl rfl (gle rfl) (gle rfl) dX3_mix_77 (fun _ hp => ⟨_, _, (if_pos c_4), rfl, ⟨A, rfl, gP_T0 hp⟩⟩)
    · skip
      refine g_if_ne F (tgt := 76) (by decide) dX3_mix_36 (fun c => absurd c (by decide)) (fun _ => ?_)
      refine g_aload_n F 0 rfl rfl dX3_mix_39 ?_
      refine g_iload_n F 3 rfl rfl dX3_mix_40 ?_
      refine g_iconst F (v := (1 : Int32)) (by decide) dX3_mix_41 ?_
      have J_8 : gW (X, G, 10, Q) (gP 1 G (gsr S.1 0 0 (upd (S.1 0 0) 8 0), S.2) A Fr []) [(0, .ref (A 0 0)), (1, .int graphite), (2, .int clay), (3, .int kilos), (4, .int more), (5, .int days)] 69 [.int (gb ((kilos < (1 : Int32)) ∨ ((more < (1 : Int32)) ∨ (¬ (¬ days < (1 : Int32) ∧ ¬ (9 : Int32) < days))))), .ref (A 0 0)] 0 0 := by
        refine g_iconst F (v := (2 : Int32)) (by decide) dX3_mix_69 ?_
        refine g_callV F (kX3_fails hl (b := gb ((kilos < (1 : Int32)) ∨ ((more < (1 : Int32)) ∨ (¬ (¬ days < (1 : Int32) ∧ ¬ (9 : Int32) < days))))) (nu := (2 : Int32)) (c := (kilos < (1 : Int32)) ∨ ((more < (1 : Int32)) ∨ (¬ (¬ days < (1 : Int32) ∧ ¬ (9 : Int32) < days)))) gb_n0 (by decide) (pr_at (κ := 0) (i := 0) (by decide) (gc1 (gnl rfl)) (gce (show (gsr S.1 0 0 (upd (S.1 0 0) 8 0)) 0 0 = upd (S.1 0 0) 8 0 from gsr_s) rfl))) (g_recv F clX3 (gd_obj (pr_at (κ := 0) (i := 0) (by decide) (gc1 (gnl rfl)) (gce (show (gsr S.1 0 0 (upd (S.1 0 0) 8 0)) 0 0 = upd (S.1 0 0) 8 0 from gsr_s) rfl)))) q1456 q1458 qs7 q25 q1459 myX3_fails ⟨by decide, by decide⟩ rfl rfl (gle rfl) 0 0 (gle rfl) (gle rfl) (gle rfl) (gle rfl) dX3_mix_70 gx_n (gv_f (fun c_9 => ?_) (fun c_9 => ?_))
        · skip
          refine g_mono (P2 := gP 1 G (gsr (gsr S.1 0 0 (upd (S.1 0 0) 8 0)) 0 0 (upd (upd (S.1 0 0) 8 0) 8 (2 : Int32)), S.2) A Fr []) (pr_upRow (κ := 0) (i := 0) gM1 hF (upd (upd (S.1 0 0) 8 0) 8 (2 : Int32)) (by decide) (gc1 (gnl rfl)) (gce (show (gsr S.1 0 0 (upd (S.1 0 0) 8 0)) 0 0 = upd (S.1 0 0) 8 0 from gsr_s) rfl) rfl) ?_
          refine g_if_eq F (tgt := 78) (by decide) dX3_mix_73 (fun c => absurd c (by decide)) (fun _ => ?_)
          refine g_iconst F (v := (-1 : Int32)) (by decide) dX3_mix_76 ?_
          exact g_retI F E rfl rfl (gle rfl) (gle rfl) dX3_mix_77 (fun _ hp => ⟨_, _, ((if_neg c_4).trans (if_pos c_9)), rfl, ⟨A, rfl, gP_T0 hp⟩⟩)
        · skip
          refine g_if_eq F (tgt := 78) (by decide) dX3_mix_73 (fun _ => ?_) (fun c => absurd c (by decide))
          refine g_aload_n F 0 rfl rfl dX3_mix_78 ?_
          refine g_get F clX3 5 (by decide) q1394 (v := .ref (A 306 0)) (gd_get (pr_at (κ := 0) (i := 0) (by decide) (gc1 (gnl rfl)) (gce (show (gsr S.1 0 0 (upd (S.1 0 0) 8 0)) 0 0 = upd (S.1 0 0) 8 0 from gsr_s) rfl)) rfl) dX3_mix_79 ?_
          refine g_iload_n F 1 rfl rfl dX3_mix_82 ?_
          refine g_callF F clJ3 (kJ3_get hl (pr_ls (M := 1) (S := (gsr S.1 0 0 (upd (S.1 0 0) 8 0), S.2)) (A := A) (κ := 6) (by decide) (Or.inl ⟨by decide, by decide⟩) (fun q => by first | decide | exact absurd q (by decide)) (fun q => by first | decide | exact absurd q (by decide))) (j := graphite.toNatClampNeg) (Decidable.not_not.mp (fun q => c_4 (Or.inl q))).2 (gw_n hW _) rfl (Decidable.not_not.mp (fun q => c_4 (Or.inl q))).1) (g_recv F clJ3 (gls_obj (pr_ls (M := 1) (S := (gsr S.1 0 0 (upd (S.1 0 0) 8 0), S.2)) (A := A) (κ := 6) (by decide) (Or.inl ⟨by decide, by decide⟩) (fun q => by first | decide | exact absurd q (by decide)) (fun q => by first | decide | exact absurd q (by decide))))) q1506 q809 q811 q22 q813 (List.mem_of_getElem? (i := 1) rfl) (gT_w q812 rfl) (gT_w q810 rfl) (gT_w q293 rfl) gface_1 ⟨by decide, by decide⟩ rfl rfl (gle rfl) 0 0 (gle rfl) (gle rfl) (gle rfl) (gle rfl) dX3_mix_83 gx_n (gv_i ?_)
          refine g_castS F (g_recvI F (pr_at (κ := 6) (i := graphite.toNatClampNeg) (by decide) (gc6 (by decide) (Decidable.not_not.mp (fun q => c_4 (Or.inl q))).2) (gce (show (gsr S.1 0 0 (upd (S.1 0 0) 8 0)) 6 graphite.toNatClampNeg = S.1 6 graphite.toNatClampNeg from (gsr_p (by decide) rfl)) rfl))) q1507 dX3_mix_88 ?_
          refine g_astore F (by show 6 < 10; decide) (lv2 := [(6, .ref (A 6 graphite.toNatClampNeg)), (0, .ref (A 0 0)), (1, .int graphite), (2, .int clay), (3, .int kilos), (4, .int more), (5, .int days)]) rfl dX3_mix_91 ?_
          refine g_aload_n F 1 rfl rfl dX3_mix_93 ?_
          refine g_get F clX3 5 (by decide) q1394 (v := .ref (A 306 0)) (gd_get (pr_at (κ := 0) (i := 0) (by decide) (gc1 (gnl rfl)) (gce (show (gsr S.1 0 0 (upd (S.1 0 0) 8 0)) 0 0 = upd (S.1 0 0) 8 0 from gsr_s) rfl)) rfl) dX3_mix_94 ?_
          refine g_iload_n F 3 rfl rfl dX3_mix_97 ?_
          refine g_callF F clJ3 (kJ3_get hl (pr_ls (M := 1) (S := (gsr S.1 0 0 (upd (S.1 0 0) 8 0), S.2)) (A := A) (κ := 6) (by decide) (Or.inl ⟨by decide, by decide⟩) (fun q => by first | decide | exact absurd q (by decide)) (fun q => by first | decide | exact absurd q (by decide))) (j := clay.toNatClampNeg) (Decidable.not_not.mp (fun q => c_4 (Or.inr q))).2 (gw_n hW _) rfl (Decidable.not_not.mp (fun q => c_4 (Or.inr q))).1) (g_recv F clJ3 (gls_obj (pr_ls (M := 1) (S := (gsr S.1 0 0 (upd (S.1 0 0) 8 0), S.2)) (A := A) (κ := 6) (by decide) (Or.inl ⟨by decide, by decide⟩) (fun q => by first | decide | exact absurd q (by decide)) (fun q => by first | decide | exact absurd q (by decide))))) q1506 q809 q811 q22 q813 (List.mem_of_getElem? (i := 1) rfl) (gT_w q812 rfl) (gT_w q810 rfl) (gT_w q293 rfl) gface_1 ⟨by decide, by decide⟩ rfl rfl (gle rfl) 0 0 (gle rfl) (gle rfl) (gle rfl) (gle rfl) dX3_mix_98 gx_n (gv_i ?_)
          refine g_castS F (g_recvI F (pr_at (κ := 6) (i := clay.toNatClampNeg) (by decide) (gc6 (by decide) (Decidable.not_not.mp (fun q => c_4 (Or.inr q))).2) (gce (show (gsr S.1 0 0 (upd (S.1 0 0) 8 0)) 6 clay.toNatClampNeg = S.1 6 clay.toNatClampNeg from (gsr_p (by decide) rfl)) rfl))) q1507 dX3_mix_103 ?_
          refine g_astore F (by show 7 < 10; decide) (lv2 := [(7, .ref (A 6 clay.toNatClampNeg)), (6, .ref (A 6 graphite.toNatClampNeg)), (0, .ref (A 0 0)), (1, .int graphite), (2, .int clay), (3, .int kilos), (4, .int more), (5, .int days)]) rfl dX3_mix_106 ?_
          refine g_aload F 1 rfl dX3_mix_108 ?_
          refine g_iconst F (v := (0 : Int32)) (by decide) dX3_mix_110 ?_
          refine g_ialdN F (m := 0) rfl (by decide) (by decide) (pr_at (κ := 6) (i := graphite.toNatClampNeg) (by decide) (gc6 (by decide) (Decidable.not_not.mp (fun q => c_4 (Or.inl q))).2) (gce (show (gsr S.1 0 0 (upd (S.1 0 0) 8 0)) 6 graphite.toNatClampNeg = S.1 6 graphite.toNatClampNeg from (gsr_p (by decide) rfl)) rfl)) dX3_mix_111 ?_
          change gW _ _ _ _ (.int (S.1 6 graphite.toNatClampNeg 0) :: _) _ _
          refine g_bipush F (v := (103 : Int32)) (by decide) dX3_mix_112 ?_
          have J_15 : gW (X, G, 10, Q) (gP 1 G (gsr S.1 0 0 (upd (S.1 0 0) 8 0), S.2) A Fr []) [(7, .ref (A 6 clay.toNatClampNeg)), (6, .ref (A 6 graphite.toNatClampNeg)), (0, .ref (A 0 0)), (1, .int graphite), (2, .int clay), (3, .int kilos), (4, .int more), (5, .int days)] 156 [.int (gb (((S.1 6 graphite.toNatClampNeg 0) = (103 : Int32)) ∧ (((S.1 6 clay.toNatClampNeg 0) = (99 : Int32)) ∧ (¬ ((S.1 6 graphite.toNatClampNeg 3) < kilos) ∧ (¬ ((S.1 6 clay.toNatClampNeg 3) < more) ∧ (gGoes S (0 : Int32)))))))] 0 0 := by
            refine g_istore F (by show 8 < 10; decide) (lv2 := [(8, .int (gb (((S.1 6 graphite.toNatClampNeg 0) = (103 : Int32)) ∧ (((S.1 6 clay.toNatClampNeg 0) = (99 : Int32)) ∧ (¬ ((S.1 6 graphite.toNatClampNeg 3) < kilos) ∧ (¬ ((S.1 6 clay.toNatClampNeg 3) < more) ∧ (gGoes S (0 : Int32)))))))), (7, .ref (A 6 clay.toNatClampNeg)), (6, .ref (A 6 graphite.toNatClampNeg)), (0, .ref (A 0 0)), (1, .int graphite), (2, .int clay), (3, .int kilos), (4, .int more), (5, .int days)]) rfl dX3_mix_156 ?_
            refine g_aload_n F 3 rfl rfl dX3_mix_158 ?_
            refine g_iload F 0 rfl dX3_mix_159 ?_
            have J_17 : gW (X, G, 10, Q) (gP 1 G (gsr S.1 0 0 (upd (S.1 0 0) 8 0), S.2) A Fr []) [(8, .int (gb (((S.1 6 graphite.toNatClampNeg 0) = (103 : Int32)) ∧ (((S.1 6 clay.toNatClampNeg 0) = (99 : Int32)) ∧ (¬ ((S.1 6 graphite.toNatClampNeg 3) < kilos) ∧ (¬ ((S.1 6 clay.toNatClampNeg 3) < more) ∧ (gGoes S (0 : Int32)))))))), (7, .ref (A 6 clay.toNatClampNeg)), (6, .ref (A 6 graphite.toNatClampNeg)), (0, .ref (A 0 0)), (1, .int graphite), (2, .int clay), (3, .int kilos), (4, .int more), (5, .int days)] 169 [.int (gb (¬ (((S.1 6 graphite.toNatClampNeg 0) = (103 : Int32)) ∧ (((S.1 6 clay.toNatClampNeg 0) = (99 : Int32)) ∧ (¬ ((S.1 6 graphite.toNatClampNeg 3) < kilos) ∧ (¬ ((S.1 6 clay.toNatClampNeg 3) < more) ∧ (gGoes S (0 : Int32)))))))), .ref (A 0 0)] 0 0 := by
              refine g_iconst F (v := (3 : Int32)) (by decide) dX3_mix_169 ?_
              refine g_callV F (kX3_fails hl (b := gb (¬ (((S.1 6 graphite.toNatClampNeg 0) = (103 : Int32)) ∧ (((S.1 6 clay.toNatClampNeg 0) = (99 : Int32)) ∧ (¬ ((S.1 6 graphite.toNatClampNeg 3) < kilos) ∧ (¬ ((S.1 6 clay.toNatClampNeg 3) < more) ∧ (gGoes S (0 : Int32)))))))) (nu := (3 : Int32)) (c := ¬ (((S.1 6 graphite.toNatClampNeg 0) = (103 : Int32)) ∧ (((S.1 6 clay.toNatClampNeg 0) = (99 : Int32)) ∧ (¬ ((S.1 6 graphite.toNatClampNeg 3) < kilos) ∧ (¬ ((S.1 6 clay.toNatClampNeg 3) < more) ∧ (gGoes S (0 : Int32))))))) gb_n0 (by decide) (pr_at (κ := 0) (i := 0) (by decide) (gc1 (gnl rfl)) (gce (show (gsr S.1 0 0 (upd (S.1 0 0) 8 0)) 0 0 = upd (S.1 0 0) 8 0 from gsr_s) rfl))) (g_recv F clX3 (gd_obj (pr_at (κ := 0) (i := 0) (by decide) (gc1 (gnl rfl)) (gce (show (gsr S.1 0 0 (upd (S.1 0 0) 8 0)) 0 0 = upd (S.1 0 0) 8 0 from gsr_s) rfl)))) q1456 q1458 qs7 q25 q1459 myX3_fails ⟨by decide, by decide⟩ rfl rfl (gle rfl) 0 0 (gle rfl) (gle rfl) (gle rfl) (gle rfl) dX3_mix_170 gx_n (gv_f (fun c_18 => ?_) (fun c_18 => ?_))
              · skip
                refine g_mono (P2 := gP 1 G (gsr (gsr S.1 0 0 (upd (S.1 0 0) 8 0)) 0 0 (upd (upd (S.1 0 0) 8 0) 8 (3 : Int32)), S.2) A Fr []) (pr_upRow (κ := 0) (i := 0) gM1 hF (upd (upd (S.1 0 0) 8 0) 8 (3 : Int32)) (by decide) (gc1 (gnl rfl)) (gce (show (gsr S.1 0 0 (upd (S.1 0 0) 8 0)) 0 0 = upd (S.1 0 0) 8 0 from gsr_s) rfl) rfl) ?_
                refine g_if_ne F (tgt := 203) (by decide) dX3_mix_173 (fun _ => ?_) (fun c => absurd c (by decide))
                refine g_iconst F (v := (-1 : Int32)) (by decide) dX3_mix_203 ?_
                exact g_retI F E rfl rfl (gle rfl) (gle rfl) dX3_mix_204 (fun _ hp => ⟨_, _, ((if_neg c_4).trans ((if_neg c_9).trans (if_pos c_18))), rfl, ⟨A, rfl, gP_T0 hp⟩⟩)
              · skip
                refine g_if_ne F (tgt := 203) (by decide) dX3_mix_173 (fun c => absurd c (by decide)) (fun _ => ?_)
                refine g_aload_n F 3 rfl rfl dX3_mix_176 ?_
                refine g_aload_n F 3 rfl rfl dX3_mix_177 ?_
                refine g_get F clX3 6 (by decide) q1395 (v := .ref (A 307 0)) (gd_get (pr_at (κ := 0) (i := 0) (by decide) (gc1 (gnl rfl)) (gce (show (gsr S.1 0 0 (upd (S.1 0 0) 8 0)) 0 0 = upd (S.1 0 0) 8 0 from gsr_s) rfl)) rfl) dX3_mix_178 ?_
                refine g_callF F clJ3 (kJ3_size hl (pr_ls (M := 1) (S := (gsr S.1 0 0 (upd (S.1 0 0) 8 0), S.2)) (A := A) (κ := 7) (by decide) (Or.inl ⟨by decide, by decide⟩) (fun q => by first | decide | exact absurd q (by decide)) (fun q => by first | decide | exact absurd q (by decide)))) (g_recv F clJ3 (gls_obj (pr_ls (M := 1) (S := (gsr S.1 0 0 (upd (S.1 0 0) 8 0), S.2)) (A := A) (κ := 7) (by decide) (Or.inl ⟨by decide, by decide⟩) (fun q => by first | decide | exact absurd q (by decide)) (fun q => by first | decide | exact absurd q (by decide))))) q1491 q634 q636 q22 q638 (List.mem_of_getElem? (i := 0) rfl) (gT_w q637 rfl) (gT_w q635 rfl) (gT_w q293 rfl) gface_0 ⟨by decide, by decide⟩ rfl rfl (gle rfl) 0 0 (gle rfl) (gle rfl) (gle rfl) (gle rfl) dX3_mix_181 gx_n (gv_i ?_)
                refine g_bipush F (v := (12 : Int32)) (by decide) dX3_mix_186 ?_
                have J_20 : gW (X, G, 10, Q) (gP 1 G (gsr S.1 0 0 (upd (S.1 0 0) 8 0), S.2) A Fr []) [(8, .int (gb (((S.1 6 graphite.toNatClampNeg 0) = (103 : Int32)) ∧ (((S.1 6 clay.toNatClampNeg 0) = (99 : Int32)) ∧ (¬ ((S.1 6 graphite.toNatClampNeg 3) < kilos) ∧ (¬ ((S.1 6 clay.toNatClampNeg 3) < more) ∧ (gGoes S (0 : Int32)))))))), (7, .ref (A 6 clay.toNatClampNeg)), (6, .ref (A 6 graphite.toNatClampNeg)), (0, .ref (A 0 0)), (1, .int graphite), (2, .int clay), (3, .int kilos), (4, .int more), (5, .int days)] 196 [.int (gb ((nI (S.2 7)) = (12 : Int32))), .ref (A 0 0)] 0 0 := by
                  refine g_iconst F (v := (4 : Int32)) (by decide) dX3_mix_196 ?_
                  refine g_callV F (kX3_fails hl (b := gb ((nI (S.2 7)) = (12 : Int32))) (nu := (4 : Int32)) (c := (nI (S.2 7)) = (12 : Int32)) gb_n0 (by decide) (pr_at (κ := 0) (i := 0) (by decide) (gc1 (gnl rfl)) (gce (show (gsr S.1 0 0 (upd (S.1 0 0) 8 0)) 0 0 = upd (S.1 0 0) 8 0 from gsr_s) rfl))) (g_recv F clX3 (gd_obj (pr_at (κ := 0) (i := 0) (by decide) (gc1 (gnl rfl)) (gce (show (gsr S.1 0 0 (upd (S.1 0 0) 8 0)) 0 0 = upd (S.1 0 0) 8 0 from gsr_s) rfl)))) q1456 q1458 qs7 q25 q1459 myX3_fails ⟨by decide, by decide⟩ rfl rfl (gle rfl) 0 0 (gle rfl) (gle rfl) (gle rfl) (gle rfl) dX3_mix_197 gx_n (gv_f (fun c_21 => ?_) (fun c_21 => ?_))
                  · skip
                    refine g_mono (P2 := gP 1 G (gsr (gsr S.1 0 0 (upd (S.1 0 0) 8 0)) 0 0 (upd (upd (S.1 0 0) 8 0) 8 (4 : Int32)), S.2) A Fr []) (pr_upRow (κ := 0) (i := 0) gM1 hF (upd (upd (S.1 0 0) 8 0) 8 (4 : Int32)) (by decide) (gc1 (gnl rfl)) (gce (show (gsr S.1 0 0 (upd (S.1 0 0) 8 0)) 0 0 = upd (S.1 0 0) 8 0 from gsr_s) rfl) rfl) ?_
                    refine g_if_eq F (tgt := 205) (by decide) dX3_mix_200 (fun c => absurd c (by decide)) (fun _ => ?_)
                    refine g_iconst F (v := (-1 : Int32)) (by decide) dX3_mix_203 ?_
                    exact g_retI F E rfl rfl (gle rfl) (gle rfl) dX3_mix_204 (fun _ hp => ⟨_, _, ((if_neg c_4).trans ((if_neg c_9).trans ((if_neg c_18).trans (if_pos c_21)))), rfl, ⟨A, rfl, gP_T0 hp⟩⟩)
                  · skip
                    refine g_if_eq F (tgt := 205) (by decide) dX3_mix_200 (fun _ => ?_) (fun c => absurd c (by decide))
                    refine g_aload F 2 rfl dX3_mix_205 ?_
                    refine g_iconst F (v := (3 : Int32)) (by decide) dX3_mix_207 ?_
                    refine g_dup2 F rfl rfl dX3_mix_208 ?_
                    refine g_ialdN F (m := 3) rfl (by decide) (by decide) (pr_at (κ := 6) (i := graphite.toNatClampNeg) (by decide) (gc6 (by decide) (Decidable.not_not.mp (fun q => c_4 (Or.inl q))).2) (gce (show (gsr S.1 0 0 (upd (S.1 0 0) 8 0)) 6 graphite.toNatClampNeg = S.1 6 graphite.toNatClampNeg from (gsr_p (by decide) rfl)) rfl)) dX3_mix_209 ?_
                    change gW _ _ _ _ (.int (S.1 6 graphite.toNatClampNeg 3) :: _) _ _
                    refine g_iload_n F 6 rfl rfl dX3_mix_210 ?_
                    refine g_isub F dX3_mix_211 ?_
                    refine g_iastN (P2 := gP 1 G (gsr (gsr S.1 0 0 (upd (S.1 0 0) 8 0)) 6 graphite.toNatClampNeg (upd (S.1 6 graphite.toNatClampNeg) 3 ((S.1 6 graphite.toNatClampNeg 3) - kilos)), S.2) A Fr []) F (m := 3) rfl (by decide) (by decide) (pr_setRow (κ := 6) (i := graphite.toNatClampNeg) gM1 hF (upd (S.1 6 graphite.toNatClampNeg) 3 ((S.1 6 graphite.toNatClampNeg 3) - kilos)) (by decide) (gc6 (by decide) (Decidable.not_not.mp (fun q => c_4 (Or.inl q))).2) (gce (show (gsr S.1 0 0 (upd (S.1 0 0) 8 0)) 6 graphite.toNatClampNeg = S.1 6 graphite.toNatClampNeg from (gsr_p (by decide) rfl)) rfl) rfl) dX3_mix_212 ?_
                    refine g_aload F 1 rfl dX3_mix_213 ?_
                    refine g_iconst F (v := (3 : Int32)) (by decide) dX3_mix_215 ?_
                    refine g_dup2 F rfl rfl dX3_mix_216 ?_
                    refine g_ialdN F (m := 3) rfl (by decide) (by decide) (pr_at (κ := 6) (i := clay.toNatClampNeg) (by decide) (gc6 (by decide) (Decidable.not_not.mp (fun q => c_4 (Or.inr q))).2) (gce (show (gsr (gsr S.1 0 0 (upd (S.1 0 0) 8 0)) 6 graphite.toNatClampNeg (upd (S.1 6 graphite.toNatClampNeg) 3 ((S.1 6 graphite.toNatClampNeg 3) - kilos))) 6 clay.toNatClampNeg = S.1 6 clay.toNatClampNeg from (gsr_q (Ne.symm (mixne (Decidable.not_not.mp c_18).1 (Decidable.not_not.mp c_18).2.1)) (gsr_p (by decide) rfl))) rfl)) dX3_mix_217 ?_
                    change gW _ _ _ _ (.int (S.1 6 clay.toNatClampNeg 3) :: _) _ _
                    refine g_iload F 7 rfl dX3_mix_218 ?_
                    refine g_isub F dX3_mix_220 ?_
                    refine g_iastN (P2 := gP 1 G (gsr (gsr (gsr S.1 0 0 (upd (S.1 0 0) 8 0)) 6 graphite.toNatClampNeg (upd (S.1 6 graphite.toNatClampNeg) 3 ((S.1 6 graphite.toNatClampNeg 3) - kilos))) 6 clay.toNatClampNeg (upd (S.1 6 clay.toNatClampNeg) 3 ((S.1 6 clay.toNatClampNeg 3) - more)), S.2) A Fr []) F (m := 3) rfl (by decide) (by decide) (pr_setRow (κ := 6) (i := clay.toNatClampNeg) gM1 hF (upd (S.1 6 clay.toNatClampNeg) 3 ((S.1 6 clay.toNatClampNeg 3) - more)) (by decide) (gc6 (by decide) (Decidable.not_not.mp (fun q => c_4 (Or.inr q))).2) (gce (show (gsr (gsr S.1 0 0 (upd (S.1 0 0) 8 0)) 6 graphite.toNatClampNeg (upd (S.1 6 graphite.toNatClampNeg) 3 ((S.1 6 graphite.toNatClampNeg 3) - kilos))) 6 clay.toNatClampNeg = S.1 6 clay.toNatClampNeg from (gsr_q (Ne.symm (mixne (Decidable.not_not.mp c_18).1 (Decidable.not_not.mp c_18).2.1)) (gsr_p (by decide) rfl))) rfl) rfl) dX3_mix_221 ?_
                    refine g_iload F 8 rfl dX3_mix_222 ?_
                    refine g_bipush F (v := (9 : Int32)) (by decide) dX3_mix_224 ?_
                    refine g_iadd F dX3_mix_226 ?_
                    refine g_aload F 2 rfl dX3_mix_227 ?_
                    refine g_iconst F (v := (2 : Int32)) (by decide) dX3_mix_229 ?_
                    refine g_ialdN F (m := 2) rfl (by decide) (by decide) (pr_at (κ := 6) (i := graphite.toNatClampNeg) (by decide) (gc6 (by decide) (Decidable.not_not.mp (fun q => c_4 (Or.inl q))).2) (gce (show (gsr (gsr (gsr S.1 0 0 (upd (S.1 0 0) 8 0)) 6 graphite.toNatClampNeg (upd (S.1 6 graphite.toNatClampNeg) 3 ((S.1 6 graphite.toNatClampNeg 3) - kilos))) 6 clay.toNatClampNeg (upd (S.1 6 clay.toNatClampNeg) 3 ((S.1 6 clay.toNatClampNeg 3) - more))) 6 graphite.toNatClampNeg = upd (S.1 6 graphite.toNatClampNeg) 3 ((S.1 6 graphite.toNatClampNeg 3) - kilos) from (gsr_q (mixne (Decidable.not_not.mp c_18).1 (Decidable.not_not.mp c_18).2.1) gsr_s)) rfl)) dX3_mix_230 ?_
                    change gW _ _ _ _ (.int (S.1 6 graphite.toNatClampNeg 2) :: _) _ _
                    refine g_isub F dX3_mix_231 ?_
                    refine g_aload F 1 rfl dX3_mix_232 ?_
                    refine g_iconst F (v := (2 : Int32)) (by decide) dX3_mix_234 ?_
                    refine g_ialdN F (m := 2) rfl (by decide) (by decide) (pr_at (κ := 6) (i := clay.toNatClampNeg) (by decide) (gc6 (by decide) (Decidable.not_not.mp (fun q => c_4 (Or.inr q))).2) (gce (show (gsr (gsr (gsr S.1 0 0 (upd (S.1 0 0) 8 0)) 6 graphite.toNatClampNeg (upd (S.1 6 graphite.toNatClampNeg) 3 ((S.1 6 graphite.toNatClampNeg 3) - kilos))) 6 clay.toNatClampNeg (upd (S.1 6 clay.toNatClampNeg) 3 ((S.1 6 clay.toNatClampNeg 3) - more))) 6 clay.toNatClampNeg = upd (S.1 6 clay.toNatClampNeg) 3 ((S.1 6 clay.toNatClampNeg 3) - more) from gsr_s) rfl)) dX3_mix_235 ?_
                    change gW _ _ _ _ (.int (S.1 6 clay.toNatClampNeg 2) :: _) _ _
                    refine g_iconst F (v := (3 : Int32)) (by decide) dX3_mix_236 ?_
                    refine g_idiv F (by decide) dX3_mix_237 ?_
                    refine g_isub F dX3_mix_238 ?_
                    refine g_istore F (by show 9 < 10; decide) (lv2 := [(9, .int (((days + (9 : Int32)) - (S.1 6 graphite.toNatClampNeg 2)) - ((S.1 6 clay.toNatClampNeg 2) / (3 : Int32)))), (8, .int (gb (((S.1 6 graphite.toNatClampNeg 0) = (103 : Int32)) ∧ (((S.1 6 clay.toNatClampNeg 0) = (99 : Int32)) ∧ (¬ ((S.1 6 graphite.toNatClampNeg 3) < kilos) ∧ (¬ ((S.1 6 clay.toNatClampNeg 3) < more) ∧ (gGoes S (0 : Int32)))))))), (7, .ref (A 6 clay.toNatClampNeg)), (6, .ref (A 6 graphite.toNatClampNeg)), (0, .ref (A 0 0)), (1, .int graphite), (2, .int clay), (3, .int kilos), (4, .int more), (5, .int days)]) rfl dX3_mix_239 ?_
                    refine g_aload_n F 4 rfl rfl dX3_mix_241 ?_
                    refine g_get F clX3 6 (by decide) q1395 (v := .ref (A 307 0)) (gd_get (pr_at (κ := 0) (i := 0) (by decide) (gc1 (gnl rfl)) (gce (show (gsr (gsr (gsr S.1 0 0 (upd (S.1 0 0) 8 0)) 6 graphite.toNatClampNeg (upd (S.1 6 graphite.toNatClampNeg) 3 ((S.1 6 graphite.toNatClampNeg 3) - kilos))) 6 clay.toNatClampNeg (upd (S.1 6 clay.toNatClampNeg) 3 ((S.1 6 clay.toNatClampNeg 3) - more))) 0 0 = upd (S.1 0 0) 8 0 from (gsr_p (by decide) (gsr_p (by decide) gsr_s))) rfl)) rfl) dX3_mix_242 ?_
                    refine g_iconst F (v := (5 : Int32)) (by decide) dX3_mix_245 ?_
                    refine g_newI F (5000, 0) (N := 5) rfl (by decide) 1 5 (gle rfl) (gle rfl) (gle rfl) (gle rfl) (Pa := fun a_22 => gP 1 G (gsr (gsr (gsr S.1 0 0 (upd (S.1 0 0) 8 0)) 6 graphite.toNatClampNeg (upd (S.1 6 graphite.toNatClampNeg) 3 ((S.1 6 graphite.toNatClampNeg 3) - kilos))) 6 clay.toNatClampNeg (upd (S.1 6 clay.toNatClampNeg) 3 ((S.1 6 clay.toNatClampNeg 3) - more)), S.2) A Fr [(a_22, gIA G 5 (fun _ => 0))]) (pr_new hF) dX3_mix_246 (fun a_22 => ?_)
                    refine g_dup F rfl dX3_mix_248 ?_
                    refine g_iconst F (v := (0 : Int32)) (by decide) dX3_mix_249 ?_
                    refine g_iload_n F 5 rfl rfl dX3_mix_250 ?_
                    refine g_iastN (P2 := gP 1 G (gsr (gsr (gsr S.1 0 0 (upd (S.1 0 0) 8 0)) 6 graphite.toNatClampNeg (upd (S.1 6 graphite.toNatClampNeg) 3 ((S.1 6 graphite.toNatClampNeg 3) - kilos))) 6 clay.toNatClampNeg (upd (S.1 6 clay.toNatClampNeg) 3 ((S.1 6 clay.toNatClampNeg 3) - more)), S.2) A Fr [(a_22, gIA G 5 (upd (fun _ => 0) 0 graphite))]) F (m := 0) rfl (by decide) (by decide) (pr_setT gM1 hF (j := 0) rfl) dX3_mix_251 ?_
                    refine g_dup F rfl dX3_mix_252 ?_
                    refine g_iconst F (v := (1 : Int32)) (by decide) dX3_mix_253 ?_
                    refine g_iload_n F 6 rfl rfl dX3_mix_254 ?_
                    refine g_iastN (P2 := gP 1 G (gsr (gsr (gsr S.1 0 0 (upd (S.1 0 0) 8 0)) 6 graphite.toNatClampNeg (upd (S.1 6 graphite.toNatClampNeg) 3 ((S.1 6 graphite.toNatClampNeg 3) - kilos))) 6 clay.toNatClampNeg (upd (S.1 6 clay.toNatClampNeg) 3 ((S.1 6 clay.toNatClampNeg 3) - more)), S.2) A Fr [(a_22, gIA G 5 (upd (upd (fun _ => 0) 0 graphite) 1 clay))]) F (m := 1) rfl (by decide) (by decide) (pr_setT gM1 hF (j := 0) rfl) dX3_mix_255 ?_
                    refine g_dup F rfl dX3_mix_256 ?_
                    refine g_iconst F (v := (2 : Int32)) (by decide) dX3_mix_257 ?_
                    refine g_bipush F (v := (10 : Int32)) (by decide) dX3_mix_258 ?_
                    refine g_iload_n F 7 rfl rfl dX3_mix_260 ?_
                    refine g_imul F dX3_mix_261 ?_
                    refine g_aload F 3 rfl dX3_mix_262 ?_
                    refine g_iconst F (v := (1 : Int32)) (by decide) dX3_mix_264 ?_
                    refine g_ialdN F (m := 1) rfl (by decide) (by decide) (pr_at (κ := 6) (i := graphite.toNatClampNeg) (by decide) (gc6 (by decide) (Decidable.not_not.mp (fun q => c_4 (Or.inl q))).2) (gce (show (gsr (gsr (gsr S.1 0 0 (upd (S.1 0 0) 8 0)) 6 graphite.toNatClampNeg (upd (S.1 6 graphite.toNatClampNeg) 3 ((S.1 6 graphite.toNatClampNeg 3) - kilos))) 6 clay.toNatClampNeg (upd (S.1 6 clay.toNatClampNeg) 3 ((S.1 6 clay.toNatClampNeg 3) - more))) 6 graphite.toNatClampNeg = upd (S.1 6 graphite.toNatClampNeg) 3 ((S.1 6 graphite.toNatClampNeg 3) - kilos) from (gsr_q (mixne (Decidable.not_not.mp c_18).1 (Decidable.not_not.mp c_18).2.1) gsr_s)) rfl)) dX3_mix_265 ?_
                    change gW _ _ _ _ (.int (S.1 6 graphite.toNatClampNeg 1) :: _) _ _
                    refine g_imul F dX3_mix_266 ?_
                    refine g_iload_n F 7 rfl rfl dX3_mix_267 ?_
                    refine g_iload F 8 rfl dX3_mix_268 ?_
                    refine g_iadd F dX3_mix_270 ?_
                    refine g_idiv F (mixnz (fun q => c_9 (Or.inl q)) (fun q => (fun q => c_9 (Or.inr q)) (Or.inl q)) (Decidable.not_not.mp c_18).2.2.1 (Decidable.not_not.mp c_18).2.2.2.1 (hL _ (Decidable.not_not.mp (fun q => c_4 (Or.inl q))).2) (hL _ (Decidable.not_not.mp (fun q => c_4 (Or.inr q))).2)) dX3_mix_271 ?_
                    refine g_iastN (P2 := gP 1 G (gsr (gsr (gsr S.1 0 0 (upd (S.1 0 0) 8 0)) 6 graphite.toNatClampNeg (upd (S.1 6 graphite.toNatClampNeg) 3 ((S.1 6 graphite.toNatClampNeg 3) - kilos))) 6 clay.toNatClampNeg (upd (S.1 6 clay.toNatClampNeg) 3 ((S.1 6 clay.toNatClampNeg 3) - more)), S.2) A Fr [(a_22, gIA G 5 (upd (upd (upd (fun _ => 0) 0 graphite) 1 clay) 2 ((((10 : Int32) * kilos) * (S.1 6 graphite.toNatClampNeg 1)) / (kilos + more))))]) F (m := 2) rfl (by decide) (by decide) (pr_setT gM1 hF (j := 0) rfl) dX3_mix_272 ?_
                    refine g_dup F rfl dX3_mix_273 ?_
                    refine g_iconst F (v := (3 : Int32)) (by decide) dX3_mix_274 ?_
                    refine g_iconst F (v := (0 : Int32)) (by decide) dX3_mix_275 ?_
                    refine g_bipush F (v := (9 : Int32)) (by decide) dX3_mix_276 ?_
                    refine g_iload F 0 rfl dX3_mix_278 ?_
                    refine g_mmin F q1512 (gle rfl) (gle rfl) (gle rfl) (gle rfl) dX3_mix_280 ?_
                    refine g_mmax F q1513 (gle rfl) (gle rfl) (gle rfl) (gle rfl) dX3_mix_283 ?_
                    refine g_iastN (P2 := gP 1 G (gsr (gsr (gsr S.1 0 0 (upd (S.1 0 0) 8 0)) 6 graphite.toNatClampNeg (upd (S.1 6 graphite.toNatClampNeg) 3 ((S.1 6 graphite.toNatClampNeg 3) - kilos))) 6 clay.toNatClampNeg (upd (S.1 6 clay.toNatClampNeg) 3 ((S.1 6 clay.toNatClampNeg 3) - more)), S.2) A Fr [(a_22, gIA G 5 (upd (upd (upd (upd (fun _ => 0) 0 graphite) 1 clay) 2 ((((10 : Int32) * kilos) * (S.1 6 graphite.toNatClampNeg 1)) / (kilos + more))) 3 (gmax (0 : Int32) (gmin (9 : Int32) (((days + (9 : Int32)) - (S.1 6 graphite.toNatClampNeg 2)) - ((S.1 6 clay.toNatClampNeg 2) / (3 : Int32)))))))]) F (m := 3) rfl (by decide) (by decide) (pr_setT gM1 hF (j := 0) rfl) dX3_mix_286 ?_
                    refine g_dup F rfl dX3_mix_287 ?_
                    refine g_iconst F (v := (4 : Int32)) (by decide) dX3_mix_288 ?_
                    refine g_iload_n F 7 rfl rfl dX3_mix_289 ?_
                    refine g_iload F 8 rfl dX3_mix_290 ?_
                    refine g_iadd F dX3_mix_292 ?_
                    refine g_iastN (P2 := gP 1 G (gsr (gsr (gsr S.1 0 0 (upd (S.1 0 0) 8 0)) 6 graphite.toNatClampNeg (upd (S.1 6 graphite.toNatClampNeg) 3 ((S.1 6 graphite.toNatClampNeg 3) - kilos))) 6 clay.toNatClampNeg (upd (S.1 6 clay.toNatClampNeg) 3 ((S.1 6 clay.toNatClampNeg 3) - more)), S.2) A Fr [(a_22, gIA G 5 (upd (upd (upd (upd (upd (fun _ => 0) 0 graphite) 1 clay) 2 ((((10 : Int32) * kilos) * (S.1 6 graphite.toNatClampNeg 1)) / (kilos + more))) 3 (gmax (0 : Int32) (gmin (9 : Int32) (((days + (9 : Int32)) - (S.1 6 graphite.toNatClampNeg 2)) - ((S.1 6 clay.toNatClampNeg 2) / (3 : Int32)))))) 4 (kilos + more)))]) F (m := 4) rfl (by decide) (by decide) (pr_setT gM1 hF (j := 0) rfl) dX3_mix_293 ?_
                    refine g_callF F clJ3 (kJ3_add hl (pr_ls (M := 1) (S := (gsr (gsr (gsr S.1 0 0 (upd (S.1 0 0) 8 0)) 6 graphite.toNatClampNeg (upd (S.1 6 graphite.toNatClampNeg) 3 ((S.1 6 graphite.toNatClampNeg 3) - kilos))) 6 clay.toNatClampNeg (upd (S.1 6 clay.toNatClampNeg) 3 ((S.1 6 clay.toNatClampNeg 3) - more)), S.2)) (A := A) (κ := 7) (by decide) (Or.inl ⟨by decide, by decide⟩) (fun q => by first | decide | exact absurd q (by decide)) (fun q => by first | decide | exact absurd q (by decide))) (Nat.le_trans (gw_64 (gWf_n (κ := 6) (i := clay.toNatClampNeg) (r := upd (S.1 6 clay.toNatClampNeg) 3 ((S.1 6 clay.toNatClampNeg 3) - more)) (gWf_n (κ := 6) (i := graphite.toNatClampNeg) (r := upd (S.1 6 graphite.toNatClampNeg) 3 ((S.1 6 graphite.toNatClampNeg 3) - kilos)) (gWf_0 (r := upd (S.1 0 0) 8 0) hW (gw_b hW)) (by decide)) (by decide)) _) (by decide)) (pr_elT (j := 0) rfl (Or.inr ⟨_, _, rfl⟩)) (pr_el (by decide) (by decide) (fun q => by first | decide | exact absurd q (by decide)) (fun q => by first | decide | exact absurd q (by decide)))) (g_recv F clJ3 (gls_obj (pr_ls (M := 1) (S := (gsr (gsr (gsr S.1 0 0 (upd (S.1 0 0) 8 0)) 6 graphite.toNatClampNeg (upd (S.1 6 graphite.toNatClampNeg) 3 ((S.1 6 graphite.toNatClampNeg 3) - kilos))) 6 clay.toNatClampNeg (upd (S.1 6 clay.toNatClampNeg) 3 ((S.1 6 clay.toNatClampNeg 3) - more)), S.2)) (A := A) (κ := 7) (by decide) (Or.inl ⟨by decide, by decide⟩) (fun q => by first | decide | exact absurd q (by decide)) (fun q => by first | decide | exact absurd q (by decide))))) q1493 q680 q682 q22 q684 (List.mem_of_getElem? (i := 2) rfl) (gT_w q683 rfl) (gT_w q681 rfl) (gT_w q293 rfl) gface_2 ⟨by decide, by decide⟩ rfl rfl (gle rfl) 2 155 (gle rfl) (gle rfl) (gle rfl) (gle rfl) dX3_mix_294 gx_n (gv_i ?_)
                    refine g_retag (P2 := gP 1 G (gsr (gsr (gsr (gsr S.1 0 0 (upd (S.1 0 0) 8 0)) 6 graphite.toNatClampNeg (upd (S.1 6 graphite.toNatClampNeg) 3 ((S.1 6 graphite.toNatClampNeg 3) - kilos))) 6 clay.toNatClampNeg (upd (S.1 6 clay.toNatClampNeg) 3 ((S.1 6 clay.toNatClampNeg 3) - more))) 7 (S.2 7) (upd (upd (upd (upd (upd (fun _ => 0) 0 graphite) 1 clay) 2 ((((10 : Int32) * kilos) * (S.1 6 graphite.toNatClampNeg 1)) / (kilos + more))) 3 (gmax (0 : Int32) (gmin (9 : Int32) (((days + (9 : Int32)) - (S.1 6 graphite.toNatClampNeg 2)) - ((S.1 6 clay.toNatClampNeg 2) / (3 : Int32)))))) 4 (kilos + more)), va_up S.2 7 (S.2 7 + 1)) (gAa A 7 (S.2 7) a_22) Fr []) (pr_add (T0 := []) (κ := 7) gM1 hF (gWf_n (κ := 6) (i := clay.toNatClampNeg) (r := upd (S.1 6 clay.toNatClampNeg) 3 ((S.1 6 clay.toNatClampNeg 3) - more)) (gWf_n (κ := 6) (i := graphite.toNatClampNeg) (r := upd (S.1 6 graphite.toNatClampNeg) 3 ((S.1 6 graphite.toNatClampNeg 3) - kilos)) (gWf_0 (r := upd (S.1 0 0) 8 0) hW (gw_b hW)) (by decide)) (by decide)) (by decide) (by decide) (by decide) (upd (upd (upd (upd (upd (fun _ => 0) 0 graphite) 1 clay) 2 ((((10 : Int32) * kilos) * (S.1 6 graphite.toNatClampNeg 1)) / (kilos + more))) 3 (gmax (0 : Int32) (gmin (9 : Int32) (((days + (9 : Int32)) - (S.1 6 graphite.toNatClampNeg 2)) - ((S.1 6 clay.toNatClampNeg 2) / (3 : Int32)))))) 4 (kilos + more)) rfl) ?_
                    refine g_pop F rfl dX3_mix_299 ?_
                    refine g_aload_n F 4 rfl rfl dX3_mix_300 ?_
                    refine g_get F clX3 6 (by decide) q1395 (v := .ref (A 307 0)) (gd_get (pr_at (κ := 0) (i := 0) (by decide) (gc1 (gnl rfl)) (gce (show (gsr (gsr (gsr (gsr S.1 0 0 (upd (S.1 0 0) 8 0)) 6 graphite.toNatClampNeg (upd (S.1 6 graphite.toNatClampNeg) 3 ((S.1 6 graphite.toNatClampNeg 3) - kilos))) 6 clay.toNatClampNeg (upd (S.1 6 clay.toNatClampNeg) 3 ((S.1 6 clay.toNatClampNeg 3) - more))) 7 (S.2 7) (upd (upd (upd (upd (upd (fun _ => 0) 0 graphite) 1 clay) 2 ((((10 : Int32) * kilos) * (S.1 6 graphite.toNatClampNeg 1)) / (kilos + more))) 3 (gmax (0 : Int32) (gmin (9 : Int32) (((days + (9 : Int32)) - (S.1 6 graphite.toNatClampNeg 2)) - ((S.1 6 clay.toNatClampNeg 2) / (3 : Int32)))))) 4 (kilos + more))) 0 0 = upd (S.1 0 0) 8 0 from (gsr_p (by decide) (gsr_p (by decide) (gsr_p (by decide) gsr_s)))) rfl)) rfl) dX3_mix_301 ?_
                    refine g_callF F clJ3 (kJ3_size hl (pr_ls (M := 1) (S := (gsr (gsr (gsr (gsr S.1 0 0 (upd (S.1 0 0) 8 0)) 6 graphite.toNatClampNeg (upd (S.1 6 graphite.toNatClampNeg) 3 ((S.1 6 graphite.toNatClampNeg 3) - kilos))) 6 clay.toNatClampNeg (upd (S.1 6 clay.toNatClampNeg) 3 ((S.1 6 clay.toNatClampNeg 3) - more))) 7 (S.2 7) (upd (upd (upd (upd (upd (fun _ => 0) 0 graphite) 1 clay) 2 ((((10 : Int32) * kilos) * (S.1 6 graphite.toNatClampNeg 1)) / (kilos + more))) 3 (gmax (0 : Int32) (gmin (9 : Int32) (((days + (9 : Int32)) - (S.1 6 graphite.toNatClampNeg 2)) - ((S.1 6 clay.toNatClampNeg 2) / (3 : Int32)))))) 4 (kilos + more)), va_up S.2 7 (S.2 7 + 1))) (A := gAa A 7 (S.2 7) a_22) (κ := 7) (by decide) (Or.inl ⟨by decide, by decide⟩) (fun q => by first | decide | exact absurd q (by decide)) (fun q => by first | decide | exact absurd q (by decide)))) (g_recv F clJ3 (gls_obj (pr_ls (M := 1) (S := (gsr (gsr (gsr (gsr S.1 0 0 (upd (S.1 0 0) 8 0)) 6 graphite.toNatClampNeg (upd (S.1 6 graphite.toNatClampNeg) 3 ((S.1 6 graphite.toNatClampNeg 3) - kilos))) 6 clay.toNatClampNeg (upd (S.1 6 clay.toNatClampNeg) 3 ((S.1 6 clay.toNatClampNeg 3) - more))) 7 (S.2 7) (upd (upd (upd (upd (upd (fun _ => 0) 0 graphite) 1 clay) 2 ((((10 : Int32) * kilos) * (S.1 6 graphite.toNatClampNeg 1)) / (kilos + more))) 3 (gmax (0 : Int32) (gmin (9 : Int32) (((days + (9 : Int32)) - (S.1 6 graphite.toNatClampNeg 2)) - ((S.1 6 clay.toNatClampNeg 2) / (3 : Int32)))))) 4 (kilos + more)), va_up S.2 7 (S.2 7 + 1))) (A := gAa A 7 (S.2 7) a_22) (κ := 7) (by decide) (Or.inl ⟨by decide, by decide⟩) (fun q => by first | decide | exact absurd q (by decide)) (fun q => by first | decide | exact absurd q (by decide))))) q1491 q634 q636 q22 q638 (List.mem_of_getElem? (i := 0) rfl) (gT_w q637 rfl) (gT_w q635 rfl) (gT_w q293 rfl) gface_0 ⟨by decide, by decide⟩ rfl rfl (gle rfl) 2 155 (gle rfl) (gle rfl) (gle rfl) (gle rfl) dX3_mix_304 gx_n (gv_i ?_)
                    refine g_iconst F (v := (1 : Int32)) (by decide) dX3_mix_309 ?_
                    refine g_isub F dX3_mix_310 ?_
                    refine g_top (nI_pred (S.2 7)) ?_
                    exact g_retI F E rfl rfl (gle rfl) (gle rfl) dX3_mix_311 (fun _ hp => ⟨_, _, ((if_neg c_4).trans ((if_neg c_9).trans ((if_neg c_18).trans (if_neg c_21)))), rfl, ⟨gAa A 7 (S.2 7) a_22, rfl, gP_T0 hp⟩⟩)
                refine g_icmp_ne F (tgt := 195) (by decide) dX3_mix_188 (fun c_19 => ?_) (fun c_19 => ?_)
                · skip
                  refine g_iconst F (v := (0 : Int32)) (by decide) dX3_mix_195 ?_
                  exact g_top (gb_f c_19) J_20
                · skip
                  refine g_iconst F (v := (1 : Int32)) (by decide) dX3_mix_191 ?_
                  refine g_goto F (tgt := 196) (by decide) dX3_mix_192 ?_
                  exact g_top (gb_t c_19) J_20
            refine gb_if_ne F (tgt := 168) (by decide) dX3_mix_161 (fun c_16 => ?_) (fun c_16 => ?_)
            · skip
              refine g_iconst F (v := (0 : Int32)) (by decide) dX3_mix_168 ?_
              exact g_top (gb_f (fun q => q c_16)) J_17
            · skip
              refine g_iconst F (v := (1 : Int32)) (by decide) dX3_mix_164 ?_
              refine g_goto F (tgt := 169) (by decide) dX3_mix_165 ?_
              exact g_top (gb_t c_16) J_17
          refine g_icmp_ne F (tgt := 155) (by decide) dX3_mix_114 (fun c_10 => ?_) (fun c_10 => ?_)
          · skip
            refine g_iconst F (v := (0 : Int32)) (by decide) dX3_mix_155 ?_
            exact g_top (gb_f (fun q => c_10 q.1)) J_15
          · skip
            refine g_aload F 0 rfl dX3_mix_117 ?_
            refine g_iconst F (v := (0 : Int32)) (by decide) dX3_mix_119 ?_
            refine g_ialdN F (m := 0) rfl (by decide) (by decide) (pr_at (κ := 6) (i := clay.toNatClampNeg) (by decide) (gc6 (by decide) (Decidable.not_not.mp (fun q => c_4 (Or.inr q))).2) (gce (show (gsr S.1 0 0 (upd (S.1 0 0) 8 0)) 6 clay.toNatClampNeg = S.1 6 clay.toNatClampNeg from (gsr_p (by decide) rfl)) rfl)) dX3_mix_120 ?_
            change gW _ _ _ _ (.int (S.1 6 clay.toNatClampNeg 0) :: _) _ _
            refine g_bipush F (v := (99 : Int32)) (by decide) dX3_mix_121 ?_
            refine g_icmp_ne F (tgt := 155) (by decide) dX3_mix_123 (fun c_11 => ?_) (fun c_11 => ?_)
            · skip
              refine g_iconst F (v := (0 : Int32)) (by decide) dX3_mix_155 ?_
              exact g_top (gb_f (fun q => (fun q => c_11 q.1) q.2)) J_15
            · skip
              refine g_aload F 1 rfl dX3_mix_126 ?_
              refine g_iconst F (v := (3 : Int32)) (by decide) dX3_mix_128 ?_
              refine g_ialdN F (m := 3) rfl (by decide) (by decide) (pr_at (κ := 6) (i := graphite.toNatClampNeg) (by decide) (gc6 (by decide) (Decidable.not_not.mp (fun q => c_4 (Or.inl q))).2) (gce (show (gsr S.1 0 0 (upd (S.1 0 0) 8 0)) 6 graphite.toNatClampNeg = S.1 6 graphite.toNatClampNeg from (gsr_p (by decide) rfl)) rfl)) dX3_mix_129 ?_
              change gW _ _ _ _ (.int (S.1 6 graphite.toNatClampNeg 3) :: _) _ _
              refine g_iload_n F 5 rfl rfl dX3_mix_130 ?_
              refine g_icmp_lt F (tgt := 155) (by decide) dX3_mix_131 (fun c_12 => ?_) (fun c_12 => ?_)
              · skip
                refine g_iconst F (v := (0 : Int32)) (by decide) dX3_mix_155 ?_
                exact g_top (gb_f (fun q => (fun q => (fun q => q.1 c_12) q.2) q.2)) J_15
              · skip
                refine g_aload F 0 rfl dX3_mix_134 ?_
                refine g_iconst F (v := (3 : Int32)) (by decide) dX3_mix_136 ?_
                refine g_ialdN F (m := 3) rfl (by decide) (by decide) (pr_at (κ := 6) (i := clay.toNatClampNeg) (by decide) (gc6 (by decide) (Decidable.not_not.mp (fun q => c_4 (Or.inr q))).2) (gce (show (gsr S.1 0 0 (upd (S.1 0 0) 8 0)) 6 clay.toNatClampNeg = S.1 6 clay.toNatClampNeg from (gsr_p (by decide) rfl)) rfl)) dX3_mix_137 ?_
                change gW _ _ _ _ (.int (S.1 6 clay.toNatClampNeg 3) :: _) _ _
                refine g_iload F 6 rfl dX3_mix_138 ?_
                refine g_icmp_lt F (tgt := 155) (by decide) dX3_mix_140 (fun c_13 => ?_) (fun c_13 => ?_)
                · skip
                  refine g_iconst F (v := (0 : Int32)) (by decide) dX3_mix_155 ?_
                  exact g_top (gb_f (fun q => (fun q => (fun q => (fun q => q.1 c_13) q.2) q.2) q.2)) J_15
                · skip
                  refine g_aload_n F 2 rfl rfl dX3_mix_143 ?_
                  refine g_iconst F (v := (0 : Int32)) (by decide) dX3_mix_144 ?_
                  refine g_callV F (kX3_going hl hF hW (x := (0 : Int32)) (by decide) rfl) (g_recv F clX3 (gd_obj (pr_at (κ := 0) (i := 0) (by decide) (gc1 (gnl rfl)) (gce (show (gsr S.1 0 0 (upd (S.1 0 0) 8 0)) 0 0 = upd (S.1 0 0) 8 0 from gsr_s) rfl)))) q1479 q1481 qs8 q25 q1482 myX3_going ⟨by decide, by decide⟩ rfl rfl (gle rfl) 0 0 (gle rfl) (gle rfl) (gle rfl) (gle rfl) dX3_mix_145 gx_n (gv_i ?_)
                  refine gb_if_eq F (tgt := 155) (by decide) dX3_mix_148 (fun c_14 => ?_) (fun c_14 => ?_)
                  · skip
                    refine g_iconst F (v := (0 : Int32)) (by decide) dX3_mix_155 ?_
                    exact g_top (gb_f (fun q => (fun q => (fun q => (fun q => c_14 q.2) q.2) q.2) q.2)) J_15
                  · skip
                    refine g_iconst F (v := (1 : Int32)) (by decide) dX3_mix_151 ?_
                    refine g_goto F (tgt := 156) (by decide) dX3_mix_152 ?_
                    exact g_top (gb_t (⟨c_10, ⟨c_11, ⟨c_12, ⟨c_13, c_14⟩⟩⟩⟩)) J_15
      refine g_icmp_lt F (tgt := 64) (by decide) dX3_mix_42 (fun c_5 => ?_) (fun c_5 => ?_)
      · skip
        refine g_iconst F (v := (1 : Int32)) (by decide) dX3_mix_64 ?_
        refine g_goto F (tgt := 69) (by decide) dX3_mix_65 ?_
        exact g_top (gb_t (Or.inl c_5)) J_8
      · skip
        refine g_iload F 4 rfl dX3_mix_45 ?_
        refine g_iconst F (v := (1 : Int32)) (by decide) dX3_mix_47 ?_
        refine g_icmp_lt F (tgt := 64) (by decide) dX3_mix_48 (fun c_6 => ?_) (fun c_6 => ?_)
        · skip
          refine g_iconst F (v := (1 : Int32)) (by decide) dX3_mix_64 ?_
          refine g_goto F (tgt := 69) (by decide) dX3_mix_65 ?_
          exact g_top (gb_t (Or.inr (Or.inl c_6))) J_8
        · skip
          refine g_iload F 5 rfl dX3_mix_51 ?_
          refine g_i2l F dX3_mix_53 ?_
          refine g_lconst F (v := (1 : Int64)) (by decide) dX3_mix_54 ?_
          refine g_ldc2 F (v := (9 : Int64)) q1489 dX3_mix_55 ?_
          refine g_callS F (kX3_in hl (x := days) (lo := (1 : Int32)) (hi := (9 : Int32)) (by decide) (by decide)) (lw_S q1453 q1454 q25 q1455) myX3_in ⟨by decide, by decide⟩ rfl rfl (gle rfl) 0 0 (gle rfl) (gle rfl) (gle rfl) (gle rfl) dX3_mix_58 gx_n (gv_i ?_)
          refine gb_if_ne F (tgt := 68) (by decide) dX3_mix_61 (fun c_7 => ?_) (fun c_7 => ?_)
          · skip
            refine g_iconst F (v := (0 : Int32)) (by decide) dX3_mix_68 ?_
            exact g_top (gb_f (fun q => q.elim c_5 (fun q => q.elim c_6 (fun q => q c_7)))) J_8
          · skip
            refine g_iconst F (v := (1 : Int32)) (by decide) dX3_mix_64 ?_
            refine g_goto F (tgt := 69) (by decide) dX3_mix_65 ?_
            exact g_top (gb_t (Or.inr (Or.inr c_7))) J_8
  refine gb_if_eq F (tgt := 27) (by decide) dX3_mix_13 (fun c_1 => ?_) (fun c_1 => ?_)
  · skip
    refine g_iconst F (v := (1 : Int32)) (by decide) dX3_mix_27 ?_
    refine g_goto F (tgt := 32) (by decide) dX3_mix_28 ?_
    exact g_top (gb_t (Or.inl c_1)) J_3
  · skip
    refine g_aload_n F 0 rfl rfl dX3_mix_16 ?_
    refine g_get F clX3 5 (by decide) q1394 (v := .ref (A 306 0)) (gd_get (pr_at (κ := 0) (i := 0) (by decide) (gc1 (gnl rfl)) (gce (show (gsr S.1 0 0 (upd (S.1 0 0) 8 0)) 0 0 = upd (S.1 0 0) 8 0 from gsr_s) rfl)) rfl) dX3_mix_17 ?_
    refine g_iload_n F 2 rfl rfl dX3_mix_20 ?_
    refine g_callS F (kX3_isOf hl (pr_ls (M := 1) (S := (gsr S.1 0 0 (upd (S.1 0 0) 8 0), S.2)) (A := A) (κ := 6) (by decide) (Or.inl ⟨by decide, by decide⟩) (fun q => by first | decide | exact absurd q (by decide)) (fun q => by first | decide | exact absurd q (by decide))) (gw_n hW _) (x := clay)) (lw_S q1502 q1503 q25 q1504) myX3_isOf ⟨by decide, by decide⟩ rfl rfl (gle rfl) 0 0 (gle rfl) (gle rfl) (gle rfl) (gle rfl) dX3_mix_21 gx_n (gv_i ?_)
    refine gb_if_ne F (tgt := 31) (by decide) dX3_mix_24 (fun c_2 => ?_) (fun c_2 => ?_)
    · skip
      refine g_iconst F (v := (0 : Int32)) (by decide) dX3_mix_31 ?_
      exact g_top (gb_f (fun q => q.elim (fun z => z c_1) (fun q => q c_2))) J_3
    · skip
      refine g_iconst F (v := (1 : Int32)) (by decide) dX3_mix_27 ?_
      refine g_goto F (tgt := 32) (by decide) dX3_mix_28 ?_
      exact g_top (gb_t (Or.inr c_2)) J_3

def sM_belt (S : gS) (machine bb : Int32) : Value × gS := if ((gidx 0 machine) < 0) ∨ (((0 ≤ (gidx 0 bb)) ∧ (machine = bb)) ∨ (¬ (0 ≤ (gidx 0 bb)) ∧ (¬ (bb = (45 : Int32)) ∨ (machine = bb)))) then (.int (32 : Int32), (gsr (gsr S.1 0 0 (upd (S.1 0 0) 8 0)) 0 0 (upd (upd (S.1 0 0) 8 0) 8 (1 : Int32)), S.2)) else (if gHit (S.1 1 0) (gidx 0 machine) 4 (gidx 0 bb) = true then (.int (32 : Int32), (gsr (gsr S.1 0 0 (upd (S.1 0 0) 8 0)) 0 0 (upd (upd (S.1 0 0) 8 0) 8 (2 : Int32)), S.2)) else (.int (if (S.1 1 0 ((gidx 0 machine).toNatClampNeg)) = (-1 : Int32) then (45 : Int32) else ((gByt.getD 0 []).getD (S.1 1 0 ((gidx 0 machine).toNatClampNeg)).toNatClampNeg 0)), (gsr (gsr S.1 0 0 (upd (S.1 0 0) 8 0)) 1 0 (upd (S.1 1 0) ((gidx 0 machine).toNatClampNeg) (gidx 0 bb)), S.2)))
theorem kX3_belt {l : Launch} {G : gG} (hl : l.stackTraces = false) {S : gS} {a0 : Nat} {Fr : gH → Prop} (hF : gFr 1 Fr) (hW : gWf S) {machine bb : Int32} (h_machine : ¬ machine < 0) (h_bb : ¬ bb < 0) : gMet l yX3_belt (ws_ yX3_belt cX3_belt 7 (some .char)) ⟨4, 0, 0, 91⟩ G [.ref a0, .int machine, .int bb] (gPE 1 G S a0 Fr) (gqN (sM_belt S machine bb) G a0 Fr) gxN := by
  refine gMet_of hl pnX3 (gle rfl) (fun X Q hX F E hNm => ?_)
  subst hX
  change gW (X, G, 7, Q) (gPE 1 G S a0 Fr) [(0, .ref a0), (1, .int machine), (2, .int bb)] 0 [] 0 0
  refine g_pe (fun A hA => ?_)
  subst hA
  change gW _ _ [(0, .ref (A 0 0)), (1, .int machine), (2, .int bb)] 0 [] 0 0
  refine g_aload_n F 0 rfl rfl dX3_belt_0 ?_
  refine g_callV F (kX3_begins hl (pr_at (κ := 0) (i := 0) (by decide) (gc1 (gnl rfl)) (gce rfl rfl))) (g_recv F clX3 (gd_obj (pr_at (κ := 0) (i := 0) (by decide) (gc1 (gnl rfl)) (gce rfl rfl)))) q1448 q1450 qs6 q25 q1451 myX3_begins ⟨by decide, by decide⟩ rfl rfl (gle rfl) 0 0 (gle rfl) (gle rfl) (gle rfl) (gle rfl) dX3_belt_1 gx_n (gv_v ?_)
  refine g_mono (P2 := gP 1 G (gsr S.1 0 0 (upd (S.1 0 0) 8 0), S.2) A Fr []) (pr_upRow (κ := 0) (i := 0) gM1 hF (upd (S.1 0 0) 8 0) (by decide) (gc1 (gnl rfl)) (gce rfl rfl) rfl) ?_
  refine g_ldcS F (i := 0) (List.mem_of_getElem? (i := 7) rfl) dX3_belt_4 ?_
  refine g_iload_n F 1 rfl rfl dX3_belt_6 ?_
  refine g_callV F (kJ0_indexOf hl (by decide) (ch := machine) h_machine) (g_srecv F (by decide)) q1469 q436 q437 q19 q438 myJ0_indexOf ⟨by decide, by decide⟩ rfl rfl (gle rfl) 0 0 (gle rfl) (gle rfl) (gle rfl) (gle rfl) dX3_belt_7 gx_n (gv_i ?_)
  refine g_istore_n F rfl (by show 3 < 7; decide) (lv2 := [(3, .int (gidx 0 machine)), (0, .ref (A 0 0)), (1, .int machine), (2, .int bb)]) rfl dX3_belt_10 ?_
  refine g_ldcS F (i := 0) (List.mem_of_getElem? (i := 7) rfl) dX3_belt_11 ?_
  refine g_iload_n F 3 rfl rfl dX3_belt_13 ?_
  refine g_callV F (kJ0_indexOf hl (by decide) (ch := bb) h_bb) (g_srecv F (by decide)) q1469 q436 q437 q19 q438 myJ0_indexOf ⟨by decide, by decide⟩ rfl rfl (gle rfl) 0 0 (gle rfl) (gle rfl) (gle rfl) (gle rfl) dX3_belt_14 gx_n (gv_i ?_)
  refine g_istore F (by show 4 < 7; decide) (lv2 := [(4, .int (gidx 0 bb)), (3, .int (gidx 0 machine)), (0, .ref (A 0 0)), (1, .int machine), (2, .int bb)]) rfl dX3_belt_17 ?_
  refine g_aload_n F 2 rfl rfl dX3_belt_19 ?_
  refine g_iload_n F 1 rfl rfl dX3_belt_20 ?_
  have J_6 : gW (X, G, 7, Q) (gP 1 G (gsr S.1 0 0 (upd (S.1 0 0) 8 0), S.2) A Fr []) [(4, .int (gidx 0 bb)), (3, .int (gidx 0 machine)), (0, .ref (A 0 0)), (1, .int machine), (2, .int bb)] 45 [.int (gb (((gidx 0 machine) < 0) ∨ (((0 ≤ (gidx 0 bb)) ∧ (machine = bb)) ∨ (¬ (0 ≤ (gidx 0 bb)) ∧ (¬ (bb = (45 : Int32)) ∨ (machine = bb)))))), .ref (A 0 0)] 0 0 := by
    refine g_iconst F (v := (1 : Int32)) (by decide) dX3_belt_45 ?_
    refine g_callV F (kX3_fails hl (b := gb (((gidx 0 machine) < 0) ∨ (((0 ≤ (gidx 0 bb)) ∧ (machine = bb)) ∨ (¬ (0 ≤ (gidx 0 bb)) ∧ (¬ (bb = (45 : Int32)) ∨ (machine = bb)))))) (nu := (1 : Int32)) (c := ((gidx 0 machine) < 0) ∨ (((0 ≤ (gidx 0 bb)) ∧ (machine = bb)) ∨ (¬ (0 ≤ (gidx 0 bb)) ∧ (¬ (bb = (45 : Int32)) ∨ (machine = bb))))) gb_n0 (by decide) (pr_at (κ := 0) (i := 0) (by decide) (gc1 (gnl rfl)) (gce (show (gsr S.1 0 0 (upd (S.1 0 0) 8 0)) 0 0 = upd (S.1 0 0) 8 0 from gsr_s) rfl))) (g_recv F clX3 (gd_obj (pr_at (κ := 0) (i := 0) (by decide) (gc1 (gnl rfl)) (gce (show (gsr S.1 0 0 (upd (S.1 0 0) 8 0)) 0 0 = upd (S.1 0 0) 8 0 from gsr_s) rfl)))) q1456 q1458 qs7 q25 q1459 myX3_fails ⟨by decide, by decide⟩ rfl rfl (gle rfl) 0 0 (gle rfl) (gle rfl) (gle rfl) (gle rfl) dX3_belt_46 gx_n (gv_f (fun c_7 => ?_) (fun c_7 => ?_))
    · skip
      refine g_mono (P2 := gP 1 G (gsr (gsr S.1 0 0 (upd (S.1 0 0) 8 0)) 0 0 (upd (upd (S.1 0 0) 8 0) 8 (1 : Int32)), S.2) A Fr []) (pr_upRow (κ := 0) (i := 0) gM1 hF (upd (upd (S.1 0 0) 8 0) 8 (1 : Int32)) (by decide) (gc1 (gnl rfl)) (gce (show (gsr S.1 0 0 (upd (S.1 0 0) 8 0)) 0 0 = upd (S.1 0 0) 8 0 from gsr_s) rfl) rfl) ?_
      refine g_if_eq F (tgt := 55) (by decide) dX3_belt_49 (fun c => absurd c (by decide)) (fun _ => ?_)
      refine g_bipush F (v := (32 : Int32)) (by decide) dX3_belt_52 ?_
      exact g_retI F E rfl rfl (gle rfl) (gle rfl) dX3_belt_54 (fun _ hp => ⟨_, _, (if_pos c_7), rfl, ⟨A, rfl, gP_T0 hp⟩⟩)
    · skip
      refine g_if_eq F (tgt := 55) (by decide) dX3_belt_49 (fun _ => ?_) (fun c => absurd c (by decide))
      refine g_iconst F (v := (0 : Int32)) (by decide) dX3_belt_55 ?_
      refine g_istore F (by show 5 < 7; decide) (lv2 := [(5, .int (0 : Int32)), (4, .int (gidx 0 bb)), (3, .int (gidx 0 machine)), (0, .ref (A 0 0)), (1, .int machine), (2, .int bb)]) rfl dX3_belt_56 ?_
      refine g_iload F 1 rfl dX3_belt_58 ?_
      refine g_istore F (by show 6 < 7; decide) (lv2 := [(6, .int (gidx 0 bb)), (5, .int (0 : Int32)), (4, .int (gidx 0 bb)), (3, .int (gidx 0 machine)), (0, .ref (A 0 0)), (1, .int machine), (2, .int bb)]) rfl dX3_belt_60 ?_
      have LP : ∀ n (x5 ring : Int32) (b : Bool), (x5 = -1 ∨ gIn x5 4) → gIt (S.1 1 0) n x5 = -1 → ring = gb (b = true) → ∀ e : Int32, gb ((b || gHit (S.1 1 0) (gidx 0 machine) n x5) = true) = e → gW (X, G, 7, Q) (gP 1 G (gsr S.1 0 0 (upd (S.1 0 0) 8 0), S.2) A Fr []) [(5, .int e), (4, .int (gidx 0 bb)), (3, .int (gidx 0 machine)), (2, .int bb), (1, .int machine), (0, .ref (A 0 0))] 98 [] 0 0 → gW (X, G, 7, Q) (gP 1 G (gsr S.1 0 0 (upd (S.1 0 0) 8 0), S.2) A Fr []) [(5, .int ring), (6, .int x5), (4, .int (gidx 0 bb)), (3, .int (gidx 0 machine)), (2, .int bb), (1, .int machine), (0, .ref (A 0 0))] 62 [] 0 0 := by
        intro n
        induction n with
        | zero =>
          intro x5 ring b hx he hr e hE hk
          subst hr
          refine g_iload F 1 rfl dX3_belt_62 ?_
          refine g_iconst F (v := (-1 : Int32)) (by decide) dX3_belt_64 ?_
          refine g_icmp_eq F (tgt := 98) (by decide) dX3_belt_65 (fun _ => ?_) (fun c => absurd (show x5 = -1 from he) c)
          refine g_lv [0,2,3,4,5,6] (lv2 := [(5, .int (gb (b = true))), (4, .int (gidx 0 bb)), (3, .int (gidx 0 machine)), (2, .int bb), (1, .int machine), (0, .ref (A 0 0))]) rfl ?_
          have q8 : gb (b = true) = e := by rw [← hE]; exact gb_c (by simp [gHit])
          rw [q8]
          exact hk
        | succ n IH =>
          intro x5 ring b hx he hr e hE hk
          subst hr
          refine g_iload F 1 rfl dX3_belt_62 ?_
          refine g_iconst F (v := (-1 : Int32)) (by decide) dX3_belt_64 ?_
          refine g_icmp_eq F (tgt := 98) (by decide) dX3_belt_65 (fun c_8 => ?_) (fun c_8 => ?_)
          · skip
            refine g_lv [0,2,3,4,5,6] (lv2 := [(5, .int (gb (b = true))), (4, .int (gidx 0 bb)), (3, .int (gidx 0 machine)), (2, .int bb), (1, .int machine), (0, .ref (A 0 0))]) rfl ?_
            have q8 : gb (b = true) = e := by rw [← hE]; exact gb_c (by have h9 := gHit_m (r := (S.1 1 0)) (t := gidx 0 machine) (n := n + 1) c_8; simp [h9])
            rw [q8]
            exact hk
          · skip
            refine g_iload F 0 rfl dX3_belt_68 ?_
            refine gb_if_ne F (tgt := 98) (by decide) dX3_belt_70 (fun c_9 => ?_) (fun c_9 => ?_)
            · skip
              refine g_lv [0,2,3,4,5,6] (lv2 := [(5, .int (gb (b = true))), (4, .int (gidx 0 bb)), (3, .int (gidx 0 machine)), (2, .int bb), (1, .int machine), (0, .ref (A 0 0))]) rfl ?_
              have q8 : gb (b = true) = e := by rw [← hE]; exact gb_c (by simp [c_9])
              rw [q8]
              exact hk
            · skip
              refine g_iload F 1 rfl dX3_belt_73 ?_
              refine g_iload_n F 3 rfl rfl dX3_belt_75 ?_
              have J_11 : gW (X, G, 7, Q) (gP 1 G (gsr S.1 0 0 (upd (S.1 0 0) 8 0), S.2) A Fr []) [(5, .int (gb (b = true))), (6, .int x5), (4, .int (gidx 0 bb)), (3, .int (gidx 0 machine)), (2, .int bb), (1, .int machine), (0, .ref (A 0 0))] 84 [.int (gb (x5 = (gidx 0 machine)))] 0 0 := by
                refine g_istore F (by show 5 < 7; decide) (lv2 := [(5, .int (gb (x5 = (gidx 0 machine)))), (6, .int x5), (4, .int (gidx 0 bb)), (3, .int (gidx 0 machine)), (2, .int bb), (1, .int machine), (0, .ref (A 0 0))]) rfl dX3_belt_84 ?_
                refine g_aload_n F 6 rfl rfl dX3_belt_86 ?_
                refine g_get F clX3 4 (by decide) q1393 (v := .ref (A 1 0)) (gd_get (pr_at (κ := 0) (i := 0) (by decide) (gc1 (gnl rfl)) (gce (show (gsr S.1 0 0 (upd (S.1 0 0) 8 0)) 0 0 = upd (S.1 0 0) 8 0 from gsr_s) rfl)) rfl) dX3_belt_87 ?_
                refine g_iload F 1 rfl dX3_belt_90 ?_
                refine g_iald F (gIn_vp (gor_of hx c_8)) (pr_at (κ := 1) (i := 0) (by decide) (gc1 (gnl rfl)) (gce (show (gsr S.1 0 0 (upd (S.1 0 0) 8 0)) 1 0 = S.1 1 0 from (gsr_p (by decide) rfl)) rfl)) dX3_belt_92 ?_
                change gW _ _ _ _ (.int (S.1 1 0 x5.toNatClampNeg) :: _) _ _
                refine g_istore F (by show 6 < 7; decide) (lv2 := [(6, .int (S.1 1 0 x5.toNatClampNeg)), (5, .int (gb (x5 = (gidx 0 machine)))), (4, .int (gidx 0 bb)), (3, .int (gidx 0 machine)), (2, .int bb), (1, .int machine), (0, .ref (A 0 0))]) rfl dX3_belt_93 ?_
                refine g_goto F (tgt := 62) (by decide) dX3_belt_95 ?_
                refine g_lv [1,0,2,3,4,5,6] (lv2 := [(5, .int (gb (x5 = (gidx 0 machine)))), (6, .int (S.1 1 0 x5.toNatClampNeg)), (4, .int (gidx 0 bb)), (3, .int (gidx 0 machine)), (2, .int bb), (1, .int machine), (0, .ref (A 0 0))]) rfl ?_
                exact IH _ _ (x5 == gidx 0 machine) (gDrv_n (gw_d hW) (gor_of hx c_8)) (gIt_s c_8 he) (gb_c (by simp)) e (by rw [← hE]; exact gb_c (by rw [gHit_s c_8]; simp [c_9])) hk
              refine g_icmp_ne F (tgt := 83) (by decide) dX3_belt_76 (fun c_10 => ?_) (fun c_10 => ?_)
              · skip
                refine g_iconst F (v := (0 : Int32)) (by decide) dX3_belt_83 ?_
                exact g_top (gb_f c_10) J_11
              · skip
                refine g_iconst F (v := (1 : Int32)) (by decide) dX3_belt_79 ?_
                refine g_goto F (tgt := 84) (by decide) dX3_belt_80 ?_
                exact g_top (gb_t c_10) J_11
      refine g_lv [1,0,2,3,6,5,4] (lv2 := [(5, .int (0 : Int32)), (6, .int (gidx 0 bb)), (4, .int (gidx 0 bb)), (3, .int (gidx 0 machine)), (2, .int bb), (1, .int machine), (0, .ref (A 0 0))]) rfl ?_
      refine g_widen (k2 := 0) (n2 := 0) (by decide) (by decide) ?_
      refine LP 4 _ _ false gidx_or (gDrv_o (gw_d hW) gidx_or) rfl _ (show _ = gb (gHit (S.1 1 0) (gidx 0 machine) 4 (gidx 0 bb) = true) from gb_c (by simp)) ?_
      refine g_aload_n F 5 rfl rfl dX3_belt_98 ?_
      refine g_iload F 0 rfl dX3_belt_99 ?_
      refine g_iconst F (v := (2 : Int32)) (by decide) dX3_belt_101 ?_
      refine g_callV F (kX3_fails hl (b := gb (gHit (S.1 1 0) (gidx 0 machine) 4 (gidx 0 bb) = true)) (nu := (2 : Int32)) (c := gHit (S.1 1 0) (gidx 0 machine) 4 (gidx 0 bb) = true) gb_n0 (by decide) (pr_at (κ := 0) (i := 0) (by decide) (gc1 (gnl rfl)) (gce (show (gsr S.1 0 0 (upd (S.1 0 0) 8 0)) 0 0 = upd (S.1 0 0) 8 0 from gsr_s) rfl))) (g_recv F clX3 (gd_obj (pr_at (κ := 0) (i := 0) (by decide) (gc1 (gnl rfl)) (gce (show (gsr S.1 0 0 (upd (S.1 0 0) 8 0)) 0 0 = upd (S.1 0 0) 8 0 from gsr_s) rfl)))) q1456 q1458 qs7 q25 q1459 myX3_fails ⟨by decide, by decide⟩ rfl rfl (gle rfl) 0 0 (gle rfl) (gle rfl) (gle rfl) (gle rfl) dX3_belt_102 gx_n (gv_f (fun c_12 => ?_) (fun c_12 => ?_))
      · skip
        refine g_mono (P2 := gP 1 G (gsr (gsr S.1 0 0 (upd (S.1 0 0) 8 0)) 0 0 (upd (upd (S.1 0 0) 8 0) 8 (2 : Int32)), S.2) A Fr []) (pr_upRow (κ := 0) (i := 0) gM1 hF (upd (upd (S.1 0 0) 8 0) 8 (2 : Int32)) (by decide) (gc1 (gnl rfl)) (gce (show (gsr S.1 0 0 (upd (S.1 0 0) 8 0)) 0 0 = upd (S.1 0 0) 8 0 from gsr_s) rfl) rfl) ?_
        refine g_if_eq F (tgt := 111) (by decide) dX3_belt_105 (fun c => absurd c (by decide)) (fun _ => ?_)
        refine g_bipush F (v := (32 : Int32)) (by decide) dX3_belt_108 ?_
        exact g_retI F E rfl rfl (gle rfl) (gle rfl) dX3_belt_110 (fun _ hp => ⟨_, _, ((if_neg c_7).trans (if_pos c_12)), rfl, ⟨A, rfl, gP_T0 hp⟩⟩)
      · skip
        refine g_if_eq F (tgt := 111) (by decide) dX3_belt_105 (fun _ => ?_) (fun c => absurd c (by decide))
        refine g_aload_n F 5 rfl rfl dX3_belt_111 ?_
        refine g_get F clX3 4 (by decide) q1393 (v := .ref (A 1 0)) (gd_get (pr_at (κ := 0) (i := 0) (by decide) (gc1 (gnl rfl)) (gce (show (gsr S.1 0 0 (upd (S.1 0 0) 8 0)) 0 0 = upd (S.1 0 0) 8 0 from gsr_s) rfl)) rfl) dX3_belt_112 ?_
        refine g_iload_n F 2 rfl rfl dX3_belt_115 ?_
        refine g_iald F (gidx_vp (i := 0) (by decide) (fun q => c_7 (Or.inl q))) (pr_at (κ := 1) (i := 0) (by decide) (gc1 (gnl rfl)) (gce (show (gsr S.1 0 0 (upd (S.1 0 0) 8 0)) 1 0 = S.1 1 0 from (gsr_p (by decide) rfl)) rfl)) dX3_belt_116 ?_
        change gW _ _ _ _ (.int (S.1 1 0 ((gidx 0 machine).toNatClampNeg)) :: _) _ _
        refine g_istore F (by show 6 < 7; decide) (lv2 := [(6, .int (S.1 1 0 ((gidx 0 machine).toNatClampNeg))), (5, .int (gb (gHit (S.1 1 0) (gidx 0 machine) 4 (gidx 0 bb) = true))), (4, .int (gidx 0 bb)), (3, .int (gidx 0 machine)), (2, .int bb), (1, .int machine), (0, .ref (A 0 0))]) rfl dX3_belt_117 ?_
        refine g_aload_n F 6 rfl rfl dX3_belt_119 ?_
        refine g_get F clX3 4 (by decide) q1393 (v := .ref (A 1 0)) (gd_get (pr_at (κ := 0) (i := 0) (by decide) (gc1 (gnl rfl)) (gce (show (gsr S.1 0 0 (upd (S.1 0 0) 8 0)) 0 0 = upd (S.1 0 0) 8 0 from gsr_s) rfl)) rfl) dX3_belt_120 ?_
        refine g_iload_n F 3 rfl rfl dX3_belt_123 ?_
        refine g_iload F 2 rfl dX3_belt_124 ?_
        refine g_iast (P2 := gP 1 G (gsr (gsr S.1 0 0 (upd (S.1 0 0) 8 0)) 1 0 (upd (S.1 1 0) ((gidx 0 machine).toNatClampNeg) (gidx 0 bb)), S.2) A Fr []) F (gidx_vp (i := 0) (by decide) (fun q => c_7 (Or.inl q))) (pr_setRow (κ := 1) (i := 0) gM1 hF (upd (S.1 1 0) ((gidx 0 machine).toNatClampNeg) (gidx 0 bb)) (by decide) (gc1 (gnl rfl)) (gce (show (gsr S.1 0 0 (upd (S.1 0 0) 8 0)) 1 0 = S.1 1 0 from (gsr_p (by decide) rfl)) rfl) rfl) dX3_belt_126 ?_
        refine g_iload F 0 rfl dX3_belt_127 ?_
        refine g_iconst F (v := (-1 : Int32)) (by decide) dX3_belt_129 ?_
        have J_14 : gW (X, G, 7, Q) (gP 1 G (gsr (gsr S.1 0 0 (upd (S.1 0 0) 8 0)) 1 0 (upd (S.1 1 0) ((gidx 0 machine).toNatClampNeg) (gidx 0 bb)), S.2) A Fr []) [(6, .int (S.1 1 0 ((gidx 0 machine).toNatClampNeg))), (5, .int (gb (gHit (S.1 1 0) (gidx 0 machine) 4 (gidx 0 bb) = true))), (4, .int (gidx 0 bb)), (3, .int (gidx 0 machine)), (2, .int bb), (1, .int machine), (0, .ref (A 0 0))] 145 [.int (if (S.1 1 0 ((gidx 0 machine).toNatClampNeg)) = (-1 : Int32) then (45 : Int32) else ((gByt.getD 0 []).getD (S.1 1 0 ((gidx 0 machine).toNatClampNeg)).toNatClampNeg 0))] 0 0 := by
          exact g_retI F E rfl gbelt_n (gle rfl) (gle rfl) dX3_belt_145 (fun _ hp => ⟨_, _, ((if_neg c_7).trans (if_neg c_12)), rfl, ⟨A, rfl, gP_T0 hp⟩⟩)
        refine g_icmp_ne F (tgt := 138) (by decide) dX3_belt_130 (fun c_13 => ?_) (fun c_13 => ?_)
        · skip
          refine g_ldcS F (i := 0) (List.mem_of_getElem? (i := 7) rfl) dX3_belt_138 ?_
          refine g_iload F 0 rfl dX3_belt_140 ?_
          refine g_callV F (kJ0_charAt hl (i := 0) (by decide) (gor_of (gDrv_n (gw_d hW) (gidx_in (i := 0) (by decide) (fun q => c_7 (Or.inl q)))) c_13).2 (gIn_eq (gor_of (gDrv_n (gw_d hW) (gidx_in (i := 0) (by decide) (fun q => c_7 (Or.inl q)))) c_13))) (g_srecv F (by decide)) q1470 q531 q532 q19 q533 myJ0_charAt ⟨by decide, by decide⟩ rfl rfl (gle rfl) 0 0 (gle rfl) (gle rfl) (gle rfl) (gle rfl) dX3_belt_142 gx_n (gv_i ?_)
          exact g_top (by rw [if_neg c_13]) J_14
        · skip
          refine g_bipush F (v := (45 : Int32)) (by decide) dX3_belt_133 ?_
          refine g_goto F (tgt := 145) (by decide) dX3_belt_135 ?_
          exact g_top (by rw [if_pos c_13]) J_14
  refine g_if_lt F (tgt := 40) (by decide) dX3_belt_21 (fun c_1 => ?_) (fun c_1 => ?_)
  · skip
    refine g_iconst F (v := (1 : Int32)) (by decide) dX3_belt_40 ?_
    refine g_goto F (tgt := 45) (by decide) dX3_belt_41 ?_
    exact g_top (gb_t (Or.inl c_1)) J_6
  · skip
    refine g_iload F 0 rfl dX3_belt_24 ?_
    refine g_if_ge F (tgt := 35) (by decide) dX3_belt_26 (fun c_2 => ?_) (fun c_2 => ?_)
    · skip
      refine g_iload_n F 3 rfl rfl dX3_belt_35 ?_
      refine g_iload_n F 4 rfl rfl dX3_belt_36 ?_
      refine g_icmp_ne F (tgt := 44) (by decide) dX3_belt_37 (fun c_3 => ?_) (fun c_3 => ?_)
      · skip
        refine g_iconst F (v := (0 : Int32)) (by decide) dX3_belt_44 ?_
        exact g_top (gb_f (fun q => q.elim c_1 (fun q => q.elim (fun z => c_3 z.2) (fun z => z.1 c_2)))) J_6
      · skip
        refine g_iconst F (v := (1 : Int32)) (by decide) dX3_belt_40 ?_
        refine g_goto F (tgt := 45) (by decide) dX3_belt_41 ?_
        exact g_top (gb_t (Or.inr (Or.inl ⟨c_2, c_3⟩))) J_6
    · skip
      refine g_iload_n F 4 rfl rfl dX3_belt_29 ?_
      refine g_bipush F (v := (45 : Int32)) (by decide) dX3_belt_30 ?_
      refine g_icmp_ne F (tgt := 40) (by decide) dX3_belt_32 (fun c_4 => ?_) (fun c_4 => ?_)
      · skip
        refine g_iconst F (v := (1 : Int32)) (by decide) dX3_belt_40 ?_
        refine g_goto F (tgt := 45) (by decide) dX3_belt_41 ?_
        exact g_top (gb_t (Or.inr (Or.inr ⟨c_2, (Or.inl c_4)⟩))) J_6
      · skip
        refine g_iload_n F 3 rfl rfl dX3_belt_35 ?_
        refine g_iload_n F 4 rfl rfl dX3_belt_36 ?_
        refine g_icmp_ne F (tgt := 44) (by decide) dX3_belt_37 (fun c_5 => ?_) (fun c_5 => ?_)
        · skip
          refine g_iconst F (v := (0 : Int32)) (by decide) dX3_belt_44 ?_
          exact g_top (gb_f (fun q => q.elim c_1 (fun q => q.elim (fun z => c_2 z.1) (fun z => (fun q => q.elim (fun z => z c_4) c_5) z.2)))) J_6
        · skip
          refine g_iconst F (v := (1 : Int32)) (by decide) dX3_belt_40 ?_
          refine g_goto F (tgt := 45) (by decide) dX3_belt_41 ?_
          exact g_top (gb_t (Or.inr (Or.inr ⟨c_2, (Or.inr c_5)⟩))) J_6

def sM_sample (S : gS) (run many : Int32) : Value × gS := if ¬ gIn run (S.2 10) then (.int (-1 : Int32), (gsr (gsr S.1 0 0 (upd (S.1 0 0) 8 0)) 0 0 (upd (upd (S.1 0 0) 8 0) 8 1), S.2)) else (if ¬ (¬ many < (1 : Int32) ∧ ¬ (50 : Int32) < many) then (.int (-1 : Int32), (gsr (gsr S.1 0 0 (upd (S.1 0 0) 8 0)) 0 0 (upd (upd (S.1 0 0) 8 0) 8 (2 : Int32)), S.2)) else (if ¬ (many ≤ (S.1 10 run.toNatClampNeg 3)) then (.int (-1 : Int32), (gsr (gsr S.1 0 0 (upd (S.1 0 0) 8 0)) 0 0 (upd (upd (S.1 0 0) 8 0) 8 (3 : Int32)), S.2)) else (match gSaM many.toNatClampNeg (S.1 0 0 5) (S.1 10 run.toNatClampNeg 3) (S.1 10 run.toNatClampNeg 4) 0 with | (z, pe, br, fo) => (.int fo, (gsr (gsr S.1 0 0 (upd (upd (S.1 0 0) 8 0) 5 z)) 10 run.toNatClampNeg (upd (upd (S.1 10 run.toNatClampNeg) 4 br) 3 pe), S.2)))))
theorem kX3_sample {l : Launch} {G : gG} (hl : l.stackTraces = false) {S : gS} {a0 : Nat} {Fr : gH → Prop} (hF : gFr 1 Fr) (hW : gWf S) {run many : Int32} (hz_ : ¬ S.1 0 0 5 < 0) : gMet l yX3_sample (ws_ yX3_sample cX3_sample 6 (some .int)) ⟨3, 0, 0, 67⟩ G [.ref a0, .int run, .int many] (gPE 1 G S a0 Fr) (gqN (sM_sample S run many) G a0 Fr) gxN := by
  refine gMet_of hl pnX3 (gle rfl) (fun X Q hX F E hNm => ?_)
  subst hX
  change gW (X, G, 6, Q) (gPE 1 G S a0 Fr) [(0, .ref a0), (1, .int run), (2, .int many)] 0 [] 0 0
  refine g_pe (fun A hA => ?_)
  subst hA
  change gW _ _ [(0, .ref (A 0 0)), (1, .int run), (2, .int many)] 0 [] 0 0
  refine g_aload_n F 0 rfl rfl dX3_sample_0 ?_
  refine g_callV F (kX3_begins hl (pr_at (κ := 0) (i := 0) (by decide) (gc1 (gnl rfl)) (gce rfl rfl))) (g_recv F clX3 (gd_obj (pr_at (κ := 0) (i := 0) (by decide) (gc1 (gnl rfl)) (gce rfl rfl)))) q1448 q1450 qs6 q25 q1451 myX3_begins ⟨by decide, by decide⟩ rfl rfl (gle rfl) 0 0 (gle rfl) (gle rfl) (gle rfl) (gle rfl) dX3_sample_1 gx_n (gv_v ?_)
  refine g_mono (P2 := gP 1 G (gsr S.1 0 0 (upd (S.1 0 0) 8 0), S.2) A Fr []) (pr_upRow (κ := 0) (i := 0) gM1 hF (upd (S.1 0 0) 8 0) (by decide) (gc1 (gnl rfl)) (gce rfl rfl) rfl) ?_
  refine g_aload_n F 0 rfl rfl dX3_sample_4 ?_
  refine g_iload_n F 1 rfl rfl dX3_sample_5 ?_
  refine g_callV F (kX3_noRun hl hF hW (x := run)) (g_recv F clX3 (gd_obj (pr_at (κ := 0) (i := 0) (by decide) (gc1 (gnl rfl)) (gce (show (gsr S.1 0 0 (upd (S.1 0 0) 8 0)) 0 0 = upd (S.1 0 0) 8 0 from gsr_s) rfl)))) q1719 q1721 qs15 q25 q1722 myX3_noRun ⟨by decide, by decide⟩ rfl rfl (gle rfl) 0 0 (gle rfl) (gle rfl) (gle rfl) (gle rfl) dX3_sample_6 gx_n (gv_f (fun c_1 => ?_) (fun c_1 => ?_))
  · skip
    refine g_if_ne F (tgt := 70) (by decide) dX3_sample_9 (fun _ => ?_) (fun c => absurd c (by decide))
    refine g_iconst F (v := (-1 : Int32)) (by decide) dX3_sample_70 ?_
    exact g_retI F E rfl rfl (gle rfl) (gle rfl) dX3_sample_71 (fun _ hp => ⟨_, _, (if_pos c_1), rfl, ⟨A, rfl, gP_T0 hp⟩⟩)
  · skip
    refine g_if_ne F (tgt := 70) (by decide) dX3_sample_9 (fun c => absurd c (by decide)) (fun _ => ?_)
    refine g_aload_n F 0 rfl rfl dX3_sample_12 ?_
    refine g_iload_n F 2 rfl rfl dX3_sample_13 ?_
    refine g_i2l F dX3_sample_14 ?_
    refine g_lconst F (v := (1 : Int64)) (by decide) dX3_sample_15 ?_
    refine g_ldc2 F (v := (50 : Int64)) q1487 dX3_sample_16 ?_
    refine g_callS F (kX3_in hl (x := many) (lo := (1 : Int32)) (hi := (50 : Int32)) (by decide) (by decide)) (lw_S q1453 q1454 q25 q1455) myX3_in ⟨by decide, by decide⟩ rfl rfl (gle rfl) 0 0 (gle rfl) (gle rfl) (gle rfl) (gle rfl) dX3_sample_19 gx_n (gv_i ?_)
    have J_3 : gW (X, G, 6, Q) (gP 1 G (gsr S.1 0 0 (upd (S.1 0 0) 8 0), S.2) A Fr []) [(0, .ref (A 0 0)), (1, .int run), (2, .int many)] 30 [.int (gb (¬ (¬ many < (1 : Int32) ∧ ¬ (50 : Int32) < many))), .ref (A 0 0)] 0 0 := by
      refine g_iconst F (v := (2 : Int32)) (by decide) dX3_sample_30 ?_
      refine g_callV F (kX3_fails hl (b := gb (¬ (¬ many < (1 : Int32) ∧ ¬ (50 : Int32) < many))) (nu := (2 : Int32)) (c := ¬ (¬ many < (1 : Int32) ∧ ¬ (50 : Int32) < many)) gb_n0 (by decide) (pr_at (κ := 0) (i := 0) (by decide) (gc1 (gnl rfl)) (gce (show (gsr S.1 0 0 (upd (S.1 0 0) 8 0)) 0 0 = upd (S.1 0 0) 8 0 from gsr_s) rfl))) (g_recv F clX3 (gd_obj (pr_at (κ := 0) (i := 0) (by decide) (gc1 (gnl rfl)) (gce (show (gsr S.1 0 0 (upd (S.1 0 0) 8 0)) 0 0 = upd (S.1 0 0) 8 0 from gsr_s) rfl)))) q1456 q1458 qs7 q25 q1459 myX3_fails ⟨by decide, by decide⟩ rfl rfl (gle rfl) 0 0 (gle rfl) (gle rfl) (gle rfl) (gle rfl) dX3_sample_31 gx_n (gv_f (fun c_4 => ?_) (fun c_4 => ?_))
      · skip
        refine g_mono (P2 := gP 1 G (gsr (gsr S.1 0 0 (upd (S.1 0 0) 8 0)) 0 0 (upd (upd (S.1 0 0) 8 0) 8 (2 : Int32)), S.2) A Fr []) (pr_upRow (κ := 0) (i := 0) gM1 hF (upd (upd (S.1 0 0) 8 0) 8 (2 : Int32)) (by decide) (gc1 (gnl rfl)) (gce (show (gsr S.1 0 0 (upd (S.1 0 0) 8 0)) 0 0 = upd (S.1 0 0) 8 0 from gsr_s) rfl) rfl) ?_
        refine g_if_ne F (tgt := 70) (by decide) dX3_sample_34 (fun _ => ?_) (fun c => absurd c (by decide))
        refine g_iconst F (v := (-1 : Int32)) (by decide) dX3_sample_70 ?_
        exact g_retI F E rfl rfl (gle rfl) (gle rfl) dX3_sample_71 (fun _ hp => ⟨_, _, ((if_neg c_1).trans (if_pos c_4)), rfl, ⟨A, rfl, gP_T0 hp⟩⟩)
      · skip
        refine g_if_ne F (tgt := 70) (by decide) dX3_sample_34 (fun c => absurd c (by decide)) (fun _ => ?_)
        refine g_aload_n F 0 rfl rfl dX3_sample_37 ?_
        refine g_aload_n F 0 rfl rfl dX3_sample_38 ?_
        refine g_get F clX3 11 (by decide) q1400 (v := .ref (A 310 0)) (gd_get (pr_at (κ := 0) (i := 0) (by decide) (gc1 (gnl rfl)) (gce (show (gsr S.1 0 0 (upd (S.1 0 0) 8 0)) 0 0 = upd (S.1 0 0) 8 0 from gsr_s) rfl)) rfl) dX3_sample_39 ?_
        refine g_iload_n F 1 rfl rfl dX3_sample_42 ?_
        refine g_callF F clJ3 (kJ3_get hl (pr_ls (M := 1) (S := (gsr S.1 0 0 (upd (S.1 0 0) 8 0), S.2)) (A := A) (κ := 10) (by decide) (Or.inl ⟨by decide, by decide⟩) (fun q => by first | decide | exact absurd q (by decide)) (fun q => by first | decide | exact absurd q (by decide))) (j := run.toNatClampNeg) (Decidable.not_not.mp c_1).2 (gw_n hW _) rfl (Decidable.not_not.mp c_1).1) (g_recv F clJ3 (gls_obj (pr_ls (M := 1) (S := (gsr S.1 0 0 (upd (S.1 0 0) 8 0), S.2)) (A := A) (κ := 10) (by decide) (Or.inl ⟨by decide, by decide⟩) (fun q => by first | decide | exact absurd q (by decide)) (fun q => by first | decide | exact absurd q (by decide))))) q1506 q809 q811 q22 q813 (List.mem_of_getElem? (i := 1) rfl) (gT_w q812 rfl) (gT_w q810 rfl) (gT_w q293 rfl) gface_1 ⟨by decide, by decide⟩ rfl rfl (gle rfl) 0 0 (gle rfl) (gle rfl) (gle rfl) (gle rfl) dX3_sample_43 gx_n (gv_i ?_)
        refine g_castS F (g_recv F clX14 (gd_obj (pr_at (κ := 10) (i := run.toNatClampNeg) (by decide) (gc6 (by decide) (Decidable.not_not.mp c_1).2) (gce (show (gsr S.1 0 0 (upd (S.1 0 0) 8 0)) 10 run.toNatClampNeg = S.1 10 run.toNatClampNeg from (gsr_p (by decide) rfl)) rfl)))) q1673 dX3_sample_48 ?_
        refine g_getN F clX14 3 (by decide) (gT_w q1682 rfl) (v := .int (S.1 10 run.toNatClampNeg 3)) (gd_get (pr_at (κ := 10) (i := run.toNatClampNeg) (by decide) (gc6 (by decide) (Decidable.not_not.mp c_1).2) (gce (show (gsr S.1 0 0 (upd (S.1 0 0) 8 0)) 10 run.toNatClampNeg = S.1 10 run.toNatClampNeg from (gsr_p (by decide) rfl)) rfl)) rfl) dX3_sample_51 ?_
        refine g_iload_n F 2 rfl rfl dX3_sample_54 ?_
        have J_6 : gW (X, G, 6, Q) (gP 1 G (gsr S.1 0 0 (upd (S.1 0 0) 8 0), S.2) A Fr []) [(0, .ref (A 0 0)), (1, .int run), (2, .int many)] 63 [.int (gb (¬ (many ≤ (S.1 10 run.toNatClampNeg 3)))), .ref (A 0 0)] 0 0 := by
          refine g_iconst F (v := (3 : Int32)) (by decide) dX3_sample_63 ?_
          refine g_callV F (kX3_fails hl (b := gb (¬ (many ≤ (S.1 10 run.toNatClampNeg 3)))) (nu := (3 : Int32)) (c := ¬ (many ≤ (S.1 10 run.toNatClampNeg 3))) gb_n0 (by decide) (pr_at (κ := 0) (i := 0) (by decide) (gc1 (gnl rfl)) (gce (show (gsr S.1 0 0 (upd (S.1 0 0) 8 0)) 0 0 = upd (S.1 0 0) 8 0 from gsr_s) rfl))) (g_recv F clX3 (gd_obj (pr_at (κ := 0) (i := 0) (by decide) (gc1 (gnl rfl)) (gce (show (gsr S.1 0 0 (upd (S.1 0 0) 8 0)) 0 0 = upd (S.1 0 0) 8 0 from gsr_s) rfl)))) q1456 q1458 qs7 q25 q1459 myX3_fails ⟨by decide, by decide⟩ rfl rfl (gle rfl) 0 0 (gle rfl) (gle rfl) (gle rfl) (gle rfl) dX3_sample_64 gx_n (gv_f (fun c_7 => ?_) (fun c_7 => ?_))
          · skip
            refine g_mono (P2 := gP 1 G (gsr (gsr S.1 0 0 (upd (S.1 0 0) 8 0)) 0 0 (upd (upd (S.1 0 0) 8 0) 8 (3 : Int32)), S.2) A Fr []) (pr_upRow (κ := 0) (i := 0) gM1 hF (upd (upd (S.1 0 0) 8 0) 8 (3 : Int32)) (by decide) (gc1 (gnl rfl)) (gce (show (gsr S.1 0 0 (upd (S.1 0 0) 8 0)) 0 0 = upd (S.1 0 0) 8 0 from gsr_s) rfl) rfl) ?_
            refine g_if_eq F (tgt := 72) (by decide) dX3_sample_67 (fun c => absurd c (by decide)) (fun _ => ?_)
            refine g_iconst F (v := (-1 : Int32)) (by decide) dX3_sample_70 ?_
            exact g_retI F E rfl rfl (gle rfl) (gle rfl) dX3_sample_71 (fun _ hp => ⟨_, _, ((if_neg c_1).trans ((if_neg c_4).trans (if_pos c_7))), rfl, ⟨A, rfl, gP_T0 hp⟩⟩)
          · skip
            refine g_if_eq F (tgt := 72) (by decide) dX3_sample_67 (fun _ => ?_) (fun c => absurd c (by decide))
            refine g_aload_n F 0 rfl rfl dX3_sample_72 ?_
            refine g_get F clX3 11 (by decide) q1400 (v := .ref (A 310 0)) (gd_get (pr_at (κ := 0) (i := 0) (by decide) (gc1 (gnl rfl)) (gce (show (gsr S.1 0 0 (upd (S.1 0 0) 8 0)) 0 0 = upd (S.1 0 0) 8 0 from gsr_s) rfl)) rfl) dX3_sample_73 ?_
            refine g_iload_n F 1 rfl rfl dX3_sample_76 ?_
            refine g_callF F clJ3 (kJ3_get hl (pr_ls (M := 1) (S := (gsr S.1 0 0 (upd (S.1 0 0) 8 0), S.2)) (A := A) (κ := 10) (by decide) (Or.inl ⟨by decide, by decide⟩) (fun q => by first | decide | exact absurd q (by decide)) (fun q => by first | decide | exact absurd q (by decide))) (j := run.toNatClampNeg) (Decidable.not_not.mp c_1).2 (gw_n hW _) rfl (Decidable.not_not.mp c_1).1) (g_recv F clJ3 (gls_obj (pr_ls (M := 1) (S := (gsr S.1 0 0 (upd (S.1 0 0) 8 0), S.2)) (A := A) (κ := 10) (by decide) (Or.inl ⟨by decide, by decide⟩) (fun q => by first | decide | exact absurd q (by decide)) (fun q => by first | decide | exact absurd q (by decide))))) q1506 q809 q811 q22 q813 (List.mem_of_getElem? (i := 1) rfl) (gT_w q812 rfl) (gT_w q810 rfl) (gT_w q293 rfl) gface_1 ⟨by decide, by decide⟩ rfl rfl (gle rfl) 0 0 (gle rfl) (gle rfl) (gle rfl) (gle rfl) dX3_sample_77 gx_n (gv_i ?_)
            refine g_castS F (g_recv F clX14 (gd_obj (pr_at (κ := 10) (i := run.toNatClampNeg) (by decide) (gc6 (by decide) (Decidable.not_not.mp c_1).2) (gce (show (gsr S.1 0 0 (upd (S.1 0 0) 8 0)) 10 run.toNatClampNeg = S.1 10 run.toNatClampNeg from (gsr_p (by decide) rfl)) rfl)))) q1673 dX3_sample_82 ?_
            refine g_astore_n F rfl (by show 3 < 6; decide) (lv2 := [(3, .ref (A 10 run.toNatClampNeg)), (0, .ref (A 0 0)), (1, .int run), (2, .int many)]) rfl dX3_sample_85 ?_
            refine g_iconst F (v := (0 : Int32)) (by decide) dX3_sample_86 ?_
            refine g_istore F (by show 4 < 6; decide) (lv2 := [(4, .int (0 : Int32)), (3, .ref (A 10 run.toNatClampNeg)), (0, .ref (A 0 0)), (1, .int run), (2, .int many)]) rfl dX3_sample_87 ?_
            refine g_iconst F (v := (0 : Int32)) (by decide) dX3_sample_89 ?_
            refine g_istore F (by show 5 < 6; decide) (lv2 := [(5, .int (0 : Int32)), (4, .int (0 : Int32)), (3, .ref (A 10 run.toNatClampNeg)), (0, .ref (A 0 0)), (1, .int run), (2, .int many)]) rfl dX3_sample_90 ?_
            obtain ⟨hm9, hm50⟩ := gm_of2 (Decidable.not_not.mp c_4).1 (Decidable.not_not.mp c_4).2
            have hp0 : ¬ S.1 10 run.toNatClampNeg 3 < nI many.toNatClampNeg := by rw [← hm9]; exact (Int32.not_lt.mpr (Decidable.not_not.mp c_7))
            have K1 : ∀ z pe br fo : Int32, gSaM many.toNatClampNeg (S.1 0 0 5) (S.1 10 run.toNatClampNeg 3) (S.1 10 run.toNatClampNeg 4) 0 = (z, pe, br, fo) → gW (X, G, 6, Q) (gP 1 G (gsr (gsr S.1 0 0 (upd (upd (S.1 0 0) 8 0) 5 z)) 10 run.toNatClampNeg (upd (upd (S.1 10 run.toNatClampNeg) 4 br) 3 pe), S.2) A Fr []) [(4, .int fo), (3, .ref (A 10 run.toNatClampNeg)), (2, .int many), (1, .int run), (0, .ref (A 0 0))] 161 [] 0 0 := by
              intro z pe br fo hz_8
              refine g_iload F 0 rfl dX3_sample_161 ?_
              exact g_retI F E rfl rfl (gle rfl) (gle rfl) dX3_sample_163 (fun _ hp => ⟨_, _, ((((if_neg c_1).trans ((if_neg c_4).trans (if_neg c_7)))).trans (by rw [hz_8])), rfl, ⟨A, rfl, gP_T0 hp⟩⟩)
            have LP : ∀ n (z pe br fo : Int32) (t : Nat), t + n = many.toNatClampNeg → ¬ z < 0 → ¬ pe < nI n → gSaM n z pe br fo = gSaM many.toNatClampNeg (S.1 0 0 5) (S.1 10 run.toNatClampNeg 3) (S.1 10 run.toNatClampNeg 4) 0 → gW (X, G, 6, Q) (gP 1 G (gsr (gsr S.1 0 0 (upd (upd (S.1 0 0) 8 0) 5 z)) 10 run.toNatClampNeg (upd (upd (S.1 10 run.toNatClampNeg) 4 br) 3 pe), S.2) A Fr []) [(4, .int fo), (5, .int (nI t)), (3, .ref (A 10 run.toNatClampNeg)), (2, .int many), (1, .int run), (0, .ref (A 0 0))] 92 [] 0 0 := by
              intro n
              induction n with
              | zero =>
                intro z pe br fo t ht hz0 hpe hfn
                refine g_iload F 1 rfl dX3_sample_92 ?_
                refine g_iload_n F 3 rfl rfl dX3_sample_94 ?_
                refine g_icmp_ge F (tgt := 161) (by decide) dX3_sample_95 (fun _ => ?_) (fun c => absurd (by rw [hm9, ← ht]; exact Int32.le_refl _) c)
                refine g_lv [0,2,3,4,5] (lv2 := [(4, .int fo), (3, .ref (A 10 run.toNatClampNeg)), (2, .int many), (1, .int run), (0, .ref (A 0 0))]) rfl ?_
                exact K1 z pe br fo hfn.symm
              | succ n IH =>
                intro z pe br fo t ht hz0 hpe hfn
                have hq := gpe_1 (pe := pe) (n := n) (by omega) hpe
                obtain ⟨z1, hz1⟩ : ∃ z1, z1 = gz z := ⟨_, rfl⟩
                have hzl := gz_l hz0
                rw [← hz1] at hzl
                refine g_iload F 1 rfl dX3_sample_92 ?_
                refine g_iload_n F 3 rfl rfl dX3_sample_94 ?_
                refine g_icmp_ge F (tgt := 161) (by decide) dX3_sample_95 (fun c => absurd c (by rw [hm9, ← ht]; exact nI_ge (by omega) (by omega))) (fun _ => ?_)
                refine g_aload_n F 5 rfl rfl dX3_sample_98 ?_
                refine g_aload_n F 5 rfl rfl dX3_sample_99 ?_
                refine g_get F clX3 17 (by decide) q1406 (v := .int z) (gd_get (pr_at (κ := 0) (i := 0) (by decide) (gc1 (gnl rfl)) (gce (show (gsr (gsr S.1 0 0 (upd (upd (S.1 0 0) 8 0) 5 z)) 10 run.toNatClampNeg (upd (upd (S.1 10 run.toNatClampNeg) 4 br) 3 pe)) 0 0 = upd (upd (S.1 0 0) 8 0) 5 z from (gsr_p (by decide) gsr_s)) rfl)) rfl) dX3_sample_100 ?_
                refine g_i2l F dX3_sample_103 ?_
                refine g_ldc2 F (v := (48271 : Int64)) q1744 dX3_sample_104 ?_
                refine g_lmul F dX3_sample_107 ?_
                refine g_ldc2 F (v := (2147483647 : Int64)) q1745 dX3_sample_108 ?_
                refine g_lrem F (by decide) dX3_sample_111 ?_
                refine g_l2i F dX3_sample_112 ?_
                refine g_top (show _ = z1 from hz1.symm) ?_
                refine g_put (P2 := gP 1 G (gsr (gsr (gsr S.1 0 0 (upd (upd (S.1 0 0) 8 0) 5 z)) 10 run.toNatClampNeg (upd (upd (S.1 10 run.toNatClampNeg) 4 br) 3 pe)) 0 0 (upd (upd (upd (S.1 0 0) 8 0) 5 z) 5 z1), S.2) A Fr []) F clX3 17 (by decide) q1406 rfl rfl rfl (pr_put (κ := 0) (i := 0) gM1 hF (upd (upd (upd (S.1 0 0) 8 0) 5 z) 5 z1) (by decide) (gc1 (gnl rfl)) (gce (show (gsr (gsr S.1 0 0 (upd (upd (S.1 0 0) 8 0) 5 z)) 10 run.toNatClampNeg (upd (upd (S.1 10 run.toNatClampNeg) 4 br) 3 pe)) 0 0 = upd (upd (S.1 0 0) 8 0) 5 z from (gsr_p (by decide) gsr_s)) rfl) (gnl rfl) rfl) dX3_sample_113 ?_
                refine g_aload_n F 5 rfl rfl dX3_sample_116 ?_
                refine g_get F clX3 17 (by decide) q1406 (v := .int z1) (gd_get (pr_at (κ := 0) (i := 0) (by decide) (gc1 (gnl rfl)) (gce (show (gsr (gsr (gsr S.1 0 0 (upd (upd (S.1 0 0) 8 0) 5 z)) 10 run.toNatClampNeg (upd (upd (S.1 10 run.toNatClampNeg) 4 br) 3 pe)) 0 0 (upd (upd (upd (S.1 0 0) 8 0) 5 z) 5 z1)) 0 0 = upd (upd (upd (S.1 0 0) 8 0) 5 z) 5 z1 from gsr_s) rfl)) rfl) dX3_sample_117 ?_
                refine g_aload_n F 2 rfl rfl dX3_sample_120 ?_
                refine g_getN F clX14 3 (by decide) (gT_w q1682 rfl) (v := .int pe) (gd_get (pr_at (κ := 10) (i := run.toNatClampNeg) (by decide) (gc6 (by decide) (Decidable.not_not.mp c_1).2) (gce (show (gsr (gsr (gsr S.1 0 0 (upd (upd (S.1 0 0) 8 0) 5 z)) 10 run.toNatClampNeg (upd (upd (S.1 10 run.toNatClampNeg) 4 br) 3 pe)) 0 0 (upd (upd (upd (S.1 0 0) 8 0) 5 z) 5 z1)) 10 run.toNatClampNeg = upd (upd (S.1 10 run.toNatClampNeg) 4 br) 3 pe from (gsr_p (by decide) gsr_s)) rfl)) rfl) dX3_sample_121 ?_
                refine g_irem F hq.1 dX3_sample_124 ?_
                refine g_aload_n F 2 rfl rfl dX3_sample_125 ?_
                refine g_getN F clX14 4 (by decide) (gT_w q1683 rfl) (v := .int br) (gd_get (pr_at (κ := 10) (i := run.toNatClampNeg) (by decide) (gc6 (by decide) (Decidable.not_not.mp c_1).2) (gce (show (gsr (gsr (gsr S.1 0 0 (upd (upd (S.1 0 0) 8 0) 5 z)) 10 run.toNatClampNeg (upd (upd (S.1 10 run.toNatClampNeg) 4 br) 3 pe)) 0 0 (upd (upd (upd (S.1 0 0) 8 0) 5 z) 5 z1)) 10 run.toNatClampNeg = upd (upd (S.1 10 run.toNatClampNeg) 4 br) 3 pe from (gsr_p (by decide) gsr_s)) rfl)) rfl) dX3_sample_126 ?_
                refine g_icmp_ge F (tgt := 145) (by decide) dX3_sample_129 (fun c_9 => ?_) (fun c_9 => ?_)
                · skip
                  refine g_aload_n F 2 rfl rfl dX3_sample_145 ?_
                  refine g_dup F rfl dX3_sample_146 ?_
                  refine g_getN F clX14 3 (by decide) (gT_w q1682 rfl) (v := .int pe) (gd_get (pr_at (κ := 10) (i := run.toNatClampNeg) (by decide) (gc6 (by decide) (Decidable.not_not.mp c_1).2) (gce (show (gsr (gsr (gsr S.1 0 0 (upd (upd (S.1 0 0) 8 0) 5 z)) 10 run.toNatClampNeg (upd (upd (S.1 10 run.toNatClampNeg) 4 br) 3 pe)) 0 0 (upd (upd (upd (S.1 0 0) 8 0) 5 z) 5 z1)) 10 run.toNatClampNeg = upd (upd (S.1 10 run.toNatClampNeg) 4 br) 3 pe from (gsr_p (by decide) gsr_s)) rfl)) rfl) dX3_sample_147 ?_
                  refine g_iconst F (v := (1 : Int32)) (by decide) dX3_sample_150 ?_
                  refine g_isub F dX3_sample_151 ?_
                  refine g_putN (P2 := gP 1 G (gsr (gsr (gsr (gsr S.1 0 0 (upd (upd (S.1 0 0) 8 0) 5 z)) 10 run.toNatClampNeg (upd (upd (S.1 10 run.toNatClampNeg) 4 br) 3 pe)) 0 0 (upd (upd (upd (S.1 0 0) 8 0) 5 z) 5 z1)) 10 run.toNatClampNeg (upd (upd (upd (S.1 10 run.toNatClampNeg) 4 br) 3 pe) 3 (pe - (1 : Int32))), S.2) A Fr []) F clX14 3 (by decide) (gT_w q1682 rfl) rfl rfl rfl (pr_put (κ := 10) (i := run.toNatClampNeg) gM1 hF (upd (upd (upd (S.1 10 run.toNatClampNeg) 4 br) 3 pe) 3 (pe - (1 : Int32))) (by decide) (gc6 (by decide) (Decidable.not_not.mp c_1).2) (gce (show (gsr (gsr (gsr S.1 0 0 (upd (upd (S.1 0 0) 8 0) 5 z)) 10 run.toNatClampNeg (upd (upd (S.1 10 run.toNatClampNeg) 4 br) 3 pe)) 0 0 (upd (upd (upd (S.1 0 0) 8 0) 5 z) 5 z1)) 10 run.toNatClampNeg = upd (upd (S.1 10 run.toNatClampNeg) 4 br) 3 pe from (gsr_p (by decide) gsr_s)) rfl) (gnl rfl) rfl) dX3_sample_152 ?_
                  refine g_iinc F 1 rfl (v := (nI t) + (1 : Int32)) (by rfl) (by show 5 < 6; decide) (lv2 := [(5, .int ((nI t) + (1 : Int32))), (4, .int fo), (3, .ref (A 10 run.toNatClampNeg)), (2, .int many), (1, .int run), (0, .ref (A 0 0))]) rfl dX3_sample_155 ?_
                  refine g_goto F (tgt := 92) (by decide) dX3_sample_158 ?_
                  refine g_mono (P2 := gP 1 G (gsr (gsr S.1 0 0 (upd (upd (S.1 0 0) 8 0) 5 z1)) 10 run.toNatClampNeg (upd (upd (S.1 10 run.toNatClampNeg) 4 br) 3 (pe - (1 : Int32))), S.2) A Fr []) (gP_S (by rw [can2, upd_uu, upd_uu])) ?_
                  refine g_lv [1,0,2,3,4,5] (lv2 := [(4, .int fo), (5, .int ((nI t) + (1 : Int32))), (3, .ref (A 10 run.toNatClampNeg)), (2, .int many), (1, .int run), (0, .ref (A 0 0))]) rfl ?_
                  have q7 : nI t + 1 = nI (t + 1) := (nI_succ t).symm
                  rw [q7]
                  exact IH (z1) (pe - (1 : Int32)) (br) (fo) (t + 1) (by omega) hzl.2 hq.2 (by rw [← hfn, gSaM_s, ← hz1]; exact (if_neg (Int32.not_lt.mpr c_9)).symm)
                · skip
                  refine g_aload_n F 2 rfl rfl dX3_sample_132 ?_
                  refine g_dup F rfl dX3_sample_133 ?_
                  refine g_getN F clX14 4 (by decide) (gT_w q1683 rfl) (v := .int br) (gd_get (pr_at (κ := 10) (i := run.toNatClampNeg) (by decide) (gc6 (by decide) (Decidable.not_not.mp c_1).2) (gce (show (gsr (gsr (gsr S.1 0 0 (upd (upd (S.1 0 0) 8 0) 5 z)) 10 run.toNatClampNeg (upd (upd (S.1 10 run.toNatClampNeg) 4 br) 3 pe)) 0 0 (upd (upd (upd (S.1 0 0) 8 0) 5 z) 5 z1)) 10 run.toNatClampNeg = upd (upd (S.1 10 run.toNatClampNeg) 4 br) 3 pe from (gsr_p (by decide) gsr_s)) rfl)) rfl) dX3_sample_134 ?_
                  refine g_iconst F (v := (1 : Int32)) (by decide) dX3_sample_137 ?_
                  refine g_isub F dX3_sample_138 ?_
                  refine g_putN (P2 := gP 1 G (gsr (gsr (gsr (gsr S.1 0 0 (upd (upd (S.1 0 0) 8 0) 5 z)) 10 run.toNatClampNeg (upd (upd (S.1 10 run.toNatClampNeg) 4 br) 3 pe)) 0 0 (upd (upd (upd (S.1 0 0) 8 0) 5 z) 5 z1)) 10 run.toNatClampNeg (upd (upd (upd (S.1 10 run.toNatClampNeg) 4 br) 3 pe) 4 (br - (1 : Int32))), S.2) A Fr []) F clX14 4 (by decide) (gT_w q1683 rfl) rfl rfl rfl (pr_put (κ := 10) (i := run.toNatClampNeg) gM1 hF (upd (upd (upd (S.1 10 run.toNatClampNeg) 4 br) 3 pe) 4 (br - (1 : Int32))) (by decide) (gc6 (by decide) (Decidable.not_not.mp c_1).2) (gce (show (gsr (gsr (gsr S.1 0 0 (upd (upd (S.1 0 0) 8 0) 5 z)) 10 run.toNatClampNeg (upd (upd (S.1 10 run.toNatClampNeg) 4 br) 3 pe)) 0 0 (upd (upd (upd (S.1 0 0) 8 0) 5 z) 5 z1)) 10 run.toNatClampNeg = upd (upd (S.1 10 run.toNatClampNeg) 4 br) 3 pe from (gsr_p (by decide) gsr_s)) rfl) (gnl rfl) rfl) dX3_sample_139 ?_
                  refine g_iinc F 0 rfl (v := fo + (1 : Int32)) (by rfl) (by show 4 < 6; decide) (lv2 := [(4, .int (fo + (1 : Int32))), (5, .int (nI t)), (3, .ref (A 10 run.toNatClampNeg)), (2, .int many), (1, .int run), (0, .ref (A 0 0))]) rfl dX3_sample_142 ?_
                  refine g_aload_n F 2 rfl rfl dX3_sample_145 ?_
                  refine g_dup F rfl dX3_sample_146 ?_
                  refine g_getN F clX14 3 (by decide) (gT_w q1682 rfl) (v := .int pe) (gd_get (pr_at (κ := 10) (i := run.toNatClampNeg) (by decide) (gc6 (by decide) (Decidable.not_not.mp c_1).2) (gce (show (gsr (gsr (gsr (gsr S.1 0 0 (upd (upd (S.1 0 0) 8 0) 5 z)) 10 run.toNatClampNeg (upd (upd (S.1 10 run.toNatClampNeg) 4 br) 3 pe)) 0 0 (upd (upd (upd (S.1 0 0) 8 0) 5 z) 5 z1)) 10 run.toNatClampNeg (upd (upd (upd (S.1 10 run.toNatClampNeg) 4 br) 3 pe) 4 (br - (1 : Int32)))) 10 run.toNatClampNeg = upd (upd (upd (S.1 10 run.toNatClampNeg) 4 br) 3 pe) 4 (br - (1 : Int32)) from gsr_s) rfl)) rfl) dX3_sample_147 ?_
                  refine g_iconst F (v := (1 : Int32)) (by decide) dX3_sample_150 ?_
                  refine g_isub F dX3_sample_151 ?_
                  refine g_putN (P2 := gP 1 G (gsr (gsr (gsr (gsr (gsr S.1 0 0 (upd (upd (S.1 0 0) 8 0) 5 z)) 10 run.toNatClampNeg (upd (upd (S.1 10 run.toNatClampNeg) 4 br) 3 pe)) 0 0 (upd (upd (upd (S.1 0 0) 8 0) 5 z) 5 z1)) 10 run.toNatClampNeg (upd (upd (upd (S.1 10 run.toNatClampNeg) 4 br) 3 pe) 4 (br - (1 : Int32)))) 10 run.toNatClampNeg (upd (upd (upd (upd (S.1 10 run.toNatClampNeg) 4 br) 3 pe) 4 (br - (1 : Int32))) 3 (pe - (1 : Int32))), S.2) A Fr []) F clX14 3 (by decide) (gT_w q1682 rfl) rfl rfl rfl (pr_put (κ := 10) (i := run.toNatClampNeg) gM1 hF (upd (upd (upd (upd (S.1 10 run.toNatClampNeg) 4 br) 3 pe) 4 (br - (1 : Int32))) 3 (pe - (1 : Int32))) (by decide) (gc6 (by decide) (Decidable.not_not.mp c_1).2) (gce (show (gsr (gsr (gsr (gsr S.1 0 0 (upd (upd (S.1 0 0) 8 0) 5 z)) 10 run.toNatClampNeg (upd (upd (S.1 10 run.toNatClampNeg) 4 br) 3 pe)) 0 0 (upd (upd (upd (S.1 0 0) 8 0) 5 z) 5 z1)) 10 run.toNatClampNeg (upd (upd (upd (S.1 10 run.toNatClampNeg) 4 br) 3 pe) 4 (br - (1 : Int32)))) 10 run.toNatClampNeg = upd (upd (upd (S.1 10 run.toNatClampNeg) 4 br) 3 pe) 4 (br - (1 : Int32)) from gsr_s) rfl) (gnl rfl) rfl) dX3_sample_152 ?_
                  refine g_iinc F 1 rfl (v := (nI t) + (1 : Int32)) (by rfl) (by show 5 < 6; decide) (lv2 := [(5, .int ((nI t) + (1 : Int32))), (4, .int (fo + (1 : Int32))), (3, .ref (A 10 run.toNatClampNeg)), (2, .int many), (1, .int run), (0, .ref (A 0 0))]) rfl dX3_sample_155 ?_
                  refine g_goto F (tgt := 92) (by decide) dX3_sample_158 ?_
                  refine g_mono (P2 := gP 1 G (gsr (gsr S.1 0 0 (upd (upd (S.1 0 0) 8 0) 5 z1)) 10 run.toNatClampNeg (upd (upd (S.1 10 run.toNatClampNeg) 4 (br - (1 : Int32))) 3 (pe - (1 : Int32))), S.2) A Fr []) (gP_S (by rw [can3, upd_uu, upd_sw (m := 3) (n := 4) (by decide), upd_uu, upd_uu])) ?_
                  refine g_lv [1,0,2,3,4,5] (lv2 := [(4, .int (fo + (1 : Int32))), (5, .int ((nI t) + (1 : Int32))), (3, .ref (A 10 run.toNatClampNeg)), (2, .int many), (1, .int run), (0, .ref (A 0 0))]) rfl ?_
                  have q7 : nI t + 1 = nI (t + 1) := (nI_succ t).symm
                  rw [q7]
                  exact IH (z1) (pe - (1 : Int32)) (br - (1 : Int32)) (fo + (1 : Int32)) (t + 1) (by omega) hzl.2 hq.2 (by rw [← hfn, gSaM_s, ← hz1]; exact (if_pos (Int32.not_le.mp c_9)).symm)
            refine g_mono (P2 := gP 1 G (gsr (gsr S.1 0 0 (upd (upd (S.1 0 0) 8 0) 5 (S.1 0 0 5))) 10 run.toNatClampNeg (upd (upd (S.1 10 run.toNatClampNeg) 4 (S.1 10 run.toNatClampNeg 4)) 3 (S.1 10 run.toNatClampNeg 3)), S.2) A Fr []) (gP_S (by rw [show upd (upd (S.1 0 0) 8 0) 5 (S.1 0 0 5) = upd (S.1 0 0) 8 0 from upd_id, upd_id, upd_id, show gsr (gsr S.1 0 0 (upd (S.1 0 0) 8 0)) 10 run.toNatClampNeg (S.1 10 run.toNatClampNeg) = gsr S.1 0 0 (upd (S.1 0 0) 8 0) from gsr_id])) ?_
            refine g_lv [1,0,2,5,4,3] (lv2 := [(4, .int (0 : Int32)), (5, .int (0 : Int32)), (3, .ref (A 10 run.toNatClampNeg)), (2, .int many), (1, .int run), (0, .ref (A 0 0))]) rfl ?_
            exact LP many.toNatClampNeg (S.1 0 0 5) (S.1 10 run.toNatClampNeg 3) (S.1 10 run.toNatClampNeg 4) 0 0 (Nat.zero_add _) hz_ hp0 rfl
        refine g_icmp_ge F (tgt := 62) (by decide) dX3_sample_55 (fun c_5 => ?_) (fun c_5 => ?_)
        · skip
          refine g_iconst F (v := (0 : Int32)) (by decide) dX3_sample_62 ?_
          exact g_top (gb_f (fun q => q c_5)) J_6
        · skip
          refine g_iconst F (v := (1 : Int32)) (by decide) dX3_sample_58 ?_
          refine g_goto F (tgt := 63) (by decide) dX3_sample_59 ?_
          exact g_top (gb_t c_5) J_6
    refine gb_if_ne F (tgt := 29) (by decide) dX3_sample_22 (fun c_2 => ?_) (fun c_2 => ?_)
    · skip
      refine g_iconst F (v := (0 : Int32)) (by decide) dX3_sample_29 ?_
      exact g_top (gb_f (fun q => q c_2)) J_3
    · skip
      refine g_iconst F (v := (1 : Int32)) (by decide) dX3_sample_25 ?_
      refine g_goto F (tgt := 30) (by decide) dX3_sample_26 ?_
      exact g_top (gb_t c_2) J_3

theorem kX16_init {l : Launch} {G : gG} (hl : l.stackTraces = false) {P : gH → Prop} (τ : Nat × Nat) {a : Nat}  (ha : gAt P a (.inr (13, [.int (0 : Int32), .null, .int (0 : Int32)]))) : gMet l yX16_init (ws_ yX16_init cX16_init 1 none) ⟨4, 1, 3, 72⟩ G [.ref a] P (fun r9 h => r9 = none ∧ ∃ l, (gUp (gNw P τ l (.inr (16, [.int 0, .ref (G.2.2.2.2.2.2.1 0), .int 0]))) a (.inr (13, [.int (0 : Int32), .null, .int (0 : Int32)])) (.inr (13, [.int (0 : Int32), .ref l, .int (0 : Int32)]))) h) gxN := by
  refine gMet_of hl pnX16 (gle rfl) (fun X Q hX F E hNm => ?_)
  subst hX
  change gW (X, G, 1, Q) P [(0, .ref a)] 0 [] 0 0
  refine g_aload_n F 0 rfl rfl dX16_init_0 ?_
  refine g_objInit F q1761 dX16_init_1 (gle rfl) (gle rfl) ?_
  refine g_aload_n F 0 rfl rfl dX16_init_4 ?_
  refine g_new F clJ3 q1762 q83 q22 τ (fs := [.int (0 : Int32), .null, .int (0 : Int32)]) rfl 1 3 (gle rfl) (gle rfl) (gle rfl) (gle rfl) (Pa := fun a_1 => (gNw P τ a_1 (.inr (16, [.int (0 : Int32), .null, .int (0 : Int32)])))) gNw_new dX16_init_5 (fun a_1 => ?_)
  refine g_dup F rfl dX16_init_8 ?_
  refine g_callI F (kJ3_init hl gNw_at) rfl q1763 q85 q22 q86 myJ3_init ⟨by decide, by decide⟩ rfl rfl (gle rfl) 1 3 (gle rfl) (gle rfl) (gle rfl) (gle rfl) dX16_init_9 gx_n (gv_v ?_)
  refine g_mono gNw_up ?_
  refine g_mono (gUp_0 (gNw_rd ha)) ?_
  refine g_putF (P2 := (gUp (gNw P τ a_1 (.inr (16, [.int (0 : Int32), .ref (G.2.2.2.2.2.2.1 0), .int (0 : Int32)]))) a (.inr (13, [.int (0 : Int32), .null, .int (0 : Int32)])) (.inr (13, [.int (0 : Int32), .ref a_1, .int (0 : Int32)])))) F hNm clX16 1 (by decide) q1765 rfl rfl rfl rfl (gUp_put (gnl rfl)) dX16_init_12 ?_
  exact g_retV F E rfl (gle rfl) (gle rfl) dX16_init_15 (fun _ hp => ⟨rfl, _, hp⟩)

def sM_gross (S : gS) (grade : Int32) : Value × gS := if ¬ (¬ grade < (0 : Int32) ∧ ¬ (19 : Int32) < grade) then (.int (-1 : Int32), (gsr (gsr S.1 0 0 (upd (S.1 0 0) 8 0)) 0 0 (upd (upd (S.1 0 0) 8 0) 8 (1 : Int32)), S.2)) else (if (nI (S.2 11)) = (30 : Int32) then (.int (-1 : Int32), (gsr (gsr S.1 0 0 (upd (S.1 0 0) 8 0)) 0 0 (upd (upd (S.1 0 0) 8 0) 8 (2 : Int32)), S.2)) else (.int (nI (S.2 11)), (gsr (gsr S.1 0 0 (upd (S.1 0 0) 8 0)) 11 (S.2 11) (gRw [grade, (0 : Int32)]), va_up S.2 11 (S.2 11 + 1))))
theorem kX3_gross {l : Launch} {G : gG} (hl : l.stackTraces = false) {S : gS} {a0 : Nat} {Fr : gH → Prop} (hF : gFr 1 Fr) (hW : gWf S) {grade : Int32}  : gMet l yX3_gross (ws_ yX3_gross cX3_gross 3 (some .int)) ⟨7, 3, 156, 731⟩ G [.ref a0, .int grade] (gPE 1 G S a0 Fr) (gqN (sM_gross S grade) G a0 Fr) gxN := by
  refine gMet_of hl pnX3 (gle rfl) (fun X Q hX F E hNm => ?_)
  subst hX
  change gW (X, G, 3, Q) (gPE 1 G S a0 Fr) [(0, .ref a0), (1, .int grade)] 0 [] 0 0
  refine g_pe (fun A hA => ?_)
  subst hA
  change gW _ _ [(0, .ref (A 0 0)), (1, .int grade)] 0 [] 0 0
  refine g_aload_n F 0 rfl rfl dX3_gross_0 ?_
  refine g_callV F (kX3_begins hl (pr_at (κ := 0) (i := 0) (by decide) (gc1 (gnl rfl)) (gce rfl rfl))) (g_recv F clX3 (gd_obj (pr_at (κ := 0) (i := 0) (by decide) (gc1 (gnl rfl)) (gce rfl rfl)))) q1448 q1450 qs6 q25 q1451 myX3_begins ⟨by decide, by decide⟩ rfl rfl (gle rfl) 0 0 (gle rfl) (gle rfl) (gle rfl) (gle rfl) dX3_gross_1 gx_n (gv_v ?_)
  refine g_mono (P2 := gP 1 G (gsr S.1 0 0 (upd (S.1 0 0) 8 0), S.2) A Fr []) (pr_upRow (κ := 0) (i := 0) gM1 hF (upd (S.1 0 0) 8 0) (by decide) (gc1 (gnl rfl)) (gce rfl rfl) rfl) ?_
  refine g_aload_n F 0 rfl rfl dX3_gross_4 ?_
  refine g_iload_n F 1 rfl rfl dX3_gross_5 ?_
  refine g_i2l F dX3_gross_6 ?_
  refine g_lconst F (v := (0 : Int64)) (by decide) dX3_gross_7 ?_
  refine g_ldc2 F (v := (19 : Int64)) q1755 dX3_gross_8 ?_
  refine g_callS F (kX3_in hl (x := grade) (lo := (0 : Int32)) (hi := (19 : Int32)) (by decide) (by decide)) (lw_S q1453 q1454 q25 q1455) myX3_in ⟨by decide, by decide⟩ rfl rfl (gle rfl) 0 0 (gle rfl) (gle rfl) (gle rfl) (gle rfl) dX3_gross_11 gx_n (gv_i ?_)
  have J_2 : gW (X, G, 3, Q) (gP 1 G (gsr S.1 0 0 (upd (S.1 0 0) 8 0), S.2) A Fr []) [(0, .ref (A 0 0)), (1, .int grade)] 22 [.int (gb (¬ (¬ grade < (0 : Int32) ∧ ¬ (19 : Int32) < grade))), .ref (A 0 0)] 0 0 := by
    refine g_iconst F (v := (1 : Int32)) (by decide) dX3_gross_22 ?_
    refine g_callV F (kX3_fails hl (b := gb (¬ (¬ grade < (0 : Int32) ∧ ¬ (19 : Int32) < grade))) (nu := (1 : Int32)) (c := ¬ (¬ grade < (0 : Int32) ∧ ¬ (19 : Int32) < grade)) gb_n0 (by decide) (pr_at (κ := 0) (i := 0) (by decide) (gc1 (gnl rfl)) (gce (show (gsr S.1 0 0 (upd (S.1 0 0) 8 0)) 0 0 = upd (S.1 0 0) 8 0 from gsr_s) rfl))) (g_recv F clX3 (gd_obj (pr_at (κ := 0) (i := 0) (by decide) (gc1 (gnl rfl)) (gce (show (gsr S.1 0 0 (upd (S.1 0 0) 8 0)) 0 0 = upd (S.1 0 0) 8 0 from gsr_s) rfl)))) q1456 q1458 qs7 q25 q1459 myX3_fails ⟨by decide, by decide⟩ rfl rfl (gle rfl) 0 0 (gle rfl) (gle rfl) (gle rfl) (gle rfl) dX3_gross_23 gx_n (gv_f (fun c_3 => ?_) (fun c_3 => ?_))
    · skip
      refine g_mono (P2 := gP 1 G (gsr (gsr S.1 0 0 (upd (S.1 0 0) 8 0)) 0 0 (upd (upd (S.1 0 0) 8 0) 8 (1 : Int32)), S.2) A Fr []) (pr_upRow (κ := 0) (i := 0) gM1 hF (upd (upd (S.1 0 0) 8 0) 8 (1 : Int32)) (by decide) (gc1 (gnl rfl)) (gce (show (gsr S.1 0 0 (upd (S.1 0 0) 8 0)) 0 0 = upd (S.1 0 0) 8 0 from gsr_s) rfl) rfl) ?_
      refine g_if_ne F (tgt := 56) (by decide) dX3_gross_26 (fun _ => ?_) (fun c => absurd c (by decide))
      refine g_iconst F (v := (-1 : Int32)) (by decide) dX3_gross_56 ?_
      exact g_retI F E rfl rfl (gle rfl) (gle rfl) dX3_gross_57 (fun _ hp => ⟨_, _, (if_pos c_3), rfl, ⟨A, rfl, gP_T0 hp⟩⟩)
    · skip
      refine g_if_ne F (tgt := 56) (by decide) dX3_gross_26 (fun c => absurd c (by decide)) (fun _ => ?_)
      refine g_aload_n F 0 rfl rfl dX3_gross_29 ?_
      refine g_aload_n F 0 rfl rfl dX3_gross_30 ?_
      refine g_get F clX3 12 (by decide) q1401 (v := .ref (A 311 0)) (gd_get (pr_at (κ := 0) (i := 0) (by decide) (gc1 (gnl rfl)) (gce (show (gsr S.1 0 0 (upd (S.1 0 0) 8 0)) 0 0 = upd (S.1 0 0) 8 0 from gsr_s) rfl)) rfl) dX3_gross_31 ?_
      refine g_callF F clJ3 (kJ3_size hl (pr_ls (M := 1) (S := (gsr S.1 0 0 (upd (S.1 0 0) 8 0), S.2)) (A := A) (κ := 11) (by decide) (Or.inl ⟨by decide, by decide⟩) (fun q => by first | decide | exact absurd q (by decide)) (fun q => by first | decide | exact absurd q (by decide)))) (g_recv F clJ3 (gls_obj (pr_ls (M := 1) (S := (gsr S.1 0 0 (upd (S.1 0 0) 8 0), S.2)) (A := A) (κ := 11) (by decide) (Or.inl ⟨by decide, by decide⟩) (fun q => by first | decide | exact absurd q (by decide)) (fun q => by first | decide | exact absurd q (by decide))))) q1491 q634 q636 q22 q638 (List.mem_of_getElem? (i := 0) rfl) (gT_w q637 rfl) (gT_w q635 rfl) (gT_w q293 rfl) gface_0 ⟨by decide, by decide⟩ rfl rfl (gle rfl) 0 0 (gle rfl) (gle rfl) (gle rfl) (gle rfl) dX3_gross_34 gx_n (gv_i ?_)
      refine g_bipush F (v := (30 : Int32)) (by decide) dX3_gross_39 ?_
      have J_5 : gW (X, G, 3, Q) (gP 1 G (gsr S.1 0 0 (upd (S.1 0 0) 8 0), S.2) A Fr []) [(0, .ref (A 0 0)), (1, .int grade)] 49 [.int (gb ((nI (S.2 11)) = (30 : Int32))), .ref (A 0 0)] 0 0 := by
        refine g_iconst F (v := (2 : Int32)) (by decide) dX3_gross_49 ?_
        refine g_callV F (kX3_fails hl (b := gb ((nI (S.2 11)) = (30 : Int32))) (nu := (2 : Int32)) (c := (nI (S.2 11)) = (30 : Int32)) gb_n0 (by decide) (pr_at (κ := 0) (i := 0) (by decide) (gc1 (gnl rfl)) (gce (show (gsr S.1 0 0 (upd (S.1 0 0) 8 0)) 0 0 = upd (S.1 0 0) 8 0 from gsr_s) rfl))) (g_recv F clX3 (gd_obj (pr_at (κ := 0) (i := 0) (by decide) (gc1 (gnl rfl)) (gce (show (gsr S.1 0 0 (upd (S.1 0 0) 8 0)) 0 0 = upd (S.1 0 0) 8 0 from gsr_s) rfl)))) q1456 q1458 qs7 q25 q1459 myX3_fails ⟨by decide, by decide⟩ rfl rfl (gle rfl) 0 0 (gle rfl) (gle rfl) (gle rfl) (gle rfl) dX3_gross_50 gx_n (gv_f (fun c_6 => ?_) (fun c_6 => ?_))
        · skip
          refine g_mono (P2 := gP 1 G (gsr (gsr S.1 0 0 (upd (S.1 0 0) 8 0)) 0 0 (upd (upd (S.1 0 0) 8 0) 8 (2 : Int32)), S.2) A Fr []) (pr_upRow (κ := 0) (i := 0) gM1 hF (upd (upd (S.1 0 0) 8 0) 8 (2 : Int32)) (by decide) (gc1 (gnl rfl)) (gce (show (gsr S.1 0 0 (upd (S.1 0 0) 8 0)) 0 0 = upd (S.1 0 0) 8 0 from gsr_s) rfl) rfl) ?_
          refine g_if_eq F (tgt := 58) (by decide) dX3_gross_53 (fun c => absurd c (by decide)) (fun _ => ?_)
          refine g_iconst F (v := (-1 : Int32)) (by decide) dX3_gross_56 ?_
          exact g_retI F E rfl rfl (gle rfl) (gle rfl) dX3_gross_57 (fun _ hp => ⟨_, _, ((if_neg c_3).trans (if_pos c_6)), rfl, ⟨A, rfl, gP_T0 hp⟩⟩)
        · skip
          refine g_if_eq F (tgt := 58) (by decide) dX3_gross_53 (fun _ => ?_) (fun c => absurd c (by decide))
          refine g_new F clX16 q1756 q1757 q54 (5000, 0) (fs := [.int (0 : Int32), .null, .int (0 : Int32)]) rfl 1 3 (gle rfl) (gle rfl) (gle rfl) (gle rfl) (Pa := fun a_7 => gP 1 G (gsr S.1 0 0 (upd (S.1 0 0) 8 0), S.2) A Fr [(a_7, .inr (13, [.int (0 : Int32), .null, .int (0 : Int32)]))]) (pr_new hF) dX3_gross_58 (fun a_7 => ?_)
          refine g_dup F rfl dX3_gross_61 ?_
          refine g_callIN F (kX16_init hl (5001, 0) (pr_atT (j := 0) rfl)) rfl (gT_w q1758 rfl) q1759 q54 q1760 myX16_init ⟨by decide, by decide⟩ rfl rfl (gle rfl) 2 6 (gle rfl) (gle rfl) (gle rfl) (gle rfl) dX3_gross_62 gx_n (fun v9 => gv_c9 (fun l_8 => ?_))
          refine g_mono (P2 := gP 1 G (gsr S.1 0 0 (upd (S.1 0 0) 8 0), S.2) A Fr [(a_7, .inr (13, [.int (0 : Int32), .ref l_8, .int (0 : Int32)])), (l_8, .inr (16, [.int 0, .ref (G.2.2.2.2.2.2.1 0), .int 0]))]) (fun _ hp => pr_up gM1 hF (j := 0) rfl _ (gUp_mono (pr_nw hF) _ hp)) ?_
          refine g_astore_n F rfl (by show 2 < 3; decide) (lv2 := [(2, .ref a_7), (0, .ref (A 0 0)), (1, .int grade)]) rfl dX3_gross_65 ?_
          refine g_aload_n F 0 rfl rfl dX3_gross_66 ?_
          refine g_iload_n F 2 rfl rfl dX3_gross_67 ?_
          refine g_putN (P2 := gP 1 G (gsr S.1 0 0 (upd (S.1 0 0) 8 0), S.2) A Fr [(a_7, .inr (13, [.int grade, .ref l_8, .int (0 : Int32)])), (l_8, .inr (16, [.int 0, .ref (G.2.2.2.2.2.2.1 0), .int 0]))]) F clX16 0 (by decide) (gT_w q1764 rfl) rfl rfl rfl (pr_putX (f := 0) (T := [(a_7, .inr (13, [.int (0 : Int32), .ref l_8, .int (0 : Int32)])), (l_8, .inr (16, [.int 0, .ref (G.2.2.2.2.2.2.1 0), .int 0]))]) (fs := [.int (0 : Int32), .ref l_8, .int (0 : Int32)]) (v := .int grade) gM1 hF (j := 0) rfl (gnl rfl)) dX3_gross_68 ?_
          refine g_aload_n F 1 rfl rfl dX3_gross_71 ?_
          refine g_get F clX3 12 (by decide) q1401 (v := .ref (A 311 0)) (gd_get (pr_at (κ := 0) (i := 0) (by decide) (gc1 (gnl rfl)) (gce (show (gsr S.1 0 0 (upd (S.1 0 0) 8 0)) 0 0 = upd (S.1 0 0) 8 0 from gsr_s) rfl)) rfl) dX3_gross_72 ?_
          refine g_aload_n F 0 rfl rfl dX3_gross_75 ?_
          refine g_callF F clJ3 (kJ3_add hl (pr_ls (M := 1) (S := (gsr S.1 0 0 (upd (S.1 0 0) 8 0), S.2)) (A := A) (κ := 11) (by decide) (Or.inl ⟨by decide, by decide⟩) (fun q => by first | decide | exact absurd q (by decide)) (fun q => by first | decide | exact absurd q (by decide))) (Nat.le_trans (gw_64 (gWf_0 (r := upd (S.1 0 0) 8 0) hW (gw_b hW)) _) (by decide)) (pr_elT (j := 0) rfl (Or.inl ⟨_, _, rfl, by decide, by decide⟩)) (pr_el (by decide) (by decide) (fun q => by first | decide | exact absurd q (by decide)) (fun q => by first | decide | exact absurd q (by decide)))) (g_recv F clJ3 (gls_obj (pr_ls (M := 1) (S := (gsr S.1 0 0 (upd (S.1 0 0) 8 0), S.2)) (A := A) (κ := 11) (by decide) (Or.inl ⟨by decide, by decide⟩) (fun q => by first | decide | exact absurd q (by decide)) (fun q => by first | decide | exact absurd q (by decide))))) q1493 q680 q682 q22 q684 (List.mem_of_getElem? (i := 2) rfl) (gT_w q683 rfl) (gT_w q681 rfl) (gT_w q293 rfl) gface_2 ⟨by decide, by decide⟩ rfl rfl (gle rfl) 3 156 (gle rfl) (gle rfl) (gle rfl) (gle rfl) dX3_gross_76 gx_n (gv_i ?_)
          refine g_retag (P2 := gP 1 G (gsr (gsr S.1 0 0 (upd (S.1 0 0) 8 0)) 11 (S.2 11) (gRw [grade, (0 : Int32)]), va_up S.2 11 (S.2 11 + 1)) (gAa (gAa A 11 (S.2 11) a_7) (400 + S.2 11) 0 l_8) Fr []) (pr_addG (T0 := []) gM1 hF (gWf_0 (r := upd (S.1 0 0) 8 0) hW (gw_b hW)) (g30M c_6 (gw_11 (S := S) hW)) (gRw [grade, (0 : Int32)]) gcell_g1) ?_
          refine g_pop F rfl dX3_gross_81 ?_
          refine g_aload_n F 1 rfl rfl dX3_gross_82 ?_
          refine g_get F clX3 12 (by decide) q1401 (v := .ref (A 311 0)) (gd_get (pr_atA4 gM1 (κ := 0) (i := 0) (by decide) (by decide) (gc1 (gnl rfl)) (gce (show (gsr (gsr S.1 0 0 (upd (S.1 0 0) 8 0)) 11 (S.2 11) (gRw [grade, (0 : Int32)])) 0 0 = upd (S.1 0 0) 8 0 from (gsr_p (by decide) gsr_s)) rfl)) rfl) dX3_gross_83 ?_
          refine g_callF F clJ3 (kJ3_size hl (pr_lsA4 (M := 1) (S := (gsr (gsr S.1 0 0 (upd (S.1 0 0) 8 0)) 11 (S.2 11) (gRw [grade, (0 : Int32)]), va_up S.2 11 (S.2 11 + 1))) (A := gAa A 11 (S.2 11) a_7) (κ := 11) (by decide) (Or.inl ⟨by decide, by decide⟩) (fun q => by first | decide | exact absurd q (by decide)) (fun q => by first | decide | exact absurd q (by decide)))) (g_recv F clJ3 (gls_obj (pr_lsA4 (M := 1) (S := (gsr (gsr S.1 0 0 (upd (S.1 0 0) 8 0)) 11 (S.2 11) (gRw [grade, (0 : Int32)]), va_up S.2 11 (S.2 11 + 1))) (A := gAa A 11 (S.2 11) a_7) (κ := 11) (by decide) (Or.inl ⟨by decide, by decide⟩) (fun q => by first | decide | exact absurd q (by decide)) (fun q => by first | decide | exact absurd q (by decide))))) q1491 q634 q636 q22 q638 (List.mem_of_getElem? (i := 0) rfl) (gT_w q637 rfl) (gT_w q635 rfl) (gT_w q293 rfl) gface_0 ⟨by decide, by decide⟩ rfl rfl (gle rfl) 3 156 (gle rfl) (gle rfl) (gle rfl) (gle rfl) dX3_gross_86 gx_n (gv_i ?_)
          refine g_iconst F (v := (1 : Int32)) (by decide) dX3_gross_91 ?_
          refine g_isub F dX3_gross_92 ?_
          refine g_top (nI_pred (S.2 11)) ?_
          exact g_retI F E rfl rfl (gle rfl) (gle rfl) dX3_gross_93 (fun _ hp => ⟨_, _, ((if_neg c_3).trans (if_neg c_6)), rfl, ⟨gAa (gAa A 11 (S.2 11) a_7) (400 + S.2 11) 0 l_8, gAa4_00, gP_T0 hp⟩⟩)
      refine g_icmp_ne F (tgt := 48) (by decide) dX3_gross_41 (fun c_4 => ?_) (fun c_4 => ?_)
      · skip
        refine g_iconst F (v := (0 : Int32)) (by decide) dX3_gross_48 ?_
        exact g_top (gb_f c_4) J_5
      · skip
        refine g_iconst F (v := (1 : Int32)) (by decide) dX3_gross_44 ?_
        refine g_goto F (tgt := 49) (by decide) dX3_gross_45 ?_
        exact g_top (gb_t c_4) J_5
  refine gb_if_ne F (tgt := 21) (by decide) dX3_gross_14 (fun c_1 => ?_) (fun c_1 => ?_)
  · skip
    refine g_iconst F (v := (0 : Int32)) (by decide) dX3_gross_21 ?_
    exact g_top (gb_f (fun q => q c_1)) J_2
  · skip
    refine g_iconst F (v := (1 : Int32)) (by decide) dX3_gross_17 ?_
    refine g_goto F (tgt := 22) (by decide) dX3_gross_18 ?_
    exact g_top (gb_t c_1) J_2
