/-! THE REFERENCE: forms -/
theorem lg_lt {a b : Int64} : lg_cmp a b < 0 ↔ a < b := by
  have h := lg_cmp_ge a b
  rw [← Int32.not_le, ← Int64.not_le]
  exact not_congr h
theorem lg_gt {a b : Int64} : 0 < lg_cmp a b ↔ b < a := by
  have h := lg_cmp_le a b
  rw [← Int32.not_le, ← Int64.not_le]
  exact not_congr h
theorem gin_c {x lo hi : Int32} : (¬ lg_cmp x.toInt64 lo.toInt64 < 0 ∧ ¬ 0 < lg_cmp x.toInt64 hi.toInt64) ↔ (¬ x < lo ∧ ¬ hi < x) := by
  rw [lg_lt, lg_gt, Int32.toInt64_lt, Int32.toInt64_lt]
/-- two ends -/
def gqF (c : Prop) (P1 P0 : gH → Prop) : Option Value → gH → Prop := fun v h => (c ∧ v = some (.int 1) ∧ P1 h) ∨ (¬ c ∧ v = some (.int 0) ∧ P0 h)
def gqN (o : Value × gS) (G : gG) (a0 : Nat) (Fr : gH → Prop) : Option Value → gH → Prop := fun v h => ∃ (w : Value) (S2 : gS), o = (w, S2) ∧ v = some w ∧ gPE 1 G S2 a0 Fr h
section GW24
variable {Y : gY} {cc : ByteArray} {own : String} {rm : Room} {hh : gHh} {ret : Option FieldType} {P P2 P1 P0 : gH → Prop} {lv : List (Nat × Value)} {pc k n : Nat} {st : List Value}
theorem gv_f {c : Prop} (kt : c → gW Y P1 lv pc (.int 1 :: st) k n) (kf : ¬ c → gW Y P0 lv pc (.int 0 :: st) k n) : ∀ v, gW Y (gqF c P1 P0 v) lv pc (v.toList ++ st) k n := fun v H locs ls h hP hR hL hl => by
  rcases hP with ⟨hc, rfl, hP⟩ | ⟨hc, rfl, hP⟩
  · exact kt hc H locs ls h hP hR hL hl
  · exact kf hc H locs ls h hP hR hL hl
end GW24
theorem gIn_iff {x : Int32} {N : Nat} (hN : N < 2 ^ 30) : (¬ x < 0 ∧ ¬ nI N - 1 < x) ↔ gIn x N := by
  constructor
  · intro ⟨h0, h1⟩
    refine gIn_t h0 ?_ (by omega)
    rw [Int32.lt_iff_toInt_lt] at h1 ⊢
    rw [Int32.toInt_sub, nI_toInt (by omega), show (1 : Int32).toInt = 1 from by decide, Int.bmod_eq_of_le (by omega) (by omega)] at h1
    rw [nI_toInt (by omega)]
    omega
  · intro h
    refine ⟨h.1, fun q => ?_⟩
    have h2 := gIn_lt h (by omega)
    rw [Int32.lt_iff_toInt_lt] at q h2
    rw [Int32.toInt_sub, nI_toInt (by omega), show (1 : Int32).toInt = 1 from by decide, Int.bmod_eq_of_le (by omega) (by omega)] at q
    rw [nI_toInt (by omega)] at h2
    omega
theorem gGo_sh {r on : Nat → Int32} {sh : Int32} : ∀ (n : Nat) (x : Int32), gGo r on sh n x = (!(sh == 0) && gGo r on 1 n x)
  | 0, _ => by simp [gGo]
  | n + 1, x => by
    unfold gGo
    by_cases h : x = -1
    · simp [h]
    · rw [if_neg h, if_neg h, gGo_sh n]
      cases (!(on x.toNatClampNeg == 0)) <;> cases (!(sh == 0)) <;> rfl
theorem gBl_b {x : Int32} (h : gBl x) : x = gb ((!(x == 0)) = true) := by
  rcases h with rfl | rfl <;> rfl
theorem kX3_begins {l : Launch} {G : gG} (hl : l.stackTraces = false) {P : gH → Prop} {a : Nat} {t : Int32} {w1 w2 w3 w4 w5 w6 w7 w8 w9 w10 w11 w12 w13 w14 w15 w16 w17 : Value} (ha : gAt P a (.inr (2, [.int t, w1, w2, w3, w4, w5, w6, w7, w8, w9, w10, w11, w12, w13, w14, w15, w16, w17]))) : gMet l yX3_begins (ws_ yX3_begins cX3_begins 1 none) ⟨0, 0, 0, 0⟩ G [.ref a] P (gqV (gUp P a (.inr (2, [.int t, w1, w2, w3, w4, w5, w6, w7, w8, w9, w10, w11, w12, w13, w14, w15, w16, w17])) (.inr (2, [.int (0 : Int32), w1, w2, w3, w4, w5, w6, w7, w8, w9, w10, w11, w12, w13, w14, w15, w16, w17])))) gxN := by
  refine gMet_of hl pnX3 (gle rfl) (fun X Q hX F E hNm => ?_)
  subst hX
  change gW (X, G, 1, Q) P [(0, .ref a)] 0 [] 0 0
  refine g_mono (gUp_0 ha) ?_
  refine g_aload_n F 0 rfl rfl dX3_begins_0 ?_
  refine g_iconst F (v := (0 : Int32)) (by decide) dX3_begins_1 ?_
  refine g_put (P2 := (gUp P a (.inr (2, [.int t, w1, w2, w3, w4, w5, w6, w7, w8, w9, w10, w11, w12, w13, w14, w15, w16, w17])) (.inr (2, [.int (0 : Int32), w1, w2, w3, w4, w5, w6, w7, w8, w9, w10, w11, w12, w13, w14, w15, w16, w17])))) F clX3 0 (by decide) q1389 rfl rfl rfl (gUp_put (gnl rfl)) dX3_begins_2 ?_
  exact g_retV F E rfl (gle rfl) (gle rfl) dX3_begins_5 (fun _ hp => ⟨rfl, hp⟩)

theorem kX3_in {l : Launch} {G : gG} (hl : l.stackTraces = false) {P : gH → Prop} {x lo hi : Int32} {l1 h1 : Int64} (hlo : l1 = lo.toInt64) (hhi : h1 = hi.toInt64) : gMet l yX3_in (ws_ yX3_in cX3_in 6 (some .boolean)) ⟨0, 0, 0, 0⟩ G [.long x.toInt64, .long l1, .long h1] P (gqI (.int (gb (¬ x < lo ∧ ¬ hi < x))) P) gxN := by
  refine gMet_of hl pnX3 (gle rfl) (fun X Q hX F E hNm => ?_)
  subst hX
  change gW (X, G, 6, Q) P [(0, .long x.toInt64), (2, .long l1), (4, .long h1)] 0 [] 0 0
  refine g_lload_n F 0 rfl rfl dX3_in_0 ?_
  refine g_lload_n F 1 rfl rfl dX3_in_1 ?_
  refine g_lcmp F dX3_in_2 ?_
  have J_3 : gW (X, G, 6, Q) P [(0, .long x.toInt64), (2, .long l1), (4, .long h1)] 18 [.int (gb (¬ ((lg_cmp x.toInt64 l1) < 0) ∧ (¬ (0 < (lg_cmp x.toInt64 h1)))))] 0 0 := by
    exact g_retI F E rfl gb_z (gle rfl) (gle rfl) dX3_in_18 (fun _ hp => ⟨by subst hlo hhi; rw [gb_c gin_c], hp⟩)
  refine g_if_lt F (tgt := 17) (by decide) dX3_in_3 (fun c_1 => ?_) (fun c_1 => ?_)
  · skip
    refine g_iconst F (v := (0 : Int32)) (by decide) dX3_in_17 ?_
    exact g_top (gb_f (fun q => q.1 c_1)) J_3
  · skip
    refine g_lload_n F 0 rfl rfl dX3_in_6 ?_
    refine g_lload F 2 rfl dX3_in_7 ?_
    refine g_lcmp F dX3_in_9 ?_
    refine g_if_gt F (tgt := 17) (by decide) dX3_in_10 (fun c_2 => ?_) (fun c_2 => ?_)
    · skip
      refine g_iconst F (v := (0 : Int32)) (by decide) dX3_in_17 ?_
      exact g_top (gb_f (fun q => (fun q => q c_2) q.2)) J_3
    · skip
      refine g_iconst F (v := (1 : Int32)) (by decide) dX3_in_13 ?_
      refine g_goto F (tgt := 18) (by decide) dX3_in_14 ?_
      exact g_top (gb_t (⟨c_1, c_2⟩)) J_3

theorem kX3_isOf {l : Launch} {G : gG} (hl : l.stackTraces = false) {P : gH → Prop} {t1 t2 a len : Nat} {el : Nat → Nat} (hls : ∀ h, P h → gLs G h t1 t2 a len el) (hlen : len ≤ 150) {x : Int32} : gMet l yX3_isOf (ws_ yX3_isOf cX3_isOf 2 (some .boolean)) ⟨1, 0, 0, 25⟩ G [.ref a, .int x] P (gqI (.int (gb (gIn x len))) P) gxN := by
  refine gMet_of hl pnX3 (gle rfl) (fun X Q hX F E hNm => ?_)
  subst hX
  change gW (X, G, 2, Q) P [(0, .ref a), (1, .int x)] 0 [] 0 0
  refine g_iload_n F 1 rfl rfl dX3_isOf_0 ?_
  refine g_i2l F dX3_isOf_1 ?_
  refine g_lconst F (v := (0 : Int64)) (by decide) dX3_isOf_2 ?_
  refine g_aload_n F 0 rfl rfl dX3_isOf_3 ?_
  refine g_callF F clJ3 (kJ3_size hl hls) (g_recv F clJ3 (gls_obj hls)) q1491 q634 q636 q22 q638 (List.mem_of_getElem? (i := 0) rfl) (gT_w q637 rfl) (gT_w q635 rfl) (gT_w q293 rfl) gface_0 ⟨by decide, by decide⟩ rfl rfl (gle rfl) 0 0 (gle rfl) (gle rfl) (gle rfl) (gle rfl) dX3_isOf_4 gx_n (gv_i ?_)
  refine g_iconst F (v := (1 : Int32)) (by decide) dX3_isOf_9 ?_
  refine g_isub F dX3_isOf_10 ?_
  refine g_i2l F dX3_isOf_11 ?_
  refine g_callS F (kX3_in hl (x := x) (lo := (0 : Int32)) (hi := ((nI len) - (1 : Int32))) (by decide) rfl) (lw_S q1453 q1454 q25 q1455) myX3_in ⟨by decide, by decide⟩ rfl rfl (gle rfl) 0 0 (gle rfl) (gle rfl) (gle rfl) (gle rfl) dX3_isOf_12 gx_n (gv_i ?_)
  exact g_retI F E rfl gb_z (gle rfl) (gle rfl) dX3_isOf_15 (fun _ hp => ⟨by rw [← gb_c (gIn_iff (by omega))], hp⟩)

theorem kX3_fails {l : Launch} {G : gG} (hl : l.stackTraces = false) {P : gH → Prop} {a : Nat} {b nu : Int32} {c : Prop} (hb : ¬ b = 0 ↔ c) (hnu : ¬ nu ≤ 0) {w1 w2 w3 w4 w5 w6 w7 w8 w9 w10 w11 w12 w13 w14 w15 w16 w17 : Value} (ha : gAt P a (.inr (2, [.int (0 : Int32), w1, w2, w3, w4, w5, w6, w7, w8, w9, w10, w11, w12, w13, w14, w15, w16, w17]))) : gMet l yX3_fails (ws_ yX3_fails cX3_fails 3 (some .boolean)) ⟨0, 0, 0, 0⟩ G [.ref a, .int b, .int nu] P (gqF c (gUp P a (.inr (2, [.int (0 : Int32), w1, w2, w3, w4, w5, w6, w7, w8, w9, w10, w11, w12, w13, w14, w15, w16, w17])) (.inr (2, [.int nu, w1, w2, w3, w4, w5, w6, w7, w8, w9, w10, w11, w12, w13, w14, w15, w16, w17]))) P) gxN := by
  refine gMet_of hl pnX3 (gle rfl) (fun X Q hX F E hNm => ?_)
  subst hX
  change gW (X, G, 3, Q) P [(0, .ref a), (1, .int b), (2, .int nu)] 0 [] 0 0
  refine g_aload_n F 0 rfl rfl dX3_fails_0 ?_
  refine g_get F clX3 0 (by decide) q1389 (v := .int (0 : Int32)) (gd_get ha rfl) dX3_fails_1 ?_
  refine g_if_ne F (tgt := 16) (by decide) dX3_fails_4 (fun c => absurd c (by decide)) (fun _ => ?_)
  refine g_iload_n F 1 rfl rfl dX3_fails_7 ?_
  refine g_if_eq F (tgt := 16) (by decide) dX3_fails_8 (fun c_1 => ?_) (fun c_1 => ?_)
  · skip
    refine g_aload_n F 0 rfl rfl dX3_fails_16 ?_
    refine g_get F clX3 0 (by decide) q1389 (v := .int (0 : Int32)) (gd_get ha rfl) dX3_fails_17 ?_
    refine g_if_le F (tgt := 27) (by decide) dX3_fails_20 (fun _ => ?_) (fun c => absurd c (by decide))
    refine g_iconst F (v := (0 : Int32)) (by decide) dX3_fails_27 ?_
    exact g_retI F E rfl rfl (gle rfl) (gle rfl) dX3_fails_28 (fun _ hp => Or.inr ⟨fun q => hb.mpr q c_1, rfl, hp⟩)
  · skip
    refine g_mono (gUp_0 ha) ?_
    refine g_aload_n F 0 rfl rfl dX3_fails_11 ?_
    refine g_iload_n F 2 rfl rfl dX3_fails_12 ?_
    refine g_put (P2 := (gUp P a (.inr (2, [.int (0 : Int32), w1, w2, w3, w4, w5, w6, w7, w8, w9, w10, w11, w12, w13, w14, w15, w16, w17])) (.inr (2, [.int nu, w1, w2, w3, w4, w5, w6, w7, w8, w9, w10, w11, w12, w13, w14, w15, w16, w17])))) F clX3 0 (by decide) q1389 rfl rfl rfl (gUp_put (gnl rfl)) dX3_fails_13 ?_
    refine g_aload_n F 0 rfl rfl dX3_fails_16 ?_
    refine g_get F clX3 0 (by decide) q1389 (v := .int nu) (gd_get gUp_at rfl) dX3_fails_17 ?_
    refine g_if_le F (tgt := 27) (by decide) dX3_fails_20 (fun c => absurd c hnu) (fun _ => ?_)
    refine g_iconst F (v := (1 : Int32)) (by decide) dX3_fails_23 ?_
    refine g_goto F (tgt := 28) (by decide) dX3_fails_24 ?_
    exact g_retI F E rfl rfl (gle rfl) (gle rfl) dX3_fails_28 (fun _ hp => Or.inl ⟨hb.mp c_1, rfl, hp⟩)

theorem kX3_noLot {l : Launch} {G : gG} (hl : l.stackTraces = false) {S : gS} {A : Nat → Nat → Nat} {Fr : gH → Prop} (hF : gFr 1 Fr) (hW : gWf S) {x : Int32} : gMet l yX3_noLot (ws_ yX3_noLot cX3_noLot 2 (some .boolean)) ⟨2, 0, 0, 46⟩ G [.ref (A 0 0), .int x] (gP 1 G (gsr S.1 0 0 (upd (S.1 0 0) 8 0), S.2) A Fr []) (gqF (¬ gIn x (S.2 6)) (gP 1 G (gsr (gsr S.1 0 0 (upd (S.1 0 0) 8 0)) 0 0 (upd (upd (S.1 0 0) 8 0) 8 1), S.2) A Fr []) (gP 1 G (gsr S.1 0 0 (upd (S.1 0 0) 8 0), S.2) A Fr [])) gxN := by
  refine gMet_of hl pnX3 (gle rfl) (fun X Q hX F E hNm => ?_)
  subst hX
  change gW (X, G, 2, Q) (gP 1 G (gsr S.1 0 0 (upd (S.1 0 0) 8 0), S.2) A Fr []) [(0, .ref (A 0 0)), (1, .int x)] 0 [] 0 0
  refine g_aload_n F 0 rfl rfl dX3_noLot_0 ?_
  refine g_aload_n F 0 rfl rfl dX3_noLot_1 ?_
  refine g_get F clX3 5 (by decide) q1394 (v := .ref (A 306 0)) (gd_get (pr_at (κ := 0) (i := 0) (by decide) (gc1 (gnl rfl)) (gce (show (gsr S.1 0 0 (upd (S.1 0 0) 8 0)) 0 0 = upd (S.1 0 0) 8 0 from gsr_s) rfl)) rfl) dX3_noLot_2 ?_
  refine g_iload_n F 1 rfl rfl dX3_noLot_5 ?_
  refine g_callS F (kX3_isOf hl (pr_ls (M := 1) (S := (gsr S.1 0 0 (upd (S.1 0 0) 8 0), S.2)) (A := A) (κ := 6) (by decide) (Or.inl ⟨by decide, by decide⟩) (fun q => by first | decide | exact absurd q (by decide)) (fun q => by first | decide | exact absurd q (by decide))) (gw_n hW _) (x := x)) (lw_S q1502 q1503 q25 q1504) myX3_isOf ⟨by decide, by decide⟩ rfl rfl (gle rfl) 0 0 (gle rfl) (gle rfl) (gle rfl) (gle rfl) dX3_noLot_6 gx_n (gv_i ?_)
  have J_2 : gW (X, G, 2, Q) (gP 1 G (gsr S.1 0 0 (upd (S.1 0 0) 8 0), S.2) A Fr []) [(0, .ref (A 0 0)), (1, .int x)] 17 [.int (gb (¬ (gIn x (S.2 6)))), .ref (A 0 0)] 0 0 := by
    refine g_iconst F (v := (1 : Int32)) (by decide) dX3_noLot_17 ?_
    refine g_callV F (kX3_fails hl (b := gb (¬ (gIn x (S.2 6)))) (nu := (1 : Int32)) (c := ¬ (gIn x (S.2 6))) gb_n0 (by decide) (pr_at (κ := 0) (i := 0) (by decide) (gc1 (gnl rfl)) (gce (show (gsr S.1 0 0 (upd (S.1 0 0) 8 0)) 0 0 = upd (S.1 0 0) 8 0 from gsr_s) rfl))) (g_recv F clX3 (gd_obj (pr_at (κ := 0) (i := 0) (by decide) (gc1 (gnl rfl)) (gce (show (gsr S.1 0 0 (upd (S.1 0 0) 8 0)) 0 0 = upd (S.1 0 0) 8 0 from gsr_s) rfl)))) q1456 q1458 qs7 q25 q1459 myX3_fails ⟨by decide, by decide⟩ rfl rfl (gle rfl) 0 0 (gle rfl) (gle rfl) (gle rfl) (gle rfl) dX3_noLot_18 gx_n (gv_f (fun c_3 => ?_) (fun c_3 => ?_))
    · skip
      refine g_mono (P2 := gP 1 G (gsr (gsr S.1 0 0 (upd (S.1 0 0) 8 0)) 0 0 (upd (upd (S.1 0 0) 8 0) 8 (1 : Int32)), S.2) A Fr []) (pr_upRow (κ := 0) (i := 0) gM1 hF (upd (upd (S.1 0 0) 8 0) 8 (1 : Int32)) (by decide) (gc1 (gnl rfl)) (gce (show (gsr S.1 0 0 (upd (S.1 0 0) 8 0)) 0 0 = upd (S.1 0 0) 8 0 from gsr_s) rfl) rfl) ?_
      exact g_retI F E rfl rfl (gle rfl) (gle rfl) dX3_noLot_21 (fun _ hp => Or.inl ⟨c_3, rfl, hp⟩)
    · skip
      exact g_retI F E rfl rfl (gle rfl) (gle rfl) dX3_noLot_21 (fun _ hp => Or.inr ⟨c_3, rfl, hp⟩)
  refine gb_if_ne F (tgt := 16) (by decide) dX3_noLot_9 (fun c_1 => ?_) (fun c_1 => ?_)
  · skip
    refine g_iconst F (v := (0 : Int32)) (by decide) dX3_noLot_16 ?_
    exact g_top (gb_f (fun q => q c_1)) J_2
  · skip
    refine g_iconst F (v := (1 : Int32)) (by decide) dX3_noLot_12 ?_
    refine g_goto F (tgt := 17) (by decide) dX3_noLot_13 ?_
    exact g_top (gb_t c_1) J_2

theorem kX3_noBatch {l : Launch} {G : gG} (hl : l.stackTraces = false) {S : gS} {A : Nat → Nat → Nat} {Fr : gH → Prop} (hF : gFr 1 Fr) (hW : gWf S) {x : Int32} : gMet l yX3_noBatch (ws_ yX3_noBatch cX3_noBatch 2 (some .boolean)) ⟨2, 0, 0, 46⟩ G [.ref (A 0 0), .int x] (gP 1 G (gsr S.1 0 0 (upd (S.1 0 0) 8 0), S.2) A Fr []) (gqF (¬ gIn x (S.2 8)) (gP 1 G (gsr (gsr S.1 0 0 (upd (S.1 0 0) 8 0)) 0 0 (upd (upd (S.1 0 0) 8 0) 8 1), S.2) A Fr []) (gP 1 G (gsr S.1 0 0 (upd (S.1 0 0) 8 0), S.2) A Fr [])) gxN := by
  refine gMet_of hl pnX3 (gle rfl) (fun X Q hX F E hNm => ?_)
  subst hX
  change gW (X, G, 2, Q) (gP 1 G (gsr S.1 0 0 (upd (S.1 0 0) 8 0), S.2) A Fr []) [(0, .ref (A 0 0)), (1, .int x)] 0 [] 0 0
  refine g_aload_n F 0 rfl rfl dX3_noBatch_0 ?_
  refine g_aload_n F 0 rfl rfl dX3_noBatch_1 ?_
  refine g_get F clX3 9 (by decide) q1398 (v := .ref (A 308 0)) (gd_get (pr_at (κ := 0) (i := 0) (by decide) (gc1 (gnl rfl)) (gce (show (gsr S.1 0 0 (upd (S.1 0 0) 8 0)) 0 0 = upd (S.1 0 0) 8 0 from gsr_s) rfl)) rfl) dX3_noBatch_2 ?_
  refine g_iload_n F 1 rfl rfl dX3_noBatch_5 ?_
  refine g_callS F (kX3_isOf hl (pr_ls (M := 1) (S := (gsr S.1 0 0 (upd (S.1 0 0) 8 0), S.2)) (A := A) (κ := 8) (by decide) (Or.inl ⟨by decide, by decide⟩) (fun q => by first | decide | exact absurd q (by decide)) (fun q => by first | decide | exact absurd q (by decide))) (gw_n hW _) (x := x)) (lw_S q1502 q1503 q25 q1504) myX3_isOf ⟨by decide, by decide⟩ rfl rfl (gle rfl) 0 0 (gle rfl) (gle rfl) (gle rfl) (gle rfl) dX3_noBatch_6 gx_n (gv_i ?_)
  have J_2 : gW (X, G, 2, Q) (gP 1 G (gsr S.1 0 0 (upd (S.1 0 0) 8 0), S.2) A Fr []) [(0, .ref (A 0 0)), (1, .int x)] 17 [.int (gb (¬ (gIn x (S.2 8)))), .ref (A 0 0)] 0 0 := by
    refine g_iconst F (v := (1 : Int32)) (by decide) dX3_noBatch_17 ?_
    refine g_callV F (kX3_fails hl (b := gb (¬ (gIn x (S.2 8)))) (nu := (1 : Int32)) (c := ¬ (gIn x (S.2 8))) gb_n0 (by decide) (pr_at (κ := 0) (i := 0) (by decide) (gc1 (gnl rfl)) (gce (show (gsr S.1 0 0 (upd (S.1 0 0) 8 0)) 0 0 = upd (S.1 0 0) 8 0 from gsr_s) rfl))) (g_recv F clX3 (gd_obj (pr_at (κ := 0) (i := 0) (by decide) (gc1 (gnl rfl)) (gce (show (gsr S.1 0 0 (upd (S.1 0 0) 8 0)) 0 0 = upd (S.1 0 0) 8 0 from gsr_s) rfl)))) q1456 q1458 qs7 q25 q1459 myX3_fails ⟨by decide, by decide⟩ rfl rfl (gle rfl) 0 0 (gle rfl) (gle rfl) (gle rfl) (gle rfl) dX3_noBatch_18 gx_n (gv_f (fun c_3 => ?_) (fun c_3 => ?_))
    · skip
      refine g_mono (P2 := gP 1 G (gsr (gsr S.1 0 0 (upd (S.1 0 0) 8 0)) 0 0 (upd (upd (S.1 0 0) 8 0) 8 (1 : Int32)), S.2) A Fr []) (pr_upRow (κ := 0) (i := 0) gM1 hF (upd (upd (S.1 0 0) 8 0) 8 (1 : Int32)) (by decide) (gc1 (gnl rfl)) (gce (show (gsr S.1 0 0 (upd (S.1 0 0) 8 0)) 0 0 = upd (S.1 0 0) 8 0 from gsr_s) rfl) rfl) ?_
      exact g_retI F E rfl rfl (gle rfl) (gle rfl) dX3_noBatch_21 (fun _ hp => Or.inl ⟨c_3, rfl, hp⟩)
    · skip
      exact g_retI F E rfl rfl (gle rfl) (gle rfl) dX3_noBatch_21 (fun _ hp => Or.inr ⟨c_3, rfl, hp⟩)
  refine gb_if_ne F (tgt := 16) (by decide) dX3_noBatch_9 (fun c_1 => ?_) (fun c_1 => ?_)
  · skip
    refine g_iconst F (v := (0 : Int32)) (by decide) dX3_noBatch_16 ?_
    exact g_top (gb_f (fun q => q c_1)) J_2
  · skip
    refine g_iconst F (v := (1 : Int32)) (by decide) dX3_noBatch_12 ?_
    refine g_goto F (tgt := 17) (by decide) dX3_noBatch_13 ?_
    exact g_top (gb_t c_1) J_2

theorem kX3_noSlats {l : Launch} {G : gG} (hl : l.stackTraces = false) {S : gS} {A : Nat → Nat → Nat} {Fr : gH → Prop} (hF : gFr 1 Fr) (hW : gWf S) {x : Int32} : gMet l yX3_noSlats (ws_ yX3_noSlats cX3_noSlats 2 (some .boolean)) ⟨2, 0, 0, 46⟩ G [.ref (A 0 0), .int x] (gP 1 G (gsr S.1 0 0 (upd (S.1 0 0) 8 0), S.2) A Fr []) (gqF (¬ gIn x (S.2 9)) (gP 1 G (gsr (gsr S.1 0 0 (upd (S.1 0 0) 8 0)) 0 0 (upd (upd (S.1 0 0) 8 0) 8 1), S.2) A Fr []) (gP 1 G (gsr S.1 0 0 (upd (S.1 0 0) 8 0), S.2) A Fr [])) gxN := by
  refine gMet_of hl pnX3 (gle rfl) (fun X Q hX F E hNm => ?_)
  subst hX
  change gW (X, G, 2, Q) (gP 1 G (gsr S.1 0 0 (upd (S.1 0 0) 8 0), S.2) A Fr []) [(0, .ref (A 0 0)), (1, .int x)] 0 [] 0 0
  refine g_aload_n F 0 rfl rfl dX3_noSlats_0 ?_
  refine g_aload_n F 0 rfl rfl dX3_noSlats_1 ?_
  refine g_get F clX3 10 (by decide) q1399 (v := .ref (A 309 0)) (gd_get (pr_at (κ := 0) (i := 0) (by decide) (gc1 (gnl rfl)) (gce (show (gsr S.1 0 0 (upd (S.1 0 0) 8 0)) 0 0 = upd (S.1 0 0) 8 0 from gsr_s) rfl)) rfl) dX3_noSlats_2 ?_
  refine g_iload_n F 1 rfl rfl dX3_noSlats_5 ?_
  refine g_callS F (kX3_isOf hl (pr_ls (M := 1) (S := (gsr S.1 0 0 (upd (S.1 0 0) 8 0), S.2)) (A := A) (κ := 9) (by decide) (Or.inl ⟨by decide, by decide⟩) (fun q => by first | decide | exact absurd q (by decide)) (fun q => by first | decide | exact absurd q (by decide))) (gw_n hW _) (x := x)) (lw_S q1502 q1503 q25 q1504) myX3_isOf ⟨by decide, by decide⟩ rfl rfl (gle rfl) 0 0 (gle rfl) (gle rfl) (gle rfl) (gle rfl) dX3_noSlats_6 gx_n (gv_i ?_)
  have J_2 : gW (X, G, 2, Q) (gP 1 G (gsr S.1 0 0 (upd (S.1 0 0) 8 0), S.2) A Fr []) [(0, .ref (A 0 0)), (1, .int x)] 17 [.int (gb (¬ (gIn x (S.2 9)))), .ref (A 0 0)] 0 0 := by
    refine g_iconst F (v := (1 : Int32)) (by decide) dX3_noSlats_17 ?_
    refine g_callV F (kX3_fails hl (b := gb (¬ (gIn x (S.2 9)))) (nu := (1 : Int32)) (c := ¬ (gIn x (S.2 9))) gb_n0 (by decide) (pr_at (κ := 0) (i := 0) (by decide) (gc1 (gnl rfl)) (gce (show (gsr S.1 0 0 (upd (S.1 0 0) 8 0)) 0 0 = upd (S.1 0 0) 8 0 from gsr_s) rfl))) (g_recv F clX3 (gd_obj (pr_at (κ := 0) (i := 0) (by decide) (gc1 (gnl rfl)) (gce (show (gsr S.1 0 0 (upd (S.1 0 0) 8 0)) 0 0 = upd (S.1 0 0) 8 0 from gsr_s) rfl)))) q1456 q1458 qs7 q25 q1459 myX3_fails ⟨by decide, by decide⟩ rfl rfl (gle rfl) 0 0 (gle rfl) (gle rfl) (gle rfl) (gle rfl) dX3_noSlats_18 gx_n (gv_f (fun c_3 => ?_) (fun c_3 => ?_))
    · skip
      refine g_mono (P2 := gP 1 G (gsr (gsr S.1 0 0 (upd (S.1 0 0) 8 0)) 0 0 (upd (upd (S.1 0 0) 8 0) 8 (1 : Int32)), S.2) A Fr []) (pr_upRow (κ := 0) (i := 0) gM1 hF (upd (upd (S.1 0 0) 8 0) 8 (1 : Int32)) (by decide) (gc1 (gnl rfl)) (gce (show (gsr S.1 0 0 (upd (S.1 0 0) 8 0)) 0 0 = upd (S.1 0 0) 8 0 from gsr_s) rfl) rfl) ?_
      exact g_retI F E rfl rfl (gle rfl) (gle rfl) dX3_noSlats_21 (fun _ hp => Or.inl ⟨c_3, rfl, hp⟩)
    · skip
      exact g_retI F E rfl rfl (gle rfl) (gle rfl) dX3_noSlats_21 (fun _ hp => Or.inr ⟨c_3, rfl, hp⟩)
  refine gb_if_ne F (tgt := 16) (by decide) dX3_noSlats_9 (fun c_1 => ?_) (fun c_1 => ?_)
  · skip
    refine g_iconst F (v := (0 : Int32)) (by decide) dX3_noSlats_16 ?_
    exact g_top (gb_f (fun q => q c_1)) J_2
  · skip
    refine g_iconst F (v := (1 : Int32)) (by decide) dX3_noSlats_12 ?_
    refine g_goto F (tgt := 17) (by decide) dX3_noSlats_13 ?_
    exact g_top (gb_t c_1) J_2

theorem kX3_noRun {l : Launch} {G : gG} (hl : l.stackTraces = false) {S : gS} {A : Nat → Nat → Nat} {Fr : gH → Prop} (hF : gFr 1 Fr) (hW : gWf S) {x : Int32} : gMet l yX3_noRun (ws_ yX3_noRun cX3_noRun 2 (some .boolean)) ⟨2, 0, 0, 46⟩ G [.ref (A 0 0), .int x] (gP 1 G (gsr S.1 0 0 (upd (S.1 0 0) 8 0), S.2) A Fr []) (gqF (¬ gIn x (S.2 10)) (gP 1 G (gsr (gsr S.1 0 0 (upd (S.1 0 0) 8 0)) 0 0 (upd (upd (S.1 0 0) 8 0) 8 1), S.2) A Fr []) (gP 1 G (gsr S.1 0 0 (upd (S.1 0 0) 8 0), S.2) A Fr [])) gxN := by
  refine gMet_of hl pnX3 (gle rfl) (fun X Q hX F E hNm => ?_)
  subst hX
  change gW (X, G, 2, Q) (gP 1 G (gsr S.1 0 0 (upd (S.1 0 0) 8 0), S.2) A Fr []) [(0, .ref (A 0 0)), (1, .int x)] 0 [] 0 0
  refine g_aload_n F 0 rfl rfl dX3_noRun_0 ?_
  refine g_aload_n F 0 rfl rfl dX3_noRun_1 ?_
  refine g_get F clX3 11 (by decide) q1400 (v := .ref (A 310 0)) (gd_get (pr_at (κ := 0) (i := 0) (by decide) (gc1 (gnl rfl)) (gce (show (gsr S.1 0 0 (upd (S.1 0 0) 8 0)) 0 0 = upd (S.1 0 0) 8 0 from gsr_s) rfl)) rfl) dX3_noRun_2 ?_
  refine g_iload_n F 1 rfl rfl dX3_noRun_5 ?_
  refine g_callS F (kX3_isOf hl (pr_ls (M := 1) (S := (gsr S.1 0 0 (upd (S.1 0 0) 8 0), S.2)) (A := A) (κ := 10) (by decide) (Or.inl ⟨by decide, by decide⟩) (fun q => by first | decide | exact absurd q (by decide)) (fun q => by first | decide | exact absurd q (by decide))) (gw_n hW _) (x := x)) (lw_S q1502 q1503 q25 q1504) myX3_isOf ⟨by decide, by decide⟩ rfl rfl (gle rfl) 0 0 (gle rfl) (gle rfl) (gle rfl) (gle rfl) dX3_noRun_6 gx_n (gv_i ?_)
  have J_2 : gW (X, G, 2, Q) (gP 1 G (gsr S.1 0 0 (upd (S.1 0 0) 8 0), S.2) A Fr []) [(0, .ref (A 0 0)), (1, .int x)] 17 [.int (gb (¬ (gIn x (S.2 10)))), .ref (A 0 0)] 0 0 := by
    refine g_iconst F (v := (1 : Int32)) (by decide) dX3_noRun_17 ?_
    refine g_callV F (kX3_fails hl (b := gb (¬ (gIn x (S.2 10)))) (nu := (1 : Int32)) (c := ¬ (gIn x (S.2 10))) gb_n0 (by decide) (pr_at (κ := 0) (i := 0) (by decide) (gc1 (gnl rfl)) (gce (show (gsr S.1 0 0 (upd (S.1 0 0) 8 0)) 0 0 = upd (S.1 0 0) 8 0 from gsr_s) rfl))) (g_recv F clX3 (gd_obj (pr_at (κ := 0) (i := 0) (by decide) (gc1 (gnl rfl)) (gce (show (gsr S.1 0 0 (upd (S.1 0 0) 8 0)) 0 0 = upd (S.1 0 0) 8 0 from gsr_s) rfl)))) q1456 q1458 qs7 q25 q1459 myX3_fails ⟨by decide, by decide⟩ rfl rfl (gle rfl) 0 0 (gle rfl) (gle rfl) (gle rfl) (gle rfl) dX3_noRun_18 gx_n (gv_f (fun c_3 => ?_) (fun c_3 => ?_))
    · skip
      refine g_mono (P2 := gP 1 G (gsr (gsr S.1 0 0 (upd (S.1 0 0) 8 0)) 0 0 (upd (upd (S.1 0 0) 8 0) 8 (1 : Int32)), S.2) A Fr []) (pr_upRow (κ := 0) (i := 0) gM1 hF (upd (upd (S.1 0 0) 8 0) 8 (1 : Int32)) (by decide) (gc1 (gnl rfl)) (gce (show (gsr S.1 0 0 (upd (S.1 0 0) 8 0)) 0 0 = upd (S.1 0 0) 8 0 from gsr_s) rfl) rfl) ?_
      exact g_retI F E rfl rfl (gle rfl) (gle rfl) dX3_noRun_21 (fun _ hp => Or.inl ⟨c_3, rfl, hp⟩)
    · skip
      exact g_retI F E rfl rfl (gle rfl) (gle rfl) dX3_noRun_21 (fun _ hp => Or.inr ⟨c_3, rfl, hp⟩)
  refine gb_if_ne F (tgt := 16) (by decide) dX3_noRun_9 (fun c_1 => ?_) (fun c_1 => ?_)
  · skip
    refine g_iconst F (v := (0 : Int32)) (by decide) dX3_noRun_16 ?_
    exact g_top (gb_f (fun q => q c_1)) J_2
  · skip
    refine g_iconst F (v := (1 : Int32)) (by decide) dX3_noRun_12 ?_
    refine g_goto F (tgt := 17) (by decide) dX3_noRun_13 ?_
    exact g_top (gb_t c_1) J_2

theorem kX3_noGross {l : Launch} {G : gG} (hl : l.stackTraces = false) {S : gS} {A : Nat → Nat → Nat} {Fr : gH → Prop} (hF : gFr 1 Fr) (hW : gWf S) {x : Int32} : gMet l yX3_noGross (ws_ yX3_noGross cX3_noGross 2 (some .boolean)) ⟨2, 0, 0, 46⟩ G [.ref (A 0 0), .int x] (gP 1 G (gsr S.1 0 0 (upd (S.1 0 0) 8 0), S.2) A Fr []) (gqF (¬ gIn x (S.2 11)) (gP 1 G (gsr (gsr S.1 0 0 (upd (S.1 0 0) 8 0)) 0 0 (upd (upd (S.1 0 0) 8 0) 8 1), S.2) A Fr []) (gP 1 G (gsr S.1 0 0 (upd (S.1 0 0) 8 0), S.2) A Fr [])) gxN := by
  refine gMet_of hl pnX3 (gle rfl) (fun X Q hX F E hNm => ?_)
  subst hX
  change gW (X, G, 2, Q) (gP 1 G (gsr S.1 0 0 (upd (S.1 0 0) 8 0), S.2) A Fr []) [(0, .ref (A 0 0)), (1, .int x)] 0 [] 0 0
  refine g_aload_n F 0 rfl rfl dX3_noGross_0 ?_
  refine g_aload_n F 0 rfl rfl dX3_noGross_1 ?_
  refine g_get F clX3 12 (by decide) q1401 (v := .ref (A 311 0)) (gd_get (pr_at (κ := 0) (i := 0) (by decide) (gc1 (gnl rfl)) (gce (show (gsr S.1 0 0 (upd (S.1 0 0) 8 0)) 0 0 = upd (S.1 0 0) 8 0 from gsr_s) rfl)) rfl) dX3_noGross_2 ?_
  refine g_iload_n F 1 rfl rfl dX3_noGross_5 ?_
  refine g_callS F (kX3_isOf hl (pr_ls (M := 1) (S := (gsr S.1 0 0 (upd (S.1 0 0) 8 0), S.2)) (A := A) (κ := 11) (by decide) (Or.inl ⟨by decide, by decide⟩) (fun q => by first | decide | exact absurd q (by decide)) (fun q => by first | decide | exact absurd q (by decide))) (gw_n hW _) (x := x)) (lw_S q1502 q1503 q25 q1504) myX3_isOf ⟨by decide, by decide⟩ rfl rfl (gle rfl) 0 0 (gle rfl) (gle rfl) (gle rfl) (gle rfl) dX3_noGross_6 gx_n (gv_i ?_)
  have J_2 : gW (X, G, 2, Q) (gP 1 G (gsr S.1 0 0 (upd (S.1 0 0) 8 0), S.2) A Fr []) [(0, .ref (A 0 0)), (1, .int x)] 17 [.int (gb (¬ (gIn x (S.2 11)))), .ref (A 0 0)] 0 0 := by
    refine g_iconst F (v := (1 : Int32)) (by decide) dX3_noGross_17 ?_
    refine g_callV F (kX3_fails hl (b := gb (¬ (gIn x (S.2 11)))) (nu := (1 : Int32)) (c := ¬ (gIn x (S.2 11))) gb_n0 (by decide) (pr_at (κ := 0) (i := 0) (by decide) (gc1 (gnl rfl)) (gce (show (gsr S.1 0 0 (upd (S.1 0 0) 8 0)) 0 0 = upd (S.1 0 0) 8 0 from gsr_s) rfl))) (g_recv F clX3 (gd_obj (pr_at (κ := 0) (i := 0) (by decide) (gc1 (gnl rfl)) (gce (show (gsr S.1 0 0 (upd (S.1 0 0) 8 0)) 0 0 = upd (S.1 0 0) 8 0 from gsr_s) rfl)))) q1456 q1458 qs7 q25 q1459 myX3_fails ⟨by decide, by decide⟩ rfl rfl (gle rfl) 0 0 (gle rfl) (gle rfl) (gle rfl) (gle rfl) dX3_noGross_18 gx_n (gv_f (fun c_3 => ?_) (fun c_3 => ?_))
    · skip
      refine g_mono (P2 := gP 1 G (gsr (gsr S.1 0 0 (upd (S.1 0 0) 8 0)) 0 0 (upd (upd (S.1 0 0) 8 0) 8 (1 : Int32)), S.2) A Fr []) (pr_upRow (κ := 0) (i := 0) gM1 hF (upd (upd (S.1 0 0) 8 0) 8 (1 : Int32)) (by decide) (gc1 (gnl rfl)) (gce (show (gsr S.1 0 0 (upd (S.1 0 0) 8 0)) 0 0 = upd (S.1 0 0) 8 0 from gsr_s) rfl) rfl) ?_
      exact g_retI F E rfl rfl (gle rfl) (gle rfl) dX3_noGross_21 (fun _ hp => Or.inl ⟨c_3, rfl, hp⟩)
    · skip
      exact g_retI F E rfl rfl (gle rfl) (gle rfl) dX3_noGross_21 (fun _ hp => Or.inr ⟨c_3, rfl, hp⟩)
  refine gb_if_ne F (tgt := 16) (by decide) dX3_noGross_9 (fun c_1 => ?_) (fun c_1 => ?_)
  · skip
    refine g_iconst F (v := (0 : Int32)) (by decide) dX3_noGross_16 ?_
    exact g_top (gb_f (fun q => q c_1)) J_2
  · skip
    refine g_iconst F (v := (1 : Int32)) (by decide) dX3_noGross_12 ?_
    refine g_goto F (tgt := 17) (by decide) dX3_noGross_13 ?_
    exact g_top (gb_t c_1) J_2

theorem kX3_isFired {l : Launch} {G : gG} (hl : l.stackTraces = false) {P : gH → Prop} {a b : Nat} {ck rd fi : Int32} {v0 v1 v2 v3 v5 v7 v8 v9 v10 w0 w2 w3 w4 w5 w6 w7 w8 w9 w10 w11 w12 w13 w14 w15 w16 w17 : Value} (ha : gAt P a (.inr (2, [w0, .int ck, w2, w3, w4, w5, w6, w7, w8, w9, w10, w11, w12, w13, w14, w15, w16, w17]))) (hb : gAt P b (.inr (7, [v0, v1, v2, v3, .int rd, v5, .int fi, v7, v8, v9, v10]))) : gMet l yX3_isFired (ws_ yX3_isFired cX3_isFired 2 (some .boolean)) ⟨0, 0, 0, 0⟩ G [.ref a, .ref b] P (gqI (.int (gb (¬ (fi = (-1 : Int32)) ∧ ¬ (ck < rd)))) P) gxN := by
  refine gMet_of hl pnX3 (gle rfl) (fun X Q hX F E hNm => ?_)
  subst hX
  change gW (X, G, 2, Q) P [(0, .ref a), (1, .ref b)] 0 [] 0 0
  refine g_aload_n F 1 rfl rfl dX3_isFired_0 ?_
  refine g_getN F clX10 6 (by decide) (gT_w q1537 rfl) (v := .int fi) (gd_get hb rfl) dX3_isFired_1 ?_
  refine g_iconst F (v := (-1 : Int32)) (by decide) dX3_isFired_4 ?_
  have J_3 : gW (X, G, 2, Q) P [(0, .ref a), (1, .ref b)] 24 [.int (gb (¬ (fi = (-1 : Int32)) ∧ (¬ (ck < rd))))] 0 0 := by
    exact g_retI F E rfl gb_z (gle rfl) (gle rfl) dX3_isFired_24 (fun _ hp => ⟨rfl, hp⟩)
  refine g_icmp_eq F (tgt := 23) (by decide) dX3_isFired_5 (fun c_1 => ?_) (fun c_1 => ?_)
  · skip
    refine g_iconst F (v := (0 : Int32)) (by decide) dX3_isFired_23 ?_
    exact g_top (gb_f (fun q => q.1 c_1)) J_3
  · skip
    refine g_aload_n F 0 rfl rfl dX3_isFired_8 ?_
    refine g_get F clX3 1 (by decide) q1390 (v := .int ck) (gd_get ha rfl) dX3_isFired_9 ?_
    refine g_aload_n F 1 rfl rfl dX3_isFired_12 ?_
    refine g_getN F clX10 4 (by decide) (gT_w q1534 rfl) (v := .int rd) (gd_get hb rfl) dX3_isFired_13 ?_
    refine g_icmp_lt F (tgt := 23) (by decide) dX3_isFired_16 (fun c_2 => ?_) (fun c_2 => ?_)
    · skip
      refine g_iconst F (v := (0 : Int32)) (by decide) dX3_isFired_23 ?_
      exact g_top (gb_f (fun q => (fun q => q c_2) q.2)) J_3
    · skip
      refine g_iconst F (v := (1 : Int32)) (by decide) dX3_isFired_19 ?_
      refine g_goto F (tgt := 24) (by decide) dX3_isFired_20 ?_
      exact g_top (gb_t (⟨c_1, c_2⟩)) J_3

theorem kX3_tells {l : Launch} {G : gG} (hl : l.stackTraces = false) {P : gH → Prop} {a b : Nat} {dr bi dk : Int32} {v0 v1 v2 v3 v4 v5 v6 v7 v8 v9 w0 w1 w2 w3 w4 w5 w6 w7 w8 w9 w10 w11 w12 w13 w14 w17 : Value} (ha : gAt P a (.inr (2, [w0, w1, w2, w3, w4, w5, w6, w7, w8, w9, w10, w11, w12, w13, w14, .int dr, .int bi, w17]))) (hb : gAt P b (.inr (7, [v0, v1, v2, v3, v4, v5, v6, v7, v8, v9, .int dk]))) : gMet l yX3_tells (ws_ yX3_tells cX3_tells 3 (some .int)) ⟨1, 0, 0, 13⟩ G [.ref a, .ref b] P (gqI (.int (gmin 999 (dk + bi))) (gUp P a (.inr (2, [w0, w1, w2, w3, w4, w5, w6, w7, w8, w9, w10, w11, w12, w13, w14, .int dr, .int bi, w17])) (.inr (2, [w0, w1, w2, w3, w4, w5, w6, w7, w8, w9, w10, w11, w12, w13, w14, .int (dr + 1), .int (gnb bi dr), w17])))) gxN := by
  refine gMet_of hl pnX3 (gle rfl) (fun X Q hX F E hNm => ?_)
  subst hX
  change gW (X, G, 3, Q) P [(0, .ref a), (1, .ref b)] 0 [] 0 0
  refine g_mono (gUp_0 ha) ?_
  refine g_sipush F (v := (999 : Int32)) (by decide) dX3_tells_0 ?_
  refine g_aload_n F 1 rfl rfl dX3_tells_3 ?_
  refine g_getN F clX10 10 (by decide) (gT_w q1541 rfl) (v := .int dk) (gd_get (gUp_rd hb (by intro q; injection q with q; injection q with q1 q2; exact absurd q1 (by decide))) rfl) dX3_tells_4 ?_
  refine g_aload_n F 0 rfl rfl dX3_tells_7 ?_
  refine g_get F clX3 16 (by decide) q1405 (v := .int bi) (gd_get gUp_at rfl) dX3_tells_8 ?_
  refine g_iadd F dX3_tells_11 ?_
  refine g_mmin F q1512 (gle rfl) (gle rfl) (gle rfl) (gle rfl) dX3_tells_12 ?_
  refine g_istore_n F rfl (by show 2 < 3; decide) (lv2 := [(2, .int (gmin (999 : Int32) (dk + bi))), (0, .ref a), (1, .ref b)]) rfl dX3_tells_15 ?_
  refine g_aload_n F 1 rfl rfl dX3_tells_16 ?_
  refine g_dup F rfl dX3_tells_17 ?_
  refine g_get F clX3 15 (by decide) q1404 (v := .int dr) (gd_get gUp_at rfl) dX3_tells_18 ?_
  refine g_iconst F (v := (1 : Int32)) (by decide) dX3_tells_21 ?_
  refine g_iadd F dX3_tells_22 ?_
  refine g_put (P2 := (gUp P a (.inr (2, [w0, w1, w2, w3, w4, w5, w6, w7, w8, w9, w10, w11, w12, w13, w14, .int dr, .int bi, w17])) (.inr (2, [w0, w1, w2, w3, w4, w5, w6, w7, w8, w9, w10, w11, w12, w13, w14, .int (dr + (1 : Int32)), .int bi, w17])))) F clX3 15 (by decide) q1404 rfl rfl rfl (gUp_put (gnl rfl)) dX3_tells_23 ?_
  refine g_aload_n F 1 rfl rfl dX3_tells_26 ?_
  refine g_dup F rfl dX3_tells_27 ?_
  refine g_get F clX3 16 (by decide) q1405 (v := .int bi) (gd_get gUp_at rfl) dX3_tells_28 ?_
  refine g_aload_n F 1 rfl rfl dX3_tells_31 ?_
  refine g_get F clX3 15 (by decide) q1404 (v := .int (dr + (1 : Int32))) (gd_get gUp_at rfl) dX3_tells_32 ?_
  refine g_bipush F (v := (8 : Int32)) (by decide) dX3_tells_35 ?_
  refine g_irem F (by decide) dX3_tells_37 ?_
  have J_2 : gW (X, G, 3, Q) (gUp P a (.inr (2, [w0, w1, w2, w3, w4, w5, w6, w7, w8, w9, w10, w11, w12, w13, w14, .int dr, .int bi, w17])) (.inr (2, [w0, w1, w2, w3, w4, w5, w6, w7, w8, w9, w10, w11, w12, w13, w14, .int (dr + (1 : Int32)), .int bi, w17]))) [(2, .int (gmin (999 : Int32) (dk + bi))), (0, .ref a), (1, .ref b)] 46 [.int (if ((dr + (1 : Int32)) - (dr + (1 : Int32)) / (8 : Int32) * (8 : Int32)) = 0 then (3 : Int32) else (0 : Int32)), .int bi, .ref a] 0 0 := by
    refine g_iadd F dX3_tells_46 ?_
    refine g_put (P2 := (gUp P a (.inr (2, [w0, w1, w2, w3, w4, w5, w6, w7, w8, w9, w10, w11, w12, w13, w14, .int dr, .int bi, w17])) (.inr (2, [w0, w1, w2, w3, w4, w5, w6, w7, w8, w9, w10, w11, w12, w13, w14, .int (dr + (1 : Int32)), .int (bi + (if ((dr + (1 : Int32)) - (dr + (1 : Int32)) / (8 : Int32) * (8 : Int32)) = 0 then (3 : Int32) else (0 : Int32))), w17])))) F clX3 16 (by decide) q1405 rfl rfl rfl (gUp_put (gnl rfl)) dX3_tells_47 ?_
    refine g_iload_n F 0 rfl rfl dX3_tells_50 ?_
    exact g_retI F E rfl rfl (gle rfl) (gle rfl) dX3_tells_51 (fun _ hp => ⟨rfl, hp⟩)
  refine g_if_ne F (tgt := 45) (by decide) dX3_tells_38 (fun c_1 => ?_) (fun c_1 => ?_)
  · skip
    refine g_iconst F (v := (0 : Int32)) (by decide) dX3_tells_45 ?_
    exact g_top (by rw [if_neg c_1]) J_2
  · skip
    refine g_iconst F (v := (3 : Int32)) (by decide) dX3_tells_41 ?_
    refine g_goto F (tgt := 46) (by decide) dX3_tells_42 ?_
    exact g_top (by rw [if_pos c_1]) J_2

theorem kX3_fineness {l : Launch} {G : gG} (hl : l.stackTraces = false) {P : gH → Prop} {a b a1 t1 t2 len : Nat} {el : Nat → Nat} {mi : Int32} {f : Nat → Int32} {w0 w1 w2 w3 w4 w5 w7 w8 w9 w10 w11 w12 w13 w14 w15 w16 w17 v1 v2 v3 v4 v5 v6 v7 v8 v9 v10 : Value} (ha : gAt P a (.inr (2, [w0, w1, w2, w3, w4, w5, .ref a1, w7, w8, w9, w10, w11, w12, w13, w14, w15, w16, w17]))) (hb : gAt P b (.inr (7, [.int mi, v1, v2, v3, v4, v5, v6, v7, v8, v9, v10]))) (hls : ∀ h, P h → gLs G h t1 t2 a1 len el) (hlen : len ≤ 150) (hi : gIn mi len) (hm : gAt P (el mi.toNatClampNeg) (gIA G 5 f)) : gMet l yX3_fineness (ws_ yX3_fineness cX3_fineness 2 (some .int)) ⟨3, 0, 0, 64⟩ G [.ref a, .ref b] P (gqI (.int (f 3)) P) gxN := by
  refine gMet_of hl pnX3 (gle rfl) (fun X Q hX F E hNm => ?_)
  subst hX
  change gW (X, G, 2, Q) P [(0, .ref a), (1, .ref b)] 0 [] 0 0
  refine g_aload_n F 0 rfl rfl dX3_fineness_0 ?_
  refine g_get F clX3 6 (by decide) q1395 (v := .ref a1) (gd_get ha rfl) dX3_fineness_1 ?_
  refine g_aload_n F 1 rfl rfl dX3_fineness_4 ?_
  refine g_getN F clX10 0 (by decide) (gT_w q1530 rfl) (v := .int mi) (gd_get hb rfl) dX3_fineness_5 ?_
  refine g_callF F clJ3 (kJ3_get hl hls (j := mi.toNatClampNeg) hi.2 hlen rfl hi.1) (g_recv F clJ3 (gls_obj hls)) q1506 q809 q811 q22 q813 (List.mem_of_getElem? (i := 1) rfl) (gT_w q812 rfl) (gT_w q810 rfl) (gT_w q293 rfl) gface_1 ⟨by decide, by decide⟩ rfl rfl (gle rfl) 0 0 (gle rfl) (gle rfl) (gle rfl) (gle rfl) dX3_fineness_8 gx_n (gv_i ?_)
  refine g_castS F (g_recvI F hm) q1507 dX3_fineness_13 ?_
  refine g_iconst F (v := (3 : Int32)) (by decide) dX3_fineness_16 ?_
  refine g_ialdN F (m := 3) rfl (by decide) (by decide) hm dX3_fineness_17 ?_
  change gW _ _ _ _ (.int (f 3) :: _) _ _
  exact g_retI F E rfl rfl (gle rfl) (gle rfl) dX3_fineness_18 (fun _ hp => ⟨rfl, hp⟩)

def sM_thrown (S : gS)  : Value × gS := (.int (S.1 0 0 8), S)
theorem kX3_thrown {l : Launch} {G : gG} (hl : l.stackTraces = false) {S : gS} {a0 : Nat} {Fr : gH → Prop} (hF : gFr 1 Fr) (hW : gWf S)   : gMet l yX3_thrown (ws_ yX3_thrown cX3_thrown 1 (some .int)) ⟨0, 0, 0, 0⟩ G [.ref a0] (gPE 1 G S a0 Fr) (gqN (sM_thrown S ) G a0 Fr) gxN := by
  refine gMet_of hl pnX3 (gle rfl) (fun X Q hX F E hNm => ?_)
  subst hX
  change gW (X, G, 1, Q) (gPE 1 G S a0 Fr) [(0, .ref a0)] 0 [] 0 0
  refine g_pe (fun A hA => ?_)
  subst hA
  change gW _ _ [(0, .ref (A 0 0))] 0 [] 0 0
  refine g_aload_n F 0 rfl rfl dX3_thrown_0 ?_
  refine g_get F clX3 0 (by decide) q1389 (v := .int (S.1 0 0 8)) (gd_get (pr_at (κ := 0) (i := 0) (by decide) (gc1 (gnl rfl)) (gce rfl rfl)) rfl) dX3_thrown_1 ?_
  exact g_retI F E rfl rfl (gle rfl) (gle rfl) dX3_thrown_4 (fun _ hp => ⟨_, _, rfl, rfl, ⟨A, rfl, gP_T0 hp⟩⟩)

def sM_go (S : gS) (hours : Int32) : Value × gS := if ¬ (¬ hours < (1 : Int32) ∧ ¬ (500 : Int32) < hours) then (.int (-1 : Int32), (gsr (gsr S.1 0 0 (upd (S.1 0 0) 8 0)) 0 0 (upd (upd (S.1 0 0) 8 0) 8 (1 : Int32)), S.2)) else (if ¬ (((S.1 0 0 0) + hours) ≤ (9999 : Int32)) then (.int (-1 : Int32), (gsr (gsr S.1 0 0 (upd (S.1 0 0) 8 0)) 0 0 (upd (upd (S.1 0 0) 8 0) 8 (2 : Int32)), S.2)) else (.int ((S.1 0 0 0) + hours), (gsr (gsr S.1 0 0 (upd (S.1 0 0) 8 0)) 0 0 (upd (upd (S.1 0 0) 8 0) 0 ((S.1 0 0 0) + hours)), S.2)))
theorem kX3_go {l : Launch} {G : gG} (hl : l.stackTraces = false) {S : gS} {a0 : Nat} {Fr : gH → Prop} (hF : gFr 1 Fr) (hW : gWf S) {hours : Int32}  : gMet l yX3_go (ws_ yX3_go cX3_go 2 (some .int)) ⟨1, 0, 0, 25⟩ G [.ref a0, .int hours] (gPE 1 G S a0 Fr) (gqN (sM_go S hours) G a0 Fr) gxN := by
  refine gMet_of hl pnX3 (gle rfl) (fun X Q hX F E hNm => ?_)
  subst hX
  change gW (X, G, 2, Q) (gPE 1 G S a0 Fr) [(0, .ref a0), (1, .int hours)] 0 [] 0 0
  refine g_pe (fun A hA => ?_)
  subst hA
  change gW _ _ [(0, .ref (A 0 0)), (1, .int hours)] 0 [] 0 0
  refine g_aload_n F 0 rfl rfl dX3_go_0 ?_
  refine g_callV F (kX3_begins hl (pr_at (κ := 0) (i := 0) (by decide) (gc1 (gnl rfl)) (gce rfl rfl))) (g_recv F clX3 (gd_obj (pr_at (κ := 0) (i := 0) (by decide) (gc1 (gnl rfl)) (gce rfl rfl)))) q1448 q1450 qs6 q25 q1451 myX3_begins ⟨by decide, by decide⟩ rfl rfl (gle rfl) 0 0 (gle rfl) (gle rfl) (gle rfl) (gle rfl) dX3_go_1 gx_n (gv_v ?_)
  refine g_mono (P2 := gP 1 G (gsr S.1 0 0 (upd (S.1 0 0) 8 0), S.2) A Fr []) (pr_upRow (κ := 0) (i := 0) gM1 hF (upd (S.1 0 0) 8 0) (by decide) (gc1 (gnl rfl)) (gce rfl rfl) rfl) ?_
  refine g_aload_n F 0 rfl rfl dX3_go_4 ?_
  refine g_iload_n F 1 rfl rfl dX3_go_5 ?_
  refine g_i2l F dX3_go_6 ?_
  refine g_lconst F (v := (1 : Int64)) (by decide) dX3_go_7 ?_
  refine g_ldc2 F (v := (500 : Int64)) q1452 dX3_go_8 ?_
  refine g_callS F (kX3_in hl (x := hours) (lo := (1 : Int32)) (hi := (500 : Int32)) (by decide) (by decide)) (lw_S q1453 q1454 q25 q1455) myX3_in ⟨by decide, by decide⟩ rfl rfl (gle rfl) 0 0 (gle rfl) (gle rfl) (gle rfl) (gle rfl) dX3_go_11 gx_n (gv_i ?_)
  have J_2 : gW (X, G, 2, Q) (gP 1 G (gsr S.1 0 0 (upd (S.1 0 0) 8 0), S.2) A Fr []) [(0, .ref (A 0 0)), (1, .int hours)] 22 [.int (gb (¬ (¬ hours < (1 : Int32) ∧ ¬ (500 : Int32) < hours))), .ref (A 0 0)] 0 0 := by
    refine g_iconst F (v := (1 : Int32)) (by decide) dX3_go_22 ?_
    refine g_callV F (kX3_fails hl (b := gb (¬ (¬ hours < (1 : Int32) ∧ ¬ (500 : Int32) < hours))) (nu := (1 : Int32)) (c := ¬ (¬ hours < (1 : Int32) ∧ ¬ (500 : Int32) < hours)) gb_n0 (by decide) (pr_at (κ := 0) (i := 0) (by decide) (gc1 (gnl rfl)) (gce (show (gsr S.1 0 0 (upd (S.1 0 0) 8 0)) 0 0 = upd (S.1 0 0) 8 0 from gsr_s) rfl))) (g_recv F clX3 (gd_obj (pr_at (κ := 0) (i := 0) (by decide) (gc1 (gnl rfl)) (gce (show (gsr S.1 0 0 (upd (S.1 0 0) 8 0)) 0 0 = upd (S.1 0 0) 8 0 from gsr_s) rfl)))) q1456 q1458 qs7 q25 q1459 myX3_fails ⟨by decide, by decide⟩ rfl rfl (gle rfl) 0 0 (gle rfl) (gle rfl) (gle rfl) (gle rfl) dX3_go_23 gx_n (gv_f (fun c_3 => ?_) (fun c_3 => ?_))
    · skip
      refine g_mono (P2 := gP 1 G (gsr (gsr S.1 0 0 (upd (S.1 0 0) 8 0)) 0 0 (upd (upd (S.1 0 0) 8 0) 8 (1 : Int32)), S.2) A Fr []) (pr_upRow (κ := 0) (i := 0) gM1 hF (upd (upd (S.1 0 0) 8 0) 8 (1 : Int32)) (by decide) (gc1 (gnl rfl)) (gce (show (gsr S.1 0 0 (upd (S.1 0 0) 8 0)) 0 0 = upd (S.1 0 0) 8 0 from gsr_s) rfl) rfl) ?_
      refine g_if_ne F (tgt := 54) (by decide) dX3_go_26 (fun _ => ?_) (fun c => absurd c (by decide))
      refine g_iconst F (v := (-1 : Int32)) (by decide) dX3_go_54 ?_
      exact g_retI F E rfl rfl (gle rfl) (gle rfl) dX3_go_55 (fun _ hp => ⟨_, _, (if_pos c_3), rfl, ⟨A, rfl, gP_T0 hp⟩⟩)
    · skip
      refine g_if_ne F (tgt := 54) (by decide) dX3_go_26 (fun c => absurd c (by decide)) (fun _ => ?_)
      refine g_aload_n F 0 rfl rfl dX3_go_29 ?_
      refine g_aload_n F 0 rfl rfl dX3_go_30 ?_
      refine g_get F clX3 1 (by decide) q1390 (v := .int (S.1 0 0 0)) (gd_get (pr_at (κ := 0) (i := 0) (by decide) (gc1 (gnl rfl)) (gce (show (gsr S.1 0 0 (upd (S.1 0 0) 8 0)) 0 0 = upd (S.1 0 0) 8 0 from gsr_s) rfl)) rfl) dX3_go_31 ?_
      refine g_iload_n F 1 rfl rfl dX3_go_34 ?_
      refine g_iadd F dX3_go_35 ?_
      refine g_sipush F (v := (9999 : Int32)) (by decide) dX3_go_36 ?_
      have J_5 : gW (X, G, 2, Q) (gP 1 G (gsr S.1 0 0 (upd (S.1 0 0) 8 0), S.2) A Fr []) [(0, .ref (A 0 0)), (1, .int hours)] 47 [.int (gb (¬ (((S.1 0 0 0) + hours) ≤ (9999 : Int32)))), .ref (A 0 0)] 0 0 := by
        refine g_iconst F (v := (2 : Int32)) (by decide) dX3_go_47 ?_
        refine g_callV F (kX3_fails hl (b := gb (¬ (((S.1 0 0 0) + hours) ≤ (9999 : Int32)))) (nu := (2 : Int32)) (c := ¬ (((S.1 0 0 0) + hours) ≤ (9999 : Int32))) gb_n0 (by decide) (pr_at (κ := 0) (i := 0) (by decide) (gc1 (gnl rfl)) (gce (show (gsr S.1 0 0 (upd (S.1 0 0) 8 0)) 0 0 = upd (S.1 0 0) 8 0 from gsr_s) rfl))) (g_recv F clX3 (gd_obj (pr_at (κ := 0) (i := 0) (by decide) (gc1 (gnl rfl)) (gce (show (gsr S.1 0 0 (upd (S.1 0 0) 8 0)) 0 0 = upd (S.1 0 0) 8 0 from gsr_s) rfl)))) q1456 q1458 qs7 q25 q1459 myX3_fails ⟨by decide, by decide⟩ rfl rfl (gle rfl) 0 0 (gle rfl) (gle rfl) (gle rfl) (gle rfl) dX3_go_48 gx_n (gv_f (fun c_6 => ?_) (fun c_6 => ?_))
        · skip
          refine g_mono (P2 := gP 1 G (gsr (gsr S.1 0 0 (upd (S.1 0 0) 8 0)) 0 0 (upd (upd (S.1 0 0) 8 0) 8 (2 : Int32)), S.2) A Fr []) (pr_upRow (κ := 0) (i := 0) gM1 hF (upd (upd (S.1 0 0) 8 0) 8 (2 : Int32)) (by decide) (gc1 (gnl rfl)) (gce (show (gsr S.1 0 0 (upd (S.1 0 0) 8 0)) 0 0 = upd (S.1 0 0) 8 0 from gsr_s) rfl) rfl) ?_
          refine g_if_eq F (tgt := 56) (by decide) dX3_go_51 (fun c => absurd c (by decide)) (fun _ => ?_)
          refine g_iconst F (v := (-1 : Int32)) (by decide) dX3_go_54 ?_
          exact g_retI F E rfl rfl (gle rfl) (gle rfl) dX3_go_55 (fun _ hp => ⟨_, _, ((if_neg c_3).trans (if_pos c_6)), rfl, ⟨A, rfl, gP_T0 hp⟩⟩)
        · skip
          refine g_if_eq F (tgt := 56) (by decide) dX3_go_51 (fun _ => ?_) (fun c => absurd c (by decide))
          refine g_aload_n F 0 rfl rfl dX3_go_56 ?_
          refine g_dup F rfl dX3_go_57 ?_
          refine g_get F clX3 1 (by decide) q1390 (v := .int (S.1 0 0 0)) (gd_get (pr_at (κ := 0) (i := 0) (by decide) (gc1 (gnl rfl)) (gce (show (gsr S.1 0 0 (upd (S.1 0 0) 8 0)) 0 0 = upd (S.1 0 0) 8 0 from gsr_s) rfl)) rfl) dX3_go_58 ?_
          refine g_iload_n F 1 rfl rfl dX3_go_61 ?_
          refine g_iadd F dX3_go_62 ?_
          refine g_put (P2 := gP 1 G (gsr (gsr S.1 0 0 (upd (S.1 0 0) 8 0)) 0 0 (upd (upd (S.1 0 0) 8 0) 0 ((S.1 0 0 0) + hours)), S.2) A Fr []) F clX3 1 (by decide) q1390 rfl rfl rfl (pr_put (κ := 0) (i := 0) gM1 hF (upd (upd (S.1 0 0) 8 0) 0 ((S.1 0 0 0) + hours)) (by decide) (gc1 (gnl rfl)) (gce (show (gsr S.1 0 0 (upd (S.1 0 0) 8 0)) 0 0 = upd (S.1 0 0) 8 0 from gsr_s) rfl) (gnl rfl) rfl) dX3_go_63 ?_
          refine g_aload_n F 0 rfl rfl dX3_go_66 ?_
          refine g_get F clX3 1 (by decide) q1390 (v := .int ((S.1 0 0 0) + hours)) (gd_get (pr_at (κ := 0) (i := 0) (by decide) (gc1 (gnl rfl)) (gce (show (gsr (gsr S.1 0 0 (upd (S.1 0 0) 8 0)) 0 0 (upd (upd (S.1 0 0) 8 0) 0 ((S.1 0 0 0) + hours))) 0 0 = upd (upd (S.1 0 0) 8 0) 0 ((S.1 0 0 0) + hours) from gsr_s) rfl)) rfl) dX3_go_67 ?_
          exact g_retI F E rfl rfl (gle rfl) (gle rfl) dX3_go_70 (fun _ hp => ⟨_, _, ((if_neg c_3).trans (if_neg c_6)), rfl, ⟨A, rfl, gP_T0 hp⟩⟩)
      refine g_icmp_le F (tgt := 46) (by decide) dX3_go_39 (fun c_4 => ?_) (fun c_4 => ?_)
      · skip
        refine g_iconst F (v := (0 : Int32)) (by decide) dX3_go_46 ?_
        exact g_top (gb_f (fun q => q c_4)) J_5
      · skip
        refine g_iconst F (v := (1 : Int32)) (by decide) dX3_go_42 ?_
        refine g_goto F (tgt := 47) (by decide) dX3_go_43 ?_
        exact g_top (gb_t c_4) J_5
  refine gb_if_ne F (tgt := 21) (by decide) dX3_go_14 (fun c_1 => ?_) (fun c_1 => ?_)
  · skip
    refine g_iconst F (v := (0 : Int32)) (by decide) dX3_go_21 ?_
    exact g_top (gb_f (fun q => q c_1)) J_2
  · skip
    refine g_iconst F (v := (1 : Int32)) (by decide) dX3_go_17 ?_
    refine g_goto F (tgt := 22) (by decide) dX3_go_18 ?_
    exact g_top (gb_t c_1) J_2

def sM_worn (S : gS) (die : Int32) : Value × gS := if ¬ (¬ die < (0 : Int32) ∧ ¬ (3 : Int32) < die) then (.int (-1 : Int32), (gsr (gsr S.1 0 0 (upd (S.1 0 0) 8 0)) 0 0 (upd (upd (S.1 0 0) 8 0) 8 (1 : Int32)), S.2)) else (.int (S.1 3 0 die.toNatClampNeg), (gsr S.1 0 0 (upd (S.1 0 0) 8 0), S.2))
theorem kX3_worn {l : Launch} {G : gG} (hl : l.stackTraces = false) {S : gS} {a0 : Nat} {Fr : gH → Prop} (hF : gFr 1 Fr) (hW : gWf S) {die : Int32}  : gMet l yX3_worn (ws_ yX3_worn cX3_worn 2 (some .int)) ⟨1, 0, 0, 25⟩ G [.ref a0, .int die] (gPE 1 G S a0 Fr) (gqN (sM_worn S die) G a0 Fr) gxN := by
  refine gMet_of hl pnX3 (gle rfl) (fun X Q hX F E hNm => ?_)
  subst hX
  change gW (X, G, 2, Q) (gPE 1 G S a0 Fr) [(0, .ref a0), (1, .int die)] 0 [] 0 0
  refine g_pe (fun A hA => ?_)
  subst hA
  change gW _ _ [(0, .ref (A 0 0)), (1, .int die)] 0 [] 0 0
  refine g_aload_n F 0 rfl rfl dX3_worn_0 ?_
  refine g_callV F (kX3_begins hl (pr_at (κ := 0) (i := 0) (by decide) (gc1 (gnl rfl)) (gce rfl rfl))) (g_recv F clX3 (gd_obj (pr_at (κ := 0) (i := 0) (by decide) (gc1 (gnl rfl)) (gce rfl rfl)))) q1448 q1450 qs6 q25 q1451 myX3_begins ⟨by decide, by decide⟩ rfl rfl (gle rfl) 0 0 (gle rfl) (gle rfl) (gle rfl) (gle rfl) dX3_worn_1 gx_n (gv_v ?_)
  refine g_mono (P2 := gP 1 G (gsr S.1 0 0 (upd (S.1 0 0) 8 0), S.2) A Fr []) (pr_upRow (κ := 0) (i := 0) gM1 hF (upd (S.1 0 0) 8 0) (by decide) (gc1 (gnl rfl)) (gce rfl rfl) rfl) ?_
  refine g_aload_n F 0 rfl rfl dX3_worn_4 ?_
  refine g_iload_n F 1 rfl rfl dX3_worn_5 ?_
  refine g_i2l F dX3_worn_6 ?_
  refine g_lconst F (v := (0 : Int64)) (by decide) dX3_worn_7 ?_
  refine g_ldc2 F (v := (3 : Int64)) q1523 dX3_worn_8 ?_
  refine g_callS F (kX3_in hl (x := die) (lo := (0 : Int32)) (hi := (3 : Int32)) (by decide) (by decide)) (lw_S q1453 q1454 q25 q1455) myX3_in ⟨by decide, by decide⟩ rfl rfl (gle rfl) 0 0 (gle rfl) (gle rfl) (gle rfl) (gle rfl) dX3_worn_11 gx_n (gv_i ?_)
  have J_2 : gW (X, G, 2, Q) (gP 1 G (gsr S.1 0 0 (upd (S.1 0 0) 8 0), S.2) A Fr []) [(0, .ref (A 0 0)), (1, .int die)] 22 [.int (gb (¬ (¬ die < (0 : Int32) ∧ ¬ (3 : Int32) < die))), .ref (A 0 0)] 0 0 := by
    refine g_iconst F (v := (1 : Int32)) (by decide) dX3_worn_22 ?_
    refine g_callV F (kX3_fails hl (b := gb (¬ (¬ die < (0 : Int32) ∧ ¬ (3 : Int32) < die))) (nu := (1 : Int32)) (c := ¬ (¬ die < (0 : Int32) ∧ ¬ (3 : Int32) < die)) gb_n0 (by decide) (pr_at (κ := 0) (i := 0) (by decide) (gc1 (gnl rfl)) (gce (show (gsr S.1 0 0 (upd (S.1 0 0) 8 0)) 0 0 = upd (S.1 0 0) 8 0 from gsr_s) rfl))) (g_recv F clX3 (gd_obj (pr_at (κ := 0) (i := 0) (by decide) (gc1 (gnl rfl)) (gce (show (gsr S.1 0 0 (upd (S.1 0 0) 8 0)) 0 0 = upd (S.1 0 0) 8 0 from gsr_s) rfl)))) q1456 q1458 qs7 q25 q1459 myX3_fails ⟨by decide, by decide⟩ rfl rfl (gle rfl) 0 0 (gle rfl) (gle rfl) (gle rfl) (gle rfl) dX3_worn_23 gx_n (gv_f (fun c_3 => ?_) (fun c_3 => ?_))
    · skip
      refine g_mono (P2 := gP 1 G (gsr (gsr S.1 0 0 (upd (S.1 0 0) 8 0)) 0 0 (upd (upd (S.1 0 0) 8 0) 8 (1 : Int32)), S.2) A Fr []) (pr_upRow (κ := 0) (i := 0) gM1 hF (upd (upd (S.1 0 0) 8 0) 8 (1 : Int32)) (by decide) (gc1 (gnl rfl)) (gce (show (gsr S.1 0 0 (upd (S.1 0 0) 8 0)) 0 0 = upd (S.1 0 0) 8 0 from gsr_s) rfl) rfl) ?_
      refine g_if_eq F (tgt := 33) (by decide) dX3_worn_26 (fun c => absurd c (by decide)) (fun _ => ?_)
      refine g_iconst F (v := (-1 : Int32)) (by decide) dX3_worn_29 ?_
      refine g_goto F (tgt := 39) (by decide) dX3_worn_30 ?_
      exact g_retI F E rfl rfl (gle rfl) (gle rfl) dX3_worn_39 (fun _ hp => ⟨_, _, (if_pos c_3), rfl, ⟨A, rfl, gP_T0 hp⟩⟩)
    · skip
      refine g_if_eq F (tgt := 33) (by decide) dX3_worn_26 (fun _ => ?_) (fun c => absurd c (by decide))
      refine g_aload_n F 0 rfl rfl dX3_worn_33 ?_
      refine g_get F clX3 7 (by decide) q1396 (v := .ref (A 3 0)) (gd_get (pr_at (κ := 0) (i := 0) (by decide) (gc1 (gnl rfl)) (gce (show (gsr S.1 0 0 (upd (S.1 0 0) 8 0)) 0 0 = upd (S.1 0 0) 8 0 from gsr_s) rfl)) rfl) dX3_worn_34 ?_
      refine g_iload_n F 1 rfl rfl dX3_worn_37 ?_
      refine g_iald F (gvp (K := 3) (by decide) ⟨(Decidable.not_not.mp c_3).1, (Decidable.not_not.mp c_3).2⟩) (pr_at (κ := 3) (i := 0) (by decide) (gc1 (gnl rfl)) (gce (show (gsr S.1 0 0 (upd (S.1 0 0) 8 0)) 3 0 = S.1 3 0 from (gsr_p (by decide) rfl)) rfl)) dX3_worn_38 ?_
      change gW _ _ _ _ (.int (S.1 3 0 die.toNatClampNeg) :: _) _ _
      exact g_retI F E rfl rfl (gle rfl) (gle rfl) dX3_worn_39 (fun _ hp => ⟨_, _, (if_neg c_3), rfl, ⟨A, rfl, gP_T0 hp⟩⟩)
  refine gb_if_ne F (tgt := 21) (by decide) dX3_worn_14 (fun c_1 => ?_) (fun c_1 => ?_)
  · skip
    refine g_iconst F (v := (0 : Int32)) (by decide) dX3_worn_21 ?_
    exact g_top (gb_f (fun q => q c_1)) J_2
  · skip
    refine g_iconst F (v := (1 : Int32)) (by decide) dX3_worn_17 ?_
    refine g_goto F (tgt := 22) (by decide) dX3_worn_18 ?_
    exact g_top (gb_t c_1) J_2

def sM_renew (S : gS) (die : Int32) : Value × gS := if ¬ (¬ die < (0 : Int32) ∧ ¬ (3 : Int32) < die) then (.int (-1 : Int32), (gsr (gsr S.1 0 0 (upd (S.1 0 0) 8 0)) 0 0 (upd (upd (S.1 0 0) 8 0) 8 (1 : Int32)), S.2)) else (.int (S.1 3 0 die.toNatClampNeg), (gsr (gsr S.1 0 0 (upd (S.1 0 0) 8 0)) 3 0 (upd (S.1 3 0) die.toNatClampNeg (0 : Int32)), S.2))
theorem kX3_renew {l : Launch} {G : gG} (hl : l.stackTraces = false) {S : gS} {a0 : Nat} {Fr : gH → Prop} (hF : gFr 1 Fr) (hW : gWf S) {die : Int32}  : gMet l yX3_renew (ws_ yX3_renew cX3_renew 3 (some .int)) ⟨1, 0, 0, 25⟩ G [.ref a0, .int die] (gPE 1 G S a0 Fr) (gqN (sM_renew S die) G a0 Fr) gxN := by
  refine gMet_of hl pnX3 (gle rfl) (fun X Q hX F E hNm => ?_)
  subst hX
  change gW (X, G, 3, Q) (gPE 1 G S a0 Fr) [(0, .ref a0), (1, .int die)] 0 [] 0 0
  refine g_pe (fun A hA => ?_)
  subst hA
  change gW _ _ [(0, .ref (A 0 0)), (1, .int die)] 0 [] 0 0
  refine g_aload_n F 0 rfl rfl dX3_renew_0 ?_
  refine g_callV F (kX3_begins hl (pr_at (κ := 0) (i := 0) (by decide) (gc1 (gnl rfl)) (gce rfl rfl))) (g_recv F clX3 (gd_obj (pr_at (κ := 0) (i := 0) (by decide) (gc1 (gnl rfl)) (gce rfl rfl)))) q1448 q1450 qs6 q25 q1451 myX3_begins ⟨by decide, by decide⟩ rfl rfl (gle rfl) 0 0 (gle rfl) (gle rfl) (gle rfl) (gle rfl) dX3_renew_1 gx_n (gv_v ?_)
  refine g_mono (P2 := gP 1 G (gsr S.1 0 0 (upd (S.1 0 0) 8 0), S.2) A Fr []) (pr_upRow (κ := 0) (i := 0) gM1 hF (upd (S.1 0 0) 8 0) (by decide) (gc1 (gnl rfl)) (gce rfl rfl) rfl) ?_
  refine g_aload_n F 0 rfl rfl dX3_renew_4 ?_
  refine g_iload_n F 1 rfl rfl dX3_renew_5 ?_
  refine g_i2l F dX3_renew_6 ?_
  refine g_lconst F (v := (0 : Int64)) (by decide) dX3_renew_7 ?_
  refine g_ldc2 F (v := (3 : Int64)) q1523 dX3_renew_8 ?_
  refine g_callS F (kX3_in hl (x := die) (lo := (0 : Int32)) (hi := (3 : Int32)) (by decide) (by decide)) (lw_S q1453 q1454 q25 q1455) myX3_in ⟨by decide, by decide⟩ rfl rfl (gle rfl) 0 0 (gle rfl) (gle rfl) (gle rfl) (gle rfl) dX3_renew_11 gx_n (gv_i ?_)
  have J_2 : gW (X, G, 3, Q) (gP 1 G (gsr S.1 0 0 (upd (S.1 0 0) 8 0), S.2) A Fr []) [(0, .ref (A 0 0)), (1, .int die)] 22 [.int (gb (¬ (¬ die < (0 : Int32) ∧ ¬ (3 : Int32) < die))), .ref (A 0 0)] 0 0 := by
    refine g_iconst F (v := (1 : Int32)) (by decide) dX3_renew_22 ?_
    refine g_callV F (kX3_fails hl (b := gb (¬ (¬ die < (0 : Int32) ∧ ¬ (3 : Int32) < die))) (nu := (1 : Int32)) (c := ¬ (¬ die < (0 : Int32) ∧ ¬ (3 : Int32) < die)) gb_n0 (by decide) (pr_at (κ := 0) (i := 0) (by decide) (gc1 (gnl rfl)) (gce (show (gsr S.1 0 0 (upd (S.1 0 0) 8 0)) 0 0 = upd (S.1 0 0) 8 0 from gsr_s) rfl))) (g_recv F clX3 (gd_obj (pr_at (κ := 0) (i := 0) (by decide) (gc1 (gnl rfl)) (gce (show (gsr S.1 0 0 (upd (S.1 0 0) 8 0)) 0 0 = upd (S.1 0 0) 8 0 from gsr_s) rfl)))) q1456 q1458 qs7 q25 q1459 myX3_fails ⟨by decide, by decide⟩ rfl rfl (gle rfl) 0 0 (gle rfl) (gle rfl) (gle rfl) (gle rfl) dX3_renew_23 gx_n (gv_f (fun c_3 => ?_) (fun c_3 => ?_))
    · skip
      refine g_mono (P2 := gP 1 G (gsr (gsr S.1 0 0 (upd (S.1 0 0) 8 0)) 0 0 (upd (upd (S.1 0 0) 8 0) 8 (1 : Int32)), S.2) A Fr []) (pr_upRow (κ := 0) (i := 0) gM1 hF (upd (upd (S.1 0 0) 8 0) 8 (1 : Int32)) (by decide) (gc1 (gnl rfl)) (gce (show (gsr S.1 0 0 (upd (S.1 0 0) 8 0)) 0 0 = upd (S.1 0 0) 8 0 from gsr_s) rfl) rfl) ?_
      refine g_if_eq F (tgt := 31) (by decide) dX3_renew_26 (fun c => absurd c (by decide)) (fun _ => ?_)
      refine g_iconst F (v := (-1 : Int32)) (by decide) dX3_renew_29 ?_
      exact g_retI F E rfl rfl (gle rfl) (gle rfl) dX3_renew_30 (fun _ hp => ⟨_, _, (if_pos c_3), rfl, ⟨A, rfl, gP_T0 hp⟩⟩)
    · skip
      refine g_if_eq F (tgt := 31) (by decide) dX3_renew_26 (fun _ => ?_) (fun c => absurd c (by decide))
      refine g_aload_n F 0 rfl rfl dX3_renew_31 ?_
      refine g_get F clX3 7 (by decide) q1396 (v := .ref (A 3 0)) (gd_get (pr_at (κ := 0) (i := 0) (by decide) (gc1 (gnl rfl)) (gce (show (gsr S.1 0 0 (upd (S.1 0 0) 8 0)) 0 0 = upd (S.1 0 0) 8 0 from gsr_s) rfl)) rfl) dX3_renew_32 ?_
      refine g_iload_n F 1 rfl rfl dX3_renew_35 ?_
      refine g_iald F (gvp (K := 3) (by decide) ⟨(Decidable.not_not.mp c_3).1, (Decidable.not_not.mp c_3).2⟩) (pr_at (κ := 3) (i := 0) (by decide) (gc1 (gnl rfl)) (gce (show (gsr S.1 0 0 (upd (S.1 0 0) 8 0)) 3 0 = S.1 3 0 from (gsr_p (by decide) rfl)) rfl)) dX3_renew_36 ?_
      change gW _ _ _ _ (.int (S.1 3 0 die.toNatClampNeg) :: _) _ _
      refine g_istore_n F rfl (by show 2 < 3; decide) (lv2 := [(2, .int (S.1 3 0 die.toNatClampNeg)), (0, .ref (A 0 0)), (1, .int die)]) rfl dX3_renew_37 ?_
      refine g_aload_n F 1 rfl rfl dX3_renew_38 ?_
      refine g_get F clX3 7 (by decide) q1396 (v := .ref (A 3 0)) (gd_get (pr_at (κ := 0) (i := 0) (by decide) (gc1 (gnl rfl)) (gce (show (gsr S.1 0 0 (upd (S.1 0 0) 8 0)) 0 0 = upd (S.1 0 0) 8 0 from gsr_s) rfl)) rfl) dX3_renew_39 ?_
      refine g_iload_n F 2 rfl rfl dX3_renew_42 ?_
      refine g_iconst F (v := (0 : Int32)) (by decide) dX3_renew_43 ?_
      refine g_iast (P2 := gP 1 G (gsr (gsr S.1 0 0 (upd (S.1 0 0) 8 0)) 3 0 (upd (S.1 3 0) die.toNatClampNeg (0 : Int32)), S.2) A Fr []) F (gvp (K := 3) (by decide) ⟨(Decidable.not_not.mp c_3).1, (Decidable.not_not.mp c_3).2⟩) (pr_setRow (κ := 3) (i := 0) gM1 hF (upd (S.1 3 0) die.toNatClampNeg (0 : Int32)) (by decide) (gc1 (gnl rfl)) (gce (show (gsr S.1 0 0 (upd (S.1 0 0) 8 0)) 3 0 = S.1 3 0 from (gsr_p (by decide) rfl)) rfl) rfl) dX3_renew_44 ?_
      refine g_iload_n F 0 rfl rfl dX3_renew_45 ?_
      exact g_retI F E rfl rfl (gle rfl) (gle rfl) dX3_renew_46 (fun _ hp => ⟨_, _, (if_neg c_3), rfl, ⟨A, rfl, gP_T0 hp⟩⟩)
  refine gb_if_ne F (tgt := 21) (by decide) dX3_renew_14 (fun c_1 => ?_) (fun c_1 => ?_)
  · skip
    refine g_iconst F (v := (0 : Int32)) (by decide) dX3_renew_21 ?_
    exact g_top (gb_f (fun q => q c_1)) J_2
  · skip
    refine g_iconst F (v := (1 : Int32)) (by decide) dX3_renew_17 ?_
    refine g_goto F (tgt := 22) (by decide) dX3_renew_18 ?_
    exact g_top (gb_t c_1) J_2

def sM_kilos (S : gS) (lot : Int32) : Value × gS := if ¬ gIn lot (S.2 6) then (.int (-1 : Int32), (gsr (gsr S.1 0 0 (upd (S.1 0 0) 8 0)) 0 0 (upd (upd (S.1 0 0) 8 0) 8 1), S.2)) else (.int (S.1 6 lot.toNatClampNeg 3), (gsr S.1 0 0 (upd (S.1 0 0) 8 0), S.2))
theorem kX3_kilos {l : Launch} {G : gG} (hl : l.stackTraces = false) {S : gS} {a0 : Nat} {Fr : gH → Prop} (hF : gFr 1 Fr) (hW : gWf S) {lot : Int32}  : gMet l yX3_kilos (ws_ yX3_kilos cX3_kilos 2 (some .int)) ⟨3, 0, 0, 67⟩ G [.ref a0, .int lot] (gPE 1 G S a0 Fr) (gqN (sM_kilos S lot) G a0 Fr) gxN := by
  refine gMet_of hl pnX3 (gle rfl) (fun X Q hX F E hNm => ?_)
  subst hX
  change gW (X, G, 2, Q) (gPE 1 G S a0 Fr) [(0, .ref a0), (1, .int lot)] 0 [] 0 0
  refine g_pe (fun A hA => ?_)
  subst hA
  change gW _ _ [(0, .ref (A 0 0)), (1, .int lot)] 0 [] 0 0
  refine g_aload_n F 0 rfl rfl dX3_kilos_0 ?_
  refine g_callV F (kX3_begins hl (pr_at (κ := 0) (i := 0) (by decide) (gc1 (gnl rfl)) (gce rfl rfl))) (g_recv F clX3 (gd_obj (pr_at (κ := 0) (i := 0) (by decide) (gc1 (gnl rfl)) (gce rfl rfl)))) q1448 q1450 qs6 q25 q1451 myX3_begins ⟨by decide, by decide⟩ rfl rfl (gle rfl) 0 0 (gle rfl) (gle rfl) (gle rfl) (gle rfl) dX3_kilos_1 gx_n (gv_v ?_)
  refine g_mono (P2 := gP 1 G (gsr S.1 0 0 (upd (S.1 0 0) 8 0), S.2) A Fr []) (pr_upRow (κ := 0) (i := 0) gM1 hF (upd (S.1 0 0) 8 0) (by decide) (gc1 (gnl rfl)) (gce rfl rfl) rfl) ?_
  refine g_aload_n F 0 rfl rfl dX3_kilos_4 ?_
  refine g_iload_n F 1 rfl rfl dX3_kilos_5 ?_
  refine g_callV F (kX3_noLot hl hF hW (x := lot)) (g_recv F clX3 (gd_obj (pr_at (κ := 0) (i := 0) (by decide) (gc1 (gnl rfl)) (gce (show (gsr S.1 0 0 (upd (S.1 0 0) 8 0)) 0 0 = upd (S.1 0 0) 8 0 from gsr_s) rfl)))) q1498 q1500 qs9 q25 q1501 myX3_noLot ⟨by decide, by decide⟩ rfl rfl (gle rfl) 0 0 (gle rfl) (gle rfl) (gle rfl) (gle rfl) dX3_kilos_6 gx_n (gv_f (fun c_1 => ?_) (fun c_1 => ?_))
  · skip
    refine g_if_eq F (tgt := 16) (by decide) dX3_kilos_9 (fun c => absurd c (by decide)) (fun _ => ?_)
    refine g_iconst F (v := (-1 : Int32)) (by decide) dX3_kilos_12 ?_
    refine g_goto F (tgt := 31) (by decide) dX3_kilos_13 ?_
    exact g_retI F E rfl rfl (gle rfl) (gle rfl) dX3_kilos_31 (fun _ hp => ⟨_, _, (if_pos c_1), rfl, ⟨A, rfl, gP_T0 hp⟩⟩)
  · skip
    refine g_if_eq F (tgt := 16) (by decide) dX3_kilos_9 (fun _ => ?_) (fun c => absurd c (by decide))
    refine g_aload_n F 0 rfl rfl dX3_kilos_16 ?_
    refine g_get F clX3 5 (by decide) q1394 (v := .ref (A 306 0)) (gd_get (pr_at (κ := 0) (i := 0) (by decide) (gc1 (gnl rfl)) (gce (show (gsr S.1 0 0 (upd (S.1 0 0) 8 0)) 0 0 = upd (S.1 0 0) 8 0 from gsr_s) rfl)) rfl) dX3_kilos_17 ?_
    refine g_iload_n F 1 rfl rfl dX3_kilos_20 ?_
    refine g_callF F clJ3 (kJ3_get hl (pr_ls (M := 1) (S := (gsr S.1 0 0 (upd (S.1 0 0) 8 0), S.2)) (A := A) (κ := 6) (by decide) (Or.inl ⟨by decide, by decide⟩) (fun q => by first | decide | exact absurd q (by decide)) (fun q => by first | decide | exact absurd q (by decide))) (j := lot.toNatClampNeg) (Decidable.not_not.mp c_1).2 (gw_n hW _) rfl (Decidable.not_not.mp c_1).1) (g_recv F clJ3 (gls_obj (pr_ls (M := 1) (S := (gsr S.1 0 0 (upd (S.1 0 0) 8 0), S.2)) (A := A) (κ := 6) (by decide) (Or.inl ⟨by decide, by decide⟩) (fun q => by first | decide | exact absurd q (by decide)) (fun q => by first | decide | exact absurd q (by decide))))) q1506 q809 q811 q22 q813 (List.mem_of_getElem? (i := 1) rfl) (gT_w q812 rfl) (gT_w q810 rfl) (gT_w q293 rfl) gface_1 ⟨by decide, by decide⟩ rfl rfl (gle rfl) 0 0 (gle rfl) (gle rfl) (gle rfl) (gle rfl) dX3_kilos_21 gx_n (gv_i ?_)
    refine g_castS F (g_recvI F (pr_at (κ := 6) (i := lot.toNatClampNeg) (by decide) (gc6 (by decide) (Decidable.not_not.mp c_1).2) (gce (show (gsr S.1 0 0 (upd (S.1 0 0) 8 0)) 6 lot.toNatClampNeg = S.1 6 lot.toNatClampNeg from (gsr_p (by decide) rfl)) rfl))) q1507 dX3_kilos_26 ?_
    refine g_iconst F (v := (3 : Int32)) (by decide) dX3_kilos_29 ?_
    refine g_ialdN F (m := 3) rfl (by decide) (by decide) (pr_at (κ := 6) (i := lot.toNatClampNeg) (by decide) (gc6 (by decide) (Decidable.not_not.mp c_1).2) (gce (show (gsr S.1 0 0 (upd (S.1 0 0) 8 0)) 6 lot.toNatClampNeg = S.1 6 lot.toNatClampNeg from (gsr_p (by decide) rfl)) rfl)) dX3_kilos_30 ?_
    change gW _ _ _ _ (.int (S.1 6 lot.toNatClampNeg 3) :: _) _ _
    exact g_retI F E rfl rfl (gle rfl) (gle rfl) dX3_kilos_31 (fun _ hp => ⟨_, _, (if_neg c_1), rfl, ⟨A, rfl, gP_T0 hp⟩⟩)

def sM_dry (S : gS) (batch speed : Int32) : Value × gS := if ¬ gIn batch (S.2 8) then (.int (-1 : Int32), (gsr (gsr S.1 0 0 (upd (S.1 0 0) 8 0)) 0 0 (upd (upd (S.1 0 0) 8 0) 8 1), S.2)) else (if ¬ (¬ speed < (1 : Int32) ∧ ¬ (5 : Int32) < speed) then (.int (-1 : Int32), (gsr (gsr S.1 0 0 (upd (S.1 0 0) 8 0)) 0 0 (upd (upd (S.1 0 0) 8 0) 8 (2 : Int32)), S.2)) else (if ¬ (S.1 8 batch.toNatClampNeg 5) = 0 then (.int (-1 : Int32), (gsr (gsr S.1 0 0 (upd (S.1 0 0) 8 0)) 0 0 (upd (upd (S.1 0 0) 8 0) 8 (3 : Int32)), S.2)) else (.int ((S.1 0 0 0) + ((((18 : Int32) + speed) - (1 : Int32)) / speed)), (gsr (gsr (gsr (gsr (gsr S.1 0 0 (upd (S.1 0 0) 8 0)) 8 batch.toNatClampNeg (upd (S.1 8 batch.toNatClampNeg) 5 (1 : Int32))) 8 batch.toNatClampNeg (upd (upd (S.1 8 batch.toNatClampNeg) 5 (1 : Int32)) 4 ((S.1 0 0 0) + ((((18 : Int32) + speed) - (1 : Int32)) / speed)))) 8 batch.toNatClampNeg (upd (upd (upd (S.1 8 batch.toNatClampNeg) 5 (1 : Int32)) 4 ((S.1 0 0 0) + ((((18 : Int32) + speed) - (1 : Int32)) / speed))) 2 ((((S.1 8 batch.toNatClampNeg 1) * (speed - (1 : Int32))) * ((10 : Int32) - (S.1 7 ((S.1 8 batch.toNatClampNeg 0).toNatClampNeg) 3))) / (500 : Int32)))) 8 batch.toNatClampNeg (upd (upd (upd (upd (S.1 8 batch.toNatClampNeg) 5 (1 : Int32)) 4 ((S.1 0 0 0) + ((((18 : Int32) + speed) - (1 : Int32)) / speed))) 2 ((((S.1 8 batch.toNatClampNeg 1) * (speed - (1 : Int32))) * ((10 : Int32) - (S.1 7 ((S.1 8 batch.toNatClampNeg 0).toNatClampNeg) 3))) / (500 : Int32))) 1 ((S.1 8 batch.toNatClampNeg 1) - ((((S.1 8 batch.toNatClampNeg 1) * (speed - (1 : Int32))) * ((10 : Int32) - (S.1 7 ((S.1 8 batch.toNatClampNeg 0).toNatClampNeg) 3))) / (500 : Int32)))), S.2))))
theorem kX3_dry {l : Launch} {G : gG} (hl : l.stackTraces = false) {S : gS} {a0 : Nat} {Fr : gH → Prop} (hF : gFr 1 Fr) (hW : gWf S) {batch speed : Int32}  : gMet l yX3_dry (ws_ yX3_dry cX3_dry 4 (some .int)) ⟨4, 0, 0, 85⟩ G [.ref a0, .int batch, .int speed] (gPE 1 G S a0 Fr) (gqN (sM_dry S batch speed) G a0 Fr) gxN := by
  refine gMet_of hl pnX3 (gle rfl) (fun X Q hX F E hNm => ?_)
  subst hX
  change gW (X, G, 4, Q) (gPE 1 G S a0 Fr) [(0, .ref a0), (1, .int batch), (2, .int speed)] 0 [] 0 0
  refine g_pe (fun A hA => ?_)
  subst hA
  change gW _ _ [(0, .ref (A 0 0)), (1, .int batch), (2, .int speed)] 0 [] 0 0
  refine g_aload_n F 0 rfl rfl dX3_dry_0 ?_
  refine g_callV F (kX3_begins hl (pr_at (κ := 0) (i := 0) (by decide) (gc1 (gnl rfl)) (gce rfl rfl))) (g_recv F clX3 (gd_obj (pr_at (κ := 0) (i := 0) (by decide) (gc1 (gnl rfl)) (gce rfl rfl)))) q1448 q1450 qs6 q25 q1451 myX3_begins ⟨by decide, by decide⟩ rfl rfl (gle rfl) 0 0 (gle rfl) (gle rfl) (gle rfl) (gle rfl) dX3_dry_1 gx_n (gv_v ?_)
  refine g_mono (P2 := gP 1 G (gsr S.1 0 0 (upd (S.1 0 0) 8 0), S.2) A Fr []) (pr_upRow (κ := 0) (i := 0) gM1 hF (upd (S.1 0 0) 8 0) (by decide) (gc1 (gnl rfl)) (gce rfl rfl) rfl) ?_
  refine g_aload_n F 0 rfl rfl dX3_dry_4 ?_
  refine g_iload_n F 1 rfl rfl dX3_dry_5 ?_
  refine g_callV F (kX3_noBatch hl hF hW (x := batch)) (g_recv F clX3 (gd_obj (pr_at (κ := 0) (i := 0) (by decide) (gc1 (gnl rfl)) (gce (show (gsr S.1 0 0 (upd (S.1 0 0) 8 0)) 0 0 = upd (S.1 0 0) 8 0 from gsr_s) rfl)))) q1577 q1579 qs10 q25 q1580 myX3_noBatch ⟨by decide, by decide⟩ rfl rfl (gle rfl) 0 0 (gle rfl) (gle rfl) (gle rfl) (gle rfl) dX3_dry_6 gx_n (gv_f (fun c_1 => ?_) (fun c_1 => ?_))
  · skip
    refine g_if_ne F (tgt := 61) (by decide) dX3_dry_9 (fun _ => ?_) (fun c => absurd c (by decide))
    refine g_iconst F (v := (-1 : Int32)) (by decide) dX3_dry_61 ?_
    exact g_retI F E rfl rfl (gle rfl) (gle rfl) dX3_dry_62 (fun _ hp => ⟨_, _, (if_pos c_1), rfl, ⟨A, rfl, gP_T0 hp⟩⟩)
  · skip
    refine g_if_ne F (tgt := 61) (by decide) dX3_dry_9 (fun c => absurd c (by decide)) (fun _ => ?_)
    refine g_aload_n F 0 rfl rfl dX3_dry_12 ?_
    refine g_iload_n F 2 rfl rfl dX3_dry_13 ?_
    refine g_i2l F dX3_dry_14 ?_
    refine g_lconst F (v := (1 : Int64)) (by decide) dX3_dry_15 ?_
    refine g_ldc2 F (v := (5 : Int64)) q1581 dX3_dry_16 ?_
    refine g_callS F (kX3_in hl (x := speed) (lo := (1 : Int32)) (hi := (5 : Int32)) (by decide) (by decide)) (lw_S q1453 q1454 q25 q1455) myX3_in ⟨by decide, by decide⟩ rfl rfl (gle rfl) 0 0 (gle rfl) (gle rfl) (gle rfl) (gle rfl) dX3_dry_19 gx_n (gv_i ?_)
    have J_3 : gW (X, G, 4, Q) (gP 1 G (gsr S.1 0 0 (upd (S.1 0 0) 8 0), S.2) A Fr []) [(0, .ref (A 0 0)), (1, .int batch), (2, .int speed)] 30 [.int (gb (¬ (¬ speed < (1 : Int32) ∧ ¬ (5 : Int32) < speed))), .ref (A 0 0)] 0 0 := by
      refine g_iconst F (v := (2 : Int32)) (by decide) dX3_dry_30 ?_
      refine g_callV F (kX3_fails hl (b := gb (¬ (¬ speed < (1 : Int32) ∧ ¬ (5 : Int32) < speed))) (nu := (2 : Int32)) (c := ¬ (¬ speed < (1 : Int32) ∧ ¬ (5 : Int32) < speed)) gb_n0 (by decide) (pr_at (κ := 0) (i := 0) (by decide) (gc1 (gnl rfl)) (gce (show (gsr S.1 0 0 (upd (S.1 0 0) 8 0)) 0 0 = upd (S.1 0 0) 8 0 from gsr_s) rfl))) (g_recv F clX3 (gd_obj (pr_at (κ := 0) (i := 0) (by decide) (gc1 (gnl rfl)) (gce (show (gsr S.1 0 0 (upd (S.1 0 0) 8 0)) 0 0 = upd (S.1 0 0) 8 0 from gsr_s) rfl)))) q1456 q1458 qs7 q25 q1459 myX3_fails ⟨by decide, by decide⟩ rfl rfl (gle rfl) 0 0 (gle rfl) (gle rfl) (gle rfl) (gle rfl) dX3_dry_31 gx_n (gv_f (fun c_4 => ?_) (fun c_4 => ?_))
      · skip
        refine g_mono (P2 := gP 1 G (gsr (gsr S.1 0 0 (upd (S.1 0 0) 8 0)) 0 0 (upd (upd (S.1 0 0) 8 0) 8 (2 : Int32)), S.2) A Fr []) (pr_upRow (κ := 0) (i := 0) gM1 hF (upd (upd (S.1 0 0) 8 0) 8 (2 : Int32)) (by decide) (gc1 (gnl rfl)) (gce (show (gsr S.1 0 0 (upd (S.1 0 0) 8 0)) 0 0 = upd (S.1 0 0) 8 0 from gsr_s) rfl) rfl) ?_
        refine g_if_ne F (tgt := 61) (by decide) dX3_dry_34 (fun _ => ?_) (fun c => absurd c (by decide))
        refine g_iconst F (v := (-1 : Int32)) (by decide) dX3_dry_61 ?_
        exact g_retI F E rfl rfl (gle rfl) (gle rfl) dX3_dry_62 (fun _ hp => ⟨_, _, ((if_neg c_1).trans (if_pos c_4)), rfl, ⟨A, rfl, gP_T0 hp⟩⟩)
      · skip
        refine g_if_ne F (tgt := 61) (by decide) dX3_dry_34 (fun c => absurd c (by decide)) (fun _ => ?_)
        refine g_aload_n F 0 rfl rfl dX3_dry_37 ?_
        refine g_aload_n F 0 rfl rfl dX3_dry_38 ?_
        refine g_get F clX3 9 (by decide) q1398 (v := .ref (A 308 0)) (gd_get (pr_at (κ := 0) (i := 0) (by decide) (gc1 (gnl rfl)) (gce (show (gsr S.1 0 0 (upd (S.1 0 0) 8 0)) 0 0 = upd (S.1 0 0) 8 0 from gsr_s) rfl)) rfl) dX3_dry_39 ?_
        refine g_iload_n F 1 rfl rfl dX3_dry_42 ?_
        refine g_callF F clJ3 (kJ3_get hl (pr_ls (M := 1) (S := (gsr S.1 0 0 (upd (S.1 0 0) 8 0), S.2)) (A := A) (κ := 8) (by decide) (Or.inl ⟨by decide, by decide⟩) (fun q => by first | decide | exact absurd q (by decide)) (fun q => by first | decide | exact absurd q (by decide))) (j := batch.toNatClampNeg) (Decidable.not_not.mp c_1).2 (gw_n hW _) rfl (Decidable.not_not.mp c_1).1) (g_recv F clJ3 (gls_obj (pr_ls (M := 1) (S := (gsr S.1 0 0 (upd (S.1 0 0) 8 0), S.2)) (A := A) (κ := 8) (by decide) (Or.inl ⟨by decide, by decide⟩) (fun q => by first | decide | exact absurd q (by decide)) (fun q => by first | decide | exact absurd q (by decide))))) q1506 q809 q811 q22 q813 (List.mem_of_getElem? (i := 1) rfl) (gT_w q812 rfl) (gT_w q810 rfl) (gT_w q293 rfl) gface_1 ⟨by decide, by decide⟩ rfl rfl (gle rfl) 0 0 (gle rfl) (gle rfl) (gle rfl) (gle rfl) dX3_dry_43 gx_n (gv_i ?_)
        refine g_castS F (g_recv F clX10 (gd_obj (pr_at (κ := 8) (i := batch.toNatClampNeg) (by decide) (gc6 (by decide) (Decidable.not_not.mp c_1).2) (gce (show (gsr S.1 0 0 (upd (S.1 0 0) 8 0)) 8 batch.toNatClampNeg = S.1 8 batch.toNatClampNeg from (gsr_p (by decide) rfl)) rfl)))) q1524 dX3_dry_48 ?_
        refine g_getN F clX10 5 (by decide) (gT_w q1535 rfl) (v := .int (S.1 8 batch.toNatClampNeg 5)) (gd_get (pr_at (κ := 8) (i := batch.toNatClampNeg) (by decide) (gc6 (by decide) (Decidable.not_not.mp c_1).2) (gce (show (gsr S.1 0 0 (upd (S.1 0 0) 8 0)) 8 batch.toNatClampNeg = S.1 8 batch.toNatClampNeg from (gsr_p (by decide) rfl)) rfl)) rfl) dX3_dry_51 ?_
        refine g_iconst F (v := (3 : Int32)) (by decide) dX3_dry_54 ?_
        refine g_callV F (kX3_fails hl (b := S.1 8 batch.toNatClampNeg 5) (nu := (3 : Int32)) (c := ¬ (S.1 8 batch.toNatClampNeg 5) = 0) Iff.rfl (by decide) (pr_at (κ := 0) (i := 0) (by decide) (gc1 (gnl rfl)) (gce (show (gsr S.1 0 0 (upd (S.1 0 0) 8 0)) 0 0 = upd (S.1 0 0) 8 0 from gsr_s) rfl))) (g_recv F clX3 (gd_obj (pr_at (κ := 0) (i := 0) (by decide) (gc1 (gnl rfl)) (gce (show (gsr S.1 0 0 (upd (S.1 0 0) 8 0)) 0 0 = upd (S.1 0 0) 8 0 from gsr_s) rfl)))) q1456 q1458 qs7 q25 q1459 myX3_fails ⟨by decide, by decide⟩ rfl rfl (gle rfl) 0 0 (gle rfl) (gle rfl) (gle rfl) (gle rfl) dX3_dry_55 gx_n (gv_f (fun c_5 => ?_) (fun c_5 => ?_))
        · skip
          refine g_mono (P2 := gP 1 G (gsr (gsr S.1 0 0 (upd (S.1 0 0) 8 0)) 0 0 (upd (upd (S.1 0 0) 8 0) 8 (3 : Int32)), S.2) A Fr []) (pr_upRow (κ := 0) (i := 0) gM1 hF (upd (upd (S.1 0 0) 8 0) 8 (3 : Int32)) (by decide) (gc1 (gnl rfl)) (gce (show (gsr S.1 0 0 (upd (S.1 0 0) 8 0)) 0 0 = upd (S.1 0 0) 8 0 from gsr_s) rfl) rfl) ?_
          refine g_if_eq F (tgt := 63) (by decide) dX3_dry_58 (fun c => absurd c (by decide)) (fun _ => ?_)
          refine g_iconst F (v := (-1 : Int32)) (by decide) dX3_dry_61 ?_
          exact g_retI F E rfl rfl (gle rfl) (gle rfl) dX3_dry_62 (fun _ hp => ⟨_, _, ((if_neg c_1).trans ((if_neg c_4).trans (if_pos c_5))), rfl, ⟨A, rfl, gP_T0 hp⟩⟩)
        · skip
          refine g_if_eq F (tgt := 63) (by decide) dX3_dry_58 (fun _ => ?_) (fun c => absurd c (by decide))
          refine g_aload_n F 0 rfl rfl dX3_dry_63 ?_
          refine g_get F clX3 9 (by decide) q1398 (v := .ref (A 308 0)) (gd_get (pr_at (κ := 0) (i := 0) (by decide) (gc1 (gnl rfl)) (gce (show (gsr S.1 0 0 (upd (S.1 0 0) 8 0)) 0 0 = upd (S.1 0 0) 8 0 from gsr_s) rfl)) rfl) dX3_dry_64 ?_
          refine g_iload_n F 1 rfl rfl dX3_dry_67 ?_
          refine g_callF F clJ3 (kJ3_get hl (pr_ls (M := 1) (S := (gsr S.1 0 0 (upd (S.1 0 0) 8 0), S.2)) (A := A) (κ := 8) (by decide) (Or.inl ⟨by decide, by decide⟩) (fun q => by first | decide | exact absurd q (by decide)) (fun q => by first | decide | exact absurd q (by decide))) (j := batch.toNatClampNeg) (Decidable.not_not.mp c_1).2 (gw_n hW _) rfl (Decidable.not_not.mp c_1).1) (g_recv F clJ3 (gls_obj (pr_ls (M := 1) (S := (gsr S.1 0 0 (upd (S.1 0 0) 8 0), S.2)) (A := A) (κ := 8) (by decide) (Or.inl ⟨by decide, by decide⟩) (fun q => by first | decide | exact absurd q (by decide)) (fun q => by first | decide | exact absurd q (by decide))))) q1506 q809 q811 q22 q813 (List.mem_of_getElem? (i := 1) rfl) (gT_w q812 rfl) (gT_w q810 rfl) (gT_w q293 rfl) gface_1 ⟨by decide, by decide⟩ rfl rfl (gle rfl) 0 0 (gle rfl) (gle rfl) (gle rfl) (gle rfl) dX3_dry_68 gx_n (gv_i ?_)
          refine g_castS F (g_recv F clX10 (gd_obj (pr_at (κ := 8) (i := batch.toNatClampNeg) (by decide) (gc6 (by decide) (Decidable.not_not.mp c_1).2) (gce (show (gsr S.1 0 0 (upd (S.1 0 0) 8 0)) 8 batch.toNatClampNeg = S.1 8 batch.toNatClampNeg from (gsr_p (by decide) rfl)) rfl)))) q1524 dX3_dry_73 ?_
          refine g_astore_n F rfl (by show 3 < 4; decide) (lv2 := [(3, .ref (A 8 batch.toNatClampNeg)), (0, .ref (A 0 0)), (1, .int batch), (2, .int speed)]) rfl dX3_dry_76 ?_
          refine g_aload_n F 0 rfl rfl dX3_dry_77 ?_
          refine g_iconst F (v := (1 : Int32)) (by decide) dX3_dry_78 ?_
          refine g_putN (P2 := gP 1 G (gsr (gsr S.1 0 0 (upd (S.1 0 0) 8 0)) 8 batch.toNatClampNeg (upd (S.1 8 batch.toNatClampNeg) 5 (1 : Int32)), S.2) A Fr []) F clX10 5 (by decide) (gT_w q1535 rfl) rfl rfl rfl (pr_put (κ := 8) (i := batch.toNatClampNeg) gM1 hF (upd (S.1 8 batch.toNatClampNeg) 5 (1 : Int32)) (by decide) (gc6 (by decide) (Decidable.not_not.mp c_1).2) (gce (show (gsr S.1 0 0 (upd (S.1 0 0) 8 0)) 8 batch.toNatClampNeg = S.1 8 batch.toNatClampNeg from (gsr_p (by decide) rfl)) rfl) (gnl rfl) rfl) dX3_dry_79 ?_
          refine g_aload_n F 0 rfl rfl dX3_dry_82 ?_
          refine g_aload_n F 1 rfl rfl dX3_dry_83 ?_
          refine g_get F clX3 1 (by decide) q1390 (v := .int (S.1 0 0 0)) (gd_get (pr_at (κ := 0) (i := 0) (by decide) (gc1 (gnl rfl)) (gce (show (gsr (gsr S.1 0 0 (upd (S.1 0 0) 8 0)) 8 batch.toNatClampNeg (upd (S.1 8 batch.toNatClampNeg) 5 (1 : Int32))) 0 0 = upd (S.1 0 0) 8 0 from (gsr_p (by decide) gsr_s)) rfl)) rfl) dX3_dry_84 ?_
          refine g_bipush F (v := (18 : Int32)) (by decide) dX3_dry_87 ?_
          refine g_iload_n F 3 rfl rfl dX3_dry_89 ?_
          refine g_iadd F dX3_dry_90 ?_
          refine g_iconst F (v := (1 : Int32)) (by decide) dX3_dry_91 ?_
          refine g_isub F dX3_dry_92 ?_
          refine g_iload_n F 3 rfl rfl dX3_dry_93 ?_
          refine g_idiv F (gnz1 (Decidable.not_not.mp c_4).1) dX3_dry_94 ?_
          refine g_iadd F dX3_dry_95 ?_
          refine g_putN (P2 := gP 1 G (gsr (gsr (gsr S.1 0 0 (upd (S.1 0 0) 8 0)) 8 batch.toNatClampNeg (upd (S.1 8 batch.toNatClampNeg) 5 (1 : Int32))) 8 batch.toNatClampNeg (upd (upd (S.1 8 batch.toNatClampNeg) 5 (1 : Int32)) 4 ((S.1 0 0 0) + ((((18 : Int32) + speed) - (1 : Int32)) / speed))), S.2) A Fr []) F clX10 4 (by decide) (gT_w q1534 rfl) rfl rfl rfl (pr_put (κ := 8) (i := batch.toNatClampNeg) gM1 hF (upd (upd (S.1 8 batch.toNatClampNeg) 5 (1 : Int32)) 4 ((S.1 0 0 0) + ((((18 : Int32) + speed) - (1 : Int32)) / speed))) (by decide) (gc6 (by decide) (Decidable.not_not.mp c_1).2) (gce (show (gsr (gsr S.1 0 0 (upd (S.1 0 0) 8 0)) 8 batch.toNatClampNeg (upd (S.1 8 batch.toNatClampNeg) 5 (1 : Int32))) 8 batch.toNatClampNeg = upd (S.1 8 batch.toNatClampNeg) 5 (1 : Int32) from gsr_s) rfl) (gnl rfl) rfl) dX3_dry_96 ?_
          refine g_aload_n F 0 rfl rfl dX3_dry_99 ?_
          refine g_aload_n F 0 rfl rfl dX3_dry_100 ?_
          refine g_getN F clX10 1 (by decide) (gT_w q1531 rfl) (v := .int (S.1 8 batch.toNatClampNeg 1)) (gd_get (pr_at (κ := 8) (i := batch.toNatClampNeg) (by decide) (gc6 (by decide) (Decidable.not_not.mp c_1).2) (gce (show (gsr (gsr (gsr S.1 0 0 (upd (S.1 0 0) 8 0)) 8 batch.toNatClampNeg (upd (S.1 8 batch.toNatClampNeg) 5 (1 : Int32))) 8 batch.toNatClampNeg (upd (upd (S.1 8 batch.toNatClampNeg) 5 (1 : Int32)) 4 ((S.1 0 0 0) + ((((18 : Int32) + speed) - (1 : Int32)) / speed)))) 8 batch.toNatClampNeg = upd (upd (S.1 8 batch.toNatClampNeg) 5 (1 : Int32)) 4 ((S.1 0 0 0) + ((((18 : Int32) + speed) - (1 : Int32)) / speed)) from gsr_s) rfl)) rfl) dX3_dry_101 ?_
          refine g_iload_n F 3 rfl rfl dX3_dry_104 ?_
          refine g_iconst F (v := (1 : Int32)) (by decide) dX3_dry_105 ?_
          refine g_isub F dX3_dry_106 ?_
          refine g_imul F dX3_dry_107 ?_
          refine g_bipush F (v := (10 : Int32)) (by decide) dX3_dry_108 ?_
          refine g_aload_n F 1 rfl rfl dX3_dry_110 ?_
          refine g_aload_n F 0 rfl rfl dX3_dry_111 ?_
          refine g_callV F (kX3_fineness hl (pr_at (κ := 0) (i := 0) (by decide) (gc1 (gnl rfl)) (gce (show (gsr (gsr (gsr S.1 0 0 (upd (S.1 0 0) 8 0)) 8 batch.toNatClampNeg (upd (S.1 8 batch.toNatClampNeg) 5 (1 : Int32))) 8 batch.toNatClampNeg (upd (upd (S.1 8 batch.toNatClampNeg) 5 (1 : Int32)) 4 ((S.1 0 0 0) + ((((18 : Int32) + speed) - (1 : Int32)) / speed)))) 0 0 = upd (S.1 0 0) 8 0 from (gsr_p (by decide) (gsr_p (by decide) gsr_s))) rfl)) (pr_at (κ := 8) (i := batch.toNatClampNeg) (by decide) (gc6 (by decide) (Decidable.not_not.mp c_1).2) (gce (show (gsr (gsr (gsr S.1 0 0 (upd (S.1 0 0) 8 0)) 8 batch.toNatClampNeg (upd (S.1 8 batch.toNatClampNeg) 5 (1 : Int32))) 8 batch.toNatClampNeg (upd (upd (S.1 8 batch.toNatClampNeg) 5 (1 : Int32)) 4 ((S.1 0 0 0) + ((((18 : Int32) + speed) - (1 : Int32)) / speed)))) 8 batch.toNatClampNeg = upd (upd (S.1 8 batch.toNatClampNeg) 5 (1 : Int32)) 4 ((S.1 0 0 0) + ((((18 : Int32) + speed) - (1 : Int32)) / speed)) from gsr_s) rfl)) (pr_ls (M := 1) (S := (gsr (gsr (gsr S.1 0 0 (upd (S.1 0 0) 8 0)) 8 batch.toNatClampNeg (upd (S.1 8 batch.toNatClampNeg) 5 (1 : Int32))) 8 batch.toNatClampNeg (upd (upd (S.1 8 batch.toNatClampNeg) 5 (1 : Int32)) 4 ((S.1 0 0 0) + ((((18 : Int32) + speed) - (1 : Int32)) / speed))), S.2)) (A := A) (κ := 7) (by decide) (Or.inl ⟨by decide, by decide⟩) (fun q => by first | decide | exact absurd q (by decide)) (fun q => by first | decide | exact absurd q (by decide))) (gw_n hW _) (gw_8_0 hW (Decidable.not_not.mp c_1).2) (pr_at (κ := 7) (i := (S.1 8 batch.toNatClampNeg 0).toNatClampNeg) (by decide) (gc6 (by decide) (gw_8_0 hW (Decidable.not_not.mp c_1).2).2) (gce (show (gsr (gsr (gsr S.1 0 0 (upd (S.1 0 0) 8 0)) 8 batch.toNatClampNeg (upd (S.1 8 batch.toNatClampNeg) 5 (1 : Int32))) 8 batch.toNatClampNeg (upd (upd (S.1 8 batch.toNatClampNeg) 5 (1 : Int32)) 4 ((S.1 0 0 0) + ((((18 : Int32) + speed) - (1 : Int32)) / speed)))) 7 ((S.1 8 batch.toNatClampNeg 0).toNatClampNeg) = S.1 7 ((S.1 8 batch.toNatClampNeg 0).toNatClampNeg) from (gsr_p (by decide) (gsr_p (by decide) (gsr_p (by decide) rfl)))) rfl))) (g_recv F clX3 (gd_obj (pr_at (κ := 0) (i := 0) (by decide) (gc1 (gnl rfl)) (gce (show (gsr (gsr (gsr S.1 0 0 (upd (S.1 0 0) 8 0)) 8 batch.toNatClampNeg (upd (S.1 8 batch.toNatClampNeg) 5 (1 : Int32))) 8 batch.toNatClampNeg (upd (upd (S.1 8 batch.toNatClampNeg) 5 (1 : Int32)) 4 ((S.1 0 0 0) + ((((18 : Int32) + speed) - (1 : Int32)) / speed)))) 0 0 = upd (S.1 0 0) 8 0 from (gsr_p (by decide) (gsr_p (by decide) gsr_s))) rfl)))) q1582 q1584 qs11 q25 q1585 myX3_fineness ⟨by decide, by decide⟩ rfl rfl (gle rfl) 0 0 (gle rfl) (gle rfl) (gle rfl) (gle rfl) dX3_dry_112 gx_n (gv_i ?_)
          refine g_isub F dX3_dry_115 ?_
          refine g_imul F dX3_dry_116 ?_
          refine g_sipush F (v := (500 : Int32)) (by decide) dX3_dry_117 ?_
          refine g_idiv F (by decide) dX3_dry_120 ?_
          refine g_putN (P2 := gP 1 G (gsr (gsr (gsr (gsr S.1 0 0 (upd (S.1 0 0) 8 0)) 8 batch.toNatClampNeg (upd (S.1 8 batch.toNatClampNeg) 5 (1 : Int32))) 8 batch.toNatClampNeg (upd (upd (S.1 8 batch.toNatClampNeg) 5 (1 : Int32)) 4 ((S.1 0 0 0) + ((((18 : Int32) + speed) - (1 : Int32)) / speed)))) 8 batch.toNatClampNeg (upd (upd (upd (S.1 8 batch.toNatClampNeg) 5 (1 : Int32)) 4 ((S.1 0 0 0) + ((((18 : Int32) + speed) - (1 : Int32)) / speed))) 2 ((((S.1 8 batch.toNatClampNeg 1) * (speed - (1 : Int32))) * ((10 : Int32) - (S.1 7 ((S.1 8 batch.toNatClampNeg 0).toNatClampNeg) 3))) / (500 : Int32))), S.2) A Fr []) F clX10 2 (by decide) (gT_w q1532 rfl) rfl rfl rfl (pr_put (κ := 8) (i := batch.toNatClampNeg) gM1 hF (upd (upd (upd (S.1 8 batch.toNatClampNeg) 5 (1 : Int32)) 4 ((S.1 0 0 0) + ((((18 : Int32) + speed) - (1 : Int32)) / speed))) 2 ((((S.1 8 batch.toNatClampNeg 1) * (speed - (1 : Int32))) * ((10 : Int32) - (S.1 7 ((S.1 8 batch.toNatClampNeg 0).toNatClampNeg) 3))) / (500 : Int32))) (by decide) (gc6 (by decide) (Decidable.not_not.mp c_1).2) (gce (show (gsr (gsr (gsr S.1 0 0 (upd (S.1 0 0) 8 0)) 8 batch.toNatClampNeg (upd (S.1 8 batch.toNatClampNeg) 5 (1 : Int32))) 8 batch.toNatClampNeg (upd (upd (S.1 8 batch.toNatClampNeg) 5 (1 : Int32)) 4 ((S.1 0 0 0) + ((((18 : Int32) + speed) - (1 : Int32)) / speed)))) 8 batch.toNatClampNeg = upd (upd (S.1 8 batch.toNatClampNeg) 5 (1 : Int32)) 4 ((S.1 0 0 0) + ((((18 : Int32) + speed) - (1 : Int32)) / speed)) from gsr_s) rfl) (gnl rfl) rfl) dX3_dry_121 ?_
          refine g_aload_n F 0 rfl rfl dX3_dry_124 ?_
          refine g_dup F rfl dX3_dry_125 ?_
          refine g_getN F clX10 1 (by decide) (gT_w q1531 rfl) (v := .int (S.1 8 batch.toNatClampNeg 1)) (gd_get (pr_at (κ := 8) (i := batch.toNatClampNeg) (by decide) (gc6 (by decide) (Decidable.not_not.mp c_1).2) (gce (show (gsr (gsr (gsr (gsr S.1 0 0 (upd (S.1 0 0) 8 0)) 8 batch.toNatClampNeg (upd (S.1 8 batch.toNatClampNeg) 5 (1 : Int32))) 8 batch.toNatClampNeg (upd (upd (S.1 8 batch.toNatClampNeg) 5 (1 : Int32)) 4 ((S.1 0 0 0) + ((((18 : Int32) + speed) - (1 : Int32)) / speed)))) 8 batch.toNatClampNeg (upd (upd (upd (S.1 8 batch.toNatClampNeg) 5 (1 : Int32)) 4 ((S.1 0 0 0) + ((((18 : Int32) + speed) - (1 : Int32)) / speed))) 2 ((((S.1 8 batch.toNatClampNeg 1) * (speed - (1 : Int32))) * ((10 : Int32) - (S.1 7 ((S.1 8 batch.toNatClampNeg 0).toNatClampNeg) 3))) / (500 : Int32)))) 8 batch.toNatClampNeg = upd (upd (upd (S.1 8 batch.toNatClampNeg) 5 (1 : Int32)) 4 ((S.1 0 0 0) + ((((18 : Int32) + speed) - (1 : Int32)) / speed))) 2 ((((S.1 8 batch.toNatClampNeg 1) * (speed - (1 : Int32))) * ((10 : Int32) - (S.1 7 ((S.1 8 batch.toNatClampNeg 0).toNatClampNeg) 3))) / (500 : Int32)) from gsr_s) rfl)) rfl) dX3_dry_126 ?_
          refine g_aload_n F 0 rfl rfl dX3_dry_129 ?_
          refine g_getN F clX10 2 (by decide) (gT_w q1532 rfl) (v := .int ((((S.1 8 batch.toNatClampNeg 1) * (speed - (1 : Int32))) * ((10 : Int32) - (S.1 7 ((S.1 8 batch.toNatClampNeg 0).toNatClampNeg) 3))) / (500 : Int32))) (gd_get (pr_at (κ := 8) (i := batch.toNatClampNeg) (by decide) (gc6 (by decide) (Decidable.not_not.mp c_1).2) (gce (show (gsr (gsr (gsr (gsr S.1 0 0 (upd (S.1 0 0) 8 0)) 8 batch.toNatClampNeg (upd (S.1 8 batch.toNatClampNeg) 5 (1 : Int32))) 8 batch.toNatClampNeg (upd (upd (S.1 8 batch.toNatClampNeg) 5 (1 : Int32)) 4 ((S.1 0 0 0) + ((((18 : Int32) + speed) - (1 : Int32)) / speed)))) 8 batch.toNatClampNeg (upd (upd (upd (S.1 8 batch.toNatClampNeg) 5 (1 : Int32)) 4 ((S.1 0 0 0) + ((((18 : Int32) + speed) - (1 : Int32)) / speed))) 2 ((((S.1 8 batch.toNatClampNeg 1) * (speed - (1 : Int32))) * ((10 : Int32) - (S.1 7 ((S.1 8 batch.toNatClampNeg 0).toNatClampNeg) 3))) / (500 : Int32)))) 8 batch.toNatClampNeg = upd (upd (upd (S.1 8 batch.toNatClampNeg) 5 (1 : Int32)) 4 ((S.1 0 0 0) + ((((18 : Int32) + speed) - (1 : Int32)) / speed))) 2 ((((S.1 8 batch.toNatClampNeg 1) * (speed - (1 : Int32))) * ((10 : Int32) - (S.1 7 ((S.1 8 batch.toNatClampNeg 0).toNatClampNeg) 3))) / (500 : Int32)) from gsr_s) rfl)) rfl) dX3_dry_130 ?_
          refine g_isub F dX3_dry_133 ?_
          refine g_putN (P2 := gP 1 G (gsr (gsr (gsr (gsr (gsr S.1 0 0 (upd (S.1 0 0) 8 0)) 8 batch.toNatClampNeg (upd (S.1 8 batch.toNatClampNeg) 5 (1 : Int32))) 8 batch.toNatClampNeg (upd (upd (S.1 8 batch.toNatClampNeg) 5 (1 : Int32)) 4 ((S.1 0 0 0) + ((((18 : Int32) + speed) - (1 : Int32)) / speed)))) 8 batch.toNatClampNeg (upd (upd (upd (S.1 8 batch.toNatClampNeg) 5 (1 : Int32)) 4 ((S.1 0 0 0) + ((((18 : Int32) + speed) - (1 : Int32)) / speed))) 2 ((((S.1 8 batch.toNatClampNeg 1) * (speed - (1 : Int32))) * ((10 : Int32) - (S.1 7 ((S.1 8 batch.toNatClampNeg 0).toNatClampNeg) 3))) / (500 : Int32)))) 8 batch.toNatClampNeg (upd (upd (upd (upd (S.1 8 batch.toNatClampNeg) 5 (1 : Int32)) 4 ((S.1 0 0 0) + ((((18 : Int32) + speed) - (1 : Int32)) / speed))) 2 ((((S.1 8 batch.toNatClampNeg 1) * (speed - (1 : Int32))) * ((10 : Int32) - (S.1 7 ((S.1 8 batch.toNatClampNeg 0).toNatClampNeg) 3))) / (500 : Int32))) 1 ((S.1 8 batch.toNatClampNeg 1) - ((((S.1 8 batch.toNatClampNeg 1) * (speed - (1 : Int32))) * ((10 : Int32) - (S.1 7 ((S.1 8 batch.toNatClampNeg 0).toNatClampNeg) 3))) / (500 : Int32)))), S.2) A Fr []) F clX10 1 (by decide) (gT_w q1531 rfl) rfl rfl rfl (pr_put (κ := 8) (i := batch.toNatClampNeg) gM1 hF (upd (upd (upd (upd (S.1 8 batch.toNatClampNeg) 5 (1 : Int32)) 4 ((S.1 0 0 0) + ((((18 : Int32) + speed) - (1 : Int32)) / speed))) 2 ((((S.1 8 batch.toNatClampNeg 1) * (speed - (1 : Int32))) * ((10 : Int32) - (S.1 7 ((S.1 8 batch.toNatClampNeg 0).toNatClampNeg) 3))) / (500 : Int32))) 1 ((S.1 8 batch.toNatClampNeg 1) - ((((S.1 8 batch.toNatClampNeg 1) * (speed - (1 : Int32))) * ((10 : Int32) - (S.1 7 ((S.1 8 batch.toNatClampNeg 0).toNatClampNeg) 3))) / (500 : Int32)))) (by decide) (gc6 (by decide) (Decidable.not_not.mp c_1).2) (gce (show (gsr (gsr (gsr (gsr S.1 0 0 (upd (S.1 0 0) 8 0)) 8 batch.toNatClampNeg (upd (S.1 8 batch.toNatClampNeg) 5 (1 : Int32))) 8 batch.toNatClampNeg (upd (upd (S.1 8 batch.toNatClampNeg) 5 (1 : Int32)) 4 ((S.1 0 0 0) + ((((18 : Int32) + speed) - (1 : Int32)) / speed)))) 8 batch.toNatClampNeg (upd (upd (upd (S.1 8 batch.toNatClampNeg) 5 (1 : Int32)) 4 ((S.1 0 0 0) + ((((18 : Int32) + speed) - (1 : Int32)) / speed))) 2 ((((S.1 8 batch.toNatClampNeg 1) * (speed - (1 : Int32))) * ((10 : Int32) - (S.1 7 ((S.1 8 batch.toNatClampNeg 0).toNatClampNeg) 3))) / (500 : Int32)))) 8 batch.toNatClampNeg = upd (upd (upd (S.1 8 batch.toNatClampNeg) 5 (1 : Int32)) 4 ((S.1 0 0 0) + ((((18 : Int32) + speed) - (1 : Int32)) / speed))) 2 ((((S.1 8 batch.toNatClampNeg 1) * (speed - (1 : Int32))) * ((10 : Int32) - (S.1 7 ((S.1 8 batch.toNatClampNeg 0).toNatClampNeg) 3))) / (500 : Int32)) from gsr_s) rfl) (gnl rfl) rfl) dX3_dry_134 ?_
          refine g_aload_n F 0 rfl rfl dX3_dry_137 ?_
          refine g_getN F clX10 4 (by decide) (gT_w q1534 rfl) (v := .int ((S.1 0 0 0) + ((((18 : Int32) + speed) - (1 : Int32)) / speed))) (gd_get (pr_at (κ := 8) (i := batch.toNatClampNeg) (by decide) (gc6 (by decide) (Decidable.not_not.mp c_1).2) (gce (show (gsr (gsr (gsr (gsr (gsr S.1 0 0 (upd (S.1 0 0) 8 0)) 8 batch.toNatClampNeg (upd (S.1 8 batch.toNatClampNeg) 5 (1 : Int32))) 8 batch.toNatClampNeg (upd (upd (S.1 8 batch.toNatClampNeg) 5 (1 : Int32)) 4 ((S.1 0 0 0) + ((((18 : Int32) + speed) - (1 : Int32)) / speed)))) 8 batch.toNatClampNeg (upd (upd (upd (S.1 8 batch.toNatClampNeg) 5 (1 : Int32)) 4 ((S.1 0 0 0) + ((((18 : Int32) + speed) - (1 : Int32)) / speed))) 2 ((((S.1 8 batch.toNatClampNeg 1) * (speed - (1 : Int32))) * ((10 : Int32) - (S.1 7 ((S.1 8 batch.toNatClampNeg 0).toNatClampNeg) 3))) / (500 : Int32)))) 8 batch.toNatClampNeg (upd (upd (upd (upd (S.1 8 batch.toNatClampNeg) 5 (1 : Int32)) 4 ((S.1 0 0 0) + ((((18 : Int32) + speed) - (1 : Int32)) / speed))) 2 ((((S.1 8 batch.toNatClampNeg 1) * (speed - (1 : Int32))) * ((10 : Int32) - (S.1 7 ((S.1 8 batch.toNatClampNeg 0).toNatClampNeg) 3))) / (500 : Int32))) 1 ((S.1 8 batch.toNatClampNeg 1) - ((((S.1 8 batch.toNatClampNeg 1) * (speed - (1 : Int32))) * ((10 : Int32) - (S.1 7 ((S.1 8 batch.toNatClampNeg 0).toNatClampNeg) 3))) / (500 : Int32))))) 8 batch.toNatClampNeg = upd (upd (upd (upd (S.1 8 batch.toNatClampNeg) 5 (1 : Int32)) 4 ((S.1 0 0 0) + ((((18 : Int32) + speed) - (1 : Int32)) / speed))) 2 ((((S.1 8 batch.toNatClampNeg 1) * (speed - (1 : Int32))) * ((10 : Int32) - (S.1 7 ((S.1 8 batch.toNatClampNeg 0).toNatClampNeg) 3))) / (500 : Int32))) 1 ((S.1 8 batch.toNatClampNeg 1) - ((((S.1 8 batch.toNatClampNeg 1) * (speed - (1 : Int32))) * ((10 : Int32) - (S.1 7 ((S.1 8 batch.toNatClampNeg 0).toNatClampNeg) 3))) / (500 : Int32))) from gsr_s) rfl)) rfl) dX3_dry_138 ?_
          exact g_retI F E rfl rfl (gle rfl) (gle rfl) dX3_dry_141 (fun _ hp => ⟨_, _, ((if_neg c_1).trans ((if_neg c_4).trans (if_neg c_5))), rfl, ⟨A, rfl, gP_T0 hp⟩⟩)
    refine gb_if_ne F (tgt := 29) (by decide) dX3_dry_22 (fun c_2 => ?_) (fun c_2 => ?_)
    · skip
      refine g_iconst F (v := (0 : Int32)) (by decide) dX3_dry_29 ?_
      exact g_top (gb_f (fun q => q c_2)) J_3
    · skip
      refine g_iconst F (v := (1 : Int32)) (by decide) dX3_dry_25 ?_
      refine g_goto F (tgt := 30) (by decide) dX3_dry_26 ?_
      exact g_top (gb_t c_2) J_3

def sM_fire (S : gS) (batch kiln heat hours : Int32) : Value × gS := if ¬ gIn batch (S.2 8) then (.int (-1 : Int32), (gsr (gsr S.1 0 0 (upd (S.1 0 0) 8 0)) 0 0 (upd (upd (S.1 0 0) 8 0) 8 1), S.2)) else (if ¬ (¬ kiln < (0 : Int32) ∧ ¬ (1 : Int32) < kiln) ∨ (¬ (¬ heat < (700 : Int32) ∧ ¬ (1200 : Int32) < heat) ∨ (¬ (¬ hours < (1 : Int32) ∧ ¬ (12 : Int32) < hours))) then (.int (-1 : Int32), (gsr (gsr S.1 0 0 (upd (S.1 0 0) 8 0)) 0 0 (upd (upd (S.1 0 0) 8 0) 8 (2 : Int32)), S.2)) else (if ((S.1 8 batch.toNatClampNeg 5) = 0) ∨ (((S.1 0 0 0) < (S.1 8 batch.toNatClampNeg 4)) ∨ (¬ ((S.1 8 batch.toNatClampNeg 6) = (-1 : Int32)) ∨ (¬ ((S.1 4 0 kiln.toNatClampNeg) ≤ (S.1 0 0 0))))) then (.int (-1 : Int32), (gsr (gsr S.1 0 0 (upd (S.1 0 0) 8 0)) 0 0 (upd (upd (S.1 0 0) 8 0) 8 (3 : Int32)), S.2)) else (.int (S.1 0 0 2), (gsr (gsr (gsr (gsr (gsr (gsr (gsr (gsr S.1 0 0 (upd (S.1 0 0) 8 0)) 8 batch.toNatClampNeg (upd (S.1 8 batch.toNatClampNeg) 6 (S.1 0 0 2))) 0 0 (upd (upd (S.1 0 0) 8 0) 2 ((S.1 0 0 2) + (1 : Int32)))) 8 batch.toNatClampNeg (upd (upd (S.1 8 batch.toNatClampNeg) 6 (S.1 0 0 2)) 11 kiln)) 8 batch.toNatClampNeg (upd (upd (upd (S.1 8 batch.toNatClampNeg) 6 (S.1 0 0 2)) 11 kiln) 4 ((S.1 0 0 0) + hours))) 4 0 (upd (S.1 4 0) kiln.toNatClampNeg ((S.1 0 0 0) + hours))) 8 batch.toNatClampNeg (upd (upd (upd (upd (S.1 8 batch.toNatClampNeg) 6 (S.1 0 0 2)) 11 kiln) 4 ((S.1 0 0 0) + hours)) 9 ((((((1000 : Int32) - (S.1 7 ((S.1 8 batch.toNatClampNeg 0).toNatClampNeg) 2)) * (heat - (600 : Int32))) / (1000 : Int32)) + ((20 : Int32) * (S.1 7 ((S.1 8 batch.toNatClampNeg 0).toNatClampNeg) 3))) + ((5 : Int32) * hours)))) 8 batch.toNatClampNeg (upd (upd (upd (upd (upd (S.1 8 batch.toNatClampNeg) 6 (S.1 0 0 2)) 11 kiln) 4 ((S.1 0 0 0) + hours)) 9 ((((((1000 : Int32) - (S.1 7 ((S.1 8 batch.toNatClampNeg 0).toNatClampNeg) 2)) * (heat - (600 : Int32))) / (1000 : Int32)) + ((20 : Int32) * (S.1 7 ((S.1 8 batch.toNatClampNeg 0).toNatClampNeg) 3))) + ((5 : Int32) * hours))) 10 (gmax (0 : Int32) (gmin (999 : Int32) (((S.1 7 ((S.1 8 batch.toNatClampNeg 0).toNatClampNeg) 2) - ((heat - (700 : Int32)) / (10 : Int32))) + ((5 : Int32) * (S.1 7 ((S.1 8 batch.toNatClampNeg 0).toNatClampNeg) 3)))))), S.2))))
theorem kX3_fire {l : Launch} {G : gG} (hl : l.stackTraces = false) {S : gS} {a0 : Nat} {Fr : gH → Prop} (hF : gFr 1 Fr) (hW : gWf S) {batch kiln heat hours : Int32}  : gMet l yX3_fire (ws_ yX3_fire cX3_fire 7 (some .int)) ⟨4, 0, 0, 85⟩ G [.ref a0, .int batch, .int kiln, .int heat, .int hours] (gPE 1 G S a0 Fr) (gqN (sM_fire S batch kiln heat hours) G a0 Fr) gxN := by
  refine gMet_of hl pnX3 (gle rfl) (fun X Q hX F E hNm => ?_)
  subst hX
  change gW (X, G, 7, Q) (gPE 1 G S a0 Fr) [(0, .ref a0), (1, .int batch), (2, .int kiln), (3, .int heat), (4, .int hours)] 0 [] 0 0
  refine g_pe (fun A hA => ?_)
  subst hA
  change gW _ _ [(0, .ref (A 0 0)), (1, .int batch), (2, .int kiln), (3, .int heat), (4, .int hours)] 0 [] 0 0
  refine g_aload_n F 0 rfl rfl dX3_fire_0 ?_
  refine g_callV F (kX3_begins hl (pr_at (κ := 0) (i := 0) (by decide) (gc1 (gnl rfl)) (gce rfl rfl))) (g_recv F clX3 (gd_obj (pr_at (κ := 0) (i := 0) (by decide) (gc1 (gnl rfl)) (gce rfl rfl)))) q1448 q1450 qs6 q25 q1451 myX3_begins ⟨by decide, by decide⟩ rfl rfl (gle rfl) 0 0 (gle rfl) (gle rfl) (gle rfl) (gle rfl) dX3_fire_1 gx_n (gv_v ?_)
  refine g_mono (P2 := gP 1 G (gsr S.1 0 0 (upd (S.1 0 0) 8 0), S.2) A Fr []) (pr_upRow (κ := 0) (i := 0) gM1 hF (upd (S.1 0 0) 8 0) (by decide) (gc1 (gnl rfl)) (gce rfl rfl) rfl) ?_
  refine g_aload_n F 0 rfl rfl dX3_fire_4 ?_
  refine g_iload_n F 1 rfl rfl dX3_fire_5 ?_
  refine g_callV F (kX3_noBatch hl hF hW (x := batch)) (g_recv F clX3 (gd_obj (pr_at (κ := 0) (i := 0) (by decide) (gc1 (gnl rfl)) (gce (show (gsr S.1 0 0 (upd (S.1 0 0) 8 0)) 0 0 = upd (S.1 0 0) 8 0 from gsr_s) rfl)))) q1577 q1579 qs10 q25 q1580 myX3_noBatch ⟨by decide, by decide⟩ rfl rfl (gle rfl) 0 0 (gle rfl) (gle rfl) (gle rfl) (gle rfl) dX3_fire_6 gx_n (gv_f (fun c_1 => ?_) (fun c_1 => ?_))
  · skip
    refine g_if_ne F (tgt := 62) (by decide) dX3_fire_9 (fun _ => ?_) (fun c => absurd c (by decide))
    refine g_iconst F (v := (-1 : Int32)) (by decide) dX3_fire_62 ?_
    exact g_retI F E rfl rfl (gle rfl) (gle rfl) dX3_fire_63 (fun _ hp => ⟨_, _, (if_pos c_1), rfl, ⟨A, rfl, gP_T0 hp⟩⟩)
  · skip
    refine g_if_ne F (tgt := 62) (by decide) dX3_fire_9 (fun c => absurd c (by decide)) (fun _ => ?_)
    refine g_aload_n F 0 rfl rfl dX3_fire_12 ?_
    refine g_iload_n F 2 rfl rfl dX3_fire_13 ?_
    refine g_i2l F dX3_fire_14 ?_
    refine g_lconst F (v := (0 : Int64)) (by decide) dX3_fire_15 ?_
    refine g_lconst F (v := (1 : Int64)) (by decide) dX3_fire_16 ?_
    refine g_callS F (kX3_in hl (x := kiln) (lo := (0 : Int32)) (hi := (1 : Int32)) (by decide) (by decide)) (lw_S q1453 q1454 q25 q1455) myX3_in ⟨by decide, by decide⟩ rfl rfl (gle rfl) 0 0 (gle rfl) (gle rfl) (gle rfl) (gle rfl) dX3_fire_17 gx_n (gv_i ?_)
    have J_5 : gW (X, G, 7, Q) (gP 1 G (gsr S.1 0 0 (upd (S.1 0 0) 8 0), S.2) A Fr []) [(0, .ref (A 0 0)), (1, .int batch), (2, .int kiln), (3, .int heat), (4, .int hours)] 55 [.int (gb (¬ (¬ kiln < (0 : Int32) ∧ ¬ (1 : Int32) < kiln) ∨ (¬ (¬ heat < (700 : Int32) ∧ ¬ (1200 : Int32) < heat) ∨ (¬ (¬ hours < (1 : Int32) ∧ ¬ (12 : Int32) < hours))))), .ref (A 0 0)] 0 0 := by
      refine g_iconst F (v := (2 : Int32)) (by decide) dX3_fire_55 ?_
      refine g_callV F (kX3_fails hl (b := gb (¬ (¬ kiln < (0 : Int32) ∧ ¬ (1 : Int32) < kiln) ∨ (¬ (¬ heat < (700 : Int32) ∧ ¬ (1200 : Int32) < heat) ∨ (¬ (¬ hours < (1 : Int32) ∧ ¬ (12 : Int32) < hours))))) (nu := (2 : Int32)) (c := ¬ (¬ kiln < (0 : Int32) ∧ ¬ (1 : Int32) < kiln) ∨ (¬ (¬ heat < (700 : Int32) ∧ ¬ (1200 : Int32) < heat) ∨ (¬ (¬ hours < (1 : Int32) ∧ ¬ (12 : Int32) < hours)))) gb_n0 (by decide) (pr_at (κ := 0) (i := 0) (by decide) (gc1 (gnl rfl)) (gce (show (gsr S.1 0 0 (upd (S.1 0 0) 8 0)) 0 0 = upd (S.1 0 0) 8 0 from gsr_s) rfl))) (g_recv F clX3 (gd_obj (pr_at (κ := 0) (i := 0) (by decide) (gc1 (gnl rfl)) (gce (show (gsr S.1 0 0 (upd (S.1 0 0) 8 0)) 0 0 = upd (S.1 0 0) 8 0 from gsr_s) rfl)))) q1456 q1458 qs7 q25 q1459 myX3_fails ⟨by decide, by decide⟩ rfl rfl (gle rfl) 0 0 (gle rfl) (gle rfl) (gle rfl) (gle rfl) dX3_fire_56 gx_n (gv_f (fun c_6 => ?_) (fun c_6 => ?_))
      · skip
        refine g_mono (P2 := gP 1 G (gsr (gsr S.1 0 0 (upd (S.1 0 0) 8 0)) 0 0 (upd (upd (S.1 0 0) 8 0) 8 (2 : Int32)), S.2) A Fr []) (pr_upRow (κ := 0) (i := 0) gM1 hF (upd (upd (S.1 0 0) 8 0) 8 (2 : Int32)) (by decide) (gc1 (gnl rfl)) (gce (show (gsr S.1 0 0 (upd (S.1 0 0) 8 0)) 0 0 = upd (S.1 0 0) 8 0 from gsr_s) rfl) rfl) ?_
        refine g_if_eq F (tgt := 64) (by decide) dX3_fire_59 (fun c => absurd c (by decide)) (fun _ => ?_)
        refine g_iconst F (v := (-1 : Int32)) (by decide) dX3_fire_62 ?_
        exact g_retI F E rfl rfl (gle rfl) (gle rfl) dX3_fire_63 (fun _ hp => ⟨_, _, ((if_neg c_1).trans (if_pos c_6)), rfl, ⟨A, rfl, gP_T0 hp⟩⟩)
      · skip
        refine g_if_eq F (tgt := 64) (by decide) dX3_fire_59 (fun _ => ?_) (fun c => absurd c (by decide))
        refine g_aload_n F 0 rfl rfl dX3_fire_64 ?_
        refine g_get F clX3 9 (by decide) q1398 (v := .ref (A 308 0)) (gd_get (pr_at (κ := 0) (i := 0) (by decide) (gc1 (gnl rfl)) (gce (show (gsr S.1 0 0 (upd (S.1 0 0) 8 0)) 0 0 = upd (S.1 0 0) 8 0 from gsr_s) rfl)) rfl) dX3_fire_65 ?_
        refine g_iload_n F 1 rfl rfl dX3_fire_68 ?_
        refine g_callF F clJ3 (kJ3_get hl (pr_ls (M := 1) (S := (gsr S.1 0 0 (upd (S.1 0 0) 8 0), S.2)) (A := A) (κ := 8) (by decide) (Or.inl ⟨by decide, by decide⟩) (fun q => by first | decide | exact absurd q (by decide)) (fun q => by first | decide | exact absurd q (by decide))) (j := batch.toNatClampNeg) (Decidable.not_not.mp c_1).2 (gw_n hW _) rfl (Decidable.not_not.mp c_1).1) (g_recv F clJ3 (gls_obj (pr_ls (M := 1) (S := (gsr S.1 0 0 (upd (S.1 0 0) 8 0), S.2)) (A := A) (κ := 8) (by decide) (Or.inl ⟨by decide, by decide⟩) (fun q => by first | decide | exact absurd q (by decide)) (fun q => by first | decide | exact absurd q (by decide))))) q1506 q809 q811 q22 q813 (List.mem_of_getElem? (i := 1) rfl) (gT_w q812 rfl) (gT_w q810 rfl) (gT_w q293 rfl) gface_1 ⟨by decide, by decide⟩ rfl rfl (gle rfl) 0 0 (gle rfl) (gle rfl) (gle rfl) (gle rfl) dX3_fire_69 gx_n (gv_i ?_)
        refine g_castS F (g_recv F clX10 (gd_obj (pr_at (κ := 8) (i := batch.toNatClampNeg) (by decide) (gc6 (by decide) (Decidable.not_not.mp c_1).2) (gce (show (gsr S.1 0 0 (upd (S.1 0 0) 8 0)) 8 batch.toNatClampNeg = S.1 8 batch.toNatClampNeg from (gsr_p (by decide) rfl)) rfl)))) q1524 dX3_fire_74 ?_
        refine g_astore F (by show 5 < 7; decide) (lv2 := [(5, .ref (A 8 batch.toNatClampNeg)), (0, .ref (A 0 0)), (1, .int batch), (2, .int kiln), (3, .int heat), (4, .int hours)]) rfl dX3_fire_77 ?_
        refine g_aload_n F 1 rfl rfl dX3_fire_79 ?_
        refine g_aload F 0 rfl dX3_fire_80 ?_
        refine g_getN F clX10 5 (by decide) (gT_w q1535 rfl) (v := .int (S.1 8 batch.toNatClampNeg 5)) (gd_get (pr_at (κ := 8) (i := batch.toNatClampNeg) (by decide) (gc6 (by decide) (Decidable.not_not.mp c_1).2) (gce (show (gsr S.1 0 0 (upd (S.1 0 0) 8 0)) 8 batch.toNatClampNeg = S.1 8 batch.toNatClampNeg from (gsr_p (by decide) rfl)) rfl)) rfl) dX3_fire_82 ?_
        have J_11 : gW (X, G, 7, Q) (gP 1 G (gsr S.1 0 0 (upd (S.1 0 0) 8 0), S.2) A Fr []) [(5, .ref (A 8 batch.toNatClampNeg)), (0, .ref (A 0 0)), (1, .int batch), (2, .int kiln), (3, .int heat), (4, .int hours)] 127 [.int (gb (((S.1 8 batch.toNatClampNeg 5) = 0) ∨ (((S.1 0 0 0) < (S.1 8 batch.toNatClampNeg 4)) ∨ (¬ ((S.1 8 batch.toNatClampNeg 6) = (-1 : Int32)) ∨ (¬ ((S.1 4 0 kiln.toNatClampNeg) ≤ (S.1 0 0 0))))))), .ref (A 0 0)] 0 0 := by
          refine g_iconst F (v := (3 : Int32)) (by decide) dX3_fire_127 ?_
          refine g_callV F (kX3_fails hl (b := gb (((S.1 8 batch.toNatClampNeg 5) = 0) ∨ (((S.1 0 0 0) < (S.1 8 batch.toNatClampNeg 4)) ∨ (¬ ((S.1 8 batch.toNatClampNeg 6) = (-1 : Int32)) ∨ (¬ ((S.1 4 0 kiln.toNatClampNeg) ≤ (S.1 0 0 0))))))) (nu := (3 : Int32)) (c := ((S.1 8 batch.toNatClampNeg 5) = 0) ∨ (((S.1 0 0 0) < (S.1 8 batch.toNatClampNeg 4)) ∨ (¬ ((S.1 8 batch.toNatClampNeg 6) = (-1 : Int32)) ∨ (¬ ((S.1 4 0 kiln.toNatClampNeg) ≤ (S.1 0 0 0)))))) gb_n0 (by decide) (pr_at (κ := 0) (i := 0) (by decide) (gc1 (gnl rfl)) (gce (show (gsr S.1 0 0 (upd (S.1 0 0) 8 0)) 0 0 = upd (S.1 0 0) 8 0 from gsr_s) rfl))) (g_recv F clX3 (gd_obj (pr_at (κ := 0) (i := 0) (by decide) (gc1 (gnl rfl)) (gce (show (gsr S.1 0 0 (upd (S.1 0 0) 8 0)) 0 0 = upd (S.1 0 0) 8 0 from gsr_s) rfl)))) q1456 q1458 qs7 q25 q1459 myX3_fails ⟨by decide, by decide⟩ rfl rfl (gle rfl) 0 0 (gle rfl) (gle rfl) (gle rfl) (gle rfl) dX3_fire_128 gx_n (gv_f (fun c_12 => ?_) (fun c_12 => ?_))
          · skip
            refine g_mono (P2 := gP 1 G (gsr (gsr S.1 0 0 (upd (S.1 0 0) 8 0)) 0 0 (upd (upd (S.1 0 0) 8 0) 8 (3 : Int32)), S.2) A Fr []) (pr_upRow (κ := 0) (i := 0) gM1 hF (upd (upd (S.1 0 0) 8 0) 8 (3 : Int32)) (by decide) (gc1 (gnl rfl)) (gce (show (gsr S.1 0 0 (upd (S.1 0 0) 8 0)) 0 0 = upd (S.1 0 0) 8 0 from gsr_s) rfl) rfl) ?_
            refine g_if_eq F (tgt := 136) (by decide) dX3_fire_131 (fun c => absurd c (by decide)) (fun _ => ?_)
            refine g_iconst F (v := (-1 : Int32)) (by decide) dX3_fire_134 ?_
            exact g_retI F E rfl rfl (gle rfl) (gle rfl) dX3_fire_135 (fun _ hp => ⟨_, _, ((if_neg c_1).trans ((if_neg c_6).trans (if_pos c_12))), rfl, ⟨A, rfl, gP_T0 hp⟩⟩)
          · skip
            refine g_if_eq F (tgt := 136) (by decide) dX3_fire_131 (fun _ => ?_) (fun c => absurd c (by decide))
            refine g_aload_n F 1 rfl rfl dX3_fire_136 ?_
            refine g_get F clX3 6 (by decide) q1395 (v := .ref (A 307 0)) (gd_get (pr_at (κ := 0) (i := 0) (by decide) (gc1 (gnl rfl)) (gce (show (gsr S.1 0 0 (upd (S.1 0 0) 8 0)) 0 0 = upd (S.1 0 0) 8 0 from gsr_s) rfl)) rfl) dX3_fire_137 ?_
            refine g_aload F 0 rfl dX3_fire_140 ?_
            refine g_getN F clX10 0 (by decide) (gT_w q1530 rfl) (v := .int (S.1 8 batch.toNatClampNeg 0)) (gd_get (pr_at (κ := 8) (i := batch.toNatClampNeg) (by decide) (gc6 (by decide) (Decidable.not_not.mp c_1).2) (gce (show (gsr S.1 0 0 (upd (S.1 0 0) 8 0)) 8 batch.toNatClampNeg = S.1 8 batch.toNatClampNeg from (gsr_p (by decide) rfl)) rfl)) rfl) dX3_fire_142 ?_
            refine g_callF F clJ3 (kJ3_get hl (pr_ls (M := 1) (S := (gsr S.1 0 0 (upd (S.1 0 0) 8 0), S.2)) (A := A) (κ := 7) (by decide) (Or.inl ⟨by decide, by decide⟩) (fun q => by first | decide | exact absurd q (by decide)) (fun q => by first | decide | exact absurd q (by decide))) (j := (S.1 8 batch.toNatClampNeg 0).toNatClampNeg) (gw_8_0 hW (Decidable.not_not.mp c_1).2).2 (gw_n hW _) rfl (gw_8_0 hW (Decidable.not_not.mp c_1).2).1) (g_recv F clJ3 (gls_obj (pr_ls (M := 1) (S := (gsr S.1 0 0 (upd (S.1 0 0) 8 0), S.2)) (A := A) (κ := 7) (by decide) (Or.inl ⟨by decide, by decide⟩) (fun q => by first | decide | exact absurd q (by decide)) (fun q => by first | decide | exact absurd q (by decide))))) q1506 q809 q811 q22 q813 (List.mem_of_getElem? (i := 1) rfl) (gT_w q812 rfl) (gT_w q810 rfl) (gT_w q293 rfl) gface_1 ⟨by decide, by decide⟩ rfl rfl (gle rfl) 0 0 (gle rfl) (gle rfl) (gle rfl) (gle rfl) dX3_fire_145 gx_n (gv_i ?_)
            refine g_castS F (g_recvI F (pr_at (κ := 7) (i := (S.1 8 batch.toNatClampNeg 0).toNatClampNeg) (by decide) (gc6 (by decide) (gw_8_0 hW (Decidable.not_not.mp c_1).2).2) (gce (show (gsr S.1 0 0 (upd (S.1 0 0) 8 0)) 7 ((S.1 8 batch.toNatClampNeg 0).toNatClampNeg) = S.1 7 ((S.1 8 batch.toNatClampNeg 0).toNatClampNeg) from (gsr_p (by decide) rfl)) rfl))) q1507 dX3_fire_150 ?_
            refine g_iconst F (v := (2 : Int32)) (by decide) dX3_fire_153 ?_
            refine g_ialdN F (m := 2) rfl (by decide) (by decide) (pr_at (κ := 7) (i := (S.1 8 batch.toNatClampNeg 0).toNatClampNeg) (by decide) (gc6 (by decide) (gw_8_0 hW (Decidable.not_not.mp c_1).2).2) (gce (show (gsr S.1 0 0 (upd (S.1 0 0) 8 0)) 7 ((S.1 8 batch.toNatClampNeg 0).toNatClampNeg) = S.1 7 ((S.1 8 batch.toNatClampNeg 0).toNatClampNeg) from (gsr_p (by decide) rfl)) rfl)) dX3_fire_154 ?_
            change gW _ _ _ _ (.int (S.1 7 ((S.1 8 batch.toNatClampNeg 0).toNatClampNeg) 2) :: _) _ _
            refine g_istore F (by show 6 < 7; decide) (lv2 := [(6, .int (S.1 7 ((S.1 8 batch.toNatClampNeg 0).toNatClampNeg) 2)), (5, .ref (A 8 batch.toNatClampNeg)), (0, .ref (A 0 0)), (1, .int batch), (2, .int kiln), (3, .int heat), (4, .int hours)]) rfl dX3_fire_155 ?_
            refine g_aload F 1 rfl dX3_fire_157 ?_
            refine g_aload_n F 2 rfl rfl dX3_fire_159 ?_
            refine g_get F clX3 14 (by decide) q1403 (v := .int (S.1 0 0 2)) (gd_get (pr_at (κ := 0) (i := 0) (by decide) (gc1 (gnl rfl)) (gce (show (gsr S.1 0 0 (upd (S.1 0 0) 8 0)) 0 0 = upd (S.1 0 0) 8 0 from gsr_s) rfl)) rfl) dX3_fire_160 ?_
            refine g_putN (P2 := gP 1 G (gsr (gsr S.1 0 0 (upd (S.1 0 0) 8 0)) 8 batch.toNatClampNeg (upd (S.1 8 batch.toNatClampNeg) 6 (S.1 0 0 2)), S.2) A Fr []) F clX10 6 (by decide) (gT_w q1537 rfl) rfl rfl rfl (pr_put (κ := 8) (i := batch.toNatClampNeg) gM1 hF (upd (S.1 8 batch.toNatClampNeg) 6 (S.1 0 0 2)) (by decide) (gc6 (by decide) (Decidable.not_not.mp c_1).2) (gce (show (gsr S.1 0 0 (upd (S.1 0 0) 8 0)) 8 batch.toNatClampNeg = S.1 8 batch.toNatClampNeg from (gsr_p (by decide) rfl)) rfl) (gnl rfl) rfl) dX3_fire_163 ?_
            refine g_aload_n F 2 rfl rfl dX3_fire_166 ?_
            refine g_dup F rfl dX3_fire_167 ?_
            refine g_get F clX3 14 (by decide) q1403 (v := .int (S.1 0 0 2)) (gd_get (pr_at (κ := 0) (i := 0) (by decide) (gc1 (gnl rfl)) (gce (show (gsr (gsr S.1 0 0 (upd (S.1 0 0) 8 0)) 8 batch.toNatClampNeg (upd (S.1 8 batch.toNatClampNeg) 6 (S.1 0 0 2))) 0 0 = upd (S.1 0 0) 8 0 from (gsr_p (by decide) gsr_s)) rfl)) rfl) dX3_fire_168 ?_
            refine g_iconst F (v := (1 : Int32)) (by decide) dX3_fire_171 ?_
            refine g_iadd F dX3_fire_172 ?_
            refine g_put (P2 := gP 1 G (gsr (gsr (gsr S.1 0 0 (upd (S.1 0 0) 8 0)) 8 batch.toNatClampNeg (upd (S.1 8 batch.toNatClampNeg) 6 (S.1 0 0 2))) 0 0 (upd (upd (S.1 0 0) 8 0) 2 ((S.1 0 0 2) + (1 : Int32))), S.2) A Fr []) F clX3 14 (by decide) q1403 rfl rfl rfl (pr_put (κ := 0) (i := 0) gM1 hF (upd (upd (S.1 0 0) 8 0) 2 ((S.1 0 0 2) + (1 : Int32))) (by decide) (gc1 (gnl rfl)) (gce (show (gsr (gsr S.1 0 0 (upd (S.1 0 0) 8 0)) 8 batch.toNatClampNeg (upd (S.1 8 batch.toNatClampNeg) 6 (S.1 0 0 2))) 0 0 = upd (S.1 0 0) 8 0 from (gsr_p (by decide) gsr_s)) rfl) (gnl rfl) rfl) dX3_fire_173 ?_
            refine g_aload F 1 rfl dX3_fire_176 ?_
            refine g_iload_n F 4 rfl rfl dX3_fire_178 ?_
            refine g_putN (P2 := gP 1 G (gsr (gsr (gsr (gsr S.1 0 0 (upd (S.1 0 0) 8 0)) 8 batch.toNatClampNeg (upd (S.1 8 batch.toNatClampNeg) 6 (S.1 0 0 2))) 0 0 (upd (upd (S.1 0 0) 8 0) 2 ((S.1 0 0 2) + (1 : Int32)))) 8 batch.toNatClampNeg (upd (upd (S.1 8 batch.toNatClampNeg) 6 (S.1 0 0 2)) 11 kiln), S.2) A Fr []) F clX10 7 (by decide) (gT_w q1538 rfl) rfl rfl rfl (pr_put (κ := 8) (i := batch.toNatClampNeg) gM1 hF (upd (upd (S.1 8 batch.toNatClampNeg) 6 (S.1 0 0 2)) 11 kiln) (by decide) (gc6 (by decide) (Decidable.not_not.mp c_1).2) (gce (show (gsr (gsr (gsr S.1 0 0 (upd (S.1 0 0) 8 0)) 8 batch.toNatClampNeg (upd (S.1 8 batch.toNatClampNeg) 6 (S.1 0 0 2))) 0 0 (upd (upd (S.1 0 0) 8 0) 2 ((S.1 0 0 2) + (1 : Int32)))) 8 batch.toNatClampNeg = upd (S.1 8 batch.toNatClampNeg) 6 (S.1 0 0 2) from (gsr_p (by decide) gsr_s)) rfl) (gnl rfl) rfl) dX3_fire_179 ?_
            refine g_aload F 1 rfl dX3_fire_182 ?_
            refine g_aload_n F 2 rfl rfl dX3_fire_184 ?_
            refine g_get F clX3 1 (by decide) q1390 (v := .int (S.1 0 0 0)) (gd_get (pr_at (κ := 0) (i := 0) (by decide) (gc1 (gnl rfl)) (gce (show (gsr (gsr (gsr (gsr S.1 0 0 (upd (S.1 0 0) 8 0)) 8 batch.toNatClampNeg (upd (S.1 8 batch.toNatClampNeg) 6 (S.1 0 0 2))) 0 0 (upd (upd (S.1 0 0) 8 0) 2 ((S.1 0 0 2) + (1 : Int32)))) 8 batch.toNatClampNeg (upd (upd (S.1 8 batch.toNatClampNeg) 6 (S.1 0 0 2)) 11 kiln)) 0 0 = upd (upd (S.1 0 0) 8 0) 2 ((S.1 0 0 2) + (1 : Int32)) from (gsr_p (by decide) gsr_s)) rfl)) rfl) dX3_fire_185 ?_
            refine g_iload F 6 rfl dX3_fire_188 ?_
            refine g_iadd F dX3_fire_190 ?_
            refine g_putN (P2 := gP 1 G (gsr (gsr (gsr (gsr (gsr S.1 0 0 (upd (S.1 0 0) 8 0)) 8 batch.toNatClampNeg (upd (S.1 8 batch.toNatClampNeg) 6 (S.1 0 0 2))) 0 0 (upd (upd (S.1 0 0) 8 0) 2 ((S.1 0 0 2) + (1 : Int32)))) 8 batch.toNatClampNeg (upd (upd (S.1 8 batch.toNatClampNeg) 6 (S.1 0 0 2)) 11 kiln)) 8 batch.toNatClampNeg (upd (upd (upd (S.1 8 batch.toNatClampNeg) 6 (S.1 0 0 2)) 11 kiln) 4 ((S.1 0 0 0) + hours)), S.2) A Fr []) F clX10 4 (by decide) (gT_w q1534 rfl) rfl rfl rfl (pr_put (κ := 8) (i := batch.toNatClampNeg) gM1 hF (upd (upd (upd (S.1 8 batch.toNatClampNeg) 6 (S.1 0 0 2)) 11 kiln) 4 ((S.1 0 0 0) + hours)) (by decide) (gc6 (by decide) (Decidable.not_not.mp c_1).2) (gce (show (gsr (gsr (gsr (gsr S.1 0 0 (upd (S.1 0 0) 8 0)) 8 batch.toNatClampNeg (upd (S.1 8 batch.toNatClampNeg) 6 (S.1 0 0 2))) 0 0 (upd (upd (S.1 0 0) 8 0) 2 ((S.1 0 0 2) + (1 : Int32)))) 8 batch.toNatClampNeg (upd (upd (S.1 8 batch.toNatClampNeg) 6 (S.1 0 0 2)) 11 kiln)) 8 batch.toNatClampNeg = upd (upd (S.1 8 batch.toNatClampNeg) 6 (S.1 0 0 2)) 11 kiln from gsr_s) rfl) (gnl rfl) rfl) dX3_fire_191 ?_
            refine g_aload_n F 2 rfl rfl dX3_fire_194 ?_
            refine g_get F clX3 8 (by decide) q1397 (v := .ref (A 4 0)) (gd_get (pr_at (κ := 0) (i := 0) (by decide) (gc1 (gnl rfl)) (gce (show (gsr (gsr (gsr (gsr (gsr S.1 0 0 (upd (S.1 0 0) 8 0)) 8 batch.toNatClampNeg (upd (S.1 8 batch.toNatClampNeg) 6 (S.1 0 0 2))) 0 0 (upd (upd (S.1 0 0) 8 0) 2 ((S.1 0 0 2) + (1 : Int32)))) 8 batch.toNatClampNeg (upd (upd (S.1 8 batch.toNatClampNeg) 6 (S.1 0 0 2)) 11 kiln)) 8 batch.toNatClampNeg (upd (upd (upd (S.1 8 batch.toNatClampNeg) 6 (S.1 0 0 2)) 11 kiln) 4 ((S.1 0 0 0) + hours))) 0 0 = upd (upd (S.1 0 0) 8 0) 2 ((S.1 0 0 2) + (1 : Int32)) from (gsr_p (by decide) (gsr_p (by decide) gsr_s))) rfl)) rfl) dX3_fire_195 ?_
            refine g_iload_n F 4 rfl rfl dX3_fire_198 ?_
            refine g_aload F 1 rfl dX3_fire_199 ?_
            refine g_getN F clX10 4 (by decide) (gT_w q1534 rfl) (v := .int ((S.1 0 0 0) + hours)) (gd_get (pr_at (κ := 8) (i := batch.toNatClampNeg) (by decide) (gc6 (by decide) (Decidable.not_not.mp c_1).2) (gce (show (gsr (gsr (gsr (gsr (gsr S.1 0 0 (upd (S.1 0 0) 8 0)) 8 batch.toNatClampNeg (upd (S.1 8 batch.toNatClampNeg) 6 (S.1 0 0 2))) 0 0 (upd (upd (S.1 0 0) 8 0) 2 ((S.1 0 0 2) + (1 : Int32)))) 8 batch.toNatClampNeg (upd (upd (S.1 8 batch.toNatClampNeg) 6 (S.1 0 0 2)) 11 kiln)) 8 batch.toNatClampNeg (upd (upd (upd (S.1 8 batch.toNatClampNeg) 6 (S.1 0 0 2)) 11 kiln) 4 ((S.1 0 0 0) + hours))) 8 batch.toNatClampNeg = upd (upd (upd (S.1 8 batch.toNatClampNeg) 6 (S.1 0 0 2)) 11 kiln) 4 ((S.1 0 0 0) + hours) from gsr_s) rfl)) rfl) dX3_fire_201 ?_
            refine g_iast (P2 := gP 1 G (gsr (gsr (gsr (gsr (gsr (gsr S.1 0 0 (upd (S.1 0 0) 8 0)) 8 batch.toNatClampNeg (upd (S.1 8 batch.toNatClampNeg) 6 (S.1 0 0 2))) 0 0 (upd (upd (S.1 0 0) 8 0) 2 ((S.1 0 0 2) + (1 : Int32)))) 8 batch.toNatClampNeg (upd (upd (S.1 8 batch.toNatClampNeg) 6 (S.1 0 0 2)) 11 kiln)) 8 batch.toNatClampNeg (upd (upd (upd (S.1 8 batch.toNatClampNeg) 6 (S.1 0 0 2)) 11 kiln) 4 ((S.1 0 0 0) + hours))) 4 0 (upd (S.1 4 0) kiln.toNatClampNeg ((S.1 0 0 0) + hours)), S.2) A Fr []) F (gvp (K := 1) (by decide) ⟨(Decidable.not_not.mp (fun q => c_6 (Or.inl q))).1, (Decidable.not_not.mp (fun q => c_6 (Or.inl q))).2⟩) (pr_setRow (κ := 4) (i := 0) gM1 hF (upd (S.1 4 0) kiln.toNatClampNeg ((S.1 0 0 0) + hours)) (by decide) (gc1 (gnl rfl)) (gce (show (gsr (gsr (gsr (gsr (gsr S.1 0 0 (upd (S.1 0 0) 8 0)) 8 batch.toNatClampNeg (upd (S.1 8 batch.toNatClampNeg) 6 (S.1 0 0 2))) 0 0 (upd (upd (S.1 0 0) 8 0) 2 ((S.1 0 0 2) + (1 : Int32)))) 8 batch.toNatClampNeg (upd (upd (S.1 8 batch.toNatClampNeg) 6 (S.1 0 0 2)) 11 kiln)) 8 batch.toNatClampNeg (upd (upd (upd (S.1 8 batch.toNatClampNeg) 6 (S.1 0 0 2)) 11 kiln) 4 ((S.1 0 0 0) + hours))) 4 0 = S.1 4 0 from (gsr_p (by decide) (gsr_p (by decide) (gsr_p (by decide) (gsr_p (by decide) (gsr_p (by decide) rfl)))))) rfl) rfl) dX3_fire_204 ?_
            refine g_aload F 1 rfl dX3_fire_205 ?_
            refine g_sipush F (v := (1000 : Int32)) (by decide) dX3_fire_207 ?_
            refine g_iload F 0 rfl dX3_fire_210 ?_
            refine g_isub F dX3_fire_212 ?_
            refine g_iload_n F 5 rfl rfl dX3_fire_213 ?_
            refine g_sipush F (v := (600 : Int32)) (by decide) dX3_fire_214 ?_
            refine g_isub F dX3_fire_217 ?_
            refine g_imul F dX3_fire_218 ?_
            refine g_sipush F (v := (1000 : Int32)) (by decide) dX3_fire_219 ?_
            refine g_idiv F (by decide) dX3_fire_222 ?_
            refine g_bipush F (v := (20 : Int32)) (by decide) dX3_fire_223 ?_
            refine g_aload_n F 2 rfl rfl dX3_fire_225 ?_
            refine g_aload F 1 rfl dX3_fire_226 ?_
            refine g_callV F (kX3_fineness hl (pr_at (κ := 0) (i := 0) (by decide) (gc1 (gnl rfl)) (gce (show (gsr (gsr (gsr (gsr (gsr (gsr S.1 0 0 (upd (S.1 0 0) 8 0)) 8 batch.toNatClampNeg (upd (S.1 8 batch.toNatClampNeg) 6 (S.1 0 0 2))) 0 0 (upd (upd (S.1 0 0) 8 0) 2 ((S.1 0 0 2) + (1 : Int32)))) 8 batch.toNatClampNeg (upd (upd (S.1 8 batch.toNatClampNeg) 6 (S.1 0 0 2)) 11 kiln)) 8 batch.toNatClampNeg (upd (upd (upd (S.1 8 batch.toNatClampNeg) 6 (S.1 0 0 2)) 11 kiln) 4 ((S.1 0 0 0) + hours))) 4 0 (upd (S.1 4 0) kiln.toNatClampNeg ((S.1 0 0 0) + hours))) 0 0 = upd (upd (S.1 0 0) 8 0) 2 ((S.1 0 0 2) + (1 : Int32)) from (gsr_p (by decide) (gsr_p (by decide) (gsr_p (by decide) gsr_s)))) rfl)) (pr_at (κ := 8) (i := batch.toNatClampNeg) (by decide) (gc6 (by decide) (Decidable.not_not.mp c_1).2) (gce (show (gsr (gsr (gsr (gsr (gsr (gsr S.1 0 0 (upd (S.1 0 0) 8 0)) 8 batch.toNatClampNeg (upd (S.1 8 batch.toNatClampNeg) 6 (S.1 0 0 2))) 0 0 (upd (upd (S.1 0 0) 8 0) 2 ((S.1 0 0 2) + (1 : Int32)))) 8 batch.toNatClampNeg (upd (upd (S.1 8 batch.toNatClampNeg) 6 (S.1 0 0 2)) 11 kiln)) 8 batch.toNatClampNeg (upd (upd (upd (S.1 8 batch.toNatClampNeg) 6 (S.1 0 0 2)) 11 kiln) 4 ((S.1 0 0 0) + hours))) 4 0 (upd (S.1 4 0) kiln.toNatClampNeg ((S.1 0 0 0) + hours))) 8 batch.toNatClampNeg = upd (upd (upd (S.1 8 batch.toNatClampNeg) 6 (S.1 0 0 2)) 11 kiln) 4 ((S.1 0 0 0) + hours) from (gsr_p (by decide) gsr_s)) rfl)) (pr_ls (M := 1) (S := (gsr (gsr (gsr (gsr (gsr (gsr S.1 0 0 (upd (S.1 0 0) 8 0)) 8 batch.toNatClampNeg (upd (S.1 8 batch.toNatClampNeg) 6 (S.1 0 0 2))) 0 0 (upd (upd (S.1 0 0) 8 0) 2 ((S.1 0 0 2) + (1 : Int32)))) 8 batch.toNatClampNeg (upd (upd (S.1 8 batch.toNatClampNeg) 6 (S.1 0 0 2)) 11 kiln)) 8 batch.toNatClampNeg (upd (upd (upd (S.1 8 batch.toNatClampNeg) 6 (S.1 0 0 2)) 11 kiln) 4 ((S.1 0 0 0) + hours))) 4 0 (upd (S.1 4 0) kiln.toNatClampNeg ((S.1 0 0 0) + hours)), S.2)) (A := A) (κ := 7) (by decide) (Or.inl ⟨by decide, by decide⟩) (fun q => by first | decide | exact absurd q (by decide)) (fun q => by first | decide | exact absurd q (by decide))) (gw_n hW _) (gw_8_0 hW (Decidable.not_not.mp c_1).2) (pr_at (κ := 7) (i := (S.1 8 batch.toNatClampNeg 0).toNatClampNeg) (by decide) (gc6 (by decide) (gw_8_0 hW (Decidable.not_not.mp c_1).2).2) (gce (show (gsr (gsr (gsr (gsr (gsr (gsr S.1 0 0 (upd (S.1 0 0) 8 0)) 8 batch.toNatClampNeg (upd (S.1 8 batch.toNatClampNeg) 6 (S.1 0 0 2))) 0 0 (upd (upd (S.1 0 0) 8 0) 2 ((S.1 0 0 2) + (1 : Int32)))) 8 batch.toNatClampNeg (upd (upd (S.1 8 batch.toNatClampNeg) 6 (S.1 0 0 2)) 11 kiln)) 8 batch.toNatClampNeg (upd (upd (upd (S.1 8 batch.toNatClampNeg) 6 (S.1 0 0 2)) 11 kiln) 4 ((S.1 0 0 0) + hours))) 4 0 (upd (S.1 4 0) kiln.toNatClampNeg ((S.1 0 0 0) + hours))) 7 ((S.1 8 batch.toNatClampNeg 0).toNatClampNeg) = S.1 7 ((S.1 8 batch.toNatClampNeg 0).toNatClampNeg) from (gsr_p (by decide) (gsr_p (by decide) (gsr_p (by decide) (gsr_p (by decide) (gsr_p (by decide) (gsr_p (by decide) rfl))))))) rfl))) (g_recv F clX3 (gd_obj (pr_at (κ := 0) (i := 0) (by decide) (gc1 (gnl rfl)) (gce (show (gsr (gsr (gsr (gsr (gsr (gsr S.1 0 0 (upd (S.1 0 0) 8 0)) 8 batch.toNatClampNeg (upd (S.1 8 batch.toNatClampNeg) 6 (S.1 0 0 2))) 0 0 (upd (upd (S.1 0 0) 8 0) 2 ((S.1 0 0 2) + (1 : Int32)))) 8 batch.toNatClampNeg (upd (upd (S.1 8 batch.toNatClampNeg) 6 (S.1 0 0 2)) 11 kiln)) 8 batch.toNatClampNeg (upd (upd (upd (S.1 8 batch.toNatClampNeg) 6 (S.1 0 0 2)) 11 kiln) 4 ((S.1 0 0 0) + hours))) 4 0 (upd (S.1 4 0) kiln.toNatClampNeg ((S.1 0 0 0) + hours))) 0 0 = upd (upd (S.1 0 0) 8 0) 2 ((S.1 0 0 2) + (1 : Int32)) from (gsr_p (by decide) (gsr_p (by decide) (gsr_p (by decide) gsr_s)))) rfl)))) q1582 q1584 qs11 q25 q1585 myX3_fineness ⟨by decide, by decide⟩ rfl rfl (gle rfl) 0 0 (gle rfl) (gle rfl) (gle rfl) (gle rfl) dX3_fire_228 gx_n (gv_i ?_)
            refine g_imul F dX3_fire_231 ?_
            refine g_iadd F dX3_fire_232 ?_
            refine g_iconst F (v := (5 : Int32)) (by decide) dX3_fire_233 ?_
            refine g_iload F 6 rfl dX3_fire_234 ?_
            refine g_imul F dX3_fire_236 ?_
            refine g_iadd F dX3_fire_237 ?_
            refine g_putN (P2 := gP 1 G (gsr (gsr (gsr (gsr (gsr (gsr (gsr S.1 0 0 (upd (S.1 0 0) 8 0)) 8 batch.toNatClampNeg (upd (S.1 8 batch.toNatClampNeg) 6 (S.1 0 0 2))) 0 0 (upd (upd (S.1 0 0) 8 0) 2 ((S.1 0 0 2) + (1 : Int32)))) 8 batch.toNatClampNeg (upd (upd (S.1 8 batch.toNatClampNeg) 6 (S.1 0 0 2)) 11 kiln)) 8 batch.toNatClampNeg (upd (upd (upd (S.1 8 batch.toNatClampNeg) 6 (S.1 0 0 2)) 11 kiln) 4 ((S.1 0 0 0) + hours))) 4 0 (upd (S.1 4 0) kiln.toNatClampNeg ((S.1 0 0 0) + hours))) 8 batch.toNatClampNeg (upd (upd (upd (upd (S.1 8 batch.toNatClampNeg) 6 (S.1 0 0 2)) 11 kiln) 4 ((S.1 0 0 0) + hours)) 9 ((((((1000 : Int32) - (S.1 7 ((S.1 8 batch.toNatClampNeg 0).toNatClampNeg) 2)) * (heat - (600 : Int32))) / (1000 : Int32)) + ((20 : Int32) * (S.1 7 ((S.1 8 batch.toNatClampNeg 0).toNatClampNeg) 3))) + ((5 : Int32) * hours))), S.2) A Fr []) F clX10 9 (by decide) (gT_w q1540 rfl) rfl rfl rfl (pr_put (κ := 8) (i := batch.toNatClampNeg) gM1 hF (upd (upd (upd (upd (S.1 8 batch.toNatClampNeg) 6 (S.1 0 0 2)) 11 kiln) 4 ((S.1 0 0 0) + hours)) 9 ((((((1000 : Int32) - (S.1 7 ((S.1 8 batch.toNatClampNeg 0).toNatClampNeg) 2)) * (heat - (600 : Int32))) / (1000 : Int32)) + ((20 : Int32) * (S.1 7 ((S.1 8 batch.toNatClampNeg 0).toNatClampNeg) 3))) + ((5 : Int32) * hours))) (by decide) (gc6 (by decide) (Decidable.not_not.mp c_1).2) (gce (show (gsr (gsr (gsr (gsr (gsr (gsr S.1 0 0 (upd (S.1 0 0) 8 0)) 8 batch.toNatClampNeg (upd (S.1 8 batch.toNatClampNeg) 6 (S.1 0 0 2))) 0 0 (upd (upd (S.1 0 0) 8 0) 2 ((S.1 0 0 2) + (1 : Int32)))) 8 batch.toNatClampNeg (upd (upd (S.1 8 batch.toNatClampNeg) 6 (S.1 0 0 2)) 11 kiln)) 8 batch.toNatClampNeg (upd (upd (upd (S.1 8 batch.toNatClampNeg) 6 (S.1 0 0 2)) 11 kiln) 4 ((S.1 0 0 0) + hours))) 4 0 (upd (S.1 4 0) kiln.toNatClampNeg ((S.1 0 0 0) + hours))) 8 batch.toNatClampNeg = upd (upd (upd (S.1 8 batch.toNatClampNeg) 6 (S.1 0 0 2)) 11 kiln) 4 ((S.1 0 0 0) + hours) from (gsr_p (by decide) gsr_s)) rfl) (gnl rfl) rfl) dX3_fire_238 ?_
            refine g_aload F 1 rfl dX3_fire_241 ?_
            refine g_iconst F (v := (0 : Int32)) (by decide) dX3_fire_243 ?_
            refine g_sipush F (v := (999 : Int32)) (by decide) dX3_fire_244 ?_
            refine g_iload F 0 rfl dX3_fire_247 ?_
            refine g_iload_n F 5 rfl rfl dX3_fire_249 ?_
            refine g_sipush F (v := (700 : Int32)) (by decide) dX3_fire_250 ?_
            refine g_isub F dX3_fire_253 ?_
            refine g_bipush F (v := (10 : Int32)) (by decide) dX3_fire_254 ?_
            refine g_idiv F (by decide) dX3_fire_256 ?_
            refine g_isub F dX3_fire_257 ?_
            refine g_iconst F (v := (5 : Int32)) (by decide) dX3_fire_258 ?_
            refine g_aload_n F 2 rfl rfl dX3_fire_259 ?_
            refine g_aload F 1 rfl dX3_fire_260 ?_
            refine g_callV F (kX3_fineness hl (pr_at (κ := 0) (i := 0) (by decide) (gc1 (gnl rfl)) (gce (show (gsr (gsr (gsr (gsr (gsr (gsr (gsr S.1 0 0 (upd (S.1 0 0) 8 0)) 8 batch.toNatClampNeg (upd (S.1 8 batch.toNatClampNeg) 6 (S.1 0 0 2))) 0 0 (upd (upd (S.1 0 0) 8 0) 2 ((S.1 0 0 2) + (1 : Int32)))) 8 batch.toNatClampNeg (upd (upd (S.1 8 batch.toNatClampNeg) 6 (S.1 0 0 2)) 11 kiln)) 8 batch.toNatClampNeg (upd (upd (upd (S.1 8 batch.toNatClampNeg) 6 (S.1 0 0 2)) 11 kiln) 4 ((S.1 0 0 0) + hours))) 4 0 (upd (S.1 4 0) kiln.toNatClampNeg ((S.1 0 0 0) + hours))) 8 batch.toNatClampNeg (upd (upd (upd (upd (S.1 8 batch.toNatClampNeg) 6 (S.1 0 0 2)) 11 kiln) 4 ((S.1 0 0 0) + hours)) 9 ((((((1000 : Int32) - (S.1 7 ((S.1 8 batch.toNatClampNeg 0).toNatClampNeg) 2)) * (heat - (600 : Int32))) / (1000 : Int32)) + ((20 : Int32) * (S.1 7 ((S.1 8 batch.toNatClampNeg 0).toNatClampNeg) 3))) + ((5 : Int32) * hours)))) 0 0 = upd (upd (S.1 0 0) 8 0) 2 ((S.1 0 0 2) + (1 : Int32)) from (gsr_p (by decide) (gsr_p (by decide) (gsr_p (by decide) (gsr_p (by decide) gsr_s))))) rfl)) (pr_at (κ := 8) (i := batch.toNatClampNeg) (by decide) (gc6 (by decide) (Decidable.not_not.mp c_1).2) (gce (show (gsr (gsr (gsr (gsr (gsr (gsr (gsr S.1 0 0 (upd (S.1 0 0) 8 0)) 8 batch.toNatClampNeg (upd (S.1 8 batch.toNatClampNeg) 6 (S.1 0 0 2))) 0 0 (upd (upd (S.1 0 0) 8 0) 2 ((S.1 0 0 2) + (1 : Int32)))) 8 batch.toNatClampNeg (upd (upd (S.1 8 batch.toNatClampNeg) 6 (S.1 0 0 2)) 11 kiln)) 8 batch.toNatClampNeg (upd (upd (upd (S.1 8 batch.toNatClampNeg) 6 (S.1 0 0 2)) 11 kiln) 4 ((S.1 0 0 0) + hours))) 4 0 (upd (S.1 4 0) kiln.toNatClampNeg ((S.1 0 0 0) + hours))) 8 batch.toNatClampNeg (upd (upd (upd (upd (S.1 8 batch.toNatClampNeg) 6 (S.1 0 0 2)) 11 kiln) 4 ((S.1 0 0 0) + hours)) 9 ((((((1000 : Int32) - (S.1 7 ((S.1 8 batch.toNatClampNeg 0).toNatClampNeg) 2)) * (heat - (600 : Int32))) / (1000 : Int32)) + ((20 : Int32) * (S.1 7 ((S.1 8 batch.toNatClampNeg 0).toNatClampNeg) 3))) + ((5 : Int32) * hours)))) 8 batch.toNatClampNeg = upd (upd (upd (upd (S.1 8 batch.toNatClampNeg) 6 (S.1 0 0 2)) 11 kiln) 4 ((S.1 0 0 0) + hours)) 9 ((((((1000 : Int32) - (S.1 7 ((S.1 8 batch.toNatClampNeg 0).toNatClampNeg) 2)) * (heat - (600 : Int32))) / (1000 : Int32)) + ((20 : Int32) * (S.1 7 ((S.1 8 batch.toNatClampNeg 0).toNatClampNeg) 3))) + ((5 : Int32) * hours)) from gsr_s) rfl)) (pr_ls (M := 1) (S := (gsr (gsr (gsr (gsr (gsr (gsr (gsr S.1 0 0 (upd (S.1 0 0) 8 0)) 8 batch.toNatClampNeg (upd (S.1 8 batch.toNatClampNeg) 6 (S.1 0 0 2))) 0 0 (upd (upd (S.1 0 0) 8 0) 2 ((S.1 0 0 2) + (1 : Int32)))) 8 batch.toNatClampNeg (upd (upd (S.1 8 batch.toNatClampNeg) 6 (S.1 0 0 2)) 11 kiln)) 8 batch.toNatClampNeg (upd (upd (upd (S.1 8 batch.toNatClampNeg) 6 (S.1 0 0 2)) 11 kiln) 4 ((S.1 0 0 0) + hours))) 4 0 (upd (S.1 4 0) kiln.toNatClampNeg ((S.1 0 0 0) + hours))) 8 batch.toNatClampNeg (upd (upd (upd (upd (S.1 8 batch.toNatClampNeg) 6 (S.1 0 0 2)) 11 kiln) 4 ((S.1 0 0 0) + hours)) 9 ((((((1000 : Int32) - (S.1 7 ((S.1 8 batch.toNatClampNeg 0).toNatClampNeg) 2)) * (heat - (600 : Int32))) / (1000 : Int32)) + ((20 : Int32) * (S.1 7 ((S.1 8 batch.toNatClampNeg 0).toNatClampNeg) 3))) + ((5 : Int32) * hours))), S.2)) (A := A) (κ := 7) (by decide) (Or.inl ⟨by decide, by decide⟩) (fun q => by first | decide | exact absurd q (by decide)) (fun q => by first | decide | exact absurd q (by decide))) (gw_n hW _) (gw_8_0 hW (Decidable.not_not.mp c_1).2) (pr_at (κ := 7) (i := (S.1 8 batch.toNatClampNeg 0).toNatClampNeg) (by decide) (gc6 (by decide) (gw_8_0 hW (Decidable.not_not.mp c_1).2).2) (gce (show (gsr (gsr (gsr (gsr (gsr (gsr (gsr S.1 0 0 (upd (S.1 0 0) 8 0)) 8 batch.toNatClampNeg (upd (S.1 8 batch.toNatClampNeg) 6 (S.1 0 0 2))) 0 0 (upd (upd (S.1 0 0) 8 0) 2 ((S.1 0 0 2) + (1 : Int32)))) 8 batch.toNatClampNeg (upd (upd (S.1 8 batch.toNatClampNeg) 6 (S.1 0 0 2)) 11 kiln)) 8 batch.toNatClampNeg (upd (upd (upd (S.1 8 batch.toNatClampNeg) 6 (S.1 0 0 2)) 11 kiln) 4 ((S.1 0 0 0) + hours))) 4 0 (upd (S.1 4 0) kiln.toNatClampNeg ((S.1 0 0 0) + hours))) 8 batch.toNatClampNeg (upd (upd (upd (upd (S.1 8 batch.toNatClampNeg) 6 (S.1 0 0 2)) 11 kiln) 4 ((S.1 0 0 0) + hours)) 9 ((((((1000 : Int32) - (S.1 7 ((S.1 8 batch.toNatClampNeg 0).toNatClampNeg) 2)) * (heat - (600 : Int32))) / (1000 : Int32)) + ((20 : Int32) * (S.1 7 ((S.1 8 batch.toNatClampNeg 0).toNatClampNeg) 3))) + ((5 : Int32) * hours)))) 7 ((S.1 8 batch.toNatClampNeg 0).toNatClampNeg) = S.1 7 ((S.1 8 batch.toNatClampNeg 0).toNatClampNeg) from (gsr_p (by decide) (gsr_p (by decide) (gsr_p (by decide) (gsr_p (by decide) (gsr_p (by decide) (gsr_p (by decide) (gsr_p (by decide) rfl)))))))) rfl))) (g_recv F clX3 (gd_obj (pr_at (κ := 0) (i := 0) (by decide) (gc1 (gnl rfl)) (gce (show (gsr (gsr (gsr (gsr (gsr (gsr (gsr S.1 0 0 (upd (S.1 0 0) 8 0)) 8 batch.toNatClampNeg (upd (S.1 8 batch.toNatClampNeg) 6 (S.1 0 0 2))) 0 0 (upd (upd (S.1 0 0) 8 0) 2 ((S.1 0 0 2) + (1 : Int32)))) 8 batch.toNatClampNeg (upd (upd (S.1 8 batch.toNatClampNeg) 6 (S.1 0 0 2)) 11 kiln)) 8 batch.toNatClampNeg (upd (upd (upd (S.1 8 batch.toNatClampNeg) 6 (S.1 0 0 2)) 11 kiln) 4 ((S.1 0 0 0) + hours))) 4 0 (upd (S.1 4 0) kiln.toNatClampNeg ((S.1 0 0 0) + hours))) 8 batch.toNatClampNeg (upd (upd (upd (upd (S.1 8 batch.toNatClampNeg) 6 (S.1 0 0 2)) 11 kiln) 4 ((S.1 0 0 0) + hours)) 9 ((((((1000 : Int32) - (S.1 7 ((S.1 8 batch.toNatClampNeg 0).toNatClampNeg) 2)) * (heat - (600 : Int32))) / (1000 : Int32)) + ((20 : Int32) * (S.1 7 ((S.1 8 batch.toNatClampNeg 0).toNatClampNeg) 3))) + ((5 : Int32) * hours)))) 0 0 = upd (upd (S.1 0 0) 8 0) 2 ((S.1 0 0 2) + (1 : Int32)) from (gsr_p (by decide) (gsr_p (by decide) (gsr_p (by decide) (gsr_p (by decide) gsr_s))))) rfl)))) q1582 q1584 qs11 q25 q1585 myX3_fineness ⟨by decide, by decide⟩ rfl rfl (gle rfl) 0 0 (gle rfl) (gle rfl) (gle rfl) (gle rfl) dX3_fire_262 gx_n (gv_i ?_)
            refine g_imul F dX3_fire_265 ?_
            refine g_iadd F dX3_fire_266 ?_
            refine g_mmin F q1512 (gle rfl) (gle rfl) (gle rfl) (gle rfl) dX3_fire_267 ?_
            refine g_mmax F q1513 (gle rfl) (gle rfl) (gle rfl) (gle rfl) dX3_fire_270 ?_
            refine g_putN (P2 := gP 1 G (gsr (gsr (gsr (gsr (gsr (gsr (gsr (gsr S.1 0 0 (upd (S.1 0 0) 8 0)) 8 batch.toNatClampNeg (upd (S.1 8 batch.toNatClampNeg) 6 (S.1 0 0 2))) 0 0 (upd (upd (S.1 0 0) 8 0) 2 ((S.1 0 0 2) + (1 : Int32)))) 8 batch.toNatClampNeg (upd (upd (S.1 8 batch.toNatClampNeg) 6 (S.1 0 0 2)) 11 kiln)) 8 batch.toNatClampNeg (upd (upd (upd (S.1 8 batch.toNatClampNeg) 6 (S.1 0 0 2)) 11 kiln) 4 ((S.1 0 0 0) + hours))) 4 0 (upd (S.1 4 0) kiln.toNatClampNeg ((S.1 0 0 0) + hours))) 8 batch.toNatClampNeg (upd (upd (upd (upd (S.1 8 batch.toNatClampNeg) 6 (S.1 0 0 2)) 11 kiln) 4 ((S.1 0 0 0) + hours)) 9 ((((((1000 : Int32) - (S.1 7 ((S.1 8 batch.toNatClampNeg 0).toNatClampNeg) 2)) * (heat - (600 : Int32))) / (1000 : Int32)) + ((20 : Int32) * (S.1 7 ((S.1 8 batch.toNatClampNeg 0).toNatClampNeg) 3))) + ((5 : Int32) * hours)))) 8 batch.toNatClampNeg (upd (upd (upd (upd (upd (S.1 8 batch.toNatClampNeg) 6 (S.1 0 0 2)) 11 kiln) 4 ((S.1 0 0 0) + hours)) 9 ((((((1000 : Int32) - (S.1 7 ((S.1 8 batch.toNatClampNeg 0).toNatClampNeg) 2)) * (heat - (600 : Int32))) / (1000 : Int32)) + ((20 : Int32) * (S.1 7 ((S.1 8 batch.toNatClampNeg 0).toNatClampNeg) 3))) + ((5 : Int32) * hours))) 10 (gmax (0 : Int32) (gmin (999 : Int32) (((S.1 7 ((S.1 8 batch.toNatClampNeg 0).toNatClampNeg) 2) - ((heat - (700 : Int32)) / (10 : Int32))) + ((5 : Int32) * (S.1 7 ((S.1 8 batch.toNatClampNeg 0).toNatClampNeg) 3)))))), S.2) A Fr []) F clX10 10 (by decide) (gT_w q1541 rfl) rfl rfl rfl (pr_put (κ := 8) (i := batch.toNatClampNeg) gM1 hF (upd (upd (upd (upd (upd (S.1 8 batch.toNatClampNeg) 6 (S.1 0 0 2)) 11 kiln) 4 ((S.1 0 0 0) + hours)) 9 ((((((1000 : Int32) - (S.1 7 ((S.1 8 batch.toNatClampNeg 0).toNatClampNeg) 2)) * (heat - (600 : Int32))) / (1000 : Int32)) + ((20 : Int32) * (S.1 7 ((S.1 8 batch.toNatClampNeg 0).toNatClampNeg) 3))) + ((5 : Int32) * hours))) 10 (gmax (0 : Int32) (gmin (999 : Int32) (((S.1 7 ((S.1 8 batch.toNatClampNeg 0).toNatClampNeg) 2) - ((heat - (700 : Int32)) / (10 : Int32))) + ((5 : Int32) * (S.1 7 ((S.1 8 batch.toNatClampNeg 0).toNatClampNeg) 3)))))) (by decide) (gc6 (by decide) (Decidable.not_not.mp c_1).2) (gce (show (gsr (gsr (gsr (gsr (gsr (gsr (gsr S.1 0 0 (upd (S.1 0 0) 8 0)) 8 batch.toNatClampNeg (upd (S.1 8 batch.toNatClampNeg) 6 (S.1 0 0 2))) 0 0 (upd (upd (S.1 0 0) 8 0) 2 ((S.1 0 0 2) + (1 : Int32)))) 8 batch.toNatClampNeg (upd (upd (S.1 8 batch.toNatClampNeg) 6 (S.1 0 0 2)) 11 kiln)) 8 batch.toNatClampNeg (upd (upd (upd (S.1 8 batch.toNatClampNeg) 6 (S.1 0 0 2)) 11 kiln) 4 ((S.1 0 0 0) + hours))) 4 0 (upd (S.1 4 0) kiln.toNatClampNeg ((S.1 0 0 0) + hours))) 8 batch.toNatClampNeg (upd (upd (upd (upd (S.1 8 batch.toNatClampNeg) 6 (S.1 0 0 2)) 11 kiln) 4 ((S.1 0 0 0) + hours)) 9 ((((((1000 : Int32) - (S.1 7 ((S.1 8 batch.toNatClampNeg 0).toNatClampNeg) 2)) * (heat - (600 : Int32))) / (1000 : Int32)) + ((20 : Int32) * (S.1 7 ((S.1 8 batch.toNatClampNeg 0).toNatClampNeg) 3))) + ((5 : Int32) * hours)))) 8 batch.toNatClampNeg = upd (upd (upd (upd (S.1 8 batch.toNatClampNeg) 6 (S.1 0 0 2)) 11 kiln) 4 ((S.1 0 0 0) + hours)) 9 ((((((1000 : Int32) - (S.1 7 ((S.1 8 batch.toNatClampNeg 0).toNatClampNeg) 2)) * (heat - (600 : Int32))) / (1000 : Int32)) + ((20 : Int32) * (S.1 7 ((S.1 8 batch.toNatClampNeg 0).toNatClampNeg) 3))) + ((5 : Int32) * hours)) from gsr_s) rfl) (gnl rfl) rfl) dX3_fire_273 ?_
            refine g_aload F 1 rfl dX3_fire_276 ?_
            refine g_getN F clX10 6 (by decide) (gT_w q1537 rfl) (v := .int (S.1 0 0 2)) (gd_get (pr_at (κ := 8) (i := batch.toNatClampNeg) (by decide) (gc6 (by decide) (Decidable.not_not.mp c_1).2) (gce (show (gsr (gsr (gsr (gsr (gsr (gsr (gsr (gsr S.1 0 0 (upd (S.1 0 0) 8 0)) 8 batch.toNatClampNeg (upd (S.1 8 batch.toNatClampNeg) 6 (S.1 0 0 2))) 0 0 (upd (upd (S.1 0 0) 8 0) 2 ((S.1 0 0 2) + (1 : Int32)))) 8 batch.toNatClampNeg (upd (upd (S.1 8 batch.toNatClampNeg) 6 (S.1 0 0 2)) 11 kiln)) 8 batch.toNatClampNeg (upd (upd (upd (S.1 8 batch.toNatClampNeg) 6 (S.1 0 0 2)) 11 kiln) 4 ((S.1 0 0 0) + hours))) 4 0 (upd (S.1 4 0) kiln.toNatClampNeg ((S.1 0 0 0) + hours))) 8 batch.toNatClampNeg (upd (upd (upd (upd (S.1 8 batch.toNatClampNeg) 6 (S.1 0 0 2)) 11 kiln) 4 ((S.1 0 0 0) + hours)) 9 ((((((1000 : Int32) - (S.1 7 ((S.1 8 batch.toNatClampNeg 0).toNatClampNeg) 2)) * (heat - (600 : Int32))) / (1000 : Int32)) + ((20 : Int32) * (S.1 7 ((S.1 8 batch.toNatClampNeg 0).toNatClampNeg) 3))) + ((5 : Int32) * hours)))) 8 batch.toNatClampNeg (upd (upd (upd (upd (upd (S.1 8 batch.toNatClampNeg) 6 (S.1 0 0 2)) 11 kiln) 4 ((S.1 0 0 0) + hours)) 9 ((((((1000 : Int32) - (S.1 7 ((S.1 8 batch.toNatClampNeg 0).toNatClampNeg) 2)) * (heat - (600 : Int32))) / (1000 : Int32)) + ((20 : Int32) * (S.1 7 ((S.1 8 batch.toNatClampNeg 0).toNatClampNeg) 3))) + ((5 : Int32) * hours))) 10 (gmax (0 : Int32) (gmin (999 : Int32) (((S.1 7 ((S.1 8 batch.toNatClampNeg 0).toNatClampNeg) 2) - ((heat - (700 : Int32)) / (10 : Int32))) + ((5 : Int32) * (S.1 7 ((S.1 8 batch.toNatClampNeg 0).toNatClampNeg) 3))))))) 8 batch.toNatClampNeg = upd (upd (upd (upd (upd (S.1 8 batch.toNatClampNeg) 6 (S.1 0 0 2)) 11 kiln) 4 ((S.1 0 0 0) + hours)) 9 ((((((1000 : Int32) - (S.1 7 ((S.1 8 batch.toNatClampNeg 0).toNatClampNeg) 2)) * (heat - (600 : Int32))) / (1000 : Int32)) + ((20 : Int32) * (S.1 7 ((S.1 8 batch.toNatClampNeg 0).toNatClampNeg) 3))) + ((5 : Int32) * hours))) 10 (gmax (0 : Int32) (gmin (999 : Int32) (((S.1 7 ((S.1 8 batch.toNatClampNeg 0).toNatClampNeg) 2) - ((heat - (700 : Int32)) / (10 : Int32))) + ((5 : Int32) * (S.1 7 ((S.1 8 batch.toNatClampNeg 0).toNatClampNeg) 3))))) from gsr_s) rfl)) rfl) dX3_fire_278 ?_
            exact g_retI F E rfl rfl (gle rfl) (gle rfl) dX3_fire_281 (fun _ hp => ⟨_, _, ((if_neg c_1).trans ((if_neg c_6).trans (if_neg c_12))), rfl, ⟨A, rfl, gP_T0 hp⟩⟩)
        refine g_if_eq F (tgt := 122) (by decide) dX3_fire_85 (fun c_7 => ?_) (fun c_7 => ?_)
        · skip
          refine g_iconst F (v := (1 : Int32)) (by decide) dX3_fire_122 ?_
          refine g_goto F (tgt := 127) (by decide) dX3_fire_123 ?_
          exact g_top (gb_t (Or.inl c_7)) J_11
        · skip
          refine g_aload_n F 1 rfl rfl dX3_fire_88 ?_
          refine g_get F clX3 1 (by decide) q1390 (v := .int (S.1 0 0 0)) (gd_get (pr_at (κ := 0) (i := 0) (by decide) (gc1 (gnl rfl)) (gce (show (gsr S.1 0 0 (upd (S.1 0 0) 8 0)) 0 0 = upd (S.1 0 0) 8 0 from gsr_s) rfl)) rfl) dX3_fire_89 ?_
          refine g_aload F 0 rfl dX3_fire_92 ?_
          refine g_getN F clX10 4 (by decide) (gT_w q1534 rfl) (v := .int (S.1 8 batch.toNatClampNeg 4)) (gd_get (pr_at (κ := 8) (i := batch.toNatClampNeg) (by decide) (gc6 (by decide) (Decidable.not_not.mp c_1).2) (gce (show (gsr S.1 0 0 (upd (S.1 0 0) 8 0)) 8 batch.toNatClampNeg = S.1 8 batch.toNatClampNeg from (gsr_p (by decide) rfl)) rfl)) rfl) dX3_fire_94 ?_
          refine g_icmp_lt F (tgt := 122) (by decide) dX3_fire_97 (fun c_8 => ?_) (fun c_8 => ?_)
          · skip
            refine g_iconst F (v := (1 : Int32)) (by decide) dX3_fire_122 ?_
            refine g_goto F (tgt := 127) (by decide) dX3_fire_123 ?_
            exact g_top (gb_t (Or.inr (Or.inl c_8))) J_11
          · skip
            refine g_aload F 0 rfl dX3_fire_100 ?_
            refine g_getN F clX10 6 (by decide) (gT_w q1537 rfl) (v := .int (S.1 8 batch.toNatClampNeg 6)) (gd_get (pr_at (κ := 8) (i := batch.toNatClampNeg) (by decide) (gc6 (by decide) (Decidable.not_not.mp c_1).2) (gce (show (gsr S.1 0 0 (upd (S.1 0 0) 8 0)) 8 batch.toNatClampNeg = S.1 8 batch.toNatClampNeg from (gsr_p (by decide) rfl)) rfl)) rfl) dX3_fire_102 ?_
            refine g_iconst F (v := (-1 : Int32)) (by decide) dX3_fire_105 ?_
            refine g_icmp_ne F (tgt := 122) (by decide) dX3_fire_106 (fun c_9 => ?_) (fun c_9 => ?_)
            · skip
              refine g_iconst F (v := (1 : Int32)) (by decide) dX3_fire_122 ?_
              refine g_goto F (tgt := 127) (by decide) dX3_fire_123 ?_
              exact g_top (gb_t (Or.inr (Or.inr (Or.inl c_9)))) J_11
            · skip
              refine g_aload_n F 1 rfl rfl dX3_fire_109 ?_
              refine g_get F clX3 1 (by decide) q1390 (v := .int (S.1 0 0 0)) (gd_get (pr_at (κ := 0) (i := 0) (by decide) (gc1 (gnl rfl)) (gce (show (gsr S.1 0 0 (upd (S.1 0 0) 8 0)) 0 0 = upd (S.1 0 0) 8 0 from gsr_s) rfl)) rfl) dX3_fire_110 ?_
              refine g_aload_n F 1 rfl rfl dX3_fire_113 ?_
              refine g_get F clX3 8 (by decide) q1397 (v := .ref (A 4 0)) (gd_get (pr_at (κ := 0) (i := 0) (by decide) (gc1 (gnl rfl)) (gce (show (gsr S.1 0 0 (upd (S.1 0 0) 8 0)) 0 0 = upd (S.1 0 0) 8 0 from gsr_s) rfl)) rfl) dX3_fire_114 ?_
              refine g_iload_n F 3 rfl rfl dX3_fire_117 ?_
              refine g_iald F (gvp (K := 1) (by decide) ⟨(Decidable.not_not.mp (fun q => c_6 (Or.inl q))).1, (Decidable.not_not.mp (fun q => c_6 (Or.inl q))).2⟩) (pr_at (κ := 4) (i := 0) (by decide) (gc1 (gnl rfl)) (gce (show (gsr S.1 0 0 (upd (S.1 0 0) 8 0)) 4 0 = S.1 4 0 from (gsr_p (by decide) rfl)) rfl)) dX3_fire_118 ?_
              change gW _ _ _ _ (.int (S.1 4 0 kiln.toNatClampNeg) :: _) _ _
              refine g_icmp_ge F (tgt := 126) (by decide) dX3_fire_119 (fun c_10 => ?_) (fun c_10 => ?_)
              · skip
                refine g_iconst F (v := (0 : Int32)) (by decide) dX3_fire_126 ?_
                exact g_top (gb_f (fun q => q.elim c_7 (fun q => q.elim c_8 (fun q => q.elim (fun z => z c_9) (fun q => q c_10))))) J_11
              · skip
                refine g_iconst F (v := (1 : Int32)) (by decide) dX3_fire_122 ?_
                refine g_goto F (tgt := 127) (by decide) dX3_fire_123 ?_
                exact g_top (gb_t (Or.inr (Or.inr (Or.inr c_10)))) J_11
    refine gb_if_eq F (tgt := 50) (by decide) dX3_fire_20 (fun c_2 => ?_) (fun c_2 => ?_)
    · skip
      refine g_iconst F (v := (1 : Int32)) (by decide) dX3_fire_50 ?_
      refine g_goto F (tgt := 55) (by decide) dX3_fire_51 ?_
      exact g_top (gb_t (Or.inl c_2)) J_5
    · skip
      refine g_iload_n F 3 rfl rfl dX3_fire_23 ?_
      refine g_i2l F dX3_fire_24 ?_
      refine g_ldc2 F (v := (700 : Int64)) q1590 dX3_fire_25 ?_
      refine g_ldc2 F (v := (1200 : Int64)) q1591 dX3_fire_28 ?_
      refine g_callS F (kX3_in hl (x := heat) (lo := (700 : Int32)) (hi := (1200 : Int32)) (by decide) (by decide)) (lw_S q1453 q1454 q25 q1455) myX3_in ⟨by decide, by decide⟩ rfl rfl (gle rfl) 0 0 (gle rfl) (gle rfl) (gle rfl) (gle rfl) dX3_fire_31 gx_n (gv_i ?_)
      refine gb_if_eq F (tgt := 50) (by decide) dX3_fire_34 (fun c_3 => ?_) (fun c_3 => ?_)
      · skip
        refine g_iconst F (v := (1 : Int32)) (by decide) dX3_fire_50 ?_
        refine g_goto F (tgt := 55) (by decide) dX3_fire_51 ?_
        exact g_top (gb_t (Or.inr (Or.inl c_3))) J_5
      · skip
        refine g_iload F 4 rfl dX3_fire_37 ?_
        refine g_i2l F dX3_fire_39 ?_
        refine g_lconst F (v := (1 : Int64)) (by decide) dX3_fire_40 ?_
        refine g_ldc2 F (v := (12 : Int64)) q1592 dX3_fire_41 ?_
        refine g_callS F (kX3_in hl (x := hours) (lo := (1 : Int32)) (hi := (12 : Int32)) (by decide) (by decide)) (lw_S q1453 q1454 q25 q1455) myX3_in ⟨by decide, by decide⟩ rfl rfl (gle rfl) 0 0 (gle rfl) (gle rfl) (gle rfl) (gle rfl) dX3_fire_44 gx_n (gv_i ?_)
        refine gb_if_ne F (tgt := 54) (by decide) dX3_fire_47 (fun c_4 => ?_) (fun c_4 => ?_)
        · skip
          refine g_iconst F (v := (0 : Int32)) (by decide) dX3_fire_54 ?_
          exact g_top (gb_f (fun q => q.elim (fun z => z c_2) (fun q => q.elim (fun z => z c_3) (fun q => q c_4)))) J_5
        · skip
          refine g_iconst F (v := (1 : Int32)) (by decide) dX3_fire_50 ?_
          refine g_goto F (tgt := 55) (by decide) dX3_fire_51 ?_
          exact g_top (gb_t (Or.inr (Or.inr c_4))) J_5

def sM_soak (S : gS) (batch wax : Int32) : Value × gS := if ¬ gIn batch (S.2 8) then (.int (-1 : Int32), (gsr (gsr S.1 0 0 (upd (S.1 0 0) 8 0)) 0 0 (upd (upd (S.1 0 0) 8 0) 8 1), S.2)) else (if ¬ (¬ wax < (1 : Int32) ∧ ¬ (5 : Int32) < wax) then (.int (-1 : Int32), (gsr (gsr S.1 0 0 (upd (S.1 0 0) 8 0)) 0 0 (upd (upd (S.1 0 0) 8 0) 8 (2 : Int32)), S.2)) else (if ¬ (¬ ((S.1 8 batch.toNatClampNeg 6) = (-1 : Int32)) ∧ ¬ ((S.1 0 0 0) < (S.1 8 batch.toNatClampNeg 4))) ∨ (¬ ((S.1 8 batch.toNatClampNeg 8) = 0)) then (.int (-1 : Int32), (gsr (gsr S.1 0 0 (upd (S.1 0 0) 8 0)) 0 0 (upd (upd (S.1 0 0) 8 0) 8 (3 : Int32)), S.2)) else (.int ((S.1 8 batch.toNatClampNeg 9) + ((10 : Int32) * wax)), (gsr (gsr (gsr (gsr S.1 0 0 (upd (S.1 0 0) 8 0)) 8 batch.toNatClampNeg (upd (S.1 8 batch.toNatClampNeg) 8 (1 : Int32))) 8 batch.toNatClampNeg (upd (upd (S.1 8 batch.toNatClampNeg) 8 (1 : Int32)) 9 ((S.1 8 batch.toNatClampNeg 9) + ((10 : Int32) * wax)))) 8 batch.toNatClampNeg (upd (upd (upd (S.1 8 batch.toNatClampNeg) 8 (1 : Int32)) 9 ((S.1 8 batch.toNatClampNeg 9) + ((10 : Int32) * wax))) 10 (gmin (999 : Int32) ((S.1 8 batch.toNatClampNeg 10) + ((8 : Int32) * wax)))), S.2))))
theorem kX3_soak {l : Launch} {G : gG} (hl : l.stackTraces = false) {S : gS} {a0 : Nat} {Fr : gH → Prop} (hF : gFr 1 Fr) (hW : gWf S) {batch wax : Int32}  : gMet l yX3_soak (ws_ yX3_soak cX3_soak 4 (some .int)) ⟨3, 0, 0, 67⟩ G [.ref a0, .int batch, .int wax] (gPE 1 G S a0 Fr) (gqN (sM_soak S batch wax) G a0 Fr) gxN := by
  refine gMet_of hl pnX3 (gle rfl) (fun X Q hX F E hNm => ?_)
  subst hX
  change gW (X, G, 4, Q) (gPE 1 G S a0 Fr) [(0, .ref a0), (1, .int batch), (2, .int wax)] 0 [] 0 0
  refine g_pe (fun A hA => ?_)
  subst hA
  change gW _ _ [(0, .ref (A 0 0)), (1, .int batch), (2, .int wax)] 0 [] 0 0
  refine g_aload_n F 0 rfl rfl dX3_soak_0 ?_
  refine g_callV F (kX3_begins hl (pr_at (κ := 0) (i := 0) (by decide) (gc1 (gnl rfl)) (gce rfl rfl))) (g_recv F clX3 (gd_obj (pr_at (κ := 0) (i := 0) (by decide) (gc1 (gnl rfl)) (gce rfl rfl)))) q1448 q1450 qs6 q25 q1451 myX3_begins ⟨by decide, by decide⟩ rfl rfl (gle rfl) 0 0 (gle rfl) (gle rfl) (gle rfl) (gle rfl) dX3_soak_1 gx_n (gv_v ?_)
  refine g_mono (P2 := gP 1 G (gsr S.1 0 0 (upd (S.1 0 0) 8 0), S.2) A Fr []) (pr_upRow (κ := 0) (i := 0) gM1 hF (upd (S.1 0 0) 8 0) (by decide) (gc1 (gnl rfl)) (gce rfl rfl) rfl) ?_
  refine g_aload_n F 0 rfl rfl dX3_soak_4 ?_
  refine g_iload_n F 1 rfl rfl dX3_soak_5 ?_
  refine g_callV F (kX3_noBatch hl hF hW (x := batch)) (g_recv F clX3 (gd_obj (pr_at (κ := 0) (i := 0) (by decide) (gc1 (gnl rfl)) (gce (show (gsr S.1 0 0 (upd (S.1 0 0) 8 0)) 0 0 = upd (S.1 0 0) 8 0 from gsr_s) rfl)))) q1577 q1579 qs10 q25 q1580 myX3_noBatch ⟨by decide, by decide⟩ rfl rfl (gle rfl) 0 0 (gle rfl) (gle rfl) (gle rfl) (gle rfl) dX3_soak_6 gx_n (gv_f (fun c_1 => ?_) (fun c_1 => ?_))
  · skip
    refine g_if_ne F (tgt := 89) (by decide) dX3_soak_9 (fun _ => ?_) (fun c => absurd c (by decide))
    refine g_iconst F (v := (-1 : Int32)) (by decide) dX3_soak_89 ?_
    exact g_retI F E rfl rfl (gle rfl) (gle rfl) dX3_soak_90 (fun _ hp => ⟨_, _, (if_pos c_1), rfl, ⟨A, rfl, gP_T0 hp⟩⟩)
  · skip
    refine g_if_ne F (tgt := 89) (by decide) dX3_soak_9 (fun c => absurd c (by decide)) (fun _ => ?_)
    refine g_aload_n F 0 rfl rfl dX3_soak_12 ?_
    refine g_iload_n F 2 rfl rfl dX3_soak_13 ?_
    refine g_i2l F dX3_soak_14 ?_
    refine g_lconst F (v := (1 : Int64)) (by decide) dX3_soak_15 ?_
    refine g_ldc2 F (v := (5 : Int64)) q1581 dX3_soak_16 ?_
    refine g_callS F (kX3_in hl (x := wax) (lo := (1 : Int32)) (hi := (5 : Int32)) (by decide) (by decide)) (lw_S q1453 q1454 q25 q1455) myX3_in ⟨by decide, by decide⟩ rfl rfl (gle rfl) 0 0 (gle rfl) (gle rfl) (gle rfl) (gle rfl) dX3_soak_19 gx_n (gv_i ?_)
    have J_3 : gW (X, G, 4, Q) (gP 1 G (gsr S.1 0 0 (upd (S.1 0 0) 8 0), S.2) A Fr []) [(0, .ref (A 0 0)), (1, .int batch), (2, .int wax)] 30 [.int (gb (¬ (¬ wax < (1 : Int32) ∧ ¬ (5 : Int32) < wax))), .ref (A 0 0)] 0 0 := by
      refine g_iconst F (v := (2 : Int32)) (by decide) dX3_soak_30 ?_
      refine g_callV F (kX3_fails hl (b := gb (¬ (¬ wax < (1 : Int32) ∧ ¬ (5 : Int32) < wax))) (nu := (2 : Int32)) (c := ¬ (¬ wax < (1 : Int32) ∧ ¬ (5 : Int32) < wax)) gb_n0 (by decide) (pr_at (κ := 0) (i := 0) (by decide) (gc1 (gnl rfl)) (gce (show (gsr S.1 0 0 (upd (S.1 0 0) 8 0)) 0 0 = upd (S.1 0 0) 8 0 from gsr_s) rfl))) (g_recv F clX3 (gd_obj (pr_at (κ := 0) (i := 0) (by decide) (gc1 (gnl rfl)) (gce (show (gsr S.1 0 0 (upd (S.1 0 0) 8 0)) 0 0 = upd (S.1 0 0) 8 0 from gsr_s) rfl)))) q1456 q1458 qs7 q25 q1459 myX3_fails ⟨by decide, by decide⟩ rfl rfl (gle rfl) 0 0 (gle rfl) (gle rfl) (gle rfl) (gle rfl) dX3_soak_31 gx_n (gv_f (fun c_4 => ?_) (fun c_4 => ?_))
      · skip
        refine g_mono (P2 := gP 1 G (gsr (gsr S.1 0 0 (upd (S.1 0 0) 8 0)) 0 0 (upd (upd (S.1 0 0) 8 0) 8 (2 : Int32)), S.2) A Fr []) (pr_upRow (κ := 0) (i := 0) gM1 hF (upd (upd (S.1 0 0) 8 0) 8 (2 : Int32)) (by decide) (gc1 (gnl rfl)) (gce (show (gsr S.1 0 0 (upd (S.1 0 0) 8 0)) 0 0 = upd (S.1 0 0) 8 0 from gsr_s) rfl) rfl) ?_
        refine g_if_ne F (tgt := 89) (by decide) dX3_soak_34 (fun _ => ?_) (fun c => absurd c (by decide))
        refine g_iconst F (v := (-1 : Int32)) (by decide) dX3_soak_89 ?_
        exact g_retI F E rfl rfl (gle rfl) (gle rfl) dX3_soak_90 (fun _ hp => ⟨_, _, ((if_neg c_1).trans (if_pos c_4)), rfl, ⟨A, rfl, gP_T0 hp⟩⟩)
      · skip
        refine g_if_ne F (tgt := 89) (by decide) dX3_soak_34 (fun c => absurd c (by decide)) (fun _ => ?_)
        refine g_aload_n F 0 rfl rfl dX3_soak_37 ?_
        refine g_aload_n F 0 rfl rfl dX3_soak_38 ?_
        refine g_aload_n F 0 rfl rfl dX3_soak_39 ?_
        refine g_get F clX3 9 (by decide) q1398 (v := .ref (A 308 0)) (gd_get (pr_at (κ := 0) (i := 0) (by decide) (gc1 (gnl rfl)) (gce (show (gsr S.1 0 0 (upd (S.1 0 0) 8 0)) 0 0 = upd (S.1 0 0) 8 0 from gsr_s) rfl)) rfl) dX3_soak_40 ?_
        refine g_iload_n F 1 rfl rfl dX3_soak_43 ?_
        refine g_callF F clJ3 (kJ3_get hl (pr_ls (M := 1) (S := (gsr S.1 0 0 (upd (S.1 0 0) 8 0), S.2)) (A := A) (κ := 8) (by decide) (Or.inl ⟨by decide, by decide⟩) (fun q => by first | decide | exact absurd q (by decide)) (fun q => by first | decide | exact absurd q (by decide))) (j := batch.toNatClampNeg) (Decidable.not_not.mp c_1).2 (gw_n hW _) rfl (Decidable.not_not.mp c_1).1) (g_recv F clJ3 (gls_obj (pr_ls (M := 1) (S := (gsr S.1 0 0 (upd (S.1 0 0) 8 0), S.2)) (A := A) (κ := 8) (by decide) (Or.inl ⟨by decide, by decide⟩) (fun q => by first | decide | exact absurd q (by decide)) (fun q => by first | decide | exact absurd q (by decide))))) q1506 q809 q811 q22 q813 (List.mem_of_getElem? (i := 1) rfl) (gT_w q812 rfl) (gT_w q810 rfl) (gT_w q293 rfl) gface_1 ⟨by decide, by decide⟩ rfl rfl (gle rfl) 0 0 (gle rfl) (gle rfl) (gle rfl) (gle rfl) dX3_soak_44 gx_n (gv_i ?_)
        refine g_castS F (g_recv F clX10 (gd_obj (pr_at (κ := 8) (i := batch.toNatClampNeg) (by decide) (gc6 (by decide) (Decidable.not_not.mp c_1).2) (gce (show (gsr S.1 0 0 (upd (S.1 0 0) 8 0)) 8 batch.toNatClampNeg = S.1 8 batch.toNatClampNeg from (gsr_p (by decide) rfl)) rfl)))) q1524 dX3_soak_49 ?_
        refine g_callV F (kX3_isFired hl (pr_at (κ := 0) (i := 0) (by decide) (gc1 (gnl rfl)) (gce (show (gsr S.1 0 0 (upd (S.1 0 0) 8 0)) 0 0 = upd (S.1 0 0) 8 0 from gsr_s) rfl)) (pr_at (κ := 8) (i := batch.toNatClampNeg) (by decide) (gc6 (by decide) (Decidable.not_not.mp c_1).2) (gce (show (gsr S.1 0 0 (upd (S.1 0 0) 8 0)) 8 batch.toNatClampNeg = S.1 8 batch.toNatClampNeg from (gsr_p (by decide) rfl)) rfl))) (g_recv F clX3 (gd_obj (pr_at (κ := 0) (i := 0) (by decide) (gc1 (gnl rfl)) (gce (show (gsr S.1 0 0 (upd (S.1 0 0) 8 0)) 0 0 = upd (S.1 0 0) 8 0 from gsr_s) rfl)))) q1597 q1599 qs12 q25 q1600 myX3_isFired ⟨by decide, by decide⟩ rfl rfl (gle rfl) 0 0 (gle rfl) (gle rfl) (gle rfl) (gle rfl) dX3_soak_52 gx_n (gv_i ?_)
        have J_7 : gW (X, G, 4, Q) (gP 1 G (gsr S.1 0 0 (upd (S.1 0 0) 8 0), S.2) A Fr []) [(0, .ref (A 0 0)), (1, .int batch), (2, .int wax)] 82 [.int (gb (¬ (¬ ((S.1 8 batch.toNatClampNeg 6) = (-1 : Int32)) ∧ ¬ ((S.1 0 0 0) < (S.1 8 batch.toNatClampNeg 4))) ∨ (¬ ((S.1 8 batch.toNatClampNeg 8) = 0)))), .ref (A 0 0)] 0 0 := by
          refine g_iconst F (v := (3 : Int32)) (by decide) dX3_soak_82 ?_
          refine g_callV F (kX3_fails hl (b := gb (¬ (¬ ((S.1 8 batch.toNatClampNeg 6) = (-1 : Int32)) ∧ ¬ ((S.1 0 0 0) < (S.1 8 batch.toNatClampNeg 4))) ∨ (¬ ((S.1 8 batch.toNatClampNeg 8) = 0)))) (nu := (3 : Int32)) (c := ¬ (¬ ((S.1 8 batch.toNatClampNeg 6) = (-1 : Int32)) ∧ ¬ ((S.1 0 0 0) < (S.1 8 batch.toNatClampNeg 4))) ∨ (¬ ((S.1 8 batch.toNatClampNeg 8) = 0))) gb_n0 (by decide) (pr_at (κ := 0) (i := 0) (by decide) (gc1 (gnl rfl)) (gce (show (gsr S.1 0 0 (upd (S.1 0 0) 8 0)) 0 0 = upd (S.1 0 0) 8 0 from gsr_s) rfl))) (g_recv F clX3 (gd_obj (pr_at (κ := 0) (i := 0) (by decide) (gc1 (gnl rfl)) (gce (show (gsr S.1 0 0 (upd (S.1 0 0) 8 0)) 0 0 = upd (S.1 0 0) 8 0 from gsr_s) rfl)))) q1456 q1458 qs7 q25 q1459 myX3_fails ⟨by decide, by decide⟩ rfl rfl (gle rfl) 0 0 (gle rfl) (gle rfl) (gle rfl) (gle rfl) dX3_soak_83 gx_n (gv_f (fun c_8 => ?_) (fun c_8 => ?_))
          · skip
            refine g_mono (P2 := gP 1 G (gsr (gsr S.1 0 0 (upd (S.1 0 0) 8 0)) 0 0 (upd (upd (S.1 0 0) 8 0) 8 (3 : Int32)), S.2) A Fr []) (pr_upRow (κ := 0) (i := 0) gM1 hF (upd (upd (S.1 0 0) 8 0) 8 (3 : Int32)) (by decide) (gc1 (gnl rfl)) (gce (show (gsr S.1 0 0 (upd (S.1 0 0) 8 0)) 0 0 = upd (S.1 0 0) 8 0 from gsr_s) rfl) rfl) ?_
            refine g_if_eq F (tgt := 91) (by decide) dX3_soak_86 (fun c => absurd c (by decide)) (fun _ => ?_)
            refine g_iconst F (v := (-1 : Int32)) (by decide) dX3_soak_89 ?_
            exact g_retI F E rfl rfl (gle rfl) (gle rfl) dX3_soak_90 (fun _ hp => ⟨_, _, ((if_neg c_1).trans ((if_neg c_4).trans (if_pos c_8))), rfl, ⟨A, rfl, gP_T0 hp⟩⟩)
          · skip
            refine g_if_eq F (tgt := 91) (by decide) dX3_soak_86 (fun _ => ?_) (fun c => absurd c (by decide))
            refine g_aload_n F 0 rfl rfl dX3_soak_91 ?_
            refine g_get F clX3 9 (by decide) q1398 (v := .ref (A 308 0)) (gd_get (pr_at (κ := 0) (i := 0) (by decide) (gc1 (gnl rfl)) (gce (show (gsr S.1 0 0 (upd (S.1 0 0) 8 0)) 0 0 = upd (S.1 0 0) 8 0 from gsr_s) rfl)) rfl) dX3_soak_92 ?_
            refine g_iload_n F 1 rfl rfl dX3_soak_95 ?_
            refine g_callF F clJ3 (kJ3_get hl (pr_ls (M := 1) (S := (gsr S.1 0 0 (upd (S.1 0 0) 8 0), S.2)) (A := A) (κ := 8) (by decide) (Or.inl ⟨by decide, by decide⟩) (fun q => by first | decide | exact absurd q (by decide)) (fun q => by first | decide | exact absurd q (by decide))) (j := batch.toNatClampNeg) (Decidable.not_not.mp c_1).2 (gw_n hW _) rfl (Decidable.not_not.mp c_1).1) (g_recv F clJ3 (gls_obj (pr_ls (M := 1) (S := (gsr S.1 0 0 (upd (S.1 0 0) 8 0), S.2)) (A := A) (κ := 8) (by decide) (Or.inl ⟨by decide, by decide⟩) (fun q => by first | decide | exact absurd q (by decide)) (fun q => by first | decide | exact absurd q (by decide))))) q1506 q809 q811 q22 q813 (List.mem_of_getElem? (i := 1) rfl) (gT_w q812 rfl) (gT_w q810 rfl) (gT_w q293 rfl) gface_1 ⟨by decide, by decide⟩ rfl rfl (gle rfl) 0 0 (gle rfl) (gle rfl) (gle rfl) (gle rfl) dX3_soak_96 gx_n (gv_i ?_)
            refine g_castS F (g_recv F clX10 (gd_obj (pr_at (κ := 8) (i := batch.toNatClampNeg) (by decide) (gc6 (by decide) (Decidable.not_not.mp c_1).2) (gce (show (gsr S.1 0 0 (upd (S.1 0 0) 8 0)) 8 batch.toNatClampNeg = S.1 8 batch.toNatClampNeg from (gsr_p (by decide) rfl)) rfl)))) q1524 dX3_soak_101 ?_
            refine g_astore_n F rfl (by show 3 < 4; decide) (lv2 := [(3, .ref (A 8 batch.toNatClampNeg)), (0, .ref (A 0 0)), (1, .int batch), (2, .int wax)]) rfl dX3_soak_104 ?_
            refine g_aload_n F 0 rfl rfl dX3_soak_105 ?_
            refine g_iconst F (v := (1 : Int32)) (by decide) dX3_soak_106 ?_
            refine g_putN (P2 := gP 1 G (gsr (gsr S.1 0 0 (upd (S.1 0 0) 8 0)) 8 batch.toNatClampNeg (upd (S.1 8 batch.toNatClampNeg) 8 (1 : Int32)), S.2) A Fr []) F clX10 8 (by decide) (gT_w q1539 rfl) rfl rfl rfl (pr_put (κ := 8) (i := batch.toNatClampNeg) gM1 hF (upd (S.1 8 batch.toNatClampNeg) 8 (1 : Int32)) (by decide) (gc6 (by decide) (Decidable.not_not.mp c_1).2) (gce (show (gsr S.1 0 0 (upd (S.1 0 0) 8 0)) 8 batch.toNatClampNeg = S.1 8 batch.toNatClampNeg from (gsr_p (by decide) rfl)) rfl) (gnl rfl) rfl) dX3_soak_107 ?_
            refine g_aload_n F 0 rfl rfl dX3_soak_110 ?_
            refine g_dup F rfl dX3_soak_111 ?_
            refine g_getN F clX10 9 (by decide) (gT_w q1540 rfl) (v := .int (S.1 8 batch.toNatClampNeg 9)) (gd_get (pr_at (κ := 8) (i := batch.toNatClampNeg) (by decide) (gc6 (by decide) (Decidable.not_not.mp c_1).2) (gce (show (gsr (gsr S.1 0 0 (upd (S.1 0 0) 8 0)) 8 batch.toNatClampNeg (upd (S.1 8 batch.toNatClampNeg) 8 (1 : Int32))) 8 batch.toNatClampNeg = upd (S.1 8 batch.toNatClampNeg) 8 (1 : Int32) from gsr_s) rfl)) rfl) dX3_soak_112 ?_
            refine g_bipush F (v := (10 : Int32)) (by decide) dX3_soak_115 ?_
            refine g_iload_n F 3 rfl rfl dX3_soak_117 ?_
            refine g_imul F dX3_soak_118 ?_
            refine g_iadd F dX3_soak_119 ?_
            refine g_putN (P2 := gP 1 G (gsr (gsr (gsr S.1 0 0 (upd (S.1 0 0) 8 0)) 8 batch.toNatClampNeg (upd (S.1 8 batch.toNatClampNeg) 8 (1 : Int32))) 8 batch.toNatClampNeg (upd (upd (S.1 8 batch.toNatClampNeg) 8 (1 : Int32)) 9 ((S.1 8 batch.toNatClampNeg 9) + ((10 : Int32) * wax))), S.2) A Fr []) F clX10 9 (by decide) (gT_w q1540 rfl) rfl rfl rfl (pr_put (κ := 8) (i := batch.toNatClampNeg) gM1 hF (upd (upd (S.1 8 batch.toNatClampNeg) 8 (1 : Int32)) 9 ((S.1 8 batch.toNatClampNeg 9) + ((10 : Int32) * wax))) (by decide) (gc6 (by decide) (Decidable.not_not.mp c_1).2) (gce (show (gsr (gsr S.1 0 0 (upd (S.1 0 0) 8 0)) 8 batch.toNatClampNeg (upd (S.1 8 batch.toNatClampNeg) 8 (1 : Int32))) 8 batch.toNatClampNeg = upd (S.1 8 batch.toNatClampNeg) 8 (1 : Int32) from gsr_s) rfl) (gnl rfl) rfl) dX3_soak_120 ?_
            refine g_aload_n F 0 rfl rfl dX3_soak_123 ?_
            refine g_sipush F (v := (999 : Int32)) (by decide) dX3_soak_124 ?_
            refine g_aload_n F 0 rfl rfl dX3_soak_127 ?_
            refine g_getN F clX10 10 (by decide) (gT_w q1541 rfl) (v := .int (S.1 8 batch.toNatClampNeg 10)) (gd_get (pr_at (κ := 8) (i := batch.toNatClampNeg) (by decide) (gc6 (by decide) (Decidable.not_not.mp c_1).2) (gce (show (gsr (gsr (gsr S.1 0 0 (upd (S.1 0 0) 8 0)) 8 batch.toNatClampNeg (upd (S.1 8 batch.toNatClampNeg) 8 (1 : Int32))) 8 batch.toNatClampNeg (upd (upd (S.1 8 batch.toNatClampNeg) 8 (1 : Int32)) 9 ((S.1 8 batch.toNatClampNeg 9) + ((10 : Int32) * wax)))) 8 batch.toNatClampNeg = upd (upd (S.1 8 batch.toNatClampNeg) 8 (1 : Int32)) 9 ((S.1 8 batch.toNatClampNeg 9) + ((10 : Int32) * wax)) from gsr_s) rfl)) rfl) dX3_soak_128 ?_
            refine g_bipush F (v := (8 : Int32)) (by decide) dX3_soak_131 ?_
            refine g_iload_n F 3 rfl rfl dX3_soak_133 ?_
            refine g_imul F dX3_soak_134 ?_
            refine g_iadd F dX3_soak_135 ?_
            refine g_mmin F q1512 (gle rfl) (gle rfl) (gle rfl) (gle rfl) dX3_soak_136 ?_
            refine g_putN (P2 := gP 1 G (gsr (gsr (gsr (gsr S.1 0 0 (upd (S.1 0 0) 8 0)) 8 batch.toNatClampNeg (upd (S.1 8 batch.toNatClampNeg) 8 (1 : Int32))) 8 batch.toNatClampNeg (upd (upd (S.1 8 batch.toNatClampNeg) 8 (1 : Int32)) 9 ((S.1 8 batch.toNatClampNeg 9) + ((10 : Int32) * wax)))) 8 batch.toNatClampNeg (upd (upd (upd (S.1 8 batch.toNatClampNeg) 8 (1 : Int32)) 9 ((S.1 8 batch.toNatClampNeg 9) + ((10 : Int32) * wax))) 10 (gmin (999 : Int32) ((S.1 8 batch.toNatClampNeg 10) + ((8 : Int32) * wax)))), S.2) A Fr []) F clX10 10 (by decide) (gT_w q1541 rfl) rfl rfl rfl (pr_put (κ := 8) (i := batch.toNatClampNeg) gM1 hF (upd (upd (upd (S.1 8 batch.toNatClampNeg) 8 (1 : Int32)) 9 ((S.1 8 batch.toNatClampNeg 9) + ((10 : Int32) * wax))) 10 (gmin (999 : Int32) ((S.1 8 batch.toNatClampNeg 10) + ((8 : Int32) * wax)))) (by decide) (gc6 (by decide) (Decidable.not_not.mp c_1).2) (gce (show (gsr (gsr (gsr S.1 0 0 (upd (S.1 0 0) 8 0)) 8 batch.toNatClampNeg (upd (S.1 8 batch.toNatClampNeg) 8 (1 : Int32))) 8 batch.toNatClampNeg (upd (upd (S.1 8 batch.toNatClampNeg) 8 (1 : Int32)) 9 ((S.1 8 batch.toNatClampNeg 9) + ((10 : Int32) * wax)))) 8 batch.toNatClampNeg = upd (upd (S.1 8 batch.toNatClampNeg) 8 (1 : Int32)) 9 ((S.1 8 batch.toNatClampNeg 9) + ((10 : Int32) * wax)) from gsr_s) rfl) (gnl rfl) rfl) dX3_soak_139 ?_
            refine g_aload_n F 0 rfl rfl dX3_soak_142 ?_
            refine g_getN F clX10 9 (by decide) (gT_w q1540 rfl) (v := .int ((S.1 8 batch.toNatClampNeg 9) + ((10 : Int32) * wax))) (gd_get (pr_at (κ := 8) (i := batch.toNatClampNeg) (by decide) (gc6 (by decide) (Decidable.not_not.mp c_1).2) (gce (show (gsr (gsr (gsr (gsr S.1 0 0 (upd (S.1 0 0) 8 0)) 8 batch.toNatClampNeg (upd (S.1 8 batch.toNatClampNeg) 8 (1 : Int32))) 8 batch.toNatClampNeg (upd (upd (S.1 8 batch.toNatClampNeg) 8 (1 : Int32)) 9 ((S.1 8 batch.toNatClampNeg 9) + ((10 : Int32) * wax)))) 8 batch.toNatClampNeg (upd (upd (upd (S.1 8 batch.toNatClampNeg) 8 (1 : Int32)) 9 ((S.1 8 batch.toNatClampNeg 9) + ((10 : Int32) * wax))) 10 (gmin (999 : Int32) ((S.1 8 batch.toNatClampNeg 10) + ((8 : Int32) * wax))))) 8 batch.toNatClampNeg = upd (upd (upd (S.1 8 batch.toNatClampNeg) 8 (1 : Int32)) 9 ((S.1 8 batch.toNatClampNeg 9) + ((10 : Int32) * wax))) 10 (gmin (999 : Int32) ((S.1 8 batch.toNatClampNeg 10) + ((8 : Int32) * wax))) from gsr_s) rfl)) rfl) dX3_soak_143 ?_
            exact g_retI F E rfl rfl (gle rfl) (gle rfl) dX3_soak_146 (fun _ hp => ⟨_, _, ((if_neg c_1).trans ((if_neg c_4).trans (if_neg c_8))), rfl, ⟨A, rfl, gP_T0 hp⟩⟩)
        refine gb_if_eq F (tgt := 77) (by decide) dX3_soak_55 (fun c_5 => ?_) (fun c_5 => ?_)
        · skip
          refine g_iconst F (v := (1 : Int32)) (by decide) dX3_soak_77 ?_
          refine g_goto F (tgt := 82) (by decide) dX3_soak_78 ?_
          exact g_top (gb_t (Or.inl c_5)) J_7
        · skip
          refine g_aload_n F 0 rfl rfl dX3_soak_58 ?_
          refine g_get F clX3 9 (by decide) q1398 (v := .ref (A 308 0)) (gd_get (pr_at (κ := 0) (i := 0) (by decide) (gc1 (gnl rfl)) (gce (show (gsr S.1 0 0 (upd (S.1 0 0) 8 0)) 0 0 = upd (S.1 0 0) 8 0 from gsr_s) rfl)) rfl) dX3_soak_59 ?_
          refine g_iload_n F 1 rfl rfl dX3_soak_62 ?_
          refine g_callF F clJ3 (kJ3_get hl (pr_ls (M := 1) (S := (gsr S.1 0 0 (upd (S.1 0 0) 8 0), S.2)) (A := A) (κ := 8) (by decide) (Or.inl ⟨by decide, by decide⟩) (fun q => by first | decide | exact absurd q (by decide)) (fun q => by first | decide | exact absurd q (by decide))) (j := batch.toNatClampNeg) (Decidable.not_not.mp c_1).2 (gw_n hW _) rfl (Decidable.not_not.mp c_1).1) (g_recv F clJ3 (gls_obj (pr_ls (M := 1) (S := (gsr S.1 0 0 (upd (S.1 0 0) 8 0), S.2)) (A := A) (κ := 8) (by decide) (Or.inl ⟨by decide, by decide⟩) (fun q => by first | decide | exact absurd q (by decide)) (fun q => by first | decide | exact absurd q (by decide))))) q1506 q809 q811 q22 q813 (List.mem_of_getElem? (i := 1) rfl) (gT_w q812 rfl) (gT_w q810 rfl) (gT_w q293 rfl) gface_1 ⟨by decide, by decide⟩ rfl rfl (gle rfl) 0 0 (gle rfl) (gle rfl) (gle rfl) (gle rfl) dX3_soak_63 gx_n (gv_i ?_)
          refine g_castS F (g_recv F clX10 (gd_obj (pr_at (κ := 8) (i := batch.toNatClampNeg) (by decide) (gc6 (by decide) (Decidable.not_not.mp c_1).2) (gce (show (gsr S.1 0 0 (upd (S.1 0 0) 8 0)) 8 batch.toNatClampNeg = S.1 8 batch.toNatClampNeg from (gsr_p (by decide) rfl)) rfl)))) q1524 dX3_soak_68 ?_
          refine g_getN F clX10 8 (by decide) (gT_w q1539 rfl) (v := .int (S.1 8 batch.toNatClampNeg 8)) (gd_get (pr_at (κ := 8) (i := batch.toNatClampNeg) (by decide) (gc6 (by decide) (Decidable.not_not.mp c_1).2) (gce (show (gsr S.1 0 0 (upd (S.1 0 0) 8 0)) 8 batch.toNatClampNeg = S.1 8 batch.toNatClampNeg from (gsr_p (by decide) rfl)) rfl)) rfl) dX3_soak_71 ?_
          refine g_if_eq F (tgt := 81) (by decide) dX3_soak_74 (fun c_6 => ?_) (fun c_6 => ?_)
          · skip
            refine g_iconst F (v := (0 : Int32)) (by decide) dX3_soak_81 ?_
            exact g_top (gb_f (fun q => q.elim (fun z => z c_5) (fun q => q c_6))) J_7
          · skip
            refine g_iconst F (v := (1 : Int32)) (by decide) dX3_soak_77 ?_
            refine g_goto F (tgt := 82) (by decide) dX3_soak_78 ?_
            exact g_top (gb_t (Or.inr c_6)) J_7
    refine gb_if_ne F (tgt := 29) (by decide) dX3_soak_22 (fun c_2 => ?_) (fun c_2 => ?_)
    · skip
      refine g_iconst F (v := (0 : Int32)) (by decide) dX3_soak_29 ?_
      exact g_top (gb_f (fun q => q c_2)) J_3
    · skip
      refine g_iconst F (v := (1 : Int32)) (by decide) dX3_soak_25 ?_
      refine g_goto F (tgt := 30) (by decide) dX3_soak_26 ?_
      exact g_top (gb_t c_2) J_3

theorem kX3_going {l : Launch} {G : gG} (hl : l.stackTraces = false) {S : gS} {A : Nat → Nat → Nat} {Fr : gH → Prop} (hF : gFr 1 Fr) (hW : gWf S) {x : Int32} (hx : gIn x 4) {w9 : Int32} (hw9 : w9 = gb (gGoes S x)) : gMet l yX3_going (ws_ yX3_going cX3_going 4 (some .boolean)) ⟨0, 0, 0, 0⟩ G [.ref (A 0 0), .int x] (gP 1 G (gsr S.1 0 0 (upd (S.1 0 0) 8 0), S.2) A Fr []) (gqI (.int w9) (gP 1 G (gsr S.1 0 0 (upd (S.1 0 0) 8 0), S.2) A Fr [])) gxN := by
  refine gMet_of hl pnX3 (gle rfl) (fun X Q hX F E hNm => ?_)
  subst hX
  change gW (X, G, 4, Q) (gP 1 G (gsr S.1 0 0 (upd (S.1 0 0) 8 0), S.2) A Fr []) [(0, .ref (A 0 0)), (1, .int x)] 0 [] 0 0
  refine g_aload_n F 0 rfl rfl dX3_going_0 ?_
  refine g_get F clX3 2 (by decide) q1391 (v := .int (S.1 0 0 1)) (gd_get (pr_at (κ := 0) (i := 0) (by decide) (gc1 (gnl rfl)) (gce (show (gsr S.1 0 0 (upd (S.1 0 0) 8 0)) 0 0 = upd (S.1 0 0) 8 0 from gsr_s) rfl)) rfl) dX3_going_1 ?_
  refine g_istore_n F rfl (by show 2 < 4; decide) (lv2 := [(2, .int (S.1 0 0 1)), (0, .ref (A 0 0)), (1, .int x)]) rfl dX3_going_4 ?_
  refine g_iload_n F 2 rfl rfl dX3_going_5 ?_
  refine g_istore_n F rfl (by show 3 < 4; decide) (lv2 := [(3, .int x), (2, .int (S.1 0 0 1)), (0, .ref (A 0 0)), (1, .int x)]) rfl dX3_going_6 ?_
  have LP : ∀ n (x5 g : Int32) (b : Bool), (x5 = -1 ∨ gIn x5 4) → gIt (S.1 1 0) n x5 = -1 → g = gb (b = true) → gGo (S.1 1 0) (S.1 2 0) 1 n x5 = gGo (S.1 1 0) (S.1 2 0) 1 n x5 → (gb ((b && gGo (S.1 1 0) (S.1 2 0) 1 n x5) = true) = w9 → gW (X, G, 4, Q) (gP 1 G (gsr S.1 0 0 (upd (S.1 0 0) 8 0), S.2) A Fr []) [(2, .int g), (3, .int x5), (0, .ref (A 0 0)), (1, .int x)] 7 [] 0 0) := by
    intro n
    induction n with
    | zero =>
      intro x5 g b hx he hg _ hw
      subst hg
      refine g_iload_n F 1 rfl rfl dX3_going_7 ?_
      refine g_iconst F (v := (-1 : Int32)) (by decide) dX3_going_8 ?_
      refine g_icmp_eq F (tgt := 41) (by decide) dX3_going_9 (fun _ => ?_) (fun c => absurd (show x5 = -1 from he) c)
      refine g_iload_n F 0 rfl rfl dX3_going_41 ?_
      exact g_retI F E rfl gb_z (gle rfl) (gle rfl) dX3_going_42 (fun _ hp => ⟨by rw [← hw, gGo_m (show x5 = -1 from he)]; congr 3; cases b <;> rfl, hp⟩)
    | succ n IH =>
      intro x5 g b hx he hg _ hw
      subst hg
      refine g_iload_n F 1 rfl rfl dX3_going_7 ?_
      refine g_iconst F (v := (-1 : Int32)) (by decide) dX3_going_8 ?_
      refine g_icmp_eq F (tgt := 41) (by decide) dX3_going_9 (fun c_1 => ?_) (fun c_1 => ?_)
      · skip
        refine g_iload_n F 0 rfl rfl dX3_going_41 ?_
        exact g_retI F E rfl gb_z (gle rfl) (gle rfl) dX3_going_42 (fun _ hp => ⟨by rw [← hw, gGo_m c_1]; congr 3; cases b <;> rfl, hp⟩)
      · skip
        refine g_iload_n F 0 rfl rfl dX3_going_12 ?_
        have J_4 : gW (X, G, 4, Q) (gP 1 G (gsr S.1 0 0 (upd (S.1 0 0) 8 0), S.2) A Fr []) [(2, .int (gb (b = true))), (3, .int x5), (0, .ref (A 0 0)), (1, .int x)] 30 [.int (gb ((b = true) ∧ (¬ ((S.1 2 0 x5.toNatClampNeg) = 0))))] 0 0 := by
          refine g_istore_n F rfl (by show 2 < 4; decide) (lv2 := [(2, .int (gb ((b = true) ∧ (¬ ((S.1 2 0 x5.toNatClampNeg) = 0))))), (3, .int x5), (0, .ref (A 0 0)), (1, .int x)]) rfl dX3_going_30 ?_
          refine g_aload_n F 2 rfl rfl dX3_going_31 ?_
          refine g_get F clX3 4 (by decide) q1393 (v := .ref (A 1 0)) (gd_get (pr_at (κ := 0) (i := 0) (by decide) (gc1 (gnl rfl)) (gce (show (gsr S.1 0 0 (upd (S.1 0 0) 8 0)) 0 0 = upd (S.1 0 0) 8 0 from gsr_s) rfl)) rfl) dX3_going_32 ?_
          refine g_iload_n F 1 rfl rfl dX3_going_35 ?_
          refine g_iald F (gIn_vp (gor_of hx c_1)) (pr_at (κ := 1) (i := 0) (by decide) (gc1 (gnl rfl)) (gce (show (gsr S.1 0 0 (upd (S.1 0 0) 8 0)) 1 0 = S.1 1 0 from (gsr_p (by decide) rfl)) rfl)) dX3_going_36 ?_
          change gW _ _ _ _ (.int (S.1 1 0 x5.toNatClampNeg) :: _) _ _
          refine g_istore_n F rfl (by show 3 < 4; decide) (lv2 := [(3, .int (S.1 1 0 x5.toNatClampNeg)), (2, .int (gb ((b = true) ∧ (¬ ((S.1 2 0 x5.toNatClampNeg) = 0))))), (0, .ref (A 0 0)), (1, .int x)]) rfl dX3_going_37 ?_
          refine g_goto F (tgt := 7) (by decide) dX3_going_38 ?_
          refine g_lv [1,0,2,3] (lv2 := [(2, .int (gb ((b = true) ∧ (¬ ((S.1 2 0 x5.toNatClampNeg) = 0))))), (3, .int (S.1 1 0 x5.toNatClampNeg)), (0, .ref (A 0 0)), (1, .int x)]) rfl ?_
          exact IH _ _ (b && !((S.1 2 0) x5.toNatClampNeg == 0)) (gDrv_n (gw_d hW) (gor_of hx c_1)) (gIt_s c_1 he) (gb_c (by cases b <;> simp)) rfl (by rw [← hw, gGo_s c_1, Bool.and_assoc])
        refine gb_if_eq F (tgt := 29) (by decide) dX3_going_13 (fun c_2 => ?_) (fun c_2 => ?_)
        · skip
          refine g_iconst F (v := (0 : Int32)) (by decide) dX3_going_29 ?_
          exact g_top (gb_f (fun q => c_2 q.1)) J_4
        · skip
          refine g_aload_n F 2 rfl rfl dX3_going_16 ?_
          refine g_get F clX3 3 (by decide) q1392 (v := .ref (A 2 0)) (gd_get (pr_at (κ := 0) (i := 0) (by decide) (gc1 (gnl rfl)) (gce (show (gsr S.1 0 0 (upd (S.1 0 0) 8 0)) 0 0 = upd (S.1 0 0) 8 0 from gsr_s) rfl)) rfl) dX3_going_17 ?_
          refine g_iload_n F 1 rfl rfl dX3_going_20 ?_
          refine g_zald F (gIn_vp (gor_of hx c_1)) (pr_at (κ := 2) (i := 0) (by decide) (gc1 (gnl rfl)) (gce (show (gsr S.1 0 0 (upd (S.1 0 0) 8 0)) 2 0 = S.1 2 0 from (gsr_p (by decide) rfl)) rfl)) dX3_going_21 ?_
          change gW _ _ _ _ (.int (S.1 2 0 x5.toNatClampNeg) :: _) _ _
          refine g_if_eq F (tgt := 29) (by decide) dX3_going_22 (fun c_3 => ?_) (fun c_3 => ?_)
          · skip
            refine g_iconst F (v := (0 : Int32)) (by decide) dX3_going_29 ?_
            exact g_top (gb_f (fun q => (fun q => q c_3) q.2)) J_4
          · skip
            refine g_iconst F (v := (1 : Int32)) (by decide) dX3_going_25 ?_
            refine g_goto F (tgt := 30) (by decide) dX3_going_26 ?_
            exact g_top (gb_t (⟨c_2, c_3⟩)) J_4
  refine g_lv [1,0,2,3] (lv2 := [(2, .int (S.1 0 0 1)), (3, .int x), (0, .ref (A 0 0)), (1, .int x)]) rfl ?_
  exact LP 4 x _ (!(S.1 0 0 1 == 0)) (Or.inr hx) (gDrv_e (gw_d hW) hx) (gBl_b (gw_b hW)) rfl (by rw [hw9]; exact gb_c (by rw [← gGo_sh]))
