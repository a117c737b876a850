def sC_shaft (S : gS) (c : Prop) [Decidable c] : gO := .inr (.int (S.1 0 0 1), (gsr S.1 0 0 (upd (S.1 0 0) 1 (gb c)), S.2))
theorem kX1_shaft {l : Launch} {G : gG} (hl : l.stackTraces = false) {S : gS} {a0 : Nat} {Fr : gH → Prop} (hF : gFr 0 Fr) (hW : gWf S) {c : Prop} [Decidable c]  : gMet l yX1_shaft (ws_ yX1_shaft cX1_shaft 3 (some .boolean)) ⟨0, 0, 0, 0⟩ G [.ref a0, .int (gb c)] (gPE 0 G S a0 Fr) (gqS (sC_shaft S c) 0 G a0 Fr) (gxS (sC_shaft S c) 0 G S a0 Fr) := by
  refine gMet_of hl pnX1 (gle rfl) (fun X Q hX F E hNm => ?_)
  subst hX
  change gW (X, G, 3, Q) (gPE 0 G S a0 Fr) [(0, .ref a0), (1, .int (gb c))] 0 [] 0 0
  refine g_pe (fun A hA => ?_)
  subst hA
  change gW _ _ [(0, .ref (A 0 0)), (1, .int (gb c))] 0 [] 0 0
  refine g_aload_n F 0 rfl rfl dX1_shaft_0 ?_
  refine g_get F clX1 1 (by decide) q136 (v := .int (S.1 0 0 1)) (gd_get (pr_at (κ := 0) (i := 0) (by decide) (gc1 (gnl rfl)) (gce rfl rfl)) rfl) dX1_shaft_1 ?_
  refine g_istore_n F rfl (by show 2 < 3; decide) (lv2 := [(2, .int (S.1 0 0 1)), (0, .ref (A 0 0)), (1, .int (gb c))]) rfl dX1_shaft_4 ?_
  refine g_aload_n F 1 rfl rfl dX1_shaft_5 ?_
  refine g_iload_n F 2 rfl rfl dX1_shaft_6 ?_
  refine g_put (P2 := gP 0 G (gsr S.1 0 0 (upd (S.1 0 0) 1 (gb c)), S.2) A Fr []) F clX1 1 (by decide) q136 rfl gb_z gb_fit (pr_put (κ := 0) (i := 0) gM0 hF (upd (S.1 0 0) 1 (gb c)) (by decide) (gc1 (gnl rfl)) (gce rfl rfl) (gnl rfl) rfl) dX1_shaft_7 ?_
  refine g_iload_n F 0 rfl rfl dX1_shaft_10 ?_
  exact g_retI F E rfl (gBl_n (gw_b hW)) (gle rfl) (gle rfl) dX1_shaft_11 (fun _ hp => ⟨_, _, rfl, rfl, ⟨_, rfl, gP_T0 hp⟩⟩)

def sC_on (S : gS) (ch : Int32) (c : Prop) [Decidable c] : gO := if ¬ gidx 0 ch < 0 then (.inr (.int (S.1 2 0 ((gidx 0 ch).toNatClampNeg)), (gsr S.1 2 0 (upd (S.1 2 0) ((gidx 0 ch).toNatClampNeg) (gb c)), S.2))) else (.inl "java/lang/IllegalArgumentException")
theorem kX1_on {l : Launch} {G : gG} (hl : l.stackTraces = false) {S : gS} {a0 : Nat} {Fr : gH → Prop} (hF : gFr 0 Fr) (hW : gWf S) {ch : Int32} {c : Prop} [Decidable c] (h_ch : ¬ ch < 0) : gMet l yX1_on (ws_ yX1_on cX1_on 5 (some .boolean)) ⟨8, 1, 6, 122⟩ G [.ref a0, .int ch, .int (gb c)] (gPE 0 G S a0 Fr) (gqS (sC_on S ch c) 0 G a0 Fr) (gxS (sC_on S ch c) 0 G S a0 Fr) := by
  refine gMet_of hl pnX1 (gle rfl) (fun X Q hX F E hNm => ?_)
  subst hX
  change gW (X, G, 5, Q) (gPE 0 G S a0 Fr) [(0, .ref a0), (1, .int ch), (2, .int (gb c))] 0 [] 0 0
  refine g_pe (fun A hA => ?_)
  subst hA
  change gW _ _ [(0, .ref (A 0 0)), (1, .int ch), (2, .int (gb c))] 0 [] 0 0
  refine g_iload_n F 1 rfl rfl dX1_on_0 ?_
  refine g_callS F (kX1_requireMachine hl (ch := ch) h_ch) (lw_S q432 q433 q18 q434) myX1_requireMachine ⟨by decide, by decide⟩ rfl rfl (gle rfl) 1 6 (gle rfl) (gle rfl) (gle rfl) (gle rfl) dX1_on_1 (gx_1 (fun c_1 => g_out0 F E (gle rfl) (gle rfl) (fun _ hp => ⟨(if_neg c_1), gPE_0 _ hp⟩))) (gv_y (fun c_1 => ?_))
  refine g_istore_n F rfl (by show 3 < 5; decide) (lv2 := [(3, .int (gidx 0 ch)), (0, .ref (A 0 0)), (1, .int ch), (2, .int (gb c))]) rfl dX1_on_4 ?_
  refine g_aload_n F 1 rfl rfl dX1_on_5 ?_
  refine g_get F clX1 3 (by decide) q138 (v := .ref (A 2 0)) (gd_get (pr_at (κ := 0) (i := 0) (by decide) (gc1 (gnl rfl)) (gce rfl rfl)) rfl) dX1_on_6 ?_
  refine g_iload_n F 0 rfl rfl dX1_on_9 ?_
  refine g_zald F (gidx_vp (i := 0) (by decide) c_1) (pr_at (κ := 2) (i := 0) (by decide) (gc1 (gnl rfl)) (gce rfl rfl)) dX1_on_10 ?_
  change gW _ _ _ _ (.int (S.1 2 0 ((gidx 0 ch).toNatClampNeg)) :: _) _ _
  refine g_istore F (by show 4 < 5; decide) (lv2 := [(4, .int (S.1 2 0 ((gidx 0 ch).toNatClampNeg))), (3, .int (gidx 0 ch)), (0, .ref (A 0 0)), (1, .int ch), (2, .int (gb c))]) rfl dX1_on_11 ?_
  refine g_aload_n F 2 rfl rfl dX1_on_13 ?_
  refine g_get F clX1 3 (by decide) q138 (v := .ref (A 2 0)) (gd_get (pr_at (κ := 0) (i := 0) (by decide) (gc1 (gnl rfl)) (gce rfl rfl)) rfl) dX1_on_14 ?_
  refine g_iload_n F 1 rfl rfl dX1_on_17 ?_
  refine g_iload_n F 4 rfl rfl dX1_on_18 ?_
  refine g_zast (P2 := gP 0 G (gsr S.1 2 0 (upd (S.1 2 0) ((gidx 0 ch).toNatClampNeg) (gb c)), S.2) A Fr []) F (gidx_vp (i := 0) (by decide) c_1) gb_zn (pr_setRow (κ := 2) (i := 0) gM0 hF (upd (S.1 2 0) ((gidx 0 ch).toNatClampNeg) (gb c)) (by decide) (gc1 (gnl rfl)) (gce rfl rfl) rfl) dX1_on_19 ?_
  refine g_iload F 0 rfl dX1_on_20 ?_
  exact g_retI F E rfl (gBl_n (gw_on hW (gidx_in (i := 0) (by decide) c_1).2)) (gle rfl) (gle rfl) dX1_on_22 (fun _ hp => ⟨_, _, (if_pos c_1), rfl, ⟨_, rfl, gP_T0 hp⟩⟩)

def sC_runs (S : gS) (ch : Int32) : gO := if ¬ gidx 0 ch < 0 then (if gGoes S (gidx 0 ch) then (.inr (.int (1 : Int32), S)) else (.inr (.int (0 : Int32), S))) else (.inl "java/lang/IllegalArgumentException")
theorem kX1_runs {l : Launch} {G : gG} (hl : l.stackTraces = false) {S : gS} {a0 : Nat} {Fr : gH → Prop} (hF : gFr 0 Fr) (hW : gWf S) {ch : Int32} (h_ch : ¬ ch < 0) : gMet l yX1_runs (wsW_ yX1_runs cX1_runs 4 (some .boolean) [((5 : Nat), (11 : Nat), (12 : Nat), (144 : Nat))]) ⟨10, 16, 61, 206⟩ G [.ref a0, .int ch] (gPE 0 G S a0 Fr) (gqS (sC_runs S ch) 0 G a0 Fr) (gxS (sC_runs S ch) 0 G S a0 Fr) := by
  refine gMet_ofW hl pnX1 (gle rfl) (fun X Q hX F E hNm => ?_)
  subst hX
  change gW (X, G, 4, Q) (gPE 0 G S a0 Fr) [(0, .ref a0), (1, .int ch)] 0 [] 0 0
  refine g_pe (fun A hA => ?_)
  subst hA
  change gW _ _ [(0, .ref (A 0 0)), (1, .int ch)] 0 [] 0 0
  refine g_iload_n F 1 rfl rfl dX1_runs_0 ?_
  refine g_callS F (kX1_requireMachine hl (ch := ch) h_ch) (lw_S q432 q433 q18 q434) myX1_requireMachine ⟨by decide, by decide⟩ rfl rfl (gle rfl) 1 6 (gle rfl) (gle rfl) (gle rfl) (gle rfl) dX1_runs_1 (gx_1 (fun c_1 => g_out F E (gpass (by decide)) (gle rfl) (gle rfl) (fun _ hp => ⟨(if_neg c_1), gPE_0 _ hp⟩))) (gv_y (fun c_1 => ?_))
  refine g_istore_n F rfl (by show 2 < 4; decide) (lv2 := [(2, .int (gidx 0 ch)), (0, .ref (A 0 0)), (1, .int ch)]) rfl dX1_runs_4 ?_
  refine g_aload_n F 1 rfl rfl dX1_runs_5 ?_
  refine g_iload_n F 0 rfl rfl dX1_runs_6 ?_
  refine g_callVW F (kX1_drive_4 hl hF (gw_d hW) (Or.inr (gidx_in (i := 0) (by decide) c_1)) (gDrv_e (gw_d hW) (gidx_in (i := 0) (by decide) c_1))) (g_recv F clX1 (gd_obj (pr_at (κ := 0) (i := 0) (by decide) (gc1 (gnl rfl)) (gce rfl rfl)))) q565 q567 qs2 q18 q568 myX1_drive ⟨by decide, by decide⟩ rfl rfl (gle rfl) 16 61 (gle rfl) (gle rfl) (gle rfl) (gle rfl) dX1_runs_7 (gx_1 (fun c_2 => g_catchS F [] _ [] rfl (fun z hz => by cases hz) (by decide) (by decide) q564 (tgt := 12) rfl (fun q9 => ?_))) (gv_c (fun c_2 => ?_))
  · skip
    refine g_astore_n F rfl (by show 3 < 4; decide) (lv2 := [(3, .ref q9), (2, .int (gidx 0 ch)), (0, .ref (A 0 0)), (1, .int ch)]) rfl dX1_runs_12 ?_
    refine g_iconst F (v := (0 : Int32)) (by decide) dX1_runs_13 ?_
    exact g_retI F E rfl rfl (gle rfl) (gle rfl) dX1_runs_14 (fun _ hp => ⟨_, _, ((if_pos c_1).trans (if_neg c_2)), rfl, ⟨_, rfl, gP_T0 hp⟩⟩)
  · skip
    refine g_iconst F (v := (1 : Int32)) (by decide) dX1_runs_10 ?_
    exact g_retI F E rfl rfl (gle rfl) (gle rfl) dX1_runs_11 (fun _ hp => ⟨_, _, ((if_pos c_1).trans (if_pos c_2)), rfl, ⟨_, rfl, gP_T0 hp⟩⟩)

theorem kX1_runsI {l : Launch} {G : gG} (hl : l.stackTraces = false) {S : gS} {A : Nat → Nat → Nat} {Fr : gH → Prop} (hF : gFr 0 Fr) (hW : gWf S) {ch : Int32} (h_ch : ¬ ch < 0) : gMet l yX1_runs (wsW_ yX1_runs cX1_runs 4 (some .boolean) [((5 : Nat), (11 : Nat), (12 : Nat), (144 : Nat))]) ⟨10, 16, 61, 206⟩ G [.ref (A 0 0), .int ch] (gP 0 G S A Fr []) (gqY (¬ gidx 0 ch < 0) (.int (gb (gGoes S (gidx 0 ch)))) (gP 0 G S A Fr [])) (gx1 "java/lang/IllegalArgumentException" (¬ ¬ gidx 0 ch < 0) (gP 0 G S A Fr [])) := by
  refine gMet_ofW hl pnX1 (gle rfl) (fun X Q hX F E hNm => ?_)
  subst hX
  change gW (X, G, 4, Q) (gP 0 G S A Fr []) [(0, .ref (A 0 0)), (1, .int ch)] 0 [] 0 0
  refine g_iload_n F 1 rfl rfl dX1_runs_0 ?_
  refine g_callS F (kX1_requireMachine hl (ch := ch) h_ch) (lw_S q432 q433 q18 q434) myX1_requireMachine ⟨by decide, by decide⟩ rfl rfl (gle rfl) 1 6 (gle rfl) (gle rfl) (gle rfl) (gle rfl) dX1_runs_1 (gx_1 (fun c_1 => g_out F E (gpass (by decide)) (gle rfl) (gle rfl) (fun _ hp => ⟨rfl, c_1, hp⟩))) (gv_y (fun c_1 => ?_))
  refine g_istore_n F rfl (by show 2 < 4; decide) (lv2 := [(2, .int (gidx 0 ch)), (0, .ref (A 0 0)), (1, .int ch)]) rfl dX1_runs_4 ?_
  refine g_aload_n F 1 rfl rfl dX1_runs_5 ?_
  refine g_iload_n F 0 rfl rfl dX1_runs_6 ?_
  refine g_callVW F (kX1_drive_4 hl hF (gw_d hW) (Or.inr (gidx_in (i := 0) (by decide) c_1)) (gDrv_e (gw_d hW) (gidx_in (i := 0) (by decide) c_1))) (g_recv F clX1 (gd_obj (pr_at (κ := 0) (i := 0) (by decide) (gc1 (gnl rfl)) (gce rfl rfl)))) q565 q567 qs2 q18 q568 myX1_drive ⟨by decide, by decide⟩ rfl rfl (gle rfl) 16 61 (gle rfl) (gle rfl) (gle rfl) (gle rfl) dX1_runs_7 (gx_1 (fun c_2 => g_catchS F [] _ [] rfl (fun z hz => by cases hz) (by decide) (by decide) q564 (tgt := 12) rfl (fun q9 => ?_))) (gv_c (fun c_2 => ?_))
  · skip
    refine g_astore_n F rfl (by show 3 < 4; decide) (lv2 := [(3, .ref q9), (2, .int (gidx 0 ch)), (0, .ref (A 0 0)), (1, .int ch)]) rfl dX1_runs_12 ?_
    refine g_iconst F (v := (0 : Int32)) (by decide) dX1_runs_13 ?_
    exact g_retI F E rfl rfl (gle rfl) (gle rfl) dX1_runs_14 (fun _ hp => ⟨by rw [gb_f (c := gGoes S (gidx 0 ch)) c_2], c_1, hp⟩)
  · skip
    refine g_iconst F (v := (1 : Int32)) (by decide) dX1_runs_10 ?_
    exact g_retI F E rfl rfl (gle rfl) (gle rfl) dX1_runs_11 (fun _ hp => ⟨by rw [gb_t (c := gGoes S (gidx 0 ch)) c_2], c_1, hp⟩)

def sC_groove (S : gS) (slats width : Int32) : gO := if gIn slats (S.2 9) then (if ¬ width < (5 : Int32) ∧ ¬ (30 : Int32) < width then (if ¬ ((S.1 0 0 0) < (S.1 9 slats.toNatClampNeg 5)) ∧ (¬ ((10 : Int32) < (S.1 9 slats.toNatClampNeg 2)) ∧ (((S.1 9 slats.toNatClampNeg 4) = 0) ∧ (gGoes S 2))) then (.inr (.int (S.1 9 slats.toNatClampNeg 3), (gsr S.1 9 slats.toNatClampNeg (upd (S.1 9 slats.toNatClampNeg) 4 width), S.2))) else (.inl "java/lang/UnsupportedOperationException")) else (.inl "java/lang/IllegalArgumentException")) else (.inl "java/lang/IndexOutOfBoundsException")
theorem kX1_groove {l : Launch} {G : gG} (hl : l.stackTraces = false) {S : gS} {a0 : Nat} {Fr : gH → Prop} (hF : gFr 0 Fr) (hW : gWf S) {slats width : Int32}  : gMet l yX1_groove (ws_ yX1_groove cX1_groove 4 (some .int)) ⟨11, 20, 80, 229⟩ G [.ref a0, .int slats, .int width] (gPE 0 G S a0 Fr) (gqS (sC_groove S slats width) 0 G a0 Fr) (gxS (sC_groove S slats width) 0 G S a0 Fr) := by
  refine gMet_of hl pnX1 (gle rfl) (fun X Q hX F E hNm => ?_)
  subst hX
  change gW (X, G, 4, Q) (gPE 0 G S a0 Fr) [(0, .ref a0), (1, .int slats), (2, .int width)] 0 [] 0 0
  refine g_pe (fun A hA => ?_)
  subst hA
  change gW _ _ [(0, .ref (A 0 0)), (1, .int slats), (2, .int width)] 0 [] 0 0
  refine g_aload_n F 0 rfl rfl dX1_groove_0 ?_
  refine g_get F clX1 12 (by decide) q147 (v := .ref (A 309 0)) (gd_get (pr_at (κ := 0) (i := 0) (by decide) (gc1 (gnl rfl)) (gce rfl rfl)) rfl) dX1_groove_1 ?_
  refine g_iload_n F 1 rfl rfl dX1_groove_4 ?_
  refine g_callS F (kX1_require hl (pr_ls (κ := 9) (by decide) (Or.inl ⟨by decide, by decide⟩) (fun _ => by decide) (fun _ => by decide)) (gw_n hW _) (x := slats)) (lw_S q784 q785 q18 q786) myX1_require ⟨by decide, by decide⟩ rfl rfl (gle rfl) 1 6 (gle rfl) (gle rfl) (gle rfl) (gle rfl) dX1_groove_5 (gx_1 (fun c_1 => g_out0 F E (gle rfl) (gle rfl) (fun _ hp => ⟨(if_neg c_1), gPE_0 _ hp⟩))) (gv_y (fun c_1 => ?_))
  refine g_castS F (g_recv F clX11 (gd_obj (pr_at (κ := 9) (i := slats.toNatClampNeg) (by decide) (gc6 (by decide) c_1.2) (gce rfl rfl)))) q1003 dX1_groove_8 ?_
  refine g_astore_n F rfl (by show 3 < 4; decide) (lv2 := [(3, .ref (A 9 slats.toNatClampNeg)), (0, .ref (A 0 0)), (1, .int slats), (2, .int width)]) rfl dX1_groove_11 ?_
  refine g_iconst F (v := (5 : Int32)) (by decide) dX1_groove_12 ?_
  refine g_bipush F (v := (30 : Int32)) (by decide) dX1_groove_13 ?_
  refine g_iconst F (v := (1 : Int32)) (by decide) dX1_groove_15 ?_
  refine g_newI F (5000, 0) (N := 1) rfl (by decide) 2 7 (gle rfl) (gle rfl) (gle rfl) (gle rfl) (Pa := fun a_2 => gP 0 G S A Fr [(a_2, gIA G 1 (fun _ => 0))]) (pr_new hF) dX1_groove_16 (fun a_2 => ?_)
  refine g_dup F rfl dX1_groove_18 ?_
  refine g_iconst F (v := (0 : Int32)) (by decide) dX1_groove_19 ?_
  refine g_iload_n F 3 rfl rfl dX1_groove_20 ?_
  refine g_iastN (P2 := gP 0 G S A Fr [(a_2, gIA G 1 (upd (fun _ => 0) 0 width))]) F (m := 0) rfl (by decide) (by decide) (pr_setT gM0 hF (j := 0) rfl) dX1_groove_21 ?_
  refine g_callS F (kX1_isIn hl (pr_atT (j := 0) rfl)) (lw_S q305 q306 q18 q307) myX1_isIn ⟨by decide, by decide⟩ rfl rfl (gle rfl) 2 7 (gle rfl) (gle rfl) (gle rfl) (gle rfl) dX1_groove_22 gx_n (gv_i ?_)
  refine g_top (show _ = gb (¬ width < (5 : Int32) ∧ ¬ (30 : Int32) < width) from rfl) ?_
  refine g_mono (P2 := gP 0 G S A Fr []) (fun _ hp => gP_Tl 0 hp) ?_
  refine g_callS F (kX1_requireArgument hl (c := ¬ width < (5 : Int32) ∧ ¬ (30 : Int32) < width)) (lw_S q335 q336 q18 q337) myX1_requireArgument ⟨by decide, by decide⟩ rfl rfl (gle rfl) 3 13 (gle rfl) (gle rfl) (gle rfl) (gle rfl) dX1_groove_25 (gx_1 (fun c_3 => g_out0 F E (gle rfl) (gle rfl) (fun _ hp => ⟨((if_pos c_1).trans (if_neg c_3)), gPE_0 _ hp⟩))) (gv_c (fun c_3 => ?_))
  refine g_aload_n F 1 rfl rfl dX1_groove_28 ?_
  refine g_get F clX1 0 (by decide) q135 (v := .int (S.1 0 0 0)) (gd_get (pr_at (κ := 0) (i := 0) (by decide) (gc1 (gnl rfl)) (gce rfl rfl)) rfl) dX1_groove_29 ?_
  refine g_aload_n F 0 rfl rfl dX1_groove_32 ?_
  refine g_getN F clX11 6 (by decide) (gT_w q1021 rfl) (v := .int (S.1 9 slats.toNatClampNeg 5)) (gd_get (pr_at (κ := 9) (i := slats.toNatClampNeg) (by decide) (gc6 (by decide) c_1.2) (gce rfl rfl)) rfl) dX1_groove_33 ?_
  have J_9 : gW (X, G, 4, Q) (gP 0 G S A Fr []) [(3, .ref (A 9 slats.toNatClampNeg)), (0, .ref (A 0 0)), (1, .int slats), (2, .int width)] 69 [.int (gb (¬ ((S.1 0 0 0) < (S.1 9 slats.toNatClampNeg 5)) ∧ (¬ ((10 : Int32) < (S.1 9 slats.toNatClampNeg 2)) ∧ (((S.1 9 slats.toNatClampNeg 4) = 0) ∧ (gGoes S 2)))))] 19 74 := by
    refine g_callS F (kX1_requireSupported hl (c := ¬ ((S.1 0 0 0) < (S.1 9 slats.toNatClampNeg 5)) ∧ (¬ ((10 : Int32) < (S.1 9 slats.toNatClampNeg 2)) ∧ (((S.1 9 slats.toNatClampNeg 4) = 0) ∧ (gGoes S 2))))) (lw_S q512 q513 q18 q514) myX1_requireSupported ⟨by decide, by decide⟩ rfl rfl (gle rfl) 20 80 (gle rfl) (gle rfl) (gle rfl) (gle rfl) dX1_groove_69 (gx_1 (fun c_10 => g_out0 F E (gle rfl) (gle rfl) (fun _ hp => ⟨((if_pos c_1).trans ((if_pos c_3).trans (if_neg c_10))), gPE_0 _ hp⟩))) (gv_c (fun c_10 => ?_))
    refine g_aload_n F 0 rfl rfl dX1_groove_72 ?_
    refine g_iload_n F 3 rfl rfl dX1_groove_73 ?_
    refine g_putN (P2 := gP 0 G (gsr S.1 9 slats.toNatClampNeg (upd (S.1 9 slats.toNatClampNeg) 4 width), S.2) A Fr []) F clX11 5 (by decide) (gT_w q1020 rfl) rfl rfl rfl (pr_put (κ := 9) (i := slats.toNatClampNeg) gM0 hF (upd (S.1 9 slats.toNatClampNeg) 4 width) (by decide) (gc6 (by decide) c_1.2) (gce rfl rfl) (gnl rfl) rfl) dX1_groove_74 ?_
    refine g_aload_n F 0 rfl rfl dX1_groove_77 ?_
    refine g_getN F clX11 4 (by decide) (gT_w q1018 rfl) (v := .int (S.1 9 slats.toNatClampNeg 3)) (gd_get (pr_at (κ := 9) (i := slats.toNatClampNeg) (by decide) (gc6 (by decide) c_1.2) (gce (show (gsr S.1 9 slats.toNatClampNeg (upd (S.1 9 slats.toNatClampNeg) 4 width)) 9 slats.toNatClampNeg = upd (S.1 9 slats.toNatClampNeg) 4 width from gsr_s) rfl)) rfl) dX1_groove_78 ?_
    exact g_retI F E rfl rfl (gle rfl) (gle rfl) dX1_groove_81 (fun _ hp => ⟨_, _, ((if_pos c_1).trans ((if_pos c_3).trans (if_pos c_10))), rfl, ⟨_, rfl, gP_T0 hp⟩⟩)
  refine g_icmp_lt F (tgt := 68) (by decide) dX1_groove_36 (fun c_4 => ?_) (fun c_4 => ?_)
  · skip
    refine g_iconst F (v := (0 : Int32)) (by decide) dX1_groove_68 ?_
    exact g_widen (by decide) (by decide) <| g_top (gb_f (fun q => q.1 c_4)) J_9
  · skip
    refine g_aload_n F 0 rfl rfl dX1_groove_39 ?_
    refine g_getN F clX11 3 (by decide) (gT_w q1016 rfl) (v := .int (S.1 9 slats.toNatClampNeg 2)) (gd_get (pr_at (κ := 9) (i := slats.toNatClampNeg) (by decide) (gc6 (by decide) c_1.2) (gce rfl rfl)) rfl) dX1_groove_40 ?_
    refine g_bipush F (v := (10 : Int32)) (by decide) dX1_groove_43 ?_
    refine g_icmp_gt F (tgt := 68) (by decide) dX1_groove_45 (fun c_5 => ?_) (fun c_5 => ?_)
    · skip
      refine g_iconst F (v := (0 : Int32)) (by decide) dX1_groove_68 ?_
      exact g_widen (by decide) (by decide) <| g_top (gb_f (fun q => (fun q => q.1 c_5) q.2)) J_9
    · skip
      refine g_aload_n F 0 rfl rfl dX1_groove_48 ?_
      refine g_getN F clX11 5 (by decide) (gT_w q1020 rfl) (v := .int (S.1 9 slats.toNatClampNeg 4)) (gd_get (pr_at (κ := 9) (i := slats.toNatClampNeg) (by decide) (gc6 (by decide) c_1.2) (gce rfl rfl)) rfl) dX1_groove_49 ?_
      refine g_if_ne F (tgt := 68) (by decide) dX1_groove_52 (fun c_6 => ?_) (fun c_6 => ?_)
      · skip
        refine g_iconst F (v := (0 : Int32)) (by decide) dX1_groove_68 ?_
        exact g_widen (by decide) (by decide) <| g_top (gb_f (fun q => (fun q => (fun q => c_6 q.1) q.2) q.2)) J_9
      · skip
        refine g_aload_n F 1 rfl rfl dX1_groove_55 ?_
        refine g_bipush F (v := (103 : Int32)) (by decide) dX1_groove_56 ?_
        refine g_callVW F (kX1_runsI hl hF hW (ch := (103 : Int32)) (by decide)) (g_recv F clX1 (gd_obj (pr_at (κ := 0) (i := 0) (by decide) (gc1 (gnl rfl)) (gce rfl rfl)))) q830 q561 q562 q18 q563 myX1_runs ⟨by decide, by decide⟩ rfl rfl (gle rfl) 19 74 (gle rfl) (gle rfl) (gle rfl) (gle rfl) dX1_groove_58 (gx_1 (fun c_7 => (c_7 (by decide +kernel)).elim)) (gv_y (fun c_7 => ?_))
        refine g_top (show _ = gb (gGoes S 2) by rw [show gidx 0 (103 : Int32) = (2 : Int32) from by decide +kernel]) ?_
        refine gb_if_eq F (tgt := 68) (by decide) dX1_groove_61 (fun c_8 => ?_) (fun c_8 => ?_)
        · skip
          refine g_iconst F (v := (0 : Int32)) (by decide) dX1_groove_68 ?_
          exact g_top (gb_f (fun q => (fun q => (fun q => c_8 q.2) q.2) q.2)) J_9
        · skip
          refine g_iconst F (v := (1 : Int32)) (by decide) dX1_groove_64 ?_
          refine g_goto F (tgt := 69) (by decide) dX1_groove_65 ?_
          exact g_top (gb_t (⟨c_4, ⟨c_5, ⟨c_6, c_8⟩⟩⟩)) J_9

def sC_coat (S : gS) (run colour : Int32) : gO := if gIn run (S.2 10) then (if ¬ colour < (0 : Int32) ∧ ¬ (9 : Int32) < colour then (if ¬ ((S.1 0 0 0) < (S.1 10 run.toNatClampNeg 6)) ∧ (¬ ((8 : Int32) ≤ (S.1 10 run.toNatClampNeg 7)) ∧ (gGoes S 3)) then (.inr (.int ((S.1 10 run.toNatClampNeg 7) + (1 : Int32)), (gsr (gsr (gsr S.1 10 run.toNatClampNeg (upd (S.1 10 run.toNatClampNeg) 7 ((S.1 10 run.toNatClampNeg 7) + (1 : Int32)))) 10 run.toNatClampNeg (upd (upd (S.1 10 run.toNatClampNeg) 7 ((S.1 10 run.toNatClampNeg 7) + (1 : Int32))) 8 colour)) 10 run.toNatClampNeg (upd (upd (upd (S.1 10 run.toNatClampNeg) 7 ((S.1 10 run.toNatClampNeg 7) + (1 : Int32))) 8 colour) 6 ((S.1 0 0 0) + (8 : Int32))), S.2))) else (.inl "java/lang/UnsupportedOperationException")) else (.inl "java/lang/IllegalArgumentException")) else (.inl "java/lang/IndexOutOfBoundsException")
theorem kX1_coat {l : Launch} {G : gG} (hl : l.stackTraces = false) {S : gS} {a0 : Nat} {Fr : gH → Prop} (hF : gFr 0 Fr) (hW : gWf S) {run colour : Int32}  : gMet l yX1_coat (ws_ yX1_coat cX1_coat 4 (some .int)) ⟨11, 20, 80, 229⟩ G [.ref a0, .int run, .int colour] (gPE 0 G S a0 Fr) (gqS (sC_coat S run colour) 0 G a0 Fr) (gxS (sC_coat S run colour) 0 G S a0 Fr) := by
  refine gMet_of hl pnX1 (gle rfl) (fun X Q hX F E hNm => ?_)
  subst hX
  change gW (X, G, 4, Q) (gPE 0 G S a0 Fr) [(0, .ref a0), (1, .int run), (2, .int colour)] 0 [] 0 0
  refine g_pe (fun A hA => ?_)
  subst hA
  change gW _ _ [(0, .ref (A 0 0)), (1, .int run), (2, .int colour)] 0 [] 0 0
  refine g_aload_n F 0 rfl rfl dX1_coat_0 ?_
  refine g_get F clX1 13 (by decide) q148 (v := .ref (A 310 0)) (gd_get (pr_at (κ := 0) (i := 0) (by decide) (gc1 (gnl rfl)) (gce rfl rfl)) rfl) dX1_coat_1 ?_
  refine g_iload_n F 1 rfl rfl dX1_coat_4 ?_
  refine g_callS F (kX1_require hl (pr_ls (κ := 10) (by decide) (Or.inl ⟨by decide, by decide⟩) (fun _ => by decide) (fun _ => by decide)) (gw_n hW _) (x := run)) (lw_S q784 q785 q18 q786) myX1_require ⟨by decide, by decide⟩ rfl rfl (gle rfl) 1 6 (gle rfl) (gle rfl) (gle rfl) (gle rfl) dX1_coat_5 (gx_1 (fun c_1 => g_out0 F E (gle rfl) (gle rfl) (fun _ hp => ⟨(if_neg c_1), gPE_0 _ hp⟩))) (gv_y (fun c_1 => ?_))
  refine g_castS F (g_recv F clX13 (gd_obj (pr_at (κ := 10) (i := run.toNatClampNeg) (by decide) (gc6 (by decide) c_1.2) (gce rfl rfl)))) q297 dX1_coat_8 ?_
  refine g_astore_n F rfl (by show 3 < 4; decide) (lv2 := [(3, .ref (A 10 run.toNatClampNeg)), (0, .ref (A 0 0)), (1, .int run), (2, .int colour)]) rfl dX1_coat_11 ?_
  refine g_iconst F (v := (0 : Int32)) (by decide) dX1_coat_12 ?_
  refine g_bipush F (v := (9 : Int32)) (by decide) dX1_coat_13 ?_
  refine g_iconst F (v := (1 : Int32)) (by decide) dX1_coat_15 ?_
  refine g_newI F (5000, 0) (N := 1) rfl (by decide) 2 7 (gle rfl) (gle rfl) (gle rfl) (gle rfl) (Pa := fun a_2 => gP 0 G S A Fr [(a_2, gIA G 1 (fun _ => 0))]) (pr_new hF) dX1_coat_16 (fun a_2 => ?_)
  refine g_dup F rfl dX1_coat_18 ?_
  refine g_iconst F (v := (0 : Int32)) (by decide) dX1_coat_19 ?_
  refine g_iload_n F 3 rfl rfl dX1_coat_20 ?_
  refine g_iastN (P2 := gP 0 G S A Fr [(a_2, gIA G 1 (upd (fun _ => 0) 0 colour))]) F (m := 0) rfl (by decide) (by decide) (pr_setT gM0 hF (j := 0) rfl) dX1_coat_21 ?_
  refine g_callS F (kX1_isIn hl (pr_atT (j := 0) rfl)) (lw_S q305 q306 q18 q307) myX1_isIn ⟨by decide, by decide⟩ rfl rfl (gle rfl) 2 7 (gle rfl) (gle rfl) (gle rfl) (gle rfl) dX1_coat_22 gx_n (gv_i ?_)
  refine g_top (show _ = gb (¬ colour < (0 : Int32) ∧ ¬ (9 : Int32) < colour) from rfl) ?_
  refine g_mono (P2 := gP 0 G S A Fr []) (fun _ hp => gP_Tl 0 hp) ?_
  refine g_callS F (kX1_requireArgument hl (c := ¬ colour < (0 : Int32) ∧ ¬ (9 : Int32) < colour)) (lw_S q335 q336 q18 q337) myX1_requireArgument ⟨by decide, by decide⟩ rfl rfl (gle rfl) 3 13 (gle rfl) (gle rfl) (gle rfl) (gle rfl) dX1_coat_25 (gx_1 (fun c_3 => g_out0 F E (gle rfl) (gle rfl) (fun _ hp => ⟨((if_pos c_1).trans (if_neg c_3)), gPE_0 _ hp⟩))) (gv_c (fun c_3 => ?_))
  refine g_aload_n F 1 rfl rfl dX1_coat_28 ?_
  refine g_get F clX1 0 (by decide) q135 (v := .int (S.1 0 0 0)) (gd_get (pr_at (κ := 0) (i := 0) (by decide) (gc1 (gnl rfl)) (gce rfl rfl)) rfl) dX1_coat_29 ?_
  refine g_aload_n F 0 rfl rfl dX1_coat_32 ?_
  refine g_getN F clX13 10 (by decide) (gT_w q1100 rfl) (v := .int (S.1 10 run.toNatClampNeg 6)) (gd_get (pr_at (κ := 10) (i := run.toNatClampNeg) (by decide) (gc6 (by decide) c_1.2) (gce rfl rfl)) rfl) dX1_coat_33 ?_
  have J_8 : gW (X, G, 4, Q) (gP 0 G S A Fr []) [(3, .ref (A 10 run.toNatClampNeg)), (0, .ref (A 0 0)), (1, .int run), (2, .int colour)] 62 [.int (gb (¬ ((S.1 0 0 0) < (S.1 10 run.toNatClampNeg 6)) ∧ (¬ ((8 : Int32) ≤ (S.1 10 run.toNatClampNeg 7)) ∧ (gGoes S 3))))] 19 74 := by
    refine g_callS F (kX1_requireSupported hl (c := ¬ ((S.1 0 0 0) < (S.1 10 run.toNatClampNeg 6)) ∧ (¬ ((8 : Int32) ≤ (S.1 10 run.toNatClampNeg 7)) ∧ (gGoes S 3)))) (lw_S q512 q513 q18 q514) myX1_requireSupported ⟨by decide, by decide⟩ rfl rfl (gle rfl) 20 80 (gle rfl) (gle rfl) (gle rfl) (gle rfl) dX1_coat_62 (gx_1 (fun c_9 => g_out0 F E (gle rfl) (gle rfl) (fun _ hp => ⟨((if_pos c_1).trans ((if_pos c_3).trans (if_neg c_9))), gPE_0 _ hp⟩))) (gv_c (fun c_9 => ?_))
    refine g_aload_n F 0 rfl rfl dX1_coat_65 ?_
    refine g_dup F rfl dX1_coat_66 ?_
    refine g_getN F clX13 7 (by decide) (gT_w q1094 rfl) (v := .int (S.1 10 run.toNatClampNeg 7)) (gd_get (pr_at (κ := 10) (i := run.toNatClampNeg) (by decide) (gc6 (by decide) c_1.2) (gce rfl rfl)) rfl) dX1_coat_67 ?_
    refine g_iconst F (v := (1 : Int32)) (by decide) dX1_coat_70 ?_
    refine g_iadd F dX1_coat_71 ?_
    refine g_putN (P2 := gP 0 G (gsr S.1 10 run.toNatClampNeg (upd (S.1 10 run.toNatClampNeg) 7 ((S.1 10 run.toNatClampNeg 7) + (1 : Int32))), S.2) A Fr []) F clX13 7 (by decide) (gT_w q1094 rfl) rfl rfl rfl (pr_put (κ := 10) (i := run.toNatClampNeg) gM0 hF (upd (S.1 10 run.toNatClampNeg) 7 ((S.1 10 run.toNatClampNeg 7) + (1 : Int32))) (by decide) (gc6 (by decide) c_1.2) (gce rfl rfl) (gnl rfl) rfl) dX1_coat_72 ?_
    refine g_aload_n F 0 rfl rfl dX1_coat_75 ?_
    refine g_iload_n F 3 rfl rfl dX1_coat_76 ?_
    refine g_putN (P2 := gP 0 G (gsr (gsr S.1 10 run.toNatClampNeg (upd (S.1 10 run.toNatClampNeg) 7 ((S.1 10 run.toNatClampNeg 7) + (1 : Int32)))) 10 run.toNatClampNeg (upd (upd (S.1 10 run.toNatClampNeg) 7 ((S.1 10 run.toNatClampNeg 7) + (1 : Int32))) 8 colour), S.2) A Fr []) F clX13 8 (by decide) (gT_w q1096 rfl) rfl rfl rfl (pr_put (κ := 10) (i := run.toNatClampNeg) gM0 hF (upd (upd (S.1 10 run.toNatClampNeg) 7 ((S.1 10 run.toNatClampNeg 7) + (1 : Int32))) 8 colour) (by decide) (gc6 (by decide) c_1.2) (gce (show (gsr S.1 10 run.toNatClampNeg (upd (S.1 10 run.toNatClampNeg) 7 ((S.1 10 run.toNatClampNeg 7) + (1 : Int32)))) 10 run.toNatClampNeg = upd (S.1 10 run.toNatClampNeg) 7 ((S.1 10 run.toNatClampNeg 7) + (1 : Int32)) from gsr_s) rfl) (gnl rfl) rfl) dX1_coat_77 ?_
    refine g_aload_n F 0 rfl rfl dX1_coat_80 ?_
    refine g_aload_n F 1 rfl rfl dX1_coat_81 ?_
    refine g_get F clX1 0 (by decide) q135 (v := .int (S.1 0 0 0)) (gd_get (pr_at (κ := 0) (i := 0) (by decide) (gc1 (gnl rfl)) (gce (show (gsr (gsr S.1 10 run.toNatClampNeg (upd (S.1 10 run.toNatClampNeg) 7 ((S.1 10 run.toNatClampNeg 7) + (1 : Int32)))) 10 run.toNatClampNeg (upd (upd (S.1 10 run.toNatClampNeg) 7 ((S.1 10 run.toNatClampNeg 7) + (1 : Int32))) 8 colour)) 0 0 = S.1 0 0 from (gsr_p (by decide) (gsr_p (by decide) rfl))) rfl)) rfl) dX1_coat_82 ?_
    refine g_bipush F (v := (8 : Int32)) (by decide) dX1_coat_85 ?_
    refine g_iadd F dX1_coat_87 ?_
    refine g_putN (P2 := gP 0 G (gsr (gsr (gsr S.1 10 run.toNatClampNeg (upd (S.1 10 run.toNatClampNeg) 7 ((S.1 10 run.toNatClampNeg 7) + (1 : Int32)))) 10 run.toNatClampNeg (upd (upd (S.1 10 run.toNatClampNeg) 7 ((S.1 10 run.toNatClampNeg 7) + (1 : Int32))) 8 colour)) 10 run.toNatClampNeg (upd (upd (upd (S.1 10 run.toNatClampNeg) 7 ((S.1 10 run.toNatClampNeg 7) + (1 : Int32))) 8 colour) 6 ((S.1 0 0 0) + (8 : Int32))), S.2) A Fr []) F clX13 10 (by decide) (gT_w q1100 rfl) rfl rfl rfl (pr_put (κ := 10) (i := run.toNatClampNeg) gM0 hF (upd (upd (upd (S.1 10 run.toNatClampNeg) 7 ((S.1 10 run.toNatClampNeg 7) + (1 : Int32))) 8 colour) 6 ((S.1 0 0 0) + (8 : Int32))) (by decide) (gc6 (by decide) c_1.2) (gce (show (gsr (gsr S.1 10 run.toNatClampNeg (upd (S.1 10 run.toNatClampNeg) 7 ((S.1 10 run.toNatClampNeg 7) + (1 : Int32)))) 10 run.toNatClampNeg (upd (upd (S.1 10 run.toNatClampNeg) 7 ((S.1 10 run.toNatClampNeg 7) + (1 : Int32))) 8 colour)) 10 run.toNatClampNeg = upd (upd (S.1 10 run.toNatClampNeg) 7 ((S.1 10 run.toNatClampNeg 7) + (1 : Int32))) 8 colour from gsr_s) rfl) (gnl rfl) rfl) dX1_coat_88 ?_
    refine g_aload_n F 0 rfl rfl dX1_coat_91 ?_
    refine g_getN F clX13 7 (by decide) (gT_w q1094 rfl) (v := .int ((S.1 10 run.toNatClampNeg 7) + (1 : Int32))) (gd_get (pr_at (κ := 10) (i := run.toNatClampNeg) (by decide) (gc6 (by decide) c_1.2) (gce (show (gsr (gsr (gsr S.1 10 run.toNatClampNeg (upd (S.1 10 run.toNatClampNeg) 7 ((S.1 10 run.toNatClampNeg 7) + (1 : Int32)))) 10 run.toNatClampNeg (upd (upd (S.1 10 run.toNatClampNeg) 7 ((S.1 10 run.toNatClampNeg 7) + (1 : Int32))) 8 colour)) 10 run.toNatClampNeg (upd (upd (upd (S.1 10 run.toNatClampNeg) 7 ((S.1 10 run.toNatClampNeg 7) + (1 : Int32))) 8 colour) 6 ((S.1 0 0 0) + (8 : Int32)))) 10 run.toNatClampNeg = upd (upd (upd (S.1 10 run.toNatClampNeg) 7 ((S.1 10 run.toNatClampNeg 7) + (1 : Int32))) 8 colour) 6 ((S.1 0 0 0) + (8 : Int32)) from gsr_s) rfl)) rfl) dX1_coat_92 ?_
    exact g_retI F E rfl rfl (gle rfl) (gle rfl) dX1_coat_95 (fun _ hp => ⟨_, _, ((if_pos c_1).trans ((if_pos c_3).trans (if_pos c_9))), rfl, ⟨_, rfl, gP_T0 hp⟩⟩)
  refine g_icmp_lt F (tgt := 61) (by decide) dX1_coat_36 (fun c_4 => ?_) (fun c_4 => ?_)
  · skip
    refine g_iconst F (v := (0 : Int32)) (by decide) dX1_coat_61 ?_
    exact g_widen (by decide) (by decide) <| g_top (gb_f (fun q => q.1 c_4)) J_8
  · skip
    refine g_aload_n F 0 rfl rfl dX1_coat_39 ?_
    refine g_getN F clX13 7 (by decide) (gT_w q1094 rfl) (v := .int (S.1 10 run.toNatClampNeg 7)) (gd_get (pr_at (κ := 10) (i := run.toNatClampNeg) (by decide) (gc6 (by decide) c_1.2) (gce rfl rfl)) rfl) dX1_coat_40 ?_
    refine g_bipush F (v := (8 : Int32)) (by decide) dX1_coat_43 ?_
    refine g_icmp_ge F (tgt := 61) (by decide) dX1_coat_45 (fun c_5 => ?_) (fun c_5 => ?_)
    · skip
      refine g_iconst F (v := (0 : Int32)) (by decide) dX1_coat_61 ?_
      exact g_widen (by decide) (by decide) <| g_top (gb_f (fun q => (fun q => q.1 c_5) q.2)) J_8
    · skip
      refine g_aload_n F 1 rfl rfl dX1_coat_48 ?_
      refine g_bipush F (v := (99 : Int32)) (by decide) dX1_coat_49 ?_
      refine g_callVW F (kX1_runsI hl hF hW (ch := (99 : Int32)) (by decide)) (g_recv F clX1 (gd_obj (pr_at (κ := 0) (i := 0) (by decide) (gc1 (gnl rfl)) (gce rfl rfl)))) q830 q561 q562 q18 q563 myX1_runs ⟨by decide, by decide⟩ rfl rfl (gle rfl) 19 74 (gle rfl) (gle rfl) (gle rfl) (gle rfl) dX1_coat_51 (gx_1 (fun c_6 => (c_6 (by decide +kernel)).elim)) (gv_y (fun c_6 => ?_))
      refine g_top (show _ = gb (gGoes S 3) by rw [show gidx 0 (99 : Int32) = (3 : Int32) from by decide +kernel]) ?_
      refine gb_if_eq F (tgt := 61) (by decide) dX1_coat_54 (fun c_7 => ?_) (fun c_7 => ?_)
      · skip
        refine g_iconst F (v := (0 : Int32)) (by decide) dX1_coat_61 ?_
        exact g_top (gb_f (fun q => (fun q => c_7 q.2) q.2)) J_8
      · skip
        refine g_iconst F (v := (1 : Int32)) (by decide) dX1_coat_57 ?_
        refine g_goto F (tgt := 62) (by decide) dX1_coat_58 ?_
        exact g_top (gb_t (⟨c_4, ⟨c_5, c_7⟩⟩)) J_8

theorem kX2_check {l : Launch} {G : gG} (hl : l.stackTraces = false) {P : gH → Prop} {a : Nat} {bi dr : Int32} {w0 : Value} (ha : gAt P a (.inr (1, [.int bi, .int dr, w0]))) : gMet l yX2_check (ws_ yX2_check cX2_check 2 (some .int)) ⟨0, 0, 0, 0⟩ G [.ref a] P (gqI (.int bi) (gUp P a (.inr (1, [.int bi, .int dr, w0])) (.inr (1, [.int 0, .int 0, w0])))) gxN := by
  refine gMet_of hl pnX2 (gle rfl) (fun X Q hX F E hNm => ?_)
  subst hX
  change gW (X, G, 2, Q) P [(0, .ref a)] 0 [] 0 0
  refine g_mono (gUp_0 ha) ?_
  refine g_aload_n F 0 rfl rfl dX2_check_0 ?_
  refine g_get F clX2 0 (by decide) q119 (v := .int bi) (gd_get gUp_at rfl) dX2_check_1 ?_
  refine g_istore_n F rfl (by show 1 < 2; decide) (lv2 := [(1, .int bi), (0, .ref a)]) rfl dX2_check_4 ?_
  refine g_aload_n F 1 rfl rfl dX2_check_5 ?_
  refine g_iconst F (v := (0 : Int32)) (by decide) dX2_check_6 ?_
  refine g_put (P2 := (gUp P a (.inr (1, [.int bi, .int dr, w0])) (.inr (1, [.int (0 : Int32), .int dr, w0])))) F clX2 0 (by decide) q119 rfl rfl rfl (gUp_put (gnl rfl)) dX2_check_7 ?_
  refine g_aload_n F 1 rfl rfl dX2_check_10 ?_
  refine g_iconst F (v := (0 : Int32)) (by decide) dX2_check_11 ?_
  refine g_put (P2 := (gUp P a (.inr (1, [.int bi, .int dr, w0])) (.inr (1, [.int (0 : Int32), .int (0 : Int32), w0])))) F clX2 1 (by decide) q120 rfl rfl rfl (gUp_put (gnl rfl)) dX2_check_12 ?_
  refine g_iload_n F 0 rfl rfl dX2_check_15 ?_
  exact g_retI F E rfl rfl (gle rfl) (gle rfl) dX2_check_16 (fun _ hp => ⟨rfl, hp⟩)

theorem kX2_draws {l : Launch} {G : gG} (hl : l.stackTraces = false) {P : gH → Prop} {a b : Nat} {bi dr dk : Int32} {w0 v0 v1 v2 v3 v4 v5 v6 v7 v8 v9 v10 : Value} (ha : gAt P a (.inr (1, [.int bi, .int dr, w0]))) (hb : gAt P b (.inr (6, [v0, v1, v2, v3, v4, v5, v6, v7, v8, v9, v10, .int dk]))) : gMet l yX2_draws (ws_ yX2_draws cX2_draws 3 (some .int)) ⟨1, 0, 0, 14⟩ G [.ref a, .ref b] P (gqI (.int (gmax 0 (gmin 999 (dk + bi)))) (gUp P a (.inr (1, [.int bi, .int dr, w0])) (.inr (1, [.int (gnb bi dr), .int (dr + 1), w0])))) gxN := by
  refine gMet_of hl pnX2 (gle rfl) (fun X Q hX F E hNm => ?_)
  subst hX
  change gW (X, G, 3, Q) P [(0, .ref a), (1, .ref b)] 0 [] 0 0
  refine g_mono (gUp_0 ha) ?_
  refine g_iconst F (v := (0 : Int32)) (by decide) dX2_draws_0 ?_
  refine g_sipush F (v := (999 : Int32)) (by decide) dX2_draws_1 ?_
  refine g_aload_n F 1 rfl rfl dX2_draws_4 ?_
  refine g_getN F clX9 11 (by decide) (gT_w q902 rfl) (v := .int dk) (gd_get (gUp_rd hb (by intro q; injection q with q; injection q with q1 q2; exact absurd q1 (by decide))) rfl) dX2_draws_5 ?_
  refine g_aload_n F 0 rfl rfl dX2_draws_8 ?_
  refine g_get F clX2 0 (by decide) q119 (v := .int bi) (gd_get gUp_at rfl) dX2_draws_9 ?_
  refine g_iadd F dX2_draws_12 ?_
  refine g_mmin F q994 (gle rfl) (gle rfl) (gle rfl) (gle rfl) dX2_draws_13 ?_
  refine g_mmax F q995 (gle rfl) (gle rfl) (gle rfl) (gle rfl) dX2_draws_16 ?_
  refine g_istore_n F rfl (by show 2 < 3; decide) (lv2 := [(2, .int (gmax (0 : Int32) (gmin (999 : Int32) (dk + bi)))), (0, .ref a), (1, .ref b)]) rfl dX2_draws_19 ?_
  refine g_aload_n F 1 rfl rfl dX2_draws_20 ?_
  refine g_dup F rfl dX2_draws_21 ?_
  refine g_get F clX2 1 (by decide) q120 (v := .int dr) (gd_get gUp_at rfl) dX2_draws_22 ?_
  refine g_iconst F (v := (1 : Int32)) (by decide) dX2_draws_25 ?_
  refine g_iadd F dX2_draws_26 ?_
  refine g_put (P2 := (gUp P a (.inr (1, [.int bi, .int dr, w0])) (.inr (1, [.int bi, .int (dr + (1 : Int32)), w0])))) F clX2 1 (by decide) q120 rfl rfl rfl (gUp_put (gnl rfl)) dX2_draws_27 ?_
  refine g_aload_n F 1 rfl rfl dX2_draws_30 ?_
  refine g_dup F rfl dX2_draws_31 ?_
  refine g_get F clX2 0 (by decide) q119 (v := .int bi) (gd_get gUp_at rfl) dX2_draws_32 ?_
  refine g_aload_n F 1 rfl rfl dX2_draws_35 ?_
  refine g_get F clX2 1 (by decide) q120 (v := .int (dr + (1 : Int32))) (gd_get gUp_at rfl) dX2_draws_36 ?_
  refine g_bipush F (v := (8 : Int32)) (by decide) dX2_draws_39 ?_
  refine g_irem F (by decide) dX2_draws_41 ?_
  have J_2 : gW (X, G, 3, Q) (gUp P a (.inr (1, [.int bi, .int dr, w0])) (.inr (1, [.int bi, .int (dr + (1 : Int32)), w0]))) [(2, .int (gmax (0 : Int32) (gmin (999 : Int32) (dk + bi)))), (0, .ref a), (1, .ref b)] 50 [.int (if ((dr + (1 : Int32)) - (dr + (1 : Int32)) / (8 : Int32) * (8 : Int32)) = 0 then (3 : Int32) else (0 : Int32)), .int bi, .ref a] 0 0 := by
    refine g_iadd F dX2_draws_50 ?_
    refine g_put (P2 := (gUp P a (.inr (1, [.int bi, .int dr, w0])) (.inr (1, [.int (bi + (if ((dr + (1 : Int32)) - (dr + (1 : Int32)) / (8 : Int32) * (8 : Int32)) = 0 then (3 : Int32) else (0 : Int32))), .int (dr + (1 : Int32)), w0])))) F clX2 0 (by decide) q119 rfl rfl rfl (gUp_put (gnl rfl)) dX2_draws_51 ?_
    refine g_iload_n F 0 rfl rfl dX2_draws_54 ?_
    exact g_retI F E rfl rfl (gle rfl) (gle rfl) dX2_draws_55 (fun _ hp => ⟨rfl, hp⟩)
  refine g_if_ne F (tgt := 49) (by decide) dX2_draws_42 (fun c_1 => ?_) (fun c_1 => ?_)
  · skip
    refine g_iconst F (v := (0 : Int32)) (by decide) dX2_draws_49 ?_
    exact g_top (by rw [if_neg c_1]) J_2
  · skip
    refine g_iconst F (v := (3 : Int32)) (by decide) dX2_draws_45 ?_
    refine g_goto F (tgt := 50) (by decide) dX2_draws_46 ?_
    exact g_top (by rw [if_pos c_1]) J_2

def sC_check (S : gS)  : gO := .inr (.int (S.1 5 0 0), (gsr S.1 5 0 (upd (upd (S.1 5 0) 0 0) 1 0), S.2))
theorem kX1_check {l : Launch} {G : gG} (hl : l.stackTraces = false) {S : gS} {a0 : Nat} {Fr : gH → Prop} (hF : gFr 0 Fr) (hW : gWf S)   : gMet l yX1_check (ws_ yX1_check cX1_check 1 (some .int)) ⟨1, 0, 0, 21⟩ G [.ref a0] (gPE 0 G S a0 Fr) (gqS (sC_check S ) 0 G a0 Fr) (gxS (sC_check S ) 0 G S a0 Fr) := by
  refine gMet_of hl pnX1 (gle rfl) (fun X Q hX F E hNm => ?_)
  subst hX
  change gW (X, G, 1, Q) (gPE 0 G S a0 Fr) [(0, .ref a0)] 0 [] 0 0
  refine g_pe (fun A hA => ?_)
  subst hA
  change gW _ _ [(0, .ref (A 0 0))] 0 [] 0 0
  refine g_aload_n F 0 rfl rfl dX1_check_0 ?_
  refine g_get F clX1 11 (by decide) q146 (v := .ref (A 5 0)) (gd_get (pr_at (κ := 0) (i := 0) (by decide) (gc1 (gnl rfl)) (gce rfl rfl)) rfl) dX1_check_1 ?_
  refine g_callV F (kX2_check hl (pr_at (κ := 5) (i := 0) (by decide) (gc1 (gnl rfl)) (gce rfl rfl))) (g_recv F clX2 (gd_obj (pr_at (κ := 5) (i := 0) (by decide) (gc1 (gnl rfl)) (gce rfl rfl)))) q199 q200 q201 q23 q202 myX2_check ⟨by decide, by decide⟩ rfl rfl (gle rfl) 0 0 (gle rfl) (gle rfl) (gle rfl) (gle rfl) dX1_check_4 gx_n (gv_i ?_)
  refine g_mono (P2 := gP 0 G (gsr S.1 5 0 (upd (upd (S.1 5 0) 0 0) 1 0), S.2) A Fr []) (pr_upRow (κ := 5) (i := 0) gM0 hF (upd (upd (S.1 5 0) 0 0) 1 0) (by decide) (gc1 (gnl rfl)) (gce rfl rfl) rfl) ?_
  exact g_retI F E rfl rfl (gle rfl) (gle rfl) dX1_check_7 (fun _ hp => ⟨_, _, rfl, rfl, ⟨_, rfl, gP_T0 hp⟩⟩)

def sC_draw (S : gS) (batch : Int32) : gO := if gIn batch (S.2 8) then (if (¬ ((S.1 8 batch.toNatClampNeg 6) = (-1 : Int32))) ∧ (¬ ((S.1 0 0 0) < (S.1 8 batch.toNatClampNeg 4))) then (.inr (.int (gmax 0 (gmin 999 ((S.1 8 batch.toNatClampNeg 10) + (S.1 5 0 0)))), (gsr S.1 5 0 (upd (upd (S.1 5 0) 0 (gnb (S.1 5 0 0) (S.1 5 0 1))) 1 ((S.1 5 0 1) + 1)), S.2))) else (.inl "java/lang/UnsupportedOperationException")) else (.inl "java/lang/IndexOutOfBoundsException")
theorem kX1_draw {l : Launch} {G : gG} (hl : l.stackTraces = false) {S : gS} {a0 : Nat} {Fr : gH → Prop} (hF : gFr 0 Fr) (hW : gWf S) {batch : Int32}  : gMet l yX1_draw (ws_ yX1_draw cX1_draw 3 (some .int)) ⟨8, 2, 12, 123⟩ G [.ref a0, .int batch] (gPE 0 G S a0 Fr) (gqS (sC_draw S batch) 0 G a0 Fr) (gxS (sC_draw S batch) 0 G S a0 Fr) := by
  refine gMet_of hl pnX1 (gle rfl) (fun X Q hX F E hNm => ?_)
  subst hX
  change gW (X, G, 3, Q) (gPE 0 G S a0 Fr) [(0, .ref a0), (1, .int batch)] 0 [] 0 0
  refine g_pe (fun A hA => ?_)
  subst hA
  change gW _ _ [(0, .ref (A 0 0)), (1, .int batch)] 0 [] 0 0
  refine g_aload_n F 0 rfl rfl dX1_draw_0 ?_
  refine g_get F clX1 9 (by decide) q144 (v := .ref (A 308 0)) (gd_get (pr_at (κ := 0) (i := 0) (by decide) (gc1 (gnl rfl)) (gce rfl rfl)) rfl) dX1_draw_1 ?_
  refine g_iload_n F 1 rfl rfl dX1_draw_4 ?_
  refine g_callS F (kX1_require hl (pr_ls (κ := 8) (by decide) (Or.inl ⟨by decide, by decide⟩) (fun _ => by decide) (fun _ => by decide)) (gw_n hW _) (x := batch)) (lw_S q784 q785 q18 q786) myX1_require ⟨by decide, by decide⟩ rfl rfl (gle rfl) 1 6 (gle rfl) (gle rfl) (gle rfl) (gle rfl) dX1_draw_5 (gx_1 (fun c_1 => g_out0 F E (gle rfl) (gle rfl) (fun _ hp => ⟨(if_neg c_1), gPE_0 _ hp⟩))) (gv_y (fun c_1 => ?_))
  refine g_castS F (g_recv F clX9 (gd_obj (pr_at (κ := 8) (i := batch.toNatClampNeg) (by decide) (gc6 (by decide) c_1.2) (gce rfl rfl)))) q295 dX1_draw_8 ?_
  refine g_astore_n F rfl (by show 2 < 3; decide) (lv2 := [(2, .ref (A 8 batch.toNatClampNeg)), (0, .ref (A 0 0)), (1, .int batch)]) rfl dX1_draw_11 ?_
  refine g_aload_n F 0 rfl rfl dX1_draw_12 ?_
  refine g_callV F (kX9_isFired hl (pr_at (κ := 8) (i := batch.toNatClampNeg) (by decide) (gc6 (by decide) c_1.2) (gce rfl rfl))) (g_recv F clX9 (gd_obj (pr_at (κ := 8) (i := batch.toNatClampNeg) (by decide) (gc6 (by decide) c_1.2) (gce rfl rfl)))) q962 q963 q964 q47 q965 myX9_isFired ⟨by decide, by decide⟩ rfl rfl (gle rfl) 1 6 (gle rfl) (gle rfl) (gle rfl) (gle rfl) dX1_draw_13 gx_n (gv_i ?_)
  have J_4 : gW (X, G, 3, Q) (gP 0 G S A Fr []) [(2, .ref (A 8 batch.toNatClampNeg)), (0, .ref (A 0 0)), (1, .int batch)] 35 [.int (gb ((¬ ((S.1 8 batch.toNatClampNeg 6) = (-1 : Int32))) ∧ (¬ ((S.1 0 0 0) < (S.1 8 batch.toNatClampNeg 4)))))] 1 6 := by
    refine g_callS F (kX1_requireSupported hl (c := (¬ ((S.1 8 batch.toNatClampNeg 6) = (-1 : Int32))) ∧ (¬ ((S.1 0 0 0) < (S.1 8 batch.toNatClampNeg 4))))) (lw_S q512 q513 q18 q514) myX1_requireSupported ⟨by decide, by decide⟩ rfl rfl (gle rfl) 2 12 (gle rfl) (gle rfl) (gle rfl) (gle rfl) dX1_draw_35 (gx_1 (fun c_5 => g_out0 F E (gle rfl) (gle rfl) (fun _ hp => ⟨((if_pos c_1).trans (if_neg c_5)), gPE_0 _ hp⟩))) (gv_c (fun c_5 => ?_))
    refine g_aload_n F 1 rfl rfl dX1_draw_38 ?_
    refine g_get F clX1 11 (by decide) q146 (v := .ref (A 5 0)) (gd_get (pr_at (κ := 0) (i := 0) (by decide) (gc1 (gnl rfl)) (gce rfl rfl)) rfl) dX1_draw_39 ?_
    refine g_aload_n F 0 rfl rfl dX1_draw_42 ?_
    refine g_callV F (kX2_draws hl (pr_at (κ := 5) (i := 0) (by decide) (gc1 (gnl rfl)) (gce rfl rfl)) (pr_at (κ := 8) (i := batch.toNatClampNeg) (by decide) (gc6 (by decide) c_1.2) (gce rfl rfl))) (g_recv F clX2 (gd_obj (pr_at (κ := 5) (i := 0) (by decide) (gc1 (gnl rfl)) (gce rfl rfl)))) q990 q991 q992 q23 q993 myX2_draws ⟨by decide, by decide⟩ rfl rfl (gle rfl) 2 12 (gle rfl) (gle rfl) (gle rfl) (gle rfl) dX1_draw_43 gx_n (gv_i ?_)
    refine g_mono (P2 := gP 0 G (gsr S.1 5 0 (upd (upd (S.1 5 0) 0 (gnb (S.1 5 0 0) (S.1 5 0 1))) 1 ((S.1 5 0 1) + 1)), S.2) A Fr []) (pr_upRow (κ := 5) (i := 0) gM0 hF (upd (upd (S.1 5 0) 0 (gnb (S.1 5 0 0) (S.1 5 0 1))) 1 ((S.1 5 0 1) + 1)) (by decide) (gc1 (gnl rfl)) (gce rfl rfl) rfl) ?_
    exact g_retI F E rfl rfl (gle rfl) (gle rfl) dX1_draw_46 (fun _ hp => ⟨_, _, ((if_pos c_1).trans (if_pos c_5)), rfl, ⟨_, rfl, gP_T0 hp⟩⟩)
  refine gb_if_eq F (tgt := 34) (by decide) dX1_draw_16 (fun c_2 => ?_) (fun c_2 => ?_)
  · skip
    refine g_iconst F (v := (0 : Int32)) (by decide) dX1_draw_34 ?_
    exact g_top (gb_f (fun q => c_2 q.1)) J_4
  · skip
    refine g_aload_n F 0 rfl rfl dX1_draw_19 ?_
    refine g_aload_n F 1 rfl rfl dX1_draw_20 ?_
    refine g_get F clX1 0 (by decide) q135 (v := .int (S.1 0 0 0)) (gd_get (pr_at (κ := 0) (i := 0) (by decide) (gc1 (gnl rfl)) (gce rfl rfl)) rfl) dX1_draw_21 ?_
    refine g_callV F (kX9_isReady hl (pr_at (κ := 8) (i := batch.toNatClampNeg) (by decide) (gc6 (by decide) c_1.2) (gce rfl rfl))) (g_recv F clX9 (gd_obj (pr_at (κ := 8) (i := batch.toNatClampNeg) (by decide) (gc6 (by decide) c_1.2) (gce rfl rfl)))) q958 q959 q960 q47 q961 myX9_isReady ⟨by decide, by decide⟩ rfl rfl (gle rfl) 1 6 (gle rfl) (gle rfl) (gle rfl) (gle rfl) dX1_draw_24 gx_n (gv_i ?_)
    refine gb_if_eq F (tgt := 34) (by decide) dX1_draw_27 (fun c_3 => ?_) (fun c_3 => ?_)
    · skip
      refine g_iconst F (v := (0 : Int32)) (by decide) dX1_draw_34 ?_
      exact g_top (gb_f (fun q => c_3 q.2)) J_4
    · skip
      refine g_iconst F (v := (1 : Int32)) (by decide) dX1_draw_30 ?_
      refine g_goto F (tgt := 35) (by decide) dX1_draw_31 ?_
      exact g_top (gb_t (⟨c_2, c_3⟩)) J_4

def sC_stamp (S : gS) (run : Int32) : gO := if gIn run (S.2 10) then (if ¬ ((S.1 0 0 0) < (S.1 10 run.toNatClampNeg 6)) ∧ (¬ ((S.1 10 run.toNatClampNeg 7) < (3 : Int32)) ∧ (((S.1 10 run.toNatClampNeg 9) = (-1 : Int32)) ∧ (¬ ((S.1 0 0 0) < (S.1 8 ((S.1 10 run.toNatClampNeg 0).toNatClampNeg) 4))))) then (.inr (.int ((gmax 0 (gmin 999 ((S.1 8 ((S.1 10 run.toNatClampNeg 0).toNatClampNeg) 10) + (S.1 5 0 0)))) / (50 : Int32)), (gsr (gsr S.1 5 0 (upd (upd (S.1 5 0) 0 (gnb (S.1 5 0 0) (S.1 5 0 1))) 1 ((S.1 5 0 1) + 1))) 10 run.toNatClampNeg (upd (S.1 10 run.toNatClampNeg) 9 ((gmax 0 (gmin 999 ((S.1 8 ((S.1 10 run.toNatClampNeg 0).toNatClampNeg) 10) + (S.1 5 0 0)))) / (50 : Int32))), S.2))) else (.inl "java/lang/UnsupportedOperationException")) else (.inl "java/lang/IndexOutOfBoundsException")
theorem kX1_stamp {l : Launch} {G : gG} (hl : l.stackTraces = false) {S : gS} {a0 : Nat} {Fr : gH → Prop} (hF : gFr 0 Fr) (hW : gWf S) {run : Int32}  : gMet l yX1_stamp (ws_ yX1_stamp cX1_stamp 3 (some .int)) ⟨8, 2, 12, 123⟩ G [.ref a0, .int run] (gPE 0 G S a0 Fr) (gqS (sC_stamp S run) 0 G a0 Fr) (gxS (sC_stamp S run) 0 G S a0 Fr) := by
  refine gMet_of hl pnX1 (gle rfl) (fun X Q hX F E hNm => ?_)
  subst hX
  change gW (X, G, 3, Q) (gPE 0 G S a0 Fr) [(0, .ref a0), (1, .int run)] 0 [] 0 0
  refine g_pe (fun A hA => ?_)
  subst hA
  change gW _ _ [(0, .ref (A 0 0)), (1, .int run)] 0 [] 0 0
  refine g_aload_n F 0 rfl rfl dX1_stamp_0 ?_
  refine g_get F clX1 13 (by decide) q148 (v := .ref (A 310 0)) (gd_get (pr_at (κ := 0) (i := 0) (by decide) (gc1 (gnl rfl)) (gce rfl rfl)) rfl) dX1_stamp_1 ?_
  refine g_iload_n F 1 rfl rfl dX1_stamp_4 ?_
  refine g_callS F (kX1_require hl (pr_ls (κ := 10) (by decide) (Or.inl ⟨by decide, by decide⟩) (fun _ => by decide) (fun _ => by decide)) (gw_n hW _) (x := run)) (lw_S q784 q785 q18 q786) myX1_require ⟨by decide, by decide⟩ rfl rfl (gle rfl) 1 6 (gle rfl) (gle rfl) (gle rfl) (gle rfl) dX1_stamp_5 (gx_1 (fun c_1 => g_out0 F E (gle rfl) (gle rfl) (fun _ hp => ⟨(if_neg c_1), gPE_0 _ hp⟩))) (gv_y (fun c_1 => ?_))
  refine g_castS F (g_recv F clX13 (gd_obj (pr_at (κ := 10) (i := run.toNatClampNeg) (by decide) (gc6 (by decide) c_1.2) (gce rfl rfl)))) q297 dX1_stamp_8 ?_
  refine g_astore_n F rfl (by show 2 < 3; decide) (lv2 := [(2, .ref (A 10 run.toNatClampNeg)), (0, .ref (A 0 0)), (1, .int run)]) rfl dX1_stamp_11 ?_
  refine g_aload_n F 1 rfl rfl dX1_stamp_12 ?_
  refine g_get F clX1 0 (by decide) q135 (v := .int (S.1 0 0 0)) (gd_get (pr_at (κ := 0) (i := 0) (by decide) (gc1 (gnl rfl)) (gce rfl rfl)) rfl) dX1_stamp_13 ?_
  refine g_aload_n F 0 rfl rfl dX1_stamp_16 ?_
  refine g_getN F clX13 10 (by decide) (gT_w q1100 rfl) (v := .int (S.1 10 run.toNatClampNeg 6)) (gd_get (pr_at (κ := 10) (i := run.toNatClampNeg) (by decide) (gc6 (by decide) c_1.2) (gce rfl rfl)) rfl) dX1_stamp_17 ?_
  have J_6 : gW (X, G, 3, Q) (gP 0 G S A Fr []) [(2, .ref (A 10 run.toNatClampNeg)), (0, .ref (A 0 0)), (1, .int run)] 58 [.int (gb (¬ ((S.1 0 0 0) < (S.1 10 run.toNatClampNeg 6)) ∧ (¬ ((S.1 10 run.toNatClampNeg 7) < (3 : Int32)) ∧ (((S.1 10 run.toNatClampNeg 9) = (-1 : Int32)) ∧ (¬ ((S.1 0 0 0) < (S.1 8 ((S.1 10 run.toNatClampNeg 0).toNatClampNeg) 4)))))))] 1 6 := by
    refine g_callS F (kX1_requireSupported hl (c := ¬ ((S.1 0 0 0) < (S.1 10 run.toNatClampNeg 6)) ∧ (¬ ((S.1 10 run.toNatClampNeg 7) < (3 : Int32)) ∧ (((S.1 10 run.toNatClampNeg 9) = (-1 : Int32)) ∧ (¬ ((S.1 0 0 0) < (S.1 8 ((S.1 10 run.toNatClampNeg 0).toNatClampNeg) 4))))))) (lw_S q512 q513 q18 q514) myX1_requireSupported ⟨by decide, by decide⟩ rfl rfl (gle rfl) 2 12 (gle rfl) (gle rfl) (gle rfl) (gle rfl) dX1_stamp_58 (gx_1 (fun c_7 => g_out0 F E (gle rfl) (gle rfl) (fun _ hp => ⟨((if_pos c_1).trans (if_neg c_7)), gPE_0 _ hp⟩))) (gv_c (fun c_7 => ?_))
    refine g_aload_n F 0 rfl rfl dX1_stamp_61 ?_
    refine g_aload_n F 1 rfl rfl dX1_stamp_62 ?_
    refine g_get F clX1 11 (by decide) q146 (v := .ref (A 5 0)) (gd_get (pr_at (κ := 0) (i := 0) (by decide) (gc1 (gnl rfl)) (gce rfl rfl)) rfl) dX1_stamp_63 ?_
    refine g_aload_n F 0 rfl rfl dX1_stamp_66 ?_
    refine g_getN F clX13 1 (by decide) (gT_w q1083 rfl) (v := .ref (A 8 (S.1 10 run.toNatClampNeg 0).toNatClampNeg)) (gd_get (pr_at (κ := 10) (i := run.toNatClampNeg) (by decide) (gc6 (by decide) c_1.2) (gce rfl rfl)) rfl) dX1_stamp_67 ?_
    refine g_callV F (kX2_draws hl (pr_at (κ := 5) (i := 0) (by decide) (gc1 (gnl rfl)) (gce rfl rfl)) (pr_at (κ := 8) (i := (S.1 10 run.toNatClampNeg 0).toNatClampNeg) (by decide) (gc6 (by decide) (gw_10_0 hW c_1.2).2) (gce rfl rfl))) (g_recv F clX2 (gd_obj (pr_at (κ := 5) (i := 0) (by decide) (gc1 (gnl rfl)) (gce rfl rfl)))) q990 q991 q992 q23 q993 myX2_draws ⟨by decide, by decide⟩ rfl rfl (gle rfl) 2 12 (gle rfl) (gle rfl) (gle rfl) (gle rfl) dX1_stamp_70 gx_n (gv_i ?_)
    refine g_mono (P2 := gP 0 G (gsr S.1 5 0 (upd (upd (S.1 5 0) 0 (gnb (S.1 5 0 0) (S.1 5 0 1))) 1 ((S.1 5 0 1) + 1)), S.2) A Fr []) (pr_upRow (κ := 5) (i := 0) gM0 hF (upd (upd (S.1 5 0) 0 (gnb (S.1 5 0 0) (S.1 5 0 1))) 1 ((S.1 5 0 1) + 1)) (by decide) (gc1 (gnl rfl)) (gce rfl rfl) rfl) ?_
    refine g_bipush F (v := (50 : Int32)) (by decide) dX1_stamp_73 ?_
    refine g_idiv F (by decide) dX1_stamp_75 ?_
    refine g_putN (P2 := gP 0 G (gsr (gsr S.1 5 0 (upd (upd (S.1 5 0) 0 (gnb (S.1 5 0 0) (S.1 5 0 1))) 1 ((S.1 5 0 1) + 1))) 10 run.toNatClampNeg (upd (S.1 10 run.toNatClampNeg) 9 ((gmax 0 (gmin 999 ((S.1 8 ((S.1 10 run.toNatClampNeg 0).toNatClampNeg) 10) + (S.1 5 0 0)))) / (50 : Int32))), S.2) A Fr []) F clX13 9 (by decide) (gT_w q1099 rfl) rfl rfl rfl (pr_put (κ := 10) (i := run.toNatClampNeg) gM0 hF (upd (S.1 10 run.toNatClampNeg) 9 ((gmax 0 (gmin 999 ((S.1 8 ((S.1 10 run.toNatClampNeg 0).toNatClampNeg) 10) + (S.1 5 0 0)))) / (50 : Int32))) (by decide) (gc6 (by decide) c_1.2) (gce (show (gsr S.1 5 0 (upd (upd (S.1 5 0) 0 (gnb (S.1 5 0 0) (S.1 5 0 1))) 1 ((S.1 5 0 1) + 1))) 10 run.toNatClampNeg = S.1 10 run.toNatClampNeg from (gsr_p (by decide) rfl)) rfl) (gnl rfl) rfl) dX1_stamp_76 ?_
    refine g_aload_n F 0 rfl rfl dX1_stamp_79 ?_
    refine g_getN F clX13 9 (by decide) (gT_w q1099 rfl) (v := .int ((gmax 0 (gmin 999 ((S.1 8 ((S.1 10 run.toNatClampNeg 0).toNatClampNeg) 10) + (S.1 5 0 0)))) / (50 : Int32))) (gd_get (pr_at (κ := 10) (i := run.toNatClampNeg) (by decide) (gc6 (by decide) c_1.2) (gce (show (gsr (gsr S.1 5 0 (upd (upd (S.1 5 0) 0 (gnb (S.1 5 0 0) (S.1 5 0 1))) 1 ((S.1 5 0 1) + 1))) 10 run.toNatClampNeg (upd (S.1 10 run.toNatClampNeg) 9 ((gmax 0 (gmin 999 ((S.1 8 ((S.1 10 run.toNatClampNeg 0).toNatClampNeg) 10) + (S.1 5 0 0)))) / (50 : Int32)))) 10 run.toNatClampNeg = upd (S.1 10 run.toNatClampNeg) 9 ((gmax 0 (gmin 999 ((S.1 8 ((S.1 10 run.toNatClampNeg 0).toNatClampNeg) 10) + (S.1 5 0 0)))) / (50 : Int32)) from gsr_s) rfl)) rfl) dX1_stamp_80 ?_
    exact g_retI F E rfl rfl (gle rfl) (gle rfl) dX1_stamp_83 (fun _ hp => ⟨_, _, ((if_pos c_1).trans (if_pos c_7)), rfl, ⟨_, rfl, gP_T0 hp⟩⟩)
  refine g_icmp_lt F (tgt := 57) (by decide) dX1_stamp_20 (fun c_2 => ?_) (fun c_2 => ?_)
  · skip
    refine g_iconst F (v := (0 : Int32)) (by decide) dX1_stamp_57 ?_
    exact g_top (gb_f (fun q => q.1 c_2)) J_6
  · skip
    refine g_aload_n F 0 rfl rfl dX1_stamp_23 ?_
    refine g_getN F clX13 7 (by decide) (gT_w q1094 rfl) (v := .int (S.1 10 run.toNatClampNeg 7)) (gd_get (pr_at (κ := 10) (i := run.toNatClampNeg) (by decide) (gc6 (by decide) c_1.2) (gce rfl rfl)) rfl) dX1_stamp_24 ?_
    refine g_iconst F (v := (3 : Int32)) (by decide) dX1_stamp_27 ?_
    refine g_icmp_lt F (tgt := 57) (by decide) dX1_stamp_28 (fun c_3 => ?_) (fun c_3 => ?_)
    · skip
      refine g_iconst F (v := (0 : Int32)) (by decide) dX1_stamp_57 ?_
      exact g_top (gb_f (fun q => (fun q => q.1 c_3) q.2)) J_6
    · skip
      refine g_aload_n F 0 rfl rfl dX1_stamp_31 ?_
      refine g_getN F clX13 9 (by decide) (gT_w q1099 rfl) (v := .int (S.1 10 run.toNatClampNeg 9)) (gd_get (pr_at (κ := 10) (i := run.toNatClampNeg) (by decide) (gc6 (by decide) c_1.2) (gce rfl rfl)) rfl) dX1_stamp_32 ?_
      refine g_iconst F (v := (-1 : Int32)) (by decide) dX1_stamp_35 ?_
      refine g_icmp_ne F (tgt := 57) (by decide) dX1_stamp_36 (fun c_4 => ?_) (fun c_4 => ?_)
      · skip
        refine g_iconst F (v := (0 : Int32)) (by decide) dX1_stamp_57 ?_
        exact g_top (gb_f (fun q => (fun q => (fun q => c_4 q.1) q.2) q.2)) J_6
      · skip
        refine g_aload_n F 0 rfl rfl dX1_stamp_39 ?_
        refine g_getN F clX13 1 (by decide) (gT_w q1083 rfl) (v := .ref (A 8 (S.1 10 run.toNatClampNeg 0).toNatClampNeg)) (gd_get (pr_at (κ := 10) (i := run.toNatClampNeg) (by decide) (gc6 (by decide) c_1.2) (gce rfl rfl)) rfl) dX1_stamp_40 ?_
        refine g_aload_n F 1 rfl rfl dX1_stamp_43 ?_
        refine g_get F clX1 0 (by decide) q135 (v := .int (S.1 0 0 0)) (gd_get (pr_at (κ := 0) (i := 0) (by decide) (gc1 (gnl rfl)) (gce rfl rfl)) rfl) dX1_stamp_44 ?_
        refine g_callV F (kX9_isReady hl (pr_at (κ := 8) (i := (S.1 10 run.toNatClampNeg 0).toNatClampNeg) (by decide) (gc6 (by decide) (gw_10_0 hW c_1.2).2) (gce rfl rfl))) (g_recv F clX9 (gd_obj (pr_at (κ := 8) (i := (S.1 10 run.toNatClampNeg 0).toNatClampNeg) (by decide) (gc6 (by decide) (gw_10_0 hW c_1.2).2) (gce rfl rfl)))) q958 q959 q960 q47 q961 myX9_isReady ⟨by decide, by decide⟩ rfl rfl (gle rfl) 1 6 (gle rfl) (gle rfl) (gle rfl) (gle rfl) dX1_stamp_47 gx_n (gv_i ?_)
        refine gb_if_eq F (tgt := 57) (by decide) dX1_stamp_50 (fun c_5 => ?_) (fun c_5 => ?_)
        · skip
          refine g_iconst F (v := (0 : Int32)) (by decide) dX1_stamp_57 ?_
          exact g_top (gb_f (fun q => (fun q => (fun q => c_5 q.2) q.2) q.2)) J_6
        · skip
          refine g_iconst F (v := (1 : Int32)) (by decide) dX1_stamp_53 ?_
          refine g_goto F (tgt := 58) (by decide) dX1_stamp_54 ?_
          exact g_top (gb_t (⟨c_2, ⟨c_3, ⟨c_4, c_5⟩⟩⟩)) J_6

def sC_mixture (S : gS) (mixture what : Int32) : gO := if gIn mixture (S.2 7) then (if ¬ ((gidx 1 what) < 0) then (.inr (.int (if what = (99 : Int32) then (S.1 7 mixture.toNatClampNeg 2) else (if what = (102 : Int32) then (S.1 7 mixture.toNatClampNeg 3) else (S.1 7 mixture.toNatClampNeg 4))), S)) else (.inl "java/lang/IllegalArgumentException")) else (.inl "java/lang/IndexOutOfBoundsException")
theorem kX1_mixture {l : Launch} {G : gG} (hl : l.stackTraces = false) {S : gS} {a0 : Nat} {Fr : gH → Prop} (hF : gFr 0 Fr) (hW : gWf S) {mixture what : Int32} (h_what : ¬ what < 0) : gMet l yX1_mixture (ws_ yX1_mixture cX1_mixture 4 (some .int)) ⟨8, 2, 12, 123⟩ G [.ref a0, .int mixture, .int what] (gPE 0 G S a0 Fr) (gqS (sC_mixture S mixture what) 0 G a0 Fr) (gxS (sC_mixture S mixture what) 0 G S a0 Fr) := by
  refine gMet_of hl pnX1 (gle rfl) (fun X Q hX F E hNm => ?_)
  subst hX
  change gW (X, G, 4, Q) (gPE 0 G S a0 Fr) [(0, .ref a0), (1, .int mixture), (2, .int what)] 0 [] 0 0
  refine g_pe (fun A hA => ?_)
  subst hA
  change gW _ _ [(0, .ref (A 0 0)), (1, .int mixture), (2, .int what)] 0 [] 0 0
  refine g_aload_n F 0 rfl rfl dX1_mixture_0 ?_
  refine g_get F clX1 8 (by decide) q143 (v := .ref (A 307 0)) (gd_get (pr_at (κ := 0) (i := 0) (by decide) (gc1 (gnl rfl)) (gce rfl rfl)) rfl) dX1_mixture_1 ?_
  refine g_iload_n F 1 rfl rfl dX1_mixture_4 ?_
  refine g_callS F (kX1_require hl (pr_ls (κ := 7) (by decide) (Or.inl ⟨by decide, by decide⟩) (fun _ => by decide) (fun _ => by decide)) (gw_n hW _) (x := mixture)) (lw_S q784 q785 q18 q786) myX1_require ⟨by decide, by decide⟩ rfl rfl (gle rfl) 1 6 (gle rfl) (gle rfl) (gle rfl) (gle rfl) dX1_mixture_5 (gx_1 (fun c_1 => g_out0 F E (gle rfl) (gle rfl) (fun _ hp => ⟨(if_neg c_1), gPE_0 _ hp⟩))) (gv_y (fun c_1 => ?_))
  refine g_castS F (g_recv F clX8 (gd_obj (pr_at (κ := 7) (i := mixture.toNatClampNeg) (by decide) (gc6 (by decide) c_1.2) (gce rfl rfl)))) q831 dX1_mixture_8 ?_
  refine g_astore_n F rfl (by show 3 < 4; decide) (lv2 := [(3, .ref (A 7 mixture.toNatClampNeg)), (0, .ref (A 0 0)), (1, .int mixture), (2, .int what)]) rfl dX1_mixture_11 ?_
  refine g_ldcS F (i := 1) (List.mem_of_getElem? (i := 1) rfl) dX1_mixture_12 ?_
  refine g_iload_n F 3 rfl rfl dX1_mixture_14 ?_
  refine g_callV F (kJ0_indexOf hl (by decide) (ch := what) h_what) (g_srecv F (by decide)) q435 q436 q437 q19 q438 myJ0_indexOf ⟨by decide, by decide⟩ rfl rfl (gle rfl) 1 6 (gle rfl) (gle rfl) (gle rfl) (gle rfl) dX1_mixture_15 gx_n (gv_i ?_)
  have J_3 : gW (X, G, 4, Q) (gP 0 G S A Fr []) [(3, .ref (A 7 mixture.toNatClampNeg)), (0, .ref (A 0 0)), (1, .int mixture), (2, .int what)] 26 [.int (gb (¬ ((gidx 1 what) < 0)))] 1 6 := by
    refine g_callS F (kX1_requireArgument hl (c := ¬ ((gidx 1 what) < 0))) (lw_S q335 q336 q18 q337) myX1_requireArgument ⟨by decide, by decide⟩ rfl rfl (gle rfl) 2 12 (gle rfl) (gle rfl) (gle rfl) (gle rfl) dX1_mixture_26 (gx_1 (fun c_4 => g_out0 F E (gle rfl) (gle rfl) (fun _ hp => ⟨((if_pos c_1).trans (if_neg c_4)), gPE_0 _ hp⟩))) (gv_c (fun c_4 => ?_))
    refine g_iload_n F 3 rfl rfl dX1_mixture_29 ?_
    refine g_bipush F (v := (99 : Int32)) (by decide) dX1_mixture_30 ?_
    have J_7 : gW (X, G, 4, Q) (gP 0 G S A Fr []) [(3, .ref (A 7 mixture.toNatClampNeg)), (0, .ref (A 0 0)), (1, .int mixture), (2, .int what)] 59 [.int (if what = (99 : Int32) then (S.1 7 mixture.toNatClampNeg 2) else (if what = (102 : Int32) then (S.1 7 mixture.toNatClampNeg 3) else (S.1 7 mixture.toNatClampNeg 4)))] 2 12 := by
      exact g_retI F E rfl rfl (gle rfl) (gle rfl) dX1_mixture_59 (fun _ hp => ⟨_, _, ((if_pos c_1).trans (if_pos c_4)), rfl, ⟨_, rfl, gP_T0 hp⟩⟩)
    refine g_icmp_ne F (tgt := 42) (by decide) dX1_mixture_32 (fun c_5 => ?_) (fun c_5 => ?_)
    · skip
      refine g_iload_n F 3 rfl rfl dX1_mixture_42 ?_
      refine g_bipush F (v := (102 : Int32)) (by decide) dX1_mixture_43 ?_
      refine g_icmp_ne F (tgt := 55) (by decide) dX1_mixture_45 (fun c_6 => ?_) (fun c_6 => ?_)
      · skip
        refine g_aload_n F 0 rfl rfl dX1_mixture_55 ?_
        refine g_getN F clX8 4 (by decide) (gT_w q848 rfl) (v := .int (S.1 7 mixture.toNatClampNeg 4)) (gd_get (pr_at (κ := 7) (i := mixture.toNatClampNeg) (by decide) (gc6 (by decide) c_1.2) (gce rfl rfl)) rfl) dX1_mixture_56 ?_
        exact g_top (by rw [if_neg c_5, if_neg c_6]) J_7
      · skip
        refine g_aload_n F 0 rfl rfl dX1_mixture_48 ?_
        refine g_getN F clX8 3 (by decide) (gT_w q846 rfl) (v := .int (S.1 7 mixture.toNatClampNeg 3)) (gd_get (pr_at (κ := 7) (i := mixture.toNatClampNeg) (by decide) (gc6 (by decide) c_1.2) (gce rfl rfl)) rfl) dX1_mixture_49 ?_
        refine g_goto F (tgt := 59) (by decide) dX1_mixture_52 ?_
        exact g_top (by rw [if_neg c_5, if_pos c_6]) J_7
    · skip
      refine g_aload_n F 0 rfl rfl dX1_mixture_35 ?_
      refine g_getN F clX8 2 (by decide) (gT_w q844 rfl) (v := .int (S.1 7 mixture.toNatClampNeg 2)) (gd_get (pr_at (κ := 7) (i := mixture.toNatClampNeg) (by decide) (gc6 (by decide) c_1.2) (gce rfl rfl)) rfl) dX1_mixture_36 ?_
      refine g_goto F (tgt := 59) (by decide) dX1_mixture_39 ?_
      exact g_top (by rw [if_pos c_5]) J_7
  refine g_if_lt F (tgt := 25) (by decide) dX1_mixture_18 (fun c_2 => ?_) (fun c_2 => ?_)
  · skip
    refine g_iconst F (v := (0 : Int32)) (by decide) dX1_mixture_25 ?_
    exact g_top (gb_f (fun q => q c_2)) J_3
  · skip
    refine g_iconst F (v := (1 : Int32)) (by decide) dX1_mixture_21 ?_
    refine g_goto F (tgt := 26) (by decide) dX1_mixture_22 ?_
    exact g_top (gb_t c_2) J_3

def sC_batch (S : gS) (batch what : Int32) : gO := if gIn batch (S.2 8) then (if ¬ ((gidx 2 what) < 0) then (if what = (98 : Int32) then (.inr (.int (S.1 8 batch.toNatClampNeg 3), S)) else (if what = (100 : Int32) then (.inr (.int (S.1 8 batch.toNatClampNeg 10), S)) else (if what = (110 : Int32) then (.inr (.int (S.1 8 batch.toNatClampNeg 1), S)) else (if what = (114 : Int32) then (.inr (.int (S.1 8 batch.toNatClampNeg 4), S)) else (if what = (115 : Int32) then (.inr (.int (S.1 8 batch.toNatClampNeg 9), S)) else (if what = (119 : Int32) then (.inr (.int (S.1 8 batch.toNatClampNeg 2), S)) else (.inr (.int (S.1 8 batch.toNatClampNeg 6), S)))))))) else (.inl "java/lang/IllegalArgumentException")) else (.inl "java/lang/IndexOutOfBoundsException")
theorem kX1_batch {l : Launch} {G : gG} (hl : l.stackTraces = false) {S : gS} {a0 : Nat} {Fr : gH → Prop} (hF : gFr 0 Fr) (hW : gWf S) {batch what : Int32} (h_what : ¬ what < 0) : gMet l yX1_batch (ws_ yX1_batch cX1_batch 4 (some .int)) ⟨8, 2, 12, 123⟩ G [.ref a0, .int batch, .int what] (gPE 0 G S a0 Fr) (gqS (sC_batch S batch what) 0 G a0 Fr) (gxS (sC_batch S batch what) 0 G S a0 Fr) := by
  refine gMet_of hl pnX1 (gle rfl) (fun X Q hX F E hNm => ?_)
  subst hX
  change gW (X, G, 4, Q) (gPE 0 G S a0 Fr) [(0, .ref a0), (1, .int batch), (2, .int what)] 0 [] 0 0
  refine g_pe (fun A hA => ?_)
  subst hA
  change gW _ _ [(0, .ref (A 0 0)), (1, .int batch), (2, .int what)] 0 [] 0 0
  refine g_aload_n F 0 rfl rfl dX1_batch_0 ?_
  refine g_get F clX1 9 (by decide) q144 (v := .ref (A 308 0)) (gd_get (pr_at (κ := 0) (i := 0) (by decide) (gc1 (gnl rfl)) (gce rfl rfl)) rfl) dX1_batch_1 ?_
  refine g_iload_n F 1 rfl rfl dX1_batch_4 ?_
  refine g_callS F (kX1_require hl (pr_ls (κ := 8) (by decide) (Or.inl ⟨by decide, by decide⟩) (fun _ => by decide) (fun _ => by decide)) (gw_n hW _) (x := batch)) (lw_S q784 q785 q18 q786) myX1_require ⟨by decide, by decide⟩ rfl rfl (gle rfl) 1 6 (gle rfl) (gle rfl) (gle rfl) (gle rfl) dX1_batch_5 (gx_1 (fun c_1 => g_out0 F E (gle rfl) (gle rfl) (fun _ hp => ⟨(if_neg c_1), gPE_0 _ hp⟩))) (gv_y (fun c_1 => ?_))
  refine g_castS F (g_recv F clX9 (gd_obj (pr_at (κ := 8) (i := batch.toNatClampNeg) (by decide) (gc6 (by decide) c_1.2) (gce rfl rfl)))) q295 dX1_batch_8 ?_
  refine g_astore_n F rfl (by show 3 < 4; decide) (lv2 := [(3, .ref (A 8 batch.toNatClampNeg)), (0, .ref (A 0 0)), (1, .int batch), (2, .int what)]) rfl dX1_batch_11 ?_
  refine g_ldcS F (i := 2) (List.mem_of_getElem? (i := 2) rfl) dX1_batch_12 ?_
  refine g_iload_n F 3 rfl rfl dX1_batch_14 ?_
  refine g_callV F (kJ0_indexOf hl (by decide) (ch := what) h_what) (g_srecv F (by decide)) q435 q436 q437 q19 q438 myJ0_indexOf ⟨by decide, by decide⟩ rfl rfl (gle rfl) 1 6 (gle rfl) (gle rfl) (gle rfl) (gle rfl) dX1_batch_15 gx_n (gv_i ?_)
  have J_3 : gW (X, G, 4, Q) (gP 0 G S A Fr []) [(3, .ref (A 8 batch.toNatClampNeg)), (0, .ref (A 0 0)), (1, .int batch), (2, .int what)] 26 [.int (gb (¬ ((gidx 2 what) < 0)))] 1 6 := by
    refine g_callS F (kX1_requireArgument hl (c := ¬ ((gidx 2 what) < 0))) (lw_S q335 q336 q18 q337) myX1_requireArgument ⟨by decide, by decide⟩ rfl rfl (gle rfl) 2 12 (gle rfl) (gle rfl) (gle rfl) (gle rfl) dX1_batch_26 (gx_1 (fun c_4 => g_out0 F E (gle rfl) (gle rfl) (fun _ hp => ⟨((if_pos c_1).trans (if_neg c_4)), gPE_0 _ hp⟩))) (gv_c (fun c_4 => ?_))
    refine g_iload_n F 3 rfl rfl dX1_batch_29 ?_
    refine g_cases (x := what) (98 : Int32) (fun w_5 => ?_) (fun w_5 => ?_)
    · skip
      refine g_lookup F (x := what) rfl (off := 72) (by rw [w_5]; rfl) (tgt := 102) (by decide) dX1_batch_30 ?_
      refine g_aload_n F 0 rfl rfl dX1_batch_102 ?_
      refine g_getN F clX9 2 (by decide) (gT_w q889 rfl) (v := .int (S.1 8 batch.toNatClampNeg 3)) (gd_get (pr_at (κ := 8) (i := batch.toNatClampNeg) (by decide) (gc6 (by decide) c_1.2) (gce rfl rfl)) rfl) dX1_batch_103 ?_
      refine g_goto F (tgt := 134) (by decide) dX1_batch_106 ?_
      exact g_retI F E rfl rfl (gle rfl) (gle rfl) dX1_batch_134 (fun _ hp => ⟨_, _, ((if_pos c_1).trans ((if_pos c_4).trans (if_pos w_5))), rfl, ⟨_, rfl, gP_T0 hp⟩⟩)
    refine g_cases (x := what) (100 : Int32) (fun w_6 => ?_) (fun w_6 => ?_)
    · skip
      refine g_lookup F (x := what) rfl (off := 93) (by rw [w_6]; rfl) (tgt := 123) (by decide) dX1_batch_30 ?_
      refine g_aload_n F 0 rfl rfl dX1_batch_123 ?_
      refine g_getN F clX9 11 (by decide) (gT_w q904 rfl) (v := .int (S.1 8 batch.toNatClampNeg 10)) (gd_get (pr_at (κ := 8) (i := batch.toNatClampNeg) (by decide) (gc6 (by decide) c_1.2) (gce rfl rfl)) rfl) dX1_batch_124 ?_
      refine g_goto F (tgt := 134) (by decide) dX1_batch_127 ?_
      exact g_retI F E rfl rfl (gle rfl) (gle rfl) dX1_batch_134 (fun _ hp => ⟨_, _, ((if_pos c_1).trans ((if_pos c_4).trans ((if_neg w_5).trans (if_pos w_6)))), rfl, ⟨_, rfl, gP_T0 hp⟩⟩)
    refine g_cases (x := what) (110 : Int32) (fun w_7 => ?_) (fun w_7 => ?_)
    · skip
      refine g_lookup F (x := what) rfl (off := 58) (by rw [w_7]; rfl) (tgt := 88) (by decide) dX1_batch_30 ?_
      refine g_aload_n F 0 rfl rfl dX1_batch_88 ?_
      refine g_getN F clX9 3 (by decide) (gT_w q891 rfl) (v := .int (S.1 8 batch.toNatClampNeg 1)) (gd_get (pr_at (κ := 8) (i := batch.toNatClampNeg) (by decide) (gc6 (by decide) c_1.2) (gce rfl rfl)) rfl) dX1_batch_89 ?_
      refine g_goto F (tgt := 134) (by decide) dX1_batch_92 ?_
      exact g_retI F E rfl rfl (gle rfl) (gle rfl) dX1_batch_134 (fun _ hp => ⟨_, _, ((if_pos c_1).trans ((if_pos c_4).trans ((if_neg w_5).trans ((if_neg w_6).trans (if_pos w_7))))), rfl, ⟨_, rfl, gP_T0 hp⟩⟩)
    refine g_cases (x := what) (114 : Int32) (fun w_8 => ?_) (fun w_8 => ?_)
    · skip
      refine g_lookup F (x := what) rfl (off := 79) (by rw [w_8]; rfl) (tgt := 109) (by decide) dX1_batch_30 ?_
      refine g_aload_n F 0 rfl rfl dX1_batch_109 ?_
      refine g_getN F clX9 5 (by decide) (gT_w q894 rfl) (v := .int (S.1 8 batch.toNatClampNeg 4)) (gd_get (pr_at (κ := 8) (i := batch.toNatClampNeg) (by decide) (gc6 (by decide) c_1.2) (gce rfl rfl)) rfl) dX1_batch_110 ?_
      refine g_goto F (tgt := 134) (by decide) dX1_batch_113 ?_
      exact g_retI F E rfl rfl (gle rfl) (gle rfl) dX1_batch_134 (fun _ hp => ⟨_, _, ((if_pos c_1).trans ((if_pos c_4).trans ((if_neg w_5).trans ((if_neg w_6).trans ((if_neg w_7).trans (if_pos w_8)))))), rfl, ⟨_, rfl, gP_T0 hp⟩⟩)
    refine g_cases (x := what) (115 : Int32) (fun w_9 => ?_) (fun w_9 => ?_)
    · skip
      refine g_lookup F (x := what) rfl (off := 86) (by rw [w_9]; rfl) (tgt := 116) (by decide) dX1_batch_30 ?_
      refine g_aload_n F 0 rfl rfl dX1_batch_116 ?_
      refine g_getN F clX9 10 (by decide) (gT_w q901 rfl) (v := .int (S.1 8 batch.toNatClampNeg 9)) (gd_get (pr_at (κ := 8) (i := batch.toNatClampNeg) (by decide) (gc6 (by decide) c_1.2) (gce rfl rfl)) rfl) dX1_batch_117 ?_
      refine g_goto F (tgt := 134) (by decide) dX1_batch_120 ?_
      exact g_retI F E rfl rfl (gle rfl) (gle rfl) dX1_batch_134 (fun _ hp => ⟨_, _, ((if_pos c_1).trans ((if_pos c_4).trans ((if_neg w_5).trans ((if_neg w_6).trans ((if_neg w_7).trans ((if_neg w_8).trans (if_pos w_9))))))), rfl, ⟨_, rfl, gP_T0 hp⟩⟩)
    refine g_cases (x := what) (119 : Int32) (fun w_10 => ?_) (fun w_10 => ?_)
    · skip
      refine g_lookup F (x := what) rfl (off := 65) (by rw [w_10]; rfl) (tgt := 95) (by decide) dX1_batch_30 ?_
      refine g_aload_n F 0 rfl rfl dX1_batch_95 ?_
      refine g_getN F clX9 4 (by decide) (gT_w q892 rfl) (v := .int (S.1 8 batch.toNatClampNeg 2)) (gd_get (pr_at (κ := 8) (i := batch.toNatClampNeg) (by decide) (gc6 (by decide) c_1.2) (gce rfl rfl)) rfl) dX1_batch_96 ?_
      refine g_goto F (tgt := 134) (by decide) dX1_batch_99 ?_
      exact g_retI F E rfl rfl (gle rfl) (gle rfl) dX1_batch_134 (fun _ hp => ⟨_, _, ((if_pos c_1).trans ((if_pos c_4).trans ((if_neg w_5).trans ((if_neg w_6).trans ((if_neg w_7).trans ((if_neg w_8).trans ((if_neg w_9).trans (if_pos w_10)))))))), rfl, ⟨_, rfl, gP_T0 hp⟩⟩)
    refine g_lookup F (x := what) rfl (off := 100) (goff_d _ (gAc (fun q => w_5 (Int32.toInt_inj.mp (q.trans (by decide)))) (gAc (fun q => w_6 (Int32.toInt_inj.mp (q.trans (by decide)))) (gAc (fun q => w_7 (Int32.toInt_inj.mp (q.trans (by decide)))) (gAc (fun q => w_8 (Int32.toInt_inj.mp (q.trans (by decide)))) (gAc (fun q => w_9 (Int32.toInt_inj.mp (q.trans (by decide)))) (gAc (fun q => w_10 (Int32.toInt_inj.mp (q.trans (by decide)))) gAn))))))) (tgt := 130) (by decide) dX1_batch_30 ?_
    refine g_aload_n F 0 rfl rfl dX1_batch_130 ?_
    refine g_getN F clX9 8 (by decide) (gT_w q898 rfl) (v := .int (S.1 8 batch.toNatClampNeg 6)) (gd_get (pr_at (κ := 8) (i := batch.toNatClampNeg) (by decide) (gc6 (by decide) c_1.2) (gce rfl rfl)) rfl) dX1_batch_131 ?_
    exact g_retI F E rfl rfl (gle rfl) (gle rfl) dX1_batch_134 (fun _ hp => ⟨_, _, ((if_pos c_1).trans ((if_pos c_4).trans ((if_neg w_5).trans ((if_neg w_6).trans ((if_neg w_7).trans ((if_neg w_8).trans ((if_neg w_9).trans (if_neg w_10)))))))), rfl, ⟨_, rfl, gP_T0 hp⟩⟩)
  refine g_if_lt F (tgt := 25) (by decide) dX1_batch_18 (fun c_2 => ?_) (fun c_2 => ?_)
  · skip
    refine g_iconst F (v := (0 : Int32)) (by decide) dX1_batch_25 ?_
    exact g_top (gb_f (fun q => q c_2)) J_3
  · skip
    refine g_iconst F (v := (1 : Int32)) (by decide) dX1_batch_21 ?_
    refine g_goto F (tgt := 26) (by decide) dX1_batch_22 ?_
    exact g_top (gb_t c_2) J_3

def sC_slat (S : gS) (slats what : Int32) : gO := if gIn slats (S.2 9) then (if ¬ ((gidx 3 what) < 0) then (.inr (.int (if what = (110 : Int32) then (S.1 9 slats.toNatClampNeg 3) else (if what = (119 : Int32) then (S.1 9 slats.toNatClampNeg 2) else (if what = (103 : Int32) then (S.1 9 slats.toNatClampNeg 4) else (S.1 9 slats.toNatClampNeg 5)))), S)) else (.inl "java/lang/IllegalArgumentException")) else (.inl "java/lang/IndexOutOfBoundsException")
theorem kX1_slat {l : Launch} {G : gG} (hl : l.stackTraces = false) {S : gS} {a0 : Nat} {Fr : gH → Prop} (hF : gFr 0 Fr) (hW : gWf S) {slats what : Int32} (h_what : ¬ what < 0) : gMet l yX1_slat (ws_ yX1_slat cX1_slat 4 (some .int)) ⟨8, 2, 12, 123⟩ G [.ref a0, .int slats, .int what] (gPE 0 G S a0 Fr) (gqS (sC_slat S slats what) 0 G a0 Fr) (gxS (sC_slat S slats what) 0 G S a0 Fr) := by
  refine gMet_of hl pnX1 (gle rfl) (fun X Q hX F E hNm => ?_)
  subst hX
  change gW (X, G, 4, Q) (gPE 0 G S a0 Fr) [(0, .ref a0), (1, .int slats), (2, .int what)] 0 [] 0 0
  refine g_pe (fun A hA => ?_)
  subst hA
  change gW _ _ [(0, .ref (A 0 0)), (1, .int slats), (2, .int what)] 0 [] 0 0
  refine g_aload_n F 0 rfl rfl dX1_slat_0 ?_
  refine g_get F clX1 12 (by decide) q147 (v := .ref (A 309 0)) (gd_get (pr_at (κ := 0) (i := 0) (by decide) (gc1 (gnl rfl)) (gce rfl rfl)) rfl) dX1_slat_1 ?_
  refine g_iload_n F 1 rfl rfl dX1_slat_4 ?_
  refine g_callS F (kX1_require hl (pr_ls (κ := 9) (by decide) (Or.inl ⟨by decide, by decide⟩) (fun _ => by decide) (fun _ => by decide)) (gw_n hW _) (x := slats)) (lw_S q784 q785 q18 q786) myX1_require ⟨by decide, by decide⟩ rfl rfl (gle rfl) 1 6 (gle rfl) (gle rfl) (gle rfl) (gle rfl) dX1_slat_5 (gx_1 (fun c_1 => g_out0 F E (gle rfl) (gle rfl) (fun _ hp => ⟨(if_neg c_1), gPE_0 _ hp⟩))) (gv_y (fun c_1 => ?_))
  refine g_castS F (g_recv F clX11 (gd_obj (pr_at (κ := 9) (i := slats.toNatClampNeg) (by decide) (gc6 (by decide) c_1.2) (gce rfl rfl)))) q1003 dX1_slat_8 ?_
  refine g_astore_n F rfl (by show 3 < 4; decide) (lv2 := [(3, .ref (A 9 slats.toNatClampNeg)), (0, .ref (A 0 0)), (1, .int slats), (2, .int what)]) rfl dX1_slat_11 ?_
  refine g_ldcSW F (i := 3) (List.mem_of_getElem? (i := 3) rfl) dX1_slat_12 ?_
  refine g_iload_n F 3 rfl rfl dX1_slat_15 ?_
  refine g_callV F (kJ0_indexOf hl (by decide) (ch := what) h_what) (g_srecv F (by decide)) q435 q436 q437 q19 q438 myJ0_indexOf ⟨by decide, by decide⟩ rfl rfl (gle rfl) 1 6 (gle rfl) (gle rfl) (gle rfl) (gle rfl) dX1_slat_16 gx_n (gv_i ?_)
  have J_3 : gW (X, G, 4, Q) (gP 0 G S A Fr []) [(3, .ref (A 9 slats.toNatClampNeg)), (0, .ref (A 0 0)), (1, .int slats), (2, .int what)] 27 [.int (gb (¬ ((gidx 3 what) < 0)))] 1 6 := by
    refine g_callS F (kX1_requireArgument hl (c := ¬ ((gidx 3 what) < 0))) (lw_S q335 q336 q18 q337) myX1_requireArgument ⟨by decide, by decide⟩ rfl rfl (gle rfl) 2 12 (gle rfl) (gle rfl) (gle rfl) (gle rfl) dX1_slat_27 (gx_1 (fun c_4 => g_out0 F E (gle rfl) (gle rfl) (fun _ hp => ⟨((if_pos c_1).trans (if_neg c_4)), gPE_0 _ hp⟩))) (gv_c (fun c_4 => ?_))
    refine g_iload_n F 3 rfl rfl dX1_slat_30 ?_
    refine g_bipush F (v := (110 : Int32)) (by decide) dX1_slat_31 ?_
    have J_8 : gW (X, G, 4, Q) (gP 0 G S A Fr []) [(3, .ref (A 9 slats.toNatClampNeg)), (0, .ref (A 0 0)), (1, .int slats), (2, .int what)] 73 [.int (if what = (110 : Int32) then (S.1 9 slats.toNatClampNeg 3) else (if what = (119 : Int32) then (S.1 9 slats.toNatClampNeg 2) else (if what = (103 : Int32) then (S.1 9 slats.toNatClampNeg 4) else (S.1 9 slats.toNatClampNeg 5))))] 2 12 := by
      exact g_retI F E rfl rfl (gle rfl) (gle rfl) dX1_slat_73 (fun _ hp => ⟨_, _, ((if_pos c_1).trans (if_pos c_4)), rfl, ⟨_, rfl, gP_T0 hp⟩⟩)
    refine g_icmp_ne F (tgt := 43) (by decide) dX1_slat_33 (fun c_5 => ?_) (fun c_5 => ?_)
    · skip
      refine g_iload_n F 3 rfl rfl dX1_slat_43 ?_
      refine g_bipush F (v := (119 : Int32)) (by decide) dX1_slat_44 ?_
      refine g_icmp_ne F (tgt := 56) (by decide) dX1_slat_46 (fun c_6 => ?_) (fun c_6 => ?_)
      · skip
        refine g_iload_n F 3 rfl rfl dX1_slat_56 ?_
        refine g_bipush F (v := (103 : Int32)) (by decide) dX1_slat_57 ?_
        refine g_icmp_ne F (tgt := 69) (by decide) dX1_slat_59 (fun c_7 => ?_) (fun c_7 => ?_)
        · skip
          refine g_aload_n F 0 rfl rfl dX1_slat_69 ?_
          refine g_getN F clX11 6 (by decide) (gT_w q1021 rfl) (v := .int (S.1 9 slats.toNatClampNeg 5)) (gd_get (pr_at (κ := 9) (i := slats.toNatClampNeg) (by decide) (gc6 (by decide) c_1.2) (gce rfl rfl)) rfl) dX1_slat_70 ?_
          exact g_top (by rw [if_neg c_5, if_neg c_6, if_neg c_7]) J_8
        · skip
          refine g_aload_n F 0 rfl rfl dX1_slat_62 ?_
          refine g_getN F clX11 5 (by decide) (gT_w q1020 rfl) (v := .int (S.1 9 slats.toNatClampNeg 4)) (gd_get (pr_at (κ := 9) (i := slats.toNatClampNeg) (by decide) (gc6 (by decide) c_1.2) (gce rfl rfl)) rfl) dX1_slat_63 ?_
          refine g_goto F (tgt := 73) (by decide) dX1_slat_66 ?_
          exact g_top (by rw [if_neg c_5, if_neg c_6, if_pos c_7]) J_8
      · skip
        refine g_aload_n F 0 rfl rfl dX1_slat_49 ?_
        refine g_getN F clX11 3 (by decide) (gT_w q1016 rfl) (v := .int (S.1 9 slats.toNatClampNeg 2)) (gd_get (pr_at (κ := 9) (i := slats.toNatClampNeg) (by decide) (gc6 (by decide) c_1.2) (gce rfl rfl)) rfl) dX1_slat_50 ?_
        refine g_goto F (tgt := 73) (by decide) dX1_slat_53 ?_
        exact g_top (by rw [if_neg c_5, if_pos c_6]) J_8
    · skip
      refine g_aload_n F 0 rfl rfl dX1_slat_36 ?_
      refine g_getN F clX11 4 (by decide) (gT_w q1018 rfl) (v := .int (S.1 9 slats.toNatClampNeg 3)) (gd_get (pr_at (κ := 9) (i := slats.toNatClampNeg) (by decide) (gc6 (by decide) c_1.2) (gce rfl rfl)) rfl) dX1_slat_37 ?_
      refine g_goto F (tgt := 73) (by decide) dX1_slat_40 ?_
      exact g_top (by rw [if_pos c_5]) J_8
  refine g_if_lt F (tgt := 26) (by decide) dX1_slat_19 (fun c_2 => ?_) (fun c_2 => ?_)
  · skip
    refine g_iconst F (v := (0 : Int32)) (by decide) dX1_slat_26 ?_
    exact g_top (gb_f (fun q => q c_2)) J_3
  · skip
    refine g_iconst F (v := (1 : Int32)) (by decide) dX1_slat_22 ?_
    refine g_goto F (tgt := 27) (by decide) dX1_slat_23 ?_
    exact g_top (gb_t c_2) J_3

def sC_run (S : gS) (run what : Int32) : gO := if gIn run (S.2 10) then (if ¬ ((gidx 5 what) < 0) then (if what = (98 : Int32) then (.inr (.int (S.1 10 run.toNatClampNeg 4), S)) else (if what = (99 : Int32) then (.inr (.int (S.1 10 run.toNatClampNeg 7), S)) else (if what = (103 : Int32) then (.inr (.int (S.1 10 run.toNatClampNeg 9), S)) else (if what = (108 : Int32) then (.inr (.int (S.1 10 run.toNatClampNeg 8), S)) else (if what = (110 : Int32) then (.inr (.int (S.1 10 run.toNatClampNeg 3), S)) else (if what = (111 : Int32) then (.inr (.int (S.1 10 run.toNatClampNeg 5), S)) else (.inr (.int (S.1 10 run.toNatClampNeg 6), S)))))))) else (.inl "java/lang/IllegalArgumentException")) else (.inl "java/lang/IndexOutOfBoundsException")
theorem kX1_run {l : Launch} {G : gG} (hl : l.stackTraces = false) {S : gS} {a0 : Nat} {Fr : gH → Prop} (hF : gFr 0 Fr) (hW : gWf S) {run what : Int32} (h_what : ¬ what < 0) : gMet l yX1_run (ws_ yX1_run cX1_run 4 (some .int)) ⟨8, 2, 12, 123⟩ G [.ref a0, .int run, .int what] (gPE 0 G S a0 Fr) (gqS (sC_run S run what) 0 G a0 Fr) (gxS (sC_run S run what) 0 G S a0 Fr) := by
  refine gMet_of hl pnX1 (gle rfl) (fun X Q hX F E hNm => ?_)
  subst hX
  change gW (X, G, 4, Q) (gPE 0 G S a0 Fr) [(0, .ref a0), (1, .int run), (2, .int what)] 0 [] 0 0
  refine g_pe (fun A hA => ?_)
  subst hA
  change gW _ _ [(0, .ref (A 0 0)), (1, .int run), (2, .int what)] 0 [] 0 0
  refine g_aload_n F 0 rfl rfl dX1_run_0 ?_
  refine g_get F clX1 13 (by decide) q148 (v := .ref (A 310 0)) (gd_get (pr_at (κ := 0) (i := 0) (by decide) (gc1 (gnl rfl)) (gce rfl rfl)) rfl) dX1_run_1 ?_
  refine g_iload_n F 1 rfl rfl dX1_run_4 ?_
  refine g_callS F (kX1_require hl (pr_ls (κ := 10) (by decide) (Or.inl ⟨by decide, by decide⟩) (fun _ => by decide) (fun _ => by decide)) (gw_n hW _) (x := run)) (lw_S q784 q785 q18 q786) myX1_require ⟨by decide, by decide⟩ rfl rfl (gle rfl) 1 6 (gle rfl) (gle rfl) (gle rfl) (gle rfl) dX1_run_5 (gx_1 (fun c_1 => g_out0 F E (gle rfl) (gle rfl) (fun _ hp => ⟨(if_neg c_1), gPE_0 _ hp⟩))) (gv_y (fun c_1 => ?_))
  refine g_castS F (g_recv F clX13 (gd_obj (pr_at (κ := 10) (i := run.toNatClampNeg) (by decide) (gc6 (by decide) c_1.2) (gce rfl rfl)))) q297 dX1_run_8 ?_
  refine g_astore_n F rfl (by show 3 < 4; decide) (lv2 := [(3, .ref (A 10 run.toNatClampNeg)), (0, .ref (A 0 0)), (1, .int run), (2, .int what)]) rfl dX1_run_11 ?_
  refine g_ldcSW F (i := 5) (List.mem_of_getElem? (i := 5) rfl) dX1_run_12 ?_
  refine g_iload_n F 3 rfl rfl dX1_run_15 ?_
  refine g_callV F (kJ0_indexOf hl (by decide) (ch := what) h_what) (g_srecv F (by decide)) q435 q436 q437 q19 q438 myJ0_indexOf ⟨by decide, by decide⟩ rfl rfl (gle rfl) 1 6 (gle rfl) (gle rfl) (gle rfl) (gle rfl) dX1_run_16 gx_n (gv_i ?_)
  have J_3 : gW (X, G, 4, Q) (gP 0 G S A Fr []) [(3, .ref (A 10 run.toNatClampNeg)), (0, .ref (A 0 0)), (1, .int run), (2, .int what)] 27 [.int (gb (¬ ((gidx 5 what) < 0)))] 1 6 := by
    refine g_callS F (kX1_requireArgument hl (c := ¬ ((gidx 5 what) < 0))) (lw_S q335 q336 q18 q337) myX1_requireArgument ⟨by decide, by decide⟩ rfl rfl (gle rfl) 2 12 (gle rfl) (gle rfl) (gle rfl) (gle rfl) dX1_run_27 (gx_1 (fun c_4 => g_out0 F E (gle rfl) (gle rfl) (fun _ hp => ⟨((if_pos c_1).trans (if_neg c_4)), gPE_0 _ hp⟩))) (gv_c (fun c_4 => ?_))
    refine g_iload_n F 3 rfl rfl dX1_run_30 ?_
    refine g_cases (x := what) (98 : Int32) (fun w_5 => ?_) (fun w_5 => ?_)
    · skip
      refine g_tableIn F (x := what) (by rw [w_5]; decide) (by rw [w_5]; decide) (off := 76) (by rw [w_5]; rfl) (tgt := 107) (by decide) dX1_run_31 ?_
      refine g_aload_n F 0 rfl rfl dX1_run_107 ?_
      refine g_getN F clX13 6 (by decide) (gT_w q1093 rfl) (v := .int (S.1 10 run.toNatClampNeg 4)) (gd_get (pr_at (κ := 10) (i := run.toNatClampNeg) (by decide) (gc6 (by decide) c_1.2) (gce rfl rfl)) rfl) dX1_run_108 ?_
      refine g_goto F (tgt := 146) (by decide) dX1_run_111 ?_
      exact g_retI F E rfl rfl (gle rfl) (gle rfl) dX1_run_146 (fun _ hp => ⟨_, _, ((if_pos c_1).trans ((if_pos c_4).trans (if_pos w_5))), rfl, ⟨_, rfl, gP_T0 hp⟩⟩)
    refine g_cases (x := what) (99 : Int32) (fun w_6 => ?_) (fun w_6 => ?_)
    · skip
      refine g_tableIn F (x := what) (by rw [w_6]; decide) (by rw [w_6]; decide) (off := 83) (by rw [w_6]; rfl) (tgt := 114) (by decide) dX1_run_31 ?_
      refine g_aload_n F 0 rfl rfl dX1_run_114 ?_
      refine g_getN F clX13 7 (by decide) (gT_w q1094 rfl) (v := .int (S.1 10 run.toNatClampNeg 7)) (gd_get (pr_at (κ := 10) (i := run.toNatClampNeg) (by decide) (gc6 (by decide) c_1.2) (gce rfl rfl)) rfl) dX1_run_115 ?_
      refine g_goto F (tgt := 146) (by decide) dX1_run_118 ?_
      exact g_retI F E rfl rfl (gle rfl) (gle rfl) dX1_run_146 (fun _ hp => ⟨_, _, ((if_pos c_1).trans ((if_pos c_4).trans ((if_neg w_5).trans (if_pos w_6)))), rfl, ⟨_, rfl, gP_T0 hp⟩⟩)
    refine g_cases (x := what) (103 : Int32) (fun w_7 => ?_) (fun w_7 => ?_)
    · skip
      refine g_tableIn F (x := what) (by rw [w_7]; decide) (by rw [w_7]; decide) (off := 97) (by rw [w_7]; rfl) (tgt := 128) (by decide) dX1_run_31 ?_
      refine g_aload_n F 0 rfl rfl dX1_run_128 ?_
      refine g_getN F clX13 9 (by decide) (gT_w q1099 rfl) (v := .int (S.1 10 run.toNatClampNeg 9)) (gd_get (pr_at (κ := 10) (i := run.toNatClampNeg) (by decide) (gc6 (by decide) c_1.2) (gce rfl rfl)) rfl) dX1_run_129 ?_
      refine g_goto F (tgt := 146) (by decide) dX1_run_132 ?_
      exact g_retI F E rfl rfl (gle rfl) (gle rfl) dX1_run_146 (fun _ hp => ⟨_, _, ((if_pos c_1).trans ((if_pos c_4).trans ((if_neg w_5).trans ((if_neg w_6).trans (if_pos w_7))))), rfl, ⟨_, rfl, gP_T0 hp⟩⟩)
    refine g_cases (x := what) (108 : Int32) (fun w_8 => ?_) (fun w_8 => ?_)
    · skip
      refine g_tableIn F (x := what) (by rw [w_8]; decide) (by rw [w_8]; decide) (off := 90) (by rw [w_8]; rfl) (tgt := 121) (by decide) dX1_run_31 ?_
      refine g_aload_n F 0 rfl rfl dX1_run_121 ?_
      refine g_getN F clX13 8 (by decide) (gT_w q1096 rfl) (v := .int (S.1 10 run.toNatClampNeg 8)) (gd_get (pr_at (κ := 10) (i := run.toNatClampNeg) (by decide) (gc6 (by decide) c_1.2) (gce rfl rfl)) rfl) dX1_run_122 ?_
      refine g_goto F (tgt := 146) (by decide) dX1_run_125 ?_
      exact g_retI F E rfl rfl (gle rfl) (gle rfl) dX1_run_146 (fun _ hp => ⟨_, _, ((if_pos c_1).trans ((if_pos c_4).trans ((if_neg w_5).trans ((if_neg w_6).trans ((if_neg w_7).trans (if_pos w_8)))))), rfl, ⟨_, rfl, gP_T0 hp⟩⟩)
    refine g_cases (x := what) (110 : Int32) (fun w_9 => ?_) (fun w_9 => ?_)
    · skip
      refine g_tableIn F (x := what) (by rw [w_9]; decide) (by rw [w_9]; decide) (off := 69) (by rw [w_9]; rfl) (tgt := 100) (by decide) dX1_run_31 ?_
      refine g_aload_n F 0 rfl rfl dX1_run_100 ?_
      refine g_getN F clX13 5 (by decide) (gT_w q1091 rfl) (v := .int (S.1 10 run.toNatClampNeg 3)) (gd_get (pr_at (κ := 10) (i := run.toNatClampNeg) (by decide) (gc6 (by decide) c_1.2) (gce rfl rfl)) rfl) dX1_run_101 ?_
      refine g_goto F (tgt := 146) (by decide) dX1_run_104 ?_
      exact g_retI F E rfl rfl (gle rfl) (gle rfl) dX1_run_146 (fun _ hp => ⟨_, _, ((if_pos c_1).trans ((if_pos c_4).trans ((if_neg w_5).trans ((if_neg w_6).trans ((if_neg w_7).trans ((if_neg w_8).trans (if_pos w_9))))))), rfl, ⟨_, rfl, gP_T0 hp⟩⟩)
    refine g_cases (x := what) (111 : Int32) (fun w_10 => ?_) (fun w_10 => ?_)
    · skip
      refine g_tableIn F (x := what) (by rw [w_10]; decide) (by rw [w_10]; decide) (off := 104) (by rw [w_10]; rfl) (tgt := 135) (by decide) dX1_run_31 ?_
      refine g_aload_n F 0 rfl rfl dX1_run_135 ?_
      refine g_getN F clX13 4 (by decide) (gT_w q1089 rfl) (v := .int (S.1 10 run.toNatClampNeg 5)) (gd_get (pr_at (κ := 10) (i := run.toNatClampNeg) (by decide) (gc6 (by decide) c_1.2) (gce rfl rfl)) rfl) dX1_run_136 ?_
      refine g_goto F (tgt := 146) (by decide) dX1_run_139 ?_
      exact g_retI F E rfl rfl (gle rfl) (gle rfl) dX1_run_146 (fun _ hp => ⟨_, _, ((if_pos c_1).trans ((if_pos c_4).trans ((if_neg w_5).trans ((if_neg w_6).trans ((if_neg w_7).trans ((if_neg w_8).trans ((if_neg w_9).trans (if_pos w_10)))))))), rfl, ⟨_, rfl, gP_T0 hp⟩⟩)
    refine g_tableD F (x := what) [0, 1, 5, 10, 12, 13] (by decide) (by decide) (gAc (fun q => w_5 (Int32.toInt_inj.mp (q.trans (by decide)))) (gAc (fun q => w_6 (Int32.toInt_inj.mp (q.trans (by decide)))) (gAc (fun q => w_7 (Int32.toInt_inj.mp (q.trans (by decide)))) (gAc (fun q => w_8 (Int32.toInt_inj.mp (q.trans (by decide)))) (gAc (fun q => w_9 (Int32.toInt_inj.mp (q.trans (by decide)))) (gAc (fun q => w_10 (Int32.toInt_inj.mp (q.trans (by decide)))) gAn)))))) (tgt := 142) (by decide) dX1_run_31 ?_
    refine g_aload_n F 0 rfl rfl dX1_run_142 ?_
    refine g_getN F clX13 10 (by decide) (gT_w q1100 rfl) (v := .int (S.1 10 run.toNatClampNeg 6)) (gd_get (pr_at (κ := 10) (i := run.toNatClampNeg) (by decide) (gc6 (by decide) c_1.2) (gce rfl rfl)) rfl) dX1_run_143 ?_
    exact g_retI F E rfl rfl (gle rfl) (gle rfl) dX1_run_146 (fun _ hp => ⟨_, _, ((if_pos c_1).trans ((if_pos c_4).trans ((if_neg w_5).trans ((if_neg w_6).trans ((if_neg w_7).trans ((if_neg w_8).trans ((if_neg w_9).trans (if_neg w_10)))))))), rfl, ⟨_, rfl, gP_T0 hp⟩⟩)
  refine g_if_lt F (tgt := 26) (by decide) dX1_run_19 (fun c_2 => ?_) (fun c_2 => ?_)
  · skip
    refine g_iconst F (v := (0 : Int32)) (by decide) dX1_run_26 ?_
    exact g_top (gb_f (fun q => q c_2)) J_3
  · skip
    refine g_iconst F (v := (1 : Int32)) (by decide) dX1_run_22 ?_
    refine g_goto F (tgt := 27) (by decide) dX1_run_23 ?_
    exact g_top (gb_t c_2) J_3
