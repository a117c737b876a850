def sC_shaft (S : gS) (c : Prop) [Decidable c] : gO := .inr (.int (S.1 0 0 1), (gsr S.1 0 0 (upd (S.1 0 0) 1 (gb c)), S.2))
theorem kX1_shaft {l : Launch} {G : gG} (hl : l.stackTraces = false) {S : gS} {a0 : Nat} {Fr : gH → Prop} (hF : gFr 0 Fr) (hW : gWf S) {c : Prop} [Decidable c]  : gMet l yX1_shaft (ws_ yX1_shaft cX1_shaft 3 (some .boolean)) ⟨0, 0, 0, 0⟩ G [.ref a0, .int (gb c)] (gPE 0 G S a0 Fr) (gqS (sC_shaft S c) 0 G a0 Fr) (gxS (sC_shaft S c) 0 G S a0 Fr) := by
  refine gMet_of hl pnX1 (gle rfl) (fun X Q hX F E hNm => ?_)
  subst hX
  change gW (X, G, 3, Q) (gPE 0 G S a0 Fr) [(0, .ref a0), (1, .int (gb c))] 0 [] 0 0
  refine g_pe (fun A hA => ?_)
  subst hA
  change gW _ _ [(0, .ref (A 0 0)), (1, .int (gb c))] 0 [] 0 0
  refine g_aload_n F 0 rfl rfl dX1_shaft_0 ?_
  refine g_get F clX1 1 (by decide) q136 (v := .int (S.1 0 0 1)) (gd_get (pr_at (κ := 0) (i := 0) (by decide) (gc1 (gnl rfl)) (gce rfl rfl)) rfl) dX1_shaft_1 ?_
  refine g_istore_n F rfl (by show 2 < 3; decide) (lv2 := [(2, .int (S.1 0 0 1)), (0, .ref (A 0 0)), (1, .int (gb c))]) rfl dX1_shaft_4 ?_
  refine g_aload_n F 1 rfl rfl dX1_shaft_5 ?_
  refine g_iload_n F 2 rfl rfl dX1_shaft_6 ?_
  refine g_put (P2 := gP 0 G (gsr S.1 0 0 (upd (S.1 0 0) 1 (gb c)), S.2) A Fr []) F clX1 1 (by decide) q136 rfl gb_z gb_fit (pr_put (κ := 0) (i := 0) gM0 hF (upd (S.1 0 0) 1 (gb c)) (by decide) (gc1 (gnl rfl)) (gce rfl rfl) (gnl rfl) rfl) dX1_shaft_7 ?_
  refine g_iload_n F 0 rfl rfl dX1_shaft_10 ?_
  exact g_retI F E rfl (gBl_n (gw_b hW)) (gle rfl) (gle rfl) dX1_shaft_11 (fun _ hp => ⟨_, _, rfl, rfl, ⟨A, rfl, gP_T0 hp⟩⟩)

def sC_on (S : gS) (ch : Int32) (c : Prop) [Decidable c] : gO := if ¬ gidx 0 ch < 0 then (.inr (.int (S.1 2 0 ((gidx 0 ch).toNatClampNeg)), (gsr S.1 2 0 (upd (S.1 2 0) ((gidx 0 ch).toNatClampNeg) (gb c)), S.2))) else (.inl "java/lang/IllegalArgumentException")
theorem kX1_on {l : Launch} {G : gG} (hl : l.stackTraces = false) {S : gS} {a0 : Nat} {Fr : gH → Prop} (hF : gFr 0 Fr) (hW : gWf S) {ch : Int32} {c : Prop} [Decidable c] (h_ch : ¬ ch < 0) : gMet l yX1_on (ws_ yX1_on cX1_on 5 (some .boolean)) ⟨8, 1, 6, 122⟩ G [.ref a0, .int ch, .int (gb c)] (gPE 0 G S a0 Fr) (gqS (sC_on S ch c) 0 G a0 Fr) (gxS (sC_on S ch c) 0 G S a0 Fr) := by
  refine gMet_of hl pnX1 (gle rfl) (fun X Q hX F E hNm => ?_)
  subst hX
  change gW (X, G, 5, Q) (gPE 0 G S a0 Fr) [(0, .ref a0), (1, .int ch), (2, .int (gb c))] 0 [] 0 0
  refine g_pe (fun A hA => ?_)
  subst hA
  change gW _ _ [(0, .ref (A 0 0)), (1, .int ch), (2, .int (gb c))] 0 [] 0 0
  refine g_iload_n F 1 rfl rfl dX1_on_0 ?_
  refine g_callS F (kX1_requireMachine hl (ch := ch) h_ch) (lw_S q432 q433 q18 q434) myX1_requireMachine ⟨by decide, by decide⟩ rfl rfl (gle rfl) 1 6 (gle rfl) (gle rfl) (gle rfl) (gle rfl) dX1_on_1 (gx_1 (fun c_1 => g_out0 F E (gle rfl) (gle rfl) (fun _ hp => ⟨(if_neg c_1), gPE_0 _ hp⟩))) (gv_y (fun c_1 => ?_))
  refine g_istore_n F rfl (by show 3 < 5; decide) (lv2 := [(3, .int (gidx 0 ch)), (0, .ref (A 0 0)), (1, .int ch), (2, .int (gb c))]) rfl dX1_on_4 ?_
  refine g_aload_n F 1 rfl rfl dX1_on_5 ?_
  refine g_get F clX1 3 (by decide) q138 (v := .ref (A 2 0)) (gd_get (pr_at (κ := 0) (i := 0) (by decide) (gc1 (gnl rfl)) (gce rfl rfl)) rfl) dX1_on_6 ?_
  refine g_iload_n F 0 rfl rfl dX1_on_9 ?_
  refine g_zald F (gidx_vp (i := 0) (by decide) c_1) (pr_at (κ := 2) (i := 0) (by decide) (gc1 (gnl rfl)) (gce rfl rfl)) dX1_on_10 ?_
  change gW _ _ _ _ (.int (S.1 2 0 ((gidx 0 ch).toNatClampNeg)) :: _) _ _
  refine g_istore F (by show 4 < 5; decide) (lv2 := [(4, .int (S.1 2 0 ((gidx 0 ch).toNatClampNeg))), (3, .int (gidx 0 ch)), (0, .ref (A 0 0)), (1, .int ch), (2, .int (gb c))]) rfl dX1_on_11 ?_
  refine g_aload_n F 2 rfl rfl dX1_on_13 ?_
  refine g_get F clX1 3 (by decide) q138 (v := .ref (A 2 0)) (gd_get (pr_at (κ := 0) (i := 0) (by decide) (gc1 (gnl rfl)) (gce rfl rfl)) rfl) dX1_on_14 ?_
  refine g_iload_n F 1 rfl rfl dX1_on_17 ?_
  refine g_iload_n F 4 rfl rfl dX1_on_18 ?_
  refine g_zast (P2 := gP 0 G (gsr S.1 2 0 (upd (S.1 2 0) ((gidx 0 ch).toNatClampNeg) (gb c)), S.2) A Fr []) F (gidx_vp (i := 0) (by decide) c_1) gb_zn (pr_setRow (κ := 2) (i := 0) gM0 hF (upd (S.1 2 0) ((gidx 0 ch).toNatClampNeg) (gb c)) (by decide) (gc1 (gnl rfl)) (gce rfl rfl) rfl) dX1_on_19 ?_
  refine g_iload F 0 rfl dX1_on_20 ?_
  exact g_retI F E rfl (gBl_n (gw_on hW (gidx_in (i := 0) (by decide) c_1).2)) (gle rfl) (gle rfl) dX1_on_22 (fun _ hp => ⟨_, _, (if_pos c_1), rfl, ⟨A, rfl, gP_T0 hp⟩⟩)

def sC_runs (S : gS) (ch : Int32) : gO := if ¬ gidx 0 ch < 0 then (if gGoes S (gidx 0 ch) then (.inr (.int (1 : Int32), S)) else (.inr (.int (0 : Int32), S))) else (.inl "java/lang/IllegalArgumentException")
theorem kX1_runs {l : Launch} {G : gG} (hl : l.stackTraces = false) {S : gS} {a0 : Nat} {Fr : gH → Prop} (hF : gFr 0 Fr) (hW : gWf S) {ch : Int32} (h_ch : ¬ ch < 0) : gMet l yX1_runs (wsW_ yX1_runs cX1_runs 4 (some .boolean) [((5 : Nat), (11 : Nat), (12 : Nat), (144 : Nat))]) ⟨10, 16, 61, 206⟩ G [.ref a0, .int ch] (gPE 0 G S a0 Fr) (gqS (sC_runs S ch) 0 G a0 Fr) (gxS (sC_runs S ch) 0 G S a0 Fr) := by
  refine gMet_ofW hl pnX1 (gle rfl) (fun X Q hX F E hNm => ?_)
  subst hX
  change gW (X, G, 4, Q) (gPE 0 G S a0 Fr) [(0, .ref a0), (1, .int ch)] 0 [] 0 0
  refine g_pe (fun A hA => ?_)
  subst hA
  change gW _ _ [(0, .ref (A 0 0)), (1, .int ch)] 0 [] 0 0
  refine g_iload_n F 1 rfl rfl dX1_runs_0 ?_
  refine g_callS F (kX1_requireMachine hl (ch := ch) h_ch) (lw_S q432 q433 q18 q434) myX1_requireMachine ⟨by decide, by decide⟩ rfl rfl (gle rfl) 1 6 (gle rfl) (gle rfl) (gle rfl) (gle rfl) dX1_runs_1 (gx_1 (fun c_1 => g_out F E (gpass (by decide)) (gle rfl) (gle rfl) (fun _ hp => ⟨(if_neg c_1), gPE_0 _ hp⟩))) (gv_y (fun c_1 => ?_))
  refine g_istore_n F rfl (by show 2 < 4; decide) (lv2 := [(2, .int (gidx 0 ch)), (0, .ref (A 0 0)), (1, .int ch)]) rfl dX1_runs_4 ?_
  refine g_aload_n F 1 rfl rfl dX1_runs_5 ?_
  refine g_iload_n F 0 rfl rfl dX1_runs_6 ?_
  refine g_callVW F (kX1_drive_4 hl hF (gw_d hW) (Or.inr (gidx_in (i := 0) (by decide) c_1)) (gDrv_e (gw_d hW) (gidx_in (i := 0) (by decide) c_1))) (g_recv F clX1 (gd_obj (pr_at (κ := 0) (i := 0) (by decide) (gc1 (gnl rfl)) (gce rfl rfl)))) q565 q567 qs2 q18 q568 myX1_drive ⟨by decide, by decide⟩ rfl rfl (gle rfl) 16 61 (gle rfl) (gle rfl) (gle rfl) (gle rfl) dX1_runs_7 (gx_1 (fun c_2 => g_catchS F [] _ [] rfl (fun z hz => by cases hz) (by decide) (by decide) q564 (tgt := 12) rfl (fun q9 => ?_))) (gv_c (fun c_2 => ?_))
  · skip
    refine g_astore_n F rfl (by show 3 < 4; decide) (lv2 := [(3, .ref q9), (2, .int (gidx 0 ch)), (0, .ref (A 0 0)), (1, .int ch)]) rfl dX1_runs_12 ?_
    refine g_iconst F (v := (0 : Int32)) (by decide) dX1_runs_13 ?_
    exact g_retI F E rfl rfl (gle rfl) (gle rfl) dX1_runs_14 (fun _ hp => ⟨_, _, ((if_pos c_1).trans (if_neg c_2)), rfl, ⟨A, rfl, gP_T0 hp⟩⟩)
  · skip
    refine g_iconst F (v := (1 : Int32)) (by decide) dX1_runs_10 ?_
    exact g_retI F E rfl rfl (gle rfl) (gle rfl) dX1_runs_11 (fun _ hp => ⟨_, _, ((if_pos c_1).trans (if_pos c_2)), rfl, ⟨A, rfl, gP_T0 hp⟩⟩)

theorem kX1_runsI {l : Launch} {G : gG} (hl : l.stackTraces = false) {S : gS} {A : Nat → Nat → Nat} {Fr : gH → Prop} (hF : gFr 0 Fr) (hW : gWf S) {ch : Int32} (h_ch : ¬ ch < 0) : gMet l yX1_runs (wsW_ yX1_runs cX1_runs 4 (some .boolean) [((5 : Nat), (11 : Nat), (12 : Nat), (144 : Nat))]) ⟨10, 16, 61, 206⟩ G [.ref (A 0 0), .int ch] (gP 0 G S A Fr []) (gqY (¬ gidx 0 ch < 0) (.int (gb (gGoes S (gidx 0 ch)))) (gP 0 G S A Fr [])) (gx1 "java/lang/IllegalArgumentException" (¬ ¬ gidx 0 ch < 0) (gP 0 G S A Fr [])) := by
  refine gMet_ofW hl pnX1 (gle rfl) (fun X Q hX F E hNm => ?_)
  subst hX
  change gW (X, G, 4, Q) (gP 0 G S A Fr []) [(0, .ref (A 0 0)), (1, .int ch)] 0 [] 0 0
  refine g_iload_n F 1 rfl rfl dX1_runs_0 ?_
  refine g_callS F (kX1_requireMachine hl (ch := ch) h_ch) (lw_S q432 q433 q18 q434) myX1_requireMachine ⟨by decide, by decide⟩ rfl rfl (gle rfl) 1 6 (gle rfl) (gle rfl) (gle rfl) (gle rfl) dX1_runs_1 (gx_1 (fun c_1 => g_out F E (gpass (by decide)) (gle rfl) (gle rfl) (fun _ hp => ⟨rfl, c_1, hp⟩))) (gv_y (fun c_1 => ?_))
  refine g_istore_n F rfl (by show 2 < 4; decide) (lv2 := [(2, .int (gidx 0 ch)), (0, .ref (A 0 0)), (1, .int ch)]) rfl dX1_runs_4 ?_
  refine g_aload_n F 1 rfl rfl dX1_runs_5 ?_
  refine g_iload_n F 0 rfl rfl dX1_runs_6 ?_
  refine g_callVW F (kX1_drive_4 hl hF (gw_d hW) (Or.inr (gidx_in (i := 0) (by decide) c_1)) (gDrv_e (gw_d hW) (gidx_in (i := 0) (by decide) c_1))) (g_recv F clX1 (gd_obj (pr_at (κ := 0) (i := 0) (by decide) (gc1 (gnl rfl)) (gce rfl rfl)))) q565 q567 qs2 q18 q568 myX1_drive ⟨by decide, by decide⟩ rfl rfl (gle rfl) 16 61 (gle rfl) (gle rfl) (gle rfl) (gle rfl) dX1_runs_7 (gx_1 (fun c_2 => g_catchS F [] _ [] rfl (fun z hz => by cases hz) (by decide) (by decide) q564 (tgt := 12) rfl (fun q9 => ?_))) (gv_c (fun c_2 => ?_))
  · skip
    refine g_astore_n F rfl (by show 3 < 4; decide) (lv2 := [(3, .ref q9), (2, .int (gidx 0 ch)), (0, .ref (A 0 0)), (1, .int ch)]) rfl dX1_runs_12 ?_
    refine g_iconst F (v := (0 : Int32)) (by decide) dX1_runs_13 ?_
    exact g_retI F E rfl rfl (gle rfl) (gle rfl) dX1_runs_14 (fun _ hp => ⟨by rw [gb_f (c := gGoes S (gidx 0 ch)) c_2], c_1, hp⟩)
  · skip
    refine g_iconst F (v := (1 : Int32)) (by decide) dX1_runs_10 ?_
    exact g_retI F E rfl rfl (gle rfl) (gle rfl) dX1_runs_11 (fun _ hp => ⟨by rw [gb_t (c := gGoes S (gidx 0 ch)) c_2], c_1, hp⟩)

def sC_groove (S : gS) (slats width : Int32) : gO := if gIn slats (S.2 9) then (if ¬ width < (5 : Int32) ∧ ¬ (30 : Int32) < width then (if ¬ ((S.1 0 0 0) < (S.1 9 slats.toNatClampNeg 5)) ∧ (¬ ((10 : Int32) < (S.1 9 slats.toNatClampNeg 2)) ∧ (((S.1 9 slats.toNatClampNeg 4) = 0) ∧ (gGoes S 2))) then (.inr (.int (S.1 9 slats.toNatClampNeg 3), (gsr S.1 9 slats.toNatClampNeg (upd (S.1 9 slats.toNatClampNeg) 4 width), S.2))) else (.inl "java/lang/UnsupportedOperationException")) else (.inl "java/lang/IllegalArgumentException")) else (.inl "java/lang/IndexOutOfBoundsException")
theorem kX1_groove {l : Launch} {G : gG} (hl : l.stackTraces = false) {S : gS} {a0 : Nat} {Fr : gH → Prop} (hF : gFr 0 Fr) (hW : gWf S) {slats width : Int32}  : gMet l yX1_groove (ws_ yX1_groove cX1_groove 4 (some .int)) ⟨11, 20, 80, 229⟩ G [.ref a0, .int slats, .int width] (gPE 0 G S a0 Fr) (gqS (sC_groove S slats width) 0 G a0 Fr) (gxS (sC_groove S slats width) 0 G S a0 Fr) := by
  refine gMet_of hl pnX1 (gle rfl) (fun X Q hX F E hNm => ?_)
  subst hX
  change gW (X, G, 4, Q) (gPE 0 G S a0 Fr) [(0, .ref a0), (1, .int slats), (2, .int width)] 0 [] 0 0
  refine g_pe (fun A hA => ?_)
  subst hA
  change gW _ _ [(0, .ref (A 0 0)), (1, .int slats), (2, .int width)] 0 [] 0 0
  refine g_aload_n F 0 rfl rfl dX1_groove_0 ?_
  refine g_get F clX1 12 (by decide) q147 (v := .ref (A 309 0)) (gd_get (pr_at (κ := 0) (i := 0) (by decide) (gc1 (gnl rfl)) (gce rfl rfl)) rfl) dX1_groove_1 ?_
  refine g_iload_n F 1 rfl rfl dX1_groove_4 ?_
  refine g_callS F (kX1_require hl (pr_ls (M := 0) (S := S) (A := A) (κ := 9) (by decide) (Or.inl ⟨by decide, by decide⟩) (fun q => by first | decide | exact absurd q (by decide)) (fun q => by first | decide | exact absurd q (by decide))) (gw_n hW _) (x := slats)) (lw_S q784 q785 q18 q786) myX1_require ⟨by decide, by decide⟩ rfl rfl (gle rfl) 1 6 (gle rfl) (gle rfl) (gle rfl) (gle rfl) dX1_groove_5 (gx_1 (fun c_1 => g_out0 F E (gle rfl) (gle rfl) (fun _ hp => ⟨(if_neg c_1), gPE_0 _ hp⟩))) (gv_y (fun c_1 => ?_))
  refine g_castS F (g_recv F clX11 (gd_obj (pr_at (κ := 9) (i := slats.toNatClampNeg) (by decide) (gc6 (by decide) c_1.2) (gce rfl rfl)))) q1003 dX1_groove_8 ?_
  refine g_astore_n F rfl (by show 3 < 4; decide) (lv2 := [(3, .ref (A 9 slats.toNatClampNeg)), (0, .ref (A 0 0)), (1, .int slats), (2, .int width)]) rfl dX1_groove_11 ?_
  refine g_iconst F (v := (5 : Int32)) (by decide) dX1_groove_12 ?_
  refine g_bipush F (v := (30 : Int32)) (by decide) dX1_groove_13 ?_
  refine g_iconst F (v := (1 : Int32)) (by decide) dX1_groove_15 ?_
  refine g_newI F (5000, 0) (N := 1) rfl (by decide) 2 7 (gle rfl) (gle rfl) (gle rfl) (gle rfl) (Pa := fun a_2 => gP 0 G S A Fr [(a_2, gIA G 1 (fun _ => 0))]) (pr_new hF) dX1_groove_16 (fun a_2 => ?_)
  refine g_dup F rfl dX1_groove_18 ?_
  refine g_iconst F (v := (0 : Int32)) (by decide) dX1_groove_19 ?_
  refine g_iload_n F 3 rfl rfl dX1_groove_20 ?_
  refine g_iastN (P2 := gP 0 G S A Fr [(a_2, gIA G 1 (upd (fun _ => 0) 0 width))]) F (m := 0) rfl (by decide) (by decide) (pr_setT gM0 hF (j := 0) rfl) dX1_groove_21 ?_
  refine g_callS F (kX1_isIn hl (pr_atT (j := 0) rfl)) (lw_S q305 q306 q18 q307) myX1_isIn ⟨by decide, by decide⟩ rfl rfl (gle rfl) 2 7 (gle rfl) (gle rfl) (gle rfl) (gle rfl) dX1_groove_22 gx_n (gv_i ?_)
  refine g_top (show _ = gb (¬ width < (5 : Int32) ∧ ¬ (30 : Int32) < width) from rfl) ?_
  refine g_mono (P2 := gP 0 G S A Fr []) (fun _ hp => gP_Tl 0 hp) ?_
  refine g_callS F (kX1_requireArgument hl (c := ¬ width < (5 : Int32) ∧ ¬ (30 : Int32) < width)) (lw_S q335 q336 q18 q337) myX1_requireArgument ⟨by decide, by decide⟩ rfl rfl (gle rfl) 3 13 (gle rfl) (gle rfl) (gle rfl) (gle rfl) dX1_groove_25 (gx_1 (fun c_3 => g_out0 F E (gle rfl) (gle rfl) (fun _ hp => ⟨((if_pos c_1).trans (if_neg c_3)), gPE_0 _ hp⟩))) (gv_c (fun c_3 => ?_))
  refine g_aload_n F 1 rfl rfl dX1_groove_28 ?_
  refine g_get F clX1 0 (by decide) q135 (v := .int (S.1 0 0 0)) (gd_get (pr_at (κ := 0) (i := 0) (by decide) (gc1 (gnl rfl)) (gce rfl rfl)) rfl) dX1_groove_29 ?_
  refine g_aload_n F 0 rfl rfl dX1_groove_32 ?_
  refine g_getN F clX11 6 (by decide) (gT_w q1021 rfl) (v := .int (S.1 9 slats.toNatClampNeg 5)) (gd_get (pr_at (κ := 9) (i := slats.toNatClampNeg) (by decide) (gc6 (by decide) c_1.2) (gce rfl rfl)) rfl) dX1_groove_33 ?_
  have J_9 : gW (X, G, 4, Q) (gP 0 G S A Fr []) [(3, .ref (A 9 slats.toNatClampNeg)), (0, .ref (A 0 0)), (1, .int slats), (2, .int width)] 69 [.int (gb (¬ ((S.1 0 0 0) < (S.1 9 slats.toNatClampNeg 5)) ∧ (¬ ((10 : Int32) < (S.1 9 slats.toNatClampNeg 2)) ∧ (((S.1 9 slats.toNatClampNeg 4) = 0) ∧ (gGoes S 2)))))] 19 74 := by
    refine g_callS F (kX1_requireSupported hl (c := ¬ ((S.1 0 0 0) < (S.1 9 slats.toNatClampNeg 5)) ∧ (¬ ((10 : Int32) < (S.1 9 slats.toNatClampNeg 2)) ∧ (((S.1 9 slats.toNatClampNeg 4) = 0) ∧ (gGoes S 2))))) (lw_S q512 q513 q18 q514) myX1_requireSupported ⟨by decide, by decide⟩ rfl rfl (gle rfl) 20 80 (gle rfl) (gle rfl) (gle rfl) (gle rfl) dX1_groove_69 (gx_1 (fun c_10 => g_out0 F E (gle rfl) (gle rfl) (fun _ hp => ⟨((if_pos c_1).trans ((if_pos c_3).trans (if_neg c_10))), gPE_0 _ hp⟩))) (gv_c (fun c_10 => ?_))
    refine g_aload_n F 0 rfl rfl dX1_groove_72 ?_
    refine g_iload_n F 3 rfl rfl dX1_groove_73 ?_
    refine g_putN (P2 := gP 0 G (gsr S.1 9 slats.toNatClampNeg (upd (S.1 9 slats.toNatClampNeg) 4 width), S.2) A Fr []) F clX11 5 (by decide) (gT_w q1020 rfl) rfl rfl rfl (pr_put (κ := 9) (i := slats.toNatClampNeg) gM0 hF (upd (S.1 9 slats.toNatClampNeg) 4 width) (by decide) (gc6 (by decide) c_1.2) (gce rfl rfl) (gnl rfl) rfl) dX1_groove_74 ?_
    refine g_aload_n F 0 rfl rfl dX1_groove_77 ?_
    refine g_getN F clX11 4 (by decide) (gT_w q1018 rfl) (v := .int (S.1 9 slats.toNatClampNeg 3)) (gd_get (pr_at (κ := 9) (i := slats.toNatClampNeg) (by decide) (gc6 (by decide) c_1.2) (gce (show (gsr S.1 9 slats.toNatClampNeg (upd (S.1 9 slats.toNatClampNeg) 4 width)) 9 slats.toNatClampNeg = upd (S.1 9 slats.toNatClampNeg) 4 width from gsr_s) rfl)) rfl) dX1_groove_78 ?_
    exact g_retI F E rfl rfl (gle rfl) (gle rfl) dX1_groove_81 (fun _ hp => ⟨_, _, ((if_pos c_1).trans ((if_pos c_3).trans (if_pos c_10))), rfl, ⟨A, rfl, gP_T0 hp⟩⟩)
  refine g_icmp_lt F (tgt := 68) (by decide) dX1_groove_36 (fun c_4 => ?_) (fun c_4 => ?_)
  · skip
    refine g_iconst F (v := (0 : Int32)) (by decide) dX1_groove_68 ?_
    exact g_widen (by decide) (by decide) <| g_top (gb_f (fun q => q.1 c_4)) J_9
  · skip
    refine g_aload_n F 0 rfl rfl dX1_groove_39 ?_
    refine g_getN F clX11 3 (by decide) (gT_w q1016 rfl) (v := .int (S.1 9 slats.toNatClampNeg 2)) (gd_get (pr_at (κ := 9) (i := slats.toNatClampNeg) (by decide) (gc6 (by decide) c_1.2) (gce rfl rfl)) rfl) dX1_groove_40 ?_
    refine g_bipush F (v := (10 : Int32)) (by decide) dX1_groove_43 ?_
    refine g_icmp_gt F (tgt := 68) (by decide) dX1_groove_45 (fun c_5 => ?_) (fun c_5 => ?_)
    · skip
      refine g_iconst F (v := (0 : Int32)) (by decide) dX1_groove_68 ?_
      exact g_widen (by decide) (by decide) <| g_top (gb_f (fun q => (fun q => q.1 c_5) q.2)) J_9
    · skip
      refine g_aload_n F 0 rfl rfl dX1_groove_48 ?_
      refine g_getN F clX11 5 (by decide) (gT_w q1020 rfl) (v := .int (S.1 9 slats.toNatClampNeg 4)) (gd_get (pr_at (κ := 9) (i := slats.toNatClampNeg) (by decide) (gc6 (by decide) c_1.2) (gce rfl rfl)) rfl) dX1_groove_49 ?_
      refine g_if_ne F (tgt := 68) (by decide) dX1_groove_52 (fun c_6 => ?_) (fun c_6 => ?_)
      · skip
        refine g_iconst F (v := (0 : Int32)) (by decide) dX1_groove_68 ?_
        exact g_widen (by decide) (by decide) <| g_top (gb_f (fun q => (fun q => (fun q => c_6 q.1) q.2) q.2)) J_9
      · skip
        refine g_aload_n F 1 rfl rfl dX1_groove_55 ?_
        refine g_bipush F (v := (103 : Int32)) (by decide) dX1_groove_56 ?_
        refine g_callVW F (kX1_runsI hl hF hW (ch := (103 : Int32)) (by decide)) (g_recv F clX1 (gd_obj (pr_at (κ := 0) (i := 0) (by decide) (gc1 (gnl rfl)) (gce rfl rfl)))) q830 q561 q562 q18 q563 myX1_runs ⟨by decide, by decide⟩ rfl rfl (gle rfl) 19 74 (gle rfl) (gle rfl) (gle rfl) (gle rfl) dX1_groove_58 (gx_1 (fun c_7 => (c_7 (by decide +kernel)).elim)) (gv_y (fun c_7 => ?_))
        refine g_top (show _ = gb (gGoes S 2) by rw [show gidx 0 (103 : Int32) = (2 : Int32) from by decide +kernel]) ?_
        refine gb_if_eq F (tgt := 68) (by decide) dX1_groove_61 (fun c_8 => ?_) (fun c_8 => ?_)
        · skip
          refine g_iconst F (v := (0 : Int32)) (by decide) dX1_groove_68 ?_
          exact g_top (gb_f (fun q => (fun q => (fun q => c_8 q.2) q.2) q.2)) J_9
        · skip
          refine g_iconst F (v := (1 : Int32)) (by decide) dX1_groove_64 ?_
          refine g_goto F (tgt := 69) (by decide) dX1_groove_65 ?_
          exact g_top (gb_t (⟨c_4, ⟨c_5, ⟨c_6, c_8⟩⟩⟩)) J_9

def sC_coat (S : gS) (run colour : Int32) : gO := if gIn run (S.2 10) then (if ¬ colour < (0 : Int32) ∧ ¬ (9 : Int32) < colour then (if ¬ ((S.1 0 0 0) < (S.1 10 run.toNatClampNeg 6)) ∧ (¬ ((8 : Int32) ≤ (S.1 10 run.toNatClampNeg 7)) ∧ (gGoes S 3)) then (.inr (.int ((S.1 10 run.toNatClampNeg 7) + (1 : Int32)), (gsr (gsr (gsr S.1 10 run.toNatClampNeg (upd (S.1 10 run.toNatClampNeg) 7 ((S.1 10 run.toNatClampNeg 7) + (1 : Int32)))) 10 run.toNatClampNeg (upd (upd (S.1 10 run.toNatClampNeg) 7 ((S.1 10 run.toNatClampNeg 7) + (1 : Int32))) 8 colour)) 10 run.toNatClampNeg (upd (upd (upd (S.1 10 run.toNatClampNeg) 7 ((S.1 10 run.toNatClampNeg 7) + (1 : Int32))) 8 colour) 6 ((S.1 0 0 0) + (8 : Int32))), S.2))) else (.inl "java/lang/UnsupportedOperationException")) else (.inl "java/lang/IllegalArgumentException")) else (.inl "java/lang/IndexOutOfBoundsException")
theorem kX1_coat {l : Launch} {G : gG} (hl : l.stackTraces = false) {S : gS} {a0 : Nat} {Fr : gH → Prop} (hF : gFr 0 Fr) (hW : gWf S) {run colour : Int32}  : gMet l yX1_coat (ws_ yX1_coat cX1_coat 4 (some .int)) ⟨11, 20, 80, 229⟩ G [.ref a0, .int run, .int colour] (gPE 0 G S a0 Fr) (gqS (sC_coat S run colour) 0 G a0 Fr) (gxS (sC_coat S run colour) 0 G S a0 Fr) := by
  refine gMet_of hl pnX1 (gle rfl) (fun X Q hX F E hNm => ?_)
  subst hX
  change gW (X, G, 4, Q) (gPE 0 G S a0 Fr) [(0, .ref a0), (1, .int run), (2, .int colour)] 0 [] 0 0
  refine g_pe (fun A hA => ?_)
  subst hA
  change gW _ _ [(0, .ref (A 0 0)), (1, .int run), (2, .int colour)] 0 [] 0 0
  refine g_aload_n F 0 rfl rfl dX1_coat_0 ?_
  refine g_get F clX1 13 (by decide) q148 (v := .ref (A 310 0)) (gd_get (pr_at (κ := 0) (i := 0) (by decide) (gc1 (gnl rfl)) (gce rfl rfl)) rfl) dX1_coat_1 ?_
  refine g_iload_n F 1 rfl rfl dX1_coat_4 ?_
  refine g_callS F (kX1_require hl (pr_ls (M := 0) (S := S) (A := A) (κ := 10) (by decide) (Or.inl ⟨by decide, by decide⟩) (fun q => by first | decide | exact absurd q (by decide)) (fun q => by first | decide | exact absurd q (by decide))) (gw_n hW _) (x := run)) (lw_S q784 q785 q18 q786) myX1_require ⟨by decide, by decide⟩ rfl rfl (gle rfl) 1 6 (gle rfl) (gle rfl) (gle rfl) (gle rfl) dX1_coat_5 (gx_1 (fun c_1 => g_out0 F E (gle rfl) (gle rfl) (fun _ hp => ⟨(if_neg c_1), gPE_0 _ hp⟩))) (gv_y (fun c_1 => ?_))
  refine g_castS F (g_recv F clX13 (gd_obj (pr_at (κ := 10) (i := run.toNatClampNeg) (by decide) (gc6 (by decide) c_1.2) (gce rfl rfl)))) q297 dX1_coat_8 ?_
  refine g_astore_n F rfl (by show 3 < 4; decide) (lv2 := [(3, .ref (A 10 run.toNatClampNeg)), (0, .ref (A 0 0)), (1, .int run), (2, .int colour)]) rfl dX1_coat_11 ?_
  refine g_iconst F (v := (0 : Int32)) (by decide) dX1_coat_12 ?_
  refine g_bipush F (v := (9 : Int32)) (by decide) dX1_coat_13 ?_
  refine g_iconst F (v := (1 : Int32)) (by decide) dX1_coat_15 ?_
  refine g_newI F (5000, 0) (N := 1) rfl (by decide) 2 7 (gle rfl) (gle rfl) (gle rfl) (gle rfl) (Pa := fun a_2 => gP 0 G S A Fr [(a_2, gIA G 1 (fun _ => 0))]) (pr_new hF) dX1_coat_16 (fun a_2 => ?_)
  refine g_dup F rfl dX1_coat_18 ?_
  refine g_iconst F (v := (0 : Int32)) (by decide) dX1_coat_19 ?_
  refine g_iload_n F 3 rfl rfl dX1_coat_20 ?_
  refine g_iastN (P2 := gP 0 G S A Fr [(a_2, gIA G 1 (upd (fun _ => 0) 0 colour))]) F (m := 0) rfl (by decide) (by decide) (pr_setT gM0 hF (j := 0) rfl) dX1_coat_21 ?_
  refine g_callS F (kX1_isIn hl (pr_atT (j := 0) rfl)) (lw_S q305 q306 q18 q307) myX1_isIn ⟨by decide, by decide⟩ rfl rfl (gle rfl) 2 7 (gle rfl) (gle rfl) (gle rfl) (gle rfl) dX1_coat_22 gx_n (gv_i ?_)
  refine g_top (show _ = gb (¬ colour < (0 : Int32) ∧ ¬ (9 : Int32) < colour) from rfl) ?_
  refine g_mono (P2 := gP 0 G S A Fr []) (fun _ hp => gP_Tl 0 hp) ?_
  refine g_callS F (kX1_requireArgument hl (c := ¬ colour < (0 : Int32) ∧ ¬ (9 : Int32) < colour)) (lw_S q335 q336 q18 q337) myX1_requireArgument ⟨by decide, by decide⟩ rfl rfl (gle rfl) 3 13 (gle rfl) (gle rfl) (gle rfl) (gle rfl) dX1_coat_25 (gx_1 (fun c_3 => g_out0 F E (gle rfl) (gle rfl) (fun _ hp => ⟨((if_pos c_1).trans (if_neg c_3)), gPE_0 _ hp⟩))) (gv_c (fun c_3 => ?_))
  refine g_aload_n F 1 rfl rfl dX1_coat_28 ?_
  refine g_get F clX1 0 (by decide) q135 (v := .int (S.1 0 0 0)) (gd_get (pr_at (κ := 0) (i := 0) (by decide) (gc1 (gnl rfl)) (gce rfl rfl)) rfl) dX1_coat_29 ?_
  refine g_aload_n F 0 rfl rfl dX1_coat_32 ?_
  refine g_getN F clX13 10 (by decide) (gT_w q1100 rfl) (v := .int (S.1 10 run.toNatClampNeg 6)) (gd_get (pr_at (κ := 10) (i := run.toNatClampNeg) (by decide) (gc6 (by decide) c_1.2) (gce rfl rfl)) rfl) dX1_coat_33 ?_
  have J_8 : gW (X, G, 4, Q) (gP 0 G S A Fr []) [(3, .ref (A 10 run.toNatClampNeg)), (0, .ref (A 0 0)), (1, .int run), (2, .int colour)] 62 [.int (gb (¬ ((S.1 0 0 0) < (S.1 10 run.toNatClampNeg 6)) ∧ (¬ ((8 : Int32) ≤ (S.1 10 run.toNatClampNeg 7)) ∧ (gGoes S 3))))] 19 74 := by
    refine g_callS F (kX1_requireSupported hl (c := ¬ ((S.1 0 0 0) < (S.1 10 run.toNatClampNeg 6)) ∧ (¬ ((8 : Int32) ≤ (S.1 10 run.toNatClampNeg 7)) ∧ (gGoes S 3)))) (lw_S q512 q513 q18 q514) myX1_requireSupported ⟨by decide, by decide⟩ rfl rfl (gle rfl) 20 80 (gle rfl) (gle rfl) (gle rfl) (gle rfl) dX1_coat_62 (gx_1 (fun c_9 => g_out0 F E (gle rfl) (gle rfl) (fun _ hp => ⟨((if_pos c_1).trans ((if_pos c_3).trans (if_neg c_9))), gPE_0 _ hp⟩))) (gv_c (fun c_9 => ?_))
    refine g_aload_n F 0 rfl rfl dX1_coat_65 ?_
    refine g_dup F rfl dX1_coat_66 ?_
    refine g_getN F clX13 7 (by decide) (gT_w q1094 rfl) (v := .int (S.1 10 run.toNatClampNeg 7)) (gd_get (pr_at (κ := 10) (i := run.toNatClampNeg) (by decide) (gc6 (by decide) c_1.2) (gce rfl rfl)) rfl) dX1_coat_67 ?_
    refine g_iconst F (v := (1 : Int32)) (by decide) dX1_coat_70 ?_
    refine g_iadd F dX1_coat_71 ?_
    refine g_putN (P2 := gP 0 G (gsr S.1 10 run.toNatClampNeg (upd (S.1 10 run.toNatClampNeg) 7 ((S.1 10 run.toNatClampNeg 7) + (1 : Int32))), S.2) A Fr []) F clX13 7 (by decide) (gT_w q1094 rfl) rfl rfl rfl (pr_put (κ := 10) (i := run.toNatClampNeg) gM0 hF (upd (S.1 10 run.toNatClampNeg) 7 ((S.1 10 run.toNatClampNeg 7) + (1 : Int32))) (by decide) (gc6 (by decide) c_1.2) (gce rfl rfl) (gnl rfl) rfl) dX1_coat_72 ?_
    refine g_aload_n F 0 rfl rfl dX1_coat_75 ?_
    refine g_iload_n F 3 rfl rfl dX1_coat_76 ?_
    refine g_putN (P2 := gP 0 G (gsr (gsr S.1 10 run.toNatClampNeg (upd (S.1 10 run.toNatClampNeg) 7 ((S.1 10 run.toNatClampNeg 7) + (1 : Int32)))) 10 run.toNatClampNeg (upd (upd (S.1 10 run.toNatClampNeg) 7 ((S.1 10 run.toNatClampNeg 7) + (1 : Int32))) 8 colour), S.2) A Fr []) F clX13 8 (by decide) (gT_w q1096 rfl) rfl rfl rfl (pr_put (κ := 10) (i := run.toNatClampNeg) gM0 hF (upd (upd (S.1 10 run.toNatClampNeg) 7 ((S.1 10 run.toNatClampNeg 7) + (1 : Int32))) 8 colour) (by decide) (gc6 (by decide) c_1.2) (gce (show (gsr S.1 10 run.toNatClampNeg (upd (S.1 10 run.toNatClampNeg) 7 ((S.1 10 run.toNatClampNeg 7) + (1 : Int32)))) 10 run.toNatClampNeg = upd (S.1 10 run.toNatClampNeg) 7 ((S.1 10 run.toNatClampNeg 7) + (1 : Int32)) from gsr_s) rfl) (gnl rfl) rfl) dX1_coat_77 ?_
    refine g_aload_n F 0 rfl rfl dX1_coat_80 ?_
    refine g_aload_n F 1 rfl rfl dX1_coat_81 ?_
    refine g_get F clX1 0 (by decide) q135 (v := .int (S.1 0 0 0)) (gd_get (pr_at (κ := 0) (i := 0) (by decide) (gc1 (gnl rfl)) (gce (show (gsr (gsr S.1 10 run.toNatClampNeg (upd (S.1 10 run.toNatClampNeg) 7 ((S.1 10 run.toNatClampNeg 7) + (1 : Int32)))) 10 run.toNatClampNeg (upd (upd (S.1 10 run.toNatClampNeg) 7 ((S.1 10 run.toNatClampNeg 7) + (1 : Int32))) 8 colour)) 0 0 = S.1 0 0 from (gsr_p (by decide) (gsr_p (by decide) rfl))) rfl)) rfl) dX1_coat_82 ?_
    refine g_bipush F (v := (8 : Int32)) (by decide) dX1_coat_85 ?_
    refine g_iadd F dX1_coat_87 ?_
    refine g_putN (P2 := gP 0 G (gsr (gsr (gsr S.1 10 run.toNatClampNeg (upd (S.1 10 run.toNatClampNeg) 7 ((S.1 10 run.toNatClampNeg 7) + (1 : Int32)))) 10 run.toNatClampNeg (upd (upd (S.1 10 run.toNatClampNeg) 7 ((S.1 10 run.toNatClampNeg 7) + (1 : Int32))) 8 colour)) 10 run.toNatClampNeg (upd (upd (upd (S.1 10 run.toNatClampNeg) 7 ((S.1 10 run.toNatClampNeg 7) + (1 : Int32))) 8 colour) 6 ((S.1 0 0 0) + (8 : Int32))), S.2) A Fr []) F clX13 10 (by decide) (gT_w q1100 rfl) rfl rfl rfl (pr_put (κ := 10) (i := run.toNatClampNeg) gM0 hF (upd (upd (upd (S.1 10 run.toNatClampNeg) 7 ((S.1 10 run.toNatClampNeg 7) + (1 : Int32))) 8 colour) 6 ((S.1 0 0 0) + (8 : Int32))) (by decide) (gc6 (by decide) c_1.2) (gce (show (gsr (gsr S.1 10 run.toNatClampNeg (upd (S.1 10 run.toNatClampNeg) 7 ((S.1 10 run.toNatClampNeg 7) + (1 : Int32)))) 10 run.toNatClampNeg (upd (upd (S.1 10 run.toNatClampNeg) 7 ((S.1 10 run.toNatClampNeg 7) + (1 : Int32))) 8 colour)) 10 run.toNatClampNeg = upd (upd (S.1 10 run.toNatClampNeg) 7 ((S.1 10 run.toNatClampNeg 7) + (1 : Int32))) 8 colour from gsr_s) rfl) (gnl rfl) rfl) dX1_coat_88 ?_
    refine g_aload_n F 0 rfl rfl dX1_coat_91 ?_
    refine g_getN F clX13 7 (by decide) (gT_w q1094 rfl) (v := .int ((S.1 10 run.toNatClampNeg 7) + (1 : Int32))) (gd_get (pr_at (κ := 10) (i := run.toNatClampNeg) (by decide) (gc6 (by decide) c_1.2) (gce (show (gsr (gsr (gsr S.1 10 run.toNatClampNeg (upd (S.1 10 run.toNatClampNeg) 7 ((S.1 10 run.toNatClampNeg 7) + (1 : Int32)))) 10 run.toNatClampNeg (upd (upd (S.1 10 run.toNatClampNeg) 7 ((S.1 10 run.toNatClampNeg 7) + (1 : Int32))) 8 colour)) 10 run.toNatClampNeg (upd (upd (upd (S.1 10 run.toNatClampNeg) 7 ((S.1 10 run.toNatClampNeg 7) + (1 : Int32))) 8 colour) 6 ((S.1 0 0 0) + (8 : Int32)))) 10 run.toNatClampNeg = upd (upd (upd (S.1 10 run.toNatClampNeg) 7 ((S.1 10 run.toNatClampNeg 7) + (1 : Int32))) 8 colour) 6 ((S.1 0 0 0) + (8 : Int32)) from gsr_s) rfl)) rfl) dX1_coat_92 ?_
    exact g_retI F E rfl rfl (gle rfl) (gle rfl) dX1_coat_95 (fun _ hp => ⟨_, _, ((if_pos c_1).trans ((if_pos c_3).trans (if_pos c_9))), rfl, ⟨A, rfl, gP_T0 hp⟩⟩)
  refine g_icmp_lt F (tgt := 61) (by decide) dX1_coat_36 (fun c_4 => ?_) (fun c_4 => ?_)
  · skip
    refine g_iconst F (v := (0 : Int32)) (by decide) dX1_coat_61 ?_
    exact g_widen (by decide) (by decide) <| g_top (gb_f (fun q => q.1 c_4)) J_8
  · skip
    refine g_aload_n F 0 rfl rfl dX1_coat_39 ?_
    refine g_getN F clX13 7 (by decide) (gT_w q1094 rfl) (v := .int (S.1 10 run.toNatClampNeg 7)) (gd_get (pr_at (κ := 10) (i := run.toNatClampNeg) (by decide) (gc6 (by decide) c_1.2) (gce rfl rfl)) rfl) dX1_coat_40 ?_
    refine g_bipush F (v := (8 : Int32)) (by decide) dX1_coat_43 ?_
    refine g_icmp_ge F (tgt := 61) (by decide) dX1_coat_45 (fun c_5 => ?_) (fun c_5 => ?_)
    · skip
      refine g_iconst F (v := (0 : Int32)) (by decide) dX1_coat_61 ?_
      exact g_widen (by decide) (by decide) <| g_top (gb_f (fun q => (fun q => q.1 c_5) q.2)) J_8
    · skip
      refine g_aload_n F 1 rfl rfl dX1_coat_48 ?_
      refine g_bipush F (v := (99 : Int32)) (by decide) dX1_coat_49 ?_
      refine g_callVW F (kX1_runsI hl hF hW (ch := (99 : Int32)) (by decide)) (g_recv F clX1 (gd_obj (pr_at (κ := 0) (i := 0) (by decide) (gc1 (gnl rfl)) (gce rfl rfl)))) q830 q561 q562 q18 q563 myX1_runs ⟨by decide, by decide⟩ rfl rfl (gle rfl) 19 74 (gle rfl) (gle rfl) (gle rfl) (gle rfl) dX1_coat_51 (gx_1 (fun c_6 => (c_6 (by decide +kernel)).elim)) (gv_y (fun c_6 => ?_))
      refine g_top (show _ = gb (gGoes S 3) by rw [show gidx 0 (99 : Int32) = (3 : Int32) from by decide +kernel]) ?_
      refine gb_if_eq F (tgt := 61) (by decide) dX1_coat_54 (fun c_7 => ?_) (fun c_7 => ?_)
      · skip
        refine g_iconst F (v := (0 : Int32)) (by decide) dX1_coat_61 ?_
        exact g_top (gb_f (fun q => (fun q => c_7 q.2) q.2)) J_8
      · skip
        refine g_iconst F (v := (1 : Int32)) (by decide) dX1_coat_57 ?_
        refine g_goto F (tgt := 62) (by decide) dX1_coat_58 ?_
        exact g_top (gb_t (⟨c_4, ⟨c_5, c_7⟩⟩)) J_8

theorem kX2_check {l : Launch} {G : gG} (hl : l.stackTraces = false) {P : gH → Prop} {a : Nat} {bi dr : Int32} {w0 : Value} (ha : gAt P a (.inr (1, [.int bi, .int dr, w0]))) : gMet l yX2_check (ws_ yX2_check cX2_check 2 (some .int)) ⟨0, 0, 0, 0⟩ G [.ref a] P (gqI (.int bi) (gUp P a (.inr (1, [.int bi, .int dr, w0])) (.inr (1, [.int 0, .int 0, w0])))) gxN := by
  refine gMet_of hl pnX2 (gle rfl) (fun X Q hX F E hNm => ?_)
  subst hX
  change gW (X, G, 2, Q) P [(0, .ref a)] 0 [] 0 0
  refine g_mono (gUp_0 ha) ?_
  refine g_aload_n F 0 rfl rfl dX2_check_0 ?_
  refine g_get F clX2 0 (by decide) q119 (v := .int bi) (gd_get gUp_at rfl) dX2_check_1 ?_
  refine g_istore_n F rfl (by show 1 < 2; decide) (lv2 := [(1, .int bi), (0, .ref a)]) rfl dX2_check_4 ?_
  refine g_aload_n F 1 rfl rfl dX2_check_5 ?_
  refine g_iconst F (v := (0 : Int32)) (by decide) dX2_check_6 ?_
  refine g_put (P2 := (gUp P a (.inr (1, [.int bi, .int dr, w0])) (.inr (1, [.int (0 : Int32), .int dr, w0])))) F clX2 0 (by decide) q119 rfl rfl rfl (gUp_put (gnl rfl)) dX2_check_7 ?_
  refine g_aload_n F 1 rfl rfl dX2_check_10 ?_
  refine g_iconst F (v := (0 : Int32)) (by decide) dX2_check_11 ?_
  refine g_put (P2 := (gUp P a (.inr (1, [.int bi, .int dr, w0])) (.inr (1, [.int (0 : Int32), .int (0 : Int32), w0])))) F clX2 1 (by decide) q120 rfl rfl rfl (gUp_put (gnl rfl)) dX2_check_12 ?_
  refine g_iload_n F 0 rfl rfl dX2_check_15 ?_
  exact g_retI F E rfl rfl (gle rfl) (gle rfl) dX2_check_16 (fun _ hp => ⟨rfl, hp⟩)

theorem kX2_draws {l : Launch} {G : gG} (hl : l.stackTraces = false) {P : gH → Prop} {a b : Nat} {bi dr dk : Int32} {w0 v0 v1 v2 v3 v4 v5 v6 v7 v8 v9 v10 : Value} (ha : gAt P a (.inr (1, [.int bi, .int dr, w0]))) (hb : gAt P b (.inr (6, [v0, v1, v2, v3, v4, v5, v6, v7, v8, v9, v10, .int dk]))) : gMet l yX2_draws (ws_ yX2_draws cX2_draws 3 (some .int)) ⟨1, 0, 0, 14⟩ G [.ref a, .ref b] P (gqI (.int (gmax 0 (gmin 999 (dk + bi)))) (gUp P a (.inr (1, [.int bi, .int dr, w0])) (.inr (1, [.int (gnb bi dr), .int (dr + 1), w0])))) gxN := by
  refine gMet_of hl pnX2 (gle rfl) (fun X Q hX F E hNm => ?_)
  subst hX
  change gW (X, G, 3, Q) P [(0, .ref a), (1, .ref b)] 0 [] 0 0
  refine g_mono (gUp_0 ha) ?_
  refine g_iconst F (v := (0 : Int32)) (by decide) dX2_draws_0 ?_
  refine g_sipush F (v := (999 : Int32)) (by decide) dX2_draws_1 ?_
  refine g_aload_n F 1 rfl rfl dX2_draws_4 ?_
  refine g_getN F clX9 11 (by decide) (gT_w q902 rfl) (v := .int dk) (gd_get (gUp_rd hb (by intro q; injection q with q; injection q with q1 q2; exact absurd q1 (by decide))) rfl) dX2_draws_5 ?_
  refine g_aload_n F 0 rfl rfl dX2_draws_8 ?_
  refine g_get F clX2 0 (by decide) q119 (v := .int bi) (gd_get gUp_at rfl) dX2_draws_9 ?_
  refine g_iadd F dX2_draws_12 ?_
  refine g_mmin F q994 (gle rfl) (gle rfl) (gle rfl) (gle rfl) dX2_draws_13 ?_
  refine g_mmax F q995 (gle rfl) (gle rfl) (gle rfl) (gle rfl) dX2_draws_16 ?_
  refine g_istore_n F rfl (by show 2 < 3; decide) (lv2 := [(2, .int (gmax (0 : Int32) (gmin (999 : Int32) (dk + bi)))), (0, .ref a), (1, .ref b)]) rfl dX2_draws_19 ?_
  refine g_aload_n F 1 rfl rfl dX2_draws_20 ?_
  refine g_dup F rfl dX2_draws_21 ?_
  refine g_get F clX2 1 (by decide) q120 (v := .int dr) (gd_get gUp_at rfl) dX2_draws_22 ?_
  refine g_iconst F (v := (1 : Int32)) (by decide) dX2_draws_25 ?_
  refine g_iadd F dX2_draws_26 ?_
  refine g_put (P2 := (gUp P a (.inr (1, [.int bi, .int dr, w0])) (.inr (1, [.int bi, .int (dr + (1 : Int32)), w0])))) F clX2 1 (by decide) q120 rfl rfl rfl (gUp_put (gnl rfl)) dX2_draws_27 ?_
  refine g_aload_n F 1 rfl rfl dX2_draws_30 ?_
  refine g_dup F rfl dX2_draws_31 ?_
  refine g_get F clX2 0 (by decide) q119 (v := .int bi) (gd_get gUp_at rfl) dX2_draws_32 ?_
  refine g_aload_n F 1 rfl rfl dX2_draws_35 ?_
  refine g_get F clX2 1 (by decide) q120 (v := .int (dr + (1 : Int32))) (gd_get gUp_at rfl) dX2_draws_36 ?_
  refine g_bipush F (v := (8 : Int32)) (by decide) dX2_draws_39 ?_
  refine g_irem F (by decide) dX2_draws_41 ?_
  have J_2 : gW (X, G, 3, Q) (gUp P a (.inr (1, [.int bi, .int dr, w0])) (.inr (1, [.int bi, .int (dr + (1 : Int32)), w0]))) [(2, .int (gmax (0 : Int32) (gmin (999 : Int32) (dk + bi)))), (0, .ref a), (1, .ref b)] 50 [.int (if ((dr + (1 : Int32)) - (dr + (1 : Int32)) / (8 : Int32) * (8 : Int32)) = 0 then (3 : Int32) else (0 : Int32)), .int bi, .ref a] 0 0 := by
    refine g_iadd F dX2_draws_50 ?_
    refine g_put (P2 := (gUp P a (.inr (1, [.int bi, .int dr, w0])) (.inr (1, [.int (bi + (if ((dr + (1 : Int32)) - (dr + (1 : Int32)) / (8 : Int32) * (8 : Int32)) = 0 then (3 : Int32) else (0 : Int32))), .int (dr + (1 : Int32)), w0])))) F clX2 0 (by decide) q119 rfl rfl rfl (gUp_put (gnl rfl)) dX2_draws_51 ?_
    refine g_iload_n F 0 rfl rfl dX2_draws_54 ?_
    exact g_retI F E rfl rfl (gle rfl) (gle rfl) dX2_draws_55 (fun _ hp => ⟨rfl, hp⟩)
  refine g_if_ne F (tgt := 49) (by decide) dX2_draws_42 (fun c_1 => ?_) (fun c_1 => ?_)
  · skip
    refine g_iconst F (v := (0 : Int32)) (by decide) dX2_draws_49 ?_
    exact g_top (by rw [if_neg c_1]) J_2
  · skip
    refine g_iconst F (v := (3 : Int32)) (by decide) dX2_draws_45 ?_
    refine g_goto F (tgt := 50) (by decide) dX2_draws_46 ?_
    exact g_top (by rw [if_pos c_1]) J_2

def sC_check (S : gS)  : gO := .inr (.int (S.1 5 0 0), (gsr S.1 5 0 (upd (upd (S.1 5 0) 0 0) 1 0), S.2))
theorem kX1_check {l : Launch} {G : gG} (hl : l.stackTraces = false) {S : gS} {a0 : Nat} {Fr : gH → Prop} (hF : gFr 0 Fr) (hW : gWf S)   : gMet l yX1_check (ws_ yX1_check cX1_check 1 (some .int)) ⟨1, 0, 0, 21⟩ G [.ref a0] (gPE 0 G S a0 Fr) (gqS (sC_check S ) 0 G a0 Fr) (gxS (sC_check S ) 0 G S a0 Fr) := by
  refine gMet_of hl pnX1 (gle rfl) (fun X Q hX F E hNm => ?_)
  subst hX
  change gW (X, G, 1, Q) (gPE 0 G S a0 Fr) [(0, .ref a0)] 0 [] 0 0
  refine g_pe (fun A hA => ?_)
  subst hA
  change gW _ _ [(0, .ref (A 0 0))] 0 [] 0 0
  refine g_aload_n F 0 rfl rfl dX1_check_0 ?_
  refine g_get F clX1 11 (by decide) q146 (v := .ref (A 5 0)) (gd_get (pr_at (κ := 0) (i := 0) (by decide) (gc1 (gnl rfl)) (gce rfl rfl)) rfl) dX1_check_1 ?_
  refine g_callV F (kX2_check hl (pr_at (κ := 5) (i := 0) (by decide) (gc1 (gnl rfl)) (gce rfl rfl))) (g_recv F clX2 (gd_obj (pr_at (κ := 5) (i := 0) (by decide) (gc1 (gnl rfl)) (gce rfl rfl)))) q199 q200 q201 q23 q202 myX2_check ⟨by decide, by decide⟩ rfl rfl (gle rfl) 0 0 (gle rfl) (gle rfl) (gle rfl) (gle rfl) dX1_check_4 gx_n (gv_i ?_)
  refine g_mono (P2 := gP 0 G (gsr S.1 5 0 (upd (upd (S.1 5 0) 0 0) 1 0), S.2) A Fr []) (pr_upRow (κ := 5) (i := 0) gM0 hF (upd (upd (S.1 5 0) 0 0) 1 0) (by decide) (gc1 (gnl rfl)) (gce rfl rfl) rfl) ?_
  exact g_retI F E rfl rfl (gle rfl) (gle rfl) dX1_check_7 (fun _ hp => ⟨_, _, rfl, rfl, ⟨A, rfl, gP_T0 hp⟩⟩)

def sC_draw (S : gS) (batch : Int32) : gO := if gIn batch (S.2 8) then (if (¬ ((S.1 8 batch.toNatClampNeg 6) = (-1 : Int32))) ∧ (¬ ((S.1 0 0 0) < (S.1 8 batch.toNatClampNeg 4))) then (.inr (.int (gmax 0 (gmin 999 ((S.1 8 batch.toNatClampNeg 10) + (S.1 5 0 0)))), (gsr S.1 5 0 (upd (upd (S.1 5 0) 0 (gnb (S.1 5 0 0) (S.1 5 0 1))) 1 ((S.1 5 0 1) + 1)), S.2))) else (.inl "java/lang/UnsupportedOperationException")) else (.inl "java/lang/IndexOutOfBoundsException")
theorem kX1_draw {l : Launch} {G : gG} (hl : l.stackTraces = false) {S : gS} {a0 : Nat} {Fr : gH → Prop} (hF : gFr 0 Fr) (hW : gWf S) {batch : Int32}  : gMet l yX1_draw (ws_ yX1_draw cX1_draw 3 (some .int)) ⟨8, 2, 12, 123⟩ G [.ref a0, .int batch] (gPE 0 G S a0 Fr) (gqS (sC_draw S batch) 0 G a0 Fr) (gxS (sC_draw S batch) 0 G S a0 Fr) := by
  refine gMet_of hl pnX1 (gle rfl) (fun X Q hX F E hNm => ?_)
  subst hX
  change gW (X, G, 3, Q) (gPE 0 G S a0 Fr) [(0, .ref a0), (1, .int batch)] 0 [] 0 0
  refine g_pe (fun A hA => ?_)
  subst hA
  change gW _ _ [(0, .ref (A 0 0)), (1, .int batch)] 0 [] 0 0
  refine g_aload_n F 0 rfl rfl dX1_draw_0 ?_
  refine g_get F clX1 9 (by decide) q144 (v := .ref (A 308 0)) (gd_get (pr_at (κ := 0) (i := 0) (by decide) (gc1 (gnl rfl)) (gce rfl rfl)) rfl) dX1_draw_1 ?_
  refine g_iload_n F 1 rfl rfl dX1_draw_4 ?_
  refine g_callS F (kX1_require hl (pr_ls (M := 0) (S := S) (A := A) (κ := 8) (by decide) (Or.inl ⟨by decide, by decide⟩) (fun q => by first | decide | exact absurd q (by decide)) (fun q => by first | decide | exact absurd q (by decide))) (gw_n hW _) (x := batch)) (lw_S q784 q785 q18 q786) myX1_require ⟨by decide, by decide⟩ rfl rfl (gle rfl) 1 6 (gle rfl) (gle rfl) (gle rfl) (gle rfl) dX1_draw_5 (gx_1 (fun c_1 => g_out0 F E (gle rfl) (gle rfl) (fun _ hp => ⟨(if_neg c_1), gPE_0 _ hp⟩))) (gv_y (fun c_1 => ?_))
  refine g_castS F (g_recv F clX9 (gd_obj (pr_at (κ := 8) (i := batch.toNatClampNeg) (by decide) (gc6 (by decide) c_1.2) (gce rfl rfl)))) q295 dX1_draw_8 ?_
  refine g_astore_n F rfl (by show 2 < 3; decide) (lv2 := [(2, .ref (A 8 batch.toNatClampNeg)), (0, .ref (A 0 0)), (1, .int batch)]) rfl dX1_draw_11 ?_
  refine g_aload_n F 0 rfl rfl dX1_draw_12 ?_
  refine g_callV F (kX9_isFired hl (pr_at (κ := 8) (i := batch.toNatClampNeg) (by decide) (gc6 (by decide) c_1.2) (gce rfl rfl))) (g_recv F clX9 (gd_obj (pr_at (κ := 8) (i := batch.toNatClampNeg) (by decide) (gc6 (by decide) c_1.2) (gce rfl rfl)))) q962 q963 q964 q47 q965 myX9_isFired ⟨by decide, by decide⟩ rfl rfl (gle rfl) 1 6 (gle rfl) (gle rfl) (gle rfl) (gle rfl) dX1_draw_13 gx_n (gv_i ?_)
  have J_4 : gW (X, G, 3, Q) (gP 0 G S A Fr []) [(2, .ref (A 8 batch.toNatClampNeg)), (0, .ref (A 0 0)), (1, .int batch)] 35 [.int (gb ((¬ ((S.1 8 batch.toNatClampNeg 6) = (-1 : Int32))) ∧ (¬ ((S.1 0 0 0) < (S.1 8 batch.toNatClampNeg 4)))))] 1 6 := by
    refine g_callS F (kX1_requireSupported hl (c := (¬ ((S.1 8 batch.toNatClampNeg 6) = (-1 : Int32))) ∧ (¬ ((S.1 0 0 0) < (S.1 8 batch.toNatClampNeg 4))))) (lw_S q512 q513 q18 q514) myX1_requireSupported ⟨by decide, by decide⟩ rfl rfl (gle rfl) 2 12 (gle rfl) (gle rfl) (gle rfl) (gle rfl) dX1_draw_35 (gx_1 (fun c_5 => g_out0 F E (gle rfl) (gle rfl) (fun _ hp => ⟨((if_pos c_1).trans (if_neg c_5)), gPE_0 _ hp⟩))) (gv_c (fun c_5 => ?_))
    refine g_aload_n F 1 rfl rfl dX1_draw_38 ?_
    refine g_get F clX1 11 (by decide) q146 (v := .ref (A 5 0)) (gd_get (pr_at (κ := 0) (i := 0) (by decide) (gc1 (gnl rfl)) (gce rfl rfl)) rfl) dX1_draw_39 ?_
    refine g_aload_n F 0 rfl rfl dX1_draw_42 ?_
    refine g_callV F (kX2_draws hl (pr_at (κ := 5) (i := 0) (by decide) (gc1 (gnl rfl)) (gce rfl rfl)) (pr_at (κ := 8) (i := batch.toNatClampNeg) (by decide) (gc6 (by decide) c_1.2) (gce rfl rfl))) (g_recv F clX2 (gd_obj (pr_at (κ := 5) (i := 0) (by decide) (gc1 (gnl rfl)) (gce rfl rfl)))) q990 q991 q992 q23 q993 myX2_draws ⟨by decide, by decide⟩ rfl rfl (gle rfl) 2 12 (gle rfl) (gle rfl) (gle rfl) (gle rfl) dX1_draw_43 gx_n (gv_i ?_)
    refine g_mono (P2 := gP 0 G (gsr S.1 5 0 (upd (upd (S.1 5 0) 0 (gnb (S.1 5 0 0) (S.1 5 0 1))) 1 ((S.1 5 0 1) + 1)), S.2) A Fr []) (pr_upRow (κ := 5) (i := 0) gM0 hF (upd (upd (S.1 5 0) 0 (gnb (S.1 5 0 0) (S.1 5 0 1))) 1 ((S.1 5 0 1) + 1)) (by decide) (gc1 (gnl rfl)) (gce rfl rfl) rfl) ?_
    exact g_retI F E rfl rfl (gle rfl) (gle rfl) dX1_draw_46 (fun _ hp => ⟨_, _, ((if_pos c_1).trans (if_pos c_5)), rfl, ⟨A, rfl, gP_T0 hp⟩⟩)
  refine gb_if_eq F (tgt := 34) (by decide) dX1_draw_16 (fun c_2 => ?_) (fun c_2 => ?_)
  · skip
    refine g_iconst F (v := (0 : Int32)) (by decide) dX1_draw_34 ?_
    exact g_top (gb_f (fun q => c_2 q.1)) J_4
  · skip
    refine g_aload_n F 0 rfl rfl dX1_draw_19 ?_
    refine g_aload_n F 1 rfl rfl dX1_draw_20 ?_
    refine g_get F clX1 0 (by decide) q135 (v := .int (S.1 0 0 0)) (gd_get (pr_at (κ := 0) (i := 0) (by decide) (gc1 (gnl rfl)) (gce rfl rfl)) rfl) dX1_draw_21 ?_
    refine g_callV F (kX9_isReady hl (pr_at (κ := 8) (i := batch.toNatClampNeg) (by decide) (gc6 (by decide) c_1.2) (gce rfl rfl))) (g_recv F clX9 (gd_obj (pr_at (κ := 8) (i := batch.toNatClampNeg) (by decide) (gc6 (by decide) c_1.2) (gce rfl rfl)))) q958 q959 q960 q47 q961 myX9_isReady ⟨by decide, by decide⟩ rfl rfl (gle rfl) 1 6 (gle rfl) (gle rfl) (gle rfl) (gle rfl) dX1_draw_24 gx_n (gv_i ?_)
    refine gb_if_eq F (tgt := 34) (by decide) dX1_draw_27 (fun c_3 => ?_) (fun c_3 => ?_)
    · skip
      refine g_iconst F (v := (0 : Int32)) (by decide) dX1_draw_34 ?_
      exact g_top (gb_f (fun q => c_3 q.2)) J_4
    · skip
      refine g_iconst F (v := (1 : Int32)) (by decide) dX1_draw_30 ?_
      refine g_goto F (tgt := 35) (by decide) dX1_draw_31 ?_
      exact g_top (gb_t (⟨c_2, c_3⟩)) J_4

def sC_stamp (S : gS) (run : Int32) : gO := if gIn run (S.2 10) then (if ¬ ((S.1 0 0 0) < (S.1 10 run.toNatClampNeg 6)) ∧ (¬ ((S.1 10 run.toNatClampNeg 7) < (3 : Int32)) ∧ (((S.1 10 run.toNatClampNeg 9) = (-1 : Int32)) ∧ (¬ ((S.1 0 0 0) < (S.1 8 ((S.1 10 run.toNatClampNeg 0).toNatClampNeg) 4))))) then (.inr (.int ((gmax 0 (gmin 999 ((S.1 8 ((S.1 10 run.toNatClampNeg 0).toNatClampNeg) 10) + (S.1 5 0 0)))) / (50 : Int32)), (gsr (gsr S.1 5 0 (upd (upd (S.1 5 0) 0 (gnb (S.1 5 0 0) (S.1 5 0 1))) 1 ((S.1 5 0 1) + 1))) 10 run.toNatClampNeg (upd (S.1 10 run.toNatClampNeg) 9 ((gmax 0 (gmin 999 ((S.1 8 ((S.1 10 run.toNatClampNeg 0).toNatClampNeg) 10) + (S.1 5 0 0)))) / (50 : Int32))), S.2))) else (.inl "java/lang/UnsupportedOperationException")) else (.inl "java/lang/IndexOutOfBoundsException")
theorem kX1_stamp {l : Launch} {G : gG} (hl : l.stackTraces = false) {S : gS} {a0 : Nat} {Fr : gH → Prop} (hF : gFr 0 Fr) (hW : gWf S) {run : Int32}  : gMet l yX1_stamp (ws_ yX1_stamp cX1_stamp 3 (some .int)) ⟨8, 2, 12, 123⟩ G [.ref a0, .int run] (gPE 0 G S a0 Fr) (gqS (sC_stamp S run) 0 G a0 Fr) (gxS (sC_stamp S run) 0 G S a0 Fr) := by
  refine gMet_of hl pnX1 (gle rfl) (fun X Q hX F E hNm => ?_)
  subst hX
  change gW (X, G, 3, Q) (gPE 0 G S a0 Fr) [(0, .ref a0), (1, .int run)] 0 [] 0 0
  refine g_pe (fun A hA => ?_)
  subst hA
  change gW _ _ [(0, .ref (A 0 0)), (1, .int run)] 0 [] 0 0
  refine g_aload_n F 0 rfl rfl dX1_stamp_0 ?_
  refine g_get F clX1 13 (by decide) q148 (v := .ref (A 310 0)) (gd_get (pr_at (κ := 0) (i := 0) (by decide) (gc1 (gnl rfl)) (gce rfl rfl)) rfl) dX1_stamp_1 ?_
  refine g_iload_n F 1 rfl rfl dX1_stamp_4 ?_
  refine g_callS F (kX1_require hl (pr_ls (M := 0) (S := S) (A := A) (κ := 10) (by decide) (Or.inl ⟨by decide, by decide⟩) (fun q => by first | decide | exact absurd q (by decide)) (fun q => by first | decide | exact absurd q (by decide))) (gw_n hW _) (x := run)) (lw_S q784 q785 q18 q786) myX1_require ⟨by decide, by decide⟩ rfl rfl (gle rfl) 1 6 (gle rfl) (gle rfl) (gle rfl) (gle rfl) dX1_stamp_5 (gx_1 (fun c_1 => g_out0 F E (gle rfl) (gle rfl) (fun _ hp => ⟨(if_neg c_1), gPE_0 _ hp⟩))) (gv_y (fun c_1 => ?_))
  refine g_castS F (g_recv F clX13 (gd_obj (pr_at (κ := 10) (i := run.toNatClampNeg) (by decide) (gc6 (by decide) c_1.2) (gce rfl rfl)))) q297 dX1_stamp_8 ?_
  refine g_astore_n F rfl (by show 2 < 3; decide) (lv2 := [(2, .ref (A 10 run.toNatClampNeg)), (0, .ref (A 0 0)), (1, .int run)]) rfl dX1_stamp_11 ?_
  refine g_aload_n F 1 rfl rfl dX1_stamp_12 ?_
  refine g_get F clX1 0 (by decide) q135 (v := .int (S.1 0 0 0)) (gd_get (pr_at (κ := 0) (i := 0) (by decide) (gc1 (gnl rfl)) (gce rfl rfl)) rfl) dX1_stamp_13 ?_
  refine g_aload_n F 0 rfl rfl dX1_stamp_16 ?_
  refine g_getN F clX13 10 (by decide) (gT_w q1100 rfl) (v := .int (S.1 10 run.toNatClampNeg 6)) (gd_get (pr_at (κ := 10) (i := run.toNatClampNeg) (by decide) (gc6 (by decide) c_1.2) (gce rfl rfl)) rfl) dX1_stamp_17 ?_
  have J_6 : gW (X, G, 3, Q) (gP 0 G S A Fr []) [(2, .ref (A 10 run.toNatClampNeg)), (0, .ref (A 0 0)), (1, .int run)] 58 [.int (gb (¬ ((S.1 0 0 0) < (S.1 10 run.toNatClampNeg 6)) ∧ (¬ ((S.1 10 run.toNatClampNeg 7) < (3 : Int32)) ∧ (((S.1 10 run.toNatClampNeg 9) = (-1 : Int32)) ∧ (¬ ((S.1 0 0 0) < (S.1 8 ((S.1 10 run.toNatClampNeg 0).toNatClampNeg) 4)))))))] 1 6 := by
    refine g_callS F (kX1_requireSupported hl (c := ¬ ((S.1 0 0 0) < (S.1 10 run.toNatClampNeg 6)) ∧ (¬ ((S.1 10 run.toNatClampNeg 7) < (3 : Int32)) ∧ (((S.1 10 run.toNatClampNeg 9) = (-1 : Int32)) ∧ (¬ ((S.1 0 0 0) < (S.1 8 ((S.1 10 run.toNatClampNeg 0).toNatClampNeg) 4))))))) (lw_S q512 q513 q18 q514) myX1_requireSupported ⟨by decide, by decide⟩ rfl rfl (gle rfl) 2 12 (gle rfl) (gle rfl) (gle rfl) (gle rfl) dX1_stamp_58 (gx_1 (fun c_7 => g_out0 F E (gle rfl) (gle rfl) (fun _ hp => ⟨((if_pos c_1).trans (if_neg c_7)), gPE_0 _ hp⟩))) (gv_c (fun c_7 => ?_))
    refine g_aload_n F 0 rfl rfl dX1_stamp_61 ?_
    refine g_aload_n F 1 rfl rfl dX1_stamp_62 ?_
    refine g_get F clX1 11 (by decide) q146 (v := .ref (A 5 0)) (gd_get (pr_at (κ := 0) (i := 0) (by decide) (gc1 (gnl rfl)) (gce rfl rfl)) rfl) dX1_stamp_63 ?_
    refine g_aload_n F 0 rfl rfl dX1_stamp_66 ?_
    refine g_getN F clX13 1 (by decide) (gT_w q1083 rfl) (v := .ref (A 8 (S.1 10 run.toNatClampNeg 0).toNatClampNeg)) (gd_get (pr_at (κ := 10) (i := run.toNatClampNeg) (by decide) (gc6 (by decide) c_1.2) (gce rfl rfl)) rfl) dX1_stamp_67 ?_
    refine g_callV F (kX2_draws hl (pr_at (κ := 5) (i := 0) (by decide) (gc1 (gnl rfl)) (gce rfl rfl)) (pr_at (κ := 8) (i := (S.1 10 run.toNatClampNeg 0).toNatClampNeg) (by decide) (gc6 (by decide) (gw_10_0 hW c_1.2).2) (gce rfl rfl))) (g_recv F clX2 (gd_obj (pr_at (κ := 5) (i := 0) (by decide) (gc1 (gnl rfl)) (gce rfl rfl)))) q990 q991 q992 q23 q993 myX2_draws ⟨by decide, by decide⟩ rfl rfl (gle rfl) 2 12 (gle rfl) (gle rfl) (gle rfl) (gle rfl) dX1_stamp_70 gx_n (gv_i ?_)
    refine g_mono (P2 := gP 0 G (gsr S.1 5 0 (upd (upd (S.1 5 0) 0 (gnb (S.1 5 0 0) (S.1 5 0 1))) 1 ((S.1 5 0 1) + 1)), S.2) A Fr []) (pr_upRow (κ := 5) (i := 0) gM0 hF (upd (upd (S.1 5 0) 0 (gnb (S.1 5 0 0) (S.1 5 0 1))) 1 ((S.1 5 0 1) + 1)) (by decide) (gc1 (gnl rfl)) (gce rfl rfl) rfl) ?_
    refine g_bipush F (v := (50 : Int32)) (by decide) dX1_stamp_73 ?_
    refine g_idiv F (by decide) dX1_stamp_75 ?_
    refine g_putN (P2 := gP 0 G (gsr (gsr S.1 5 0 (upd (upd (S.1 5 0) 0 (gnb (S.1 5 0 0) (S.1 5 0 1))) 1 ((S.1 5 0 1) + 1))) 10 run.toNatClampNeg (upd (S.1 10 run.toNatClampNeg) 9 ((gmax 0 (gmin 999 ((S.1 8 ((S.1 10 run.toNatClampNeg 0).toNatClampNeg) 10) + (S.1 5 0 0)))) / (50 : Int32))), S.2) A Fr []) F clX13 9 (by decide) (gT_w q1099 rfl) rfl rfl rfl (pr_put (κ := 10) (i := run.toNatClampNeg) gM0 hF (upd (S.1 10 run.toNatClampNeg) 9 ((gmax 0 (gmin 999 ((S.1 8 ((S.1 10 run.toNatClampNeg 0).toNatClampNeg) 10) + (S.1 5 0 0)))) / (50 : Int32))) (by decide) (gc6 (by decide) c_1.2) (gce (show (gsr S.1 5 0 (upd (upd (S.1 5 0) 0 (gnb (S.1 5 0 0) (S.1 5 0 1))) 1 ((S.1 5 0 1) + 1))) 10 run.toNatClampNeg = S.1 10 run.toNatClampNeg from (gsr_p (by decide) rfl)) rfl) (gnl rfl) rfl) dX1_stamp_76 ?_
    refine g_aload_n F 0 rfl rfl dX1_stamp_79 ?_
    refine g_getN F clX13 9 (by decide) (gT_w q1099 rfl) (v := .int ((gmax 0 (gmin 999 ((S.1 8 ((S.1 10 run.toNatClampNeg 0).toNatClampNeg) 10) + (S.1 5 0 0)))) / (50 : Int32))) (gd_get (pr_at (κ := 10) (i := run.toNatClampNeg) (by decide) (gc6 (by decide) c_1.2) (gce (show (gsr (gsr S.1 5 0 (upd (upd (S.1 5 0) 0 (gnb (S.1 5 0 0) (S.1 5 0 1))) 1 ((S.1 5 0 1) + 1))) 10 run.toNatClampNeg (upd (S.1 10 run.toNatClampNeg) 9 ((gmax 0 (gmin 999 ((S.1 8 ((S.1 10 run.toNatClampNeg 0).toNatClampNeg) 10) + (S.1 5 0 0)))) / (50 : Int32)))) 10 run.toNatClampNeg = upd (S.1 10 run.toNatClampNeg) 9 ((gmax 0 (gmin 999 ((S.1 8 ((S.1 10 run.toNatClampNeg 0).toNatClampNeg) 10) + (S.1 5 0 0)))) / (50 : Int32)) from gsr_s) rfl)) rfl) dX1_stamp_80 ?_
    exact g_retI F E rfl rfl (gle rfl) (gle rfl) dX1_stamp_83 (fun _ hp => ⟨_, _, ((if_pos c_1).trans (if_pos c_7)), rfl, ⟨A, rfl, gP_T0 hp⟩⟩)
  refine g_icmp_lt F (tgt := 57) (by decide) dX1_stamp_20 (fun c_2 => ?_) (fun c_2 => ?_)
  · skip
    refine g_iconst F (v := (0 : Int32)) (by decide) dX1_stamp_57 ?_
    exact g_top (gb_f (fun q => q.1 c_2)) J_6
  · skip
    refine g_aload_n F 0 rfl rfl dX1_stamp_23 ?_
    refine g_getN F clX13 7 (by decide) (gT_w q1094 rfl) (v := .int (S.1 10 run.toNatClampNeg 7)) (gd_get (pr_at (κ := 10) (i := run.toNatClampNeg) (by decide) (gc6 (by decide) c_1.2) (gce rfl rfl)) rfl) dX1_stamp_24 ?_
    refine g_iconst F (v := (3 : Int32)) (by decide) dX1_stamp_27 ?_
    refine g_icmp_lt F (tgt := 57) (by decide) dX1_stamp_28 (fun c_3 => ?_) (fun c_3 => ?_)
    · skip
      refine g_iconst F (v := (0 : Int32)) (by decide) dX1_stamp_57 ?_
      exact g_top (gb_f (fun q => (fun q => q.1 c_3) q.2)) J_6
    · skip
      refine g_aload_n F 0 rfl rfl dX1_stamp_31 ?_
      refine g_getN F clX13 9 (by decide) (gT_w q1099 rfl) (v := .int (S.1 10 run.toNatClampNeg 9)) (gd_get (pr_at (κ := 10) (i := run.toNatClampNeg) (by decide) (gc6 (by decide) c_1.2) (gce rfl rfl)) rfl) dX1_stamp_32 ?_
      refine g_iconst F (v := (-1 : Int32)) (by decide) dX1_stamp_35 ?_
      refine g_icmp_ne F (tgt := 57) (by decide) dX1_stamp_36 (fun c_4 => ?_) (fun c_4 => ?_)
      · skip
        refine g_iconst F (v := (0 : Int32)) (by decide) dX1_stamp_57 ?_
        exact g_top (gb_f (fun q => (fun q => (fun q => c_4 q.1) q.2) q.2)) J_6
      · skip
        refine g_aload_n F 0 rfl rfl dX1_stamp_39 ?_
        refine g_getN F clX13 1 (by decide) (gT_w q1083 rfl) (v := .ref (A 8 (S.1 10 run.toNatClampNeg 0).toNatClampNeg)) (gd_get (pr_at (κ := 10) (i := run.toNatClampNeg) (by decide) (gc6 (by decide) c_1.2) (gce rfl rfl)) rfl) dX1_stamp_40 ?_
        refine g_aload_n F 1 rfl rfl dX1_stamp_43 ?_
        refine g_get F clX1 0 (by decide) q135 (v := .int (S.1 0 0 0)) (gd_get (pr_at (κ := 0) (i := 0) (by decide) (gc1 (gnl rfl)) (gce rfl rfl)) rfl) dX1_stamp_44 ?_
        refine g_callV F (kX9_isReady hl (pr_at (κ := 8) (i := (S.1 10 run.toNatClampNeg 0).toNatClampNeg) (by decide) (gc6 (by decide) (gw_10_0 hW c_1.2).2) (gce rfl rfl))) (g_recv F clX9 (gd_obj (pr_at (κ := 8) (i := (S.1 10 run.toNatClampNeg 0).toNatClampNeg) (by decide) (gc6 (by decide) (gw_10_0 hW c_1.2).2) (gce rfl rfl)))) q958 q959 q960 q47 q961 myX9_isReady ⟨by decide, by decide⟩ rfl rfl (gle rfl) 1 6 (gle rfl) (gle rfl) (gle rfl) (gle rfl) dX1_stamp_47 gx_n (gv_i ?_)
        refine gb_if_eq F (tgt := 57) (by decide) dX1_stamp_50 (fun c_5 => ?_) (fun c_5 => ?_)
        · skip
          refine g_iconst F (v := (0 : Int32)) (by decide) dX1_stamp_57 ?_
          exact g_top (gb_f (fun q => (fun q => (fun q => c_5 q.2) q.2) q.2)) J_6
        · skip
          refine g_iconst F (v := (1 : Int32)) (by decide) dX1_stamp_53 ?_
          refine g_goto F (tgt := 58) (by decide) dX1_stamp_54 ?_
          exact g_top (gb_t (⟨c_2, ⟨c_3, ⟨c_4, c_5⟩⟩⟩)) J_6

def sC_mixture (S : gS) (mixture what : Int32) : gO := if gIn mixture (S.2 7) then (if ¬ ((gidx 1 what) < 0) then (.inr (.int (if what = (99 : Int32) then (S.1 7 mixture.toNatClampNeg 2) else (if what = (102 : Int32) then (S.1 7 mixture.toNatClampNeg 3) else (S.1 7 mixture.toNatClampNeg 4))), S)) else (.inl "java/lang/IllegalArgumentException")) else (.inl "java/lang/IndexOutOfBoundsException")
theorem kX1_mixture {l : Launch} {G : gG} (hl : l.stackTraces = false) {S : gS} {a0 : Nat} {Fr : gH → Prop} (hF : gFr 0 Fr) (hW : gWf S) {mixture what : Int32} (h_what : ¬ what < 0) : gMet l yX1_mixture (ws_ yX1_mixture cX1_mixture 4 (some .int)) ⟨8, 2, 12, 123⟩ G [.ref a0, .int mixture, .int what] (gPE 0 G S a0 Fr) (gqS (sC_mixture S mixture what) 0 G a0 Fr) (gxS (sC_mixture S mixture what) 0 G S a0 Fr) := by
  refine gMet_of hl pnX1 (gle rfl) (fun X Q hX F E hNm => ?_)
  subst hX
  change gW (X, G, 4, Q) (gPE 0 G S a0 Fr) [(0, .ref a0), (1, .int mixture), (2, .int what)] 0 [] 0 0
  refine g_pe (fun A hA => ?_)
  subst hA
  change gW _ _ [(0, .ref (A 0 0)), (1, .int mixture), (2, .int what)] 0 [] 0 0
  refine g_aload_n F 0 rfl rfl dX1_mixture_0 ?_
  refine g_get F clX1 8 (by decide) q143 (v := .ref (A 307 0)) (gd_get (pr_at (κ := 0) (i := 0) (by decide) (gc1 (gnl rfl)) (gce rfl rfl)) rfl) dX1_mixture_1 ?_
  refine g_iload_n F 1 rfl rfl dX1_mixture_4 ?_
  refine g_callS F (kX1_require hl (pr_ls (M := 0) (S := S) (A := A) (κ := 7) (by decide) (Or.inl ⟨by decide, by decide⟩) (fun q => by first | decide | exact absurd q (by decide)) (fun q => by first | decide | exact absurd q (by decide))) (gw_n hW _) (x := mixture)) (lw_S q784 q785 q18 q786) myX1_require ⟨by decide, by decide⟩ rfl rfl (gle rfl) 1 6 (gle rfl) (gle rfl) (gle rfl) (gle rfl) dX1_mixture_5 (gx_1 (fun c_1 => g_out0 F E (gle rfl) (gle rfl) (fun _ hp => ⟨(if_neg c_1), gPE_0 _ hp⟩))) (gv_y (fun c_1 => ?_))
  refine g_castS F (g_recv F clX8 (gd_obj (pr_at (κ := 7) (i := mixture.toNatClampNeg) (by decide) (gc6 (by decide) c_1.2) (gce rfl rfl)))) q831 dX1_mixture_8 ?_
  refine g_astore_n F rfl (by show 3 < 4; decide) (lv2 := [(3, .ref (A 7 mixture.toNatClampNeg)), (0, .ref (A 0 0)), (1, .int mixture), (2, .int what)]) rfl dX1_mixture_11 ?_
  refine g_ldcS F (i := 1) (List.mem_of_getElem? (i := 1) rfl) dX1_mixture_12 ?_
  refine g_iload_n F 3 rfl rfl dX1_mixture_14 ?_
  refine g_callV F (kJ0_indexOf hl (by decide) (ch := what) h_what) (g_srecv F (by decide)) q435 q436 q437 q19 q438 myJ0_indexOf ⟨by decide, by decide⟩ rfl rfl (gle rfl) 1 6 (gle rfl) (gle rfl) (gle rfl) (gle rfl) dX1_mixture_15 gx_n (gv_i ?_)
  have J_3 : gW (X, G, 4, Q) (gP 0 G S A Fr []) [(3, .ref (A 7 mixture.toNatClampNeg)), (0, .ref (A 0 0)), (1, .int mixture), (2, .int what)] 26 [.int (gb (¬ ((gidx 1 what) < 0)))] 1 6 := by
    refine g_callS F (kX1_requireArgument hl (c := ¬ ((gidx 1 what) < 0))) (lw_S q335 q336 q18 q337) myX1_requireArgument ⟨by decide, by decide⟩ rfl rfl (gle rfl) 2 12 (gle rfl) (gle rfl) (gle rfl) (gle rfl) dX1_mixture_26 (gx_1 (fun c_4 => g_out0 F E (gle rfl) (gle rfl) (fun _ hp => ⟨((if_pos c_1).trans (if_neg c_4)), gPE_0 _ hp⟩))) (gv_c (fun c_4 => ?_))
    refine g_iload_n F 3 rfl rfl dX1_mixture_29 ?_
    refine g_bipush F (v := (99 : Int32)) (by decide) dX1_mixture_30 ?_
    have J_7 : gW (X, G, 4, Q) (gP 0 G S A Fr []) [(3, .ref (A 7 mixture.toNatClampNeg)), (0, .ref (A 0 0)), (1, .int mixture), (2, .int what)] 59 [.int (if what = (99 : Int32) then (S.1 7 mixture.toNatClampNeg 2) else (if what = (102 : Int32) then (S.1 7 mixture.toNatClampNeg 3) else (S.1 7 mixture.toNatClampNeg 4)))] 2 12 := by
      exact g_retI F E rfl rfl (gle rfl) (gle rfl) dX1_mixture_59 (fun _ hp => ⟨_, _, ((if_pos c_1).trans (if_pos c_4)), rfl, ⟨A, rfl, gP_T0 hp⟩⟩)
    refine g_icmp_ne F (tgt := 42) (by decide) dX1_mixture_32 (fun c_5 => ?_) (fun c_5 => ?_)
    · skip
      refine g_iload_n F 3 rfl rfl dX1_mixture_42 ?_
      refine g_bipush F (v := (102 : Int32)) (by decide) dX1_mixture_43 ?_
      refine g_icmp_ne F (tgt := 55) (by decide) dX1_mixture_45 (fun c_6 => ?_) (fun c_6 => ?_)
      · skip
        refine g_aload_n F 0 rfl rfl dX1_mixture_55 ?_
        refine g_getN F clX8 4 (by decide) (gT_w q848 rfl) (v := .int (S.1 7 mixture.toNatClampNeg 4)) (gd_get (pr_at (κ := 7) (i := mixture.toNatClampNeg) (by decide) (gc6 (by decide) c_1.2) (gce rfl rfl)) rfl) dX1_mixture_56 ?_
        exact g_top (by rw [if_neg c_5, if_neg c_6]) J_7
      · skip
        refine g_aload_n F 0 rfl rfl dX1_mixture_48 ?_
        refine g_getN F clX8 3 (by decide) (gT_w q846 rfl) (v := .int (S.1 7 mixture.toNatClampNeg 3)) (gd_get (pr_at (κ := 7) (i := mixture.toNatClampNeg) (by decide) (gc6 (by decide) c_1.2) (gce rfl rfl)) rfl) dX1_mixture_49 ?_
        refine g_goto F (tgt := 59) (by decide) dX1_mixture_52 ?_
        exact g_top (by rw [if_neg c_5, if_pos c_6]) J_7
    · skip
      refine g_aload_n F 0 rfl rfl dX1_mixture_35 ?_
      refine g_getN F clX8 2 (by decide) (gT_w q844 rfl) (v := .int (S.1 7 mixture.toNatClampNeg 2)) (gd_get (pr_at (κ := 7) (i := mixture.toNatClampNeg) (by decide) (gc6 (by decide) c_1.2) (gce rfl rfl)) rfl) dX1_mixture_36 ?_
      refine g_goto F (tgt := 59) (by decide) dX1_mixture_39 ?_
      exact g_top (by rw [if_pos c_5]) J_7
  refine g_if_lt F (tgt := 25) (by decide) dX1_mixture_18 (fun c_2 => ?_) (fun c_2 => ?_)
  · skip
    refine g_iconst F (v := (0 : Int32)) (by decide) dX1_mixture_25 ?_
    exact g_top (gb_f (fun q => q c_2)) J_3
  · skip
    refine g_iconst F (v := (1 : Int32)) (by decide) dX1_mixture_21 ?_
    refine g_goto F (tgt := 26) (by decide) dX1_mixture_22 ?_
    exact g_top (gb_t c_2) J_3

def sC_batch (S : gS) (batch what : Int32) : gO := if gIn batch (S.2 8) then (if ¬ ((gidx 2 what) < 0) then (if what = (98 : Int32) then (.inr (.int (S.1 8 batch.toNatClampNeg 3), S)) else (if what = (100 : Int32) then (.inr (.int (S.1 8 batch.toNatClampNeg 10), S)) else (if what = (110 : Int32) then (.inr (.int (S.1 8 batch.toNatClampNeg 1), S)) else (if what = (114 : Int32) then (.inr (.int (S.1 8 batch.toNatClampNeg 4), S)) else (if what = (115 : Int32) then (.inr (.int (S.1 8 batch.toNatClampNeg 9), S)) else (if what = (119 : Int32) then (.inr (.int (S.1 8 batch.toNatClampNeg 2), S)) else (.inr (.int (S.1 8 batch.toNatClampNeg 6), S)))))))) else (.inl "java/lang/IllegalArgumentException")) else (.inl "java/lang/IndexOutOfBoundsException")
theorem kX1_batch {l : Launch} {G : gG} (hl : l.stackTraces = false) {S : gS} {a0 : Nat} {Fr : gH → Prop} (hF : gFr 0 Fr) (hW : gWf S) {batch what : Int32} (h_what : ¬ what < 0) : gMet l yX1_batch (ws_ yX1_batch cX1_batch 4 (some .int)) ⟨8, 2, 12, 123⟩ G [.ref a0, .int batch, .int what] (gPE 0 G S a0 Fr) (gqS (sC_batch S batch what) 0 G a0 Fr) (gxS (sC_batch S batch what) 0 G S a0 Fr) := by
  refine gMet_of hl pnX1 (gle rfl) (fun X Q hX F E hNm => ?_)
  subst hX
  change gW (X, G, 4, Q) (gPE 0 G S a0 Fr) [(0, .ref a0), (1, .int batch), (2, .int what)] 0 [] 0 0
  refine g_pe (fun A hA => ?_)
  subst hA
  change gW _ _ [(0, .ref (A 0 0)), (1, .int batch), (2, .int what)] 0 [] 0 0
  refine g_aload_n F 0 rfl rfl dX1_batch_0 ?_
  refine g_get F clX1 9 (by decide) q144 (v := .ref (A 308 0)) (gd_get (pr_at (κ := 0) (i := 0) (by decide) (gc1 (gnl rfl)) (gce rfl rfl)) rfl) dX1_batch_1 ?_
  refine g_iload_n F 1 rfl rfl dX1_batch_4 ?_
  refine g_callS F (kX1_require hl (pr_ls (M := 0) (S := S) (A := A) (κ := 8) (by decide) (Or.inl ⟨by decide, by decide⟩) (fun q => by first | decide | exact absurd q (by decide)) (fun q => by first | decide | exact absurd q (by decide))) (gw_n hW _) (x := batch)) (lw_S q784 q785 q18 q786) myX1_require ⟨by decide, by decide⟩ rfl rfl (gle rfl) 1 6 (gle rfl) (gle rfl) (gle rfl) (gle rfl) dX1_batch_5 (gx_1 (fun c_1 => g_out0 F E (gle rfl) (gle rfl) (fun _ hp => ⟨(if_neg c_1), gPE_0 _ hp⟩))) (gv_y (fun c_1 => ?_))
  refine g_castS F (g_recv F clX9 (gd_obj (pr_at (κ := 8) (i := batch.toNatClampNeg) (by decide) (gc6 (by decide) c_1.2) (gce rfl rfl)))) q295 dX1_batch_8 ?_
  refine g_astore_n F rfl (by show 3 < 4; decide) (lv2 := [(3, .ref (A 8 batch.toNatClampNeg)), (0, .ref (A 0 0)), (1, .int batch), (2, .int what)]) rfl dX1_batch_11 ?_
  refine g_ldcS F (i := 2) (List.mem_of_getElem? (i := 2) rfl) dX1_batch_12 ?_
  refine g_iload_n F 3 rfl rfl dX1_batch_14 ?_
  refine g_callV F (kJ0_indexOf hl (by decide) (ch := what) h_what) (g_srecv F (by decide)) q435 q436 q437 q19 q438 myJ0_indexOf ⟨by decide, by decide⟩ rfl rfl (gle rfl) 1 6 (gle rfl) (gle rfl) (gle rfl) (gle rfl) dX1_batch_15 gx_n (gv_i ?_)
  have J_3 : gW (X, G, 4, Q) (gP 0 G S A Fr []) [(3, .ref (A 8 batch.toNatClampNeg)), (0, .ref (A 0 0)), (1, .int batch), (2, .int what)] 26 [.int (gb (¬ ((gidx 2 what) < 0)))] 1 6 := by
    refine g_callS F (kX1_requireArgument hl (c := ¬ ((gidx 2 what) < 0))) (lw_S q335 q336 q18 q337) myX1_requireArgument ⟨by decide, by decide⟩ rfl rfl (gle rfl) 2 12 (gle rfl) (gle rfl) (gle rfl) (gle rfl) dX1_batch_26 (gx_1 (fun c_4 => g_out0 F E (gle rfl) (gle rfl) (fun _ hp => ⟨((if_pos c_1).trans (if_neg c_4)), gPE_0 _ hp⟩))) (gv_c (fun c_4 => ?_))
    refine g_iload_n F 3 rfl rfl dX1_batch_29 ?_
    refine g_cases (x := what) (98 : Int32) (fun w_5 => ?_) (fun w_5 => ?_)
    · skip
      refine g_lookup F (x := what) rfl (off := 72) (by rw [w_5]; rfl) (tgt := 102) (by decide) dX1_batch_30 ?_
      refine g_aload_n F 0 rfl rfl dX1_batch_102 ?_
      refine g_getN F clX9 2 (by decide) (gT_w q889 rfl) (v := .int (S.1 8 batch.toNatClampNeg 3)) (gd_get (pr_at (κ := 8) (i := batch.toNatClampNeg) (by decide) (gc6 (by decide) c_1.2) (gce rfl rfl)) rfl) dX1_batch_103 ?_
      refine g_goto F (tgt := 134) (by decide) dX1_batch_106 ?_
      exact g_retI F E rfl rfl (gle rfl) (gle rfl) dX1_batch_134 (fun _ hp => ⟨_, _, ((if_pos c_1).trans ((if_pos c_4).trans (if_pos w_5))), rfl, ⟨A, rfl, gP_T0 hp⟩⟩)
    refine g_cases (x := what) (100 : Int32) (fun w_6 => ?_) (fun w_6 => ?_)
    · skip
      refine g_lookup F (x := what) rfl (off := 93) (by rw [w_6]; rfl) (tgt := 123) (by decide) dX1_batch_30 ?_
      refine g_aload_n F 0 rfl rfl dX1_batch_123 ?_
      refine g_getN F clX9 11 (by decide) (gT_w q904 rfl) (v := .int (S.1 8 batch.toNatClampNeg 10)) (gd_get (pr_at (κ := 8) (i := batch.toNatClampNeg) (by decide) (gc6 (by decide) c_1.2) (gce rfl rfl)) rfl) dX1_batch_124 ?_
      refine g_goto F (tgt := 134) (by decide) dX1_batch_127 ?_
      exact g_retI F E rfl rfl (gle rfl) (gle rfl) dX1_batch_134 (fun _ hp => ⟨_, _, ((if_pos c_1).trans ((if_pos c_4).trans ((if_neg w_5).trans (if_pos w_6)))), rfl, ⟨A, rfl, gP_T0 hp⟩⟩)
    refine g_cases (x := what) (110 : Int32) (fun w_7 => ?_) (fun w_7 => ?_)
    · skip
      refine g_lookup F (x := what) rfl (off := 58) (by rw [w_7]; rfl) (tgt := 88) (by decide) dX1_batch_30 ?_
      refine g_aload_n F 0 rfl rfl dX1_batch_88 ?_
      refine g_getN F clX9 3 (by decide) (gT_w q891 rfl) (v := .int (S.1 8 batch.toNatClampNeg 1)) (gd_get (pr_at (κ := 8) (i := batch.toNatClampNeg) (by decide) (gc6 (by decide) c_1.2) (gce rfl rfl)) rfl) dX1_batch_89 ?_
      refine g_goto F (tgt := 134) (by decide) dX1_batch_92 ?_
      exact g_retI F E rfl rfl (gle rfl) (gle rfl) dX1_batch_134 (fun _ hp => ⟨_, _, ((if_pos c_1).trans ((if_pos c_4).trans ((if_neg w_5).trans ((if_neg w_6).trans (if_pos w_7))))), rfl, ⟨A, rfl, gP_T0 hp⟩⟩)
    refine g_cases (x := what) (114 : Int32) (fun w_8 => ?_) (fun w_8 => ?_)
    · skip
      refine g_lookup F (x := what) rfl (off := 79) (by rw [w_8]; rfl) (tgt := 109) (by decide) dX1_batch_30 ?_
      refine g_aload_n F 0 rfl rfl dX1_batch_109 ?_
      refine g_getN F clX9 5 (by decide) (gT_w q894 rfl) (v := .int (S.1 8 batch.toNatClampNeg 4)) (gd_get (pr_at (κ := 8) (i := batch.toNatClampNeg) (by decide) (gc6 (by decide) c_1.2) (gce rfl rfl)) rfl) dX1_batch_110 ?_
      refine g_goto F (tgt := 134) (by decide) dX1_batch_113 ?_
      exact g_retI F E rfl rfl (gle rfl) (gle rfl) dX1_batch_134 (fun _ hp => ⟨_, _, ((if_pos c_1).trans ((if_pos c_4).trans ((if_neg w_5).trans ((if_neg w_6).trans ((if_neg w_7).trans (if_pos w_8)))))), rfl, ⟨A, rfl, gP_T0 hp⟩⟩)
    refine g_cases (x := what) (115 : Int32) (fun w_9 => ?_) (fun w_9 => ?_)
    · skip
      refine g_lookup F (x := what) rfl (off := 86) (by rw [w_9]; rfl) (tgt := 116) (by decide) dX1_batch_30 ?_
      refine g_aload_n F 0 rfl rfl dX1_batch_116 ?_
      refine g_getN F clX9 10 (by decide) (gT_w q901 rfl) (v := .int (S.1 8 batch.toNatClampNeg 9)) (gd_get (pr_at (κ := 8) (i := batch.toNatClampNeg) (by decide) (gc6 (by decide) c_1.2) (gce rfl rfl)) rfl) dX1_batch_117 ?_
      refine g_goto F (tgt := 134) (by decide) dX1_batch_120 ?_
      exact g_retI F E rfl rfl (gle rfl) (gle rfl) dX1_batch_134 (fun _ hp => ⟨_, _, ((if_pos c_1).trans ((if_pos c_4).trans ((if_neg w_5).trans ((if_neg w_6).trans ((if_neg w_7).trans ((if_neg w_8).trans (if_pos w_9))))))), rfl, ⟨A, rfl, gP_T0 hp⟩⟩)
    refine g_cases (x := what) (119 : Int32) (fun w_10 => ?_) (fun w_10 => ?_)
    · skip
      refine g_lookup F (x := what) rfl (off := 65) (by rw [w_10]; rfl) (tgt := 95) (by decide) dX1_batch_30 ?_
      refine g_aload_n F 0 rfl rfl dX1_batch_95 ?_
      refine g_getN F clX9 4 (by decide) (gT_w q892 rfl) (v := .int (S.1 8 batch.toNatClampNeg 2)) (gd_get (pr_at (κ := 8) (i := batch.toNatClampNeg) (by decide) (gc6 (by decide) c_1.2) (gce rfl rfl)) rfl) dX1_batch_96 ?_
      refine g_goto F (tgt := 134) (by decide) dX1_batch_99 ?_
      exact g_retI F E rfl rfl (gle rfl) (gle rfl) dX1_batch_134 (fun _ hp => ⟨_, _, ((if_pos c_1).trans ((if_pos c_4).trans ((if_neg w_5).trans ((if_neg w_6).trans ((if_neg w_7).trans ((if_neg w_8).trans ((if_neg w_9).trans (if_pos w_10)))))))), rfl, ⟨A, rfl, gP_T0 hp⟩⟩)
    refine g_lookup F (x := what) rfl (off := 100) (goff_d _ (gAc (fun q => w_5 (Int32.toInt_inj.mp (q.trans (by decide)))) (gAc (fun q => w_6 (Int32.toInt_inj.mp (q.trans (by decide)))) (gAc (fun q => w_7 (Int32.toInt_inj.mp (q.trans (by decide)))) (gAc (fun q => w_8 (Int32.toInt_inj.mp (q.trans (by decide)))) (gAc (fun q => w_9 (Int32.toInt_inj.mp (q.trans (by decide)))) (gAc (fun q => w_10 (Int32.toInt_inj.mp (q.trans (by decide)))) gAn))))))) (tgt := 130) (by decide) dX1_batch_30 ?_
    refine g_aload_n F 0 rfl rfl dX1_batch_130 ?_
    refine g_getN F clX9 8 (by decide) (gT_w q898 rfl) (v := .int (S.1 8 batch.toNatClampNeg 6)) (gd_get (pr_at (κ := 8) (i := batch.toNatClampNeg) (by decide) (gc6 (by decide) c_1.2) (gce rfl rfl)) rfl) dX1_batch_131 ?_
    exact g_retI F E rfl rfl (gle rfl) (gle rfl) dX1_batch_134 (fun _ hp => ⟨_, _, ((if_pos c_1).trans ((if_pos c_4).trans ((if_neg w_5).trans ((if_neg w_6).trans ((if_neg w_7).trans ((if_neg w_8).trans ((if_neg w_9).trans (if_neg w_10)))))))), rfl, ⟨A, rfl, gP_T0 hp⟩⟩)
  refine g_if_lt F (tgt := 25) (by decide) dX1_batch_18 (fun c_2 => ?_) (fun c_2 => ?_)
  · skip
    refine g_iconst F (v := (0 : Int32)) (by decide) dX1_batch_25 ?_
    exact g_top (gb_f (fun q => q c_2)) J_3
  · skip
    refine g_iconst F (v := (1 : Int32)) (by decide) dX1_batch_21 ?_
    refine g_goto F (tgt := 26) (by decide) dX1_batch_22 ?_
    exact g_top (gb_t c_2) J_3

def sC_slat (S : gS) (slats what : Int32) : gO := if gIn slats (S.2 9) then (if ¬ ((gidx 3 what) < 0) then (.inr (.int (if what = (110 : Int32) then (S.1 9 slats.toNatClampNeg 3) else (if what = (119 : Int32) then (S.1 9 slats.toNatClampNeg 2) else (if what = (103 : Int32) then (S.1 9 slats.toNatClampNeg 4) else (S.1 9 slats.toNatClampNeg 5)))), S)) else (.inl "java/lang/IllegalArgumentException")) else (.inl "java/lang/IndexOutOfBoundsException")
theorem kX1_slat {l : Launch} {G : gG} (hl : l.stackTraces = false) {S : gS} {a0 : Nat} {Fr : gH → Prop} (hF : gFr 0 Fr) (hW : gWf S) {slats what : Int32} (h_what : ¬ what < 0) : gMet l yX1_slat (ws_ yX1_slat cX1_slat 4 (some .int)) ⟨8, 2, 12, 123⟩ G [.ref a0, .int slats, .int what] (gPE 0 G S a0 Fr) (gqS (sC_slat S slats what) 0 G a0 Fr) (gxS (sC_slat S slats what) 0 G S a0 Fr) := by
  refine gMet_of hl pnX1 (gle rfl) (fun X Q hX F E hNm => ?_)
  subst hX
  change gW (X, G, 4, Q) (gPE 0 G S a0 Fr) [(0, .ref a0), (1, .int slats), (2, .int what)] 0 [] 0 0
  refine g_pe (fun A hA => ?_)
  subst hA
  change gW _ _ [(0, .ref (A 0 0)), (1, .int slats), (2, .int what)] 0 [] 0 0
  refine g_aload_n F 0 rfl rfl dX1_slat_0 ?_
  refine g_get F clX1 12 (by decide) q147 (v := .ref (A 309 0)) (gd_get (pr_at (κ := 0) (i := 0) (by decide) (gc1 (gnl rfl)) (gce rfl rfl)) rfl) dX1_slat_1 ?_
  refine g_iload_n F 1 rfl rfl dX1_slat_4 ?_
  refine g_callS F (kX1_require hl (pr_ls (M := 0) (S := S) (A := A) (κ := 9) (by decide) (Or.inl ⟨by decide, by decide⟩) (fun q => by first | decide | exact absurd q (by decide)) (fun q => by first | decide | exact absurd q (by decide))) (gw_n hW _) (x := slats)) (lw_S q784 q785 q18 q786) myX1_require ⟨by decide, by decide⟩ rfl rfl (gle rfl) 1 6 (gle rfl) (gle rfl) (gle rfl) (gle rfl) dX1_slat_5 (gx_1 (fun c_1 => g_out0 F E (gle rfl) (gle rfl) (fun _ hp => ⟨(if_neg c_1), gPE_0 _ hp⟩))) (gv_y (fun c_1 => ?_))
  refine g_castS F (g_recv F clX11 (gd_obj (pr_at (κ := 9) (i := slats.toNatClampNeg) (by decide) (gc6 (by decide) c_1.2) (gce rfl rfl)))) q1003 dX1_slat_8 ?_
  refine g_astore_n F rfl (by show 3 < 4; decide) (lv2 := [(3, .ref (A 9 slats.toNatClampNeg)), (0, .ref (A 0 0)), (1, .int slats), (2, .int what)]) rfl dX1_slat_11 ?_
  refine g_ldcSW F (i := 3) (List.mem_of_getElem? (i := 3) rfl) dX1_slat_12 ?_
  refine g_iload_n F 3 rfl rfl dX1_slat_15 ?_
  refine g_callV F (kJ0_indexOf hl (by decide) (ch := what) h_what) (g_srecv F (by decide)) q435 q436 q437 q19 q438 myJ0_indexOf ⟨by decide, by decide⟩ rfl rfl (gle rfl) 1 6 (gle rfl) (gle rfl) (gle rfl) (gle rfl) dX1_slat_16 gx_n (gv_i ?_)
  have J_3 : gW (X, G, 4, Q) (gP 0 G S A Fr []) [(3, .ref (A 9 slats.toNatClampNeg)), (0, .ref (A 0 0)), (1, .int slats), (2, .int what)] 27 [.int (gb (¬ ((gidx 3 what) < 0)))] 1 6 := by
    refine g_callS F (kX1_requireArgument hl (c := ¬ ((gidx 3 what) < 0))) (lw_S q335 q336 q18 q337) myX1_requireArgument ⟨by decide, by decide⟩ rfl rfl (gle rfl) 2 12 (gle rfl) (gle rfl) (gle rfl) (gle rfl) dX1_slat_27 (gx_1 (fun c_4 => g_out0 F E (gle rfl) (gle rfl) (fun _ hp => ⟨((if_pos c_1).trans (if_neg c_4)), gPE_0 _ hp⟩))) (gv_c (fun c_4 => ?_))
    refine g_iload_n F 3 rfl rfl dX1_slat_30 ?_
    refine g_bipush F (v := (110 : Int32)) (by decide) dX1_slat_31 ?_
    have J_8 : gW (X, G, 4, Q) (gP 0 G S A Fr []) [(3, .ref (A 9 slats.toNatClampNeg)), (0, .ref (A 0 0)), (1, .int slats), (2, .int what)] 73 [.int (if what = (110 : Int32) then (S.1 9 slats.toNatClampNeg 3) else (if what = (119 : Int32) then (S.1 9 slats.toNatClampNeg 2) else (if what = (103 : Int32) then (S.1 9 slats.toNatClampNeg 4) else (S.1 9 slats.toNatClampNeg 5))))] 2 12 := by
      exact g_retI F E rfl rfl (gle rfl) (gle rfl) dX1_slat_73 (fun _ hp => ⟨_, _, ((if_pos c_1).trans (if_pos c_4)), rfl, ⟨A, rfl, gP_T0 hp⟩⟩)
    refine g_icmp_ne F (tgt := 43) (by decide) dX1_slat_33 (fun c_5 => ?_) (fun c_5 => ?_)
    · skip
      refine g_iload_n F 3 rfl rfl dX1_slat_43 ?_
      refine g_bipush F (v := (119 : Int32)) (by decide) dX1_slat_44 ?_
      refine g_icmp_ne F (tgt := 56) (by decide) dX1_slat_46 (fun c_6 => ?_) (fun c_6 => ?_)
      · skip
        refine g_iload_n F 3 rfl rfl dX1_slat_56 ?_
        refine g_bipush F (v := (103 : Int32)) (by decide) dX1_slat_57 ?_
        refine g_icmp_ne F (tgt := 69) (by decide) dX1_slat_59 (fun c_7 => ?_) (fun c_7 => ?_)
        · skip
          refine g_aload_n F 0 rfl rfl dX1_slat_69 ?_
          refine g_getN F clX11 6 (by decide) (gT_w q1021 rfl) (v := .int (S.1 9 slats.toNatClampNeg 5)) (gd_get (pr_at (κ := 9) (i := slats.toNatClampNeg) (by decide) (gc6 (by decide) c_1.2) (gce rfl rfl)) rfl) dX1_slat_70 ?_
          exact g_top (by rw [if_neg c_5, if_neg c_6, if_neg c_7]) J_8
        · skip
          refine g_aload_n F 0 rfl rfl dX1_slat_62 ?_
          refine g_getN F clX11 5 (by decide) (gT_w q1020 rfl) (v := .int (S.1 9 slats.toNatClampNeg 4)) (gd_get (pr_at (κ := 9) (i := slats.toNatClampNeg) (by decide) (gc6 (by decide) c_1.2) (gce rfl rfl)) rfl) dX1_slat_63 ?_
          refine g_goto F (tgt := 73) (by decide) dX1_slat_66 ?_
          exact g_top (by rw [if_neg c_5, if_neg c_6, if_pos c_7]) J_8
      · skip
        refine g_aload_n F 0 rfl rfl dX1_slat_49 ?_
        refine g_getN F clX11 3 (by decide) (gT_w q1016 rfl) (v := .int (S.1 9 slats.toNatClampNeg 2)) (gd_get (pr_at (κ := 9) (i := slats.toNatClampNeg) (by decide) (gc6 (by decide) c_1.2) (gce rfl rfl)) rfl) dX1_slat_50 ?_
        refine g_goto F (tgt := 73) (by decide) dX1_slat_53 ?_
        exact g_top (by rw [if_neg c_5, if_pos c_6]) J_8
    · skip
      refine g_aload_n F 0 rfl rfl dX1_slat_36 ?_
      refine g_getN F clX11 4 (by decide) (gT_w q1018 rfl) (v := .int (S.1 9 slats.toNatClampNeg 3)) (gd_get (pr_at (κ := 9) (i := slats.toNatClampNeg) (by decide) (gc6 (by decide) c_1.2) (gce rfl rfl)) rfl) dX1_slat_37 ?_
      refine g_goto F (tgt := 73) (by decide) dX1_slat_40 ?_
      exact g_top (by rw [if_pos c_5]) J_8
  refine g_if_lt F (tgt := 26) (by decide) dX1_slat_19 (fun c_2 => ?_) (fun c_2 => ?_)
  · skip
    refine g_iconst F (v := (0 : Int32)) (by decide) dX1_slat_26 ?_
    exact g_top (gb_f (fun q => q c_2)) J_3
  · skip
    refine g_iconst F (v := (1 : Int32)) (by decide) dX1_slat_22 ?_
    refine g_goto F (tgt := 27) (by decide) dX1_slat_23 ?_
    exact g_top (gb_t c_2) J_3

def sC_run (S : gS) (run what : Int32) : gO := if gIn run (S.2 10) then (if ¬ ((gidx 5 what) < 0) then (if what = (98 : Int32) then (.inr (.int (S.1 10 run.toNatClampNeg 4), S)) else (if what = (99 : Int32) then (.inr (.int (S.1 10 run.toNatClampNeg 7), S)) else (if what = (103 : Int32) then (.inr (.int (S.1 10 run.toNatClampNeg 9), S)) else (if what = (108 : Int32) then (.inr (.int (S.1 10 run.toNatClampNeg 8), S)) else (if what = (110 : Int32) then (.inr (.int (S.1 10 run.toNatClampNeg 3), S)) else (if what = (111 : Int32) then (.inr (.int (S.1 10 run.toNatClampNeg 5), S)) else (.inr (.int (S.1 10 run.toNatClampNeg 6), S)))))))) else (.inl "java/lang/IllegalArgumentException")) else (.inl "java/lang/IndexOutOfBoundsException")
theorem kX1_run {l : Launch} {G : gG} (hl : l.stackTraces = false) {S : gS} {a0 : Nat} {Fr : gH → Prop} (hF : gFr 0 Fr) (hW : gWf S) {run what : Int32} (h_what : ¬ what < 0) : gMet l yX1_run (ws_ yX1_run cX1_run 4 (some .int)) ⟨8, 2, 12, 123⟩ G [.ref a0, .int run, .int what] (gPE 0 G S a0 Fr) (gqS (sC_run S run what) 0 G a0 Fr) (gxS (sC_run S run what) 0 G S a0 Fr) := by
  refine gMet_of hl pnX1 (gle rfl) (fun X Q hX F E hNm => ?_)
  subst hX
  change gW (X, G, 4, Q) (gPE 0 G S a0 Fr) [(0, .ref a0), (1, .int run), (2, .int what)] 0 [] 0 0
  refine g_pe (fun A hA => ?_)
  subst hA
  change gW _ _ [(0, .ref (A 0 0)), (1, .int run), (2, .int what)] 0 [] 0 0
  refine g_aload_n F 0 rfl rfl dX1_run_0 ?_
  refine g_get F clX1 13 (by decide) q148 (v := .ref (A 310 0)) (gd_get (pr_at (κ := 0) (i := 0) (by decide) (gc1 (gnl rfl)) (gce rfl rfl)) rfl) dX1_run_1 ?_
  refine g_iload_n F 1 rfl rfl dX1_run_4 ?_
  refine g_callS F (kX1_require hl (pr_ls (M := 0) (S := S) (A := A) (κ := 10) (by decide) (Or.inl ⟨by decide, by decide⟩) (fun q => by first | decide | exact absurd q (by decide)) (fun q => by first | decide | exact absurd q (by decide))) (gw_n hW _) (x := run)) (lw_S q784 q785 q18 q786) myX1_require ⟨by decide, by decide⟩ rfl rfl (gle rfl) 1 6 (gle rfl) (gle rfl) (gle rfl) (gle rfl) dX1_run_5 (gx_1 (fun c_1 => g_out0 F E (gle rfl) (gle rfl) (fun _ hp => ⟨(if_neg c_1), gPE_0 _ hp⟩))) (gv_y (fun c_1 => ?_))
  refine g_castS F (g_recv F clX13 (gd_obj (pr_at (κ := 10) (i := run.toNatClampNeg) (by decide) (gc6 (by decide) c_1.2) (gce rfl rfl)))) q297 dX1_run_8 ?_
  refine g_astore_n F rfl (by show 3 < 4; decide) (lv2 := [(3, .ref (A 10 run.toNatClampNeg)), (0, .ref (A 0 0)), (1, .int run), (2, .int what)]) rfl dX1_run_11 ?_
  refine g_ldcSW F (i := 5) (List.mem_of_getElem? (i := 5) rfl) dX1_run_12 ?_
  refine g_iload_n F 3 rfl rfl dX1_run_15 ?_
  refine g_callV F (kJ0_indexOf hl (by decide) (ch := what) h_what) (g_srecv F (by decide)) q435 q436 q437 q19 q438 myJ0_indexOf ⟨by decide, by decide⟩ rfl rfl (gle rfl) 1 6 (gle rfl) (gle rfl) (gle rfl) (gle rfl) dX1_run_16 gx_n (gv_i ?_)
  have J_3 : gW (X, G, 4, Q) (gP 0 G S A Fr []) [(3, .ref (A 10 run.toNatClampNeg)), (0, .ref (A 0 0)), (1, .int run), (2, .int what)] 27 [.int (gb (¬ ((gidx 5 what) < 0)))] 1 6 := by
    refine g_callS F (kX1_requireArgument hl (c := ¬ ((gidx 5 what) < 0))) (lw_S q335 q336 q18 q337) myX1_requireArgument ⟨by decide, by decide⟩ rfl rfl (gle rfl) 2 12 (gle rfl) (gle rfl) (gle rfl) (gle rfl) dX1_run_27 (gx_1 (fun c_4 => g_out0 F E (gle rfl) (gle rfl) (fun _ hp => ⟨((if_pos c_1).trans (if_neg c_4)), gPE_0 _ hp⟩))) (gv_c (fun c_4 => ?_))
    refine g_iload_n F 3 rfl rfl dX1_run_30 ?_
    refine g_cases (x := what) (98 : Int32) (fun w_5 => ?_) (fun w_5 => ?_)
    · skip
      refine g_tableIn F (x := what) (by rw [w_5]; decide) (by rw [w_5]; decide) (off := 76) (by rw [w_5]; rfl) (tgt := 107) (by decide) dX1_run_31 ?_
      refine g_aload_n F 0 rfl rfl dX1_run_107 ?_
      refine g_getN F clX13 6 (by decide) (gT_w q1093 rfl) (v := .int (S.1 10 run.toNatClampNeg 4)) (gd_get (pr_at (κ := 10) (i := run.toNatClampNeg) (by decide) (gc6 (by decide) c_1.2) (gce rfl rfl)) rfl) dX1_run_108 ?_
      refine g_goto F (tgt := 146) (by decide) dX1_run_111 ?_
      exact g_retI F E rfl rfl (gle rfl) (gle rfl) dX1_run_146 (fun _ hp => ⟨_, _, ((if_pos c_1).trans ((if_pos c_4).trans (if_pos w_5))), rfl, ⟨A, rfl, gP_T0 hp⟩⟩)
    refine g_cases (x := what) (99 : Int32) (fun w_6 => ?_) (fun w_6 => ?_)
    · skip
      refine g_tableIn F (x := what) (by rw [w_6]; decide) (by rw [w_6]; decide) (off := 83) (by rw [w_6]; rfl) (tgt := 114) (by decide) dX1_run_31 ?_
      refine g_aload_n F 0 rfl rfl dX1_run_114 ?_
      refine g_getN F clX13 7 (by decide) (gT_w q1094 rfl) (v := .int (S.1 10 run.toNatClampNeg 7)) (gd_get (pr_at (κ := 10) (i := run.toNatClampNeg) (by decide) (gc6 (by decide) c_1.2) (gce rfl rfl)) rfl) dX1_run_115 ?_
      refine g_goto F (tgt := 146) (by decide) dX1_run_118 ?_
      exact g_retI F E rfl rfl (gle rfl) (gle rfl) dX1_run_146 (fun _ hp => ⟨_, _, ((if_pos c_1).trans ((if_pos c_4).trans ((if_neg w_5).trans (if_pos w_6)))), rfl, ⟨A, rfl, gP_T0 hp⟩⟩)
    refine g_cases (x := what) (103 : Int32) (fun w_7 => ?_) (fun w_7 => ?_)
    · skip
      refine g_tableIn F (x := what) (by rw [w_7]; decide) (by rw [w_7]; decide) (off := 97) (by rw [w_7]; rfl) (tgt := 128) (by decide) dX1_run_31 ?_
      refine g_aload_n F 0 rfl rfl dX1_run_128 ?_
      refine g_getN F clX13 9 (by decide) (gT_w q1099 rfl) (v := .int (S.1 10 run.toNatClampNeg 9)) (gd_get (pr_at (κ := 10) (i := run.toNatClampNeg) (by decide) (gc6 (by decide) c_1.2) (gce rfl rfl)) rfl) dX1_run_129 ?_
      refine g_goto F (tgt := 146) (by decide) dX1_run_132 ?_
      exact g_retI F E rfl rfl (gle rfl) (gle rfl) dX1_run_146 (fun _ hp => ⟨_, _, ((if_pos c_1).trans ((if_pos c_4).trans ((if_neg w_5).trans ((if_neg w_6).trans (if_pos w_7))))), rfl, ⟨A, rfl, gP_T0 hp⟩⟩)
    refine g_cases (x := what) (108 : Int32) (fun w_8 => ?_) (fun w_8 => ?_)
    · skip
      refine g_tableIn F (x := what) (by rw [w_8]; decide) (by rw [w_8]; decide) (off := 90) (by rw [w_8]; rfl) (tgt := 121) (by decide) dX1_run_31 ?_
      refine g_aload_n F 0 rfl rfl dX1_run_121 ?_
      refine g_getN F clX13 8 (by decide) (gT_w q1096 rfl) (v := .int (S.1 10 run.toNatClampNeg 8)) (gd_get (pr_at (κ := 10) (i := run.toNatClampNeg) (by decide) (gc6 (by decide) c_1.2) (gce rfl rfl)) rfl) dX1_run_122 ?_
      refine g_goto F (tgt := 146) (by decide) dX1_run_125 ?_
      exact g_retI F E rfl rfl (gle rfl) (gle rfl) dX1_run_146 (fun _ hp => ⟨_, _, ((if_pos c_1).trans ((if_pos c_4).trans ((if_neg w_5).trans ((if_neg w_6).trans ((if_neg w_7).trans (if_pos w_8)))))), rfl, ⟨A, rfl, gP_T0 hp⟩⟩)
    refine g_cases (x := what) (110 : Int32) (fun w_9 => ?_) (fun w_9 => ?_)
    · skip
      refine g_tableIn F (x := what) (by rw [w_9]; decide) (by rw [w_9]; decide) (off := 69) (by rw [w_9]; rfl) (tgt := 100) (by decide) dX1_run_31 ?_
      refine g_aload_n F 0 rfl rfl dX1_run_100 ?_
      refine g_getN F clX13 5 (by decide) (gT_w q1091 rfl) (v := .int (S.1 10 run.toNatClampNeg 3)) (gd_get (pr_at (κ := 10) (i := run.toNatClampNeg) (by decide) (gc6 (by decide) c_1.2) (gce rfl rfl)) rfl) dX1_run_101 ?_
      refine g_goto F (tgt := 146) (by decide) dX1_run_104 ?_
      exact g_retI F E rfl rfl (gle rfl) (gle rfl) dX1_run_146 (fun _ hp => ⟨_, _, ((if_pos c_1).trans ((if_pos c_4).trans ((if_neg w_5).trans ((if_neg w_6).trans ((if_neg w_7).trans ((if_neg w_8).trans (if_pos w_9))))))), rfl, ⟨A, rfl, gP_T0 hp⟩⟩)
    refine g_cases (x := what) (111 : Int32) (fun w_10 => ?_) (fun w_10 => ?_)
    · skip
      refine g_tableIn F (x := what) (by rw [w_10]; decide) (by rw [w_10]; decide) (off := 104) (by rw [w_10]; rfl) (tgt := 135) (by decide) dX1_run_31 ?_
      refine g_aload_n F 0 rfl rfl dX1_run_135 ?_
      refine g_getN F clX13 4 (by decide) (gT_w q1089 rfl) (v := .int (S.1 10 run.toNatClampNeg 5)) (gd_get (pr_at (κ := 10) (i := run.toNatClampNeg) (by decide) (gc6 (by decide) c_1.2) (gce rfl rfl)) rfl) dX1_run_136 ?_
      refine g_goto F (tgt := 146) (by decide) dX1_run_139 ?_
      exact g_retI F E rfl rfl (gle rfl) (gle rfl) dX1_run_146 (fun _ hp => ⟨_, _, ((if_pos c_1).trans ((if_pos c_4).trans ((if_neg w_5).trans ((if_neg w_6).trans ((if_neg w_7).trans ((if_neg w_8).trans ((if_neg w_9).trans (if_pos w_10)))))))), rfl, ⟨A, rfl, gP_T0 hp⟩⟩)
    refine g_tableD F (x := what) [0, 1, 5, 10, 12, 13] (by decide) (by decide) (gAc (fun q => w_5 (Int32.toInt_inj.mp (q.trans (by decide)))) (gAc (fun q => w_6 (Int32.toInt_inj.mp (q.trans (by decide)))) (gAc (fun q => w_7 (Int32.toInt_inj.mp (q.trans (by decide)))) (gAc (fun q => w_8 (Int32.toInt_inj.mp (q.trans (by decide)))) (gAc (fun q => w_9 (Int32.toInt_inj.mp (q.trans (by decide)))) (gAc (fun q => w_10 (Int32.toInt_inj.mp (q.trans (by decide)))) gAn)))))) (tgt := 142) (by decide) dX1_run_31 ?_
    refine g_aload_n F 0 rfl rfl dX1_run_142 ?_
    refine g_getN F clX13 10 (by decide) (gT_w q1100 rfl) (v := .int (S.1 10 run.toNatClampNeg 6)) (gd_get (pr_at (κ := 10) (i := run.toNatClampNeg) (by decide) (gc6 (by decide) c_1.2) (gce rfl rfl)) rfl) dX1_run_143 ?_
    exact g_retI F E rfl rfl (gle rfl) (gle rfl) dX1_run_146 (fun _ hp => ⟨_, _, ((if_pos c_1).trans ((if_pos c_4).trans ((if_neg w_5).trans ((if_neg w_6).trans ((if_neg w_7).trans ((if_neg w_8).trans ((if_neg w_9).trans (if_neg w_10)))))))), rfl, ⟨A, rfl, gP_T0 hp⟩⟩)
  refine g_if_lt F (tgt := 26) (by decide) dX1_run_19 (fun c_2 => ?_) (fun c_2 => ?_)
  · skip
    refine g_iconst F (v := (0 : Int32)) (by decide) dX1_run_26 ?_
    exact g_top (gb_f (fun q => q c_2)) J_3
  · skip
    refine g_iconst F (v := (1 : Int32)) (by decide) dX1_run_22 ?_
    refine g_goto F (tgt := 27) (by decide) dX1_run_23 ?_
    exact g_top (gb_t c_2) J_3

theorem kX5_init3 {l : Launch} {G : gG} (hl : l.stackTraces = false) {P : gH → Prop} {a : Nat} {x0 x1 x2 x3 : Int32} (ha : gAt P a (.inr (3, [.int (0 : Int32), .int (0 : Int32), .int (0 : Int32), .int (0 : Int32)]))) : gMet l yX5_init (ws_ yX5_init cX5_init 5 none) ⟨1, 0, 0, 12⟩ G [.ref a, .int x0, .int x1, .int x2, .int x3] P (gqV (gUp P a (.inr (3, [.int (0 : Int32), .int (0 : Int32), .int (0 : Int32), .int (0 : Int32)])) (.inr (3, [.int x0, .int x1, .int x2, .int x3])))) gxN := by
  refine gMet_of hl pnX5 (gle rfl) (fun X Q hX F E hNm => ?_)
  subst hX
  change gW (X, G, 5, Q) P [(0, .ref a), (1, .int x0), (2, .int x1), (3, .int x2), (4, .int x3)] 0 [] 0 0
  refine g_mono (gUp_0 ha) ?_
  refine g_aload_n F 0 rfl rfl dX5_init_0 ?_
  refine g_objInit F q647 dX5_init_1 (gle rfl) (gle rfl) ?_
  refine g_aload_n F 0 rfl rfl dX5_init_4 ?_
  refine g_iload_n F 1 rfl rfl dX5_init_5 ?_
  refine g_putF (P2 := (gUp P a (.inr (3, [.int (0 : Int32), .int (0 : Int32), .int (0 : Int32), .int (0 : Int32)])) (.inr (3, [.int x0, .int (0 : Int32), .int (0 : Int32), .int (0 : Int32)])))) F hNm clX6 0 (by decide) q648 rfl rfl rfl rfl (gUp_put (gnl rfl)) dX5_init_6 ?_
  refine g_aload_n F 0 rfl rfl dX5_init_9 ?_
  refine g_iload_n F 2 rfl rfl dX5_init_10 ?_
  refine g_putF (P2 := (gUp P a (.inr (3, [.int (0 : Int32), .int (0 : Int32), .int (0 : Int32), .int (0 : Int32)])) (.inr (3, [.int x0, .int x1, .int (0 : Int32), .int (0 : Int32)])))) F hNm clX6 1 (by decide) q650 rfl rfl rfl rfl (gUp_put (gnl rfl)) dX5_init_11 ?_
  refine g_aload_n F 0 rfl rfl dX5_init_14 ?_
  refine g_iload_n F 3 rfl rfl dX5_init_15 ?_
  refine g_putF (P2 := (gUp P a (.inr (3, [.int (0 : Int32), .int (0 : Int32), .int (0 : Int32), .int (0 : Int32)])) (.inr (3, [.int x0, .int x1, .int x2, .int (0 : Int32)])))) F hNm clX6 2 (by decide) q652 rfl rfl rfl rfl (gUp_put (gnl rfl)) dX5_init_16 ?_
  refine g_aload_n F 0 rfl rfl dX5_init_19 ?_
  refine g_iload F 4 rfl dX5_init_20 ?_
  refine g_put (P2 := (gUp P a (.inr (3, [.int (0 : Int32), .int (0 : Int32), .int (0 : Int32), .int (0 : Int32)])) (.inr (3, [.int x0, .int x1, .int x2, .int x3])))) F clX6 3 (by decide) q654 rfl rfl rfl (gUp_put (gnl rfl)) dX5_init_22 ?_
  exact g_retV F E rfl (gle rfl) (gle rfl) dX5_init_25 (fun _ hp => ⟨rfl, hp⟩)

theorem kX6_init {l : Launch} {G : gG} (hl : l.stackTraces = false) {P : gH → Prop} {a : Nat} {b : Nat} {x0 : Int32} {f : Nat → Int32} (ha : gAt P a (.inr (3, [.int (0 : Int32), .int (0 : Int32), .int (0 : Int32), .int (0 : Int32)]))) (hb : gAt P b (gIA G 3 f))  : gMet l yX6_init (ws_ yX6_init cX6_init 3 none) ⟨2, 0, 0, 36⟩ G [.ref a, .int x0, .ref b] P (gqV (gUp P a (.inr (3, [.int (0 : Int32), .int (0 : Int32), .int (0 : Int32), .int (0 : Int32)])) (.inr (3, [.int x0, .int (f 0), .int (f 1), .int (f 2)])))) gxN := by
  refine gMet_of hl pnX6 (gle rfl) (fun X Q hX F E hNm => ?_)
  subst hX
  change gW (X, G, 3, Q) P [(0, .ref a), (1, .int x0), (2, .ref b)] 0 [] 0 0
  refine g_mono (gUp_0 ha) ?_
  refine g_aload_n F 0 rfl rfl dX6_init_0 ?_
  refine g_iload_n F 1 rfl rfl dX6_init_1 ?_
  refine g_aload_n F 2 rfl rfl dX6_init_2 ?_
  refine g_iconst F (v := (0 : Int32)) (by decide) dX6_init_3 ?_
  refine g_ialdN F (m := 0) rfl (by decide) (by decide) (gUp_rd hb (by intro q; cases q)) dX6_init_4 ?_
  change gW _ _ _ _ (.int (f 0) :: _) _ _
  refine g_aload_n F 2 rfl rfl dX6_init_5 ?_
  refine g_iconst F (v := (1 : Int32)) (by decide) dX6_init_6 ?_
  refine g_ialdN F (m := 1) rfl (by decide) (by decide) (gUp_rd hb (by intro q; cases q)) dX6_init_7 ?_
  change gW _ _ _ _ (.int (f 1) :: _) _ _
  refine g_aload_n F 2 rfl rfl dX6_init_8 ?_
  refine g_iconst F (v := (2 : Int32)) (by decide) dX6_init_9 ?_
  refine g_ialdN F (m := 2) rfl (by decide) (by decide) (gUp_rd hb (by intro q; cases q)) dX6_init_10 ?_
  change gW _ _ _ _ (.int (f 2) :: _) _ _
  refine g_callI F (kX5_init3 hl gUp_at) rfl q644 q645 q38 q646 myX5_init ⟨by decide, by decide⟩ rfl rfl (gle rfl) 0 0 (gle rfl) (gle rfl) (gle rfl) (gle rfl) dX6_init_11 gx_n (gv_v ?_)
  refine g_mono gUp_up ?_
  exact g_retV F E rfl (gle rfl) (gle rfl) dX6_init_14 (fun _ hp => ⟨rfl, hp⟩)

theorem kX5_init4 {l : Launch} {G : gG} (hl : l.stackTraces = false) {P : gH → Prop} {a : Nat} {x0 x1 x2 x3 : Int32} (ha : gAt P a (.inr (4, [.int (0 : Int32), .int (0 : Int32), .int (0 : Int32), .int (0 : Int32)]))) : gMet l yX5_init (ws_ yX5_init cX5_init 5 none) ⟨1, 0, 0, 12⟩ G [.ref a, .int x0, .int x1, .int x2, .int x3] P (gqV (gUp P a (.inr (4, [.int (0 : Int32), .int (0 : Int32), .int (0 : Int32), .int (0 : Int32)])) (.inr (4, [.int x0, .int x1, .int x2, .int x3])))) gxN := by
  refine gMet_of hl pnX5 (gle rfl) (fun X Q hX F E hNm => ?_)
  subst hX
  change gW (X, G, 5, Q) P [(0, .ref a), (1, .int x0), (2, .int x1), (3, .int x2), (4, .int x3)] 0 [] 0 0
  refine g_mono (gUp_0 ha) ?_
  refine g_aload_n F 0 rfl rfl dX5_init_0 ?_
  refine g_objInit F q647 dX5_init_1 (gle rfl) (gle rfl) ?_
  refine g_aload_n F 0 rfl rfl dX5_init_4 ?_
  refine g_iload_n F 1 rfl rfl dX5_init_5 ?_
  refine g_putF (P2 := (gUp P a (.inr (4, [.int (0 : Int32), .int (0 : Int32), .int (0 : Int32), .int (0 : Int32)])) (.inr (4, [.int x0, .int (0 : Int32), .int (0 : Int32), .int (0 : Int32)])))) F hNm clX7 0 (by decide) q648 rfl rfl rfl rfl (gUp_put (gnl rfl)) dX5_init_6 ?_
  refine g_aload_n F 0 rfl rfl dX5_init_9 ?_
  refine g_iload_n F 2 rfl rfl dX5_init_10 ?_
  refine g_putF (P2 := (gUp P a (.inr (4, [.int (0 : Int32), .int (0 : Int32), .int (0 : Int32), .int (0 : Int32)])) (.inr (4, [.int x0, .int x1, .int (0 : Int32), .int (0 : Int32)])))) F hNm clX7 1 (by decide) q650 rfl rfl rfl rfl (gUp_put (gnl rfl)) dX5_init_11 ?_
  refine g_aload_n F 0 rfl rfl dX5_init_14 ?_
  refine g_iload_n F 3 rfl rfl dX5_init_15 ?_
  refine g_putF (P2 := (gUp P a (.inr (4, [.int (0 : Int32), .int (0 : Int32), .int (0 : Int32), .int (0 : Int32)])) (.inr (4, [.int x0, .int x1, .int x2, .int (0 : Int32)])))) F hNm clX7 2 (by decide) q652 rfl rfl rfl rfl (gUp_put (gnl rfl)) dX5_init_16 ?_
  refine g_aload_n F 0 rfl rfl dX5_init_19 ?_
  refine g_iload F 4 rfl dX5_init_20 ?_
  refine g_put (P2 := (gUp P a (.inr (4, [.int (0 : Int32), .int (0 : Int32), .int (0 : Int32), .int (0 : Int32)])) (.inr (4, [.int x0, .int x1, .int x2, .int x3])))) F clX7 3 (by decide) q654 rfl rfl rfl (gUp_put (gnl rfl)) dX5_init_22 ?_
  exact g_retV F E rfl (gle rfl) (gle rfl) dX5_init_25 (fun _ hp => ⟨rfl, hp⟩)

theorem kX7_init {l : Launch} {G : gG} (hl : l.stackTraces = false) {P : gH → Prop} {a : Nat} {b : Nat} {x0 : Int32} {f : Nat → Int32} (ha : gAt P a (.inr (4, [.int (0 : Int32), .int (0 : Int32), .int (0 : Int32), .int (0 : Int32)]))) (hb : gAt P b (gIA G 3 f))  : gMet l yX7_init (ws_ yX7_init cX7_init 3 none) ⟨2, 0, 0, 36⟩ G [.ref a, .int x0, .ref b] P (gqV (gUp P a (.inr (4, [.int (0 : Int32), .int (0 : Int32), .int (0 : Int32), .int (0 : Int32)])) (.inr (4, [.int x0, .int (f 0), .int (f 1), .int (f 2)])))) gxN := by
  refine gMet_of hl pnX7 (gle rfl) (fun X Q hX F E hNm => ?_)
  subst hX
  change gW (X, G, 3, Q) P [(0, .ref a), (1, .int x0), (2, .ref b)] 0 [] 0 0
  refine g_mono (gUp_0 ha) ?_
  refine g_aload_n F 0 rfl rfl dX7_init_0 ?_
  refine g_iload_n F 1 rfl rfl dX7_init_1 ?_
  refine g_aload_n F 2 rfl rfl dX7_init_2 ?_
  refine g_iconst F (v := (0 : Int32)) (by decide) dX7_init_3 ?_
  refine g_ialdN F (m := 0) rfl (by decide) (by decide) (gUp_rd hb (by intro q; cases q)) dX7_init_4 ?_
  change gW _ _ _ _ (.int (f 0) :: _) _ _
  refine g_aload_n F 2 rfl rfl dX7_init_5 ?_
  refine g_iconst F (v := (1 : Int32)) (by decide) dX7_init_6 ?_
  refine g_ialdN F (m := 1) rfl (by decide) (by decide) (gUp_rd hb (by intro q; cases q)) dX7_init_7 ?_
  change gW _ _ _ _ (.int (f 1) :: _) _ _
  refine g_aload_n F 2 rfl rfl dX7_init_8 ?_
  refine g_iconst F (v := (2 : Int32)) (by decide) dX7_init_9 ?_
  refine g_ialdN F (m := 2) rfl (by decide) (by decide) (gUp_rd hb (by intro q; cases q)) dX7_init_10 ?_
  change gW _ _ _ _ (.int (f 2) :: _) _ _
  refine g_callI F (kX5_init4 hl gUp_at) rfl q670 q645 q38 q646 myX5_init ⟨by decide, by decide⟩ rfl rfl (gle rfl) 0 0 (gle rfl) (gle rfl) (gle rfl) (gle rfl) dX7_init_11 gx_n (gv_v ?_)
  refine g_mono gUp_up ?_
  exact g_retV F E rfl (gle rfl) (gle rfl) dX7_init_14 (fun _ hp => ⟨rfl, hp⟩)

theorem kX8_init {l : Launch} {G : gG} (hl : l.stackTraces = false) {P : gH → Prop} {a : Nat} {g c : Nat} {kilos more days pu sg sc : Int32} {w0 w3 v0 v1 v3 : Value} (ha : gAt P a (.inr (5, [.null, .null, .int (0 : Int32), .int (0 : Int32), .int (0 : Int32)]))) (hg : gAt P g (.inr (3, [w0, .int pu, .int sg, w3]))) (hc : gAt P c (.inr (4, [v0, v1, .int sc, v3]))) (hnz : ¬ kilos + more = 0) : gMet l yX8_init (ws_ yX8_init cX8_init 6 none) ⟨1, 0, 0, 15⟩ G [.ref a, .ref g, .ref c, .int kilos, .int more, .int days] P (gqV (gUp P a (.inr (5, [.null, .null, .int (0 : Int32), .int (0 : Int32), .int (0 : Int32)])) (.inr (5, [.ref g, .ref c, .int (10 * kilos * pu / (kilos + more)), .int (gmax 0 (gmin 9 (days + 9 - sg - sc / 3))), .int (kilos + more)])))) gxN := by
  refine gMet_of hl pnX8 (gle rfl) (fun X Q hX F E hNm => ?_)
  subst hX
  change gW (X, G, 6, Q) P [(0, .ref a), (1, .ref g), (2, .ref c), (3, .int kilos), (4, .int more), (5, .int days)] 0 [] 0 0
  refine g_mono (gUp_0 ha) ?_
  refine g_aload_n F 0 rfl rfl dX8_init_0 ?_
  refine g_objInit F q836 dX8_init_1 (gle rfl) (gle rfl) ?_
  refine g_aload_n F 0 rfl rfl dX8_init_4 ?_
  refine g_aload_n F 1 rfl rfl dX8_init_5 ?_
  refine g_putF (P2 := (gUp P a (.inr (5, [.null, .null, .int (0 : Int32), .int (0 : Int32), .int (0 : Int32)])) (.inr (5, [.ref g, .null, .int (0 : Int32), .int (0 : Int32), .int (0 : Int32)])))) F hNm clX8 0 (by decide) q839 rfl rfl rfl rfl (gUp_put (gnl rfl)) dX8_init_6 ?_
  refine g_aload_n F 0 rfl rfl dX8_init_9 ?_
  refine g_aload_n F 2 rfl rfl dX8_init_10 ?_
  refine g_putF (P2 := (gUp P a (.inr (5, [.null, .null, .int (0 : Int32), .int (0 : Int32), .int (0 : Int32)])) (.inr (5, [.ref g, .ref c, .int (0 : Int32), .int (0 : Int32), .int (0 : Int32)])))) F hNm clX8 1 (by decide) q841 rfl rfl rfl rfl (gUp_put (gnl rfl)) dX8_init_11 ?_
  refine g_aload_n F 0 rfl rfl dX8_init_14 ?_
  refine g_iload_n F 3 rfl rfl dX8_init_15 ?_
  refine g_iload F 4 rfl dX8_init_16 ?_
  refine g_iadd F dX8_init_18 ?_
  refine g_put (P2 := (gUp P a (.inr (5, [.null, .null, .int (0 : Int32), .int (0 : Int32), .int (0 : Int32)])) (.inr (5, [.ref g, .ref c, .int (0 : Int32), .int (0 : Int32), .int (kilos + more)])))) F clX8 4 (by decide) q847 rfl rfl rfl (gUp_put (gnl rfl)) dX8_init_19 ?_
  refine g_aload_n F 0 rfl rfl dX8_init_22 ?_
  refine g_bipush F (v := (10 : Int32)) (by decide) dX8_init_23 ?_
  refine g_iload_n F 3 rfl rfl dX8_init_25 ?_
  refine g_imul F dX8_init_26 ?_
  refine g_aload_n F 1 rfl rfl dX8_init_27 ?_
  refine g_getN F clX6 1 (by decide) (gT_w q651 rfl) (v := .int pu) (gd_get (gUp_rd hg (by intro q; injection q with q; injection q with q1 q2; exact absurd q1 (by decide))) rfl) dX8_init_28 ?_
  refine g_imul F dX8_init_31 ?_
  refine g_iload_n F 3 rfl rfl dX8_init_32 ?_
  refine g_iload F 4 rfl dX8_init_33 ?_
  refine g_iadd F dX8_init_35 ?_
  refine g_idiv F hnz dX8_init_36 ?_
  refine g_putF (P2 := (gUp P a (.inr (5, [.null, .null, .int (0 : Int32), .int (0 : Int32), .int (0 : Int32)])) (.inr (5, [.ref g, .ref c, .int ((((10 : Int32) * kilos) * pu) / (kilos + more)), .int (0 : Int32), .int (kilos + more)])))) F hNm clX8 2 (by decide) q843 rfl rfl rfl rfl (gUp_put (gnl rfl)) dX8_init_37 ?_
  refine g_aload_n F 0 rfl rfl dX8_init_40 ?_
  refine g_iconst F (v := (0 : Int32)) (by decide) dX8_init_41 ?_
  refine g_bipush F (v := (9 : Int32)) (by decide) dX8_init_42 ?_
  refine g_iload F 5 rfl dX8_init_44 ?_
  refine g_bipush F (v := (9 : Int32)) (by decide) dX8_init_46 ?_
  refine g_iadd F dX8_init_48 ?_
  refine g_aload_n F 1 rfl rfl dX8_init_49 ?_
  refine g_getN F clX6 2 (by decide) (gT_w q653 rfl) (v := .int sg) (gd_get (gUp_rd hg (by intro q; injection q with q; injection q with q1 q2; exact absurd q1 (by decide))) rfl) dX8_init_50 ?_
  refine g_isub F dX8_init_53 ?_
  refine g_aload_n F 2 rfl rfl dX8_init_54 ?_
  refine g_getN F clX7 2 (by decide) (gT_w q653 rfl) (v := .int sc) (gd_get (gUp_rd hc (by intro q; injection q with q; injection q with q1 q2; exact absurd q1 (by decide))) rfl) dX8_init_55 ?_
  refine g_iconst F (v := (3 : Int32)) (by decide) dX8_init_58 ?_
  refine g_idiv F (by decide) dX8_init_59 ?_
  refine g_isub F dX8_init_60 ?_
  refine g_mmin F q837 (gle rfl) (gle rfl) (gle rfl) (gle rfl) dX8_init_61 ?_
  refine g_mmax F q838 (gle rfl) (gle rfl) (gle rfl) (gle rfl) dX8_init_64 ?_
  refine g_putF (P2 := (gUp P a (.inr (5, [.null, .null, .int (0 : Int32), .int (0 : Int32), .int (0 : Int32)])) (.inr (5, [.ref g, .ref c, .int ((((10 : Int32) * kilos) * pu) / (kilos + more)), .int (gmax (0 : Int32) (gmin (9 : Int32) (((days + (9 : Int32)) - sg) - (sc / (3 : Int32))))), .int (kilos + more)])))) F hNm clX8 3 (by decide) q845 rfl rfl rfl rfl (gUp_put (gnl rfl)) dX8_init_67 ?_
  exact g_retV F E rfl (gle rfl) (gle rfl) dX8_init_70 (fun _ hp => ⟨rfl, hp⟩)

theorem kX9_init {l : Launch} {G : gG} (hl : l.stackTraces = false) {P : gH → Prop} {a : Nat} {mx : Nat} {nu bo le : Int32} (ha : gAt P a (.inr (6, [.int (0 : Int32), .null, .int (0 : Int32), .int (0 : Int32), .int (0 : Int32), .int (0 : Int32), .int (0 : Int32), .int (0 : Int32), .int (0 : Int32), .int (0 : Int32), .int (0 : Int32), .int (0 : Int32)])))   : gMet l yX9_init (ws_ yX9_init cX9_init 5 none) ⟨1, 0, 0, 12⟩ G [.ref a, .int nu, .ref mx, .int bo, .int le] P (gqV (gUp P a (.inr (6, [.int (0 : Int32), .null, .int (0 : Int32), .int (0 : Int32), .int (0 : Int32), .int (0 : Int32), .int (0 : Int32), .int (0 : Int32), .int (0 : Int32), .int (0 : Int32), .int (0 : Int32), .int (0 : Int32)])) (.inr (6, [.int nu, .ref mx, .int bo, .int le, .int (0 : Int32), .int (0 : Int32), .int (0 : Int32), .int (0 : Int32), .int (-1 : Int32), .int (-1 : Int32), .int (0 : Int32), .int (0 : Int32)])))) gxN := by
  refine gMet_of hl pnX9 (gle rfl) (fun X Q hX F E hNm => ?_)
  subst hX
  change gW (X, G, 5, Q) P [(0, .ref a), (1, .int nu), (2, .ref mx), (3, .int bo), (4, .int le)] 0 [] 0 0
  refine g_mono (gUp_0 ha) ?_
  refine g_aload_n F 0 rfl rfl dX9_init_0 ?_
  refine g_objInit F q882 dX9_init_1 (gle rfl) (gle rfl) ?_
  refine g_aload_n F 0 rfl rfl dX9_init_4 ?_
  refine g_iconst F (v := (-1 : Int32)) (by decide) dX9_init_5 ?_
  refine g_put (P2 := (gUp P a (.inr (6, [.int (0 : Int32), .null, .int (0 : Int32), .int (0 : Int32), .int (0 : Int32), .int (0 : Int32), .int (0 : Int32), .int (0 : Int32), .int (0 : Int32), .int (0 : Int32), .int (0 : Int32), .int (0 : Int32)])) (.inr (6, [.int (0 : Int32), .null, .int (0 : Int32), .int (0 : Int32), .int (0 : Int32), .int (0 : Int32), .int (0 : Int32), .int (0 : Int32), .int (-1 : Int32), .int (0 : Int32), .int (0 : Int32), .int (0 : Int32)])))) F clX9 8 (by decide) q897 rfl rfl rfl (gUp_put (gnl rfl)) dX9_init_6 ?_
  refine g_aload_n F 0 rfl rfl dX9_init_9 ?_
  refine g_iconst F (v := (-1 : Int32)) (by decide) dX9_init_10 ?_
  refine g_put (P2 := (gUp P a (.inr (6, [.int (0 : Int32), .null, .int (0 : Int32), .int (0 : Int32), .int (0 : Int32), .int (0 : Int32), .int (0 : Int32), .int (0 : Int32), .int (0 : Int32), .int (0 : Int32), .int (0 : Int32), .int (0 : Int32)])) (.inr (6, [.int (0 : Int32), .null, .int (0 : Int32), .int (0 : Int32), .int (0 : Int32), .int (0 : Int32), .int (0 : Int32), .int (0 : Int32), .int (-1 : Int32), .int (-1 : Int32), .int (0 : Int32), .int (0 : Int32)])))) F clX9 9 (by decide) q899 rfl rfl rfl (gUp_put (gnl rfl)) dX9_init_11 ?_
  refine g_aload_n F 0 rfl rfl dX9_init_14 ?_
  refine g_iload_n F 1 rfl rfl dX9_init_15 ?_
  refine g_putF (P2 := (gUp P a (.inr (6, [.int (0 : Int32), .null, .int (0 : Int32), .int (0 : Int32), .int (0 : Int32), .int (0 : Int32), .int (0 : Int32), .int (0 : Int32), .int (0 : Int32), .int (0 : Int32), .int (0 : Int32), .int (0 : Int32)])) (.inr (6, [.int nu, .null, .int (0 : Int32), .int (0 : Int32), .int (0 : Int32), .int (0 : Int32), .int (0 : Int32), .int (0 : Int32), .int (-1 : Int32), .int (-1 : Int32), .int (0 : Int32), .int (0 : Int32)])))) F hNm clX9 0 (by decide) q883 rfl rfl rfl rfl (gUp_put (gnl rfl)) dX9_init_16 ?_
  refine g_aload_n F 0 rfl rfl dX9_init_19 ?_
  refine g_aload_n F 2 rfl rfl dX9_init_20 ?_
  refine g_putF (P2 := (gUp P a (.inr (6, [.int (0 : Int32), .null, .int (0 : Int32), .int (0 : Int32), .int (0 : Int32), .int (0 : Int32), .int (0 : Int32), .int (0 : Int32), .int (0 : Int32), .int (0 : Int32), .int (0 : Int32), .int (0 : Int32)])) (.inr (6, [.int nu, .ref mx, .int (0 : Int32), .int (0 : Int32), .int (0 : Int32), .int (0 : Int32), .int (0 : Int32), .int (0 : Int32), .int (-1 : Int32), .int (-1 : Int32), .int (0 : Int32), .int (0 : Int32)])))) F hNm clX9 1 (by decide) q885 rfl rfl rfl rfl (gUp_put (gnl rfl)) dX9_init_21 ?_
  refine g_aload_n F 0 rfl rfl dX9_init_24 ?_
  refine g_iload_n F 3 rfl rfl dX9_init_25 ?_
  refine g_putF (P2 := (gUp P a (.inr (6, [.int (0 : Int32), .null, .int (0 : Int32), .int (0 : Int32), .int (0 : Int32), .int (0 : Int32), .int (0 : Int32), .int (0 : Int32), .int (0 : Int32), .int (0 : Int32), .int (0 : Int32), .int (0 : Int32)])) (.inr (6, [.int nu, .ref mx, .int bo, .int (0 : Int32), .int (0 : Int32), .int (0 : Int32), .int (0 : Int32), .int (0 : Int32), .int (-1 : Int32), .int (-1 : Int32), .int (0 : Int32), .int (0 : Int32)])))) F hNm clX9 2 (by decide) q887 rfl rfl rfl rfl (gUp_put (gnl rfl)) dX9_init_26 ?_
  refine g_aload_n F 0 rfl rfl dX9_init_29 ?_
  refine g_iload F 4 rfl dX9_init_30 ?_
  refine g_put (P2 := (gUp P a (.inr (6, [.int (0 : Int32), .null, .int (0 : Int32), .int (0 : Int32), .int (0 : Int32), .int (0 : Int32), .int (0 : Int32), .int (0 : Int32), .int (0 : Int32), .int (0 : Int32), .int (0 : Int32), .int (0 : Int32)])) (.inr (6, [.int nu, .ref mx, .int bo, .int le, .int (0 : Int32), .int (0 : Int32), .int (0 : Int32), .int (0 : Int32), .int (-1 : Int32), .int (-1 : Int32), .int (0 : Int32), .int (0 : Int32)])))) F clX9 3 (by decide) q890 rfl rfl rfl (gUp_put (gnl rfl)) dX9_init_32 ?_
  exact g_retV F E rfl (gle rfl) (gle rfl) dX9_init_35 (fun _ hp => ⟨rfl, hp⟩)

theorem kX11_init {l : Launch} {G : gG} (hl : l.stackTraces = false) {P : gH → Prop} {a : Nat} {nu gr we ma : Int32} {q : Prop} [Decidable q] (ha : gAt P a (.inr (8, [.int (0 : Int32), .int (0 : Int32), .int (0 : Int32), .int (0 : Int32), .int (0 : Int32), .int (0 : Int32), .int (0 : Int32)])))   : gMet l yX11_init (ws_ yX11_init cX11_init 6 none) ⟨1, 0, 0, 12⟩ G [.ref a, .int nu, .int (gb q), .int gr, .int we, .int ma] P (gqV (gUp P a (.inr (8, [.int (0 : Int32), .int (0 : Int32), .int (0 : Int32), .int (0 : Int32), .int (0 : Int32), .int (0 : Int32), .int (0 : Int32)])) (.inr (8, [.int nu, .int (gb q), .int gr, .int we, .int ma, .int (0 : Int32), .int (0 : Int32)])))) gxN := by
  refine gMet_of hl pnX11 (gle rfl) (fun X Q hX F E hNm => ?_)
  subst hX
  change gW (X, G, 6, Q) P [(0, .ref a), (1, .int nu), (2, .int (gb q)), (3, .int gr), (4, .int we), (5, .int ma)] 0 [] 0 0
  refine g_mono (gUp_0 ha) ?_
  refine g_aload_n F 0 rfl rfl dX11_init_0 ?_
  refine g_objInit F q1008 dX11_init_1 (gle rfl) (gle rfl) ?_
  refine g_aload_n F 0 rfl rfl dX11_init_4 ?_
  refine g_iload_n F 1 rfl rfl dX11_init_5 ?_
  refine g_putF (P2 := (gUp P a (.inr (8, [.int (0 : Int32), .int (0 : Int32), .int (0 : Int32), .int (0 : Int32), .int (0 : Int32), .int (0 : Int32), .int (0 : Int32)])) (.inr (8, [.int nu, .int (0 : Int32), .int (0 : Int32), .int (0 : Int32), .int (0 : Int32), .int (0 : Int32), .int (0 : Int32)])))) F hNm clX11 0 (by decide) q1009 rfl rfl rfl rfl (gUp_put (gnl rfl)) dX11_init_6 ?_
  refine g_aload_n F 0 rfl rfl dX11_init_9 ?_
  refine g_iload_n F 2 rfl rfl dX11_init_10 ?_
  refine g_putF (P2 := (gUp P a (.inr (8, [.int (0 : Int32), .int (0 : Int32), .int (0 : Int32), .int (0 : Int32), .int (0 : Int32), .int (0 : Int32), .int (0 : Int32)])) (.inr (8, [.int nu, .int (gb q), .int (0 : Int32), .int (0 : Int32), .int (0 : Int32), .int (0 : Int32), .int (0 : Int32)])))) F hNm clX11 1 (by decide) q1011 rfl rfl gb_z gb_fit (gUp_put (gnl rfl)) dX11_init_11 ?_
  refine g_aload_n F 0 rfl rfl dX11_init_14 ?_
  refine g_iload_n F 3 rfl rfl dX11_init_15 ?_
  refine g_putF (P2 := (gUp P a (.inr (8, [.int (0 : Int32), .int (0 : Int32), .int (0 : Int32), .int (0 : Int32), .int (0 : Int32), .int (0 : Int32), .int (0 : Int32)])) (.inr (8, [.int nu, .int (gb q), .int gr, .int (0 : Int32), .int (0 : Int32), .int (0 : Int32), .int (0 : Int32)])))) F hNm clX11 2 (by decide) q1013 rfl rfl rfl rfl (gUp_put (gnl rfl)) dX11_init_16 ?_
  refine g_aload_n F 0 rfl rfl dX11_init_19 ?_
  refine g_iload F 4 rfl dX11_init_20 ?_
  refine g_put (P2 := (gUp P a (.inr (8, [.int (0 : Int32), .int (0 : Int32), .int (0 : Int32), .int (0 : Int32), .int (0 : Int32), .int (0 : Int32), .int (0 : Int32)])) (.inr (8, [.int nu, .int (gb q), .int gr, .int we, .int (0 : Int32), .int (0 : Int32), .int (0 : Int32)])))) F clX11 3 (by decide) q1015 rfl rfl rfl (gUp_put (gnl rfl)) dX11_init_22 ?_
  refine g_aload_n F 0 rfl rfl dX11_init_25 ?_
  refine g_iload F 5 rfl dX11_init_26 ?_
  refine g_put (P2 := (gUp P a (.inr (8, [.int (0 : Int32), .int (0 : Int32), .int (0 : Int32), .int (0 : Int32), .int (0 : Int32), .int (0 : Int32), .int (0 : Int32)])) (.inr (8, [.int nu, .int (gb q), .int gr, .int we, .int ma, .int (0 : Int32), .int (0 : Int32)])))) F clX11 4 (by decide) q1017 rfl rfl rfl (gUp_put (gnl rfl)) dX11_init_28 ?_
  exact g_retV F E rfl (gle rfl) (gle rfl) dX11_init_31 (fun _ hp => ⟨rfl, hp⟩)

theorem kX13_init {l : Launch} {G : gG} (hl : l.stackTraces = false) {P : gH → Prop} {a : Nat} {b s : Nat} {nu pe ha9 bore width grain : Int32} {w0 w1 w3 w4 w5 w6 w7 w8 w9 w10 w11 x0 x1 x3 x4 x6 : Value} (ha : gAt P a (.inr (10, [.int (0 : Int32), .null, .null, .int (0 : Int32), .int (0 : Int32), .int (0 : Int32), .int (0 : Int32), .int (0 : Int32), .int (0 : Int32), .int (0 : Int32), .int (0 : Int32), .int (0 : Int32)]))) (hb : gAt P b (.inr (6, [w0, w1, .int bore, w3, w4, w5, w6, w7, w8, w9, w10, w11]))) (hs : gAt P s (.inr (8, [x0, x1, .int grain, x3, x4, .int width, x6])))  : gMet l yX13_init (ws_ yX13_init cX13_init 6 none) ⟨2, 0, 0, 34⟩ G [.ref a, .int nu, .ref b, .ref s, .int pe, .int ha9] P (gqV (gUp P a (.inr (10, [.int (0 : Int32), .null, .null, .int (0 : Int32), .int (0 : Int32), .int (0 : Int32), .int (0 : Int32), .int (0 : Int32), .int (0 : Int32), .int (0 : Int32), .int (0 : Int32), .int (0 : Int32)])) (.inr (10, [.int nu, .ref b, .ref s, .int ha9, .int (gabs (2 * width - bore) + grain / 4), .int pe, .int (0 : Int32), .int (0 : Int32), .int (-1 : Int32), .int (-1 : Int32), .int (0 : Int32), .int (0 : Int32)])))) gxN := by
  refine gMet_of hl pnX13 (gle rfl) (fun X Q hX F E hNm => ?_)
  subst hX
  change gW (X, G, 6, Q) P [(0, .ref a), (1, .int nu), (2, .ref b), (3, .ref s), (4, .int pe), (5, .int ha9)] 0 [] 0 0
  refine g_mono (gUp_0 ha) ?_
  refine g_aload_n F 0 rfl rfl dX13_init_0 ?_
  refine g_objInit F q1077 dX13_init_1 (gle rfl) (gle rfl) ?_
  refine g_aload_n F 0 rfl rfl dX13_init_4 ?_
  refine g_iconst F (v := (-1 : Int32)) (by decide) dX13_init_5 ?_
  refine g_put (P2 := (gUp P a (.inr (10, [.int (0 : Int32), .null, .null, .int (0 : Int32), .int (0 : Int32), .int (0 : Int32), .int (0 : Int32), .int (0 : Int32), .int (0 : Int32), .int (0 : Int32), .int (0 : Int32), .int (0 : Int32)])) (.inr (10, [.int (0 : Int32), .null, .null, .int (0 : Int32), .int (0 : Int32), .int (0 : Int32), .int (0 : Int32), .int (0 : Int32), .int (-1 : Int32), .int (0 : Int32), .int (0 : Int32), .int (0 : Int32)])))) F clX13 8 (by decide) q1095 rfl rfl rfl (gUp_put (gnl rfl)) dX13_init_6 ?_
  refine g_aload_n F 0 rfl rfl dX13_init_9 ?_
  refine g_iconst F (v := (-1 : Int32)) (by decide) dX13_init_10 ?_
  refine g_put (P2 := (gUp P a (.inr (10, [.int (0 : Int32), .null, .null, .int (0 : Int32), .int (0 : Int32), .int (0 : Int32), .int (0 : Int32), .int (0 : Int32), .int (0 : Int32), .int (0 : Int32), .int (0 : Int32), .int (0 : Int32)])) (.inr (10, [.int (0 : Int32), .null, .null, .int (0 : Int32), .int (0 : Int32), .int (0 : Int32), .int (0 : Int32), .int (0 : Int32), .int (-1 : Int32), .int (-1 : Int32), .int (0 : Int32), .int (0 : Int32)])))) F clX13 9 (by decide) q1097 rfl rfl rfl (gUp_put (gnl rfl)) dX13_init_11 ?_
  refine g_aload_n F 0 rfl rfl dX13_init_14 ?_
  refine g_iload_n F 1 rfl rfl dX13_init_15 ?_
  refine g_putF (P2 := (gUp P a (.inr (10, [.int (0 : Int32), .null, .null, .int (0 : Int32), .int (0 : Int32), .int (0 : Int32), .int (0 : Int32), .int (0 : Int32), .int (0 : Int32), .int (0 : Int32), .int (0 : Int32), .int (0 : Int32)])) (.inr (10, [.int nu, .null, .null, .int (0 : Int32), .int (0 : Int32), .int (0 : Int32), .int (0 : Int32), .int (0 : Int32), .int (-1 : Int32), .int (-1 : Int32), .int (0 : Int32), .int (0 : Int32)])))) F hNm clX13 0 (by decide) q1079 rfl rfl rfl rfl (gUp_put (gnl rfl)) dX13_init_16 ?_
  refine g_aload_n F 0 rfl rfl dX13_init_19 ?_
  refine g_aload_n F 2 rfl rfl dX13_init_20 ?_
  refine g_putF (P2 := (gUp P a (.inr (10, [.int (0 : Int32), .null, .null, .int (0 : Int32), .int (0 : Int32), .int (0 : Int32), .int (0 : Int32), .int (0 : Int32), .int (0 : Int32), .int (0 : Int32), .int (0 : Int32), .int (0 : Int32)])) (.inr (10, [.int nu, .ref b, .null, .int (0 : Int32), .int (0 : Int32), .int (0 : Int32), .int (0 : Int32), .int (0 : Int32), .int (-1 : Int32), .int (-1 : Int32), .int (0 : Int32), .int (0 : Int32)])))) F hNm clX13 1 (by decide) q1081 rfl rfl rfl rfl (gUp_put (gnl rfl)) dX13_init_21 ?_
  refine g_aload_n F 0 rfl rfl dX13_init_24 ?_
  refine g_aload_n F 3 rfl rfl dX13_init_25 ?_
  refine g_putF (P2 := (gUp P a (.inr (10, [.int (0 : Int32), .null, .null, .int (0 : Int32), .int (0 : Int32), .int (0 : Int32), .int (0 : Int32), .int (0 : Int32), .int (0 : Int32), .int (0 : Int32), .int (0 : Int32), .int (0 : Int32)])) (.inr (10, [.int nu, .ref b, .ref s, .int (0 : Int32), .int (0 : Int32), .int (0 : Int32), .int (0 : Int32), .int (0 : Int32), .int (-1 : Int32), .int (-1 : Int32), .int (0 : Int32), .int (0 : Int32)])))) F hNm clX13 2 (by decide) q1084 rfl rfl rfl rfl (gUp_put (gnl rfl)) dX13_init_26 ?_
  refine g_aload_n F 0 rfl rfl dX13_init_29 ?_
  refine g_iload F 4 rfl dX13_init_30 ?_
  refine g_put (P2 := (gUp P a (.inr (10, [.int (0 : Int32), .null, .null, .int (0 : Int32), .int (0 : Int32), .int (0 : Int32), .int (0 : Int32), .int (0 : Int32), .int (0 : Int32), .int (0 : Int32), .int (0 : Int32), .int (0 : Int32)])) (.inr (10, [.int nu, .ref b, .ref s, .int (0 : Int32), .int (0 : Int32), .int pe, .int (0 : Int32), .int (0 : Int32), .int (-1 : Int32), .int (-1 : Int32), .int (0 : Int32), .int (0 : Int32)])))) F clX13 5 (by decide) q1090 rfl rfl rfl (gUp_put (gnl rfl)) dX13_init_32 ?_
  refine g_aload_n F 0 rfl rfl dX13_init_35 ?_
  refine g_iload F 5 rfl dX13_init_36 ?_
  refine g_putF (P2 := (gUp P a (.inr (10, [.int (0 : Int32), .null, .null, .int (0 : Int32), .int (0 : Int32), .int (0 : Int32), .int (0 : Int32), .int (0 : Int32), .int (0 : Int32), .int (0 : Int32), .int (0 : Int32), .int (0 : Int32)])) (.inr (10, [.int nu, .ref b, .ref s, .int ha9, .int (0 : Int32), .int pe, .int (0 : Int32), .int (0 : Int32), .int (-1 : Int32), .int (-1 : Int32), .int (0 : Int32), .int (0 : Int32)])))) F hNm clX13 3 (by decide) q1086 rfl rfl rfl rfl (gUp_put (gnl rfl)) dX13_init_38 ?_
  refine g_aload_n F 0 rfl rfl dX13_init_41 ?_
  refine g_aload_n F 2 rfl rfl dX13_init_42 ?_
  refine g_aload_n F 3 rfl rfl dX13_init_43 ?_
  refine g_callS F (kX13_misfit hl (gUp_rd hb (by intro q; injection q with q; injection q with q1 q2; exact absurd q1 (by decide))) (gUp_rd hs (by intro q; injection q with q; injection q with q1 q2; exact absurd q1 (by decide)))) (lw_S q1078 q1068 q51 q1069) myX13_misfit ⟨by decide, by decide⟩ rfl rfl (gle rfl) 0 0 (gle rfl) (gle rfl) (gle rfl) (gle rfl) dX13_init_44 gx_n (gv_i ?_)
  refine g_aload_n F 3 rfl rfl dX13_init_47 ?_
  refine g_getN F clX11 2 (by decide) (gT_w q1014 rfl) (v := .int grain) (gd_get (gUp_rd hs (by intro q; injection q with q; injection q with q1 q2; exact absurd q1 (by decide))) rfl) dX13_init_48 ?_
  refine g_iconst F (v := (4 : Int32)) (by decide) dX13_init_51 ?_
  refine g_idiv F (by decide) dX13_init_52 ?_
  refine g_iadd F dX13_init_53 ?_
  refine g_putF (P2 := (gUp P a (.inr (10, [.int (0 : Int32), .null, .null, .int (0 : Int32), .int (0 : Int32), .int (0 : Int32), .int (0 : Int32), .int (0 : Int32), .int (0 : Int32), .int (0 : Int32), .int (0 : Int32), .int (0 : Int32)])) (.inr (10, [.int nu, .ref b, .ref s, .int ha9, .int ((gabs (2 * width - bore)) + (grain / (4 : Int32))), .int pe, .int (0 : Int32), .int (0 : Int32), .int (-1 : Int32), .int (-1 : Int32), .int (0 : Int32), .int (0 : Int32)])))) F hNm clX13 4 (by decide) q1088 rfl rfl rfl rfl (gUp_put (gnl rfl)) dX13_init_54 ?_
  exact g_retV F E rfl (gle rfl) (gle rfl) dX13_init_57 (fun _ hp => ⟨rfl, hp⟩)

theorem kX18_init {l : Launch} {G : gG} (hl : l.stackTraces = false) {P : gH → Prop} {a : Nat} {g m u : Int32} (ha : gAt P a (.inr (15, [.int (0 : Int32), .int (0 : Int32), .int (0 : Int32), .int (0 : Int32), .int (0 : Int32)])))   : gMet l yX18_init (ws_ yX18_init cX18_init 4 none) ⟨1, 0, 0, 12⟩ G [.ref a, .int g, .int m, .int u] P (gqV (gUp P a (.inr (15, [.int (0 : Int32), .int (0 : Int32), .int (0 : Int32), .int (0 : Int32), .int (0 : Int32)])) (.inr (15, [.int g, .int m, .int u, .int (0 : Int32), .int (0 : Int32)])))) gxN := by
  refine gMet_of hl pnX18 (gle rfl) (fun X Q hX F E hNm => ?_)
  subst hX
  change gW (X, G, 4, Q) P [(0, .ref a), (1, .int g), (2, .int m), (3, .int u)] 0 [] 0 0
  refine g_mono (gUp_0 ha) ?_
  refine g_aload_n F 0 rfl rfl dX18_init_0 ?_
  refine g_objInit F q1248 dX18_init_1 (gle rfl) (gle rfl) ?_
  refine g_aload_n F 0 rfl rfl dX18_init_4 ?_
  refine g_iload_n F 1 rfl rfl dX18_init_5 ?_
  refine g_putF (P2 := (gUp P a (.inr (15, [.int (0 : Int32), .int (0 : Int32), .int (0 : Int32), .int (0 : Int32), .int (0 : Int32)])) (.inr (15, [.int g, .int (0 : Int32), .int (0 : Int32), .int (0 : Int32), .int (0 : Int32)])))) F hNm clX18 0 (by decide) q1249 rfl rfl rfl rfl (gUp_put (gnl rfl)) dX18_init_6 ?_
  refine g_aload_n F 0 rfl rfl dX18_init_9 ?_
  refine g_iload_n F 2 rfl rfl dX18_init_10 ?_
  refine g_putF (P2 := (gUp P a (.inr (15, [.int (0 : Int32), .int (0 : Int32), .int (0 : Int32), .int (0 : Int32), .int (0 : Int32)])) (.inr (15, [.int g, .int m, .int (0 : Int32), .int (0 : Int32), .int (0 : Int32)])))) F hNm clX18 1 (by decide) q1251 rfl rfl rfl rfl (gUp_put (gnl rfl)) dX18_init_11 ?_
  refine g_aload_n F 0 rfl rfl dX18_init_14 ?_
  refine g_iload_n F 3 rfl rfl dX18_init_15 ?_
  refine g_putF (P2 := (gUp P a (.inr (15, [.int (0 : Int32), .int (0 : Int32), .int (0 : Int32), .int (0 : Int32), .int (0 : Int32)])) (.inr (15, [.int g, .int m, .int u, .int (0 : Int32), .int (0 : Int32)])))) F hNm clX18 2 (by decide) q1252 rfl rfl rfl rfl (gUp_put (gnl rfl)) dX18_init_16 ?_
  exact g_retV F E rfl (gle rfl) (gle rfl) dX18_init_19 (fun _ hp => ⟨rfl, hp⟩)

theorem kX17_init {l : Launch} {G : gG} (hl : l.stackTraces = false) {P : gH → Prop} {a : Nat} {r : Nat} {m b : Int32} (ha : gAt P a (.inr (14, [.null, .int (0 : Int32), .int (0 : Int32)])))   : gMet l yX17_init (ws_ yX17_init cX17_init 4 none) ⟨2, 0, 0, 32⟩ G [.ref a, .ref r, .int m, .int b] P (gqV (gUp P a (.inr (14, [.null, .int (0 : Int32), .int (0 : Int32)])) (.inr (14, [.ref r, .int m, .int b])))) gxN := by
  refine gMet_of hl pnX17 (gle rfl) (fun X Q hX F E hNm => ?_)
  subst hX
  change gW (X, G, 4, Q) P [(0, .ref a), (1, .ref r), (2, .int m), (3, .int b)] 0 [] 0 0
  refine g_mono (gUp_0 ha) ?_
  refine g_aload_n F 0 rfl rfl dX17_init_0 ?_
  refine g_callI F (kJ21_init hl (a := a)) rfl q1222 q1223 q56 q1224 myJ21_init ⟨by decide, by decide⟩ rfl rfl (gle rfl) 0 0 (gle rfl) (gle rfl) (gle rfl) (gle rfl) dX17_init_1 gx_n (gv_v ?_)
  refine g_aload_n F 0 rfl rfl dX17_init_4 ?_
  refine g_aload_n F 1 rfl rfl dX17_init_5 ?_
  refine g_putF (P2 := (gUp P a (.inr (14, [.null, .int (0 : Int32), .int (0 : Int32)])) (.inr (14, [.ref r, .int (0 : Int32), .int (0 : Int32)])))) F hNm clX17 0 (by decide) q1226 rfl rfl rfl rfl (gUp_put (gnl rfl)) dX17_init_6 ?_
  refine g_aload_n F 0 rfl rfl dX17_init_9 ?_
  refine g_iload_n F 2 rfl rfl dX17_init_10 ?_
  refine g_putF (P2 := (gUp P a (.inr (14, [.null, .int (0 : Int32), .int (0 : Int32)])) (.inr (14, [.ref r, .int m, .int (0 : Int32)])))) F hNm clX17 1 (by decide) q1227 rfl rfl rfl rfl (gUp_put (gnl rfl)) dX17_init_11 ?_
  refine g_aload_n F 0 rfl rfl dX17_init_14 ?_
  refine g_iload_n F 3 rfl rfl dX17_init_15 ?_
  refine g_putF (P2 := (gUp P a (.inr (14, [.null, .int (0 : Int32), .int (0 : Int32)])) (.inr (14, [.ref r, .int m, .int b])))) F hNm clX17 2 (by decide) q1228 rfl rfl rfl rfl (gUp_put (gnl rfl)) dX17_init_16 ?_
  exact g_retV F E rfl (gle rfl) (gle rfl) dX17_init_19 (fun _ hp => ⟨rfl, hp⟩)

def sC_slats (S : gS) (wood grain wetness many : Int32) : gO := if ((wood = (99 : Int32)) ∧ ((¬ grain < (0 : Int32) ∧ ¬ (9 : Int32) < grain) ∧ ((¬ wetness < (0 : Int32) ∧ ¬ (40 : Int32) < wetness) ∧ (¬ many < (1 : Int32) ∧ ¬ (500 : Int32) < many)))) ∨ (¬ (wood = (99 : Int32)) ∧ ((wood = (98 : Int32)) ∧ ((¬ grain < (0 : Int32) ∧ ¬ (9 : Int32) < grain) ∧ ((¬ wetness < (0 : Int32) ∧ ¬ (40 : Int32) < wetness) ∧ (¬ many < (1 : Int32) ∧ ¬ (500 : Int32) < many))))) then (if ¬ ((12 : Int32) ≤ (nI (S.2 9))) then (.inr (.int (nI (S.2 9)), (gsr S.1 9 (S.2 9) (gRw [wood, grain, wetness, many, (0 : Int32), (0 : Int32)]), va_up S.2 9 (S.2 9 + 1)))) else (.inl "java/lang/IllegalStateException")) else (.inl "java/lang/IllegalArgumentException")
theorem kX1_slats {l : Launch} {G : gG} (hl : l.stackTraces = false) {S : gS} {a0 : Nat} {Fr : gH → Prop} (hF : gFr 0 Fr) (hW : gWf S) {wood grain wetness many : Int32}  : gMet l yX1_slats (ws_ yX1_slats cX1_slats 5 (some .int)) ⟨7, 7, 172, 731⟩ G [.ref a0, .int wood, .int grain, .int wetness, .int many] (gPE 0 G S a0 Fr) (gqS (sC_slats S wood grain wetness many) 0 G a0 Fr) (gxS (sC_slats S wood grain wetness many) 0 G S a0 Fr) := by
  refine gMet_of hl pnX1 (gle rfl) (fun X Q hX F E hNm => ?_)
  subst hX
  change gW (X, G, 5, Q) (gPE 0 G S a0 Fr) [(0, .ref a0), (1, .int wood), (2, .int grain), (3, .int wetness), (4, .int many)] 0 [] 0 0
  refine g_pe (fun A hA => ?_)
  subst hA
  change gW _ _ [(0, .ref (A 0 0)), (1, .int wood), (2, .int grain), (3, .int wetness), (4, .int many)] 0 [] 0 0
  refine g_iload_n F 1 rfl rfl dX1_slats_0 ?_
  refine g_bipush F (v := (99 : Int32)) (by decide) dX1_slats_1 ?_
  have J_15 : gW (X, G, 5, Q) (gP 0 G S A Fr []) [(0, .ref (A 0 0)), (1, .int wood), (2, .int grain), (3, .int wetness), (4, .int many)] 67 [.int (gb (((wood = (99 : Int32)) ∧ ((¬ grain < (0 : Int32) ∧ ¬ (9 : Int32) < grain) ∧ ((¬ wetness < (0 : Int32) ∧ ¬ (40 : Int32) < wetness) ∧ (¬ many < (1 : Int32) ∧ ¬ (500 : Int32) < many)))) ∨ (¬ (wood = (99 : Int32)) ∧ ((wood = (98 : Int32)) ∧ ((¬ grain < (0 : Int32) ∧ ¬ (9 : Int32) < grain) ∧ ((¬ wetness < (0 : Int32) ∧ ¬ (40 : Int32) < wetness) ∧ (¬ many < (1 : Int32) ∧ ¬ (500 : Int32) < many)))))))] 3 3 := by
    refine g_callS F (kX1_requireArgument hl (c := ((wood = (99 : Int32)) ∧ ((¬ grain < (0 : Int32) ∧ ¬ (9 : Int32) < grain) ∧ ((¬ wetness < (0 : Int32) ∧ ¬ (40 : Int32) < wetness) ∧ (¬ many < (1 : Int32) ∧ ¬ (500 : Int32) < many)))) ∨ (¬ (wood = (99 : Int32)) ∧ ((wood = (98 : Int32)) ∧ ((¬ grain < (0 : Int32) ∧ ¬ (9 : Int32) < grain) ∧ ((¬ wetness < (0 : Int32) ∧ ¬ (40 : Int32) < wetness) ∧ (¬ many < (1 : Int32) ∧ ¬ (500 : Int32) < many))))))) (lw_S q335 q336 q18 q337) myX1_requireArgument ⟨by decide, by decide⟩ rfl rfl (gle rfl) 4 9 (gle rfl) (gle rfl) (gle rfl) (gle rfl) dX1_slats_67 (gx_1 (fun c_16 => g_out0 F E (gle rfl) (gle rfl) (fun _ hp => ⟨(if_neg c_16), gPE_0 _ hp⟩))) (gv_c (fun c_16 => ?_))
    refine g_aload_n F 0 rfl rfl dX1_slats_70 ?_
    refine g_get F clX1 12 (by decide) q147 (v := .ref (A 309 0)) (gd_get (pr_at (κ := 0) (i := 0) (by decide) (gc1 (gnl rfl)) (gce rfl rfl)) rfl) dX1_slats_71 ?_
    refine g_callF F clJ3 (kJ3_size hl (pr_ls (M := 0) (S := S) (A := A) (κ := 9) (by decide) (Or.inl ⟨by decide, by decide⟩) (fun q => by first | decide | exact absurd q (by decide)) (fun q => by first | decide | exact absurd q (by decide)))) (g_recv F clJ3 (gls_obj (pr_ls (M := 0) (S := S) (A := A) (κ := 9) (by decide) (Or.inl ⟨by decide, by decide⟩) (fun q => by first | decide | exact absurd q (by decide)) (fun q => by first | decide | exact absurd q (by decide))))) q631 q634 q636 q22 q638 (List.mem_of_getElem? (i := 0) rfl) (gT_w q637 rfl) (gT_w q635 rfl) (gT_w q293 rfl) gface_0 ⟨by decide, by decide⟩ rfl rfl (gle rfl) 4 9 (gle rfl) (gle rfl) (gle rfl) (gle rfl) dX1_slats_74 gx_n (gv_i ?_)
    refine g_bipush F (v := (12 : Int32)) (by decide) dX1_slats_79 ?_
    have J_18 : gW (X, G, 5, Q) (gP 0 G S A Fr []) [(0, .ref (A 0 0)), (1, .int wood), (2, .int grain), (3, .int wetness), (4, .int many)] 89 [.int (gb (¬ ((12 : Int32) ≤ (nI (S.2 9)))))] 4 9 := by
      refine g_callS F (kX1_requireState hl (c := ¬ ((12 : Int32) ≤ (nI (S.2 9))))) (lw_S q406 q407 q18 q408) myX1_requireState ⟨by decide, by decide⟩ rfl rfl (gle rfl) 5 15 (gle rfl) (gle rfl) (gle rfl) (gle rfl) dX1_slats_89 (gx_1 (fun c_19 => g_out0 F E (gle rfl) (gle rfl) (fun _ hp => ⟨((if_pos c_16).trans (if_neg c_19)), gPE_0 _ hp⟩))) (gv_c (fun c_19 => ?_))
      refine g_aload_n F 0 rfl rfl dX1_slats_92 ?_
      refine g_get F clX1 12 (by decide) q147 (v := .ref (A 309 0)) (gd_get (pr_at (κ := 0) (i := 0) (by decide) (gc1 (gnl rfl)) (gce rfl rfl)) rfl) dX1_slats_93 ?_
      refine g_new F clX11 q1003 q1004 q49 (5000, 0) (fs := [.int (0 : Int32), .int (0 : Int32), .int (0 : Int32), .int (0 : Int32), .int (0 : Int32), .int (0 : Int32), .int (0 : Int32)]) rfl 6 22 (gle rfl) (gle rfl) (gle rfl) (gle rfl) (Pa := fun a_20 => gP 0 G S A Fr [(a_20, .inr (8, [.int (0 : Int32), .int (0 : Int32), .int (0 : Int32), .int (0 : Int32), .int (0 : Int32), .int (0 : Int32), .int (0 : Int32)]))]) (pr_new hF) dX1_slats_96 (fun a_20 => ?_)
      refine g_dup F rfl dX1_slats_99 ?_
      refine g_aload_n F 0 rfl rfl dX1_slats_100 ?_
      refine g_get F clX1 12 (by decide) q147 (v := .ref (A 309 0)) (gd_get (pr_at (κ := 0) (i := 0) (by decide) (gc1 (gnl rfl)) (gce rfl rfl)) rfl) dX1_slats_101 ?_
      refine g_callF F clJ3 (kJ3_size hl (pr_ls (M := 0) (S := S) (A := A) (κ := 9) (by decide) (Or.inl ⟨by decide, by decide⟩) (fun q => by first | decide | exact absurd q (by decide)) (fun q => by first | decide | exact absurd q (by decide)))) (g_recv F clJ3 (gls_obj (pr_ls (M := 0) (S := S) (A := A) (κ := 9) (by decide) (Or.inl ⟨by decide, by decide⟩) (fun q => by first | decide | exact absurd q (by decide)) (fun q => by first | decide | exact absurd q (by decide))))) q631 q634 q636 q22 q638 (List.mem_of_getElem? (i := 0) rfl) (gT_w q637 rfl) (gT_w q635 rfl) (gT_w q293 rfl) gface_0 ⟨by decide, by decide⟩ rfl rfl (gle rfl) 6 22 (gle rfl) (gle rfl) (gle rfl) (gle rfl) dX1_slats_104 gx_n (gv_i ?_)
      refine g_iload_n F 1 rfl rfl dX1_slats_109 ?_
      refine g_bipush F (v := (99 : Int32)) (by decide) dX1_slats_110 ?_
      have J_22 : gW (X, G, 5, Q) (gP 0 G S A Fr [(a_20, .inr (8, [.int (0 : Int32), .int (0 : Int32), .int (0 : Int32), .int (0 : Int32), .int (0 : Int32), .int (0 : Int32), .int (0 : Int32)]))]) [(0, .ref (A 0 0)), (1, .int wood), (2, .int grain), (3, .int wetness), (4, .int many)] 120 [.int (gb (wood = (99 : Int32))), .int (nI (S.2 9)), .ref a_20, .ref a_20, .ref (A 309 0)] 6 22 := by
        refine g_iload_n F 2 rfl rfl dX1_slats_120 ?_
        refine g_iload_n F 3 rfl rfl dX1_slats_121 ?_
        refine g_iload F 4 rfl dX1_slats_122 ?_
        refine g_callI F (kX11_init hl (pr_atT (j := 0) rfl)) rfl q1005 q1006 q49 q1007 myX11_init ⟨by decide, by decide⟩ rfl rfl (gle rfl) 6 22 (gle rfl) (gle rfl) (gle rfl) (gle rfl) dX1_slats_124 gx_n (gv_v ?_)
        refine g_mono (P2 := gP 0 G S A Fr [(a_20, .inr (8, [.int (nI (S.2 9)), .int (gb (wood = (99 : Int32))), .int grain, .int wetness, .int many, .int (0 : Int32), .int (0 : Int32)]))]) (pr_up gM0 hF (j := 0) rfl) ?_
        refine g_callF F clJ3 (kJ3_add hl (pr_ls (M := 0) (S := S) (A := A) (κ := 9) (by decide) (Or.inl ⟨by decide, by decide⟩) (fun q => by first | decide | exact absurd q (by decide)) (fun q => by first | decide | exact absurd q (by decide))) (Nat.le_trans (gw_64 hW _) (by decide)) (pr_elT (j := 0) rfl (Or.inl ⟨_, _, rfl, by decide, by decide⟩)) (pr_el (by decide) (by decide) (fun q => by first | decide | exact absurd q (by decide)) (fun q => by first | decide | exact absurd q (by decide)))) (g_recv F clJ3 (gls_obj (pr_ls (M := 0) (S := S) (A := A) (κ := 9) (by decide) (Or.inl ⟨by decide, by decide⟩) (fun q => by first | decide | exact absurd q (by decide)) (fun q => by first | decide | exact absurd q (by decide))))) q677 q680 q682 q22 q684 (List.mem_of_getElem? (i := 2) rfl) (gT_w q683 rfl) (gT_w q681 rfl) (gT_w q293 rfl) gface_2 ⟨by decide, by decide⟩ rfl rfl (gle rfl) 7 172 (gle rfl) (gle rfl) (gle rfl) (gle rfl) dX1_slats_127 gx_n (gv_i ?_)
        refine g_retag (P2 := gP 0 G (gsr S.1 9 (S.2 9) (gRw [wood, grain, wetness, many, (0 : Int32), (0 : Int32)]), va_up S.2 9 (S.2 9 + 1)) (gAa A 9 (S.2 9) a_20) Fr []) (pr_add (T0 := []) (κ := 9) gM0 hF hW (by decide) (by decide) (by decide) (gRw [wood, grain, wetness, many, (0 : Int32), (0 : Int32)]) rfl) ?_
        refine g_pop F rfl dX1_slats_132 ?_
        refine g_aload_n F 0 rfl rfl dX1_slats_133 ?_
        refine g_get F clX1 12 (by decide) q147 (v := .ref (A 309 0)) (gd_get (pr_at (κ := 0) (i := 0) (by decide) (gc1 (gnl rfl)) (gce (show (gsr S.1 9 (S.2 9) (gRw [wood, grain, wetness, many, (0 : Int32), (0 : Int32)])) 0 0 = S.1 0 0 from (gsr_p (by decide) rfl)) rfl)) rfl) dX1_slats_134 ?_
        refine g_callF F clJ3 (kJ3_size hl (pr_ls (M := 0) (S := (gsr S.1 9 (S.2 9) (gRw [wood, grain, wetness, many, (0 : Int32), (0 : Int32)]), va_up S.2 9 (S.2 9 + 1))) (A := gAa A 9 (S.2 9) a_20) (κ := 9) (by decide) (Or.inl ⟨by decide, by decide⟩) (fun q => by first | decide | exact absurd q (by decide)) (fun q => by first | decide | exact absurd q (by decide)))) (g_recv F clJ3 (gls_obj (pr_ls (M := 0) (S := (gsr S.1 9 (S.2 9) (gRw [wood, grain, wetness, many, (0 : Int32), (0 : Int32)]), va_up S.2 9 (S.2 9 + 1))) (A := gAa A 9 (S.2 9) a_20) (κ := 9) (by decide) (Or.inl ⟨by decide, by decide⟩) (fun q => by first | decide | exact absurd q (by decide)) (fun q => by first | decide | exact absurd q (by decide))))) q631 q634 q636 q22 q638 (List.mem_of_getElem? (i := 0) rfl) (gT_w q637 rfl) (gT_w q635 rfl) (gT_w q293 rfl) gface_0 ⟨by decide, by decide⟩ rfl rfl (gle rfl) 7 172 (gle rfl) (gle rfl) (gle rfl) (gle rfl) dX1_slats_137 gx_n (gv_i ?_)
        refine g_iconst F (v := (1 : Int32)) (by decide) dX1_slats_142 ?_
        refine g_isub F dX1_slats_143 ?_
        refine g_top (nI_pred (S.2 9)) ?_
        exact g_retI F E rfl rfl (gle rfl) (gle rfl) dX1_slats_144 (fun _ hp => ⟨_, _, ((if_pos c_16).trans (if_pos c_19)), rfl, ⟨gAa A 9 (S.2 9) a_20, rfl, gP_T0 hp⟩⟩)
      refine g_icmp_ne F (tgt := 119) (by decide) dX1_slats_112 (fun c_21 => ?_) (fun c_21 => ?_)
      · skip
        refine g_iconst F (v := (0 : Int32)) (by decide) dX1_slats_119 ?_
        exact g_top (gb_f c_21) J_22
      · skip
        refine g_iconst F (v := (1 : Int32)) (by decide) dX1_slats_115 ?_
        refine g_goto F (tgt := 120) (by decide) dX1_slats_116 ?_
        exact g_top (gb_t c_21) J_22
    refine g_icmp_ge F (tgt := 88) (by decide) dX1_slats_81 (fun c_17 => ?_) (fun c_17 => ?_)
    · skip
      refine g_iconst F (v := (0 : Int32)) (by decide) dX1_slats_88 ?_
      exact g_top (gb_f (fun q => q c_17)) J_18
    · skip
      refine g_iconst F (v := (1 : Int32)) (by decide) dX1_slats_84 ?_
      refine g_goto F (tgt := 89) (by decide) dX1_slats_85 ?_
      exact g_top (gb_t c_17) J_18
  refine g_icmp_eq F (tgt := 12) (by decide) dX1_slats_3 (fun c_1 => ?_) (fun c_1 => ?_)
  · skip
    refine g_iconst F (v := (0 : Int32)) (by decide) dX1_slats_12 ?_
    refine g_bipush F (v := (9 : Int32)) (by decide) dX1_slats_13 ?_
    refine g_iconst F (v := (1 : Int32)) (by decide) dX1_slats_15 ?_
    refine g_newI F (5000, 0) (N := 1) rfl (by decide) 1 1 (gle rfl) (gle rfl) (gle rfl) (gle rfl) (Pa := fun a_2 => gP 0 G S A Fr [(a_2, gIA G 1 (fun _ => 0))]) (pr_new hF) dX1_slats_16 (fun a_2 => ?_)
    refine g_dup F rfl dX1_slats_18 ?_
    refine g_iconst F (v := (0 : Int32)) (by decide) dX1_slats_19 ?_
    refine g_iload_n F 2 rfl rfl dX1_slats_20 ?_
    refine g_iastN (P2 := gP 0 G S A Fr [(a_2, gIA G 1 (upd (fun _ => 0) 0 grain))]) F (m := 0) rfl (by decide) (by decide) (pr_setT gM0 hF (j := 0) rfl) dX1_slats_21 ?_
    refine g_callS F (kX1_isIn hl (pr_atT (j := 0) rfl)) (lw_S q305 q306 q18 q307) myX1_isIn ⟨by decide, by decide⟩ rfl rfl (gle rfl) 1 1 (gle rfl) (gle rfl) (gle rfl) (gle rfl) dX1_slats_22 gx_n (gv_i ?_)
    refine g_top (show _ = gb (¬ grain < (0 : Int32) ∧ ¬ (9 : Int32) < grain) from rfl) ?_
    refine g_mono (P2 := gP 0 G S A Fr []) (fun _ hp => gP_Tl 0 hp) ?_
    refine gb_if_eq F (tgt := 66) (by decide) dX1_slats_25 (fun c_3 => ?_) (fun c_3 => ?_)
    · skip
      refine g_iconst F (v := (0 : Int32)) (by decide) dX1_slats_66 ?_
      exact g_widen (by decide) (by decide) <| g_top (gb_f (fun q => q.elim (fun z => (fun q => c_3 q.1) z.2) (fun z => z.1 c_1))) J_15
    · skip
      refine g_iconst F (v := (0 : Int32)) (by decide) dX1_slats_28 ?_
      refine g_bipush F (v := (40 : Int32)) (by decide) dX1_slats_29 ?_
      refine g_iconst F (v := (1 : Int32)) (by decide) dX1_slats_31 ?_
      refine g_newI F (5000, 0) (N := 1) rfl (by decide) 2 2 (gle rfl) (gle rfl) (gle rfl) (gle rfl) (Pa := fun a_4 => gP 0 G S A Fr [(a_4, gIA G 1 (fun _ => 0))]) (pr_new hF) dX1_slats_32 (fun a_4 => ?_)
      refine g_dup F rfl dX1_slats_34 ?_
      refine g_iconst F (v := (0 : Int32)) (by decide) dX1_slats_35 ?_
      refine g_iload_n F 3 rfl rfl dX1_slats_36 ?_
      refine g_iastN (P2 := gP 0 G S A Fr [(a_4, gIA G 1 (upd (fun _ => 0) 0 wetness))]) F (m := 0) rfl (by decide) (by decide) (pr_setT gM0 hF (j := 0) rfl) dX1_slats_37 ?_
      refine g_callS F (kX1_isIn hl (pr_atT (j := 0) rfl)) (lw_S q305 q306 q18 q307) myX1_isIn ⟨by decide, by decide⟩ rfl rfl (gle rfl) 2 2 (gle rfl) (gle rfl) (gle rfl) (gle rfl) dX1_slats_38 gx_n (gv_i ?_)
      refine g_top (show _ = gb (¬ wetness < (0 : Int32) ∧ ¬ (40 : Int32) < wetness) from rfl) ?_
      refine g_mono (P2 := gP 0 G S A Fr []) (fun _ hp => gP_Tl 0 hp) ?_
      refine gb_if_eq F (tgt := 66) (by decide) dX1_slats_41 (fun c_5 => ?_) (fun c_5 => ?_)
      · skip
        refine g_iconst F (v := (0 : Int32)) (by decide) dX1_slats_66 ?_
        exact g_widen (by decide) (by decide) <| g_top (gb_f (fun q => q.elim (fun z => (fun q => (fun q => c_5 q.1) q.2) z.2) (fun z => z.1 c_1))) J_15
      · skip
        refine g_iconst F (v := (1 : Int32)) (by decide) dX1_slats_44 ?_
        refine g_sipush F (v := (500 : Int32)) (by decide) dX1_slats_45 ?_
        refine g_iconst F (v := (1 : Int32)) (by decide) dX1_slats_48 ?_
        refine g_newI F (5000, 0) (N := 1) rfl (by decide) 3 3 (gle rfl) (gle rfl) (gle rfl) (gle rfl) (Pa := fun a_6 => gP 0 G S A Fr [(a_6, gIA G 1 (fun _ => 0))]) (pr_new hF) dX1_slats_49 (fun a_6 => ?_)
        refine g_dup F rfl dX1_slats_51 ?_
        refine g_iconst F (v := (0 : Int32)) (by decide) dX1_slats_52 ?_
        refine g_iload F 4 rfl dX1_slats_53 ?_
        refine g_iastN (P2 := gP 0 G S A Fr [(a_6, gIA G 1 (upd (fun _ => 0) 0 many))]) F (m := 0) rfl (by decide) (by decide) (pr_setT gM0 hF (j := 0) rfl) dX1_slats_55 ?_
        refine g_callS F (kX1_isIn hl (pr_atT (j := 0) rfl)) (lw_S q305 q306 q18 q307) myX1_isIn ⟨by decide, by decide⟩ rfl rfl (gle rfl) 3 3 (gle rfl) (gle rfl) (gle rfl) (gle rfl) dX1_slats_56 gx_n (gv_i ?_)
        refine g_top (show _ = gb (¬ many < (1 : Int32) ∧ ¬ (500 : Int32) < many) from rfl) ?_
        refine g_mono (P2 := gP 0 G S A Fr []) (fun _ hp => gP_Tl 0 hp) ?_
        refine gb_if_eq F (tgt := 66) (by decide) dX1_slats_59 (fun c_7 => ?_) (fun c_7 => ?_)
        · skip
          refine g_iconst F (v := (0 : Int32)) (by decide) dX1_slats_66 ?_
          exact g_top (gb_f (fun q => q.elim (fun z => (fun q => (fun q => c_7 q.2) q.2) z.2) (fun z => z.1 c_1))) J_15
        · skip
          refine g_iconst F (v := (1 : Int32)) (by decide) dX1_slats_62 ?_
          refine g_goto F (tgt := 67) (by decide) dX1_slats_63 ?_
          exact g_top (gb_t (Or.inl ⟨c_1, ⟨c_3, ⟨c_5, c_7⟩⟩⟩)) J_15
  · skip
    refine g_iload_n F 1 rfl rfl dX1_slats_6 ?_
    refine g_bipush F (v := (98 : Int32)) (by decide) dX1_slats_7 ?_
    refine g_icmp_ne F (tgt := 66) (by decide) dX1_slats_9 (fun c_8 => ?_) (fun c_8 => ?_)
    · skip
      refine g_iconst F (v := (0 : Int32)) (by decide) dX1_slats_66 ?_
      exact g_widen (by decide) (by decide) <| g_top (gb_f (fun q => q.elim (fun z => c_1 z.1) (fun z => (fun q => c_8 q.1) z.2))) J_15
    · skip
      refine g_iconst F (v := (0 : Int32)) (by decide) dX1_slats_12 ?_
      refine g_bipush F (v := (9 : Int32)) (by decide) dX1_slats_13 ?_
      refine g_iconst F (v := (1 : Int32)) (by decide) dX1_slats_15 ?_
      refine g_newI F (5000, 0) (N := 1) rfl (by decide) 1 1 (gle rfl) (gle rfl) (gle rfl) (gle rfl) (Pa := fun a_9 => gP 0 G S A Fr [(a_9, gIA G 1 (fun _ => 0))]) (pr_new hF) dX1_slats_16 (fun a_9 => ?_)
      refine g_dup F rfl dX1_slats_18 ?_
      refine g_iconst F (v := (0 : Int32)) (by decide) dX1_slats_19 ?_
      refine g_iload_n F 2 rfl rfl dX1_slats_20 ?_
      refine g_iastN (P2 := gP 0 G S A Fr [(a_9, gIA G 1 (upd (fun _ => 0) 0 grain))]) F (m := 0) rfl (by decide) (by decide) (pr_setT gM0 hF (j := 0) rfl) dX1_slats_21 ?_
      refine g_callS F (kX1_isIn hl (pr_atT (j := 0) rfl)) (lw_S q305 q306 q18 q307) myX1_isIn ⟨by decide, by decide⟩ rfl rfl (gle rfl) 1 1 (gle rfl) (gle rfl) (gle rfl) (gle rfl) dX1_slats_22 gx_n (gv_i ?_)
      refine g_top (show _ = gb (¬ grain < (0 : Int32) ∧ ¬ (9 : Int32) < grain) from rfl) ?_
      refine g_mono (P2 := gP 0 G S A Fr []) (fun _ hp => gP_Tl 0 hp) ?_
      refine gb_if_eq F (tgt := 66) (by decide) dX1_slats_25 (fun c_10 => ?_) (fun c_10 => ?_)
      · skip
        refine g_iconst F (v := (0 : Int32)) (by decide) dX1_slats_66 ?_
        exact g_widen (by decide) (by decide) <| g_top (gb_f (fun q => q.elim (fun z => c_1 z.1) (fun z => (fun q => (fun q => c_10 q.1) q.2) z.2))) J_15
      · skip
        refine g_iconst F (v := (0 : Int32)) (by decide) dX1_slats_28 ?_
        refine g_bipush F (v := (40 : Int32)) (by decide) dX1_slats_29 ?_
        refine g_iconst F (v := (1 : Int32)) (by decide) dX1_slats_31 ?_
        refine g_newI F (5000, 0) (N := 1) rfl (by decide) 2 2 (gle rfl) (gle rfl) (gle rfl) (gle rfl) (Pa := fun a_11 => gP 0 G S A Fr [(a_11, gIA G 1 (fun _ => 0))]) (pr_new hF) dX1_slats_32 (fun a_11 => ?_)
        refine g_dup F rfl dX1_slats_34 ?_
        refine g_iconst F (v := (0 : Int32)) (by decide) dX1_slats_35 ?_
        refine g_iload_n F 3 rfl rfl dX1_slats_36 ?_
        refine g_iastN (P2 := gP 0 G S A Fr [(a_11, gIA G 1 (upd (fun _ => 0) 0 wetness))]) F (m := 0) rfl (by decide) (by decide) (pr_setT gM0 hF (j := 0) rfl) dX1_slats_37 ?_
        refine g_callS F (kX1_isIn hl (pr_atT (j := 0) rfl)) (lw_S q305 q306 q18 q307) myX1_isIn ⟨by decide, by decide⟩ rfl rfl (gle rfl) 2 2 (gle rfl) (gle rfl) (gle rfl) (gle rfl) dX1_slats_38 gx_n (gv_i ?_)
        refine g_top (show _ = gb (¬ wetness < (0 : Int32) ∧ ¬ (40 : Int32) < wetness) from rfl) ?_
        refine g_mono (P2 := gP 0 G S A Fr []) (fun _ hp => gP_Tl 0 hp) ?_
        refine gb_if_eq F (tgt := 66) (by decide) dX1_slats_41 (fun c_12 => ?_) (fun c_12 => ?_)
        · skip
          refine g_iconst F (v := (0 : Int32)) (by decide) dX1_slats_66 ?_
          exact g_widen (by decide) (by decide) <| g_top (gb_f (fun q => q.elim (fun z => c_1 z.1) (fun z => (fun q => (fun q => (fun q => c_12 q.1) q.2) q.2) z.2))) J_15
        · skip
          refine g_iconst F (v := (1 : Int32)) (by decide) dX1_slats_44 ?_
          refine g_sipush F (v := (500 : Int32)) (by decide) dX1_slats_45 ?_
          refine g_iconst F (v := (1 : Int32)) (by decide) dX1_slats_48 ?_
          refine g_newI F (5000, 0) (N := 1) rfl (by decide) 3 3 (gle rfl) (gle rfl) (gle rfl) (gle rfl) (Pa := fun a_13 => gP 0 G S A Fr [(a_13, gIA G 1 (fun _ => 0))]) (pr_new hF) dX1_slats_49 (fun a_13 => ?_)
          refine g_dup F rfl dX1_slats_51 ?_
          refine g_iconst F (v := (0 : Int32)) (by decide) dX1_slats_52 ?_
          refine g_iload F 4 rfl dX1_slats_53 ?_
          refine g_iastN (P2 := gP 0 G S A Fr [(a_13, gIA G 1 (upd (fun _ => 0) 0 many))]) F (m := 0) rfl (by decide) (by decide) (pr_setT gM0 hF (j := 0) rfl) dX1_slats_55 ?_
          refine g_callS F (kX1_isIn hl (pr_atT (j := 0) rfl)) (lw_S q305 q306 q18 q307) myX1_isIn ⟨by decide, by decide⟩ rfl rfl (gle rfl) 3 3 (gle rfl) (gle rfl) (gle rfl) (gle rfl) dX1_slats_56 gx_n (gv_i ?_)
          refine g_top (show _ = gb (¬ many < (1 : Int32) ∧ ¬ (500 : Int32) < many) from rfl) ?_
          refine g_mono (P2 := gP 0 G S A Fr []) (fun _ hp => gP_Tl 0 hp) ?_
          refine gb_if_eq F (tgt := 66) (by decide) dX1_slats_59 (fun c_14 => ?_) (fun c_14 => ?_)
          · skip
            refine g_iconst F (v := (0 : Int32)) (by decide) dX1_slats_66 ?_
            exact g_top (gb_f (fun q => q.elim (fun z => c_1 z.1) (fun z => (fun q => (fun q => (fun q => c_14 q.2) q.2) q.2) z.2))) J_15
          · skip
            refine g_iconst F (v := (1 : Int32)) (by decide) dX1_slats_62 ?_
            refine g_goto F (tgt := 67) (by decide) dX1_slats_63 ?_
            exact g_top (gb_t (Or.inr ⟨c_1, ⟨c_8, ⟨c_10, ⟨c_12, c_14⟩⟩⟩⟩)) J_15

def sC_order (S : gS) (grade grosses due : Int32) : gO := if (¬ grade < (0 : Int32) ∧ ¬ (19 : Int32) < grade) ∧ ((¬ grosses < (1 : Int32) ∧ ¬ (9 : Int32) < grosses) ∧ (¬ due < S.1 0 0 0 ∧ ¬ (9999 : Int32) < due)) then (if ¬ ((12 : Int32) ≤ (nI (S.2 13))) then (.inr (.int (nI (S.2 13)), (gsr S.1 13 (S.2 13) (gRw [grade, grosses, due, (0 : Int32), (0 : Int32)]), va_up S.2 13 (S.2 13 + 1)))) else (.inl "java/lang/IllegalStateException")) else (.inl "java/lang/IllegalArgumentException")
theorem kX1_order {l : Launch} {G : gG} (hl : l.stackTraces = false) {S : gS} {a0 : Nat} {Fr : gH → Prop} (hF : gFr 0 Fr) (hW : gWf S) {grade grosses due : Int32}  : gMet l yX1_order (ws_ yX1_order cX1_order 4 (some .int)) ⟨7, 7, 170, 731⟩ G [.ref a0, .int grade, .int grosses, .int due] (gPE 0 G S a0 Fr) (gqS (sC_order S grade grosses due) 0 G a0 Fr) (gxS (sC_order S grade grosses due) 0 G S a0 Fr) := by
  refine gMet_of hl pnX1 (gle rfl) (fun X Q hX F E hNm => ?_)
  subst hX
  change gW (X, G, 4, Q) (gPE 0 G S a0 Fr) [(0, .ref a0), (1, .int grade), (2, .int grosses), (3, .int due)] 0 [] 0 0
  refine g_pe (fun A hA => ?_)
  subst hA
  change gW _ _ [(0, .ref (A 0 0)), (1, .int grade), (2, .int grosses), (3, .int due)] 0 [] 0 0
  refine g_iconst F (v := (0 : Int32)) (by decide) dX1_order_0 ?_
  refine g_bipush F (v := (19 : Int32)) (by decide) dX1_order_1 ?_
  refine g_iconst F (v := (1 : Int32)) (by decide) dX1_order_3 ?_
  refine g_newI F (5000, 0) (N := 1) rfl (by decide) 1 1 (gle rfl) (gle rfl) (gle rfl) (gle rfl) (Pa := fun a_1 => gP 0 G S A Fr [(a_1, gIA G 1 (fun _ => 0))]) (pr_new hF) dX1_order_4 (fun a_1 => ?_)
  refine g_dup F rfl dX1_order_6 ?_
  refine g_iconst F (v := (0 : Int32)) (by decide) dX1_order_7 ?_
  refine g_iload_n F 1 rfl rfl dX1_order_8 ?_
  refine g_iastN (P2 := gP 0 G S A Fr [(a_1, gIA G 1 (upd (fun _ => 0) 0 grade))]) F (m := 0) rfl (by decide) (by decide) (pr_setT gM0 hF (j := 0) rfl) dX1_order_9 ?_
  refine g_callS F (kX1_isIn hl (pr_atT (j := 0) rfl)) (lw_S q305 q306 q18 q307) myX1_isIn ⟨by decide, by decide⟩ rfl rfl (gle rfl) 1 1 (gle rfl) (gle rfl) (gle rfl) (gle rfl) dX1_order_10 gx_n (gv_i ?_)
  refine g_top (show _ = gb (¬ grade < (0 : Int32) ∧ ¬ (19 : Int32) < grade) from rfl) ?_
  refine g_mono (P2 := gP 0 G S A Fr []) (fun _ hp => gP_Tl 0 hp) ?_
  have J_7 : gW (X, G, 4, Q) (gP 0 G S A Fr []) [(0, .ref (A 0 0)), (1, .int grade), (2, .int grosses), (3, .int due)] 57 [.int (gb ((¬ grade < (0 : Int32) ∧ ¬ (19 : Int32) < grade) ∧ ((¬ grosses < (1 : Int32) ∧ ¬ (9 : Int32) < grosses) ∧ (¬ due < S.1 0 0 0 ∧ ¬ (9999 : Int32) < due))))] 3 3 := by
    refine g_callS F (kX1_requireArgument hl (c := (¬ grade < (0 : Int32) ∧ ¬ (19 : Int32) < grade) ∧ ((¬ grosses < (1 : Int32) ∧ ¬ (9 : Int32) < grosses) ∧ (¬ due < S.1 0 0 0 ∧ ¬ (9999 : Int32) < due)))) (lw_S q335 q336 q18 q337) myX1_requireArgument ⟨by decide, by decide⟩ rfl rfl (gle rfl) 4 9 (gle rfl) (gle rfl) (gle rfl) (gle rfl) dX1_order_57 (gx_1 (fun c_8 => g_out0 F E (gle rfl) (gle rfl) (fun _ hp => ⟨(if_neg c_8), gPE_0 _ hp⟩))) (gv_c (fun c_8 => ?_))
    refine g_aload_n F 0 rfl rfl dX1_order_60 ?_
    refine g_get F clX1 17 (by decide) q152 (v := .ref (A 313 0)) (gd_get (pr_at (κ := 0) (i := 0) (by decide) (gc1 (gnl rfl)) (gce rfl rfl)) rfl) dX1_order_61 ?_
    refine g_callF F clJ3 (kJ3_size hl (pr_ls (M := 0) (S := S) (A := A) (κ := 13) (by decide) (Or.inl ⟨by decide, by decide⟩) (fun q => by first | decide | exact absurd q (by decide)) (fun q => by first | decide | exact absurd q (by decide)))) (g_recv F clJ3 (gls_obj (pr_ls (M := 0) (S := S) (A := A) (κ := 13) (by decide) (Or.inl ⟨by decide, by decide⟩) (fun q => by first | decide | exact absurd q (by decide)) (fun q => by first | decide | exact absurd q (by decide))))) q631 q634 q636 q22 q638 (List.mem_of_getElem? (i := 0) rfl) (gT_w q637 rfl) (gT_w q635 rfl) (gT_w q293 rfl) gface_0 ⟨by decide, by decide⟩ rfl rfl (gle rfl) 4 9 (gle rfl) (gle rfl) (gle rfl) (gle rfl) dX1_order_64 gx_n (gv_i ?_)
    refine g_bipush F (v := (12 : Int32)) (by decide) dX1_order_69 ?_
    have J_10 : gW (X, G, 4, Q) (gP 0 G S A Fr []) [(0, .ref (A 0 0)), (1, .int grade), (2, .int grosses), (3, .int due)] 79 [.int (gb (¬ ((12 : Int32) ≤ (nI (S.2 13)))))] 4 9 := by
      refine g_callS F (kX1_requireState hl (c := ¬ ((12 : Int32) ≤ (nI (S.2 13))))) (lw_S q406 q407 q18 q408) myX1_requireState ⟨by decide, by decide⟩ rfl rfl (gle rfl) 5 15 (gle rfl) (gle rfl) (gle rfl) (gle rfl) dX1_order_79 (gx_1 (fun c_11 => g_out0 F E (gle rfl) (gle rfl) (fun _ hp => ⟨((if_pos c_8).trans (if_neg c_11)), gPE_0 _ hp⟩))) (gv_c (fun c_11 => ?_))
      refine g_aload_n F 0 rfl rfl dX1_order_82 ?_
      refine g_get F clX1 17 (by decide) q152 (v := .ref (A 313 0)) (gd_get (pr_at (κ := 0) (i := 0) (by decide) (gc1 (gnl rfl)) (gce rfl rfl)) rfl) dX1_order_83 ?_
      refine g_new F clX18 q1243 q1244 q58 (5000, 0) (fs := [.int (0 : Int32), .int (0 : Int32), .int (0 : Int32), .int (0 : Int32), .int (0 : Int32)]) rfl 6 20 (gle rfl) (gle rfl) (gle rfl) (gle rfl) (Pa := fun a_12 => gP 0 G S A Fr [(a_12, .inr (15, [.int (0 : Int32), .int (0 : Int32), .int (0 : Int32), .int (0 : Int32), .int (0 : Int32)]))]) (pr_new hF) dX1_order_86 (fun a_12 => ?_)
      refine g_dup F rfl dX1_order_89 ?_
      refine g_iload_n F 1 rfl rfl dX1_order_90 ?_
      refine g_iload_n F 2 rfl rfl dX1_order_91 ?_
      refine g_iload_n F 3 rfl rfl dX1_order_92 ?_
      refine g_callI F (kX18_init hl (pr_atT (j := 0) rfl)) rfl q1245 q1246 q58 q1247 myX18_init ⟨by decide, by decide⟩ rfl rfl (gle rfl) 6 20 (gle rfl) (gle rfl) (gle rfl) (gle rfl) dX1_order_93 gx_n (gv_v ?_)
      refine g_mono (P2 := gP 0 G S A Fr [(a_12, .inr (15, [.int grade, .int grosses, .int due, .int (0 : Int32), .int (0 : Int32)]))]) (pr_up gM0 hF (j := 0) rfl) ?_
      refine g_callF F clJ3 (kJ3_add hl (pr_ls (M := 0) (S := S) (A := A) (κ := 13) (by decide) (Or.inl ⟨by decide, by decide⟩) (fun q => by first | decide | exact absurd q (by decide)) (fun q => by first | decide | exact absurd q (by decide))) (Nat.le_trans (gw_64 hW _) (by decide)) (pr_elT (j := 0) rfl (Or.inl ⟨_, _, rfl, by decide, by decide⟩)) (pr_el (by decide) (by decide) (fun q => by first | decide | exact absurd q (by decide)) (fun q => by first | decide | exact absurd q (by decide)))) (g_recv F clJ3 (gls_obj (pr_ls (M := 0) (S := S) (A := A) (κ := 13) (by decide) (Or.inl ⟨by decide, by decide⟩) (fun q => by first | decide | exact absurd q (by decide)) (fun q => by first | decide | exact absurd q (by decide))))) q677 q680 q682 q22 q684 (List.mem_of_getElem? (i := 2) rfl) (gT_w q683 rfl) (gT_w q681 rfl) (gT_w q293 rfl) gface_2 ⟨by decide, by decide⟩ rfl rfl (gle rfl) 7 170 (gle rfl) (gle rfl) (gle rfl) (gle rfl) dX1_order_96 gx_n (gv_i ?_)
      refine g_retag (P2 := gP 0 G (gsr S.1 13 (S.2 13) (gRw [grade, grosses, due, (0 : Int32), (0 : Int32)]), va_up S.2 13 (S.2 13 + 1)) (gAa A 13 (S.2 13) a_12) Fr []) (pr_add (T0 := []) (κ := 13) gM0 hF hW (by decide) (by decide) (by decide) (gRw [grade, grosses, due, (0 : Int32), (0 : Int32)]) rfl) ?_
      refine g_pop F rfl dX1_order_101 ?_
      refine g_aload_n F 0 rfl rfl dX1_order_102 ?_
      refine g_get F clX1 17 (by decide) q152 (v := .ref (A 313 0)) (gd_get (pr_at (κ := 0) (i := 0) (by decide) (gc1 (gnl rfl)) (gce (show (gsr S.1 13 (S.2 13) (gRw [grade, grosses, due, (0 : Int32), (0 : Int32)])) 0 0 = S.1 0 0 from (gsr_p (by decide) rfl)) rfl)) rfl) dX1_order_103 ?_
      refine g_callF F clJ3 (kJ3_size hl (pr_ls (M := 0) (S := (gsr S.1 13 (S.2 13) (gRw [grade, grosses, due, (0 : Int32), (0 : Int32)]), va_up S.2 13 (S.2 13 + 1))) (A := gAa A 13 (S.2 13) a_12) (κ := 13) (by decide) (Or.inl ⟨by decide, by decide⟩) (fun q => by first | decide | exact absurd q (by decide)) (fun q => by first | decide | exact absurd q (by decide)))) (g_recv F clJ3 (gls_obj (pr_ls (M := 0) (S := (gsr S.1 13 (S.2 13) (gRw [grade, grosses, due, (0 : Int32), (0 : Int32)]), va_up S.2 13 (S.2 13 + 1))) (A := gAa A 13 (S.2 13) a_12) (κ := 13) (by decide) (Or.inl ⟨by decide, by decide⟩) (fun q => by first | decide | exact absurd q (by decide)) (fun q => by first | decide | exact absurd q (by decide))))) q631 q634 q636 q22 q638 (List.mem_of_getElem? (i := 0) rfl) (gT_w q637 rfl) (gT_w q635 rfl) (gT_w q293 rfl) gface_0 ⟨by decide, by decide⟩ rfl rfl (gle rfl) 7 170 (gle rfl) (gle rfl) (gle rfl) (gle rfl) dX1_order_106 gx_n (gv_i ?_)
      refine g_iconst F (v := (1 : Int32)) (by decide) dX1_order_111 ?_
      refine g_isub F dX1_order_112 ?_
      refine g_top (nI_pred (S.2 13)) ?_
      exact g_retI F E rfl rfl (gle rfl) (gle rfl) dX1_order_113 (fun _ hp => ⟨_, _, ((if_pos c_8).trans (if_pos c_11)), rfl, ⟨gAa A 13 (S.2 13) a_12, rfl, gP_T0 hp⟩⟩)
    refine g_icmp_ge F (tgt := 78) (by decide) dX1_order_71 (fun c_9 => ?_) (fun c_9 => ?_)
    · skip
      refine g_iconst F (v := (0 : Int32)) (by decide) dX1_order_78 ?_
      exact g_top (gb_f (fun q => q c_9)) J_10
    · skip
      refine g_iconst F (v := (1 : Int32)) (by decide) dX1_order_74 ?_
      refine g_goto F (tgt := 79) (by decide) dX1_order_75 ?_
      exact g_top (gb_t c_9) J_10
  refine gb_if_eq F (tgt := 56) (by decide) dX1_order_13 (fun c_2 => ?_) (fun c_2 => ?_)
  · skip
    refine g_iconst F (v := (0 : Int32)) (by decide) dX1_order_56 ?_
    exact g_widen (by decide) (by decide) <| g_top (gb_f (fun q => c_2 q.1)) J_7
  · skip
    refine g_iconst F (v := (1 : Int32)) (by decide) dX1_order_16 ?_
    refine g_bipush F (v := (9 : Int32)) (by decide) dX1_order_17 ?_
    refine g_iconst F (v := (1 : Int32)) (by decide) dX1_order_19 ?_
    refine g_newI F (5000, 0) (N := 1) rfl (by decide) 2 2 (gle rfl) (gle rfl) (gle rfl) (gle rfl) (Pa := fun a_3 => gP 0 G S A Fr [(a_3, gIA G 1 (fun _ => 0))]) (pr_new hF) dX1_order_20 (fun a_3 => ?_)
    refine g_dup F rfl dX1_order_22 ?_
    refine g_iconst F (v := (0 : Int32)) (by decide) dX1_order_23 ?_
    refine g_iload_n F 2 rfl rfl dX1_order_24 ?_
    refine g_iastN (P2 := gP 0 G S A Fr [(a_3, gIA G 1 (upd (fun _ => 0) 0 grosses))]) F (m := 0) rfl (by decide) (by decide) (pr_setT gM0 hF (j := 0) rfl) dX1_order_25 ?_
    refine g_callS F (kX1_isIn hl (pr_atT (j := 0) rfl)) (lw_S q305 q306 q18 q307) myX1_isIn ⟨by decide, by decide⟩ rfl rfl (gle rfl) 2 2 (gle rfl) (gle rfl) (gle rfl) (gle rfl) dX1_order_26 gx_n (gv_i ?_)
    refine g_top (show _ = gb (¬ grosses < (1 : Int32) ∧ ¬ (9 : Int32) < grosses) from rfl) ?_
    refine g_mono (P2 := gP 0 G S A Fr []) (fun _ hp => gP_Tl 0 hp) ?_
    refine gb_if_eq F (tgt := 56) (by decide) dX1_order_29 (fun c_4 => ?_) (fun c_4 => ?_)
    · skip
      refine g_iconst F (v := (0 : Int32)) (by decide) dX1_order_56 ?_
      exact g_widen (by decide) (by decide) <| g_top (gb_f (fun q => (fun q => c_4 q.1) q.2)) J_7
    · skip
      refine g_aload_n F 0 rfl rfl dX1_order_32 ?_
      refine g_get F clX1 0 (by decide) q135 (v := .int (S.1 0 0 0)) (gd_get (pr_at (κ := 0) (i := 0) (by decide) (gc1 (gnl rfl)) (gce rfl rfl)) rfl) dX1_order_33 ?_
      refine g_sipush F (v := (9999 : Int32)) (by decide) dX1_order_36 ?_
      refine g_iconst F (v := (1 : Int32)) (by decide) dX1_order_39 ?_
      refine g_newI F (5000, 0) (N := 1) rfl (by decide) 3 3 (gle rfl) (gle rfl) (gle rfl) (gle rfl) (Pa := fun a_5 => gP 0 G S A Fr [(a_5, gIA G 1 (fun _ => 0))]) (pr_new hF) dX1_order_40 (fun a_5 => ?_)
      refine g_dup F rfl dX1_order_42 ?_
      refine g_iconst F (v := (0 : Int32)) (by decide) dX1_order_43 ?_
      refine g_iload_n F 3 rfl rfl dX1_order_44 ?_
      refine g_iastN (P2 := gP 0 G S A Fr [(a_5, gIA G 1 (upd (fun _ => 0) 0 due))]) F (m := 0) rfl (by decide) (by decide) (pr_setT gM0 hF (j := 0) rfl) dX1_order_45 ?_
      refine g_callS F (kX1_isIn hl (pr_atT (j := 0) rfl)) (lw_S q305 q306 q18 q307) myX1_isIn ⟨by decide, by decide⟩ rfl rfl (gle rfl) 3 3 (gle rfl) (gle rfl) (gle rfl) (gle rfl) dX1_order_46 gx_n (gv_i ?_)
      refine g_top (show _ = gb (¬ due < S.1 0 0 0 ∧ ¬ (9999 : Int32) < due) from rfl) ?_
      refine g_mono (P2 := gP 0 G S A Fr []) (fun _ hp => gP_Tl 0 hp) ?_
      refine gb_if_eq F (tgt := 56) (by decide) dX1_order_49 (fun c_6 => ?_) (fun c_6 => ?_)
      · skip
        refine g_iconst F (v := (0 : Int32)) (by decide) dX1_order_56 ?_
        exact g_top (gb_f (fun q => (fun q => c_6 q.2) q.2)) J_7
      · skip
        refine g_iconst F (v := (1 : Int32)) (by decide) dX1_order_52 ?_
        refine g_goto F (tgt := 57) (by decide) dX1_order_53 ?_
        exact g_top (gb_t (⟨c_2, ⟨c_4, c_6⟩⟩)) J_7

def sC_press (S : gS) (mixture die kilos : Int32) : gO := if gIn mixture (S.2 7) then (if kilos < (1 : Int32) then (.inl "java/lang/IllegalArgumentException") else (if ¬ die < 0 ∧ ¬ 3 < die then (if ¬ ((S.1 7 mixture.toNatClampNeg 4) < kilos) ∧ (¬ ((200 : Int32) ≤ (S.1 3 0 die.toNatClampNeg)) ∧ (gGoes S 1)) then (if ¬ ((16 : Int32) ≤ (nI (S.2 8))) then (.inr (.int (nI (S.2 8)), (gsr (gsr (gsr S.1 8 (S.2 8) (gRw [mixture, (20 : Int32) * kilos, (0 : Int32), (20 : Int32) + ((S.1 3 0 die.toNatClampNeg) / (40 : Int32)), (0 : Int32), (0 : Int32), (-1 : Int32), (-1 : Int32), (0 : Int32), (0 : Int32), (0 : Int32)])) 7 mixture.toNatClampNeg (upd (S.1 7 mixture.toNatClampNeg) 4 ((S.1 7 mixture.toNatClampNeg 4) - kilos))) 3 0 (upd (S.1 3 0) die.toNatClampNeg ((S.1 3 0 die.toNatClampNeg) + ((kilos * ((10 : Int32) - (S.1 7 mixture.toNatClampNeg 3))) / (5 : Int32)))), va_up S.2 8 (S.2 8 + 1)))) else (.inl "java/lang/IllegalStateException")) else (.inl "java/lang/UnsupportedOperationException")) else (.inl "java/lang/IllegalArgumentException"))) else (.inl "java/lang/IndexOutOfBoundsException")
theorem kX1_press {l : Launch} {G : gG} (hl : l.stackTraces = false) {S : gS} {a0 : Nat} {Fr : gH → Prop} (hF : gFr 0 Fr) (hW : gWf S) {mixture die kilos : Int32}  : gMet l yX1_press (ws_ yX1_press cX1_press 5 (some .int)) ⟨11, 24, 254, 731⟩ G [.ref a0, .int mixture, .int die, .int kilos] (gPE 0 G S a0 Fr) (gqS (sC_press S mixture die kilos) 0 G a0 Fr) (gxS (sC_press S mixture die kilos) 0 G S a0 Fr) := by
  refine gMet_of hl pnX1 (gle rfl) (fun X Q hX F E hNm => ?_)
  subst hX
  change gW (X, G, 5, Q) (gPE 0 G S a0 Fr) [(0, .ref a0), (1, .int mixture), (2, .int die), (3, .int kilos)] 0 [] 0 0
  refine g_pe (fun A hA => ?_)
  subst hA
  change gW _ _ [(0, .ref (A 0 0)), (1, .int mixture), (2, .int die), (3, .int kilos)] 0 [] 0 0
  refine g_aload_n F 0 rfl rfl dX1_press_0 ?_
  refine g_get F clX1 8 (by decide) q143 (v := .ref (A 307 0)) (gd_get (pr_at (κ := 0) (i := 0) (by decide) (gc1 (gnl rfl)) (gce rfl rfl)) rfl) dX1_press_1 ?_
  refine g_iload_n F 1 rfl rfl dX1_press_4 ?_
  refine g_callS F (kX1_require hl (pr_ls (M := 0) (S := S) (A := A) (κ := 7) (by decide) (Or.inl ⟨by decide, by decide⟩) (fun q => by first | decide | exact absurd q (by decide)) (fun q => by first | decide | exact absurd q (by decide))) (gw_n hW _) (x := mixture)) (lw_S q784 q785 q18 q786) myX1_require ⟨by decide, by decide⟩ rfl rfl (gle rfl) 1 6 (gle rfl) (gle rfl) (gle rfl) (gle rfl) dX1_press_5 (gx_1 (fun c_1 => g_out0 F E (gle rfl) (gle rfl) (fun _ hp => ⟨(if_neg c_1), gPE_0 _ hp⟩))) (gv_y (fun c_1 => ?_))
  refine g_castS F (g_recv F clX8 (gd_obj (pr_at (κ := 7) (i := mixture.toNatClampNeg) (by decide) (gc6 (by decide) c_1.2) (gce rfl rfl)))) q831 dX1_press_8 ?_
  refine g_astore F (by show 4 < 5; decide) (lv2 := [(4, .ref (A 7 mixture.toNatClampNeg)), (0, .ref (A 0 0)), (1, .int mixture), (2, .int die), (3, .int kilos)]) rfl dX1_press_11 ?_
  refine g_iload_n F 4 rfl rfl dX1_press_13 ?_
  refine g_iconst F (v := (1 : Int32)) (by decide) dX1_press_14 ?_
  refine g_icmp_lt F (tgt := 30) (by decide) dX1_press_15 (fun c_2 => ?_) (fun c_2 => ?_)
  · skip
    refine g_iconst F (v := (0 : Int32)) (by decide) dX1_press_30 ?_
    refine g_top (show (0 : Int32) = gb False from rfl) ?_
    refine g_callS F (kX1_requireArgument hl (c := False)) (lw_S q335 q336 q18 q337) myX1_requireArgument ⟨by decide, by decide⟩ rfl rfl (gle rfl) 2 12 (gle rfl) (gle rfl) (gle rfl) (gle rfl) dX1_press_31 (gx_1 (fun c_3 => g_out0 F E (gle rfl) (gle rfl) (fun _ hp => ⟨((if_pos c_1).trans (if_pos c_2)), gPE_0 _ hp⟩))) (gv_c (fun c_3 => c_3.elim))
  · skip
    refine g_iload_n F 3 rfl rfl dX1_press_18 ?_
    refine g_callS F (kX1_requireDie hl (d := die)) (lw_S q875 q876 q18 q877) myX1_requireDie ⟨by decide, by decide⟩ rfl rfl (gle rfl) 3 13 (gle rfl) (gle rfl) (gle rfl) (gle rfl) dX1_press_19 (gx_1 (fun c_4 => g_out0 F E (gle rfl) (gle rfl) (fun _ hp => ⟨((if_pos c_1).trans ((if_neg c_2).trans (if_neg c_4))), gPE_0 _ (gP_jk hF _ hp)⟩))) (gv_y (fun c_4 => ?_))
    refine g_mono (gP_jk hF) ?_
    refine g_iload_n F 3 rfl rfl dX1_press_22 ?_
    refine g_icmp_ne F (tgt := 30) (by decide) dX1_press_23 (fun c => absurd rfl c) (fun _ => ?_)
    refine g_iconst F (v := (1 : Int32)) (by decide) dX1_press_26 ?_
    refine g_goto F (tgt := 31) (by decide) dX1_press_27 ?_
    refine g_top (show (1 : Int32) = gb True from rfl) ?_
    refine g_callS F (kX1_requireArgument hl (c := True)) (lw_S q335 q336 q18 q337) myX1_requireArgument ⟨by decide, by decide⟩ rfl rfl (gle rfl) 4 19 (gle rfl) (gle rfl) (gle rfl) (gle rfl) dX1_press_31 (gx_1 (fun c_5 => (c_5 trivial).elim)) (gv_c (fun _ => ?_))
    refine g_aload F 0 rfl dX1_press_34 ?_
    refine g_getN F clX8 4 (by decide) (gT_w q848 rfl) (v := .int (S.1 7 mixture.toNatClampNeg 4)) (gd_get (pr_at (κ := 7) (i := mixture.toNatClampNeg) (by decide) (gc6 (by decide) c_1.2) (gce rfl rfl)) rfl) dX1_press_36 ?_
    refine g_iload_n F 4 rfl rfl dX1_press_39 ?_
    have J_10 : gW (X, G, 5, Q) (gP 0 G S A Fr []) [(4, .ref (A 7 mixture.toNatClampNeg)), (0, .ref (A 0 0)), (1, .int mixture), (2, .int die), (3, .int kilos)] 69 [.int (gb (¬ ((S.1 7 mixture.toNatClampNeg 4) < kilos) ∧ (¬ ((200 : Int32) ≤ (S.1 3 0 die.toNatClampNeg)) ∧ (gGoes S 1))))] 20 80 := by
      refine g_callS F (kX1_requireSupported hl (c := ¬ ((S.1 7 mixture.toNatClampNeg 4) < kilos) ∧ (¬ ((200 : Int32) ≤ (S.1 3 0 die.toNatClampNeg)) ∧ (gGoes S 1)))) (lw_S q512 q513 q18 q514) myX1_requireSupported ⟨by decide, by decide⟩ rfl rfl (gle rfl) 21 86 (gle rfl) (gle rfl) (gle rfl) (gle rfl) dX1_press_69 (gx_1 (fun c_11 => g_out0 F E (gle rfl) (gle rfl) (fun _ hp => ⟨((if_pos c_1).trans ((if_neg c_2).trans ((if_pos c_4).trans (if_neg c_11)))), gPE_0 _ hp⟩))) (gv_c (fun c_11 => ?_))
      refine g_aload_n F 1 rfl rfl dX1_press_72 ?_
      refine g_get F clX1 9 (by decide) q144 (v := .ref (A 308 0)) (gd_get (pr_at (κ := 0) (i := 0) (by decide) (gc1 (gnl rfl)) (gce rfl rfl)) rfl) dX1_press_73 ?_
      refine g_callF F clJ3 (kJ3_size hl (pr_ls (M := 0) (S := S) (A := A) (κ := 8) (by decide) (Or.inl ⟨by decide, by decide⟩) (fun q => by first | decide | exact absurd q (by decide)) (fun q => by first | decide | exact absurd q (by decide)))) (g_recv F clJ3 (gls_obj (pr_ls (M := 0) (S := S) (A := A) (κ := 8) (by decide) (Or.inl ⟨by decide, by decide⟩) (fun q => by first | decide | exact absurd q (by decide)) (fun q => by first | decide | exact absurd q (by decide))))) q631 q634 q636 q22 q638 (List.mem_of_getElem? (i := 0) rfl) (gT_w q637 rfl) (gT_w q635 rfl) (gT_w q293 rfl) gface_0 ⟨by decide, by decide⟩ rfl rfl (gle rfl) 21 86 (gle rfl) (gle rfl) (gle rfl) (gle rfl) dX1_press_76 gx_n (gv_i ?_)
      refine g_bipush F (v := (16 : Int32)) (by decide) dX1_press_81 ?_
      have J_13 : gW (X, G, 5, Q) (gP 0 G S A Fr []) [(4, .ref (A 7 mixture.toNatClampNeg)), (0, .ref (A 0 0)), (1, .int mixture), (2, .int die), (3, .int kilos)] 91 [.int (gb (¬ ((16 : Int32) ≤ (nI (S.2 8)))))] 21 86 := by
        refine g_callS F (kX1_requireState hl (c := ¬ ((16 : Int32) ≤ (nI (S.2 8))))) (lw_S q406 q407 q18 q408) myX1_requireState ⟨by decide, by decide⟩ rfl rfl (gle rfl) 22 92 (gle rfl) (gle rfl) (gle rfl) (gle rfl) dX1_press_91 (gx_1 (fun c_14 => g_out0 F E (gle rfl) (gle rfl) (fun _ hp => ⟨((if_pos c_1).trans ((if_neg c_2).trans ((if_pos c_4).trans ((if_pos c_11).trans (if_neg c_14))))), gPE_0 _ hp⟩))) (gv_c (fun c_14 => ?_))
        refine g_aload_n F 1 rfl rfl dX1_press_94 ?_
        refine g_get F clX1 9 (by decide) q144 (v := .ref (A 308 0)) (gd_get (pr_at (κ := 0) (i := 0) (by decide) (gc1 (gnl rfl)) (gce rfl rfl)) rfl) dX1_press_95 ?_
        refine g_new F clX9 q295 q878 q47 (5000, 0) (fs := [.int (0 : Int32), .null, .int (0 : Int32), .int (0 : Int32), .int (0 : Int32), .int (0 : Int32), .int (0 : Int32), .int (0 : Int32), .int (0 : Int32), .int (0 : Int32), .int (0 : Int32), .int (0 : Int32)]) rfl 23 104 (gle rfl) (gle rfl) (gle rfl) (gle rfl) (Pa := fun a_15 => gP 0 G S A Fr [(a_15, .inr (6, [.int (0 : Int32), .null, .int (0 : Int32), .int (0 : Int32), .int (0 : Int32), .int (0 : Int32), .int (0 : Int32), .int (0 : Int32), .int (0 : Int32), .int (0 : Int32), .int (0 : Int32), .int (0 : Int32)]))]) (pr_new hF) dX1_press_98 (fun a_15 => ?_)
        refine g_dup F rfl dX1_press_101 ?_
        refine g_aload_n F 1 rfl rfl dX1_press_102 ?_
        refine g_get F clX1 9 (by decide) q144 (v := .ref (A 308 0)) (gd_get (pr_at (κ := 0) (i := 0) (by decide) (gc1 (gnl rfl)) (gce rfl rfl)) rfl) dX1_press_103 ?_
        refine g_callF F clJ3 (kJ3_size hl (pr_ls (M := 0) (S := S) (A := A) (κ := 8) (by decide) (Or.inl ⟨by decide, by decide⟩) (fun q => by first | decide | exact absurd q (by decide)) (fun q => by first | decide | exact absurd q (by decide)))) (g_recv F clJ3 (gls_obj (pr_ls (M := 0) (S := S) (A := A) (κ := 8) (by decide) (Or.inl ⟨by decide, by decide⟩) (fun q => by first | decide | exact absurd q (by decide)) (fun q => by first | decide | exact absurd q (by decide))))) q631 q634 q636 q22 q638 (List.mem_of_getElem? (i := 0) rfl) (gT_w q637 rfl) (gT_w q635 rfl) (gT_w q293 rfl) gface_0 ⟨by decide, by decide⟩ rfl rfl (gle rfl) 23 104 (gle rfl) (gle rfl) (gle rfl) (gle rfl) dX1_press_106 gx_n (gv_i ?_)
        refine g_aload F 0 rfl dX1_press_111 ?_
        refine g_bipush F (v := (20 : Int32)) (by decide) dX1_press_113 ?_
        refine g_aload_n F 1 rfl rfl dX1_press_115 ?_
        refine g_get F clX1 4 (by decide) q139 (v := .ref (A 3 0)) (gd_get (pr_at (κ := 0) (i := 0) (by decide) (gc1 (gnl rfl)) (gce rfl rfl)) rfl) dX1_press_116 ?_
        refine g_iload_n F 3 rfl rfl dX1_press_119 ?_
        refine g_iald F (gvp (K := 3) (by decide) ⟨c_4.1, c_4.2⟩) (pr_at (κ := 3) (i := 0) (by decide) (gc1 (gnl rfl)) (gce rfl rfl)) dX1_press_120 ?_
        change gW _ _ _ _ (.int (S.1 3 0 die.toNatClampNeg) :: _) _ _
        refine g_bipush F (v := (40 : Int32)) (by decide) dX1_press_121 ?_
        refine g_idiv F (by decide) dX1_press_123 ?_
        refine g_iadd F dX1_press_124 ?_
        refine g_bipush F (v := (20 : Int32)) (by decide) dX1_press_125 ?_
        refine g_iload_n F 4 rfl rfl dX1_press_127 ?_
        refine g_imul F dX1_press_128 ?_
        refine g_callI F (kX9_init hl (pr_atT (j := 0) rfl)) rfl q879 q880 q47 q881 myX9_init ⟨by decide, by decide⟩ rfl rfl (gle rfl) 23 104 (gle rfl) (gle rfl) (gle rfl) (gle rfl) dX1_press_129 gx_n (gv_v ?_)
        refine g_mono (P2 := gP 0 G S A Fr [(a_15, .inr (6, [.int (nI (S.2 8)), .ref (A 7 mixture.toNatClampNeg), .int ((20 : Int32) + ((S.1 3 0 die.toNatClampNeg) / (40 : Int32))), .int ((20 : Int32) * kilos), .int (0 : Int32), .int (0 : Int32), .int (0 : Int32), .int (0 : Int32), .int (-1 : Int32), .int (-1 : Int32), .int (0 : Int32), .int (0 : Int32)]))]) (pr_up gM0 hF (j := 0) rfl) ?_
        refine g_callF F clJ3 (kJ3_add hl (pr_ls (M := 0) (S := S) (A := A) (κ := 8) (by decide) (Or.inl ⟨by decide, by decide⟩) (fun q => by first | decide | exact absurd q (by decide)) (fun q => by first | decide | exact absurd q (by decide))) (Nat.le_trans (gw_64 hW _) (by decide)) (pr_elT (j := 0) rfl (Or.inl ⟨_, _, rfl, by decide, by decide⟩)) (pr_el (by decide) (by decide) (fun q => by first | decide | exact absurd q (by decide)) (fun q => by first | decide | exact absurd q (by decide)))) (g_recv F clJ3 (gls_obj (pr_ls (M := 0) (S := S) (A := A) (κ := 8) (by decide) (Or.inl ⟨by decide, by decide⟩) (fun q => by first | decide | exact absurd q (by decide)) (fun q => by first | decide | exact absurd q (by decide))))) q677 q680 q682 q22 q684 (List.mem_of_getElem? (i := 2) rfl) (gT_w q683 rfl) (gT_w q681 rfl) (gT_w q293 rfl) gface_2 ⟨by decide, by decide⟩ rfl rfl (gle rfl) 24 254 (gle rfl) (gle rfl) (gle rfl) (gle rfl) dX1_press_132 gx_n (gv_i ?_)
        refine g_retag (P2 := gP 0 G (gsr S.1 8 (S.2 8) (gRw [mixture, (20 : Int32) * kilos, (0 : Int32), (20 : Int32) + ((S.1 3 0 die.toNatClampNeg) / (40 : Int32)), (0 : Int32), (0 : Int32), (-1 : Int32), (-1 : Int32), (0 : Int32), (0 : Int32), (0 : Int32)]), va_up S.2 8 (S.2 8 + 1)) (gAa A 8 (S.2 8) a_15) Fr []) (pr_add (T0 := []) (κ := 8) gM0 hF hW (by decide) (by decide) (by decide) (gRw [mixture, (20 : Int32) * kilos, (0 : Int32), (20 : Int32) + ((S.1 3 0 die.toNatClampNeg) / (40 : Int32)), (0 : Int32), (0 : Int32), (-1 : Int32), (-1 : Int32), (0 : Int32), (0 : Int32), (0 : Int32)]) rfl) ?_
        refine g_pop F rfl dX1_press_137 ?_
        refine g_aload F 0 rfl dX1_press_138 ?_
        refine g_dup F rfl dX1_press_140 ?_
        refine g_getN F clX8 4 (by decide) (gT_w q848 rfl) (v := .int (S.1 7 mixture.toNatClampNeg 4)) (gd_get (pr_at (κ := 7) (i := mixture.toNatClampNeg) (by decide) (gc6 (by decide) c_1.2) (gce (show (gsr S.1 8 (S.2 8) (gRw [mixture, (20 : Int32) * kilos, (0 : Int32), (20 : Int32) + ((S.1 3 0 die.toNatClampNeg) / (40 : Int32)), (0 : Int32), (0 : Int32), (-1 : Int32), (-1 : Int32), (0 : Int32), (0 : Int32), (0 : Int32)])) 7 mixture.toNatClampNeg = S.1 7 mixture.toNatClampNeg from (gsr_p (by decide) rfl)) rfl)) rfl) dX1_press_141 ?_
        refine g_iload_n F 4 rfl rfl dX1_press_144 ?_
        refine g_isub F dX1_press_145 ?_
        refine g_putN (P2 := gP 0 G (gsr (gsr S.1 8 (S.2 8) (gRw [mixture, (20 : Int32) * kilos, (0 : Int32), (20 : Int32) + ((S.1 3 0 die.toNatClampNeg) / (40 : Int32)), (0 : Int32), (0 : Int32), (-1 : Int32), (-1 : Int32), (0 : Int32), (0 : Int32), (0 : Int32)])) 7 mixture.toNatClampNeg (upd (S.1 7 mixture.toNatClampNeg) 4 ((S.1 7 mixture.toNatClampNeg 4) - kilos)), va_up S.2 8 (S.2 8 + 1)) (gAa A 8 (S.2 8) a_15) Fr []) F clX8 4 (by decide) (gT_w q848 rfl) rfl rfl rfl (pr_put (κ := 7) (i := mixture.toNatClampNeg) gM0 hF (upd (S.1 7 mixture.toNatClampNeg) 4 ((S.1 7 mixture.toNatClampNeg 4) - kilos)) (by decide) (gc6 (by decide) c_1.2) (gce (show (gsr S.1 8 (S.2 8) (gRw [mixture, (20 : Int32) * kilos, (0 : Int32), (20 : Int32) + ((S.1 3 0 die.toNatClampNeg) / (40 : Int32)), (0 : Int32), (0 : Int32), (-1 : Int32), (-1 : Int32), (0 : Int32), (0 : Int32), (0 : Int32)])) 7 mixture.toNatClampNeg = S.1 7 mixture.toNatClampNeg from (gsr_p (by decide) rfl)) rfl) (gnl rfl) rfl) dX1_press_146 ?_
        refine g_aload_n F 1 rfl rfl dX1_press_149 ?_
        refine g_get F clX1 4 (by decide) q139 (v := .ref (A 3 0)) (gd_get (pr_at (κ := 0) (i := 0) (by decide) (gc1 (gnl rfl)) (gce (show (gsr (gsr S.1 8 (S.2 8) (gRw [mixture, (20 : Int32) * kilos, (0 : Int32), (20 : Int32) + ((S.1 3 0 die.toNatClampNeg) / (40 : Int32)), (0 : Int32), (0 : Int32), (-1 : Int32), (-1 : Int32), (0 : Int32), (0 : Int32), (0 : Int32)])) 7 mixture.toNatClampNeg (upd (S.1 7 mixture.toNatClampNeg) 4 ((S.1 7 mixture.toNatClampNeg 4) - kilos))) 0 0 = S.1 0 0 from (gsr_p (by decide) (gsr_p (by decide) rfl))) rfl)) rfl) dX1_press_150 ?_
        refine g_iload_n F 3 rfl rfl dX1_press_153 ?_
        refine g_dup2 F rfl rfl dX1_press_154 ?_
        refine g_iald F (gvp (K := 3) (by decide) ⟨c_4.1, c_4.2⟩) (pr_at (κ := 3) (i := 0) (by decide) (gc1 (gnl rfl)) (gce (show (gsr (gsr S.1 8 (S.2 8) (gRw [mixture, (20 : Int32) * kilos, (0 : Int32), (20 : Int32) + ((S.1 3 0 die.toNatClampNeg) / (40 : Int32)), (0 : Int32), (0 : Int32), (-1 : Int32), (-1 : Int32), (0 : Int32), (0 : Int32), (0 : Int32)])) 7 mixture.toNatClampNeg (upd (S.1 7 mixture.toNatClampNeg) 4 ((S.1 7 mixture.toNatClampNeg 4) - kilos))) 3 0 = S.1 3 0 from (gsr_p (by decide) (gsr_p (by decide) rfl))) rfl)) dX1_press_155 ?_
        change gW _ _ _ _ (.int (S.1 3 0 die.toNatClampNeg) :: _) _ _
        refine g_iload_n F 4 rfl rfl dX1_press_156 ?_
        refine g_bipush F (v := (10 : Int32)) (by decide) dX1_press_157 ?_
        refine g_aload F 0 rfl dX1_press_159 ?_
        refine g_getN F clX8 3 (by decide) (gT_w q846 rfl) (v := .int (S.1 7 mixture.toNatClampNeg 3)) (gd_get (pr_at (κ := 7) (i := mixture.toNatClampNeg) (by decide) (gc6 (by decide) c_1.2) (gce (show (gsr (gsr S.1 8 (S.2 8) (gRw [mixture, (20 : Int32) * kilos, (0 : Int32), (20 : Int32) + ((S.1 3 0 die.toNatClampNeg) / (40 : Int32)), (0 : Int32), (0 : Int32), (-1 : Int32), (-1 : Int32), (0 : Int32), (0 : Int32), (0 : Int32)])) 7 mixture.toNatClampNeg (upd (S.1 7 mixture.toNatClampNeg) 4 ((S.1 7 mixture.toNatClampNeg 4) - kilos))) 7 mixture.toNatClampNeg = upd (S.1 7 mixture.toNatClampNeg) 4 ((S.1 7 mixture.toNatClampNeg 4) - kilos) from gsr_s) rfl)) rfl) dX1_press_161 ?_
        refine g_isub F dX1_press_164 ?_
        refine g_imul F dX1_press_165 ?_
        refine g_iconst F (v := (5 : Int32)) (by decide) dX1_press_166 ?_
        refine g_idiv F (by decide) dX1_press_167 ?_
        refine g_iadd F dX1_press_168 ?_
        refine g_iast (P2 := gP 0 G (gsr (gsr (gsr S.1 8 (S.2 8) (gRw [mixture, (20 : Int32) * kilos, (0 : Int32), (20 : Int32) + ((S.1 3 0 die.toNatClampNeg) / (40 : Int32)), (0 : Int32), (0 : Int32), (-1 : Int32), (-1 : Int32), (0 : Int32), (0 : Int32), (0 : Int32)])) 7 mixture.toNatClampNeg (upd (S.1 7 mixture.toNatClampNeg) 4 ((S.1 7 mixture.toNatClampNeg 4) - kilos))) 3 0 (upd (S.1 3 0) die.toNatClampNeg ((S.1 3 0 die.toNatClampNeg) + ((kilos * ((10 : Int32) - (S.1 7 mixture.toNatClampNeg 3))) / (5 : Int32)))), va_up S.2 8 (S.2 8 + 1)) (gAa A 8 (S.2 8) a_15) Fr []) F (gvp (K := 3) (by decide) ⟨c_4.1, c_4.2⟩) (pr_setRow (κ := 3) (i := 0) gM0 hF (upd (S.1 3 0) die.toNatClampNeg ((S.1 3 0 die.toNatClampNeg) + ((kilos * ((10 : Int32) - (S.1 7 mixture.toNatClampNeg 3))) / (5 : Int32)))) (by decide) (gc1 (gnl rfl)) (gce (show (gsr (gsr S.1 8 (S.2 8) (gRw [mixture, (20 : Int32) * kilos, (0 : Int32), (20 : Int32) + ((S.1 3 0 die.toNatClampNeg) / (40 : Int32)), (0 : Int32), (0 : Int32), (-1 : Int32), (-1 : Int32), (0 : Int32), (0 : Int32), (0 : Int32)])) 7 mixture.toNatClampNeg (upd (S.1 7 mixture.toNatClampNeg) 4 ((S.1 7 mixture.toNatClampNeg 4) - kilos))) 3 0 = S.1 3 0 from (gsr_p (by decide) (gsr_p (by decide) rfl))) rfl) rfl) dX1_press_169 ?_
        refine g_aload_n F 1 rfl rfl dX1_press_170 ?_
        refine g_get F clX1 9 (by decide) q144 (v := .ref (A 308 0)) (gd_get (pr_at (κ := 0) (i := 0) (by decide) (gc1 (gnl rfl)) (gce (show (gsr (gsr (gsr S.1 8 (S.2 8) (gRw [mixture, (20 : Int32) * kilos, (0 : Int32), (20 : Int32) + ((S.1 3 0 die.toNatClampNeg) / (40 : Int32)), (0 : Int32), (0 : Int32), (-1 : Int32), (-1 : Int32), (0 : Int32), (0 : Int32), (0 : Int32)])) 7 mixture.toNatClampNeg (upd (S.1 7 mixture.toNatClampNeg) 4 ((S.1 7 mixture.toNatClampNeg 4) - kilos))) 3 0 (upd (S.1 3 0) die.toNatClampNeg ((S.1 3 0 die.toNatClampNeg) + ((kilos * ((10 : Int32) - (S.1 7 mixture.toNatClampNeg 3))) / (5 : Int32))))) 0 0 = S.1 0 0 from (gsr_p (by decide) (gsr_p (by decide) (gsr_p (by decide) rfl)))) rfl)) rfl) dX1_press_171 ?_
        refine g_callF F clJ3 (kJ3_size hl (pr_ls (M := 0) (S := (gsr (gsr (gsr S.1 8 (S.2 8) (gRw [mixture, (20 : Int32) * kilos, (0 : Int32), (20 : Int32) + ((S.1 3 0 die.toNatClampNeg) / (40 : Int32)), (0 : Int32), (0 : Int32), (-1 : Int32), (-1 : Int32), (0 : Int32), (0 : Int32), (0 : Int32)])) 7 mixture.toNatClampNeg (upd (S.1 7 mixture.toNatClampNeg) 4 ((S.1 7 mixture.toNatClampNeg 4) - kilos))) 3 0 (upd (S.1 3 0) die.toNatClampNeg ((S.1 3 0 die.toNatClampNeg) + ((kilos * ((10 : Int32) - (S.1 7 mixture.toNatClampNeg 3))) / (5 : Int32)))), va_up S.2 8 (S.2 8 + 1))) (A := gAa A 8 (S.2 8) a_15) (κ := 8) (by decide) (Or.inl ⟨by decide, by decide⟩) (fun q => by first | decide | exact absurd q (by decide)) (fun q => by first | decide | exact absurd q (by decide)))) (g_recv F clJ3 (gls_obj (pr_ls (M := 0) (S := (gsr (gsr (gsr S.1 8 (S.2 8) (gRw [mixture, (20 : Int32) * kilos, (0 : Int32), (20 : Int32) + ((S.1 3 0 die.toNatClampNeg) / (40 : Int32)), (0 : Int32), (0 : Int32), (-1 : Int32), (-1 : Int32), (0 : Int32), (0 : Int32), (0 : Int32)])) 7 mixture.toNatClampNeg (upd (S.1 7 mixture.toNatClampNeg) 4 ((S.1 7 mixture.toNatClampNeg 4) - kilos))) 3 0 (upd (S.1 3 0) die.toNatClampNeg ((S.1 3 0 die.toNatClampNeg) + ((kilos * ((10 : Int32) - (S.1 7 mixture.toNatClampNeg 3))) / (5 : Int32)))), va_up S.2 8 (S.2 8 + 1))) (A := gAa A 8 (S.2 8) a_15) (κ := 8) (by decide) (Or.inl ⟨by decide, by decide⟩) (fun q => by first | decide | exact absurd q (by decide)) (fun q => by first | decide | exact absurd q (by decide))))) q631 q634 q636 q22 q638 (List.mem_of_getElem? (i := 0) rfl) (gT_w q637 rfl) (gT_w q635 rfl) (gT_w q293 rfl) gface_0 ⟨by decide, by decide⟩ rfl rfl (gle rfl) 24 254 (gle rfl) (gle rfl) (gle rfl) (gle rfl) dX1_press_174 gx_n (gv_i ?_)
        refine g_iconst F (v := (1 : Int32)) (by decide) dX1_press_179 ?_
        refine g_isub F dX1_press_180 ?_
        refine g_top (nI_pred (S.2 8)) ?_
        exact g_retI F E rfl rfl (gle rfl) (gle rfl) dX1_press_181 (fun _ hp => ⟨_, _, ((if_pos c_1).trans ((if_neg c_2).trans ((if_pos c_4).trans ((if_pos c_11).trans (if_pos c_14))))), rfl, ⟨gAa A 8 (S.2 8) a_15, rfl, gP_T0 hp⟩⟩)
      refine g_icmp_ge F (tgt := 90) (by decide) dX1_press_83 (fun c_12 => ?_) (fun c_12 => ?_)
      · skip
        refine g_iconst F (v := (0 : Int32)) (by decide) dX1_press_90 ?_
        exact g_top (gb_f (fun q => q c_12)) J_13
      · skip
        refine g_iconst F (v := (1 : Int32)) (by decide) dX1_press_86 ?_
        refine g_goto F (tgt := 91) (by decide) dX1_press_87 ?_
        exact g_top (gb_t c_12) J_13
    refine g_icmp_lt F (tgt := 68) (by decide) dX1_press_40 (fun c_6 => ?_) (fun c_6 => ?_)
    · skip
      refine g_iconst F (v := (0 : Int32)) (by decide) dX1_press_68 ?_
      exact g_widen (by decide) (by decide) <| g_top (gb_f (fun q => q.1 c_6)) J_10
    · skip
      refine g_aload_n F 1 rfl rfl dX1_press_43 ?_
      refine g_get F clX1 4 (by decide) q139 (v := .ref (A 3 0)) (gd_get (pr_at (κ := 0) (i := 0) (by decide) (gc1 (gnl rfl)) (gce rfl rfl)) rfl) dX1_press_44 ?_
      refine g_iload_n F 3 rfl rfl dX1_press_47 ?_
      refine g_iald F (gvp (K := 3) (by decide) ⟨c_4.1, c_4.2⟩) (pr_at (κ := 3) (i := 0) (by decide) (gc1 (gnl rfl)) (gce rfl rfl)) dX1_press_48 ?_
      change gW _ _ _ _ (.int (S.1 3 0 die.toNatClampNeg) :: _) _ _
      refine g_sipush F (v := (200 : Int32)) (by decide) dX1_press_49 ?_
      refine g_icmp_ge F (tgt := 68) (by decide) dX1_press_52 (fun c_7 => ?_) (fun c_7 => ?_)
      · skip
        refine g_iconst F (v := (0 : Int32)) (by decide) dX1_press_68 ?_
        exact g_widen (by decide) (by decide) <| g_top (gb_f (fun q => (fun q => q.1 c_7) q.2)) J_10
      · skip
        refine g_aload_n F 1 rfl rfl dX1_press_55 ?_
        refine g_bipush F (v := (112 : Int32)) (by decide) dX1_press_56 ?_
        refine g_callVW F (kX1_runsI hl hF hW (ch := (112 : Int32)) (by decide)) (g_recv F clX1 (gd_obj (pr_at (κ := 0) (i := 0) (by decide) (gc1 (gnl rfl)) (gce rfl rfl)))) q830 q561 q562 q18 q563 myX1_runs ⟨by decide, by decide⟩ rfl rfl (gle rfl) 20 80 (gle rfl) (gle rfl) (gle rfl) (gle rfl) dX1_press_58 (gx_1 (fun c_8 => (c_8 (by decide +kernel)).elim)) (gv_y (fun c_8 => ?_))
        refine g_top (show _ = gb (gGoes S 1) by rw [show gidx 0 (112 : Int32) = (1 : Int32) from by decide +kernel]) ?_
        refine gb_if_eq F (tgt := 68) (by decide) dX1_press_61 (fun c_9 => ?_) (fun c_9 => ?_)
        · skip
          refine g_iconst F (v := (0 : Int32)) (by decide) dX1_press_68 ?_
          exact g_top (gb_f (fun q => (fun q => c_9 q.2) q.2)) J_10
        · skip
          refine g_iconst F (v := (1 : Int32)) (by decide) dX1_press_64 ?_
          refine g_goto F (tgt := 69) (by decide) dX1_press_65 ?_
          exact g_top (gb_t (⟨c_6, ⟨c_7, c_9⟩⟩)) J_10

def sC_isLate (S : gS) (order : Int32) : gO := if gIn order (S.2 13) then (.inr (.int (gb (¬ ((S.1 13 order.toNatClampNeg 4) = 0) ∨ (¬ (((S.1 13 order.toNatClampNeg 1) - (S.1 13 order.toNatClampNeg 3)) ≤ 0) ∧ (¬ ((S.1 0 0 0) ≤ (S.1 13 order.toNatClampNeg 2)))))), S)) else (.inl "java/lang/IndexOutOfBoundsException")
theorem kX1_isLate {l : Launch} {G : gG} (hl : l.stackTraces = false) {S : gS} {a0 : Nat} {Fr : gH → Prop} (hF : gFr 0 Fr) (hW : gWf S) {order : Int32}  : gMet l yX1_isLate (ws_ yX1_isLate cX1_isLate 3 (some .boolean)) ⟨8, 1, 6, 123⟩ G [.ref a0, .int order] (gPE 0 G S a0 Fr) (gqS (sC_isLate S order) 0 G a0 Fr) (gxS (sC_isLate S order) 0 G S a0 Fr) := by
  refine gMet_of hl pnX1 (gle rfl) (fun X Q hX F E hNm => ?_)
  subst hX
  change gW (X, G, 3, Q) (gPE 0 G S a0 Fr) [(0, .ref a0), (1, .int order)] 0 [] 0 0
  refine g_pe (fun A hA => ?_)
  subst hA
  change gW _ _ [(0, .ref (A 0 0)), (1, .int order)] 0 [] 0 0
  refine g_aload_n F 0 rfl rfl dX1_isLate_0 ?_
  refine g_get F clX1 17 (by decide) q152 (v := .ref (A 313 0)) (gd_get (pr_at (κ := 0) (i := 0) (by decide) (gc1 (gnl rfl)) (gce rfl rfl)) rfl) dX1_isLate_1 ?_
  refine g_iload_n F 1 rfl rfl dX1_isLate_4 ?_
  refine g_callS F (kX1_require hl (pr_ls (M := 0) (S := S) (A := A) (κ := 13) (by decide) (Or.inl ⟨by decide, by decide⟩) (fun q => by first | decide | exact absurd q (by decide)) (fun q => by first | decide | exact absurd q (by decide))) (gw_n hW _) (x := order)) (lw_S q784 q785 q18 q786) myX1_require ⟨by decide, by decide⟩ rfl rfl (gle rfl) 1 6 (gle rfl) (gle rfl) (gle rfl) (gle rfl) dX1_isLate_5 (gx_1 (fun c_1 => g_out0 F E (gle rfl) (gle rfl) (fun _ hp => ⟨(if_neg c_1), gPE_0 _ hp⟩))) (gv_y (fun c_1 => ?_))
  refine g_castS F (g_recv F clX18 (gd_obj (pr_at (κ := 13) (i := order.toNatClampNeg) (by decide) (gc6 (by decide) c_1.2) (gce rfl rfl)))) q1243 dX1_isLate_8 ?_
  refine g_astore_n F rfl (by show 2 < 3; decide) (lv2 := [(2, .ref (A 13 order.toNatClampNeg)), (0, .ref (A 0 0)), (1, .int order)]) rfl dX1_isLate_11 ?_
  refine g_aload_n F 0 rfl rfl dX1_isLate_12 ?_
  refine g_getN F clX18 4 (by decide) (gT_w q1256 rfl) (v := .int (S.1 13 order.toNatClampNeg 4)) (gd_get (pr_at (κ := 13) (i := order.toNatClampNeg) (by decide) (gc6 (by decide) c_1.2) (gce rfl rfl)) rfl) dX1_isLate_13 ?_
  have J_5 : gW (X, G, 3, Q) (gP 0 G S A Fr []) [(2, .ref (A 13 order.toNatClampNeg)), (0, .ref (A 0 0)), (1, .int order)] 42 [.int (gb (¬ ((S.1 13 order.toNatClampNeg 4) = 0) ∨ (¬ (((S.1 13 order.toNatClampNeg 1) - (S.1 13 order.toNatClampNeg 3)) ≤ 0) ∧ (¬ ((S.1 0 0 0) ≤ (S.1 13 order.toNatClampNeg 2))))))] 1 6 := by
    exact g_retI F E rfl gb_z (gle rfl) (gle rfl) dX1_isLate_42 (fun _ hp => ⟨_, _, (if_pos c_1), rfl, ⟨A, rfl, gP_T0 hp⟩⟩)
  refine g_if_ne F (tgt := 37) (by decide) dX1_isLate_16 (fun c_2 => ?_) (fun c_2 => ?_)
  · skip
    refine g_iconst F (v := (1 : Int32)) (by decide) dX1_isLate_37 ?_
    refine g_goto F (tgt := 42) (by decide) dX1_isLate_38 ?_
    exact g_top (gb_t (Or.inl c_2)) J_5
  · skip
    refine g_aload_n F 0 rfl rfl dX1_isLate_19 ?_
    refine g_callV F (kX18_lacks hl (pr_at (κ := 13) (i := order.toNatClampNeg) (by decide) (gc6 (by decide) c_1.2) (gce rfl rfl))) (g_recv F clX18 (gd_obj (pr_at (κ := 13) (i := order.toNatClampNeg) (by decide) (gc6 (by decide) c_1.2) (gce rfl rfl)))) q1275 q1276 q1277 q58 q1278 myX18_lacks ⟨by decide, by decide⟩ rfl rfl (gle rfl) 1 6 (gle rfl) (gle rfl) (gle rfl) (gle rfl) dX1_isLate_20 gx_n (gv_i ?_)
    refine g_if_le F (tgt := 41) (by decide) dX1_isLate_23 (fun c_3 => ?_) (fun c_3 => ?_)
    · skip
      refine g_iconst F (v := (0 : Int32)) (by decide) dX1_isLate_41 ?_
      exact g_top (gb_f (fun q => q.elim (fun z => z c_2) (fun q => q.1 c_3))) J_5
    · skip
      refine g_aload_n F 1 rfl rfl dX1_isLate_26 ?_
      refine g_get F clX1 0 (by decide) q135 (v := .int (S.1 0 0 0)) (gd_get (pr_at (κ := 0) (i := 0) (by decide) (gc1 (gnl rfl)) (gce rfl rfl)) rfl) dX1_isLate_27 ?_
      refine g_aload_n F 0 rfl rfl dX1_isLate_30 ?_
      refine g_getN F clX18 2 (by decide) (gT_w q1253 rfl) (v := .int (S.1 13 order.toNatClampNeg 2)) (gd_get (pr_at (κ := 13) (i := order.toNatClampNeg) (by decide) (gc6 (by decide) c_1.2) (gce rfl rfl)) rfl) dX1_isLate_31 ?_
      refine g_icmp_le F (tgt := 41) (by decide) dX1_isLate_34 (fun c_4 => ?_) (fun c_4 => ?_)
      · skip
        refine g_iconst F (v := (0 : Int32)) (by decide) dX1_isLate_41 ?_
        exact g_top (gb_f (fun q => q.elim (fun z => z c_2) (fun q => (fun q => q c_4) q.2))) J_5
      · skip
        refine g_iconst F (v := (1 : Int32)) (by decide) dX1_isLate_37 ?_
        refine g_goto F (tgt := 42) (by decide) dX1_isLate_38 ?_
        exact g_top (gb_t (Or.inr ⟨c_3, c_4⟩)) J_5

def sC_lot (S : gS) (kind purity size kilos : Int32) : gO := if ((kind = (103 : Int32)) ∧ ((¬ purity < (50 : Int32) ∧ ¬ (99 : Int32) < purity) ∧ ((¬ size < (1 : Int32) ∧ ¬ (9 : Int32) < size) ∧ (¬ kilos < (1 : Int32) ∧ ¬ (500 : Int32) < kilos)))) ∨ (¬ (kind = (103 : Int32)) ∧ ((kind = (99 : Int32)) ∧ ((¬ purity < (50 : Int32) ∧ ¬ (99 : Int32) < purity) ∧ ((¬ size < (1 : Int32) ∧ ¬ (9 : Int32) < size) ∧ (¬ kilos < (1 : Int32) ∧ ¬ (500 : Int32) < kilos))))) then (if ¬ ((16 : Int32) ≤ (nI (S.2 6))) then (if kind = (103 : Int32) then (.inr (.int (nI (S.2 6)), (gsr S.1 6 (S.2 6) (gRw [kind, purity, size, kilos]), va_up S.2 6 (S.2 6 + 1)))) else (.inr (.int (nI (S.2 6)), (gsr S.1 6 (S.2 6) (gRw [kind, purity, size, kilos]), va_up S.2 6 (S.2 6 + 1))))) else (.inl "java/lang/IllegalStateException")) else (.inl "java/lang/IllegalArgumentException")
theorem kX1_lot {l : Launch} {G : gG} (hl : l.stackTraces = false) {S : gS} {a0 : Nat} {Fr : gH → Prop} (hF : gFr 0 Fr) (hW : gWf S) {kind purity size kilos : Int32}  : gMet l yX1_lot (ws_ yX1_lot cX1_lot 6 (some .int)) ⟨7, 8, 172, 731⟩ G [.ref a0, .int kind, .int purity, .int size, .int kilos] (gPE 0 G S a0 Fr) (gqS (sC_lot S kind purity size kilos) 0 G a0 Fr) (gxS (sC_lot S kind purity size kilos) 0 G S a0 Fr) := by
  refine gMet_of hl pnX1 (gle rfl) (fun X Q hX F E hNm => ?_)
  subst hX
  change gW (X, G, 6, Q) (gPE 0 G S a0 Fr) [(0, .ref a0), (1, .int kind), (2, .int purity), (3, .int size), (4, .int kilos)] 0 [] 0 0
  refine g_pe (fun A hA => ?_)
  subst hA
  change gW _ _ [(0, .ref (A 0 0)), (1, .int kind), (2, .int purity), (3, .int size), (4, .int kilos)] 0 [] 0 0
  refine g_iload_n F 1 rfl rfl dX1_lot_0 ?_
  refine g_bipush F (v := (103 : Int32)) (by decide) dX1_lot_1 ?_
  have J_15 : gW (X, G, 6, Q) (gP 0 G S A Fr []) [(0, .ref (A 0 0)), (1, .int kind), (2, .int purity), (3, .int size), (4, .int kilos)] 68 [.int (gb (((kind = (103 : Int32)) ∧ ((¬ purity < (50 : Int32) ∧ ¬ (99 : Int32) < purity) ∧ ((¬ size < (1 : Int32) ∧ ¬ (9 : Int32) < size) ∧ (¬ kilos < (1 : Int32) ∧ ¬ (500 : Int32) < kilos)))) ∨ (¬ (kind = (103 : Int32)) ∧ ((kind = (99 : Int32)) ∧ ((¬ purity < (50 : Int32) ∧ ¬ (99 : Int32) < purity) ∧ ((¬ size < (1 : Int32) ∧ ¬ (9 : Int32) < size) ∧ (¬ kilos < (1 : Int32) ∧ ¬ (500 : Int32) < kilos)))))))] 3 3 := by
    refine g_callS F (kX1_requireArgument hl (c := ((kind = (103 : Int32)) ∧ ((¬ purity < (50 : Int32) ∧ ¬ (99 : Int32) < purity) ∧ ((¬ size < (1 : Int32) ∧ ¬ (9 : Int32) < size) ∧ (¬ kilos < (1 : Int32) ∧ ¬ (500 : Int32) < kilos)))) ∨ (¬ (kind = (103 : Int32)) ∧ ((kind = (99 : Int32)) ∧ ((¬ purity < (50 : Int32) ∧ ¬ (99 : Int32) < purity) ∧ ((¬ size < (1 : Int32) ∧ ¬ (9 : Int32) < size) ∧ (¬ kilos < (1 : Int32) ∧ ¬ (500 : Int32) < kilos))))))) (lw_S q335 q336 q18 q337) myX1_requireArgument ⟨by decide, by decide⟩ rfl rfl (gle rfl) 4 9 (gle rfl) (gle rfl) (gle rfl) (gle rfl) dX1_lot_68 (gx_1 (fun c_16 => g_out0 F E (gle rfl) (gle rfl) (fun _ hp => ⟨(if_neg c_16), gPE_0 _ hp⟩))) (gv_c (fun c_16 => ?_))
    refine g_aload_n F 0 rfl rfl dX1_lot_71 ?_
    refine g_get F clX1 7 (by decide) q142 (v := .ref (A 306 0)) (gd_get (pr_at (κ := 0) (i := 0) (by decide) (gc1 (gnl rfl)) (gce rfl rfl)) rfl) dX1_lot_72 ?_
    refine g_callF F clJ3 (kJ3_size hl (pr_ls (M := 0) (S := S) (A := A) (κ := 6) (by decide) (Or.inl ⟨by decide, by decide⟩) (fun q => by first | decide | exact absurd q (by decide)) (fun q => by first | decide | exact absurd q (by decide)))) (g_recv F clJ3 (gls_obj (pr_ls (M := 0) (S := S) (A := A) (κ := 6) (by decide) (Or.inl ⟨by decide, by decide⟩) (fun q => by first | decide | exact absurd q (by decide)) (fun q => by first | decide | exact absurd q (by decide))))) q631 q634 q636 q22 q638 (List.mem_of_getElem? (i := 0) rfl) (gT_w q637 rfl) (gT_w q635 rfl) (gT_w q293 rfl) gface_0 ⟨by decide, by decide⟩ rfl rfl (gle rfl) 4 9 (gle rfl) (gle rfl) (gle rfl) (gle rfl) dX1_lot_75 gx_n (gv_i ?_)
    refine g_bipush F (v := (16 : Int32)) (by decide) dX1_lot_80 ?_
    have J_18 : gW (X, G, 6, Q) (gP 0 G S A Fr []) [(0, .ref (A 0 0)), (1, .int kind), (2, .int purity), (3, .int size), (4, .int kilos)] 90 [.int (gb (¬ ((16 : Int32) ≤ (nI (S.2 6)))))] 4 9 := by
      refine g_callS F (kX1_requireState hl (c := ¬ ((16 : Int32) ≤ (nI (S.2 6))))) (lw_S q406 q407 q18 q408) myX1_requireState ⟨by decide, by decide⟩ rfl rfl (gle rfl) 5 15 (gle rfl) (gle rfl) (gle rfl) (gle rfl) dX1_lot_90 (gx_1 (fun c_19 => g_out0 F E (gle rfl) (gle rfl) (fun _ hp => ⟨((if_pos c_16).trans (if_neg c_19)), gPE_0 _ hp⟩))) (gv_c (fun c_19 => ?_))
      refine g_aload_n F 0 rfl rfl dX1_lot_93 ?_
      refine g_get F clX1 7 (by decide) q142 (v := .ref (A 306 0)) (gd_get (pr_at (κ := 0) (i := 0) (by decide) (gc1 (gnl rfl)) (gce rfl rfl)) rfl) dX1_lot_94 ?_
      refine g_callF F clJ3 (kJ3_size hl (pr_ls (M := 0) (S := S) (A := A) (κ := 6) (by decide) (Or.inl ⟨by decide, by decide⟩) (fun q => by first | decide | exact absurd q (by decide)) (fun q => by first | decide | exact absurd q (by decide)))) (g_recv F clJ3 (gls_obj (pr_ls (M := 0) (S := S) (A := A) (κ := 6) (by decide) (Or.inl ⟨by decide, by decide⟩) (fun q => by first | decide | exact absurd q (by decide)) (fun q => by first | decide | exact absurd q (by decide))))) q631 q634 q636 q22 q638 (List.mem_of_getElem? (i := 0) rfl) (gT_w q637 rfl) (gT_w q635 rfl) (gT_w q293 rfl) gface_0 ⟨by decide, by decide⟩ rfl rfl (gle rfl) 5 15 (gle rfl) (gle rfl) (gle rfl) (gle rfl) dX1_lot_97 gx_n (gv_i ?_)
      refine g_istore F (by show 5 < 6; decide) (lv2 := [(5, .int (nI (S.2 6))), (0, .ref (A 0 0)), (1, .int kind), (2, .int purity), (3, .int size), (4, .int kilos)]) rfl dX1_lot_102 ?_
      refine g_aload_n F 1 rfl rfl dX1_lot_104 ?_
      refine g_get F clX1 7 (by decide) q142 (v := .ref (A 306 0)) (gd_get (pr_at (κ := 0) (i := 0) (by decide) (gc1 (gnl rfl)) (gce rfl rfl)) rfl) dX1_lot_105 ?_
      refine g_iload_n F 2 rfl rfl dX1_lot_108 ?_
      refine g_bipush F (v := (103 : Int32)) (by decide) dX1_lot_109 ?_
      refine g_icmp_ne F (tgt := 142) (by decide) dX1_lot_111 (fun c_20 => ?_) (fun c_20 => ?_)
      · skip
        refine g_new F clX7 q665 q666 q40 (5000, 0) (fs := [.int (0 : Int32), .int (0 : Int32), .int (0 : Int32), .int (0 : Int32)]) rfl 6 19 (gle rfl) (gle rfl) (gle rfl) (gle rfl) (Pa := fun a_21 => gP 0 G S A Fr [(a_21, .inr (4, [.int (0 : Int32), .int (0 : Int32), .int (0 : Int32), .int (0 : Int32)]))]) (pr_new hF) dX1_lot_142 (fun a_21 => ?_)
        refine g_dup F rfl dX1_lot_145 ?_
        refine g_iload F 0 rfl dX1_lot_146 ?_
        refine g_iconst F (v := (3 : Int32)) (by decide) dX1_lot_148 ?_
        refine g_newI F (5001, 0) (N := 3) rfl (by decide) 7 22 (gle rfl) (gle rfl) (gle rfl) (gle rfl) (Pa := fun a_22 => gP 0 G S A Fr [(a_21, .inr (4, [.int (0 : Int32), .int (0 : Int32), .int (0 : Int32), .int (0 : Int32)])), (a_22, gIA G 3 (fun _ => 0))]) (pr_new hF) dX1_lot_149 (fun a_22 => ?_)
        refine g_dup F rfl dX1_lot_151 ?_
        refine g_iconst F (v := (0 : Int32)) (by decide) dX1_lot_152 ?_
        refine g_iload_n F 3 rfl rfl dX1_lot_153 ?_
        refine g_iastN (P2 := gP 0 G S A Fr [(a_21, .inr (4, [.int (0 : Int32), .int (0 : Int32), .int (0 : Int32), .int (0 : Int32)])), (a_22, gIA G 3 (upd (fun _ => 0) 0 purity))]) F (m := 0) rfl (by decide) (by decide) (pr_setT gM0 hF (j := 1) rfl) dX1_lot_154 ?_
        refine g_dup F rfl dX1_lot_155 ?_
        refine g_iconst F (v := (1 : Int32)) (by decide) dX1_lot_156 ?_
        refine g_iload_n F 4 rfl rfl dX1_lot_157 ?_
        refine g_iastN (P2 := gP 0 G S A Fr [(a_21, .inr (4, [.int (0 : Int32), .int (0 : Int32), .int (0 : Int32), .int (0 : Int32)])), (a_22, gIA G 3 (upd (upd (fun _ => 0) 0 purity) 1 size))]) F (m := 1) rfl (by decide) (by decide) (pr_setT gM0 hF (j := 1) rfl) dX1_lot_158 ?_
        refine g_dup F rfl dX1_lot_159 ?_
        refine g_iconst F (v := (2 : Int32)) (by decide) dX1_lot_160 ?_
        refine g_iload F 5 rfl dX1_lot_161 ?_
        refine g_iastN (P2 := gP 0 G S A Fr [(a_21, .inr (4, [.int (0 : Int32), .int (0 : Int32), .int (0 : Int32), .int (0 : Int32)])), (a_22, gIA G 3 (upd (upd (upd (fun _ => 0) 0 purity) 1 size) 2 kilos))]) F (m := 2) rfl (by decide) (by decide) (pr_setT gM0 hF (j := 1) rfl) dX1_lot_163 ?_
        refine g_callI F (kX7_init hl (pr_atT (j := 0) rfl) (pr_atT (j := 1) rfl)) rfl q667 q668 q40 q669 myX7_init ⟨by decide, by decide⟩ rfl rfl (gle rfl) 7 22 (gle rfl) (gle rfl) (gle rfl) (gle rfl) dX1_lot_164 gx_n (gv_v ?_)
        refine g_mono (P2 := gP 0 G S A Fr [(a_21, .inr (4, [.int (nI (S.2 6)), .int purity, .int size, .int kilos])), (a_22, gIA G 3 (upd (upd (upd (fun _ => 0) 0 purity) 1 size) 2 kilos))]) (pr_up gM0 hF (j := 0) rfl) ?_
        refine g_mono (P2 := gP 0 G S A Fr [(a_21, .inr (4, [.int (nI (S.2 6)), .int purity, .int size, .int kilos]))]) (fun _ hp => gP_Tl 1 hp) ?_
        refine g_callF F clJ3 (kJ3_add hl (pr_ls (M := 0) (S := S) (A := A) (κ := 6) (by decide) (Or.inl ⟨by decide, by decide⟩) (fun q => by first | decide | exact absurd q (by decide)) (fun q => by first | decide | exact absurd q (by decide))) (Nat.le_trans (gw_64 hW _) (by decide)) (pr_elT (j := 0) rfl (Or.inl ⟨_, _, rfl, by decide, by decide⟩)) (pr_el (by decide) (by decide) (fun q => by first | decide | exact absurd q (by decide)) (fun q => by first | decide | exact absurd q (by decide)))) (g_recv F clJ3 (gls_obj (pr_ls (M := 0) (S := S) (A := A) (κ := 6) (by decide) (Or.inl ⟨by decide, by decide⟩) (fun q => by first | decide | exact absurd q (by decide)) (fun q => by first | decide | exact absurd q (by decide))))) q677 q680 q682 q22 q684 (List.mem_of_getElem? (i := 2) rfl) (gT_w q683 rfl) (gT_w q681 rfl) (gT_w q293 rfl) gface_2 ⟨by decide, by decide⟩ rfl rfl (gle rfl) 8 172 (gle rfl) (gle rfl) (gle rfl) (gle rfl) dX1_lot_167 gx_n (gv_i ?_)
        refine g_retag (P2 := gP 0 G (gsr S.1 6 (S.2 6) (gRw [kind, purity, size, kilos]), va_up S.2 6 (S.2 6 + 1)) (gAa A 6 (S.2 6) a_21) Fr []) (pr_add (T0 := []) (κ := 6) gM0 hF hW (by decide) (by decide) (by decide) (gRw [kind, purity, size, kilos]) (glot4 c_20)) ?_
        refine g_pop F rfl dX1_lot_172 ?_
        refine g_iload F 0 rfl dX1_lot_173 ?_
        exact g_retI F E rfl rfl (gle rfl) (gle rfl) dX1_lot_175 (fun _ hp => ⟨_, _, ((if_pos c_16).trans ((if_pos c_19).trans (if_neg c_20))), rfl, ⟨gAa A 6 (S.2 6) a_21, rfl, gP_T0 hp⟩⟩)
      · skip
        refine g_new F clX6 q639 q640 q39 (5000, 0) (fs := [.int (0 : Int32), .int (0 : Int32), .int (0 : Int32), .int (0 : Int32)]) rfl 6 19 (gle rfl) (gle rfl) (gle rfl) (gle rfl) (Pa := fun a_23 => gP 0 G S A Fr [(a_23, .inr (3, [.int (0 : Int32), .int (0 : Int32), .int (0 : Int32), .int (0 : Int32)]))]) (pr_new hF) dX1_lot_114 (fun a_23 => ?_)
        refine g_dup F rfl dX1_lot_117 ?_
        refine g_iload F 0 rfl dX1_lot_118 ?_
        refine g_iconst F (v := (3 : Int32)) (by decide) dX1_lot_120 ?_
        refine g_newI F (5001, 0) (N := 3) rfl (by decide) 7 22 (gle rfl) (gle rfl) (gle rfl) (gle rfl) (Pa := fun a_24 => gP 0 G S A Fr [(a_23, .inr (3, [.int (0 : Int32), .int (0 : Int32), .int (0 : Int32), .int (0 : Int32)])), (a_24, gIA G 3 (fun _ => 0))]) (pr_new hF) dX1_lot_121 (fun a_24 => ?_)
        refine g_dup F rfl dX1_lot_123 ?_
        refine g_iconst F (v := (0 : Int32)) (by decide) dX1_lot_124 ?_
        refine g_iload_n F 3 rfl rfl dX1_lot_125 ?_
        refine g_iastN (P2 := gP 0 G S A Fr [(a_23, .inr (3, [.int (0 : Int32), .int (0 : Int32), .int (0 : Int32), .int (0 : Int32)])), (a_24, gIA G 3 (upd (fun _ => 0) 0 purity))]) F (m := 0) rfl (by decide) (by decide) (pr_setT gM0 hF (j := 1) rfl) dX1_lot_126 ?_
        refine g_dup F rfl dX1_lot_127 ?_
        refine g_iconst F (v := (1 : Int32)) (by decide) dX1_lot_128 ?_
        refine g_iload_n F 4 rfl rfl dX1_lot_129 ?_
        refine g_iastN (P2 := gP 0 G S A Fr [(a_23, .inr (3, [.int (0 : Int32), .int (0 : Int32), .int (0 : Int32), .int (0 : Int32)])), (a_24, gIA G 3 (upd (upd (fun _ => 0) 0 purity) 1 size))]) F (m := 1) rfl (by decide) (by decide) (pr_setT gM0 hF (j := 1) rfl) dX1_lot_130 ?_
        refine g_dup F rfl dX1_lot_131 ?_
        refine g_iconst F (v := (2 : Int32)) (by decide) dX1_lot_132 ?_
        refine g_iload F 5 rfl dX1_lot_133 ?_
        refine g_iastN (P2 := gP 0 G S A Fr [(a_23, .inr (3, [.int (0 : Int32), .int (0 : Int32), .int (0 : Int32), .int (0 : Int32)])), (a_24, gIA G 3 (upd (upd (upd (fun _ => 0) 0 purity) 1 size) 2 kilos))]) F (m := 2) rfl (by decide) (by decide) (pr_setT gM0 hF (j := 1) rfl) dX1_lot_135 ?_
        refine g_callI F (kX6_init hl (pr_atT (j := 0) rfl) (pr_atT (j := 1) rfl)) rfl q641 q642 q39 q643 myX6_init ⟨by decide, by decide⟩ rfl rfl (gle rfl) 7 22 (gle rfl) (gle rfl) (gle rfl) (gle rfl) dX1_lot_136 gx_n (gv_v ?_)
        refine g_mono (P2 := gP 0 G S A Fr [(a_23, .inr (3, [.int (nI (S.2 6)), .int purity, .int size, .int kilos])), (a_24, gIA G 3 (upd (upd (upd (fun _ => 0) 0 purity) 1 size) 2 kilos))]) (pr_up gM0 hF (j := 0) rfl) ?_
        refine g_mono (P2 := gP 0 G S A Fr [(a_23, .inr (3, [.int (nI (S.2 6)), .int purity, .int size, .int kilos]))]) (fun _ hp => gP_Tl 1 hp) ?_
        refine g_goto F (tgt := 167) (by decide) dX1_lot_139 ?_
        refine g_callF F clJ3 (kJ3_add hl (pr_ls (M := 0) (S := S) (A := A) (κ := 6) (by decide) (Or.inl ⟨by decide, by decide⟩) (fun q => by first | decide | exact absurd q (by decide)) (fun q => by first | decide | exact absurd q (by decide))) (Nat.le_trans (gw_64 hW _) (by decide)) (pr_elT (j := 0) rfl (Or.inl ⟨_, _, rfl, by decide, by decide⟩)) (pr_el (by decide) (by decide) (fun q => by first | decide | exact absurd q (by decide)) (fun q => by first | decide | exact absurd q (by decide)))) (g_recv F clJ3 (gls_obj (pr_ls (M := 0) (S := S) (A := A) (κ := 6) (by decide) (Or.inl ⟨by decide, by decide⟩) (fun q => by first | decide | exact absurd q (by decide)) (fun q => by first | decide | exact absurd q (by decide))))) q677 q680 q682 q22 q684 (List.mem_of_getElem? (i := 2) rfl) (gT_w q683 rfl) (gT_w q681 rfl) (gT_w q293 rfl) gface_2 ⟨by decide, by decide⟩ rfl rfl (gle rfl) 8 172 (gle rfl) (gle rfl) (gle rfl) (gle rfl) dX1_lot_167 gx_n (gv_i ?_)
        refine g_retag (P2 := gP 0 G (gsr S.1 6 (S.2 6) (gRw [kind, purity, size, kilos]), va_up S.2 6 (S.2 6 + 1)) (gAa A 6 (S.2 6) a_23) Fr []) (pr_add (T0 := []) (κ := 6) gM0 hF hW (by decide) (by decide) (by decide) (gRw [kind, purity, size, kilos]) (glot3 c_20)) ?_
        refine g_pop F rfl dX1_lot_172 ?_
        refine g_iload F 0 rfl dX1_lot_173 ?_
        exact g_retI F E rfl rfl (gle rfl) (gle rfl) dX1_lot_175 (fun _ hp => ⟨_, _, ((if_pos c_16).trans ((if_pos c_19).trans (if_pos c_20))), rfl, ⟨gAa A 6 (S.2 6) a_23, rfl, gP_T0 hp⟩⟩)
    refine g_icmp_ge F (tgt := 89) (by decide) dX1_lot_82 (fun c_17 => ?_) (fun c_17 => ?_)
    · skip
      refine g_iconst F (v := (0 : Int32)) (by decide) dX1_lot_89 ?_
      exact g_top (gb_f (fun q => q c_17)) J_18
    · skip
      refine g_iconst F (v := (1 : Int32)) (by decide) dX1_lot_85 ?_
      refine g_goto F (tgt := 90) (by decide) dX1_lot_86 ?_
      exact g_top (gb_t c_17) J_18
  refine g_icmp_eq F (tgt := 12) (by decide) dX1_lot_3 (fun c_1 => ?_) (fun c_1 => ?_)
  · skip
    refine g_bipush F (v := (50 : Int32)) (by decide) dX1_lot_12 ?_
    refine g_bipush F (v := (99 : Int32)) (by decide) dX1_lot_14 ?_
    refine g_iconst F (v := (1 : Int32)) (by decide) dX1_lot_16 ?_
    refine g_newI F (5000, 0) (N := 1) rfl (by decide) 1 1 (gle rfl) (gle rfl) (gle rfl) (gle rfl) (Pa := fun a_2 => gP 0 G S A Fr [(a_2, gIA G 1 (fun _ => 0))]) (pr_new hF) dX1_lot_17 (fun a_2 => ?_)
    refine g_dup F rfl dX1_lot_19 ?_
    refine g_iconst F (v := (0 : Int32)) (by decide) dX1_lot_20 ?_
    refine g_iload_n F 2 rfl rfl dX1_lot_21 ?_
    refine g_iastN (P2 := gP 0 G S A Fr [(a_2, gIA G 1 (upd (fun _ => 0) 0 purity))]) F (m := 0) rfl (by decide) (by decide) (pr_setT gM0 hF (j := 0) rfl) dX1_lot_22 ?_
    refine g_callS F (kX1_isIn hl (pr_atT (j := 0) rfl)) (lw_S q305 q306 q18 q307) myX1_isIn ⟨by decide, by decide⟩ rfl rfl (gle rfl) 1 1 (gle rfl) (gle rfl) (gle rfl) (gle rfl) dX1_lot_23 gx_n (gv_i ?_)
    refine g_top (show _ = gb (¬ purity < (50 : Int32) ∧ ¬ (99 : Int32) < purity) from rfl) ?_
    refine g_mono (P2 := gP 0 G S A Fr []) (fun _ hp => gP_Tl 0 hp) ?_
    refine gb_if_eq F (tgt := 67) (by decide) dX1_lot_26 (fun c_3 => ?_) (fun c_3 => ?_)
    · skip
      refine g_iconst F (v := (0 : Int32)) (by decide) dX1_lot_67 ?_
      exact g_widen (by decide) (by decide) <| g_top (gb_f (fun q => q.elim (fun z => (fun q => c_3 q.1) z.2) (fun z => z.1 c_1))) J_15
    · skip
      refine g_iconst F (v := (1 : Int32)) (by decide) dX1_lot_29 ?_
      refine g_bipush F (v := (9 : Int32)) (by decide) dX1_lot_30 ?_
      refine g_iconst F (v := (1 : Int32)) (by decide) dX1_lot_32 ?_
      refine g_newI F (5000, 0) (N := 1) rfl (by decide) 2 2 (gle rfl) (gle rfl) (gle rfl) (gle rfl) (Pa := fun a_4 => gP 0 G S A Fr [(a_4, gIA G 1 (fun _ => 0))]) (pr_new hF) dX1_lot_33 (fun a_4 => ?_)
      refine g_dup F rfl dX1_lot_35 ?_
      refine g_iconst F (v := (0 : Int32)) (by decide) dX1_lot_36 ?_
      refine g_iload_n F 3 rfl rfl dX1_lot_37 ?_
      refine g_iastN (P2 := gP 0 G S A Fr [(a_4, gIA G 1 (upd (fun _ => 0) 0 size))]) F (m := 0) rfl (by decide) (by decide) (pr_setT gM0 hF (j := 0) rfl) dX1_lot_38 ?_
      refine g_callS F (kX1_isIn hl (pr_atT (j := 0) rfl)) (lw_S q305 q306 q18 q307) myX1_isIn ⟨by decide, by decide⟩ rfl rfl (gle rfl) 2 2 (gle rfl) (gle rfl) (gle rfl) (gle rfl) dX1_lot_39 gx_n (gv_i ?_)
      refine g_top (show _ = gb (¬ size < (1 : Int32) ∧ ¬ (9 : Int32) < size) from rfl) ?_
      refine g_mono (P2 := gP 0 G S A Fr []) (fun _ hp => gP_Tl 0 hp) ?_
      refine gb_if_eq F (tgt := 67) (by decide) dX1_lot_42 (fun c_5 => ?_) (fun c_5 => ?_)
      · skip
        refine g_iconst F (v := (0 : Int32)) (by decide) dX1_lot_67 ?_
        exact g_widen (by decide) (by decide) <| g_top (gb_f (fun q => q.elim (fun z => (fun q => (fun q => c_5 q.1) q.2) z.2) (fun z => z.1 c_1))) J_15
      · skip
        refine g_iconst F (v := (1 : Int32)) (by decide) dX1_lot_45 ?_
        refine g_sipush F (v := (500 : Int32)) (by decide) dX1_lot_46 ?_
        refine g_iconst F (v := (1 : Int32)) (by decide) dX1_lot_49 ?_
        refine g_newI F (5000, 0) (N := 1) rfl (by decide) 3 3 (gle rfl) (gle rfl) (gle rfl) (gle rfl) (Pa := fun a_6 => gP 0 G S A Fr [(a_6, gIA G 1 (fun _ => 0))]) (pr_new hF) dX1_lot_50 (fun a_6 => ?_)
        refine g_dup F rfl dX1_lot_52 ?_
        refine g_iconst F (v := (0 : Int32)) (by decide) dX1_lot_53 ?_
        refine g_iload F 4 rfl dX1_lot_54 ?_
        refine g_iastN (P2 := gP 0 G S A Fr [(a_6, gIA G 1 (upd (fun _ => 0) 0 kilos))]) F (m := 0) rfl (by decide) (by decide) (pr_setT gM0 hF (j := 0) rfl) dX1_lot_56 ?_
        refine g_callS F (kX1_isIn hl (pr_atT (j := 0) rfl)) (lw_S q305 q306 q18 q307) myX1_isIn ⟨by decide, by decide⟩ rfl rfl (gle rfl) 3 3 (gle rfl) (gle rfl) (gle rfl) (gle rfl) dX1_lot_57 gx_n (gv_i ?_)
        refine g_top (show _ = gb (¬ kilos < (1 : Int32) ∧ ¬ (500 : Int32) < kilos) from rfl) ?_
        refine g_mono (P2 := gP 0 G S A Fr []) (fun _ hp => gP_Tl 0 hp) ?_
        refine gb_if_eq F (tgt := 67) (by decide) dX1_lot_60 (fun c_7 => ?_) (fun c_7 => ?_)
        · skip
          refine g_iconst F (v := (0 : Int32)) (by decide) dX1_lot_67 ?_
          exact g_top (gb_f (fun q => q.elim (fun z => (fun q => (fun q => c_7 q.2) q.2) z.2) (fun z => z.1 c_1))) J_15
        · skip
          refine g_iconst F (v := (1 : Int32)) (by decide) dX1_lot_63 ?_
          refine g_goto F (tgt := 68) (by decide) dX1_lot_64 ?_
          exact g_top (gb_t (Or.inl ⟨c_1, ⟨c_3, ⟨c_5, c_7⟩⟩⟩)) J_15
  · skip
    refine g_iload_n F 1 rfl rfl dX1_lot_6 ?_
    refine g_bipush F (v := (99 : Int32)) (by decide) dX1_lot_7 ?_
    refine g_icmp_ne F (tgt := 67) (by decide) dX1_lot_9 (fun c_8 => ?_) (fun c_8 => ?_)
    · skip
      refine g_iconst F (v := (0 : Int32)) (by decide) dX1_lot_67 ?_
      exact g_widen (by decide) (by decide) <| g_top (gb_f (fun q => q.elim (fun z => c_1 z.1) (fun z => (fun q => c_8 q.1) z.2))) J_15
    · skip
      refine g_bipush F (v := (50 : Int32)) (by decide) dX1_lot_12 ?_
      refine g_bipush F (v := (99 : Int32)) (by decide) dX1_lot_14 ?_
      refine g_iconst F (v := (1 : Int32)) (by decide) dX1_lot_16 ?_
      refine g_newI F (5000, 0) (N := 1) rfl (by decide) 1 1 (gle rfl) (gle rfl) (gle rfl) (gle rfl) (Pa := fun a_9 => gP 0 G S A Fr [(a_9, gIA G 1 (fun _ => 0))]) (pr_new hF) dX1_lot_17 (fun a_9 => ?_)
      refine g_dup F rfl dX1_lot_19 ?_
      refine g_iconst F (v := (0 : Int32)) (by decide) dX1_lot_20 ?_
      refine g_iload_n F 2 rfl rfl dX1_lot_21 ?_
      refine g_iastN (P2 := gP 0 G S A Fr [(a_9, gIA G 1 (upd (fun _ => 0) 0 purity))]) F (m := 0) rfl (by decide) (by decide) (pr_setT gM0 hF (j := 0) rfl) dX1_lot_22 ?_
      refine g_callS F (kX1_isIn hl (pr_atT (j := 0) rfl)) (lw_S q305 q306 q18 q307) myX1_isIn ⟨by decide, by decide⟩ rfl rfl (gle rfl) 1 1 (gle rfl) (gle rfl) (gle rfl) (gle rfl) dX1_lot_23 gx_n (gv_i ?_)
      refine g_top (show _ = gb (¬ purity < (50 : Int32) ∧ ¬ (99 : Int32) < purity) from rfl) ?_
      refine g_mono (P2 := gP 0 G S A Fr []) (fun _ hp => gP_Tl 0 hp) ?_
      refine gb_if_eq F (tgt := 67) (by decide) dX1_lot_26 (fun c_10 => ?_) (fun c_10 => ?_)
      · skip
        refine g_iconst F (v := (0 : Int32)) (by decide) dX1_lot_67 ?_
        exact g_widen (by decide) (by decide) <| g_top (gb_f (fun q => q.elim (fun z => c_1 z.1) (fun z => (fun q => (fun q => c_10 q.1) q.2) z.2))) J_15
      · skip
        refine g_iconst F (v := (1 : Int32)) (by decide) dX1_lot_29 ?_
        refine g_bipush F (v := (9 : Int32)) (by decide) dX1_lot_30 ?_
        refine g_iconst F (v := (1 : Int32)) (by decide) dX1_lot_32 ?_
        refine g_newI F (5000, 0) (N := 1) rfl (by decide) 2 2 (gle rfl) (gle rfl) (gle rfl) (gle rfl) (Pa := fun a_11 => gP 0 G S A Fr [(a_11, gIA G 1 (fun _ => 0))]) (pr_new hF) dX1_lot_33 (fun a_11 => ?_)
        refine g_dup F rfl dX1_lot_35 ?_
        refine g_iconst F (v := (0 : Int32)) (by decide) dX1_lot_36 ?_
        refine g_iload_n F 3 rfl rfl dX1_lot_37 ?_
        refine g_iastN (P2 := gP 0 G S A Fr [(a_11, gIA G 1 (upd (fun _ => 0) 0 size))]) F (m := 0) rfl (by decide) (by decide) (pr_setT gM0 hF (j := 0) rfl) dX1_lot_38 ?_
        refine g_callS F (kX1_isIn hl (pr_atT (j := 0) rfl)) (lw_S q305 q306 q18 q307) myX1_isIn ⟨by decide, by decide⟩ rfl rfl (gle rfl) 2 2 (gle rfl) (gle rfl) (gle rfl) (gle rfl) dX1_lot_39 gx_n (gv_i ?_)
        refine g_top (show _ = gb (¬ size < (1 : Int32) ∧ ¬ (9 : Int32) < size) from rfl) ?_
        refine g_mono (P2 := gP 0 G S A Fr []) (fun _ hp => gP_Tl 0 hp) ?_
        refine gb_if_eq F (tgt := 67) (by decide) dX1_lot_42 (fun c_12 => ?_) (fun c_12 => ?_)
        · skip
          refine g_iconst F (v := (0 : Int32)) (by decide) dX1_lot_67 ?_
          exact g_widen (by decide) (by decide) <| g_top (gb_f (fun q => q.elim (fun z => c_1 z.1) (fun z => (fun q => (fun q => (fun q => c_12 q.1) q.2) q.2) z.2))) J_15
        · skip
          refine g_iconst F (v := (1 : Int32)) (by decide) dX1_lot_45 ?_
          refine g_sipush F (v := (500 : Int32)) (by decide) dX1_lot_46 ?_
          refine g_iconst F (v := (1 : Int32)) (by decide) dX1_lot_49 ?_
          refine g_newI F (5000, 0) (N := 1) rfl (by decide) 3 3 (gle rfl) (gle rfl) (gle rfl) (gle rfl) (Pa := fun a_13 => gP 0 G S A Fr [(a_13, gIA G 1 (fun _ => 0))]) (pr_new hF) dX1_lot_50 (fun a_13 => ?_)
          refine g_dup F rfl dX1_lot_52 ?_
          refine g_iconst F (v := (0 : Int32)) (by decide) dX1_lot_53 ?_
          refine g_iload F 4 rfl dX1_lot_54 ?_
          refine g_iastN (P2 := gP 0 G S A Fr [(a_13, gIA G 1 (upd (fun _ => 0) 0 kilos))]) F (m := 0) rfl (by decide) (by decide) (pr_setT gM0 hF (j := 0) rfl) dX1_lot_56 ?_
          refine g_callS F (kX1_isIn hl (pr_atT (j := 0) rfl)) (lw_S q305 q306 q18 q307) myX1_isIn ⟨by decide, by decide⟩ rfl rfl (gle rfl) 3 3 (gle rfl) (gle rfl) (gle rfl) (gle rfl) dX1_lot_57 gx_n (gv_i ?_)
          refine g_top (show _ = gb (¬ kilos < (1 : Int32) ∧ ¬ (500 : Int32) < kilos) from rfl) ?_
          refine g_mono (P2 := gP 0 G S A Fr []) (fun _ hp => gP_Tl 0 hp) ?_
          refine gb_if_eq F (tgt := 67) (by decide) dX1_lot_60 (fun c_14 => ?_) (fun c_14 => ?_)
          · skip
            refine g_iconst F (v := (0 : Int32)) (by decide) dX1_lot_67 ?_
            exact g_top (gb_f (fun q => q.elim (fun z => c_1 z.1) (fun z => (fun q => (fun q => (fun q => c_14 q.2) q.2) q.2) z.2))) J_15
          · skip
            refine g_iconst F (v := (1 : Int32)) (by decide) dX1_lot_63 ?_
            refine g_goto F (tgt := 68) (by decide) dX1_lot_64 ?_
            exact g_top (gb_t (Or.inr ⟨c_1, ⟨c_8, ⟨c_10, ⟨c_12, c_14⟩⟩⟩⟩)) J_15

def sC_mix (S : gS) (graphite clay kilos more days : Int32) : gO := if gIn graphite (S.2 6) then (if S.1 6 graphite.toNatClampNeg 0 = (103 : Int32) then (if gIn clay (S.2 6) then (if S.1 6 clay.toNatClampNeg 0 = (103 : Int32) then (if ¬ (kilos < (1 : Int32)) ∧ (¬ (more < (1 : Int32)) ∧ (¬ days < (1 : Int32) ∧ ¬ (9 : Int32) < days)) then (.inl "java/lang/UnsupportedOperationException") else (.inl "java/lang/IllegalArgumentException")) else (if ¬ (kilos < (1 : Int32)) ∧ (¬ (more < (1 : Int32)) ∧ (¬ days < (1 : Int32) ∧ ¬ (9 : Int32) < days)) then (if ¬ ((S.1 6 graphite.toNatClampNeg 3) < kilos) ∧ (¬ ((S.1 6 clay.toNatClampNeg 3) < more) ∧ (gGoes S 0)) then (if ¬ ((12 : Int32) ≤ (nI (S.2 7))) then (.inr (.int (nI (S.2 7)), (gsr (gsr (gsr S.1 6 graphite.toNatClampNeg (upd (S.1 6 graphite.toNatClampNeg) 3 ((S.1 6 graphite.toNatClampNeg 3) - kilos))) 6 clay.toNatClampNeg (upd (S.1 6 clay.toNatClampNeg) 3 ((S.1 6 clay.toNatClampNeg 3) - more))) 7 (S.2 7) (gRw [graphite, clay, 10 * kilos * (S.1 6 graphite.toNatClampNeg 1) / (kilos + more), gmax 0 (gmin 9 (days + 9 - (S.1 6 graphite.toNatClampNeg 2) - (S.1 6 clay.toNatClampNeg 2) / 3)), kilos + more]), va_up S.2 7 (S.2 7 + 1)))) else (.inl "java/lang/IllegalStateException")) else (.inl "java/lang/UnsupportedOperationException")) else (.inl "java/lang/IllegalArgumentException"))) else (.inl "java/lang/IndexOutOfBoundsException")) else (if gIn clay (S.2 6) then (if S.1 6 clay.toNatClampNeg 0 = (103 : Int32) then (if ¬ (kilos < (1 : Int32)) ∧ (¬ (more < (1 : Int32)) ∧ (¬ days < (1 : Int32) ∧ ¬ (9 : Int32) < days)) then (.inl "java/lang/UnsupportedOperationException") else (.inl "java/lang/IllegalArgumentException")) else (if ¬ (kilos < (1 : Int32)) ∧ (¬ (more < (1 : Int32)) ∧ (¬ days < (1 : Int32) ∧ ¬ (9 : Int32) < days)) then (.inl "java/lang/UnsupportedOperationException") else (.inl "java/lang/IllegalArgumentException"))) else (.inl "java/lang/IndexOutOfBoundsException"))) else (.inl "java/lang/IndexOutOfBoundsException")
theorem kX1_mix {l : Launch} {G : gG} (hl : l.stackTraces = false) {S : gS} {a0 : Nat} {Fr : gH → Prop} (hF : gFr 0 Fr) (hW : gWf S) {graphite clay kilos more days : Int32} (hL : ∀ i, i < S.2 6 → ¬ (500 : Int32) < S.1 6 i 3) : gMet l yX1_mix (ws_ yX1_mix cX1_mix 9 (some .int)) ⟨11, 24, 247, 731⟩ G [.ref a0, .int graphite, .int clay, .int kilos, .int more, .int days] (gPE 0 G S a0 Fr) (gqS (sC_mix S graphite clay kilos more days) 0 G a0 Fr) (gxS (sC_mix S graphite clay kilos more days) 0 G S a0 Fr) := by
  refine gMet_of hl pnX1 (gle rfl) (fun X Q hX F E hNm => ?_)
  subst hX
  change gW (X, G, 9, Q) (gPE 0 G S a0 Fr) [(0, .ref a0), (1, .int graphite), (2, .int clay), (3, .int kilos), (4, .int more), (5, .int days)] 0 [] 0 0
  refine g_pe (fun A hA => ?_)
  subst hA
  change gW _ _ [(0, .ref (A 0 0)), (1, .int graphite), (2, .int clay), (3, .int kilos), (4, .int more), (5, .int days)] 0 [] 0 0
  refine g_aload_n F 0 rfl rfl dX1_mix_0 ?_
  refine g_get F clX1 7 (by decide) q142 (v := .ref (A 306 0)) (gd_get (pr_at (κ := 0) (i := 0) (by decide) (gc1 (gnl rfl)) (gce rfl rfl)) rfl) dX1_mix_1 ?_
  refine g_iload_n F 1 rfl rfl dX1_mix_4 ?_
  refine g_callS F (kX1_require hl (pr_ls (M := 0) (S := S) (A := A) (κ := 6) (by decide) (Or.inl ⟨by decide, by decide⟩) (fun q => by first | decide | exact absurd q (by decide)) (fun q => by first | decide | exact absurd q (by decide))) (gw_n hW _) (x := graphite)) (lw_S q784 q785 q18 q786) myX1_require ⟨by decide, by decide⟩ rfl rfl (gle rfl) 1 6 (gle rfl) (gle rfl) (gle rfl) (gle rfl) dX1_mix_5 (gx_1 (fun c_1 => g_out0 F E (gle rfl) (gle rfl) (fun _ hp => ⟨(if_neg c_1), gPE_0 _ hp⟩))) (gv_y (fun c_1 => ?_))
  refine g_cases (x := S.1 6 graphite.toNatClampNeg 0) (103 : Int32) (fun w_2 => ?_) (fun w_2 => ?_)
  · skip
    refine g_cast F (g_recv F clX6 (gd_obj (pr_at (κ := 6) (i := graphite.toNatClampNeg) (by decide) (gc6 (by decide) c_1.2) (gce rfl (glot3 w_2))))) q822 (gT_w q1855 rfl) dX1_mix_8 ?_
    refine g_astore F (by show 6 < 9; decide) (lv2 := [(6, .ref (A 6 graphite.toNatClampNeg)), (0, .ref (A 0 0)), (1, .int graphite), (2, .int clay), (3, .int kilos), (4, .int more), (5, .int days)]) rfl dX1_mix_11 ?_
    refine g_aload_n F 1 rfl rfl dX1_mix_13 ?_
    refine g_get F clX1 7 (by decide) q142 (v := .ref (A 306 0)) (gd_get (pr_at (κ := 0) (i := 0) (by decide) (gc1 (gnl rfl)) (gce rfl rfl)) rfl) dX1_mix_14 ?_
    refine g_iload_n F 3 rfl rfl dX1_mix_17 ?_
    refine g_callS F (kX1_require hl (pr_ls (M := 0) (S := S) (A := A) (κ := 6) (by decide) (Or.inl ⟨by decide, by decide⟩) (fun q => by first | decide | exact absurd q (by decide)) (fun q => by first | decide | exact absurd q (by decide))) (gw_n hW _) (x := clay)) (lw_S q784 q785 q18 q786) myX1_require ⟨by decide, by decide⟩ rfl rfl (gle rfl) 2 12 (gle rfl) (gle rfl) (gle rfl) (gle rfl) dX1_mix_18 (gx_1 (fun c_3 => g_out0 F E (gle rfl) (gle rfl) (fun _ hp => ⟨((if_pos c_1).trans ((if_pos w_2).trans (if_neg c_3))), gPE_0 _ hp⟩))) (gv_y (fun c_3 => ?_))
    refine g_cases (x := S.1 6 clay.toNatClampNeg 0) (103 : Int32) (fun w_4 => ?_) (fun w_4 => ?_)
    · skip
      refine g_cast F (g_recv F clX6 (gd_obj (pr_at (κ := 6) (i := clay.toNatClampNeg) (by decide) (gc6 (by decide) c_3.2) (gce rfl (glot3 w_4))))) q822 (gT_w q1855 rfl) dX1_mix_21 ?_
      refine g_astore F (by show 7 < 9; decide) (lv2 := [(7, .ref (A 6 clay.toNatClampNeg)), (6, .ref (A 6 graphite.toNatClampNeg)), (0, .ref (A 0 0)), (1, .int graphite), (2, .int clay), (3, .int kilos), (4, .int more), (5, .int days)]) rfl dX1_mix_24 ?_
      refine g_iload_n F 5 rfl rfl dX1_mix_26 ?_
      refine g_iconst F (v := (1 : Int32)) (by decide) dX1_mix_27 ?_
      have J_9 : gW (X, G, 9, Q) (gP 0 G S A Fr []) [(7, .ref (A 6 clay.toNatClampNeg)), (6, .ref (A 6 graphite.toNatClampNeg)), (0, .ref (A 0 0)), (1, .int graphite), (2, .int clay), (3, .int kilos), (4, .int more), (5, .int days)] 59 [.int (gb (¬ (kilos < (1 : Int32)) ∧ (¬ (more < (1 : Int32)) ∧ (¬ days < (1 : Int32) ∧ ¬ (9 : Int32) < days))))] 3 13 := by
        refine g_callS F (kX1_requireArgument hl (c := ¬ (kilos < (1 : Int32)) ∧ (¬ (more < (1 : Int32)) ∧ (¬ days < (1 : Int32) ∧ ¬ (9 : Int32) < days)))) (lw_S q335 q336 q18 q337) myX1_requireArgument ⟨by decide, by decide⟩ rfl rfl (gle rfl) 4 19 (gle rfl) (gle rfl) (gle rfl) (gle rfl) dX1_mix_59 (gx_1 (fun c_10 => g_out0 F E (gle rfl) (gle rfl) (fun _ hp => ⟨((if_pos c_1).trans ((if_pos w_2).trans ((if_pos c_3).trans ((if_pos w_4).trans (if_neg c_10))))), gPE_0 _ hp⟩))) (gv_c (fun c_10 => ?_))
        refine g_aload F 1 rfl dX1_mix_62 ?_
        refine g_instS F (g_recv F clX6 (gd_obj (pr_at (κ := 6) (i := graphite.toNatClampNeg) (by decide) (gc6 (by decide) c_1.2) (gce rfl (glot3 w_2))))) q639 dX1_mix_64 ?_
        refine g_if_eq F (tgt := 82) (by decide) dX1_mix_67 (fun c => absurd c (by decide)) (fun _ => ?_)
        refine g_aload F 0 rfl dX1_mix_70 ?_
        refine g_instNo F (g_recv F clX6 (gd_obj (pr_at (κ := 6) (i := clay.toNatClampNeg) (by decide) (gc6 (by decide) c_3.2) (gce rfl (glot3 w_4))))) q665 (by decide) dX1_mix_72 ?_
        refine g_if_eq F (tgt := 82) (by decide) dX1_mix_75 (fun _ => ?_) (fun c => absurd c (by decide))
        refine g_iconst F (v := (0 : Int32)) (by decide) dX1_mix_82 ?_
        refine g_istore F (by show 8 < 9; decide) (lv2 := [(8, .int (0 : Int32)), (7, .ref (A 6 clay.toNatClampNeg)), (6, .ref (A 6 graphite.toNatClampNeg)), (0, .ref (A 0 0)), (1, .int graphite), (2, .int clay), (3, .int kilos), (4, .int more), (5, .int days)]) rfl dX1_mix_83 ?_
        refine g_iload F 0 rfl dX1_mix_85 ?_
        refine g_if_eq F (tgt := 122) (by decide) dX1_mix_87 (fun _ => ?_) (fun c => absurd c (by decide))
        refine g_iconst F (v := (0 : Int32)) (by decide) dX1_mix_122 ?_
        refine g_top (show (0 : Int32) = gb False from rfl) ?_
        refine g_callS F (kX1_requireSupported hl (c := False)) (lw_S q512 q513 q18 q514) myX1_requireSupported ⟨by decide, by decide⟩ rfl rfl (gle rfl) 5 25 (gle rfl) (gle rfl) (gle rfl) (gle rfl) dX1_mix_123 (gx_1 (fun c_11 => g_out0 F E (gle rfl) (gle rfl) (fun _ hp => ⟨((if_pos c_1).trans ((if_pos w_2).trans ((if_pos c_3).trans ((if_pos w_4).trans (if_pos c_10))))), gPE_0 _ hp⟩))) (gv_c (fun c_11 => c_11.elim))
      refine g_icmp_lt F (tgt := 58) (by decide) dX1_mix_28 (fun c_5 => ?_) (fun c_5 => ?_)
      · skip
        refine g_iconst F (v := (0 : Int32)) (by decide) dX1_mix_58 ?_
        exact g_widen (by decide) (by decide) <| g_top (gb_f (fun q => q.1 c_5)) J_9
      · skip
        refine g_iload F 6 rfl dX1_mix_31 ?_
        refine g_iconst F (v := (1 : Int32)) (by decide) dX1_mix_33 ?_
        refine g_icmp_lt F (tgt := 58) (by decide) dX1_mix_34 (fun c_6 => ?_) (fun c_6 => ?_)
        · skip
          refine g_iconst F (v := (0 : Int32)) (by decide) dX1_mix_58 ?_
          exact g_widen (by decide) (by decide) <| g_top (gb_f (fun q => (fun q => q.1 c_6) q.2)) J_9
        · skip
          refine g_iconst F (v := (1 : Int32)) (by decide) dX1_mix_37 ?_
          refine g_bipush F (v := (9 : Int32)) (by decide) dX1_mix_38 ?_
          refine g_iconst F (v := (1 : Int32)) (by decide) dX1_mix_40 ?_
          refine g_newI F (5000, 0) (N := 1) rfl (by decide) 3 13 (gle rfl) (gle rfl) (gle rfl) (gle rfl) (Pa := fun a_7 => gP 0 G S A Fr [(a_7, gIA G 1 (fun _ => 0))]) (pr_new hF) dX1_mix_41 (fun a_7 => ?_)
          refine g_dup F rfl dX1_mix_43 ?_
          refine g_iconst F (v := (0 : Int32)) (by decide) dX1_mix_44 ?_
          refine g_iload F 7 rfl dX1_mix_45 ?_
          refine g_iastN (P2 := gP 0 G S A Fr [(a_7, gIA G 1 (upd (fun _ => 0) 0 days))]) F (m := 0) rfl (by decide) (by decide) (pr_setT gM0 hF (j := 0) rfl) dX1_mix_47 ?_
          refine g_callS F (kX1_isIn hl (pr_atT (j := 0) rfl)) (lw_S q305 q306 q18 q307) myX1_isIn ⟨by decide, by decide⟩ rfl rfl (gle rfl) 3 13 (gle rfl) (gle rfl) (gle rfl) (gle rfl) dX1_mix_48 gx_n (gv_i ?_)
          refine g_top (show _ = gb (¬ days < (1 : Int32) ∧ ¬ (9 : Int32) < days) from rfl) ?_
          refine g_mono (P2 := gP 0 G S A Fr []) (fun _ hp => gP_Tl 0 hp) ?_
          refine gb_if_eq F (tgt := 58) (by decide) dX1_mix_51 (fun c_8 => ?_) (fun c_8 => ?_)
          · skip
            refine g_iconst F (v := (0 : Int32)) (by decide) dX1_mix_58 ?_
            exact g_top (gb_f (fun q => (fun q => c_8 q.2) q.2)) J_9
          · skip
            refine g_iconst F (v := (1 : Int32)) (by decide) dX1_mix_54 ?_
            refine g_goto F (tgt := 59) (by decide) dX1_mix_55 ?_
            exact g_top (gb_t (⟨c_5, ⟨c_6, c_8⟩⟩)) J_9
    · skip
      refine g_cast F (g_recv F clX7 (gd_obj (pr_at (κ := 6) (i := clay.toNatClampNeg) (by decide) (gc6 (by decide) c_3.2) (gce rfl (glot4 w_4))))) q822 (gT_w q1854 rfl) dX1_mix_21 ?_
      refine g_astore F (by show 7 < 9; decide) (lv2 := [(7, .ref (A 6 clay.toNatClampNeg)), (6, .ref (A 6 graphite.toNatClampNeg)), (0, .ref (A 0 0)), (1, .int graphite), (2, .int clay), (3, .int kilos), (4, .int more), (5, .int days)]) rfl dX1_mix_24 ?_
      refine g_iload_n F 5 rfl rfl dX1_mix_26 ?_
      refine g_iconst F (v := (1 : Int32)) (by decide) dX1_mix_27 ?_
      have J_16 : gW (X, G, 9, Q) (gP 0 G S A Fr []) [(7, .ref (A 6 clay.toNatClampNeg)), (6, .ref (A 6 graphite.toNatClampNeg)), (0, .ref (A 0 0)), (1, .int graphite), (2, .int clay), (3, .int kilos), (4, .int more), (5, .int days)] 59 [.int (gb (¬ (kilos < (1 : Int32)) ∧ (¬ (more < (1 : Int32)) ∧ (¬ days < (1 : Int32) ∧ ¬ (9 : Int32) < days))))] 3 13 := by
        refine g_callS F (kX1_requireArgument hl (c := ¬ (kilos < (1 : Int32)) ∧ (¬ (more < (1 : Int32)) ∧ (¬ days < (1 : Int32) ∧ ¬ (9 : Int32) < days)))) (lw_S q335 q336 q18 q337) myX1_requireArgument ⟨by decide, by decide⟩ rfl rfl (gle rfl) 4 19 (gle rfl) (gle rfl) (gle rfl) (gle rfl) dX1_mix_59 (gx_1 (fun c_17 => g_out0 F E (gle rfl) (gle rfl) (fun _ hp => ⟨((if_pos c_1).trans ((if_pos w_2).trans ((if_pos c_3).trans ((if_neg w_4).trans (if_neg c_17))))), gPE_0 _ hp⟩))) (gv_c (fun c_17 => ?_))
        refine g_aload F 1 rfl dX1_mix_62 ?_
        refine g_instS F (g_recv F clX6 (gd_obj (pr_at (κ := 6) (i := graphite.toNatClampNeg) (by decide) (gc6 (by decide) c_1.2) (gce rfl (glot3 w_2))))) q639 dX1_mix_64 ?_
        refine g_if_eq F (tgt := 82) (by decide) dX1_mix_67 (fun c => absurd c (by decide)) (fun _ => ?_)
        refine g_aload F 0 rfl dX1_mix_70 ?_
        refine g_instS F (g_recv F clX7 (gd_obj (pr_at (κ := 6) (i := clay.toNatClampNeg) (by decide) (gc6 (by decide) c_3.2) (gce rfl (glot4 w_4))))) q665 dX1_mix_72 ?_
        refine g_if_eq F (tgt := 82) (by decide) dX1_mix_75 (fun c => absurd c (by decide)) (fun _ => ?_)
        refine g_iconst F (v := (1 : Int32)) (by decide) dX1_mix_78 ?_
        refine g_goto F (tgt := 83) (by decide) dX1_mix_79 ?_
        refine g_istore F (by show 8 < 9; decide) (lv2 := [(8, .int (1 : Int32)), (7, .ref (A 6 clay.toNatClampNeg)), (6, .ref (A 6 graphite.toNatClampNeg)), (0, .ref (A 0 0)), (1, .int graphite), (2, .int clay), (3, .int kilos), (4, .int more), (5, .int days)]) rfl dX1_mix_83 ?_
        refine g_iload F 0 rfl dX1_mix_85 ?_
        refine g_if_eq F (tgt := 122) (by decide) dX1_mix_87 (fun c => absurd c (by decide)) (fun _ => ?_)
        refine g_aload F 2 rfl dX1_mix_90 ?_
        refine g_getN F clX6 3 (by decide) (gT_w q655 rfl) (v := .int (S.1 6 graphite.toNatClampNeg 3)) (gd_get (pr_at (κ := 6) (i := graphite.toNatClampNeg) (by decide) (gc6 (by decide) c_1.2) (gce rfl (glot3 w_2))) rfl) dX1_mix_92 ?_
        refine g_iload_n F 6 rfl rfl dX1_mix_95 ?_
        have J_22 : gW (X, G, 9, Q) (gP 0 G S A Fr []) [(8, .int (1 : Int32)), (7, .ref (A 6 clay.toNatClampNeg)), (6, .ref (A 6 graphite.toNatClampNeg)), (0, .ref (A 0 0)), (1, .int graphite), (2, .int clay), (3, .int kilos), (4, .int more), (5, .int days)] 123 [.int (gb (¬ ((S.1 6 graphite.toNatClampNeg 3) < kilos) ∧ (¬ ((S.1 6 clay.toNatClampNeg 3) < more) ∧ (gGoes S 0))))] 20 80 := by
          refine g_callS F (kX1_requireSupported hl (c := ¬ ((S.1 6 graphite.toNatClampNeg 3) < kilos) ∧ (¬ ((S.1 6 clay.toNatClampNeg 3) < more) ∧ (gGoes S 0)))) (lw_S q512 q513 q18 q514) myX1_requireSupported ⟨by decide, by decide⟩ rfl rfl (gle rfl) 21 86 (gle rfl) (gle rfl) (gle rfl) (gle rfl) dX1_mix_123 (gx_1 (fun c_23 => g_out0 F E (gle rfl) (gle rfl) (fun _ hp => ⟨((if_pos c_1).trans ((if_pos w_2).trans ((if_pos c_3).trans ((if_neg w_4).trans ((if_pos c_17).trans (if_neg c_23)))))), gPE_0 _ hp⟩))) (gv_c (fun c_23 => ?_))
          refine g_aload_n F 3 rfl rfl dX1_mix_126 ?_
          refine g_get F clX1 8 (by decide) q143 (v := .ref (A 307 0)) (gd_get (pr_at (κ := 0) (i := 0) (by decide) (gc1 (gnl rfl)) (gce rfl rfl)) rfl) dX1_mix_127 ?_
          refine g_callF F clJ3 (kJ3_size hl (pr_ls (M := 0) (S := S) (A := A) (κ := 7) (by decide) (Or.inl ⟨by decide, by decide⟩) (fun q => by first | decide | exact absurd q (by decide)) (fun q => by first | decide | exact absurd q (by decide)))) (g_recv F clJ3 (gls_obj (pr_ls (M := 0) (S := S) (A := A) (κ := 7) (by decide) (Or.inl ⟨by decide, by decide⟩) (fun q => by first | decide | exact absurd q (by decide)) (fun q => by first | decide | exact absurd q (by decide))))) q631 q634 q636 q22 q638 (List.mem_of_getElem? (i := 0) rfl) (gT_w q637 rfl) (gT_w q635 rfl) (gT_w q293 rfl) gface_0 ⟨by decide, by decide⟩ rfl rfl (gle rfl) 21 86 (gle rfl) (gle rfl) (gle rfl) (gle rfl) dX1_mix_130 gx_n (gv_i ?_)
          refine g_bipush F (v := (12 : Int32)) (by decide) dX1_mix_135 ?_
          have J_25 : gW (X, G, 9, Q) (gP 0 G S A Fr []) [(8, .int (1 : Int32)), (7, .ref (A 6 clay.toNatClampNeg)), (6, .ref (A 6 graphite.toNatClampNeg)), (0, .ref (A 0 0)), (1, .int graphite), (2, .int clay), (3, .int kilos), (4, .int more), (5, .int days)] 145 [.int (gb (¬ ((12 : Int32) ≤ (nI (S.2 7)))))] 21 86 := by
            refine g_callS F (kX1_requireState hl (c := ¬ ((12 : Int32) ≤ (nI (S.2 7))))) (lw_S q406 q407 q18 q408) myX1_requireState ⟨by decide, by decide⟩ rfl rfl (gle rfl) 22 92 (gle rfl) (gle rfl) (gle rfl) (gle rfl) dX1_mix_145 (gx_1 (fun c_26 => g_out0 F E (gle rfl) (gle rfl) (fun _ hp => ⟨((if_pos c_1).trans ((if_pos w_2).trans ((if_pos c_3).trans ((if_neg w_4).trans ((if_pos c_17).trans ((if_pos c_23).trans (if_neg c_26))))))), gPE_0 _ hp⟩))) (gv_c (fun c_26 => ?_))
            refine g_aload F 2 rfl dX1_mix_148 ?_
            refine g_dup F rfl dX1_mix_150 ?_
            refine g_getN F clX6 3 (by decide) (gT_w q655 rfl) (v := .int (S.1 6 graphite.toNatClampNeg 3)) (gd_get (pr_at (κ := 6) (i := graphite.toNatClampNeg) (by decide) (gc6 (by decide) c_1.2) (gce rfl (glot3 w_2))) rfl) dX1_mix_151 ?_
            refine g_iload_n F 6 rfl rfl dX1_mix_154 ?_
            refine g_isub F dX1_mix_155 ?_
            refine g_putN (P2 := gP 0 G (gsr S.1 6 graphite.toNatClampNeg (upd (S.1 6 graphite.toNatClampNeg) 3 ((S.1 6 graphite.toNatClampNeg 3) - kilos)), S.2) A Fr []) F clX6 3 (by decide) (gT_w q655 rfl) rfl rfl rfl (pr_put (κ := 6) (i := graphite.toNatClampNeg) gM0 hF (upd (S.1 6 graphite.toNatClampNeg) 3 ((S.1 6 graphite.toNatClampNeg 3) - kilos)) (by decide) (gc6 (by decide) c_1.2) (gce rfl (glot3 w_2)) (gnl rfl) (glot3 w_2)) dX1_mix_156 ?_
            refine g_aload F 1 rfl dX1_mix_159 ?_
            refine g_dup F rfl dX1_mix_161 ?_
            refine g_getN F clX7 3 (by decide) (gT_w q655 rfl) (v := .int (S.1 6 clay.toNatClampNeg 3)) (gd_get (pr_at (κ := 6) (i := clay.toNatClampNeg) (by decide) (gc6 (by decide) c_3.2) (gce (show (gsr S.1 6 graphite.toNatClampNeg (upd (S.1 6 graphite.toNatClampNeg) 3 ((S.1 6 graphite.toNatClampNeg 3) - kilos))) 6 clay.toNatClampNeg = S.1 6 clay.toNatClampNeg from (gsr_q (Ne.symm (lotne w_2 w_4)) rfl)) (glot4 w_4))) rfl) dX1_mix_162 ?_
            refine g_iload F 7 rfl dX1_mix_165 ?_
            refine g_isub F dX1_mix_167 ?_
            refine g_putN (P2 := gP 0 G (gsr (gsr S.1 6 graphite.toNatClampNeg (upd (S.1 6 graphite.toNatClampNeg) 3 ((S.1 6 graphite.toNatClampNeg 3) - kilos))) 6 clay.toNatClampNeg (upd (S.1 6 clay.toNatClampNeg) 3 ((S.1 6 clay.toNatClampNeg 3) - more)), S.2) A Fr []) F clX7 3 (by decide) (gT_w q655 rfl) rfl rfl rfl (pr_put (κ := 6) (i := clay.toNatClampNeg) gM0 hF (upd (S.1 6 clay.toNatClampNeg) 3 ((S.1 6 clay.toNatClampNeg 3) - more)) (by decide) (gc6 (by decide) c_3.2) (gce (show (gsr S.1 6 graphite.toNatClampNeg (upd (S.1 6 graphite.toNatClampNeg) 3 ((S.1 6 graphite.toNatClampNeg 3) - kilos))) 6 clay.toNatClampNeg = S.1 6 clay.toNatClampNeg from (gsr_q (Ne.symm (lotne w_2 w_4)) rfl)) (glot4 w_4)) (gnl rfl) (glot4 w_4)) dX1_mix_168 ?_
            refine g_aload_n F 3 rfl rfl dX1_mix_171 ?_
            refine g_get F clX1 8 (by decide) q143 (v := .ref (A 307 0)) (gd_get (pr_at (κ := 0) (i := 0) (by decide) (gc1 (gnl rfl)) (gce (show (gsr (gsr S.1 6 graphite.toNatClampNeg (upd (S.1 6 graphite.toNatClampNeg) 3 ((S.1 6 graphite.toNatClampNeg 3) - kilos))) 6 clay.toNatClampNeg (upd (S.1 6 clay.toNatClampNeg) 3 ((S.1 6 clay.toNatClampNeg 3) - more))) 0 0 = S.1 0 0 from (gsr_p (by decide) (gsr_p (by decide) rfl))) rfl)) rfl) dX1_mix_172 ?_
            refine g_new F clX8 q831 q832 q46 (5000, 0) (fs := [.null, .null, .int (0 : Int32), .int (0 : Int32), .int (0 : Int32)]) rfl 23 97 (gle rfl) (gle rfl) (gle rfl) (gle rfl) (Pa := fun a_27 => gP 0 G (gsr (gsr S.1 6 graphite.toNatClampNeg (upd (S.1 6 graphite.toNatClampNeg) 3 ((S.1 6 graphite.toNatClampNeg 3) - kilos))) 6 clay.toNatClampNeg (upd (S.1 6 clay.toNatClampNeg) 3 ((S.1 6 clay.toNatClampNeg 3) - more)), S.2) A Fr [(a_27, .inr (5, [.null, .null, .int (0 : Int32), .int (0 : Int32), .int (0 : Int32)]))]) (pr_new hF) dX1_mix_175 (fun a_27 => ?_)
            refine g_dup F rfl dX1_mix_178 ?_
            refine g_aload F 2 rfl dX1_mix_179 ?_
            refine g_aload F 1 rfl dX1_mix_181 ?_
            refine g_iload_n F 6 rfl rfl dX1_mix_183 ?_
            refine g_iload F 7 rfl dX1_mix_184 ?_
            refine g_iload F 8 rfl dX1_mix_186 ?_
            refine g_callI F (kX8_init hl (pr_atT (j := 0) rfl) (pr_at (κ := 6) (i := graphite.toNatClampNeg) (by decide) (gc6 (by decide) c_1.2) (gce (show (gsr (gsr S.1 6 graphite.toNatClampNeg (upd (S.1 6 graphite.toNatClampNeg) 3 ((S.1 6 graphite.toNatClampNeg 3) - kilos))) 6 clay.toNatClampNeg (upd (S.1 6 clay.toNatClampNeg) 3 ((S.1 6 clay.toNatClampNeg 3) - more))) 6 graphite.toNatClampNeg = upd (S.1 6 graphite.toNatClampNeg) 3 ((S.1 6 graphite.toNatClampNeg 3) - kilos) from (gsr_q (lotne w_2 w_4) gsr_s)) (glot3 w_2))) (pr_at (κ := 6) (i := clay.toNatClampNeg) (by decide) (gc6 (by decide) c_3.2) (gce (show (gsr (gsr S.1 6 graphite.toNatClampNeg (upd (S.1 6 graphite.toNatClampNeg) 3 ((S.1 6 graphite.toNatClampNeg 3) - kilos))) 6 clay.toNatClampNeg (upd (S.1 6 clay.toNatClampNeg) 3 ((S.1 6 clay.toNatClampNeg 3) - more))) 6 clay.toNatClampNeg = upd (S.1 6 clay.toNatClampNeg) 3 ((S.1 6 clay.toNatClampNeg 3) - more) from gsr_s) (glot4 w_4))) (mixnz c_17.1 c_17.2.1 c_23.1 c_23.2.1 (hL _ c_1.2) (hL _ c_3.2))) rfl q833 q834 q46 q835 myX8_init ⟨by decide, by decide⟩ rfl rfl (gle rfl) 23 97 (gle rfl) (gle rfl) (gle rfl) (gle rfl) dX1_mix_188 gx_n (gv_v ?_)
            refine g_mono (P2 := gP 0 G (gsr (gsr S.1 6 graphite.toNatClampNeg (upd (S.1 6 graphite.toNatClampNeg) 3 ((S.1 6 graphite.toNatClampNeg 3) - kilos))) 6 clay.toNatClampNeg (upd (S.1 6 clay.toNatClampNeg) 3 ((S.1 6 clay.toNatClampNeg 3) - more)), S.2) A Fr [(a_27, .inr (5, [.ref (A 6 graphite.toNatClampNeg), .ref (A 6 clay.toNatClampNeg), .int (10 * kilos * (S.1 6 graphite.toNatClampNeg 1) / (kilos + more)), .int (gmax 0 (gmin 9 (days + 9 - (S.1 6 graphite.toNatClampNeg 2) - (S.1 6 clay.toNatClampNeg 2) / 3))), .int (kilos + more)]))]) (pr_up gM0 hF (j := 0) rfl) ?_
            refine g_callF F clJ3 (kJ3_add hl (pr_ls (M := 0) (S := (gsr (gsr S.1 6 graphite.toNatClampNeg (upd (S.1 6 graphite.toNatClampNeg) 3 ((S.1 6 graphite.toNatClampNeg 3) - kilos))) 6 clay.toNatClampNeg (upd (S.1 6 clay.toNatClampNeg) 3 ((S.1 6 clay.toNatClampNeg 3) - more)), S.2)) (A := A) (κ := 7) (by decide) (Or.inl ⟨by decide, by decide⟩) (fun q => by first | decide | exact absurd q (by decide)) (fun q => by first | decide | exact absurd q (by decide))) (Nat.le_trans (gw_64 (gWf_n (κ := 6) (i := clay.toNatClampNeg) (r := upd (S.1 6 clay.toNatClampNeg) 3 ((S.1 6 clay.toNatClampNeg 3) - more)) (gWf_n (κ := 6) (i := graphite.toNatClampNeg) (r := upd (S.1 6 graphite.toNatClampNeg) 3 ((S.1 6 graphite.toNatClampNeg 3) - kilos)) hW (by decide)) (by decide)) _) (by decide)) (pr_elT (j := 0) rfl (Or.inl ⟨_, _, rfl, by decide, by decide⟩)) (pr_el (by decide) (by decide) (fun q => by first | decide | exact absurd q (by decide)) (fun q => by first | decide | exact absurd q (by decide)))) (g_recv F clJ3 (gls_obj (pr_ls (M := 0) (S := (gsr (gsr S.1 6 graphite.toNatClampNeg (upd (S.1 6 graphite.toNatClampNeg) 3 ((S.1 6 graphite.toNatClampNeg 3) - kilos))) 6 clay.toNatClampNeg (upd (S.1 6 clay.toNatClampNeg) 3 ((S.1 6 clay.toNatClampNeg 3) - more)), S.2)) (A := A) (κ := 7) (by decide) (Or.inl ⟨by decide, by decide⟩) (fun q => by first | decide | exact absurd q (by decide)) (fun q => by first | decide | exact absurd q (by decide))))) q677 q680 q682 q22 q684 (List.mem_of_getElem? (i := 2) rfl) (gT_w q683 rfl) (gT_w q681 rfl) (gT_w q293 rfl) gface_2 ⟨by decide, by decide⟩ rfl rfl (gle rfl) 24 247 (gle rfl) (gle rfl) (gle rfl) (gle rfl) dX1_mix_191 gx_n (gv_i ?_)
            refine g_retag (P2 := gP 0 G (gsr (gsr (gsr S.1 6 graphite.toNatClampNeg (upd (S.1 6 graphite.toNatClampNeg) 3 ((S.1 6 graphite.toNatClampNeg 3) - kilos))) 6 clay.toNatClampNeg (upd (S.1 6 clay.toNatClampNeg) 3 ((S.1 6 clay.toNatClampNeg 3) - more))) 7 (S.2 7) (gRw [graphite, clay, 10 * kilos * (S.1 6 graphite.toNatClampNeg 1) / (kilos + more), gmax 0 (gmin 9 (days + 9 - (S.1 6 graphite.toNatClampNeg 2) - (S.1 6 clay.toNatClampNeg 2) / 3)), kilos + more]), va_up S.2 7 (S.2 7 + 1)) (gAa A 7 (S.2 7) a_27) Fr []) (pr_add (T0 := []) (κ := 7) gM0 hF (gWf_n (κ := 6) (i := clay.toNatClampNeg) (r := upd (S.1 6 clay.toNatClampNeg) 3 ((S.1 6 clay.toNatClampNeg 3) - more)) (gWf_n (κ := 6) (i := graphite.toNatClampNeg) (r := upd (S.1 6 graphite.toNatClampNeg) 3 ((S.1 6 graphite.toNatClampNeg 3) - kilos)) hW (by decide)) (by decide)) (by decide) (by decide) (by decide) (gRw [graphite, clay, 10 * kilos * (S.1 6 graphite.toNatClampNeg 1) / (kilos + more), gmax 0 (gmin 9 (days + 9 - (S.1 6 graphite.toNatClampNeg 2) - (S.1 6 clay.toNatClampNeg 2) / 3)), kilos + more]) rfl) ?_
            refine g_pop F rfl dX1_mix_196 ?_
            refine g_aload_n F 3 rfl rfl dX1_mix_197 ?_
            refine g_get F clX1 8 (by decide) q143 (v := .ref (A 307 0)) (gd_get (pr_at (κ := 0) (i := 0) (by decide) (gc1 (gnl rfl)) (gce (show (gsr (gsr (gsr S.1 6 graphite.toNatClampNeg (upd (S.1 6 graphite.toNatClampNeg) 3 ((S.1 6 graphite.toNatClampNeg 3) - kilos))) 6 clay.toNatClampNeg (upd (S.1 6 clay.toNatClampNeg) 3 ((S.1 6 clay.toNatClampNeg 3) - more))) 7 (S.2 7) (gRw [graphite, clay, 10 * kilos * (S.1 6 graphite.toNatClampNeg 1) / (kilos + more), gmax 0 (gmin 9 (days + 9 - (S.1 6 graphite.toNatClampNeg 2) - (S.1 6 clay.toNatClampNeg 2) / 3)), kilos + more])) 0 0 = S.1 0 0 from (gsr_p (by decide) (gsr_p (by decide) (gsr_p (by decide) rfl)))) rfl)) rfl) dX1_mix_198 ?_
            refine g_callF F clJ3 (kJ3_size hl (pr_ls (M := 0) (S := (gsr (gsr (gsr S.1 6 graphite.toNatClampNeg (upd (S.1 6 graphite.toNatClampNeg) 3 ((S.1 6 graphite.toNatClampNeg 3) - kilos))) 6 clay.toNatClampNeg (upd (S.1 6 clay.toNatClampNeg) 3 ((S.1 6 clay.toNatClampNeg 3) - more))) 7 (S.2 7) (gRw [graphite, clay, 10 * kilos * (S.1 6 graphite.toNatClampNeg 1) / (kilos + more), gmax 0 (gmin 9 (days + 9 - (S.1 6 graphite.toNatClampNeg 2) - (S.1 6 clay.toNatClampNeg 2) / 3)), kilos + more]), va_up S.2 7 (S.2 7 + 1))) (A := gAa A 7 (S.2 7) a_27) (κ := 7) (by decide) (Or.inl ⟨by decide, by decide⟩) (fun q => by first | decide | exact absurd q (by decide)) (fun q => by first | decide | exact absurd q (by decide)))) (g_recv F clJ3 (gls_obj (pr_ls (M := 0) (S := (gsr (gsr (gsr S.1 6 graphite.toNatClampNeg (upd (S.1 6 graphite.toNatClampNeg) 3 ((S.1 6 graphite.toNatClampNeg 3) - kilos))) 6 clay.toNatClampNeg (upd (S.1 6 clay.toNatClampNeg) 3 ((S.1 6 clay.toNatClampNeg 3) - more))) 7 (S.2 7) (gRw [graphite, clay, 10 * kilos * (S.1 6 graphite.toNatClampNeg 1) / (kilos + more), gmax 0 (gmin 9 (days + 9 - (S.1 6 graphite.toNatClampNeg 2) - (S.1 6 clay.toNatClampNeg 2) / 3)), kilos + more]), va_up S.2 7 (S.2 7 + 1))) (A := gAa A 7 (S.2 7) a_27) (κ := 7) (by decide) (Or.inl ⟨by decide, by decide⟩) (fun q => by first | decide | exact absurd q (by decide)) (fun q => by first | decide | exact absurd q (by decide))))) q631 q634 q636 q22 q638 (List.mem_of_getElem? (i := 0) rfl) (gT_w q637 rfl) (gT_w q635 rfl) (gT_w q293 rfl) gface_0 ⟨by decide, by decide⟩ rfl rfl (gle rfl) 24 247 (gle rfl) (gle rfl) (gle rfl) (gle rfl) dX1_mix_201 gx_n (gv_i ?_)
            refine g_iconst F (v := (1 : Int32)) (by decide) dX1_mix_206 ?_
            refine g_isub F dX1_mix_207 ?_
            refine g_top (nI_pred (S.2 7)) ?_
            exact g_retI F E rfl rfl (gle rfl) (gle rfl) dX1_mix_208 (fun _ hp => ⟨_, _, ((if_pos c_1).trans ((if_pos w_2).trans ((if_pos c_3).trans ((if_neg w_4).trans ((if_pos c_17).trans ((if_pos c_23).trans (if_pos c_26))))))), rfl, ⟨gAa A 7 (S.2 7) a_27, rfl, gP_T0 hp⟩⟩)
          refine g_icmp_ge F (tgt := 144) (by decide) dX1_mix_137 (fun c_24 => ?_) (fun c_24 => ?_)
          · skip
            refine g_iconst F (v := (0 : Int32)) (by decide) dX1_mix_144 ?_
            exact g_top (gb_f (fun q => q c_24)) J_25
          · skip
            refine g_iconst F (v := (1 : Int32)) (by decide) dX1_mix_140 ?_
            refine g_goto F (tgt := 145) (by decide) dX1_mix_141 ?_
            exact g_top (gb_t c_24) J_25
        refine g_icmp_lt F (tgt := 122) (by decide) dX1_mix_96 (fun c_18 => ?_) (fun c_18 => ?_)
        · skip
          refine g_iconst F (v := (0 : Int32)) (by decide) dX1_mix_122 ?_
          exact g_widen (by decide) (by decide) <| g_top (gb_f (fun q => q.1 c_18)) J_22
        · skip
          refine g_aload F 1 rfl dX1_mix_99 ?_
          refine g_getN F clX7 3 (by decide) (gT_w q655 rfl) (v := .int (S.1 6 clay.toNatClampNeg 3)) (gd_get (pr_at (κ := 6) (i := clay.toNatClampNeg) (by decide) (gc6 (by decide) c_3.2) (gce rfl (glot4 w_4))) rfl) dX1_mix_101 ?_
          refine g_iload F 7 rfl dX1_mix_104 ?_
          refine g_icmp_lt F (tgt := 122) (by decide) dX1_mix_106 (fun c_19 => ?_) (fun c_19 => ?_)
          · skip
            refine g_iconst F (v := (0 : Int32)) (by decide) dX1_mix_122 ?_
            exact g_widen (by decide) (by decide) <| g_top (gb_f (fun q => (fun q => q.1 c_19) q.2)) J_22
          · skip
            refine g_aload_n F 3 rfl rfl dX1_mix_109 ?_
            refine g_bipush F (v := (109 : Int32)) (by decide) dX1_mix_110 ?_
            refine g_callVW F (kX1_runsI hl hF hW (ch := (109 : Int32)) (by decide)) (g_recv F clX1 (gd_obj (pr_at (κ := 0) (i := 0) (by decide) (gc1 (gnl rfl)) (gce rfl rfl)))) q830 q561 q562 q18 q563 myX1_runs ⟨by decide, by decide⟩ rfl rfl (gle rfl) 20 80 (gle rfl) (gle rfl) (gle rfl) (gle rfl) dX1_mix_112 (gx_1 (fun c_20 => (c_20 (by decide +kernel)).elim)) (gv_y (fun c_20 => ?_))
            refine g_top (show _ = gb (gGoes S 0) by rw [show gidx 0 (109 : Int32) = (0 : Int32) from by decide +kernel]) ?_
            refine gb_if_eq F (tgt := 122) (by decide) dX1_mix_115 (fun c_21 => ?_) (fun c_21 => ?_)
            · skip
              refine g_iconst F (v := (0 : Int32)) (by decide) dX1_mix_122 ?_
              exact g_top (gb_f (fun q => (fun q => c_21 q.2) q.2)) J_22
            · skip
              refine g_iconst F (v := (1 : Int32)) (by decide) dX1_mix_118 ?_
              refine g_goto F (tgt := 123) (by decide) dX1_mix_119 ?_
              exact g_top (gb_t (⟨c_18, ⟨c_19, c_21⟩⟩)) J_22
      refine g_icmp_lt F (tgt := 58) (by decide) dX1_mix_28 (fun c_12 => ?_) (fun c_12 => ?_)
      · skip
        refine g_iconst F (v := (0 : Int32)) (by decide) dX1_mix_58 ?_
        exact g_widen (by decide) (by decide) <| g_top (gb_f (fun q => q.1 c_12)) J_16
      · skip
        refine g_iload F 6 rfl dX1_mix_31 ?_
        refine g_iconst F (v := (1 : Int32)) (by decide) dX1_mix_33 ?_
        refine g_icmp_lt F (tgt := 58) (by decide) dX1_mix_34 (fun c_13 => ?_) (fun c_13 => ?_)
        · skip
          refine g_iconst F (v := (0 : Int32)) (by decide) dX1_mix_58 ?_
          exact g_widen (by decide) (by decide) <| g_top (gb_f (fun q => (fun q => q.1 c_13) q.2)) J_16
        · skip
          refine g_iconst F (v := (1 : Int32)) (by decide) dX1_mix_37 ?_
          refine g_bipush F (v := (9 : Int32)) (by decide) dX1_mix_38 ?_
          refine g_iconst F (v := (1 : Int32)) (by decide) dX1_mix_40 ?_
          refine g_newI F (5000, 0) (N := 1) rfl (by decide) 3 13 (gle rfl) (gle rfl) (gle rfl) (gle rfl) (Pa := fun a_14 => gP 0 G S A Fr [(a_14, gIA G 1 (fun _ => 0))]) (pr_new hF) dX1_mix_41 (fun a_14 => ?_)
          refine g_dup F rfl dX1_mix_43 ?_
          refine g_iconst F (v := (0 : Int32)) (by decide) dX1_mix_44 ?_
          refine g_iload F 7 rfl dX1_mix_45 ?_
          refine g_iastN (P2 := gP 0 G S A Fr [(a_14, gIA G 1 (upd (fun _ => 0) 0 days))]) F (m := 0) rfl (by decide) (by decide) (pr_setT gM0 hF (j := 0) rfl) dX1_mix_47 ?_
          refine g_callS F (kX1_isIn hl (pr_atT (j := 0) rfl)) (lw_S q305 q306 q18 q307) myX1_isIn ⟨by decide, by decide⟩ rfl rfl (gle rfl) 3 13 (gle rfl) (gle rfl) (gle rfl) (gle rfl) dX1_mix_48 gx_n (gv_i ?_)
          refine g_top (show _ = gb (¬ days < (1 : Int32) ∧ ¬ (9 : Int32) < days) from rfl) ?_
          refine g_mono (P2 := gP 0 G S A Fr []) (fun _ hp => gP_Tl 0 hp) ?_
          refine gb_if_eq F (tgt := 58) (by decide) dX1_mix_51 (fun c_15 => ?_) (fun c_15 => ?_)
          · skip
            refine g_iconst F (v := (0 : Int32)) (by decide) dX1_mix_58 ?_
            exact g_top (gb_f (fun q => (fun q => c_15 q.2) q.2)) J_16
          · skip
            refine g_iconst F (v := (1 : Int32)) (by decide) dX1_mix_54 ?_
            refine g_goto F (tgt := 59) (by decide) dX1_mix_55 ?_
            exact g_top (gb_t (⟨c_12, ⟨c_13, c_15⟩⟩)) J_16
  · skip
    refine g_cast F (g_recv F clX7 (gd_obj (pr_at (κ := 6) (i := graphite.toNatClampNeg) (by decide) (gc6 (by decide) c_1.2) (gce rfl (glot4 w_2))))) q822 (gT_w q1854 rfl) dX1_mix_8 ?_
    refine g_astore F (by show 6 < 9; decide) (lv2 := [(6, .ref (A 6 graphite.toNatClampNeg)), (0, .ref (A 0 0)), (1, .int graphite), (2, .int clay), (3, .int kilos), (4, .int more), (5, .int days)]) rfl dX1_mix_11 ?_
    refine g_aload_n F 1 rfl rfl dX1_mix_13 ?_
    refine g_get F clX1 7 (by decide) q142 (v := .ref (A 306 0)) (gd_get (pr_at (κ := 0) (i := 0) (by decide) (gc1 (gnl rfl)) (gce rfl rfl)) rfl) dX1_mix_14 ?_
    refine g_iload_n F 3 rfl rfl dX1_mix_17 ?_
    refine g_callS F (kX1_require hl (pr_ls (M := 0) (S := S) (A := A) (κ := 6) (by decide) (Or.inl ⟨by decide, by decide⟩) (fun q => by first | decide | exact absurd q (by decide)) (fun q => by first | decide | exact absurd q (by decide))) (gw_n hW _) (x := clay)) (lw_S q784 q785 q18 q786) myX1_require ⟨by decide, by decide⟩ rfl rfl (gle rfl) 2 12 (gle rfl) (gle rfl) (gle rfl) (gle rfl) dX1_mix_18 (gx_1 (fun c_28 => g_out0 F E (gle rfl) (gle rfl) (fun _ hp => ⟨((if_pos c_1).trans ((if_neg w_2).trans (if_neg c_28))), gPE_0 _ hp⟩))) (gv_y (fun c_28 => ?_))
    refine g_cases (x := S.1 6 clay.toNatClampNeg 0) (103 : Int32) (fun w_29 => ?_) (fun w_29 => ?_)
    · skip
      refine g_cast F (g_recv F clX6 (gd_obj (pr_at (κ := 6) (i := clay.toNatClampNeg) (by decide) (gc6 (by decide) c_28.2) (gce rfl (glot3 w_29))))) q822 (gT_w q1855 rfl) dX1_mix_21 ?_
      refine g_astore F (by show 7 < 9; decide) (lv2 := [(7, .ref (A 6 clay.toNatClampNeg)), (6, .ref (A 6 graphite.toNatClampNeg)), (0, .ref (A 0 0)), (1, .int graphite), (2, .int clay), (3, .int kilos), (4, .int more), (5, .int days)]) rfl dX1_mix_24 ?_
      refine g_iload_n F 5 rfl rfl dX1_mix_26 ?_
      refine g_iconst F (v := (1 : Int32)) (by decide) dX1_mix_27 ?_
      have J_34 : gW (X, G, 9, Q) (gP 0 G S A Fr []) [(7, .ref (A 6 clay.toNatClampNeg)), (6, .ref (A 6 graphite.toNatClampNeg)), (0, .ref (A 0 0)), (1, .int graphite), (2, .int clay), (3, .int kilos), (4, .int more), (5, .int days)] 59 [.int (gb (¬ (kilos < (1 : Int32)) ∧ (¬ (more < (1 : Int32)) ∧ (¬ days < (1 : Int32) ∧ ¬ (9 : Int32) < days))))] 3 13 := by
        refine g_callS F (kX1_requireArgument hl (c := ¬ (kilos < (1 : Int32)) ∧ (¬ (more < (1 : Int32)) ∧ (¬ days < (1 : Int32) ∧ ¬ (9 : Int32) < days)))) (lw_S q335 q336 q18 q337) myX1_requireArgument ⟨by decide, by decide⟩ rfl rfl (gle rfl) 4 19 (gle rfl) (gle rfl) (gle rfl) (gle rfl) dX1_mix_59 (gx_1 (fun c_35 => g_out0 F E (gle rfl) (gle rfl) (fun _ hp => ⟨((if_pos c_1).trans ((if_neg w_2).trans ((if_pos c_28).trans ((if_pos w_29).trans (if_neg c_35))))), gPE_0 _ hp⟩))) (gv_c (fun c_35 => ?_))
        refine g_aload F 1 rfl dX1_mix_62 ?_
        refine g_instNo F (g_recv F clX7 (gd_obj (pr_at (κ := 6) (i := graphite.toNatClampNeg) (by decide) (gc6 (by decide) c_1.2) (gce rfl (glot4 w_2))))) q639 (by decide) dX1_mix_64 ?_
        refine g_if_eq F (tgt := 82) (by decide) dX1_mix_67 (fun _ => ?_) (fun c => absurd c (by decide))
        refine g_iconst F (v := (0 : Int32)) (by decide) dX1_mix_82 ?_
        refine g_istore F (by show 8 < 9; decide) (lv2 := [(8, .int (0 : Int32)), (7, .ref (A 6 clay.toNatClampNeg)), (6, .ref (A 6 graphite.toNatClampNeg)), (0, .ref (A 0 0)), (1, .int graphite), (2, .int clay), (3, .int kilos), (4, .int more), (5, .int days)]) rfl dX1_mix_83 ?_
        refine g_iload F 0 rfl dX1_mix_85 ?_
        refine g_if_eq F (tgt := 122) (by decide) dX1_mix_87 (fun _ => ?_) (fun c => absurd c (by decide))
        refine g_iconst F (v := (0 : Int32)) (by decide) dX1_mix_122 ?_
        refine g_top (show (0 : Int32) = gb False from rfl) ?_
        refine g_callS F (kX1_requireSupported hl (c := False)) (lw_S q512 q513 q18 q514) myX1_requireSupported ⟨by decide, by decide⟩ rfl rfl (gle rfl) 5 25 (gle rfl) (gle rfl) (gle rfl) (gle rfl) dX1_mix_123 (gx_1 (fun c_36 => g_out0 F E (gle rfl) (gle rfl) (fun _ hp => ⟨((if_pos c_1).trans ((if_neg w_2).trans ((if_pos c_28).trans ((if_pos w_29).trans (if_pos c_35))))), gPE_0 _ hp⟩))) (gv_c (fun c_36 => c_36.elim))
      refine g_icmp_lt F (tgt := 58) (by decide) dX1_mix_28 (fun c_30 => ?_) (fun c_30 => ?_)
      · skip
        refine g_iconst F (v := (0 : Int32)) (by decide) dX1_mix_58 ?_
        exact g_widen (by decide) (by decide) <| g_top (gb_f (fun q => q.1 c_30)) J_34
      · skip
        refine g_iload F 6 rfl dX1_mix_31 ?_
        refine g_iconst F (v := (1 : Int32)) (by decide) dX1_mix_33 ?_
        refine g_icmp_lt F (tgt := 58) (by decide) dX1_mix_34 (fun c_31 => ?_) (fun c_31 => ?_)
        · skip
          refine g_iconst F (v := (0 : Int32)) (by decide) dX1_mix_58 ?_
          exact g_widen (by decide) (by decide) <| g_top (gb_f (fun q => (fun q => q.1 c_31) q.2)) J_34
        · skip
          refine g_iconst F (v := (1 : Int32)) (by decide) dX1_mix_37 ?_
          refine g_bipush F (v := (9 : Int32)) (by decide) dX1_mix_38 ?_
          refine g_iconst F (v := (1 : Int32)) (by decide) dX1_mix_40 ?_
          refine g_newI F (5000, 0) (N := 1) rfl (by decide) 3 13 (gle rfl) (gle rfl) (gle rfl) (gle rfl) (Pa := fun a_32 => gP 0 G S A Fr [(a_32, gIA G 1 (fun _ => 0))]) (pr_new hF) dX1_mix_41 (fun a_32 => ?_)
          refine g_dup F rfl dX1_mix_43 ?_
          refine g_iconst F (v := (0 : Int32)) (by decide) dX1_mix_44 ?_
          refine g_iload F 7 rfl dX1_mix_45 ?_
          refine g_iastN (P2 := gP 0 G S A Fr [(a_32, gIA G 1 (upd (fun _ => 0) 0 days))]) F (m := 0) rfl (by decide) (by decide) (pr_setT gM0 hF (j := 0) rfl) dX1_mix_47 ?_
          refine g_callS F (kX1_isIn hl (pr_atT (j := 0) rfl)) (lw_S q305 q306 q18 q307) myX1_isIn ⟨by decide, by decide⟩ rfl rfl (gle rfl) 3 13 (gle rfl) (gle rfl) (gle rfl) (gle rfl) dX1_mix_48 gx_n (gv_i ?_)
          refine g_top (show _ = gb (¬ days < (1 : Int32) ∧ ¬ (9 : Int32) < days) from rfl) ?_
          refine g_mono (P2 := gP 0 G S A Fr []) (fun _ hp => gP_Tl 0 hp) ?_
          refine gb_if_eq F (tgt := 58) (by decide) dX1_mix_51 (fun c_33 => ?_) (fun c_33 => ?_)
          · skip
            refine g_iconst F (v := (0 : Int32)) (by decide) dX1_mix_58 ?_
            exact g_top (gb_f (fun q => (fun q => c_33 q.2) q.2)) J_34
          · skip
            refine g_iconst F (v := (1 : Int32)) (by decide) dX1_mix_54 ?_
            refine g_goto F (tgt := 59) (by decide) dX1_mix_55 ?_
            exact g_top (gb_t (⟨c_30, ⟨c_31, c_33⟩⟩)) J_34
    · skip
      refine g_cast F (g_recv F clX7 (gd_obj (pr_at (κ := 6) (i := clay.toNatClampNeg) (by decide) (gc6 (by decide) c_28.2) (gce rfl (glot4 w_29))))) q822 (gT_w q1854 rfl) dX1_mix_21 ?_
      refine g_astore F (by show 7 < 9; decide) (lv2 := [(7, .ref (A 6 clay.toNatClampNeg)), (6, .ref (A 6 graphite.toNatClampNeg)), (0, .ref (A 0 0)), (1, .int graphite), (2, .int clay), (3, .int kilos), (4, .int more), (5, .int days)]) rfl dX1_mix_24 ?_
      refine g_iload_n F 5 rfl rfl dX1_mix_26 ?_
      refine g_iconst F (v := (1 : Int32)) (by decide) dX1_mix_27 ?_
      have J_41 : gW (X, G, 9, Q) (gP 0 G S A Fr []) [(7, .ref (A 6 clay.toNatClampNeg)), (6, .ref (A 6 graphite.toNatClampNeg)), (0, .ref (A 0 0)), (1, .int graphite), (2, .int clay), (3, .int kilos), (4, .int more), (5, .int days)] 59 [.int (gb (¬ (kilos < (1 : Int32)) ∧ (¬ (more < (1 : Int32)) ∧ (¬ days < (1 : Int32) ∧ ¬ (9 : Int32) < days))))] 3 13 := by
        refine g_callS F (kX1_requireArgument hl (c := ¬ (kilos < (1 : Int32)) ∧ (¬ (more < (1 : Int32)) ∧ (¬ days < (1 : Int32) ∧ ¬ (9 : Int32) < days)))) (lw_S q335 q336 q18 q337) myX1_requireArgument ⟨by decide, by decide⟩ rfl rfl (gle rfl) 4 19 (gle rfl) (gle rfl) (gle rfl) (gle rfl) dX1_mix_59 (gx_1 (fun c_42 => g_out0 F E (gle rfl) (gle rfl) (fun _ hp => ⟨((if_pos c_1).trans ((if_neg w_2).trans ((if_pos c_28).trans ((if_neg w_29).trans (if_neg c_42))))), gPE_0 _ hp⟩))) (gv_c (fun c_42 => ?_))
        refine g_aload F 1 rfl dX1_mix_62 ?_
        refine g_instNo F (g_recv F clX7 (gd_obj (pr_at (κ := 6) (i := graphite.toNatClampNeg) (by decide) (gc6 (by decide) c_1.2) (gce rfl (glot4 w_2))))) q639 (by decide) dX1_mix_64 ?_
        refine g_if_eq F (tgt := 82) (by decide) dX1_mix_67 (fun _ => ?_) (fun c => absurd c (by decide))
        refine g_iconst F (v := (0 : Int32)) (by decide) dX1_mix_82 ?_
        refine g_istore F (by show 8 < 9; decide) (lv2 := [(8, .int (0 : Int32)), (7, .ref (A 6 clay.toNatClampNeg)), (6, .ref (A 6 graphite.toNatClampNeg)), (0, .ref (A 0 0)), (1, .int graphite), (2, .int clay), (3, .int kilos), (4, .int more), (5, .int days)]) rfl dX1_mix_83 ?_
        refine g_iload F 0 rfl dX1_mix_85 ?_
        refine g_if_eq F (tgt := 122) (by decide) dX1_mix_87 (fun _ => ?_) (fun c => absurd c (by decide))
        refine g_iconst F (v := (0 : Int32)) (by decide) dX1_mix_122 ?_
        refine g_top (show (0 : Int32) = gb False from rfl) ?_
        refine g_callS F (kX1_requireSupported hl (c := False)) (lw_S q512 q513 q18 q514) myX1_requireSupported ⟨by decide, by decide⟩ rfl rfl (gle rfl) 5 25 (gle rfl) (gle rfl) (gle rfl) (gle rfl) dX1_mix_123 (gx_1 (fun c_43 => g_out0 F E (gle rfl) (gle rfl) (fun _ hp => ⟨((if_pos c_1).trans ((if_neg w_2).trans ((if_pos c_28).trans ((if_neg w_29).trans (if_pos c_42))))), gPE_0 _ hp⟩))) (gv_c (fun c_43 => c_43.elim))
      refine g_icmp_lt F (tgt := 58) (by decide) dX1_mix_28 (fun c_37 => ?_) (fun c_37 => ?_)
      · skip
        refine g_iconst F (v := (0 : Int32)) (by decide) dX1_mix_58 ?_
        exact g_widen (by decide) (by decide) <| g_top (gb_f (fun q => q.1 c_37)) J_41
      · skip
        refine g_iload F 6 rfl dX1_mix_31 ?_
        refine g_iconst F (v := (1 : Int32)) (by decide) dX1_mix_33 ?_
        refine g_icmp_lt F (tgt := 58) (by decide) dX1_mix_34 (fun c_38 => ?_) (fun c_38 => ?_)
        · skip
          refine g_iconst F (v := (0 : Int32)) (by decide) dX1_mix_58 ?_
          exact g_widen (by decide) (by decide) <| g_top (gb_f (fun q => (fun q => q.1 c_38) q.2)) J_41
        · skip
          refine g_iconst F (v := (1 : Int32)) (by decide) dX1_mix_37 ?_
          refine g_bipush F (v := (9 : Int32)) (by decide) dX1_mix_38 ?_
          refine g_iconst F (v := (1 : Int32)) (by decide) dX1_mix_40 ?_
          refine g_newI F (5000, 0) (N := 1) rfl (by decide) 3 13 (gle rfl) (gle rfl) (gle rfl) (gle rfl) (Pa := fun a_39 => gP 0 G S A Fr [(a_39, gIA G 1 (fun _ => 0))]) (pr_new hF) dX1_mix_41 (fun a_39 => ?_)
          refine g_dup F rfl dX1_mix_43 ?_
          refine g_iconst F (v := (0 : Int32)) (by decide) dX1_mix_44 ?_
          refine g_iload F 7 rfl dX1_mix_45 ?_
          refine g_iastN (P2 := gP 0 G S A Fr [(a_39, gIA G 1 (upd (fun _ => 0) 0 days))]) F (m := 0) rfl (by decide) (by decide) (pr_setT gM0 hF (j := 0) rfl) dX1_mix_47 ?_
          refine g_callS F (kX1_isIn hl (pr_atT (j := 0) rfl)) (lw_S q305 q306 q18 q307) myX1_isIn ⟨by decide, by decide⟩ rfl rfl (gle rfl) 3 13 (gle rfl) (gle rfl) (gle rfl) (gle rfl) dX1_mix_48 gx_n (gv_i ?_)
          refine g_top (show _ = gb (¬ days < (1 : Int32) ∧ ¬ (9 : Int32) < days) from rfl) ?_
          refine g_mono (P2 := gP 0 G S A Fr []) (fun _ hp => gP_Tl 0 hp) ?_
          refine gb_if_eq F (tgt := 58) (by decide) dX1_mix_51 (fun c_40 => ?_) (fun c_40 => ?_)
          · skip
            refine g_iconst F (v := (0 : Int32)) (by decide) dX1_mix_58 ?_
            exact g_top (gb_f (fun q => (fun q => c_40 q.2) q.2)) J_41
          · skip
            refine g_iconst F (v := (1 : Int32)) (by decide) dX1_mix_54 ?_
            refine g_goto F (tgt := 59) (by decide) dX1_mix_55 ?_
            exact g_top (gb_t (⟨c_37, ⟨c_38, c_40⟩⟩)) J_41

def sC_lay (S : gS) (batch slats shape many hand : Int32) : gO := if gIn batch (S.2 8) then (if gIn slats (S.2 9) then (if ¬ ((gidx 4 shape) < 0) ∧ ((¬ many < (1 : Int32) ∧ ¬ (500 : Int32) < many) ∧ (¬ hand < (0 : Int32) ∧ ¬ (9 : Int32) < hand)) then (if ((¬ ((S.1 8 batch.toNatClampNeg 6) = (-1 : Int32))) ∧ ((¬ ((S.1 0 0 0) < (S.1 8 batch.toNatClampNeg 4))) ∧ (¬ ((S.1 0 0 0) < (S.1 9 slats.toNatClampNeg 5)) ∧ (¬ ((S.1 9 slats.toNatClampNeg 4) ≤ 0))))) ∧ (¬ ((2 : Int32) < (gabs (2 * (S.1 9 slats.toNatClampNeg 4) - (S.1 8 batch.toNatClampNeg 3)))) ∧ (¬ ((S.1 8 batch.toNatClampNeg 1) < many) ∧ (¬ ((S.1 9 slats.toNatClampNeg 3) < ((2 : Int32) * (((many + (if shape = (54 : Int32) then (6 : Int32) else (if shape = (48 : Int32) then (5 : Int32) else (7 : Int32)))) - (1 : Int32)) / (if shape = (54 : Int32) then (6 : Int32) else (if shape = (48 : Int32) then (5 : Int32) else (7 : Int32))))))))) then (if ¬ ((16 : Int32) ≤ (nI (S.2 10))) then (.inr (.int (nI (S.2 10)), (gsr (gsr (gsr (gsr S.1 8 batch.toNatClampNeg (upd (S.1 8 batch.toNatClampNeg) 1 ((S.1 8 batch.toNatClampNeg 1) - many))) 9 slats.toNatClampNeg (upd (S.1 9 slats.toNatClampNeg) 3 ((S.1 9 slats.toNatClampNeg 3) - ((2 : Int32) * (((many + (if shape = (54 : Int32) then (6 : Int32) else (if shape = (48 : Int32) then (5 : Int32) else (7 : Int32)))) - (1 : Int32)) / (if shape = (54 : Int32) then (6 : Int32) else (if shape = (48 : Int32) then (5 : Int32) else (7 : Int32)))))))) 0 0 (upd (S.1 0 0) 3 ((S.1 0 0 3) + many))) 10 (S.2 10) (gRw [batch, slats, hand, many, (0 : Int32), gabs (2 * (S.1 9 slats.toNatClampNeg 4) - (S.1 8 batch.toNatClampNeg 3)) + (S.1 9 slats.toNatClampNeg 1) / 4, (S.1 0 0 0) + (6 : Int32), (0 : Int32), (-1 : Int32), (-1 : Int32), (0 : Int32)]), va_up S.2 10 (S.2 10 + 1)))) else (.inl "java/lang/IllegalStateException")) else (.inl "java/lang/UnsupportedOperationException")) else (.inl "java/lang/IllegalArgumentException")) else (.inl "java/lang/IndexOutOfBoundsException")) else (.inl "java/lang/IndexOutOfBoundsException")
theorem kX1_lay {l : Launch} {G : gG} (hl : l.stackTraces = false) {S : gS} {a0 : Nat} {Fr : gH → Prop} (hF : gFr 0 Fr) (hW : gWf S) {batch slats shape many hand : Int32} (h_shape : ¬ shape < 0) : gMet l yX1_lay (ws_ yX1_lay cX1_lay 12 (some .int)) ⟨8, 9, 194, 731⟩ G [.ref a0, .int batch, .int slats, .int shape, .int many, .int hand] (gPE 0 G S a0 Fr) (gqS (sC_lay S batch slats shape many hand) 0 G a0 Fr) (gxS (sC_lay S batch slats shape many hand) 0 G S a0 Fr) := by
  refine gMet_of hl pnX1 (gle rfl) (fun X Q hX F E hNm => ?_)
  subst hX
  change gW (X, G, 12, Q) (gPE 0 G S a0 Fr) [(0, .ref a0), (1, .int batch), (2, .int slats), (3, .int shape), (4, .int many), (5, .int hand)] 0 [] 0 0
  refine g_pe (fun A hA => ?_)
  subst hA
  change gW _ _ [(0, .ref (A 0 0)), (1, .int batch), (2, .int slats), (3, .int shape), (4, .int many), (5, .int hand)] 0 [] 0 0
  refine g_aload_n F 0 rfl rfl dX1_lay_0 ?_
  refine g_get F clX1 9 (by decide) q144 (v := .ref (A 308 0)) (gd_get (pr_at (κ := 0) (i := 0) (by decide) (gc1 (gnl rfl)) (gce rfl rfl)) rfl) dX1_lay_1 ?_
  refine g_iload_n F 1 rfl rfl dX1_lay_4 ?_
  refine g_callS F (kX1_require hl (pr_ls (M := 0) (S := S) (A := A) (κ := 8) (by decide) (Or.inl ⟨by decide, by decide⟩) (fun q => by first | decide | exact absurd q (by decide)) (fun q => by first | decide | exact absurd q (by decide))) (gw_n hW _) (x := batch)) (lw_S q784 q785 q18 q786) myX1_require ⟨by decide, by decide⟩ rfl rfl (gle rfl) 1 6 (gle rfl) (gle rfl) (gle rfl) (gle rfl) dX1_lay_5 (gx_1 (fun c_1 => g_out0 F E (gle rfl) (gle rfl) (fun _ hp => ⟨(if_neg c_1), gPE_0 _ hp⟩))) (gv_y (fun c_1 => ?_))
  refine g_castS F (g_recv F clX9 (gd_obj (pr_at (κ := 8) (i := batch.toNatClampNeg) (by decide) (gc6 (by decide) c_1.2) (gce rfl rfl)))) q295 dX1_lay_8 ?_
  refine g_astore F (by show 6 < 12; decide) (lv2 := [(6, .ref (A 8 batch.toNatClampNeg)), (0, .ref (A 0 0)), (1, .int batch), (2, .int slats), (3, .int shape), (4, .int many), (5, .int hand)]) rfl dX1_lay_11 ?_
  refine g_aload_n F 1 rfl rfl dX1_lay_13 ?_
  refine g_get F clX1 12 (by decide) q147 (v := .ref (A 309 0)) (gd_get (pr_at (κ := 0) (i := 0) (by decide) (gc1 (gnl rfl)) (gce rfl rfl)) rfl) dX1_lay_14 ?_
  refine g_iload_n F 3 rfl rfl dX1_lay_17 ?_
  refine g_callS F (kX1_require hl (pr_ls (M := 0) (S := S) (A := A) (κ := 9) (by decide) (Or.inl ⟨by decide, by decide⟩) (fun q => by first | decide | exact absurd q (by decide)) (fun q => by first | decide | exact absurd q (by decide))) (gw_n hW _) (x := slats)) (lw_S q784 q785 q18 q786) myX1_require ⟨by decide, by decide⟩ rfl rfl (gle rfl) 2 12 (gle rfl) (gle rfl) (gle rfl) (gle rfl) dX1_lay_18 (gx_1 (fun c_2 => g_out0 F E (gle rfl) (gle rfl) (fun _ hp => ⟨((if_pos c_1).trans (if_neg c_2)), gPE_0 _ hp⟩))) (gv_y (fun c_2 => ?_))
  refine g_castS F (g_recv F clX11 (gd_obj (pr_at (κ := 9) (i := slats.toNatClampNeg) (by decide) (gc6 (by decide) c_2.2) (gce rfl rfl)))) q1003 dX1_lay_21 ?_
  refine g_astore F (by show 7 < 12; decide) (lv2 := [(7, .ref (A 9 slats.toNatClampNeg)), (6, .ref (A 8 batch.toNatClampNeg)), (0, .ref (A 0 0)), (1, .int batch), (2, .int slats), (3, .int shape), (4, .int many), (5, .int hand)]) rfl dX1_lay_24 ?_
  refine g_ldcSW F (i := 4) (List.mem_of_getElem? (i := 4) rfl) dX1_lay_26 ?_
  refine g_iload_n F 5 rfl rfl dX1_lay_29 ?_
  refine g_callV F (kJ0_indexOf hl (by decide) (ch := shape) h_shape) (g_srecv F (by decide)) q435 q436 q437 q19 q438 myJ0_indexOf ⟨by decide, by decide⟩ rfl rfl (gle rfl) 2 12 (gle rfl) (gle rfl) (gle rfl) (gle rfl) dX1_lay_30 gx_n (gv_i ?_)
  have J_8 : gW (X, G, 12, Q) (gP 0 G S A Fr []) [(7, .ref (A 9 slats.toNatClampNeg)), (6, .ref (A 8 batch.toNatClampNeg)), (0, .ref (A 0 0)), (1, .int batch), (2, .int slats), (3, .int shape), (4, .int many), (5, .int hand)] 76 [.int (gb (¬ ((gidx 4 shape) < 0) ∧ ((¬ many < (1 : Int32) ∧ ¬ (500 : Int32) < many) ∧ (¬ hand < (0 : Int32) ∧ ¬ (9 : Int32) < hand))))] 4 14 := by
    refine g_callS F (kX1_requireArgument hl (c := ¬ ((gidx 4 shape) < 0) ∧ ((¬ many < (1 : Int32) ∧ ¬ (500 : Int32) < many) ∧ (¬ hand < (0 : Int32) ∧ ¬ (9 : Int32) < hand)))) (lw_S q335 q336 q18 q337) myX1_requireArgument ⟨by decide, by decide⟩ rfl rfl (gle rfl) 5 20 (gle rfl) (gle rfl) (gle rfl) (gle rfl) dX1_lay_76 (gx_1 (fun c_9 => g_out0 F E (gle rfl) (gle rfl) (fun _ hp => ⟨((if_pos c_1).trans ((if_pos c_2).trans (if_neg c_9))), gPE_0 _ hp⟩))) (gv_c (fun c_9 => ?_))
    refine g_iload_n F 5 rfl rfl dX1_lay_79 ?_
    refine g_bipush F (v := (54 : Int32)) (by decide) dX1_lay_80 ?_
    have J_12 : gW (X, G, 12, Q) (gP 0 G S A Fr []) [(7, .ref (A 9 slats.toNatClampNeg)), (6, .ref (A 8 batch.toNatClampNeg)), (0, .ref (A 0 0)), (1, .int batch), (2, .int slats), (3, .int shape), (4, .int many), (5, .int hand)] 102 [.int (if shape = (54 : Int32) then (6 : Int32) else (if shape = (48 : Int32) then (5 : Int32) else (7 : Int32)))] 5 20 := by
      refine g_istore F (by show 8 < 12; decide) (lv2 := [(8, .int (if shape = (54 : Int32) then (6 : Int32) else (if shape = (48 : Int32) then (5 : Int32) else (7 : Int32)))), (7, .ref (A 9 slats.toNatClampNeg)), (6, .ref (A 8 batch.toNatClampNeg)), (0, .ref (A 0 0)), (1, .int batch), (2, .int slats), (3, .int shape), (4, .int many), (5, .int hand)]) rfl dX1_lay_102 ?_
      refine g_iconst F (v := (2 : Int32)) (by decide) dX1_lay_104 ?_
      refine g_iload F 7 rfl dX1_lay_105 ?_
      refine g_iload F 0 rfl dX1_lay_107 ?_
      refine g_iadd F dX1_lay_109 ?_
      refine g_iconst F (v := (1 : Int32)) (by decide) dX1_lay_110 ?_
      refine g_isub F dX1_lay_111 ?_
      refine g_iload F 0 rfl dX1_lay_112 ?_
      refine g_idiv F (by (repeat' split) <;> decide) dX1_lay_114 ?_
      refine g_imul F dX1_lay_115 ?_
      refine g_istore F (by show 9 < 12; decide) (lv2 := [(9, .int ((2 : Int32) * (((many + (if shape = (54 : Int32) then (6 : Int32) else (if shape = (48 : Int32) then (5 : Int32) else (7 : Int32)))) - (1 : Int32)) / (if shape = (54 : Int32) then (6 : Int32) else (if shape = (48 : Int32) then (5 : Int32) else (7 : Int32)))))), (8, .int (if shape = (54 : Int32) then (6 : Int32) else (if shape = (48 : Int32) then (5 : Int32) else (7 : Int32)))), (7, .ref (A 9 slats.toNatClampNeg)), (6, .ref (A 8 batch.toNatClampNeg)), (0, .ref (A 0 0)), (1, .int batch), (2, .int slats), (3, .int shape), (4, .int many), (5, .int hand)]) rfl dX1_lay_116 ?_
      refine g_aload F 3 rfl dX1_lay_118 ?_
      refine g_callV F (kX9_isFired hl (pr_at (κ := 8) (i := batch.toNatClampNeg) (by decide) (gc6 (by decide) c_1.2) (gce rfl rfl))) (g_recv F clX9 (gd_obj (pr_at (κ := 8) (i := batch.toNatClampNeg) (by decide) (gc6 (by decide) c_1.2) (gce rfl rfl)))) q962 q963 q964 q47 q965 myX9_isFired ⟨by decide, by decide⟩ rfl rfl (gle rfl) 5 20 (gle rfl) (gle rfl) (gle rfl) (gle rfl) dX1_lay_120 gx_n (gv_i ?_)
      have J_17 : gW (X, G, 12, Q) (gP 0 G S A Fr []) [(9, .int ((2 : Int32) * (((many + (if shape = (54 : Int32) then (6 : Int32) else (if shape = (48 : Int32) then (5 : Int32) else (7 : Int32)))) - (1 : Int32)) / (if shape = (54 : Int32) then (6 : Int32) else (if shape = (48 : Int32) then (5 : Int32) else (7 : Int32)))))), (8, .int (if shape = (54 : Int32) then (6 : Int32) else (if shape = (48 : Int32) then (5 : Int32) else (7 : Int32)))), (7, .ref (A 9 slats.toNatClampNeg)), (6, .ref (A 8 batch.toNatClampNeg)), (0, .ref (A 0 0)), (1, .int batch), (2, .int slats), (3, .int shape), (4, .int many), (5, .int hand)] 163 [.int (gb ((¬ ((S.1 8 batch.toNatClampNeg 6) = (-1 : Int32))) ∧ ((¬ ((S.1 0 0 0) < (S.1 8 batch.toNatClampNeg 4))) ∧ (¬ ((S.1 0 0 0) < (S.1 9 slats.toNatClampNeg 5)) ∧ (¬ ((S.1 9 slats.toNatClampNeg 4) ≤ 0))))))] 5 20 := by
        refine g_istore F (by show 10 < 12; decide) (lv2 := [(10, .int (gb ((¬ ((S.1 8 batch.toNatClampNeg 6) = (-1 : Int32))) ∧ ((¬ ((S.1 0 0 0) < (S.1 8 batch.toNatClampNeg 4))) ∧ (¬ ((S.1 0 0 0) < (S.1 9 slats.toNatClampNeg 5)) ∧ (¬ ((S.1 9 slats.toNatClampNeg 4) ≤ 0))))))), (9, .int ((2 : Int32) * (((many + (if shape = (54 : Int32) then (6 : Int32) else (if shape = (48 : Int32) then (5 : Int32) else (7 : Int32)))) - (1 : Int32)) / (if shape = (54 : Int32) then (6 : Int32) else (if shape = (48 : Int32) then (5 : Int32) else (7 : Int32)))))), (8, .int (if shape = (54 : Int32) then (6 : Int32) else (if shape = (48 : Int32) then (5 : Int32) else (7 : Int32)))), (7, .ref (A 9 slats.toNatClampNeg)), (6, .ref (A 8 batch.toNatClampNeg)), (0, .ref (A 0 0)), (1, .int batch), (2, .int slats), (3, .int shape), (4, .int many), (5, .int hand)]) rfl dX1_lay_163 ?_
        refine g_iload F 0 rfl dX1_lay_165 ?_
        have J_22 : gW (X, G, 12, Q) (gP 0 G S A Fr []) [(10, .int (gb ((¬ ((S.1 8 batch.toNatClampNeg 6) = (-1 : Int32))) ∧ ((¬ ((S.1 0 0 0) < (S.1 8 batch.toNatClampNeg 4))) ∧ (¬ ((S.1 0 0 0) < (S.1 9 slats.toNatClampNeg 5)) ∧ (¬ ((S.1 9 slats.toNatClampNeg 4) ≤ 0))))))), (9, .int ((2 : Int32) * (((many + (if shape = (54 : Int32) then (6 : Int32) else (if shape = (48 : Int32) then (5 : Int32) else (7 : Int32)))) - (1 : Int32)) / (if shape = (54 : Int32) then (6 : Int32) else (if shape = (48 : Int32) then (5 : Int32) else (7 : Int32)))))), (8, .int (if shape = (54 : Int32) then (6 : Int32) else (if shape = (48 : Int32) then (5 : Int32) else (7 : Int32)))), (7, .ref (A 9 slats.toNatClampNeg)), (6, .ref (A 8 batch.toNatClampNeg)), (0, .ref (A 0 0)), (1, .int batch), (2, .int slats), (3, .int shape), (4, .int many), (5, .int hand)] 206 [.int (gb (((¬ ((S.1 8 batch.toNatClampNeg 6) = (-1 : Int32))) ∧ ((¬ ((S.1 0 0 0) < (S.1 8 batch.toNatClampNeg 4))) ∧ (¬ ((S.1 0 0 0) < (S.1 9 slats.toNatClampNeg 5)) ∧ (¬ ((S.1 9 slats.toNatClampNeg 4) ≤ 0))))) ∧ (¬ ((2 : Int32) < (gabs (2 * (S.1 9 slats.toNatClampNeg 4) - (S.1 8 batch.toNatClampNeg 3)))) ∧ (¬ ((S.1 8 batch.toNatClampNeg 1) < many) ∧ (¬ ((S.1 9 slats.toNatClampNeg 3) < ((2 : Int32) * (((many + (if shape = (54 : Int32) then (6 : Int32) else (if shape = (48 : Int32) then (5 : Int32) else (7 : Int32)))) - (1 : Int32)) / (if shape = (54 : Int32) then (6 : Int32) else (if shape = (48 : Int32) then (5 : Int32) else (7 : Int32)))))))))))] 5 20 := by
          refine g_callS F (kX1_requireSupported hl (c := ((¬ ((S.1 8 batch.toNatClampNeg 6) = (-1 : Int32))) ∧ ((¬ ((S.1 0 0 0) < (S.1 8 batch.toNatClampNeg 4))) ∧ (¬ ((S.1 0 0 0) < (S.1 9 slats.toNatClampNeg 5)) ∧ (¬ ((S.1 9 slats.toNatClampNeg 4) ≤ 0))))) ∧ (¬ ((2 : Int32) < (gabs (2 * (S.1 9 slats.toNatClampNeg 4) - (S.1 8 batch.toNatClampNeg 3)))) ∧ (¬ ((S.1 8 batch.toNatClampNeg 1) < many) ∧ (¬ ((S.1 9 slats.toNatClampNeg 3) < ((2 : Int32) * (((many + (if shape = (54 : Int32) then (6 : Int32) else (if shape = (48 : Int32) then (5 : Int32) else (7 : Int32)))) - (1 : Int32)) / (if shape = (54 : Int32) then (6 : Int32) else (if shape = (48 : Int32) then (5 : Int32) else (7 : Int32))))))))))) (lw_S q512 q513 q18 q514) myX1_requireSupported ⟨by decide, by decide⟩ rfl rfl (gle rfl) 6 26 (gle rfl) (gle rfl) (gle rfl) (gle rfl) dX1_lay_206 (gx_1 (fun c_23 => g_out0 F E (gle rfl) (gle rfl) (fun _ hp => ⟨((if_pos c_1).trans ((if_pos c_2).trans ((if_pos c_9).trans (if_neg c_23)))), gPE_0 _ hp⟩))) (gv_c (fun c_23 => ?_))
          refine g_aload_n F 5 rfl rfl dX1_lay_209 ?_
          refine g_get F clX1 13 (by decide) q148 (v := .ref (A 310 0)) (gd_get (pr_at (κ := 0) (i := 0) (by decide) (gc1 (gnl rfl)) (gce rfl rfl)) rfl) dX1_lay_210 ?_
          refine g_callF F clJ3 (kJ3_size hl (pr_ls (M := 0) (S := S) (A := A) (κ := 10) (by decide) (Or.inl ⟨by decide, by decide⟩) (fun q => by first | decide | exact absurd q (by decide)) (fun q => by first | decide | exact absurd q (by decide)))) (g_recv F clJ3 (gls_obj (pr_ls (M := 0) (S := S) (A := A) (κ := 10) (by decide) (Or.inl ⟨by decide, by decide⟩) (fun q => by first | decide | exact absurd q (by decide)) (fun q => by first | decide | exact absurd q (by decide))))) q631 q634 q636 q22 q638 (List.mem_of_getElem? (i := 0) rfl) (gT_w q637 rfl) (gT_w q635 rfl) (gT_w q293 rfl) gface_0 ⟨by decide, by decide⟩ rfl rfl (gle rfl) 6 26 (gle rfl) (gle rfl) (gle rfl) (gle rfl) dX1_lay_213 gx_n (gv_i ?_)
          refine g_bipush F (v := (16 : Int32)) (by decide) dX1_lay_218 ?_
          have J_25 : gW (X, G, 12, Q) (gP 0 G S A Fr []) [(10, .int (gb ((¬ ((S.1 8 batch.toNatClampNeg 6) = (-1 : Int32))) ∧ ((¬ ((S.1 0 0 0) < (S.1 8 batch.toNatClampNeg 4))) ∧ (¬ ((S.1 0 0 0) < (S.1 9 slats.toNatClampNeg 5)) ∧ (¬ ((S.1 9 slats.toNatClampNeg 4) ≤ 0))))))), (9, .int ((2 : Int32) * (((many + (if shape = (54 : Int32) then (6 : Int32) else (if shape = (48 : Int32) then (5 : Int32) else (7 : Int32)))) - (1 : Int32)) / (if shape = (54 : Int32) then (6 : Int32) else (if shape = (48 : Int32) then (5 : Int32) else (7 : Int32)))))), (8, .int (if shape = (54 : Int32) then (6 : Int32) else (if shape = (48 : Int32) then (5 : Int32) else (7 : Int32)))), (7, .ref (A 9 slats.toNatClampNeg)), (6, .ref (A 8 batch.toNatClampNeg)), (0, .ref (A 0 0)), (1, .int batch), (2, .int slats), (3, .int shape), (4, .int many), (5, .int hand)] 228 [.int (gb (¬ ((16 : Int32) ≤ (nI (S.2 10)))))] 6 26 := by
            refine g_callS F (kX1_requireState hl (c := ¬ ((16 : Int32) ≤ (nI (S.2 10))))) (lw_S q406 q407 q18 q408) myX1_requireState ⟨by decide, by decide⟩ rfl rfl (gle rfl) 7 32 (gle rfl) (gle rfl) (gle rfl) (gle rfl) dX1_lay_228 (gx_1 (fun c_26 => g_out0 F E (gle rfl) (gle rfl) (fun _ hp => ⟨((if_pos c_1).trans ((if_pos c_2).trans ((if_pos c_9).trans ((if_pos c_23).trans (if_neg c_26))))), gPE_0 _ hp⟩))) (gv_c (fun c_26 => ?_))
            refine g_aload F 4 rfl dX1_lay_231 ?_
            refine g_dup F rfl dX1_lay_233 ?_
            refine g_getN F clX9 3 (by decide) (gT_w q891 rfl) (v := .int (S.1 8 batch.toNatClampNeg 1)) (gd_get (pr_at (κ := 8) (i := batch.toNatClampNeg) (by decide) (gc6 (by decide) c_1.2) (gce rfl rfl)) rfl) dX1_lay_234 ?_
            refine g_iload F 9 rfl dX1_lay_237 ?_
            refine g_isub F dX1_lay_239 ?_
            refine g_putN (P2 := gP 0 G (gsr S.1 8 batch.toNatClampNeg (upd (S.1 8 batch.toNatClampNeg) 1 ((S.1 8 batch.toNatClampNeg 1) - many)), S.2) A Fr []) F clX9 3 (by decide) (gT_w q891 rfl) rfl rfl rfl (pr_put (κ := 8) (i := batch.toNatClampNeg) gM0 hF (upd (S.1 8 batch.toNatClampNeg) 1 ((S.1 8 batch.toNatClampNeg 1) - many)) (by decide) (gc6 (by decide) c_1.2) (gce rfl rfl) (gnl rfl) rfl) dX1_lay_240 ?_
            refine g_aload F 3 rfl dX1_lay_243 ?_
            refine g_dup F rfl dX1_lay_245 ?_
            refine g_getN F clX11 4 (by decide) (gT_w q1018 rfl) (v := .int (S.1 9 slats.toNatClampNeg 3)) (gd_get (pr_at (κ := 9) (i := slats.toNatClampNeg) (by decide) (gc6 (by decide) c_2.2) (gce (show (gsr S.1 8 batch.toNatClampNeg (upd (S.1 8 batch.toNatClampNeg) 1 ((S.1 8 batch.toNatClampNeg 1) - many))) 9 slats.toNatClampNeg = S.1 9 slats.toNatClampNeg from (gsr_p (by decide) rfl)) rfl)) rfl) dX1_lay_246 ?_
            refine g_iload F 1 rfl dX1_lay_249 ?_
            refine g_isub F dX1_lay_251 ?_
            refine g_putN (P2 := gP 0 G (gsr (gsr S.1 8 batch.toNatClampNeg (upd (S.1 8 batch.toNatClampNeg) 1 ((S.1 8 batch.toNatClampNeg 1) - many))) 9 slats.toNatClampNeg (upd (S.1 9 slats.toNatClampNeg) 3 ((S.1 9 slats.toNatClampNeg 3) - ((2 : Int32) * (((many + (if shape = (54 : Int32) then (6 : Int32) else (if shape = (48 : Int32) then (5 : Int32) else (7 : Int32)))) - (1 : Int32)) / (if shape = (54 : Int32) then (6 : Int32) else (if shape = (48 : Int32) then (5 : Int32) else (7 : Int32))))))), S.2) A Fr []) F clX11 4 (by decide) (gT_w q1018 rfl) rfl rfl rfl (pr_put (κ := 9) (i := slats.toNatClampNeg) gM0 hF (upd (S.1 9 slats.toNatClampNeg) 3 ((S.1 9 slats.toNatClampNeg 3) - ((2 : Int32) * (((many + (if shape = (54 : Int32) then (6 : Int32) else (if shape = (48 : Int32) then (5 : Int32) else (7 : Int32)))) - (1 : Int32)) / (if shape = (54 : Int32) then (6 : Int32) else (if shape = (48 : Int32) then (5 : Int32) else (7 : Int32))))))) (by decide) (gc6 (by decide) c_2.2) (gce (show (gsr S.1 8 batch.toNatClampNeg (upd (S.1 8 batch.toNatClampNeg) 1 ((S.1 8 batch.toNatClampNeg 1) - many))) 9 slats.toNatClampNeg = S.1 9 slats.toNatClampNeg from (gsr_p (by decide) rfl)) rfl) (gnl rfl) rfl) dX1_lay_252 ?_
            refine g_aload_n F 5 rfl rfl dX1_lay_255 ?_
            refine g_dup F rfl dX1_lay_256 ?_
            refine g_get F clX1 14 (by decide) q149 (v := .int (S.1 0 0 3)) (gd_get (pr_at (κ := 0) (i := 0) (by decide) (gc1 (gnl rfl)) (gce (show (gsr (gsr S.1 8 batch.toNatClampNeg (upd (S.1 8 batch.toNatClampNeg) 1 ((S.1 8 batch.toNatClampNeg 1) - many))) 9 slats.toNatClampNeg (upd (S.1 9 slats.toNatClampNeg) 3 ((S.1 9 slats.toNatClampNeg 3) - ((2 : Int32) * (((many + (if shape = (54 : Int32) then (6 : Int32) else (if shape = (48 : Int32) then (5 : Int32) else (7 : Int32)))) - (1 : Int32)) / (if shape = (54 : Int32) then (6 : Int32) else (if shape = (48 : Int32) then (5 : Int32) else (7 : Int32)))))))) 0 0 = S.1 0 0 from (gsr_p (by decide) (gsr_p (by decide) rfl))) rfl)) rfl) dX1_lay_257 ?_
            refine g_iload F 9 rfl dX1_lay_260 ?_
            refine g_iadd F dX1_lay_262 ?_
            refine g_put (P2 := gP 0 G (gsr (gsr (gsr S.1 8 batch.toNatClampNeg (upd (S.1 8 batch.toNatClampNeg) 1 ((S.1 8 batch.toNatClampNeg 1) - many))) 9 slats.toNatClampNeg (upd (S.1 9 slats.toNatClampNeg) 3 ((S.1 9 slats.toNatClampNeg 3) - ((2 : Int32) * (((many + (if shape = (54 : Int32) then (6 : Int32) else (if shape = (48 : Int32) then (5 : Int32) else (7 : Int32)))) - (1 : Int32)) / (if shape = (54 : Int32) then (6 : Int32) else (if shape = (48 : Int32) then (5 : Int32) else (7 : Int32)))))))) 0 0 (upd (S.1 0 0) 3 ((S.1 0 0 3) + many)), S.2) A Fr []) F clX1 14 (by decide) q149 rfl rfl rfl (pr_put (κ := 0) (i := 0) gM0 hF (upd (S.1 0 0) 3 ((S.1 0 0 3) + many)) (by decide) (gc1 (gnl rfl)) (gce (show (gsr (gsr S.1 8 batch.toNatClampNeg (upd (S.1 8 batch.toNatClampNeg) 1 ((S.1 8 batch.toNatClampNeg 1) - many))) 9 slats.toNatClampNeg (upd (S.1 9 slats.toNatClampNeg) 3 ((S.1 9 slats.toNatClampNeg 3) - ((2 : Int32) * (((many + (if shape = (54 : Int32) then (6 : Int32) else (if shape = (48 : Int32) then (5 : Int32) else (7 : Int32)))) - (1 : Int32)) / (if shape = (54 : Int32) then (6 : Int32) else (if shape = (48 : Int32) then (5 : Int32) else (7 : Int32)))))))) 0 0 = S.1 0 0 from (gsr_p (by decide) (gsr_p (by decide) rfl))) rfl) (gnl rfl) rfl) dX1_lay_263 ?_
            refine g_new F clX13 q297 q1073 q51 (5000, 0) (fs := [.int (0 : Int32), .null, .null, .int (0 : Int32), .int (0 : Int32), .int (0 : Int32), .int (0 : Int32), .int (0 : Int32), .int (0 : Int32), .int (0 : Int32), .int (0 : Int32), .int (0 : Int32)]) rfl 8 44 (gle rfl) (gle rfl) (gle rfl) (gle rfl) (Pa := fun a_27 => gP 0 G (gsr (gsr (gsr S.1 8 batch.toNatClampNeg (upd (S.1 8 batch.toNatClampNeg) 1 ((S.1 8 batch.toNatClampNeg 1) - many))) 9 slats.toNatClampNeg (upd (S.1 9 slats.toNatClampNeg) 3 ((S.1 9 slats.toNatClampNeg 3) - ((2 : Int32) * (((many + (if shape = (54 : Int32) then (6 : Int32) else (if shape = (48 : Int32) then (5 : Int32) else (7 : Int32)))) - (1 : Int32)) / (if shape = (54 : Int32) then (6 : Int32) else (if shape = (48 : Int32) then (5 : Int32) else (7 : Int32)))))))) 0 0 (upd (S.1 0 0) 3 ((S.1 0 0 3) + many)), S.2) A Fr [(a_27, .inr (10, [.int (0 : Int32), .null, .null, .int (0 : Int32), .int (0 : Int32), .int (0 : Int32), .int (0 : Int32), .int (0 : Int32), .int (0 : Int32), .int (0 : Int32), .int (0 : Int32), .int (0 : Int32)]))]) (pr_new hF) dX1_lay_266 (fun a_27 => ?_)
            refine g_dup F rfl dX1_lay_269 ?_
            refine g_aload_n F 5 rfl rfl dX1_lay_270 ?_
            refine g_get F clX1 13 (by decide) q148 (v := .ref (A 310 0)) (gd_get (pr_at (κ := 0) (i := 0) (by decide) (gc1 (gnl rfl)) (gce (show (gsr (gsr (gsr S.1 8 batch.toNatClampNeg (upd (S.1 8 batch.toNatClampNeg) 1 ((S.1 8 batch.toNatClampNeg 1) - many))) 9 slats.toNatClampNeg (upd (S.1 9 slats.toNatClampNeg) 3 ((S.1 9 slats.toNatClampNeg 3) - ((2 : Int32) * (((many + (if shape = (54 : Int32) then (6 : Int32) else (if shape = (48 : Int32) then (5 : Int32) else (7 : Int32)))) - (1 : Int32)) / (if shape = (54 : Int32) then (6 : Int32) else (if shape = (48 : Int32) then (5 : Int32) else (7 : Int32)))))))) 0 0 (upd (S.1 0 0) 3 ((S.1 0 0 3) + many))) 0 0 = upd (S.1 0 0) 3 ((S.1 0 0 3) + many) from gsr_s) rfl)) rfl) dX1_lay_271 ?_
            refine g_callF F clJ3 (kJ3_size hl (pr_ls (M := 0) (S := (gsr (gsr (gsr S.1 8 batch.toNatClampNeg (upd (S.1 8 batch.toNatClampNeg) 1 ((S.1 8 batch.toNatClampNeg 1) - many))) 9 slats.toNatClampNeg (upd (S.1 9 slats.toNatClampNeg) 3 ((S.1 9 slats.toNatClampNeg 3) - ((2 : Int32) * (((many + (if shape = (54 : Int32) then (6 : Int32) else (if shape = (48 : Int32) then (5 : Int32) else (7 : Int32)))) - (1 : Int32)) / (if shape = (54 : Int32) then (6 : Int32) else (if shape = (48 : Int32) then (5 : Int32) else (7 : Int32)))))))) 0 0 (upd (S.1 0 0) 3 ((S.1 0 0 3) + many)), S.2)) (A := A) (κ := 10) (by decide) (Or.inl ⟨by decide, by decide⟩) (fun q => by first | decide | exact absurd q (by decide)) (fun q => by first | decide | exact absurd q (by decide)))) (g_recv F clJ3 (gls_obj (pr_ls (M := 0) (S := (gsr (gsr (gsr S.1 8 batch.toNatClampNeg (upd (S.1 8 batch.toNatClampNeg) 1 ((S.1 8 batch.toNatClampNeg 1) - many))) 9 slats.toNatClampNeg (upd (S.1 9 slats.toNatClampNeg) 3 ((S.1 9 slats.toNatClampNeg 3) - ((2 : Int32) * (((many + (if shape = (54 : Int32) then (6 : Int32) else (if shape = (48 : Int32) then (5 : Int32) else (7 : Int32)))) - (1 : Int32)) / (if shape = (54 : Int32) then (6 : Int32) else (if shape = (48 : Int32) then (5 : Int32) else (7 : Int32)))))))) 0 0 (upd (S.1 0 0) 3 ((S.1 0 0 3) + many)), S.2)) (A := A) (κ := 10) (by decide) (Or.inl ⟨by decide, by decide⟩) (fun q => by first | decide | exact absurd q (by decide)) (fun q => by first | decide | exact absurd q (by decide))))) q631 q634 q636 q22 q638 (List.mem_of_getElem? (i := 0) rfl) (gT_w q637 rfl) (gT_w q635 rfl) (gT_w q293 rfl) gface_0 ⟨by decide, by decide⟩ rfl rfl (gle rfl) 8 44 (gle rfl) (gle rfl) (gle rfl) (gle rfl) dX1_lay_274 gx_n (gv_i ?_)
            refine g_aload F 4 rfl dX1_lay_279 ?_
            refine g_aload F 3 rfl dX1_lay_281 ?_
            refine g_iload F 9 rfl dX1_lay_283 ?_
            refine g_iload F 10 rfl dX1_lay_285 ?_
            refine g_callI F (kX13_init hl (pr_atT (j := 0) rfl) (pr_at (κ := 8) (i := batch.toNatClampNeg) (by decide) (gc6 (by decide) c_1.2) (gce (show (gsr (gsr (gsr S.1 8 batch.toNatClampNeg (upd (S.1 8 batch.toNatClampNeg) 1 ((S.1 8 batch.toNatClampNeg 1) - many))) 9 slats.toNatClampNeg (upd (S.1 9 slats.toNatClampNeg) 3 ((S.1 9 slats.toNatClampNeg 3) - ((2 : Int32) * (((many + (if shape = (54 : Int32) then (6 : Int32) else (if shape = (48 : Int32) then (5 : Int32) else (7 : Int32)))) - (1 : Int32)) / (if shape = (54 : Int32) then (6 : Int32) else (if shape = (48 : Int32) then (5 : Int32) else (7 : Int32)))))))) 0 0 (upd (S.1 0 0) 3 ((S.1 0 0 3) + many))) 8 batch.toNatClampNeg = upd (S.1 8 batch.toNatClampNeg) 1 ((S.1 8 batch.toNatClampNeg 1) - many) from (gsr_p (by decide) (gsr_p (by decide) gsr_s))) rfl)) (pr_at (κ := 9) (i := slats.toNatClampNeg) (by decide) (gc6 (by decide) c_2.2) (gce (show (gsr (gsr (gsr S.1 8 batch.toNatClampNeg (upd (S.1 8 batch.toNatClampNeg) 1 ((S.1 8 batch.toNatClampNeg 1) - many))) 9 slats.toNatClampNeg (upd (S.1 9 slats.toNatClampNeg) 3 ((S.1 9 slats.toNatClampNeg 3) - ((2 : Int32) * (((many + (if shape = (54 : Int32) then (6 : Int32) else (if shape = (48 : Int32) then (5 : Int32) else (7 : Int32)))) - (1 : Int32)) / (if shape = (54 : Int32) then (6 : Int32) else (if shape = (48 : Int32) then (5 : Int32) else (7 : Int32)))))))) 0 0 (upd (S.1 0 0) 3 ((S.1 0 0 3) + many))) 9 slats.toNatClampNeg = upd (S.1 9 slats.toNatClampNeg) 3 ((S.1 9 slats.toNatClampNeg 3) - ((2 : Int32) * (((many + (if shape = (54 : Int32) then (6 : Int32) else (if shape = (48 : Int32) then (5 : Int32) else (7 : Int32)))) - (1 : Int32)) / (if shape = (54 : Int32) then (6 : Int32) else (if shape = (48 : Int32) then (5 : Int32) else (7 : Int32)))))) from (gsr_p (by decide) gsr_s)) rfl))) rfl q1074 q1075 q51 q1076 myX13_init ⟨by decide, by decide⟩ rfl rfl (gle rfl) 8 44 (gle rfl) (gle rfl) (gle rfl) (gle rfl) dX1_lay_287 gx_n (gv_v ?_)
            refine g_mono (P2 := gP 0 G (gsr (gsr (gsr S.1 8 batch.toNatClampNeg (upd (S.1 8 batch.toNatClampNeg) 1 ((S.1 8 batch.toNatClampNeg 1) - many))) 9 slats.toNatClampNeg (upd (S.1 9 slats.toNatClampNeg) 3 ((S.1 9 slats.toNatClampNeg 3) - ((2 : Int32) * (((many + (if shape = (54 : Int32) then (6 : Int32) else (if shape = (48 : Int32) then (5 : Int32) else (7 : Int32)))) - (1 : Int32)) / (if shape = (54 : Int32) then (6 : Int32) else (if shape = (48 : Int32) then (5 : Int32) else (7 : Int32)))))))) 0 0 (upd (S.1 0 0) 3 ((S.1 0 0 3) + many)), S.2) A Fr [(a_27, .inr (10, [.int (nI (S.2 10)), .ref (A 8 batch.toNatClampNeg), .ref (A 9 slats.toNatClampNeg), .int hand, .int (gabs (2 * (S.1 9 slats.toNatClampNeg 4) - (S.1 8 batch.toNatClampNeg 3)) + (S.1 9 slats.toNatClampNeg 1) / 4), .int many, .int (0 : Int32), .int (0 : Int32), .int (-1 : Int32), .int (-1 : Int32), .int (0 : Int32), .int (0 : Int32)]))]) (pr_up gM0 hF (j := 0) rfl) ?_
            refine g_astore F (by show 11 < 12; decide) (lv2 := [(11, .ref a_27), (10, .int (gb ((¬ ((S.1 8 batch.toNatClampNeg 6) = (-1 : Int32))) ∧ ((¬ ((S.1 0 0 0) < (S.1 8 batch.toNatClampNeg 4))) ∧ (¬ ((S.1 0 0 0) < (S.1 9 slats.toNatClampNeg 5)) ∧ (¬ ((S.1 9 slats.toNatClampNeg 4) ≤ 0))))))), (9, .int ((2 : Int32) * (((many + (if shape = (54 : Int32) then (6 : Int32) else (if shape = (48 : Int32) then (5 : Int32) else (7 : Int32)))) - (1 : Int32)) / (if shape = (54 : Int32) then (6 : Int32) else (if shape = (48 : Int32) then (5 : Int32) else (7 : Int32)))))), (8, .int (if shape = (54 : Int32) then (6 : Int32) else (if shape = (48 : Int32) then (5 : Int32) else (7 : Int32)))), (7, .ref (A 9 slats.toNatClampNeg)), (6, .ref (A 8 batch.toNatClampNeg)), (0, .ref (A 0 0)), (1, .int batch), (2, .int slats), (3, .int shape), (4, .int many), (5, .int hand)]) rfl dX1_lay_290 ?_
            refine g_aload F 0 rfl dX1_lay_292 ?_
            refine g_aload_n F 6 rfl rfl dX1_lay_294 ?_
            refine g_get F clX1 0 (by decide) q135 (v := .int (S.1 0 0 0)) (gd_get (pr_at (κ := 0) (i := 0) (by decide) (gc1 (gnl rfl)) (gce (show (gsr (gsr (gsr S.1 8 batch.toNatClampNeg (upd (S.1 8 batch.toNatClampNeg) 1 ((S.1 8 batch.toNatClampNeg 1) - many))) 9 slats.toNatClampNeg (upd (S.1 9 slats.toNatClampNeg) 3 ((S.1 9 slats.toNatClampNeg 3) - ((2 : Int32) * (((many + (if shape = (54 : Int32) then (6 : Int32) else (if shape = (48 : Int32) then (5 : Int32) else (7 : Int32)))) - (1 : Int32)) / (if shape = (54 : Int32) then (6 : Int32) else (if shape = (48 : Int32) then (5 : Int32) else (7 : Int32)))))))) 0 0 (upd (S.1 0 0) 3 ((S.1 0 0 3) + many))) 0 0 = upd (S.1 0 0) 3 ((S.1 0 0 3) + many) from gsr_s) rfl)) rfl) dX1_lay_295 ?_
            refine g_bipush F (v := (6 : Int32)) (by decide) dX1_lay_298 ?_
            refine g_iadd F dX1_lay_300 ?_
            refine g_putN (P2 := gP 0 G (gsr (gsr (gsr S.1 8 batch.toNatClampNeg (upd (S.1 8 batch.toNatClampNeg) 1 ((S.1 8 batch.toNatClampNeg 1) - many))) 9 slats.toNatClampNeg (upd (S.1 9 slats.toNatClampNeg) 3 ((S.1 9 slats.toNatClampNeg 3) - ((2 : Int32) * (((many + (if shape = (54 : Int32) then (6 : Int32) else (if shape = (48 : Int32) then (5 : Int32) else (7 : Int32)))) - (1 : Int32)) / (if shape = (54 : Int32) then (6 : Int32) else (if shape = (48 : Int32) then (5 : Int32) else (7 : Int32)))))))) 0 0 (upd (S.1 0 0) 3 ((S.1 0 0 3) + many)), S.2) A Fr [(a_27, .inr (10, [.int (nI (S.2 10)), .ref (A 8 batch.toNatClampNeg), .ref (A 9 slats.toNatClampNeg), .int hand, .int (gabs (2 * (S.1 9 slats.toNatClampNeg 4) - (S.1 8 batch.toNatClampNeg 3)) + (S.1 9 slats.toNatClampNeg 1) / 4), .int many, .int (0 : Int32), .int (0 : Int32), .int (-1 : Int32), .int (-1 : Int32), .int ((S.1 0 0 0) + (6 : Int32)), .int (0 : Int32)]))]) F clX13 10 (by decide) (gT_w q1100 rfl) rfl rfl rfl (pr_putX (f := 10) (T := [(a_27, .inr (10, [.int (nI (S.2 10)), .ref (A 8 batch.toNatClampNeg), .ref (A 9 slats.toNatClampNeg), .int hand, .int (gabs (2 * (S.1 9 slats.toNatClampNeg 4) - (S.1 8 batch.toNatClampNeg 3)) + (S.1 9 slats.toNatClampNeg 1) / 4), .int many, .int (0 : Int32), .int (0 : Int32), .int (-1 : Int32), .int (-1 : Int32), .int (0 : Int32), .int (0 : Int32)]))]) (fs := [.int (nI (S.2 10)), .ref (A 8 batch.toNatClampNeg), .ref (A 9 slats.toNatClampNeg), .int hand, .int (gabs (2 * (S.1 9 slats.toNatClampNeg 4) - (S.1 8 batch.toNatClampNeg 3)) + (S.1 9 slats.toNatClampNeg 1) / 4), .int many, .int (0 : Int32), .int (0 : Int32), .int (-1 : Int32), .int (-1 : Int32), .int (0 : Int32), .int (0 : Int32)]) (v := .int ((S.1 0 0 0) + (6 : Int32))) gM0 hF (j := 0) rfl (gnl rfl)) dX1_lay_301 ?_
            refine g_aload_n F 6 rfl rfl dX1_lay_304 ?_
            refine g_get F clX1 13 (by decide) q148 (v := .ref (A 310 0)) (gd_get (pr_at (κ := 0) (i := 0) (by decide) (gc1 (gnl rfl)) (gce (show (gsr (gsr (gsr S.1 8 batch.toNatClampNeg (upd (S.1 8 batch.toNatClampNeg) 1 ((S.1 8 batch.toNatClampNeg 1) - many))) 9 slats.toNatClampNeg (upd (S.1 9 slats.toNatClampNeg) 3 ((S.1 9 slats.toNatClampNeg 3) - ((2 : Int32) * (((many + (if shape = (54 : Int32) then (6 : Int32) else (if shape = (48 : Int32) then (5 : Int32) else (7 : Int32)))) - (1 : Int32)) / (if shape = (54 : Int32) then (6 : Int32) else (if shape = (48 : Int32) then (5 : Int32) else (7 : Int32)))))))) 0 0 (upd (S.1 0 0) 3 ((S.1 0 0 3) + many))) 0 0 = upd (S.1 0 0) 3 ((S.1 0 0 3) + many) from gsr_s) rfl)) rfl) dX1_lay_305 ?_
            refine g_aload F 0 rfl dX1_lay_308 ?_
            refine g_callF F clJ3 (kJ3_add hl (pr_ls (M := 0) (S := (gsr (gsr (gsr S.1 8 batch.toNatClampNeg (upd (S.1 8 batch.toNatClampNeg) 1 ((S.1 8 batch.toNatClampNeg 1) - many))) 9 slats.toNatClampNeg (upd (S.1 9 slats.toNatClampNeg) 3 ((S.1 9 slats.toNatClampNeg 3) - ((2 : Int32) * (((many + (if shape = (54 : Int32) then (6 : Int32) else (if shape = (48 : Int32) then (5 : Int32) else (7 : Int32)))) - (1 : Int32)) / (if shape = (54 : Int32) then (6 : Int32) else (if shape = (48 : Int32) then (5 : Int32) else (7 : Int32)))))))) 0 0 (upd (S.1 0 0) 3 ((S.1 0 0 3) + many)), S.2)) (A := A) (κ := 10) (by decide) (Or.inl ⟨by decide, by decide⟩) (fun q => by first | decide | exact absurd q (by decide)) (fun q => by first | decide | exact absurd q (by decide))) (Nat.le_trans (gw_64 (gWf_0 (r := upd (S.1 0 0) 3 ((S.1 0 0 3) + many)) (gWf_n (κ := 9) (i := slats.toNatClampNeg) (r := upd (S.1 9 slats.toNatClampNeg) 3 ((S.1 9 slats.toNatClampNeg 3) - ((2 : Int32) * (((many + (if shape = (54 : Int32) then (6 : Int32) else (if shape = (48 : Int32) then (5 : Int32) else (7 : Int32)))) - (1 : Int32)) / (if shape = (54 : Int32) then (6 : Int32) else (if shape = (48 : Int32) then (5 : Int32) else (7 : Int32))))))) (gWf_8 (i := batch.toNatClampNeg) (r := upd (S.1 8 batch.toNatClampNeg) 1 ((S.1 8 batch.toNatClampNeg 1) - many)) hW rfl) (by decide)) (gw_b hW)) _) (by decide)) (pr_elT (j := 0) rfl (Or.inl ⟨_, _, rfl, by decide, by decide⟩)) (pr_el (by decide) (by decide) (fun q => by first | decide | exact absurd q (by decide)) (fun q => by first | decide | exact absurd q (by decide)))) (g_recv F clJ3 (gls_obj (pr_ls (M := 0) (S := (gsr (gsr (gsr S.1 8 batch.toNatClampNeg (upd (S.1 8 batch.toNatClampNeg) 1 ((S.1 8 batch.toNatClampNeg 1) - many))) 9 slats.toNatClampNeg (upd (S.1 9 slats.toNatClampNeg) 3 ((S.1 9 slats.toNatClampNeg 3) - ((2 : Int32) * (((many + (if shape = (54 : Int32) then (6 : Int32) else (if shape = (48 : Int32) then (5 : Int32) else (7 : Int32)))) - (1 : Int32)) / (if shape = (54 : Int32) then (6 : Int32) else (if shape = (48 : Int32) then (5 : Int32) else (7 : Int32)))))))) 0 0 (upd (S.1 0 0) 3 ((S.1 0 0 3) + many)), S.2)) (A := A) (κ := 10) (by decide) (Or.inl ⟨by decide, by decide⟩) (fun q => by first | decide | exact absurd q (by decide)) (fun q => by first | decide | exact absurd q (by decide))))) q677 q680 q682 q22 q684 (List.mem_of_getElem? (i := 2) rfl) (gT_w q683 rfl) (gT_w q681 rfl) (gT_w q293 rfl) gface_2 ⟨by decide, by decide⟩ rfl rfl (gle rfl) 9 194 (gle rfl) (gle rfl) (gle rfl) (gle rfl) dX1_lay_310 gx_n (gv_i ?_)
            refine g_retag (P2 := gP 0 G (gsr (gsr (gsr (gsr S.1 8 batch.toNatClampNeg (upd (S.1 8 batch.toNatClampNeg) 1 ((S.1 8 batch.toNatClampNeg 1) - many))) 9 slats.toNatClampNeg (upd (S.1 9 slats.toNatClampNeg) 3 ((S.1 9 slats.toNatClampNeg 3) - ((2 : Int32) * (((many + (if shape = (54 : Int32) then (6 : Int32) else (if shape = (48 : Int32) then (5 : Int32) else (7 : Int32)))) - (1 : Int32)) / (if shape = (54 : Int32) then (6 : Int32) else (if shape = (48 : Int32) then (5 : Int32) else (7 : Int32)))))))) 0 0 (upd (S.1 0 0) 3 ((S.1 0 0 3) + many))) 10 (S.2 10) (gRw [batch, slats, hand, many, (0 : Int32), gabs (2 * (S.1 9 slats.toNatClampNeg 4) - (S.1 8 batch.toNatClampNeg 3)) + (S.1 9 slats.toNatClampNeg 1) / 4, (S.1 0 0 0) + (6 : Int32), (0 : Int32), (-1 : Int32), (-1 : Int32), (0 : Int32)]), va_up S.2 10 (S.2 10 + 1)) (gAa A 10 (S.2 10) a_27) Fr []) (pr_add (T0 := []) (κ := 10) gM0 hF (gWf_0 (r := upd (S.1 0 0) 3 ((S.1 0 0 3) + many)) (gWf_n (κ := 9) (i := slats.toNatClampNeg) (r := upd (S.1 9 slats.toNatClampNeg) 3 ((S.1 9 slats.toNatClampNeg 3) - ((2 : Int32) * (((many + (if shape = (54 : Int32) then (6 : Int32) else (if shape = (48 : Int32) then (5 : Int32) else (7 : Int32)))) - (1 : Int32)) / (if shape = (54 : Int32) then (6 : Int32) else (if shape = (48 : Int32) then (5 : Int32) else (7 : Int32))))))) (gWf_8 (i := batch.toNatClampNeg) (r := upd (S.1 8 batch.toNatClampNeg) 1 ((S.1 8 batch.toNatClampNeg 1) - many)) hW rfl) (by decide)) (gw_b hW)) (by decide) (by decide) (by decide) (gRw [batch, slats, hand, many, (0 : Int32), gabs (2 * (S.1 9 slats.toNatClampNeg 4) - (S.1 8 batch.toNatClampNeg 3)) + (S.1 9 slats.toNatClampNeg 1) / 4, (S.1 0 0 0) + (6 : Int32), (0 : Int32), (-1 : Int32), (-1 : Int32), (0 : Int32)]) rfl) ?_
            refine g_pop F rfl dX1_lay_315 ?_
            refine g_aload F 0 rfl dX1_lay_316 ?_
            refine g_getN F clX13 0 (by decide) (gT_w q1080 rfl) (v := .int (nI (S.2 10))) (gd_get (pr_atN (κ := 10) (by decide) (gc6 (by decide) (Nat.lt_succ_self _)) (gce gsr_s rfl)) rfl) dX1_lay_318 ?_
            exact g_retI F E rfl rfl (gle rfl) (gle rfl) dX1_lay_321 (fun _ hp => ⟨_, _, ((if_pos c_1).trans ((if_pos c_2).trans ((if_pos c_9).trans ((if_pos c_23).trans (if_pos c_26))))), rfl, ⟨gAa A 10 (S.2 10) a_27, rfl, gP_T0 hp⟩⟩)
          refine g_icmp_ge F (tgt := 227) (by decide) dX1_lay_220 (fun c_24 => ?_) (fun c_24 => ?_)
          · skip
            refine g_iconst F (v := (0 : Int32)) (by decide) dX1_lay_227 ?_
            exact g_top (gb_f (fun q => q c_24)) J_25
          · skip
            refine g_iconst F (v := (1 : Int32)) (by decide) dX1_lay_223 ?_
            refine g_goto F (tgt := 228) (by decide) dX1_lay_224 ?_
            exact g_top (gb_t c_24) J_25
        refine gb_if_eq F (tgt := 205) (by decide) dX1_lay_167 (fun c_18 => ?_) (fun c_18 => ?_)
        · skip
          refine g_iconst F (v := (0 : Int32)) (by decide) dX1_lay_205 ?_
          exact g_top (gb_f (fun q => c_18 q.1)) J_22
        · skip
          refine g_aload F 4 rfl dX1_lay_170 ?_
          refine g_aload F 3 rfl dX1_lay_172 ?_
          refine g_callS F (kX13_misfit hl (pr_at (κ := 8) (i := batch.toNatClampNeg) (by decide) (gc6 (by decide) c_1.2) (gce rfl rfl)) (pr_at (κ := 9) (i := slats.toNatClampNeg) (by decide) (gc6 (by decide) c_2.2) (gce rfl rfl))) (lw_S q1067 q1068 q51 q1069) myX13_misfit ⟨by decide, by decide⟩ rfl rfl (gle rfl) 5 20 (gle rfl) (gle rfl) (gle rfl) (gle rfl) dX1_lay_174 gx_n (gv_i ?_)
          refine g_iconst F (v := (2 : Int32)) (by decide) dX1_lay_177 ?_
          refine g_icmp_gt F (tgt := 205) (by decide) dX1_lay_178 (fun c_19 => ?_) (fun c_19 => ?_)
          · skip
            refine g_iconst F (v := (0 : Int32)) (by decide) dX1_lay_205 ?_
            exact g_top (gb_f (fun q => (fun q => q.1 c_19) q.2)) J_22
          · skip
            refine g_aload F 4 rfl dX1_lay_181 ?_
            refine g_getN F clX9 3 (by decide) (gT_w q891 rfl) (v := .int (S.1 8 batch.toNatClampNeg 1)) (gd_get (pr_at (κ := 8) (i := batch.toNatClampNeg) (by decide) (gc6 (by decide) c_1.2) (gce rfl rfl)) rfl) dX1_lay_183 ?_
            refine g_iload F 9 rfl dX1_lay_186 ?_
            refine g_icmp_lt F (tgt := 205) (by decide) dX1_lay_188 (fun c_20 => ?_) (fun c_20 => ?_)
            · skip
              refine g_iconst F (v := (0 : Int32)) (by decide) dX1_lay_205 ?_
              exact g_top (gb_f (fun q => (fun q => (fun q => q.1 c_20) q.2) q.2)) J_22
            · skip
              refine g_aload F 3 rfl dX1_lay_191 ?_
              refine g_getN F clX11 4 (by decide) (gT_w q1018 rfl) (v := .int (S.1 9 slats.toNatClampNeg 3)) (gd_get (pr_at (κ := 9) (i := slats.toNatClampNeg) (by decide) (gc6 (by decide) c_2.2) (gce rfl rfl)) rfl) dX1_lay_193 ?_
              refine g_iload F 1 rfl dX1_lay_196 ?_
              refine g_icmp_lt F (tgt := 205) (by decide) dX1_lay_198 (fun c_21 => ?_) (fun c_21 => ?_)
              · skip
                refine g_iconst F (v := (0 : Int32)) (by decide) dX1_lay_205 ?_
                exact g_top (gb_f (fun q => (fun q => (fun q => (fun q => q c_21) q.2) q.2) q.2)) J_22
              · skip
                refine g_iconst F (v := (1 : Int32)) (by decide) dX1_lay_201 ?_
                refine g_goto F (tgt := 206) (by decide) dX1_lay_202 ?_
                exact g_top (gb_t (⟨c_18, ⟨c_19, ⟨c_20, c_21⟩⟩⟩)) J_22
      refine gb_if_eq F (tgt := 162) (by decide) dX1_lay_123 (fun c_13 => ?_) (fun c_13 => ?_)
      · skip
        refine g_iconst F (v := (0 : Int32)) (by decide) dX1_lay_162 ?_
        exact g_top (gb_f (fun q => c_13 q.1)) J_17
      · skip
        refine g_aload F 3 rfl dX1_lay_126 ?_
        refine g_aload_n F 4 rfl rfl dX1_lay_128 ?_
        refine g_get F clX1 0 (by decide) q135 (v := .int (S.1 0 0 0)) (gd_get (pr_at (κ := 0) (i := 0) (by decide) (gc1 (gnl rfl)) (gce rfl rfl)) rfl) dX1_lay_129 ?_
        refine g_callV F (kX9_isReady hl (pr_at (κ := 8) (i := batch.toNatClampNeg) (by decide) (gc6 (by decide) c_1.2) (gce rfl rfl))) (g_recv F clX9 (gd_obj (pr_at (κ := 8) (i := batch.toNatClampNeg) (by decide) (gc6 (by decide) c_1.2) (gce rfl rfl)))) q958 q959 q960 q47 q961 myX9_isReady ⟨by decide, by decide⟩ rfl rfl (gle rfl) 5 20 (gle rfl) (gle rfl) (gle rfl) (gle rfl) dX1_lay_132 gx_n (gv_i ?_)
        refine gb_if_eq F (tgt := 162) (by decide) dX1_lay_135 (fun c_14 => ?_) (fun c_14 => ?_)
        · skip
          refine g_iconst F (v := (0 : Int32)) (by decide) dX1_lay_162 ?_
          exact g_top (gb_f (fun q => (fun q => c_14 q.1) q.2)) J_17
        · skip
          refine g_aload_n F 4 rfl rfl dX1_lay_138 ?_
          refine g_get F clX1 0 (by decide) q135 (v := .int (S.1 0 0 0)) (gd_get (pr_at (κ := 0) (i := 0) (by decide) (gc1 (gnl rfl)) (gce rfl rfl)) rfl) dX1_lay_139 ?_
          refine g_aload F 2 rfl dX1_lay_142 ?_
          refine g_getN F clX11 6 (by decide) (gT_w q1021 rfl) (v := .int (S.1 9 slats.toNatClampNeg 5)) (gd_get (pr_at (κ := 9) (i := slats.toNatClampNeg) (by decide) (gc6 (by decide) c_2.2) (gce rfl rfl)) rfl) dX1_lay_144 ?_
          refine g_icmp_lt F (tgt := 162) (by decide) dX1_lay_147 (fun c_15 => ?_) (fun c_15 => ?_)
          · skip
            refine g_iconst F (v := (0 : Int32)) (by decide) dX1_lay_162 ?_
            exact g_top (gb_f (fun q => (fun q => (fun q => q.1 c_15) q.2) q.2)) J_17
          · skip
            refine g_aload F 2 rfl dX1_lay_150 ?_
            refine g_getN F clX11 5 (by decide) (gT_w q1020 rfl) (v := .int (S.1 9 slats.toNatClampNeg 4)) (gd_get (pr_at (κ := 9) (i := slats.toNatClampNeg) (by decide) (gc6 (by decide) c_2.2) (gce rfl rfl)) rfl) dX1_lay_152 ?_
            refine g_if_le F (tgt := 162) (by decide) dX1_lay_155 (fun c_16 => ?_) (fun c_16 => ?_)
            · skip
              refine g_iconst F (v := (0 : Int32)) (by decide) dX1_lay_162 ?_
              exact g_top (gb_f (fun q => (fun q => (fun q => (fun q => q c_16) q.2) q.2) q.2)) J_17
            · skip
              refine g_iconst F (v := (1 : Int32)) (by decide) dX1_lay_158 ?_
              refine g_goto F (tgt := 163) (by decide) dX1_lay_159 ?_
              exact g_top (gb_t (⟨c_13, ⟨c_14, ⟨c_15, c_16⟩⟩⟩)) J_17
    refine g_icmp_ne F (tgt := 90) (by decide) dX1_lay_82 (fun c_10 => ?_) (fun c_10 => ?_)
    · skip
      refine g_iload_n F 5 rfl rfl dX1_lay_90 ?_
      refine g_bipush F (v := (48 : Int32)) (by decide) dX1_lay_91 ?_
      refine g_icmp_ne F (tgt := 100) (by decide) dX1_lay_93 (fun c_11 => ?_) (fun c_11 => ?_)
      · skip
        refine g_bipush F (v := (7 : Int32)) (by decide) dX1_lay_100 ?_
        exact g_top (by rw [if_neg c_10, if_neg c_11]) J_12
      · skip
        refine g_iconst F (v := (5 : Int32)) (by decide) dX1_lay_96 ?_
        refine g_goto F (tgt := 102) (by decide) dX1_lay_97 ?_
        exact g_top (by rw [if_neg c_10, if_pos c_11]) J_12
    · skip
      refine g_bipush F (v := (6 : Int32)) (by decide) dX1_lay_85 ?_
      refine g_goto F (tgt := 102) (by decide) dX1_lay_87 ?_
      exact g_top (by rw [if_pos c_10]) J_12
  refine g_if_lt F (tgt := 75) (by decide) dX1_lay_33 (fun c_3 => ?_) (fun c_3 => ?_)
  · skip
    refine g_iconst F (v := (0 : Int32)) (by decide) dX1_lay_75 ?_
    exact g_widen (by decide) (by decide) <| g_top (gb_f (fun q => q.1 c_3)) J_8
  · skip
    refine g_iconst F (v := (1 : Int32)) (by decide) dX1_lay_36 ?_
    refine g_sipush F (v := (500 : Int32)) (by decide) dX1_lay_37 ?_
    refine g_iconst F (v := (1 : Int32)) (by decide) dX1_lay_40 ?_
    refine g_newI F (5000, 0) (N := 1) rfl (by decide) 3 13 (gle rfl) (gle rfl) (gle rfl) (gle rfl) (Pa := fun a_4 => gP 0 G S A Fr [(a_4, gIA G 1 (fun _ => 0))]) (pr_new hF) dX1_lay_41 (fun a_4 => ?_)
    refine g_dup F rfl dX1_lay_43 ?_
    refine g_iconst F (v := (0 : Int32)) (by decide) dX1_lay_44 ?_
    refine g_iload F 6 rfl dX1_lay_45 ?_
    refine g_iastN (P2 := gP 0 G S A Fr [(a_4, gIA G 1 (upd (fun _ => 0) 0 many))]) F (m := 0) rfl (by decide) (by decide) (pr_setT gM0 hF (j := 0) rfl) dX1_lay_47 ?_
    refine g_callS F (kX1_isIn hl (pr_atT (j := 0) rfl)) (lw_S q305 q306 q18 q307) myX1_isIn ⟨by decide, by decide⟩ rfl rfl (gle rfl) 3 13 (gle rfl) (gle rfl) (gle rfl) (gle rfl) dX1_lay_48 gx_n (gv_i ?_)
    refine g_top (show _ = gb (¬ many < (1 : Int32) ∧ ¬ (500 : Int32) < many) from rfl) ?_
    refine g_mono (P2 := gP 0 G S A Fr []) (fun _ hp => gP_Tl 0 hp) ?_
    refine gb_if_eq F (tgt := 75) (by decide) dX1_lay_51 (fun c_5 => ?_) (fun c_5 => ?_)
    · skip
      refine g_iconst F (v := (0 : Int32)) (by decide) dX1_lay_75 ?_
      exact g_widen (by decide) (by decide) <| g_top (gb_f (fun q => (fun q => c_5 q.1) q.2)) J_8
    · skip
      refine g_iconst F (v := (0 : Int32)) (by decide) dX1_lay_54 ?_
      refine g_bipush F (v := (9 : Int32)) (by decide) dX1_lay_55 ?_
      refine g_iconst F (v := (1 : Int32)) (by decide) dX1_lay_57 ?_
      refine g_newI F (5000, 0) (N := 1) rfl (by decide) 4 14 (gle rfl) (gle rfl) (gle rfl) (gle rfl) (Pa := fun a_6 => gP 0 G S A Fr [(a_6, gIA G 1 (fun _ => 0))]) (pr_new hF) dX1_lay_58 (fun a_6 => ?_)
      refine g_dup F rfl dX1_lay_60 ?_
      refine g_iconst F (v := (0 : Int32)) (by decide) dX1_lay_61 ?_
      refine g_iload F 7 rfl dX1_lay_62 ?_
      refine g_iastN (P2 := gP 0 G S A Fr [(a_6, gIA G 1 (upd (fun _ => 0) 0 hand))]) F (m := 0) rfl (by decide) (by decide) (pr_setT gM0 hF (j := 0) rfl) dX1_lay_64 ?_
      refine g_callS F (kX1_isIn hl (pr_atT (j := 0) rfl)) (lw_S q305 q306 q18 q307) myX1_isIn ⟨by decide, by decide⟩ rfl rfl (gle rfl) 4 14 (gle rfl) (gle rfl) (gle rfl) (gle rfl) dX1_lay_65 gx_n (gv_i ?_)
      refine g_top (show _ = gb (¬ hand < (0 : Int32) ∧ ¬ (9 : Int32) < hand) from rfl) ?_
      refine g_mono (P2 := gP 0 G S A Fr []) (fun _ hp => gP_Tl 0 hp) ?_
      refine gb_if_eq F (tgt := 75) (by decide) dX1_lay_68 (fun c_7 => ?_) (fun c_7 => ?_)
      · skip
        refine g_iconst F (v := (0 : Int32)) (by decide) dX1_lay_75 ?_
        exact g_top (gb_f (fun q => (fun q => c_7 q.2) q.2)) J_8
      · skip
        refine g_iconst F (v := (1 : Int32)) (by decide) dX1_lay_71 ?_
        refine g_goto F (tgt := 76) (by decide) dX1_lay_72 ?_
        exact g_top (gb_t (⟨c_3, ⟨c_5, c_7⟩⟩)) J_8

def sC_belt (S : gS) (machine bb : Int32) : gO := if ¬ gidx 0 machine < 0 then (if bb = (45 : Int32) then (if ¬ ((gidx 0 machine) = (-1 : Int32)) then (if gHit (S.1 1 0) (gidx 0 machine) 4 (-1 : Int32) = true then (.inl "java/lang/UnsupportedOperationException") else (.inr (.int (if (S.1 1 0 ((gidx 0 machine).toNatClampNeg)) = (-1 : Int32) then (45 : Int32) else ((gByt.getD 0 []).getD (S.1 1 0 ((gidx 0 machine).toNatClampNeg)).toNatClampNeg 0)), (gsr S.1 1 0 (upd (S.1 1 0) ((gidx 0 machine).toNatClampNeg) (-1 : Int32)), S.2)))) else (.inl "java/lang/IllegalArgumentException")) else (if ¬ gidx 0 bb < 0 then (if ¬ ((gidx 0 machine) = (gidx 0 bb)) then (if gHit (S.1 1 0) (gidx 0 machine) 4 (gidx 0 bb) = true then (.inl "java/lang/UnsupportedOperationException") else (.inr (.int (if (S.1 1 0 ((gidx 0 machine).toNatClampNeg)) = (-1 : Int32) then (45 : Int32) else ((gByt.getD 0 []).getD (S.1 1 0 ((gidx 0 machine).toNatClampNeg)).toNatClampNeg 0)), (gsr S.1 1 0 (upd (S.1 1 0) ((gidx 0 machine).toNatClampNeg) (gidx 0 bb)), S.2)))) else (.inl "java/lang/IllegalArgumentException")) else (.inl "java/lang/IllegalArgumentException"))) else (.inl "java/lang/IllegalArgumentException")
theorem kX1_belt {l : Launch} {G : gG} (hl : l.stackTraces = false) {S : gS} {a0 : Nat} {Fr : gH → Prop} (hF : gFr 0 Fr) (hW : gWf S) {machine bb : Int32} (h_machine : ¬ machine < 0) (h_bb : ¬ bb < 0) : gMet l yX1_belt (ws_ yX1_belt cX1_belt 6 (some .char)) ⟨8, 7, 42, 122⟩ G [.ref a0, .int machine, .int bb] (gPE 0 G S a0 Fr) (gqS (sC_belt S machine bb) 0 G a0 Fr) (gxS (sC_belt S machine bb) 0 G S a0 Fr) := by
  refine gMet_of hl pnX1 (gle rfl) (fun X Q hX F E hNm => ?_)
  subst hX
  change gW (X, G, 6, Q) (gPE 0 G S a0 Fr) [(0, .ref a0), (1, .int machine), (2, .int bb)] 0 [] 0 0
  refine g_pe (fun A hA => ?_)
  subst hA
  change gW _ _ [(0, .ref (A 0 0)), (1, .int machine), (2, .int bb)] 0 [] 0 0
  refine g_iload_n F 1 rfl rfl dX1_belt_0 ?_
  refine g_callS F (kX1_requireMachine hl (ch := machine) h_machine) (lw_S q432 q433 q18 q434) myX1_requireMachine ⟨by decide, by decide⟩ rfl rfl (gle rfl) 1 6 (gle rfl) (gle rfl) (gle rfl) (gle rfl) dX1_belt_1 (gx_1 (fun c_1 => g_out0 F E (gle rfl) (gle rfl) (fun _ hp => ⟨(if_neg c_1), gPE_0 _ hp⟩))) (gv_y (fun c_1 => ?_))
  refine g_istore_n F rfl (by show 3 < 6; decide) (lv2 := [(3, .int (gidx 0 machine)), (0, .ref (A 0 0)), (1, .int machine), (2, .int bb)]) rfl dX1_belt_4 ?_
  refine g_iload_n F 3 rfl rfl dX1_belt_5 ?_
  refine g_bipush F (v := (45 : Int32)) (by decide) dX1_belt_6 ?_
  refine g_icmp_ne F (tgt := 15) (by decide) dX1_belt_8 (fun c_2 => ?_) (fun c_2 => ?_)
  · skip
    refine g_iload_n F 3 rfl rfl dX1_belt_15 ?_
    refine g_callS F (kX1_requireMachine hl (ch := bb) h_bb) (lw_S q432 q433 q18 q434) myX1_requireMachine ⟨by decide, by decide⟩ rfl rfl (gle rfl) 2 12 (gle rfl) (gle rfl) (gle rfl) (gle rfl) dX1_belt_16 (gx_1 (fun c_3 => g_out0 F E (gle rfl) (gle rfl) (fun _ hp => ⟨((if_pos c_1).trans ((if_neg c_2).trans (if_neg c_3))), gPE_0 _ hp⟩))) (gv_y (fun c_3 => ?_))
    refine g_istore F (by show 4 < 6; decide) (lv2 := [(4, .int (gidx 0 bb)), (3, .int (gidx 0 machine)), (0, .ref (A 0 0)), (1, .int machine), (2, .int bb)]) rfl dX1_belt_19 ?_
    refine g_iload_n F 1 rfl rfl dX1_belt_21 ?_
    refine g_iload F 0 rfl dX1_belt_22 ?_
    have J_5 : gW (X, G, 6, Q) (gP 0 G S A Fr []) [(4, .int (gidx 0 bb)), (3, .int (gidx 0 machine)), (0, .ref (A 0 0)), (1, .int machine), (2, .int bb)] 32 [.int (gb (¬ ((gidx 0 machine) = (gidx 0 bb))))] 2 12 := by
      refine g_callS F (kX1_requireArgument hl (c := ¬ ((gidx 0 machine) = (gidx 0 bb)))) (lw_S q335 q336 q18 q337) myX1_requireArgument ⟨by decide, by decide⟩ rfl rfl (gle rfl) 3 18 (gle rfl) (gle rfl) (gle rfl) (gle rfl) dX1_belt_32 (gx_1 (fun c_6 => g_out0 F E (gle rfl) (gle rfl) (fun _ hp => ⟨((if_pos c_1).trans ((if_neg c_2).trans ((if_pos c_3).trans (if_neg c_6)))), gPE_0 _ hp⟩))) (gv_c (fun c_6 => ?_))
      refine g_iload F 0 rfl dX1_belt_35 ?_
      refine g_istore F (by show 5 < 6; decide) (lv2 := [(5, .int (gidx 0 bb)), (4, .int (gidx 0 bb)), (3, .int (gidx 0 machine)), (0, .ref (A 0 0)), (1, .int machine), (2, .int bb)]) rfl dX1_belt_37 ?_
      have K1 : ¬ (gHit (S.1 1 0) (gidx 0 machine) 4 (gidx 0 bb) = true) → gW (X, G, 6, Q) (gP 0 G S A Fr []) [(5, .int (-1)), (4, .int (gidx 0 bb)), (3, .int (gidx 0 machine)), (2, .int bb), (1, .int machine), (0, .ref (A 0 0))] 71 [] 7 42 := fun hK_7 => by
        refine g_aload_n F 5 rfl rfl dX1_belt_71 ?_
        refine g_get F clX1 2 (by decide) q137 (v := .ref (A 1 0)) (gd_get (pr_at (κ := 0) (i := 0) (by decide) (gc1 (gnl rfl)) (gce rfl rfl)) rfl) dX1_belt_72 ?_
        refine g_iload_n F 2 rfl rfl dX1_belt_75 ?_
        refine g_iald F (gidx_vp (i := 0) (by decide) c_1) (pr_at (κ := 1) (i := 0) (by decide) (gc1 (gnl rfl)) (gce rfl rfl)) dX1_belt_76 ?_
        change gW _ _ _ _ (.int (S.1 1 0 ((gidx 0 machine).toNatClampNeg)) :: _) _ _
        refine g_iconst F (v := (-1 : Int32)) (by decide) dX1_belt_77 ?_
        have J_9 : gW (X, G, 6, Q) (gP 0 G S A Fr []) [(5, .int (-1)), (4, .int (gidx 0 bb)), (3, .int (gidx 0 machine)), (2, .int bb), (1, .int machine), (0, .ref (A 0 0))] 97 [.int (if (S.1 1 0 ((gidx 0 machine).toNatClampNeg)) = (-1 : Int32) then (45 : Int32) else ((gByt.getD 0 []).getD (S.1 1 0 ((gidx 0 machine).toNatClampNeg)).toNatClampNeg 0))] 7 42 := by
          refine g_istore F (by show 5 < 6; decide) (lv2 := [(5, .int (if (S.1 1 0 ((gidx 0 machine).toNatClampNeg)) = (-1 : Int32) then (45 : Int32) else ((gByt.getD 0 []).getD (S.1 1 0 ((gidx 0 machine).toNatClampNeg)).toNatClampNeg 0))), (4, .int (gidx 0 bb)), (3, .int (gidx 0 machine)), (2, .int bb), (1, .int machine), (0, .ref (A 0 0))]) rfl dX1_belt_97 ?_
          refine g_aload_n F 5 rfl rfl dX1_belt_99 ?_
          refine g_get F clX1 2 (by decide) q137 (v := .ref (A 1 0)) (gd_get (pr_at (κ := 0) (i := 0) (by decide) (gc1 (gnl rfl)) (gce rfl rfl)) rfl) dX1_belt_100 ?_
          refine g_iload_n F 2 rfl rfl dX1_belt_103 ?_
          refine g_iload F 1 rfl dX1_belt_104 ?_
          refine g_iast (P2 := gP 0 G (gsr S.1 1 0 (upd (S.1 1 0) ((gidx 0 machine).toNatClampNeg) (gidx 0 bb)), S.2) A Fr []) F (gidx_vp (i := 0) (by decide) c_1) (pr_setRow (κ := 1) (i := 0) gM0 hF (upd (S.1 1 0) ((gidx 0 machine).toNatClampNeg) (gidx 0 bb)) (by decide) (gc1 (gnl rfl)) (gce rfl rfl) rfl) dX1_belt_106 ?_
          refine g_iload F 0 rfl dX1_belt_107 ?_
          exact g_retI F E rfl gbelt_n (gle rfl) (gle rfl) dX1_belt_109 (fun _ hp => ⟨_, _, ((if_pos c_1).trans ((if_neg c_2).trans ((if_pos c_3).trans ((if_pos c_6).trans (if_neg hK_7))))), rfl, ⟨A, rfl, gP_T0 hp⟩⟩)
        refine g_icmp_ne F (tgt := 86) (by decide) dX1_belt_78 (fun c_8 => ?_) (fun c_8 => ?_)
        · skip
          refine g_ldcS F (i := 0) (List.mem_of_getElem? (i := 0) rfl) dX1_belt_86 ?_
          refine g_aload_n F 5 rfl rfl dX1_belt_88 ?_
          refine g_get F clX1 2 (by decide) q137 (v := .ref (A 1 0)) (gd_get (pr_at (κ := 0) (i := 0) (by decide) (gc1 (gnl rfl)) (gce rfl rfl)) rfl) dX1_belt_89 ?_
          refine g_iload_n F 2 rfl rfl dX1_belt_92 ?_
          refine g_iald F (gidx_vp (i := 0) (by decide) c_1) (pr_at (κ := 1) (i := 0) (by decide) (gc1 (gnl rfl)) (gce rfl rfl)) dX1_belt_93 ?_
          change gW _ _ _ _ (.int (S.1 1 0 ((gidx 0 machine).toNatClampNeg)) :: _) _ _
          refine g_callV F (kJ0_charAt hl (i := 0) (by decide) (gor_of (gDrv_n (gw_d hW) (gidx_in (i := 0) (by decide) c_1)) c_8).2 (gIn_eq (gor_of (gDrv_n (gw_d hW) (gidx_in (i := 0) (by decide) c_1)) c_8))) (g_srecv F (by decide)) q530 q531 q532 q19 q533 myJ0_charAt ⟨by decide, by decide⟩ rfl rfl (gle rfl) 7 42 (gle rfl) (gle rfl) (gle rfl) (gle rfl) dX1_belt_94 gx_n (gv_i ?_)
          exact g_top (by rw [if_neg c_8]) J_9
        · skip
          refine g_bipush F (v := (45 : Int32)) (by decide) dX1_belt_81 ?_
          refine g_goto F (tgt := 97) (by decide) dX1_belt_83 ?_
          exact g_top (by rw [if_pos c_8]) J_9
      have LP0 : ∀ x5 : Int32, (x5 = -1 ∨ gIn x5 4) → gIt (S.1 1 0) 0 x5 = -1 → (¬ (gHit (S.1 1 0) (gidx 0 machine) 0 x5 = true) → gW (X, G, 6, Q) (gP 0 G S A Fr []) [(5, .int (-1)), (4, .int (gidx 0 bb)), (3, .int (gidx 0 machine)), (2, .int bb), (1, .int machine), (0, .ref (A 0 0))] 71 [] 7 42) → (gHit (S.1 1 0) (gidx 0 machine) 0 x5 = true → ∀ h, (gP 0 G S A Fr []) h → gxS (sC_belt S machine bb) 0 G S (A 0 0) Fr "java/lang/UnsupportedOperationException" h) → gW (X, G, 6, Q) (gP 0 G S A Fr []) [(5, .int x5), (4, .int (gidx 0 bb)), (3, .int (gidx 0 machine)), (2, .int bb), (1, .int machine), (0, .ref (A 0 0))] 39 [] 7 42 := by
        intro x5 hx he hk1 hk2
        refine g_iload F 0 rfl dX1_belt_39 ?_
        refine g_iconst F (v := (-1 : Int32)) (by decide) dX1_belt_41 ?_
        refine g_icmp_eq F (tgt := 71) (by decide) dX1_belt_42 (fun _ => ?_) (fun c => absurd (show x5 = -1 from he) c)
        have q9 : x5 = -1 := (show x5 = -1 from he)
        subst q9
        exact g_widen (by decide) (by decide) (hk1 (gHit_m rfl))
      have LP1 : ∀ x5 : Int32, (x5 = -1 ∨ gIn x5 4) → gIt (S.1 1 0) 1 x5 = -1 → (¬ (gHit (S.1 1 0) (gidx 0 machine) 1 x5 = true) → gW (X, G, 6, Q) (gP 0 G S A Fr []) [(5, .int (-1)), (4, .int (gidx 0 bb)), (3, .int (gidx 0 machine)), (2, .int bb), (1, .int machine), (0, .ref (A 0 0))] 71 [] 7 42) → (gHit (S.1 1 0) (gidx 0 machine) 1 x5 = true → ∀ h, (gP 0 G S A Fr []) h → gxS (sC_belt S machine bb) 0 G S (A 0 0) Fr "java/lang/UnsupportedOperationException" h) → gW (X, G, 6, Q) (gP 0 G S A Fr []) [(5, .int x5), (4, .int (gidx 0 bb)), (3, .int (gidx 0 machine)), (2, .int bb), (1, .int machine), (0, .ref (A 0 0))] 39 [] 6 36 := by
        intro x5 hx he hk1 hk2
        refine g_iload F 0 rfl dX1_belt_39 ?_
        refine g_iconst F (v := (-1 : Int32)) (by decide) dX1_belt_41 ?_
        refine g_icmp_eq F (tgt := 71) (by decide) dX1_belt_42 (fun c_12 => ?_) (fun c_12 => ?_)
        · skip
          have q9 : x5 = -1 := c_12
          subst q9
          exact g_widen (by decide) (by decide) (hk1 (gHit_m rfl))
        · skip
          refine g_iload F 0 rfl dX1_belt_45 ?_
          refine g_iload_n F 2 rfl rfl dX1_belt_47 ?_
          have J_14 : gW (X, G, 6, Q) (gP 0 G S A Fr []) [(5, .int x5), (4, .int (gidx 0 bb)), (3, .int (gidx 0 machine)), (2, .int bb), (1, .int machine), (0, .ref (A 0 0))] 56 [.int (gb (¬ (x5 = (gidx 0 machine))))] 6 36 := by
            refine g_callS F (kX1_requireSupported hl (c := ¬ (x5 = (gidx 0 machine)))) (lw_S q512 q513 q18 q514) myX1_requireSupported ⟨by decide, by decide⟩ rfl rfl (gle rfl) 7 42 (gle rfl) (gle rfl) (gle rfl) (gle rfl) dX1_belt_56 (gx_1 (fun c_15 => g_out0 F E (gle rfl) (gle rfl) (hk2 (gHit_e c_12 c_15)))) (gv_c (fun c_15 => ?_))
            refine g_aload_n F 5 rfl rfl dX1_belt_59 ?_
            refine g_get F clX1 2 (by decide) q137 (v := .ref (A 1 0)) (gd_get (pr_at (κ := 0) (i := 0) (by decide) (gc1 (gnl rfl)) (gce rfl rfl)) rfl) dX1_belt_60 ?_
            refine g_iload F 0 rfl dX1_belt_63 ?_
            refine g_iald F (gIn_vp (gor_of hx c_12)) (pr_at (κ := 1) (i := 0) (by decide) (gc1 (gnl rfl)) (gce rfl rfl)) dX1_belt_65 ?_
            change gW _ _ _ _ (.int (S.1 1 0 x5.toNatClampNeg) :: _) _ _
            refine g_istore F (by show 5 < 6; decide) (lv2 := [(5, .int (S.1 1 0 x5.toNatClampNeg)), (4, .int (gidx 0 bb)), (3, .int (gidx 0 machine)), (2, .int bb), (1, .int machine), (0, .ref (A 0 0))]) rfl dX1_belt_66 ?_
            refine g_goto F (tgt := 39) (by decide) dX1_belt_68 ?_
            refine g_lv [0,1,2,3,4,5] (lv2 := [(5, .int (S.1 1 0 x5.toNatClampNeg)), (4, .int (gidx 0 bb)), (3, .int (gidx 0 machine)), (2, .int bb), (1, .int machine), (0, .ref (A 0 0))]) rfl ?_
            exact LP0 _ (gDrv_n (gw_d hW) (gor_of hx c_12)) (gIt_s c_12 he) (fun hc => hk1 (by rw [gHit_i c_12 c_15]; exact hc)) (fun hc => hk2 (by rw [gHit_i c_12 c_15]; exact hc))
          refine g_icmp_eq F (tgt := 55) (by decide) dX1_belt_48 (fun c_13 => ?_) (fun c_13 => ?_)
          · skip
            refine g_iconst F (v := (0 : Int32)) (by decide) dX1_belt_55 ?_
            exact g_top (gb_f (fun q => q c_13)) J_14
          · skip
            refine g_iconst F (v := (1 : Int32)) (by decide) dX1_belt_51 ?_
            refine g_goto F (tgt := 56) (by decide) dX1_belt_52 ?_
            exact g_top (gb_t c_13) J_14
      have LP2 : ∀ x5 : Int32, (x5 = -1 ∨ gIn x5 4) → gIt (S.1 1 0) 2 x5 = -1 → (¬ (gHit (S.1 1 0) (gidx 0 machine) 2 x5 = true) → gW (X, G, 6, Q) (gP 0 G S A Fr []) [(5, .int (-1)), (4, .int (gidx 0 bb)), (3, .int (gidx 0 machine)), (2, .int bb), (1, .int machine), (0, .ref (A 0 0))] 71 [] 7 42) → (gHit (S.1 1 0) (gidx 0 machine) 2 x5 = true → ∀ h, (gP 0 G S A Fr []) h → gxS (sC_belt S machine bb) 0 G S (A 0 0) Fr "java/lang/UnsupportedOperationException" h) → gW (X, G, 6, Q) (gP 0 G S A Fr []) [(5, .int x5), (4, .int (gidx 0 bb)), (3, .int (gidx 0 machine)), (2, .int bb), (1, .int machine), (0, .ref (A 0 0))] 39 [] 5 30 := by
        intro x5 hx he hk1 hk2
        refine g_iload F 0 rfl dX1_belt_39 ?_
        refine g_iconst F (v := (-1 : Int32)) (by decide) dX1_belt_41 ?_
        refine g_icmp_eq F (tgt := 71) (by decide) dX1_belt_42 (fun c_17 => ?_) (fun c_17 => ?_)
        · skip
          have q9 : x5 = -1 := c_17
          subst q9
          exact g_widen (by decide) (by decide) (hk1 (gHit_m rfl))
        · skip
          refine g_iload F 0 rfl dX1_belt_45 ?_
          refine g_iload_n F 2 rfl rfl dX1_belt_47 ?_
          have J_19 : gW (X, G, 6, Q) (gP 0 G S A Fr []) [(5, .int x5), (4, .int (gidx 0 bb)), (3, .int (gidx 0 machine)), (2, .int bb), (1, .int machine), (0, .ref (A 0 0))] 56 [.int (gb (¬ (x5 = (gidx 0 machine))))] 5 30 := by
            refine g_callS F (kX1_requireSupported hl (c := ¬ (x5 = (gidx 0 machine)))) (lw_S q512 q513 q18 q514) myX1_requireSupported ⟨by decide, by decide⟩ rfl rfl (gle rfl) 6 36 (gle rfl) (gle rfl) (gle rfl) (gle rfl) dX1_belt_56 (gx_1 (fun c_20 => g_out0 F E (gle rfl) (gle rfl) (hk2 (gHit_e c_17 c_20)))) (gv_c (fun c_20 => ?_))
            refine g_aload_n F 5 rfl rfl dX1_belt_59 ?_
            refine g_get F clX1 2 (by decide) q137 (v := .ref (A 1 0)) (gd_get (pr_at (κ := 0) (i := 0) (by decide) (gc1 (gnl rfl)) (gce rfl rfl)) rfl) dX1_belt_60 ?_
            refine g_iload F 0 rfl dX1_belt_63 ?_
            refine g_iald F (gIn_vp (gor_of hx c_17)) (pr_at (κ := 1) (i := 0) (by decide) (gc1 (gnl rfl)) (gce rfl rfl)) dX1_belt_65 ?_
            change gW _ _ _ _ (.int (S.1 1 0 x5.toNatClampNeg) :: _) _ _
            refine g_istore F (by show 5 < 6; decide) (lv2 := [(5, .int (S.1 1 0 x5.toNatClampNeg)), (4, .int (gidx 0 bb)), (3, .int (gidx 0 machine)), (2, .int bb), (1, .int machine), (0, .ref (A 0 0))]) rfl dX1_belt_66 ?_
            refine g_goto F (tgt := 39) (by decide) dX1_belt_68 ?_
            refine g_lv [0,1,2,3,4,5] (lv2 := [(5, .int (S.1 1 0 x5.toNatClampNeg)), (4, .int (gidx 0 bb)), (3, .int (gidx 0 machine)), (2, .int bb), (1, .int machine), (0, .ref (A 0 0))]) rfl ?_
            exact LP1 _ (gDrv_n (gw_d hW) (gor_of hx c_17)) (gIt_s c_17 he) (fun hc => hk1 (by rw [gHit_i c_17 c_20]; exact hc)) (fun hc => hk2 (by rw [gHit_i c_17 c_20]; exact hc))
          refine g_icmp_eq F (tgt := 55) (by decide) dX1_belt_48 (fun c_18 => ?_) (fun c_18 => ?_)
          · skip
            refine g_iconst F (v := (0 : Int32)) (by decide) dX1_belt_55 ?_
            exact g_top (gb_f (fun q => q c_18)) J_19
          · skip
            refine g_iconst F (v := (1 : Int32)) (by decide) dX1_belt_51 ?_
            refine g_goto F (tgt := 56) (by decide) dX1_belt_52 ?_
            exact g_top (gb_t c_18) J_19
      have LP3 : ∀ x5 : Int32, (x5 = -1 ∨ gIn x5 4) → gIt (S.1 1 0) 3 x5 = -1 → (¬ (gHit (S.1 1 0) (gidx 0 machine) 3 x5 = true) → gW (X, G, 6, Q) (gP 0 G S A Fr []) [(5, .int (-1)), (4, .int (gidx 0 bb)), (3, .int (gidx 0 machine)), (2, .int bb), (1, .int machine), (0, .ref (A 0 0))] 71 [] 7 42) → (gHit (S.1 1 0) (gidx 0 machine) 3 x5 = true → ∀ h, (gP 0 G S A Fr []) h → gxS (sC_belt S machine bb) 0 G S (A 0 0) Fr "java/lang/UnsupportedOperationException" h) → gW (X, G, 6, Q) (gP 0 G S A Fr []) [(5, .int x5), (4, .int (gidx 0 bb)), (3, .int (gidx 0 machine)), (2, .int bb), (1, .int machine), (0, .ref (A 0 0))] 39 [] 4 24 := by
        intro x5 hx he hk1 hk2
        refine g_iload F 0 rfl dX1_belt_39 ?_
        refine g_iconst F (v := (-1 : Int32)) (by decide) dX1_belt_41 ?_
        refine g_icmp_eq F (tgt := 71) (by decide) dX1_belt_42 (fun c_22 => ?_) (fun c_22 => ?_)
        · skip
          have q9 : x5 = -1 := c_22
          subst q9
          exact g_widen (by decide) (by decide) (hk1 (gHit_m rfl))
        · skip
          refine g_iload F 0 rfl dX1_belt_45 ?_
          refine g_iload_n F 2 rfl rfl dX1_belt_47 ?_
          have J_24 : gW (X, G, 6, Q) (gP 0 G S A Fr []) [(5, .int x5), (4, .int (gidx 0 bb)), (3, .int (gidx 0 machine)), (2, .int bb), (1, .int machine), (0, .ref (A 0 0))] 56 [.int (gb (¬ (x5 = (gidx 0 machine))))] 4 24 := by
            refine g_callS F (kX1_requireSupported hl (c := ¬ (x5 = (gidx 0 machine)))) (lw_S q512 q513 q18 q514) myX1_requireSupported ⟨by decide, by decide⟩ rfl rfl (gle rfl) 5 30 (gle rfl) (gle rfl) (gle rfl) (gle rfl) dX1_belt_56 (gx_1 (fun c_25 => g_out0 F E (gle rfl) (gle rfl) (hk2 (gHit_e c_22 c_25)))) (gv_c (fun c_25 => ?_))
            refine g_aload_n F 5 rfl rfl dX1_belt_59 ?_
            refine g_get F clX1 2 (by decide) q137 (v := .ref (A 1 0)) (gd_get (pr_at (κ := 0) (i := 0) (by decide) (gc1 (gnl rfl)) (gce rfl rfl)) rfl) dX1_belt_60 ?_
            refine g_iload F 0 rfl dX1_belt_63 ?_
            refine g_iald F (gIn_vp (gor_of hx c_22)) (pr_at (κ := 1) (i := 0) (by decide) (gc1 (gnl rfl)) (gce rfl rfl)) dX1_belt_65 ?_
            change gW _ _ _ _ (.int (S.1 1 0 x5.toNatClampNeg) :: _) _ _
            refine g_istore F (by show 5 < 6; decide) (lv2 := [(5, .int (S.1 1 0 x5.toNatClampNeg)), (4, .int (gidx 0 bb)), (3, .int (gidx 0 machine)), (2, .int bb), (1, .int machine), (0, .ref (A 0 0))]) rfl dX1_belt_66 ?_
            refine g_goto F (tgt := 39) (by decide) dX1_belt_68 ?_
            refine g_lv [0,1,2,3,4,5] (lv2 := [(5, .int (S.1 1 0 x5.toNatClampNeg)), (4, .int (gidx 0 bb)), (3, .int (gidx 0 machine)), (2, .int bb), (1, .int machine), (0, .ref (A 0 0))]) rfl ?_
            exact LP2 _ (gDrv_n (gw_d hW) (gor_of hx c_22)) (gIt_s c_22 he) (fun hc => hk1 (by rw [gHit_i c_22 c_25]; exact hc)) (fun hc => hk2 (by rw [gHit_i c_22 c_25]; exact hc))
          refine g_icmp_eq F (tgt := 55) (by decide) dX1_belt_48 (fun c_23 => ?_) (fun c_23 => ?_)
          · skip
            refine g_iconst F (v := (0 : Int32)) (by decide) dX1_belt_55 ?_
            exact g_top (gb_f (fun q => q c_23)) J_24
          · skip
            refine g_iconst F (v := (1 : Int32)) (by decide) dX1_belt_51 ?_
            refine g_goto F (tgt := 56) (by decide) dX1_belt_52 ?_
            exact g_top (gb_t c_23) J_24
      have LP4 : ∀ x5 : Int32, (x5 = -1 ∨ gIn x5 4) → gIt (S.1 1 0) 4 x5 = -1 → (¬ (gHit (S.1 1 0) (gidx 0 machine) 4 x5 = true) → gW (X, G, 6, Q) (gP 0 G S A Fr []) [(5, .int (-1)), (4, .int (gidx 0 bb)), (3, .int (gidx 0 machine)), (2, .int bb), (1, .int machine), (0, .ref (A 0 0))] 71 [] 7 42) → (gHit (S.1 1 0) (gidx 0 machine) 4 x5 = true → ∀ h, (gP 0 G S A Fr []) h → gxS (sC_belt S machine bb) 0 G S (A 0 0) Fr "java/lang/UnsupportedOperationException" h) → gW (X, G, 6, Q) (gP 0 G S A Fr []) [(5, .int x5), (4, .int (gidx 0 bb)), (3, .int (gidx 0 machine)), (2, .int bb), (1, .int machine), (0, .ref (A 0 0))] 39 [] 3 18 := by
        intro x5 hx he hk1 hk2
        refine g_iload F 0 rfl dX1_belt_39 ?_
        refine g_iconst F (v := (-1 : Int32)) (by decide) dX1_belt_41 ?_
        refine g_icmp_eq F (tgt := 71) (by decide) dX1_belt_42 (fun c_27 => ?_) (fun c_27 => ?_)
        · skip
          have q9 : x5 = -1 := c_27
          subst q9
          exact g_widen (by decide) (by decide) (hk1 (gHit_m rfl))
        · skip
          refine g_iload F 0 rfl dX1_belt_45 ?_
          refine g_iload_n F 2 rfl rfl dX1_belt_47 ?_
          have J_29 : gW (X, G, 6, Q) (gP 0 G S A Fr []) [(5, .int x5), (4, .int (gidx 0 bb)), (3, .int (gidx 0 machine)), (2, .int bb), (1, .int machine), (0, .ref (A 0 0))] 56 [.int (gb (¬ (x5 = (gidx 0 machine))))] 3 18 := by
            refine g_callS F (kX1_requireSupported hl (c := ¬ (x5 = (gidx 0 machine)))) (lw_S q512 q513 q18 q514) myX1_requireSupported ⟨by decide, by decide⟩ rfl rfl (gle rfl) 4 24 (gle rfl) (gle rfl) (gle rfl) (gle rfl) dX1_belt_56 (gx_1 (fun c_30 => g_out0 F E (gle rfl) (gle rfl) (hk2 (gHit_e c_27 c_30)))) (gv_c (fun c_30 => ?_))
            refine g_aload_n F 5 rfl rfl dX1_belt_59 ?_
            refine g_get F clX1 2 (by decide) q137 (v := .ref (A 1 0)) (gd_get (pr_at (κ := 0) (i := 0) (by decide) (gc1 (gnl rfl)) (gce rfl rfl)) rfl) dX1_belt_60 ?_
            refine g_iload F 0 rfl dX1_belt_63 ?_
            refine g_iald F (gIn_vp (gor_of hx c_27)) (pr_at (κ := 1) (i := 0) (by decide) (gc1 (gnl rfl)) (gce rfl rfl)) dX1_belt_65 ?_
            change gW _ _ _ _ (.int (S.1 1 0 x5.toNatClampNeg) :: _) _ _
            refine g_istore F (by show 5 < 6; decide) (lv2 := [(5, .int (S.1 1 0 x5.toNatClampNeg)), (4, .int (gidx 0 bb)), (3, .int (gidx 0 machine)), (2, .int bb), (1, .int machine), (0, .ref (A 0 0))]) rfl dX1_belt_66 ?_
            refine g_goto F (tgt := 39) (by decide) dX1_belt_68 ?_
            refine g_lv [0,1,2,3,4,5] (lv2 := [(5, .int (S.1 1 0 x5.toNatClampNeg)), (4, .int (gidx 0 bb)), (3, .int (gidx 0 machine)), (2, .int bb), (1, .int machine), (0, .ref (A 0 0))]) rfl ?_
            exact LP3 _ (gDrv_n (gw_d hW) (gor_of hx c_27)) (gIt_s c_27 he) (fun hc => hk1 (by rw [gHit_i c_27 c_30]; exact hc)) (fun hc => hk2 (by rw [gHit_i c_27 c_30]; exact hc))
          refine g_icmp_eq F (tgt := 55) (by decide) dX1_belt_48 (fun c_28 => ?_) (fun c_28 => ?_)
          · skip
            refine g_iconst F (v := (0 : Int32)) (by decide) dX1_belt_55 ?_
            exact g_top (gb_f (fun q => q c_28)) J_29
          · skip
            refine g_iconst F (v := (1 : Int32)) (by decide) dX1_belt_51 ?_
            refine g_goto F (tgt := 56) (by decide) dX1_belt_52 ?_
            exact g_top (gb_t c_28) J_29
      refine g_lv [0,1,2,5,4,3] (lv2 := [(5, .int (gidx 0 bb)), (4, .int (gidx 0 bb)), (3, .int (gidx 0 machine)), (2, .int bb), (1, .int machine), (0, .ref (A 0 0))]) rfl ?_
      exact LP4 (gidx 0 bb) gidx_or (gDrv_o (gw_d hW) gidx_or) K1 (fun hK_7 => (fun _ hp => ⟨((if_pos c_1).trans ((if_neg c_2).trans ((if_pos c_3).trans ((if_pos c_6).trans (if_pos hK_7))))), gPE_0 _ hp⟩))
    refine g_icmp_eq F (tgt := 31) (by decide) dX1_belt_24 (fun c_4 => ?_) (fun c_4 => ?_)
    · skip
      refine g_iconst F (v := (0 : Int32)) (by decide) dX1_belt_31 ?_
      exact g_top (gb_f (fun q => q c_4)) J_5
    · skip
      refine g_iconst F (v := (1 : Int32)) (by decide) dX1_belt_27 ?_
      refine g_goto F (tgt := 32) (by decide) dX1_belt_28 ?_
      exact g_top (gb_t c_4) J_5
  · skip
    refine g_iconst F (v := (-1 : Int32)) (by decide) dX1_belt_11 ?_
    refine g_goto F (tgt := 19) (by decide) dX1_belt_12 ?_
    refine g_istore F (by show 4 < 6; decide) (lv2 := [(4, .int (-1 : Int32)), (3, .int (gidx 0 machine)), (0, .ref (A 0 0)), (1, .int machine), (2, .int bb)]) rfl dX1_belt_19 ?_
    refine g_iload_n F 1 rfl rfl dX1_belt_21 ?_
    refine g_iload F 0 rfl dX1_belt_22 ?_
    have J_32 : gW (X, G, 6, Q) (gP 0 G S A Fr []) [(4, .int (-1 : Int32)), (3, .int (gidx 0 machine)), (0, .ref (A 0 0)), (1, .int machine), (2, .int bb)] 32 [.int (gb (¬ ((gidx 0 machine) = (-1 : Int32))))] 1 6 := by
      refine g_callS F (kX1_requireArgument hl (c := ¬ ((gidx 0 machine) = (-1 : Int32)))) (lw_S q335 q336 q18 q337) myX1_requireArgument ⟨by decide, by decide⟩ rfl rfl (gle rfl) 2 12 (gle rfl) (gle rfl) (gle rfl) (gle rfl) dX1_belt_32 (gx_1 (fun c_33 => g_out0 F E (gle rfl) (gle rfl) (fun _ hp => ⟨((if_pos c_1).trans ((if_pos c_2).trans (if_neg c_33))), gPE_0 _ hp⟩))) (gv_c (fun c_33 => ?_))
      refine g_iload F 0 rfl dX1_belt_35 ?_
      refine g_istore F (by show 5 < 6; decide) (lv2 := [(5, .int (-1 : Int32)), (4, .int (-1 : Int32)), (3, .int (gidx 0 machine)), (0, .ref (A 0 0)), (1, .int machine), (2, .int bb)]) rfl dX1_belt_37 ?_
      have K1 : ¬ (gHit (S.1 1 0) (gidx 0 machine) 4 (-1 : Int32) = true) → gW (X, G, 6, Q) (gP 0 G S A Fr []) [(5, .int (-1)), (4, .int (-1 : Int32)), (3, .int (gidx 0 machine)), (2, .int bb), (1, .int machine), (0, .ref (A 0 0))] 71 [] 6 36 := fun hK_34 => by
        refine g_aload_n F 5 rfl rfl dX1_belt_71 ?_
        refine g_get F clX1 2 (by decide) q137 (v := .ref (A 1 0)) (gd_get (pr_at (κ := 0) (i := 0) (by decide) (gc1 (gnl rfl)) (gce rfl rfl)) rfl) dX1_belt_72 ?_
        refine g_iload_n F 2 rfl rfl dX1_belt_75 ?_
        refine g_iald F (gidx_vp (i := 0) (by decide) c_1) (pr_at (κ := 1) (i := 0) (by decide) (gc1 (gnl rfl)) (gce rfl rfl)) dX1_belt_76 ?_
        change gW _ _ _ _ (.int (S.1 1 0 ((gidx 0 machine).toNatClampNeg)) :: _) _ _
        refine g_iconst F (v := (-1 : Int32)) (by decide) dX1_belt_77 ?_
        have J_36 : gW (X, G, 6, Q) (gP 0 G S A Fr []) [(5, .int (-1)), (4, .int (-1 : Int32)), (3, .int (gidx 0 machine)), (2, .int bb), (1, .int machine), (0, .ref (A 0 0))] 97 [.int (if (S.1 1 0 ((gidx 0 machine).toNatClampNeg)) = (-1 : Int32) then (45 : Int32) else ((gByt.getD 0 []).getD (S.1 1 0 ((gidx 0 machine).toNatClampNeg)).toNatClampNeg 0))] 6 36 := by
          refine g_istore F (by show 5 < 6; decide) (lv2 := [(5, .int (if (S.1 1 0 ((gidx 0 machine).toNatClampNeg)) = (-1 : Int32) then (45 : Int32) else ((gByt.getD 0 []).getD (S.1 1 0 ((gidx 0 machine).toNatClampNeg)).toNatClampNeg 0))), (4, .int (-1 : Int32)), (3, .int (gidx 0 machine)), (2, .int bb), (1, .int machine), (0, .ref (A 0 0))]) rfl dX1_belt_97 ?_
          refine g_aload_n F 5 rfl rfl dX1_belt_99 ?_
          refine g_get F clX1 2 (by decide) q137 (v := .ref (A 1 0)) (gd_get (pr_at (κ := 0) (i := 0) (by decide) (gc1 (gnl rfl)) (gce rfl rfl)) rfl) dX1_belt_100 ?_
          refine g_iload_n F 2 rfl rfl dX1_belt_103 ?_
          refine g_iload F 1 rfl dX1_belt_104 ?_
          refine g_iast (P2 := gP 0 G (gsr S.1 1 0 (upd (S.1 1 0) ((gidx 0 machine).toNatClampNeg) (-1 : Int32)), S.2) A Fr []) F (gidx_vp (i := 0) (by decide) c_1) (pr_setRow (κ := 1) (i := 0) gM0 hF (upd (S.1 1 0) ((gidx 0 machine).toNatClampNeg) (-1 : Int32)) (by decide) (gc1 (gnl rfl)) (gce rfl rfl) rfl) dX1_belt_106 ?_
          refine g_iload F 0 rfl dX1_belt_107 ?_
          exact g_retI F E rfl gbelt_n (gle rfl) (gle rfl) dX1_belt_109 (fun _ hp => ⟨_, _, ((if_pos c_1).trans ((if_pos c_2).trans ((if_pos c_33).trans (if_neg hK_34)))), rfl, ⟨A, rfl, gP_T0 hp⟩⟩)
        refine g_icmp_ne F (tgt := 86) (by decide) dX1_belt_78 (fun c_35 => ?_) (fun c_35 => ?_)
        · skip
          refine g_ldcS F (i := 0) (List.mem_of_getElem? (i := 0) rfl) dX1_belt_86 ?_
          refine g_aload_n F 5 rfl rfl dX1_belt_88 ?_
          refine g_get F clX1 2 (by decide) q137 (v := .ref (A 1 0)) (gd_get (pr_at (κ := 0) (i := 0) (by decide) (gc1 (gnl rfl)) (gce rfl rfl)) rfl) dX1_belt_89 ?_
          refine g_iload_n F 2 rfl rfl dX1_belt_92 ?_
          refine g_iald F (gidx_vp (i := 0) (by decide) c_1) (pr_at (κ := 1) (i := 0) (by decide) (gc1 (gnl rfl)) (gce rfl rfl)) dX1_belt_93 ?_
          change gW _ _ _ _ (.int (S.1 1 0 ((gidx 0 machine).toNatClampNeg)) :: _) _ _
          refine g_callV F (kJ0_charAt hl (i := 0) (by decide) (gor_of (gDrv_n (gw_d hW) (gidx_in (i := 0) (by decide) c_1)) c_35).2 (gIn_eq (gor_of (gDrv_n (gw_d hW) (gidx_in (i := 0) (by decide) c_1)) c_35))) (g_srecv F (by decide)) q530 q531 q532 q19 q533 myJ0_charAt ⟨by decide, by decide⟩ rfl rfl (gle rfl) 6 36 (gle rfl) (gle rfl) (gle rfl) (gle rfl) dX1_belt_94 gx_n (gv_i ?_)
          exact g_top (by rw [if_neg c_35]) J_36
        · skip
          refine g_bipush F (v := (45 : Int32)) (by decide) dX1_belt_81 ?_
          refine g_goto F (tgt := 97) (by decide) dX1_belt_83 ?_
          exact g_top (by rw [if_pos c_35]) J_36
      have LP0 : ∀ x5 : Int32, (x5 = -1 ∨ gIn x5 4) → gIt (S.1 1 0) 0 x5 = -1 → (¬ (gHit (S.1 1 0) (gidx 0 machine) 0 x5 = true) → gW (X, G, 6, Q) (gP 0 G S A Fr []) [(5, .int (-1)), (4, .int (-1 : Int32)), (3, .int (gidx 0 machine)), (2, .int bb), (1, .int machine), (0, .ref (A 0 0))] 71 [] 6 36) → (gHit (S.1 1 0) (gidx 0 machine) 0 x5 = true → ∀ h, (gP 0 G S A Fr []) h → gxS (sC_belt S machine bb) 0 G S (A 0 0) Fr "java/lang/UnsupportedOperationException" h) → gW (X, G, 6, Q) (gP 0 G S A Fr []) [(5, .int x5), (4, .int (-1 : Int32)), (3, .int (gidx 0 machine)), (2, .int bb), (1, .int machine), (0, .ref (A 0 0))] 39 [] 6 36 := by
        intro x5 hx he hk1 hk2
        refine g_iload F 0 rfl dX1_belt_39 ?_
        refine g_iconst F (v := (-1 : Int32)) (by decide) dX1_belt_41 ?_
        refine g_icmp_eq F (tgt := 71) (by decide) dX1_belt_42 (fun _ => ?_) (fun c => absurd (show x5 = -1 from he) c)
        have q9 : x5 = -1 := (show x5 = -1 from he)
        subst q9
        exact g_widen (by decide) (by decide) (hk1 (gHit_m rfl))
      have LP1 : ∀ x5 : Int32, (x5 = -1 ∨ gIn x5 4) → gIt (S.1 1 0) 1 x5 = -1 → (¬ (gHit (S.1 1 0) (gidx 0 machine) 1 x5 = true) → gW (X, G, 6, Q) (gP 0 G S A Fr []) [(5, .int (-1)), (4, .int (-1 : Int32)), (3, .int (gidx 0 machine)), (2, .int bb), (1, .int machine), (0, .ref (A 0 0))] 71 [] 6 36) → (gHit (S.1 1 0) (gidx 0 machine) 1 x5 = true → ∀ h, (gP 0 G S A Fr []) h → gxS (sC_belt S machine bb) 0 G S (A 0 0) Fr "java/lang/UnsupportedOperationException" h) → gW (X, G, 6, Q) (gP 0 G S A Fr []) [(5, .int x5), (4, .int (-1 : Int32)), (3, .int (gidx 0 machine)), (2, .int bb), (1, .int machine), (0, .ref (A 0 0))] 39 [] 5 30 := by
        intro x5 hx he hk1 hk2
        refine g_iload F 0 rfl dX1_belt_39 ?_
        refine g_iconst F (v := (-1 : Int32)) (by decide) dX1_belt_41 ?_
        refine g_icmp_eq F (tgt := 71) (by decide) dX1_belt_42 (fun c_39 => ?_) (fun c_39 => ?_)
        · skip
          have q9 : x5 = -1 := c_39
          subst q9
          exact g_widen (by decide) (by decide) (hk1 (gHit_m rfl))
        · skip
          refine g_iload F 0 rfl dX1_belt_45 ?_
          refine g_iload_n F 2 rfl rfl dX1_belt_47 ?_
          have J_41 : gW (X, G, 6, Q) (gP 0 G S A Fr []) [(5, .int x5), (4, .int (-1 : Int32)), (3, .int (gidx 0 machine)), (2, .int bb), (1, .int machine), (0, .ref (A 0 0))] 56 [.int (gb (¬ (x5 = (gidx 0 machine))))] 5 30 := by
            refine g_callS F (kX1_requireSupported hl (c := ¬ (x5 = (gidx 0 machine)))) (lw_S q512 q513 q18 q514) myX1_requireSupported ⟨by decide, by decide⟩ rfl rfl (gle rfl) 6 36 (gle rfl) (gle rfl) (gle rfl) (gle rfl) dX1_belt_56 (gx_1 (fun c_42 => g_out0 F E (gle rfl) (gle rfl) (hk2 (gHit_e c_39 c_42)))) (gv_c (fun c_42 => ?_))
            refine g_aload_n F 5 rfl rfl dX1_belt_59 ?_
            refine g_get F clX1 2 (by decide) q137 (v := .ref (A 1 0)) (gd_get (pr_at (κ := 0) (i := 0) (by decide) (gc1 (gnl rfl)) (gce rfl rfl)) rfl) dX1_belt_60 ?_
            refine g_iload F 0 rfl dX1_belt_63 ?_
            refine g_iald F (gIn_vp (gor_of hx c_39)) (pr_at (κ := 1) (i := 0) (by decide) (gc1 (gnl rfl)) (gce rfl rfl)) dX1_belt_65 ?_
            change gW _ _ _ _ (.int (S.1 1 0 x5.toNatClampNeg) :: _) _ _
            refine g_istore F (by show 5 < 6; decide) (lv2 := [(5, .int (S.1 1 0 x5.toNatClampNeg)), (4, .int (-1 : Int32)), (3, .int (gidx 0 machine)), (2, .int bb), (1, .int machine), (0, .ref (A 0 0))]) rfl dX1_belt_66 ?_
            refine g_goto F (tgt := 39) (by decide) dX1_belt_68 ?_
            refine g_lv [0,1,2,3,4,5] (lv2 := [(5, .int (S.1 1 0 x5.toNatClampNeg)), (4, .int (-1 : Int32)), (3, .int (gidx 0 machine)), (2, .int bb), (1, .int machine), (0, .ref (A 0 0))]) rfl ?_
            exact LP0 _ (gDrv_n (gw_d hW) (gor_of hx c_39)) (gIt_s c_39 he) (fun hc => hk1 (by rw [gHit_i c_39 c_42]; exact hc)) (fun hc => hk2 (by rw [gHit_i c_39 c_42]; exact hc))
          refine g_icmp_eq F (tgt := 55) (by decide) dX1_belt_48 (fun c_40 => ?_) (fun c_40 => ?_)
          · skip
            refine g_iconst F (v := (0 : Int32)) (by decide) dX1_belt_55 ?_
            exact g_top (gb_f (fun q => q c_40)) J_41
          · skip
            refine g_iconst F (v := (1 : Int32)) (by decide) dX1_belt_51 ?_
            refine g_goto F (tgt := 56) (by decide) dX1_belt_52 ?_
            exact g_top (gb_t c_40) J_41
      have LP2 : ∀ x5 : Int32, (x5 = -1 ∨ gIn x5 4) → gIt (S.1 1 0) 2 x5 = -1 → (¬ (gHit (S.1 1 0) (gidx 0 machine) 2 x5 = true) → gW (X, G, 6, Q) (gP 0 G S A Fr []) [(5, .int (-1)), (4, .int (-1 : Int32)), (3, .int (gidx 0 machine)), (2, .int bb), (1, .int machine), (0, .ref (A 0 0))] 71 [] 6 36) → (gHit (S.1 1 0) (gidx 0 machine) 2 x5 = true → ∀ h, (gP 0 G S A Fr []) h → gxS (sC_belt S machine bb) 0 G S (A 0 0) Fr "java/lang/UnsupportedOperationException" h) → gW (X, G, 6, Q) (gP 0 G S A Fr []) [(5, .int x5), (4, .int (-1 : Int32)), (3, .int (gidx 0 machine)), (2, .int bb), (1, .int machine), (0, .ref (A 0 0))] 39 [] 4 24 := by
        intro x5 hx he hk1 hk2
        refine g_iload F 0 rfl dX1_belt_39 ?_
        refine g_iconst F (v := (-1 : Int32)) (by decide) dX1_belt_41 ?_
        refine g_icmp_eq F (tgt := 71) (by decide) dX1_belt_42 (fun c_44 => ?_) (fun c_44 => ?_)
        · skip
          have q9 : x5 = -1 := c_44
          subst q9
          exact g_widen (by decide) (by decide) (hk1 (gHit_m rfl))
        · skip
          refine g_iload F 0 rfl dX1_belt_45 ?_
          refine g_iload_n F 2 rfl rfl dX1_belt_47 ?_
          have J_46 : gW (X, G, 6, Q) (gP 0 G S A Fr []) [(5, .int x5), (4, .int (-1 : Int32)), (3, .int (gidx 0 machine)), (2, .int bb), (1, .int machine), (0, .ref (A 0 0))] 56 [.int (gb (¬ (x5 = (gidx 0 machine))))] 4 24 := by
            refine g_callS F (kX1_requireSupported hl (c := ¬ (x5 = (gidx 0 machine)))) (lw_S q512 q513 q18 q514) myX1_requireSupported ⟨by decide, by decide⟩ rfl rfl (gle rfl) 5 30 (gle rfl) (gle rfl) (gle rfl) (gle rfl) dX1_belt_56 (gx_1 (fun c_47 => g_out0 F E (gle rfl) (gle rfl) (hk2 (gHit_e c_44 c_47)))) (gv_c (fun c_47 => ?_))
            refine g_aload_n F 5 rfl rfl dX1_belt_59 ?_
            refine g_get F clX1 2 (by decide) q137 (v := .ref (A 1 0)) (gd_get (pr_at (κ := 0) (i := 0) (by decide) (gc1 (gnl rfl)) (gce rfl rfl)) rfl) dX1_belt_60 ?_
            refine g_iload F 0 rfl dX1_belt_63 ?_
            refine g_iald F (gIn_vp (gor_of hx c_44)) (pr_at (κ := 1) (i := 0) (by decide) (gc1 (gnl rfl)) (gce rfl rfl)) dX1_belt_65 ?_
            change gW _ _ _ _ (.int (S.1 1 0 x5.toNatClampNeg) :: _) _ _
            refine g_istore F (by show 5 < 6; decide) (lv2 := [(5, .int (S.1 1 0 x5.toNatClampNeg)), (4, .int (-1 : Int32)), (3, .int (gidx 0 machine)), (2, .int bb), (1, .int machine), (0, .ref (A 0 0))]) rfl dX1_belt_66 ?_
            refine g_goto F (tgt := 39) (by decide) dX1_belt_68 ?_
            refine g_lv [0,1,2,3,4,5] (lv2 := [(5, .int (S.1 1 0 x5.toNatClampNeg)), (4, .int (-1 : Int32)), (3, .int (gidx 0 machine)), (2, .int bb), (1, .int machine), (0, .ref (A 0 0))]) rfl ?_
            exact LP1 _ (gDrv_n (gw_d hW) (gor_of hx c_44)) (gIt_s c_44 he) (fun hc => hk1 (by rw [gHit_i c_44 c_47]; exact hc)) (fun hc => hk2 (by rw [gHit_i c_44 c_47]; exact hc))
          refine g_icmp_eq F (tgt := 55) (by decide) dX1_belt_48 (fun c_45 => ?_) (fun c_45 => ?_)
          · skip
            refine g_iconst F (v := (0 : Int32)) (by decide) dX1_belt_55 ?_
            exact g_top (gb_f (fun q => q c_45)) J_46
          · skip
            refine g_iconst F (v := (1 : Int32)) (by decide) dX1_belt_51 ?_
            refine g_goto F (tgt := 56) (by decide) dX1_belt_52 ?_
            exact g_top (gb_t c_45) J_46
      have LP3 : ∀ x5 : Int32, (x5 = -1 ∨ gIn x5 4) → gIt (S.1 1 0) 3 x5 = -1 → (¬ (gHit (S.1 1 0) (gidx 0 machine) 3 x5 = true) → gW (X, G, 6, Q) (gP 0 G S A Fr []) [(5, .int (-1)), (4, .int (-1 : Int32)), (3, .int (gidx 0 machine)), (2, .int bb), (1, .int machine), (0, .ref (A 0 0))] 71 [] 6 36) → (gHit (S.1 1 0) (gidx 0 machine) 3 x5 = true → ∀ h, (gP 0 G S A Fr []) h → gxS (sC_belt S machine bb) 0 G S (A 0 0) Fr "java/lang/UnsupportedOperationException" h) → gW (X, G, 6, Q) (gP 0 G S A Fr []) [(5, .int x5), (4, .int (-1 : Int32)), (3, .int (gidx 0 machine)), (2, .int bb), (1, .int machine), (0, .ref (A 0 0))] 39 [] 3 18 := by
        intro x5 hx he hk1 hk2
        refine g_iload F 0 rfl dX1_belt_39 ?_
        refine g_iconst F (v := (-1 : Int32)) (by decide) dX1_belt_41 ?_
        refine g_icmp_eq F (tgt := 71) (by decide) dX1_belt_42 (fun c_49 => ?_) (fun c_49 => ?_)
        · skip
          have q9 : x5 = -1 := c_49
          subst q9
          exact g_widen (by decide) (by decide) (hk1 (gHit_m rfl))
        · skip
          refine g_iload F 0 rfl dX1_belt_45 ?_
          refine g_iload_n F 2 rfl rfl dX1_belt_47 ?_
          have J_51 : gW (X, G, 6, Q) (gP 0 G S A Fr []) [(5, .int x5), (4, .int (-1 : Int32)), (3, .int (gidx 0 machine)), (2, .int bb), (1, .int machine), (0, .ref (A 0 0))] 56 [.int (gb (¬ (x5 = (gidx 0 machine))))] 3 18 := by
            refine g_callS F (kX1_requireSupported hl (c := ¬ (x5 = (gidx 0 machine)))) (lw_S q512 q513 q18 q514) myX1_requireSupported ⟨by decide, by decide⟩ rfl rfl (gle rfl) 4 24 (gle rfl) (gle rfl) (gle rfl) (gle rfl) dX1_belt_56 (gx_1 (fun c_52 => g_out0 F E (gle rfl) (gle rfl) (hk2 (gHit_e c_49 c_52)))) (gv_c (fun c_52 => ?_))
            refine g_aload_n F 5 rfl rfl dX1_belt_59 ?_
            refine g_get F clX1 2 (by decide) q137 (v := .ref (A 1 0)) (gd_get (pr_at (κ := 0) (i := 0) (by decide) (gc1 (gnl rfl)) (gce rfl rfl)) rfl) dX1_belt_60 ?_
            refine g_iload F 0 rfl dX1_belt_63 ?_
            refine g_iald F (gIn_vp (gor_of hx c_49)) (pr_at (κ := 1) (i := 0) (by decide) (gc1 (gnl rfl)) (gce rfl rfl)) dX1_belt_65 ?_
            change gW _ _ _ _ (.int (S.1 1 0 x5.toNatClampNeg) :: _) _ _
            refine g_istore F (by show 5 < 6; decide) (lv2 := [(5, .int (S.1 1 0 x5.toNatClampNeg)), (4, .int (-1 : Int32)), (3, .int (gidx 0 machine)), (2, .int bb), (1, .int machine), (0, .ref (A 0 0))]) rfl dX1_belt_66 ?_
            refine g_goto F (tgt := 39) (by decide) dX1_belt_68 ?_
            refine g_lv [0,1,2,3,4,5] (lv2 := [(5, .int (S.1 1 0 x5.toNatClampNeg)), (4, .int (-1 : Int32)), (3, .int (gidx 0 machine)), (2, .int bb), (1, .int machine), (0, .ref (A 0 0))]) rfl ?_
            exact LP2 _ (gDrv_n (gw_d hW) (gor_of hx c_49)) (gIt_s c_49 he) (fun hc => hk1 (by rw [gHit_i c_49 c_52]; exact hc)) (fun hc => hk2 (by rw [gHit_i c_49 c_52]; exact hc))
          refine g_icmp_eq F (tgt := 55) (by decide) dX1_belt_48 (fun c_50 => ?_) (fun c_50 => ?_)
          · skip
            refine g_iconst F (v := (0 : Int32)) (by decide) dX1_belt_55 ?_
            exact g_top (gb_f (fun q => q c_50)) J_51
          · skip
            refine g_iconst F (v := (1 : Int32)) (by decide) dX1_belt_51 ?_
            refine g_goto F (tgt := 56) (by decide) dX1_belt_52 ?_
            exact g_top (gb_t c_50) J_51
      have LP4 : ∀ x5 : Int32, (x5 = -1 ∨ gIn x5 4) → gIt (S.1 1 0) 4 x5 = -1 → (¬ (gHit (S.1 1 0) (gidx 0 machine) 4 x5 = true) → gW (X, G, 6, Q) (gP 0 G S A Fr []) [(5, .int (-1)), (4, .int (-1 : Int32)), (3, .int (gidx 0 machine)), (2, .int bb), (1, .int machine), (0, .ref (A 0 0))] 71 [] 6 36) → (gHit (S.1 1 0) (gidx 0 machine) 4 x5 = true → ∀ h, (gP 0 G S A Fr []) h → gxS (sC_belt S machine bb) 0 G S (A 0 0) Fr "java/lang/UnsupportedOperationException" h) → gW (X, G, 6, Q) (gP 0 G S A Fr []) [(5, .int x5), (4, .int (-1 : Int32)), (3, .int (gidx 0 machine)), (2, .int bb), (1, .int machine), (0, .ref (A 0 0))] 39 [] 2 12 := by
        intro x5 hx he hk1 hk2
        refine g_iload F 0 rfl dX1_belt_39 ?_
        refine g_iconst F (v := (-1 : Int32)) (by decide) dX1_belt_41 ?_
        refine g_icmp_eq F (tgt := 71) (by decide) dX1_belt_42 (fun c_54 => ?_) (fun c_54 => ?_)
        · skip
          have q9 : x5 = -1 := c_54
          subst q9
          exact g_widen (by decide) (by decide) (hk1 (gHit_m rfl))
        · skip
          refine g_iload F 0 rfl dX1_belt_45 ?_
          refine g_iload_n F 2 rfl rfl dX1_belt_47 ?_
          have J_56 : gW (X, G, 6, Q) (gP 0 G S A Fr []) [(5, .int x5), (4, .int (-1 : Int32)), (3, .int (gidx 0 machine)), (2, .int bb), (1, .int machine), (0, .ref (A 0 0))] 56 [.int (gb (¬ (x5 = (gidx 0 machine))))] 2 12 := by
            refine g_callS F (kX1_requireSupported hl (c := ¬ (x5 = (gidx 0 machine)))) (lw_S q512 q513 q18 q514) myX1_requireSupported ⟨by decide, by decide⟩ rfl rfl (gle rfl) 3 18 (gle rfl) (gle rfl) (gle rfl) (gle rfl) dX1_belt_56 (gx_1 (fun c_57 => g_out0 F E (gle rfl) (gle rfl) (hk2 (gHit_e c_54 c_57)))) (gv_c (fun c_57 => ?_))
            refine g_aload_n F 5 rfl rfl dX1_belt_59 ?_
            refine g_get F clX1 2 (by decide) q137 (v := .ref (A 1 0)) (gd_get (pr_at (κ := 0) (i := 0) (by decide) (gc1 (gnl rfl)) (gce rfl rfl)) rfl) dX1_belt_60 ?_
            refine g_iload F 0 rfl dX1_belt_63 ?_
            refine g_iald F (gIn_vp (gor_of hx c_54)) (pr_at (κ := 1) (i := 0) (by decide) (gc1 (gnl rfl)) (gce rfl rfl)) dX1_belt_65 ?_
            change gW _ _ _ _ (.int (S.1 1 0 x5.toNatClampNeg) :: _) _ _
            refine g_istore F (by show 5 < 6; decide) (lv2 := [(5, .int (S.1 1 0 x5.toNatClampNeg)), (4, .int (-1 : Int32)), (3, .int (gidx 0 machine)), (2, .int bb), (1, .int machine), (0, .ref (A 0 0))]) rfl dX1_belt_66 ?_
            refine g_goto F (tgt := 39) (by decide) dX1_belt_68 ?_
            refine g_lv [0,1,2,3,4,5] (lv2 := [(5, .int (S.1 1 0 x5.toNatClampNeg)), (4, .int (-1 : Int32)), (3, .int (gidx 0 machine)), (2, .int bb), (1, .int machine), (0, .ref (A 0 0))]) rfl ?_
            exact LP3 _ (gDrv_n (gw_d hW) (gor_of hx c_54)) (gIt_s c_54 he) (fun hc => hk1 (by rw [gHit_i c_54 c_57]; exact hc)) (fun hc => hk2 (by rw [gHit_i c_54 c_57]; exact hc))
          refine g_icmp_eq F (tgt := 55) (by decide) dX1_belt_48 (fun c_55 => ?_) (fun c_55 => ?_)
          · skip
            refine g_iconst F (v := (0 : Int32)) (by decide) dX1_belt_55 ?_
            exact g_top (gb_f (fun q => q c_55)) J_56
          · skip
            refine g_iconst F (v := (1 : Int32)) (by decide) dX1_belt_51 ?_
            refine g_goto F (tgt := 56) (by decide) dX1_belt_52 ?_
            exact g_top (gb_t c_55) J_56
      refine g_lv [0,1,2,5,4,3] (lv2 := [(5, .int (-1 : Int32)), (4, .int (-1 : Int32)), (3, .int (gidx 0 machine)), (2, .int bb), (1, .int machine), (0, .ref (A 0 0))]) rfl ?_
      exact LP4 (-1 : Int32) (Or.inl rfl) (gDrv_o (gw_d hW) (Or.inl rfl)) K1 (fun hK_34 => (fun _ hp => ⟨((if_pos c_1).trans ((if_pos c_2).trans ((if_pos c_33).trans (if_pos hK_34)))), gPE_0 _ hp⟩))
    refine g_icmp_eq F (tgt := 31) (by decide) dX1_belt_24 (fun c_31 => ?_) (fun c_31 => ?_)
    · skip
      refine g_iconst F (v := (0 : Int32)) (by decide) dX1_belt_31 ?_
      exact g_top (gb_f (fun q => q c_31)) J_32
    · skip
      refine g_iconst F (v := (1 : Int32)) (by decide) dX1_belt_27 ?_
      refine g_goto F (tgt := 32) (by decide) dX1_belt_28 ?_
      exact g_top (gb_t c_31) J_32

def sC_sample (S : gS) (run many : Int32) : gO := if gIn run (S.2 10) then (if ¬ many < (1 : Int32) ∧ ¬ (50 : Int32) < many then (if ¬ ((S.1 10 run.toNatClampNeg 3) < many) then (match gSaC many.toNatClampNeg (S.1 0 0 5) (S.1 10 run.toNatClampNeg 3) (S.1 10 run.toNatClampNeg 4) 0 with | (z, pe, br, fo) => .inr (.int fo, (gsr (gsr (gsr S.1 0 0 (upd (S.1 0 0) 5 z)) 10 run.toNatClampNeg (upd (upd (S.1 10 run.toNatClampNeg) 4 br) 3 pe)) 0 0 (upd (upd (S.1 0 0) 5 z) 4 ((S.1 0 0 4) + many)), S.2))) else (.inl "java/lang/UnsupportedOperationException")) else (.inl "java/lang/IllegalArgumentException")) else (.inl "java/lang/IndexOutOfBoundsException")
theorem kX1_sample {l : Launch} {G : gG} (hl : l.stackTraces = false) {S : gS} {a0 : Nat} {Fr : gH → Prop} (hF : gFr 0 Fr) (hW : gWf S) {run many : Int32} (hz_ : ¬ S.1 0 0 5 < 0) : gMet l yX1_sample (ws_ yX1_sample cX1_sample 7 (some .int)) ⟨8, 4, 19, 123⟩ G [.ref a0, .int run, .int many] (gPE 0 G S a0 Fr) (gqS (sC_sample S run many) 0 G a0 Fr) (gxS (sC_sample S run many) 0 G S a0 Fr) := by
  refine gMet_of hl pnX1 (gle rfl) (fun X Q hX F E hNm => ?_)
  subst hX
  change gW (X, G, 7, Q) (gPE 0 G S a0 Fr) [(0, .ref a0), (1, .int run), (2, .int many)] 0 [] 0 0
  refine g_pe (fun A hA => ?_)
  subst hA
  change gW _ _ [(0, .ref (A 0 0)), (1, .int run), (2, .int many)] 0 [] 0 0
  refine g_aload_n F 0 rfl rfl dX1_sample_0 ?_
  refine g_get F clX1 13 (by decide) q148 (v := .ref (A 310 0)) (gd_get (pr_at (κ := 0) (i := 0) (by decide) (gc1 (gnl rfl)) (gce rfl rfl)) rfl) dX1_sample_1 ?_
  refine g_iload_n F 1 rfl rfl dX1_sample_4 ?_
  refine g_callS F (kX1_require hl (pr_ls (M := 0) (S := S) (A := A) (κ := 10) (by decide) (Or.inl ⟨by decide, by decide⟩) (fun q => by first | decide | exact absurd q (by decide)) (fun q => by first | decide | exact absurd q (by decide))) (gw_n hW _) (x := run)) (lw_S q784 q785 q18 q786) myX1_require ⟨by decide, by decide⟩ rfl rfl (gle rfl) 1 6 (gle rfl) (gle rfl) (gle rfl) (gle rfl) dX1_sample_5 (gx_1 (fun c_1 => g_out0 F E (gle rfl) (gle rfl) (fun _ hp => ⟨(if_neg c_1), gPE_0 _ hp⟩))) (gv_y (fun c_1 => ?_))
  refine g_castS F (g_recv F clX13 (gd_obj (pr_at (κ := 10) (i := run.toNatClampNeg) (by decide) (gc6 (by decide) c_1.2) (gce rfl rfl)))) q297 dX1_sample_8 ?_
  refine g_astore_n F rfl (by show 3 < 7; decide) (lv2 := [(3, .ref (A 10 run.toNatClampNeg)), (0, .ref (A 0 0)), (1, .int run), (2, .int many)]) rfl dX1_sample_11 ?_
  refine g_iconst F (v := (1 : Int32)) (by decide) dX1_sample_12 ?_
  refine g_bipush F (v := (50 : Int32)) (by decide) dX1_sample_13 ?_
  refine g_iconst F (v := (1 : Int32)) (by decide) dX1_sample_15 ?_
  refine g_newI F (5000, 0) (N := 1) rfl (by decide) 2 7 (gle rfl) (gle rfl) (gle rfl) (gle rfl) (Pa := fun a_2 => gP 0 G S A Fr [(a_2, gIA G 1 (fun _ => 0))]) (pr_new hF) dX1_sample_16 (fun a_2 => ?_)
  refine g_dup F rfl dX1_sample_18 ?_
  refine g_iconst F (v := (0 : Int32)) (by decide) dX1_sample_19 ?_
  refine g_iload_n F 3 rfl rfl dX1_sample_20 ?_
  refine g_iastN (P2 := gP 0 G S A Fr [(a_2, gIA G 1 (upd (fun _ => 0) 0 many))]) F (m := 0) rfl (by decide) (by decide) (pr_setT gM0 hF (j := 0) rfl) dX1_sample_21 ?_
  refine g_callS F (kX1_isIn hl (pr_atT (j := 0) rfl)) (lw_S q305 q306 q18 q307) myX1_isIn ⟨by decide, by decide⟩ rfl rfl (gle rfl) 2 7 (gle rfl) (gle rfl) (gle rfl) (gle rfl) dX1_sample_22 gx_n (gv_i ?_)
  refine g_top (show _ = gb (¬ many < (1 : Int32) ∧ ¬ (50 : Int32) < many) from rfl) ?_
  refine g_mono (P2 := gP 0 G S A Fr []) (fun _ hp => gP_Tl 0 hp) ?_
  refine g_callS F (kX1_requireArgument hl (c := ¬ many < (1 : Int32) ∧ ¬ (50 : Int32) < many)) (lw_S q335 q336 q18 q337) myX1_requireArgument ⟨by decide, by decide⟩ rfl rfl (gle rfl) 3 13 (gle rfl) (gle rfl) (gle rfl) (gle rfl) dX1_sample_25 (gx_1 (fun c_3 => g_out0 F E (gle rfl) (gle rfl) (fun _ hp => ⟨((if_pos c_1).trans (if_neg c_3)), gPE_0 _ hp⟩))) (gv_c (fun c_3 => ?_))
  refine g_aload_n F 0 rfl rfl dX1_sample_28 ?_
  refine g_getN F clX13 5 (by decide) (gT_w q1091 rfl) (v := .int (S.1 10 run.toNatClampNeg 3)) (gd_get (pr_at (κ := 10) (i := run.toNatClampNeg) (by decide) (gc6 (by decide) c_1.2) (gce rfl rfl)) rfl) dX1_sample_29 ?_
  refine g_iload_n F 3 rfl rfl dX1_sample_32 ?_
  have J_5 : gW (X, G, 7, Q) (gP 0 G S A Fr []) [(3, .ref (A 10 run.toNatClampNeg)), (0, .ref (A 0 0)), (1, .int run), (2, .int many)] 41 [.int (gb (¬ ((S.1 10 run.toNatClampNeg 3) < many)))] 3 13 := by
    refine g_callS F (kX1_requireSupported hl (c := ¬ ((S.1 10 run.toNatClampNeg 3) < many))) (lw_S q512 q513 q18 q514) myX1_requireSupported ⟨by decide, by decide⟩ rfl rfl (gle rfl) 4 19 (gle rfl) (gle rfl) (gle rfl) (gle rfl) dX1_sample_41 (gx_1 (fun c_6 => g_out0 F E (gle rfl) (gle rfl) (fun _ hp => ⟨((if_pos c_1).trans ((if_pos c_3).trans (if_neg c_6))), gPE_0 _ hp⟩))) (gv_c (fun c_6 => ?_))
    refine g_iconst F (v := (0 : Int32)) (by decide) dX1_sample_44 ?_
    refine g_istore F (by show 4 < 7; decide) (lv2 := [(4, .int (0 : Int32)), (3, .ref (A 10 run.toNatClampNeg)), (0, .ref (A 0 0)), (1, .int run), (2, .int many)]) rfl dX1_sample_45 ?_
    refine g_iconst F (v := (0 : Int32)) (by decide) dX1_sample_47 ?_
    refine g_istore F (by show 5 < 7; decide) (lv2 := [(5, .int (0 : Int32)), (4, .int (0 : Int32)), (3, .ref (A 10 run.toNatClampNeg)), (0, .ref (A 0 0)), (1, .int run), (2, .int many)]) rfl dX1_sample_48 ?_
    obtain ⟨hm9, hm50⟩ := gm_of2 c_3.1 c_3.2
    have hp0 : ¬ S.1 10 run.toNatClampNeg 3 < nI many.toNatClampNeg := by rw [← hm9]; exact c_6
    have K1 : ∀ z pe br fo : Int32, gSaC many.toNatClampNeg (S.1 0 0 5) (S.1 10 run.toNatClampNeg 3) (S.1 10 run.toNatClampNeg 4) 0 = (z, pe, br, fo) → gW (X, G, 7, Q) (gP 0 G (gsr (gsr S.1 0 0 (upd (S.1 0 0) 5 z)) 10 run.toNatClampNeg (upd (upd (S.1 10 run.toNatClampNeg) 4 br) 3 pe), S.2) A Fr []) [(4, .int fo), (3, .ref (A 10 run.toNatClampNeg)), (2, .int many), (1, .int run), (0, .ref (A 0 0))] 132 [] 4 19 := by
      intro z pe br fo hz_7
      refine g_aload_n F 4 rfl rfl dX1_sample_132 ?_
      refine g_dup F rfl dX1_sample_133 ?_
      refine g_get F clX1 15 (by decide) q150 (v := .int (S.1 0 0 4)) (gd_get (pr_at (κ := 0) (i := 0) (by decide) (gc1 (gnl rfl)) (gce (show (gsr (gsr S.1 0 0 (upd (S.1 0 0) 5 z)) 10 run.toNatClampNeg (upd (upd (S.1 10 run.toNatClampNeg) 4 br) 3 pe)) 0 0 = upd (S.1 0 0) 5 z from (gsr_p (by decide) gsr_s)) rfl)) rfl) dX1_sample_134 ?_
      refine g_iload_n F 2 rfl rfl dX1_sample_137 ?_
      refine g_iadd F dX1_sample_138 ?_
      refine g_put (P2 := gP 0 G (gsr (gsr (gsr S.1 0 0 (upd (S.1 0 0) 5 z)) 10 run.toNatClampNeg (upd (upd (S.1 10 run.toNatClampNeg) 4 br) 3 pe)) 0 0 (upd (upd (S.1 0 0) 5 z) 4 ((S.1 0 0 4) + many)), S.2) A Fr []) F clX1 15 (by decide) q150 rfl rfl rfl (pr_put (κ := 0) (i := 0) gM0 hF (upd (upd (S.1 0 0) 5 z) 4 ((S.1 0 0 4) + many)) (by decide) (gc1 (gnl rfl)) (gce (show (gsr (gsr S.1 0 0 (upd (S.1 0 0) 5 z)) 10 run.toNatClampNeg (upd (upd (S.1 10 run.toNatClampNeg) 4 br) 3 pe)) 0 0 = upd (S.1 0 0) 5 z from (gsr_p (by decide) gsr_s)) rfl) (gnl rfl) rfl) dX1_sample_139 ?_
      refine g_iload F 0 rfl dX1_sample_142 ?_
      exact g_retI F E rfl rfl (gle rfl) (gle rfl) dX1_sample_144 (fun _ hp => ⟨_, _, ((((if_pos c_1).trans ((if_pos c_3).trans (if_pos c_6)))).trans (by rw [hz_7])), rfl, ⟨A, rfl, gP_T0 hp⟩⟩)
    have LP : ∀ n (z pe br fo : Int32) (t : Nat), t + n = many.toNatClampNeg → ¬ z < 0 → ¬ pe < nI n → gSaC n z pe br fo = gSaC many.toNatClampNeg (S.1 0 0 5) (S.1 10 run.toNatClampNeg 3) (S.1 10 run.toNatClampNeg 4) 0 → gW (X, G, 7, Q) (gP 0 G (gsr (gsr S.1 0 0 (upd (S.1 0 0) 5 z)) 10 run.toNatClampNeg (upd (upd (S.1 10 run.toNatClampNeg) 4 br) 3 pe), S.2) A Fr []) [(4, .int fo), (5, .int (nI t)), (3, .ref (A 10 run.toNatClampNeg)), (2, .int many), (1, .int run), (0, .ref (A 0 0))] 50 [] 4 19 := by
      intro n
      induction n with
      | zero =>
        intro z pe br fo t ht hz0 hpe hfn
        refine g_iload F 1 rfl dX1_sample_50 ?_
        refine g_iload_n F 3 rfl rfl dX1_sample_52 ?_
        refine g_icmp_ge F (tgt := 132) (by decide) dX1_sample_53 (fun _ => ?_) (fun c => absurd (by rw [hm9, ← ht]; exact Int32.le_refl _) c)
        refine g_lv [0,2,3,4,5] (lv2 := [(4, .int fo), (3, .ref (A 10 run.toNatClampNeg)), (2, .int many), (1, .int run), (0, .ref (A 0 0))]) rfl ?_
        exact K1 z pe br fo hfn.symm
      | succ n IH =>
        intro z pe br fo t ht hz0 hpe hfn
        have hq := gpe_1 (pe := pe) (n := n) (by omega) hpe
        obtain ⟨z1, hz1⟩ : ∃ z1, z1 = gz z := ⟨_, rfl⟩
        have hzl := gz_l hz0
        rw [← hz1] at hzl
        refine g_iload F 1 rfl dX1_sample_50 ?_
        refine g_iload_n F 3 rfl rfl dX1_sample_52 ?_
        refine g_icmp_ge F (tgt := 132) (by decide) dX1_sample_53 (fun c => absurd c (by rw [hm9, ← ht]; exact nI_ge (by omega) (by omega))) (fun _ => ?_)
        refine g_aload_n F 5 rfl rfl dX1_sample_56 ?_
        refine g_aload_n F 5 rfl rfl dX1_sample_57 ?_
        refine g_get F clX1 6 (by decide) q141 (v := .long z.toInt64) (gd_get (pr_at (κ := 0) (i := 0) (by decide) (gc1 (gnl rfl)) (gce (show (gsr (gsr S.1 0 0 (upd (S.1 0 0) 5 z)) 10 run.toNatClampNeg (upd (upd (S.1 10 run.toNatClampNeg) 4 br) 3 pe)) 0 0 = upd (S.1 0 0) 5 z from (gsr_p (by decide) gsr_s)) rfl)) rfl) dX1_sample_58 ?_
        refine g_ldc2 F (v := (48271 : Int64)) q1174 dX1_sample_61 ?_
        refine g_lmul F dX1_sample_64 ?_
        refine g_ldc2 F (v := (2147483647 : Int64)) q1175 dX1_sample_65 ?_
        refine g_lrem F (by decide) dX1_sample_68 ?_
        refine g_topv (show Value.long _ = .long z1.toInt64 from congrArg Value.long hzl.1) ?_
        refine g_put (P2 := gP 0 G (gsr (gsr (gsr S.1 0 0 (upd (S.1 0 0) 5 z)) 10 run.toNatClampNeg (upd (upd (S.1 10 run.toNatClampNeg) 4 br) 3 pe)) 0 0 (upd (upd (S.1 0 0) 5 z) 5 z1), S.2) A Fr []) F clX1 6 (by decide) q141 rfl rfl rfl (pr_put (κ := 0) (i := 0) gM0 hF (upd (upd (S.1 0 0) 5 z) 5 z1) (by decide) (gc1 (gnl rfl)) (gce (show (gsr (gsr S.1 0 0 (upd (S.1 0 0) 5 z)) 10 run.toNatClampNeg (upd (upd (S.1 10 run.toNatClampNeg) 4 br) 3 pe)) 0 0 = upd (S.1 0 0) 5 z from (gsr_p (by decide) gsr_s)) rfl) (gnl rfl) rfl) dX1_sample_69 ?_
        refine g_aload_n F 5 rfl rfl dX1_sample_72 ?_
        refine g_get F clX1 6 (by decide) q141 (v := .long z1.toInt64) (gd_get (pr_at (κ := 0) (i := 0) (by decide) (gc1 (gnl rfl)) (gce (show (gsr (gsr (gsr S.1 0 0 (upd (S.1 0 0) 5 z)) 10 run.toNatClampNeg (upd (upd (S.1 10 run.toNatClampNeg) 4 br) 3 pe)) 0 0 (upd (upd (S.1 0 0) 5 z) 5 z1)) 0 0 = upd (upd (S.1 0 0) 5 z) 5 z1 from gsr_s) rfl)) rfl) dX1_sample_73 ?_
        refine g_aload_n F 2 rfl rfl dX1_sample_76 ?_
        refine g_getN F clX13 5 (by decide) (gT_w q1091 rfl) (v := .int pe) (gd_get (pr_at (κ := 10) (i := run.toNatClampNeg) (by decide) (gc6 (by decide) c_1.2) (gce (show (gsr (gsr (gsr S.1 0 0 (upd (S.1 0 0) 5 z)) 10 run.toNatClampNeg (upd (upd (S.1 10 run.toNatClampNeg) 4 br) 3 pe)) 0 0 (upd (upd (S.1 0 0) 5 z) 5 z1)) 10 run.toNatClampNeg = upd (upd (S.1 10 run.toNatClampNeg) 4 br) 3 pe from (gsr_p (by decide) gsr_s)) rfl)) rfl) dX1_sample_77 ?_
        refine g_i2l F dX1_sample_80 ?_
        refine g_lrem F (gpe_64 hq.1) dX1_sample_81 ?_
        refine g_aload_n F 2 rfl rfl dX1_sample_82 ?_
        refine g_getN F clX13 6 (by decide) (gT_w q1093 rfl) (v := .int br) (gd_get (pr_at (κ := 10) (i := run.toNatClampNeg) (by decide) (gc6 (by decide) c_1.2) (gce (show (gsr (gsr (gsr S.1 0 0 (upd (S.1 0 0) 5 z)) 10 run.toNatClampNeg (upd (upd (S.1 10 run.toNatClampNeg) 4 br) 3 pe)) 0 0 (upd (upd (S.1 0 0) 5 z) 5 z1)) 10 run.toNatClampNeg = upd (upd (S.1 10 run.toNatClampNeg) 4 br) 3 pe from (gsr_p (by decide) gsr_s)) rfl)) rfl) dX1_sample_83 ?_
        refine g_i2l F dX1_sample_86 ?_
        refine g_lcmp F dX1_sample_87 ?_
        have J_9 : gW (X, G, 7, Q) (gP 0 G (gsr (gsr (gsr S.1 0 0 (upd (S.1 0 0) 5 z)) 10 run.toNatClampNeg (upd (upd (S.1 10 run.toNatClampNeg) 4 br) 3 pe)) 0 0 (upd (upd (S.1 0 0) 5 z) 5 z1), S.2) A Fr []) [(4, .int fo), (5, .int (nI t)), (3, .ref (A 10 run.toNatClampNeg)), (2, .int many), (1, .int run), (0, .ref (A 0 0))] 96 [.int (gb (¬ (0 ≤ (lg_cmp (z1.toInt64 - z1.toInt64 / pe.toInt64 * pe.toInt64) br.toInt64))))] 4 19 := by
          refine g_top (show _ = gbC z1 pe br from rfl) ?_
          refine g_istore F (by show 6 < 7; decide) (lv2 := [(6, .int (gbC z1 pe br)), (4, .int fo), (5, .int (nI t)), (3, .ref (A 10 run.toNatClampNeg)), (2, .int many), (1, .int run), (0, .ref (A 0 0))]) rfl dX1_sample_96 ?_
          refine g_iload F 1 rfl dX1_sample_98 ?_
          refine g_iload F 0 rfl dX1_sample_100 ?_
          refine g_iadd F dX1_sample_102 ?_
          refine g_istore F (by show 4 < 7; decide) (lv2 := [(4, .int (fo + (gbC z1 pe br))), (6, .int (gbC z1 pe br)), (5, .int (nI t)), (3, .ref (A 10 run.toNatClampNeg)), (2, .int many), (1, .int run), (0, .ref (A 0 0))]) rfl dX1_sample_103 ?_
          refine g_aload_n F 3 rfl rfl dX1_sample_105 ?_
          refine g_dup F rfl dX1_sample_106 ?_
          refine g_getN F clX13 6 (by decide) (gT_w q1093 rfl) (v := .int br) (gd_get (pr_at (κ := 10) (i := run.toNatClampNeg) (by decide) (gc6 (by decide) c_1.2) (gce (show (gsr (gsr (gsr S.1 0 0 (upd (S.1 0 0) 5 z)) 10 run.toNatClampNeg (upd (upd (S.1 10 run.toNatClampNeg) 4 br) 3 pe)) 0 0 (upd (upd (S.1 0 0) 5 z) 5 z1)) 10 run.toNatClampNeg = upd (upd (S.1 10 run.toNatClampNeg) 4 br) 3 pe from (gsr_p (by decide) gsr_s)) rfl)) rfl) dX1_sample_107 ?_
          refine g_iload F 1 rfl dX1_sample_110 ?_
          refine g_isub F dX1_sample_112 ?_
          refine g_putN (P2 := gP 0 G (gsr (gsr (gsr (gsr S.1 0 0 (upd (S.1 0 0) 5 z)) 10 run.toNatClampNeg (upd (upd (S.1 10 run.toNatClampNeg) 4 br) 3 pe)) 0 0 (upd (upd (S.1 0 0) 5 z) 5 z1)) 10 run.toNatClampNeg (upd (upd (upd (S.1 10 run.toNatClampNeg) 4 br) 3 pe) 4 (br - (gbC z1 pe br))), S.2) A Fr []) F clX13 6 (by decide) (gT_w q1093 rfl) rfl rfl rfl (pr_put (κ := 10) (i := run.toNatClampNeg) gM0 hF (upd (upd (upd (S.1 10 run.toNatClampNeg) 4 br) 3 pe) 4 (br - (gbC z1 pe br))) (by decide) (gc6 (by decide) c_1.2) (gce (show (gsr (gsr (gsr S.1 0 0 (upd (S.1 0 0) 5 z)) 10 run.toNatClampNeg (upd (upd (S.1 10 run.toNatClampNeg) 4 br) 3 pe)) 0 0 (upd (upd (S.1 0 0) 5 z) 5 z1)) 10 run.toNatClampNeg = upd (upd (S.1 10 run.toNatClampNeg) 4 br) 3 pe from (gsr_p (by decide) gsr_s)) rfl) (gnl rfl) rfl) dX1_sample_113 ?_
          refine g_aload_n F 3 rfl rfl dX1_sample_116 ?_
          refine g_dup F rfl dX1_sample_117 ?_
          refine g_getN F clX13 5 (by decide) (gT_w q1091 rfl) (v := .int pe) (gd_get (pr_at (κ := 10) (i := run.toNatClampNeg) (by decide) (gc6 (by decide) c_1.2) (gce (show (gsr (gsr (gsr (gsr S.1 0 0 (upd (S.1 0 0) 5 z)) 10 run.toNatClampNeg (upd (upd (S.1 10 run.toNatClampNeg) 4 br) 3 pe)) 0 0 (upd (upd (S.1 0 0) 5 z) 5 z1)) 10 run.toNatClampNeg (upd (upd (upd (S.1 10 run.toNatClampNeg) 4 br) 3 pe) 4 (br - (gbC z1 pe br)))) 10 run.toNatClampNeg = upd (upd (upd (S.1 10 run.toNatClampNeg) 4 br) 3 pe) 4 (br - (gbC z1 pe br)) from gsr_s) rfl)) rfl) dX1_sample_118 ?_
          refine g_iconst F (v := (1 : Int32)) (by decide) dX1_sample_121 ?_
          refine g_isub F dX1_sample_122 ?_
          refine g_putN (P2 := gP 0 G (gsr (gsr (gsr (gsr (gsr S.1 0 0 (upd (S.1 0 0) 5 z)) 10 run.toNatClampNeg (upd (upd (S.1 10 run.toNatClampNeg) 4 br) 3 pe)) 0 0 (upd (upd (S.1 0 0) 5 z) 5 z1)) 10 run.toNatClampNeg (upd (upd (upd (S.1 10 run.toNatClampNeg) 4 br) 3 pe) 4 (br - (gbC z1 pe br)))) 10 run.toNatClampNeg (upd (upd (upd (upd (S.1 10 run.toNatClampNeg) 4 br) 3 pe) 4 (br - (gbC z1 pe br))) 3 (pe - (1 : Int32))), S.2) A Fr []) F clX13 5 (by decide) (gT_w q1091 rfl) rfl rfl rfl (pr_put (κ := 10) (i := run.toNatClampNeg) gM0 hF (upd (upd (upd (upd (S.1 10 run.toNatClampNeg) 4 br) 3 pe) 4 (br - (gbC z1 pe br))) 3 (pe - (1 : Int32))) (by decide) (gc6 (by decide) c_1.2) (gce (show (gsr (gsr (gsr (gsr S.1 0 0 (upd (S.1 0 0) 5 z)) 10 run.toNatClampNeg (upd (upd (S.1 10 run.toNatClampNeg) 4 br) 3 pe)) 0 0 (upd (upd (S.1 0 0) 5 z) 5 z1)) 10 run.toNatClampNeg (upd (upd (upd (S.1 10 run.toNatClampNeg) 4 br) 3 pe) 4 (br - (gbC z1 pe br)))) 10 run.toNatClampNeg = upd (upd (upd (S.1 10 run.toNatClampNeg) 4 br) 3 pe) 4 (br - (gbC z1 pe br)) from gsr_s) rfl) (gnl rfl) rfl) dX1_sample_123 ?_
          refine g_iinc F 2 rfl (v := (nI t) + (1 : Int32)) (by rfl) (by show 5 < 7; decide) (lv2 := [(5, .int ((nI t) + (1 : Int32))), (4, .int (fo + (gbC z1 pe br))), (6, .int (gbC z1 pe br)), (3, .ref (A 10 run.toNatClampNeg)), (2, .int many), (1, .int run), (0, .ref (A 0 0))]) rfl dX1_sample_126 ?_
          refine g_goto F (tgt := 50) (by decide) dX1_sample_129 ?_
          refine g_mono (P2 := gP 0 G (gsr (gsr S.1 0 0 (upd (S.1 0 0) 5 z1)) 10 run.toNatClampNeg (upd (upd (S.1 10 run.toNatClampNeg) 4 (br - (gbC z1 pe br))) 3 (pe - (1 : Int32))), S.2) A Fr []) (gP_S (by rw [can3, upd_uu, upd_sw (m := 3) (n := 4) (by decide), upd_uu, upd_uu])) ?_
          refine g_lv [1,0,3,4,5,6] (lv2 := [(4, .int (fo + (gbC z1 pe br))), (5, .int ((nI t) + (1 : Int32))), (3, .ref (A 10 run.toNatClampNeg)), (2, .int many), (1, .int run), (0, .ref (A 0 0))]) rfl ?_
          have q7 : nI t + 1 = nI (t + 1) := (nI_succ t).symm
          rw [q7]
          exact IH (z1) (pe - (1 : Int32)) (br - (gbC z1 pe br)) (fo + (gbC z1 pe br)) (t + 1) (by omega) hzl.2 hq.2 (by rw [hz1, ← gSaC_s]; exact hfn)
        refine g_if_ge F (tgt := 95) (by decide) dX1_sample_88 (fun c_8 => ?_) (fun c_8 => ?_)
        · skip
          refine g_iconst F (v := (0 : Int32)) (by decide) dX1_sample_95 ?_
          exact g_top (gb_f (fun q => q c_8)) J_9
        · skip
          refine g_iconst F (v := (1 : Int32)) (by decide) dX1_sample_91 ?_
          refine g_goto F (tgt := 96) (by decide) dX1_sample_92 ?_
          exact g_top (gb_t c_8) J_9
    refine g_mono (P2 := gP 0 G (gsr (gsr S.1 0 0 (upd (S.1 0 0) 5 (S.1 0 0 5))) 10 run.toNatClampNeg (upd (upd (S.1 10 run.toNatClampNeg) 4 (S.1 10 run.toNatClampNeg 4)) 3 (S.1 10 run.toNatClampNeg 3)), S.2) A Fr []) (gP_S (by rw [upd_id, upd_id, upd_id, gsr_id, gsr_id])) ?_
    refine g_lv [1,0,2,5,4,3] (lv2 := [(4, .int (0 : Int32)), (5, .int (0 : Int32)), (3, .ref (A 10 run.toNatClampNeg)), (2, .int many), (1, .int run), (0, .ref (A 0 0))]) rfl ?_
    exact LP many.toNatClampNeg (S.1 0 0 5) (S.1 10 run.toNatClampNeg 3) (S.1 10 run.toNatClampNeg 4) 0 0 (Nat.zero_add _) hz_ hp0 rfl
  refine g_icmp_lt F (tgt := 40) (by decide) dX1_sample_33 (fun c_4 => ?_) (fun c_4 => ?_)
  · skip
    refine g_iconst F (v := (0 : Int32)) (by decide) dX1_sample_40 ?_
    exact g_top (gb_f (fun q => q c_4)) J_5
  · skip
    refine g_iconst F (v := (1 : Int32)) (by decide) dX1_sample_36 ?_
    refine g_goto F (tgt := 41) (by decide) dX1_sample_37 ?_
    exact g_top (gb_t c_4) J_5

theorem kX15_init {l : Launch} {G : gG} (hl : l.stackTraces = false) {P : gH → Prop} (τ : Nat × Nat) {a : Nat} {g : Int32} (ha : gAt P a (.inr (12, [.int (0 : Int32), .null, .int (0 : Int32)]))) : gMet l yX15_init (ws_ yX15_init cX15_init 2 none) ⟨4, 1, 3, 72⟩ G [.ref a, .int g] P (fun r9 h => r9 = none ∧ ∃ l, (gUp (gNw P τ l (.inr (16, [.int 0, .ref (G.2.2.2.2.2.2.1 0), .int 0]))) a (.inr (12, [.int (0 : Int32), .null, .int (0 : Int32)])) (.inr (12, [.int g, .ref l, .int (0 : Int32)]))) h) gxN := by
  refine gMet_of hl pnX15 (gle rfl) (fun X Q hX F E hNm => ?_)
  subst hX
  change gW (X, G, 2, Q) P [(0, .ref a), (1, .int g)] 0 [] 0 0
  refine g_aload_n F 0 rfl rfl dX15_init_0 ?_
  refine g_objInit F q1195 dX15_init_1 (gle rfl) (gle rfl) ?_
  refine g_aload_n F 0 rfl rfl dX15_init_4 ?_
  refine g_new F clJ3 q1196 q83 q22 τ (fs := [.int (0 : Int32), .null, .int (0 : Int32)]) rfl 1 3 (gle rfl) (gle rfl) (gle rfl) (gle rfl) (Pa := fun a_1 => (gNw P τ a_1 (.inr (16, [.int (0 : Int32), .null, .int (0 : Int32)])))) gNw_new dX15_init_5 (fun a_1 => ?_)
  refine g_dup F rfl dX15_init_8 ?_
  refine g_callI F (kJ3_init hl gNw_at) rfl q1197 q85 q22 q86 myJ3_init ⟨by decide, by decide⟩ rfl rfl (gle rfl) 1 3 (gle rfl) (gle rfl) (gle rfl) (gle rfl) dX15_init_9 gx_n (gv_v ?_)
  refine g_mono gNw_up ?_
  refine g_mono (gUp_0 (gNw_rd ha)) ?_
  refine g_putF (P2 := (gUp (gNw P τ a_1 (.inr (16, [.int (0 : Int32), .ref (G.2.2.2.2.2.2.1 0), .int (0 : Int32)]))) a (.inr (12, [.int (0 : Int32), .null, .int (0 : Int32)])) (.inr (12, [.int (0 : Int32), .ref a_1, .int (0 : Int32)])))) F hNm clX15 1 (by decide) q1200 rfl rfl rfl rfl (gUp_put (gnl rfl)) dX15_init_12 ?_
  refine g_aload_n F 0 rfl rfl dX15_init_15 ?_
  refine g_iload_n F 1 rfl rfl dX15_init_16 ?_
  refine g_putF (P2 := (gUp (gNw P τ a_1 (.inr (16, [.int (0 : Int32), .ref (G.2.2.2.2.2.2.1 0), .int (0 : Int32)]))) a (.inr (12, [.int (0 : Int32), .null, .int (0 : Int32)])) (.inr (12, [.int g, .ref a_1, .int (0 : Int32)])))) F hNm clX15 0 (by decide) q1198 rfl rfl rfl rfl (gUp_put (gnl rfl)) dX15_init_17 ?_
  exact g_retV F E rfl (gle rfl) (gle rfl) dX15_init_20 (fun _ hp => ⟨rfl, _, hp⟩)

def sC_gross (S : gS) (grade : Int32) : gO := if ¬ grade < (0 : Int32) ∧ ¬ (19 : Int32) < grade then (if ¬ ((30 : Int32) ≤ (nI (S.2 11))) then (.inr (.int (nI (S.2 11)), (gsr S.1 11 (S.2 11) (gRw [grade, (0 : Int32)]), va_up S.2 11 (S.2 11 + 1)))) else (.inl "java/lang/IllegalStateException")) else (.inl "java/lang/IllegalArgumentException")
theorem kX1_gross {l : Launch} {G : gG} (hl : l.stackTraces = false) {S : gS} {a0 : Nat} {Fr : gH → Prop} (hF : gFr 0 Fr) (hW : gWf S) {grade : Int32}  : gMet l yX1_gross (ws_ yX1_gross cX1_gross 2 (some .int)) ⟨7, 6, 169, 731⟩ G [.ref a0, .int grade] (gPE 0 G S a0 Fr) (gqS (sC_gross S grade) 0 G a0 Fr) (gxS (sC_gross S grade) 0 G S a0 Fr) := by
  refine gMet_of hl pnX1 (gle rfl) (fun X Q hX F E hNm => ?_)
  subst hX
  change gW (X, G, 2, Q) (gPE 0 G S a0 Fr) [(0, .ref a0), (1, .int grade)] 0 [] 0 0
  refine g_pe (fun A hA => ?_)
  subst hA
  change gW _ _ [(0, .ref (A 0 0)), (1, .int grade)] 0 [] 0 0
  refine g_iconst F (v := (0 : Int32)) (by decide) dX1_gross_0 ?_
  refine g_bipush F (v := (19 : Int32)) (by decide) dX1_gross_1 ?_
  refine g_iconst F (v := (1 : Int32)) (by decide) dX1_gross_3 ?_
  refine g_newI F (5000, 0) (N := 1) rfl (by decide) 1 1 (gle rfl) (gle rfl) (gle rfl) (gle rfl) (Pa := fun a_1 => gP 0 G S A Fr [(a_1, gIA G 1 (fun _ => 0))]) (pr_new hF) dX1_gross_4 (fun a_1 => ?_)
  refine g_dup F rfl dX1_gross_6 ?_
  refine g_iconst F (v := (0 : Int32)) (by decide) dX1_gross_7 ?_
  refine g_iload_n F 1 rfl rfl dX1_gross_8 ?_
  refine g_iastN (P2 := gP 0 G S A Fr [(a_1, gIA G 1 (upd (fun _ => 0) 0 grade))]) F (m := 0) rfl (by decide) (by decide) (pr_setT gM0 hF (j := 0) rfl) dX1_gross_9 ?_
  refine g_callS F (kX1_isIn hl (pr_atT (j := 0) rfl)) (lw_S q305 q306 q18 q307) myX1_isIn ⟨by decide, by decide⟩ rfl rfl (gle rfl) 1 1 (gle rfl) (gle rfl) (gle rfl) (gle rfl) dX1_gross_10 gx_n (gv_i ?_)
  refine g_top (show _ = gb (¬ grade < (0 : Int32) ∧ ¬ (19 : Int32) < grade) from rfl) ?_
  refine g_mono (P2 := gP 0 G S A Fr []) (fun _ hp => gP_Tl 0 hp) ?_
  refine g_callS F (kX1_requireArgument hl (c := ¬ grade < (0 : Int32) ∧ ¬ (19 : Int32) < grade)) (lw_S q335 q336 q18 q337) myX1_requireArgument ⟨by decide, by decide⟩ rfl rfl (gle rfl) 2 7 (gle rfl) (gle rfl) (gle rfl) (gle rfl) dX1_gross_13 (gx_1 (fun c_2 => g_out0 F E (gle rfl) (gle rfl) (fun _ hp => ⟨(if_neg c_2), gPE_0 _ hp⟩))) (gv_c (fun c_2 => ?_))
  refine g_aload_n F 0 rfl rfl dX1_gross_16 ?_
  refine g_get F clX1 16 (by decide) q151 (v := .ref (A 311 0)) (gd_get (pr_at (κ := 0) (i := 0) (by decide) (gc1 (gnl rfl)) (gce rfl rfl)) rfl) dX1_gross_17 ?_
  refine g_callF F clJ3 (kJ3_size hl (pr_ls (M := 0) (S := S) (A := A) (κ := 11) (by decide) (Or.inl ⟨by decide, by decide⟩) (fun q => by first | decide | exact absurd q (by decide)) (fun q => by first | decide | exact absurd q (by decide)))) (g_recv F clJ3 (gls_obj (pr_ls (M := 0) (S := S) (A := A) (κ := 11) (by decide) (Or.inl ⟨by decide, by decide⟩) (fun q => by first | decide | exact absurd q (by decide)) (fun q => by first | decide | exact absurd q (by decide))))) q631 q634 q636 q22 q638 (List.mem_of_getElem? (i := 0) rfl) (gT_w q637 rfl) (gT_w q635 rfl) (gT_w q293 rfl) gface_0 ⟨by decide, by decide⟩ rfl rfl (gle rfl) 2 7 (gle rfl) (gle rfl) (gle rfl) (gle rfl) dX1_gross_20 gx_n (gv_i ?_)
  refine g_bipush F (v := (30 : Int32)) (by decide) dX1_gross_25 ?_
  have J_4 : gW (X, G, 2, Q) (gP 0 G S A Fr []) [(0, .ref (A 0 0)), (1, .int grade)] 35 [.int (gb (¬ ((30 : Int32) ≤ (nI (S.2 11)))))] 2 7 := by
    refine g_callS F (kX1_requireState hl (c := ¬ ((30 : Int32) ≤ (nI (S.2 11))))) (lw_S q406 q407 q18 q408) myX1_requireState ⟨by decide, by decide⟩ rfl rfl (gle rfl) 3 13 (gle rfl) (gle rfl) (gle rfl) (gle rfl) dX1_gross_35 (gx_1 (fun c_5 => g_out0 F E (gle rfl) (gle rfl) (fun _ hp => ⟨((if_pos c_2).trans (if_neg c_5)), gPE_0 _ hp⟩))) (gv_c (fun c_5 => ?_))
    refine g_aload_n F 0 rfl rfl dX1_gross_38 ?_
    refine g_get F clX1 16 (by decide) q151 (v := .ref (A 311 0)) (gd_get (pr_at (κ := 0) (i := 0) (by decide) (gc1 (gnl rfl)) (gce rfl rfl)) rfl) dX1_gross_39 ?_
    refine g_new F clX15 q298 q1191 q53 (5000, 0) (fs := [.int (0 : Int32), .null, .int (0 : Int32)]) rfl 4 16 (gle rfl) (gle rfl) (gle rfl) (gle rfl) (Pa := fun a_6 => gP 0 G S A Fr [(a_6, .inr (12, [.int (0 : Int32), .null, .int (0 : Int32)]))]) (pr_new hF) dX1_gross_42 (fun a_6 => ?_)
    refine g_dup F rfl dX1_gross_45 ?_
    refine g_iload_n F 1 rfl rfl dX1_gross_46 ?_
    refine g_callI F (kX15_init hl (5001, 0) (pr_atT (j := 0) rfl)) rfl q1192 q1193 q53 q1194 myX15_init ⟨by decide, by decide⟩ rfl rfl (gle rfl) 5 19 (gle rfl) (gle rfl) (gle rfl) (gle rfl) dX1_gross_47 gx_n (fun v9 => gv_c9 (fun l_7 => ?_))
    refine g_mono (P2 := gP 0 G S A Fr [(a_6, .inr (12, [.int grade, .ref l_7, .int (0 : Int32)])), (l_7, .inr (16, [.int 0, .ref (G.2.2.2.2.2.2.1 0), .int 0]))]) (fun _ hp => pr_up gM0 hF (j := 0) rfl _ (gUp_mono (pr_nw hF) _ hp)) ?_
    refine g_callF F clJ3 (kJ3_add hl (pr_ls (M := 0) (S := S) (A := A) (κ := 11) (by decide) (Or.inl ⟨by decide, by decide⟩) (fun q => by first | decide | exact absurd q (by decide)) (fun q => by first | decide | exact absurd q (by decide))) (Nat.le_trans (gw_64 hW _) (by decide)) (pr_elT (j := 0) rfl (Or.inl ⟨_, _, rfl, by decide, by decide⟩)) (pr_el (by decide) (by decide) (fun q => by first | decide | exact absurd q (by decide)) (fun q => by first | decide | exact absurd q (by decide)))) (g_recv F clJ3 (gls_obj (pr_ls (M := 0) (S := S) (A := A) (κ := 11) (by decide) (Or.inl ⟨by decide, by decide⟩) (fun q => by first | decide | exact absurd q (by decide)) (fun q => by first | decide | exact absurd q (by decide))))) q677 q680 q682 q22 q684 (List.mem_of_getElem? (i := 2) rfl) (gT_w q683 rfl) (gT_w q681 rfl) (gT_w q293 rfl) gface_2 ⟨by decide, by decide⟩ rfl rfl (gle rfl) 6 169 (gle rfl) (gle rfl) (gle rfl) (gle rfl) dX1_gross_50 gx_n (gv_i ?_)
    refine g_retag (P2 := gP 0 G (gsr S.1 11 (S.2 11) (gRw [grade, (0 : Int32)]), va_up S.2 11 (S.2 11 + 1)) (gAa (gAa A 11 (S.2 11) a_6) (400 + S.2 11) 0 l_7) Fr []) (pr_addG (T0 := []) gM0 hF hW (g30C c_5 (gw_11 hW)) (gRw [grade, (0 : Int32)]) gcell_g0) ?_
    refine g_pop F rfl dX1_gross_55 ?_
    refine g_aload_n F 0 rfl rfl dX1_gross_56 ?_
    refine g_get F clX1 16 (by decide) q151 (v := .ref (A 311 0)) (gd_get (pr_atA4 gM0 (κ := 0) (i := 0) (by decide) (by decide) (gc1 (gnl rfl)) (gce (show (gsr S.1 11 (S.2 11) (gRw [grade, (0 : Int32)])) 0 0 = S.1 0 0 from (gsr_p (by decide) rfl)) rfl)) rfl) dX1_gross_57 ?_
    refine g_callF F clJ3 (kJ3_size hl (pr_lsA4 (M := 0) (S := (gsr S.1 11 (S.2 11) (gRw [grade, (0 : Int32)]), va_up S.2 11 (S.2 11 + 1))) (A := gAa A 11 (S.2 11) a_6) (κ := 11) (by decide) (Or.inl ⟨by decide, by decide⟩) (fun q => by first | decide | exact absurd q (by decide)) (fun q => by first | decide | exact absurd q (by decide)))) (g_recv F clJ3 (gls_obj (pr_lsA4 (M := 0) (S := (gsr S.1 11 (S.2 11) (gRw [grade, (0 : Int32)]), va_up S.2 11 (S.2 11 + 1))) (A := gAa A 11 (S.2 11) a_6) (κ := 11) (by decide) (Or.inl ⟨by decide, by decide⟩) (fun q => by first | decide | exact absurd q (by decide)) (fun q => by first | decide | exact absurd q (by decide))))) q631 q634 q636 q22 q638 (List.mem_of_getElem? (i := 0) rfl) (gT_w q637 rfl) (gT_w q635 rfl) (gT_w q293 rfl) gface_0 ⟨by decide, by decide⟩ rfl rfl (gle rfl) 6 169 (gle rfl) (gle rfl) (gle rfl) (gle rfl) dX1_gross_60 gx_n (gv_i ?_)
    refine g_iconst F (v := (1 : Int32)) (by decide) dX1_gross_65 ?_
    refine g_isub F dX1_gross_66 ?_
    refine g_top (nI_pred (S.2 11)) ?_
    exact g_retI F E rfl rfl (gle rfl) (gle rfl) dX1_gross_67 (fun _ hp => ⟨_, _, ((if_pos c_2).trans (if_pos c_5)), rfl, ⟨gAa (gAa A 11 (S.2 11) a_6) (400 + S.2 11) 0 l_7, gAa4_00, gP_T0 hp⟩⟩)
  refine g_icmp_ge F (tgt := 34) (by decide) dX1_gross_27 (fun c_3 => ?_) (fun c_3 => ?_)
  · skip
    refine g_iconst F (v := (0 : Int32)) (by decide) dX1_gross_34 ?_
    exact g_top (gb_f (fun q => q c_3)) J_4
  · skip
    refine g_iconst F (v := (1 : Int32)) (by decide) dX1_gross_30 ?_
    refine g_goto F (tgt := 35) (by decide) dX1_gross_31 ?_
    exact g_top (gb_t c_3) J_4

def sC_seed (S : gS) (zz : Int32) : gO := if ¬ zz < (1 : Int32) ∧ ¬ (2147483646 : Int32) < zz then (.inr (.int (S.1 0 0 5), (gsr S.1 0 0 (upd (S.1 0 0) 5 zz), S.2))) else (.inl "java/lang/IllegalArgumentException")
theorem kX1_seed {l : Launch} {G : gG} (hl : l.stackTraces = false) {S : gS} {a0 : Nat} {Fr : gH → Prop} (hF : gFr 0 Fr) (hW : gWf S) {zz : Int32}  : gMet l yX1_seed (ws_ yX1_seed cX1_seed 3 (some .int)) ⟨7, 2, 7, 101⟩ G [.ref a0, .int zz] (gPE 0 G S a0 Fr) (gqS (sC_seed S zz) 0 G a0 Fr) (gxS (sC_seed S zz) 0 G S a0 Fr) := by
  refine gMet_of hl pnX1 (gle rfl) (fun X Q hX F E hNm => ?_)
  subst hX
  change gW (X, G, 3, Q) (gPE 0 G S a0 Fr) [(0, .ref a0), (1, .int zz)] 0 [] 0 0
  refine g_pe (fun A hA => ?_)
  subst hA
  change gW _ _ [(0, .ref (A 0 0)), (1, .int zz)] 0 [] 0 0
  refine g_iconst F (v := (1 : Int32)) (by decide) dX1_seed_0 ?_
  refine g_ldcw F (v := (2147483646 : Int32)) q1183 dX1_seed_1 ?_
  refine g_iconst F (v := (1 : Int32)) (by decide) dX1_seed_4 ?_
  refine g_newI F (5000, 0) (N := 1) rfl (by decide) 1 1 (gle rfl) (gle rfl) (gle rfl) (gle rfl) (Pa := fun a_1 => gP 0 G S A Fr [(a_1, gIA G 1 (fun _ => 0))]) (pr_new hF) dX1_seed_5 (fun a_1 => ?_)
  refine g_dup F rfl dX1_seed_7 ?_
  refine g_iconst F (v := (0 : Int32)) (by decide) dX1_seed_8 ?_
  refine g_iload_n F 1 rfl rfl dX1_seed_9 ?_
  refine g_iastN (P2 := gP 0 G S A Fr [(a_1, gIA G 1 (upd (fun _ => 0) 0 zz))]) F (m := 0) rfl (by decide) (by decide) (pr_setT gM0 hF (j := 0) rfl) dX1_seed_10 ?_
  refine g_callS F (kX1_isIn hl (pr_atT (j := 0) rfl)) (lw_S q305 q306 q18 q307) myX1_isIn ⟨by decide, by decide⟩ rfl rfl (gle rfl) 1 1 (gle rfl) (gle rfl) (gle rfl) (gle rfl) dX1_seed_11 gx_n (gv_i ?_)
  refine g_top (show _ = gb (¬ zz < (1 : Int32) ∧ ¬ (2147483646 : Int32) < zz) from rfl) ?_
  refine g_mono (P2 := gP 0 G S A Fr []) (fun _ hp => gP_Tl 0 hp) ?_
  refine g_callS F (kX1_requireArgument hl (c := ¬ zz < (1 : Int32) ∧ ¬ (2147483646 : Int32) < zz)) (lw_S q335 q336 q18 q337) myX1_requireArgument ⟨by decide, by decide⟩ rfl rfl (gle rfl) 2 7 (gle rfl) (gle rfl) (gle rfl) (gle rfl) dX1_seed_14 (gx_1 (fun c_2 => g_out0 F E (gle rfl) (gle rfl) (fun _ hp => ⟨(if_neg c_2), gPE_0 _ hp⟩))) (gv_c (fun c_2 => ?_))
  refine g_aload_n F 0 rfl rfl dX1_seed_17 ?_
  refine g_get F clX1 6 (by decide) q141 (v := .long ((S.1 0 0 5).toInt64)) (gd_get (pr_at (κ := 0) (i := 0) (by decide) (gc1 (gnl rfl)) (gce rfl rfl)) rfl) dX1_seed_18 ?_
  refine g_l2i F dX1_seed_21 ?_
  refine g_top (Int32.toInt32_toInt64 _) ?_
  refine g_istore_n F rfl (by show 2 < 3; decide) (lv2 := [(2, .int (S.1 0 0 5)), (0, .ref (A 0 0)), (1, .int zz)]) rfl dX1_seed_22 ?_
  refine g_aload_n F 1 rfl rfl dX1_seed_23 ?_
  refine g_iload_n F 2 rfl rfl dX1_seed_24 ?_
  refine g_i2l F dX1_seed_25 ?_
  refine g_put (P2 := gP 0 G (gsr S.1 0 0 (upd (S.1 0 0) 5 zz), S.2) A Fr []) F clX1 6 (by decide) q141 rfl rfl rfl (pr_put (κ := 0) (i := 0) gM0 hF (upd (S.1 0 0) 5 zz) (by decide) (gc1 (gnl rfl)) (gce rfl rfl) (gnl rfl) rfl) dX1_seed_26 ?_
  refine g_iload_n F 0 rfl rfl dX1_seed_29 ?_
  exact g_retI F E rfl rfl (gle rfl) (gle rfl) dX1_seed_30 (fun _ hp => ⟨_, _, (if_pos c_2), rfl, ⟨A, rfl, gP_T0 hp⟩⟩)
