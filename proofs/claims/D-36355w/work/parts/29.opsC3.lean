def sC_parts (S : gS) (gross : Int32) : gO := if gIn gross (S.2 11) then (.inr (.int (nI (S.2 (100 + gross.toNatClampNeg))), S)) else (.inl "java/lang/IndexOutOfBoundsException")
theorem kX1_parts {l : Launch} {G : gG} (hl : l.stackTraces = false) {S : gS} {a0 : Nat} {Fr : gH → Prop} (hF : gFr 0 Fr) (hW : gWf S) {gross : Int32}  : gMet l yX1_parts (ws_ yX1_parts cX1_parts 2 (some .int)) ⟨8, 1, 6, 123⟩ G [.ref a0, .int gross] (gPE 0 G S a0 Fr) (gqS (sC_parts S gross) 0 G a0 Fr) (gxS (sC_parts S gross) 0 G S a0 Fr) := by
  refine gMet_of hl pnX1 (gle rfl) (fun X Q hX F E hNm => ?_)
  subst hX
  change gW (X, G, 2, Q) (gPE 0 G S a0 Fr) [(0, .ref a0), (1, .int gross)] 0 [] 0 0
  refine g_pe (fun A hA => ?_)
  subst hA
  change gW _ _ [(0, .ref (A 0 0)), (1, .int gross)] 0 [] 0 0
  refine g_aload_n F 0 rfl rfl dX1_parts_0 ?_
  refine g_get F clX1 16 (by decide) q151 (v := .ref (A 311 0)) (gd_get (pr_at (κ := 0) (i := 0) (by decide) (gc1 (gnl rfl)) (gce rfl rfl)) rfl) dX1_parts_1 ?_
  refine g_iload_n F 1 rfl rfl dX1_parts_4 ?_
  refine g_callS F (kX1_require hl (pr_ls (M := 0) (S := S) (A := A) (κ := 11) (by decide) (Or.inl ⟨by decide, by decide⟩) (fun q => by first | decide | exact absurd q (by decide)) (fun q => by first | decide | exact absurd q (by decide))) (gw_n hW _) (x := gross)) (lw_S q784 q785 q18 q786) myX1_require ⟨by decide, by decide⟩ rfl rfl (gle rfl) 1 6 (gle rfl) (gle rfl) (gle rfl) (gle rfl) dX1_parts_5 (gx_1 (fun c_1 => g_out0 F E (gle rfl) (gle rfl) (fun _ hp => ⟨(if_neg c_1), gPE_0 _ hp⟩))) (gv_y (fun c_1 => ?_))
  refine g_castS F (g_recv F clX15 (gd_obj (pr_at (κ := 11) (i := gross.toNatClampNeg) (by decide) (gc6 (by decide) c_1.2) (gce rfl rfl)))) q298 dX1_parts_8 ?_
  refine g_getN F clX15 1 (by decide) (gT_w q1201 rfl) (v := .ref (A (400 + gross.toNatClampNeg) 0)) (gd_get (pr_at (κ := 11) (i := gross.toNatClampNeg) (by decide) (gc6 (by decide) c_1.2) (gce rfl rfl)) rfl) dX1_parts_11 ?_
  refine g_callF F clJ3 (kJ3_size hl (pr_lsp (M := 0) (S := S) (A := A) (g := gross.toNatClampNeg) hW c_1.2)) (g_recv F clJ3 (gls_obj (pr_lsp (M := 0) (S := S) (A := A) (g := gross.toNatClampNeg) hW c_1.2))) q631 q634 q636 q22 q638 (List.mem_of_getElem? (i := 0) rfl) (gT_w q637 rfl) (gT_w q635 rfl) (gT_w q293 rfl) gface_0 ⟨by decide, by decide⟩ rfl rfl (gle rfl) 1 6 (gle rfl) (gle rfl) (gle rfl) (gle rfl) dX1_parts_14 gx_n (gv_i ?_)
  exact g_retI F E rfl rfl (gle rfl) (gle rfl) dX1_parts_19 (fun _ hp => ⟨_, _, (if_pos c_1), rfl, ⟨A, rfl, gP_T0 hp⟩⟩)

def sC_trace (S : gS) (gross part what : Int32) : gO := if gIn gross (S.2 11) then (if gIn part (S.2 (100 + gross.toNatClampNeg)) then (if ¬ ((gidx 6 what) < 0) then (if what = (98 : Int32) then (.inr (.int (nI ((S.1 10 ((S.1 (100 + gross.toNatClampNeg) part.toNatClampNeg 0).toNatClampNeg) 0).toNatClampNeg)), S)) else (if what = (102 : Int32) then (.inr (.int (S.1 8 ((S.1 10 ((S.1 (100 + gross.toNatClampNeg) part.toNatClampNeg 0).toNatClampNeg) 0).toNatClampNeg) 6), S)) else (if what = (103 : Int32) then (if S.1 6 ((S.1 7 ((S.1 8 ((S.1 10 ((S.1 (100 + gross.toNatClampNeg) part.toNatClampNeg 0).toNatClampNeg) 0).toNatClampNeg) 0).toNatClampNeg) 0).toNatClampNeg) 0 = (103 : Int32) then (.inr (.int (nI ((S.1 7 ((S.1 8 ((S.1 10 ((S.1 (100 + gross.toNatClampNeg) part.toNatClampNeg 0).toNatClampNeg) 0).toNatClampNeg) 0).toNatClampNeg) 0).toNatClampNeg)), S)) else (.inr (.int (nI ((S.1 7 ((S.1 8 ((S.1 10 ((S.1 (100 + gross.toNatClampNeg) part.toNatClampNeg 0).toNatClampNeg) 0).toNatClampNeg) 0).toNatClampNeg) 0).toNatClampNeg)), S))) else (if what = (104 : Int32) then (.inr (.int (S.1 10 ((S.1 (100 + gross.toNatClampNeg) part.toNatClampNeg 0).toNatClampNeg) 2), S)) else (if what = (107 : Int32) then (.inr (.int (S.1 8 ((S.1 10 ((S.1 (100 + gross.toNatClampNeg) part.toNatClampNeg 0).toNatClampNeg) 0).toNatClampNeg) 7), S)) else (if what = (110 : Int32) then (.inr (.int (S.1 (100 + gross.toNatClampNeg) part.toNatClampNeg 1), S)) else (if what = (114 : Int32) then (.inr (.int (nI ((S.1 (100 + gross.toNatClampNeg) part.toNatClampNeg 0).toNatClampNeg)), S)) else (if what = (115 : Int32) then (.inr (.int (nI ((S.1 10 ((S.1 (100 + gross.toNatClampNeg) part.toNatClampNeg 0).toNatClampNeg) 1).toNatClampNeg)), S)) else (if what = (120 : Int32) then (.inr (.int (S.1 (100 + gross.toNatClampNeg) part.toNatClampNeg 2), S)) else (if S.1 6 ((S.1 7 ((S.1 8 ((S.1 10 ((S.1 (100 + gross.toNatClampNeg) part.toNatClampNeg 0).toNatClampNeg) 0).toNatClampNeg) 0).toNatClampNeg) 1).toNatClampNeg) 0 = (103 : Int32) then (.inr (.int (nI ((S.1 7 ((S.1 8 ((S.1 10 ((S.1 (100 + gross.toNatClampNeg) part.toNatClampNeg 0).toNatClampNeg) 0).toNatClampNeg) 0).toNatClampNeg) 1).toNatClampNeg)), S)) else (.inr (.int (nI ((S.1 7 ((S.1 8 ((S.1 10 ((S.1 (100 + gross.toNatClampNeg) part.toNatClampNeg 0).toNatClampNeg) 0).toNatClampNeg) 0).toNatClampNeg) 1).toNatClampNeg)), S)))))))))))) else (.inl "java/lang/IllegalArgumentException")) else (.inl "java/lang/IndexOutOfBoundsException")) else (.inl "java/lang/IndexOutOfBoundsException")
theorem kX1_trace {l : Launch} {G : gG} (hl : l.stackTraces = false) {S : gS} {a0 : Nat} {Fr : gH → Prop} (hF : gFr 0 Fr) (hW : gWf S) {gross part what : Int32} (h_what : ¬ what < 0) : gMet l yX1_trace (ws_ yX1_trace cX1_trace 6 (some .int)) ⟨8, 3, 18, 123⟩ G [.ref a0, .int gross, .int part, .int what] (gPE 0 G S a0 Fr) (gqS (sC_trace S gross part what) 0 G a0 Fr) (gxS (sC_trace S gross part what) 0 G S a0 Fr) := by
  refine gMet_of hl pnX1 (gle rfl) (fun X Q hX F E hNm => ?_)
  subst hX
  change gW (X, G, 6, Q) (gPE 0 G S a0 Fr) [(0, .ref a0), (1, .int gross), (2, .int part), (3, .int what)] 0 [] 0 0
  refine g_pe (fun A hA => ?_)
  subst hA
  change gW _ _ [(0, .ref (A 0 0)), (1, .int gross), (2, .int part), (3, .int what)] 0 [] 0 0
  refine g_aload_n F 0 rfl rfl dX1_trace_0 ?_
  refine g_get F clX1 16 (by decide) q151 (v := .ref (A 311 0)) (gd_get (pr_at (κ := 0) (i := 0) (by decide) (gc1 (gnl rfl)) (gce rfl rfl)) rfl) dX1_trace_1 ?_
  refine g_iload_n F 1 rfl rfl dX1_trace_4 ?_
  refine g_callS F (kX1_require hl (pr_ls (M := 0) (S := S) (A := A) (κ := 11) (by decide) (Or.inl ⟨by decide, by decide⟩) (fun q => by first | decide | exact absurd q (by decide)) (fun q => by first | decide | exact absurd q (by decide))) (gw_n hW _) (x := gross)) (lw_S q784 q785 q18 q786) myX1_require ⟨by decide, by decide⟩ rfl rfl (gle rfl) 1 6 (gle rfl) (gle rfl) (gle rfl) (gle rfl) dX1_trace_5 (gx_1 (fun c_1 => g_out0 F E (gle rfl) (gle rfl) (fun _ hp => ⟨(if_neg c_1), gPE_0 _ hp⟩))) (gv_y (fun c_1 => ?_))
  refine g_castS F (g_recv F clX15 (gd_obj (pr_at (κ := 11) (i := gross.toNatClampNeg) (by decide) (gc6 (by decide) c_1.2) (gce rfl rfl)))) q298 dX1_trace_8 ?_
  refine g_getN F clX15 1 (by decide) (gT_w q1201 rfl) (v := .ref (A (400 + gross.toNatClampNeg) 0)) (gd_get (pr_at (κ := 11) (i := gross.toNatClampNeg) (by decide) (gc6 (by decide) c_1.2) (gce rfl rfl)) rfl) dX1_trace_11 ?_
  refine g_iload_n F 2 rfl rfl dX1_trace_14 ?_
  refine g_callS F (kX1_require hl (pr_lsp (M := 0) (S := S) (A := A) (g := gross.toNatClampNeg) hW c_1.2) (gw_n hW _) (x := part)) (lw_S q784 q785 q18 q786) myX1_require ⟨by decide, by decide⟩ rfl rfl (gle rfl) 2 12 (gle rfl) (gle rfl) (gle rfl) (gle rfl) dX1_trace_15 (gx_1 (fun c_2 => g_out0 F E (gle rfl) (gle rfl) (fun _ hp => ⟨((if_pos c_1).trans (if_neg c_2)), gPE_0 _ hp⟩))) (gv_y (fun c_2 => ?_))
  refine g_castS F (g_recv F clX17 (gd_obj (pr_at (κ := (100 + gross.toNatClampNeg)) (i := part.toNatClampNeg) (gk3 hW c_1.2) (gc6 (by omega) c_2.2) (gce rfl gcell_p0)))) q1217 dX1_trace_18 ?_
  refine g_astore F (by show 4 < 6; decide) (lv2 := [(4, .ref (A (100 + gross.toNatClampNeg) part.toNatClampNeg)), (0, .ref (A 0 0)), (1, .int gross), (2, .int part), (3, .int what)]) rfl dX1_trace_21 ?_
  refine g_ldcSW F (i := 6) (List.mem_of_getElem? (i := 6) rfl) dX1_trace_23 ?_
  refine g_iload_n F 4 rfl rfl dX1_trace_26 ?_
  refine g_callV F (kJ0_indexOf hl (by decide) (ch := what) h_what) (g_srecv F (by decide)) q435 q436 q437 q19 q438 myJ0_indexOf ⟨by decide, by decide⟩ rfl rfl (gle rfl) 2 12 (gle rfl) (gle rfl) (gle rfl) (gle rfl) dX1_trace_27 gx_n (gv_i ?_)
  have J_4 : gW (X, G, 6, Q) (gP 0 G S A Fr []) [(4, .ref (A (100 + gross.toNatClampNeg) part.toNatClampNeg)), (0, .ref (A 0 0)), (1, .int gross), (2, .int part), (3, .int what)] 38 [.int (gb (¬ ((gidx 6 what) < 0)))] 2 12 := by
    refine g_callS F (kX1_requireArgument hl (c := ¬ ((gidx 6 what) < 0))) (lw_S q335 q336 q18 q337) myX1_requireArgument ⟨by decide, by decide⟩ rfl rfl (gle rfl) 3 18 (gle rfl) (gle rfl) (gle rfl) (gle rfl) dX1_trace_38 (gx_1 (fun c_5 => g_out0 F E (gle rfl) (gle rfl) (fun _ hp => ⟨((if_pos c_1).trans ((if_pos c_2).trans (if_neg c_5))), gPE_0 _ hp⟩))) (gv_c (fun c_5 => ?_))
    refine g_aload F 0 rfl dX1_trace_41 ?_
    refine g_callV F (kX17_run hl (pr_at (κ := (100 + gross.toNatClampNeg)) (i := part.toNatClampNeg) (gk3 hW c_1.2) (gc6 (by omega) c_2.2) (gce rfl gcell_p0))) (g_recv F clX17 (gd_obj (pr_at (κ := (100 + gross.toNatClampNeg)) (i := part.toNatClampNeg) (gk3 hW c_1.2) (gc6 (by omega) c_2.2) (gce rfl gcell_p0)))) q317 q318 q319 q57 q320 myX17_run ⟨by decide, by decide⟩ rfl rfl (gle rfl) 3 18 (gle rfl) (gle rfl) (gle rfl) (gle rfl) dX1_trace_43 gx_n (gv_i ?_)
    refine g_astore F (by show 5 < 6; decide) (lv2 := [(5, .ref (A 10 (S.1 (100 + gross.toNatClampNeg) part.toNatClampNeg 0).toNatClampNeg)), (4, .ref (A (100 + gross.toNatClampNeg) part.toNatClampNeg)), (0, .ref (A 0 0)), (1, .int gross), (2, .int part), (3, .int what)]) rfl dX1_trace_46 ?_
    refine g_iload_n F 5 rfl rfl dX1_trace_48 ?_
    refine g_cases (x := what) (98 : Int32) (fun w_6 => ?_) (fun w_6 => ?_)
    · skip
      refine g_tableIn F (x := what) (by rw [w_6]; decide) (by rw [w_6]; decide) (off := 131) (by rw [w_6]; rfl) (tgt := 180) (by decide) dX1_trace_49 ?_
      refine g_aload F 0 rfl dX1_trace_180 ?_
      refine g_getN F clX13 1 (by decide) (gT_w q1083 rfl) (v := .ref (A 8 (S.1 10 ((S.1 (100 + gross.toNatClampNeg) part.toNatClampNeg 0).toNatClampNeg) 0).toNatClampNeg)) (gd_get (pr_at (κ := 10) (i := (S.1 (100 + gross.toNatClampNeg) part.toNatClampNeg 0).toNatClampNeg) (by decide) (gc6 (by decide) (gw_p_0 hW c_1.2 c_2.2).2) (gce rfl rfl)) rfl) dX1_trace_182 ?_
      refine g_getN F clX9 0 (by decide) (gT_w q884 rfl) (v := .int (nI ((S.1 10 ((S.1 (100 + gross.toNatClampNeg) part.toNatClampNeg 0).toNatClampNeg) 0).toNatClampNeg))) (gd_get (pr_at (κ := 8) (i := (S.1 10 ((S.1 (100 + gross.toNatClampNeg) part.toNatClampNeg 0).toNatClampNeg) 0).toNatClampNeg) (by decide) (gc6 (by decide) (gw_10_0 hW (gw_p_0 hW c_1.2 c_2.2).2).2) (gce rfl rfl)) rfl) dX1_trace_185 ?_
      refine g_goto F (tgt := 263) (by decide) dX1_trace_188 ?_
      exact g_retI F E rfl rfl (gle rfl) (gle rfl) dX1_trace_263 (fun _ hp => ⟨_, _, ((if_pos c_1).trans ((if_pos c_2).trans ((if_pos c_5).trans (if_pos w_6)))), rfl, ⟨A, rfl, gP_T0 hp⟩⟩)
    refine g_cases (x := what) (102 : Int32) (fun w_7 => ?_) (fun w_7 => ?_)
    · skip
      refine g_tableIn F (x := what) (by rw [w_7]; decide) (by rw [w_7]; decide) (off := 142) (by rw [w_7]; rfl) (tgt := 191) (by decide) dX1_trace_49 ?_
      refine g_aload F 0 rfl dX1_trace_191 ?_
      refine g_getN F clX13 1 (by decide) (gT_w q1083 rfl) (v := .ref (A 8 (S.1 10 ((S.1 (100 + gross.toNatClampNeg) part.toNatClampNeg 0).toNatClampNeg) 0).toNatClampNeg)) (gd_get (pr_at (κ := 10) (i := (S.1 (100 + gross.toNatClampNeg) part.toNatClampNeg 0).toNatClampNeg) (by decide) (gc6 (by decide) (gw_p_0 hW c_1.2 c_2.2).2) (gce rfl rfl)) rfl) dX1_trace_193 ?_
      refine g_getN F clX9 8 (by decide) (gT_w q898 rfl) (v := .int (S.1 8 ((S.1 10 ((S.1 (100 + gross.toNatClampNeg) part.toNatClampNeg 0).toNatClampNeg) 0).toNatClampNeg) 6)) (gd_get (pr_at (κ := 8) (i := (S.1 10 ((S.1 (100 + gross.toNatClampNeg) part.toNatClampNeg 0).toNatClampNeg) 0).toNatClampNeg) (by decide) (gc6 (by decide) (gw_10_0 hW (gw_p_0 hW c_1.2 c_2.2).2).2) (gce rfl rfl)) rfl) dX1_trace_196 ?_
      refine g_goto F (tgt := 263) (by decide) dX1_trace_199 ?_
      exact g_retI F E rfl rfl (gle rfl) (gle rfl) dX1_trace_263 (fun _ hp => ⟨_, _, ((if_pos c_1).trans ((if_pos c_2).trans ((if_pos c_5).trans ((if_neg w_6).trans (if_pos w_7))))), rfl, ⟨A, rfl, gP_T0 hp⟩⟩)
    refine g_cases (x := what) (103 : Int32) (fun w_8 => ?_) (fun w_8 => ?_)
    · skip
      refine g_tableIn F (x := what) (by rw [w_8]; decide) (by rw [w_8]; decide) (off := 183) (by rw [w_8]; rfl) (tgt := 232) (by decide) dX1_trace_49 ?_
      refine g_aload F 0 rfl dX1_trace_232 ?_
      refine g_getN F clX13 1 (by decide) (gT_w q1083 rfl) (v := .ref (A 8 (S.1 10 ((S.1 (100 + gross.toNatClampNeg) part.toNatClampNeg 0).toNatClampNeg) 0).toNatClampNeg)) (gd_get (pr_at (κ := 10) (i := (S.1 (100 + gross.toNatClampNeg) part.toNatClampNeg 0).toNatClampNeg) (by decide) (gc6 (by decide) (gw_p_0 hW c_1.2 c_2.2).2) (gce rfl rfl)) rfl) dX1_trace_234 ?_
      refine g_getN F clX9 1 (by decide) (gT_w q886 rfl) (v := .ref (A 7 (S.1 8 ((S.1 10 ((S.1 (100 + gross.toNatClampNeg) part.toNatClampNeg 0).toNatClampNeg) 0).toNatClampNeg) 0).toNatClampNeg)) (gd_get (pr_at (κ := 8) (i := (S.1 10 ((S.1 (100 + gross.toNatClampNeg) part.toNatClampNeg 0).toNatClampNeg) 0).toNatClampNeg) (by decide) (gc6 (by decide) (gw_10_0 hW (gw_p_0 hW c_1.2 c_2.2).2).2) (gce rfl rfl)) rfl) dX1_trace_237 ?_
      refine g_getN F clX8 0 (by decide) (gT_w q840 rfl) (v := .ref (A 6 (S.1 7 ((S.1 8 ((S.1 10 ((S.1 (100 + gross.toNatClampNeg) part.toNatClampNeg 0).toNatClampNeg) 0).toNatClampNeg) 0).toNatClampNeg) 0).toNatClampNeg)) (gd_get (pr_at (κ := 7) (i := (S.1 8 ((S.1 10 ((S.1 (100 + gross.toNatClampNeg) part.toNatClampNeg 0).toNatClampNeg) 0).toNatClampNeg) 0).toNatClampNeg) (by decide) (gc6 (by decide) (gw_8_0 hW (gw_10_0 hW (gw_p_0 hW c_1.2 c_2.2).2).2).2) (gce rfl rfl)) rfl) dX1_trace_240 ?_
      refine g_cases (x := S.1 6 ((S.1 7 ((S.1 8 ((S.1 10 ((S.1 (100 + gross.toNatClampNeg) part.toNatClampNeg 0).toNatClampNeg) 0).toNatClampNeg) 0).toNatClampNeg) 0).toNatClampNeg) 0) (103 : Int32) (fun w_9 => ?_) (fun w_9 => ?_)
      · skip
        refine g_getN F clX6 0 (by decide) (gT_w q649 rfl) (v := .int (nI ((S.1 7 ((S.1 8 ((S.1 10 ((S.1 (100 + gross.toNatClampNeg) part.toNatClampNeg 0).toNatClampNeg) 0).toNatClampNeg) 0).toNatClampNeg) 0).toNatClampNeg))) (gd_get (pr_at (κ := 6) (i := (S.1 7 ((S.1 8 ((S.1 10 ((S.1 (100 + gross.toNatClampNeg) part.toNatClampNeg 0).toNatClampNeg) 0).toNatClampNeg) 0).toNatClampNeg) 0).toNatClampNeg) (by decide) (gc6 (by decide) (gw_7_0 hW (gw_8_0 hW (gw_10_0 hW (gw_p_0 hW c_1.2 c_2.2).2).2).2).2) (gce rfl (glot3 w_9))) rfl) dX1_trace_243 ?_
        refine g_goto F (tgt := 263) (by decide) dX1_trace_246 ?_
        exact g_retI F E rfl rfl (gle rfl) (gle rfl) dX1_trace_263 (fun _ hp => ⟨_, _, ((if_pos c_1).trans ((if_pos c_2).trans ((if_pos c_5).trans ((if_neg w_6).trans ((if_neg w_7).trans ((if_pos w_8).trans (if_pos w_9))))))), rfl, ⟨A, rfl, gP_T0 hp⟩⟩)
      · skip
        refine g_getN F clX7 0 (by decide) (gT_w q649 rfl) (v := .int (nI ((S.1 7 ((S.1 8 ((S.1 10 ((S.1 (100 + gross.toNatClampNeg) part.toNatClampNeg 0).toNatClampNeg) 0).toNatClampNeg) 0).toNatClampNeg) 0).toNatClampNeg))) (gd_get (pr_at (κ := 6) (i := (S.1 7 ((S.1 8 ((S.1 10 ((S.1 (100 + gross.toNatClampNeg) part.toNatClampNeg 0).toNatClampNeg) 0).toNatClampNeg) 0).toNatClampNeg) 0).toNatClampNeg) (by decide) (gc6 (by decide) (gw_7_0 hW (gw_8_0 hW (gw_10_0 hW (gw_p_0 hW c_1.2 c_2.2).2).2).2).2) (gce rfl (glot4 w_9))) rfl) dX1_trace_243 ?_
        refine g_goto F (tgt := 263) (by decide) dX1_trace_246 ?_
        exact g_retI F E rfl rfl (gle rfl) (gle rfl) dX1_trace_263 (fun _ hp => ⟨_, _, ((if_pos c_1).trans ((if_pos c_2).trans ((if_pos c_5).trans ((if_neg w_6).trans ((if_neg w_7).trans ((if_pos w_8).trans (if_neg w_9))))))), rfl, ⟨A, rfl, gP_T0 hp⟩⟩)
    refine g_cases (x := what) (104 : Int32) (fun w_10 => ?_) (fun w_10 => ?_)
    · skip
      refine g_tableIn F (x := what) (by rw [w_10]; decide) (by rw [w_10]; decide) (off := 175) (by rw [w_10]; rfl) (tgt := 224) (by decide) dX1_trace_49 ?_
      refine g_aload F 0 rfl dX1_trace_224 ?_
      refine g_getN F clX13 3 (by decide) (gT_w q1087 rfl) (v := .int (S.1 10 ((S.1 (100 + gross.toNatClampNeg) part.toNatClampNeg 0).toNatClampNeg) 2)) (gd_get (pr_at (κ := 10) (i := (S.1 (100 + gross.toNatClampNeg) part.toNatClampNeg 0).toNatClampNeg) (by decide) (gc6 (by decide) (gw_p_0 hW c_1.2 c_2.2).2) (gce rfl rfl)) rfl) dX1_trace_226 ?_
      refine g_goto F (tgt := 263) (by decide) dX1_trace_229 ?_
      exact g_retI F E rfl rfl (gle rfl) (gle rfl) dX1_trace_263 (fun _ hp => ⟨_, _, ((if_pos c_1).trans ((if_pos c_2).trans ((if_pos c_5).trans ((if_neg w_6).trans ((if_neg w_7).trans ((if_neg w_8).trans (if_pos w_10))))))), rfl, ⟨A, rfl, gP_T0 hp⟩⟩)
    refine g_cases (x := what) (107 : Int32) (fun w_11 => ?_) (fun w_11 => ?_)
    · skip
      refine g_tableIn F (x := what) (by rw [w_11]; decide) (by rw [w_11]; decide) (off := 153) (by rw [w_11]; rfl) (tgt := 202) (by decide) dX1_trace_49 ?_
      refine g_aload F 0 rfl dX1_trace_202 ?_
      refine g_getN F clX13 1 (by decide) (gT_w q1083 rfl) (v := .ref (A 8 (S.1 10 ((S.1 (100 + gross.toNatClampNeg) part.toNatClampNeg 0).toNatClampNeg) 0).toNatClampNeg)) (gd_get (pr_at (κ := 10) (i := (S.1 (100 + gross.toNatClampNeg) part.toNatClampNeg 0).toNatClampNeg) (by decide) (gc6 (by decide) (gw_p_0 hW c_1.2 c_2.2).2) (gce rfl rfl)) rfl) dX1_trace_204 ?_
      refine g_getN F clX9 9 (by decide) (gT_w q900 rfl) (v := .int (S.1 8 ((S.1 10 ((S.1 (100 + gross.toNatClampNeg) part.toNatClampNeg 0).toNatClampNeg) 0).toNatClampNeg) 7)) (gd_get (pr_at (κ := 8) (i := (S.1 10 ((S.1 (100 + gross.toNatClampNeg) part.toNatClampNeg 0).toNatClampNeg) 0).toNatClampNeg) (by decide) (gc6 (by decide) (gw_10_0 hW (gw_p_0 hW c_1.2 c_2.2).2).2) (gce rfl rfl)) rfl) dX1_trace_207 ?_
      refine g_goto F (tgt := 263) (by decide) dX1_trace_210 ?_
      exact g_retI F E rfl rfl (gle rfl) (gle rfl) dX1_trace_263 (fun _ hp => ⟨_, _, ((if_pos c_1).trans ((if_pos c_2).trans ((if_pos c_5).trans ((if_neg w_6).trans ((if_neg w_7).trans ((if_neg w_8).trans ((if_neg w_10).trans (if_pos w_11)))))))), rfl, ⟨A, rfl, gP_T0 hp⟩⟩)
    refine g_cases (x := what) (110 : Int32) (fun w_12 => ?_) (fun w_12 => ?_)
    · skip
      refine g_tableIn F (x := what) (by rw [w_12]; decide) (by rw [w_12]; decide) (off := 115) (by rw [w_12]; rfl) (tgt := 164) (by decide) dX1_trace_49 ?_
      refine g_aload F 1 rfl dX1_trace_164 ?_
      refine g_callV F (kX17_many hl (pr_at (κ := (100 + gross.toNatClampNeg)) (i := part.toNatClampNeg) (gk3 hW c_1.2) (gc6 (by omega) c_2.2) (gce rfl gcell_p0))) (g_recv F clX17 (gd_obj (pr_at (κ := (100 + gross.toNatClampNeg)) (i := part.toNatClampNeg) (gk3 hW c_1.2) (gc6 (by omega) c_2.2) (gce rfl gcell_p0)))) q1319 q280 q281 q57 q282 myX17_many ⟨by decide, by decide⟩ rfl rfl (gle rfl) 3 18 (gle rfl) (gle rfl) (gle rfl) (gle rfl) dX1_trace_166 gx_n (gv_i ?_)
      refine g_goto F (tgt := 263) (by decide) dX1_trace_169 ?_
      exact g_retI F E rfl rfl (gle rfl) (gle rfl) dX1_trace_263 (fun _ hp => ⟨_, _, ((if_pos c_1).trans ((if_pos c_2).trans ((if_pos c_5).trans ((if_neg w_6).trans ((if_neg w_7).trans ((if_neg w_8).trans ((if_neg w_10).trans ((if_neg w_11).trans (if_pos w_12))))))))), rfl, ⟨A, rfl, gP_T0 hp⟩⟩)
    refine g_cases (x := what) (114 : Int32) (fun w_13 => ?_) (fun w_13 => ?_)
    · skip
      refine g_tableIn F (x := what) (by rw [w_13]; decide) (by rw [w_13]; decide) (off := 107) (by rw [w_13]; rfl) (tgt := 156) (by decide) dX1_trace_49 ?_
      refine g_aload F 0 rfl dX1_trace_156 ?_
      refine g_getN F clX13 0 (by decide) (gT_w q1080 rfl) (v := .int (nI ((S.1 (100 + gross.toNatClampNeg) part.toNatClampNeg 0).toNatClampNeg))) (gd_get (pr_at (κ := 10) (i := (S.1 (100 + gross.toNatClampNeg) part.toNatClampNeg 0).toNatClampNeg) (by decide) (gc6 (by decide) (gw_p_0 hW c_1.2 c_2.2).2) (gce rfl rfl)) rfl) dX1_trace_158 ?_
      refine g_goto F (tgt := 263) (by decide) dX1_trace_161 ?_
      exact g_retI F E rfl rfl (gle rfl) (gle rfl) dX1_trace_263 (fun _ hp => ⟨_, _, ((if_pos c_1).trans ((if_pos c_2).trans ((if_pos c_5).trans ((if_neg w_6).trans ((if_neg w_7).trans ((if_neg w_8).trans ((if_neg w_10).trans ((if_neg w_11).trans ((if_neg w_12).trans (if_pos w_13)))))))))), rfl, ⟨A, rfl, gP_T0 hp⟩⟩)
    refine g_cases (x := what) (115 : Int32) (fun w_14 => ?_) (fun w_14 => ?_)
    · skip
      refine g_tableIn F (x := what) (by rw [w_14]; decide) (by rw [w_14]; decide) (off := 164) (by rw [w_14]; rfl) (tgt := 213) (by decide) dX1_trace_49 ?_
      refine g_aload F 0 rfl dX1_trace_213 ?_
      refine g_getN F clX13 2 (by decide) (gT_w q1085 rfl) (v := .ref (A 9 (S.1 10 ((S.1 (100 + gross.toNatClampNeg) part.toNatClampNeg 0).toNatClampNeg) 1).toNatClampNeg)) (gd_get (pr_at (κ := 10) (i := (S.1 (100 + gross.toNatClampNeg) part.toNatClampNeg 0).toNatClampNeg) (by decide) (gc6 (by decide) (gw_p_0 hW c_1.2 c_2.2).2) (gce rfl rfl)) rfl) dX1_trace_215 ?_
      refine g_getN F clX11 0 (by decide) (gT_w q1010 rfl) (v := .int (nI ((S.1 10 ((S.1 (100 + gross.toNatClampNeg) part.toNatClampNeg 0).toNatClampNeg) 1).toNatClampNeg))) (gd_get (pr_at (κ := 9) (i := (S.1 10 ((S.1 (100 + gross.toNatClampNeg) part.toNatClampNeg 0).toNatClampNeg) 1).toNatClampNeg) (by decide) (gc6 (by decide) (gw_10_1 hW (gw_p_0 hW c_1.2 c_2.2).2).2) (gce rfl rfl)) rfl) dX1_trace_218 ?_
      refine g_goto F (tgt := 263) (by decide) dX1_trace_221 ?_
      exact g_retI F E rfl rfl (gle rfl) (gle rfl) dX1_trace_263 (fun _ hp => ⟨_, _, ((if_pos c_1).trans ((if_pos c_2).trans ((if_pos c_5).trans ((if_neg w_6).trans ((if_neg w_7).trans ((if_neg w_8).trans ((if_neg w_10).trans ((if_neg w_11).trans ((if_neg w_12).trans ((if_neg w_13).trans (if_pos w_14))))))))))), rfl, ⟨A, rfl, gP_T0 hp⟩⟩)
    refine g_cases (x := what) (120 : Int32) (fun w_15 => ?_) (fun w_15 => ?_)
    · skip
      refine g_tableIn F (x := what) (by rw [w_15]; decide) (by rw [w_15]; decide) (off := 123) (by rw [w_15]; rfl) (tgt := 172) (by decide) dX1_trace_49 ?_
      refine g_aload F 1 rfl dX1_trace_172 ?_
      refine g_callV F (kX17_broken hl (pr_at (κ := (100 + gross.toNatClampNeg)) (i := part.toNatClampNeg) (gk3 hW c_1.2) (gc6 (by omega) c_2.2) (gce rfl gcell_p0))) (g_recv F clX17 (gd_obj (pr_at (κ := (100 + gross.toNatClampNeg)) (i := part.toNatClampNeg) (gk3 hW c_1.2) (gc6 (by omega) c_2.2) (gce rfl gcell_p0)))) q1320 q1321 q1322 q57 q1323 myX17_broken ⟨by decide, by decide⟩ rfl rfl (gle rfl) 3 18 (gle rfl) (gle rfl) (gle rfl) (gle rfl) dX1_trace_174 gx_n (gv_i ?_)
      refine g_goto F (tgt := 263) (by decide) dX1_trace_177 ?_
      exact g_retI F E rfl rfl (gle rfl) (gle rfl) dX1_trace_263 (fun _ hp => ⟨_, _, ((if_pos c_1).trans ((if_pos c_2).trans ((if_pos c_5).trans ((if_neg w_6).trans ((if_neg w_7).trans ((if_neg w_8).trans ((if_neg w_10).trans ((if_neg w_11).trans ((if_neg w_12).trans ((if_neg w_13).trans ((if_neg w_14).trans (if_pos w_15)))))))))))), rfl, ⟨A, rfl, gP_T0 hp⟩⟩)
    refine g_tableD F (x := what) [0, 4, 5, 6, 9, 12, 16, 17, 22] (by decide) (by decide) (gAc (fun q => w_6 (Int32.toInt_inj.mp (q.trans (by decide)))) (gAc (fun q => w_7 (Int32.toInt_inj.mp (q.trans (by decide)))) (gAc (fun q => w_8 (Int32.toInt_inj.mp (q.trans (by decide)))) (gAc (fun q => w_10 (Int32.toInt_inj.mp (q.trans (by decide)))) (gAc (fun q => w_11 (Int32.toInt_inj.mp (q.trans (by decide)))) (gAc (fun q => w_12 (Int32.toInt_inj.mp (q.trans (by decide)))) (gAc (fun q => w_13 (Int32.toInt_inj.mp (q.trans (by decide)))) (gAc (fun q => w_14 (Int32.toInt_inj.mp (q.trans (by decide)))) (gAc (fun q => w_15 (Int32.toInt_inj.mp (q.trans (by decide)))) gAn))))))))) (tgt := 249) (by decide) dX1_trace_49 ?_
    refine g_aload F 0 rfl dX1_trace_249 ?_
    refine g_getN F clX13 1 (by decide) (gT_w q1083 rfl) (v := .ref (A 8 (S.1 10 ((S.1 (100 + gross.toNatClampNeg) part.toNatClampNeg 0).toNatClampNeg) 0).toNatClampNeg)) (gd_get (pr_at (κ := 10) (i := (S.1 (100 + gross.toNatClampNeg) part.toNatClampNeg 0).toNatClampNeg) (by decide) (gc6 (by decide) (gw_p_0 hW c_1.2 c_2.2).2) (gce rfl rfl)) rfl) dX1_trace_251 ?_
    refine g_getN F clX9 1 (by decide) (gT_w q886 rfl) (v := .ref (A 7 (S.1 8 ((S.1 10 ((S.1 (100 + gross.toNatClampNeg) part.toNatClampNeg 0).toNatClampNeg) 0).toNatClampNeg) 0).toNatClampNeg)) (gd_get (pr_at (κ := 8) (i := (S.1 10 ((S.1 (100 + gross.toNatClampNeg) part.toNatClampNeg 0).toNatClampNeg) 0).toNatClampNeg) (by decide) (gc6 (by decide) (gw_10_0 hW (gw_p_0 hW c_1.2 c_2.2).2).2) (gce rfl rfl)) rfl) dX1_trace_254 ?_
    refine g_getN F clX8 1 (by decide) (gT_w q842 rfl) (v := .ref (A 6 (S.1 7 ((S.1 8 ((S.1 10 ((S.1 (100 + gross.toNatClampNeg) part.toNatClampNeg 0).toNatClampNeg) 0).toNatClampNeg) 0).toNatClampNeg) 1).toNatClampNeg)) (gd_get (pr_at (κ := 7) (i := (S.1 8 ((S.1 10 ((S.1 (100 + gross.toNatClampNeg) part.toNatClampNeg 0).toNatClampNeg) 0).toNatClampNeg) 0).toNatClampNeg) (by decide) (gc6 (by decide) (gw_8_0 hW (gw_10_0 hW (gw_p_0 hW c_1.2 c_2.2).2).2).2) (gce rfl rfl)) rfl) dX1_trace_257 ?_
    refine g_cases (x := S.1 6 ((S.1 7 ((S.1 8 ((S.1 10 ((S.1 (100 + gross.toNatClampNeg) part.toNatClampNeg 0).toNatClampNeg) 0).toNatClampNeg) 0).toNatClampNeg) 1).toNatClampNeg) 0) (103 : Int32) (fun w_16 => ?_) (fun w_16 => ?_)
    · skip
      refine g_getN F clX6 0 (by decide) (gT_w q649 rfl) (v := .int (nI ((S.1 7 ((S.1 8 ((S.1 10 ((S.1 (100 + gross.toNatClampNeg) part.toNatClampNeg 0).toNatClampNeg) 0).toNatClampNeg) 0).toNatClampNeg) 1).toNatClampNeg))) (gd_get (pr_at (κ := 6) (i := (S.1 7 ((S.1 8 ((S.1 10 ((S.1 (100 + gross.toNatClampNeg) part.toNatClampNeg 0).toNatClampNeg) 0).toNatClampNeg) 0).toNatClampNeg) 1).toNatClampNeg) (by decide) (gc6 (by decide) (gw_7_1 hW (gw_8_0 hW (gw_10_0 hW (gw_p_0 hW c_1.2 c_2.2).2).2).2).2) (gce rfl (glot3 w_16))) rfl) dX1_trace_260 ?_
      exact g_retI F E rfl rfl (gle rfl) (gle rfl) dX1_trace_263 (fun _ hp => ⟨_, _, ((if_pos c_1).trans ((if_pos c_2).trans ((if_pos c_5).trans ((if_neg w_6).trans ((if_neg w_7).trans ((if_neg w_8).trans ((if_neg w_10).trans ((if_neg w_11).trans ((if_neg w_12).trans ((if_neg w_13).trans ((if_neg w_14).trans ((if_neg w_15).trans (if_pos w_16))))))))))))), rfl, ⟨A, rfl, gP_T0 hp⟩⟩)
    · skip
      refine g_getN F clX7 0 (by decide) (gT_w q649 rfl) (v := .int (nI ((S.1 7 ((S.1 8 ((S.1 10 ((S.1 (100 + gross.toNatClampNeg) part.toNatClampNeg 0).toNatClampNeg) 0).toNatClampNeg) 0).toNatClampNeg) 1).toNatClampNeg))) (gd_get (pr_at (κ := 6) (i := (S.1 7 ((S.1 8 ((S.1 10 ((S.1 (100 + gross.toNatClampNeg) part.toNatClampNeg 0).toNatClampNeg) 0).toNatClampNeg) 0).toNatClampNeg) 1).toNatClampNeg) (by decide) (gc6 (by decide) (gw_7_1 hW (gw_8_0 hW (gw_10_0 hW (gw_p_0 hW c_1.2 c_2.2).2).2).2).2) (gce rfl (glot4 w_16))) rfl) dX1_trace_260 ?_
      exact g_retI F E rfl rfl (gle rfl) (gle rfl) dX1_trace_263 (fun _ hp => ⟨_, _, ((if_pos c_1).trans ((if_pos c_2).trans ((if_pos c_5).trans ((if_neg w_6).trans ((if_neg w_7).trans ((if_neg w_8).trans ((if_neg w_10).trans ((if_neg w_11).trans ((if_neg w_12).trans ((if_neg w_13).trans ((if_neg w_14).trans ((if_neg w_15).trans (if_neg w_16))))))))))))), rfl, ⟨A, rfl, gP_T0 hp⟩⟩)
  refine g_if_lt F (tgt := 37) (by decide) dX1_trace_30 (fun c_3 => ?_) (fun c_3 => ?_)
  · skip
    refine g_iconst F (v := (0 : Int32)) (by decide) dX1_trace_37 ?_
    exact g_top (gb_f (fun q => q c_3)) J_4
  · skip
    refine g_iconst F (v := (1 : Int32)) (by decide) dX1_trace_33 ?_
    refine g_goto F (tgt := 38) (by decide) dX1_trace_34 ?_
    exact g_top (gb_t c_3) J_4
