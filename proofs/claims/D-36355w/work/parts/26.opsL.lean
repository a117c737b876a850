def sM_parts (S : gS) (gross : Int32) : Value × gS := if ¬ gIn gross (S.2 11) then (.int (-1 : Int32), (gsr (gsr S.1 0 0 (upd (S.1 0 0) 8 0)) 0 0 (upd (upd (S.1 0 0) 8 0) 8 1), S.2)) else (.int (nI (S.2 (100 + gross.toNatClampNeg))), (gsr S.1 0 0 (upd (S.1 0 0) 8 0), S.2))
theorem kX3_parts {l : Launch} {G : gG} (hl : l.stackTraces = false) {S : gS} {a0 : Nat} {Fr : gH → Prop} (hF : gFr 1 Fr) (hW : gWf S) {gross : Int32}  : gMet l yX3_parts (ws_ yX3_parts cX3_parts 2 (some .int)) ⟨3, 0, 0, 67⟩ G [.ref a0, .int gross] (gPE 1 G S a0 Fr) (gqN (sM_parts S gross) G a0 Fr) gxN := by
  refine gMet_of hl pnX3 (gle rfl) (fun X Q hX F E hNm => ?_)
  subst hX
  change gW (X, G, 2, Q) (gPE 1 G S a0 Fr) [(0, .ref a0), (1, .int gross)] 0 [] 0 0
  refine g_pe (fun A hA => ?_)
  subst hA
  change gW _ _ [(0, .ref (A 0 0)), (1, .int gross)] 0 [] 0 0
  refine g_aload_n F 0 rfl rfl dX3_parts_0 ?_
  refine g_callV F (kX3_begins hl (pr_at (κ := 0) (i := 0) (by decide) (gc1 (gnl rfl)) (gce rfl rfl))) (g_recv F clX3 (gd_obj (pr_at (κ := 0) (i := 0) (by decide) (gc1 (gnl rfl)) (gce rfl rfl)))) q1448 q1450 qs6 q25 q1451 myX3_begins ⟨by decide, by decide⟩ rfl rfl (gle rfl) 0 0 (gle rfl) (gle rfl) (gle rfl) (gle rfl) dX3_parts_1 gx_n (gv_v ?_)
  refine g_mono (P2 := gP 1 G (gsr S.1 0 0 (upd (S.1 0 0) 8 0), S.2) A Fr []) (pr_upRow (κ := 0) (i := 0) gM1 hF (upd (S.1 0 0) 8 0) (by decide) (gc1 (gnl rfl)) (gce rfl rfl) rfl) ?_
  refine g_aload_n F 0 rfl rfl dX3_parts_4 ?_
  refine g_iload_n F 1 rfl rfl dX3_parts_5 ?_
  refine g_callV F (kX3_noGross hl hF hW (x := gross)) (g_recv F clX3 (gd_obj (pr_at (κ := 0) (i := 0) (by decide) (gc1 (gnl rfl)) (gce (show (gsr S.1 0 0 (upd (S.1 0 0) 8 0)) 0 0 = upd (S.1 0 0) 8 0 from gsr_s) rfl)))) q1808 q1810 qs16 q25 q1811 myX3_noGross ⟨by decide, by decide⟩ rfl rfl (gle rfl) 0 0 (gle rfl) (gle rfl) (gle rfl) (gle rfl) dX3_parts_6 gx_n (gv_f (fun c_1 => ?_) (fun c_1 => ?_))
  · skip
    refine g_if_eq F (tgt := 16) (by decide) dX3_parts_9 (fun c => absurd c (by decide)) (fun _ => ?_)
    refine g_iconst F (v := (-1 : Int32)) (by decide) dX3_parts_12 ?_
    refine g_goto F (tgt := 37) (by decide) dX3_parts_13 ?_
    exact g_retI F E rfl rfl (gle rfl) (gle rfl) dX3_parts_37 (fun _ hp => ⟨_, _, (if_pos c_1), rfl, ⟨A, rfl, gP_T0 hp⟩⟩)
  · skip
    refine g_if_eq F (tgt := 16) (by decide) dX3_parts_9 (fun _ => ?_) (fun c => absurd c (by decide))
    refine g_aload_n F 0 rfl rfl dX3_parts_16 ?_
    refine g_get F clX3 12 (by decide) q1401 (v := .ref (A 311 0)) (gd_get (pr_at (κ := 0) (i := 0) (by decide) (gc1 (gnl rfl)) (gce (show (gsr S.1 0 0 (upd (S.1 0 0) 8 0)) 0 0 = upd (S.1 0 0) 8 0 from gsr_s) rfl)) rfl) dX3_parts_17 ?_
    refine g_iload_n F 1 rfl rfl dX3_parts_20 ?_
    refine g_callF F clJ3 (kJ3_get hl (pr_ls (M := 1) (S := (gsr S.1 0 0 (upd (S.1 0 0) 8 0), S.2)) (A := A) (κ := 11) (by decide) (Or.inl ⟨by decide, by decide⟩) (fun q => by first | decide | exact absurd q (by decide)) (fun q => by first | decide | exact absurd q (by decide))) (j := gross.toNatClampNeg) (Decidable.not_not.mp c_1).2 (gw_n hW _) rfl (Decidable.not_not.mp c_1).1) (g_recv F clJ3 (gls_obj (pr_ls (M := 1) (S := (gsr S.1 0 0 (upd (S.1 0 0) 8 0), S.2)) (A := A) (κ := 11) (by decide) (Or.inl ⟨by decide, by decide⟩) (fun q => by first | decide | exact absurd q (by decide)) (fun q => by first | decide | exact absurd q (by decide))))) q1506 q809 q811 q22 q813 (List.mem_of_getElem? (i := 1) rfl) (gT_w q812 rfl) (gT_w q810 rfl) (gT_w q293 rfl) gface_1 ⟨by decide, by decide⟩ rfl rfl (gle rfl) 0 0 (gle rfl) (gle rfl) (gle rfl) (gle rfl) dX3_parts_21 gx_n (gv_i ?_)
    refine g_castS F (g_recv F clX16 (gd_obj (pr_at (κ := 11) (i := gross.toNatClampNeg) (by decide) (gc6 (by decide) (Decidable.not_not.mp c_1).2) (gce (show (gsr S.1 0 0 (upd (S.1 0 0) 8 0)) 11 gross.toNatClampNeg = S.1 11 gross.toNatClampNeg from (gsr_p (by decide) rfl)) rfl)))) q1756 dX3_parts_26 ?_
    refine g_getN F clX16 1 (by decide) (gT_w q1766 rfl) (v := .ref (A (400 + gross.toNatClampNeg) 0)) (gd_get (pr_at (κ := 11) (i := gross.toNatClampNeg) (by decide) (gc6 (by decide) (Decidable.not_not.mp c_1).2) (gce (show (gsr S.1 0 0 (upd (S.1 0 0) 8 0)) 11 gross.toNatClampNeg = S.1 11 gross.toNatClampNeg from (gsr_p (by decide) rfl)) rfl)) rfl) dX3_parts_29 ?_
    refine g_callF F clJ3 (kJ3_size hl (pr_lsp (M := 1) (S := (gsr S.1 0 0 (upd (S.1 0 0) 8 0), S.2)) (A := A) (g := gross.toNatClampNeg) (gWf_0 (r := upd (S.1 0 0) 8 0) hW (gw_b hW)) (Decidable.not_not.mp c_1).2)) (g_recv F clJ3 (gls_obj (pr_lsp (M := 1) (S := (gsr S.1 0 0 (upd (S.1 0 0) 8 0), S.2)) (A := A) (g := gross.toNatClampNeg) (gWf_0 (r := upd (S.1 0 0) 8 0) hW (gw_b hW)) (Decidable.not_not.mp c_1).2))) q1491 q634 q636 q22 q638 (List.mem_of_getElem? (i := 0) rfl) (gT_w q637 rfl) (gT_w q635 rfl) (gT_w q293 rfl) gface_0 ⟨by decide, by decide⟩ rfl rfl (gle rfl) 0 0 (gle rfl) (gle rfl) (gle rfl) (gle rfl) dX3_parts_32 gx_n (gv_i ?_)
    exact g_retI F E rfl rfl (gle rfl) (gle rfl) dX3_parts_37 (fun _ hp => ⟨_, _, (if_neg c_1), rfl, ⟨A, rfl, gP_T0 hp⟩⟩)

def sM_ship (S : gS) (order gross : Int32) : Value × gS := if ¬ (gIn order (S.2 12)) ∨ (¬ (gIn gross (S.2 11))) then (.int (-1 : Int32), (gsr (gsr S.1 0 0 (upd (S.1 0 0) 8 0)) 0 0 (upd (upd (S.1 0 0) 8 0) 8 (1 : Int32)), S.2)) else (if ((gMy (gsr S.1 0 0 (upd (S.1 0 0) 8 0), S.2) gross.toNatClampNeg) < (144 : Int32)) ∨ (¬ ((S.1 11 gross.toNatClampNeg 0) = (S.1 12 order.toNatClampNeg 0)) ∨ (¬ ((S.1 11 gross.toNatClampNeg 1) = 0) ∨ ((S.1 12 order.toNatClampNeg 1) = 0))) then (.int (-1 : Int32), (gsr (gsr S.1 0 0 (upd (S.1 0 0) 8 0)) 0 0 (upd (upd (S.1 0 0) 8 0) 8 (2 : Int32)), S.2)) else (.int ((S.1 12 order.toNatClampNeg 1) - (1 : Int32)), (gsr (gsr (gsr (gsr S.1 0 0 (upd (S.1 0 0) 8 0)) 11 gross.toNatClampNeg (upd (S.1 11 gross.toNatClampNeg) 1 (1 : Int32))) 12 order.toNatClampNeg (upd (S.1 12 order.toNatClampNeg) 1 ((S.1 12 order.toNatClampNeg 1) - (1 : Int32)))) 12 order.toNatClampNeg (upd (upd (S.1 12 order.toNatClampNeg) 1 ((S.1 12 order.toNatClampNeg 1) - (1 : Int32))) 3 (if (S.1 0 0 0) ≤ (S.1 12 order.toNatClampNeg 2) then (S.1 12 order.toNatClampNeg 3) else (1 : Int32))), S.2)))
theorem kX3_ship {l : Launch} {G : gG} (hl : l.stackTraces = false) {S : gS} {a0 : Nat} {Fr : gH → Prop} (hF : gFr 1 Fr) (hW : gWf S) {order gross : Int32}  : gMet l yX3_ship (ws_ yX3_ship cX3_ship 5 (some .int)) ⟨4, 1, 4, 76⟩ G [.ref a0, .int order, .int gross] (gPE 1 G S a0 Fr) (gqN (sM_ship S order gross) G a0 Fr) gxN := by
  refine gMet_of hl pnX3 (gle rfl) (fun X Q hX F E hNm => ?_)
  subst hX
  change gW (X, G, 5, Q) (gPE 1 G S a0 Fr) [(0, .ref a0), (1, .int order), (2, .int gross)] 0 [] 0 0
  refine g_pe (fun A hA => ?_)
  subst hA
  change gW _ _ [(0, .ref (A 0 0)), (1, .int order), (2, .int gross)] 0 [] 0 0
  refine g_aload_n F 0 rfl rfl dX3_ship_0 ?_
  refine g_callV F (kX3_begins hl (pr_at (κ := 0) (i := 0) (by decide) (gc1 (gnl rfl)) (gce rfl rfl))) (g_recv F clX3 (gd_obj (pr_at (κ := 0) (i := 0) (by decide) (gc1 (gnl rfl)) (gce rfl rfl)))) q1448 q1450 qs6 q25 q1451 myX3_begins ⟨by decide, by decide⟩ rfl rfl (gle rfl) 0 0 (gle rfl) (gle rfl) (gle rfl) (gle rfl) dX3_ship_1 gx_n (gv_v ?_)
  refine g_mono (P2 := gP 1 G (gsr S.1 0 0 (upd (S.1 0 0) 8 0), S.2) A Fr []) (pr_upRow (κ := 0) (i := 0) gM1 hF (upd (S.1 0 0) 8 0) (by decide) (gc1 (gnl rfl)) (gce rfl rfl) rfl) ?_
  refine g_aload_n F 0 rfl rfl dX3_ship_4 ?_
  refine g_aload_n F 0 rfl rfl dX3_ship_5 ?_
  refine g_get F clX3 13 (by decide) q1402 (v := .ref (A 312 0)) (gd_get (pr_at (κ := 0) (i := 0) (by decide) (gc1 (gnl rfl)) (gce (show (gsr S.1 0 0 (upd (S.1 0 0) 8 0)) 0 0 = upd (S.1 0 0) 8 0 from gsr_s) rfl)) rfl) dX3_ship_6 ?_
  refine g_iload_n F 1 rfl rfl dX3_ship_9 ?_
  refine g_callS F (kX3_isOf hl (pr_ls (M := 1) (S := (gsr S.1 0 0 (upd (S.1 0 0) 8 0), S.2)) (A := A) (κ := 12) (by decide) (Or.inl ⟨by decide, by decide⟩) (fun q => by first | decide | exact absurd q (by decide)) (fun q => by first | decide | exact absurd q (by decide))) (gw_n hW _) (x := order)) (lw_S q1502 q1503 q25 q1504) myX3_isOf ⟨by decide, by decide⟩ rfl rfl (gle rfl) 0 0 (gle rfl) (gle rfl) (gle rfl) (gle rfl) dX3_ship_10 gx_n (gv_i ?_)
  have J_3 : gW (X, G, 5, Q) (gP 1 G (gsr S.1 0 0 (upd (S.1 0 0) 8 0), S.2) A Fr []) [(0, .ref (A 0 0)), (1, .int order), (2, .int gross)] 32 [.int (gb (¬ (gIn order (S.2 12)) ∨ (¬ (gIn gross (S.2 11))))), .ref (A 0 0)] 0 0 := by
    refine g_iconst F (v := (1 : Int32)) (by decide) dX3_ship_32 ?_
    refine g_callV F (kX3_fails hl (b := gb (¬ (gIn order (S.2 12)) ∨ (¬ (gIn gross (S.2 11))))) (nu := (1 : Int32)) (c := ¬ (gIn order (S.2 12)) ∨ (¬ (gIn gross (S.2 11)))) gb_n0 (by decide) (pr_at (κ := 0) (i := 0) (by decide) (gc1 (gnl rfl)) (gce (show (gsr S.1 0 0 (upd (S.1 0 0) 8 0)) 0 0 = upd (S.1 0 0) 8 0 from gsr_s) rfl))) (g_recv F clX3 (gd_obj (pr_at (κ := 0) (i := 0) (by decide) (gc1 (gnl rfl)) (gce (show (gsr S.1 0 0 (upd (S.1 0 0) 8 0)) 0 0 = upd (S.1 0 0) 8 0 from gsr_s) rfl)))) q1456 q1458 qs7 q25 q1459 myX3_fails ⟨by decide, by decide⟩ rfl rfl (gle rfl) 0 0 (gle rfl) (gle rfl) (gle rfl) (gle rfl) dX3_ship_33 gx_n (gv_f (fun c_4 => ?_) (fun c_4 => ?_))
    · skip
      refine g_mono (P2 := gP 1 G (gsr (gsr S.1 0 0 (upd (S.1 0 0) 8 0)) 0 0 (upd (upd (S.1 0 0) 8 0) 8 (1 : Int32)), S.2) A Fr []) (pr_upRow (κ := 0) (i := 0) gM1 hF (upd (upd (S.1 0 0) 8 0) 8 (1 : Int32)) (by decide) (gc1 (gnl rfl)) (gce (show (gsr S.1 0 0 (upd (S.1 0 0) 8 0)) 0 0 = upd (S.1 0 0) 8 0 from gsr_s) rfl) rfl) ?_
      refine g_if_eq F (tgt := 41) (by decide) dX3_ship_36 (fun c => absurd c (by decide)) (fun _ => ?_)
      refine g_iconst F (v := (-1 : Int32)) (by decide) dX3_ship_39 ?_
      exact g_retI F E rfl rfl (gle rfl) (gle rfl) dX3_ship_40 (fun _ hp => ⟨_, _, (if_pos c_4), rfl, ⟨A, rfl, gP_T0 hp⟩⟩)
    · skip
      refine g_if_eq F (tgt := 41) (by decide) dX3_ship_36 (fun _ => ?_) (fun c => absurd c (by decide))
      refine g_aload_n F 0 rfl rfl dX3_ship_41 ?_
      refine g_get F clX3 13 (by decide) q1402 (v := .ref (A 312 0)) (gd_get (pr_at (κ := 0) (i := 0) (by decide) (gc1 (gnl rfl)) (gce (show (gsr S.1 0 0 (upd (S.1 0 0) 8 0)) 0 0 = upd (S.1 0 0) 8 0 from gsr_s) rfl)) rfl) dX3_ship_42 ?_
      refine g_iload_n F 1 rfl rfl dX3_ship_45 ?_
      refine g_callF F clJ3 (kJ3_get hl (pr_ls (M := 1) (S := (gsr S.1 0 0 (upd (S.1 0 0) 8 0), S.2)) (A := A) (κ := 12) (by decide) (Or.inl ⟨by decide, by decide⟩) (fun q => by first | decide | exact absurd q (by decide)) (fun q => by first | decide | exact absurd q (by decide))) (j := order.toNatClampNeg) (Decidable.not_not.mp (fun q => c_4 (Or.inl q))).2 (gw_n hW _) rfl (Decidable.not_not.mp (fun q => c_4 (Or.inl q))).1) (g_recv F clJ3 (gls_obj (pr_ls (M := 1) (S := (gsr S.1 0 0 (upd (S.1 0 0) 8 0), S.2)) (A := A) (κ := 12) (by decide) (Or.inl ⟨by decide, by decide⟩) (fun q => by first | decide | exact absurd q (by decide)) (fun q => by first | decide | exact absurd q (by decide))))) q1506 q809 q811 q22 q813 (List.mem_of_getElem? (i := 1) rfl) (gT_w q812 rfl) (gT_w q810 rfl) (gT_w q293 rfl) gface_1 ⟨by decide, by decide⟩ rfl rfl (gle rfl) 0 0 (gle rfl) (gle rfl) (gle rfl) (gle rfl) dX3_ship_46 gx_n (gv_i ?_)
      refine g_castS F (g_recvI F (pr_at (κ := 12) (i := order.toNatClampNeg) (by decide) (gc6 (by decide) (Decidable.not_not.mp (fun q => c_4 (Or.inl q))).2) (gce (show (gsr S.1 0 0 (upd (S.1 0 0) 8 0)) 12 order.toNatClampNeg = S.1 12 order.toNatClampNeg from (gsr_p (by decide) rfl)) rfl))) q1507 dX3_ship_51 ?_
      refine g_astore_n F rfl (by show 3 < 5; decide) (lv2 := [(3, .ref (A 12 order.toNatClampNeg)), (0, .ref (A 0 0)), (1, .int order), (2, .int gross)]) rfl dX3_ship_54 ?_
      refine g_aload_n F 1 rfl rfl dX3_ship_55 ?_
      refine g_get F clX3 12 (by decide) q1401 (v := .ref (A 311 0)) (gd_get (pr_at (κ := 0) (i := 0) (by decide) (gc1 (gnl rfl)) (gce (show (gsr S.1 0 0 (upd (S.1 0 0) 8 0)) 0 0 = upd (S.1 0 0) 8 0 from gsr_s) rfl)) rfl) dX3_ship_56 ?_
      refine g_iload_n F 3 rfl rfl dX3_ship_59 ?_
      refine g_callF F clJ3 (kJ3_get hl (pr_ls (M := 1) (S := (gsr S.1 0 0 (upd (S.1 0 0) 8 0), S.2)) (A := A) (κ := 11) (by decide) (Or.inl ⟨by decide, by decide⟩) (fun q => by first | decide | exact absurd q (by decide)) (fun q => by first | decide | exact absurd q (by decide))) (j := gross.toNatClampNeg) (Decidable.not_not.mp (fun q => c_4 (Or.inr q))).2 (gw_n hW _) rfl (Decidable.not_not.mp (fun q => c_4 (Or.inr q))).1) (g_recv F clJ3 (gls_obj (pr_ls (M := 1) (S := (gsr S.1 0 0 (upd (S.1 0 0) 8 0), S.2)) (A := A) (κ := 11) (by decide) (Or.inl ⟨by decide, by decide⟩) (fun q => by first | decide | exact absurd q (by decide)) (fun q => by first | decide | exact absurd q (by decide))))) q1506 q809 q811 q22 q813 (List.mem_of_getElem? (i := 1) rfl) (gT_w q812 rfl) (gT_w q810 rfl) (gT_w q293 rfl) gface_1 ⟨by decide, by decide⟩ rfl rfl (gle rfl) 0 0 (gle rfl) (gle rfl) (gle rfl) (gle rfl) dX3_ship_60 gx_n (gv_i ?_)
      refine g_castS F (g_recv F clX16 (gd_obj (pr_at (κ := 11) (i := gross.toNatClampNeg) (by decide) (gc6 (by decide) (Decidable.not_not.mp (fun q => c_4 (Or.inr q))).2) (gce (show (gsr S.1 0 0 (upd (S.1 0 0) 8 0)) 11 gross.toNatClampNeg = S.1 11 gross.toNatClampNeg from (gsr_p (by decide) rfl)) rfl)))) q1756 dX3_ship_65 ?_
      refine g_astore F (by show 4 < 5; decide) (lv2 := [(4, .ref (A 11 gross.toNatClampNeg)), (3, .ref (A 12 order.toNatClampNeg)), (0, .ref (A 0 0)), (1, .int order), (2, .int gross)]) rfl dX3_ship_68 ?_
      refine g_aload_n F 2 rfl rfl dX3_ship_70 ?_
      refine g_aload F 0 rfl dX3_ship_71 ?_
      refine g_callV F (kX16_many hl (pr_lsp (M := 1) (S := (gsr S.1 0 0 (upd (S.1 0 0) 8 0), S.2)) (A := A) (g := gross.toNatClampNeg) (gWf_0 (r := upd (S.1 0 0) 8 0) hW (gw_b hW)) (Decidable.not_not.mp (fun q => c_4 (Or.inr q))).2) (gw_n (gWf_0 (r := upd (S.1 0 0) 8 0) hW (gw_b hW)) _) (pr_at (κ := 11) (i := gross.toNatClampNeg) (by decide) (gc6 (by decide) (Decidable.not_not.mp (fun q => c_4 (Or.inr q))).2) (gce (show (gsr S.1 0 0 (upd (S.1 0 0) 8 0)) 11 gross.toNatClampNeg = S.1 11 gross.toNatClampNeg from (gsr_p (by decide) rfl)) rfl)) (pr_pel1 (S := (gsr S.1 0 0 (upd (S.1 0 0) 8 0), S.2)) (g := gross.toNatClampNeg) (gk3 hW (Decidable.not_not.mp (fun q => c_4 (Or.inr q))).2))) (g_recv F clX16 (gd_obj (pr_at (κ := 11) (i := gross.toNatClampNeg) (by decide) (gc6 (by decide) (Decidable.not_not.mp (fun q => c_4 (Or.inr q))).2) (gce (show (gsr S.1 0 0 (upd (S.1 0 0) 8 0)) 11 gross.toNatClampNeg = S.1 11 gross.toNatClampNeg from (gsr_p (by decide) rfl)) rfl)))) q1780 q1781 q1782 q54 q1783 myX16_many ⟨by decide, by decide⟩ rfl rfl (gle rfl) 1 4 (gle rfl) (gle rfl) (gle rfl) (gle rfl) dX3_ship_73 gx_n (gv_i ?_)
      refine g_mono (gP_jk hF) ?_
      change gW _ _ _ _ (.int (gMy (gsr S.1 0 0 (upd (S.1 0 0) 8 0), S.2) gross.toNatClampNeg) :: _) _ _
      refine g_sipush F (v := (144 : Int32)) (by decide) dX3_ship_76 ?_
      have J_9 : gW (X, G, 5, Q) (gP 1 G (gsr S.1 0 0 (upd (S.1 0 0) 8 0), S.2) A Fr []) [(4, .ref (A 11 gross.toNatClampNeg)), (3, .ref (A 12 order.toNatClampNeg)), (0, .ref (A 0 0)), (1, .int order), (2, .int gross)] 112 [.int (gb (((gMy (gsr S.1 0 0 (upd (S.1 0 0) 8 0), S.2) gross.toNatClampNeg) < (144 : Int32)) ∨ (¬ ((S.1 11 gross.toNatClampNeg 0) = (S.1 12 order.toNatClampNeg 0)) ∨ (¬ ((S.1 11 gross.toNatClampNeg 1) = 0) ∨ ((S.1 12 order.toNatClampNeg 1) = 0))))), .ref (A 0 0)] 1 4 := by
        refine g_iconst F (v := (2 : Int32)) (by decide) dX3_ship_112 ?_
        refine g_callV F (kX3_fails hl (b := gb (((gMy (gsr S.1 0 0 (upd (S.1 0 0) 8 0), S.2) gross.toNatClampNeg) < (144 : Int32)) ∨ (¬ ((S.1 11 gross.toNatClampNeg 0) = (S.1 12 order.toNatClampNeg 0)) ∨ (¬ ((S.1 11 gross.toNatClampNeg 1) = 0) ∨ ((S.1 12 order.toNatClampNeg 1) = 0))))) (nu := (2 : Int32)) (c := ((gMy (gsr S.1 0 0 (upd (S.1 0 0) 8 0), S.2) gross.toNatClampNeg) < (144 : Int32)) ∨ (¬ ((S.1 11 gross.toNatClampNeg 0) = (S.1 12 order.toNatClampNeg 0)) ∨ (¬ ((S.1 11 gross.toNatClampNeg 1) = 0) ∨ ((S.1 12 order.toNatClampNeg 1) = 0)))) gb_n0 (by decide) (pr_at (κ := 0) (i := 0) (by decide) (gc1 (gnl rfl)) (gce (show (gsr S.1 0 0 (upd (S.1 0 0) 8 0)) 0 0 = upd (S.1 0 0) 8 0 from gsr_s) rfl))) (g_recv F clX3 (gd_obj (pr_at (κ := 0) (i := 0) (by decide) (gc1 (gnl rfl)) (gce (show (gsr S.1 0 0 (upd (S.1 0 0) 8 0)) 0 0 = upd (S.1 0 0) 8 0 from gsr_s) rfl)))) q1456 q1458 qs7 q25 q1459 myX3_fails ⟨by decide, by decide⟩ rfl rfl (gle rfl) 1 4 (gle rfl) (gle rfl) (gle rfl) (gle rfl) dX3_ship_113 gx_n (gv_f (fun c_10 => ?_) (fun c_10 => ?_))
        · skip
          refine g_mono (P2 := gP 1 G (gsr (gsr S.1 0 0 (upd (S.1 0 0) 8 0)) 0 0 (upd (upd (S.1 0 0) 8 0) 8 (2 : Int32)), S.2) A Fr []) (pr_upRow (κ := 0) (i := 0) gM1 hF (upd (upd (S.1 0 0) 8 0) 8 (2 : Int32)) (by decide) (gc1 (gnl rfl)) (gce (show (gsr S.1 0 0 (upd (S.1 0 0) 8 0)) 0 0 = upd (S.1 0 0) 8 0 from gsr_s) rfl) rfl) ?_
          refine g_if_eq F (tgt := 121) (by decide) dX3_ship_116 (fun c => absurd c (by decide)) (fun _ => ?_)
          refine g_iconst F (v := (-1 : Int32)) (by decide) dX3_ship_119 ?_
          exact g_retI F E rfl rfl (gle rfl) (gle rfl) dX3_ship_120 (fun _ hp => ⟨_, _, ((if_neg c_4).trans (if_pos c_10)), rfl, ⟨A, rfl, gP_T0 hp⟩⟩)
        · skip
          refine g_if_eq F (tgt := 121) (by decide) dX3_ship_116 (fun _ => ?_) (fun c => absurd c (by decide))
          refine g_aload F 0 rfl dX3_ship_121 ?_
          refine g_iconst F (v := (1 : Int32)) (by decide) dX3_ship_123 ?_
          refine g_putN (P2 := gP 1 G (gsr (gsr S.1 0 0 (upd (S.1 0 0) 8 0)) 11 gross.toNatClampNeg (upd (S.1 11 gross.toNatClampNeg) 1 (1 : Int32)), S.2) A Fr []) F clX16 2 (by decide) (gT_w q1767 rfl) rfl rfl rfl (pr_put (κ := 11) (i := gross.toNatClampNeg) gM1 hF (upd (S.1 11 gross.toNatClampNeg) 1 (1 : Int32)) (by decide) (gc6 (by decide) (Decidable.not_not.mp (fun q => c_4 (Or.inr q))).2) (gce (show (gsr S.1 0 0 (upd (S.1 0 0) 8 0)) 11 gross.toNatClampNeg = S.1 11 gross.toNatClampNeg from (gsr_p (by decide) rfl)) rfl) (gnl rfl) rfl) dX3_ship_124 ?_
          refine g_aload_n F 1 rfl rfl dX3_ship_127 ?_
          refine g_iconst F (v := (1 : Int32)) (by decide) dX3_ship_128 ?_
          refine g_dup2 F rfl rfl dX3_ship_129 ?_
          refine g_ialdN F (m := 1) rfl (by decide) (by decide) (pr_at (κ := 12) (i := order.toNatClampNeg) (by decide) (gc6 (by decide) (Decidable.not_not.mp (fun q => c_4 (Or.inl q))).2) (gce (show (gsr (gsr S.1 0 0 (upd (S.1 0 0) 8 0)) 11 gross.toNatClampNeg (upd (S.1 11 gross.toNatClampNeg) 1 (1 : Int32))) 12 order.toNatClampNeg = S.1 12 order.toNatClampNeg from (gsr_p (by decide) (gsr_p (by decide) rfl))) rfl)) dX3_ship_130 ?_
          change gW _ _ _ _ (.int (S.1 12 order.toNatClampNeg 1) :: _) _ _
          refine g_iconst F (v := (1 : Int32)) (by decide) dX3_ship_131 ?_
          refine g_isub F dX3_ship_132 ?_
          refine g_iastN (P2 := gP 1 G (gsr (gsr (gsr S.1 0 0 (upd (S.1 0 0) 8 0)) 11 gross.toNatClampNeg (upd (S.1 11 gross.toNatClampNeg) 1 (1 : Int32))) 12 order.toNatClampNeg (upd (S.1 12 order.toNatClampNeg) 1 ((S.1 12 order.toNatClampNeg 1) - (1 : Int32))), S.2) A Fr []) F (m := 1) rfl (by decide) (by decide) (pr_setRow (κ := 12) (i := order.toNatClampNeg) gM1 hF (upd (S.1 12 order.toNatClampNeg) 1 ((S.1 12 order.toNatClampNeg 1) - (1 : Int32))) (by decide) (gc6 (by decide) (Decidable.not_not.mp (fun q => c_4 (Or.inl q))).2) (gce (show (gsr (gsr S.1 0 0 (upd (S.1 0 0) 8 0)) 11 gross.toNatClampNeg (upd (S.1 11 gross.toNatClampNeg) 1 (1 : Int32))) 12 order.toNatClampNeg = S.1 12 order.toNatClampNeg from (gsr_p (by decide) (gsr_p (by decide) rfl))) rfl) rfl) dX3_ship_133 ?_
          refine g_aload_n F 1 rfl rfl dX3_ship_134 ?_
          refine g_iconst F (v := (3 : Int32)) (by decide) dX3_ship_135 ?_
          refine g_aload_n F 2 rfl rfl dX3_ship_136 ?_
          refine g_get F clX3 1 (by decide) q1390 (v := .int (S.1 0 0 0)) (gd_get (pr_at (κ := 0) (i := 0) (by decide) (gc1 (gnl rfl)) (gce (show (gsr (gsr (gsr S.1 0 0 (upd (S.1 0 0) 8 0)) 11 gross.toNatClampNeg (upd (S.1 11 gross.toNatClampNeg) 1 (1 : Int32))) 12 order.toNatClampNeg (upd (S.1 12 order.toNatClampNeg) 1 ((S.1 12 order.toNatClampNeg 1) - (1 : Int32)))) 0 0 = upd (S.1 0 0) 8 0 from (gsr_p (by decide) (gsr_p (by decide) gsr_s))) rfl)) rfl) dX3_ship_137 ?_
          refine g_aload_n F 1 rfl rfl dX3_ship_140 ?_
          refine g_iconst F (v := (2 : Int32)) (by decide) dX3_ship_141 ?_
          refine g_ialdN F (m := 2) rfl (by decide) (by decide) (pr_at (κ := 12) (i := order.toNatClampNeg) (by decide) (gc6 (by decide) (Decidable.not_not.mp (fun q => c_4 (Or.inl q))).2) (gce (show (gsr (gsr (gsr S.1 0 0 (upd (S.1 0 0) 8 0)) 11 gross.toNatClampNeg (upd (S.1 11 gross.toNatClampNeg) 1 (1 : Int32))) 12 order.toNatClampNeg (upd (S.1 12 order.toNatClampNeg) 1 ((S.1 12 order.toNatClampNeg 1) - (1 : Int32)))) 12 order.toNatClampNeg = upd (S.1 12 order.toNatClampNeg) 1 ((S.1 12 order.toNatClampNeg 1) - (1 : Int32)) from gsr_s) rfl)) dX3_ship_142 ?_
          change gW _ _ _ _ (.int (S.1 12 order.toNatClampNeg 2) :: _) _ _
          have J_12 : gW (X, G, 5, Q) (gP 1 G (gsr (gsr (gsr S.1 0 0 (upd (S.1 0 0) 8 0)) 11 gross.toNatClampNeg (upd (S.1 11 gross.toNatClampNeg) 1 (1 : Int32))) 12 order.toNatClampNeg (upd (S.1 12 order.toNatClampNeg) 1 ((S.1 12 order.toNatClampNeg 1) - (1 : Int32))), S.2) A Fr []) [(4, .ref (A 11 gross.toNatClampNeg)), (3, .ref (A 12 order.toNatClampNeg)), (0, .ref (A 0 0)), (1, .int order), (2, .int gross)] 153 [.int (if (S.1 0 0 0) ≤ (S.1 12 order.toNatClampNeg 2) then (S.1 12 order.toNatClampNeg 3) else (1 : Int32)), .int (3 : Int32), .ref (A 12 order.toNatClampNeg)] 1 4 := by
            refine g_iastN (P2 := gP 1 G (gsr (gsr (gsr (gsr S.1 0 0 (upd (S.1 0 0) 8 0)) 11 gross.toNatClampNeg (upd (S.1 11 gross.toNatClampNeg) 1 (1 : Int32))) 12 order.toNatClampNeg (upd (S.1 12 order.toNatClampNeg) 1 ((S.1 12 order.toNatClampNeg 1) - (1 : Int32)))) 12 order.toNatClampNeg (upd (upd (S.1 12 order.toNatClampNeg) 1 ((S.1 12 order.toNatClampNeg 1) - (1 : Int32))) 3 (if (S.1 0 0 0) ≤ (S.1 12 order.toNatClampNeg 2) then (S.1 12 order.toNatClampNeg 3) else (1 : Int32))), S.2) A Fr []) F (m := 3) rfl (by decide) (by decide) (pr_setRow (κ := 12) (i := order.toNatClampNeg) gM1 hF (upd (upd (S.1 12 order.toNatClampNeg) 1 ((S.1 12 order.toNatClampNeg 1) - (1 : Int32))) 3 (if (S.1 0 0 0) ≤ (S.1 12 order.toNatClampNeg 2) then (S.1 12 order.toNatClampNeg 3) else (1 : Int32))) (by decide) (gc6 (by decide) (Decidable.not_not.mp (fun q => c_4 (Or.inl q))).2) (gce (show (gsr (gsr (gsr S.1 0 0 (upd (S.1 0 0) 8 0)) 11 gross.toNatClampNeg (upd (S.1 11 gross.toNatClampNeg) 1 (1 : Int32))) 12 order.toNatClampNeg (upd (S.1 12 order.toNatClampNeg) 1 ((S.1 12 order.toNatClampNeg 1) - (1 : Int32)))) 12 order.toNatClampNeg = upd (S.1 12 order.toNatClampNeg) 1 ((S.1 12 order.toNatClampNeg 1) - (1 : Int32)) from gsr_s) rfl) rfl) dX3_ship_153 ?_
            refine g_aload_n F 1 rfl rfl dX3_ship_154 ?_
            refine g_iconst F (v := (1 : Int32)) (by decide) dX3_ship_155 ?_
            refine g_ialdN F (m := 1) rfl (by decide) (by decide) (pr_at (κ := 12) (i := order.toNatClampNeg) (by decide) (gc6 (by decide) (Decidable.not_not.mp (fun q => c_4 (Or.inl q))).2) (gce (show (gsr (gsr (gsr (gsr S.1 0 0 (upd (S.1 0 0) 8 0)) 11 gross.toNatClampNeg (upd (S.1 11 gross.toNatClampNeg) 1 (1 : Int32))) 12 order.toNatClampNeg (upd (S.1 12 order.toNatClampNeg) 1 ((S.1 12 order.toNatClampNeg 1) - (1 : Int32)))) 12 order.toNatClampNeg (upd (upd (S.1 12 order.toNatClampNeg) 1 ((S.1 12 order.toNatClampNeg 1) - (1 : Int32))) 3 (if (S.1 0 0 0) ≤ (S.1 12 order.toNatClampNeg 2) then (S.1 12 order.toNatClampNeg 3) else (1 : Int32)))) 12 order.toNatClampNeg = upd (upd (S.1 12 order.toNatClampNeg) 1 ((S.1 12 order.toNatClampNeg 1) - (1 : Int32))) 3 (if (S.1 0 0 0) ≤ (S.1 12 order.toNatClampNeg 2) then (S.1 12 order.toNatClampNeg 3) else (1 : Int32)) from gsr_s) rfl)) dX3_ship_156 ?_
            change gW _ _ _ _ (.int ((S.1 12 order.toNatClampNeg 1) - (1 : Int32)) :: _) _ _
            exact g_retI F E rfl rfl (gle rfl) (gle rfl) dX3_ship_157 (fun _ hp => ⟨_, _, ((if_neg c_4).trans (if_neg c_10)), rfl, ⟨A, rfl, gP_T0 hp⟩⟩)
          refine g_icmp_le F (tgt := 150) (by decide) dX3_ship_143 (fun c_11 => ?_) (fun c_11 => ?_)
          · skip
            refine g_aload_n F 1 rfl rfl dX3_ship_150 ?_
            refine g_iconst F (v := (3 : Int32)) (by decide) dX3_ship_151 ?_
            refine g_ialdN F (m := 3) rfl (by decide) (by decide) (pr_at (κ := 12) (i := order.toNatClampNeg) (by decide) (gc6 (by decide) (Decidable.not_not.mp (fun q => c_4 (Or.inl q))).2) (gce (show (gsr (gsr (gsr S.1 0 0 (upd (S.1 0 0) 8 0)) 11 gross.toNatClampNeg (upd (S.1 11 gross.toNatClampNeg) 1 (1 : Int32))) 12 order.toNatClampNeg (upd (S.1 12 order.toNatClampNeg) 1 ((S.1 12 order.toNatClampNeg 1) - (1 : Int32)))) 12 order.toNatClampNeg = upd (S.1 12 order.toNatClampNeg) 1 ((S.1 12 order.toNatClampNeg 1) - (1 : Int32)) from gsr_s) rfl)) dX3_ship_152 ?_
            change gW _ _ _ _ (.int (S.1 12 order.toNatClampNeg 3) :: _) _ _
            exact g_top (by rw [if_pos c_11]) J_12
          · skip
            refine g_iconst F (v := (1 : Int32)) (by decide) dX3_ship_146 ?_
            refine g_goto F (tgt := 153) (by decide) dX3_ship_147 ?_
            exact g_top (by rw [if_neg c_11]) J_12
      refine g_icmp_lt F (tgt := 107) (by decide) dX3_ship_79 (fun c_5 => ?_) (fun c_5 => ?_)
      · skip
        refine g_iconst F (v := (1 : Int32)) (by decide) dX3_ship_107 ?_
        refine g_goto F (tgt := 112) (by decide) dX3_ship_108 ?_
        exact g_top (gb_t (Or.inl c_5)) J_9
      · skip
        refine g_aload F 0 rfl dX3_ship_82 ?_
        refine g_getN F clX16 0 (by decide) (gT_w q1764 rfl) (v := .int (S.1 11 gross.toNatClampNeg 0)) (gd_get (pr_at (κ := 11) (i := gross.toNatClampNeg) (by decide) (gc6 (by decide) (Decidable.not_not.mp (fun q => c_4 (Or.inr q))).2) (gce (show (gsr S.1 0 0 (upd (S.1 0 0) 8 0)) 11 gross.toNatClampNeg = S.1 11 gross.toNatClampNeg from (gsr_p (by decide) rfl)) rfl)) rfl) dX3_ship_84 ?_
        refine g_aload_n F 1 rfl rfl dX3_ship_87 ?_
        refine g_iconst F (v := (0 : Int32)) (by decide) dX3_ship_88 ?_
        refine g_ialdN F (m := 0) rfl (by decide) (by decide) (pr_at (κ := 12) (i := order.toNatClampNeg) (by decide) (gc6 (by decide) (Decidable.not_not.mp (fun q => c_4 (Or.inl q))).2) (gce (show (gsr S.1 0 0 (upd (S.1 0 0) 8 0)) 12 order.toNatClampNeg = S.1 12 order.toNatClampNeg from (gsr_p (by decide) rfl)) rfl)) dX3_ship_89 ?_
        change gW _ _ _ _ (.int (S.1 12 order.toNatClampNeg 0) :: _) _ _
        refine g_icmp_ne F (tgt := 107) (by decide) dX3_ship_90 (fun c_6 => ?_) (fun c_6 => ?_)
        · skip
          refine g_iconst F (v := (1 : Int32)) (by decide) dX3_ship_107 ?_
          refine g_goto F (tgt := 112) (by decide) dX3_ship_108 ?_
          exact g_top (gb_t (Or.inr (Or.inl c_6))) J_9
        · skip
          refine g_aload F 0 rfl dX3_ship_93 ?_
          refine g_getN F clX16 2 (by decide) (gT_w q1767 rfl) (v := .int (S.1 11 gross.toNatClampNeg 1)) (gd_get (pr_at (κ := 11) (i := gross.toNatClampNeg) (by decide) (gc6 (by decide) (Decidable.not_not.mp (fun q => c_4 (Or.inr q))).2) (gce (show (gsr S.1 0 0 (upd (S.1 0 0) 8 0)) 11 gross.toNatClampNeg = S.1 11 gross.toNatClampNeg from (gsr_p (by decide) rfl)) rfl)) rfl) dX3_ship_95 ?_
          refine g_if_ne F (tgt := 107) (by decide) dX3_ship_98 (fun c_7 => ?_) (fun c_7 => ?_)
          · skip
            refine g_iconst F (v := (1 : Int32)) (by decide) dX3_ship_107 ?_
            refine g_goto F (tgt := 112) (by decide) dX3_ship_108 ?_
            exact g_top (gb_t (Or.inr (Or.inr (Or.inl c_7)))) J_9
          · skip
            refine g_aload_n F 1 rfl rfl dX3_ship_101 ?_
            refine g_iconst F (v := (1 : Int32)) (by decide) dX3_ship_102 ?_
            refine g_ialdN F (m := 1) rfl (by decide) (by decide) (pr_at (κ := 12) (i := order.toNatClampNeg) (by decide) (gc6 (by decide) (Decidable.not_not.mp (fun q => c_4 (Or.inl q))).2) (gce (show (gsr S.1 0 0 (upd (S.1 0 0) 8 0)) 12 order.toNatClampNeg = S.1 12 order.toNatClampNeg from (gsr_p (by decide) rfl)) rfl)) dX3_ship_103 ?_
            change gW _ _ _ _ (.int (S.1 12 order.toNatClampNeg 1) :: _) _ _
            refine g_if_ne F (tgt := 111) (by decide) dX3_ship_104 (fun c_8 => ?_) (fun c_8 => ?_)
            · skip
              refine g_iconst F (v := (0 : Int32)) (by decide) dX3_ship_111 ?_
              exact g_top (gb_f (fun q => q.elim c_5 (fun q => q.elim (fun z => z c_6) (fun q => q.elim (fun z => z c_7) c_8)))) J_9
            · skip
              refine g_iconst F (v := (1 : Int32)) (by decide) dX3_ship_107 ?_
              refine g_goto F (tgt := 112) (by decide) dX3_ship_108 ?_
              exact g_top (gb_t (Or.inr (Or.inr (Or.inr c_8)))) J_9
  refine gb_if_eq F (tgt := 27) (by decide) dX3_ship_13 (fun c_1 => ?_) (fun c_1 => ?_)
  · skip
    refine g_iconst F (v := (1 : Int32)) (by decide) dX3_ship_27 ?_
    refine g_goto F (tgt := 32) (by decide) dX3_ship_28 ?_
    exact g_top (gb_t (Or.inl c_1)) J_3
  · skip
    refine g_aload_n F 0 rfl rfl dX3_ship_16 ?_
    refine g_get F clX3 12 (by decide) q1401 (v := .ref (A 311 0)) (gd_get (pr_at (κ := 0) (i := 0) (by decide) (gc1 (gnl rfl)) (gce (show (gsr S.1 0 0 (upd (S.1 0 0) 8 0)) 0 0 = upd (S.1 0 0) 8 0 from gsr_s) rfl)) rfl) dX3_ship_17 ?_
    refine g_iload_n F 2 rfl rfl dX3_ship_20 ?_
    refine g_callS F (kX3_isOf hl (pr_ls (M := 1) (S := (gsr S.1 0 0 (upd (S.1 0 0) 8 0), S.2)) (A := A) (κ := 11) (by decide) (Or.inl ⟨by decide, by decide⟩) (fun q => by first | decide | exact absurd q (by decide)) (fun q => by first | decide | exact absurd q (by decide))) (gw_n hW _) (x := gross)) (lw_S q1502 q1503 q25 q1504) myX3_isOf ⟨by decide, by decide⟩ rfl rfl (gle rfl) 0 0 (gle rfl) (gle rfl) (gle rfl) (gle rfl) dX3_ship_21 gx_n (gv_i ?_)
    refine gb_if_ne F (tgt := 31) (by decide) dX3_ship_24 (fun c_2 => ?_) (fun c_2 => ?_)
    · skip
      refine g_iconst F (v := (0 : Int32)) (by decide) dX3_ship_31 ?_
      exact g_top (gb_f (fun q => q.elim (fun z => z c_1) (fun q => q c_2))) J_3
    · skip
      refine g_iconst F (v := (1 : Int32)) (by decide) dX3_ship_27 ?_
      refine g_goto F (tgt := 32) (by decide) dX3_ship_28 ?_
      exact g_top (gb_t (Or.inr c_2)) J_3

def sM_trace (S : gS) (gross part what : Int32) : Value × gS := if ¬ (gIn gross (S.2 11)) ∨ (¬ (gIn part (S.2 (100 + gross.toNatClampNeg)))) then (.int (-1 : Int32), (gsr (gsr S.1 0 0 (upd (S.1 0 0) 8 0)) 0 0 (upd (upd (S.1 0 0) 8 0) 8 (1 : Int32)), S.2)) else (if ¬ (0 ≤ (gidx 6 what)) then (.int (-1 : Int32), (gsr (gsr S.1 0 0 (upd (S.1 0 0) 8 0)) 0 0 (upd (upd (S.1 0 0) 8 0) 8 (2 : Int32)), S.2)) else (if what = (98 : Int32) then (.int (S.1 10 ((S.1 (100 + gross.toNatClampNeg) part.toNatClampNeg 0).toNatClampNeg) 0), (gsr S.1 0 0 (upd (S.1 0 0) 8 0), S.2)) else (if what = (102 : Int32) then (.int (S.1 8 ((S.1 10 ((S.1 (100 + gross.toNatClampNeg) part.toNatClampNeg 0).toNatClampNeg) 0).toNatClampNeg) 6), (gsr S.1 0 0 (upd (S.1 0 0) 8 0), S.2)) else (if what = (103 : Int32) then (.int (S.1 7 ((S.1 8 ((S.1 10 ((S.1 (100 + gross.toNatClampNeg) part.toNatClampNeg 0).toNatClampNeg) 0).toNatClampNeg) 0).toNatClampNeg) 0), (gsr S.1 0 0 (upd (S.1 0 0) 8 0), S.2)) else (if what = (104 : Int32) then (.int (S.1 10 ((S.1 (100 + gross.toNatClampNeg) part.toNatClampNeg 0).toNatClampNeg) 2), (gsr S.1 0 0 (upd (S.1 0 0) 8 0), S.2)) else (if what = (107 : Int32) then (.int (S.1 8 ((S.1 10 ((S.1 (100 + gross.toNatClampNeg) part.toNatClampNeg 0).toNatClampNeg) 0).toNatClampNeg) 11), (gsr S.1 0 0 (upd (S.1 0 0) 8 0), S.2)) else (if what = (110 : Int32) then (.int (S.1 (100 + gross.toNatClampNeg) part.toNatClampNeg 1), (gsr S.1 0 0 (upd (S.1 0 0) 8 0), S.2)) else (if what = (114 : Int32) then (.int (S.1 (100 + gross.toNatClampNeg) part.toNatClampNeg 0), (gsr S.1 0 0 (upd (S.1 0 0) 8 0), S.2)) else (if what = (115 : Int32) then (.int (S.1 10 ((S.1 (100 + gross.toNatClampNeg) part.toNatClampNeg 0).toNatClampNeg) 1), (gsr S.1 0 0 (upd (S.1 0 0) 8 0), S.2)) else (if what = (120 : Int32) then (.int (S.1 (100 + gross.toNatClampNeg) part.toNatClampNeg 2), (gsr S.1 0 0 (upd (S.1 0 0) 8 0), S.2)) else (.int (S.1 7 ((S.1 8 ((S.1 10 ((S.1 (100 + gross.toNatClampNeg) part.toNatClampNeg 0).toNatClampNeg) 0).toNatClampNeg) 0).toNatClampNeg) 1), (gsr S.1 0 0 (upd (S.1 0 0) 8 0), S.2))))))))))))
theorem kX3_trace {l : Launch} {G : gG} (hl : l.stackTraces = false) {S : gS} {a0 : Nat} {Fr : gH → Prop} (hF : gFr 1 Fr) (hW : gWf S) {gross part what : Int32} (h_what : ¬ what < 0) : gMet l yX3_trace (ws_ yX3_trace cX3_trace 8 (some .int)) ⟨4, 0, 0, 91⟩ G [.ref a0, .int gross, .int part, .int what] (gPE 1 G S a0 Fr) (gqN (sM_trace S gross part what) G a0 Fr) gxN := by
  refine gMet_of hl pnX3 (gle rfl) (fun X Q hX F E hNm => ?_)
  subst hX
  change gW (X, G, 8, Q) (gPE 1 G S a0 Fr) [(0, .ref a0), (1, .int gross), (2, .int part), (3, .int what)] 0 [] 0 0
  refine g_pe (fun A hA => ?_)
  subst hA
  change gW _ _ [(0, .ref (A 0 0)), (1, .int gross), (2, .int part), (3, .int what)] 0 [] 0 0
  refine g_aload_n F 0 rfl rfl dX3_trace_0 ?_
  refine g_callV F (kX3_begins hl (pr_at (κ := 0) (i := 0) (by decide) (gc1 (gnl rfl)) (gce rfl rfl))) (g_recv F clX3 (gd_obj (pr_at (κ := 0) (i := 0) (by decide) (gc1 (gnl rfl)) (gce rfl rfl)))) q1448 q1450 qs6 q25 q1451 myX3_begins ⟨by decide, by decide⟩ rfl rfl (gle rfl) 0 0 (gle rfl) (gle rfl) (gle rfl) (gle rfl) dX3_trace_1 gx_n (gv_v ?_)
  refine g_mono (P2 := gP 1 G (gsr S.1 0 0 (upd (S.1 0 0) 8 0), S.2) A Fr []) (pr_upRow (κ := 0) (i := 0) gM1 hF (upd (S.1 0 0) 8 0) (by decide) (gc1 (gnl rfl)) (gce rfl rfl) rfl) ?_
  refine g_aload_n F 0 rfl rfl dX3_trace_4 ?_
  refine g_aload_n F 0 rfl rfl dX3_trace_5 ?_
  refine g_get F clX3 12 (by decide) q1401 (v := .ref (A 311 0)) (gd_get (pr_at (κ := 0) (i := 0) (by decide) (gc1 (gnl rfl)) (gce (show (gsr S.1 0 0 (upd (S.1 0 0) 8 0)) 0 0 = upd (S.1 0 0) 8 0 from gsr_s) rfl)) rfl) dX3_trace_6 ?_
  refine g_iload_n F 1 rfl rfl dX3_trace_9 ?_
  refine g_callS F (kX3_isOf hl (pr_ls (M := 1) (S := (gsr S.1 0 0 (upd (S.1 0 0) 8 0), S.2)) (A := A) (κ := 11) (by decide) (Or.inl ⟨by decide, by decide⟩) (fun q => by first | decide | exact absurd q (by decide)) (fun q => by first | decide | exact absurd q (by decide))) (gw_n hW _) (x := gross)) (lw_S q1502 q1503 q25 q1504) myX3_isOf ⟨by decide, by decide⟩ rfl rfl (gle rfl) 0 0 (gle rfl) (gle rfl) (gle rfl) (gle rfl) dX3_trace_10 gx_n (gv_i ?_)
  have J_3 : gW (X, G, 8, Q) (gP 1 G (gsr S.1 0 0 (upd (S.1 0 0) 8 0), S.2) A Fr []) [(0, .ref (A 0 0)), (1, .int gross), (2, .int part), (3, .int what)] 44 [.int (gb (¬ (gIn gross (S.2 11)) ∨ (¬ (gIn part (S.2 (100 + gross.toNatClampNeg)))))), .ref (A 0 0)] 0 0 := by
    refine g_iconst F (v := (1 : Int32)) (by decide) dX3_trace_44 ?_
    refine g_callV F (kX3_fails hl (b := gb (¬ (gIn gross (S.2 11)) ∨ (¬ (gIn part (S.2 (100 + gross.toNatClampNeg)))))) (nu := (1 : Int32)) (c := ¬ (gIn gross (S.2 11)) ∨ (¬ (gIn part (S.2 (100 + gross.toNatClampNeg))))) gb_n0 (by decide) (pr_at (κ := 0) (i := 0) (by decide) (gc1 (gnl rfl)) (gce (show (gsr S.1 0 0 (upd (S.1 0 0) 8 0)) 0 0 = upd (S.1 0 0) 8 0 from gsr_s) rfl))) (g_recv F clX3 (gd_obj (pr_at (κ := 0) (i := 0) (by decide) (gc1 (gnl rfl)) (gce (show (gsr S.1 0 0 (upd (S.1 0 0) 8 0)) 0 0 = upd (S.1 0 0) 8 0 from gsr_s) rfl)))) q1456 q1458 qs7 q25 q1459 myX3_fails ⟨by decide, by decide⟩ rfl rfl (gle rfl) 0 0 (gle rfl) (gle rfl) (gle rfl) (gle rfl) dX3_trace_45 gx_n (gv_f (fun c_4 => ?_) (fun c_4 => ?_))
    · skip
      refine g_mono (P2 := gP 1 G (gsr (gsr S.1 0 0 (upd (S.1 0 0) 8 0)) 0 0 (upd (upd (S.1 0 0) 8 0) 8 (1 : Int32)), S.2) A Fr []) (pr_upRow (κ := 0) (i := 0) gM1 hF (upd (upd (S.1 0 0) 8 0) 8 (1 : Int32)) (by decide) (gc1 (gnl rfl)) (gce (show (gsr S.1 0 0 (upd (S.1 0 0) 8 0)) 0 0 = upd (S.1 0 0) 8 0 from gsr_s) rfl) rfl) ?_
      refine g_if_ne F (tgt := 74) (by decide) dX3_trace_48 (fun _ => ?_) (fun c => absurd c (by decide))
      refine g_iconst F (v := (-1 : Int32)) (by decide) dX3_trace_74 ?_
      exact g_retI F E rfl rfl (gle rfl) (gle rfl) dX3_trace_75 (fun _ hp => ⟨_, _, (if_pos c_4), rfl, ⟨A, rfl, gP_T0 hp⟩⟩)
    · skip
      refine g_if_ne F (tgt := 74) (by decide) dX3_trace_48 (fun c => absurd c (by decide)) (fun _ => ?_)
      refine g_aload_n F 0 rfl rfl dX3_trace_51 ?_
      refine g_ldcSW F (i := 6) (List.mem_of_getElem? (i := 13) rfl) dX3_trace_52 ?_
      refine g_iload_n F 3 rfl rfl dX3_trace_55 ?_
      refine g_callV F (kJ0_indexOf hl (by decide) (ch := what) h_what) (g_srecv F (by decide)) q1469 q436 q437 q19 q438 myJ0_indexOf ⟨by decide, by decide⟩ rfl rfl (gle rfl) 0 0 (gle rfl) (gle rfl) (gle rfl) (gle rfl) dX3_trace_56 gx_n (gv_i ?_)
      have J_6 : gW (X, G, 8, Q) (gP 1 G (gsr S.1 0 0 (upd (S.1 0 0) 8 0), S.2) A Fr []) [(0, .ref (A 0 0)), (1, .int gross), (2, .int part), (3, .int what)] 67 [.int (gb (¬ (0 ≤ (gidx 6 what)))), .ref (A 0 0)] 0 0 := by
        refine g_iconst F (v := (2 : Int32)) (by decide) dX3_trace_67 ?_
        refine g_callV F (kX3_fails hl (b := gb (¬ (0 ≤ (gidx 6 what)))) (nu := (2 : Int32)) (c := ¬ (0 ≤ (gidx 6 what))) gb_n0 (by decide) (pr_at (κ := 0) (i := 0) (by decide) (gc1 (gnl rfl)) (gce (show (gsr S.1 0 0 (upd (S.1 0 0) 8 0)) 0 0 = upd (S.1 0 0) 8 0 from gsr_s) rfl))) (g_recv F clX3 (gd_obj (pr_at (κ := 0) (i := 0) (by decide) (gc1 (gnl rfl)) (gce (show (gsr S.1 0 0 (upd (S.1 0 0) 8 0)) 0 0 = upd (S.1 0 0) 8 0 from gsr_s) rfl)))) q1456 q1458 qs7 q25 q1459 myX3_fails ⟨by decide, by decide⟩ rfl rfl (gle rfl) 0 0 (gle rfl) (gle rfl) (gle rfl) (gle rfl) dX3_trace_68 gx_n (gv_f (fun c_7 => ?_) (fun c_7 => ?_))
        · skip
          refine g_mono (P2 := gP 1 G (gsr (gsr S.1 0 0 (upd (S.1 0 0) 8 0)) 0 0 (upd (upd (S.1 0 0) 8 0) 8 (2 : Int32)), S.2) A Fr []) (pr_upRow (κ := 0) (i := 0) gM1 hF (upd (upd (S.1 0 0) 8 0) 8 (2 : Int32)) (by decide) (gc1 (gnl rfl)) (gce (show (gsr S.1 0 0 (upd (S.1 0 0) 8 0)) 0 0 = upd (S.1 0 0) 8 0 from gsr_s) rfl) rfl) ?_
          refine g_if_eq F (tgt := 76) (by decide) dX3_trace_71 (fun c => absurd c (by decide)) (fun _ => ?_)
          refine g_iconst F (v := (-1 : Int32)) (by decide) dX3_trace_74 ?_
          exact g_retI F E rfl rfl (gle rfl) (gle rfl) dX3_trace_75 (fun _ hp => ⟨_, _, ((if_neg c_4).trans (if_pos c_7)), rfl, ⟨A, rfl, gP_T0 hp⟩⟩)
        · skip
          refine g_if_eq F (tgt := 76) (by decide) dX3_trace_71 (fun _ => ?_) (fun c => absurd c (by decide))
          refine g_aload_n F 0 rfl rfl dX3_trace_76 ?_
          refine g_get F clX3 12 (by decide) q1401 (v := .ref (A 311 0)) (gd_get (pr_at (κ := 0) (i := 0) (by decide) (gc1 (gnl rfl)) (gce (show (gsr S.1 0 0 (upd (S.1 0 0) 8 0)) 0 0 = upd (S.1 0 0) 8 0 from gsr_s) rfl)) rfl) dX3_trace_77 ?_
          refine g_iload_n F 1 rfl rfl dX3_trace_80 ?_
          refine g_callF F clJ3 (kJ3_get hl (pr_ls (M := 1) (S := (gsr S.1 0 0 (upd (S.1 0 0) 8 0), S.2)) (A := A) (κ := 11) (by decide) (Or.inl ⟨by decide, by decide⟩) (fun q => by first | decide | exact absurd q (by decide)) (fun q => by first | decide | exact absurd q (by decide))) (j := gross.toNatClampNeg) (Decidable.not_not.mp (fun q => c_4 (Or.inl q))).2 (gw_n hW _) rfl (Decidable.not_not.mp (fun q => c_4 (Or.inl q))).1) (g_recv F clJ3 (gls_obj (pr_ls (M := 1) (S := (gsr S.1 0 0 (upd (S.1 0 0) 8 0), S.2)) (A := A) (κ := 11) (by decide) (Or.inl ⟨by decide, by decide⟩) (fun q => by first | decide | exact absurd q (by decide)) (fun q => by first | decide | exact absurd q (by decide))))) q1506 q809 q811 q22 q813 (List.mem_of_getElem? (i := 1) rfl) (gT_w q812 rfl) (gT_w q810 rfl) (gT_w q293 rfl) gface_1 ⟨by decide, by decide⟩ rfl rfl (gle rfl) 0 0 (gle rfl) (gle rfl) (gle rfl) (gle rfl) dX3_trace_81 gx_n (gv_i ?_)
          refine g_castS F (g_recv F clX16 (gd_obj (pr_at (κ := 11) (i := gross.toNatClampNeg) (by decide) (gc6 (by decide) (Decidable.not_not.mp (fun q => c_4 (Or.inl q))).2) (gce (show (gsr S.1 0 0 (upd (S.1 0 0) 8 0)) 11 gross.toNatClampNeg = S.1 11 gross.toNatClampNeg from (gsr_p (by decide) rfl)) rfl)))) q1756 dX3_trace_86 ?_
          refine g_getN F clX16 1 (by decide) (gT_w q1766 rfl) (v := .ref (A (400 + gross.toNatClampNeg) 0)) (gd_get (pr_at (κ := 11) (i := gross.toNatClampNeg) (by decide) (gc6 (by decide) (Decidable.not_not.mp (fun q => c_4 (Or.inl q))).2) (gce (show (gsr S.1 0 0 (upd (S.1 0 0) 8 0)) 11 gross.toNatClampNeg = S.1 11 gross.toNatClampNeg from (gsr_p (by decide) rfl)) rfl)) rfl) dX3_trace_89 ?_
          refine g_iload_n F 2 rfl rfl dX3_trace_92 ?_
          refine g_callF F clJ3 (kJ3_get hl (pr_lsp (M := 1) (S := (gsr S.1 0 0 (upd (S.1 0 0) 8 0), S.2)) (A := A) (g := gross.toNatClampNeg) (gWf_0 (r := upd (S.1 0 0) 8 0) hW (gw_b hW)) (Decidable.not_not.mp (fun q => c_4 (Or.inl q))).2) (j := part.toNatClampNeg) (Decidable.not_not.mp (fun q => c_4 (Or.inr q))).2 (gw_n hW _) rfl (Decidable.not_not.mp (fun q => c_4 (Or.inr q))).1) (g_recv F clJ3 (gls_obj (pr_lsp (M := 1) (S := (gsr S.1 0 0 (upd (S.1 0 0) 8 0), S.2)) (A := A) (g := gross.toNatClampNeg) (gWf_0 (r := upd (S.1 0 0) 8 0) hW (gw_b hW)) (Decidable.not_not.mp (fun q => c_4 (Or.inl q))).2))) q1506 q809 q811 q22 q813 (List.mem_of_getElem? (i := 1) rfl) (gT_w q812 rfl) (gT_w q810 rfl) (gT_w q293 rfl) gface_1 ⟨by decide, by decide⟩ rfl rfl (gle rfl) 0 0 (gle rfl) (gle rfl) (gle rfl) (gle rfl) dX3_trace_93 gx_n (gv_i ?_)
          refine g_castS F (g_recvI F (pr_at (κ := (100 + gross.toNatClampNeg)) (i := part.toNatClampNeg) (gk3 hW (Decidable.not_not.mp (fun q => c_4 (Or.inl q))).2) (gc6 (by omega) (Decidable.not_not.mp (fun q => c_4 (Or.inr q))).2) (gce (show (gsr S.1 0 0 (upd (S.1 0 0) 8 0)) (100 + gross.toNatClampNeg) part.toNatClampNeg = S.1 (100 + gross.toNatClampNeg) part.toNatClampNeg from (gsr_p (by omega) rfl)) gcell_p1))) q1507 dX3_trace_98 ?_
          refine g_astore F (by show 4 < 8; decide) (lv2 := [(4, .ref (A (100 + gross.toNatClampNeg) part.toNatClampNeg)), (0, .ref (A 0 0)), (1, .int gross), (2, .int part), (3, .int what)]) rfl dX3_trace_101 ?_
          refine g_aload_n F 1 rfl rfl dX3_trace_103 ?_
          refine g_get F clX3 11 (by decide) q1400 (v := .ref (A 310 0)) (gd_get (pr_at (κ := 0) (i := 0) (by decide) (gc1 (gnl rfl)) (gce (show (gsr S.1 0 0 (upd (S.1 0 0) 8 0)) 0 0 = upd (S.1 0 0) 8 0 from gsr_s) rfl)) rfl) dX3_trace_104 ?_
          refine g_aload F 0 rfl dX3_trace_107 ?_
          refine g_iconst F (v := (0 : Int32)) (by decide) dX3_trace_109 ?_
          refine g_ialdN F (m := 0) rfl (by decide) (by decide) (pr_at (κ := (100 + gross.toNatClampNeg)) (i := part.toNatClampNeg) (gk3 hW (Decidable.not_not.mp (fun q => c_4 (Or.inl q))).2) (gc6 (by omega) (Decidable.not_not.mp (fun q => c_4 (Or.inr q))).2) (gce (show (gsr S.1 0 0 (upd (S.1 0 0) 8 0)) (100 + gross.toNatClampNeg) part.toNatClampNeg = S.1 (100 + gross.toNatClampNeg) part.toNatClampNeg from (gsr_p (by omega) rfl)) gcell_p1)) dX3_trace_110 ?_
          change gW _ _ _ _ (.int (S.1 (100 + gross.toNatClampNeg) part.toNatClampNeg 0) :: _) _ _
          refine g_callF F clJ3 (kJ3_get hl (pr_ls (M := 1) (S := (gsr S.1 0 0 (upd (S.1 0 0) 8 0), S.2)) (A := A) (κ := 10) (by decide) (Or.inl ⟨by decide, by decide⟩) (fun q => by first | decide | exact absurd q (by decide)) (fun q => by first | decide | exact absurd q (by decide))) (j := (S.1 (100 + gross.toNatClampNeg) part.toNatClampNeg 0).toNatClampNeg) (gw_p_0 hW (Decidable.not_not.mp (fun q => c_4 (Or.inl q))).2 (Decidable.not_not.mp (fun q => c_4 (Or.inr q))).2).2 (gw_n hW _) rfl (gw_p_0 hW (Decidable.not_not.mp (fun q => c_4 (Or.inl q))).2 (Decidable.not_not.mp (fun q => c_4 (Or.inr q))).2).1) (g_recv F clJ3 (gls_obj (pr_ls (M := 1) (S := (gsr S.1 0 0 (upd (S.1 0 0) 8 0), S.2)) (A := A) (κ := 10) (by decide) (Or.inl ⟨by decide, by decide⟩) (fun q => by first | decide | exact absurd q (by decide)) (fun q => by first | decide | exact absurd q (by decide))))) q1506 q809 q811 q22 q813 (List.mem_of_getElem? (i := 1) rfl) (gT_w q812 rfl) (gT_w q810 rfl) (gT_w q293 rfl) gface_1 ⟨by decide, by decide⟩ rfl rfl (gle rfl) 0 0 (gle rfl) (gle rfl) (gle rfl) (gle rfl) dX3_trace_111 gx_n (gv_i ?_)
          refine g_castS F (g_recv F clX14 (gd_obj (pr_at (κ := 10) (i := (S.1 (100 + gross.toNatClampNeg) part.toNatClampNeg 0).toNatClampNeg) (by decide) (gc6 (by decide) (gw_p_0 hW (Decidable.not_not.mp (fun q => c_4 (Or.inl q))).2 (Decidable.not_not.mp (fun q => c_4 (Or.inr q))).2).2) (gce (show (gsr S.1 0 0 (upd (S.1 0 0) 8 0)) 10 ((S.1 (100 + gross.toNatClampNeg) part.toNatClampNeg 0).toNatClampNeg) = S.1 10 ((S.1 (100 + gross.toNatClampNeg) part.toNatClampNeg 0).toNatClampNeg) from (gsr_p (by decide) rfl)) rfl)))) q1673 dX3_trace_116 ?_
          refine g_astore F (by show 5 < 8; decide) (lv2 := [(5, .ref (A 10 (S.1 (100 + gross.toNatClampNeg) part.toNatClampNeg 0).toNatClampNeg)), (4, .ref (A (100 + gross.toNatClampNeg) part.toNatClampNeg)), (0, .ref (A 0 0)), (1, .int gross), (2, .int part), (3, .int what)]) rfl dX3_trace_119 ?_
          refine g_aload_n F 2 rfl rfl dX3_trace_121 ?_
          refine g_get F clX3 9 (by decide) q1398 (v := .ref (A 308 0)) (gd_get (pr_at (κ := 0) (i := 0) (by decide) (gc1 (gnl rfl)) (gce (show (gsr S.1 0 0 (upd (S.1 0 0) 8 0)) 0 0 = upd (S.1 0 0) 8 0 from gsr_s) rfl)) rfl) dX3_trace_122 ?_
          refine g_aload F 0 rfl dX3_trace_125 ?_
          refine g_getN F clX14 0 (by decide) (gT_w q1679 rfl) (v := .int (S.1 10 ((S.1 (100 + gross.toNatClampNeg) part.toNatClampNeg 0).toNatClampNeg) 0)) (gd_get (pr_at (κ := 10) (i := (S.1 (100 + gross.toNatClampNeg) part.toNatClampNeg 0).toNatClampNeg) (by decide) (gc6 (by decide) (gw_p_0 hW (Decidable.not_not.mp (fun q => c_4 (Or.inl q))).2 (Decidable.not_not.mp (fun q => c_4 (Or.inr q))).2).2) (gce (show (gsr S.1 0 0 (upd (S.1 0 0) 8 0)) 10 ((S.1 (100 + gross.toNatClampNeg) part.toNatClampNeg 0).toNatClampNeg) = S.1 10 ((S.1 (100 + gross.toNatClampNeg) part.toNatClampNeg 0).toNatClampNeg) from (gsr_p (by decide) rfl)) rfl)) rfl) dX3_trace_127 ?_
          refine g_callF F clJ3 (kJ3_get hl (pr_ls (M := 1) (S := (gsr S.1 0 0 (upd (S.1 0 0) 8 0), S.2)) (A := A) (κ := 8) (by decide) (Or.inl ⟨by decide, by decide⟩) (fun q => by first | decide | exact absurd q (by decide)) (fun q => by first | decide | exact absurd q (by decide))) (j := (S.1 10 ((S.1 (100 + gross.toNatClampNeg) part.toNatClampNeg 0).toNatClampNeg) 0).toNatClampNeg) (gw_10_0 hW (gw_p_0 hW (Decidable.not_not.mp (fun q => c_4 (Or.inl q))).2 (Decidable.not_not.mp (fun q => c_4 (Or.inr q))).2).2).2 (gw_n hW _) rfl (gw_10_0 hW (gw_p_0 hW (Decidable.not_not.mp (fun q => c_4 (Or.inl q))).2 (Decidable.not_not.mp (fun q => c_4 (Or.inr q))).2).2).1) (g_recv F clJ3 (gls_obj (pr_ls (M := 1) (S := (gsr S.1 0 0 (upd (S.1 0 0) 8 0), S.2)) (A := A) (κ := 8) (by decide) (Or.inl ⟨by decide, by decide⟩) (fun q => by first | decide | exact absurd q (by decide)) (fun q => by first | decide | exact absurd q (by decide))))) q1506 q809 q811 q22 q813 (List.mem_of_getElem? (i := 1) rfl) (gT_w q812 rfl) (gT_w q810 rfl) (gT_w q293 rfl) gface_1 ⟨by decide, by decide⟩ rfl rfl (gle rfl) 0 0 (gle rfl) (gle rfl) (gle rfl) (gle rfl) dX3_trace_130 gx_n (gv_i ?_)
          refine g_castS F (g_recv F clX10 (gd_obj (pr_at (κ := 8) (i := (S.1 10 ((S.1 (100 + gross.toNatClampNeg) part.toNatClampNeg 0).toNatClampNeg) 0).toNatClampNeg) (by decide) (gc6 (by decide) (gw_10_0 hW (gw_p_0 hW (Decidable.not_not.mp (fun q => c_4 (Or.inl q))).2 (Decidable.not_not.mp (fun q => c_4 (Or.inr q))).2).2).2) (gce (show (gsr S.1 0 0 (upd (S.1 0 0) 8 0)) 8 ((S.1 10 ((S.1 (100 + gross.toNatClampNeg) part.toNatClampNeg 0).toNatClampNeg) 0).toNatClampNeg) = S.1 8 ((S.1 10 ((S.1 (100 + gross.toNatClampNeg) part.toNatClampNeg 0).toNatClampNeg) 0).toNatClampNeg) from (gsr_p (by decide) rfl)) rfl)))) q1524 dX3_trace_135 ?_
          refine g_astore F (by show 6 < 8; decide) (lv2 := [(6, .ref (A 8 (S.1 10 ((S.1 (100 + gross.toNatClampNeg) part.toNatClampNeg 0).toNatClampNeg) 0).toNatClampNeg)), (5, .ref (A 10 (S.1 (100 + gross.toNatClampNeg) part.toNatClampNeg 0).toNatClampNeg)), (4, .ref (A (100 + gross.toNatClampNeg) part.toNatClampNeg)), (0, .ref (A 0 0)), (1, .int gross), (2, .int part), (3, .int what)]) rfl dX3_trace_138 ?_
          refine g_aload_n F 3 rfl rfl dX3_trace_140 ?_
          refine g_get F clX3 6 (by decide) q1395 (v := .ref (A 307 0)) (gd_get (pr_at (κ := 0) (i := 0) (by decide) (gc1 (gnl rfl)) (gce (show (gsr S.1 0 0 (upd (S.1 0 0) 8 0)) 0 0 = upd (S.1 0 0) 8 0 from gsr_s) rfl)) rfl) dX3_trace_141 ?_
          refine g_aload F 0 rfl dX3_trace_144 ?_
          refine g_getN F clX10 0 (by decide) (gT_w q1530 rfl) (v := .int (S.1 8 ((S.1 10 ((S.1 (100 + gross.toNatClampNeg) part.toNatClampNeg 0).toNatClampNeg) 0).toNatClampNeg) 0)) (gd_get (pr_at (κ := 8) (i := (S.1 10 ((S.1 (100 + gross.toNatClampNeg) part.toNatClampNeg 0).toNatClampNeg) 0).toNatClampNeg) (by decide) (gc6 (by decide) (gw_10_0 hW (gw_p_0 hW (Decidable.not_not.mp (fun q => c_4 (Or.inl q))).2 (Decidable.not_not.mp (fun q => c_4 (Or.inr q))).2).2).2) (gce (show (gsr S.1 0 0 (upd (S.1 0 0) 8 0)) 8 ((S.1 10 ((S.1 (100 + gross.toNatClampNeg) part.toNatClampNeg 0).toNatClampNeg) 0).toNatClampNeg) = S.1 8 ((S.1 10 ((S.1 (100 + gross.toNatClampNeg) part.toNatClampNeg 0).toNatClampNeg) 0).toNatClampNeg) from (gsr_p (by decide) rfl)) rfl)) rfl) dX3_trace_146 ?_
          refine g_callF F clJ3 (kJ3_get hl (pr_ls (M := 1) (S := (gsr S.1 0 0 (upd (S.1 0 0) 8 0), S.2)) (A := A) (κ := 7) (by decide) (Or.inl ⟨by decide, by decide⟩) (fun q => by first | decide | exact absurd q (by decide)) (fun q => by first | decide | exact absurd q (by decide))) (j := (S.1 8 ((S.1 10 ((S.1 (100 + gross.toNatClampNeg) part.toNatClampNeg 0).toNatClampNeg) 0).toNatClampNeg) 0).toNatClampNeg) (gw_8_0 hW (gw_10_0 hW (gw_p_0 hW (Decidable.not_not.mp (fun q => c_4 (Or.inl q))).2 (Decidable.not_not.mp (fun q => c_4 (Or.inr q))).2).2).2).2 (gw_n hW _) rfl (gw_8_0 hW (gw_10_0 hW (gw_p_0 hW (Decidable.not_not.mp (fun q => c_4 (Or.inl q))).2 (Decidable.not_not.mp (fun q => c_4 (Or.inr q))).2).2).2).1) (g_recv F clJ3 (gls_obj (pr_ls (M := 1) (S := (gsr S.1 0 0 (upd (S.1 0 0) 8 0), S.2)) (A := A) (κ := 7) (by decide) (Or.inl ⟨by decide, by decide⟩) (fun q => by first | decide | exact absurd q (by decide)) (fun q => by first | decide | exact absurd q (by decide))))) q1506 q809 q811 q22 q813 (List.mem_of_getElem? (i := 1) rfl) (gT_w q812 rfl) (gT_w q810 rfl) (gT_w q293 rfl) gface_1 ⟨by decide, by decide⟩ rfl rfl (gle rfl) 0 0 (gle rfl) (gle rfl) (gle rfl) (gle rfl) dX3_trace_149 gx_n (gv_i ?_)
          refine g_castS F (g_recvI F (pr_at (κ := 7) (i := (S.1 8 ((S.1 10 ((S.1 (100 + gross.toNatClampNeg) part.toNatClampNeg 0).toNatClampNeg) 0).toNatClampNeg) 0).toNatClampNeg) (by decide) (gc6 (by decide) (gw_8_0 hW (gw_10_0 hW (gw_p_0 hW (Decidable.not_not.mp (fun q => c_4 (Or.inl q))).2 (Decidable.not_not.mp (fun q => c_4 (Or.inr q))).2).2).2).2) (gce (show (gsr S.1 0 0 (upd (S.1 0 0) 8 0)) 7 ((S.1 8 ((S.1 10 ((S.1 (100 + gross.toNatClampNeg) part.toNatClampNeg 0).toNatClampNeg) 0).toNatClampNeg) 0).toNatClampNeg) = S.1 7 ((S.1 8 ((S.1 10 ((S.1 (100 + gross.toNatClampNeg) part.toNatClampNeg 0).toNatClampNeg) 0).toNatClampNeg) 0).toNatClampNeg) from (gsr_p (by decide) rfl)) rfl))) q1507 dX3_trace_154 ?_
          refine g_astore F (by show 7 < 8; decide) (lv2 := [(7, .ref (A 7 (S.1 8 ((S.1 10 ((S.1 (100 + gross.toNatClampNeg) part.toNatClampNeg 0).toNatClampNeg) 0).toNatClampNeg) 0).toNatClampNeg)), (6, .ref (A 8 (S.1 10 ((S.1 (100 + gross.toNatClampNeg) part.toNatClampNeg 0).toNatClampNeg) 0).toNatClampNeg)), (5, .ref (A 10 (S.1 (100 + gross.toNatClampNeg) part.toNatClampNeg 0).toNatClampNeg)), (4, .ref (A (100 + gross.toNatClampNeg) part.toNatClampNeg)), (0, .ref (A 0 0)), (1, .int gross), (2, .int part), (3, .int what)]) rfl dX3_trace_157 ?_
          refine g_iload_n F 7 rfl rfl dX3_trace_159 ?_
          refine g_cases (x := what) (98 : Int32) (fun w_8 => ?_) (fun w_8 => ?_)
          · skip
            refine g_tableIn F (x := what) (by rw [w_8]; decide) (by rw [w_8]; decide) (off := 123) (by rw [w_8]; rfl) (tgt := 283) (by decide) dX3_trace_160 ?_
            refine g_aload F 2 rfl dX3_trace_283 ?_
            refine g_getN F clX14 0 (by decide) (gT_w q1679 rfl) (v := .int (S.1 10 ((S.1 (100 + gross.toNatClampNeg) part.toNatClampNeg 0).toNatClampNeg) 0)) (gd_get (pr_at (κ := 10) (i := (S.1 (100 + gross.toNatClampNeg) part.toNatClampNeg 0).toNatClampNeg) (by decide) (gc6 (by decide) (gw_p_0 hW (Decidable.not_not.mp (fun q => c_4 (Or.inl q))).2 (Decidable.not_not.mp (fun q => c_4 (Or.inr q))).2).2) (gce (show (gsr S.1 0 0 (upd (S.1 0 0) 8 0)) 10 ((S.1 (100 + gross.toNatClampNeg) part.toNatClampNeg 0).toNatClampNeg) = S.1 10 ((S.1 (100 + gross.toNatClampNeg) part.toNatClampNeg 0).toNatClampNeg) from (gsr_p (by decide) rfl)) rfl)) rfl) dX3_trace_285 ?_
            exact g_retI F E rfl rfl (gle rfl) (gle rfl) dX3_trace_288 (fun _ hp => ⟨_, _, ((if_neg c_4).trans ((if_neg c_7).trans (if_pos w_8))), rfl, ⟨A, rfl, gP_T0 hp⟩⟩)
          refine g_cases (x := what) (102 : Int32) (fun w_9 => ?_) (fun w_9 => ?_)
          · skip
            refine g_tableIn F (x := what) (by rw [w_9]; decide) (by rw [w_9]; decide) (off := 129) (by rw [w_9]; rfl) (tgt := 289) (by decide) dX3_trace_160 ?_
            refine g_aload F 1 rfl dX3_trace_289 ?_
            refine g_getN F clX10 6 (by decide) (gT_w q1537 rfl) (v := .int (S.1 8 ((S.1 10 ((S.1 (100 + gross.toNatClampNeg) part.toNatClampNeg 0).toNatClampNeg) 0).toNatClampNeg) 6)) (gd_get (pr_at (κ := 8) (i := (S.1 10 ((S.1 (100 + gross.toNatClampNeg) part.toNatClampNeg 0).toNatClampNeg) 0).toNatClampNeg) (by decide) (gc6 (by decide) (gw_10_0 hW (gw_p_0 hW (Decidable.not_not.mp (fun q => c_4 (Or.inl q))).2 (Decidable.not_not.mp (fun q => c_4 (Or.inr q))).2).2).2) (gce (show (gsr S.1 0 0 (upd (S.1 0 0) 8 0)) 8 ((S.1 10 ((S.1 (100 + gross.toNatClampNeg) part.toNatClampNeg 0).toNatClampNeg) 0).toNatClampNeg) = S.1 8 ((S.1 10 ((S.1 (100 + gross.toNatClampNeg) part.toNatClampNeg 0).toNatClampNeg) 0).toNatClampNeg) from (gsr_p (by decide) rfl)) rfl)) rfl) dX3_trace_291 ?_
            exact g_retI F E rfl rfl (gle rfl) (gle rfl) dX3_trace_294 (fun _ hp => ⟨_, _, ((if_neg c_4).trans ((if_neg c_7).trans ((if_neg w_8).trans (if_pos w_9)))), rfl, ⟨A, rfl, gP_T0 hp⟩⟩)
          refine g_cases (x := what) (103 : Int32) (fun w_10 => ?_) (fun w_10 => ?_)
          · skip
            refine g_tableIn F (x := what) (by rw [w_10]; decide) (by rw [w_10]; decide) (off := 153) (by rw [w_10]; rfl) (tgt := 313) (by decide) dX3_trace_160 ?_
            refine g_aload F 0 rfl dX3_trace_313 ?_
            refine g_iconst F (v := (0 : Int32)) (by decide) dX3_trace_315 ?_
            refine g_ialdN F (m := 0) rfl (by decide) (by decide) (pr_at (κ := 7) (i := (S.1 8 ((S.1 10 ((S.1 (100 + gross.toNatClampNeg) part.toNatClampNeg 0).toNatClampNeg) 0).toNatClampNeg) 0).toNatClampNeg) (by decide) (gc6 (by decide) (gw_8_0 hW (gw_10_0 hW (gw_p_0 hW (Decidable.not_not.mp (fun q => c_4 (Or.inl q))).2 (Decidable.not_not.mp (fun q => c_4 (Or.inr q))).2).2).2).2) (gce (show (gsr S.1 0 0 (upd (S.1 0 0) 8 0)) 7 ((S.1 8 ((S.1 10 ((S.1 (100 + gross.toNatClampNeg) part.toNatClampNeg 0).toNatClampNeg) 0).toNatClampNeg) 0).toNatClampNeg) = S.1 7 ((S.1 8 ((S.1 10 ((S.1 (100 + gross.toNatClampNeg) part.toNatClampNeg 0).toNatClampNeg) 0).toNatClampNeg) 0).toNatClampNeg) from (gsr_p (by decide) rfl)) rfl)) dX3_trace_316 ?_
            change gW _ _ _ _ (.int (S.1 7 ((S.1 8 ((S.1 10 ((S.1 (100 + gross.toNatClampNeg) part.toNatClampNeg 0).toNatClampNeg) 0).toNatClampNeg) 0).toNatClampNeg) 0) :: _) _ _
            exact g_retI F E rfl rfl (gle rfl) (gle rfl) dX3_trace_317 (fun _ hp => ⟨_, _, ((if_neg c_4).trans ((if_neg c_7).trans ((if_neg w_8).trans ((if_neg w_9).trans (if_pos w_10))))), rfl, ⟨A, rfl, gP_T0 hp⟩⟩)
          refine g_cases (x := what) (104 : Int32) (fun w_11 => ?_) (fun w_11 => ?_)
          · skip
            refine g_tableIn F (x := what) (by rw [w_11]; decide) (by rw [w_11]; decide) (off := 147) (by rw [w_11]; rfl) (tgt := 307) (by decide) dX3_trace_160 ?_
            refine g_aload F 2 rfl dX3_trace_307 ?_
            refine g_getN F clX14 2 (by decide) (gT_w q1681 rfl) (v := .int (S.1 10 ((S.1 (100 + gross.toNatClampNeg) part.toNatClampNeg 0).toNatClampNeg) 2)) (gd_get (pr_at (κ := 10) (i := (S.1 (100 + gross.toNatClampNeg) part.toNatClampNeg 0).toNatClampNeg) (by decide) (gc6 (by decide) (gw_p_0 hW (Decidable.not_not.mp (fun q => c_4 (Or.inl q))).2 (Decidable.not_not.mp (fun q => c_4 (Or.inr q))).2).2) (gce (show (gsr S.1 0 0 (upd (S.1 0 0) 8 0)) 10 ((S.1 (100 + gross.toNatClampNeg) part.toNatClampNeg 0).toNatClampNeg) = S.1 10 ((S.1 (100 + gross.toNatClampNeg) part.toNatClampNeg 0).toNatClampNeg) from (gsr_p (by decide) rfl)) rfl)) rfl) dX3_trace_309 ?_
            exact g_retI F E rfl rfl (gle rfl) (gle rfl) dX3_trace_312 (fun _ hp => ⟨_, _, ((if_neg c_4).trans ((if_neg c_7).trans ((if_neg w_8).trans ((if_neg w_9).trans ((if_neg w_10).trans (if_pos w_11)))))), rfl, ⟨A, rfl, gP_T0 hp⟩⟩)
          refine g_cases (x := what) (107 : Int32) (fun w_12 => ?_) (fun w_12 => ?_)
          · skip
            refine g_tableIn F (x := what) (by rw [w_12]; decide) (by rw [w_12]; decide) (off := 135) (by rw [w_12]; rfl) (tgt := 295) (by decide) dX3_trace_160 ?_
            refine g_aload F 1 rfl dX3_trace_295 ?_
            refine g_getN F clX10 7 (by decide) (gT_w q1538 rfl) (v := .int (S.1 8 ((S.1 10 ((S.1 (100 + gross.toNatClampNeg) part.toNatClampNeg 0).toNatClampNeg) 0).toNatClampNeg) 11)) (gd_get (pr_at (κ := 8) (i := (S.1 10 ((S.1 (100 + gross.toNatClampNeg) part.toNatClampNeg 0).toNatClampNeg) 0).toNatClampNeg) (by decide) (gc6 (by decide) (gw_10_0 hW (gw_p_0 hW (Decidable.not_not.mp (fun q => c_4 (Or.inl q))).2 (Decidable.not_not.mp (fun q => c_4 (Or.inr q))).2).2).2) (gce (show (gsr S.1 0 0 (upd (S.1 0 0) 8 0)) 8 ((S.1 10 ((S.1 (100 + gross.toNatClampNeg) part.toNatClampNeg 0).toNatClampNeg) 0).toNatClampNeg) = S.1 8 ((S.1 10 ((S.1 (100 + gross.toNatClampNeg) part.toNatClampNeg 0).toNatClampNeg) 0).toNatClampNeg) from (gsr_p (by decide) rfl)) rfl)) rfl) dX3_trace_297 ?_
            exact g_retI F E rfl rfl (gle rfl) (gle rfl) dX3_trace_300 (fun _ hp => ⟨_, _, ((if_neg c_4).trans ((if_neg c_7).trans ((if_neg w_8).trans ((if_neg w_9).trans ((if_neg w_10).trans ((if_neg w_11).trans (if_pos w_12))))))), rfl, ⟨A, rfl, gP_T0 hp⟩⟩)
          refine g_cases (x := what) (110 : Int32) (fun w_13 => ?_) (fun w_13 => ?_)
          · skip
            refine g_tableIn F (x := what) (by rw [w_13]; decide) (by rw [w_13]; decide) (off := 113) (by rw [w_13]; rfl) (tgt := 273) (by decide) dX3_trace_160 ?_
            refine g_aload F 3 rfl dX3_trace_273 ?_
            refine g_iconst F (v := (1 : Int32)) (by decide) dX3_trace_275 ?_
            refine g_ialdN F (m := 1) rfl (by decide) (by decide) (pr_at (κ := (100 + gross.toNatClampNeg)) (i := part.toNatClampNeg) (gk3 hW (Decidable.not_not.mp (fun q => c_4 (Or.inl q))).2) (gc6 (by omega) (Decidable.not_not.mp (fun q => c_4 (Or.inr q))).2) (gce (show (gsr S.1 0 0 (upd (S.1 0 0) 8 0)) (100 + gross.toNatClampNeg) part.toNatClampNeg = S.1 (100 + gross.toNatClampNeg) part.toNatClampNeg from (gsr_p (by omega) rfl)) gcell_p1)) dX3_trace_276 ?_
            change gW _ _ _ _ (.int (S.1 (100 + gross.toNatClampNeg) part.toNatClampNeg 1) :: _) _ _
            exact g_retI F E rfl rfl (gle rfl) (gle rfl) dX3_trace_277 (fun _ hp => ⟨_, _, ((if_neg c_4).trans ((if_neg c_7).trans ((if_neg w_8).trans ((if_neg w_9).trans ((if_neg w_10).trans ((if_neg w_11).trans ((if_neg w_12).trans (if_pos w_13)))))))), rfl, ⟨A, rfl, gP_T0 hp⟩⟩)
          refine g_cases (x := what) (114 : Int32) (fun w_14 => ?_) (fun w_14 => ?_)
          · skip
            refine g_tableIn F (x := what) (by rw [w_14]; decide) (by rw [w_14]; decide) (off := 108) (by rw [w_14]; rfl) (tgt := 268) (by decide) dX3_trace_160 ?_
            refine g_aload F 3 rfl dX3_trace_268 ?_
            refine g_iconst F (v := (0 : Int32)) (by decide) dX3_trace_270 ?_
            refine g_ialdN F (m := 0) rfl (by decide) (by decide) (pr_at (κ := (100 + gross.toNatClampNeg)) (i := part.toNatClampNeg) (gk3 hW (Decidable.not_not.mp (fun q => c_4 (Or.inl q))).2) (gc6 (by omega) (Decidable.not_not.mp (fun q => c_4 (Or.inr q))).2) (gce (show (gsr S.1 0 0 (upd (S.1 0 0) 8 0)) (100 + gross.toNatClampNeg) part.toNatClampNeg = S.1 (100 + gross.toNatClampNeg) part.toNatClampNeg from (gsr_p (by omega) rfl)) gcell_p1)) dX3_trace_271 ?_
            change gW _ _ _ _ (.int (S.1 (100 + gross.toNatClampNeg) part.toNatClampNeg 0) :: _) _ _
            exact g_retI F E rfl rfl (gle rfl) (gle rfl) dX3_trace_272 (fun _ hp => ⟨_, _, ((if_neg c_4).trans ((if_neg c_7).trans ((if_neg w_8).trans ((if_neg w_9).trans ((if_neg w_10).trans ((if_neg w_11).trans ((if_neg w_12).trans ((if_neg w_13).trans (if_pos w_14))))))))), rfl, ⟨A, rfl, gP_T0 hp⟩⟩)
          refine g_cases (x := what) (115 : Int32) (fun w_15 => ?_) (fun w_15 => ?_)
          · skip
            refine g_tableIn F (x := what) (by rw [w_15]; decide) (by rw [w_15]; decide) (off := 141) (by rw [w_15]; rfl) (tgt := 301) (by decide) dX3_trace_160 ?_
            refine g_aload F 2 rfl dX3_trace_301 ?_
            refine g_getN F clX14 1 (by decide) (gT_w q1680 rfl) (v := .int (S.1 10 ((S.1 (100 + gross.toNatClampNeg) part.toNatClampNeg 0).toNatClampNeg) 1)) (gd_get (pr_at (κ := 10) (i := (S.1 (100 + gross.toNatClampNeg) part.toNatClampNeg 0).toNatClampNeg) (by decide) (gc6 (by decide) (gw_p_0 hW (Decidable.not_not.mp (fun q => c_4 (Or.inl q))).2 (Decidable.not_not.mp (fun q => c_4 (Or.inr q))).2).2) (gce (show (gsr S.1 0 0 (upd (S.1 0 0) 8 0)) 10 ((S.1 (100 + gross.toNatClampNeg) part.toNatClampNeg 0).toNatClampNeg) = S.1 10 ((S.1 (100 + gross.toNatClampNeg) part.toNatClampNeg 0).toNatClampNeg) from (gsr_p (by decide) rfl)) rfl)) rfl) dX3_trace_303 ?_
            exact g_retI F E rfl rfl (gle rfl) (gle rfl) dX3_trace_306 (fun _ hp => ⟨_, _, ((if_neg c_4).trans ((if_neg c_7).trans ((if_neg w_8).trans ((if_neg w_9).trans ((if_neg w_10).trans ((if_neg w_11).trans ((if_neg w_12).trans ((if_neg w_13).trans ((if_neg w_14).trans (if_pos w_15)))))))))), rfl, ⟨A, rfl, gP_T0 hp⟩⟩)
          refine g_cases (x := what) (120 : Int32) (fun w_16 => ?_) (fun w_16 => ?_)
          · skip
            refine g_tableIn F (x := what) (by rw [w_16]; decide) (by rw [w_16]; decide) (off := 118) (by rw [w_16]; rfl) (tgt := 278) (by decide) dX3_trace_160 ?_
            refine g_aload F 3 rfl dX3_trace_278 ?_
            refine g_iconst F (v := (2 : Int32)) (by decide) dX3_trace_280 ?_
            refine g_ialdN F (m := 2) rfl (by decide) (by decide) (pr_at (κ := (100 + gross.toNatClampNeg)) (i := part.toNatClampNeg) (gk3 hW (Decidable.not_not.mp (fun q => c_4 (Or.inl q))).2) (gc6 (by omega) (Decidable.not_not.mp (fun q => c_4 (Or.inr q))).2) (gce (show (gsr S.1 0 0 (upd (S.1 0 0) 8 0)) (100 + gross.toNatClampNeg) part.toNatClampNeg = S.1 (100 + gross.toNatClampNeg) part.toNatClampNeg from (gsr_p (by omega) rfl)) gcell_p1)) dX3_trace_281 ?_
            change gW _ _ _ _ (.int (S.1 (100 + gross.toNatClampNeg) part.toNatClampNeg 2) :: _) _ _
            exact g_retI F E rfl rfl (gle rfl) (gle rfl) dX3_trace_282 (fun _ hp => ⟨_, _, ((if_neg c_4).trans ((if_neg c_7).trans ((if_neg w_8).trans ((if_neg w_9).trans ((if_neg w_10).trans ((if_neg w_11).trans ((if_neg w_12).trans ((if_neg w_13).trans ((if_neg w_14).trans ((if_neg w_15).trans (if_pos w_16))))))))))), rfl, ⟨A, rfl, gP_T0 hp⟩⟩)
          refine g_tableD F (x := what) [0, 4, 5, 6, 9, 12, 16, 17, 22] (by decide) (by decide) (gAc (fun q => w_8 (Int32.toInt_inj.mp (q.trans (by decide)))) (gAc (fun q => w_9 (Int32.toInt_inj.mp (q.trans (by decide)))) (gAc (fun q => w_10 (Int32.toInt_inj.mp (q.trans (by decide)))) (gAc (fun q => w_11 (Int32.toInt_inj.mp (q.trans (by decide)))) (gAc (fun q => w_12 (Int32.toInt_inj.mp (q.trans (by decide)))) (gAc (fun q => w_13 (Int32.toInt_inj.mp (q.trans (by decide)))) (gAc (fun q => w_14 (Int32.toInt_inj.mp (q.trans (by decide)))) (gAc (fun q => w_15 (Int32.toInt_inj.mp (q.trans (by decide)))) (gAc (fun q => w_16 (Int32.toInt_inj.mp (q.trans (by decide)))) gAn))))))))) (tgt := 318) (by decide) dX3_trace_160 ?_
          refine g_aload F 0 rfl dX3_trace_318 ?_
          refine g_iconst F (v := (1 : Int32)) (by decide) dX3_trace_320 ?_
          refine g_ialdN F (m := 1) rfl (by decide) (by decide) (pr_at (κ := 7) (i := (S.1 8 ((S.1 10 ((S.1 (100 + gross.toNatClampNeg) part.toNatClampNeg 0).toNatClampNeg) 0).toNatClampNeg) 0).toNatClampNeg) (by decide) (gc6 (by decide) (gw_8_0 hW (gw_10_0 hW (gw_p_0 hW (Decidable.not_not.mp (fun q => c_4 (Or.inl q))).2 (Decidable.not_not.mp (fun q => c_4 (Or.inr q))).2).2).2).2) (gce (show (gsr S.1 0 0 (upd (S.1 0 0) 8 0)) 7 ((S.1 8 ((S.1 10 ((S.1 (100 + gross.toNatClampNeg) part.toNatClampNeg 0).toNatClampNeg) 0).toNatClampNeg) 0).toNatClampNeg) = S.1 7 ((S.1 8 ((S.1 10 ((S.1 (100 + gross.toNatClampNeg) part.toNatClampNeg 0).toNatClampNeg) 0).toNatClampNeg) 0).toNatClampNeg) from (gsr_p (by decide) rfl)) rfl)) dX3_trace_321 ?_
          change gW _ _ _ _ (.int (S.1 7 ((S.1 8 ((S.1 10 ((S.1 (100 + gross.toNatClampNeg) part.toNatClampNeg 0).toNatClampNeg) 0).toNatClampNeg) 0).toNatClampNeg) 1) :: _) _ _
          exact g_retI F E rfl rfl (gle rfl) (gle rfl) dX3_trace_322 (fun _ hp => ⟨_, _, ((if_neg c_4).trans ((if_neg c_7).trans ((if_neg w_8).trans ((if_neg w_9).trans ((if_neg w_10).trans ((if_neg w_11).trans ((if_neg w_12).trans ((if_neg w_13).trans ((if_neg w_14).trans ((if_neg w_15).trans (if_neg w_16))))))))))), rfl, ⟨A, rfl, gP_T0 hp⟩⟩)
      refine g_if_ge F (tgt := 66) (by decide) dX3_trace_59 (fun c_5 => ?_) (fun c_5 => ?_)
      · skip
        refine g_iconst F (v := (0 : Int32)) (by decide) dX3_trace_66 ?_
        exact g_top (gb_f (fun q => q c_5)) J_6
      · skip
        refine g_iconst F (v := (1 : Int32)) (by decide) dX3_trace_62 ?_
        refine g_goto F (tgt := 67) (by decide) dX3_trace_63 ?_
        exact g_top (gb_t c_5) J_6
  refine gb_if_eq F (tgt := 39) (by decide) dX3_trace_13 (fun c_1 => ?_) (fun c_1 => ?_)
  · skip
    refine g_iconst F (v := (1 : Int32)) (by decide) dX3_trace_39 ?_
    refine g_goto F (tgt := 44) (by decide) dX3_trace_40 ?_
    exact g_top (gb_t (Or.inl c_1)) J_3
  · skip
    refine g_aload_n F 0 rfl rfl dX3_trace_16 ?_
    refine g_get F clX3 12 (by decide) q1401 (v := .ref (A 311 0)) (gd_get (pr_at (κ := 0) (i := 0) (by decide) (gc1 (gnl rfl)) (gce (show (gsr S.1 0 0 (upd (S.1 0 0) 8 0)) 0 0 = upd (S.1 0 0) 8 0 from gsr_s) rfl)) rfl) dX3_trace_17 ?_
    refine g_iload_n F 1 rfl rfl dX3_trace_20 ?_
    refine g_callF F clJ3 (kJ3_get hl (pr_ls (M := 1) (S := (gsr S.1 0 0 (upd (S.1 0 0) 8 0), S.2)) (A := A) (κ := 11) (by decide) (Or.inl ⟨by decide, by decide⟩) (fun q => by first | decide | exact absurd q (by decide)) (fun q => by first | decide | exact absurd q (by decide))) (j := gross.toNatClampNeg) c_1.2 (gw_n hW _) rfl c_1.1) (g_recv F clJ3 (gls_obj (pr_ls (M := 1) (S := (gsr S.1 0 0 (upd (S.1 0 0) 8 0), S.2)) (A := A) (κ := 11) (by decide) (Or.inl ⟨by decide, by decide⟩) (fun q => by first | decide | exact absurd q (by decide)) (fun q => by first | decide | exact absurd q (by decide))))) q1506 q809 q811 q22 q813 (List.mem_of_getElem? (i := 1) rfl) (gT_w q812 rfl) (gT_w q810 rfl) (gT_w q293 rfl) gface_1 ⟨by decide, by decide⟩ rfl rfl (gle rfl) 0 0 (gle rfl) (gle rfl) (gle rfl) (gle rfl) dX3_trace_21 gx_n (gv_i ?_)
    refine g_castS F (g_recv F clX16 (gd_obj (pr_at (κ := 11) (i := gross.toNatClampNeg) (by decide) (gc6 (by decide) c_1.2) (gce (show (gsr S.1 0 0 (upd (S.1 0 0) 8 0)) 11 gross.toNatClampNeg = S.1 11 gross.toNatClampNeg from (gsr_p (by decide) rfl)) rfl)))) q1756 dX3_trace_26 ?_
    refine g_getN F clX16 1 (by decide) (gT_w q1766 rfl) (v := .ref (A (400 + gross.toNatClampNeg) 0)) (gd_get (pr_at (κ := 11) (i := gross.toNatClampNeg) (by decide) (gc6 (by decide) c_1.2) (gce (show (gsr S.1 0 0 (upd (S.1 0 0) 8 0)) 11 gross.toNatClampNeg = S.1 11 gross.toNatClampNeg from (gsr_p (by decide) rfl)) rfl)) rfl) dX3_trace_29 ?_
    refine g_iload_n F 2 rfl rfl dX3_trace_32 ?_
    refine g_callS F (kX3_isOf hl (pr_lsp (M := 1) (S := (gsr S.1 0 0 (upd (S.1 0 0) 8 0), S.2)) (A := A) (g := gross.toNatClampNeg) (gWf_0 (r := upd (S.1 0 0) 8 0) hW (gw_b hW)) c_1.2) (gw_n hW _) (x := part)) (lw_S q1502 q1503 q25 q1504) myX3_isOf ⟨by decide, by decide⟩ rfl rfl (gle rfl) 0 0 (gle rfl) (gle rfl) (gle rfl) (gle rfl) dX3_trace_33 gx_n (gv_i ?_)
    refine gb_if_ne F (tgt := 43) (by decide) dX3_trace_36 (fun c_2 => ?_) (fun c_2 => ?_)
    · skip
      refine g_iconst F (v := (0 : Int32)) (by decide) dX3_trace_43 ?_
      exact g_top (gb_f (fun q => q.elim (fun z => z c_1) (fun q => q c_2))) J_3
    · skip
      refine g_iconst F (v := (1 : Int32)) (by decide) dX3_trace_39 ?_
      refine g_goto F (tgt := 44) (by decide) dX3_trace_40 ?_
      exact g_top (gb_t (Or.inr c_2)) J_3
