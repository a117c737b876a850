theorem kX1_requireDie {l : Launch} {G : gG} (hl : l.stackTraces = false) {P : gH → Prop} {d : Int32} : gMet l yX1_requireDie (ws_ yX1_requireDie cX1_requireDie 1 (some .int)) ⟨7, 2, 7, 101⟩ G [.int d] P (gqY (¬ d < 0 ∧ ¬ 3 < d) (.int d) (gJk P)) (gx1 "java/lang/IllegalArgumentException" (¬ (¬ d < 0 ∧ ¬ 3 < d)) (gJk P)) := by
  refine gMet_of hl pnX1 (gle rfl) (fun X Q hX F E hNm => ?_)
  subst hX
  change gW (X, G, 1, Q) P [(0, .int d)] 0 [] 0 0
  refine g_mono (P2 := gJk P) gJk_0 ?_
  refine g_iconst F (v := (0 : Int32)) (by decide) dX1_requireDie_0 ?_
  refine g_iconst F (v := (3 : Int32)) (by decide) dX1_requireDie_1 ?_
  refine g_iconst F (v := (1 : Int32)) (by decide) dX1_requireDie_2 ?_
  refine g_newI F (5000, 0) (N := 1) rfl (by decide) 1 1 (gle rfl) (gle rfl) (gle rfl) (gle rfl) (Pa := fun a_1 => (gNw (gJk P) (5000, 0) a_1 (gIA G 1 (fun _ => 0)))) gNw_new dX1_requireDie_3 (fun a_1 => ?_)
  refine g_dup F rfl dX1_requireDie_5 ?_
  refine g_iconst F (v := (0 : Int32)) (by decide) dX1_requireDie_6 ?_
  refine g_iload_n F 0 rfl rfl dX1_requireDie_7 ?_
  refine g_iastN (P2 := (gNw (gJk P) (5000, 0) a_1 (gIA G 1 (upd (fun _ => 0) 0 d)))) F (m := 0) rfl (by decide) (by decide) gNw_set dX1_requireDie_8 ?_
  refine g_callS F (kX1_isIn hl gNw_at) (lw_S q305 q306 q18 q307) myX1_isIn ⟨by decide, by decide⟩ rfl rfl (gle rfl) 1 1 (gle rfl) (gle rfl) (gle rfl) (gle rfl) dX1_requireDie_9 gx_n (gv_i ?_)
  refine g_top (show _ = gb (¬ d < (0 : Int32) ∧ ¬ (3 : Int32) < d) from rfl) ?_
  refine g_mono gJk_nw ?_
  refine g_callS F (kX1_requireArgument hl (c := ¬ d < (0 : Int32) ∧ ¬ (3 : Int32) < d)) (lw_S q335 q336 q18 q337) myX1_requireArgument ⟨by decide, by decide⟩ rfl rfl (gle rfl) 2 7 (gle rfl) (gle rfl) (gle rfl) (gle rfl) dX1_requireDie_12 (gx_1 (fun c_2 => g_out0 F E (gle rfl) (gle rfl) (fun _ hp => ⟨rfl, c_2, hp⟩))) (gv_c (fun c_2 => ?_))
  refine g_iload_n F 0 rfl rfl dX1_requireDie_15 ?_
  exact g_retI F E rfl rfl (gle rfl) (gle rfl) dX1_requireDie_16 (fun _ hp => ⟨rfl, c_2, hp⟩)

theorem kX9_isReady {l : Launch} {G : gG} (hl : l.stackTraces = false) {P : gH → Prop} {a : Nat} {w0 w1 w2 w3 w4 w6 w7 w8 w9 w10 w11 : Value} {ready : Int32} {now : Int32} (ha : gAt P a (.inr (6, [w0, w1, w2, w3, w4, .int ready, w6, w7, w8, w9, w10, w11]))) : gMet l yX9_isReady (ws_ yX9_isReady cX9_isReady 2 (some .boolean)) ⟨0, 0, 0, 0⟩ G [.ref a, .int now] P (gqI (.int (gb (¬ (now < ready)))) P) gxN := by
  refine gMet_of hl pnX9 (gle rfl) (fun X Q hX F E hNm => ?_)
  subst hX
  change gW (X, G, 2, Q) P [(0, .ref a), (1, .int now)] 0 [] 0 0
  refine g_iload_n F 1 rfl rfl dX9_isReady_0 ?_
  refine g_aload_n F 0 rfl rfl dX9_isReady_1 ?_
  refine g_get F clX9 5 (by decide) q893 (v := .int ready) (gd_get ha rfl) dX9_isReady_2 ?_
  have J_2 : gW (X, G, 2, Q) P [(0, .ref a), (1, .int now)] 13 [.int (gb (¬ (now < ready)))] 0 0 := by
    exact g_retI F E rfl gb_z (gle rfl) (gle rfl) dX9_isReady_13 (fun _ hp => ⟨rfl, hp⟩)
  refine g_icmp_lt F (tgt := 12) (by decide) dX9_isReady_5 (fun c_1 => ?_) (fun c_1 => ?_)
  · skip
    refine g_iconst F (v := (0 : Int32)) (by decide) dX9_isReady_12 ?_
    exact g_top (gb_f (fun q => q c_1)) J_2
  · skip
    refine g_iconst F (v := (1 : Int32)) (by decide) dX9_isReady_8 ?_
    refine g_goto F (tgt := 13) (by decide) dX9_isReady_9 ?_
    exact g_top (gb_t c_1) J_2

theorem kX9_isFired {l : Launch} {G : gG} (hl : l.stackTraces = false) {P : gH → Prop} {a : Nat} {w0 w1 w2 w3 w4 w5 w6 w7 w9 w10 w11 : Value} {firing : Int32}  (ha : gAt P a (.inr (6, [w0, w1, w2, w3, w4, w5, w6, w7, .int firing, w9, w10, w11]))) : gMet l yX9_isFired (ws_ yX9_isFired cX9_isFired 1 (some .boolean)) ⟨0, 0, 0, 0⟩ G [.ref a] P (gqI (.int (gb (¬ (firing = (-1 : Int32))))) P) gxN := by
  refine gMet_of hl pnX9 (gle rfl) (fun X Q hX F E hNm => ?_)
  subst hX
  change gW (X, G, 1, Q) P [(0, .ref a)] 0 [] 0 0
  refine g_aload_n F 0 rfl rfl dX9_isFired_0 ?_
  refine g_get F clX9 8 (by decide) q897 (v := .int firing) (gd_get ha rfl) dX9_isFired_1 ?_
  refine g_iconst F (v := (-1 : Int32)) (by decide) dX9_isFired_4 ?_
  have J_2 : gW (X, G, 1, Q) P [(0, .ref a)] 13 [.int (gb (¬ (firing = (-1 : Int32))))] 0 0 := by
    exact g_retI F E rfl gb_z (gle rfl) (gle rfl) dX9_isFired_13 (fun _ hp => ⟨rfl, hp⟩)
  refine g_icmp_eq F (tgt := 12) (by decide) dX9_isFired_5 (fun c_1 => ?_) (fun c_1 => ?_)
  · skip
    refine g_iconst F (v := (0 : Int32)) (by decide) dX9_isFired_12 ?_
    exact g_top (gb_f (fun q => q c_1)) J_2
  · skip
    refine g_iconst F (v := (1 : Int32)) (by decide) dX9_isFired_8 ?_
    refine g_goto F (tgt := 13) (by decide) dX9_isFired_9 ?_
    exact g_top (gb_t c_1) J_2

theorem kX9_grade {l : Launch} {G : gG} (hl : l.stackTraces = false) {P : gH → Prop} {a : Nat} {w0 w1 w2 w3 w4 w5 w6 w7 w8 w9 w10 : Value} {dk : Int32}  (ha : gAt P a (.inr (6, [w0, w1, w2, w3, w4, w5, w6, w7, w8, w9, w10, .int dk]))) : gMet l yX9_grade (ws_ yX9_grade cX9_grade 1 (some .int)) ⟨0, 0, 0, 0⟩ G [.ref a] P (gqI (.int (dk / 50)) P) gxN := by
  refine gMet_of hl pnX9 (gle rfl) (fun X Q hX F E hNm => ?_)
  subst hX
  change gW (X, G, 1, Q) P [(0, .ref a)] 0 [] 0 0
  refine g_aload_n F 0 rfl rfl dX9_grade_0 ?_
  refine g_get F clX9 11 (by decide) q903 (v := .int dk) (gd_get ha rfl) dX9_grade_1 ?_
  refine g_bipush F (v := (50 : Int32)) (by decide) dX9_grade_4 ?_
  refine g_idiv F (by decide) dX9_grade_6 ?_
  exact g_retI F E rfl rfl (gle rfl) (gle rfl) dX9_grade_7 (fun _ hp => ⟨rfl, hp⟩)

theorem kX13_whole {l : Launch} {G : gG} (hl : l.stackTraces = false) {P : gH → Prop} {a : Nat} {w0 w1 w2 w3 w4 w7 w8 w9 w10 w11 : Value} {pn br : Int32}  (ha : gAt P a (.inr (10, [w0, w1, w2, w3, w4, .int pn, .int br, w7, w8, w9, w10, w11]))) : gMet l yX13_whole (ws_ yX13_whole cX13_whole 1 (some .int)) ⟨0, 0, 0, 0⟩ G [.ref a] P (gqI (.int (pn - br)) P) gxN := by
  refine gMet_of hl pnX13 (gle rfl) (fun X Q hX F E hNm => ?_)
  subst hX
  change gW (X, G, 1, Q) P [(0, .ref a)] 0 [] 0 0
  refine g_aload_n F 0 rfl rfl dX13_whole_0 ?_
  refine g_get F clX13 5 (by decide) q1090 (v := .int pn) (gd_get ha rfl) dX13_whole_1 ?_
  refine g_aload_n F 0 rfl rfl dX13_whole_4 ?_
  refine g_get F clX13 6 (by decide) q1092 (v := .int br) (gd_get ha rfl) dX13_whole_5 ?_
  refine g_isub F dX13_whole_8 ?_
  exact g_retI F E rfl rfl (gle rfl) (gle rfl) dX13_whole_9 (fun _ hp => ⟨rfl, hp⟩)

theorem kX18_lacks {l : Launch} {G : gG} (hl : l.stackTraces = false) {P : gH → Prop} {a : Nat} {w0 w2 w4 : Value} {gr sh : Int32}  (ha : gAt P a (.inr (15, [w0, .int gr, w2, .int sh, w4]))) : gMet l yX18_lacks (ws_ yX18_lacks cX18_lacks 1 (some .int)) ⟨0, 0, 0, 0⟩ G [.ref a] P (gqI (.int (gr - sh)) P) gxN := by
  refine gMet_of hl pnX18 (gle rfl) (fun X Q hX F E hNm => ?_)
  subst hX
  change gW (X, G, 1, Q) P [(0, .ref a)] 0 [] 0 0
  refine g_aload_n F 0 rfl rfl dX18_lacks_0 ?_
  refine g_get F clX18 1 (by decide) q1251 (v := .int gr) (gd_get ha rfl) dX18_lacks_1 ?_
  refine g_aload_n F 0 rfl rfl dX18_lacks_4 ?_
  refine g_get F clX18 3 (by decide) q1254 (v := .int sh) (gd_get ha rfl) dX18_lacks_5 ?_
  refine g_isub F dX18_lacks_8 ?_
  exact g_retI F E rfl rfl (gle rfl) (gle rfl) dX18_lacks_9 (fun _ hp => ⟨rfl, hp⟩)

theorem kX17_many {l : Launch} {G : gG} (hl : l.stackTraces = false) {P : gH → Prop} {a : Nat} {w0 w2 : Value} {m : Int32}  (ha : gAt P a (.inr (14, [w0, .int m, w2]))) : gMet l yX17_many (ws_ yX17_many cX17_many 1 (some .int)) ⟨0, 0, 0, 0⟩ G [.ref a] P (gqI (.int m) P) gxN := by
  refine gMet_of hl pnX17 (gle rfl) (fun X Q hX F E hNm => ?_)
  subst hX
  change gW (X, G, 1, Q) P [(0, .ref a)] 0 [] 0 0
  refine g_aload_n F 0 rfl rfl dX17_many_0 ?_
  refine g_get F clX17 1 (by decide) q1227 (v := .int m) (gd_get ha rfl) dX17_many_1 ?_
  exact g_retI F E rfl rfl (gle rfl) (gle rfl) dX17_many_4 (fun _ hp => ⟨rfl, hp⟩)

theorem kX17_broken {l : Launch} {G : gG} (hl : l.stackTraces = false) {P : gH → Prop} {a : Nat} {w0 w1 : Value} {m : Int32}  (ha : gAt P a (.inr (14, [w0, w1, .int m]))) : gMet l yX17_broken (ws_ yX17_broken cX17_broken 1 (some .int)) ⟨0, 0, 0, 0⟩ G [.ref a] P (gqI (.int m) P) gxN := by
  refine gMet_of hl pnX17 (gle rfl) (fun X Q hX F E hNm => ?_)
  subst hX
  change gW (X, G, 1, Q) P [(0, .ref a)] 0 [] 0 0
  refine g_aload_n F 0 rfl rfl dX17_broken_0 ?_
  refine g_get F clX17 2 (by decide) q1228 (v := .int m) (gd_get ha rfl) dX17_broken_1 ?_
  exact g_retI F E rfl rfl (gle rfl) (gle rfl) dX17_broken_4 (fun _ hp => ⟨rfl, hp⟩)

theorem kX17_run {l : Launch} {G : gG} (hl : l.stackTraces = false) {P : gH → Prop} {a r: Nat} {w1 w2 : Value}   (ha : gAt P a (.inr (14, [.ref r, w1, w2]))) : gMet l yX17_run (ws_ yX17_run cX17_run 1 (some (.object "Graphline$Run"))) ⟨0, 0, 0, 0⟩ G [.ref a] P (gqI (.ref r) P) gxN := by
  refine gMet_of hl pnX17 (gle rfl) (fun X Q hX F E hNm => ?_)
  subst hX
  change gW (X, G, 1, Q) P [(0, .ref a)] 0 [] 0 0
  refine g_aload_n F 0 rfl rfl dX17_run_0 ?_
  refine g_get F clX17 0 (by decide) q1226 (v := .ref r) (gd_get ha rfl) dX17_run_1 ?_
  exact g_retA F E rfl (Or.inl ⟨_, rfl⟩) (Or.inr ⟨_, rfl⟩) (gle rfl) (gle rfl) dX17_run_4 (fun _ hp => ⟨rfl, hp⟩)

theorem kX13_misfit {l : Launch} {G : gG} (hl : l.stackTraces = false) {P : gH → Prop} {a b : Nat} {w0 w1 w3 w4 w5 w6 w7 w8 w9 w10 w11 x0 x1 x2 x3 x4 x6 : Value} {bore width : Int32} (ha : gAt P a (.inr (6, [w0, w1, .int bore, w3, w4, w5, w6, w7, w8, w9, w10, w11]))) (hb : gAt P b (.inr (8, [x0, x1, x2, x3, x4, .int width, x6]))) : gMet l yX13_misfit (ws_ yX13_misfit cX13_misfit 2 (some .int)) ⟨1, 0, 0, 13⟩ G [.ref a, .ref b] P (gqI (.int (gabs (2 * width - bore))) P) gxN := by
  refine gMet_of hl pnX13 (gle rfl) (fun X Q hX F E hNm => ?_)
  subst hX
  change gW (X, G, 2, Q) P [(0, .ref a), (1, .ref b)] 0 [] 0 0
  refine g_iconst F (v := (2 : Int32)) (by decide) dX13_misfit_0 ?_
  refine g_aload_n F 1 rfl rfl dX13_misfit_1 ?_
  refine g_getN F clX11 5 (by decide) (gT_w q1019 rfl) (v := .int width) (gd_get hb rfl) dX13_misfit_2 ?_
  refine g_imul F dX13_misfit_5 ?_
  refine g_aload_n F 0 rfl rfl dX13_misfit_6 ?_
  refine g_getN F clX9 2 (by decide) (gT_w q888 rfl) (v := .int bore) (gd_get ha rfl) dX13_misfit_7 ?_
  refine g_isub F dX13_misfit_10 ?_
  refine g_mabs F q1070 (gle rfl) (gle rfl) (gle rfl) (gle rfl) dX13_misfit_11 ?_
  exact g_retI F E rfl rfl (gle rfl) (gle rfl) dX13_misfit_14 (fun _ hp => ⟨rfl, hp⟩)

theorem kX1_drive_0 {l : Launch} {G : gG} (hl : l.stackTraces = false) {S : gS} {A : Nat → Nat → Nat} {Fr : gH → Prop} (hF : gFr 0 Fr) (hD : gDrv (S.1 1 0)) {x : Int32} (hx : x = -1 ∨ gIn x 4) (he : gIt (S.1 1 0) 0 x = -1) : gMet l yX1_drive (wsW_ yX1_drive cX1_drive 3 none [((24 : Nat), (34 : Nat), (37 : Nat), (144 : Nat))]) ⟨5, 3, 11, 96⟩ G [.ref (A 0 0), .int x] (gP 0 G S A Fr []) (gqC (gGo (S.1 1 0) (S.1 2 0) (S.1 0 0 1) 0 x = true) (gP 0 G S A Fr [])) (gx1 "Graphline$Standstill" (¬ gGo (S.1 1 0) (S.1 2 0) (S.1 0 0 1) 0 x = true) (gP 0 G S A Fr [])) := by
  refine gMet_ofW hl pnX1 (gle rfl) (fun X Q hX F E hNm => ?_)
  subst hX
  change gW (X, G, 3, Q) (gP 0 G S A Fr []) [(0, .ref (A 0 0)), (1, .int x)] 0 [] 0 0
  refine g_iload_n F 1 rfl rfl dX1_drive_0 ?_
  refine g_iconst F (v := (-1 : Int32)) (by decide) dX1_drive_1 ?_
  refine g_icmp_ne F (tgt := 24) (by decide) dX1_drive_2 (fun c => absurd (show x = -1 from he) c) (fun _ => ?_)
  refine g_aload_n F 0 rfl rfl dX1_drive_5 ?_
  refine g_get F clX1 1 (by decide) q136 (v := .int (S.1 0 0 1)) (gd_get (pr_at (κ := 0) (i := 0) (by decide) (gc1 (gnl rfl)) (gce rfl rfl)) rfl) dX1_drive_6 ?_
  refine g_if_ne F (tgt := 23) (by decide) dX1_drive_9 (fun c_1 => ?_) (fun c_1 => ?_)
  · skip
    exact g_retV F E rfl (gle rfl) (gle rfl) dX1_drive_23 (fun _ hp => ⟨rfl, gGo_mt (show x = -1 from he) c_1, hp⟩)
  · skip
    refine g_new F clX4 q564 q569 q37 (5000, 0) (fs := [.null, .null, .null, .null, .null, .int (0 : Int32)]) rfl 1 6 (gle rfl) (gle rfl) (gle rfl) (gle rfl) (Pa := fun a_2 => gP 0 G S A Fr [(a_2, .inr (18, [.null, .null, .null, .null, .null, .int (0 : Int32)]))]) (pr_new hF) dX1_drive_12 (fun a_2 => ?_)
    refine g_dup F rfl dX1_drive_15 ?_
    refine g_bipush F (v := (45 : Int32)) (by decide) dX1_drive_16 ?_
    refine g_null F dX1_drive_18 ?_
    refine g_callI F (kX4_initN hl (by decide) (by decide) (pr_atT (j := 0) rfl)) rfl q577 q578 q37 q579 myX4_init ⟨by decide, by decide⟩ rfl rfl (gle rfl) 3 11 (gle rfl) (gle rfl) (gle rfl) (gle rfl) dX1_drive_19 gx_n (fun v9 => gv_c9 (fun fs_3 => ?_))
    refine g_mono (P2 := gP 0 G S A Fr [(a_2, .inr (18, fs_3))]) (fun _ hp => pr_up gM0 hF (j := 0) rfl _ (gUp_mono (gP_jk hF) _ hp)) ?_
    refine g_athrow F clX4 (fun _ hp => ⟨_, _, hp.2.2 0 _ _ rfl⟩) dX1_drive_22 ?_
    exact g_out F E (gpass (by decide)) (gle rfl) (gle rfl) (fun _ hp => ⟨rfl, gGo_mf (show x = -1 from he) c_1, gPT hp⟩)

theorem kX1_drive_1 {l : Launch} {G : gG} (hl : l.stackTraces = false) {S : gS} {A : Nat → Nat → Nat} {Fr : gH → Prop} (hF : gFr 0 Fr) (hD : gDrv (S.1 1 0)) {x : Int32} (hx : x = -1 ∨ gIn x 4) (he : gIt (S.1 1 0) 1 x = -1) : gMet l yX1_drive (wsW_ yX1_drive cX1_drive 3 none [((24 : Nat), (34 : Nat), (37 : Nat), (144 : Nat))]) ⟨6, 6, 22, 118⟩ G [.ref (A 0 0), .int x] (gP 0 G S A Fr []) (gqC (gGo (S.1 1 0) (S.1 2 0) (S.1 0 0 1) 1 x = true) (gP 0 G S A Fr [])) (gx1 "Graphline$Standstill" (¬ gGo (S.1 1 0) (S.1 2 0) (S.1 0 0 1) 1 x = true) (gP 0 G S A Fr [])) := by
  refine gMet_ofW hl pnX1 (gle rfl) (fun X Q hX F E hNm => ?_)
  subst hX
  change gW (X, G, 3, Q) (gP 0 G S A Fr []) [(0, .ref (A 0 0)), (1, .int x)] 0 [] 0 0
  refine g_iload_n F 1 rfl rfl dX1_drive_0 ?_
  refine g_iconst F (v := (-1 : Int32)) (by decide) dX1_drive_1 ?_
  refine g_icmp_ne F (tgt := 24) (by decide) dX1_drive_2 (fun c_1 => ?_) (fun c_1 => ?_)
  · skip
    refine g_aload_n F 0 rfl rfl dX1_drive_24 ?_
    refine g_aload_n F 0 rfl rfl dX1_drive_25 ?_
    refine g_get F clX1 2 (by decide) q137 (v := .ref (A 1 0)) (gd_get (pr_at (κ := 0) (i := 0) (by decide) (gc1 (gnl rfl)) (gce rfl rfl)) rfl) dX1_drive_26 ?_
    refine g_iload_n F 1 rfl rfl dX1_drive_29 ?_
    refine g_iald F (gIn_vp (gor_of hx c_1)) (pr_at (κ := 1) (i := 0) (by decide) (gc1 (gnl rfl)) (gce rfl rfl)) dX1_drive_30 ?_
    change gW _ _ _ _ (.int (S.1 1 0 x.toNatClampNeg) :: _) _ _
    refine g_callVW F (kX1_drive_0 hl hF hD (gDrv_n hD (gor_of hx c_1)) (gIt_s c_1 he)) (g_recv F clX1 (gd_obj (pr_at (κ := 0) (i := 0) (by decide) (gc1 (gnl rfl)) (gce rfl rfl)))) q565 q567 qs2 q18 q568 myX1_drive ⟨by decide, by decide⟩ rfl rfl (gle rfl) 3 11 (gle rfl) (gle rfl) (gle rfl) (gle rfl) dX1_drive_31 (gx_1 (fun c_2 => g_catchS F [] _ [] rfl (fun z hz => by cases hz) (by decide) (by decide) q564 (tgt := 37) rfl (fun q9 => ?_))) (gv_c (fun c_2 => ?_))
    · skip
      refine g_astore_n F rfl (by show 2 < 3; decide) (lv2 := [(2, .ref q9), (0, .ref (A 0 0)), (1, .int x)]) rfl dX1_drive_37 ?_
      refine g_new F clX4 q564 q569 q37 (5000, 0) (fs := [.null, .null, .null, .null, .null, .int (0 : Int32)]) rfl 4 17 (gle rfl) (gle rfl) (gle rfl) (gle rfl) (Pa := fun a_3 => gP 0 G S A Fr [(a_3, .inr (18, [.null, .null, .null, .null, .null, .int (0 : Int32)]))]) (pr_new hF) dX1_drive_38 (fun a_3 => ?_)
      refine g_dup F rfl dX1_drive_41 ?_
      refine g_ldcS F (i := 0) (List.mem_of_getElem? (i := 0) rfl) dX1_drive_42 ?_
      refine g_iload_n F 2 rfl rfl dX1_drive_44 ?_
      refine g_callV F (kJ0_charAt hl (i := 0) (by decide) (gor_of hx c_1).2 (gIn_eq (gor_of hx c_1))) (g_srecv F (by decide)) q530 q531 q532 q19 q533 myJ0_charAt ⟨by decide, by decide⟩ rfl rfl (gle rfl) 4 17 (gle rfl) (gle rfl) (gle rfl) (gle rfl) dX1_drive_45 gx_n (gv_i ?_)
      refine g_aload_n F 0 rfl rfl dX1_drive_48 ?_
      refine g_callI F (kX4_initR hl (gm_ch _ (gor_of hx c_1).2).1 (gm_ch _ (gor_of hx c_1).2).2 (pr_atT (j := 0) rfl)) rfl q577 q578 q37 q579 myX4_init ⟨by decide, by decide⟩ rfl rfl (gle rfl) 6 22 (gle rfl) (gle rfl) (gle rfl) (gle rfl) dX1_drive_49 gx_n (fun v9 => gv_c9 (fun fs_4 => ?_))
      refine g_mono (P2 := gP 0 G S A Fr [(a_3, .inr (18, fs_4))]) (fun _ hp => pr_up gM0 hF (j := 0) rfl _ (gUp_mono (gP_jk hF) _ hp)) ?_
      refine g_athrow F clX4 (fun _ hp => ⟨_, _, hp.2.2 0 _ _ rfl⟩) dX1_drive_52 ?_
      exact g_out F E (gpass (by decide)) (gle rfl) (gle rfl) (fun _ hp => ⟨rfl, gGo_s1 c_1 c_2, gPT hp⟩)
    · skip
      refine g_goto F (tgt := 53) (by decide) dX1_drive_34 ?_
      refine g_aload_n F 0 rfl rfl dX1_drive_53 ?_
      refine g_get F clX1 3 (by decide) q138 (v := .ref (A 2 0)) (gd_get (pr_at (κ := 0) (i := 0) (by decide) (gc1 (gnl rfl)) (gce rfl rfl)) rfl) dX1_drive_54 ?_
      refine g_iload_n F 1 rfl rfl dX1_drive_57 ?_
      refine g_zald F (gIn_vp (gor_of hx c_1)) (pr_at (κ := 2) (i := 0) (by decide) (gc1 (gnl rfl)) (gce rfl rfl)) dX1_drive_58 ?_
      change gW _ _ _ _ (.int (S.1 2 0 x.toNatClampNeg) :: _) _ _
      refine g_if_ne F (tgt := 77) (by decide) dX1_drive_59 (fun c_5 => ?_) (fun c_5 => ?_)
      · skip
        exact g_retV F E rfl (gle rfl) (gle rfl) dX1_drive_77 (fun _ hp => ⟨rfl, gGo_st c_1 c_2 c_5, hp⟩)
      · skip
        refine g_new F clX4 q564 q569 q37 (5000, 0) (fs := [.null, .null, .null, .null, .null, .int (0 : Int32)]) rfl 4 17 (gle rfl) (gle rfl) (gle rfl) (gle rfl) (Pa := fun a_6 => gP 0 G S A Fr [(a_6, .inr (18, [.null, .null, .null, .null, .null, .int (0 : Int32)]))]) (pr_new hF) dX1_drive_62 (fun a_6 => ?_)
        refine g_dup F rfl dX1_drive_65 ?_
        refine g_ldcS F (i := 0) (List.mem_of_getElem? (i := 0) rfl) dX1_drive_66 ?_
        refine g_iload_n F 1 rfl rfl dX1_drive_68 ?_
        refine g_callV F (kJ0_charAt hl (i := 0) (by decide) (gor_of hx c_1).2 (gIn_eq (gor_of hx c_1))) (g_srecv F (by decide)) q530 q531 q532 q19 q533 myJ0_charAt ⟨by decide, by decide⟩ rfl rfl (gle rfl) 4 17 (gle rfl) (gle rfl) (gle rfl) (gle rfl) dX1_drive_69 gx_n (gv_i ?_)
        refine g_null F dX1_drive_72 ?_
        refine g_callI F (kX4_initN hl (gm_ch _ (gor_of hx c_1).2).1 (gm_ch _ (gor_of hx c_1).2).2 (pr_atT (j := 0) rfl)) rfl q577 q578 q37 q579 myX4_init ⟨by decide, by decide⟩ rfl rfl (gle rfl) 6 22 (gle rfl) (gle rfl) (gle rfl) (gle rfl) dX1_drive_73 gx_n (fun v9 => gv_c9 (fun fs_7 => ?_))
        refine g_mono (P2 := gP 0 G S A Fr [(a_6, .inr (18, fs_7))]) (fun _ hp => pr_up gM0 hF (j := 0) rfl _ (gUp_mono (gP_jk hF) _ hp)) ?_
        refine g_athrow F clX4 (fun _ hp => ⟨_, _, hp.2.2 0 _ _ rfl⟩) dX1_drive_76 ?_
        exact g_out F E (gpass (by decide)) (gle rfl) (gle rfl) (fun _ hp => ⟨rfl, gGo_s2 c_1 c_5, gPT hp⟩)
  · skip
    refine g_aload_n F 0 rfl rfl dX1_drive_5 ?_
    refine g_get F clX1 1 (by decide) q136 (v := .int (S.1 0 0 1)) (gd_get (pr_at (κ := 0) (i := 0) (by decide) (gc1 (gnl rfl)) (gce rfl rfl)) rfl) dX1_drive_6 ?_
    refine g_if_ne F (tgt := 23) (by decide) dX1_drive_9 (fun c_8 => ?_) (fun c_8 => ?_)
    · skip
      exact g_retV F E rfl (gle rfl) (gle rfl) dX1_drive_23 (fun _ hp => ⟨rfl, gGo_mt c_1 c_8, hp⟩)
    · skip
      refine g_new F clX4 q564 q569 q37 (5000, 0) (fs := [.null, .null, .null, .null, .null, .int (0 : Int32)]) rfl 1 6 (gle rfl) (gle rfl) (gle rfl) (gle rfl) (Pa := fun a_9 => gP 0 G S A Fr [(a_9, .inr (18, [.null, .null, .null, .null, .null, .int (0 : Int32)]))]) (pr_new hF) dX1_drive_12 (fun a_9 => ?_)
      refine g_dup F rfl dX1_drive_15 ?_
      refine g_bipush F (v := (45 : Int32)) (by decide) dX1_drive_16 ?_
      refine g_null F dX1_drive_18 ?_
      refine g_callI F (kX4_initN hl (by decide) (by decide) (pr_atT (j := 0) rfl)) rfl q577 q578 q37 q579 myX4_init ⟨by decide, by decide⟩ rfl rfl (gle rfl) 3 11 (gle rfl) (gle rfl) (gle rfl) (gle rfl) dX1_drive_19 gx_n (fun v9 => gv_c9 (fun fs_10 => ?_))
      refine g_mono (P2 := gP 0 G S A Fr [(a_9, .inr (18, fs_10))]) (fun _ hp => pr_up gM0 hF (j := 0) rfl _ (gUp_mono (gP_jk hF) _ hp)) ?_
      refine g_athrow F clX4 (fun _ hp => ⟨_, _, hp.2.2 0 _ _ rfl⟩) dX1_drive_22 ?_
      exact g_out F E (gpass (by decide)) (gle rfl) (gle rfl) (fun _ hp => ⟨rfl, gGo_mf c_1 c_8, gPT hp⟩)

theorem kX1_drive_2 {l : Launch} {G : gG} (hl : l.stackTraces = false) {S : gS} {A : Nat → Nat → Nat} {Fr : gH → Prop} (hF : gFr 0 Fr) (hD : gDrv (S.1 1 0)) {x : Int32} (hx : x = -1 ∨ gIn x 4) (he : gIt (S.1 1 0) 2 x = -1) : gMet l yX1_drive (wsW_ yX1_drive cX1_drive 3 none [((24 : Nat), (34 : Nat), (37 : Nat), (144 : Nat))]) ⟨7, 9, 33, 140⟩ G [.ref (A 0 0), .int x] (gP 0 G S A Fr []) (gqC (gGo (S.1 1 0) (S.1 2 0) (S.1 0 0 1) 2 x = true) (gP 0 G S A Fr [])) (gx1 "Graphline$Standstill" (¬ gGo (S.1 1 0) (S.1 2 0) (S.1 0 0 1) 2 x = true) (gP 0 G S A Fr [])) := by
  refine gMet_ofW hl pnX1 (gle rfl) (fun X Q hX F E hNm => ?_)
  subst hX
  change gW (X, G, 3, Q) (gP 0 G S A Fr []) [(0, .ref (A 0 0)), (1, .int x)] 0 [] 0 0
  refine g_iload_n F 1 rfl rfl dX1_drive_0 ?_
  refine g_iconst F (v := (-1 : Int32)) (by decide) dX1_drive_1 ?_
  refine g_icmp_ne F (tgt := 24) (by decide) dX1_drive_2 (fun c_1 => ?_) (fun c_1 => ?_)
  · skip
    refine g_aload_n F 0 rfl rfl dX1_drive_24 ?_
    refine g_aload_n F 0 rfl rfl dX1_drive_25 ?_
    refine g_get F clX1 2 (by decide) q137 (v := .ref (A 1 0)) (gd_get (pr_at (κ := 0) (i := 0) (by decide) (gc1 (gnl rfl)) (gce rfl rfl)) rfl) dX1_drive_26 ?_
    refine g_iload_n F 1 rfl rfl dX1_drive_29 ?_
    refine g_iald F (gIn_vp (gor_of hx c_1)) (pr_at (κ := 1) (i := 0) (by decide) (gc1 (gnl rfl)) (gce rfl rfl)) dX1_drive_30 ?_
    change gW _ _ _ _ (.int (S.1 1 0 x.toNatClampNeg) :: _) _ _
    refine g_callVW F (kX1_drive_1 hl hF hD (gDrv_n hD (gor_of hx c_1)) (gIt_s c_1 he)) (g_recv F clX1 (gd_obj (pr_at (κ := 0) (i := 0) (by decide) (gc1 (gnl rfl)) (gce rfl rfl)))) q565 q567 qs2 q18 q568 myX1_drive ⟨by decide, by decide⟩ rfl rfl (gle rfl) 6 22 (gle rfl) (gle rfl) (gle rfl) (gle rfl) dX1_drive_31 (gx_1 (fun c_2 => g_catchS F [] _ [] rfl (fun z hz => by cases hz) (by decide) (by decide) q564 (tgt := 37) rfl (fun q9 => ?_))) (gv_c (fun c_2 => ?_))
    · skip
      refine g_astore_n F rfl (by show 2 < 3; decide) (lv2 := [(2, .ref q9), (0, .ref (A 0 0)), (1, .int x)]) rfl dX1_drive_37 ?_
      refine g_new F clX4 q564 q569 q37 (5000, 0) (fs := [.null, .null, .null, .null, .null, .int (0 : Int32)]) rfl 7 28 (gle rfl) (gle rfl) (gle rfl) (gle rfl) (Pa := fun a_3 => gP 0 G S A Fr [(a_3, .inr (18, [.null, .null, .null, .null, .null, .int (0 : Int32)]))]) (pr_new hF) dX1_drive_38 (fun a_3 => ?_)
      refine g_dup F rfl dX1_drive_41 ?_
      refine g_ldcS F (i := 0) (List.mem_of_getElem? (i := 0) rfl) dX1_drive_42 ?_
      refine g_iload_n F 2 rfl rfl dX1_drive_44 ?_
      refine g_callV F (kJ0_charAt hl (i := 0) (by decide) (gor_of hx c_1).2 (gIn_eq (gor_of hx c_1))) (g_srecv F (by decide)) q530 q531 q532 q19 q533 myJ0_charAt ⟨by decide, by decide⟩ rfl rfl (gle rfl) 7 28 (gle rfl) (gle rfl) (gle rfl) (gle rfl) dX1_drive_45 gx_n (gv_i ?_)
      refine g_aload_n F 0 rfl rfl dX1_drive_48 ?_
      refine g_callI F (kX4_initR hl (gm_ch _ (gor_of hx c_1).2).1 (gm_ch _ (gor_of hx c_1).2).2 (pr_atT (j := 0) rfl)) rfl q577 q578 q37 q579 myX4_init ⟨by decide, by decide⟩ rfl rfl (gle rfl) 9 33 (gle rfl) (gle rfl) (gle rfl) (gle rfl) dX1_drive_49 gx_n (fun v9 => gv_c9 (fun fs_4 => ?_))
      refine g_mono (P2 := gP 0 G S A Fr [(a_3, .inr (18, fs_4))]) (fun _ hp => pr_up gM0 hF (j := 0) rfl _ (gUp_mono (gP_jk hF) _ hp)) ?_
      refine g_athrow F clX4 (fun _ hp => ⟨_, _, hp.2.2 0 _ _ rfl⟩) dX1_drive_52 ?_
      exact g_out F E (gpass (by decide)) (gle rfl) (gle rfl) (fun _ hp => ⟨rfl, gGo_s1 c_1 c_2, gPT hp⟩)
    · skip
      refine g_goto F (tgt := 53) (by decide) dX1_drive_34 ?_
      refine g_aload_n F 0 rfl rfl dX1_drive_53 ?_
      refine g_get F clX1 3 (by decide) q138 (v := .ref (A 2 0)) (gd_get (pr_at (κ := 0) (i := 0) (by decide) (gc1 (gnl rfl)) (gce rfl rfl)) rfl) dX1_drive_54 ?_
      refine g_iload_n F 1 rfl rfl dX1_drive_57 ?_
      refine g_zald F (gIn_vp (gor_of hx c_1)) (pr_at (κ := 2) (i := 0) (by decide) (gc1 (gnl rfl)) (gce rfl rfl)) dX1_drive_58 ?_
      change gW _ _ _ _ (.int (S.1 2 0 x.toNatClampNeg) :: _) _ _
      refine g_if_ne F (tgt := 77) (by decide) dX1_drive_59 (fun c_5 => ?_) (fun c_5 => ?_)
      · skip
        exact g_retV F E rfl (gle rfl) (gle rfl) dX1_drive_77 (fun _ hp => ⟨rfl, gGo_st c_1 c_2 c_5, hp⟩)
      · skip
        refine g_new F clX4 q564 q569 q37 (5000, 0) (fs := [.null, .null, .null, .null, .null, .int (0 : Int32)]) rfl 7 28 (gle rfl) (gle rfl) (gle rfl) (gle rfl) (Pa := fun a_6 => gP 0 G S A Fr [(a_6, .inr (18, [.null, .null, .null, .null, .null, .int (0 : Int32)]))]) (pr_new hF) dX1_drive_62 (fun a_6 => ?_)
        refine g_dup F rfl dX1_drive_65 ?_
        refine g_ldcS F (i := 0) (List.mem_of_getElem? (i := 0) rfl) dX1_drive_66 ?_
        refine g_iload_n F 1 rfl rfl dX1_drive_68 ?_
        refine g_callV F (kJ0_charAt hl (i := 0) (by decide) (gor_of hx c_1).2 (gIn_eq (gor_of hx c_1))) (g_srecv F (by decide)) q530 q531 q532 q19 q533 myJ0_charAt ⟨by decide, by decide⟩ rfl rfl (gle rfl) 7 28 (gle rfl) (gle rfl) (gle rfl) (gle rfl) dX1_drive_69 gx_n (gv_i ?_)
        refine g_null F dX1_drive_72 ?_
        refine g_callI F (kX4_initN hl (gm_ch _ (gor_of hx c_1).2).1 (gm_ch _ (gor_of hx c_1).2).2 (pr_atT (j := 0) rfl)) rfl q577 q578 q37 q579 myX4_init ⟨by decide, by decide⟩ rfl rfl (gle rfl) 9 33 (gle rfl) (gle rfl) (gle rfl) (gle rfl) dX1_drive_73 gx_n (fun v9 => gv_c9 (fun fs_7 => ?_))
        refine g_mono (P2 := gP 0 G S A Fr [(a_6, .inr (18, fs_7))]) (fun _ hp => pr_up gM0 hF (j := 0) rfl _ (gUp_mono (gP_jk hF) _ hp)) ?_
        refine g_athrow F clX4 (fun _ hp => ⟨_, _, hp.2.2 0 _ _ rfl⟩) dX1_drive_76 ?_
        exact g_out F E (gpass (by decide)) (gle rfl) (gle rfl) (fun _ hp => ⟨rfl, gGo_s2 c_1 c_5, gPT hp⟩)
  · skip
    refine g_aload_n F 0 rfl rfl dX1_drive_5 ?_
    refine g_get F clX1 1 (by decide) q136 (v := .int (S.1 0 0 1)) (gd_get (pr_at (κ := 0) (i := 0) (by decide) (gc1 (gnl rfl)) (gce rfl rfl)) rfl) dX1_drive_6 ?_
    refine g_if_ne F (tgt := 23) (by decide) dX1_drive_9 (fun c_8 => ?_) (fun c_8 => ?_)
    · skip
      exact g_retV F E rfl (gle rfl) (gle rfl) dX1_drive_23 (fun _ hp => ⟨rfl, gGo_mt c_1 c_8, hp⟩)
    · skip
      refine g_new F clX4 q564 q569 q37 (5000, 0) (fs := [.null, .null, .null, .null, .null, .int (0 : Int32)]) rfl 1 6 (gle rfl) (gle rfl) (gle rfl) (gle rfl) (Pa := fun a_9 => gP 0 G S A Fr [(a_9, .inr (18, [.null, .null, .null, .null, .null, .int (0 : Int32)]))]) (pr_new hF) dX1_drive_12 (fun a_9 => ?_)
      refine g_dup F rfl dX1_drive_15 ?_
      refine g_bipush F (v := (45 : Int32)) (by decide) dX1_drive_16 ?_
      refine g_null F dX1_drive_18 ?_
      refine g_callI F (kX4_initN hl (by decide) (by decide) (pr_atT (j := 0) rfl)) rfl q577 q578 q37 q579 myX4_init ⟨by decide, by decide⟩ rfl rfl (gle rfl) 3 11 (gle rfl) (gle rfl) (gle rfl) (gle rfl) dX1_drive_19 gx_n (fun v9 => gv_c9 (fun fs_10 => ?_))
      refine g_mono (P2 := gP 0 G S A Fr [(a_9, .inr (18, fs_10))]) (fun _ hp => pr_up gM0 hF (j := 0) rfl _ (gUp_mono (gP_jk hF) _ hp)) ?_
      refine g_athrow F clX4 (fun _ hp => ⟨_, _, hp.2.2 0 _ _ rfl⟩) dX1_drive_22 ?_
      exact g_out F E (gpass (by decide)) (gle rfl) (gle rfl) (fun _ hp => ⟨rfl, gGo_mf c_1 c_8, gPT hp⟩)

theorem kX1_drive_3 {l : Launch} {G : gG} (hl : l.stackTraces = false) {S : gS} {A : Nat → Nat → Nat} {Fr : gH → Prop} (hF : gFr 0 Fr) (hD : gDrv (S.1 1 0)) {x : Int32} (hx : x = -1 ∨ gIn x 4) (he : gIt (S.1 1 0) 3 x = -1) : gMet l yX1_drive (wsW_ yX1_drive cX1_drive 3 none [((24 : Nat), (34 : Nat), (37 : Nat), (144 : Nat))]) ⟨8, 12, 44, 162⟩ G [.ref (A 0 0), .int x] (gP 0 G S A Fr []) (gqC (gGo (S.1 1 0) (S.1 2 0) (S.1 0 0 1) 3 x = true) (gP 0 G S A Fr [])) (gx1 "Graphline$Standstill" (¬ gGo (S.1 1 0) (S.1 2 0) (S.1 0 0 1) 3 x = true) (gP 0 G S A Fr [])) := by
  refine gMet_ofW hl pnX1 (gle rfl) (fun X Q hX F E hNm => ?_)
  subst hX
  change gW (X, G, 3, Q) (gP 0 G S A Fr []) [(0, .ref (A 0 0)), (1, .int x)] 0 [] 0 0
  refine g_iload_n F 1 rfl rfl dX1_drive_0 ?_
  refine g_iconst F (v := (-1 : Int32)) (by decide) dX1_drive_1 ?_
  refine g_icmp_ne F (tgt := 24) (by decide) dX1_drive_2 (fun c_1 => ?_) (fun c_1 => ?_)
  · skip
    refine g_aload_n F 0 rfl rfl dX1_drive_24 ?_
    refine g_aload_n F 0 rfl rfl dX1_drive_25 ?_
    refine g_get F clX1 2 (by decide) q137 (v := .ref (A 1 0)) (gd_get (pr_at (κ := 0) (i := 0) (by decide) (gc1 (gnl rfl)) (gce rfl rfl)) rfl) dX1_drive_26 ?_
    refine g_iload_n F 1 rfl rfl dX1_drive_29 ?_
    refine g_iald F (gIn_vp (gor_of hx c_1)) (pr_at (κ := 1) (i := 0) (by decide) (gc1 (gnl rfl)) (gce rfl rfl)) dX1_drive_30 ?_
    change gW _ _ _ _ (.int (S.1 1 0 x.toNatClampNeg) :: _) _ _
    refine g_callVW F (kX1_drive_2 hl hF hD (gDrv_n hD (gor_of hx c_1)) (gIt_s c_1 he)) (g_recv F clX1 (gd_obj (pr_at (κ := 0) (i := 0) (by decide) (gc1 (gnl rfl)) (gce rfl rfl)))) q565 q567 qs2 q18 q568 myX1_drive ⟨by decide, by decide⟩ rfl rfl (gle rfl) 9 33 (gle rfl) (gle rfl) (gle rfl) (gle rfl) dX1_drive_31 (gx_1 (fun c_2 => g_catchS F [] _ [] rfl (fun z hz => by cases hz) (by decide) (by decide) q564 (tgt := 37) rfl (fun q9 => ?_))) (gv_c (fun c_2 => ?_))
    · skip
      refine g_astore_n F rfl (by show 2 < 3; decide) (lv2 := [(2, .ref q9), (0, .ref (A 0 0)), (1, .int x)]) rfl dX1_drive_37 ?_
      refine g_new F clX4 q564 q569 q37 (5000, 0) (fs := [.null, .null, .null, .null, .null, .int (0 : Int32)]) rfl 10 39 (gle rfl) (gle rfl) (gle rfl) (gle rfl) (Pa := fun a_3 => gP 0 G S A Fr [(a_3, .inr (18, [.null, .null, .null, .null, .null, .int (0 : Int32)]))]) (pr_new hF) dX1_drive_38 (fun a_3 => ?_)
      refine g_dup F rfl dX1_drive_41 ?_
      refine g_ldcS F (i := 0) (List.mem_of_getElem? (i := 0) rfl) dX1_drive_42 ?_
      refine g_iload_n F 2 rfl rfl dX1_drive_44 ?_
      refine g_callV F (kJ0_charAt hl (i := 0) (by decide) (gor_of hx c_1).2 (gIn_eq (gor_of hx c_1))) (g_srecv F (by decide)) q530 q531 q532 q19 q533 myJ0_charAt ⟨by decide, by decide⟩ rfl rfl (gle rfl) 10 39 (gle rfl) (gle rfl) (gle rfl) (gle rfl) dX1_drive_45 gx_n (gv_i ?_)
      refine g_aload_n F 0 rfl rfl dX1_drive_48 ?_
      refine g_callI F (kX4_initR hl (gm_ch _ (gor_of hx c_1).2).1 (gm_ch _ (gor_of hx c_1).2).2 (pr_atT (j := 0) rfl)) rfl q577 q578 q37 q579 myX4_init ⟨by decide, by decide⟩ rfl rfl (gle rfl) 12 44 (gle rfl) (gle rfl) (gle rfl) (gle rfl) dX1_drive_49 gx_n (fun v9 => gv_c9 (fun fs_4 => ?_))
      refine g_mono (P2 := gP 0 G S A Fr [(a_3, .inr (18, fs_4))]) (fun _ hp => pr_up gM0 hF (j := 0) rfl _ (gUp_mono (gP_jk hF) _ hp)) ?_
      refine g_athrow F clX4 (fun _ hp => ⟨_, _, hp.2.2 0 _ _ rfl⟩) dX1_drive_52 ?_
      exact g_out F E (gpass (by decide)) (gle rfl) (gle rfl) (fun _ hp => ⟨rfl, gGo_s1 c_1 c_2, gPT hp⟩)
    · skip
      refine g_goto F (tgt := 53) (by decide) dX1_drive_34 ?_
      refine g_aload_n F 0 rfl rfl dX1_drive_53 ?_
      refine g_get F clX1 3 (by decide) q138 (v := .ref (A 2 0)) (gd_get (pr_at (κ := 0) (i := 0) (by decide) (gc1 (gnl rfl)) (gce rfl rfl)) rfl) dX1_drive_54 ?_
      refine g_iload_n F 1 rfl rfl dX1_drive_57 ?_
      refine g_zald F (gIn_vp (gor_of hx c_1)) (pr_at (κ := 2) (i := 0) (by decide) (gc1 (gnl rfl)) (gce rfl rfl)) dX1_drive_58 ?_
      change gW _ _ _ _ (.int (S.1 2 0 x.toNatClampNeg) :: _) _ _
      refine g_if_ne F (tgt := 77) (by decide) dX1_drive_59 (fun c_5 => ?_) (fun c_5 => ?_)
      · skip
        exact g_retV F E rfl (gle rfl) (gle rfl) dX1_drive_77 (fun _ hp => ⟨rfl, gGo_st c_1 c_2 c_5, hp⟩)
      · skip
        refine g_new F clX4 q564 q569 q37 (5000, 0) (fs := [.null, .null, .null, .null, .null, .int (0 : Int32)]) rfl 10 39 (gle rfl) (gle rfl) (gle rfl) (gle rfl) (Pa := fun a_6 => gP 0 G S A Fr [(a_6, .inr (18, [.null, .null, .null, .null, .null, .int (0 : Int32)]))]) (pr_new hF) dX1_drive_62 (fun a_6 => ?_)
        refine g_dup F rfl dX1_drive_65 ?_
        refine g_ldcS F (i := 0) (List.mem_of_getElem? (i := 0) rfl) dX1_drive_66 ?_
        refine g_iload_n F 1 rfl rfl dX1_drive_68 ?_
        refine g_callV F (kJ0_charAt hl (i := 0) (by decide) (gor_of hx c_1).2 (gIn_eq (gor_of hx c_1))) (g_srecv F (by decide)) q530 q531 q532 q19 q533 myJ0_charAt ⟨by decide, by decide⟩ rfl rfl (gle rfl) 10 39 (gle rfl) (gle rfl) (gle rfl) (gle rfl) dX1_drive_69 gx_n (gv_i ?_)
        refine g_null F dX1_drive_72 ?_
        refine g_callI F (kX4_initN hl (gm_ch _ (gor_of hx c_1).2).1 (gm_ch _ (gor_of hx c_1).2).2 (pr_atT (j := 0) rfl)) rfl q577 q578 q37 q579 myX4_init ⟨by decide, by decide⟩ rfl rfl (gle rfl) 12 44 (gle rfl) (gle rfl) (gle rfl) (gle rfl) dX1_drive_73 gx_n (fun v9 => gv_c9 (fun fs_7 => ?_))
        refine g_mono (P2 := gP 0 G S A Fr [(a_6, .inr (18, fs_7))]) (fun _ hp => pr_up gM0 hF (j := 0) rfl _ (gUp_mono (gP_jk hF) _ hp)) ?_
        refine g_athrow F clX4 (fun _ hp => ⟨_, _, hp.2.2 0 _ _ rfl⟩) dX1_drive_76 ?_
        exact g_out F E (gpass (by decide)) (gle rfl) (gle rfl) (fun _ hp => ⟨rfl, gGo_s2 c_1 c_5, gPT hp⟩)
  · skip
    refine g_aload_n F 0 rfl rfl dX1_drive_5 ?_
    refine g_get F clX1 1 (by decide) q136 (v := .int (S.1 0 0 1)) (gd_get (pr_at (κ := 0) (i := 0) (by decide) (gc1 (gnl rfl)) (gce rfl rfl)) rfl) dX1_drive_6 ?_
    refine g_if_ne F (tgt := 23) (by decide) dX1_drive_9 (fun c_8 => ?_) (fun c_8 => ?_)
    · skip
      exact g_retV F E rfl (gle rfl) (gle rfl) dX1_drive_23 (fun _ hp => ⟨rfl, gGo_mt c_1 c_8, hp⟩)
    · skip
      refine g_new F clX4 q564 q569 q37 (5000, 0) (fs := [.null, .null, .null, .null, .null, .int (0 : Int32)]) rfl 1 6 (gle rfl) (gle rfl) (gle rfl) (gle rfl) (Pa := fun a_9 => gP 0 G S A Fr [(a_9, .inr (18, [.null, .null, .null, .null, .null, .int (0 : Int32)]))]) (pr_new hF) dX1_drive_12 (fun a_9 => ?_)
      refine g_dup F rfl dX1_drive_15 ?_
      refine g_bipush F (v := (45 : Int32)) (by decide) dX1_drive_16 ?_
      refine g_null F dX1_drive_18 ?_
      refine g_callI F (kX4_initN hl (by decide) (by decide) (pr_atT (j := 0) rfl)) rfl q577 q578 q37 q579 myX4_init ⟨by decide, by decide⟩ rfl rfl (gle rfl) 3 11 (gle rfl) (gle rfl) (gle rfl) (gle rfl) dX1_drive_19 gx_n (fun v9 => gv_c9 (fun fs_10 => ?_))
      refine g_mono (P2 := gP 0 G S A Fr [(a_9, .inr (18, fs_10))]) (fun _ hp => pr_up gM0 hF (j := 0) rfl _ (gUp_mono (gP_jk hF) _ hp)) ?_
      refine g_athrow F clX4 (fun _ hp => ⟨_, _, hp.2.2 0 _ _ rfl⟩) dX1_drive_22 ?_
      exact g_out F E (gpass (by decide)) (gle rfl) (gle rfl) (fun _ hp => ⟨rfl, gGo_mf c_1 c_8, gPT hp⟩)

theorem kX1_drive_4 {l : Launch} {G : gG} (hl : l.stackTraces = false) {S : gS} {A : Nat → Nat → Nat} {Fr : gH → Prop} (hF : gFr 0 Fr) (hD : gDrv (S.1 1 0)) {x : Int32} (hx : x = -1 ∨ gIn x 4) (he : gIt (S.1 1 0) 4 x = -1) : gMet l yX1_drive (wsW_ yX1_drive cX1_drive 3 none [((24 : Nat), (34 : Nat), (37 : Nat), (144 : Nat))]) ⟨9, 15, 55, 184⟩ G [.ref (A 0 0), .int x] (gP 0 G S A Fr []) (gqC (gGo (S.1 1 0) (S.1 2 0) (S.1 0 0 1) 4 x = true) (gP 0 G S A Fr [])) (gx1 "Graphline$Standstill" (¬ gGo (S.1 1 0) (S.1 2 0) (S.1 0 0 1) 4 x = true) (gP 0 G S A Fr [])) := by
  refine gMet_ofW hl pnX1 (gle rfl) (fun X Q hX F E hNm => ?_)
  subst hX
  change gW (X, G, 3, Q) (gP 0 G S A Fr []) [(0, .ref (A 0 0)), (1, .int x)] 0 [] 0 0
  refine g_iload_n F 1 rfl rfl dX1_drive_0 ?_
  refine g_iconst F (v := (-1 : Int32)) (by decide) dX1_drive_1 ?_
  refine g_icmp_ne F (tgt := 24) (by decide) dX1_drive_2 (fun c_1 => ?_) (fun c_1 => ?_)
  · skip
    refine g_aload_n F 0 rfl rfl dX1_drive_24 ?_
    refine g_aload_n F 0 rfl rfl dX1_drive_25 ?_
    refine g_get F clX1 2 (by decide) q137 (v := .ref (A 1 0)) (gd_get (pr_at (κ := 0) (i := 0) (by decide) (gc1 (gnl rfl)) (gce rfl rfl)) rfl) dX1_drive_26 ?_
    refine g_iload_n F 1 rfl rfl dX1_drive_29 ?_
    refine g_iald F (gIn_vp (gor_of hx c_1)) (pr_at (κ := 1) (i := 0) (by decide) (gc1 (gnl rfl)) (gce rfl rfl)) dX1_drive_30 ?_
    change gW _ _ _ _ (.int (S.1 1 0 x.toNatClampNeg) :: _) _ _
    refine g_callVW F (kX1_drive_3 hl hF hD (gDrv_n hD (gor_of hx c_1)) (gIt_s c_1 he)) (g_recv F clX1 (gd_obj (pr_at (κ := 0) (i := 0) (by decide) (gc1 (gnl rfl)) (gce rfl rfl)))) q565 q567 qs2 q18 q568 myX1_drive ⟨by decide, by decide⟩ rfl rfl (gle rfl) 12 44 (gle rfl) (gle rfl) (gle rfl) (gle rfl) dX1_drive_31 (gx_1 (fun c_2 => g_catchS F [] _ [] rfl (fun z hz => by cases hz) (by decide) (by decide) q564 (tgt := 37) rfl (fun q9 => ?_))) (gv_c (fun c_2 => ?_))
    · skip
      refine g_astore_n F rfl (by show 2 < 3; decide) (lv2 := [(2, .ref q9), (0, .ref (A 0 0)), (1, .int x)]) rfl dX1_drive_37 ?_
      refine g_new F clX4 q564 q569 q37 (5000, 0) (fs := [.null, .null, .null, .null, .null, .int (0 : Int32)]) rfl 13 50 (gle rfl) (gle rfl) (gle rfl) (gle rfl) (Pa := fun a_3 => gP 0 G S A Fr [(a_3, .inr (18, [.null, .null, .null, .null, .null, .int (0 : Int32)]))]) (pr_new hF) dX1_drive_38 (fun a_3 => ?_)
      refine g_dup F rfl dX1_drive_41 ?_
      refine g_ldcS F (i := 0) (List.mem_of_getElem? (i := 0) rfl) dX1_drive_42 ?_
      refine g_iload_n F 2 rfl rfl dX1_drive_44 ?_
      refine g_callV F (kJ0_charAt hl (i := 0) (by decide) (gor_of hx c_1).2 (gIn_eq (gor_of hx c_1))) (g_srecv F (by decide)) q530 q531 q532 q19 q533 myJ0_charAt ⟨by decide, by decide⟩ rfl rfl (gle rfl) 13 50 (gle rfl) (gle rfl) (gle rfl) (gle rfl) dX1_drive_45 gx_n (gv_i ?_)
      refine g_aload_n F 0 rfl rfl dX1_drive_48 ?_
      refine g_callI F (kX4_initR hl (gm_ch _ (gor_of hx c_1).2).1 (gm_ch _ (gor_of hx c_1).2).2 (pr_atT (j := 0) rfl)) rfl q577 q578 q37 q579 myX4_init ⟨by decide, by decide⟩ rfl rfl (gle rfl) 15 55 (gle rfl) (gle rfl) (gle rfl) (gle rfl) dX1_drive_49 gx_n (fun v9 => gv_c9 (fun fs_4 => ?_))
      refine g_mono (P2 := gP 0 G S A Fr [(a_3, .inr (18, fs_4))]) (fun _ hp => pr_up gM0 hF (j := 0) rfl _ (gUp_mono (gP_jk hF) _ hp)) ?_
      refine g_athrow F clX4 (fun _ hp => ⟨_, _, hp.2.2 0 _ _ rfl⟩) dX1_drive_52 ?_
      exact g_out F E (gpass (by decide)) (gle rfl) (gle rfl) (fun _ hp => ⟨rfl, gGo_s1 c_1 c_2, gPT hp⟩)
    · skip
      refine g_goto F (tgt := 53) (by decide) dX1_drive_34 ?_
      refine g_aload_n F 0 rfl rfl dX1_drive_53 ?_
      refine g_get F clX1 3 (by decide) q138 (v := .ref (A 2 0)) (gd_get (pr_at (κ := 0) (i := 0) (by decide) (gc1 (gnl rfl)) (gce rfl rfl)) rfl) dX1_drive_54 ?_
      refine g_iload_n F 1 rfl rfl dX1_drive_57 ?_
      refine g_zald F (gIn_vp (gor_of hx c_1)) (pr_at (κ := 2) (i := 0) (by decide) (gc1 (gnl rfl)) (gce rfl rfl)) dX1_drive_58 ?_
      change gW _ _ _ _ (.int (S.1 2 0 x.toNatClampNeg) :: _) _ _
      refine g_if_ne F (tgt := 77) (by decide) dX1_drive_59 (fun c_5 => ?_) (fun c_5 => ?_)
      · skip
        exact g_retV F E rfl (gle rfl) (gle rfl) dX1_drive_77 (fun _ hp => ⟨rfl, gGo_st c_1 c_2 c_5, hp⟩)
      · skip
        refine g_new F clX4 q564 q569 q37 (5000, 0) (fs := [.null, .null, .null, .null, .null, .int (0 : Int32)]) rfl 13 50 (gle rfl) (gle rfl) (gle rfl) (gle rfl) (Pa := fun a_6 => gP 0 G S A Fr [(a_6, .inr (18, [.null, .null, .null, .null, .null, .int (0 : Int32)]))]) (pr_new hF) dX1_drive_62 (fun a_6 => ?_)
        refine g_dup F rfl dX1_drive_65 ?_
        refine g_ldcS F (i := 0) (List.mem_of_getElem? (i := 0) rfl) dX1_drive_66 ?_
        refine g_iload_n F 1 rfl rfl dX1_drive_68 ?_
        refine g_callV F (kJ0_charAt hl (i := 0) (by decide) (gor_of hx c_1).2 (gIn_eq (gor_of hx c_1))) (g_srecv F (by decide)) q530 q531 q532 q19 q533 myJ0_charAt ⟨by decide, by decide⟩ rfl rfl (gle rfl) 13 50 (gle rfl) (gle rfl) (gle rfl) (gle rfl) dX1_drive_69 gx_n (gv_i ?_)
        refine g_null F dX1_drive_72 ?_
        refine g_callI F (kX4_initN hl (gm_ch _ (gor_of hx c_1).2).1 (gm_ch _ (gor_of hx c_1).2).2 (pr_atT (j := 0) rfl)) rfl q577 q578 q37 q579 myX4_init ⟨by decide, by decide⟩ rfl rfl (gle rfl) 15 55 (gle rfl) (gle rfl) (gle rfl) (gle rfl) dX1_drive_73 gx_n (fun v9 => gv_c9 (fun fs_7 => ?_))
        refine g_mono (P2 := gP 0 G S A Fr [(a_6, .inr (18, fs_7))]) (fun _ hp => pr_up gM0 hF (j := 0) rfl _ (gUp_mono (gP_jk hF) _ hp)) ?_
        refine g_athrow F clX4 (fun _ hp => ⟨_, _, hp.2.2 0 _ _ rfl⟩) dX1_drive_76 ?_
        exact g_out F E (gpass (by decide)) (gle rfl) (gle rfl) (fun _ hp => ⟨rfl, gGo_s2 c_1 c_5, gPT hp⟩)
  · skip
    refine g_aload_n F 0 rfl rfl dX1_drive_5 ?_
    refine g_get F clX1 1 (by decide) q136 (v := .int (S.1 0 0 1)) (gd_get (pr_at (κ := 0) (i := 0) (by decide) (gc1 (gnl rfl)) (gce rfl rfl)) rfl) dX1_drive_6 ?_
    refine g_if_ne F (tgt := 23) (by decide) dX1_drive_9 (fun c_8 => ?_) (fun c_8 => ?_)
    · skip
      exact g_retV F E rfl (gle rfl) (gle rfl) dX1_drive_23 (fun _ hp => ⟨rfl, gGo_mt c_1 c_8, hp⟩)
    · skip
      refine g_new F clX4 q564 q569 q37 (5000, 0) (fs := [.null, .null, .null, .null, .null, .int (0 : Int32)]) rfl 1 6 (gle rfl) (gle rfl) (gle rfl) (gle rfl) (Pa := fun a_9 => gP 0 G S A Fr [(a_9, .inr (18, [.null, .null, .null, .null, .null, .int (0 : Int32)]))]) (pr_new hF) dX1_drive_12 (fun a_9 => ?_)
      refine g_dup F rfl dX1_drive_15 ?_
      refine g_bipush F (v := (45 : Int32)) (by decide) dX1_drive_16 ?_
      refine g_null F dX1_drive_18 ?_
      refine g_callI F (kX4_initN hl (by decide) (by decide) (pr_atT (j := 0) rfl)) rfl q577 q578 q37 q579 myX4_init ⟨by decide, by decide⟩ rfl rfl (gle rfl) 3 11 (gle rfl) (gle rfl) (gle rfl) (gle rfl) dX1_drive_19 gx_n (fun v9 => gv_c9 (fun fs_10 => ?_))
      refine g_mono (P2 := gP 0 G S A Fr [(a_9, .inr (18, fs_10))]) (fun _ hp => pr_up gM0 hF (j := 0) rfl _ (gUp_mono (gP_jk hF) _ hp)) ?_
      refine g_athrow F clX4 (fun _ hp => ⟨_, _, hp.2.2 0 _ _ rfl⟩) dX1_drive_22 ?_
      exact g_out F E (gpass (by decide)) (gle rfl) (gle rfl) (fun _ hp => ⟨rfl, gGo_mf c_1 c_8, gPT hp⟩)

def sC_worn (S : gS) (die : Int32) : gO := if ¬ die < 0 ∧ ¬ 3 < die then (.inr (.int (S.1 3 0 die.toNatClampNeg), S)) else (.inl "java/lang/IllegalArgumentException")
theorem kX1_worn {l : Launch} {G : gG} (hl : l.stackTraces = false) {S : gS} {a0 : Nat} {Fr : gH → Prop} (hF : gFr 0 Fr) (hW : gWf S) {die : Int32}  : gMet l yX1_worn (ws_ yX1_worn cX1_worn 2 (some .int)) ⟨8, 2, 7, 121⟩ G [.ref a0, .int die] (gPE 0 G S a0 Fr) (gqS (sC_worn S die) 0 G a0 Fr) (gxS (sC_worn S die) 0 G S a0 Fr) := by
  refine gMet_of hl pnX1 (gle rfl) (fun X Q hX F E hNm => ?_)
  subst hX
  change gW (X, G, 2, Q) (gPE 0 G S a0 Fr) [(0, .ref a0), (1, .int die)] 0 [] 0 0
  refine g_pe (fun A hA => ?_)
  subst hA
  change gW _ _ [(0, .ref (A 0 0)), (1, .int die)] 0 [] 0 0
  refine g_aload_n F 0 rfl rfl dX1_worn_0 ?_
  refine g_get F clX1 4 (by decide) q139 (v := .ref (A 3 0)) (gd_get (pr_at (κ := 0) (i := 0) (by decide) (gc1 (gnl rfl)) (gce rfl rfl)) rfl) dX1_worn_1 ?_
  refine g_iload_n F 1 rfl rfl dX1_worn_4 ?_
  refine g_callS F (kX1_requireDie hl (d := die)) (lw_S q875 q876 q18 q877) myX1_requireDie ⟨by decide, by decide⟩ rfl rfl (gle rfl) 2 7 (gle rfl) (gle rfl) (gle rfl) (gle rfl) dX1_worn_5 (gx_1 (fun c_1 => g_out0 F E (gle rfl) (gle rfl) (fun _ hp => ⟨(if_neg c_1), gPE_0 _ (gP_jk hF _ hp)⟩))) (gv_y (fun c_1 => ?_))
  refine g_mono (gP_jk hF) ?_
  refine g_iald F (gvp (K := 3) (by decide) ⟨c_1.1, c_1.2⟩) (pr_at (κ := 3) (i := 0) (by decide) (gc1 (gnl rfl)) (gce rfl rfl)) dX1_worn_8 ?_
  change gW _ _ _ _ (.int (S.1 3 0 die.toNatClampNeg) :: _) _ _
  exact g_retI F E rfl rfl (gle rfl) (gle rfl) dX1_worn_9 (fun _ hp => ⟨_, _, (if_pos c_1), rfl, gPE_0 _ hp⟩)

def sC_renew (S : gS) (die : Int32) : gO := if ¬ die < 0 ∧ ¬ 3 < die then (.inr (.int (S.1 3 0 die.toNatClampNeg), (gsr S.1 3 0 (upd (S.1 3 0) die.toNatClampNeg (0 : Int32)), S.2))) else (.inl "java/lang/IllegalArgumentException")
theorem kX1_renew {l : Launch} {G : gG} (hl : l.stackTraces = false) {S : gS} {a0 : Nat} {Fr : gH → Prop} (hF : gFr 0 Fr) (hW : gWf S) {die : Int32}  : gMet l yX1_renew (ws_ yX1_renew cX1_renew 3 (some .int)) ⟨8, 2, 7, 121⟩ G [.ref a0, .int die] (gPE 0 G S a0 Fr) (gqS (sC_renew S die) 0 G a0 Fr) (gxS (sC_renew S die) 0 G S a0 Fr) := by
  refine gMet_of hl pnX1 (gle rfl) (fun X Q hX F E hNm => ?_)
  subst hX
  change gW (X, G, 3, Q) (gPE 0 G S a0 Fr) [(0, .ref a0), (1, .int die)] 0 [] 0 0
  refine g_pe (fun A hA => ?_)
  subst hA
  change gW _ _ [(0, .ref (A 0 0)), (1, .int die)] 0 [] 0 0
  refine g_aload_n F 0 rfl rfl dX1_renew_0 ?_
  refine g_get F clX1 4 (by decide) q139 (v := .ref (A 3 0)) (gd_get (pr_at (κ := 0) (i := 0) (by decide) (gc1 (gnl rfl)) (gce rfl rfl)) rfl) dX1_renew_1 ?_
  refine g_iload_n F 1 rfl rfl dX1_renew_4 ?_
  refine g_callS F (kX1_requireDie hl (d := die)) (lw_S q875 q876 q18 q877) myX1_requireDie ⟨by decide, by decide⟩ rfl rfl (gle rfl) 2 7 (gle rfl) (gle rfl) (gle rfl) (gle rfl) dX1_renew_5 (gx_1 (fun c_1 => g_out0 F E (gle rfl) (gle rfl) (fun _ hp => ⟨(if_neg c_1), gPE_0 _ (gP_jk hF _ hp)⟩))) (gv_y (fun c_1 => ?_))
  refine g_mono (gP_jk hF) ?_
  refine g_iald F (gvp (K := 3) (by decide) ⟨c_1.1, c_1.2⟩) (pr_at (κ := 3) (i := 0) (by decide) (gc1 (gnl rfl)) (gce rfl rfl)) dX1_renew_8 ?_
  change gW _ _ _ _ (.int (S.1 3 0 die.toNatClampNeg) :: _) _ _
  refine g_istore_n F rfl (by show 2 < 3; decide) (lv2 := [(2, .int (S.1 3 0 die.toNatClampNeg)), (0, .ref (A 0 0)), (1, .int die)]) rfl dX1_renew_9 ?_
  refine g_aload_n F 1 rfl rfl dX1_renew_10 ?_
  refine g_get F clX1 4 (by decide) q139 (v := .ref (A 3 0)) (gd_get (pr_at (κ := 0) (i := 0) (by decide) (gc1 (gnl rfl)) (gce rfl rfl)) rfl) dX1_renew_11 ?_
  refine g_iload_n F 2 rfl rfl dX1_renew_14 ?_
  refine g_iconst F (v := (0 : Int32)) (by decide) dX1_renew_15 ?_
  refine g_iast (P2 := gP 0 G (gsr S.1 3 0 (upd (S.1 3 0) die.toNatClampNeg (0 : Int32)), S.2) A Fr []) F (gvp (K := 3) (by decide) ⟨c_1.1, c_1.2⟩) (pr_setRow (κ := 3) (i := 0) gM0 hF (upd (S.1 3 0) die.toNatClampNeg (0 : Int32)) (by decide) (gc1 (gnl rfl)) (gce rfl rfl) rfl) dX1_renew_16 ?_
  refine g_iload_n F 0 rfl rfl dX1_renew_17 ?_
  exact g_retI F E rfl rfl (gle rfl) (gle rfl) dX1_renew_18 (fun _ hp => ⟨_, _, (if_pos c_1), rfl, gPE_0 _ hp⟩)

def sC_kilos (S : gS) (lot : Int32) : gO := if gIn lot (S.2 6) then (if S.1 6 lot.toNatClampNeg 0 = (103 : Int32) then (.inr (.int (S.1 6 lot.toNatClampNeg 3), S)) else (.inr (.int (S.1 6 lot.toNatClampNeg 3), S))) else (.inl "java/lang/IndexOutOfBoundsException")
theorem kX1_kilos {l : Launch} {G : gG} (hl : l.stackTraces = false) {S : gS} {a0 : Nat} {Fr : gH → Prop} (hF : gFr 0 Fr) (hW : gWf S) {lot : Int32}  : gMet l yX1_kilos (ws_ yX1_kilos cX1_kilos 2 (some .int)) ⟨8, 1, 6, 123⟩ G [.ref a0, .int lot] (gPE 0 G S a0 Fr) (gqS (sC_kilos S lot) 0 G a0 Fr) (gxS (sC_kilos S lot) 0 G S a0 Fr) := by
  refine gMet_of hl pnX1 (gle rfl) (fun X Q hX F E hNm => ?_)
  subst hX
  change gW (X, G, 2, Q) (gPE 0 G S a0 Fr) [(0, .ref a0), (1, .int lot)] 0 [] 0 0
  refine g_pe (fun A hA => ?_)
  subst hA
  change gW _ _ [(0, .ref (A 0 0)), (1, .int lot)] 0 [] 0 0
  refine g_aload_n F 0 rfl rfl dX1_kilos_0 ?_
  refine g_get F clX1 7 (by decide) q142 (v := .ref (A 306 0)) (gd_get (pr_at (κ := 0) (i := 0) (by decide) (gc1 (gnl rfl)) (gce rfl rfl)) rfl) dX1_kilos_1 ?_
  refine g_iload_n F 1 rfl rfl dX1_kilos_4 ?_
  refine g_callS F (kX1_require hl (pr_ls (κ := 6) (by decide) (Or.inl ⟨by decide, by decide⟩) (fun q => by first | decide | exact absurd q (by decide)) (fun q => by first | decide | exact absurd q (by decide))) (gw_n hW _) (x := lot)) (lw_S q784 q785 q18 q786) myX1_require ⟨by decide, by decide⟩ rfl rfl (gle rfl) 1 6 (gle rfl) (gle rfl) (gle rfl) (gle rfl) dX1_kilos_5 (gx_1 (fun c_1 => g_out0 F E (gle rfl) (gle rfl) (fun _ hp => ⟨(if_neg c_1), gPE_0 _ hp⟩))) (gv_y (fun c_1 => ?_))
  refine g_cases (x := S.1 6 lot.toNatClampNeg 0) (103 : Int32) (fun w_2 => ?_) (fun w_2 => ?_)
  · skip
    refine g_cast F (g_recv F clX6 (gd_obj (pr_at (κ := 6) (i := lot.toNatClampNeg) (by decide) (gc6 (by decide) c_1.2) (gce rfl (glot3 w_2))))) q822 (gT_w q1855 rfl) dX1_kilos_8 ?_
    refine g_getN F clX6 3 (by decide) (gT_w q655 rfl) (v := .int (S.1 6 lot.toNatClampNeg 3)) (gd_get (pr_at (κ := 6) (i := lot.toNatClampNeg) (by decide) (gc6 (by decide) c_1.2) (gce rfl (glot3 w_2))) rfl) dX1_kilos_11 ?_
    exact g_retI F E rfl rfl (gle rfl) (gle rfl) dX1_kilos_14 (fun _ hp => ⟨_, _, ((if_pos c_1).trans (if_pos w_2)), rfl, gPE_0 _ hp⟩)
  · skip
    refine g_cast F (g_recv F clX7 (gd_obj (pr_at (κ := 6) (i := lot.toNatClampNeg) (by decide) (gc6 (by decide) c_1.2) (gce rfl (glot4 w_2))))) q822 (gT_w q1854 rfl) dX1_kilos_8 ?_
    refine g_getN F clX7 3 (by decide) (gT_w q655 rfl) (v := .int (S.1 6 lot.toNatClampNeg 3)) (gd_get (pr_at (κ := 6) (i := lot.toNatClampNeg) (by decide) (gc6 (by decide) c_1.2) (gce rfl (glot4 w_2))) rfl) dX1_kilos_11 ?_
    exact g_retI F E rfl rfl (gle rfl) (gle rfl) dX1_kilos_14 (fun _ hp => ⟨_, _, ((if_pos c_1).trans (if_neg w_2)), rfl, gPE_0 _ hp⟩)

def sC_go (S : gS) (hours : Int32) : gO := if ¬ hours < (1 : Int32) ∧ ¬ (500 : Int32) < hours then (if ¬ ((9999 : Int32) < ((S.1 0 0 0) + hours)) then (.inr (.int ((S.1 0 0 0) + hours), (gsr S.1 0 0 (upd (S.1 0 0) 0 ((S.1 0 0 0) + hours)), S.2))) else (.inl "java/lang/IllegalStateException")) else (.inl "java/lang/IllegalArgumentException")
theorem kX1_go {l : Launch} {G : gG} (hl : l.stackTraces = false) {S : gS} {a0 : Nat} {Fr : gH → Prop} (hF : gFr 0 Fr) (hW : gWf S) {hours : Int32}  : gMet l yX1_go (ws_ yX1_go cX1_go 2 (some .int)) ⟨7, 3, 13, 101⟩ G [.ref a0, .int hours] (gPE 0 G S a0 Fr) (gqS (sC_go S hours) 0 G a0 Fr) (gxS (sC_go S hours) 0 G S a0 Fr) := by
  refine gMet_of hl pnX1 (gle rfl) (fun X Q hX F E hNm => ?_)
  subst hX
  change gW (X, G, 2, Q) (gPE 0 G S a0 Fr) [(0, .ref a0), (1, .int hours)] 0 [] 0 0
  refine g_pe (fun A hA => ?_)
  subst hA
  change gW _ _ [(0, .ref (A 0 0)), (1, .int hours)] 0 [] 0 0
  refine g_iconst F (v := (1 : Int32)) (by decide) dX1_go_0 ?_
  refine g_sipush F (v := (500 : Int32)) (by decide) dX1_go_1 ?_
  refine g_iconst F (v := (1 : Int32)) (by decide) dX1_go_4 ?_
  refine g_newI F (5000, 0) (N := 1) rfl (by decide) 1 1 (gle rfl) (gle rfl) (gle rfl) (gle rfl) (Pa := fun a_1 => gP 0 G S A Fr [(a_1, gIA G 1 (fun _ => 0))]) (pr_new hF) dX1_go_5 (fun a_1 => ?_)
  refine g_dup F rfl dX1_go_7 ?_
  refine g_iconst F (v := (0 : Int32)) (by decide) dX1_go_8 ?_
  refine g_iload_n F 1 rfl rfl dX1_go_9 ?_
  refine g_iastN (P2 := gP 0 G S A Fr [(a_1, gIA G 1 (upd (fun _ => 0) 0 hours))]) F (m := 0) rfl (by decide) (by decide) (pr_setT gM0 hF (j := 0) rfl) dX1_go_10 ?_
  refine g_callS F (kX1_isIn hl (pr_atT (j := 0) rfl)) (lw_S q305 q306 q18 q307) myX1_isIn ⟨by decide, by decide⟩ rfl rfl (gle rfl) 1 1 (gle rfl) (gle rfl) (gle rfl) (gle rfl) dX1_go_11 gx_n (gv_i ?_)
  refine g_top (show _ = gb (¬ hours < (1 : Int32) ∧ ¬ (500 : Int32) < hours) from rfl) ?_
  refine g_mono (P2 := gP 0 G S A Fr []) (fun _ hp => gP_Tl 0 hp) ?_
  refine g_callS F (kX1_requireArgument hl (c := ¬ hours < (1 : Int32) ∧ ¬ (500 : Int32) < hours)) (lw_S q335 q336 q18 q337) myX1_requireArgument ⟨by decide, by decide⟩ rfl rfl (gle rfl) 2 7 (gle rfl) (gle rfl) (gle rfl) (gle rfl) dX1_go_14 (gx_1 (fun c_2 => g_out0 F E (gle rfl) (gle rfl) (fun _ hp => ⟨(if_neg c_2), gPE_0 _ hp⟩))) (gv_c (fun c_2 => ?_))
  refine g_aload_n F 0 rfl rfl dX1_go_17 ?_
  refine g_get F clX1 0 (by decide) q135 (v := .int (S.1 0 0 0)) (gd_get (pr_at (κ := 0) (i := 0) (by decide) (gc1 (gnl rfl)) (gce rfl rfl)) rfl) dX1_go_18 ?_
  refine g_iload_n F 1 rfl rfl dX1_go_21 ?_
  refine g_iadd F dX1_go_22 ?_
  refine g_sipush F (v := (9999 : Int32)) (by decide) dX1_go_23 ?_
  have J_4 : gW (X, G, 2, Q) (gP 0 G S A Fr []) [(0, .ref (A 0 0)), (1, .int hours)] 34 [.int (gb (¬ ((9999 : Int32) < ((S.1 0 0 0) + hours))))] 2 7 := by
    refine g_callS F (kX1_requireState hl (c := ¬ ((9999 : Int32) < ((S.1 0 0 0) + hours)))) (lw_S q406 q407 q18 q408) myX1_requireState ⟨by decide, by decide⟩ rfl rfl (gle rfl) 3 13 (gle rfl) (gle rfl) (gle rfl) (gle rfl) dX1_go_34 (gx_1 (fun c_5 => g_out0 F E (gle rfl) (gle rfl) (fun _ hp => ⟨((if_pos c_2).trans (if_neg c_5)), gPE_0 _ hp⟩))) (gv_c (fun c_5 => ?_))
    refine g_aload_n F 0 rfl rfl dX1_go_37 ?_
    refine g_dup F rfl dX1_go_38 ?_
    refine g_get F clX1 0 (by decide) q135 (v := .int (S.1 0 0 0)) (gd_get (pr_at (κ := 0) (i := 0) (by decide) (gc1 (gnl rfl)) (gce rfl rfl)) rfl) dX1_go_39 ?_
    refine g_iload_n F 1 rfl rfl dX1_go_42 ?_
    refine g_iadd F dX1_go_43 ?_
    refine g_put (P2 := gP 0 G (gsr S.1 0 0 (upd (S.1 0 0) 0 ((S.1 0 0 0) + hours)), S.2) A Fr []) F clX1 0 (by decide) q135 rfl rfl rfl (pr_put (κ := 0) (i := 0) gM0 hF (upd (S.1 0 0) 0 ((S.1 0 0 0) + hours)) (by decide) (gc1 (gnl rfl)) (gce rfl rfl) (gnl rfl) rfl) dX1_go_44 ?_
    refine g_aload_n F 0 rfl rfl dX1_go_47 ?_
    refine g_get F clX1 0 (by decide) q135 (v := .int ((S.1 0 0 0) + hours)) (gd_get (pr_at (κ := 0) (i := 0) (by decide) (gc1 (gnl rfl)) (gce (show (gsr S.1 0 0 (upd (S.1 0 0) 0 ((S.1 0 0 0) + hours))) 0 0 = upd (S.1 0 0) 0 ((S.1 0 0 0) + hours) from gsr_s) rfl)) rfl) dX1_go_48 ?_
    exact g_retI F E rfl rfl (gle rfl) (gle rfl) dX1_go_51 (fun _ hp => ⟨_, _, ((if_pos c_2).trans (if_pos c_5)), rfl, gPE_0 _ hp⟩)
  refine g_icmp_gt F (tgt := 33) (by decide) dX1_go_26 (fun c_3 => ?_) (fun c_3 => ?_)
  · skip
    refine g_iconst F (v := (0 : Int32)) (by decide) dX1_go_33 ?_
    exact g_top (gb_f (fun q => q c_3)) J_4
  · skip
    refine g_iconst F (v := (1 : Int32)) (by decide) dX1_go_29 ?_
    refine g_goto F (tgt := 34) (by decide) dX1_go_30 ?_
    exact g_top (gb_t c_3) J_4

def sC_fire (S : gS) (batch kiln heat hours : Int32) : gO := if gIn batch (S.2 8) then (if (¬ kiln < (0 : Int32) ∧ ¬ (1 : Int32) < kiln) ∧ ((¬ heat < (700 : Int32) ∧ ¬ (1200 : Int32) < heat) ∧ (¬ hours < (1 : Int32) ∧ ¬ (12 : Int32) < hours)) then (if ¬ ((S.1 8 batch.toNatClampNeg 5) = 0) ∧ ((¬ ((S.1 0 0 0) < (S.1 8 batch.toNatClampNeg 4))) ∧ (¬ (¬ ((S.1 8 batch.toNatClampNeg 6) = (-1 : Int32))) ∧ (¬ ((S.1 0 0 0) < (S.1 4 0 kiln.toNatClampNeg))))) then (.inr (.int (S.1 0 0 2), (gsr (gsr (gsr (gsr (gsr (gsr (gsr S.1 8 batch.toNatClampNeg (upd (S.1 8 batch.toNatClampNeg) 9 ((((((1000 : Int32) - (S.1 7 ((S.1 8 batch.toNatClampNeg 0).toNatClampNeg) 2)) * (heat - (600 : Int32))) / (1000 : Int32)) + ((20 : Int32) * (S.1 7 ((S.1 8 batch.toNatClampNeg 0).toNatClampNeg) 3))) + ((5 : Int32) * hours)))) 8 batch.toNatClampNeg (upd (upd (S.1 8 batch.toNatClampNeg) 9 ((((((1000 : Int32) - (S.1 7 ((S.1 8 batch.toNatClampNeg 0).toNatClampNeg) 2)) * (heat - (600 : Int32))) / (1000 : Int32)) + ((20 : Int32) * (S.1 7 ((S.1 8 batch.toNatClampNeg 0).toNatClampNeg) 3))) + ((5 : Int32) * hours))) 10 (gmax (0 : Int32) (gmin (999 : Int32) (((S.1 7 ((S.1 8 batch.toNatClampNeg 0).toNatClampNeg) 2) - ((heat - (700 : Int32)) / (10 : Int32))) + ((5 : Int32) * (S.1 7 ((S.1 8 batch.toNatClampNeg 0).toNatClampNeg) 3))))))) 8 batch.toNatClampNeg (upd (upd (upd (S.1 8 batch.toNatClampNeg) 9 ((((((1000 : Int32) - (S.1 7 ((S.1 8 batch.toNatClampNeg 0).toNatClampNeg) 2)) * (heat - (600 : Int32))) / (1000 : Int32)) + ((20 : Int32) * (S.1 7 ((S.1 8 batch.toNatClampNeg 0).toNatClampNeg) 3))) + ((5 : Int32) * hours))) 10 (gmax (0 : Int32) (gmin (999 : Int32) (((S.1 7 ((S.1 8 batch.toNatClampNeg 0).toNatClampNeg) 2) - ((heat - (700 : Int32)) / (10 : Int32))) + ((5 : Int32) * (S.1 7 ((S.1 8 batch.toNatClampNeg 0).toNatClampNeg) 3)))))) 7 kiln)) 8 batch.toNatClampNeg (upd (upd (upd (upd (S.1 8 batch.toNatClampNeg) 9 ((((((1000 : Int32) - (S.1 7 ((S.1 8 batch.toNatClampNeg 0).toNatClampNeg) 2)) * (heat - (600 : Int32))) / (1000 : Int32)) + ((20 : Int32) * (S.1 7 ((S.1 8 batch.toNatClampNeg 0).toNatClampNeg) 3))) + ((5 : Int32) * hours))) 10 (gmax (0 : Int32) (gmin (999 : Int32) (((S.1 7 ((S.1 8 batch.toNatClampNeg 0).toNatClampNeg) 2) - ((heat - (700 : Int32)) / (10 : Int32))) + ((5 : Int32) * (S.1 7 ((S.1 8 batch.toNatClampNeg 0).toNatClampNeg) 3)))))) 7 kiln) 6 (S.1 0 0 2))) 8 batch.toNatClampNeg (upd (upd (upd (upd (upd (S.1 8 batch.toNatClampNeg) 9 ((((((1000 : Int32) - (S.1 7 ((S.1 8 batch.toNatClampNeg 0).toNatClampNeg) 2)) * (heat - (600 : Int32))) / (1000 : Int32)) + ((20 : Int32) * (S.1 7 ((S.1 8 batch.toNatClampNeg 0).toNatClampNeg) 3))) + ((5 : Int32) * hours))) 10 (gmax (0 : Int32) (gmin (999 : Int32) (((S.1 7 ((S.1 8 batch.toNatClampNeg 0).toNatClampNeg) 2) - ((heat - (700 : Int32)) / (10 : Int32))) + ((5 : Int32) * (S.1 7 ((S.1 8 batch.toNatClampNeg 0).toNatClampNeg) 3)))))) 7 kiln) 6 (S.1 0 0 2)) 4 ((S.1 0 0 0) + hours))) 4 0 (upd (S.1 4 0) kiln.toNatClampNeg ((S.1 0 0 0) + hours))) 0 0 (upd (S.1 0 0) 2 ((S.1 0 0 2) + (1 : Int32))), S.2))) else (.inl "java/lang/UnsupportedOperationException")) else (.inl "java/lang/IllegalArgumentException")) else (.inl "java/lang/IndexOutOfBoundsException")
theorem kX1_fire {l : Launch} {G : gG} (hl : l.stackTraces = false) {S : gS} {a0 : Nat} {Fr : gH → Prop} (hF : gFr 0 Fr) (hW : gWf S) {batch kiln heat hours : Int32}  : gMet l yX1_fire (ws_ yX1_fire cX1_fire 7 (some .int)) ⟨8, 6, 21, 123⟩ G [.ref a0, .int batch, .int kiln, .int heat, .int hours] (gPE 0 G S a0 Fr) (gqS (sC_fire S batch kiln heat hours) 0 G a0 Fr) (gxS (sC_fire S batch kiln heat hours) 0 G S a0 Fr) := by
  refine gMet_of hl pnX1 (gle rfl) (fun X Q hX F E hNm => ?_)
  subst hX
  change gW (X, G, 7, Q) (gPE 0 G S a0 Fr) [(0, .ref a0), (1, .int batch), (2, .int kiln), (3, .int heat), (4, .int hours)] 0 [] 0 0
  refine g_pe (fun A hA => ?_)
  subst hA
  change gW _ _ [(0, .ref (A 0 0)), (1, .int batch), (2, .int kiln), (3, .int heat), (4, .int hours)] 0 [] 0 0
  refine g_aload_n F 0 rfl rfl dX1_fire_0 ?_
  refine g_get F clX1 9 (by decide) q144 (v := .ref (A 308 0)) (gd_get (pr_at (κ := 0) (i := 0) (by decide) (gc1 (gnl rfl)) (gce rfl rfl)) rfl) dX1_fire_1 ?_
  refine g_iload_n F 1 rfl rfl dX1_fire_4 ?_
  refine g_callS F (kX1_require hl (pr_ls (κ := 8) (by decide) (Or.inl ⟨by decide, by decide⟩) (fun q => by first | decide | exact absurd q (by decide)) (fun q => by first | decide | exact absurd q (by decide))) (gw_n hW _) (x := batch)) (lw_S q784 q785 q18 q786) myX1_require ⟨by decide, by decide⟩ rfl rfl (gle rfl) 1 6 (gle rfl) (gle rfl) (gle rfl) (gle rfl) dX1_fire_5 (gx_1 (fun c_1 => g_out0 F E (gle rfl) (gle rfl) (fun _ hp => ⟨(if_neg c_1), gPE_0 _ hp⟩))) (gv_y (fun c_1 => ?_))
  refine g_castS F (g_recv F clX9 (gd_obj (pr_at (κ := 8) (i := batch.toNatClampNeg) (by decide) (gc6 (by decide) c_1.2) (gce rfl rfl)))) q295 dX1_fire_8 ?_
  refine g_astore F (by show 5 < 7; decide) (lv2 := [(5, .ref (A 8 batch.toNatClampNeg)), (0, .ref (A 0 0)), (1, .int batch), (2, .int kiln), (3, .int heat), (4, .int hours)]) rfl dX1_fire_11 ?_
  refine g_iconst F (v := (0 : Int32)) (by decide) dX1_fire_13 ?_
  refine g_iconst F (v := (1 : Int32)) (by decide) dX1_fire_14 ?_
  refine g_iconst F (v := (1 : Int32)) (by decide) dX1_fire_15 ?_
  refine g_newI F (5000, 0) (N := 1) rfl (by decide) 2 7 (gle rfl) (gle rfl) (gle rfl) (gle rfl) (Pa := fun a_2 => gP 0 G S A Fr [(a_2, gIA G 1 (fun _ => 0))]) (pr_new hF) dX1_fire_16 (fun a_2 => ?_)
  refine g_dup F rfl dX1_fire_18 ?_
  refine g_iconst F (v := (0 : Int32)) (by decide) dX1_fire_19 ?_
  refine g_iload_n F 3 rfl rfl dX1_fire_20 ?_
  refine g_iastN (P2 := gP 0 G S A Fr [(a_2, gIA G 1 (upd (fun _ => 0) 0 kiln))]) F (m := 0) rfl (by decide) (by decide) (pr_setT gM0 hF (j := 0) rfl) dX1_fire_21 ?_
  refine g_callS F (kX1_isIn hl (pr_atT (j := 0) rfl)) (lw_S q305 q306 q18 q307) myX1_isIn ⟨by decide, by decide⟩ rfl rfl (gle rfl) 2 7 (gle rfl) (gle rfl) (gle rfl) (gle rfl) dX1_fire_22 gx_n (gv_i ?_)
  refine g_top (show _ = gb (¬ kiln < (0 : Int32) ∧ ¬ (1 : Int32) < kiln) from rfl) ?_
  refine g_mono (P2 := gP 0 G S A Fr []) (fun _ hp => gP_Tl 0 hp) ?_
  have J_8 : gW (X, G, 7, Q) (gP 0 G S A Fr []) [(5, .ref (A 8 batch.toNatClampNeg)), (0, .ref (A 0 0)), (1, .int batch), (2, .int kiln), (3, .int heat), (4, .int hours)] 69 [.int (gb ((¬ kiln < (0 : Int32) ∧ ¬ (1 : Int32) < kiln) ∧ ((¬ heat < (700 : Int32) ∧ ¬ (1200 : Int32) < heat) ∧ (¬ hours < (1 : Int32) ∧ ¬ (12 : Int32) < hours))))] 4 9 := by
    refine g_callS F (kX1_requireArgument hl (c := (¬ kiln < (0 : Int32) ∧ ¬ (1 : Int32) < kiln) ∧ ((¬ heat < (700 : Int32) ∧ ¬ (1200 : Int32) < heat) ∧ (¬ hours < (1 : Int32) ∧ ¬ (12 : Int32) < hours)))) (lw_S q335 q336 q18 q337) myX1_requireArgument ⟨by decide, by decide⟩ rfl rfl (gle rfl) 5 15 (gle rfl) (gle rfl) (gle rfl) (gle rfl) dX1_fire_69 (gx_1 (fun c_9 => g_out0 F E (gle rfl) (gle rfl) (fun _ hp => ⟨((if_pos c_1).trans (if_neg c_9)), gPE_0 _ hp⟩))) (gv_c (fun c_9 => ?_))
    refine g_aload F 0 rfl dX1_fire_72 ?_
    refine g_getN F clX9 6 (by decide) (gT_w q895 rfl) (v := .int (S.1 8 batch.toNatClampNeg 5)) (gd_get (pr_at (κ := 8) (i := batch.toNatClampNeg) (by decide) (gc6 (by decide) c_1.2) (gce rfl rfl)) rfl) dX1_fire_74 ?_
    have J_14 : gW (X, G, 7, Q) (gP 0 G S A Fr []) [(5, .ref (A 8 batch.toNatClampNeg)), (0, .ref (A 0 0)), (1, .int batch), (2, .int kiln), (3, .int heat), (4, .int hours)] 118 [.int (gb (¬ ((S.1 8 batch.toNatClampNeg 5) = 0) ∧ ((¬ ((S.1 0 0 0) < (S.1 8 batch.toNatClampNeg 4))) ∧ (¬ (¬ ((S.1 8 batch.toNatClampNeg 6) = (-1 : Int32))) ∧ (¬ ((S.1 0 0 0) < (S.1 4 0 kiln.toNatClampNeg)))))))] 5 15 := by
      refine g_callS F (kX1_requireSupported hl (c := ¬ ((S.1 8 batch.toNatClampNeg 5) = 0) ∧ ((¬ ((S.1 0 0 0) < (S.1 8 batch.toNatClampNeg 4))) ∧ (¬ (¬ ((S.1 8 batch.toNatClampNeg 6) = (-1 : Int32))) ∧ (¬ ((S.1 0 0 0) < (S.1 4 0 kiln.toNatClampNeg))))))) (lw_S q512 q513 q18 q514) myX1_requireSupported ⟨by decide, by decide⟩ rfl rfl (gle rfl) 6 21 (gle rfl) (gle rfl) (gle rfl) (gle rfl) dX1_fire_118 (gx_1 (fun c_15 => g_out0 F E (gle rfl) (gle rfl) (fun _ hp => ⟨((if_pos c_1).trans ((if_pos c_9).trans (if_neg c_15))), gPE_0 _ hp⟩))) (gv_c (fun c_15 => ?_))
      refine g_aload F 0 rfl dX1_fire_121 ?_
      refine g_getN F clX9 1 (by decide) (gT_w q886 rfl) (v := .ref (A 7 (S.1 8 batch.toNatClampNeg 0).toNatClampNeg)) (gd_get (pr_at (κ := 8) (i := batch.toNatClampNeg) (by decide) (gc6 (by decide) c_1.2) (gce rfl rfl)) rfl) dX1_fire_123 ?_
      refine g_astore F (by show 6 < 7; decide) (lv2 := [(6, .ref (A 7 (S.1 8 batch.toNatClampNeg 0).toNatClampNeg)), (5, .ref (A 8 batch.toNatClampNeg)), (0, .ref (A 0 0)), (1, .int batch), (2, .int kiln), (3, .int heat), (4, .int hours)]) rfl dX1_fire_126 ?_
      refine g_aload F 1 rfl dX1_fire_128 ?_
      refine g_sipush F (v := (1000 : Int32)) (by decide) dX1_fire_130 ?_
      refine g_aload F 0 rfl dX1_fire_133 ?_
      refine g_getN F clX8 2 (by decide) (gT_w q844 rfl) (v := .int (S.1 7 ((S.1 8 batch.toNatClampNeg 0).toNatClampNeg) 2)) (gd_get (pr_at (κ := 7) (i := (S.1 8 batch.toNatClampNeg 0).toNatClampNeg) (by decide) (gc6 (by decide) (gw_8_0 hW c_1.2).2) (gce rfl rfl)) rfl) dX1_fire_135 ?_
      refine g_isub F dX1_fire_138 ?_
      refine g_iload_n F 5 rfl rfl dX1_fire_139 ?_
      refine g_sipush F (v := (600 : Int32)) (by decide) dX1_fire_140 ?_
      refine g_isub F dX1_fire_143 ?_
      refine g_imul F dX1_fire_144 ?_
      refine g_sipush F (v := (1000 : Int32)) (by decide) dX1_fire_145 ?_
      refine g_idiv F (by decide) dX1_fire_148 ?_
      refine g_bipush F (v := (20 : Int32)) (by decide) dX1_fire_149 ?_
      refine g_aload F 0 rfl dX1_fire_151 ?_
      refine g_getN F clX8 3 (by decide) (gT_w q846 rfl) (v := .int (S.1 7 ((S.1 8 batch.toNatClampNeg 0).toNatClampNeg) 3)) (gd_get (pr_at (κ := 7) (i := (S.1 8 batch.toNatClampNeg 0).toNatClampNeg) (by decide) (gc6 (by decide) (gw_8_0 hW c_1.2).2) (gce rfl rfl)) rfl) dX1_fire_153 ?_
      refine g_imul F dX1_fire_156 ?_
      refine g_iadd F dX1_fire_157 ?_
      refine g_iconst F (v := (5 : Int32)) (by decide) dX1_fire_158 ?_
      refine g_iload F 6 rfl dX1_fire_159 ?_
      refine g_imul F dX1_fire_161 ?_
      refine g_iadd F dX1_fire_162 ?_
      refine g_putN (P2 := gP 0 G (gsr S.1 8 batch.toNatClampNeg (upd (S.1 8 batch.toNatClampNeg) 9 ((((((1000 : Int32) - (S.1 7 ((S.1 8 batch.toNatClampNeg 0).toNatClampNeg) 2)) * (heat - (600 : Int32))) / (1000 : Int32)) + ((20 : Int32) * (S.1 7 ((S.1 8 batch.toNatClampNeg 0).toNatClampNeg) 3))) + ((5 : Int32) * hours))), S.2) A Fr []) F clX9 10 (by decide) (gT_w q901 rfl) rfl rfl rfl (pr_put (κ := 8) (i := batch.toNatClampNeg) gM0 hF (upd (S.1 8 batch.toNatClampNeg) 9 ((((((1000 : Int32) - (S.1 7 ((S.1 8 batch.toNatClampNeg 0).toNatClampNeg) 2)) * (heat - (600 : Int32))) / (1000 : Int32)) + ((20 : Int32) * (S.1 7 ((S.1 8 batch.toNatClampNeg 0).toNatClampNeg) 3))) + ((5 : Int32) * hours))) (by decide) (gc6 (by decide) c_1.2) (gce rfl rfl) (gnl rfl) rfl) dX1_fire_163 ?_
      refine g_aload F 1 rfl dX1_fire_166 ?_
      refine g_iconst F (v := (0 : Int32)) (by decide) dX1_fire_168 ?_
      refine g_sipush F (v := (999 : Int32)) (by decide) dX1_fire_169 ?_
      refine g_aload F 0 rfl dX1_fire_172 ?_
      refine g_getN F clX8 2 (by decide) (gT_w q844 rfl) (v := .int (S.1 7 ((S.1 8 batch.toNatClampNeg 0).toNatClampNeg) 2)) (gd_get (pr_at (κ := 7) (i := (S.1 8 batch.toNatClampNeg 0).toNatClampNeg) (by decide) (gc6 (by decide) (gw_8_0 hW c_1.2).2) (gce (show (gsr S.1 8 batch.toNatClampNeg (upd (S.1 8 batch.toNatClampNeg) 9 ((((((1000 : Int32) - (S.1 7 ((S.1 8 batch.toNatClampNeg 0).toNatClampNeg) 2)) * (heat - (600 : Int32))) / (1000 : Int32)) + ((20 : Int32) * (S.1 7 ((S.1 8 batch.toNatClampNeg 0).toNatClampNeg) 3))) + ((5 : Int32) * hours)))) 7 ((S.1 8 batch.toNatClampNeg 0).toNatClampNeg) = S.1 7 ((S.1 8 batch.toNatClampNeg 0).toNatClampNeg) from (gsr_p (by decide) rfl)) rfl)) rfl) dX1_fire_174 ?_
      refine g_iload_n F 5 rfl rfl dX1_fire_177 ?_
      refine g_sipush F (v := (700 : Int32)) (by decide) dX1_fire_178 ?_
      refine g_isub F dX1_fire_181 ?_
      refine g_bipush F (v := (10 : Int32)) (by decide) dX1_fire_182 ?_
      refine g_idiv F (by decide) dX1_fire_184 ?_
      refine g_isub F dX1_fire_185 ?_
      refine g_iconst F (v := (5 : Int32)) (by decide) dX1_fire_186 ?_
      refine g_aload F 0 rfl dX1_fire_187 ?_
      refine g_getN F clX8 3 (by decide) (gT_w q846 rfl) (v := .int (S.1 7 ((S.1 8 batch.toNatClampNeg 0).toNatClampNeg) 3)) (gd_get (pr_at (κ := 7) (i := (S.1 8 batch.toNatClampNeg 0).toNatClampNeg) (by decide) (gc6 (by decide) (gw_8_0 hW c_1.2).2) (gce (show (gsr S.1 8 batch.toNatClampNeg (upd (S.1 8 batch.toNatClampNeg) 9 ((((((1000 : Int32) - (S.1 7 ((S.1 8 batch.toNatClampNeg 0).toNatClampNeg) 2)) * (heat - (600 : Int32))) / (1000 : Int32)) + ((20 : Int32) * (S.1 7 ((S.1 8 batch.toNatClampNeg 0).toNatClampNeg) 3))) + ((5 : Int32) * hours)))) 7 ((S.1 8 batch.toNatClampNeg 0).toNatClampNeg) = S.1 7 ((S.1 8 batch.toNatClampNeg 0).toNatClampNeg) from (gsr_p (by decide) rfl)) rfl)) rfl) dX1_fire_189 ?_
      refine g_imul F dX1_fire_192 ?_
      refine g_iadd F dX1_fire_193 ?_
      refine g_mmin F q966 (gle rfl) (gle rfl) (gle rfl) (gle rfl) dX1_fire_194 ?_
      refine g_mmax F q967 (gle rfl) (gle rfl) (gle rfl) (gle rfl) dX1_fire_197 ?_
      refine g_putN (P2 := gP 0 G (gsr (gsr S.1 8 batch.toNatClampNeg (upd (S.1 8 batch.toNatClampNeg) 9 ((((((1000 : Int32) - (S.1 7 ((S.1 8 batch.toNatClampNeg 0).toNatClampNeg) 2)) * (heat - (600 : Int32))) / (1000 : Int32)) + ((20 : Int32) * (S.1 7 ((S.1 8 batch.toNatClampNeg 0).toNatClampNeg) 3))) + ((5 : Int32) * hours)))) 8 batch.toNatClampNeg (upd (upd (S.1 8 batch.toNatClampNeg) 9 ((((((1000 : Int32) - (S.1 7 ((S.1 8 batch.toNatClampNeg 0).toNatClampNeg) 2)) * (heat - (600 : Int32))) / (1000 : Int32)) + ((20 : Int32) * (S.1 7 ((S.1 8 batch.toNatClampNeg 0).toNatClampNeg) 3))) + ((5 : Int32) * hours))) 10 (gmax (0 : Int32) (gmin (999 : Int32) (((S.1 7 ((S.1 8 batch.toNatClampNeg 0).toNatClampNeg) 2) - ((heat - (700 : Int32)) / (10 : Int32))) + ((5 : Int32) * (S.1 7 ((S.1 8 batch.toNatClampNeg 0).toNatClampNeg) 3)))))), S.2) A Fr []) F clX9 11 (by decide) (gT_w q904 rfl) rfl rfl rfl (pr_put (κ := 8) (i := batch.toNatClampNeg) gM0 hF (upd (upd (S.1 8 batch.toNatClampNeg) 9 ((((((1000 : Int32) - (S.1 7 ((S.1 8 batch.toNatClampNeg 0).toNatClampNeg) 2)) * (heat - (600 : Int32))) / (1000 : Int32)) + ((20 : Int32) * (S.1 7 ((S.1 8 batch.toNatClampNeg 0).toNatClampNeg) 3))) + ((5 : Int32) * hours))) 10 (gmax (0 : Int32) (gmin (999 : Int32) (((S.1 7 ((S.1 8 batch.toNatClampNeg 0).toNatClampNeg) 2) - ((heat - (700 : Int32)) / (10 : Int32))) + ((5 : Int32) * (S.1 7 ((S.1 8 batch.toNatClampNeg 0).toNatClampNeg) 3)))))) (by decide) (gc6 (by decide) c_1.2) (gce (show (gsr S.1 8 batch.toNatClampNeg (upd (S.1 8 batch.toNatClampNeg) 9 ((((((1000 : Int32) - (S.1 7 ((S.1 8 batch.toNatClampNeg 0).toNatClampNeg) 2)) * (heat - (600 : Int32))) / (1000 : Int32)) + ((20 : Int32) * (S.1 7 ((S.1 8 batch.toNatClampNeg 0).toNatClampNeg) 3))) + ((5 : Int32) * hours)))) 8 batch.toNatClampNeg = upd (S.1 8 batch.toNatClampNeg) 9 ((((((1000 : Int32) - (S.1 7 ((S.1 8 batch.toNatClampNeg 0).toNatClampNeg) 2)) * (heat - (600 : Int32))) / (1000 : Int32)) + ((20 : Int32) * (S.1 7 ((S.1 8 batch.toNatClampNeg 0).toNatClampNeg) 3))) + ((5 : Int32) * hours)) from gsr_s) rfl) (gnl rfl) rfl) dX1_fire_200 ?_
      refine g_aload F 1 rfl dX1_fire_203 ?_
      refine g_iload_n F 4 rfl rfl dX1_fire_205 ?_
      refine g_putN (P2 := gP 0 G (gsr (gsr (gsr S.1 8 batch.toNatClampNeg (upd (S.1 8 batch.toNatClampNeg) 9 ((((((1000 : Int32) - (S.1 7 ((S.1 8 batch.toNatClampNeg 0).toNatClampNeg) 2)) * (heat - (600 : Int32))) / (1000 : Int32)) + ((20 : Int32) * (S.1 7 ((S.1 8 batch.toNatClampNeg 0).toNatClampNeg) 3))) + ((5 : Int32) * hours)))) 8 batch.toNatClampNeg (upd (upd (S.1 8 batch.toNatClampNeg) 9 ((((((1000 : Int32) - (S.1 7 ((S.1 8 batch.toNatClampNeg 0).toNatClampNeg) 2)) * (heat - (600 : Int32))) / (1000 : Int32)) + ((20 : Int32) * (S.1 7 ((S.1 8 batch.toNatClampNeg 0).toNatClampNeg) 3))) + ((5 : Int32) * hours))) 10 (gmax (0 : Int32) (gmin (999 : Int32) (((S.1 7 ((S.1 8 batch.toNatClampNeg 0).toNatClampNeg) 2) - ((heat - (700 : Int32)) / (10 : Int32))) + ((5 : Int32) * (S.1 7 ((S.1 8 batch.toNatClampNeg 0).toNatClampNeg) 3))))))) 8 batch.toNatClampNeg (upd (upd (upd (S.1 8 batch.toNatClampNeg) 9 ((((((1000 : Int32) - (S.1 7 ((S.1 8 batch.toNatClampNeg 0).toNatClampNeg) 2)) * (heat - (600 : Int32))) / (1000 : Int32)) + ((20 : Int32) * (S.1 7 ((S.1 8 batch.toNatClampNeg 0).toNatClampNeg) 3))) + ((5 : Int32) * hours))) 10 (gmax (0 : Int32) (gmin (999 : Int32) (((S.1 7 ((S.1 8 batch.toNatClampNeg 0).toNatClampNeg) 2) - ((heat - (700 : Int32)) / (10 : Int32))) + ((5 : Int32) * (S.1 7 ((S.1 8 batch.toNatClampNeg 0).toNatClampNeg) 3)))))) 7 kiln), S.2) A Fr []) F clX9 9 (by decide) (gT_w q900 rfl) rfl rfl rfl (pr_put (κ := 8) (i := batch.toNatClampNeg) gM0 hF (upd (upd (upd (S.1 8 batch.toNatClampNeg) 9 ((((((1000 : Int32) - (S.1 7 ((S.1 8 batch.toNatClampNeg 0).toNatClampNeg) 2)) * (heat - (600 : Int32))) / (1000 : Int32)) + ((20 : Int32) * (S.1 7 ((S.1 8 batch.toNatClampNeg 0).toNatClampNeg) 3))) + ((5 : Int32) * hours))) 10 (gmax (0 : Int32) (gmin (999 : Int32) (((S.1 7 ((S.1 8 batch.toNatClampNeg 0).toNatClampNeg) 2) - ((heat - (700 : Int32)) / (10 : Int32))) + ((5 : Int32) * (S.1 7 ((S.1 8 batch.toNatClampNeg 0).toNatClampNeg) 3)))))) 7 kiln) (by decide) (gc6 (by decide) c_1.2) (gce (show (gsr (gsr S.1 8 batch.toNatClampNeg (upd (S.1 8 batch.toNatClampNeg) 9 ((((((1000 : Int32) - (S.1 7 ((S.1 8 batch.toNatClampNeg 0).toNatClampNeg) 2)) * (heat - (600 : Int32))) / (1000 : Int32)) + ((20 : Int32) * (S.1 7 ((S.1 8 batch.toNatClampNeg 0).toNatClampNeg) 3))) + ((5 : Int32) * hours)))) 8 batch.toNatClampNeg (upd (upd (S.1 8 batch.toNatClampNeg) 9 ((((((1000 : Int32) - (S.1 7 ((S.1 8 batch.toNatClampNeg 0).toNatClampNeg) 2)) * (heat - (600 : Int32))) / (1000 : Int32)) + ((20 : Int32) * (S.1 7 ((S.1 8 batch.toNatClampNeg 0).toNatClampNeg) 3))) + ((5 : Int32) * hours))) 10 (gmax (0 : Int32) (gmin (999 : Int32) (((S.1 7 ((S.1 8 batch.toNatClampNeg 0).toNatClampNeg) 2) - ((heat - (700 : Int32)) / (10 : Int32))) + ((5 : Int32) * (S.1 7 ((S.1 8 batch.toNatClampNeg 0).toNatClampNeg) 3))))))) 8 batch.toNatClampNeg = upd (upd (S.1 8 batch.toNatClampNeg) 9 ((((((1000 : Int32) - (S.1 7 ((S.1 8 batch.toNatClampNeg 0).toNatClampNeg) 2)) * (heat - (600 : Int32))) / (1000 : Int32)) + ((20 : Int32) * (S.1 7 ((S.1 8 batch.toNatClampNeg 0).toNatClampNeg) 3))) + ((5 : Int32) * hours))) 10 (gmax (0 : Int32) (gmin (999 : Int32) (((S.1 7 ((S.1 8 batch.toNatClampNeg 0).toNatClampNeg) 2) - ((heat - (700 : Int32)) / (10 : Int32))) + ((5 : Int32) * (S.1 7 ((S.1 8 batch.toNatClampNeg 0).toNatClampNeg) 3))))) from gsr_s) rfl) (gnl rfl) rfl) dX1_fire_206 ?_
      refine g_aload F 1 rfl dX1_fire_209 ?_
      refine g_aload_n F 2 rfl rfl dX1_fire_211 ?_
      refine g_get F clX1 10 (by decide) q145 (v := .int (S.1 0 0 2)) (gd_get (pr_at (κ := 0) (i := 0) (by decide) (gc1 (gnl rfl)) (gce (show (gsr (gsr (gsr S.1 8 batch.toNatClampNeg (upd (S.1 8 batch.toNatClampNeg) 9 ((((((1000 : Int32) - (S.1 7 ((S.1 8 batch.toNatClampNeg 0).toNatClampNeg) 2)) * (heat - (600 : Int32))) / (1000 : Int32)) + ((20 : Int32) * (S.1 7 ((S.1 8 batch.toNatClampNeg 0).toNatClampNeg) 3))) + ((5 : Int32) * hours)))) 8 batch.toNatClampNeg (upd (upd (S.1 8 batch.toNatClampNeg) 9 ((((((1000 : Int32) - (S.1 7 ((S.1 8 batch.toNatClampNeg 0).toNatClampNeg) 2)) * (heat - (600 : Int32))) / (1000 : Int32)) + ((20 : Int32) * (S.1 7 ((S.1 8 batch.toNatClampNeg 0).toNatClampNeg) 3))) + ((5 : Int32) * hours))) 10 (gmax (0 : Int32) (gmin (999 : Int32) (((S.1 7 ((S.1 8 batch.toNatClampNeg 0).toNatClampNeg) 2) - ((heat - (700 : Int32)) / (10 : Int32))) + ((5 : Int32) * (S.1 7 ((S.1 8 batch.toNatClampNeg 0).toNatClampNeg) 3))))))) 8 batch.toNatClampNeg (upd (upd (upd (S.1 8 batch.toNatClampNeg) 9 ((((((1000 : Int32) - (S.1 7 ((S.1 8 batch.toNatClampNeg 0).toNatClampNeg) 2)) * (heat - (600 : Int32))) / (1000 : Int32)) + ((20 : Int32) * (S.1 7 ((S.1 8 batch.toNatClampNeg 0).toNatClampNeg) 3))) + ((5 : Int32) * hours))) 10 (gmax (0 : Int32) (gmin (999 : Int32) (((S.1 7 ((S.1 8 batch.toNatClampNeg 0).toNatClampNeg) 2) - ((heat - (700 : Int32)) / (10 : Int32))) + ((5 : Int32) * (S.1 7 ((S.1 8 batch.toNatClampNeg 0).toNatClampNeg) 3)))))) 7 kiln)) 0 0 = S.1 0 0 from (gsr_p (by decide) (gsr_p (by decide) (gsr_p (by decide) rfl)))) rfl)) rfl) dX1_fire_212 ?_
      refine g_putN (P2 := gP 0 G (gsr (gsr (gsr (gsr S.1 8 batch.toNatClampNeg (upd (S.1 8 batch.toNatClampNeg) 9 ((((((1000 : Int32) - (S.1 7 ((S.1 8 batch.toNatClampNeg 0).toNatClampNeg) 2)) * (heat - (600 : Int32))) / (1000 : Int32)) + ((20 : Int32) * (S.1 7 ((S.1 8 batch.toNatClampNeg 0).toNatClampNeg) 3))) + ((5 : Int32) * hours)))) 8 batch.toNatClampNeg (upd (upd (S.1 8 batch.toNatClampNeg) 9 ((((((1000 : Int32) - (S.1 7 ((S.1 8 batch.toNatClampNeg 0).toNatClampNeg) 2)) * (heat - (600 : Int32))) / (1000 : Int32)) + ((20 : Int32) * (S.1 7 ((S.1 8 batch.toNatClampNeg 0).toNatClampNeg) 3))) + ((5 : Int32) * hours))) 10 (gmax (0 : Int32) (gmin (999 : Int32) (((S.1 7 ((S.1 8 batch.toNatClampNeg 0).toNatClampNeg) 2) - ((heat - (700 : Int32)) / (10 : Int32))) + ((5 : Int32) * (S.1 7 ((S.1 8 batch.toNatClampNeg 0).toNatClampNeg) 3))))))) 8 batch.toNatClampNeg (upd (upd (upd (S.1 8 batch.toNatClampNeg) 9 ((((((1000 : Int32) - (S.1 7 ((S.1 8 batch.toNatClampNeg 0).toNatClampNeg) 2)) * (heat - (600 : Int32))) / (1000 : Int32)) + ((20 : Int32) * (S.1 7 ((S.1 8 batch.toNatClampNeg 0).toNatClampNeg) 3))) + ((5 : Int32) * hours))) 10 (gmax (0 : Int32) (gmin (999 : Int32) (((S.1 7 ((S.1 8 batch.toNatClampNeg 0).toNatClampNeg) 2) - ((heat - (700 : Int32)) / (10 : Int32))) + ((5 : Int32) * (S.1 7 ((S.1 8 batch.toNatClampNeg 0).toNatClampNeg) 3)))))) 7 kiln)) 8 batch.toNatClampNeg (upd (upd (upd (upd (S.1 8 batch.toNatClampNeg) 9 ((((((1000 : Int32) - (S.1 7 ((S.1 8 batch.toNatClampNeg 0).toNatClampNeg) 2)) * (heat - (600 : Int32))) / (1000 : Int32)) + ((20 : Int32) * (S.1 7 ((S.1 8 batch.toNatClampNeg 0).toNatClampNeg) 3))) + ((5 : Int32) * hours))) 10 (gmax (0 : Int32) (gmin (999 : Int32) (((S.1 7 ((S.1 8 batch.toNatClampNeg 0).toNatClampNeg) 2) - ((heat - (700 : Int32)) / (10 : Int32))) + ((5 : Int32) * (S.1 7 ((S.1 8 batch.toNatClampNeg 0).toNatClampNeg) 3)))))) 7 kiln) 6 (S.1 0 0 2)), S.2) A Fr []) F clX9 8 (by decide) (gT_w q898 rfl) rfl rfl rfl (pr_put (κ := 8) (i := batch.toNatClampNeg) gM0 hF (upd (upd (upd (upd (S.1 8 batch.toNatClampNeg) 9 ((((((1000 : Int32) - (S.1 7 ((S.1 8 batch.toNatClampNeg 0).toNatClampNeg) 2)) * (heat - (600 : Int32))) / (1000 : Int32)) + ((20 : Int32) * (S.1 7 ((S.1 8 batch.toNatClampNeg 0).toNatClampNeg) 3))) + ((5 : Int32) * hours))) 10 (gmax (0 : Int32) (gmin (999 : Int32) (((S.1 7 ((S.1 8 batch.toNatClampNeg 0).toNatClampNeg) 2) - ((heat - (700 : Int32)) / (10 : Int32))) + ((5 : Int32) * (S.1 7 ((S.1 8 batch.toNatClampNeg 0).toNatClampNeg) 3)))))) 7 kiln) 6 (S.1 0 0 2)) (by decide) (gc6 (by decide) c_1.2) (gce (show (gsr (gsr (gsr S.1 8 batch.toNatClampNeg (upd (S.1 8 batch.toNatClampNeg) 9 ((((((1000 : Int32) - (S.1 7 ((S.1 8 batch.toNatClampNeg 0).toNatClampNeg) 2)) * (heat - (600 : Int32))) / (1000 : Int32)) + ((20 : Int32) * (S.1 7 ((S.1 8 batch.toNatClampNeg 0).toNatClampNeg) 3))) + ((5 : Int32) * hours)))) 8 batch.toNatClampNeg (upd (upd (S.1 8 batch.toNatClampNeg) 9 ((((((1000 : Int32) - (S.1 7 ((S.1 8 batch.toNatClampNeg 0).toNatClampNeg) 2)) * (heat - (600 : Int32))) / (1000 : Int32)) + ((20 : Int32) * (S.1 7 ((S.1 8 batch.toNatClampNeg 0).toNatClampNeg) 3))) + ((5 : Int32) * hours))) 10 (gmax (0 : Int32) (gmin (999 : Int32) (((S.1 7 ((S.1 8 batch.toNatClampNeg 0).toNatClampNeg) 2) - ((heat - (700 : Int32)) / (10 : Int32))) + ((5 : Int32) * (S.1 7 ((S.1 8 batch.toNatClampNeg 0).toNatClampNeg) 3))))))) 8 batch.toNatClampNeg (upd (upd (upd (S.1 8 batch.toNatClampNeg) 9 ((((((1000 : Int32) - (S.1 7 ((S.1 8 batch.toNatClampNeg 0).toNatClampNeg) 2)) * (heat - (600 : Int32))) / (1000 : Int32)) + ((20 : Int32) * (S.1 7 ((S.1 8 batch.toNatClampNeg 0).toNatClampNeg) 3))) + ((5 : Int32) * hours))) 10 (gmax (0 : Int32) (gmin (999 : Int32) (((S.1 7 ((S.1 8 batch.toNatClampNeg 0).toNatClampNeg) 2) - ((heat - (700 : Int32)) / (10 : Int32))) + ((5 : Int32) * (S.1 7 ((S.1 8 batch.toNatClampNeg 0).toNatClampNeg) 3)))))) 7 kiln)) 8 batch.toNatClampNeg = upd (upd (upd (S.1 8 batch.toNatClampNeg) 9 ((((((1000 : Int32) - (S.1 7 ((S.1 8 batch.toNatClampNeg 0).toNatClampNeg) 2)) * (heat - (600 : Int32))) / (1000 : Int32)) + ((20 : Int32) * (S.1 7 ((S.1 8 batch.toNatClampNeg 0).toNatClampNeg) 3))) + ((5 : Int32) * hours))) 10 (gmax (0 : Int32) (gmin (999 : Int32) (((S.1 7 ((S.1 8 batch.toNatClampNeg 0).toNatClampNeg) 2) - ((heat - (700 : Int32)) / (10 : Int32))) + ((5 : Int32) * (S.1 7 ((S.1 8 batch.toNatClampNeg 0).toNatClampNeg) 3)))))) 7 kiln from gsr_s) rfl) (gnl rfl) rfl) dX1_fire_215 ?_
      refine g_aload F 1 rfl dX1_fire_218 ?_
      refine g_aload_n F 2 rfl rfl dX1_fire_220 ?_
      refine g_get F clX1 0 (by decide) q135 (v := .int (S.1 0 0 0)) (gd_get (pr_at (κ := 0) (i := 0) (by decide) (gc1 (gnl rfl)) (gce (show (gsr (gsr (gsr (gsr S.1 8 batch.toNatClampNeg (upd (S.1 8 batch.toNatClampNeg) 9 ((((((1000 : Int32) - (S.1 7 ((S.1 8 batch.toNatClampNeg 0).toNatClampNeg) 2)) * (heat - (600 : Int32))) / (1000 : Int32)) + ((20 : Int32) * (S.1 7 ((S.1 8 batch.toNatClampNeg 0).toNatClampNeg) 3))) + ((5 : Int32) * hours)))) 8 batch.toNatClampNeg (upd (upd (S.1 8 batch.toNatClampNeg) 9 ((((((1000 : Int32) - (S.1 7 ((S.1 8 batch.toNatClampNeg 0).toNatClampNeg) 2)) * (heat - (600 : Int32))) / (1000 : Int32)) + ((20 : Int32) * (S.1 7 ((S.1 8 batch.toNatClampNeg 0).toNatClampNeg) 3))) + ((5 : Int32) * hours))) 10 (gmax (0 : Int32) (gmin (999 : Int32) (((S.1 7 ((S.1 8 batch.toNatClampNeg 0).toNatClampNeg) 2) - ((heat - (700 : Int32)) / (10 : Int32))) + ((5 : Int32) * (S.1 7 ((S.1 8 batch.toNatClampNeg 0).toNatClampNeg) 3))))))) 8 batch.toNatClampNeg (upd (upd (upd (S.1 8 batch.toNatClampNeg) 9 ((((((1000 : Int32) - (S.1 7 ((S.1 8 batch.toNatClampNeg 0).toNatClampNeg) 2)) * (heat - (600 : Int32))) / (1000 : Int32)) + ((20 : Int32) * (S.1 7 ((S.1 8 batch.toNatClampNeg 0).toNatClampNeg) 3))) + ((5 : Int32) * hours))) 10 (gmax (0 : Int32) (gmin (999 : Int32) (((S.1 7 ((S.1 8 batch.toNatClampNeg 0).toNatClampNeg) 2) - ((heat - (700 : Int32)) / (10 : Int32))) + ((5 : Int32) * (S.1 7 ((S.1 8 batch.toNatClampNeg 0).toNatClampNeg) 3)))))) 7 kiln)) 8 batch.toNatClampNeg (upd (upd (upd (upd (S.1 8 batch.toNatClampNeg) 9 ((((((1000 : Int32) - (S.1 7 ((S.1 8 batch.toNatClampNeg 0).toNatClampNeg) 2)) * (heat - (600 : Int32))) / (1000 : Int32)) + ((20 : Int32) * (S.1 7 ((S.1 8 batch.toNatClampNeg 0).toNatClampNeg) 3))) + ((5 : Int32) * hours))) 10 (gmax (0 : Int32) (gmin (999 : Int32) (((S.1 7 ((S.1 8 batch.toNatClampNeg 0).toNatClampNeg) 2) - ((heat - (700 : Int32)) / (10 : Int32))) + ((5 : Int32) * (S.1 7 ((S.1 8 batch.toNatClampNeg 0).toNatClampNeg) 3)))))) 7 kiln) 6 (S.1 0 0 2))) 0 0 = S.1 0 0 from (gsr_p (by decide) (gsr_p (by decide) (gsr_p (by decide) (gsr_p (by decide) rfl))))) rfl)) rfl) dX1_fire_221 ?_
      refine g_iload F 6 rfl dX1_fire_224 ?_
      refine g_iadd F dX1_fire_226 ?_
      refine g_putN (P2 := gP 0 G (gsr (gsr (gsr (gsr (gsr S.1 8 batch.toNatClampNeg (upd (S.1 8 batch.toNatClampNeg) 9 ((((((1000 : Int32) - (S.1 7 ((S.1 8 batch.toNatClampNeg 0).toNatClampNeg) 2)) * (heat - (600 : Int32))) / (1000 : Int32)) + ((20 : Int32) * (S.1 7 ((S.1 8 batch.toNatClampNeg 0).toNatClampNeg) 3))) + ((5 : Int32) * hours)))) 8 batch.toNatClampNeg (upd (upd (S.1 8 batch.toNatClampNeg) 9 ((((((1000 : Int32) - (S.1 7 ((S.1 8 batch.toNatClampNeg 0).toNatClampNeg) 2)) * (heat - (600 : Int32))) / (1000 : Int32)) + ((20 : Int32) * (S.1 7 ((S.1 8 batch.toNatClampNeg 0).toNatClampNeg) 3))) + ((5 : Int32) * hours))) 10 (gmax (0 : Int32) (gmin (999 : Int32) (((S.1 7 ((S.1 8 batch.toNatClampNeg 0).toNatClampNeg) 2) - ((heat - (700 : Int32)) / (10 : Int32))) + ((5 : Int32) * (S.1 7 ((S.1 8 batch.toNatClampNeg 0).toNatClampNeg) 3))))))) 8 batch.toNatClampNeg (upd (upd (upd (S.1 8 batch.toNatClampNeg) 9 ((((((1000 : Int32) - (S.1 7 ((S.1 8 batch.toNatClampNeg 0).toNatClampNeg) 2)) * (heat - (600 : Int32))) / (1000 : Int32)) + ((20 : Int32) * (S.1 7 ((S.1 8 batch.toNatClampNeg 0).toNatClampNeg) 3))) + ((5 : Int32) * hours))) 10 (gmax (0 : Int32) (gmin (999 : Int32) (((S.1 7 ((S.1 8 batch.toNatClampNeg 0).toNatClampNeg) 2) - ((heat - (700 : Int32)) / (10 : Int32))) + ((5 : Int32) * (S.1 7 ((S.1 8 batch.toNatClampNeg 0).toNatClampNeg) 3)))))) 7 kiln)) 8 batch.toNatClampNeg (upd (upd (upd (upd (S.1 8 batch.toNatClampNeg) 9 ((((((1000 : Int32) - (S.1 7 ((S.1 8 batch.toNatClampNeg 0).toNatClampNeg) 2)) * (heat - (600 : Int32))) / (1000 : Int32)) + ((20 : Int32) * (S.1 7 ((S.1 8 batch.toNatClampNeg 0).toNatClampNeg) 3))) + ((5 : Int32) * hours))) 10 (gmax (0 : Int32) (gmin (999 : Int32) (((S.1 7 ((S.1 8 batch.toNatClampNeg 0).toNatClampNeg) 2) - ((heat - (700 : Int32)) / (10 : Int32))) + ((5 : Int32) * (S.1 7 ((S.1 8 batch.toNatClampNeg 0).toNatClampNeg) 3)))))) 7 kiln) 6 (S.1 0 0 2))) 8 batch.toNatClampNeg (upd (upd (upd (upd (upd (S.1 8 batch.toNatClampNeg) 9 ((((((1000 : Int32) - (S.1 7 ((S.1 8 batch.toNatClampNeg 0).toNatClampNeg) 2)) * (heat - (600 : Int32))) / (1000 : Int32)) + ((20 : Int32) * (S.1 7 ((S.1 8 batch.toNatClampNeg 0).toNatClampNeg) 3))) + ((5 : Int32) * hours))) 10 (gmax (0 : Int32) (gmin (999 : Int32) (((S.1 7 ((S.1 8 batch.toNatClampNeg 0).toNatClampNeg) 2) - ((heat - (700 : Int32)) / (10 : Int32))) + ((5 : Int32) * (S.1 7 ((S.1 8 batch.toNatClampNeg 0).toNatClampNeg) 3)))))) 7 kiln) 6 (S.1 0 0 2)) 4 ((S.1 0 0 0) + hours)), S.2) A Fr []) F clX9 5 (by decide) (gT_w q894 rfl) rfl rfl rfl (pr_put (κ := 8) (i := batch.toNatClampNeg) gM0 hF (upd (upd (upd (upd (upd (S.1 8 batch.toNatClampNeg) 9 ((((((1000 : Int32) - (S.1 7 ((S.1 8 batch.toNatClampNeg 0).toNatClampNeg) 2)) * (heat - (600 : Int32))) / (1000 : Int32)) + ((20 : Int32) * (S.1 7 ((S.1 8 batch.toNatClampNeg 0).toNatClampNeg) 3))) + ((5 : Int32) * hours))) 10 (gmax (0 : Int32) (gmin (999 : Int32) (((S.1 7 ((S.1 8 batch.toNatClampNeg 0).toNatClampNeg) 2) - ((heat - (700 : Int32)) / (10 : Int32))) + ((5 : Int32) * (S.1 7 ((S.1 8 batch.toNatClampNeg 0).toNatClampNeg) 3)))))) 7 kiln) 6 (S.1 0 0 2)) 4 ((S.1 0 0 0) + hours)) (by decide) (gc6 (by decide) c_1.2) (gce (show (gsr (gsr (gsr (gsr S.1 8 batch.toNatClampNeg (upd (S.1 8 batch.toNatClampNeg) 9 ((((((1000 : Int32) - (S.1 7 ((S.1 8 batch.toNatClampNeg 0).toNatClampNeg) 2)) * (heat - (600 : Int32))) / (1000 : Int32)) + ((20 : Int32) * (S.1 7 ((S.1 8 batch.toNatClampNeg 0).toNatClampNeg) 3))) + ((5 : Int32) * hours)))) 8 batch.toNatClampNeg (upd (upd (S.1 8 batch.toNatClampNeg) 9 ((((((1000 : Int32) - (S.1 7 ((S.1 8 batch.toNatClampNeg 0).toNatClampNeg) 2)) * (heat - (600 : Int32))) / (1000 : Int32)) + ((20 : Int32) * (S.1 7 ((S.1 8 batch.toNatClampNeg 0).toNatClampNeg) 3))) + ((5 : Int32) * hours))) 10 (gmax (0 : Int32) (gmin (999 : Int32) (((S.1 7 ((S.1 8 batch.toNatClampNeg 0).toNatClampNeg) 2) - ((heat - (700 : Int32)) / (10 : Int32))) + ((5 : Int32) * (S.1 7 ((S.1 8 batch.toNatClampNeg 0).toNatClampNeg) 3))))))) 8 batch.toNatClampNeg (upd (upd (upd (S.1 8 batch.toNatClampNeg) 9 ((((((1000 : Int32) - (S.1 7 ((S.1 8 batch.toNatClampNeg 0).toNatClampNeg) 2)) * (heat - (600 : Int32))) / (1000 : Int32)) + ((20 : Int32) * (S.1 7 ((S.1 8 batch.toNatClampNeg 0).toNatClampNeg) 3))) + ((5 : Int32) * hours))) 10 (gmax (0 : Int32) (gmin (999 : Int32) (((S.1 7 ((S.1 8 batch.toNatClampNeg 0).toNatClampNeg) 2) - ((heat - (700 : Int32)) / (10 : Int32))) + ((5 : Int32) * (S.1 7 ((S.1 8 batch.toNatClampNeg 0).toNatClampNeg) 3)))))) 7 kiln)) 8 batch.toNatClampNeg (upd (upd (upd (upd (S.1 8 batch.toNatClampNeg) 9 ((((((1000 : Int32) - (S.1 7 ((S.1 8 batch.toNatClampNeg 0).toNatClampNeg) 2)) * (heat - (600 : Int32))) / (1000 : Int32)) + ((20 : Int32) * (S.1 7 ((S.1 8 batch.toNatClampNeg 0).toNatClampNeg) 3))) + ((5 : Int32) * hours))) 10 (gmax (0 : Int32) (gmin (999 : Int32) (((S.1 7 ((S.1 8 batch.toNatClampNeg 0).toNatClampNeg) 2) - ((heat - (700 : Int32)) / (10 : Int32))) + ((5 : Int32) * (S.1 7 ((S.1 8 batch.toNatClampNeg 0).toNatClampNeg) 3)))))) 7 kiln) 6 (S.1 0 0 2))) 8 batch.toNatClampNeg = upd (upd (upd (upd (S.1 8 batch.toNatClampNeg) 9 ((((((1000 : Int32) - (S.1 7 ((S.1 8 batch.toNatClampNeg 0).toNatClampNeg) 2)) * (heat - (600 : Int32))) / (1000 : Int32)) + ((20 : Int32) * (S.1 7 ((S.1 8 batch.toNatClampNeg 0).toNatClampNeg) 3))) + ((5 : Int32) * hours))) 10 (gmax (0 : Int32) (gmin (999 : Int32) (((S.1 7 ((S.1 8 batch.toNatClampNeg 0).toNatClampNeg) 2) - ((heat - (700 : Int32)) / (10 : Int32))) + ((5 : Int32) * (S.1 7 ((S.1 8 batch.toNatClampNeg 0).toNatClampNeg) 3)))))) 7 kiln) 6 (S.1 0 0 2) from gsr_s) rfl) (gnl rfl) rfl) dX1_fire_227 ?_
      refine g_aload_n F 2 rfl rfl dX1_fire_230 ?_
      refine g_get F clX1 5 (by decide) q140 (v := .ref (A 4 0)) (gd_get (pr_at (κ := 0) (i := 0) (by decide) (gc1 (gnl rfl)) (gce (show (gsr (gsr (gsr (gsr (gsr S.1 8 batch.toNatClampNeg (upd (S.1 8 batch.toNatClampNeg) 9 ((((((1000 : Int32) - (S.1 7 ((S.1 8 batch.toNatClampNeg 0).toNatClampNeg) 2)) * (heat - (600 : Int32))) / (1000 : Int32)) + ((20 : Int32) * (S.1 7 ((S.1 8 batch.toNatClampNeg 0).toNatClampNeg) 3))) + ((5 : Int32) * hours)))) 8 batch.toNatClampNeg (upd (upd (S.1 8 batch.toNatClampNeg) 9 ((((((1000 : Int32) - (S.1 7 ((S.1 8 batch.toNatClampNeg 0).toNatClampNeg) 2)) * (heat - (600 : Int32))) / (1000 : Int32)) + ((20 : Int32) * (S.1 7 ((S.1 8 batch.toNatClampNeg 0).toNatClampNeg) 3))) + ((5 : Int32) * hours))) 10 (gmax (0 : Int32) (gmin (999 : Int32) (((S.1 7 ((S.1 8 batch.toNatClampNeg 0).toNatClampNeg) 2) - ((heat - (700 : Int32)) / (10 : Int32))) + ((5 : Int32) * (S.1 7 ((S.1 8 batch.toNatClampNeg 0).toNatClampNeg) 3))))))) 8 batch.toNatClampNeg (upd (upd (upd (S.1 8 batch.toNatClampNeg) 9 ((((((1000 : Int32) - (S.1 7 ((S.1 8 batch.toNatClampNeg 0).toNatClampNeg) 2)) * (heat - (600 : Int32))) / (1000 : Int32)) + ((20 : Int32) * (S.1 7 ((S.1 8 batch.toNatClampNeg 0).toNatClampNeg) 3))) + ((5 : Int32) * hours))) 10 (gmax (0 : Int32) (gmin (999 : Int32) (((S.1 7 ((S.1 8 batch.toNatClampNeg 0).toNatClampNeg) 2) - ((heat - (700 : Int32)) / (10 : Int32))) + ((5 : Int32) * (S.1 7 ((S.1 8 batch.toNatClampNeg 0).toNatClampNeg) 3)))))) 7 kiln)) 8 batch.toNatClampNeg (upd (upd (upd (upd (S.1 8 batch.toNatClampNeg) 9 ((((((1000 : Int32) - (S.1 7 ((S.1 8 batch.toNatClampNeg 0).toNatClampNeg) 2)) * (heat - (600 : Int32))) / (1000 : Int32)) + ((20 : Int32) * (S.1 7 ((S.1 8 batch.toNatClampNeg 0).toNatClampNeg) 3))) + ((5 : Int32) * hours))) 10 (gmax (0 : Int32) (gmin (999 : Int32) (((S.1 7 ((S.1 8 batch.toNatClampNeg 0).toNatClampNeg) 2) - ((heat - (700 : Int32)) / (10 : Int32))) + ((5 : Int32) * (S.1 7 ((S.1 8 batch.toNatClampNeg 0).toNatClampNeg) 3)))))) 7 kiln) 6 (S.1 0 0 2))) 8 batch.toNatClampNeg (upd (upd (upd (upd (upd (S.1 8 batch.toNatClampNeg) 9 ((((((1000 : Int32) - (S.1 7 ((S.1 8 batch.toNatClampNeg 0).toNatClampNeg) 2)) * (heat - (600 : Int32))) / (1000 : Int32)) + ((20 : Int32) * (S.1 7 ((S.1 8 batch.toNatClampNeg 0).toNatClampNeg) 3))) + ((5 : Int32) * hours))) 10 (gmax (0 : Int32) (gmin (999 : Int32) (((S.1 7 ((S.1 8 batch.toNatClampNeg 0).toNatClampNeg) 2) - ((heat - (700 : Int32)) / (10 : Int32))) + ((5 : Int32) * (S.1 7 ((S.1 8 batch.toNatClampNeg 0).toNatClampNeg) 3)))))) 7 kiln) 6 (S.1 0 0 2)) 4 ((S.1 0 0 0) + hours))) 0 0 = S.1 0 0 from (gsr_p (by decide) (gsr_p (by decide) (gsr_p (by decide) (gsr_p (by decide) (gsr_p (by decide) rfl)))))) rfl)) rfl) dX1_fire_231 ?_
      refine g_iload_n F 4 rfl rfl dX1_fire_234 ?_
      refine g_aload F 1 rfl dX1_fire_235 ?_
      refine g_getN F clX9 5 (by decide) (gT_w q894 rfl) (v := .int ((S.1 0 0 0) + hours)) (gd_get (pr_at (κ := 8) (i := batch.toNatClampNeg) (by decide) (gc6 (by decide) c_1.2) (gce (show (gsr (gsr (gsr (gsr (gsr S.1 8 batch.toNatClampNeg (upd (S.1 8 batch.toNatClampNeg) 9 ((((((1000 : Int32) - (S.1 7 ((S.1 8 batch.toNatClampNeg 0).toNatClampNeg) 2)) * (heat - (600 : Int32))) / (1000 : Int32)) + ((20 : Int32) * (S.1 7 ((S.1 8 batch.toNatClampNeg 0).toNatClampNeg) 3))) + ((5 : Int32) * hours)))) 8 batch.toNatClampNeg (upd (upd (S.1 8 batch.toNatClampNeg) 9 ((((((1000 : Int32) - (S.1 7 ((S.1 8 batch.toNatClampNeg 0).toNatClampNeg) 2)) * (heat - (600 : Int32))) / (1000 : Int32)) + ((20 : Int32) * (S.1 7 ((S.1 8 batch.toNatClampNeg 0).toNatClampNeg) 3))) + ((5 : Int32) * hours))) 10 (gmax (0 : Int32) (gmin (999 : Int32) (((S.1 7 ((S.1 8 batch.toNatClampNeg 0).toNatClampNeg) 2) - ((heat - (700 : Int32)) / (10 : Int32))) + ((5 : Int32) * (S.1 7 ((S.1 8 batch.toNatClampNeg 0).toNatClampNeg) 3))))))) 8 batch.toNatClampNeg (upd (upd (upd (S.1 8 batch.toNatClampNeg) 9 ((((((1000 : Int32) - (S.1 7 ((S.1 8 batch.toNatClampNeg 0).toNatClampNeg) 2)) * (heat - (600 : Int32))) / (1000 : Int32)) + ((20 : Int32) * (S.1 7 ((S.1 8 batch.toNatClampNeg 0).toNatClampNeg) 3))) + ((5 : Int32) * hours))) 10 (gmax (0 : Int32) (gmin (999 : Int32) (((S.1 7 ((S.1 8 batch.toNatClampNeg 0).toNatClampNeg) 2) - ((heat - (700 : Int32)) / (10 : Int32))) + ((5 : Int32) * (S.1 7 ((S.1 8 batch.toNatClampNeg 0).toNatClampNeg) 3)))))) 7 kiln)) 8 batch.toNatClampNeg (upd (upd (upd (upd (S.1 8 batch.toNatClampNeg) 9 ((((((1000 : Int32) - (S.1 7 ((S.1 8 batch.toNatClampNeg 0).toNatClampNeg) 2)) * (heat - (600 : Int32))) / (1000 : Int32)) + ((20 : Int32) * (S.1 7 ((S.1 8 batch.toNatClampNeg 0).toNatClampNeg) 3))) + ((5 : Int32) * hours))) 10 (gmax (0 : Int32) (gmin (999 : Int32) (((S.1 7 ((S.1 8 batch.toNatClampNeg 0).toNatClampNeg) 2) - ((heat - (700 : Int32)) / (10 : Int32))) + ((5 : Int32) * (S.1 7 ((S.1 8 batch.toNatClampNeg 0).toNatClampNeg) 3)))))) 7 kiln) 6 (S.1 0 0 2))) 8 batch.toNatClampNeg (upd (upd (upd (upd (upd (S.1 8 batch.toNatClampNeg) 9 ((((((1000 : Int32) - (S.1 7 ((S.1 8 batch.toNatClampNeg 0).toNatClampNeg) 2)) * (heat - (600 : Int32))) / (1000 : Int32)) + ((20 : Int32) * (S.1 7 ((S.1 8 batch.toNatClampNeg 0).toNatClampNeg) 3))) + ((5 : Int32) * hours))) 10 (gmax (0 : Int32) (gmin (999 : Int32) (((S.1 7 ((S.1 8 batch.toNatClampNeg 0).toNatClampNeg) 2) - ((heat - (700 : Int32)) / (10 : Int32))) + ((5 : Int32) * (S.1 7 ((S.1 8 batch.toNatClampNeg 0).toNatClampNeg) 3)))))) 7 kiln) 6 (S.1 0 0 2)) 4 ((S.1 0 0 0) + hours))) 8 batch.toNatClampNeg = upd (upd (upd (upd (upd (S.1 8 batch.toNatClampNeg) 9 ((((((1000 : Int32) - (S.1 7 ((S.1 8 batch.toNatClampNeg 0).toNatClampNeg) 2)) * (heat - (600 : Int32))) / (1000 : Int32)) + ((20 : Int32) * (S.1 7 ((S.1 8 batch.toNatClampNeg 0).toNatClampNeg) 3))) + ((5 : Int32) * hours))) 10 (gmax (0 : Int32) (gmin (999 : Int32) (((S.1 7 ((S.1 8 batch.toNatClampNeg 0).toNatClampNeg) 2) - ((heat - (700 : Int32)) / (10 : Int32))) + ((5 : Int32) * (S.1 7 ((S.1 8 batch.toNatClampNeg 0).toNatClampNeg) 3)))))) 7 kiln) 6 (S.1 0 0 2)) 4 ((S.1 0 0 0) + hours) from gsr_s) rfl)) rfl) dX1_fire_237 ?_
      refine g_iast (P2 := gP 0 G (gsr (gsr (gsr (gsr (gsr (gsr S.1 8 batch.toNatClampNeg (upd (S.1 8 batch.toNatClampNeg) 9 ((((((1000 : Int32) - (S.1 7 ((S.1 8 batch.toNatClampNeg 0).toNatClampNeg) 2)) * (heat - (600 : Int32))) / (1000 : Int32)) + ((20 : Int32) * (S.1 7 ((S.1 8 batch.toNatClampNeg 0).toNatClampNeg) 3))) + ((5 : Int32) * hours)))) 8 batch.toNatClampNeg (upd (upd (S.1 8 batch.toNatClampNeg) 9 ((((((1000 : Int32) - (S.1 7 ((S.1 8 batch.toNatClampNeg 0).toNatClampNeg) 2)) * (heat - (600 : Int32))) / (1000 : Int32)) + ((20 : Int32) * (S.1 7 ((S.1 8 batch.toNatClampNeg 0).toNatClampNeg) 3))) + ((5 : Int32) * hours))) 10 (gmax (0 : Int32) (gmin (999 : Int32) (((S.1 7 ((S.1 8 batch.toNatClampNeg 0).toNatClampNeg) 2) - ((heat - (700 : Int32)) / (10 : Int32))) + ((5 : Int32) * (S.1 7 ((S.1 8 batch.toNatClampNeg 0).toNatClampNeg) 3))))))) 8 batch.toNatClampNeg (upd (upd (upd (S.1 8 batch.toNatClampNeg) 9 ((((((1000 : Int32) - (S.1 7 ((S.1 8 batch.toNatClampNeg 0).toNatClampNeg) 2)) * (heat - (600 : Int32))) / (1000 : Int32)) + ((20 : Int32) * (S.1 7 ((S.1 8 batch.toNatClampNeg 0).toNatClampNeg) 3))) + ((5 : Int32) * hours))) 10 (gmax (0 : Int32) (gmin (999 : Int32) (((S.1 7 ((S.1 8 batch.toNatClampNeg 0).toNatClampNeg) 2) - ((heat - (700 : Int32)) / (10 : Int32))) + ((5 : Int32) * (S.1 7 ((S.1 8 batch.toNatClampNeg 0).toNatClampNeg) 3)))))) 7 kiln)) 8 batch.toNatClampNeg (upd (upd (upd (upd (S.1 8 batch.toNatClampNeg) 9 ((((((1000 : Int32) - (S.1 7 ((S.1 8 batch.toNatClampNeg 0).toNatClampNeg) 2)) * (heat - (600 : Int32))) / (1000 : Int32)) + ((20 : Int32) * (S.1 7 ((S.1 8 batch.toNatClampNeg 0).toNatClampNeg) 3))) + ((5 : Int32) * hours))) 10 (gmax (0 : Int32) (gmin (999 : Int32) (((S.1 7 ((S.1 8 batch.toNatClampNeg 0).toNatClampNeg) 2) - ((heat - (700 : Int32)) / (10 : Int32))) + ((5 : Int32) * (S.1 7 ((S.1 8 batch.toNatClampNeg 0).toNatClampNeg) 3)))))) 7 kiln) 6 (S.1 0 0 2))) 8 batch.toNatClampNeg (upd (upd (upd (upd (upd (S.1 8 batch.toNatClampNeg) 9 ((((((1000 : Int32) - (S.1 7 ((S.1 8 batch.toNatClampNeg 0).toNatClampNeg) 2)) * (heat - (600 : Int32))) / (1000 : Int32)) + ((20 : Int32) * (S.1 7 ((S.1 8 batch.toNatClampNeg 0).toNatClampNeg) 3))) + ((5 : Int32) * hours))) 10 (gmax (0 : Int32) (gmin (999 : Int32) (((S.1 7 ((S.1 8 batch.toNatClampNeg 0).toNatClampNeg) 2) - ((heat - (700 : Int32)) / (10 : Int32))) + ((5 : Int32) * (S.1 7 ((S.1 8 batch.toNatClampNeg 0).toNatClampNeg) 3)))))) 7 kiln) 6 (S.1 0 0 2)) 4 ((S.1 0 0 0) + hours))) 4 0 (upd (S.1 4 0) kiln.toNatClampNeg ((S.1 0 0 0) + hours)), S.2) A Fr []) F (gvp (K := (1 : Int32)) (by decide) ⟨c_9.1.1, c_9.1.2⟩) (pr_setRow (κ := 4) (i := 0) gM0 hF (upd (S.1 4 0) kiln.toNatClampNeg ((S.1 0 0 0) + hours)) (by decide) (gc1 (gnl rfl)) (gce (show (gsr (gsr (gsr (gsr (gsr S.1 8 batch.toNatClampNeg (upd (S.1 8 batch.toNatClampNeg) 9 ((((((1000 : Int32) - (S.1 7 ((S.1 8 batch.toNatClampNeg 0).toNatClampNeg) 2)) * (heat - (600 : Int32))) / (1000 : Int32)) + ((20 : Int32) * (S.1 7 ((S.1 8 batch.toNatClampNeg 0).toNatClampNeg) 3))) + ((5 : Int32) * hours)))) 8 batch.toNatClampNeg (upd (upd (S.1 8 batch.toNatClampNeg) 9 ((((((1000 : Int32) - (S.1 7 ((S.1 8 batch.toNatClampNeg 0).toNatClampNeg) 2)) * (heat - (600 : Int32))) / (1000 : Int32)) + ((20 : Int32) * (S.1 7 ((S.1 8 batch.toNatClampNeg 0).toNatClampNeg) 3))) + ((5 : Int32) * hours))) 10 (gmax (0 : Int32) (gmin (999 : Int32) (((S.1 7 ((S.1 8 batch.toNatClampNeg 0).toNatClampNeg) 2) - ((heat - (700 : Int32)) / (10 : Int32))) + ((5 : Int32) * (S.1 7 ((S.1 8 batch.toNatClampNeg 0).toNatClampNeg) 3))))))) 8 batch.toNatClampNeg (upd (upd (upd (S.1 8 batch.toNatClampNeg) 9 ((((((1000 : Int32) - (S.1 7 ((S.1 8 batch.toNatClampNeg 0).toNatClampNeg) 2)) * (heat - (600 : Int32))) / (1000 : Int32)) + ((20 : Int32) * (S.1 7 ((S.1 8 batch.toNatClampNeg 0).toNatClampNeg) 3))) + ((5 : Int32) * hours))) 10 (gmax (0 : Int32) (gmin (999 : Int32) (((S.1 7 ((S.1 8 batch.toNatClampNeg 0).toNatClampNeg) 2) - ((heat - (700 : Int32)) / (10 : Int32))) + ((5 : Int32) * (S.1 7 ((S.1 8 batch.toNatClampNeg 0).toNatClampNeg) 3)))))) 7 kiln)) 8 batch.toNatClampNeg (upd (upd (upd (upd (S.1 8 batch.toNatClampNeg) 9 ((((((1000 : Int32) - (S.1 7 ((S.1 8 batch.toNatClampNeg 0).toNatClampNeg) 2)) * (heat - (600 : Int32))) / (1000 : Int32)) + ((20 : Int32) * (S.1 7 ((S.1 8 batch.toNatClampNeg 0).toNatClampNeg) 3))) + ((5 : Int32) * hours))) 10 (gmax (0 : Int32) (gmin (999 : Int32) (((S.1 7 ((S.1 8 batch.toNatClampNeg 0).toNatClampNeg) 2) - ((heat - (700 : Int32)) / (10 : Int32))) + ((5 : Int32) * (S.1 7 ((S.1 8 batch.toNatClampNeg 0).toNatClampNeg) 3)))))) 7 kiln) 6 (S.1 0 0 2))) 8 batch.toNatClampNeg (upd (upd (upd (upd (upd (S.1 8 batch.toNatClampNeg) 9 ((((((1000 : Int32) - (S.1 7 ((S.1 8 batch.toNatClampNeg 0).toNatClampNeg) 2)) * (heat - (600 : Int32))) / (1000 : Int32)) + ((20 : Int32) * (S.1 7 ((S.1 8 batch.toNatClampNeg 0).toNatClampNeg) 3))) + ((5 : Int32) * hours))) 10 (gmax (0 : Int32) (gmin (999 : Int32) (((S.1 7 ((S.1 8 batch.toNatClampNeg 0).toNatClampNeg) 2) - ((heat - (700 : Int32)) / (10 : Int32))) + ((5 : Int32) * (S.1 7 ((S.1 8 batch.toNatClampNeg 0).toNatClampNeg) 3)))))) 7 kiln) 6 (S.1 0 0 2)) 4 ((S.1 0 0 0) + hours))) 4 0 = S.1 4 0 from (gsr_p (by decide) (gsr_p (by decide) (gsr_p (by decide) (gsr_p (by decide) (gsr_p (by decide) rfl)))))) rfl) rfl) dX1_fire_240 ?_
      refine g_aload_n F 2 rfl rfl dX1_fire_241 ?_
      refine g_dup F rfl dX1_fire_242 ?_
      refine g_get F clX1 10 (by decide) q145 (v := .int (S.1 0 0 2)) (gd_get (pr_at (κ := 0) (i := 0) (by decide) (gc1 (gnl rfl)) (gce (show (gsr (gsr (gsr (gsr (gsr (gsr S.1 8 batch.toNatClampNeg (upd (S.1 8 batch.toNatClampNeg) 9 ((((((1000 : Int32) - (S.1 7 ((S.1 8 batch.toNatClampNeg 0).toNatClampNeg) 2)) * (heat - (600 : Int32))) / (1000 : Int32)) + ((20 : Int32) * (S.1 7 ((S.1 8 batch.toNatClampNeg 0).toNatClampNeg) 3))) + ((5 : Int32) * hours)))) 8 batch.toNatClampNeg (upd (upd (S.1 8 batch.toNatClampNeg) 9 ((((((1000 : Int32) - (S.1 7 ((S.1 8 batch.toNatClampNeg 0).toNatClampNeg) 2)) * (heat - (600 : Int32))) / (1000 : Int32)) + ((20 : Int32) * (S.1 7 ((S.1 8 batch.toNatClampNeg 0).toNatClampNeg) 3))) + ((5 : Int32) * hours))) 10 (gmax (0 : Int32) (gmin (999 : Int32) (((S.1 7 ((S.1 8 batch.toNatClampNeg 0).toNatClampNeg) 2) - ((heat - (700 : Int32)) / (10 : Int32))) + ((5 : Int32) * (S.1 7 ((S.1 8 batch.toNatClampNeg 0).toNatClampNeg) 3))))))) 8 batch.toNatClampNeg (upd (upd (upd (S.1 8 batch.toNatClampNeg) 9 ((((((1000 : Int32) - (S.1 7 ((S.1 8 batch.toNatClampNeg 0).toNatClampNeg) 2)) * (heat - (600 : Int32))) / (1000 : Int32)) + ((20 : Int32) * (S.1 7 ((S.1 8 batch.toNatClampNeg 0).toNatClampNeg) 3))) + ((5 : Int32) * hours))) 10 (gmax (0 : Int32) (gmin (999 : Int32) (((S.1 7 ((S.1 8 batch.toNatClampNeg 0).toNatClampNeg) 2) - ((heat - (700 : Int32)) / (10 : Int32))) + ((5 : Int32) * (S.1 7 ((S.1 8 batch.toNatClampNeg 0).toNatClampNeg) 3)))))) 7 kiln)) 8 batch.toNatClampNeg (upd (upd (upd (upd (S.1 8 batch.toNatClampNeg) 9 ((((((1000 : Int32) - (S.1 7 ((S.1 8 batch.toNatClampNeg 0).toNatClampNeg) 2)) * (heat - (600 : Int32))) / (1000 : Int32)) + ((20 : Int32) * (S.1 7 ((S.1 8 batch.toNatClampNeg 0).toNatClampNeg) 3))) + ((5 : Int32) * hours))) 10 (gmax (0 : Int32) (gmin (999 : Int32) (((S.1 7 ((S.1 8 batch.toNatClampNeg 0).toNatClampNeg) 2) - ((heat - (700 : Int32)) / (10 : Int32))) + ((5 : Int32) * (S.1 7 ((S.1 8 batch.toNatClampNeg 0).toNatClampNeg) 3)))))) 7 kiln) 6 (S.1 0 0 2))) 8 batch.toNatClampNeg (upd (upd (upd (upd (upd (S.1 8 batch.toNatClampNeg) 9 ((((((1000 : Int32) - (S.1 7 ((S.1 8 batch.toNatClampNeg 0).toNatClampNeg) 2)) * (heat - (600 : Int32))) / (1000 : Int32)) + ((20 : Int32) * (S.1 7 ((S.1 8 batch.toNatClampNeg 0).toNatClampNeg) 3))) + ((5 : Int32) * hours))) 10 (gmax (0 : Int32) (gmin (999 : Int32) (((S.1 7 ((S.1 8 batch.toNatClampNeg 0).toNatClampNeg) 2) - ((heat - (700 : Int32)) / (10 : Int32))) + ((5 : Int32) * (S.1 7 ((S.1 8 batch.toNatClampNeg 0).toNatClampNeg) 3)))))) 7 kiln) 6 (S.1 0 0 2)) 4 ((S.1 0 0 0) + hours))) 4 0 (upd (S.1 4 0) kiln.toNatClampNeg ((S.1 0 0 0) + hours))) 0 0 = S.1 0 0 from (gsr_p (by decide) (gsr_p (by decide) (gsr_p (by decide) (gsr_p (by decide) (gsr_p (by decide) (gsr_p (by decide) rfl))))))) rfl)) rfl) dX1_fire_243 ?_
      refine g_iconst F (v := (1 : Int32)) (by decide) dX1_fire_246 ?_
      refine g_iadd F dX1_fire_247 ?_
      refine g_put (P2 := gP 0 G (gsr (gsr (gsr (gsr (gsr (gsr (gsr S.1 8 batch.toNatClampNeg (upd (S.1 8 batch.toNatClampNeg) 9 ((((((1000 : Int32) - (S.1 7 ((S.1 8 batch.toNatClampNeg 0).toNatClampNeg) 2)) * (heat - (600 : Int32))) / (1000 : Int32)) + ((20 : Int32) * (S.1 7 ((S.1 8 batch.toNatClampNeg 0).toNatClampNeg) 3))) + ((5 : Int32) * hours)))) 8 batch.toNatClampNeg (upd (upd (S.1 8 batch.toNatClampNeg) 9 ((((((1000 : Int32) - (S.1 7 ((S.1 8 batch.toNatClampNeg 0).toNatClampNeg) 2)) * (heat - (600 : Int32))) / (1000 : Int32)) + ((20 : Int32) * (S.1 7 ((S.1 8 batch.toNatClampNeg 0).toNatClampNeg) 3))) + ((5 : Int32) * hours))) 10 (gmax (0 : Int32) (gmin (999 : Int32) (((S.1 7 ((S.1 8 batch.toNatClampNeg 0).toNatClampNeg) 2) - ((heat - (700 : Int32)) / (10 : Int32))) + ((5 : Int32) * (S.1 7 ((S.1 8 batch.toNatClampNeg 0).toNatClampNeg) 3))))))) 8 batch.toNatClampNeg (upd (upd (upd (S.1 8 batch.toNatClampNeg) 9 ((((((1000 : Int32) - (S.1 7 ((S.1 8 batch.toNatClampNeg 0).toNatClampNeg) 2)) * (heat - (600 : Int32))) / (1000 : Int32)) + ((20 : Int32) * (S.1 7 ((S.1 8 batch.toNatClampNeg 0).toNatClampNeg) 3))) + ((5 : Int32) * hours))) 10 (gmax (0 : Int32) (gmin (999 : Int32) (((S.1 7 ((S.1 8 batch.toNatClampNeg 0).toNatClampNeg) 2) - ((heat - (700 : Int32)) / (10 : Int32))) + ((5 : Int32) * (S.1 7 ((S.1 8 batch.toNatClampNeg 0).toNatClampNeg) 3)))))) 7 kiln)) 8 batch.toNatClampNeg (upd (upd (upd (upd (S.1 8 batch.toNatClampNeg) 9 ((((((1000 : Int32) - (S.1 7 ((S.1 8 batch.toNatClampNeg 0).toNatClampNeg) 2)) * (heat - (600 : Int32))) / (1000 : Int32)) + ((20 : Int32) * (S.1 7 ((S.1 8 batch.toNatClampNeg 0).toNatClampNeg) 3))) + ((5 : Int32) * hours))) 10 (gmax (0 : Int32) (gmin (999 : Int32) (((S.1 7 ((S.1 8 batch.toNatClampNeg 0).toNatClampNeg) 2) - ((heat - (700 : Int32)) / (10 : Int32))) + ((5 : Int32) * (S.1 7 ((S.1 8 batch.toNatClampNeg 0).toNatClampNeg) 3)))))) 7 kiln) 6 (S.1 0 0 2))) 8 batch.toNatClampNeg (upd (upd (upd (upd (upd (S.1 8 batch.toNatClampNeg) 9 ((((((1000 : Int32) - (S.1 7 ((S.1 8 batch.toNatClampNeg 0).toNatClampNeg) 2)) * (heat - (600 : Int32))) / (1000 : Int32)) + ((20 : Int32) * (S.1 7 ((S.1 8 batch.toNatClampNeg 0).toNatClampNeg) 3))) + ((5 : Int32) * hours))) 10 (gmax (0 : Int32) (gmin (999 : Int32) (((S.1 7 ((S.1 8 batch.toNatClampNeg 0).toNatClampNeg) 2) - ((heat - (700 : Int32)) / (10 : Int32))) + ((5 : Int32) * (S.1 7 ((S.1 8 batch.toNatClampNeg 0).toNatClampNeg) 3)))))) 7 kiln) 6 (S.1 0 0 2)) 4 ((S.1 0 0 0) + hours))) 4 0 (upd (S.1 4 0) kiln.toNatClampNeg ((S.1 0 0 0) + hours))) 0 0 (upd (S.1 0 0) 2 ((S.1 0 0 2) + (1 : Int32))), S.2) A Fr []) F clX1 10 (by decide) q145 rfl rfl rfl (pr_put (κ := 0) (i := 0) gM0 hF (upd (S.1 0 0) 2 ((S.1 0 0 2) + (1 : Int32))) (by decide) (gc1 (gnl rfl)) (gce (show (gsr (gsr (gsr (gsr (gsr (gsr S.1 8 batch.toNatClampNeg (upd (S.1 8 batch.toNatClampNeg) 9 ((((((1000 : Int32) - (S.1 7 ((S.1 8 batch.toNatClampNeg 0).toNatClampNeg) 2)) * (heat - (600 : Int32))) / (1000 : Int32)) + ((20 : Int32) * (S.1 7 ((S.1 8 batch.toNatClampNeg 0).toNatClampNeg) 3))) + ((5 : Int32) * hours)))) 8 batch.toNatClampNeg (upd (upd (S.1 8 batch.toNatClampNeg) 9 ((((((1000 : Int32) - (S.1 7 ((S.1 8 batch.toNatClampNeg 0).toNatClampNeg) 2)) * (heat - (600 : Int32))) / (1000 : Int32)) + ((20 : Int32) * (S.1 7 ((S.1 8 batch.toNatClampNeg 0).toNatClampNeg) 3))) + ((5 : Int32) * hours))) 10 (gmax (0 : Int32) (gmin (999 : Int32) (((S.1 7 ((S.1 8 batch.toNatClampNeg 0).toNatClampNeg) 2) - ((heat - (700 : Int32)) / (10 : Int32))) + ((5 : Int32) * (S.1 7 ((S.1 8 batch.toNatClampNeg 0).toNatClampNeg) 3))))))) 8 batch.toNatClampNeg (upd (upd (upd (S.1 8 batch.toNatClampNeg) 9 ((((((1000 : Int32) - (S.1 7 ((S.1 8 batch.toNatClampNeg 0).toNatClampNeg) 2)) * (heat - (600 : Int32))) / (1000 : Int32)) + ((20 : Int32) * (S.1 7 ((S.1 8 batch.toNatClampNeg 0).toNatClampNeg) 3))) + ((5 : Int32) * hours))) 10 (gmax (0 : Int32) (gmin (999 : Int32) (((S.1 7 ((S.1 8 batch.toNatClampNeg 0).toNatClampNeg) 2) - ((heat - (700 : Int32)) / (10 : Int32))) + ((5 : Int32) * (S.1 7 ((S.1 8 batch.toNatClampNeg 0).toNatClampNeg) 3)))))) 7 kiln)) 8 batch.toNatClampNeg (upd (upd (upd (upd (S.1 8 batch.toNatClampNeg) 9 ((((((1000 : Int32) - (S.1 7 ((S.1 8 batch.toNatClampNeg 0).toNatClampNeg) 2)) * (heat - (600 : Int32))) / (1000 : Int32)) + ((20 : Int32) * (S.1 7 ((S.1 8 batch.toNatClampNeg 0).toNatClampNeg) 3))) + ((5 : Int32) * hours))) 10 (gmax (0 : Int32) (gmin (999 : Int32) (((S.1 7 ((S.1 8 batch.toNatClampNeg 0).toNatClampNeg) 2) - ((heat - (700 : Int32)) / (10 : Int32))) + ((5 : Int32) * (S.1 7 ((S.1 8 batch.toNatClampNeg 0).toNatClampNeg) 3)))))) 7 kiln) 6 (S.1 0 0 2))) 8 batch.toNatClampNeg (upd (upd (upd (upd (upd (S.1 8 batch.toNatClampNeg) 9 ((((((1000 : Int32) - (S.1 7 ((S.1 8 batch.toNatClampNeg 0).toNatClampNeg) 2)) * (heat - (600 : Int32))) / (1000 : Int32)) + ((20 : Int32) * (S.1 7 ((S.1 8 batch.toNatClampNeg 0).toNatClampNeg) 3))) + ((5 : Int32) * hours))) 10 (gmax (0 : Int32) (gmin (999 : Int32) (((S.1 7 ((S.1 8 batch.toNatClampNeg 0).toNatClampNeg) 2) - ((heat - (700 : Int32)) / (10 : Int32))) + ((5 : Int32) * (S.1 7 ((S.1 8 batch.toNatClampNeg 0).toNatClampNeg) 3)))))) 7 kiln) 6 (S.1 0 0 2)) 4 ((S.1 0 0 0) + hours))) 4 0 (upd (S.1 4 0) kiln.toNatClampNeg ((S.1 0 0 0) + hours))) 0 0 = S.1 0 0 from (gsr_p (by decide) (gsr_p (by decide) (gsr_p (by decide) (gsr_p (by decide) (gsr_p (by decide) (gsr_p (by decide) rfl))))))) rfl) (gnl rfl) rfl) dX1_fire_248 ?_
      refine g_aload F 1 rfl dX1_fire_251 ?_
      refine g_getN F clX9 8 (by decide) (gT_w q898 rfl) (v := .int (S.1 0 0 2)) (gd_get (pr_at (κ := 8) (i := batch.toNatClampNeg) (by decide) (gc6 (by decide) c_1.2) (gce (show (gsr (gsr (gsr (gsr (gsr (gsr (gsr S.1 8 batch.toNatClampNeg (upd (S.1 8 batch.toNatClampNeg) 9 ((((((1000 : Int32) - (S.1 7 ((S.1 8 batch.toNatClampNeg 0).toNatClampNeg) 2)) * (heat - (600 : Int32))) / (1000 : Int32)) + ((20 : Int32) * (S.1 7 ((S.1 8 batch.toNatClampNeg 0).toNatClampNeg) 3))) + ((5 : Int32) * hours)))) 8 batch.toNatClampNeg (upd (upd (S.1 8 batch.toNatClampNeg) 9 ((((((1000 : Int32) - (S.1 7 ((S.1 8 batch.toNatClampNeg 0).toNatClampNeg) 2)) * (heat - (600 : Int32))) / (1000 : Int32)) + ((20 : Int32) * (S.1 7 ((S.1 8 batch.toNatClampNeg 0).toNatClampNeg) 3))) + ((5 : Int32) * hours))) 10 (gmax (0 : Int32) (gmin (999 : Int32) (((S.1 7 ((S.1 8 batch.toNatClampNeg 0).toNatClampNeg) 2) - ((heat - (700 : Int32)) / (10 : Int32))) + ((5 : Int32) * (S.1 7 ((S.1 8 batch.toNatClampNeg 0).toNatClampNeg) 3))))))) 8 batch.toNatClampNeg (upd (upd (upd (S.1 8 batch.toNatClampNeg) 9 ((((((1000 : Int32) - (S.1 7 ((S.1 8 batch.toNatClampNeg 0).toNatClampNeg) 2)) * (heat - (600 : Int32))) / (1000 : Int32)) + ((20 : Int32) * (S.1 7 ((S.1 8 batch.toNatClampNeg 0).toNatClampNeg) 3))) + ((5 : Int32) * hours))) 10 (gmax (0 : Int32) (gmin (999 : Int32) (((S.1 7 ((S.1 8 batch.toNatClampNeg 0).toNatClampNeg) 2) - ((heat - (700 : Int32)) / (10 : Int32))) + ((5 : Int32) * (S.1 7 ((S.1 8 batch.toNatClampNeg 0).toNatClampNeg) 3)))))) 7 kiln)) 8 batch.toNatClampNeg (upd (upd (upd (upd (S.1 8 batch.toNatClampNeg) 9 ((((((1000 : Int32) - (S.1 7 ((S.1 8 batch.toNatClampNeg 0).toNatClampNeg) 2)) * (heat - (600 : Int32))) / (1000 : Int32)) + ((20 : Int32) * (S.1 7 ((S.1 8 batch.toNatClampNeg 0).toNatClampNeg) 3))) + ((5 : Int32) * hours))) 10 (gmax (0 : Int32) (gmin (999 : Int32) (((S.1 7 ((S.1 8 batch.toNatClampNeg 0).toNatClampNeg) 2) - ((heat - (700 : Int32)) / (10 : Int32))) + ((5 : Int32) * (S.1 7 ((S.1 8 batch.toNatClampNeg 0).toNatClampNeg) 3)))))) 7 kiln) 6 (S.1 0 0 2))) 8 batch.toNatClampNeg (upd (upd (upd (upd (upd (S.1 8 batch.toNatClampNeg) 9 ((((((1000 : Int32) - (S.1 7 ((S.1 8 batch.toNatClampNeg 0).toNatClampNeg) 2)) * (heat - (600 : Int32))) / (1000 : Int32)) + ((20 : Int32) * (S.1 7 ((S.1 8 batch.toNatClampNeg 0).toNatClampNeg) 3))) + ((5 : Int32) * hours))) 10 (gmax (0 : Int32) (gmin (999 : Int32) (((S.1 7 ((S.1 8 batch.toNatClampNeg 0).toNatClampNeg) 2) - ((heat - (700 : Int32)) / (10 : Int32))) + ((5 : Int32) * (S.1 7 ((S.1 8 batch.toNatClampNeg 0).toNatClampNeg) 3)))))) 7 kiln) 6 (S.1 0 0 2)) 4 ((S.1 0 0 0) + hours))) 4 0 (upd (S.1 4 0) kiln.toNatClampNeg ((S.1 0 0 0) + hours))) 0 0 (upd (S.1 0 0) 2 ((S.1 0 0 2) + (1 : Int32)))) 8 batch.toNatClampNeg = upd (upd (upd (upd (upd (S.1 8 batch.toNatClampNeg) 9 ((((((1000 : Int32) - (S.1 7 ((S.1 8 batch.toNatClampNeg 0).toNatClampNeg) 2)) * (heat - (600 : Int32))) / (1000 : Int32)) + ((20 : Int32) * (S.1 7 ((S.1 8 batch.toNatClampNeg 0).toNatClampNeg) 3))) + ((5 : Int32) * hours))) 10 (gmax (0 : Int32) (gmin (999 : Int32) (((S.1 7 ((S.1 8 batch.toNatClampNeg 0).toNatClampNeg) 2) - ((heat - (700 : Int32)) / (10 : Int32))) + ((5 : Int32) * (S.1 7 ((S.1 8 batch.toNatClampNeg 0).toNatClampNeg) 3)))))) 7 kiln) 6 (S.1 0 0 2)) 4 ((S.1 0 0 0) + hours) from (gsr_p (by decide) (gsr_p (by decide) gsr_s))) rfl)) rfl) dX1_fire_253 ?_
      exact g_retI F E rfl rfl (gle rfl) (gle rfl) dX1_fire_256 (fun _ hp => ⟨_, _, ((if_pos c_1).trans ((if_pos c_9).trans (if_pos c_15))), rfl, gPE_0 _ hp⟩)
    refine g_if_eq F (tgt := 117) (by decide) dX1_fire_77 (fun c_10 => ?_) (fun c_10 => ?_)
    · skip
      refine g_iconst F (v := (0 : Int32)) (by decide) dX1_fire_117 ?_
      exact g_top (gb_f (fun q => q.1 c_10)) J_14
    · skip
      refine g_aload F 0 rfl dX1_fire_80 ?_
      refine g_aload_n F 1 rfl rfl dX1_fire_82 ?_
      refine g_get F clX1 0 (by decide) q135 (v := .int (S.1 0 0 0)) (gd_get (pr_at (κ := 0) (i := 0) (by decide) (gc1 (gnl rfl)) (gce rfl rfl)) rfl) dX1_fire_83 ?_
      refine g_callV F (kX9_isReady hl (pr_at (κ := 8) (i := batch.toNatClampNeg) (by decide) (gc6 (by decide) c_1.2) (gce rfl rfl))) (g_recv F clX9 (gd_obj (pr_at (κ := 8) (i := batch.toNatClampNeg) (by decide) (gc6 (by decide) c_1.2) (gce rfl rfl)))) q958 q959 q960 q47 q961 myX9_isReady ⟨by decide, by decide⟩ rfl rfl (gle rfl) 5 15 (gle rfl) (gle rfl) (gle rfl) (gle rfl) dX1_fire_86 gx_n (gv_i ?_)
      refine gb_if_eq F (tgt := 117) (by decide) dX1_fire_89 (fun c_11 => ?_) (fun c_11 => ?_)
      · skip
        refine g_iconst F (v := (0 : Int32)) (by decide) dX1_fire_117 ?_
        exact g_top (gb_f (fun q => (fun q => c_11 q.1) q.2)) J_14
      · skip
        refine g_aload F 0 rfl dX1_fire_92 ?_
        refine g_callV F (kX9_isFired hl (pr_at (κ := 8) (i := batch.toNatClampNeg) (by decide) (gc6 (by decide) c_1.2) (gce rfl rfl))) (g_recv F clX9 (gd_obj (pr_at (κ := 8) (i := batch.toNatClampNeg) (by decide) (gc6 (by decide) c_1.2) (gce rfl rfl)))) q962 q963 q964 q47 q965 myX9_isFired ⟨by decide, by decide⟩ rfl rfl (gle rfl) 5 15 (gle rfl) (gle rfl) (gle rfl) (gle rfl) dX1_fire_94 gx_n (gv_i ?_)
        refine gb_if_ne F (tgt := 117) (by decide) dX1_fire_97 (fun c_12 => ?_) (fun c_12 => ?_)
        · skip
          refine g_iconst F (v := (0 : Int32)) (by decide) dX1_fire_117 ?_
          exact g_top (gb_f (fun q => (fun q => (fun q => q.1 c_12) q.2) q.2)) J_14
        · skip
          refine g_aload_n F 1 rfl rfl dX1_fire_100 ?_
          refine g_get F clX1 0 (by decide) q135 (v := .int (S.1 0 0 0)) (gd_get (pr_at (κ := 0) (i := 0) (by decide) (gc1 (gnl rfl)) (gce rfl rfl)) rfl) dX1_fire_101 ?_
          refine g_aload_n F 1 rfl rfl dX1_fire_104 ?_
          refine g_get F clX1 5 (by decide) q140 (v := .ref (A 4 0)) (gd_get (pr_at (κ := 0) (i := 0) (by decide) (gc1 (gnl rfl)) (gce rfl rfl)) rfl) dX1_fire_105 ?_
          refine g_iload_n F 3 rfl rfl dX1_fire_108 ?_
          refine g_iald F (gvp (K := (1 : Int32)) (by decide) ⟨c_9.1.1, c_9.1.2⟩) (pr_at (κ := 4) (i := 0) (by decide) (gc1 (gnl rfl)) (gce rfl rfl)) dX1_fire_109 ?_
          change gW _ _ _ _ (.int (S.1 4 0 kiln.toNatClampNeg) :: _) _ _
          refine g_icmp_lt F (tgt := 117) (by decide) dX1_fire_110 (fun c_13 => ?_) (fun c_13 => ?_)
          · skip
            refine g_iconst F (v := (0 : Int32)) (by decide) dX1_fire_117 ?_
            exact g_top (gb_f (fun q => (fun q => (fun q => (fun q => q c_13) q.2) q.2) q.2)) J_14
          · skip
            refine g_iconst F (v := (1 : Int32)) (by decide) dX1_fire_113 ?_
            refine g_goto F (tgt := 118) (by decide) dX1_fire_114 ?_
            exact g_top (gb_t (⟨c_10, ⟨c_11, ⟨c_12, c_13⟩⟩⟩)) J_14
  refine gb_if_eq F (tgt := 68) (by decide) dX1_fire_25 (fun c_3 => ?_) (fun c_3 => ?_)
  · skip
    refine g_iconst F (v := (0 : Int32)) (by decide) dX1_fire_68 ?_
    exact g_widen (by decide) (by decide) <| g_top (gb_f (fun q => c_3 q.1)) J_8
  · skip
    refine g_sipush F (v := (700 : Int32)) (by decide) dX1_fire_28 ?_
    refine g_sipush F (v := (1200 : Int32)) (by decide) dX1_fire_31 ?_
    refine g_iconst F (v := (1 : Int32)) (by decide) dX1_fire_34 ?_
    refine g_newI F (5000, 0) (N := 1) rfl (by decide) 3 8 (gle rfl) (gle rfl) (gle rfl) (gle rfl) (Pa := fun a_4 => gP 0 G S A Fr [(a_4, gIA G 1 (fun _ => 0))]) (pr_new hF) dX1_fire_35 (fun a_4 => ?_)
    refine g_dup F rfl dX1_fire_37 ?_
    refine g_iconst F (v := (0 : Int32)) (by decide) dX1_fire_38 ?_
    refine g_iload_n F 4 rfl rfl dX1_fire_39 ?_
    refine g_iastN (P2 := gP 0 G S A Fr [(a_4, gIA G 1 (upd (fun _ => 0) 0 heat))]) F (m := 0) rfl (by decide) (by decide) (pr_setT gM0 hF (j := 0) rfl) dX1_fire_40 ?_
    refine g_callS F (kX1_isIn hl (pr_atT (j := 0) rfl)) (lw_S q305 q306 q18 q307) myX1_isIn ⟨by decide, by decide⟩ rfl rfl (gle rfl) 3 8 (gle rfl) (gle rfl) (gle rfl) (gle rfl) dX1_fire_41 gx_n (gv_i ?_)
    refine g_top (show _ = gb (¬ heat < (700 : Int32) ∧ ¬ (1200 : Int32) < heat) from rfl) ?_
    refine g_mono (P2 := gP 0 G S A Fr []) (fun _ hp => gP_Tl 0 hp) ?_
    refine gb_if_eq F (tgt := 68) (by decide) dX1_fire_44 (fun c_5 => ?_) (fun c_5 => ?_)
    · skip
      refine g_iconst F (v := (0 : Int32)) (by decide) dX1_fire_68 ?_
      exact g_widen (by decide) (by decide) <| g_top (gb_f (fun q => (fun q => c_5 q.1) q.2)) J_8
    · skip
      refine g_iconst F (v := (1 : Int32)) (by decide) dX1_fire_47 ?_
      refine g_bipush F (v := (12 : Int32)) (by decide) dX1_fire_48 ?_
      refine g_iconst F (v := (1 : Int32)) (by decide) dX1_fire_50 ?_
      refine g_newI F (5000, 0) (N := 1) rfl (by decide) 4 9 (gle rfl) (gle rfl) (gle rfl) (gle rfl) (Pa := fun a_6 => gP 0 G S A Fr [(a_6, gIA G 1 (fun _ => 0))]) (pr_new hF) dX1_fire_51 (fun a_6 => ?_)
      refine g_dup F rfl dX1_fire_53 ?_
      refine g_iconst F (v := (0 : Int32)) (by decide) dX1_fire_54 ?_
      refine g_iload F 5 rfl dX1_fire_55 ?_
      refine g_iastN (P2 := gP 0 G S A Fr [(a_6, gIA G 1 (upd (fun _ => 0) 0 hours))]) F (m := 0) rfl (by decide) (by decide) (pr_setT gM0 hF (j := 0) rfl) dX1_fire_57 ?_
      refine g_callS F (kX1_isIn hl (pr_atT (j := 0) rfl)) (lw_S q305 q306 q18 q307) myX1_isIn ⟨by decide, by decide⟩ rfl rfl (gle rfl) 4 9 (gle rfl) (gle rfl) (gle rfl) (gle rfl) dX1_fire_58 gx_n (gv_i ?_)
      refine g_top (show _ = gb (¬ hours < (1 : Int32) ∧ ¬ (12 : Int32) < hours) from rfl) ?_
      refine g_mono (P2 := gP 0 G S A Fr []) (fun _ hp => gP_Tl 0 hp) ?_
      refine gb_if_eq F (tgt := 68) (by decide) dX1_fire_61 (fun c_7 => ?_) (fun c_7 => ?_)
      · skip
        refine g_iconst F (v := (0 : Int32)) (by decide) dX1_fire_68 ?_
        exact g_top (gb_f (fun q => (fun q => c_7 q.2) q.2)) J_8
      · skip
        refine g_iconst F (v := (1 : Int32)) (by decide) dX1_fire_64 ?_
        refine g_goto F (tgt := 69) (by decide) dX1_fire_65 ?_
        exact g_top (gb_t (⟨c_3, ⟨c_5, c_7⟩⟩)) J_8

def sC_dry (S : gS) (batch speed : Int32) : gO := if gIn batch (S.2 8) then (if ¬ speed < (1 : Int32) ∧ ¬ (5 : Int32) < speed then (if (S.1 8 batch.toNatClampNeg 5) = 0 then (.inr (.int ((S.1 0 0 0) + ((((18 : Int32) + speed) - (1 : Int32)) / speed)), (gsr (gsr (gsr (gsr S.1 8 batch.toNatClampNeg (upd (S.1 8 batch.toNatClampNeg) 5 (1 : Int32))) 8 batch.toNatClampNeg (upd (upd (S.1 8 batch.toNatClampNeg) 5 (1 : Int32)) 4 ((S.1 0 0 0) + ((((18 : Int32) + speed) - (1 : Int32)) / speed)))) 8 batch.toNatClampNeg (upd (upd (upd (S.1 8 batch.toNatClampNeg) 5 (1 : Int32)) 4 ((S.1 0 0 0) + ((((18 : Int32) + speed) - (1 : Int32)) / speed))) 2 ((((S.1 8 batch.toNatClampNeg 1) * (speed - (1 : Int32))) * ((10 : Int32) - (S.1 7 ((S.1 8 batch.toNatClampNeg 0).toNatClampNeg) 3))) / (500 : Int32)))) 8 batch.toNatClampNeg (upd (upd (upd (upd (S.1 8 batch.toNatClampNeg) 5 (1 : Int32)) 4 ((S.1 0 0 0) + ((((18 : Int32) + speed) - (1 : Int32)) / speed))) 2 ((((S.1 8 batch.toNatClampNeg 1) * (speed - (1 : Int32))) * ((10 : Int32) - (S.1 7 ((S.1 8 batch.toNatClampNeg 0).toNatClampNeg) 3))) / (500 : Int32))) 1 ((S.1 8 batch.toNatClampNeg 1) - ((((S.1 8 batch.toNatClampNeg 1) * (speed - (1 : Int32))) * ((10 : Int32) - (S.1 7 ((S.1 8 batch.toNatClampNeg 0).toNatClampNeg) 3))) / (500 : Int32)))), S.2))) else (.inl "java/lang/UnsupportedOperationException")) else (.inl "java/lang/IllegalArgumentException")) else (.inl "java/lang/IndexOutOfBoundsException")
theorem kX1_dry {l : Launch} {G : gG} (hl : l.stackTraces = false) {S : gS} {a0 : Nat} {Fr : gH → Prop} (hF : gFr 0 Fr) (hW : gWf S) {batch speed : Int32}  : gMet l yX1_dry (ws_ yX1_dry cX1_dry 4 (some .int)) ⟨8, 4, 19, 123⟩ G [.ref a0, .int batch, .int speed] (gPE 0 G S a0 Fr) (gqS (sC_dry S batch speed) 0 G a0 Fr) (gxS (sC_dry S batch speed) 0 G S a0 Fr) := by
  refine gMet_of hl pnX1 (gle rfl) (fun X Q hX F E hNm => ?_)
  subst hX
  change gW (X, G, 4, Q) (gPE 0 G S a0 Fr) [(0, .ref a0), (1, .int batch), (2, .int speed)] 0 [] 0 0
  refine g_pe (fun A hA => ?_)
  subst hA
  change gW _ _ [(0, .ref (A 0 0)), (1, .int batch), (2, .int speed)] 0 [] 0 0
  refine g_aload_n F 0 rfl rfl dX1_dry_0 ?_
  refine g_get F clX1 9 (by decide) q144 (v := .ref (A 308 0)) (gd_get (pr_at (κ := 0) (i := 0) (by decide) (gc1 (gnl rfl)) (gce rfl rfl)) rfl) dX1_dry_1 ?_
  refine g_iload_n F 1 rfl rfl dX1_dry_4 ?_
  refine g_callS F (kX1_require hl (pr_ls (κ := 8) (by decide) (Or.inl ⟨by decide, by decide⟩) (fun q => by first | decide | exact absurd q (by decide)) (fun q => by first | decide | exact absurd q (by decide))) (gw_n hW _) (x := batch)) (lw_S q784 q785 q18 q786) myX1_require ⟨by decide, by decide⟩ rfl rfl (gle rfl) 1 6 (gle rfl) (gle rfl) (gle rfl) (gle rfl) dX1_dry_5 (gx_1 (fun c_1 => g_out0 F E (gle rfl) (gle rfl) (fun _ hp => ⟨(if_neg c_1), gPE_0 _ hp⟩))) (gv_y (fun c_1 => ?_))
  refine g_castS F (g_recv F clX9 (gd_obj (pr_at (κ := 8) (i := batch.toNatClampNeg) (by decide) (gc6 (by decide) c_1.2) (gce rfl rfl)))) q295 dX1_dry_8 ?_
  refine g_astore_n F rfl (by show 3 < 4; decide) (lv2 := [(3, .ref (A 8 batch.toNatClampNeg)), (0, .ref (A 0 0)), (1, .int batch), (2, .int speed)]) rfl dX1_dry_11 ?_
  refine g_iconst F (v := (1 : Int32)) (by decide) dX1_dry_12 ?_
  refine g_iconst F (v := (5 : Int32)) (by decide) dX1_dry_13 ?_
  refine g_iconst F (v := (1 : Int32)) (by decide) dX1_dry_14 ?_
  refine g_newI F (5000, 0) (N := 1) rfl (by decide) 2 7 (gle rfl) (gle rfl) (gle rfl) (gle rfl) (Pa := fun a_2 => gP 0 G S A Fr [(a_2, gIA G 1 (fun _ => 0))]) (pr_new hF) dX1_dry_15 (fun a_2 => ?_)
  refine g_dup F rfl dX1_dry_17 ?_
  refine g_iconst F (v := (0 : Int32)) (by decide) dX1_dry_18 ?_
  refine g_iload_n F 3 rfl rfl dX1_dry_19 ?_
  refine g_iastN (P2 := gP 0 G S A Fr [(a_2, gIA G 1 (upd (fun _ => 0) 0 speed))]) F (m := 0) rfl (by decide) (by decide) (pr_setT gM0 hF (j := 0) rfl) dX1_dry_20 ?_
  refine g_callS F (kX1_isIn hl (pr_atT (j := 0) rfl)) (lw_S q305 q306 q18 q307) myX1_isIn ⟨by decide, by decide⟩ rfl rfl (gle rfl) 2 7 (gle rfl) (gle rfl) (gle rfl) (gle rfl) dX1_dry_21 gx_n (gv_i ?_)
  refine g_top (show _ = gb (¬ speed < (1 : Int32) ∧ ¬ (5 : Int32) < speed) from rfl) ?_
  refine g_mono (P2 := gP 0 G S A Fr []) (fun _ hp => gP_Tl 0 hp) ?_
  refine g_callS F (kX1_requireArgument hl (c := ¬ speed < (1 : Int32) ∧ ¬ (5 : Int32) < speed)) (lw_S q335 q336 q18 q337) myX1_requireArgument ⟨by decide, by decide⟩ rfl rfl (gle rfl) 3 13 (gle rfl) (gle rfl) (gle rfl) (gle rfl) dX1_dry_24 (gx_1 (fun c_3 => g_out0 F E (gle rfl) (gle rfl) (fun _ hp => ⟨((if_pos c_1).trans (if_neg c_3)), gPE_0 _ hp⟩))) (gv_c (fun c_3 => ?_))
  refine g_aload_n F 0 rfl rfl dX1_dry_27 ?_
  refine g_getN F clX9 6 (by decide) (gT_w q895 rfl) (v := .int (S.1 8 batch.toNatClampNeg 5)) (gd_get (pr_at (κ := 8) (i := batch.toNatClampNeg) (by decide) (gc6 (by decide) c_1.2) (gce rfl rfl)) rfl) dX1_dry_28 ?_
  have J_5 : gW (X, G, 4, Q) (gP 0 G S A Fr []) [(3, .ref (A 8 batch.toNatClampNeg)), (0, .ref (A 0 0)), (1, .int batch), (2, .int speed)] 39 [.int (gb ((S.1 8 batch.toNatClampNeg 5) = 0))] 3 13 := by
    refine g_callS F (kX1_requireSupported hl (c := (S.1 8 batch.toNatClampNeg 5) = 0)) (lw_S q512 q513 q18 q514) myX1_requireSupported ⟨by decide, by decide⟩ rfl rfl (gle rfl) 4 19 (gle rfl) (gle rfl) (gle rfl) (gle rfl) dX1_dry_39 (gx_1 (fun c_6 => g_out0 F E (gle rfl) (gle rfl) (fun _ hp => ⟨((if_pos c_1).trans ((if_pos c_3).trans (if_neg c_6))), gPE_0 _ hp⟩))) (gv_c (fun c_6 => ?_))
    refine g_aload_n F 0 rfl rfl dX1_dry_42 ?_
    refine g_iconst F (v := (1 : Int32)) (by decide) dX1_dry_43 ?_
    refine g_putN (P2 := gP 0 G (gsr S.1 8 batch.toNatClampNeg (upd (S.1 8 batch.toNatClampNeg) 5 (1 : Int32)), S.2) A Fr []) F clX9 6 (by decide) (gT_w q895 rfl) rfl rfl rfl (pr_put (κ := 8) (i := batch.toNatClampNeg) gM0 hF (upd (S.1 8 batch.toNatClampNeg) 5 (1 : Int32)) (by decide) (gc6 (by decide) c_1.2) (gce rfl rfl) (gnl rfl) rfl) dX1_dry_44 ?_
    refine g_aload_n F 0 rfl rfl dX1_dry_47 ?_
    refine g_aload_n F 1 rfl rfl dX1_dry_48 ?_
    refine g_get F clX1 0 (by decide) q135 (v := .int (S.1 0 0 0)) (gd_get (pr_at (κ := 0) (i := 0) (by decide) (gc1 (gnl rfl)) (gce (show (gsr S.1 8 batch.toNatClampNeg (upd (S.1 8 batch.toNatClampNeg) 5 (1 : Int32))) 0 0 = S.1 0 0 from (gsr_p (by decide) rfl)) rfl)) rfl) dX1_dry_49 ?_
    refine g_bipush F (v := (18 : Int32)) (by decide) dX1_dry_52 ?_
    refine g_iload_n F 3 rfl rfl dX1_dry_54 ?_
    refine g_iadd F dX1_dry_55 ?_
    refine g_iconst F (v := (1 : Int32)) (by decide) dX1_dry_56 ?_
    refine g_isub F dX1_dry_57 ?_
    refine g_iload_n F 3 rfl rfl dX1_dry_58 ?_
    refine g_idiv F (gnz1 c_3.1) dX1_dry_59 ?_
    refine g_iadd F dX1_dry_60 ?_
    refine g_putN (P2 := gP 0 G (gsr (gsr S.1 8 batch.toNatClampNeg (upd (S.1 8 batch.toNatClampNeg) 5 (1 : Int32))) 8 batch.toNatClampNeg (upd (upd (S.1 8 batch.toNatClampNeg) 5 (1 : Int32)) 4 ((S.1 0 0 0) + ((((18 : Int32) + speed) - (1 : Int32)) / speed))), S.2) A Fr []) F clX9 5 (by decide) (gT_w q894 rfl) rfl rfl rfl (pr_put (κ := 8) (i := batch.toNatClampNeg) gM0 hF (upd (upd (S.1 8 batch.toNatClampNeg) 5 (1 : Int32)) 4 ((S.1 0 0 0) + ((((18 : Int32) + speed) - (1 : Int32)) / speed))) (by decide) (gc6 (by decide) c_1.2) (gce (show (gsr S.1 8 batch.toNatClampNeg (upd (S.1 8 batch.toNatClampNeg) 5 (1 : Int32))) 8 batch.toNatClampNeg = upd (S.1 8 batch.toNatClampNeg) 5 (1 : Int32) from gsr_s) rfl) (gnl rfl) rfl) dX1_dry_61 ?_
    refine g_aload_n F 0 rfl rfl dX1_dry_64 ?_
    refine g_aload_n F 0 rfl rfl dX1_dry_65 ?_
    refine g_getN F clX9 3 (by decide) (gT_w q891 rfl) (v := .int (S.1 8 batch.toNatClampNeg 1)) (gd_get (pr_at (κ := 8) (i := batch.toNatClampNeg) (by decide) (gc6 (by decide) c_1.2) (gce (show (gsr (gsr S.1 8 batch.toNatClampNeg (upd (S.1 8 batch.toNatClampNeg) 5 (1 : Int32))) 8 batch.toNatClampNeg (upd (upd (S.1 8 batch.toNatClampNeg) 5 (1 : Int32)) 4 ((S.1 0 0 0) + ((((18 : Int32) + speed) - (1 : Int32)) / speed)))) 8 batch.toNatClampNeg = upd (upd (S.1 8 batch.toNatClampNeg) 5 (1 : Int32)) 4 ((S.1 0 0 0) + ((((18 : Int32) + speed) - (1 : Int32)) / speed)) from gsr_s) rfl)) rfl) dX1_dry_66 ?_
    refine g_iload_n F 3 rfl rfl dX1_dry_69 ?_
    refine g_iconst F (v := (1 : Int32)) (by decide) dX1_dry_70 ?_
    refine g_isub F dX1_dry_71 ?_
    refine g_imul F dX1_dry_72 ?_
    refine g_bipush F (v := (10 : Int32)) (by decide) dX1_dry_73 ?_
    refine g_aload_n F 0 rfl rfl dX1_dry_75 ?_
    refine g_getN F clX9 1 (by decide) (gT_w q886 rfl) (v := .ref (A 7 (S.1 8 batch.toNatClampNeg 0).toNatClampNeg)) (gd_get (pr_at (κ := 8) (i := batch.toNatClampNeg) (by decide) (gc6 (by decide) c_1.2) (gce (show (gsr (gsr S.1 8 batch.toNatClampNeg (upd (S.1 8 batch.toNatClampNeg) 5 (1 : Int32))) 8 batch.toNatClampNeg (upd (upd (S.1 8 batch.toNatClampNeg) 5 (1 : Int32)) 4 ((S.1 0 0 0) + ((((18 : Int32) + speed) - (1 : Int32)) / speed)))) 8 batch.toNatClampNeg = upd (upd (S.1 8 batch.toNatClampNeg) 5 (1 : Int32)) 4 ((S.1 0 0 0) + ((((18 : Int32) + speed) - (1 : Int32)) / speed)) from gsr_s) rfl)) rfl) dX1_dry_76 ?_
    refine g_getN F clX8 3 (by decide) (gT_w q846 rfl) (v := .int (S.1 7 ((S.1 8 batch.toNatClampNeg 0).toNatClampNeg) 3)) (gd_get (pr_at (κ := 7) (i := (S.1 8 batch.toNatClampNeg 0).toNatClampNeg) (by decide) (gc6 (by decide) (gw_8_0 hW c_1.2).2) (gce (show (gsr (gsr S.1 8 batch.toNatClampNeg (upd (S.1 8 batch.toNatClampNeg) 5 (1 : Int32))) 8 batch.toNatClampNeg (upd (upd (S.1 8 batch.toNatClampNeg) 5 (1 : Int32)) 4 ((S.1 0 0 0) + ((((18 : Int32) + speed) - (1 : Int32)) / speed)))) 7 ((S.1 8 batch.toNatClampNeg 0).toNatClampNeg) = S.1 7 ((S.1 8 batch.toNatClampNeg 0).toNatClampNeg) from (gsr_p (by decide) (gsr_p (by decide) rfl))) rfl)) rfl) dX1_dry_79 ?_
    refine g_isub F dX1_dry_82 ?_
    refine g_imul F dX1_dry_83 ?_
    refine g_sipush F (v := (500 : Int32)) (by decide) dX1_dry_84 ?_
    refine g_idiv F (by decide) dX1_dry_87 ?_
    refine g_putN (P2 := gP 0 G (gsr (gsr (gsr S.1 8 batch.toNatClampNeg (upd (S.1 8 batch.toNatClampNeg) 5 (1 : Int32))) 8 batch.toNatClampNeg (upd (upd (S.1 8 batch.toNatClampNeg) 5 (1 : Int32)) 4 ((S.1 0 0 0) + ((((18 : Int32) + speed) - (1 : Int32)) / speed)))) 8 batch.toNatClampNeg (upd (upd (upd (S.1 8 batch.toNatClampNeg) 5 (1 : Int32)) 4 ((S.1 0 0 0) + ((((18 : Int32) + speed) - (1 : Int32)) / speed))) 2 ((((S.1 8 batch.toNatClampNeg 1) * (speed - (1 : Int32))) * ((10 : Int32) - (S.1 7 ((S.1 8 batch.toNatClampNeg 0).toNatClampNeg) 3))) / (500 : Int32))), S.2) A Fr []) F clX9 4 (by decide) (gT_w q892 rfl) rfl rfl rfl (pr_put (κ := 8) (i := batch.toNatClampNeg) gM0 hF (upd (upd (upd (S.1 8 batch.toNatClampNeg) 5 (1 : Int32)) 4 ((S.1 0 0 0) + ((((18 : Int32) + speed) - (1 : Int32)) / speed))) 2 ((((S.1 8 batch.toNatClampNeg 1) * (speed - (1 : Int32))) * ((10 : Int32) - (S.1 7 ((S.1 8 batch.toNatClampNeg 0).toNatClampNeg) 3))) / (500 : Int32))) (by decide) (gc6 (by decide) c_1.2) (gce (show (gsr (gsr S.1 8 batch.toNatClampNeg (upd (S.1 8 batch.toNatClampNeg) 5 (1 : Int32))) 8 batch.toNatClampNeg (upd (upd (S.1 8 batch.toNatClampNeg) 5 (1 : Int32)) 4 ((S.1 0 0 0) + ((((18 : Int32) + speed) - (1 : Int32)) / speed)))) 8 batch.toNatClampNeg = upd (upd (S.1 8 batch.toNatClampNeg) 5 (1 : Int32)) 4 ((S.1 0 0 0) + ((((18 : Int32) + speed) - (1 : Int32)) / speed)) from gsr_s) rfl) (gnl rfl) rfl) dX1_dry_88 ?_
    refine g_aload_n F 0 rfl rfl dX1_dry_91 ?_
    refine g_dup F rfl dX1_dry_92 ?_
    refine g_getN F clX9 3 (by decide) (gT_w q891 rfl) (v := .int (S.1 8 batch.toNatClampNeg 1)) (gd_get (pr_at (κ := 8) (i := batch.toNatClampNeg) (by decide) (gc6 (by decide) c_1.2) (gce (show (gsr (gsr (gsr S.1 8 batch.toNatClampNeg (upd (S.1 8 batch.toNatClampNeg) 5 (1 : Int32))) 8 batch.toNatClampNeg (upd (upd (S.1 8 batch.toNatClampNeg) 5 (1 : Int32)) 4 ((S.1 0 0 0) + ((((18 : Int32) + speed) - (1 : Int32)) / speed)))) 8 batch.toNatClampNeg (upd (upd (upd (S.1 8 batch.toNatClampNeg) 5 (1 : Int32)) 4 ((S.1 0 0 0) + ((((18 : Int32) + speed) - (1 : Int32)) / speed))) 2 ((((S.1 8 batch.toNatClampNeg 1) * (speed - (1 : Int32))) * ((10 : Int32) - (S.1 7 ((S.1 8 batch.toNatClampNeg 0).toNatClampNeg) 3))) / (500 : Int32)))) 8 batch.toNatClampNeg = upd (upd (upd (S.1 8 batch.toNatClampNeg) 5 (1 : Int32)) 4 ((S.1 0 0 0) + ((((18 : Int32) + speed) - (1 : Int32)) / speed))) 2 ((((S.1 8 batch.toNatClampNeg 1) * (speed - (1 : Int32))) * ((10 : Int32) - (S.1 7 ((S.1 8 batch.toNatClampNeg 0).toNatClampNeg) 3))) / (500 : Int32)) from gsr_s) rfl)) rfl) dX1_dry_93 ?_
    refine g_aload_n F 0 rfl rfl dX1_dry_96 ?_
    refine g_getN F clX9 4 (by decide) (gT_w q892 rfl) (v := .int ((((S.1 8 batch.toNatClampNeg 1) * (speed - (1 : Int32))) * ((10 : Int32) - (S.1 7 ((S.1 8 batch.toNatClampNeg 0).toNatClampNeg) 3))) / (500 : Int32))) (gd_get (pr_at (κ := 8) (i := batch.toNatClampNeg) (by decide) (gc6 (by decide) c_1.2) (gce (show (gsr (gsr (gsr S.1 8 batch.toNatClampNeg (upd (S.1 8 batch.toNatClampNeg) 5 (1 : Int32))) 8 batch.toNatClampNeg (upd (upd (S.1 8 batch.toNatClampNeg) 5 (1 : Int32)) 4 ((S.1 0 0 0) + ((((18 : Int32) + speed) - (1 : Int32)) / speed)))) 8 batch.toNatClampNeg (upd (upd (upd (S.1 8 batch.toNatClampNeg) 5 (1 : Int32)) 4 ((S.1 0 0 0) + ((((18 : Int32) + speed) - (1 : Int32)) / speed))) 2 ((((S.1 8 batch.toNatClampNeg 1) * (speed - (1 : Int32))) * ((10 : Int32) - (S.1 7 ((S.1 8 batch.toNatClampNeg 0).toNatClampNeg) 3))) / (500 : Int32)))) 8 batch.toNatClampNeg = upd (upd (upd (S.1 8 batch.toNatClampNeg) 5 (1 : Int32)) 4 ((S.1 0 0 0) + ((((18 : Int32) + speed) - (1 : Int32)) / speed))) 2 ((((S.1 8 batch.toNatClampNeg 1) * (speed - (1 : Int32))) * ((10 : Int32) - (S.1 7 ((S.1 8 batch.toNatClampNeg 0).toNatClampNeg) 3))) / (500 : Int32)) from gsr_s) rfl)) rfl) dX1_dry_97 ?_
    refine g_isub F dX1_dry_100 ?_
    refine g_putN (P2 := gP 0 G (gsr (gsr (gsr (gsr S.1 8 batch.toNatClampNeg (upd (S.1 8 batch.toNatClampNeg) 5 (1 : Int32))) 8 batch.toNatClampNeg (upd (upd (S.1 8 batch.toNatClampNeg) 5 (1 : Int32)) 4 ((S.1 0 0 0) + ((((18 : Int32) + speed) - (1 : Int32)) / speed)))) 8 batch.toNatClampNeg (upd (upd (upd (S.1 8 batch.toNatClampNeg) 5 (1 : Int32)) 4 ((S.1 0 0 0) + ((((18 : Int32) + speed) - (1 : Int32)) / speed))) 2 ((((S.1 8 batch.toNatClampNeg 1) * (speed - (1 : Int32))) * ((10 : Int32) - (S.1 7 ((S.1 8 batch.toNatClampNeg 0).toNatClampNeg) 3))) / (500 : Int32)))) 8 batch.toNatClampNeg (upd (upd (upd (upd (S.1 8 batch.toNatClampNeg) 5 (1 : Int32)) 4 ((S.1 0 0 0) + ((((18 : Int32) + speed) - (1 : Int32)) / speed))) 2 ((((S.1 8 batch.toNatClampNeg 1) * (speed - (1 : Int32))) * ((10 : Int32) - (S.1 7 ((S.1 8 batch.toNatClampNeg 0).toNatClampNeg) 3))) / (500 : Int32))) 1 ((S.1 8 batch.toNatClampNeg 1) - ((((S.1 8 batch.toNatClampNeg 1) * (speed - (1 : Int32))) * ((10 : Int32) - (S.1 7 ((S.1 8 batch.toNatClampNeg 0).toNatClampNeg) 3))) / (500 : Int32)))), S.2) A Fr []) F clX9 3 (by decide) (gT_w q891 rfl) rfl rfl rfl (pr_put (κ := 8) (i := batch.toNatClampNeg) gM0 hF (upd (upd (upd (upd (S.1 8 batch.toNatClampNeg) 5 (1 : Int32)) 4 ((S.1 0 0 0) + ((((18 : Int32) + speed) - (1 : Int32)) / speed))) 2 ((((S.1 8 batch.toNatClampNeg 1) * (speed - (1 : Int32))) * ((10 : Int32) - (S.1 7 ((S.1 8 batch.toNatClampNeg 0).toNatClampNeg) 3))) / (500 : Int32))) 1 ((S.1 8 batch.toNatClampNeg 1) - ((((S.1 8 batch.toNatClampNeg 1) * (speed - (1 : Int32))) * ((10 : Int32) - (S.1 7 ((S.1 8 batch.toNatClampNeg 0).toNatClampNeg) 3))) / (500 : Int32)))) (by decide) (gc6 (by decide) c_1.2) (gce (show (gsr (gsr (gsr S.1 8 batch.toNatClampNeg (upd (S.1 8 batch.toNatClampNeg) 5 (1 : Int32))) 8 batch.toNatClampNeg (upd (upd (S.1 8 batch.toNatClampNeg) 5 (1 : Int32)) 4 ((S.1 0 0 0) + ((((18 : Int32) + speed) - (1 : Int32)) / speed)))) 8 batch.toNatClampNeg (upd (upd (upd (S.1 8 batch.toNatClampNeg) 5 (1 : Int32)) 4 ((S.1 0 0 0) + ((((18 : Int32) + speed) - (1 : Int32)) / speed))) 2 ((((S.1 8 batch.toNatClampNeg 1) * (speed - (1 : Int32))) * ((10 : Int32) - (S.1 7 ((S.1 8 batch.toNatClampNeg 0).toNatClampNeg) 3))) / (500 : Int32)))) 8 batch.toNatClampNeg = upd (upd (upd (S.1 8 batch.toNatClampNeg) 5 (1 : Int32)) 4 ((S.1 0 0 0) + ((((18 : Int32) + speed) - (1 : Int32)) / speed))) 2 ((((S.1 8 batch.toNatClampNeg 1) * (speed - (1 : Int32))) * ((10 : Int32) - (S.1 7 ((S.1 8 batch.toNatClampNeg 0).toNatClampNeg) 3))) / (500 : Int32)) from gsr_s) rfl) (gnl rfl) rfl) dX1_dry_101 ?_
    refine g_aload_n F 0 rfl rfl dX1_dry_104 ?_
    refine g_getN F clX9 5 (by decide) (gT_w q894 rfl) (v := .int ((S.1 0 0 0) + ((((18 : Int32) + speed) - (1 : Int32)) / speed))) (gd_get (pr_at (κ := 8) (i := batch.toNatClampNeg) (by decide) (gc6 (by decide) c_1.2) (gce (show (gsr (gsr (gsr (gsr S.1 8 batch.toNatClampNeg (upd (S.1 8 batch.toNatClampNeg) 5 (1 : Int32))) 8 batch.toNatClampNeg (upd (upd (S.1 8 batch.toNatClampNeg) 5 (1 : Int32)) 4 ((S.1 0 0 0) + ((((18 : Int32) + speed) - (1 : Int32)) / speed)))) 8 batch.toNatClampNeg (upd (upd (upd (S.1 8 batch.toNatClampNeg) 5 (1 : Int32)) 4 ((S.1 0 0 0) + ((((18 : Int32) + speed) - (1 : Int32)) / speed))) 2 ((((S.1 8 batch.toNatClampNeg 1) * (speed - (1 : Int32))) * ((10 : Int32) - (S.1 7 ((S.1 8 batch.toNatClampNeg 0).toNatClampNeg) 3))) / (500 : Int32)))) 8 batch.toNatClampNeg (upd (upd (upd (upd (S.1 8 batch.toNatClampNeg) 5 (1 : Int32)) 4 ((S.1 0 0 0) + ((((18 : Int32) + speed) - (1 : Int32)) / speed))) 2 ((((S.1 8 batch.toNatClampNeg 1) * (speed - (1 : Int32))) * ((10 : Int32) - (S.1 7 ((S.1 8 batch.toNatClampNeg 0).toNatClampNeg) 3))) / (500 : Int32))) 1 ((S.1 8 batch.toNatClampNeg 1) - ((((S.1 8 batch.toNatClampNeg 1) * (speed - (1 : Int32))) * ((10 : Int32) - (S.1 7 ((S.1 8 batch.toNatClampNeg 0).toNatClampNeg) 3))) / (500 : Int32))))) 8 batch.toNatClampNeg = upd (upd (upd (upd (S.1 8 batch.toNatClampNeg) 5 (1 : Int32)) 4 ((S.1 0 0 0) + ((((18 : Int32) + speed) - (1 : Int32)) / speed))) 2 ((((S.1 8 batch.toNatClampNeg 1) * (speed - (1 : Int32))) * ((10 : Int32) - (S.1 7 ((S.1 8 batch.toNatClampNeg 0).toNatClampNeg) 3))) / (500 : Int32))) 1 ((S.1 8 batch.toNatClampNeg 1) - ((((S.1 8 batch.toNatClampNeg 1) * (speed - (1 : Int32))) * ((10 : Int32) - (S.1 7 ((S.1 8 batch.toNatClampNeg 0).toNatClampNeg) 3))) / (500 : Int32))) from gsr_s) rfl)) rfl) dX1_dry_105 ?_
    exact g_retI F E rfl rfl (gle rfl) (gle rfl) dX1_dry_108 (fun _ hp => ⟨_, _, ((if_pos c_1).trans ((if_pos c_3).trans (if_pos c_6))), rfl, gPE_0 _ hp⟩)
  refine g_if_ne F (tgt := 38) (by decide) dX1_dry_31 (fun c_4 => ?_) (fun c_4 => ?_)
  · skip
    refine g_iconst F (v := (0 : Int32)) (by decide) dX1_dry_38 ?_
    exact g_top (gb_f c_4) J_5
  · skip
    refine g_iconst F (v := (1 : Int32)) (by decide) dX1_dry_34 ?_
    refine g_goto F (tgt := 39) (by decide) dX1_dry_35 ?_
    exact g_top (gb_t c_4) J_5

def sC_soak (S : gS) (batch wax : Int32) : gO := if gIn batch (S.2 8) then (if ¬ wax < (1 : Int32) ∧ ¬ (5 : Int32) < wax then (if (¬ ((S.1 8 batch.toNatClampNeg 6) = (-1 : Int32))) ∧ ((¬ ((S.1 0 0 0) < (S.1 8 batch.toNatClampNeg 4))) ∧ ((S.1 8 batch.toNatClampNeg 8) = 0)) then (.inr (.int ((S.1 8 batch.toNatClampNeg 9) + ((10 : Int32) * wax)), (gsr (gsr (gsr S.1 8 batch.toNatClampNeg (upd (S.1 8 batch.toNatClampNeg) 8 (1 : Int32))) 8 batch.toNatClampNeg (upd (upd (S.1 8 batch.toNatClampNeg) 8 (1 : Int32)) 9 ((S.1 8 batch.toNatClampNeg 9) + ((10 : Int32) * wax)))) 8 batch.toNatClampNeg (upd (upd (upd (S.1 8 batch.toNatClampNeg) 8 (1 : Int32)) 9 ((S.1 8 batch.toNatClampNeg 9) + ((10 : Int32) * wax))) 10 (gmin (999 : Int32) ((S.1 8 batch.toNatClampNeg 10) + ((8 : Int32) * wax)))), S.2))) else (.inl "java/lang/UnsupportedOperationException")) else (.inl "java/lang/IllegalArgumentException")) else (.inl "java/lang/IndexOutOfBoundsException")
theorem kX1_soak {l : Launch} {G : gG} (hl : l.stackTraces = false) {S : gS} {a0 : Nat} {Fr : gH → Prop} (hF : gFr 0 Fr) (hW : gWf S) {batch wax : Int32}  : gMet l yX1_soak (ws_ yX1_soak cX1_soak 4 (some .int)) ⟨8, 4, 19, 123⟩ G [.ref a0, .int batch, .int wax] (gPE 0 G S a0 Fr) (gqS (sC_soak S batch wax) 0 G a0 Fr) (gxS (sC_soak S batch wax) 0 G S a0 Fr) := by
  refine gMet_of hl pnX1 (gle rfl) (fun X Q hX F E hNm => ?_)
  subst hX
  change gW (X, G, 4, Q) (gPE 0 G S a0 Fr) [(0, .ref a0), (1, .int batch), (2, .int wax)] 0 [] 0 0
  refine g_pe (fun A hA => ?_)
  subst hA
  change gW _ _ [(0, .ref (A 0 0)), (1, .int batch), (2, .int wax)] 0 [] 0 0
  refine g_aload_n F 0 rfl rfl dX1_soak_0 ?_
  refine g_get F clX1 9 (by decide) q144 (v := .ref (A 308 0)) (gd_get (pr_at (κ := 0) (i := 0) (by decide) (gc1 (gnl rfl)) (gce rfl rfl)) rfl) dX1_soak_1 ?_
  refine g_iload_n F 1 rfl rfl dX1_soak_4 ?_
  refine g_callS F (kX1_require hl (pr_ls (κ := 8) (by decide) (Or.inl ⟨by decide, by decide⟩) (fun q => by first | decide | exact absurd q (by decide)) (fun q => by first | decide | exact absurd q (by decide))) (gw_n hW _) (x := batch)) (lw_S q784 q785 q18 q786) myX1_require ⟨by decide, by decide⟩ rfl rfl (gle rfl) 1 6 (gle rfl) (gle rfl) (gle rfl) (gle rfl) dX1_soak_5 (gx_1 (fun c_1 => g_out0 F E (gle rfl) (gle rfl) (fun _ hp => ⟨(if_neg c_1), gPE_0 _ hp⟩))) (gv_y (fun c_1 => ?_))
  refine g_castS F (g_recv F clX9 (gd_obj (pr_at (κ := 8) (i := batch.toNatClampNeg) (by decide) (gc6 (by decide) c_1.2) (gce rfl rfl)))) q295 dX1_soak_8 ?_
  refine g_astore_n F rfl (by show 3 < 4; decide) (lv2 := [(3, .ref (A 8 batch.toNatClampNeg)), (0, .ref (A 0 0)), (1, .int batch), (2, .int wax)]) rfl dX1_soak_11 ?_
  refine g_iconst F (v := (1 : Int32)) (by decide) dX1_soak_12 ?_
  refine g_iconst F (v := (5 : Int32)) (by decide) dX1_soak_13 ?_
  refine g_iconst F (v := (1 : Int32)) (by decide) dX1_soak_14 ?_
  refine g_newI F (5000, 0) (N := 1) rfl (by decide) 2 7 (gle rfl) (gle rfl) (gle rfl) (gle rfl) (Pa := fun a_2 => gP 0 G S A Fr [(a_2, gIA G 1 (fun _ => 0))]) (pr_new hF) dX1_soak_15 (fun a_2 => ?_)
  refine g_dup F rfl dX1_soak_17 ?_
  refine g_iconst F (v := (0 : Int32)) (by decide) dX1_soak_18 ?_
  refine g_iload_n F 3 rfl rfl dX1_soak_19 ?_
  refine g_iastN (P2 := gP 0 G S A Fr [(a_2, gIA G 1 (upd (fun _ => 0) 0 wax))]) F (m := 0) rfl (by decide) (by decide) (pr_setT gM0 hF (j := 0) rfl) dX1_soak_20 ?_
  refine g_callS F (kX1_isIn hl (pr_atT (j := 0) rfl)) (lw_S q305 q306 q18 q307) myX1_isIn ⟨by decide, by decide⟩ rfl rfl (gle rfl) 2 7 (gle rfl) (gle rfl) (gle rfl) (gle rfl) dX1_soak_21 gx_n (gv_i ?_)
  refine g_top (show _ = gb (¬ wax < (1 : Int32) ∧ ¬ (5 : Int32) < wax) from rfl) ?_
  refine g_mono (P2 := gP 0 G S A Fr []) (fun _ hp => gP_Tl 0 hp) ?_
  refine g_callS F (kX1_requireArgument hl (c := ¬ wax < (1 : Int32) ∧ ¬ (5 : Int32) < wax)) (lw_S q335 q336 q18 q337) myX1_requireArgument ⟨by decide, by decide⟩ rfl rfl (gle rfl) 3 13 (gle rfl) (gle rfl) (gle rfl) (gle rfl) dX1_soak_24 (gx_1 (fun c_3 => g_out0 F E (gle rfl) (gle rfl) (fun _ hp => ⟨((if_pos c_1).trans (if_neg c_3)), gPE_0 _ hp⟩))) (gv_c (fun c_3 => ?_))
  refine g_aload_n F 0 rfl rfl dX1_soak_27 ?_
  refine g_callV F (kX9_isFired hl (pr_at (κ := 8) (i := batch.toNatClampNeg) (by decide) (gc6 (by decide) c_1.2) (gce rfl rfl))) (g_recv F clX9 (gd_obj (pr_at (κ := 8) (i := batch.toNatClampNeg) (by decide) (gc6 (by decide) c_1.2) (gce rfl rfl)))) q962 q963 q964 q47 q965 myX9_isFired ⟨by decide, by decide⟩ rfl rfl (gle rfl) 3 13 (gle rfl) (gle rfl) (gle rfl) (gle rfl) dX1_soak_28 gx_n (gv_i ?_)
  have J_7 : gW (X, G, 4, Q) (gP 0 G S A Fr []) [(3, .ref (A 8 batch.toNatClampNeg)), (0, .ref (A 0 0)), (1, .int batch), (2, .int wax)] 57 [.int (gb ((¬ ((S.1 8 batch.toNatClampNeg 6) = (-1 : Int32))) ∧ ((¬ ((S.1 0 0 0) < (S.1 8 batch.toNatClampNeg 4))) ∧ ((S.1 8 batch.toNatClampNeg 8) = 0))))] 3 13 := by
    refine g_callS F (kX1_requireSupported hl (c := (¬ ((S.1 8 batch.toNatClampNeg 6) = (-1 : Int32))) ∧ ((¬ ((S.1 0 0 0) < (S.1 8 batch.toNatClampNeg 4))) ∧ ((S.1 8 batch.toNatClampNeg 8) = 0)))) (lw_S q512 q513 q18 q514) myX1_requireSupported ⟨by decide, by decide⟩ rfl rfl (gle rfl) 4 19 (gle rfl) (gle rfl) (gle rfl) (gle rfl) dX1_soak_57 (gx_1 (fun c_8 => g_out0 F E (gle rfl) (gle rfl) (fun _ hp => ⟨((if_pos c_1).trans ((if_pos c_3).trans (if_neg c_8))), gPE_0 _ hp⟩))) (gv_c (fun c_8 => ?_))
    refine g_aload_n F 0 rfl rfl dX1_soak_60 ?_
    refine g_iconst F (v := (1 : Int32)) (by decide) dX1_soak_61 ?_
    refine g_putN (P2 := gP 0 G (gsr S.1 8 batch.toNatClampNeg (upd (S.1 8 batch.toNatClampNeg) 8 (1 : Int32)), S.2) A Fr []) F clX9 7 (by decide) (gT_w q896 rfl) rfl rfl rfl (pr_put (κ := 8) (i := batch.toNatClampNeg) gM0 hF (upd (S.1 8 batch.toNatClampNeg) 8 (1 : Int32)) (by decide) (gc6 (by decide) c_1.2) (gce rfl rfl) (gnl rfl) rfl) dX1_soak_62 ?_
    refine g_aload_n F 0 rfl rfl dX1_soak_65 ?_
    refine g_dup F rfl dX1_soak_66 ?_
    refine g_getN F clX9 10 (by decide) (gT_w q901 rfl) (v := .int (S.1 8 batch.toNatClampNeg 9)) (gd_get (pr_at (κ := 8) (i := batch.toNatClampNeg) (by decide) (gc6 (by decide) c_1.2) (gce (show (gsr S.1 8 batch.toNatClampNeg (upd (S.1 8 batch.toNatClampNeg) 8 (1 : Int32))) 8 batch.toNatClampNeg = upd (S.1 8 batch.toNatClampNeg) 8 (1 : Int32) from gsr_s) rfl)) rfl) dX1_soak_67 ?_
    refine g_bipush F (v := (10 : Int32)) (by decide) dX1_soak_70 ?_
    refine g_iload_n F 3 rfl rfl dX1_soak_72 ?_
    refine g_imul F dX1_soak_73 ?_
    refine g_iadd F dX1_soak_74 ?_
    refine g_putN (P2 := gP 0 G (gsr (gsr S.1 8 batch.toNatClampNeg (upd (S.1 8 batch.toNatClampNeg) 8 (1 : Int32))) 8 batch.toNatClampNeg (upd (upd (S.1 8 batch.toNatClampNeg) 8 (1 : Int32)) 9 ((S.1 8 batch.toNatClampNeg 9) + ((10 : Int32) * wax))), S.2) A Fr []) F clX9 10 (by decide) (gT_w q901 rfl) rfl rfl rfl (pr_put (κ := 8) (i := batch.toNatClampNeg) gM0 hF (upd (upd (S.1 8 batch.toNatClampNeg) 8 (1 : Int32)) 9 ((S.1 8 batch.toNatClampNeg 9) + ((10 : Int32) * wax))) (by decide) (gc6 (by decide) c_1.2) (gce (show (gsr S.1 8 batch.toNatClampNeg (upd (S.1 8 batch.toNatClampNeg) 8 (1 : Int32))) 8 batch.toNatClampNeg = upd (S.1 8 batch.toNatClampNeg) 8 (1 : Int32) from gsr_s) rfl) (gnl rfl) rfl) dX1_soak_75 ?_
    refine g_aload_n F 0 rfl rfl dX1_soak_78 ?_
    refine g_sipush F (v := (999 : Int32)) (by decide) dX1_soak_79 ?_
    refine g_aload_n F 0 rfl rfl dX1_soak_82 ?_
    refine g_getN F clX9 11 (by decide) (gT_w q904 rfl) (v := .int (S.1 8 batch.toNatClampNeg 10)) (gd_get (pr_at (κ := 8) (i := batch.toNatClampNeg) (by decide) (gc6 (by decide) c_1.2) (gce (show (gsr (gsr S.1 8 batch.toNatClampNeg (upd (S.1 8 batch.toNatClampNeg) 8 (1 : Int32))) 8 batch.toNatClampNeg (upd (upd (S.1 8 batch.toNatClampNeg) 8 (1 : Int32)) 9 ((S.1 8 batch.toNatClampNeg 9) + ((10 : Int32) * wax)))) 8 batch.toNatClampNeg = upd (upd (S.1 8 batch.toNatClampNeg) 8 (1 : Int32)) 9 ((S.1 8 batch.toNatClampNeg 9) + ((10 : Int32) * wax)) from gsr_s) rfl)) rfl) dX1_soak_83 ?_
    refine g_bipush F (v := (8 : Int32)) (by decide) dX1_soak_86 ?_
    refine g_iload_n F 3 rfl rfl dX1_soak_88 ?_
    refine g_imul F dX1_soak_89 ?_
    refine g_iadd F dX1_soak_90 ?_
    refine g_mmin F q966 (gle rfl) (gle rfl) (gle rfl) (gle rfl) dX1_soak_91 ?_
    refine g_putN (P2 := gP 0 G (gsr (gsr (gsr S.1 8 batch.toNatClampNeg (upd (S.1 8 batch.toNatClampNeg) 8 (1 : Int32))) 8 batch.toNatClampNeg (upd (upd (S.1 8 batch.toNatClampNeg) 8 (1 : Int32)) 9 ((S.1 8 batch.toNatClampNeg 9) + ((10 : Int32) * wax)))) 8 batch.toNatClampNeg (upd (upd (upd (S.1 8 batch.toNatClampNeg) 8 (1 : Int32)) 9 ((S.1 8 batch.toNatClampNeg 9) + ((10 : Int32) * wax))) 10 (gmin (999 : Int32) ((S.1 8 batch.toNatClampNeg 10) + ((8 : Int32) * wax)))), S.2) A Fr []) F clX9 11 (by decide) (gT_w q904 rfl) rfl rfl rfl (pr_put (κ := 8) (i := batch.toNatClampNeg) gM0 hF (upd (upd (upd (S.1 8 batch.toNatClampNeg) 8 (1 : Int32)) 9 ((S.1 8 batch.toNatClampNeg 9) + ((10 : Int32) * wax))) 10 (gmin (999 : Int32) ((S.1 8 batch.toNatClampNeg 10) + ((8 : Int32) * wax)))) (by decide) (gc6 (by decide) c_1.2) (gce (show (gsr (gsr S.1 8 batch.toNatClampNeg (upd (S.1 8 batch.toNatClampNeg) 8 (1 : Int32))) 8 batch.toNatClampNeg (upd (upd (S.1 8 batch.toNatClampNeg) 8 (1 : Int32)) 9 ((S.1 8 batch.toNatClampNeg 9) + ((10 : Int32) * wax)))) 8 batch.toNatClampNeg = upd (upd (S.1 8 batch.toNatClampNeg) 8 (1 : Int32)) 9 ((S.1 8 batch.toNatClampNeg 9) + ((10 : Int32) * wax)) from gsr_s) rfl) (gnl rfl) rfl) dX1_soak_94 ?_
    refine g_aload_n F 0 rfl rfl dX1_soak_97 ?_
    refine g_getN F clX9 10 (by decide) (gT_w q901 rfl) (v := .int ((S.1 8 batch.toNatClampNeg 9) + ((10 : Int32) * wax))) (gd_get (pr_at (κ := 8) (i := batch.toNatClampNeg) (by decide) (gc6 (by decide) c_1.2) (gce (show (gsr (gsr (gsr S.1 8 batch.toNatClampNeg (upd (S.1 8 batch.toNatClampNeg) 8 (1 : Int32))) 8 batch.toNatClampNeg (upd (upd (S.1 8 batch.toNatClampNeg) 8 (1 : Int32)) 9 ((S.1 8 batch.toNatClampNeg 9) + ((10 : Int32) * wax)))) 8 batch.toNatClampNeg (upd (upd (upd (S.1 8 batch.toNatClampNeg) 8 (1 : Int32)) 9 ((S.1 8 batch.toNatClampNeg 9) + ((10 : Int32) * wax))) 10 (gmin (999 : Int32) ((S.1 8 batch.toNatClampNeg 10) + ((8 : Int32) * wax))))) 8 batch.toNatClampNeg = upd (upd (upd (S.1 8 batch.toNatClampNeg) 8 (1 : Int32)) 9 ((S.1 8 batch.toNatClampNeg 9) + ((10 : Int32) * wax))) 10 (gmin (999 : Int32) ((S.1 8 batch.toNatClampNeg 10) + ((8 : Int32) * wax))) from gsr_s) rfl)) rfl) dX1_soak_98 ?_
    exact g_retI F E rfl rfl (gle rfl) (gle rfl) dX1_soak_101 (fun _ hp => ⟨_, _, ((if_pos c_1).trans ((if_pos c_3).trans (if_pos c_8))), rfl, gPE_0 _ hp⟩)
  refine gb_if_eq F (tgt := 56) (by decide) dX1_soak_31 (fun c_4 => ?_) (fun c_4 => ?_)
  · skip
    refine g_iconst F (v := (0 : Int32)) (by decide) dX1_soak_56 ?_
    exact g_top (gb_f (fun q => c_4 q.1)) J_7
  · skip
    refine g_aload_n F 0 rfl rfl dX1_soak_34 ?_
    refine g_aload_n F 1 rfl rfl dX1_soak_35 ?_
    refine g_get F clX1 0 (by decide) q135 (v := .int (S.1 0 0 0)) (gd_get (pr_at (κ := 0) (i := 0) (by decide) (gc1 (gnl rfl)) (gce rfl rfl)) rfl) dX1_soak_36 ?_
    refine g_callV F (kX9_isReady hl (pr_at (κ := 8) (i := batch.toNatClampNeg) (by decide) (gc6 (by decide) c_1.2) (gce rfl rfl))) (g_recv F clX9 (gd_obj (pr_at (κ := 8) (i := batch.toNatClampNeg) (by decide) (gc6 (by decide) c_1.2) (gce rfl rfl)))) q958 q959 q960 q47 q961 myX9_isReady ⟨by decide, by decide⟩ rfl rfl (gle rfl) 3 13 (gle rfl) (gle rfl) (gle rfl) (gle rfl) dX1_soak_39 gx_n (gv_i ?_)
    refine gb_if_eq F (tgt := 56) (by decide) dX1_soak_42 (fun c_5 => ?_) (fun c_5 => ?_)
    · skip
      refine g_iconst F (v := (0 : Int32)) (by decide) dX1_soak_56 ?_
      exact g_top (gb_f (fun q => (fun q => c_5 q.1) q.2)) J_7
    · skip
      refine g_aload_n F 0 rfl rfl dX1_soak_45 ?_
      refine g_getN F clX9 7 (by decide) (gT_w q896 rfl) (v := .int (S.1 8 batch.toNatClampNeg 8)) (gd_get (pr_at (κ := 8) (i := batch.toNatClampNeg) (by decide) (gc6 (by decide) c_1.2) (gce rfl rfl)) rfl) dX1_soak_46 ?_
      refine g_if_ne F (tgt := 56) (by decide) dX1_soak_49 (fun c_6 => ?_) (fun c_6 => ?_)
      · skip
        refine g_iconst F (v := (0 : Int32)) (by decide) dX1_soak_56 ?_
        exact g_top (gb_f (fun q => (fun q => c_6 q.2) q.2)) J_7
      · skip
        refine g_iconst F (v := (1 : Int32)) (by decide) dX1_soak_52 ?_
        refine g_goto F (tgt := 57) (by decide) dX1_soak_53 ?_
        exact g_top (gb_t (⟨c_4, ⟨c_5, c_6⟩⟩)) J_7

def sC_season (S : gS) (slats hours : Int32) : gO := if gIn slats (S.2 9) then (if ¬ hours < (1 : Int32) ∧ ¬ (200 : Int32) < hours then (if ¬ ((S.1 0 0 0) < (S.1 9 slats.toNatClampNeg 5)) then (.inr (.int ((S.1 0 0 0) + hours), (gsr (gsr S.1 9 slats.toNatClampNeg (upd (S.1 9 slats.toNatClampNeg) 2 (gmax (0 : Int32) ((S.1 9 slats.toNatClampNeg 2) - (hours / (if S.1 9 slats.toNatClampNeg 0 = 99 then (6 : Int32) else (9 : Int32))))))) 9 slats.toNatClampNeg (upd (upd (S.1 9 slats.toNatClampNeg) 2 (gmax (0 : Int32) ((S.1 9 slats.toNatClampNeg 2) - (hours / (if S.1 9 slats.toNatClampNeg 0 = 99 then (6 : Int32) else (9 : Int32)))))) 5 ((S.1 0 0 0) + hours)), S.2))) else (.inl "java/lang/UnsupportedOperationException")) else (.inl "java/lang/IllegalArgumentException")) else (.inl "java/lang/IndexOutOfBoundsException")
theorem kX1_season {l : Launch} {G : gG} (hl : l.stackTraces = false) {S : gS} {a0 : Nat} {Fr : gH → Prop} (hF : gFr 0 Fr) (hW : gWf S) {slats hours : Int32}  : gMet l yX1_season (ws_ yX1_season cX1_season 4 (some .int)) ⟨8, 4, 19, 123⟩ G [.ref a0, .int slats, .int hours] (gPE 0 G S a0 Fr) (gqS (sC_season S slats hours) 0 G a0 Fr) (gxS (sC_season S slats hours) 0 G S a0 Fr) := by
  refine gMet_of hl pnX1 (gle rfl) (fun X Q hX F E hNm => ?_)
  subst hX
  change gW (X, G, 4, Q) (gPE 0 G S a0 Fr) [(0, .ref a0), (1, .int slats), (2, .int hours)] 0 [] 0 0
  refine g_pe (fun A hA => ?_)
  subst hA
  change gW _ _ [(0, .ref (A 0 0)), (1, .int slats), (2, .int hours)] 0 [] 0 0
  refine g_aload_n F 0 rfl rfl dX1_season_0 ?_
  refine g_get F clX1 12 (by decide) q147 (v := .ref (A 309 0)) (gd_get (pr_at (κ := 0) (i := 0) (by decide) (gc1 (gnl rfl)) (gce rfl rfl)) rfl) dX1_season_1 ?_
  refine g_iload_n F 1 rfl rfl dX1_season_4 ?_
  refine g_callS F (kX1_require hl (pr_ls (κ := 9) (by decide) (Or.inl ⟨by decide, by decide⟩) (fun q => by first | decide | exact absurd q (by decide)) (fun q => by first | decide | exact absurd q (by decide))) (gw_n hW _) (x := slats)) (lw_S q784 q785 q18 q786) myX1_require ⟨by decide, by decide⟩ rfl rfl (gle rfl) 1 6 (gle rfl) (gle rfl) (gle rfl) (gle rfl) dX1_season_5 (gx_1 (fun c_1 => g_out0 F E (gle rfl) (gle rfl) (fun _ hp => ⟨(if_neg c_1), gPE_0 _ hp⟩))) (gv_y (fun c_1 => ?_))
  refine g_castS F (g_recv F clX11 (gd_obj (pr_at (κ := 9) (i := slats.toNatClampNeg) (by decide) (gc6 (by decide) c_1.2) (gce rfl rfl)))) q1003 dX1_season_8 ?_
  refine g_astore_n F rfl (by show 3 < 4; decide) (lv2 := [(3, .ref (A 9 slats.toNatClampNeg)), (0, .ref (A 0 0)), (1, .int slats), (2, .int hours)]) rfl dX1_season_11 ?_
  refine g_iconst F (v := (1 : Int32)) (by decide) dX1_season_12 ?_
  refine g_sipush F (v := (200 : Int32)) (by decide) dX1_season_13 ?_
  refine g_iconst F (v := (1 : Int32)) (by decide) dX1_season_16 ?_
  refine g_newI F (5000, 0) (N := 1) rfl (by decide) 2 7 (gle rfl) (gle rfl) (gle rfl) (gle rfl) (Pa := fun a_2 => gP 0 G S A Fr [(a_2, gIA G 1 (fun _ => 0))]) (pr_new hF) dX1_season_17 (fun a_2 => ?_)
  refine g_dup F rfl dX1_season_19 ?_
  refine g_iconst F (v := (0 : Int32)) (by decide) dX1_season_20 ?_
  refine g_iload_n F 3 rfl rfl dX1_season_21 ?_
  refine g_iastN (P2 := gP 0 G S A Fr [(a_2, gIA G 1 (upd (fun _ => 0) 0 hours))]) F (m := 0) rfl (by decide) (by decide) (pr_setT gM0 hF (j := 0) rfl) dX1_season_22 ?_
  refine g_callS F (kX1_isIn hl (pr_atT (j := 0) rfl)) (lw_S q305 q306 q18 q307) myX1_isIn ⟨by decide, by decide⟩ rfl rfl (gle rfl) 2 7 (gle rfl) (gle rfl) (gle rfl) (gle rfl) dX1_season_23 gx_n (gv_i ?_)
  refine g_top (show _ = gb (¬ hours < (1 : Int32) ∧ ¬ (200 : Int32) < hours) from rfl) ?_
  refine g_mono (P2 := gP 0 G S A Fr []) (fun _ hp => gP_Tl 0 hp) ?_
  refine g_callS F (kX1_requireArgument hl (c := ¬ hours < (1 : Int32) ∧ ¬ (200 : Int32) < hours)) (lw_S q335 q336 q18 q337) myX1_requireArgument ⟨by decide, by decide⟩ rfl rfl (gle rfl) 3 13 (gle rfl) (gle rfl) (gle rfl) (gle rfl) dX1_season_26 (gx_1 (fun c_3 => g_out0 F E (gle rfl) (gle rfl) (fun _ hp => ⟨((if_pos c_1).trans (if_neg c_3)), gPE_0 _ hp⟩))) (gv_c (fun c_3 => ?_))
  refine g_aload_n F 1 rfl rfl dX1_season_29 ?_
  refine g_get F clX1 0 (by decide) q135 (v := .int (S.1 0 0 0)) (gd_get (pr_at (κ := 0) (i := 0) (by decide) (gc1 (gnl rfl)) (gce rfl rfl)) rfl) dX1_season_30 ?_
  refine g_aload_n F 0 rfl rfl dX1_season_33 ?_
  refine g_getN F clX11 6 (by decide) (gT_w q1021 rfl) (v := .int (S.1 9 slats.toNatClampNeg 5)) (gd_get (pr_at (κ := 9) (i := slats.toNatClampNeg) (by decide) (gc6 (by decide) c_1.2) (gce rfl rfl)) rfl) dX1_season_34 ?_
  have J_5 : gW (X, G, 4, Q) (gP 0 G S A Fr []) [(3, .ref (A 9 slats.toNatClampNeg)), (0, .ref (A 0 0)), (1, .int slats), (2, .int hours)] 45 [.int (gb (¬ ((S.1 0 0 0) < (S.1 9 slats.toNatClampNeg 5))))] 3 13 := by
    refine g_callS F (kX1_requireSupported hl (c := ¬ ((S.1 0 0 0) < (S.1 9 slats.toNatClampNeg 5)))) (lw_S q512 q513 q18 q514) myX1_requireSupported ⟨by decide, by decide⟩ rfl rfl (gle rfl) 4 19 (gle rfl) (gle rfl) (gle rfl) (gle rfl) dX1_season_45 (gx_1 (fun c_6 => g_out0 F E (gle rfl) (gle rfl) (fun _ hp => ⟨((if_pos c_1).trans ((if_pos c_3).trans (if_neg c_6))), gPE_0 _ hp⟩))) (gv_c (fun c_6 => ?_))
    refine g_aload_n F 0 rfl rfl dX1_season_48 ?_
    refine g_iconst F (v := (0 : Int32)) (by decide) dX1_season_49 ?_
    refine g_aload_n F 0 rfl rfl dX1_season_50 ?_
    refine g_getN F clX11 3 (by decide) (gT_w q1016 rfl) (v := .int (S.1 9 slats.toNatClampNeg 2)) (gd_get (pr_at (κ := 9) (i := slats.toNatClampNeg) (by decide) (gc6 (by decide) c_1.2) (gce rfl rfl)) rfl) dX1_season_51 ?_
    refine g_iload_n F 3 rfl rfl dX1_season_54 ?_
    refine g_aload_n F 0 rfl rfl dX1_season_55 ?_
    refine g_getN F clX11 1 (by decide) (gT_w q1012 rfl) (v := .int (gb (S.1 9 slats.toNatClampNeg 0 = 99))) (gd_get (pr_at (κ := 9) (i := slats.toNatClampNeg) (by decide) (gc6 (by decide) c_1.2) (gce rfl rfl)) rfl) dX1_season_56 ?_
    have J_8 : gW (X, G, 4, Q) (gP 0 G S A Fr []) [(3, .ref (A 9 slats.toNatClampNeg)), (0, .ref (A 0 0)), (1, .int slats), (2, .int hours)] 69 [.int (if S.1 9 slats.toNatClampNeg 0 = 99 then (6 : Int32) else (9 : Int32)), .int hours, .int (S.1 9 slats.toNatClampNeg 2), .int (0 : Int32), .ref (A 9 slats.toNatClampNeg)] 4 19 := by
      refine g_idiv F (by (repeat' split) <;> decide) dX1_season_69 ?_
      refine g_isub F dX1_season_70 ?_
      refine g_mmax F q967 (gle rfl) (gle rfl) (gle rfl) (gle rfl) dX1_season_71 ?_
      refine g_putN (P2 := gP 0 G (gsr S.1 9 slats.toNatClampNeg (upd (S.1 9 slats.toNatClampNeg) 2 (gmax (0 : Int32) ((S.1 9 slats.toNatClampNeg 2) - (hours / (if S.1 9 slats.toNatClampNeg 0 = 99 then (6 : Int32) else (9 : Int32)))))), S.2) A Fr []) F clX11 3 (by decide) (gT_w q1016 rfl) rfl rfl rfl (pr_put (κ := 9) (i := slats.toNatClampNeg) gM0 hF (upd (S.1 9 slats.toNatClampNeg) 2 (gmax (0 : Int32) ((S.1 9 slats.toNatClampNeg 2) - (hours / (if S.1 9 slats.toNatClampNeg 0 = 99 then (6 : Int32) else (9 : Int32)))))) (by decide) (gc6 (by decide) c_1.2) (gce rfl rfl) (gnl rfl) rfl) dX1_season_74 ?_
      refine g_aload_n F 0 rfl rfl dX1_season_77 ?_
      refine g_aload_n F 1 rfl rfl dX1_season_78 ?_
      refine g_get F clX1 0 (by decide) q135 (v := .int (S.1 0 0 0)) (gd_get (pr_at (κ := 0) (i := 0) (by decide) (gc1 (gnl rfl)) (gce (show (gsr S.1 9 slats.toNatClampNeg (upd (S.1 9 slats.toNatClampNeg) 2 (gmax (0 : Int32) ((S.1 9 slats.toNatClampNeg 2) - (hours / (if S.1 9 slats.toNatClampNeg 0 = 99 then (6 : Int32) else (9 : Int32))))))) 0 0 = S.1 0 0 from (gsr_p (by decide) rfl)) rfl)) rfl) dX1_season_79 ?_
      refine g_iload_n F 3 rfl rfl dX1_season_82 ?_
      refine g_iadd F dX1_season_83 ?_
      refine g_putN (P2 := gP 0 G (gsr (gsr S.1 9 slats.toNatClampNeg (upd (S.1 9 slats.toNatClampNeg) 2 (gmax (0 : Int32) ((S.1 9 slats.toNatClampNeg 2) - (hours / (if S.1 9 slats.toNatClampNeg 0 = 99 then (6 : Int32) else (9 : Int32))))))) 9 slats.toNatClampNeg (upd (upd (S.1 9 slats.toNatClampNeg) 2 (gmax (0 : Int32) ((S.1 9 slats.toNatClampNeg 2) - (hours / (if S.1 9 slats.toNatClampNeg 0 = 99 then (6 : Int32) else (9 : Int32)))))) 5 ((S.1 0 0 0) + hours)), S.2) A Fr []) F clX11 6 (by decide) (gT_w q1021 rfl) rfl rfl rfl (pr_put (κ := 9) (i := slats.toNatClampNeg) gM0 hF (upd (upd (S.1 9 slats.toNatClampNeg) 2 (gmax (0 : Int32) ((S.1 9 slats.toNatClampNeg 2) - (hours / (if S.1 9 slats.toNatClampNeg 0 = 99 then (6 : Int32) else (9 : Int32)))))) 5 ((S.1 0 0 0) + hours)) (by decide) (gc6 (by decide) c_1.2) (gce (show (gsr S.1 9 slats.toNatClampNeg (upd (S.1 9 slats.toNatClampNeg) 2 (gmax (0 : Int32) ((S.1 9 slats.toNatClampNeg 2) - (hours / (if S.1 9 slats.toNatClampNeg 0 = 99 then (6 : Int32) else (9 : Int32))))))) 9 slats.toNatClampNeg = upd (S.1 9 slats.toNatClampNeg) 2 (gmax (0 : Int32) ((S.1 9 slats.toNatClampNeg 2) - (hours / (if S.1 9 slats.toNatClampNeg 0 = 99 then (6 : Int32) else (9 : Int32))))) from gsr_s) rfl) (gnl rfl) rfl) dX1_season_84 ?_
      refine g_aload_n F 0 rfl rfl dX1_season_87 ?_
      refine g_getN F clX11 6 (by decide) (gT_w q1021 rfl) (v := .int ((S.1 0 0 0) + hours)) (gd_get (pr_at (κ := 9) (i := slats.toNatClampNeg) (by decide) (gc6 (by decide) c_1.2) (gce (show (gsr (gsr S.1 9 slats.toNatClampNeg (upd (S.1 9 slats.toNatClampNeg) 2 (gmax (0 : Int32) ((S.1 9 slats.toNatClampNeg 2) - (hours / (if S.1 9 slats.toNatClampNeg 0 = 99 then (6 : Int32) else (9 : Int32))))))) 9 slats.toNatClampNeg (upd (upd (S.1 9 slats.toNatClampNeg) 2 (gmax (0 : Int32) ((S.1 9 slats.toNatClampNeg 2) - (hours / (if S.1 9 slats.toNatClampNeg 0 = 99 then (6 : Int32) else (9 : Int32)))))) 5 ((S.1 0 0 0) + hours))) 9 slats.toNatClampNeg = upd (upd (S.1 9 slats.toNatClampNeg) 2 (gmax (0 : Int32) ((S.1 9 slats.toNatClampNeg 2) - (hours / (if S.1 9 slats.toNatClampNeg 0 = 99 then (6 : Int32) else (9 : Int32)))))) 5 ((S.1 0 0 0) + hours) from gsr_s) rfl)) rfl) dX1_season_88 ?_
      exact g_retI F E rfl rfl (gle rfl) (gle rfl) dX1_season_91 (fun _ hp => ⟨_, _, ((if_pos c_1).trans ((if_pos c_3).trans (if_pos c_6))), rfl, gPE_0 _ hp⟩)
    refine gb_if_eq F (tgt := 67) (by decide) dX1_season_59 (fun c_7 => ?_) (fun c_7 => ?_)
    · skip
      refine g_bipush F (v := (9 : Int32)) (by decide) dX1_season_67 ?_
      exact g_top (by rw [if_neg c_7]) J_8
    · skip
      refine g_bipush F (v := (6 : Int32)) (by decide) dX1_season_62 ?_
      refine g_goto F (tgt := 69) (by decide) dX1_season_64 ?_
      exact g_top (by rw [if_pos c_7]) J_8
  refine g_icmp_lt F (tgt := 44) (by decide) dX1_season_37 (fun c_4 => ?_) (fun c_4 => ?_)
  · skip
    refine g_iconst F (v := (0 : Int32)) (by decide) dX1_season_44 ?_
    exact g_top (gb_f (fun q => q c_4)) J_5
  · skip
    refine g_iconst F (v := (1 : Int32)) (by decide) dX1_season_40 ?_
    refine g_goto F (tgt := 45) (by decide) dX1_season_41 ?_
    exact g_top (gb_t c_4) J_5

def sC_fall (S : gS) (run height : Int32) : gO := if gIn run (S.2 10) then (if ¬ height < (1 : Int32) ∧ ¬ (9 : Int32) < height then (.inr (.int (gmin ((S.1 10 run.toNatClampNeg 3) - (S.1 10 run.toNatClampNeg 4)) (((S.1 10 run.toNatClampNeg 3) * (gmax (0 : Int32) ((((40 : Int32) * height) + ((20 : Int32) * (S.1 10 run.toNatClampNeg 5))) - (S.1 8 ((S.1 10 run.toNatClampNeg 0).toNatClampNeg) 9)))) / (400 : Int32))), (gsr S.1 10 run.toNatClampNeg (upd (S.1 10 run.toNatClampNeg) 4 ((S.1 10 run.toNatClampNeg 4) + (gmin ((S.1 10 run.toNatClampNeg 3) - (S.1 10 run.toNatClampNeg 4)) (((S.1 10 run.toNatClampNeg 3) * (gmax (0 : Int32) ((((40 : Int32) * height) + ((20 : Int32) * (S.1 10 run.toNatClampNeg 5))) - (S.1 8 ((S.1 10 run.toNatClampNeg 0).toNatClampNeg) 9)))) / (400 : Int32))))), S.2))) else (.inl "java/lang/IllegalArgumentException")) else (.inl "java/lang/IndexOutOfBoundsException")
theorem kX1_fall {l : Launch} {G : gG} (hl : l.stackTraces = false) {S : gS} {a0 : Nat} {Fr : gH → Prop} (hF : gFr 0 Fr) (hW : gWf S) {run height : Int32}  : gMet l yX1_fall (ws_ yX1_fall cX1_fall 6 (some .int)) ⟨8, 3, 13, 123⟩ G [.ref a0, .int run, .int height] (gPE 0 G S a0 Fr) (gqS (sC_fall S run height) 0 G a0 Fr) (gxS (sC_fall S run height) 0 G S a0 Fr) := by
  refine gMet_of hl pnX1 (gle rfl) (fun X Q hX F E hNm => ?_)
  subst hX
  change gW (X, G, 6, Q) (gPE 0 G S a0 Fr) [(0, .ref a0), (1, .int run), (2, .int height)] 0 [] 0 0
  refine g_pe (fun A hA => ?_)
  subst hA
  change gW _ _ [(0, .ref (A 0 0)), (1, .int run), (2, .int height)] 0 [] 0 0
  refine g_aload_n F 0 rfl rfl dX1_fall_0 ?_
  refine g_get F clX1 13 (by decide) q148 (v := .ref (A 310 0)) (gd_get (pr_at (κ := 0) (i := 0) (by decide) (gc1 (gnl rfl)) (gce rfl rfl)) rfl) dX1_fall_1 ?_
  refine g_iload_n F 1 rfl rfl dX1_fall_4 ?_
  refine g_callS F (kX1_require hl (pr_ls (κ := 10) (by decide) (Or.inl ⟨by decide, by decide⟩) (fun q => by first | decide | exact absurd q (by decide)) (fun q => by first | decide | exact absurd q (by decide))) (gw_n hW _) (x := run)) (lw_S q784 q785 q18 q786) myX1_require ⟨by decide, by decide⟩ rfl rfl (gle rfl) 1 6 (gle rfl) (gle rfl) (gle rfl) (gle rfl) dX1_fall_5 (gx_1 (fun c_1 => g_out0 F E (gle rfl) (gle rfl) (fun _ hp => ⟨(if_neg c_1), gPE_0 _ hp⟩))) (gv_y (fun c_1 => ?_))
  refine g_castS F (g_recv F clX13 (gd_obj (pr_at (κ := 10) (i := run.toNatClampNeg) (by decide) (gc6 (by decide) c_1.2) (gce rfl rfl)))) q297 dX1_fall_8 ?_
  refine g_astore_n F rfl (by show 3 < 6; decide) (lv2 := [(3, .ref (A 10 run.toNatClampNeg)), (0, .ref (A 0 0)), (1, .int run), (2, .int height)]) rfl dX1_fall_11 ?_
  refine g_iconst F (v := (1 : Int32)) (by decide) dX1_fall_12 ?_
  refine g_bipush F (v := (9 : Int32)) (by decide) dX1_fall_13 ?_
  refine g_iconst F (v := (1 : Int32)) (by decide) dX1_fall_15 ?_
  refine g_newI F (5000, 0) (N := 1) rfl (by decide) 2 7 (gle rfl) (gle rfl) (gle rfl) (gle rfl) (Pa := fun a_2 => gP 0 G S A Fr [(a_2, gIA G 1 (fun _ => 0))]) (pr_new hF) dX1_fall_16 (fun a_2 => ?_)
  refine g_dup F rfl dX1_fall_18 ?_
  refine g_iconst F (v := (0 : Int32)) (by decide) dX1_fall_19 ?_
  refine g_iload_n F 3 rfl rfl dX1_fall_20 ?_
  refine g_iastN (P2 := gP 0 G S A Fr [(a_2, gIA G 1 (upd (fun _ => 0) 0 height))]) F (m := 0) rfl (by decide) (by decide) (pr_setT gM0 hF (j := 0) rfl) dX1_fall_21 ?_
  refine g_callS F (kX1_isIn hl (pr_atT (j := 0) rfl)) (lw_S q305 q306 q18 q307) myX1_isIn ⟨by decide, by decide⟩ rfl rfl (gle rfl) 2 7 (gle rfl) (gle rfl) (gle rfl) (gle rfl) dX1_fall_22 gx_n (gv_i ?_)
  refine g_top (show _ = gb (¬ height < (1 : Int32) ∧ ¬ (9 : Int32) < height) from rfl) ?_
  refine g_mono (P2 := gP 0 G S A Fr []) (fun _ hp => gP_Tl 0 hp) ?_
  refine g_callS F (kX1_requireArgument hl (c := ¬ height < (1 : Int32) ∧ ¬ (9 : Int32) < height)) (lw_S q335 q336 q18 q337) myX1_requireArgument ⟨by decide, by decide⟩ rfl rfl (gle rfl) 3 13 (gle rfl) (gle rfl) (gle rfl) (gle rfl) dX1_fall_25 (gx_1 (fun c_3 => g_out0 F E (gle rfl) (gle rfl) (fun _ hp => ⟨((if_pos c_1).trans (if_neg c_3)), gPE_0 _ hp⟩))) (gv_c (fun c_3 => ?_))
  refine g_iconst F (v := (0 : Int32)) (by decide) dX1_fall_28 ?_
  refine g_bipush F (v := (40 : Int32)) (by decide) dX1_fall_29 ?_
  refine g_iload_n F 3 rfl rfl dX1_fall_31 ?_
  refine g_imul F dX1_fall_32 ?_
  refine g_bipush F (v := (20 : Int32)) (by decide) dX1_fall_33 ?_
  refine g_aload_n F 0 rfl rfl dX1_fall_35 ?_
  refine g_getN F clX13 4 (by decide) (gT_w q1089 rfl) (v := .int (S.1 10 run.toNatClampNeg 5)) (gd_get (pr_at (κ := 10) (i := run.toNatClampNeg) (by decide) (gc6 (by decide) c_1.2) (gce rfl rfl)) rfl) dX1_fall_36 ?_
  refine g_imul F dX1_fall_39 ?_
  refine g_iadd F dX1_fall_40 ?_
  refine g_aload_n F 0 rfl rfl dX1_fall_41 ?_
  refine g_getN F clX13 1 (by decide) (gT_w q1083 rfl) (v := .ref (A 8 (S.1 10 run.toNatClampNeg 0).toNatClampNeg)) (gd_get (pr_at (κ := 10) (i := run.toNatClampNeg) (by decide) (gc6 (by decide) c_1.2) (gce rfl rfl)) rfl) dX1_fall_42 ?_
  refine g_getN F clX9 10 (by decide) (gT_w q901 rfl) (v := .int (S.1 8 ((S.1 10 run.toNatClampNeg 0).toNatClampNeg) 9)) (gd_get (pr_at (κ := 8) (i := (S.1 10 run.toNatClampNeg 0).toNatClampNeg) (by decide) (gc6 (by decide) (gw_10_0 hW c_1.2).2) (gce rfl rfl)) rfl) dX1_fall_45 ?_
  refine g_isub F dX1_fall_48 ?_
  refine g_mmax F q967 (gle rfl) (gle rfl) (gle rfl) (gle rfl) dX1_fall_49 ?_
  refine g_istore F (by show 4 < 6; decide) (lv2 := [(4, .int (gmax (0 : Int32) ((((40 : Int32) * height) + ((20 : Int32) * (S.1 10 run.toNatClampNeg 5))) - (S.1 8 ((S.1 10 run.toNatClampNeg 0).toNatClampNeg) 9)))), (3, .ref (A 10 run.toNatClampNeg)), (0, .ref (A 0 0)), (1, .int run), (2, .int height)]) rfl dX1_fall_52 ?_
  refine g_aload_n F 1 rfl rfl dX1_fall_54 ?_
  refine g_callV F (kX13_whole hl (pr_at (κ := 10) (i := run.toNatClampNeg) (by decide) (gc6 (by decide) c_1.2) (gce rfl rfl))) (g_recv F clX13 (gd_obj (pr_at (κ := 10) (i := run.toNatClampNeg) (by decide) (gc6 (by decide) c_1.2) (gce rfl rfl)))) q1163 q1164 q1165 q51 q1166 myX13_whole ⟨by decide, by decide⟩ rfl rfl (gle rfl) 3 13 (gle rfl) (gle rfl) (gle rfl) (gle rfl) dX1_fall_55 gx_n (gv_i ?_)
  refine g_aload_n F 1 rfl rfl dX1_fall_58 ?_
  refine g_getN F clX13 5 (by decide) (gT_w q1091 rfl) (v := .int (S.1 10 run.toNatClampNeg 3)) (gd_get (pr_at (κ := 10) (i := run.toNatClampNeg) (by decide) (gc6 (by decide) c_1.2) (gce rfl rfl)) rfl) dX1_fall_59 ?_
  refine g_iload F 0 rfl dX1_fall_62 ?_
  refine g_imul F dX1_fall_64 ?_
  refine g_sipush F (v := (400 : Int32)) (by decide) dX1_fall_65 ?_
  refine g_idiv F (by decide) dX1_fall_68 ?_
  refine g_mmin F q966 (gle rfl) (gle rfl) (gle rfl) (gle rfl) dX1_fall_69 ?_
  refine g_istore F (by show 5 < 6; decide) (lv2 := [(5, .int (gmin ((S.1 10 run.toNatClampNeg 3) - (S.1 10 run.toNatClampNeg 4)) (((S.1 10 run.toNatClampNeg 3) * (gmax (0 : Int32) ((((40 : Int32) * height) + ((20 : Int32) * (S.1 10 run.toNatClampNeg 5))) - (S.1 8 ((S.1 10 run.toNatClampNeg 0).toNatClampNeg) 9)))) / (400 : Int32)))), (4, .int (gmax (0 : Int32) ((((40 : Int32) * height) + ((20 : Int32) * (S.1 10 run.toNatClampNeg 5))) - (S.1 8 ((S.1 10 run.toNatClampNeg 0).toNatClampNeg) 9)))), (3, .ref (A 10 run.toNatClampNeg)), (0, .ref (A 0 0)), (1, .int run), (2, .int height)]) rfl dX1_fall_72 ?_
  refine g_aload_n F 2 rfl rfl dX1_fall_74 ?_
  refine g_dup F rfl dX1_fall_75 ?_
  refine g_getN F clX13 6 (by decide) (gT_w q1093 rfl) (v := .int (S.1 10 run.toNatClampNeg 4)) (gd_get (pr_at (κ := 10) (i := run.toNatClampNeg) (by decide) (gc6 (by decide) c_1.2) (gce rfl rfl)) rfl) dX1_fall_76 ?_
  refine g_iload F 0 rfl dX1_fall_79 ?_
  refine g_iadd F dX1_fall_81 ?_
  refine g_putN (P2 := gP 0 G (gsr S.1 10 run.toNatClampNeg (upd (S.1 10 run.toNatClampNeg) 4 ((S.1 10 run.toNatClampNeg 4) + (gmin ((S.1 10 run.toNatClampNeg 3) - (S.1 10 run.toNatClampNeg 4)) (((S.1 10 run.toNatClampNeg 3) * (gmax (0 : Int32) ((((40 : Int32) * height) + ((20 : Int32) * (S.1 10 run.toNatClampNeg 5))) - (S.1 8 ((S.1 10 run.toNatClampNeg 0).toNatClampNeg) 9)))) / (400 : Int32))))), S.2) A Fr []) F clX13 6 (by decide) (gT_w q1093 rfl) rfl rfl rfl (pr_put (κ := 10) (i := run.toNatClampNeg) gM0 hF (upd (S.1 10 run.toNatClampNeg) 4 ((S.1 10 run.toNatClampNeg 4) + (gmin ((S.1 10 run.toNatClampNeg 3) - (S.1 10 run.toNatClampNeg 4)) (((S.1 10 run.toNatClampNeg 3) * (gmax (0 : Int32) ((((40 : Int32) * height) + ((20 : Int32) * (S.1 10 run.toNatClampNeg 5))) - (S.1 8 ((S.1 10 run.toNatClampNeg 0).toNatClampNeg) 9)))) / (400 : Int32))))) (by decide) (gc6 (by decide) c_1.2) (gce rfl rfl) (gnl rfl) rfl) dX1_fall_82 ?_
  refine g_iload F 0 rfl dX1_fall_85 ?_
  exact g_retI F E rfl rfl (gle rfl) (gle rfl) dX1_fall_87 (fun _ hp => ⟨_, _, ((if_pos c_1).trans (if_pos c_3)), rfl, gPE_0 _ hp⟩)

def sC_erase (S : gS) (run pumice : Int32) : gO := if gIn run (S.2 10) then (if ¬ pumice < (0 : Int32) ∧ ¬ (9 : Int32) < pumice then (if ¬ ((S.1 10 run.toNatClampNeg 9) = (-1 : Int32)) ∧ ((S.1 10 run.toNatClampNeg 10) = 0) then (.inr (.int (S.1 10 run.toNatClampNeg 3), (gsr S.1 10 run.toNatClampNeg (upd (S.1 10 run.toNatClampNeg) 10 (1 : Int32)), S.2))) else (.inl "java/lang/UnsupportedOperationException")) else (.inl "java/lang/IllegalArgumentException")) else (.inl "java/lang/IndexOutOfBoundsException")
theorem kX1_erase {l : Launch} {G : gG} (hl : l.stackTraces = false) {S : gS} {a0 : Nat} {Fr : gH → Prop} (hF : gFr 0 Fr) (hW : gWf S) {run pumice : Int32}  : gMet l yX1_erase (ws_ yX1_erase cX1_erase 4 (some .int)) ⟨8, 4, 19, 123⟩ G [.ref a0, .int run, .int pumice] (gPE 0 G S a0 Fr) (gqS (sC_erase S run pumice) 0 G a0 Fr) (gxS (sC_erase S run pumice) 0 G S a0 Fr) := by
  refine gMet_of hl pnX1 (gle rfl) (fun X Q hX F E hNm => ?_)
  subst hX
  change gW (X, G, 4, Q) (gPE 0 G S a0 Fr) [(0, .ref a0), (1, .int run), (2, .int pumice)] 0 [] 0 0
  refine g_pe (fun A hA => ?_)
  subst hA
  change gW _ _ [(0, .ref (A 0 0)), (1, .int run), (2, .int pumice)] 0 [] 0 0
  refine g_aload_n F 0 rfl rfl dX1_erase_0 ?_
  refine g_get F clX1 13 (by decide) q148 (v := .ref (A 310 0)) (gd_get (pr_at (κ := 0) (i := 0) (by decide) (gc1 (gnl rfl)) (gce rfl rfl)) rfl) dX1_erase_1 ?_
  refine g_iload_n F 1 rfl rfl dX1_erase_4 ?_
  refine g_callS F (kX1_require hl (pr_ls (κ := 10) (by decide) (Or.inl ⟨by decide, by decide⟩) (fun q => by first | decide | exact absurd q (by decide)) (fun q => by first | decide | exact absurd q (by decide))) (gw_n hW _) (x := run)) (lw_S q784 q785 q18 q786) myX1_require ⟨by decide, by decide⟩ rfl rfl (gle rfl) 1 6 (gle rfl) (gle rfl) (gle rfl) (gle rfl) dX1_erase_5 (gx_1 (fun c_1 => g_out0 F E (gle rfl) (gle rfl) (fun _ hp => ⟨(if_neg c_1), gPE_0 _ hp⟩))) (gv_y (fun c_1 => ?_))
  refine g_castS F (g_recv F clX13 (gd_obj (pr_at (κ := 10) (i := run.toNatClampNeg) (by decide) (gc6 (by decide) c_1.2) (gce rfl rfl)))) q297 dX1_erase_8 ?_
  refine g_astore_n F rfl (by show 3 < 4; decide) (lv2 := [(3, .ref (A 10 run.toNatClampNeg)), (0, .ref (A 0 0)), (1, .int run), (2, .int pumice)]) rfl dX1_erase_11 ?_
  refine g_iconst F (v := (0 : Int32)) (by decide) dX1_erase_12 ?_
  refine g_bipush F (v := (9 : Int32)) (by decide) dX1_erase_13 ?_
  refine g_iconst F (v := (1 : Int32)) (by decide) dX1_erase_15 ?_
  refine g_newI F (5000, 0) (N := 1) rfl (by decide) 2 7 (gle rfl) (gle rfl) (gle rfl) (gle rfl) (Pa := fun a_2 => gP 0 G S A Fr [(a_2, gIA G 1 (fun _ => 0))]) (pr_new hF) dX1_erase_16 (fun a_2 => ?_)
  refine g_dup F rfl dX1_erase_18 ?_
  refine g_iconst F (v := (0 : Int32)) (by decide) dX1_erase_19 ?_
  refine g_iload_n F 3 rfl rfl dX1_erase_20 ?_
  refine g_iastN (P2 := gP 0 G S A Fr [(a_2, gIA G 1 (upd (fun _ => 0) 0 pumice))]) F (m := 0) rfl (by decide) (by decide) (pr_setT gM0 hF (j := 0) rfl) dX1_erase_21 ?_
  refine g_callS F (kX1_isIn hl (pr_atT (j := 0) rfl)) (lw_S q305 q306 q18 q307) myX1_isIn ⟨by decide, by decide⟩ rfl rfl (gle rfl) 2 7 (gle rfl) (gle rfl) (gle rfl) (gle rfl) dX1_erase_22 gx_n (gv_i ?_)
  refine g_top (show _ = gb (¬ pumice < (0 : Int32) ∧ ¬ (9 : Int32) < pumice) from rfl) ?_
  refine g_mono (P2 := gP 0 G S A Fr []) (fun _ hp => gP_Tl 0 hp) ?_
  refine g_callS F (kX1_requireArgument hl (c := ¬ pumice < (0 : Int32) ∧ ¬ (9 : Int32) < pumice)) (lw_S q335 q336 q18 q337) myX1_requireArgument ⟨by decide, by decide⟩ rfl rfl (gle rfl) 3 13 (gle rfl) (gle rfl) (gle rfl) (gle rfl) dX1_erase_25 (gx_1 (fun c_3 => g_out0 F E (gle rfl) (gle rfl) (fun _ hp => ⟨((if_pos c_1).trans (if_neg c_3)), gPE_0 _ hp⟩))) (gv_c (fun c_3 => ?_))
  refine g_aload_n F 0 rfl rfl dX1_erase_28 ?_
  refine g_getN F clX13 9 (by decide) (gT_w q1099 rfl) (v := .int (S.1 10 run.toNatClampNeg 9)) (gd_get (pr_at (κ := 10) (i := run.toNatClampNeg) (by decide) (gc6 (by decide) c_1.2) (gce rfl rfl)) rfl) dX1_erase_29 ?_
  refine g_iconst F (v := (-1 : Int32)) (by decide) dX1_erase_32 ?_
  have J_6 : gW (X, G, 4, Q) (gP 0 G S A Fr []) [(3, .ref (A 10 run.toNatClampNeg)), (0, .ref (A 0 0)), (1, .int run), (2, .int pumice)] 48 [.int (gb (¬ ((S.1 10 run.toNatClampNeg 9) = (-1 : Int32)) ∧ ((S.1 10 run.toNatClampNeg 10) = 0)))] 3 13 := by
    refine g_callS F (kX1_requireSupported hl (c := ¬ ((S.1 10 run.toNatClampNeg 9) = (-1 : Int32)) ∧ ((S.1 10 run.toNatClampNeg 10) = 0))) (lw_S q512 q513 q18 q514) myX1_requireSupported ⟨by decide, by decide⟩ rfl rfl (gle rfl) 4 19 (gle rfl) (gle rfl) (gle rfl) (gle rfl) dX1_erase_48 (gx_1 (fun c_7 => g_out0 F E (gle rfl) (gle rfl) (fun _ hp => ⟨((if_pos c_1).trans ((if_pos c_3).trans (if_neg c_7))), gPE_0 _ hp⟩))) (gv_c (fun c_7 => ?_))
    refine g_aload_n F 0 rfl rfl dX1_erase_51 ?_
    refine g_iconst F (v := (1 : Int32)) (by decide) dX1_erase_52 ?_
    refine g_putN (P2 := gP 0 G (gsr S.1 10 run.toNatClampNeg (upd (S.1 10 run.toNatClampNeg) 10 (1 : Int32)), S.2) A Fr []) F clX13 11 (by decide) (gT_w q1101 rfl) rfl rfl rfl (pr_put (κ := 10) (i := run.toNatClampNeg) gM0 hF (upd (S.1 10 run.toNatClampNeg) 10 (1 : Int32)) (by decide) (gc6 (by decide) c_1.2) (gce rfl rfl) (gnl rfl) rfl) dX1_erase_53 ?_
    refine g_aload_n F 0 rfl rfl dX1_erase_56 ?_
    refine g_getN F clX13 5 (by decide) (gT_w q1091 rfl) (v := .int (S.1 10 run.toNatClampNeg 3)) (gd_get (pr_at (κ := 10) (i := run.toNatClampNeg) (by decide) (gc6 (by decide) c_1.2) (gce (show (gsr S.1 10 run.toNatClampNeg (upd (S.1 10 run.toNatClampNeg) 10 (1 : Int32))) 10 run.toNatClampNeg = upd (S.1 10 run.toNatClampNeg) 10 (1 : Int32) from gsr_s) rfl)) rfl) dX1_erase_57 ?_
    exact g_retI F E rfl rfl (gle rfl) (gle rfl) dX1_erase_60 (fun _ hp => ⟨_, _, ((if_pos c_1).trans ((if_pos c_3).trans (if_pos c_7))), rfl, gPE_0 _ hp⟩)
  refine g_icmp_eq F (tgt := 47) (by decide) dX1_erase_33 (fun c_4 => ?_) (fun c_4 => ?_)
  · skip
    refine g_iconst F (v := (0 : Int32)) (by decide) dX1_erase_47 ?_
    exact g_top (gb_f (fun q => q.1 c_4)) J_6
  · skip
    refine g_aload_n F 0 rfl rfl dX1_erase_36 ?_
    refine g_getN F clX13 11 (by decide) (gT_w q1101 rfl) (v := .int (S.1 10 run.toNatClampNeg 10)) (gd_get (pr_at (κ := 10) (i := run.toNatClampNeg) (by decide) (gc6 (by decide) c_1.2) (gce rfl rfl)) rfl) dX1_erase_37 ?_
    refine g_if_ne F (tgt := 47) (by decide) dX1_erase_40 (fun c_5 => ?_) (fun c_5 => ?_)
    · skip
      refine g_iconst F (v := (0 : Int32)) (by decide) dX1_erase_47 ?_
      exact g_top (gb_f (fun q => c_5 q.2)) J_6
    · skip
      refine g_iconst F (v := (1 : Int32)) (by decide) dX1_erase_43 ?_
      refine g_goto F (tgt := 48) (by decide) dX1_erase_44 ?_
      exact g_top (gb_t (⟨c_4, c_5⟩)) J_6
