/-! LOOPS OVER THE DATA BASE -/
def gFd {α : Type} (g : Nat → α → α) (a : α) : Nat → α
  | 0 => a
  | n + 1 => g n (gFd g a n)
theorem gNw_ls {P : gH → Prop} {G : gG} {t1 t2 a len : Nat} {el : Nat → Nat} {τ : Nat × Nat} {b : Nat} {c : va_E} (h : ∀ h, P h → gLs G h t1 t2 a len el) : ∀ h, gNw P τ b c h → gLs G h t1 t2 a len el := fun h9 hp => by
  obtain ⟨h0, q1, q2, rfl⟩ := hp
  exact gLs_keep (h h0 q1) fun x τ e hx _ => gNw_h (P := P) q2 hx
theorem gL1_ls {P : gH → Prop} {G : gG} {t1 t2 a len t3 t4 a2 len2 : Nat} {el el2 : Nat → Nat} {mc : Int32} {ed cap : Nat} {f : Nat → Option Nat} (h : ∀ h, P h → gLs G h t1 t2 a len el) : ∀ h, gL1 P G t3 t4 a2 len2 el2 mc ed cap f h → gLs G h t1 t2 a len el := fun h9 hp => h h9 hp.1
theorem gP_jkL {M : Nat} {G : gG} {S : gS} {A : Nat → Nat → Nat} {Fr : gH → Prop} {T : List (Nat × va_E)} {t1 t2 a len : Nat} {el : Nat → Nat} {mc : Int32} {ed cap : Nat} {f : Nat → Option Nat} {τ : Nat × Nat} {it : Nat} {c : va_E} (hF : gFr M Fr) : ∀ h, gNw (gL1 (gP M G S A Fr T) G t1 t2 a len el mc ed cap f) τ it c h → gP M G S A Fr T h := fun h hp => gP_jk hF h (gJk_L h hp)
theorem gNwL_jk {M : Nat} {G : gG} {S : gS} {A : Nat → Nat → Nat} {Fr : gH → Prop} {T : List (Nat × va_E)} {t1 t2 a len : Nat} {el : Nat → Nat} {mc : Int32} {ed cap : Nat} {f : Nat → Option Nat} {τ : Nat × Nat} {it : Nat} {c : va_E} (hF : gFr M Fr) : ∀ h, gJk (gNw (gL1 (gP M G S A Fr T) G t1 t2 a len el mc ed cap f) τ it c) h → gNw (gL1 (gP M G S A Fr T) G t1 t2 a len el mc ed cap f) τ it c h := fun h hp => by
  obtain ⟨h1, ⟨h0, q1, q2, rfl⟩, q3⟩ := hp
  have hk : ∀ b τ2 e, h0 b = some (τ2, e) → (fun b => if b = it then none else h b) b = some (τ2, e) := fun b τ2 e hb => by
    have n : b ≠ it := fun q => by
      rw [q, q2] at hb
      cases hb
    show (if b = it then none else h b) = _
    rw [if_neg n]
    exact q3 b τ2 e (by rw [gset_n n]; exact hb)
  refine ⟨fun b => if b = it then none else h b, ⟨gP_jk hF _ ⟨h0, q1.1, hk⟩, hk _ _ _ q1.2.1, q1.2.2.1.imp id (fun z => ⟨hk _ _ _ z.1, z.2⟩), q1.2.2.2⟩, if_pos rfl, ?_⟩
  funext b
  unfold gset
  by_cases n : b = it
  · rw [if_pos n, n]
    exact q3 it τ c (by rw [gset_s])
  · rw [if_neg n]
    show h b = if b = it then none else h b
    rw [if_neg n]
def gCk8 (S : gS) (a : Int64) : Nat → Int64 := gFd (fun j s => 31 * (31 * (31 * s + (S.1 8 j 1).toInt64) + (S.1 8 j 10).toInt64) + (S.1 8 j 9).toInt64) a
def gCk10 (S : gS) (a : Int64) : Nat → Int64 := gFd (fun j s => 31 * (31 * s + (S.1 10 j 3).toInt64) + (S.1 10 j 4).toInt64) a
def gCk11 (S : gS) (a : Int64) : Nat → Int64 := gFd (fun j s => 31 * s + (gMy S j).toInt64) a
theorem gCk8_s {S : gS} {a : Int64} {j : Nat} : gCk8 S a (j + 1) = 31 * (31 * (31 * gCk8 S a j + (S.1 8 j 1).toInt64) + (S.1 8 j 10).toInt64) + (S.1 8 j 9).toInt64 := rfl
theorem gCk10_s {S : gS} {a : Int64} {j : Nat} : gCk10 S a (j + 1) = 31 * (31 * gCk10 S a j + (S.1 10 j 3).toInt64) + (S.1 10 j 4).toInt64 := rfl
theorem gCk11_s {S : gS} {a : Int64} {j : Nat} : gCk11 S a (j + 1) = 31 * gCk11 S a j + (gMy S j).toInt64 := rfl
def gAl (p : Nat → Bool) : Nat → Bool
  | 0 => true
  | n + 1 => gAl p n && p n
theorem gAl_s {p : Nat → Bool} {n : Nat} : gAl p (n + 1) = (gAl p n && p n) := rfl
def gClP (S : gS) (g j : Nat) : Bool := decide (S.1 (100 + g) j 2 = 0 ∧ ¬ 1 < gabs (S.1 8 (S.1 10 (S.1 (100 + g) j 0).toNatClampNeg 0).toNatClampNeg 10 / 50 - S.1 11 g 0))
def sM_brokenShare (S : gS)  : Value × gS := if ((gSm (fun j => S.1 10 j 3)) (S.2 10)) = 0 then (.float 0, (gsr (gsr S.1 0 0 (upd (S.1 0 0) 8 0)) 0 0 (upd (upd (S.1 0 0) 8 0) 8 (1 : Int32)), S.2)) else (.float (FP.fdiv (FP.i2f ((gSm (fun j => S.1 10 j 4)) (S.2 10))) (FP.i2f ((gSm (fun j => S.1 10 j 3)) (S.2 10)))), (gsr S.1 0 0 (upd (S.1 0 0) 8 0), S.2))
theorem kX3_brokenShare {l : Launch} {G : gG} (hl : l.stackTraces = false) {S : gS} {a0 : Nat} {Fr : gH → Prop} (hF : gFr 1 Fr) (hW : gWf S)  (hfl : ¬ gSm (fun j => S.1 10 j 3) (S.2 10) = 0 → vf_n32 (FP.fdiv (FP.i2f (gSm (fun j => S.1 10 j 4) (S.2 10))) (FP.i2f (gSm (fun j => S.1 10 j 3) (S.2 10))))) : gMet l yX3_brokenShare (ws_ yX3_brokenShare cX3_brokenShare 5 (some .float)) ⟨3, 1, 4, 53⟩ G [.ref a0] (gPE 1 G S a0 Fr) (gqN (sM_brokenShare S ) G a0 Fr) gxN := by
  refine gMet_of hl pnX3 (gle rfl) (fun X Q hX F E hNm => ?_)
  subst hX
  change gW (X, G, 5, Q) (gPE 1 G S a0 Fr) [(0, .ref a0)] 0 [] 0 0
  refine g_pe (fun A hA => ?_)
  subst hA
  change gW _ _ [(0, .ref (A 0 0))] 0 [] 0 0
  refine g_aload_n F 0 rfl rfl dX3_brokenShare_0 ?_
  refine g_callV F (kX3_begins hl (pr_at (κ := 0) (i := 0) (by decide) (gc1 (gnl rfl)) (gce rfl rfl))) (g_recv F clX3 (gd_obj (pr_at (κ := 0) (i := 0) (by decide) (gc1 (gnl rfl)) (gce rfl rfl)))) q1448 q1450 qs6 q25 q1451 myX3_begins ⟨by decide, by decide⟩ rfl rfl (gle rfl) 0 0 (gle rfl) (gle rfl) (gle rfl) (gle rfl) dX3_brokenShare_1 gx_n (gv_v ?_)
  refine g_mono (P2 := gP 1 G (gsr S.1 0 0 (upd (S.1 0 0) 8 0), S.2) A Fr []) (pr_upRow (κ := 0) (i := 0) gM1 hF (upd (S.1 0 0) 8 0) (by decide) (gc1 (gnl rfl)) (gce rfl rfl) rfl) ?_
  refine g_iconst F (v := (0 : Int32)) (by decide) dX3_brokenShare_4 ?_
  refine g_istore_n F rfl (by show 1 < 5; decide) (lv2 := [(1, .int (0 : Int32)), (0, .ref (A 0 0))]) rfl dX3_brokenShare_5 ?_
  refine g_iconst F (v := (0 : Int32)) (by decide) dX3_brokenShare_6 ?_
  refine g_istore_n F rfl (by show 2 < 5; decide) (lv2 := [(2, .int (0 : Int32)), (1, .int (0 : Int32)), (0, .ref (A 0 0))]) rfl dX3_brokenShare_7 ?_
  refine g_aload_n F 2 rfl rfl dX3_brokenShare_8 ?_
  refine g_get F clX3 11 (by decide) q1400 (v := .ref (A 310 0)) (gd_get (pr_at (κ := 0) (i := 0) (by decide) (gc1 (gnl rfl)) (gce (show (gsr S.1 0 0 (upd (S.1 0 0) 8 0)) 0 0 = upd (S.1 0 0) 8 0 from gsr_s) rfl)) rfl) dX3_brokenShare_9 ?_
  refine g_ls4 (pr_ls (M := 1) (S := (gsr S.1 0 0 (upd (S.1 0 0) 8 0), S.2)) (A := A) (κ := 10) (by decide) (Or.inl ⟨by decide, by decide⟩) (fun q => by first | decide | exact absurd q (by decide)) (fun q => by first | decide | exact absurd q (by decide))) (fun mc ed cap f hcp9 hf9 => ?_)
  refine g_callF F clJ3 (kJ3_iterator hl (5000, 0) gL1_at) (g_recv F clJ3 (gd_obj gL1_at)) q1813 q294 q222 q22 q224 (List.mem_of_getElem? (i := 4) rfl) (gT_w q223 rfl) (gT_w q221 rfl) (gT_w q293 rfl) gface_4 ⟨by decide, by decide⟩ rfl rfl (gle rfl) 1 4 (gle rfl) (gle rfl) (gle rfl) (gle rfl) dX3_brokenShare_12 gx_n (gv_x (fun it => ?_))
  refine g_astore_n F rfl (by show 3 < 5; decide) (lv2 := [(3, .ref it), (2, .int (0 : Int32)), (1, .int (0 : Int32)), (0, .ref (A 0 0))]) rfl dX3_brokenShare_17 ?_
  have K_1 : gW (X, G, 5, Q) (gP 1 G (gsr S.1 0 0 (upd (S.1 0 0) 8 0), S.2) A Fr []) [(1, .int ((gSm (fun j => S.1 10 j 3)) (S.2 10))), (2, .int ((gSm (fun j => S.1 10 j 4)) (S.2 10))), (0, .ref (A 0 0))] 57 [] 1 4 := by
    refine g_aload_n F 2 rfl rfl dX3_brokenShare_57 ?_
    refine g_iload_n F 0 rfl rfl dX3_brokenShare_58 ?_
    have J_3 : gW (X, G, 5, Q) (gP 1 G (gsr S.1 0 0 (upd (S.1 0 0) 8 0), S.2) A Fr []) [(1, .int ((gSm (fun j => S.1 10 j 3)) (S.2 10))), (2, .int ((gSm (fun j => S.1 10 j 4)) (S.2 10))), (0, .ref (A 0 0))] 67 [.int (gb (((gSm (fun j => S.1 10 j 3)) (S.2 10)) = 0)), .ref (A 0 0)] 1 4 := by
      refine g_iconst F (v := (1 : Int32)) (by decide) dX3_brokenShare_67 ?_
      refine g_callV F (kX3_fails hl (b := gb (((gSm (fun j => S.1 10 j 3)) (S.2 10)) = 0)) (nu := (1 : Int32)) (c := ((gSm (fun j => S.1 10 j 3)) (S.2 10)) = 0) gb_n0 (by decide) (pr_at (κ := 0) (i := 0) (by decide) (gc1 (gnl rfl)) (gce (show (gsr S.1 0 0 (upd (S.1 0 0) 8 0)) 0 0 = upd (S.1 0 0) 8 0 from gsr_s) rfl))) (g_recv F clX3 (gd_obj (pr_at (κ := 0) (i := 0) (by decide) (gc1 (gnl rfl)) (gce (show (gsr S.1 0 0 (upd (S.1 0 0) 8 0)) 0 0 = upd (S.1 0 0) 8 0 from gsr_s) rfl)))) q1456 q1458 qs7 q25 q1459 myX3_fails ⟨by decide, by decide⟩ rfl rfl (gle rfl) 1 4 (gle rfl) (gle rfl) (gle rfl) (gle rfl) dX3_brokenShare_68 gx_n (gv_f (fun c_4 => ?_) (fun c_4 => ?_))
      · skip
        refine g_mono (P2 := gP 1 G (gsr (gsr S.1 0 0 (upd (S.1 0 0) 8 0)) 0 0 (upd (upd (S.1 0 0) 8 0) 8 (1 : Int32)), S.2) A Fr []) (pr_upRow (κ := 0) (i := 0) gM1 hF (upd (upd (S.1 0 0) 8 0) 8 (1 : Int32)) (by decide) (gc1 (gnl rfl)) (gce (show (gsr S.1 0 0 (upd (S.1 0 0) 8 0)) 0 0 = upd (S.1 0 0) 8 0 from gsr_s) rfl) rfl) ?_
        refine g_if_eq F (tgt := 78) (by decide) dX3_brokenShare_71 (fun c => absurd c (by decide)) (fun _ => ?_)
        refine g_fconst0 F dX3_brokenShare_74 ?_
        refine g_goto F (tgt := 83) (by decide) dX3_brokenShare_75 ?_
        exact g_retF F E rfl (gle rfl) (gle rfl) dX3_brokenShare_83 (fun _ hp => ⟨_, _, (if_pos c_4), rfl, ⟨A, rfl, gP_T0 hp⟩⟩)
      · skip
        refine g_if_eq F (tgt := 78) (by decide) dX3_brokenShare_71 (fun _ => ?_) (fun c => absurd c (by decide))
        refine g_iload_n F 1 rfl rfl dX3_brokenShare_78 ?_
        refine g_i2f F dX3_brokenShare_79 ?_
        refine g_iload_n F 0 rfl rfl dX3_brokenShare_80 ?_
        refine g_i2f F dX3_brokenShare_81 ?_
        refine g_fdiv F (hfl c_4) dX3_brokenShare_82 ?_
        exact g_retF F E rfl (gle rfl) (gle rfl) dX3_brokenShare_83 (fun _ hp => ⟨_, _, (if_neg c_4), rfl, ⟨A, rfl, gP_T0 hp⟩⟩)
    refine g_if_ne F (tgt := 66) (by decide) dX3_brokenShare_59 (fun c_2 => ?_) (fun c_2 => ?_)
    · skip
      refine g_iconst F (v := (0 : Int32)) (by decide) dX3_brokenShare_66 ?_
      exact g_top (gb_f c_2) J_3
    · skip
      refine g_iconst F (v := (1 : Int32)) (by decide) dX3_brokenShare_62 ?_
      refine g_goto F (tgt := 67) (by decide) dX3_brokenShare_63 ?_
      exact g_top (gb_t c_2) J_3
  have hlen9 : (S.2 10) ≤ 150 := gw_n hW _
  have hl64 : (S.2 10) ≤ 64 := gw_64 hW _
  have LP : ∀ (r j : Nat) (last : Int32) (s0 : Int32) (s1 : Int32), j + r = (S.2 10) → s0 = (gSm (fun j => S.1 10 j 3)) j → s1 = (gSm (fun j => S.1 10 j 4)) j → gW (X, G, 5, Q) (gNw (gL1 (gP 1 G (gsr S.1 0 0 (upd (S.1 0 0) 8 0), S.2) A Fr []) G (10 + 300 + 1000 * 1) (10 + 600 + 1000 * 1) (A 310 0) (S.2 10) (A 10) mc ed cap f) (5000, 0) it (.inr (17, [.int (nI j), .int last, .int mc, .ref (A 310 0)]))) [(1, .int s0), (2, .int s1), (3, .ref it), (0, .ref (A 0 0))] 18 [] 1 4 := by
    intro r
    induction r with
    | zero =>
      intro j last s0 s1 hj hs0 hs1
      refine g_aload_n F 2 rfl rfl dX3_brokenShare_18 ?_
      refine g_callF F clJ20 (kJ20_hasNext hl (gNw_rd gL1_at) gNw_at) (g_recv F clJ20 (gd_obj gNw_at)) q1815 q249 q251 q55 q253 (List.mem_of_getElem? (i := 6) rfl) (gT_w q252 rfl) (gT_w q250 rfl) (gT_w q248 rfl) gface_6 ⟨by decide, by decide⟩ rfl rfl (gle rfl) 1 4 (gle rfl) (gle rfl) (gle rfl) (gle rfl) dX3_brokenShare_19 gx_n (gv_i ?_)
      refine gb_if_eq F (tgt := 57) (by decide) dX3_brokenShare_24 (fun _ => ?_) (fun c => absurd c (by rw [← hj]; simp))
      refine g_lv [0,1,3] (lv2 := [(1, .int s0), (2, .int s1), (0, .ref (A 0 0))]) rfl ?_
      refine g_mono (P2 := gP 1 G (gsr S.1 0 0 (upd (S.1 0 0) 8 0), S.2) A Fr []) (gP_jkL hF) ?_
      have q6 : j = (S.2 10) := by omega
      rw [hs0, hs1, q6]
      exact K_1
    | succ r IH =>
      intro j last s0 s1 hj hs0 hs1
      have hjl : j < (S.2 10) := by omega
      have hcp := hcp9 (Nat.lt_of_le_of_lt (Nat.zero_le _) hjl)
      refine g_aload_n F 2 rfl rfl dX3_brokenShare_18 ?_
      refine g_callF F clJ20 (kJ20_hasNext hl (gNw_rd gL1_at) gNw_at) (g_recv F clJ20 (gd_obj gNw_at)) q1815 q249 q251 q55 q253 (List.mem_of_getElem? (i := 6) rfl) (gT_w q252 rfl) (gT_w q250 rfl) (gT_w q248 rfl) gface_6 ⟨by decide, by decide⟩ rfl rfl (gle rfl) 1 4 (gle rfl) (gle rfl) (gle rfl) (gle rfl) dX3_brokenShare_19 gx_n (gv_i ?_)
      refine gb_if_eq F (tgt := 57) (by decide) dX3_brokenShare_24 (fun c => absurd (nI_ne hjl (by omega)) c) (fun _ => ?_)
      refine g_aload_n F 2 rfl rfl dX3_brokenShare_27 ?_
      refine g_callF F clJ20 (kJ20_next hl (gNw_rd gL1_at) gNw_at (gNw_rd (gL1_ed (Nat.lt_of_le_of_lt (Nat.zero_le _) hjl))) (nI_lt hjl (by omega)) (nI_lt (Nat.lt_of_lt_of_le hjl hcp.1) (by omega)) (vp_in_nI (Nat.lt_of_lt_of_le hjl hcp.1) (by omega)) (by rw [nI_clamp (by omega)]; exact hf9 j hjl)) (g_recv F clJ20 (gd_obj gNw_at)) q1817 q258 q260 q55 q262 (List.mem_of_getElem? (i := 7) rfl) (gT_w q261 rfl) (gT_w q259 rfl) (gT_w q248 rfl) gface_7 ⟨by decide, by decide⟩ rfl rfl (gle rfl) 1 4 (gle rfl) (gle rfl) (gle rfl) (gle rfl) dX3_brokenShare_28 gx_n (gv_i ?_)
      refine g_mono (P2 := (gNw (gL1 (gP 1 G (gsr S.1 0 0 (upd (S.1 0 0) 8 0), S.2) A Fr []) G (10 + 300 + 1000 * 1) (10 + 600 + 1000 * 1) (A 310 0) (S.2 10) (A 10) mc ed cap f) (5000, 0) it (.inr (17, [.int (nI j + 1), .int (nI j), .int mc, .ref (A 310 0)])))) gNw_up ?_
      refine g_castS F (g_recv F clX14 (gd_obj (gNw_rd (gL1_P (pr_at (κ := 10) (i := j) (by decide) (gc6 (by decide) hjl) (gce (show (gsr S.1 0 0 (upd (S.1 0 0) 8 0)) 10 j = S.1 10 j from (gsr_p (by decide) rfl)) rfl)))))) q1673 dX3_brokenShare_33 ?_
      refine g_astore F (by show 4 < 5; decide) (lv2 := [(4, .ref (A 10 j)), (1, .int s0), (2, .int s1), (3, .ref it), (0, .ref (A 0 0))]) rfl dX3_brokenShare_36 ?_
      refine g_iload_n F 1 rfl rfl dX3_brokenShare_38 ?_
      refine g_aload F 0 rfl dX3_brokenShare_39 ?_
      refine g_getN F clX14 3 (by decide) (gT_w q1682 rfl) (v := .int (S.1 10 j 3)) (gd_get (gNw_rd (gL1_P (pr_at (κ := 10) (i := j) (by decide) (gc6 (by decide) hjl) (gce (show (gsr S.1 0 0 (upd (S.1 0 0) 8 0)) 10 j = S.1 10 j from (gsr_p (by decide) rfl)) rfl)))) rfl) dX3_brokenShare_41 ?_
      refine g_iadd F dX3_brokenShare_44 ?_
      refine g_istore_n F rfl (by show 1 < 5; decide) (lv2 := [(1, .int (s0 + (S.1 10 j 3))), (4, .ref (A 10 j)), (2, .int s1), (3, .ref it), (0, .ref (A 0 0))]) rfl dX3_brokenShare_45 ?_
      refine g_iload_n F 2 rfl rfl dX3_brokenShare_46 ?_
      refine g_aload F 1 rfl dX3_brokenShare_47 ?_
      refine g_getN F clX14 4 (by decide) (gT_w q1683 rfl) (v := .int (S.1 10 j 4)) (gd_get (gNw_rd (gL1_P (pr_at (κ := 10) (i := j) (by decide) (gc6 (by decide) hjl) (gce (show (gsr S.1 0 0 (upd (S.1 0 0) 8 0)) 10 j = S.1 10 j from (gsr_p (by decide) rfl)) rfl)))) rfl) dX3_brokenShare_49 ?_
      refine g_iadd F dX3_brokenShare_52 ?_
      refine g_istore_n F rfl (by show 2 < 5; decide) (lv2 := [(2, .int (s1 + (S.1 10 j 4))), (1, .int (s0 + (S.1 10 j 3))), (4, .ref (A 10 j)), (3, .ref it), (0, .ref (A 0 0))]) rfl dX3_brokenShare_53 ?_
      refine g_goto F (tgt := 18) (by decide) dX3_brokenShare_54 ?_
      refine g_lv [1,0,3,4] (lv2 := [(1, .int (s0 + (S.1 10 j 3))), (2, .int (s1 + (S.1 10 j 4))), (3, .ref it), (0, .ref (A 0 0))]) rfl ?_
      have q7 : nI j + 1 = nI (j + 1) := (nI_succ j).symm
      rw [q7]
      exact IH (j + 1) _ _ _ (by omega) (by subst hs0; rfl) (by subst hs1; rfl)
  refine g_lv [2,1,0,3] (lv2 := [(1, .int (0 : Int32)), (2, .int (0 : Int32)), (3, .ref it), (0, .ref (A 0 0))]) rfl ?_
  exact LP (S.2 10) 0 _ _ _ (Nat.zero_add _) rfl rfl

def sM_meanDarkness (S : gS)  : Value × gS := if ((gSm (fun j => gb (¬ (S.1 8 j 6 = (-1 : Int32))))) (S.2 8)) = 0 then (.double 0, (gsr (gsr S.1 0 0 (upd (S.1 0 0) 8 0)) 0 0 (upd (upd (S.1 0 0) 8 0) 8 (1 : Int32)), S.2)) else (.double (FP.ddiv (FP.i2d ((gSm (fun j => if S.1 8 j 6 = (-1 : Int32) then (0 : Int32) else (S.1 8 j 10))) (S.2 8))) (FP.i2d ((gSm (fun j => gb (¬ (S.1 8 j 6 = (-1 : Int32))))) (S.2 8)))), (gsr S.1 0 0 (upd (S.1 0 0) 8 0), S.2))
theorem kX3_meanDarkness {l : Launch} {G : gG} (hl : l.stackTraces = false) {S : gS} {a0 : Nat} {Fr : gH → Prop} (hF : gFr 1 Fr) (hW : gWf S)  (hfl : ¬ gSm (fun j => gb (¬ (S.1 8 j 6 = (-1 : Int32)))) (S.2 8) = 0 → vf_n64 (FP.ddiv (FP.i2d (gSm (fun j => if S.1 8 j 6 = (-1 : Int32) then (0 : Int32) else (S.1 8 j 10)) (S.2 8))) (FP.i2d (gSm (fun j => gb (¬ (S.1 8 j 6 = (-1 : Int32)))) (S.2 8))))) : gMet l yX3_meanDarkness (ws_ yX3_meanDarkness cX3_meanDarkness 5 (some .double)) ⟨3, 1, 4, 53⟩ G [.ref a0] (gPE 1 G S a0 Fr) (gqN (sM_meanDarkness S ) G a0 Fr) gxN := by
  refine gMet_of hl pnX3 (gle rfl) (fun X Q hX F E hNm => ?_)
  subst hX
  change gW (X, G, 5, Q) (gPE 1 G S a0 Fr) [(0, .ref a0)] 0 [] 0 0
  refine g_pe (fun A hA => ?_)
  subst hA
  change gW _ _ [(0, .ref (A 0 0))] 0 [] 0 0
  refine g_aload_n F 0 rfl rfl dX3_meanDarkness_0 ?_
  refine g_callV F (kX3_begins hl (pr_at (κ := 0) (i := 0) (by decide) (gc1 (gnl rfl)) (gce rfl rfl))) (g_recv F clX3 (gd_obj (pr_at (κ := 0) (i := 0) (by decide) (gc1 (gnl rfl)) (gce rfl rfl)))) q1448 q1450 qs6 q25 q1451 myX3_begins ⟨by decide, by decide⟩ rfl rfl (gle rfl) 0 0 (gle rfl) (gle rfl) (gle rfl) (gle rfl) dX3_meanDarkness_1 gx_n (gv_v ?_)
  refine g_mono (P2 := gP 1 G (gsr S.1 0 0 (upd (S.1 0 0) 8 0), S.2) A Fr []) (pr_upRow (κ := 0) (i := 0) gM1 hF (upd (S.1 0 0) 8 0) (by decide) (gc1 (gnl rfl)) (gce rfl rfl) rfl) ?_
  refine g_iconst F (v := (0 : Int32)) (by decide) dX3_meanDarkness_4 ?_
  refine g_istore_n F rfl (by show 1 < 5; decide) (lv2 := [(1, .int (0 : Int32)), (0, .ref (A 0 0))]) rfl dX3_meanDarkness_5 ?_
  refine g_iconst F (v := (0 : Int32)) (by decide) dX3_meanDarkness_6 ?_
  refine g_istore_n F rfl (by show 2 < 5; decide) (lv2 := [(2, .int (0 : Int32)), (1, .int (0 : Int32)), (0, .ref (A 0 0))]) rfl dX3_meanDarkness_7 ?_
  refine g_aload_n F 2 rfl rfl dX3_meanDarkness_8 ?_
  refine g_get F clX3 9 (by decide) q1398 (v := .ref (A 308 0)) (gd_get (pr_at (κ := 0) (i := 0) (by decide) (gc1 (gnl rfl)) (gce (show (gsr S.1 0 0 (upd (S.1 0 0) 8 0)) 0 0 = upd (S.1 0 0) 8 0 from gsr_s) rfl)) rfl) dX3_meanDarkness_9 ?_
  refine g_ls4 (pr_ls (M := 1) (S := (gsr S.1 0 0 (upd (S.1 0 0) 8 0), S.2)) (A := A) (κ := 8) (by decide) (Or.inl ⟨by decide, by decide⟩) (fun q => by first | decide | exact absurd q (by decide)) (fun q => by first | decide | exact absurd q (by decide))) (fun mc ed cap f hcp9 hf9 => ?_)
  refine g_callF F clJ3 (kJ3_iterator hl (5000, 0) gL1_at) (g_recv F clJ3 (gd_obj gL1_at)) q1813 q294 q222 q22 q224 (List.mem_of_getElem? (i := 4) rfl) (gT_w q223 rfl) (gT_w q221 rfl) (gT_w q293 rfl) gface_4 ⟨by decide, by decide⟩ rfl rfl (gle rfl) 1 4 (gle rfl) (gle rfl) (gle rfl) (gle rfl) dX3_meanDarkness_12 gx_n (gv_x (fun it => ?_))
  refine g_astore_n F rfl (by show 3 < 5; decide) (lv2 := [(3, .ref it), (2, .int (0 : Int32)), (1, .int (0 : Int32)), (0, .ref (A 0 0))]) rfl dX3_meanDarkness_17 ?_
  have K_1 : gW (X, G, 5, Q) (gP 1 G (gsr S.1 0 0 (upd (S.1 0 0) 8 0), S.2) A Fr []) [(1, .int ((gSm (fun j => if S.1 8 j 6 = (-1 : Int32) then (0 : Int32) else (S.1 8 j 10))) (S.2 8))), (2, .int ((gSm (fun j => gb (¬ (S.1 8 j 6 = (-1 : Int32))))) (S.2 8))), (0, .ref (A 0 0))] 79 [] 1 4 := by
    refine g_aload_n F 2 rfl rfl dX3_meanDarkness_79 ?_
    refine g_iload_n F 1 rfl rfl dX3_meanDarkness_80 ?_
    have J_3 : gW (X, G, 5, Q) (gP 1 G (gsr S.1 0 0 (upd (S.1 0 0) 8 0), S.2) A Fr []) [(1, .int ((gSm (fun j => if S.1 8 j 6 = (-1 : Int32) then (0 : Int32) else (S.1 8 j 10))) (S.2 8))), (2, .int ((gSm (fun j => gb (¬ (S.1 8 j 6 = (-1 : Int32))))) (S.2 8))), (0, .ref (A 0 0))] 89 [.int (gb (((gSm (fun j => gb (¬ (S.1 8 j 6 = (-1 : Int32))))) (S.2 8)) = 0)), .ref (A 0 0)] 1 4 := by
      refine g_iconst F (v := (1 : Int32)) (by decide) dX3_meanDarkness_89 ?_
      refine g_callV F (kX3_fails hl (b := gb (((gSm (fun j => gb (¬ (S.1 8 j 6 = (-1 : Int32))))) (S.2 8)) = 0)) (nu := (1 : Int32)) (c := ((gSm (fun j => gb (¬ (S.1 8 j 6 = (-1 : Int32))))) (S.2 8)) = 0) gb_n0 (by decide) (pr_at (κ := 0) (i := 0) (by decide) (gc1 (gnl rfl)) (gce (show (gsr S.1 0 0 (upd (S.1 0 0) 8 0)) 0 0 = upd (S.1 0 0) 8 0 from gsr_s) rfl))) (g_recv F clX3 (gd_obj (pr_at (κ := 0) (i := 0) (by decide) (gc1 (gnl rfl)) (gce (show (gsr S.1 0 0 (upd (S.1 0 0) 8 0)) 0 0 = upd (S.1 0 0) 8 0 from gsr_s) rfl)))) q1456 q1458 qs7 q25 q1459 myX3_fails ⟨by decide, by decide⟩ rfl rfl (gle rfl) 1 4 (gle rfl) (gle rfl) (gle rfl) (gle rfl) dX3_meanDarkness_90 gx_n (gv_f (fun c_4 => ?_) (fun c_4 => ?_))
      · skip
        refine g_mono (P2 := gP 1 G (gsr (gsr S.1 0 0 (upd (S.1 0 0) 8 0)) 0 0 (upd (upd (S.1 0 0) 8 0) 8 (1 : Int32)), S.2) A Fr []) (pr_upRow (κ := 0) (i := 0) gM1 hF (upd (upd (S.1 0 0) 8 0) 8 (1 : Int32)) (by decide) (gc1 (gnl rfl)) (gce (show (gsr S.1 0 0 (upd (S.1 0 0) 8 0)) 0 0 = upd (S.1 0 0) 8 0 from gsr_s) rfl) rfl) ?_
        refine g_if_eq F (tgt := 100) (by decide) dX3_meanDarkness_93 (fun c => absurd c (by decide)) (fun _ => ?_)
        refine g_dconst0 F dX3_meanDarkness_96 ?_
        refine g_goto F (tgt := 105) (by decide) dX3_meanDarkness_97 ?_
        exact g_retD F E rfl (gle rfl) (gle rfl) dX3_meanDarkness_105 (fun _ hp => ⟨_, _, (if_pos c_4), rfl, ⟨A, rfl, gP_T0 hp⟩⟩)
      · skip
        refine g_if_eq F (tgt := 100) (by decide) dX3_meanDarkness_93 (fun _ => ?_) (fun c => absurd c (by decide))
        refine g_iload_n F 0 rfl rfl dX3_meanDarkness_100 ?_
        refine g_i2d F dX3_meanDarkness_101 ?_
        refine g_iload_n F 1 rfl rfl dX3_meanDarkness_102 ?_
        refine g_i2d F dX3_meanDarkness_103 ?_
        refine g_ddiv F (hfl c_4) dX3_meanDarkness_104 ?_
        exact g_retD F E rfl (gle rfl) (gle rfl) dX3_meanDarkness_105 (fun _ hp => ⟨_, _, (if_neg c_4), rfl, ⟨A, rfl, gP_T0 hp⟩⟩)
    refine g_if_ne F (tgt := 88) (by decide) dX3_meanDarkness_81 (fun c_2 => ?_) (fun c_2 => ?_)
    · skip
      refine g_iconst F (v := (0 : Int32)) (by decide) dX3_meanDarkness_88 ?_
      exact g_top (gb_f c_2) J_3
    · skip
      refine g_iconst F (v := (1 : Int32)) (by decide) dX3_meanDarkness_84 ?_
      refine g_goto F (tgt := 89) (by decide) dX3_meanDarkness_85 ?_
      exact g_top (gb_t c_2) J_3
  have hlen9 : (S.2 8) ≤ 150 := gw_n hW _
  have hl64 : (S.2 8) ≤ 64 := gw_64 hW _
  have LP : ∀ (r j : Nat) (last : Int32) (s0 : Int32) (s1 : Int32), j + r = (S.2 8) → s0 = (gSm (fun j => if S.1 8 j 6 = (-1 : Int32) then (0 : Int32) else (S.1 8 j 10))) j → s1 = (gSm (fun j => gb (¬ (S.1 8 j 6 = (-1 : Int32))))) j → gW (X, G, 5, Q) (gNw (gL1 (gP 1 G (gsr S.1 0 0 (upd (S.1 0 0) 8 0), S.2) A Fr []) G (8 + 300 + 1000 * 1) (8 + 600 + 1000 * 1) (A 308 0) (S.2 8) (A 8) mc ed cap f) (5000, 0) it (.inr (17, [.int (nI j), .int last, .int mc, .ref (A 308 0)]))) [(1, .int s0), (2, .int s1), (3, .ref it), (0, .ref (A 0 0))] 18 [] 1 4 := by
    intro r
    induction r with
    | zero =>
      intro j last s0 s1 hj hs0 hs1
      refine g_aload_n F 2 rfl rfl dX3_meanDarkness_18 ?_
      refine g_callF F clJ20 (kJ20_hasNext hl (gNw_rd gL1_at) gNw_at) (g_recv F clJ20 (gd_obj gNw_at)) q1815 q249 q251 q55 q253 (List.mem_of_getElem? (i := 6) rfl) (gT_w q252 rfl) (gT_w q250 rfl) (gT_w q248 rfl) gface_6 ⟨by decide, by decide⟩ rfl rfl (gle rfl) 1 4 (gle rfl) (gle rfl) (gle rfl) (gle rfl) dX3_meanDarkness_19 gx_n (gv_i ?_)
      refine gb_if_eq F (tgt := 79) (by decide) dX3_meanDarkness_24 (fun _ => ?_) (fun c => absurd c (by rw [← hj]; simp))
      refine g_lv [0,1,3] (lv2 := [(1, .int s0), (2, .int s1), (0, .ref (A 0 0))]) rfl ?_
      refine g_mono (P2 := gP 1 G (gsr S.1 0 0 (upd (S.1 0 0) 8 0), S.2) A Fr []) (gP_jkL hF) ?_
      have q6 : j = (S.2 8) := by omega
      rw [hs0, hs1, q6]
      exact K_1
    | succ r IH =>
      intro j last s0 s1 hj hs0 hs1
      have hjl : j < (S.2 8) := by omega
      have hcp := hcp9 (Nat.lt_of_le_of_lt (Nat.zero_le _) hjl)
      refine g_aload_n F 2 rfl rfl dX3_meanDarkness_18 ?_
      refine g_callF F clJ20 (kJ20_hasNext hl (gNw_rd gL1_at) gNw_at) (g_recv F clJ20 (gd_obj gNw_at)) q1815 q249 q251 q55 q253 (List.mem_of_getElem? (i := 6) rfl) (gT_w q252 rfl) (gT_w q250 rfl) (gT_w q248 rfl) gface_6 ⟨by decide, by decide⟩ rfl rfl (gle rfl) 1 4 (gle rfl) (gle rfl) (gle rfl) (gle rfl) dX3_meanDarkness_19 gx_n (gv_i ?_)
      refine gb_if_eq F (tgt := 79) (by decide) dX3_meanDarkness_24 (fun c => absurd (nI_ne hjl (by omega)) c) (fun _ => ?_)
      refine g_aload_n F 2 rfl rfl dX3_meanDarkness_27 ?_
      refine g_callF F clJ20 (kJ20_next hl (gNw_rd gL1_at) gNw_at (gNw_rd (gL1_ed (Nat.lt_of_le_of_lt (Nat.zero_le _) hjl))) (nI_lt hjl (by omega)) (nI_lt (Nat.lt_of_lt_of_le hjl hcp.1) (by omega)) (vp_in_nI (Nat.lt_of_lt_of_le hjl hcp.1) (by omega)) (by rw [nI_clamp (by omega)]; exact hf9 j hjl)) (g_recv F clJ20 (gd_obj gNw_at)) q1817 q258 q260 q55 q262 (List.mem_of_getElem? (i := 7) rfl) (gT_w q261 rfl) (gT_w q259 rfl) (gT_w q248 rfl) gface_7 ⟨by decide, by decide⟩ rfl rfl (gle rfl) 1 4 (gle rfl) (gle rfl) (gle rfl) (gle rfl) dX3_meanDarkness_28 gx_n (gv_i ?_)
      refine g_mono (P2 := (gNw (gL1 (gP 1 G (gsr S.1 0 0 (upd (S.1 0 0) 8 0), S.2) A Fr []) G (8 + 300 + 1000 * 1) (8 + 600 + 1000 * 1) (A 308 0) (S.2 8) (A 8) mc ed cap f) (5000, 0) it (.inr (17, [.int (nI j + 1), .int (nI j), .int mc, .ref (A 308 0)])))) gNw_up ?_
      refine g_castS F (g_recv F clX10 (gd_obj (gNw_rd (gL1_P (pr_at (κ := 8) (i := j) (by decide) (gc6 (by decide) hjl) (gce (show (gsr S.1 0 0 (upd (S.1 0 0) 8 0)) 8 j = S.1 8 j from (gsr_p (by decide) rfl)) rfl)))))) q1524 dX3_meanDarkness_33 ?_
      refine g_astore F (by show 4 < 5; decide) (lv2 := [(4, .ref (A 8 j)), (1, .int s0), (2, .int s1), (3, .ref it), (0, .ref (A 0 0))]) rfl dX3_meanDarkness_36 ?_
      refine g_iload_n F 1 rfl rfl dX3_meanDarkness_38 ?_
      refine g_aload F 0 rfl dX3_meanDarkness_39 ?_
      refine g_getN F clX10 6 (by decide) (gT_w q1537 rfl) (v := .int (S.1 8 j 6)) (gd_get (gNw_rd (gL1_P (pr_at (κ := 8) (i := j) (by decide) (gc6 (by decide) hjl) (gce (show (gsr S.1 0 0 (upd (S.1 0 0) 8 0)) 8 j = S.1 8 j from (gsr_p (by decide) rfl)) rfl)))) rfl) dX3_meanDarkness_41 ?_
      refine g_iconst F (v := (-1 : Int32)) (by decide) dX3_meanDarkness_44 ?_
      have J_6 : gW (X, G, 5, Q) (gNw (gL1 (gP 1 G (gsr S.1 0 0 (upd (S.1 0 0) 8 0), S.2) A Fr []) G (8 + 300 + 1000 * 1) (8 + 600 + 1000 * 1) (A 308 0) (S.2 8) (A 8) mc ed cap f) (5000, 0) it (.inr (17, [.int (nI j + 1), .int (nI j), .int mc, .ref (A 308 0)]))) [(4, .ref (A 8 j)), (1, .int s0), (2, .int s1), (3, .ref it), (0, .ref (A 0 0))] 57 [.int (if (S.1 8 j 6) = (-1 : Int32) then (0 : Int32) else (S.1 8 j 10)), .int s0] 1 4 := by
        refine g_iadd F dX3_meanDarkness_57 ?_
        refine g_istore_n F rfl (by show 1 < 5; decide) (lv2 := [(1, .int (s0 + (if (S.1 8 j 6) = (-1 : Int32) then (0 : Int32) else (S.1 8 j 10)))), (4, .ref (A 8 j)), (2, .int s1), (3, .ref it), (0, .ref (A 0 0))]) rfl dX3_meanDarkness_58 ?_
        refine g_iload_n F 2 rfl rfl dX3_meanDarkness_59 ?_
        refine g_aload F 1 rfl dX3_meanDarkness_60 ?_
        refine g_getN F clX10 6 (by decide) (gT_w q1537 rfl) (v := .int (S.1 8 j 6)) (gd_get (gNw_rd (gL1_P (pr_at (κ := 8) (i := j) (by decide) (gc6 (by decide) hjl) (gce (show (gsr S.1 0 0 (upd (S.1 0 0) 8 0)) 8 j = S.1 8 j from (gsr_p (by decide) rfl)) rfl)))) rfl) dX3_meanDarkness_62 ?_
        refine g_iconst F (v := (-1 : Int32)) (by decide) dX3_meanDarkness_65 ?_
        have J_8 : gW (X, G, 5, Q) (gNw (gL1 (gP 1 G (gsr S.1 0 0 (upd (S.1 0 0) 8 0), S.2) A Fr []) G (8 + 300 + 1000 * 1) (8 + 600 + 1000 * 1) (A 308 0) (S.2 8) (A 8) mc ed cap f) (5000, 0) it (.inr (17, [.int (nI j + 1), .int (nI j), .int mc, .ref (A 308 0)]))) [(1, .int (s0 + (if (S.1 8 j 6) = (-1 : Int32) then (0 : Int32) else (S.1 8 j 10)))), (4, .ref (A 8 j)), (2, .int s1), (3, .ref it), (0, .ref (A 0 0))] 74 [.int (gb (¬ ((S.1 8 j 6) = (-1 : Int32)))), .int s1] 1 4 := by
          refine g_iadd F dX3_meanDarkness_74 ?_
          refine g_istore_n F rfl (by show 2 < 5; decide) (lv2 := [(2, .int (s1 + (gb (¬ ((S.1 8 j 6) = (-1 : Int32)))))), (1, .int (s0 + (if (S.1 8 j 6) = (-1 : Int32) then (0 : Int32) else (S.1 8 j 10)))), (4, .ref (A 8 j)), (3, .ref it), (0, .ref (A 0 0))]) rfl dX3_meanDarkness_75 ?_
          refine g_goto F (tgt := 18) (by decide) dX3_meanDarkness_76 ?_
          refine g_lv [1,0,3,4] (lv2 := [(1, .int (s0 + (if (S.1 8 j 6) = (-1 : Int32) then (0 : Int32) else (S.1 8 j 10)))), (2, .int (s1 + (gb (¬ ((S.1 8 j 6) = (-1 : Int32)))))), (3, .ref it), (0, .ref (A 0 0))]) rfl ?_
          have q7 : nI j + 1 = nI (j + 1) := (nI_succ j).symm
          rw [q7]
          exact IH (j + 1) _ _ _ (by omega) (by subst hs0; rfl) (by subst hs1; rfl)
        refine g_icmp_ne F (tgt := 73) (by decide) dX3_meanDarkness_66 (fun c_7 => ?_) (fun c_7 => ?_)
        · skip
          refine g_iconst F (v := (1 : Int32)) (by decide) dX3_meanDarkness_73 ?_
          exact g_top (gb_t c_7) J_8
        · skip
          refine g_iconst F (v := (0 : Int32)) (by decide) dX3_meanDarkness_69 ?_
          refine g_goto F (tgt := 74) (by decide) dX3_meanDarkness_70 ?_
          exact g_top (gb_f (fun q => q c_7)) J_8
      refine g_icmp_ne F (tgt := 52) (by decide) dX3_meanDarkness_45 (fun c_5 => ?_) (fun c_5 => ?_)
      · skip
        refine g_aload F 0 rfl dX3_meanDarkness_52 ?_
        refine g_getN F clX10 10 (by decide) (gT_w q1541 rfl) (v := .int (S.1 8 j 10)) (gd_get (gNw_rd (gL1_P (pr_at (κ := 8) (i := j) (by decide) (gc6 (by decide) hjl) (gce (show (gsr S.1 0 0 (upd (S.1 0 0) 8 0)) 8 j = S.1 8 j from (gsr_p (by decide) rfl)) rfl)))) rfl) dX3_meanDarkness_54 ?_
        exact g_top (by rw [if_neg c_5]) J_6
      · skip
        refine g_iconst F (v := (0 : Int32)) (by decide) dX3_meanDarkness_48 ?_
        refine g_goto F (tgt := 57) (by decide) dX3_meanDarkness_49 ?_
        exact g_top (by rw [if_pos c_5]) J_6
  refine g_lv [2,1,0,3] (lv2 := [(1, .int (0 : Int32)), (2, .int (0 : Int32)), (3, .ref it), (0, .ref (A 0 0))]) rfl ?_
  exact LP (S.2 8) 0 _ _ _ (Nat.zero_add _) rfl rfl

def sM_claim (S : gS) (gross : Int32) : Value × gS := if ¬ gIn gross (S.2 11) then (.int (0 : Int32), (gsr (gsr S.1 0 0 (upd (S.1 0 0) 8 0)) 0 0 (upd (upd (S.1 0 0) 8 0) 8 1), S.2)) else (.int (gb (gAl (gClP S gross.toNatClampNeg) (S.2 (100 + gross.toNatClampNeg)) = true)), (gsr S.1 0 0 (upd (S.1 0 0) 8 0), S.2))
theorem kX3_claim {l : Launch} {G : gG} (hl : l.stackTraces = false) {S : gS} {a0 : Nat} {Fr : gH → Prop} (hF : gFr 1 Fr) (hW : gWf S) {gross : Int32}  : gMet l yX3_claim (ws_ yX3_claim cX3_claim 6 (some .boolean)) ⟨3, 1, 4, 67⟩ G [.ref a0, .int gross] (gPE 1 G S a0 Fr) (gqN (sM_claim S gross) G a0 Fr) gxN := by
  refine gMet_of hl pnX3 (gle rfl) (fun X Q hX F E hNm => ?_)
  subst hX
  change gW (X, G, 6, Q) (gPE 1 G S a0 Fr) [(0, .ref a0), (1, .int gross)] 0 [] 0 0
  refine g_pe (fun A hA => ?_)
  subst hA
  change gW _ _ [(0, .ref (A 0 0)), (1, .int gross)] 0 [] 0 0
  refine g_aload_n F 0 rfl rfl dX3_claim_0 ?_
  refine g_callV F (kX3_begins hl (pr_at (κ := 0) (i := 0) (by decide) (gc1 (gnl rfl)) (gce rfl rfl))) (g_recv F clX3 (gd_obj (pr_at (κ := 0) (i := 0) (by decide) (gc1 (gnl rfl)) (gce rfl rfl)))) q1448 q1450 qs6 q25 q1451 myX3_begins ⟨by decide, by decide⟩ rfl rfl (gle rfl) 0 0 (gle rfl) (gle rfl) (gle rfl) (gle rfl) dX3_claim_1 gx_n (gv_v ?_)
  refine g_mono (P2 := gP 1 G (gsr S.1 0 0 (upd (S.1 0 0) 8 0), S.2) A Fr []) (pr_upRow (κ := 0) (i := 0) gM1 hF (upd (S.1 0 0) 8 0) (by decide) (gc1 (gnl rfl)) (gce rfl rfl) rfl) ?_
  refine g_aload_n F 0 rfl rfl dX3_claim_4 ?_
  refine g_iload_n F 1 rfl rfl dX3_claim_5 ?_
  refine g_callV F (kX3_noGross hl hF hW (x := gross)) (g_recv F clX3 (gd_obj (pr_at (κ := 0) (i := 0) (by decide) (gc1 (gnl rfl)) (gce (show (gsr S.1 0 0 (upd (S.1 0 0) 8 0)) 0 0 = upd (S.1 0 0) 8 0 from gsr_s) rfl)))) q1808 q1810 qs16 q25 q1811 myX3_noGross ⟨by decide, by decide⟩ rfl rfl (gle rfl) 0 0 (gle rfl) (gle rfl) (gle rfl) (gle rfl) dX3_claim_6 gx_n (gv_f (fun c_1 => ?_) (fun c_1 => ?_))
  · skip
    refine g_if_eq F (tgt := 14) (by decide) dX3_claim_9 (fun c => absurd c (by decide)) (fun _ => ?_)
    refine g_iconst F (v := (0 : Int32)) (by decide) dX3_claim_12 ?_
    exact g_retI F E rfl rfl (gle rfl) (gle rfl) dX3_claim_13 (fun _ hp => ⟨_, _, (if_pos c_1), rfl, ⟨A, rfl, gP_T0 hp⟩⟩)
  · skip
    refine g_if_eq F (tgt := 14) (by decide) dX3_claim_9 (fun _ => ?_) (fun c => absurd c (by decide))
    refine g_iconst F (v := (1 : Int32)) (by decide) dX3_claim_14 ?_
    refine g_istore_n F rfl (by show 2 < 6; decide) (lv2 := [(2, .int (1 : Int32)), (0, .ref (A 0 0)), (1, .int gross)]) rfl dX3_claim_15 ?_
    refine g_aload_n F 1 rfl rfl dX3_claim_16 ?_
    refine g_get F clX3 12 (by decide) q1401 (v := .ref (A 311 0)) (gd_get (pr_at (κ := 0) (i := 0) (by decide) (gc1 (gnl rfl)) (gce (show (gsr S.1 0 0 (upd (S.1 0 0) 8 0)) 0 0 = upd (S.1 0 0) 8 0 from gsr_s) rfl)) rfl) dX3_claim_17 ?_
    refine g_iload_n F 2 rfl rfl dX3_claim_20 ?_
    refine g_callF F clJ3 (kJ3_get hl (pr_ls (M := 1) (S := (gsr S.1 0 0 (upd (S.1 0 0) 8 0), S.2)) (A := A) (κ := 11) (by decide) (Or.inl ⟨by decide, by decide⟩) (fun q => by first | decide | exact absurd q (by decide)) (fun q => by first | decide | exact absurd q (by decide))) (j := gross.toNatClampNeg) (Decidable.not_not.mp c_1).2 (gw_n hW _) rfl (Decidable.not_not.mp c_1).1) (g_recv F clJ3 (gls_obj (pr_ls (M := 1) (S := (gsr S.1 0 0 (upd (S.1 0 0) 8 0), S.2)) (A := A) (κ := 11) (by decide) (Or.inl ⟨by decide, by decide⟩) (fun q => by first | decide | exact absurd q (by decide)) (fun q => by first | decide | exact absurd q (by decide))))) q1506 q809 q811 q22 q813 (List.mem_of_getElem? (i := 1) rfl) (gT_w q812 rfl) (gT_w q810 rfl) (gT_w q293 rfl) gface_1 ⟨by decide, by decide⟩ rfl rfl (gle rfl) 0 0 (gle rfl) (gle rfl) (gle rfl) (gle rfl) dX3_claim_21 gx_n (gv_i ?_)
    refine g_castS F (g_recv F clX16 (gd_obj (pr_at (κ := 11) (i := gross.toNatClampNeg) (by decide) (gc6 (by decide) (Decidable.not_not.mp c_1).2) (gce (show (gsr S.1 0 0 (upd (S.1 0 0) 8 0)) 11 gross.toNatClampNeg = S.1 11 gross.toNatClampNeg from (gsr_p (by decide) rfl)) rfl)))) q1756 dX3_claim_26 ?_
    refine g_getN F clX16 1 (by decide) (gT_w q1766 rfl) (v := .ref (A (400 + gross.toNatClampNeg) 0)) (gd_get (pr_at (κ := 11) (i := gross.toNatClampNeg) (by decide) (gc6 (by decide) (Decidable.not_not.mp c_1).2) (gce (show (gsr S.1 0 0 (upd (S.1 0 0) 8 0)) 11 gross.toNatClampNeg = S.1 11 gross.toNatClampNeg from (gsr_p (by decide) rfl)) rfl)) rfl) dX3_claim_29 ?_
    refine g_ls4 (pr_lsp (M := 1) (S := (gsr S.1 0 0 (upd (S.1 0 0) 8 0), S.2)) (A := A) (g := gross.toNatClampNeg) (gWf_0 (r := upd (S.1 0 0) 8 0) hW (gw_b hW)) (Decidable.not_not.mp c_1).2) (fun mc ed cap f hcp9 hf9 => ?_)
    refine g_callF F clJ3 (kJ3_iterator hl (5000, 0) gL1_at) (g_recv F clJ3 (gd_obj gL1_at)) q1813 q294 q222 q22 q224 (List.mem_of_getElem? (i := 4) rfl) (gT_w q223 rfl) (gT_w q221 rfl) (gT_w q293 rfl) gface_4 ⟨by decide, by decide⟩ rfl rfl (gle rfl) 1 4 (gle rfl) (gle rfl) (gle rfl) (gle rfl) dX3_claim_32 gx_n (gv_x (fun it => ?_))
    refine g_astore_n F rfl (by show 3 < 6; decide) (lv2 := [(3, .ref it), (2, .int (1 : Int32)), (0, .ref (A 0 0)), (1, .int gross)]) rfl dX3_claim_37 ?_
    have K_2 : gW (X, G, 6, Q) (gP 1 G (gsr S.1 0 0 (upd (S.1 0 0) 8 0), S.2) A Fr []) [(2, .int (gb (gAl (gClP S gross.toNatClampNeg) (S.2 (100 + gross.toNatClampNeg)) = true))), (1, .int gross), (0, .ref (A 0 0))] 143 [] 1 4 := by
      refine g_iload_n F 0 rfl rfl dX3_claim_143 ?_
      exact g_retI F E rfl gb_z (gle rfl) (gle rfl) dX3_claim_144 (fun _ hp => ⟨_, _, (if_neg c_1), rfl, ⟨A, rfl, gP_T0 hp⟩⟩)
    have hlen9 : (S.2 (100 + gross.toNatClampNeg)) ≤ 150 := gw_n hW _
    have hl64 : (S.2 (100 + gross.toNatClampNeg)) ≤ 64 := gw_64 hW _
    have LP : ∀ (r j : Nat) (last : Int32) (s0 : Int32), j + r = (S.2 (100 + gross.toNatClampNeg)) → s0 = gb (gAl (gClP S gross.toNatClampNeg) j = true) → gW (X, G, 6, Q) (gNw (gL1 (gP 1 G (gsr S.1 0 0 (upd (S.1 0 0) 8 0), S.2) A Fr []) G (100 + gross.toNatClampNeg + 300 + 1000 * 1) (100 + gross.toNatClampNeg + 600 + 1000 * 1) (A (400 + gross.toNatClampNeg) 0) (S.2 (100 + gross.toNatClampNeg)) (A (100 + gross.toNatClampNeg)) mc ed cap f) (5000, 0) it (.inr (17, [.int (nI j), .int last, .int mc, .ref (A (400 + gross.toNatClampNeg) 0)]))) [(2, .int s0), (3, .ref it), (1, .int gross), (0, .ref (A 0 0))] 38 [] 1 4 := by
      intro r
      induction r with
      | zero =>
        intro j last s0 hj hs0
        refine g_aload_n F 1 rfl rfl dX3_claim_38 ?_
        refine g_callF F clJ20 (kJ20_hasNext hl (gNw_rd gL1_at) gNw_at) (g_recv F clJ20 (gd_obj gNw_at)) q1815 q249 q251 q55 q253 (List.mem_of_getElem? (i := 6) rfl) (gT_w q252 rfl) (gT_w q250 rfl) (gT_w q248 rfl) gface_6 ⟨by decide, by decide⟩ rfl rfl (gle rfl) 1 4 (gle rfl) (gle rfl) (gle rfl) (gle rfl) dX3_claim_39 gx_n (gv_i ?_)
        refine gb_if_eq F (tgt := 143) (by decide) dX3_claim_44 (fun _ => ?_) (fun c => absurd c (by rw [← hj]; simp))
        refine g_lv [0,2,3] (lv2 := [(2, .int s0), (1, .int gross), (0, .ref (A 0 0))]) rfl ?_
        refine g_mono (P2 := gP 1 G (gsr S.1 0 0 (upd (S.1 0 0) 8 0), S.2) A Fr []) (gP_jkL hF) ?_
        have q6 : j = (S.2 (100 + gross.toNatClampNeg)) := by omega
        rw [hs0, q6]
        exact K_2
      | succ r IH =>
        intro j last s0 hj hs0
        have hjl : j < (S.2 (100 + gross.toNatClampNeg)) := by omega
        have hcp := hcp9 (Nat.lt_of_le_of_lt (Nat.zero_le _) hjl)
        refine g_aload_n F 1 rfl rfl dX3_claim_38 ?_
        refine g_callF F clJ20 (kJ20_hasNext hl (gNw_rd gL1_at) gNw_at) (g_recv F clJ20 (gd_obj gNw_at)) q1815 q249 q251 q55 q253 (List.mem_of_getElem? (i := 6) rfl) (gT_w q252 rfl) (gT_w q250 rfl) (gT_w q248 rfl) gface_6 ⟨by decide, by decide⟩ rfl rfl (gle rfl) 1 4 (gle rfl) (gle rfl) (gle rfl) (gle rfl) dX3_claim_39 gx_n (gv_i ?_)
        refine gb_if_eq F (tgt := 143) (by decide) dX3_claim_44 (fun c => absurd (nI_ne hjl (by omega)) c) (fun _ => ?_)
        refine g_aload_n F 1 rfl rfl dX3_claim_47 ?_
        refine g_callF F clJ20 (kJ20_next hl (gNw_rd gL1_at) gNw_at (gNw_rd (gL1_ed (Nat.lt_of_le_of_lt (Nat.zero_le _) hjl))) (nI_lt hjl (by omega)) (nI_lt (Nat.lt_of_lt_of_le hjl hcp.1) (by omega)) (vp_in_nI (Nat.lt_of_lt_of_le hjl hcp.1) (by omega)) (by rw [nI_clamp (by omega)]; exact hf9 j hjl)) (g_recv F clJ20 (gd_obj gNw_at)) q1817 q258 q260 q55 q262 (List.mem_of_getElem? (i := 7) rfl) (gT_w q261 rfl) (gT_w q259 rfl) (gT_w q248 rfl) gface_7 ⟨by decide, by decide⟩ rfl rfl (gle rfl) 1 4 (gle rfl) (gle rfl) (gle rfl) (gle rfl) dX3_claim_48 gx_n (gv_i ?_)
        refine g_mono (P2 := (gNw (gL1 (gP 1 G (gsr S.1 0 0 (upd (S.1 0 0) 8 0), S.2) A Fr []) G (100 + gross.toNatClampNeg + 300 + 1000 * 1) (100 + gross.toNatClampNeg + 600 + 1000 * 1) (A (400 + gross.toNatClampNeg) 0) (S.2 (100 + gross.toNatClampNeg)) (A (100 + gross.toNatClampNeg)) mc ed cap f) (5000, 0) it (.inr (17, [.int (nI j + 1), .int (nI j), .int mc, .ref (A (400 + gross.toNatClampNeg) 0)])))) gNw_up ?_
        refine g_castS F (g_recvI F (gNw_rd (gL1_P (pr_at (κ := (100 + gross.toNatClampNeg)) (i := j) (gk3 hW (Decidable.not_not.mp c_1).2) (gc6 (by omega) hjl) (gce (show (gsr S.1 0 0 (upd (S.1 0 0) 8 0)) (100 + gross.toNatClampNeg) j = S.1 (100 + gross.toNatClampNeg) j from (gsr_p (by omega) rfl)) gcell_p1))))) q1507 dX3_claim_53 ?_
        refine g_astore F (by show 4 < 6; decide) (lv2 := [(4, .ref (A (100 + gross.toNatClampNeg) j)), (2, .int s0), (3, .ref it), (1, .int gross), (0, .ref (A 0 0))]) rfl dX3_claim_56 ?_
        refine g_aload_n F 4 rfl rfl dX3_claim_58 ?_
        refine g_get F clX3 9 (by decide) q1398 (v := .ref (A 308 0)) (gd_get (gNw_rd (gL1_P (pr_at (κ := 0) (i := 0) (by decide) (gc1 (gnl rfl)) (gce (show (gsr S.1 0 0 (upd (S.1 0 0) 8 0)) 0 0 = upd (S.1 0 0) 8 0 from gsr_s) rfl)))) rfl) dX3_claim_59 ?_
        refine g_aload_n F 4 rfl rfl dX3_claim_62 ?_
        refine g_get F clX3 11 (by decide) q1400 (v := .ref (A 310 0)) (gd_get (gNw_rd (gL1_P (pr_at (κ := 0) (i := 0) (by decide) (gc1 (gnl rfl)) (gce (show (gsr S.1 0 0 (upd (S.1 0 0) 8 0)) 0 0 = upd (S.1 0 0) 8 0 from gsr_s) rfl)))) rfl) dX3_claim_63 ?_
        refine g_aload F 0 rfl dX3_claim_66 ?_
        refine g_iconst F (v := (0 : Int32)) (by decide) dX3_claim_68 ?_
        refine g_ialdN F (m := 0) rfl (by decide) (by decide) (gNw_rd (gL1_P (pr_at (κ := (100 + gross.toNatClampNeg)) (i := j) (gk3 hW (Decidable.not_not.mp c_1).2) (gc6 (by omega) hjl) (gce (show (gsr S.1 0 0 (upd (S.1 0 0) 8 0)) (100 + gross.toNatClampNeg) j = S.1 (100 + gross.toNatClampNeg) j from (gsr_p (by omega) rfl)) gcell_p1)))) dX3_claim_69 ?_
        change gW _ _ _ _ (.int (S.1 (100 + gross.toNatClampNeg) j 0) :: _) _ _
        refine g_callF F clJ3 (kJ3_get hl (gNw_ls (gL1_ls (pr_ls (M := 1) (S := (gsr S.1 0 0 (upd (S.1 0 0) 8 0), S.2)) (A := A) (κ := 10) (by decide) (Or.inl ⟨by decide, by decide⟩) (fun q => by first | decide | exact absurd q (by decide)) (fun q => by first | decide | exact absurd q (by decide))))) (j := (S.1 (100 + gross.toNatClampNeg) j 0).toNatClampNeg) (gw_p_0 hW (Decidable.not_not.mp c_1).2 hjl).2 (gw_n hW _) rfl (gw_p_0 hW (Decidable.not_not.mp c_1).2 hjl).1) (g_recv F clJ3 (gls_obj (gNw_ls (gL1_ls (pr_ls (M := 1) (S := (gsr S.1 0 0 (upd (S.1 0 0) 8 0), S.2)) (A := A) (κ := 10) (by decide) (Or.inl ⟨by decide, by decide⟩) (fun q => by first | decide | exact absurd q (by decide)) (fun q => by first | decide | exact absurd q (by decide))))))) q1506 q809 q811 q22 q813 (List.mem_of_getElem? (i := 1) rfl) (gT_w q812 rfl) (gT_w q810 rfl) (gT_w q293 rfl) gface_1 ⟨by decide, by decide⟩ rfl rfl (gle rfl) 1 4 (gle rfl) (gle rfl) (gle rfl) (gle rfl) dX3_claim_70 gx_n (gv_i ?_)
        refine g_castS F (g_recv F clX14 (gd_obj (gNw_rd (gL1_P (pr_at (κ := 10) (i := (S.1 (100 + gross.toNatClampNeg) j 0).toNatClampNeg) (by decide) (gc6 (by decide) (gw_p_0 hW (Decidable.not_not.mp c_1).2 hjl).2) (gce (show (gsr S.1 0 0 (upd (S.1 0 0) 8 0)) 10 ((S.1 (100 + gross.toNatClampNeg) j 0).toNatClampNeg) = S.1 10 ((S.1 (100 + gross.toNatClampNeg) j 0).toNatClampNeg) from (gsr_p (by decide) rfl)) rfl)))))) q1673 dX3_claim_75 ?_
        refine g_getN F clX14 0 (by decide) (gT_w q1679 rfl) (v := .int (S.1 10 ((S.1 (100 + gross.toNatClampNeg) j 0).toNatClampNeg) 0)) (gd_get (gNw_rd (gL1_P (pr_at (κ := 10) (i := (S.1 (100 + gross.toNatClampNeg) j 0).toNatClampNeg) (by decide) (gc6 (by decide) (gw_p_0 hW (Decidable.not_not.mp c_1).2 hjl).2) (gce (show (gsr S.1 0 0 (upd (S.1 0 0) 8 0)) 10 ((S.1 (100 + gross.toNatClampNeg) j 0).toNatClampNeg) = S.1 10 ((S.1 (100 + gross.toNatClampNeg) j 0).toNatClampNeg) from (gsr_p (by decide) rfl)) rfl)))) rfl) dX3_claim_78 ?_
        refine g_callF F clJ3 (kJ3_get hl (gNw_ls (gL1_ls (pr_ls (M := 1) (S := (gsr S.1 0 0 (upd (S.1 0 0) 8 0), S.2)) (A := A) (κ := 8) (by decide) (Or.inl ⟨by decide, by decide⟩) (fun q => by first | decide | exact absurd q (by decide)) (fun q => by first | decide | exact absurd q (by decide))))) (j := (S.1 10 ((S.1 (100 + gross.toNatClampNeg) j 0).toNatClampNeg) 0).toNatClampNeg) (gw_10_0 hW (gw_p_0 hW (Decidable.not_not.mp c_1).2 hjl).2).2 (gw_n hW _) rfl (gw_10_0 hW (gw_p_0 hW (Decidable.not_not.mp c_1).2 hjl).2).1) (g_recv F clJ3 (gls_obj (gNw_ls (gL1_ls (pr_ls (M := 1) (S := (gsr S.1 0 0 (upd (S.1 0 0) 8 0), S.2)) (A := A) (κ := 8) (by decide) (Or.inl ⟨by decide, by decide⟩) (fun q => by first | decide | exact absurd q (by decide)) (fun q => by first | decide | exact absurd q (by decide))))))) q1506 q809 q811 q22 q813 (List.mem_of_getElem? (i := 1) rfl) (gT_w q812 rfl) (gT_w q810 rfl) (gT_w q293 rfl) gface_1 ⟨by decide, by decide⟩ rfl rfl (gle rfl) 1 4 (gle rfl) (gle rfl) (gle rfl) (gle rfl) dX3_claim_81 gx_n (gv_i ?_)
        refine g_castS F (g_recv F clX10 (gd_obj (gNw_rd (gL1_P (pr_at (κ := 8) (i := (S.1 10 ((S.1 (100 + gross.toNatClampNeg) j 0).toNatClampNeg) 0).toNatClampNeg) (by decide) (gc6 (by decide) (gw_10_0 hW (gw_p_0 hW (Decidable.not_not.mp c_1).2 hjl).2).2) (gce (show (gsr S.1 0 0 (upd (S.1 0 0) 8 0)) 8 ((S.1 10 ((S.1 (100 + gross.toNatClampNeg) j 0).toNatClampNeg) 0).toNatClampNeg) = S.1 8 ((S.1 10 ((S.1 (100 + gross.toNatClampNeg) j 0).toNatClampNeg) 0).toNatClampNeg) from (gsr_p (by decide) rfl)) rfl)))))) q1524 dX3_claim_86 ?_
        refine g_getN F clX10 10 (by decide) (gT_w q1541 rfl) (v := .int (S.1 8 ((S.1 10 ((S.1 (100 + gross.toNatClampNeg) j 0).toNatClampNeg) 0).toNatClampNeg) 10)) (gd_get (gNw_rd (gL1_P (pr_at (κ := 8) (i := (S.1 10 ((S.1 (100 + gross.toNatClampNeg) j 0).toNatClampNeg) 0).toNatClampNeg) (by decide) (gc6 (by decide) (gw_10_0 hW (gw_p_0 hW (Decidable.not_not.mp c_1).2 hjl).2).2) (gce (show (gsr S.1 0 0 (upd (S.1 0 0) 8 0)) 8 ((S.1 10 ((S.1 (100 + gross.toNatClampNeg) j 0).toNatClampNeg) 0).toNatClampNeg) = S.1 8 ((S.1 10 ((S.1 (100 + gross.toNatClampNeg) j 0).toNatClampNeg) 0).toNatClampNeg) from (gsr_p (by decide) rfl)) rfl)))) rfl) dX3_claim_89 ?_
        refine g_bipush F (v := (50 : Int32)) (by decide) dX3_claim_92 ?_
        refine g_idiv F (by decide) dX3_claim_94 ?_
        refine g_istore F (by show 5 < 6; decide) (lv2 := [(5, .int ((S.1 8 ((S.1 10 ((S.1 (100 + gross.toNatClampNeg) j 0).toNatClampNeg) 0).toNatClampNeg) 10) / (50 : Int32))), (4, .ref (A (100 + gross.toNatClampNeg) j)), (2, .int s0), (3, .ref it), (1, .int gross), (0, .ref (A 0 0))]) rfl dX3_claim_95 ?_
        refine g_iload_n F 2 rfl rfl dX3_claim_97 ?_
        have J_6 : gW (X, G, 6, Q) (gNw (gL1 (gP 1 G (gsr S.1 0 0 (upd (S.1 0 0) 8 0), S.2) A Fr []) G (100 + gross.toNatClampNeg + 300 + 1000 * 1) (100 + gross.toNatClampNeg + 600 + 1000 * 1) (A (400 + gross.toNatClampNeg) 0) (S.2 (100 + gross.toNatClampNeg)) (A (100 + gross.toNatClampNeg)) mc ed cap f) (5000, 0) it (.inr (17, [.int (nI j + 1), .int (nI j), .int mc, .ref (A (400 + gross.toNatClampNeg) 0)]))) [(5, .int ((S.1 8 ((S.1 10 ((S.1 (100 + gross.toNatClampNeg) j 0).toNatClampNeg) 0).toNatClampNeg) 10) / (50 : Int32))), (4, .ref (A (100 + gross.toNatClampNeg) j)), (2, .int s0), (3, .ref it), (1, .int gross), (0, .ref (A 0 0))] 139 [.int (gb (¬ (s0 = 0) ∧ (((S.1 (100 + gross.toNatClampNeg) j 2) = 0) ∧ (¬ ((1 : Int32) < (gabs (((S.1 8 ((S.1 10 ((S.1 (100 + gross.toNatClampNeg) j 0).toNatClampNeg) 0).toNatClampNeg) 10) / (50 : Int32)) - (S.1 11 gross.toNatClampNeg 0))))))))] 1 4 := by
          refine g_istore_n F rfl (by show 2 < 6; decide) (lv2 := [(2, .int (gb (¬ (s0 = 0) ∧ (((S.1 (100 + gross.toNatClampNeg) j 2) = 0) ∧ (¬ ((1 : Int32) < (gabs (((S.1 8 ((S.1 10 ((S.1 (100 + gross.toNatClampNeg) j 0).toNatClampNeg) 0).toNatClampNeg) 10) / (50 : Int32)) - (S.1 11 gross.toNatClampNeg 0))))))))), (5, .int ((S.1 8 ((S.1 10 ((S.1 (100 + gross.toNatClampNeg) j 0).toNatClampNeg) 0).toNatClampNeg) 10) / (50 : Int32))), (4, .ref (A (100 + gross.toNatClampNeg) j)), (3, .ref it), (1, .int gross), (0, .ref (A 0 0))]) rfl dX3_claim_139 ?_
          refine g_goto F (tgt := 38) (by decide) dX3_claim_140 ?_
          refine g_lv [0,3,4,5] (lv2 := [(2, .int (gb (¬ (s0 = 0) ∧ (((S.1 (100 + gross.toNatClampNeg) j 2) = 0) ∧ (¬ ((1 : Int32) < (gabs (((S.1 8 ((S.1 10 ((S.1 (100 + gross.toNatClampNeg) j 0).toNatClampNeg) 0).toNatClampNeg) 10) / (50 : Int32)) - (S.1 11 gross.toNatClampNeg 0))))))))), (3, .ref it), (1, .int gross), (0, .ref (A 0 0))]) rfl ?_
          have q7 : nI j + 1 = nI (j + 1) := (nI_succ j).symm
          rw [q7]
          exact IH (j + 1) _ _ (by omega) (by subst hs0; exact gb_c (by rw [gb_n0, gAl_s, Bool.and_eq_true]; unfold gClP; rw [decide_eq_true_iff]))
        refine g_if_eq F (tgt := 138) (by decide) dX3_claim_98 (fun c_3 => ?_) (fun c_3 => ?_)
        · skip
          refine g_iconst F (v := (0 : Int32)) (by decide) dX3_claim_138 ?_
          exact g_top (gb_f (fun q => q.1 c_3)) J_6
        · skip
          refine g_aload F 1 rfl dX3_claim_101 ?_
          refine g_iconst F (v := (2 : Int32)) (by decide) dX3_claim_103 ?_
          refine g_ialdN F (m := 2) rfl (by decide) (by decide) (gNw_rd (gL1_P (pr_at (κ := (100 + gross.toNatClampNeg)) (i := j) (gk3 hW (Decidable.not_not.mp c_1).2) (gc6 (by omega) hjl) (gce (show (gsr S.1 0 0 (upd (S.1 0 0) 8 0)) (100 + gross.toNatClampNeg) j = S.1 (100 + gross.toNatClampNeg) j from (gsr_p (by omega) rfl)) gcell_p1)))) dX3_claim_104 ?_
          change gW _ _ _ _ (.int (S.1 (100 + gross.toNatClampNeg) j 2) :: _) _ _
          refine g_if_ne F (tgt := 138) (by decide) dX3_claim_105 (fun c_4 => ?_) (fun c_4 => ?_)
          · skip
            refine g_iconst F (v := (0 : Int32)) (by decide) dX3_claim_138 ?_
            exact g_top (gb_f (fun q => (fun q => c_4 q.1) q.2)) J_6
          · skip
            refine g_iload F 0 rfl dX3_claim_108 ?_
            refine g_aload_n F 5 rfl rfl dX3_claim_110 ?_
            refine g_get F clX3 12 (by decide) q1401 (v := .ref (A 311 0)) (gd_get (gNw_rd (gL1_P (pr_at (κ := 0) (i := 0) (by decide) (gc1 (gnl rfl)) (gce (show (gsr S.1 0 0 (upd (S.1 0 0) 8 0)) 0 0 = upd (S.1 0 0) 8 0 from gsr_s) rfl)))) rfl) dX3_claim_111 ?_
            refine g_iload_n F 4 rfl rfl dX3_claim_114 ?_
            refine g_callF F clJ3 (kJ3_get hl (gNw_ls (gL1_ls (pr_ls (M := 1) (S := (gsr S.1 0 0 (upd (S.1 0 0) 8 0), S.2)) (A := A) (κ := 11) (by decide) (Or.inl ⟨by decide, by decide⟩) (fun q => by first | decide | exact absurd q (by decide)) (fun q => by first | decide | exact absurd q (by decide))))) (j := gross.toNatClampNeg) (Decidable.not_not.mp c_1).2 (gw_n hW _) rfl (Decidable.not_not.mp c_1).1) (g_recv F clJ3 (gls_obj (gNw_ls (gL1_ls (pr_ls (M := 1) (S := (gsr S.1 0 0 (upd (S.1 0 0) 8 0), S.2)) (A := A) (κ := 11) (by decide) (Or.inl ⟨by decide, by decide⟩) (fun q => by first | decide | exact absurd q (by decide)) (fun q => by first | decide | exact absurd q (by decide))))))) q1506 q809 q811 q22 q813 (List.mem_of_getElem? (i := 1) rfl) (gT_w q812 rfl) (gT_w q810 rfl) (gT_w q293 rfl) gface_1 ⟨by decide, by decide⟩ rfl rfl (gle rfl) 1 4 (gle rfl) (gle rfl) (gle rfl) (gle rfl) dX3_claim_115 gx_n (gv_i ?_)
            refine g_castS F (g_recv F clX16 (gd_obj (gNw_rd (gL1_P (pr_at (κ := 11) (i := gross.toNatClampNeg) (by decide) (gc6 (by decide) (Decidable.not_not.mp c_1).2) (gce (show (gsr S.1 0 0 (upd (S.1 0 0) 8 0)) 11 gross.toNatClampNeg = S.1 11 gross.toNatClampNeg from (gsr_p (by decide) rfl)) rfl)))))) q1756 dX3_claim_120 ?_
            refine g_getN F clX16 0 (by decide) (gT_w q1764 rfl) (v := .int (S.1 11 gross.toNatClampNeg 0)) (gd_get (gNw_rd (gL1_P (pr_at (κ := 11) (i := gross.toNatClampNeg) (by decide) (gc6 (by decide) (Decidable.not_not.mp c_1).2) (gce (show (gsr S.1 0 0 (upd (S.1 0 0) 8 0)) 11 gross.toNatClampNeg = S.1 11 gross.toNatClampNeg from (gsr_p (by decide) rfl)) rfl)))) rfl) dX3_claim_123 ?_
            refine g_isub F dX3_claim_126 ?_
            refine g_mabs F q1672 (gle rfl) (gle rfl) (gle rfl) (gle rfl) dX3_claim_127 ?_
            refine g_iconst F (v := (1 : Int32)) (by decide) dX3_claim_130 ?_
            refine g_icmp_gt F (tgt := 138) (by decide) dX3_claim_131 (fun c_5 => ?_) (fun c_5 => ?_)
            · skip
              refine g_iconst F (v := (0 : Int32)) (by decide) dX3_claim_138 ?_
              exact g_top (gb_f (fun q => (fun q => (fun q => q c_5) q.2) q.2)) J_6
            · skip
              refine g_iconst F (v := (1 : Int32)) (by decide) dX3_claim_134 ?_
              refine g_goto F (tgt := 139) (by decide) dX3_claim_135 ?_
              exact g_top (gb_t (⟨c_3, ⟨c_4, c_5⟩⟩)) J_6
    refine g_lv [1,0,3,2] (lv2 := [(2, .int (1 : Int32)), (3, .ref it), (1, .int gross), (0, .ref (A 0 0))]) rfl ?_
    exact LP (S.2 (100 + gross.toNatClampNeg)) 0 _ _ (Nat.zero_add _) rfl

def sM_checksum (S : gS)  : Value × gS := (.long ((gCk11 (gsr S.1 0 0 (upd (S.1 0 0) 8 0), S.2) (gCk10 S (gCk8 S 7 (S.2 8)) (S.2 10))) (S.2 11)), (gsr S.1 0 0 (upd (S.1 0 0) 8 0), S.2))
theorem kX3_checksum {l : Launch} {G : gG} (hl : l.stackTraces = false) {S : gS} {a0 : Nat} {Fr : gH → Prop} (hF : gFr 1 Fr) (hW : gWf S)   : gMet l yX3_checksum (ws_ yX3_checksum cX3_checksum 5 (some .long)) ⟨4, 67, 268, 76⟩ G [.ref a0] (gPE 1 G S a0 Fr) (gqN (sM_checksum S ) G a0 Fr) gxN := by
  refine gMet_of hl pnX3 (gle rfl) (fun X Q hX F E hNm => ?_)
  subst hX
  change gW (X, G, 5, Q) (gPE 1 G S a0 Fr) [(0, .ref a0)] 0 [] 0 0
  refine g_pe (fun A hA => ?_)
  subst hA
  change gW _ _ [(0, .ref (A 0 0))] 0 [] 0 0
  refine g_aload_n F 0 rfl rfl dX3_checksum_0 ?_
  refine g_callV F (kX3_begins hl (pr_at (κ := 0) (i := 0) (by decide) (gc1 (gnl rfl)) (gce rfl rfl))) (g_recv F clX3 (gd_obj (pr_at (κ := 0) (i := 0) (by decide) (gc1 (gnl rfl)) (gce rfl rfl)))) q1448 q1450 qs6 q25 q1451 myX3_begins ⟨by decide, by decide⟩ rfl rfl (gle rfl) 0 0 (gle rfl) (gle rfl) (gle rfl) (gle rfl) dX3_checksum_1 gx_n (gv_v ?_)
  refine g_mono (P2 := gP 1 G (gsr S.1 0 0 (upd (S.1 0 0) 8 0), S.2) A Fr []) (pr_upRow (κ := 0) (i := 0) gM1 hF (upd (S.1 0 0) 8 0) (by decide) (gc1 (gnl rfl)) (gce rfl rfl) rfl) ?_
  refine g_ldc2 F (v := (7 : Int64)) q1835 dX3_checksum_4 ?_
  refine g_lstore_n F rfl (by show 1 + 1 < 5; decide) (lv2 := [(1, .long (7 : Int64)), (0, .ref (A 0 0))]) rfl dX3_checksum_7 ?_
  refine g_aload_n F 1 rfl rfl dX3_checksum_8 ?_
  refine g_get F clX3 9 (by decide) q1398 (v := .ref (A 308 0)) (gd_get (pr_at (κ := 0) (i := 0) (by decide) (gc1 (gnl rfl)) (gce (show (gsr S.1 0 0 (upd (S.1 0 0) 8 0)) 0 0 = upd (S.1 0 0) 8 0 from gsr_s) rfl)) rfl) dX3_checksum_9 ?_
  refine g_ls4 (pr_ls (M := 1) (S := (gsr S.1 0 0 (upd (S.1 0 0) 8 0), S.2)) (A := A) (κ := 8) (by decide) (Or.inl ⟨by decide, by decide⟩) (fun q => by first | decide | exact absurd q (by decide)) (fun q => by first | decide | exact absurd q (by decide))) (fun mc ed cap f hcp9 hf9 => ?_)
  refine g_callF F clJ3 (kJ3_iterator hl (5000, 0) gL1_at) (g_recv F clJ3 (gd_obj gL1_at)) q1813 q294 q222 q22 q224 (List.mem_of_getElem? (i := 4) rfl) (gT_w q223 rfl) (gT_w q221 rfl) (gT_w q293 rfl) gface_4 ⟨by decide, by decide⟩ rfl rfl (gle rfl) 1 4 (gle rfl) (gle rfl) (gle rfl) (gle rfl) dX3_checksum_12 gx_n (gv_x (fun it => ?_))
  refine g_astore_n F rfl (by show 3 < 5; decide) (lv2 := [(3, .ref it), (1, .long (7 : Int64)), (0, .ref (A 0 0))]) rfl dX3_checksum_17 ?_
  have K_1 : gW (X, G, 5, Q) (gP 1 G (gsr S.1 0 0 (upd (S.1 0 0) 8 0), S.2) A Fr []) [(1, .long ((gCk8 S 7) (S.2 8))), (0, .ref (A 0 0))] 80 [] 1 4 := by
    refine g_aload_n F 1 rfl rfl dX3_checksum_80 ?_
    refine g_get F clX3 11 (by decide) q1400 (v := .ref (A 310 0)) (gd_get (pr_at (κ := 0) (i := 0) (by decide) (gc1 (gnl rfl)) (gce (show (gsr S.1 0 0 (upd (S.1 0 0) 8 0)) 0 0 = upd (S.1 0 0) 8 0 from gsr_s) rfl)) rfl) dX3_checksum_81 ?_
    refine g_ls4 (pr_ls (M := 1) (S := (gsr S.1 0 0 (upd (S.1 0 0) 8 0), S.2)) (A := A) (κ := 10) (by decide) (Or.inl ⟨by decide, by decide⟩) (fun q => by first | decide | exact absurd q (by decide)) (fun q => by first | decide | exact absurd q (by decide))) (fun mc ed cap f hcp9 hf9 => ?_)
    refine g_callF F clJ3 (kJ3_iterator hl (5000, 0) gL1_at) (g_recv F clJ3 (gd_obj gL1_at)) q1813 q294 q222 q22 q224 (List.mem_of_getElem? (i := 4) rfl) (gT_w q223 rfl) (gT_w q221 rfl) (gT_w q293 rfl) gface_4 ⟨by decide, by decide⟩ rfl rfl (gle rfl) 2 8 (gle rfl) (gle rfl) (gle rfl) (gle rfl) dX3_checksum_84 gx_n (gv_x (fun it => ?_))
    refine g_astore_n F rfl (by show 3 < 5; decide) (lv2 := [(3, .ref it), (1, .long ((gCk8 S 7) (S.2 8))), (0, .ref (A 0 0))]) rfl dX3_checksum_89 ?_
    have K_2 : gW (X, G, 5, Q) (gP 1 G (gsr S.1 0 0 (upd (S.1 0 0) 8 0), S.2) A Fr []) [(1, .long ((gCk10 S (gCk8 S 7 (S.2 8))) (S.2 10))), (0, .ref (A 0 0))] 139 [] 2 8 := by
      refine g_aload_n F 1 rfl rfl dX3_checksum_139 ?_
      refine g_get F clX3 12 (by decide) q1401 (v := .ref (A 311 0)) (gd_get (pr_at (κ := 0) (i := 0) (by decide) (gc1 (gnl rfl)) (gce (show (gsr S.1 0 0 (upd (S.1 0 0) 8 0)) 0 0 = upd (S.1 0 0) 8 0 from gsr_s) rfl)) rfl) dX3_checksum_140 ?_
      refine g_ls4 (pr_ls (M := 1) (S := (gsr S.1 0 0 (upd (S.1 0 0) 8 0), S.2)) (A := A) (κ := 11) (by decide) (Or.inl ⟨by decide, by decide⟩) (fun q => by first | decide | exact absurd q (by decide)) (fun q => by first | decide | exact absurd q (by decide))) (fun mc ed cap f hcp9 hf9 => ?_)
      refine g_callF F clJ3 (kJ3_iterator hl (5000, 0) gL1_at) (g_recv F clJ3 (gd_obj gL1_at)) q1813 q294 q222 q22 q224 (List.mem_of_getElem? (i := 4) rfl) (gT_w q223 rfl) (gT_w q221 rfl) (gT_w q293 rfl) gface_4 ⟨by decide, by decide⟩ rfl rfl (gle rfl) 3 12 (gle rfl) (gle rfl) (gle rfl) (gle rfl) dX3_checksum_143 gx_n (gv_x (fun it => ?_))
      refine g_astore_n F rfl (by show 3 < 5; decide) (lv2 := [(3, .ref it), (1, .long ((gCk10 S (gCk8 S 7 (S.2 8))) (S.2 10))), (0, .ref (A 0 0))]) rfl dX3_checksum_148 ?_
      have K_3 : gW (X, G, 5, Q) (gP 1 G (gsr S.1 0 0 (upd (S.1 0 0) 8 0), S.2) A Fr []) [(1, .long ((gCk11 (gsr S.1 0 0 (upd (S.1 0 0) 8 0), S.2) (gCk10 S (gCk8 S 7 (S.2 8)) (S.2 10))) (S.2 11))), (0, .ref (A 0 0))] 185 [] 67 268 := by
        refine g_lload_n F 0 rfl rfl dX3_checksum_185 ?_
        exact g_retL F E rfl (gle rfl) (gle rfl) dX3_checksum_186 (fun _ hp => ⟨_, _, rfl, rfl, ⟨A, rfl, gP_T0 hp⟩⟩)
      have hlen9 : (S.2 11) ≤ 150 := gw_n hW _
      have hl64 : (S.2 11) ≤ 64 := gw_64 hW _
      have LP : ∀ (r j : Nat) (last : Int32) (s0 : Int64), j + r = (S.2 11) → s0 = (gCk11 (gsr S.1 0 0 (upd (S.1 0 0) 8 0), S.2) (gCk10 S (gCk8 S 7 (S.2 8)) (S.2 10))) j → gW (X, G, 5, Q) (gNw (gL1 (gP 1 G (gsr S.1 0 0 (upd (S.1 0 0) 8 0), S.2) A Fr []) G (11 + 300 + 1000 * 1) (11 + 600 + 1000 * 1) (A 311 0) (S.2 11) (A 11) mc ed cap f) (5000, 0) it (.inr (17, [.int (nI j), .int last, .int mc, .ref (A 311 0)]))) [(1, .long s0), (3, .ref it), (0, .ref (A 0 0))] 149 [] (67 - 1 * r) (268 - 4 * r) := by
        intro r
        induction r with
        | zero =>
          intro j last s0 hj hs0
          refine g_aload_n F 1 rfl rfl dX3_checksum_149 ?_
          refine g_callF F clJ20 (kJ20_hasNext hl (gNw_rd gL1_at) gNw_at) (g_recv F clJ20 (gd_obj gNw_at)) q1815 q249 q251 q55 q253 (List.mem_of_getElem? (i := 6) rfl) (gT_w q252 rfl) (gT_w q250 rfl) (gT_w q248 rfl) gface_6 ⟨by decide, by decide⟩ rfl rfl (gle rfl) (67 - 1 * 0) (268 - 4 * 0) (Nat.le_refl _) (Nat.le_refl _) (Nat.le_trans (Nat.sub_le _ _) (gle rfl)) (Nat.le_trans (Nat.sub_le _ _) (gle rfl)) dX3_checksum_150 gx_n (gv_i ?_)
          refine gb_if_eq F (tgt := 185) (by decide) dX3_checksum_155 (fun _ => ?_) (fun c => absurd c (by rw [← hj]; simp))
          refine g_lv [0,2] (lv2 := [(1, .long s0), (0, .ref (A 0 0))]) rfl ?_
          refine g_widen (k2 := 67) (n2 := 268) (Nat.sub_le _ _) (Nat.sub_le _ _) ?_
          refine g_mono (P2 := gP 1 G (gsr S.1 0 0 (upd (S.1 0 0) 8 0), S.2) A Fr []) (gP_jkL hF) ?_
          have q6 : j = (S.2 11) := by omega
          rw [hs0, q6]
          exact K_3
        | succ r IH =>
          intro j last s0 hj hs0
          have hjl : j < (S.2 11) := by omega
          have hcp := hcp9 (Nat.lt_of_le_of_lt (Nat.zero_le _) hjl)
          refine g_aload_n F 1 rfl rfl dX3_checksum_149 ?_
          refine g_callF F clJ20 (kJ20_hasNext hl (gNw_rd gL1_at) gNw_at) (g_recv F clJ20 (gd_obj gNw_at)) q1815 q249 q251 q55 q253 (List.mem_of_getElem? (i := 6) rfl) (gT_w q252 rfl) (gT_w q250 rfl) (gT_w q248 rfl) gface_6 ⟨by decide, by decide⟩ rfl rfl (gle rfl) (67 - 1 * (r + 1)) (268 - 4 * (r + 1)) (Nat.le_refl _) (Nat.le_refl _) (Nat.le_trans (Nat.sub_le _ _) (gle rfl)) (Nat.le_trans (Nat.sub_le _ _) (gle rfl)) dX3_checksum_150 gx_n (gv_i ?_)
          refine gb_if_eq F (tgt := 185) (by decide) dX3_checksum_155 (fun c => absurd (nI_ne hjl (by omega)) c) (fun _ => ?_)
          refine g_aload_n F 1 rfl rfl dX3_checksum_158 ?_
          refine g_callF F clJ20 (kJ20_next hl (gNw_rd gL1_at) gNw_at (gNw_rd (gL1_ed (Nat.lt_of_le_of_lt (Nat.zero_le _) hjl))) (nI_lt hjl (by omega)) (nI_lt (Nat.lt_of_lt_of_le hjl hcp.1) (by omega)) (vp_in_nI (Nat.lt_of_lt_of_le hjl hcp.1) (by omega)) (by rw [nI_clamp (by omega)]; exact hf9 j hjl)) (g_recv F clJ20 (gd_obj gNw_at)) q1817 q258 q260 q55 q262 (List.mem_of_getElem? (i := 7) rfl) (gT_w q261 rfl) (gT_w q259 rfl) (gT_w q248 rfl) gface_7 ⟨by decide, by decide⟩ rfl rfl (gle rfl) (67 - 1 * (r + 1)) (268 - 4 * (r + 1)) (Nat.le_refl _) (Nat.le_refl _) (Nat.le_trans (Nat.sub_le _ _) (gle rfl)) (Nat.le_trans (Nat.sub_le _ _) (gle rfl)) dX3_checksum_159 gx_n (gv_i ?_)
          refine g_mono (P2 := (gNw (gL1 (gP 1 G (gsr S.1 0 0 (upd (S.1 0 0) 8 0), S.2) A Fr []) G (11 + 300 + 1000 * 1) (11 + 600 + 1000 * 1) (A 311 0) (S.2 11) (A 11) mc ed cap f) (5000, 0) it (.inr (17, [.int (nI j + 1), .int (nI j), .int mc, .ref (A 311 0)])))) gNw_up ?_
          refine g_castS F (g_recv F clX16 (gd_obj (gNw_rd (gL1_P (pr_at (κ := 11) (i := j) (by decide) (gc6 (by decide) hjl) (gce (show (gsr S.1 0 0 (upd (S.1 0 0) 8 0)) 11 j = S.1 11 j from (gsr_p (by decide) rfl)) rfl)))))) q1756 dX3_checksum_164 ?_
          refine g_astore F (by show 4 < 5; decide) (lv2 := [(4, .ref (A 11 j)), (1, .long s0), (3, .ref it), (0, .ref (A 0 0))]) rfl dX3_checksum_167 ?_
          refine g_ldc2 F (v := (31 : Int64)) q1836 dX3_checksum_169 ?_
          refine g_lload_n F 1 rfl rfl dX3_checksum_172 ?_
          refine g_lmul F dX3_checksum_173 ?_
          refine g_aload F 0 rfl dX3_checksum_174 ?_
          refine g_callV F (kX16_many hl (gNw_ls (gL1_ls (pr_lsp (M := 1) (S := (gsr S.1 0 0 (upd (S.1 0 0) 8 0), S.2)) (A := A) (g := j) (gWf_0 (r := upd (S.1 0 0) 8 0) hW (gw_b hW)) hjl))) (gw_n (gWf_0 (r := upd (S.1 0 0) 8 0) hW (gw_b hW)) _) (gNw_rd (gL1_P (pr_at (κ := 11) (i := j) (by decide) (gc6 (by decide) hjl) (gce (show (gsr S.1 0 0 (upd (S.1 0 0) 8 0)) 11 j = S.1 11 j from (gsr_p (by decide) rfl)) rfl)))) (fun j9 hj9 => gNw_rd (gL1_P (pr_pel1 (S := (gsr S.1 0 0 (upd (S.1 0 0) 8 0), S.2)) (g := j) (gk3 hW hjl) j9 hj9)))) (g_recv F clX16 (gd_obj (gNw_rd (gL1_P (pr_at (κ := 11) (i := j) (by decide) (gc6 (by decide) hjl) (gce (show (gsr S.1 0 0 (upd (S.1 0 0) 8 0)) 11 j = S.1 11 j from (gsr_p (by decide) rfl)) rfl)))))) q1780 q1781 q1782 q54 q1783 myX16_many ⟨by decide, by decide⟩ rfl rfl (gle rfl) (67 - 1 * r) (268 - 4 * r) (by show _ + 1 ≤ _; omega) (by show _ + 4 ≤ _; omega) (Nat.le_trans (Nat.sub_le _ _) (gle rfl)) (Nat.le_trans (Nat.sub_le _ _) (gle rfl)) dX3_checksum_176 gx_n (gv_i ?_)
          refine g_mono (P2 := (gNw (gL1 (gP 1 G (gsr S.1 0 0 (upd (S.1 0 0) 8 0), S.2) A Fr []) G (11 + 300 + 1000 * 1) (11 + 600 + 1000 * 1) (A 311 0) (S.2 11) (A 11) mc ed cap f) (5000, 0) it (.inr (17, [.int (nI j + 1), .int (nI j), .int mc, .ref (A 311 0)])))) (gNwL_jk hF) ?_
          change gW _ _ _ _ (.int (gMy (gsr S.1 0 0 (upd (S.1 0 0) 8 0), S.2) j) :: _) _ _
          refine g_i2l F dX3_checksum_179 ?_
          refine g_ladd F dX3_checksum_180 ?_
          refine g_lstore_n F rfl (by show 1 + 1 < 5; decide) (lv2 := [(1, .long (((31 : Int64) * s0) + ((gMy (gsr S.1 0 0 (upd (S.1 0 0) 8 0), S.2) j).toInt64))), (4, .ref (A 11 j)), (3, .ref it), (0, .ref (A 0 0))]) rfl dX3_checksum_181 ?_
          refine g_goto F (tgt := 149) (by decide) dX3_checksum_182 ?_
          refine g_lv [0,2,3] (lv2 := [(1, .long (((31 : Int64) * s0) + ((gMy (gsr S.1 0 0 (upd (S.1 0 0) 8 0), S.2) j).toInt64))), (3, .ref it), (0, .ref (A 0 0))]) rfl ?_
          have q7 : nI j + 1 = nI (j + 1) := (nI_succ j).symm
          rw [q7]
          exact IH (j + 1) _ _ (by omega) (by subst hs0; exact gCk11_s.symm)
      refine g_lv [1,0,2] (lv2 := [(1, .long ((gCk10 S (gCk8 S 7 (S.2 8))) (S.2 10))), (3, .ref it), (0, .ref (A 0 0))]) rfl ?_
      refine g_widen (k2 := (67 - 1 * (S.2 11))) (n2 := (268 - 4 * (S.2 11))) (by omega) (by omega) ?_
      exact LP (S.2 11) 0 _ _ (Nat.zero_add _) rfl
    have hlen9 : (S.2 10) ≤ 150 := gw_n hW _
    have hl64 : (S.2 10) ≤ 64 := gw_64 hW _
    have LP : ∀ (r j : Nat) (last : Int32) (s0 : Int64), j + r = (S.2 10) → s0 = (gCk10 S (gCk8 S 7 (S.2 8))) j → gW (X, G, 5, Q) (gNw (gL1 (gP 1 G (gsr S.1 0 0 (upd (S.1 0 0) 8 0), S.2) A Fr []) G (10 + 300 + 1000 * 1) (10 + 600 + 1000 * 1) (A 310 0) (S.2 10) (A 10) mc ed cap f) (5000, 0) it (.inr (17, [.int (nI j), .int last, .int mc, .ref (A 310 0)]))) [(1, .long s0), (3, .ref it), (0, .ref (A 0 0))] 90 [] 2 8 := by
      intro r
      induction r with
      | zero =>
        intro j last s0 hj hs0
        refine g_aload_n F 1 rfl rfl dX3_checksum_90 ?_
        refine g_callF F clJ20 (kJ20_hasNext hl (gNw_rd gL1_at) gNw_at) (g_recv F clJ20 (gd_obj gNw_at)) q1815 q249 q251 q55 q253 (List.mem_of_getElem? (i := 6) rfl) (gT_w q252 rfl) (gT_w q250 rfl) (gT_w q248 rfl) gface_6 ⟨by decide, by decide⟩ rfl rfl (gle rfl) 2 8 (gle rfl) (gle rfl) (gle rfl) (gle rfl) dX3_checksum_91 gx_n (gv_i ?_)
        refine gb_if_eq F (tgt := 139) (by decide) dX3_checksum_96 (fun _ => ?_) (fun c => absurd c (by rw [← hj]; simp))
        refine g_lv [0,2] (lv2 := [(1, .long s0), (0, .ref (A 0 0))]) rfl ?_
        refine g_mono (P2 := gP 1 G (gsr S.1 0 0 (upd (S.1 0 0) 8 0), S.2) A Fr []) (gP_jkL hF) ?_
        have q6 : j = (S.2 10) := by omega
        rw [hs0, q6]
        exact K_2
      | succ r IH =>
        intro j last s0 hj hs0
        have hjl : j < (S.2 10) := by omega
        have hcp := hcp9 (Nat.lt_of_le_of_lt (Nat.zero_le _) hjl)
        refine g_aload_n F 1 rfl rfl dX3_checksum_90 ?_
        refine g_callF F clJ20 (kJ20_hasNext hl (gNw_rd gL1_at) gNw_at) (g_recv F clJ20 (gd_obj gNw_at)) q1815 q249 q251 q55 q253 (List.mem_of_getElem? (i := 6) rfl) (gT_w q252 rfl) (gT_w q250 rfl) (gT_w q248 rfl) gface_6 ⟨by decide, by decide⟩ rfl rfl (gle rfl) 2 8 (gle rfl) (gle rfl) (gle rfl) (gle rfl) dX3_checksum_91 gx_n (gv_i ?_)
        refine gb_if_eq F (tgt := 139) (by decide) dX3_checksum_96 (fun c => absurd (nI_ne hjl (by omega)) c) (fun _ => ?_)
        refine g_aload_n F 1 rfl rfl dX3_checksum_99 ?_
        refine g_callF F clJ20 (kJ20_next hl (gNw_rd gL1_at) gNw_at (gNw_rd (gL1_ed (Nat.lt_of_le_of_lt (Nat.zero_le _) hjl))) (nI_lt hjl (by omega)) (nI_lt (Nat.lt_of_lt_of_le hjl hcp.1) (by omega)) (vp_in_nI (Nat.lt_of_lt_of_le hjl hcp.1) (by omega)) (by rw [nI_clamp (by omega)]; exact hf9 j hjl)) (g_recv F clJ20 (gd_obj gNw_at)) q1817 q258 q260 q55 q262 (List.mem_of_getElem? (i := 7) rfl) (gT_w q261 rfl) (gT_w q259 rfl) (gT_w q248 rfl) gface_7 ⟨by decide, by decide⟩ rfl rfl (gle rfl) 2 8 (gle rfl) (gle rfl) (gle rfl) (gle rfl) dX3_checksum_100 gx_n (gv_i ?_)
        refine g_mono (P2 := (gNw (gL1 (gP 1 G (gsr S.1 0 0 (upd (S.1 0 0) 8 0), S.2) A Fr []) G (10 + 300 + 1000 * 1) (10 + 600 + 1000 * 1) (A 310 0) (S.2 10) (A 10) mc ed cap f) (5000, 0) it (.inr (17, [.int (nI j + 1), .int (nI j), .int mc, .ref (A 310 0)])))) gNw_up ?_
        refine g_castS F (g_recv F clX14 (gd_obj (gNw_rd (gL1_P (pr_at (κ := 10) (i := j) (by decide) (gc6 (by decide) hjl) (gce (show (gsr S.1 0 0 (upd (S.1 0 0) 8 0)) 10 j = S.1 10 j from (gsr_p (by decide) rfl)) rfl)))))) q1673 dX3_checksum_105 ?_
        refine g_astore F (by show 4 < 5; decide) (lv2 := [(4, .ref (A 10 j)), (1, .long s0), (3, .ref it), (0, .ref (A 0 0))]) rfl dX3_checksum_108 ?_
        refine g_ldc2 F (v := (31 : Int64)) q1836 dX3_checksum_110 ?_
        refine g_lload_n F 1 rfl rfl dX3_checksum_113 ?_
        refine g_lmul F dX3_checksum_114 ?_
        refine g_aload F 0 rfl dX3_checksum_115 ?_
        refine g_getN F clX14 3 (by decide) (gT_w q1682 rfl) (v := .int (S.1 10 j 3)) (gd_get (gNw_rd (gL1_P (pr_at (κ := 10) (i := j) (by decide) (gc6 (by decide) hjl) (gce (show (gsr S.1 0 0 (upd (S.1 0 0) 8 0)) 10 j = S.1 10 j from (gsr_p (by decide) rfl)) rfl)))) rfl) dX3_checksum_117 ?_
        refine g_i2l F dX3_checksum_120 ?_
        refine g_ladd F dX3_checksum_121 ?_
        refine g_lstore_n F rfl (by show 1 + 1 < 5; decide) (lv2 := [(1, .long (((31 : Int64) * s0) + ((S.1 10 j 3).toInt64))), (4, .ref (A 10 j)), (3, .ref it), (0, .ref (A 0 0))]) rfl dX3_checksum_122 ?_
        refine g_ldc2 F (v := (31 : Int64)) q1836 dX3_checksum_123 ?_
        refine g_lload_n F 0 rfl rfl dX3_checksum_126 ?_
        refine g_lmul F dX3_checksum_127 ?_
        refine g_aload F 1 rfl dX3_checksum_128 ?_
        refine g_getN F clX14 4 (by decide) (gT_w q1683 rfl) (v := .int (S.1 10 j 4)) (gd_get (gNw_rd (gL1_P (pr_at (κ := 10) (i := j) (by decide) (gc6 (by decide) hjl) (gce (show (gsr S.1 0 0 (upd (S.1 0 0) 8 0)) 10 j = S.1 10 j from (gsr_p (by decide) rfl)) rfl)))) rfl) dX3_checksum_130 ?_
        refine g_i2l F dX3_checksum_133 ?_
        refine g_ladd F dX3_checksum_134 ?_
        refine g_lstore_n F rfl (by show 1 + 1 < 5; decide) (lv2 := [(1, .long (((31 : Int64) * (((31 : Int64) * s0) + ((S.1 10 j 3).toInt64))) + ((S.1 10 j 4).toInt64))), (4, .ref (A 10 j)), (3, .ref it), (0, .ref (A 0 0))]) rfl dX3_checksum_135 ?_
        refine g_goto F (tgt := 90) (by decide) dX3_checksum_136 ?_
        refine g_lv [0,2,3] (lv2 := [(1, .long (((31 : Int64) * (((31 : Int64) * s0) + ((S.1 10 j 3).toInt64))) + ((S.1 10 j 4).toInt64))), (3, .ref it), (0, .ref (A 0 0))]) rfl ?_
        have q7 : nI j + 1 = nI (j + 1) := (nI_succ j).symm
        rw [q7]
        exact IH (j + 1) _ _ (by omega) (by subst hs0; exact gCk10_s.symm)
    refine g_lv [1,0,2] (lv2 := [(1, .long ((gCk8 S 7) (S.2 8))), (3, .ref it), (0, .ref (A 0 0))]) rfl ?_
    exact LP (S.2 10) 0 _ _ (Nat.zero_add _) rfl
  have hlen9 : (S.2 8) ≤ 150 := gw_n hW _
  have hl64 : (S.2 8) ≤ 64 := gw_64 hW _
  have LP : ∀ (r j : Nat) (last : Int32) (s0 : Int64), j + r = (S.2 8) → s0 = (gCk8 S 7) j → gW (X, G, 5, Q) (gNw (gL1 (gP 1 G (gsr S.1 0 0 (upd (S.1 0 0) 8 0), S.2) A Fr []) G (8 + 300 + 1000 * 1) (8 + 600 + 1000 * 1) (A 308 0) (S.2 8) (A 8) mc ed cap f) (5000, 0) it (.inr (17, [.int (nI j), .int last, .int mc, .ref (A 308 0)]))) [(1, .long s0), (3, .ref it), (0, .ref (A 0 0))] 18 [] 1 4 := by
    intro r
    induction r with
    | zero =>
      intro j last s0 hj hs0
      refine g_aload_n F 1 rfl rfl dX3_checksum_18 ?_
      refine g_callF F clJ20 (kJ20_hasNext hl (gNw_rd gL1_at) gNw_at) (g_recv F clJ20 (gd_obj gNw_at)) q1815 q249 q251 q55 q253 (List.mem_of_getElem? (i := 6) rfl) (gT_w q252 rfl) (gT_w q250 rfl) (gT_w q248 rfl) gface_6 ⟨by decide, by decide⟩ rfl rfl (gle rfl) 1 4 (gle rfl) (gle rfl) (gle rfl) (gle rfl) dX3_checksum_19 gx_n (gv_i ?_)
      refine gb_if_eq F (tgt := 80) (by decide) dX3_checksum_24 (fun _ => ?_) (fun c => absurd c (by rw [← hj]; simp))
      refine g_lv [0,2] (lv2 := [(1, .long s0), (0, .ref (A 0 0))]) rfl ?_
      refine g_mono (P2 := gP 1 G (gsr S.1 0 0 (upd (S.1 0 0) 8 0), S.2) A Fr []) (gP_jkL hF) ?_
      have q6 : j = (S.2 8) := by omega
      rw [hs0, q6]
      exact K_1
    | succ r IH =>
      intro j last s0 hj hs0
      have hjl : j < (S.2 8) := by omega
      have hcp := hcp9 (Nat.lt_of_le_of_lt (Nat.zero_le _) hjl)
      refine g_aload_n F 1 rfl rfl dX3_checksum_18 ?_
      refine g_callF F clJ20 (kJ20_hasNext hl (gNw_rd gL1_at) gNw_at) (g_recv F clJ20 (gd_obj gNw_at)) q1815 q249 q251 q55 q253 (List.mem_of_getElem? (i := 6) rfl) (gT_w q252 rfl) (gT_w q250 rfl) (gT_w q248 rfl) gface_6 ⟨by decide, by decide⟩ rfl rfl (gle rfl) 1 4 (gle rfl) (gle rfl) (gle rfl) (gle rfl) dX3_checksum_19 gx_n (gv_i ?_)
      refine gb_if_eq F (tgt := 80) (by decide) dX3_checksum_24 (fun c => absurd (nI_ne hjl (by omega)) c) (fun _ => ?_)
      refine g_aload_n F 1 rfl rfl dX3_checksum_27 ?_
      refine g_callF F clJ20 (kJ20_next hl (gNw_rd gL1_at) gNw_at (gNw_rd (gL1_ed (Nat.lt_of_le_of_lt (Nat.zero_le _) hjl))) (nI_lt hjl (by omega)) (nI_lt (Nat.lt_of_lt_of_le hjl hcp.1) (by omega)) (vp_in_nI (Nat.lt_of_lt_of_le hjl hcp.1) (by omega)) (by rw [nI_clamp (by omega)]; exact hf9 j hjl)) (g_recv F clJ20 (gd_obj gNw_at)) q1817 q258 q260 q55 q262 (List.mem_of_getElem? (i := 7) rfl) (gT_w q261 rfl) (gT_w q259 rfl) (gT_w q248 rfl) gface_7 ⟨by decide, by decide⟩ rfl rfl (gle rfl) 1 4 (gle rfl) (gle rfl) (gle rfl) (gle rfl) dX3_checksum_28 gx_n (gv_i ?_)
      refine g_mono (P2 := (gNw (gL1 (gP 1 G (gsr S.1 0 0 (upd (S.1 0 0) 8 0), S.2) A Fr []) G (8 + 300 + 1000 * 1) (8 + 600 + 1000 * 1) (A 308 0) (S.2 8) (A 8) mc ed cap f) (5000, 0) it (.inr (17, [.int (nI j + 1), .int (nI j), .int mc, .ref (A 308 0)])))) gNw_up ?_
      refine g_castS F (g_recv F clX10 (gd_obj (gNw_rd (gL1_P (pr_at (κ := 8) (i := j) (by decide) (gc6 (by decide) hjl) (gce (show (gsr S.1 0 0 (upd (S.1 0 0) 8 0)) 8 j = S.1 8 j from (gsr_p (by decide) rfl)) rfl)))))) q1524 dX3_checksum_33 ?_
      refine g_astore F (by show 4 < 5; decide) (lv2 := [(4, .ref (A 8 j)), (1, .long s0), (3, .ref it), (0, .ref (A 0 0))]) rfl dX3_checksum_36 ?_
      refine g_ldc2 F (v := (31 : Int64)) q1836 dX3_checksum_38 ?_
      refine g_lload_n F 1 rfl rfl dX3_checksum_41 ?_
      refine g_lmul F dX3_checksum_42 ?_
      refine g_aload F 0 rfl dX3_checksum_43 ?_
      refine g_getN F clX10 1 (by decide) (gT_w q1531 rfl) (v := .int (S.1 8 j 1)) (gd_get (gNw_rd (gL1_P (pr_at (κ := 8) (i := j) (by decide) (gc6 (by decide) hjl) (gce (show (gsr S.1 0 0 (upd (S.1 0 0) 8 0)) 8 j = S.1 8 j from (gsr_p (by decide) rfl)) rfl)))) rfl) dX3_checksum_45 ?_
      refine g_i2l F dX3_checksum_48 ?_
      refine g_ladd F dX3_checksum_49 ?_
      refine g_lstore_n F rfl (by show 1 + 1 < 5; decide) (lv2 := [(1, .long (((31 : Int64) * s0) + ((S.1 8 j 1).toInt64))), (4, .ref (A 8 j)), (3, .ref it), (0, .ref (A 0 0))]) rfl dX3_checksum_50 ?_
      refine g_ldc2 F (v := (31 : Int64)) q1836 dX3_checksum_51 ?_
      refine g_lload_n F 0 rfl rfl dX3_checksum_54 ?_
      refine g_lmul F dX3_checksum_55 ?_
      refine g_aload F 1 rfl dX3_checksum_56 ?_
      refine g_getN F clX10 10 (by decide) (gT_w q1541 rfl) (v := .int (S.1 8 j 10)) (gd_get (gNw_rd (gL1_P (pr_at (κ := 8) (i := j) (by decide) (gc6 (by decide) hjl) (gce (show (gsr S.1 0 0 (upd (S.1 0 0) 8 0)) 8 j = S.1 8 j from (gsr_p (by decide) rfl)) rfl)))) rfl) dX3_checksum_58 ?_
      refine g_i2l F dX3_checksum_61 ?_
      refine g_ladd F dX3_checksum_62 ?_
      refine g_lstore_n F rfl (by show 1 + 1 < 5; decide) (lv2 := [(1, .long (((31 : Int64) * (((31 : Int64) * s0) + ((S.1 8 j 1).toInt64))) + ((S.1 8 j 10).toInt64))), (4, .ref (A 8 j)), (3, .ref it), (0, .ref (A 0 0))]) rfl dX3_checksum_63 ?_
      refine g_ldc2 F (v := (31 : Int64)) q1836 dX3_checksum_64 ?_
      refine g_lload_n F 0 rfl rfl dX3_checksum_67 ?_
      refine g_lmul F dX3_checksum_68 ?_
      refine g_aload F 1 rfl dX3_checksum_69 ?_
      refine g_getN F clX10 9 (by decide) (gT_w q1540 rfl) (v := .int (S.1 8 j 9)) (gd_get (gNw_rd (gL1_P (pr_at (κ := 8) (i := j) (by decide) (gc6 (by decide) hjl) (gce (show (gsr S.1 0 0 (upd (S.1 0 0) 8 0)) 8 j = S.1 8 j from (gsr_p (by decide) rfl)) rfl)))) rfl) dX3_checksum_71 ?_
      refine g_i2l F dX3_checksum_74 ?_
      refine g_ladd F dX3_checksum_75 ?_
      refine g_lstore_n F rfl (by show 1 + 1 < 5; decide) (lv2 := [(1, .long (((31 : Int64) * (((31 : Int64) * (((31 : Int64) * s0) + ((S.1 8 j 1).toInt64))) + ((S.1 8 j 10).toInt64))) + ((S.1 8 j 9).toInt64))), (4, .ref (A 8 j)), (3, .ref it), (0, .ref (A 0 0))]) rfl dX3_checksum_76 ?_
      refine g_goto F (tgt := 18) (by decide) dX3_checksum_77 ?_
      refine g_lv [0,2,3] (lv2 := [(1, .long (((31 : Int64) * (((31 : Int64) * (((31 : Int64) * s0) + ((S.1 8 j 1).toInt64))) + ((S.1 8 j 10).toInt64))) + ((S.1 8 j 9).toInt64))), (3, .ref it), (0, .ref (A 0 0))]) rfl ?_
      have q7 : nI j + 1 = nI (j + 1) := (nI_succ j).symm
      rw [q7]
      exact IH (j + 1) _ _ (by omega) (by subst hs0; exact gCk8_s.symm)
  refine g_lv [1,0,2] (lv2 := [(1, .long (7 : Int64)), (3, .ref it), (0, .ref (A 0 0))]) rfl ?_
  exact LP (S.2 8) 0 _ _ (Nat.zero_add _) rfl
