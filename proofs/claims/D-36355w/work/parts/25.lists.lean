/-! LOOPS OVER LISTS -/
def gSm (f : Nat → Int32) : Nat → Int32
  | 0 => 0
  | n + 1 => gSm f n + f n
theorem gL1_ed {P : gH → Prop} {G : gG} {t1 t2 a len : Nat} {el : Nat → Nat} {mc : Int32} {ed cap : Nat} {f : Nat → Option Nat} (h0 : 0 < len) : gAt (gL1 P G t1 t2 a len el mc ed cap f) ed (gOA G cap f) := fun h hp => by
  rcases hp.2.2.1 with q | q
  · omega
  · exact ⟨_, q.1⟩
theorem gL1_P {P : gH → Prop} {G : gG} {t1 t2 a len : Nat} {el : Nat → Nat} {mc : Int32} {ed cap : Nat} {f : Nat → Option Nat} {x : Nat} {e : va_E} (h : gAt P x e) : gAt (gL1 P G t1 t2 a len el mc ed cap f) x e := fun h9 hp => h h9 hp.1
theorem gJk_L {P : gH → Prop} {G : gG} {t1 t2 a len : Nat} {el : Nat → Nat} {mc : Int32} {ed cap : Nat} {f : Nat → Option Nat} {τ : Nat × Nat} {it : Nat} {c : va_E} : ∀ h, gNw (gL1 P G t1 t2 a len el mc ed cap f) τ it c h → gJk P h := fun h hp => by
  obtain ⟨h0, q1, q2, rfl⟩ := hp
  exact ⟨h0, q1.1, fun b τ e hb => gNw_h (P := P) q2 hb⟩
section GW25
variable {Y : gY} {cc : ByteArray} {own : String} {rm : Room} {hh : gHh} {ret : Option FieldType} {P P2 P1 P0 : gH → Prop} {lv : List (Nat × Value)} {pc k n : Nat} {st : List Value}
theorem g_ls4 {G : gG} {t1 t2 a len : Nat} {el : Nat → Nat} (hls : ∀ h, P h → gLs G h t1 t2 a len el) (kk : ∀ mc ed cap f, (0 < len → len ≤ cap ∧ cap ≤ 150) → (∀ j, j < len → f j = some (el j)) → gW Y (gL1 P G t1 t2 a len el mc ed cap f) lv pc st k n) : gW Y P lv pc st k n := fun H locs ls h hP hR hL hl => by
  obtain ⟨mc, ed, cap, f, h1, h2, h3⟩ := hls h hP
  refine kk mc ed cap f (fun h0 => ?_) h3 H locs ls h ⟨hP, h1, h2, h3⟩ hR hL hl
  rcases h2 with q | q
  · omega
  · exact ⟨q.2.1, q.2.2.2⟩
end GW25
theorem nI_ne {a b : Nat} (h : a < b) (hb : b < 2 ^ 31) : ¬ nI a = nI b := fun q => by
  have := congrArg Int32.toNatClampNeg q
  rw [nI_clamp (by omega), nI_clamp hb] at this
  omega
/-- how many a gross holds -/
def gMy (S : gS) (g : Nat) : Int32 := gSm (fun j => S.1 (100 + g) j 1) (S.2 (100 + g))
theorem pr_pel1 {G : gG} {S : gS} {A : Nat → Nat → Nat} {Fr : gH → Prop} {T : List (Nat × va_E)} {g : Nat} (h3 : 100 + g < 300) : ∀ j, j < S.2 (100 + g) → gAt (gP 1 G S A Fr T) (A (100 + g) j) (gIA G 3 (S.1 (100 + g) j)) := fun j hj => pr_at h3 (gc6 (by omega) hj) gcell_p1
/-! A NEW PART: the other rows don't see its address -/
theorem gcell_Ap {M : Nat} {G : gG} {A : Nat → Nat → Nat} {g n v : Nat} (hM : M ≤ 1) (hg : 100 + g < 300) {κ i : Nat} {r : Nat → Int32} : gcell M G (gAa A (100 + g) n v) κ i r = gcell M G A κ i r := by
  have hM2 : M = 0 ∨ M = 1 := by omega
  have h : ∀ a b, (a < 100 ∨ 300 ≤ a) → gAa A (100 + g) n v a b = A a b := fun a b ha => gAa_k (by omega)
  rcases hM2 with rfl | rfl
  · show gcellC G _ κ i r = gcellC G A κ i r
    unfold gcellC
    split <;> first | rfl | simp only [h _ _ (Or.inl (show (0 : Nat) < 100 by decide)), h _ _ (Or.inl (show 1 < 100 by decide)), h _ _ (Or.inl (show 2 < 100 by decide)), h _ _ (Or.inl (show 3 < 100 by decide)), h _ _ (Or.inl (show 4 < 100 by decide)), h _ _ (Or.inl (show 5 < 100 by decide)), h _ _ (Or.inl (show 6 < 100 by decide)), h _ _ (Or.inl (show 7 < 100 by decide)), h _ _ (Or.inl (show 8 < 100 by decide)), h _ _ (Or.inl (show 9 < 100 by decide)), h _ _ (Or.inl (show 10 < 100 by decide)), h _ _ (Or.inr (show 300 ≤ 306 by decide)), h _ _ (Or.inr (show 300 ≤ 307 by decide)), h _ _ (Or.inr (show 300 ≤ 308 by decide)), h _ _ (Or.inr (show 300 ≤ 309 by decide)), h _ _ (Or.inr (show 300 ≤ 310 by decide)), h _ _ (Or.inr (show 300 ≤ 311 by decide)), h _ _ (Or.inr (show 300 ≤ 313 by decide)), h (400 + i) _ (Or.inr (by omega))]
  · show gcellM G _ κ i r = gcellM G A κ i r
    unfold gcellM
    split <;> first | rfl | simp only [h _ _ (Or.inl (show 1 < 100 by decide)), h _ _ (Or.inl (show 2 < 100 by decide)), h _ _ (Or.inl (show 3 < 100 by decide)), h _ _ (Or.inl (show 4 < 100 by decide)), h _ _ (Or.inr (show 300 ≤ 306 by decide)), h _ _ (Or.inr (show 300 ≤ 307 by decide)), h _ _ (Or.inr (show 300 ≤ 308 by decide)), h _ _ (Or.inr (show 300 ≤ 309 by decide)), h _ _ (Or.inr (show 300 ≤ 310 by decide)), h _ _ (Or.inr (show 300 ≤ 311 by decide)), h _ _ (Or.inr (show 300 ≤ 312 by decide)), h (400 + i) _ (Or.inr (by omega))]
theorem pr_atP {M : Nat} {G : gG} {S : gS} {A : Nat → Nat → Nat} {Fr : gH → Prop} {T : List (Nat × va_E)} {κ i g n v : Nat} {e : va_E} (hM : M ≤ 1) (hg : 100 + g < 300) (hk : κ < 100) (hi : i < gcnt S κ) (he : gcell M G A κ i (S.1 κ i) = some e) : gAt (gP M G S (gAa A (100 + g) n v) Fr T) (A κ i) e := by
  have h := pr_at (M := M) (G := G) (S := S) (A := gAa A (100 + g) n v) (Fr := Fr) (T := T) (κ := κ) (i := i) (e := e) (by omega) hi (by rw [gcell_Ap hM hg]; exact he)
  rwa [gAa_k (by omega)] at h
theorem pr_putP {M : Nat} {G : gG} {S : gS} {A : Nat → Nat → Nat} {Fr : gH → Prop} {T : List (Nat × va_E)} {κ i ci f g n9 v9 : Nat} {fs : List Value} {v : Value} (hM : M ≤ 1) (hF : gFr M Fr) (r : Nat → Int32) (hg : 100 + g < 300) (hk : κ < 100) (hi : i < gcnt S κ) (he : gcell M G A κ i (S.1 κ i) = some (.inr (ci, fs))) (hf : f < fs.length) (he1 : gcell M G A κ i r = some (.inr (ci, fs.set f v))) :
    ∀ h, gP M G S (gAa A (100 + g) n9 v9) Fr T h → ∃ τ fs, h (A κ i) = some (τ, .inr (ci, fs)) ∧ f < fs.length ∧ gP M G (gsr S.1 κ i r, S.2) (gAa A (100 + g) n9 v9) Fr T (gset h (A κ i) τ (.inr (ci, fs.set f v))) := by
  have h := pr_put (M := M) (G := G) (S := S) (A := gAa A (100 + g) n9 v9) (Fr := Fr) (T := T) (κ := κ) (i := i) (f := f) (v := v) hM hF r (by omega) hi (by rw [gcell_Ap hM hg]; exact he) hf (by rw [gcell_Ap hM hg]; exact he1)
  rwa [gAa_k (by omega)] at h
theorem pr_lspA {M : Nat} {G : gG} {S : gS} {A : Nat → Nat → Nat} {Fr : gH → Prop} {T : List (Nat × va_E)} {g n v : Nat} (hW : 100 + g < 300) (hg : g < S.2 11) : ∀ h, gP M G S (gAa A (100 + g) n v) Fr T h → gLs G h (100 + g + 300 + 1000 * M) (100 + g + 600 + 1000 * M) (A (400 + g) 0) (S.2 (100 + g)) (gAa A (100 + g) n v (100 + g)) := by
  have h := pr_ls (M := M) (G := G) (S := S) (A := gAa A (100 + g) n v) (Fr := Fr) (T := T) (κ := 100 + g) hW (Or.inr ⟨Nat.le_add_right _ _, Nat.add_lt_add_left hg 100⟩) (fun _ => by omega) (fun _ => by omega)
  have e : gAa A (100 + g) n v (100 + g + 300) 0 = A (400 + g) 0 := by
    rw [gAa_k (by omega), show 100 + g + 300 = 400 + g from by omega]
  rwa [e] at h
theorem pr_addp {M : Nat} {G : gG} {S : gS} {A : Nat → Nat → Nat} {Fr : gH → Prop} {T0 : List (Nat × va_E)} {g v : Nat} {e : va_E} (hM : M ≤ 1) (hF : gFr M Fr) (hW : gWf S) (hg : g < S.2 11) (r : Nat → Int32) (he : gcell M G A (100 + g) (S.2 (100 + g)) r = some e) : ∀ h, gAdd (gP M G S A Fr (T0 ++ [(v, e)])) G (100 + g + 300 + 1000 * M) (100 + g + 600 + 1000 * M) (A (400 + g) 0) (S.2 (100 + g)) (A (100 + g)) v h → ∃ h2, gP M G (gsr S.1 (100 + g) (S.2 (100 + g)) r, va_up S.2 (100 + g) (S.2 (100 + g) + 1)) (gAa A (100 + g) (S.2 (100 + g)) v) Fr T0 h2 ∧ ∀ a τ e, h2 a = some (τ, e) → ∃ τ2, h a = some (τ2, e) := by
  intro h hp
  have e1 : A (400 + g) 0 = A (100 + g + 300) 0 := by rw [show 100 + g + 300 = 400 + g from by omega]
  rw [e1] at hp
  exact pr_add hM hF hW (by omega) (gk3 hW hg) (by omega) r (by rw [gcell_Ap hM (gk3 hW hg)]; exact he) h hp
theorem gn_up {S : gS} {κ : Nat} (h : S.2 κ ≤ 64) : va_up S.2 κ (S.2 κ + 1) κ ≤ 150 := by
  rw [va_up_self]
  omega
theorem gn_upl {S : gS} {g : Nat} (hg : g < S.2 11) : g < va_up S.2 (100 + g) (S.2 (100 + g) + 1) 11 := by
  rw [va_up_ne _ _ (by omega)]
  exact hg
theorem gn_upk {f : Nat → Nat} {κ a i m : Nat} (h : i < f κ) (hn : κ ≠ a) : i < va_up f a m κ := by
  rw [va_up_ne _ _ hn]
  exact h
theorem kX16_many {l : Launch} {G : gG} (hl : l.stackTraces = false) {P : gH → Prop} {a al t1 t2 len : Nat} {el : Nat → Nat} {w0 w2 : Value} {ff : Nat → Nat → Int32} (hls : ∀ h, P h → gLs G h t1 t2 al len el) (hlen : len ≤ 150) (ha : gAt P a (.inr (13, [w0, .ref al, w2]))) (hel : ∀ j, j < len → gAt P (el j) (gIA G 3 (ff j))) : gMet l yX16_many (ws_ yX16_many cX16_many 4 (some .int)) ⟨3, 1, 4, 53⟩ G [.ref a] P (gqI (.int (gSm (fun j => ff j 1) len)) (gJk P)) gxN := by
  refine gMet_of hl pnX16 (gle rfl) (fun X Q hX F E hNm => ?_)
  subst hX
  change gW (X, G, 4, Q) P [(0, .ref a)] 0 [] 0 0
  refine g_ls4 hls (fun mc ed cap f hcp9 hf9 => ?_)
  refine g_iconst F (v := (0 : Int32)) (by decide) dX16_many_0 ?_
  refine g_istore_n F rfl (by show 1 < 4; decide) (lv2 := [(1, .int (0 : Int32)), (0, .ref a)]) rfl dX16_many_1 ?_
  refine g_aload_n F 1 rfl rfl dX16_many_2 ?_
  refine g_get F clX16 1 (by decide) q1765 (v := .ref al) (gd_get (gL1_P ha) rfl) dX16_many_3 ?_
  refine g_callF F clJ3 (kJ3_iterator hl (5000, 0) gL1_at) (g_recv F clJ3 (gd_obj gL1_at)) q1785 q294 q222 q22 q224 (List.mem_of_getElem? (i := 4) rfl) (gT_w q223 rfl) (gT_w q221 rfl) (gT_w q293 rfl) gface_4 ⟨by decide, by decide⟩ rfl rfl (gle rfl) 1 4 (gle rfl) (gle rfl) (gle rfl) (gle rfl) dX16_many_6 gx_n (gv_x (fun it => ?_))
  refine g_astore_n F rfl (by show 2 < 4; decide) (lv2 := [(2, .ref it), (1, .int (0 : Int32)), (0, .ref a)]) rfl dX16_many_11 ?_
  have LP : ∀ (r j : Nat) (last sm : Int32), j + r = len → sm = gSm (fun j => ff j 1) j → gW (X, G, 4, Q) (gNw (gL1 P G t1 t2 al len el mc ed cap f) (5000, 0) it (.inr (17, [.int (nI j), .int last, .int mc, .ref al]))) [(1, .int sm), (2, .ref it), (0, .ref a)] 12 [] 1 4 := by
    intro r
    induction r with
    | zero =>
      intro j last sm hj hs
      refine g_aload_n F 1 rfl rfl dX16_many_12 ?_
      refine g_callF F clJ20 (kJ20_hasNext hl (gNw_rd gL1_at) gNw_at) (g_recv F clJ20 (gd_obj gNw_at)) q1787 q249 q251 q55 q253 (List.mem_of_getElem? (i := 6) rfl) (gT_w q252 rfl) (gT_w q250 rfl) (gT_w q248 rfl) gface_6 ⟨by decide, by decide⟩ rfl rfl (gle rfl) 1 4 (gle rfl) (gle rfl) (gle rfl) (gle rfl) dX16_many_13 gx_n (gv_i ?_)
      refine gb_if_eq F (tgt := 40) (by decide) dX16_many_18 (fun _ => ?_) (fun c => absurd c (by rw [← hj]; simp))
      refine g_iload_n F 0 rfl rfl dX16_many_40 ?_
      exact g_retI F E rfl rfl (gle rfl) (gle rfl) dX16_many_41 (fun _ hp => ⟨by rw [hs, show j = len from by omega], gJk_L _ hp⟩)
    | succ r IH =>
      intro j last sm hj hs
      have hjl : j < len := by omega
      have hcp := hcp9 (by omega)
      refine g_aload_n F 1 rfl rfl dX16_many_12 ?_
      refine g_callF F clJ20 (kJ20_hasNext hl (gNw_rd gL1_at) gNw_at) (g_recv F clJ20 (gd_obj gNw_at)) q1787 q249 q251 q55 q253 (List.mem_of_getElem? (i := 6) rfl) (gT_w q252 rfl) (gT_w q250 rfl) (gT_w q248 rfl) gface_6 ⟨by decide, by decide⟩ rfl rfl (gle rfl) 1 4 (gle rfl) (gle rfl) (gle rfl) (gle rfl) dX16_many_13 gx_n (gv_i ?_)
      refine gb_if_eq F (tgt := 40) (by decide) dX16_many_18 (fun c => absurd (nI_ne hjl (by omega)) c) (fun _ => ?_)
      refine g_aload_n F 1 rfl rfl dX16_many_21 ?_
      refine g_callF F clJ20 (kJ20_next hl (gNw_rd gL1_at) gNw_at (gNw_rd (gL1_ed (by omega))) (nI_lt hjl (by omega)) (nI_lt (Nat.lt_of_lt_of_le hjl hcp.1) (by omega)) (vp_in_nI (Nat.lt_of_lt_of_le hjl hcp.1) (by omega)) (by rw [nI_clamp (by omega)]; exact hf9 j hjl)) (g_recv F clJ20 (gd_obj gNw_at)) q1789 q258 q260 q55 q262 (List.mem_of_getElem? (i := 7) rfl) (gT_w q261 rfl) (gT_w q259 rfl) (gT_w q248 rfl) gface_7 ⟨by decide, by decide⟩ rfl rfl (gle rfl) 1 4 (gle rfl) (gle rfl) (gle rfl) (gle rfl) dX16_many_22 gx_n (gv_i ?_)
      refine g_mono gNw_up ?_
      refine g_castS F (g_recvI F (gNw_rd (gL1_P (hel j hjl)))) q1790 dX16_many_27 ?_
      refine g_astore_n F rfl (by show 3 < 4; decide) (lv2 := [(3, .ref (el j)), (1, .int sm), (2, .ref it), (0, .ref a)]) rfl dX16_many_30 ?_
      refine g_iload_n F 1 rfl rfl dX16_many_31 ?_
      refine g_aload_n F 0 rfl rfl dX16_many_32 ?_
      refine g_iconst F (v := (1 : Int32)) (by decide) dX16_many_33 ?_
      refine g_ialdN F (m := 1) rfl (by decide) (by decide) (gNw_rd (gL1_P (hel j hjl))) dX16_many_34 ?_
      change gW _ _ _ _ (.int ((ff j) 1) :: _) _ _
      refine g_iadd F dX16_many_35 ?_
      refine g_istore_n F rfl (by show 1 < 4; decide) (lv2 := [(1, .int (sm + ((ff j) 1))), (3, .ref (el j)), (2, .ref it), (0, .ref a)]) rfl dX16_many_36 ?_
      refine g_goto F (tgt := 12) (by decide) dX16_many_37 ?_
      refine g_lv [0,2,3] (lv2 := [(1, .int (sm + ((ff j) 1))), (2, .ref it), (0, .ref a)]) rfl ?_
      have q7 : nI j + 1 = nI (j + 1) := (nI_succ j).symm
      rw [q7]
      exact IH (j + 1) _ _ (by omega) (by subst hs; rfl)
  refine g_lv [1,0,2] (lv2 := [(1, .int (0 : Int32)), (2, .ref it), (0, .ref a)]) rfl ?_
  exact LP len 0 _ _ (Nat.zero_add _) rfl
