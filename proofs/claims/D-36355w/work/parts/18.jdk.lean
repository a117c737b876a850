theorem kJ1_init {l : Launch} {G : gG} (hl : l.stackTraces = false) {P : gH → Prop} {a : Nat} : gMet l yJ1_init (ws_ yJ1_init cJ1_init 1 none) ⟨1, 0, 0, 12⟩ G [.ref a] P (gqV P) gxN := by
  refine gMet_of hl pnJ1 (gle rfl) (fun X Q hX F E hNm => ?_)
  subst hX
  change gW (X, G, 1, Q) P [(0, .ref a)] 0 [] 0 0
  refine g_aload_n F 0 rfl rfl dJ1_init_0 ?_
  refine g_objInit F q93 dJ1_init_1 (gle rfl) (gle rfl) ?_
  exact g_retV F E rfl (gle rfl) (gle rfl) dJ1_init_4 (fun _ hp => ⟨rfl, hp⟩)

theorem kJ2_init {l : Launch} {G : gG} (hl : l.stackTraces = false) {P : gH → Prop} {a : Nat} {x e y : Value} (ha : gAt P a (.inr (16, [x, e, y])))  : gMet l yJ2_init (ws_ yJ2_init cJ2_init 1 none) ⟨2, 0, 0, 32⟩ G [.ref a] P (gqV (gUp P a (.inr (16, [x, e, y])) (.inr (16, [.int (0 : Int32), e, y])))) gxN := by
  refine gMet_of hl pnJ2 (gle rfl) (fun X Q hX F E hNm => ?_)
  subst hX
  change gW (X, G, 1, Q) P [(0, .ref a)] 0 [] 0 0
  refine g_mono (gUp_0 ha) ?_
  refine g_aload_n F 0 rfl rfl dJ2_init_0 ?_
  refine g_callI F (kJ1_init hl (a := a)) rfl q90 q91 q20 q92 myJ1_init ⟨by decide, by decide⟩ rfl rfl (gle rfl) 0 0 (gle rfl) (gle rfl) (gle rfl) (gle rfl) dJ2_init_1 gx_n (gv_v ?_)
  refine g_aload_n F 0 rfl rfl dJ2_init_4 ?_
  refine g_iconst F (v := (0 : Int32)) (by decide) dJ2_init_5 ?_
  refine g_put (P2 := (gUp P a (.inr (16, [x, e, y])) (.inr (16, [.int (0 : Int32), e, y])))) F clJ3 0 (by decide) q100 rfl rfl rfl (gUp_put (gnl rfl)) dJ2_init_6 ?_
  exact g_retV F E rfl (gle rfl) (gle rfl) dJ2_init_9 (fun _ hp => ⟨rfl, hp⟩)

theorem kJ3_init {l : Launch} {G : gG} (hl : l.stackTraces = false) {P : gH → Prop} {a : Nat}  (ha : gAt P a (.inr (16, [.int (0 : Int32), .null, .int (0 : Int32)])))  : gMet l yJ3_init (ws_ yJ3_init cJ3_init 1 none) ⟨3, 0, 0, 52⟩ G [.ref a] P (gqV (gUp P a (.inr (16, [.int (0 : Int32), .null, .int (0 : Int32)])) (.inr (16, [.int (0 : Int32), .ref (G.2.2.2.2.2.2.1 0), .int (0 : Int32)])))) gxN := by
  refine gMet_of hl pnJ3 (gle rfl) (fun X Q hX F E hNm => ?_)
  subst hX
  change gW (X, G, 1, Q) P [(0, .ref a)] 0 [] 0 0
  refine g_mono (gUp_0 ha) ?_
  refine g_aload_n F 0 rfl rfl dJ3_init_0 ?_
  refine g_callI F (kJ2_init hl gUp_at) rfl q87 q88 q21 q89 myJ2_init ⟨by decide, by decide⟩ rfl rfl (gle rfl) 0 0 (gle rfl) (gle rfl) (gle rfl) (gle rfl) dJ3_init_1 gx_n (gv_v ?_)
  refine g_mono gUp_up ?_
  refine g_aload_n F 0 rfl rfl dJ3_init_4 ?_
  refine g_gets F (gF_empty F).1 q94 dJ3_init_5 ?_
  refine g_put (P2 := (gUp P a (.inr (16, [.int (0 : Int32), .null, .int (0 : Int32)])) (.inr (16, [.int (0 : Int32), .ref (G.2.2.2.2.2.2.1 0), .int (0 : Int32)])))) F clJ3 1 (by decide) q96 rfl rfl rfl (gUp_put (gnl rfl)) dJ3_init_8 ?_
  exact g_retV F E rfl (gle rfl) (gle rfl) dJ3_init_11 (fun _ hp => ⟨rfl, hp⟩)

theorem kJ3_size {l : Launch} {G : gG} (hl : l.stackTraces = false) {P : gH → Prop} {t1 t2 a len : Nat} {el : Nat → Nat} (hls : ∀ h, P h → gLs G h t1 t2 a len el) : gMet l yJ3_size (ws_ yJ3_size cJ3_size 1 (some .int)) ⟨0, 0, 0, 0⟩ G [.ref a] P (gqI (.int (nI len)) P) gxN := by
  refine gMet_of hl pnJ3 (gle rfl) (fun X Q hX F E hNm => ?_)
  subst hX
  change gW (X, G, 1, Q) P [(0, .ref a)] 0 [] 0 0
  refine g_ls hls (fun mc ed cap f => ?_)
  refine g_aload_n F 0 rfl rfl dJ3_size_0 ?_
  refine g_get F clJ3 2 (by decide) q99 (v := .int (nI len)) (gd_get gL1_at rfl) dJ3_size_1 ?_
  exact g_retI F E rfl rfl (gle rfl) (gle rfl) dJ3_size_4 (fun _ hp => ⟨rfl, hp.1⟩)

theorem kJ3_isEmpty {l : Launch} {G : gG} (hl : l.stackTraces = false) {P : gH → Prop} {t1 t2 a len : Nat} {el : Nat → Nat} (hls : ∀ h, P h → gLs G h t1 t2 a len el) : gMet l yJ3_isEmpty (ws_ yJ3_isEmpty cJ3_isEmpty 1 (some .boolean)) ⟨0, 0, 0, 0⟩ G [.ref a] P (gqI (.int (gb (nI len = 0))) P) gxN := by
  refine gMet_of hl pnJ3 (gle rfl) (fun X Q hX F E hNm => ?_)
  subst hX
  change gW (X, G, 1, Q) P [(0, .ref a)] 0 [] 0 0
  refine g_ls hls (fun mc ed cap f => ?_)
  refine g_aload_n F 0 rfl rfl dJ3_isEmpty_0 ?_
  refine g_get F clJ3 2 (by decide) q99 (v := .int (nI len)) (gd_get gL1_at rfl) dJ3_isEmpty_1 ?_
  have J_2 : gW (X, G, 1, Q) (gL1 P G t1 t2 a len el mc ed cap f) [(0, .ref a)] 12 [.int (gb ((nI len) = 0))] 0 0 := by
    exact g_retI F E rfl gb_z (gle rfl) (gle rfl) dJ3_isEmpty_12 (fun _ hp => ⟨rfl, hp.1⟩)
  refine g_if_ne F (tgt := 11) (by decide) dJ3_isEmpty_4 (fun c_1 => ?_) (fun c_1 => ?_)
  · skip
    refine g_iconst F (v := (0 : Int32)) (by decide) dJ3_isEmpty_11 ?_
    exact g_top (gb_f c_1) J_2
  · skip
    refine g_iconst F (v := (1 : Int32)) (by decide) dJ3_isEmpty_7 ?_
    refine g_goto F (tgt := 12) (by decide) dJ3_isEmpty_8 ?_
    exact g_top (gb_t c_1) J_2

theorem kJ13_checkIndex {l : Launch} {G : gG} (hl : l.stackTraces = false) {P : gH → Prop} {x n : Int32} {v : Value} (hv : v = .null ∨ ∃ t, v = .ref t) (h0 : ¬ x < 0) (h1 : x < n) : gMet l yJ13_checkIndex (ws_ yJ13_checkIndex cJ13_checkIndex 3 (some .int)) ⟨0, 0, 0, 0⟩ G [.int x, .int n, v] P (gqI (.int x) P) gxN := by
  refine gMet_of hl pnJ13 (by rcases hv with rfl | ⟨t, rfl⟩ <;> exact Nat.le_of_ble_eq_true rfl) (fun X Q hX F E hNm => ?_)
  subst hX
  change gW (X, G, 3, Q) P [(0, .int x), (1, .int n), (2, v)] 0 [] 0 0
  refine g_iload_n F 0 rfl rfl dJ13_checkIndex_0 ?_
  refine g_if_lt F (tgt := 9) (by decide) dJ13_checkIndex_1 (fun c => absurd c h0) (fun _ => ?_)
  refine g_iload_n F 0 rfl rfl dJ13_checkIndex_4 ?_
  refine g_iload_n F 1 rfl rfl dJ13_checkIndex_5 ?_
  refine g_icmp_lt F (tgt := 16) (by decide) dJ13_checkIndex_6 (fun _ => ?_) (fun c => absurd h1 c)
  refine g_iload_n F 0 rfl rfl dJ13_checkIndex_16 ?_
  exact g_retI F E rfl rfl (gle rfl) (gle rfl) dJ13_checkIndex_17 (fun _ hp => ⟨rfl, hp⟩)

theorem kJ19_checkIndex {l : Launch} {G : gG} (hl : l.stackTraces = false) {P : gH → Prop} {x n : Int32} (h0 : ¬ x < 0) (h1 : x < n) : gMet l yJ19_checkIndex (ws_ yJ19_checkIndex cJ19_checkIndex 2 (some .int)) ⟨1, 0, 0, 22⟩ G [.int x, .int n] P (gqI (.int x) P) gxN := by
  refine gMet_of hl pnJ19 (gle rfl) (fun X Q hX F E hNm => ?_)
  subst hX
  change gW (X, G, 2, Q) P [(0, .int x), (1, .int n)] 0 [] 0 0
  refine g_iload_n F 0 rfl rfl dJ19_checkIndex_0 ?_
  refine g_iload_n F 1 rfl rfl dJ19_checkIndex_1 ?_
  refine g_null F dJ19_checkIndex_2 ?_
  refine g_callS F (kJ13_checkIndex hl (x := x) (n := n) (v := .null) (Or.inl rfl) h0 h1) (lw_S q817 q541 q34 q542) myJ13_checkIndex ⟨by decide, by decide⟩ rfl rfl (gle rfl) 0 0 (gle rfl) (gle rfl) (gle rfl) (gle rfl) dJ19_checkIndex_3 gx_n (gv_i ?_)
  exact g_retI F E rfl rfl (gle rfl) (gle rfl) dJ19_checkIndex_6 (fun _ hp => ⟨rfl, hp⟩)

theorem kJ3_elementData {l : Launch} {G : gG} (hl : l.stackTraces = false) {P : gH → Prop} {a ed cap y : Nat} {mc n i : Int32} {f : Nat → Option Nat} (ha : gAt P a (.inr (16, [.int mc, .ref ed, .int n]))) (hb : gAt P ed (gOA G cap f)) (hi : vp_in i cap) (hf : f i.toNatClampNeg = some y) : gMet l yJ3_elementData (ws_ yJ3_elementData cJ3_elementData 2 (some (.object "java/lang/Object"))) ⟨0, 0, 0, 0⟩ G [.ref a, .int i] P (gqI (.ref y) P) gxN := by
  refine gMet_of hl pnJ3 (gle rfl) (fun X Q hX F E hNm => ?_)
  subst hX
  change gW (X, G, 2, Q) P [(0, .ref a), (1, .int i)] 0 [] 0 0
  refine g_aload_n F 0 rfl rfl dJ3_elementData_0 ?_
  refine g_get F clJ3 1 (by decide) q96 (v := .ref ed) (gd_get ha rfl) dJ3_elementData_1 ?_
  refine g_iload_n F 1 rfl rfl dJ3_elementData_4 ?_
  refine g_aald F hi hb dJ3_elementData_5 ?_
  refine g_topv (show va_rf _ = .ref y from by rw [hf]; rfl) ?_
  exact g_retA F E rfl (Or.inl ⟨_, rfl⟩) (Or.inr ⟨_, rfl⟩) (gle rfl) (gle rfl) dJ3_elementData_6 (fun _ hp => ⟨rfl, hp⟩)

theorem kJ3_get {l : Launch} {G : gG} (hl : l.stackTraces = false) {P : gH → Prop} {t1 t2 a len : Nat} {el : Nat → Nat} (hls : ∀ h, P h → gLs G h t1 t2 a len el) {j : Nat} (hj : j < len) (hlen : len ≤ 150) {i : Int32} (hi : i.toNatClampNeg = j) (hi0 : ¬ i < 0) : gMet l yJ3_get (ws_ yJ3_get cJ3_get 2 (some (.object "java/lang/Object"))) ⟨2, 0, 0, 43⟩ G [.ref a, .int i] P (gqI (.ref (el j)) P) gxN := by
  refine gMet_of hl pnJ3 (gle rfl) (fun X Q hX F E hNm => ?_)
  subst hX
  change gW (X, G, 2, Q) P [(0, .ref a), (1, .int i)] 0 [] 0 0
  refine g_ls2 hls (Nat.lt_of_le_of_lt (Nat.zero_le _) hj) (fun mc ed cap f c1 c2 c3 c4 => ?_)
  refine g_iload_n F 1 rfl rfl dJ3_get_0 ?_
  refine g_aload_n F 0 rfl rfl dJ3_get_1 ?_
  refine g_get F clJ3 2 (by decide) q99 (v := .int (nI len)) (gd_get gL2_at rfl) dJ3_get_2 ?_
  refine g_callS F (kJ19_checkIndex hl (x := i) (n := nI len) hi0 (gilt hi0 (by rw [hi]; exact hj) (by omega))) (lw_S q814 q815 q45 q816) myJ19_checkIndex ⟨by decide, by decide⟩ rfl rfl (gle rfl) 0 0 (gle rfl) (gle rfl) (gle rfl) (gle rfl) dJ3_get_5 gx_n (gv_i ?_)
  refine g_pop F rfl dJ3_get_8 ?_
  refine g_aload_n F 0 rfl rfl dJ3_get_9 ?_
  refine g_iload_n F 1 rfl rfl dJ3_get_10 ?_
  refine g_callV F (kJ3_elementData hl gL2_at gL2_ed (fun q => q.elim hi0 (fun q => by rw [hi] at q; omega)) (by rw [hi]; exact c4 j hj)) (g_recv F clJ3 (gd_obj gL2_at)) q818 q819 q820 q22 q821 myJ3_elementData ⟨by decide, by decide⟩ rfl rfl (gle rfl) 0 0 (gle rfl) (gle rfl) (gle rfl) (gle rfl) dJ3_get_11 gx_n (gv_i ?_)
  exact g_retA F E rfl (Or.inl ⟨_, rfl⟩) (Or.inr ⟨_, rfl⟩) (gle rfl) (gle rfl) dJ3_get_14 (fun _ hp => ⟨rfl, hp.1⟩)

theorem kJ20_init {l : Launch} {G : gG} (hl : l.stackTraces = false) {P : gH → Prop} {a it : Nat} {mc n : Int32} {e : Value} (ha : gAt P a (.inr (16, [.int mc, e, .int n]))) (hb : gAt P it (.inr (17, [.int 0, .int 0, .int 0, .null]))) : gMet l yJ20_init (ws_ yJ20_init cJ20_init 2 none) ⟨1, 0, 0, 12⟩ G [.ref it, .ref a] P (gqV (gUp P it (.inr (17, [.int (0 : Int32), .int (0 : Int32), .int (0 : Int32), .null])) (.inr (17, [.int (0 : Int32), .int (-1 : Int32), .int mc, .ref a])))) gxN := by
  refine gMet_of hl pnJ20 (gle rfl) (fun X Q hX F E hNm => ?_)
  subst hX
  change gW (X, G, 2, Q) P [(0, .ref it), (1, .ref a)] 0 [] 0 0
  refine g_mono (gUp_0 hb) ?_
  refine g_aload_n F 0 rfl rfl dJ20_init_0 ?_
  refine g_aload_n F 1 rfl rfl dJ20_init_1 ?_
  refine g_putF (P2 := (gUp P it (.inr (17, [.int (0 : Int32), .int (0 : Int32), .int (0 : Int32), .null])) (.inr (17, [.int (0 : Int32), .int (0 : Int32), .int (0 : Int32), .ref a])))) F hNm clJ20 3 (by decide) q234 rfl rfl rfl rfl (gUp_put (gnl rfl)) dJ20_init_2 ?_
  refine g_aload_n F 0 rfl rfl dJ20_init_5 ?_
  refine g_objInit F q230 dJ20_init_6 (gle rfl) (gle rfl) ?_
  refine g_aload_n F 0 rfl rfl dJ20_init_9 ?_
  refine g_iconst F (v := (-1 : Int32)) (by decide) dJ20_init_10 ?_
  refine g_put (P2 := (gUp P it (.inr (17, [.int (0 : Int32), .int (0 : Int32), .int (0 : Int32), .null])) (.inr (17, [.int (0 : Int32), .int (-1 : Int32), .int (0 : Int32), .ref a])))) F clJ20 1 (by decide) q232 rfl rfl rfl (gUp_put (gnl rfl)) dJ20_init_11 ?_
  refine g_aload_n F 0 rfl rfl dJ20_init_14 ?_
  refine g_aload_n F 0 rfl rfl dJ20_init_15 ?_
  refine g_get F clJ20 3 (by decide) q234 (v := .ref a) (gd_get gUp_at rfl) dJ20_init_16 ?_
  refine g_getU F clJ3 0 (by decide) q101 q102 (v := .int mc) (gd_get (gUp_rd ha (by intro q; injection q with q; injection q with q1 q2; exact absurd q1 (by decide))) rfl) dJ20_init_19 ?_
  refine g_put (P2 := (gUp P it (.inr (17, [.int (0 : Int32), .int (0 : Int32), .int (0 : Int32), .null])) (.inr (17, [.int (0 : Int32), .int (-1 : Int32), .int mc, .ref a])))) F clJ20 2 (by decide) q233 rfl rfl rfl (gUp_put (gnl rfl)) dJ20_init_22 ?_
  exact g_retV F E rfl (gle rfl) (gle rfl) dJ20_init_25 (fun _ hp => ⟨rfl, hp⟩)

theorem kJ3_iterator {l : Launch} {G : gG} (hl : l.stackTraces = false) {P : gH → Prop} (τ : Nat × Nat) {a : Nat} {mc n : Int32} {e : Value} (ha : gAt P a (.inr (16, [.int mc, e, .int n]))) : gMet l yJ3_iterator (ws_ yJ3_iterator cJ3_iterator 1 (some (.object "java/util/Iterator"))) ⟨2, 1, 4, 33⟩ G [.ref a] P (gqX .ref (fun it => gNw P τ it (.inr (17, [.int 0, .int (-1), .int mc, .ref a])))) gxN := by
  refine gMet_of hl pnJ3 (gle rfl) (fun X Q hX F E hNm => ?_)
  subst hX
  change gW (X, G, 1, Q) P [(0, .ref a)] 0 [] 0 0
  refine g_new F clJ20 q225 q226 q55 τ (fs := [.int (0 : Int32), .int (0 : Int32), .int (0 : Int32), .null]) rfl 1 4 (gle rfl) (gle rfl) (gle rfl) (gle rfl) (Pa := fun a_1 => (gNw P τ a_1 (.inr (17, [.int (0 : Int32), .int (0 : Int32), .int (0 : Int32), .null])))) gNw_new dJ3_iterator_0 (fun a_1 => ?_)
  refine g_dup F rfl dJ3_iterator_3 ?_
  refine g_aload_n F 0 rfl rfl dJ3_iterator_4 ?_
  refine g_callI F (kJ20_init hl (gNw_rd ha) gNw_at) rfl q227 q228 q55 q229 myJ20_init ⟨by decide, by decide⟩ rfl rfl (gle rfl) 1 4 (gle rfl) (gle rfl) (gle rfl) (gle rfl) dJ3_iterator_5 gx_n (gv_v ?_)
  refine g_mono gNw_up ?_
  exact g_retA F E rfl (Or.inl ⟨_, rfl⟩) (Or.inr ⟨_, rfl⟩) (gle rfl) (gle rfl) dJ3_iterator_8 (fun _ hp => ⟨_, rfl, hp⟩)

theorem kJ20_hasNext {l : Launch} {G : gG} (hl : l.stackTraces = false) {P : gH → Prop} {a it : Nat} {cur last mc mc2 n : Int32} {e : Value} (ha : gAt P a (.inr (16, [.int mc, e, .int n]))) (hb : gAt P it (.inr (17, [.int cur, .int last, .int mc2, .ref a]))) : gMet l yJ20_hasNext (ws_ yJ20_hasNext cJ20_hasNext 1 (some .boolean)) ⟨0, 0, 0, 0⟩ G [.ref it] P (gqI (.int (gb (¬ cur = n))) P) gxN := by
  refine gMet_of hl pnJ20 (gle rfl) (fun X Q hX F E hNm => ?_)
  subst hX
  change gW (X, G, 1, Q) P [(0, .ref it)] 0 [] 0 0
  refine g_aload_n F 0 rfl rfl dJ20_hasNext_0 ?_
  refine g_get F clJ20 0 (by decide) q231 (v := .int cur) (gd_get hb rfl) dJ20_hasNext_1 ?_
  refine g_aload_n F 0 rfl rfl dJ20_hasNext_4 ?_
  refine g_get F clJ20 3 (by decide) q234 (v := .ref a) (gd_get hb rfl) dJ20_hasNext_5 ?_
  refine g_getN F clJ3 2 (by decide) (gT_w q98 rfl) (v := .int n) (gd_get ha rfl) dJ20_hasNext_8 ?_
  have J_2 : gW (X, G, 1, Q) P [(0, .ref it)] 19 [.int (gb (¬ (cur = n)))] 0 0 := by
    exact g_retI F E rfl gb_z (gle rfl) (gle rfl) dJ20_hasNext_19 (fun _ hp => ⟨rfl, hp⟩)
  refine g_icmp_eq F (tgt := 18) (by decide) dJ20_hasNext_11 (fun c_1 => ?_) (fun c_1 => ?_)
  · skip
    refine g_iconst F (v := (0 : Int32)) (by decide) dJ20_hasNext_18 ?_
    exact g_top (gb_f (fun q => q c_1)) J_2
  · skip
    refine g_iconst F (v := (1 : Int32)) (by decide) dJ20_hasNext_14 ?_
    refine g_goto F (tgt := 19) (by decide) dJ20_hasNext_15 ?_
    exact g_top (gb_t c_1) J_2

theorem kJ20_checkForComodification {l : Launch} {G : gG} (hl : l.stackTraces = false) {P : gH → Prop} {a it : Nat} {cur last mc mc2 n : Int32} {e : Value} (ha : gAt P a (.inr (16, [.int mc, e, .int n]))) (hb : gAt P it (.inr (17, [.int cur, .int last, .int mc2, .ref a]))) (hm : mc = mc2) : gMet l yJ20_checkForComodification (ws_ yJ20_checkForComodification cJ20_checkForComodification 1 none) ⟨0, 0, 0, 0⟩ G [.ref it] P (gqV P) gxN := by
  refine gMet_of hl pnJ20 (gle rfl) (fun X Q hX F E hNm => ?_)
  subst hX
  change gW (X, G, 1, Q) P [(0, .ref it)] 0 [] 0 0
  refine g_aload_n F 0 rfl rfl dJ20_checkForComodification_0 ?_
  refine g_get F clJ20 3 (by decide) q234 (v := .ref a) (gd_get hb rfl) dJ20_checkForComodification_1 ?_
  refine g_getU F clJ3 0 (by decide) q101 q102 (v := .int mc) (gd_get ha rfl) dJ20_checkForComodification_4 ?_
  refine g_aload_n F 0 rfl rfl dJ20_checkForComodification_7 ?_
  refine g_get F clJ20 2 (by decide) q233 (v := .int mc2) (gd_get hb rfl) dJ20_checkForComodification_8 ?_
  refine g_icmp_eq F (tgt := 22) (by decide) dJ20_checkForComodification_11 (fun _ => ?_) (fun c => absurd hm c)
  exact g_retV F E rfl (gle rfl) (gle rfl) dJ20_checkForComodification_22 (fun _ hp => ⟨rfl, hp⟩)

theorem kJ20_next {l : Launch} {G : gG} (hl : l.stackTraces = false) {P : gH → Prop} {a it ed cap y : Nat} {cur last mc n : Int32} {f : Nat → Option Nat} (ha : gAt P a (.inr (16, [.int mc, .ref ed, .int n]))) (hb : gAt P it (.inr (17, [.int cur, .int last, .int mc, .ref a]))) (hc : gAt P ed (gOA G cap f)) (h1 : cur < n) (h2 : cur < nI cap) (hi : vp_in cur cap) (hf : f cur.toNatClampNeg = some y) : gMet l yJ20_next (ws_ yJ20_next cJ20_next 3 (some (.object "java/lang/Object"))) ⟨1, 0, 0, 20⟩ G [.ref it] P (gqI (.ref y) (gUp P it (.inr (17, [.int cur, .int last, .int mc, .ref a])) (.inr (17, [.int (cur + 1), .int cur, .int mc, .ref a])))) gxN := by
  refine gMet_of hl pnJ20 (gle rfl) (fun X Q hX F E hNm => ?_)
  subst hX
  change gW (X, G, 3, Q) P [(0, .ref it)] 0 [] 0 0
  refine g_aload_n F 0 rfl rfl dJ20_next_0 ?_
  refine g_callV F (kJ20_checkForComodification hl ha hb rfl) (g_recv F clJ20 (gd_obj hb)) q263 q264 q265 q55 q266 myJ20_checkForComodification ⟨by decide, by decide⟩ rfl rfl (gle rfl) 0 0 (gle rfl) (gle rfl) (gle rfl) (gle rfl) dJ20_next_1 gx_n (gv_v ?_)
  refine g_aload_n F 0 rfl rfl dJ20_next_4 ?_
  refine g_get F clJ20 0 (by decide) q231 (v := .int cur) (gd_get hb rfl) dJ20_next_5 ?_
  refine g_istore_n F rfl (by show 1 < 3; decide) (lv2 := [(1, .int cur), (0, .ref it)]) rfl dJ20_next_8 ?_
  refine g_iload_n F 0 rfl rfl dJ20_next_9 ?_
  refine g_aload_n F 1 rfl rfl dJ20_next_10 ?_
  refine g_get F clJ20 3 (by decide) q234 (v := .ref a) (gd_get hb rfl) dJ20_next_11 ?_
  refine g_getN F clJ3 2 (by decide) (gT_w q98 rfl) (v := .int n) (gd_get ha rfl) dJ20_next_14 ?_
  refine g_icmp_lt F (tgt := 28) (by decide) dJ20_next_17 (fun _ => ?_) (fun c => absurd h1 c)
  refine g_mono (gUp_0 hb) ?_
  refine g_aload_n F 1 rfl rfl dJ20_next_28 ?_
  refine g_get F clJ20 3 (by decide) q234 (v := .ref a) (gd_get gUp_at rfl) dJ20_next_29 ?_
  refine g_get F clJ3 1 (by decide) q97 (v := .ref ed) (gd_get (gUp_rd ha (by intro q; injection q with q; injection q with q1 q2; exact absurd q1 (by decide))) rfl) dJ20_next_32 ?_
  refine g_astore_n F rfl (by show 2 < 3; decide) (lv2 := [(2, .ref ed), (1, .int cur), (0, .ref it)]) rfl dJ20_next_35 ?_
  refine g_iload_n F 1 rfl rfl dJ20_next_36 ?_
  refine g_aload_n F 0 rfl rfl dJ20_next_37 ?_
  refine g_alen F 4 rfl (v := nI cap) rfl (gUp_rd hc (by intro q; cases q)) dJ20_next_38 ?_
  refine g_icmp_lt F (tgt := 50) (by decide) dJ20_next_39 (fun _ => ?_) (fun c => absurd h2 c)
  refine g_aload_n F 2 rfl rfl dJ20_next_50 ?_
  refine g_iload_n F 1 rfl rfl dJ20_next_51 ?_
  refine g_iconst F (v := (1 : Int32)) (by decide) dJ20_next_52 ?_
  refine g_iadd F dJ20_next_53 ?_
  refine g_put (P2 := (gUp P it (.inr (17, [.int cur, .int last, .int mc, .ref a])) (.inr (17, [.int (cur + (1 : Int32)), .int last, .int mc, .ref a])))) F clJ20 0 (by decide) q231 rfl rfl rfl (gUp_put (gnl rfl)) dJ20_next_54 ?_
  refine g_aload_n F 0 rfl rfl dJ20_next_57 ?_
  refine g_aload_n F 2 rfl rfl dJ20_next_58 ?_
  refine g_iload_n F 1 rfl rfl dJ20_next_59 ?_
  refine g_dup_x1 F rfl rfl dJ20_next_60 ?_
  refine g_put (P2 := (gUp P it (.inr (17, [.int cur, .int last, .int mc, .ref a])) (.inr (17, [.int (cur + (1 : Int32)), .int cur, .int mc, .ref a])))) F clJ20 1 (by decide) q232 rfl rfl rfl (gUp_put (gnl rfl)) dJ20_next_61 ?_
  refine g_aald F hi (gUp_rd hc (by intro q; cases q)) dJ20_next_64 ?_
  refine g_topv (show va_rf _ = .ref y from by rw [hf]; rfl) ?_
  exact g_retA F E rfl (Or.inl ⟨_, rfl⟩) (Or.inr ⟨_, rfl⟩) (gle rfl) (gle rfl) dJ20_next_65 (fun _ hp => ⟨rfl, hp⟩)

theorem kJ16_newLength {l : Launch} {G : gG} (hl : l.stackTraces = false) {P : gH → Prop} {o m p r : Int32} (hr : o + gmax m p = r) (h0 : ¬ r ≤ 0) (h1 : ¬ (2147483639 : Int32) < r) : gMet l yJ16_newLength (ws_ yJ16_newLength cJ16_newLength 4 (some .int)) ⟨1, 0, 0, 14⟩ G [.int o, .int m, .int p] P (gqI (.int r) P) gxN := by
  refine gMet_of hl pnJ16 (gle rfl) (fun X Q hX F E hNm => ?_)
  subst hX
  change gW (X, G, 4, Q) P [(0, .int o), (1, .int m), (2, .int p)] 0 [] 0 0
  subst hr
  refine g_iload_n F 0 rfl rfl dJ16_newLength_0 ?_
  refine g_iload_n F 1 rfl rfl dJ16_newLength_1 ?_
  refine g_iload_n F 2 rfl rfl dJ16_newLength_2 ?_
  refine g_mmax F q700 (gle rfl) (gle rfl) (gle rfl) (gle rfl) dJ16_newLength_3 ?_
  refine g_iadd F dJ16_newLength_6 ?_
  refine g_istore_n F rfl (by show 3 < 4; decide) (lv2 := [(3, .int (o + (gmax m p))), (0, .int o), (1, .int m), (2, .int p)]) rfl dJ16_newLength_7 ?_
  refine g_iconst F (v := (0 : Int32)) (by decide) dJ16_newLength_8 ?_
  refine g_iload_n F 0 rfl rfl dJ16_newLength_9 ?_
  refine g_icmp_ge F (tgt := 21) (by decide) dJ16_newLength_10 (fun c => absurd c h0) (fun _ => ?_)
  refine g_iload_n F 0 rfl rfl dJ16_newLength_13 ?_
  refine g_ldc F (v := (2147483639 : Int32)) q701 dJ16_newLength_14 ?_
  refine g_icmp_gt F (tgt := 21) (by decide) dJ16_newLength_16 (fun c => absurd c h1) (fun _ => ?_)
  refine g_iload_n F 0 rfl rfl dJ16_newLength_19 ?_
  exact g_retI F E rfl rfl (gle rfl) (gle rfl) dJ16_newLength_20 (fun _ hp => ⟨rfl, hp⟩)

theorem kJ4_copyOf_2 {l : Launch} {G : gG} (hl : l.stackTraces = false) {P : gH → Prop} (τ : Nat × Nat) {ed cap N : Nat} {f : Nat → Option Nat} (ha : gAt P ed (gOA G cap f)) (hcN : cap ≤ N) (hN : N ≤ 150) (hel : ∀ i, i < cap → ∀ y, f i = some y → gEl G P y) : gMet l yJ4_copyOf_2 (ws_ yJ4_copyOf_2 cJ4_copyOf_2 4 (some (.array (.object "java/lang/Object")))) ⟨1, 1, 150, 600⟩ G [.ref ed, .int (nI N), .ref (G.2.2.2.2.2.2.1 1)] P (gqX .ref (fun na => gNw P τ na (gOA G N (va_cpy f (fun _ => none) 0 0 cap)))) gxN := by
  refine gMet_of hl pnJ4 (gle rfl) (fun X Q hX F E hNm => ?_)
  subst hX
  change gW (X, G, 4, Q) P [(0, .ref ed), (1, .int (nI N)), (2, .ref (G.2.2.2.2.2.2.1 1))] 0 [] 0 0
  refine g_aload_n F 2 rfl rfl dJ4_copyOf_2_0 ?_
  refine g_ldcM F q741 dJ4_copyOf_2_1 ?_
  refine g_acmp_ne F (rx := some (G.2.2.2.2.2.2.1 1)) (ry := some (G.2.2.2.2.2.2.1 1)) (tgt := 13) (by decide) dJ4_copyOf_2_3 (fun c => absurd rfl c) (fun _ => ?_)
  refine g_iload_n F 1 rfl rfl dJ4_copyOf_2_6 ?_
  refine g_newq F q743 (gT_w q742 rfl) τ (N := N) (nI_pos (by omega)) (nI_clamp (by omega)) (by omega) 1 150 (gle rfl) (by omega) (gle rfl) (gle rfl) (Pa := fun a_1 => (gNw P τ a_1 (gOA G N (fun _ => none)))) gNw_new dJ4_copyOf_2_7 (fun a_1 => ?_)
  refine g_goto F (tgt := 24) (by decide) dJ4_copyOf_2_10 ?_
  refine g_astore_n F rfl (by show 3 < 4; decide) (lv2 := [(3, .ref a_1), (0, .ref ed), (1, .int (nI N)), (2, .ref (G.2.2.2.2.2.2.1 1))]) rfl dJ4_copyOf_2_24 ?_
  refine g_aload_n F 1 rfl rfl dJ4_copyOf_2_25 ?_
  refine g_iconst F (v := (0 : Int32)) (by decide) dJ4_copyOf_2_26 ?_
  refine g_aload_n F 0 rfl rfl dJ4_copyOf_2_27 ?_
  refine g_iconst F (v := (0 : Int32)) (by decide) dJ4_copyOf_2_28 ?_
  refine g_aload_n F 1 rfl rfl dJ4_copyOf_2_29 ?_
  refine g_alen F 4 rfl (v := nI cap) rfl (gNw_rd ha) dJ4_copyOf_2_30 ?_
  refine g_iload_n F 2 rfl rfl dJ4_copyOf_2_31 ?_
  refine g_mmin F q744 (gle rfl) (gle rfl) (gle rfl) (gle rfl) dJ4_copyOf_2_32 ?_
  refine g_pure (gNw_ne ha) (fun hne => ?_)
  refine g_top (gmin_le hcN (by omega)) ?_
  refine g_copyq (P2 := (gNw P τ a_1 (gOA G N (va_cpy f (fun _ => none) 0 0 cap)))) F (n0 := cap) (n1 := N) (f := f) (g := fun _ => none) q745 q747 q746 q42 (nI_pos (by omega)) (nI_clamp (by omega)) (Nat.le_refl _) hcN hne (gNw_rd ha) gNw_set (fun H h hp hR i hi y hy => gEl_recv F (gEl_nw (hel i hi y hy)) H h hp hR) (gle rfl) (gle rfl) dJ4_copyOf_2_35 ?_
  refine g_aload_n F 0 rfl rfl dJ4_copyOf_2_38 ?_
  exact g_retA F E rfl (Or.inr ⟨_, rfl⟩) (Or.inr ⟨_, rfl⟩) (gle rfl) (gle rfl) dJ4_copyOf_2_39 (fun _ hp => ⟨_, rfl, hp⟩)

theorem kJ4_copyOf {l : Launch} {G : gG} (hl : l.stackTraces = false) {P : gH → Prop} (τ : Nat × Nat) {ed cap N : Nat} {f : Nat → Option Nat} (ha : gAt P ed (gOA G cap f)) (hcN : cap ≤ N) (hN : N ≤ 150) (hel : ∀ i, i < cap → ∀ y, f i = some y → gEl G P y) : gMet l yJ4_copyOf (ws_ yJ4_copyOf cJ4_copyOf 2 (some (.array (.object "java/lang/Object")))) ⟨2, 1, 150, 623⟩ G [.ref ed, .int (nI N)] P (gqX .ref (fun na => gNw P τ na (gOA G N (va_cpy f (fun _ => none) 0 0 cap)))) gxN := by
  refine gMet_of hl pnJ4 (gle rfl) (fun X Q hX F E hNm => ?_)
  subst hX
  change gW (X, G, 2, Q) P [(0, .ref ed), (1, .int (nI N))] 0 [] 0 0
  refine g_aload_n F 0 rfl rfl dJ4_copyOf_0 ?_
  refine g_iload_n F 1 rfl rfl dJ4_copyOf_1 ?_
  refine g_aload_n F 0 rfl rfl dJ4_copyOf_2 ?_
  refine g_getC F (g_recvO F ha) q708 (gT_w q1885 rfl) q1884 q709 q737 (gle rfl) (gle rfl) dJ4_copyOf_3 ?_
  refine g_callS F (kJ4_copyOf_2 hl τ ha hcN hN hel) (lw_S q738 q739 q24 q740) myJ4_copyOf_2 ⟨by decide, by decide⟩ rfl rfl (gle rfl) 1 150 (gle rfl) (gle rfl) (gle rfl) (gle rfl) dJ4_copyOf_6 gx_n (gv_x (fun na_1 => ?_))
  exact g_retA F E rfl (Or.inr ⟨_, rfl⟩) (Or.inr ⟨_, rfl⟩) (gle rfl) (gle rfl) dJ4_copyOf_9 (fun _ hp => ⟨_, rfl, hp⟩)

theorem kJ3_grow_2F {l : Launch} {G : gG} (hl : l.stackTraces = false) {P : gH → Prop} (τ : Nat × Nat) {a ed cap : Nat} {mc : Int32} {f : Nat → Option Nat} (ha : gAt P a (.inr (16, [.int mc, .ref ed, .int (nI cap)]))) (hb : gAt P ed (gOA G cap f)) (h2 : 2 ≤ cap) (h3 : cap ≤ 100) (hel : ∀ i, i < cap → ∀ y, f i = some y → gEl G P y) : gMet l yJ3_grow_2 (ws_ yJ3_grow_2 cJ3_grow_2 4 (some (.array (.object "java/lang/Object")))) ⟨3, 1, 150, 644⟩ G [.ref a, .int (nI cap + 1)] P (gqX .ref (fun na => gUp (gNw P τ na (gOA G (cap + cap / 2) (va_cpy f (fun _ => none) 0 0 cap))) a (.inr (16, [.int mc, .ref ed, .int (nI cap)])) (.inr (16, [.int mc, .ref na, .int (nI cap)])))) gxN := by
  refine gMet_of hl pnJ3 (gle rfl) (fun X Q hX F E hNm => ?_)
  subst hX
  change gW (X, G, 4, Q) P [(0, .ref a), (1, .int (nI cap + 1))] 0 [] 0 0
  refine g_aload_n F 0 rfl rfl dJ3_grow_2_0 ?_
  refine g_get F clJ3 1 (by decide) q96 (v := .ref ed) (gd_get ha rfl) dJ3_grow_2_1 ?_
  refine g_alen F 4 rfl (v := nI cap) rfl hb dJ3_grow_2_4 ?_
  refine g_istore_n F rfl (by show 2 < 4; decide) (lv2 := [(2, .int (nI cap)), (0, .ref a), (1, .int (nI cap + 1))]) rfl dJ3_grow_2_5 ?_
  refine g_iload_n F 0 rfl rfl dJ3_grow_2_6 ?_
  refine g_if_gt F (tgt := 20) (by decide) dJ3_grow_2_7 (fun _ => ?_) (fun c => absurd (nI_lt (a := 0) (by omega) (by omega)) c)
  refine g_iload_n F 0 rfl rfl dJ3_grow_2_20 ?_
  refine g_iload_n F 2 rfl rfl dJ3_grow_2_21 ?_
  refine g_iload_n F 0 rfl rfl dJ3_grow_2_22 ?_
  refine g_isub F dJ3_grow_2_23 ?_
  refine g_iload_n F 0 rfl rfl dJ3_grow_2_24 ?_
  refine g_iconst F (v := (1 : Int32)) (by decide) dJ3_grow_2_25 ?_
  refine g_ishr F dJ3_grow_2_26 ?_
  refine g_callS F (kJ16_newLength hl (o := nI cap) (m := (nI cap + 1) - (nI cap)) (p := (nI cap) >>> ((1 : Int32) &&& 31)) (r := nI (cap + cap / 2)) (grw cap (by omega) h2) (nI_nle (by omega) (by omega)) (nI_nlt (a := 2147483639) (b := cap + cap / 2) (by omega) (by omega))) (lw_S q697 q698 q41 q699) myJ16_newLength ⟨by decide, by decide⟩ rfl rfl (gle rfl) 0 0 (gle rfl) (gle rfl) (gle rfl) (gle rfl) dJ3_grow_2_27 gx_n (gv_i ?_)
  refine g_istore_n F rfl (by show 3 < 4; decide) (lv2 := [(3, .int (nI (cap + cap / 2))), (2, .int (nI cap)), (0, .ref a), (1, .int (nI cap + 1))]) rfl dJ3_grow_2_30 ?_
  refine g_aload_n F 2 rfl rfl dJ3_grow_2_31 ?_
  refine g_aload_n F 2 rfl rfl dJ3_grow_2_32 ?_
  refine g_get F clJ3 1 (by decide) q96 (v := .ref ed) (gd_get ha rfl) dJ3_grow_2_33 ?_
  refine g_iload_n F 0 rfl rfl dJ3_grow_2_36 ?_
  refine g_callS F (kJ4_copyOf hl τ (N := cap + cap / 2) hb (by omega) (by omega) hel) (lw_S q705 q706 q24 q707) myJ4_copyOf ⟨by decide, by decide⟩ rfl rfl (gle rfl) 1 150 (gle rfl) (gle rfl) (gle rfl) (gle rfl) dJ3_grow_2_37 gx_n (gv_x (fun na_1 => ?_))
  refine g_mono (gUp_0 (gNw_rd ha)) ?_
  refine g_dup_x1 F rfl rfl dJ3_grow_2_40 ?_
  refine g_put (P2 := (gUp (gNw P τ na_1 (gOA G (cap + cap / 2) (va_cpy f (fun _ => none) 0 0 cap))) a (.inr (16, [.int mc, .ref ed, .int (nI cap)])) (.inr (16, [.int mc, .ref na_1, .int (nI cap)])))) F clJ3 1 (by decide) q96 rfl rfl rfl (gUp_put (gnl rfl)) dJ3_grow_2_41 ?_
  exact g_retA F E rfl (Or.inr ⟨_, rfl⟩) (Or.inr ⟨_, rfl⟩) (gle rfl) (gle rfl) dJ3_grow_2_44 (fun _ hp => ⟨_, rfl, hp⟩)

theorem kJ3_growF {l : Launch} {G : gG} (hl : l.stackTraces = false) {P : gH → Prop} (τ : Nat × Nat) {a ed cap : Nat} {mc : Int32} {f : Nat → Option Nat} (ha : gAt P a (.inr (16, [.int mc, .ref ed, .int (nI cap)]))) (hb : gAt P ed (gOA G cap f)) (h2 : 2 ≤ cap) (h3 : cap ≤ 100) (hel : ∀ i, i < cap → ∀ y, f i = some y → gEl G P y) : gMet l yJ3_grow (ws_ yJ3_grow cJ3_grow 1 (some (.array (.object "java/lang/Object")))) ⟨4, 1, 150, 667⟩ G [.ref a] P (gqX .ref (fun na => gUp (gNw P τ na (gOA G (cap + cap / 2) (va_cpy f (fun _ => none) 0 0 cap))) a (.inr (16, [.int mc, .ref ed, .int (nI cap)])) (.inr (16, [.int mc, .ref na, .int (nI cap)])))) gxN := by
  refine gMet_of hl pnJ3 (gle rfl) (fun X Q hX F E hNm => ?_)
  subst hX
  change gW (X, G, 1, Q) P [(0, .ref a)] 0 [] 0 0
  refine g_aload_n F 0 rfl rfl dJ3_grow_0 ?_
  refine g_aload_n F 0 rfl rfl dJ3_grow_1 ?_
  refine g_get F clJ3 2 (by decide) q99 (v := .int (nI cap)) (gd_get ha rfl) dJ3_grow_2 ?_
  refine g_iconst F (v := (1 : Int32)) (by decide) dJ3_grow_5 ?_
  refine g_iadd F dJ3_grow_6 ?_
  refine g_callV F (kJ3_grow_2F hl τ ha hb h2 h3 hel) (g_recv F clJ3 (gd_obj ha)) q693 q695 qs5 q22 q696 myJ3_grow_2 ⟨by decide, by decide⟩ rfl rfl (gle rfl) 1 150 (gle rfl) (gle rfl) (gle rfl) (gle rfl) dJ3_grow_7 gx_n (gv_x (fun na_1 => ?_))
  exact g_retA F E rfl (Or.inr ⟨_, rfl⟩) (Or.inr ⟨_, rfl⟩) (gle rfl) (gle rfl) dJ3_grow_10 (fun _ hp => ⟨_, rfl, hp⟩)

theorem kJ3_grow_2E {l : Launch} {G : gG} (hl : l.stackTraces = false) {P : gH → Prop} (τ : Nat × Nat) {a : Nat} {mc : Int32} (ha : gAt P a (.inr (16, [.int mc, .ref (G.2.2.2.2.2.2.1 0), .int (nI 0)]))) : gMet l yJ3_grow_2 (ws_ yJ3_grow_2 cJ3_grow_2 4 (some (.array (.object "java/lang/Object")))) ⟨1, 1, 10, 14⟩ G [.ref a, .int (nI 0 + 1)] P (gqX .ref (fun na => gUp (gNw P τ na (gOA G 10 (fun _ => none))) a (.inr (16, [.int mc, .ref (G.2.2.2.2.2.2.1 0), .int (nI 0)])) (.inr (16, [.int mc, .ref na, .int (nI 0)])))) gxN := by
  refine gMet_of hl pnJ3 (gle rfl) (fun X Q hX F E hNm => ?_)
  subst hX
  change gW (X, G, 4, Q) P [(0, .ref a), (1, .int (nI 0 + 1))] 0 [] 0 0
  refine g_aload_n F 0 rfl rfl dJ3_grow_2_0 ?_
  refine g_get F clJ3 1 (by decide) q96 (v := .ref (G.2.2.2.2.2.2.1 0)) (gd_get ha rfl) dJ3_grow_2_1 ?_
  refine g_alenE F dJ3_grow_2_4 ?_
  refine g_istore_n F rfl (by show 2 < 4; decide) (lv2 := [(2, .int (0 : Int32)), (0, .ref a), (1, .int (nI 0 + 1))]) rfl dJ3_grow_2_5 ?_
  refine g_iload_n F 0 rfl rfl dJ3_grow_2_6 ?_
  refine g_if_gt F (tgt := 20) (by decide) dJ3_grow_2_7 (fun c => absurd c (by decide)) (fun _ => ?_)
  refine g_aload_n F 1 rfl rfl dJ3_grow_2_10 ?_
  refine g_get F clJ3 1 (by decide) q96 (v := .ref (G.2.2.2.2.2.2.1 0)) (gd_get ha rfl) dJ3_grow_2_11 ?_
  refine g_gets F (gF_empty F).1 q94 dJ3_grow_2_14 ?_
  refine g_acmp_eq F (rx := some (G.2.2.2.2.2.2.1 0)) (ry := some (G.2.2.2.2.2.2.1 0)) (tgt := 45) (by decide) dJ3_grow_2_17 (fun _ => ?_) (fun c => absurd rfl c)
  refine g_aload_n F 1 rfl rfl dJ3_grow_2_45 ?_
  refine g_bipush F (v := (10 : Int32)) (by decide) dJ3_grow_2_46 ?_
  refine g_iload_n F 2 rfl rfl dJ3_grow_2_48 ?_
  refine g_mmax F q748 (gle rfl) (gle rfl) (gle rfl) (gle rfl) dJ3_grow_2_49 ?_
  refine g_newq F q749 (gT_w q742 rfl) τ (N := 10) (by decide) (by decide) (by decide) 1 10 (gle rfl) (by decide) (gle rfl) (gle rfl) (Pa := fun a_1 => (gNw P τ a_1 (gOA G 10 (fun _ => none)))) gNw_new dJ3_grow_2_52 (fun a_1 => ?_)
  refine g_mono (gUp_0 (gNw_rd ha)) ?_
  refine g_dup_x1 F rfl rfl dJ3_grow_2_55 ?_
  refine g_put (P2 := (gUp (gNw P τ a_1 (gOA G 10 (fun _ => none))) a (.inr (16, [.int mc, .ref (G.2.2.2.2.2.2.1 0), .int (nI 0)])) (.inr (16, [.int mc, .ref a_1, .int (nI 0)])))) F clJ3 1 (by decide) q96 rfl rfl rfl (gUp_put (gnl rfl)) dJ3_grow_2_56 ?_
  exact g_retA F E rfl (Or.inr ⟨_, rfl⟩) (Or.inr ⟨_, rfl⟩) (gle rfl) (gle rfl) dJ3_grow_2_59 (fun _ hp => ⟨_, rfl, hp⟩)

theorem kJ3_growE {l : Launch} {G : gG} (hl : l.stackTraces = false) {P : gH → Prop} (τ : Nat × Nat) {a : Nat} {mc : Int32} (ha : gAt P a (.inr (16, [.int mc, .ref (G.2.2.2.2.2.2.1 0), .int (nI 0)]))) : gMet l yJ3_grow (ws_ yJ3_grow cJ3_grow 1 (some (.array (.object "java/lang/Object")))) ⟨2, 1, 10, 37⟩ G [.ref a] P (gqX .ref (fun na => gUp (gNw P τ na (gOA G 10 (fun _ => none))) a (.inr (16, [.int mc, .ref (G.2.2.2.2.2.2.1 0), .int (nI 0)])) (.inr (16, [.int mc, .ref na, .int (nI 0)])))) gxN := by
  refine gMet_of hl pnJ3 (gle rfl) (fun X Q hX F E hNm => ?_)
  subst hX
  change gW (X, G, 1, Q) P [(0, .ref a)] 0 [] 0 0
  refine g_aload_n F 0 rfl rfl dJ3_grow_0 ?_
  refine g_aload_n F 0 rfl rfl dJ3_grow_1 ?_
  refine g_get F clJ3 2 (by decide) q99 (v := .int (nI 0)) (gd_get ha rfl) dJ3_grow_2 ?_
  refine g_iconst F (v := (1 : Int32)) (by decide) dJ3_grow_5 ?_
  refine g_iadd F dJ3_grow_6 ?_
  refine g_callV F (kJ3_grow_2E hl τ ha) (g_recv F clJ3 (gd_obj ha)) q693 q695 qs5 q22 q696 myJ3_grow_2 ⟨by decide, by decide⟩ rfl rfl (gle rfl) 1 10 (gle rfl) (gle rfl) (gle rfl) (gle rfl) dJ3_grow_7 gx_n (gv_x (fun na_1 => ?_))
  exact g_retA F E rfl (Or.inr ⟨_, rfl⟩) (Or.inr ⟨_, rfl⟩) (gle rfl) (gle rfl) dJ3_grow_10 (fun _ hp => ⟨_, rfl, hp⟩)

theorem kJ3_add_2R {l : Launch} {G : gG} (hl : l.stackTraces = false) {P : gH → Prop} {a ed cap len v : Nat} {mc : Int32} {f : Nat → Option Nat} (ha : gAt P a (.inr (16, [.int mc, .ref ed, .int (nI len)]))) (hb : gAt P ed (gOA G cap f)) (h1 : len < cap) (h3 : cap ≤ 150) (hv : gEl G P v) : gMet l yJ3_add_2 (ws_ yJ3_add_2 cJ3_add_2 4 none) ⟨0, 0, 0, 0⟩ G [.ref a, .ref v, .ref ed, .int (nI len)] P (gqV (gUp (gUp P ed (gOA G cap f) (gOA G cap (va_up f len (some v)))) a (.inr (16, [.int mc, .ref ed, .int (nI len)])) (.inr (16, [.int mc, .ref ed, .int (nI (len + 1))])))) gxN := by
  refine gMet_of hl pnJ3 (gle rfl) (fun X Q hX F E hNm => ?_)
  subst hX
  change gW (X, G, 4, Q) P [(0, .ref a), (1, .ref v), (2, .ref ed), (3, .int (nI len))] 0 [] 0 0
  refine g_iload_n F 3 rfl rfl dJ3_add_2_0 ?_
  refine g_aload_n F 2 rfl rfl dJ3_add_2_1 ?_
  refine g_alen F 4 rfl (v := nI cap) rfl hb dJ3_add_2_2 ?_
  refine g_icmp_ne F (tgt := 11) (by decide) dJ3_add_2_3 (fun _ => ?_) (fun c => absurd c (fun q => by have q9 := congrArg Int32.toNatClampNeg q; rw [nI_clamp (by omega), nI_clamp (by omega)] at q9; omega))
  refine g_aload_n F 2 rfl rfl dJ3_add_2_11 ?_
  refine g_iload_n F 3 rfl rfl dJ3_add_2_12 ?_
  refine g_aload_n F 1 rfl rfl dJ3_add_2_13 ?_
  refine g_aastE (N := cap) (f := f) (P2 := (gUp P ed (gOA G cap f) (gOA G cap (va_up f len (some v))))) F (vp_in_nI h1 (by omega)) hv (fun h hp => ?_) dJ3_add_2_14 ?_
  · rw [nI_clamp (by omega)]; obtain ⟨τ8, q8⟩ := hb h hp; exact ⟨τ8, q8, h, τ8, hp, q8, rfl⟩
  refine g_mono (gUp_0 (gUp_rd ha (by intro q; cases q))) ?_
  refine g_aload_n F 0 rfl rfl dJ3_add_2_15 ?_
  refine g_iload_n F 3 rfl rfl dJ3_add_2_16 ?_
  refine g_iconst F (v := (1 : Int32)) (by decide) dJ3_add_2_17 ?_
  refine g_iadd F dJ3_add_2_18 ?_
  refine g_top (nI_succ len).symm ?_
  refine g_put (P2 := (gUp (gUp P ed (gOA G cap f) (gOA G cap (va_up f len (some v)))) a (.inr (16, [.int mc, .ref ed, .int (nI len)])) (.inr (16, [.int mc, .ref ed, .int (nI (len + 1))])))) F clJ3 2 (by decide) q99 rfl rfl rfl (gUp_put (gnl rfl)) dJ3_add_2_19 ?_
  exact g_retV F E rfl (gle rfl) (gle rfl) dJ3_add_2_22 (fun _ hp => ⟨rfl, hp⟩)

theorem kJ3_add_2F {l : Launch} {G : gG} (hl : l.stackTraces = false) {P : gH → Prop} (τ : Nat × Nat) {a ed len v : Nat} {mc : Int32} {f : Nat → Option Nat} (ha : gAt P a (.inr (16, [.int mc, .ref ed, .int (nI len)]))) (hb : gAt P ed (gOA G len f)) (h2 : 2 ≤ len) (h3 : len ≤ 100) (hel : ∀ i, i < len → ∀ y, f i = some y → gEl G P y) (hv : gEl G P v) : gMet l yJ3_add_2 (ws_ yJ3_add_2 cJ3_add_2 4 none) ⟨5, 1, 150, 687⟩ G [.ref a, .ref v, .ref ed, .int (nI len)] P (fun r9 h => r9 = none ∧ ∃ na, (gUp (gUp (gUp (gNw P τ na (gOA G (len + len / 2) (va_cpy f (fun _ => none) 0 0 len))) a (.inr (16, [.int mc, .ref ed, .int (nI len)])) (.inr (16, [.int mc, .ref na, .int (nI len)]))) na (gOA G (len + len / 2) (va_cpy f (fun _ => none) 0 0 len)) (gOA G (len + len / 2) (va_up (va_cpy f (fun _ => none) 0 0 len) len (some v)))) a (.inr (16, [.int mc, .ref na, .int (nI len)])) (.inr (16, [.int mc, .ref na, .int (nI (len + 1))]))) h) gxN := by
  refine gMet_of hl pnJ3 (gle rfl) (fun X Q hX F E hNm => ?_)
  subst hX
  change gW (X, G, 4, Q) P [(0, .ref a), (1, .ref v), (2, .ref ed), (3, .int (nI len))] 0 [] 0 0
  refine g_iload_n F 3 rfl rfl dJ3_add_2_0 ?_
  refine g_aload_n F 2 rfl rfl dJ3_add_2_1 ?_
  refine g_alen F 4 rfl (v := nI len) rfl hb dJ3_add_2_2 ?_
  refine g_icmp_ne F (tgt := 11) (by decide) dJ3_add_2_3 (fun c => absurd rfl c) (fun _ => ?_)
  refine g_aload_n F 0 rfl rfl dJ3_add_2_6 ?_
  refine g_callV F (kJ3_growF hl τ ha hb h2 h3 hel) (g_recv F clJ3 (gd_obj ha)) q689 q691 qs4 q22 q692 myJ3_grow ⟨by decide, by decide⟩ rfl rfl (gle rfl) 1 150 (gle rfl) (gle rfl) (gle rfl) (gle rfl) dJ3_add_2_7 gx_n (gv_x (fun na => ?_))
  refine g_astore_n F rfl (by show 2 < 4; decide) (lv2 := [(2, .ref na), (0, .ref a), (1, .ref v), (3, .int (nI len))]) rfl dJ3_add_2_10 ?_
  refine g_aload_n F 0 rfl rfl dJ3_add_2_11 ?_
  refine g_iload_n F 3 rfl rfl dJ3_add_2_12 ?_
  refine g_aload_n F 2 rfl rfl dJ3_add_2_13 ?_
  refine g_aastE (N := (len + len / 2)) (f := va_cpy f (fun _ => none) 0 0 len) (P2 := (gUp (gUp (gNw P τ na (gOA G (len + len / 2) (va_cpy f (fun _ => none) 0 0 len))) a (.inr (16, [.int mc, .ref ed, .int (nI len)])) (.inr (16, [.int mc, .ref na, .int (nI len)]))) na (gOA G (len + len / 2) (va_cpy f (fun _ => none) 0 0 len)) (gOA G (len + len / 2) (va_up (va_cpy f (fun _ => none) 0 0 len) len (some v))))) F (vp_in_nI (show len < len + len / 2 by omega) (by omega)) (gEl_up (gEl_nw hv) gOk_16) (fun h hp => ?_) dJ3_add_2_14 ?_
  · rw [nI_clamp (by omega)]; obtain ⟨τ8, q8⟩ := (gUp_rd gNw_at (by intro q; cases q)) h hp; exact ⟨τ8, q8, h, τ8, hp, q8, rfl⟩
  refine g_mono (gUp_0 (gUp_rd gUp_at (by intro q; cases q))) ?_
  refine g_aload_n F 1 rfl rfl dJ3_add_2_15 ?_
  refine g_iload_n F 3 rfl rfl dJ3_add_2_16 ?_
  refine g_iconst F (v := (1 : Int32)) (by decide) dJ3_add_2_17 ?_
  refine g_iadd F dJ3_add_2_18 ?_
  refine g_top (nI_succ len).symm ?_
  refine g_put (P2 := (gUp (gUp (gUp (gNw P τ na (gOA G (len + len / 2) (va_cpy f (fun _ => none) 0 0 len))) a (.inr (16, [.int mc, .ref ed, .int (nI len)])) (.inr (16, [.int mc, .ref na, .int (nI len)]))) na (gOA G (len + len / 2) (va_cpy f (fun _ => none) 0 0 len)) (gOA G (len + len / 2) (va_up (va_cpy f (fun _ => none) 0 0 len) len (some v)))) a (.inr (16, [.int mc, .ref na, .int (nI len)])) (.inr (16, [.int mc, .ref na, .int (nI (len + 1))])))) F clJ3 2 (by decide) q99 rfl rfl rfl (gUp_put (gnl rfl)) dJ3_add_2_19 ?_
  exact g_retV F E rfl (gle rfl) (gle rfl) dJ3_add_2_22 (fun _ hp => ⟨rfl, _, hp⟩)

theorem kJ3_add_2E {l : Launch} {G : gG} (hl : l.stackTraces = false) {P : gH → Prop} (τ : Nat × Nat) {a v : Nat} {mc : Int32} (ha : gAt P a (.inr (16, [.int mc, .ref (G.2.2.2.2.2.2.1 0), .int (nI 0)]))) (hv : gEl G P v) : gMet l yJ3_add_2 (ws_ yJ3_add_2 cJ3_add_2 4 none) ⟨3, 1, 10, 57⟩ G [.ref a, .ref v, .ref (G.2.2.2.2.2.2.1 0), .int (nI 0)] P (fun r9 h => r9 = none ∧ ∃ na, (gUp (gUp (gUp (gNw P τ na (gOA G 10 (fun _ => none))) a (.inr (16, [.int mc, .ref (G.2.2.2.2.2.2.1 0), .int (nI 0)])) (.inr (16, [.int mc, .ref na, .int (nI 0)]))) na (gOA G 10 (fun _ => none)) (gOA G 10 (va_up (fun _ => none) 0 (some v)))) a (.inr (16, [.int mc, .ref na, .int (nI 0)])) (.inr (16, [.int mc, .ref na, .int (nI (0 + 1))]))) h) gxN := by
  refine gMet_of hl pnJ3 (gle rfl) (fun X Q hX F E hNm => ?_)
  subst hX
  change gW (X, G, 4, Q) P [(0, .ref a), (1, .ref v), (2, .ref (G.2.2.2.2.2.2.1 0)), (3, .int (nI 0))] 0 [] 0 0
  refine g_iload_n F 3 rfl rfl dJ3_add_2_0 ?_
  refine g_aload_n F 2 rfl rfl dJ3_add_2_1 ?_
  refine g_alenE F dJ3_add_2_2 ?_
  refine g_icmp_ne F (tgt := 11) (by decide) dJ3_add_2_3 (fun c => absurd rfl c) (fun _ => ?_)
  refine g_aload_n F 0 rfl rfl dJ3_add_2_6 ?_
  refine g_callV F (kJ3_growE hl τ ha) (g_recv F clJ3 (gd_obj ha)) q689 q691 qs4 q22 q692 myJ3_grow ⟨by decide, by decide⟩ rfl rfl (gle rfl) 1 10 (gle rfl) (gle rfl) (gle rfl) (gle rfl) dJ3_add_2_7 gx_n (gv_x (fun na => ?_))
  refine g_astore_n F rfl (by show 2 < 4; decide) (lv2 := [(2, .ref na), (0, .ref a), (1, .ref v), (3, .int (nI 0))]) rfl dJ3_add_2_10 ?_
  refine g_aload_n F 0 rfl rfl dJ3_add_2_11 ?_
  refine g_iload_n F 3 rfl rfl dJ3_add_2_12 ?_
  refine g_aload_n F 2 rfl rfl dJ3_add_2_13 ?_
  refine g_aastE (N := 10) (f := fun _ => none) (P2 := (gUp (gUp (gNw P τ na (gOA G 10 (fun _ => none))) a (.inr (16, [.int mc, .ref (G.2.2.2.2.2.2.1 0), .int (nI 0)])) (.inr (16, [.int mc, .ref na, .int (nI 0)]))) na (gOA G 10 (fun _ => none)) (gOA G 10 (va_up (fun _ => none) 0 (some v))))) F (vp_in_nI (show 0 < 10 by omega) (by omega)) (gEl_up (gEl_nw hv) gOk_16) (fun h hp => ?_) dJ3_add_2_14 ?_
  · rw [nI_clamp (by omega)]; obtain ⟨τ8, q8⟩ := (gUp_rd gNw_at (by intro q; cases q)) h hp; exact ⟨τ8, q8, h, τ8, hp, q8, rfl⟩
  refine g_mono (gUp_0 (gUp_rd gUp_at (by intro q; cases q))) ?_
  refine g_aload_n F 1 rfl rfl dJ3_add_2_15 ?_
  refine g_iload_n F 3 rfl rfl dJ3_add_2_16 ?_
  refine g_iconst F (v := (1 : Int32)) (by decide) dJ3_add_2_17 ?_
  refine g_iadd F dJ3_add_2_18 ?_
  refine g_top (nI_succ 0).symm ?_
  refine g_put (P2 := (gUp (gUp (gUp (gNw P τ na (gOA G 10 (fun _ => none))) a (.inr (16, [.int mc, .ref (G.2.2.2.2.2.2.1 0), .int (nI 0)])) (.inr (16, [.int mc, .ref na, .int (nI 0)]))) na (gOA G 10 (fun _ => none)) (gOA G 10 (va_up (fun _ => none) 0 (some v)))) a (.inr (16, [.int mc, .ref na, .int (nI 0)])) (.inr (16, [.int mc, .ref na, .int (nI (0 + 1))])))) F clJ3 2 (by decide) q99 rfl rfl rfl (gUp_put (gnl rfl)) dJ3_add_2_19 ?_
  exact g_retV F E rfl (gle rfl) (gle rfl) dJ3_add_2_22 (fun _ hp => ⟨rfl, _, hp⟩)

theorem kJ3_add {l : Launch} {G : gG} (hl : l.stackTraces = false) {P : gH → Prop} {t1 t2 a len : Nat} {el : Nat → Nat} (hls : ∀ h, P h → gLs G h t1 t2 a len el) (hlen : len ≤ 100) {v : Nat} (hv : gEl G P v) (hel : ∀ i, i < len → gEl G P (el i)) : gMet l yJ3_add (ws_ yJ3_add cJ3_add 2 (some .boolean)) ⟨6, 1, 150, 710⟩ G [.ref a, .ref v] P (gqI (.int 1) (gAdd P G t1 t2 a len el v)) gxN := by
  refine gMet_of hl pnJ3 (gle rfl) (fun X Q hX F E hNm => ?_)
  subst hX
  change gW (X, G, 2, Q) P [(0, .ref a), (1, .ref v)] 0 [] 0 0
  refine g_ls3 hls (fun mc h0 => ?_) (fun mc ed cap f c1 c2 c3 c4 => ?_)
  · subst h0
    have hv2 : gEl G (fun h => P h ∧ h a = some ((t1, 0), .inr (16, [.int mc, .ref (G.2.2.2.2.2.2.1 0), .int (nI 0)]))) v := fun h hp => hv h hp.1
    refine g_mono (gUp_0 (fun _ hp => ⟨_, hp.2⟩)) ?_
    refine g_aload_n F 0 rfl rfl dJ3_add_0 ?_
    refine g_dup F rfl dJ3_add_1 ?_
    refine g_getU F clJ3 0 (by decide) q103 q102 (v := .int mc) (gd_get gUp_at rfl) dJ3_add_2 ?_
    refine g_iconst F (v := (1 : Int32)) (by decide) dJ3_add_5 ?_
    refine g_iadd F dJ3_add_6 ?_
    refine g_putU (P2 := (gUp (fun h => P h ∧ h a = some ((t1, 0), .inr (16, [.int mc, .ref (G.2.2.2.2.2.2.1 0), .int (nI 0)]))) a (.inr (16, [.int mc, .ref (G.2.2.2.2.2.2.1 0), .int (nI 0)])) (.inr (16, [.int (mc + (1 : Int32)), .ref (G.2.2.2.2.2.2.1 0), .int (nI 0)])))) F clJ3 0 (by decide) q103 q102 rfl rfl rfl (gUp_put (gnl rfl)) dJ3_add_7 ?_
    refine g_aload_n F 0 rfl rfl dJ3_add_10 ?_
    refine g_aload_n F 1 rfl rfl dJ3_add_11 ?_
    refine g_aload_n F 0 rfl rfl dJ3_add_12 ?_
    refine g_get F clJ3 1 (by decide) q96 (v := .ref (G.2.2.2.2.2.2.1 0)) (gd_get gUp_at rfl) dJ3_add_13 ?_
    refine g_aload_n F 0 rfl rfl dJ3_add_16 ?_
    refine g_get F clJ3 2 (by decide) q99 (v := .int (nI 0)) (gd_get gUp_at rfl) dJ3_add_17 ?_
    refine g_callV F (kJ3_add_2E hl (t2, 0) gUp_at (gEl_up hv2 gOk_16)) (g_recv F clJ3 (gd_obj gUp_at)) q685 q687 qs3 q22 q688 myJ3_add_2 ⟨by decide, by decide⟩ rfl rfl (gle rfl) 1 10 (gle rfl) (gle rfl) (gle rfl) (gle rfl) dJ3_add_20 gx_n (fun v9 => gv_c9 (fun na => ?_))
    refine g_iconst F (v := (1 : Int32)) (by decide) dJ3_add_23 ?_
    exact g_retI F E rfl rfl (gle rfl) (gle rfl) dJ3_add_24 (fun _ hp => ⟨rfl, gAdd_n (fun _ q => q) (by omega) (by omega) (by omega) (fun j hj => by omega) _ hp⟩)
  by_cases hc : len = cap
  · subst hc
    have hv2 : gEl G (gL2 P G t1 t2 a len mc ed len f) v := fun h hp => hv h hp.1
    have hel2 : ∀ i, i < len → ∀ y, f i = some y → gEl G (gL2 P G t1 t2 a len mc ed len f) y := fun i hi y hy => by rw [c4 i hi] at hy; cases hy; exact fun h hp => hel i hi h hp.1
    refine g_mono (gUp_0 gL2_at) ?_
    refine g_aload_n F 0 rfl rfl dJ3_add_0 ?_
    refine g_dup F rfl dJ3_add_1 ?_
    refine g_getU F clJ3 0 (by decide) q103 q102 (v := .int mc) (gd_get gUp_at rfl) dJ3_add_2 ?_
    refine g_iconst F (v := (1 : Int32)) (by decide) dJ3_add_5 ?_
    refine g_iadd F dJ3_add_6 ?_
    refine g_putU (P2 := (gUp (gL2 P G t1 t2 a len mc ed len f) a (.inr (16, [.int mc, .ref ed, .int (nI len)])) (.inr (16, [.int (mc + (1 : Int32)), .ref ed, .int (nI len)])))) F clJ3 0 (by decide) q103 q102 rfl rfl rfl (gUp_put (gnl rfl)) dJ3_add_7 ?_
    refine g_aload_n F 0 rfl rfl dJ3_add_10 ?_
    refine g_aload_n F 1 rfl rfl dJ3_add_11 ?_
    refine g_aload_n F 0 rfl rfl dJ3_add_12 ?_
    refine g_get F clJ3 1 (by decide) q96 (v := .ref ed) (gd_get gUp_at rfl) dJ3_add_13 ?_
    refine g_aload_n F 0 rfl rfl dJ3_add_16 ?_
    refine g_get F clJ3 2 (by decide) q99 (v := .int (nI len)) (gd_get gUp_at rfl) dJ3_add_17 ?_
    refine g_callV F (kJ3_add_2F hl (t2, 0) gUp_at (gUp_rd gL2_ed (by intro q; cases q)) c2 hlen (fun i hi y hy => gEl_up (hel2 i hi y hy) gOk_16) (gEl_up hv2 gOk_16)) (g_recv F clJ3 (gd_obj gUp_at)) q685 q687 qs3 q22 q688 myJ3_add_2 ⟨by decide, by decide⟩ rfl rfl (gle rfl) 1 150 (gle rfl) (gle rfl) (gle rfl) (gle rfl) dJ3_add_20 gx_n (fun v9 => gv_c9 (fun na => ?_))
    refine g_iconst F (v := (1 : Int32)) (by decide) dJ3_add_23 ?_
    exact g_retI F E rfl rfl (gle rfl) (gle rfl) dJ3_add_24 (fun _ hp => ⟨rfl, gAdd_n (fun _ q => ⟨q.1, q.2.1⟩) (by omega) (by omega) (by omega) (fun j hj => by unfold va_cpy; rw [if_pos ⟨Nat.zero_le _, by omega⟩, Nat.zero_add, Nat.sub_zero]; exact c4 j hj) _ hp⟩)
  · skip
    have hv2 : gEl G (gL2 P G t1 t2 a len mc ed cap f) v := fun h hp => hv h hp.1
    refine g_mono (gUp_0 gL2_at) ?_
    refine g_aload_n F 0 rfl rfl dJ3_add_0 ?_
    refine g_dup F rfl dJ3_add_1 ?_
    refine g_getU F clJ3 0 (by decide) q103 q102 (v := .int mc) (gd_get gUp_at rfl) dJ3_add_2 ?_
    refine g_iconst F (v := (1 : Int32)) (by decide) dJ3_add_5 ?_
    refine g_iadd F dJ3_add_6 ?_
    refine g_putU (P2 := (gUp (gL2 P G t1 t2 a len mc ed cap f) a (.inr (16, [.int mc, .ref ed, .int (nI len)])) (.inr (16, [.int (mc + (1 : Int32)), .ref ed, .int (nI len)])))) F clJ3 0 (by decide) q103 q102 rfl rfl rfl (gUp_put (gnl rfl)) dJ3_add_7 ?_
    refine g_aload_n F 0 rfl rfl dJ3_add_10 ?_
    refine g_aload_n F 1 rfl rfl dJ3_add_11 ?_
    refine g_aload_n F 0 rfl rfl dJ3_add_12 ?_
    refine g_get F clJ3 1 (by decide) q96 (v := .ref ed) (gd_get gUp_at rfl) dJ3_add_13 ?_
    refine g_aload_n F 0 rfl rfl dJ3_add_16 ?_
    refine g_get F clJ3 2 (by decide) q99 (v := .int (nI len)) (gd_get gUp_at rfl) dJ3_add_17 ?_
    refine g_callV F (kJ3_add_2R hl gUp_at (gUp_rd gL2_ed (by intro q; cases q)) (by omega) c3 (gEl_up hv2 gOk_16)) (g_recv F clJ3 (gd_obj gUp_at)) q685 q687 qs3 q22 q688 myJ3_add_2 ⟨by decide, by decide⟩ rfl rfl (gle rfl) 0 0 (gle rfl) (gle rfl) (gle rfl) (gle rfl) dJ3_add_20 gx_n (gv_v ?_)
    refine g_iconst F (v := (1 : Int32)) (by decide) dJ3_add_23 ?_
    exact g_retI F E rfl rfl (gle rfl) (gle rfl) dJ3_add_24 (fun _ hp => ⟨rfl, gAdd_r (by omega) c2 c3 c4 _ hp⟩)

theorem kJ4_fill {l : Launch} {G : gG} (hl : l.stackTraces = false) {P : gH → Prop} {a : Nat} {f : Nat → Int32} {x : Int32} (ha : gAt P a (gIA G 4 f)) : gMet l yJ4_fill (ws_ yJ4_fill cJ4_fill 4 none) ⟨0, 0, 0, 0⟩ G [.ref a, .int x] P (gqV (gUp P a (gIA G 4 f) (gIA G 4 (upd (upd (upd (upd f 0 x) 1 x) 2 x) 3 x)))) gxN := by
  refine gMet_of hl pnJ4 (gle rfl) (fun X Q hX F E hNm => ?_)
  subst hX
  change gW (X, G, 4, Q) P [(0, .ref a), (1, .int x)] 0 [] 0 0
  refine g_mono (gUp_0 ha) ?_
  refine g_iconst F (v := (0 : Int32)) (by decide) dJ4_fill_0 ?_
  refine g_istore_n F rfl (by show 2 < 4; decide) (lv2 := [(2, .int (0 : Int32)), (0, .ref a), (1, .int x)]) rfl dJ4_fill_1 ?_
  refine g_aload_n F 1 rfl rfl dJ4_fill_2 ?_
  refine g_alen F 0 rfl (v := (4 : Int32)) rfl gUp_at dJ4_fill_3 ?_
  refine g_istore_n F rfl (by show 3 < 4; decide) (lv2 := [(3, .int (4 : Int32)), (2, .int (0 : Int32)), (0, .ref a), (1, .int x)]) rfl dJ4_fill_4 ?_
  refine g_iload_n F 1 rfl rfl dJ4_fill_5 ?_
  refine g_iload_n F 0 rfl rfl dJ4_fill_6 ?_
  refine g_icmp_ge F (tgt := 20) (by decide) dJ4_fill_7 (fun c => absurd c (by decide)) (fun _ => ?_)
  refine g_aload_n F 2 rfl rfl dJ4_fill_10 ?_
  refine g_iload_n F 1 rfl rfl dJ4_fill_11 ?_
  refine g_iload_n F 3 rfl rfl dJ4_fill_12 ?_
  refine g_iastN (P2 := (gUp P a (gIA G 4 f) (gIA G 4 (upd f 0 x)))) F (m := 0) rfl (by decide) (by decide) gUp_set dJ4_fill_13 ?_
  refine g_iinc F 1 rfl (v := (1 : Int32)) (by rfl) (by show 2 < 4; decide) (lv2 := [(2, .int (1 : Int32)), (3, .int (4 : Int32)), (0, .ref a), (1, .int x)]) rfl dJ4_fill_14 ?_
  refine g_goto F (tgt := 5) (by decide) dJ4_fill_17 ?_
  refine g_iload_n F 0 rfl rfl dJ4_fill_5 ?_
  refine g_iload_n F 1 rfl rfl dJ4_fill_6 ?_
  refine g_icmp_ge F (tgt := 20) (by decide) dJ4_fill_7 (fun c => absurd c (by decide)) (fun _ => ?_)
  refine g_aload_n F 2 rfl rfl dJ4_fill_10 ?_
  refine g_iload_n F 0 rfl rfl dJ4_fill_11 ?_
  refine g_iload_n F 3 rfl rfl dJ4_fill_12 ?_
  refine g_iastN (P2 := (gUp P a (gIA G 4 f) (gIA G 4 (upd (upd f 0 x) 1 x)))) F (m := 1) rfl (by decide) (by decide) gUp_set dJ4_fill_13 ?_
  refine g_iinc F 0 rfl (v := (2 : Int32)) (by rfl) (by show 2 < 4; decide) (lv2 := [(2, .int (2 : Int32)), (3, .int (4 : Int32)), (0, .ref a), (1, .int x)]) rfl dJ4_fill_14 ?_
  refine g_goto F (tgt := 5) (by decide) dJ4_fill_17 ?_
  refine g_iload_n F 0 rfl rfl dJ4_fill_5 ?_
  refine g_iload_n F 1 rfl rfl dJ4_fill_6 ?_
  refine g_icmp_ge F (tgt := 20) (by decide) dJ4_fill_7 (fun c => absurd c (by decide)) (fun _ => ?_)
  refine g_aload_n F 2 rfl rfl dJ4_fill_10 ?_
  refine g_iload_n F 0 rfl rfl dJ4_fill_11 ?_
  refine g_iload_n F 3 rfl rfl dJ4_fill_12 ?_
  refine g_iastN (P2 := (gUp P a (gIA G 4 f) (gIA G 4 (upd (upd (upd f 0 x) 1 x) 2 x)))) F (m := 2) rfl (by decide) (by decide) gUp_set dJ4_fill_13 ?_
  refine g_iinc F 0 rfl (v := (3 : Int32)) (by rfl) (by show 2 < 4; decide) (lv2 := [(2, .int (3 : Int32)), (3, .int (4 : Int32)), (0, .ref a), (1, .int x)]) rfl dJ4_fill_14 ?_
  refine g_goto F (tgt := 5) (by decide) dJ4_fill_17 ?_
  refine g_iload_n F 0 rfl rfl dJ4_fill_5 ?_
  refine g_iload_n F 1 rfl rfl dJ4_fill_6 ?_
  refine g_icmp_ge F (tgt := 20) (by decide) dJ4_fill_7 (fun c => absurd c (by decide)) (fun _ => ?_)
  refine g_aload_n F 2 rfl rfl dJ4_fill_10 ?_
  refine g_iload_n F 0 rfl rfl dJ4_fill_11 ?_
  refine g_iload_n F 3 rfl rfl dJ4_fill_12 ?_
  refine g_iastN (P2 := (gUp P a (gIA G 4 f) (gIA G 4 (upd (upd (upd (upd f 0 x) 1 x) 2 x) 3 x)))) F (m := 3) rfl (by decide) (by decide) gUp_set dJ4_fill_13 ?_
  refine g_iinc F 0 rfl (v := (4 : Int32)) (by rfl) (by show 2 < 4; decide) (lv2 := [(2, .int (4 : Int32)), (3, .int (4 : Int32)), (0, .ref a), (1, .int x)]) rfl dJ4_fill_14 ?_
  refine g_goto F (tgt := 5) (by decide) dJ4_fill_17 ?_
  refine g_iload_n F 0 rfl rfl dJ4_fill_5 ?_
  refine g_iload_n F 1 rfl rfl dJ4_fill_6 ?_
  refine g_icmp_ge F (tgt := 20) (by decide) dJ4_fill_7 (fun _ => ?_) (fun c => absurd c (by decide))
  exact g_retV F E rfl (gle rfl) (gle rfl) dJ4_fill_20 (fun _ hp => ⟨rfl, hp⟩)

theorem kJ4_fill_2 {l : Launch} {G : gG} (hl : l.stackTraces = false) {P : gH → Prop} {a : Nat} {f : Nat → Int32} {c : Prop} [Decidable c] (ha : gAt P a (gZA G 4 f)) : gMet l yJ4_fill_2 (ws_ yJ4_fill_2 cJ4_fill_2 4 none) ⟨0, 0, 0, 0⟩ G [.ref a, .int (gb c)] P (gqV (gUp P a (gZA G 4 f) (gZA G 4 (upd (upd (upd (upd f 0 (gb c)) 1 (gb c)) 2 (gb c)) 3 (gb c))))) gxN := by
  refine gMet_of hl pnJ4 (gle rfl) (fun X Q hX F E hNm => ?_)
  subst hX
  change gW (X, G, 4, Q) P [(0, .ref a), (1, .int (gb c))] 0 [] 0 0
  refine g_mono (gUp_0 ha) ?_
  refine g_iconst F (v := (0 : Int32)) (by decide) dJ4_fill_2_0 ?_
  refine g_istore_n F rfl (by show 2 < 4; decide) (lv2 := [(2, .int (0 : Int32)), (0, .ref a), (1, .int (gb c))]) rfl dJ4_fill_2_1 ?_
  refine g_aload_n F 1 rfl rfl dJ4_fill_2_2 ?_
  refine g_alen F 1 rfl (v := (4 : Int32)) rfl gUp_at dJ4_fill_2_3 ?_
  refine g_istore_n F rfl (by show 3 < 4; decide) (lv2 := [(3, .int (4 : Int32)), (2, .int (0 : Int32)), (0, .ref a), (1, .int (gb c))]) rfl dJ4_fill_2_4 ?_
  refine g_iload_n F 1 rfl rfl dJ4_fill_2_5 ?_
  refine g_iload_n F 0 rfl rfl dJ4_fill_2_6 ?_
  refine g_icmp_ge F (tgt := 20) (by decide) dJ4_fill_2_7 (fun c => absurd c (by decide)) (fun _ => ?_)
  refine g_aload_n F 2 rfl rfl dJ4_fill_2_10 ?_
  refine g_iload_n F 1 rfl rfl dJ4_fill_2_11 ?_
  refine g_iload_n F 3 rfl rfl dJ4_fill_2_12 ?_
  refine g_zastN (P2 := (gUp P a (gZA G 4 f) (gZA G 4 (upd f 0 (gb c))))) F (m := 0) rfl (by decide) (by decide) gb_zn gUp_set dJ4_fill_2_13 ?_
  refine g_iinc F 1 rfl (v := (1 : Int32)) (by rfl) (by show 2 < 4; decide) (lv2 := [(2, .int (1 : Int32)), (3, .int (4 : Int32)), (0, .ref a), (1, .int (gb c))]) rfl dJ4_fill_2_14 ?_
  refine g_goto F (tgt := 5) (by decide) dJ4_fill_2_17 ?_
  refine g_iload_n F 0 rfl rfl dJ4_fill_2_5 ?_
  refine g_iload_n F 1 rfl rfl dJ4_fill_2_6 ?_
  refine g_icmp_ge F (tgt := 20) (by decide) dJ4_fill_2_7 (fun c => absurd c (by decide)) (fun _ => ?_)
  refine g_aload_n F 2 rfl rfl dJ4_fill_2_10 ?_
  refine g_iload_n F 0 rfl rfl dJ4_fill_2_11 ?_
  refine g_iload_n F 3 rfl rfl dJ4_fill_2_12 ?_
  refine g_zastN (P2 := (gUp P a (gZA G 4 f) (gZA G 4 (upd (upd f 0 (gb c)) 1 (gb c))))) F (m := 1) rfl (by decide) (by decide) gb_zn gUp_set dJ4_fill_2_13 ?_
  refine g_iinc F 0 rfl (v := (2 : Int32)) (by rfl) (by show 2 < 4; decide) (lv2 := [(2, .int (2 : Int32)), (3, .int (4 : Int32)), (0, .ref a), (1, .int (gb c))]) rfl dJ4_fill_2_14 ?_
  refine g_goto F (tgt := 5) (by decide) dJ4_fill_2_17 ?_
  refine g_iload_n F 0 rfl rfl dJ4_fill_2_5 ?_
  refine g_iload_n F 1 rfl rfl dJ4_fill_2_6 ?_
  refine g_icmp_ge F (tgt := 20) (by decide) dJ4_fill_2_7 (fun c => absurd c (by decide)) (fun _ => ?_)
  refine g_aload_n F 2 rfl rfl dJ4_fill_2_10 ?_
  refine g_iload_n F 0 rfl rfl dJ4_fill_2_11 ?_
  refine g_iload_n F 3 rfl rfl dJ4_fill_2_12 ?_
  refine g_zastN (P2 := (gUp P a (gZA G 4 f) (gZA G 4 (upd (upd (upd f 0 (gb c)) 1 (gb c)) 2 (gb c))))) F (m := 2) rfl (by decide) (by decide) gb_zn gUp_set dJ4_fill_2_13 ?_
  refine g_iinc F 0 rfl (v := (3 : Int32)) (by rfl) (by show 2 < 4; decide) (lv2 := [(2, .int (3 : Int32)), (3, .int (4 : Int32)), (0, .ref a), (1, .int (gb c))]) rfl dJ4_fill_2_14 ?_
  refine g_goto F (tgt := 5) (by decide) dJ4_fill_2_17 ?_
  refine g_iload_n F 0 rfl rfl dJ4_fill_2_5 ?_
  refine g_iload_n F 1 rfl rfl dJ4_fill_2_6 ?_
  refine g_icmp_ge F (tgt := 20) (by decide) dJ4_fill_2_7 (fun c => absurd c (by decide)) (fun _ => ?_)
  refine g_aload_n F 2 rfl rfl dJ4_fill_2_10 ?_
  refine g_iload_n F 0 rfl rfl dJ4_fill_2_11 ?_
  refine g_iload_n F 3 rfl rfl dJ4_fill_2_12 ?_
  refine g_zastN (P2 := (gUp P a (gZA G 4 f) (gZA G 4 (upd (upd (upd (upd f 0 (gb c)) 1 (gb c)) 2 (gb c)) 3 (gb c))))) F (m := 3) rfl (by decide) (by decide) gb_zn gUp_set dJ4_fill_2_13 ?_
  refine g_iinc F 0 rfl (v := (4 : Int32)) (by rfl) (by show 2 < 4; decide) (lv2 := [(2, .int (4 : Int32)), (3, .int (4 : Int32)), (0, .ref a), (1, .int (gb c))]) rfl dJ4_fill_2_14 ?_
  refine g_goto F (tgt := 5) (by decide) dJ4_fill_2_17 ?_
  refine g_iload_n F 0 rfl rfl dJ4_fill_2_5 ?_
  refine g_iload_n F 1 rfl rfl dJ4_fill_2_6 ?_
  refine g_icmp_ge F (tgt := 20) (by decide) dJ4_fill_2_7 (fun _ => ?_) (fun c => absurd c (by decide))
  exact g_retV F E rfl (gle rfl) (gle rfl) dJ4_fill_2_20 (fun _ hp => ⟨rfl, hp⟩)

theorem kJ0_coder {l : Launch} {G : gG} (hl : l.stackTraces = false) {P : gH → Prop} {i : Nat} (hi : i < 7) : gMet l yJ0_coder (ws_ yJ0_coder cJ0_coder 1 (some .byte)) ⟨0, 0, 0, 0⟩ G [.ref (G.2.2.2.2.1 i)] P (gqI (.int 0) P) gxN := by
  refine gMet_of hl pnJ0 (gle rfl) (fun X Q hX F E hNm => ?_)
  subst hX
  change gW (X, G, 1, Q) P [(0, .ref (G.2.2.2.2.1 i))] 0 [] 0 0
  refine g_gets F (gF_compact F) q74 dJ0_coder_0 ?_
  refine g_if_eq F (tgt := 13) (by decide) dJ0_coder_3 (fun c => absurd c (by decide)) (fun _ => ?_)
  refine g_aload_n F 0 rfl rfl dJ0_coder_6 ?_
  refine g_scoder F hi q599 dJ0_coder_7 ?_
  refine g_goto F (tgt := 14) (by decide) dJ0_coder_10 ?_
  exact g_retI F E rfl rfl (gle rfl) (gle rfl) dJ0_coder_14 (fun _ hp => ⟨rfl, hp⟩)

theorem kJ0_isLatin1 {l : Launch} {G : gG} (hl : l.stackTraces = false) {P : gH → Prop} {i : Nat} (hi : i < 7) : gMet l yJ0_isLatin1 (ws_ yJ0_isLatin1 cJ0_isLatin1 1 (some .boolean)) ⟨0, 0, 0, 0⟩ G [.ref (G.2.2.2.2.1 i)] P (gqI (.int 1) P) gxN := by
  refine gMet_of hl pnJ0 (gle rfl) (fun X Q hX F E hNm => ?_)
  subst hX
  change gW (X, G, 1, Q) P [(0, .ref (G.2.2.2.2.1 i))] 0 [] 0 0
  refine g_gets F (gF_compact F) q74 dJ0_isLatin1_0 ?_
  refine g_if_eq F (tgt := 17) (by decide) dJ0_isLatin1_3 (fun c => absurd c (by decide)) (fun _ => ?_)
  refine g_aload_n F 0 rfl rfl dJ0_isLatin1_6 ?_
  refine g_scoder F hi q599 dJ0_isLatin1_7 ?_
  refine g_if_ne F (tgt := 17) (by decide) dJ0_isLatin1_10 (fun c => absurd c (by decide)) (fun _ => ?_)
  refine g_iconst F (v := (1 : Int32)) (by decide) dJ0_isLatin1_13 ?_
  refine g_goto F (tgt := 18) (by decide) dJ0_isLatin1_14 ?_
  exact g_retI F E rfl rfl (gle rfl) (gle rfl) dJ0_isLatin1_18 (fun _ hp => ⟨rfl, hp⟩)

theorem kJ0_length {l : Launch} {G : gG} (hl : l.stackTraces = false) {P : gH → Prop} {i : Nat} (hi : i < 7) : gMet l yJ0_length (ws_ yJ0_length cJ0_length 1 (some .int)) ⟨1, 0, 0, 20⟩ G [.ref (G.2.2.2.2.1 i)] P (gqI (.int (nI (gLen.getD i 0))) P) gxN := by
  refine gMet_of hl pnJ0 (gle rfl) (fun X Q hX F E hNm => ?_)
  subst hX
  change gW (X, G, 1, Q) P [(0, .ref (G.2.2.2.2.1 i))] 0 [] 0 0
  refine g_aload_n F 0 rfl rfl dJ0_length_0 ?_
  refine g_sval F hi q598 dJ0_length_1 ?_
  refine g_slen F hi dJ0_length_4 ?_
  refine g_aload_n F 0 rfl rfl dJ0_length_5 ?_
  refine g_callV F (kJ0_coder hl hi) (g_srecv F hi) q70 q71 q72 q19 q73 myJ0_coder ⟨by decide, by decide⟩ rfl rfl (gle rfl) 0 0 (gle rfl) (gle rfl) (gle rfl) (gle rfl) dJ0_length_6 gx_n (gv_i ?_)
  refine g_ishr F dJ0_length_9 ?_
  refine g_top (gLen_sh i hi) ?_
  exact g_retI F E rfl rfl (gle rfl) (gle rfl) dJ0_length_10 (fun _ hp => ⟨rfl, hp⟩)

theorem kJ10_canEncode {l : Launch} {G : gG} (hl : l.stackTraces = false) {P : gH → Prop} {x : Int32} : gMet l yJ10_canEncode (ws_ yJ10_canEncode cJ10_canEncode 1 (some .boolean)) ⟨0, 0, 0, 0⟩ G [.int x] P (gqI (.int (gb (¬ (x < 0) ∧ ¬ (255 < x)))) P) gxN := by
  refine gMet_of hl pnJ10 (gle rfl) (fun X Q hX F E hNm => ?_)
  subst hX
  change gW (X, G, 1, Q) P [(0, .int x)] 0 [] 0 0
  refine g_iload_n F 0 rfl rfl dJ10_canEncode_0 ?_
  have J_3 : gW (X, G, 1, Q) P [(0, .int x)] 16 [.int (gb (¬ (x < 0) ∧ (¬ ((255 : Int32) < x))))] 0 0 := by
    exact g_retI F E rfl gb_z (gle rfl) (gle rfl) dJ10_canEncode_16 (fun _ hp => ⟨rfl, hp⟩)
  refine g_if_lt F (tgt := 15) (by decide) dJ10_canEncode_1 (fun c_1 => ?_) (fun c_1 => ?_)
  · skip
    refine g_iconst F (v := (0 : Int32)) (by decide) dJ10_canEncode_15 ?_
    exact g_top (gb_f (fun q => q.1 c_1)) J_3
  · skip
    refine g_iload_n F 0 rfl rfl dJ10_canEncode_4 ?_
    refine g_sipush F (v := (255 : Int32)) (by decide) dJ10_canEncode_5 ?_
    refine g_icmp_gt F (tgt := 15) (by decide) dJ10_canEncode_8 (fun c_2 => ?_) (fun c_2 => ?_)
    · skip
      refine g_iconst F (v := (0 : Int32)) (by decide) dJ10_canEncode_15 ?_
      exact g_top (gb_f (fun q => (fun q => q c_2) q.2)) J_3
    · skip
      refine g_iconst F (v := (1 : Int32)) (by decide) dJ10_canEncode_11 ?_
      refine g_goto F (tgt := 16) (by decide) dJ10_canEncode_12 ?_
      exact g_top (gb_t (⟨c_1, c_2⟩)) J_3

theorem kJ10_indexOfChar {l : Launch} {G : gG} (hl : l.stackTraces = false) {P : gH → Prop} {i : Nat} (hi : i < 7) {ch : Int32} (h0 : ¬ ch < 0) (h1 : ¬ 255 < ch) : gMet l yJ10_indexOfChar (ws_ yJ10_indexOfChar cJ10_indexOfChar 6 (some .int)) ⟨0, 0, 0, 0⟩ G [.ref (G.2.2.2.2.2.1 i), .int ch, .int 0, .int (nI (gLen.getD i 0))] P (gqI (.int (gidx i ch)) P) gxN := by
  refine gMet_of hl pnJ10 (gle rfl) (fun X Q hX F E hNm => ?_)
  subst hX
  change gW (X, G, 6, Q) P [(0, .ref (G.2.2.2.2.2.1 i)), (1, .int ch), (2, .int 0), (3, .int (nI (gLen.getD i 0)))] 0 [] 0 0
  refine g_iload_n F 1 rfl rfl dJ10_indexOfChar_0 ?_
  refine g_i2b F dJ10_indexOfChar_1 ?_
  refine g_istore F (by show 4 < 6; decide) (lv2 := [(4, .int ch.toInt8.toInt32), (0, .ref (G.2.2.2.2.2.1 i)), (1, .int ch), (2, .int 0), (3, .int (nI (gLen.getD i 0)))]) rfl dJ10_indexOfChar_2 ?_
  refine g_iload_n F 3 rfl rfl dJ10_indexOfChar_4 ?_
  refine g_istore F (by show 5 < 6; decide) (lv2 := [(5, .int 0), (4, .int ch.toInt8.toInt32), (0, .ref (G.2.2.2.2.2.1 i)), (1, .int ch), (2, .int 0), (3, .int (nI (gLen.getD i 0)))]) rfl dJ10_indexOfChar_5 ?_
  have LP : ∀ m j, j + m = gLen.getD i 0 → ∀ x5 : Int32, x5 = nI j → (∀ k9, k9 < j → (gByt.getD i []).getD k9 0 ≠ ch) → gW (X, G, 6, Q) P [(5, .int x5), (4, .int ch.toInt8.toInt32), (0, .ref (G.2.2.2.2.2.1 i)), (1, .int ch), (2, .int 0), (3, .int (nI (gLen.getD i 0)))] 7 [] 0 0 := by
    intro m
    induction m with
    | zero =>
      intro j hj x5 hx hno
      subst hx
      refine g_iload F 0 rfl dJ10_indexOfChar_7 ?_
      refine g_iload_n F 5 rfl rfl dJ10_indexOfChar_9 ?_
      refine g_icmp_ge F (tgt := 31) (by decide) dJ10_indexOfChar_10 (fun _ => ?_) (fun c => absurd (by rw [← hj]; exact Int32.le_refl _) c)
      refine g_iconst F (v := (-1 : Int32)) (by decide) dJ10_indexOfChar_31 ?_
      exact g_retI F E rfl rfl (gle rfl) (gle rfl) dJ10_indexOfChar_32 (fun _ hp => ⟨by rw [gidx_miss hi (fun k9 hk9 => hno k9 (by omega))], hp⟩)
    | succ m IH0 =>
      intro j hj x5 hx hno
      subst hx
      have hlt : j < gLen.getD i 0 := by omega
      have hle := gLen_le i hi
      have IH := fun j2 (e : j2 + m = gLen.getD i 0) => IH0 j2 e
      have hby := gby_ch hi hlt h0 h1
      refine g_iload F 0 rfl dJ10_indexOfChar_7 ?_
      refine g_iload_n F 5 rfl rfl dJ10_indexOfChar_9 ?_
      refine g_icmp_ge F (tgt := 31) (by decide) dJ10_indexOfChar_10 (fun c => absurd c (nI_ge hlt (by omega))) (fun _ => ?_)
      refine g_aload_n F 2 rfl rfl dJ10_indexOfChar_13 ?_
      refine g_iload F 0 rfl dJ10_indexOfChar_14 ?_
      refine g_sbald F hi (vp_in_nI hlt (by omega)) dJ10_indexOfChar_16 ?_
      refine g_iload F 1 rfl dJ10_indexOfChar_17 ?_
      rw [nI_clamp (by omega)]
      refine g_icmp_ne F (tgt := 25) (by decide) dJ10_indexOfChar_19 (fun c_1 => ?_) (fun c_1 => ?_)
      · skip
        refine g_iinc F 0 rfl (v := (nI j) + (1 : Int32)) (by rfl) (by show 5 < 6; decide) (lv2 := [(5, .int ((nI j) + (1 : Int32))), (4, .int ch.toInt8.toInt32), (0, .ref (G.2.2.2.2.2.1 i)), (1, .int ch), (2, .int 0), (3, .int (nI (gLen.getD i 0)))]) rfl dJ10_indexOfChar_25 ?_
        refine g_goto F (tgt := 7) (by decide) dJ10_indexOfChar_28 ?_
        exact IH (j + 1) (by omega) _ (nI_succ j).symm (fun k9 hk9 => (Nat.lt_succ_iff_lt_or_eq.mp hk9).elim (hno k9) (fun q => by subst q; exact fun q => c_1 (hby.mpr q)))
      · skip
        refine g_iload F 0 rfl dJ10_indexOfChar_22 ?_
        exact g_retI F E rfl rfl (gle rfl) (gle rfl) dJ10_indexOfChar_24 (fun _ hp => ⟨by rw [gidx_hit hi hlt hno (hby.mp c_1)], hp⟩)
  exact LP _ 0 (Nat.zero_add _) _ rfl (fun k9 hk9 => absurd hk9 (Nat.not_lt_zero _))

theorem kJ10_indexOf {l : Launch} {G : gG} (hl : l.stackTraces = false) {P : gH → Prop} {i : Nat} (hi : i < 7) {ch : Int32} (h0 : ¬ ch < 0) : gMet l yJ10_indexOf (ws_ yJ10_indexOf cJ10_indexOf 4 (some .int)) ⟨1, 0, 0, 25⟩ G [.ref (G.2.2.2.2.2.1 i), .int ch, .int 0, .int (nI (gLen.getD i 0))] P (gqI (.int (gidx i ch)) P) gxN := by
  refine gMet_of hl pnJ10 (gle rfl) (fun X Q hX F E hNm => ?_)
  subst hX
  change gW (X, G, 4, Q) P [(0, .ref (G.2.2.2.2.2.1 i)), (1, .int ch), (2, .int 0), (3, .int (nI (gLen.getD i 0)))] 0 [] 0 0
  refine g_iload_n F 1 rfl rfl dJ10_indexOf_0 ?_
  refine g_callS F (kJ10_canEncode hl (x := ch)) (lw_S q451 q452 q31 q453) myJ10_canEncode ⟨by decide, by decide⟩ rfl rfl (gle rfl) 0 0 (gle rfl) (gle rfl) (gle rfl) (gle rfl) dJ10_indexOf_1 gx_n (gv_i ?_)
  refine gb_if_ne F (tgt := 9) (by decide) dJ10_indexOf_4 (fun c_1 => ?_) (fun c_1 => ?_)
  · skip
    have h9 := c_1.2
    refine g_iload_n F 2 rfl rfl dJ10_indexOf_9 ?_
    refine g_iconst F (v := (0 : Int32)) (by decide) dJ10_indexOf_10 ?_
    refine g_mmax F q454 (gle rfl) (gle rfl) (gle rfl) (gle rfl) dJ10_indexOf_11 ?_
    refine g_top (show gmax 0 0 = 0 from rfl) ?_
    refine g_istore_n F rfl (by show 2 < 4; decide) (lv2 := [(2, .int 0), (0, .ref (G.2.2.2.2.2.1 i)), (1, .int ch), (3, .int (nI (gLen.getD i 0)))]) rfl dJ10_indexOf_14 ?_
    refine g_iload_n F 3 rfl rfl dJ10_indexOf_15 ?_
    refine g_aload_n F 1 rfl rfl dJ10_indexOf_16 ?_
    refine g_slen F hi dJ10_indexOf_17 ?_
    refine g_mmin F q457 (gle rfl) (gle rfl) (gle rfl) (gle rfl) dJ10_indexOf_18 ?_
    refine g_top (gmin_le (Nat.le_refl _) (by have := gLen_le i hi; omega)) ?_
    refine g_istore_n F rfl (by show 3 < 4; decide) (lv2 := [(3, .int (nI (gLen.getD i 0))), (2, .int 0), (0, .ref (G.2.2.2.2.2.1 i)), (1, .int ch)]) rfl dJ10_indexOf_21 ?_
    refine g_iload_n F 1 rfl rfl dJ10_indexOf_22 ?_
    refine g_iload_n F 0 rfl rfl dJ10_indexOf_23 ?_
    refine g_icmp_lt F (tgt := 29) (by decide) dJ10_indexOf_24 (fun _ => ?_) (fun c => absurd (by have h9 := gLen_po i hi; exact nI_lt (a := 0) h9 (by have := gLen_le i hi; omega)) c)
    refine g_aload_n F 2 rfl rfl dJ10_indexOf_29 ?_
    refine g_iload_n F 3 rfl rfl dJ10_indexOf_30 ?_
    refine g_iload_n F 1 rfl rfl dJ10_indexOf_31 ?_
    refine g_iload_n F 0 rfl rfl dJ10_indexOf_32 ?_
    refine g_callS F (kJ10_indexOfChar hl hi (ch := ch) h0 h9) (lw_S q460 q461 q31 q462) myJ10_indexOfChar ⟨by decide, by decide⟩ rfl rfl (gle rfl) 0 0 (gle rfl) (gle rfl) (gle rfl) (gle rfl) dJ10_indexOf_33 gx_n (gv_i ?_)
    exact g_retI F E rfl rfl (gle rfl) (gle rfl) dJ10_indexOf_36 (fun _ hp => ⟨rfl, hp⟩)
  · skip
    refine g_iconst F (v := (-1 : Int32)) (by decide) dJ10_indexOf_7 ?_
    exact g_retI F E rfl rfl (gle rfl) (gle rfl) dJ10_indexOf_8 (fun _ hp => ⟨by rw [gidx_big hi (by have h9 := c_1; simpa [h0] using h9)], hp⟩)

theorem kJ0_indexOf_2 {l : Launch} {G : gG} (hl : l.stackTraces = false) {P : gH → Prop} {i : Nat} (hi : i < 7) {ch : Int32} (h0 : ¬ ch < 0) : gMet l yJ0_indexOf_2 (ws_ yJ0_indexOf_2 cJ0_indexOf_2 3 (some .int)) ⟨2, 0, 0, 48⟩ G [.ref (G.2.2.2.2.1 i), .int ch, .int 0] P (gqI (.int (gidx i ch)) P) gxN := by
  refine gMet_of hl pnJ0 (gle rfl) (fun X Q hX F E hNm => ?_)
  subst hX
  change gW (X, G, 3, Q) P [(0, .ref (G.2.2.2.2.1 i)), (1, .int ch), (2, .int 0)] 0 [] 0 0
  refine g_aload_n F 0 rfl rfl dJ0_indexOf_2_0 ?_
  refine g_callV F (kJ0_isLatin1 hl hi) (g_srecv F hi) q443 q444 q445 q19 q446 myJ0_isLatin1 ⟨by decide, by decide⟩ rfl rfl (gle rfl) 0 0 (gle rfl) (gle rfl) (gle rfl) (gle rfl) dJ0_indexOf_2_1 gx_n (gv_i ?_)
  refine g_if_eq F (tgt := 23) (by decide) dJ0_indexOf_2_4 (fun c => absurd c (by decide)) (fun _ => ?_)
  refine g_aload_n F 0 rfl rfl dJ0_indexOf_2_7 ?_
  refine g_sval F hi q598 dJ0_indexOf_2_8 ?_
  refine g_iload_n F 1 rfl rfl dJ0_indexOf_2_11 ?_
  refine g_iload_n F 2 rfl rfl dJ0_indexOf_2_12 ?_
  refine g_aload_n F 0 rfl rfl dJ0_indexOf_2_13 ?_
  refine g_callV F (kJ0_length hl hi) (g_srecv F hi) q447 q67 q68 q19 q69 myJ0_length ⟨by decide, by decide⟩ rfl rfl (gle rfl) 0 0 (gle rfl) (gle rfl) (gle rfl) (gle rfl) dJ0_indexOf_2_14 gx_n (gv_i ?_)
  refine g_callS F (kJ10_indexOf hl hi (ch := ch) h0) (lw_S q448 q449 q31 q450) myJ10_indexOf ⟨by decide, by decide⟩ rfl rfl (gle rfl) 0 0 (gle rfl) (gle rfl) (gle rfl) (gle rfl) dJ0_indexOf_2_17 gx_n (gv_i ?_)
  refine g_goto F (tgt := 36) (by decide) dJ0_indexOf_2_20 ?_
  exact g_retI F E rfl rfl (gle rfl) (gle rfl) dJ0_indexOf_2_36 (fun _ hp => ⟨rfl, hp⟩)

theorem kJ0_indexOf {l : Launch} {G : gG} (hl : l.stackTraces = false) {P : gH → Prop} {i : Nat} (hi : i < 7) {ch : Int32} (h0 : ¬ ch < 0) : gMet l yJ0_indexOf (ws_ yJ0_indexOf cJ0_indexOf 2 (some .int)) ⟨3, 0, 0, 70⟩ G [.ref (G.2.2.2.2.1 i), .int ch] P (gqI (.int (gidx i ch)) P) gxN := by
  refine gMet_of hl pnJ0 (gle rfl) (fun X Q hX F E hNm => ?_)
  subst hX
  change gW (X, G, 2, Q) P [(0, .ref (G.2.2.2.2.1 i)), (1, .int ch)] 0 [] 0 0
  refine g_aload_n F 0 rfl rfl dJ0_indexOf_0 ?_
  refine g_iload_n F 1 rfl rfl dJ0_indexOf_1 ?_
  refine g_iconst F (v := (0 : Int32)) (by decide) dJ0_indexOf_2 ?_
  refine g_callV F (kJ0_indexOf_2 hl hi (ch := ch) h0) (g_srecv F hi) q439 q440 q441 q19 q442 myJ0_indexOf_2 ⟨by decide, by decide⟩ rfl rfl (gle rfl) 0 0 (gle rfl) (gle rfl) (gle rfl) (gle rfl) dJ0_indexOf_3 gx_n (gv_i ?_)
  exact g_retI F E rfl rfl (gle rfl) (gle rfl) dJ0_indexOf_6 (fun _ hp => ⟨rfl, hp⟩)

theorem kJ0_checkIndex {l : Launch} {G : gG} (hl : l.stackTraces = false) {P : gH → Prop} {x n : Int32} (h0 : ¬ x < 0) (h1 : x < n) : gMet l yJ0_checkIndex (ws_ yJ0_checkIndex cJ0_checkIndex 2 none) ⟨1, 0, 0, 22⟩ G [.int x, .int n] P (gqV P) gxN := by
  refine gMet_of hl pnJ0 (gle rfl) (fun X Q hX F E hNm => ?_)
  subst hX
  change gW (X, G, 2, Q) P [(0, .int x), (1, .int n)] 0 [] 0 0
  refine g_iload_n F 0 rfl rfl dJ0_checkIndex_0 ?_
  refine g_iload_n F 1 rfl rfl dJ0_checkIndex_1 ?_
  refine g_getsq F (gF_sioobe F) q481 dJ0_checkIndex_2 (fun sv_1 hs_2 => ?_)
  refine g_callS F (kJ13_checkIndex hl (x := x) (n := n) (v := sv_1) hs_2 h0 h1) (lw_S q540 q541 q34 q542) myJ13_checkIndex ⟨by decide, by decide⟩ rfl rfl (gle rfl) 0 0 (gle rfl) (gle rfl) (gle rfl) (gle rfl) dJ0_checkIndex_5 gx_n (gv_i ?_)
  refine g_pop F rfl dJ0_checkIndex_8 ?_
  exact g_retV F E rfl (gle rfl) (gle rfl) dJ0_checkIndex_9 (fun _ hp => ⟨rfl, hp⟩)

theorem kJ10_charAt {l : Launch} {G : gG} (hl : l.stackTraces = false) {P : gH → Prop} {i : Nat} (hi : i < 7) {j : Nat} (hj : j < gLen.getD i 0) {x : Int32} (hx : x = nI j) : gMet l yJ10_charAt (ws_ yJ10_charAt cJ10_charAt 2 (some .char)) ⟨2, 0, 0, 43⟩ G [.ref (G.2.2.2.2.2.1 i), .int x] P (gqI (.int ((gByt.getD i []).getD j 0)) P) gxN := by
  refine gMet_of hl pnJ10 (gle rfl) (fun X Q hX F E hNm => ?_)
  subst hX
  change gW (X, G, 2, Q) P [(0, .ref (G.2.2.2.2.2.1 i)), (1, .int x)] 0 [] 0 0
  subst hx
  refine g_iload_n F 1 rfl rfl dJ10_charAt_0 ?_
  refine g_aload_n F 0 rfl rfl dJ10_charAt_1 ?_
  refine g_slen F hi dJ10_charAt_2 ?_
  refine g_callS F (kJ0_checkIndex hl (x := nI j) (n := nI (gLen.getD i 0)) (nI_pos (by have := gLen_le i hi; omega)) (nI_lt hj (by have := gLen_le i hi; omega))) (lw_S q537 q538 q19 q539) myJ0_checkIndex ⟨by decide, by decide⟩ rfl rfl (gle rfl) 0 0 (gle rfl) (gle rfl) (gle rfl) (gle rfl) dJ10_charAt_3 gx_n (gv_v ?_)
  refine g_aload_n F 0 rfl rfl dJ10_charAt_6 ?_
  refine g_iload_n F 1 rfl rfl dJ10_charAt_7 ?_
  refine g_sbald F hi (vp_in_nI hj (by have := gLen_le i hi; omega)) dJ10_charAt_8 ?_
  refine g_sipush F (v := (255 : Int32)) (by decide) dJ10_charAt_9 ?_
  refine g_iand F dJ10_charAt_12 ?_
  refine g_i2c F dJ10_charAt_13 ?_
  rw [nI_clamp (by have := gLen_le i hi; omega)]
  refine g_top (gby_c i hi j (Nat.lt_of_lt_of_le hj (gLen_le i hi))) ?_
  exact g_retI F E rfl (gby_cn i hi j (Nat.lt_of_lt_of_le hj (gLen_le i hi))) (gle rfl) (gle rfl) dJ10_charAt_14 (fun _ hp => ⟨rfl, hp⟩)

theorem kJ0_charAt {l : Launch} {G : gG} (hl : l.stackTraces = false) {P : gH → Prop} {i : Nat} (hi : i < 7) {j : Nat} (hj : j < gLen.getD i 0) {x : Int32} (hx : x = nI j) : gMet l yJ0_charAt (ws_ yJ0_charAt cJ0_charAt 2 (some .char)) ⟨3, 0, 0, 64⟩ G [.ref (G.2.2.2.2.1 i), .int x] P (gqI (.int ((gByt.getD i []).getD j 0)) P) gxN := by
  refine gMet_of hl pnJ0 (gle rfl) (fun X Q hX F E hNm => ?_)
  subst hX
  change gW (X, G, 2, Q) P [(0, .ref (G.2.2.2.2.1 i)), (1, .int x)] 0 [] 0 0
  subst hx
  refine g_aload_n F 0 rfl rfl dJ0_charAt_0 ?_
  refine g_callV F (kJ0_isLatin1 hl hi) (g_srecv F hi) q443 q444 q445 q19 q446 myJ0_isLatin1 ⟨by decide, by decide⟩ rfl rfl (gle rfl) 0 0 (gle rfl) (gle rfl) (gle rfl) (gle rfl) dJ0_charAt_1 gx_n (gv_i ?_)
  refine g_if_eq F (tgt := 16) (by decide) dJ0_charAt_4 (fun c => absurd c (by decide)) (fun _ => ?_)
  refine g_aload_n F 0 rfl rfl dJ0_charAt_7 ?_
  refine g_sval F hi q598 dJ0_charAt_8 ?_
  refine g_iload_n F 1 rfl rfl dJ0_charAt_11 ?_
  refine g_callS F (kJ10_charAt hl hi hj rfl) (lw_S q534 q535 q31 q536) myJ10_charAt ⟨by decide, by decide⟩ rfl rfl (gle rfl) 0 0 (gle rfl) (gle rfl) (gle rfl) (gle rfl) dJ0_charAt_12 gx_n (gv_i ?_)
  exact g_retI F E rfl (gby_cn i hi j (Nat.lt_of_lt_of_le hj (gLen_le i hi))) (gle rfl) (gle rfl) dJ0_charAt_15 (fun _ hp => ⟨rfl, hp⟩)

theorem kJ10_canEncode_2 {l : Launch} {G : gG} (hl : l.stackTraces = false) {P : gH → Prop} {x : Int32} : gMet l yJ10_canEncode_2 (ws_ yJ10_canEncode_2 cJ10_canEncode_2 1 (some .boolean)) ⟨0, 0, 0, 0⟩ G [.int x] P (gqI (.int (gb (¬ (255 < x)))) P) gxN := by
  refine gMet_of hl pnJ10 (gle rfl) (fun X Q hX F E hNm => ?_)
  subst hX
  change gW (X, G, 1, Q) P [(0, .int x)] 0 [] 0 0
  refine g_iload_n F 0 rfl rfl dJ10_canEncode_2_0 ?_
  refine g_sipush F (v := (255 : Int32)) (by decide) dJ10_canEncode_2_1 ?_
  have J_2 : gW (X, G, 1, Q) P [(0, .int x)] 12 [.int (gb (¬ ((255 : Int32) < x)))] 0 0 := by
    exact g_retI F E rfl gb_z (gle rfl) (gle rfl) dJ10_canEncode_2_12 (fun _ hp => ⟨rfl, hp⟩)
  refine g_icmp_gt F (tgt := 11) (by decide) dJ10_canEncode_2_4 (fun c_1 => ?_) (fun c_1 => ?_)
  · skip
    refine g_iconst F (v := (0 : Int32)) (by decide) dJ10_canEncode_2_11 ?_
    exact g_top (gb_f (fun q => q c_1)) J_2
  · skip
    refine g_iconst F (v := (1 : Int32)) (by decide) dJ10_canEncode_2_7 ?_
    refine g_goto F (tgt := 12) (by decide) dJ10_canEncode_2_8 ?_
    exact g_top (gb_t c_1) J_2

theorem kJ10_toBytes {l : Launch} {G : gG} (hl : l.stackTraces = false) {P : gH → Prop} (τ : Nat × Nat) {ch : Int32} : gMet l yJ10_toBytes (ws_ yJ10_toBytes cJ10_toBytes 1 (some (.array .byte))) ⟨0, 1, 1, 0⟩ G [.int ch] P (gqX .ref (fun b => gNw P τ b (gBA G 1 (upd (fun _ => 0) 0 ch.toInt8.toInt32)))) gxN := by
  refine gMet_of hl pnJ10 (gle rfl) (fun X Q hX F E hNm => ?_)
  subst hX
  change gW (X, G, 1, Q) P [(0, .int ch)] 0 [] 0 0
  refine g_iconst F (v := (1 : Int32)) (by decide) dJ10_toBytes_0 ?_
  refine g_newB F τ (N := 1) rfl (by decide) 1 1 (gle rfl) (gle rfl) (gle rfl) (gle rfl) (Pa := fun a_1 => (gNw P τ a_1 (gBA G 1 (fun _ => 0)))) gNw_new dJ10_toBytes_1 (fun a_1 => ?_)
  refine g_dup F rfl dJ10_toBytes_3 ?_
  refine g_iconst F (v := (0 : Int32)) (by decide) dJ10_toBytes_4 ?_
  refine g_iload_n F 0 rfl rfl dJ10_toBytes_5 ?_
  refine g_i2b F dJ10_toBytes_6 ?_
  refine g_bastN (P2 := (gNw P τ a_1 (gBA G 1 (upd (fun _ => 0) 0 ch.toInt8.toInt32)))) F (m := 0) rfl (by decide) (by decide) (vp_nar_b8 _) gNw_set dJ10_toBytes_7 ?_
  exact g_retA F E rfl (Or.inr ⟨_, rfl⟩) (Or.inr ⟨_, rfl⟩) (gle rfl) (gle rfl) dJ10_toBytes_8 (fun _ hp => ⟨_, rfl, hp⟩)

theorem kJ0_init {l : Launch} {G : gG} (hl : l.stackTraces = false) {P : gH → Prop} {a b : Nat} (ha : gAt P a (.inr (19, [.null, .int (0 : Int32), .int (0 : Int32), .int (0 : Int32)]))) : gMet l yJ0_init (ws_ yJ0_init cJ0_init 3 none) ⟨1, 0, 0, 12⟩ G [.ref a, .ref b, .int 0] P (gqV (gUp P a (.inr (19, [.null, .int (0 : Int32), .int (0 : Int32), .int (0 : Int32)])) (.inr (19, [.ref b, .int 0, .int 0, .int 0])))) gxN := by
  refine gMet_of hl pnJ0 (gle rfl) (fun X Q hX F E hNm => ?_)
  subst hX
  change gW (X, G, 3, Q) P [(0, .ref a), (1, .ref b), (2, .int 0)] 0 [] 0 0
  refine g_mono (gUp_0 ha) ?_
  refine g_aload_n F 0 rfl rfl dJ0_init_0 ?_
  refine g_objInit F q597 dJ0_init_1 (gle rfl) (gle rfl) ?_
  refine g_aload_n F 0 rfl rfl dJ0_init_4 ?_
  refine g_aload_n F 1 rfl rfl dJ0_init_5 ?_
  refine g_putF (P2 := (gUp P a (.inr (19, [.null, .int (0 : Int32), .int (0 : Int32), .int (0 : Int32)])) (.inr (19, [.ref b, .int (0 : Int32), .int (0 : Int32), .int (0 : Int32)])))) F hNm clJ0 0 (by decide) q598 rfl rfl rfl rfl (gUp_put (gnl rfl)) dJ0_init_6 ?_
  refine g_aload_n F 0 rfl rfl dJ0_init_9 ?_
  refine g_iload_n F 2 rfl rfl dJ0_init_10 ?_
  refine g_putF (P2 := (gUp P a (.inr (19, [.null, .int (0 : Int32), .int (0 : Int32), .int (0 : Int32)])) (.inr (19, [.ref b, .int 0, .int (0 : Int32), .int (0 : Int32)])))) F hNm clJ0 1 (by decide) q599 rfl rfl rfl rfl (gUp_put (gnl rfl)) dJ0_init_11 ?_
  exact g_retV F E rfl (gle rfl) (gle rfl) dJ0_init_14 (fun _ hp => ⟨rfl, hp⟩)

theorem kJ0_valueOf {l : Launch} {G : gG} (hl : l.stackTraces = false) {P : gH → Prop} {ch : Int32} (h0 : ¬ ch < 0) (h1 : ¬ 127 < ch) : gMet l yJ0_valueOf (ws_ yJ0_valueOf cJ0_valueOf 1 (some (.object "java/lang/String"))) ⟨2, 2, 5, 34⟩ G [.int ch] P (gqX .ref (fun _ => gJk P)) gxN := by
  refine gMet_of hl pnJ0 (gle rfl) (fun X Q hX F E hNm => ?_)
  subst hX
  change gW (X, G, 1, Q) P [(0, .int ch)] 0 [] 0 0
  refine g_mono (P2 := gJk P) gJk_0 ?_
  refine g_gets F (gF_compact F) q74 dJ0_valueOf_0 ?_
  refine g_if_eq F (tgt := 26) (by decide) dJ0_valueOf_3 (fun c => absurd c (by decide)) (fun _ => ?_)
  refine g_iload_n F 0 rfl rfl dJ0_valueOf_6 ?_
  refine g_callS F (kJ10_canEncode_2 hl (x := ch)) (lw_S q586 q587 q31 q588) myJ10_canEncode_2 ⟨by decide, by decide⟩ rfl rfl (gle rfl) 0 0 (gle rfl) (gle rfl) (gle rfl) (gle rfl) dJ0_valueOf_7 gx_n (gv_i ?_)
  refine gb_if_eq F (tgt := 26) (by decide) dJ0_valueOf_10 (fun c => absurd (fun q => h1 (Int32.lt_trans (by decide) q)) c) (fun _ => ?_)
  refine g_new F clJ0 q589 q590 q19 (5000, 0) (fs := [.null, .int (0 : Int32), .int (0 : Int32), .int (0 : Int32)]) rfl 1 4 (gle rfl) (gle rfl) (gle rfl) (gle rfl) (Pa := fun a_1 => (gNw (gJk P) (5000, 0) a_1 (.inr (19, [.null, .int (0 : Int32), .int (0 : Int32), .int (0 : Int32)])))) gNw_new dJ0_valueOf_13 (fun a_1 => ?_)
  refine g_dup F rfl dJ0_valueOf_16 ?_
  refine g_iload_n F 0 rfl rfl dJ0_valueOf_17 ?_
  refine g_callS F (kJ10_toBytes hl (5000, 0)) (lw_S q591 q592 q31 q593) myJ10_toBytes ⟨by decide, by decide⟩ rfl rfl (gle rfl) 2 5 (gle rfl) (gle rfl) (gle rfl) (gle rfl) dJ0_valueOf_18 gx_n (gv_x (fun b_2 => ?_))
  refine g_iconst F (v := (0 : Int32)) (by decide) dJ0_valueOf_21 ?_
  refine g_callI F (kJ0_init hl (gNw_rd gNw_at)) rfl q594 q595 q19 q596 myJ0_init ⟨by decide, by decide⟩ rfl rfl (gle rfl) 2 5 (gle rfl) (gle rfl) (gle rfl) (gle rfl) dJ0_valueOf_22 gx_n (gv_v ?_)
  exact g_retA F E rfl (Or.inl ⟨_, rfl⟩) (Or.inr ⟨_, rfl⟩) (gle rfl) (gle rfl) dJ0_valueOf_25 (fun _ hp => ⟨_, rfl, gJk_st _ hp⟩)

theorem kJ14_toString {l : Launch} {G : gG} (hl : l.stackTraces = false) {P : gH → Prop} {ch : Int32} (h0 : ¬ ch < 0) (h1 : ¬ 127 < ch) : gMet l yJ14_toString (ws_ yJ14_toString cJ14_toString 1 (some (.object "java/lang/String"))) ⟨3, 2, 5, 54⟩ G [.int ch] P (gqX .ref (fun _ => gJk P)) gxN := by
  refine gMet_of hl pnJ14 (gle rfl) (fun X Q hX F E hNm => ?_)
  subst hX
  change gW (X, G, 1, Q) P [(0, .int ch)] 0 [] 0 0
  refine g_iload_n F 0 rfl rfl dJ14_toString_0 ?_
  refine g_callS F (kJ0_valueOf hl h0 h1) (lw_S q583 q584 q19 q585) myJ0_valueOf ⟨by decide, by decide⟩ rfl rfl (gle rfl) 2 5 (gle rfl) (gle rfl) (gle rfl) (gle rfl) dJ14_toString_1 gx_n (gv_x (fun s9 => ?_))
  exact g_retA F E rfl (Or.inl ⟨_, rfl⟩) (Or.inr ⟨_, rfl⟩) (gle rfl) (gle rfl) dJ14_toString_4 (fun _ hp => ⟨_, rfl, hp⟩)

theorem kJ5_init_2N {l : Launch} {G : gG} (hl : l.stackTraces = false) {P : gH → Prop} {a ms : Nat} (ha : gAt P a (.inr (18, [.null, .null, .null, .null, .null, .int (0 : Int32)]))) : gMet l yJ5_init_2 (ws_ yJ5_init_2 cJ5_init_2 5 none) ⟨1, 0, 0, 12⟩ G [.ref a, .ref ms, .null, .int 0, .int 0] P (gqV (gUp P a (.inr (18, [.null, .null, .null, .null, .null, .int (0 : Int32)])) (.inr (18, [.null, .null, .null, .ref ms, .null, .int 0])))) gxN := by
  refine gMet_of hl pnJ5 (gle rfl) (fun X Q hX F E hNm => ?_)
  subst hX
  change gW (X, G, 5, Q) P [(0, .ref a), (1, .ref ms), (2, .null), (3, .int 0), (4, .int 0)] 0 [] 0 0
  refine g_mono (gUp_0 ha) ?_
  refine g_aload_n F 0 rfl rfl dJ5_init_2_0 ?_
  refine g_objInit F q363 dJ5_init_2_1 (gle rfl) (gle rfl) ?_
  refine g_aload_n F 0 rfl rfl dJ5_init_2_4 ?_
  refine g_aload_n F 0 rfl rfl dJ5_init_2_5 ?_
  refine g_put (P2 := (gUp P a (.inr (18, [.null, .null, .null, .null, .null, .int (0 : Int32)])) (.inr (18, [.ref a, .null, .null, .null, .null, .int (0 : Int32)])))) F clX4 0 (by decide) q395 rfl rfl rfl (gUp_put (gnl rfl)) dJ5_init_2_6 ?_
  refine g_aload_n F 0 rfl rfl dJ5_init_2_9 ?_
  refine g_getsq F (gF_thr F).1.1 q364 dJ5_init_2_10 (fun sv_1 hs_2 => ?_)
  refine g_put (P2 := (gUp P a (.inr (18, [.null, .null, .null, .null, .null, .int (0 : Int32)])) (.inr (18, [.ref a, sv_1, .null, .null, .null, .int (0 : Int32)])))) F clX4 1 (by decide) q396 rfl (by rcases hs_2 with rfl | ⟨t9, rfl⟩ <;> rfl) (by rcases hs_2 with rfl | ⟨t9, rfl⟩ <;> rfl) (gUp_put (gnl rfl)) dJ5_init_2_13 ?_
  refine g_aload_n F 0 rfl rfl dJ5_init_2_16 ?_
  refine g_getsq F (gF_thr F).2.1 q366 dJ5_init_2_17 (fun sv_3 hs_4 => ?_)
  refine g_put (P2 := (gUp P a (.inr (18, [.null, .null, .null, .null, .null, .int (0 : Int32)])) (.inr (18, [.ref a, sv_1, sv_3, .null, .null, .int (0 : Int32)])))) F clX4 2 (by decide) q397 rfl (by rcases hs_4 with rfl | ⟨t9, rfl⟩ <;> rfl) (by rcases hs_4 with rfl | ⟨t9, rfl⟩ <;> rfl) (gUp_put (gnl rfl)) dJ5_init_2_20 ?_
  refine g_iload F 4 rfl dJ5_init_2_23 ?_
  refine g_if_eq F (tgt := 36) (by decide) dJ5_init_2_25 (fun _ => ?_) (fun c => absurd c (by decide))
  refine g_aload_n F 0 rfl rfl dJ5_init_2_36 ?_
  refine g_null F dJ5_init_2_37 ?_
  refine g_put (P2 := (gUp P a (.inr (18, [.null, .null, .null, .null, .null, .int (0 : Int32)])) (.inr (18, [.ref a, .null, sv_3, .null, .null, .int (0 : Int32)])))) F clX4 1 (by decide) q396 rfl rfl rfl (gUp_put (gnl rfl)) dJ5_init_2_38 ?_
  refine g_aload_n F 0 rfl rfl dJ5_init_2_41 ?_
  refine g_aload_n F 1 rfl rfl dJ5_init_2_42 ?_
  refine g_put (P2 := (gUp P a (.inr (18, [.null, .null, .null, .null, .null, .int (0 : Int32)])) (.inr (18, [.ref a, .null, sv_3, .ref ms, .null, .int (0 : Int32)])))) F clX4 3 (by decide) q394 rfl rfl rfl (gUp_put (gnl rfl)) dJ5_init_2_43 ?_
  refine g_aload_n F 0 rfl rfl dJ5_init_2_46 ?_
  refine g_aload_nN F 2 rfl rfl dJ5_init_2_47 ?_
  refine g_put (P2 := (gUp P a (.inr (18, [.null, .null, .null, .null, .null, .int (0 : Int32)])) (.inr (18, [.null, .null, sv_3, .ref ms, .null, .int (0 : Int32)])))) F clX4 0 (by decide) q395 rfl rfl rfl (gUp_put (gnl rfl)) dJ5_init_2_48 ?_
  refine g_iload_n F 3 rfl rfl dJ5_init_2_51 ?_
  refine g_if_ne F (tgt := 60) (by decide) dJ5_init_2_52 (fun c => absurd c (by decide)) (fun _ => ?_)
  refine g_aload_n F 0 rfl rfl dJ5_init_2_55 ?_
  refine g_null F dJ5_init_2_56 ?_
  refine g_put (P2 := (gUp P a (.inr (18, [.null, .null, .null, .null, .null, .int (0 : Int32)])) (.inr (18, [.null, .null, .null, .ref ms, .null, .int (0 : Int32)])))) F clX4 2 (by decide) q397 rfl rfl rfl (gUp_put (gnl rfl)) dJ5_init_2_57 ?_
  exact g_retV F E rfl (gle rfl) (gle rfl) dJ5_init_2_60 (fun _ hp => ⟨rfl, hp⟩)

theorem kJ6_init_2N {l : Launch} {G : gG} (hl : l.stackTraces = false) {P : gH → Prop} {a ms : Nat} (ha : gAt P a (.inr (18, [.null, .null, .null, .null, .null, .int (0 : Int32)]))) : gMet l yJ6_init_2 (ws_ yJ6_init_2 cJ6_init_2 5 none) ⟨2, 0, 0, 36⟩ G [.ref a, .ref ms, .null, .int 0, .int 0] P (gqV (gUp P a (.inr (18, [.null, .null, .null, .null, .null, .int (0 : Int32)])) (.inr (18, [.null, .null, .null, .ref ms, .null, .int 0])))) gxN := by
  refine gMet_of hl pnJ6 (gle rfl) (fun X Q hX F E hNm => ?_)
  subst hX
  change gW (X, G, 5, Q) P [(0, .ref a), (1, .ref ms), (2, .null), (3, .int 0), (4, .int 0)] 0 [] 0 0
  refine g_aload_n F 0 rfl rfl dJ6_init_2_0 ?_
  refine g_aload_n F 1 rfl rfl dJ6_init_2_1 ?_
  refine g_aload_nN F 2 rfl rfl dJ6_init_2_2 ?_
  refine g_iload_n F 3 rfl rfl dJ6_init_2_3 ?_
  refine g_iload F 4 rfl dJ6_init_2_4 ?_
  refine g_callI F (kJ5_init_2N hl ha) rfl q618 q619 q26 q620 myJ5_init_2 ⟨by decide, by decide⟩ rfl rfl (gle rfl) 0 0 (gle rfl) (gle rfl) (gle rfl) (gle rfl) dJ6_init_2_6 gx_n (gv_v ?_)
  exact g_retV F E rfl (gle rfl) (gle rfl) dJ6_init_2_9 (fun _ hp => ⟨rfl, hp⟩)

theorem kX4_initN {l : Launch} {G : gG} (hl : l.stackTraces = false) {P : gH → Prop} {a : Nat} {ch : Int32} (h0 : ¬ ch < 0) (h1 : ¬ 127 < ch) (ha : gAt P a (.inr (18, [.null, .null, .null, .null, .null, .int (0 : Int32)]))) : gMet l yX4_init (ws_ yX4_init cX4_init 3 none) ⟨4, 2, 5, 74⟩ G [.ref a, .int ch, .null] P (fun r9 h => r9 = none ∧ ∃ fs, gUp (gJk P) a (.inr (18, [.null, .null, .null, .null, .null, .int (0 : Int32)])) (.inr (18, fs)) h) gxN := by
  refine gMet_of hl pnX4 (gle rfl) (fun X Q hX F E hNm => ?_)
  subst hX
  change gW (X, G, 3, Q) P [(0, .ref a), (1, .int ch), (2, .null)] 0 [] 0 0
  refine g_aload_n F 0 rfl rfl dX4_init_0 ?_
  refine g_iload_n F 1 rfl rfl dX4_init_1 ?_
  refine g_callS F (kJ14_toString hl h0 h1) (lw_S q580 q581 q35 q582) myJ14_toString ⟨by decide, by decide⟩ rfl rfl (gle rfl) 2 5 (gle rfl) (gle rfl) (gle rfl) (gle rfl) dX4_init_2 gx_n (gv_x (fun s9 => ?_))
  refine g_aload_nN F 2 rfl rfl dX4_init_5 ?_
  refine g_iconst F (v := (0 : Int32)) (by decide) dX4_init_6 ?_
  refine g_iconst F (v := (0 : Int32)) (by decide) dX4_init_7 ?_
  refine g_callI F (kJ6_init_2N hl (gJk_at ha)) rfl q615 q616 q27 q617 myJ6_init_2 ⟨by decide, by decide⟩ rfl rfl (gle rfl) 2 5 (gle rfl) (gle rfl) (gle rfl) (gle rfl) dX4_init_8 gx_n (gv_v ?_)
  exact g_retV F E rfl (gle rfl) (gle rfl) dX4_init_11 (fun _ hp => ⟨rfl, _, hp⟩)

theorem kJ5_init_2R {l : Launch} {G : gG} (hl : l.stackTraces = false) {P : gH → Prop} {a ms : Nat} {cx : Nat} (ha : gAt P a (.inr (18, [.null, .null, .null, .null, .null, .int (0 : Int32)]))) : gMet l yJ5_init_2 (ws_ yJ5_init_2 cJ5_init_2 5 none) ⟨1, 0, 0, 12⟩ G [.ref a, .ref ms, .ref cx, .int 0, .int 0] P (gqV (gUp P a (.inr (18, [.null, .null, .null, .null, .null, .int (0 : Int32)])) (.inr (18, [.ref cx, .null, .null, .ref ms, .null, .int 0])))) gxN := by
  refine gMet_of hl pnJ5 (gle rfl) (fun X Q hX F E hNm => ?_)
  subst hX
  change gW (X, G, 5, Q) P [(0, .ref a), (1, .ref ms), (2, .ref cx), (3, .int 0), (4, .int 0)] 0 [] 0 0
  refine g_mono (gUp_0 ha) ?_
  refine g_aload_n F 0 rfl rfl dJ5_init_2_0 ?_
  refine g_objInit F q363 dJ5_init_2_1 (gle rfl) (gle rfl) ?_
  refine g_aload_n F 0 rfl rfl dJ5_init_2_4 ?_
  refine g_aload_n F 0 rfl rfl dJ5_init_2_5 ?_
  refine g_put (P2 := (gUp P a (.inr (18, [.null, .null, .null, .null, .null, .int (0 : Int32)])) (.inr (18, [.ref a, .null, .null, .null, .null, .int (0 : Int32)])))) F clX4 0 (by decide) q395 rfl rfl rfl (gUp_put (gnl rfl)) dJ5_init_2_6 ?_
  refine g_aload_n F 0 rfl rfl dJ5_init_2_9 ?_
  refine g_getsq F (gF_thr F).1.1 q364 dJ5_init_2_10 (fun sv_1 hs_2 => ?_)
  refine g_put (P2 := (gUp P a (.inr (18, [.null, .null, .null, .null, .null, .int (0 : Int32)])) (.inr (18, [.ref a, sv_1, .null, .null, .null, .int (0 : Int32)])))) F clX4 1 (by decide) q396 rfl (by rcases hs_2 with rfl | ⟨t9, rfl⟩ <;> rfl) (by rcases hs_2 with rfl | ⟨t9, rfl⟩ <;> rfl) (gUp_put (gnl rfl)) dJ5_init_2_13 ?_
  refine g_aload_n F 0 rfl rfl dJ5_init_2_16 ?_
  refine g_getsq F (gF_thr F).2.1 q366 dJ5_init_2_17 (fun sv_3 hs_4 => ?_)
  refine g_put (P2 := (gUp P a (.inr (18, [.null, .null, .null, .null, .null, .int (0 : Int32)])) (.inr (18, [.ref a, sv_1, sv_3, .null, .null, .int (0 : Int32)])))) F clX4 2 (by decide) q397 rfl (by rcases hs_4 with rfl | ⟨t9, rfl⟩ <;> rfl) (by rcases hs_4 with rfl | ⟨t9, rfl⟩ <;> rfl) (gUp_put (gnl rfl)) dJ5_init_2_20 ?_
  refine g_iload F 4 rfl dJ5_init_2_23 ?_
  refine g_if_eq F (tgt := 36) (by decide) dJ5_init_2_25 (fun _ => ?_) (fun c => absurd c (by decide))
  refine g_aload_n F 0 rfl rfl dJ5_init_2_36 ?_
  refine g_null F dJ5_init_2_37 ?_
  refine g_put (P2 := (gUp P a (.inr (18, [.null, .null, .null, .null, .null, .int (0 : Int32)])) (.inr (18, [.ref a, .null, sv_3, .null, .null, .int (0 : Int32)])))) F clX4 1 (by decide) q396 rfl rfl rfl (gUp_put (gnl rfl)) dJ5_init_2_38 ?_
  refine g_aload_n F 0 rfl rfl dJ5_init_2_41 ?_
  refine g_aload_n F 1 rfl rfl dJ5_init_2_42 ?_
  refine g_put (P2 := (gUp P a (.inr (18, [.null, .null, .null, .null, .null, .int (0 : Int32)])) (.inr (18, [.ref a, .null, sv_3, .ref ms, .null, .int (0 : Int32)])))) F clX4 3 (by decide) q394 rfl rfl rfl (gUp_put (gnl rfl)) dJ5_init_2_43 ?_
  refine g_aload_n F 0 rfl rfl dJ5_init_2_46 ?_
  refine g_aload_n F 2 rfl rfl dJ5_init_2_47 ?_
  refine g_put (P2 := (gUp P a (.inr (18, [.null, .null, .null, .null, .null, .int (0 : Int32)])) (.inr (18, [.ref cx, .null, sv_3, .ref ms, .null, .int (0 : Int32)])))) F clX4 0 (by decide) q395 rfl rfl rfl (gUp_put (gnl rfl)) dJ5_init_2_48 ?_
  refine g_iload_n F 3 rfl rfl dJ5_init_2_51 ?_
  refine g_if_ne F (tgt := 60) (by decide) dJ5_init_2_52 (fun c => absurd c (by decide)) (fun _ => ?_)
  refine g_aload_n F 0 rfl rfl dJ5_init_2_55 ?_
  refine g_null F dJ5_init_2_56 ?_
  refine g_put (P2 := (gUp P a (.inr (18, [.null, .null, .null, .null, .null, .int (0 : Int32)])) (.inr (18, [.ref cx, .null, .null, .ref ms, .null, .int (0 : Int32)])))) F clX4 2 (by decide) q397 rfl rfl rfl (gUp_put (gnl rfl)) dJ5_init_2_57 ?_
  exact g_retV F E rfl (gle rfl) (gle rfl) dJ5_init_2_60 (fun _ hp => ⟨rfl, hp⟩)

theorem kJ6_init_2R {l : Launch} {G : gG} (hl : l.stackTraces = false) {P : gH → Prop} {a ms : Nat} {cx : Nat} (ha : gAt P a (.inr (18, [.null, .null, .null, .null, .null, .int (0 : Int32)]))) : gMet l yJ6_init_2 (ws_ yJ6_init_2 cJ6_init_2 5 none) ⟨2, 0, 0, 36⟩ G [.ref a, .ref ms, .ref cx, .int 0, .int 0] P (gqV (gUp P a (.inr (18, [.null, .null, .null, .null, .null, .int (0 : Int32)])) (.inr (18, [.ref cx, .null, .null, .ref ms, .null, .int 0])))) gxN := by
  refine gMet_of hl pnJ6 (gle rfl) (fun X Q hX F E hNm => ?_)
  subst hX
  change gW (X, G, 5, Q) P [(0, .ref a), (1, .ref ms), (2, .ref cx), (3, .int 0), (4, .int 0)] 0 [] 0 0
  refine g_aload_n F 0 rfl rfl dJ6_init_2_0 ?_
  refine g_aload_n F 1 rfl rfl dJ6_init_2_1 ?_
  refine g_aload_n F 2 rfl rfl dJ6_init_2_2 ?_
  refine g_iload_n F 3 rfl rfl dJ6_init_2_3 ?_
  refine g_iload F 4 rfl dJ6_init_2_4 ?_
  refine g_callI F (kJ5_init_2R hl ha) rfl q618 q619 q26 q620 myJ5_init_2 ⟨by decide, by decide⟩ rfl rfl (gle rfl) 0 0 (gle rfl) (gle rfl) (gle rfl) (gle rfl) dJ6_init_2_6 gx_n (gv_v ?_)
  exact g_retV F E rfl (gle rfl) (gle rfl) dJ6_init_2_9 (fun _ hp => ⟨rfl, hp⟩)

theorem kX4_initR {l : Launch} {G : gG} (hl : l.stackTraces = false) {P : gH → Prop} {a : Nat} {cx : Nat} {ch : Int32} (h0 : ¬ ch < 0) (h1 : ¬ 127 < ch) (ha : gAt P a (.inr (18, [.null, .null, .null, .null, .null, .int (0 : Int32)]))) : gMet l yX4_init (ws_ yX4_init cX4_init 3 none) ⟨4, 2, 5, 74⟩ G [.ref a, .int ch, .ref cx] P (fun r9 h => r9 = none ∧ ∃ fs, gUp (gJk P) a (.inr (18, [.null, .null, .null, .null, .null, .int (0 : Int32)])) (.inr (18, fs)) h) gxN := by
  refine gMet_of hl pnX4 (gle rfl) (fun X Q hX F E hNm => ?_)
  subst hX
  change gW (X, G, 3, Q) P [(0, .ref a), (1, .int ch), (2, .ref cx)] 0 [] 0 0
  refine g_aload_n F 0 rfl rfl dX4_init_0 ?_
  refine g_iload_n F 1 rfl rfl dX4_init_1 ?_
  refine g_callS F (kJ14_toString hl h0 h1) (lw_S q580 q581 q35 q582) myJ14_toString ⟨by decide, by decide⟩ rfl rfl (gle rfl) 2 5 (gle rfl) (gle rfl) (gle rfl) (gle rfl) dX4_init_2 gx_n (gv_x (fun s9 => ?_))
  refine g_aload_n F 2 rfl rfl dX4_init_5 ?_
  refine g_iconst F (v := (0 : Int32)) (by decide) dX4_init_6 ?_
  refine g_iconst F (v := (0 : Int32)) (by decide) dX4_init_7 ?_
  refine g_callI F (kJ6_init_2R hl (gJk_at ha)) rfl q615 q616 q27 q617 myJ6_init_2 ⟨by decide, by decide⟩ rfl rfl (gle rfl) 2 5 (gle rfl) (gle rfl) (gle rfl) (gle rfl) dX4_init_8 gx_n (gv_v ?_)
  exact g_retV F E rfl (gle rfl) (gle rfl) dX4_init_11 (fun _ hp => ⟨rfl, _, hp⟩)

theorem kJ21_init {l : Launch} {G : gG} (hl : l.stackTraces = false) {P : gH → Prop} {a : Nat} : gMet l yJ21_init (ws_ yJ21_init cJ21_init 1 none) ⟨1, 0, 0, 12⟩ G [.ref a] P (gqV P) gxN := by
  refine gMet_of hl pnJ21 (gle rfl) (fun X Q hX F E hNm => ?_)
  subst hX
  change gW (X, G, 1, Q) P [(0, .ref a)] 0 [] 0 0
  refine g_aload_n F 0 rfl rfl dJ21_init_0 ?_
  refine g_objInit F q1225 dJ21_init_1 (gle rfl) (gle rfl) ?_
  exact g_retV F E rfl (gle rfl) (gle rfl) dJ21_init_4 (fun _ hp => ⟨rfl, hp⟩)
