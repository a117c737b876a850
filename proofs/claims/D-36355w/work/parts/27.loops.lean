/-! LOOPS OVER THE DATA BASE -/
def gFd {α : Type} (g : Nat → α → α) (a : α) : Nat → α
  | 0 => a
  | n + 1 => g n (gFd g a n)
theorem gNw_ls {P : gH → Prop} {G : gG} {t1 t2 a len : Nat} {el : Nat → Nat} {τ : Nat × Nat} {b : Nat} {c : va_E} (h : ∀ h, P h → gLs G h t1 t2 a len el) : ∀ h, gNw P τ b c h → gLs G h t1 t2 a len el := fun h9 hp => by
  obtain ⟨h0, q1, q2, rfl⟩ := hp
  exact gLs_keep (h h0 q1) fun x τ e hx _ => gNw_h (P := P) q2 hx
theorem gL1_ls {P : gH → Prop} {G : gG} {t1 t2 a len t3 t4 a2 len2 : Nat} {el el2 : Nat → Nat} {mc : Int32} {ed cap : Nat} {f : Nat → Option Nat} (h : ∀ h, P h → gLs G h t1 t2 a len el) : ∀ h, gL1 P G t3 t4 a2 len2 el2 mc ed cap f h → gLs G h t1 t2 a len el := fun h9 hp => h h9 hp.1
theorem gP_jkL {M : Nat} {G : gG} {S : gS} {A : Nat → Nat → Nat} {Fr : gH → Prop} {T : List (Nat × va_E)} {t1 t2 a len : Nat} {el : Nat → Nat} {mc : Int32} {ed cap : Nat} {f : Nat → Option Nat} {τ : Nat × Nat} {it : Nat} {c : va_E} (hF : gFr M Fr) : ∀ h, gNw (gL1 (gP M G S A Fr T) G t1 t2 a len el mc ed cap f) τ it c h → gP M G S A Fr T h := fun h hp => gP_jk hF h (gJk_L h hp)
theorem gNwL_jk {M : Nat} {G : gG} {S : gS} {A : Nat → Nat → Nat} {Fr : gH → Prop} {T : List (Nat × va_E)} {t1 t2 a len : Nat} {el : Nat → Nat} {mc : Int32} {ed cap : Nat} {f : Nat → Option Nat} {τ : Nat × Nat} {it : Nat} {c : va_E} (hF : gFr M Fr) : ∀ h, gJk (gNw (gL1 (gP M G S A Fr T) G t1 t2 a len el mc ed cap f) τ it c) h → gNw (gL1 (gP M G S A Fr T) G t1 t2 a len el mc ed cap f) τ it c h := fun h hp => by
  obtain ⟨h1, ⟨h0, q1, q2, rfl⟩, q3⟩ := hp
  have hk : ∀ b τ2 e, h0 b = some (τ2, e) → (fun b => if b = it then none else h b) b = some (τ2, e) := fun b τ2 e hb => by
    have n : b ≠ it := fun q => by
      rw [q, q2] at hb
      cases hb
    show (if b = it then none else h b) = _
    rw [if_neg n]
    exact q3 b τ2 e (by rw [gset_n n]; exact hb)
  refine ⟨fun b => if b = it then none else h b, ⟨gP_jk hF _ ⟨h0, q1.1, hk⟩, hk _ _ _ q1.2.1, q1.2.2.1.imp id (fun z => ⟨hk _ _ _ z.1, z.2⟩), q1.2.2.2⟩, if_pos rfl, ?_⟩
  funext b
  unfold gset
  by_cases n : b = it
  · rw [if_pos n, n]
    exact q3 it τ c (by rw [gset_s])
  · rw [if_neg n]
    show h b = if b = it then none else h b
    rw [if_neg n]
def gCk8 (S : gS) (a : Int64) : Nat → Int64 := gFd (fun j s => 31 * (31 * (31 * s + (S.1 8 j 1).toInt64) + (S.1 8 j 10).toInt64) + (S.1 8 j 9).toInt64) a
def gCk10 (S : gS) (a : Int64) : Nat → Int64 := gFd (fun j s => 31 * (31 * s + (S.1 10 j 3).toInt64) + (S.1 10 j 4).toInt64) a
def gCk11 (S : gS) (a : Int64) : Nat → Int64 := gFd (fun j s => 31 * s + (gMy S j).toInt64) a
theorem gCk8_s {S : gS} {a : Int64} {j : Nat} : gCk8 S a (j + 1) = 31 * (31 * (31 * gCk8 S a j + (S.1 8 j 1).toInt64) + (S.1 8 j 10).toInt64) + (S.1 8 j 9).toInt64 := rfl
theorem gCk10_s {S : gS} {a : Int64} {j : Nat} : gCk10 S a (j + 1) = 31 * (31 * gCk10 S a j + (S.1 10 j 3).toInt64) + (S.1 10 j 4).toInt64 := rfl
theorem gCk11_s {S : gS} {a : Int64} {j : Nat} : gCk11 S a (j + 1) = 31 * gCk11 S a j + (gMy S j).toInt64 := rfl
