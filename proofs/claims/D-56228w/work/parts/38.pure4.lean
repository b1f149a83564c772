/-! PURE, part 4: the table of the best order (zp_) -/
set_option maxRecDepth 100000
def zp_lc (σ : Nat → Nat) (t : Nat) : Nat := if t = 7 then σ 4 else zp_col σ t
def zp_g (σ : Nat → Nat) (t S : Nat) : Nat → Nat := fun k => zp_change (zp_lc σ t) (zp_col σ k) + zp_O σ (zp_col σ k) (S - 2 ^ k)
/-- the table holds what it should for the sets below S -/
def zp_Lay (σ F : Nat → Nat) (S : Nat) : Prop := ∀ s, s < S → ∀ t, (t = 7 ∨ t < σ 0) → F (128 * t + s) = zp_O σ (zp_lc σ t) s
/-- and for S in the rows below t0 -/
def zp_Row (σ F : Nat → Nat) (S t0 : Nat) : Prop := ∀ t, t < t0 → (t = 7 ∨ t < σ 0) → F (128 * t + S) = zp_O σ (zp_lc σ t) S
theorem zp_Lay_0 (σ F : Nat → Nat) : zp_Lay σ F 0 := fun s h => by omega
theorem zp_Row_0 (σ F : Nat → Nat) (S : Nat) : zp_Row σ F S 0 := fun t h => by omega
theorem zp_Lay_next {σ F : Nat → Nat} {S : Nat} (h : zp_Lay σ F S) (h2 : zp_Row σ F S 8) (h7 : σ 0 ≤ 7) : zp_Lay σ F (S + 1) := by
  intro s hs t ht
  by_cases e : s = S
  · subst e
    exact h2 t (by omega) ht
  · exact h s (by omega) t ht
theorem zp_Lay_put {σ F : Nat → Nat} {S t v : Nat} (h : zp_Lay σ F S) (hS : S < 128) : zp_Lay σ (va_up F (128 * t + S) v) S := by
  intro s hs t' ht
  rw [zk_up_ne (by omega)]
  exact h s hs t' ht
theorem zp_Row_put {σ F : Nat → Nat} {S t v : Nat} (h : zp_Row σ F S t) (hS : S < 128) (hv : v = zp_O σ (zp_lc σ t) S) : zp_Row σ (va_up F (128 * t + S) v) S (t + 1) := by
  intro t' ht hv'
  by_cases e : t' = t
  · subst e
    rw [zk_up_eq, hv]
  · rw [zk_up_ne (by omega)]
    exact h t' (by omega) hv'
theorem zp_Row_skip {σ F : Nat → Nat} {S t : Nat} (h : zp_Row σ F S t) (h1 : t < 7) (h2 : ¬ t < σ 0) : zp_Row σ F S (t + 1) := by
  intro t' ht hv
  exact h t' (by omega) hv
theorem zp_lc_lt {σ : Nat → Nat} {t : Nat} (ht : t = 7 ∨ t < σ 0) (h4 : σ 4 < 10) (hc : ∀ e, e < σ 0 → zp_col σ e < 10) : zp_lc σ t < 10 := by
  unfold zp_lc
  split
  · exact h4
  · exact hc t (by omega)
theorem zp_lc_col {σ : Nat → Nat} {k : Nat} (h : k < 7) : zp_lc σ k = zp_col σ k := if_neg (by omega)
theorem zp_g_le {σ : Nat → Nat} (h7 : σ 0 ≤ 7) (h4 : σ 4 < 10) (hc : ∀ e, e < σ 0 → zp_col σ e < 10) {t S k : Nat} (ht : t = 7 ∨ t < σ 0) (hk : k < σ 0) (hS : S < 2 ^ σ 0) : zp_g σ t S k ≤ 152 := by
  have h1 := zp_change_le (zp_lc_lt ht h4 hc) (hc k hk)
  have h2 := zp_O_small h7 hc (mask := S - 2 ^ k) (col := zp_col σ k) (Nat.lt_of_le_of_lt (Nat.sub_le _ _) hS) (hc k hk)
  show zp_change _ _ + zp_O _ _ _ ≤ _
  omega
theorem zp_Lay_col {σ F : Nat → Nat} {S k : Nat} (h : zp_Lay σ F S) (hk : k < σ 0) (h7 : σ 0 ≤ 7) {s : Nat} (hs : s < S) : F (128 * k + s) = zp_O σ (zp_col σ k) s := by
  rw [h s hs k (Or.inr hk), zp_lc_col (by omega)]
theorem zp_P_mp {σ : Nat → Nat} {c S k : Nat} (hb : S.testBit k = true) (he : zp_change c (zp_col σ k) + zp_O σ (zp_col σ k) (S - 2 ^ k) = zp_O σ c S) : zp_P σ c S k = true := by
  unfold zp_P
  rw [hb, he]
  simp
theorem zp_P_nb {σ : Nat → Nat} {c S k : Nat} (hb : S.testBit k = false) : zp_P σ c S k = false := by
  unfold zp_P
  rw [hb]
  rfl
theorem zp_P_ne {σ : Nat → Nat} {c S k : Nat} (he : ¬ zp_change c (zp_col σ k) + zp_O σ (zp_col σ k) (S - 2 ^ k) = zp_O σ c S) : zp_P σ c S k = false := by
  unfold zp_P
  rw [decide_eq_false he, Bool.and_false]
theorem zp_P_bit {σ : Nat → Nat} {c S k : Nat} (h : zp_P σ c S k = true) : S.testBit k = true := ((Bool.and_eq_true _ _).mp h).1
theorem zp_nx_eq {σ : Nat → Nat} {c S k : Nat} (hk : k < 7) (h : zp_P σ c S k = true) (h0 : ∀ j, j < k → zp_P σ c S j = false) : zp_nx σ c S = k := zp_fi_hit 7 0 k (Nat.zero_le _) (by omega) h (fun i _ hi => h0 i hi)
theorem zp_nx_P {σ : Nat → Nat} (h7 : σ 0 ≤ 7) (hc : ∀ e, e < σ 0 → zp_col σ e < 10) {mask col : Nat} (hm : mask < 2 ^ σ 0) (hcol : col < 10) (h0 : mask ≠ 0) : zp_nx σ col mask < σ 0 ∧ zp_P σ col mask (zp_nx σ col mask) = true := by
  obtain ⟨k, hk, hp⟩ := zp_P_ex h7 hc hm hcol h0
  obtain ⟨j, h1, h2⟩ := pk_least (fun j => zp_P σ col mask j = true) ⟨k, hp⟩
  have hjk : j ≤ k := Nat.le_of_not_lt (fun z => h2 k z hp)
  have e := zp_nx_eq (show j < 7 by omega) h1 (fun i hi => by have := h2 i hi; cases hz : zp_P σ col mask i <;> simp_all)
  rw [e]
  exact ⟨by omega, h1⟩
/-- what the sequence of the order keeps -/
theorem zp_os_ok {σ : Nat → Nat} (h7 : σ 0 ≤ 7) (h4 : σ 4 < 10) (hc : ∀ e, e < σ 0 → zp_col σ e < 10) : ∀ i, i ≤ zp_oc σ → (zp_os σ i).1 < 10 ∧ (zp_os σ i).2 < 2 ^ σ 0 ∧ i + zp_nb (zp_os σ i).2 7 = zp_oc σ := by
  intro i
  induction i with
  | zero => intro _; exact ⟨h4, zp_om_lt _ _, Nat.zero_add _⟩
  | succ i ih =>
    intro hi
    obtain ⟨h1, h2, h3⟩ := ih (by omega)
    have hlt : (zp_os σ i).2 < 128 := Nat.lt_of_lt_of_le h2 (Nat.pow_le_pow_right (by decide) h7)
    have h0 : (zp_os σ i).2 ≠ 0 := fun z => by have := (zp_nb0 _ hlt).mpr z; omega
    obtain ⟨h5, h6⟩ := zp_nx_P h7 hc h2 h1 h0
    rw [zp_os]
    refine ⟨hc _ h5, Nat.lt_of_le_of_lt (Nat.sub_le _ _) h2, ?_⟩
    have := zp_nb1 _ hlt _ (show zp_nx σ (zp_os σ i).1 (zp_os σ i).2 < 7 by omega) (zp_P_bit h6)
    show i + 1 + zp_nb ((zp_os σ i).2 - 2 ^ zp_nx σ (zp_os σ i).1 (zp_os σ i).2) 7 = _
    omega
theorem zp_oc_le {σ : Nat → Nat} (h7 : σ 0 ≤ 7) : zp_oc σ ≤ 7 := zp_nb7 _ (Nat.lt_of_lt_of_le (zp_om_lt _ _) (Nat.pow_le_pow_right (by decide) h7))
theorem zp_on_ok {σ : Nat → Nat} (h7 : σ 0 ≤ 7) (h4 : σ 4 < 10) (hc : ∀ e, e < σ 0 → zp_col σ e < 10) {i : Nat} (hi : i < zp_oc σ) : zp_on σ i < σ 0 ∧ (zp_os σ i).2.testBit (zp_on σ i) = true := by
  obtain ⟨h1, h2, h3⟩ := zp_os_ok h7 h4 hc i (by omega)
  have hlt : (zp_os σ i).2 < 128 := Nat.lt_of_lt_of_le h2 (Nat.pow_le_pow_right (by decide) h7)
  have h0 : (zp_os σ i).2 ≠ 0 := fun z => by have := (zp_nb0 _ hlt).mpr z; omega
  obtain ⟨h5, h6⟩ := zp_nx_P h7 hc h2 h1 h0
  exact ⟨h5, zp_P_bit h6⟩
