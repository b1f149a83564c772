/-! PURE, part 3: shares, orders, rises (zp_) -/
set_option maxRecDepth 100000
def zp_oi : Option Nat → Int32
  | none => -1
  | some j => nI j
theorem zp_oi_neg {o : Option Nat} (h : zp_oi o < 0) (hb : ∀ j, o = some j → j < 2 ^ 31) : o = none := by
  cases o with
  | none => rfl
  | some j => exact absurd h (nI_pos (hb j rfl))
theorem zp_oi_nn {o : Option Nat} (h : ¬ zp_oi o < 0) : ∃ j, o = some j := by
  cases o with
  | none => exact absurd (by decide) h
  | some j => exact ⟨j, rfl⟩
/-- the edition that gets the next sheet -/
def zp_ns (σ S : Nat → Nat) : Nat → Option Nat
  | 0 => none
  | k + 1 => match zp_ns σ S k with
    | none => if S k < zp_miss σ k then some k else none
    | some j => if S k < zp_miss σ k ∧ S k < S j then some k else some j
theorem zp_ns_lt {σ S : Nat → Nat} : ∀ {k j : Nat}, zp_ns σ S k = some j → j < k ∧ S j < zp_miss σ j := by
  intro k
  induction k with
  | zero => intro j h; cases h
  | succ k ih =>
    intro j h
    unfold zp_ns at h
    split at h
    · split at h
      · cases h; exact ⟨by omega, by assumption⟩
      · cases h
    · rename_i j0 h0
      split at h
      · cases h; rename_i h1; exact ⟨by omega, h1.1⟩
      · cases h; have := ih h0; exact ⟨by omega, this.2⟩
theorem zp_ns_skip {σ S : Nat → Nat} {k : Nat} (h : ¬ S k < zp_miss σ k) : zp_ns σ S (k + 1) = zp_ns σ S k := by
  rw [zp_ns]
  cases zp_ns σ S k with
  | none => exact if_neg h
  | some j => exact if_neg (fun z => h z.1)
theorem zp_ns_new {σ S : Nat → Nat} {k : Nat} (h : S k < zp_miss σ k) (h0 : zp_ns σ S k = none) : zp_ns σ S (k + 1) = some k := by
  rw [zp_ns, h0]
  exact if_pos h
theorem zp_ns_less {σ S : Nat → Nat} {k j : Nat} (h : S k < zp_miss σ k) (h0 : zp_ns σ S k = some j) (h1 : S k < S j) : zp_ns σ S (k + 1) = some k := by
  rw [zp_ns, h0]
  exact if_pos ⟨h, h1⟩
theorem zp_ns_stay {σ S : Nat → Nat} {k j : Nat} (h0 : zp_ns σ S k = some j) (h1 : ¬ S k < S j) : zp_ns σ S (k + 1) = some j := by
  rw [zp_ns, h0]
  exact if_neg (fun z => h1 z.2)
theorem zp_ns_congr {σ S S' : Nat → Nat} : ∀ {n : Nat}, (∀ j, j < n → S j = S' j) → zp_ns σ S n = zp_ns σ S' n := by
  intro n
  induction n with
  | zero => intro _; rfl
  | succ n ih =>
    intro h
    rw [zp_ns, zp_ns, ← ih (fun j hj => h j (by omega)), h n (by omega)]
    cases hz : zp_ns σ S n with
    | none => rfl
    | some j => show (if _ ∧ S' n < S j then _ else _) = (if _ ∧ S' n < S' j then _ else _); rw [h j (by have := (zp_ns_lt hz).1; omega)]
/-- the first c places empty -/
def zp_z7 (g : Nat → Nat) (c : Nat) : Nat → Nat := fun z => if z < c then 0 else g z
theorem zp_z70 (g : Nat → Nat) : zp_z7 g 0 = g := by
  funext z
  exact if_neg (by omega)
theorem zp_z71 (g : Nat → Nat) (c : Nat) : va_up (zp_z7 g c) c 0 = zp_z7 g (c + 1) := by
  funext z
  unfold va_up zp_z7
  by_cases h : z = c
  · rw [if_pos h, if_pos (by omega)]
  · rw [if_neg h]
    by_cases h2 : z < c
    · rw [if_pos h2, if_pos (by omega)]
    · rw [if_neg h2, if_neg (by omega)]
/-- shares behind t sheets -/
def zp_gv (σ g : Nat → Nat) : Nat → Nat → Nat
  | 0 => zp_z7 g 7
  | t + 1 => match zp_ns σ (zp_gv σ g t) (σ 0) with
    | none => zp_gv σ g t
    | some j => va_up (zp_gv σ g t) j (zp_gv σ g t j + 1)
theorem zp_gv_some {σ g : Nat → Nat} {t j : Nat} (h : zp_ns σ (zp_gv σ g t) (σ 0) = some j) : va_up (zp_gv σ g t) j (zp_gv σ g t j + 1) = zp_gv σ g (t + 1) := by
  rw [zp_gv, h]
theorem zp_gv_stop {σ g : Nat → Nat} {t : Nat} (h : zp_ns σ (zp_gv σ g t) (σ 0) = none) : ∀ d, zp_gv σ g (t + d) = zp_gv σ g t := by
  intro d
  induction d with
  | zero => rfl
  | succ d ih =>
    show zp_gv σ g (t + d + 1) = _
    rw [zp_gv, ih, h]
theorem zp_gv_le (σ g : Nat → Nat) (t : Nat) {j : Nat} (hj : j < 7) : zp_gv σ g t j ≤ t := by
  induction t with
  | zero => show zp_z7 g 7 j ≤ 0; rw [zp_z7, if_pos hj]; exact Nat.le_refl _
  | succ t ih =>
    rw [zp_gv]
    cases hz : zp_ns σ (zp_gv σ g t) (σ 0) with
    | none => show zp_gv σ g t j ≤ _; omega
    | some i =>
      show va_up (zp_gv σ g t) i (zp_gv σ g t i + 1) j ≤ _
      by_cases e : j = i
      · subst e; rw [zk_up_eq]; omega
      · rw [zk_up_ne e]; omega
theorem zp_gv_irr (σ g g' : Nat → Nat) (h7 : σ 0 ≤ 7) (t : Nat) : ∀ j, j < 7 → zp_gv σ g t j = zp_gv σ g' t j := by
  induction t with
  | zero => intro j hj; show zp_z7 g 7 j = zp_z7 g' 7 j; rw [zp_z7, zp_z7, if_pos hj, if_pos hj]
  | succ t ih =>
    intro j hj
    have e : zp_ns σ (zp_gv σ g t) (σ 0) = zp_ns σ (zp_gv σ g' t) (σ 0) := zp_ns_congr (fun j hj => ih j (by omega))
    rw [zp_gv, zp_gv, ← e]
    cases hz : zp_ns σ (zp_gv σ g t) (σ 0) with
    | none => exact ih j hj
    | some i =>
      show va_up _ _ _ j = va_up _ _ _ j
      have := (zp_ns_lt hz).1
      rw [ih i (by omega)]
      unfold va_up
      split
      · rfl
      · exact ih j hj
/-- the shares -/
def zp_shr (σ : Nat → Nat) (j : Nat) : Nat := zp_gv σ (fun _ => 0) (σ 2) j
/-- bits -/
theorem zp_b1 : ∀ s, s < 128 → ∀ k, k < 7 → (s / 2 ^ k &&& 1 = 1 ↔ s.testBit k = true) := by decide +kernel
theorem zp_b0 : ∀ s, s < 128 → ∀ k, k < 7 → (s / 2 ^ k &&& 1 = 0 ↔ s.testBit k = false) := by decide +kernel
theorem zp_bc : ∀ s, s < 128 → ∀ k, k < 7 → s.testBit k = true → nI s &&& ((nI (1 * 2 ^ k)) ^^^ (-1)) = nI (s - 2 ^ k) := by decide +kernel
theorem zp_bs : ∀ s, s < 128 → ∀ k, k < 7 → s.testBit k = true → 2 ^ k ≤ s := by decide +kernel
theorem zp_bt : ∀ s, s < 128 → ∀ k, k < 7 → s.testBit k = true → ∀ j, j < 7 → (s - 2 ^ k).testBit j = (s.testBit j && decide (j ≠ k)) := by decide +kernel
/-- how many bits of the first n stand -/
def zp_nb (s : Nat) : Nat → Nat
  | 0 => 0
  | k + 1 => zp_nb s k + (if s.testBit k = true then 1 else 0)
theorem zp_nb1 : ∀ s, s < 128 → ∀ k, k < 7 → s.testBit k = true → zp_nb (s - 2 ^ k) 7 + 1 = zp_nb s 7 := by decide +kernel
theorem zp_nb0 : ∀ s, s < 128 → (zp_nb s 7 = 0 ↔ s = 0) := by decide +kernel
theorem zp_nb7 : ∀ s, s < 128 → zp_nb s 7 ≤ 7 := by decide +kernel
theorem zp_bn : ∀ n, n ≤ 7 → ∀ s, s < 2 ^ n → ∀ k, k < 7 → s.testBit k = true → k < n := by decide +kernel
theorem zp_bx : ∀ n, n ≤ 7 → ∀ s, s < 2 ^ n → s ≠ 0 → (List.range n).any (fun k => s.testBit k) = true := by decide +kernel
/-- the least of g over the bits of mask below n -/
def zp_mn (g : Nat → Nat) (mask : Nat) : Nat → Nat
  | 0 => if mask = 0 then 0 else 1000000
  | k + 1 => if mask.testBit k = true then min (zp_mn g mask k) (g k) else zp_mn g mask k
theorem zp_mn_congr {g g' : Nat → Nat} {mask : Nat} : ∀ {n : Nat}, (∀ k, k < n → mask.testBit k = true → g k = g' k) → zp_mn g mask n = zp_mn g' mask n := by
  intro n
  induction n with
  | zero => intro _; rfl
  | succ n ih =>
    intro h
    rw [zp_mn, zp_mn, ih (fun k hk => h k (by omega))]
    by_cases hb : mask.testBit n = true
    · rw [if_pos hb, if_pos hb, h n (by omega) hb]
    · rw [if_neg hb, if_neg hb]
theorem zp_mn_le {g : Nat → Nat} {mask : Nat} : ∀ {n k : Nat}, k < n → mask.testBit k = true → zp_mn g mask n ≤ g k := by
  intro n
  induction n with
  | zero => intro k h; omega
  | succ n ih =>
    intro k hk hb
    rw [zp_mn]
    by_cases e : k = n
    · subst e
      rw [if_pos hb]
      exact Nat.min_le_right _ _
    · have := ih (show k < n by omega) hb
      split
      · exact Nat.le_trans (Nat.min_le_left _ _) this
      · exact this
theorem zp_mn_big {g : Nat → Nat} {mask : Nat} (n : Nat) : zp_mn g mask n ≤ 1000000 := by
  induction n with
  | zero => rw [zp_mn]; split <;> omega
  | succ n ih =>
    rw [zp_mn]
    split
    · exact Nat.le_trans (Nat.min_le_left _ _) ih
    · exact ih
theorem zp_mn_ex {g : Nat → Nat} {mask : Nat} (h0 : mask ≠ 0) : ∀ {n : Nat}, zp_mn g mask n < 1000000 → ∃ k, k < n ∧ mask.testBit k = true ∧ zp_mn g mask n = g k := by
  intro n
  induction n with
  | zero => intro h; rw [zp_mn, if_neg h0] at h; omega
  | succ n ih =>
    intro h
    rw [zp_mn] at h ⊢
    by_cases hb : mask.testBit n = true
    · rw [if_pos hb] at h ⊢
      by_cases hc : zp_mn g mask n ≤ g n
      · rw [Nat.min_eq_left hc] at h ⊢
        obtain ⟨k, h1, h2, h3⟩ := ih h
        exact ⟨k, by omega, h2, h3⟩
      · rw [Nat.min_eq_right (by omega)]
        exact ⟨n, by omega, hb, rfl⟩
    · rw [if_neg hb] at h ⊢
      obtain ⟨k, h1, h2, h3⟩ := ih h
      exact ⟨k, by omega, h2, h3⟩
/-- the fewest minutes from a colour on, for the editions of mask -/
def zp_opt (σ : Nat → Nat) : Nat → Nat → Nat → Nat
  | 0, _, _ => 0
  | f + 1, col, mask => zp_mn (fun k => zp_change col (zp_col σ k) + zp_opt σ f (zp_col σ k) (mask - 2 ^ k)) mask (σ 0)
def zp_O (σ : Nat → Nat) (col mask : Nat) : Nat := zp_opt σ (zp_nb mask 7) col mask
theorem zp_O_eq {σ : Nat → Nat} (h7 : σ 0 ≤ 7) {mask : Nat} (hm : mask < 2 ^ σ 0) (col : Nat) : zp_O σ col mask = zp_mn (fun k => zp_change col (zp_col σ k) + zp_O σ (zp_col σ k) (mask - 2 ^ k)) mask (σ 0) := by
  have hlt : mask < 128 := Nat.lt_of_lt_of_le hm (Nat.pow_le_pow_right (by decide) h7)
  unfold zp_O
  cases hn : zp_nb mask 7 with
  | zero =>
    have h0 := (zp_nb0 mask hlt).mp hn
    subst h0
    rw [zp_opt]
    have : ∀ (g : Nat → Nat) (n : Nat), zp_mn g 0 n = 0 := by
      intro g n
      induction n with
      | zero => rfl
      | succ n ih => rw [zp_mn, if_neg (by simp)]; exact ih
    exact (this _ _).symm
  | succ n =>
    rw [zp_opt]
    refine zp_mn_congr (fun k hk hb => ?_)
    have := zp_nb1 mask hlt k (by omega) hb
    rw [show zp_nb (mask - 2 ^ k) 7 = n by omega]
theorem zp_change_le {x y : Nat} (hx : x < 10) (hy : y < 10) : zp_change x y ≤ 19 := by
  unfold zp_change
  split <;> omega
theorem zp_O_le {σ : Nat → Nat} (h7 : σ 0 ≤ 7) (hc : ∀ e, e < σ 0 → zp_col σ e < 10) : ∀ (n mask col : Nat), mask < 2 ^ σ 0 → col < 10 → zp_nb mask 7 = n → zp_O σ col mask ≤ 19 * n := by
  intro n
  induction n with
  | zero =>
    intro mask col hm _ hn
    unfold zp_O
    rw [hn]
    exact Nat.le_refl _
  | succ n ih =>
    intro mask col hm hcol hn
    have hlt : mask < 128 := Nat.lt_of_lt_of_le hm (Nat.pow_le_pow_right (by decide) h7)
    have h0 : mask ≠ 0 := fun z => by have := (zp_nb0 mask hlt).mpr z; omega
    obtain ⟨k, hk, hb⟩ := List.any_eq_true.mp (zp_bx (σ 0) h7 mask hm h0)
    have hk' : k < σ 0 := List.mem_range.mp hk
    rw [zp_O_eq h7 hm]
    refine Nat.le_trans (zp_mn_le hk' hb) ?_
    have h1 := zp_nb1 mask hlt k (by omega) hb
    have h2 := ih (mask - 2 ^ k) (zp_col σ k) (Nat.lt_of_le_of_lt (Nat.sub_le _ _) hm) (hc k hk') (by omega)
    have h3 := zp_change_le hcol (hc k hk')
    show zp_change col (zp_col σ k) + zp_O σ (zp_col σ k) (mask - 2 ^ k) ≤ _
    omega
theorem zp_O_small {σ : Nat → Nat} (h7 : σ 0 ≤ 7) (hc : ∀ e, e < σ 0 → zp_col σ e < 10) {mask col : Nat} (hm : mask < 2 ^ σ 0) (hcol : col < 10) : zp_O σ col mask ≤ 133 := by
  have hlt : mask < 128 := Nat.lt_of_lt_of_le hm (Nat.pow_le_pow_right (by decide) h7)
  have := zp_O_le h7 hc _ mask col hm hcol rfl
  have := zp_nb7 mask hlt
  omega
/-- the next edition of the best order -/
def zp_P (σ : Nat → Nat) (col mask k : Nat) : Bool := mask.testBit k && decide (zp_change col (zp_col σ k) + zp_O σ (zp_col σ k) (mask - 2 ^ k) = zp_O σ col mask)
def zp_fi (P : Nat → Bool) : Nat → Nat → Nat
  | 0, k => k
  | f + 1, k => if P k = true then k else zp_fi P f (k + 1)
def zp_nx (σ : Nat → Nat) (col mask : Nat) : Nat := zp_fi (zp_P σ col mask) 7 0
theorem zp_fi_hit {P : Nat → Bool} : ∀ (f k j : Nat), k ≤ j → j < k + f → P j = true → (∀ i, k ≤ i → i < j → P i = false) → zp_fi P f k = j := by
  intro f
  induction f with
  | zero => intro k j h1 h2; omega
  | succ f ih =>
    intro k j h1 h2 hp hi
    rw [zp_fi]
    by_cases e : k = j
    · subst e
      exact if_pos hp
    · rw [if_neg (by rw [hi k (Nat.le_refl _) (by omega)]; decide)]
      exact ih (k + 1) j (by omega) (by omega) hp (fun i h3 h4 => hi i (by omega) h4)
theorem zp_P_ex {σ : Nat → Nat} (h7 : σ 0 ≤ 7) (hc : ∀ e, e < σ 0 → zp_col σ e < 10) {mask col : Nat} (hm : mask < 2 ^ σ 0) (hcol : col < 10) (h0 : mask ≠ 0) : ∃ k, k < σ 0 ∧ zp_P σ col mask k = true := by
  have h1 := zp_O_small h7 hc hm hcol
  have h2 := zp_O_eq h7 hm col
  obtain ⟨k, hk, hb, he⟩ := zp_mn_ex h0 (show zp_mn _ mask (σ 0) < 1000000 by rw [← h2]; omega)
  refine ⟨k, hk, ?_⟩
  unfold zp_P
  rw [hb, h2, he]
  simp
/-- the open editions -/
def zp_om (σ : Nat → Nat) : Nat → Nat
  | 0 => 0
  | k + 1 => zp_om σ k ||| (if 0 < zp_miss σ k then 2 ^ k else 0)
theorem zp_om_lt (σ : Nat → Nat) (k : Nat) : zp_om σ k < 2 ^ k := by
  induction k with
  | zero => show 0 < 1; decide
  | succ k ih =>
    rw [zp_om]
    have h : 2 ^ k < 2 ^ (k + 1) := Nat.pow_lt_pow_right (by decide) (by omega)
    refine Nat.or_lt_two_pow (by omega) ?_
    split <;> omega
theorem zp_om_bit (σ : Nat → Nat) (n j : Nat) : (zp_om σ n).testBit j = decide (j < n ∧ 0 < zp_miss σ j) := by
  induction n with
  | zero => simp [zp_om]
  | succ n ih =>
    rw [zp_om, Nat.testBit_or, ih]
    by_cases hp : 0 < zp_miss σ n
    · rw [if_pos hp, Nat.testBit_two_pow]
      by_cases e : n = j
      · subst e; simp [hp]
      · rw [decide_eq_false e, Bool.or_false]
        exact decide_eq_decide.mpr (and_congr (by omega) Iff.rfl)
    · rw [if_neg hp, Nat.zero_testBit, Bool.or_false]
      apply decide_eq_decide.mpr
      constructor
      · rintro ⟨a, b⟩; exact ⟨by omega, b⟩
      · rintro ⟨a, b⟩
        rcases Nat.lt_or_ge j n with c | c
        · exact ⟨c, b⟩
        · rw [show j = n by omega] at b; exact absurd b hp
/-- the order: colour and open editions behind i of them; the i-th -/
def zp_os (σ : Nat → Nat) : Nat → Nat × Nat
  | 0 => (σ 4, zp_om σ (σ 0))
  | i + 1 => (zp_col σ (zp_nx σ (zp_os σ i).1 (zp_os σ i).2), (zp_os σ i).2 - 2 ^ zp_nx σ (zp_os σ i).1 (zp_os σ i).2)
def zp_on (σ : Nat → Nat) (i : Nat) : Nat := zp_nx σ (zp_os σ i).1 (zp_os σ i).2
def zp_oc (σ : Nat → Nat) : Nat := zp_nb (zp_om σ (σ 0)) 7
/-- the rises: lengths and how many, before k; the row of k behind o of them -/
def zp_ri (σ : Nat → Nat) (k : Nat) (p : (Nat → Nat) × (Nat → Nat)) : Nat → (Nat → Nat) × (Nat → Nat)
  | 0 => (va_up p.1 k 1, va_up p.2 k 1)
  | o + 1 => if σ (48 + 2 * k) ≤ σ (48 + 2 * o) ∨ (zp_ri σ k p o).1 o + 1 < (zp_ri σ k p o).1 k then zp_ri σ k p o else (va_up (zp_ri σ k p o).1 k ((zp_ri σ k p o).1 o + 1), va_up (zp_ri σ k p o).2 k (if (zp_ri σ k p o).1 k < (zp_ri σ k p o).1 o + 1 then (zp_ri σ k p o).2 o else (zp_ri σ k p o).2 k + (zp_ri σ k p o).2 o))
def zp_rs (σ : Nat → Nat) (p : (Nat → Nat) × (Nat → Nat)) : Nat → (Nat → Nat) × (Nat → Nat)
  | 0 => p
  | k + 1 => zp_ri σ k (zp_rs σ p k) k
def zp_most (σ : Nat → Nat) (p : (Nat → Nat) × (Nat → Nat)) : Nat → Nat
  | 0 => 0
  | k + 1 => max (zp_most σ p k) ((zp_rs σ p (k + 1)).1 k)
theorem zp_ri_out (σ : Nat → Nat) (k : Nat) (p : (Nat → Nat) × (Nat → Nat)) {j : Nat} (hj : j ≠ k) : ∀ o, (zp_ri σ k p o).1 j = p.1 j ∧ (zp_ri σ k p o).2 j = p.2 j := by
  intro o
  induction o with
  | zero => exact ⟨zk_up_ne hj, zk_up_ne hj⟩
  | succ o ih =>
    rw [zp_ri]
    split
    · exact ih
    · exact ⟨(zk_up_ne hj).trans ih.1, (zk_up_ne hj).trans ih.2⟩
theorem zp_ri_le (σ : Nat → Nat) (k : Nat) (p : (Nat → Nat) × (Nat → Nat)) (hp : ∀ j, j < k → p.1 j ≤ j + 1) : ∀ o, o ≤ k → (zp_ri σ k p o).1 k ≤ k + 1 := by
  intro o
  induction o with
  | zero => intro _; show va_up p.1 k 1 k ≤ _; rw [zk_up_eq]; omega
  | succ o ih =>
    intro ho
    rw [zp_ri]
    split
    · exact ih (by omega)
    · show va_up _ _ _ k ≤ _
      rw [zk_up_eq, (zp_ri_out σ k p (show o ≠ k by omega) o).1]
      have := hp o (by omega)
      omega
theorem zp_rs_le (σ : Nat → Nat) (p : (Nat → Nat) × (Nat → Nat)) : ∀ k j, j < k → (zp_rs σ p k).1 j ≤ j + 1 := by
  intro k
  induction k with
  | zero => intro j h; omega
  | succ k ih =>
    intro j hj
    rw [zp_rs]
    by_cases e : j = k
    · subst e
      exact zp_ri_le σ j _ (fun i hi => ih i hi) j (Nat.le_refl _)
    · rw [(zp_ri_out σ k _ e k).1]
      exact ih j (by omega)
theorem zp_most_le (σ : Nat → Nat) (p : (Nat → Nat) × (Nat → Nat)) (k : Nat) : zp_most σ p k ≤ k := by
  induction k with
  | zero => exact Nat.le_refl _
  | succ k ih =>
    rw [zp_most]
    have := zp_rs_le σ p (k + 1) k (by omega)
    omega
/-- how many of the first n rises are of length m -/
def zp_rc (p : (Nat → Nat) × (Nat → Nat)) (m : Nat) : Nat → Nat
  | 0 => if m = 0 then 1 else 0
  | k + 1 => zp_rc p m k + (if p.1 k = m then p.2 k else 0)
/-- the first n rises don't ask what the arrays held before -/
theorem zp_ri_irr (σ : Nat → Nat) (k : Nat) (p p' : (Nat → Nat) × (Nat → Nat)) (h : ∀ j, j < k → p.1 j = p'.1 j ∧ p.2 j = p'.2 j) : ∀ o, o ≤ k → ∀ j, j ≤ k → (zp_ri σ k p o).1 j = (zp_ri σ k p' o).1 j ∧ (zp_ri σ k p o).2 j = (zp_ri σ k p' o).2 j := by
  intro o
  induction o with
  | zero =>
    intro _ j hj
    show va_up p.1 k 1 j = va_up p'.1 k 1 j ∧ va_up p.2 k 1 j = va_up p'.2 k 1 j
    unfold va_up
    by_cases e : j = k
    · rw [if_pos e, if_pos e, if_pos e, if_pos e]; exact ⟨rfl, rfl⟩
    · rw [if_neg e, if_neg e, if_neg e, if_neg e]; exact h j (by omega)
  | succ o ih =>
    intro ho j hj
    obtain ⟨e1, e2⟩ := ih (by omega) o (by omega)
    obtain ⟨e3, e4⟩ := ih (by omega) k (by omega)
    obtain ⟨e5, e6⟩ := ih (by omega) j hj
    rw [zp_ri, zp_ri, e1, e3]
    split
    · exact ⟨e5, e6⟩
    · show va_up _ _ _ j = va_up _ _ _ j ∧ va_up _ _ _ j = va_up _ _ _ j
      unfold va_up
      by_cases e : j = k
      · rw [if_pos e, if_pos e, if_pos e, if_pos e, e2, e4]; exact ⟨rfl, rfl⟩
      · rw [if_neg e, if_neg e, if_neg e, if_neg e]; exact ⟨e5, e6⟩
theorem zp_rs_irr (σ : Nat → Nat) (p p' : (Nat → Nat) × (Nat → Nat)) : ∀ k j, j < k → (zp_rs σ p k).1 j = (zp_rs σ p' k).1 j ∧ (zp_rs σ p k).2 j = (zp_rs σ p' k).2 j := by
  intro k
  induction k with
  | zero => intro j h; omega
  | succ k ih =>
    intro j hj
    rw [zp_rs, zp_rs]
    exact zp_ri_irr σ k _ _ ih k (Nat.le_refl _) j (by omega)
theorem zp_most_irr (σ : Nat → Nat) (p p' : (Nat → Nat) × (Nat → Nat)) (k : Nat) : zp_most σ p k = zp_most σ p' k := by
  induction k with
  | zero => rfl
  | succ k ih => rw [zp_most, zp_most, ih, (zp_rs_irr σ p p' (k + 1) k (by omega)).1]
theorem zp_rc_irr (p p' : (Nat → Nat) × (Nat → Nat)) (m : Nat) : ∀ n, (∀ j, j < n → p.1 j = p'.1 j ∧ p.2 j = p'.2 j) → zp_rc p m n = zp_rc p' m n := by
  intro n
  induction n with
  | zero => intro _; rfl
  | succ n ih =>
    intro h
    rw [zp_rc, zp_rc, ih (fun j hj => h j (by omega)), (h n (by omega)).1, (h n (by omega)).2]
def zp_p0 : (Nat → Nat) × (Nat → Nat) := (fun _ => 0, fun _ => 0)
def zp_rise (σ : Nat → Nat) : Nat := zp_most σ zp_p0 (σ 1)
def zp_rcnt (σ : Nat → Nat) : Nat := zp_rc (zp_rs σ zp_p0 (σ 1)) (zp_rise σ) (σ 1)
/-- prints all: copies and state behind i of the order -/
def zp_pa (σ : Nat → Nat) : Nat → Nat × (Nat → Nat)
  | 0 => (0, σ)
  | i + 1 => if 0 < min (zp_shr σ (zp_on σ i)) ((zp_pa σ i).2 (8 + zp_col (zp_pa σ i).2 (zp_on σ i))) then ((zp_pa σ i).1 + min (zp_shr σ (zp_on σ i)) ((zp_pa σ i).2 (8 + zp_col (zp_pa σ i).2 (zp_on σ i))), zp_prints (zp_pa σ i).2 (zp_on σ i) (min (zp_shr σ (zp_on σ i)) ((zp_pa σ i).2 (8 + zp_col (zp_pa σ i).2 (zp_on σ i))))) else zp_pa σ i
def zo_printAll (σ : Nat → Nat) : Nat × Nat × (Nat → Nat) := (0, (zp_pa σ (zp_oc σ)).1, (zp_pa σ (zp_oc σ)).2)
