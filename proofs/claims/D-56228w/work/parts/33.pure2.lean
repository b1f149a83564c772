/-! PURE, part 2: loops of the reference (zp_) -/
set_option maxRecDepth 100000
/-- ink of colour i in n hours -/
def zp_left (σ : Nat → Nat) (i : Nat) : Nat → Nat
  | 0 => σ (8 + i)
  | n + 1 => if (σ 3 + (n + 1)) % (i + 1) = 0 then zp_left σ i n / 2 else zp_left σ i n
theorem zp_left_le (σ : Nat → Nat) (i n : Nat) : zp_left σ i n ≤ σ (8 + i) := by
  induction n with
  | zero => exact Nat.le_refl _
  | succ n ih =>
    unfold zp_left
    split
    · exact Nat.le_trans (Nat.div_le_self _ _) ih
    · exact ih
theorem zp_left_mono (σ : Nat → Nat) (i n d : Nat) : zp_left σ i (n + d) ≤ zp_left σ i n := by
  induction d with
  | zero => exact Nat.le_refl _
  | succ d ih =>
    rw [show zp_left σ i (n + (d + 1)) = if (σ 3 + (n + d + 1)) % (i + 1) = 0 then zp_left σ i (n + d) / 2 else zp_left σ i (n + d) from rfl]
    split
    · exact Nat.le_trans (Nat.div_le_self _ _) ih
    · exact ih
theorem zp_left_half (σ : Nat → Nat) (i n : Nat) : zp_left σ i (n + (i + 1)) ≤ zp_left σ i n / 2 := by
  have hk : ∃ k, k ≤ i ∧ (σ 3 + (n + k + 1)) % (i + 1) = 0 := by
    refine ⟨i - (σ 3 + n) % (i + 1), by omega, ?_⟩
    have h1 : (σ 3 + n) % (i + 1) < i + 1 := Nat.mod_lt _ (by omega)
    have h2 := Nat.div_add_mod (σ 3 + n) (i + 1)
    have h3 : σ 3 + (n + (i - (σ 3 + n) % (i + 1)) + 1) = (i + 1) * ((σ 3 + n) / (i + 1) + 1) := by
      rw [Nat.mul_add, Nat.mul_one]
      omega
    rw [h3]
    exact Nat.mul_mod_right _ _
  obtain ⟨k, hk1, hk2⟩ := hk
  have h4 : zp_left σ i (n + k + 1) ≤ zp_left σ i n / 2 := by
    rw [zp_left, if_pos hk2]
    exact Nat.div_le_div_right (zp_left_mono σ i n k)
  have h5 := zp_left_mono σ i (n + k + 1) (i - k)
  rw [show n + k + 1 + (i - k) = n + (i + 1) by omega] at h5
  omega
theorem zp_left_0 {σ : Nat → Nat} {i n : Nat} (hi : i < 10) (hw : σ (8 + i) ≤ 999) (hn : 100 ≤ n) : zp_left σ i n = 0 := by
  have h : ∀ q, zp_left σ i (q * (i + 1)) ≤ 999 / 2 ^ q := by
    intro q
    induction q with
    | zero => simpa [zp_left] using hw
    | succ q ih =>
      have := zp_left_half σ i (q * (i + 1))
      rw [show q * (i + 1) + (i + 1) = (q + 1) * (i + 1) by rw [Nat.add_mul, Nat.one_mul]] at this
      rw [Nat.pow_succ, ← Nat.div_div_eq_div_mul]
      exact Nat.le_trans this (Nat.div_le_div_right ih)
  have h10 := h 10
  rw [show 999 / 2 ^ 10 = 0 by decide] at h10
  have := zp_left_mono σ i (10 * (i + 1)) (n - 10 * (i + 1))
  rw [show 10 * (i + 1) + (n - 10 * (i + 1)) = n by omega] at this
  omega
/-- the first k from which less than lim is left -/
def zp_hul (σ : Nat → Nat) (i lim : Nat) : Nat → Nat → Nat
  | 0, k => k
  | n + 1, k => if lim ≤ zp_left σ i k then zp_hul σ i lim n (k + 1) else k
/-- an hour, colour by colour: what is lost, the state -/
def zp_pc (p : Nat × (Nat → Nat)) : Nat → Nat × (Nat → Nat)
  | 0 => p
  | k + 1 => if (zp_pc p k).2 3 % (k + 1) = 0 then ((zp_pc p k).1 + ((zp_pc p k).2 (8 + k) - (zp_pc p k).2 (8 + k) / 2), va_up (zp_pc p k).2 (8 + k) ((zp_pc p k).2 (8 + k) / 2)) else zp_pc p k
def zp_ph (σ : Nat → Nat) : Nat → Nat × (Nat → Nat)
  | 0 => (0, σ)
  | n + 1 => zp_pc ((zp_ph σ n).1, va_up (zp_ph σ n).2 3 ((zp_ph σ n).2 3 + 1)) 10
def zp_pi (σ : Nat → Nat) (n : Nat) : Nat × (Nat → Nat) := ((zp_ph σ n).1, va_up (zp_ph σ n).2 3 ((zp_ph σ n).2 3 + 1))
def zp_pass (σ : Nat → Nat) (n : Nat) : Nat → Nat := va_up (zp_ph σ n).2 18 ((zp_ph σ n).2 18 + (zp_ph σ n).1)
theorem zp_pc_out (p : Nat × (Nat → Nat)) {j : Nat} : ∀ k, k ≤ 10 → (j < 8 ∨ 18 ≤ j) → (zp_pc p k).2 j = p.2 j := by
  intro k
  induction k with
  | zero => intro _ _; rfl
  | succ k ih =>
    intro hk hj
    unfold zp_pc
    split
    · show va_up _ _ _ j = _
      rw [zk_up_ne (by omega)]
      exact ih (by omega) hj
    · exact ih (by omega) hj
theorem zp_pc_le (p : Nat × (Nat → Nat)) (k j : Nat) : (zp_pc p k).2 j ≤ p.2 j := by
  induction k with
  | zero => exact Nat.le_refl _
  | succ k ih =>
    unfold zp_pc
    split
    · show va_up _ _ _ j ≤ _
      by_cases e : j = 8 + k
      · subst e
        rw [zk_up_eq]
        exact Nat.le_trans (Nat.div_le_self _ _) ih
      · rw [zk_up_ne e]
        exact ih
    · exact ih
theorem zp_ph_3 (σ : Nat → Nat) (n : Nat) : (zp_ph σ n).2 3 = σ 3 + n := by
  induction n with
  | zero => rfl
  | succ n ih =>
    unfold zp_ph
    rw [zp_pc_out _ 10 (by decide) (by decide)]
    show va_up (zp_ph σ n).2 3 ((zp_ph σ n).2 3 + 1) 3 = _
    rw [zk_up_eq, ih]
    omega
theorem zp_ph_le (σ : Nat → Nat) (n : Nat) {j : Nat} (hj : j ≠ 3) : (zp_ph σ n).2 j ≤ σ j := by
  induction n with
  | zero => exact Nat.le_refl _
  | succ n ih =>
    unfold zp_ph
    refine Nat.le_trans (zp_pc_le _ 10 j) ?_
    show va_up (zp_ph σ n).2 3 ((zp_ph σ n).2 3 + 1) j ≤ _
    rw [zk_up_ne hj]
    exact ih
theorem zp_ph_out (σ : Nat → Nat) (n : Nat) {j : Nat} (hj : j ≠ 3) (h : j < 8 ∨ 18 ≤ j) : (zp_ph σ n).2 j = σ j := by
  induction n with
  | zero => rfl
  | succ n ih =>
    unfold zp_ph
    rw [zp_pc_out _ 10 (by decide) h]
    show va_up (zp_ph σ n).2 3 ((zp_ph σ n).2 3 + 1) j = _
    rw [zk_up_ne hj]
    exact ih
def zo_pass (σ : Nat → Nat) (x : Int32) : Nat × Nat × (Nat → Nat) := if zk_in x 1 48 = true then (0, (zp_ph σ x.toNatClampNeg).1, zp_pass σ x.toNatClampNeg) else (1, 0, σ)
/-- how many editions miss more than k -/
def zp_ah (σ : Nat → Nat) (k : Nat) : Nat → Nat
  | 0 => 0
  | n + 1 => zp_ah σ k n + (if zp_miss σ k < zp_miss σ n ∨ (zp_miss σ n = zp_miss σ k ∧ n < k) then 1 else 0)
theorem zp_ah_le (σ : Nat → Nat) (k n : Nat) : zp_ah σ k n ≤ n := by
  induction n with
  | zero => exact Nat.le_refl _
  | succ n ih =>
    unfold zp_ah
    split <;> omega
/-- the edition with so many ahead -/
def zp_ebm (σ : Nat → Nat) (x : Int32) : Nat → Option Nat
  | 0 => none
  | k + 1 => match zp_ebm σ x k with
    | some j => some j
    | none => if nI (zp_ah σ k (σ 0)) = x then some k else none
/-- found at k: found for good -/
theorem zp_ebm_hit {σ : Nat → Nat} {x : Int32} {k : Nat} (h0 : zp_ebm σ x k = none) (h : nI (zp_ah σ k (σ 0)) = x) : ∀ d, zp_ebm σ x (k + 1 + d) = some k := by
  intro d
  induction d with
  | zero => show zp_ebm σ x (k + 1) = _; rw [zp_ebm, h0]; exact if_pos h
  | succ d ih => show zp_ebm σ x (k + 1 + d + 1) = _; rw [zp_ebm, ih]
theorem zp_ebm_miss {σ : Nat → Nat} {x : Int32} {k : Nat} (h0 : zp_ebm σ x k = none) (h : ¬ nI (zp_ah σ k (σ 0)) = x) : zp_ebm σ x (k + 1) = none := by rw [zp_ebm, h0]; exact if_neg h
/-- ink in the first k wells -/
def zp_sum (σ : Nat → Nat) : Nat → Nat
  | 0 => 0
  | k + 1 => zp_sum σ k + σ (8 + k)
def zp_runs (σ : Nat → Nat) : Nat → Nat
  | 0 => 0
  | k + 1 => zp_runs σ k + σ (20 + 4 * k + 1)
