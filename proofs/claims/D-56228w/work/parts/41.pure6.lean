/-! PURE, part 6: printing all keeps the invariant -/
set_option maxRecDepth 100000
theorem zp_In_mono {B C : Nat} {σ : Nat → Nat} (h : zp_In B σ) (hBC : B ≤ C) : zp_In C σ := ⟨h.1, Nat.le_trans h.2.1 hBC, Nat.le_trans h.2.2.1 hBC, Nat.le_trans h.2.2.2.1 hBC, h.2.2.2.2⟩
def zp_sg (g : Nat → Nat) : Nat → Nat
  | 0 => 0
  | n + 1 => zp_sg g n + g n
def zp_sm (g : Nat → Nat) (mask : Nat) : Nat → Nat
  | 0 => 0
  | n + 1 => zp_sm g mask n + (if mask.testBit n = true then g n else 0)
theorem zp_sm_le (g : Nat → Nat) (mask n : Nat) : zp_sm g mask n ≤ zp_sg g n := by
  induction n with
  | zero => exact Nat.le_refl _
  | succ n ih =>
    rw [zp_sm, zp_sg]
    split <;> omega
theorem zp_sm_out {g : Nat → Nat} {mask k : Nat} (hm : mask < 128) (hk : k < 7) (hb : mask.testBit k = true) : ∀ n, n ≤ k → zp_sm g (mask - 2 ^ k) n = zp_sm g mask n := by
  intro n
  induction n with
  | zero => intro _; rfl
  | succ n ih =>
    intro hn
    rw [zp_sm, zp_sm, ih (by omega), zp_bt mask hm k hk hb n (by omega), decide_eq_true (show n ≠ k by omega), Bool.and_true]
theorem zp_sm_bit {g : Nat → Nat} {mask k : Nat} (hm : mask < 128) (hk : k < 7) (hb : mask.testBit k = true) : ∀ n, n ≤ 7 → k < n → zp_sm g mask n = g k + zp_sm g (mask - 2 ^ k) n := by
  intro n
  induction n with
  | zero => intro _ h; omega
  | succ n ih =>
    intro hn hkn
    rw [zp_sm, zp_sm, zp_bt mask hm k hk hb n (by omega)]
    by_cases e : n = k
    · subst e
      rw [zp_sm_out hm hk hb n (Nat.le_refl _), hb]
      simp
      omega
    · rw [decide_eq_true e, Bool.and_true, ih (by omega) (by omega)]
      omega
theorem zp_sg_up {g : Nat → Nat} {j v : Nat} : ∀ {n : Nat}, j < n → zp_sg (va_up g j v) n + g j = zp_sg g n + v := by
  intro n
  induction n with
  | zero => intro h; omega
  | succ n ih =>
    intro h
    rw [zp_sg, zp_sg]
    by_cases e : j = n
    · subst e
      have : ∀ m, m ≤ j → zp_sg (va_up g j v) m = zp_sg g m := by
        intro m
        induction m with
        | zero => intro _; rfl
        | succ m ihm => intro hm; rw [zp_sg, zp_sg, ihm (by omega), zk_up_ne (by omega)]
      rw [this j (Nat.le_refl _), zk_up_eq]
      omega
    · rw [zk_up_ne (by omega)]
      have := ih (show j < n by omega)
      omega
theorem zp_gv_sum (σ g : Nat → Nat) (h7 : σ 0 ≤ 7) (t : Nat) : zp_sg (zp_gv σ g t) (σ 0) ≤ t := by
  induction t with
  | zero =>
    have : ∀ m, m ≤ 7 → zp_sg (zp_gv σ g 0) m = 0 := by
      intro m
      induction m with
      | zero => intro _; rfl
      | succ m ihm => intro hm; rw [zp_sg, ihm (by omega)]; show 0 + zp_z7 g 7 m = 0; rw [zp_z7, if_pos (by omega)]
    rw [this _ h7]
    exact Nat.le_refl _
  | succ t ih =>
    rw [zp_gv]
    cases hz : zp_ns σ (zp_gv σ g t) (σ 0) with
    | none => show zp_sg (zp_gv σ g t) (σ 0) ≤ _; omega
    | some j =>
      show zp_sg (va_up (zp_gv σ g t) j (zp_gv σ g t j + 1)) (σ 0) ≤ _
      have := zp_sg_up (g := zp_gv σ g t) (v := zp_gv σ g t j + 1) (zp_ns_lt hz).1
      omega
theorem zp_gv_miss (σ g : Nat → Nat) (h7 : σ 0 ≤ 7) (t : Nat) : ∀ j, j < σ 0 → zp_gv σ g t j ≤ zp_miss σ j := by
  induction t with
  | zero => intro j hj; show zp_z7 g 7 j ≤ _; rw [zp_z7, if_pos (by omega)]; exact Nat.zero_le _
  | succ t ih =>
    intro j hj
    rw [zp_gv]
    cases hz : zp_ns σ (zp_gv σ g t) (σ 0) with
    | none => exact ih j hj
    | some i =>
      show va_up (zp_gv σ g t) i (zp_gv σ g t i + 1) j ≤ _
      have := (zp_ns_lt hz).2
      by_cases e : j = i
      · subst e; rw [zk_up_eq]; omega
      · rw [zk_up_ne e]; exact ih j hj
theorem zp_shr_miss {σ : Nat → Nat} (h7 : σ 0 ≤ 7) {j : Nat} (hj : j < σ 0) : zp_shr σ j ≤ zp_miss σ j := zp_gv_miss σ _ h7 _ j hj
theorem zp_prints_col {σ : Nat → Nat} {e k e' : Nat} (hc : σ (20 + 4 * e) < 10) : zp_col (zp_prints σ e k) e' = zp_col σ e' := by
  unfold zp_col
  rw [zp_pr_at hc, if_neg (by omega), if_neg (by omega), if_neg (by omega), if_neg (by omega), if_neg (by omega), if_neg (by omega)]
theorem zp_prints_miss {σ : Nat → Nat} {e k e' : Nat} (hc : σ (20 + 4 * e) < 10) (he : e' ≠ e) : zp_miss (zp_prints σ e k) e' = zp_miss σ e' := by
  unfold zp_miss
  rw [zp_pr_at hc, if_neg (by omega), if_neg (by omega), if_neg (by omega), if_neg (by omega), if_neg (by omega), if_neg (by omega), zp_pr_at hc, if_neg (by omega), if_neg (by omega), if_neg (by omega), if_neg (by omega), if_neg (by omega), if_neg (by omega)]
/-- what printing all keeps, i editions behind -/
def zp_PI (B : Nat) (σ : Nat → Nat) (i : Nat) : Prop := zp_In (B + 69 * i) (zp_pa σ i).2 ∧ (zp_pa σ i).2 0 = σ 0 ∧ (∀ e, e < σ 0 → zp_col (zp_pa σ i).2 e = zp_col σ e) ∧ zp_sm (zp_shr σ) (zp_os σ i).2 (σ 0) ≤ (zp_pa σ i).2 2 ∧ ∀ e, e < σ 0 → (zp_os σ i).2.testBit e = true → zp_miss (zp_pa σ i).2 e = zp_miss σ e
theorem zp_PI_use {B : Nat} {σ : Nat → Nat} (h : zp_In B σ) {i : Nat} (hi : i < zp_oc σ) (hp : zp_PI B σ i) : zp_on σ i < σ 0 ∧ zp_shr σ (zp_on σ i) ≤ (zp_pa σ i).2 2 ∧ zp_shr σ (zp_on σ i) ≤ zp_miss (zp_pa σ i).2 (zp_on σ i) := by
  obtain ⟨⟨k0, k1, k2, k3, k4, k5, k6, kw, ke, kp⟩, -⟩ := h
  obtain ⟨h1, h2⟩ := zp_on_ok k0 k4 (fun e he => (ke e he).1) hi
  obtain ⟨m1, m2, -⟩ := zp_os_ok k0 k4 (fun e he => (ke e he).1) i (by omega)
  have hlt : (zp_os σ i).2 < 128 := Nat.lt_of_lt_of_le m2 (Nat.pow_le_pow_right (by decide) k0)
  obtain ⟨-, -, -, h3, h4⟩ := hp
  refine ⟨h1, ?_, ?_⟩
  · rw [zp_sm_bit hlt (by omega) h2 (σ 0) k0 h1] at h3
    omega
  · rw [h4 _ h1 h2]
    exact zp_shr_miss k0 h1
theorem zp_PI_ok {B : Nat} {σ : Nat → Nat} (h : zp_In B σ) (hB : B + 483 ≤ 10000000) : ∀ i, i ≤ zp_oc σ → zp_PI B σ i := by
  have hh := h
  obtain ⟨⟨k0, k1, k2, k3, k4, k5, k6, kw, ke, kp⟩, -⟩ := hh
  have hc : ∀ e, e < σ 0 → zp_col σ e < 10 := fun e he => (ke e he).1
  intro i
  induction i with
  | zero =>
    intro _
    exact ⟨h, rfl, fun _ _ => rfl, Nat.le_trans (zp_sm_le _ _ _) (zp_gv_sum σ _ k0 _), fun _ _ _ => rfl⟩
  | succ i ih =>
    intro hi
    have hp := ih (by omega)
    obtain ⟨u1, u2, u3⟩ := zp_PI_use h (by omega) hp
    obtain ⟨p1, p2, p3, p4, p5⟩ := hp
    obtain ⟨v1, v2⟩ := zp_on_ok k0 k4 hc (show i < zp_oc σ by omega)
    obtain ⟨m1, m2, m3⟩ := zp_os_ok k0 k4 hc i (by omega)
    have hoc := zp_oc_le k0
    have hlt : (zp_os σ i).2 < 128 := Nat.lt_of_lt_of_le m2 (Nat.pow_le_pow_right (by decide) k0)
    have hsm := zp_sm_bit (g := zp_shr σ) hlt (show zp_on σ i < 7 by omega) v2 (σ 0) k0 u1
    have hcol : (zp_pa σ i).2 (20 + 4 * zp_on σ i) < 10 := by have := p3 _ u1; unfold zp_col at this; rw [this]; exact hc _ u1
    have hM : (zp_os σ (i + 1)).2 = (zp_os σ i).2 - 2 ^ zp_on σ i := rfl
    unfold zp_PI
    rw [hM, zp_pa]
    split
    · rename_i hk
      refine ⟨?_, ?_, ?_, ?_, ?_⟩
      · have := zp_In_prints (k := min (zp_shr σ (zp_on σ i)) ((zp_pa σ i).2 (8 + zp_col (zp_pa σ i).2 (zp_on σ i)))) p1 (by omega) (show zp_on σ i < (zp_pa σ i).2 0 by rw [p2]; exact u1) (by omega) (Nat.min_le_right _ _) (by omega)
        exact zp_In_mono this (by omega)
      · show zp_prints _ _ _ 0 = _
        rw [zp_pr_at hcol, if_neg (by omega), if_neg (by omega), if_neg (by omega), if_neg (by omega), if_neg (by omega), if_neg (by omega)]
        exact p2
      · intro e he
        show zp_col (zp_prints _ _ _) e = _
        rw [zp_prints_col hcol]
        exact p3 e he
      · show _ ≤ zp_prints _ _ _ 2
        rw [zp_pr_at hcol, if_neg (by omega), if_neg (by omega), if_neg (by omega), if_pos rfl]
        omega
      · intro e he hb
        rw [zp_bt _ hlt _ (by omega) v2 e (by omega)] at hb
        obtain ⟨b1, b2⟩ := (Bool.and_eq_true _ _).mp hb
        show zp_miss (zp_prints _ _ _) e = _
        rw [zp_prints_miss hcol (of_decide_eq_true b2)]
        exact p5 e he b1
    · refine ⟨zp_In_mono p1 (by omega), p2, p3, by omega, fun e he hb => ?_⟩
      rw [zp_bt _ hlt _ (by omega) v2 e (by omega)] at hb
      exact p5 e he ((Bool.and_eq_true _ _).mp hb).1
