/-! PURE, part 5: what holds of every state (zp_In), and that the operations keep it -/
set_option maxRecDepth 100000
/-- the invariant; B bounds the hours, minutes and the ink poured -/
def zp_In (B : Nat) (σ : Nat → Nat) : Prop := zp_Ok σ ∧ σ 3 ≤ B ∧ σ 5 ≤ B ∧ σ 6 ≤ B ∧ σ 6 = zp_sum σ 10 + σ 7 + σ 18
theorem zp_sum_congr {σ τ : Nat → Nat} : ∀ {n : Nat}, (∀ c, c < n → σ (8 + c) = τ (8 + c)) → zp_sum σ n = zp_sum τ n := by
  intro n
  induction n with
  | zero => intro _; rfl
  | succ n ih => intro h; rw [zp_sum, zp_sum, ih (fun c hc => h c (by omega)), h n (by omega)]
theorem zp_sum_up {σ : Nat → Nat} {i v : Nat} : ∀ {n : Nat}, i < n → zp_sum (va_up σ (8 + i) v) n + σ (8 + i) = zp_sum σ n + v := by
  intro n
  induction n with
  | zero => intro h; omega
  | succ n ih =>
    intro h
    rw [zp_sum, zp_sum]
    by_cases e : i = n
    · subst e
      rw [zk_up_eq, zp_sum_congr (τ := σ) (fun c hc => zk_up_ne (by omega))]
      omega
    · rw [zk_up_ne (by omega)]
      have := ih (show i < n by omega)
      omega
theorem zp_sum_le {σ : Nat → Nat} (h : ∀ c, c < 10 → σ (8 + c) ≤ 999) : ∀ n, n ≤ 10 → zp_sum σ n ≤ 999 * n := by
  intro n
  induction n with
  | zero => intro _; exact Nat.le_refl _
  | succ n ih =>
    intro hn
    rw [zp_sum]
    have := ih (by omega)
    have := h n (by omega)
    omega
theorem zp_sum_ge {σ : Nat → Nat} {i : Nat} : ∀ {n : Nat}, i < n → σ (8 + i) ≤ zp_sum σ n := by
  intro n
  induction n with
  | zero => intro h; omega
  | succ n ih =>
    intro h
    rw [zp_sum]
    by_cases e : i = n
    · subst e; omega
    · have := ih (show i < n by omega); omega
theorem zp_In_pours {B : Nat} {σ : Nat → Nat} {i j : Nat} (h : zp_In B σ) (hB : B + 999 ≤ 10000000) (hi : i < 10) (hj : j ≤ 999) (hs : σ (8 + i) + j ≤ 999) : zp_In (B + 999) (zp_pours σ i j) := by
  obtain ⟨⟨k0, k1, k2, k3, k4, k5, k6, kw, ke, kp⟩, h3, h5, h6, hc⟩ := h
  have e : ∀ z, zp_pours σ i j z = if z = 6 then σ 6 + j else if z = 8 + i then σ (8 + i) + j else σ z := by
    intro z
    unfold zp_pours va_up
    by_cases e6 : z = 6
    · rw [if_pos e6, if_pos e6, if_neg (by omega)]
    · rw [if_neg e6, if_neg e6]
  have eo : ∀ z, z ≠ 6 → z ≠ 8 + i → zp_pours σ i j z = σ z := fun z a b => by rw [e, if_neg a, if_neg b]
  have es := zp_sum_up (σ := σ) (i := i) (v := σ (8 + i) + j) (n := 10) hi
  have es2 : zp_sum (zp_pours σ i j) 10 = zp_sum (va_up σ (8 + i) (σ (8 + i) + j)) 10 := zp_sum_congr (fun c hc => by unfold zp_pours; rw [zk_up_ne (by omega)])
  refine ⟨⟨by rw [eo 0 (by omega) (by omega)]; exact k0, by rw [eo 1 (by omega) (by omega)]; exact k1, by rw [eo 2 (by omega) (by omega)]; exact k2, by rw [eo 3 (by omega) (by omega)]; exact k3, by rw [eo 4 (by omega) (by omega)]; exact k4, by rw [eo 5 (by omega) (by omega)]; exact k5, by rw [e, if_pos rfl]; omega, fun c hc => ?_, fun c hc => ?_, fun c hc => ?_⟩, by rw [eo 3 (by omega) (by omega)]; omega, by rw [eo 5 (by omega) (by omega)]; omega, by rw [e, if_pos rfl]; omega, ?_⟩
  · rw [e, if_neg (by omega)]
    split
    · exact hs
    · exact kw c hc
  · rw [eo 0 (by omega) (by omega)] at hc
    rw [eo _ (by omega) (by omega), eo _ (by omega) (by omega), eo _ (by omega) (by omega)]
    exact ke c hc
  · rw [eo 1 (by omega) (by omega)] at hc
    rw [eo _ (by omega) (by omega)]
    exact kp c hc
  · rw [es2, e, if_pos rfl, eo 7 (by omega) (by omega), eo 18 (by omega) (by omega)]
    omega
/-- a state that differs from σ at none of the accounts, wells, editions, proofs -/
theorem zp_In_of {B : Nat} {σ τ : Nat → Nat} (h : zp_In B σ) (h0 : τ 0 ≤ 7) (h1 : τ 1 ≤ 12) (h2 : τ 2 ≤ 9999) (e3 : τ 3 = σ 3) (e4 : τ 4 < 10) (e5 : τ 5 = σ 5) (e6 : τ 6 = σ 6) (e7 : τ 7 = σ 7) (e18 : τ 18 = σ 18) (ew : ∀ c, c < 10 → τ (8 + c) = σ (8 + c))
    (he : ∀ e, e < τ 0 → τ (20 + 4 * e) < 10 ∧ 1 ≤ τ (20 + 4 * e + 1) ∧ τ (20 + 4 * e + 1) ≤ 50 ∧ τ (20 + 4 * e + 2) ≤ τ (20 + 4 * e + 1)) (hp : ∀ k, k < τ 1 → τ (48 + 2 * k) ≤ 99) : zp_In B τ := by
  obtain ⟨⟨k0, k1, k2, k3, k4, k5, k6, kw, ke, kp⟩, h3, h5, h6, hc⟩ := h
  refine ⟨⟨h0, h1, h2, by rw [e3]; exact k3, e4, by rw [e5]; exact k5, by rw [e6]; exact k6, fun c hc => by rw [ew c hc]; exact kw c hc, he, hp⟩, by rw [e3]; exact h3, by rw [e5]; exact h5, by rw [e6]; exact h6, ?_⟩
  rw [e6, e7, e18, zp_sum_congr ew]
  exact hc
theorem zp_In_buys {B : Nat} {σ : Nat → Nat} {i : Nat} (h : zp_In B σ) (hs : σ 2 + i ≤ 9999) : zp_In B (zp_buys σ i) := by
  have h9 := h
  obtain ⟨⟨k0, k1, k2, k3, k4, k5, k6, kw, ke, kp⟩, -⟩ := h9
  have eo : ∀ z, z ≠ 2 → zp_buys σ i z = σ z := fun z a => zk_up_ne a
  refine zp_In_of h (by rw [eo 0 (by omega)]; exact k0) (by rw [eo 1 (by omega)]; exact k1) (by unfold zp_buys; rw [zk_up_eq]; exact hs) (eo 3 (by omega)) (by rw [eo 4 (by omega)]; exact k4) (eo 5 (by omega)) (eo 6 (by omega)) (eo 7 (by omega)) (eo 18 (by omega)) (fun c hc => eo _ (by omega)) (fun e he => ?_) (fun k hk => ?_)
  · rw [eo 0 (by omega)] at he
    rw [eo _ (by omega), eo _ (by omega), eo _ (by omega)]
    exact ke e he
  · rw [eo 1 (by omega)] at hk
    rw [eo _ (by omega)]
    exact kp k hk
theorem zp_adds_at {σ : Nat → Nat} {i j : Nat} (z : Nat) : zp_adds σ i j z = if z = 0 then σ 0 + 1 else if z = 20 + 4 * σ 0 + 2 then 0 else if z = 20 + 4 * σ 0 + 1 then j else if z = 20 + 4 * σ 0 then i else σ z := rfl
theorem zp_In_adds {B : Nat} {σ : Nat → Nat} {i j : Nat} (h : zp_In B σ) (hi : i ≤ 9) (hj1 : 1 ≤ j) (hj : j ≤ 50) (h7 : σ 0 ≠ 7) : zp_In B (zp_adds σ i j) := by
  have h9 := h
  obtain ⟨⟨k0, k1, k2, k3, k4, k5, k6, kw, ke, kp⟩, -⟩ := h9
  have eo : ∀ z, z ≠ 0 → (z < 20 + 4 * σ 0 ∨ 20 + 4 * σ 0 + 3 ≤ z) → zp_adds σ i j z = σ z := fun z a q => by rw [zp_adds_at, if_neg a, if_neg (by omega), if_neg (by omega), if_neg (by omega)]
  have e0 : zp_adds σ i j 0 = σ 0 + 1 := rfl
  refine zp_In_of h (by rw [e0]; omega) (by rw [eo 1 (by omega) (by omega)]; exact k1) (by rw [eo 2 (by omega) (by omega)]; exact k2) (eo 3 (by omega) (by omega)) (by rw [eo 4 (by omega) (by omega)]; exact k4) (eo 5 (by omega) (by omega)) (eo 6 (by omega) (by omega)) (eo 7 (by omega) (by omega)) (eo 18 (by omega) (by omega)) (fun c hc => eo _ (by omega) (by omega)) (fun e he => ?_) (fun k hk => ?_)
  · rw [e0] at he
    by_cases q : e = σ 0
    · subst q
      rw [zp_adds_at, if_neg (by omega), if_neg (by omega), if_neg (by omega), if_pos rfl, zp_adds_at, if_neg (by omega), if_neg (by omega), if_pos rfl, zp_adds_at, if_neg (by omega), if_pos rfl]
      omega
    · rw [eo _ (by omega) (by omega), eo _ (by omega) (by omega), eo _ (by omega) (by omega)]
      exact ke e (by omega)
  · rw [eo 1 (by omega) (by omega)] at hk
    rw [eo _ (by omega) (by omega)]
    exact kp k hk
theorem zp_In_rem {B : Nat} {σ : Nat → Nat} {i : Nat} (h : zp_In B σ) (hi : i < σ 0) : zp_In B (zp_rem σ i) := by
  have h9 := h
  obtain ⟨⟨k0, k1, k2, k3, k4, k5, k6, kw, ke, kp⟩, -⟩ := h9
  have eo : ∀ z, z ≠ 0 → (z < 20 ∨ 48 ≤ z) → zp_rem σ i z = σ z := fun z a q => by unfold zp_rem zp_sh; rw [if_neg (by omega), zk_up_ne a]
  have e0 : zp_rem σ i 0 = σ 0 - 1 := by unfold zp_rem zp_sh; rw [if_neg (by omega), zk_up_eq]
  have ee : ∀ e o, o < 4 → e < σ 0 - 1 → ∃ e', e' < σ 0 ∧ zp_rem σ i (20 + 4 * e + o) = σ (20 + 4 * e' + o) ∧ e' = if e < i then e else e + 1 := by
    intro e o ho he
    by_cases q : e < i
    · refine ⟨e, by omega, ?_, (if_pos q).symm⟩
      unfold zp_rem zp_sh
      rw [if_neg (by omega), zk_up_ne (by omega)]
    · refine ⟨e + 1, by omega, ?_, (if_neg q).symm⟩
      unfold zp_rem zp_sh
      rw [if_pos (by omega), zk_up_ne (by omega)]
      exact congrArg σ (by omega)
  refine zp_In_of h (by rw [e0]; omega) (by rw [eo 1 (by omega) (by omega)]; exact k1) (by rw [eo 2 (by omega) (by omega)]; exact k2) (eo 3 (by omega) (by omega)) (by rw [eo 4 (by omega) (by omega)]; exact k4) (eo 5 (by omega) (by omega)) (eo 6 (by omega) (by omega)) (eo 7 (by omega) (by omega)) (eo 18 (by omega) (by omega)) (fun c hc => eo _ (by omega) (by omega)) (fun e he => ?_) (fun k hk => ?_)
  · rw [e0] at he
    obtain ⟨a, ha, ea, qa⟩ := ee e 0 (by omega) he
    obtain ⟨a1, ha1, ea1, qa1⟩ := ee e 1 (by omega) he
    obtain ⟨a2, ha2, ea2, qa2⟩ := ee e 2 (by omega) he
    obtain rfl : a1 = a := by rw [qa1, qa]
    obtain rfl : a2 = a1 := by rw [qa2, qa1]
    rw [show 20 + 4 * e = 20 + 4 * e + 0 from rfl, ea, ea1, ea2]
    exact ke a2 ha
  · rw [eo 1 (by omega) (by omega)] at hk
    rw [eo _ (by omega) (by omega)]
    exact kp k hk
theorem zp_In_drop {B : Nat} {σ : Nat → Nat} {i : Nat} (h : zp_In B σ) (hi : i < σ 1) : zp_In B (zp_drop σ i) := by
  have h9 := h
  obtain ⟨⟨k0, k1, k2, k3, k4, k5, k6, kw, ke, kp⟩, -⟩ := h9
  have eo : ∀ z, z ≠ 1 → z < 48 → zp_drop σ i z = σ z := fun z a q => by unfold zp_drop zp_sh; rw [if_neg (by omega), zk_up_ne a]
  have e1 : zp_drop σ i 1 = σ 1 - 1 := by unfold zp_drop zp_sh; rw [if_neg (by omega), zk_up_eq]
  refine zp_In_of h (by rw [eo 0 (by omega) (by omega)]; exact k0) (by rw [e1]; omega) (by rw [eo 2 (by omega) (by omega)]; exact k2) (eo 3 (by omega) (by omega)) (by rw [eo 4 (by omega) (by omega)]; exact k4) (eo 5 (by omega) (by omega)) (eo 6 (by omega) (by omega)) (eo 7 (by omega) (by omega)) (eo 18 (by omega) (by omega)) (fun c hc => eo _ (by omega) (by omega)) (fun e he => ?_) (fun k hk => ?_)
  · rw [eo 0 (by omega) (by omega)] at he
    rw [eo _ (by omega) (by omega), eo _ (by omega) (by omega), eo _ (by omega) (by omega)]
    exact ke e he
  · rw [e1] at hk
    unfold zp_drop zp_sh
    split
    · rw [zk_up_ne (by omega), show 48 + 2 * k + 2 = 48 + 2 * (k + 1) by omega]
      exact kp (k + 1) (by omega)
    · rw [zk_up_ne (by omega)]
      exact kp k (by omega)
theorem zp_In_proves {B : Nat} {σ : Nat → Nat} {i : Nat} (h : zp_In B σ) (hi : i ≤ 99) (h12 : σ 1 ≠ 12) : zp_In B (zp_proves σ i) := by
  have h9 := h
  obtain ⟨⟨k0, k1, k2, k3, k4, k5, k6, kw, ke, kp⟩, -⟩ := h9
  have ea : ∀ z, zp_proves σ i z = if z = 1 then σ 1 + 1 else if z = 48 + 2 * σ 1 + 1 then σ 3 else if z = 48 + 2 * σ 1 then i else σ z := fun z => rfl
  have eo : ∀ z, z ≠ 1 → z < 48 + 2 * σ 1 → zp_proves σ i z = σ z := fun z a q => by rw [ea, if_neg a, if_neg (by omega), if_neg (by omega)]
  have e1 : zp_proves σ i 1 = σ 1 + 1 := rfl
  refine zp_In_of h (by rw [eo 0 (by omega) (by omega)]; exact k0) (by rw [e1]; omega) (by rw [eo 2 (by omega) (by omega)]; exact k2) (eo 3 (by omega) (by omega)) (by rw [eo 4 (by omega) (by omega)]; exact k4) (eo 5 (by omega) (by omega)) (eo 6 (by omega) (by omega)) (eo 7 (by omega) (by omega)) (eo 18 (by omega) (by omega)) (fun c hc => eo _ (by omega) (by omega)) (fun e he => ?_) (fun k hk => ?_)
  · rw [eo 0 (by omega) (by omega)] at he
    rw [eo _ (by omega) (by omega), eo _ (by omega) (by omega), eo _ (by omega) (by omega)]
    exact ke e he
  · rw [e1] at hk
    by_cases q : k = σ 1
    · subst q
      rw [ea, if_neg (by omega), if_neg (by omega), if_pos rfl]
      exact hi
    · rw [eo _ (by omega) (by omega)]
      exact kp k (by omega)
theorem zp_pc_sum (p : Nat × (Nat → Nat)) : ∀ k, k ≤ 10 → (zp_pc p k).1 + zp_sum (zp_pc p k).2 10 = p.1 + zp_sum p.2 10 := by
  intro k
  induction k with
  | zero => intro _; rfl
  | succ k ih =>
    intro hk
    have := ih (by omega)
    rw [zp_pc]
    split
    · have e := zp_sum_up (σ := (zp_pc p k).2) (i := k) (v := (zp_pc p k).2 (8 + k) / 2) (n := 10) (by omega)
      show (zp_pc p k).1 + ((zp_pc p k).2 (8 + k) - (zp_pc p k).2 (8 + k) / 2) + zp_sum (va_up (zp_pc p k).2 (8 + k) ((zp_pc p k).2 (8 + k) / 2)) 10 = _
      omega
    · exact this
theorem zp_ph_sum (σ : Nat → Nat) (n : Nat) : (zp_ph σ n).1 + zp_sum (zp_ph σ n).2 10 = zp_sum σ 10 := by
  induction n with
  | zero => exact Nat.zero_add _
  | succ n ih =>
    rw [zp_ph, zp_pc_sum _ 10 (Nat.le_refl _), ← ih]
    show (zp_ph σ n).1 + zp_sum (va_up (zp_ph σ n).2 3 ((zp_ph σ n).2 3 + 1)) 10 = _
    rw [zp_sum_congr (τ := (zp_ph σ n).2) (fun c hc => zk_up_ne (by omega))]
theorem zp_In_pass {B : Nat} {σ : Nat → Nat} {n : Nat} (h : zp_In B σ) (hn : n ≤ 48) (hB : B + 48 ≤ 10000000) : zp_In (B + 48) (zp_pass σ n) := by
  obtain ⟨⟨k0, k1, k2, k3, k4, k5, k6, kw, ke, kp⟩, h3, h5, h6, hc⟩ := h
  have eo : ∀ z, z ≠ 3 → z ≠ 18 → (z < 8 ∨ 18 ≤ z) → zp_pass σ n z = σ z := fun z a q r => by unfold zp_pass; rw [zk_up_ne q, zp_ph_out σ n a r]
  have e3 : zp_pass σ n 3 = σ 3 + n := by unfold zp_pass; rw [zk_up_ne (by omega), zp_ph_3]
  have e18 : zp_pass σ n 18 = σ 18 + (zp_ph σ n).1 := by unfold zp_pass; rw [zk_up_eq, zp_ph_out σ n (by omega) (by omega)]
  have ew : ∀ c, c < 10 → zp_pass σ n (8 + c) = (zp_ph σ n).2 (8 + c) := fun c hc => by unfold zp_pass; rw [zk_up_ne (by omega)]
  have es := zp_ph_sum σ n
  refine ⟨⟨by rw [eo 0 (by omega) (by omega) (by omega)]; exact k0, by rw [eo 1 (by omega) (by omega) (by omega)]; exact k1, by rw [eo 2 (by omega) (by omega) (by omega)]; exact k2, by rw [e3]; omega, by rw [eo 4 (by omega) (by omega) (by omega)]; exact k4, by rw [eo 5 (by omega) (by omega) (by omega)]; exact k5, by rw [eo 6 (by omega) (by omega) (by omega)]; exact k6, fun c hc => ?_, fun e he => ?_, fun k hk => ?_⟩, by rw [e3]; omega, by rw [eo 5 (by omega) (by omega) (by omega)]; omega, by rw [eo 6 (by omega) (by omega) (by omega)]; omega, ?_⟩
  · rw [ew c hc]
    exact Nat.le_trans (zp_ph_le σ n (by omega)) (kw c hc)
  · rw [eo 0 (by omega) (by omega) (by omega)] at he
    rw [eo _ (by omega) (by omega) (by omega), eo _ (by omega) (by omega) (by omega), eo _ (by omega) (by omega) (by omega)]
    exact ke e he
  · rw [eo 1 (by omega) (by omega) (by omega)] at hk
    rw [eo _ (by omega) (by omega) (by omega)]
    exact kp k hk
  · rw [eo 6 (by omega) (by omega) (by omega), eo 7 (by omega) (by omega) (by omega), e18, zp_sum_congr ew]
    omega
theorem zp_pr_at {σ : Nat → Nat} {e k : Nat} (hc : σ (20 + 4 * e) < 10) (z : Nat) : zp_prints σ e k z = if z = 20 + 4 * e + 2 then σ (20 + 4 * e + 2) + k else if z = 7 then σ 7 + k else if z = 8 + σ (20 + 4 * e) then σ (8 + σ (20 + 4 * e)) - k else if z = 2 then σ 2 - k else if z = 4 then σ (20 + 4 * e) else if z = 5 then σ 5 + (zp_change (σ 4) (σ (20 + 4 * e)) + k) else σ z := by
  generalize hcl : σ (20 + 4 * e) = cl at hc
  unfold zp_prints
  rw [hcl]
  unfold va_up
  repeat' split
  all_goals first | omega | rfl
theorem zp_In_prints {B : Nat} {σ : Nat → Nat} {e k : Nat} (h : zp_In B σ) (hB : B + 69 ≤ 10000000) (he : e < σ 0) (hk2 : k ≤ σ 2) (hkw : k ≤ σ (8 + σ (20 + 4 * e))) (hkm : k ≤ zp_miss σ e) : zp_In (B + 69) (zp_prints σ e k) := by
  obtain ⟨⟨k0, k1, k2, k3, k4, k5, k6, kw, ke, kp⟩, h3, h5, h6, hc⟩ := h
  obtain ⟨q1, q2, q3, q4⟩ := ke e he
  have ea := zp_pr_at (k := k) q1
  have hch := zp_change_le k4 q1
  unfold zp_miss at hkm
  have eo : ∀ z, z ≠ 20 + 4 * e + 2 → z ≠ 7 → z ≠ 8 + σ (20 + 4 * e) → z ≠ 2 → z ≠ 4 → z ≠ 5 → zp_prints σ e k z = σ z := fun z a1 a2 a3 a4 a5 a6 => by rw [ea, if_neg a1, if_neg a2, if_neg a3, if_neg a4, if_neg a5, if_neg a6]
  have e5 : zp_prints σ e k 5 = σ 5 + (zp_change (σ 4) (σ (20 + 4 * e)) + k) := by rw [ea, if_neg (by omega), if_neg (by omega), if_neg (by omega), if_neg (by omega), if_neg (by omega), if_pos rfl]
  have es := zp_sum_up (σ := σ) (i := σ (20 + 4 * e)) (v := σ (8 + σ (20 + 4 * e)) - k) (n := 10) q1
  have es2 : zp_sum (zp_prints σ e k) 10 = zp_sum (va_up σ (8 + σ (20 + 4 * e)) (σ (8 + σ (20 + 4 * e)) - k)) 10 := zp_sum_congr (fun c hc => by
    rw [ea, if_neg (by omega), if_neg (by omega)]
    unfold va_up
    split
    · rfl
    · rw [if_neg (by omega), if_neg (by omega), if_neg (by omega)])
  have e0 : zp_prints σ e k 0 = σ 0 := eo 0 (by omega) (by omega) (by omega) (by omega) (by omega) (by omega)
  have e1 : zp_prints σ e k 1 = σ 1 := eo 1 (by omega) (by omega) (by omega) (by omega) (by omega) (by omega)
  have e3 : zp_prints σ e k 3 = σ 3 := eo 3 (by omega) (by omega) (by omega) (by omega) (by omega) (by omega)
  have e6 : zp_prints σ e k 6 = σ 6 := eo 6 (by omega) (by omega) (by omega) (by omega) (by omega) (by omega)
  have e18 : zp_prints σ e k 18 = σ 18 := eo 18 (by omega) (by omega) (by omega) (by omega) (by omega) (by omega)
  have e2 : zp_prints σ e k 2 = σ 2 - k := by rw [ea, if_neg (by omega), if_neg (by omega), if_neg (by omega), if_pos rfl]
  have e4 : zp_prints σ e k 4 = σ (20 + 4 * e) := by rw [ea, if_neg (by omega), if_neg (by omega), if_neg (by omega), if_neg (by omega), if_pos rfl]
  have e7 : zp_prints σ e k 7 = σ 7 + k := by rw [ea, if_neg (by omega), if_pos rfl]
  refine ⟨⟨by omega, by omega, by omega, by omega, by omega, by omega, by omega, fun c hc => ?_, fun c hc => ?_, fun c hc => ?_⟩, by omega, by omega, by omega, ?_⟩
  · rw [ea, if_neg (by omega), if_neg (by omega)]
    split
    · have := kw _ q1; omega
    · rw [if_neg (by omega), if_neg (by omega), if_neg (by omega)]
      exact kw c hc
  · rw [e0] at hc
    obtain ⟨r1, r2, r3, r4⟩ := ke c hc
    rw [eo (20 + 4 * c) (by omega) (by omega) (by omega) (by omega) (by omega) (by omega), eo (20 + 4 * c + 1) (by omega) (by omega) (by omega) (by omega) (by omega) (by omega)]
    refine ⟨r1, r2, r3, ?_⟩
    by_cases q : c = e
    · subst q
      rw [ea, if_pos rfl]
      omega
    · rw [eo (20 + 4 * c + 2) (by omega) (by omega) (by omega) (by omega) (by omega) (by omega)]
      exact r4
  · rw [e1] at hc
    rw [eo (48 + 2 * c) (by omega) (by omega) (by omega) (by omega) (by omega) (by omega)]
    exact kp c hc
  · rw [e6, e7, e18, es2]
    omega
