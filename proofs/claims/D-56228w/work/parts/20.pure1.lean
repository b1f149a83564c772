/-! PURE: what the reference's methods compute (zp_) -/
/-- from's 72 cells from i on, c of them copied to to's j on -/
def zp_cp (g k : Nat → Nat) (i j c : Nat) : Nat → Nat := fun z => if j ≤ z ∧ z < j + c then g (i + (z - j)) else k z
theorem zp_cp0 (g k : Nat → Nat) (i j : Nat) : zp_cp g k i j 0 = k := by
  funext z
  exact if_neg (by omega)
theorem zp_cp1 (g k : Nat → Nat) (i j c : Nat) : va_up (zp_cp g k i j c) (j + c) (g (i + c)) = zp_cp g k i j (c + 1) := by
  funext z
  unfold va_up zp_cp
  by_cases h : z = j + c
  · subst h
    rw [if_pos rfl, if_pos (by omega), show i + (j + c - j) = i + c by omega]
  · rw [if_neg h]
    by_cases h2 : j ≤ z ∧ z < j + c
    · rw [if_pos h2, if_pos (by omega)]
    · rw [if_neg h2, if_neg (by omega)]
theorem zp_cp_in {g k : Nat → Nat} {i j c z : Nat} (h : j ≤ z) (h2 : z < j + c) : zp_cp g k i j c z = g (i + (z - j)) := if_pos ⟨h, h2⟩
theorem zp_cp_out {g k : Nat → Nat} {i j c z : Nat} (h : z < j ∨ j + c ≤ z) : zp_cp g k i j c z = k z := if_neg (by omega)
/-- the history pushed down: its places 72.. to 0.., n blocks of 72 -/
def zp_down (g : Nat → Nat) : Nat → Nat → Nat
  | 0 => g
  | n + 1 => zp_cp (zp_down g n) (zp_down g n) (72 * (n + 1)) (72 * n) 72
def zp_pour (σ : Nat → Nat) (x u : Int32) : Nat := if (zk_in x 0 9 && zk_in u 1 999) = true then (if 999 < σ (8 + x.toNatClampNeg) + u.toNatClampNeg then 2 else 0) else 1
def zp_pours (σ : Nat → Nat) (c u : Nat) : Nat → Nat := va_up (va_up σ (8 + c) (σ (8 + c) + u)) 6 (va_up σ (8 + c) (σ (8 + c) + u) 6 + u)
/-- depth and history behind a commit; n: what lay before -/
def zp_cd (d : Nat) : Nat := if d = 8 then 8 else d + 1
def zp_ch (d : Nat) (H n : Nat → Nat) : Nat → Nat := if d = 8 then zp_cp n (zp_down H 7) 0 504 72 else zp_cp n H 0 (72 * d) 72
theorem zp_cp_cp {n n' H : Nat → Nat} {j : Nat} : zp_cp (zp_cp n n' 0 0 72) H 0 j 72 = zp_cp n H 0 j 72 := by
  funext z
  by_cases h : j ≤ z ∧ z < j + 72
  · rw [zp_cp_in h.1 h.2, zp_cp_in h.1 h.2, zp_cp_in (by omega) (by omega), Nat.sub_zero, Nat.zero_add]
  · rw [zp_cp_out (by omega), zp_cp_out (by omega)]
theorem zp_ch_cp {d : Nat} {n n' H : Nat → Nat} : zp_ch d H (zp_cp n n' 0 0 72) = zp_ch d H n := by
  unfold zp_ch
  rw [zp_cp_cp, zp_cp_cp]
def zp_buy (σ : Nat → Nat) (x : Int32) : Nat := if zk_in x 1 999 = true then (if 9999 < σ 2 + x.toNatClampNeg then 2 else 0) else 1
def zp_buys (σ : Nat → Nat) (k : Nat) : Nat → Nat := va_up σ 2 (σ 2 + k)
def zp_add (σ : Nat → Nat) (x u : Int32) : Nat := if (zk_in x 0 9 && zk_in u 1 50) = true then (if σ 0 = 7 then 2 else 0) else 1
def zp_adds (σ : Nat → Nat) (c k : Nat) : Nat → Nat :=
  va_up (va_up (va_up (va_up σ (20 + 4 * σ 0) c) (20 + 4 * σ 0 + 1) k) (20 + 4 * σ 0 + 2) 0) 0 (σ 0 + 1)
/-- shifted down by d between k0 and k1 -/
def zp_sh (d : Nat) (g : Nat → Nat) (k0 k1 : Nat) : Nat → Nat := fun z => if k0 ≤ z ∧ z < k1 then g (z + d) else g z
theorem zp_sh0 (d : Nat) (g : Nat → Nat) (k0 : Nat) : zp_sh d g k0 k0 = g := by
  funext z
  exact if_neg (by omega)
theorem zp_sh1 (d : Nat) (g : Nat → Nat) {k0 k : Nat} (h : k0 ≤ k) : va_up (zp_sh d g k0 k) k (g (k + d)) = zp_sh d g k0 (k + 1) := by
  funext z
  unfold va_up zp_sh
  by_cases e : z = k
  · subst e
    rw [if_pos rfl, if_pos (by omega)]
  · rw [if_neg e]
    by_cases h2 : k0 ≤ z ∧ z < k
    · rw [if_pos h2, if_pos (by omega)]
    · rw [if_neg h2, if_neg (by omega)]
theorem zp_sh_hi {d : Nat} {g : Nat → Nat} {k0 k z : Nat} (h : k ≤ z) : zp_sh d g k0 k z = g z := if_neg (by omega)
theorem zp_sh_lo {d : Nat} {g : Nat → Nat} {k0 k z : Nat} (h : z < k0) : zp_sh d g k0 k z = g z := if_neg (by omega)
def zp_rem (σ : Nat → Nat) (e : Nat) : Nat → Nat := zp_sh 4 (va_up σ 0 (σ 0 - 1)) (20 + 4 * e) (20 + 4 * (σ 0 - 1))
def zp_drop (σ : Nat → Nat) (e : Nat) : Nat → Nat := zp_sh 2 (va_up σ 1 (σ 1 - 1)) (48 + 2 * e) (48 + 2 * (σ 1 - 1))
def zp_change (x y : Nat) : Nat := if x ≤ y then y - x else 2 * (x - y) + 1
def zp_miss (σ : Nat → Nat) (e : Nat) : Nat := σ (20 + 4 * e + 1) - σ (20 + 4 * e + 2)
def zp_col (σ : Nat → Nat) (e : Nat) : Nat := σ (20 + 4 * e)
def zp_prints (σ : Nat → Nat) (e k : Nat) : Nat → Nat :=
  let cl := σ (20 + 4 * e)
  let s1 := va_up σ 5 (σ 5 + (zp_change (σ 4) cl + k))
  let s2 := va_up s1 4 cl
  let s3 := va_up s2 2 (s2 2 - k)
  let s4 := va_up s3 (8 + cl) (s3 (8 + cl) - k)
  let s5 := va_up s4 7 (s4 7 + k)
  va_up s5 (20 + 4 * e + 2) (s5 (20 + 4 * e + 2) + k)
def zp_print (σ : Nat → Nat) (x : Int32) : Nat := if zk_ix x (σ 0) = true then (if zp_miss σ x.toNatClampNeg = 0 then 2 else if σ 2 = 0 ∨ σ (8 + zp_col σ x.toNatClampNeg) = 0 then 3 else 0) else 1
def zp_copies (σ : Nat → Nat) (e : Nat) : Nat := min (zp_miss σ e) (min (σ 2) (σ (8 + zp_col σ e)))
def zp_prove (σ : Nat → Nat) (x : Int32) : Nat := if zk_in x 0 99 = true then (if σ 1 = 12 then 2 else 0) else 1
def zp_proves (σ : Nat → Nat) (k : Nat) : Nat → Nat := va_up (va_up (va_up σ (48 + 2 * σ 1) k) (48 + 2 * σ 1 + 1) (σ 3)) 1 (σ 1 + 1)
theorem zk_up_ne {α : Type} {f : Nat → α} {k j : Nat} {v : α} (h : j ≠ k) : va_up f k v j = f j := if_neg h
theorem zk_up_eq {α : Type} {f : Nat → α} {k : Nat} {v : α} : va_up f k v k = v := if_pos rfl
/-- what a state of the reference is: counts, bounds -/
def zp_Ok (σ : Nat → Nat) : Prop := σ 0 ≤ 7 ∧ σ 1 ≤ 12 ∧ σ 2 ≤ 9999 ∧ σ 3 ≤ 10000000 ∧ σ 4 < 10 ∧ σ 5 ≤ 10000000 ∧ σ 6 ≤ 10000000 ∧ (∀ c, c < 10 → σ (8 + c) ≤ 999) ∧ (∀ e, e < σ 0 → σ (20 + 4 * e) < 10 ∧ 1 ≤ σ (20 + 4 * e + 1) ∧ σ (20 + 4 * e + 1) ≤ 50 ∧ σ (20 + 4 * e + 2) ≤ σ (20 + 4 * e + 1)) ∧ (∀ k, k < σ 1 → σ (48 + 2 * k) ≤ 99)
theorem zp_pour_le {σ : Nat → Nat} {x u : Int32} : zp_pour σ x u < 2 ^ 31 := by
  unfold zp_pour
  repeat' split
  all_goals decide
theorem zp_buy_le {σ : Nat → Nat} {x : Int32} : zp_buy σ x < 2 ^ 31 := by
  unfold zp_buy
  repeat' split
  all_goals decide
theorem zp_add_le {σ : Nat → Nat} {x u : Int32} : zp_add σ x u < 2 ^ 31 := by
  unfold zp_add
  repeat' split
  all_goals decide
theorem zp_print_le {σ : Nat → Nat} {x : Int32} : zp_print σ x < 2 ^ 31 := by
  unfold zp_print
  repeat' split
  all_goals decide
theorem zp_prove_le {σ : Nat → Nat} {x : Int32} : zp_prove σ x < 2 ^ 31 := by
  unfold zp_prove
  repeat' split
  all_goals decide
theorem zp_pour_0 {σ : Nat → Nat} {x u : Int32} (h : zp_pour σ x u = 0) : ∃ i j : Nat, i ≤ 9 ∧ 1 ≤ j ∧ j ≤ 999 ∧ σ (8 + i) + j ≤ 999 ∧ x = nI i ∧ u = nI j := by
  unfold zp_pour at h
  split at h
  · rename_i h0
    obtain ⟨h1, h2⟩ := (Bool.and_eq_true _ _).mp h0
    obtain ⟨i, -, hi, rfl⟩ := zk_in_of h1 (by decide) (by decide)
    obtain ⟨j, hj1, hj, rfl⟩ := zk_in_of h2 (by decide) (by decide)
    rw [nI_clamp (by omega), nI_clamp (by omega)] at h
    split at h
    · cases h
    · exact ⟨i, j, hi, hj1, hj, by omega, rfl, rfl⟩
  · cases h
theorem zp_buy_0 {σ : Nat → Nat} {x : Int32} (h : zp_buy σ x = 0) : ∃ i : Nat, 1 ≤ i ∧ i ≤ 999 ∧ σ 2 + i ≤ 9999 ∧ x = nI i := by
  unfold zp_buy at h
  split at h
  · rename_i h1
    obtain ⟨i, hi1, hi, rfl⟩ := zk_in_of h1 (by decide) (by decide)
    rw [nI_clamp (by omega)] at h
    split at h
    · cases h
    · exact ⟨i, hi1, hi, by omega, rfl⟩
  · cases h
theorem zp_add_0 {σ : Nat → Nat} {x u : Int32} (h : zp_add σ x u = 0) : ∃ i j : Nat, i ≤ 9 ∧ 1 ≤ j ∧ j ≤ 50 ∧ σ 0 ≠ 7 ∧ x = nI i ∧ u = nI j := by
  unfold zp_add at h
  split at h
  · rename_i h0
    obtain ⟨h1, h2⟩ := (Bool.and_eq_true _ _).mp h0
    obtain ⟨i, -, hi, rfl⟩ := zk_in_of h1 (by decide) (by decide)
    obtain ⟨j, hj1, hj, rfl⟩ := zk_in_of h2 (by decide) (by decide)
    split at h
    · cases h
    · exact ⟨i, j, hi, hj1, hj, by assumption, rfl, rfl⟩
  · cases h
theorem zp_print_0 {σ : Nat → Nat} {x : Int32} (h : zp_print σ x = 0) (h7 : σ 0 ≤ 7) : ∃ i : Nat, i < σ 0 ∧ zp_miss σ i ≠ 0 ∧ σ 2 ≠ 0 ∧ σ (8 + zp_col σ i) ≠ 0 ∧ x = nI i := by
  unfold zp_print at h
  split at h
  · rename_i h1
    obtain ⟨i, hi, rfl⟩ := zk_ix_of h1 (by omega)
    rw [nI_clamp (by omega)] at h
    split at h
    · cases h
    · split at h
      · cases h
      · rename_i h2 h3
        exact ⟨i, hi, h2, fun z => h3 (Or.inl z), fun z => h3 (Or.inr z), rfl⟩
  · cases h
theorem zp_prove_0 {σ : Nat → Nat} {x : Int32} (h : zp_prove σ x = 0) : ∃ i : Nat, i ≤ 99 ∧ σ 1 ≠ 12 ∧ x = nI i := by
  unfold zp_prove at h
  split at h
  · rename_i h1
    obtain ⟨i, -, hi, rfl⟩ := zk_in_of h1 (by decide) (by decide)
    split at h
    · cases h
    · exact ⟨i, hi, by assumption, rfl⟩
  · cases h
/-- the operations: kind of exception, answer, new state -/
def zo_addInk (σ : Nat → Nat) (x u : Int32) : Nat × Nat × (Nat → Nat) := if zp_pour σ x u = 0 then (0, σ (8 + x.toNatClampNeg) + u.toNatClampNeg, zp_pours σ x.toNatClampNeg u.toNatClampNeg) else (zp_pour σ x u, 0, σ)
def zo_addPaper (σ : Nat → Nat) (x : Int32) : Nat × Nat × (Nat → Nat) := if zp_buy σ x = 0 then (0, σ 2 + x.toNatClampNeg, zp_buys σ x.toNatClampNeg) else (zp_buy σ x, 0, σ)
def zo_addEdition (σ : Nat → Nat) (x u : Int32) : Nat × Nat × (Nat → Nat) := if zp_add σ x u = 0 then (0, σ 0, zp_adds σ x.toNatClampNeg u.toNatClampNeg) else (zp_add σ x u, 0, σ)
def zo_removeEdition (σ : Nat → Nat) (x : Int32) : Nat × Nat × (Nat → Nat) := if zk_ix x (σ 0) = true then (0, σ 0 - 1, zp_rem σ x.toNatClampNeg) else (1, 0, σ)
def zo_print (σ : Nat → Nat) (x : Int32) : Nat × Nat × (Nat → Nat) := if zp_print σ x = 0 then (0, zp_copies σ x.toNatClampNeg, zp_prints σ x.toNatClampNeg (zp_copies σ x.toNatClampNeg)) else (zp_print σ x, 0, σ)
def zo_addProof (σ : Nat → Nat) (x : Int32) : Nat × Nat × (Nat → Nat) := if zp_prove σ x = 0 then (0, σ 1, zp_proves σ x.toNatClampNeg) else (zp_prove σ x, 0, σ)
def zo_dropProof (σ : Nat → Nat) (x : Int32) : Nat × Nat × (Nat → Nat) := if zk_ix x (σ 1) = true then (0, σ 1 - 1, zp_drop σ x.toNatClampNeg) else (1, 0, σ)
/-- what a call of the reference keeps -/
def zm_K (f : Nat → Nat) (a : Nat → Nat → Nat) (f' : Nat → Nat) (a' : Nat → Nat → Nat) : Prop := a' 2 = a 2 ∧ a' 9 = a 9 ∧ a' 10 = a 10 ∧ f' 11 = f 11 ∧ f' 12 = f 12 ∧ f' 13 = f 13 ∧ f' 15 = f 15 ∧ f' 20 = f 20
def zm_H (f : Nat → Nat) (a : Nat → Nat → Nat) (f' : Nat → Nat) (a' : Nat → Nat → Nat) : Prop := a' 3 = a 3 ∧ f' 10 = f 10
def zm_C (f : Nat → Nat) (a : Nat → Nat → Nat) (f' : Nat → Nat) (a' : Nat → Nat → Nat) : Prop := a' 3 = zp_ch (f 10) (a 3) (a 0) ∧ f' 10 = zp_cd (f 10)
/-- a modification's end: o, the history pushed if nothing is thrown -/
def zm_M (s0 : State) (h f : Nat → Nat) (a : Nat → Nat → Nat) (o : Nat × Nat × (Nat → Nat)) (r : Option Value) (w : va_W) : Prop := r = some (.int (nI o.2.1)) ∧ ∃ (f' : Nat → Nat) (a' : Nat → Nat → Nat), w = zm_W s0 h f' a' ∧ zm_K f a f' a' ∧ f' 9 = o.1 ∧ a' 0 = o.2.2 ∧ (o.1 = 0 → zm_C f a f' a') ∧ (o.1 ≠ 0 → zm_H f a f' a')
/-- a query's end: the kind k, the answer -/
def zm_N (s0 : State) (h f : Nat → Nat) (a : Nat → Nat → Nat) (k : Nat) (v : Value) (r : Option Value) (w : va_W) : Prop := r = some v ∧ ∃ (f' : Nat → Nat) (a' : Nat → Nat → Nat), w = zm_W s0 h f' a' ∧ zm_K f a f' a' ∧ zm_H f a f' a' ∧ f' 9 = k ∧ a' 0 = a 0
theorem zm_Mf {s0 : State} {h f : Nat → Nat} {a : Nat → Nat → Nat} {o : Nat × Nat × (Nat → Nat)} {k : Nat} {x : Nat → Nat} (ho : o = (k, 0, a 0)) (hk : k ≠ 0) : zm_M s0 h f a o (some (.int (nI 0))) (zm_W s0 h (va_up (va_up f 9 0) 9 k) (va_up a 1 x)) := by
  subst ho
  exact ⟨rfl, _, _, rfl, ⟨rfl, rfl, rfl, rfl, rfl, rfl, rfl, rfl⟩, rfl, rfl, fun z => absurd z hk, fun _ => ⟨rfl, rfl⟩⟩
theorem zm_Mc {s0 : State} {h f : Nat → Nat} {a : Nat → Nat → Nat} {o : Nat × Nat × (Nat → Nat)} {n : Nat} {x y : Nat → Nat} (ho : o = (0, n, y)) : zm_M s0 h f a o (some (.int (nI n))) (zm_W s0 h (va_up (va_up f 9 0) 10 (zp_cd (f 10))) (va_up (va_up (va_up a 1 (zp_cp (a 0) x 0 0 72)) 0 y) 3 (zp_ch (f 10) (a 3) (zp_cp (a 0) x 0 0 72)))) := by
  subst ho
  exact ⟨rfl, _, _, rfl, ⟨rfl, rfl, rfl, rfl, rfl, rfl, rfl, rfl⟩, rfl, rfl, fun _ => ⟨zp_ch_cp, rfl⟩, fun z => absurd rfl z⟩
