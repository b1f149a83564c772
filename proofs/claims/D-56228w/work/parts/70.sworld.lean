/-! BLOCKS of cells, and the State's world (zs_) -/
set_option maxRecDepth 100000
def zk_bl (n : Nat) (f : Nat → Nat × va_E) : va_W := (List.range n).map f
def zk_bx (n : Nat) (f : Nat → Nat × va_E) (i : Nat) : va_W := ((List.range n).erase i).map f
theorem zk_bl_p {n i : Nat} {f : Nat → Nat × va_E} (hi : i < n) : (zk_bl n f).Perm (f i :: zk_bx n f i) := (List.perm_cons_erase (List.mem_range.mpr hi)).map f
theorem zk_bx_cg {n i : Nat} {f g : Nat → Nat × va_E} (h : ∀ j, j < n → j ≠ i → f j = g j) : zk_bx n f i = zk_bx n g i := by
  unfold zk_bx
  refine List.map_congr_left (fun j hj => ?_)
  have h1 := (List.Nodup.mem_erase_iff List.nodup_range).mp hj
  exact h j (List.mem_range.mp h1.2) h1.1
theorem zk_bl_cg {n : Nat} {f g : Nat → Nat × va_E} (h : ∀ j, j < n → f j = g j) : zk_bl n f = zk_bl n g := by
  unfold zk_bl
  exact List.map_congr_left (fun j hj => h j (List.mem_range.mp hj))
theorem zk_bl_s {n : Nat} {f : Nat → Nat × va_E} : zk_bl (n + 1) f = zk_bl n f ++ [f n] := by
  unfold zk_bl
  rw [List.range_succ, List.map_append]
  rfl
/-- one cell of a block taken out (the first of two blocks, the second one) -/
theorem zk_pull1 {P B : va_W} {n i : Nat} {f : Nat → Nat × va_E} (hi : i < n) : (P ++ zk_bl n f ++ B).Perm ((P ++ [f i]) ++ zk_bx n f i ++ B) := by
  refine List.Perm.append_right B ?_
  rw [List.append_assoc]
  exact (zk_bl_p hi).append_left P
theorem zk_pull2 {P B : va_W} {n i : Nat} {f : Nat → Nat × va_E} (hi : i < n) : (P ++ B ++ zk_bl n f).Perm ((P ++ [f i]) ++ B ++ zk_bx n f i) := by
  refine ((zk_bl_p hi).append_left (P ++ B)).trans ?_
  rw [List.append_assoc, List.append_assoc, List.append_assoc]
  refine List.Perm.append_left P ?_
  have h1 : (B ++ ([f i] ++ zk_bx n f i)).Perm ([f i] ++ (B ++ zk_bx n f i)) := List.perm_append_comm_assoc _ _ _
  exact h1
theorem zk_push1 {P B : va_W} {n i : Nat} {f g : Nat → Nat × va_E} (hi : i < n) (h : ∀ j, j < n → j ≠ i → f j = g j) : ((P ++ [g i]) ++ zk_bx n f i ++ B).Perm (P ++ zk_bl n g ++ B) := by
  rw [zk_bx_cg h]
  exact (zk_pull1 hi).symm
theorem zk_push2 {P B : va_W} {n i : Nat} {f g : Nat → Nat × va_E} (hi : i < n) (h : ∀ j, j < n → j ≠ i → f j = g j) : ((P ++ [g i]) ++ B ++ zk_bx n f i).Perm (P ++ B ++ zk_bl n g) := by
  rw [zk_bx_cg h]
  exact (zk_pull2 hi).symm
/-- a new cell, put before the blocks -/
theorem zk_app1 {P B N : va_W} : (P ++ B ++ N).Perm (P ++ N ++ B) := by
  rw [List.append_assoc, List.append_assoc]
  exact List.Perm.append_left P List.perm_append_comm
theorem zk_app2 {P B C N : va_W} : (P ++ B ++ C ++ N).Perm (P ++ N ++ B ++ C) := by
  refine zk_app1.trans ?_
  exact List.Perm.append_right C zk_app1
def zs_f (k : Nat → Nat) (i : Nat) : Nat × va_E := (k (10 + i), .inr (4, [.int (nI (i + 1))]))
def zs_e (E : Nat → Option Nat) (σ : Nat → Nat) (i : Nat) : Nat × va_E := ((E i).getD 0, .inr (5, [.int (nI (σ (20 + 4 * i))), .int (nI (σ (20 + 4 * i + 1))), .int (nI (σ (20 + 4 * i + 2)))]))
def zs_En (E : Nat → Option Nat) (σ : Nat → Nat) : Prop := ∀ i, i < σ 0 → (E i).isSome = true
theorem zs_rf {E : Nat → Option Nat} {i : Nat} (h : (E i).isSome = true) : va_rf (E i) = .ref ((E i).getD 0) := by
  cases hE : E i with
  | none => rw [hE] at h; cases h
  | some x => rfl
def zs_V (s0 : State) (k : Nat → Nat) (E : Nat → Option Nat) (F : List Value) (g m n : Nat → Nat) (B : va_W) : va_W := [(k 0, .inr (2, F)), (k 1, zk_I s0 10 g), (k 2, zk_Q_ s0 3 10 (fun i => some (k (10 + i)))), (k 3, zk_Q_ s0 4 7 E), (k 4, zk_I s0 12 m), (k 5, zk_I s0 12 n), (k 6, .inr (3, []))] ++ zk_bl 10 (zs_f k) ++ B
theorem zs_Pcg {D : va_G} {cl : List vw_C} {s0 : State} {k : Nat → Nat} {E : Nat → Option Nat} {F F' : List Value} {g m n g' m' n' : Nat → Nat} {B B' : va_W} {H : Heap} (hg : ∀ i, i < 10 → g i = g' i) (hm : ∀ i, i < 12 → m i = m' i) (hn : ∀ i, i < 12 → n i = n' i) (hB : B = B') (hF : F = F') (hP : va_P D cl (zs_V s0 k E F g m n B) H) : va_P D cl (zs_V s0 k E F' g' m' n' B') H := by
  subst hB
  subst hF
  intro j q hq
  have hrest : ∀ j, j ≠ 1 → j ≠ 4 → j ≠ 5 → (zs_V s0 k E F g' m' n' B)[j]? = (zs_V s0 k E F g m n B)[j]? := by
    intro j h1 h4 h5
    match j, h1, h4, h5 with
    | 0, _, _, _ => rfl
    | 2, _, _, _ => rfl
    | 3, _, _, _ => rfl
    | 6, _, _, _ => rfl
    | j + 7, _, _, _ => rfl
  by_cases h1 : j = 1
  · subst h1
    have e : (k 1, zk_I s0 10 g') = q := Option.some.inj hq
    rw [← e]
    exact zk_at_cg hg (hP 1 (k 1, zk_I s0 10 g) rfl)
  · by_cases h4 : j = 4
    · subst h4
      have e : (k 4, zk_I s0 12 m') = q := Option.some.inj hq
      rw [← e]
      exact zk_at_cg hm (hP 4 (k 4, zk_I s0 12 m) rfl)
    · by_cases h5 : j = 5
      · subst h5
        have e : (k 5, zk_I s0 12 n') = q := Option.some.inj hq
        rw [← e]
        exact zk_at_cg hn (hP 5 (k 5, zk_I s0 12 n) rfl)
      · exact hP j q ((hrest j h1 h4 h5) ▸ hq)
theorem zs_Dcg {A : Nat → Prop} {s0 : State} {k : Nat → Nat} {E : Nat → Option Nat} {F F' : List Value} {g m n g' m' n' : Nat → Nat} {B B' : va_W} (hB : B = B') (hD : va_D A (zs_V s0 k E F g m n B)) : va_D A (zs_V s0 k E F' g' m' n' B') := by
  subst hB
  exact zk_D_cg (ws := zs_V s0 k E F g m n B) rfl hD
/-- the editions' block of a state that agrees there -/
theorem zs_blk {E : Nat → Option Nat} {σ τ : Nat → Nat} (h0 : τ 0 = σ 0) (h7 : σ 0 ≤ 7) (h : ∀ j, 20 ≤ j → j < 48 → σ j = τ j) : zk_bl (σ 0) (zs_e E σ) = zk_bl (τ 0) (zs_e E τ) := by
  rw [h0]
  refine zk_bl_cg (fun j hj => ?_)
  unfold zs_e
  rw [h (20 + 4 * j) (by omega) (by omega), h (20 + 4 * j + 1) (by omega) (by omega), h (20 + 4 * j + 2) (by omega) (by omega)]
/-- the fields of a state -/
def zs_fs (k f : Nat → Nat) : List Value := [.ref (k 1), .ref (k 2), .int (nI (f 3)), .int (nI (f 2)), .ref (k 3), .int (nI (f 0)), .int (nI (f 4)), .int (nI (f 5)), .int (nI (f 6)), .int (nI (f 7)), .long (lN (f 18)), .ref (k 4), .ref (k 5), .int (nI (f 1)), .ref (k 6)]
theorem zs_fs_cg {k f g : Nat → Nat} (h : ∀ z, z < 8 ∨ z = 18 → f z = g z) : zs_fs k f = zs_fs k g := by
  unfold zs_fs
  rw [h 0 (by omega), h 1 (by omega), h 2 (by omega), h 3 (by omega), h 4 (by omega), h 5 (by omega), h 6 (by omega), h 7 (by omega), h 18 (by omega)]
/-- the picture of a state -/
def zs_W (s0 : State) (k : Nat → Nat) (E : Nat → Option Nat) (σ : Nat → Nat) : va_W := zs_V s0 k E (zs_fs k σ) (fun i => σ (8 + i)) (fun i => σ (48 + 2 * i)) (fun i => σ (48 + 2 * i + 1)) (zk_bl (σ 0) (zs_e E σ))
/-! pours, in the picture -/
theorem zs_pours_o {σ : Nat → Nat} {i j z : Nat} (hi : i < 10) (h : z < 6 ∨ z = 7 ∨ 18 ≤ z) : zp_pours σ i j z = σ z := by
  unfold zp_pours
  rw [zk_up_ne (by omega), zk_up_ne (by omega)]
theorem zs_pours_w {σ : Nat → Nat} {i j : Nat} (n : Nat) : va_up (fun n => σ (8 + n)) i (σ (8 + i) + j) n = zp_pours σ i j (8 + n) := by
  unfold zp_pours
  rw [zk_up_ne (show 8 + n ≠ 6 by omega)]
  by_cases h : n = i
  · subst h; rw [zk_up_eq, zk_up_eq]
  · rw [zk_up_ne h, zk_up_ne (by omega)]
theorem zs_pours_f {σ : Nat → Nat} {i j : Nat} (hi : i < 10) : ∀ z, z < 8 ∨ z = 18 → va_up σ 6 (σ 6 + j) z = zp_pours σ i j z := by
  intro z hz
  by_cases h : z = 6
  · subst h
    unfold zp_pours
    rw [zk_up_eq, zk_up_eq, zk_up_ne (by omega)]
  · rw [zk_up_ne h, zs_pours_o hi (by omega)]
/-! proofs, in the picture -/
theorem zs_proves_at (σ : Nat → Nat) (i z : Nat) : zp_proves σ i z = if z = 1 then σ 1 + 1 else if z = 48 + 2 * σ 1 + 1 then σ 3 else if z = 48 + 2 * σ 1 then i else σ z := rfl
theorem zs_proves_o {σ : Nat → Nat} {i z : Nat} (h1 : z ≠ 1) (h : z < 48) : zp_proves σ i z = σ z := by
  rw [zs_proves_at, if_neg h1, if_neg (by omega), if_neg (by omega)]
theorem zs_proves_m {σ : Nat → Nat} {i : Nat} (n : Nat) : va_up (fun n => σ (48 + 2 * n)) (σ 1) i n = zp_proves σ i (48 + 2 * n) := by
  rw [zs_proves_at, if_neg (by omega), if_neg (by omega)]
  by_cases h : n = σ 1
  · rw [h, zk_up_eq, if_pos rfl]
  · rw [zk_up_ne h, if_neg (by omega)]
theorem zs_proves_h {σ : Nat → Nat} {i : Nat} (n : Nat) : va_up (fun n => σ (48 + 2 * n + 1)) (σ 1) (σ 3) n = zp_proves σ i (48 + 2 * n + 1) := by
  rw [zs_proves_at, if_neg (by omega)]
  by_cases h : n = σ 1
  · rw [h, zk_up_eq, if_pos rfl]
  · rw [zk_up_ne h, if_neg (by omega), if_neg (by omega)]
theorem zs_proves_f {σ : Nat → Nat} {i : Nat} : ∀ z, z < 8 ∨ z = 18 → va_up σ 1 (σ 1 + 1) z = zp_proves σ i z := by
  intro z hz
  by_cases h : z = 1
  · rw [h, zk_up_eq, zs_proves_at, if_pos rfl]
  · rw [zk_up_ne h, zs_proves_o h (by omega)]
/-! drops, in the picture -/
theorem zs_drop_o {σ : Nat → Nat} {i z : Nat} (h1 : z ≠ 1) (h : z < 48) : zp_drop σ i z = σ z := by
  unfold zp_drop zp_sh
  rw [if_neg (by omega), zk_up_ne h1]
theorem zs_drop_1 {σ : Nat → Nat} {i : Nat} : zp_drop σ i 1 = σ 1 - 1 := by
  unfold zp_drop zp_sh
  rw [if_neg (by omega), zk_up_eq]
theorem zs_drop_m {σ : Nat → Nat} {i : Nat} (n : Nat) : zp_sh 1 (fun n => σ (48 + 2 * n)) i (σ 1 - 1) n = zp_drop σ i (48 + 2 * n) := by
  unfold zp_drop zp_sh
  by_cases h : i ≤ n ∧ n < σ 1 - 1
  · rw [if_pos h, if_pos (by omega), zk_up_ne (by omega), show 48 + 2 * n + 2 = 48 + 2 * (n + 1) by omega]
  · rw [if_neg h, if_neg (by omega), zk_up_ne (by omega)]
theorem zs_drop_h {σ : Nat → Nat} {i : Nat} (n : Nat) : zp_sh 1 (fun n => σ (48 + 2 * n + 1)) i (σ 1 - 1) n = zp_drop σ i (48 + 2 * n + 1) := by
  unfold zp_drop zp_sh
  by_cases h : i ≤ n ∧ n < σ 1 - 1
  · rw [if_pos h, if_pos (by omega), zk_up_ne (by omega), show 48 + 2 * n + 1 + 2 = 48 + 2 * (n + 1) + 1 by omega]
  · rw [if_neg h, if_neg (by omega), zk_up_ne (by omega)]
theorem zs_drop_f {σ : Nat → Nat} {i : Nat} : ∀ z, z < 8 ∨ z = 18 → va_up σ 1 (σ 1 - 1) z = zp_drop σ i z := by
  intro z hz
  by_cases h : z = 1
  · rw [h, zk_up_eq, zs_drop_1]
  · rw [zk_up_ne h, zs_drop_o h (by omega)]
/-- halvings -/
theorem zs_left {σ : Nat → Nat} {i : Nat} (n : Nat) : zp_left σ i n = σ (8 + i) / 2 ^ ((σ 3 + n) / (i + 1) - σ 3 / (i + 1)) := by
  induction n with
  | zero => rw [Nat.add_zero, Nat.sub_self, Nat.pow_zero, Nat.div_one]; rfl
  | succ n ih =>
    have hd : σ 3 / (i + 1) ≤ (σ 3 + n) / (i + 1) := Nat.div_le_div_right (Nat.le_add_right _ _)
    have hs : (σ 3 + (n + 1)) / (i + 1) = (σ 3 + n) / (i + 1) + (if (σ 3 + (n + 1)) % (i + 1) = 0 then 1 else 0) := by
      rw [show σ 3 + (n + 1) = σ 3 + n + 1 by omega, Nat.succ_div]
      by_cases h : (σ 3 + n + 1) % (i + 1) = 0
      · rw [if_pos (Nat.dvd_of_mod_eq_zero h), if_pos h]
      · rw [if_neg (fun z => h (Nat.mod_eq_zero_of_dvd z)), if_neg h]
    rw [zp_left, hs]
    split
    · rw [ih, Nat.div_div_eq_div_mul, ← Nat.pow_succ]
      exact congrArg (fun q => σ (8 + i) / 2 ^ q) (by omega)
    · rw [ih]
      exact congrArg (fun q => σ (8 + i) / 2 ^ q) (by omega)
/-! an hour, in the picture -/
theorem zs_pc_add (τ : Nat → Nat) (a : Nat) : ∀ k, zp_pc (a, τ) k = (a + (zp_pc (0, τ) k).1, (zp_pc (0, τ) k).2) := by
  intro k
  induction k with
  | zero => rfl
  | succ k ih =>
    have h1 : (zp_pc (a, τ) k).2 = (zp_pc (0, τ) k).2 := by rw [ih]
    have h2 : (zp_pc (a, τ) k).1 = a + (zp_pc (0, τ) k).1 := by rw [ih]
    rw [zp_pc, zp_pc, h1, h2]
    split
    · rw [Nat.add_assoc]
    · rw [ih]
theorem zs_upw {g : Nat → Nat} {j v : Nat} : (fun n => va_up g (8 + j) v (8 + n)) = va_up (fun n => g (8 + n)) j v := by
  funext n
  by_cases h : n = j
  · rw [h, zk_up_eq, zk_up_eq]
  · rw [zk_up_ne h, zk_up_ne (by omega)]
/-! a new edition, in the picture -/
theorem zs_adds_o {σ : Nat → Nat} {i j z : Nat} (h0 : z ≠ 0) (h : z < 20 + 4 * σ 0 ∨ 20 + 4 * σ 0 + 3 ≤ z) : zp_adds σ i j z = σ z := by
  unfold zp_adds
  rw [zk_up_ne h0, zk_up_ne (by omega), zk_up_ne (by omega), zk_up_ne (by omega)]
theorem zs_adds_blk {σ : Nat → Nat} {i j q : Nat} {E : Nat → Option Nat} : zk_bl (zp_adds σ i j 0) (zs_e (va_up E (σ 0) (some q)) (zp_adds σ i j)) = zk_bl (σ 0) (zs_e E σ) ++ [(q, .inr (5, [.int (nI i), .int (nI j), .int (nI 0)]))] := by
  have h0 : zp_adds σ i j 0 = σ 0 + 1 := zk_up_eq
  rw [h0, zk_bl_s]
  have e1 : zs_e (va_up E (σ 0) (some q)) (zp_adds σ i j) (σ 0) = (q, .inr (5, [.int (nI i), .int (nI j), .int (nI 0)])) := by
    unfold zs_e
    have a0 : zp_adds σ i j (20 + 4 * σ 0) = i := by
      unfold zp_adds
      rw [zk_up_ne (by omega), zk_up_ne (by omega), zk_up_ne (by omega), zk_up_eq]
    have a1 : zp_adds σ i j (20 + 4 * σ 0 + 1) = j := by
      unfold zp_adds
      rw [zk_up_ne (by omega), zk_up_ne (by omega), zk_up_eq]
    have a2 : zp_adds σ i j (20 + 4 * σ 0 + 2) = 0 := by
      unfold zp_adds
      rw [zk_up_ne (by omega), zk_up_eq]
    rw [a0, a1, a2, zk_up_eq]
    rfl
  rw [e1]
  refine congrArg (fun b => b ++ _) (zk_bl_cg (fun n hn => ?_))
  unfold zs_e
  rw [zs_adds_o (by omega) (by omega), zs_adds_o (by omega) (by omega), zs_adds_o (by omega) (by omega), zk_up_ne (by omega)]
theorem zs_adds_E {σ : Nat → Nat} {i j q : Nat} {E : Nat → Option Nat} (h : zs_En E σ) : zs_En (va_up E (σ 0) (some q)) (zp_adds σ i j) := by
  intro n hn
  have h0 : zp_adds σ i j 0 = σ 0 + 1 := zk_up_eq
  rw [h0] at hn
  by_cases e : n = σ 0
  · rw [e, zk_up_eq]; rfl
  · rw [zk_up_ne e]; exact h n (by omega)
