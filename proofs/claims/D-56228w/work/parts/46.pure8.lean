/-! PURE, part 8: the commands of a text carried out; cells that agree -/
set_option maxRecDepth 100000
theorem zk_arr_cg {cI : ClassId} {n : Nat} {f g : Nat → Value} (h : ∀ j, j < n → f j = g j) : arrV cI n f = arrV cI n g := by
  unfold arrV
  have : (fun j : Fin n => f j.val) = (fun j : Fin n => g j.val) := funext (fun j => h j.val j.isLt)
  rw [this]
/-- int arrays that agree within their length -/
theorem zk_at_cg {D : va_G} {cl : List vw_C} {s0 : State} {o n : Nat} {g k : Nat → Nat} {H : Heap} (h : ∀ j, j < n → g j = k j) (hA : va_at D cl (o, zk_I s0 n g) H) : va_at D cl (o, zk_I s0 n k) H := by
  have hA : H[o]? = some (vp_cell (zk_dA s0 0) (n, .inl (zk_F g))) := hA
  show H[o]? = some (vp_cell (zk_dA s0 0) (n, .inl (zk_F k)))
  rw [hA, vp_cell_i, vp_cell_i]
  exact congrArg some (zk_arr_cg (fun j hj => by show Value.int (nI (g j)) = Value.int (nI (k j)); rw [h j hj]))
theorem zk_D_cg {A : Nat → Prop} {ws ws' : va_W} (h : ws.map Prod.fst = ws'.map Prod.fst) (hD : va_D A ws) : va_D A ws' := by
  have hg : ∀ (i : Nat) (q : Nat × va_E), ws'[i]? = some q → ∃ q', ws[i]? = some q' ∧ q'.1 = q.1 := by
    intro i q hq
    have h1 : (ws.map Prod.fst)[i]? = some q.1 := by rw [h, List.getElem?_map, hq]; rfl
    rw [List.getElem?_map] at h1
    cases hw : ws[i]? with
    | none => rw [hw] at h1; cases h1
    | some q' => rw [hw] at h1; exact ⟨q', rfl, Option.some.inj h1⟩
  constructor
  · intro i j p q hp hq hpq
    obtain ⟨p', hp', e1⟩ := hg i p hp
    obtain ⟨q', hq', e2⟩ := hg j q hq
    exact hD.1 i j p' q' hp' hq' (e1.trans (hpq.trans e2.symm))
  · intro k q hq
    obtain ⟨q', hq', e2⟩ := hg k q hq
    rw [← e2]; exact hD.2 k q' hq'
theorem zm_P0 {D : va_G} {cl : List vw_C} {s0 : State} {h f : Nat → Nat} {a : Nat → Nat → Nat} {g : Nat → Nat} {H : Heap} (hg : ∀ j, j < 72 → a 0 j = g j) (hP : va_P D cl (zm_W s0 h f a) H) : va_P D cl (zm_W s0 h f (va_up a 0 g)) H := by
  intro k q hq
  by_cases hk : k = 1
  · subst hk
    have h1 : (h 1, zk_I s0 72 g) = q := Option.some.inj hq
    rw [← h1]
    exact zk_at_cg hg (hP 1 (h 1, zk_I s0 72 (a 0)) rfl)
  · refine hP k q ?_
    rw [← hq]
    match k, hk with
    | 0, _ => rfl
    | k + 2, _ => rfl
theorem zm_D0 {A : Nat → Prop} {s0 : State} {h f : Nat → Nat} {a : Nat → Nat → Nat} {g : Nat → Nat} (hD : va_D A (zm_W s0 h f a)) : va_D A (zm_W s0 h f (va_up a 0 g)) := zk_D_cg (ws := zm_W s0 h f a) rfl hD
theorem zm_do {s0 : State} {h f : Nat → Nat} {a : Nat → Nat → Nat} {g : Nat → Nat} : zm_W s0 h f (va_up a 0 g) = zm_W s0 h f (va_up (va_up (va_up (va_up a 5 (a 5)) 4 (a 4)) 8 (a 8)) 0 g) := by
  rw [zx_id (g := a) rfl, zx_id (g := a) rfl, zx_id (g := a) rfl]
/-- why a command cannot be done: 0 if it can -/
def zt_why (σ : Nat → Nat) (kd : Nat) (x u : Int32) : Nat := if kd = 0 then zp_pour σ x u else if kd = 1 then zp_buy σ x else if kd = 2 then zp_add σ x u else if kd = 3 then (if zk_ix x (σ 0) = true then 0 else 1) else if kd = 4 then zp_print σ x else if kd = 5 then 0 else if kd = 6 then (if zk_in x 1 48 = true then 0 else 1) else if kd = 7 then zp_prove σ x else (if zk_ix x (σ 1) = true then 0 else 1)
def zt_does (σ : Nat → Nat) (kd i j : Nat) : Nat → Nat := if kd = 0 then zp_pours σ i j else if kd = 1 then zp_buys σ i else if kd = 2 then zp_adds σ i j else if kd = 3 then zp_rem σ i else if kd = 4 then zp_prints σ i (zp_copies σ i) else if kd = 5 then (zp_pa σ (zp_oc σ)).2 else if kd = 6 then zp_pass σ i else if kd = 7 then zp_proves σ i else zp_drop σ i
def zt_need (σ : Nat → Nat) (kd i j : Nat) : Prop := (kd = 0 → i ≤ 9 ∧ 1 ≤ j ∧ j ≤ 999 ∧ σ (8 + i) + j ≤ 999) ∧ (kd = 1 → i ≤ 999 ∧ σ 2 + i ≤ 9999) ∧ (kd = 2 → i ≤ 9 ∧ 1 ≤ j ∧ j ≤ 50 ∧ σ 0 ≠ 7) ∧ (kd = 3 → i < σ 0) ∧ (kd = 4 → i < σ 0) ∧ (kd = 6 → 1 ≤ i ∧ i ≤ 48) ∧ (kd = 7 → i ≤ 99 ∧ σ 1 ≠ 12) ∧ (kd = 8 → i < σ 1)
theorem zt_nI {i j : Nat} (hi : i ≤ 999) (hj : j ≤ 9999) (h : nI i = nI j) : j = i := ((nI_eq (by omega) (by omega)).mp h).symm
theorem zt_why0 {σ : Nat → Nat} {kd i j : Nat} (h7 : σ 0 ≤ 7) (h12 : σ 1 ≤ 12) (hi : i ≤ 999) (hj : j ≤ 999) (h8 : kd ≤ 8) (h : zt_why σ kd (nI i) (nI j) = 0) : zt_need σ kd i j := by
  unfold zt_why at h
  refine ⟨?_, ?_, ?_, ?_, ?_, ?_, ?_, ?_⟩
  · rintro rfl
    rw [if_pos rfl] at h
    obtain ⟨i', j', a1, a2, a3, a4, a5, a6⟩ := zp_pour_0 h
    have e1 := zt_nI hi (by omega) a5; have e2 := zt_nI hj (by omega) a6
    subst e1 e2
    exact ⟨a1, a2, a3, a4⟩
  · rintro rfl
    rw [if_neg (by decide), if_pos rfl] at h
    obtain ⟨i', a1, a2, a3, a5⟩ := zp_buy_0 h
    have e1 := zt_nI hi (by omega) a5
    subst e1
    exact ⟨a2, a3⟩
  · rintro rfl
    rw [if_neg (by decide), if_neg (by decide), if_pos rfl] at h
    obtain ⟨i', j', a1, a2, a3, a4, a5, a6⟩ := zp_add_0 h
    have e1 := zt_nI hi (by omega) a5; have e2 := zt_nI hj (by omega) a6
    subst e1 e2
    exact ⟨a1, a2, a3, a4⟩
  · rintro rfl
    rw [if_neg (by decide), if_neg (by decide), if_neg (by decide), if_pos rfl, zk_ix_nI (by omega) (by omega)] at h
    by_cases hh : i < σ 0
    · exact hh
    · rw [decide_eq_false hh] at h; exact absurd h (by decide)
  · rintro rfl
    rw [if_neg (by decide), if_neg (by decide), if_neg (by decide), if_neg (by decide), if_pos rfl] at h
    obtain ⟨i', a1, a2, a3, a4, a5⟩ := zp_print_0 h h7
    have e1 := zt_nI hi (by omega) a5
    subst e1
    exact a1
  · rintro rfl
    rw [if_neg (by decide), if_neg (by decide), if_neg (by decide), if_neg (by decide), if_neg (by decide), if_neg (by decide), if_pos rfl, zk_in_nI (by omega) (by decide) (by decide)] at h
    by_cases hh : 1 ≤ i ∧ i ≤ 48
    · exact hh
    · rw [decide_eq_false hh] at h; exact absurd h (by decide)
  · rintro rfl
    rw [if_neg (by decide), if_neg (by decide), if_neg (by decide), if_neg (by decide), if_neg (by decide), if_neg (by decide), if_neg (by decide), if_pos rfl] at h
    obtain ⟨i', a1, a2, a5⟩ := zp_prove_0 h
    have e1 := zt_nI hi (by omega) a5
    subst e1
    exact ⟨a1, a2⟩
  · rintro rfl
    rw [if_neg (by decide), if_neg (by decide), if_neg (by decide), if_neg (by decide), if_neg (by decide), if_neg (by decide), if_neg (by decide), if_neg (by decide), zk_ix_nI (by omega) (by omega)] at h
    by_cases hh : i < σ 1
    · exact hh
    · rw [decide_eq_false hh] at h; exact absurd h (by decide)
theorem zt_In_does {B : Nat} {σ : Nat → Nat} {kd i j : Nat} (inv : zp_In B σ) (hB : B + 999 ≤ 10000000) (h8 : kd ≤ 8) (hn : zt_need σ kd i j) : zp_In (B + 999) (zt_does σ kd i j) := by
  obtain ⟨n0, n1, n2, n3, n4, n6, n7, n8⟩ := hn
  have hk : kd = 0 ∨ kd = 1 ∨ kd = 2 ∨ kd = 3 ∨ kd = 4 ∨ kd = 5 ∨ kd = 6 ∨ kd = 7 ∨ kd = 8 := by omega
  unfold zt_does
  rcases hk with rfl | rfl | rfl | rfl | rfl | rfl | rfl | rfl | rfl
  · obtain ⟨a1, a2, a3, a4⟩ := n0 rfl
    exact zp_In_pours inv hB (by omega) a3 a4
  · exact zp_In_mono (zp_In_buys inv (n1 rfl).2) (by omega)
  · obtain ⟨a1, a2, a3, a4⟩ := n2 rfl
    exact zp_In_mono (zp_In_adds inv a1 a2 a3 a4) (by omega)
  · exact zp_In_mono (zp_In_rem inv (n3 rfl)) (by omega)
  · exact zp_In_mono (zp_In_prints (B := B) inv (by omega) (n4 rfl) (Nat.le_trans (Nat.min_le_right _ _) (Nat.min_le_left _ _)) (Nat.le_trans (Nat.min_le_right _ _) (Nat.min_le_right _ _)) (Nat.min_le_left _ _)) (by omega)
  · have h5 := zp_oc_le inv.1.1
    exact zp_In_mono (zp_PI_ok inv (by omega) _ (Nat.le_refl _)).1 (by omega)
  · exact zp_In_mono (zp_In_pass inv (n6 rfl).2 (by omega)) (by omega)
  · exact zp_In_mono (zp_In_proves inv (n7 rfl).1 (n7 rfl).2) (by omega)
  · exact zp_In_mono (zp_In_drop inv (n8 rfl)) (by omega)
theorem zt_why_lt (σ : Nat → Nat) (kd : Nat) (x u : Int32) : zt_why σ kd x u < 2 ^ 31 := by
  have h1 := zp_pour_le (σ := σ) (x := x) (u := u)
  unfold zt_why zp_buy zp_add zp_print zp_prove
  repeat' split
  all_goals first | assumption | decide
/-- the commands from the k-th on: where it stops, and the state -/
def zt_go (K F G : Nat → Nat) : Nat → Nat → (Nat → Nat) → Nat × (Nat → Nat)
  | 0, k, σ => (k, σ)
  | m + 1, k, σ => if zt_why σ (K k) (nI (F k)) (nI (G k)) = 0 then zt_go K F G m (k + 1) (zt_does σ (K k) (F k) (G k)) else (k, σ)
def zo_go (P : zt_S) (σ : Nat → Nat) : Nat × (Nat → Nat) := zt_go P.K P.F P.G P.n 0 σ
def zo_exec (P : zt_S) (σ : Nat → Nat) : Nat × Nat × (Nat → Nat) := if P.w ≠ 0 then (1, 0, σ) else if (zo_go P σ).1 < P.n then (2, 0, σ) else (0, P.n, (zo_go P σ).2)
/-- the end of a text carried out -/
def zm_X (s0 : State) (h f : Nat → Nat) (a : Nat → Nat → Nat) (P : zt_S) (r : Option Value) (w : va_W) : Prop := r = some (.int (nI (zo_exec P (a 0)).2.1)) ∧ ∃ (f' : Nat → Nat) (a' : Nat → Nat → Nat), w = zm_W s0 h f' a' ∧ (a' 2 = a 2 ∧ a' 9 = a 9 ∧ a' 10 = a 10 ∧ f' 13 = f 13 ∧ f' 15 = f 15 ∧ f' 20 = 0) ∧ f' 9 = (zo_exec P (a 0)).1 ∧ a' 0 = (zo_exec P (a 0)).2.2 ∧ f' 11 = (if P.w ≠ 0 then P.p else f 11) ∧ f' 12 = (if (zo_exec P (a 0)).1 = 2 then (zo_go P (a 0)).1 else f 12) ∧ ((zo_exec P (a 0)).1 = 0 → zm_C f a f' a') ∧ ((zo_exec P (a 0)).1 ≠ 0 → zm_H f a f' a')
theorem zx_4 {α : Type} {g : Nat → α} {i j k m : Nat} {x y z u x' y' z' u' : α} (h1 : i ≠ j) (h2 : i ≠ k) (h3 : j ≠ k) (h4 : i ≠ m) (h5 : j ≠ m) (h6 : k ≠ m) : va_up (va_up (va_up (va_up (va_up (va_up (va_up (va_up g i x) j y) k z) m u) i x') j y') k z') m u' = va_up (va_up (va_up (va_up g i x') j y') k z') m u' := by
  rw [zx_cm (g := va_up (va_up (va_up g i x) j y) k z) (i := m) (j := i) (Ne.symm h4), zx_cm (i := m) (j := j) (Ne.symm h5), zx_cm (i := m) (j := k) (Ne.symm h6), bx_uu, zx_3 h1 h2 h3]
theorem zm_do0 {s0 : State} {h f : Nat → Nat} {a : Nat → Nat → Nat} : zm_W s0 h f a = zm_W s0 h f (va_up (va_up (va_up (va_up a 5 (a 5)) 4 (a 4)) 8 (a 8)) 0 (a 0)) := by
  rw [zx_id (g := a) rfl, zx_id (g := a) rfl, zx_id (g := a) rfl, zx_id (g := a) rfl]
theorem zt_parse_w {t : Nat → Nat} {L : Nat} {K F G : Nat → Nat} : (zt_parse t L K F G).w = 0 ∨ (zt_parse t L K F G).w = 1 := zt_end_w _ _
