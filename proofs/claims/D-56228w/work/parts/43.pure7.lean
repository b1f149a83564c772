/-! THE TEXTS, in plain Lean: what is written, what is parsed -/
set_option maxRecDepth 100000
/-- numbers appended to an array's first n cells -/
def zw_app (g : Nat → Nat) (n : Nat) : List Nat → Nat → Nat
  | [] => g
  | c :: r => zw_app (va_up g n c) (n + 1) r
theorem zw_app_nil (g : Nat → Nat) (n : Nat) : zw_app g n [] = g := rfl
theorem zw_app_cons (g : Nat → Nat) (n c : Nat) (r : List Nat) : zw_app g n (c :: r) = zw_app (va_up g n c) (n + 1) r := rfl
theorem zw_app_append (r k : List Nat) : ∀ (g : Nat → Nat) (n : Nat), zw_app g n (r ++ k) = zw_app (zw_app g n r) (n + r.length) k := by
  induction r with
  | nil => intro g n; rfl
  | cons c r ih => intro g n; rw [List.cons_append, zw_app_cons, zw_app_cons, ih, List.length_cons, show n + 1 + r.length = n + (r.length + 1) by omega]
theorem zw_app_lo (r : List Nat) : ∀ (g : Nat → Nat) (n i : Nat), i < n → zw_app g n r i = g i := by
  induction r with
  | nil => intro g n i _; rfl
  | cons c r ih => intro g n i hi; rw [zw_app_cons, ih _ _ _ (by omega), zk_up_ne (by omega)]
theorem zw_app_at (r : List Nat) : ∀ (g : Nat → Nat) (n i : Nat), i < r.length → some (zw_app g n r (n + i)) = r[i]? := by
  induction r with
  | nil => intro g n i hi; exact absurd hi (Nat.not_lt_zero _)
  | cons c r ih =>
    intro g n i hi
    rw [zw_app_cons]
    cases i with
    | zero => rw [zw_app_lo _ _ _ _ (by omega), Nat.add_zero, zk_up_eq]; rfl
    | succ i => rw [show n + (i + 1) = n + 1 + i by omega, ih _ _ _ (by rw [List.length_cons] at hi; omega)]; rfl
/-- a number of at most three digits -/
def zw_num (v : Nat) : List Nat := if v / 1 ≤ 9 then [48 + v / 1 % 10] else if v / 10 ≤ 9 then [48 + v / 10 % 10, 48 + v / 1 % 10] else [48 + v / 100 % 10, 48 + v / 10 % 10, 48 + v / 1 % 10]
theorem zw_num_len (v : Nat) : (zw_num v).length ≤ 3 := by
  unfold zw_num
  split
  · exact (by decide : (1 : Nat) ≤ 3)
  · split
    · exact (by decide : (2 : Nat) ≤ 3)
    · exact Nat.le_refl 3
theorem zw_num_le (v : Nat) : ∀ c ∈ zw_num v, 32 ≤ c ∧ c ≤ 126 := by
  intro c hc
  unfold zw_num at hc
  split at hc
  · simp at hc; omega
  · split at hc <;> simp at hc <;> omega
def zw_ed (σ : Nat → Nat) (i : Nat) : List Nat := zw_num i ++ [99] ++ zw_num (σ (20 + 4 * i)) ++ [58] ++ zw_num (σ (20 + 4 * i + 2)) ++ [47] ++ zw_num (σ (20 + 4 * i + 1))
/-- the wells' numbers, the first k -/
def zw_wells (σ : Nat → Nat) : Nat → List Nat
  | 0 => []
  | k + 1 => zw_wells σ k ++ (if k = 0 then [] else [32]) ++ zw_num (σ (8 + k))
theorem zw_wells_len (σ : Nat → Nat) (k : Nat) : (zw_wells σ k).length ≤ 4 * k := by
  induction k with
  | zero => exact Nat.le_refl _
  | succ k ih =>
    have := zw_num_len (σ (8 + k))
    rw [zw_wells]
    split <;> simp <;> omega
theorem zx_id {α : Type} {g : Nat → α} {k : Nat} {v : α} (h : g k = v) : va_up g k v = g := by
  funext j
  by_cases hj : j = k
  · subst hj; rw [zk_up_eq, h]
  · rw [zk_up_ne hj]
theorem zx_cm {α : Type} {g : Nat → α} {i j : Nat} {x y : α} (h : i ≠ j) : va_up (va_up g i x) j y = va_up (va_up g j y) i x := by
  funext k
  by_cases hk : k = j
  · subst hk; rw [zk_up_eq, zk_up_ne (Ne.symm h), zk_up_eq]
  · rw [zk_up_ne hk]
    by_cases hi : k = i
    · subst hi; rw [zk_up_eq, zk_up_eq]
    · rw [zk_up_ne hi, zk_up_ne hi, zk_up_ne hk]
/-! the order of the parser's fields: 24 within, then 22, then 23 -/
theorem zx_2224 {g : Nat → Nat} {x y : Nat} : va_up (va_up g 22 x) 24 y = va_up (va_up g 24 y) 22 x := zx_cm (by decide)
theorem zx_2324 {g : Nat → Nat} {x y : Nat} : va_up (va_up g 23 x) 24 y = va_up (va_up g 24 y) 23 x := zx_cm (by decide)
theorem zx_2322 {g : Nat → Nat} {x y : Nat} : va_up (va_up g 23 x) 22 y = va_up (va_up g 22 y) 23 x := zx_cm (by decide)
/-! a switch over naturals -/
section ZSW
variable {p : Program} {l : Launch} {e : Env} {R : Room} {s : State} {args : Array Value} {m : MethodId} {below : List Frame} {meth : Method} {c : Code} {H : Heap} {locs : List Loc} {cells slots : Nat} {Q : State → Prop} {cc : ByteArray} {pc : Nat} {ls : Array Slot} {rest : List Value} {len : Nat} {dflt hi : Int} {offs : Array Int} {tgt : Nat}
theorem zn_swin (hx : p.tables.exec = Jvm.exec) (hb : c.code = cc) (d : decode cc pc = .ok (.tableswitch dflt 0 hi offs, len)) {v : Nat} (j : Nat) (hv : v = j) (hj : j < 2 ^ 31) (h2 : (j : Int) ≤ hi) {off : Int} (ho : offs[j]? = some off) (ht : (pc : Int) + off = (tgt : Int)) (k : W p l e R s m args below meth c H locs cells slots Q (F0 m tgt ls rest)) : W p l e R s m args below meth c H locs cells slots Q (F0 m pc ls (.int (nI v) :: rest)) := by
  subst hv
  have ht1 : (nI v).toInt = (v : Int) := nI_toInt hj
  exact lv_tableIn hx hb d (by rw [ht1]; omega) (by rw [ht1]; omega) (by rw [ht1]; simpa using ho) ht k
theorem zn_swout (hx : p.tables.exec = Jvm.exec) (hb : c.code = cc) (d : decode cc pc = .ok (.tableswitch dflt 0 hi offs, len)) {v : Nat} (hv : v < 2 ^ 31) (h2 : hi < (v : Int)) (ht : (pc : Int) + dflt = (tgt : Int)) (k : W p l e R s m args below meth c H locs cells slots Q (F0 m tgt ls rest)) : W p l e R s m args below meth c H locs cells slots Q (F0 m pc ls (.int (nI v) :: rest)) := by
  have ht1 : (nI v).toInt = (v : Int) := nI_toInt hv
  exact lv_tableOut hx hb d (Or.inr (by rw [ht1]; exact h2)) ht k
end ZSW
/-- letters of the words -/
def zt_pick (k q1 q2 q3 q4 q5 q6 q7 : Nat) : Nat := if k = 0 then q1 else if k = 1 then q2 else if k = 2 then q3 else if k = 3 then q4 else if k = 4 then q5 else if k = 5 then q6 else if k = 6 then q7 else 0
def zt_sp (kd k : Nat) : Nat := if kd = 0 then zt_pick k 105 110 107 0 0 0 0 else if kd = 1 then zt_pick k 112 97 112 101 114 0 0 else if kd = 2 then zt_pick k 101 100 105 116 105 111 110 else if kd = 3 then zt_pick k 114 101 109 111 118 101 0 else if kd = 4 then zt_pick k 112 114 105 110 116 0 0 else if kd = 5 then zt_pick k 97 108 108 0 0 0 0 else if kd = 6 then zt_pick k 104 111 117 114 115 0 0 else if kd = 7 then zt_pick k 112 114 111 111 102 0 0 else zt_pick k 100 114 111 112 0 0 0
theorem zt_pick_le {k q1 q2 q3 q4 q5 q6 q7 : Nat} (h1 : q1 ≤ 126) (h2 : q2 ≤ 126) (h3 : q3 ≤ 126) (h4 : q4 ≤ 126) (h5 : q5 ≤ 126) (h6 : q6 ≤ 126) (h7 : q7 ≤ 126) : zt_pick k q1 q2 q3 q4 q5 q6 q7 ≤ 126 := by
  unfold zt_pick
  repeat' split
  all_goals first | assumption | exact Nat.zero_le _
theorem zt_sp_le (kd k : Nat) : zt_sp kd k ≤ 126 := by
  unfold zt_sp
  repeat' split
  all_goals exact zt_pick_le (by decide) (by decide) (by decide) (by decide) (by decide) (by decide) (by decide)
theorem zt_sp_7 {kd k : Nat} (h : zt_sp kd k ≠ 0) : k ≤ 6 := by
  refine Nat.le_of_not_lt (fun hk => h ?_)
  unfold zt_sp
  repeat' split
  all_goals (unfold zt_pick; repeat' split)
  all_goals omega
theorem zt_sp_3 {kd k : Nat} (h : zt_sp kd k = 0) : 3 ≤ k := by
  refine Nat.le_of_not_lt (fun hk => ?_)
  revert h
  unfold zt_sp
  have : k = 0 ∨ k = 1 ∨ k = 2 := by omega
  rcases this with rfl | rfl | rfl <;> (repeat' split) <;> decide
/-- the mark at p: none if wrong or behind the end -/
def zt_mk (t : Nat → Nat) (L w p : Nat) : Nat := if w = 0 ∧ p < L then t p else 4294967295
theorem zt_mkI {t : Nat → Nat} {L w p q : Nat} (ht : ∀ i, i < L → t i ≤ 126) (hq : q ≤ 126) : nI (zt_mk t L w p) = nI q ↔ (w = 0 ∧ p < L ∧ t p = q) := by
  unfold zt_mk
  by_cases h : w = 0 ∧ p < L
  · rw [if_pos h, nI_eq (by have := ht p h.2; omega) (by omega)]
    exact ⟨fun z => ⟨h.1, h.2, z⟩, fun z => z.2.2⟩
  · rw [if_neg h]
    constructor
    · intro z
      have h1 : (nI 4294967295).toInt = -1 := by decide
      rw [z, nI_toInt (by omega)] at h1
      omega
    · intro z; exact absurd ⟨z.1, z.2.1⟩ h
def zt_dg (t : Nat → Nat) (L p : Nat) : Bool := decide (p < L ∧ 48 ≤ t p ∧ t p ≤ 57)
theorem zt_in {t : Nat → Nat} {L w p : Nat} (ht : ∀ i, i < L → t i ≤ 126) : zk_in (nI (zt_mk t L w p)) 48 57 = (decide (w = 0) && zt_dg t L p) := by
  unfold zt_mk zt_dg
  by_cases h : w = 0 ∧ p < L
  · rw [if_pos h, zk_in_nI (by have := ht p h.2; omega) (by decide) (by decide), decide_eq_true h.1, Bool.true_and]
    exact decide_eq_decide.mpr ⟨fun z => ⟨h.2, z⟩, fun z => z.2⟩
  · rw [if_neg h]
    have h1 : zk_in (nI 4294967295) 48 57 = false := by decide
    rw [h1]
    symm
    by_cases hw : w = 0
    · rw [Bool.and_eq_false_iff]; exact Or.inr (decide_eq_false (fun z => h ⟨hw, z.1⟩))
    · rw [decide_eq_false hw]; rfl
/-- a mark typed behind n -/
def zt_ty (n v : Nat) : Nat := if ¬ (32 ≤ v ∧ v ≤ 126) then 1 else if n = 60 then 2 else 0
/-- digits read: a value and a place -/
def zt_dgs (t : Nat → Nat) (L : Nat) : Nat → Nat × Nat → Nat × Nat
  | 0, s => s
  | n + 1, s => if zt_dg t L s.2 = true then zt_dgs t L n (10 * s.1 + t s.2 - 48, s.2 + 1) else s
def zt_dw (t : Nat → Nat) (L w n : Nat) (s : Nat × Nat) : Nat × Nat := if w = 0 then zt_dgs t L n s else s
theorem zt_dw0 {t : Nat → Nat} {L w : Nat} {s : Nat × Nat} : zt_dw t L w 0 s = s := by unfold zt_dw; split <;> rfl
theorem zt_dwF {t : Nat → Nat} {L w n : Nat} {s : Nat × Nat} (h : (decide (w = 0) && zt_dg t L s.2) = false) : zt_dw t L w n s = s := by
  unfold zt_dw
  split
  · next hw =>
    cases n with
    | zero => rfl
    | succ n =>
      rw [zt_dgs, if_neg (by intro z; rw [z, decide_eq_true hw] at h; exact absurd h (by decide))]
  · rfl
theorem zt_dwT {t : Nat → Nat} {L w n : Nat} {v p : Nat} (h : (decide (w = 0) && zt_dg t L p) = true) : zt_dw t L w (n + 1) (v, p) = zt_dw t L w n (10 * v + t p - 48, p + 1) := by
  have hh := (Bool.and_eq_true_iff ..).mp h
  have hw : w = 0 := of_decide_eq_true hh.1
  unfold zt_dw
  rw [if_pos hw, if_pos hw, zt_dgs, if_pos hh.2]
def zt_w1 (t : Nat → Nat) (L w p : Nat) : Nat := if w = 0 ∧ p < L ∧ t p = 32 then 0 else 1
def zt_p1 (t : Nat → Nat) (L w p : Nat) : Nat := p + (1 - zt_w1 t L w p)
def zt_w2 (t : Nat → Nat) (L w p : Nat) : Nat := if zt_w1 t L w p = 0 ∧ zt_dg t L (zt_p1 t L w p) = true then 0 else 1
/-- a blank and a number of at most n digits: value, place, wrong -/
def zt_number (t : Nat → Nat) (L n w p : Nat) : Nat × Nat × Nat := ((zt_dw t L (zt_w2 t L w p) n (0, zt_p1 t L w p)).1, (zt_dw t L (zt_w2 t L w p) n (0, zt_p1 t L w p)).2, zt_w2 t L w p)
theorem zt_w1_le (t : Nat → Nat) (L w p : Nat) : zt_w1 t L w p = 0 ∨ zt_w1 t L w p = 1 := by unfold zt_w1; split <;> simp
theorem zt_w2_le (t : Nat → Nat) (L w p : Nat) : zt_w2 t L w p = 0 ∨ zt_w2 t L w p = 1 := by unfold zt_w2; split <;> simp
theorem zt_p1_le {t : Nat → Nat} {L w p : Nat} (h : p ≤ L) : p ≤ zt_p1 t L w p ∧ zt_p1 t L w p ≤ L := by
  unfold zt_p1 zt_w1
  split <;> omega
theorem zt_dg_lt {t : Nat → Nat} {L p : Nat} (h : zt_dg t L p = true) : p < L ∧ 48 ≤ t p ∧ t p ≤ 57 := of_decide_eq_true h
theorem zt_dgs_le {t : Nat → Nat} {L : Nat} : ∀ (n v p B : Nat), p ≤ L → v < B → (zt_dgs t L n (v, p)).1 < B * 10 ^ n ∧ p ≤ (zt_dgs t L n (v, p)).2 ∧ (zt_dgs t L n (v, p)).2 ≤ L := by
  intro n
  induction n with
  | zero => intro v p B h hv; exact ⟨by rw [Nat.pow_zero, Nat.mul_one]; exact hv, Nat.le_refl _, h⟩
  | succ n ih =>
    intro v p B h hv
    rw [zt_dgs]
    split
    · next hd =>
      have h1 : p < L ∧ 48 ≤ t p ∧ t p ≤ 57 := zt_dg_lt hd
      obtain ⟨a1, a2, a3⟩ := ih (10 * v + t p - 48) (p + 1) (10 * B) (by have := h1.1; omega) (by have := h1.2; omega)
      refine ⟨?_, Nat.le_trans (Nat.le_succ p) a2, a3⟩
      rw [Nat.pow_succ, show B * (10 ^ n * 10) = 10 * B * 10 ^ n by rw [Nat.mul_comm (10 ^ n), ← Nat.mul_assoc, Nat.mul_comm B]]
      exact a1
    · exact ⟨Nat.lt_of_lt_of_le hv (Nat.le_mul_of_pos_right _ (Nat.pow_pos (by decide))), Nat.le_refl _, h⟩
theorem zt_number_ok {t : Nat → Nat} {L n w p : Nat} (hn : n ≤ 3) (h : p ≤ L) : (zt_number t L n w p).1 ≤ 999 ∧ p ≤ (zt_number t L n w p).2.1 ∧ (zt_number t L n w p).2.1 ≤ L ∧ ((zt_number t L n w p).2.2 = 0 ∨ (zt_number t L n w p).2.2 = 1) ∧ ((zt_number t L n w p).2.2 = 0 → w = 0) := by
  obtain ⟨a1, a2⟩ := zt_p1_le (t := t) (w := w) h
  refine ⟨?_, ?_, ?_, zt_w2_le _ _ _ _, ?_⟩
  all_goals unfold zt_number
  · show (zt_dw _ _ _ _ _).1 ≤ 999
    unfold zt_dw
    split
    · have h1 := (zt_dgs_le (t := t) n 0 (zt_p1 t L w p) 1 a2 (by decide)).1
      have h2 : 10 ^ n ≤ 10 ^ 3 := Nat.pow_le_pow_right (by decide) hn
      omega
    · exact Nat.zero_le _
  · show p ≤ (zt_dw _ _ _ _ _).2
    unfold zt_dw
    split
    · have h1 := (zt_dgs_le (t := t) n 0 (zt_p1 t L w p) 1 a2 (by decide)).2.1; omega
    · exact a1
  · show (zt_dw _ _ _ _ _).2 ≤ L
    unfold zt_dw
    split
    · exact (zt_dgs_le n 0 (zt_p1 t L w p) 1 a2 (by decide)).2.2
    · exact a2
  · show zt_w2 t L w p = 0 → w = 0
    intro z
    refine Classical.byContradiction (fun hw => ?_)
    unfold zt_w2 zt_w1 at z
    rw [if_neg (c := w = 0 ∧ p < L ∧ t p = 32) (fun y => hw y.1), if_neg (fun y => absurd y.1 (by decide))] at z
    exact absurd z (by decide)
/-- how many letters of word kd stand at p -/
def zt_lcp (t : Nat → Nat) (L p kd : Nat) : Nat → Nat → Nat
  | 0, k => k
  | n + 1, k => if zt_sp kd k > 0 ∧ p + k < L ∧ t (p + k) = zt_sp kd k then zt_lcp t L p kd n (k + 1) else k
def zt_len (t : Nat → Nat) (L p kd : Nat) : Nat := zt_lcp t L p kd 8 0
def zt_wd (t : Nat → Nat) (L p : Nat) : Nat → Nat → Nat → Nat × Nat × Nat
  | 0, _, best => (0, p + best, 1)
  | n + 1, kd, best => if zt_sp kd (zt_len t L p kd) = 0 then (kd, p + zt_len t L p kd, 0) else zt_wd t L p n (kd + 1) (if zt_len t L p kd > best then zt_len t L p kd else best)
/-- the word at p: kind, place, wrong -/
def zt_word (t : Nat → Nat) (L p : Nat) : Nat × Nat × Nat := zt_wd t L p 9 0 0
theorem zt_lcp_le {t : Nat → Nat} {L p kd : Nat} (h : p ≤ L) : ∀ (n k : Nat), p + k ≤ L → k ≤ 7 → p + zt_lcp t L p kd n k ≤ L ∧ zt_lcp t L p kd n k ≤ 7 := by
  intro n
  induction n with
  | zero => intro k hk h7; exact ⟨hk, h7⟩
  | succ n ih =>
    intro k hk h7
    rw [zt_lcp]
    split
    · next hc => exact ih (k + 1) (by omega) (by have := zt_sp_7 (kd := kd) (k := k) (by omega); omega)
    · exact ⟨hk, h7⟩
theorem zt_len_le {t : Nat → Nat} {L p kd : Nat} (h : p ≤ L) : p + zt_len t L p kd ≤ L ∧ zt_len t L p kd ≤ 7 := zt_lcp_le h 8 0 h (by decide)
theorem zt_wd_ok {t : Nat → Nat} {L p : Nat} (h : p ≤ L) : ∀ (n kd best : Nat), kd + n ≤ 9 → p + best ≤ L → (zt_wd t L p n kd best).1 ≤ 8 ∧ p ≤ (zt_wd t L p n kd best).2.1 ∧ (zt_wd t L p n kd best).2.1 ≤ L ∧ ((zt_wd t L p n kd best).2.2 = 0 ∨ (zt_wd t L p n kd best).2.2 = 1) ∧ ((zt_wd t L p n kd best).2.2 = 0 → p + 3 ≤ (zt_wd t L p n kd best).2.1) := by
  intro n
  induction n with
  | zero => intro kd best h9 hb; exact ⟨Nat.zero_le _, Nat.le_add_right _ _, hb, Or.inr rfl, fun z => absurd z (by decide : (1 : Nat) ≠ 0)⟩
  | succ n ih =>
    intro kd best h9 hb
    have h1 := zt_len_le (t := t) (kd := kd) h
    rw [zt_wd]
    split
    · next hc =>
      have h3 := zt_sp_3 hc
      exact ⟨by show kd ≤ 8; omega, Nat.le_add_right _ _, h1.1, Or.inl rfl, fun _ => Nat.add_le_add_left h3 p⟩
    · exact ih (kd + 1) _ (by omega) (by split <;> omega)
theorem zt_word_ok {t : Nat → Nat} {L p : Nat} (h : p ≤ L) : (zt_word t L p).1 ≤ 8 ∧ p ≤ (zt_word t L p).2.1 ∧ (zt_word t L p).2.1 ≤ L ∧ ((zt_word t L p).2.2 = 0 ∨ (zt_word t L p).2.2 = 1) ∧ ((zt_word t L p).2.2 = 0 → p + 3 ≤ (zt_word t L p).2.1) := zt_wd_ok h 9 0 0 (by decide) h
def zt_fd (kd : Nat) : Nat := if kd = 1 then 3 else if kd = 6 ∨ kd = 7 ∨ kd = 8 then 2 else 1
theorem zt_fd_le (kd : Nat) : zt_fd kd ≤ 3 := by
  unfold zt_fd
  repeat' split
  all_goals decide
/-- the first number behind a word; the second one -/
def zt_x (t : Nat → Nat) (L : Nat) (d : Nat × Nat × Nat) : Nat × Nat × Nat := if d.1 = 5 then (0, d.2.1, 0) else zt_number t L (zt_fd d.1) 0 d.2.1
def zt_y (t : Nat → Nat) (L kd : Nat) (x : Nat × Nat × Nat) : Nat × Nat × Nat := if kd = 0 then zt_number t L 3 x.2.2 x.2.1 else if kd = 2 then zt_number t L 2 x.2.2 x.2.1 else (0, x.2.1, x.2.2)
/-- a parser's state: place, wrong, commands; kinds, first and second numbers -/
abbrev zt_S := Nat × Nat × Nat × (Nat → Nat) × (Nat → Nat) × (Nat → Nat)
def zt_S.p (s : zt_S) : Nat := s.1
def zt_S.w (s : zt_S) : Nat := s.2.1
def zt_S.n (s : zt_S) : Nat := s.2.2.1
def zt_S.K (s : zt_S) : Nat → Nat := s.2.2.2.1
def zt_S.F (s : zt_S) : Nat → Nat := s.2.2.2.2.1
def zt_S.G (s : zt_S) : Nat → Nat := s.2.2.2.2.2
def zt_cmd (t : Nat → Nat) (L : Nat) (s : zt_S) : zt_S :=
  if (zt_word t L s.p).2.2 ≠ 0 then ⟨(zt_word t L s.p).2.1, (zt_word t L s.p).2.2, s.n, s.K, s.F, s.G⟩
  else if (zt_y t L (zt_word t L s.p).1 (zt_x t L (zt_word t L s.p))).2.2 ≠ 0 then ⟨(zt_y t L (zt_word t L s.p).1 (zt_x t L (zt_word t L s.p))).2.1, (zt_y t L (zt_word t L s.p).1 (zt_x t L (zt_word t L s.p))).2.2, s.n, s.K, va_up s.F s.n (zt_x t L (zt_word t L s.p)).1, va_up s.G s.n (zt_y t L (zt_word t L s.p).1 (zt_x t L (zt_word t L s.p))).1⟩
  else ⟨(zt_y t L (zt_word t L s.p).1 (zt_x t L (zt_word t L s.p))).2.1, (zt_y t L (zt_word t L s.p).1 (zt_x t L (zt_word t L s.p))).2.2, s.n + 1, va_up s.K s.n (zt_word t L s.p).1, va_up s.F s.n (zt_x t L (zt_word t L s.p)).1, va_up s.G s.n (zt_y t L (zt_word t L s.p).1 (zt_x t L (zt_word t L s.p))).1⟩
theorem zt_x_ok {t : Nat → Nat} {L : Nat} {d : Nat × Nat × Nat} (h : d.2.1 ≤ L) : (zt_x t L d).1 ≤ 999 ∧ d.2.1 ≤ (zt_x t L d).2.1 ∧ (zt_x t L d).2.1 ≤ L ∧ ((zt_x t L d).2.2 = 0 ∨ (zt_x t L d).2.2 = 1) := by
  unfold zt_x
  split
  · exact ⟨Nat.zero_le _, Nat.le_refl _, h, Or.inl rfl⟩
  · obtain ⟨a1, a2, a3, a4, a5⟩ := zt_number_ok (t := t) (w := 0) (zt_fd_le d.1) h
    exact ⟨a1, a2, a3, a4⟩
theorem zt_y_ok {t : Nat → Nat} {L kd : Nat} {x : Nat × Nat × Nat} (h : x.2.1 ≤ L) (hw : x.2.2 = 0 ∨ x.2.2 = 1) : (zt_y t L kd x).1 ≤ 999 ∧ x.2.1 ≤ (zt_y t L kd x).2.1 ∧ (zt_y t L kd x).2.1 ≤ L ∧ ((zt_y t L kd x).2.2 = 0 ∨ (zt_y t L kd x).2.2 = 1) ∧ ((zt_y t L kd x).2.2 = 0 → x.2.2 = 0) := by
  unfold zt_y
  split
  · exact zt_number_ok (by decide) h
  · split
    · exact zt_number_ok (by decide) h
    · exact ⟨Nat.zero_le _, Nat.le_refl _, h, hw, fun z => z⟩
/-- a command read: where it stands then -/
def zt_I (L : Nat) (s : zt_S) : Prop := s.p ≤ L ∧ (s.w = 0 ∨ s.w = 1) ∧ 4 * s.n ≤ s.p + 1 ∧ ∀ i, i < s.n → s.K i ≤ 8 ∧ s.F i ≤ 999 ∧ s.G i ≤ 999
theorem zt_cmd_ok {t : Nat → Nat} {L : Nat} {s : zt_S} (h : s.p ≤ L) (h4 : 4 * s.n ≤ s.p) (hi : ∀ i, i < s.n → s.K i ≤ 8 ∧ s.F i ≤ 999 ∧ s.G i ≤ 999) : zt_I L (zt_cmd t L s) ∧ s.p ≤ (zt_cmd t L s).p := by
  obtain ⟨w1, w2, w3, w4, w5⟩ := zt_word_ok (t := t) h
  obtain ⟨x1, x2, x3, x4⟩ := zt_x_ok (t := t) (d := zt_word t L s.p) w3
  obtain ⟨y1, y2, y3, y4, y5⟩ := zt_y_ok (t := t) (kd := (zt_word t L s.p).1) (x := zt_x t L (zt_word t L s.p)) x3 x4
  unfold zt_cmd
  split
  · exact ⟨⟨w3, w4, (by show 4 * s.n ≤ (zt_word t L s.p).2.1 + 1; omega), hi⟩, w2⟩
  · next hw =>
    have w6 := w5 (by omega)
    split
    · refine ⟨⟨y3, y4, (by show 4 * s.n ≤ (zt_y t L (zt_word t L s.p).1 (zt_x t L (zt_word t L s.p))).2.1 + 1; omega), fun i h9 => ?_⟩, (by show s.p ≤ (zt_y t L (zt_word t L s.p).1 (zt_x t L (zt_word t L s.p))).2.1; omega)⟩
      have h9 : i < s.n := h9
      have := hi i h9
      exact ⟨this.1, by show va_up _ _ _ i ≤ _; rw [zk_up_ne (by omega)]; exact this.2.1, by show va_up _ _ _ i ≤ _; rw [zk_up_ne (by omega)]; exact this.2.2⟩
    · refine ⟨⟨y3, y4, (by show 4 * (s.n + 1) ≤ (zt_y t L (zt_word t L s.p).1 (zt_x t L (zt_word t L s.p))).2.1 + 1; omega), fun i h9 => ?_⟩, (by show s.p ≤ (zt_y t L (zt_word t L s.p).1 (zt_x t L (zt_word t L s.p))).2.1; omega)⟩
      have h9 : i < s.n + 1 := h9
      by_cases hin : i = s.n
      · subst hin
        exact ⟨by show va_up _ _ _ _ ≤ _; rw [zk_up_eq]; exact w1, by show va_up _ _ _ _ ≤ _; rw [zk_up_eq]; exact x1, by show va_up _ _ _ _ ≤ _; rw [zk_up_eq]; exact y1⟩
      · have := hi i (by omega)
        exact ⟨by show va_up _ _ _ i ≤ _; rw [zk_up_ne hin]; exact this.1, by show va_up _ _ _ i ≤ _; rw [zk_up_ne hin]; exact this.2.1, by show va_up _ _ _ i ≤ _; rw [zk_up_ne hin]; exact this.2.2⟩
/-- the commands behind the first one, with fuel -/
def zt_ps (t : Nat → Nat) (L : Nat) : Nat → zt_S → zt_S
  | 0, s => s
  | m + 1, s => if s.w = 0 ∧ s.p < L ∧ t s.p = 59 then zt_ps t L m (zt_cmd t L ⟨s.p + 1, 0, s.n, s.K, s.F, s.G⟩) else s
def zt_end (L : Nat) (s : zt_S) : zt_S := ⟨s.p, (if s.w = 0 ∧ L ≤ s.p then 0 else 1), s.n, s.K, s.F, s.G⟩
def zt_p0 (t : Nat → Nat) (L : Nat) (K F G : Nat → Nat) : zt_S := zt_cmd t L ⟨0, 0, 0, K, F, G⟩
def zt_parse (t : Nat → Nat) (L : Nat) (K F G : Nat → Nat) : zt_S := zt_end L (zt_ps t L 61 (zt_p0 t L K F G))
theorem zt_step_ok {t : Nat → Nat} {L : Nat} {s : zt_S} (h : zt_I L s) (hp : s.p < L) : zt_I L (zt_cmd t L ⟨s.p + 1, 0, s.n, s.K, s.F, s.G⟩) ∧ s.p + 1 ≤ (zt_cmd t L ⟨s.p + 1, 0, s.n, s.K, s.F, s.G⟩).p :=
  zt_cmd_ok (s := ⟨s.p + 1, 0, s.n, s.K, s.F, s.G⟩) hp h.2.2.1 h.2.2.2
theorem zt_p0_ok {t : Nat → Nat} {L : Nat} {K F G : Nat → Nat} : zt_I L (zt_p0 t L K F G) := (zt_cmd_ok (s := ⟨0, 0, 0, K, F, G⟩) (Nat.zero_le _) (Nat.zero_le _) (fun i hi => absurd hi (Nat.not_lt_zero _))).1
theorem zt_ps_ok {t : Nat → Nat} {L : Nat} : ∀ (m : Nat) (s : zt_S), zt_I L s → zt_I L (zt_ps t L m s) := by
  intro m
  induction m with
  | zero => intro s h; exact h
  | succ m ih =>
    intro s h
    rw [zt_ps]
    split
    · next hc => exact ih _ (zt_step_ok h hc.2.1).1
    · exact h
theorem zt_ps_mono {t : Nat → Nat} {L : Nat} : ∀ (m m' : Nat) (s : zt_S), zt_I L s → L ≤ s.p + m → m ≤ m' → zt_ps t L m' s = zt_ps t L m s := by
  intro m
  induction m with
  | zero =>
    intro m' s h hL hm
    cases m' with
    | zero => rfl
    | succ m' => exact if_neg (fun z => by have := z.2.1; omega)
  | succ m ih =>
    intro m' s h hL hm
    cases m' with
    | zero => omega
    | succ m' =>
      rw [zt_ps, zt_ps]
      split
      · next hc =>
        have h1 := zt_step_ok (t := t) h hc.2.1
        exact ih m' _ h1.1 (by have := h1.2; omega) (by omega)
      · rfl
theorem zt_parse_ok {t : Nat → Nat} {L : Nat} {K F G : Nat → Nat} : (zt_parse t L K F G).p ≤ L ∧ 4 * (zt_parse t L K F G).n ≤ (zt_parse t L K F G).p + 1 ∧ ∀ i, i < (zt_parse t L K F G).n → (zt_parse t L K F G).K i ≤ 8 ∧ (zt_parse t L K F G).F i ≤ 999 ∧ (zt_parse t L K F G).G i ≤ 999 := by
  have h := zt_ps_ok (t := t) 61 _ (zt_p0_ok (t := t) (L := L) (K := K) (F := F) (G := G))
  exact ⟨h.1, h.2.2.1, h.2.2.2⟩
theorem zk_i2c {v : Nat} (h : v < 65536) : ((nI v).toUInt32 % 65536).toInt32 = nI v := by
  have h1 : (nI v).toUInt32 = UInt32.ofNat v := rfl
  rw [h1]
  have h2 : UInt32.ofNat v % 65536 = UInt32.ofNat v := by
    apply UInt32.toNat_inj.mp
    rw [UInt32.toNat_mod, UInt32.toNat_ofNat']
    show v % 2 ^ 32 % 65536 = v % 2 ^ 32
    omega
  rw [h2]; rfl
theorem zk_narc {v : Nat} (h : v < 65536) : narrow .char (.int (nI v)) = .int (nI v) := congrArg Value.int (zk_i2c h)
theorem zk_ix_last {x : Int32} {n : Nat} (hn : n < 2 ^ 31) : decide (nI 0 ≤ x ∧ x ≤ nI n - nI 1) = zk_ix x n := by
  unfold zk_ix
  refine decide_eq_decide.mpr (and_congr_right (fun _ => ?_))
  have h1 : (nI n - nI 1).toInt = (n : Int) - 1 := by
    cases n with
    | zero => decide
    | succ n => rw [pk_sub (by omega : 1 ≤ n + 1), nI_toInt (by omega)]; omega
  rw [Int32.le_iff_toInt_le, Int32.lt_iff_toInt_lt, h1, nI_toInt hn]
  omega
theorem zx_3 {α : Type} {g : Nat → α} {i j k : Nat} {x y z x' y' z' : α} (h1 : i ≠ j) (h2 : i ≠ k) (h3 : j ≠ k) : va_up (va_up (va_up (va_up (va_up (va_up g i x) j y) k z) i x') j y') k z' = va_up (va_up (va_up g i x') j y') k z' := by
  funext n
  by_cases a1 : n = k
  · subst a1; rw [zk_up_eq, zk_up_eq]
  · rw [zk_up_ne a1, zk_up_ne a1]
    by_cases a2 : n = j
    · subst a2; rw [zk_up_eq, zk_up_eq]
    · rw [zk_up_ne a2, zk_up_ne a2]
      by_cases a3 : n = i
      · subst a3; rw [zk_up_eq, zk_up_eq]
      · rw [zk_up_ne a3, zk_up_ne a3, zk_up_ne a1, zk_up_ne a2, zk_up_ne a3]
theorem zm_cmd0 {s0 : State} {h g : Nat → Nat} {a : Nat → Nat → Nat} : zm_W s0 h g a = zm_W s0 h (va_up g 23 (g 23)) (va_up (va_up (va_up a 12 (a 12)) 13 (a 13)) 11 (a 11)) := by
  rw [zx_id (g := a) rfl, zx_id (g := a) rfl, zx_id (g := a) rfl, zx_id (g := g) rfl]
theorem zm_cmd1 {s0 : State} {h g : Nat → Nat} {a : Nat → Nat → Nat} : zm_W s0 h g a = zm_W s0 h (va_up g 23 (g 23)) (va_up a 11 (a 11)) := by
  rw [zx_id (g := a) rfl, zx_id (g := g) rfl]
theorem zt_endT {L : Nat} {s : zt_S} (hw : s.w = 0 ∨ s.w = 1) (hp : L ≤ s.p) : s.w ||| 0 = (zt_end L s).w := by
  show s.w ||| 0 = if s.w = 0 ∧ L ≤ s.p then 0 else 1
  rcases hw with h | h
  · rw [if_pos ⟨h, hp⟩, h]; rfl
  · rw [if_neg (fun z => absurd (h.symm.trans z.1) (by decide)), h]; rfl
theorem zt_endF {L : Nat} {s : zt_S} (hw : s.w = 0 ∨ s.w = 1) (hp : ¬ L ≤ s.p) : s.w ||| 1 = (zt_end L s).w := by
  show s.w ||| 1 = if s.w = 0 ∧ L ≤ s.p then 0 else 1
  rw [if_neg (fun z => hp z.2)]
  rcases hw with h | h <;> rw [h] <;> rfl
theorem zt_end_w (L : Nat) (s : zt_S) : (zt_end L s).w = 0 ∨ (zt_end L s).w = 1 := by
  show (if s.w = 0 ∧ L ≤ s.p then 0 else 1) = 0 ∨ (if s.w = 0 ∧ L ≤ s.p then 0 else 1) = 1
  split <;> simp
