/-! THE REFERENCE's WORLD: one object (numbers f), its fourteen arrays of ints (a), at the addresses h (zm_) -/
set_option maxRecDepth 100000
def zm_fs (h f : Nat → Nat) : List Value := [.ref (h 1), .ref (h 2), .ref (h 3), .ref (h 4), .ref (h 5), .ref (h 6), .ref (h 7), .ref (h 8), .ref (h 9), .int (nI (f 9)), .int (nI (f 10)), .int (nI (f 11)), .int (nI (f 12)), .int (nI (f 13)), .ref (h 10), .int (nI (f 15)), .ref (h 11), .ref (h 12), .ref (h 13), .ref (h 14), .int (nI (f 20)), .int (nI (f 21)), .int (nI (f 22)), .int (nI (f 23)), .int (nI (f 24))]
def zm_W (s0 : State) (h f : Nat → Nat) (a : Nat → Nat → Nat) : va_W := [(h 0, .inr (0, zm_fs h f)), (h 1, zk_I s0 72 (a 0)), (h 2, zk_I s0 72 (a 1)), (h 3, zk_I s0 72 (a 2)), (h 4, zk_I s0 576 (a 3)), (h 5, zk_I s0 1024 (a 4)), (h 6, zk_I s0 7 (a 5)), (h 7, zk_I s0 12 (a 6)), (h 8, zk_I s0 12 (a 7)), (h 9, zk_I s0 7 (a 8)), (h 10, zk_I s0 80 (a 9)), (h 11, zk_I s0 60 (a 10)), (h 12, zk_I s0 32 (a 11)), (h 13, zk_I s0 32 (a 12)), (h 14, zk_I s0 32 (a 13))]
section ZM
variable {p : Program} {l : Launch} {e : Env} {R : Room} {s : State} {m : MethodId} {args : Array Value} {below : List Frame} {meth : Method} {c : Code} {H : Heap} {locs : List Loc} {cells slots : Nat} {Q : State → Prop}
variable {cc : ByteArray} {pc nL : Nat} {ls : Array Slot} {rest st0 : List Value} {s0 : State} {b : Nat} {A : Nat → Prop} {ret : Option FieldType} {nm : String} {h f : Nat → Nat} {a : Nat → Nat → Nat}
theorem zm_get (fx : zk_Fx s0 b p s m args meth c cc nL ret RX7 nm A) {index : Nat} (k : Nat) (hk : k < 25) (g : Cond.fieldLink RX7 index RX7 (TX7 k).2.1 (TX7 k).2.2.1 ∈ lw_all) {v : Value} (hv : (zm_fs h f)[k]? = some v) (hP : va_P (zk_D s0) zk_Cl (zm_W s0 h f a) H) (d : decode cc pc = .ok (.getfield index, 3))
    (kk : W p l e R s m args below meth c H locs cells slots Q (F0 m (pc + 3) ls (v :: rest))) : W p l e R s m args below meth c H locs cells slots Q (F0 m pc ls (.ref (h 0) :: rest)) := by
  obtain ⟨hx, hb, hml, hown, hts, -, -, -, hG, hA⟩ := fx
  exact va_get (D := zk_D s0) (ci := 0) (C := RX7) (T := TX7) (N := 25) hx hb hts in_X7 hown hG.K hP 0 rfl rfl k hk (hts _ g) (fun _ h9 => by
    rcases (show k = 0 ∨ k = 1 ∨ k = 2 ∨ k = 3 ∨ k = 4 ∨ k = 5 ∨ k = 6 ∨ k = 7 ∨ k = 8 ∨ k = 9 ∨ k = 10 ∨ k = 11 ∨ k = 12 ∨ k = 13 ∨ k = 14 ∨ k = 15 ∨ k = 16 ∨ k = 17 ∨ k = 18 ∨ k = 19 ∨ k = 20 ∨ k = 21 ∨ k = 22 ∨ k = 23 ∨ k = 24 by omega) with rfl | rfl | rfl | rfl | rfl | rfl | rfl | rfl | rfl | rfl | rfl | rfl | rfl | rfl | rfl | rfl | rfl | rfl | rfl | rfl | rfl | rfl | rfl | rfl | rfl <;> exact h9) hv d kk
theorem zm_set {k v : Nat} (hk : k = 9 ∨ k = 10 ∨ k = 11 ∨ k = 12 ∨ k = 13 ∨ k = 15 ∨ k = 20 ∨ k = 21 ∨ k = 22 ∨ k = 23 ∨ k = 24) : (zm_W s0 h f a).set 0 (h 0, .inr (0, (zm_fs h f).set k (.int (nI v)))) = zm_W s0 h (va_up f k v) a := by
  rcases hk with rfl | rfl | rfl | rfl | rfl | rfl | rfl | rfl | rfl | rfl | rfl <;> rfl
theorem zm_put (fx : zk_Fx s0 b p s m args meth c cc nL ret RX7 nm A) {index : Nat} (k : Nat) (hk : k = 9 ∨ k = 10 ∨ k = 11 ∨ k = 12 ∨ k = 15 ∨ k = 20 ∨ k = 21 ∨ k = 22 ∨ k = 23) (g : Cond.fieldLink RX7 index RX7 (TX7 k).2.1 (TX7 k).2.2.1 ∈ lw_all) {v : Nat} (hP : va_P (zk_D s0) zk_Cl (zm_W s0 h f a) H) (hD : va_D A (zm_W s0 h f a)) (hS : va_S A s.heap H locs) (d : decode cc pc = .ok (.putfield index, 3))
    (kk : ∀ (H1 : Heap) (locs1 : List Loc), va_P (zk_D s0) zk_Cl (zm_W s0 h (va_up f k v) a) H1 → va_D A (zm_W s0 h (va_up f k v) a) → va_S A s.heap H1 locs1 → W p l e R s m args below meth c H1 locs1 cells slots Q (F0 m (pc + 3) ls rest)) : W p l e R s m args below meth c H locs cells slots Q (F0 m pc ls (.int (nI v) :: .ref (h 0) :: rest)) := by
  obtain ⟨hx, hb, hml, hown, hts, -, -, -, hG, hA⟩ := fx
  rw [← zm_set (s0 := s0) (h := h) (f := f) (a := a) (k := k) (v := v) (by omega)] at kk
  rcases hk with rfl | rfl | rfl | rfl | rfl | rfl | rfl | rfl | rfl <;>
  exact va_put (D := zk_D s0) (ci := 0) (ty := .int) (C := RX7) (T := TX7) (N := 25) hx hb hts in_X7 tyX7 tyX7_ok nmX7 hown hG.K hP hD hS 0 rfl rfl _ (by decide) (hts _ g) (fun _ h9 => h9) rfl (by decide +kernel) rfl rfl (Nat.le_of_ble_eq_true rfl) d kk
theorem zm_putb (fx : zk_Fx s0 b p s m args meth c cc nL ret RX7 nm A) {index : Nat} (k : Nat) (hk : k = 13 ∨ k = 24) (g : Cond.fieldLink RX7 index RX7 (TX7 k).2.1 (TX7 k).2.2.1 ∈ lw_all) {v : Nat} (hv : v = 0 ∨ v = 1) (hP : va_P (zk_D s0) zk_Cl (zm_W s0 h f a) H) (hD : va_D A (zm_W s0 h f a)) (hS : va_S A s.heap H locs) (d : decode cc pc = .ok (.putfield index, 3))
    (kk : ∀ (H1 : Heap) (locs1 : List Loc), va_P (zk_D s0) zk_Cl (zm_W s0 h (va_up f k v) a) H1 → va_D A (zm_W s0 h (va_up f k v) a) → va_S A s.heap H1 locs1 → W p l e R s m args below meth c H1 locs1 cells slots Q (F0 m (pc + 3) ls rest)) : W p l e R s m args below meth c H locs cells slots Q (F0 m pc ls (.int (nI v) :: .ref (h 0) :: rest)) := by
  obtain ⟨hx, hb, hml, hown, hts, -, -, -, hG, hA⟩ := fx
  rw [← zm_set (s0 := s0) (h := h) (f := f) (a := a) (k := k) (v := v) (by omega)] at kk
  rcases hv with rfl | rfl <;> rcases hk with rfl | rfl <;>
  exact va_put (D := zk_D s0) (ci := 0) (ty := .boolean) (C := RX7) (T := TX7) (N := 25) hx hb hts in_X7 tyX7 tyX7_ok nmX7 hown hG.K hP hD hS 0 rfl rfl _ (by decide) (hts _ g) (fun _ h9 => h9) rfl (by decide +kernel) rfl rfl (Nat.le_of_ble_eq_true rfl) d kk
theorem zm_seta (t : Nat) (ht : t < 14) (n : Nat) (hn : [72, 72, 72, 576, 1024, 7, 12, 12, 7, 80, 60, 32, 32, 32][t]? = some n) (g : Nat → Nat) : (zm_W s0 h f a).set (1 + t) (h (1 + t), zk_I s0 n g) = zm_W s0 h f (va_up a t g) := by
  rcases (show t = 0 ∨ t = 1 ∨ t = 2 ∨ t = 3 ∨ t = 4 ∨ t = 5 ∨ t = 6 ∨ t = 7 ∨ t = 8 ∨ t = 9 ∨ t = 10 ∨ t = 11 ∨ t = 12 ∨ t = 13 by omega) with rfl | rfl | rfl | rfl | rfl | rfl | rfl | rfl | rfl | rfl | rfl | rfl | rfl | rfl <;> cases hn <;> rfl
end ZM
