/-! GENERAL WORLDS: rows for listed cells of our classes (printed by prog/gw.py) -/
set_option maxRecDepth 100000
/-- an array of references -/
abbrev zk_Q_ (s0 : State) (t n : Nat) (f : Nat → Option Nat) : va_E := .inl (zk_dA s0 t, n, .inr (.inr (.inr (.inr f))))
theorem zk_RA_eq {U : State} {cA cB : ClassId} {ty : FieldType} (h1 : va_RA U cA ty) (h2 : va_RA U cB ty) : cA = cB := by
  cases ty with
  | object C =>
    obtain ⟨k1, c1, -, -, -, e1⟩ := h1
    obtain ⟨k2, c2, -, -, -, e2⟩ := h2
    exact Option.some.inj (e1.symm.trans e2)
  | _ => exact Option.some.inj (Eq.trans (Eq.symm h1) h2)
theorem zb_fit (v : Bool) : fits .boolean (.int (nI (Bool.toNat v))) = true := by cases v <;> rfl
section ZGW
variable {p : Program} {l : Launch} {e : Env} {R : Room} {s : State} {m : MethodId} {args : Array Value} {below : List Frame} {meth : Method} {c : Code} {H : Heap} {locs : List Loc} {cells slots : Nat} {Q : State → Prop}
variable {cc : ByteArray} {pc nL : Nat} {ls : Array Slot} {rest : List Value} {s0 : State} {b : Nat} {A : Nat → Prop} {ret : Option FieldType} {own nm : String} {ws : va_W} {o : Nat}
theorem zn_top9 {x y : Value} (h : x = y) (k : W p l e R s m args below meth c H locs cells slots Q (F0 m pc ls (y :: rest))) : W p l e R s m args below meth c H locs cells slots Q (F0 m pc ls (x :: rest)) := by
  rw [h]
  exact k
theorem zk_newI (fx : zk_Fx s0 b p s m args meth c cc nL ret own nm A) (hP : va_P (zk_D s0) zk_Cl ws H) (hD : va_D A ws) (hS : va_S A s.heap H locs) {n : Nat} (hn : n ≤ 100000) (hcells : cells + 1 ≤ R.cells) (hslots : slots + n ≤ R.slots) (d : decode cc pc = .ok (.newarray .int, 2))
    (kk : ∀ (q : Nat) (H1 : Heap), va_P (zk_D s0) zk_Cl (ws ++ [(q, zk_I s0 n (fun _ => 0))]) H1 → va_D A (ws ++ [(q, zk_I s0 n (fun _ => 0))]) → va_S A s.heap H1 locs → W p l e R s m args below meth c H1 locs (cells + 1) (slots + n) Q (F0 m (pc + 2) ls (.ref q :: rest))) : W p l e R s m args below meth c H locs cells slots Q (F0 m pc ls (.int (nI n) :: rest)) := by
  have hK := fx.2.2.2.2.2.2.2.2.1.K
  refine va_newa (atype := .int) (ty := .int) (a0 := (n, .inl (zk_F (fun _ => 0)))) fx.1 fx.2.1 (fx.2.2.2.2.1 _ q168) rfl hK hP hD hS fx.2.2.2.2.2.2.2.2.2 (fun cA => rfl) (fun z => ?_) (nI_clamp (by omega)) (by show n * 4 ≤ _; omega) hcells hslots d ?_
  · have h1 := Int32.lt_iff_toInt_lt.mp z
    rw [nI_toInt (by omega)] at h1
    have h2 : (0 : Int32).toInt = 0 := rfl
    omega
  · intro q cA H1 hK1 hP1 hD1 hS1
    have e1 : cA = zk_dA s0 0 := zk_RA_eq (hK1.2 8 (cA, .int) rfl).2 (hK.2 0 _ rfl).2
    subst e1
    exact kk q H1 hP1 hD1 hS1
theorem zk_newQ (fx : zk_Fx s0 b p s m args meth c cc nL ret own nm A) (t : Nat) {C : String} {index : Nat} (ht : (zk_tys s0)[t]? = some (zk_dA s0 t, .object C)) (hl : (Cond.classLink own index C).before args s = true) (ho : (Cond.arrayOver (.object C)).before args s = true) (hP : va_P (zk_D s0) zk_Cl ws H) (hD : va_D A ws) (hS : va_S A s.heap H locs) {n : Nat} (hn : n ≤ 100000) (hcells : cells + 1 ≤ R.cells) (hslots : slots + n ≤ R.slots) (d : decode cc pc = .ok (.anewarray index, 3))
    (kk : ∀ (q : Nat) (H1 : Heap), va_P (zk_D s0) zk_Cl (ws ++ [(q, zk_Q_ s0 t n (fun _ => none))]) H1 → va_D A (ws ++ [(q, zk_Q_ s0 t n (fun _ => none))]) → va_S A s.heap H1 locs → W p l e R s m args below meth c H1 locs (cells + 1) (slots + n) Q (F0 m (pc + 3) ls (.ref q :: rest))) : W p l e R s m args below meth c H locs cells slots Q (F0 m pc ls (.int (nI n) :: rest)) := by
  have hK := fx.2.2.2.2.2.2.2.2.1.K
  refine va_newq (C := C) (own := own) fx.1 fx.2.1 fx.2.2.2.1 hl (va_AO.of ho) hK hP hD hS fx.2.2.2.2.2.2.2.2.2 (fun z => ?_) (nI_clamp (by omega)) (by omega) hcells hslots d ?_
  · have h1 := Int32.lt_iff_toInt_lt.mp z
    rw [nI_toInt (by omega)] at h1
    have h2 : (0 : Int32).toInt = 0 := rfl
    omega
  · intro q cA H1 hK1 hP1 hD1 hS1
    have e1 : cA = zk_dA s0 t := zk_RA_eq (hK1.2 8 (cA, .object C) rfl).2 (hK.2 t _ ht).2
    subst e1
    exact kk q H1 hP1 hD1 hS1
theorem zn_aldq (hx : p.tables.exec = Jvm.exec) (hb : c.code = cc) (hK : va_K (zk_D s0) zk_Cl (zk_tys s0) s) (hP : va_P (zk_D s0) zk_Cl ws H) (q0 t : Nat) {n : Nat} {f : Nat → Option Nat} {C : String} (ha : ws[q0]? = some (o, zk_Q_ s0 t n f)) (ht : (zk_tys s0)[t]? = some (zk_dA s0 t, .object C)) {i : Nat} (hi : i < n) (hn : n < 2 ^ 31) (d : decode cc pc = .ok (.aaload, 1)) (k : W p l e R s m args below meth c H locs cells slots Q (F0 m (pc + 1) ls (va_rf (f i) :: rest))) : W p l e R s m args below meth c H locs cells slots Q (F0 m pc ls (.int (nI i) :: .ref o :: rest)) := by
  refine va_aldq hx hb hK hP q0 t ha ht (vp_in_nI hi hn) d ?_
  rw [nI_clamp (by omega)]
  exact k
theorem zn_astq (hx : p.tables.exec = Jvm.exec) (hb : c.code = cc) (hK : va_K (zk_D s0) zk_Cl (zk_tys s0) s) {H0 : Heap} (hP : va_P (zk_D s0) zk_Cl ws H) (hD : va_D A ws) (hS : va_S A H0 H locs) (q0 t qk ci : Nat) {n v : Nat} {f : Nat → Option Nat} {r : vw_C} {vs : List Value} (ha : ws[q0]? = some (o, zk_Q_ s0 t n f)) (ht : (zk_tys s0)[t]? = some (zk_dA s0 t, .object r.1)) (hv : ws[qk]? = some (v, .inr (ci, vs))) (hc : zk_Cl[ci]? = some r) {i : Nat} (hi : i < n) (hn : n < 2 ^ 31) (d : decode cc pc = .ok (.aastore, 1)) {ws2 : va_W} (hw : ws.set q0 (o, zk_Q_ s0 t n (va_up f i (some v))) = ws2)
    (kk : ∀ (H1 : Heap) (locs1 : List Loc), va_P (zk_D s0) zk_Cl ws2 H1 → va_D A ws2 → va_S A H0 H1 locs1 → W p l e R s m args below meth c H1 locs1 cells slots Q (F0 m (pc + 1) ls rest)) : W p l e R s m args below meth c H locs cells slots Q (F0 m pc ls (.ref v :: .int (nI i) :: .ref o :: rest)) := by
  subst hw
  refine va_astq hx hb hK hP hD hS q0 t qk ci ha ht hv hc (vp_in_nI hi hn) d ?_
  rw [nI_clamp (by omega)]
  exact kk
theorem zn_astqN (hx : p.tables.exec = Jvm.exec) (hb : c.code = cc) (hK : va_K (zk_D s0) zk_Cl (zk_tys s0) s) {H0 : Heap} (hP : va_P (zk_D s0) zk_Cl ws H) (hD : va_D A ws) (hS : va_S A H0 H locs) (q0 t : Nat) {n : Nat} {f : Nat → Option Nat} {C : String} (ha : ws[q0]? = some (o, zk_Q_ s0 t n f)) (ht : (zk_tys s0)[t]? = some (zk_dA s0 t, .object C)) {i : Nat} (hi : i < n) (hn : n < 2 ^ 31) (d : decode cc pc = .ok (.aastore, 1)) {ws2 : va_W} (hw : ws.set q0 (o, zk_Q_ s0 t n (va_up f i none)) = ws2)
    (kk : ∀ (H1 : Heap) (locs1 : List Loc), va_P (zk_D s0) zk_Cl ws2 H1 → va_D A ws2 → va_S A H0 H1 locs1 → W p l e R s m args below meth c H1 locs1 cells slots Q (F0 m (pc + 1) ls rest)) : W p l e R s m args below meth c H locs cells slots Q (F0 m pc ls (.null :: .int (nI i) :: .ref o :: rest)) := by
  subst hw
  refine va_astqN hx hb hK hP hD hS q0 t ha ht (vp_in_nI hi hn) d ?_
  rw [nI_clamp (by omega)]
  exact kk
end ZGW
theorem zg_newX7 : ∀ j, j < 25 → defaultValue (tyX7 j) = vp_V [.null, .null, .null, .null, .null, .null, .null, .null, .null, .int (nI (0)), .int (nI (0)), .int (nI (0)), .int (nI (0)), .int (nI (0)), .null, .int (nI (0)), .null, .null, .null, .null, .int (nI (0)), .int (nI (0)), .int (nI (0)), .int (nI (0)), .int (nI (0))] j := by
  intro j hj
  match j, hj with
  | 0, _ => rfl
  | 1, _ => rfl
  | 2, _ => rfl
  | 3, _ => rfl
  | 4, _ => rfl
  | 5, _ => rfl
  | 6, _ => rfl
  | 7, _ => rfl
  | 8, _ => rfl
  | 9, _ => rfl
  | 10, _ => rfl
  | 11, _ => rfl
  | 12, _ => rfl
  | 13, _ => rfl
  | 14, _ => rfl
  | 15, _ => rfl
  | 16, _ => rfl
  | 17, _ => rfl
  | 18, _ => rfl
  | 19, _ => rfl
  | 20, _ => rfl
  | 21, _ => rfl
  | 22, _ => rfl
  | 23, _ => rfl
  | 24, _ => rfl
  | k + 25, hj => omega
theorem zg_newX1 : ∀ j, j < 11 → defaultValue (tyX1 j) = vp_V [.null, .null, .null, .int (nI (0)), .null, .null, .null, .null, .null, .int (nI (0)), .int (nI (0))] j := by
  intro j hj
  match j, hj with
  | 0, _ => rfl
  | 1, _ => rfl
  | 2, _ => rfl
  | 3, _ => rfl
  | 4, _ => rfl
  | 5, _ => rfl
  | 6, _ => rfl
  | 7, _ => rfl
  | 8, _ => rfl
  | 9, _ => rfl
  | 10, _ => rfl
  | k + 11, hj => omega
theorem zg_newX2 : ∀ j, j < 15 → defaultValue (tyX2 j) = vp_V [.null, .null, .int (nI (0)), .int (nI (0)), .null, .int (nI (0)), .int (nI (0)), .int (nI (0)), .int (nI (0)), .int (nI (0)), .long (lN (0)), .null, .null, .int (nI (0)), .null] j := by
  intro j hj
  match j, hj with
  | 0, _ => rfl
  | 1, _ => rfl
  | 2, _ => rfl
  | 3, _ => rfl
  | 4, _ => rfl
  | 5, _ => rfl
  | 6, _ => rfl
  | 7, _ => rfl
  | 8, _ => rfl
  | 9, _ => rfl
  | 10, _ => rfl
  | 11, _ => rfl
  | 12, _ => rfl
  | 13, _ => rfl
  | 14, _ => rfl
  | k + 15, hj => omega
theorem zg_newX5 : ∀ j, j < 1 → defaultValue (tyX5 j) = vp_V [.int (nI (0))] j := by
  intro j hj
  match j, hj with
  | 0, _ => rfl
  | k + 1, hj => omega
theorem zg_newX8 : ∀ j, j < 3 → defaultValue (tyX8 j) = vp_V [.int (nI (0)), .int (nI (0)), .int (nI (0))] j := by
  intro j hj
  match j, hj with
  | 0, _ => rfl
  | 1, _ => rfl
  | 2, _ => rfl
  | k + 3, hj => omega
theorem zg_newX9 : ∀ j, j < 4 → defaultValue (tyX9 j) = vp_V [.null, .int (nI (0)), .null, .null] j := by
  intro j hj
  match j, hj with
  | 0, _ => rfl
  | 1, _ => rfl
  | 2, _ => rfl
  | 3, _ => rfl
  | k + 4, hj => omega
theorem zg_newX6 : ∀ j, j < 3 → defaultValue (tyX6 j) = vp_V [.null, .int (nI (0)), .null] j := by
  intro j hj
  match j, hj with
  | 0, _ => rfl
  | 1, _ => rfl
  | 2, _ => rfl
  | k + 3, hj => omega
theorem zg_newX11 : ∀ j, j < 3 → defaultValue (tyX11 j) = vp_V [.null, .null, .int (nI (0))] j := by
  intro j hj
  match j, hj with
  | 0, _ => rfl
  | 1, _ => rfl
  | 2, _ => rfl
  | k + 3, hj => omega
theorem zg_newX10 : ∀ j, j < 7 → defaultValue (tyX10 j) = vp_V [.null, .null, .null, .null, .null, .int (nI (0)), .int (nI (0))] j := by
  intro j hj
  match j, hj with
  | 0, _ => rfl
  | 1, _ => rfl
  | 2, _ => rfl
  | 3, _ => rfl
  | 4, _ => rfl
  | 5, _ => rfl
  | 6, _ => rfl
  | k + 7, hj => omega
theorem zg_newJ1 : ∀ j, j < 3 → defaultValue (tyJ1 j) = vp_V [.null, .int (nI (0)), .int (nI (0))] j := by
  intro j hj
  match j, hj with
  | 0, _ => rfl
  | 1, _ => rfl
  | 2, _ => rfl
  | k + 3, hj => omega
theorem zg_newJ12 : ∀ j, j < 4 → defaultValue (tyJ12 j) = vp_V [.int (nI (0)), .int (nI (0)), .null, .null] j := by
  intro j hj
  match j, hj with
  | 0, _ => rfl
  | 1, _ => rfl
  | 2, _ => rfl
  | 3, _ => rfl
  | k + 4, hj => omega
theorem zg_newJ38 : ∀ j, j < 3 → defaultValue (tyJ38 j) = vp_V [.null, .null, .null] j := by
  intro j hj
  match j, hj with
  | 0, _ => rfl
  | 1, _ => rfl
  | 2, _ => rfl
  | k + 3, hj => omega
theorem zg_newJ40 : ∀ j, j < 5 → defaultValue (tyJ40 j) = vp_V [.null, .null, .int (nI (0)), .int (nI (0)), .null] j := by
  intro j hj
  match j, hj with
  | 0, _ => rfl
  | 1, _ => rfl
  | 2, _ => rfl
  | 3, _ => rfl
  | 4, _ => rfl
  | k + 5, hj => omega
theorem zg_newJ3 : ∀ j, j < 4 → defaultValue (tyJ3 j) = vp_V [.null, .int (nI (0)), .int (nI (0)), .int (nI (0))] j := by
  intro j hj
  match j, hj with
  | 0, _ => rfl
  | 1, _ => rfl
  | 2, _ => rfl
  | 3, _ => rfl
  | k + 4, hj => omega
theorem zg_newJ4 : ∀ j, j < 4 → defaultValue (tyJ4 j) = vp_V [.null, .int (nI (0)), .int (nI (0)), .int (nI (0))] j := by
  intro j hj
  match j, hj with
  | 0, _ => rfl
  | 1, _ => rfl
  | 2, _ => rfl
  | 3, _ => rfl
  | k + 4, hj => omega
