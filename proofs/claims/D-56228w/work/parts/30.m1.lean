/-! THE REFERENCE, part 1 (printed by prog/m1.py) -/
set_option maxRecDepth 100000
set_option maxHeartbeats 4000000 in
set_option maxRecDepth 100000 in
theorem cm_in (l : Launch) (s0 : State) (b : Nat) (v lo hi : Int32) : zk_C l s0 b yX7_in (ws_ yX7_in cX7_in 3 (some .boolean)) 0 0 0 0 [.int (v), .int (lo), .int (hi)] ([]) (fun r w => r = some (.int (nI (Bool.toNat (decide (lo ≤ v ∧ v ≤ hi))))) ∧ w = []) := by
  refine zk_mk (by decide) rfl ?_
  intro p e s m below meth c A R args Q fx hR eQ hP hD hS ls hl
  have hx := fx.1
  have hb := fx.2.1
  have hK := fx.2.2.2.2.2.2.2.2.1.K
  have hl : lv_has ls 3 [(0, .int (v)), (1, .int (lo)), (2, .int (hi))] := hl
  refine lv_iload_n hx hb dX7_in_0 rfl (lv_at hl 0 rfl) ?_
  refine lv_iload_n hx hb dX7_in_1 rfl (lv_at hl 1 rfl) ?_
  refine lv_icmp_lt (tgt := 14) hx hb dX7_in_2 (by decide) (fun c_2 => ?_) (fun c_2 => ?_)
  · refine lv_iconst (v := nI (0)) hx hb dX7_in_14 rfl ?_
    exact zk_reti (v := nI (0)) fx eQ rfl (rfl) hP hD hS (Nat.le_of_ble_eq_true rfl) (Nat.le_of_ble_eq_true rfl) dX7_in_15 (⟨zb_N (decide_eq_false (fun z => Int32.not_le.mpr c_2 z.1)), rfl⟩)
  · refine lv_iload_n hx hb dX7_in_5 rfl (lv_at hl 0 rfl) ?_
    refine lv_iload_n hx hb dX7_in_6 rfl (lv_at hl 2 rfl) ?_
    refine lv_icmp_gt (tgt := 14) hx hb dX7_in_7 (by decide) (fun c_7 => ?_) (fun c_7 => ?_)
    · refine lv_iconst (v := nI (0)) hx hb dX7_in_14 rfl ?_
      exact zk_reti (v := nI (0)) fx eQ rfl (rfl) hP hD hS (Nat.le_of_ble_eq_true rfl) (Nat.le_of_ble_eq_true rfl) dX7_in_15 (⟨zb_N (decide_eq_false (fun z => Int32.not_le.mpr c_7 z.2)), rfl⟩)
    · refine lv_iconst (v := nI (1)) hx hb dX7_in_10 rfl ?_
      refine lv_goto (tgt := 15) hx hb dX7_in_11 (by decide) ?_
      exact zk_reti (v := nI (1)) fx eQ rfl (rfl) hP hD hS (Nat.le_of_ble_eq_true rfl) (Nat.le_of_ble_eq_true rfl) dX7_in_15 (⟨zb_T (decide_eq_true ⟨Int32.not_lt.mp c_2, Int32.not_lt.mp c_7⟩), rfl⟩)
set_option maxHeartbeats 4000000 in
set_option maxRecDepth 100000 in
theorem cm_less (l : Launch) (s0 : State) (b : Nat) (x y : Nat) (hx0 : x < 2 ^ 31) (hy0 : y < 2 ^ 31) : zk_C l s0 b yX7_less (ws_ yX7_less cX7_less 2 (some .int)) 0 0 0 0 [.int (nI (x)), .int (nI (y))] ([]) (fun r w => r = some (.int (nI (min x y))) ∧ w = []) := by
  refine zk_mk (by decide) rfl ?_
  intro p e s m below meth c A R args Q fx hR eQ hP hD hS ls hl
  have hx := fx.1
  have hb := fx.2.1
  have hK := fx.2.2.2.2.2.2.2.2.1.K
  have hl : lv_has ls 2 [(0, .int (nI (x))), (1, .int (nI (y)))] := hl
  refine lv_iload_n hx hb dX7_less_0 rfl (lv_at hl 0 rfl) ?_
  refine lv_iload_n hx hb dX7_less_1 rfl (lv_at hl 1 rfl) ?_
  refine zn_icmp_ge (tgt := 9) hx hb dX7_less_2 (by decide) (by omega) (by omega) (fun c_2 => ?_) (fun c_2 => ?_)
  · refine lv_iload_n hx hb dX7_less_9 rfl (lv_at hl 1 rfl) ?_
    exact zk_reti (v := nI (y)) fx eQ rfl (rfl) hP hD hS (Nat.le_of_ble_eq_true rfl) (Nat.le_of_ble_eq_true rfl) dX7_less_10 (⟨zk_eqr (by omega), rfl⟩)
  · refine lv_iload_n hx hb dX7_less_5 rfl (lv_at hl 0 rfl) ?_
    refine lv_goto (tgt := 10) hx hb dX7_less_6 (by decide) ?_
    exact zk_reti (v := nI (x)) fx eQ rfl (rfl) hP hD hS (Nat.le_of_ble_eq_true rfl) (Nat.le_of_ble_eq_true rfl) dX7_less_10 (⟨zk_eqr (by omega), rfl⟩)
set_option maxHeartbeats 4000000 in
set_option maxRecDepth 100000 in
theorem cm_isColour (l : Launch) (s0 : State) (b : Nat) (x : Int32) : zk_C l s0 b yX7_isColour (ws_ yX7_isColour cX7_isColour 1 (some .boolean)) 1 22 0 0 [.int (x)] ([]) (fun r w => r = some (.int (nI (Bool.toNat (zk_in x 0 9)))) ∧ w = []) := by
  refine zk_mk (by decide) rfl ?_
  intro p e s m below meth c A R args Q fx hR eQ hP hD hS ls hl
  have hx := fx.1
  have hb := fx.2.1
  have hK := fx.2.2.2.2.2.2.2.2.1.K
  have hl : lv_has ls 1 [(0, .int (x))] := hl
  refine lv_iload_n hx hb dX7_isColour_0 rfl (lv_at hl 0 rfl) ?_
  refine lv_iconst (v := nI (0)) hx hb dX7_isColour_1 rfl ?_
  refine lv_bipush (v := nI (9)) hx hb dX7_isColour_2 (by decide) ?_
  refine zk_callSn fx (cm_in l s0 b (x) (nI (0)) (nI (9))) (lw_S q2339 q2340 q108 q2341) ⟨by decide, by decide, (show (parseMethodDescriptor yX7_in.desc).map (fun d => d.parameters.length) = some 3 by decide +kernel)⟩ ⟨zk_le hR.1 rfl, zk_le hR.2.1 rfl⟩ ⟨zk_le hR.2.2.1 rfl, zk_le hR.2.2.2 rfl⟩ hP hD hS hl.1 rfl (Nat.le_of_ble_eq_true rfl) dX7_isColour_4 (fun v_ H locs hq_ hP hD hS => ?_)
  obtain rfl := hq_
  refine zn_st (st2 := [.int (nI (Bool.toNat (zk_in x 0 9)))]) rfl ?_
  exact zk_reti (v := nI (Bool.toNat (zk_in x 0 9))) fx eQ rfl (zb_nar _) hP hD hS (Nat.le_of_ble_eq_true rfl) (Nat.le_of_ble_eq_true rfl) dX7_isColour_7 (⟨rfl, rfl⟩)
set_option maxHeartbeats 4000000 in
set_option maxRecDepth 100000 in
theorem cm_fail (l : Launch) (s0 : State) (b : Nat) (h f : Nat → Nat) (a : Nat → Nat → Nat) (n : Nat) : zk_C l s0 b yX7_fail (ws_ yX7_fail cX7_fail 2 (some .int)) 0 0 0 0 [.ref (h 0), .int (nI (n))] (zm_W s0 h f a) (fun r w => r = some (.int (nI 0)) ∧ w = zm_W s0 h (va_up f 9 n) a) := by
  refine zk_mk (by decide) rfl ?_
  intro p e s m below meth c A R args Q fx hR eQ hP hD hS ls hl
  have hx := fx.1
  have hb := fx.2.1
  have hK := fx.2.2.2.2.2.2.2.2.1.K
  have hl : lv_has ls 2 [(0, .ref (h 0)), (1, .int (nI (n)))] := hl
  refine lv_aload_n hx hb dX7_fail_0 rfl (lv_at hl 0 rfl) ?_
  refine lv_iload_n hx hb dX7_fail_1 rfl (lv_at hl 1 rfl) ?_
  refine zm_put fx 9 (by decide) q2250 (v := n) hP hD hS dX7_fail_2 (fun H locs hP hD hS => ?_)
  have hP : va_P (zk_D s0) zk_Cl (zm_W s0 h (va_up f 9 (n)) a) H := hP
  refine lv_iconst (v := nI (0)) hx hb dX7_fail_5 rfl ?_
  exact zk_reti (v := nI (0)) fx eQ rfl (rfl) hP hD hS (Nat.le_of_ble_eq_true rfl) (Nat.le_of_ble_eq_true rfl) dX7_fail_6 (⟨rfl, rfl⟩)
set_option maxHeartbeats 4000000 in
set_option maxRecDepth 100000 in
theorem cm_plain (l : Launch) (s0 : State) (b : Nat) (h f : Nat → Nat) (a : Nat → Nat → Nat) (n : Int32) : zk_C l s0 b yX7_plain (ws_ yX7_plain cX7_plain 2 (some .int)) 0 0 0 0 [.ref (h 0), .int (n)] (zm_W s0 h f a) (fun r w => r = some (.int n) ∧ w = zm_W s0 h (va_up f 9 0) a) := by
  refine zk_mk (by decide) rfl ?_
  intro p e s m below meth c A R args Q fx hR eQ hP hD hS ls hl
  have hx := fx.1
  have hb := fx.2.1
  have hK := fx.2.2.2.2.2.2.2.2.1.K
  have hl : lv_has ls 2 [(0, .ref (h 0)), (1, .int (n))] := hl
  refine lv_aload_n hx hb dX7_plain_0 rfl (lv_at hl 0 rfl) ?_
  refine lv_iconst (v := nI (0)) hx hb dX7_plain_1 rfl ?_
  refine zm_put fx 9 (by decide) q2250 (v := 0) hP hD hS dX7_plain_2 (fun H locs hP hD hS => ?_)
  have hP : va_P (zk_D s0) zk_Cl (zm_W s0 h (va_up f 9 (0)) a) H := hP
  refine lv_iload_n hx hb dX7_plain_5 rfl (lv_at hl 1 rfl) ?_
  exact zk_reti (v := n) fx eQ rfl (rfl) hP hD hS (Nat.le_of_ble_eq_true rfl) (Nat.le_of_ble_eq_true rfl) dX7_plain_6 (⟨rfl, rfl⟩)
set_option maxHeartbeats 4000000 in
set_option maxRecDepth 100000 in
theorem cm_checked (l : Launch) (s0 : State) (b : Nat) (h f : Nat → Nat) (a : Nat → Nat → Nat) (t : Bool) : zk_C l s0 b yX7_checked (ws_ yX7_checked cX7_checked 2 (some .int)) 0 0 0 0 [.ref (h 0), .int (nI (Bool.toNat (t)))] (zm_W s0 h f a) (fun r w => r = some (.int (nI (Bool.toNat (!t)))) ∧ w = zm_W s0 h (va_up f 9 (Bool.toNat (!t))) a) := by
  refine zk_mk (by decide) rfl ?_
  intro p e s m below meth c A R args Q fx hR eQ hP hD hS ls hl
  have hx := fx.1
  have hb := fx.2.1
  have hK := fx.2.2.2.2.2.2.2.2.1.K
  have hl : lv_has ls 2 [(0, .ref (h 0)), (1, .int (nI (Bool.toNat (t))))] := hl
  refine lv_aload_n hx hb dX7_checked_0 rfl (lv_at hl 0 rfl) ?_
  refine lv_iload_n hx hb dX7_checked_1 rfl (lv_at hl 1 rfl) ?_
  refine zb_if_eq (tgt := 9) hx hb dX7_checked_2 (by decide) (fun c_2 => ?_) (fun c_2 => ?_)
  · subst c_2
    refine lv_iconst (v := nI (1)) hx hb dX7_checked_9 rfl ?_
    refine zm_put fx 9 (by decide) q2250 (v := 1) hP hD hS dX7_checked_10 (fun H locs hP hD hS => ?_)
    have hP : va_P (zk_D s0) zk_Cl (zm_W s0 h (va_up f 9 (1)) a) H := hP
    refine lv_aload_n hx hb dX7_checked_13 rfl (lv_at hl 0 rfl) ?_
    refine zm_get (f := (va_up f 9 (1))) fx 9 (by decide) q2250 (v := .int (nI (1))) rfl hP dX7_checked_14 ?_
    exact zk_reti (v := nI (1)) fx eQ rfl (rfl) hP hD hS (Nat.le_of_ble_eq_true rfl) (Nat.le_of_ble_eq_true rfl) dX7_checked_17 (⟨rfl, rfl⟩)
  · subst c_2
    refine lv_iconst (v := nI (0)) hx hb dX7_checked_5 rfl ?_
    refine lv_goto (tgt := 10) hx hb dX7_checked_6 (by decide) ?_
    refine zm_put fx 9 (by decide) q2250 (v := 0) hP hD hS dX7_checked_10 (fun H locs hP hD hS => ?_)
    have hP : va_P (zk_D s0) zk_Cl (zm_W s0 h (va_up f 9 (0)) a) H := hP
    refine lv_aload_n hx hb dX7_checked_13 rfl (lv_at hl 0 rfl) ?_
    refine zm_get (f := (va_up f 9 (0))) fx 9 (by decide) q2250 (v := .int (nI (0))) rfl hP dX7_checked_14 ?_
    exact zk_reti (v := nI (0)) fx eQ rfl (rfl) hP hD hS (Nat.le_of_ble_eq_true rfl) (Nat.le_of_ble_eq_true rfl) dX7_checked_17 (⟨rfl, rfl⟩)
set_option maxHeartbeats 4000000 in
set_option maxRecDepth 100000 in
theorem cm_copy2 (l : Launch) (s0 : State) (b : Nat) (x y n n2 : Nat) (g k : Nat → Nat) (i j : Nat) (h1 : i + 72 ≤ n) (h2 : j + 72 ≤ n2) (h3 : n ≤ 2000) (h4 : n2 ≤ 2000) : zk_C l s0 b yX7_copy (ws_ yX7_copy cX7_copy 5 none) 0 0 0 0 [.ref (x), .int (nI (i)), .ref (y), .int (nI (j))] ([(x, zk_I s0 n g), (y, zk_I s0 n2 k)]) (fun r w => r = none ∧ w = [(x, zk_I s0 n g), (y, zk_I s0 n2 (zp_cp g k i j 72))]) := by
  refine zk_mk (by decide) rfl ?_
  intro p e s m below meth c A R args Q fx hR eQ hP hD hS ls hl
  have hx := fx.1
  have hb := fx.2.1
  have hK := fx.2.2.2.2.2.2.2.2.1.K
  have hl : lv_has ls 5 [(0, .ref (x)), (1, .int (nI (i))), (2, .ref (y)), (3, .int (nI (j)))] := hl
  refine lv_iconst (v := nI (0)) hx hb dX7_copy_0 rfl ?_
  refine lv_istore (lv' := [(4, .int (nI (0))), (0, .ref (x)), (1, .int (nI (i))), (2, .ref (y)), (3, .int (nI (j)))]) hx hb dX7_copy_1 hl (by decide) rfl (fun ls hl => ?_)
  have hP : va_P (zk_D s0) zk_Cl [(x, zk_I s0 n g), (y, zk_I s0 n2 (zp_cp g k i j 0))] s.heap := by rw [zp_cp0]; exact hP
  have hD : va_D A [(x, zk_I s0 n g), (y, zk_I s0 n2 (zp_cp g k i j 0))] := by rw [zp_cp0]; exact hD
  have lp_3 : ∀ (n_ : Nat) (cn : Nat), (72 - cn) < n_ → (cn ≤ 72) → ∀ (H : Heap) (locs : List Loc), va_P (zk_D s0) zk_Cl ([(x, zk_I s0 n g), (y, zk_I s0 n2 (zp_cp g k i j cn))]) H → va_D A ([(x, zk_I s0 n g), (y, zk_I s0 n2 (zp_cp g k i j cn))]) → va_S A s.heap H locs → ∀ ls : Array Slot, lv_has ls 5 [(4, .int (nI (cn))), (0, .ref (x)), (1, .int (nI (i))), (2, .ref (y)), (3, .int (nI (j)))] → W p l e R s m args below meth c H locs 0 0 Q (F0 m 3 ls []) := by
    intro n_
    induction n_ with
    | zero => intro cn hn_; exact absurd hn_ (Nat.not_lt_zero _)
    | succ n_ ih_3 =>
      intro cn hn_ hc H locs hP hD hS ls hl
      refine lv_iload hx hb dX7_copy_3 (lv_at hl 0 rfl) ?_
      refine lv_bipush (v := nI (72)) hx hb dX7_copy_5 (by decide) ?_
      refine zn_icmp_ge (tgt := 28) hx hb dX7_copy_7 (by decide) (by omega) (by omega) (fun c_7 => ?_) (fun c_7 => ?_)
      · exact zk_retv fx eQ rfl hP hD hS (Nat.le_of_ble_eq_true rfl) (Nat.le_of_ble_eq_true rfl) dX7_copy_28 (⟨rfl, by rw [show cn = 72 by omega]⟩)
      · refine lv_aload_n hx hb dX7_copy_10 rfl (lv_at hl 3 rfl) ?_
        refine lv_iload_n hx hb dX7_copy_11 rfl (lv_at hl 4 rfl) ?_
        refine lv_iload hx hb dX7_copy_12 (lv_at hl 0 rfl) ?_
        refine zn_iadd hx hb dX7_copy_14 ?_
        refine lv_aload_n hx hb dX7_copy_15 rfl (lv_at hl 1 rfl) ?_
        refine lv_iload_n hx hb dX7_copy_16 rfl (lv_at hl 2 rfl) ?_
        refine lv_iload hx hb dX7_copy_17 (lv_at hl 0 rfl) ?_
        refine zn_iadd hx hb dX7_copy_19 ?_
        refine zn_ald hx hb hK hP 0 rfl (i := i + cn) (by omega) (by omega) dX7_copy_20 ?_
        refine zn_ast hx hb hK hP hD hS 1 rfl (i := j + cn) (x := g (i + cn)) (by omega) (by omega) dX7_copy_21 (ws2 := [(x, zk_I s0 n g), (y, zk_I s0 n2 (va_up (zp_cp g k i j cn) (j + cn) (g (i + cn))))]) rfl (fun H locs hP hD hS => ?_)
        rw [zp_cp1] at hP hD
        refine lv_iinc (v := nI (cn + 1)) (lv' := [(4, .int (nI (cn + 1))), (0, .ref (x)), (1, .int (nI (i))), (2, .ref (y)), (3, .int (nI (j)))]) hx hb dX7_copy_22 hl (k := 0) rfl (nI_add cn 1) (by decide) rfl (fun ls hl => ?_)
        refine lv_goto (tgt := 3) hx hb dX7_copy_25 (by decide) ?_
        exact ih_3 (cn + 1) (by omega) (by omega) _ _ hP hD hS ls (lv_sub hl [0, 1, 2, 3, 4] rfl)
  exact lp_3 _ 0 (Nat.lt_succ_self _) (by omega) _ _ hP hD hS ls (lv_sub hl [0, 1, 2, 3, 4] rfl)
set_option maxHeartbeats 4000000 in
set_option maxRecDepth 100000 in
theorem cm_copy1 (l : Launch) (s0 : State) (b : Nat) (x n : Nat) (g : Nat → Nat) (i j : Nat) (h1 : i + 72 ≤ n) (h2 : j + 72 ≤ i) (h3 : n ≤ 2000) : zk_C l s0 b yX7_copy (ws_ yX7_copy cX7_copy 5 none) 0 0 0 0 [.ref (x), .int (nI (i)), .ref (x), .int (nI (j))] ([(x, zk_I s0 n g)]) (fun r w => r = none ∧ w = [(x, zk_I s0 n (zp_cp g g i j 72))]) := by
  refine zk_mk (by decide) rfl ?_
  intro p e s m below meth c A R args Q fx hR eQ hP hD hS ls hl
  have hx := fx.1
  have hb := fx.2.1
  have hK := fx.2.2.2.2.2.2.2.2.1.K
  have hl : lv_has ls 5 [(0, .ref (x)), (1, .int (nI (i))), (2, .ref (x)), (3, .int (nI (j)))] := hl
  refine lv_iconst (v := nI (0)) hx hb dX7_copy_0 rfl ?_
  refine lv_istore (lv' := [(4, .int (nI (0))), (0, .ref (x)), (1, .int (nI (i))), (2, .ref (x)), (3, .int (nI (j)))]) hx hb dX7_copy_1 hl (by decide) rfl (fun ls hl => ?_)
  have hP : va_P (zk_D s0) zk_Cl [(x, zk_I s0 n (zp_cp g g i j 0))] s.heap := by rw [zp_cp0]; exact hP
  have hD : va_D A [(x, zk_I s0 n (zp_cp g g i j 0))] := by rw [zp_cp0]; exact hD
  have lp_3 : ∀ (n_ : Nat) (cn : Nat), (72 - cn) < n_ → (cn ≤ 72) → ∀ (H : Heap) (locs : List Loc), va_P (zk_D s0) zk_Cl ([(x, zk_I s0 n (zp_cp g g i j cn))]) H → va_D A ([(x, zk_I s0 n (zp_cp g g i j cn))]) → va_S A s.heap H locs → ∀ ls : Array Slot, lv_has ls 5 [(4, .int (nI (cn))), (0, .ref (x)), (1, .int (nI (i))), (2, .ref (x)), (3, .int (nI (j)))] → W p l e R s m args below meth c H locs 0 0 Q (F0 m 3 ls []) := by
    intro n_
    induction n_ with
    | zero => intro cn hn_; exact absurd hn_ (Nat.not_lt_zero _)
    | succ n_ ih_3 =>
      intro cn hn_ hc H locs hP hD hS ls hl
      refine lv_iload hx hb dX7_copy_3 (lv_at hl 0 rfl) ?_
      refine lv_bipush (v := nI (72)) hx hb dX7_copy_5 (by decide) ?_
      refine zn_icmp_ge (tgt := 28) hx hb dX7_copy_7 (by decide) (by omega) (by omega) (fun c_7 => ?_) (fun c_7 => ?_)
      · exact zk_retv fx eQ rfl hP hD hS (Nat.le_of_ble_eq_true rfl) (Nat.le_of_ble_eq_true rfl) dX7_copy_28 (⟨rfl, by rw [show cn = 72 by omega]⟩)
      · refine lv_aload_n hx hb dX7_copy_10 rfl (lv_at hl 3 rfl) ?_
        refine lv_iload_n hx hb dX7_copy_11 rfl (lv_at hl 4 rfl) ?_
        refine lv_iload hx hb dX7_copy_12 (lv_at hl 0 rfl) ?_
        refine zn_iadd hx hb dX7_copy_14 ?_
        refine lv_aload_n hx hb dX7_copy_15 rfl (lv_at hl 1 rfl) ?_
        refine lv_iload_n hx hb dX7_copy_16 rfl (lv_at hl 2 rfl) ?_
        refine lv_iload hx hb dX7_copy_17 (lv_at hl 0 rfl) ?_
        refine zn_iadd hx hb dX7_copy_19 ?_
        refine zn_ald hx hb hK hP 0 rfl (i := i + cn) (by omega) (by omega) dX7_copy_20 ?_
        refine zn_top (y := nI (g (i + cn))) (by rw [zp_cp_out (by omega)]) ?_
        refine zn_ast hx hb hK hP hD hS 0 rfl (i := j + cn) (x := g (i + cn)) (by omega) (by omega) dX7_copy_21 (ws2 := [(x, zk_I s0 n (va_up (zp_cp g g i j cn) (j + cn) (g (i + cn))))]) rfl (fun H locs hP hD hS => ?_)
        rw [zp_cp1] at hP hD
        refine lv_iinc (v := nI (cn + 1)) (lv' := [(4, .int (nI (cn + 1))), (0, .ref (x)), (1, .int (nI (i))), (2, .ref (x)), (3, .int (nI (j)))]) hx hb dX7_copy_22 hl (k := 0) rfl (nI_add cn 1) (by decide) rfl (fun ls hl => ?_)
        refine lv_goto (tgt := 3) hx hb dX7_copy_25 (by decide) ?_
        exact ih_3 (cn + 1) (by omega) (by omega) _ _ hP hD hS ls (lv_sub hl [0, 1, 2, 3, 4] rfl)
  exact lp_3 _ 0 (Nat.lt_succ_self _) (by omega) _ _ hP hD hS ls (lv_sub hl [0, 1, 2, 3, 4] rfl)
set_option maxHeartbeats 4000000 in
set_option maxRecDepth 100000 in
theorem cm_begin (l : Launch) (s0 : State) (b : Nat) (h f : Nat → Nat) (a : Nat → Nat → Nat) : zk_C l s0 b yX7_begin (ws_ yX7_begin cX7_begin 1 none) 1 24 0 0 [.ref (h 0)] (zm_W s0 h f a) (fun r w => r = none ∧ w = zm_W s0 h (va_up f 9 0) (va_up a 1 (zp_cp (a 0) (a 1) 0 0 72))) := by
  refine zk_mk (by decide) rfl ?_
  intro p e s m below meth c A R args Q fx hR eQ hP hD hS ls hl
  have hx := fx.1
  have hb := fx.2.1
  have hK := fx.2.2.2.2.2.2.2.2.1.K
  have hl : lv_has ls 1 [(0, .ref (h 0))] := hl
  refine lv_aload_n hx hb dX7_begin_0 rfl (lv_at hl 0 rfl) ?_
  refine lv_iconst (v := nI (0)) hx hb dX7_begin_1 rfl ?_
  refine zm_put fx 9 (by decide) q2250 (v := 0) hP hD hS dX7_begin_2 (fun H locs hP hD hS => ?_)
  have hP : va_P (zk_D s0) zk_Cl (zm_W s0 h (va_up f 9 (0)) a) H := hP
  refine lv_aload_n hx hb dX7_begin_5 rfl (lv_at hl 0 rfl) ?_
  refine zm_get (f := (va_up f 9 (0))) fx 0 (by decide) q2241 (v := .ref (h 1)) rfl hP dX7_begin_6 ?_
  refine lv_iconst (v := nI (0)) hx hb dX7_begin_9 rfl ?_
  refine lv_aload_n hx hb dX7_begin_10 rfl (lv_at hl 0 rfl) ?_
  refine zm_get (f := (va_up f 9 (0))) fx 1 (by decide) q2242 (v := .ref (h 2)) rfl hP dX7_begin_11 ?_
  refine lv_iconst (v := nI (0)) hx hb dX7_begin_14 rfl ?_
  refine zk_callS fx (cm_copy2 l s0 b (h 1) (h 2) 72 72 (a 0) (a 1) 0 0 (by decide) (by decide) (by decide) (by decide)) (lw_S q2329 q2330 q108 q2331) ⟨by decide, by decide, (show (parseMethodDescriptor yX7_copy.desc).map (fun d => d.parameters.length) = some 4 by decide +kernel)⟩ ⟨zk_le hR.1 rfl, zk_le hR.2.1 rfl⟩ ⟨zk_le hR.2.2.1 rfl, zk_le hR.2.2.2 rfl⟩ hP hD hS (wc := [(h 1, zk_I s0 72 (a 0)), (h 2, zk_I s0 72 (a 1))]) (wr := [(h 0, .inr (0, zm_fs h (va_up f 9 (0)))), (h 3, zk_I s0 72 (a 2)), (h 4, zk_I s0 576 (a 3)), (h 5, zk_I s0 1024 (a 4)), (h 6, zk_I s0 7 (a 5)), (h 7, zk_I s0 12 (a 6)), (h 8, zk_I s0 12 (a 7)), (h 9, zk_I s0 7 (a 8)), (h 10, zk_I s0 80 (a 9)), (h 11, zk_I s0 60 (a 10)), (h 12, zk_I s0 32 (a 11)), (h 13, zk_I s0 32 (a 12)), (h 14, zk_I s0 32 (a 13))]) (zk_pi 15 [1, 2, 0, 3, 4, 5, 6, 7, 8, 9, 10, 11, 12, 13, 14] rfl rfl (by decide)) hl.1 rfl (Nat.le_of_ble_eq_true rfl) dX7_begin_15 (fun v_ w_ H locs hq_ hP hD hS => ?_)
  obtain ⟨rfl, rfl⟩ := hq_
  refine zn_st (st2 := []) rfl ?_
  have hP := zk_Pp hP (zk_pi (ws' := zm_W s0 h (va_up f 9 (0)) (va_up a 1 (zp_cp (a 0) (a 1) 0 0 72))) 15 [2, 0, 1, 3, 4, 5, 6, 7, 8, 9, 10, 11, 12, 13, 14] rfl rfl (by decide))
  have hD := zk_Dp hD (zk_pi (ws' := zm_W s0 h (va_up f 9 (0)) (va_up a 1 (zp_cp (a 0) (a 1) 0 0 72))) 15 [2, 0, 1, 3, 4, 5, 6, 7, 8, 9, 10, 11, 12, 13, 14] rfl rfl (by decide))
  exact zk_retv fx eQ rfl hP hD hS (Nat.le_of_ble_eq_true rfl) (Nat.le_of_ble_eq_true rfl) dX7_begin_18 (⟨rfl, rfl⟩)
