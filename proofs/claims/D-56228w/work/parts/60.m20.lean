/-! THE CLASS: press, fadings, editions (printed by prog/m20.py) -/
set_option maxRecDepth 100000
set_option maxHeartbeats 4000000 in
set_option maxRecDepth 100000 in
theorem cc_cost_init (l : Launch) (s0 : State) (b : Nat) (o : Nat) : zk_C l s0 b yX4_init (ws_ yX4_init cX4_init 1 none) 1 12 0 0 [.ref (o)] ([(o, .inr (3, []))]) (fun r w => r = none ∧ w = [(o, .inr (3, []))]) := by
  refine zk_mk (by decide) rfl ?_
  intro p e s m below meth c A R args Q fx hR eQ hP hD hS ls hl
  have hx := fx.1
  have hb := fx.2.1
  have hK := fx.2.2.2.2.2.2.2.2.1.K
  have hl : lv_has ls 1 [(0, .ref (o))] := hl
  refine lv_aload_n hx hb dX4_init_0 rfl (lv_at hl 0 rfl) ?_
  refine W.objInit hx hb fx.2.2.2.1 (fx.2.2.2.2.1 _ q166) (fx.2.2.2.2.1 _ q146) (fx.2.2.2.2.1 _ q147) rfl (by rw [fx.2.2.1]; exact hl.1) rfl dX4_init_1 (zk_le hR.1 rfl) (zk_le hR.2.1 rfl) ?_
  refine W.eq (g2 := F0 m 4 ls []) rfl ?_
  exact zk_retv fx eQ rfl hP hD hS (Nat.le_of_ble_eq_true rfl) (Nat.le_of_ble_eq_true rfl) dX4_init_4 (⟨rfl, rfl⟩)
set_option maxHeartbeats 4000000 in
set_option maxRecDepth 100000 in
theorem cc_cost_of (l : Launch) (s0 : State) (b : Nat) (o i j : Nat) (hi : i < 1000) (hj : j < 1000) : zk_C l s0 b yX4_of (ws_ yX4_of cX4_of 3 (some .int)) 0 0 0 0 [.ref (o), .int (nI (i)), .int (nI (j))] ([(o, .inr (3, []))]) (fun r w => r = some (.int (nI (zp_change i j))) ∧ w = [(o, .inr (3, []))]) := by
  refine zk_mk (by decide) rfl ?_
  intro p e s m below meth c A R args Q fx hR eQ hP hD hS ls hl
  have hx := fx.1
  have hb := fx.2.1
  have hK := fx.2.2.2.2.2.2.2.2.1.K
  have hl : lv_has ls 3 [(0, .ref (o)), (1, .int (nI (i))), (2, .int (nI (j)))] := hl
  refine lv_iload_n hx hb dX4_of_0 rfl (lv_at hl 2 rfl) ?_
  refine lv_iload_n hx hb dX4_of_1 rfl (lv_at hl 1 rfl) ?_
  refine zn_icmp_lt (tgt := 11) hx hb dX4_of_2 (by decide) (by omega) (by omega) (fun c_2 => ?_) (fun c_2 => ?_)
  · refine lv_iconst (v := nI (2)) hx hb dX4_of_11 rfl ?_
    refine lv_iload_n hx hb dX4_of_12 rfl (lv_at hl 1 rfl) ?_
    refine lv_iload_n hx hb dX4_of_13 rfl (lv_at hl 2 rfl) ?_
    refine zn_isub hx hb dX4_of_14 (by omega) ?_
    refine zn_imul hx hb dX4_of_15 ?_
    refine lv_iconst (v := nI (1)) hx hb dX4_of_16 rfl ?_
    refine zn_iadd hx hb dX4_of_17 ?_
    exact zk_reti (v := nI ((2 * (i - j)) + 1)) fx eQ rfl (rfl) hP hD hS (Nat.le_of_ble_eq_true rfl) (Nat.le_of_ble_eq_true rfl) dX4_of_18 (⟨zk_eqr (by unfold zp_change; rw [if_neg (by omega)]), rfl⟩)
  · refine lv_iload_n hx hb dX4_of_5 rfl (lv_at hl 2 rfl) ?_
    refine lv_iload_n hx hb dX4_of_6 rfl (lv_at hl 1 rfl) ?_
    refine zn_isub hx hb dX4_of_7 (by omega) ?_
    refine lv_goto (tgt := 18) hx hb dX4_of_8 (by decide) ?_
    exact zk_reti (v := nI (j - i)) fx eQ rfl (rfl) hP hD hS (Nat.le_of_ble_eq_true rfl) (Nat.le_of_ble_eq_true rfl) dX4_of_18 (⟨zk_eqr (by unfold zp_change; rw [if_pos (by omega)]), rfl⟩)
set_option maxHeartbeats 4000000 in
set_option maxRecDepth 100000 in
theorem cc_fad_init (l : Launch) (s0 : State) (b : Nat) (o i : Nat) : zk_C l s0 b yX5_init (ws_ yX5_init cX5_init 2 none) 1 12 0 0 [.ref (o), .int (nI (i))] ([(o, .inr (4, [.int (nI (0))]))]) (fun r w => r = none ∧ w = [(o, .inr (4, [.int (nI (i + 1))]))]) := by
  refine zk_mk (by decide) rfl ?_
  intro p e s m below meth c A R args Q fx hR eQ hP hD hS ls hl
  have hx := fx.1
  have hb := fx.2.1
  have hK := fx.2.2.2.2.2.2.2.2.1.K
  have hl : lv_has ls 2 [(0, .ref (o)), (1, .int (nI (i)))] := hl
  refine lv_aload_n hx hb dX5_init_0 rfl (lv_at hl 0 rfl) ?_
  refine W.objInit hx hb fx.2.2.2.1 (fx.2.2.2.2.1 _ q173) (fx.2.2.2.2.1 _ q146) (fx.2.2.2.2.1 _ q147) rfl (by rw [fx.2.2.1]; exact hl.1) rfl dX5_init_1 (zk_le hR.1 rfl) (zk_le hR.2.1 rfl) ?_
  refine W.eq (g2 := F0 m 4 ls []) rfl ?_
  refine lv_aload_n hx hb dX5_init_4 rfl (lv_at hl 0 rfl) ?_
  refine lv_iload_n hx hb dX5_init_5 rfl (lv_at hl 1 rfl) ?_
  refine lv_iconst (v := nI (1)) hx hb dX5_init_6 rfl ?_
  refine zn_iadd hx hb dX5_init_7 ?_
  refine va_putF (D := zk_D s0) (ci := 4) (C := RX5) (T := TX5) (N := 1) (ref := "InkPrintery$Fading") hx hb fx.2.2.2.2.1 in_X5 tyX5 tyX5_ok nmX5 fx.2.2.2.1 hK hP hD hS 0 rfl rfl 0 (by decide) (fx.2.2.2.2.1 _ q174) (fun _ h9 => h9) rfl fx.2.2.2.2.2.2.2.1 rfl (v := .int (nI (i + 1))) (tyX5_ok 0 (by decide)) rfl rfl (Nat.le_of_ble_eq_true rfl) dX5_init_8 (fun H locs hP hD hS => ?_)
  have hP : va_P (zk_D s0) zk_Cl ([(o, .inr (4, [.int (nI (i + 1))]))]) H := hP
  have hD : va_D A ([(o, .inr (4, [.int (nI (i + 1))]))]) := hD
  exact zk_retv fx eQ rfl hP hD hS (Nat.le_of_ble_eq_true rfl) (Nat.le_of_ble_eq_true rfl) dX5_init_11 (⟨rfl, rfl⟩)
set_option maxHeartbeats 4000000 in
set_option maxRecDepth 100000 in
theorem cc_isAt (l : Launch) (s0 : State) (b : Nat) (o u_ n : Nat) (hp : 0 < u_) (hp1 : u_ < 2 ^ 31) (hn : n < 2 ^ 31) : zk_C l s0 b yX5_isAt (ws_ yX5_isAt cX5_isAt 2 (some .boolean)) 0 0 0 0 [.ref (o), .int (nI (n))] ([(o, .inr (4, [.int (nI (u_))]))]) (fun r w => r = some (.int (nI (Bool.toNat (decide (n % u_ = 0))))) ∧ w = [(o, .inr (4, [.int (nI (u_))]))]) := by
  refine zk_mk (by decide) rfl ?_
  intro p e s m below meth c A R args Q fx hR eQ hP hD hS ls hl
  have hx := fx.1
  have hb := fx.2.1
  have hK := fx.2.2.2.2.2.2.2.2.1.K
  have hl : lv_has ls 2 [(0, .ref (o)), (1, .int (nI (n)))] := hl
  refine lv_iload_n hx hb dX5_isAt_0 rfl (lv_at hl 1 rfl) ?_
  refine lv_aload_n hx hb dX5_isAt_1 rfl (lv_at hl 0 rfl) ?_
  refine va_get (D := zk_D s0) (ci := 4) (C := RX5) (T := TX5) (N := 1) (ref := "InkPrintery$Fading") hx hb fx.2.2.2.2.1 in_X5 fx.2.2.2.1 hK hP 0 rfl rfl 0 (by decide) (fx.2.2.2.2.1 _ q174) (fun _ h9 => h9) (v := .int (nI (u_))) rfl dX5_isAt_2 ?_
  refine zn_irem hx hb dX5_isAt_5 (hn) (hp) (hp1) ?_
  refine zn_if_ne (tgt := 13) hx hb dX5_isAt_6 (by decide) (Nat.lt_trans (Nat.mod_lt _ hp) hp1) (fun c_6 => ?_) (fun c_6 => ?_)
  · refine lv_iconst (v := nI (0)) hx hb dX5_isAt_13 rfl ?_
    exact zk_reti (v := nI (0)) fx eQ rfl (rfl) hP hD hS (Nat.le_of_ble_eq_true rfl) (Nat.le_of_ble_eq_true rfl) dX5_isAt_14 (⟨zb_N (decide_eq_false c_6), rfl⟩)
  · refine lv_iconst (v := nI (1)) hx hb dX5_isAt_9 rfl ?_
    refine lv_goto (tgt := 14) hx hb dX5_isAt_10 (by decide) ?_
    exact zk_reti (v := nI (1)) fx eQ rfl (rfl) hP hD hS (Nat.le_of_ble_eq_true rfl) (Nat.le_of_ble_eq_true rfl) dX5_isAt_14 (⟨zb_T (decide_eq_true c_6), rfl⟩)
set_option maxHeartbeats 4000000 in
set_option maxRecDepth 100000 in
theorem cc_halvings (l : Launch) (s0 : State) (b : Nat) (o u_ n k : Nat) (hp : 0 < u_) (hp1 : u_ < 2 ^ 31) (hn : n + k < 2 ^ 31) : zk_C l s0 b yX5_halvings (ws_ yX5_halvings cX5_halvings 3 (some .int)) 0 0 0 0 [.ref (o), .int (nI (n)), .int (nI (k))] ([(o, .inr (4, [.int (nI (u_))]))]) (fun r w => r = some (.int (nI ((n + k) / u_ - n / u_))) ∧ w = [(o, .inr (4, [.int (nI (u_))]))]) := by
  refine zk_mk (by decide) rfl ?_
  intro p e s m below meth c A R args Q fx hR eQ hP hD hS ls hl
  have hx := fx.1
  have hb := fx.2.1
  have hK := fx.2.2.2.2.2.2.2.2.1.K
  have hl : lv_has ls 3 [(0, .ref (o)), (1, .int (nI (n))), (2, .int (nI (k)))] := hl
  refine lv_iload_n hx hb dX5_halvings_0 rfl (lv_at hl 1 rfl) ?_
  refine lv_iload_n hx hb dX5_halvings_1 rfl (lv_at hl 2 rfl) ?_
  refine zn_iadd hx hb dX5_halvings_2 ?_
  refine lv_aload_n hx hb dX5_halvings_3 rfl (lv_at hl 0 rfl) ?_
  refine va_get (D := zk_D s0) (ci := 4) (C := RX5) (T := TX5) (N := 1) (ref := "InkPrintery$Fading") hx hb fx.2.2.2.2.1 in_X5 fx.2.2.2.1 hK hP 0 rfl rfl 0 (by decide) (fx.2.2.2.2.1 _ q174) (fun _ h9 => h9) (v := .int (nI (u_))) rfl dX5_halvings_4 ?_
  refine zn_idiv hx hb dX5_halvings_7 (hn) (hp) (hp1) ?_
  refine lv_iload_n hx hb dX5_halvings_8 rfl (lv_at hl 1 rfl) ?_
  refine lv_aload_n hx hb dX5_halvings_9 rfl (lv_at hl 0 rfl) ?_
  refine va_get (D := zk_D s0) (ci := 4) (C := RX5) (T := TX5) (N := 1) (ref := "InkPrintery$Fading") hx hb fx.2.2.2.2.1 in_X5 fx.2.2.2.1 hK hP 0 rfl rfl 0 (by decide) (fx.2.2.2.2.1 _ q174) (fun _ h9 => h9) (v := .int (nI (u_))) rfl dX5_halvings_10 ?_
  refine zn_idiv hx hb dX5_halvings_13 (Nat.lt_of_le_of_lt (Nat.le_add_right _ _) hn) (hp) (hp1) ?_
  refine zn_isub hx hb dX5_halvings_14 (Nat.div_le_div_right (Nat.le_add_right _ _)) ?_
  exact zk_reti (v := nI (((n + k) / u_) - (n / u_))) fx eQ rfl (rfl) hP hD hS (Nat.le_of_ble_eq_true rfl) (Nat.le_of_ble_eq_true rfl) dX5_halvings_15 (⟨rfl, rfl⟩)
set_option maxHeartbeats 4000000 in
set_option maxRecDepth 100000 in
theorem cc_ed_init (l : Launch) (s0 : State) (b : Nat) (o i n : Nat) : zk_C l s0 b yX8_init_2 (ws_ yX8_init_2 cX8_init_2 3 none) 1 12 0 0 [.ref (o), .int (nI (i)), .int (nI (n))] ([(o, .inr (5, [.int (nI (0)), .int (nI (0)), .int (nI (0))]))]) (fun r w => r = none ∧ w = [(o, .inr (5, [.int (nI (i)), .int (nI (n)), .int (nI (0))]))]) := by
  refine zk_mk (by decide) rfl ?_
  intro p e s m below meth c A R args Q fx hR eQ hP hD hS ls hl
  have hx := fx.1
  have hb := fx.2.1
  have hK := fx.2.2.2.2.2.2.2.2.1.K
  have hl : lv_has ls 3 [(0, .ref (o)), (1, .int (nI (i))), (2, .int (nI (n)))] := hl
  refine lv_aload_n hx hb dX8_init_2_0 rfl (lv_at hl 0 rfl) ?_
  refine W.objInit hx hb fx.2.2.2.1 (fx.2.2.2.2.1 _ q605) (fx.2.2.2.2.1 _ q146) (fx.2.2.2.2.1 _ q147) rfl (by rw [fx.2.2.1]; exact hl.1) rfl dX8_init_2_1 (zk_le hR.1 rfl) (zk_le hR.2.1 rfl) ?_
  refine W.eq (g2 := F0 m 4 ls []) rfl ?_
  refine lv_aload_n hx hb dX8_init_2_4 rfl (lv_at hl 0 rfl) ?_
  refine lv_iload_n hx hb dX8_init_2_5 rfl (lv_at hl 1 rfl) ?_
  refine va_putF (D := zk_D s0) (ci := 5) (C := RX8) (T := TX8) (N := 3) (ref := "InkPrintery$Edition") hx hb fx.2.2.2.2.1 in_X8 tyX8 tyX8_ok nmX8 fx.2.2.2.1 hK hP hD hS 0 rfl rfl 0 (by decide) (fx.2.2.2.2.1 _ q606) (fun _ h9 => h9) rfl fx.2.2.2.2.2.2.2.1 rfl (v := .int (nI (i))) (tyX8_ok 0 (by decide)) rfl rfl (Nat.le_of_ble_eq_true rfl) dX8_init_2_6 (fun H locs hP hD hS => ?_)
  have hP : va_P (zk_D s0) zk_Cl ([(o, .inr (5, [.int (nI (i)), .int (nI (0)), .int (nI (0))]))]) H := hP
  have hD : va_D A ([(o, .inr (5, [.int (nI (i)), .int (nI (0)), .int (nI (0))]))]) := hD
  refine lv_aload_n hx hb dX8_init_2_9 rfl (lv_at hl 0 rfl) ?_
  refine lv_iload_n hx hb dX8_init_2_10 rfl (lv_at hl 2 rfl) ?_
  refine va_putF (D := zk_D s0) (ci := 5) (C := RX8) (T := TX8) (N := 3) (ref := "InkPrintery$Edition") hx hb fx.2.2.2.2.1 in_X8 tyX8 tyX8_ok nmX8 fx.2.2.2.1 hK hP hD hS 0 rfl rfl 1 (by decide) (fx.2.2.2.2.1 _ q610) (fun _ h9 => h9) rfl fx.2.2.2.2.2.2.2.1 rfl (v := .int (nI (n))) (tyX8_ok 1 (by decide)) rfl rfl (Nat.le_of_ble_eq_true rfl) dX8_init_2_11 (fun H locs hP hD hS => ?_)
  have hP : va_P (zk_D s0) zk_Cl ([(o, .inr (5, [.int (nI (i)), .int (nI (n)), .int (nI (0))]))]) H := hP
  have hD : va_D A ([(o, .inr (5, [.int (nI (i)), .int (nI (n)), .int (nI (0))]))]) := hD
  exact zk_retv fx eQ rfl hP hD hS (Nat.le_of_ble_eq_true rfl) (Nat.le_of_ble_eq_true rfl) dX8_init_2_14 (⟨rfl, rfl⟩)
set_option maxHeartbeats 4000000 in
set_option maxRecDepth 100000 in
theorem cc_ed_copy (l : Launch) (s0 : State) (b : Nat) (o o2 i n q : Nat) : zk_C l s0 b yX8_init (ws_ yX8_init cX8_init 2 none) 2 34 0 0 [.ref (o), .ref (o2)] ([(o, .inr (5, [.int (nI (0)), .int (nI (0)), .int (nI (0))])), (o2, .inr (5, [.int (nI (i)), .int (nI (n)), .int (nI (q))]))]) (fun r w => r = none ∧ w = [(o, .inr (5, [.int (nI (i)), .int (nI (n)), .int (nI (q))])), (o2, .inr (5, [.int (nI (i)), .int (nI (n)), .int (nI (q))]))]) := by
  refine zk_mk (by decide) rfl ?_
  intro p e s m below meth c A R args Q fx hR eQ hP hD hS ls hl
  have hx := fx.1
  have hb := fx.2.1
  have hK := fx.2.2.2.2.2.2.2.2.1.K
  have hl : lv_has ls 2 [(0, .ref (o)), (1, .ref (o2))] := hl
  refine lv_aload_n hx hb dX8_init_0 rfl (lv_at hl 0 rfl) ?_
  refine lv_aload_n hx hb dX8_init_1 rfl (lv_at hl 1 rfl) ?_
  refine va_get (D := zk_D s0) (ci := 5) (C := RX8) (T := TX8) (N := 3) (ref := "InkPrintery$Edition") hx hb fx.2.2.2.2.1 in_X8 fx.2.2.2.1 hK hP 1 rfl rfl 0 (by decide) (fx.2.2.2.2.1 _ q606) (fun _ h9 => h9) (v := .int (nI (i))) rfl dX8_init_2 ?_
  refine lv_aload_n hx hb dX8_init_5 rfl (lv_at hl 1 rfl) ?_
  refine va_get (D := zk_D s0) (ci := 5) (C := RX8) (T := TX8) (N := 3) (ref := "InkPrintery$Edition") hx hb fx.2.2.2.2.1 in_X8 fx.2.2.2.1 hK hP 1 rfl rfl 1 (by decide) (fx.2.2.2.2.1 _ q610) (fun _ h9 => h9) (v := .int (nI (n))) rfl dX8_init_6 ?_
  refine zk_callI fx (cc_ed_init l s0 b o i n) (lw_meth q604) q109 q602 q603 rfl ⟨by decide, by decide, (show (parseMethodDescriptor yX8_init_2.desc).map (fun d => d.parameters.length) = some 2 by decide +kernel)⟩ ⟨zk_le hR.1 rfl, zk_le hR.2.1 rfl⟩ ⟨zk_le hR.2.2.1 rfl, zk_le hR.2.2.2 rfl⟩ hP hD hS (wc := [(o, .inr (5, [.int (nI (0)), .int (nI (0)), .int (nI (0))]))]) (wr := [(o2, .inr (5, [.int (nI (i)), .int (nI (n)), .int (nI (q))]))]) (zk_pi 2 [0, 1] rfl rfl (by decide)) hl.1 rfl (Nat.le_of_ble_eq_true rfl) dX8_init_9 (fun v_ w_ H locs hq_ hP hD hS => ?_)
  obtain ⟨rfl, rfl⟩ := hq_
  refine zn_st (st2 := []) rfl ?_
  have hP : va_P (zk_D s0) zk_Cl ([(o, .inr (5, [.int (nI (i)), .int (nI (n)), .int (nI (0))])), (o2, .inr (5, [.int (nI (i)), .int (nI (n)), .int (nI (q))]))]) H := hP
  have hD : va_D A ([(o, .inr (5, [.int (nI (i)), .int (nI (n)), .int (nI (0))])), (o2, .inr (5, [.int (nI (i)), .int (nI (n)), .int (nI (q))]))]) := hD
  refine lv_aload_n hx hb dX8_init_12 rfl (lv_at hl 0 rfl) ?_
  refine lv_aload_n hx hb dX8_init_13 rfl (lv_at hl 1 rfl) ?_
  refine va_get (D := zk_D s0) (ci := 5) (C := RX8) (T := TX8) (N := 3) (ref := "InkPrintery$Edition") hx hb fx.2.2.2.2.1 in_X8 fx.2.2.2.1 hK hP 1 rfl rfl 2 (by decide) (fx.2.2.2.2.1 _ q613) (fun _ h9 => h9) (v := .int (nI (q))) rfl dX8_init_14 ?_
  refine va_put (D := zk_D s0) (ci := 5) (C := RX8) (T := TX8) (N := 3) (ref := "InkPrintery$Edition") hx hb fx.2.2.2.2.1 in_X8 tyX8 tyX8_ok nmX8 fx.2.2.2.1 hK hP hD hS 0 rfl rfl 2 (by decide) (fx.2.2.2.2.1 _ q613) (fun _ h9 => h9) rfl (v := .int (nI (q))) (tyX8_ok 2 (by decide)) rfl rfl (Nat.le_of_ble_eq_true rfl) dX8_init_17 (fun H locs hP hD hS => ?_)
  have hP : va_P (zk_D s0) zk_Cl ([(o, .inr (5, [.int (nI (i)), .int (nI (n)), .int (nI (q))])), (o2, .inr (5, [.int (nI (i)), .int (nI (n)), .int (nI (q))]))]) H := hP
  have hD : va_D A ([(o, .inr (5, [.int (nI (i)), .int (nI (n)), .int (nI (q))])), (o2, .inr (5, [.int (nI (i)), .int (nI (n)), .int (nI (q))]))]) := hD
  exact zk_retv fx eQ rfl hP hD hS (Nat.le_of_ble_eq_true rfl) (Nat.le_of_ble_eq_true rfl) dX8_init_20 (⟨rfl, rfl⟩)
set_option maxHeartbeats 4000000 in
set_option maxRecDepth 100000 in
theorem cc_missing (l : Launch) (s0 : State) (b : Nat) (o i n q : Nat) (hq : q ≤ n) : zk_C l s0 b yX8_missing (ws_ yX8_missing cX8_missing 1 (some .int)) 0 0 0 0 [.ref (o)] ([(o, .inr (5, [.int (nI (i)), .int (nI (n)), .int (nI (q))]))]) (fun r w => r = some (.int (nI (n - q))) ∧ w = [(o, .inr (5, [.int (nI (i)), .int (nI (n)), .int (nI (q))]))]) := by
  refine zk_mk (by decide) rfl ?_
  intro p e s m below meth c A R args Q fx hR eQ hP hD hS ls hl
  have hx := fx.1
  have hb := fx.2.1
  have hK := fx.2.2.2.2.2.2.2.2.1.K
  have hl : lv_has ls 1 [(0, .ref (o))] := hl
  refine lv_aload_n hx hb dX8_missing_0 rfl (lv_at hl 0 rfl) ?_
  refine va_get (D := zk_D s0) (ci := 5) (C := RX8) (T := TX8) (N := 3) (ref := "InkPrintery$Edition") hx hb fx.2.2.2.2.1 in_X8 fx.2.2.2.1 hK hP 0 rfl rfl 1 (by decide) (fx.2.2.2.2.1 _ q610) (fun _ h9 => h9) (v := .int (nI (n))) rfl dX8_missing_1 ?_
  refine lv_aload_n hx hb dX8_missing_4 rfl (lv_at hl 0 rfl) ?_
  refine va_get (D := zk_D s0) (ci := 5) (C := RX8) (T := TX8) (N := 3) (ref := "InkPrintery$Edition") hx hb fx.2.2.2.2.1 in_X8 fx.2.2.2.1 hK hP 0 rfl rfl 2 (by decide) (fx.2.2.2.2.1 _ q613) (fun _ h9 => h9) (v := .int (nI (q))) rfl dX8_missing_5 ?_
  refine zn_isub hx hb dX8_missing_8 (by omega) ?_
  exact zk_reti (v := nI (n - q)) fx eQ rfl (rfl) hP hD hS (Nat.le_of_ble_eq_true rfl) (Nat.le_of_ble_eq_true rfl) dX8_missing_9 (⟨rfl, rfl⟩)
set_option maxHeartbeats 4000000 in
set_option maxRecDepth 100000 in
theorem cc_isComplete (l : Launch) (s0 : State) (b : Nat) (o i n q : Nat) (hn : n < 2 ^ 31) (hq : q ≤ n) : zk_C l s0 b yX8_isComplete (ws_ yX8_isComplete cX8_isComplete 1 (some .boolean)) 0 0 0 0 [.ref (o)] ([(o, .inr (5, [.int (nI (i)), .int (nI (n)), .int (nI (q))]))]) (fun r w => r = some (.int (nI (Bool.toNat (decide (q = n))))) ∧ w = [(o, .inr (5, [.int (nI (i)), .int (nI (n)), .int (nI (q))]))]) := by
  refine zk_mk (by decide) rfl ?_
  intro p e s m below meth c A R args Q fx hR eQ hP hD hS ls hl
  have hx := fx.1
  have hb := fx.2.1
  have hK := fx.2.2.2.2.2.2.2.2.1.K
  have hl : lv_has ls 1 [(0, .ref (o))] := hl
  refine lv_aload_n hx hb dX8_isComplete_0 rfl (lv_at hl 0 rfl) ?_
  refine va_get (D := zk_D s0) (ci := 5) (C := RX8) (T := TX8) (N := 3) (ref := "InkPrintery$Edition") hx hb fx.2.2.2.2.1 in_X8 fx.2.2.2.1 hK hP 0 rfl rfl 2 (by decide) (fx.2.2.2.2.1 _ q613) (fun _ h9 => h9) (v := .int (nI (q))) rfl dX8_isComplete_1 ?_
  refine lv_aload_n hx hb dX8_isComplete_4 rfl (lv_at hl 0 rfl) ?_
  refine va_get (D := zk_D s0) (ci := 5) (C := RX8) (T := TX8) (N := 3) (ref := "InkPrintery$Edition") hx hb fx.2.2.2.2.1 in_X8 fx.2.2.2.1 hK hP 0 rfl rfl 1 (by decide) (fx.2.2.2.2.1 _ q610) (fun _ h9 => h9) (v := .int (nI (n))) rfl dX8_isComplete_5 ?_
  refine zn_icmp_ne (tgt := 15) hx hb dX8_isComplete_8 (by decide) (by omega) (by omega) (fun c_8 => ?_) (fun c_8 => ?_)
  · refine lv_iconst (v := nI (0)) hx hb dX8_isComplete_15 rfl ?_
    exact zk_reti (v := nI (0)) fx eQ rfl (rfl) hP hD hS (Nat.le_of_ble_eq_true rfl) (Nat.le_of_ble_eq_true rfl) dX8_isComplete_16 (⟨zb_N (decide_eq_false (by omega)), rfl⟩)
  · refine lv_iconst (v := nI (1)) hx hb dX8_isComplete_11 rfl ?_
    refine lv_goto (tgt := 16) hx hb dX8_isComplete_12 (by decide) ?_
    exact zk_reti (v := nI (1)) fx eQ rfl (rfl) hP hD hS (Nat.le_of_ble_eq_true rfl) (Nat.le_of_ble_eq_true rfl) dX8_isComplete_16 (⟨zb_T (decide_eq_true (by omega)), rfl⟩)
