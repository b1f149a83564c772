/-! THE CLASS: helpers (printed by prog/m21.py) -/
set_option maxRecDepth 100000
set_option maxHeartbeats 4000000 in
set_option maxRecDepth 100000 in
theorem cc_inRange (l : Launch) (s0 : State) (b : Nat) (v lo hi : Int32) : zk_C l s0 b yX1_inRange (ws_ yX1_inRange cX1_inRange 3 (some .boolean)) 0 0 0 0 [.int (v), .int (lo), .int (hi)] ([]) (fun r w => r = some (.int (nI (Bool.toNat (decide (lo ≤ v ∧ v ≤ hi))))) ∧ w = []) := by
  refine zk_mk (by decide) rfl ?_
  intro p e s m below meth c A R args Q fx hR eQ hP hD hS ls hl
  have hx := fx.1
  have hb := fx.2.1
  have hK := fx.2.2.2.2.2.2.2.2.1.K
  have hl : lv_has ls 3 [(0, .int (v)), (1, .int (lo)), (2, .int (hi))] := hl
  refine lv_iload_n hx hb dX1_inRange_0 rfl (lv_at hl 0 rfl) ?_
  refine lv_iload_n hx hb dX1_inRange_1 rfl (lv_at hl 1 rfl) ?_
  refine lv_icmp_lt (tgt := 14) hx hb dX1_inRange_2 (by decide) (fun c_2 => ?_) (fun c_2 => ?_)
  · refine lv_iconst (v := nI (0)) hx hb dX1_inRange_14 rfl ?_
    exact zk_reti (v := nI (0)) fx eQ rfl (rfl) hP hD hS (Nat.le_of_ble_eq_true rfl) (Nat.le_of_ble_eq_true rfl) dX1_inRange_15 (⟨zb_N (decide_eq_false (fun z => Int32.not_le.mpr c_2 z.1)), rfl⟩)
  · refine lv_iload_n hx hb dX1_inRange_5 rfl (lv_at hl 0 rfl) ?_
    refine lv_iload_n hx hb dX1_inRange_6 rfl (lv_at hl 2 rfl) ?_
    refine lv_icmp_gt (tgt := 14) hx hb dX1_inRange_7 (by decide) (fun c_7 => ?_) (fun c_7 => ?_)
    · refine lv_iconst (v := nI (0)) hx hb dX1_inRange_14 rfl ?_
      exact zk_reti (v := nI (0)) fx eQ rfl (rfl) hP hD hS (Nat.le_of_ble_eq_true rfl) (Nat.le_of_ble_eq_true rfl) dX1_inRange_15 (⟨zb_N (decide_eq_false (fun z => Int32.not_le.mpr c_7 z.2)), rfl⟩)
    · refine lv_iconst (v := nI (1)) hx hb dX1_inRange_10 rfl ?_
      refine lv_goto (tgt := 15) hx hb dX1_inRange_11 (by decide) ?_
      exact zk_reti (v := nI (1)) fx eQ rfl (rfl) hP hD hS (Nat.le_of_ble_eq_true rfl) (Nat.le_of_ble_eq_true rfl) dX1_inRange_15 (⟨zb_T (decide_eq_true ⟨Int32.not_lt.mp c_2, Int32.not_lt.mp c_7⟩), rfl⟩)
set_option maxHeartbeats 4000000 in
set_option maxRecDepth 100000 in
theorem cc_isColour (l : Launch) (s0 : State) (b : Nat) (x : Int32) : zk_C l s0 b yX1_isColour (ws_ yX1_isColour cX1_isColour 1 (some .boolean)) 1 22 0 0 [.int (x)] ([]) (fun r w => r = some (.int (nI (Bool.toNat (zk_in x 0 9)))) ∧ w = []) := by
  refine zk_mk (by decide) rfl ?_
  intro p e s m below meth c A R args Q fx hR eQ hP hD hS ls hl
  have hx := fx.1
  have hb := fx.2.1
  have hK := fx.2.2.2.2.2.2.2.2.1.K
  have hl : lv_has ls 1 [(0, .int (x))] := hl
  refine lv_iload_n hx hb dX1_isColour_0 rfl (lv_at hl 0 rfl) ?_
  refine lv_iconst (v := nI (0)) hx hb dX1_isColour_1 rfl ?_
  refine lv_bipush (v := nI (9)) hx hb dX1_isColour_2 (by decide) ?_
  refine zk_callSn fx (cc_inRange l s0 b (x) (nI (0)) (nI (9))) (lw_S q1297 q1298 q84 q1299) ⟨by decide, by decide, (show (parseMethodDescriptor yX1_inRange.desc).map (fun d => d.parameters.length) = some 3 by decide +kernel)⟩ ⟨zk_le hR.1 rfl, zk_le hR.2.1 rfl⟩ ⟨zk_le hR.2.2.1 rfl, zk_le hR.2.2.2 rfl⟩ hP hD hS hl.1 rfl (Nat.le_of_ble_eq_true rfl) dX1_isColour_4 (fun v_ H locs hq_ hP hD hS => ?_)
  obtain rfl := hq_
  refine zn_st (st2 := [.int (nI (Bool.toNat (zk_in x 0 9)))]) rfl ?_
  exact zk_reti (v := nI (Bool.toNat (zk_in x 0 9))) fx eQ rfl (zb_nar _) hP hD hS (Nat.le_of_ble_eq_true rfl) (Nat.le_of_ble_eq_true rfl) dX1_isColour_7 (⟨rfl, rfl⟩)
theorem zh_m0 : ∀ w ∈ vx_at0 "InkPrintery" 68 "java/lang/IllegalArgumentException" ["java/lang/RuntimeException", "java/lang/Exception"], w ∈ lw_tbl := by decide +kernel
theorem zh_f0 : ∀ w ∈ vx_at0 "InkPrintery" 68 "java/lang/IllegalArgumentException" ["java/lang/RuntimeException", "java/lang/Exception"], zx_k w = true := by decide +kernel
theorem zh_g0 : ∀ w ∈ Cond.classLink "InkPrintery" 66 "java/lang/IllegalArgumentException" :: Cond.initialized "java/lang/IllegalArgumentException" :: vx_at0 "InkPrintery" 68 "java/lang/IllegalArgumentException" ["java/lang/RuntimeException", "java/lang/Exception"], vx_ot w = true := by decide +kernel
set_option maxHeartbeats 4000000 in
set_option maxRecDepth 100000 in
theorem cc_checkArgument (l : Launch) (s0 : State) (b : Nat) (hl0 : l.stackTraces = false) (t : Bool) : zk_Cx l s0 b yX1_checkArgument (ws_ yX1_checkArgument cX1_checkArgument 1 none) 6 81 1 6 [.int (nI (Bool.toNat (t)))] ([]) (fun r w => (r = none ∧ w = []) ∧ t = true) (fun E q w => (E = "java/lang/IllegalArgumentException" ∧ w = []) ∧ t = false) := by
  refine zk_mkx (by decide) rfl ?_
  intro p e s m below meth c A R args Q fx hR eQ hno hP hD hS ls hl
  have hx := fx.1
  have hb := fx.2.1
  have hK := fx.2.2.2.2.2.2.2.2.1.K
  have hl : lv_has ls 1 [(0, .int (nI (Bool.toNat (t))))] := hl
  refine lv_iload_n hx hb dX1_checkArgument_0 rfl (lv_at hl 0 rfl) ?_
  refine zb_if_ne (tgt := 12) hx hb dX1_checkArgument_1 (by decide) (fun c_1 => ?_) (fun c_1 => ?_)
  · subst eQ
    refine vx_ret ?_
    exact zk_retv fx rfl rfl hP hD hS (Nat.le_of_ble_eq_true rfl) (Nat.le_of_ble_eq_true rfl) dX1_checkArgument_12 (⟨⟨rfl, rfl⟩, c_1⟩)
  · subst eQ
    exact zk_throw0 fx hl0 hno (cls := "java/lang/IllegalArgumentException") (names := ["java/lang/RuntimeException", "java/lang/Exception"]) (ik := 66) (ic := 68) (by decide) (by decide) q1304 q110 zh_m0 zh_f0 zh_g0 hP hD hS hl.1 dX1_checkArgument_4 dX1_checkArgument_7 dX1_checkArgument_8 dX1_checkArgument_11 (zk_le hR.1 rfl) (zk_le hR.2.1 rfl) (zk_le hR.2.2.1 rfl) (zk_le hR.2.2.2 rfl) (Nat.le_of_ble_eq_true rfl) (Nat.le_of_ble_eq_true rfl) (fun q9 => ⟨⟨rfl, rfl⟩, c_1⟩)
theorem zh_m1 : ∀ w ∈ vx_at0 "InkPrintery" 74 "java/lang/IllegalStateException" ["java/lang/RuntimeException", "java/lang/Exception"], w ∈ lw_tbl := by decide +kernel
theorem zh_f1 : ∀ w ∈ vx_at0 "InkPrintery" 74 "java/lang/IllegalStateException" ["java/lang/RuntimeException", "java/lang/Exception"], zx_k w = true := by decide +kernel
theorem zh_g1 : ∀ w ∈ Cond.classLink "InkPrintery" 72 "java/lang/IllegalStateException" :: Cond.initialized "java/lang/IllegalStateException" :: vx_at0 "InkPrintery" 74 "java/lang/IllegalStateException" ["java/lang/RuntimeException", "java/lang/Exception"], vx_ot w = true := by decide +kernel
set_option maxHeartbeats 4000000 in
set_option maxRecDepth 100000 in
theorem cc_checkState (l : Launch) (s0 : State) (b : Nat) (hl0 : l.stackTraces = false) (t : Bool) : zk_Cx l s0 b yX1_checkState (ws_ yX1_checkState cX1_checkState 1 none) 6 81 1 6 [.int (nI (Bool.toNat (t)))] ([]) (fun r w => (r = none ∧ w = []) ∧ t = true) (fun E q w => (E = "java/lang/IllegalStateException" ∧ w = []) ∧ t = false) := by
  refine zk_mkx (by decide) rfl ?_
  intro p e s m below meth c A R args Q fx hR eQ hno hP hD hS ls hl
  have hx := fx.1
  have hb := fx.2.1
  have hK := fx.2.2.2.2.2.2.2.2.1.K
  have hl : lv_has ls 1 [(0, .int (nI (Bool.toNat (t))))] := hl
  refine lv_iload_n hx hb dX1_checkState_0 rfl (lv_at hl 0 rfl) ?_
  refine zb_if_ne (tgt := 12) hx hb dX1_checkState_1 (by decide) (fun c_1 => ?_) (fun c_1 => ?_)
  · subst eQ
    refine vx_ret ?_
    exact zk_retv fx rfl rfl hP hD hS (Nat.le_of_ble_eq_true rfl) (Nat.le_of_ble_eq_true rfl) dX1_checkState_12 (⟨⟨rfl, rfl⟩, c_1⟩)
  · subst eQ
    exact zk_throw0 fx hl0 hno (cls := "java/lang/IllegalStateException") (names := ["java/lang/RuntimeException", "java/lang/Exception"]) (ik := 72) (ic := 74) (by decide) (by decide) q1312 q104 zh_m1 zh_f1 zh_g1 hP hD hS hl.1 dX1_checkState_4 dX1_checkState_7 dX1_checkState_8 dX1_checkState_11 (zk_le hR.1 rfl) (zk_le hR.2.1 rfl) (zk_le hR.2.2.1 rfl) (zk_le hR.2.2.2 rfl) (Nat.le_of_ble_eq_true rfl) (Nat.le_of_ble_eq_true rfl) (fun q9 => ⟨⟨rfl, rfl⟩, c_1⟩)
theorem zh_m2 : ∀ w ∈ vx_at0 "InkPrintery" 77 "java/lang/IndexOutOfBoundsException" ["java/lang/RuntimeException", "java/lang/Exception"], w ∈ lw_tbl := by decide +kernel
theorem zh_f2 : ∀ w ∈ vx_at0 "InkPrintery" 77 "java/lang/IndexOutOfBoundsException" ["java/lang/RuntimeException", "java/lang/Exception"], zx_k w = true := by decide +kernel
theorem zh_g2 : ∀ w ∈ Cond.classLink "InkPrintery" 75 "java/lang/IndexOutOfBoundsException" :: Cond.initialized "java/lang/IndexOutOfBoundsException" :: vx_at0 "InkPrintery" 77 "java/lang/IndexOutOfBoundsException" ["java/lang/RuntimeException", "java/lang/Exception"], vx_ot w = true := by decide +kernel
set_option maxHeartbeats 4000000 in
set_option maxRecDepth 100000 in
theorem cc_checkIndex (l : Launch) (s0 : State) (b : Nat) (hl0 : l.stackTraces = false) (t : Bool) : zk_Cx l s0 b yX1_checkIndex (ws_ yX1_checkIndex cX1_checkIndex 1 none) 6 81 1 6 [.int (nI (Bool.toNat (t)))] ([]) (fun r w => (r = none ∧ w = []) ∧ t = true) (fun E q w => (E = "java/lang/IndexOutOfBoundsException" ∧ w = []) ∧ t = false) := by
  refine zk_mkx (by decide) rfl ?_
  intro p e s m below meth c A R args Q fx hR eQ hno hP hD hS ls hl
  have hx := fx.1
  have hb := fx.2.1
  have hK := fx.2.2.2.2.2.2.2.2.1.K
  have hl : lv_has ls 1 [(0, .int (nI (Bool.toNat (t))))] := hl
  refine lv_iload_n hx hb dX1_checkIndex_0 rfl (lv_at hl 0 rfl) ?_
  refine zb_if_ne (tgt := 12) hx hb dX1_checkIndex_1 (by decide) (fun c_1 => ?_) (fun c_1 => ?_)
  · subst eQ
    refine vx_ret ?_
    exact zk_retv fx rfl rfl hP hD hS (Nat.le_of_ble_eq_true rfl) (Nat.le_of_ble_eq_true rfl) dX1_checkIndex_12 (⟨⟨rfl, rfl⟩, c_1⟩)
  · subst eQ
    exact zk_throw0 fx hl0 hno (cls := "java/lang/IndexOutOfBoundsException") (names := ["java/lang/RuntimeException", "java/lang/Exception"]) (ik := 75) (ic := 77) (by decide) (by decide) q1415 q111 zh_m2 zh_f2 zh_g2 hP hD hS hl.1 dX1_checkIndex_4 dX1_checkIndex_7 dX1_checkIndex_8 dX1_checkIndex_11 (zk_le hR.1 rfl) (zk_le hR.2.1 rfl) (zk_le hR.2.2.1 rfl) (zk_le hR.2.2.2 rfl) (Nat.le_of_ble_eq_true rfl) (Nat.le_of_ble_eq_true rfl) (fun q9 => ⟨⟨rfl, rfl⟩, c_1⟩)
theorem zh_m3 : ∀ w ∈ vx_at0 "InkPrintery" 80 "java/lang/UnsupportedOperationException" ["java/lang/RuntimeException", "java/lang/Exception"], w ∈ lw_tbl := by decide +kernel
theorem zh_f3 : ∀ w ∈ vx_at0 "InkPrintery" 80 "java/lang/UnsupportedOperationException" ["java/lang/RuntimeException", "java/lang/Exception"], zx_k w = true := by decide +kernel
theorem zh_g3 : ∀ w ∈ Cond.classLink "InkPrintery" 78 "java/lang/UnsupportedOperationException" :: Cond.initialized "java/lang/UnsupportedOperationException" :: vx_at0 "InkPrintery" 80 "java/lang/UnsupportedOperationException" ["java/lang/RuntimeException", "java/lang/Exception"], vx_ot w = true := by decide +kernel
set_option maxHeartbeats 4000000 in
set_option maxRecDepth 100000 in
theorem cc_checkSupported (l : Launch) (s0 : State) (b : Nat) (hl0 : l.stackTraces = false) (t : Bool) : zk_Cx l s0 b yX1_checkSupported (ws_ yX1_checkSupported cX1_checkSupported 1 none) 6 81 1 6 [.int (nI (Bool.toNat (t)))] ([]) (fun r w => (r = none ∧ w = []) ∧ t = true) (fun E q w => (E = "java/lang/UnsupportedOperationException" ∧ w = []) ∧ t = false) := by
  refine zk_mkx (by decide) rfl ?_
  intro p e s m below meth c A R args Q fx hR eQ hno hP hD hS ls hl
  have hx := fx.1
  have hb := fx.2.1
  have hK := fx.2.2.2.2.2.2.2.2.1.K
  have hl : lv_has ls 1 [(0, .int (nI (Bool.toNat (t))))] := hl
  refine lv_iload_n hx hb dX1_checkSupported_0 rfl (lv_at hl 0 rfl) ?_
  refine zb_if_ne (tgt := 12) hx hb dX1_checkSupported_1 (by decide) (fun c_1 => ?_) (fun c_1 => ?_)
  · subst eQ
    refine vx_ret ?_
    exact zk_retv fx rfl rfl hP hD hS (Nat.le_of_ble_eq_true rfl) (Nat.le_of_ble_eq_true rfl) dX1_checkSupported_12 (⟨⟨rfl, rfl⟩, c_1⟩)
  · subst eQ
    exact zk_throw0 fx hl0 hno (cls := "java/lang/UnsupportedOperationException") (names := ["java/lang/RuntimeException", "java/lang/Exception"]) (ik := 78) (ic := 80) (by decide) (by decide) q1436 q113 zh_m3 zh_f3 zh_g3 hP hD hS hl.1 dX1_checkSupported_4 dX1_checkSupported_7 dX1_checkSupported_8 dX1_checkSupported_11 (zk_le hR.1 rfl) (zk_le hR.2.1 rfl) (zk_le hR.2.2.1 rfl) (zk_le hR.2.2.2 rfl) (Nat.le_of_ble_eq_true rfl) (Nat.le_of_ble_eq_true rfl) (fun q9 => ⟨⟨rfl, rfl⟩, c_1⟩)
