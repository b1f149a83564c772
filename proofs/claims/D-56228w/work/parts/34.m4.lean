/-! THE REFERENCE, part 4 (printed by prog/m4.py) -/
set_option maxRecDepth 100000
set_option maxHeartbeats 4000000 in
set_option maxRecDepth 100000 in
theorem cm_of (l : Launch) (s0 : State) (b : Nat) (h f : Nat → Nat) (a : Nat → Nat → Nat) (x : Int32) (o : Nat) (ho : o < 3) (ok : zp_Ok (a 0)) : zk_C l s0 b yX7_of (ws_ yX7_of cX7_of 3 (some .int)) 2 43 0 0 [.ref (h 0), .int (x), .int (nI (o))] (zm_W s0 h f a) (fun r w => zm_N s0 h f a (Bool.toNat (!(zk_ix x (a 0 0)))) (.int (nI (if zk_ix x (a 0 0) = true then a 0 (20 + 4 * x.toNatClampNeg + o) else 0))) r w) := by
  refine zk_mk (by decide) rfl ?_
  intro p e s m below meth c A R args Q fx hR eQ hP hD hS ls hl
  have hx := fx.1
  have hb := fx.2.1
  have hK := fx.2.2.2.2.2.2.2.2.1.K
  have hl : lv_has ls 3 [(0, .ref (h 0)), (1, .int (x)), (2, .int (nI (o)))] := hl
  obtain ⟨ok0, ok1, ok2, ok3, ok4, ok5, ok6, okw, oke, okp⟩ := id ok
  refine lv_aload_n hx hb dX7_of_0 rfl (lv_at hl 0 rfl) ?_
  refine lv_aload_n hx hb dX7_of_1 rfl (lv_at hl 0 rfl) ?_
  refine lv_iload_n hx hb dX7_of_2 rfl (lv_at hl 1 rfl) ?_
  refine zk_callV0 fx (cm_isEdition l s0 b h f a x (ok0)) (lw_V q2430 q2432 qs48 q108 q2433) ⟨rfl, by decide, by decide, (show (parseMethodDescriptor yX7_isEdition.desc).map (fun d => d.parameters.length) = some 1 by decide +kernel)⟩ ⟨zk_le hR.1 rfl, zk_le hR.2.1 rfl⟩ ⟨zk_le hR.2.2.1 rfl, zk_le hR.2.2.2 rfl⟩ hP hD hS 0 rfl rfl 0 rfl hl.1 rfl (Nat.le_of_ble_eq_true rfl) dX7_of_3 (fun v_ w_ H locs hq_ hP hD hS => ?_)
  obtain ⟨rfl, rfl⟩ := hq_
  refine zn_st (st2 := [.int (nI (Bool.toNat (zk_ix x ((a 0) 0)))), .ref (h 0)]) rfl ?_
  refine zk_callV0 fx (cm_checked l s0 b h f a (zk_ix x ((a 0) 0))) (lw_V q2378 q2380 qs42 q108 q2381) ⟨rfl, by decide, by decide, (show (parseMethodDescriptor yX7_checked.desc).map (fun d => d.parameters.length) = some 1 by decide +kernel)⟩ ⟨zk_le hR.1 rfl, zk_le hR.2.1 rfl⟩ ⟨zk_le hR.2.2.1 rfl, zk_le hR.2.2.2 rfl⟩ hP hD hS 0 rfl rfl 0 rfl hl.1 rfl (Nat.le_of_ble_eq_true rfl) dX7_of_6 (fun v_ w_ H locs hq_ hP hD hS => ?_)
  obtain ⟨rfl, rfl⟩ := hq_
  refine zn_st (st2 := [.int (nI (Bool.toNat (!(zk_ix x ((a 0) 0)))))]) rfl ?_
  refine zb_if_le (tgt := 16) hx hb dX7_of_9 (by decide) (fun c_9 => ?_) (fun c_9 => ?_)
  · obtain ⟨i, hi, rfl⟩ := zk_ix_of c_9 (by omega)
    refine lv_aload_n hx hb dX7_of_16 rfl (lv_at hl 0 rfl) ?_
    refine lv_iload_n hx hb dX7_of_17 rfl (lv_at hl 1 rfl) ?_
    refine lv_iload_n hx hb dX7_of_18 rfl (lv_at hl 2 rfl) ?_
    refine zk_callV0 fx (cm_e l s0 b h (va_up f 9 (Bool.toNat (!(zk_ix (nI i) ((a 0) 0))))) a i o (by omega)) (lw_V q2450 q2452 qs52 q108 q2453) ⟨rfl, by decide, by decide, (show (parseMethodDescriptor yX7_e.desc).map (fun d => d.parameters.length) = some 2 by decide +kernel)⟩ ⟨zk_le hR.1 rfl, zk_le hR.2.1 rfl⟩ ⟨zk_le hR.2.2.1 rfl, zk_le hR.2.2.2 rfl⟩ hP hD hS 0 rfl rfl 0 rfl hl.1 rfl (Nat.le_of_ble_eq_true rfl) dX7_of_19 (fun v_ w_ H locs hq_ hP hD hS => ?_)
    obtain ⟨rfl, rfl⟩ := hq_
    refine zn_st (st2 := [.int (nI ((a 0) (20 + 4 * i + o)))]) rfl ?_
    exact zk_reti (v := nI ((a 0) (20 + 4 * i + o))) fx eQ rfl (rfl) hP hD hS (Nat.le_of_ble_eq_true rfl) (Nat.le_of_ble_eq_true rfl) dX7_of_22 (⟨by rw [if_pos c_9, nI_clamp (by omega)], _, _, rfl, ⟨rfl, rfl, rfl, rfl, rfl, rfl, rfl, rfl⟩, ⟨rfl, rfl⟩, rfl, rfl⟩)
  · refine lv_iconst (v := nI (0)) hx hb dX7_of_12 rfl ?_
    refine lv_goto (tgt := 22) hx hb dX7_of_13 (by decide) ?_
    exact zk_reti (v := nI (0)) fx eQ rfl (rfl) hP hD hS (Nat.le_of_ble_eq_true rfl) (Nat.le_of_ble_eq_true rfl) dX7_of_22 (⟨by rw [if_neg (by rw [c_9]; decide)], _, _, rfl, ⟨rfl, rfl, rfl, rfl, rfl, rfl, rfl, rfl⟩, ⟨rfl, rfl⟩, rfl, rfl⟩)
set_option maxHeartbeats 4000000 in
set_option maxRecDepth 100000 in
theorem cm_colourOf (l : Launch) (s0 : State) (b : Nat) (h f : Nat → Nat) (a : Nat → Nat → Nat) (x : Int32) (ok : zp_Ok (a 0)) : zk_C l s0 b yX7_colourOf (ws_ yX7_colourOf cX7_colourOf 2 (some .int)) 3 65 0 0 [.ref (h 0), .int (x)] (zm_W s0 h f a) (fun r w => zm_N s0 h f a (Bool.toNat (!(zk_ix x (a 0 0)))) (.int (nI (if zk_ix x (a 0 0) = true then a 0 (20 + 4 * x.toNatClampNeg + 0) else 0))) r w) := by
  refine zk_mk (by decide) rfl ?_
  intro p e s m below meth c A R args Q fx hR eQ hP hD hS ls hl
  have hx := fx.1
  have hb := fx.2.1
  have hK := fx.2.2.2.2.2.2.2.2.1.K
  have hl : lv_has ls 2 [(0, .ref (h 0)), (1, .int (x))] := hl
  refine lv_aload_n hx hb dX7_colourOf_0 rfl (lv_at hl 0 rfl) ?_
  refine lv_iload_n hx hb dX7_colourOf_1 rfl (lv_at hl 1 rfl) ?_
  refine lv_iconst (v := nI (0)) hx hb dX7_colourOf_2 rfl ?_
  refine zk_callV0 fx (cm_of l s0 b h f a x 0 (by decide) (ok)) (lw_V q2553 q2555 qs66 q108 q2556) ⟨rfl, by decide, by decide, (show (parseMethodDescriptor yX7_of.desc).map (fun d => d.parameters.length) = some 2 by decide +kernel)⟩ ⟨zk_le hR.1 rfl, zk_le hR.2.1 rfl⟩ ⟨zk_le hR.2.2.1 rfl, zk_le hR.2.2.2 rfl⟩ hP hD hS 0 rfl rfl 0 rfl hl.1 rfl (Nat.le_of_ble_eq_true rfl) dX7_colourOf_3 (fun v_ w_ H locs hq_ hP hD hS => ?_)
  obtain ⟨rfl, f_1, a_1, rfl, hk_1, hh_1, ht_1, ha_1⟩ := hq_
  refine zn_st (st2 := [.int (nI (if zk_ix x ((a 0) 0) = true then (a 0) (20 + 4 * (x).toNatClampNeg + 0) else 0))]) rfl ?_
  exact zk_reti (v := nI (if zk_ix x ((a 0) 0) = true then (a 0) (20 + 4 * (x).toNatClampNeg + 0) else 0)) fx eQ rfl (rfl) hP hD hS (Nat.le_of_ble_eq_true rfl) (Nat.le_of_ble_eq_true rfl) dX7_colourOf_6 (⟨rfl, _, _, rfl, hk_1, hh_1, ht_1, ha_1⟩)
set_option maxHeartbeats 4000000 in
set_option maxRecDepth 100000 in
theorem cm_runOf (l : Launch) (s0 : State) (b : Nat) (h f : Nat → Nat) (a : Nat → Nat → Nat) (x : Int32) (ok : zp_Ok (a 0)) : zk_C l s0 b yX7_runOf (ws_ yX7_runOf cX7_runOf 2 (some .int)) 3 65 0 0 [.ref (h 0), .int (x)] (zm_W s0 h f a) (fun r w => zm_N s0 h f a (Bool.toNat (!(zk_ix x (a 0 0)))) (.int (nI (if zk_ix x (a 0 0) = true then a 0 (20 + 4 * x.toNatClampNeg + 1) else 0))) r w) := by
  refine zk_mk (by decide) rfl ?_
  intro p e s m below meth c A R args Q fx hR eQ hP hD hS ls hl
  have hx := fx.1
  have hb := fx.2.1
  have hK := fx.2.2.2.2.2.2.2.2.1.K
  have hl : lv_has ls 2 [(0, .ref (h 0)), (1, .int (x))] := hl
  refine lv_aload_n hx hb dX7_runOf_0 rfl (lv_at hl 0 rfl) ?_
  refine lv_iload_n hx hb dX7_runOf_1 rfl (lv_at hl 1 rfl) ?_
  refine lv_iconst (v := nI (1)) hx hb dX7_runOf_2 rfl ?_
  refine zk_callV0 fx (cm_of l s0 b h f a x 1 (by decide) (ok)) (lw_V q2553 q2555 qs66 q108 q2556) ⟨rfl, by decide, by decide, (show (parseMethodDescriptor yX7_of.desc).map (fun d => d.parameters.length) = some 2 by decide +kernel)⟩ ⟨zk_le hR.1 rfl, zk_le hR.2.1 rfl⟩ ⟨zk_le hR.2.2.1 rfl, zk_le hR.2.2.2 rfl⟩ hP hD hS 0 rfl rfl 0 rfl hl.1 rfl (Nat.le_of_ble_eq_true rfl) dX7_runOf_3 (fun v_ w_ H locs hq_ hP hD hS => ?_)
  obtain ⟨rfl, f_1, a_1, rfl, hk_1, hh_1, ht_1, ha_1⟩ := hq_
  refine zn_st (st2 := [.int (nI (if zk_ix x ((a 0) 0) = true then (a 0) (20 + 4 * (x).toNatClampNeg + 1) else 0))]) rfl ?_
  exact zk_reti (v := nI (if zk_ix x ((a 0) 0) = true then (a 0) (20 + 4 * (x).toNatClampNeg + 1) else 0)) fx eQ rfl (rfl) hP hD hS (Nat.le_of_ble_eq_true rfl) (Nat.le_of_ble_eq_true rfl) dX7_runOf_6 (⟨rfl, _, _, rfl, hk_1, hh_1, ht_1, ha_1⟩)
set_option maxHeartbeats 4000000 in
set_option maxRecDepth 100000 in
theorem cm_printedOf (l : Launch) (s0 : State) (b : Nat) (h f : Nat → Nat) (a : Nat → Nat → Nat) (x : Int32) (ok : zp_Ok (a 0)) : zk_C l s0 b yX7_printedOf (ws_ yX7_printedOf cX7_printedOf 2 (some .int)) 3 65 0 0 [.ref (h 0), .int (x)] (zm_W s0 h f a) (fun r w => zm_N s0 h f a (Bool.toNat (!(zk_ix x (a 0 0)))) (.int (nI (if zk_ix x (a 0 0) = true then a 0 (20 + 4 * x.toNatClampNeg + 2) else 0))) r w) := by
  refine zk_mk (by decide) rfl ?_
  intro p e s m below meth c A R args Q fx hR eQ hP hD hS ls hl
  have hx := fx.1
  have hb := fx.2.1
  have hK := fx.2.2.2.2.2.2.2.2.1.K
  have hl : lv_has ls 2 [(0, .ref (h 0)), (1, .int (x))] := hl
  refine lv_aload_n hx hb dX7_printedOf_0 rfl (lv_at hl 0 rfl) ?_
  refine lv_iload_n hx hb dX7_printedOf_1 rfl (lv_at hl 1 rfl) ?_
  refine lv_iconst (v := nI (2)) hx hb dX7_printedOf_2 rfl ?_
  refine zk_callV0 fx (cm_of l s0 b h f a x 2 (by decide) (ok)) (lw_V q2553 q2555 qs66 q108 q2556) ⟨rfl, by decide, by decide, (show (parseMethodDescriptor yX7_of.desc).map (fun d => d.parameters.length) = some 2 by decide +kernel)⟩ ⟨zk_le hR.1 rfl, zk_le hR.2.1 rfl⟩ ⟨zk_le hR.2.2.1 rfl, zk_le hR.2.2.2 rfl⟩ hP hD hS 0 rfl rfl 0 rfl hl.1 rfl (Nat.le_of_ble_eq_true rfl) dX7_printedOf_3 (fun v_ w_ H locs hq_ hP hD hS => ?_)
  obtain ⟨rfl, f_1, a_1, rfl, hk_1, hh_1, ht_1, ha_1⟩ := hq_
  refine zn_st (st2 := [.int (nI (if zk_ix x ((a 0) 0) = true then (a 0) (20 + 4 * (x).toNatClampNeg + 2) else 0))]) rfl ?_
  exact zk_reti (v := nI (if zk_ix x ((a 0) 0) = true then (a 0) (20 + 4 * (x).toNatClampNeg + 2) else 0)) fx eQ rfl (rfl) hP hD hS (Nat.le_of_ble_eq_true rfl) (Nat.le_of_ble_eq_true rfl) dX7_printedOf_6 (⟨rfl, _, _, rfl, hk_1, hh_1, ht_1, ha_1⟩)
set_option maxHeartbeats 4000000 in
set_option maxRecDepth 100000 in
theorem cm_isComplete (l : Launch) (s0 : State) (b : Nat) (h f : Nat → Nat) (a : Nat → Nat → Nat) (x : Int32) (ok : zp_Ok (a 0)) : zk_C l s0 b yX7_isComplete (ws_ yX7_isComplete cX7_isComplete 2 (some .boolean)) 2 43 0 0 [.ref (h 0), .int (x)] (zm_W s0 h f a) (fun r w => zm_N s0 h f a (Bool.toNat (!(zk_ix x (a 0 0)))) (.int (nI (Bool.toNat (zk_ix x (a 0 0) && decide (zp_miss (a 0) x.toNatClampNeg = 0))))) r w) := by
  refine zk_mk (by decide) rfl ?_
  intro p e s m below meth c A R args Q fx hR eQ hP hD hS ls hl
  have hx := fx.1
  have hb := fx.2.1
  have hK := fx.2.2.2.2.2.2.2.2.1.K
  have hl : lv_has ls 2 [(0, .ref (h 0)), (1, .int (x))] := hl
  obtain ⟨ok0, ok1, ok2, ok3, ok4, ok5, ok6, okw, oke, okp⟩ := id ok
  refine lv_aload_n hx hb dX7_isComplete_0 rfl (lv_at hl 0 rfl) ?_
  refine lv_aload_n hx hb dX7_isComplete_1 rfl (lv_at hl 0 rfl) ?_
  refine lv_iload_n hx hb dX7_isComplete_2 rfl (lv_at hl 1 rfl) ?_
  refine zk_callV0 fx (cm_isEdition l s0 b h f a x (ok0)) (lw_V q2430 q2432 qs48 q108 q2433) ⟨rfl, by decide, by decide, (show (parseMethodDescriptor yX7_isEdition.desc).map (fun d => d.parameters.length) = some 1 by decide +kernel)⟩ ⟨zk_le hR.1 rfl, zk_le hR.2.1 rfl⟩ ⟨zk_le hR.2.2.1 rfl, zk_le hR.2.2.2 rfl⟩ hP hD hS 0 rfl rfl 0 rfl hl.1 rfl (Nat.le_of_ble_eq_true rfl) dX7_isComplete_3 (fun v_ w_ H locs hq_ hP hD hS => ?_)
  obtain ⟨rfl, rfl⟩ := hq_
  refine zn_st (st2 := [.int (nI (Bool.toNat (zk_ix x ((a 0) 0)))), .ref (h 0)]) rfl ?_
  refine zk_callV0 fx (cm_checked l s0 b h f a (zk_ix x ((a 0) 0))) (lw_V q2378 q2380 qs42 q108 q2381) ⟨rfl, by decide, by decide, (show (parseMethodDescriptor yX7_checked.desc).map (fun d => d.parameters.length) = some 1 by decide +kernel)⟩ ⟨zk_le hR.1 rfl, zk_le hR.2.1 rfl⟩ ⟨zk_le hR.2.2.1 rfl, zk_le hR.2.2.2 rfl⟩ hP hD hS 0 rfl rfl 0 rfl hl.1 rfl (Nat.le_of_ble_eq_true rfl) dX7_isComplete_6 (fun v_ w_ H locs hq_ hP hD hS => ?_)
  obtain ⟨rfl, rfl⟩ := hq_
  refine zn_st (st2 := [.int (nI (Bool.toNat (!(zk_ix x ((a 0) 0)))))]) rfl ?_
  refine zb_if_ne (tgt := 24) hx hb dX7_isComplete_9 (by decide) (fun c_9 => ?_) (fun c_9 => ?_)
  · have c_9 : zk_ix x (a 0 0) = false := by cases hz : zk_ix x (a 0 0) <;> simp_all
    refine lv_iconst (v := nI (0)) hx hb dX7_isComplete_24 rfl ?_
    exact zk_reti (v := nI (0)) fx eQ rfl (rfl) hP hD hS (Nat.le_of_ble_eq_true rfl) (Nat.le_of_ble_eq_true rfl) dX7_isComplete_25 (⟨zb_N (by rw [c_9]; rfl), _, _, rfl, ⟨rfl, rfl, rfl, rfl, rfl, rfl, rfl, rfl⟩, ⟨rfl, rfl⟩, rfl, rfl⟩)
  · have c_9 : zk_ix x (a 0 0) = true := by cases hz : zk_ix x (a 0 0) <;> simp_all
    obtain ⟨i, hi, rfl⟩ := zk_ix_of c_9 (by omega)
    refine lv_aload_n hx hb dX7_isComplete_12 rfl (lv_at hl 0 rfl) ?_
    refine lv_iload_n hx hb dX7_isComplete_13 rfl (lv_at hl 1 rfl) ?_
    refine zk_callV0 fx (cm_missing l s0 b h (va_up f 9 (Bool.toNat (!(zk_ix (nI i) ((a 0) 0))))) a i (hi) (ok)) (lw_V q2446 q2448 qs51 q108 q2449) ⟨rfl, by decide, by decide, (show (parseMethodDescriptor yX7_missing.desc).map (fun d => d.parameters.length) = some 1 by decide +kernel)⟩ ⟨zk_le hR.1 rfl, zk_le hR.2.1 rfl⟩ ⟨zk_le hR.2.2.1 rfl, zk_le hR.2.2.2 rfl⟩ hP hD hS 0 rfl rfl 0 rfl hl.1 rfl (Nat.le_of_ble_eq_true rfl) dX7_isComplete_14 (fun v_ w_ H locs hq_ hP hD hS => ?_)
    obtain ⟨rfl, rfl⟩ := hq_
    refine zn_st (st2 := [.int (nI (zp_miss (a 0) i))]) rfl ?_
    refine zn_if_ne (tgt := 24) hx hb dX7_isComplete_17 (by decide) (by have := oke i hi; unfold zp_miss; omega) (fun c_17 => ?_) (fun c_17 => ?_)
    · refine lv_iconst (v := nI (0)) hx hb dX7_isComplete_24 rfl ?_
      exact zk_reti (v := nI (0)) fx eQ rfl (rfl) hP hD hS (Nat.le_of_ble_eq_true rfl) (Nat.le_of_ble_eq_true rfl) dX7_isComplete_25 (⟨zb_N (by rw [c_9, nI_clamp (by omega)]; exact decide_eq_false c_17), _, _, rfl, ⟨rfl, rfl, rfl, rfl, rfl, rfl, rfl, rfl⟩, ⟨rfl, rfl⟩, rfl, rfl⟩)
    · refine lv_iconst (v := nI (1)) hx hb dX7_isComplete_20 rfl ?_
      refine lv_goto (tgt := 25) hx hb dX7_isComplete_21 (by decide) ?_
      exact zk_reti (v := nI (1)) fx eQ rfl (rfl) hP hD hS (Nat.le_of_ble_eq_true rfl) (Nat.le_of_ble_eq_true rfl) dX7_isComplete_25 (⟨zb_T (by rw [c_9, nI_clamp (by omega)]; exact decide_eq_true c_17), _, _, rfl, ⟨rfl, rfl, rfl, rfl, rfl, rfl, rfl, rfl⟩, ⟨rfl, rfl⟩, rfl, rfl⟩)
set_option maxHeartbeats 4000000 in
set_option maxRecDepth 100000 in
theorem cm_changeMinutes (l : Launch) (s0 : State) (b : Nat) (h f : Nat → Nat) (a : Nat → Nat → Nat) (x u : Int32) : zk_C l s0 b yX7_changeMinutes (ws_ yX7_changeMinutes cX7_changeMinutes 3 (some .int)) 2 42 0 0 [.ref (h 0), .int (x), .int (u)] (zm_W s0 h f a) (fun r w => zm_N s0 h f a (Bool.toNat (!(zk_in x 0 9 && zk_in u 0 9))) (.int (nI (if (zk_in x 0 9 && zk_in u 0 9) = true then zp_change x.toNatClampNeg u.toNatClampNeg else 0))) r w) := by
  refine zk_mk (by decide) rfl ?_
  intro p e s m below meth c A R args Q fx hR eQ hP hD hS ls hl
  have hx := fx.1
  have hb := fx.2.1
  have hK := fx.2.2.2.2.2.2.2.2.1.K
  have hl : lv_has ls 3 [(0, .ref (h 0)), (1, .int (x)), (2, .int (u))] := hl
  refine lv_aload_n hx hb dX7_changeMinutes_0 rfl (lv_at hl 0 rfl) ?_
  refine lv_iload_n hx hb dX7_changeMinutes_1 rfl (lv_at hl 1 rfl) ?_
  refine zk_callSn fx (cm_isColour l s0 b (x)) (lw_S q2336 q2337 q108 q2338) ⟨by decide, by decide, (show (parseMethodDescriptor yX7_isColour.desc).map (fun d => d.parameters.length) = some 1 by decide +kernel)⟩ ⟨zk_le hR.1 rfl, zk_le hR.2.1 rfl⟩ ⟨zk_le hR.2.2.1 rfl, zk_le hR.2.2.2 rfl⟩ hP hD hS hl.1 rfl (Nat.le_of_ble_eq_true rfl) dX7_changeMinutes_2 (fun v_ H locs hq_ hP hD hS => ?_)
  obtain rfl := hq_
  refine zn_st (st2 := [.int (nI (Bool.toNat (zk_in x 0 9))), .ref (h 0)]) rfl ?_
  refine zb_if_eq (tgt := 19) hx hb dX7_changeMinutes_5 (by decide) (fun c_5 => ?_) (fun c_5 => ?_)
  · refine lv_iconst (v := nI (0)) hx hb dX7_changeMinutes_19 rfl ?_
    refine zk_callV0 fx (cm_checked l s0 b h f a false) (lw_V q2378 q2380 qs42 q108 q2381) ⟨rfl, by decide, by decide, (show (parseMethodDescriptor yX7_checked.desc).map (fun d => d.parameters.length) = some 1 by decide +kernel)⟩ ⟨zk_le hR.1 rfl, zk_le hR.2.1 rfl⟩ ⟨zk_le hR.2.2.1 rfl, zk_le hR.2.2.2 rfl⟩ hP hD hS 0 rfl rfl 0 rfl hl.1 rfl (Nat.le_of_ble_eq_true rfl) dX7_changeMinutes_20 (fun v_ w_ H locs hq_ hP hD hS => ?_)
    obtain ⟨rfl, rfl⟩ := hq_
    refine zn_st (st2 := [.int (nI (1))]) rfl ?_
    refine zn_if_le (tgt := 30) hx hb dX7_changeMinutes_23 (by decide) (by decide) (fun z_ => absurd z_ (by decide)) (fun _ => ?_)
    refine lv_iconst (v := nI (0)) hx hb dX7_changeMinutes_26 rfl ?_
    refine lv_goto (tgt := 35) hx hb dX7_changeMinutes_27 (by decide) ?_
    exact zk_reti (v := nI (0)) fx eQ rfl (rfl) hP hD hS (Nat.le_of_ble_eq_true rfl) (Nat.le_of_ble_eq_true rfl) dX7_changeMinutes_35 (⟨by rw [if_neg (zb_nl c_5)], _, _, rfl, ⟨rfl, rfl, rfl, rfl, rfl, rfl, rfl, rfl⟩, ⟨rfl, rfl⟩, by rw [c_5]; rfl, rfl⟩)
  · refine lv_iload_n hx hb dX7_changeMinutes_8 rfl (lv_at hl 2 rfl) ?_
    refine zk_callSn fx (cm_isColour l s0 b (u)) (lw_S q2336 q2337 q108 q2338) ⟨by decide, by decide, (show (parseMethodDescriptor yX7_isColour.desc).map (fun d => d.parameters.length) = some 1 by decide +kernel)⟩ ⟨zk_le hR.1 rfl, zk_le hR.2.1 rfl⟩ ⟨zk_le hR.2.2.1 rfl, zk_le hR.2.2.2 rfl⟩ hP hD hS hl.1 rfl (Nat.le_of_ble_eq_true rfl) dX7_changeMinutes_9 (fun v_ H locs hq_ hP hD hS => ?_)
    obtain rfl := hq_
    refine zn_st (st2 := [.int (nI (Bool.toNat (zk_in u 0 9))), .ref (h 0)]) rfl ?_
    refine zb_if_eq (tgt := 19) hx hb dX7_changeMinutes_12 (by decide) (fun c_12 => ?_) (fun c_12 => ?_)
    · refine lv_iconst (v := nI (0)) hx hb dX7_changeMinutes_19 rfl ?_
      refine zk_callV0 fx (cm_checked l s0 b h f a false) (lw_V q2378 q2380 qs42 q108 q2381) ⟨rfl, by decide, by decide, (show (parseMethodDescriptor yX7_checked.desc).map (fun d => d.parameters.length) = some 1 by decide +kernel)⟩ ⟨zk_le hR.1 rfl, zk_le hR.2.1 rfl⟩ ⟨zk_le hR.2.2.1 rfl, zk_le hR.2.2.2 rfl⟩ hP hD hS 0 rfl rfl 0 rfl hl.1 rfl (Nat.le_of_ble_eq_true rfl) dX7_changeMinutes_20 (fun v_ w_ H locs hq_ hP hD hS => ?_)
      obtain ⟨rfl, rfl⟩ := hq_
      refine zn_st (st2 := [.int (nI (1))]) rfl ?_
      refine zn_if_le (tgt := 30) hx hb dX7_changeMinutes_23 (by decide) (by decide) (fun z_ => absurd z_ (by decide)) (fun _ => ?_)
      refine lv_iconst (v := nI (0)) hx hb dX7_changeMinutes_26 rfl ?_
      refine lv_goto (tgt := 35) hx hb dX7_changeMinutes_27 (by decide) ?_
      exact zk_reti (v := nI (0)) fx eQ rfl (rfl) hP hD hS (Nat.le_of_ble_eq_true rfl) (Nat.le_of_ble_eq_true rfl) dX7_changeMinutes_35 (⟨by rw [if_neg (zb_nr c_12)], _, _, rfl, ⟨rfl, rfl, rfl, rfl, rfl, rfl, rfl, rfl⟩, ⟨rfl, rfl⟩, by rw [c_12, Bool.and_false]; rfl, rfl⟩)
    · refine lv_iconst (v := nI (1)) hx hb dX7_changeMinutes_15 rfl ?_
      refine lv_goto (tgt := 20) hx hb dX7_changeMinutes_16 (by decide) ?_
      refine zk_callV0 fx (cm_checked l s0 b h f a true) (lw_V q2378 q2380 qs42 q108 q2381) ⟨rfl, by decide, by decide, (show (parseMethodDescriptor yX7_checked.desc).map (fun d => d.parameters.length) = some 1 by decide +kernel)⟩ ⟨zk_le hR.1 rfl, zk_le hR.2.1 rfl⟩ ⟨zk_le hR.2.2.1 rfl, zk_le hR.2.2.2 rfl⟩ hP hD hS 0 rfl rfl 0 rfl hl.1 rfl (Nat.le_of_ble_eq_true rfl) dX7_changeMinutes_20 (fun v_ w_ H locs hq_ hP hD hS => ?_)
      obtain ⟨rfl, rfl⟩ := hq_
      refine zn_st (st2 := [.int (nI (0))]) rfl ?_
      refine zn_if_le (tgt := 30) hx hb dX7_changeMinutes_23 (by decide) (by decide) (fun _ => ?_) (fun z_ => absurd z_ (by decide))
      obtain ⟨i, -, hi, rfl⟩ := zk_in_of c_5 (by decide) (by decide)
      obtain ⟨j, -, hj, rfl⟩ := zk_in_of c_12 (by decide) (by decide)
      refine lv_iload_n hx hb dX7_changeMinutes_30 rfl (lv_at hl 1 rfl) ?_
      refine lv_iload_n hx hb dX7_changeMinutes_31 rfl (lv_at hl 2 rfl) ?_
      refine zk_callSn fx (cm_change l s0 b (i) (j) (by omega) (by omega)) (lw_S q2469 q2470 q108 q2471) ⟨by decide, by decide, (show (parseMethodDescriptor yX7_change.desc).map (fun d => d.parameters.length) = some 2 by decide +kernel)⟩ ⟨zk_le hR.1 rfl, zk_le hR.2.1 rfl⟩ ⟨zk_le hR.2.2.1 rfl, zk_le hR.2.2.2 rfl⟩ hP hD hS hl.1 rfl (Nat.le_of_ble_eq_true rfl) dX7_changeMinutes_32 (fun v_ H locs hq_ hP hD hS => ?_)
      obtain rfl := hq_
      refine zn_st (st2 := [.int (nI (zp_change i j))]) rfl ?_
      exact zk_reti (v := nI (zp_change i j)) fx eQ rfl (rfl) hP hD hS (Nat.le_of_ble_eq_true rfl) (Nat.le_of_ble_eq_true rfl) dX7_changeMinutes_35 (⟨by rw [if_pos (by rw [c_5, c_12]; rfl), nI_clamp (by omega), nI_clamp (by omega)], _, _, rfl, ⟨rfl, rfl, rfl, rfl, rfl, rfl, rfl, rfl⟩, ⟨rfl, rfl⟩, by rw [c_5, c_12]; rfl, rfl⟩)
set_option maxHeartbeats 4000000 in
set_option maxRecDepth 100000 in
theorem cm_marksOf (l : Launch) (s0 : State) (b : Nat) (h f : Nat → Nat) (a : Nat → Nat → Nat) (x : Int32) (ok : zp_Ok (a 0)) : zk_C l s0 b yX7_marksOf (ws_ yX7_marksOf cX7_marksOf 2 (some .int)) 2 43 0 0 [.ref (h 0), .int (x)] (zm_W s0 h f a) (fun r w => zm_N s0 h f a (Bool.toNat (!(zk_ix x (a 0 1)))) (.int (nI (if zk_ix x (a 0 1) = true then a 0 (48 + 2 * x.toNatClampNeg) else 0))) r w) := by
  refine zk_mk (by decide) rfl ?_
  intro p e s m below meth c A R args Q fx hR eQ hP hD hS ls hl
  have hx := fx.1
  have hb := fx.2.1
  have hK := fx.2.2.2.2.2.2.2.2.1.K
  have hl : lv_has ls 2 [(0, .ref (h 0)), (1, .int (x))] := hl
  obtain ⟨ok0, ok1, ok2, ok3, ok4, ok5, ok6, okw, oke, okp⟩ := id ok
  refine lv_aload_n hx hb dX7_marksOf_0 rfl (lv_at hl 0 rfl) ?_
  refine lv_aload_n hx hb dX7_marksOf_1 rfl (lv_at hl 0 rfl) ?_
  refine lv_iload_n hx hb dX7_marksOf_2 rfl (lv_at hl 1 rfl) ?_
  refine zk_callV0 fx (cm_isProof l s0 b h f a x (ok1)) (lw_V q2589 q2591 qs69 q108 q2592) ⟨rfl, by decide, by decide, (show (parseMethodDescriptor yX7_isProof.desc).map (fun d => d.parameters.length) = some 1 by decide +kernel)⟩ ⟨zk_le hR.1 rfl, zk_le hR.2.1 rfl⟩ ⟨zk_le hR.2.2.1 rfl, zk_le hR.2.2.2 rfl⟩ hP hD hS 0 rfl rfl 0 rfl hl.1 rfl (Nat.le_of_ble_eq_true rfl) dX7_marksOf_3 (fun v_ w_ H locs hq_ hP hD hS => ?_)
  obtain ⟨rfl, rfl⟩ := hq_
  refine zn_st (st2 := [.int (nI (Bool.toNat (zk_ix x ((a 0) 1)))), .ref (h 0)]) rfl ?_
  refine zk_callV0 fx (cm_checked l s0 b h f a (zk_ix x ((a 0) 1))) (lw_V q2378 q2380 qs42 q108 q2381) ⟨rfl, by decide, by decide, (show (parseMethodDescriptor yX7_checked.desc).map (fun d => d.parameters.length) = some 1 by decide +kernel)⟩ ⟨zk_le hR.1 rfl, zk_le hR.2.1 rfl⟩ ⟨zk_le hR.2.2.1 rfl, zk_le hR.2.2.2 rfl⟩ hP hD hS 0 rfl rfl 0 rfl hl.1 rfl (Nat.le_of_ble_eq_true rfl) dX7_marksOf_6 (fun v_ w_ H locs hq_ hP hD hS => ?_)
  obtain ⟨rfl, rfl⟩ := hq_
  refine zn_st (st2 := [.int (nI (Bool.toNat (!(zk_ix x ((a 0) 1)))))]) rfl ?_
  refine zb_if_le (tgt := 16) hx hb dX7_marksOf_9 (by decide) (fun c_9 => ?_) (fun c_9 => ?_)
  · obtain ⟨i, hi, rfl⟩ := zk_ix_of c_9 (by omega)
    refine lv_aload_n hx hb dX7_marksOf_16 rfl (lv_at hl 0 rfl) ?_
    refine lv_iload_n hx hb dX7_marksOf_17 rfl (lv_at hl 1 rfl) ?_
    refine lv_iconst (v := nI (0)) hx hb dX7_marksOf_18 rfl ?_
    refine zk_callV0 fx (cm_p l s0 b h (va_up f 9 (Bool.toNat (!(zk_ix (nI i) ((a 0) 1))))) a i 0 (by omega)) (lw_V q2605 q2607 qs71 q108 q2608) ⟨rfl, by decide, by decide, (show (parseMethodDescriptor yX7_p.desc).map (fun d => d.parameters.length) = some 2 by decide +kernel)⟩ ⟨zk_le hR.1 rfl, zk_le hR.2.1 rfl⟩ ⟨zk_le hR.2.2.1 rfl, zk_le hR.2.2.2 rfl⟩ hP hD hS 0 rfl rfl 0 rfl hl.1 rfl (Nat.le_of_ble_eq_true rfl) dX7_marksOf_19 (fun v_ w_ H locs hq_ hP hD hS => ?_)
    obtain ⟨rfl, rfl⟩ := hq_
    refine zn_st (st2 := [.int (nI ((a 0) (48 + 2 * i)))]) rfl ?_
    exact zk_reti (v := nI ((a 0) (48 + 2 * i))) fx eQ rfl (rfl) hP hD hS (Nat.le_of_ble_eq_true rfl) (Nat.le_of_ble_eq_true rfl) dX7_marksOf_22 (⟨by rw [if_pos c_9, nI_clamp (by omega)], _, _, rfl, ⟨rfl, rfl, rfl, rfl, rfl, rfl, rfl, rfl⟩, ⟨rfl, rfl⟩, rfl, rfl⟩)
  · refine lv_iconst (v := nI (0)) hx hb dX7_marksOf_12 rfl ?_
    refine lv_goto (tgt := 22) hx hb dX7_marksOf_13 (by decide) ?_
    exact zk_reti (v := nI (0)) fx eQ rfl (rfl) hP hD hS (Nat.le_of_ble_eq_true rfl) (Nat.le_of_ble_eq_true rfl) dX7_marksOf_22 (⟨by rw [if_neg (by rw [c_9]; decide)], _, _, rfl, ⟨rfl, rfl, rfl, rfl, rfl, rfl, rfl, rfl⟩, ⟨rfl, rfl⟩, rfl, rfl⟩)
set_option maxHeartbeats 4000000 in
set_option maxRecDepth 100000 in
theorem cm_hourOf (l : Launch) (s0 : State) (b : Nat) (h f : Nat → Nat) (a : Nat → Nat → Nat) (x : Int32) (ok : zp_Ok (a 0)) : zk_C l s0 b yX7_hourOf (ws_ yX7_hourOf cX7_hourOf 2 (some .int)) 2 43 0 0 [.ref (h 0), .int (x)] (zm_W s0 h f a) (fun r w => zm_N s0 h f a (Bool.toNat (!(zk_ix x (a 0 1)))) (.int (nI (if zk_ix x (a 0 1) = true then a 0 (48 + 2 * x.toNatClampNeg + 1) else 0))) r w) := by
  refine zk_mk (by decide) rfl ?_
  intro p e s m below meth c A R args Q fx hR eQ hP hD hS ls hl
  have hx := fx.1
  have hb := fx.2.1
  have hK := fx.2.2.2.2.2.2.2.2.1.K
  have hl : lv_has ls 2 [(0, .ref (h 0)), (1, .int (x))] := hl
  obtain ⟨ok0, ok1, ok2, ok3, ok4, ok5, ok6, okw, oke, okp⟩ := id ok
  refine lv_aload_n hx hb dX7_hourOf_0 rfl (lv_at hl 0 rfl) ?_
  refine lv_aload_n hx hb dX7_hourOf_1 rfl (lv_at hl 0 rfl) ?_
  refine lv_iload_n hx hb dX7_hourOf_2 rfl (lv_at hl 1 rfl) ?_
  refine zk_callV0 fx (cm_isProof l s0 b h f a x (ok1)) (lw_V q2589 q2591 qs69 q108 q2592) ⟨rfl, by decide, by decide, (show (parseMethodDescriptor yX7_isProof.desc).map (fun d => d.parameters.length) = some 1 by decide +kernel)⟩ ⟨zk_le hR.1 rfl, zk_le hR.2.1 rfl⟩ ⟨zk_le hR.2.2.1 rfl, zk_le hR.2.2.2 rfl⟩ hP hD hS 0 rfl rfl 0 rfl hl.1 rfl (Nat.le_of_ble_eq_true rfl) dX7_hourOf_3 (fun v_ w_ H locs hq_ hP hD hS => ?_)
  obtain ⟨rfl, rfl⟩ := hq_
  refine zn_st (st2 := [.int (nI (Bool.toNat (zk_ix x ((a 0) 1)))), .ref (h 0)]) rfl ?_
  refine zk_callV0 fx (cm_checked l s0 b h f a (zk_ix x ((a 0) 1))) (lw_V q2378 q2380 qs42 q108 q2381) ⟨rfl, by decide, by decide, (show (parseMethodDescriptor yX7_checked.desc).map (fun d => d.parameters.length) = some 1 by decide +kernel)⟩ ⟨zk_le hR.1 rfl, zk_le hR.2.1 rfl⟩ ⟨zk_le hR.2.2.1 rfl, zk_le hR.2.2.2 rfl⟩ hP hD hS 0 rfl rfl 0 rfl hl.1 rfl (Nat.le_of_ble_eq_true rfl) dX7_hourOf_6 (fun v_ w_ H locs hq_ hP hD hS => ?_)
  obtain ⟨rfl, rfl⟩ := hq_
  refine zn_st (st2 := [.int (nI (Bool.toNat (!(zk_ix x ((a 0) 1)))))]) rfl ?_
  refine zb_if_le (tgt := 16) hx hb dX7_hourOf_9 (by decide) (fun c_9 => ?_) (fun c_9 => ?_)
  · obtain ⟨i, hi, rfl⟩ := zk_ix_of c_9 (by omega)
    refine lv_aload_n hx hb dX7_hourOf_16 rfl (lv_at hl 0 rfl) ?_
    refine lv_iload_n hx hb dX7_hourOf_17 rfl (lv_at hl 1 rfl) ?_
    refine lv_iconst (v := nI (1)) hx hb dX7_hourOf_18 rfl ?_
    refine zk_callV0 fx (cm_p l s0 b h (va_up f 9 (Bool.toNat (!(zk_ix (nI i) ((a 0) 1))))) a i 1 (by omega)) (lw_V q2605 q2607 qs71 q108 q2608) ⟨rfl, by decide, by decide, (show (parseMethodDescriptor yX7_p.desc).map (fun d => d.parameters.length) = some 2 by decide +kernel)⟩ ⟨zk_le hR.1 rfl, zk_le hR.2.1 rfl⟩ ⟨zk_le hR.2.2.1 rfl, zk_le hR.2.2.2 rfl⟩ hP hD hS 0 rfl rfl 0 rfl hl.1 rfl (Nat.le_of_ble_eq_true rfl) dX7_hourOf_19 (fun v_ w_ H locs hq_ hP hD hS => ?_)
    obtain ⟨rfl, rfl⟩ := hq_
    refine zn_st (st2 := [.int (nI ((a 0) (48 + 2 * i + 1)))]) rfl ?_
    exact zk_reti (v := nI ((a 0) (48 + 2 * i + 1))) fx eQ rfl (rfl) hP hD hS (Nat.le_of_ble_eq_true rfl) (Nat.le_of_ble_eq_true rfl) dX7_hourOf_22 (⟨by rw [if_pos c_9, nI_clamp (by omega)], _, _, rfl, ⟨rfl, rfl, rfl, rfl, rfl, rfl, rfl, rfl⟩, ⟨rfl, rfl⟩, rfl, rfl⟩)
  · refine lv_iconst (v := nI (0)) hx hb dX7_hourOf_12 rfl ?_
    refine lv_goto (tgt := 22) hx hb dX7_hourOf_13 (by decide) ?_
    exact zk_reti (v := nI (0)) fx eQ rfl (rfl) hP hD hS (Nat.le_of_ble_eq_true rfl) (Nat.le_of_ble_eq_true rfl) dX7_hourOf_22 (⟨by rw [if_neg (by rw [c_9]; decide)], _, _, rfl, ⟨rfl, rfl, rfl, rfl, rfl, rfl, rfl, rfl⟩, ⟨rfl, rfl⟩, rfl, rfl⟩)
set_option maxHeartbeats 4000000 in
set_option maxRecDepth 100000 in
theorem cm_leftAfter (l : Launch) (s0 : State) (b : Nat) (h f : Nat → Nat) (a : Nat → Nat → Nat) (i n : Nat) (hi : i < 10) (hn0 : n ≤ 1000) (ok : zp_Ok (a 0)) : zk_C l s0 b yX7_leftAfter (ws_ yX7_leftAfter cX7_leftAfter 5 (some .int)) 0 0 0 0 [.ref (h 0), .int (nI (i)), .int (nI (n))] (zm_W s0 h f a) (fun r w => r = some (.int (nI (zp_left (a 0) i n))) ∧ w = zm_W s0 h f a) := by
  refine zk_mk (by decide) rfl ?_
  intro p e s m below meth c A R args Q fx hR eQ hP hD hS ls hl
  have hx := fx.1
  have hb := fx.2.1
  have hK := fx.2.2.2.2.2.2.2.2.1.K
  have hl : lv_has ls 5 [(0, .ref (h 0)), (1, .int (nI (i))), (2, .int (nI (n)))] := hl
  obtain ⟨ok0, ok1, ok2, ok3, ok4, ok5, ok6, okw, oke, okp⟩ := id ok
  have hw := okw i hi
  refine lv_aload_n hx hb dX7_leftAfter_0 rfl (lv_at hl 0 rfl) ?_
  refine zm_get (f := f) fx 0 (by decide) q2241 (v := .ref (h 1)) rfl hP dX7_leftAfter_1 ?_
  refine lv_bipush (v := nI (8)) hx hb dX7_leftAfter_4 (by decide) ?_
  refine lv_iload_n hx hb dX7_leftAfter_6 rfl (lv_at hl 1 rfl) ?_
  refine zn_iadd hx hb dX7_leftAfter_7 ?_
  refine zn_ald hx hb hK hP 1 (g := a 0) rfl (i := 8 + i) (by omega) (by decide) dX7_leftAfter_8 ?_
  refine lv_istore_n (lv' := [(3, .int (nI ((a 0) (8 + i)))), (0, .ref (h 0)), (1, .int (nI (i))), (2, .int (nI (n)))]) hx hb dX7_leftAfter_9 rfl hl (by decide) rfl (fun ls hl => ?_)
  refine lv_iconst (v := nI (1)) hx hb dX7_leftAfter_10 rfl ?_
  refine lv_istore (lv' := [(4, .int (nI (1))), (3, .int (nI ((a 0) (8 + i)))), (0, .ref (h 0)), (1, .int (nI (i))), (2, .int (nI (n)))]) hx hb dX7_leftAfter_11 hl (by decide) rfl (fun ls hl => ?_)
  have lp_13 : ∀ (n_ : Nat) (k_ : Nat), (n - k_) < n_ → (k_ ≤ n) → ∀ (H : Heap) (locs : List Loc), va_P (zk_D s0) zk_Cl (zm_W s0 h f a) H → va_D A (zm_W s0 h f a) → va_S A s.heap H locs → ∀ ls : Array Slot, lv_has ls 5 [(4, .int (nI (k_ + 1))), (3, .int (nI (zp_left (a 0) i k_))), (0, .ref (h 0)), (1, .int (nI (i))), (2, .int (nI (n)))] → W p l e R s m args below meth c H locs 0 0 Q (F0 m 13 ls []) := by
    intro n_
    induction n_ with
    | zero => intro k_ hn_; exact absurd hn_ (Nat.not_lt_zero _)
    | succ n_ ih_13 =>
      intro k_ hn_ hk H locs hP hD hS ls hl
      have hle := zp_left_le (a 0) i k_
      refine lv_iload hx hb dX7_leftAfter_13 (lv_at hl 0 rfl) ?_
      refine lv_iload_n hx hb dX7_leftAfter_15 rfl (lv_at hl 4 rfl) ?_
      refine zn_icmp_gt (tgt := 49) hx hb dX7_leftAfter_16 (by decide) (by omega) (by omega) (fun c_16 => ?_) (fun c_16 => ?_)
      · refine lv_iload_n hx hb dX7_leftAfter_49 rfl (lv_at hl 1 rfl) ?_
        exact zk_reti (v := nI (zp_left (a 0) i k_)) fx eQ rfl (rfl) hP hD hS (Nat.le_of_ble_eq_true rfl) (Nat.le_of_ble_eq_true rfl) dX7_leftAfter_50 (⟨zk_eqr (by rw [show k_ = n by omega]), rfl⟩)
      · refine lv_aload_n hx hb dX7_leftAfter_19 rfl (lv_at hl 2 rfl) ?_
        refine zm_get (f := f) fx 0 (by decide) q2241 (v := .ref (h 1)) rfl hP dX7_leftAfter_20 ?_
        refine lv_iconst (v := nI (3)) hx hb dX7_leftAfter_23 rfl ?_
        refine zn_ald hx hb hK hP 1 (g := a 0) rfl (i := 3) (by omega) (by decide) dX7_leftAfter_24 ?_
        refine lv_iload hx hb dX7_leftAfter_25 (lv_at hl 0 rfl) ?_
        refine zn_iadd hx hb dX7_leftAfter_27 ?_
        refine lv_iload_n hx hb dX7_leftAfter_28 rfl (lv_at hl 3 rfl) ?_
        refine lv_iconst (v := nI (1)) hx hb dX7_leftAfter_29 rfl ?_
        refine zn_iadd hx hb dX7_leftAfter_30 ?_
        refine zn_irem hx hb dX7_leftAfter_31 (by omega) (by omega) (by omega) ?_
        refine zn_if_ne (tgt := 41) hx hb dX7_leftAfter_32 (by decide) (Nat.lt_trans (Nat.mod_lt _ (by omega)) (show i + 1 < 2 ^ 31 by omega)) (fun c_32 => ?_) (fun c_32 => ?_)
        · refine lv_iload_n hx hb dX7_leftAfter_41 rfl (lv_at hl 1 rfl) ?_
          refine zn_top (y := nI (zp_left (a 0) i (k_ + 1))) (by rw [zp_left, if_neg c_32]) ?_
          refine lv_istore_n (lv' := [(3, .int (nI (zp_left (a 0) i (k_ + 1)))), (4, .int (nI (k_ + 1))), (0, .ref (h 0)), (1, .int (nI (i))), (2, .int (nI (n)))]) hx hb dX7_leftAfter_42 rfl hl (by decide) rfl (fun ls hl => ?_)
          refine lv_iinc (v := nI (k_ + 1 + 1)) (lv' := [(4, .int (nI (k_ + 1 + 1))), (3, .int (nI (zp_left (a 0) i (k_ + 1)))), (0, .ref (h 0)), (1, .int (nI (i))), (2, .int (nI (n)))]) hx hb dX7_leftAfter_43 hl (k := 1) rfl (nI_add (k_ + 1) 1) (by decide) rfl (fun ls hl => ?_)
          refine lv_goto (tgt := 13) hx hb dX7_leftAfter_46 (by decide) ?_
          exact ih_13 (k_ + 1) (by omega) (by omega) _ _ hP hD hS ls (lv_sub hl [0, 1, 2, 3, 4] rfl)
        · refine lv_iload_n hx hb dX7_leftAfter_35 rfl (lv_at hl 1 rfl) ?_
          refine lv_iconst (v := nI (2)) hx hb dX7_leftAfter_36 rfl ?_
          refine zn_idiv hx hb dX7_leftAfter_37 (by omega) (by omega) (by omega) ?_
          refine lv_goto (tgt := 42) hx hb dX7_leftAfter_38 (by decide) ?_
          refine zn_top (y := nI (zp_left (a 0) i (k_ + 1))) (by rw [zp_left, if_pos c_32]) ?_
          refine lv_istore_n (lv' := [(3, .int (nI (zp_left (a 0) i (k_ + 1)))), (4, .int (nI (k_ + 1))), (0, .ref (h 0)), (1, .int (nI (i))), (2, .int (nI (n)))]) hx hb dX7_leftAfter_42 rfl hl (by decide) rfl (fun ls hl => ?_)
          refine lv_iinc (v := nI (k_ + 1 + 1)) (lv' := [(4, .int (nI (k_ + 1 + 1))), (3, .int (nI (zp_left (a 0) i (k_ + 1)))), (0, .ref (h 0)), (1, .int (nI (i))), (2, .int (nI (n)))]) hx hb dX7_leftAfter_43 hl (k := 1) rfl (nI_add (k_ + 1) 1) (by decide) rfl (fun ls hl => ?_)
          refine lv_goto (tgt := 13) hx hb dX7_leftAfter_46 (by decide) ?_
          exact ih_13 (k_ + 1) (by omega) (by omega) _ _ hP hD hS ls (lv_sub hl [0, 1, 2, 3, 4] rfl)
  exact lp_13 _ 0 (Nat.lt_succ_self _) (by omega) _ _ hP hD hS ls (lv_sub hl [0, 1, 2, 3, 4] rfl)
set_option maxHeartbeats 4000000 in
set_option maxRecDepth 100000 in
theorem cm_after (l : Launch) (s0 : State) (b : Nat) (h f : Nat → Nat) (a : Nat → Nat → Nat) (x u : Int32) (ok : zp_Ok (a 0)) : zk_C l s0 b yX7_after (ws_ yX7_after cX7_after 3 (some .int)) 2 42 0 0 [.ref (h 0), .int (x), .int (u)] (zm_W s0 h f a) (fun r w => zm_N s0 h f a (Bool.toNat (!(zk_in x 0 9 && zk_in u 0 99))) (.int (nI (if (zk_in x 0 9 && zk_in u 0 99) = true then zp_left (a 0) x.toNatClampNeg u.toNatClampNeg else 0))) r w) := by
  refine zk_mk (by decide) rfl ?_
  intro p e s m below meth c A R args Q fx hR eQ hP hD hS ls hl
  have hx := fx.1
  have hb := fx.2.1
  have hK := fx.2.2.2.2.2.2.2.2.1.K
  have hl : lv_has ls 3 [(0, .ref (h 0)), (1, .int (x)), (2, .int (u))] := hl
  obtain ⟨ok0, ok1, ok2, ok3, ok4, ok5, ok6, okw, oke, okp⟩ := id ok
  refine lv_aload_n hx hb dX7_after_0 rfl (lv_at hl 0 rfl) ?_
  refine lv_iload_n hx hb dX7_after_1 rfl (lv_at hl 1 rfl) ?_
  refine zk_callSn fx (cm_isColour l s0 b (x)) (lw_S q2336 q2337 q108 q2338) ⟨by decide, by decide, (show (parseMethodDescriptor yX7_isColour.desc).map (fun d => d.parameters.length) = some 1 by decide +kernel)⟩ ⟨zk_le hR.1 rfl, zk_le hR.2.1 rfl⟩ ⟨zk_le hR.2.2.1 rfl, zk_le hR.2.2.2 rfl⟩ hP hD hS hl.1 rfl (Nat.le_of_ble_eq_true rfl) dX7_after_2 (fun v_ H locs hq_ hP hD hS => ?_)
  obtain rfl := hq_
  refine zn_st (st2 := [.int (nI (Bool.toNat (zk_in x 0 9))), .ref (h 0)]) rfl ?_
  refine zb_if_eq (tgt := 22) hx hb dX7_after_5 (by decide) (fun c_5 => ?_) (fun c_5 => ?_)
  · refine lv_iconst (v := nI (0)) hx hb dX7_after_22 rfl ?_
    refine zk_callV0 fx (cm_checked l s0 b h f a false) (lw_V q2378 q2380 qs42 q108 q2381) ⟨rfl, by decide, by decide, (show (parseMethodDescriptor yX7_checked.desc).map (fun d => d.parameters.length) = some 1 by decide +kernel)⟩ ⟨zk_le hR.1 rfl, zk_le hR.2.1 rfl⟩ ⟨zk_le hR.2.2.1 rfl, zk_le hR.2.2.2 rfl⟩ hP hD hS 0 rfl rfl 0 rfl hl.1 rfl (Nat.le_of_ble_eq_true rfl) dX7_after_23 (fun v_ w_ H locs hq_ hP hD hS => ?_)
    obtain ⟨rfl, rfl⟩ := hq_
    refine zn_st (st2 := [.int (nI (1))]) rfl ?_
    refine zn_if_le (tgt := 33) hx hb dX7_after_26 (by decide) (by decide) (fun z_ => absurd z_ (by decide)) (fun _ => ?_)
    refine lv_iconst (v := nI (0)) hx hb dX7_after_29 rfl ?_
    refine lv_goto (tgt := 39) hx hb dX7_after_30 (by decide) ?_
    exact zk_reti (v := nI (0)) fx eQ rfl (rfl) hP hD hS (Nat.le_of_ble_eq_true rfl) (Nat.le_of_ble_eq_true rfl) dX7_after_39 (⟨by rw [if_neg (zb_nl c_5)], _, _, rfl, ⟨rfl, rfl, rfl, rfl, rfl, rfl, rfl, rfl⟩, ⟨rfl, rfl⟩, by rw [c_5]; rfl, rfl⟩)
  · refine lv_iload_n hx hb dX7_after_8 rfl (lv_at hl 2 rfl) ?_
    refine lv_iconst (v := nI (0)) hx hb dX7_after_9 rfl ?_
    refine lv_bipush (v := nI (99)) hx hb dX7_after_10 (by decide) ?_
    refine zk_callSn fx (cm_in l s0 b (u) (nI (0)) (nI (99))) (lw_S q2339 q2340 q108 q2341) ⟨by decide, by decide, (show (parseMethodDescriptor yX7_in.desc).map (fun d => d.parameters.length) = some 3 by decide +kernel)⟩ ⟨zk_le hR.1 rfl, zk_le hR.2.1 rfl⟩ ⟨zk_le hR.2.2.1 rfl, zk_le hR.2.2.2 rfl⟩ hP hD hS hl.1 rfl (Nat.le_of_ble_eq_true rfl) dX7_after_12 (fun v_ H locs hq_ hP hD hS => ?_)
    obtain rfl := hq_
    refine zn_st (st2 := [.int (nI (Bool.toNat (zk_in u 0 99))), .ref (h 0)]) rfl ?_
    refine zb_if_eq (tgt := 22) hx hb dX7_after_15 (by decide) (fun c_15 => ?_) (fun c_15 => ?_)
    · refine lv_iconst (v := nI (0)) hx hb dX7_after_22 rfl ?_
      refine zk_callV0 fx (cm_checked l s0 b h f a false) (lw_V q2378 q2380 qs42 q108 q2381) ⟨rfl, by decide, by decide, (show (parseMethodDescriptor yX7_checked.desc).map (fun d => d.parameters.length) = some 1 by decide +kernel)⟩ ⟨zk_le hR.1 rfl, zk_le hR.2.1 rfl⟩ ⟨zk_le hR.2.2.1 rfl, zk_le hR.2.2.2 rfl⟩ hP hD hS 0 rfl rfl 0 rfl hl.1 rfl (Nat.le_of_ble_eq_true rfl) dX7_after_23 (fun v_ w_ H locs hq_ hP hD hS => ?_)
      obtain ⟨rfl, rfl⟩ := hq_
      refine zn_st (st2 := [.int (nI (1))]) rfl ?_
      refine zn_if_le (tgt := 33) hx hb dX7_after_26 (by decide) (by decide) (fun z_ => absurd z_ (by decide)) (fun _ => ?_)
      refine lv_iconst (v := nI (0)) hx hb dX7_after_29 rfl ?_
      refine lv_goto (tgt := 39) hx hb dX7_after_30 (by decide) ?_
      exact zk_reti (v := nI (0)) fx eQ rfl (rfl) hP hD hS (Nat.le_of_ble_eq_true rfl) (Nat.le_of_ble_eq_true rfl) dX7_after_39 (⟨by rw [if_neg (zb_nr c_15)], _, _, rfl, ⟨rfl, rfl, rfl, rfl, rfl, rfl, rfl, rfl⟩, ⟨rfl, rfl⟩, by rw [c_15, Bool.and_false]; rfl, rfl⟩)
    · refine lv_iconst (v := nI (1)) hx hb dX7_after_18 rfl ?_
      refine lv_goto (tgt := 23) hx hb dX7_after_19 (by decide) ?_
      refine zk_callV0 fx (cm_checked l s0 b h f a true) (lw_V q2378 q2380 qs42 q108 q2381) ⟨rfl, by decide, by decide, (show (parseMethodDescriptor yX7_checked.desc).map (fun d => d.parameters.length) = some 1 by decide +kernel)⟩ ⟨zk_le hR.1 rfl, zk_le hR.2.1 rfl⟩ ⟨zk_le hR.2.2.1 rfl, zk_le hR.2.2.2 rfl⟩ hP hD hS 0 rfl rfl 0 rfl hl.1 rfl (Nat.le_of_ble_eq_true rfl) dX7_after_23 (fun v_ w_ H locs hq_ hP hD hS => ?_)
      obtain ⟨rfl, rfl⟩ := hq_
      refine zn_st (st2 := [.int (nI (0))]) rfl ?_
      refine zn_if_le (tgt := 33) hx hb dX7_after_26 (by decide) (by decide) (fun _ => ?_) (fun z_ => absurd z_ (by decide))
      obtain ⟨i, -, hi, rfl⟩ := zk_in_of c_5 (by decide) (by decide)
      obtain ⟨j, -, hj, rfl⟩ := zk_in_of c_15 (by decide) (by decide)
      refine lv_aload_n hx hb dX7_after_33 rfl (lv_at hl 0 rfl) ?_
      refine lv_iload_n hx hb dX7_after_34 rfl (lv_at hl 1 rfl) ?_
      refine lv_iload_n hx hb dX7_after_35 rfl (lv_at hl 2 rfl) ?_
      refine zk_callV0 fx (cm_leftAfter l s0 b h (va_up f 9 (Bool.toNat (!true))) a i j (by omega) (by omega) (ok)) (lw_V q2402 q2404 qs45 q108 q2405) ⟨rfl, by decide, by decide, (show (parseMethodDescriptor yX7_leftAfter.desc).map (fun d => d.parameters.length) = some 2 by decide +kernel)⟩ ⟨zk_le hR.1 rfl, zk_le hR.2.1 rfl⟩ ⟨zk_le hR.2.2.1 rfl, zk_le hR.2.2.2 rfl⟩ hP hD hS 0 rfl rfl 0 rfl hl.1 rfl (Nat.le_of_ble_eq_true rfl) dX7_after_36 (fun v_ w_ H locs hq_ hP hD hS => ?_)
      obtain ⟨rfl, rfl⟩ := hq_
      refine zn_st (st2 := [.int (nI (zp_left (a 0) i j))]) rfl ?_
      exact zk_reti (v := nI (zp_left (a 0) i j)) fx eQ rfl (rfl) hP hD hS (Nat.le_of_ble_eq_true rfl) (Nat.le_of_ble_eq_true rfl) dX7_after_39 (⟨by rw [if_pos (by rw [c_5, c_15]; rfl), nI_clamp (by omega), nI_clamp (by omega)], _, _, rfl, ⟨rfl, rfl, rfl, rfl, rfl, rfl, rfl, rfl⟩, ⟨rfl, rfl⟩, by rw [c_5, c_15]; rfl, rfl⟩)
set_option maxHeartbeats 4000000 in
set_option maxRecDepth 100000 in
theorem cm_inkAfter (l : Launch) (s0 : State) (b : Nat) (h f : Nat → Nat) (a : Nat → Nat → Nat) (x u : Int32) (ok : zp_Ok (a 0)) : zk_C l s0 b yX7_inkAfter (ws_ yX7_inkAfter cX7_inkAfter 3 (some .int)) 3 64 0 0 [.ref (h 0), .int (x), .int (u)] (zm_W s0 h f a) (fun r w => zm_N s0 h f a (Bool.toNat (!(zk_in x 0 9 && zk_in u 0 99))) (.int (nI (if (zk_in x 0 9 && zk_in u 0 99) = true then zp_left (a 0) x.toNatClampNeg u.toNatClampNeg else 0))) r w) := by
  refine zk_mk (by decide) rfl ?_
  intro p e s m below meth c A R args Q fx hR eQ hP hD hS ls hl
  have hx := fx.1
  have hb := fx.2.1
  have hK := fx.2.2.2.2.2.2.2.2.1.K
  have hl : lv_has ls 3 [(0, .ref (h 0)), (1, .int (x)), (2, .int (u))] := hl
  refine lv_aload_n hx hb dX7_inkAfter_0 rfl (lv_at hl 0 rfl) ?_
  refine lv_iload_n hx hb dX7_inkAfter_1 rfl (lv_at hl 1 rfl) ?_
  refine lv_iload_n hx hb dX7_inkAfter_2 rfl (lv_at hl 2 rfl) ?_
  refine zk_callV0 fx (cm_after l s0 b h f a x u (ok)) (lw_V q2398 q2400 qs44 q108 q2401) ⟨rfl, by decide, by decide, (show (parseMethodDescriptor yX7_after.desc).map (fun d => d.parameters.length) = some 2 by decide +kernel)⟩ ⟨zk_le hR.1 rfl, zk_le hR.2.1 rfl⟩ ⟨zk_le hR.2.2.1 rfl, zk_le hR.2.2.2 rfl⟩ hP hD hS 0 rfl rfl 0 rfl hl.1 rfl (Nat.le_of_ble_eq_true rfl) dX7_inkAfter_3 (fun v_ w_ H locs hq_ hP hD hS => ?_)
  obtain ⟨rfl, f_1, a_1, rfl, hk_1, hh_1, ht_1, ha_1⟩ := hq_
  refine zn_st (st2 := [.int (nI (if (zk_in x 0 9 && zk_in u 0 99) = true then zp_left (a 0) x.toNatClampNeg u.toNatClampNeg else 0))]) rfl ?_
  exact zk_reti (v := nI (if (zk_in x 0 9 && zk_in u 0 99) = true then zp_left (a 0) x.toNatClampNeg u.toNatClampNeg else 0)) fx eQ rfl (rfl) hP hD hS (Nat.le_of_ble_eq_true rfl) (Nat.le_of_ble_eq_true rfl) dX7_inkAfter_6 (⟨rfl, _, _, rfl, hk_1, hh_1, ht_1, ha_1⟩)
set_option maxHeartbeats 4000000 in
set_option maxRecDepth 100000 in
theorem cm_inkByHalvings (l : Launch) (s0 : State) (b : Nat) (h f : Nat → Nat) (a : Nat → Nat → Nat) (x u : Int32) (ok : zp_Ok (a 0)) : zk_C l s0 b yX7_inkByHalvings (ws_ yX7_inkByHalvings cX7_inkByHalvings 3 (some .int)) 3 64 0 0 [.ref (h 0), .int (x), .int (u)] (zm_W s0 h f a) (fun r w => zm_N s0 h f a (Bool.toNat (!(zk_in x 0 9 && zk_in u 0 99))) (.int (nI (if (zk_in x 0 9 && zk_in u 0 99) = true then zp_left (a 0) x.toNatClampNeg u.toNatClampNeg else 0))) r w) := by
  refine zk_mk (by decide) rfl ?_
  intro p e s m below meth c A R args Q fx hR eQ hP hD hS ls hl
  have hx := fx.1
  have hb := fx.2.1
  have hK := fx.2.2.2.2.2.2.2.2.1.K
  have hl : lv_has ls 3 [(0, .ref (h 0)), (1, .int (x)), (2, .int (u))] := hl
  refine lv_aload_n hx hb dX7_inkByHalvings_0 rfl (lv_at hl 0 rfl) ?_
  refine lv_iload_n hx hb dX7_inkByHalvings_1 rfl (lv_at hl 1 rfl) ?_
  refine lv_iload_n hx hb dX7_inkByHalvings_2 rfl (lv_at hl 2 rfl) ?_
  refine zk_callV0 fx (cm_after l s0 b h f a x u (ok)) (lw_V q2398 q2400 qs44 q108 q2401) ⟨rfl, by decide, by decide, (show (parseMethodDescriptor yX7_after.desc).map (fun d => d.parameters.length) = some 2 by decide +kernel)⟩ ⟨zk_le hR.1 rfl, zk_le hR.2.1 rfl⟩ ⟨zk_le hR.2.2.1 rfl, zk_le hR.2.2.2 rfl⟩ hP hD hS 0 rfl rfl 0 rfl hl.1 rfl (Nat.le_of_ble_eq_true rfl) dX7_inkByHalvings_3 (fun v_ w_ H locs hq_ hP hD hS => ?_)
  obtain ⟨rfl, f_1, a_1, rfl, hk_1, hh_1, ht_1, ha_1⟩ := hq_
  refine zn_st (st2 := [.int (nI (if (zk_in x 0 9 && zk_in u 0 99) = true then zp_left (a 0) x.toNatClampNeg u.toNatClampNeg else 0))]) rfl ?_
  exact zk_reti (v := nI (if (zk_in x 0 9 && zk_in u 0 99) = true then zp_left (a 0) x.toNatClampNeg u.toNatClampNeg else 0)) fx eQ rfl (rfl) hP hD hS (Nat.le_of_ble_eq_true rfl) (Nat.le_of_ble_eq_true rfl) dX7_inkByHalvings_6 (⟨rfl, _, _, rfl, hk_1, hh_1, ht_1, ha_1⟩)
set_option maxHeartbeats 4000000 in
set_option maxRecDepth 100000 in
theorem cm_hoursUntilLess (l : Launch) (s0 : State) (b : Nat) (h f : Nat → Nat) (a : Nat → Nat → Nat) (x u : Int32) (ok : zp_Ok (a 0)) : zk_C l s0 b yX7_hoursUntilLess (ws_ yX7_hoursUntilLess cX7_hoursUntilLess 4 (some .int)) 2 42 0 0 [.ref (h 0), .int (x), .int (u)] (zm_W s0 h f a) (fun r w => zm_N s0 h f a (Bool.toNat (!(zk_in x 0 9 && zk_in u 1 999))) (.int (nI (if (zk_in x 0 9 && zk_in u 1 999) = true then zp_hul (a 0) x.toNatClampNeg u.toNatClampNeg 200 0 else 0))) r w) := by
  refine zk_mk (by decide) rfl ?_
  intro p e s m below meth c A R args Q fx hR eQ hP hD hS ls hl
  have hx := fx.1
  have hb := fx.2.1
  have hK := fx.2.2.2.2.2.2.2.2.1.K
  have hl : lv_has ls 4 [(0, .ref (h 0)), (1, .int (x)), (2, .int (u))] := hl
  obtain ⟨ok0, ok1, ok2, ok3, ok4, ok5, ok6, okw, oke, okp⟩ := id ok
  refine lv_aload_n hx hb dX7_hoursUntilLess_0 rfl (lv_at hl 0 rfl) ?_
  refine lv_iload_n hx hb dX7_hoursUntilLess_1 rfl (lv_at hl 1 rfl) ?_
  refine zk_callSn fx (cm_isColour l s0 b (x)) (lw_S q2336 q2337 q108 q2338) ⟨by decide, by decide, (show (parseMethodDescriptor yX7_isColour.desc).map (fun d => d.parameters.length) = some 1 by decide +kernel)⟩ ⟨zk_le hR.1 rfl, zk_le hR.2.1 rfl⟩ ⟨zk_le hR.2.2.1 rfl, zk_le hR.2.2.2 rfl⟩ hP hD hS hl.1 rfl (Nat.le_of_ble_eq_true rfl) dX7_hoursUntilLess_2 (fun v_ H locs hq_ hP hD hS => ?_)
  obtain rfl := hq_
  refine zn_st (st2 := [.int (nI (Bool.toNat (zk_in x 0 9))), .ref (h 0)]) rfl ?_
  refine zb_if_eq (tgt := 23) hx hb dX7_hoursUntilLess_5 (by decide) (fun c_5 => ?_) (fun c_5 => ?_)
  · refine lv_iconst (v := nI (0)) hx hb dX7_hoursUntilLess_23 rfl ?_
    refine zk_callV0 fx (cm_checked l s0 b h f a false) (lw_V q2378 q2380 qs42 q108 q2381) ⟨rfl, by decide, by decide, (show (parseMethodDescriptor yX7_checked.desc).map (fun d => d.parameters.length) = some 1 by decide +kernel)⟩ ⟨zk_le hR.1 rfl, zk_le hR.2.1 rfl⟩ ⟨zk_le hR.2.2.1 rfl, zk_le hR.2.2.2 rfl⟩ hP hD hS 0 rfl rfl 0 rfl hl.1 rfl (Nat.le_of_ble_eq_true rfl) dX7_hoursUntilLess_24 (fun v_ w_ H locs hq_ hP hD hS => ?_)
    obtain ⟨rfl, rfl⟩ := hq_
    refine zn_st (st2 := [.int (nI (1))]) rfl ?_
    refine zn_if_le (tgt := 32) hx hb dX7_hoursUntilLess_27 (by decide) (by decide) (fun z_ => absurd z_ (by decide)) (fun _ => ?_)
    refine lv_iconst (v := nI (0)) hx hb dX7_hoursUntilLess_30 rfl ?_
    exact zk_reti (v := nI (0)) fx eQ rfl (rfl) hP hD hS (Nat.le_of_ble_eq_true rfl) (Nat.le_of_ble_eq_true rfl) dX7_hoursUntilLess_31 (⟨by rw [if_neg (zb_nl c_5)], _, _, rfl, ⟨rfl, rfl, rfl, rfl, rfl, rfl, rfl, rfl⟩, ⟨rfl, rfl⟩, by rw [c_5]; rfl, rfl⟩)
  · refine lv_iload_n hx hb dX7_hoursUntilLess_8 rfl (lv_at hl 2 rfl) ?_
    refine lv_iconst (v := nI (1)) hx hb dX7_hoursUntilLess_9 rfl ?_
    refine lv_sipush (v := nI (999)) hx hb dX7_hoursUntilLess_10 (by decide) ?_
    refine zk_callSn fx (cm_in l s0 b (u) (nI (1)) (nI (999))) (lw_S q2339 q2340 q108 q2341) ⟨by decide, by decide, (show (parseMethodDescriptor yX7_in.desc).map (fun d => d.parameters.length) = some 3 by decide +kernel)⟩ ⟨zk_le hR.1 rfl, zk_le hR.2.1 rfl⟩ ⟨zk_le hR.2.2.1 rfl, zk_le hR.2.2.2 rfl⟩ hP hD hS hl.1 rfl (Nat.le_of_ble_eq_true rfl) dX7_hoursUntilLess_13 (fun v_ H locs hq_ hP hD hS => ?_)
    obtain rfl := hq_
    refine zn_st (st2 := [.int (nI (Bool.toNat (zk_in u 1 999))), .ref (h 0)]) rfl ?_
    refine zb_if_eq (tgt := 23) hx hb dX7_hoursUntilLess_16 (by decide) (fun c_16 => ?_) (fun c_16 => ?_)
    · refine lv_iconst (v := nI (0)) hx hb dX7_hoursUntilLess_23 rfl ?_
      refine zk_callV0 fx (cm_checked l s0 b h f a false) (lw_V q2378 q2380 qs42 q108 q2381) ⟨rfl, by decide, by decide, (show (parseMethodDescriptor yX7_checked.desc).map (fun d => d.parameters.length) = some 1 by decide +kernel)⟩ ⟨zk_le hR.1 rfl, zk_le hR.2.1 rfl⟩ ⟨zk_le hR.2.2.1 rfl, zk_le hR.2.2.2 rfl⟩ hP hD hS 0 rfl rfl 0 rfl hl.1 rfl (Nat.le_of_ble_eq_true rfl) dX7_hoursUntilLess_24 (fun v_ w_ H locs hq_ hP hD hS => ?_)
      obtain ⟨rfl, rfl⟩ := hq_
      refine zn_st (st2 := [.int (nI (1))]) rfl ?_
      refine zn_if_le (tgt := 32) hx hb dX7_hoursUntilLess_27 (by decide) (by decide) (fun z_ => absurd z_ (by decide)) (fun _ => ?_)
      refine lv_iconst (v := nI (0)) hx hb dX7_hoursUntilLess_30 rfl ?_
      exact zk_reti (v := nI (0)) fx eQ rfl (rfl) hP hD hS (Nat.le_of_ble_eq_true rfl) (Nat.le_of_ble_eq_true rfl) dX7_hoursUntilLess_31 (⟨by rw [if_neg (zb_nr c_16)], _, _, rfl, ⟨rfl, rfl, rfl, rfl, rfl, rfl, rfl, rfl⟩, ⟨rfl, rfl⟩, by rw [c_16, Bool.and_false]; rfl, rfl⟩)
    · refine lv_iconst (v := nI (1)) hx hb dX7_hoursUntilLess_19 rfl ?_
      refine lv_goto (tgt := 24) hx hb dX7_hoursUntilLess_20 (by decide) ?_
      refine zk_callV0 fx (cm_checked l s0 b h f a true) (lw_V q2378 q2380 qs42 q108 q2381) ⟨rfl, by decide, by decide, (show (parseMethodDescriptor yX7_checked.desc).map (fun d => d.parameters.length) = some 1 by decide +kernel)⟩ ⟨zk_le hR.1 rfl, zk_le hR.2.1 rfl⟩ ⟨zk_le hR.2.2.1 rfl, zk_le hR.2.2.2 rfl⟩ hP hD hS 0 rfl rfl 0 rfl hl.1 rfl (Nat.le_of_ble_eq_true rfl) dX7_hoursUntilLess_24 (fun v_ w_ H locs hq_ hP hD hS => ?_)
      obtain ⟨rfl, rfl⟩ := hq_
      refine zn_st (st2 := [.int (nI (0))]) rfl ?_
      refine zn_if_le (tgt := 32) hx hb dX7_hoursUntilLess_27 (by decide) (by decide) (fun _ => ?_) (fun z_ => absurd z_ (by decide))
      obtain ⟨i, -, hi, rfl⟩ := zk_in_of c_5 (by decide) (by decide)
      obtain ⟨j, hj1, hj, rfl⟩ := zk_in_of c_16 (by decide) (by decide)
      have hw := okw i (by omega)
      refine lv_iconst (v := nI (0)) hx hb dX7_hoursUntilLess_32 rfl ?_
      refine lv_istore_n (lv' := [(3, .int (nI (0))), (0, .ref (h 0)), (1, .int (nI (i))), (2, .int (nI (j)))]) hx hb dX7_hoursUntilLess_33 rfl hl (by decide) rfl (fun ls hl => ?_)
      have lp_34 : ∀ (n_ : Nat) (k_ : Nat), (200 - k_) < n_ → (k_ ≤ 101) → (zp_hul (a 0) i j 200 0 = zp_hul (a 0) i j (200 - k_) k_) → ∀ (H : Heap) (locs : List Loc), va_P (zk_D s0) zk_Cl (zm_W s0 h (va_up f 9 (Bool.toNat (!true))) a) H → va_D A (zm_W s0 h (va_up f 9 (Bool.toNat (!true))) a) → va_S A s.heap H locs → ∀ ls : Array Slot, lv_has ls 4 [(3, .int (nI (k_))), (0, .ref (h 0)), (1, .int (nI (i))), (2, .int (nI (j)))] → W p l e R s m args below meth c H locs 0 0 Q (F0 m 34 ls []) := by
        intro n_
        induction n_ with
        | zero => intro k_ hn_; exact absurd hn_ (Nat.not_lt_zero _)
        | succ n_ ih_34 =>
          intro k_ hn_ hk hu H locs hP hD hS ls hl
          have hle := zp_left_le (a 0) i k_
          refine lv_aload_n hx hb dX7_hoursUntilLess_34 rfl (lv_at hl 1 rfl) ?_
          refine lv_iload_n hx hb dX7_hoursUntilLess_35 rfl (lv_at hl 2 rfl) ?_
          refine lv_iload_n hx hb dX7_hoursUntilLess_36 rfl (lv_at hl 0 rfl) ?_
          refine zk_callV0 fx (cm_leftAfter l s0 b h (va_up f 9 (Bool.toNat (!true))) a i k_ (by omega) (by omega) (ok)) (lw_V q2402 q2404 qs45 q108 q2405) ⟨rfl, by decide, by decide, (show (parseMethodDescriptor yX7_leftAfter.desc).map (fun d => d.parameters.length) = some 2 by decide +kernel)⟩ ⟨zk_le hR.1 rfl, zk_le hR.2.1 rfl⟩ ⟨zk_le hR.2.2.1 rfl, zk_le hR.2.2.2 rfl⟩ hP hD hS 0 rfl rfl 0 rfl hl.1 rfl (Nat.le_of_ble_eq_true rfl) dX7_hoursUntilLess_37 (fun v_ w_ H locs hq_ hP hD hS => ?_)
          obtain ⟨rfl, rfl⟩ := hq_
          refine zn_st (st2 := [.int (nI (zp_left (a 0) i k_))]) rfl ?_
          refine lv_iload_n hx hb dX7_hoursUntilLess_40 rfl (lv_at hl 3 rfl) ?_
          refine zn_icmp_lt (tgt := 50) hx hb dX7_hoursUntilLess_41 (by decide) (by omega) (by omega) (fun c_41 => ?_) (fun c_41 => ?_)
          · refine lv_iload_n hx hb dX7_hoursUntilLess_50 rfl (lv_at hl 0 rfl) ?_
            exact zk_reti (v := nI (k_)) fx eQ rfl (rfl) hP hD hS (Nat.le_of_ble_eq_true rfl) (Nat.le_of_ble_eq_true rfl) dX7_hoursUntilLess_51 (⟨by rw [if_pos (by rw [c_5, c_16]; rfl), nI_clamp (by omega), nI_clamp (by omega), hu, show 200 - k_ = 199 - k_ + 1 by omega, zp_hul, if_neg (by omega)], _, _, rfl, ⟨rfl, rfl, rfl, rfl, rfl, rfl, rfl, rfl⟩, ⟨rfl, rfl⟩, by rw [c_5, c_16]; rfl, rfl⟩)
          · have hk9 : k_ < 100 := Nat.lt_of_not_le (fun z => by have := zp_left_0 (σ := a 0) (i := i) (n := k_) (by omega) hw z; omega)
            refine lv_iinc (v := nI (k_ + 1)) (lv' := [(3, .int (nI (k_ + 1))), (0, .ref (h 0)), (1, .int (nI (i))), (2, .int (nI (j)))]) hx hb dX7_hoursUntilLess_44 hl (k := 0) rfl (nI_add k_ 1) (by decide) rfl (fun ls hl => ?_)
            refine lv_goto (tgt := 34) hx hb dX7_hoursUntilLess_47 (by decide) ?_
            exact ih_34 (k_ + 1) (by omega) (by omega) (by rw [hu, show 200 - k_ = 200 - (k_ + 1) + 1 by omega, zp_hul, if_pos (by omega)]) _ _ hP hD hS ls (lv_sub hl [0, 1, 2, 3] rfl)
      exact lp_34 _ 0 (Nat.lt_succ_self _) (by omega) rfl _ _ hP hD hS ls (lv_sub hl [0, 1, 2, 3] rfl)
