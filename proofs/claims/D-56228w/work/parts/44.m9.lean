/-! THE REFERENCE, part 9 (printed by prog/m9.py) -/
set_option maxRecDepth 100000
set_option maxHeartbeats 4000000 in
set_option maxRecDepth 100000 in
theorem cm_write (l : Launch) (s0 : State) (b : Nat) (h f : Nat → Nat) (a : Nat → Nat → Nat) (v : Nat) (hn : f 15 < 80) : zk_C l s0 b yX7_write (ws_ yX7_write cX7_write 2 none) 0 0 0 0 [.ref (h 0), .int (nI (v))] (zm_W s0 h f a) (fun r w => r = none ∧ w = zm_W s0 h (va_up f 15 (f 15 + 1)) (va_up a 9 (va_up (a 9) (f 15) v))) := by
  refine zk_mk (by decide) rfl ?_
  intro p e s m below meth c A R args Q fx hR eQ hP hD hS ls hl
  have hx := fx.1
  have hb := fx.2.1
  have hK := fx.2.2.2.2.2.2.2.2.1.K
  have hl : lv_has ls 2 [(0, .ref (h 0)), (1, .int (nI (v)))] := hl
  refine lv_aload_n hx hb dX7_write_0 rfl (lv_at hl 0 rfl) ?_
  refine zm_get (f := f) fx 14 (by decide) q2255 (v := .ref (h 10)) rfl hP dX7_write_1 ?_
  refine lv_aload_n hx hb dX7_write_4 rfl (lv_at hl 0 rfl) ?_
  refine zm_get (f := f) fx 15 (by decide) q2256 (v := .int (nI (f 15))) rfl hP dX7_write_5 ?_
  refine lv_iload_n hx hb dX7_write_8 rfl (lv_at hl 1 rfl) ?_
  refine zn_ast hx hb hK hP hD hS 10 (n := 80) rfl (i := f 15) (x := v) (by omega) (by decide) dX7_write_9 (zm_seta 9 (by decide) 80 rfl (va_up (a 9) (f 15) v)) (fun H locs hP hD hS => ?_)
  refine lv_aload_n hx hb dX7_write_10 rfl (lv_at hl 0 rfl) ?_
  refine lv_dup hx hb dX7_write_11 rfl ?_
  refine zm_get (f := f) fx 15 (by decide) q2256 (v := .int (nI (f 15))) rfl hP dX7_write_12 ?_
  refine lv_iconst (v := nI (1)) hx hb dX7_write_15 rfl ?_
  refine zn_iadd hx hb dX7_write_16 ?_
  refine zm_put fx 15 (by decide) q2256 (v := (f 15) + 1) hP hD hS dX7_write_17 (fun H locs hP hD hS => ?_)
  have hP : va_P (zk_D s0) zk_Cl (zm_W s0 h (va_up f 15 ((f 15) + 1)) (va_up a 9 (va_up (a 9) (f 15) v))) H := hP
  exact zk_retv fx eQ rfl hP hD hS (Nat.le_of_ble_eq_true rfl) (Nat.le_of_ble_eq_true rfl) dX7_write_20 (⟨rfl, rfl⟩)
set_option maxHeartbeats 4000000 in
set_option maxRecDepth 100000 in
theorem cm_writeNumber (l : Launch) (s0 : State) (b : Nat) (h f : Nat → Nat) (a : Nat → Nat → Nat) (v : Nat) (hv : v ≤ 999) (hn : f 15 + 3 ≤ 80) : zk_C l s0 b yX7_writeNumber (ws_ yX7_writeNumber cX7_writeNumber 3 none) 1 21 0 0 [.ref (h 0), .int (nI (v))] (zm_W s0 h f a) (fun r w => r = none ∧ w = zm_W s0 h (va_up f 15 (f 15 + (zw_num v).length)) (va_up a 9 (zw_app (a 9) (f 15) (zw_num v)))) := by
  refine zk_mk (by decide) rfl ?_
  intro p e s m below meth c A R args Q fx hR eQ hP hD hS ls hl
  have hx := fx.1
  have hb := fx.2.1
  have hK := fx.2.2.2.2.2.2.2.2.1.K
  have hl : lv_has ls 3 [(0, .ref (h 0)), (1, .int (nI (v)))] := hl
  refine lv_iconst (v := nI (1)) hx hb dX7_writeNumber_0 rfl ?_
  refine lv_istore_n (lv' := [(2, .int (nI (1))), (0, .ref (h 0)), (1, .int (nI (v)))]) hx hb dX7_writeNumber_1 rfl hl (by decide) rfl (fun ls hl => ?_)
  refine lv_iload_n hx hb dX7_writeNumber_2 rfl (lv_at hl 2 rfl) ?_
  refine lv_iload_n hx hb dX7_writeNumber_3 rfl (lv_at hl 0 rfl) ?_
  refine zn_idiv hx hb dX7_writeNumber_4 (by omega) (by omega) (by omega) ?_
  refine lv_bipush (v := nI (9)) hx hb dX7_writeNumber_5 (by decide) ?_
  refine zn_icmp_le (tgt := 18) hx hb dX7_writeNumber_7 (by decide) (by omega) (by omega) (fun c_7 => ?_) (fun c_7 => ?_)
  · have cT := c_7
    refine lv_iload_n hx hb dX7_writeNumber_18 rfl (lv_at hl 0 rfl) ?_
    refine zn_if_le (tgt := 43) hx hb dX7_writeNumber_19 (by decide) (by decide) (fun z_ => absurd z_ (by decide)) (fun _ => ?_)
    refine lv_aload_n hx hb dX7_writeNumber_22 rfl (lv_at hl 1 rfl) ?_
    refine lv_bipush (v := nI (48)) hx hb dX7_writeNumber_23 (by decide) ?_
    refine lv_iload_n hx hb dX7_writeNumber_25 rfl (lv_at hl 2 rfl) ?_
    refine lv_iload_n hx hb dX7_writeNumber_26 rfl (lv_at hl 0 rfl) ?_
    refine zn_idiv hx hb dX7_writeNumber_27 (by omega) (by omega) (by omega) ?_
    refine lv_bipush (v := nI (10)) hx hb dX7_writeNumber_28 (by decide) ?_
    refine zn_irem hx hb dX7_writeNumber_30 (by omega) (by omega) (by omega) ?_
    refine zn_iadd hx hb dX7_writeNumber_31 ?_
    refine zk_callV0 fx (cm_write l s0 b h f a (48 + ((v / 1) % 10)) (show f 15 < 80 by omega)) (lw_V q2669 q2671 qs74 q108 q2672) ⟨rfl, by decide, by decide, (show (parseMethodDescriptor yX7_write.desc).map (fun d => d.parameters.length) = some 1 by decide +kernel)⟩ ⟨zk_le hR.1 rfl, zk_le hR.2.1 rfl⟩ ⟨zk_le hR.2.2.1 rfl, zk_le hR.2.2.2 rfl⟩ hP hD hS 0 rfl rfl 0 rfl hl.1 rfl (Nat.le_of_ble_eq_true rfl) dX7_writeNumber_32 (fun v_ w_ H locs hq_ hP hD hS => ?_)
    obtain ⟨rfl, rfl⟩ := hq_
    refine zn_st (st2 := []) rfl ?_
    have hP := (by first | exact hP | (rw [bx_uu] at hP; exact hP) | (rw [bx_uu, bx_uu] at hP; exact hP) : va_P (zk_D s0) zk_Cl (zm_W s0 h (va_up f 15 (f 15 + 1)) (va_up a 9 (va_up (a 9) (f 15) (48 + ((v / 1) % 10))))) H)
    have hD := (by first | exact hD | (rw [bx_uu] at hD; exact hD) | (rw [bx_uu, bx_uu] at hD; exact hD) : va_D A (zm_W s0 h (va_up f 15 (f 15 + 1)) (va_up a 9 (va_up (a 9) (f 15) (48 + ((v / 1) % 10))))))
    refine lv_iload_n hx hb dX7_writeNumber_35 rfl (lv_at hl 0 rfl) ?_
    refine lv_bipush (v := nI (10)) hx hb dX7_writeNumber_36 (by decide) ?_
    refine zn_idiv hx hb dX7_writeNumber_38 (by omega) (by omega) (by omega) ?_
    refine lv_istore_n (lv' := [(2, .int (nI (1 / 10))), (0, .ref (h 0)), (1, .int (nI (v)))]) hx hb dX7_writeNumber_39 rfl hl (by decide) rfl (fun ls hl => ?_)
    have hl : lv_has ls 3 [(2, .int (nI (0))), (0, .ref (h 0)), (1, .int (nI (v)))] := hl
    refine lv_goto (tgt := 18) hx hb dX7_writeNumber_40 (by decide) ?_
    refine lv_iload_n hx hb dX7_writeNumber_18 rfl (lv_at hl 0 rfl) ?_
    refine zn_if_le (tgt := 43) hx hb dX7_writeNumber_19 (by decide) (by decide) (fun _ => ?_) (fun z_ => absurd z_ (by decide))
    exact zk_retv fx eQ rfl hP hD hS (Nat.le_of_ble_eq_true rfl) (Nat.le_of_ble_eq_true rfl) dX7_writeNumber_43 (⟨rfl, by rw [zw_num, if_pos cT]; rfl⟩)
  · have cF1 := c_7
    refine lv_iload_n hx hb dX7_writeNumber_10 rfl (lv_at hl 0 rfl) ?_
    refine lv_bipush (v := nI (10)) hx hb dX7_writeNumber_11 (by decide) ?_
    refine zn_imul hx hb dX7_writeNumber_13 ?_
    refine lv_istore_n (lv' := [(2, .int (nI (1 * 10))), (0, .ref (h 0)), (1, .int (nI (v)))]) hx hb dX7_writeNumber_14 rfl hl (by decide) rfl (fun ls hl => ?_)
    have hl : lv_has ls 3 [(2, .int (nI (10))), (0, .ref (h 0)), (1, .int (nI (v)))] := hl
    refine lv_goto (tgt := 2) hx hb dX7_writeNumber_15 (by decide) ?_
    refine lv_iload_n hx hb dX7_writeNumber_2 rfl (lv_at hl 2 rfl) ?_
    refine lv_iload_n hx hb dX7_writeNumber_3 rfl (lv_at hl 0 rfl) ?_
    refine zn_idiv hx hb dX7_writeNumber_4 (by omega) (by omega) (by omega) ?_
    refine lv_bipush (v := nI (9)) hx hb dX7_writeNumber_5 (by decide) ?_
    refine zn_icmp_le (tgt := 18) hx hb dX7_writeNumber_7 (by decide) (by omega) (by omega) (fun c_7 => ?_) (fun c_7 => ?_)
    · have cT := c_7
      refine lv_iload_n hx hb dX7_writeNumber_18 rfl (lv_at hl 0 rfl) ?_
      refine zn_if_le (tgt := 43) hx hb dX7_writeNumber_19 (by decide) (by decide) (fun z_ => absurd z_ (by decide)) (fun _ => ?_)
      refine lv_aload_n hx hb dX7_writeNumber_22 rfl (lv_at hl 1 rfl) ?_
      refine lv_bipush (v := nI (48)) hx hb dX7_writeNumber_23 (by decide) ?_
      refine lv_iload_n hx hb dX7_writeNumber_25 rfl (lv_at hl 2 rfl) ?_
      refine lv_iload_n hx hb dX7_writeNumber_26 rfl (lv_at hl 0 rfl) ?_
      refine zn_idiv hx hb dX7_writeNumber_27 (by omega) (by omega) (by omega) ?_
      refine lv_bipush (v := nI (10)) hx hb dX7_writeNumber_28 (by decide) ?_
      refine zn_irem hx hb dX7_writeNumber_30 (by omega) (by omega) (by omega) ?_
      refine zn_iadd hx hb dX7_writeNumber_31 ?_
      refine zk_callV0 fx (cm_write l s0 b h f a (48 + ((v / 10) % 10)) (show f 15 < 80 by omega)) (lw_V q2669 q2671 qs74 q108 q2672) ⟨rfl, by decide, by decide, (show (parseMethodDescriptor yX7_write.desc).map (fun d => d.parameters.length) = some 1 by decide +kernel)⟩ ⟨zk_le hR.1 rfl, zk_le hR.2.1 rfl⟩ ⟨zk_le hR.2.2.1 rfl, zk_le hR.2.2.2 rfl⟩ hP hD hS 0 rfl rfl 0 rfl hl.1 rfl (Nat.le_of_ble_eq_true rfl) dX7_writeNumber_32 (fun v_ w_ H locs hq_ hP hD hS => ?_)
      obtain ⟨rfl, rfl⟩ := hq_
      refine zn_st (st2 := []) rfl ?_
      have hP := (by first | exact hP | (rw [bx_uu] at hP; exact hP) | (rw [bx_uu, bx_uu] at hP; exact hP) : va_P (zk_D s0) zk_Cl (zm_W s0 h (va_up f 15 (f 15 + 1)) (va_up a 9 (va_up (a 9) (f 15) (48 + ((v / 10) % 10))))) H)
      have hD := (by first | exact hD | (rw [bx_uu] at hD; exact hD) | (rw [bx_uu, bx_uu] at hD; exact hD) : va_D A (zm_W s0 h (va_up f 15 (f 15 + 1)) (va_up a 9 (va_up (a 9) (f 15) (48 + ((v / 10) % 10))))))
      refine lv_iload_n hx hb dX7_writeNumber_35 rfl (lv_at hl 0 rfl) ?_
      refine lv_bipush (v := nI (10)) hx hb dX7_writeNumber_36 (by decide) ?_
      refine zn_idiv hx hb dX7_writeNumber_38 (by omega) (by omega) (by omega) ?_
      refine lv_istore_n (lv' := [(2, .int (nI (10 / 10))), (0, .ref (h 0)), (1, .int (nI (v)))]) hx hb dX7_writeNumber_39 rfl hl (by decide) rfl (fun ls hl => ?_)
      have hl : lv_has ls 3 [(2, .int (nI (1))), (0, .ref (h 0)), (1, .int (nI (v)))] := hl
      refine lv_goto (tgt := 18) hx hb dX7_writeNumber_40 (by decide) ?_
      refine lv_iload_n hx hb dX7_writeNumber_18 rfl (lv_at hl 0 rfl) ?_
      refine zn_if_le (tgt := 43) hx hb dX7_writeNumber_19 (by decide) (by decide) (fun z_ => absurd z_ (by decide)) (fun _ => ?_)
      refine lv_aload_n hx hb dX7_writeNumber_22 rfl (lv_at hl 1 rfl) ?_
      refine lv_bipush (v := nI (48)) hx hb dX7_writeNumber_23 (by decide) ?_
      refine lv_iload_n hx hb dX7_writeNumber_25 rfl (lv_at hl 2 rfl) ?_
      refine lv_iload_n hx hb dX7_writeNumber_26 rfl (lv_at hl 0 rfl) ?_
      refine zn_idiv hx hb dX7_writeNumber_27 (by omega) (by omega) (by omega) ?_
      refine lv_bipush (v := nI (10)) hx hb dX7_writeNumber_28 (by decide) ?_
      refine zn_irem hx hb dX7_writeNumber_30 (by omega) (by omega) (by omega) ?_
      refine zn_iadd hx hb dX7_writeNumber_31 ?_
      refine zk_callV0 fx (cm_write l s0 b h (va_up f 15 (f 15 + 1)) (va_up a 9 (va_up (a 9) (f 15) (48 + ((v / 10) % 10)))) (48 + ((v / 1) % 10)) (show f 15 + 1 < 80 by omega)) (lw_V q2669 q2671 qs74 q108 q2672) ⟨rfl, by decide, by decide, (show (parseMethodDescriptor yX7_write.desc).map (fun d => d.parameters.length) = some 1 by decide +kernel)⟩ ⟨zk_le hR.1 rfl, zk_le hR.2.1 rfl⟩ ⟨zk_le hR.2.2.1 rfl, zk_le hR.2.2.2 rfl⟩ hP hD hS 0 rfl rfl 0 rfl hl.1 rfl (Nat.le_of_ble_eq_true rfl) dX7_writeNumber_32 (fun v_ w_ H locs hq_ hP hD hS => ?_)
      obtain ⟨rfl, rfl⟩ := hq_
      refine zn_st (st2 := []) rfl ?_
      have hP := (by first | exact hP | (rw [bx_uu] at hP; exact hP) | (rw [bx_uu, bx_uu] at hP; exact hP) : va_P (zk_D s0) zk_Cl (zm_W s0 h (va_up f 15 (f 15 + 1 + 1)) (va_up a 9 (va_up (va_up (a 9) (f 15) (48 + ((v / 10) % 10))) (f 15 + 1) (48 + ((v / 1) % 10))))) H)
      have hD := (by first | exact hD | (rw [bx_uu] at hD; exact hD) | (rw [bx_uu, bx_uu] at hD; exact hD) : va_D A (zm_W s0 h (va_up f 15 (f 15 + 1 + 1)) (va_up a 9 (va_up (va_up (a 9) (f 15) (48 + ((v / 10) % 10))) (f 15 + 1) (48 + ((v / 1) % 10))))))
      refine lv_iload_n hx hb dX7_writeNumber_35 rfl (lv_at hl 0 rfl) ?_
      refine lv_bipush (v := nI (10)) hx hb dX7_writeNumber_36 (by decide) ?_
      refine zn_idiv hx hb dX7_writeNumber_38 (by omega) (by omega) (by omega) ?_
      refine lv_istore_n (lv' := [(2, .int (nI (1 / 10))), (0, .ref (h 0)), (1, .int (nI (v)))]) hx hb dX7_writeNumber_39 rfl hl (by decide) rfl (fun ls hl => ?_)
      have hl : lv_has ls 3 [(2, .int (nI (0))), (0, .ref (h 0)), (1, .int (nI (v)))] := hl
      refine lv_goto (tgt := 18) hx hb dX7_writeNumber_40 (by decide) ?_
      refine lv_iload_n hx hb dX7_writeNumber_18 rfl (lv_at hl 0 rfl) ?_
      refine zn_if_le (tgt := 43) hx hb dX7_writeNumber_19 (by decide) (by decide) (fun _ => ?_) (fun z_ => absurd z_ (by decide))
      exact zk_retv fx eQ rfl hP hD hS (Nat.le_of_ble_eq_true rfl) (Nat.le_of_ble_eq_true rfl) dX7_writeNumber_43 (⟨rfl, by rw [zw_num, if_neg cF1, if_pos cT]; rfl⟩)
    · have cF10 := c_7
      refine lv_iload_n hx hb dX7_writeNumber_10 rfl (lv_at hl 0 rfl) ?_
      refine lv_bipush (v := nI (10)) hx hb dX7_writeNumber_11 (by decide) ?_
      refine zn_imul hx hb dX7_writeNumber_13 ?_
      refine lv_istore_n (lv' := [(2, .int (nI (10 * 10))), (0, .ref (h 0)), (1, .int (nI (v)))]) hx hb dX7_writeNumber_14 rfl hl (by decide) rfl (fun ls hl => ?_)
      have hl : lv_has ls 3 [(2, .int (nI (100))), (0, .ref (h 0)), (1, .int (nI (v)))] := hl
      refine lv_goto (tgt := 2) hx hb dX7_writeNumber_15 (by decide) ?_
      refine lv_iload_n hx hb dX7_writeNumber_2 rfl (lv_at hl 2 rfl) ?_
      refine lv_iload_n hx hb dX7_writeNumber_3 rfl (lv_at hl 0 rfl) ?_
      refine zn_idiv hx hb dX7_writeNumber_4 (by omega) (by omega) (by omega) ?_
      refine lv_bipush (v := nI (9)) hx hb dX7_writeNumber_5 (by decide) ?_
      refine zn_icmp_le (tgt := 18) hx hb dX7_writeNumber_7 (by decide) (by omega) (by omega) (fun c_7 => ?_) (fun c_7 => ?_)
      · have cT := c_7
        refine lv_iload_n hx hb dX7_writeNumber_18 rfl (lv_at hl 0 rfl) ?_
        refine zn_if_le (tgt := 43) hx hb dX7_writeNumber_19 (by decide) (by decide) (fun z_ => absurd z_ (by decide)) (fun _ => ?_)
        refine lv_aload_n hx hb dX7_writeNumber_22 rfl (lv_at hl 1 rfl) ?_
        refine lv_bipush (v := nI (48)) hx hb dX7_writeNumber_23 (by decide) ?_
        refine lv_iload_n hx hb dX7_writeNumber_25 rfl (lv_at hl 2 rfl) ?_
        refine lv_iload_n hx hb dX7_writeNumber_26 rfl (lv_at hl 0 rfl) ?_
        refine zn_idiv hx hb dX7_writeNumber_27 (by omega) (by omega) (by omega) ?_
        refine lv_bipush (v := nI (10)) hx hb dX7_writeNumber_28 (by decide) ?_
        refine zn_irem hx hb dX7_writeNumber_30 (by omega) (by omega) (by omega) ?_
        refine zn_iadd hx hb dX7_writeNumber_31 ?_
        refine zk_callV0 fx (cm_write l s0 b h f a (48 + ((v / 100) % 10)) (show f 15 < 80 by omega)) (lw_V q2669 q2671 qs74 q108 q2672) ⟨rfl, by decide, by decide, (show (parseMethodDescriptor yX7_write.desc).map (fun d => d.parameters.length) = some 1 by decide +kernel)⟩ ⟨zk_le hR.1 rfl, zk_le hR.2.1 rfl⟩ ⟨zk_le hR.2.2.1 rfl, zk_le hR.2.2.2 rfl⟩ hP hD hS 0 rfl rfl 0 rfl hl.1 rfl (Nat.le_of_ble_eq_true rfl) dX7_writeNumber_32 (fun v_ w_ H locs hq_ hP hD hS => ?_)
        obtain ⟨rfl, rfl⟩ := hq_
        refine zn_st (st2 := []) rfl ?_
        have hP := (by first | exact hP | (rw [bx_uu] at hP; exact hP) | (rw [bx_uu, bx_uu] at hP; exact hP) : va_P (zk_D s0) zk_Cl (zm_W s0 h (va_up f 15 (f 15 + 1)) (va_up a 9 (va_up (a 9) (f 15) (48 + ((v / 100) % 10))))) H)
        have hD := (by first | exact hD | (rw [bx_uu] at hD; exact hD) | (rw [bx_uu, bx_uu] at hD; exact hD) : va_D A (zm_W s0 h (va_up f 15 (f 15 + 1)) (va_up a 9 (va_up (a 9) (f 15) (48 + ((v / 100) % 10))))))
        refine lv_iload_n hx hb dX7_writeNumber_35 rfl (lv_at hl 0 rfl) ?_
        refine lv_bipush (v := nI (10)) hx hb dX7_writeNumber_36 (by decide) ?_
        refine zn_idiv hx hb dX7_writeNumber_38 (by omega) (by omega) (by omega) ?_
        refine lv_istore_n (lv' := [(2, .int (nI (100 / 10))), (0, .ref (h 0)), (1, .int (nI (v)))]) hx hb dX7_writeNumber_39 rfl hl (by decide) rfl (fun ls hl => ?_)
        have hl : lv_has ls 3 [(2, .int (nI (10))), (0, .ref (h 0)), (1, .int (nI (v)))] := hl
        refine lv_goto (tgt := 18) hx hb dX7_writeNumber_40 (by decide) ?_
        refine lv_iload_n hx hb dX7_writeNumber_18 rfl (lv_at hl 0 rfl) ?_
        refine zn_if_le (tgt := 43) hx hb dX7_writeNumber_19 (by decide) (by decide) (fun z_ => absurd z_ (by decide)) (fun _ => ?_)
        refine lv_aload_n hx hb dX7_writeNumber_22 rfl (lv_at hl 1 rfl) ?_
        refine lv_bipush (v := nI (48)) hx hb dX7_writeNumber_23 (by decide) ?_
        refine lv_iload_n hx hb dX7_writeNumber_25 rfl (lv_at hl 2 rfl) ?_
        refine lv_iload_n hx hb dX7_writeNumber_26 rfl (lv_at hl 0 rfl) ?_
        refine zn_idiv hx hb dX7_writeNumber_27 (by omega) (by omega) (by omega) ?_
        refine lv_bipush (v := nI (10)) hx hb dX7_writeNumber_28 (by decide) ?_
        refine zn_irem hx hb dX7_writeNumber_30 (by omega) (by omega) (by omega) ?_
        refine zn_iadd hx hb dX7_writeNumber_31 ?_
        refine zk_callV0 fx (cm_write l s0 b h (va_up f 15 (f 15 + 1)) (va_up a 9 (va_up (a 9) (f 15) (48 + ((v / 100) % 10)))) (48 + ((v / 10) % 10)) (show f 15 + 1 < 80 by omega)) (lw_V q2669 q2671 qs74 q108 q2672) ⟨rfl, by decide, by decide, (show (parseMethodDescriptor yX7_write.desc).map (fun d => d.parameters.length) = some 1 by decide +kernel)⟩ ⟨zk_le hR.1 rfl, zk_le hR.2.1 rfl⟩ ⟨zk_le hR.2.2.1 rfl, zk_le hR.2.2.2 rfl⟩ hP hD hS 0 rfl rfl 0 rfl hl.1 rfl (Nat.le_of_ble_eq_true rfl) dX7_writeNumber_32 (fun v_ w_ H locs hq_ hP hD hS => ?_)
        obtain ⟨rfl, rfl⟩ := hq_
        refine zn_st (st2 := []) rfl ?_
        have hP := (by first | exact hP | (rw [bx_uu] at hP; exact hP) | (rw [bx_uu, bx_uu] at hP; exact hP) : va_P (zk_D s0) zk_Cl (zm_W s0 h (va_up f 15 (f 15 + 1 + 1)) (va_up a 9 (va_up (va_up (a 9) (f 15) (48 + ((v / 100) % 10))) (f 15 + 1) (48 + ((v / 10) % 10))))) H)
        have hD := (by first | exact hD | (rw [bx_uu] at hD; exact hD) | (rw [bx_uu, bx_uu] at hD; exact hD) : va_D A (zm_W s0 h (va_up f 15 (f 15 + 1 + 1)) (va_up a 9 (va_up (va_up (a 9) (f 15) (48 + ((v / 100) % 10))) (f 15 + 1) (48 + ((v / 10) % 10))))))
        refine lv_iload_n hx hb dX7_writeNumber_35 rfl (lv_at hl 0 rfl) ?_
        refine lv_bipush (v := nI (10)) hx hb dX7_writeNumber_36 (by decide) ?_
        refine zn_idiv hx hb dX7_writeNumber_38 (by omega) (by omega) (by omega) ?_
        refine lv_istore_n (lv' := [(2, .int (nI (10 / 10))), (0, .ref (h 0)), (1, .int (nI (v)))]) hx hb dX7_writeNumber_39 rfl hl (by decide) rfl (fun ls hl => ?_)
        have hl : lv_has ls 3 [(2, .int (nI (1))), (0, .ref (h 0)), (1, .int (nI (v)))] := hl
        refine lv_goto (tgt := 18) hx hb dX7_writeNumber_40 (by decide) ?_
        refine lv_iload_n hx hb dX7_writeNumber_18 rfl (lv_at hl 0 rfl) ?_
        refine zn_if_le (tgt := 43) hx hb dX7_writeNumber_19 (by decide) (by decide) (fun z_ => absurd z_ (by decide)) (fun _ => ?_)
        refine lv_aload_n hx hb dX7_writeNumber_22 rfl (lv_at hl 1 rfl) ?_
        refine lv_bipush (v := nI (48)) hx hb dX7_writeNumber_23 (by decide) ?_
        refine lv_iload_n hx hb dX7_writeNumber_25 rfl (lv_at hl 2 rfl) ?_
        refine lv_iload_n hx hb dX7_writeNumber_26 rfl (lv_at hl 0 rfl) ?_
        refine zn_idiv hx hb dX7_writeNumber_27 (by omega) (by omega) (by omega) ?_
        refine lv_bipush (v := nI (10)) hx hb dX7_writeNumber_28 (by decide) ?_
        refine zn_irem hx hb dX7_writeNumber_30 (by omega) (by omega) (by omega) ?_
        refine zn_iadd hx hb dX7_writeNumber_31 ?_
        refine zk_callV0 fx (cm_write l s0 b h (va_up f 15 (f 15 + 1 + 1)) (va_up a 9 (va_up (va_up (a 9) (f 15) (48 + ((v / 100) % 10))) (f 15 + 1) (48 + ((v / 10) % 10)))) (48 + ((v / 1) % 10)) (show f 15 + 1 + 1 < 80 by omega)) (lw_V q2669 q2671 qs74 q108 q2672) ⟨rfl, by decide, by decide, (show (parseMethodDescriptor yX7_write.desc).map (fun d => d.parameters.length) = some 1 by decide +kernel)⟩ ⟨zk_le hR.1 rfl, zk_le hR.2.1 rfl⟩ ⟨zk_le hR.2.2.1 rfl, zk_le hR.2.2.2 rfl⟩ hP hD hS 0 rfl rfl 0 rfl hl.1 rfl (Nat.le_of_ble_eq_true rfl) dX7_writeNumber_32 (fun v_ w_ H locs hq_ hP hD hS => ?_)
        obtain ⟨rfl, rfl⟩ := hq_
        refine zn_st (st2 := []) rfl ?_
        have hP := (by first | exact hP | (rw [bx_uu] at hP; exact hP) | (rw [bx_uu, bx_uu] at hP; exact hP) : va_P (zk_D s0) zk_Cl (zm_W s0 h (va_up f 15 (f 15 + 1 + 1 + 1)) (va_up a 9 (va_up (va_up (va_up (a 9) (f 15) (48 + ((v / 100) % 10))) (f 15 + 1) (48 + ((v / 10) % 10))) (f 15 + 1 + 1) (48 + ((v / 1) % 10))))) H)
        have hD := (by first | exact hD | (rw [bx_uu] at hD; exact hD) | (rw [bx_uu, bx_uu] at hD; exact hD) : va_D A (zm_W s0 h (va_up f 15 (f 15 + 1 + 1 + 1)) (va_up a 9 (va_up (va_up (va_up (a 9) (f 15) (48 + ((v / 100) % 10))) (f 15 + 1) (48 + ((v / 10) % 10))) (f 15 + 1 + 1) (48 + ((v / 1) % 10))))))
        refine lv_iload_n hx hb dX7_writeNumber_35 rfl (lv_at hl 0 rfl) ?_
        refine lv_bipush (v := nI (10)) hx hb dX7_writeNumber_36 (by decide) ?_
        refine zn_idiv hx hb dX7_writeNumber_38 (by omega) (by omega) (by omega) ?_
        refine lv_istore_n (lv' := [(2, .int (nI (1 / 10))), (0, .ref (h 0)), (1, .int (nI (v)))]) hx hb dX7_writeNumber_39 rfl hl (by decide) rfl (fun ls hl => ?_)
        have hl : lv_has ls 3 [(2, .int (nI (0))), (0, .ref (h 0)), (1, .int (nI (v)))] := hl
        refine lv_goto (tgt := 18) hx hb dX7_writeNumber_40 (by decide) ?_
        refine lv_iload_n hx hb dX7_writeNumber_18 rfl (lv_at hl 0 rfl) ?_
        refine zn_if_le (tgt := 43) hx hb dX7_writeNumber_19 (by decide) (by decide) (fun _ => ?_) (fun z_ => absurd z_ (by decide))
        exact zk_retv fx eQ rfl hP hD hS (Nat.le_of_ble_eq_true rfl) (Nat.le_of_ble_eq_true rfl) dX7_writeNumber_43 (⟨rfl, by rw [zw_num, if_neg cF1, if_neg cF10]; rfl⟩)
      · have cF100 := c_7
        exact absurd c_7 (by omega)
set_option maxHeartbeats 4000000 in
set_option maxRecDepth 100000 in
theorem cm_writeEdition (l : Launch) (s0 : State) (b : Nat) (h f : Nat → Nat) (a : Nat → Nat → Nat) (x : Int32) (ok : zp_Ok (a 0)) : zk_C l s0 b yX7_writeEdition (ws_ yX7_writeEdition cX7_writeEdition 2 (some .int)) 2 43 0 0 [.ref (h 0), .int (x)] (zm_W s0 h f a) (fun r w => r = some (.int (nI (if zk_ix x (a 0 0) = true then (zw_ed (a 0) x.toNatClampNeg).length else 0))) ∧ w = if zk_ix x (a 0 0) = true then zm_W s0 h (va_up (va_up f 9 0) 15 (zw_ed (a 0) x.toNatClampNeg).length) (va_up a 9 (zw_app (a 9) 0 (zw_ed (a 0) x.toNatClampNeg))) else zm_W s0 h (va_up f 9 1) a) := by
  refine zk_mk (by decide) rfl ?_
  intro p e s m below meth c A R args Q fx hR eQ hP hD hS ls hl
  have hx := fx.1
  have hb := fx.2.1
  have hK := fx.2.2.2.2.2.2.2.2.1.K
  have hl : lv_has ls 2 [(0, .ref (h 0)), (1, .int (x))] := hl
  obtain ⟨ok0, ok1, ok2, ok3, ok4, ok5, ok6, okw, oke, okp⟩ := id ok
  refine lv_aload_n hx hb dX7_writeEdition_0 rfl (lv_at hl 0 rfl) ?_
  refine lv_aload_n hx hb dX7_writeEdition_1 rfl (lv_at hl 0 rfl) ?_
  refine lv_iload_n hx hb dX7_writeEdition_2 rfl (lv_at hl 1 rfl) ?_
  refine zk_callV0 fx (cm_isEdition l s0 b h f a x (ok0)) (lw_V q2430 q2432 qs48 q108 q2433) ⟨rfl, by decide, by decide, (show (parseMethodDescriptor yX7_isEdition.desc).map (fun d => d.parameters.length) = some 1 by decide +kernel)⟩ ⟨zk_le hR.1 rfl, zk_le hR.2.1 rfl⟩ ⟨zk_le hR.2.2.1 rfl, zk_le hR.2.2.2 rfl⟩ hP hD hS 0 rfl rfl 0 rfl hl.1 rfl (Nat.le_of_ble_eq_true rfl) dX7_writeEdition_3 (fun v_ w_ H locs hq_ hP hD hS => ?_)
  obtain ⟨rfl, rfl⟩ := hq_
  refine zn_st (st2 := [.int (nI (Bool.toNat (zk_ix x ((a 0) 0)))), .ref (h 0)]) rfl ?_
  refine zk_callV0 fx (cm_checked l s0 b h f a (zk_ix x ((a 0) 0))) (lw_V q2378 q2380 qs42 q108 q2381) ⟨rfl, by decide, by decide, (show (parseMethodDescriptor yX7_checked.desc).map (fun d => d.parameters.length) = some 1 by decide +kernel)⟩ ⟨zk_le hR.1 rfl, zk_le hR.2.1 rfl⟩ ⟨zk_le hR.2.2.1 rfl, zk_le hR.2.2.2 rfl⟩ hP hD hS 0 rfl rfl 0 rfl hl.1 rfl (Nat.le_of_ble_eq_true rfl) dX7_writeEdition_6 (fun v_ w_ H locs hq_ hP hD hS => ?_)
  obtain ⟨rfl, rfl⟩ := hq_
  refine zn_st (st2 := [.int (nI (Bool.toNat (!(zk_ix x ((a 0) 0)))))]) rfl ?_
  refine zb_if_le (tgt := 14) hx hb dX7_writeEdition_9 (by decide) (fun c_9 => ?_) (fun c_9 => ?_)
  · rw [c_9] at hP hD
    have hP : va_P (zk_D s0) zk_Cl (zm_W s0 h (va_up f 9 (0)) a) H := hP
    have hD : va_D A (zm_W s0 h (va_up f 9 (0)) a) := hD
    obtain ⟨i, hi, rfl⟩ := zk_ix_of c_9 (by omega)
    have he := oke i hi
    refine lv_aload_n hx hb dX7_writeEdition_14 rfl (lv_at hl 0 rfl) ?_
    refine lv_iconst (v := nI (0)) hx hb dX7_writeEdition_15 rfl ?_
    refine zm_put fx 15 (by decide) q2256 (v := 0) hP hD hS dX7_writeEdition_16 (fun H locs hP hD hS => ?_)
    have hP : va_P (zk_D s0) zk_Cl (zm_W s0 h (va_up (va_up f 9 (0)) 15 (0)) a) H := hP
    refine lv_aload_n hx hb dX7_writeEdition_19 rfl (lv_at hl 0 rfl) ?_
    refine lv_iload_n hx hb dX7_writeEdition_20 rfl (lv_at hl 1 rfl) ?_
    have hln := zw_num_len i
    refine zk_callV0 fx (cm_writeNumber l s0 b h (va_up (va_up f 9 (0)) 15 (0)) a i (show i ≤ 999 by omega) (show 0 + 3 ≤ 80 by omega)) (lw_V q2665 q2667 qs73 q108 q2668) ⟨rfl, by decide, by decide, (show (parseMethodDescriptor yX7_writeNumber.desc).map (fun d => d.parameters.length) = some 1 by decide +kernel)⟩ ⟨zk_le hR.1 rfl, zk_le hR.2.1 rfl⟩ ⟨zk_le hR.2.2.1 rfl, zk_le hR.2.2.2 rfl⟩ hP hD hS 0 rfl rfl 0 rfl hl.1 rfl (Nat.le_of_ble_eq_true rfl) dX7_writeEdition_21 (fun v_ w_ H locs hq_ hP hD hS => ?_)
    obtain ⟨rfl, rfl⟩ := hq_
    refine zn_st (st2 := []) rfl ?_
    have hP := (by first | exact hP | (rw [bx_uu] at hP; exact hP) | (rw [bx_uu, bx_uu] at hP; exact hP) : va_P (zk_D s0) zk_Cl (zm_W s0 h (va_up (va_up f 9 (0)) 15 (0 + (zw_num i).length)) (va_up a 9 (zw_app (a 9) 0 (zw_num i)))) H)
    have hD := (by first | exact hD | (rw [bx_uu] at hD; exact hD) | (rw [bx_uu, bx_uu] at hD; exact hD) : va_D A (zm_W s0 h (va_up (va_up f 9 (0)) 15 (0 + (zw_num i).length)) (va_up a 9 (zw_app (a 9) 0 (zw_num i)))))
    refine lv_aload_n hx hb dX7_writeEdition_24 rfl (lv_at hl 0 rfl) ?_
    refine lv_bipush (v := nI (99)) hx hb dX7_writeEdition_25 (by decide) ?_
    refine zk_callV0 fx (cm_write l s0 b h (va_up (va_up f 9 (0)) 15 (0 + (zw_num i).length)) (va_up a 9 (zw_app (a 9) 0 (zw_num i))) 99 (show 0 + (zw_num i).length < 80 by omega)) (lw_V q2669 q2671 qs74 q108 q2672) ⟨rfl, by decide, by decide, (show (parseMethodDescriptor yX7_write.desc).map (fun d => d.parameters.length) = some 1 by decide +kernel)⟩ ⟨zk_le hR.1 rfl, zk_le hR.2.1 rfl⟩ ⟨zk_le hR.2.2.1 rfl, zk_le hR.2.2.2 rfl⟩ hP hD hS 0 rfl rfl 0 rfl hl.1 rfl (Nat.le_of_ble_eq_true rfl) dX7_writeEdition_27 (fun v_ w_ H locs hq_ hP hD hS => ?_)
    obtain ⟨rfl, rfl⟩ := hq_
    refine zn_st (st2 := []) rfl ?_
    have hP := (by first | exact hP | (rw [bx_uu] at hP; exact hP) | (rw [bx_uu, bx_uu] at hP; exact hP) : va_P (zk_D s0) zk_Cl (zm_W s0 h (va_up (va_up f 9 (0)) 15 (0 + (zw_num i).length + 1)) (va_up a 9 (va_up (zw_app (a 9) 0 (zw_num i)) (0 + (zw_num i).length) 99))) H)
    have hD := (by first | exact hD | (rw [bx_uu] at hD; exact hD) | (rw [bx_uu, bx_uu] at hD; exact hD) : va_D A (zm_W s0 h (va_up (va_up f 9 (0)) 15 (0 + (zw_num i).length + 1)) (va_up a 9 (va_up (zw_app (a 9) 0 (zw_num i)) (0 + (zw_num i).length) 99))))
    refine lv_aload_n hx hb dX7_writeEdition_30 rfl (lv_at hl 0 rfl) ?_
    refine lv_aload_n hx hb dX7_writeEdition_31 rfl (lv_at hl 0 rfl) ?_
    refine lv_iload_n hx hb dX7_writeEdition_32 rfl (lv_at hl 1 rfl) ?_
    refine lv_iconst (v := nI (0)) hx hb dX7_writeEdition_33 rfl ?_
    refine zk_callV0 fx (cm_e l s0 b h (va_up (va_up f 9 (0)) 15 (0 + (zw_num i).length + 1)) (va_up a 9 (va_up (zw_app (a 9) 0 (zw_num i)) (0 + (zw_num i).length) 99)) i 0 (by omega)) (lw_V q2450 q2452 qs52 q108 q2453) ⟨rfl, by decide, by decide, (show (parseMethodDescriptor yX7_e.desc).map (fun d => d.parameters.length) = some 2 by decide +kernel)⟩ ⟨zk_le hR.1 rfl, zk_le hR.2.1 rfl⟩ ⟨zk_le hR.2.2.1 rfl, zk_le hR.2.2.2 rfl⟩ hP hD hS 0 rfl rfl 0 rfl hl.1 rfl (Nat.le_of_ble_eq_true rfl) dX7_writeEdition_34 (fun v_ w_ H locs hq_ hP hD hS => ?_)
    obtain ⟨rfl, rfl⟩ := hq_
    refine zn_st (st2 := [.int (nI ((a 0) (20 + 4 * i))), .ref (h 0)]) rfl ?_
    have hln := zw_num_len ((a 0) (20 + 4 * i))
    refine zk_callV0 fx (cm_writeNumber l s0 b h (va_up (va_up f 9 (0)) 15 (0 + (zw_num i).length + 1)) (va_up a 9 (va_up (zw_app (a 9) 0 (zw_num i)) (0 + (zw_num i).length) 99)) ((a 0) (20 + 4 * i)) (show (a 0) (20 + 4 * i) ≤ 999 by omega) (show 0 + (zw_num i).length + 1 + 3 ≤ 80 by omega)) (lw_V q2665 q2667 qs73 q108 q2668) ⟨rfl, by decide, by decide, (show (parseMethodDescriptor yX7_writeNumber.desc).map (fun d => d.parameters.length) = some 1 by decide +kernel)⟩ ⟨zk_le hR.1 rfl, zk_le hR.2.1 rfl⟩ ⟨zk_le hR.2.2.1 rfl, zk_le hR.2.2.2 rfl⟩ hP hD hS 0 rfl rfl 0 rfl hl.1 rfl (Nat.le_of_ble_eq_true rfl) dX7_writeEdition_37 (fun v_ w_ H locs hq_ hP hD hS => ?_)
    obtain ⟨rfl, rfl⟩ := hq_
    refine zn_st (st2 := []) rfl ?_
    have hP := (by first | exact hP | (rw [bx_uu] at hP; exact hP) | (rw [bx_uu, bx_uu] at hP; exact hP) : va_P (zk_D s0) zk_Cl (zm_W s0 h (va_up (va_up f 9 (0)) 15 (0 + (zw_num i).length + 1 + (zw_num ((a 0) (20 + 4 * i))).length)) (va_up a 9 (zw_app (va_up (zw_app (a 9) 0 (zw_num i)) (0 + (zw_num i).length) 99) (0 + (zw_num i).length + 1) (zw_num ((a 0) (20 + 4 * i)))))) H)
    have hD := (by first | exact hD | (rw [bx_uu] at hD; exact hD) | (rw [bx_uu, bx_uu] at hD; exact hD) : va_D A (zm_W s0 h (va_up (va_up f 9 (0)) 15 (0 + (zw_num i).length + 1 + (zw_num ((a 0) (20 + 4 * i))).length)) (va_up a 9 (zw_app (va_up (zw_app (a 9) 0 (zw_num i)) (0 + (zw_num i).length) 99) (0 + (zw_num i).length + 1) (zw_num ((a 0) (20 + 4 * i)))))))
    refine lv_aload_n hx hb dX7_writeEdition_40 rfl (lv_at hl 0 rfl) ?_
    refine lv_bipush (v := nI (58)) hx hb dX7_writeEdition_41 (by decide) ?_
    refine zk_callV0 fx (cm_write l s0 b h (va_up (va_up f 9 (0)) 15 (0 + (zw_num i).length + 1 + (zw_num ((a 0) (20 + 4 * i))).length)) (va_up a 9 (zw_app (va_up (zw_app (a 9) 0 (zw_num i)) (0 + (zw_num i).length) 99) (0 + (zw_num i).length + 1) (zw_num ((a 0) (20 + 4 * i))))) 58 (show 0 + (zw_num i).length + 1 + (zw_num ((a 0) (20 + 4 * i))).length < 80 by omega)) (lw_V q2669 q2671 qs74 q108 q2672) ⟨rfl, by decide, by decide, (show (parseMethodDescriptor yX7_write.desc).map (fun d => d.parameters.length) = some 1 by decide +kernel)⟩ ⟨zk_le hR.1 rfl, zk_le hR.2.1 rfl⟩ ⟨zk_le hR.2.2.1 rfl, zk_le hR.2.2.2 rfl⟩ hP hD hS 0 rfl rfl 0 rfl hl.1 rfl (Nat.le_of_ble_eq_true rfl) dX7_writeEdition_43 (fun v_ w_ H locs hq_ hP hD hS => ?_)
    obtain ⟨rfl, rfl⟩ := hq_
    refine zn_st (st2 := []) rfl ?_
    have hP := (by first | exact hP | (rw [bx_uu] at hP; exact hP) | (rw [bx_uu, bx_uu] at hP; exact hP) : va_P (zk_D s0) zk_Cl (zm_W s0 h (va_up (va_up f 9 (0)) 15 (0 + (zw_num i).length + 1 + (zw_num ((a 0) (20 + 4 * i))).length + 1)) (va_up a 9 (va_up (zw_app (va_up (zw_app (a 9) 0 (zw_num i)) (0 + (zw_num i).length) 99) (0 + (zw_num i).length + 1) (zw_num ((a 0) (20 + 4 * i)))) (0 + (zw_num i).length + 1 + (zw_num ((a 0) (20 + 4 * i))).length) 58))) H)
    have hD := (by first | exact hD | (rw [bx_uu] at hD; exact hD) | (rw [bx_uu, bx_uu] at hD; exact hD) : va_D A (zm_W s0 h (va_up (va_up f 9 (0)) 15 (0 + (zw_num i).length + 1 + (zw_num ((a 0) (20 + 4 * i))).length + 1)) (va_up a 9 (va_up (zw_app (va_up (zw_app (a 9) 0 (zw_num i)) (0 + (zw_num i).length) 99) (0 + (zw_num i).length + 1) (zw_num ((a 0) (20 + 4 * i)))) (0 + (zw_num i).length + 1 + (zw_num ((a 0) (20 + 4 * i))).length) 58))))
    refine lv_aload_n hx hb dX7_writeEdition_46 rfl (lv_at hl 0 rfl) ?_
    refine lv_aload_n hx hb dX7_writeEdition_47 rfl (lv_at hl 0 rfl) ?_
    refine lv_iload_n hx hb dX7_writeEdition_48 rfl (lv_at hl 1 rfl) ?_
    refine lv_iconst (v := nI (2)) hx hb dX7_writeEdition_49 rfl ?_
    refine zk_callV0 fx (cm_e l s0 b h (va_up (va_up f 9 (0)) 15 (0 + (zw_num i).length + 1 + (zw_num ((a 0) (20 + 4 * i))).length + 1)) (va_up a 9 (va_up (zw_app (va_up (zw_app (a 9) 0 (zw_num i)) (0 + (zw_num i).length) 99) (0 + (zw_num i).length + 1) (zw_num ((a 0) (20 + 4 * i)))) (0 + (zw_num i).length + 1 + (zw_num ((a 0) (20 + 4 * i))).length) 58)) i 2 (by omega)) (lw_V q2450 q2452 qs52 q108 q2453) ⟨rfl, by decide, by decide, (show (parseMethodDescriptor yX7_e.desc).map (fun d => d.parameters.length) = some 2 by decide +kernel)⟩ ⟨zk_le hR.1 rfl, zk_le hR.2.1 rfl⟩ ⟨zk_le hR.2.2.1 rfl, zk_le hR.2.2.2 rfl⟩ hP hD hS 0 rfl rfl 0 rfl hl.1 rfl (Nat.le_of_ble_eq_true rfl) dX7_writeEdition_50 (fun v_ w_ H locs hq_ hP hD hS => ?_)
    obtain ⟨rfl, rfl⟩ := hq_
    refine zn_st (st2 := [.int (nI ((a 0) (20 + 4 * i + 2))), .ref (h 0)]) rfl ?_
    have hln := zw_num_len ((a 0) (20 + 4 * i + 2))
    refine zk_callV0 fx (cm_writeNumber l s0 b h (va_up (va_up f 9 (0)) 15 (0 + (zw_num i).length + 1 + (zw_num ((a 0) (20 + 4 * i))).length + 1)) (va_up a 9 (va_up (zw_app (va_up (zw_app (a 9) 0 (zw_num i)) (0 + (zw_num i).length) 99) (0 + (zw_num i).length + 1) (zw_num ((a 0) (20 + 4 * i)))) (0 + (zw_num i).length + 1 + (zw_num ((a 0) (20 + 4 * i))).length) 58)) ((a 0) (20 + 4 * i + 2)) (show (a 0) (20 + 4 * i + 2) ≤ 999 by omega) (show 0 + (zw_num i).length + 1 + (zw_num ((a 0) (20 + 4 * i))).length + 1 + 3 ≤ 80 by omega)) (lw_V q2665 q2667 qs73 q108 q2668) ⟨rfl, by decide, by decide, (show (parseMethodDescriptor yX7_writeNumber.desc).map (fun d => d.parameters.length) = some 1 by decide +kernel)⟩ ⟨zk_le hR.1 rfl, zk_le hR.2.1 rfl⟩ ⟨zk_le hR.2.2.1 rfl, zk_le hR.2.2.2 rfl⟩ hP hD hS 0 rfl rfl 0 rfl hl.1 rfl (Nat.le_of_ble_eq_true rfl) dX7_writeEdition_53 (fun v_ w_ H locs hq_ hP hD hS => ?_)
    obtain ⟨rfl, rfl⟩ := hq_
    refine zn_st (st2 := []) rfl ?_
    have hP := (by first | exact hP | (rw [bx_uu] at hP; exact hP) | (rw [bx_uu, bx_uu] at hP; exact hP) : va_P (zk_D s0) zk_Cl (zm_W s0 h (va_up (va_up f 9 (0)) 15 (0 + (zw_num i).length + 1 + (zw_num ((a 0) (20 + 4 * i))).length + 1 + (zw_num ((a 0) (20 + 4 * i + 2))).length)) (va_up a 9 (zw_app (va_up (zw_app (va_up (zw_app (a 9) 0 (zw_num i)) (0 + (zw_num i).length) 99) (0 + (zw_num i).length + 1) (zw_num ((a 0) (20 + 4 * i)))) (0 + (zw_num i).length + 1 + (zw_num ((a 0) (20 + 4 * i))).length) 58) (0 + (zw_num i).length + 1 + (zw_num ((a 0) (20 + 4 * i))).length + 1) (zw_num ((a 0) (20 + 4 * i + 2)))))) H)
    have hD := (by first | exact hD | (rw [bx_uu] at hD; exact hD) | (rw [bx_uu, bx_uu] at hD; exact hD) : va_D A (zm_W s0 h (va_up (va_up f 9 (0)) 15 (0 + (zw_num i).length + 1 + (zw_num ((a 0) (20 + 4 * i))).length + 1 + (zw_num ((a 0) (20 + 4 * i + 2))).length)) (va_up a 9 (zw_app (va_up (zw_app (va_up (zw_app (a 9) 0 (zw_num i)) (0 + (zw_num i).length) 99) (0 + (zw_num i).length + 1) (zw_num ((a 0) (20 + 4 * i)))) (0 + (zw_num i).length + 1 + (zw_num ((a 0) (20 + 4 * i))).length) 58) (0 + (zw_num i).length + 1 + (zw_num ((a 0) (20 + 4 * i))).length + 1) (zw_num ((a 0) (20 + 4 * i + 2)))))))
    refine lv_aload_n hx hb dX7_writeEdition_56 rfl (lv_at hl 0 rfl) ?_
    refine lv_bipush (v := nI (47)) hx hb dX7_writeEdition_57 (by decide) ?_
    refine zk_callV0 fx (cm_write l s0 b h (va_up (va_up f 9 (0)) 15 (0 + (zw_num i).length + 1 + (zw_num ((a 0) (20 + 4 * i))).length + 1 + (zw_num ((a 0) (20 + 4 * i + 2))).length)) (va_up a 9 (zw_app (va_up (zw_app (va_up (zw_app (a 9) 0 (zw_num i)) (0 + (zw_num i).length) 99) (0 + (zw_num i).length + 1) (zw_num ((a 0) (20 + 4 * i)))) (0 + (zw_num i).length + 1 + (zw_num ((a 0) (20 + 4 * i))).length) 58) (0 + (zw_num i).length + 1 + (zw_num ((a 0) (20 + 4 * i))).length + 1) (zw_num ((a 0) (20 + 4 * i + 2))))) 47 (show 0 + (zw_num i).length + 1 + (zw_num ((a 0) (20 + 4 * i))).length + 1 + (zw_num ((a 0) (20 + 4 * i + 2))).length < 80 by omega)) (lw_V q2669 q2671 qs74 q108 q2672) ⟨rfl, by decide, by decide, (show (parseMethodDescriptor yX7_write.desc).map (fun d => d.parameters.length) = some 1 by decide +kernel)⟩ ⟨zk_le hR.1 rfl, zk_le hR.2.1 rfl⟩ ⟨zk_le hR.2.2.1 rfl, zk_le hR.2.2.2 rfl⟩ hP hD hS 0 rfl rfl 0 rfl hl.1 rfl (Nat.le_of_ble_eq_true rfl) dX7_writeEdition_59 (fun v_ w_ H locs hq_ hP hD hS => ?_)
    obtain ⟨rfl, rfl⟩ := hq_
    refine zn_st (st2 := []) rfl ?_
    have hP := (by first | exact hP | (rw [bx_uu] at hP; exact hP) | (rw [bx_uu, bx_uu] at hP; exact hP) : va_P (zk_D s0) zk_Cl (zm_W s0 h (va_up (va_up f 9 (0)) 15 (0 + (zw_num i).length + 1 + (zw_num ((a 0) (20 + 4 * i))).length + 1 + (zw_num ((a 0) (20 + 4 * i + 2))).length + 1)) (va_up a 9 (va_up (zw_app (va_up (zw_app (va_up (zw_app (a 9) 0 (zw_num i)) (0 + (zw_num i).length) 99) (0 + (zw_num i).length + 1) (zw_num ((a 0) (20 + 4 * i)))) (0 + (zw_num i).length + 1 + (zw_num ((a 0) (20 + 4 * i))).length) 58) (0 + (zw_num i).length + 1 + (zw_num ((a 0) (20 + 4 * i))).length + 1) (zw_num ((a 0) (20 + 4 * i + 2)))) (0 + (zw_num i).length + 1 + (zw_num ((a 0) (20 + 4 * i))).length + 1 + (zw_num ((a 0) (20 + 4 * i + 2))).length) 47))) H)
    have hD := (by first | exact hD | (rw [bx_uu] at hD; exact hD) | (rw [bx_uu, bx_uu] at hD; exact hD) : va_D A (zm_W s0 h (va_up (va_up f 9 (0)) 15 (0 + (zw_num i).length + 1 + (zw_num ((a 0) (20 + 4 * i))).length + 1 + (zw_num ((a 0) (20 + 4 * i + 2))).length + 1)) (va_up a 9 (va_up (zw_app (va_up (zw_app (va_up (zw_app (a 9) 0 (zw_num i)) (0 + (zw_num i).length) 99) (0 + (zw_num i).length + 1) (zw_num ((a 0) (20 + 4 * i)))) (0 + (zw_num i).length + 1 + (zw_num ((a 0) (20 + 4 * i))).length) 58) (0 + (zw_num i).length + 1 + (zw_num ((a 0) (20 + 4 * i))).length + 1) (zw_num ((a 0) (20 + 4 * i + 2)))) (0 + (zw_num i).length + 1 + (zw_num ((a 0) (20 + 4 * i))).length + 1 + (zw_num ((a 0) (20 + 4 * i + 2))).length) 47))))
    refine lv_aload_n hx hb dX7_writeEdition_62 rfl (lv_at hl 0 rfl) ?_
    refine lv_aload_n hx hb dX7_writeEdition_63 rfl (lv_at hl 0 rfl) ?_
    refine lv_iload_n hx hb dX7_writeEdition_64 rfl (lv_at hl 1 rfl) ?_
    refine lv_iconst (v := nI (1)) hx hb dX7_writeEdition_65 rfl ?_
    refine zk_callV0 fx (cm_e l s0 b h (va_up (va_up f 9 (0)) 15 (0 + (zw_num i).length + 1 + (zw_num ((a 0) (20 + 4 * i))).length + 1 + (zw_num ((a 0) (20 + 4 * i + 2))).length + 1)) (va_up a 9 (va_up (zw_app (va_up (zw_app (va_up (zw_app (a 9) 0 (zw_num i)) (0 + (zw_num i).length) 99) (0 + (zw_num i).length + 1) (zw_num ((a 0) (20 + 4 * i)))) (0 + (zw_num i).length + 1 + (zw_num ((a 0) (20 + 4 * i))).length) 58) (0 + (zw_num i).length + 1 + (zw_num ((a 0) (20 + 4 * i))).length + 1) (zw_num ((a 0) (20 + 4 * i + 2)))) (0 + (zw_num i).length + 1 + (zw_num ((a 0) (20 + 4 * i))).length + 1 + (zw_num ((a 0) (20 + 4 * i + 2))).length) 47)) i 1 (by omega)) (lw_V q2450 q2452 qs52 q108 q2453) ⟨rfl, by decide, by decide, (show (parseMethodDescriptor yX7_e.desc).map (fun d => d.parameters.length) = some 2 by decide +kernel)⟩ ⟨zk_le hR.1 rfl, zk_le hR.2.1 rfl⟩ ⟨zk_le hR.2.2.1 rfl, zk_le hR.2.2.2 rfl⟩ hP hD hS 0 rfl rfl 0 rfl hl.1 rfl (Nat.le_of_ble_eq_true rfl) dX7_writeEdition_66 (fun v_ w_ H locs hq_ hP hD hS => ?_)
    obtain ⟨rfl, rfl⟩ := hq_
    refine zn_st (st2 := [.int (nI ((a 0) (20 + 4 * i + 1))), .ref (h 0)]) rfl ?_
    have hln := zw_num_len ((a 0) (20 + 4 * i + 1))
    refine zk_callV0 fx (cm_writeNumber l s0 b h (va_up (va_up f 9 (0)) 15 (0 + (zw_num i).length + 1 + (zw_num ((a 0) (20 + 4 * i))).length + 1 + (zw_num ((a 0) (20 + 4 * i + 2))).length + 1)) (va_up a 9 (va_up (zw_app (va_up (zw_app (va_up (zw_app (a 9) 0 (zw_num i)) (0 + (zw_num i).length) 99) (0 + (zw_num i).length + 1) (zw_num ((a 0) (20 + 4 * i)))) (0 + (zw_num i).length + 1 + (zw_num ((a 0) (20 + 4 * i))).length) 58) (0 + (zw_num i).length + 1 + (zw_num ((a 0) (20 + 4 * i))).length + 1) (zw_num ((a 0) (20 + 4 * i + 2)))) (0 + (zw_num i).length + 1 + (zw_num ((a 0) (20 + 4 * i))).length + 1 + (zw_num ((a 0) (20 + 4 * i + 2))).length) 47)) ((a 0) (20 + 4 * i + 1)) (show (a 0) (20 + 4 * i + 1) ≤ 999 by omega) (show 0 + (zw_num i).length + 1 + (zw_num ((a 0) (20 + 4 * i))).length + 1 + (zw_num ((a 0) (20 + 4 * i + 2))).length + 1 + 3 ≤ 80 by omega)) (lw_V q2665 q2667 qs73 q108 q2668) ⟨rfl, by decide, by decide, (show (parseMethodDescriptor yX7_writeNumber.desc).map (fun d => d.parameters.length) = some 1 by decide +kernel)⟩ ⟨zk_le hR.1 rfl, zk_le hR.2.1 rfl⟩ ⟨zk_le hR.2.2.1 rfl, zk_le hR.2.2.2 rfl⟩ hP hD hS 0 rfl rfl 0 rfl hl.1 rfl (Nat.le_of_ble_eq_true rfl) dX7_writeEdition_69 (fun v_ w_ H locs hq_ hP hD hS => ?_)
    obtain ⟨rfl, rfl⟩ := hq_
    refine zn_st (st2 := []) rfl ?_
    have hP := (by first | exact hP | (rw [bx_uu] at hP; exact hP) | (rw [bx_uu, bx_uu] at hP; exact hP) : va_P (zk_D s0) zk_Cl (zm_W s0 h (va_up (va_up f 9 (0)) 15 (0 + (zw_num i).length + 1 + (zw_num ((a 0) (20 + 4 * i))).length + 1 + (zw_num ((a 0) (20 + 4 * i + 2))).length + 1 + (zw_num ((a 0) (20 + 4 * i + 1))).length)) (va_up a 9 (zw_app (va_up (zw_app (va_up (zw_app (va_up (zw_app (a 9) 0 (zw_num i)) (0 + (zw_num i).length) 99) (0 + (zw_num i).length + 1) (zw_num ((a 0) (20 + 4 * i)))) (0 + (zw_num i).length + 1 + (zw_num ((a 0) (20 + 4 * i))).length) 58) (0 + (zw_num i).length + 1 + (zw_num ((a 0) (20 + 4 * i))).length + 1) (zw_num ((a 0) (20 + 4 * i + 2)))) (0 + (zw_num i).length + 1 + (zw_num ((a 0) (20 + 4 * i))).length + 1 + (zw_num ((a 0) (20 + 4 * i + 2))).length) 47) (0 + (zw_num i).length + 1 + (zw_num ((a 0) (20 + 4 * i))).length + 1 + (zw_num ((a 0) (20 + 4 * i + 2))).length + 1) (zw_num ((a 0) (20 + 4 * i + 1)))))) H)
    have hD := (by first | exact hD | (rw [bx_uu] at hD; exact hD) | (rw [bx_uu, bx_uu] at hD; exact hD) : va_D A (zm_W s0 h (va_up (va_up f 9 (0)) 15 (0 + (zw_num i).length + 1 + (zw_num ((a 0) (20 + 4 * i))).length + 1 + (zw_num ((a 0) (20 + 4 * i + 2))).length + 1 + (zw_num ((a 0) (20 + 4 * i + 1))).length)) (va_up a 9 (zw_app (va_up (zw_app (va_up (zw_app (va_up (zw_app (a 9) 0 (zw_num i)) (0 + (zw_num i).length) 99) (0 + (zw_num i).length + 1) (zw_num ((a 0) (20 + 4 * i)))) (0 + (zw_num i).length + 1 + (zw_num ((a 0) (20 + 4 * i))).length) 58) (0 + (zw_num i).length + 1 + (zw_num ((a 0) (20 + 4 * i))).length + 1) (zw_num ((a 0) (20 + 4 * i + 2)))) (0 + (zw_num i).length + 1 + (zw_num ((a 0) (20 + 4 * i))).length + 1 + (zw_num ((a 0) (20 + 4 * i + 2))).length) 47) (0 + (zw_num i).length + 1 + (zw_num ((a 0) (20 + 4 * i))).length + 1 + (zw_num ((a 0) (20 + 4 * i + 2))).length + 1) (zw_num ((a 0) (20 + 4 * i + 1)))))))
    refine lv_aload_n hx hb dX7_writeEdition_72 rfl (lv_at hl 0 rfl) ?_
    refine zm_get (f := (va_up (va_up f 9 (0)) 15 (0 + (zw_num i).length + 1 + (zw_num ((a 0) (20 + 4 * i))).length + 1 + (zw_num ((a 0) (20 + 4 * i + 2))).length + 1 + (zw_num ((a 0) (20 + 4 * i + 1))).length))) fx 15 (by decide) q2256 (v := .int (nI (0 + (zw_num i).length + 1 + (zw_num ((a 0) (20 + 4 * i))).length + 1 + (zw_num ((a 0) (20 + 4 * i + 2))).length + 1 + (zw_num ((a 0) (20 + 4 * i + 1))).length))) rfl hP dX7_writeEdition_73 ?_
    exact zk_reti (v := nI (0 + (zw_num i).length + 1 + (zw_num ((a 0) (20 + 4 * i))).length + 1 + (zw_num ((a 0) (20 + 4 * i + 2))).length + 1 + (zw_num ((a 0) (20 + 4 * i + 1))).length)) fx eQ rfl (rfl) hP hD hS (Nat.le_of_ble_eq_true rfl) (Nat.le_of_ble_eq_true rfl) dX7_writeEdition_76 (⟨by rw [if_pos c_9, nI_clamp (by omega)]; simp only [zw_ed, zw_app_append, zw_app_cons, zw_app_nil, List.length_append, List.length_cons, List.length_nil, Nat.zero_add, Nat.add_assoc], by rw [if_pos c_9, nI_clamp (by omega)]; simp only [zw_ed, zw_app_append, zw_app_cons, zw_app_nil, List.length_append, List.length_cons, List.length_nil, Nat.zero_add, Nat.add_assoc]⟩)
  · refine lv_iconst (v := nI (0)) hx hb dX7_writeEdition_12 rfl ?_
    exact zk_reti (v := nI (0)) fx eQ rfl (rfl) hP hD hS (Nat.le_of_ble_eq_true rfl) (Nat.le_of_ble_eq_true rfl) dX7_writeEdition_13 (⟨by rw [if_neg (by rw [c_9]; decide)], by rw [if_neg (by rw [c_9]; decide), c_9]; rfl⟩)
set_option maxHeartbeats 4000000 in
set_option maxRecDepth 100000 in
theorem cm_writeWells (l : Launch) (s0 : State) (b : Nat) (h f : Nat → Nat) (a : Nat → Nat → Nat) (ok : zp_Ok (a 0)) : zk_C l s0 b yX7_writeWells (ws_ yX7_writeWells cX7_writeWells 2 (some .int)) 2 43 0 0 [.ref (h 0)] (zm_W s0 h f a) (fun r w => r = some (.int (nI (zw_wells (a 0) 10).length)) ∧ w = zm_W s0 h (va_up (va_up f 9 0) 15 (zw_wells (a 0) 10).length) (va_up a 9 (zw_app (a 9) 0 (zw_wells (a 0) 10)))) := by
  refine zk_mk (by decide) rfl ?_
  intro p e s m below meth c A R args Q fx hR eQ hP hD hS ls hl
  have hx := fx.1
  have hb := fx.2.1
  have hK := fx.2.2.2.2.2.2.2.2.1.K
  have hl : lv_has ls 2 [(0, .ref (h 0))] := hl
  obtain ⟨ok0, ok1, ok2, ok3, ok4, ok5, ok6, okw, oke, okp⟩ := id ok
  refine lv_aload_n hx hb dX7_writeWells_0 rfl (lv_at hl 0 rfl) ?_
  refine lv_iconst (v := nI (0)) hx hb dX7_writeWells_1 rfl ?_
  refine zm_put fx 9 (by decide) q2250 (v := 0) hP hD hS dX7_writeWells_2 (fun H locs hP hD hS => ?_)
  have hP : va_P (zk_D s0) zk_Cl (zm_W s0 h (va_up f 9 (0)) a) H := hP
  refine lv_aload_n hx hb dX7_writeWells_5 rfl (lv_at hl 0 rfl) ?_
  refine lv_iconst (v := nI (0)) hx hb dX7_writeWells_6 rfl ?_
  refine zm_put fx 15 (by decide) q2256 (v := 0) hP hD hS dX7_writeWells_7 (fun H locs hP hD hS => ?_)
  have hP : va_P (zk_D s0) zk_Cl (zm_W s0 h (va_up (va_up f 9 (0)) 15 (0)) a) H := hP
  refine lv_iconst (v := nI (0)) hx hb dX7_writeWells_10 rfl ?_
  refine lv_istore_n (lv' := [(1, .int (nI (0))), (0, .ref (h 0))]) hx hb dX7_writeWells_11 rfl hl (by decide) rfl (fun ls hl => ?_)
  rw [← show va_up a 9 (zw_app (a 9) 0 (zw_wells (a 0) 0)) = a from zx_id rfl] at hP hD
  have hP : va_P (zk_D s0) zk_Cl (zm_W s0 h (va_up (va_up f 9 (0)) 15 ((zw_wells (a 0) 0).length)) (va_up a 9 (zw_app (a 9) 0 (zw_wells (a 0) 0)))) H := hP
  have hD : va_D A (zm_W s0 h (va_up (va_up f 9 (0)) 15 ((zw_wells (a 0) 0).length)) (va_up a 9 (zw_app (a 9) 0 (zw_wells (a 0) 0)))) := hD
  have lp_12 : ∀ (n_ : Nat) (k_ : Nat), (10 - k_) < n_ → (k_ ≤ 10) → ∀ (H : Heap) (locs : List Loc), va_P (zk_D s0) zk_Cl (zm_W s0 h (va_up (va_up f 9 (0)) 15 ((zw_wells (a 0) k_).length)) (va_up a 9 (zw_app (a 9) 0 (zw_wells (a 0) k_)))) H → va_D A (zm_W s0 h (va_up (va_up f 9 (0)) 15 ((zw_wells (a 0) k_).length)) (va_up a 9 (zw_app (a 9) 0 (zw_wells (a 0) k_)))) → va_S A s.heap H locs → ∀ ls : Array Slot, lv_has ls 2 [(1, .int (nI (k_))), (0, .ref (h 0))] → W p l e R s m args below meth c H locs 0 0 Q (F0 m 12 ls []) := by
    intro n_
    induction n_ with
    | zero => intro k_ hn_; exact absurd hn_ (Nat.not_lt_zero _)
    | succ n_ ih_12 =>
      intro k_ hn_ hk H locs hP hD hS ls hl
      have hwl := zw_wells_len (a 0) k_
      refine lv_iload_n hx hb dX7_writeWells_12 rfl (lv_at hl 0 rfl) ?_
      refine lv_bipush (v := nI (10)) hx hb dX7_writeWells_13 (by decide) ?_
      refine zn_icmp_ge (tgt := 47) hx hb dX7_writeWells_15 (by decide) (by omega) (by omega) (fun c_15 => ?_) (fun c_15 => ?_)
      · refine lv_aload_n hx hb dX7_writeWells_47 rfl (lv_at hl 1 rfl) ?_
        refine zm_get (f := (va_up (va_up f 9 (0)) 15 ((zw_wells (a 0) k_).length))) fx 15 (by decide) q2256 (v := .int (nI ((zw_wells (a 0) k_).length))) rfl hP dX7_writeWells_48 ?_
        exact zk_reti (v := nI ((zw_wells (a 0) k_).length)) fx eQ rfl (rfl) hP hD hS (Nat.le_of_ble_eq_true rfl) (Nat.le_of_ble_eq_true rfl) dX7_writeWells_51 (⟨zk_eqr (by rw [show k_ = 10 by omega]), by rw [show k_ = 10 by omega]⟩)
      · have hw9 := okw k_ (by omega)
        refine lv_iload_n hx hb dX7_writeWells_18 rfl (lv_at hl 0 rfl) ?_
        refine zn_if_le (tgt := 28) hx hb dX7_writeWells_19 (by decide) (by omega) (fun c_19 => ?_) (fun c_19 => ?_)
        · refine lv_aload_n hx hb dX7_writeWells_28 rfl (lv_at hl 1 rfl) ?_
          refine lv_aload_n hx hb dX7_writeWells_29 rfl (lv_at hl 1 rfl) ?_
          refine zm_get (f := (va_up (va_up f 9 (0)) 15 ((zw_wells (a 0) k_).length))) fx 0 (by decide) q2241 (v := .ref (h 1)) rfl hP dX7_writeWells_30 ?_
          refine lv_bipush (v := nI (8)) hx hb dX7_writeWells_33 (by decide) ?_
          refine lv_iload_n hx hb dX7_writeWells_35 rfl (lv_at hl 0 rfl) ?_
          refine zn_iadd hx hb dX7_writeWells_36 ?_
          refine zn_ald hx hb hK hP 1 (g := a 0) rfl (i := 8 + k_) (by omega) (by decide) dX7_writeWells_37 ?_
          have hln := zw_num_len ((a 0) (8 + k_))
          refine zk_callV0 fx (cm_writeNumber l s0 b h (va_up (va_up f 9 (0)) 15 ((zw_wells (a 0) k_).length)) (va_up a 9 (zw_app (a 9) 0 (zw_wells (a 0) k_))) ((a 0) (8 + k_)) (show (a 0) (8 + k_) ≤ 999 by omega) (show (zw_wells (a 0) k_).length + 3 ≤ 80 by omega)) (lw_V q2665 q2667 qs73 q108 q2668) ⟨rfl, by decide, by decide, (show (parseMethodDescriptor yX7_writeNumber.desc).map (fun d => d.parameters.length) = some 1 by decide +kernel)⟩ ⟨zk_le hR.1 rfl, zk_le hR.2.1 rfl⟩ ⟨zk_le hR.2.2.1 rfl, zk_le hR.2.2.2 rfl⟩ hP hD hS 0 rfl rfl 0 rfl hl.1 rfl (Nat.le_of_ble_eq_true rfl) dX7_writeWells_38 (fun v_ w_ H locs hq_ hP hD hS => ?_)
          obtain ⟨rfl, rfl⟩ := hq_
          refine zn_st (st2 := []) rfl ?_
          have hP := (by first | exact hP | (rw [bx_uu] at hP; exact hP) | (rw [bx_uu, bx_uu] at hP; exact hP) : va_P (zk_D s0) zk_Cl (zm_W s0 h (va_up (va_up f 9 (0)) 15 ((zw_wells (a 0) k_).length + (zw_num ((a 0) (8 + k_))).length)) (va_up a 9 (zw_app (zw_app (a 9) 0 (zw_wells (a 0) k_)) ((zw_wells (a 0) k_).length) (zw_num ((a 0) (8 + k_)))))) H)
          have hD := (by first | exact hD | (rw [bx_uu] at hD; exact hD) | (rw [bx_uu, bx_uu] at hD; exact hD) : va_D A (zm_W s0 h (va_up (va_up f 9 (0)) 15 ((zw_wells (a 0) k_).length + (zw_num ((a 0) (8 + k_))).length)) (va_up a 9 (zw_app (zw_app (a 9) 0 (zw_wells (a 0) k_)) ((zw_wells (a 0) k_).length) (zw_num ((a 0) (8 + k_)))))))
          have ez : zw_wells (a 0) (k_ + 1) = zw_wells (a 0) k_ ++ [] ++ zw_num (a 0 (8 + k_)) := by rw [zw_wells, if_pos (by omega)]
          have hP : va_P (zk_D s0) zk_Cl (zm_W s0 h (va_up (va_up f 9 (0)) 15 ((zw_wells (a 0) (k_ + 1)).length)) (va_up a 9 (zw_app (a 9) 0 (zw_wells (a 0) (k_ + 1))))) H := by rw [ez]; simpa only [zw_app_append, zw_app_cons, zw_app_nil, List.length_append, List.length_cons, List.length_nil, Nat.zero_add, Nat.add_zero, Nat.add_assoc] using hP
          have hD : va_D A (zm_W s0 h (va_up (va_up f 9 (0)) 15 ((zw_wells (a 0) (k_ + 1)).length)) (va_up a 9 (zw_app (a 9) 0 (zw_wells (a 0) (k_ + 1))))) := by rw [ez]; simpa only [zw_app_append, zw_app_cons, zw_app_nil, List.length_append, List.length_cons, List.length_nil, Nat.zero_add, Nat.add_zero, Nat.add_assoc] using hD
          refine lv_iinc (v := nI (k_ + 1)) (lv' := [(1, .int (nI (k_ + 1))), (0, .ref (h 0))]) hx hb dX7_writeWells_41 hl (k := 0) rfl (nI_add k_ 1) (by decide) rfl (fun ls hl => ?_)
          refine lv_goto (tgt := 12) hx hb dX7_writeWells_44 (by decide) ?_
          exact ih_12 (k_ + 1) (by omega) (by omega) _ _ hP hD hS ls (lv_sub hl [0, 1] rfl)
        · refine lv_aload_n hx hb dX7_writeWells_22 rfl (lv_at hl 1 rfl) ?_
          refine lv_bipush (v := nI (32)) hx hb dX7_writeWells_23 (by decide) ?_
          refine zk_callV0 fx (cm_write l s0 b h (va_up (va_up f 9 (0)) 15 ((zw_wells (a 0) k_).length)) (va_up a 9 (zw_app (a 9) 0 (zw_wells (a 0) k_))) 32 (show (zw_wells (a 0) k_).length < 80 by omega)) (lw_V q2669 q2671 qs74 q108 q2672) ⟨rfl, by decide, by decide, (show (parseMethodDescriptor yX7_write.desc).map (fun d => d.parameters.length) = some 1 by decide +kernel)⟩ ⟨zk_le hR.1 rfl, zk_le hR.2.1 rfl⟩ ⟨zk_le hR.2.2.1 rfl, zk_le hR.2.2.2 rfl⟩ hP hD hS 0 rfl rfl 0 rfl hl.1 rfl (Nat.le_of_ble_eq_true rfl) dX7_writeWells_25 (fun v_ w_ H locs hq_ hP hD hS => ?_)
          obtain ⟨rfl, rfl⟩ := hq_
          refine zn_st (st2 := []) rfl ?_
          have hP := (by first | exact hP | (rw [bx_uu] at hP; exact hP) | (rw [bx_uu, bx_uu] at hP; exact hP) : va_P (zk_D s0) zk_Cl (zm_W s0 h (va_up (va_up f 9 (0)) 15 ((zw_wells (a 0) k_).length + 1)) (va_up a 9 (va_up (zw_app (a 9) 0 (zw_wells (a 0) k_)) ((zw_wells (a 0) k_).length) 32))) H)
          have hD := (by first | exact hD | (rw [bx_uu] at hD; exact hD) | (rw [bx_uu, bx_uu] at hD; exact hD) : va_D A (zm_W s0 h (va_up (va_up f 9 (0)) 15 ((zw_wells (a 0) k_).length + 1)) (va_up a 9 (va_up (zw_app (a 9) 0 (zw_wells (a 0) k_)) ((zw_wells (a 0) k_).length) 32))))
          refine lv_aload_n hx hb dX7_writeWells_28 rfl (lv_at hl 1 rfl) ?_
          refine lv_aload_n hx hb dX7_writeWells_29 rfl (lv_at hl 1 rfl) ?_
          refine zm_get (f := (va_up (va_up f 9 (0)) 15 ((zw_wells (a 0) k_).length + 1))) fx 0 (by decide) q2241 (v := .ref (h 1)) rfl hP dX7_writeWells_30 ?_
          refine lv_bipush (v := nI (8)) hx hb dX7_writeWells_33 (by decide) ?_
          refine lv_iload_n hx hb dX7_writeWells_35 rfl (lv_at hl 0 rfl) ?_
          refine zn_iadd hx hb dX7_writeWells_36 ?_
          refine zn_ald hx hb hK hP 1 (g := a 0) rfl (i := 8 + k_) (by omega) (by decide) dX7_writeWells_37 ?_
          have hln := zw_num_len ((a 0) (8 + k_))
          refine zk_callV0 fx (cm_writeNumber l s0 b h (va_up (va_up f 9 (0)) 15 ((zw_wells (a 0) k_).length + 1)) (va_up a 9 (va_up (zw_app (a 9) 0 (zw_wells (a 0) k_)) ((zw_wells (a 0) k_).length) 32)) ((a 0) (8 + k_)) (show (a 0) (8 + k_) ≤ 999 by omega) (show (zw_wells (a 0) k_).length + 1 + 3 ≤ 80 by omega)) (lw_V q2665 q2667 qs73 q108 q2668) ⟨rfl, by decide, by decide, (show (parseMethodDescriptor yX7_writeNumber.desc).map (fun d => d.parameters.length) = some 1 by decide +kernel)⟩ ⟨zk_le hR.1 rfl, zk_le hR.2.1 rfl⟩ ⟨zk_le hR.2.2.1 rfl, zk_le hR.2.2.2 rfl⟩ hP hD hS 0 rfl rfl 0 rfl hl.1 rfl (Nat.le_of_ble_eq_true rfl) dX7_writeWells_38 (fun v_ w_ H locs hq_ hP hD hS => ?_)
          obtain ⟨rfl, rfl⟩ := hq_
          refine zn_st (st2 := []) rfl ?_
          have hP := (by first | exact hP | (rw [bx_uu] at hP; exact hP) | (rw [bx_uu, bx_uu] at hP; exact hP) : va_P (zk_D s0) zk_Cl (zm_W s0 h (va_up (va_up f 9 (0)) 15 ((zw_wells (a 0) k_).length + 1 + (zw_num ((a 0) (8 + k_))).length)) (va_up a 9 (zw_app (va_up (zw_app (a 9) 0 (zw_wells (a 0) k_)) ((zw_wells (a 0) k_).length) 32) ((zw_wells (a 0) k_).length + 1) (zw_num ((a 0) (8 + k_)))))) H)
          have hD := (by first | exact hD | (rw [bx_uu] at hD; exact hD) | (rw [bx_uu, bx_uu] at hD; exact hD) : va_D A (zm_W s0 h (va_up (va_up f 9 (0)) 15 ((zw_wells (a 0) k_).length + 1 + (zw_num ((a 0) (8 + k_))).length)) (va_up a 9 (zw_app (va_up (zw_app (a 9) 0 (zw_wells (a 0) k_)) ((zw_wells (a 0) k_).length) 32) ((zw_wells (a 0) k_).length + 1) (zw_num ((a 0) (8 + k_)))))))
          have ez : zw_wells (a 0) (k_ + 1) = zw_wells (a 0) k_ ++ [32] ++ zw_num (a 0 (8 + k_)) := by rw [zw_wells, if_neg (by omega)]
          have hP : va_P (zk_D s0) zk_Cl (zm_W s0 h (va_up (va_up f 9 (0)) 15 ((zw_wells (a 0) (k_ + 1)).length)) (va_up a 9 (zw_app (a 9) 0 (zw_wells (a 0) (k_ + 1))))) H := by rw [ez]; simpa only [zw_app_append, zw_app_cons, zw_app_nil, List.length_append, List.length_cons, List.length_nil, Nat.zero_add, Nat.add_zero, Nat.add_assoc] using hP
          have hD : va_D A (zm_W s0 h (va_up (va_up f 9 (0)) 15 ((zw_wells (a 0) (k_ + 1)).length)) (va_up a 9 (zw_app (a 9) 0 (zw_wells (a 0) (k_ + 1))))) := by rw [ez]; simpa only [zw_app_append, zw_app_cons, zw_app_nil, List.length_append, List.length_cons, List.length_nil, Nat.zero_add, Nat.add_zero, Nat.add_assoc] using hD
          refine lv_iinc (v := nI (k_ + 1)) (lv' := [(1, .int (nI (k_ + 1))), (0, .ref (h 0))]) hx hb dX7_writeWells_41 hl (k := 0) rfl (nI_add k_ 1) (by decide) rfl (fun ls hl => ?_)
          refine lv_goto (tgt := 12) hx hb dX7_writeWells_44 (by decide) ?_
          exact ih_12 (k_ + 1) (by omega) (by omega) _ _ hP hD hS ls (lv_sub hl [0, 1] rfl)
  exact lp_12 _ 0 (Nat.lt_succ_self _) (by omega) _ _ hP hD hS ls (lv_sub hl [0, 1] rfl)
set_option maxHeartbeats 4000000 in
set_option maxRecDepth 100000 in
theorem cm_lineAt (l : Launch) (s0 : State) (b : Nat) (h f : Nat → Nat) (a : Nat → Nat → Nat) (x : Int32) (hL0 : f 15 ≤ 80) (hc0 : ∀ i, i < f 15 → a 9 i ≤ 126) : zk_C l s0 b yX7_lineAt (ws_ yX7_lineAt cX7_lineAt 2 (some .char)) 1 22 0 0 [.ref (h 0), .int (x)] (zm_W s0 h f a) (fun r w => zm_N s0 h f a (Bool.toNat (!(zk_ix x (f 15)))) (.int (nI (if zk_ix x (f 15) = true then a 9 x.toNatClampNeg else 32))) r w) := by
  refine zk_mk (by decide) rfl ?_
  intro p e s m below meth c A R args Q fx hR eQ hP hD hS ls hl
  have hx := fx.1
  have hb := fx.2.1
  have hK := fx.2.2.2.2.2.2.2.2.1.K
  have hl : lv_has ls 2 [(0, .ref (h 0)), (1, .int (x))] := hl
  refine lv_aload_n hx hb dX7_lineAt_0 rfl (lv_at hl 0 rfl) ?_
  refine lv_iload_n hx hb dX7_lineAt_1 rfl (lv_at hl 1 rfl) ?_
  refine lv_iconst (v := nI (0)) hx hb dX7_lineAt_2 rfl ?_
  refine lv_aload_n hx hb dX7_lineAt_3 rfl (lv_at hl 0 rfl) ?_
  refine zm_get (f := f) fx 15 (by decide) q2256 (v := .int (nI (f 15))) rfl hP dX7_lineAt_4 ?_
  refine lv_iconst (v := nI (1)) hx hb dX7_lineAt_7 rfl ?_
  refine lv_isub hx hb dX7_lineAt_8 ?_
  refine zk_callSn fx (cm_in l s0 b (x) (nI (0)) ((nI (f 15)) - (nI (1)))) (lw_S q2339 q2340 q108 q2341) ⟨by decide, by decide, (show (parseMethodDescriptor yX7_in.desc).map (fun d => d.parameters.length) = some 3 by decide +kernel)⟩ ⟨zk_le hR.1 rfl, zk_le hR.2.1 rfl⟩ ⟨zk_le hR.2.2.1 rfl, zk_le hR.2.2.2 rfl⟩ hP hD hS hl.1 rfl (Nat.le_of_ble_eq_true rfl) dX7_lineAt_9 (fun v_ H locs hq_ hP hD hS => ?_)
  obtain rfl := hq_
  refine zn_st (st2 := [.int (nI (Bool.toNat (decide (nI (0) ≤ x ∧ x ≤ (nI (f 15)) - (nI (1)))))), .ref (h 0)]) rfl ?_
  refine zn_top (y := nI (Bool.toNat (zk_ix x (f 15)))) (by rw [zk_ix_last (by omega)]) ?_
  refine zk_callV0 fx (cm_checked l s0 b h f a (zk_ix x (f 15))) (lw_V q2378 q2380 qs42 q108 q2381) ⟨rfl, by decide, by decide, (show (parseMethodDescriptor yX7_checked.desc).map (fun d => d.parameters.length) = some 1 by decide +kernel)⟩ ⟨zk_le hR.1 rfl, zk_le hR.2.1 rfl⟩ ⟨zk_le hR.2.2.1 rfl, zk_le hR.2.2.2 rfl⟩ hP hD hS 0 rfl rfl 0 rfl hl.1 rfl (Nat.le_of_ble_eq_true rfl) dX7_lineAt_12 (fun v_ w_ H locs hq_ hP hD hS => ?_)
  obtain ⟨rfl, rfl⟩ := hq_
  refine zn_st (st2 := [.int (nI (Bool.toNat (!(zk_ix x (f 15)))))]) rfl ?_
  refine zb_if_le (tgt := 23) hx hb dX7_lineAt_15 (by decide) (fun c_15 => ?_) (fun c_15 => ?_)
  · obtain ⟨i, hi, rfl⟩ := zk_ix_of c_15 (by omega)
    have he := hc0 i hi
    refine lv_aload_n hx hb dX7_lineAt_23 rfl (lv_at hl 0 rfl) ?_
    refine zm_get (f := (va_up f 9 (Bool.toNat (!(zk_ix (nI i) (f 15)))))) fx 14 (by decide) q2255 (v := .ref (h 10)) rfl hP dX7_lineAt_24 ?_
    refine lv_iload_n hx hb dX7_lineAt_27 rfl (lv_at hl 1 rfl) ?_
    refine zn_ald hx hb hK hP 10 (g := a 9) rfl (i := i) (by omega) (by decide) dX7_lineAt_28 ?_
    refine lv_i2c (v := nI (a 9 i)) hx hb dX7_lineAt_29 (zk_i2c (by omega)) ?_
    exact zk_reti (v := nI (a 9 i)) fx eQ rfl (zk_narc (by omega)) hP hD hS (Nat.le_of_ble_eq_true rfl) (Nat.le_of_ble_eq_true rfl) dX7_lineAt_30 (⟨by rw [if_pos c_15, nI_clamp (by omega)], _, _, rfl, ⟨rfl, rfl, rfl, rfl, rfl, rfl, rfl, rfl⟩, ⟨rfl, rfl⟩, rfl, rfl⟩)
  · refine lv_bipush (v := nI (32)) hx hb dX7_lineAt_18 (by decide) ?_
    refine lv_goto (tgt := 30) hx hb dX7_lineAt_20 (by decide) ?_
    exact zk_reti (v := nI (32)) fx eQ rfl (zk_narc (by omega)) hP hD hS (Nat.le_of_ble_eq_true rfl) (Nat.le_of_ble_eq_true rfl) dX7_lineAt_30 (⟨by rw [if_neg (by rw [c_15]; decide)], _, _, rfl, ⟨rfl, rfl, rfl, rfl, rfl, rfl, rfl, rfl⟩, ⟨rfl, rfl⟩, rfl, rfl⟩)
set_option maxHeartbeats 4000000 in
set_option maxRecDepth 100000 in
theorem cm_type (l : Launch) (s0 : State) (b : Nat) (h f : Nat → Nat) (a : Nat → Nat → Nat) (v : Nat) (hv : v < 65536) (hn : f 20 ≤ 60) : zk_C l s0 b yX7_type (ws_ yX7_type cX7_type 2 (some .int)) 1 22 0 0 [.ref (h 0), .int (nI (v))] (zm_W s0 h f a) (fun r w => r = some (.int (nI (if zt_ty (f 20) v = 0 then f 20 + 1 else 0))) ∧ w = if zt_ty (f 20) v = 0 then zm_W s0 h (va_up (va_up f 9 0) 20 (f 20 + 1)) (va_up a 10 (va_up (a 10) (f 20) v)) else zm_W s0 h (va_up f 9 (zt_ty (f 20) v)) a) := by
  refine zk_mk (by decide) rfl ?_
  intro p e s m below meth c A R args Q fx hR eQ hP hD hS ls hl
  have hx := fx.1
  have hb := fx.2.1
  have hK := fx.2.2.2.2.2.2.2.2.1.K
  have hl : lv_has ls 2 [(0, .ref (h 0)), (1, .int (nI (v)))] := hl
  refine lv_aload_n hx hb dX7_type_0 rfl (lv_at hl 0 rfl) ?_
  refine lv_iload_n hx hb dX7_type_1 rfl (lv_at hl 1 rfl) ?_
  refine lv_bipush (v := nI (32)) hx hb dX7_type_2 (by decide) ?_
  refine lv_bipush (v := nI (126)) hx hb dX7_type_4 (by decide) ?_
  refine zk_callSn fx (cm_in l s0 b (nI (v)) (nI (32)) (nI (126))) (lw_S q2339 q2340 q108 q2341) ⟨by decide, by decide, (show (parseMethodDescriptor yX7_in.desc).map (fun d => d.parameters.length) = some 3 by decide +kernel)⟩ ⟨zk_le hR.1 rfl, zk_le hR.2.1 rfl⟩ ⟨zk_le hR.2.2.1 rfl, zk_le hR.2.2.2 rfl⟩ hP hD hS hl.1 rfl (Nat.le_of_ble_eq_true rfl) dX7_type_6 (fun v_ H locs hq_ hP hD hS => ?_)
  obtain rfl := hq_
  refine zn_st (st2 := [.int (nI (Bool.toNat (zk_in (nI (v)) 32 126))), .ref (h 0)]) rfl ?_
  rw [zk_in_nI (by omega) (by decide) (by decide)]
  refine zn_st (st2 := [.int (nI (Bool.toNat (decide (32 ≤ v ∧ v ≤ 126)))), .ref (h 0)]) (rfl) ?_
  refine zb_if_ne (tgt := 16) hx hb dX7_type_9 (by decide) (fun c_9 => ?_) (fun c_9 => ?_)
  · refine lv_aload_n hx hb dX7_type_16 rfl (lv_at hl 0 rfl) ?_
    refine zm_get (f := f) fx 20 (by decide) q2261 (v := .int (nI (f 20))) rfl hP dX7_type_17 ?_
    refine lv_bipush (v := nI (60)) hx hb dX7_type_20 (by decide) ?_
    refine zn_icmp_ne (tgt := 29) hx hb dX7_type_22 (by decide) (by omega) (by omega) (fun c_22 => ?_) (fun c_22 => ?_)
    · refine lv_iconst (v := nI (0)) hx hb dX7_type_29 rfl ?_
      have ezt : zt_ty (f 20) v = 0 := by unfold zt_ty; rw [if_neg (fun z => z (of_decide_eq_true c_9)), if_neg c_22]
      refine zm_put fx 9 (by decide) q2250 (v := 0) hP hD hS dX7_type_30 (fun H locs hP hD hS => ?_)
      have hP : va_P (zk_D s0) zk_Cl (zm_W s0 h (va_up f 9 (0)) a) H := hP
      refine lv_aload_n hx hb dX7_type_33 rfl (lv_at hl 0 rfl) ?_
      refine zm_get (f := (va_up f 9 (0))) fx 9 (by decide) q2250 (v := .int (nI (0))) rfl hP dX7_type_34 ?_
      refine zn_if_le (tgt := 42) hx hb dX7_type_37 (by decide) (by decide) (fun _ => ?_) (fun z_ => absurd z_ (by decide))
      refine lv_aload_n hx hb dX7_type_42 rfl (lv_at hl 0 rfl) ?_
      refine zm_get (f := (va_up f 9 (0))) fx 16 (by decide) q2257 (v := .ref (h 11)) rfl hP dX7_type_43 ?_
      refine lv_aload_n hx hb dX7_type_46 rfl (lv_at hl 0 rfl) ?_
      refine zm_get (f := (va_up f 9 (0))) fx 20 (by decide) q2261 (v := .int (nI (f 20))) rfl hP dX7_type_47 ?_
      refine lv_iload_n hx hb dX7_type_50 rfl (lv_at hl 1 rfl) ?_
      refine zn_ast hx hb hK hP hD hS 11 (n := 60) rfl (i := f 20) (x := v) (by omega) (by decide) dX7_type_51 (zm_seta 10 (by decide) 60 rfl (va_up (a 10) (f 20) v)) (fun H locs hP hD hS => ?_)
      refine lv_aload_n hx hb dX7_type_52 rfl (lv_at hl 0 rfl) ?_
      refine lv_dup hx hb dX7_type_53 rfl ?_
      refine zm_get (f := (va_up f 9 (0))) fx 20 (by decide) q2261 (v := .int (nI (f 20))) rfl hP dX7_type_54 ?_
      refine lv_iconst (v := nI (1)) hx hb dX7_type_57 rfl ?_
      refine zn_iadd hx hb dX7_type_58 ?_
      refine zm_put fx 20 (by decide) q2261 (v := (f 20) + 1) hP hD hS dX7_type_59 (fun H locs hP hD hS => ?_)
      have hP : va_P (zk_D s0) zk_Cl (zm_W s0 h (va_up (va_up f 9 (0)) 20 ((f 20) + 1)) (va_up a 10 (va_up (a 10) (f 20) v))) H := hP
      refine lv_aload_n hx hb dX7_type_62 rfl (lv_at hl 0 rfl) ?_
      refine zm_get (f := (va_up (va_up f 9 (0)) 20 ((f 20) + 1))) fx 20 (by decide) q2261 (v := .int (nI ((f 20) + 1))) rfl hP dX7_type_63 ?_
      exact zk_reti (v := nI ((f 20) + 1)) fx eQ rfl (rfl) hP hD hS (Nat.le_of_ble_eq_true rfl) (Nat.le_of_ble_eq_true rfl) dX7_type_66 (⟨by rw [if_pos ezt], by rw [if_pos ezt]⟩)
    · refine lv_iconst (v := nI (2)) hx hb dX7_type_25 rfl ?_
      refine lv_goto (tgt := 30) hx hb dX7_type_26 (by decide) ?_
      have ezt : zt_ty (f 20) v = 2 := by unfold zt_ty; rw [if_neg (fun z => z (of_decide_eq_true c_9)), if_pos (by omega)]
      refine zm_put fx 9 (by decide) q2250 (v := 2) hP hD hS dX7_type_30 (fun H locs hP hD hS => ?_)
      have hP : va_P (zk_D s0) zk_Cl (zm_W s0 h (va_up f 9 (2)) a) H := hP
      refine lv_aload_n hx hb dX7_type_33 rfl (lv_at hl 0 rfl) ?_
      refine zm_get (f := (va_up f 9 (2))) fx 9 (by decide) q2250 (v := .int (nI (2))) rfl hP dX7_type_34 ?_
      refine zn_if_le (tgt := 42) hx hb dX7_type_37 (by decide) (by decide) (fun z_ => absurd z_ (by decide)) (fun _ => ?_)
      refine lv_iconst (v := nI (0)) hx hb dX7_type_40 rfl ?_
      exact zk_reti (v := nI (0)) fx eQ rfl (rfl) hP hD hS (Nat.le_of_ble_eq_true rfl) (Nat.le_of_ble_eq_true rfl) dX7_type_41 (⟨by rw [if_neg (by omega)], by rw [if_neg (by omega), ezt]⟩)
  · refine lv_iconst (v := nI (1)) hx hb dX7_type_12 rfl ?_
    refine lv_goto (tgt := 30) hx hb dX7_type_13 (by decide) ?_
    have ezt : zt_ty (f 20) v = 1 := by unfold zt_ty; rw [if_pos (of_decide_eq_false c_9)]
    refine zm_put fx 9 (by decide) q2250 (v := 1) hP hD hS dX7_type_30 (fun H locs hP hD hS => ?_)
    have hP : va_P (zk_D s0) zk_Cl (zm_W s0 h (va_up f 9 (1)) a) H := hP
    refine lv_aload_n hx hb dX7_type_33 rfl (lv_at hl 0 rfl) ?_
    refine zm_get (f := (va_up f 9 (1))) fx 9 (by decide) q2250 (v := .int (nI (1))) rfl hP dX7_type_34 ?_
    refine zn_if_le (tgt := 42) hx hb dX7_type_37 (by decide) (by decide) (fun z_ => absurd z_ (by decide)) (fun _ => ?_)
    refine lv_iconst (v := nI (0)) hx hb dX7_type_40 rfl ?_
    exact zk_reti (v := nI (0)) fx eQ rfl (rfl) hP hD hS (Nat.le_of_ble_eq_true rfl) (Nat.le_of_ble_eq_true rfl) dX7_type_41 (⟨by rw [if_neg (by omega)], by rw [if_neg (by omega), ezt]⟩)
set_option maxHeartbeats 4000000 in
set_option maxRecDepth 100000 in
theorem cm_mark (l : Launch) (s0 : State) (b : Nat) (h f : Nat → Nat) (a : Nat → Nat → Nat) (hL0 : f 21 ≤ 60) (ht0 : ∀ i, i < f 21 → a 10 i ≤ 126) (hp0 : f 22 ≤ f 21) (hw1 : f 24 < 2 ^ 31) : zk_C l s0 b yX7_mark (ws_ yX7_mark cX7_mark 1 (some .int)) 0 0 0 0 [.ref (h 0)] (zm_W s0 h f a) (fun r w => r = some (.int (nI (zt_mk (a 10) (f 21) (f 24) (f 22)))) ∧ w = zm_W s0 h f a) := by
  refine zk_mk (by decide) rfl ?_
  intro p e s m below meth c A R args Q fx hR eQ hP hD hS ls hl
  have hx := fx.1
  have hb := fx.2.1
  have hK := fx.2.2.2.2.2.2.2.2.1.K
  have hl : lv_has ls 1 [(0, .ref (h 0))] := hl
  refine lv_aload_n hx hb dX7_mark_0 rfl (lv_at hl 0 rfl) ?_
  refine zm_get (f := f) fx 24 (by decide) q2265 (v := .int (nI (f 24))) rfl hP dX7_mark_1 ?_
  refine zn_if_ne (tgt := 30) hx hb dX7_mark_4 (by decide) (by omega) (fun c_4 => ?_) (fun c_4 => ?_)
  · refine lv_iconst (v := (-1)) hx hb dX7_mark_30 rfl ?_
    exact zk_reti (v := (-1)) fx eQ rfl (rfl) hP hD hS (Nat.le_of_ble_eq_true rfl) (Nat.le_of_ble_eq_true rfl) dX7_mark_31 (⟨congrArg some (congrArg Value.int (by unfold zt_mk; rw [if_neg (by omega)]; rfl)), rfl⟩)
  · refine lv_aload_n hx hb dX7_mark_7 rfl (lv_at hl 0 rfl) ?_
    refine zm_get (f := f) fx 22 (by decide) q2263 (v := .int (nI (f 22))) rfl hP dX7_mark_8 ?_
    refine lv_aload_n hx hb dX7_mark_11 rfl (lv_at hl 0 rfl) ?_
    refine zm_get (f := f) fx 21 (by decide) q2262 (v := .int (nI (f 21))) rfl hP dX7_mark_12 ?_
    refine zn_icmp_ge (tgt := 30) hx hb dX7_mark_15 (by decide) (by omega) (by omega) (fun c_15 => ?_) (fun c_15 => ?_)
    · refine lv_iconst (v := (-1)) hx hb dX7_mark_30 rfl ?_
      exact zk_reti (v := (-1)) fx eQ rfl (rfl) hP hD hS (Nat.le_of_ble_eq_true rfl) (Nat.le_of_ble_eq_true rfl) dX7_mark_31 (⟨congrArg some (congrArg Value.int (by unfold zt_mk; rw [if_neg (by omega)]; rfl)), rfl⟩)
    · refine lv_aload_n hx hb dX7_mark_18 rfl (lv_at hl 0 rfl) ?_
      refine zm_get (f := f) fx 16 (by decide) q2257 (v := .ref (h 11)) rfl hP dX7_mark_19 ?_
      refine lv_aload_n hx hb dX7_mark_22 rfl (lv_at hl 0 rfl) ?_
      refine zm_get (f := f) fx 22 (by decide) q2263 (v := .int (nI (f 22))) rfl hP dX7_mark_23 ?_
      refine zn_ald hx hb hK hP 11 (g := a 10) rfl (i := f 22) (by omega) (by decide) dX7_mark_26 ?_
      refine lv_goto (tgt := 31) hx hb dX7_mark_27 (by decide) ?_
      exact zk_reti (v := nI ((a 10) (f 22))) fx eQ rfl (rfl) hP hD hS (Nat.le_of_ble_eq_true rfl) (Nat.le_of_ble_eq_true rfl) dX7_mark_31 (⟨zk_eqr (by unfold zt_mk; rw [if_pos ⟨by omega, by omega⟩]), rfl⟩)
set_option maxHeartbeats 4000000 in
set_option maxRecDepth 100000 in
theorem cm_number (l : Launch) (s0 : State) (b : Nat) (h f : Nat → Nat) (a : Nat → Nat → Nat) (n : Nat) (hn : n ≤ 3) (hL0 : f 21 ≤ 60) (ht0 : ∀ i, i < f 21 → a 10 i ≤ 126) (hp0 : f 22 ≤ f 21) (hw0 : f 24 = 0 ∨ f 24 = 1) : zk_C l s0 b yX7_number (ws_ yX7_number cX7_number 4 (some .int)) 1 22 0 0 [.ref (h 0), .int (nI (n))] (zm_W s0 h f a) (fun r w => r = some (.int (nI (zt_number (a 10) (f 21) n (f 24) (f 22)).1)) ∧ w = zm_W s0 h (va_up (va_up f 24 (zt_number (a 10) (f 21) n (f 24) (f 22)).2.2) 22 (zt_number (a 10) (f 21) n (f 24) (f 22)).2.1) a) := by
  refine zk_mk (by decide) rfl ?_
  intro p e s m below meth c A R args Q fx hR eQ hP hD hS ls hl
  have hx := fx.1
  have hb := fx.2.1
  have hK := fx.2.2.2.2.2.2.2.2.1.K
  have hl : lv_has ls 4 [(0, .ref (h 0)), (1, .int (nI (n)))] := hl
  have hp1 := zt_p1_le (t := a 10) (w := f 24) hp0
  have hww1 := zt_w1_le (a 10) (f 21) (f 24) (f 22)
  have hww2 := zt_w2_le (a 10) (f 21) (f 24) (f 22)
  have jn_23 : ∀ (H : Heap) (locs : List Loc), va_P (zk_D s0) zk_Cl (zm_W s0 h (va_up f 24 (zt_w1 (a 10) (f 21) (f 24) (f 22))) a) H → va_D A (zm_W s0 h (va_up f 24 (zt_w1 (a 10) (f 21) (f 24) (f 22))) a) → va_S A s.heap H locs → ∀ ls : Array Slot, lv_has ls 4 [(0, .ref (h 0)), (1, .int (nI (n)))] → W p l e R s m args below meth c H locs 0 0 Q (F0 m 23 ls []) := by
    intro   H locs hP hD hS ls hl
    have jn_44 : ∀ (H : Heap) (locs : List Loc), va_P (zk_D s0) zk_Cl (zm_W s0 h (va_up (va_up f 24 (zt_w1 (a 10) (f 21) (f 24) (f 22))) 22 (zt_p1 (a 10) (f 21) (f 24) (f 22))) a) H → va_D A (zm_W s0 h (va_up (va_up f 24 (zt_w1 (a 10) (f 21) (f 24) (f 22))) 22 (zt_p1 (a 10) (f 21) (f 24) (f 22))) a) → va_S A s.heap H locs → ∀ ls : Array Slot, lv_has ls 4 [(0, .ref (h 0)), (1, .int (nI (n)))] → W p l e R s m args below meth c H locs 0 0 Q (F0 m 44 ls []) := by
      intro   H locs hP hD hS ls hl
      have jn_72 : ∀ (H : Heap) (locs : List Loc), va_P (zk_D s0) zk_Cl (zm_W s0 h (va_up (va_up f 24 (zt_w2 (a 10) (f 21) (f 24) (f 22))) 22 (zt_p1 (a 10) (f 21) (f 24) (f 22))) a) H → va_D A (zm_W s0 h (va_up (va_up f 24 (zt_w2 (a 10) (f 21) (f 24) (f 22))) 22 (zt_p1 (a 10) (f 21) (f 24) (f 22))) a) → va_S A s.heap H locs → ∀ ls : Array Slot, lv_has ls 4 [(0, .ref (h 0)), (1, .int (nI (n)))] → W p l e R s m args below meth c H locs 0 0 Q (F0 m 72 ls []) := by
        intro   H locs hP hD hS ls hl
        refine lv_iconst (v := nI (0)) hx hb dX7_number_72 rfl ?_
        refine lv_istore_n (lv' := [(2, .int (nI (0))), (0, .ref (h 0)), (1, .int (nI (n)))]) hx hb dX7_number_73 rfl hl (by decide) rfl (fun ls hl => ?_)
        refine lv_iconst (v := nI (0)) hx hb dX7_number_74 rfl ?_
        refine lv_istore_n (lv' := [(3, .int (nI (0))), (2, .int (nI (0))), (0, .ref (h 0)), (1, .int (nI (n)))]) hx hb dX7_number_75 rfl hl (by decide) rfl (fun ls hl => ?_)
        have lp_76 : ∀ (n_ : Nat) (k_ : Nat) (v_ : Nat) (p_ : Nat), (n - k_) < n_ → (zt_dw (a 10) (f 21) (zt_w2 (a 10) (f 21) (f 24) (f 22)) n (0, zt_p1 (a 10) (f 21) (f 24) (f 22)) = zt_dw (a 10) (f 21) (zt_w2 (a 10) (f 21) (f 24) (f 22)) (n - k_) (v_, p_)) → (k_ ≤ n) → (v_ ≤ 999 ∧ (k_ = 0 → v_ = 0) ∧ (k_ = 1 → v_ ≤ 9) ∧ (k_ = 2 → v_ ≤ 99)) → (p_ ≤ f 21) → ∀ (H : Heap) (locs : List Loc), va_P (zk_D s0) zk_Cl (zm_W s0 h (va_up (va_up f 24 (zt_w2 (a 10) (f 21) (f 24) (f 22))) 22 (p_)) a) H → va_D A (zm_W s0 h (va_up (va_up f 24 (zt_w2 (a 10) (f 21) (f 24) (f 22))) 22 (p_)) a) → va_S A s.heap H locs → ∀ ls : Array Slot, lv_has ls 4 [(3, .int (nI (k_))), (2, .int (nI (v_))), (0, .ref (h 0)), (1, .int (nI (n)))] → W p l e R s m args below meth c H locs 0 0 Q (F0 m 76 ls []) := by
          intro n_
          induction n_ with
          | zero => intro k_ v_ p_ hn_; exact absurd hn_ (Nat.not_lt_zero _)
          | succ n_ ih_76 =>
            intro k_ v_ p_ hn_ hz hk hv hp H locs hP hD hS ls hl
            refine lv_iload_n hx hb dX7_number_76 rfl (lv_at hl 0 rfl) ?_
            refine lv_iload_n hx hb dX7_number_77 rfl (lv_at hl 3 rfl) ?_
            refine zn_icmp_ge (tgt := 129) hx hb dX7_number_78 (by decide) (by omega) (by omega) (fun c_78 => ?_) (fun c_78 => ?_)
            · refine lv_iload_n hx hb dX7_number_129 rfl (lv_at hl 1 rfl) ?_
              have hq : zt_dw (a 10) (f 21) (zt_w2 (a 10) (f 21) (f 24) (f 22)) n (0, zt_p1 (a 10) (f 21) (f 24) (f 22)) = (v_, p_) := by rw [hz, show n - k_ = 0 by omega, zt_dw0]
              exact zk_reti (v := nI (v_)) fx eQ rfl (rfl) hP hD hS (Nat.le_of_ble_eq_true rfl) (Nat.le_of_ble_eq_true rfl) dX7_number_130 (⟨zk_eqr (by unfold zt_number; rw [hq]), by unfold zt_number; rw [hq]⟩)
            · refine lv_aload_n hx hb dX7_number_81 rfl (lv_at hl 2 rfl) ?_
              refine zk_callV0 fx (cm_mark l s0 b h (va_up (va_up f 24 (zt_w2 (a 10) (f 21) (f 24) (f 22))) 22 (p_)) a  (hL0) (ht0) (show p_ ≤ f 21 by omega) (show zt_w2 (a 10) (f 21) (f 24) (f 22) < 2 ^ 31 by omega)) (lw_V q2714 q2716 qs79 q108 q2717) ⟨rfl, by decide, by decide, (show (parseMethodDescriptor yX7_mark.desc).map (fun d => d.parameters.length) = some 0 by decide +kernel)⟩ ⟨zk_le hR.1 rfl, zk_le hR.2.1 rfl⟩ ⟨zk_le hR.2.2.1 rfl, zk_le hR.2.2.2 rfl⟩ hP hD hS 0 rfl rfl 0 rfl hl.1 rfl (Nat.le_of_ble_eq_true rfl) dX7_number_82 (fun v_ w_ H locs hq_ hP hD hS => ?_)
              obtain ⟨rfl, rfl⟩ := hq_
              refine zn_st (st2 := [.int (nI (zt_mk (a 10) (f 21) (zt_w2 (a 10) (f 21) (f 24) (f 22)) p_))]) rfl ?_
              refine lv_bipush (v := nI (48)) hx hb dX7_number_85 (by decide) ?_
              refine lv_bipush (v := nI (57)) hx hb dX7_number_87 (by decide) ?_
              refine zk_callSn fx (cm_in l s0 b (nI (zt_mk (a 10) (f 21) (zt_w2 (a 10) (f 21) (f 24) (f 22)) p_)) (nI (48)) (nI (57))) (lw_S q2339 q2340 q108 q2341) ⟨by decide, by decide, (show (parseMethodDescriptor yX7_in.desc).map (fun d => d.parameters.length) = some 3 by decide +kernel)⟩ ⟨zk_le hR.1 rfl, zk_le hR.2.1 rfl⟩ ⟨zk_le hR.2.2.1 rfl, zk_le hR.2.2.2 rfl⟩ hP hD hS hl.1 rfl (Nat.le_of_ble_eq_true rfl) dX7_number_89 (fun v_ H locs hq_ hP hD hS => ?_)
              obtain rfl := hq_
              refine zn_st (st2 := [.int (nI (Bool.toNat (zk_in (nI (zt_mk (a 10) (f 21) (zt_w2 (a 10) (f 21) (f 24) (f 22)) p_)) 48 57)))]) rfl ?_
              refine zb_if_eq (tgt := 129) hx hb dX7_number_92 (by decide) (fun c_92 => ?_) (fun c_92 => ?_)
              · refine lv_iload_n hx hb dX7_number_129 rfl (lv_at hl 1 rfl) ?_
                have hq : zt_dw (a 10) (f 21) (zt_w2 (a 10) (f 21) (f 24) (f 22)) n (0, zt_p1 (a 10) (f 21) (f 24) (f 22)) = (v_, p_) := by rw [hz, zt_dwF (by rw [← zt_in ht0]; exact c_92)]
                exact zk_reti (v := nI (v_)) fx eQ rfl (rfl) hP hD hS (Nat.le_of_ble_eq_true rfl) (Nat.le_of_ble_eq_true rfl) dX7_number_130 (⟨zk_eqr (by unfold zt_number; rw [hq]), by unfold zt_number; rw [hq]⟩)
              · rw [zt_in ht0] at c_92
                have h9 := zt_dg_lt ((Bool.and_eq_true_iff ..).mp c_92).2
                refine lv_bipush (v := nI (10)) hx hb dX7_number_95 (by decide) ?_
                refine lv_iload_n hx hb dX7_number_97 rfl (lv_at hl 1 rfl) ?_
                refine zn_imul hx hb dX7_number_98 ?_
                refine lv_aload_n hx hb dX7_number_99 rfl (lv_at hl 2 rfl) ?_
                refine zm_get (f := (va_up (va_up f 24 (zt_w2 (a 10) (f 21) (f 24) (f 22))) 22 (p_))) fx 16 (by decide) q2257 (v := .ref (h 11)) rfl hP dX7_number_100 ?_
                refine lv_aload_n hx hb dX7_number_103 rfl (lv_at hl 2 rfl) ?_
                refine zm_get (f := (va_up (va_up f 24 (zt_w2 (a 10) (f 21) (f 24) (f 22))) 22 (p_))) fx 22 (by decide) q2263 (v := .int (nI (p_))) rfl hP dX7_number_104 ?_
                refine zn_ald hx hb hK hP 11 (g := a 10) rfl (i := p_) (by omega) (by decide) dX7_number_107 ?_
                refine zn_iadd hx hb dX7_number_108 ?_
                refine lv_bipush (v := nI (48)) hx hb dX7_number_109 (by decide) ?_
                refine zn_isub hx hb dX7_number_111 (by omega) ?_
                refine lv_istore_n (lv' := [(2, .int (nI (((10 * v_) + ((a 10) p_)) - 48))), (3, .int (nI (k_))), (0, .ref (h 0)), (1, .int (nI (n)))]) hx hb dX7_number_112 rfl hl (by decide) rfl (fun ls hl => ?_)
                refine lv_aload_n hx hb dX7_number_113 rfl (lv_at hl 2 rfl) ?_
                refine lv_dup hx hb dX7_number_114 rfl ?_
                refine zm_get (f := (va_up (va_up f 24 (zt_w2 (a 10) (f 21) (f 24) (f 22))) 22 (p_))) fx 22 (by decide) q2263 (v := .int (nI (p_))) rfl hP dX7_number_115 ?_
                refine lv_iconst (v := nI (1)) hx hb dX7_number_118 rfl ?_
                refine zn_iadd hx hb dX7_number_119 ?_
                refine zm_put fx 22 (by decide) q2263 (v := p_ + 1) hP hD hS dX7_number_120 (fun H locs hP hD hS => ?_)
                have hP : va_P (zk_D s0) zk_Cl (zm_W s0 h (va_up (va_up (va_up f 24 (zt_w2 (a 10) (f 21) (f 24) (f 22))) 22 (p_)) 22 (p_ + 1)) a) H := hP
                have hP : va_P (zk_D s0) zk_Cl (zm_W s0 h (va_up (va_up f 24 (zt_w2 (a 10) (f 21) (f 24) (f 22))) 22 (p_ + 1)) a) H := by rw [bx_uu] at hP; exact hP
                have hD : va_D A (zm_W s0 h (va_up (va_up f 24 (zt_w2 (a 10) (f 21) (f 24) (f 22))) 22 (p_ + 1)) a) := by rw [bx_uu] at hD; exact hD
                refine lv_iinc (v := nI (k_ + 1)) (lv' := [(3, .int (nI (k_ + 1))), (2, .int (nI (((10 * v_) + ((a 10) p_)) - 48))), (0, .ref (h 0)), (1, .int (nI (n)))]) hx hb dX7_number_123 hl (k := 1) rfl (nI_add k_ 1) (by decide) rfl (fun ls hl => ?_)
                refine lv_goto (tgt := 76) hx hb dX7_number_126 (by decide) ?_
                exact ih_76 (k_ + 1) (10 * v_ + a 10 p_ - 48) (p_ + 1) (by omega) (by rw [hz, show n - k_ = n - (k_ + 1) + 1 by omega, zt_dwT c_92]) (by omega) (by omega) (by omega) _ _ hP hD hS ls (lv_sub hl [0, 1, 2, 3] rfl)
        exact lp_76 _ 0 0 (zt_p1 (a 10) (f 21) (f 24) (f 22)) (Nat.lt_succ_self _) rfl (Nat.zero_le _) (by omega) hp1.2 _ _ hP hD hS ls (lv_sub hl [0, 1, 2, 3] rfl)
      refine lv_aload_n hx hb dX7_number_44 rfl (lv_at hl 0 rfl) ?_
      refine lv_dup hx hb dX7_number_45 rfl ?_
      refine zm_get (f := (va_up (va_up f 24 (zt_w1 (a 10) (f 21) (f 24) (f 22))) 22 (zt_p1 (a 10) (f 21) (f 24) (f 22)))) fx 24 (by decide) q2265 (v := .int (nI (zt_w1 (a 10) (f 21) (f 24) (f 22)))) rfl hP dX7_number_46 ?_
      refine lv_aload_n hx hb dX7_number_49 rfl (lv_at hl 0 rfl) ?_
      refine zk_callV0 fx (cm_mark l s0 b h (va_up (va_up f 24 (zt_w1 (a 10) (f 21) (f 24) (f 22))) 22 (zt_p1 (a 10) (f 21) (f 24) (f 22))) a  (hL0) (ht0) (show zt_p1 (a 10) (f 21) (f 24) (f 22) ≤ f 21 by omega) (show zt_w1 (a 10) (f 21) (f 24) (f 22) < 2 ^ 31 by omega)) (lw_V q2714 q2716 qs79 q108 q2717) ⟨rfl, by decide, by decide, (show (parseMethodDescriptor yX7_mark.desc).map (fun d => d.parameters.length) = some 0 by decide +kernel)⟩ ⟨zk_le hR.1 rfl, zk_le hR.2.1 rfl⟩ ⟨zk_le hR.2.2.1 rfl, zk_le hR.2.2.2 rfl⟩ hP hD hS 0 rfl rfl 0 rfl hl.1 rfl (Nat.le_of_ble_eq_true rfl) dX7_number_50 (fun v_ w_ H locs hq_ hP hD hS => ?_)
      obtain ⟨rfl, rfl⟩ := hq_
      refine zn_st (st2 := [.int (nI (zt_mk (a 10) (f 21) (zt_w1 (a 10) (f 21) (f 24) (f 22)) (zt_p1 (a 10) (f 21) (f 24) (f 22)))), .int (nI (zt_w1 (a 10) (f 21) (f 24) (f 22))), .ref (h 0)]) rfl ?_
      refine lv_bipush (v := nI (48)) hx hb dX7_number_53 (by decide) ?_
      refine lv_bipush (v := nI (57)) hx hb dX7_number_55 (by decide) ?_
      refine zk_callSn fx (cm_in l s0 b (nI (zt_mk (a 10) (f 21) (zt_w1 (a 10) (f 21) (f 24) (f 22)) (zt_p1 (a 10) (f 21) (f 24) (f 22)))) (nI (48)) (nI (57))) (lw_S q2339 q2340 q108 q2341) ⟨by decide, by decide, (show (parseMethodDescriptor yX7_in.desc).map (fun d => d.parameters.length) = some 3 by decide +kernel)⟩ ⟨zk_le hR.1 rfl, zk_le hR.2.1 rfl⟩ ⟨zk_le hR.2.2.1 rfl, zk_le hR.2.2.2 rfl⟩ hP hD hS hl.1 rfl (Nat.le_of_ble_eq_true rfl) dX7_number_57 (fun v_ H locs hq_ hP hD hS => ?_)
      obtain rfl := hq_
      refine zn_st (st2 := [.int (nI (Bool.toNat (zk_in (nI (zt_mk (a 10) (f 21) (zt_w1 (a 10) (f 21) (f 24) (f 22)) (zt_p1 (a 10) (f 21) (f 24) (f 22)))) 48 57))), .int (nI (zt_w1 (a 10) (f 21) (f 24) (f 22))), .ref (h 0)]) rfl ?_
      refine zb_if_ne (tgt := 67) hx hb dX7_number_60 (by decide) (fun c_60 => ?_) (fun c_60 => ?_)
      · refine lv_iconst (v := nI (0)) hx hb dX7_number_67 rfl ?_
        refine zn_ior hx hb dX7_number_68 (by omega) (by omega) ?_
        refine zn_top (y := nI (zt_w2 (a 10) (f 21) (f 24) (f 22))) (by rw [zt_in ht0] at c_60; have h9 := (Bool.and_eq_true_iff ..).mp c_60; have h8 := of_decide_eq_true h9.1; unfold zt_w2; rw [if_pos ⟨h8, h9.2⟩, h8]; rfl) ?_
        refine zm_putb fx 24 (by decide) q2265 (v := zt_w2 (a 10) (f 21) (f 24) (f 22)) hww2 hP hD hS dX7_number_69 (fun H locs hP hD hS => ?_)
        have hP : va_P (zk_D s0) zk_Cl (zm_W s0 h (va_up (va_up (va_up f 24 (zt_w1 (a 10) (f 21) (f 24) (f 22))) 22 (zt_p1 (a 10) (f 21) (f 24) (f 22))) 24 (zt_w2 (a 10) (f 21) (f 24) (f 22))) a) H := hP
        exact jn_72   _ _ hP hD hS ls (lv_sub hl [0, 1] rfl)
      · refine lv_iconst (v := nI (1)) hx hb dX7_number_63 rfl ?_
        refine lv_goto (tgt := 68) hx hb dX7_number_64 (by decide) ?_
        refine zn_ior hx hb dX7_number_68 (by omega) (by omega) ?_
        refine zn_top (y := nI (zt_w2 (a 10) (f 21) (f 24) (f 22))) (by rw [zt_in ht0] at c_60; unfold zt_w2; rw [if_neg (fun z => by rw [z.2, decide_eq_true z.1] at c_60; exact absurd c_60 (by decide))]; exact congrArg nI (by rcases hww1 with hw | hw <;> rw [hw] <;> rfl)) ?_
        refine zm_putb fx 24 (by decide) q2265 (v := zt_w2 (a 10) (f 21) (f 24) (f 22)) hww2 hP hD hS dX7_number_69 (fun H locs hP hD hS => ?_)
        have hP : va_P (zk_D s0) zk_Cl (zm_W s0 h (va_up (va_up (va_up f 24 (zt_w1 (a 10) (f 21) (f 24) (f 22))) 22 (zt_p1 (a 10) (f 21) (f 24) (f 22))) 24 (zt_w2 (a 10) (f 21) (f 24) (f 22))) a) H := hP
        exact jn_72   _ _ hP hD hS ls (lv_sub hl [0, 1] rfl)
    refine lv_aload_n hx hb dX7_number_23 rfl (lv_at hl 0 rfl) ?_
    refine lv_dup hx hb dX7_number_24 rfl ?_
    refine zm_get (f := (va_up f 24 (zt_w1 (a 10) (f 21) (f 24) (f 22)))) fx 22 (by decide) q2263 (v := .int (nI (f 22))) rfl hP dX7_number_25 ?_
    refine lv_aload_n hx hb dX7_number_28 rfl (lv_at hl 0 rfl) ?_
    refine zm_get (f := (va_up f 24 (zt_w1 (a 10) (f 21) (f 24) (f 22)))) fx 24 (by decide) q2265 (v := .int (nI (zt_w1 (a 10) (f 21) (f 24) (f 22)))) rfl hP dX7_number_29 ?_
    refine zn_if_eq (tgt := 39) hx hb dX7_number_32 (by decide) (by omega) (fun c_32 => ?_) (fun c_32 => ?_)
    · refine lv_iconst (v := nI (1)) hx hb dX7_number_39 rfl ?_
      refine zn_iadd hx hb dX7_number_40 ?_
      refine zn_top (y := nI (zt_p1 (a 10) (f 21) (f 24) (f 22))) (by unfold zt_p1; rw [c_32]) ?_
      refine zm_put fx 22 (by decide) q2263 (v := zt_p1 (a 10) (f 21) (f 24) (f 22)) hP hD hS dX7_number_41 (fun H locs hP hD hS => ?_)
      have hP : va_P (zk_D s0) zk_Cl (zm_W s0 h (va_up (va_up f 24 (zt_w1 (a 10) (f 21) (f 24) (f 22))) 22 (zt_p1 (a 10) (f 21) (f 24) (f 22))) a) H := hP
      exact jn_44   _ _ hP hD hS ls (lv_sub hl [0, 1] rfl)
    · refine lv_iconst (v := nI (0)) hx hb dX7_number_35 rfl ?_
      refine lv_goto (tgt := 40) hx hb dX7_number_36 (by decide) ?_
      refine zn_iadd hx hb dX7_number_40 ?_
      refine zn_top (y := nI (zt_p1 (a 10) (f 21) (f 24) (f 22))) (by unfold zt_p1; rw [show zt_w1 (a 10) (f 21) (f 24) (f 22) = 1 by omega]) ?_
      refine zm_put fx 22 (by decide) q2263 (v := zt_p1 (a 10) (f 21) (f 24) (f 22)) hP hD hS dX7_number_41 (fun H locs hP hD hS => ?_)
      have hP : va_P (zk_D s0) zk_Cl (zm_W s0 h (va_up (va_up f 24 (zt_w1 (a 10) (f 21) (f 24) (f 22))) 22 (zt_p1 (a 10) (f 21) (f 24) (f 22))) a) H := hP
      exact jn_44   _ _ hP hD hS ls (lv_sub hl [0, 1] rfl)
  refine lv_aload_n hx hb dX7_number_0 rfl (lv_at hl 0 rfl) ?_
  refine lv_dup hx hb dX7_number_1 rfl ?_
  refine zm_get (f := f) fx 24 (by decide) q2265 (v := .int (nI (f 24))) rfl hP dX7_number_2 ?_
  refine lv_aload_n hx hb dX7_number_5 rfl (lv_at hl 0 rfl) ?_
  refine zk_callV0 fx (cm_mark l s0 b h f a  (hL0) (ht0) (show f 22 ≤ f 21 by omega) (show f 24 < 2 ^ 31 by omega)) (lw_V q2714 q2716 qs79 q108 q2717) ⟨rfl, by decide, by decide, (show (parseMethodDescriptor yX7_mark.desc).map (fun d => d.parameters.length) = some 0 by decide +kernel)⟩ ⟨zk_le hR.1 rfl, zk_le hR.2.1 rfl⟩ ⟨zk_le hR.2.2.1 rfl, zk_le hR.2.2.2 rfl⟩ hP hD hS 0 rfl rfl 0 rfl hl.1 rfl (Nat.le_of_ble_eq_true rfl) dX7_number_6 (fun v_ w_ H locs hq_ hP hD hS => ?_)
  obtain ⟨rfl, rfl⟩ := hq_
  refine zn_st (st2 := [.int (nI (zt_mk (a 10) (f 21) (f 24) (f 22))), .int (nI (f 24)), .ref (h 0)]) rfl ?_
  refine lv_bipush (v := nI (32)) hx hb dX7_number_9 (by decide) ?_
  refine lv_icmp_eq (tgt := 18) hx hb dX7_number_11 (by decide) (fun c_11 => ?_) (fun c_11 => ?_)
  · refine lv_iconst (v := nI (0)) hx hb dX7_number_18 rfl ?_
    refine zn_ior hx hb dX7_number_19 (by omega) (by omega) ?_
    refine zn_top (y := nI (zt_w1 (a 10) (f 21) (f 24) (f 22))) (by have h9 := (zt_mkI ht0 (by decide)).mp c_11; unfold zt_w1; rw [if_pos h9, h9.1]; rfl) ?_
    refine zm_putb fx 24 (by decide) q2265 (v := zt_w1 (a 10) (f 21) (f 24) (f 22)) hww1 hP hD hS dX7_number_20 (fun H locs hP hD hS => ?_)
    have hP : va_P (zk_D s0) zk_Cl (zm_W s0 h (va_up f 24 (zt_w1 (a 10) (f 21) (f 24) (f 22))) a) H := hP
    exact jn_23   _ _ hP hD hS ls (lv_sub hl [0, 1] rfl)
  · refine lv_iconst (v := nI (1)) hx hb dX7_number_14 rfl ?_
    refine lv_goto (tgt := 19) hx hb dX7_number_15 (by decide) ?_
    refine zn_ior hx hb dX7_number_19 (by omega) (by omega) ?_
    refine zn_top (y := nI (zt_w1 (a 10) (f 21) (f 24) (f 22))) (by have h9 := fun z => c_11 ((zt_mkI ht0 (by decide)).mpr z); unfold zt_w1; rw [if_neg h9]; exact congrArg nI (by rcases hw0 with hw | hw <;> rw [hw] <;> rfl)) ?_
    refine zm_putb fx 24 (by decide) q2265 (v := zt_w1 (a 10) (f 21) (f 24) (f 22)) hww1 hP hD hS dX7_number_20 (fun H locs hP hD hS => ?_)
    have hP : va_P (zk_D s0) zk_Cl (zm_W s0 h (va_up f 24 (zt_w1 (a 10) (f 21) (f 24) (f 22))) a) H := hP
    exact jn_23   _ _ hP hD hS ls (lv_sub hl [0, 1] rfl)
