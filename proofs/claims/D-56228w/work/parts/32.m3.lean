/-! THE REFERENCE, part 3 (printed by prog/m3.py) -/
set_option maxRecDepth 100000
set_option maxHeartbeats 4000000 in
set_option maxRecDepth 100000 in
theorem cm_change (l : Launch) (s0 : State) (b : Nat) (x y : Nat) (hx0 : x < 2 ^ 20) (hy0 : y < 2 ^ 20) : zk_C l s0 b yX7_change (ws_ yX7_change cX7_change 2 (some .int)) 0 0 0 0 [.int (nI (x)), .int (nI (y))] ([]) (fun r w => r = some (.int (nI (zp_change x y))) ∧ w = []) := by
  refine zk_mk (by decide) rfl ?_
  intro p e s m below meth c A R args Q fx hR eQ hP hD hS ls hl
  have hx := fx.1
  have hb := fx.2.1
  have hK := fx.2.2.2.2.2.2.2.2.1.K
  have hl : lv_has ls 2 [(0, .int (nI (x))), (1, .int (nI (y)))] := hl
  refine lv_iload_n hx hb dX7_change_0 rfl (lv_at hl 1 rfl) ?_
  refine lv_iload_n hx hb dX7_change_1 rfl (lv_at hl 0 rfl) ?_
  refine zn_icmp_lt (tgt := 11) hx hb dX7_change_2 (by decide) (by omega) (by omega) (fun c_2 => ?_) (fun c_2 => ?_)
  · refine lv_iconst (v := nI (2)) hx hb dX7_change_11 rfl ?_
    refine lv_iload_n hx hb dX7_change_12 rfl (lv_at hl 0 rfl) ?_
    refine lv_iload_n hx hb dX7_change_13 rfl (lv_at hl 1 rfl) ?_
    refine zn_isub hx hb dX7_change_14 (by omega) ?_
    refine zn_imul hx hb dX7_change_15 ?_
    refine lv_iconst (v := nI (1)) hx hb dX7_change_16 rfl ?_
    refine zn_iadd hx hb dX7_change_17 ?_
    exact zk_reti (v := nI ((2 * (x - y)) + 1)) fx eQ rfl (rfl) hP hD hS (Nat.le_of_ble_eq_true rfl) (Nat.le_of_ble_eq_true rfl) dX7_change_18 (⟨zk_eqr (by unfold zp_change; rw [if_neg (by omega)]), rfl⟩)
  · refine lv_iload_n hx hb dX7_change_5 rfl (lv_at hl 1 rfl) ?_
    refine lv_iload_n hx hb dX7_change_6 rfl (lv_at hl 0 rfl) ?_
    refine zn_isub hx hb dX7_change_7 (by omega) ?_
    refine lv_goto (tgt := 18) hx hb dX7_change_8 (by decide) ?_
    exact zk_reti (v := nI (y - x)) fx eQ rfl (rfl) hP hD hS (Nat.le_of_ble_eq_true rfl) (Nat.le_of_ble_eq_true rfl) dX7_change_18 (⟨zk_eqr (by unfold zp_change; rw [if_pos (by omega)]), rfl⟩)
set_option maxHeartbeats 4000000 in
set_option maxRecDepth 100000 in
theorem cm_ofWell (l : Launch) (s0 : State) (b : Nat) (h f : Nat → Nat) (a : Nat → Nat → Nat) (i : Nat) (hi : i < a 0 0) (ok : zp_Ok (a 0)) : zk_C l s0 b yX7_ofWell (ws_ yX7_ofWell cX7_ofWell 2 (some .int)) 1 22 0 0 [.ref (h 0), .int (nI (i))] (zm_W s0 h f a) (fun r w => r = some (.int (nI (a 0 (8 + zp_col (a 0) i)))) ∧ w = zm_W s0 h f a) := by
  refine zk_mk (by decide) rfl ?_
  intro p e s m below meth c A R args Q fx hR eQ hP hD hS ls hl
  have hx := fx.1
  have hb := fx.2.1
  have hK := fx.2.2.2.2.2.2.2.2.1.K
  have hl : lv_has ls 2 [(0, .ref (h 0)), (1, .int (nI (i)))] := hl
  obtain ⟨ok0, ok1, ok2, ok3, ok4, ok5, ok6, okw, oke, okp⟩ := id ok
  have h1 := oke i hi
  refine lv_aload_n hx hb dX7_ofWell_0 rfl (lv_at hl 0 rfl) ?_
  refine zm_get (f := f) fx 0 (by decide) q2241 (v := .ref (h 1)) rfl hP dX7_ofWell_1 ?_
  refine lv_bipush (v := nI (8)) hx hb dX7_ofWell_4 (by decide) ?_
  refine lv_aload_n hx hb dX7_ofWell_6 rfl (lv_at hl 0 rfl) ?_
  refine lv_iload_n hx hb dX7_ofWell_7 rfl (lv_at hl 1 rfl) ?_
  refine lv_iconst (v := nI (0)) hx hb dX7_ofWell_8 rfl ?_
  refine zk_callV0 fx (cm_e l s0 b h f a i 0 (by omega)) (lw_V q2450 q2452 qs52 q108 q2453) ⟨rfl, by decide, by decide, (show (parseMethodDescriptor yX7_e.desc).map (fun d => d.parameters.length) = some 2 by decide +kernel)⟩ ⟨zk_le hR.1 rfl, zk_le hR.2.1 rfl⟩ ⟨zk_le hR.2.2.1 rfl, zk_le hR.2.2.2 rfl⟩ hP hD hS 0 rfl rfl 0 rfl hl.1 rfl (Nat.le_of_ble_eq_true rfl) dX7_ofWell_9 (fun v_ w_ H locs hq_ hP hD hS => ?_)
  obtain ⟨rfl, rfl⟩ := hq_
  refine zn_st (st2 := [.int (nI ((a 0) (20 + 4 * i))), .int (nI (8)), .ref (h 1)]) rfl ?_
  refine zn_iadd hx hb dX7_ofWell_12 ?_
  refine zn_ald hx hb hK hP 1 (g := a 0) rfl (i := 8 + ((a 0) (20 + 4 * i))) (show 8 + a 0 (20 + 4 * i) < 72 by omega) (by decide) dX7_ofWell_13 ?_
  exact zk_reti (v := nI ((a 0) (8 + ((a 0) (20 + 4 * i))))) fx eQ rfl (rfl) hP hD hS (Nat.le_of_ble_eq_true rfl) (Nat.le_of_ble_eq_true rfl) dX7_ofWell_14 (⟨rfl, rfl⟩)
set_option maxHeartbeats 4000000 in
set_option maxRecDepth 100000 in
theorem cm_prints (l : Launch) (s0 : State) (b : Nat) (h f : Nat → Nat) (a : Nat → Nat → Nat) (i k : Nat) (hi : i < a 0 0) (hk2 : k ≤ a 0 2) (hkw : k ≤ a 0 (8 + a 0 (20 + 4 * i))) (ok : zp_Ok (a 0)) : zk_C l s0 b yX7_prints (ws_ yX7_prints cX7_prints 4 (some .int)) 1 22 0 0 [.ref (h 0), .int (nI (i)), .int (nI (k))] (zm_W s0 h f a) (fun r w => r = some (.int (nI k)) ∧ w = zm_W s0 h f (va_up a 0 (zp_prints (a 0) i k))) := by
  refine zk_mk (by decide) rfl ?_
  intro p e s m below meth c A R args Q fx hR eQ hP hD hS ls hl
  have hx := fx.1
  have hb := fx.2.1
  have hK := fx.2.2.2.2.2.2.2.2.1.K
  have hl : lv_has ls 4 [(0, .ref (h 0)), (1, .int (nI (i))), (2, .int (nI (k)))] := hl
  obtain ⟨ok0, ok1, ok2, ok3, ok4, ok5, ok6, okw, oke, okp⟩ := id ok
  have h1 := oke i hi
  refine lv_aload_n hx hb dX7_prints_0 rfl (lv_at hl 0 rfl) ?_
  refine lv_iload_n hx hb dX7_prints_1 rfl (lv_at hl 1 rfl) ?_
  refine lv_iconst (v := nI (0)) hx hb dX7_prints_2 rfl ?_
  refine zk_callV0 fx (cm_e l s0 b h f a i 0 (by omega)) (lw_V q2450 q2452 qs52 q108 q2453) ⟨rfl, by decide, by decide, (show (parseMethodDescriptor yX7_e.desc).map (fun d => d.parameters.length) = some 2 by decide +kernel)⟩ ⟨zk_le hR.1 rfl, zk_le hR.2.1 rfl⟩ ⟨zk_le hR.2.2.1 rfl, zk_le hR.2.2.2 rfl⟩ hP hD hS 0 rfl rfl 0 rfl hl.1 rfl (Nat.le_of_ble_eq_true rfl) dX7_prints_3 (fun v_ w_ H locs hq_ hP hD hS => ?_)
  obtain ⟨rfl, rfl⟩ := hq_
  refine zn_st (st2 := [.int (nI ((a 0) (20 + 4 * i)))]) rfl ?_
  refine zn_top (y := nI (a 0 (20 + 4 * i))) (rfl) ?_
  obtain ⟨cl, ecl⟩ : ∃ z_, z_ = a 0 (20 + 4 * i) := ⟨_, rfl⟩
  have hcl : cl < 10 := by omega
  refine zn_top (y := nI (cl)) (by rw [ecl]) ?_
  refine lv_istore_n (lv' := [(3, .int (nI (cl))), (0, .ref (h 0)), (1, .int (nI (i))), (2, .int (nI (k)))]) hx hb dX7_prints_6 rfl hl (by decide) rfl (fun ls hl => ?_)
  refine lv_aload_n hx hb dX7_prints_7 rfl (lv_at hl 1 rfl) ?_
  refine zm_get (f := f) fx 0 (by decide) q2241 (v := .ref (h 1)) rfl hP dX7_prints_8 ?_
  refine lv_iconst (v := nI (5)) hx hb dX7_prints_11 rfl ?_
  refine lv_dup2_11 hx hb dX7_prints_12 rfl rfl ?_
  refine zn_ald hx hb hK hP 1 (g := a 0) rfl (i := 5) (by omega) (by decide) dX7_prints_13 ?_
  refine lv_aload_n hx hb dX7_prints_14 rfl (lv_at hl 1 rfl) ?_
  refine zm_get (f := f) fx 0 (by decide) q2241 (v := .ref (h 1)) rfl hP dX7_prints_15 ?_
  refine lv_iconst (v := nI (4)) hx hb dX7_prints_18 rfl ?_
  refine zn_ald hx hb hK hP 1 (g := a 0) rfl (i := 4) (by omega) (by decide) dX7_prints_19 ?_
  refine lv_iload_n hx hb dX7_prints_20 rfl (lv_at hl 0 rfl) ?_
  refine zk_callSn fx (cm_change l s0 b ((a 0) 4) (cl) (by omega) (by omega)) (lw_S q2469 q2470 q108 q2471) ⟨by decide, by decide, (show (parseMethodDescriptor yX7_change.desc).map (fun d => d.parameters.length) = some 2 by decide +kernel)⟩ ⟨zk_le hR.1 rfl, zk_le hR.2.1 rfl⟩ ⟨zk_le hR.2.2.1 rfl, zk_le hR.2.2.2 rfl⟩ hP hD hS hl.1 rfl (Nat.le_of_ble_eq_true rfl) dX7_prints_21 (fun v_ H locs hq_ hP hD hS => ?_)
  obtain rfl := hq_
  refine zn_st (st2 := [.int (nI (zp_change ((a 0) 4) cl)), .int (nI ((a 0) 5)), .int (nI (5)), .ref (h 1)]) rfl ?_
  refine lv_iload_n hx hb dX7_prints_24 rfl (lv_at hl 3 rfl) ?_
  refine zn_iadd hx hb dX7_prints_25 ?_
  refine zn_iadd hx hb dX7_prints_26 ?_
  refine zn_ast hx hb hK hP hD hS 1 (n := 72) rfl (i := 5) (x := ((a 0) 5) + ((zp_change ((a 0) 4) cl) + k)) (by omega) (by decide) dX7_prints_27 (zm_seta 0 (by decide) 72 rfl (va_up (a 0) 5 (((a 0) 5) + ((zp_change ((a 0) 4) cl) + k)))) (fun H locs hP hD hS => ?_)
  obtain ⟨n1, en1⟩ : ∃ z_, z_ = va_up (a 0) 5 (((a 0) 5) + ((zp_change ((a 0) 4) cl) + k)) := ⟨_, rfl⟩
  rw [← en1] at hP hD
  refine lv_aload_n hx hb dX7_prints_28 rfl (lv_at hl 1 rfl) ?_
  refine zm_get (f := f) fx 0 (by decide) q2241 (v := .ref (h 1)) rfl hP dX7_prints_29 ?_
  refine lv_iconst (v := nI (4)) hx hb dX7_prints_32 rfl ?_
  refine lv_iload_n hx hb dX7_prints_33 rfl (lv_at hl 0 rfl) ?_
  refine zn_ast hx hb hK hP hD hS 1 (n := 72) rfl (i := 4) (x := cl) (by omega) (by decide) dX7_prints_34 (zm_seta 0 (by decide) 72 rfl (va_up n1 4 cl)) (fun H locs hP hD hS => ?_)
  obtain ⟨n2, en2⟩ : ∃ z_, z_ = va_up n1 4 cl := ⟨_, rfl⟩
  rw [← en2] at hP hD
  refine lv_aload_n hx hb dX7_prints_35 rfl (lv_at hl 1 rfl) ?_
  refine zm_get (f := f) fx 0 (by decide) q2241 (v := .ref (h 1)) rfl hP dX7_prints_36 ?_
  refine lv_iconst (v := nI (2)) hx hb dX7_prints_39 rfl ?_
  refine lv_dup2_11 hx hb dX7_prints_40 rfl rfl ?_
  refine zn_ald hx hb hK hP 1 (g := n2) rfl (i := 2) (by omega) (by decide) dX7_prints_41 ?_
  refine lv_iload_n hx hb dX7_prints_42 rfl (lv_at hl 3 rfl) ?_
  refine zn_isub hx hb dX7_prints_43 (by rw [en2, zk_up_ne (by omega), en1, zk_up_ne (by omega)]; exact hk2) ?_
  refine zn_ast hx hb hK hP hD hS 1 (n := 72) rfl (i := 2) (x := (n2 2) - k) (by omega) (by decide) dX7_prints_44 (zm_seta 0 (by decide) 72 rfl (va_up n2 2 ((n2 2) - k))) (fun H locs hP hD hS => ?_)
  obtain ⟨n3, en3⟩ : ∃ z_, z_ = va_up n2 2 ((n2 2) - k) := ⟨_, rfl⟩
  rw [← en3] at hP hD
  refine lv_aload_n hx hb dX7_prints_45 rfl (lv_at hl 1 rfl) ?_
  refine zm_get (f := f) fx 0 (by decide) q2241 (v := .ref (h 1)) rfl hP dX7_prints_46 ?_
  refine lv_bipush (v := nI (8)) hx hb dX7_prints_49 (by decide) ?_
  refine lv_iload_n hx hb dX7_prints_51 rfl (lv_at hl 0 rfl) ?_
  refine zn_iadd hx hb dX7_prints_52 ?_
  refine lv_dup2_11 hx hb dX7_prints_53 rfl rfl ?_
  refine zn_ald hx hb hK hP 1 (g := n3) rfl (i := 8 + cl) (by omega) (by decide) dX7_prints_54 ?_
  refine lv_iload_n hx hb dX7_prints_55 rfl (lv_at hl 3 rfl) ?_
  refine zn_isub hx hb dX7_prints_56 (by rw [en3, zk_up_ne (by omega), en2, zk_up_ne (by omega), en1, zk_up_ne (by omega), ecl]; exact hkw) ?_
  refine zn_ast hx hb hK hP hD hS 1 (n := 72) rfl (i := 8 + cl) (x := (n3 (8 + cl)) - k) (by omega) (by decide) dX7_prints_57 (zm_seta 0 (by decide) 72 rfl (va_up n3 (8 + cl) ((n3 (8 + cl)) - k))) (fun H locs hP hD hS => ?_)
  obtain ⟨n4, en4⟩ : ∃ z_, z_ = va_up n3 (8 + cl) ((n3 (8 + cl)) - k) := ⟨_, rfl⟩
  rw [← en4] at hP hD
  refine lv_aload_n hx hb dX7_prints_58 rfl (lv_at hl 1 rfl) ?_
  refine zm_get (f := f) fx 0 (by decide) q2241 (v := .ref (h 1)) rfl hP dX7_prints_59 ?_
  refine lv_bipush (v := nI (7)) hx hb dX7_prints_62 (by decide) ?_
  refine lv_dup2_11 hx hb dX7_prints_64 rfl rfl ?_
  refine zn_ald hx hb hK hP 1 (g := n4) rfl (i := 7) (by omega) (by decide) dX7_prints_65 ?_
  refine lv_iload_n hx hb dX7_prints_66 rfl (lv_at hl 3 rfl) ?_
  refine zn_iadd hx hb dX7_prints_67 ?_
  refine zn_ast hx hb hK hP hD hS 1 (n := 72) rfl (i := 7) (x := (n4 7) + k) (by omega) (by decide) dX7_prints_68 (zm_seta 0 (by decide) 72 rfl (va_up n4 7 ((n4 7) + k))) (fun H locs hP hD hS => ?_)
  obtain ⟨n5, en5⟩ : ∃ z_, z_ = va_up n4 7 ((n4 7) + k) := ⟨_, rfl⟩
  rw [← en5] at hP hD
  refine lv_aload_n hx hb dX7_prints_69 rfl (lv_at hl 1 rfl) ?_
  refine zm_get (f := f) fx 0 (by decide) q2241 (v := .ref (h 1)) rfl hP dX7_prints_70 ?_
  refine lv_bipush (v := nI (20)) hx hb dX7_prints_73 (by decide) ?_
  refine lv_iconst (v := nI (4)) hx hb dX7_prints_75 rfl ?_
  refine lv_iload_n hx hb dX7_prints_76 rfl (lv_at hl 2 rfl) ?_
  refine zn_imul hx hb dX7_prints_77 ?_
  refine zn_iadd hx hb dX7_prints_78 ?_
  refine lv_iconst (v := nI (2)) hx hb dX7_prints_79 rfl ?_
  refine zn_iadd hx hb dX7_prints_80 ?_
  refine lv_dup2_11 hx hb dX7_prints_81 rfl rfl ?_
  refine zn_ald hx hb hK hP 1 (g := n5) rfl (i := (20 + (4 * i)) + 2) (by omega) (by decide) dX7_prints_82 ?_
  refine lv_iload_n hx hb dX7_prints_83 rfl (lv_at hl 3 rfl) ?_
  refine zn_iadd hx hb dX7_prints_84 ?_
  refine zn_ast hx hb hK hP hD hS 1 (n := 72) rfl (i := (20 + (4 * i)) + 2) (x := (n5 ((20 + (4 * i)) + 2)) + k) (by omega) (by decide) dX7_prints_85 (zm_seta 0 (by decide) 72 rfl (va_up n5 ((20 + (4 * i)) + 2) ((n5 ((20 + (4 * i)) + 2)) + k))) (fun H locs hP hD hS => ?_)
  obtain ⟨n6, en6⟩ : ∃ z_, z_ = va_up n5 ((20 + (4 * i)) + 2) ((n5 ((20 + (4 * i)) + 2)) + k) := ⟨_, rfl⟩
  rw [← en6] at hP hD
  refine lv_iload_n hx hb dX7_prints_86 rfl (lv_at hl 3 rfl) ?_
  exact zk_reti (v := nI (k)) fx eQ rfl (rfl) hP hD hS (Nat.le_of_ble_eq_true rfl) (Nat.le_of_ble_eq_true rfl) dX7_prints_87 (⟨rfl, by subst ecl en6 en5 en4 en3 en2 en1; rfl⟩)
set_option maxHeartbeats 4000000 in
set_option maxRecDepth 100000 in
theorem cm_cannotPrint (l : Launch) (s0 : State) (b : Nat) (h f : Nat → Nat) (a : Nat → Nat → Nat) (x : Int32) (ok : zp_Ok (a 0)) : zk_C l s0 b yX7_cannotPrint (ws_ yX7_cannotPrint cX7_cannotPrint 2 (some .int)) 2 43 0 0 [.ref (h 0), .int (x)] (zm_W s0 h f a) (fun r w => r = some (.int (nI (zp_print (a 0) x))) ∧ w = zm_W s0 h f a) := by
  refine zk_mk (by decide) rfl ?_
  intro p e s m below meth c A R args Q fx hR eQ hP hD hS ls hl
  have hx := fx.1
  have hb := fx.2.1
  have hK := fx.2.2.2.2.2.2.2.2.1.K
  have hl : lv_has ls 2 [(0, .ref (h 0)), (1, .int (x))] := hl
  obtain ⟨ok0, ok1, ok2, ok3, ok4, ok5, ok6, okw, oke, okp⟩ := id ok
  refine lv_aload_n hx hb dX7_cannotPrint_0 rfl (lv_at hl 0 rfl) ?_
  refine lv_iload_n hx hb dX7_cannotPrint_1 rfl (lv_at hl 1 rfl) ?_
  refine zk_callV0 fx (cm_isEdition l s0 b h f a x (ok0)) (lw_V q2430 q2432 qs48 q108 q2433) ⟨rfl, by decide, by decide, (show (parseMethodDescriptor yX7_isEdition.desc).map (fun d => d.parameters.length) = some 1 by decide +kernel)⟩ ⟨zk_le hR.1 rfl, zk_le hR.2.1 rfl⟩ ⟨zk_le hR.2.2.1 rfl, zk_le hR.2.2.2 rfl⟩ hP hD hS 0 rfl rfl 0 rfl hl.1 rfl (Nat.le_of_ble_eq_true rfl) dX7_cannotPrint_2 (fun v_ w_ H locs hq_ hP hD hS => ?_)
  obtain ⟨rfl, rfl⟩ := hq_
  refine zn_st (st2 := [.int (nI (Bool.toNat (zk_ix x ((a 0) 0))))]) rfl ?_
  refine zb_if_ne (tgt := 10) hx hb dX7_cannotPrint_5 (by decide) (fun c_5 => ?_) (fun c_5 => ?_)
  · obtain ⟨i, hi, rfl⟩ := zk_ix_of c_5 (by omega)
    have h1 := oke i hi
    have hwl := okw (zp_col (a 0) i) h1.1
    refine lv_aload_n hx hb dX7_cannotPrint_10 rfl (lv_at hl 0 rfl) ?_
    refine lv_iload_n hx hb dX7_cannotPrint_11 rfl (lv_at hl 1 rfl) ?_
    refine zk_callV0 fx (cm_missing l s0 b h f a i (hi) (ok)) (lw_V q2446 q2448 qs51 q108 q2449) ⟨rfl, by decide, by decide, (show (parseMethodDescriptor yX7_missing.desc).map (fun d => d.parameters.length) = some 1 by decide +kernel)⟩ ⟨zk_le hR.1 rfl, zk_le hR.2.1 rfl⟩ ⟨zk_le hR.2.2.1 rfl, zk_le hR.2.2.2 rfl⟩ hP hD hS 0 rfl rfl 0 rfl hl.1 rfl (Nat.le_of_ble_eq_true rfl) dX7_cannotPrint_12 (fun v_ w_ H locs hq_ hP hD hS => ?_)
    obtain ⟨rfl, rfl⟩ := hq_
    refine zn_st (st2 := [.int (nI (zp_miss (a 0) i))]) rfl ?_
    refine zn_if_ne (tgt := 22) hx hb dX7_cannotPrint_15 (by decide) (by unfold zp_miss; omega) (fun c_15 => ?_) (fun c_15 => ?_)
    · refine lv_aload_n hx hb dX7_cannotPrint_22 rfl (lv_at hl 0 rfl) ?_
      refine zm_get (f := f) fx 0 (by decide) q2241 (v := .ref (h 1)) rfl hP dX7_cannotPrint_23 ?_
      refine lv_iconst (v := nI (2)) hx hb dX7_cannotPrint_26 rfl ?_
      refine zn_ald hx hb hK hP 1 (g := a 0) rfl (i := 2) (by omega) (by decide) dX7_cannotPrint_27 ?_
      refine zn_if_eq (tgt := 39) hx hb dX7_cannotPrint_28 (by decide) (by omega) (fun c_28 => ?_) (fun c_28 => ?_)
      · refine lv_iconst (v := nI (3)) hx hb dX7_cannotPrint_39 rfl ?_
        refine lv_goto (tgt := 44) hx hb dX7_cannotPrint_40 (by decide) ?_
        exact zk_reti (v := nI (3)) fx eQ rfl (rfl) hP hD hS (Nat.le_of_ble_eq_true rfl) (Nat.le_of_ble_eq_true rfl) dX7_cannotPrint_44 (⟨zk_eqr (by unfold zp_print; rw [if_pos c_5, nI_clamp (by omega), if_neg c_15, if_pos (Or.inl c_28)]), rfl⟩)
      · refine lv_aload_n hx hb dX7_cannotPrint_31 rfl (lv_at hl 0 rfl) ?_
        refine lv_iload_n hx hb dX7_cannotPrint_32 rfl (lv_at hl 1 rfl) ?_
        refine zk_callV0 fx (cm_ofWell l s0 b h f a i (hi) (ok)) (lw_V q2454 q2456 qs53 q108 q2457) ⟨rfl, by decide, by decide, (show (parseMethodDescriptor yX7_ofWell.desc).map (fun d => d.parameters.length) = some 1 by decide +kernel)⟩ ⟨zk_le hR.1 rfl, zk_le hR.2.1 rfl⟩ ⟨zk_le hR.2.2.1 rfl, zk_le hR.2.2.2 rfl⟩ hP hD hS 0 rfl rfl 0 rfl hl.1 rfl (Nat.le_of_ble_eq_true rfl) dX7_cannotPrint_33 (fun v_ w_ H locs hq_ hP hD hS => ?_)
        obtain ⟨rfl, rfl⟩ := hq_
        refine zn_st (st2 := [.int (nI ((a 0) (8 + zp_col (a 0) i)))]) rfl ?_
        refine zn_if_ne (tgt := 43) hx hb dX7_cannotPrint_36 (by decide) (by omega) (fun c_36 => ?_) (fun c_36 => ?_)
        · refine lv_iconst (v := nI (0)) hx hb dX7_cannotPrint_43 rfl ?_
          exact zk_reti (v := nI (0)) fx eQ rfl (rfl) hP hD hS (Nat.le_of_ble_eq_true rfl) (Nat.le_of_ble_eq_true rfl) dX7_cannotPrint_44 (⟨zk_eqr (by unfold zp_print; rw [if_pos c_5, nI_clamp (by omega), if_neg c_15, if_neg (fun z => z.elim c_28 c_36)]), rfl⟩)
        · refine lv_iconst (v := nI (3)) hx hb dX7_cannotPrint_39 rfl ?_
          refine lv_goto (tgt := 44) hx hb dX7_cannotPrint_40 (by decide) ?_
          exact zk_reti (v := nI (3)) fx eQ rfl (rfl) hP hD hS (Nat.le_of_ble_eq_true rfl) (Nat.le_of_ble_eq_true rfl) dX7_cannotPrint_44 (⟨zk_eqr (by unfold zp_print; rw [if_pos c_5, nI_clamp (by omega), if_neg c_15, if_pos (Or.inr c_36)]), rfl⟩)
    · refine lv_iconst (v := nI (2)) hx hb dX7_cannotPrint_18 rfl ?_
      refine lv_goto (tgt := 44) hx hb dX7_cannotPrint_19 (by decide) ?_
      exact zk_reti (v := nI (2)) fx eQ rfl (rfl) hP hD hS (Nat.le_of_ble_eq_true rfl) (Nat.le_of_ble_eq_true rfl) dX7_cannotPrint_44 (⟨zk_eqr (by unfold zp_print; rw [if_pos c_5, nI_clamp (by omega), if_pos c_15]), rfl⟩)
  · refine lv_iconst (v := nI (1)) hx hb dX7_cannotPrint_8 rfl ?_
    exact zk_reti (v := nI (1)) fx eQ rfl (rfl) hP hD hS (Nat.le_of_ble_eq_true rfl) (Nat.le_of_ble_eq_true rfl) dX7_cannotPrint_9 (⟨zk_eqr (by unfold zp_print; rw [if_neg (by rw [c_5]; decide)]), rfl⟩)
set_option maxHeartbeats 4000000 in
set_option maxRecDepth 100000 in
theorem cm_printsOne (l : Launch) (s0 : State) (b : Nat) (h f : Nat → Nat) (a : Nat → Nat → Nat) (i : Nat) (hi : i < a 0 0) (ok : zp_Ok (a 0)) : zk_C l s0 b yX7_printsOne (ws_ yX7_printsOne cX7_printsOne 2 (some .int)) 2 45 0 0 [.ref (h 0), .int (nI (i))] (zm_W s0 h f a) (fun r w => r = some (.int (nI (zp_copies (a 0) i))) ∧ w = zm_W s0 h f (va_up a 0 (zp_prints (a 0) i (zp_copies (a 0) i)))) := by
  refine zk_mk (by decide) rfl ?_
  intro p e s m below meth c A R args Q fx hR eQ hP hD hS ls hl
  have hx := fx.1
  have hb := fx.2.1
  have hK := fx.2.2.2.2.2.2.2.2.1.K
  have hl : lv_has ls 2 [(0, .ref (h 0)), (1, .int (nI (i)))] := hl
  obtain ⟨ok0, ok1, ok2, ok3, ok4, ok5, ok6, okw, oke, okp⟩ := id ok
  have h1 := oke i hi
  have hwl := okw (zp_col (a 0) i) h1.1
  have hms : zp_miss (a 0) i ≤ 50 := by unfold zp_miss; omega
  refine lv_aload_n hx hb dX7_printsOne_0 rfl (lv_at hl 0 rfl) ?_
  refine lv_iload_n hx hb dX7_printsOne_1 rfl (lv_at hl 1 rfl) ?_
  refine lv_aload_n hx hb dX7_printsOne_2 rfl (lv_at hl 0 rfl) ?_
  refine lv_iload_n hx hb dX7_printsOne_3 rfl (lv_at hl 1 rfl) ?_
  refine zk_callV0 fx (cm_missing l s0 b h f a i (hi) (ok)) (lw_V q2446 q2448 qs51 q108 q2449) ⟨rfl, by decide, by decide, (show (parseMethodDescriptor yX7_missing.desc).map (fun d => d.parameters.length) = some 1 by decide +kernel)⟩ ⟨zk_le hR.1 rfl, zk_le hR.2.1 rfl⟩ ⟨zk_le hR.2.2.1 rfl, zk_le hR.2.2.2 rfl⟩ hP hD hS 0 rfl rfl 0 rfl hl.1 rfl (Nat.le_of_ble_eq_true rfl) dX7_printsOne_4 (fun v_ w_ H locs hq_ hP hD hS => ?_)
  obtain ⟨rfl, rfl⟩ := hq_
  refine zn_st (st2 := [.int (nI (zp_miss (a 0) i)), .int (nI (i)), .ref (h 0)]) rfl ?_
  refine lv_aload_n hx hb dX7_printsOne_7 rfl (lv_at hl 0 rfl) ?_
  refine zm_get (f := f) fx 0 (by decide) q2241 (v := .ref (h 1)) rfl hP dX7_printsOne_8 ?_
  refine lv_iconst (v := nI (2)) hx hb dX7_printsOne_11 rfl ?_
  refine zn_ald hx hb hK hP 1 (g := a 0) rfl (i := 2) (by omega) (by decide) dX7_printsOne_12 ?_
  refine lv_aload_n hx hb dX7_printsOne_13 rfl (lv_at hl 0 rfl) ?_
  refine lv_iload_n hx hb dX7_printsOne_14 rfl (lv_at hl 1 rfl) ?_
  refine zk_callV0 fx (cm_ofWell l s0 b h f a i (hi) (ok)) (lw_V q2454 q2456 qs53 q108 q2457) ⟨rfl, by decide, by decide, (show (parseMethodDescriptor yX7_ofWell.desc).map (fun d => d.parameters.length) = some 1 by decide +kernel)⟩ ⟨zk_le hR.1 rfl, zk_le hR.2.1 rfl⟩ ⟨zk_le hR.2.2.1 rfl, zk_le hR.2.2.2 rfl⟩ hP hD hS 0 rfl rfl 0 rfl hl.1 rfl (Nat.le_of_ble_eq_true rfl) dX7_printsOne_15 (fun v_ w_ H locs hq_ hP hD hS => ?_)
  obtain ⟨rfl, rfl⟩ := hq_
  refine zn_st (st2 := [.int (nI ((a 0) (8 + zp_col (a 0) i))), .int (nI ((a 0) 2)), .int (nI (zp_miss (a 0) i)), .int (nI (i)), .ref (h 0)]) rfl ?_
  refine zk_callSn fx (cm_less l s0 b ((a 0) 2) ((a 0) (8 + zp_col (a 0) i)) (by omega) (by omega)) (lw_S q2462 q2463 q108 q2464) ⟨by decide, by decide, (show (parseMethodDescriptor yX7_less.desc).map (fun d => d.parameters.length) = some 2 by decide +kernel)⟩ ⟨zk_le hR.1 rfl, zk_le hR.2.1 rfl⟩ ⟨zk_le hR.2.2.1 rfl, zk_le hR.2.2.2 rfl⟩ hP hD hS hl.1 rfl (Nat.le_of_ble_eq_true rfl) dX7_printsOne_18 (fun v_ H locs hq_ hP hD hS => ?_)
  obtain rfl := hq_
  refine zn_st (st2 := [.int (nI (min ((a 0) 2) ((a 0) (8 + zp_col (a 0) i)))), .int (nI (zp_miss (a 0) i)), .int (nI (i)), .ref (h 0)]) rfl ?_
  refine zk_callSn fx (cm_less l s0 b (zp_miss (a 0) i) (min ((a 0) 2) ((a 0) (8 + zp_col (a 0) i))) (by omega) (by omega)) (lw_S q2462 q2463 q108 q2464) ⟨by decide, by decide, (show (parseMethodDescriptor yX7_less.desc).map (fun d => d.parameters.length) = some 2 by decide +kernel)⟩ ⟨zk_le hR.1 rfl, zk_le hR.2.1 rfl⟩ ⟨zk_le hR.2.2.1 rfl, zk_le hR.2.2.2 rfl⟩ hP hD hS hl.1 rfl (Nat.le_of_ble_eq_true rfl) dX7_printsOne_21 (fun v_ H locs hq_ hP hD hS => ?_)
  obtain rfl := hq_
  refine zn_st (st2 := [.int (nI (min (zp_miss (a 0) i) (min ((a 0) 2) ((a 0) (8 + zp_col (a 0) i))))), .int (nI (i)), .ref (h 0)]) rfl ?_
  refine zn_top (y := nI (zp_copies (a 0) i)) (rfl) ?_
  refine zk_callV0 fx (cm_prints l s0 b h f a i (zp_copies (a 0) i) (hi) (by unfold zp_copies; omega) (show zp_copies (a 0) i ≤ a 0 (8 + zp_col (a 0) i) by unfold zp_copies; omega) (ok)) (lw_V q2465 q2467 qs55 q108 q2468) ⟨rfl, by decide, by decide, (show (parseMethodDescriptor yX7_prints.desc).map (fun d => d.parameters.length) = some 2 by decide +kernel)⟩ ⟨zk_le hR.1 rfl, zk_le hR.2.1 rfl⟩ ⟨zk_le hR.2.2.1 rfl, zk_le hR.2.2.2 rfl⟩ hP hD hS 0 rfl rfl 0 rfl hl.1 rfl (Nat.le_of_ble_eq_true rfl) dX7_printsOne_24 (fun v_ w_ H locs hq_ hP hD hS => ?_)
  obtain ⟨rfl, rfl⟩ := hq_
  refine zn_st (st2 := [.int (nI (zp_copies (a 0) i))]) rfl ?_
  exact zk_reti (v := nI (zp_copies (a 0) i)) fx eQ rfl (rfl) hP hD hS (Nat.le_of_ble_eq_true rfl) (Nat.le_of_ble_eq_true rfl) dX7_printsOne_27 (⟨rfl, rfl⟩)
set_option maxHeartbeats 4000000 in
set_option maxRecDepth 100000 in
theorem cm_print (l : Launch) (s0 : State) (b : Nat) (h f : Nat → Nat) (a : Nat → Nat → Nat) (x : Int32) (ok : zp_Ok (a 0)) (hd0 : f 10 ≤ 8) : zk_C l s0 b yX7_print (ws_ yX7_print cX7_print 3 (some .int)) 3 66 0 0 [.ref (h 0), .int (x)] (zm_W s0 h f a) (fun r w => zm_M s0 h f a (zo_print (a 0) x) r w) := by
  refine zk_mk (by decide) rfl ?_
  intro p e s m below meth c A R args Q fx hR eQ hP hD hS ls hl
  have hx := fx.1
  have hb := fx.2.1
  have hK := fx.2.2.2.2.2.2.2.2.1.K
  have hl : lv_has ls 3 [(0, .ref (h 0)), (1, .int (x))] := hl
  have ok9 := id ok
  obtain ⟨ok0, ok1, ok2, ok3, ok4, ok5, ok6, okw, oke, okp⟩ := id ok
  refine lv_aload_n hx hb dX7_print_0 rfl (lv_at hl 0 rfl) ?_
  refine zk_callV0 fx (cm_begin l s0 b h f a ) (lw_V q2325 q2327 qs34 q108 q2328) ⟨rfl, by decide, by decide, (show (parseMethodDescriptor yX7_begin.desc).map (fun d => d.parameters.length) = some 0 by decide +kernel)⟩ ⟨zk_le hR.1 rfl, zk_le hR.2.1 rfl⟩ ⟨zk_le hR.2.2.1 rfl, zk_le hR.2.2.2 rfl⟩ hP hD hS 0 rfl rfl 0 rfl hl.1 rfl (Nat.le_of_ble_eq_true rfl) dX7_print_1 (fun v_ w_ H locs hq_ hP hD hS => ?_)
  obtain ⟨rfl, rfl⟩ := hq_
  refine zn_st (st2 := []) rfl ?_
  refine lv_aload_n hx hb dX7_print_4 rfl (lv_at hl 0 rfl) ?_
  refine lv_iload_n hx hb dX7_print_5 rfl (lv_at hl 1 rfl) ?_
  refine zk_callV0 fx (cm_cannotPrint l s0 b h (va_up f 9 (0)) (va_up a 1 (zp_cp (a 0) (a 1) 0 0 72)) x (ok)) (lw_V q2442 q2444 qs50 q108 q2445) ⟨rfl, by decide, by decide, (show (parseMethodDescriptor yX7_cannotPrint.desc).map (fun d => d.parameters.length) = some 1 by decide +kernel)⟩ ⟨zk_le hR.1 rfl, zk_le hR.2.1 rfl⟩ ⟨zk_le hR.2.2.1 rfl, zk_le hR.2.2.2 rfl⟩ hP hD hS 0 rfl rfl 0 rfl hl.1 rfl (Nat.le_of_ble_eq_true rfl) dX7_print_6 (fun v_ w_ H locs hq_ hP hD hS => ?_)
  obtain ⟨rfl, rfl⟩ := hq_
  refine zn_st (st2 := [.int (nI (zp_print (a 0) x))]) rfl ?_
  refine lv_istore_n (lv' := [(2, .int (nI (zp_print (a 0) x))), (0, .ref (h 0)), (1, .int (x))]) hx hb dX7_print_9 rfl hl (by decide) rfl (fun ls hl => ?_)
  refine lv_iload_n hx hb dX7_print_10 rfl (lv_at hl 0 rfl) ?_
  refine zn_if_le (tgt := 22) hx hb dX7_print_11 (by decide) (zp_print_le) (fun c_11 => ?_) (fun c_11 => ?_)
  · have c_0 : zp_print (a 0) x = 0 := c_11
    obtain ⟨i, hi, hms, h2, hw2, rfl⟩ := zp_print_0 c_0 ok0
    refine lv_aload_n hx hb dX7_print_22 rfl (lv_at hl 1 rfl) ?_
    refine lv_aload_n hx hb dX7_print_23 rfl (lv_at hl 1 rfl) ?_
    refine lv_iload_n hx hb dX7_print_24 rfl (lv_at hl 2 rfl) ?_
    refine zk_callV0 fx (cm_printsOne l s0 b h (va_up f 9 (0)) (va_up a 1 (zp_cp (a 0) (a 1) 0 0 72)) i (hi) (ok)) (lw_V q2458 q2460 qs54 q108 q2461) ⟨rfl, by decide, by decide, (show (parseMethodDescriptor yX7_printsOne.desc).map (fun d => d.parameters.length) = some 1 by decide +kernel)⟩ ⟨zk_le hR.1 rfl, zk_le hR.2.1 rfl⟩ ⟨zk_le hR.2.2.1 rfl, zk_le hR.2.2.2 rfl⟩ hP hD hS 0 rfl rfl 0 rfl hl.1 rfl (Nat.le_of_ble_eq_true rfl) dX7_print_25 (fun v_ w_ H locs hq_ hP hD hS => ?_)
    obtain ⟨rfl, rfl⟩ := hq_
    refine zn_st (st2 := [.int (nI (zp_copies (a 0) i)), .ref (h 0)]) rfl ?_
    refine zk_callV0 fx (cm_commit l s0 b h (va_up f 9 (0)) (va_up (va_up a 1 (zp_cp (a 0) (a 1) 0 0 72)) 0 (zp_prints (a 0) i (zp_copies (a 0) i))) (nI (zp_copies (a 0) i)) (hd0)) (lw_V q2350 q2352 qs38 q108 q2353) ⟨rfl, by decide, by decide, (show (parseMethodDescriptor yX7_commit.desc).map (fun d => d.parameters.length) = some 1 by decide +kernel)⟩ ⟨zk_le hR.1 rfl, zk_le hR.2.1 rfl⟩ ⟨zk_le hR.2.2.1 rfl, zk_le hR.2.2.2 rfl⟩ hP hD hS 0 rfl rfl 0 rfl hl.1 rfl (Nat.le_of_ble_eq_true rfl) dX7_print_28 (fun v_ w_ H locs hq_ hP hD hS => ?_)
    obtain ⟨rfl, rfl⟩ := hq_
    refine zn_st (st2 := [.int (nI (zp_copies (a 0) i))]) rfl ?_
    exact zk_reti (v := nI (zp_copies (a 0) i)) fx eQ rfl (rfl) hP hD hS (Nat.le_of_ble_eq_true rfl) (Nat.le_of_ble_eq_true rfl) dX7_print_31 (zm_Mc (by rw [zo_print, if_pos c_0, nI_clamp (by omega)]))
  · refine lv_aload_n hx hb dX7_print_14 rfl (lv_at hl 1 rfl) ?_
    refine lv_iload_n hx hb dX7_print_15 rfl (lv_at hl 0 rfl) ?_
    refine zk_callV0 fx (cm_fail l s0 b h (va_up f 9 (0)) (va_up a 1 (zp_cp (a 0) (a 1) 0 0 72)) (zp_print (a 0) x)) (lw_V q2342 q2344 qs36 q108 q2345) ⟨rfl, by decide, by decide, (show (parseMethodDescriptor yX7_fail.desc).map (fun d => d.parameters.length) = some 1 by decide +kernel)⟩ ⟨zk_le hR.1 rfl, zk_le hR.2.1 rfl⟩ ⟨zk_le hR.2.2.1 rfl, zk_le hR.2.2.2 rfl⟩ hP hD hS 0 rfl rfl 0 rfl hl.1 rfl (Nat.le_of_ble_eq_true rfl) dX7_print_16 (fun v_ w_ H locs hq_ hP hD hS => ?_)
    obtain ⟨rfl, rfl⟩ := hq_
    refine zn_st (st2 := [.int (nI (0))]) rfl ?_
    refine lv_goto (tgt := 31) hx hb dX7_print_19 (by decide) ?_
    exact zk_reti (v := nI (0)) fx eQ rfl (rfl) hP hD hS (Nat.le_of_ble_eq_true rfl) (Nat.le_of_ble_eq_true rfl) dX7_print_31 (zm_Mf (by rw [zo_print, if_neg (by omega)]) (by omega))
set_option maxHeartbeats 4000000 in
set_option maxRecDepth 100000 in
theorem cm_removeEdition (l : Launch) (s0 : State) (b : Nat) (h f : Nat → Nat) (a : Nat → Nat → Nat) (x : Int32) (ok : zp_Ok (a 0)) (hd0 : f 10 ≤ 8) : zk_C l s0 b yX7_removeEdition (ws_ yX7_removeEdition cX7_removeEdition 2 (some .int)) 2 46 0 0 [.ref (h 0), .int (x)] (zm_W s0 h f a) (fun r w => zm_M s0 h f a (zo_removeEdition (a 0) x) r w) := by
  refine zk_mk (by decide) rfl ?_
  intro p e s m below meth c A R args Q fx hR eQ hP hD hS ls hl
  have hx := fx.1
  have hb := fx.2.1
  have hK := fx.2.2.2.2.2.2.2.2.1.K
  have hl : lv_has ls 2 [(0, .ref (h 0)), (1, .int (x))] := hl
  obtain ⟨ok0, ok1, ok2, ok3, ok4, ok5, ok6, okw, oke, okp⟩ := id ok
  refine lv_aload_n hx hb dX7_removeEdition_0 rfl (lv_at hl 0 rfl) ?_
  refine zk_callV0 fx (cm_begin l s0 b h f a ) (lw_V q2325 q2327 qs34 q108 q2328) ⟨rfl, by decide, by decide, (show (parseMethodDescriptor yX7_begin.desc).map (fun d => d.parameters.length) = some 0 by decide +kernel)⟩ ⟨zk_le hR.1 rfl, zk_le hR.2.1 rfl⟩ ⟨zk_le hR.2.2.1 rfl, zk_le hR.2.2.2 rfl⟩ hP hD hS 0 rfl rfl 0 rfl hl.1 rfl (Nat.le_of_ble_eq_true rfl) dX7_removeEdition_1 (fun v_ w_ H locs hq_ hP hD hS => ?_)
  obtain ⟨rfl, rfl⟩ := hq_
  refine zn_st (st2 := []) rfl ?_
  refine lv_aload_n hx hb dX7_removeEdition_4 rfl (lv_at hl 0 rfl) ?_
  refine lv_iload_n hx hb dX7_removeEdition_5 rfl (lv_at hl 1 rfl) ?_
  refine zk_callV0 fx (cm_isEdition l s0 b h (va_up f 9 (0)) (va_up a 1 (zp_cp (a 0) (a 1) 0 0 72)) x (ok0)) (lw_V q2430 q2432 qs48 q108 q2433) ⟨rfl, by decide, by decide, (show (parseMethodDescriptor yX7_isEdition.desc).map (fun d => d.parameters.length) = some 1 by decide +kernel)⟩ ⟨zk_le hR.1 rfl, zk_le hR.2.1 rfl⟩ ⟨zk_le hR.2.2.1 rfl, zk_le hR.2.2.2 rfl⟩ hP hD hS 0 rfl rfl 0 rfl hl.1 rfl (Nat.le_of_ble_eq_true rfl) dX7_removeEdition_6 (fun v_ w_ H locs hq_ hP hD hS => ?_)
  obtain ⟨rfl, rfl⟩ := hq_
  refine zn_st (st2 := [.int (nI (Bool.toNat (zk_ix x ((a 0) 0))))]) rfl ?_
  refine zb_if_eq (tgt := 24) hx hb dX7_removeEdition_9 (by decide) (fun c_9 => ?_) (fun c_9 => ?_)
  · have c_0 : zk_ix x (a 0 0) = false := c_9
    refine lv_aload_n hx hb dX7_removeEdition_24 rfl (lv_at hl 0 rfl) ?_
    refine lv_iconst (v := nI (1)) hx hb dX7_removeEdition_25 rfl ?_
    refine zk_callV0 fx (cm_fail l s0 b h (va_up f 9 (0)) (va_up a 1 (zp_cp (a 0) (a 1) 0 0 72)) 1) (lw_V q2342 q2344 qs36 q108 q2345) ⟨rfl, by decide, by decide, (show (parseMethodDescriptor yX7_fail.desc).map (fun d => d.parameters.length) = some 1 by decide +kernel)⟩ ⟨zk_le hR.1 rfl, zk_le hR.2.1 rfl⟩ ⟨zk_le hR.2.2.1 rfl, zk_le hR.2.2.2 rfl⟩ hP hD hS 0 rfl rfl 0 rfl hl.1 rfl (Nat.le_of_ble_eq_true rfl) dX7_removeEdition_26 (fun v_ w_ H locs hq_ hP hD hS => ?_)
    obtain ⟨rfl, rfl⟩ := hq_
    refine zn_st (st2 := [.int (nI (0))]) rfl ?_
    exact zk_reti (v := nI (0)) fx eQ rfl (rfl) hP hD hS (Nat.le_of_ble_eq_true rfl) (Nat.le_of_ble_eq_true rfl) dX7_removeEdition_29 (zm_Mf (by rw [zo_removeEdition, if_neg (by rw [c_0]; decide)]) (by decide))
  · have c_0 : zk_ix x (a 0 0) = true := c_9
    obtain ⟨i, hi, rfl⟩ := zk_ix_of c_0 (by omega)
    have hm : (a 0) 0 ≤ 7 := ok0
    refine lv_aload_n hx hb dX7_removeEdition_12 rfl (lv_at hl 0 rfl) ?_
    refine lv_aload_n hx hb dX7_removeEdition_13 rfl (lv_at hl 0 rfl) ?_
    refine lv_iload_n hx hb dX7_removeEdition_14 rfl (lv_at hl 1 rfl) ?_
    refine zk_callV0 fx (cm_removes l s0 b h (va_up f 9 (0)) (va_up a 1 (zp_cp (a 0) (a 1) 0 0 72)) i (hi) (by assumption)) (lw_V q2434 q2436 qs49 q108 q2437) ⟨rfl, by decide, by decide, (show (parseMethodDescriptor yX7_removes.desc).map (fun d => d.parameters.length) = some 1 by decide +kernel)⟩ ⟨zk_le hR.1 rfl, zk_le hR.2.1 rfl⟩ ⟨zk_le hR.2.2.1 rfl, zk_le hR.2.2.2 rfl⟩ hP hD hS 0 rfl rfl 0 rfl hl.1 rfl (Nat.le_of_ble_eq_true rfl) dX7_removeEdition_15 (fun v_ w_ H locs hq_ hP hD hS => ?_)
    obtain ⟨rfl, rfl⟩ := hq_
    refine zn_st (st2 := [.int (nI ((a 0) 0 - 1)), .ref (h 0)]) rfl ?_
    refine zk_callV0 fx (cm_commit l s0 b h (va_up f 9 (0)) (va_up (va_up a 1 (zp_cp (a 0) (a 1) 0 0 72)) 0 (zp_rem (a 0) i)) (nI ((a 0) 0 - 1)) (hd0)) (lw_V q2350 q2352 qs38 q108 q2353) ⟨rfl, by decide, by decide, (show (parseMethodDescriptor yX7_commit.desc).map (fun d => d.parameters.length) = some 1 by decide +kernel)⟩ ⟨zk_le hR.1 rfl, zk_le hR.2.1 rfl⟩ ⟨zk_le hR.2.2.1 rfl, zk_le hR.2.2.2 rfl⟩ hP hD hS 0 rfl rfl 0 rfl hl.1 rfl (Nat.le_of_ble_eq_true rfl) dX7_removeEdition_18 (fun v_ w_ H locs hq_ hP hD hS => ?_)
    obtain ⟨rfl, rfl⟩ := hq_
    refine zn_st (st2 := [.int (nI ((a 0) 0 - 1))]) rfl ?_
    refine lv_goto (tgt := 29) hx hb dX7_removeEdition_21 (by decide) ?_
    exact zk_reti (v := nI ((a 0) 0 - 1)) fx eQ rfl (rfl) hP hD hS (Nat.le_of_ble_eq_true rfl) (Nat.le_of_ble_eq_true rfl) dX7_removeEdition_29 (zm_Mc (by rw [zo_removeEdition, if_pos c_0, nI_clamp (by omega)]))
set_option maxHeartbeats 4000000 in
set_option maxRecDepth 100000 in
theorem cm_p (l : Launch) (s0 : State) (b : Nat) (h f : Nat → Nat) (a : Nat → Nat → Nat) (i o : Nat) (hi : 48 + 2 * i + o < 72) : zk_C l s0 b yX7_p (ws_ yX7_p cX7_p 3 (some .int)) 0 0 0 0 [.ref (h 0), .int (nI (i)), .int (nI (o))] (zm_W s0 h f a) (fun r w => r = some (.int (nI (a 0 (48 + 2 * i + o)))) ∧ w = zm_W s0 h f a) := by
  refine zk_mk (by decide) rfl ?_
  intro p e s m below meth c A R args Q fx hR eQ hP hD hS ls hl
  have hx := fx.1
  have hb := fx.2.1
  have hK := fx.2.2.2.2.2.2.2.2.1.K
  have hl : lv_has ls 3 [(0, .ref (h 0)), (1, .int (nI (i))), (2, .int (nI (o)))] := hl
  refine lv_aload_n hx hb dX7_p_0 rfl (lv_at hl 0 rfl) ?_
  refine zm_get (f := f) fx 0 (by decide) q2241 (v := .ref (h 1)) rfl hP dX7_p_1 ?_
  refine lv_bipush (v := nI (48)) hx hb dX7_p_4 (by decide) ?_
  refine lv_iconst (v := nI (2)) hx hb dX7_p_6 rfl ?_
  refine lv_iload_n hx hb dX7_p_7 rfl (lv_at hl 1 rfl) ?_
  refine zn_imul hx hb dX7_p_8 ?_
  refine zn_iadd hx hb dX7_p_9 ?_
  refine lv_iload_n hx hb dX7_p_10 rfl (lv_at hl 2 rfl) ?_
  refine zn_iadd hx hb dX7_p_11 ?_
  refine zn_ald hx hb hK hP 1 (g := a 0) rfl (i := (48 + (2 * i)) + o) (by omega) (by decide) dX7_p_12 ?_
  exact zk_reti (v := nI ((a 0) ((48 + (2 * i)) + o))) fx eQ rfl (rfl) hP hD hS (Nat.le_of_ble_eq_true rfl) (Nat.le_of_ble_eq_true rfl) dX7_p_13 (⟨rfl, rfl⟩)
set_option maxHeartbeats 4000000 in
set_option maxRecDepth 100000 in
theorem cm_isProof (l : Launch) (s0 : State) (b : Nat) (h f : Nat → Nat) (a : Nat → Nat → Nat) (x : Int32) (h7 : a 0 1 ≤ 12) : zk_C l s0 b yX7_isProof (ws_ yX7_isProof cX7_isProof 2 (some .boolean)) 1 22 0 0 [.ref (h 0), .int (x)] (zm_W s0 h f a) (fun r w => r = some (.int (nI (Bool.toNat (zk_ix x (a 0 1))))) ∧ w = zm_W s0 h f a) := by
  refine zk_mk (by decide) rfl ?_
  intro p e s m below meth c A R args Q fx hR eQ hP hD hS ls hl
  have hx := fx.1
  have hb := fx.2.1
  have hK := fx.2.2.2.2.2.2.2.2.1.K
  have hl : lv_has ls 2 [(0, .ref (h 0)), (1, .int (x))] := hl
  refine lv_iload_n hx hb dX7_isProof_0 rfl (lv_at hl 1 rfl) ?_
  refine lv_iconst (v := nI (0)) hx hb dX7_isProof_1 rfl ?_
  refine lv_aload_n hx hb dX7_isProof_2 rfl (lv_at hl 0 rfl) ?_
  refine zm_get (f := f) fx 0 (by decide) q2241 (v := .ref (h 1)) rfl hP dX7_isProof_3 ?_
  refine lv_iconst (v := nI (1)) hx hb dX7_isProof_6 rfl ?_
  refine zn_ald hx hb hK hP 1 (g := a 0) rfl (i := 1) (by omega) (by decide) dX7_isProof_7 ?_
  refine lv_iconst (v := nI (1)) hx hb dX7_isProof_8 rfl ?_
  refine lv_isub hx hb dX7_isProof_9 ?_
  refine zk_callSn fx (cm_in l s0 b (x) (nI (0)) ((nI ((a 0) 1)) - (nI (1)))) (lw_S q2339 q2340 q108 q2341) ⟨by decide, by decide, (show (parseMethodDescriptor yX7_in.desc).map (fun d => d.parameters.length) = some 3 by decide +kernel)⟩ ⟨zk_le hR.1 rfl, zk_le hR.2.1 rfl⟩ ⟨zk_le hR.2.2.1 rfl, zk_le hR.2.2.2 rfl⟩ hP hD hS hl.1 rfl (Nat.le_of_ble_eq_true rfl) dX7_isProof_10 (fun v_ H locs hq_ hP hD hS => ?_)
  obtain rfl := hq_
  refine zn_st (st2 := [.int (nI (Bool.toNat (decide (nI (0) ≤ x ∧ x ≤ (nI ((a 0) 1)) - (nI (1))))))]) rfl ?_
  exact zk_reti (v := nI (Bool.toNat (decide (nI (0) ≤ x ∧ x ≤ (nI ((a 0) 1)) - (nI (1)))))) fx eQ rfl (zb_nar _) hP hD hS (Nat.le_of_ble_eq_true rfl) (Nat.le_of_ble_eq_true rfl) dX7_isProof_13 (⟨by rw [← zk_ix_in (by omega)], rfl⟩)
set_option maxHeartbeats 4000000 in
set_option maxRecDepth 100000 in
theorem cm_dropProof (l : Launch) (s0 : State) (b : Nat) (h f : Nat → Nat) (a : Nat → Nat → Nat) (x : Int32) (ok : zp_Ok (a 0)) (hd0 : f 10 ≤ 8) : zk_C l s0 b yX7_dropProof (ws_ yX7_dropProof cX7_dropProof 2 (some .int)) 2 46 0 0 [.ref (h 0), .int (x)] (zm_W s0 h f a) (fun r w => zm_M s0 h f a (zo_dropProof (a 0) x) r w) := by
  refine zk_mk (by decide) rfl ?_
  intro p e s m below meth c A R args Q fx hR eQ hP hD hS ls hl
  have hx := fx.1
  have hb := fx.2.1
  have hK := fx.2.2.2.2.2.2.2.2.1.K
  have hl : lv_has ls 2 [(0, .ref (h 0)), (1, .int (x))] := hl
  obtain ⟨ok0, ok1, ok2, ok3, ok4, ok5, ok6, okw, oke, okp⟩ := id ok
  refine lv_aload_n hx hb dX7_dropProof_0 rfl (lv_at hl 0 rfl) ?_
  refine zk_callV0 fx (cm_begin l s0 b h f a ) (lw_V q2325 q2327 qs34 q108 q2328) ⟨rfl, by decide, by decide, (show (parseMethodDescriptor yX7_begin.desc).map (fun d => d.parameters.length) = some 0 by decide +kernel)⟩ ⟨zk_le hR.1 rfl, zk_le hR.2.1 rfl⟩ ⟨zk_le hR.2.2.1 rfl, zk_le hR.2.2.2 rfl⟩ hP hD hS 0 rfl rfl 0 rfl hl.1 rfl (Nat.le_of_ble_eq_true rfl) dX7_dropProof_1 (fun v_ w_ H locs hq_ hP hD hS => ?_)
  obtain ⟨rfl, rfl⟩ := hq_
  refine zn_st (st2 := []) rfl ?_
  refine lv_aload_n hx hb dX7_dropProof_4 rfl (lv_at hl 0 rfl) ?_
  refine lv_iload_n hx hb dX7_dropProof_5 rfl (lv_at hl 1 rfl) ?_
  refine zk_callV0 fx (cm_isProof l s0 b h (va_up f 9 (0)) (va_up a 1 (zp_cp (a 0) (a 1) 0 0 72)) x (ok1)) (lw_V q2589 q2591 qs69 q108 q2592) ⟨rfl, by decide, by decide, (show (parseMethodDescriptor yX7_isProof.desc).map (fun d => d.parameters.length) = some 1 by decide +kernel)⟩ ⟨zk_le hR.1 rfl, zk_le hR.2.1 rfl⟩ ⟨zk_le hR.2.2.1 rfl, zk_le hR.2.2.2 rfl⟩ hP hD hS 0 rfl rfl 0 rfl hl.1 rfl (Nat.le_of_ble_eq_true rfl) dX7_dropProof_6 (fun v_ w_ H locs hq_ hP hD hS => ?_)
  obtain ⟨rfl, rfl⟩ := hq_
  refine zn_st (st2 := [.int (nI (Bool.toNat (zk_ix x ((a 0) 1))))]) rfl ?_
  refine zb_if_eq (tgt := 24) hx hb dX7_dropProof_9 (by decide) (fun c_9 => ?_) (fun c_9 => ?_)
  · have c_0 : zk_ix x (a 0 1) = false := c_9
    refine lv_aload_n hx hb dX7_dropProof_24 rfl (lv_at hl 0 rfl) ?_
    refine lv_iconst (v := nI (1)) hx hb dX7_dropProof_25 rfl ?_
    refine zk_callV0 fx (cm_fail l s0 b h (va_up f 9 (0)) (va_up a 1 (zp_cp (a 0) (a 1) 0 0 72)) 1) (lw_V q2342 q2344 qs36 q108 q2345) ⟨rfl, by decide, by decide, (show (parseMethodDescriptor yX7_fail.desc).map (fun d => d.parameters.length) = some 1 by decide +kernel)⟩ ⟨zk_le hR.1 rfl, zk_le hR.2.1 rfl⟩ ⟨zk_le hR.2.2.1 rfl, zk_le hR.2.2.2 rfl⟩ hP hD hS 0 rfl rfl 0 rfl hl.1 rfl (Nat.le_of_ble_eq_true rfl) dX7_dropProof_26 (fun v_ w_ H locs hq_ hP hD hS => ?_)
    obtain ⟨rfl, rfl⟩ := hq_
    refine zn_st (st2 := [.int (nI (0))]) rfl ?_
    exact zk_reti (v := nI (0)) fx eQ rfl (rfl) hP hD hS (Nat.le_of_ble_eq_true rfl) (Nat.le_of_ble_eq_true rfl) dX7_dropProof_29 (zm_Mf (by rw [zo_dropProof, if_neg (by rw [c_0]; decide)]) (by decide))
  · have c_0 : zk_ix x (a 0 1) = true := c_9
    obtain ⟨i, hi, rfl⟩ := zk_ix_of c_0 (by omega)
    have hm : (a 0) 1 ≤ 12 := ok1
    refine lv_aload_n hx hb dX7_dropProof_12 rfl (lv_at hl 0 rfl) ?_
    refine lv_aload_n hx hb dX7_dropProof_13 rfl (lv_at hl 0 rfl) ?_
    refine lv_iload_n hx hb dX7_dropProof_14 rfl (lv_at hl 1 rfl) ?_
    refine zk_callV0 fx (cm_drops l s0 b h (va_up f 9 (0)) (va_up a 1 (zp_cp (a 0) (a 1) 0 0 72)) i (hi) (by assumption)) (lw_V q2593 q2595 qs70 q108 q2596) ⟨rfl, by decide, by decide, (show (parseMethodDescriptor yX7_drops.desc).map (fun d => d.parameters.length) = some 1 by decide +kernel)⟩ ⟨zk_le hR.1 rfl, zk_le hR.2.1 rfl⟩ ⟨zk_le hR.2.2.1 rfl, zk_le hR.2.2.2 rfl⟩ hP hD hS 0 rfl rfl 0 rfl hl.1 rfl (Nat.le_of_ble_eq_true rfl) dX7_dropProof_15 (fun v_ w_ H locs hq_ hP hD hS => ?_)
    obtain ⟨rfl, rfl⟩ := hq_
    refine zn_st (st2 := [.int (nI ((a 0) 1 - 1)), .ref (h 0)]) rfl ?_
    refine zk_callV0 fx (cm_commit l s0 b h (va_up f 9 (0)) (va_up (va_up a 1 (zp_cp (a 0) (a 1) 0 0 72)) 0 (zp_drop (a 0) i)) (nI ((a 0) 1 - 1)) (hd0)) (lw_V q2350 q2352 qs38 q108 q2353) ⟨rfl, by decide, by decide, (show (parseMethodDescriptor yX7_commit.desc).map (fun d => d.parameters.length) = some 1 by decide +kernel)⟩ ⟨zk_le hR.1 rfl, zk_le hR.2.1 rfl⟩ ⟨zk_le hR.2.2.1 rfl, zk_le hR.2.2.2 rfl⟩ hP hD hS 0 rfl rfl 0 rfl hl.1 rfl (Nat.le_of_ble_eq_true rfl) dX7_dropProof_18 (fun v_ w_ H locs hq_ hP hD hS => ?_)
    obtain ⟨rfl, rfl⟩ := hq_
    refine zn_st (st2 := [.int (nI ((a 0) 1 - 1))]) rfl ?_
    refine lv_goto (tgt := 29) hx hb dX7_dropProof_21 (by decide) ?_
    exact zk_reti (v := nI ((a 0) 1 - 1)) fx eQ rfl (rfl) hP hD hS (Nat.le_of_ble_eq_true rfl) (Nat.le_of_ble_eq_true rfl) dX7_dropProof_29 (zm_Mc (by rw [zo_dropProof, if_pos c_0, nI_clamp (by omega)]))
set_option maxHeartbeats 4000000 in
set_option maxRecDepth 100000 in
theorem cm_cannotProve (l : Launch) (s0 : State) (b : Nat) (h f : Nat → Nat) (a : Nat → Nat → Nat) (x : Int32) (ok : zp_Ok (a 0)) : zk_C l s0 b yX7_cannotProve (ws_ yX7_cannotProve cX7_cannotProve 2 (some .int)) 1 22 0 0 [.ref (h 0), .int (x)] (zm_W s0 h f a) (fun r w => r = some (.int (nI (zp_prove (a 0) x))) ∧ w = zm_W s0 h f a) := by
  refine zk_mk (by decide) rfl ?_
  intro p e s m below meth c A R args Q fx hR eQ hP hD hS ls hl
  have hx := fx.1
  have hb := fx.2.1
  have hK := fx.2.2.2.2.2.2.2.2.1.K
  have hl : lv_has ls 2 [(0, .ref (h 0)), (1, .int (x))] := hl
  obtain ⟨ok0, ok1, ok2, ok3, ok4, ok5, ok6, okw, oke, okp⟩ := id ok
  refine lv_iload_n hx hb dX7_cannotProve_0 rfl (lv_at hl 1 rfl) ?_
  refine lv_iconst (v := nI (0)) hx hb dX7_cannotProve_1 rfl ?_
  refine lv_bipush (v := nI (99)) hx hb dX7_cannotProve_2 (by decide) ?_
  refine zk_callSn fx (cm_in l s0 b (x) (nI (0)) (nI (99))) (lw_S q2339 q2340 q108 q2341) ⟨by decide, by decide, (show (parseMethodDescriptor yX7_in.desc).map (fun d => d.parameters.length) = some 3 by decide +kernel)⟩ ⟨zk_le hR.1 rfl, zk_le hR.2.1 rfl⟩ ⟨zk_le hR.2.2.1 rfl, zk_le hR.2.2.2 rfl⟩ hP hD hS hl.1 rfl (Nat.le_of_ble_eq_true rfl) dX7_cannotProve_4 (fun v_ H locs hq_ hP hD hS => ?_)
  obtain rfl := hq_
  refine zn_st (st2 := [.int (nI (Bool.toNat (zk_in x 0 99)))]) rfl ?_
  refine zb_if_ne (tgt := 14) hx hb dX7_cannotProve_7 (by decide) (fun c_7 => ?_) (fun c_7 => ?_)
  · refine lv_aload_n hx hb dX7_cannotProve_14 rfl (lv_at hl 0 rfl) ?_
    refine zm_get (f := f) fx 0 (by decide) q2241 (v := .ref (h 1)) rfl hP dX7_cannotProve_15 ?_
    refine lv_iconst (v := nI (1)) hx hb dX7_cannotProve_18 rfl ?_
    refine zn_ald hx hb hK hP 1 (g := a 0) rfl (i := 1) (by omega) (by decide) dX7_cannotProve_19 ?_
    refine lv_bipush (v := nI (12)) hx hb dX7_cannotProve_20 (by decide) ?_
    refine zn_icmp_ne (tgt := 29) hx hb dX7_cannotProve_22 (by decide) (by omega) (by omega) (fun c_22 => ?_) (fun c_22 => ?_)
    · refine lv_iconst (v := nI (0)) hx hb dX7_cannotProve_29 rfl ?_
      exact zk_reti (v := nI (0)) fx eQ rfl (rfl) hP hD hS (Nat.le_of_ble_eq_true rfl) (Nat.le_of_ble_eq_true rfl) dX7_cannotProve_30 (⟨zk_eqr (by unfold zp_prove; rw [if_pos c_7]; rw [if_neg c_22]), rfl⟩)
    · refine lv_iconst (v := nI (2)) hx hb dX7_cannotProve_25 rfl ?_
      refine lv_goto (tgt := 30) hx hb dX7_cannotProve_26 (by decide) ?_
      exact zk_reti (v := nI (2)) fx eQ rfl (rfl) hP hD hS (Nat.le_of_ble_eq_true rfl) (Nat.le_of_ble_eq_true rfl) dX7_cannotProve_30 (⟨zk_eqr (by unfold zp_prove; rw [if_pos c_7]; rw [if_pos c_22]), rfl⟩)
  · refine lv_iconst (v := nI (1)) hx hb dX7_cannotProve_10 rfl ?_
    refine lv_goto (tgt := 30) hx hb dX7_cannotProve_11 (by decide) ?_
    exact zk_reti (v := nI (1)) fx eQ rfl (rfl) hP hD hS (Nat.le_of_ble_eq_true rfl) (Nat.le_of_ble_eq_true rfl) dX7_cannotProve_30 (⟨zk_eqr (by unfold zp_prove; rw [if_neg (by rw [c_7]; decide)]), rfl⟩)
set_option maxHeartbeats 4000000 in
set_option maxRecDepth 100000 in
theorem cm_proves (l : Launch) (s0 : State) (b : Nat) (h f : Nat → Nat) (a : Nat → Nat → Nat) (i : Nat) (h7 : a 0 1 < 12) : zk_C l s0 b yX7_proves (ws_ yX7_proves cX7_proves 2 (some .int)) 0 0 0 0 [.ref (h 0), .int (nI (i))] (zm_W s0 h f a) (fun r w => r = some (.int (nI (a 0 1))) ∧ w = zm_W s0 h f (va_up a 0 (zp_proves (a 0) i))) := by
  refine zk_mk (by decide) rfl ?_
  intro p e s m below meth c A R args Q fx hR eQ hP hD hS ls hl
  have hx := fx.1
  have hb := fx.2.1
  have hK := fx.2.2.2.2.2.2.2.2.1.K
  have hl : lv_has ls 2 [(0, .ref (h 0)), (1, .int (nI (i)))] := hl
  refine lv_aload_n hx hb dX7_proves_0 rfl (lv_at hl 0 rfl) ?_
  refine zm_get (f := f) fx 0 (by decide) q2241 (v := .ref (h 1)) rfl hP dX7_proves_1 ?_
  refine lv_bipush (v := nI (48)) hx hb dX7_proves_4 (by decide) ?_
  refine lv_iconst (v := nI (2)) hx hb dX7_proves_6 rfl ?_
  refine lv_aload_n hx hb dX7_proves_7 rfl (lv_at hl 0 rfl) ?_
  refine zm_get (f := f) fx 0 (by decide) q2241 (v := .ref (h 1)) rfl hP dX7_proves_8 ?_
  refine lv_iconst (v := nI (1)) hx hb dX7_proves_11 rfl ?_
  refine zn_ald hx hb hK hP 1 (g := a 0) rfl (i := 1) (by omega) (by decide) dX7_proves_12 ?_
  refine zn_imul hx hb dX7_proves_13 ?_
  refine zn_iadd hx hb dX7_proves_14 ?_
  refine lv_iconst (v := nI (0)) hx hb dX7_proves_15 rfl ?_
  refine zn_iadd hx hb dX7_proves_16 ?_
  refine lv_iload_n hx hb dX7_proves_17 rfl (lv_at hl 1 rfl) ?_
  refine zn_ast hx hb hK hP hD hS 1 (n := 72) rfl (i := (48 + (2 * ((a 0) 1))) + 0) (x := i) (by omega) (by decide) dX7_proves_18 (zm_seta 0 (by decide) 72 rfl (va_up (a 0) ((48 + (2 * ((a 0) 1))) + 0) i)) (fun H locs hP hD hS => ?_)
  obtain ⟨n1, en1⟩ : ∃ z_, z_ = va_up (a 0) ((48 + (2 * ((a 0) 1))) + 0) i := ⟨_, rfl⟩
  rw [← en1] at hP hD
  refine lv_aload_n hx hb dX7_proves_19 rfl (lv_at hl 0 rfl) ?_
  refine zm_get (f := f) fx 0 (by decide) q2241 (v := .ref (h 1)) rfl hP dX7_proves_20 ?_
  refine lv_bipush (v := nI (48)) hx hb dX7_proves_23 (by decide) ?_
  refine lv_iconst (v := nI (2)) hx hb dX7_proves_25 rfl ?_
  refine lv_aload_n hx hb dX7_proves_26 rfl (lv_at hl 0 rfl) ?_
  refine zm_get (f := f) fx 0 (by decide) q2241 (v := .ref (h 1)) rfl hP dX7_proves_27 ?_
  refine lv_iconst (v := nI (1)) hx hb dX7_proves_30 rfl ?_
  refine zn_ald hx hb hK hP 1 (g := n1) rfl (i := 1) (by omega) (by decide) dX7_proves_31 ?_
  refine zn_imul hx hb dX7_proves_32 ?_
  refine zn_top (y := nI (2 * (a 0 1))) (by rw [en1, zk_up_ne (by omega)]) ?_
  refine zn_iadd hx hb dX7_proves_33 ?_
  refine lv_iconst (v := nI (1)) hx hb dX7_proves_34 rfl ?_
  refine zn_iadd hx hb dX7_proves_35 ?_
  refine lv_aload_n hx hb dX7_proves_36 rfl (lv_at hl 0 rfl) ?_
  refine zm_get (f := f) fx 0 (by decide) q2241 (v := .ref (h 1)) rfl hP dX7_proves_37 ?_
  refine lv_iconst (v := nI (3)) hx hb dX7_proves_40 rfl ?_
  refine zn_ald hx hb hK hP 1 (g := n1) rfl (i := 3) (by omega) (by decide) dX7_proves_41 ?_
  refine zn_top (y := nI (a 0 3)) (by rw [en1, zk_up_ne (by omega)]) ?_
  refine zn_ast hx hb hK hP hD hS 1 (n := 72) rfl (i := (48 + (2 * (a 0 1))) + 1) (x := a 0 3) (by omega) (by decide) dX7_proves_42 (zm_seta 0 (by decide) 72 rfl (va_up n1 ((48 + (2 * (a 0 1))) + 1) (a 0 3))) (fun H locs hP hD hS => ?_)
  obtain ⟨n2, en2⟩ : ∃ z_, z_ = va_up n1 ((48 + (2 * (a 0 1))) + 1) (a 0 3) := ⟨_, rfl⟩
  rw [← en2] at hP hD
  refine lv_aload_n hx hb dX7_proves_43 rfl (lv_at hl 0 rfl) ?_
  refine zm_get (f := f) fx 0 (by decide) q2241 (v := .ref (h 1)) rfl hP dX7_proves_44 ?_
  refine lv_iconst (v := nI (1)) hx hb dX7_proves_47 rfl ?_
  refine lv_dup2_11 hx hb dX7_proves_48 rfl rfl ?_
  refine zn_ald hx hb hK hP 1 (g := n2) rfl (i := 1) (by omega) (by decide) dX7_proves_49 ?_
  refine lv_iconst (v := nI (1)) hx hb dX7_proves_50 rfl ?_
  refine zn_iadd hx hb dX7_proves_51 ?_
  refine zn_ast hx hb hK hP hD hS 1 (n := 72) rfl (i := 1) (x := (n2 1) + 1) (by omega) (by decide) dX7_proves_52 (zm_seta 0 (by decide) 72 rfl (va_up n2 1 ((n2 1) + 1))) (fun H locs hP hD hS => ?_)
  obtain ⟨n3, en3⟩ : ∃ z_, z_ = va_up n2 1 ((n2 1) + 1) := ⟨_, rfl⟩
  rw [← en3] at hP hD
  refine lv_aload_n hx hb dX7_proves_53 rfl (lv_at hl 0 rfl) ?_
  refine zm_get (f := f) fx 0 (by decide) q2241 (v := .ref (h 1)) rfl hP dX7_proves_54 ?_
  refine lv_iconst (v := nI (1)) hx hb dX7_proves_57 rfl ?_
  refine zn_ald hx hb hK hP 1 (g := n3) rfl (i := 1) (by omega) (by decide) dX7_proves_58 ?_
  refine lv_iconst (v := nI (1)) hx hb dX7_proves_59 rfl ?_
  refine zn_isub hx hb dX7_proves_60 (by rw [en3, zk_up_eq]; omega) ?_
  refine zn_top (y := nI (a 0 1)) (by rw [en3, zk_up_eq, en2, zk_up_ne (by omega), en1, zk_up_ne (by omega)]; exact congrArg nI (by omega)) ?_
  exact zk_reti (v := nI (a 0 1)) fx eQ rfl (rfl) hP hD hS (Nat.le_of_ble_eq_true rfl) (Nat.le_of_ble_eq_true rfl) dX7_proves_61 (⟨rfl, by rw [en3, en2, en1, zk_up_ne (k := 48 + (2 * (a 0 1)) + 1) (by omega), zk_up_ne (k := 48 + 2 * (a 0) 1 + 0) (by omega)]; rfl⟩)
set_option maxHeartbeats 4000000 in
set_option maxRecDepth 100000 in
theorem cm_addProof (l : Launch) (s0 : State) (b : Nat) (h f : Nat → Nat) (a : Nat → Nat → Nat) (x : Int32) (ok : zp_Ok (a 0)) (hd0 : f 10 ≤ 8) : zk_C l s0 b yX7_addProof (ws_ yX7_addProof cX7_addProof 3 (some .int)) 2 46 0 0 [.ref (h 0), .int (x)] (zm_W s0 h f a) (fun r w => zm_M s0 h f a (zo_addProof (a 0) x) r w) := by
  refine zk_mk (by decide) rfl ?_
  intro p e s m below meth c A R args Q fx hR eQ hP hD hS ls hl
  have hx := fx.1
  have hb := fx.2.1
  have hK := fx.2.2.2.2.2.2.2.2.1.K
  have hl : lv_has ls 3 [(0, .ref (h 0)), (1, .int (x))] := hl
  have ok9 := id ok
  obtain ⟨ok0, ok1, ok2, ok3, ok4, ok5, ok6, okw, oke, okp⟩ := id ok
  refine lv_aload_n hx hb dX7_addProof_0 rfl (lv_at hl 0 rfl) ?_
  refine zk_callV0 fx (cm_begin l s0 b h f a ) (lw_V q2325 q2327 qs34 q108 q2328) ⟨rfl, by decide, by decide, (show (parseMethodDescriptor yX7_begin.desc).map (fun d => d.parameters.length) = some 0 by decide +kernel)⟩ ⟨zk_le hR.1 rfl, zk_le hR.2.1 rfl⟩ ⟨zk_le hR.2.2.1 rfl, zk_le hR.2.2.2 rfl⟩ hP hD hS 0 rfl rfl 0 rfl hl.1 rfl (Nat.le_of_ble_eq_true rfl) dX7_addProof_1 (fun v_ w_ H locs hq_ hP hD hS => ?_)
  obtain ⟨rfl, rfl⟩ := hq_
  refine zn_st (st2 := []) rfl ?_
  refine lv_aload_n hx hb dX7_addProof_4 rfl (lv_at hl 0 rfl) ?_
  refine lv_iload_n hx hb dX7_addProof_5 rfl (lv_at hl 1 rfl) ?_
  refine zk_callV0 fx (cm_cannotProve l s0 b h (va_up f 9 (0)) (va_up a 1 (zp_cp (a 0) (a 1) 0 0 72)) x (ok)) (lw_V q2577 q2579 qs67 q108 q2580) ⟨rfl, by decide, by decide, (show (parseMethodDescriptor yX7_cannotProve.desc).map (fun d => d.parameters.length) = some 1 by decide +kernel)⟩ ⟨zk_le hR.1 rfl, zk_le hR.2.1 rfl⟩ ⟨zk_le hR.2.2.1 rfl, zk_le hR.2.2.2 rfl⟩ hP hD hS 0 rfl rfl 0 rfl hl.1 rfl (Nat.le_of_ble_eq_true rfl) dX7_addProof_6 (fun v_ w_ H locs hq_ hP hD hS => ?_)
  obtain ⟨rfl, rfl⟩ := hq_
  refine zn_st (st2 := [.int (nI (zp_prove (a 0) x))]) rfl ?_
  refine lv_istore_n (lv' := [(2, .int (nI (zp_prove (a 0) x))), (0, .ref (h 0)), (1, .int (x))]) hx hb dX7_addProof_9 rfl hl (by decide) rfl (fun ls hl => ?_)
  refine lv_iload_n hx hb dX7_addProof_10 rfl (lv_at hl 0 rfl) ?_
  refine zn_if_le (tgt := 22) hx hb dX7_addProof_11 (by decide) (zp_prove_le) (fun c_11 => ?_) (fun c_11 => ?_)
  · have c_0 : zp_prove (a 0) x = 0 := c_11
    obtain ⟨i, hi, hs, rfl⟩ := zp_prove_0 c_0
    refine lv_aload_n hx hb dX7_addProof_22 rfl (lv_at hl 1 rfl) ?_
    refine lv_aload_n hx hb dX7_addProof_23 rfl (lv_at hl 1 rfl) ?_
    refine lv_iload_n hx hb dX7_addProof_24 rfl (lv_at hl 2 rfl) ?_
    refine zk_callV0 fx (cm_proves l s0 b h (va_up f 9 (0)) (va_up a 1 (zp_cp (a 0) (a 1) 0 0 72)) i (show (a 0) 1 < 12 by omega)) (lw_V q2581 q2583 qs68 q108 q2584) ⟨rfl, by decide, by decide, (show (parseMethodDescriptor yX7_proves.desc).map (fun d => d.parameters.length) = some 1 by decide +kernel)⟩ ⟨zk_le hR.1 rfl, zk_le hR.2.1 rfl⟩ ⟨zk_le hR.2.2.1 rfl, zk_le hR.2.2.2 rfl⟩ hP hD hS 0 rfl rfl 0 rfl hl.1 rfl (Nat.le_of_ble_eq_true rfl) dX7_addProof_25 (fun v_ w_ H locs hq_ hP hD hS => ?_)
    obtain ⟨rfl, rfl⟩ := hq_
    refine zn_st (st2 := [.int (nI ((a 0) 1)), .ref (h 0)]) rfl ?_
    refine zk_callV0 fx (cm_commit l s0 b h (va_up f 9 (0)) (va_up (va_up a 1 (zp_cp (a 0) (a 1) 0 0 72)) 0 (zp_proves (a 0) i)) (nI ((a 0) 1)) (hd0)) (lw_V q2350 q2352 qs38 q108 q2353) ⟨rfl, by decide, by decide, (show (parseMethodDescriptor yX7_commit.desc).map (fun d => d.parameters.length) = some 1 by decide +kernel)⟩ ⟨zk_le hR.1 rfl, zk_le hR.2.1 rfl⟩ ⟨zk_le hR.2.2.1 rfl, zk_le hR.2.2.2 rfl⟩ hP hD hS 0 rfl rfl 0 rfl hl.1 rfl (Nat.le_of_ble_eq_true rfl) dX7_addProof_28 (fun v_ w_ H locs hq_ hP hD hS => ?_)
    obtain ⟨rfl, rfl⟩ := hq_
    refine zn_st (st2 := [.int (nI ((a 0) 1))]) rfl ?_
    exact zk_reti (v := nI ((a 0) 1)) fx eQ rfl (rfl) hP hD hS (Nat.le_of_ble_eq_true rfl) (Nat.le_of_ble_eq_true rfl) dX7_addProof_31 (zm_Mc (by rw [zo_addProof, if_pos c_0, nI_clamp (by omega)]))
  · refine lv_aload_n hx hb dX7_addProof_14 rfl (lv_at hl 1 rfl) ?_
    refine lv_iload_n hx hb dX7_addProof_15 rfl (lv_at hl 0 rfl) ?_
    refine zk_callV0 fx (cm_fail l s0 b h (va_up f 9 (0)) (va_up a 1 (zp_cp (a 0) (a 1) 0 0 72)) (zp_prove (a 0) x)) (lw_V q2342 q2344 qs36 q108 q2345) ⟨rfl, by decide, by decide, (show (parseMethodDescriptor yX7_fail.desc).map (fun d => d.parameters.length) = some 1 by decide +kernel)⟩ ⟨zk_le hR.1 rfl, zk_le hR.2.1 rfl⟩ ⟨zk_le hR.2.2.1 rfl, zk_le hR.2.2.2 rfl⟩ hP hD hS 0 rfl rfl 0 rfl hl.1 rfl (Nat.le_of_ble_eq_true rfl) dX7_addProof_16 (fun v_ w_ H locs hq_ hP hD hS => ?_)
    obtain ⟨rfl, rfl⟩ := hq_
    refine zn_st (st2 := [.int (nI (0))]) rfl ?_
    refine lv_goto (tgt := 31) hx hb dX7_addProof_19 (by decide) ?_
    exact zk_reti (v := nI (0)) fx eQ rfl (rfl) hP hD hS (Nat.le_of_ble_eq_true rfl) (Nat.le_of_ble_eq_true rfl) dX7_addProof_31 (zm_Mf (by rw [zo_addProof, if_neg (by omega)]) (by omega))
set_option maxHeartbeats 4000000 in
set_option maxRecDepth 100000 in
theorem cm_paper (l : Launch) (s0 : State) (b : Nat) (h f : Nat → Nat) (a : Nat → Nat → Nat) : zk_C l s0 b yX7_paper (ws_ yX7_paper cX7_paper 1 (some .int)) 1 21 0 0 [.ref (h 0)] (zm_W s0 h f a) (fun r w => zm_N s0 h f a 0 (.int (nI (a 0 2))) r w) := by
  refine zk_mk (by decide) rfl ?_
  intro p e s m below meth c A R args Q fx hR eQ hP hD hS ls hl
  have hx := fx.1
  have hb := fx.2.1
  have hK := fx.2.2.2.2.2.2.2.2.1.K
  have hl : lv_has ls 1 [(0, .ref (h 0))] := hl
  refine lv_aload_n hx hb dX7_paper_0 rfl (lv_at hl 0 rfl) ?_
  refine lv_aload_n hx hb dX7_paper_1 rfl (lv_at hl 0 rfl) ?_
  refine zm_get (f := f) fx 0 (by decide) q2241 (v := .ref (h 1)) rfl hP dX7_paper_2 ?_
  refine lv_iconst (v := nI (2)) hx hb dX7_paper_5 rfl ?_
  refine zn_ald hx hb hK hP 1 (g := a 0) rfl (i := 2) (by omega) (by decide) dX7_paper_6 ?_
  refine zk_callV0 fx (cm_plain l s0 b h f a (nI ((a 0) 2))) (lw_V q2386 q2388 qs43 q108 q2389) ⟨rfl, by decide, by decide, (show (parseMethodDescriptor yX7_plain.desc).map (fun d => d.parameters.length) = some 1 by decide +kernel)⟩ ⟨zk_le hR.1 rfl, zk_le hR.2.1 rfl⟩ ⟨zk_le hR.2.2.1 rfl, zk_le hR.2.2.2 rfl⟩ hP hD hS 0 rfl rfl 0 rfl hl.1 rfl (Nat.le_of_ble_eq_true rfl) dX7_paper_7 (fun v_ w_ H locs hq_ hP hD hS => ?_)
  obtain ⟨rfl, rfl⟩ := hq_
  refine zn_st (st2 := [.int (nI ((a 0) 2))]) rfl ?_
  exact zk_reti (v := nI ((a 0) 2)) fx eQ rfl (rfl) hP hD hS (Nat.le_of_ble_eq_true rfl) (Nat.le_of_ble_eq_true rfl) dX7_paper_10 (⟨rfl, _, _, rfl, ⟨rfl, rfl, rfl, rfl, rfl, rfl, rfl, rfl⟩, ⟨rfl, rfl⟩, rfl, rfl⟩)
set_option maxHeartbeats 4000000 in
set_option maxRecDepth 100000 in
theorem cm_hour (l : Launch) (s0 : State) (b : Nat) (h f : Nat → Nat) (a : Nat → Nat → Nat) : zk_C l s0 b yX7_hour (ws_ yX7_hour cX7_hour 1 (some .int)) 1 21 0 0 [.ref (h 0)] (zm_W s0 h f a) (fun r w => zm_N s0 h f a 0 (.int (nI (a 0 3))) r w) := by
  refine zk_mk (by decide) rfl ?_
  intro p e s m below meth c A R args Q fx hR eQ hP hD hS ls hl
  have hx := fx.1
  have hb := fx.2.1
  have hK := fx.2.2.2.2.2.2.2.2.1.K
  have hl : lv_has ls 1 [(0, .ref (h 0))] := hl
  refine lv_aload_n hx hb dX7_hour_0 rfl (lv_at hl 0 rfl) ?_
  refine lv_aload_n hx hb dX7_hour_1 rfl (lv_at hl 0 rfl) ?_
  refine zm_get (f := f) fx 0 (by decide) q2241 (v := .ref (h 1)) rfl hP dX7_hour_2 ?_
  refine lv_iconst (v := nI (3)) hx hb dX7_hour_5 rfl ?_
  refine zn_ald hx hb hK hP 1 (g := a 0) rfl (i := 3) (by omega) (by decide) dX7_hour_6 ?_
  refine zk_callV0 fx (cm_plain l s0 b h f a (nI ((a 0) 3))) (lw_V q2386 q2388 qs43 q108 q2389) ⟨rfl, by decide, by decide, (show (parseMethodDescriptor yX7_plain.desc).map (fun d => d.parameters.length) = some 1 by decide +kernel)⟩ ⟨zk_le hR.1 rfl, zk_le hR.2.1 rfl⟩ ⟨zk_le hR.2.2.1 rfl, zk_le hR.2.2.2 rfl⟩ hP hD hS 0 rfl rfl 0 rfl hl.1 rfl (Nat.le_of_ble_eq_true rfl) dX7_hour_7 (fun v_ w_ H locs hq_ hP hD hS => ?_)
  obtain ⟨rfl, rfl⟩ := hq_
  refine zn_st (st2 := [.int (nI ((a 0) 3))]) rfl ?_
  exact zk_reti (v := nI ((a 0) 3)) fx eQ rfl (rfl) hP hD hS (Nat.le_of_ble_eq_true rfl) (Nat.le_of_ble_eq_true rfl) dX7_hour_10 (⟨rfl, _, _, rfl, ⟨rfl, rfl, rfl, rfl, rfl, rfl, rfl, rfl⟩, ⟨rfl, rfl⟩, rfl, rfl⟩)
set_option maxHeartbeats 4000000 in
set_option maxRecDepth 100000 in
theorem cm_pressColour (l : Launch) (s0 : State) (b : Nat) (h f : Nat → Nat) (a : Nat → Nat → Nat) : zk_C l s0 b yX7_pressColour (ws_ yX7_pressColour cX7_pressColour 1 (some .int)) 1 21 0 0 [.ref (h 0)] (zm_W s0 h f a) (fun r w => zm_N s0 h f a 0 (.int (nI (a 0 4))) r w) := by
  refine zk_mk (by decide) rfl ?_
  intro p e s m below meth c A R args Q fx hR eQ hP hD hS ls hl
  have hx := fx.1
  have hb := fx.2.1
  have hK := fx.2.2.2.2.2.2.2.2.1.K
  have hl : lv_has ls 1 [(0, .ref (h 0))] := hl
  refine lv_aload_n hx hb dX7_pressColour_0 rfl (lv_at hl 0 rfl) ?_
  refine lv_aload_n hx hb dX7_pressColour_1 rfl (lv_at hl 0 rfl) ?_
  refine zm_get (f := f) fx 0 (by decide) q2241 (v := .ref (h 1)) rfl hP dX7_pressColour_2 ?_
  refine lv_iconst (v := nI (4)) hx hb dX7_pressColour_5 rfl ?_
  refine zn_ald hx hb hK hP 1 (g := a 0) rfl (i := 4) (by omega) (by decide) dX7_pressColour_6 ?_
  refine zk_callV0 fx (cm_plain l s0 b h f a (nI ((a 0) 4))) (lw_V q2386 q2388 qs43 q108 q2389) ⟨rfl, by decide, by decide, (show (parseMethodDescriptor yX7_plain.desc).map (fun d => d.parameters.length) = some 1 by decide +kernel)⟩ ⟨zk_le hR.1 rfl, zk_le hR.2.1 rfl⟩ ⟨zk_le hR.2.2.1 rfl, zk_le hR.2.2.2 rfl⟩ hP hD hS 0 rfl rfl 0 rfl hl.1 rfl (Nat.le_of_ble_eq_true rfl) dX7_pressColour_7 (fun v_ w_ H locs hq_ hP hD hS => ?_)
  obtain ⟨rfl, rfl⟩ := hq_
  refine zn_st (st2 := [.int (nI ((a 0) 4))]) rfl ?_
  exact zk_reti (v := nI ((a 0) 4)) fx eQ rfl (rfl) hP hD hS (Nat.le_of_ble_eq_true rfl) (Nat.le_of_ble_eq_true rfl) dX7_pressColour_10 (⟨rfl, _, _, rfl, ⟨rfl, rfl, rfl, rfl, rfl, rfl, rfl, rfl⟩, ⟨rfl, rfl⟩, rfl, rfl⟩)
set_option maxHeartbeats 4000000 in
set_option maxRecDepth 100000 in
theorem cm_editionCount (l : Launch) (s0 : State) (b : Nat) (h f : Nat → Nat) (a : Nat → Nat → Nat) : zk_C l s0 b yX7_editionCount (ws_ yX7_editionCount cX7_editionCount 1 (some .int)) 1 21 0 0 [.ref (h 0)] (zm_W s0 h f a) (fun r w => zm_N s0 h f a 0 (.int (nI (a 0 0))) r w) := by
  refine zk_mk (by decide) rfl ?_
  intro p e s m below meth c A R args Q fx hR eQ hP hD hS ls hl
  have hx := fx.1
  have hb := fx.2.1
  have hK := fx.2.2.2.2.2.2.2.2.1.K
  have hl : lv_has ls 1 [(0, .ref (h 0))] := hl
  refine lv_aload_n hx hb dX7_editionCount_0 rfl (lv_at hl 0 rfl) ?_
  refine lv_aload_n hx hb dX7_editionCount_1 rfl (lv_at hl 0 rfl) ?_
  refine zm_get (f := f) fx 0 (by decide) q2241 (v := .ref (h 1)) rfl hP dX7_editionCount_2 ?_
  refine lv_iconst (v := nI (0)) hx hb dX7_editionCount_5 rfl ?_
  refine zn_ald hx hb hK hP 1 (g := a 0) rfl (i := 0) (by omega) (by decide) dX7_editionCount_6 ?_
  refine zk_callV0 fx (cm_plain l s0 b h f a (nI ((a 0) 0))) (lw_V q2386 q2388 qs43 q108 q2389) ⟨rfl, by decide, by decide, (show (parseMethodDescriptor yX7_plain.desc).map (fun d => d.parameters.length) = some 1 by decide +kernel)⟩ ⟨zk_le hR.1 rfl, zk_le hR.2.1 rfl⟩ ⟨zk_le hR.2.2.1 rfl, zk_le hR.2.2.2 rfl⟩ hP hD hS 0 rfl rfl 0 rfl hl.1 rfl (Nat.le_of_ble_eq_true rfl) dX7_editionCount_7 (fun v_ w_ H locs hq_ hP hD hS => ?_)
  obtain ⟨rfl, rfl⟩ := hq_
  refine zn_st (st2 := [.int (nI ((a 0) 0))]) rfl ?_
  exact zk_reti (v := nI ((a 0) 0)) fx eQ rfl (rfl) hP hD hS (Nat.le_of_ble_eq_true rfl) (Nat.le_of_ble_eq_true rfl) dX7_editionCount_10 (⟨rfl, _, _, rfl, ⟨rfl, rfl, rfl, rfl, rfl, rfl, rfl, rfl⟩, ⟨rfl, rfl⟩, rfl, rfl⟩)
set_option maxHeartbeats 4000000 in
set_option maxRecDepth 100000 in
theorem cm_proofCount (l : Launch) (s0 : State) (b : Nat) (h f : Nat → Nat) (a : Nat → Nat → Nat) : zk_C l s0 b yX7_proofCount (ws_ yX7_proofCount cX7_proofCount 1 (some .int)) 1 21 0 0 [.ref (h 0)] (zm_W s0 h f a) (fun r w => zm_N s0 h f a 0 (.int (nI (a 0 1))) r w) := by
  refine zk_mk (by decide) rfl ?_
  intro p e s m below meth c A R args Q fx hR eQ hP hD hS ls hl
  have hx := fx.1
  have hb := fx.2.1
  have hK := fx.2.2.2.2.2.2.2.2.1.K
  have hl : lv_has ls 1 [(0, .ref (h 0))] := hl
  refine lv_aload_n hx hb dX7_proofCount_0 rfl (lv_at hl 0 rfl) ?_
  refine lv_aload_n hx hb dX7_proofCount_1 rfl (lv_at hl 0 rfl) ?_
  refine zm_get (f := f) fx 0 (by decide) q2241 (v := .ref (h 1)) rfl hP dX7_proofCount_2 ?_
  refine lv_iconst (v := nI (1)) hx hb dX7_proofCount_5 rfl ?_
  refine zn_ald hx hb hK hP 1 (g := a 0) rfl (i := 1) (by omega) (by decide) dX7_proofCount_6 ?_
  refine zk_callV0 fx (cm_plain l s0 b h f a (nI ((a 0) 1))) (lw_V q2386 q2388 qs43 q108 q2389) ⟨rfl, by decide, by decide, (show (parseMethodDescriptor yX7_plain.desc).map (fun d => d.parameters.length) = some 1 by decide +kernel)⟩ ⟨zk_le hR.1 rfl, zk_le hR.2.1 rfl⟩ ⟨zk_le hR.2.2.1 rfl, zk_le hR.2.2.2 rfl⟩ hP hD hS 0 rfl rfl 0 rfl hl.1 rfl (Nat.le_of_ble_eq_true rfl) dX7_proofCount_7 (fun v_ w_ H locs hq_ hP hD hS => ?_)
  obtain ⟨rfl, rfl⟩ := hq_
  refine zn_st (st2 := [.int (nI ((a 0) 1))]) rfl ?_
  exact zk_reti (v := nI ((a 0) 1)) fx eQ rfl (rfl) hP hD hS (Nat.le_of_ble_eq_true rfl) (Nat.le_of_ble_eq_true rfl) dX7_proofCount_10 (⟨rfl, _, _, rfl, ⟨rfl, rfl, rfl, rfl, rfl, rfl, rfl, rfl⟩, ⟨rfl, rfl⟩, rfl, rfl⟩)
set_option maxHeartbeats 4000000 in
set_option maxRecDepth 100000 in
theorem cm_minutes (l : Launch) (s0 : State) (b : Nat) (h f : Nat → Nat) (a : Nat → Nat → Nat) : zk_C l s0 b yX7_minutes (ws_ yX7_minutes cX7_minutes 1 (some .int)) 1 21 0 0 [.ref (h 0)] (zm_W s0 h f a) (fun r w => zm_N s0 h f a 0 (.int (nI (a 0 5))) r w) := by
  refine zk_mk (by decide) rfl ?_
  intro p e s m below meth c A R args Q fx hR eQ hP hD hS ls hl
  have hx := fx.1
  have hb := fx.2.1
  have hK := fx.2.2.2.2.2.2.2.2.1.K
  have hl : lv_has ls 1 [(0, .ref (h 0))] := hl
  refine lv_aload_n hx hb dX7_minutes_0 rfl (lv_at hl 0 rfl) ?_
  refine lv_aload_n hx hb dX7_minutes_1 rfl (lv_at hl 0 rfl) ?_
  refine zm_get (f := f) fx 0 (by decide) q2241 (v := .ref (h 1)) rfl hP dX7_minutes_2 ?_
  refine lv_iconst (v := nI (5)) hx hb dX7_minutes_5 rfl ?_
  refine zn_ald hx hb hK hP 1 (g := a 0) rfl (i := 5) (by omega) (by decide) dX7_minutes_6 ?_
  refine zk_callV0 fx (cm_plain l s0 b h f a (nI ((a 0) 5))) (lw_V q2386 q2388 qs43 q108 q2389) ⟨rfl, by decide, by decide, (show (parseMethodDescriptor yX7_plain.desc).map (fun d => d.parameters.length) = some 1 by decide +kernel)⟩ ⟨zk_le hR.1 rfl, zk_le hR.2.1 rfl⟩ ⟨zk_le hR.2.2.1 rfl, zk_le hR.2.2.2 rfl⟩ hP hD hS 0 rfl rfl 0 rfl hl.1 rfl (Nat.le_of_ble_eq_true rfl) dX7_minutes_7 (fun v_ w_ H locs hq_ hP hD hS => ?_)
  obtain ⟨rfl, rfl⟩ := hq_
  refine zn_st (st2 := [.int (nI ((a 0) 5))]) rfl ?_
  exact zk_reti (v := nI ((a 0) 5)) fx eQ rfl (rfl) hP hD hS (Nat.le_of_ble_eq_true rfl) (Nat.le_of_ble_eq_true rfl) dX7_minutes_10 (⟨rfl, _, _, rfl, ⟨rfl, rfl, rfl, rfl, rfl, rfl, rfl, rfl⟩, ⟨rfl, rfl⟩, rfl, rfl⟩)
set_option maxHeartbeats 4000000 in
set_option maxRecDepth 100000 in
theorem cm_poured (l : Launch) (s0 : State) (b : Nat) (h f : Nat → Nat) (a : Nat → Nat → Nat) : zk_C l s0 b yX7_poured (ws_ yX7_poured cX7_poured 1 (some .int)) 1 21 0 0 [.ref (h 0)] (zm_W s0 h f a) (fun r w => zm_N s0 h f a 0 (.int (nI (a 0 6))) r w) := by
  refine zk_mk (by decide) rfl ?_
  intro p e s m below meth c A R args Q fx hR eQ hP hD hS ls hl
  have hx := fx.1
  have hb := fx.2.1
  have hK := fx.2.2.2.2.2.2.2.2.1.K
  have hl : lv_has ls 1 [(0, .ref (h 0))] := hl
  refine lv_aload_n hx hb dX7_poured_0 rfl (lv_at hl 0 rfl) ?_
  refine lv_aload_n hx hb dX7_poured_1 rfl (lv_at hl 0 rfl) ?_
  refine zm_get (f := f) fx 0 (by decide) q2241 (v := .ref (h 1)) rfl hP dX7_poured_2 ?_
  refine lv_bipush (v := nI (6)) hx hb dX7_poured_5 (by decide) ?_
  refine zn_ald hx hb hK hP 1 (g := a 0) rfl (i := 6) (by omega) (by decide) dX7_poured_7 ?_
  refine zk_callV0 fx (cm_plain l s0 b h f a (nI ((a 0) 6))) (lw_V q2386 q2388 qs43 q108 q2389) ⟨rfl, by decide, by decide, (show (parseMethodDescriptor yX7_plain.desc).map (fun d => d.parameters.length) = some 1 by decide +kernel)⟩ ⟨zk_le hR.1 rfl, zk_le hR.2.1 rfl⟩ ⟨zk_le hR.2.2.1 rfl, zk_le hR.2.2.2 rfl⟩ hP hD hS 0 rfl rfl 0 rfl hl.1 rfl (Nat.le_of_ble_eq_true rfl) dX7_poured_8 (fun v_ w_ H locs hq_ hP hD hS => ?_)
  obtain ⟨rfl, rfl⟩ := hq_
  refine zn_st (st2 := [.int (nI ((a 0) 6))]) rfl ?_
  exact zk_reti (v := nI ((a 0) 6)) fx eQ rfl (rfl) hP hD hS (Nat.le_of_ble_eq_true rfl) (Nat.le_of_ble_eq_true rfl) dX7_poured_11 (⟨rfl, _, _, rfl, ⟨rfl, rfl, rfl, rfl, rfl, rfl, rfl, rfl⟩, ⟨rfl, rfl⟩, rfl, rfl⟩)
set_option maxHeartbeats 4000000 in
set_option maxRecDepth 100000 in
theorem cm_used (l : Launch) (s0 : State) (b : Nat) (h f : Nat → Nat) (a : Nat → Nat → Nat) : zk_C l s0 b yX7_used (ws_ yX7_used cX7_used 1 (some .int)) 1 21 0 0 [.ref (h 0)] (zm_W s0 h f a) (fun r w => zm_N s0 h f a 0 (.int (nI (a 0 7))) r w) := by
  refine zk_mk (by decide) rfl ?_
  intro p e s m below meth c A R args Q fx hR eQ hP hD hS ls hl
  have hx := fx.1
  have hb := fx.2.1
  have hK := fx.2.2.2.2.2.2.2.2.1.K
  have hl : lv_has ls 1 [(0, .ref (h 0))] := hl
  refine lv_aload_n hx hb dX7_used_0 rfl (lv_at hl 0 rfl) ?_
  refine lv_aload_n hx hb dX7_used_1 rfl (lv_at hl 0 rfl) ?_
  refine zm_get (f := f) fx 0 (by decide) q2241 (v := .ref (h 1)) rfl hP dX7_used_2 ?_
  refine lv_bipush (v := nI (7)) hx hb dX7_used_5 (by decide) ?_
  refine zn_ald hx hb hK hP 1 (g := a 0) rfl (i := 7) (by omega) (by decide) dX7_used_7 ?_
  refine zk_callV0 fx (cm_plain l s0 b h f a (nI ((a 0) 7))) (lw_V q2386 q2388 qs43 q108 q2389) ⟨rfl, by decide, by decide, (show (parseMethodDescriptor yX7_plain.desc).map (fun d => d.parameters.length) = some 1 by decide +kernel)⟩ ⟨zk_le hR.1 rfl, zk_le hR.2.1 rfl⟩ ⟨zk_le hR.2.2.1 rfl, zk_le hR.2.2.2 rfl⟩ hP hD hS 0 rfl rfl 0 rfl hl.1 rfl (Nat.le_of_ble_eq_true rfl) dX7_used_8 (fun v_ w_ H locs hq_ hP hD hS => ?_)
  obtain ⟨rfl, rfl⟩ := hq_
  refine zn_st (st2 := [.int (nI ((a 0) 7))]) rfl ?_
  exact zk_reti (v := nI ((a 0) 7)) fx eQ rfl (rfl) hP hD hS (Nat.le_of_ble_eq_true rfl) (Nat.le_of_ble_eq_true rfl) dX7_used_11 (⟨rfl, _, _, rfl, ⟨rfl, rfl, rfl, rfl, rfl, rfl, rfl, rfl⟩, ⟨rfl, rfl⟩, rfl, rfl⟩)
set_option maxHeartbeats 4000000 in
set_option maxRecDepth 100000 in
theorem cm_thrown (l : Launch) (s0 : State) (b : Nat) (h f : Nat → Nat) (a : Nat → Nat → Nat) : zk_C l s0 b yX7_thrown (ws_ yX7_thrown cX7_thrown 1 (some .int)) 0 0 0 0 [.ref (h 0)] (zm_W s0 h f a) (fun r w => r = some (.int (nI (f 9))) ∧ w = zm_W s0 h f a) := by
  refine zk_mk (by decide) rfl ?_
  intro p e s m below meth c A R args Q fx hR eQ hP hD hS ls hl
  have hx := fx.1
  have hb := fx.2.1
  have hK := fx.2.2.2.2.2.2.2.2.1.K
  have hl : lv_has ls 1 [(0, .ref (h 0))] := hl
  refine lv_aload_n hx hb dX7_thrown_0 rfl (lv_at hl 0 rfl) ?_
  refine zm_get (f := f) fx 9 (by decide) q2250 (v := .int (nI (f 9))) rfl hP dX7_thrown_1 ?_
  exact zk_reti (v := nI (f 9)) fx eQ rfl (rfl) hP hD hS (Nat.le_of_ble_eq_true rfl) (Nat.le_of_ble_eq_true rfl) dX7_thrown_4 (⟨rfl, rfl⟩)
set_option maxHeartbeats 4000000 in
set_option maxRecDepth 100000 in
theorem cm_ink (l : Launch) (s0 : State) (b : Nat) (h f : Nat → Nat) (a : Nat → Nat → Nat) (x : Int32) : zk_C l s0 b yX7_ink (ws_ yX7_ink cX7_ink 2 (some .int)) 2 42 0 0 [.ref (h 0), .int (x)] (zm_W s0 h f a) (fun r w => zm_N s0 h f a (Bool.toNat (!(zk_in x 0 9))) (.int (nI (if zk_in x 0 9 = true then a 0 (8 + x.toNatClampNeg) else 0))) r w) := by
  refine zk_mk (by decide) rfl ?_
  intro p e s m below meth c A R args Q fx hR eQ hP hD hS ls hl
  have hx := fx.1
  have hb := fx.2.1
  have hK := fx.2.2.2.2.2.2.2.2.1.K
  have hl : lv_has ls 2 [(0, .ref (h 0)), (1, .int (x))] := hl
  refine lv_aload_n hx hb dX7_ink_0 rfl (lv_at hl 0 rfl) ?_
  refine lv_iload_n hx hb dX7_ink_1 rfl (lv_at hl 1 rfl) ?_
  refine zk_callSn fx (cm_isColour l s0 b (x)) (lw_S q2336 q2337 q108 q2338) ⟨by decide, by decide, (show (parseMethodDescriptor yX7_isColour.desc).map (fun d => d.parameters.length) = some 1 by decide +kernel)⟩ ⟨zk_le hR.1 rfl, zk_le hR.2.1 rfl⟩ ⟨zk_le hR.2.2.1 rfl, zk_le hR.2.2.2 rfl⟩ hP hD hS hl.1 rfl (Nat.le_of_ble_eq_true rfl) dX7_ink_2 (fun v_ H locs hq_ hP hD hS => ?_)
  obtain rfl := hq_
  refine zn_st (st2 := [.int (nI (Bool.toNat (zk_in x 0 9))), .ref (h 0)]) rfl ?_
  refine zk_callV0 fx (cm_checked l s0 b h f a (zk_in x 0 9)) (lw_V q2378 q2380 qs42 q108 q2381) ⟨rfl, by decide, by decide, (show (parseMethodDescriptor yX7_checked.desc).map (fun d => d.parameters.length) = some 1 by decide +kernel)⟩ ⟨zk_le hR.1 rfl, zk_le hR.2.1 rfl⟩ ⟨zk_le hR.2.2.1 rfl, zk_le hR.2.2.2 rfl⟩ hP hD hS 0 rfl rfl 0 rfl hl.1 rfl (Nat.le_of_ble_eq_true rfl) dX7_ink_5 (fun v_ w_ H locs hq_ hP hD hS => ?_)
  obtain ⟨rfl, rfl⟩ := hq_
  refine zn_st (st2 := [.int (nI (Bool.toNat (!(zk_in x 0 9))))]) rfl ?_
  refine zb_if_le (tgt := 15) hx hb dX7_ink_8 (by decide) (fun c_8 => ?_) (fun c_8 => ?_)
  · obtain ⟨i, -, hi, rfl⟩ := zk_in_of c_8 (by decide) (by decide)
    refine lv_aload_n hx hb dX7_ink_15 rfl (lv_at hl 0 rfl) ?_
    refine zm_get (f := (va_up f 9 (Bool.toNat (!(zk_in (nI i) 0 9))))) fx 0 (by decide) q2241 (v := .ref (h 1)) rfl hP dX7_ink_16 ?_
    refine lv_bipush (v := nI (8)) hx hb dX7_ink_19 (by decide) ?_
    refine lv_iload_n hx hb dX7_ink_21 rfl (lv_at hl 1 rfl) ?_
    refine zn_iadd hx hb dX7_ink_22 ?_
    refine zn_ald hx hb hK hP 1 (g := a 0) rfl (i := 8 + i) (by omega) (by decide) dX7_ink_23 ?_
    exact zk_reti (v := nI ((a 0) (8 + i))) fx eQ rfl (rfl) hP hD hS (Nat.le_of_ble_eq_true rfl) (Nat.le_of_ble_eq_true rfl) dX7_ink_24 (⟨by rw [if_pos c_8, nI_clamp (by omega)], _, _, rfl, ⟨rfl, rfl, rfl, rfl, rfl, rfl, rfl, rfl⟩, ⟨rfl, rfl⟩, rfl, rfl⟩)
  · refine lv_iconst (v := nI (0)) hx hb dX7_ink_11 rfl ?_
    refine lv_goto (tgt := 24) hx hb dX7_ink_12 (by decide) ?_
    exact zk_reti (v := nI (0)) fx eQ rfl (rfl) hP hD hS (Nat.le_of_ble_eq_true rfl) (Nat.le_of_ble_eq_true rfl) dX7_ink_24 (⟨by rw [if_neg (by rw [c_8]; decide)], _, _, rfl, ⟨rfl, rfl, rfl, rfl, rfl, rfl, rfl, rfl⟩, ⟨rfl, rfl⟩, rfl, rfl⟩)
