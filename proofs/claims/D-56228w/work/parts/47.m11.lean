/-! THE REFERENCE, part 11 (printed by prog/m11.py) -/
set_option maxRecDepth 100000
set_option maxHeartbeats 4000000 in
set_option maxRecDepth 100000 in
theorem cm_why (l : Launch) (s0 : State) (b : Nat) (h f : Nat → Nat) (a : Nat → Nat → Nat) (d_ : Nat) (x u : Int32) (h8 : d_ ≤ 8) (ok : zp_Ok (a 0)) : zk_C l s0 b yX7_why (ws_ yX7_why cX7_why 4 (some .int)) 3 64 0 0 [.ref (h 0), .int (nI (d_)), .int (x), .int (u)] (zm_W s0 h f a) (fun r w => r = some (.int (nI (zt_why (a 0) d_ x u))) ∧ w = zm_W s0 h f a) := by
  refine zk_mk (by decide) rfl ?_
  intro p e s m below meth c A R args Q fx hR eQ hP hD hS ls hl
  have hx := fx.1
  have hb := fx.2.1
  have hK := fx.2.2.2.2.2.2.2.2.1.K
  have hl : lv_has ls 4 [(0, .ref (h 0)), (1, .int (nI (d_))), (2, .int (x)), (3, .int (u))] := hl
  obtain ⟨ok0, ok1, ok2, ok3, ok4, ok5, ok6, okw, oke, okp⟩ := id ok
  refine lv_iload_n hx hb dX7_why_0 rfl (lv_at hl 1 rfl) ?_
  have sw_ : d_ = 0 ∨ d_ = 1 ∨ d_ = 2 ∨ d_ = 3 ∨ d_ = 4 ∨ d_ = 5 ∨ d_ = 6 ∨ d_ = 7 ∨ 7 < d_ := by omega
  rcases sw_ with sw_ | sw_ | sw_ | sw_ | sw_ | sw_ | sw_ | sw_ | sw_
  · refine zn_swin (tgt := 48) hx hb dX7_why_1 0 sw_ (by decide) (by decide) rfl (by decide) ?_
    refine lv_aload_n hx hb dX7_why_48 rfl (lv_at hl 0 rfl) ?_
    refine lv_iload_n hx hb dX7_why_49 rfl (lv_at hl 2 rfl) ?_
    refine lv_iload_n hx hb dX7_why_50 rfl (lv_at hl 3 rfl) ?_
    refine zk_callV0 fx (cm_cannotPour l s0 b h f a x u (ok)) (lw_V q2332 q2334 qs35 q108 q2335) ⟨rfl, by decide, by decide, (show (parseMethodDescriptor yX7_cannotPour.desc).map (fun d => d.parameters.length) = some 2 by decide +kernel)⟩ ⟨zk_le hR.1 rfl, zk_le hR.2.1 rfl⟩ ⟨zk_le hR.2.2.1 rfl, zk_le hR.2.2.2 rfl⟩ hP hD hS 0 rfl rfl 0 rfl hl.1 rfl (Nat.le_of_ble_eq_true rfl) dX7_why_51 (fun v_ w_ H locs hq_ hP hD hS => ?_)
    obtain ⟨rfl, rfl⟩ := hq_
    refine zn_st (st2 := [.int (nI (zp_pour (a 0) x u))]) rfl ?_
    exact zk_reti (v := nI (zp_pour (a 0) x u)) fx eQ rfl (rfl) hP hD hS (Nat.le_of_ble_eq_true rfl) (Nat.le_of_ble_eq_true rfl) dX7_why_54 (⟨zk_eqr (by unfold zt_why; rw [if_pos sw_]), rfl⟩)
  · refine zn_swin (tgt := 55) hx hb dX7_why_1 1 sw_ (by decide) (by decide) rfl (by decide) ?_
    refine lv_aload_n hx hb dX7_why_55 rfl (lv_at hl 0 rfl) ?_
    refine lv_iload_n hx hb dX7_why_56 rfl (lv_at hl 2 rfl) ?_
    refine zk_callV0 fx (cm_cannotBuy l s0 b h f a x (ok)) (lw_V q2358 q2360 qs39 q108 q2361) ⟨rfl, by decide, by decide, (show (parseMethodDescriptor yX7_cannotBuy.desc).map (fun d => d.parameters.length) = some 1 by decide +kernel)⟩ ⟨zk_le hR.1 rfl, zk_le hR.2.1 rfl⟩ ⟨zk_le hR.2.2.1 rfl, zk_le hR.2.2.2 rfl⟩ hP hD hS 0 rfl rfl 0 rfl hl.1 rfl (Nat.le_of_ble_eq_true rfl) dX7_why_57 (fun v_ w_ H locs hq_ hP hD hS => ?_)
    obtain ⟨rfl, rfl⟩ := hq_
    refine zn_st (st2 := [.int (nI (zp_buy (a 0) x))]) rfl ?_
    exact zk_reti (v := nI (zp_buy (a 0) x)) fx eQ rfl (rfl) hP hD hS (Nat.le_of_ble_eq_true rfl) (Nat.le_of_ble_eq_true rfl) dX7_why_60 (⟨zk_eqr (by unfold zt_why; rw [if_neg (by omega), if_pos sw_]), rfl⟩)
  · refine zn_swin (tgt := 61) hx hb dX7_why_1 2 sw_ (by decide) (by decide) rfl (by decide) ?_
    refine lv_aload_n hx hb dX7_why_61 rfl (lv_at hl 0 rfl) ?_
    refine lv_iload_n hx hb dX7_why_62 rfl (lv_at hl 2 rfl) ?_
    refine lv_iload_n hx hb dX7_why_63 rfl (lv_at hl 3 rfl) ?_
    refine zk_callV0 fx (cm_cannotAdd l s0 b h f a x u (ok)) (lw_V q2418 q2420 qs46 q108 q2421) ⟨rfl, by decide, by decide, (show (parseMethodDescriptor yX7_cannotAdd.desc).map (fun d => d.parameters.length) = some 2 by decide +kernel)⟩ ⟨zk_le hR.1 rfl, zk_le hR.2.1 rfl⟩ ⟨zk_le hR.2.2.1 rfl, zk_le hR.2.2.2 rfl⟩ hP hD hS 0 rfl rfl 0 rfl hl.1 rfl (Nat.le_of_ble_eq_true rfl) dX7_why_64 (fun v_ w_ H locs hq_ hP hD hS => ?_)
    obtain ⟨rfl, rfl⟩ := hq_
    refine zn_st (st2 := [.int (nI (zp_add (a 0) x u))]) rfl ?_
    exact zk_reti (v := nI (zp_add (a 0) x u)) fx eQ rfl (rfl) hP hD hS (Nat.le_of_ble_eq_true rfl) (Nat.le_of_ble_eq_true rfl) dX7_why_67 (⟨zk_eqr (by unfold zt_why; rw [if_neg (by omega), if_neg (by omega), if_pos sw_]), rfl⟩)
  · refine zn_swin (tgt := 68) hx hb dX7_why_1 3 sw_ (by decide) (by decide) rfl (by decide) ?_
    refine lv_aload_n hx hb dX7_why_68 rfl (lv_at hl 0 rfl) ?_
    refine lv_iload_n hx hb dX7_why_69 rfl (lv_at hl 2 rfl) ?_
    refine zk_callV0 fx (cm_isEdition l s0 b h f a x (ok0)) (lw_V q2430 q2432 qs48 q108 q2433) ⟨rfl, by decide, by decide, (show (parseMethodDescriptor yX7_isEdition.desc).map (fun d => d.parameters.length) = some 1 by decide +kernel)⟩ ⟨zk_le hR.1 rfl, zk_le hR.2.1 rfl⟩ ⟨zk_le hR.2.2.1 rfl, zk_le hR.2.2.2 rfl⟩ hP hD hS 0 rfl rfl 0 rfl hl.1 rfl (Nat.le_of_ble_eq_true rfl) dX7_why_70 (fun v_ w_ H locs hq_ hP hD hS => ?_)
    obtain ⟨rfl, rfl⟩ := hq_
    refine zn_st (st2 := [.int (nI (Bool.toNat (zk_ix x ((a 0) 0))))]) rfl ?_
    refine zb_if_eq (tgt := 80) hx hb dX7_why_73 (by decide) (fun c_73 => ?_) (fun c_73 => ?_)
    · refine lv_iconst (v := nI (1)) hx hb dX7_why_80 rfl ?_
      exact zk_reti (v := nI (1)) fx eQ rfl (rfl) hP hD hS (Nat.le_of_ble_eq_true rfl) (Nat.le_of_ble_eq_true rfl) dX7_why_81 (⟨zk_eqr (by unfold zt_why; rw [if_neg (by omega), if_neg (by omega), if_neg (by omega), if_pos sw_]; rw [if_neg (by rw [c_73]; decide)]), rfl⟩)
    · refine lv_iconst (v := nI (0)) hx hb dX7_why_76 rfl ?_
      refine lv_goto (tgt := 81) hx hb dX7_why_77 (by decide) ?_
      exact zk_reti (v := nI (0)) fx eQ rfl (rfl) hP hD hS (Nat.le_of_ble_eq_true rfl) (Nat.le_of_ble_eq_true rfl) dX7_why_81 (⟨zk_eqr (by unfold zt_why; rw [if_neg (by omega), if_neg (by omega), if_neg (by omega), if_pos sw_]; rw [if_pos c_73]), rfl⟩)
  · refine zn_swin (tgt := 82) hx hb dX7_why_1 4 sw_ (by decide) (by decide) rfl (by decide) ?_
    refine lv_aload_n hx hb dX7_why_82 rfl (lv_at hl 0 rfl) ?_
    refine lv_iload_n hx hb dX7_why_83 rfl (lv_at hl 2 rfl) ?_
    refine zk_callV0 fx (cm_cannotPrint l s0 b h f a x (ok)) (lw_V q2442 q2444 qs50 q108 q2445) ⟨rfl, by decide, by decide, (show (parseMethodDescriptor yX7_cannotPrint.desc).map (fun d => d.parameters.length) = some 1 by decide +kernel)⟩ ⟨zk_le hR.1 rfl, zk_le hR.2.1 rfl⟩ ⟨zk_le hR.2.2.1 rfl, zk_le hR.2.2.2 rfl⟩ hP hD hS 0 rfl rfl 0 rfl hl.1 rfl (Nat.le_of_ble_eq_true rfl) dX7_why_84 (fun v_ w_ H locs hq_ hP hD hS => ?_)
    obtain ⟨rfl, rfl⟩ := hq_
    refine zn_st (st2 := [.int (nI (zp_print (a 0) x))]) rfl ?_
    exact zk_reti (v := nI (zp_print (a 0) x)) fx eQ rfl (rfl) hP hD hS (Nat.le_of_ble_eq_true rfl) (Nat.le_of_ble_eq_true rfl) dX7_why_87 (⟨zk_eqr (by unfold zt_why; rw [if_neg (by omega), if_neg (by omega), if_neg (by omega), if_neg (by omega), if_pos sw_]), rfl⟩)
  · refine zn_swin (tgt := 88) hx hb dX7_why_1 5 sw_ (by decide) (by decide) rfl (by decide) ?_
    refine lv_iconst (v := nI (0)) hx hb dX7_why_88 rfl ?_
    exact zk_reti (v := nI (0)) fx eQ rfl (rfl) hP hD hS (Nat.le_of_ble_eq_true rfl) (Nat.le_of_ble_eq_true rfl) dX7_why_89 (⟨zk_eqr (by unfold zt_why; rw [if_neg (by omega), if_neg (by omega), if_neg (by omega), if_neg (by omega), if_neg (by omega), if_pos sw_]), rfl⟩)
  · refine zn_swin (tgt := 90) hx hb dX7_why_1 6 sw_ (by decide) (by decide) rfl (by decide) ?_
    refine lv_iload_n hx hb dX7_why_90 rfl (lv_at hl 2 rfl) ?_
    refine lv_iconst (v := nI (1)) hx hb dX7_why_91 rfl ?_
    refine lv_bipush (v := nI (48)) hx hb dX7_why_92 (by decide) ?_
    refine zk_callSn fx (cm_in l s0 b (x) (nI (1)) (nI (48))) (lw_S q2339 q2340 q108 q2341) ⟨by decide, by decide, (show (parseMethodDescriptor yX7_in.desc).map (fun d => d.parameters.length) = some 3 by decide +kernel)⟩ ⟨zk_le hR.1 rfl, zk_le hR.2.1 rfl⟩ ⟨zk_le hR.2.2.1 rfl, zk_le hR.2.2.2 rfl⟩ hP hD hS hl.1 rfl (Nat.le_of_ble_eq_true rfl) dX7_why_94 (fun v_ H locs hq_ hP hD hS => ?_)
    obtain rfl := hq_
    refine zn_st (st2 := [.int (nI (Bool.toNat (zk_in x 1 48)))]) rfl ?_
    refine zb_if_eq (tgt := 104) hx hb dX7_why_97 (by decide) (fun c_97 => ?_) (fun c_97 => ?_)
    · refine lv_iconst (v := nI (1)) hx hb dX7_why_104 rfl ?_
      exact zk_reti (v := nI (1)) fx eQ rfl (rfl) hP hD hS (Nat.le_of_ble_eq_true rfl) (Nat.le_of_ble_eq_true rfl) dX7_why_105 (⟨zk_eqr (by unfold zt_why; rw [if_neg (by omega), if_neg (by omega), if_neg (by omega), if_neg (by omega), if_neg (by omega), if_neg (by omega), if_pos sw_]; rw [if_neg (by rw [c_97]; decide)]), rfl⟩)
    · refine lv_iconst (v := nI (0)) hx hb dX7_why_100 rfl ?_
      refine lv_goto (tgt := 105) hx hb dX7_why_101 (by decide) ?_
      exact zk_reti (v := nI (0)) fx eQ rfl (rfl) hP hD hS (Nat.le_of_ble_eq_true rfl) (Nat.le_of_ble_eq_true rfl) dX7_why_105 (⟨zk_eqr (by unfold zt_why; rw [if_neg (by omega), if_neg (by omega), if_neg (by omega), if_neg (by omega), if_neg (by omega), if_neg (by omega), if_pos sw_]; rw [if_pos c_97]), rfl⟩)
  · refine zn_swin (tgt := 106) hx hb dX7_why_1 7 sw_ (by decide) (by decide) rfl (by decide) ?_
    refine lv_aload_n hx hb dX7_why_106 rfl (lv_at hl 0 rfl) ?_
    refine lv_iload_n hx hb dX7_why_107 rfl (lv_at hl 2 rfl) ?_
    refine zk_callV0 fx (cm_cannotProve l s0 b h f a x (ok)) (lw_V q2577 q2579 qs67 q108 q2580) ⟨rfl, by decide, by decide, (show (parseMethodDescriptor yX7_cannotProve.desc).map (fun d => d.parameters.length) = some 1 by decide +kernel)⟩ ⟨zk_le hR.1 rfl, zk_le hR.2.1 rfl⟩ ⟨zk_le hR.2.2.1 rfl, zk_le hR.2.2.2 rfl⟩ hP hD hS 0 rfl rfl 0 rfl hl.1 rfl (Nat.le_of_ble_eq_true rfl) dX7_why_108 (fun v_ w_ H locs hq_ hP hD hS => ?_)
    obtain ⟨rfl, rfl⟩ := hq_
    refine zn_st (st2 := [.int (nI (zp_prove (a 0) x))]) rfl ?_
    exact zk_reti (v := nI (zp_prove (a 0) x)) fx eQ rfl (rfl) hP hD hS (Nat.le_of_ble_eq_true rfl) (Nat.le_of_ble_eq_true rfl) dX7_why_111 (⟨zk_eqr (by unfold zt_why; rw [if_neg (by omega), if_neg (by omega), if_neg (by omega), if_neg (by omega), if_neg (by omega), if_neg (by omega), if_neg (by omega), if_pos sw_]), rfl⟩)
  · refine zn_swout (tgt := 112) hx hb dX7_why_1 (by omega) (by omega) (by decide) ?_
    refine lv_aload_n hx hb dX7_why_112 rfl (lv_at hl 0 rfl) ?_
    refine lv_iload_n hx hb dX7_why_113 rfl (lv_at hl 2 rfl) ?_
    refine zk_callV0 fx (cm_isProof l s0 b h f a x (ok1)) (lw_V q2589 q2591 qs69 q108 q2592) ⟨rfl, by decide, by decide, (show (parseMethodDescriptor yX7_isProof.desc).map (fun d => d.parameters.length) = some 1 by decide +kernel)⟩ ⟨zk_le hR.1 rfl, zk_le hR.2.1 rfl⟩ ⟨zk_le hR.2.2.1 rfl, zk_le hR.2.2.2 rfl⟩ hP hD hS 0 rfl rfl 0 rfl hl.1 rfl (Nat.le_of_ble_eq_true rfl) dX7_why_114 (fun v_ w_ H locs hq_ hP hD hS => ?_)
    obtain ⟨rfl, rfl⟩ := hq_
    refine zn_st (st2 := [.int (nI (Bool.toNat (zk_ix x ((a 0) 1))))]) rfl ?_
    refine zb_if_eq (tgt := 124) hx hb dX7_why_117 (by decide) (fun c_117 => ?_) (fun c_117 => ?_)
    · refine lv_iconst (v := nI (1)) hx hb dX7_why_124 rfl ?_
      exact zk_reti (v := nI (1)) fx eQ rfl (rfl) hP hD hS (Nat.le_of_ble_eq_true rfl) (Nat.le_of_ble_eq_true rfl) dX7_why_125 (⟨zk_eqr (by unfold zt_why; rw [if_neg (by omega), if_neg (by omega), if_neg (by omega), if_neg (by omega), if_neg (by omega), if_neg (by omega), if_neg (by omega), if_neg (by omega)]; rw [if_neg (by rw [c_117]; decide)]), rfl⟩)
    · refine lv_iconst (v := nI (0)) hx hb dX7_why_120 rfl ?_
      refine lv_goto (tgt := 125) hx hb dX7_why_121 (by decide) ?_
      exact zk_reti (v := nI (0)) fx eQ rfl (rfl) hP hD hS (Nat.le_of_ble_eq_true rfl) (Nat.le_of_ble_eq_true rfl) dX7_why_125 (⟨zk_eqr (by unfold zt_why; rw [if_neg (by omega), if_neg (by omega), if_neg (by omega), if_neg (by omega), if_neg (by omega), if_neg (by omega), if_neg (by omega), if_neg (by omega)]; rw [if_pos c_117]), rfl⟩)
set_option maxHeartbeats 4000000 in
set_option maxRecDepth 100000 in
theorem cm_does (l : Launch) (s0 : State) (b : Nat) (h f : Nat → Nat) (a : Nat → Nat → Nat) (d_ i j : Nat) (h8 : d_ ≤ 8) (B : Nat) (inv : zp_In B (a 0)) (hB : B + 999 ≤ 10000000) (hn : zt_need (a 0) d_ i j) : zk_C l s0 b yX7_does (ws_ yX7_does cX7_does 4 (some .int)) 6 139 0 0 [.ref (h 0), .int (nI (d_)), .int (nI (i)), .int (nI (j))] (zm_W s0 h f a) (fun r w => ∃ (v : Int32) (X F G : Nat → Nat), r = some (.int v) ∧ w = zm_W s0 h f (va_up (va_up (va_up (va_up a 5 X) 4 F) 8 G) 0 (zt_does (a 0) d_ i j))) := by
  refine zk_mk (by decide) rfl ?_
  intro p e s m below meth c A R args Q fx hR eQ hP hD hS ls hl
  have hx := fx.1
  have hb := fx.2.1
  have hK := fx.2.2.2.2.2.2.2.2.1.K
  have hl : lv_has ls 4 [(0, .ref (h 0)), (1, .int (nI (d_))), (2, .int (nI (i))), (3, .int (nI (j)))] := hl
  have ok := inv.1
  obtain ⟨ok0, ok1, ok2, ok3, ok4, ok5, ok6, okw, oke, okp⟩ := id ok
  obtain ⟨n0, n1, n2, n3, n4, n6, n7, n8⟩ := hn
  refine lv_iload_n hx hb dX7_does_0 rfl (lv_at hl 1 rfl) ?_
  have sw_ : d_ = 0 ∨ d_ = 1 ∨ d_ = 2 ∨ d_ = 3 ∨ d_ = 4 ∨ d_ = 5 ∨ d_ = 6 ∨ d_ = 7 ∨ 7 < d_ := by omega
  rcases sw_ with sw_ | sw_ | sw_ | sw_ | sw_ | sw_ | sw_ | sw_ | sw_
  · refine zn_swin (tgt := 48) hx hb dX7_does_1 0 sw_ (by decide) (by decide) rfl (by decide) ?_
    have n0 := n0 sw_
    refine lv_aload_n hx hb dX7_does_48 rfl (lv_at hl 0 rfl) ?_
    refine lv_iload_n hx hb dX7_does_49 rfl (lv_at hl 2 rfl) ?_
    refine lv_iload_n hx hb dX7_does_50 rfl (lv_at hl 3 rfl) ?_
    refine zk_callV0 fx (cm_pours l s0 b h f a i j (by omega)) (lw_V q2346 q2348 qs37 q108 q2349) ⟨rfl, by decide, by decide, (show (parseMethodDescriptor yX7_pours.desc).map (fun d => d.parameters.length) = some 2 by decide +kernel)⟩ ⟨zk_le hR.1 rfl, zk_le hR.2.1 rfl⟩ ⟨zk_le hR.2.2.1 rfl, zk_le hR.2.2.2 rfl⟩ hP hD hS 0 rfl rfl 0 rfl hl.1 rfl (Nat.le_of_ble_eq_true rfl) dX7_does_51 (fun v_ w_ H locs hq_ hP hD hS => ?_)
    obtain ⟨rfl, rfl⟩ := hq_
    refine zn_st (st2 := [.int (nI ((a 0) (8 + i) + j))]) rfl ?_
    exact zk_reti (v := nI ((a 0) (8 + i) + j)) fx eQ rfl (rfl) hP hD hS (Nat.le_of_ble_eq_true rfl) (Nat.le_of_ble_eq_true rfl) dX7_does_54 (⟨_, _, _, _, rfl, by unfold zt_does; rw [if_pos sw_]; exact zm_do⟩)
  · refine zn_swin (tgt := 55) hx hb dX7_does_1 1 sw_ (by decide) (by decide) rfl (by decide) ?_
    have n1 := n1 sw_
    refine lv_aload_n hx hb dX7_does_55 rfl (lv_at hl 0 rfl) ?_
    refine lv_iload_n hx hb dX7_does_56 rfl (lv_at hl 2 rfl) ?_
    refine zk_callV0 fx (cm_buys l s0 b h f a i) (lw_V q2362 q2364 qs40 q108 q2365) ⟨rfl, by decide, by decide, (show (parseMethodDescriptor yX7_buys.desc).map (fun d => d.parameters.length) = some 1 by decide +kernel)⟩ ⟨zk_le hR.1 rfl, zk_le hR.2.1 rfl⟩ ⟨zk_le hR.2.2.1 rfl, zk_le hR.2.2.2 rfl⟩ hP hD hS 0 rfl rfl 0 rfl hl.1 rfl (Nat.le_of_ble_eq_true rfl) dX7_does_57 (fun v_ w_ H locs hq_ hP hD hS => ?_)
    obtain ⟨rfl, rfl⟩ := hq_
    refine zn_st (st2 := [.int (nI ((a 0) 2 + i))]) rfl ?_
    exact zk_reti (v := nI ((a 0) 2 + i)) fx eQ rfl (rfl) hP hD hS (Nat.le_of_ble_eq_true rfl) (Nat.le_of_ble_eq_true rfl) dX7_does_60 (⟨_, _, _, _, rfl, by unfold zt_does; rw [if_neg (by omega), if_pos sw_]; exact zm_do⟩)
  · refine zn_swin (tgt := 61) hx hb dX7_does_1 2 sw_ (by decide) (by decide) rfl (by decide) ?_
    have n2 := n2 sw_
    refine lv_aload_n hx hb dX7_does_61 rfl (lv_at hl 0 rfl) ?_
    refine lv_iload_n hx hb dX7_does_62 rfl (lv_at hl 2 rfl) ?_
    refine lv_iload_n hx hb dX7_does_63 rfl (lv_at hl 3 rfl) ?_
    refine zk_callV0 fx (cm_adds l s0 b h f a i j (show (a 0) 0 < 7 by omega)) (lw_V q2422 q2424 qs47 q108 q2425) ⟨rfl, by decide, by decide, (show (parseMethodDescriptor yX7_adds.desc).map (fun d => d.parameters.length) = some 2 by decide +kernel)⟩ ⟨zk_le hR.1 rfl, zk_le hR.2.1 rfl⟩ ⟨zk_le hR.2.2.1 rfl, zk_le hR.2.2.2 rfl⟩ hP hD hS 0 rfl rfl 0 rfl hl.1 rfl (Nat.le_of_ble_eq_true rfl) dX7_does_64 (fun v_ w_ H locs hq_ hP hD hS => ?_)
    obtain ⟨rfl, rfl⟩ := hq_
    refine zn_st (st2 := [.int (nI ((a 0) 0))]) rfl ?_
    exact zk_reti (v := nI ((a 0) 0)) fx eQ rfl (rfl) hP hD hS (Nat.le_of_ble_eq_true rfl) (Nat.le_of_ble_eq_true rfl) dX7_does_67 (⟨_, _, _, _, rfl, by unfold zt_does; rw [if_neg (by omega), if_neg (by omega), if_pos sw_]; exact zm_do⟩)
  · refine zn_swin (tgt := 68) hx hb dX7_does_1 3 sw_ (by decide) (by decide) rfl (by decide) ?_
    have hi := n3 sw_
    refine lv_aload_n hx hb dX7_does_68 rfl (lv_at hl 0 rfl) ?_
    refine lv_iload_n hx hb dX7_does_69 rfl (lv_at hl 2 rfl) ?_
    refine zk_callV0 fx (cm_removes l s0 b h f a i (hi) (by assumption)) (lw_V q2434 q2436 qs49 q108 q2437) ⟨rfl, by decide, by decide, (show (parseMethodDescriptor yX7_removes.desc).map (fun d => d.parameters.length) = some 1 by decide +kernel)⟩ ⟨zk_le hR.1 rfl, zk_le hR.2.1 rfl⟩ ⟨zk_le hR.2.2.1 rfl, zk_le hR.2.2.2 rfl⟩ hP hD hS 0 rfl rfl 0 rfl hl.1 rfl (Nat.le_of_ble_eq_true rfl) dX7_does_70 (fun v_ w_ H locs hq_ hP hD hS => ?_)
    obtain ⟨rfl, rfl⟩ := hq_
    refine zn_st (st2 := [.int (nI ((a 0) 0 - 1))]) rfl ?_
    exact zk_reti (v := nI ((a 0) 0 - 1)) fx eQ rfl (rfl) hP hD hS (Nat.le_of_ble_eq_true rfl) (Nat.le_of_ble_eq_true rfl) dX7_does_73 (⟨_, _, _, _, rfl, by unfold zt_does; rw [if_neg (by omega), if_neg (by omega), if_neg (by omega), if_pos sw_]; exact zm_do⟩)
  · refine zn_swin (tgt := 74) hx hb dX7_does_1 4 sw_ (by decide) (by decide) rfl (by decide) ?_
    have hi := n4 sw_
    refine lv_aload_n hx hb dX7_does_74 rfl (lv_at hl 0 rfl) ?_
    refine lv_iload_n hx hb dX7_does_75 rfl (lv_at hl 2 rfl) ?_
    refine zk_callV0 fx (cm_printsOne l s0 b h f a i (hi) (ok)) (lw_V q2458 q2460 qs54 q108 q2461) ⟨rfl, by decide, by decide, (show (parseMethodDescriptor yX7_printsOne.desc).map (fun d => d.parameters.length) = some 1 by decide +kernel)⟩ ⟨zk_le hR.1 rfl, zk_le hR.2.1 rfl⟩ ⟨zk_le hR.2.2.1 rfl, zk_le hR.2.2.2 rfl⟩ hP hD hS 0 rfl rfl 0 rfl hl.1 rfl (Nat.le_of_ble_eq_true rfl) dX7_does_76 (fun v_ w_ H locs hq_ hP hD hS => ?_)
    obtain ⟨rfl, rfl⟩ := hq_
    refine zn_st (st2 := [.int (nI (zp_copies (a 0) i))]) rfl ?_
    exact zk_reti (v := nI (zp_copies (a 0) i)) fx eQ rfl (rfl) hP hD hS (Nat.le_of_ble_eq_true rfl) (Nat.le_of_ble_eq_true rfl) dX7_does_79 (⟨_, _, _, _, rfl, by unfold zt_does; rw [if_neg (by omega), if_neg (by omega), if_neg (by omega), if_neg (by omega), if_pos sw_]; exact zm_do⟩)
  · refine zn_swin (tgt := 80) hx hb dX7_does_1 5 sw_ (by decide) (by decide) rfl (by decide) ?_
    have hB : B + 483 ≤ 10000000 := by omega
    refine lv_aload_n hx hb dX7_does_80 rfl (lv_at hl 0 rfl) ?_
    refine zk_callV0 fx (cm_printsAll l s0 b h f a B inv hB) (lw_V q2541 q2543 qs65 q108 q2544) ⟨rfl, by decide, by decide, (show (parseMethodDescriptor yX7_printsAll.desc).map (fun d => d.parameters.length) = some 0 by decide +kernel)⟩ ⟨zk_le hR.1 rfl, zk_le hR.2.1 rfl⟩ ⟨zk_le hR.2.2.1 rfl, zk_le hR.2.2.2 rfl⟩ hP hD hS 0 rfl rfl 0 rfl hl.1 rfl (Nat.le_of_ble_eq_true rfl) dX7_does_81 (fun v_ w_ H locs hq_ hP hD hS => ?_)
    obtain ⟨rfl, X_1, F_1, G_1, rfl⟩ := hq_
    refine zn_st (st2 := [.int (nI ((zp_pa (a 0) (zp_oc (a 0))).1))]) rfl ?_
    exact zk_reti (v := nI ((zp_pa (a 0) (zp_oc (a 0))).1)) fx eQ rfl (rfl) hP hD hS (Nat.le_of_ble_eq_true rfl) (Nat.le_of_ble_eq_true rfl) dX7_does_84 (⟨_, _, _, _, rfl, by unfold zt_does; rw [if_neg (by omega), if_neg (by omega), if_neg (by omega), if_neg (by omega), if_neg (by omega), if_pos sw_]⟩)
  · refine zn_swin (tgt := 85) hx hb dX7_does_1 6 sw_ (by decide) (by decide) rfl (by decide) ?_
    have n6 := n6 sw_
    refine lv_aload_n hx hb dX7_does_85 rfl (lv_at hl 0 rfl) ?_
    refine lv_iload_n hx hb dX7_does_86 rfl (lv_at hl 2 rfl) ?_
    refine zk_callV0 fx (cm_passes l s0 b h f a i (by omega) (ok)) (lw_V q2370 q2372 qs41 q108 q2373) ⟨rfl, by decide, by decide, (show (parseMethodDescriptor yX7_passes.desc).map (fun d => d.parameters.length) = some 1 by decide +kernel)⟩ ⟨zk_le hR.1 rfl, zk_le hR.2.1 rfl⟩ ⟨zk_le hR.2.2.1 rfl, zk_le hR.2.2.2 rfl⟩ hP hD hS 0 rfl rfl 0 rfl hl.1 rfl (Nat.le_of_ble_eq_true rfl) dX7_does_87 (fun v_ w_ H locs hq_ hP hD hS => ?_)
    obtain ⟨rfl, rfl⟩ := hq_
    refine zn_st (st2 := [.int (nI ((zp_ph (a 0) i).1))]) rfl ?_
    exact zk_reti (v := nI ((zp_ph (a 0) i).1)) fx eQ rfl (rfl) hP hD hS (Nat.le_of_ble_eq_true rfl) (Nat.le_of_ble_eq_true rfl) dX7_does_90 (⟨_, _, _, _, rfl, by unfold zt_does; rw [if_neg (by omega), if_neg (by omega), if_neg (by omega), if_neg (by omega), if_neg (by omega), if_neg (by omega), if_pos sw_]; exact zm_do⟩)
  · refine zn_swin (tgt := 91) hx hb dX7_does_1 7 sw_ (by decide) (by decide) rfl (by decide) ?_
    have n7 := n7 sw_
    refine lv_aload_n hx hb dX7_does_91 rfl (lv_at hl 0 rfl) ?_
    refine lv_iload_n hx hb dX7_does_92 rfl (lv_at hl 2 rfl) ?_
    refine zk_callV0 fx (cm_proves l s0 b h f a i (show (a 0) 1 < 12 by omega)) (lw_V q2581 q2583 qs68 q108 q2584) ⟨rfl, by decide, by decide, (show (parseMethodDescriptor yX7_proves.desc).map (fun d => d.parameters.length) = some 1 by decide +kernel)⟩ ⟨zk_le hR.1 rfl, zk_le hR.2.1 rfl⟩ ⟨zk_le hR.2.2.1 rfl, zk_le hR.2.2.2 rfl⟩ hP hD hS 0 rfl rfl 0 rfl hl.1 rfl (Nat.le_of_ble_eq_true rfl) dX7_does_93 (fun v_ w_ H locs hq_ hP hD hS => ?_)
    obtain ⟨rfl, rfl⟩ := hq_
    refine zn_st (st2 := [.int (nI ((a 0) 1))]) rfl ?_
    exact zk_reti (v := nI ((a 0) 1)) fx eQ rfl (rfl) hP hD hS (Nat.le_of_ble_eq_true rfl) (Nat.le_of_ble_eq_true rfl) dX7_does_96 (⟨_, _, _, _, rfl, by unfold zt_does; rw [if_neg (by omega), if_neg (by omega), if_neg (by omega), if_neg (by omega), if_neg (by omega), if_neg (by omega), if_neg (by omega), if_pos sw_]; exact zm_do⟩)
  · refine zn_swout (tgt := 97) hx hb dX7_does_1 (by omega) (by omega) (by decide) ?_
    have hi := n8 (by omega)
    refine lv_aload_n hx hb dX7_does_97 rfl (lv_at hl 0 rfl) ?_
    refine lv_iload_n hx hb dX7_does_98 rfl (lv_at hl 2 rfl) ?_
    refine zk_callV0 fx (cm_drops l s0 b h f a i (hi) (by assumption)) (lw_V q2593 q2595 qs70 q108 q2596) ⟨rfl, by decide, by decide, (show (parseMethodDescriptor yX7_drops.desc).map (fun d => d.parameters.length) = some 1 by decide +kernel)⟩ ⟨zk_le hR.1 rfl, zk_le hR.2.1 rfl⟩ ⟨zk_le hR.2.2.1 rfl, zk_le hR.2.2.2 rfl⟩ hP hD hS 0 rfl rfl 0 rfl hl.1 rfl (Nat.le_of_ble_eq_true rfl) dX7_does_99 (fun v_ w_ H locs hq_ hP hD hS => ?_)
    obtain ⟨rfl, rfl⟩ := hq_
    refine zn_st (st2 := [.int (nI ((a 0) 1 - 1))]) rfl ?_
    exact zk_reti (v := nI ((a 0) 1 - 1)) fx eQ rfl (rfl) hP hD hS (Nat.le_of_ble_eq_true rfl) (Nat.le_of_ble_eq_true rfl) dX7_does_102 (⟨_, _, _, _, rfl, by unfold zt_does; rw [if_neg (by omega), if_neg (by omega), if_neg (by omega), if_neg (by omega), if_neg (by omega), if_neg (by omega), if_neg (by omega), if_neg (by omega)]; exact zm_do⟩)
