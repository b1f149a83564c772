/-! THE REFERENCE, part 10 (printed by prog/m10.py) -/
set_option maxRecDepth 100000
set_option maxHeartbeats 4000000 in
set_option maxRecDepth 100000 in
theorem cm_pick (l : Launch) (s0 : State) (b : Nat) (k_ q1_ q2_ q3_ q4_ q5_ q6_ q7_ : Nat) (hk : k_ < 2 ^ 31) : zk_C l s0 b yX7_pick (ws_ yX7_pick cX7_pick 8 (some .int)) 0 0 0 0 [.int (nI (k_)), .int (nI (q1_)), .int (nI (q2_)), .int (nI (q3_)), .int (nI (q4_)), .int (nI (q5_)), .int (nI (q6_)), .int (nI (q7_))] ([]) (fun r w => r = some (.int (nI (zt_pick k_ q1_ q2_ q3_ q4_ q5_ q6_ q7_))) ∧ w = []) := by
  refine zk_mk (by decide) rfl ?_
  intro p e s m below meth c A R args Q fx hR eQ hP hD hS ls hl
  have hx := fx.1
  have hb := fx.2.1
  have hK := fx.2.2.2.2.2.2.2.2.1.K
  have hl : lv_has ls 8 [(0, .int (nI (k_))), (1, .int (nI (q1_))), (2, .int (nI (q2_))), (3, .int (nI (q3_))), (4, .int (nI (q4_))), (5, .int (nI (q5_))), (6, .int (nI (q6_))), (7, .int (nI (q7_)))] := hl
  refine lv_iload_n hx hb dX7_pick_0 rfl (lv_at hl 0 rfl) ?_
  have sw_ : k_ = 0 ∨ k_ = 1 ∨ k_ = 2 ∨ k_ = 3 ∨ k_ = 4 ∨ k_ = 5 ∨ k_ = 6 ∨ 6 < k_ := by omega
  rcases sw_ with sw_ | sw_ | sw_ | sw_ | sw_ | sw_ | sw_ | sw_
  · refine zn_swin (tgt := 44) hx hb dX7_pick_1 0 sw_ (by decide) (by decide) rfl (by decide) ?_
    refine lv_iload_n hx hb dX7_pick_44 rfl (lv_at hl 1 rfl) ?_
    exact zk_reti (v := nI (q1_)) fx eQ rfl (rfl) hP hD hS (Nat.le_of_ble_eq_true rfl) (Nat.le_of_ble_eq_true rfl) dX7_pick_45 (⟨zk_eqr (by unfold zt_pick; rw [if_pos sw_]), rfl⟩)
  · refine zn_swin (tgt := 46) hx hb dX7_pick_1 1 sw_ (by decide) (by decide) rfl (by decide) ?_
    refine lv_iload_n hx hb dX7_pick_46 rfl (lv_at hl 2 rfl) ?_
    exact zk_reti (v := nI (q2_)) fx eQ rfl (rfl) hP hD hS (Nat.le_of_ble_eq_true rfl) (Nat.le_of_ble_eq_true rfl) dX7_pick_47 (⟨zk_eqr (by unfold zt_pick; rw [if_neg (by omega), if_pos sw_]), rfl⟩)
  · refine zn_swin (tgt := 48) hx hb dX7_pick_1 2 sw_ (by decide) (by decide) rfl (by decide) ?_
    refine lv_iload_n hx hb dX7_pick_48 rfl (lv_at hl 3 rfl) ?_
    exact zk_reti (v := nI (q3_)) fx eQ rfl (rfl) hP hD hS (Nat.le_of_ble_eq_true rfl) (Nat.le_of_ble_eq_true rfl) dX7_pick_49 (⟨zk_eqr (by unfold zt_pick; rw [if_neg (by omega), if_neg (by omega), if_pos sw_]), rfl⟩)
  · refine zn_swin (tgt := 50) hx hb dX7_pick_1 3 sw_ (by decide) (by decide) rfl (by decide) ?_
    refine lv_iload hx hb dX7_pick_50 (lv_at hl 4 rfl) ?_
    exact zk_reti (v := nI (q4_)) fx eQ rfl (rfl) hP hD hS (Nat.le_of_ble_eq_true rfl) (Nat.le_of_ble_eq_true rfl) dX7_pick_52 (⟨zk_eqr (by unfold zt_pick; rw [if_neg (by omega), if_neg (by omega), if_neg (by omega), if_pos sw_]), rfl⟩)
  · refine zn_swin (tgt := 53) hx hb dX7_pick_1 4 sw_ (by decide) (by decide) rfl (by decide) ?_
    refine lv_iload hx hb dX7_pick_53 (lv_at hl 5 rfl) ?_
    exact zk_reti (v := nI (q5_)) fx eQ rfl (rfl) hP hD hS (Nat.le_of_ble_eq_true rfl) (Nat.le_of_ble_eq_true rfl) dX7_pick_55 (⟨zk_eqr (by unfold zt_pick; rw [if_neg (by omega), if_neg (by omega), if_neg (by omega), if_neg (by omega), if_pos sw_]), rfl⟩)
  · refine zn_swin (tgt := 56) hx hb dX7_pick_1 5 sw_ (by decide) (by decide) rfl (by decide) ?_
    refine lv_iload hx hb dX7_pick_56 (lv_at hl 6 rfl) ?_
    exact zk_reti (v := nI (q6_)) fx eQ rfl (rfl) hP hD hS (Nat.le_of_ble_eq_true rfl) (Nat.le_of_ble_eq_true rfl) dX7_pick_58 (⟨zk_eqr (by unfold zt_pick; rw [if_neg (by omega), if_neg (by omega), if_neg (by omega), if_neg (by omega), if_neg (by omega), if_pos sw_]), rfl⟩)
  · refine zn_swin (tgt := 59) hx hb dX7_pick_1 6 sw_ (by decide) (by decide) rfl (by decide) ?_
    refine lv_iload hx hb dX7_pick_59 (lv_at hl 7 rfl) ?_
    exact zk_reti (v := nI (q7_)) fx eQ rfl (rfl) hP hD hS (Nat.le_of_ble_eq_true rfl) (Nat.le_of_ble_eq_true rfl) dX7_pick_61 (⟨zk_eqr (by unfold zt_pick; rw [if_neg (by omega), if_neg (by omega), if_neg (by omega), if_neg (by omega), if_neg (by omega), if_neg (by omega), if_pos sw_]), rfl⟩)
  · refine zn_swout (tgt := 62) hx hb dX7_pick_1 (hk) (by omega) (by decide) ?_
    refine lv_iconst (v := nI (0)) hx hb dX7_pick_62 rfl ?_
    exact zk_reti (v := nI (0)) fx eQ rfl (rfl) hP hD hS (Nat.le_of_ble_eq_true rfl) (Nat.le_of_ble_eq_true rfl) dX7_pick_63 (⟨zk_eqr (by unfold zt_pick; rw [if_neg (by omega), if_neg (by omega), if_neg (by omega), if_neg (by omega), if_neg (by omega), if_neg (by omega), if_neg (by omega)]), rfl⟩)
set_option maxHeartbeats 4000000 in
set_option maxRecDepth 100000 in
theorem cm_spelled (l : Launch) (s0 : State) (b : Nat) (d_ k_ : Nat) (hd : d_ < 2 ^ 31) (hk : k_ < 2 ^ 31) : zk_C l s0 b yX7_spelled (ws_ yX7_spelled cX7_spelled 2 (some .int)) 1 27 0 0 [.int (nI (d_)), .int (nI (k_))] ([]) (fun r w => r = some (.int (nI (zt_sp d_ k_))) ∧ w = []) := by
  refine zk_mk (by decide) rfl ?_
  intro p e s m below meth c A R args Q fx hR eQ hP hD hS ls hl
  have hx := fx.1
  have hb := fx.2.1
  have hK := fx.2.2.2.2.2.2.2.2.1.K
  have hl : lv_has ls 2 [(0, .int (nI (d_))), (1, .int (nI (k_)))] := hl
  refine lv_iload_n hx hb dX7_spelled_0 rfl (lv_at hl 0 rfl) ?_
  have sw_ : d_ = 0 ∨ d_ = 1 ∨ d_ = 2 ∨ d_ = 3 ∨ d_ = 4 ∨ d_ = 5 ∨ d_ = 6 ∨ d_ = 7 ∨ 7 < d_ := by omega
  rcases sw_ with sw_ | sw_ | sw_ | sw_ | sw_ | sw_ | sw_ | sw_ | sw_
  · refine zn_swin (tgt := 48) hx hb dX7_spelled_1 0 sw_ (by decide) (by decide) rfl (by decide) ?_
    refine lv_iload_n hx hb dX7_spelled_48 rfl (lv_at hl 1 rfl) ?_
    refine lv_bipush (v := nI (105)) hx hb dX7_spelled_49 (by decide) ?_
    refine lv_bipush (v := nI (110)) hx hb dX7_spelled_51 (by decide) ?_
    refine lv_bipush (v := nI (107)) hx hb dX7_spelled_53 (by decide) ?_
    refine lv_iconst (v := nI (0)) hx hb dX7_spelled_55 rfl ?_
    refine lv_iconst (v := nI (0)) hx hb dX7_spelled_56 rfl ?_
    refine lv_iconst (v := nI (0)) hx hb dX7_spelled_57 rfl ?_
    refine lv_iconst (v := nI (0)) hx hb dX7_spelled_58 rfl ?_
    refine zk_callSn fx (cm_pick l s0 b k_ 105 110 107 0 0 0 0 (by omega)) (lw_S q2704 q2705 q108 q2706) ⟨by decide, by decide, (show (parseMethodDescriptor yX7_pick.desc).map (fun d => d.parameters.length) = some 8 by decide +kernel)⟩ ⟨zk_le hR.1 rfl, zk_le hR.2.1 rfl⟩ ⟨zk_le hR.2.2.1 rfl, zk_le hR.2.2.2 rfl⟩ hP hD hS hl.1 rfl (Nat.le_of_ble_eq_true rfl) dX7_spelled_59 (fun v_ H locs hq_ hP hD hS => ?_)
    obtain rfl := hq_
    refine zn_st (st2 := [.int (nI (zt_pick k_ 105 110 107 0 0 0 0))]) rfl ?_
    exact zk_reti (v := nI (zt_pick k_ 105 110 107 0 0 0 0)) fx eQ rfl (rfl) hP hD hS (Nat.le_of_ble_eq_true rfl) (Nat.le_of_ble_eq_true rfl) dX7_spelled_62 (⟨zk_eqr (by unfold zt_sp; rw [if_pos sw_]), rfl⟩)
  · refine zn_swin (tgt := 63) hx hb dX7_spelled_1 1 sw_ (by decide) (by decide) rfl (by decide) ?_
    refine lv_iload_n hx hb dX7_spelled_63 rfl (lv_at hl 1 rfl) ?_
    refine lv_bipush (v := nI (112)) hx hb dX7_spelled_64 (by decide) ?_
    refine lv_bipush (v := nI (97)) hx hb dX7_spelled_66 (by decide) ?_
    refine lv_bipush (v := nI (112)) hx hb dX7_spelled_68 (by decide) ?_
    refine lv_bipush (v := nI (101)) hx hb dX7_spelled_70 (by decide) ?_
    refine lv_bipush (v := nI (114)) hx hb dX7_spelled_72 (by decide) ?_
    refine lv_iconst (v := nI (0)) hx hb dX7_spelled_74 rfl ?_
    refine lv_iconst (v := nI (0)) hx hb dX7_spelled_75 rfl ?_
    refine zk_callSn fx (cm_pick l s0 b k_ 112 97 112 101 114 0 0 (by omega)) (lw_S q2704 q2705 q108 q2706) ⟨by decide, by decide, (show (parseMethodDescriptor yX7_pick.desc).map (fun d => d.parameters.length) = some 8 by decide +kernel)⟩ ⟨zk_le hR.1 rfl, zk_le hR.2.1 rfl⟩ ⟨zk_le hR.2.2.1 rfl, zk_le hR.2.2.2 rfl⟩ hP hD hS hl.1 rfl (Nat.le_of_ble_eq_true rfl) dX7_spelled_76 (fun v_ H locs hq_ hP hD hS => ?_)
    obtain rfl := hq_
    refine zn_st (st2 := [.int (nI (zt_pick k_ 112 97 112 101 114 0 0))]) rfl ?_
    exact zk_reti (v := nI (zt_pick k_ 112 97 112 101 114 0 0)) fx eQ rfl (rfl) hP hD hS (Nat.le_of_ble_eq_true rfl) (Nat.le_of_ble_eq_true rfl) dX7_spelled_79 (⟨zk_eqr (by unfold zt_sp; rw [if_neg (by omega), if_pos sw_]), rfl⟩)
  · refine zn_swin (tgt := 80) hx hb dX7_spelled_1 2 sw_ (by decide) (by decide) rfl (by decide) ?_
    refine lv_iload_n hx hb dX7_spelled_80 rfl (lv_at hl 1 rfl) ?_
    refine lv_bipush (v := nI (101)) hx hb dX7_spelled_81 (by decide) ?_
    refine lv_bipush (v := nI (100)) hx hb dX7_spelled_83 (by decide) ?_
    refine lv_bipush (v := nI (105)) hx hb dX7_spelled_85 (by decide) ?_
    refine lv_bipush (v := nI (116)) hx hb dX7_spelled_87 (by decide) ?_
    refine lv_bipush (v := nI (105)) hx hb dX7_spelled_89 (by decide) ?_
    refine lv_bipush (v := nI (111)) hx hb dX7_spelled_91 (by decide) ?_
    refine lv_bipush (v := nI (110)) hx hb dX7_spelled_93 (by decide) ?_
    refine zk_callSn fx (cm_pick l s0 b k_ 101 100 105 116 105 111 110 (by omega)) (lw_S q2704 q2705 q108 q2706) ⟨by decide, by decide, (show (parseMethodDescriptor yX7_pick.desc).map (fun d => d.parameters.length) = some 8 by decide +kernel)⟩ ⟨zk_le hR.1 rfl, zk_le hR.2.1 rfl⟩ ⟨zk_le hR.2.2.1 rfl, zk_le hR.2.2.2 rfl⟩ hP hD hS hl.1 rfl (Nat.le_of_ble_eq_true rfl) dX7_spelled_95 (fun v_ H locs hq_ hP hD hS => ?_)
    obtain rfl := hq_
    refine zn_st (st2 := [.int (nI (zt_pick k_ 101 100 105 116 105 111 110))]) rfl ?_
    exact zk_reti (v := nI (zt_pick k_ 101 100 105 116 105 111 110)) fx eQ rfl (rfl) hP hD hS (Nat.le_of_ble_eq_true rfl) (Nat.le_of_ble_eq_true rfl) dX7_spelled_98 (⟨zk_eqr (by unfold zt_sp; rw [if_neg (by omega), if_neg (by omega), if_pos sw_]), rfl⟩)
  · refine zn_swin (tgt := 99) hx hb dX7_spelled_1 3 sw_ (by decide) (by decide) rfl (by decide) ?_
    refine lv_iload_n hx hb dX7_spelled_99 rfl (lv_at hl 1 rfl) ?_
    refine lv_bipush (v := nI (114)) hx hb dX7_spelled_100 (by decide) ?_
    refine lv_bipush (v := nI (101)) hx hb dX7_spelled_102 (by decide) ?_
    refine lv_bipush (v := nI (109)) hx hb dX7_spelled_104 (by decide) ?_
    refine lv_bipush (v := nI (111)) hx hb dX7_spelled_106 (by decide) ?_
    refine lv_bipush (v := nI (118)) hx hb dX7_spelled_108 (by decide) ?_
    refine lv_bipush (v := nI (101)) hx hb dX7_spelled_110 (by decide) ?_
    refine lv_iconst (v := nI (0)) hx hb dX7_spelled_112 rfl ?_
    refine zk_callSn fx (cm_pick l s0 b k_ 114 101 109 111 118 101 0 (by omega)) (lw_S q2704 q2705 q108 q2706) ⟨by decide, by decide, (show (parseMethodDescriptor yX7_pick.desc).map (fun d => d.parameters.length) = some 8 by decide +kernel)⟩ ⟨zk_le hR.1 rfl, zk_le hR.2.1 rfl⟩ ⟨zk_le hR.2.2.1 rfl, zk_le hR.2.2.2 rfl⟩ hP hD hS hl.1 rfl (Nat.le_of_ble_eq_true rfl) dX7_spelled_113 (fun v_ H locs hq_ hP hD hS => ?_)
    obtain rfl := hq_
    refine zn_st (st2 := [.int (nI (zt_pick k_ 114 101 109 111 118 101 0))]) rfl ?_
    exact zk_reti (v := nI (zt_pick k_ 114 101 109 111 118 101 0)) fx eQ rfl (rfl) hP hD hS (Nat.le_of_ble_eq_true rfl) (Nat.le_of_ble_eq_true rfl) dX7_spelled_116 (⟨zk_eqr (by unfold zt_sp; rw [if_neg (by omega), if_neg (by omega), if_neg (by omega), if_pos sw_]), rfl⟩)
  · refine zn_swin (tgt := 117) hx hb dX7_spelled_1 4 sw_ (by decide) (by decide) rfl (by decide) ?_
    refine lv_iload_n hx hb dX7_spelled_117 rfl (lv_at hl 1 rfl) ?_
    refine lv_bipush (v := nI (112)) hx hb dX7_spelled_118 (by decide) ?_
    refine lv_bipush (v := nI (114)) hx hb dX7_spelled_120 (by decide) ?_
    refine lv_bipush (v := nI (105)) hx hb dX7_spelled_122 (by decide) ?_
    refine lv_bipush (v := nI (110)) hx hb dX7_spelled_124 (by decide) ?_
    refine lv_bipush (v := nI (116)) hx hb dX7_spelled_126 (by decide) ?_
    refine lv_iconst (v := nI (0)) hx hb dX7_spelled_128 rfl ?_
    refine lv_iconst (v := nI (0)) hx hb dX7_spelled_129 rfl ?_
    refine zk_callSn fx (cm_pick l s0 b k_ 112 114 105 110 116 0 0 (by omega)) (lw_S q2704 q2705 q108 q2706) ⟨by decide, by decide, (show (parseMethodDescriptor yX7_pick.desc).map (fun d => d.parameters.length) = some 8 by decide +kernel)⟩ ⟨zk_le hR.1 rfl, zk_le hR.2.1 rfl⟩ ⟨zk_le hR.2.2.1 rfl, zk_le hR.2.2.2 rfl⟩ hP hD hS hl.1 rfl (Nat.le_of_ble_eq_true rfl) dX7_spelled_130 (fun v_ H locs hq_ hP hD hS => ?_)
    obtain rfl := hq_
    refine zn_st (st2 := [.int (nI (zt_pick k_ 112 114 105 110 116 0 0))]) rfl ?_
    exact zk_reti (v := nI (zt_pick k_ 112 114 105 110 116 0 0)) fx eQ rfl (rfl) hP hD hS (Nat.le_of_ble_eq_true rfl) (Nat.le_of_ble_eq_true rfl) dX7_spelled_133 (⟨zk_eqr (by unfold zt_sp; rw [if_neg (by omega), if_neg (by omega), if_neg (by omega), if_neg (by omega), if_pos sw_]), rfl⟩)
  · refine zn_swin (tgt := 134) hx hb dX7_spelled_1 5 sw_ (by decide) (by decide) rfl (by decide) ?_
    refine lv_iload_n hx hb dX7_spelled_134 rfl (lv_at hl 1 rfl) ?_
    refine lv_bipush (v := nI (97)) hx hb dX7_spelled_135 (by decide) ?_
    refine lv_bipush (v := nI (108)) hx hb dX7_spelled_137 (by decide) ?_
    refine lv_bipush (v := nI (108)) hx hb dX7_spelled_139 (by decide) ?_
    refine lv_iconst (v := nI (0)) hx hb dX7_spelled_141 rfl ?_
    refine lv_iconst (v := nI (0)) hx hb dX7_spelled_142 rfl ?_
    refine lv_iconst (v := nI (0)) hx hb dX7_spelled_143 rfl ?_
    refine lv_iconst (v := nI (0)) hx hb dX7_spelled_144 rfl ?_
    refine zk_callSn fx (cm_pick l s0 b k_ 97 108 108 0 0 0 0 (by omega)) (lw_S q2704 q2705 q108 q2706) ⟨by decide, by decide, (show (parseMethodDescriptor yX7_pick.desc).map (fun d => d.parameters.length) = some 8 by decide +kernel)⟩ ⟨zk_le hR.1 rfl, zk_le hR.2.1 rfl⟩ ⟨zk_le hR.2.2.1 rfl, zk_le hR.2.2.2 rfl⟩ hP hD hS hl.1 rfl (Nat.le_of_ble_eq_true rfl) dX7_spelled_145 (fun v_ H locs hq_ hP hD hS => ?_)
    obtain rfl := hq_
    refine zn_st (st2 := [.int (nI (zt_pick k_ 97 108 108 0 0 0 0))]) rfl ?_
    exact zk_reti (v := nI (zt_pick k_ 97 108 108 0 0 0 0)) fx eQ rfl (rfl) hP hD hS (Nat.le_of_ble_eq_true rfl) (Nat.le_of_ble_eq_true rfl) dX7_spelled_148 (⟨zk_eqr (by unfold zt_sp; rw [if_neg (by omega), if_neg (by omega), if_neg (by omega), if_neg (by omega), if_neg (by omega), if_pos sw_]), rfl⟩)
  · refine zn_swin (tgt := 149) hx hb dX7_spelled_1 6 sw_ (by decide) (by decide) rfl (by decide) ?_
    refine lv_iload_n hx hb dX7_spelled_149 rfl (lv_at hl 1 rfl) ?_
    refine lv_bipush (v := nI (104)) hx hb dX7_spelled_150 (by decide) ?_
    refine lv_bipush (v := nI (111)) hx hb dX7_spelled_152 (by decide) ?_
    refine lv_bipush (v := nI (117)) hx hb dX7_spelled_154 (by decide) ?_
    refine lv_bipush (v := nI (114)) hx hb dX7_spelled_156 (by decide) ?_
    refine lv_bipush (v := nI (115)) hx hb dX7_spelled_158 (by decide) ?_
    refine lv_iconst (v := nI (0)) hx hb dX7_spelled_160 rfl ?_
    refine lv_iconst (v := nI (0)) hx hb dX7_spelled_161 rfl ?_
    refine zk_callSn fx (cm_pick l s0 b k_ 104 111 117 114 115 0 0 (by omega)) (lw_S q2704 q2705 q108 q2706) ⟨by decide, by decide, (show (parseMethodDescriptor yX7_pick.desc).map (fun d => d.parameters.length) = some 8 by decide +kernel)⟩ ⟨zk_le hR.1 rfl, zk_le hR.2.1 rfl⟩ ⟨zk_le hR.2.2.1 rfl, zk_le hR.2.2.2 rfl⟩ hP hD hS hl.1 rfl (Nat.le_of_ble_eq_true rfl) dX7_spelled_162 (fun v_ H locs hq_ hP hD hS => ?_)
    obtain rfl := hq_
    refine zn_st (st2 := [.int (nI (zt_pick k_ 104 111 117 114 115 0 0))]) rfl ?_
    exact zk_reti (v := nI (zt_pick k_ 104 111 117 114 115 0 0)) fx eQ rfl (rfl) hP hD hS (Nat.le_of_ble_eq_true rfl) (Nat.le_of_ble_eq_true rfl) dX7_spelled_165 (⟨zk_eqr (by unfold zt_sp; rw [if_neg (by omega), if_neg (by omega), if_neg (by omega), if_neg (by omega), if_neg (by omega), if_neg (by omega), if_pos sw_]), rfl⟩)
  · refine zn_swin (tgt := 166) hx hb dX7_spelled_1 7 sw_ (by decide) (by decide) rfl (by decide) ?_
    refine lv_iload_n hx hb dX7_spelled_166 rfl (lv_at hl 1 rfl) ?_
    refine lv_bipush (v := nI (112)) hx hb dX7_spelled_167 (by decide) ?_
    refine lv_bipush (v := nI (114)) hx hb dX7_spelled_169 (by decide) ?_
    refine lv_bipush (v := nI (111)) hx hb dX7_spelled_171 (by decide) ?_
    refine lv_bipush (v := nI (111)) hx hb dX7_spelled_173 (by decide) ?_
    refine lv_bipush (v := nI (102)) hx hb dX7_spelled_175 (by decide) ?_
    refine lv_iconst (v := nI (0)) hx hb dX7_spelled_177 rfl ?_
    refine lv_iconst (v := nI (0)) hx hb dX7_spelled_178 rfl ?_
    refine zk_callSn fx (cm_pick l s0 b k_ 112 114 111 111 102 0 0 (by omega)) (lw_S q2704 q2705 q108 q2706) ⟨by decide, by decide, (show (parseMethodDescriptor yX7_pick.desc).map (fun d => d.parameters.length) = some 8 by decide +kernel)⟩ ⟨zk_le hR.1 rfl, zk_le hR.2.1 rfl⟩ ⟨zk_le hR.2.2.1 rfl, zk_le hR.2.2.2 rfl⟩ hP hD hS hl.1 rfl (Nat.le_of_ble_eq_true rfl) dX7_spelled_179 (fun v_ H locs hq_ hP hD hS => ?_)
    obtain rfl := hq_
    refine zn_st (st2 := [.int (nI (zt_pick k_ 112 114 111 111 102 0 0))]) rfl ?_
    exact zk_reti (v := nI (zt_pick k_ 112 114 111 111 102 0 0)) fx eQ rfl (rfl) hP hD hS (Nat.le_of_ble_eq_true rfl) (Nat.le_of_ble_eq_true rfl) dX7_spelled_182 (⟨zk_eqr (by unfold zt_sp; rw [if_neg (by omega), if_neg (by omega), if_neg (by omega), if_neg (by omega), if_neg (by omega), if_neg (by omega), if_neg (by omega), if_pos sw_]), rfl⟩)
  · refine zn_swout (tgt := 183) hx hb dX7_spelled_1 (hd) (by omega) (by decide) ?_
    refine lv_iload_n hx hb dX7_spelled_183 rfl (lv_at hl 1 rfl) ?_
    refine lv_bipush (v := nI (100)) hx hb dX7_spelled_184 (by decide) ?_
    refine lv_bipush (v := nI (114)) hx hb dX7_spelled_186 (by decide) ?_
    refine lv_bipush (v := nI (111)) hx hb dX7_spelled_188 (by decide) ?_
    refine lv_bipush (v := nI (112)) hx hb dX7_spelled_190 (by decide) ?_
    refine lv_iconst (v := nI (0)) hx hb dX7_spelled_192 rfl ?_
    refine lv_iconst (v := nI (0)) hx hb dX7_spelled_193 rfl ?_
    refine lv_iconst (v := nI (0)) hx hb dX7_spelled_194 rfl ?_
    refine zk_callSn fx (cm_pick l s0 b k_ 100 114 111 112 0 0 0 (by omega)) (lw_S q2704 q2705 q108 q2706) ⟨by decide, by decide, (show (parseMethodDescriptor yX7_pick.desc).map (fun d => d.parameters.length) = some 8 by decide +kernel)⟩ ⟨zk_le hR.1 rfl, zk_le hR.2.1 rfl⟩ ⟨zk_le hR.2.2.1 rfl, zk_le hR.2.2.2 rfl⟩ hP hD hS hl.1 rfl (Nat.le_of_ble_eq_true rfl) dX7_spelled_195 (fun v_ H locs hq_ hP hD hS => ?_)
    obtain rfl := hq_
    refine zn_st (st2 := [.int (nI (zt_pick k_ 100 114 111 112 0 0 0))]) rfl ?_
    exact zk_reti (v := nI (zt_pick k_ 100 114 111 112 0 0 0)) fx eQ rfl (rfl) hP hD hS (Nat.le_of_ble_eq_true rfl) (Nat.le_of_ble_eq_true rfl) dX7_spelled_198 (⟨zk_eqr (by unfold zt_sp; rw [if_neg (by omega), if_neg (by omega), if_neg (by omega), if_neg (by omega), if_neg (by omega), if_neg (by omega), if_neg (by omega), if_neg (by omega)]), rfl⟩)
set_option maxHeartbeats 4000000 in
set_option maxRecDepth 100000 in
theorem cm_word (l : Launch) (s0 : State) (b : Nat) (h f : Nat → Nat) (a : Nat → Nat → Nat) (hL0 : f 21 ≤ 60) (ht0 : ∀ i, i < f 21 → a 10 i ≤ 126) (hp0 : f 22 ≤ f 21) (hw0 : f 24 = 0) : zk_C l s0 b yX7_word (ws_ yX7_word cX7_word 4 (some .int)) 2 48 0 0 [.ref (h 0)] (zm_W s0 h f a) (fun r w => r = some (.int (nI (zt_word (a 10) (f 21) (f 22)).1)) ∧ w = zm_W s0 h (va_up (va_up f 24 (zt_word (a 10) (f 21) (f 22)).2.2) 22 (zt_word (a 10) (f 21) (f 22)).2.1) a) := by
  refine zk_mk (by decide) rfl ?_
  intro p e s m below meth c A R args Q fx hR eQ hP hD hS ls hl
  have hx := fx.1
  have hb := fx.2.1
  have hK := fx.2.2.2.2.2.2.2.2.1.K
  have hl : lv_has ls 4 [(0, .ref (h 0))] := hl
  refine lv_iconst (v := nI (0)) hx hb dX7_word_0 rfl ?_
  refine lv_istore_n (lv' := [(1, .int (nI (0))), (0, .ref (h 0))]) hx hb dX7_word_1 rfl hl (by decide) rfl (fun ls hl => ?_)
  refine lv_iconst (v := nI (0)) hx hb dX7_word_2 rfl ?_
  refine lv_istore_n (lv' := [(2, .int (nI (0))), (1, .int (nI (0))), (0, .ref (h 0))]) hx hb dX7_word_3 rfl hl (by decide) rfl (fun ls hl => ?_)
  have lp_4 : ∀ (n_ : Nat) (d_ : Nat) (best_ : Nat), (9 - d_) < n_ → (zt_wd (a 10) (f 21) (f 22) 9 0 0 = zt_wd (a 10) (f 21) (f 22) (9 - d_) d_ best_) → (d_ ≤ 9) → (best_ ≤ 7 ∧ f 22 + best_ ≤ f 21) → ∀ (H : Heap) (locs : List Loc), va_P (zk_D s0) zk_Cl (zm_W s0 h f a) H → va_D A (zm_W s0 h f a) → va_S A s.heap H locs → ∀ ls : Array Slot, lv_has ls 4 [(2, .int (nI (d_))), (1, .int (nI (best_))), (0, .ref (h 0))] → W p l e R s m args below meth c H locs 0 0 Q (F0 m 4 ls []) := by
    intro n_
    induction n_ with
    | zero => intro d_ best_ hn_; exact absurd hn_ (Nat.not_lt_zero _)
    | succ n_ ih_4 =>
      intro d_ best_ hn_ hz hk hbe H locs hP hD hS ls hl
      refine lv_iload_n hx hb dX7_word_4 rfl (lv_at hl 0 rfl) ?_
      refine lv_bipush (v := nI (9)) hx hb dX7_word_5 (by decide) ?_
      refine zn_icmp_ge (tgt := 95) hx hb dX7_word_7 (by decide) (by omega) (by omega) (fun c_7 => ?_) (fun c_7 => ?_)
      · refine lv_aload_n hx hb dX7_word_95 rfl (lv_at hl 2 rfl) ?_
        refine lv_dup hx hb dX7_word_96 rfl ?_
        refine zm_get (f := f) fx 22 (by decide) q2263 (v := .int (nI (f 22))) rfl hP dX7_word_97 ?_
        refine lv_iload_n hx hb dX7_word_100 rfl (lv_at hl 1 rfl) ?_
        refine zn_iadd hx hb dX7_word_101 ?_
        refine zm_put fx 22 (by decide) q2263 (v := (f 22) + best_) hP hD hS dX7_word_102 (fun H locs hP hD hS => ?_)
        have hP : va_P (zk_D s0) zk_Cl (zm_W s0 h (va_up f 22 ((f 22) + best_)) a) H := hP
        refine lv_aload_n hx hb dX7_word_105 rfl (lv_at hl 2 rfl) ?_
        refine lv_iconst (v := nI (1)) hx hb dX7_word_106 rfl ?_
        refine zm_putb fx 24 (by decide) q2265 (v := 1) (by decide) hP hD hS dX7_word_107 (fun H locs hP hD hS => ?_)
        have hP : va_P (zk_D s0) zk_Cl (zm_W s0 h (va_up (va_up f 22 ((f 22) + best_)) 24 (1)) a) H := hP
        refine lv_iconst (v := nI (0)) hx hb dX7_word_110 rfl ?_
        have hq2 : zt_word (a 10) (f 21) (f 22) = (0, f 22 + best_, 1) := by unfold zt_word; rw [hz, show 9 - d_ = 0 by omega]; rfl
        exact zk_reti (v := nI (0)) fx eQ rfl (rfl) hP hD hS (Nat.le_of_ble_eq_true rfl) (Nat.le_of_ble_eq_true rfl) dX7_word_111 (⟨zk_eqr (by rw [hq2]), by rw [hq2, zx_2224]⟩)
      · refine lv_iconst (v := nI (0)) hx hb dX7_word_10 rfl ?_
        refine lv_istore_n (lv' := [(3, .int (nI (0))), (2, .int (nI (d_))), (1, .int (nI (best_))), (0, .ref (h 0))]) hx hb dX7_word_11 rfl hl (by decide) rfl (fun ls hl => ?_)
        have lp_12 : ∀ (n_ : Nat) (k_ : Nat), (8 - k_) < n_ → (zt_len (a 10) (f 21) (f 22) d_ = zt_lcp (a 10) (f 21) (f 22) d_ (8 - k_) k_) → (k_ ≤ 7) → (f 22 + k_ ≤ f 21) → ∀ (H : Heap) (locs : List Loc), va_P (zk_D s0) zk_Cl (zm_W s0 h f a) H → va_D A (zm_W s0 h f a) → va_S A s.heap H locs → ∀ ls : Array Slot, lv_has ls 4 [(3, .int (nI (k_))), (2, .int (nI (d_))), (1, .int (nI (best_))), (0, .ref (h 0))] → W p l e R s m args below meth c H locs 0 0 Q (F0 m 12 ls []) := by
          intro n_
          induction n_ with
          | zero => intro k_ hn_; exact absurd hn_ (Nat.not_lt_zero _)
          | succ n_ ih_12 =>
            intro k_ hn_ hz2 hk7 hkL H locs hP hD hS ls hl
            have hsl := zt_sp_le d_ k_
            refine lv_iload_n hx hb dX7_word_12 rfl (lv_at hl 1 rfl) ?_
            refine lv_iload_n hx hb dX7_word_13 rfl (lv_at hl 0 rfl) ?_
            refine zk_callSn fx (cm_spelled l s0 b d_ k_ (by omega) (by omega)) (lw_S q2701 q2702 q108 q2703) ⟨by decide, by decide, (show (parseMethodDescriptor yX7_spelled.desc).map (fun d => d.parameters.length) = some 2 by decide +kernel)⟩ ⟨zk_le hR.1 rfl, zk_le hR.2.1 rfl⟩ ⟨zk_le hR.2.2.1 rfl, zk_le hR.2.2.2 rfl⟩ hP hD hS hl.1 rfl (Nat.le_of_ble_eq_true rfl) dX7_word_14 (fun v_ H locs hq_ hP hD hS => ?_)
            obtain rfl := hq_
            refine zn_st (st2 := [.int (nI (zt_sp d_ k_))]) rfl ?_
            refine zn_if_le (tgt := 58) hx hb dX7_word_17 (by decide) (by omega) (fun c_17 => ?_) (fun c_17 => ?_)
            · have hq : zt_len (a 10) (f 21) (f 22) d_ = k_ := by rw [hz2, show 8 - k_ = 7 - k_ + 1 by omega, zt_lcp, if_neg (by omega)]
              refine lv_iload_n hx hb dX7_word_58 rfl (lv_at hl 1 rfl) ?_
              refine lv_iload_n hx hb dX7_word_59 rfl (lv_at hl 0 rfl) ?_
              refine zk_callSn fx (cm_spelled l s0 b d_ k_ (by omega) (by omega)) (lw_S q2701 q2702 q108 q2703) ⟨by decide, by decide, (show (parseMethodDescriptor yX7_spelled.desc).map (fun d => d.parameters.length) = some 2 by decide +kernel)⟩ ⟨zk_le hR.1 rfl, zk_le hR.2.1 rfl⟩ ⟨zk_le hR.2.2.1 rfl, zk_le hR.2.2.2 rfl⟩ hP hD hS hl.1 rfl (Nat.le_of_ble_eq_true rfl) dX7_word_60 (fun v_ H locs hq_ hP hD hS => ?_)
              obtain rfl := hq_
              refine zn_st (st2 := [.int (nI (zt_sp d_ k_))]) rfl ?_
              refine zn_if_ne (tgt := 78) hx hb dX7_word_63 (by decide) (by omega) (fun c_63 => ?_) (fun c_63 => ?_)
              · refine lv_iload_n hx hb dX7_word_78 rfl (lv_at hl 0 rfl) ?_
                refine lv_iload_n hx hb dX7_word_79 rfl (lv_at hl 2 rfl) ?_
                refine zn_icmp_le (tgt := 87) hx hb dX7_word_80 (by decide) (by omega) (by omega) (fun c_80 => ?_) (fun c_80 => ?_)
                · refine lv_iload_n hx hb dX7_word_87 rfl (lv_at hl 2 rfl) ?_
                  refine lv_istore_n (lv' := [(1, .int (nI (best_))), (3, .int (nI (k_))), (2, .int (nI (d_))), (0, .ref (h 0))]) hx hb dX7_word_88 rfl hl (by decide) rfl (fun ls hl => ?_)
                  refine lv_iinc (v := nI (d_ + 1)) (lv' := [(2, .int (nI (d_ + 1))), (1, .int (nI (best_))), (3, .int (nI (k_))), (0, .ref (h 0))]) hx hb dX7_word_89 hl (k := 2) rfl (nI_add d_ 1) (by decide) rfl (fun ls hl => ?_)
                  refine lv_goto (tgt := 4) hx hb dX7_word_92 (by decide) ?_
                  exact ih_4 (d_ + 1) best_ (by omega) (by rw [hz, show 9 - d_ = 8 - d_ + 1 by omega, zt_wd, if_neg (by rw [hq]; omega), hq, if_neg (by omega), show 9 - (d_ + 1) = 8 - d_ by omega]) (by omega) (by omega) _ _ hP hD hS ls (lv_sub hl [0, 1, 3] rfl)
                · refine lv_iload_n hx hb dX7_word_83 rfl (lv_at hl 0 rfl) ?_
                  refine lv_goto (tgt := 88) hx hb dX7_word_84 (by decide) ?_
                  refine lv_istore_n (lv' := [(1, .int (nI (k_))), (3, .int (nI (k_))), (2, .int (nI (d_))), (0, .ref (h 0))]) hx hb dX7_word_88 rfl hl (by decide) rfl (fun ls hl => ?_)
                  refine lv_iinc (v := nI (d_ + 1)) (lv' := [(2, .int (nI (d_ + 1))), (1, .int (nI (k_))), (3, .int (nI (k_))), (0, .ref (h 0))]) hx hb dX7_word_89 hl (k := 2) rfl (nI_add d_ 1) (by decide) rfl (fun ls hl => ?_)
                  refine lv_goto (tgt := 4) hx hb dX7_word_92 (by decide) ?_
                  exact ih_4 (d_ + 1) k_ (by omega) (by rw [hz, show 9 - d_ = 8 - d_ + 1 by omega, zt_wd, if_neg (by rw [hq]; omega), hq, if_pos (by omega), show 9 - (d_ + 1) = 8 - d_ by omega]) (by omega) (by omega) _ _ hP hD hS ls (lv_sub hl [0, 1, 3] rfl)
              · refine lv_aload_n hx hb dX7_word_66 rfl (lv_at hl 3 rfl) ?_
                refine lv_dup hx hb dX7_word_67 rfl ?_
                refine zm_get (f := f) fx 22 (by decide) q2263 (v := .int (nI (f 22))) rfl hP dX7_word_68 ?_
                refine lv_iload_n hx hb dX7_word_71 rfl (lv_at hl 0 rfl) ?_
                refine zn_iadd hx hb dX7_word_72 ?_
                refine zm_put fx 22 (by decide) q2263 (v := (f 22) + k_) hP hD hS dX7_word_73 (fun H locs hP hD hS => ?_)
                have hP : va_P (zk_D s0) zk_Cl (zm_W s0 h (va_up f 22 ((f 22) + k_)) a) H := hP
                refine lv_iload_n hx hb dX7_word_76 rfl (lv_at hl 1 rfl) ?_
                have hq2 : zt_word (a 10) (f 21) (f 22) = (d_, f 22 + k_, 0) := by unfold zt_word; rw [hz, show 9 - d_ = 8 - d_ + 1 by omega, zt_wd, if_pos (by rw [hq]; omega), hq]
                exact zk_reti (v := nI (d_)) fx eQ rfl (rfl) hP hD hS (Nat.le_of_ble_eq_true rfl) (Nat.le_of_ble_eq_true rfl) dX7_word_77 (⟨zk_eqr (by rw [hq2]), by rw [hq2, zx_id (g := f) (k := 24) hw0]⟩)
            · have hs7 := zt_sp_7 (kd := d_) (k := k_) (by omega)
              refine lv_aload_n hx hb dX7_word_20 rfl (lv_at hl 3 rfl) ?_
              refine zm_get (f := f) fx 22 (by decide) q2263 (v := .int (nI (f 22))) rfl hP dX7_word_21 ?_
              refine lv_iload_n hx hb dX7_word_24 rfl (lv_at hl 0 rfl) ?_
              refine zn_iadd hx hb dX7_word_25 ?_
              refine lv_aload_n hx hb dX7_word_26 rfl (lv_at hl 3 rfl) ?_
              refine zm_get (f := f) fx 21 (by decide) q2262 (v := .int (nI (f 21))) rfl hP dX7_word_27 ?_
              refine zn_icmp_ge (tgt := 58) hx hb dX7_word_30 (by decide) (by omega) (by omega) (fun c_30 => ?_) (fun c_30 => ?_)
              · have hq : zt_len (a 10) (f 21) (f 22) d_ = k_ := by rw [hz2, show 8 - k_ = 7 - k_ + 1 by omega, zt_lcp, if_neg (by omega)]
                refine lv_iload_n hx hb dX7_word_58 rfl (lv_at hl 1 rfl) ?_
                refine lv_iload_n hx hb dX7_word_59 rfl (lv_at hl 0 rfl) ?_
                refine zk_callSn fx (cm_spelled l s0 b d_ k_ (by omega) (by omega)) (lw_S q2701 q2702 q108 q2703) ⟨by decide, by decide, (show (parseMethodDescriptor yX7_spelled.desc).map (fun d => d.parameters.length) = some 2 by decide +kernel)⟩ ⟨zk_le hR.1 rfl, zk_le hR.2.1 rfl⟩ ⟨zk_le hR.2.2.1 rfl, zk_le hR.2.2.2 rfl⟩ hP hD hS hl.1 rfl (Nat.le_of_ble_eq_true rfl) dX7_word_60 (fun v_ H locs hq_ hP hD hS => ?_)
                obtain rfl := hq_
                refine zn_st (st2 := [.int (nI (zt_sp d_ k_))]) rfl ?_
                refine zn_if_ne (tgt := 78) hx hb dX7_word_63 (by decide) (by omega) (fun c_63 => ?_) (fun c_63 => ?_)
                · refine lv_iload_n hx hb dX7_word_78 rfl (lv_at hl 0 rfl) ?_
                  refine lv_iload_n hx hb dX7_word_79 rfl (lv_at hl 2 rfl) ?_
                  refine zn_icmp_le (tgt := 87) hx hb dX7_word_80 (by decide) (by omega) (by omega) (fun c_80 => ?_) (fun c_80 => ?_)
                  · refine lv_iload_n hx hb dX7_word_87 rfl (lv_at hl 2 rfl) ?_
                    refine lv_istore_n (lv' := [(1, .int (nI (best_))), (3, .int (nI (k_))), (2, .int (nI (d_))), (0, .ref (h 0))]) hx hb dX7_word_88 rfl hl (by decide) rfl (fun ls hl => ?_)
                    refine lv_iinc (v := nI (d_ + 1)) (lv' := [(2, .int (nI (d_ + 1))), (1, .int (nI (best_))), (3, .int (nI (k_))), (0, .ref (h 0))]) hx hb dX7_word_89 hl (k := 2) rfl (nI_add d_ 1) (by decide) rfl (fun ls hl => ?_)
                    refine lv_goto (tgt := 4) hx hb dX7_word_92 (by decide) ?_
                    exact ih_4 (d_ + 1) best_ (by omega) (by rw [hz, show 9 - d_ = 8 - d_ + 1 by omega, zt_wd, if_neg (by rw [hq]; omega), hq, if_neg (by omega), show 9 - (d_ + 1) = 8 - d_ by omega]) (by omega) (by omega) _ _ hP hD hS ls (lv_sub hl [0, 1, 3] rfl)
                  · refine lv_iload_n hx hb dX7_word_83 rfl (lv_at hl 0 rfl) ?_
                    refine lv_goto (tgt := 88) hx hb dX7_word_84 (by decide) ?_
                    refine lv_istore_n (lv' := [(1, .int (nI (k_))), (3, .int (nI (k_))), (2, .int (nI (d_))), (0, .ref (h 0))]) hx hb dX7_word_88 rfl hl (by decide) rfl (fun ls hl => ?_)
                    refine lv_iinc (v := nI (d_ + 1)) (lv' := [(2, .int (nI (d_ + 1))), (1, .int (nI (k_))), (3, .int (nI (k_))), (0, .ref (h 0))]) hx hb dX7_word_89 hl (k := 2) rfl (nI_add d_ 1) (by decide) rfl (fun ls hl => ?_)
                    refine lv_goto (tgt := 4) hx hb dX7_word_92 (by decide) ?_
                    exact ih_4 (d_ + 1) k_ (by omega) (by rw [hz, show 9 - d_ = 8 - d_ + 1 by omega, zt_wd, if_neg (by rw [hq]; omega), hq, if_pos (by omega), show 9 - (d_ + 1) = 8 - d_ by omega]) (by omega) (by omega) _ _ hP hD hS ls (lv_sub hl [0, 1, 3] rfl)
                · refine lv_aload_n hx hb dX7_word_66 rfl (lv_at hl 3 rfl) ?_
                  refine lv_dup hx hb dX7_word_67 rfl ?_
                  refine zm_get (f := f) fx 22 (by decide) q2263 (v := .int (nI (f 22))) rfl hP dX7_word_68 ?_
                  refine lv_iload_n hx hb dX7_word_71 rfl (lv_at hl 0 rfl) ?_
                  refine zn_iadd hx hb dX7_word_72 ?_
                  refine zm_put fx 22 (by decide) q2263 (v := (f 22) + k_) hP hD hS dX7_word_73 (fun H locs hP hD hS => ?_)
                  have hP : va_P (zk_D s0) zk_Cl (zm_W s0 h (va_up f 22 ((f 22) + k_)) a) H := hP
                  refine lv_iload_n hx hb dX7_word_76 rfl (lv_at hl 1 rfl) ?_
                  have hq2 : zt_word (a 10) (f 21) (f 22) = (d_, f 22 + k_, 0) := by unfold zt_word; rw [hz, show 9 - d_ = 8 - d_ + 1 by omega, zt_wd, if_pos (by rw [hq]; omega), hq]
                  exact zk_reti (v := nI (d_)) fx eQ rfl (rfl) hP hD hS (Nat.le_of_ble_eq_true rfl) (Nat.le_of_ble_eq_true rfl) dX7_word_77 (⟨zk_eqr (by rw [hq2]), by rw [hq2, zx_id (g := f) (k := 24) hw0]⟩)
              · refine lv_aload_n hx hb dX7_word_33 rfl (lv_at hl 3 rfl) ?_
                refine zm_get (f := f) fx 16 (by decide) q2257 (v := .ref (h 11)) rfl hP dX7_word_34 ?_
                refine lv_aload_n hx hb dX7_word_37 rfl (lv_at hl 3 rfl) ?_
                refine zm_get (f := f) fx 22 (by decide) q2263 (v := .int (nI (f 22))) rfl hP dX7_word_38 ?_
                refine lv_iload_n hx hb dX7_word_41 rfl (lv_at hl 0 rfl) ?_
                refine zn_iadd hx hb dX7_word_42 ?_
                refine zn_ald hx hb hK hP 11 (g := a 10) rfl (i := (f 22) + k_) (by omega) (by decide) dX7_word_43 ?_
                refine lv_iload_n hx hb dX7_word_44 rfl (lv_at hl 1 rfl) ?_
                refine lv_iload_n hx hb dX7_word_45 rfl (lv_at hl 0 rfl) ?_
                refine zk_callSn fx (cm_spelled l s0 b d_ k_ (by omega) (by omega)) (lw_S q2701 q2702 q108 q2703) ⟨by decide, by decide, (show (parseMethodDescriptor yX7_spelled.desc).map (fun d => d.parameters.length) = some 2 by decide +kernel)⟩ ⟨zk_le hR.1 rfl, zk_le hR.2.1 rfl⟩ ⟨zk_le hR.2.2.1 rfl, zk_le hR.2.2.2 rfl⟩ hP hD hS hl.1 rfl (Nat.le_of_ble_eq_true rfl) dX7_word_46 (fun v_ H locs hq_ hP hD hS => ?_)
                obtain rfl := hq_
                refine zn_st (st2 := [.int (nI (zt_sp d_ k_)), .int (nI ((a 10) ((f 22) + k_)))]) rfl ?_
                have htl := ht0 (f 22 + k_) (by omega)
                refine zn_icmp_ne (tgt := 58) hx hb dX7_word_49 (by decide) (by omega) (by omega) (fun c_49 => ?_) (fun c_49 => ?_)
                · have hq : zt_len (a 10) (f 21) (f 22) d_ = k_ := by rw [hz2, show 8 - k_ = 7 - k_ + 1 by omega, zt_lcp, if_neg (by omega)]
                  refine lv_iload_n hx hb dX7_word_58 rfl (lv_at hl 1 rfl) ?_
                  refine lv_iload_n hx hb dX7_word_59 rfl (lv_at hl 0 rfl) ?_
                  refine zk_callSn fx (cm_spelled l s0 b d_ k_ (by omega) (by omega)) (lw_S q2701 q2702 q108 q2703) ⟨by decide, by decide, (show (parseMethodDescriptor yX7_spelled.desc).map (fun d => d.parameters.length) = some 2 by decide +kernel)⟩ ⟨zk_le hR.1 rfl, zk_le hR.2.1 rfl⟩ ⟨zk_le hR.2.2.1 rfl, zk_le hR.2.2.2 rfl⟩ hP hD hS hl.1 rfl (Nat.le_of_ble_eq_true rfl) dX7_word_60 (fun v_ H locs hq_ hP hD hS => ?_)
                  obtain rfl := hq_
                  refine zn_st (st2 := [.int (nI (zt_sp d_ k_))]) rfl ?_
                  refine zn_if_ne (tgt := 78) hx hb dX7_word_63 (by decide) (by omega) (fun c_63 => ?_) (fun c_63 => ?_)
                  · refine lv_iload_n hx hb dX7_word_78 rfl (lv_at hl 0 rfl) ?_
                    refine lv_iload_n hx hb dX7_word_79 rfl (lv_at hl 2 rfl) ?_
                    refine zn_icmp_le (tgt := 87) hx hb dX7_word_80 (by decide) (by omega) (by omega) (fun c_80 => ?_) (fun c_80 => ?_)
                    · refine lv_iload_n hx hb dX7_word_87 rfl (lv_at hl 2 rfl) ?_
                      refine lv_istore_n (lv' := [(1, .int (nI (best_))), (3, .int (nI (k_))), (2, .int (nI (d_))), (0, .ref (h 0))]) hx hb dX7_word_88 rfl hl (by decide) rfl (fun ls hl => ?_)
                      refine lv_iinc (v := nI (d_ + 1)) (lv' := [(2, .int (nI (d_ + 1))), (1, .int (nI (best_))), (3, .int (nI (k_))), (0, .ref (h 0))]) hx hb dX7_word_89 hl (k := 2) rfl (nI_add d_ 1) (by decide) rfl (fun ls hl => ?_)
                      refine lv_goto (tgt := 4) hx hb dX7_word_92 (by decide) ?_
                      exact ih_4 (d_ + 1) best_ (by omega) (by rw [hz, show 9 - d_ = 8 - d_ + 1 by omega, zt_wd, if_neg (by rw [hq]; omega), hq, if_neg (by omega), show 9 - (d_ + 1) = 8 - d_ by omega]) (by omega) (by omega) _ _ hP hD hS ls (lv_sub hl [0, 1, 3] rfl)
                    · refine lv_iload_n hx hb dX7_word_83 rfl (lv_at hl 0 rfl) ?_
                      refine lv_goto (tgt := 88) hx hb dX7_word_84 (by decide) ?_
                      refine lv_istore_n (lv' := [(1, .int (nI (k_))), (3, .int (nI (k_))), (2, .int (nI (d_))), (0, .ref (h 0))]) hx hb dX7_word_88 rfl hl (by decide) rfl (fun ls hl => ?_)
                      refine lv_iinc (v := nI (d_ + 1)) (lv' := [(2, .int (nI (d_ + 1))), (1, .int (nI (k_))), (3, .int (nI (k_))), (0, .ref (h 0))]) hx hb dX7_word_89 hl (k := 2) rfl (nI_add d_ 1) (by decide) rfl (fun ls hl => ?_)
                      refine lv_goto (tgt := 4) hx hb dX7_word_92 (by decide) ?_
                      exact ih_4 (d_ + 1) k_ (by omega) (by rw [hz, show 9 - d_ = 8 - d_ + 1 by omega, zt_wd, if_neg (by rw [hq]; omega), hq, if_pos (by omega), show 9 - (d_ + 1) = 8 - d_ by omega]) (by omega) (by omega) _ _ hP hD hS ls (lv_sub hl [0, 1, 3] rfl)
                  · refine lv_aload_n hx hb dX7_word_66 rfl (lv_at hl 3 rfl) ?_
                    refine lv_dup hx hb dX7_word_67 rfl ?_
                    refine zm_get (f := f) fx 22 (by decide) q2263 (v := .int (nI (f 22))) rfl hP dX7_word_68 ?_
                    refine lv_iload_n hx hb dX7_word_71 rfl (lv_at hl 0 rfl) ?_
                    refine zn_iadd hx hb dX7_word_72 ?_
                    refine zm_put fx 22 (by decide) q2263 (v := (f 22) + k_) hP hD hS dX7_word_73 (fun H locs hP hD hS => ?_)
                    have hP : va_P (zk_D s0) zk_Cl (zm_W s0 h (va_up f 22 ((f 22) + k_)) a) H := hP
                    refine lv_iload_n hx hb dX7_word_76 rfl (lv_at hl 1 rfl) ?_
                    have hq2 : zt_word (a 10) (f 21) (f 22) = (d_, f 22 + k_, 0) := by unfold zt_word; rw [hz, show 9 - d_ = 8 - d_ + 1 by omega, zt_wd, if_pos (by rw [hq]; omega), hq]
                    exact zk_reti (v := nI (d_)) fx eQ rfl (rfl) hP hD hS (Nat.le_of_ble_eq_true rfl) (Nat.le_of_ble_eq_true rfl) dX7_word_77 (⟨zk_eqr (by rw [hq2]), by rw [hq2, zx_id (g := f) (k := 24) hw0]⟩)
                · refine lv_iinc (v := nI (k_ + 1)) (lv' := [(3, .int (nI (k_ + 1))), (2, .int (nI (d_))), (1, .int (nI (best_))), (0, .ref (h 0))]) hx hb dX7_word_52 hl (k := 0) rfl (nI_add k_ 1) (by decide) rfl (fun ls hl => ?_)
                  refine lv_goto (tgt := 12) hx hb dX7_word_55 (by decide) ?_
                  exact ih_12 (k_ + 1) (by omega) (by rw [hz2, show 8 - k_ = 8 - (k_ + 1) + 1 by omega, zt_lcp, if_pos (by omega)]) (by omega) (by omega) _ _ hP hD hS ls (lv_sub hl [0, 1, 2, 3] rfl)
        exact lp_12 _ 0 (Nat.lt_succ_self _) rfl (by decide) (by omega) _ _ hP hD hS ls (lv_sub hl [0, 1, 2, 3] rfl)
  exact lp_4 _ 0 0 (Nat.lt_succ_self _) rfl (by decide) (by omega) _ _ hP hD hS ls (lv_sub hl [0, 1, 2] rfl)
set_option maxHeartbeats 4000000 in
set_option maxRecDepth 100000 in
theorem cm_firstDigits (l : Launch) (s0 : State) (b : Nat) (d_ : Nat) (hd : d_ < 2 ^ 31) : zk_C l s0 b yX7_firstDigits (ws_ yX7_firstDigits cX7_firstDigits 1 (some .int)) 0 0 0 0 [.int (nI (d_))] ([]) (fun r w => r = some (.int (nI (zt_fd d_))) ∧ w = []) := by
  refine zk_mk (by decide) rfl ?_
  intro p e s m below meth c A R args Q fx hR eQ hP hD hS ls hl
  have hx := fx.1
  have hb := fx.2.1
  have hK := fx.2.2.2.2.2.2.2.2.1.K
  have hl : lv_has ls 1 [(0, .int (nI (d_)))] := hl
  refine lv_iload_n hx hb dX7_firstDigits_0 rfl (lv_at hl 0 rfl) ?_
  refine lv_iconst (v := nI (1)) hx hb dX7_firstDigits_1 rfl ?_
  refine zn_icmp_ne (tgt := 9) hx hb dX7_firstDigits_2 (by decide) (by omega) (by omega) (fun c_2 => ?_) (fun c_2 => ?_)
  · refine lv_iload_n hx hb dX7_firstDigits_9 rfl (lv_at hl 0 rfl) ?_
    refine lv_bipush (v := nI (6)) hx hb dX7_firstDigits_10 (by decide) ?_
    refine zn_icmp_eq (tgt := 27) hx hb dX7_firstDigits_12 (by decide) (by omega) (by omega) (fun c_12 => ?_) (fun c_12 => ?_)
    · refine lv_iconst (v := nI (2)) hx hb dX7_firstDigits_27 rfl ?_
      refine lv_goto (tgt := 32) hx hb dX7_firstDigits_28 (by decide) ?_
      exact zk_reti (v := nI (2)) fx eQ rfl (rfl) hP hD hS (Nat.le_of_ble_eq_true rfl) (Nat.le_of_ble_eq_true rfl) dX7_firstDigits_32 (⟨zk_eqr (by unfold zt_fd; rw [if_neg (by omega), if_pos (by omega)]), rfl⟩)
    · refine lv_iload_n hx hb dX7_firstDigits_15 rfl (lv_at hl 0 rfl) ?_
      refine lv_bipush (v := nI (7)) hx hb dX7_firstDigits_16 (by decide) ?_
      refine zn_icmp_eq (tgt := 27) hx hb dX7_firstDigits_18 (by decide) (by omega) (by omega) (fun c_18 => ?_) (fun c_18 => ?_)
      · refine lv_iconst (v := nI (2)) hx hb dX7_firstDigits_27 rfl ?_
        refine lv_goto (tgt := 32) hx hb dX7_firstDigits_28 (by decide) ?_
        exact zk_reti (v := nI (2)) fx eQ rfl (rfl) hP hD hS (Nat.le_of_ble_eq_true rfl) (Nat.le_of_ble_eq_true rfl) dX7_firstDigits_32 (⟨zk_eqr (by unfold zt_fd; rw [if_neg (by omega), if_pos (by omega)]), rfl⟩)
      · refine lv_iload_n hx hb dX7_firstDigits_21 rfl (lv_at hl 0 rfl) ?_
        refine lv_bipush (v := nI (8)) hx hb dX7_firstDigits_22 (by decide) ?_
        refine zn_icmp_ne (tgt := 31) hx hb dX7_firstDigits_24 (by decide) (by omega) (by omega) (fun c_24 => ?_) (fun c_24 => ?_)
        · refine lv_iconst (v := nI (1)) hx hb dX7_firstDigits_31 rfl ?_
          exact zk_reti (v := nI (1)) fx eQ rfl (rfl) hP hD hS (Nat.le_of_ble_eq_true rfl) (Nat.le_of_ble_eq_true rfl) dX7_firstDigits_32 (⟨zk_eqr (by unfold zt_fd; rw [if_neg (by omega), if_neg (by omega)]), rfl⟩)
        · refine lv_iconst (v := nI (2)) hx hb dX7_firstDigits_27 rfl ?_
          refine lv_goto (tgt := 32) hx hb dX7_firstDigits_28 (by decide) ?_
          exact zk_reti (v := nI (2)) fx eQ rfl (rfl) hP hD hS (Nat.le_of_ble_eq_true rfl) (Nat.le_of_ble_eq_true rfl) dX7_firstDigits_32 (⟨zk_eqr (by unfold zt_fd; rw [if_neg (by omega), if_pos (by omega)]), rfl⟩)
  · refine lv_iconst (v := nI (3)) hx hb dX7_firstDigits_5 rfl ?_
    refine lv_goto (tgt := 32) hx hb dX7_firstDigits_6 (by decide) ?_
    exact zk_reti (v := nI (3)) fx eQ rfl (rfl) hP hD hS (Nat.le_of_ble_eq_true rfl) (Nat.le_of_ble_eq_true rfl) dX7_firstDigits_32 (⟨zk_eqr (by unfold zt_fd; rw [if_pos (by omega)]), rfl⟩)
set_option maxHeartbeats 4000000 in
set_option maxRecDepth 100000 in
theorem cm_command (l : Launch) (s0 : State) (b : Nat) (h f : Nat → Nat) (a : Nat → Nat → Nat) (hL0 : f 21 ≤ 60) (ht0 : ∀ i, i < f 21 → a 10 i ≤ 126) (hp0 : f 22 ≤ f 21) (hw0 : f 24 = 0) (hn0 : f 23 < 32) : zk_C l s0 b yX7_command (ws_ yX7_command cX7_command 2 none) 3 71 0 0 [.ref (h 0)] (zm_W s0 h f a) (fun r w => r = none ∧ w = zm_W s0 h (va_up (va_up (va_up f 24 (zt_cmd (a 10) (f 21) (f 22, 0, f 23, a 11, a 12, a 13)).w) 22 (zt_cmd (a 10) (f 21) (f 22, 0, f 23, a 11, a 12, a 13)).p) 23 (zt_cmd (a 10) (f 21) (f 22, 0, f 23, a 11, a 12, a 13)).n) (va_up (va_up (va_up a 12 (zt_cmd (a 10) (f 21) (f 22, 0, f 23, a 11, a 12, a 13)).F) 13 (zt_cmd (a 10) (f 21) (f 22, 0, f 23, a 11, a 12, a 13)).G) 11 (zt_cmd (a 10) (f 21) (f 22, 0, f 23, a 11, a 12, a 13)).K)) := by
  refine zk_mk (by decide) rfl ?_
  intro p e s m below meth c A R args Q fx hR eQ hP hD hS ls hl
  have hx := fx.1
  have hb := fx.2.1
  have hK := fx.2.2.2.2.2.2.2.2.1.K
  have hl : lv_has ls 2 [(0, .ref (h 0))] := hl
  obtain ⟨w1, w2, w3, w4, w5⟩ := zt_word_ok (t := a 10) hp0
  obtain ⟨x1, x2, x3, x4⟩ := zt_x_ok (t := a 10) (d := zt_word (a 10) (f 21) (f 22)) w3
  obtain ⟨y1, y2, y3, y4, y5⟩ := zt_y_ok (t := a 10) (kd := (zt_word (a 10) (f 21) (f 22)).1) (x := zt_x (a 10) (f 21) (zt_word (a 10) (f 21) (f 22))) x3 x4
  refine lv_aload_n hx hb dX7_command_0 rfl (lv_at hl 0 rfl) ?_
  refine zk_callV0 fx (cm_word l s0 b h f a  (hL0) (ht0) (show f 22 ≤ f 21 by omega) (hw0)) (lw_V q2697 q2699 qs77 q108 q2700) ⟨rfl, by decide, by decide, (show (parseMethodDescriptor yX7_word.desc).map (fun d => d.parameters.length) = some 0 by decide +kernel)⟩ ⟨zk_le hR.1 rfl, zk_le hR.2.1 rfl⟩ ⟨zk_le hR.2.2.1 rfl, zk_le hR.2.2.2 rfl⟩ hP hD hS 0 rfl rfl 0 rfl hl.1 rfl (Nat.le_of_ble_eq_true rfl) dX7_command_1 (fun v_ w_ H locs hq_ hP hD hS => ?_)
  obtain ⟨rfl, rfl⟩ := hq_
  refine zn_st (st2 := [.int (nI ((zt_word (a 10) (f 21) (f 22)).1))]) rfl ?_
  refine lv_istore_n (lv' := [(1, .int (nI ((zt_word (a 10) (f 21) (f 22)).1))), (0, .ref (h 0))]) hx hb dX7_command_4 rfl hl (by decide) rfl (fun ls hl => ?_)
  refine lv_aload_n hx hb dX7_command_5 rfl (lv_at hl 1 rfl) ?_
  refine zm_get (f := (va_up (va_up f 24 ((zt_word (a 10) (f 21) (f 22)).2.2)) 22 ((zt_word (a 10) (f 21) (f 22)).2.1))) fx 24 (by decide) q2265 (v := .int (nI ((zt_word (a 10) (f 21) (f 22)).2.2))) rfl hP dX7_command_6 ?_
  refine zn_if_eq (tgt := 13) hx hb dX7_command_9 (by decide) (by omega) (fun c_9 => ?_) (fun c_9 => ?_)
  · have hP : va_P (zk_D s0) zk_Cl (zm_W s0 h (va_up (va_up f 24 (0)) 22 ((zt_word (a 10) (f 21) (f 22)).2.1)) a) H := by rw [c_9] at hP; exact hP
    have hD : va_D A (zm_W s0 h (va_up (va_up f 24 (0)) 22 ((zt_word (a 10) (f 21) (f 22)).2.1)) a) := by rw [c_9] at hD; exact hD
    have hne : ¬ (zt_word (a 10) (f 21) (f 22)).2.2 ≠ 0 := fun z => z c_9
    refine lv_aload_n hx hb dX7_command_13 rfl (lv_at hl 1 rfl) ?_
    refine zm_get (f := (va_up (va_up f 24 (0)) 22 ((zt_word (a 10) (f 21) (f 22)).2.1))) fx 18 (by decide) q2259 (v := .ref (h 13)) rfl hP dX7_command_14 ?_
    refine lv_aload_n hx hb dX7_command_17 rfl (lv_at hl 1 rfl) ?_
    refine zm_get (f := (va_up (va_up f 24 (0)) 22 ((zt_word (a 10) (f 21) (f 22)).2.1))) fx 23 (by decide) q2264 (v := .int (nI (f 23))) rfl hP dX7_command_18 ?_
    refine lv_iload_n hx hb dX7_command_21 rfl (lv_at hl 0 rfl) ?_
    refine lv_iconst (v := nI (5)) hx hb dX7_command_22 rfl ?_
    refine zn_icmp_ne (tgt := 30) hx hb dX7_command_23 (by decide) (by omega) (by omega) (fun c_23 => ?_) (fun c_23 => ?_)
    · refine lv_aload_n hx hb dX7_command_30 rfl (lv_at hl 1 rfl) ?_
      refine lv_iload_n hx hb dX7_command_31 rfl (lv_at hl 0 rfl) ?_
      refine zk_callSn fx (cm_firstDigits l s0 b ((zt_word (a 10) (f 21) (f 22)).1) (by omega)) (lw_S q2707 q2708 q108 q2709) ⟨by decide, by decide, (show (parseMethodDescriptor yX7_firstDigits.desc).map (fun d => d.parameters.length) = some 1 by decide +kernel)⟩ ⟨zk_le hR.1 rfl, zk_le hR.2.1 rfl⟩ ⟨zk_le hR.2.2.1 rfl, zk_le hR.2.2.2 rfl⟩ hP hD hS hl.1 rfl (Nat.le_of_ble_eq_true rfl) dX7_command_32 (fun v_ H locs hq_ hP hD hS => ?_)
      obtain rfl := hq_
      refine zn_st (st2 := [.int (nI (zt_fd ((zt_word (a 10) (f 21) (f 22)).1))), .ref (h 0), .int (nI (f 23)), .ref (h 13)]) rfl ?_
      refine zk_callV0 fx (cm_number l s0 b h (va_up (va_up f 24 (0)) 22 ((zt_word (a 10) (f 21) (f 22)).2.1)) a (zt_fd ((zt_word (a 10) (f 21) (f 22)).1)) (show zt_fd ((zt_word (a 10) (f 21) (f 22)).1) ≤ 3 by have := zt_fd_le (zt_word (a 10) (f 21) (f 22)).1; omega) (hL0) (ht0) (show (zt_word (a 10) (f 21) (f 22)).2.1 ≤ f 21 by omega) (show 0 = 0 ∨ 0 = 1 by omega)) (lw_V q2710 q2712 qs78 q108 q2713) ⟨rfl, by decide, by decide, (show (parseMethodDescriptor yX7_number.desc).map (fun d => d.parameters.length) = some 1 by decide +kernel)⟩ ⟨zk_le hR.1 rfl, zk_le hR.2.1 rfl⟩ ⟨zk_le hR.2.2.1 rfl, zk_le hR.2.2.2 rfl⟩ hP hD hS 0 rfl rfl 0 rfl hl.1 rfl (Nat.le_of_ble_eq_true rfl) dX7_command_35 (fun v_ w_ H locs hq_ hP hD hS => ?_)
      obtain ⟨rfl, rfl⟩ := hq_
      refine zn_st (st2 := [.int (nI ((zt_number (a 10) (f 21) (zt_fd ((zt_word (a 10) (f 21) (f 22)).1)) 0 ((zt_word (a 10) (f 21) (f 22)).2.1)).1)), .int (nI (f 23)), .ref (h 13)]) rfl ?_
      have hP : va_P (zk_D s0) zk_Cl (zm_W s0 h (va_up (va_up f 24 ((zt_number (a 10) (f 21) (zt_fd ((zt_word (a 10) (f 21) (f 22)).1)) 0 ((zt_word (a 10) (f 21) (f 22)).2.1)).2.2)) 22 ((zt_number (a 10) (f 21) (zt_fd ((zt_word (a 10) (f 21) (f 22)).1)) 0 ((zt_word (a 10) (f 21) (f 22)).2.1)).2.1)) a) H := by rw [zx_2224, bx_uu, bx_uu] at hP; exact hP
      have hD : va_D A (zm_W s0 h (va_up (va_up f 24 ((zt_number (a 10) (f 21) (zt_fd ((zt_word (a 10) (f 21) (f 22)).1)) 0 ((zt_word (a 10) (f 21) (f 22)).2.1)).2.2)) 22 ((zt_number (a 10) (f 21) (zt_fd ((zt_word (a 10) (f 21) (f 22)).1)) 0 ((zt_word (a 10) (f 21) (f 22)).2.1)).2.1)) a) := by rw [zx_2224, bx_uu, bx_uu] at hD; exact hD
      have ex_ : zt_x (a 10) (f 21) (zt_word (a 10) (f 21) (f 22)) = zt_number (a 10) (f 21) (zt_fd (zt_word (a 10) (f 21) (f 22)).1) 0 (zt_word (a 10) (f 21) (f 22)).2.1 := by unfold zt_x; rw [if_neg c_23]
      refine zn_top (y := nI ((zt_x (a 10) (f 21) (zt_word (a 10) (f 21) (f 22))).1)) (by rw [ex_]) ?_
      have hP : va_P (zk_D s0) zk_Cl (zm_W s0 h (va_up (va_up f 24 ((zt_x (a 10) (f 21) (zt_word (a 10) (f 21) (f 22))).2.2)) 22 ((zt_x (a 10) (f 21) (zt_word (a 10) (f 21) (f 22))).2.1)) a) H := by rw [ex_]; exact hP
      have hD : va_D A (zm_W s0 h (va_up (va_up f 24 ((zt_x (a 10) (f 21) (zt_word (a 10) (f 21) (f 22))).2.2)) 22 ((zt_x (a 10) (f 21) (zt_word (a 10) (f 21) (f 22))).2.1)) a) := by rw [ex_]; exact hD
      clear ex_
      refine zn_ast hx hb hK hP hD hS 13 (n := 32) rfl (i := f 23) (x := (zt_x (a 10) (f 21) (zt_word (a 10) (f 21) (f 22))).1) (by omega) (by decide) dX7_command_38 (zm_seta 12 (by decide) 32 rfl (va_up (a 12) (f 23) ((zt_x (a 10) (f 21) (zt_word (a 10) (f 21) (f 22))).1))) (fun H locs hP hD hS => ?_)
      refine lv_aload_n hx hb dX7_command_39 rfl (lv_at hl 1 rfl) ?_
      refine zm_get (f := (va_up (va_up f 24 ((zt_x (a 10) (f 21) (zt_word (a 10) (f 21) (f 22))).2.2)) 22 ((zt_x (a 10) (f 21) (zt_word (a 10) (f 21) (f 22))).2.1))) fx 19 (by decide) q2260 (v := .ref (h 14)) rfl hP dX7_command_40 ?_
      refine lv_aload_n hx hb dX7_command_43 rfl (lv_at hl 1 rfl) ?_
      refine zm_get (f := (va_up (va_up f 24 ((zt_x (a 10) (f 21) (zt_word (a 10) (f 21) (f 22))).2.2)) 22 ((zt_x (a 10) (f 21) (zt_word (a 10) (f 21) (f 22))).2.1))) fx 23 (by decide) q2264 (v := .int (nI (f 23))) rfl hP dX7_command_44 ?_
      refine lv_iload_n hx hb dX7_command_47 rfl (lv_at hl 0 rfl) ?_
      refine zn_if_ne (tgt := 59) hx hb dX7_command_48 (by decide) (by omega) (fun c_48 => ?_) (fun c_48 => ?_)
      · refine lv_iload_n hx hb dX7_command_59 rfl (lv_at hl 0 rfl) ?_
        refine lv_iconst (v := nI (2)) hx hb dX7_command_60 rfl ?_
        refine zn_icmp_ne (tgt := 72) hx hb dX7_command_61 (by decide) (by omega) (by omega) (fun c_61 => ?_) (fun c_61 => ?_)
        · refine lv_iconst (v := nI (0)) hx hb dX7_command_72 rfl ?_
          have ey_ : zt_y (a 10) (f 21) (zt_word (a 10) (f 21) (f 22)).1 (zt_x (a 10) (f 21) (zt_word (a 10) (f 21) (f 22))) = (0, (zt_x (a 10) (f 21) (zt_word (a 10) (f 21) (f 22))).2.1, (zt_x (a 10) (f 21) (zt_word (a 10) (f 21) (f 22))).2.2) := by unfold zt_y; rw [if_neg (by omega), if_neg (by omega)]
          refine zn_top (y := nI ((zt_y (a 10) (f 21) (zt_word (a 10) (f 21) (f 22)).1 (zt_x (a 10) (f 21) (zt_word (a 10) (f 21) (f 22)))).1)) (by rw [ey_]) ?_
          have hP : va_P (zk_D s0) zk_Cl (zm_W s0 h (va_up (va_up f 24 ((zt_y (a 10) (f 21) (zt_word (a 10) (f 21) (f 22)).1 (zt_x (a 10) (f 21) (zt_word (a 10) (f 21) (f 22)))).2.2)) 22 ((zt_y (a 10) (f 21) (zt_word (a 10) (f 21) (f 22)).1 (zt_x (a 10) (f 21) (zt_word (a 10) (f 21) (f 22)))).2.1)) (va_up a 12 (va_up (a 12) (f 23) ((zt_x (a 10) (f 21) (zt_word (a 10) (f 21) (f 22))).1)))) H := by rw [ey_]; exact hP
          have hD : va_D A (zm_W s0 h (va_up (va_up f 24 ((zt_y (a 10) (f 21) (zt_word (a 10) (f 21) (f 22)).1 (zt_x (a 10) (f 21) (zt_word (a 10) (f 21) (f 22)))).2.2)) 22 ((zt_y (a 10) (f 21) (zt_word (a 10) (f 21) (f 22)).1 (zt_x (a 10) (f 21) (zt_word (a 10) (f 21) (f 22)))).2.1)) (va_up a 12 (va_up (a 12) (f 23) ((zt_x (a 10) (f 21) (zt_word (a 10) (f 21) (f 22))).1)))) := by rw [ey_]; exact hD
          clear ey_
          refine zn_ast hx hb hK hP hD hS 14 (n := 32) rfl (i := f 23) (x := (zt_y (a 10) (f 21) (zt_word (a 10) (f 21) (f 22)).1 (zt_x (a 10) (f 21) (zt_word (a 10) (f 21) (f 22)))).1) (by omega) (by decide) dX7_command_73 (zm_seta 13 (by decide) 32 rfl (va_up (a 13) (f 23) ((zt_y (a 10) (f 21) (zt_word (a 10) (f 21) (f 22)).1 (zt_x (a 10) (f 21) (zt_word (a 10) (f 21) (f 22)))).1))) (fun H locs hP hD hS => ?_)
          refine lv_aload_n hx hb dX7_command_74 rfl (lv_at hl 1 rfl) ?_
          refine zm_get (f := (va_up (va_up f 24 ((zt_y (a 10) (f 21) (zt_word (a 10) (f 21) (f 22)).1 (zt_x (a 10) (f 21) (zt_word (a 10) (f 21) (f 22)))).2.2)) 22 ((zt_y (a 10) (f 21) (zt_word (a 10) (f 21) (f 22)).1 (zt_x (a 10) (f 21) (zt_word (a 10) (f 21) (f 22)))).2.1))) fx 24 (by decide) q2265 (v := .int (nI ((zt_y (a 10) (f 21) (zt_word (a 10) (f 21) (f 22)).1 (zt_x (a 10) (f 21) (zt_word (a 10) (f 21) (f 22)))).2.2))) rfl hP dX7_command_75 ?_
          refine zn_if_eq (tgt := 82) hx hb dX7_command_78 (by decide) (by omega) (fun c_78 => ?_) (fun c_78 => ?_)
          · refine lv_aload_n hx hb dX7_command_82 rfl (lv_at hl 1 rfl) ?_
            refine zm_get (f := (va_up (va_up f 24 ((zt_y (a 10) (f 21) (zt_word (a 10) (f 21) (f 22)).1 (zt_x (a 10) (f 21) (zt_word (a 10) (f 21) (f 22)))).2.2)) 22 ((zt_y (a 10) (f 21) (zt_word (a 10) (f 21) (f 22)).1 (zt_x (a 10) (f 21) (zt_word (a 10) (f 21) (f 22)))).2.1))) fx 17 (by decide) q2258 (v := .ref (h 12)) rfl hP dX7_command_83 ?_
            refine lv_aload_n hx hb dX7_command_86 rfl (lv_at hl 1 rfl) ?_
            refine zm_get (f := (va_up (va_up f 24 ((zt_y (a 10) (f 21) (zt_word (a 10) (f 21) (f 22)).1 (zt_x (a 10) (f 21) (zt_word (a 10) (f 21) (f 22)))).2.2)) 22 ((zt_y (a 10) (f 21) (zt_word (a 10) (f 21) (f 22)).1 (zt_x (a 10) (f 21) (zt_word (a 10) (f 21) (f 22)))).2.1))) fx 23 (by decide) q2264 (v := .int (nI (f 23))) rfl hP dX7_command_87 ?_
            refine lv_iload_n hx hb dX7_command_90 rfl (lv_at hl 0 rfl) ?_
            refine zn_ast hx hb hK hP hD hS 12 (n := 32) rfl (i := f 23) (x := (zt_word (a 10) (f 21) (f 22)).1) (by omega) (by decide) dX7_command_91 (zm_seta 11 (by decide) 32 rfl (va_up (a 11) (f 23) ((zt_word (a 10) (f 21) (f 22)).1))) (fun H locs hP hD hS => ?_)
            refine lv_aload_n hx hb dX7_command_92 rfl (lv_at hl 1 rfl) ?_
            refine lv_dup hx hb dX7_command_93 rfl ?_
            refine zm_get (f := (va_up (va_up f 24 ((zt_y (a 10) (f 21) (zt_word (a 10) (f 21) (f 22)).1 (zt_x (a 10) (f 21) (zt_word (a 10) (f 21) (f 22)))).2.2)) 22 ((zt_y (a 10) (f 21) (zt_word (a 10) (f 21) (f 22)).1 (zt_x (a 10) (f 21) (zt_word (a 10) (f 21) (f 22)))).2.1))) fx 23 (by decide) q2264 (v := .int (nI (f 23))) rfl hP dX7_command_94 ?_
            refine lv_iconst (v := nI (1)) hx hb dX7_command_97 rfl ?_
            refine zn_iadd hx hb dX7_command_98 ?_
            refine zm_put fx 23 (by decide) q2264 (v := (f 23) + 1) hP hD hS dX7_command_99 (fun H locs hP hD hS => ?_)
            have hP : va_P (zk_D s0) zk_Cl (zm_W s0 h (va_up (va_up (va_up f 24 ((zt_y (a 10) (f 21) (zt_word (a 10) (f 21) (f 22)).1 (zt_x (a 10) (f 21) (zt_word (a 10) (f 21) (f 22)))).2.2)) 22 ((zt_y (a 10) (f 21) (zt_word (a 10) (f 21) (f 22)).1 (zt_x (a 10) (f 21) (zt_word (a 10) (f 21) (f 22)))).2.1)) 23 ((f 23) + 1)) (va_up (va_up (va_up a 12 (va_up (a 12) (f 23) ((zt_x (a 10) (f 21) (zt_word (a 10) (f 21) (f 22))).1))) 13 (va_up (a 13) (f 23) ((zt_y (a 10) (f 21) (zt_word (a 10) (f 21) (f 22)).1 (zt_x (a 10) (f 21) (zt_word (a 10) (f 21) (f 22)))).1))) 11 (va_up (a 11) (f 23) ((zt_word (a 10) (f 21) (f 22)).1)))) H := hP
            have hc : zt_cmd (a 10) (f 21) (f 22, 0, f 23, a 11, a 12, a 13) = ((zt_y (a 10) (f 21) (zt_word (a 10) (f 21) (f 22)).1 (zt_x (a 10) (f 21) (zt_word (a 10) (f 21) (f 22)))).2.1, (zt_y (a 10) (f 21) (zt_word (a 10) (f 21) (f 22)).1 (zt_x (a 10) (f 21) (zt_word (a 10) (f 21) (f 22)))).2.2, f 23 + 1, va_up (a 11) (f 23) (zt_word (a 10) (f 21) (f 22)).1, va_up (a 12) (f 23) (zt_x (a 10) (f 21) (zt_word (a 10) (f 21) (f 22))).1, va_up (a 13) (f 23) (zt_y (a 10) (f 21) (zt_word (a 10) (f 21) (f 22)).1 (zt_x (a 10) (f 21) (zt_word (a 10) (f 21) (f 22)))).1) := (if_neg hne).trans (if_neg (fun z => z c_78))
            exact zk_retv fx eQ rfl hP hD hS (Nat.le_of_ble_eq_true rfl) (Nat.le_of_ble_eq_true rfl) dX7_command_102 (⟨rfl, by rw [hc]; rfl⟩)
          · have hc : zt_cmd (a 10) (f 21) (f 22, 0, f 23, a 11, a 12, a 13) = ((zt_y (a 10) (f 21) (zt_word (a 10) (f 21) (f 22)).1 (zt_x (a 10) (f 21) (zt_word (a 10) (f 21) (f 22)))).2.1, (zt_y (a 10) (f 21) (zt_word (a 10) (f 21) (f 22)).1 (zt_x (a 10) (f 21) (zt_word (a 10) (f 21) (f 22)))).2.2, f 23, a 11, va_up (a 12) (f 23) (zt_x (a 10) (f 21) (zt_word (a 10) (f 21) (f 22))).1, va_up (a 13) (f 23) (zt_y (a 10) (f 21) (zt_word (a 10) (f 21) (f 22)).1 (zt_x (a 10) (f 21) (zt_word (a 10) (f 21) (f 22)))).1) := (if_neg hne).trans (if_pos c_78)
            exact zk_retv fx eQ rfl hP hD hS (Nat.le_of_ble_eq_true rfl) (Nat.le_of_ble_eq_true rfl) dX7_command_81 (⟨rfl, by rw [hc]; exact zm_cmd1⟩)
        · refine lv_aload_n hx hb dX7_command_64 rfl (lv_at hl 1 rfl) ?_
          refine lv_iconst (v := nI (2)) hx hb dX7_command_65 rfl ?_
          refine zk_callV0 fx (cm_number l s0 b h (va_up (va_up f 24 ((zt_x (a 10) (f 21) (zt_word (a 10) (f 21) (f 22))).2.2)) 22 ((zt_x (a 10) (f 21) (zt_word (a 10) (f 21) (f 22))).2.1)) (va_up a 12 (va_up (a 12) (f 23) ((zt_x (a 10) (f 21) (zt_word (a 10) (f 21) (f 22))).1))) 2 (show 2 ≤ 3 by have := zt_fd_le (zt_word (a 10) (f 21) (f 22)).1; omega) (hL0) (ht0) (show (zt_x (a 10) (f 21) (zt_word (a 10) (f 21) (f 22))).2.1 ≤ f 21 by omega) (show (zt_x (a 10) (f 21) (zt_word (a 10) (f 21) (f 22))).2.2 = 0 ∨ (zt_x (a 10) (f 21) (zt_word (a 10) (f 21) (f 22))).2.2 = 1 by omega)) (lw_V q2710 q2712 qs78 q108 q2713) ⟨rfl, by decide, by decide, (show (parseMethodDescriptor yX7_number.desc).map (fun d => d.parameters.length) = some 1 by decide +kernel)⟩ ⟨zk_le hR.1 rfl, zk_le hR.2.1 rfl⟩ ⟨zk_le hR.2.2.1 rfl, zk_le hR.2.2.2 rfl⟩ hP hD hS 0 rfl rfl 0 rfl hl.1 rfl (Nat.le_of_ble_eq_true rfl) dX7_command_66 (fun v_ w_ H locs hq_ hP hD hS => ?_)
          obtain ⟨rfl, rfl⟩ := hq_
          refine zn_st (st2 := [.int (nI ((zt_number (a 10) (f 21) 2 ((zt_x (a 10) (f 21) (zt_word (a 10) (f 21) (f 22))).2.2) ((zt_x (a 10) (f 21) (zt_word (a 10) (f 21) (f 22))).2.1)).1)), .int (nI (f 23)), .ref (h 14)]) rfl ?_
          have hP : va_P (zk_D s0) zk_Cl (zm_W s0 h (va_up (va_up f 24 ((zt_number (a 10) (f 21) 2 ((zt_x (a 10) (f 21) (zt_word (a 10) (f 21) (f 22))).2.2) ((zt_x (a 10) (f 21) (zt_word (a 10) (f 21) (f 22))).2.1)).2.2)) 22 ((zt_number (a 10) (f 21) 2 ((zt_x (a 10) (f 21) (zt_word (a 10) (f 21) (f 22))).2.2) ((zt_x (a 10) (f 21) (zt_word (a 10) (f 21) (f 22))).2.1)).2.1)) (va_up a 12 (va_up (a 12) (f 23) ((zt_x (a 10) (f 21) (zt_word (a 10) (f 21) (f 22))).1)))) H := by rw [zx_2224, bx_uu, bx_uu] at hP; exact hP
          have hD : va_D A (zm_W s0 h (va_up (va_up f 24 ((zt_number (a 10) (f 21) 2 ((zt_x (a 10) (f 21) (zt_word (a 10) (f 21) (f 22))).2.2) ((zt_x (a 10) (f 21) (zt_word (a 10) (f 21) (f 22))).2.1)).2.2)) 22 ((zt_number (a 10) (f 21) 2 ((zt_x (a 10) (f 21) (zt_word (a 10) (f 21) (f 22))).2.2) ((zt_x (a 10) (f 21) (zt_word (a 10) (f 21) (f 22))).2.1)).2.1)) (va_up a 12 (va_up (a 12) (f 23) ((zt_x (a 10) (f 21) (zt_word (a 10) (f 21) (f 22))).1)))) := by rw [zx_2224, bx_uu, bx_uu] at hD; exact hD
          refine lv_goto (tgt := 73) hx hb dX7_command_69 (by decide) ?_
          have ey_ : zt_y (a 10) (f 21) (zt_word (a 10) (f 21) (f 22)).1 (zt_x (a 10) (f 21) (zt_word (a 10) (f 21) (f 22))) = zt_number (a 10) (f 21) 2 (zt_x (a 10) (f 21) (zt_word (a 10) (f 21) (f 22))).2.2 (zt_x (a 10) (f 21) (zt_word (a 10) (f 21) (f 22))).2.1 := by unfold zt_y; rw [if_neg (by omega), if_pos (by omega)]
          refine zn_top (y := nI ((zt_y (a 10) (f 21) (zt_word (a 10) (f 21) (f 22)).1 (zt_x (a 10) (f 21) (zt_word (a 10) (f 21) (f 22)))).1)) (by rw [ey_]) ?_
          have hP : va_P (zk_D s0) zk_Cl (zm_W s0 h (va_up (va_up f 24 ((zt_y (a 10) (f 21) (zt_word (a 10) (f 21) (f 22)).1 (zt_x (a 10) (f 21) (zt_word (a 10) (f 21) (f 22)))).2.2)) 22 ((zt_y (a 10) (f 21) (zt_word (a 10) (f 21) (f 22)).1 (zt_x (a 10) (f 21) (zt_word (a 10) (f 21) (f 22)))).2.1)) (va_up a 12 (va_up (a 12) (f 23) ((zt_x (a 10) (f 21) (zt_word (a 10) (f 21) (f 22))).1)))) H := by rw [ey_]; exact hP
          have hD : va_D A (zm_W s0 h (va_up (va_up f 24 ((zt_y (a 10) (f 21) (zt_word (a 10) (f 21) (f 22)).1 (zt_x (a 10) (f 21) (zt_word (a 10) (f 21) (f 22)))).2.2)) 22 ((zt_y (a 10) (f 21) (zt_word (a 10) (f 21) (f 22)).1 (zt_x (a 10) (f 21) (zt_word (a 10) (f 21) (f 22)))).2.1)) (va_up a 12 (va_up (a 12) (f 23) ((zt_x (a 10) (f 21) (zt_word (a 10) (f 21) (f 22))).1)))) := by rw [ey_]; exact hD
          clear ey_
          refine zn_ast hx hb hK hP hD hS 14 (n := 32) rfl (i := f 23) (x := (zt_y (a 10) (f 21) (zt_word (a 10) (f 21) (f 22)).1 (zt_x (a 10) (f 21) (zt_word (a 10) (f 21) (f 22)))).1) (by omega) (by decide) dX7_command_73 (zm_seta 13 (by decide) 32 rfl (va_up (a 13) (f 23) ((zt_y (a 10) (f 21) (zt_word (a 10) (f 21) (f 22)).1 (zt_x (a 10) (f 21) (zt_word (a 10) (f 21) (f 22)))).1))) (fun H locs hP hD hS => ?_)
          refine lv_aload_n hx hb dX7_command_74 rfl (lv_at hl 1 rfl) ?_
          refine zm_get (f := (va_up (va_up f 24 ((zt_y (a 10) (f 21) (zt_word (a 10) (f 21) (f 22)).1 (zt_x (a 10) (f 21) (zt_word (a 10) (f 21) (f 22)))).2.2)) 22 ((zt_y (a 10) (f 21) (zt_word (a 10) (f 21) (f 22)).1 (zt_x (a 10) (f 21) (zt_word (a 10) (f 21) (f 22)))).2.1))) fx 24 (by decide) q2265 (v := .int (nI ((zt_y (a 10) (f 21) (zt_word (a 10) (f 21) (f 22)).1 (zt_x (a 10) (f 21) (zt_word (a 10) (f 21) (f 22)))).2.2))) rfl hP dX7_command_75 ?_
          refine zn_if_eq (tgt := 82) hx hb dX7_command_78 (by decide) (by omega) (fun c_78 => ?_) (fun c_78 => ?_)
          · refine lv_aload_n hx hb dX7_command_82 rfl (lv_at hl 1 rfl) ?_
            refine zm_get (f := (va_up (va_up f 24 ((zt_y (a 10) (f 21) (zt_word (a 10) (f 21) (f 22)).1 (zt_x (a 10) (f 21) (zt_word (a 10) (f 21) (f 22)))).2.2)) 22 ((zt_y (a 10) (f 21) (zt_word (a 10) (f 21) (f 22)).1 (zt_x (a 10) (f 21) (zt_word (a 10) (f 21) (f 22)))).2.1))) fx 17 (by decide) q2258 (v := .ref (h 12)) rfl hP dX7_command_83 ?_
            refine lv_aload_n hx hb dX7_command_86 rfl (lv_at hl 1 rfl) ?_
            refine zm_get (f := (va_up (va_up f 24 ((zt_y (a 10) (f 21) (zt_word (a 10) (f 21) (f 22)).1 (zt_x (a 10) (f 21) (zt_word (a 10) (f 21) (f 22)))).2.2)) 22 ((zt_y (a 10) (f 21) (zt_word (a 10) (f 21) (f 22)).1 (zt_x (a 10) (f 21) (zt_word (a 10) (f 21) (f 22)))).2.1))) fx 23 (by decide) q2264 (v := .int (nI (f 23))) rfl hP dX7_command_87 ?_
            refine lv_iload_n hx hb dX7_command_90 rfl (lv_at hl 0 rfl) ?_
            refine zn_ast hx hb hK hP hD hS 12 (n := 32) rfl (i := f 23) (x := (zt_word (a 10) (f 21) (f 22)).1) (by omega) (by decide) dX7_command_91 (zm_seta 11 (by decide) 32 rfl (va_up (a 11) (f 23) ((zt_word (a 10) (f 21) (f 22)).1))) (fun H locs hP hD hS => ?_)
            refine lv_aload_n hx hb dX7_command_92 rfl (lv_at hl 1 rfl) ?_
            refine lv_dup hx hb dX7_command_93 rfl ?_
            refine zm_get (f := (va_up (va_up f 24 ((zt_y (a 10) (f 21) (zt_word (a 10) (f 21) (f 22)).1 (zt_x (a 10) (f 21) (zt_word (a 10) (f 21) (f 22)))).2.2)) 22 ((zt_y (a 10) (f 21) (zt_word (a 10) (f 21) (f 22)).1 (zt_x (a 10) (f 21) (zt_word (a 10) (f 21) (f 22)))).2.1))) fx 23 (by decide) q2264 (v := .int (nI (f 23))) rfl hP dX7_command_94 ?_
            refine lv_iconst (v := nI (1)) hx hb dX7_command_97 rfl ?_
            refine zn_iadd hx hb dX7_command_98 ?_
            refine zm_put fx 23 (by decide) q2264 (v := (f 23) + 1) hP hD hS dX7_command_99 (fun H locs hP hD hS => ?_)
            have hP : va_P (zk_D s0) zk_Cl (zm_W s0 h (va_up (va_up (va_up f 24 ((zt_y (a 10) (f 21) (zt_word (a 10) (f 21) (f 22)).1 (zt_x (a 10) (f 21) (zt_word (a 10) (f 21) (f 22)))).2.2)) 22 ((zt_y (a 10) (f 21) (zt_word (a 10) (f 21) (f 22)).1 (zt_x (a 10) (f 21) (zt_word (a 10) (f 21) (f 22)))).2.1)) 23 ((f 23) + 1)) (va_up (va_up (va_up a 12 (va_up (a 12) (f 23) ((zt_x (a 10) (f 21) (zt_word (a 10) (f 21) (f 22))).1))) 13 (va_up (a 13) (f 23) ((zt_y (a 10) (f 21) (zt_word (a 10) (f 21) (f 22)).1 (zt_x (a 10) (f 21) (zt_word (a 10) (f 21) (f 22)))).1))) 11 (va_up (a 11) (f 23) ((zt_word (a 10) (f 21) (f 22)).1)))) H := hP
            have hc : zt_cmd (a 10) (f 21) (f 22, 0, f 23, a 11, a 12, a 13) = ((zt_y (a 10) (f 21) (zt_word (a 10) (f 21) (f 22)).1 (zt_x (a 10) (f 21) (zt_word (a 10) (f 21) (f 22)))).2.1, (zt_y (a 10) (f 21) (zt_word (a 10) (f 21) (f 22)).1 (zt_x (a 10) (f 21) (zt_word (a 10) (f 21) (f 22)))).2.2, f 23 + 1, va_up (a 11) (f 23) (zt_word (a 10) (f 21) (f 22)).1, va_up (a 12) (f 23) (zt_x (a 10) (f 21) (zt_word (a 10) (f 21) (f 22))).1, va_up (a 13) (f 23) (zt_y (a 10) (f 21) (zt_word (a 10) (f 21) (f 22)).1 (zt_x (a 10) (f 21) (zt_word (a 10) (f 21) (f 22)))).1) := (if_neg hne).trans (if_neg (fun z => z c_78))
            exact zk_retv fx eQ rfl hP hD hS (Nat.le_of_ble_eq_true rfl) (Nat.le_of_ble_eq_true rfl) dX7_command_102 (⟨rfl, by rw [hc]; rfl⟩)
          · have hc : zt_cmd (a 10) (f 21) (f 22, 0, f 23, a 11, a 12, a 13) = ((zt_y (a 10) (f 21) (zt_word (a 10) (f 21) (f 22)).1 (zt_x (a 10) (f 21) (zt_word (a 10) (f 21) (f 22)))).2.1, (zt_y (a 10) (f 21) (zt_word (a 10) (f 21) (f 22)).1 (zt_x (a 10) (f 21) (zt_word (a 10) (f 21) (f 22)))).2.2, f 23, a 11, va_up (a 12) (f 23) (zt_x (a 10) (f 21) (zt_word (a 10) (f 21) (f 22))).1, va_up (a 13) (f 23) (zt_y (a 10) (f 21) (zt_word (a 10) (f 21) (f 22)).1 (zt_x (a 10) (f 21) (zt_word (a 10) (f 21) (f 22)))).1) := (if_neg hne).trans (if_pos c_78)
            exact zk_retv fx eQ rfl hP hD hS (Nat.le_of_ble_eq_true rfl) (Nat.le_of_ble_eq_true rfl) dX7_command_81 (⟨rfl, by rw [hc]; exact zm_cmd1⟩)
      · refine lv_aload_n hx hb dX7_command_51 rfl (lv_at hl 1 rfl) ?_
        refine lv_iconst (v := nI (3)) hx hb dX7_command_52 rfl ?_
        refine zk_callV0 fx (cm_number l s0 b h (va_up (va_up f 24 ((zt_x (a 10) (f 21) (zt_word (a 10) (f 21) (f 22))).2.2)) 22 ((zt_x (a 10) (f 21) (zt_word (a 10) (f 21) (f 22))).2.1)) (va_up a 12 (va_up (a 12) (f 23) ((zt_x (a 10) (f 21) (zt_word (a 10) (f 21) (f 22))).1))) 3 (show 3 ≤ 3 by have := zt_fd_le (zt_word (a 10) (f 21) (f 22)).1; omega) (hL0) (ht0) (show (zt_x (a 10) (f 21) (zt_word (a 10) (f 21) (f 22))).2.1 ≤ f 21 by omega) (show (zt_x (a 10) (f 21) (zt_word (a 10) (f 21) (f 22))).2.2 = 0 ∨ (zt_x (a 10) (f 21) (zt_word (a 10) (f 21) (f 22))).2.2 = 1 by omega)) (lw_V q2710 q2712 qs78 q108 q2713) ⟨rfl, by decide, by decide, (show (parseMethodDescriptor yX7_number.desc).map (fun d => d.parameters.length) = some 1 by decide +kernel)⟩ ⟨zk_le hR.1 rfl, zk_le hR.2.1 rfl⟩ ⟨zk_le hR.2.2.1 rfl, zk_le hR.2.2.2 rfl⟩ hP hD hS 0 rfl rfl 0 rfl hl.1 rfl (Nat.le_of_ble_eq_true rfl) dX7_command_53 (fun v_ w_ H locs hq_ hP hD hS => ?_)
        obtain ⟨rfl, rfl⟩ := hq_
        refine zn_st (st2 := [.int (nI ((zt_number (a 10) (f 21) 3 ((zt_x (a 10) (f 21) (zt_word (a 10) (f 21) (f 22))).2.2) ((zt_x (a 10) (f 21) (zt_word (a 10) (f 21) (f 22))).2.1)).1)), .int (nI (f 23)), .ref (h 14)]) rfl ?_
        have hP : va_P (zk_D s0) zk_Cl (zm_W s0 h (va_up (va_up f 24 ((zt_number (a 10) (f 21) 3 ((zt_x (a 10) (f 21) (zt_word (a 10) (f 21) (f 22))).2.2) ((zt_x (a 10) (f 21) (zt_word (a 10) (f 21) (f 22))).2.1)).2.2)) 22 ((zt_number (a 10) (f 21) 3 ((zt_x (a 10) (f 21) (zt_word (a 10) (f 21) (f 22))).2.2) ((zt_x (a 10) (f 21) (zt_word (a 10) (f 21) (f 22))).2.1)).2.1)) (va_up a 12 (va_up (a 12) (f 23) ((zt_x (a 10) (f 21) (zt_word (a 10) (f 21) (f 22))).1)))) H := by rw [zx_2224, bx_uu, bx_uu] at hP; exact hP
        have hD : va_D A (zm_W s0 h (va_up (va_up f 24 ((zt_number (a 10) (f 21) 3 ((zt_x (a 10) (f 21) (zt_word (a 10) (f 21) (f 22))).2.2) ((zt_x (a 10) (f 21) (zt_word (a 10) (f 21) (f 22))).2.1)).2.2)) 22 ((zt_number (a 10) (f 21) 3 ((zt_x (a 10) (f 21) (zt_word (a 10) (f 21) (f 22))).2.2) ((zt_x (a 10) (f 21) (zt_word (a 10) (f 21) (f 22))).2.1)).2.1)) (va_up a 12 (va_up (a 12) (f 23) ((zt_x (a 10) (f 21) (zt_word (a 10) (f 21) (f 22))).1)))) := by rw [zx_2224, bx_uu, bx_uu] at hD; exact hD
        refine lv_goto (tgt := 73) hx hb dX7_command_56 (by decide) ?_
        have ey_ : zt_y (a 10) (f 21) (zt_word (a 10) (f 21) (f 22)).1 (zt_x (a 10) (f 21) (zt_word (a 10) (f 21) (f 22))) = zt_number (a 10) (f 21) 3 (zt_x (a 10) (f 21) (zt_word (a 10) (f 21) (f 22))).2.2 (zt_x (a 10) (f 21) (zt_word (a 10) (f 21) (f 22))).2.1 := by unfold zt_y; rw [if_pos (by omega)]
        refine zn_top (y := nI ((zt_y (a 10) (f 21) (zt_word (a 10) (f 21) (f 22)).1 (zt_x (a 10) (f 21) (zt_word (a 10) (f 21) (f 22)))).1)) (by rw [ey_]) ?_
        have hP : va_P (zk_D s0) zk_Cl (zm_W s0 h (va_up (va_up f 24 ((zt_y (a 10) (f 21) (zt_word (a 10) (f 21) (f 22)).1 (zt_x (a 10) (f 21) (zt_word (a 10) (f 21) (f 22)))).2.2)) 22 ((zt_y (a 10) (f 21) (zt_word (a 10) (f 21) (f 22)).1 (zt_x (a 10) (f 21) (zt_word (a 10) (f 21) (f 22)))).2.1)) (va_up a 12 (va_up (a 12) (f 23) ((zt_x (a 10) (f 21) (zt_word (a 10) (f 21) (f 22))).1)))) H := by rw [ey_]; exact hP
        have hD : va_D A (zm_W s0 h (va_up (va_up f 24 ((zt_y (a 10) (f 21) (zt_word (a 10) (f 21) (f 22)).1 (zt_x (a 10) (f 21) (zt_word (a 10) (f 21) (f 22)))).2.2)) 22 ((zt_y (a 10) (f 21) (zt_word (a 10) (f 21) (f 22)).1 (zt_x (a 10) (f 21) (zt_word (a 10) (f 21) (f 22)))).2.1)) (va_up a 12 (va_up (a 12) (f 23) ((zt_x (a 10) (f 21) (zt_word (a 10) (f 21) (f 22))).1)))) := by rw [ey_]; exact hD
        clear ey_
        refine zn_ast hx hb hK hP hD hS 14 (n := 32) rfl (i := f 23) (x := (zt_y (a 10) (f 21) (zt_word (a 10) (f 21) (f 22)).1 (zt_x (a 10) (f 21) (zt_word (a 10) (f 21) (f 22)))).1) (by omega) (by decide) dX7_command_73 (zm_seta 13 (by decide) 32 rfl (va_up (a 13) (f 23) ((zt_y (a 10) (f 21) (zt_word (a 10) (f 21) (f 22)).1 (zt_x (a 10) (f 21) (zt_word (a 10) (f 21) (f 22)))).1))) (fun H locs hP hD hS => ?_)
        refine lv_aload_n hx hb dX7_command_74 rfl (lv_at hl 1 rfl) ?_
        refine zm_get (f := (va_up (va_up f 24 ((zt_y (a 10) (f 21) (zt_word (a 10) (f 21) (f 22)).1 (zt_x (a 10) (f 21) (zt_word (a 10) (f 21) (f 22)))).2.2)) 22 ((zt_y (a 10) (f 21) (zt_word (a 10) (f 21) (f 22)).1 (zt_x (a 10) (f 21) (zt_word (a 10) (f 21) (f 22)))).2.1))) fx 24 (by decide) q2265 (v := .int (nI ((zt_y (a 10) (f 21) (zt_word (a 10) (f 21) (f 22)).1 (zt_x (a 10) (f 21) (zt_word (a 10) (f 21) (f 22)))).2.2))) rfl hP dX7_command_75 ?_
        refine zn_if_eq (tgt := 82) hx hb dX7_command_78 (by decide) (by omega) (fun c_78 => ?_) (fun c_78 => ?_)
        · refine lv_aload_n hx hb dX7_command_82 rfl (lv_at hl 1 rfl) ?_
          refine zm_get (f := (va_up (va_up f 24 ((zt_y (a 10) (f 21) (zt_word (a 10) (f 21) (f 22)).1 (zt_x (a 10) (f 21) (zt_word (a 10) (f 21) (f 22)))).2.2)) 22 ((zt_y (a 10) (f 21) (zt_word (a 10) (f 21) (f 22)).1 (zt_x (a 10) (f 21) (zt_word (a 10) (f 21) (f 22)))).2.1))) fx 17 (by decide) q2258 (v := .ref (h 12)) rfl hP dX7_command_83 ?_
          refine lv_aload_n hx hb dX7_command_86 rfl (lv_at hl 1 rfl) ?_
          refine zm_get (f := (va_up (va_up f 24 ((zt_y (a 10) (f 21) (zt_word (a 10) (f 21) (f 22)).1 (zt_x (a 10) (f 21) (zt_word (a 10) (f 21) (f 22)))).2.2)) 22 ((zt_y (a 10) (f 21) (zt_word (a 10) (f 21) (f 22)).1 (zt_x (a 10) (f 21) (zt_word (a 10) (f 21) (f 22)))).2.1))) fx 23 (by decide) q2264 (v := .int (nI (f 23))) rfl hP dX7_command_87 ?_
          refine lv_iload_n hx hb dX7_command_90 rfl (lv_at hl 0 rfl) ?_
          refine zn_ast hx hb hK hP hD hS 12 (n := 32) rfl (i := f 23) (x := (zt_word (a 10) (f 21) (f 22)).1) (by omega) (by decide) dX7_command_91 (zm_seta 11 (by decide) 32 rfl (va_up (a 11) (f 23) ((zt_word (a 10) (f 21) (f 22)).1))) (fun H locs hP hD hS => ?_)
          refine lv_aload_n hx hb dX7_command_92 rfl (lv_at hl 1 rfl) ?_
          refine lv_dup hx hb dX7_command_93 rfl ?_
          refine zm_get (f := (va_up (va_up f 24 ((zt_y (a 10) (f 21) (zt_word (a 10) (f 21) (f 22)).1 (zt_x (a 10) (f 21) (zt_word (a 10) (f 21) (f 22)))).2.2)) 22 ((zt_y (a 10) (f 21) (zt_word (a 10) (f 21) (f 22)).1 (zt_x (a 10) (f 21) (zt_word (a 10) (f 21) (f 22)))).2.1))) fx 23 (by decide) q2264 (v := .int (nI (f 23))) rfl hP dX7_command_94 ?_
          refine lv_iconst (v := nI (1)) hx hb dX7_command_97 rfl ?_
          refine zn_iadd hx hb dX7_command_98 ?_
          refine zm_put fx 23 (by decide) q2264 (v := (f 23) + 1) hP hD hS dX7_command_99 (fun H locs hP hD hS => ?_)
          have hP : va_P (zk_D s0) zk_Cl (zm_W s0 h (va_up (va_up (va_up f 24 ((zt_y (a 10) (f 21) (zt_word (a 10) (f 21) (f 22)).1 (zt_x (a 10) (f 21) (zt_word (a 10) (f 21) (f 22)))).2.2)) 22 ((zt_y (a 10) (f 21) (zt_word (a 10) (f 21) (f 22)).1 (zt_x (a 10) (f 21) (zt_word (a 10) (f 21) (f 22)))).2.1)) 23 ((f 23) + 1)) (va_up (va_up (va_up a 12 (va_up (a 12) (f 23) ((zt_x (a 10) (f 21) (zt_word (a 10) (f 21) (f 22))).1))) 13 (va_up (a 13) (f 23) ((zt_y (a 10) (f 21) (zt_word (a 10) (f 21) (f 22)).1 (zt_x (a 10) (f 21) (zt_word (a 10) (f 21) (f 22)))).1))) 11 (va_up (a 11) (f 23) ((zt_word (a 10) (f 21) (f 22)).1)))) H := hP
          have hc : zt_cmd (a 10) (f 21) (f 22, 0, f 23, a 11, a 12, a 13) = ((zt_y (a 10) (f 21) (zt_word (a 10) (f 21) (f 22)).1 (zt_x (a 10) (f 21) (zt_word (a 10) (f 21) (f 22)))).2.1, (zt_y (a 10) (f 21) (zt_word (a 10) (f 21) (f 22)).1 (zt_x (a 10) (f 21) (zt_word (a 10) (f 21) (f 22)))).2.2, f 23 + 1, va_up (a 11) (f 23) (zt_word (a 10) (f 21) (f 22)).1, va_up (a 12) (f 23) (zt_x (a 10) (f 21) (zt_word (a 10) (f 21) (f 22))).1, va_up (a 13) (f 23) (zt_y (a 10) (f 21) (zt_word (a 10) (f 21) (f 22)).1 (zt_x (a 10) (f 21) (zt_word (a 10) (f 21) (f 22)))).1) := (if_neg hne).trans (if_neg (fun z => z c_78))
          exact zk_retv fx eQ rfl hP hD hS (Nat.le_of_ble_eq_true rfl) (Nat.le_of_ble_eq_true rfl) dX7_command_102 (⟨rfl, by rw [hc]; rfl⟩)
        · have hc : zt_cmd (a 10) (f 21) (f 22, 0, f 23, a 11, a 12, a 13) = ((zt_y (a 10) (f 21) (zt_word (a 10) (f 21) (f 22)).1 (zt_x (a 10) (f 21) (zt_word (a 10) (f 21) (f 22)))).2.1, (zt_y (a 10) (f 21) (zt_word (a 10) (f 21) (f 22)).1 (zt_x (a 10) (f 21) (zt_word (a 10) (f 21) (f 22)))).2.2, f 23, a 11, va_up (a 12) (f 23) (zt_x (a 10) (f 21) (zt_word (a 10) (f 21) (f 22))).1, va_up (a 13) (f 23) (zt_y (a 10) (f 21) (zt_word (a 10) (f 21) (f 22)).1 (zt_x (a 10) (f 21) (zt_word (a 10) (f 21) (f 22)))).1) := (if_neg hne).trans (if_pos c_78)
          exact zk_retv fx eQ rfl hP hD hS (Nat.le_of_ble_eq_true rfl) (Nat.le_of_ble_eq_true rfl) dX7_command_81 (⟨rfl, by rw [hc]; exact zm_cmd1⟩)
    · refine lv_iconst (v := nI (0)) hx hb dX7_command_26 rfl ?_
      refine lv_goto (tgt := 38) hx hb dX7_command_27 (by decide) ?_
      have ex_ : zt_x (a 10) (f 21) (zt_word (a 10) (f 21) (f 22)) = (0, (zt_word (a 10) (f 21) (f 22)).2.1, 0) := by unfold zt_x; rw [if_pos (by omega)]
      refine zn_top (y := nI ((zt_x (a 10) (f 21) (zt_word (a 10) (f 21) (f 22))).1)) (by rw [ex_]) ?_
      have hP : va_P (zk_D s0) zk_Cl (zm_W s0 h (va_up (va_up f 24 ((zt_x (a 10) (f 21) (zt_word (a 10) (f 21) (f 22))).2.2)) 22 ((zt_x (a 10) (f 21) (zt_word (a 10) (f 21) (f 22))).2.1)) a) H := by rw [ex_]; exact hP
      have hD : va_D A (zm_W s0 h (va_up (va_up f 24 ((zt_x (a 10) (f 21) (zt_word (a 10) (f 21) (f 22))).2.2)) 22 ((zt_x (a 10) (f 21) (zt_word (a 10) (f 21) (f 22))).2.1)) a) := by rw [ex_]; exact hD
      clear ex_
      refine zn_ast hx hb hK hP hD hS 13 (n := 32) rfl (i := f 23) (x := (zt_x (a 10) (f 21) (zt_word (a 10) (f 21) (f 22))).1) (by omega) (by decide) dX7_command_38 (zm_seta 12 (by decide) 32 rfl (va_up (a 12) (f 23) ((zt_x (a 10) (f 21) (zt_word (a 10) (f 21) (f 22))).1))) (fun H locs hP hD hS => ?_)
      refine lv_aload_n hx hb dX7_command_39 rfl (lv_at hl 1 rfl) ?_
      refine zm_get (f := (va_up (va_up f 24 ((zt_x (a 10) (f 21) (zt_word (a 10) (f 21) (f 22))).2.2)) 22 ((zt_x (a 10) (f 21) (zt_word (a 10) (f 21) (f 22))).2.1))) fx 19 (by decide) q2260 (v := .ref (h 14)) rfl hP dX7_command_40 ?_
      refine lv_aload_n hx hb dX7_command_43 rfl (lv_at hl 1 rfl) ?_
      refine zm_get (f := (va_up (va_up f 24 ((zt_x (a 10) (f 21) (zt_word (a 10) (f 21) (f 22))).2.2)) 22 ((zt_x (a 10) (f 21) (zt_word (a 10) (f 21) (f 22))).2.1))) fx 23 (by decide) q2264 (v := .int (nI (f 23))) rfl hP dX7_command_44 ?_
      refine lv_iload_n hx hb dX7_command_47 rfl (lv_at hl 0 rfl) ?_
      refine zn_if_ne (tgt := 59) hx hb dX7_command_48 (by decide) (by omega) (fun c_48 => ?_) (fun c_48 => ?_)
      · refine lv_iload_n hx hb dX7_command_59 rfl (lv_at hl 0 rfl) ?_
        refine lv_iconst (v := nI (2)) hx hb dX7_command_60 rfl ?_
        refine zn_icmp_ne (tgt := 72) hx hb dX7_command_61 (by decide) (by omega) (by omega) (fun c_61 => ?_) (fun c_61 => ?_)
        · refine lv_iconst (v := nI (0)) hx hb dX7_command_72 rfl ?_
          have ey_ : zt_y (a 10) (f 21) (zt_word (a 10) (f 21) (f 22)).1 (zt_x (a 10) (f 21) (zt_word (a 10) (f 21) (f 22))) = (0, (zt_x (a 10) (f 21) (zt_word (a 10) (f 21) (f 22))).2.1, (zt_x (a 10) (f 21) (zt_word (a 10) (f 21) (f 22))).2.2) := by unfold zt_y; rw [if_neg (by omega), if_neg (by omega)]
          refine zn_top (y := nI ((zt_y (a 10) (f 21) (zt_word (a 10) (f 21) (f 22)).1 (zt_x (a 10) (f 21) (zt_word (a 10) (f 21) (f 22)))).1)) (by rw [ey_]) ?_
          have hP : va_P (zk_D s0) zk_Cl (zm_W s0 h (va_up (va_up f 24 ((zt_y (a 10) (f 21) (zt_word (a 10) (f 21) (f 22)).1 (zt_x (a 10) (f 21) (zt_word (a 10) (f 21) (f 22)))).2.2)) 22 ((zt_y (a 10) (f 21) (zt_word (a 10) (f 21) (f 22)).1 (zt_x (a 10) (f 21) (zt_word (a 10) (f 21) (f 22)))).2.1)) (va_up a 12 (va_up (a 12) (f 23) ((zt_x (a 10) (f 21) (zt_word (a 10) (f 21) (f 22))).1)))) H := by rw [ey_]; exact hP
          have hD : va_D A (zm_W s0 h (va_up (va_up f 24 ((zt_y (a 10) (f 21) (zt_word (a 10) (f 21) (f 22)).1 (zt_x (a 10) (f 21) (zt_word (a 10) (f 21) (f 22)))).2.2)) 22 ((zt_y (a 10) (f 21) (zt_word (a 10) (f 21) (f 22)).1 (zt_x (a 10) (f 21) (zt_word (a 10) (f 21) (f 22)))).2.1)) (va_up a 12 (va_up (a 12) (f 23) ((zt_x (a 10) (f 21) (zt_word (a 10) (f 21) (f 22))).1)))) := by rw [ey_]; exact hD
          clear ey_
          refine zn_ast hx hb hK hP hD hS 14 (n := 32) rfl (i := f 23) (x := (zt_y (a 10) (f 21) (zt_word (a 10) (f 21) (f 22)).1 (zt_x (a 10) (f 21) (zt_word (a 10) (f 21) (f 22)))).1) (by omega) (by decide) dX7_command_73 (zm_seta 13 (by decide) 32 rfl (va_up (a 13) (f 23) ((zt_y (a 10) (f 21) (zt_word (a 10) (f 21) (f 22)).1 (zt_x (a 10) (f 21) (zt_word (a 10) (f 21) (f 22)))).1))) (fun H locs hP hD hS => ?_)
          refine lv_aload_n hx hb dX7_command_74 rfl (lv_at hl 1 rfl) ?_
          refine zm_get (f := (va_up (va_up f 24 ((zt_y (a 10) (f 21) (zt_word (a 10) (f 21) (f 22)).1 (zt_x (a 10) (f 21) (zt_word (a 10) (f 21) (f 22)))).2.2)) 22 ((zt_y (a 10) (f 21) (zt_word (a 10) (f 21) (f 22)).1 (zt_x (a 10) (f 21) (zt_word (a 10) (f 21) (f 22)))).2.1))) fx 24 (by decide) q2265 (v := .int (nI ((zt_y (a 10) (f 21) (zt_word (a 10) (f 21) (f 22)).1 (zt_x (a 10) (f 21) (zt_word (a 10) (f 21) (f 22)))).2.2))) rfl hP dX7_command_75 ?_
          refine zn_if_eq (tgt := 82) hx hb dX7_command_78 (by decide) (by omega) (fun c_78 => ?_) (fun c_78 => ?_)
          · refine lv_aload_n hx hb dX7_command_82 rfl (lv_at hl 1 rfl) ?_
            refine zm_get (f := (va_up (va_up f 24 ((zt_y (a 10) (f 21) (zt_word (a 10) (f 21) (f 22)).1 (zt_x (a 10) (f 21) (zt_word (a 10) (f 21) (f 22)))).2.2)) 22 ((zt_y (a 10) (f 21) (zt_word (a 10) (f 21) (f 22)).1 (zt_x (a 10) (f 21) (zt_word (a 10) (f 21) (f 22)))).2.1))) fx 17 (by decide) q2258 (v := .ref (h 12)) rfl hP dX7_command_83 ?_
            refine lv_aload_n hx hb dX7_command_86 rfl (lv_at hl 1 rfl) ?_
            refine zm_get (f := (va_up (va_up f 24 ((zt_y (a 10) (f 21) (zt_word (a 10) (f 21) (f 22)).1 (zt_x (a 10) (f 21) (zt_word (a 10) (f 21) (f 22)))).2.2)) 22 ((zt_y (a 10) (f 21) (zt_word (a 10) (f 21) (f 22)).1 (zt_x (a 10) (f 21) (zt_word (a 10) (f 21) (f 22)))).2.1))) fx 23 (by decide) q2264 (v := .int (nI (f 23))) rfl hP dX7_command_87 ?_
            refine lv_iload_n hx hb dX7_command_90 rfl (lv_at hl 0 rfl) ?_
            refine zn_ast hx hb hK hP hD hS 12 (n := 32) rfl (i := f 23) (x := (zt_word (a 10) (f 21) (f 22)).1) (by omega) (by decide) dX7_command_91 (zm_seta 11 (by decide) 32 rfl (va_up (a 11) (f 23) ((zt_word (a 10) (f 21) (f 22)).1))) (fun H locs hP hD hS => ?_)
            refine lv_aload_n hx hb dX7_command_92 rfl (lv_at hl 1 rfl) ?_
            refine lv_dup hx hb dX7_command_93 rfl ?_
            refine zm_get (f := (va_up (va_up f 24 ((zt_y (a 10) (f 21) (zt_word (a 10) (f 21) (f 22)).1 (zt_x (a 10) (f 21) (zt_word (a 10) (f 21) (f 22)))).2.2)) 22 ((zt_y (a 10) (f 21) (zt_word (a 10) (f 21) (f 22)).1 (zt_x (a 10) (f 21) (zt_word (a 10) (f 21) (f 22)))).2.1))) fx 23 (by decide) q2264 (v := .int (nI (f 23))) rfl hP dX7_command_94 ?_
            refine lv_iconst (v := nI (1)) hx hb dX7_command_97 rfl ?_
            refine zn_iadd hx hb dX7_command_98 ?_
            refine zm_put fx 23 (by decide) q2264 (v := (f 23) + 1) hP hD hS dX7_command_99 (fun H locs hP hD hS => ?_)
            have hP : va_P (zk_D s0) zk_Cl (zm_W s0 h (va_up (va_up (va_up f 24 ((zt_y (a 10) (f 21) (zt_word (a 10) (f 21) (f 22)).1 (zt_x (a 10) (f 21) (zt_word (a 10) (f 21) (f 22)))).2.2)) 22 ((zt_y (a 10) (f 21) (zt_word (a 10) (f 21) (f 22)).1 (zt_x (a 10) (f 21) (zt_word (a 10) (f 21) (f 22)))).2.1)) 23 ((f 23) + 1)) (va_up (va_up (va_up a 12 (va_up (a 12) (f 23) ((zt_x (a 10) (f 21) (zt_word (a 10) (f 21) (f 22))).1))) 13 (va_up (a 13) (f 23) ((zt_y (a 10) (f 21) (zt_word (a 10) (f 21) (f 22)).1 (zt_x (a 10) (f 21) (zt_word (a 10) (f 21) (f 22)))).1))) 11 (va_up (a 11) (f 23) ((zt_word (a 10) (f 21) (f 22)).1)))) H := hP
            have hc : zt_cmd (a 10) (f 21) (f 22, 0, f 23, a 11, a 12, a 13) = ((zt_y (a 10) (f 21) (zt_word (a 10) (f 21) (f 22)).1 (zt_x (a 10) (f 21) (zt_word (a 10) (f 21) (f 22)))).2.1, (zt_y (a 10) (f 21) (zt_word (a 10) (f 21) (f 22)).1 (zt_x (a 10) (f 21) (zt_word (a 10) (f 21) (f 22)))).2.2, f 23 + 1, va_up (a 11) (f 23) (zt_word (a 10) (f 21) (f 22)).1, va_up (a 12) (f 23) (zt_x (a 10) (f 21) (zt_word (a 10) (f 21) (f 22))).1, va_up (a 13) (f 23) (zt_y (a 10) (f 21) (zt_word (a 10) (f 21) (f 22)).1 (zt_x (a 10) (f 21) (zt_word (a 10) (f 21) (f 22)))).1) := (if_neg hne).trans (if_neg (fun z => z c_78))
            exact zk_retv fx eQ rfl hP hD hS (Nat.le_of_ble_eq_true rfl) (Nat.le_of_ble_eq_true rfl) dX7_command_102 (⟨rfl, by rw [hc]; rfl⟩)
          · have hc : zt_cmd (a 10) (f 21) (f 22, 0, f 23, a 11, a 12, a 13) = ((zt_y (a 10) (f 21) (zt_word (a 10) (f 21) (f 22)).1 (zt_x (a 10) (f 21) (zt_word (a 10) (f 21) (f 22)))).2.1, (zt_y (a 10) (f 21) (zt_word (a 10) (f 21) (f 22)).1 (zt_x (a 10) (f 21) (zt_word (a 10) (f 21) (f 22)))).2.2, f 23, a 11, va_up (a 12) (f 23) (zt_x (a 10) (f 21) (zt_word (a 10) (f 21) (f 22))).1, va_up (a 13) (f 23) (zt_y (a 10) (f 21) (zt_word (a 10) (f 21) (f 22)).1 (zt_x (a 10) (f 21) (zt_word (a 10) (f 21) (f 22)))).1) := (if_neg hne).trans (if_pos c_78)
            exact zk_retv fx eQ rfl hP hD hS (Nat.le_of_ble_eq_true rfl) (Nat.le_of_ble_eq_true rfl) dX7_command_81 (⟨rfl, by rw [hc]; exact zm_cmd1⟩)
        · refine lv_aload_n hx hb dX7_command_64 rfl (lv_at hl 1 rfl) ?_
          refine lv_iconst (v := nI (2)) hx hb dX7_command_65 rfl ?_
          refine zk_callV0 fx (cm_number l s0 b h (va_up (va_up f 24 ((zt_x (a 10) (f 21) (zt_word (a 10) (f 21) (f 22))).2.2)) 22 ((zt_x (a 10) (f 21) (zt_word (a 10) (f 21) (f 22))).2.1)) (va_up a 12 (va_up (a 12) (f 23) ((zt_x (a 10) (f 21) (zt_word (a 10) (f 21) (f 22))).1))) 2 (show 2 ≤ 3 by have := zt_fd_le (zt_word (a 10) (f 21) (f 22)).1; omega) (hL0) (ht0) (show (zt_x (a 10) (f 21) (zt_word (a 10) (f 21) (f 22))).2.1 ≤ f 21 by omega) (show (zt_x (a 10) (f 21) (zt_word (a 10) (f 21) (f 22))).2.2 = 0 ∨ (zt_x (a 10) (f 21) (zt_word (a 10) (f 21) (f 22))).2.2 = 1 by omega)) (lw_V q2710 q2712 qs78 q108 q2713) ⟨rfl, by decide, by decide, (show (parseMethodDescriptor yX7_number.desc).map (fun d => d.parameters.length) = some 1 by decide +kernel)⟩ ⟨zk_le hR.1 rfl, zk_le hR.2.1 rfl⟩ ⟨zk_le hR.2.2.1 rfl, zk_le hR.2.2.2 rfl⟩ hP hD hS 0 rfl rfl 0 rfl hl.1 rfl (Nat.le_of_ble_eq_true rfl) dX7_command_66 (fun v_ w_ H locs hq_ hP hD hS => ?_)
          obtain ⟨rfl, rfl⟩ := hq_
          refine zn_st (st2 := [.int (nI ((zt_number (a 10) (f 21) 2 ((zt_x (a 10) (f 21) (zt_word (a 10) (f 21) (f 22))).2.2) ((zt_x (a 10) (f 21) (zt_word (a 10) (f 21) (f 22))).2.1)).1)), .int (nI (f 23)), .ref (h 14)]) rfl ?_
          have hP : va_P (zk_D s0) zk_Cl (zm_W s0 h (va_up (va_up f 24 ((zt_number (a 10) (f 21) 2 ((zt_x (a 10) (f 21) (zt_word (a 10) (f 21) (f 22))).2.2) ((zt_x (a 10) (f 21) (zt_word (a 10) (f 21) (f 22))).2.1)).2.2)) 22 ((zt_number (a 10) (f 21) 2 ((zt_x (a 10) (f 21) (zt_word (a 10) (f 21) (f 22))).2.2) ((zt_x (a 10) (f 21) (zt_word (a 10) (f 21) (f 22))).2.1)).2.1)) (va_up a 12 (va_up (a 12) (f 23) ((zt_x (a 10) (f 21) (zt_word (a 10) (f 21) (f 22))).1)))) H := by rw [zx_2224, bx_uu, bx_uu] at hP; exact hP
          have hD : va_D A (zm_W s0 h (va_up (va_up f 24 ((zt_number (a 10) (f 21) 2 ((zt_x (a 10) (f 21) (zt_word (a 10) (f 21) (f 22))).2.2) ((zt_x (a 10) (f 21) (zt_word (a 10) (f 21) (f 22))).2.1)).2.2)) 22 ((zt_number (a 10) (f 21) 2 ((zt_x (a 10) (f 21) (zt_word (a 10) (f 21) (f 22))).2.2) ((zt_x (a 10) (f 21) (zt_word (a 10) (f 21) (f 22))).2.1)).2.1)) (va_up a 12 (va_up (a 12) (f 23) ((zt_x (a 10) (f 21) (zt_word (a 10) (f 21) (f 22))).1)))) := by rw [zx_2224, bx_uu, bx_uu] at hD; exact hD
          refine lv_goto (tgt := 73) hx hb dX7_command_69 (by decide) ?_
          have ey_ : zt_y (a 10) (f 21) (zt_word (a 10) (f 21) (f 22)).1 (zt_x (a 10) (f 21) (zt_word (a 10) (f 21) (f 22))) = zt_number (a 10) (f 21) 2 (zt_x (a 10) (f 21) (zt_word (a 10) (f 21) (f 22))).2.2 (zt_x (a 10) (f 21) (zt_word (a 10) (f 21) (f 22))).2.1 := by unfold zt_y; rw [if_neg (by omega), if_pos (by omega)]
          refine zn_top (y := nI ((zt_y (a 10) (f 21) (zt_word (a 10) (f 21) (f 22)).1 (zt_x (a 10) (f 21) (zt_word (a 10) (f 21) (f 22)))).1)) (by rw [ey_]) ?_
          have hP : va_P (zk_D s0) zk_Cl (zm_W s0 h (va_up (va_up f 24 ((zt_y (a 10) (f 21) (zt_word (a 10) (f 21) (f 22)).1 (zt_x (a 10) (f 21) (zt_word (a 10) (f 21) (f 22)))).2.2)) 22 ((zt_y (a 10) (f 21) (zt_word (a 10) (f 21) (f 22)).1 (zt_x (a 10) (f 21) (zt_word (a 10) (f 21) (f 22)))).2.1)) (va_up a 12 (va_up (a 12) (f 23) ((zt_x (a 10) (f 21) (zt_word (a 10) (f 21) (f 22))).1)))) H := by rw [ey_]; exact hP
          have hD : va_D A (zm_W s0 h (va_up (va_up f 24 ((zt_y (a 10) (f 21) (zt_word (a 10) (f 21) (f 22)).1 (zt_x (a 10) (f 21) (zt_word (a 10) (f 21) (f 22)))).2.2)) 22 ((zt_y (a 10) (f 21) (zt_word (a 10) (f 21) (f 22)).1 (zt_x (a 10) (f 21) (zt_word (a 10) (f 21) (f 22)))).2.1)) (va_up a 12 (va_up (a 12) (f 23) ((zt_x (a 10) (f 21) (zt_word (a 10) (f 21) (f 22))).1)))) := by rw [ey_]; exact hD
          clear ey_
          refine zn_ast hx hb hK hP hD hS 14 (n := 32) rfl (i := f 23) (x := (zt_y (a 10) (f 21) (zt_word (a 10) (f 21) (f 22)).1 (zt_x (a 10) (f 21) (zt_word (a 10) (f 21) (f 22)))).1) (by omega) (by decide) dX7_command_73 (zm_seta 13 (by decide) 32 rfl (va_up (a 13) (f 23) ((zt_y (a 10) (f 21) (zt_word (a 10) (f 21) (f 22)).1 (zt_x (a 10) (f 21) (zt_word (a 10) (f 21) (f 22)))).1))) (fun H locs hP hD hS => ?_)
          refine lv_aload_n hx hb dX7_command_74 rfl (lv_at hl 1 rfl) ?_
          refine zm_get (f := (va_up (va_up f 24 ((zt_y (a 10) (f 21) (zt_word (a 10) (f 21) (f 22)).1 (zt_x (a 10) (f 21) (zt_word (a 10) (f 21) (f 22)))).2.2)) 22 ((zt_y (a 10) (f 21) (zt_word (a 10) (f 21) (f 22)).1 (zt_x (a 10) (f 21) (zt_word (a 10) (f 21) (f 22)))).2.1))) fx 24 (by decide) q2265 (v := .int (nI ((zt_y (a 10) (f 21) (zt_word (a 10) (f 21) (f 22)).1 (zt_x (a 10) (f 21) (zt_word (a 10) (f 21) (f 22)))).2.2))) rfl hP dX7_command_75 ?_
          refine zn_if_eq (tgt := 82) hx hb dX7_command_78 (by decide) (by omega) (fun c_78 => ?_) (fun c_78 => ?_)
          · refine lv_aload_n hx hb dX7_command_82 rfl (lv_at hl 1 rfl) ?_
            refine zm_get (f := (va_up (va_up f 24 ((zt_y (a 10) (f 21) (zt_word (a 10) (f 21) (f 22)).1 (zt_x (a 10) (f 21) (zt_word (a 10) (f 21) (f 22)))).2.2)) 22 ((zt_y (a 10) (f 21) (zt_word (a 10) (f 21) (f 22)).1 (zt_x (a 10) (f 21) (zt_word (a 10) (f 21) (f 22)))).2.1))) fx 17 (by decide) q2258 (v := .ref (h 12)) rfl hP dX7_command_83 ?_
            refine lv_aload_n hx hb dX7_command_86 rfl (lv_at hl 1 rfl) ?_
            refine zm_get (f := (va_up (va_up f 24 ((zt_y (a 10) (f 21) (zt_word (a 10) (f 21) (f 22)).1 (zt_x (a 10) (f 21) (zt_word (a 10) (f 21) (f 22)))).2.2)) 22 ((zt_y (a 10) (f 21) (zt_word (a 10) (f 21) (f 22)).1 (zt_x (a 10) (f 21) (zt_word (a 10) (f 21) (f 22)))).2.1))) fx 23 (by decide) q2264 (v := .int (nI (f 23))) rfl hP dX7_command_87 ?_
            refine lv_iload_n hx hb dX7_command_90 rfl (lv_at hl 0 rfl) ?_
            refine zn_ast hx hb hK hP hD hS 12 (n := 32) rfl (i := f 23) (x := (zt_word (a 10) (f 21) (f 22)).1) (by omega) (by decide) dX7_command_91 (zm_seta 11 (by decide) 32 rfl (va_up (a 11) (f 23) ((zt_word (a 10) (f 21) (f 22)).1))) (fun H locs hP hD hS => ?_)
            refine lv_aload_n hx hb dX7_command_92 rfl (lv_at hl 1 rfl) ?_
            refine lv_dup hx hb dX7_command_93 rfl ?_
            refine zm_get (f := (va_up (va_up f 24 ((zt_y (a 10) (f 21) (zt_word (a 10) (f 21) (f 22)).1 (zt_x (a 10) (f 21) (zt_word (a 10) (f 21) (f 22)))).2.2)) 22 ((zt_y (a 10) (f 21) (zt_word (a 10) (f 21) (f 22)).1 (zt_x (a 10) (f 21) (zt_word (a 10) (f 21) (f 22)))).2.1))) fx 23 (by decide) q2264 (v := .int (nI (f 23))) rfl hP dX7_command_94 ?_
            refine lv_iconst (v := nI (1)) hx hb dX7_command_97 rfl ?_
            refine zn_iadd hx hb dX7_command_98 ?_
            refine zm_put fx 23 (by decide) q2264 (v := (f 23) + 1) hP hD hS dX7_command_99 (fun H locs hP hD hS => ?_)
            have hP : va_P (zk_D s0) zk_Cl (zm_W s0 h (va_up (va_up (va_up f 24 ((zt_y (a 10) (f 21) (zt_word (a 10) (f 21) (f 22)).1 (zt_x (a 10) (f 21) (zt_word (a 10) (f 21) (f 22)))).2.2)) 22 ((zt_y (a 10) (f 21) (zt_word (a 10) (f 21) (f 22)).1 (zt_x (a 10) (f 21) (zt_word (a 10) (f 21) (f 22)))).2.1)) 23 ((f 23) + 1)) (va_up (va_up (va_up a 12 (va_up (a 12) (f 23) ((zt_x (a 10) (f 21) (zt_word (a 10) (f 21) (f 22))).1))) 13 (va_up (a 13) (f 23) ((zt_y (a 10) (f 21) (zt_word (a 10) (f 21) (f 22)).1 (zt_x (a 10) (f 21) (zt_word (a 10) (f 21) (f 22)))).1))) 11 (va_up (a 11) (f 23) ((zt_word (a 10) (f 21) (f 22)).1)))) H := hP
            have hc : zt_cmd (a 10) (f 21) (f 22, 0, f 23, a 11, a 12, a 13) = ((zt_y (a 10) (f 21) (zt_word (a 10) (f 21) (f 22)).1 (zt_x (a 10) (f 21) (zt_word (a 10) (f 21) (f 22)))).2.1, (zt_y (a 10) (f 21) (zt_word (a 10) (f 21) (f 22)).1 (zt_x (a 10) (f 21) (zt_word (a 10) (f 21) (f 22)))).2.2, f 23 + 1, va_up (a 11) (f 23) (zt_word (a 10) (f 21) (f 22)).1, va_up (a 12) (f 23) (zt_x (a 10) (f 21) (zt_word (a 10) (f 21) (f 22))).1, va_up (a 13) (f 23) (zt_y (a 10) (f 21) (zt_word (a 10) (f 21) (f 22)).1 (zt_x (a 10) (f 21) (zt_word (a 10) (f 21) (f 22)))).1) := (if_neg hne).trans (if_neg (fun z => z c_78))
            exact zk_retv fx eQ rfl hP hD hS (Nat.le_of_ble_eq_true rfl) (Nat.le_of_ble_eq_true rfl) dX7_command_102 (⟨rfl, by rw [hc]; rfl⟩)
          · have hc : zt_cmd (a 10) (f 21) (f 22, 0, f 23, a 11, a 12, a 13) = ((zt_y (a 10) (f 21) (zt_word (a 10) (f 21) (f 22)).1 (zt_x (a 10) (f 21) (zt_word (a 10) (f 21) (f 22)))).2.1, (zt_y (a 10) (f 21) (zt_word (a 10) (f 21) (f 22)).1 (zt_x (a 10) (f 21) (zt_word (a 10) (f 21) (f 22)))).2.2, f 23, a 11, va_up (a 12) (f 23) (zt_x (a 10) (f 21) (zt_word (a 10) (f 21) (f 22))).1, va_up (a 13) (f 23) (zt_y (a 10) (f 21) (zt_word (a 10) (f 21) (f 22)).1 (zt_x (a 10) (f 21) (zt_word (a 10) (f 21) (f 22)))).1) := (if_neg hne).trans (if_pos c_78)
            exact zk_retv fx eQ rfl hP hD hS (Nat.le_of_ble_eq_true rfl) (Nat.le_of_ble_eq_true rfl) dX7_command_81 (⟨rfl, by rw [hc]; exact zm_cmd1⟩)
      · refine lv_aload_n hx hb dX7_command_51 rfl (lv_at hl 1 rfl) ?_
        refine lv_iconst (v := nI (3)) hx hb dX7_command_52 rfl ?_
        refine zk_callV0 fx (cm_number l s0 b h (va_up (va_up f 24 ((zt_x (a 10) (f 21) (zt_word (a 10) (f 21) (f 22))).2.2)) 22 ((zt_x (a 10) (f 21) (zt_word (a 10) (f 21) (f 22))).2.1)) (va_up a 12 (va_up (a 12) (f 23) ((zt_x (a 10) (f 21) (zt_word (a 10) (f 21) (f 22))).1))) 3 (show 3 ≤ 3 by have := zt_fd_le (zt_word (a 10) (f 21) (f 22)).1; omega) (hL0) (ht0) (show (zt_x (a 10) (f 21) (zt_word (a 10) (f 21) (f 22))).2.1 ≤ f 21 by omega) (show (zt_x (a 10) (f 21) (zt_word (a 10) (f 21) (f 22))).2.2 = 0 ∨ (zt_x (a 10) (f 21) (zt_word (a 10) (f 21) (f 22))).2.2 = 1 by omega)) (lw_V q2710 q2712 qs78 q108 q2713) ⟨rfl, by decide, by decide, (show (parseMethodDescriptor yX7_number.desc).map (fun d => d.parameters.length) = some 1 by decide +kernel)⟩ ⟨zk_le hR.1 rfl, zk_le hR.2.1 rfl⟩ ⟨zk_le hR.2.2.1 rfl, zk_le hR.2.2.2 rfl⟩ hP hD hS 0 rfl rfl 0 rfl hl.1 rfl (Nat.le_of_ble_eq_true rfl) dX7_command_53 (fun v_ w_ H locs hq_ hP hD hS => ?_)
        obtain ⟨rfl, rfl⟩ := hq_
        refine zn_st (st2 := [.int (nI ((zt_number (a 10) (f 21) 3 ((zt_x (a 10) (f 21) (zt_word (a 10) (f 21) (f 22))).2.2) ((zt_x (a 10) (f 21) (zt_word (a 10) (f 21) (f 22))).2.1)).1)), .int (nI (f 23)), .ref (h 14)]) rfl ?_
        have hP : va_P (zk_D s0) zk_Cl (zm_W s0 h (va_up (va_up f 24 ((zt_number (a 10) (f 21) 3 ((zt_x (a 10) (f 21) (zt_word (a 10) (f 21) (f 22))).2.2) ((zt_x (a 10) (f 21) (zt_word (a 10) (f 21) (f 22))).2.1)).2.2)) 22 ((zt_number (a 10) (f 21) 3 ((zt_x (a 10) (f 21) (zt_word (a 10) (f 21) (f 22))).2.2) ((zt_x (a 10) (f 21) (zt_word (a 10) (f 21) (f 22))).2.1)).2.1)) (va_up a 12 (va_up (a 12) (f 23) ((zt_x (a 10) (f 21) (zt_word (a 10) (f 21) (f 22))).1)))) H := by rw [zx_2224, bx_uu, bx_uu] at hP; exact hP
        have hD : va_D A (zm_W s0 h (va_up (va_up f 24 ((zt_number (a 10) (f 21) 3 ((zt_x (a 10) (f 21) (zt_word (a 10) (f 21) (f 22))).2.2) ((zt_x (a 10) (f 21) (zt_word (a 10) (f 21) (f 22))).2.1)).2.2)) 22 ((zt_number (a 10) (f 21) 3 ((zt_x (a 10) (f 21) (zt_word (a 10) (f 21) (f 22))).2.2) ((zt_x (a 10) (f 21) (zt_word (a 10) (f 21) (f 22))).2.1)).2.1)) (va_up a 12 (va_up (a 12) (f 23) ((zt_x (a 10) (f 21) (zt_word (a 10) (f 21) (f 22))).1)))) := by rw [zx_2224, bx_uu, bx_uu] at hD; exact hD
        refine lv_goto (tgt := 73) hx hb dX7_command_56 (by decide) ?_
        have ey_ : zt_y (a 10) (f 21) (zt_word (a 10) (f 21) (f 22)).1 (zt_x (a 10) (f 21) (zt_word (a 10) (f 21) (f 22))) = zt_number (a 10) (f 21) 3 (zt_x (a 10) (f 21) (zt_word (a 10) (f 21) (f 22))).2.2 (zt_x (a 10) (f 21) (zt_word (a 10) (f 21) (f 22))).2.1 := by unfold zt_y; rw [if_pos (by omega)]
        refine zn_top (y := nI ((zt_y (a 10) (f 21) (zt_word (a 10) (f 21) (f 22)).1 (zt_x (a 10) (f 21) (zt_word (a 10) (f 21) (f 22)))).1)) (by rw [ey_]) ?_
        have hP : va_P (zk_D s0) zk_Cl (zm_W s0 h (va_up (va_up f 24 ((zt_y (a 10) (f 21) (zt_word (a 10) (f 21) (f 22)).1 (zt_x (a 10) (f 21) (zt_word (a 10) (f 21) (f 22)))).2.2)) 22 ((zt_y (a 10) (f 21) (zt_word (a 10) (f 21) (f 22)).1 (zt_x (a 10) (f 21) (zt_word (a 10) (f 21) (f 22)))).2.1)) (va_up a 12 (va_up (a 12) (f 23) ((zt_x (a 10) (f 21) (zt_word (a 10) (f 21) (f 22))).1)))) H := by rw [ey_]; exact hP
        have hD : va_D A (zm_W s0 h (va_up (va_up f 24 ((zt_y (a 10) (f 21) (zt_word (a 10) (f 21) (f 22)).1 (zt_x (a 10) (f 21) (zt_word (a 10) (f 21) (f 22)))).2.2)) 22 ((zt_y (a 10) (f 21) (zt_word (a 10) (f 21) (f 22)).1 (zt_x (a 10) (f 21) (zt_word (a 10) (f 21) (f 22)))).2.1)) (va_up a 12 (va_up (a 12) (f 23) ((zt_x (a 10) (f 21) (zt_word (a 10) (f 21) (f 22))).1)))) := by rw [ey_]; exact hD
        clear ey_
        refine zn_ast hx hb hK hP hD hS 14 (n := 32) rfl (i := f 23) (x := (zt_y (a 10) (f 21) (zt_word (a 10) (f 21) (f 22)).1 (zt_x (a 10) (f 21) (zt_word (a 10) (f 21) (f 22)))).1) (by omega) (by decide) dX7_command_73 (zm_seta 13 (by decide) 32 rfl (va_up (a 13) (f 23) ((zt_y (a 10) (f 21) (zt_word (a 10) (f 21) (f 22)).1 (zt_x (a 10) (f 21) (zt_word (a 10) (f 21) (f 22)))).1))) (fun H locs hP hD hS => ?_)
        refine lv_aload_n hx hb dX7_command_74 rfl (lv_at hl 1 rfl) ?_
        refine zm_get (f := (va_up (va_up f 24 ((zt_y (a 10) (f 21) (zt_word (a 10) (f 21) (f 22)).1 (zt_x (a 10) (f 21) (zt_word (a 10) (f 21) (f 22)))).2.2)) 22 ((zt_y (a 10) (f 21) (zt_word (a 10) (f 21) (f 22)).1 (zt_x (a 10) (f 21) (zt_word (a 10) (f 21) (f 22)))).2.1))) fx 24 (by decide) q2265 (v := .int (nI ((zt_y (a 10) (f 21) (zt_word (a 10) (f 21) (f 22)).1 (zt_x (a 10) (f 21) (zt_word (a 10) (f 21) (f 22)))).2.2))) rfl hP dX7_command_75 ?_
        refine zn_if_eq (tgt := 82) hx hb dX7_command_78 (by decide) (by omega) (fun c_78 => ?_) (fun c_78 => ?_)
        · refine lv_aload_n hx hb dX7_command_82 rfl (lv_at hl 1 rfl) ?_
          refine zm_get (f := (va_up (va_up f 24 ((zt_y (a 10) (f 21) (zt_word (a 10) (f 21) (f 22)).1 (zt_x (a 10) (f 21) (zt_word (a 10) (f 21) (f 22)))).2.2)) 22 ((zt_y (a 10) (f 21) (zt_word (a 10) (f 21) (f 22)).1 (zt_x (a 10) (f 21) (zt_word (a 10) (f 21) (f 22)))).2.1))) fx 17 (by decide) q2258 (v := .ref (h 12)) rfl hP dX7_command_83 ?_
          refine lv_aload_n hx hb dX7_command_86 rfl (lv_at hl 1 rfl) ?_
          refine zm_get (f := (va_up (va_up f 24 ((zt_y (a 10) (f 21) (zt_word (a 10) (f 21) (f 22)).1 (zt_x (a 10) (f 21) (zt_word (a 10) (f 21) (f 22)))).2.2)) 22 ((zt_y (a 10) (f 21) (zt_word (a 10) (f 21) (f 22)).1 (zt_x (a 10) (f 21) (zt_word (a 10) (f 21) (f 22)))).2.1))) fx 23 (by decide) q2264 (v := .int (nI (f 23))) rfl hP dX7_command_87 ?_
          refine lv_iload_n hx hb dX7_command_90 rfl (lv_at hl 0 rfl) ?_
          refine zn_ast hx hb hK hP hD hS 12 (n := 32) rfl (i := f 23) (x := (zt_word (a 10) (f 21) (f 22)).1) (by omega) (by decide) dX7_command_91 (zm_seta 11 (by decide) 32 rfl (va_up (a 11) (f 23) ((zt_word (a 10) (f 21) (f 22)).1))) (fun H locs hP hD hS => ?_)
          refine lv_aload_n hx hb dX7_command_92 rfl (lv_at hl 1 rfl) ?_
          refine lv_dup hx hb dX7_command_93 rfl ?_
          refine zm_get (f := (va_up (va_up f 24 ((zt_y (a 10) (f 21) (zt_word (a 10) (f 21) (f 22)).1 (zt_x (a 10) (f 21) (zt_word (a 10) (f 21) (f 22)))).2.2)) 22 ((zt_y (a 10) (f 21) (zt_word (a 10) (f 21) (f 22)).1 (zt_x (a 10) (f 21) (zt_word (a 10) (f 21) (f 22)))).2.1))) fx 23 (by decide) q2264 (v := .int (nI (f 23))) rfl hP dX7_command_94 ?_
          refine lv_iconst (v := nI (1)) hx hb dX7_command_97 rfl ?_
          refine zn_iadd hx hb dX7_command_98 ?_
          refine zm_put fx 23 (by decide) q2264 (v := (f 23) + 1) hP hD hS dX7_command_99 (fun H locs hP hD hS => ?_)
          have hP : va_P (zk_D s0) zk_Cl (zm_W s0 h (va_up (va_up (va_up f 24 ((zt_y (a 10) (f 21) (zt_word (a 10) (f 21) (f 22)).1 (zt_x (a 10) (f 21) (zt_word (a 10) (f 21) (f 22)))).2.2)) 22 ((zt_y (a 10) (f 21) (zt_word (a 10) (f 21) (f 22)).1 (zt_x (a 10) (f 21) (zt_word (a 10) (f 21) (f 22)))).2.1)) 23 ((f 23) + 1)) (va_up (va_up (va_up a 12 (va_up (a 12) (f 23) ((zt_x (a 10) (f 21) (zt_word (a 10) (f 21) (f 22))).1))) 13 (va_up (a 13) (f 23) ((zt_y (a 10) (f 21) (zt_word (a 10) (f 21) (f 22)).1 (zt_x (a 10) (f 21) (zt_word (a 10) (f 21) (f 22)))).1))) 11 (va_up (a 11) (f 23) ((zt_word (a 10) (f 21) (f 22)).1)))) H := hP
          have hc : zt_cmd (a 10) (f 21) (f 22, 0, f 23, a 11, a 12, a 13) = ((zt_y (a 10) (f 21) (zt_word (a 10) (f 21) (f 22)).1 (zt_x (a 10) (f 21) (zt_word (a 10) (f 21) (f 22)))).2.1, (zt_y (a 10) (f 21) (zt_word (a 10) (f 21) (f 22)).1 (zt_x (a 10) (f 21) (zt_word (a 10) (f 21) (f 22)))).2.2, f 23 + 1, va_up (a 11) (f 23) (zt_word (a 10) (f 21) (f 22)).1, va_up (a 12) (f 23) (zt_x (a 10) (f 21) (zt_word (a 10) (f 21) (f 22))).1, va_up (a 13) (f 23) (zt_y (a 10) (f 21) (zt_word (a 10) (f 21) (f 22)).1 (zt_x (a 10) (f 21) (zt_word (a 10) (f 21) (f 22)))).1) := (if_neg hne).trans (if_neg (fun z => z c_78))
          exact zk_retv fx eQ rfl hP hD hS (Nat.le_of_ble_eq_true rfl) (Nat.le_of_ble_eq_true rfl) dX7_command_102 (⟨rfl, by rw [hc]; rfl⟩)
        · have hc : zt_cmd (a 10) (f 21) (f 22, 0, f 23, a 11, a 12, a 13) = ((zt_y (a 10) (f 21) (zt_word (a 10) (f 21) (f 22)).1 (zt_x (a 10) (f 21) (zt_word (a 10) (f 21) (f 22)))).2.1, (zt_y (a 10) (f 21) (zt_word (a 10) (f 21) (f 22)).1 (zt_x (a 10) (f 21) (zt_word (a 10) (f 21) (f 22)))).2.2, f 23, a 11, va_up (a 12) (f 23) (zt_x (a 10) (f 21) (zt_word (a 10) (f 21) (f 22))).1, va_up (a 13) (f 23) (zt_y (a 10) (f 21) (zt_word (a 10) (f 21) (f 22)).1 (zt_x (a 10) (f 21) (zt_word (a 10) (f 21) (f 22)))).1) := (if_neg hne).trans (if_pos c_78)
          exact zk_retv fx eQ rfl hP hD hS (Nat.le_of_ble_eq_true rfl) (Nat.le_of_ble_eq_true rfl) dX7_command_81 (⟨rfl, by rw [hc]; exact zm_cmd1⟩)
  · have hc : zt_cmd (a 10) (f 21) (f 22, 0, f 23, a 11, a 12, a 13) = ((zt_word (a 10) (f 21) (f 22)).2.1, (zt_word (a 10) (f 21) (f 22)).2.2, f 23, a 11, a 12, a 13) := if_pos c_9
    exact zk_retv fx eQ rfl hP hD hS (Nat.le_of_ble_eq_true rfl) (Nat.le_of_ble_eq_true rfl) dX7_command_12 (⟨rfl, by rw [hc]; exact zm_cmd0⟩)
set_option maxHeartbeats 4000000 in
set_option maxRecDepth 100000 in
theorem cm_parse (l : Launch) (s0 : State) (b : Nat) (h f : Nat → Nat) (a : Nat → Nat → Nat) (hL0 : f 20 ≤ 60) (ht0 : ∀ i, i < f 20 → a 10 i ≤ 126) : zk_C l s0 b yX7_parse (ws_ yX7_parse cX7_parse 1 none) 4 92 0 0 [.ref (h 0)] (zm_W s0 h f a) (fun r w => r = none ∧ w = zm_W s0 h (va_up (va_up (va_up (va_up (va_up f 21 (f 20)) 20 0) 24 (zt_parse (a 10) (f 20) (a 11) (a 12) (a 13)).w) 22 (zt_parse (a 10) (f 20) (a 11) (a 12) (a 13)).p) 23 (zt_parse (a 10) (f 20) (a 11) (a 12) (a 13)).n) (va_up (va_up (va_up a 12 (zt_parse (a 10) (f 20) (a 11) (a 12) (a 13)).F) 13 (zt_parse (a 10) (f 20) (a 11) (a 12) (a 13)).G) 11 (zt_parse (a 10) (f 20) (a 11) (a 12) (a 13)).K)) := by
  refine zk_mk (by decide) rfl ?_
  intro p e s m below meth c A R args Q fx hR eQ hP hD hS ls hl
  have hx := fx.1
  have hb := fx.2.1
  have hK := fx.2.2.2.2.2.2.2.2.1.K
  have hl : lv_has ls 1 [(0, .ref (h 0))] := hl
  refine lv_aload_n hx hb dX7_parse_0 rfl (lv_at hl 0 rfl) ?_
  refine lv_aload_n hx hb dX7_parse_1 rfl (lv_at hl 0 rfl) ?_
  refine zm_get (f := f) fx 20 (by decide) q2261 (v := .int (nI (f 20))) rfl hP dX7_parse_2 ?_
  refine zm_put fx 21 (by decide) q2262 (v := f 20) hP hD hS dX7_parse_5 (fun H locs hP hD hS => ?_)
  have hP : va_P (zk_D s0) zk_Cl (zm_W s0 h (va_up f 21 (f 20)) a) H := hP
  refine lv_aload_n hx hb dX7_parse_8 rfl (lv_at hl 0 rfl) ?_
  refine lv_iconst (v := nI (0)) hx hb dX7_parse_9 rfl ?_
  refine zm_put fx 20 (by decide) q2261 (v := 0) hP hD hS dX7_parse_10 (fun H locs hP hD hS => ?_)
  have hP : va_P (zk_D s0) zk_Cl (zm_W s0 h (va_up (va_up f 21 (f 20)) 20 (0)) a) H := hP
  refine lv_aload_n hx hb dX7_parse_13 rfl (lv_at hl 0 rfl) ?_
  refine lv_iconst (v := nI (0)) hx hb dX7_parse_14 rfl ?_
  refine zm_put fx 22 (by decide) q2263 (v := 0) hP hD hS dX7_parse_15 (fun H locs hP hD hS => ?_)
  have hP : va_P (zk_D s0) zk_Cl (zm_W s0 h (va_up (va_up (va_up f 21 (f 20)) 20 (0)) 22 (0)) a) H := hP
  refine lv_aload_n hx hb dX7_parse_18 rfl (lv_at hl 0 rfl) ?_
  refine lv_iconst (v := nI (0)) hx hb dX7_parse_19 rfl ?_
  refine zm_put fx 23 (by decide) q2264 (v := 0) hP hD hS dX7_parse_20 (fun H locs hP hD hS => ?_)
  have hP : va_P (zk_D s0) zk_Cl (zm_W s0 h (va_up (va_up (va_up (va_up f 21 (f 20)) 20 (0)) 22 (0)) 23 (0)) a) H := hP
  refine lv_aload_n hx hb dX7_parse_23 rfl (lv_at hl 0 rfl) ?_
  refine lv_iconst (v := nI (0)) hx hb dX7_parse_24 rfl ?_
  refine zm_putb fx 24 (by decide) q2265 (v := 0) (by decide) hP hD hS dX7_parse_25 (fun H locs hP hD hS => ?_)
  have hP : va_P (zk_D s0) zk_Cl (zm_W s0 h (va_up (va_up (va_up (va_up (va_up f 21 (f 20)) 20 (0)) 22 (0)) 23 (0)) 24 (0)) a) H := hP
  have hP : va_P (zk_D s0) zk_Cl (zm_W s0 h (va_up (va_up (va_up (va_up (va_up f 21 (f 20)) 20 (0)) 24 (0)) 22 (0)) 23 (0)) a) H := by rw [zx_2324, zx_2224] at hP; exact hP
  have hD : va_D A (zm_W s0 h (va_up (va_up (va_up (va_up (va_up f 21 (f 20)) 20 (0)) 24 (0)) 22 (0)) 23 (0)) a) := by rw [zx_2324, zx_2224] at hD; exact hD
  refine lv_aload_n hx hb dX7_parse_28 rfl (lv_at hl 0 rfl) ?_
  refine zk_callV0 fx (cm_command l s0 b h (va_up (va_up (va_up (va_up (va_up f 21 (f 20)) 20 (0)) 24 (0)) 22 (0)) 23 (0)) a (hL0) (ht0) (show 0 ≤ f 20 by omega) (rfl) (show 0 < 32 by omega)) (lw_V q2693 q2695 qs76 q108 q2696) ⟨rfl, by decide, by decide, (show (parseMethodDescriptor yX7_command.desc).map (fun d => d.parameters.length) = some 0 by decide +kernel)⟩ ⟨zk_le hR.1 rfl, zk_le hR.2.1 rfl⟩ ⟨zk_le hR.2.2.1 rfl, zk_le hR.2.2.2 rfl⟩ hP hD hS 0 rfl rfl 0 rfl hl.1 rfl (Nat.le_of_ble_eq_true rfl) dX7_parse_29 (fun v_ w_ H locs hq_ hP hD hS => ?_)
  obtain ⟨rfl, rfl⟩ := hq_
  refine zn_st (st2 := []) rfl ?_
  have hP : va_P (zk_D s0) zk_Cl (zm_W s0 h (va_up (va_up (va_up (va_up (va_up f 21 (f 20)) 20 (0)) 24 ((zt_cmd (a 10) (f 20) (0, 0, 0, (a 11), (a 12), (a 13)) : zt_S).w)) 22 ((zt_cmd (a 10) (f 20) (0, 0, 0, (a 11), (a 12), (a 13)) : zt_S).p)) 23 ((zt_cmd (a 10) (f 20) (0, 0, 0, (a 11), (a 12), (a 13)) : zt_S).n)) (va_up (va_up (va_up a 12 ((zt_cmd (a 10) (f 20) (0, 0, 0, (a 11), (a 12), (a 13)) : zt_S).F)) 13 ((zt_cmd (a 10) (f 20) (0, 0, 0, (a 11), (a 12), (a 13)) : zt_S).G)) 11 ((zt_cmd (a 10) (f 20) (0, 0, 0, (a 11), (a 12), (a 13)) : zt_S).K))) H := by rw [zx_3 (i := 24) (j := 22) (k := 23) (by decide) (by decide) (by decide)] at hP; exact hP
  have hD : va_D A (zm_W s0 h (va_up (va_up (va_up (va_up (va_up f 21 (f 20)) 20 (0)) 24 ((zt_cmd (a 10) (f 20) (0, 0, 0, (a 11), (a 12), (a 13)) : zt_S).w)) 22 ((zt_cmd (a 10) (f 20) (0, 0, 0, (a 11), (a 12), (a 13)) : zt_S).p)) 23 ((zt_cmd (a 10) (f 20) (0, 0, 0, (a 11), (a 12), (a 13)) : zt_S).n)) (va_up (va_up (va_up a 12 ((zt_cmd (a 10) (f 20) (0, 0, 0, (a 11), (a 12), (a 13)) : zt_S).F)) 13 ((zt_cmd (a 10) (f 20) (0, 0, 0, (a 11), (a 12), (a 13)) : zt_S).G)) 11 ((zt_cmd (a 10) (f 20) (0, 0, 0, (a 11), (a 12), (a 13)) : zt_S).K))) := by rw [zx_3 (i := 24) (j := 22) (k := 23) (by decide) (by decide) (by decide)] at hD; exact hD
  have hP : va_P (zk_D s0) zk_Cl (zm_W s0 h (va_up (va_up (va_up (va_up (va_up f 21 (f 20)) 20 (0)) 24 ((zt_p0 (a 10) (f 20) (a 11) (a 12) (a 13)).w)) 22 ((zt_p0 (a 10) (f 20) (a 11) (a 12) (a 13)).p)) 23 ((zt_p0 (a 10) (f 20) (a 11) (a 12) (a 13)).n)) (va_up (va_up (va_up a 12 ((zt_p0 (a 10) (f 20) (a 11) (a 12) (a 13)).F)) 13 ((zt_p0 (a 10) (f 20) (a 11) (a 12) (a 13)).G)) 11 ((zt_p0 (a 10) (f 20) (a 11) (a 12) (a 13)).K))) H := hP
  have hD : va_D A (zm_W s0 h (va_up (va_up (va_up (va_up (va_up f 21 (f 20)) 20 (0)) 24 ((zt_p0 (a 10) (f 20) (a 11) (a 12) (a 13)).w)) 22 ((zt_p0 (a 10) (f 20) (a 11) (a 12) (a 13)).p)) 23 ((zt_p0 (a 10) (f 20) (a 11) (a 12) (a 13)).n)) (va_up (va_up (va_up a 12 ((zt_p0 (a 10) (f 20) (a 11) (a 12) (a 13)).F)) 13 ((zt_p0 (a 10) (f 20) (a 11) (a 12) (a 13)).G)) 11 ((zt_p0 (a 10) (f 20) (a 11) (a 12) (a 13)).K))) := hD
  have lp_32 : ∀ (n_ : Nat) (s_ : zt_S), (f 20 + 1 - s_.p) < n_ → (zt_I (f 20) s_) → (zt_ps (a 10) (f 20) 61 (zt_p0 (a 10) (f 20) (a 11) (a 12) (a 13)) = zt_ps (a 10) (f 20) 61 s_) → ∀ (H : Heap) (locs : List Loc), va_P (zk_D s0) zk_Cl (zm_W s0 h (va_up (va_up (va_up (va_up (va_up f 21 (f 20)) 20 (0)) 24 (s_.w)) 22 (s_.p)) 23 (s_.n)) (va_up (va_up (va_up a 12 (s_.F)) 13 (s_.G)) 11 (s_.K))) H → va_D A (zm_W s0 h (va_up (va_up (va_up (va_up (va_up f 21 (f 20)) 20 (0)) 24 (s_.w)) 22 (s_.p)) 23 (s_.n)) (va_up (va_up (va_up a 12 (s_.F)) 13 (s_.G)) 11 (s_.K))) → va_S A s.heap H locs → ∀ ls : Array Slot, lv_has ls 1 [(0, .ref (h 0))] → W p l e R s m args below meth c H locs 0 0 Q (F0 m 32 ls []) := by
    intro n_
    induction n_ with
    | zero => intro s_ hn_; exact absurd hn_ (Nat.not_lt_zero _)
    | succ n_ ih_32 =>
      intro s_ hn_ hI hz H locs hP hD hS ls hl
      have hI1 : s_.p ≤ f 20 := hI.1
      have hI2 : s_.w = 0 ∨ s_.w = 1 := hI.2.1
      have hI3 : 4 * s_.n ≤ s_.p + 1 := hI.2.2.1
      refine lv_aload_n hx hb dX7_parse_32 rfl (lv_at hl 0 rfl) ?_
      refine zk_callV0 fx (cm_mark l s0 b h (va_up (va_up (va_up (va_up (va_up f 21 (f 20)) 20 (0)) 24 (s_.w)) 22 (s_.p)) 23 (s_.n)) (va_up (va_up (va_up a 12 (s_.F)) 13 (s_.G)) 11 (s_.K))  (hL0) (ht0) (show s_.p ≤ f 20 by omega) (show s_.w < 2 ^ 31 by omega)) (lw_V q2714 q2716 qs79 q108 q2717) ⟨rfl, by decide, by decide, (show (parseMethodDescriptor yX7_mark.desc).map (fun d => d.parameters.length) = some 0 by decide +kernel)⟩ ⟨zk_le hR.1 rfl, zk_le hR.2.1 rfl⟩ ⟨zk_le hR.2.2.1 rfl, zk_le hR.2.2.2 rfl⟩ hP hD hS 0 rfl rfl 0 rfl hl.1 rfl (Nat.le_of_ble_eq_true rfl) dX7_parse_33 (fun v_ w_ H locs hq_ hP hD hS => ?_)
      obtain ⟨rfl, rfl⟩ := hq_
      refine zn_st (st2 := [.int (nI (zt_mk (a 10) (f 20) s_.w s_.p))]) rfl ?_
      refine lv_bipush (v := nI (59)) hx hb dX7_parse_36 (by decide) ?_
      refine lv_icmp_ne (tgt := 58) hx hb dX7_parse_38 (by decide) (fun c_38 => ?_) (fun c_38 => ?_)
      · refine lv_aload_n hx hb dX7_parse_58 rfl (lv_at hl 0 rfl) ?_
        refine lv_dup hx hb dX7_parse_59 rfl ?_
        refine zm_get (f := (va_up (va_up (va_up (va_up (va_up f 21 (f 20)) 20 (0)) 24 (s_.w)) 22 (s_.p)) 23 (s_.n))) fx 24 (by decide) q2265 (v := .int (nI (s_.w))) rfl hP dX7_parse_60 ?_
        refine lv_aload_n hx hb dX7_parse_63 rfl (lv_at hl 0 rfl) ?_
        refine zm_get (f := (va_up (va_up (va_up (va_up (va_up f 21 (f 20)) 20 (0)) 24 (s_.w)) 22 (s_.p)) 23 (s_.n))) fx 22 (by decide) q2263 (v := .int (nI (s_.p))) rfl hP dX7_parse_64 ?_
        refine lv_aload_n hx hb dX7_parse_67 rfl (lv_at hl 0 rfl) ?_
        refine zm_get (f := (va_up (va_up (va_up (va_up (va_up f 21 (f 20)) 20 (0)) 24 (s_.w)) 22 (s_.p)) 23 (s_.n))) fx 21 (by decide) q2262 (v := .int (nI (f 20))) rfl hP dX7_parse_68 ?_
        refine zn_icmp_ge (tgt := 78) hx hb dX7_parse_71 (by decide) (by omega) (by omega) (fun c_71 => ?_) (fun c_71 => ?_)
        · refine lv_iconst (v := nI (0)) hx hb dX7_parse_78 rfl ?_
          refine zn_ior hx hb dX7_parse_79 (by omega) (by omega) ?_
          refine zn_top (y := nI ((zt_end (f 20) s_).w)) (congrArg nI (zt_endT hI2 (by omega))) ?_
          refine zm_putb fx 24 (by decide) q2265 (v := (zt_end (f 20) s_).w) (zt_end_w _ _) hP hD hS dX7_parse_80 (fun H locs hP hD hS => ?_)
          have hP : va_P (zk_D s0) zk_Cl (zm_W s0 h (va_up (va_up (va_up (va_up (va_up (va_up f 21 (f 20)) 20 (0)) 24 (s_.w)) 22 (s_.p)) 23 (s_.n)) 24 ((zt_end (f 20) s_).w)) (va_up (va_up (va_up a 12 (s_.F)) 13 (s_.G)) 11 (s_.K))) H := hP
          have hP : va_P (zk_D s0) zk_Cl (zm_W s0 h (va_up (va_up (va_up (va_up (va_up f 21 (f 20)) 20 (0)) 24 ((zt_end (f 20) s_).w)) 22 (s_.p)) 23 (s_.n)) (va_up (va_up (va_up a 12 (s_.F)) 13 (s_.G)) 11 (s_.K))) H := by rw [zx_2324, zx_2224, bx_uu] at hP; exact hP
          have hD : va_D A (zm_W s0 h (va_up (va_up (va_up (va_up (va_up f 21 (f 20)) 20 (0)) 24 ((zt_end (f 20) s_).w)) 22 (s_.p)) 23 (s_.n)) (va_up (va_up (va_up a 12 (s_.F)) 13 (s_.G)) 11 (s_.K))) := by rw [zx_2324, zx_2224, bx_uu] at hD; exact hD
          have hq : zt_parse (a 10) (f 20) (a 11) (a 12) (a 13) = zt_end (f 20) s_ := by unfold zt_parse; rw [hz]; exact congrArg (zt_end (f 20)) (if_neg (fun z => c_38 ((zt_mkI ht0 (by decide)).mpr z)))
          exact zk_retv fx eQ rfl hP hD hS (Nat.le_of_ble_eq_true rfl) (Nat.le_of_ble_eq_true rfl) dX7_parse_83 (⟨rfl, by rw [hq]; rfl⟩)
        · refine lv_iconst (v := nI (1)) hx hb dX7_parse_74 rfl ?_
          refine lv_goto (tgt := 79) hx hb dX7_parse_75 (by decide) ?_
          refine zn_ior hx hb dX7_parse_79 (by omega) (by omega) ?_
          refine zn_top (y := nI ((zt_end (f 20) s_).w)) (congrArg nI (zt_endF hI2 (by omega))) ?_
          refine zm_putb fx 24 (by decide) q2265 (v := (zt_end (f 20) s_).w) (zt_end_w _ _) hP hD hS dX7_parse_80 (fun H locs hP hD hS => ?_)
          have hP : va_P (zk_D s0) zk_Cl (zm_W s0 h (va_up (va_up (va_up (va_up (va_up (va_up f 21 (f 20)) 20 (0)) 24 (s_.w)) 22 (s_.p)) 23 (s_.n)) 24 ((zt_end (f 20) s_).w)) (va_up (va_up (va_up a 12 (s_.F)) 13 (s_.G)) 11 (s_.K))) H := hP
          have hP : va_P (zk_D s0) zk_Cl (zm_W s0 h (va_up (va_up (va_up (va_up (va_up f 21 (f 20)) 20 (0)) 24 ((zt_end (f 20) s_).w)) 22 (s_.p)) 23 (s_.n)) (va_up (va_up (va_up a 12 (s_.F)) 13 (s_.G)) 11 (s_.K))) H := by rw [zx_2324, zx_2224, bx_uu] at hP; exact hP
          have hD : va_D A (zm_W s0 h (va_up (va_up (va_up (va_up (va_up f 21 (f 20)) 20 (0)) 24 ((zt_end (f 20) s_).w)) 22 (s_.p)) 23 (s_.n)) (va_up (va_up (va_up a 12 (s_.F)) 13 (s_.G)) 11 (s_.K))) := by rw [zx_2324, zx_2224, bx_uu] at hD; exact hD
          have hq : zt_parse (a 10) (f 20) (a 11) (a 12) (a 13) = zt_end (f 20) s_ := by unfold zt_parse; rw [hz]; exact congrArg (zt_end (f 20)) (if_neg (fun z => c_38 ((zt_mkI ht0 (by decide)).mpr z)))
          exact zk_retv fx eQ rfl hP hD hS (Nat.le_of_ble_eq_true rfl) (Nat.le_of_ble_eq_true rfl) dX7_parse_83 (⟨rfl, by rw [hq]; rfl⟩)
      · have hmk := (zt_mkI (t := a 10) (L := f 20) (w := s_.w) (p := s_.p) (q := 59) ht0 (by decide)).mp c_38
        have hmk2 := hmk.2.1
        have hst := zt_step_ok (t := a 10) hI hmk.2.1
        refine lv_aload_n hx hb dX7_parse_41 rfl (lv_at hl 0 rfl) ?_
        refine lv_dup hx hb dX7_parse_42 rfl ?_
        refine zm_get (f := (va_up (va_up (va_up (va_up (va_up f 21 (f 20)) 20 (0)) 24 (s_.w)) 22 (s_.p)) 23 (s_.n))) fx 22 (by decide) q2263 (v := .int (nI (s_.p))) rfl hP dX7_parse_43 ?_
        refine lv_iconst (v := nI (1)) hx hb dX7_parse_46 rfl ?_
        refine zn_iadd hx hb dX7_parse_47 ?_
        refine zm_put fx 22 (by decide) q2263 (v := s_.p + 1) hP hD hS dX7_parse_48 (fun H locs hP hD hS => ?_)
        have hP : va_P (zk_D s0) zk_Cl (zm_W s0 h (va_up (va_up (va_up (va_up (va_up (va_up f 21 (f 20)) 20 (0)) 24 (s_.w)) 22 (s_.p)) 23 (s_.n)) 22 (s_.p + 1)) (va_up (va_up (va_up a 12 (s_.F)) 13 (s_.G)) 11 (s_.K))) H := hP
        have hP : va_P (zk_D s0) zk_Cl (zm_W s0 h (va_up (va_up (va_up (va_up (va_up f 21 (f 20)) 20 (0)) 24 (s_.w)) 22 (s_.p + 1)) 23 (s_.n)) (va_up (va_up (va_up a 12 (s_.F)) 13 (s_.G)) 11 (s_.K))) H := by rw [zx_2322, bx_uu] at hP; exact hP
        have hD : va_D A (zm_W s0 h (va_up (va_up (va_up (va_up (va_up f 21 (f 20)) 20 (0)) 24 (s_.w)) 22 (s_.p + 1)) 23 (s_.n)) (va_up (va_up (va_up a 12 (s_.F)) 13 (s_.G)) 11 (s_.K))) := by rw [zx_2322, bx_uu] at hD; exact hD
        refine lv_aload_n hx hb dX7_parse_51 rfl (lv_at hl 0 rfl) ?_
        refine zk_callV0 fx (cm_command l s0 b h (va_up (va_up (va_up (va_up (va_up f 21 (f 20)) 20 (0)) 24 (s_.w)) 22 (s_.p + 1)) 23 (s_.n)) (va_up (va_up (va_up a 12 (s_.F)) 13 (s_.G)) 11 (s_.K)) (hL0) (ht0) (show s_.p + 1 ≤ f 20 by omega) (hmk.1) (show s_.n < 32 by omega)) (lw_V q2693 q2695 qs76 q108 q2696) ⟨rfl, by decide, by decide, (show (parseMethodDescriptor yX7_command.desc).map (fun d => d.parameters.length) = some 0 by decide +kernel)⟩ ⟨zk_le hR.1 rfl, zk_le hR.2.1 rfl⟩ ⟨zk_le hR.2.2.1 rfl, zk_le hR.2.2.2 rfl⟩ hP hD hS 0 rfl rfl 0 rfl hl.1 rfl (Nat.le_of_ble_eq_true rfl) dX7_parse_52 (fun v_ w_ H locs hq_ hP hD hS => ?_)
        obtain ⟨rfl, rfl⟩ := hq_
        refine zn_st (st2 := []) rfl ?_
        have hP : va_P (zk_D s0) zk_Cl (zm_W s0 h (va_up (va_up (va_up (va_up (va_up f 21 (f 20)) 20 (0)) 24 ((zt_cmd (a 10) (f 20) ((s_.p + 1), 0, s_.n, s_.K, s_.F, s_.G) : zt_S).w)) 22 ((zt_cmd (a 10) (f 20) ((s_.p + 1), 0, s_.n, s_.K, s_.F, s_.G) : zt_S).p)) 23 ((zt_cmd (a 10) (f 20) ((s_.p + 1), 0, s_.n, s_.K, s_.F, s_.G) : zt_S).n)) (va_up (va_up (va_up a 12 ((zt_cmd (a 10) (f 20) ((s_.p + 1), 0, s_.n, s_.K, s_.F, s_.G) : zt_S).F)) 13 ((zt_cmd (a 10) (f 20) ((s_.p + 1), 0, s_.n, s_.K, s_.F, s_.G) : zt_S).G)) 11 ((zt_cmd (a 10) (f 20) ((s_.p + 1), 0, s_.n, s_.K, s_.F, s_.G) : zt_S).K))) H := by rw [zx_3 (i := 24) (j := 22) (k := 23) (by decide) (by decide) (by decide), zx_3 (i := 12) (j := 13) (k := 11) (by decide) (by decide) (by decide)] at hP; exact hP
        have hD : va_D A (zm_W s0 h (va_up (va_up (va_up (va_up (va_up f 21 (f 20)) 20 (0)) 24 ((zt_cmd (a 10) (f 20) ((s_.p + 1), 0, s_.n, s_.K, s_.F, s_.G) : zt_S).w)) 22 ((zt_cmd (a 10) (f 20) ((s_.p + 1), 0, s_.n, s_.K, s_.F, s_.G) : zt_S).p)) 23 ((zt_cmd (a 10) (f 20) ((s_.p + 1), 0, s_.n, s_.K, s_.F, s_.G) : zt_S).n)) (va_up (va_up (va_up a 12 ((zt_cmd (a 10) (f 20) ((s_.p + 1), 0, s_.n, s_.K, s_.F, s_.G) : zt_S).F)) 13 ((zt_cmd (a 10) (f 20) ((s_.p + 1), 0, s_.n, s_.K, s_.F, s_.G) : zt_S).G)) 11 ((zt_cmd (a 10) (f 20) ((s_.p + 1), 0, s_.n, s_.K, s_.F, s_.G) : zt_S).K))) := by rw [zx_3 (i := 24) (j := 22) (k := 23) (by decide) (by decide) (by decide), zx_3 (i := 12) (j := 13) (k := 11) (by decide) (by decide) (by decide)] at hD; exact hD
        refine lv_goto (tgt := 32) hx hb dX7_parse_55 (by decide) ?_
        exact ih_32 ((zt_cmd (a 10) (f 20) (s_.p + 1, 0, s_.n, s_.K, s_.F, s_.G) : zt_S)) (by have := hst.2; have := hst.1.1; omega) hst.1 (by rw [hz]; exact (if_pos hmk).trans (zt_ps_mono 60 61 _ hst.1 (by omega) (by decide)).symm) _ _ hP hD hS ls (lv_sub hl [0] rfl)
  exact lp_32 _ (zt_p0 (a 10) (f 20) (a 11) (a 12) (a 13)) (Nat.lt_succ_self _) zt_p0_ok rfl _ _ hP hD hS ls (lv_sub hl [0] rfl)
