/-! THE REFERENCE, part 2 (printed by prog/m2.py) -/
set_option maxRecDepth 100000
set_option maxHeartbeats 4000000 in
set_option maxRecDepth 100000 in
theorem cm_commit (l : Launch) (s0 : State) (b : Nat) (h f : Nat → Nat) (a : Nat → Nat → Nat) (n : Int32) (hd0 : f 10 ≤ 8) : zk_C l s0 b yX7_commit (ws_ yX7_commit cX7_commit 3 (some .int)) 1 24 0 0 [.ref (h 0), .int (n)] (zm_W s0 h f a) (fun r w => r = some (.int n) ∧ w = zm_W s0 h (va_up f 10 (zp_cd (f 10))) (va_up a 3 (zp_ch (f 10) (a 3) (a 1)))) := by
  refine zk_mk (by decide) rfl ?_
  intro p e s m below meth c A R args Q fx hR eQ hP hD hS ls hl
  have hx := fx.1
  have hb := fx.2.1
  have hK := fx.2.2.2.2.2.2.2.2.1.K
  have hl : lv_has ls 3 [(0, .ref (h 0)), (1, .int (n))] := hl
  refine lv_aload_n hx hb dX7_commit_0 rfl (lv_at hl 0 rfl) ?_
  refine zm_get (f := f) fx 10 (by decide) q2251 (v := .int (nI (f 10))) rfl hP dX7_commit_1 ?_
  refine lv_bipush (v := nI (8)) hx hb dX7_commit_4 (by decide) ?_
  refine zn_icmp_ne (tgt := 54) hx hb dX7_commit_6 (by decide) (by omega) (by omega) (fun c_6 => ?_) (fun c_6 => ?_)
  · refine lv_aload_n hx hb dX7_commit_54 rfl (lv_at hl 0 rfl) ?_
    refine zm_get (f := f) fx 1 (by decide) q2242 (v := .ref (h 2)) rfl hP dX7_commit_55 ?_
    refine lv_iconst (v := nI (0)) hx hb dX7_commit_58 rfl ?_
    refine lv_aload_n hx hb dX7_commit_59 rfl (lv_at hl 0 rfl) ?_
    refine zm_get (f := f) fx 3 (by decide) q2244 (v := .ref (h 4)) rfl hP dX7_commit_60 ?_
    refine lv_bipush (v := nI (72)) hx hb dX7_commit_63 (by decide) ?_
    refine lv_aload_n hx hb dX7_commit_65 rfl (lv_at hl 0 rfl) ?_
    refine zm_get (f := f) fx 10 (by decide) q2251 (v := .int (nI (f 10))) rfl hP dX7_commit_66 ?_
    refine zn_imul hx hb dX7_commit_69 ?_
    refine zk_callS fx (cm_copy2 l s0 b (h 2) (h 4) 72 576 (a 1) (a 3) 0 (72 * (f 10)) (by decide) (by omega) (by decide) (by decide)) (lw_S q2329 q2330 q108 q2331) ⟨by decide, by decide, (show (parseMethodDescriptor yX7_copy.desc).map (fun d => d.parameters.length) = some 4 by decide +kernel)⟩ ⟨zk_le hR.1 rfl, zk_le hR.2.1 rfl⟩ ⟨zk_le hR.2.2.1 rfl, zk_le hR.2.2.2 rfl⟩ hP hD hS (wc := [(h 2, zk_I s0 72 (a 1)), (h 4, zk_I s0 576 (a 3))]) (wr := [(h 0, .inr (0, zm_fs h f)), (h 1, zk_I s0 72 (a 0)), (h 3, zk_I s0 72 (a 2)), (h 5, zk_I s0 1024 (a 4)), (h 6, zk_I s0 7 (a 5)), (h 7, zk_I s0 12 (a 6)), (h 8, zk_I s0 12 (a 7)), (h 9, zk_I s0 7 (a 8)), (h 10, zk_I s0 80 (a 9)), (h 11, zk_I s0 60 (a 10)), (h 12, zk_I s0 32 (a 11)), (h 13, zk_I s0 32 (a 12)), (h 14, zk_I s0 32 (a 13))]) (zk_pi 15 [2, 4, 0, 1, 3, 5, 6, 7, 8, 9, 10, 11, 12, 13, 14] rfl rfl (by decide)) hl.1 rfl (Nat.le_of_ble_eq_true rfl) dX7_commit_70 (fun v_ w_ H locs hq_ hP hD hS => ?_)
    obtain ⟨rfl, rfl⟩ := hq_
    refine zn_st (st2 := []) rfl ?_
    have hP := zk_Pp hP (zk_pi (ws' := zm_W s0 h f (va_up a 3 (zp_cp (a 1) (a 3) 0 (72 * (f 10)) 72))) 15 [2, 3, 0, 4, 1, 5, 6, 7, 8, 9, 10, 11, 12, 13, 14] rfl rfl (by decide))
    have hD := zk_Dp hD (zk_pi (ws' := zm_W s0 h f (va_up a 3 (zp_cp (a 1) (a 3) 0 (72 * (f 10)) 72))) 15 [2, 3, 0, 4, 1, 5, 6, 7, 8, 9, 10, 11, 12, 13, 14] rfl rfl (by decide))
    refine lv_aload_n hx hb dX7_commit_73 rfl (lv_at hl 0 rfl) ?_
    refine lv_dup hx hb dX7_commit_74 rfl ?_
    refine zm_get (f := f) fx 10 (by decide) q2251 (v := .int (nI (f 10))) rfl hP dX7_commit_75 ?_
    refine lv_iconst (v := nI (1)) hx hb dX7_commit_78 rfl ?_
    refine zn_iadd hx hb dX7_commit_79 ?_
    refine zm_put fx 10 (by decide) q2251 (v := (f 10) + 1) hP hD hS dX7_commit_80 (fun H locs hP hD hS => ?_)
    have hP : va_P (zk_D s0) zk_Cl (zm_W s0 h (va_up f 10 ((f 10) + 1)) (va_up a 3 (zp_cp (a 1) (a 3) 0 (72 * (f 10)) 72))) H := hP
    refine lv_iload_n hx hb dX7_commit_83 rfl (lv_at hl 1 rfl) ?_
    exact zk_reti (v := n) fx eQ rfl (rfl) hP hD hS (Nat.le_of_ble_eq_true rfl) (Nat.le_of_ble_eq_true rfl) dX7_commit_84 (⟨rfl, by rw [zp_cd, zp_ch, if_neg c_6, if_neg c_6]⟩)
  · have c_6 : f 10 = 8 := c_6
    refine lv_iconst (v := nI (1)) hx hb dX7_commit_9 rfl ?_
    refine lv_istore_n (lv' := [(2, .int (nI (1))), (0, .ref (h 0)), (1, .int (n))]) hx hb dX7_commit_10 rfl hl (by decide) rfl (fun ls hl => ?_)
    have hP : va_P (zk_D s0) zk_Cl (zm_W s0 h f (va_up a 3 (zp_down (a 3) 0))) s.heap := hP
    have hD : va_D A (zm_W s0 h f (va_up a 3 (zp_down (a 3) 0))) := hD
    have lp_11 : ∀ (n_ : Nat) (k_ : Nat), (7 - k_) < n_ → (k_ ≤ 7) → ∀ (H : Heap) (locs : List Loc), va_P (zk_D s0) zk_Cl (zm_W s0 h f (va_up a 3 (zp_down (a 3) k_))) H → va_D A (zm_W s0 h f (va_up a 3 (zp_down (a 3) k_))) → va_S A s.heap H locs → ∀ ls : Array Slot, lv_has ls 3 [(2, .int (nI (k_ + 1))), (0, .ref (h 0)), (1, .int (n))] → W p l e R s m args below meth c H locs 0 0 Q (F0 m 11 ls []) := by
      intro n_
      induction n_ with
      | zero => intro k_ hn_; exact absurd hn_ (Nat.not_lt_zero _)
      | succ n_ ih_11 =>
        intro k_ hn_ hk H locs hP hD hS ls hl
        refine lv_iload_n hx hb dX7_commit_11 rfl (lv_at hl 0 rfl) ?_
        refine lv_bipush (v := nI (8)) hx hb dX7_commit_12 (by decide) ?_
        refine zn_icmp_ge (tgt := 44) hx hb dX7_commit_14 (by decide) (by omega) (by omega) (fun c_14 => ?_) (fun c_14 => ?_)
        · refine lv_aload_n hx hb dX7_commit_44 rfl (lv_at hl 1 rfl) ?_
          refine lv_dup hx hb dX7_commit_45 rfl ?_
          refine zm_get (f := f) fx 10 (by decide) q2251 (v := .int (nI (f 10))) rfl hP dX7_commit_46 ?_
          refine lv_iconst (v := nI (1)) hx hb dX7_commit_49 rfl ?_
          refine zn_isub hx hb dX7_commit_50 (by omega) ?_
          refine zm_put fx 10 (by decide) q2251 (v := (f 10) - 1) hP hD hS dX7_commit_51 (fun H locs hP hD hS => ?_)
          have hP : va_P (zk_D s0) zk_Cl (zm_W s0 h (va_up f 10 ((f 10) - 1)) (va_up a 3 (zp_down (a 3) k_))) H := hP
          refine lv_aload_n hx hb dX7_commit_54 rfl (lv_at hl 1 rfl) ?_
          refine zm_get (f := (va_up f 10 ((f 10) - 1))) fx 1 (by decide) q2242 (v := .ref (h 2)) rfl hP dX7_commit_55 ?_
          refine lv_iconst (v := nI (0)) hx hb dX7_commit_58 rfl ?_
          refine lv_aload_n hx hb dX7_commit_59 rfl (lv_at hl 1 rfl) ?_
          refine zm_get (f := (va_up f 10 ((f 10) - 1))) fx 3 (by decide) q2244 (v := .ref (h 4)) rfl hP dX7_commit_60 ?_
          refine lv_bipush (v := nI (72)) hx hb dX7_commit_63 (by decide) ?_
          refine lv_aload_n hx hb dX7_commit_65 rfl (lv_at hl 1 rfl) ?_
          refine zm_get (f := (va_up f 10 ((f 10) - 1))) fx 10 (by decide) q2251 (v := .int (nI ((f 10) - 1))) rfl hP dX7_commit_66 ?_
          refine zn_imul hx hb dX7_commit_69 ?_
          refine zk_callS fx (cm_copy2 l s0 b (h 2) (h 4) 72 576 (a 1) (zp_down (a 3) k_) 0 (72 * ((f 10) - 1)) (by decide) (by omega) (by decide) (by decide)) (lw_S q2329 q2330 q108 q2331) ⟨by decide, by decide, (show (parseMethodDescriptor yX7_copy.desc).map (fun d => d.parameters.length) = some 4 by decide +kernel)⟩ ⟨zk_le hR.1 rfl, zk_le hR.2.1 rfl⟩ ⟨zk_le hR.2.2.1 rfl, zk_le hR.2.2.2 rfl⟩ hP hD hS (wc := [(h 2, zk_I s0 72 (a 1)), (h 4, zk_I s0 576 (zp_down (a 3) k_))]) (wr := [(h 0, .inr (0, zm_fs h (va_up f 10 ((f 10) - 1)))), (h 1, zk_I s0 72 (a 0)), (h 3, zk_I s0 72 (a 2)), (h 5, zk_I s0 1024 (a 4)), (h 6, zk_I s0 7 (a 5)), (h 7, zk_I s0 12 (a 6)), (h 8, zk_I s0 12 (a 7)), (h 9, zk_I s0 7 (a 8)), (h 10, zk_I s0 80 (a 9)), (h 11, zk_I s0 60 (a 10)), (h 12, zk_I s0 32 (a 11)), (h 13, zk_I s0 32 (a 12)), (h 14, zk_I s0 32 (a 13))]) (zk_pi 15 [2, 4, 0, 1, 3, 5, 6, 7, 8, 9, 10, 11, 12, 13, 14] rfl rfl (by decide)) hl.1 rfl (Nat.le_of_ble_eq_true rfl) dX7_commit_70 (fun v_ w_ H locs hq_ hP hD hS => ?_)
          obtain ⟨rfl, rfl⟩ := hq_
          refine zn_st (st2 := []) rfl ?_
          have hP := zk_Pp hP (zk_pi (ws' := zm_W s0 h (va_up f 10 ((f 10) - 1)) (va_up (va_up a 3 (zp_down (a 3) k_)) 3 (zp_cp (a 1) (zp_down (a 3) k_) 0 (72 * ((f 10) - 1)) 72))) 15 [2, 3, 0, 4, 1, 5, 6, 7, 8, 9, 10, 11, 12, 13, 14] rfl rfl (by decide))
          have hD := zk_Dp hD (zk_pi (ws' := zm_W s0 h (va_up f 10 ((f 10) - 1)) (va_up (va_up a 3 (zp_down (a 3) k_)) 3 (zp_cp (a 1) (zp_down (a 3) k_) 0 (72 * ((f 10) - 1)) 72))) 15 [2, 3, 0, 4, 1, 5, 6, 7, 8, 9, 10, 11, 12, 13, 14] rfl rfl (by decide))
          refine lv_aload_n hx hb dX7_commit_73 rfl (lv_at hl 1 rfl) ?_
          refine lv_dup hx hb dX7_commit_74 rfl ?_
          refine zm_get (f := (va_up f 10 ((f 10) - 1))) fx 10 (by decide) q2251 (v := .int (nI ((f 10) - 1))) rfl hP dX7_commit_75 ?_
          refine lv_iconst (v := nI (1)) hx hb dX7_commit_78 rfl ?_
          refine zn_iadd hx hb dX7_commit_79 ?_
          refine zm_put fx 10 (by decide) q2251 (v := ((f 10) - 1) + 1) hP hD hS dX7_commit_80 (fun H locs hP hD hS => ?_)
          have hP : va_P (zk_D s0) zk_Cl (zm_W s0 h (va_up (va_up f 10 ((f 10) - 1)) 10 (((f 10) - 1) + 1)) (va_up (va_up a 3 (zp_down (a 3) k_)) 3 (zp_cp (a 1) (zp_down (a 3) k_) 0 (72 * ((f 10) - 1)) 72))) H := hP
          refine lv_iload_n hx hb dX7_commit_83 rfl (lv_at hl 2 rfl) ?_
          exact zk_reti (v := n) fx eQ rfl (rfl) hP hD hS (Nat.le_of_ble_eq_true rfl) (Nat.le_of_ble_eq_true rfl) dX7_commit_84 (⟨rfl, by rw [zp_cd, zp_ch, if_pos c_6, if_pos c_6, bx_uu, bx_uu, c_6, show k_ = 7 by omega]; try rfl⟩)
        · refine lv_aload_n hx hb dX7_commit_17 rfl (lv_at hl 1 rfl) ?_
          refine zm_get (f := f) fx 3 (by decide) q2244 (v := .ref (h 4)) rfl hP dX7_commit_18 ?_
          refine lv_bipush (v := nI (72)) hx hb dX7_commit_21 (by decide) ?_
          refine lv_iload_n hx hb dX7_commit_23 rfl (lv_at hl 0 rfl) ?_
          refine zn_imul hx hb dX7_commit_24 ?_
          refine lv_aload_n hx hb dX7_commit_25 rfl (lv_at hl 1 rfl) ?_
          refine zm_get (f := f) fx 3 (by decide) q2244 (v := .ref (h 4)) rfl hP dX7_commit_26 ?_
          refine lv_bipush (v := nI (72)) hx hb dX7_commit_29 (by decide) ?_
          refine lv_iload_n hx hb dX7_commit_31 rfl (lv_at hl 0 rfl) ?_
          refine lv_iconst (v := nI (1)) hx hb dX7_commit_32 rfl ?_
          refine zn_isub hx hb dX7_commit_33 (by omega) ?_
          refine zn_imul hx hb dX7_commit_34 ?_
          refine zk_callS fx (cm_copy1 l s0 b (h 4) 576 (zp_down (a 3) k_) (72 * (k_ + 1)) (72 * ((k_ + 1) - 1)) (by omega) (by omega) (by decide)) (lw_S q2329 q2330 q108 q2331) ⟨by decide, by decide, (show (parseMethodDescriptor yX7_copy.desc).map (fun d => d.parameters.length) = some 4 by decide +kernel)⟩ ⟨zk_le hR.1 rfl, zk_le hR.2.1 rfl⟩ ⟨zk_le hR.2.2.1 rfl, zk_le hR.2.2.2 rfl⟩ hP hD hS (wc := [(h 4, zk_I s0 576 (zp_down (a 3) k_))]) (wr := [(h 0, .inr (0, zm_fs h f)), (h 1, zk_I s0 72 (a 0)), (h 2, zk_I s0 72 (a 1)), (h 3, zk_I s0 72 (a 2)), (h 5, zk_I s0 1024 (a 4)), (h 6, zk_I s0 7 (a 5)), (h 7, zk_I s0 12 (a 6)), (h 8, zk_I s0 12 (a 7)), (h 9, zk_I s0 7 (a 8)), (h 10, zk_I s0 80 (a 9)), (h 11, zk_I s0 60 (a 10)), (h 12, zk_I s0 32 (a 11)), (h 13, zk_I s0 32 (a 12)), (h 14, zk_I s0 32 (a 13))]) (zk_pi 15 [4, 0, 1, 2, 3, 5, 6, 7, 8, 9, 10, 11, 12, 13, 14] rfl rfl (by decide)) hl.1 rfl (Nat.le_of_ble_eq_true rfl) dX7_commit_35 (fun v_ w_ H locs hq_ hP hD hS => ?_)
          obtain ⟨rfl, rfl⟩ := hq_
          refine zn_st (st2 := []) rfl ?_
          have hP := zk_Pp hP (zk_pi (ws' := zm_W s0 h f (va_up a 3 (zp_cp (zp_down (a 3) k_) (zp_down (a 3) k_) (72 * (k_ + 1)) (72 * ((k_ + 1) - 1)) 72))) 15 [1, 2, 3, 4, 0, 5, 6, 7, 8, 9, 10, 11, 12, 13, 14] rfl rfl (by decide))
          have hD := zk_Dp hD (zk_pi (ws' := zm_W s0 h f (va_up a 3 (zp_cp (zp_down (a 3) k_) (zp_down (a 3) k_) (72 * (k_ + 1)) (72 * ((k_ + 1) - 1)) 72))) 15 [1, 2, 3, 4, 0, 5, 6, 7, 8, 9, 10, 11, 12, 13, 14] rfl rfl (by decide))
          rw [show 72 * (k_ + 1 - 1) = 72 * k_ by rw [Nat.add_sub_cancel]] at hP hD
          have hP : va_P (zk_D s0) zk_Cl (zm_W s0 h f (va_up a 3 (zp_down (a 3) (k_ + 1)))) H := hP
          have hD : va_D A (zm_W s0 h f (va_up a 3 (zp_down (a 3) (k_ + 1)))) := hD
          refine lv_iinc (v := nI (k_ + 1 + 1)) (lv' := [(2, .int (nI (k_ + 1 + 1))), (0, .ref (h 0)), (1, .int (n))]) hx hb dX7_commit_38 hl (k := 0) rfl (nI_add (k_ + 1) 1) (by decide) rfl (fun ls hl => ?_)
          refine lv_goto (tgt := 11) hx hb dX7_commit_41 (by decide) ?_
          exact ih_11 (k_ + 1) (by omega) (by omega) _ _ hP hD hS ls (lv_sub hl [0, 1, 2] rfl)
    exact lp_11 _ 0 (Nat.lt_succ_self _) (by omega) _ _ hP hD hS ls (lv_sub hl [0, 1, 2] rfl)
set_option maxHeartbeats 4000000 in
set_option maxRecDepth 100000 in
theorem cm_cannotPour (l : Launch) (s0 : State) (b : Nat) (h f : Nat → Nat) (a : Nat → Nat → Nat) (x u : Int32) (ok : zp_Ok (a 0)) : zk_C l s0 b yX7_cannotPour (ws_ yX7_cannotPour cX7_cannotPour 3 (some .int)) 2 42 0 0 [.ref (h 0), .int (x), .int (u)] (zm_W s0 h f a) (fun r w => r = some (.int (nI (zp_pour (a 0) x u))) ∧ w = zm_W s0 h f a) := by
  refine zk_mk (by decide) rfl ?_
  intro p e s m below meth c A R args Q fx hR eQ hP hD hS ls hl
  have hx := fx.1
  have hb := fx.2.1
  have hK := fx.2.2.2.2.2.2.2.2.1.K
  have hl : lv_has ls 3 [(0, .ref (h 0)), (1, .int (x)), (2, .int (u))] := hl
  obtain ⟨ok0, ok1, ok2, ok3, ok4, ok5, ok6, okw, oke, okp⟩ := id ok
  refine lv_iload_n hx hb dX7_cannotPour_0 rfl (lv_at hl 1 rfl) ?_
  refine zk_callSn fx (cm_isColour l s0 b (x)) (lw_S q2336 q2337 q108 q2338) ⟨by decide, by decide, (show (parseMethodDescriptor yX7_isColour.desc).map (fun d => d.parameters.length) = some 1 by decide +kernel)⟩ ⟨zk_le hR.1 rfl, zk_le hR.2.1 rfl⟩ ⟨zk_le hR.2.2.1 rfl, zk_le hR.2.2.2 rfl⟩ hP hD hS hl.1 rfl (Nat.le_of_ble_eq_true rfl) dX7_cannotPour_1 (fun v_ H locs hq_ hP hD hS => ?_)
  obtain rfl := hq_
  refine zn_st (st2 := [.int (nI (Bool.toNat (zk_in x 0 9)))]) rfl ?_
  refine zb_if_eq (tgt := 18) hx hb dX7_cannotPour_4 (by decide) (fun c_4 => ?_) (fun c_4 => ?_)
  · refine lv_iconst (v := nI (1)) hx hb dX7_cannotPour_18 rfl ?_
    exact zk_reti (v := nI (1)) fx eQ rfl (rfl) hP hD hS (Nat.le_of_ble_eq_true rfl) (Nat.le_of_ble_eq_true rfl) dX7_cannotPour_19 (⟨zk_eqr (by unfold zp_pour; rw [if_neg (zb_nl c_4)]), rfl⟩)
  · refine lv_iload_n hx hb dX7_cannotPour_7 rfl (lv_at hl 2 rfl) ?_
    refine lv_iconst (v := nI (1)) hx hb dX7_cannotPour_8 rfl ?_
    refine lv_sipush (v := nI (999)) hx hb dX7_cannotPour_9 (by decide) ?_
    refine zk_callSn fx (cm_in l s0 b (u) (nI (1)) (nI (999))) (lw_S q2339 q2340 q108 q2341) ⟨by decide, by decide, (show (parseMethodDescriptor yX7_in.desc).map (fun d => d.parameters.length) = some 3 by decide +kernel)⟩ ⟨zk_le hR.1 rfl, zk_le hR.2.1 rfl⟩ ⟨zk_le hR.2.2.1 rfl, zk_le hR.2.2.2 rfl⟩ hP hD hS hl.1 rfl (Nat.le_of_ble_eq_true rfl) dX7_cannotPour_12 (fun v_ H locs hq_ hP hD hS => ?_)
    obtain rfl := hq_
    refine zn_st (st2 := [.int (nI (Bool.toNat (zk_in u 1 999)))]) rfl ?_
    refine zb_if_ne (tgt := 20) hx hb dX7_cannotPour_15 (by decide) (fun c_15 => ?_) (fun c_15 => ?_)
    · obtain ⟨i, -, hi, rfl⟩ := zk_in_of c_4 (by decide) (by decide)
      obtain ⟨j, hj1, hj, rfl⟩ := zk_in_of c_15 (by decide) (by decide)
      have hw := okw i (by omega)
      refine lv_aload_n hx hb dX7_cannotPour_20 rfl (lv_at hl 0 rfl) ?_
      refine zm_get (f := f) fx 0 (by decide) q2241 (v := .ref (h 1)) rfl hP dX7_cannotPour_21 ?_
      refine lv_bipush (v := nI (8)) hx hb dX7_cannotPour_24 (by decide) ?_
      refine lv_iload_n hx hb dX7_cannotPour_26 rfl (lv_at hl 1 rfl) ?_
      refine zn_iadd hx hb dX7_cannotPour_27 ?_
      refine zn_ald hx hb hK hP 1 (g := a 0) rfl (i := 8 + i) (by omega) (by decide) dX7_cannotPour_28 ?_
      refine lv_iload_n hx hb dX7_cannotPour_29 rfl (lv_at hl 2 rfl) ?_
      refine zn_iadd hx hb dX7_cannotPour_30 ?_
      refine lv_sipush (v := nI (999)) hx hb dX7_cannotPour_31 (by decide) ?_
      refine zn_icmp_le (tgt := 41) hx hb dX7_cannotPour_34 (by decide) (by omega) (by omega) (fun c_34 => ?_) (fun c_34 => ?_)
      · refine lv_iconst (v := nI (0)) hx hb dX7_cannotPour_41 rfl ?_
        exact zk_reti (v := nI (0)) fx eQ rfl (rfl) hP hD hS (Nat.le_of_ble_eq_true rfl) (Nat.le_of_ble_eq_true rfl) dX7_cannotPour_42 (⟨zk_eqr (by unfold zp_pour; rw [if_pos (by rw [zk_in_nI (by omega) (by decide) (by decide), zk_in_nI (by omega) (by decide) (by decide)]; simp; omega), nI_clamp (by omega), nI_clamp (by omega)]; rw [if_neg (by omega)]), rfl⟩)
      · refine lv_iconst (v := nI (2)) hx hb dX7_cannotPour_37 rfl ?_
        refine lv_goto (tgt := 42) hx hb dX7_cannotPour_38 (by decide) ?_
        exact zk_reti (v := nI (2)) fx eQ rfl (rfl) hP hD hS (Nat.le_of_ble_eq_true rfl) (Nat.le_of_ble_eq_true rfl) dX7_cannotPour_42 (⟨zk_eqr (by unfold zp_pour; rw [if_pos (by rw [zk_in_nI (by omega) (by decide) (by decide), zk_in_nI (by omega) (by decide) (by decide)]; simp; omega), nI_clamp (by omega), nI_clamp (by omega)]; rw [if_pos (by omega)]), rfl⟩)
    · refine lv_iconst (v := nI (1)) hx hb dX7_cannotPour_18 rfl ?_
      exact zk_reti (v := nI (1)) fx eQ rfl (rfl) hP hD hS (Nat.le_of_ble_eq_true rfl) (Nat.le_of_ble_eq_true rfl) dX7_cannotPour_19 (⟨zk_eqr (by unfold zp_pour; rw [if_neg (zb_nr c_15)]), rfl⟩)
set_option maxHeartbeats 4000000 in
set_option maxRecDepth 100000 in
theorem cm_pours (l : Launch) (s0 : State) (b : Nat) (h f : Nat → Nat) (a : Nat → Nat → Nat) (i j : Nat) (hi : i < 10) : zk_C l s0 b yX7_pours (ws_ yX7_pours cX7_pours 3 (some .int)) 0 0 0 0 [.ref (h 0), .int (nI (i)), .int (nI (j))] (zm_W s0 h f a) (fun r w => r = some (.int (nI (a 0 (8 + i) + j))) ∧ w = zm_W s0 h f (va_up a 0 (zp_pours (a 0) i j))) := by
  refine zk_mk (by decide) rfl ?_
  intro p e s m below meth c A R args Q fx hR eQ hP hD hS ls hl
  have hx := fx.1
  have hb := fx.2.1
  have hK := fx.2.2.2.2.2.2.2.2.1.K
  have hl : lv_has ls 3 [(0, .ref (h 0)), (1, .int (nI (i))), (2, .int (nI (j)))] := hl
  refine lv_aload_n hx hb dX7_pours_0 rfl (lv_at hl 0 rfl) ?_
  refine zm_get (f := f) fx 0 (by decide) q2241 (v := .ref (h 1)) rfl hP dX7_pours_1 ?_
  refine lv_bipush (v := nI (8)) hx hb dX7_pours_4 (by decide) ?_
  refine lv_iload_n hx hb dX7_pours_6 rfl (lv_at hl 1 rfl) ?_
  refine zn_iadd hx hb dX7_pours_7 ?_
  refine lv_dup2_11 hx hb dX7_pours_8 rfl rfl ?_
  refine zn_ald hx hb hK hP 1 (g := a 0) rfl (i := 8 + i) (by omega) (by decide) dX7_pours_9 ?_
  refine lv_iload_n hx hb dX7_pours_10 rfl (lv_at hl 2 rfl) ?_
  refine zn_iadd hx hb dX7_pours_11 ?_
  refine zn_ast hx hb hK hP hD hS 1 (n := 72) rfl (i := 8 + i) (x := ((a 0) (8 + i)) + j) (by omega) (by decide) dX7_pours_12 (zm_seta 0 (by decide) 72 rfl (va_up (a 0) (8 + i) (((a 0) (8 + i)) + j))) (fun H locs hP hD hS => ?_)
  obtain ⟨n1, en1⟩ : ∃ z_, z_ = va_up (a 0) (8 + i) (((a 0) (8 + i)) + j) := ⟨_, rfl⟩
  rw [← en1] at hP hD
  refine lv_aload_n hx hb dX7_pours_13 rfl (lv_at hl 0 rfl) ?_
  refine zm_get (f := f) fx 0 (by decide) q2241 (v := .ref (h 1)) rfl hP dX7_pours_14 ?_
  refine lv_bipush (v := nI (6)) hx hb dX7_pours_17 (by decide) ?_
  refine lv_dup2_11 hx hb dX7_pours_19 rfl rfl ?_
  refine zn_ald hx hb hK hP 1 (g := n1) rfl (i := 6) (by omega) (by decide) dX7_pours_20 ?_
  refine lv_iload_n hx hb dX7_pours_21 rfl (lv_at hl 2 rfl) ?_
  refine zn_iadd hx hb dX7_pours_22 ?_
  refine zn_ast hx hb hK hP hD hS 1 (n := 72) rfl (i := 6) (x := (n1 6) + j) (by omega) (by decide) dX7_pours_23 (zm_seta 0 (by decide) 72 rfl (va_up n1 6 ((n1 6) + j))) (fun H locs hP hD hS => ?_)
  obtain ⟨n2, en2⟩ : ∃ z_, z_ = va_up n1 6 ((n1 6) + j) := ⟨_, rfl⟩
  rw [← en2] at hP hD
  refine lv_aload_n hx hb dX7_pours_24 rfl (lv_at hl 0 rfl) ?_
  refine zm_get (f := f) fx 0 (by decide) q2241 (v := .ref (h 1)) rfl hP dX7_pours_25 ?_
  refine lv_bipush (v := nI (8)) hx hb dX7_pours_28 (by decide) ?_
  refine lv_iload_n hx hb dX7_pours_30 rfl (lv_at hl 1 rfl) ?_
  refine zn_iadd hx hb dX7_pours_31 ?_
  refine zn_ald hx hb hK hP 1 (g := n2) rfl (i := 8 + i) (by omega) (by decide) dX7_pours_32 ?_
  exact zk_reti (v := nI (n2 (8 + i))) fx eQ rfl (rfl) hP hD hS (Nat.le_of_ble_eq_true rfl) (Nat.le_of_ble_eq_true rfl) dX7_pours_33 (⟨zk_eqr (by rw [en2, zk_up_ne (by omega), en1, zk_up_eq]), by rw [en2, en1]; rfl⟩)
set_option maxHeartbeats 4000000 in
set_option maxRecDepth 100000 in
theorem cm_addInk (l : Launch) (s0 : State) (b : Nat) (h f : Nat → Nat) (a : Nat → Nat → Nat) (x u : Int32) (ok : zp_Ok (a 0)) (hd0 : f 10 ≤ 8) : zk_C l s0 b yX7_addInk (ws_ yX7_addInk cX7_addInk 4 (some .int)) 3 64 0 0 [.ref (h 0), .int (x), .int (u)] (zm_W s0 h f a) (fun r w => zm_M s0 h f a (zo_addInk (a 0) x u) r w) := by
  refine zk_mk (by decide) rfl ?_
  intro p e s m below meth c A R args Q fx hR eQ hP hD hS ls hl
  have hx := fx.1
  have hb := fx.2.1
  have hK := fx.2.2.2.2.2.2.2.2.1.K
  have hl : lv_has ls 4 [(0, .ref (h 0)), (1, .int (x)), (2, .int (u))] := hl
  have ok9 := id ok
  obtain ⟨ok0, ok1, ok2, ok3, ok4, ok5, ok6, okw, oke, okp⟩ := id ok
  refine lv_aload_n hx hb dX7_addInk_0 rfl (lv_at hl 0 rfl) ?_
  refine zk_callV0 fx (cm_begin l s0 b h f a ) (lw_V q2325 q2327 qs34 q108 q2328) ⟨rfl, by decide, by decide, (show (parseMethodDescriptor yX7_begin.desc).map (fun d => d.parameters.length) = some 0 by decide +kernel)⟩ ⟨zk_le hR.1 rfl, zk_le hR.2.1 rfl⟩ ⟨zk_le hR.2.2.1 rfl, zk_le hR.2.2.2 rfl⟩ hP hD hS 0 rfl rfl 0 rfl hl.1 rfl (Nat.le_of_ble_eq_true rfl) dX7_addInk_1 (fun v_ w_ H locs hq_ hP hD hS => ?_)
  obtain ⟨rfl, rfl⟩ := hq_
  refine zn_st (st2 := []) rfl ?_
  refine lv_aload_n hx hb dX7_addInk_4 rfl (lv_at hl 0 rfl) ?_
  refine lv_iload_n hx hb dX7_addInk_5 rfl (lv_at hl 1 rfl) ?_
  refine lv_iload_n hx hb dX7_addInk_6 rfl (lv_at hl 2 rfl) ?_
  refine zk_callV0 fx (cm_cannotPour l s0 b h (va_up f 9 (0)) (va_up a 1 (zp_cp (a 0) (a 1) 0 0 72)) x u (ok)) (lw_V q2332 q2334 qs35 q108 q2335) ⟨rfl, by decide, by decide, (show (parseMethodDescriptor yX7_cannotPour.desc).map (fun d => d.parameters.length) = some 2 by decide +kernel)⟩ ⟨zk_le hR.1 rfl, zk_le hR.2.1 rfl⟩ ⟨zk_le hR.2.2.1 rfl, zk_le hR.2.2.2 rfl⟩ hP hD hS 0 rfl rfl 0 rfl hl.1 rfl (Nat.le_of_ble_eq_true rfl) dX7_addInk_7 (fun v_ w_ H locs hq_ hP hD hS => ?_)
  obtain ⟨rfl, rfl⟩ := hq_
  refine zn_st (st2 := [.int (nI (zp_pour (a 0) x u))]) rfl ?_
  refine lv_istore_n (lv' := [(3, .int (nI (zp_pour (a 0) x u))), (0, .ref (h 0)), (1, .int (x)), (2, .int (u))]) hx hb dX7_addInk_10 rfl hl (by decide) rfl (fun ls hl => ?_)
  refine lv_iload_n hx hb dX7_addInk_11 rfl (lv_at hl 0 rfl) ?_
  refine zn_if_le (tgt := 23) hx hb dX7_addInk_12 (by decide) (zp_pour_le) (fun c_12 => ?_) (fun c_12 => ?_)
  · have c_0 : zp_pour (a 0) x u = 0 := c_12
    obtain ⟨i, j, hi, hj1, hj, hs, rfl, rfl⟩ := zp_pour_0 c_0
    refine lv_aload_n hx hb dX7_addInk_23 rfl (lv_at hl 1 rfl) ?_
    refine lv_aload_n hx hb dX7_addInk_24 rfl (lv_at hl 1 rfl) ?_
    refine lv_iload_n hx hb dX7_addInk_25 rfl (lv_at hl 2 rfl) ?_
    refine lv_iload_n hx hb dX7_addInk_26 rfl (lv_at hl 3 rfl) ?_
    refine zk_callV0 fx (cm_pours l s0 b h (va_up f 9 (0)) (va_up a 1 (zp_cp (a 0) (a 1) 0 0 72)) i j (by omega)) (lw_V q2346 q2348 qs37 q108 q2349) ⟨rfl, by decide, by decide, (show (parseMethodDescriptor yX7_pours.desc).map (fun d => d.parameters.length) = some 2 by decide +kernel)⟩ ⟨zk_le hR.1 rfl, zk_le hR.2.1 rfl⟩ ⟨zk_le hR.2.2.1 rfl, zk_le hR.2.2.2 rfl⟩ hP hD hS 0 rfl rfl 0 rfl hl.1 rfl (Nat.le_of_ble_eq_true rfl) dX7_addInk_27 (fun v_ w_ H locs hq_ hP hD hS => ?_)
    obtain ⟨rfl, rfl⟩ := hq_
    refine zn_st (st2 := [.int (nI ((a 0) (8 + i) + j)), .ref (h 0)]) rfl ?_
    refine zk_callV0 fx (cm_commit l s0 b h (va_up f 9 (0)) (va_up (va_up a 1 (zp_cp (a 0) (a 1) 0 0 72)) 0 (zp_pours (a 0) i j)) (nI ((a 0) (8 + i) + j)) (hd0)) (lw_V q2350 q2352 qs38 q108 q2353) ⟨rfl, by decide, by decide, (show (parseMethodDescriptor yX7_commit.desc).map (fun d => d.parameters.length) = some 1 by decide +kernel)⟩ ⟨zk_le hR.1 rfl, zk_le hR.2.1 rfl⟩ ⟨zk_le hR.2.2.1 rfl, zk_le hR.2.2.2 rfl⟩ hP hD hS 0 rfl rfl 0 rfl hl.1 rfl (Nat.le_of_ble_eq_true rfl) dX7_addInk_30 (fun v_ w_ H locs hq_ hP hD hS => ?_)
    obtain ⟨rfl, rfl⟩ := hq_
    refine zn_st (st2 := [.int (nI ((a 0) (8 + i) + j))]) rfl ?_
    exact zk_reti (v := nI ((a 0) (8 + i) + j)) fx eQ rfl (rfl) hP hD hS (Nat.le_of_ble_eq_true rfl) (Nat.le_of_ble_eq_true rfl) dX7_addInk_33 (zm_Mc (by rw [zo_addInk, if_pos c_0, nI_clamp (by omega), nI_clamp (by omega)]))
  · refine lv_aload_n hx hb dX7_addInk_15 rfl (lv_at hl 1 rfl) ?_
    refine lv_iload_n hx hb dX7_addInk_16 rfl (lv_at hl 0 rfl) ?_
    refine zk_callV0 fx (cm_fail l s0 b h (va_up f 9 (0)) (va_up a 1 (zp_cp (a 0) (a 1) 0 0 72)) (zp_pour (a 0) x u)) (lw_V q2342 q2344 qs36 q108 q2345) ⟨rfl, by decide, by decide, (show (parseMethodDescriptor yX7_fail.desc).map (fun d => d.parameters.length) = some 1 by decide +kernel)⟩ ⟨zk_le hR.1 rfl, zk_le hR.2.1 rfl⟩ ⟨zk_le hR.2.2.1 rfl, zk_le hR.2.2.2 rfl⟩ hP hD hS 0 rfl rfl 0 rfl hl.1 rfl (Nat.le_of_ble_eq_true rfl) dX7_addInk_17 (fun v_ w_ H locs hq_ hP hD hS => ?_)
    obtain ⟨rfl, rfl⟩ := hq_
    refine zn_st (st2 := [.int (nI (0))]) rfl ?_
    refine lv_goto (tgt := 33) hx hb dX7_addInk_20 (by decide) ?_
    exact zk_reti (v := nI (0)) fx eQ rfl (rfl) hP hD hS (Nat.le_of_ble_eq_true rfl) (Nat.le_of_ble_eq_true rfl) dX7_addInk_33 (zm_Mf (by rw [zo_addInk, if_neg (by omega)]) (by omega))
set_option maxHeartbeats 4000000 in
set_option maxRecDepth 100000 in
theorem cm_cannotBuy (l : Launch) (s0 : State) (b : Nat) (h f : Nat → Nat) (a : Nat → Nat → Nat) (x : Int32) (ok : zp_Ok (a 0)) : zk_C l s0 b yX7_cannotBuy (ws_ yX7_cannotBuy cX7_cannotBuy 2 (some .int)) 1 22 0 0 [.ref (h 0), .int (x)] (zm_W s0 h f a) (fun r w => r = some (.int (nI (zp_buy (a 0) x))) ∧ w = zm_W s0 h f a) := by
  refine zk_mk (by decide) rfl ?_
  intro p e s m below meth c A R args Q fx hR eQ hP hD hS ls hl
  have hx := fx.1
  have hb := fx.2.1
  have hK := fx.2.2.2.2.2.2.2.2.1.K
  have hl : lv_has ls 2 [(0, .ref (h 0)), (1, .int (x))] := hl
  obtain ⟨ok0, ok1, ok2, ok3, ok4, ok5, ok6, okw, oke, okp⟩ := id ok
  refine lv_iload_n hx hb dX7_cannotBuy_0 rfl (lv_at hl 1 rfl) ?_
  refine lv_iconst (v := nI (1)) hx hb dX7_cannotBuy_1 rfl ?_
  refine lv_sipush (v := nI (999)) hx hb dX7_cannotBuy_2 (by decide) ?_
  refine zk_callSn fx (cm_in l s0 b (x) (nI (1)) (nI (999))) (lw_S q2339 q2340 q108 q2341) ⟨by decide, by decide, (show (parseMethodDescriptor yX7_in.desc).map (fun d => d.parameters.length) = some 3 by decide +kernel)⟩ ⟨zk_le hR.1 rfl, zk_le hR.2.1 rfl⟩ ⟨zk_le hR.2.2.1 rfl, zk_le hR.2.2.2 rfl⟩ hP hD hS hl.1 rfl (Nat.le_of_ble_eq_true rfl) dX7_cannotBuy_5 (fun v_ H locs hq_ hP hD hS => ?_)
  obtain rfl := hq_
  refine zn_st (st2 := [.int (nI (Bool.toNat (zk_in x 1 999)))]) rfl ?_
  refine zb_if_ne (tgt := 15) hx hb dX7_cannotBuy_8 (by decide) (fun c_8 => ?_) (fun c_8 => ?_)
  · obtain ⟨i, hi1, hi, rfl⟩ := zk_in_of c_8 (by decide) (by decide)
    refine lv_aload_n hx hb dX7_cannotBuy_15 rfl (lv_at hl 0 rfl) ?_
    refine zm_get (f := f) fx 0 (by decide) q2241 (v := .ref (h 1)) rfl hP dX7_cannotBuy_16 ?_
    refine lv_iconst (v := nI (2)) hx hb dX7_cannotBuy_19 rfl ?_
    refine zn_ald hx hb hK hP 1 (g := a 0) rfl (i := 2) (by omega) (by decide) dX7_cannotBuy_20 ?_
    refine lv_iload_n hx hb dX7_cannotBuy_21 rfl (lv_at hl 1 rfl) ?_
    refine zn_iadd hx hb dX7_cannotBuy_22 ?_
    refine lv_sipush (v := nI (9999)) hx hb dX7_cannotBuy_23 (by decide) ?_
    refine zn_icmp_le (tgt := 33) hx hb dX7_cannotBuy_26 (by decide) (by omega) (by omega) (fun c_26 => ?_) (fun c_26 => ?_)
    · refine lv_iconst (v := nI (0)) hx hb dX7_cannotBuy_33 rfl ?_
      exact zk_reti (v := nI (0)) fx eQ rfl (rfl) hP hD hS (Nat.le_of_ble_eq_true rfl) (Nat.le_of_ble_eq_true rfl) dX7_cannotBuy_34 (⟨zk_eqr (by unfold zp_buy; rw [if_pos c_8, nI_clamp (by omega)]; rw [if_neg (by omega)]), rfl⟩)
    · refine lv_iconst (v := nI (2)) hx hb dX7_cannotBuy_29 rfl ?_
      refine lv_goto (tgt := 34) hx hb dX7_cannotBuy_30 (by decide) ?_
      exact zk_reti (v := nI (2)) fx eQ rfl (rfl) hP hD hS (Nat.le_of_ble_eq_true rfl) (Nat.le_of_ble_eq_true rfl) dX7_cannotBuy_34 (⟨zk_eqr (by unfold zp_buy; rw [if_pos c_8, nI_clamp (by omega)]; rw [if_pos (by omega)]), rfl⟩)
  · refine lv_iconst (v := nI (1)) hx hb dX7_cannotBuy_11 rfl ?_
    refine lv_goto (tgt := 34) hx hb dX7_cannotBuy_12 (by decide) ?_
    exact zk_reti (v := nI (1)) fx eQ rfl (rfl) hP hD hS (Nat.le_of_ble_eq_true rfl) (Nat.le_of_ble_eq_true rfl) dX7_cannotBuy_34 (⟨zk_eqr (by unfold zp_buy; rw [if_neg (by rw [c_8]; decide)]), rfl⟩)
set_option maxHeartbeats 4000000 in
set_option maxRecDepth 100000 in
theorem cm_buys (l : Launch) (s0 : State) (b : Nat) (h f : Nat → Nat) (a : Nat → Nat → Nat) (i : Nat) : zk_C l s0 b yX7_buys (ws_ yX7_buys cX7_buys 2 (some .int)) 0 0 0 0 [.ref (h 0), .int (nI (i))] (zm_W s0 h f a) (fun r w => r = some (.int (nI (a 0 2 + i))) ∧ w = zm_W s0 h f (va_up a 0 (zp_buys (a 0) i))) := by
  refine zk_mk (by decide) rfl ?_
  intro p e s m below meth c A R args Q fx hR eQ hP hD hS ls hl
  have hx := fx.1
  have hb := fx.2.1
  have hK := fx.2.2.2.2.2.2.2.2.1.K
  have hl : lv_has ls 2 [(0, .ref (h 0)), (1, .int (nI (i)))] := hl
  refine lv_aload_n hx hb dX7_buys_0 rfl (lv_at hl 0 rfl) ?_
  refine zm_get (f := f) fx 0 (by decide) q2241 (v := .ref (h 1)) rfl hP dX7_buys_1 ?_
  refine lv_iconst (v := nI (2)) hx hb dX7_buys_4 rfl ?_
  refine lv_dup2_11 hx hb dX7_buys_5 rfl rfl ?_
  refine zn_ald hx hb hK hP 1 (g := a 0) rfl (i := 2) (by omega) (by decide) dX7_buys_6 ?_
  refine lv_iload_n hx hb dX7_buys_7 rfl (lv_at hl 1 rfl) ?_
  refine zn_iadd hx hb dX7_buys_8 ?_
  refine zn_ast hx hb hK hP hD hS 1 (n := 72) rfl (i := 2) (x := ((a 0) 2) + i) (by omega) (by decide) dX7_buys_9 (zm_seta 0 (by decide) 72 rfl (va_up (a 0) 2 (((a 0) 2) + i))) (fun H locs hP hD hS => ?_)
  refine lv_aload_n hx hb dX7_buys_10 rfl (lv_at hl 0 rfl) ?_
  refine zm_get (f := f) fx 0 (by decide) q2241 (v := .ref (h 1)) rfl hP dX7_buys_11 ?_
  refine lv_iconst (v := nI (2)) hx hb dX7_buys_14 rfl ?_
  refine zn_ald hx hb hK hP 1 (g := va_up (a 0) 2 (((a 0) 2) + i)) rfl (i := 2) (by omega) (by decide) dX7_buys_15 ?_
  exact zk_reti (v := nI ((va_up (a 0) 2 (((a 0) 2) + i)) 2)) fx eQ rfl (rfl) hP hD hS (Nat.le_of_ble_eq_true rfl) (Nat.le_of_ble_eq_true rfl) dX7_buys_16 (⟨rfl, rfl⟩)
set_option maxHeartbeats 4000000 in
set_option maxRecDepth 100000 in
theorem cm_addPaper (l : Launch) (s0 : State) (b : Nat) (h f : Nat → Nat) (a : Nat → Nat → Nat) (x : Int32) (ok : zp_Ok (a 0)) (hd0 : f 10 ≤ 8) : zk_C l s0 b yX7_addPaper (ws_ yX7_addPaper cX7_addPaper 3 (some .int)) 2 46 0 0 [.ref (h 0), .int (x)] (zm_W s0 h f a) (fun r w => zm_M s0 h f a (zo_addPaper (a 0) x) r w) := by
  refine zk_mk (by decide) rfl ?_
  intro p e s m below meth c A R args Q fx hR eQ hP hD hS ls hl
  have hx := fx.1
  have hb := fx.2.1
  have hK := fx.2.2.2.2.2.2.2.2.1.K
  have hl : lv_has ls 3 [(0, .ref (h 0)), (1, .int (x))] := hl
  have ok9 := id ok
  obtain ⟨ok0, ok1, ok2, ok3, ok4, ok5, ok6, okw, oke, okp⟩ := id ok
  refine lv_aload_n hx hb dX7_addPaper_0 rfl (lv_at hl 0 rfl) ?_
  refine zk_callV0 fx (cm_begin l s0 b h f a ) (lw_V q2325 q2327 qs34 q108 q2328) ⟨rfl, by decide, by decide, (show (parseMethodDescriptor yX7_begin.desc).map (fun d => d.parameters.length) = some 0 by decide +kernel)⟩ ⟨zk_le hR.1 rfl, zk_le hR.2.1 rfl⟩ ⟨zk_le hR.2.2.1 rfl, zk_le hR.2.2.2 rfl⟩ hP hD hS 0 rfl rfl 0 rfl hl.1 rfl (Nat.le_of_ble_eq_true rfl) dX7_addPaper_1 (fun v_ w_ H locs hq_ hP hD hS => ?_)
  obtain ⟨rfl, rfl⟩ := hq_
  refine zn_st (st2 := []) rfl ?_
  refine lv_aload_n hx hb dX7_addPaper_4 rfl (lv_at hl 0 rfl) ?_
  refine lv_iload_n hx hb dX7_addPaper_5 rfl (lv_at hl 1 rfl) ?_
  refine zk_callV0 fx (cm_cannotBuy l s0 b h (va_up f 9 (0)) (va_up a 1 (zp_cp (a 0) (a 1) 0 0 72)) x (ok)) (lw_V q2358 q2360 qs39 q108 q2361) ⟨rfl, by decide, by decide, (show (parseMethodDescriptor yX7_cannotBuy.desc).map (fun d => d.parameters.length) = some 1 by decide +kernel)⟩ ⟨zk_le hR.1 rfl, zk_le hR.2.1 rfl⟩ ⟨zk_le hR.2.2.1 rfl, zk_le hR.2.2.2 rfl⟩ hP hD hS 0 rfl rfl 0 rfl hl.1 rfl (Nat.le_of_ble_eq_true rfl) dX7_addPaper_6 (fun v_ w_ H locs hq_ hP hD hS => ?_)
  obtain ⟨rfl, rfl⟩ := hq_
  refine zn_st (st2 := [.int (nI (zp_buy (a 0) x))]) rfl ?_
  refine lv_istore_n (lv' := [(2, .int (nI (zp_buy (a 0) x))), (0, .ref (h 0)), (1, .int (x))]) hx hb dX7_addPaper_9 rfl hl (by decide) rfl (fun ls hl => ?_)
  refine lv_iload_n hx hb dX7_addPaper_10 rfl (lv_at hl 0 rfl) ?_
  refine zn_if_le (tgt := 22) hx hb dX7_addPaper_11 (by decide) (zp_buy_le) (fun c_11 => ?_) (fun c_11 => ?_)
  · have c_0 : zp_buy (a 0) x = 0 := c_11
    obtain ⟨i, hi1, hi, hs, rfl⟩ := zp_buy_0 c_0
    refine lv_aload_n hx hb dX7_addPaper_22 rfl (lv_at hl 1 rfl) ?_
    refine lv_aload_n hx hb dX7_addPaper_23 rfl (lv_at hl 1 rfl) ?_
    refine lv_iload_n hx hb dX7_addPaper_24 rfl (lv_at hl 2 rfl) ?_
    refine zk_callV0 fx (cm_buys l s0 b h (va_up f 9 (0)) (va_up a 1 (zp_cp (a 0) (a 1) 0 0 72)) i) (lw_V q2362 q2364 qs40 q108 q2365) ⟨rfl, by decide, by decide, (show (parseMethodDescriptor yX7_buys.desc).map (fun d => d.parameters.length) = some 1 by decide +kernel)⟩ ⟨zk_le hR.1 rfl, zk_le hR.2.1 rfl⟩ ⟨zk_le hR.2.2.1 rfl, zk_le hR.2.2.2 rfl⟩ hP hD hS 0 rfl rfl 0 rfl hl.1 rfl (Nat.le_of_ble_eq_true rfl) dX7_addPaper_25 (fun v_ w_ H locs hq_ hP hD hS => ?_)
    obtain ⟨rfl, rfl⟩ := hq_
    refine zn_st (st2 := [.int (nI ((a 0) 2 + i)), .ref (h 0)]) rfl ?_
    refine zk_callV0 fx (cm_commit l s0 b h (va_up f 9 (0)) (va_up (va_up a 1 (zp_cp (a 0) (a 1) 0 0 72)) 0 (zp_buys (a 0) i)) (nI ((a 0) 2 + i)) (hd0)) (lw_V q2350 q2352 qs38 q108 q2353) ⟨rfl, by decide, by decide, (show (parseMethodDescriptor yX7_commit.desc).map (fun d => d.parameters.length) = some 1 by decide +kernel)⟩ ⟨zk_le hR.1 rfl, zk_le hR.2.1 rfl⟩ ⟨zk_le hR.2.2.1 rfl, zk_le hR.2.2.2 rfl⟩ hP hD hS 0 rfl rfl 0 rfl hl.1 rfl (Nat.le_of_ble_eq_true rfl) dX7_addPaper_28 (fun v_ w_ H locs hq_ hP hD hS => ?_)
    obtain ⟨rfl, rfl⟩ := hq_
    refine zn_st (st2 := [.int (nI ((a 0) 2 + i))]) rfl ?_
    exact zk_reti (v := nI ((a 0) 2 + i)) fx eQ rfl (rfl) hP hD hS (Nat.le_of_ble_eq_true rfl) (Nat.le_of_ble_eq_true rfl) dX7_addPaper_31 (zm_Mc (by rw [zo_addPaper, if_pos c_0, nI_clamp (by omega)]))
  · refine lv_aload_n hx hb dX7_addPaper_14 rfl (lv_at hl 1 rfl) ?_
    refine lv_iload_n hx hb dX7_addPaper_15 rfl (lv_at hl 0 rfl) ?_
    refine zk_callV0 fx (cm_fail l s0 b h (va_up f 9 (0)) (va_up a 1 (zp_cp (a 0) (a 1) 0 0 72)) (zp_buy (a 0) x)) (lw_V q2342 q2344 qs36 q108 q2345) ⟨rfl, by decide, by decide, (show (parseMethodDescriptor yX7_fail.desc).map (fun d => d.parameters.length) = some 1 by decide +kernel)⟩ ⟨zk_le hR.1 rfl, zk_le hR.2.1 rfl⟩ ⟨zk_le hR.2.2.1 rfl, zk_le hR.2.2.2 rfl⟩ hP hD hS 0 rfl rfl 0 rfl hl.1 rfl (Nat.le_of_ble_eq_true rfl) dX7_addPaper_16 (fun v_ w_ H locs hq_ hP hD hS => ?_)
    obtain ⟨rfl, rfl⟩ := hq_
    refine zn_st (st2 := [.int (nI (0))]) rfl ?_
    refine lv_goto (tgt := 31) hx hb dX7_addPaper_19 (by decide) ?_
    exact zk_reti (v := nI (0)) fx eQ rfl (rfl) hP hD hS (Nat.le_of_ble_eq_true rfl) (Nat.le_of_ble_eq_true rfl) dX7_addPaper_31 (zm_Mf (by rw [zo_addPaper, if_neg (by omega)]) (by omega))
set_option maxHeartbeats 4000000 in
set_option maxRecDepth 100000 in
theorem cm_e (l : Launch) (s0 : State) (b : Nat) (h f : Nat → Nat) (a : Nat → Nat → Nat) (i o : Nat) (hi : 20 + 4 * i + o < 72) : zk_C l s0 b yX7_e (ws_ yX7_e cX7_e 3 (some .int)) 0 0 0 0 [.ref (h 0), .int (nI (i)), .int (nI (o))] (zm_W s0 h f a) (fun r w => r = some (.int (nI (a 0 (20 + 4 * i + o)))) ∧ w = zm_W s0 h f a) := by
  refine zk_mk (by decide) rfl ?_
  intro p e s m below meth c A R args Q fx hR eQ hP hD hS ls hl
  have hx := fx.1
  have hb := fx.2.1
  have hK := fx.2.2.2.2.2.2.2.2.1.K
  have hl : lv_has ls 3 [(0, .ref (h 0)), (1, .int (nI (i))), (2, .int (nI (o)))] := hl
  refine lv_aload_n hx hb dX7_e_0 rfl (lv_at hl 0 rfl) ?_
  refine zm_get (f := f) fx 0 (by decide) q2241 (v := .ref (h 1)) rfl hP dX7_e_1 ?_
  refine lv_bipush (v := nI (20)) hx hb dX7_e_4 (by decide) ?_
  refine lv_iconst (v := nI (4)) hx hb dX7_e_6 rfl ?_
  refine lv_iload_n hx hb dX7_e_7 rfl (lv_at hl 1 rfl) ?_
  refine zn_imul hx hb dX7_e_8 ?_
  refine zn_iadd hx hb dX7_e_9 ?_
  refine lv_iload_n hx hb dX7_e_10 rfl (lv_at hl 2 rfl) ?_
  refine zn_iadd hx hb dX7_e_11 ?_
  refine zn_ald hx hb hK hP 1 (g := a 0) rfl (i := (20 + (4 * i)) + o) (by omega) (by decide) dX7_e_12 ?_
  exact zk_reti (v := nI ((a 0) ((20 + (4 * i)) + o))) fx eQ rfl (rfl) hP hD hS (Nat.le_of_ble_eq_true rfl) (Nat.le_of_ble_eq_true rfl) dX7_e_13 (⟨rfl, rfl⟩)
set_option maxHeartbeats 4000000 in
set_option maxRecDepth 100000 in
theorem cm_isEdition (l : Launch) (s0 : State) (b : Nat) (h f : Nat → Nat) (a : Nat → Nat → Nat) (x : Int32) (h7 : a 0 0 ≤ 7) : zk_C l s0 b yX7_isEdition (ws_ yX7_isEdition cX7_isEdition 2 (some .boolean)) 1 22 0 0 [.ref (h 0), .int (x)] (zm_W s0 h f a) (fun r w => r = some (.int (nI (Bool.toNat (zk_ix x (a 0 0))))) ∧ w = zm_W s0 h f a) := by
  refine zk_mk (by decide) rfl ?_
  intro p e s m below meth c A R args Q fx hR eQ hP hD hS ls hl
  have hx := fx.1
  have hb := fx.2.1
  have hK := fx.2.2.2.2.2.2.2.2.1.K
  have hl : lv_has ls 2 [(0, .ref (h 0)), (1, .int (x))] := hl
  refine lv_iload_n hx hb dX7_isEdition_0 rfl (lv_at hl 1 rfl) ?_
  refine lv_iconst (v := nI (0)) hx hb dX7_isEdition_1 rfl ?_
  refine lv_aload_n hx hb dX7_isEdition_2 rfl (lv_at hl 0 rfl) ?_
  refine zm_get (f := f) fx 0 (by decide) q2241 (v := .ref (h 1)) rfl hP dX7_isEdition_3 ?_
  refine lv_iconst (v := nI (0)) hx hb dX7_isEdition_6 rfl ?_
  refine zn_ald hx hb hK hP 1 (g := a 0) rfl (i := 0) (by omega) (by decide) dX7_isEdition_7 ?_
  refine lv_iconst (v := nI (1)) hx hb dX7_isEdition_8 rfl ?_
  refine lv_isub hx hb dX7_isEdition_9 ?_
  refine zk_callSn fx (cm_in l s0 b (x) (nI (0)) ((nI ((a 0) 0)) - (nI (1)))) (lw_S q2339 q2340 q108 q2341) ⟨by decide, by decide, (show (parseMethodDescriptor yX7_in.desc).map (fun d => d.parameters.length) = some 3 by decide +kernel)⟩ ⟨zk_le hR.1 rfl, zk_le hR.2.1 rfl⟩ ⟨zk_le hR.2.2.1 rfl, zk_le hR.2.2.2 rfl⟩ hP hD hS hl.1 rfl (Nat.le_of_ble_eq_true rfl) dX7_isEdition_10 (fun v_ H locs hq_ hP hD hS => ?_)
  obtain rfl := hq_
  refine zn_st (st2 := [.int (nI (Bool.toNat (decide (nI (0) ≤ x ∧ x ≤ (nI ((a 0) 0)) - (nI (1))))))]) rfl ?_
  exact zk_reti (v := nI (Bool.toNat (decide (nI (0) ≤ x ∧ x ≤ (nI ((a 0) 0)) - (nI (1)))))) fx eQ rfl (zb_nar _) hP hD hS (Nat.le_of_ble_eq_true rfl) (Nat.le_of_ble_eq_true rfl) dX7_isEdition_13 (⟨by rw [← zk_ix_in (by omega)], rfl⟩)
set_option maxHeartbeats 4000000 in
set_option maxRecDepth 100000 in
theorem cm_missing (l : Launch) (s0 : State) (b : Nat) (h f : Nat → Nat) (a : Nat → Nat → Nat) (i : Nat) (hi : i < a 0 0) (ok : zp_Ok (a 0)) : zk_C l s0 b yX7_missing (ws_ yX7_missing cX7_missing 2 (some .int)) 1 22 0 0 [.ref (h 0), .int (nI (i))] (zm_W s0 h f a) (fun r w => r = some (.int (nI (zp_miss (a 0) i))) ∧ w = zm_W s0 h f a) := by
  refine zk_mk (by decide) rfl ?_
  intro p e s m below meth c A R args Q fx hR eQ hP hD hS ls hl
  have hx := fx.1
  have hb := fx.2.1
  have hK := fx.2.2.2.2.2.2.2.2.1.K
  have hl : lv_has ls 2 [(0, .ref (h 0)), (1, .int (nI (i)))] := hl
  obtain ⟨ok0, ok1, ok2, ok3, ok4, ok5, ok6, okw, oke, okp⟩ := id ok
  have h1 := oke i hi
  refine lv_aload_n hx hb dX7_missing_0 rfl (lv_at hl 0 rfl) ?_
  refine lv_iload_n hx hb dX7_missing_1 rfl (lv_at hl 1 rfl) ?_
  refine lv_iconst (v := nI (1)) hx hb dX7_missing_2 rfl ?_
  refine zk_callV0 fx (cm_e l s0 b h f a i 1 (by omega)) (lw_V q2450 q2452 qs52 q108 q2453) ⟨rfl, by decide, by decide, (show (parseMethodDescriptor yX7_e.desc).map (fun d => d.parameters.length) = some 2 by decide +kernel)⟩ ⟨zk_le hR.1 rfl, zk_le hR.2.1 rfl⟩ ⟨zk_le hR.2.2.1 rfl, zk_le hR.2.2.2 rfl⟩ hP hD hS 0 rfl rfl 0 rfl hl.1 rfl (Nat.le_of_ble_eq_true rfl) dX7_missing_3 (fun v_ w_ H locs hq_ hP hD hS => ?_)
  obtain ⟨rfl, rfl⟩ := hq_
  refine zn_st (st2 := [.int (nI ((a 0) (20 + 4 * i + 1)))]) rfl ?_
  refine lv_aload_n hx hb dX7_missing_6 rfl (lv_at hl 0 rfl) ?_
  refine lv_iload_n hx hb dX7_missing_7 rfl (lv_at hl 1 rfl) ?_
  refine lv_iconst (v := nI (2)) hx hb dX7_missing_8 rfl ?_
  refine zk_callV0 fx (cm_e l s0 b h f a i 2 (by omega)) (lw_V q2450 q2452 qs52 q108 q2453) ⟨rfl, by decide, by decide, (show (parseMethodDescriptor yX7_e.desc).map (fun d => d.parameters.length) = some 2 by decide +kernel)⟩ ⟨zk_le hR.1 rfl, zk_le hR.2.1 rfl⟩ ⟨zk_le hR.2.2.1 rfl, zk_le hR.2.2.2 rfl⟩ hP hD hS 0 rfl rfl 0 rfl hl.1 rfl (Nat.le_of_ble_eq_true rfl) dX7_missing_9 (fun v_ w_ H locs hq_ hP hD hS => ?_)
  obtain ⟨rfl, rfl⟩ := hq_
  refine zn_st (st2 := [.int (nI ((a 0) (20 + 4 * i + 2))), .int (nI ((a 0) (20 + 4 * i + 1)))]) rfl ?_
  refine zn_isub hx hb dX7_missing_12 (by omega) ?_
  exact zk_reti (v := nI (((a 0) (20 + 4 * i + 1)) - ((a 0) (20 + 4 * i + 2)))) fx eQ rfl (rfl) hP hD hS (Nat.le_of_ble_eq_true rfl) (Nat.le_of_ble_eq_true rfl) dX7_missing_13 (⟨rfl, rfl⟩)
set_option maxHeartbeats 4000000 in
set_option maxRecDepth 100000 in
theorem cm_cannotAdd (l : Launch) (s0 : State) (b : Nat) (h f : Nat → Nat) (a : Nat → Nat → Nat) (x u : Int32) (ok : zp_Ok (a 0)) : zk_C l s0 b yX7_cannotAdd (ws_ yX7_cannotAdd cX7_cannotAdd 3 (some .int)) 2 42 0 0 [.ref (h 0), .int (x), .int (u)] (zm_W s0 h f a) (fun r w => r = some (.int (nI (zp_add (a 0) x u))) ∧ w = zm_W s0 h f a) := by
  refine zk_mk (by decide) rfl ?_
  intro p e s m below meth c A R args Q fx hR eQ hP hD hS ls hl
  have hx := fx.1
  have hb := fx.2.1
  have hK := fx.2.2.2.2.2.2.2.2.1.K
  have hl : lv_has ls 3 [(0, .ref (h 0)), (1, .int (x)), (2, .int (u))] := hl
  obtain ⟨ok0, ok1, ok2, ok3, ok4, ok5, ok6, okw, oke, okp⟩ := id ok
  refine lv_iload_n hx hb dX7_cannotAdd_0 rfl (lv_at hl 1 rfl) ?_
  refine zk_callSn fx (cm_isColour l s0 b (x)) (lw_S q2336 q2337 q108 q2338) ⟨by decide, by decide, (show (parseMethodDescriptor yX7_isColour.desc).map (fun d => d.parameters.length) = some 1 by decide +kernel)⟩ ⟨zk_le hR.1 rfl, zk_le hR.2.1 rfl⟩ ⟨zk_le hR.2.2.1 rfl, zk_le hR.2.2.2 rfl⟩ hP hD hS hl.1 rfl (Nat.le_of_ble_eq_true rfl) dX7_cannotAdd_1 (fun v_ H locs hq_ hP hD hS => ?_)
  obtain rfl := hq_
  refine zn_st (st2 := [.int (nI (Bool.toNat (zk_in x 0 9)))]) rfl ?_
  refine zb_if_eq (tgt := 17) hx hb dX7_cannotAdd_4 (by decide) (fun c_4 => ?_) (fun c_4 => ?_)
  · refine lv_iconst (v := nI (1)) hx hb dX7_cannotAdd_17 rfl ?_
    refine lv_goto (tgt := 37) hx hb dX7_cannotAdd_18 (by decide) ?_
    exact zk_reti (v := nI (1)) fx eQ rfl (rfl) hP hD hS (Nat.le_of_ble_eq_true rfl) (Nat.le_of_ble_eq_true rfl) dX7_cannotAdd_37 (⟨zk_eqr (by unfold zp_add; rw [if_neg (zb_nl c_4)]), rfl⟩)
  · refine lv_iload_n hx hb dX7_cannotAdd_7 rfl (lv_at hl 2 rfl) ?_
    refine lv_iconst (v := nI (1)) hx hb dX7_cannotAdd_8 rfl ?_
    refine lv_bipush (v := nI (50)) hx hb dX7_cannotAdd_9 (by decide) ?_
    refine zk_callSn fx (cm_in l s0 b (u) (nI (1)) (nI (50))) (lw_S q2339 q2340 q108 q2341) ⟨by decide, by decide, (show (parseMethodDescriptor yX7_in.desc).map (fun d => d.parameters.length) = some 3 by decide +kernel)⟩ ⟨zk_le hR.1 rfl, zk_le hR.2.1 rfl⟩ ⟨zk_le hR.2.2.1 rfl, zk_le hR.2.2.2 rfl⟩ hP hD hS hl.1 rfl (Nat.le_of_ble_eq_true rfl) dX7_cannotAdd_11 (fun v_ H locs hq_ hP hD hS => ?_)
    obtain rfl := hq_
    refine zn_st (st2 := [.int (nI (Bool.toNat (zk_in u 1 50)))]) rfl ?_
    refine zb_if_ne (tgt := 21) hx hb dX7_cannotAdd_14 (by decide) (fun c_14 => ?_) (fun c_14 => ?_)
    · refine lv_aload_n hx hb dX7_cannotAdd_21 rfl (lv_at hl 0 rfl) ?_
      refine zm_get (f := f) fx 0 (by decide) q2241 (v := .ref (h 1)) rfl hP dX7_cannotAdd_22 ?_
      refine lv_iconst (v := nI (0)) hx hb dX7_cannotAdd_25 rfl ?_
      refine zn_ald hx hb hK hP 1 (g := a 0) rfl (i := 0) (by omega) (by decide) dX7_cannotAdd_26 ?_
      refine lv_bipush (v := nI (7)) hx hb dX7_cannotAdd_27 (by decide) ?_
      refine zn_icmp_ne (tgt := 36) hx hb dX7_cannotAdd_29 (by decide) (by omega) (by omega) (fun c_29 => ?_) (fun c_29 => ?_)
      · refine lv_iconst (v := nI (0)) hx hb dX7_cannotAdd_36 rfl ?_
        exact zk_reti (v := nI (0)) fx eQ rfl (rfl) hP hD hS (Nat.le_of_ble_eq_true rfl) (Nat.le_of_ble_eq_true rfl) dX7_cannotAdd_37 (⟨zk_eqr (by unfold zp_add; rw [if_pos (by rw [c_4, c_14]; rfl)]; rw [if_neg c_29]), rfl⟩)
      · refine lv_iconst (v := nI (2)) hx hb dX7_cannotAdd_32 rfl ?_
        refine lv_goto (tgt := 37) hx hb dX7_cannotAdd_33 (by decide) ?_
        exact zk_reti (v := nI (2)) fx eQ rfl (rfl) hP hD hS (Nat.le_of_ble_eq_true rfl) (Nat.le_of_ble_eq_true rfl) dX7_cannotAdd_37 (⟨zk_eqr (by unfold zp_add; rw [if_pos (by rw [c_4, c_14]; rfl)]; rw [if_pos c_29]), rfl⟩)
    · refine lv_iconst (v := nI (1)) hx hb dX7_cannotAdd_17 rfl ?_
      refine lv_goto (tgt := 37) hx hb dX7_cannotAdd_18 (by decide) ?_
      exact zk_reti (v := nI (1)) fx eQ rfl (rfl) hP hD hS (Nat.le_of_ble_eq_true rfl) (Nat.le_of_ble_eq_true rfl) dX7_cannotAdd_37 (⟨zk_eqr (by unfold zp_add; rw [if_neg (zb_nr c_14)]), rfl⟩)
set_option maxHeartbeats 4000000 in
set_option maxRecDepth 100000 in
theorem cm_adds (l : Launch) (s0 : State) (b : Nat) (h f : Nat → Nat) (a : Nat → Nat → Nat) (i j : Nat) (h7 : a 0 0 < 7) : zk_C l s0 b yX7_adds (ws_ yX7_adds cX7_adds 4 (some .int)) 0 0 0 0 [.ref (h 0), .int (nI (i)), .int (nI (j))] (zm_W s0 h f a) (fun r w => r = some (.int (nI (a 0 0))) ∧ w = zm_W s0 h f (va_up a 0 (zp_adds (a 0) i j))) := by
  refine zk_mk (by decide) rfl ?_
  intro p e s m below meth c A R args Q fx hR eQ hP hD hS ls hl
  have hx := fx.1
  have hb := fx.2.1
  have hK := fx.2.2.2.2.2.2.2.2.1.K
  have hl : lv_has ls 4 [(0, .ref (h 0)), (1, .int (nI (i))), (2, .int (nI (j)))] := hl
  refine lv_bipush (v := nI (20)) hx hb dX7_adds_0 (by decide) ?_
  refine lv_iconst (v := nI (4)) hx hb dX7_adds_2 rfl ?_
  refine lv_aload_n hx hb dX7_adds_3 rfl (lv_at hl 0 rfl) ?_
  refine zm_get (f := f) fx 0 (by decide) q2241 (v := .ref (h 1)) rfl hP dX7_adds_4 ?_
  refine lv_iconst (v := nI (0)) hx hb dX7_adds_7 rfl ?_
  refine zn_ald hx hb hK hP 1 (g := a 0) rfl (i := 0) (by omega) (by decide) dX7_adds_8 ?_
  refine zn_imul hx hb dX7_adds_9 ?_
  refine zn_iadd hx hb dX7_adds_10 ?_
  refine lv_istore_n (lv' := [(3, .int (nI (20 + (4 * ((a 0) 0))))), (0, .ref (h 0)), (1, .int (nI (i))), (2, .int (nI (j)))]) hx hb dX7_adds_11 rfl hl (by decide) rfl (fun ls hl => ?_)
  refine lv_aload_n hx hb dX7_adds_12 rfl (lv_at hl 1 rfl) ?_
  refine zm_get (f := f) fx 0 (by decide) q2241 (v := .ref (h 1)) rfl hP dX7_adds_13 ?_
  refine lv_iload_n hx hb dX7_adds_16 rfl (lv_at hl 0 rfl) ?_
  refine lv_iconst (v := nI (0)) hx hb dX7_adds_17 rfl ?_
  refine zn_iadd hx hb dX7_adds_18 ?_
  refine lv_iload_n hx hb dX7_adds_19 rfl (lv_at hl 2 rfl) ?_
  refine zn_ast hx hb hK hP hD hS 1 (n := 72) rfl (i := (20 + (4 * ((a 0) 0))) + 0) (x := i) (by omega) (by decide) dX7_adds_20 (zm_seta 0 (by decide) 72 rfl (va_up (a 0) ((20 + (4 * ((a 0) 0))) + 0) i)) (fun H locs hP hD hS => ?_)
  obtain ⟨n1, en1⟩ : ∃ z_, z_ = va_up (a 0) ((20 + (4 * ((a 0) 0))) + 0) i := ⟨_, rfl⟩
  rw [← en1] at hP hD
  refine lv_aload_n hx hb dX7_adds_21 rfl (lv_at hl 1 rfl) ?_
  refine zm_get (f := f) fx 0 (by decide) q2241 (v := .ref (h 1)) rfl hP dX7_adds_22 ?_
  refine lv_iload_n hx hb dX7_adds_25 rfl (lv_at hl 0 rfl) ?_
  refine lv_iconst (v := nI (1)) hx hb dX7_adds_26 rfl ?_
  refine zn_iadd hx hb dX7_adds_27 ?_
  refine lv_iload_n hx hb dX7_adds_28 rfl (lv_at hl 3 rfl) ?_
  refine zn_ast hx hb hK hP hD hS 1 (n := 72) rfl (i := (20 + (4 * ((a 0) 0))) + 1) (x := j) (by omega) (by decide) dX7_adds_29 (zm_seta 0 (by decide) 72 rfl (va_up n1 ((20 + (4 * ((a 0) 0))) + 1) j)) (fun H locs hP hD hS => ?_)
  obtain ⟨n2, en2⟩ : ∃ z_, z_ = va_up n1 ((20 + (4 * ((a 0) 0))) + 1) j := ⟨_, rfl⟩
  rw [← en2] at hP hD
  refine lv_aload_n hx hb dX7_adds_30 rfl (lv_at hl 1 rfl) ?_
  refine zm_get (f := f) fx 0 (by decide) q2241 (v := .ref (h 1)) rfl hP dX7_adds_31 ?_
  refine lv_iload_n hx hb dX7_adds_34 rfl (lv_at hl 0 rfl) ?_
  refine lv_iconst (v := nI (2)) hx hb dX7_adds_35 rfl ?_
  refine zn_iadd hx hb dX7_adds_36 ?_
  refine lv_iconst (v := nI (0)) hx hb dX7_adds_37 rfl ?_
  refine zn_ast hx hb hK hP hD hS 1 (n := 72) rfl (i := (20 + (4 * ((a 0) 0))) + 2) (x := 0) (by omega) (by decide) dX7_adds_38 (zm_seta 0 (by decide) 72 rfl (va_up n2 ((20 + (4 * ((a 0) 0))) + 2) 0)) (fun H locs hP hD hS => ?_)
  obtain ⟨n3, en3⟩ : ∃ z_, z_ = va_up n2 ((20 + (4 * ((a 0) 0))) + 2) 0 := ⟨_, rfl⟩
  rw [← en3] at hP hD
  refine lv_aload_n hx hb dX7_adds_39 rfl (lv_at hl 1 rfl) ?_
  refine zm_get (f := f) fx 0 (by decide) q2241 (v := .ref (h 1)) rfl hP dX7_adds_40 ?_
  refine lv_iconst (v := nI (0)) hx hb dX7_adds_43 rfl ?_
  refine lv_dup2_11 hx hb dX7_adds_44 rfl rfl ?_
  refine zn_ald hx hb hK hP 1 (g := n3) rfl (i := 0) (by omega) (by decide) dX7_adds_45 ?_
  refine lv_iconst (v := nI (1)) hx hb dX7_adds_46 rfl ?_
  refine zn_iadd hx hb dX7_adds_47 ?_
  refine zn_ast hx hb hK hP hD hS 1 (n := 72) rfl (i := 0) (x := (n3 0) + 1) (by omega) (by decide) dX7_adds_48 (zm_seta 0 (by decide) 72 rfl (va_up n3 0 ((n3 0) + 1))) (fun H locs hP hD hS => ?_)
  obtain ⟨n4, en4⟩ : ∃ z_, z_ = va_up n3 0 ((n3 0) + 1) := ⟨_, rfl⟩
  rw [← en4] at hP hD
  refine lv_aload_n hx hb dX7_adds_49 rfl (lv_at hl 1 rfl) ?_
  refine zm_get (f := f) fx 0 (by decide) q2241 (v := .ref (h 1)) rfl hP dX7_adds_50 ?_
  refine lv_iconst (v := nI (0)) hx hb dX7_adds_53 rfl ?_
  refine zn_ald hx hb hK hP 1 (g := n4) rfl (i := 0) (by omega) (by decide) dX7_adds_54 ?_
  refine lv_iconst (v := nI (1)) hx hb dX7_adds_55 rfl ?_
  refine zn_isub hx hb dX7_adds_56 (by rw [en4, zk_up_eq]; omega) ?_
  exact zk_reti (v := nI ((n4 0) - 1)) fx eQ rfl (rfl) hP hD hS (Nat.le_of_ble_eq_true rfl) (Nat.le_of_ble_eq_true rfl) dX7_adds_57 (⟨zk_eqr (by rw [en4, zk_up_eq, en3, zk_up_ne (by omega), en2, zk_up_ne (by omega), en1, zk_up_ne (by omega)]; omega), by rw [en4, en3, en2, en1, zk_up_ne (k := 20 + 4 * a 0 0 + 2) (by omega), zk_up_ne (k := 20 + 4 * a 0 0 + 1) (by omega), zk_up_ne (k := 20 + 4 * a 0 0 + 0) (by omega)]; rfl⟩)
set_option maxHeartbeats 4000000 in
set_option maxRecDepth 100000 in
theorem cm_addEdition (l : Launch) (s0 : State) (b : Nat) (h f : Nat → Nat) (a : Nat → Nat → Nat) (x u : Int32) (ok : zp_Ok (a 0)) (hd0 : f 10 ≤ 8) : zk_C l s0 b yX7_addEdition (ws_ yX7_addEdition cX7_addEdition 4 (some .int)) 3 64 0 0 [.ref (h 0), .int (x), .int (u)] (zm_W s0 h f a) (fun r w => zm_M s0 h f a (zo_addEdition (a 0) x u) r w) := by
  refine zk_mk (by decide) rfl ?_
  intro p e s m below meth c A R args Q fx hR eQ hP hD hS ls hl
  have hx := fx.1
  have hb := fx.2.1
  have hK := fx.2.2.2.2.2.2.2.2.1.K
  have hl : lv_has ls 4 [(0, .ref (h 0)), (1, .int (x)), (2, .int (u))] := hl
  have ok9 := id ok
  obtain ⟨ok0, ok1, ok2, ok3, ok4, ok5, ok6, okw, oke, okp⟩ := id ok
  refine lv_aload_n hx hb dX7_addEdition_0 rfl (lv_at hl 0 rfl) ?_
  refine zk_callV0 fx (cm_begin l s0 b h f a ) (lw_V q2325 q2327 qs34 q108 q2328) ⟨rfl, by decide, by decide, (show (parseMethodDescriptor yX7_begin.desc).map (fun d => d.parameters.length) = some 0 by decide +kernel)⟩ ⟨zk_le hR.1 rfl, zk_le hR.2.1 rfl⟩ ⟨zk_le hR.2.2.1 rfl, zk_le hR.2.2.2 rfl⟩ hP hD hS 0 rfl rfl 0 rfl hl.1 rfl (Nat.le_of_ble_eq_true rfl) dX7_addEdition_1 (fun v_ w_ H locs hq_ hP hD hS => ?_)
  obtain ⟨rfl, rfl⟩ := hq_
  refine zn_st (st2 := []) rfl ?_
  refine lv_aload_n hx hb dX7_addEdition_4 rfl (lv_at hl 0 rfl) ?_
  refine lv_iload_n hx hb dX7_addEdition_5 rfl (lv_at hl 1 rfl) ?_
  refine lv_iload_n hx hb dX7_addEdition_6 rfl (lv_at hl 2 rfl) ?_
  refine zk_callV0 fx (cm_cannotAdd l s0 b h (va_up f 9 (0)) (va_up a 1 (zp_cp (a 0) (a 1) 0 0 72)) x u (ok)) (lw_V q2418 q2420 qs46 q108 q2421) ⟨rfl, by decide, by decide, (show (parseMethodDescriptor yX7_cannotAdd.desc).map (fun d => d.parameters.length) = some 2 by decide +kernel)⟩ ⟨zk_le hR.1 rfl, zk_le hR.2.1 rfl⟩ ⟨zk_le hR.2.2.1 rfl, zk_le hR.2.2.2 rfl⟩ hP hD hS 0 rfl rfl 0 rfl hl.1 rfl (Nat.le_of_ble_eq_true rfl) dX7_addEdition_7 (fun v_ w_ H locs hq_ hP hD hS => ?_)
  obtain ⟨rfl, rfl⟩ := hq_
  refine zn_st (st2 := [.int (nI (zp_add (a 0) x u))]) rfl ?_
  refine lv_istore_n (lv' := [(3, .int (nI (zp_add (a 0) x u))), (0, .ref (h 0)), (1, .int (x)), (2, .int (u))]) hx hb dX7_addEdition_10 rfl hl (by decide) rfl (fun ls hl => ?_)
  refine lv_iload_n hx hb dX7_addEdition_11 rfl (lv_at hl 0 rfl) ?_
  refine zn_if_le (tgt := 23) hx hb dX7_addEdition_12 (by decide) (zp_add_le) (fun c_12 => ?_) (fun c_12 => ?_)
  · have c_0 : zp_add (a 0) x u = 0 := c_12
    obtain ⟨i, j, hi, hj1, hj, hs, rfl, rfl⟩ := zp_add_0 c_0
    refine lv_aload_n hx hb dX7_addEdition_23 rfl (lv_at hl 1 rfl) ?_
    refine lv_aload_n hx hb dX7_addEdition_24 rfl (lv_at hl 1 rfl) ?_
    refine lv_iload_n hx hb dX7_addEdition_25 rfl (lv_at hl 2 rfl) ?_
    refine lv_iload_n hx hb dX7_addEdition_26 rfl (lv_at hl 3 rfl) ?_
    refine zk_callV0 fx (cm_adds l s0 b h (va_up f 9 (0)) (va_up a 1 (zp_cp (a 0) (a 1) 0 0 72)) i j (show (a 0) 0 < 7 by omega)) (lw_V q2422 q2424 qs47 q108 q2425) ⟨rfl, by decide, by decide, (show (parseMethodDescriptor yX7_adds.desc).map (fun d => d.parameters.length) = some 2 by decide +kernel)⟩ ⟨zk_le hR.1 rfl, zk_le hR.2.1 rfl⟩ ⟨zk_le hR.2.2.1 rfl, zk_le hR.2.2.2 rfl⟩ hP hD hS 0 rfl rfl 0 rfl hl.1 rfl (Nat.le_of_ble_eq_true rfl) dX7_addEdition_27 (fun v_ w_ H locs hq_ hP hD hS => ?_)
    obtain ⟨rfl, rfl⟩ := hq_
    refine zn_st (st2 := [.int (nI ((a 0) 0)), .ref (h 0)]) rfl ?_
    refine zk_callV0 fx (cm_commit l s0 b h (va_up f 9 (0)) (va_up (va_up a 1 (zp_cp (a 0) (a 1) 0 0 72)) 0 (zp_adds (a 0) i j)) (nI ((a 0) 0)) (hd0)) (lw_V q2350 q2352 qs38 q108 q2353) ⟨rfl, by decide, by decide, (show (parseMethodDescriptor yX7_commit.desc).map (fun d => d.parameters.length) = some 1 by decide +kernel)⟩ ⟨zk_le hR.1 rfl, zk_le hR.2.1 rfl⟩ ⟨zk_le hR.2.2.1 rfl, zk_le hR.2.2.2 rfl⟩ hP hD hS 0 rfl rfl 0 rfl hl.1 rfl (Nat.le_of_ble_eq_true rfl) dX7_addEdition_30 (fun v_ w_ H locs hq_ hP hD hS => ?_)
    obtain ⟨rfl, rfl⟩ := hq_
    refine zn_st (st2 := [.int (nI ((a 0) 0))]) rfl ?_
    exact zk_reti (v := nI ((a 0) 0)) fx eQ rfl (rfl) hP hD hS (Nat.le_of_ble_eq_true rfl) (Nat.le_of_ble_eq_true rfl) dX7_addEdition_33 (zm_Mc (by rw [zo_addEdition, if_pos c_0, nI_clamp (by omega), nI_clamp (by omega)]))
  · refine lv_aload_n hx hb dX7_addEdition_15 rfl (lv_at hl 1 rfl) ?_
    refine lv_iload_n hx hb dX7_addEdition_16 rfl (lv_at hl 0 rfl) ?_
    refine zk_callV0 fx (cm_fail l s0 b h (va_up f 9 (0)) (va_up a 1 (zp_cp (a 0) (a 1) 0 0 72)) (zp_add (a 0) x u)) (lw_V q2342 q2344 qs36 q108 q2345) ⟨rfl, by decide, by decide, (show (parseMethodDescriptor yX7_fail.desc).map (fun d => d.parameters.length) = some 1 by decide +kernel)⟩ ⟨zk_le hR.1 rfl, zk_le hR.2.1 rfl⟩ ⟨zk_le hR.2.2.1 rfl, zk_le hR.2.2.2 rfl⟩ hP hD hS 0 rfl rfl 0 rfl hl.1 rfl (Nat.le_of_ble_eq_true rfl) dX7_addEdition_17 (fun v_ w_ H locs hq_ hP hD hS => ?_)
    obtain ⟨rfl, rfl⟩ := hq_
    refine zn_st (st2 := [.int (nI (0))]) rfl ?_
    refine lv_goto (tgt := 33) hx hb dX7_addEdition_20 (by decide) ?_
    exact zk_reti (v := nI (0)) fx eQ rfl (rfl) hP hD hS (Nat.le_of_ble_eq_true rfl) (Nat.le_of_ble_eq_true rfl) dX7_addEdition_33 (zm_Mf (by rw [zo_addEdition, if_neg (by omega)]) (by omega))
set_option maxHeartbeats 4000000 in
set_option maxRecDepth 100000 in
theorem cm_removes (l : Launch) (s0 : State) (b : Nat) (h f : Nat → Nat) (a : Nat → Nat → Nat) (i : Nat) (hi : i < a 0 0) (hm : a 0 0 ≤ 7) : zk_C l s0 b yX7_removes (ws_ yX7_removes cX7_removes 3 (some .int)) 0 0 0 0 [.ref (h 0), .int (nI (i))] (zm_W s0 h f a) (fun r w => r = some (.int (nI (a 0 0 - 1))) ∧ w = zm_W s0 h f (va_up a 0 (zp_rem (a 0) i))) := by
  refine zk_mk (by decide) rfl ?_
  intro p e s m below meth c A R args Q fx hR eQ hP hD hS ls hl
  have hx := fx.1
  have hb := fx.2.1
  have hK := fx.2.2.2.2.2.2.2.2.1.K
  have hl : lv_has ls 3 [(0, .ref (h 0)), (1, .int (nI (i)))] := hl
  refine lv_aload_n hx hb dX7_removes_0 rfl (lv_at hl 0 rfl) ?_
  refine zm_get (f := f) fx 0 (by decide) q2241 (v := .ref (h 1)) rfl hP dX7_removes_1 ?_
  refine lv_iconst (v := nI (0)) hx hb dX7_removes_4 rfl ?_
  refine lv_dup2_11 hx hb dX7_removes_5 rfl rfl ?_
  refine zn_ald hx hb hK hP 1 (g := a 0) rfl (i := 0) (by omega) (by decide) dX7_removes_6 ?_
  refine lv_iconst (v := nI (1)) hx hb dX7_removes_7 rfl ?_
  refine zn_isub hx hb dX7_removes_8 (by omega) ?_
  refine zn_ast hx hb hK hP hD hS 1 (n := 72) rfl (i := 0) (x := ((a 0) 0) - 1) (by omega) (by decide) dX7_removes_9 (zm_seta 0 (by decide) 72 rfl (va_up (a 0) 0 (((a 0) 0) - 1))) (fun H locs hP hD hS => ?_)
  refine lv_bipush (v := nI (20)) hx hb dX7_removes_10 (by decide) ?_
  refine lv_iconst (v := nI (4)) hx hb dX7_removes_12 rfl ?_
  refine lv_iload_n hx hb dX7_removes_13 rfl (lv_at hl 1 rfl) ?_
  refine zn_imul hx hb dX7_removes_14 ?_
  refine zn_iadd hx hb dX7_removes_15 ?_
  refine lv_istore_n (lv' := [(2, .int (nI (20 + (4 * i)))), (0, .ref (h 0)), (1, .int (nI (i)))]) hx hb dX7_removes_16 rfl hl (by decide) rfl (fun ls hl => ?_)
  rw [← zp_sh0 4 (va_up (a 0) 0 (a 0 0 - 1)) (20 + 4 * i)] at hP hD
  have hP : va_P (zk_D s0) zk_Cl (zm_W s0 h f (va_up a 0 (zp_sh 4 (va_up (a 0) 0 (a 0 0 - 1)) (20 + 4 * i) (20 + 4 * i)))) H := hP
  have hD : va_D A (zm_W s0 h f (va_up a 0 (zp_sh 4 (va_up (a 0) 0 (a 0 0 - 1)) (20 + 4 * i) (20 + 4 * i)))) := hD
  have lp_17 : ∀ (n_ : Nat) (k_ : Nat), (48 - k_) < n_ → (20 + 4 * i ≤ k_) → (k_ ≤ 20 + 4 * (a 0 0 - 1)) → ∀ (H : Heap) (locs : List Loc), va_P (zk_D s0) zk_Cl (zm_W s0 h f (va_up a 0 (zp_sh 4 (va_up (a 0) 0 (a 0 0 - 1)) (20 + 4 * i) k_))) H → va_D A (zm_W s0 h f (va_up a 0 (zp_sh 4 (va_up (a 0) 0 (a 0 0 - 1)) (20 + 4 * i) k_))) → va_S A s.heap H locs → ∀ ls : Array Slot, lv_has ls 3 [(2, .int (nI (k_))), (0, .ref (h 0)), (1, .int (nI (i)))] → W p l e R s m args below meth c H locs 0 0 Q (F0 m 17 ls []) := by
    intro n_
    induction n_ with
    | zero => intro k_ hn_; exact absurd hn_ (Nat.not_lt_zero _)
    | succ n_ ih_17 =>
      intro k_ hn_ hk1 hk2 H locs hP hD hS ls hl
      refine lv_iload_n hx hb dX7_removes_17 rfl (lv_at hl 0 rfl) ?_
      refine lv_bipush (v := nI (20)) hx hb dX7_removes_18 (by decide) ?_
      refine lv_iconst (v := nI (4)) hx hb dX7_removes_20 rfl ?_
      refine lv_aload_n hx hb dX7_removes_21 rfl (lv_at hl 1 rfl) ?_
      refine zm_get (f := f) fx 0 (by decide) q2241 (v := .ref (h 1)) rfl hP dX7_removes_22 ?_
      refine lv_iconst (v := nI (0)) hx hb dX7_removes_25 rfl ?_
      refine zn_ald hx hb hK hP 1 (g := zp_sh 4 (va_up (a 0) 0 (a 0 0 - 1)) (20 + 4 * i) k_) rfl (i := 0) (by omega) (by decide) dX7_removes_26 ?_
      refine zn_top (y := nI (a 0 0 - 1)) (by rw [zp_sh_lo (by omega), zk_up_eq]) ?_
      refine zn_imul hx hb dX7_removes_27 ?_
      refine zn_iadd hx hb dX7_removes_28 ?_
      refine zn_icmp_ge (tgt := 52) hx hb dX7_removes_29 (by decide) (by omega) (by omega) (fun c_29 => ?_) (fun c_29 => ?_)
      · refine lv_aload_n hx hb dX7_removes_52 rfl (lv_at hl 1 rfl) ?_
        refine zm_get (f := f) fx 0 (by decide) q2241 (v := .ref (h 1)) rfl hP dX7_removes_53 ?_
        refine lv_iconst (v := nI (0)) hx hb dX7_removes_56 rfl ?_
        refine zn_ald hx hb hK hP 1 (g := zp_sh 4 (va_up (a 0) 0 (a 0 0 - 1)) (20 + 4 * i) k_) rfl (i := 0) (by omega) (by decide) dX7_removes_57 ?_
        refine zn_top (y := nI (a 0 0 - 1)) (by rw [zp_sh_lo (by omega), zk_up_eq]) ?_
        exact zk_reti (v := nI (a 0 0 - 1)) fx eQ rfl (rfl) hP hD hS (Nat.le_of_ble_eq_true rfl) (Nat.le_of_ble_eq_true rfl) dX7_removes_58 (⟨rfl, by rw [show k_ = 20 + 4 * (a 0 0 - 1) by omega]; rfl⟩)
      · refine lv_aload_n hx hb dX7_removes_32 rfl (lv_at hl 1 rfl) ?_
        refine zm_get (f := f) fx 0 (by decide) q2241 (v := .ref (h 1)) rfl hP dX7_removes_33 ?_
        refine lv_iload_n hx hb dX7_removes_36 rfl (lv_at hl 0 rfl) ?_
        refine lv_aload_n hx hb dX7_removes_37 rfl (lv_at hl 1 rfl) ?_
        refine zm_get (f := f) fx 0 (by decide) q2241 (v := .ref (h 1)) rfl hP dX7_removes_38 ?_
        refine lv_iload_n hx hb dX7_removes_41 rfl (lv_at hl 0 rfl) ?_
        refine lv_iconst (v := nI (4)) hx hb dX7_removes_42 rfl ?_
        refine zn_iadd hx hb dX7_removes_43 ?_
        refine zn_ald hx hb hK hP 1 (g := zp_sh 4 (va_up (a 0) 0 (a 0 0 - 1)) (20 + 4 * i) k_) rfl (i := k_ + 4) (by omega) (by decide) dX7_removes_44 ?_
        refine zn_top (y := nI (va_up (a 0) 0 (a 0 0 - 1) (k_ + 4))) (by rw [zp_sh_hi (by omega)]) ?_
        refine zn_ast hx hb hK hP hD hS 1 (n := 72) rfl (i := k_) (x := va_up (a 0) 0 (a 0 0 - 1) (k_ + 4)) (by omega) (by decide) dX7_removes_45 (zm_seta 0 (by decide) 72 rfl (va_up (zp_sh 4 (va_up (a 0) 0 (a 0 0 - 1)) (20 + 4 * i) k_) k_ (va_up (a 0) 0 (a 0 0 - 1) (k_ + 4)))) (fun H locs hP hD hS => ?_)
        rw [zp_sh1 _ _ hk1] at hP hD
        have hP : va_P (zk_D s0) zk_Cl (zm_W s0 h f (va_up a 0 (zp_sh 4 (va_up (a 0) 0 (a 0 0 - 1)) (20 + 4 * i) (k_ + 1)))) H := hP
        have hD : va_D A (zm_W s0 h f (va_up a 0 (zp_sh 4 (va_up (a 0) 0 (a 0 0 - 1)) (20 + 4 * i) (k_ + 1)))) := hD
        refine lv_iinc (v := nI (k_ + 1)) (lv' := [(2, .int (nI (k_ + 1))), (0, .ref (h 0)), (1, .int (nI (i)))]) hx hb dX7_removes_46 hl (k := 0) rfl (nI_add k_ 1) (by decide) rfl (fun ls hl => ?_)
        refine lv_goto (tgt := 17) hx hb dX7_removes_49 (by decide) ?_
        exact ih_17 (k_ + 1) (by omega) (by omega) (by omega) _ _ hP hD hS ls (lv_sub hl [0, 1, 2] rfl)
  exact lp_17 _ (20 + 4 * i) (Nat.lt_succ_self _) (Nat.le_refl _) (by omega) _ _ hP hD hS ls (lv_sub hl [0, 1, 2] rfl)
set_option maxHeartbeats 4000000 in
set_option maxRecDepth 100000 in
theorem cm_drops (l : Launch) (s0 : State) (b : Nat) (h f : Nat → Nat) (a : Nat → Nat → Nat) (i : Nat) (hi : i < a 0 1) (hm : a 0 1 ≤ 12) : zk_C l s0 b yX7_drops (ws_ yX7_drops cX7_drops 3 (some .int)) 0 0 0 0 [.ref (h 0), .int (nI (i))] (zm_W s0 h f a) (fun r w => r = some (.int (nI (a 0 1 - 1))) ∧ w = zm_W s0 h f (va_up a 0 (zp_drop (a 0) i))) := by
  refine zk_mk (by decide) rfl ?_
  intro p e s m below meth c A R args Q fx hR eQ hP hD hS ls hl
  have hx := fx.1
  have hb := fx.2.1
  have hK := fx.2.2.2.2.2.2.2.2.1.K
  have hl : lv_has ls 3 [(0, .ref (h 0)), (1, .int (nI (i)))] := hl
  refine lv_aload_n hx hb dX7_drops_0 rfl (lv_at hl 0 rfl) ?_
  refine zm_get (f := f) fx 0 (by decide) q2241 (v := .ref (h 1)) rfl hP dX7_drops_1 ?_
  refine lv_iconst (v := nI (1)) hx hb dX7_drops_4 rfl ?_
  refine lv_dup2_11 hx hb dX7_drops_5 rfl rfl ?_
  refine zn_ald hx hb hK hP 1 (g := a 0) rfl (i := 1) (by omega) (by decide) dX7_drops_6 ?_
  refine lv_iconst (v := nI (1)) hx hb dX7_drops_7 rfl ?_
  refine zn_isub hx hb dX7_drops_8 (by omega) ?_
  refine zn_ast hx hb hK hP hD hS 1 (n := 72) rfl (i := 1) (x := ((a 0) 1) - 1) (by omega) (by decide) dX7_drops_9 (zm_seta 0 (by decide) 72 rfl (va_up (a 0) 1 (((a 0) 1) - 1))) (fun H locs hP hD hS => ?_)
  refine lv_bipush (v := nI (48)) hx hb dX7_drops_10 (by decide) ?_
  refine lv_iconst (v := nI (2)) hx hb dX7_drops_12 rfl ?_
  refine lv_iload_n hx hb dX7_drops_13 rfl (lv_at hl 1 rfl) ?_
  refine zn_imul hx hb dX7_drops_14 ?_
  refine zn_iadd hx hb dX7_drops_15 ?_
  refine lv_istore_n (lv' := [(2, .int (nI (48 + (2 * i)))), (0, .ref (h 0)), (1, .int (nI (i)))]) hx hb dX7_drops_16 rfl hl (by decide) rfl (fun ls hl => ?_)
  rw [← zp_sh0 2 (va_up (a 0) 1 (a 0 1 - 1)) (48 + 2 * i)] at hP hD
  have hP : va_P (zk_D s0) zk_Cl (zm_W s0 h f (va_up a 0 (zp_sh 2 (va_up (a 0) 1 (a 0 1 - 1)) (48 + 2 * i) (48 + 2 * i)))) H := hP
  have hD : va_D A (zm_W s0 h f (va_up a 0 (zp_sh 2 (va_up (a 0) 1 (a 0 1 - 1)) (48 + 2 * i) (48 + 2 * i)))) := hD
  have lp_17 : ∀ (n_ : Nat) (k_ : Nat), (72 - k_) < n_ → (48 + 2 * i ≤ k_) → (k_ ≤ 48 + 2 * (a 0 1 - 1)) → ∀ (H : Heap) (locs : List Loc), va_P (zk_D s0) zk_Cl (zm_W s0 h f (va_up a 0 (zp_sh 2 (va_up (a 0) 1 (a 0 1 - 1)) (48 + 2 * i) k_))) H → va_D A (zm_W s0 h f (va_up a 0 (zp_sh 2 (va_up (a 0) 1 (a 0 1 - 1)) (48 + 2 * i) k_))) → va_S A s.heap H locs → ∀ ls : Array Slot, lv_has ls 3 [(2, .int (nI (k_))), (0, .ref (h 0)), (1, .int (nI (i)))] → W p l e R s m args below meth c H locs 0 0 Q (F0 m 17 ls []) := by
    intro n_
    induction n_ with
    | zero => intro k_ hn_; exact absurd hn_ (Nat.not_lt_zero _)
    | succ n_ ih_17 =>
      intro k_ hn_ hk1 hk2 H locs hP hD hS ls hl
      refine lv_iload_n hx hb dX7_drops_17 rfl (lv_at hl 0 rfl) ?_
      refine lv_bipush (v := nI (48)) hx hb dX7_drops_18 (by decide) ?_
      refine lv_iconst (v := nI (2)) hx hb dX7_drops_20 rfl ?_
      refine lv_aload_n hx hb dX7_drops_21 rfl (lv_at hl 1 rfl) ?_
      refine zm_get (f := f) fx 0 (by decide) q2241 (v := .ref (h 1)) rfl hP dX7_drops_22 ?_
      refine lv_iconst (v := nI (1)) hx hb dX7_drops_25 rfl ?_
      refine zn_ald hx hb hK hP 1 (g := zp_sh 2 (va_up (a 0) 1 (a 0 1 - 1)) (48 + 2 * i) k_) rfl (i := 1) (by omega) (by decide) dX7_drops_26 ?_
      refine zn_top (y := nI (a 0 1 - 1)) (by rw [zp_sh_lo (by omega), zk_up_eq]) ?_
      refine zn_imul hx hb dX7_drops_27 ?_
      refine zn_iadd hx hb dX7_drops_28 ?_
      refine zn_icmp_ge (tgt := 52) hx hb dX7_drops_29 (by decide) (by omega) (by omega) (fun c_29 => ?_) (fun c_29 => ?_)
      · refine lv_aload_n hx hb dX7_drops_52 rfl (lv_at hl 1 rfl) ?_
        refine zm_get (f := f) fx 0 (by decide) q2241 (v := .ref (h 1)) rfl hP dX7_drops_53 ?_
        refine lv_iconst (v := nI (1)) hx hb dX7_drops_56 rfl ?_
        refine zn_ald hx hb hK hP 1 (g := zp_sh 2 (va_up (a 0) 1 (a 0 1 - 1)) (48 + 2 * i) k_) rfl (i := 1) (by omega) (by decide) dX7_drops_57 ?_
        refine zn_top (y := nI (a 0 1 - 1)) (by rw [zp_sh_lo (by omega), zk_up_eq]) ?_
        exact zk_reti (v := nI (a 0 1 - 1)) fx eQ rfl (rfl) hP hD hS (Nat.le_of_ble_eq_true rfl) (Nat.le_of_ble_eq_true rfl) dX7_drops_58 (⟨rfl, by rw [show k_ = 48 + 2 * (a 0 1 - 1) by omega]; rfl⟩)
      · refine lv_aload_n hx hb dX7_drops_32 rfl (lv_at hl 1 rfl) ?_
        refine zm_get (f := f) fx 0 (by decide) q2241 (v := .ref (h 1)) rfl hP dX7_drops_33 ?_
        refine lv_iload_n hx hb dX7_drops_36 rfl (lv_at hl 0 rfl) ?_
        refine lv_aload_n hx hb dX7_drops_37 rfl (lv_at hl 1 rfl) ?_
        refine zm_get (f := f) fx 0 (by decide) q2241 (v := .ref (h 1)) rfl hP dX7_drops_38 ?_
        refine lv_iload_n hx hb dX7_drops_41 rfl (lv_at hl 0 rfl) ?_
        refine lv_iconst (v := nI (2)) hx hb dX7_drops_42 rfl ?_
        refine zn_iadd hx hb dX7_drops_43 ?_
        refine zn_ald hx hb hK hP 1 (g := zp_sh 2 (va_up (a 0) 1 (a 0 1 - 1)) (48 + 2 * i) k_) rfl (i := k_ + 2) (by omega) (by decide) dX7_drops_44 ?_
        refine zn_top (y := nI (va_up (a 0) 1 (a 0 1 - 1) (k_ + 2))) (by rw [zp_sh_hi (by omega)]) ?_
        refine zn_ast hx hb hK hP hD hS 1 (n := 72) rfl (i := k_) (x := va_up (a 0) 1 (a 0 1 - 1) (k_ + 2)) (by omega) (by decide) dX7_drops_45 (zm_seta 0 (by decide) 72 rfl (va_up (zp_sh 2 (va_up (a 0) 1 (a 0 1 - 1)) (48 + 2 * i) k_) k_ (va_up (a 0) 1 (a 0 1 - 1) (k_ + 2)))) (fun H locs hP hD hS => ?_)
        rw [zp_sh1 _ _ hk1] at hP hD
        have hP : va_P (zk_D s0) zk_Cl (zm_W s0 h f (va_up a 0 (zp_sh 2 (va_up (a 0) 1 (a 0 1 - 1)) (48 + 2 * i) (k_ + 1)))) H := hP
        have hD : va_D A (zm_W s0 h f (va_up a 0 (zp_sh 2 (va_up (a 0) 1 (a 0 1 - 1)) (48 + 2 * i) (k_ + 1)))) := hD
        refine lv_iinc (v := nI (k_ + 1)) (lv' := [(2, .int (nI (k_ + 1))), (0, .ref (h 0)), (1, .int (nI (i)))]) hx hb dX7_drops_46 hl (k := 0) rfl (nI_add k_ 1) (by decide) rfl (fun ls hl => ?_)
        refine lv_goto (tgt := 17) hx hb dX7_drops_49 (by decide) ?_
        exact ih_17 (k_ + 1) (by omega) (by omega) (by omega) _ _ hP hD hS ls (lv_sub hl [0, 1, 2] rfl)
  exact lp_17 _ (48 + 2 * i) (Nat.lt_succ_self _) (Nat.le_refl _) (by omega) _ _ hP hD hS ls (lv_sub hl [0, 1, 2] rfl)
