/-! THE REFERENCE, part 8 (printed by prog/m8.py) -/
set_option maxRecDepth 100000
set_option maxHeartbeats 4000000 in
set_option maxRecDepth 100000 in
theorem cm_printsAll (l : Launch) (s0 : State) (b : Nat) (h f : Nat → Nat) (a : Nat → Nat → Nat) (B : Nat) (inv : zp_In B (a 0)) (hB : B + 483 ≤ 10000000) : zk_C l s0 b yX7_printsAll (ws_ yX7_printsAll cX7_printsAll 5 (some .int)) 5 115 0 0 [.ref (h 0)] (zm_W s0 h f a) (fun r w => r = some (.int (nI (zp_pa (a 0) (zp_oc (a 0))).1)) ∧ ∃ X F G : Nat → Nat, w = zm_W s0 h f (va_up (va_up (va_up (va_up a 5 X) 4 F) 8 G) 0 (zp_pa (a 0) (zp_oc (a 0))).2)) := by
  refine zk_mk (by decide) rfl ?_
  intro p e s m below meth c A R args Q fx hR eQ hP hD hS ls hl
  have hx := fx.1
  have hb := fx.2.1
  have hK := fx.2.2.2.2.2.2.2.2.1.K
  have hl : lv_has ls 5 [(0, .ref (h 0))] := hl
  have ok := inv.1
  obtain ⟨ok0, ok1, ok2, ok3, ok4, ok5, ok6, okw, oke, okp⟩ := id ok
  have hoc := zp_oc_le ok0
  refine lv_aload_n hx hb dX7_printsAll_0 rfl (lv_at hl 0 rfl) ?_
  refine zk_callV0 fx (cm_share l s0 b h f a  (ok)) (lw_V q2525 q2527 qs63 q108 q2528) ⟨rfl, by decide, by decide, (show (parseMethodDescriptor yX7_share.desc).map (fun d => d.parameters.length) = some 0 by decide +kernel)⟩ ⟨zk_le hR.1 rfl, zk_le hR.2.1 rfl⟩ ⟨zk_le hR.2.2.1 rfl, zk_le hR.2.2.2 rfl⟩ hP hD hS 0 rfl rfl 0 rfl hl.1 rfl (Nat.le_of_ble_eq_true rfl) dX7_printsAll_1 (fun v_ w_ H locs hq_ hP hD hS => ?_)
  obtain ⟨rfl, rfl⟩ := hq_
  refine zn_st (st2 := []) rfl ?_
  refine lv_aload_n hx hb dX7_printsAll_4 rfl (lv_at hl 0 rfl) ?_
  refine zk_callV0 fx (cm_laysOrder l s0 b h f (va_up a 5 (zp_gv (a 0) (a 5) ((a 0) 2))) ok) (lw_V q2513 q2515 qs61 q108 q2516) ⟨rfl, by decide, by decide, (show (parseMethodDescriptor yX7_laysOrder.desc).map (fun d => d.parameters.length) = some 0 by decide +kernel)⟩ ⟨zk_le hR.1 rfl, zk_le hR.2.1 rfl⟩ ⟨zk_le hR.2.2.1 rfl, zk_le hR.2.2.2 rfl⟩ hP hD hS 0 rfl rfl 0 rfl hl.1 rfl (Nat.le_of_ble_eq_true rfl) dX7_printsAll_5 (fun v_ w_ H locs hq_ hP hD hS => ?_)
  obtain ⟨rfl, F_1, G_1, rfl, hG_1⟩ := hq_
  refine zn_st (st2 := [.int (nI (zp_oc (a 0)))]) rfl ?_
  have hG_1 : ∀ j, j < zp_oc (a 0) → G_1 j = zp_on (a 0) j := hG_1
  refine lv_istore_n (lv' := [(1, .int (nI (zp_oc (a 0)))), (0, .ref (h 0))]) hx hb dX7_printsAll_8 rfl hl (by decide) rfl (fun ls hl => ?_)
  refine lv_iconst (v := nI (0)) hx hb dX7_printsAll_9 rfl ?_
  refine lv_istore_n (lv' := [(2, .int (nI (0))), (1, .int (nI (zp_oc (a 0)))), (0, .ref (h 0))]) hx hb dX7_printsAll_10 rfl hl (by decide) rfl (fun ls hl => ?_)
  refine lv_iconst (v := nI (0)) hx hb dX7_printsAll_11 rfl ?_
  refine lv_istore_n (lv' := [(3, .int (nI (0))), (2, .int (nI (0))), (1, .int (nI (zp_oc (a 0)))), (0, .ref (h 0))]) hx hb dX7_printsAll_12 rfl hl (by decide) rfl (fun ls hl => ?_)
  have hP : va_P (zk_D s0) zk_Cl (zm_W s0 h f (va_up (va_up (va_up (va_up a 5 (zp_gv (a 0) (a 5) (a 0 2))) 4 (F_1)) 8 (G_1)) 0 ((zp_pa (a 0) 0).2))) H := hP
  have hD : va_D A (zm_W s0 h f (va_up (va_up (va_up (va_up a 5 (zp_gv (a 0) (a 5) (a 0 2))) 4 (F_1)) 8 (G_1)) 0 ((zp_pa (a 0) 0).2))) := hD
  have lp_13 : ∀ (n_ : Nat) (i_ : Nat), (zp_oc (a 0) - i_) < n_ → (i_ ≤ zp_oc (a 0)) → ∀ (H : Heap) (locs : List Loc), va_P (zk_D s0) zk_Cl (zm_W s0 h f (va_up (va_up (va_up (va_up a 5 (zp_gv (a 0) (a 5) (a 0 2))) 4 (F_1)) 8 (G_1)) 0 ((zp_pa (a 0) i_).2))) H → va_D A (zm_W s0 h f (va_up (va_up (va_up (va_up a 5 (zp_gv (a 0) (a 5) (a 0 2))) 4 (F_1)) 8 (G_1)) 0 ((zp_pa (a 0) i_).2))) → va_S A s.heap H locs → ∀ ls : Array Slot, lv_has ls 5 [(3, .int (nI (i_))), (2, .int (nI ((zp_pa (a 0) i_).1))), (1, .int (nI (zp_oc (a 0)))), (0, .ref (h 0))] → W p l e R s m args below meth c H locs 0 0 Q (F0 m 13 ls []) := by
    intro n_
    induction n_ with
    | zero => intro i_ hn_; exact absurd hn_ (Nat.not_lt_zero _)
    | succ n_ ih_13 =>
      intro i_ hn_ hi H locs hP hD hS ls hl
      have hpi := zp_PI_ok inv hB i_ hi
      refine lv_iload_n hx hb dX7_printsAll_13 rfl (lv_at hl 0 rfl) ?_
      refine lv_iload_n hx hb dX7_printsAll_14 rfl (lv_at hl 2 rfl) ?_
      refine zn_icmp_ge (tgt := 70) hx hb dX7_printsAll_15 (by decide) (by omega) (by omega) (fun c_15 => ?_) (fun c_15 => ?_)
      · refine lv_iload_n hx hb dX7_printsAll_70 rfl (lv_at hl 1 rfl) ?_
        exact zk_reti (v := nI ((zp_pa (a 0) i_).1)) fx eQ rfl (rfl) hP hD hS (Nat.le_of_ble_eq_true rfl) (Nat.le_of_ble_eq_true rfl) dX7_printsAll_71 (⟨zk_eqr (by rw [show i_ = zp_oc (a 0) by omega]), _, _, _, by rw [show i_ = zp_oc (a 0) by omega]⟩)
      · have hil : i_ < zp_oc (a 0) := by omega
        obtain ⟨u1, u2, u3⟩ := zp_PI_use inv hil hpi
        obtain ⟨pI, p0, pc, ps, pm⟩ := hpi
        have pok := pI.1
        have hu9 : zp_on (a 0) i_ < (zp_pa (a 0) i_).2 0 := by rw [p0]; exact u1
        have hw9 : (zp_pa (a 0) i_).2 (8 + zp_col (zp_pa (a 0) i_).2 (zp_on (a 0) i_)) ≤ 999 := pok.2.2.2.2.2.2.2.1 _ ((pc _ u1).symm ▸ (oke _ u1).1)
        have h29 : (zp_pa (a 0) i_).2 2 ≤ 9999 := pok.2.2.1
        refine lv_aload_n hx hb dX7_printsAll_18 rfl (lv_at hl 3 rfl) ?_
        refine zm_get (f := f) fx 5 (by decide) q2246 (v := .ref (h 6)) rfl hP dX7_printsAll_19 ?_
        refine lv_aload_n hx hb dX7_printsAll_22 rfl (lv_at hl 3 rfl) ?_
        refine zm_get (f := f) fx 8 (by decide) q2249 (v := .ref (h 9)) rfl hP dX7_printsAll_23 ?_
        refine lv_iload_n hx hb dX7_printsAll_26 rfl (lv_at hl 0 rfl) ?_
        refine zn_ald hx hb hK hP 9 (g := G_1) rfl (i := i_) (by omega) (by decide) dX7_printsAll_27 ?_
        refine zn_top (y := nI (zp_on (a 0) i_)) (by rw [hG_1 i_ hil]) ?_
        refine zn_ald hx hb hK hP 6 (g := zp_gv (a 0) (a 5) (a 0 2)) rfl (i := zp_on (a 0) i_) (by omega) (by decide) dX7_printsAll_28 ?_
        refine zn_top (y := nI (zp_shr (a 0) (zp_on (a 0) i_))) (by rw [zp_gv_irr (a 0) (a 5) (fun _ => 0) ok0 _ _ (by omega)]; rfl) ?_
        refine lv_aload_n hx hb dX7_printsAll_29 rfl (lv_at hl 3 rfl) ?_
        refine lv_aload_n hx hb dX7_printsAll_30 rfl (lv_at hl 3 rfl) ?_
        refine zm_get (f := f) fx 8 (by decide) q2249 (v := .ref (h 9)) rfl hP dX7_printsAll_31 ?_
        refine lv_iload_n hx hb dX7_printsAll_34 rfl (lv_at hl 0 rfl) ?_
        refine zn_ald hx hb hK hP 9 (g := G_1) rfl (i := i_) (by omega) (by decide) dX7_printsAll_35 ?_
        refine zn_top (y := nI (zp_on (a 0) i_)) (by rw [hG_1 i_ hil]) ?_
        refine zk_callV0 fx (cm_ofWell l s0 b h f (va_up (va_up (va_up (va_up a 5 (zp_gv (a 0) (a 5) (a 0 2))) 4 (F_1)) 8 (G_1)) 0 ((zp_pa (a 0) i_).2)) (zp_on (a 0) i_) (hu9) (pok)) (lw_V q2454 q2456 qs53 q108 q2457) ⟨rfl, by decide, by decide, (show (parseMethodDescriptor yX7_ofWell.desc).map (fun d => d.parameters.length) = some 1 by decide +kernel)⟩ ⟨zk_le hR.1 rfl, zk_le hR.2.1 rfl⟩ ⟨zk_le hR.2.2.1 rfl, zk_le hR.2.2.2 rfl⟩ hP hD hS 0 rfl rfl 0 rfl hl.1 rfl (Nat.le_of_ble_eq_true rfl) dX7_printsAll_36 (fun v_ w_ H locs hq_ hP hD hS => ?_)
        obtain ⟨rfl, rfl⟩ := hq_
        refine zn_st (st2 := [.int (nI (((zp_pa (a 0) i_).2) (8 + zp_col ((zp_pa (a 0) i_).2) (zp_on (a 0) i_)))), .int (nI (zp_shr (a 0) (zp_on (a 0) i_)))]) rfl ?_
        refine zk_callSn fx (cm_less l s0 b (zp_shr (a 0) (zp_on (a 0) i_)) (((zp_pa (a 0) i_).2) (8 + zp_col ((zp_pa (a 0) i_).2) (zp_on (a 0) i_))) (by omega) (by omega)) (lw_S q2462 q2463 q108 q2464) ⟨by decide, by decide, (show (parseMethodDescriptor yX7_less.desc).map (fun d => d.parameters.length) = some 2 by decide +kernel)⟩ ⟨zk_le hR.1 rfl, zk_le hR.2.1 rfl⟩ ⟨zk_le hR.2.2.1 rfl, zk_le hR.2.2.2 rfl⟩ hP hD hS hl.1 rfl (Nat.le_of_ble_eq_true rfl) dX7_printsAll_39 (fun v_ H locs hq_ hP hD hS => ?_)
        obtain rfl := hq_
        refine zn_st (st2 := [.int (nI (min (zp_shr (a 0) (zp_on (a 0) i_)) (((zp_pa (a 0) i_).2) (8 + zp_col ((zp_pa (a 0) i_).2) (zp_on (a 0) i_)))))]) rfl ?_
        refine lv_istore (lv' := [(4, .int (nI (min (zp_shr (a 0) (zp_on (a 0) i_)) (((zp_pa (a 0) i_).2) (8 + zp_col ((zp_pa (a 0) i_).2) (zp_on (a 0) i_)))))), (3, .int (nI (i_))), (2, .int (nI ((zp_pa (a 0) i_).1))), (1, .int (nI (zp_oc (a 0)))), (0, .ref (h 0))]) hx hb dX7_printsAll_42 hl (by decide) rfl (fun ls hl => ?_)
        refine lv_iload hx hb dX7_printsAll_44 (lv_at hl 0 rfl) ?_
        refine zn_if_le (tgt := 64) hx hb dX7_printsAll_46 (by decide) (by omega) (fun c_46 => ?_) (fun c_46 => ?_)
        · have eq_ : zp_pa (a 0) (i_ + 1) = zp_pa (a 0) i_ := by rw [zp_pa, if_neg (by omega)]
          have hP : va_P (zk_D s0) zk_Cl (zm_W s0 h f (va_up (va_up (va_up (va_up a 5 (zp_gv (a 0) (a 5) (a 0 2))) 4 (F_1)) 8 (G_1)) 0 ((zp_pa (a 0) (i_ + 1)).2))) H := by rw [eq_]; exact hP
          have hD : va_D A (zm_W s0 h f (va_up (va_up (va_up (va_up a 5 (zp_gv (a 0) (a 5) (a 0 2))) 4 (F_1)) 8 (G_1)) 0 ((zp_pa (a 0) (i_ + 1)).2))) := by rw [eq_]; exact hD
          have hl : lv_has ls 5 [(4, .int (nI (min (zp_shr (a 0) (zp_on (a 0) i_)) (((zp_pa (a 0) i_).2) (8 + zp_col ((zp_pa (a 0) i_).2) (zp_on (a 0) i_)))))), (3, .int (nI (i_))), (2, .int (nI ((zp_pa (a 0) (i_ + 1)).1))), (1, .int (nI (zp_oc (a 0)))), (0, .ref (h 0))] := by rw [eq_]; exact hl
          refine lv_iinc (v := nI (i_ + 1)) (lv' := [(3, .int (nI (i_ + 1))), (4, .int (nI (min (zp_shr (a 0) (zp_on (a 0) i_)) (((zp_pa (a 0) i_).2) (8 + zp_col ((zp_pa (a 0) i_).2) (zp_on (a 0) i_)))))), (2, .int (nI ((zp_pa (a 0) (i_ + 1)).1))), (1, .int (nI (zp_oc (a 0)))), (0, .ref (h 0))]) hx hb dX7_printsAll_64 hl (k := 1) rfl (nI_add i_ 1) (by decide) rfl (fun ls hl => ?_)
          refine lv_goto (tgt := 13) hx hb dX7_printsAll_67 (by decide) ?_
          exact ih_13 (i_ + 1) (by omega) (by omega) _ _ hP hD hS ls (lv_sub hl [0, 2, 3, 4] rfl)
        · refine lv_iload_n hx hb dX7_printsAll_49 rfl (lv_at hl 2 rfl) ?_
          refine lv_aload_n hx hb dX7_printsAll_50 rfl (lv_at hl 4 rfl) ?_
          refine lv_aload_n hx hb dX7_printsAll_51 rfl (lv_at hl 4 rfl) ?_
          refine zm_get (f := f) fx 8 (by decide) q2249 (v := .ref (h 9)) rfl hP dX7_printsAll_52 ?_
          refine lv_iload_n hx hb dX7_printsAll_55 rfl (lv_at hl 1 rfl) ?_
          refine zn_ald hx hb hK hP 9 (g := G_1) rfl (i := i_) (by omega) (by decide) dX7_printsAll_56 ?_
          refine zn_top (y := nI (zp_on (a 0) i_)) (by rw [hG_1 i_ hil]) ?_
          refine lv_iload hx hb dX7_printsAll_57 (lv_at hl 0 rfl) ?_
          refine zk_callV0 fx (cm_prints l s0 b h f (va_up (va_up (va_up (va_up a 5 (zp_gv (a 0) (a 5) (a 0 2))) 4 (F_1)) 8 (G_1)) 0 ((zp_pa (a 0) i_).2)) (zp_on (a 0) i_) (min (zp_shr (a 0) (zp_on (a 0) i_)) (((zp_pa (a 0) i_).2) (8 + zp_col ((zp_pa (a 0) i_).2) (zp_on (a 0) i_)))) (hu9) (Nat.le_trans (Nat.min_le_left _ _) u2) (Nat.min_le_right _ _) (pok)) (lw_V q2465 q2467 qs55 q108 q2468) ⟨rfl, by decide, by decide, (show (parseMethodDescriptor yX7_prints.desc).map (fun d => d.parameters.length) = some 2 by decide +kernel)⟩ ⟨zk_le hR.1 rfl, zk_le hR.2.1 rfl⟩ ⟨zk_le hR.2.2.1 rfl, zk_le hR.2.2.2 rfl⟩ hP hD hS 0 rfl rfl 0 rfl hl.1 rfl (Nat.le_of_ble_eq_true rfl) dX7_printsAll_59 (fun v_ w_ H locs hq_ hP hD hS => ?_)
          obtain ⟨rfl, rfl⟩ := hq_
          refine zn_st (st2 := [.int (nI (min (zp_shr (a 0) (zp_on (a 0) i_)) (((zp_pa (a 0) i_).2) (8 + zp_col ((zp_pa (a 0) i_).2) (zp_on (a 0) i_))))), .int (nI ((zp_pa (a 0) i_).1))]) rfl ?_
          refine zn_iadd hx hb dX7_printsAll_62 ?_
          refine lv_istore_n (lv' := [(2, .int (nI (((zp_pa (a 0) i_).1) + (min (zp_shr (a 0) (zp_on (a 0) i_)) (((zp_pa (a 0) i_).2) (8 + zp_col ((zp_pa (a 0) i_).2) (zp_on (a 0) i_))))))), (4, .int (nI (min (zp_shr (a 0) (zp_on (a 0) i_)) (((zp_pa (a 0) i_).2) (8 + zp_col ((zp_pa (a 0) i_).2) (zp_on (a 0) i_)))))), (3, .int (nI (i_))), (1, .int (nI (zp_oc (a 0)))), (0, .ref (h 0))]) hx hb dX7_printsAll_63 rfl hl (by decide) rfl (fun ls hl => ?_)
          have eq_ : zp_pa (a 0) (i_ + 1) = ((zp_pa (a 0) i_).1 + min (zp_shr (a 0) (zp_on (a 0) i_)) ((zp_pa (a 0) i_).2 (8 + zp_col (zp_pa (a 0) i_).2 (zp_on (a 0) i_))), zp_prints (zp_pa (a 0) i_).2 (zp_on (a 0) i_) (min (zp_shr (a 0) (zp_on (a 0) i_)) ((zp_pa (a 0) i_).2 (8 + zp_col (zp_pa (a 0) i_).2 (zp_on (a 0) i_))))) := by rw [zp_pa, if_pos c_46]
          have hP : va_P (zk_D s0) zk_Cl (zm_W s0 h f (va_up (va_up (va_up (va_up a 5 (zp_gv (a 0) (a 5) (a 0 2))) 4 (F_1)) 8 (G_1)) 0 ((zp_pa (a 0) (i_ + 1)).2))) H := by rw [eq_]; exact hP
          have hD : va_D A (zm_W s0 h f (va_up (va_up (va_up (va_up a 5 (zp_gv (a 0) (a 5) (a 0 2))) 4 (F_1)) 8 (G_1)) 0 ((zp_pa (a 0) (i_ + 1)).2))) := by rw [eq_]; exact hD
          have hl : lv_has ls 5 [(2, .int (nI ((zp_pa (a 0) (i_ + 1)).1))), (4, .int (nI (min (zp_shr (a 0) (zp_on (a 0) i_)) (((zp_pa (a 0) i_).2) (8 + zp_col ((zp_pa (a 0) i_).2) (zp_on (a 0) i_)))))), (3, .int (nI (i_))), (1, .int (nI (zp_oc (a 0)))), (0, .ref (h 0))] := by rw [eq_]; exact hl
          refine lv_iinc (v := nI (i_ + 1)) (lv' := [(3, .int (nI (i_ + 1))), (2, .int (nI ((zp_pa (a 0) (i_ + 1)).1))), (4, .int (nI (min (zp_shr (a 0) (zp_on (a 0) i_)) (((zp_pa (a 0) i_).2) (8 + zp_col ((zp_pa (a 0) i_).2) (zp_on (a 0) i_)))))), (1, .int (nI (zp_oc (a 0)))), (0, .ref (h 0))]) hx hb dX7_printsAll_64 hl (k := 2) rfl (nI_add i_ 1) (by decide) rfl (fun ls hl => ?_)
          refine lv_goto (tgt := 13) hx hb dX7_printsAll_67 (by decide) ?_
          exact ih_13 (i_ + 1) (by omega) (by omega) _ _ hP hD hS ls (lv_sub hl [0, 1, 3, 4] rfl)
  exact lp_13 _ 0 (Nat.lt_succ_self _) (by omega) _ _ hP hD hS ls (lv_sub hl [0, 1, 2, 3] rfl)
set_option maxHeartbeats 4000000 in
set_option maxRecDepth 100000 in
theorem cm_printAll (l : Launch) (s0 : State) (b : Nat) (h f : Nat → Nat) (a : Nat → Nat → Nat) (B : Nat) (inv : zp_In B (a 0)) (hB : B + 483 ≤ 10000000) (hd0 : f 10 ≤ 8) : zk_C l s0 b yX7_printAll (ws_ yX7_printAll cX7_printAll 1 (some .int)) 6 139 0 0 [.ref (h 0)] (zm_W s0 h f a) (fun r w => zm_M s0 h f a (zo_printAll (a 0)) r w) := by
  refine zk_mk (by decide) rfl ?_
  intro p e s m below meth c A R args Q fx hR eQ hP hD hS ls hl
  have hx := fx.1
  have hb := fx.2.1
  have hK := fx.2.2.2.2.2.2.2.2.1.K
  have hl : lv_has ls 1 [(0, .ref (h 0))] := hl
  refine lv_aload_n hx hb dX7_printAll_0 rfl (lv_at hl 0 rfl) ?_
  refine zk_callV0 fx (cm_begin l s0 b h f a ) (lw_V q2325 q2327 qs34 q108 q2328) ⟨rfl, by decide, by decide, (show (parseMethodDescriptor yX7_begin.desc).map (fun d => d.parameters.length) = some 0 by decide +kernel)⟩ ⟨zk_le hR.1 rfl, zk_le hR.2.1 rfl⟩ ⟨zk_le hR.2.2.1 rfl, zk_le hR.2.2.2 rfl⟩ hP hD hS 0 rfl rfl 0 rfl hl.1 rfl (Nat.le_of_ble_eq_true rfl) dX7_printAll_1 (fun v_ w_ H locs hq_ hP hD hS => ?_)
  obtain ⟨rfl, rfl⟩ := hq_
  refine zn_st (st2 := []) rfl ?_
  refine lv_aload_n hx hb dX7_printAll_4 rfl (lv_at hl 0 rfl) ?_
  refine lv_aload_n hx hb dX7_printAll_5 rfl (lv_at hl 0 rfl) ?_
  refine zk_callV0 fx (cm_printsAll l s0 b h (va_up f 9 (0)) (va_up a 1 (zp_cp (a 0) (a 1) 0 0 72)) B inv hB) (lw_V q2541 q2543 qs65 q108 q2544) ⟨rfl, by decide, by decide, (show (parseMethodDescriptor yX7_printsAll.desc).map (fun d => d.parameters.length) = some 0 by decide +kernel)⟩ ⟨zk_le hR.1 rfl, zk_le hR.2.1 rfl⟩ ⟨zk_le hR.2.2.1 rfl, zk_le hR.2.2.2 rfl⟩ hP hD hS 0 rfl rfl 0 rfl hl.1 rfl (Nat.le_of_ble_eq_true rfl) dX7_printAll_6 (fun v_ w_ H locs hq_ hP hD hS => ?_)
  obtain ⟨rfl, X_1, F_1, G_1, rfl⟩ := hq_
  refine zn_st (st2 := [.int (nI ((zp_pa (a 0) (zp_oc (a 0))).1)), .ref (h 0)]) rfl ?_
  refine zk_callV0 fx (cm_commit l s0 b h (va_up f 9 (0)) (va_up (va_up (va_up (va_up (va_up a 1 (zp_cp (a 0) (a 1) 0 0 72)) 5 (X_1)) 4 (F_1)) 8 (G_1)) 0 ((zp_pa (a 0) (zp_oc (a 0))).2)) (nI ((zp_pa (a 0) (zp_oc (a 0))).1)) (hd0)) (lw_V q2350 q2352 qs38 q108 q2353) ⟨rfl, by decide, by decide, (show (parseMethodDescriptor yX7_commit.desc).map (fun d => d.parameters.length) = some 1 by decide +kernel)⟩ ⟨zk_le hR.1 rfl, zk_le hR.2.1 rfl⟩ ⟨zk_le hR.2.2.1 rfl, zk_le hR.2.2.2 rfl⟩ hP hD hS 0 rfl rfl 0 rfl hl.1 rfl (Nat.le_of_ble_eq_true rfl) dX7_printAll_9 (fun v_ w_ H locs hq_ hP hD hS => ?_)
  obtain ⟨rfl, rfl⟩ := hq_
  refine zn_st (st2 := [.int (nI ((zp_pa (a 0) (zp_oc (a 0))).1))]) rfl ?_
  exact zk_reti (v := nI ((zp_pa (a 0) (zp_oc (a 0))).1)) fx eQ rfl (rfl) hP hD hS (Nat.le_of_ble_eq_true rfl) (Nat.le_of_ble_eq_true rfl) dX7_printAll_12 (⟨rfl, _, _, rfl, ⟨rfl, rfl, rfl, rfl, rfl, rfl, rfl, rfl⟩, rfl, rfl, fun _ => ⟨zp_ch_cp, rfl⟩, fun z => absurd rfl z⟩)
set_option maxHeartbeats 4000000 in
set_option maxRecDepth 100000 in
theorem cm_rises (l : Launch) (s0 : State) (b : Nat) (h f : Nat → Nat) (a : Nat → Nat → Nat) (ok : zp_Ok (a 0)) : zk_C l s0 b yX7_rises (ws_ yX7_rises cX7_rises 4 (some .int)) 1 22 0 0 [.ref (h 0)] (zm_W s0 h f a) (fun r w => r = some (.int (nI (zp_rise (a 0)))) ∧ w = zm_W s0 h f (va_up (va_up a 6 (zp_rs (a 0) (a 6, a 7) (a 0 1)).1) 7 (zp_rs (a 0) (a 6, a 7) (a 0 1)).2)) := by
  refine zk_mk (by decide) rfl ?_
  intro p e s m below meth c A R args Q fx hR eQ hP hD hS ls hl
  have hx := fx.1
  have hb := fx.2.1
  have hK := fx.2.2.2.2.2.2.2.2.1.K
  have hl : lv_has ls 4 [(0, .ref (h 0))] := hl
  obtain ⟨ok0, ok1, ok2, ok3, ok4, ok5, ok6, okw, oke, okp⟩ := id ok
  refine lv_iconst (v := nI (0)) hx hb dX7_rises_0 rfl ?_
  refine lv_istore_n (lv' := [(1, .int (nI (0))), (0, .ref (h 0))]) hx hb dX7_rises_1 rfl hl (by decide) rfl (fun ls hl => ?_)
  refine lv_iconst (v := nI (0)) hx hb dX7_rises_2 rfl ?_
  refine lv_istore_n (lv' := [(2, .int (nI (0))), (1, .int (nI (0))), (0, .ref (h 0))]) hx hb dX7_rises_3 rfl hl (by decide) rfl (fun ls hl => ?_)
  have hP : va_P (zk_D s0) zk_Cl (zm_W s0 h f (va_up (va_up a 6 ((zp_rs (a 0) (a 6, a 7) 0).1)) 7 ((zp_rs (a 0) (a 6, a 7) 0).2))) s.heap := hP
  have hD : va_D A (zm_W s0 h f (va_up (va_up a 6 ((zp_rs (a 0) (a 6, a 7) 0).1)) 7 ((zp_rs (a 0) (a 6, a 7) 0).2))) := hD
  have lp_4 : ∀ (n_ : Nat) (k_ : Nat), (a 0 1 - k_) < n_ → (k_ ≤ a 0 1) → ∀ (H : Heap) (locs : List Loc), va_P (zk_D s0) zk_Cl (zm_W s0 h f (va_up (va_up a 6 ((zp_rs (a 0) (a 6, a 7) k_).1)) 7 ((zp_rs (a 0) (a 6, a 7) k_).2))) H → va_D A (zm_W s0 h f (va_up (va_up a 6 ((zp_rs (a 0) (a 6, a 7) k_).1)) 7 ((zp_rs (a 0) (a 6, a 7) k_).2))) → va_S A s.heap H locs → ∀ ls : Array Slot, lv_has ls 4 [(2, .int (nI (k_))), (1, .int (nI (zp_most (a 0) (a 6, a 7) k_))), (0, .ref (h 0))] → W p l e R s m args below meth c H locs 0 0 Q (F0 m 4 ls []) := by
    intro n_
    induction n_ with
    | zero => intro k_ hn_; exact absurd hn_ (Nat.not_lt_zero _)
    | succ n_ ih_4 =>
      intro k_ hn_ hk H locs hP hD hS ls hl
      have hml := zp_most_le (a 0) (a 6, a 7) k_
      refine lv_iload_n hx hb dX7_rises_4 rfl (lv_at hl 0 rfl) ?_
      refine lv_aload_n hx hb dX7_rises_5 rfl (lv_at hl 2 rfl) ?_
      refine zm_get (f := f) fx 0 (by decide) q2241 (v := .ref (h 1)) rfl hP dX7_rises_6 ?_
      refine lv_iconst (v := nI (1)) hx hb dX7_rises_9 rfl ?_
      refine zn_ald hx hb hK hP 1 (g := a 0) rfl (i := 1) (by omega) (by decide) dX7_rises_10 ?_
      refine zn_icmp_ge (tgt := 162) hx hb dX7_rises_11 (by decide) (by omega) (by omega) (fun c_11 => ?_) (fun c_11 => ?_)
      · refine lv_iload_n hx hb dX7_rises_162 rfl (lv_at hl 1 rfl) ?_
        exact zk_reti (v := nI (zp_most (a 0) (a 6, a 7) k_)) fx eQ rfl (rfl) hP hD hS (Nat.le_of_ble_eq_true rfl) (Nat.le_of_ble_eq_true rfl) dX7_rises_163 (⟨zk_eqr (by rw [show k_ = a 0 1 by omega]; exact zp_most_irr _ _ _ _), by rw [show k_ = a 0 1 by omega]⟩)
      · have hk12 : k_ < 12 := by omega
        refine lv_aload_n hx hb dX7_rises_14 rfl (lv_at hl 2 rfl) ?_
        refine zm_get (f := f) fx 6 (by decide) q2247 (v := .ref (h 7)) rfl hP dX7_rises_15 ?_
        refine lv_iload_n hx hb dX7_rises_18 rfl (lv_at hl 0 rfl) ?_
        refine lv_iconst (v := nI (1)) hx hb dX7_rises_19 rfl ?_
        refine zn_ast hx hb hK hP hD hS 7 (n := 12) rfl (i := k_) (x := 1) (by omega) (by decide) dX7_rises_20 (zm_seta 6 (by decide) 12 rfl (va_up ((zp_rs (a 0) (a 6, a 7) k_).1) k_ 1)) (fun H locs hP hD hS => ?_)
        refine lv_aload_n hx hb dX7_rises_21 rfl (lv_at hl 2 rfl) ?_
        refine zm_get (f := f) fx 7 (by decide) q2248 (v := .ref (h 8)) rfl hP dX7_rises_22 ?_
        refine lv_iload_n hx hb dX7_rises_25 rfl (lv_at hl 0 rfl) ?_
        refine lv_iconst (v := nI (1)) hx hb dX7_rises_26 rfl ?_
        refine zn_ast hx hb hK hP hD hS 8 (n := 12) rfl (i := k_) (x := 1) (by omega) (by decide) dX7_rises_27 (zm_seta 7 (by decide) 12 rfl (va_up ((zp_rs (a 0) (a 6, a 7) k_).2) k_ 1)) (fun H locs hP hD hS => ?_)
        refine lv_iconst (v := nI (0)) hx hb dX7_rises_28 rfl ?_
        refine lv_istore_n (lv' := [(3, .int (nI (0))), (2, .int (nI (k_))), (1, .int (nI (zp_most (a 0) (a 6, a 7) k_))), (0, .ref (h 0))]) hx hb dX7_rises_29 rfl hl (by decide) rfl (fun ls hl => ?_)
        have hP : va_P (zk_D s0) zk_Cl (zm_W s0 h f (va_up (va_up a 6 ((zp_ri (a 0) k_ (zp_rs (a 0) (a 6, a 7) k_) 0).1)) 7 ((zp_ri (a 0) k_ (zp_rs (a 0) (a 6, a 7) k_) 0).2))) H := hP
        have hD : va_D A (zm_W s0 h f (va_up (va_up a 6 ((zp_ri (a 0) k_ (zp_rs (a 0) (a 6, a 7) k_) 0).1)) 7 ((zp_ri (a 0) k_ (zp_rs (a 0) (a 6, a 7) k_) 0).2))) := hD
        have lp_30 : ∀ (n_ : Nat) (o_ : Nat), (k_ - o_) < n_ → (o_ ≤ k_) → ∀ (H : Heap) (locs : List Loc), va_P (zk_D s0) zk_Cl (zm_W s0 h f (va_up (va_up a 6 ((zp_ri (a 0) k_ (zp_rs (a 0) (a 6, a 7) k_) o_).1)) 7 ((zp_ri (a 0) k_ (zp_rs (a 0) (a 6, a 7) k_) o_).2))) H → va_D A (zm_W s0 h f (va_up (va_up a 6 ((zp_ri (a 0) k_ (zp_rs (a 0) (a 6, a 7) k_) o_).1)) 7 ((zp_ri (a 0) k_ (zp_rs (a 0) (a 6, a 7) k_) o_).2))) → va_S A s.heap H locs → ∀ ls : Array Slot, lv_has ls 4 [(3, .int (nI (o_))), (2, .int (nI (k_))), (1, .int (nI (zp_most (a 0) (a 6, a 7) k_))), (0, .ref (h 0))] → W p l e R s m args below meth c H locs 0 0 Q (F0 m 30 ls []) := by
          intro n_
          induction n_ with
          | zero => intro o_ hn_; exact absurd hn_ (Nat.not_lt_zero _)
          | succ n_ ih_30 =>
            intro o_ hn_ ho H locs hP hD hS ls hl
            have hr1 : (zp_ri (a 0) k_ (zp_rs (a 0) (a 6, a 7) k_) o_).1 k_ ≤ k_ + 1 := zp_ri_le _ _ _ (zp_rs_le _ _ _) o_ ho
            refine lv_iload_n hx hb dX7_rises_30 rfl (lv_at hl 0 rfl) ?_
            refine lv_iload_n hx hb dX7_rises_31 rfl (lv_at hl 1 rfl) ?_
            refine zn_icmp_ge (tgt := 135) hx hb dX7_rises_32 (by decide) (by omega) (by omega) (fun c_32 => ?_) (fun c_32 => ?_)
            · have eo : o_ = k_ := by omega
              rw [eo] at hP hD hr1
              have hP : va_P (zk_D s0) zk_Cl (zm_W s0 h f (va_up (va_up a 6 ((zp_rs (a 0) (a 6, a 7) (k_ + 1)).1)) 7 ((zp_rs (a 0) (a 6, a 7) (k_ + 1)).2))) H := hP
              have hD : va_D A (zm_W s0 h f (va_up (va_up a 6 ((zp_rs (a 0) (a 6, a 7) (k_ + 1)).1)) 7 ((zp_rs (a 0) (a 6, a 7) (k_ + 1)).2))) := hD
              have hr1 : (zp_rs (a 0) (a 6, a 7) (k_ + 1)).1 k_ ≤ k_ + 1 := hr1
              refine lv_aload_n hx hb dX7_rises_135 rfl (lv_at hl 3 rfl) ?_
              refine zm_get (f := f) fx 6 (by decide) q2247 (v := .ref (h 7)) rfl hP dX7_rises_136 ?_
              refine lv_iload_n hx hb dX7_rises_139 rfl (lv_at hl 1 rfl) ?_
              refine zn_ald hx hb hK hP 7 (g := (zp_rs (a 0) (a 6, a 7) (k_ + 1)).1) rfl (i := k_) (by omega) (by decide) dX7_rises_140 ?_
              refine lv_iload_n hx hb dX7_rises_141 rfl (lv_at hl 2 rfl) ?_
              refine zn_icmp_le (tgt := 154) hx hb dX7_rises_142 (by decide) (by omega) (by omega) (fun c_142 => ?_) (fun c_142 => ?_)
              · refine lv_iload_n hx hb dX7_rises_154 rfl (lv_at hl 2 rfl) ?_
                refine zn_top (y := nI (zp_most (a 0) (a 6, a 7) (k_ + 1))) (by rw [zp_most]; exact congrArg nI (by omega)) ?_
                refine lv_istore_n (lv' := [(1, .int (nI (zp_most (a 0) (a 6, a 7) (k_ + 1)))), (3, .int (nI (o_))), (2, .int (nI (k_))), (0, .ref (h 0))]) hx hb dX7_rises_155 rfl hl (by decide) rfl (fun ls hl => ?_)
                refine lv_iinc (v := nI (k_ + 1)) (lv' := [(2, .int (nI (k_ + 1))), (1, .int (nI (zp_most (a 0) (a 6, a 7) (k_ + 1)))), (3, .int (nI (o_))), (0, .ref (h 0))]) hx hb dX7_rises_156 hl (k := 2) rfl (nI_add k_ 1) (by decide) rfl (fun ls hl => ?_)
                refine lv_goto (tgt := 4) hx hb dX7_rises_159 (by decide) ?_
                exact ih_4 (k_ + 1) (by omega) (by omega) _ _ hP hD hS ls (lv_sub hl [0, 1, 3] rfl)
              · refine lv_aload_n hx hb dX7_rises_145 rfl (lv_at hl 3 rfl) ?_
                refine zm_get (f := f) fx 6 (by decide) q2247 (v := .ref (h 7)) rfl hP dX7_rises_146 ?_
                refine lv_iload_n hx hb dX7_rises_149 rfl (lv_at hl 1 rfl) ?_
                refine zn_ald hx hb hK hP 7 (g := (zp_rs (a 0) (a 6, a 7) (k_ + 1)).1) rfl (i := k_) (by omega) (by decide) dX7_rises_150 ?_
                refine lv_goto (tgt := 155) hx hb dX7_rises_151 (by decide) ?_
                refine zn_top (y := nI (zp_most (a 0) (a 6, a 7) (k_ + 1))) (by rw [zp_most]; exact congrArg nI (by omega)) ?_
                refine lv_istore_n (lv' := [(1, .int (nI (zp_most (a 0) (a 6, a 7) (k_ + 1)))), (3, .int (nI (o_))), (2, .int (nI (k_))), (0, .ref (h 0))]) hx hb dX7_rises_155 rfl hl (by decide) rfl (fun ls hl => ?_)
                refine lv_iinc (v := nI (k_ + 1)) (lv' := [(2, .int (nI (k_ + 1))), (1, .int (nI (zp_most (a 0) (a 6, a 7) (k_ + 1)))), (3, .int (nI (o_))), (0, .ref (h 0))]) hx hb dX7_rises_156 hl (k := 2) rfl (nI_add k_ 1) (by decide) rfl (fun ls hl => ?_)
                refine lv_goto (tgt := 4) hx hb dX7_rises_159 (by decide) ?_
                exact ih_4 (k_ + 1) (by omega) (by omega) _ _ hP hD hS ls (lv_sub hl [0, 1, 3] rfl)
            · have hp1 := okp o_ (by omega)
              have hp2 := okp k_ (by omega)
              have hr2 : (zp_ri (a 0) k_ (zp_rs (a 0) (a 6, a 7) k_) o_).1 o_ ≤ o_ + 1 := by rw [(zp_ri_out _ _ _ (by omega) o_).1]; exact zp_rs_le _ _ _ o_ (by omega)
              refine lv_aload_n hx hb dX7_rises_35 rfl (lv_at hl 3 rfl) ?_
              refine lv_iload_n hx hb dX7_rises_36 rfl (lv_at hl 0 rfl) ?_
              refine lv_iconst (v := nI (0)) hx hb dX7_rises_37 rfl ?_
              refine zk_callV0 fx (cm_p l s0 b h f (va_up (va_up a 6 ((zp_ri (a 0) k_ (zp_rs (a 0) (a 6, a 7) k_) o_).1)) 7 ((zp_ri (a 0) k_ (zp_rs (a 0) (a 6, a 7) k_) o_).2)) o_ 0 (by omega)) (lw_V q2605 q2607 qs71 q108 q2608) ⟨rfl, by decide, by decide, (show (parseMethodDescriptor yX7_p.desc).map (fun d => d.parameters.length) = some 2 by decide +kernel)⟩ ⟨zk_le hR.1 rfl, zk_le hR.2.1 rfl⟩ ⟨zk_le hR.2.2.1 rfl, zk_le hR.2.2.2 rfl⟩ hP hD hS 0 rfl rfl 0 rfl hl.1 rfl (Nat.le_of_ble_eq_true rfl) dX7_rises_38 (fun v_ w_ H locs hq_ hP hD hS => ?_)
              obtain ⟨rfl, rfl⟩ := hq_
              refine zn_st (st2 := [.int (nI ((a 0) (48 + 2 * o_)))]) rfl ?_
              refine lv_aload_n hx hb dX7_rises_41 rfl (lv_at hl 3 rfl) ?_
              refine lv_iload_n hx hb dX7_rises_42 rfl (lv_at hl 1 rfl) ?_
              refine lv_iconst (v := nI (0)) hx hb dX7_rises_43 rfl ?_
              refine zk_callV0 fx (cm_p l s0 b h f (va_up (va_up a 6 ((zp_ri (a 0) k_ (zp_rs (a 0) (a 6, a 7) k_) o_).1)) 7 ((zp_ri (a 0) k_ (zp_rs (a 0) (a 6, a 7) k_) o_).2)) k_ 0 (by omega)) (lw_V q2605 q2607 qs71 q108 q2608) ⟨rfl, by decide, by decide, (show (parseMethodDescriptor yX7_p.desc).map (fun d => d.parameters.length) = some 2 by decide +kernel)⟩ ⟨zk_le hR.1 rfl, zk_le hR.2.1 rfl⟩ ⟨zk_le hR.2.2.1 rfl, zk_le hR.2.2.2 rfl⟩ hP hD hS 0 rfl rfl 0 rfl hl.1 rfl (Nat.le_of_ble_eq_true rfl) dX7_rises_44 (fun v_ w_ H locs hq_ hP hD hS => ?_)
              obtain ⟨rfl, rfl⟩ := hq_
              refine zn_st (st2 := [.int (nI ((a 0) (48 + 2 * k_))), .int (nI ((a 0) (48 + 2 * o_)))]) rfl ?_
              refine zn_icmp_ge (tgt := 129) hx hb dX7_rises_47 (by decide) (by omega) (by omega) (fun c_47 => ?_) (fun c_47 => ?_)
              · have eq_ : zp_ri (a 0) k_ (zp_rs (a 0) (a 6, a 7) k_) (o_ + 1) = (zp_ri (a 0) k_ (zp_rs (a 0) (a 6, a 7) k_) o_) := by rw [zp_ri, if_pos (Or.inl (by omega))]
                have hP : va_P (zk_D s0) zk_Cl (zm_W s0 h f (va_up (va_up a 6 ((zp_ri (a 0) k_ (zp_rs (a 0) (a 6, a 7) k_) (o_ + 1)).1)) 7 ((zp_ri (a 0) k_ (zp_rs (a 0) (a 6, a 7) k_) (o_ + 1)).2))) H := by rw [eq_]; exact hP
                have hD : va_D A (zm_W s0 h f (va_up (va_up a 6 ((zp_ri (a 0) k_ (zp_rs (a 0) (a 6, a 7) k_) (o_ + 1)).1)) 7 ((zp_ri (a 0) k_ (zp_rs (a 0) (a 6, a 7) k_) (o_ + 1)).2))) := by rw [eq_]; exact hD
                refine lv_iinc (v := nI (o_ + 1)) (lv' := [(3, .int (nI (o_ + 1))), (2, .int (nI (k_))), (1, .int (nI (zp_most (a 0) (a 6, a 7) k_))), (0, .ref (h 0))]) hx hb dX7_rises_129 hl (k := 0) rfl (nI_add o_ 1) (by decide) rfl (fun ls hl => ?_)
                refine lv_goto (tgt := 30) hx hb dX7_rises_132 (by decide) ?_
                exact ih_30 (o_ + 1) (by omega) (by omega) _ _ hP hD hS ls (lv_sub hl [0, 1, 2, 3] rfl)
              · refine lv_aload_n hx hb dX7_rises_50 rfl (lv_at hl 3 rfl) ?_
                refine zm_get (f := f) fx 6 (by decide) q2247 (v := .ref (h 7)) rfl hP dX7_rises_51 ?_
                refine lv_iload_n hx hb dX7_rises_54 rfl (lv_at hl 0 rfl) ?_
                refine zn_ald hx hb hK hP 7 (g := (zp_ri (a 0) k_ (zp_rs (a 0) (a 6, a 7) k_) o_).1) rfl (i := o_) (by omega) (by decide) dX7_rises_55 ?_
                refine lv_iconst (v := nI (1)) hx hb dX7_rises_56 rfl ?_
                refine zn_iadd hx hb dX7_rises_57 ?_
                refine lv_aload_n hx hb dX7_rises_58 rfl (lv_at hl 3 rfl) ?_
                refine zm_get (f := f) fx 6 (by decide) q2247 (v := .ref (h 7)) rfl hP dX7_rises_59 ?_
                refine lv_iload_n hx hb dX7_rises_62 rfl (lv_at hl 1 rfl) ?_
                refine zn_ald hx hb hK hP 7 (g := (zp_ri (a 0) k_ (zp_rs (a 0) (a 6, a 7) k_) o_).1) rfl (i := k_) (by omega) (by decide) dX7_rises_63 ?_
                refine zn_icmp_ge (tgt := 70) hx hb dX7_rises_64 (by decide) (by omega) (by omega) (fun c_64 => ?_) (fun c_64 => ?_)
                · refine lv_aload_n hx hb dX7_rises_70 rfl (lv_at hl 3 rfl) ?_
                  refine zm_get (f := f) fx 7 (by decide) q2248 (v := .ref (h 8)) rfl hP dX7_rises_71 ?_
                  refine lv_iload_n hx hb dX7_rises_74 rfl (lv_at hl 1 rfl) ?_
                  refine lv_aload_n hx hb dX7_rises_75 rfl (lv_at hl 3 rfl) ?_
                  refine zm_get (f := f) fx 6 (by decide) q2247 (v := .ref (h 7)) rfl hP dX7_rises_76 ?_
                  refine lv_iload_n hx hb dX7_rises_79 rfl (lv_at hl 0 rfl) ?_
                  refine zn_ald hx hb hK hP 7 (g := (zp_ri (a 0) k_ (zp_rs (a 0) (a 6, a 7) k_) o_).1) rfl (i := o_) (by omega) (by decide) dX7_rises_80 ?_
                  refine lv_iconst (v := nI (1)) hx hb dX7_rises_81 rfl ?_
                  refine zn_iadd hx hb dX7_rises_82 ?_
                  refine lv_aload_n hx hb dX7_rises_83 rfl (lv_at hl 3 rfl) ?_
                  refine zm_get (f := f) fx 6 (by decide) q2247 (v := .ref (h 7)) rfl hP dX7_rises_84 ?_
                  refine lv_iload_n hx hb dX7_rises_87 rfl (lv_at hl 1 rfl) ?_
                  refine zn_ald hx hb hK hP 7 (g := (zp_ri (a 0) k_ (zp_rs (a 0) (a 6, a 7) k_) o_).1) rfl (i := k_) (by omega) (by decide) dX7_rises_88 ?_
                  refine zn_icmp_le (tgt := 101) hx hb dX7_rises_89 (by decide) (by omega) (by omega) (fun c_89 => ?_) (fun c_89 => ?_)
                  · refine lv_aload_n hx hb dX7_rises_101 rfl (lv_at hl 3 rfl) ?_
                    refine zm_get (f := f) fx 7 (by decide) q2248 (v := .ref (h 8)) rfl hP dX7_rises_102 ?_
                    refine lv_iload_n hx hb dX7_rises_105 rfl (lv_at hl 1 rfl) ?_
                    refine zn_ald hx hb hK hP 8 (g := (zp_ri (a 0) k_ (zp_rs (a 0) (a 6, a 7) k_) o_).2) rfl (i := k_) (by omega) (by decide) dX7_rises_106 ?_
                    refine lv_aload_n hx hb dX7_rises_107 rfl (lv_at hl 3 rfl) ?_
                    refine zm_get (f := f) fx 7 (by decide) q2248 (v := .ref (h 8)) rfl hP dX7_rises_108 ?_
                    refine lv_iload_n hx hb dX7_rises_111 rfl (lv_at hl 0 rfl) ?_
                    refine zn_ald hx hb hK hP 8 (g := (zp_ri (a 0) k_ (zp_rs (a 0) (a 6, a 7) k_) o_).2) rfl (i := o_) (by omega) (by decide) dX7_rises_112 ?_
                    refine zn_iadd hx hb dX7_rises_113 ?_
                    refine zn_ast hx hb hK hP hD hS 8 (n := 12) rfl (i := k_) (x := (((zp_ri (a 0) k_ (zp_rs (a 0) (a 6, a 7) k_) o_).2) k_) + (((zp_ri (a 0) k_ (zp_rs (a 0) (a 6, a 7) k_) o_).2) o_)) (by omega) (by decide) dX7_rises_114 (zm_seta 7 (by decide) 12 rfl (va_up ((zp_ri (a 0) k_ (zp_rs (a 0) (a 6, a 7) k_) o_).2) k_ ((((zp_ri (a 0) k_ (zp_rs (a 0) (a 6, a 7) k_) o_).2) k_) + (((zp_ri (a 0) k_ (zp_rs (a 0) (a 6, a 7) k_) o_).2) o_)))) (fun H locs hP hD hS => ?_)
                    obtain ⟨n2, en2⟩ : ∃ z_, z_ = va_up ((zp_ri (a 0) k_ (zp_rs (a 0) (a 6, a 7) k_) o_).2) k_ ((((zp_ri (a 0) k_ (zp_rs (a 0) (a 6, a 7) k_) o_).2) k_) + (((zp_ri (a 0) k_ (zp_rs (a 0) (a 6, a 7) k_) o_).2) o_)) := ⟨_, rfl⟩
                    rw [← en2] at hP hD
                    refine lv_aload_n hx hb dX7_rises_115 rfl (lv_at hl 3 rfl) ?_
                    refine zm_get (f := f) fx 6 (by decide) q2247 (v := .ref (h 7)) rfl hP dX7_rises_116 ?_
                    refine lv_iload_n hx hb dX7_rises_119 rfl (lv_at hl 1 rfl) ?_
                    refine lv_aload_n hx hb dX7_rises_120 rfl (lv_at hl 3 rfl) ?_
                    refine zm_get (f := f) fx 6 (by decide) q2247 (v := .ref (h 7)) rfl hP dX7_rises_121 ?_
                    refine lv_iload_n hx hb dX7_rises_124 rfl (lv_at hl 0 rfl) ?_
                    refine zn_ald hx hb hK hP 7 (g := (zp_ri (a 0) k_ (zp_rs (a 0) (a 6, a 7) k_) o_).1) rfl (i := o_) (by omega) (by decide) dX7_rises_125 ?_
                    refine lv_iconst (v := nI (1)) hx hb dX7_rises_126 rfl ?_
                    refine zn_iadd hx hb dX7_rises_127 ?_
                    refine zn_ast hx hb hK hP hD hS 7 (n := 12) rfl (i := k_) (x := (((zp_ri (a 0) k_ (zp_rs (a 0) (a 6, a 7) k_) o_).1) o_) + 1) (by omega) (by decide) dX7_rises_128 (zm_seta 6 (by decide) 12 rfl (va_up ((zp_ri (a 0) k_ (zp_rs (a 0) (a 6, a 7) k_) o_).1) k_ ((((zp_ri (a 0) k_ (zp_rs (a 0) (a 6, a 7) k_) o_).1) o_) + 1))) (fun H locs hP hD hS => ?_)
                    obtain ⟨n3, en3⟩ : ∃ z_, z_ = va_up ((zp_ri (a 0) k_ (zp_rs (a 0) (a 6, a 7) k_) o_).1) k_ ((((zp_ri (a 0) k_ (zp_rs (a 0) (a 6, a 7) k_) o_).1) o_) + 1) := ⟨_, rfl⟩
                    rw [← en3] at hP hD
                    have eq_ : zp_ri (a 0) k_ (zp_rs (a 0) (a 6, a 7) k_) (o_ + 1) = (va_up (zp_ri (a 0) k_ (zp_rs (a 0) (a 6, a 7) k_) o_).1 k_ ((zp_ri (a 0) k_ (zp_rs (a 0) (a 6, a 7) k_) o_).1 o_ + 1), va_up (zp_ri (a 0) k_ (zp_rs (a 0) (a 6, a 7) k_) o_).2 k_ (if (zp_ri (a 0) k_ (zp_rs (a 0) (a 6, a 7) k_) o_).1 k_ < (zp_ri (a 0) k_ (zp_rs (a 0) (a 6, a 7) k_) o_).1 o_ + 1 then (zp_ri (a 0) k_ (zp_rs (a 0) (a 6, a 7) k_) o_).2 o_ else (zp_ri (a 0) k_ (zp_rs (a 0) (a 6, a 7) k_) o_).2 k_ + (zp_ri (a 0) k_ (zp_rs (a 0) (a 6, a 7) k_) o_).2 o_)) := by rw [zp_ri, if_neg (by omega)]
                    rw [if_neg (by omega)] at eq_
                    have hP : va_P (zk_D s0) zk_Cl (zm_W s0 h f (va_up (va_up a 6 ((zp_ri (a 0) k_ (zp_rs (a 0) (a 6, a 7) k_) (o_ + 1)).1)) 7 ((zp_ri (a 0) k_ (zp_rs (a 0) (a 6, a 7) k_) (o_ + 1)).2))) H := by rw [eq_, ← en2, ← en3]; exact hP
                    have hD : va_D A (zm_W s0 h f (va_up (va_up a 6 ((zp_ri (a 0) k_ (zp_rs (a 0) (a 6, a 7) k_) (o_ + 1)).1)) 7 ((zp_ri (a 0) k_ (zp_rs (a 0) (a 6, a 7) k_) (o_ + 1)).2))) := by rw [eq_, ← en2, ← en3]; exact hD
                    refine lv_iinc (v := nI (o_ + 1)) (lv' := [(3, .int (nI (o_ + 1))), (2, .int (nI (k_))), (1, .int (nI (zp_most (a 0) (a 6, a 7) k_))), (0, .ref (h 0))]) hx hb dX7_rises_129 hl (k := 0) rfl (nI_add o_ 1) (by decide) rfl (fun ls hl => ?_)
                    refine lv_goto (tgt := 30) hx hb dX7_rises_132 (by decide) ?_
                    exact ih_30 (o_ + 1) (by omega) (by omega) _ _ hP hD hS ls (lv_sub hl [0, 1, 2, 3] rfl)
                  · refine lv_aload_n hx hb dX7_rises_92 rfl (lv_at hl 3 rfl) ?_
                    refine zm_get (f := f) fx 7 (by decide) q2248 (v := .ref (h 8)) rfl hP dX7_rises_93 ?_
                    refine lv_iload_n hx hb dX7_rises_96 rfl (lv_at hl 0 rfl) ?_
                    refine zn_ald hx hb hK hP 8 (g := (zp_ri (a 0) k_ (zp_rs (a 0) (a 6, a 7) k_) o_).2) rfl (i := o_) (by omega) (by decide) dX7_rises_97 ?_
                    refine lv_goto (tgt := 114) hx hb dX7_rises_98 (by decide) ?_
                    refine zn_ast hx hb hK hP hD hS 8 (n := 12) rfl (i := k_) (x := ((zp_ri (a 0) k_ (zp_rs (a 0) (a 6, a 7) k_) o_).2) o_) (by omega) (by decide) dX7_rises_114 (zm_seta 7 (by decide) 12 rfl (va_up ((zp_ri (a 0) k_ (zp_rs (a 0) (a 6, a 7) k_) o_).2) k_ (((zp_ri (a 0) k_ (zp_rs (a 0) (a 6, a 7) k_) o_).2) o_))) (fun H locs hP hD hS => ?_)
                    obtain ⟨n2, en2⟩ : ∃ z_, z_ = va_up ((zp_ri (a 0) k_ (zp_rs (a 0) (a 6, a 7) k_) o_).2) k_ (((zp_ri (a 0) k_ (zp_rs (a 0) (a 6, a 7) k_) o_).2) o_) := ⟨_, rfl⟩
                    rw [← en2] at hP hD
                    refine lv_aload_n hx hb dX7_rises_115 rfl (lv_at hl 3 rfl) ?_
                    refine zm_get (f := f) fx 6 (by decide) q2247 (v := .ref (h 7)) rfl hP dX7_rises_116 ?_
                    refine lv_iload_n hx hb dX7_rises_119 rfl (lv_at hl 1 rfl) ?_
                    refine lv_aload_n hx hb dX7_rises_120 rfl (lv_at hl 3 rfl) ?_
                    refine zm_get (f := f) fx 6 (by decide) q2247 (v := .ref (h 7)) rfl hP dX7_rises_121 ?_
                    refine lv_iload_n hx hb dX7_rises_124 rfl (lv_at hl 0 rfl) ?_
                    refine zn_ald hx hb hK hP 7 (g := (zp_ri (a 0) k_ (zp_rs (a 0) (a 6, a 7) k_) o_).1) rfl (i := o_) (by omega) (by decide) dX7_rises_125 ?_
                    refine lv_iconst (v := nI (1)) hx hb dX7_rises_126 rfl ?_
                    refine zn_iadd hx hb dX7_rises_127 ?_
                    refine zn_ast hx hb hK hP hD hS 7 (n := 12) rfl (i := k_) (x := (((zp_ri (a 0) k_ (zp_rs (a 0) (a 6, a 7) k_) o_).1) o_) + 1) (by omega) (by decide) dX7_rises_128 (zm_seta 6 (by decide) 12 rfl (va_up ((zp_ri (a 0) k_ (zp_rs (a 0) (a 6, a 7) k_) o_).1) k_ ((((zp_ri (a 0) k_ (zp_rs (a 0) (a 6, a 7) k_) o_).1) o_) + 1))) (fun H locs hP hD hS => ?_)
                    obtain ⟨n3, en3⟩ : ∃ z_, z_ = va_up ((zp_ri (a 0) k_ (zp_rs (a 0) (a 6, a 7) k_) o_).1) k_ ((((zp_ri (a 0) k_ (zp_rs (a 0) (a 6, a 7) k_) o_).1) o_) + 1) := ⟨_, rfl⟩
                    rw [← en3] at hP hD
                    have eq_ : zp_ri (a 0) k_ (zp_rs (a 0) (a 6, a 7) k_) (o_ + 1) = (va_up (zp_ri (a 0) k_ (zp_rs (a 0) (a 6, a 7) k_) o_).1 k_ ((zp_ri (a 0) k_ (zp_rs (a 0) (a 6, a 7) k_) o_).1 o_ + 1), va_up (zp_ri (a 0) k_ (zp_rs (a 0) (a 6, a 7) k_) o_).2 k_ (if (zp_ri (a 0) k_ (zp_rs (a 0) (a 6, a 7) k_) o_).1 k_ < (zp_ri (a 0) k_ (zp_rs (a 0) (a 6, a 7) k_) o_).1 o_ + 1 then (zp_ri (a 0) k_ (zp_rs (a 0) (a 6, a 7) k_) o_).2 o_ else (zp_ri (a 0) k_ (zp_rs (a 0) (a 6, a 7) k_) o_).2 k_ + (zp_ri (a 0) k_ (zp_rs (a 0) (a 6, a 7) k_) o_).2 o_)) := by rw [zp_ri, if_neg (by omega)]
                    rw [if_pos (by omega)] at eq_
                    have hP : va_P (zk_D s0) zk_Cl (zm_W s0 h f (va_up (va_up a 6 ((zp_ri (a 0) k_ (zp_rs (a 0) (a 6, a 7) k_) (o_ + 1)).1)) 7 ((zp_ri (a 0) k_ (zp_rs (a 0) (a 6, a 7) k_) (o_ + 1)).2))) H := by rw [eq_, ← en2, ← en3]; exact hP
                    have hD : va_D A (zm_W s0 h f (va_up (va_up a 6 ((zp_ri (a 0) k_ (zp_rs (a 0) (a 6, a 7) k_) (o_ + 1)).1)) 7 ((zp_ri (a 0) k_ (zp_rs (a 0) (a 6, a 7) k_) (o_ + 1)).2))) := by rw [eq_, ← en2, ← en3]; exact hD
                    refine lv_iinc (v := nI (o_ + 1)) (lv' := [(3, .int (nI (o_ + 1))), (2, .int (nI (k_))), (1, .int (nI (zp_most (a 0) (a 6, a 7) k_))), (0, .ref (h 0))]) hx hb dX7_rises_129 hl (k := 0) rfl (nI_add o_ 1) (by decide) rfl (fun ls hl => ?_)
                    refine lv_goto (tgt := 30) hx hb dX7_rises_132 (by decide) ?_
                    exact ih_30 (o_ + 1) (by omega) (by omega) _ _ hP hD hS ls (lv_sub hl [0, 1, 2, 3] rfl)
                · refine lv_goto (tgt := 129) hx hb dX7_rises_67 (by decide) ?_
                  have eq_ : zp_ri (a 0) k_ (zp_rs (a 0) (a 6, a 7) k_) (o_ + 1) = (zp_ri (a 0) k_ (zp_rs (a 0) (a 6, a 7) k_) o_) := by rw [zp_ri, if_pos (Or.inr (by omega))]
                  have hP : va_P (zk_D s0) zk_Cl (zm_W s0 h f (va_up (va_up a 6 ((zp_ri (a 0) k_ (zp_rs (a 0) (a 6, a 7) k_) (o_ + 1)).1)) 7 ((zp_ri (a 0) k_ (zp_rs (a 0) (a 6, a 7) k_) (o_ + 1)).2))) H := by rw [eq_]; exact hP
                  have hD : va_D A (zm_W s0 h f (va_up (va_up a 6 ((zp_ri (a 0) k_ (zp_rs (a 0) (a 6, a 7) k_) (o_ + 1)).1)) 7 ((zp_ri (a 0) k_ (zp_rs (a 0) (a 6, a 7) k_) (o_ + 1)).2))) := by rw [eq_]; exact hD
                  refine lv_iinc (v := nI (o_ + 1)) (lv' := [(3, .int (nI (o_ + 1))), (2, .int (nI (k_))), (1, .int (nI (zp_most (a 0) (a 6, a 7) k_))), (0, .ref (h 0))]) hx hb dX7_rises_129 hl (k := 0) rfl (nI_add o_ 1) (by decide) rfl (fun ls hl => ?_)
                  refine lv_goto (tgt := 30) hx hb dX7_rises_132 (by decide) ?_
                  exact ih_30 (o_ + 1) (by omega) (by omega) _ _ hP hD hS ls (lv_sub hl [0, 1, 2, 3] rfl)
        exact lp_30 _ 0 (Nat.lt_succ_self _) (by omega) _ _ hP hD hS ls (lv_sub hl [0, 1, 2, 3] rfl)
  exact lp_4 _ 0 (Nat.lt_succ_self _) (by omega) _ _ hP hD hS ls (lv_sub hl [0, 1, 2] rfl)
set_option maxHeartbeats 4000000 in
set_option maxRecDepth 100000 in
theorem cm_longestRise (l : Launch) (s0 : State) (b : Nat) (h f : Nat → Nat) (a : Nat → Nat → Nat) (ok : zp_Ok (a 0)) : zk_C l s0 b yX7_longestRise (ws_ yX7_longestRise cX7_longestRise 1 (some .int)) 2 45 0 0 [.ref (h 0)] (zm_W s0 h f a) (fun r w => zm_N s0 h f a 0 (.int (nI (zp_rise (a 0)))) r w) := by
  refine zk_mk (by decide) rfl ?_
  intro p e s m below meth c A R args Q fx hR eQ hP hD hS ls hl
  have hx := fx.1
  have hb := fx.2.1
  have hK := fx.2.2.2.2.2.2.2.2.1.K
  have hl : lv_has ls 1 [(0, .ref (h 0))] := hl
  refine lv_aload_n hx hb dX7_longestRise_0 rfl (lv_at hl 0 rfl) ?_
  refine lv_aload_n hx hb dX7_longestRise_1 rfl (lv_at hl 0 rfl) ?_
  refine zk_callV0 fx (cm_rises l s0 b h f a ok) (lw_V q2617 q2619 qs72 q108 q2620) ⟨rfl, by decide, by decide, (show (parseMethodDescriptor yX7_rises.desc).map (fun d => d.parameters.length) = some 0 by decide +kernel)⟩ ⟨zk_le hR.1 rfl, zk_le hR.2.1 rfl⟩ ⟨zk_le hR.2.2.1 rfl, zk_le hR.2.2.2 rfl⟩ hP hD hS 0 rfl rfl 0 rfl hl.1 rfl (Nat.le_of_ble_eq_true rfl) dX7_longestRise_2 (fun v_ w_ H locs hq_ hP hD hS => ?_)
  obtain ⟨rfl, rfl⟩ := hq_
  refine zn_st (st2 := [.int (nI (zp_rise (a 0))), .ref (h 0)]) rfl ?_
  refine zk_callV0 fx (cm_plain l s0 b h f (va_up (va_up a 6 ((zp_rs (a 0) (a 6, a 7) ((a 0) 1)).1)) 7 ((zp_rs (a 0) (a 6, a 7) ((a 0) 1)).2)) (nI (zp_rise (a 0)))) (lw_V q2386 q2388 qs43 q108 q2389) ⟨rfl, by decide, by decide, (show (parseMethodDescriptor yX7_plain.desc).map (fun d => d.parameters.length) = some 1 by decide +kernel)⟩ ⟨zk_le hR.1 rfl, zk_le hR.2.1 rfl⟩ ⟨zk_le hR.2.2.1 rfl, zk_le hR.2.2.2 rfl⟩ hP hD hS 0 rfl rfl 0 rfl hl.1 rfl (Nat.le_of_ble_eq_true rfl) dX7_longestRise_5 (fun v_ w_ H locs hq_ hP hD hS => ?_)
  obtain ⟨rfl, rfl⟩ := hq_
  refine zn_st (st2 := [.int (nI (zp_rise (a 0)))]) rfl ?_
  exact zk_reti (v := nI (zp_rise (a 0))) fx eQ rfl (rfl) hP hD hS (Nat.le_of_ble_eq_true rfl) (Nat.le_of_ble_eq_true rfl) dX7_longestRise_8 (⟨rfl, _, _, rfl, ⟨rfl, rfl, rfl, rfl, rfl, rfl, rfl, rfl⟩, ⟨rfl, rfl⟩, rfl, rfl⟩)
set_option maxHeartbeats 4000000 in
set_option maxRecDepth 100000 in
theorem cm_riseByEnds (l : Launch) (s0 : State) (b : Nat) (h f : Nat → Nat) (a : Nat → Nat → Nat) (ok : zp_Ok (a 0)) : zk_C l s0 b yX7_riseByEnds (ws_ yX7_riseByEnds cX7_riseByEnds 1 (some .int)) 2 45 0 0 [.ref (h 0)] (zm_W s0 h f a) (fun r w => zm_N s0 h f a 0 (.int (nI (zp_rise (a 0)))) r w) := by
  refine zk_mk (by decide) rfl ?_
  intro p e s m below meth c A R args Q fx hR eQ hP hD hS ls hl
  have hx := fx.1
  have hb := fx.2.1
  have hK := fx.2.2.2.2.2.2.2.2.1.K
  have hl : lv_has ls 1 [(0, .ref (h 0))] := hl
  refine lv_aload_n hx hb dX7_riseByEnds_0 rfl (lv_at hl 0 rfl) ?_
  refine lv_aload_n hx hb dX7_riseByEnds_1 rfl (lv_at hl 0 rfl) ?_
  refine zk_callV0 fx (cm_rises l s0 b h f a ok) (lw_V q2617 q2619 qs72 q108 q2620) ⟨rfl, by decide, by decide, (show (parseMethodDescriptor yX7_rises.desc).map (fun d => d.parameters.length) = some 0 by decide +kernel)⟩ ⟨zk_le hR.1 rfl, zk_le hR.2.1 rfl⟩ ⟨zk_le hR.2.2.1 rfl, zk_le hR.2.2.2 rfl⟩ hP hD hS 0 rfl rfl 0 rfl hl.1 rfl (Nat.le_of_ble_eq_true rfl) dX7_riseByEnds_2 (fun v_ w_ H locs hq_ hP hD hS => ?_)
  obtain ⟨rfl, rfl⟩ := hq_
  refine zn_st (st2 := [.int (nI (zp_rise (a 0))), .ref (h 0)]) rfl ?_
  refine zk_callV0 fx (cm_plain l s0 b h f (va_up (va_up a 6 ((zp_rs (a 0) (a 6, a 7) ((a 0) 1)).1)) 7 ((zp_rs (a 0) (a 6, a 7) ((a 0) 1)).2)) (nI (zp_rise (a 0)))) (lw_V q2386 q2388 qs43 q108 q2389) ⟨rfl, by decide, by decide, (show (parseMethodDescriptor yX7_plain.desc).map (fun d => d.parameters.length) = some 1 by decide +kernel)⟩ ⟨zk_le hR.1 rfl, zk_le hR.2.1 rfl⟩ ⟨zk_le hR.2.2.1 rfl, zk_le hR.2.2.2 rfl⟩ hP hD hS 0 rfl rfl 0 rfl hl.1 rfl (Nat.le_of_ble_eq_true rfl) dX7_riseByEnds_5 (fun v_ w_ H locs hq_ hP hD hS => ?_)
  obtain ⟨rfl, rfl⟩ := hq_
  refine zn_st (st2 := [.int (nI (zp_rise (a 0)))]) rfl ?_
  exact zk_reti (v := nI (zp_rise (a 0))) fx eQ rfl (rfl) hP hD hS (Nat.le_of_ble_eq_true rfl) (Nat.le_of_ble_eq_true rfl) dX7_riseByEnds_8 (⟨rfl, _, _, rfl, ⟨rfl, rfl, rfl, rfl, rfl, rfl, rfl, rfl⟩, ⟨rfl, rfl⟩, rfl, rfl⟩)
set_option maxHeartbeats 4000000 in
set_option maxRecDepth 100000 in
theorem cm_riseCount (l : Launch) (s0 : State) (b : Nat) (h f : Nat → Nat) (a : Nat → Nat → Nat) (ok : zp_Ok (a 0)) : zk_C l s0 b yX7_riseCount (ws_ yX7_riseCount cX7_riseCount 4 (some .int)) 2 45 0 0 [.ref (h 0)] (zm_W s0 h f a) (fun r w => zm_N s0 h f a 0 (.int (nI (zp_rcnt (a 0)))) r w) := by
  refine zk_mk (by decide) rfl ?_
  intro p e s m below meth c A R args Q fx hR eQ hP hD hS ls hl
  have hx := fx.1
  have hb := fx.2.1
  have hK := fx.2.2.2.2.2.2.2.2.1.K
  have hl : lv_has ls 4 [(0, .ref (h 0))] := hl
  obtain ⟨ok0, ok1, ok2, ok3, ok4, ok5, ok6, okw, oke, okp⟩ := id ok
  have hml := zp_most_le (a 0) zp_p0 (a 0 1)
  have hri : zp_rise (a 0) ≤ 12 := by unfold zp_rise; omega
  refine lv_aload_n hx hb dX7_riseCount_0 rfl (lv_at hl 0 rfl) ?_
  refine lv_iconst (v := nI (0)) hx hb dX7_riseCount_1 rfl ?_
  refine zm_put fx 9 (by decide) q2250 (v := 0) hP hD hS dX7_riseCount_2 (fun H locs hP hD hS => ?_)
  have hP : va_P (zk_D s0) zk_Cl (zm_W s0 h (va_up f 9 (0)) a) H := hP
  refine lv_aload_n hx hb dX7_riseCount_5 rfl (lv_at hl 0 rfl) ?_
  refine zk_callV0 fx (cm_rises l s0 b h (va_up f 9 (0)) a ok) (lw_V q2617 q2619 qs72 q108 q2620) ⟨rfl, by decide, by decide, (show (parseMethodDescriptor yX7_rises.desc).map (fun d => d.parameters.length) = some 0 by decide +kernel)⟩ ⟨zk_le hR.1 rfl, zk_le hR.2.1 rfl⟩ ⟨zk_le hR.2.2.1 rfl, zk_le hR.2.2.2 rfl⟩ hP hD hS 0 rfl rfl 0 rfl hl.1 rfl (Nat.le_of_ble_eq_true rfl) dX7_riseCount_6 (fun v_ w_ H locs hq_ hP hD hS => ?_)
  obtain ⟨rfl, rfl⟩ := hq_
  refine zn_st (st2 := [.int (nI (zp_rise (a 0)))]) rfl ?_
  refine lv_istore_n (lv' := [(1, .int (nI (zp_rise (a 0)))), (0, .ref (h 0))]) hx hb dX7_riseCount_9 rfl hl (by decide) rfl (fun ls hl => ?_)
  refine lv_iload_n hx hb dX7_riseCount_10 rfl (lv_at hl 0 rfl) ?_
  refine zn_if_ne (tgt := 18) hx hb dX7_riseCount_11 (by decide) (by omega) (fun c_11 => ?_) (fun c_11 => ?_)
  · refine lv_iconst (v := nI (0)) hx hb dX7_riseCount_18 rfl ?_
    refine zn_top (y := nI (zp_rc (zp_rs (a 0) (a 6, a 7) (a 0 1)) (zp_rise (a 0)) 0)) (by rw [zp_rc, if_neg c_11]) ?_
    refine lv_istore_n (lv' := [(2, .int (nI (zp_rc (zp_rs (a 0) (a 6, a 7) (a 0 1)) (zp_rise (a 0)) 0))), (1, .int (nI (zp_rise (a 0)))), (0, .ref (h 0))]) hx hb dX7_riseCount_19 rfl hl (by decide) rfl (fun ls hl => ?_)
    refine lv_iconst (v := nI (0)) hx hb dX7_riseCount_20 rfl ?_
    refine lv_istore_n (lv' := [(3, .int (nI (0))), (2, .int (nI (zp_rc (zp_rs (a 0) (a 6, a 7) (a 0 1)) (zp_rise (a 0)) 0))), (1, .int (nI (zp_rise (a 0)))), (0, .ref (h 0))]) hx hb dX7_riseCount_21 rfl hl (by decide) rfl (fun ls hl => ?_)
    have lp_22 : ∀ (n_ : Nat) (k_ : Nat), (a 0 1 - k_) < n_ → (k_ ≤ a 0 1) → ∀ (H : Heap) (locs : List Loc), va_P (zk_D s0) zk_Cl (zm_W s0 h (va_up f 9 (0)) (va_up (va_up a 6 ((zp_rs (a 0) (a 6, a 7) ((a 0) 1)).1)) 7 ((zp_rs (a 0) (a 6, a 7) ((a 0) 1)).2))) H → va_D A (zm_W s0 h (va_up f 9 (0)) (va_up (va_up a 6 ((zp_rs (a 0) (a 6, a 7) ((a 0) 1)).1)) 7 ((zp_rs (a 0) (a 6, a 7) ((a 0) 1)).2))) → va_S A s.heap H locs → ∀ ls : Array Slot, lv_has ls 4 [(3, .int (nI (k_))), (2, .int (nI (zp_rc (zp_rs (a 0) (a 6, a 7) (a 0 1)) (zp_rise (a 0)) k_))), (1, .int (nI (zp_rise (a 0)))), (0, .ref (h 0))] → W p l e R s m args below meth c H locs 0 0 Q (F0 m 22 ls []) := by
      intro n_
      induction n_ with
      | zero => intro k_ hn_; exact absurd hn_ (Nat.not_lt_zero _)
      | succ n_ ih_22 =>
        intro k_ hn_ hk H locs hP hD hS ls hl
        refine lv_iload_n hx hb dX7_riseCount_22 rfl (lv_at hl 0 rfl) ?_
        refine lv_aload_n hx hb dX7_riseCount_23 rfl (lv_at hl 3 rfl) ?_
        refine zm_get (f := (va_up f 9 (0))) fx 0 (by decide) q2241 (v := .ref (h 1)) rfl hP dX7_riseCount_24 ?_
        refine lv_iconst (v := nI (1)) hx hb dX7_riseCount_27 rfl ?_
        refine zn_ald hx hb hK hP 1 (g := a 0) rfl (i := 1) (by omega) (by decide) dX7_riseCount_28 ?_
        refine zn_icmp_ge (tgt := 61) hx hb dX7_riseCount_29 (by decide) (by omega) (by omega) (fun c_29 => ?_) (fun c_29 => ?_)
        · refine lv_iload_n hx hb dX7_riseCount_61 rfl (lv_at hl 1 rfl) ?_
          exact zk_reti (v := nI (zp_rc (zp_rs (a 0) (a 6, a 7) (a 0 1)) (zp_rise (a 0)) k_)) fx eQ rfl (rfl) hP hD hS (Nat.le_of_ble_eq_true rfl) (Nat.le_of_ble_eq_true rfl) dX7_riseCount_62 (⟨by rw [show k_ = a 0 1 by omega, zp_rc_irr _ (zp_rs (a 0) zp_p0 (a 0 1)) _ _ (zp_rs_irr _ _ _ _)]; rfl, _, _, rfl, ⟨rfl, rfl, rfl, rfl, rfl, rfl, rfl, rfl⟩, ⟨rfl, rfl⟩, rfl, rfl⟩)
        · have hl9 := zp_rs_le (a 0) (a 6, a 7) (a 0 1) k_ (by omega)
          refine lv_iload_n hx hb dX7_riseCount_32 rfl (lv_at hl 1 rfl) ?_
          refine lv_aload_n hx hb dX7_riseCount_33 rfl (lv_at hl 3 rfl) ?_
          refine zm_get (f := (va_up f 9 (0))) fx 6 (by decide) q2247 (v := .ref (h 7)) rfl hP dX7_riseCount_34 ?_
          refine lv_iload_n hx hb dX7_riseCount_37 rfl (lv_at hl 0 rfl) ?_
          refine zn_ald hx hb hK hP 7 (g := (zp_rs (a 0) (a 6, a 7) ((a 0) 1)).1) rfl (i := k_) (by omega) (by decide) dX7_riseCount_38 ?_
          refine lv_iload_n hx hb dX7_riseCount_39 rfl (lv_at hl 2 rfl) ?_
          refine zn_icmp_ne (tgt := 52) hx hb dX7_riseCount_40 (by decide) (by omega) (by omega) (fun c_40 => ?_) (fun c_40 => ?_)
          · refine lv_iconst (v := nI (0)) hx hb dX7_riseCount_52 rfl ?_
            refine zn_iadd hx hb dX7_riseCount_53 ?_
            refine zn_top (y := nI (zp_rc (zp_rs (a 0) (a 6, a 7) (a 0 1)) (zp_rise (a 0)) (k_ + 1))) (by rw [zp_rc, if_neg c_40]) ?_
            refine lv_istore_n (lv' := [(2, .int (nI (zp_rc (zp_rs (a 0) (a 6, a 7) (a 0 1)) (zp_rise (a 0)) (k_ + 1)))), (3, .int (nI (k_))), (1, .int (nI (zp_rise (a 0)))), (0, .ref (h 0))]) hx hb dX7_riseCount_54 rfl hl (by decide) rfl (fun ls hl => ?_)
            refine lv_iinc (v := nI (k_ + 1)) (lv' := [(3, .int (nI (k_ + 1))), (2, .int (nI (zp_rc (zp_rs (a 0) (a 6, a 7) (a 0 1)) (zp_rise (a 0)) (k_ + 1)))), (1, .int (nI (zp_rise (a 0)))), (0, .ref (h 0))]) hx hb dX7_riseCount_55 hl (k := 1) rfl (nI_add k_ 1) (by decide) rfl (fun ls hl => ?_)
            refine lv_goto (tgt := 22) hx hb dX7_riseCount_58 (by decide) ?_
            exact ih_22 (k_ + 1) (by omega) (by omega) _ _ hP hD hS ls (lv_sub hl [0, 1, 2, 3] rfl)
          · refine lv_aload_n hx hb dX7_riseCount_43 rfl (lv_at hl 3 rfl) ?_
            refine zm_get (f := (va_up f 9 (0))) fx 7 (by decide) q2248 (v := .ref (h 8)) rfl hP dX7_riseCount_44 ?_
            refine lv_iload_n hx hb dX7_riseCount_47 rfl (lv_at hl 0 rfl) ?_
            refine zn_ald hx hb hK hP 8 (g := (zp_rs (a 0) (a 6, a 7) ((a 0) 1)).2) rfl (i := k_) (by omega) (by decide) dX7_riseCount_48 ?_
            refine lv_goto (tgt := 53) hx hb dX7_riseCount_49 (by decide) ?_
            refine zn_iadd hx hb dX7_riseCount_53 ?_
            refine zn_top (y := nI (zp_rc (zp_rs (a 0) (a 6, a 7) (a 0 1)) (zp_rise (a 0)) (k_ + 1))) (by rw [zp_rc, if_pos c_40]) ?_
            refine lv_istore_n (lv' := [(2, .int (nI (zp_rc (zp_rs (a 0) (a 6, a 7) (a 0 1)) (zp_rise (a 0)) (k_ + 1)))), (3, .int (nI (k_))), (1, .int (nI (zp_rise (a 0)))), (0, .ref (h 0))]) hx hb dX7_riseCount_54 rfl hl (by decide) rfl (fun ls hl => ?_)
            refine lv_iinc (v := nI (k_ + 1)) (lv' := [(3, .int (nI (k_ + 1))), (2, .int (nI (zp_rc (zp_rs (a 0) (a 6, a 7) (a 0 1)) (zp_rise (a 0)) (k_ + 1)))), (1, .int (nI (zp_rise (a 0)))), (0, .ref (h 0))]) hx hb dX7_riseCount_55 hl (k := 1) rfl (nI_add k_ 1) (by decide) rfl (fun ls hl => ?_)
            refine lv_goto (tgt := 22) hx hb dX7_riseCount_58 (by decide) ?_
            exact ih_22 (k_ + 1) (by omega) (by omega) _ _ hP hD hS ls (lv_sub hl [0, 1, 2, 3] rfl)
    exact lp_22 _ 0 (Nat.lt_succ_self _) (by omega) _ _ hP hD hS ls (lv_sub hl [0, 1, 2, 3] rfl)
  · refine lv_iconst (v := nI (1)) hx hb dX7_riseCount_14 rfl ?_
    refine lv_goto (tgt := 19) hx hb dX7_riseCount_15 (by decide) ?_
    refine zn_top (y := nI (zp_rc (zp_rs (a 0) (a 6, a 7) (a 0 1)) (zp_rise (a 0)) 0)) (by rw [zp_rc, if_pos c_11]) ?_
    refine lv_istore_n (lv' := [(2, .int (nI (zp_rc (zp_rs (a 0) (a 6, a 7) (a 0 1)) (zp_rise (a 0)) 0))), (1, .int (nI (zp_rise (a 0)))), (0, .ref (h 0))]) hx hb dX7_riseCount_19 rfl hl (by decide) rfl (fun ls hl => ?_)
    refine lv_iconst (v := nI (0)) hx hb dX7_riseCount_20 rfl ?_
    refine lv_istore_n (lv' := [(3, .int (nI (0))), (2, .int (nI (zp_rc (zp_rs (a 0) (a 6, a 7) (a 0 1)) (zp_rise (a 0)) 0))), (1, .int (nI (zp_rise (a 0)))), (0, .ref (h 0))]) hx hb dX7_riseCount_21 rfl hl (by decide) rfl (fun ls hl => ?_)
    have lp_22 : ∀ (n_ : Nat) (k_ : Nat), (a 0 1 - k_) < n_ → (k_ ≤ a 0 1) → ∀ (H : Heap) (locs : List Loc), va_P (zk_D s0) zk_Cl (zm_W s0 h (va_up f 9 (0)) (va_up (va_up a 6 ((zp_rs (a 0) (a 6, a 7) ((a 0) 1)).1)) 7 ((zp_rs (a 0) (a 6, a 7) ((a 0) 1)).2))) H → va_D A (zm_W s0 h (va_up f 9 (0)) (va_up (va_up a 6 ((zp_rs (a 0) (a 6, a 7) ((a 0) 1)).1)) 7 ((zp_rs (a 0) (a 6, a 7) ((a 0) 1)).2))) → va_S A s.heap H locs → ∀ ls : Array Slot, lv_has ls 4 [(3, .int (nI (k_))), (2, .int (nI (zp_rc (zp_rs (a 0) (a 6, a 7) (a 0 1)) (zp_rise (a 0)) k_))), (1, .int (nI (zp_rise (a 0)))), (0, .ref (h 0))] → W p l e R s m args below meth c H locs 0 0 Q (F0 m 22 ls []) := by
      intro n_
      induction n_ with
      | zero => intro k_ hn_; exact absurd hn_ (Nat.not_lt_zero _)
      | succ n_ ih_22 =>
        intro k_ hn_ hk H locs hP hD hS ls hl
        refine lv_iload_n hx hb dX7_riseCount_22 rfl (lv_at hl 0 rfl) ?_
        refine lv_aload_n hx hb dX7_riseCount_23 rfl (lv_at hl 3 rfl) ?_
        refine zm_get (f := (va_up f 9 (0))) fx 0 (by decide) q2241 (v := .ref (h 1)) rfl hP dX7_riseCount_24 ?_
        refine lv_iconst (v := nI (1)) hx hb dX7_riseCount_27 rfl ?_
        refine zn_ald hx hb hK hP 1 (g := a 0) rfl (i := 1) (by omega) (by decide) dX7_riseCount_28 ?_
        refine zn_icmp_ge (tgt := 61) hx hb dX7_riseCount_29 (by decide) (by omega) (by omega) (fun c_29 => ?_) (fun c_29 => ?_)
        · refine lv_iload_n hx hb dX7_riseCount_61 rfl (lv_at hl 1 rfl) ?_
          exact zk_reti (v := nI (zp_rc (zp_rs (a 0) (a 6, a 7) (a 0 1)) (zp_rise (a 0)) k_)) fx eQ rfl (rfl) hP hD hS (Nat.le_of_ble_eq_true rfl) (Nat.le_of_ble_eq_true rfl) dX7_riseCount_62 (⟨by rw [show k_ = a 0 1 by omega, zp_rc_irr _ (zp_rs (a 0) zp_p0 (a 0 1)) _ _ (zp_rs_irr _ _ _ _)]; rfl, _, _, rfl, ⟨rfl, rfl, rfl, rfl, rfl, rfl, rfl, rfl⟩, ⟨rfl, rfl⟩, rfl, rfl⟩)
        · have hl9 := zp_rs_le (a 0) (a 6, a 7) (a 0 1) k_ (by omega)
          refine lv_iload_n hx hb dX7_riseCount_32 rfl (lv_at hl 1 rfl) ?_
          refine lv_aload_n hx hb dX7_riseCount_33 rfl (lv_at hl 3 rfl) ?_
          refine zm_get (f := (va_up f 9 (0))) fx 6 (by decide) q2247 (v := .ref (h 7)) rfl hP dX7_riseCount_34 ?_
          refine lv_iload_n hx hb dX7_riseCount_37 rfl (lv_at hl 0 rfl) ?_
          refine zn_ald hx hb hK hP 7 (g := (zp_rs (a 0) (a 6, a 7) ((a 0) 1)).1) rfl (i := k_) (by omega) (by decide) dX7_riseCount_38 ?_
          refine lv_iload_n hx hb dX7_riseCount_39 rfl (lv_at hl 2 rfl) ?_
          refine zn_icmp_ne (tgt := 52) hx hb dX7_riseCount_40 (by decide) (by omega) (by omega) (fun c_40 => ?_) (fun c_40 => ?_)
          · refine lv_iconst (v := nI (0)) hx hb dX7_riseCount_52 rfl ?_
            refine zn_iadd hx hb dX7_riseCount_53 ?_
            refine zn_top (y := nI (zp_rc (zp_rs (a 0) (a 6, a 7) (a 0 1)) (zp_rise (a 0)) (k_ + 1))) (by rw [zp_rc, if_neg c_40]) ?_
            refine lv_istore_n (lv' := [(2, .int (nI (zp_rc (zp_rs (a 0) (a 6, a 7) (a 0 1)) (zp_rise (a 0)) (k_ + 1)))), (3, .int (nI (k_))), (1, .int (nI (zp_rise (a 0)))), (0, .ref (h 0))]) hx hb dX7_riseCount_54 rfl hl (by decide) rfl (fun ls hl => ?_)
            refine lv_iinc (v := nI (k_ + 1)) (lv' := [(3, .int (nI (k_ + 1))), (2, .int (nI (zp_rc (zp_rs (a 0) (a 6, a 7) (a 0 1)) (zp_rise (a 0)) (k_ + 1)))), (1, .int (nI (zp_rise (a 0)))), (0, .ref (h 0))]) hx hb dX7_riseCount_55 hl (k := 1) rfl (nI_add k_ 1) (by decide) rfl (fun ls hl => ?_)
            refine lv_goto (tgt := 22) hx hb dX7_riseCount_58 (by decide) ?_
            exact ih_22 (k_ + 1) (by omega) (by omega) _ _ hP hD hS ls (lv_sub hl [0, 1, 2, 3] rfl)
          · refine lv_aload_n hx hb dX7_riseCount_43 rfl (lv_at hl 3 rfl) ?_
            refine zm_get (f := (va_up f 9 (0))) fx 7 (by decide) q2248 (v := .ref (h 8)) rfl hP dX7_riseCount_44 ?_
            refine lv_iload_n hx hb dX7_riseCount_47 rfl (lv_at hl 0 rfl) ?_
            refine zn_ald hx hb hK hP 8 (g := (zp_rs (a 0) (a 6, a 7) ((a 0) 1)).2) rfl (i := k_) (by omega) (by decide) dX7_riseCount_48 ?_
            refine lv_goto (tgt := 53) hx hb dX7_riseCount_49 (by decide) ?_
            refine zn_iadd hx hb dX7_riseCount_53 ?_
            refine zn_top (y := nI (zp_rc (zp_rs (a 0) (a 6, a 7) (a 0 1)) (zp_rise (a 0)) (k_ + 1))) (by rw [zp_rc, if_pos c_40]) ?_
            refine lv_istore_n (lv' := [(2, .int (nI (zp_rc (zp_rs (a 0) (a 6, a 7) (a 0 1)) (zp_rise (a 0)) (k_ + 1)))), (3, .int (nI (k_))), (1, .int (nI (zp_rise (a 0)))), (0, .ref (h 0))]) hx hb dX7_riseCount_54 rfl hl (by decide) rfl (fun ls hl => ?_)
            refine lv_iinc (v := nI (k_ + 1)) (lv' := [(3, .int (nI (k_ + 1))), (2, .int (nI (zp_rc (zp_rs (a 0) (a 6, a 7) (a 0 1)) (zp_rise (a 0)) (k_ + 1)))), (1, .int (nI (zp_rise (a 0)))), (0, .ref (h 0))]) hx hb dX7_riseCount_55 hl (k := 1) rfl (nI_add k_ 1) (by decide) rfl (fun ls hl => ?_)
            refine lv_goto (tgt := 22) hx hb dX7_riseCount_58 (by decide) ?_
            exact ih_22 (k_ + 1) (by omega) (by omega) _ _ hP hD hS ls (lv_sub hl [0, 1, 2, 3] rfl)
    exact lp_22 _ 0 (Nat.lt_succ_self _) (by omega) _ _ hP hD hS ls (lv_sub hl [0, 1, 2, 3] rfl)
