/-! THE STATE, part 6 (printed by prog/m27.py) -/
set_option maxRecDepth 100000
set_option maxHeartbeats 4000000 in
set_option maxRecDepth 100000 in
theorem cs_pass (l : Launch) (s0 : State) (b : Nat) (hl0 : l.stackTraces = false) (k : Nat → Nat) (E : Nat → Option Nat) (σ : Nat → Nat) (x : Int32) (ok : zp_Ok σ) : zk_Cx l s0 b yX2_pass (ws_ yX2_pass cX2_pass 4 (some .int)) 7 101 1 6 [.ref (k 0), .int (x)] (zs_W s0 k E σ) (fun r w => zk_in x 1 48 = true ∧ r = some (.int (nI (zo_pass σ x).2.1)) ∧ w = zs_W s0 k E ((zo_pass σ x).2.2)) (fun E_ q_ w => zk_in x 1 48 = false ∧ E_ = "java/lang/IllegalArgumentException" ∧ w = zs_W s0 k E σ) := by
  refine zk_mkx (by decide) rfl ?_
  intro p e s m below meth c A R args Q fx hR eQ hno hP hD hS ls hl
  have hx := fx.1
  have hb := fx.2.1
  have hK := fx.2.2.2.2.2.2.2.2.1.K
  have hl : lv_has ls 4 [(0, .ref (k 0)), (1, .int (x))] := hl
  obtain ⟨ok0, ok1, ok2, ok3, ok4, ok5, ok6, okw, oke, okp⟩ := id ok
  refine lv_iload_n hx hb dX2_pass_0 rfl (lv_at hl 1 rfl) ?_
  refine lv_iconst (v := nI (1)) hx hb dX2_pass_1 rfl ?_
  refine lv_bipush (v := nI (48)) hx hb dX2_pass_2 (by decide) ?_
  refine zk_callSN fx (host := "InkPrintery") (cc_inRange l s0 b (x) (nI (1)) (nI (48))) (lw_meth q1299) q84 q1300 q1298 ⟨by decide, by decide, (show (parseMethodDescriptor yX1_inRange.desc).map (fun d => d.parameters.length) = some 3 by decide +kernel)⟩ ⟨zk_le hR.1 rfl, zk_le hR.2.1 rfl⟩ ⟨zk_le hR.2.2.1 rfl, zk_le hR.2.2.2 rfl⟩ hP hD hS (wc := []) (wr := zs_W s0 k E σ) (List.Perm.refl _) hl.1 rfl (Nat.le_of_ble_eq_true rfl) dX2_pass_4 (fun v_ w_ H locs hq_ hP hD hS => ?_)
  obtain ⟨rfl, rfl⟩ := hq_
  refine zn_st (st2 := [.int (nI (Bool.toNat (zk_in x 1 48)))]) rfl ?_
  refine zk_callSNx fx (host := "InkPrintery") (cc_checkArgument l s0 b hl0 (zk_in x 1 48)) (lw_meth q1303) q84 q1301 q1302 ⟨by decide, by decide, (show (parseMethodDescriptor yX1_checkArgument.desc).map (fun d => d.parameters.length) = some 1 by decide +kernel)⟩ ⟨zk_le hR.1 rfl, zk_le hR.2.1 rfl⟩ ⟨zk_le hR.2.2.1 rfl, zk_le hR.2.2.2 rfl⟩ hP hD hS (wc := []) (wr := zs_W s0 k E σ) (List.Perm.refl _) hl.1 rfl (Nat.le_of_ble_eq_true rfl) dX2_pass_7 (fun E_ q_ w_ H locs hq_ hT hP hD hS => ?_) (fun v_ w_ H locs hq_ hP hD hS => ?_)
  · obtain ⟨⟨rfl, rfl⟩, ht_7⟩ := hq_
    have hP : va_P (zk_D s0) zk_Cl (zs_W s0 k E σ) H := hP
    have hD : va_D A (zs_W s0 k E σ) := hD
    exact zk_outx fx eQ (fun x9 hx9 => (hno x9 hx9).elim) hT hP hD hS (Nat.le_of_ble_eq_true rfl) (Nat.le_of_ble_eq_true rfl) (⟨ht_7, rfl, rfl⟩)
  · obtain ⟨⟨rfl, rfl⟩, ht_7⟩ := hq_
    refine zn_st (st2 := []) rfl ?_
    obtain ⟨i, hi1, hi, rfl⟩ := zk_in_of ht_7 (by decide) (by decide)
    have ho2 : zo_pass σ (nI i) = (0, (zp_ph σ i).1, zp_pass σ i) := by unfold zo_pass; rw [if_pos ht_7, nI_clamp (by omega)]
    refine lv_iconst (v := nI (0)) hx hb dX2_pass_10 rfl ?_
    refine lv_istore_n (lv' := [(2, .int (nI (0))), (0, .ref (k 0)), (1, .int (nI (i)))]) hx hb dX2_pass_11 rfl hl (by decide) rfl (fun ls hl => ?_)
    refine lv_iconst (v := nI (0)) hx hb dX2_pass_12 rfl ?_
    refine lv_istore_n (lv' := [(3, .int (nI (0))), (2, .int (nI (0))), (0, .ref (k 0)), (1, .int (nI (i)))]) hx hb dX2_pass_13 rfl hl (by decide) rfl (fun ls hl => ?_)
    have hP : va_P (zk_D s0) zk_Cl (zs_W s0 k E ((zp_ph σ 0).2)) H := hP
    have hD : va_D A (zs_W s0 k E ((zp_ph σ 0).2)) := hD
    have hl : lv_has ls 4 [(3, .int (nI (0))), (2, .int (nI ((zp_ph σ 0).1))), (0, .ref (k 0)), (1, .int (nI (i)))] := hl
    have lp_14 : ∀ (n_ : Nat) (h_ : Nat), (i - h_) < n_ → (h_ ≤ i) → ∀ (H : Heap) (locs : List Loc), va_P (zk_D s0) zk_Cl (zs_W s0 k E ((zp_ph σ h_).2)) H → va_D A (zs_W s0 k E ((zp_ph σ h_).2)) → va_S A s.heap H locs → ∀ ls : Array Slot, lv_has ls 4 [(3, .int (nI (h_))), (2, .int (nI ((zp_ph σ h_).1))), (0, .ref (k 0)), (1, .int (nI (i)))] → W p l e R s m args below meth c H locs 1 6 Q (F0 m 14 ls []) := by
      intro n_
      induction n_ with
      | zero => intro h_ hn_; exact absurd hn_ (Nat.not_lt_zero _)
      | succ n_ ih_14 =>
        intro h_ hn_ hh H locs hP hD hS ls hl
        have ht7 : (zp_ph σ h_).2 0 ≤ 7 := by rw [zp_ph_out σ h_ (by omega) (by omega)]; exact ok0
        have ht3 : (zp_ph σ h_).2 3 ≤ 2000000000 := by rw [zp_ph_3]; omega
        have htw : ∀ c, c < 10 → (zp_ph σ h_).2 (8 + c) ≤ 999 := fun c hc => Nat.le_trans (zp_ph_le σ h_ (by omega)) (okw c hc)
        have hsu := zp_ph_sum σ h_
        have hsl := zp_sum_le okw 10 (by omega)
        refine lv_iload_n hx hb dX2_pass_14 rfl (lv_at hl 0 rfl) ?_
        refine lv_iload_n hx hb dX2_pass_15 rfl (lv_at hl 3 rfl) ?_
        refine zn_icmp_ge (tgt := 32) hx hb dX2_pass_16 (by decide) (by omega) (by omega) (fun c_16 => ?_) (fun c_16 => ?_)
        · refine lv_aload_n hx hb dX2_pass_32 rfl (lv_at hl 2 rfl) ?_
          refine lv_dup hx hb dX2_pass_33 rfl ?_
          refine va_get (D := zk_D s0) (ci := 2) (C := RX2) (T := TX2) (N := 15) (ref := "InkPrintery$State") hx hb fx.2.2.2.2.1 in_X2 fx.2.2.2.1 hK hP 0 rfl rfl 10 (by decide) (fx.2.2.2.2.1 _ q199) (fun _ h9 => h9) (v := .long (lN ((zp_ph σ h_).2 18))) rfl dX2_pass_34 ?_
          refine lv_iload_n hx hb dX2_pass_37 rfl (lv_at hl 1 rfl) ?_
          refine zn_i2l hx hb dX2_pass_38 (by omega) ?_
          refine zn_ladd hx hb dX2_pass_39 ?_
          refine va_put (D := zk_D s0) (ci := 2) (C := RX2) (T := TX2) (N := 15) (ref := "InkPrintery$State") hx hb fx.2.2.2.2.1 in_X2 tyX2 tyX2_ok nmX2 fx.2.2.2.1 hK hP hD hS 0 rfl rfl 10 (by decide) (fx.2.2.2.2.1 _ q199) (fun _ h9 => h9) rfl (v := .long (lN (((zp_ph σ h_).2 18) + ((zp_ph σ h_).1)))) (tyX2_ok 10 (by decide)) rfl rfl (Nat.le_of_ble_eq_true rfl) dX2_pass_40 (fun H locs hP hD hS => ?_)
          have hP : va_P (zk_D s0) zk_Cl (([(k 0, .inr (2, [.ref (k 1), .ref (k 2), .int (nI ((zp_ph σ h_).2 3)), .int (nI ((zp_ph σ h_).2 2)), .ref (k 3), .int (nI ((zp_ph σ h_).2 0)), .int (nI ((zp_ph σ h_).2 4)), .int (nI ((zp_ph σ h_).2 5)), .int (nI ((zp_ph σ h_).2 6)), .int (nI ((zp_ph σ h_).2 7)), .long (lN (((zp_ph σ h_).2 18) + ((zp_ph σ h_).1))), .ref (k 4), .ref (k 5), .int (nI ((zp_ph σ h_).2 1)), .ref (k 6)])), (k 1, zk_I s0 10 (fun i => (zp_ph σ h_).2 (8 + i))), (k 2, zk_Q_ s0 3 10 (fun i => some (k (10 + i)))), (k 3, zk_Q_ s0 4 7 E), (k 4, zk_I s0 12 (fun i => (zp_ph σ h_).2 (48 + 2 * i))), (k 5, zk_I s0 12 (fun i => (zp_ph σ h_).2 (48 + 2 * i + 1))), (k 6, .inr (3, []))] ++ zk_bl 10 (zs_f k) ++ zk_bl ((zp_ph σ h_).2 0) (zs_e E (zp_ph σ h_).2) : va_W)) H := hP
          have hD : va_D A (([(k 0, .inr (2, [.ref (k 1), .ref (k 2), .int (nI ((zp_ph σ h_).2 3)), .int (nI ((zp_ph σ h_).2 2)), .ref (k 3), .int (nI ((zp_ph σ h_).2 0)), .int (nI ((zp_ph σ h_).2 4)), .int (nI ((zp_ph σ h_).2 5)), .int (nI ((zp_ph σ h_).2 6)), .int (nI ((zp_ph σ h_).2 7)), .long (lN (((zp_ph σ h_).2 18) + ((zp_ph σ h_).1))), .ref (k 4), .ref (k 5), .int (nI ((zp_ph σ h_).2 1)), .ref (k 6)])), (k 1, zk_I s0 10 (fun i => (zp_ph σ h_).2 (8 + i))), (k 2, zk_Q_ s0 3 10 (fun i => some (k (10 + i)))), (k 3, zk_Q_ s0 4 7 E), (k 4, zk_I s0 12 (fun i => (zp_ph σ h_).2 (48 + 2 * i))), (k 5, zk_I s0 12 (fun i => (zp_ph σ h_).2 (48 + 2 * i + 1))), (k 6, .inr (3, []))] ++ zk_bl 10 (zs_f k) ++ zk_bl ((zp_ph σ h_).2 0) (zs_e E (zp_ph σ h_).2) : va_W)) := hD
          refine lv_iload_n hx hb dX2_pass_43 rfl (lv_at hl 1 rfl) ?_
          have e10 : h_ = i := by omega
          have hP : va_P (zk_D s0) zk_Cl (zs_W s0 k E ((zp_pass σ h_))) H := zs_Pcg (F := zs_fs k (va_up (zp_ph σ h_).2 18 ((zp_ph σ h_).2 18 + (zp_ph σ h_).1))) (fun n hn => (zk_up_ne (show 8 + n ≠ 18 by omega)).symm) (fun n hn => (zk_up_ne (show 48 + 2 * n ≠ 18 by omega)).symm) (fun n hn => (zk_up_ne (show 48 + 2 * n + 1 ≠ 18 by omega)).symm) (zs_blk (σ := (zp_ph σ h_).2) (τ := zp_pass σ h_) (zk_up_ne (show 0 ≠ 18 by omega)) ht7 (fun z h1 h2 => (zk_up_ne (show z ≠ 18 by omega)).symm)) (rfl) hP
          have hD : va_D A (zs_W s0 k E ((zp_pass σ h_))) := zs_Dcg (zs_blk (σ := (zp_ph σ h_).2) (τ := zp_pass σ h_) (zk_up_ne (show 0 ≠ 18 by omega)) ht7 (fun z h1 h2 => (zk_up_ne (show z ≠ 18 by omega)).symm)) hD
          subst eQ
          refine vx_ret ?_
          exact zk_reti (v := nI ((zp_ph σ h_).1)) fx rfl rfl (rfl) hP hD hS (Nat.le_of_ble_eq_true rfl) (Nat.le_of_ble_eq_true rfl) dX2_pass_44 (⟨ht_7, by rw [ho2, e10], by rw [ho2, e10]⟩)
        · refine lv_iload_n hx hb dX2_pass_19 rfl (lv_at hl 1 rfl) ?_
          refine lv_aload_n hx hb dX2_pass_20 rfl (lv_at hl 2 rfl) ?_
          refine zk_callV0 fx (cs_passHour l s0 b k E ((zp_ph σ h_).2) ht7 ht3 htw) (lw_V q1339 q1341 qs18 q85 q1342) ⟨rfl, by decide, by decide, (show (parseMethodDescriptor yX2_passHour.desc).map (fun d => d.parameters.length) = some 0 by decide +kernel)⟩ ⟨zk_le hR.1 rfl, zk_le hR.2.1 rfl⟩ ⟨zk_le hR.2.2.1 rfl, zk_le hR.2.2.2 rfl⟩ hP hD hS 2 rfl rfl 0 rfl hl.1 rfl (Nat.le_of_ble_eq_true rfl) dX2_pass_21 (fun v_ w_ H locs hq_ hP hD hS => ?_)
          obtain ⟨rfl, rfl⟩ := hq_
          refine zn_st (st2 := [.int (nI ((zp_pc (0, va_up (zp_ph σ h_).2 3 ((zp_ph σ h_).2 3 + 1)) 10).1)), .int (nI ((zp_ph σ h_).1))]) rfl ?_
          refine zn_iadd hx hb dX2_pass_24 ?_
          have eq_ : zp_ph σ (h_ + 1) = ((zp_ph σ h_).1 + (zp_pc (0, va_up (zp_ph σ h_).2 3 ((zp_ph σ h_).2 3 + 1)) 10).1, (zp_pc (0, va_up (zp_ph σ h_).2 3 ((zp_ph σ h_).2 3 + 1)) 10).2) := by rw [zp_ph]; exact zs_pc_add _ _ 10
          refine zn_top (y := nI ((zp_ph σ (h_ + 1)).1)) (by rw [eq_]) ?_
          have hP : va_P (zk_D s0) zk_Cl (zs_W s0 k E ((zp_ph σ (h_ + 1)).2)) H := by rw [eq_]; exact hP
          have hD : va_D A (zs_W s0 k E ((zp_ph σ (h_ + 1)).2)) := by rw [eq_]; exact hD
          refine lv_istore_n (lv' := [(2, .int (nI ((zp_ph σ (h_ + 1)).1))), (3, .int (nI (h_))), (0, .ref (k 0)), (1, .int (nI (i)))]) hx hb dX2_pass_25 rfl hl (by decide) rfl (fun ls hl => ?_)
          refine lv_iinc (v := nI (h_ + 1)) (lv' := [(3, .int (nI (h_ + 1))), (2, .int (nI ((zp_ph σ (h_ + 1)).1))), (0, .ref (k 0)), (1, .int (nI (i)))]) hx hb dX2_pass_26 hl (k := 1) rfl (nI_add h_ 1) (by decide) rfl (fun ls hl => ?_)
          refine lv_goto (tgt := 14) hx hb dX2_pass_29 (by decide) ?_
          exact ih_14 (h_ + 1) (by omega) (by omega) _ _ hP hD hS ls (lv_sub hl [0, 1, 2, 3] rfl)
    exact lp_14 _ 0 (Nat.lt_succ_self _) (by omega) _ _ hP hD hS ls (lv_sub hl [0, 1, 2, 3] rfl)
