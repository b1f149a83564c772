/-! THE REFERENCE, part 14 (printed by prog/m14.py) -/
set_option maxRecDepth 100000
set_option maxHeartbeats 4000000 in
set_option maxRecDepth 100000 in
theorem cm_meanRun (l : Launch) (s0 : State) (b : Nat) (h f : Nat → Nat) (a : Nat → Nat → Nat) (ok : zp_Ok (a 0)) : zk_C l s0 b yX7_meanRun (ws_ yX7_meanRun cX7_meanRun 3 (some .double)) 1 22 0 0 [.ref (h 0)] (zm_W s0 h f a) (fun r w => zm_N s0 h f a (if a 0 0 = 0 then 1 else 0) (.double (zf_mean (a 0))) r w) := by
  refine zk_mk (by decide) rfl ?_
  intro p e s m below meth c A R args Q fx hR eQ hP hD hS ls hl
  have hx := fx.1
  have hb := fx.2.1
  have hK := fx.2.2.2.2.2.2.2.2.1.K
  have hl : lv_has ls 3 [(0, .ref (h 0))] := hl
  obtain ⟨ok0, ok1, ok2, ok3, ok4, ok5, ok6, okw, oke, okp⟩ := id ok
  refine lv_aload_n hx hb dX7_meanRun_0 rfl (lv_at hl 0 rfl) ?_
  refine lv_aload_n hx hb dX7_meanRun_1 rfl (lv_at hl 0 rfl) ?_
  refine zm_get (f := f) fx 0 (by decide) q2241 (v := .ref (h 1)) rfl hP dX7_meanRun_2 ?_
  refine lv_iconst (v := nI (0)) hx hb dX7_meanRun_5 rfl ?_
  refine zn_ald hx hb hK hP 1 (g := a 0) rfl (i := 0) (by omega) (by decide) dX7_meanRun_6 ?_
  refine zn_if_le (tgt := 14) hx hb dX7_meanRun_7 (by decide) (by omega) (fun c_7 => ?_) (fun c_7 => ?_)
  · refine lv_iconst (v := nI (0)) hx hb dX7_meanRun_14 rfl ?_
    refine zk_callV0 fx (cm_checked l s0 b h f a false) (lw_V q2378 q2380 qs42 q108 q2381) ⟨rfl, by decide, by decide, (show (parseMethodDescriptor yX7_checked.desc).map (fun d => d.parameters.length) = some 1 by decide +kernel)⟩ ⟨zk_le hR.1 rfl, zk_le hR.2.1 rfl⟩ ⟨zk_le hR.2.2.1 rfl, zk_le hR.2.2.2 rfl⟩ hP hD hS 0 rfl rfl 0 rfl hl.1 rfl (Nat.le_of_ble_eq_true rfl) dX7_meanRun_15 (fun v_ w_ H locs hq_ hP hD hS => ?_)
    obtain ⟨rfl, rfl⟩ := hq_
    refine zn_st (st2 := [.int (nI (1))]) rfl ?_
    refine zn_if_le (tgt := 23) hx hb dX7_meanRun_18 (by decide) (by decide) (fun z_ => absurd z_ (by decide)) (fun _ => ?_)
    refine lv_dconst0 hx hb dX7_meanRun_21 ?_
    exact zk_retd fx eQ rfl hP hD hS (Nat.le_of_ble_eq_true rfl) (Nat.le_of_ble_eq_true rfl) dX7_meanRun_22 (⟨by unfold zf_mean; rw [if_pos (by omega)], _, _, rfl, ⟨rfl, rfl, rfl, rfl, rfl, rfl, rfl, rfl⟩, ⟨rfl, rfl⟩, by rw [if_pos (by omega)]; rfl, rfl⟩)
  · refine lv_iconst (v := nI (1)) hx hb dX7_meanRun_10 rfl ?_
    refine lv_goto (tgt := 15) hx hb dX7_meanRun_11 (by decide) ?_
    refine zk_callV0 fx (cm_checked l s0 b h f a true) (lw_V q2378 q2380 qs42 q108 q2381) ⟨rfl, by decide, by decide, (show (parseMethodDescriptor yX7_checked.desc).map (fun d => d.parameters.length) = some 1 by decide +kernel)⟩ ⟨zk_le hR.1 rfl, zk_le hR.2.1 rfl⟩ ⟨zk_le hR.2.2.1 rfl, zk_le hR.2.2.2 rfl⟩ hP hD hS 0 rfl rfl 0 rfl hl.1 rfl (Nat.le_of_ble_eq_true rfl) dX7_meanRun_15 (fun v_ w_ H locs hq_ hP hD hS => ?_)
    obtain ⟨rfl, rfl⟩ := hq_
    refine zn_st (st2 := [.int (nI (0))]) rfl ?_
    refine zn_if_le (tgt := 23) hx hb dX7_meanRun_18 (by decide) (by decide) (fun _ => ?_) (fun z_ => absurd z_ (by decide))
    refine lv_iconst (v := nI (0)) hx hb dX7_meanRun_23 rfl ?_
    refine lv_istore_n (lv' := [(1, .int (nI (0))), (0, .ref (h 0))]) hx hb dX7_meanRun_24 rfl hl (by decide) rfl (fun ls hl => ?_)
    refine lv_iconst (v := nI (0)) hx hb dX7_meanRun_25 rfl ?_
    refine lv_istore_n (lv' := [(2, .int (nI (0))), (1, .int (nI (0))), (0, .ref (h 0))]) hx hb dX7_meanRun_26 rfl hl (by decide) rfl (fun ls hl => ?_)
    have h00 : 0 < a 0 0 := by omega
    have lp_27 : ∀ (n_ : Nat) (k_ : Nat), (a 0 0 - k_) < n_ → (k_ ≤ a 0 0) → ∀ (H : Heap) (locs : List Loc), va_P (zk_D s0) zk_Cl (zm_W s0 h (va_up f 9 (Bool.toNat (!true))) a) H → va_D A (zm_W s0 h (va_up f 9 (Bool.toNat (!true))) a) → va_S A s.heap H locs → ∀ ls : Array Slot, lv_has ls 3 [(2, .int (nI (k_))), (1, .int (nI (zp_runs (a 0) k_))), (0, .ref (h 0))] → W p l e R s m args below meth c H locs 0 0 Q (F0 m 27 ls []) := by
      intro n_
      induction n_ with
      | zero => intro k_ hn_; exact absurd hn_ (Nat.not_lt_zero _)
      | succ n_ ih_27 =>
        intro k_ hn_ hk H locs hP hD hS ls hl
        have hrl := zp_runs_le ok k_ hk
        refine lv_iload_n hx hb dX7_meanRun_27 rfl (lv_at hl 0 rfl) ?_
        refine lv_aload_n hx hb dX7_meanRun_28 rfl (lv_at hl 2 rfl) ?_
        refine zm_get (f := (va_up f 9 (Bool.toNat (!true)))) fx 0 (by decide) q2241 (v := .ref (h 1)) rfl hP dX7_meanRun_29 ?_
        refine lv_iconst (v := nI (0)) hx hb dX7_meanRun_32 rfl ?_
        refine zn_ald hx hb hK hP 1 (g := a 0) rfl (i := 0) (by omega) (by decide) dX7_meanRun_33 ?_
        refine zn_icmp_ge (tgt := 52) hx hb dX7_meanRun_34 (by decide) (by omega) (by omega) (fun c_34 => ?_) (fun c_34 => ?_)
        · refine lv_iload_n hx hb dX7_meanRun_52 rfl (lv_at hl 1 rfl) ?_
          refine lv_i2d hx hb dX7_meanRun_53 ?_
          refine lv_aload_n hx hb dX7_meanRun_54 rfl (lv_at hl 2 rfl) ?_
          refine zm_get (f := (va_up f 9 (Bool.toNat (!true)))) fx 0 (by decide) q2241 (v := .ref (h 1)) rfl hP dX7_meanRun_55 ?_
          refine lv_iconst (v := nI (0)) hx hb dX7_meanRun_58 rfl ?_
          refine zn_ald hx hb hK hP 1 (g := a 0) rfl (i := 0) (by omega) (by decide) dX7_meanRun_59 ?_
          refine lv_i2d hx hb dX7_meanRun_60 ?_
          refine lv_ddiv hx hb dX7_meanRun_61 (zf_d (by omega) (by omega) (by omega)) ?_
          exact zk_retd fx eQ rfl hP hD hS (Nat.le_of_ble_eq_true rfl) (Nat.le_of_ble_eq_true rfl) dX7_meanRun_62 (⟨by unfold zf_mean; rw [if_neg (by omega), show k_ = a 0 0 by omega], _, _, rfl, ⟨rfl, rfl, rfl, rfl, rfl, rfl, rfl, rfl⟩, ⟨rfl, rfl⟩, by rw [if_neg (by omega)]; rfl, rfl⟩)
        · refine lv_iload_n hx hb dX7_meanRun_37 rfl (lv_at hl 1 rfl) ?_
          refine lv_aload_n hx hb dX7_meanRun_38 rfl (lv_at hl 2 rfl) ?_
          refine lv_iload_n hx hb dX7_meanRun_39 rfl (lv_at hl 0 rfl) ?_
          refine lv_iconst (v := nI (1)) hx hb dX7_meanRun_40 rfl ?_
          refine zk_callV0 fx (cm_e l s0 b h (va_up f 9 (Bool.toNat (!true))) a k_ 1 (by omega)) (lw_V q2450 q2452 qs52 q108 q2453) ⟨rfl, by decide, by decide, (show (parseMethodDescriptor yX7_e.desc).map (fun d => d.parameters.length) = some 2 by decide +kernel)⟩ ⟨zk_le hR.1 rfl, zk_le hR.2.1 rfl⟩ ⟨zk_le hR.2.2.1 rfl, zk_le hR.2.2.2 rfl⟩ hP hD hS 0 rfl rfl 0 rfl hl.1 rfl (Nat.le_of_ble_eq_true rfl) dX7_meanRun_41 (fun v_ w_ H locs hq_ hP hD hS => ?_)
          obtain ⟨rfl, rfl⟩ := hq_
          refine zn_st (st2 := [.int (nI ((a 0) (20 + 4 * k_ + 1))), .int (nI (zp_runs (a 0) k_))]) rfl ?_
          refine zn_iadd hx hb dX7_meanRun_44 ?_
          refine lv_istore_n (lv' := [(1, .int (nI ((zp_runs (a 0) k_) + ((a 0) (20 + 4 * k_ + 1))))), (2, .int (nI (k_))), (0, .ref (h 0))]) hx hb dX7_meanRun_45 rfl hl (by decide) rfl (fun ls hl => ?_)
          refine lv_iinc (v := nI (k_ + 1)) (lv' := [(2, .int (nI (k_ + 1))), (1, .int (nI ((zp_runs (a 0) k_) + ((a 0) (20 + 4 * k_ + 1))))), (0, .ref (h 0))]) hx hb dX7_meanRun_46 hl (k := 1) rfl (nI_add k_ 1) (by decide) rfl (fun ls hl => ?_)
          refine lv_goto (tgt := 27) hx hb dX7_meanRun_49 (by decide) ?_
          exact ih_27 (k_ + 1) (by omega) (by omega) _ _ hP hD hS ls (lv_sub hl [0, 1, 2] rfl)
    exact lp_27 _ 0 (Nat.lt_succ_self _) (by omega) _ _ hP hD hS ls (lv_sub hl [0, 1, 2] rfl)
set_option maxHeartbeats 4000000 in
set_option maxRecDepth 100000 in
theorem cm_fadedShare (l : Launch) (s0 : State) (b : Nat) (h f : Nat → Nat) (a : Nat → Nat → Nat) (ok : zp_Ok (a 0)) (h18 : a 0 18 ≤ 10000000) : zk_C l s0 b yX7_fadedShare (ws_ yX7_fadedShare cX7_fadedShare 1 (some .float)) 1 21 0 0 [.ref (h 0)] (zm_W s0 h f a) (fun r w => zm_N s0 h f a (if a 0 6 = 0 then 1 else 0) (.float (zf_share (a 0))) r w) := by
  refine zk_mk (by decide) rfl ?_
  intro p e s m below meth c A R args Q fx hR eQ hP hD hS ls hl
  have hx := fx.1
  have hb := fx.2.1
  have hK := fx.2.2.2.2.2.2.2.2.1.K
  have hl : lv_has ls 1 [(0, .ref (h 0))] := hl
  obtain ⟨ok0, ok1, ok2, ok3, ok4, ok5, ok6, okw, oke, okp⟩ := id ok
  refine lv_aload_n hx hb dX7_fadedShare_0 rfl (lv_at hl 0 rfl) ?_
  refine lv_aload_n hx hb dX7_fadedShare_1 rfl (lv_at hl 0 rfl) ?_
  refine zm_get (f := f) fx 0 (by decide) q2241 (v := .ref (h 1)) rfl hP dX7_fadedShare_2 ?_
  refine lv_bipush (v := nI (6)) hx hb dX7_fadedShare_5 (by decide) ?_
  refine zn_ald hx hb hK hP 1 (g := a 0) rfl (i := 6) (by omega) (by decide) dX7_fadedShare_7 ?_
  refine zn_if_le (tgt := 15) hx hb dX7_fadedShare_8 (by decide) (by omega) (fun c_8 => ?_) (fun c_8 => ?_)
  · refine lv_iconst (v := nI (0)) hx hb dX7_fadedShare_15 rfl ?_
    refine zk_callV0 fx (cm_checked l s0 b h f a false) (lw_V q2378 q2380 qs42 q108 q2381) ⟨rfl, by decide, by decide, (show (parseMethodDescriptor yX7_checked.desc).map (fun d => d.parameters.length) = some 1 by decide +kernel)⟩ ⟨zk_le hR.1 rfl, zk_le hR.2.1 rfl⟩ ⟨zk_le hR.2.2.1 rfl, zk_le hR.2.2.2 rfl⟩ hP hD hS 0 rfl rfl 0 rfl hl.1 rfl (Nat.le_of_ble_eq_true rfl) dX7_fadedShare_16 (fun v_ w_ H locs hq_ hP hD hS => ?_)
    obtain ⟨rfl, rfl⟩ := hq_
    refine zn_st (st2 := [.int (nI (1))]) rfl ?_
    refine zn_if_le (tgt := 26) hx hb dX7_fadedShare_19 (by decide) (by decide) (fun z_ => absurd z_ (by decide)) (fun _ => ?_)
    refine lv_fconst0 hx hb dX7_fadedShare_22 ?_
    refine lv_goto (tgt := 43) hx hb dX7_fadedShare_23 (by decide) ?_
    exact zk_retf fx eQ rfl hP hD hS (Nat.le_of_ble_eq_true rfl) (Nat.le_of_ble_eq_true rfl) dX7_fadedShare_43 (⟨by unfold zf_share; rw [if_pos (by omega)], _, _, rfl, ⟨rfl, rfl, rfl, rfl, rfl, rfl, rfl, rfl⟩, ⟨rfl, rfl⟩, by rw [if_pos (by omega)]; rfl, rfl⟩)
  · refine lv_iconst (v := nI (1)) hx hb dX7_fadedShare_11 rfl ?_
    refine lv_goto (tgt := 16) hx hb dX7_fadedShare_12 (by decide) ?_
    refine zk_callV0 fx (cm_checked l s0 b h f a true) (lw_V q2378 q2380 qs42 q108 q2381) ⟨rfl, by decide, by decide, (show (parseMethodDescriptor yX7_checked.desc).map (fun d => d.parameters.length) = some 1 by decide +kernel)⟩ ⟨zk_le hR.1 rfl, zk_le hR.2.1 rfl⟩ ⟨zk_le hR.2.2.1 rfl, zk_le hR.2.2.2 rfl⟩ hP hD hS 0 rfl rfl 0 rfl hl.1 rfl (Nat.le_of_ble_eq_true rfl) dX7_fadedShare_16 (fun v_ w_ H locs hq_ hP hD hS => ?_)
    obtain ⟨rfl, rfl⟩ := hq_
    refine zn_st (st2 := [.int (nI (0))]) rfl ?_
    refine zn_if_le (tgt := 26) hx hb dX7_fadedShare_19 (by decide) (by decide) (fun _ => ?_) (fun z_ => absurd z_ (by decide))
    refine lv_aload_n hx hb dX7_fadedShare_26 rfl (lv_at hl 0 rfl) ?_
    refine zm_get (f := (va_up f 9 (Bool.toNat (!true)))) fx 0 (by decide) q2241 (v := .ref (h 1)) rfl hP dX7_fadedShare_27 ?_
    refine lv_bipush (v := nI (18)) hx hb dX7_fadedShare_30 (by decide) ?_
    refine zn_ald hx hb hK hP 1 (g := a 0) rfl (i := 18) (by omega) (by decide) dX7_fadedShare_32 ?_
    refine lv_i2f hx hb dX7_fadedShare_33 ?_
    refine lv_aload_n hx hb dX7_fadedShare_34 rfl (lv_at hl 0 rfl) ?_
    refine zm_get (f := (va_up f 9 (Bool.toNat (!true)))) fx 0 (by decide) q2241 (v := .ref (h 1)) rfl hP dX7_fadedShare_35 ?_
    refine lv_bipush (v := nI (6)) hx hb dX7_fadedShare_38 (by decide) ?_
    refine zn_ald hx hb hK hP 1 (g := a 0) rfl (i := 6) (by omega) (by decide) dX7_fadedShare_40 ?_
    refine lv_i2f hx hb dX7_fadedShare_41 ?_
    refine lv_fdiv hx hb dX7_fadedShare_42 (zf_f (by omega) (by omega) (by omega)) ?_
    exact zk_retf fx eQ rfl hP hD hS (Nat.le_of_ble_eq_true rfl) (Nat.le_of_ble_eq_true rfl) dX7_fadedShare_43 (⟨by unfold zf_share; rw [if_neg (by omega)], _, _, rfl, ⟨rfl, rfl, rfl, rfl, rfl, rfl, rfl, rfl⟩, ⟨rfl, rfl⟩, by rw [if_neg (by omega)]; rfl, rfl⟩)
