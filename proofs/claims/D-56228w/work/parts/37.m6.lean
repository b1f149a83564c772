/-! THE REFERENCE, part 6 (printed by prog/m6.py) -/
set_option maxRecDepth 100000
theorem zm_a5 {s0 : State} {h f : Nat → Nat} {a : Nat → Nat → Nat} : zm_W s0 h f (va_up a 5 (a 5)) = zm_W s0 h f a := rfl
set_option maxHeartbeats 4000000 in
set_option maxRecDepth 100000 in
theorem cm_nextShare (l : Launch) (s0 : State) (b : Nat) (h f : Nat → Nat) (a : Nat → Nat → Nat) (hS5 : ∀ j, j < 7 → a 5 j ≤ 10000) (ok : zp_Ok (a 0)) : zk_C l s0 b yX7_nextShare (ws_ yX7_nextShare cX7_nextShare 3 (some .int)) 2 43 0 0 [.ref (h 0)] (zm_W s0 h f a) (fun r w => r = some (.int (zp_oi (zp_ns (a 0) (a 5) (a 0 0)))) ∧ w = zm_W s0 h f a) := by
  refine zk_mk (by decide) rfl ?_
  intro p e s m below meth c A R args Q fx hR eQ hP hD hS ls hl
  have hx := fx.1
  have hb := fx.2.1
  have hK := fx.2.2.2.2.2.2.2.2.1.K
  have hl : lv_has ls 3 [(0, .ref (h 0))] := hl
  obtain ⟨ok0, ok1, ok2, ok3, ok4, ok5, ok6, okw, oke, okp⟩ := id ok
  refine lv_iconst (v := (-1)) hx hb dX7_nextShare_0 rfl ?_
  refine lv_istore_n (lv' := [(1, .int ((-1))), (0, .ref (h 0))]) hx hb dX7_nextShare_1 rfl hl (by decide) rfl (fun ls hl => ?_)
  refine lv_iconst (v := nI (0)) hx hb dX7_nextShare_2 rfl ?_
  refine lv_istore_n (lv' := [(2, .int (nI (0))), (1, .int ((-1))), (0, .ref (h 0))]) hx hb dX7_nextShare_3 rfl hl (by decide) rfl (fun ls hl => ?_)
  have hl : lv_has ls 3 [(2, .int (nI (0))), (1, .int (zp_oi (zp_ns (a 0) (a 5) 0))), (0, .ref (h 0))] := hl
  have lp_4 : ∀ (n_ : Nat) (k_ : Nat), (a 0 0 - k_) < n_ → (k_ ≤ a 0 0) → ∀ (H : Heap) (locs : List Loc), va_P (zk_D s0) zk_Cl (zm_W s0 h f a) H → va_D A (zm_W s0 h f a) → va_S A s.heap H locs → ∀ ls : Array Slot, lv_has ls 3 [(2, .int (nI (k_))), (1, .int (zp_oi (zp_ns (a 0) (a 5) k_))), (0, .ref (h 0))] → W p l e R s m args below meth c H locs 0 0 Q (F0 m 4 ls []) := by
    intro n_
    induction n_ with
    | zero => intro k_ hn_; exact absurd hn_ (Nat.not_lt_zero _)
    | succ n_ ih_4 =>
      intro k_ hn_ hk H locs hP hD hS ls hl
      refine lv_iload_n hx hb dX7_nextShare_4 rfl (lv_at hl 0 rfl) ?_
      refine lv_aload_n hx hb dX7_nextShare_5 rfl (lv_at hl 2 rfl) ?_
      refine zm_get (f := f) fx 0 (by decide) q2241 (v := .ref (h 1)) rfl hP dX7_nextShare_6 ?_
      refine lv_iconst (v := nI (0)) hx hb dX7_nextShare_9 rfl ?_
      refine zn_ald hx hb hK hP 1 (g := a 0) rfl (i := 0) (by omega) (by decide) dX7_nextShare_10 ?_
      refine zn_icmp_ge (tgt := 55) hx hb dX7_nextShare_11 (by decide) (by omega) (by omega) (fun c_11 => ?_) (fun c_11 => ?_)
      · refine lv_iload_n hx hb dX7_nextShare_55 rfl (lv_at hl 1 rfl) ?_
        exact zk_reti (v := zp_oi (zp_ns (a 0) (a 5) k_)) fx eQ rfl (rfl) hP hD hS (Nat.le_of_ble_eq_true rfl) (Nat.le_of_ble_eq_true rfl) dX7_nextShare_56 (⟨by rw [show k_ = a 0 0 by omega], rfl⟩)
      · refine lv_aload_n hx hb dX7_nextShare_14 rfl (lv_at hl 2 rfl) ?_
        refine zm_get (f := f) fx 5 (by decide) q2246 (v := .ref (h 6)) rfl hP dX7_nextShare_15 ?_
        refine lv_iload_n hx hb dX7_nextShare_18 rfl (lv_at hl 0 rfl) ?_
        refine zn_ald hx hb hK hP 6 (g := a 5) rfl (i := k_) (by omega) (by decide) dX7_nextShare_19 ?_
        refine lv_aload_n hx hb dX7_nextShare_20 rfl (lv_at hl 2 rfl) ?_
        refine lv_iload_n hx hb dX7_nextShare_21 rfl (lv_at hl 0 rfl) ?_
        refine zk_callV0 fx (cm_missing l s0 b h f a k_ (by omega) (ok)) (lw_V q2446 q2448 qs51 q108 q2449) ⟨rfl, by decide, by decide, (show (parseMethodDescriptor yX7_missing.desc).map (fun d => d.parameters.length) = some 1 by decide +kernel)⟩ ⟨zk_le hR.1 rfl, zk_le hR.2.1 rfl⟩ ⟨zk_le hR.2.2.1 rfl, zk_le hR.2.2.2 rfl⟩ hP hD hS 0 rfl rfl 0 rfl hl.1 rfl (Nat.le_of_ble_eq_true rfl) dX7_nextShare_22 (fun v_ w_ H locs hq_ hP hD hS => ?_)
        obtain ⟨rfl, rfl⟩ := hq_
        refine zn_st (st2 := [.int (nI (zp_miss (a 0) k_)), .int (nI ((a 5) k_))]) rfl ?_
        have hm1 : zp_miss (a 0) k_ ≤ 50 := (by have := oke k_ (by omega); unfold zp_miss; omega)
        have hs1 := hS5 k_ (by omega)
        refine zn_icmp_ge (tgt := 49) hx hb dX7_nextShare_25 (by decide) (by omega) (by omega) (fun c_25 => ?_) (fun c_25 => ?_)
        · have hl : lv_has ls 3 [(2, .int (nI (k_))), (1, .int (zp_oi (zp_ns (a 0) (a 5) (k_ + 1)))), (0, .ref (h 0))] := by rw [zp_ns_skip (by omega)]; exact hl
          refine lv_iinc (v := nI (k_ + 1)) (lv' := [(2, .int (nI (k_ + 1))), (1, .int (zp_oi (zp_ns (a 0) (a 5) (k_ + 1)))), (0, .ref (h 0))]) hx hb dX7_nextShare_49 hl (k := 0) rfl (nI_add k_ 1) (by decide) rfl (fun ls hl => ?_)
          refine lv_goto (tgt := 4) hx hb dX7_nextShare_52 (by decide) ?_
          exact ih_4 (k_ + 1) (by omega) (by omega) _ _ hP hD hS ls (lv_sub hl [0, 1, 2] rfl)
        · refine lv_iload_n hx hb dX7_nextShare_28 rfl (lv_at hl 1 rfl) ?_
          refine lv_if_lt (tgt := 47) hx hb dX7_nextShare_29 (by decide) (fun c_29 => ?_) (fun c_29 => ?_)
          · have hz0 : zp_ns (a 0) (a 5) k_ = none := zp_oi_neg c_29 (fun j hj => by have := (zp_ns_lt hj).1; omega)
            refine lv_iload_n hx hb dX7_nextShare_47 rfl (lv_at hl 0 rfl) ?_
            refine lv_istore_n (lv' := [(1, .int (nI (k_))), (2, .int (nI (k_))), (0, .ref (h 0))]) hx hb dX7_nextShare_48 rfl hl (by decide) rfl (fun ls hl => ?_)
            have hl : lv_has ls 3 [(1, .int (zp_oi (zp_ns (a 0) (a 5) (k_ + 1)))), (2, .int (nI (k_))), (0, .ref (h 0))] := by rw [zp_ns_new (by omega) hz0]; exact hl
            refine lv_iinc (v := nI (k_ + 1)) (lv' := [(2, .int (nI (k_ + 1))), (1, .int (zp_oi (zp_ns (a 0) (a 5) (k_ + 1)))), (0, .ref (h 0))]) hx hb dX7_nextShare_49 hl (k := 1) rfl (nI_add k_ 1) (by decide) rfl (fun ls hl => ?_)
            refine lv_goto (tgt := 4) hx hb dX7_nextShare_52 (by decide) ?_
            exact ih_4 (k_ + 1) (by omega) (by omega) _ _ hP hD hS ls (lv_sub hl [0, 1, 2] rfl)
          · obtain ⟨j, hz⟩ := zp_oi_nn c_29
            have hjk := (zp_ns_lt hz).1
            have hs2 := hS5 j (by omega)
            have hl : lv_has ls 3 [(2, .int (nI (k_))), (1, .int (nI (j))), (0, .ref (h 0))] := by rw [hz] at hl; exact hl
            refine lv_aload_n hx hb dX7_nextShare_32 rfl (lv_at hl 2 rfl) ?_
            refine zm_get (f := f) fx 5 (by decide) q2246 (v := .ref (h 6)) rfl hP dX7_nextShare_33 ?_
            refine lv_iload_n hx hb dX7_nextShare_36 rfl (lv_at hl 0 rfl) ?_
            refine zn_ald hx hb hK hP 6 (g := a 5) rfl (i := k_) (by omega) (by decide) dX7_nextShare_37 ?_
            refine lv_aload_n hx hb dX7_nextShare_38 rfl (lv_at hl 2 rfl) ?_
            refine zm_get (f := f) fx 5 (by decide) q2246 (v := .ref (h 6)) rfl hP dX7_nextShare_39 ?_
            refine lv_iload_n hx hb dX7_nextShare_42 rfl (lv_at hl 1 rfl) ?_
            refine zn_ald hx hb hK hP 6 (g := a 5) rfl (i := j) (by omega) (by decide) dX7_nextShare_43 ?_
            refine zn_icmp_ge (tgt := 49) hx hb dX7_nextShare_44 (by decide) (by omega) (by omega) (fun c_44 => ?_) (fun c_44 => ?_)
            · have hl : lv_has ls 3 [(2, .int (nI (k_))), (1, .int (zp_oi (zp_ns (a 0) (a 5) (k_ + 1)))), (0, .ref (h 0))] := by rw [zp_ns_stay hz (by omega)]; exact hl
              refine lv_iinc (v := nI (k_ + 1)) (lv' := [(2, .int (nI (k_ + 1))), (1, .int (zp_oi (zp_ns (a 0) (a 5) (k_ + 1)))), (0, .ref (h 0))]) hx hb dX7_nextShare_49 hl (k := 0) rfl (nI_add k_ 1) (by decide) rfl (fun ls hl => ?_)
              refine lv_goto (tgt := 4) hx hb dX7_nextShare_52 (by decide) ?_
              exact ih_4 (k_ + 1) (by omega) (by omega) _ _ hP hD hS ls (lv_sub hl [0, 1, 2] rfl)
            · refine lv_iload_n hx hb dX7_nextShare_47 rfl (lv_at hl 0 rfl) ?_
              refine lv_istore_n (lv' := [(1, .int (nI (k_))), (2, .int (nI (k_))), (0, .ref (h 0))]) hx hb dX7_nextShare_48 rfl hl (by decide) rfl (fun ls hl => ?_)
              have hl : lv_has ls 3 [(1, .int (zp_oi (zp_ns (a 0) (a 5) (k_ + 1)))), (2, .int (nI (k_))), (0, .ref (h 0))] := by rw [zp_ns_less (by omega) hz (by omega)]; exact hl
              refine lv_iinc (v := nI (k_ + 1)) (lv' := [(2, .int (nI (k_ + 1))), (1, .int (zp_oi (zp_ns (a 0) (a 5) (k_ + 1)))), (0, .ref (h 0))]) hx hb dX7_nextShare_49 hl (k := 1) rfl (nI_add k_ 1) (by decide) rfl (fun ls hl => ?_)
              refine lv_goto (tgt := 4) hx hb dX7_nextShare_52 (by decide) ?_
              exact ih_4 (k_ + 1) (by omega) (by omega) _ _ hP hD hS ls (lv_sub hl [0, 1, 2] rfl)
  exact lp_4 _ 0 (Nat.lt_succ_self _) (by omega) _ _ hP hD hS ls (lv_sub hl [0, 1, 2] rfl)
set_option maxHeartbeats 4000000 in
set_option maxRecDepth 100000 in
theorem cm_share (l : Launch) (s0 : State) (b : Nat) (h f : Nat → Nat) (a : Nat → Nat → Nat) (ok : zp_Ok (a 0)) : zk_C l s0 b yX7_share (ws_ yX7_share cX7_share 2 none) 3 65 0 0 [.ref (h 0)] (zm_W s0 h f a) (fun r w => r = none ∧ w = zm_W s0 h f (va_up a 5 (zp_gv (a 0) (a 5) (a 0 2)))) := by
  refine zk_mk (by decide) rfl ?_
  intro p e s m below meth c A R args Q fx hR eQ hP hD hS ls hl
  have hx := fx.1
  have hb := fx.2.1
  have hK := fx.2.2.2.2.2.2.2.2.1.K
  have hl : lv_has ls 2 [(0, .ref (h 0))] := hl
  obtain ⟨ok0, ok1, ok2, ok3, ok4, ok5, ok6, okw, oke, okp⟩ := id ok
  refine lv_iconst (v := nI (0)) hx hb dX7_share_0 rfl ?_
  refine lv_istore_n (lv' := [(1, .int (nI (0))), (0, .ref (h 0))]) hx hb dX7_share_1 rfl hl (by decide) rfl (fun ls hl => ?_)
  rw [← zm_a5 (s0 := s0) (h := h) (f := f) (a := a)] at hP hD
  have hP : va_P (zk_D s0) zk_Cl (zm_W s0 h f (va_up a 5 (zp_z7 (a 5) 0))) s.heap := by rw [zp_z70]; exact hP
  have hD : va_D A (zm_W s0 h f (va_up a 5 (zp_z7 (a 5) 0))) := by rw [zp_z70]; exact hD
  have lp_2 : ∀ (n_ : Nat) (k_ : Nat), (7 - k_) < n_ → (k_ ≤ 7) → ∀ (H : Heap) (locs : List Loc), va_P (zk_D s0) zk_Cl (zm_W s0 h f (va_up a 5 (zp_z7 (a 5) k_))) H → va_D A (zm_W s0 h f (va_up a 5 (zp_z7 (a 5) k_))) → va_S A s.heap H locs → ∀ ls : Array Slot, lv_has ls 2 [(1, .int (nI (k_))), (0, .ref (h 0))] → W p l e R s m args below meth c H locs 0 0 Q (F0 m 2 ls []) := by
    intro n_
    induction n_ with
    | zero => intro k_ hn_; exact absurd hn_ (Nat.not_lt_zero _)
    | succ n_ ih_2 =>
      intro k_ hn_ hk H locs hP hD hS ls hl
      refine lv_iload_n hx hb dX7_share_2 rfl (lv_at hl 0 rfl) ?_
      refine lv_bipush (v := nI (7)) hx hb dX7_share_3 (by decide) ?_
      refine zn_icmp_ge (tgt := 21) hx hb dX7_share_5 (by decide) (by omega) (by omega) (fun c_5 => ?_) (fun c_5 => ?_)
      · refine lv_iconst (v := nI (0)) hx hb dX7_share_21 rfl ?_
        refine lv_istore_n (lv' := [(1, .int (nI (0))), (0, .ref (h 0))]) hx hb dX7_share_22 rfl hl (by decide) rfl (fun ls hl => ?_)
        have e7 : k_ = 7 := by omega
        rw [e7] at hP hD
        have hP : va_P (zk_D s0) zk_Cl (zm_W s0 h f (va_up a 5 (zp_gv (a 0) (a 5) 0))) H := hP
        have hD : va_D A (zm_W s0 h f (va_up a 5 (zp_gv (a 0) (a 5) 0))) := hD
        have lp_23 : ∀ (n_ : Nat) (t_ : Nat), (a 0 2 - t_) < n_ → (t_ ≤ a 0 2) → ∀ (H : Heap) (locs : List Loc), va_P (zk_D s0) zk_Cl (zm_W s0 h f (va_up a 5 (zp_gv (a 0) (a 5) t_))) H → va_D A (zm_W s0 h f (va_up a 5 (zp_gv (a 0) (a 5) t_))) → va_S A s.heap H locs → ∀ ls : Array Slot, lv_has ls 2 [(1, .int (nI (t_))), (0, .ref (h 0))] → W p l e R s m args below meth c H locs 0 0 Q (F0 m 23 ls []) := by
          intro n_
          induction n_ with
          | zero => intro t_ hn_; exact absurd hn_ (Nat.not_lt_zero _)
          | succ n_ ih_23 =>
            intro t_ hn_ ht H locs hP hD hS ls hl
            have hS5 : ∀ j, j < 7 → zp_gv (a 0) (a 5) t_ j ≤ 10000 := fun j hj => Nat.le_trans (zp_gv_le _ _ _ hj) (by omega)
            refine lv_iload_n hx hb dX7_share_23 rfl (lv_at hl 0 rfl) ?_
            refine lv_aload_n hx hb dX7_share_24 rfl (lv_at hl 1 rfl) ?_
            refine zm_get (f := f) fx 0 (by decide) q2241 (v := .ref (h 1)) rfl hP dX7_share_25 ?_
            refine lv_iconst (v := nI (2)) hx hb dX7_share_28 rfl ?_
            refine zn_ald hx hb hK hP 1 (g := a 0) rfl (i := 2) (by omega) (by decide) dX7_share_29 ?_
            refine zn_icmp_ge (tgt := 59) hx hb dX7_share_30 (by decide) (by omega) (by omega) (fun c_30 => ?_) (fun c_30 => ?_)
            · exact zk_retv fx eQ rfl hP hD hS (Nat.le_of_ble_eq_true rfl) (Nat.le_of_ble_eq_true rfl) dX7_share_59 (⟨rfl, by rw [show t_ = a 0 2 by omega]⟩)
            · refine lv_aload_n hx hb dX7_share_33 rfl (lv_at hl 1 rfl) ?_
              refine zk_callV0 fx (cm_nextShare l s0 b h f (va_up a 5 (zp_gv (a 0) (a 5) t_))  (hS5) (ok)) (lw_V q2529 q2531 qs64 q108 q2532) ⟨rfl, by decide, by decide, (show (parseMethodDescriptor yX7_nextShare.desc).map (fun d => d.parameters.length) = some 0 by decide +kernel)⟩ ⟨zk_le hR.1 rfl, zk_le hR.2.1 rfl⟩ ⟨zk_le hR.2.2.1 rfl, zk_le hR.2.2.2 rfl⟩ hP hD hS 0 rfl rfl 0 rfl hl.1 rfl (Nat.le_of_ble_eq_true rfl) dX7_share_34 (fun v_ w_ H locs hq_ hP hD hS => ?_)
              obtain ⟨rfl, rfl⟩ := hq_
              refine zn_st (st2 := [.int (zp_oi (zp_ns (a 0) (zp_gv (a 0) (a 5) t_) ((a 0) 0)))]) rfl ?_
              refine lv_if_lt (tgt := 59) hx hb dX7_share_37 (by decide) (fun c_37 => ?_) (fun c_37 => ?_)
              · have hz0 : zp_ns (a 0) (zp_gv (a 0) (a 5) t_) (a 0 0) = none := zp_oi_neg c_37 (fun j hj => by have := (zp_ns_lt hj).1; omega)
                exact zk_retv fx eQ rfl hP hD hS (Nat.le_of_ble_eq_true rfl) (Nat.le_of_ble_eq_true rfl) dX7_share_59 (⟨rfl, by have hq := zp_gv_stop hz0 (a 0 2 - t_); rw [show t_ + (a 0 2 - t_) = a 0 2 by omega] at hq; rw [hq]⟩)
              · obtain ⟨j, hz⟩ := zp_oi_nn c_37
                refine lv_aload_n hx hb dX7_share_40 rfl (lv_at hl 1 rfl) ?_
                refine zm_get (f := f) fx 5 (by decide) q2246 (v := .ref (h 6)) rfl hP dX7_share_41 ?_
                refine lv_aload_n hx hb dX7_share_44 rfl (lv_at hl 1 rfl) ?_
                refine zk_callV0 fx (cm_nextShare l s0 b h f (va_up a 5 (zp_gv (a 0) (a 5) t_))  (hS5) (ok)) (lw_V q2529 q2531 qs64 q108 q2532) ⟨rfl, by decide, by decide, (show (parseMethodDescriptor yX7_nextShare.desc).map (fun d => d.parameters.length) = some 0 by decide +kernel)⟩ ⟨zk_le hR.1 rfl, zk_le hR.2.1 rfl⟩ ⟨zk_le hR.2.2.1 rfl, zk_le hR.2.2.2 rfl⟩ hP hD hS 0 rfl rfl 0 rfl hl.1 rfl (Nat.le_of_ble_eq_true rfl) dX7_share_45 (fun v_ w_ H locs hq_ hP hD hS => ?_)
                obtain ⟨rfl, rfl⟩ := hq_
                refine zn_st (st2 := [.int (zp_oi (zp_ns (a 0) (zp_gv (a 0) (a 5) t_) ((a 0) 0))), .ref (h 6)]) rfl ?_
                refine zn_top (y := nI (j)) (by rw [hz]; rfl) ?_
                have hj7 : j < 7 := by have := (zp_ns_lt hz).1; omega
                refine lv_dup2_11 hx hb dX7_share_48 rfl rfl ?_
                refine zn_ald hx hb hK hP 6 (g := zp_gv (a 0) (a 5) t_) rfl (i := j) (by omega) (by decide) dX7_share_49 ?_
                refine lv_iconst (v := nI (1)) hx hb dX7_share_50 rfl ?_
                refine zn_iadd hx hb dX7_share_51 ?_
                refine zn_ast hx hb hK hP hD hS 6 (n := 7) rfl (i := j) (x := ((zp_gv (a 0) (a 5) t_) j) + 1) (by omega) (by decide) dX7_share_52 (zm_seta 5 (by decide) 7 rfl (va_up (zp_gv (a 0) (a 5) t_) j (((zp_gv (a 0) (a 5) t_) j) + 1))) (fun H locs hP hD hS => ?_)
                rw [zp_gv_some hz] at hP hD
                have hP : va_P (zk_D s0) zk_Cl (zm_W s0 h f (va_up a 5 (zp_gv (a 0) (a 5) (t_ + 1)))) H := hP
                have hD : va_D A (zm_W s0 h f (va_up a 5 (zp_gv (a 0) (a 5) (t_ + 1)))) := hD
                refine lv_iinc (v := nI (t_ + 1)) (lv' := [(1, .int (nI (t_ + 1))), (0, .ref (h 0))]) hx hb dX7_share_53 hl (k := 0) rfl (nI_add t_ 1) (by decide) rfl (fun ls hl => ?_)
                refine lv_goto (tgt := 23) hx hb dX7_share_56 (by decide) ?_
                exact ih_23 (t_ + 1) (by omega) (by omega) _ _ hP hD hS ls (lv_sub hl [0, 1] rfl)
        exact lp_23 _ 0 (Nat.lt_succ_self _) (by omega) _ _ hP hD hS ls (lv_sub hl [0, 1] rfl)
      · refine lv_aload_n hx hb dX7_share_8 rfl (lv_at hl 1 rfl) ?_
        refine zm_get (f := f) fx 5 (by decide) q2246 (v := .ref (h 6)) rfl hP dX7_share_9 ?_
        refine lv_iload_n hx hb dX7_share_12 rfl (lv_at hl 0 rfl) ?_
        refine lv_iconst (v := nI (0)) hx hb dX7_share_13 rfl ?_
        refine zn_ast hx hb hK hP hD hS 6 (n := 7) rfl (i := k_) (x := 0) (by omega) (by decide) dX7_share_14 (zm_seta 5 (by decide) 7 rfl (va_up (zp_z7 (a 5) k_) k_ 0)) (fun H locs hP hD hS => ?_)
        rw [zp_z71] at hP hD
        have hP : va_P (zk_D s0) zk_Cl (zm_W s0 h f (va_up a 5 (zp_z7 (a 5) (k_ + 1)))) H := hP
        have hD : va_D A (zm_W s0 h f (va_up a 5 (zp_z7 (a 5) (k_ + 1)))) := hD
        refine lv_iinc (v := nI (k_ + 1)) (lv' := [(1, .int (nI (k_ + 1))), (0, .ref (h 0))]) hx hb dX7_share_15 hl (k := 0) rfl (nI_add k_ 1) (by decide) rfl (fun ls hl => ?_)
        refine lv_goto (tgt := 2) hx hb dX7_share_18 (by decide) ?_
        exact ih_2 (k_ + 1) (by omega) (by omega) _ _ hP hD hS ls (lv_sub hl [0, 1] rfl)
  exact lp_2 _ 0 (Nat.lt_succ_self _) (by omega) _ _ hP hD hS ls (lv_sub hl [0, 1] rfl)
set_option maxHeartbeats 4000000 in
set_option maxRecDepth 100000 in
theorem cm_sharing (l : Launch) (s0 : State) (b : Nat) (h f : Nat → Nat) (a : Nat → Nat → Nat) (x : Int32) (ok : zp_Ok (a 0)) : zk_C l s0 b yX7_sharing (ws_ yX7_sharing cX7_sharing 2 (some .int)) 4 86 0 0 [.ref (h 0), .int (x)] (zm_W s0 h f a) (fun r w => zm_N s0 h f a (Bool.toNat (!(zk_ix x (a 0 0)))) (.int (nI (if zk_ix x (a 0 0) = true then zp_shr (a 0) x.toNatClampNeg else 0))) r w) := by
  refine zk_mk (by decide) rfl ?_
  intro p e s m below meth c A R args Q fx hR eQ hP hD hS ls hl
  have hx := fx.1
  have hb := fx.2.1
  have hK := fx.2.2.2.2.2.2.2.2.1.K
  have hl : lv_has ls 2 [(0, .ref (h 0)), (1, .int (x))] := hl
  obtain ⟨ok0, ok1, ok2, ok3, ok4, ok5, ok6, okw, oke, okp⟩ := id ok
  refine lv_aload_n hx hb dX7_sharing_0 rfl (lv_at hl 0 rfl) ?_
  refine lv_aload_n hx hb dX7_sharing_1 rfl (lv_at hl 0 rfl) ?_
  refine lv_iload_n hx hb dX7_sharing_2 rfl (lv_at hl 1 rfl) ?_
  refine zk_callV0 fx (cm_isEdition l s0 b h f a x (ok0)) (lw_V q2430 q2432 qs48 q108 q2433) ⟨rfl, by decide, by decide, (show (parseMethodDescriptor yX7_isEdition.desc).map (fun d => d.parameters.length) = some 1 by decide +kernel)⟩ ⟨zk_le hR.1 rfl, zk_le hR.2.1 rfl⟩ ⟨zk_le hR.2.2.1 rfl, zk_le hR.2.2.2 rfl⟩ hP hD hS 0 rfl rfl 0 rfl hl.1 rfl (Nat.le_of_ble_eq_true rfl) dX7_sharing_3 (fun v_ w_ H locs hq_ hP hD hS => ?_)
  obtain ⟨rfl, rfl⟩ := hq_
  refine zn_st (st2 := [.int (nI (Bool.toNat (zk_ix x ((a 0) 0)))), .ref (h 0)]) rfl ?_
  refine zk_callV0 fx (cm_checked l s0 b h f a (zk_ix x ((a 0) 0))) (lw_V q2378 q2380 qs42 q108 q2381) ⟨rfl, by decide, by decide, (show (parseMethodDescriptor yX7_checked.desc).map (fun d => d.parameters.length) = some 1 by decide +kernel)⟩ ⟨zk_le hR.1 rfl, zk_le hR.2.1 rfl⟩ ⟨zk_le hR.2.2.1 rfl, zk_le hR.2.2.2 rfl⟩ hP hD hS 0 rfl rfl 0 rfl hl.1 rfl (Nat.le_of_ble_eq_true rfl) dX7_sharing_6 (fun v_ w_ H locs hq_ hP hD hS => ?_)
  obtain ⟨rfl, rfl⟩ := hq_
  refine zn_st (st2 := [.int (nI (Bool.toNat (!(zk_ix x ((a 0) 0)))))]) rfl ?_
  refine zb_if_le (tgt := 14) hx hb dX7_sharing_9 (by decide) (fun c_9 => ?_) (fun c_9 => ?_)
  · obtain ⟨i, hi, rfl⟩ := zk_ix_of c_9 (by omega)
    refine lv_aload_n hx hb dX7_sharing_14 rfl (lv_at hl 0 rfl) ?_
    refine zk_callV0 fx (cm_share l s0 b h (va_up f 9 (Bool.toNat (!(zk_ix (nI i) ((a 0) 0))))) a  (ok)) (lw_V q2525 q2527 qs63 q108 q2528) ⟨rfl, by decide, by decide, (show (parseMethodDescriptor yX7_share.desc).map (fun d => d.parameters.length) = some 0 by decide +kernel)⟩ ⟨zk_le hR.1 rfl, zk_le hR.2.1 rfl⟩ ⟨zk_le hR.2.2.1 rfl, zk_le hR.2.2.2 rfl⟩ hP hD hS 0 rfl rfl 0 rfl hl.1 rfl (Nat.le_of_ble_eq_true rfl) dX7_sharing_15 (fun v_ w_ H locs hq_ hP hD hS => ?_)
    obtain ⟨rfl, rfl⟩ := hq_
    refine zn_st (st2 := []) rfl ?_
    refine lv_aload_n hx hb dX7_sharing_18 rfl (lv_at hl 0 rfl) ?_
    refine zm_get (f := (va_up f 9 (Bool.toNat (!(zk_ix (nI i) ((a 0) 0)))))) fx 5 (by decide) q2246 (v := .ref (h 6)) rfl hP dX7_sharing_19 ?_
    refine lv_iload_n hx hb dX7_sharing_22 rfl (lv_at hl 1 rfl) ?_
    refine zn_ald hx hb hK hP 6 (g := zp_gv (a 0) (a 5) ((a 0) 2)) rfl (i := i) (by omega) (by decide) dX7_sharing_23 ?_
    exact zk_reti (v := nI ((zp_gv (a 0) (a 5) ((a 0) 2)) i)) fx eQ rfl (rfl) hP hD hS (Nat.le_of_ble_eq_true rfl) (Nat.le_of_ble_eq_true rfl) dX7_sharing_24 (⟨by rw [if_pos c_9, nI_clamp (by omega)]; exact congrArg (fun z => some (Value.int (nI z))) (zp_gv_irr _ _ _ ok0 _ i (by omega)), _, _, rfl, ⟨rfl, rfl, rfl, rfl, rfl, rfl, rfl, rfl⟩, ⟨rfl, rfl⟩, rfl, rfl⟩)
  · refine lv_iconst (v := nI (0)) hx hb dX7_sharing_12 rfl ?_
    exact zk_reti (v := nI (0)) fx eQ rfl (rfl) hP hD hS (Nat.le_of_ble_eq_true rfl) (Nat.le_of_ble_eq_true rfl) dX7_sharing_13 (⟨by rw [if_neg (by rw [c_9]; decide)], _, _, rfl, ⟨rfl, rfl, rfl, rfl, rfl, rfl, rfl, rfl⟩, ⟨rfl, rfl⟩, rfl, rfl⟩)
set_option maxHeartbeats 4000000 in
set_option maxRecDepth 100000 in
theorem cm_shareOf (l : Launch) (s0 : State) (b : Nat) (h f : Nat → Nat) (a : Nat → Nat → Nat) (x : Int32) (ok : zp_Ok (a 0)) : zk_C l s0 b yX7_shareOf (ws_ yX7_shareOf cX7_shareOf 2 (some .int)) 5 107 0 0 [.ref (h 0), .int (x)] (zm_W s0 h f a) (fun r w => zm_N s0 h f a (Bool.toNat (!(zk_ix x (a 0 0)))) (.int (nI (if zk_ix x (a 0 0) = true then zp_shr (a 0) x.toNatClampNeg else 0))) r w) := by
  refine zk_mk (by decide) rfl ?_
  intro p e s m below meth c A R args Q fx hR eQ hP hD hS ls hl
  have hx := fx.1
  have hb := fx.2.1
  have hK := fx.2.2.2.2.2.2.2.2.1.K
  have hl : lv_has ls 2 [(0, .ref (h 0)), (1, .int (x))] := hl
  refine lv_aload_n hx hb dX7_shareOf_0 rfl (lv_at hl 0 rfl) ?_
  refine lv_iload_n hx hb dX7_shareOf_1 rfl (lv_at hl 1 rfl) ?_
  refine zk_callV0 fx (cm_sharing l s0 b h f a x (ok)) (lw_V q2521 q2523 qs62 q108 q2524) ⟨rfl, by decide, by decide, (show (parseMethodDescriptor yX7_sharing.desc).map (fun d => d.parameters.length) = some 1 by decide +kernel)⟩ ⟨zk_le hR.1 rfl, zk_le hR.2.1 rfl⟩ ⟨zk_le hR.2.2.1 rfl, zk_le hR.2.2.2 rfl⟩ hP hD hS 0 rfl rfl 0 rfl hl.1 rfl (Nat.le_of_ble_eq_true rfl) dX7_shareOf_2 (fun v_ w_ H locs hq_ hP hD hS => ?_)
  obtain ⟨rfl, f_1, a_1, rfl, hk_1, hh_1, ht_1, ha_1⟩ := hq_
  refine zn_st (st2 := [.int (nI (if zk_ix x ((a 0) 0) = true then zp_shr (a 0) x.toNatClampNeg else 0))]) rfl ?_
  exact zk_reti (v := nI (if zk_ix x ((a 0) 0) = true then zp_shr (a 0) x.toNatClampNeg else 0)) fx eQ rfl (rfl) hP hD hS (Nat.le_of_ble_eq_true rfl) (Nat.le_of_ble_eq_true rfl) dX7_shareOf_5 (⟨rfl, _, _, rfl, hk_1, hh_1, ht_1, ha_1⟩)
set_option maxHeartbeats 4000000 in
set_option maxRecDepth 100000 in
theorem cm_shareByLevel (l : Launch) (s0 : State) (b : Nat) (h f : Nat → Nat) (a : Nat → Nat → Nat) (x : Int32) (ok : zp_Ok (a 0)) : zk_C l s0 b yX7_shareByLevel (ws_ yX7_shareByLevel cX7_shareByLevel 2 (some .int)) 5 107 0 0 [.ref (h 0), .int (x)] (zm_W s0 h f a) (fun r w => zm_N s0 h f a (Bool.toNat (!(zk_ix x (a 0 0)))) (.int (nI (if zk_ix x (a 0 0) = true then zp_shr (a 0) x.toNatClampNeg else 0))) r w) := by
  refine zk_mk (by decide) rfl ?_
  intro p e s m below meth c A R args Q fx hR eQ hP hD hS ls hl
  have hx := fx.1
  have hb := fx.2.1
  have hK := fx.2.2.2.2.2.2.2.2.1.K
  have hl : lv_has ls 2 [(0, .ref (h 0)), (1, .int (x))] := hl
  refine lv_aload_n hx hb dX7_shareByLevel_0 rfl (lv_at hl 0 rfl) ?_
  refine lv_iload_n hx hb dX7_shareByLevel_1 rfl (lv_at hl 1 rfl) ?_
  refine zk_callV0 fx (cm_sharing l s0 b h f a x (ok)) (lw_V q2521 q2523 qs62 q108 q2524) ⟨rfl, by decide, by decide, (show (parseMethodDescriptor yX7_sharing.desc).map (fun d => d.parameters.length) = some 1 by decide +kernel)⟩ ⟨zk_le hR.1 rfl, zk_le hR.2.1 rfl⟩ ⟨zk_le hR.2.2.1 rfl, zk_le hR.2.2.2 rfl⟩ hP hD hS 0 rfl rfl 0 rfl hl.1 rfl (Nat.le_of_ble_eq_true rfl) dX7_shareByLevel_2 (fun v_ w_ H locs hq_ hP hD hS => ?_)
  obtain ⟨rfl, f_1, a_1, rfl, hk_1, hh_1, ht_1, ha_1⟩ := hq_
  refine zn_st (st2 := [.int (nI (if zk_ix x ((a 0) 0) = true then zp_shr (a 0) x.toNatClampNeg else 0))]) rfl ?_
  exact zk_reti (v := nI (if zk_ix x ((a 0) 0) = true then zp_shr (a 0) x.toNatClampNeg else 0)) fx eQ rfl (rfl) hP hD hS (Nat.le_of_ble_eq_true rfl) (Nat.le_of_ble_eq_true rfl) dX7_shareByLevel_5 (⟨rfl, _, _, rfl, hk_1, hh_1, ht_1, ha_1⟩)
set_option maxHeartbeats 4000000 in
set_option maxRecDepth 100000 in
theorem cm_open (l : Launch) (s0 : State) (b : Nat) (h f : Nat → Nat) (a : Nat → Nat → Nat) (ok : zp_Ok (a 0)) : zk_C l s0 b yX7_open (ws_ yX7_open cX7_open 3 (some .int)) 2 43 0 0 [.ref (h 0)] (zm_W s0 h f a) (fun r w => r = some (.int (nI (zp_om (a 0) (a 0 0)))) ∧ w = zm_W s0 h f a) := by
  refine zk_mk (by decide) rfl ?_
  intro p e s m below meth c A R args Q fx hR eQ hP hD hS ls hl
  have hx := fx.1
  have hb := fx.2.1
  have hK := fx.2.2.2.2.2.2.2.2.1.K
  have hl : lv_has ls 3 [(0, .ref (h 0))] := hl
  obtain ⟨ok0, ok1, ok2, ok3, ok4, ok5, ok6, okw, oke, okp⟩ := id ok
  refine lv_iconst (v := nI (0)) hx hb dX7_open_0 rfl ?_
  refine lv_istore_n (lv' := [(1, .int (nI (0))), (0, .ref (h 0))]) hx hb dX7_open_1 rfl hl (by decide) rfl (fun ls hl => ?_)
  refine lv_iconst (v := nI (0)) hx hb dX7_open_2 rfl ?_
  refine lv_istore_n (lv' := [(2, .int (nI (0))), (1, .int (nI (0))), (0, .ref (h 0))]) hx hb dX7_open_3 rfl hl (by decide) rfl (fun ls hl => ?_)
  have lp_4 : ∀ (n_ : Nat) (k_ : Nat), (a 0 0 - k_) < n_ → (k_ ≤ a 0 0) → ∀ (H : Heap) (locs : List Loc), va_P (zk_D s0) zk_Cl (zm_W s0 h f a) H → va_D A (zm_W s0 h f a) → va_S A s.heap H locs → ∀ ls : Array Slot, lv_has ls 3 [(2, .int (nI (k_))), (1, .int (nI (zp_om (a 0) k_))), (0, .ref (h 0))] → W p l e R s m args below meth c H locs 0 0 Q (F0 m 4 ls []) := by
    intro n_
    induction n_ with
    | zero => intro k_ hn_; exact absurd hn_ (Nat.not_lt_zero _)
    | succ n_ ih_4 =>
      intro k_ hn_ hk H locs hP hD hS ls hl
      have hlt := zp_om_lt (a 0) k_
      have hp2 : 2 ^ k_ ≤ 2 ^ 7 := Nat.pow_le_pow_right (by decide) (by omega)
      refine lv_iload_n hx hb dX7_open_4 rfl (lv_at hl 0 rfl) ?_
      refine lv_aload_n hx hb dX7_open_5 rfl (lv_at hl 2 rfl) ?_
      refine zm_get (f := f) fx 0 (by decide) q2241 (v := .ref (h 1)) rfl hP dX7_open_6 ?_
      refine lv_iconst (v := nI (0)) hx hb dX7_open_9 rfl ?_
      refine zn_ald hx hb hK hP 1 (g := a 0) rfl (i := 0) (by omega) (by decide) dX7_open_10 ?_
      refine zn_icmp_ge (tgt := 38) hx hb dX7_open_11 (by decide) (by omega) (by omega) (fun c_11 => ?_) (fun c_11 => ?_)
      · refine lv_iload_n hx hb dX7_open_38 rfl (lv_at hl 1 rfl) ?_
        exact zk_reti (v := nI (zp_om (a 0) k_)) fx eQ rfl (rfl) hP hD hS (Nat.le_of_ble_eq_true rfl) (Nat.le_of_ble_eq_true rfl) dX7_open_39 (⟨zk_eqr (by rw [show k_ = a 0 0 by omega]), rfl⟩)
      · refine lv_iload_n hx hb dX7_open_14 rfl (lv_at hl 1 rfl) ?_
        refine lv_aload_n hx hb dX7_open_15 rfl (lv_at hl 2 rfl) ?_
        refine lv_iload_n hx hb dX7_open_16 rfl (lv_at hl 0 rfl) ?_
        refine zk_callV0 fx (cm_missing l s0 b h f a k_ (by omega) (ok)) (lw_V q2446 q2448 qs51 q108 q2449) ⟨rfl, by decide, by decide, (show (parseMethodDescriptor yX7_missing.desc).map (fun d => d.parameters.length) = some 1 by decide +kernel)⟩ ⟨zk_le hR.1 rfl, zk_le hR.2.1 rfl⟩ ⟨zk_le hR.2.2.1 rfl, zk_le hR.2.2.2 rfl⟩ hP hD hS 0 rfl rfl 0 rfl hl.1 rfl (Nat.le_of_ble_eq_true rfl) dX7_open_17 (fun v_ w_ H locs hq_ hP hD hS => ?_)
        obtain ⟨rfl, rfl⟩ := hq_
        refine zn_st (st2 := [.int (nI (zp_miss (a 0) k_)), .int (nI (zp_om (a 0) k_))]) rfl ?_
        have hm1 : zp_miss (a 0) k_ ≤ 50 := (by have := oke k_ (by omega); unfold zp_miss; omega)
        refine zn_if_le (tgt := 29) hx hb dX7_open_20 (by decide) (by omega) (fun c_20 => ?_) (fun c_20 => ?_)
        · refine lv_iconst (v := nI (0)) hx hb dX7_open_29 rfl ?_
          refine zn_ior hx hb dX7_open_30 (by omega) (by omega) ?_
          refine zn_top (y := nI (zp_om (a 0) (k_ + 1))) (by rw [zp_om, if_neg (by omega)]) ?_
          refine lv_istore_n (lv' := [(1, .int (nI (zp_om (a 0) (k_ + 1)))), (2, .int (nI (k_))), (0, .ref (h 0))]) hx hb dX7_open_31 rfl hl (by decide) rfl (fun ls hl => ?_)
          refine lv_iinc (v := nI (k_ + 1)) (lv' := [(2, .int (nI (k_ + 1))), (1, .int (nI (zp_om (a 0) (k_ + 1)))), (0, .ref (h 0))]) hx hb dX7_open_32 hl (k := 1) rfl (nI_add k_ 1) (by decide) rfl (fun ls hl => ?_)
          refine lv_goto (tgt := 4) hx hb dX7_open_35 (by decide) ?_
          exact ih_4 (k_ + 1) (by omega) (by omega) _ _ hP hD hS ls (lv_sub hl [0, 1, 2] rfl)
        · refine lv_iconst (v := nI (1)) hx hb dX7_open_23 rfl ?_
          refine lv_iload_n hx hb dX7_open_24 rfl (lv_at hl 0 rfl) ?_
          refine zn_ishl hx hb dX7_open_25 (by omega) (by omega) ?_
          refine lv_goto (tgt := 30) hx hb dX7_open_26 (by decide) ?_
          refine zn_ior hx hb dX7_open_30 (by omega) (by omega) ?_
          refine zn_top (y := nI (zp_om (a 0) (k_ + 1))) (by rw [zp_om, if_pos (by omega), Nat.one_mul]) ?_
          refine lv_istore_n (lv' := [(1, .int (nI (zp_om (a 0) (k_ + 1)))), (2, .int (nI (k_))), (0, .ref (h 0))]) hx hb dX7_open_31 rfl hl (by decide) rfl (fun ls hl => ?_)
          refine lv_iinc (v := nI (k_ + 1)) (lv' := [(2, .int (nI (k_ + 1))), (1, .int (nI (zp_om (a 0) (k_ + 1)))), (0, .ref (h 0))]) hx hb dX7_open_32 hl (k := 1) rfl (nI_add k_ 1) (by decide) rfl (fun ls hl => ?_)
          refine lv_goto (tgt := 4) hx hb dX7_open_35 (by decide) ?_
          exact ih_4 (k_ + 1) (by omega) (by omega) _ _ hP hD hS ls (lv_sub hl [0, 1, 2] rfl)
  exact lp_4 _ 0 (Nat.lt_succ_self _) (by omega) _ _ hP hD hS ls (lv_sub hl [0, 1, 2] rfl)
set_option maxHeartbeats 4000000 in
set_option maxRecDepth 100000 in
theorem cm_changeTo (l : Launch) (s0 : State) (b : Nat) (h f : Nat → Nat) (a : Nat → Nat → Nat) (t k : Nat) (ht : t = 7 ∨ t < a 0 0) (hk : k < a 0 0) (ok : zp_Ok (a 0)) : zk_C l s0 b yX7_changeTo (ws_ yX7_changeTo cX7_changeTo 3 (some .int)) 1 22 0 0 [.ref (h 0), .int (nI (t)), .int (nI (k))] (zm_W s0 h f a) (fun r w => r = some (.int (nI (zp_change (if t = 7 then a 0 4 else zp_col (a 0) t) (zp_col (a 0) k)))) ∧ w = zm_W s0 h f a) := by
  refine zk_mk (by decide) rfl ?_
  intro p e s m below meth c A R args Q fx hR eQ hP hD hS ls hl
  have hx := fx.1
  have hb := fx.2.1
  have hK := fx.2.2.2.2.2.2.2.2.1.K
  have hl : lv_has ls 3 [(0, .ref (h 0)), (1, .int (nI (t))), (2, .int (nI (k)))] := hl
  obtain ⟨ok0, ok1, ok2, ok3, ok4, ok5, ok6, okw, oke, okp⟩ := id ok
  have h1 := oke k hk
  refine lv_iload_n hx hb dX7_changeTo_0 rfl (lv_at hl 1 rfl) ?_
  refine lv_bipush (v := nI (7)) hx hb dX7_changeTo_1 (by decide) ?_
  refine zn_icmp_ne (tgt := 15) hx hb dX7_changeTo_3 (by decide) (by omega) (by omega) (fun c_3 => ?_) (fun c_3 => ?_)
  · have h2 := oke t (by omega)
    refine lv_aload_n hx hb dX7_changeTo_15 rfl (lv_at hl 0 rfl) ?_
    refine lv_iload_n hx hb dX7_changeTo_16 rfl (lv_at hl 1 rfl) ?_
    refine lv_iconst (v := nI (0)) hx hb dX7_changeTo_17 rfl ?_
    refine zk_callV0 fx (cm_e l s0 b h f a t 0 (by omega)) (lw_V q2450 q2452 qs52 q108 q2453) ⟨rfl, by decide, by decide, (show (parseMethodDescriptor yX7_e.desc).map (fun d => d.parameters.length) = some 2 by decide +kernel)⟩ ⟨zk_le hR.1 rfl, zk_le hR.2.1 rfl⟩ ⟨zk_le hR.2.2.1 rfl, zk_le hR.2.2.2 rfl⟩ hP hD hS 0 rfl rfl 0 rfl hl.1 rfl (Nat.le_of_ble_eq_true rfl) dX7_changeTo_18 (fun v_ w_ H locs hq_ hP hD hS => ?_)
    obtain ⟨rfl, rfl⟩ := hq_
    refine zn_st (st2 := [.int (nI ((a 0) (20 + 4 * t)))]) rfl ?_
    refine lv_aload_n hx hb dX7_changeTo_21 rfl (lv_at hl 0 rfl) ?_
    refine lv_iload_n hx hb dX7_changeTo_22 rfl (lv_at hl 2 rfl) ?_
    refine lv_iconst (v := nI (0)) hx hb dX7_changeTo_23 rfl ?_
    refine zk_callV0 fx (cm_e l s0 b h f a k 0 (by omega)) (lw_V q2450 q2452 qs52 q108 q2453) ⟨rfl, by decide, by decide, (show (parseMethodDescriptor yX7_e.desc).map (fun d => d.parameters.length) = some 2 by decide +kernel)⟩ ⟨zk_le hR.1 rfl, zk_le hR.2.1 rfl⟩ ⟨zk_le hR.2.2.1 rfl, zk_le hR.2.2.2 rfl⟩ hP hD hS 0 rfl rfl 0 rfl hl.1 rfl (Nat.le_of_ble_eq_true rfl) dX7_changeTo_24 (fun v_ w_ H locs hq_ hP hD hS => ?_)
    obtain ⟨rfl, rfl⟩ := hq_
    refine zn_st (st2 := [.int (nI ((a 0) (20 + 4 * k))), .int (nI ((a 0) (20 + 4 * t)))]) rfl ?_
    refine zk_callSn fx (cm_change l s0 b ((a 0) (20 + 4 * t)) ((a 0) (20 + 4 * k)) (by omega) (by omega)) (lw_S q2469 q2470 q108 q2471) ⟨by decide, by decide, (show (parseMethodDescriptor yX7_change.desc).map (fun d => d.parameters.length) = some 2 by decide +kernel)⟩ ⟨zk_le hR.1 rfl, zk_le hR.2.1 rfl⟩ ⟨zk_le hR.2.2.1 rfl, zk_le hR.2.2.2 rfl⟩ hP hD hS hl.1 rfl (Nat.le_of_ble_eq_true rfl) dX7_changeTo_27 (fun v_ H locs hq_ hP hD hS => ?_)
    obtain rfl := hq_
    refine zn_st (st2 := [.int (nI (zp_change ((a 0) (20 + 4 * t)) ((a 0) (20 + 4 * k))))]) rfl ?_
    exact zk_reti (v := nI (zp_change ((a 0) (20 + 4 * t)) ((a 0) (20 + 4 * k)))) fx eQ rfl (rfl) hP hD hS (Nat.le_of_ble_eq_true rfl) (Nat.le_of_ble_eq_true rfl) dX7_changeTo_30 (⟨zk_eqr (by rw [if_neg (by omega)]; rfl), rfl⟩)
  · refine lv_aload_n hx hb dX7_changeTo_6 rfl (lv_at hl 0 rfl) ?_
    refine zm_get (f := f) fx 0 (by decide) q2241 (v := .ref (h 1)) rfl hP dX7_changeTo_7 ?_
    refine lv_iconst (v := nI (4)) hx hb dX7_changeTo_10 rfl ?_
    refine zn_ald hx hb hK hP 1 (g := a 0) rfl (i := 4) (by omega) (by decide) dX7_changeTo_11 ?_
    refine lv_goto (tgt := 21) hx hb dX7_changeTo_12 (by decide) ?_
    refine lv_aload_n hx hb dX7_changeTo_21 rfl (lv_at hl 0 rfl) ?_
    refine lv_iload_n hx hb dX7_changeTo_22 rfl (lv_at hl 2 rfl) ?_
    refine lv_iconst (v := nI (0)) hx hb dX7_changeTo_23 rfl ?_
    refine zk_callV0 fx (cm_e l s0 b h f a k 0 (by omega)) (lw_V q2450 q2452 qs52 q108 q2453) ⟨rfl, by decide, by decide, (show (parseMethodDescriptor yX7_e.desc).map (fun d => d.parameters.length) = some 2 by decide +kernel)⟩ ⟨zk_le hR.1 rfl, zk_le hR.2.1 rfl⟩ ⟨zk_le hR.2.2.1 rfl, zk_le hR.2.2.2 rfl⟩ hP hD hS 0 rfl rfl 0 rfl hl.1 rfl (Nat.le_of_ble_eq_true rfl) dX7_changeTo_24 (fun v_ w_ H locs hq_ hP hD hS => ?_)
    obtain ⟨rfl, rfl⟩ := hq_
    refine zn_st (st2 := [.int (nI ((a 0) (20 + 4 * k))), .int (nI ((a 0) 4))]) rfl ?_
    refine zk_callSn fx (cm_change l s0 b ((a 0) 4) ((a 0) (20 + 4 * k)) (by omega) (by omega)) (lw_S q2469 q2470 q108 q2471) ⟨by decide, by decide, (show (parseMethodDescriptor yX7_change.desc).map (fun d => d.parameters.length) = some 2 by decide +kernel)⟩ ⟨zk_le hR.1 rfl, zk_le hR.2.1 rfl⟩ ⟨zk_le hR.2.2.1 rfl, zk_le hR.2.2.2 rfl⟩ hP hD hS hl.1 rfl (Nat.le_of_ble_eq_true rfl) dX7_changeTo_27 (fun v_ H locs hq_ hP hD hS => ?_)
    obtain rfl := hq_
    refine zn_st (st2 := [.int (nI (zp_change ((a 0) 4) ((a 0) (20 + 4 * k))))]) rfl ?_
    exact zk_reti (v := nI (zp_change ((a 0) 4) ((a 0) (20 + 4 * k)))) fx eQ rfl (rfl) hP hD hS (Nat.le_of_ble_eq_true rfl) (Nat.le_of_ble_eq_true rfl) dX7_changeTo_30 (⟨zk_eqr (by rw [if_pos (by omega)]; rfl), rfl⟩)
set_option maxHeartbeats 4000000 in
set_option maxRecDepth 100000 in
theorem cm_with (l : Launch) (s0 : State) (b : Nat) (h f : Nat → Nat) (a : Nat → Nat → Nat) (S t k : Nat) (hS0 : S < 128) (hb0 : S.testBit k = true) (ht : t = 7 ∨ t < a 0 0) (hk : k < a 0 0) (ok : zp_Ok (a 0)) : zk_C l s0 b yX7_with (ws_ yX7_with cX7_with 4 (some .int)) 2 44 0 0 [.ref (h 0), .int (nI (S)), .int (nI (t)), .int (nI (k))] (zm_W s0 h f a) (fun r w => r = some (.int (nI (zp_change (if t = 7 then a 0 4 else zp_col (a 0) t) (zp_col (a 0) k) + a 4 (128 * k + (S - 2 ^ k))))) ∧ w = zm_W s0 h f a) := by
  refine zk_mk (by decide) rfl ?_
  intro p e s m below meth c A R args Q fx hR eQ hP hD hS ls hl
  have hx := fx.1
  have hb := fx.2.1
  have hK := fx.2.2.2.2.2.2.2.2.1.K
  have hl : lv_has ls 4 [(0, .ref (h 0)), (1, .int (nI (S))), (2, .int (nI (t))), (3, .int (nI (k)))] := hl
  obtain ⟨ok0, ok1, ok2, ok3, ok4, ok5, ok6, okw, oke, okp⟩ := id ok
  have h2 := zp_bs S hS0 k (by omega) hb0
  have hp2 : 2 ^ k ≤ 2 ^ 7 := Nat.pow_le_pow_right (by decide) (by omega)
  have hp0 : 0 < 2 ^ k := Nat.two_pow_pos k
  refine lv_aload_n hx hb dX7_with_0 rfl (lv_at hl 0 rfl) ?_
  refine lv_iload_n hx hb dX7_with_1 rfl (lv_at hl 2 rfl) ?_
  refine lv_iload_n hx hb dX7_with_2 rfl (lv_at hl 3 rfl) ?_
  refine zk_callV0 fx (cm_changeTo l s0 b h f a t k (ht) (hk) (ok)) (lw_V q2497 q2499 qs59 q108 q2500) ⟨rfl, by decide, by decide, (show (parseMethodDescriptor yX7_changeTo.desc).map (fun d => d.parameters.length) = some 2 by decide +kernel)⟩ ⟨zk_le hR.1 rfl, zk_le hR.2.1 rfl⟩ ⟨zk_le hR.2.2.1 rfl, zk_le hR.2.2.2 rfl⟩ hP hD hS 0 rfl rfl 0 rfl hl.1 rfl (Nat.le_of_ble_eq_true rfl) dX7_with_3 (fun v_ w_ H locs hq_ hP hD hS => ?_)
  obtain ⟨rfl, rfl⟩ := hq_
  refine zn_st (st2 := [.int (nI (zp_change (if t = 7 then (a 0) 4 else zp_col (a 0) t) (zp_col (a 0) k)))]) rfl ?_
  refine lv_aload_n hx hb dX7_with_6 rfl (lv_at hl 0 rfl) ?_
  refine zm_get (f := f) fx 4 (by decide) q2245 (v := .ref (h 5)) rfl hP dX7_with_7 ?_
  refine lv_sipush (v := nI (128)) hx hb dX7_with_10 (by decide) ?_
  refine lv_iload_n hx hb dX7_with_13 rfl (lv_at hl 3 rfl) ?_
  refine zn_imul hx hb dX7_with_14 ?_
  refine lv_iload_n hx hb dX7_with_15 rfl (lv_at hl 1 rfl) ?_
  refine lv_iconst (v := nI (1)) hx hb dX7_with_16 rfl ?_
  refine lv_iload_n hx hb dX7_with_17 rfl (lv_at hl 3 rfl) ?_
  refine zn_ishl hx hb dX7_with_18 (by omega) (by omega) ?_
  refine lv_iconst (v := (-1)) hx hb dX7_with_19 rfl ?_
  refine lv_ixor hx hb dX7_with_20 ?_
  refine lv_iand hx hb dX7_with_21 ?_
  refine zn_top (y := nI (S - 2 ^ k)) (zp_bc S hS0 k (by omega) hb0) ?_
  refine zn_iadd hx hb dX7_with_22 ?_
  refine zn_ald hx hb hK hP 5 (g := a 4) rfl (i := (128 * k) + (S - 2 ^ k)) (by omega) (by decide) dX7_with_23 ?_
  refine zn_iadd hx hb dX7_with_24 ?_
  exact zk_reti (v := nI ((zp_change (if t = 7 then (a 0) 4 else zp_col (a 0) t) (zp_col (a 0) k)) + ((a 4) ((128 * k) + (S - 2 ^ k))))) fx eQ rfl (rfl) hP hD hS (Nat.le_of_ble_eq_true rfl) (Nat.le_of_ble_eq_true rfl) dX7_with_25 (⟨rfl, rfl⟩)
