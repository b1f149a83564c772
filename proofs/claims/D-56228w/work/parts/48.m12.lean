/-! THE REFERENCE, part 12 (printed by prog/m12.py) -/
set_option maxRecDepth 100000
set_option maxHeartbeats 4000000 in
set_option maxRecDepth 100000 in
theorem cm_execute (l : Launch) (s0 : State) (b : Nat) (h f : Nat → Nat) (a : Nat → Nat → Nat) (B : Nat) (inv : zp_In B (a 0)) (hB : B + 15984 ≤ 10000000) (hd0 : f 10 ≤ 8) (hL0 : f 20 ≤ 60) (ht0 : ∀ i, i < f 20 → a 10 i ≤ 126) : zk_C l s0 b yX7_execute (ws_ yX7_execute cX7_execute 3 (some .int)) 7 162 0 0 [.ref (h 0)] (zm_W s0 h f a) (fun r w => zm_X s0 h f a (zt_parse (a 10) (f 20) (a 11) (a 12) (a 13)) r w) := by
  refine zk_mk (by decide) rfl ?_
  intro p e s m below meth c A R args Q fx hR eQ hP hD hS ls hl
  have hx := fx.1
  have hb := fx.2.1
  have hK := fx.2.2.2.2.2.2.2.2.1.K
  have hl : lv_has ls 3 [(0, .ref (h 0))] := hl
  refine lv_aload_n hx hb dX7_execute_0 rfl (lv_at hl 0 rfl) ?_
  refine zk_callV0 fx (cm_begin l s0 b h f a ) (lw_V q2325 q2327 qs34 q108 q2328) ⟨rfl, by decide, by decide, (show (parseMethodDescriptor yX7_begin.desc).map (fun d => d.parameters.length) = some 0 by decide +kernel)⟩ ⟨zk_le hR.1 rfl, zk_le hR.2.1 rfl⟩ ⟨zk_le hR.2.2.1 rfl, zk_le hR.2.2.2 rfl⟩ hP hD hS 0 rfl rfl 0 rfl hl.1 rfl (Nat.le_of_ble_eq_true rfl) dX7_execute_1 (fun v_ w_ H locs hq_ hP hD hS => ?_)
  obtain ⟨rfl, rfl⟩ := hq_
  refine zn_st (st2 := []) rfl ?_
  refine lv_aload_n hx hb dX7_execute_4 rfl (lv_at hl 0 rfl) ?_
  refine zk_callV0 fx (cm_parse l s0 b h (va_up f 9 (0)) (va_up a 1 (zp_cp (a 0) (a 1) 0 0 72))  (hL0) (ht0)) (lw_V q2689 q2691 qs75 q108 q2692) ⟨rfl, by decide, by decide, (show (parseMethodDescriptor yX7_parse.desc).map (fun d => d.parameters.length) = some 0 by decide +kernel)⟩ ⟨zk_le hR.1 rfl, zk_le hR.2.1 rfl⟩ ⟨zk_le hR.2.2.1 rfl, zk_le hR.2.2.2 rfl⟩ hP hD hS 0 rfl rfl 0 rfl hl.1 rfl (Nat.le_of_ble_eq_true rfl) dX7_execute_5 (fun v_ w_ H locs hq_ hP hD hS => ?_)
  obtain ⟨rfl, rfl⟩ := hq_
  refine zn_st (st2 := []) rfl ?_
  have hP : va_P (zk_D s0) zk_Cl (zm_W s0 h (va_up (va_up (va_up (va_up (va_up (va_up f 9 (0)) 21 (f 20)) 20 (0)) 24 ((zt_parse (a 10) (f 20) (a 11) (a 12) (a 13)).w)) 22 ((zt_parse (a 10) (f 20) (a 11) (a 12) (a 13)).p)) 23 ((zt_parse (a 10) (f 20) (a 11) (a 12) (a 13)).n)) (va_up (va_up (va_up (va_up a 1 (zp_cp (a 0) (a 1) 0 0 72)) 12 ((zt_parse (a 10) (f 20) (a 11) (a 12) (a 13)).F)) 13 ((zt_parse (a 10) (f 20) (a 11) (a 12) (a 13)).G)) 11 ((zt_parse (a 10) (f 20) (a 11) (a 12) (a 13)).K))) H := hP
  have hD : va_D A (zm_W s0 h (va_up (va_up (va_up (va_up (va_up (va_up f 9 (0)) 21 (f 20)) 20 (0)) 24 ((zt_parse (a 10) (f 20) (a 11) (a 12) (a 13)).w)) 22 ((zt_parse (a 10) (f 20) (a 11) (a 12) (a 13)).p)) 23 ((zt_parse (a 10) (f 20) (a 11) (a 12) (a 13)).n)) (va_up (va_up (va_up (va_up a 1 (zp_cp (a 0) (a 1) 0 0 72)) 12 ((zt_parse (a 10) (f 20) (a 11) (a 12) (a 13)).F)) 13 ((zt_parse (a 10) (f 20) (a 11) (a 12) (a 13)).G)) 11 ((zt_parse (a 10) (f 20) (a 11) (a 12) (a 13)).K))) := hD
  have hPo := zt_parse_ok (t := a 10) (L := f 20) (K := a 11) (F := a 12) (G := a 13)
  obtain ⟨P_, eP⟩ : ∃ z_ : zt_S, z_ = zt_parse (a 10) (f 20) (a 11) (a 12) (a 13) := ⟨_, rfl⟩
  have hPw := zt_parse_w (t := a 10) (L := f 20) (K := a 11) (F := a 12) (G := a 13)
  rw [← eP] at hP hD hPo hPw
  have hP : va_P (zk_D s0) zk_Cl (zm_W s0 h (va_up (va_up (va_up (va_up (va_up (va_up f 9 (0)) 21 (f 20)) 20 (0)) 24 (P_.w)) 22 (P_.p)) 23 (P_.n)) (va_up (va_up (va_up (va_up a 1 (zp_cp (a 0) (a 1) 0 0 72)) 12 (P_.F)) 13 (P_.G)) 11 (P_.K))) H := hP
  have hD : va_D A (zm_W s0 h (va_up (va_up (va_up (va_up (va_up (va_up f 9 (0)) 21 (f 20)) 20 (0)) 24 (P_.w)) 22 (P_.p)) 23 (P_.n)) (va_up (va_up (va_up (va_up a 1 (zp_cp (a 0) (a 1) 0 0 72)) 12 (P_.F)) 13 (P_.G)) 11 (P_.K))) := hD
  obtain ⟨hp1, hp2, hp3⟩ := hPo
  refine lv_aload_n hx hb dX7_execute_8 rfl (lv_at hl 0 rfl) ?_
  refine zm_get (f := (va_up (va_up (va_up (va_up (va_up (va_up f 9 (0)) 21 (f 20)) 20 (0)) 24 (P_.w)) 22 (P_.p)) 23 (P_.n))) fx 24 (by decide) q2265 (v := .int (nI (P_.w))) rfl hP dX7_execute_9 ?_
  refine zn_if_eq (tgt := 29) hx hb dX7_execute_12 (by decide) (by omega) (fun c_12 => ?_) (fun c_12 => ?_)
  · refine lv_iconst (v := nI (0)) hx hb dX7_execute_29 rfl ?_
    refine lv_istore_n (lv' := [(1, .int (nI (0))), (0, .ref (h 0))]) hx hb dX7_execute_30 rfl hl (by decide) rfl (fun ls hl => ?_)
    refine lv_iconst (v := nI (0)) hx hb dX7_execute_31 rfl ?_
    refine lv_istore_n (lv' := [(2, .int (nI (0))), (1, .int (nI (0))), (0, .ref (h 0))]) hx hb dX7_execute_32 rfl hl (by decide) rfl (fun ls hl => ?_)
    have hP : va_P (zk_D s0) zk_Cl (zm_W s0 h (va_up (va_up (va_up (va_up (va_up (va_up f 9 (0)) 21 (f 20)) 20 (0)) 24 (P_.w)) 22 (P_.p)) 23 (P_.n)) (va_up (va_up (va_up (va_up (va_up (va_up (va_up (va_up a 1 (zp_cp (a 0) (a 1) 0 0 72)) 12 (P_.F)) 13 (P_.G)) 11 (P_.K)) 5 (a 5)) 4 (a 4)) 8 (a 8)) 0 (a 0))) H := by rw [zm_do0] at hP; exact hP
    have hD : va_D A (zm_W s0 h (va_up (va_up (va_up (va_up (va_up (va_up f 9 (0)) 21 (f 20)) 20 (0)) 24 (P_.w)) 22 (P_.p)) 23 (P_.n)) (va_up (va_up (va_up (va_up (va_up (va_up (va_up (va_up a 1 (zp_cp (a 0) (a 1) 0 0 72)) 12 (P_.F)) 13 (P_.G)) 11 (P_.K)) 5 (a 5)) 4 (a 4)) 8 (a 8)) 0 (a 0))) := by rw [zm_do0] at hD; exact hD
    have lp_33 : ∀ (n_ : Nat) (k_ : Nat) (σ_ : Nat → Nat) (X_ : Nat → Nat) (F_ : Nat → Nat) (G_ : Nat → Nat), (P_.n - k_) < n_ → (k_ ≤ P_.n) → (zt_go P_.K P_.F P_.G P_.n 0 (a 0) = zt_go P_.K P_.F P_.G (P_.n - k_) k_ σ_) → (zp_In (B + 999 * k_) σ_) → ∀ (H : Heap) (locs : List Loc), va_P (zk_D s0) zk_Cl (zm_W s0 h (va_up (va_up (va_up (va_up (va_up (va_up f 9 (0)) 21 (f 20)) 20 (0)) 24 (P_.w)) 22 (P_.p)) 23 (P_.n)) (va_up (va_up (va_up (va_up (va_up (va_up (va_up (va_up a 1 (zp_cp (a 0) (a 1) 0 0 72)) 12 (P_.F)) 13 (P_.G)) 11 (P_.K)) 5 (X_)) 4 (F_)) 8 (G_)) 0 (σ_))) H → va_D A (zm_W s0 h (va_up (va_up (va_up (va_up (va_up (va_up f 9 (0)) 21 (f 20)) 20 (0)) 24 (P_.w)) 22 (P_.p)) 23 (P_.n)) (va_up (va_up (va_up (va_up (va_up (va_up (va_up (va_up a 1 (zp_cp (a 0) (a 1) 0 0 72)) 12 (P_.F)) 13 (P_.G)) 11 (P_.K)) 5 (X_)) 4 (F_)) 8 (G_)) 0 (σ_))) → va_S A s.heap H locs → ∀ ls : Array Slot, lv_has ls 3 [(2, .int (nI (k_))), (0, .ref (h 0))] → W p l e R s m args below meth c H locs 0 0 Q (F0 m 33 ls []) := by
      intro n_
      induction n_ with
      | zero => intro k_ σ_ X_ F_ G_ hn_; exact absurd hn_ (Nat.not_lt_zero _)
      | succ n_ ih_33 =>
        intro k_ σ_ X_ F_ G_ hn_ hk hgo hI H locs hP hD hS ls hl
        refine lv_iload_n hx hb dX7_execute_33 rfl (lv_at hl 0 rfl) ?_
        refine lv_aload_n hx hb dX7_execute_34 rfl (lv_at hl 1 rfl) ?_
        refine zm_get (f := (va_up (va_up (va_up (va_up (va_up (va_up f 9 (0)) 21 (f 20)) 20 (0)) 24 (P_.w)) 22 (P_.p)) 23 (P_.n))) fx 23 (by decide) q2264 (v := .int (nI (P_.n))) rfl hP dX7_execute_35 ?_
        refine zn_icmp_ge (tgt := 122) hx hb dX7_execute_38 (by decide) (by omega) (by omega) (fun c_38 => ?_) (fun c_38 => ?_)
        · refine lv_aload_n hx hb dX7_execute_122 rfl (lv_at hl 1 rfl) ?_
          refine lv_aload_n hx hb dX7_execute_123 rfl (lv_at hl 1 rfl) ?_
          refine zm_get (f := (va_up (va_up (va_up (va_up (va_up (va_up f 9 (0)) 21 (f 20)) 20 (0)) 24 (P_.w)) 22 (P_.p)) 23 (P_.n))) fx 23 (by decide) q2264 (v := .int (nI (P_.n))) rfl hP dX7_execute_124 ?_
          refine zk_callV0 fx (cm_commit l s0 b h (va_up (va_up (va_up (va_up (va_up (va_up f 9 (0)) 21 (f 20)) 20 (0)) 24 (P_.w)) 22 (P_.p)) 23 (P_.n)) (va_up (va_up (va_up (va_up (va_up (va_up (va_up (va_up a 1 (zp_cp (a 0) (a 1) 0 0 72)) 12 (P_.F)) 13 (P_.G)) 11 (P_.K)) 5 (X_)) 4 (F_)) 8 (G_)) 0 (σ_)) (nI (P_.n)) (hd0)) (lw_V q2350 q2352 qs38 q108 q2353) ⟨rfl, by decide, by decide, (show (parseMethodDescriptor yX7_commit.desc).map (fun d => d.parameters.length) = some 1 by decide +kernel)⟩ ⟨zk_le hR.1 rfl, zk_le hR.2.1 rfl⟩ ⟨zk_le hR.2.2.1 rfl, zk_le hR.2.2.2 rfl⟩ hP hD hS 0 rfl rfl 0 rfl hl.1 rfl (Nat.le_of_ble_eq_true rfl) dX7_execute_127 (fun v_ w_ H locs hq_ hP hD hS => ?_)
          obtain ⟨rfl, rfl⟩ := hq_
          refine zn_st (st2 := [.int (nI (P_.n))]) rfl ?_
          have hgo2 : zo_go P_ (a 0) = (P_.n, σ_) := by unfold zo_go; rw [hgo, show P_.n - k_ = 0 by omega, zt_go, show k_ = P_.n by omega]
          have ho : zo_exec P_ (a 0) = (0, P_.n, σ_) := by unfold zo_exec; rw [if_neg (fun z => z c_12), hgo2]; exact if_neg (Nat.lt_irrefl _)
          exact zk_reti (v := nI (P_.n)) fx eQ rfl (rfl) hP hD hS (Nat.le_of_ble_eq_true rfl) (Nat.le_of_ble_eq_true rfl) dX7_execute_130 (by show zm_X s0 h f a (zt_parse (a 10) (f 20) (a 11) (a 12) (a 13)) _ _; rw [← eP]; exact ⟨by rw [ho], _, _, rfl, ⟨rfl, rfl, rfl, rfl, rfl, rfl⟩, by rw [ho]; rfl, by rw [ho]; rfl, by rw [if_neg (fun z => z c_12)]; rfl, by rw [ho]; rfl, fun _ => ⟨zp_ch_cp, rfl⟩, fun z => absurd (congrArg Prod.fst ho) z⟩)
        · obtain ⟨hb8, hb9, hb10⟩ := hp3 k_ (by omega)
          refine lv_aload_n hx hb dX7_execute_41 rfl (lv_at hl 1 rfl) ?_
          refine lv_aload_n hx hb dX7_execute_42 rfl (lv_at hl 1 rfl) ?_
          refine zm_get (f := (va_up (va_up (va_up (va_up (va_up (va_up f 9 (0)) 21 (f 20)) 20 (0)) 24 (P_.w)) 22 (P_.p)) 23 (P_.n))) fx 17 (by decide) q2258 (v := .ref (h 12)) rfl hP dX7_execute_43 ?_
          refine lv_iload_n hx hb dX7_execute_46 rfl (lv_at hl 0 rfl) ?_
          refine zn_ald hx hb hK hP 12 (g := P_.K) rfl (i := k_) (by omega) (by decide) dX7_execute_47 ?_
          refine lv_aload_n hx hb dX7_execute_48 rfl (lv_at hl 1 rfl) ?_
          refine zm_get (f := (va_up (va_up (va_up (va_up (va_up (va_up f 9 (0)) 21 (f 20)) 20 (0)) 24 (P_.w)) 22 (P_.p)) 23 (P_.n))) fx 18 (by decide) q2259 (v := .ref (h 13)) rfl hP dX7_execute_49 ?_
          refine lv_iload_n hx hb dX7_execute_52 rfl (lv_at hl 0 rfl) ?_
          refine zn_ald hx hb hK hP 13 (g := P_.F) rfl (i := k_) (by omega) (by decide) dX7_execute_53 ?_
          refine lv_aload_n hx hb dX7_execute_54 rfl (lv_at hl 1 rfl) ?_
          refine zm_get (f := (va_up (va_up (va_up (va_up (va_up (va_up f 9 (0)) 21 (f 20)) 20 (0)) 24 (P_.w)) 22 (P_.p)) 23 (P_.n))) fx 19 (by decide) q2260 (v := .ref (h 14)) rfl hP dX7_execute_55 ?_
          refine lv_iload_n hx hb dX7_execute_58 rfl (lv_at hl 0 rfl) ?_
          refine zn_ald hx hb hK hP 14 (g := P_.G) rfl (i := k_) (by omega) (by decide) dX7_execute_59 ?_
          refine zk_callV0 fx (cm_why l s0 b h (va_up (va_up (va_up (va_up (va_up (va_up f 9 (0)) 21 (f 20)) 20 (0)) 24 (P_.w)) 22 (P_.p)) 23 (P_.n)) (va_up (va_up (va_up (va_up (va_up (va_up (va_up (va_up a 1 (zp_cp (a 0) (a 1) 0 0 72)) 12 (P_.F)) 13 (P_.G)) 11 (P_.K)) 5 (X_)) 4 (F_)) 8 (G_)) 0 (σ_)) (P_.K k_) (nI (P_.F k_)) (nI (P_.G k_)) (hb8) (hI.1)) (lw_V q2718 q2720 qs80 q108 q2721) ⟨rfl, by decide, by decide, (show (parseMethodDescriptor yX7_why.desc).map (fun d => d.parameters.length) = some 3 by decide +kernel)⟩ ⟨zk_le hR.1 rfl, zk_le hR.2.1 rfl⟩ ⟨zk_le hR.2.2.1 rfl, zk_le hR.2.2.2 rfl⟩ hP hD hS 0 rfl rfl 0 rfl hl.1 rfl (Nat.le_of_ble_eq_true rfl) dX7_execute_60 (fun v_ w_ H locs hq_ hP hD hS => ?_)
          obtain ⟨rfl, rfl⟩ := hq_
          refine zn_st (st2 := [.int (nI (zt_why σ_ (P_.K k_) (nI (P_.F k_)) (nI (P_.G k_))))]) rfl ?_
          refine zn_if_ne (tgt := 92) hx hb dX7_execute_63 (by decide) (zt_why_lt _ _ _ _) (fun c_63 => ?_) (fun c_63 => ?_)
          · refine lv_aload_n hx hb dX7_execute_92 rfl (lv_at hl 1 rfl) ?_
            refine zm_get (f := (va_up (va_up (va_up (va_up (va_up (va_up f 9 (0)) 21 (f 20)) 20 (0)) 24 (P_.w)) 22 (P_.p)) 23 (P_.n))) fx 1 (by decide) q2242 (v := .ref (h 2)) rfl hP dX7_execute_93 ?_
            refine lv_iconst (v := nI (0)) hx hb dX7_execute_96 rfl ?_
            refine lv_aload_n hx hb dX7_execute_97 rfl (lv_at hl 1 rfl) ?_
            refine zm_get (f := (va_up (va_up (va_up (va_up (va_up (va_up f 9 (0)) 21 (f 20)) 20 (0)) 24 (P_.w)) 22 (P_.p)) 23 (P_.n))) fx 0 (by decide) q2241 (v := .ref (h 1)) rfl hP dX7_execute_98 ?_
            refine lv_iconst (v := nI (0)) hx hb dX7_execute_101 rfl ?_
            refine zk_callS fx (cm_copy2 l s0 b (h 2) (h 1) 72 72 (zp_cp (a 0) (a 1) 0 0 72) σ_ 0 0 (by decide) (by decide) (by decide) (by decide)) (lw_S q2329 q2330 q108 q2331) ⟨by decide, by decide, (show (parseMethodDescriptor yX7_copy.desc).map (fun d => d.parameters.length) = some 4 by decide +kernel)⟩ ⟨zk_le hR.1 rfl, zk_le hR.2.1 rfl⟩ ⟨zk_le hR.2.2.1 rfl, zk_le hR.2.2.2 rfl⟩ hP hD hS (wc := [(h 2, zk_I s0 72 (zp_cp (a 0) (a 1) 0 0 72)), (h 1, zk_I s0 72 σ_)]) (wr := [(h 0, .inr (0, zm_fs h (va_up (va_up (va_up (va_up (va_up (va_up f 9 (0)) 21 (f 20)) 20 (0)) 24 (P_.w)) 22 (P_.p)) 23 (P_.n)))), (h 3, zk_I s0 72 (a 2)), (h 4, zk_I s0 576 (a 3)), (h 5, zk_I s0 1024 F_), (h 6, zk_I s0 7 X_), (h 7, zk_I s0 12 (a 6)), (h 8, zk_I s0 12 (a 7)), (h 9, zk_I s0 7 G_), (h 10, zk_I s0 80 (a 9)), (h 11, zk_I s0 60 (a 10)), (h 12, zk_I s0 32 P_.K), (h 13, zk_I s0 32 P_.F), (h 14, zk_I s0 32 P_.G)]) (zk_pi 15 [2, 1, 0, 3, 4, 5, 6, 7, 8, 9, 10, 11, 12, 13, 14] rfl rfl (by decide)) hl.1 rfl (Nat.le_of_ble_eq_true rfl) dX7_execute_102 (fun v_ w_ H locs hq_ hP hD hS => ?_)
            obtain ⟨rfl, rfl⟩ := hq_
            refine zn_st (st2 := []) rfl ?_
            have hP := zk_Pp hP (zk_pi (ws' := zm_W s0 h (va_up (va_up (va_up (va_up (va_up (va_up f 9 (0)) 21 (f 20)) 20 (0)) 24 (P_.w)) 22 (P_.p)) 23 (P_.n)) (va_up (va_up (va_up (va_up (va_up (va_up (va_up (va_up (va_up a 1 (zp_cp (a 0) (a 1) 0 0 72)) 12 (P_.F)) 13 (P_.G)) 11 (P_.K)) 5 (X_)) 4 (F_)) 8 (G_)) 0 (σ_)) 0 (zp_cp (zp_cp (a 0) (a 1) 0 0 72) σ_ 0 0 72))) 15 [2, 1, 0, 3, 4, 5, 6, 7, 8, 9, 10, 11, 12, 13, 14] rfl rfl (by decide))
            have hD := zk_Dp hD (zk_pi (ws' := zm_W s0 h (va_up (va_up (va_up (va_up (va_up (va_up f 9 (0)) 21 (f 20)) 20 (0)) 24 (P_.w)) 22 (P_.p)) 23 (P_.n)) (va_up (va_up (va_up (va_up (va_up (va_up (va_up (va_up (va_up a 1 (zp_cp (a 0) (a 1) 0 0 72)) 12 (P_.F)) 13 (P_.G)) 11 (P_.K)) 5 (X_)) 4 (F_)) 8 (G_)) 0 (σ_)) 0 (zp_cp (zp_cp (a 0) (a 1) 0 0 72) σ_ 0 0 72))) 15 [2, 1, 0, 3, 4, 5, 6, 7, 8, 9, 10, 11, 12, 13, 14] rfl rfl (by decide))
            refine lv_aload_n hx hb dX7_execute_105 rfl (lv_at hl 1 rfl) ?_
            refine lv_iload_n hx hb dX7_execute_106 rfl (lv_at hl 0 rfl) ?_
            refine zm_put fx 12 (by decide) q2253 (v := k_) hP hD hS dX7_execute_107 (fun H locs hP hD hS => ?_)
            have hP : va_P (zk_D s0) zk_Cl (zm_W s0 h (va_up (va_up (va_up (va_up (va_up (va_up (va_up f 9 (0)) 21 (f 20)) 20 (0)) 24 (P_.w)) 22 (P_.p)) 23 (P_.n)) 12 (k_)) (va_up (va_up (va_up (va_up (va_up (va_up (va_up (va_up (va_up a 1 (zp_cp (a 0) (a 1) 0 0 72)) 12 (P_.F)) 13 (P_.G)) 11 (P_.K)) 5 (X_)) 4 (F_)) 8 (G_)) 0 (σ_)) 0 (zp_cp (zp_cp (a 0) (a 1) 0 0 72) σ_ 0 0 72))) H := hP
            refine lv_aload_n hx hb dX7_execute_110 rfl (lv_at hl 1 rfl) ?_
            refine lv_iconst (v := nI (2)) hx hb dX7_execute_111 rfl ?_
            refine zk_callV0 fx (cm_fail l s0 b h (va_up (va_up (va_up (va_up (va_up (va_up (va_up f 9 (0)) 21 (f 20)) 20 (0)) 24 (P_.w)) 22 (P_.p)) 23 (P_.n)) 12 (k_)) (va_up (va_up (va_up (va_up (va_up (va_up (va_up (va_up (va_up a 1 (zp_cp (a 0) (a 1) 0 0 72)) 12 (P_.F)) 13 (P_.G)) 11 (P_.K)) 5 (X_)) 4 (F_)) 8 (G_)) 0 (σ_)) 0 (zp_cp (zp_cp (a 0) (a 1) 0 0 72) σ_ 0 0 72)) 2) (lw_V q2342 q2344 qs36 q108 q2345) ⟨rfl, by decide, by decide, (show (parseMethodDescriptor yX7_fail.desc).map (fun d => d.parameters.length) = some 1 by decide +kernel)⟩ ⟨zk_le hR.1 rfl, zk_le hR.2.1 rfl⟩ ⟨zk_le hR.2.2.1 rfl, zk_le hR.2.2.2 rfl⟩ hP hD hS 0 rfl rfl 0 rfl hl.1 rfl (Nat.le_of_ble_eq_true rfl) dX7_execute_112 (fun v_ w_ H locs hq_ hP hD hS => ?_)
            obtain ⟨rfl, rfl⟩ := hq_
            refine zn_st (st2 := [.int (nI (0))]) rfl ?_
            have hP : va_P (zk_D s0) zk_Cl (zm_W s0 h (va_up (va_up (va_up (va_up (va_up (va_up (va_up (va_up f 9 (0)) 21 (f 20)) 20 (0)) 24 (P_.w)) 22 (P_.p)) 23 (P_.n)) 12 (k_)) 9 (2)) (va_up (va_up (va_up (va_up (va_up (va_up (va_up (va_up (va_up (va_up a 1 (zp_cp (a 0) (a 1) 0 0 72)) 12 (P_.F)) 13 (P_.G)) 11 (P_.K)) 5 (X_)) 4 (F_)) 8 (G_)) 0 (σ_)) 0 (zp_cp (zp_cp (a 0) (a 1) 0 0 72) σ_ 0 0 72)) 0 (a 0))) H := zm_P0 (fun j hj => by show zp_cp (zp_cp (a 0) (a 1) 0 0 72) σ_ 0 0 72 j = a 0 j; rw [zp_cp_in (by omega) (by omega), zp_cp_in (by omega) (by omega)]; exact congrArg (a 0) (by omega)) hP
            have hD : va_D A (zm_W s0 h (va_up (va_up (va_up (va_up (va_up (va_up (va_up (va_up f 9 (0)) 21 (f 20)) 20 (0)) 24 (P_.w)) 22 (P_.p)) 23 (P_.n)) 12 (k_)) 9 (2)) (va_up (va_up (va_up (va_up (va_up (va_up (va_up (va_up (va_up (va_up a 1 (zp_cp (a 0) (a 1) 0 0 72)) 12 (P_.F)) 13 (P_.G)) 11 (P_.K)) 5 (X_)) 4 (F_)) 8 (G_)) 0 (σ_)) 0 (zp_cp (zp_cp (a 0) (a 1) 0 0 72) σ_ 0 0 72)) 0 (a 0))) := zm_D0 hD
            have hgo2 : zo_go P_ (a 0) = (k_, σ_) := by unfold zo_go; rw [hgo, show P_.n - k_ = P_.n - k_ - 1 + 1 by omega, zt_go, if_neg c_63]
            have ho : zo_exec P_ (a 0) = (2, 0, a 0) := by unfold zo_exec; rw [if_neg (fun z => z c_12), hgo2]; exact if_pos (show k_ < P_.n by omega)
            exact zk_reti (v := nI (0)) fx eQ rfl (rfl) hP hD hS (Nat.le_of_ble_eq_true rfl) (Nat.le_of_ble_eq_true rfl) dX7_execute_115 (by show zm_X s0 h f a (zt_parse (a 10) (f 20) (a 11) (a 12) (a 13)) _ _; rw [← eP]; exact ⟨by rw [ho], _, _, rfl, ⟨rfl, rfl, rfl, rfl, rfl, rfl⟩, by rw [ho]; rfl, by rw [ho]; rfl, by rw [if_neg (fun z => z c_12)]; rfl, by rw [ho, hgo2]; rfl, fun z => absurd ((congrArg Prod.fst ho).symm.trans z) (Nat.succ_ne_zero _), fun _ => ⟨rfl, rfl⟩⟩)
          · have hnd : zt_need σ_ (P_.K k_) (P_.F k_) (P_.G k_) := zt_why0 hI.1.1 hI.1.2.1 hb9 hb10 hb8 c_63
            refine lv_aload_n hx hb dX7_execute_66 rfl (lv_at hl 1 rfl) ?_
            refine lv_aload_n hx hb dX7_execute_67 rfl (lv_at hl 1 rfl) ?_
            refine zm_get (f := (va_up (va_up (va_up (va_up (va_up (va_up f 9 (0)) 21 (f 20)) 20 (0)) 24 (P_.w)) 22 (P_.p)) 23 (P_.n))) fx 17 (by decide) q2258 (v := .ref (h 12)) rfl hP dX7_execute_68 ?_
            refine lv_iload_n hx hb dX7_execute_71 rfl (lv_at hl 0 rfl) ?_
            refine zn_ald hx hb hK hP 12 (g := P_.K) rfl (i := k_) (by omega) (by decide) dX7_execute_72 ?_
            refine lv_aload_n hx hb dX7_execute_73 rfl (lv_at hl 1 rfl) ?_
            refine zm_get (f := (va_up (va_up (va_up (va_up (va_up (va_up f 9 (0)) 21 (f 20)) 20 (0)) 24 (P_.w)) 22 (P_.p)) 23 (P_.n))) fx 18 (by decide) q2259 (v := .ref (h 13)) rfl hP dX7_execute_74 ?_
            refine lv_iload_n hx hb dX7_execute_77 rfl (lv_at hl 0 rfl) ?_
            refine zn_ald hx hb hK hP 13 (g := P_.F) rfl (i := k_) (by omega) (by decide) dX7_execute_78 ?_
            refine lv_aload_n hx hb dX7_execute_79 rfl (lv_at hl 1 rfl) ?_
            refine zm_get (f := (va_up (va_up (va_up (va_up (va_up (va_up f 9 (0)) 21 (f 20)) 20 (0)) 24 (P_.w)) 22 (P_.p)) 23 (P_.n))) fx 19 (by decide) q2260 (v := .ref (h 14)) rfl hP dX7_execute_80 ?_
            refine lv_iload_n hx hb dX7_execute_83 rfl (lv_at hl 0 rfl) ?_
            refine zn_ald hx hb hK hP 14 (g := P_.G) rfl (i := k_) (by omega) (by decide) dX7_execute_84 ?_
            refine zk_callV0 fx (cm_does l s0 b h (va_up (va_up (va_up (va_up (va_up (va_up f 9 (0)) 21 (f 20)) 20 (0)) 24 (P_.w)) 22 (P_.p)) 23 (P_.n)) (va_up (va_up (va_up (va_up (va_up (va_up (va_up (va_up a 1 (zp_cp (a 0) (a 1) 0 0 72)) 12 (P_.F)) 13 (P_.G)) 11 (P_.K)) 5 (X_)) 4 (F_)) 8 (G_)) 0 (σ_)) (P_.K k_) (P_.F k_) (P_.G k_) hb8 (B + 999 * k_) hI (by omega) hnd) (lw_V q2722 q2724 qs81 q108 q2725) ⟨rfl, by decide, by decide, (show (parseMethodDescriptor yX7_does.desc).map (fun d => d.parameters.length) = some 3 by decide +kernel)⟩ ⟨zk_le hR.1 rfl, zk_le hR.2.1 rfl⟩ ⟨zk_le hR.2.2.1 rfl, zk_le hR.2.2.2 rfl⟩ hP hD hS 0 rfl rfl 0 rfl hl.1 rfl (Nat.le_of_ble_eq_true rfl) dX7_execute_85 (fun v_ w_ H locs hq_ hP hD hS => ?_)
            obtain ⟨v_1, X_1, F_1, G_1, rfl, rfl⟩ := hq_
            refine zn_st (st2 := [.int (v_1)]) rfl ?_
            refine lv_istore_n (lv' := [(1, .int (v_1)), (2, .int (nI (k_))), (0, .ref (h 0))]) hx hb dX7_execute_88 rfl hl (by decide) rfl (fun ls hl => ?_)
            refine lv_goto (tgt := 116) hx hb dX7_execute_89 (by decide) ?_
            refine lv_iinc (v := nI (k_ + 1)) (lv' := [(2, .int (nI (k_ + 1))), (1, .int (v_1)), (0, .ref (h 0))]) hx hb dX7_execute_116 hl (k := 1) rfl (nI_add k_ 1) (by decide) rfl (fun ls hl => ?_)
            refine lv_goto (tgt := 33) hx hb dX7_execute_119 (by decide) ?_
            exact ih_33 (k_ + 1) (zt_does σ_ (P_.K k_) (P_.F k_) (P_.G k_)) X_1 F_1 G_1 (by omega) (by omega) (by rw [hgo, show P_.n - k_ = P_.n - (k_ + 1) + 1 by omega, zt_go, if_pos c_63]) (by rw [show B + 999 * (k_ + 1) = B + 999 * k_ + 999 by omega]; exact zt_In_does hI (by omega) hb8 hnd) _ _ hP hD hS ls (lv_sub hl [0, 2] rfl)
    exact lp_33 _ 0 (a 0) (a 5) (a 4) (a 8) (Nat.lt_succ_self _) (Nat.zero_le _) rfl inv _ _ hP hD hS ls (lv_sub hl [0, 2] rfl)
  · refine lv_aload_n hx hb dX7_execute_15 rfl (lv_at hl 0 rfl) ?_
    refine lv_aload_n hx hb dX7_execute_16 rfl (lv_at hl 0 rfl) ?_
    refine zm_get (f := (va_up (va_up (va_up (va_up (va_up (va_up f 9 (0)) 21 (f 20)) 20 (0)) 24 (P_.w)) 22 (P_.p)) 23 (P_.n))) fx 22 (by decide) q2263 (v := .int (nI (P_.p))) rfl hP dX7_execute_17 ?_
    refine zm_put fx 11 (by decide) q2252 (v := P_.p) hP hD hS dX7_execute_20 (fun H locs hP hD hS => ?_)
    have hP : va_P (zk_D s0) zk_Cl (zm_W s0 h (va_up (va_up (va_up (va_up (va_up (va_up (va_up f 9 (0)) 21 (f 20)) 20 (0)) 24 (P_.w)) 22 (P_.p)) 23 (P_.n)) 11 (P_.p)) (va_up (va_up (va_up (va_up a 1 (zp_cp (a 0) (a 1) 0 0 72)) 12 (P_.F)) 13 (P_.G)) 11 (P_.K))) H := hP
    refine lv_aload_n hx hb dX7_execute_23 rfl (lv_at hl 0 rfl) ?_
    refine lv_iconst (v := nI (1)) hx hb dX7_execute_24 rfl ?_
    refine zk_callV0 fx (cm_fail l s0 b h (va_up (va_up (va_up (va_up (va_up (va_up (va_up f 9 (0)) 21 (f 20)) 20 (0)) 24 (P_.w)) 22 (P_.p)) 23 (P_.n)) 11 (P_.p)) (va_up (va_up (va_up (va_up a 1 (zp_cp (a 0) (a 1) 0 0 72)) 12 (P_.F)) 13 (P_.G)) 11 (P_.K)) 1) (lw_V q2342 q2344 qs36 q108 q2345) ⟨rfl, by decide, by decide, (show (parseMethodDescriptor yX7_fail.desc).map (fun d => d.parameters.length) = some 1 by decide +kernel)⟩ ⟨zk_le hR.1 rfl, zk_le hR.2.1 rfl⟩ ⟨zk_le hR.2.2.1 rfl, zk_le hR.2.2.2 rfl⟩ hP hD hS 0 rfl rfl 0 rfl hl.1 rfl (Nat.le_of_ble_eq_true rfl) dX7_execute_25 (fun v_ w_ H locs hq_ hP hD hS => ?_)
    obtain ⟨rfl, rfl⟩ := hq_
    refine zn_st (st2 := [.int (nI (0))]) rfl ?_
    have ho : zo_exec P_ (a 0) = (1, 0, a 0) := if_pos c_12
    exact zk_reti (v := nI (0)) fx eQ rfl (rfl) hP hD hS (Nat.le_of_ble_eq_true rfl) (Nat.le_of_ble_eq_true rfl) dX7_execute_28 (by show zm_X s0 h f a (zt_parse (a 10) (f 20) (a 11) (a 12) (a 13)) _ _; rw [← eP]; exact ⟨by rw [ho], _, _, rfl, ⟨rfl, rfl, rfl, rfl, rfl, rfl⟩, by rw [ho]; rfl, by rw [ho]; rfl, by rw [if_pos c_12]; rfl, by rw [ho]; rfl, fun z => absurd ((congrArg Prod.fst ho).symm.trans z) (Nat.succ_ne_zero _), fun _ => ⟨rfl, rfl⟩⟩)
