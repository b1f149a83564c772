/-! THE REFERENCE, part 5 (printed by prog/m5.py) -/
set_option maxRecDepth 100000
set_option maxHeartbeats 4000000 in
set_option maxRecDepth 100000 in
theorem cm_passes (l : Launch) (s0 : State) (b : Nat) (h f : Nat → Nat) (a : Nat → Nat → Nat) (n : Nat) (hn0 : n ≤ 100) (ok : zp_Ok (a 0)) : zk_C l s0 b yX7_passes (ws_ yX7_passes cX7_passes 6 (some .int)) 0 0 0 0 [.ref (h 0), .int (nI (n))] (zm_W s0 h f a) (fun r w => r = some (.int (nI (zp_ph (a 0) n).1)) ∧ w = zm_W s0 h f (va_up a 0 (zp_pass (a 0) n))) := by
  refine zk_mk (by decide) rfl ?_
  intro p e s m below meth c A R args Q fx hR eQ hP hD hS ls hl
  have hx := fx.1
  have hb := fx.2.1
  have hK := fx.2.2.2.2.2.2.2.2.1.K
  have hl : lv_has ls 6 [(0, .ref (h 0)), (1, .int (nI (n)))] := hl
  obtain ⟨ok0, ok1, ok2, ok3, ok4, ok5, ok6, okw, oke, okp⟩ := id ok
  refine lv_iconst (v := nI (0)) hx hb dX7_passes_0 rfl ?_
  refine lv_istore_n (lv' := [(2, .int (nI (0))), (0, .ref (h 0)), (1, .int (nI (n)))]) hx hb dX7_passes_1 rfl hl (by decide) rfl (fun ls hl => ?_)
  refine lv_iconst (v := nI (0)) hx hb dX7_passes_2 rfl ?_
  refine lv_istore_n (lv' := [(3, .int (nI (0))), (2, .int (nI (0))), (0, .ref (h 0)), (1, .int (nI (n)))]) hx hb dX7_passes_3 rfl hl (by decide) rfl (fun ls hl => ?_)
  have hP : va_P (zk_D s0) zk_Cl (zm_W s0 h f (va_up a 0 ((zp_ph (a 0) 0).2))) s.heap := hP
  have hD : va_D A (zm_W s0 h f (va_up a 0 ((zp_ph (a 0) 0).2))) := hD
  have lp_4 : ∀ (n_ : Nat) (i_ : Nat), (n - i_) < n_ → (i_ ≤ n) → ∀ (H : Heap) (locs : List Loc), va_P (zk_D s0) zk_Cl (zm_W s0 h f (va_up a 0 ((zp_ph (a 0) i_).2))) H → va_D A (zm_W s0 h f (va_up a 0 ((zp_ph (a 0) i_).2))) → va_S A s.heap H locs → ∀ ls : Array Slot, lv_has ls 6 [(3, .int (nI (i_))), (2, .int (nI ((zp_ph (a 0) i_).1))), (0, .ref (h 0)), (1, .int (nI (n)))] → W p l e R s m args below meth c H locs 0 0 Q (F0 m 4 ls []) := by
    intro n_
    induction n_ with
    | zero => intro i_ hn_; exact absurd hn_ (Nat.not_lt_zero _)
    | succ n_ ih_4 =>
      intro i_ hn_ hi H locs hP hD hS ls hl
      refine lv_iload_n hx hb dX7_passes_4 rfl (lv_at hl 0 rfl) ?_
      refine lv_iload_n hx hb dX7_passes_5 rfl (lv_at hl 3 rfl) ?_
      refine zn_icmp_ge (tgt := 100) hx hb dX7_passes_6 (by decide) (by omega) (by omega) (fun c_6 => ?_) (fun c_6 => ?_)
      · refine lv_aload_n hx hb dX7_passes_100 rfl (lv_at hl 2 rfl) ?_
        refine zm_get (f := f) fx 0 (by decide) q2241 (v := .ref (h 1)) rfl hP dX7_passes_101 ?_
        refine lv_bipush (v := nI (18)) hx hb dX7_passes_104 (by decide) ?_
        refine lv_dup2_11 hx hb dX7_passes_106 rfl rfl ?_
        refine zn_ald hx hb hK hP 1 (g := (zp_ph (a 0) i_).2) rfl (i := 18) (by omega) (by decide) dX7_passes_107 ?_
        refine lv_iload_n hx hb dX7_passes_108 rfl (lv_at hl 1 rfl) ?_
        refine zn_iadd hx hb dX7_passes_109 ?_
        refine zn_ast hx hb hK hP hD hS 1 (n := 72) rfl (i := 18) (x := (((zp_ph (a 0) i_).2) 18) + ((zp_ph (a 0) i_).1)) (by omega) (by decide) dX7_passes_110 (zm_seta 0 (by decide) 72 rfl (va_up ((zp_ph (a 0) i_).2) 18 ((((zp_ph (a 0) i_).2) 18) + ((zp_ph (a 0) i_).1)))) (fun H locs hP hD hS => ?_)
        refine lv_iload_n hx hb dX7_passes_111 rfl (lv_at hl 1 rfl) ?_
        exact zk_reti (v := nI ((zp_ph (a 0) i_).1)) fx eQ rfl (rfl) hP hD hS (Nat.le_of_ble_eq_true rfl) (Nat.le_of_ble_eq_true rfl) dX7_passes_112 (⟨zk_eqr (by rw [show i_ = n by omega]), by rw [show i_ = n by omega]; rfl⟩)
      · refine lv_aload_n hx hb dX7_passes_9 rfl (lv_at hl 2 rfl) ?_
        refine zm_get (f := f) fx 0 (by decide) q2241 (v := .ref (h 1)) rfl hP dX7_passes_10 ?_
        refine lv_iconst (v := nI (3)) hx hb dX7_passes_13 rfl ?_
        refine lv_dup2_11 hx hb dX7_passes_14 rfl rfl ?_
        refine zn_ald hx hb hK hP 1 (g := (zp_ph (a 0) i_).2) rfl (i := 3) (by omega) (by decide) dX7_passes_15 ?_
        refine lv_iconst (v := nI (1)) hx hb dX7_passes_16 rfl ?_
        refine zn_iadd hx hb dX7_passes_17 ?_
        have e3 := zp_ph_3 (a 0) i_
        refine zn_ast hx hb hK hP hD hS 1 (n := 72) rfl (i := 3) (x := (((zp_ph (a 0) i_).2) 3) + 1) (by omega) (by decide) dX7_passes_18 (zm_seta 0 (by decide) 72 rfl (va_up ((zp_ph (a 0) i_).2) 3 ((((zp_ph (a 0) i_).2) 3) + 1))) (fun H locs hP hD hS => ?_)
        refine lv_iconst (v := nI (0)) hx hb dX7_passes_19 rfl ?_
        refine lv_istore (lv' := [(4, .int (nI (0))), (3, .int (nI (i_))), (2, .int (nI ((zp_ph (a 0) i_).1))), (0, .ref (h 0)), (1, .int (nI (n)))]) hx hb dX7_passes_20 hl (by decide) rfl (fun ls hl => ?_)
        have hP : va_P (zk_D s0) zk_Cl (zm_W s0 h f (va_up a 0 ((zp_pc (zp_pi (a 0) i_) 0).2))) H := hP
        have hD : va_D A (zm_W s0 h f (va_up a 0 ((zp_pc (zp_pi (a 0) i_) 0).2))) := hD
        have lp_22 : ∀ (n_ : Nat) (k_ : Nat), (10 - k_) < n_ → (k_ ≤ 10) → ∀ (H : Heap) (locs : List Loc), va_P (zk_D s0) zk_Cl (zm_W s0 h f (va_up a 0 ((zp_pc (zp_pi (a 0) i_) k_).2))) H → va_D A (zm_W s0 h f (va_up a 0 ((zp_pc (zp_pi (a 0) i_) k_).2))) → va_S A s.heap H locs → ∀ ls : Array Slot, lv_has ls 6 [(4, .int (nI (k_))), (3, .int (nI (i_))), (2, .int (nI ((zp_pc (zp_pi (a 0) i_) k_).1))), (0, .ref (h 0)), (1, .int (nI (n)))] → W p l e R s m args below meth c H locs 0 0 Q (F0 m 22 ls []) := by
          intro n_
          induction n_ with
          | zero => intro k_ hn_; exact absurd hn_ (Nat.not_lt_zero _)
          | succ n_ ih_22 =>
            intro k_ hn_ hk H locs hP hD hS ls hl
            have e4 : (zp_pc (zp_pi (a 0) i_) k_).2 3 = a 0 3 + (i_ + 1) := by rw [zp_pc_out _ k_ hk (by decide)]; show va_up (zp_ph (a 0) i_).2 3 ((zp_ph (a 0) i_).2 3 + 1) 3 = _; rw [zk_up_eq, e3]; omega
            refine lv_iload hx hb dX7_passes_22 (lv_at hl 0 rfl) ?_
            refine lv_bipush (v := nI (10)) hx hb dX7_passes_24 (by decide) ?_
            refine zn_icmp_ge (tgt := 94) hx hb dX7_passes_26 (by decide) (by omega) (by omega) (fun c_26 => ?_) (fun c_26 => ?_)
            · obtain rfl : k_ = 10 := by omega
              have hP : va_P (zk_D s0) zk_Cl (zm_W s0 h f (va_up a 0 ((zp_ph (a 0) (i_ + 1)).2))) H := hP
              have hD : va_D A (zm_W s0 h f (va_up a 0 ((zp_ph (a 0) (i_ + 1)).2))) := hD
              have hl : lv_has ls 6 [(4, .int (nI (10))), (3, .int (nI (i_))), (2, .int (nI ((zp_ph (a 0) (i_ + 1)).1))), (0, .ref (h 0)), (1, .int (nI (n)))] := hl
              refine lv_iinc (v := nI (i_ + 1)) (lv' := [(3, .int (nI (i_ + 1))), (4, .int (nI (10))), (2, .int (nI ((zp_ph (a 0) (i_ + 1)).1))), (0, .ref (h 0)), (1, .int (nI (n)))]) hx hb dX7_passes_94 hl (k := 1) rfl (nI_add i_ 1) (by decide) rfl (fun ls hl => ?_)
              refine lv_goto (tgt := 4) hx hb dX7_passes_97 (by decide) ?_
              exact ih_4 (i_ + 1) (by omega) (by omega) _ _ hP hD hS ls (lv_sub hl [0, 2, 3, 4] rfl)
            · refine lv_aload_n hx hb dX7_passes_29 rfl (lv_at hl 3 rfl) ?_
              refine zm_get (f := f) fx 0 (by decide) q2241 (v := .ref (h 1)) rfl hP dX7_passes_30 ?_
              refine lv_iconst (v := nI (3)) hx hb dX7_passes_33 rfl ?_
              refine zn_ald hx hb hK hP 1 (g := (zp_pc (zp_pi (a 0) i_) k_).2) rfl (i := 3) (by omega) (by decide) dX7_passes_34 ?_
              refine lv_iload hx hb dX7_passes_35 (lv_at hl 0 rfl) ?_
              refine lv_iconst (v := nI (1)) hx hb dX7_passes_37 rfl ?_
              refine zn_iadd hx hb dX7_passes_38 ?_
              refine zn_irem hx hb dX7_passes_39 (by rw [e4]; omega) (by omega) (by omega) ?_
              refine zn_if_le (tgt := 46) hx hb dX7_passes_40 (by decide) (Nat.lt_trans (Nat.mod_lt _ (by omega)) (show k_ + 1 < 2 ^ 31 by omega)) (fun c_40 => ?_) (fun c_40 => ?_)
              · have hk10 : k_ < 10 := by omega
                have e5 : (zp_pc (zp_pi (a 0) i_) k_).2 (8 + k_) ≤ 999 := Nat.le_trans (zp_pc_le _ k_ _) (by show va_up (zp_ph (a 0) i_).2 3 ((zp_ph (a 0) i_).2 3 + 1) (8 + k_) ≤ _; rw [zk_up_ne (by omega)]; exact Nat.le_trans (zp_ph_le (a 0) i_ (by omega)) (okw k_ hk10))
                refine lv_aload_n hx hb dX7_passes_46 rfl (lv_at hl 3 rfl) ?_
                refine zm_get (f := f) fx 0 (by decide) q2241 (v := .ref (h 1)) rfl hP dX7_passes_47 ?_
                refine lv_bipush (v := nI (8)) hx hb dX7_passes_50 (by decide) ?_
                refine lv_iload hx hb dX7_passes_52 (lv_at hl 0 rfl) ?_
                refine zn_iadd hx hb dX7_passes_54 ?_
                refine zn_ald hx hb hK hP 1 (g := (zp_pc (zp_pi (a 0) i_) k_).2) rfl (i := 8 + k_) (by omega) (by decide) dX7_passes_55 ?_
                refine lv_iconst (v := nI (2)) hx hb dX7_passes_56 rfl ?_
                refine zn_idiv hx hb dX7_passes_57 (by omega) (by omega) (by omega) ?_
                refine lv_istore (lv' := [(5, .int (nI ((((zp_pc (zp_pi (a 0) i_) k_).2) (8 + k_)) / 2))), (4, .int (nI (k_))), (3, .int (nI (i_))), (2, .int (nI ((zp_pc (zp_pi (a 0) i_) k_).1))), (0, .ref (h 0)), (1, .int (nI (n)))]) hx hb dX7_passes_58 hl (by decide) rfl (fun ls hl => ?_)
                refine lv_iload_n hx hb dX7_passes_60 rfl (lv_at hl 3 rfl) ?_
                refine lv_aload_n hx hb dX7_passes_61 rfl (lv_at hl 4 rfl) ?_
                refine zm_get (f := f) fx 0 (by decide) q2241 (v := .ref (h 1)) rfl hP dX7_passes_62 ?_
                refine lv_bipush (v := nI (8)) hx hb dX7_passes_65 (by decide) ?_
                refine lv_iload hx hb dX7_passes_67 (lv_at hl 1 rfl) ?_
                refine zn_iadd hx hb dX7_passes_69 ?_
                refine zn_ald hx hb hK hP 1 (g := (zp_pc (zp_pi (a 0) i_) k_).2) rfl (i := 8 + k_) (by omega) (by decide) dX7_passes_70 ?_
                refine lv_iload hx hb dX7_passes_71 (lv_at hl 0 rfl) ?_
                refine zn_isub hx hb dX7_passes_73 (Nat.div_le_self _ _) ?_
                refine zn_iadd hx hb dX7_passes_74 ?_
                refine lv_istore_n (lv' := [(2, .int (nI (((zp_pc (zp_pi (a 0) i_) k_).1) + ((((zp_pc (zp_pi (a 0) i_) k_).2) (8 + k_)) - ((((zp_pc (zp_pi (a 0) i_) k_).2) (8 + k_)) / 2))))), (5, .int (nI ((((zp_pc (zp_pi (a 0) i_) k_).2) (8 + k_)) / 2))), (4, .int (nI (k_))), (3, .int (nI (i_))), (0, .ref (h 0)), (1, .int (nI (n)))]) hx hb dX7_passes_75 rfl hl (by decide) rfl (fun ls hl => ?_)
                refine lv_aload_n hx hb dX7_passes_76 rfl (lv_at hl 4 rfl) ?_
                refine zm_get (f := f) fx 0 (by decide) q2241 (v := .ref (h 1)) rfl hP dX7_passes_77 ?_
                refine lv_bipush (v := nI (8)) hx hb dX7_passes_80 (by decide) ?_
                refine lv_iload hx hb dX7_passes_82 (lv_at hl 2 rfl) ?_
                refine zn_iadd hx hb dX7_passes_84 ?_
                refine lv_iload hx hb dX7_passes_85 (lv_at hl 1 rfl) ?_
                refine zn_ast hx hb hK hP hD hS 1 (n := 72) rfl (i := 8 + k_) (x := (((zp_pc (zp_pi (a 0) i_) k_).2) (8 + k_)) / 2) (by omega) (by decide) dX7_passes_87 (zm_seta 0 (by decide) 72 rfl (va_up ((zp_pc (zp_pi (a 0) i_) k_).2) (8 + k_) ((((zp_pc (zp_pi (a 0) i_) k_).2) (8 + k_)) / 2))) (fun H locs hP hD hS => ?_)
                have eq_ : zp_pc (zp_pi (a 0) i_) (k_ + 1) = ((zp_pc (zp_pi (a 0) i_) k_).1 + ((zp_pc (zp_pi (a 0) i_) k_).2 (8 + k_) - (zp_pc (zp_pi (a 0) i_) k_).2 (8 + k_) / 2), va_up (zp_pc (zp_pi (a 0) i_) k_).2 (8 + k_) ((zp_pc (zp_pi (a 0) i_) k_).2 (8 + k_) / 2)) := by rw [zp_pc, if_pos c_40]
                have hP : va_P (zk_D s0) zk_Cl (zm_W s0 h f (va_up a 0 ((zp_pc (zp_pi (a 0) i_) (k_ + 1)).2))) H := by rw [eq_]; exact hP
                have hD : va_D A (zm_W s0 h f (va_up a 0 ((zp_pc (zp_pi (a 0) i_) (k_ + 1)).2))) := by rw [eq_]; exact hD
                have hl : lv_has ls 6 [(2, .int (nI ((zp_pc (zp_pi (a 0) i_) (k_ + 1)).1))), (5, .int (nI ((((zp_pc (zp_pi (a 0) i_) k_).2) (8 + k_)) / 2))), (4, .int (nI (k_))), (3, .int (nI (i_))), (0, .ref (h 0)), (1, .int (nI (n)))] := by rw [eq_]; exact hl
                refine lv_iinc (v := nI (k_ + 1)) (lv' := [(4, .int (nI (k_ + 1))), (2, .int (nI ((zp_pc (zp_pi (a 0) i_) (k_ + 1)).1))), (5, .int (nI ((((zp_pc (zp_pi (a 0) i_) k_).2) (8 + k_)) / 2))), (3, .int (nI (i_))), (0, .ref (h 0)), (1, .int (nI (n)))]) hx hb dX7_passes_88 hl (k := 2) rfl (nI_add k_ 1) (by decide) rfl (fun ls hl => ?_)
                refine lv_goto (tgt := 22) hx hb dX7_passes_91 (by decide) ?_
                exact ih_22 (k_ + 1) (by omega) (by omega) _ _ hP hD hS ls (lv_sub hl [0, 3, 1, 4, 5] rfl)
              · refine lv_goto (tgt := 88) hx hb dX7_passes_43 (by decide) ?_
                have eq_ : zp_pc (zp_pi (a 0) i_) (k_ + 1) = zp_pc (zp_pi (a 0) i_) k_ := by rw [zp_pc, if_neg (by omega)]
                have hP : va_P (zk_D s0) zk_Cl (zm_W s0 h f (va_up a 0 ((zp_pc (zp_pi (a 0) i_) (k_ + 1)).2))) H := by rw [eq_]; exact hP
                have hD : va_D A (zm_W s0 h f (va_up a 0 ((zp_pc (zp_pi (a 0) i_) (k_ + 1)).2))) := by rw [eq_]; exact hD
                have hl : lv_has ls 6 [(4, .int (nI (k_))), (3, .int (nI (i_))), (2, .int (nI ((zp_pc (zp_pi (a 0) i_) (k_ + 1)).1))), (0, .ref (h 0)), (1, .int (nI (n)))] := by rw [eq_]; exact hl
                refine lv_iinc (v := nI (k_ + 1)) (lv' := [(4, .int (nI (k_ + 1))), (3, .int (nI (i_))), (2, .int (nI ((zp_pc (zp_pi (a 0) i_) (k_ + 1)).1))), (0, .ref (h 0)), (1, .int (nI (n)))]) hx hb dX7_passes_88 hl (k := 0) rfl (nI_add k_ 1) (by decide) rfl (fun ls hl => ?_)
                refine lv_goto (tgt := 22) hx hb dX7_passes_91 (by decide) ?_
                exact ih_22 (k_ + 1) (by omega) (by omega) _ _ hP hD hS ls (lv_sub hl [0, 1, 2, 3, 4] rfl)
        exact lp_22 _ 0 (Nat.lt_succ_self _) (by omega) _ _ hP hD hS ls (lv_sub hl [0, 1, 2, 3, 4] rfl)
  exact lp_4 _ 0 (Nat.lt_succ_self _) (by omega) _ _ hP hD hS ls (lv_sub hl [0, 1, 2, 3] rfl)
set_option maxHeartbeats 4000000 in
set_option maxRecDepth 100000 in
theorem cm_pass (l : Launch) (s0 : State) (b : Nat) (h f : Nat → Nat) (a : Nat → Nat → Nat) (x : Int32) (ok : zp_Ok (a 0)) (hd0 : f 10 ≤ 8) : zk_C l s0 b yX7_pass (ws_ yX7_pass cX7_pass 2 (some .int)) 2 46 0 0 [.ref (h 0), .int (x)] (zm_W s0 h f a) (fun r w => zm_M s0 h f a (zo_pass (a 0) x) r w) := by
  refine zk_mk (by decide) rfl ?_
  intro p e s m below meth c A R args Q fx hR eQ hP hD hS ls hl
  have hx := fx.1
  have hb := fx.2.1
  have hK := fx.2.2.2.2.2.2.2.2.1.K
  have hl : lv_has ls 2 [(0, .ref (h 0)), (1, .int (x))] := hl
  obtain ⟨ok0, ok1, ok2, ok3, ok4, ok5, ok6, okw, oke, okp⟩ := id ok
  refine lv_aload_n hx hb dX7_pass_0 rfl (lv_at hl 0 rfl) ?_
  refine zk_callV0 fx (cm_begin l s0 b h f a ) (lw_V q2325 q2327 qs34 q108 q2328) ⟨rfl, by decide, by decide, (show (parseMethodDescriptor yX7_begin.desc).map (fun d => d.parameters.length) = some 0 by decide +kernel)⟩ ⟨zk_le hR.1 rfl, zk_le hR.2.1 rfl⟩ ⟨zk_le hR.2.2.1 rfl, zk_le hR.2.2.2 rfl⟩ hP hD hS 0 rfl rfl 0 rfl hl.1 rfl (Nat.le_of_ble_eq_true rfl) dX7_pass_1 (fun v_ w_ H locs hq_ hP hD hS => ?_)
  obtain ⟨rfl, rfl⟩ := hq_
  refine zn_st (st2 := []) rfl ?_
  refine lv_iload_n hx hb dX7_pass_4 rfl (lv_at hl 1 rfl) ?_
  refine lv_iconst (v := nI (1)) hx hb dX7_pass_5 rfl ?_
  refine lv_bipush (v := nI (48)) hx hb dX7_pass_6 (by decide) ?_
  refine zk_callSn fx (cm_in l s0 b (x) (nI (1)) (nI (48))) (lw_S q2339 q2340 q108 q2341) ⟨by decide, by decide, (show (parseMethodDescriptor yX7_in.desc).map (fun d => d.parameters.length) = some 3 by decide +kernel)⟩ ⟨zk_le hR.1 rfl, zk_le hR.2.1 rfl⟩ ⟨zk_le hR.2.2.1 rfl, zk_le hR.2.2.2 rfl⟩ hP hD hS hl.1 rfl (Nat.le_of_ble_eq_true rfl) dX7_pass_8 (fun v_ H locs hq_ hP hD hS => ?_)
  obtain rfl := hq_
  refine zn_st (st2 := [.int (nI (Bool.toNat (zk_in x 1 48)))]) rfl ?_
  refine zb_if_eq (tgt := 26) hx hb dX7_pass_11 (by decide) (fun c_11 => ?_) (fun c_11 => ?_)
  · refine lv_aload_n hx hb dX7_pass_26 rfl (lv_at hl 0 rfl) ?_
    refine lv_iconst (v := nI (1)) hx hb dX7_pass_27 rfl ?_
    refine zk_callV0 fx (cm_fail l s0 b h (va_up f 9 (0)) (va_up a 1 (zp_cp (a 0) (a 1) 0 0 72)) 1) (lw_V q2342 q2344 qs36 q108 q2345) ⟨rfl, by decide, by decide, (show (parseMethodDescriptor yX7_fail.desc).map (fun d => d.parameters.length) = some 1 by decide +kernel)⟩ ⟨zk_le hR.1 rfl, zk_le hR.2.1 rfl⟩ ⟨zk_le hR.2.2.1 rfl, zk_le hR.2.2.2 rfl⟩ hP hD hS 0 rfl rfl 0 rfl hl.1 rfl (Nat.le_of_ble_eq_true rfl) dX7_pass_28 (fun v_ w_ H locs hq_ hP hD hS => ?_)
    obtain ⟨rfl, rfl⟩ := hq_
    refine zn_st (st2 := [.int (nI (0))]) rfl ?_
    exact zk_reti (v := nI (0)) fx eQ rfl (rfl) hP hD hS (Nat.le_of_ble_eq_true rfl) (Nat.le_of_ble_eq_true rfl) dX7_pass_31 (zm_Mf (by rw [zo_pass, if_neg (by rw [c_11]; decide)]) (by decide))
  · obtain ⟨i, hi1, hi, rfl⟩ := zk_in_of c_11 (by decide) (by decide)
    refine lv_aload_n hx hb dX7_pass_14 rfl (lv_at hl 0 rfl) ?_
    refine lv_aload_n hx hb dX7_pass_15 rfl (lv_at hl 0 rfl) ?_
    refine lv_iload_n hx hb dX7_pass_16 rfl (lv_at hl 1 rfl) ?_
    refine zk_callV0 fx (cm_passes l s0 b h (va_up f 9 (0)) (va_up a 1 (zp_cp (a 0) (a 1) 0 0 72)) i (by omega) (ok)) (lw_V q2370 q2372 qs41 q108 q2373) ⟨rfl, by decide, by decide, (show (parseMethodDescriptor yX7_passes.desc).map (fun d => d.parameters.length) = some 1 by decide +kernel)⟩ ⟨zk_le hR.1 rfl, zk_le hR.2.1 rfl⟩ ⟨zk_le hR.2.2.1 rfl, zk_le hR.2.2.2 rfl⟩ hP hD hS 0 rfl rfl 0 rfl hl.1 rfl (Nat.le_of_ble_eq_true rfl) dX7_pass_17 (fun v_ w_ H locs hq_ hP hD hS => ?_)
    obtain ⟨rfl, rfl⟩ := hq_
    refine zn_st (st2 := [.int (nI ((zp_ph (a 0) i).1)), .ref (h 0)]) rfl ?_
    refine zk_callV0 fx (cm_commit l s0 b h (va_up f 9 (0)) (va_up (va_up a 1 (zp_cp (a 0) (a 1) 0 0 72)) 0 (zp_pass (a 0) i)) (nI ((zp_ph (a 0) i).1)) (hd0)) (lw_V q2350 q2352 qs38 q108 q2353) ⟨rfl, by decide, by decide, (show (parseMethodDescriptor yX7_commit.desc).map (fun d => d.parameters.length) = some 1 by decide +kernel)⟩ ⟨zk_le hR.1 rfl, zk_le hR.2.1 rfl⟩ ⟨zk_le hR.2.2.1 rfl, zk_le hR.2.2.2 rfl⟩ hP hD hS 0 rfl rfl 0 rfl hl.1 rfl (Nat.le_of_ble_eq_true rfl) dX7_pass_20 (fun v_ w_ H locs hq_ hP hD hS => ?_)
    obtain ⟨rfl, rfl⟩ := hq_
    refine zn_st (st2 := [.int (nI ((zp_ph (a 0) i).1))]) rfl ?_
    refine lv_goto (tgt := 31) hx hb dX7_pass_23 (by decide) ?_
    exact zk_reti (v := nI ((zp_ph (a 0) i).1)) fx eQ rfl (rfl) hP hD hS (Nat.le_of_ble_eq_true rfl) (Nat.le_of_ble_eq_true rfl) dX7_pass_31 (zm_Mc (by rw [zo_pass, if_pos c_11, nI_clamp (by omega)]))
set_option maxHeartbeats 4000000 in
set_option maxRecDepth 100000 in
theorem cm_editionByMissing (l : Launch) (s0 : State) (b : Nat) (h f : Nat → Nat) (a : Nat → Nat → Nat) (x : Int32) (ok : zp_Ok (a 0)) : zk_C l s0 b yX7_editionByMissing (ws_ yX7_editionByMissing cX7_editionByMissing 5 (some .int)) 2 43 0 0 [.ref (h 0), .int (x)] (zm_W s0 h f a) (fun r w => zm_N s0 h f a (match zp_ebm (a 0) x (a 0 0) with | some _ => 0 | none => 1) (.int (nI (match zp_ebm (a 0) x (a 0 0) with | some j => j | none => 0))) r w) := by
  refine zk_mk (by decide) rfl ?_
  intro p e s m below meth c A R args Q fx hR eQ hP hD hS ls hl
  have hx := fx.1
  have hb := fx.2.1
  have hK := fx.2.2.2.2.2.2.2.2.1.K
  have hl : lv_has ls 5 [(0, .ref (h 0)), (1, .int (x))] := hl
  obtain ⟨ok0, ok1, ok2, ok3, ok4, ok5, ok6, okw, oke, okp⟩ := id ok
  refine lv_aload_n hx hb dX7_editionByMissing_0 rfl (lv_at hl 0 rfl) ?_
  refine lv_iconst (v := nI (0)) hx hb dX7_editionByMissing_1 rfl ?_
  refine zm_put fx 9 (by decide) q2250 (v := 0) hP hD hS dX7_editionByMissing_2 (fun H locs hP hD hS => ?_)
  have hP : va_P (zk_D s0) zk_Cl (zm_W s0 h (va_up f 9 (0)) a) H := hP
  refine lv_iconst (v := nI (0)) hx hb dX7_editionByMissing_5 rfl ?_
  refine lv_istore_n (lv' := [(2, .int (nI (0))), (0, .ref (h 0)), (1, .int (x))]) hx hb dX7_editionByMissing_6 rfl hl (by decide) rfl (fun ls hl => ?_)
  have lp_7 : ∀ (n_ : Nat) (k_ : Nat), (a 0 0 - k_) < n_ → (k_ ≤ a 0 0) → (zp_ebm (a 0) x k_ = none) → ∀ (H : Heap) (locs : List Loc), va_P (zk_D s0) zk_Cl (zm_W s0 h (va_up f 9 (0)) a) H → va_D A (zm_W s0 h (va_up f 9 (0)) a) → va_S A s.heap H locs → ∀ ls : Array Slot, lv_has ls 5 [(2, .int (nI (k_))), (0, .ref (h 0)), (1, .int (x))] → W p l e R s m args below meth c H locs 0 0 Q (F0 m 7 ls []) := by
    intro n_
    induction n_ with
    | zero => intro k_ hn_; exact absurd hn_ (Nat.not_lt_zero _)
    | succ n_ ih_7 =>
      intro k_ hn_ hk hb0 H locs hP hD hS ls hl
      refine lv_iload_n hx hb dX7_editionByMissing_7 rfl (lv_at hl 0 rfl) ?_
      refine lv_aload_n hx hb dX7_editionByMissing_8 rfl (lv_at hl 1 rfl) ?_
      refine zm_get (f := (va_up f 9 (0))) fx 0 (by decide) q2241 (v := .ref (h 1)) rfl hP dX7_editionByMissing_9 ?_
      refine lv_iconst (v := nI (0)) hx hb dX7_editionByMissing_12 rfl ?_
      refine zn_ald hx hb hK hP 1 (g := a 0) rfl (i := 0) (by omega) (by decide) dX7_editionByMissing_13 ?_
      refine zn_icmp_ge (tgt := 94) hx hb dX7_editionByMissing_14 (by decide) (by omega) (by omega) (fun c_14 => ?_) (fun c_14 => ?_)
      · refine lv_aload_n hx hb dX7_editionByMissing_94 rfl (lv_at hl 1 rfl) ?_
        refine lv_iconst (v := nI (1)) hx hb dX7_editionByMissing_95 rfl ?_
        refine zk_callV0 fx (cm_fail l s0 b h (va_up f 9 (0)) a 1) (lw_V q2342 q2344 qs36 q108 q2345) ⟨rfl, by decide, by decide, (show (parseMethodDescriptor yX7_fail.desc).map (fun d => d.parameters.length) = some 1 by decide +kernel)⟩ ⟨zk_le hR.1 rfl, zk_le hR.2.1 rfl⟩ ⟨zk_le hR.2.2.1 rfl, zk_le hR.2.2.2 rfl⟩ hP hD hS 0 rfl rfl 0 rfl hl.1 rfl (Nat.le_of_ble_eq_true rfl) dX7_editionByMissing_96 (fun v_ w_ H locs hq_ hP hD hS => ?_)
        obtain ⟨rfl, rfl⟩ := hq_
        refine zn_st (st2 := [.int (nI (0))]) rfl ?_
        exact zk_reti (v := nI (0)) fx eQ rfl (rfl) hP hD hS (Nat.le_of_ble_eq_true rfl) (Nat.le_of_ble_eq_true rfl) dX7_editionByMissing_99 ((by rw [show a 0 0 = k_ by omega, hb0]; exact ⟨rfl, _, _, rfl, ⟨rfl, rfl, rfl, rfl, rfl, rfl, rfl, rfl⟩, ⟨rfl, rfl⟩, rfl, rfl⟩))
      · refine lv_iconst (v := nI (0)) hx hb dX7_editionByMissing_17 rfl ?_
        refine lv_istore_n (lv' := [(3, .int (nI (0))), (2, .int (nI (k_))), (0, .ref (h 0)), (1, .int (x))]) hx hb dX7_editionByMissing_18 rfl hl (by decide) rfl (fun ls hl => ?_)
        refine lv_iconst (v := nI (0)) hx hb dX7_editionByMissing_19 rfl ?_
        refine lv_istore (lv' := [(4, .int (nI (0))), (3, .int (nI (0))), (2, .int (nI (k_))), (0, .ref (h 0)), (1, .int (x))]) hx hb dX7_editionByMissing_20 hl (by decide) rfl (fun ls hl => ?_)
        have lp_22 : ∀ (n_ : Nat) (o_ : Nat), (a 0 0 - o_) < n_ → (o_ ≤ a 0 0) → ∀ (H : Heap) (locs : List Loc), va_P (zk_D s0) zk_Cl (zm_W s0 h (va_up f 9 (0)) a) H → va_D A (zm_W s0 h (va_up f 9 (0)) a) → va_S A s.heap H locs → ∀ ls : Array Slot, lv_has ls 5 [(4, .int (nI (o_))), (3, .int (nI (zp_ah (a 0) k_ o_))), (2, .int (nI (k_))), (0, .ref (h 0)), (1, .int (x))] → W p l e R s m args below meth c H locs 0 0 Q (F0 m 22 ls []) := by
          intro n_
          induction n_ with
          | zero => intro o_ hn_; exact absurd hn_ (Nat.not_lt_zero _)
          | succ n_ ih_22 =>
            intro o_ hn_ ho H locs hP hD hS ls hl
            refine lv_iload hx hb dX7_editionByMissing_22 (lv_at hl 0 rfl) ?_
            refine lv_aload_n hx hb dX7_editionByMissing_24 rfl (lv_at hl 3 rfl) ?_
            refine zm_get (f := (va_up f 9 (0))) fx 0 (by decide) q2241 (v := .ref (h 1)) rfl hP dX7_editionByMissing_25 ?_
            refine lv_iconst (v := nI (0)) hx hb dX7_editionByMissing_28 rfl ?_
            refine zn_ald hx hb hK hP 1 (g := a 0) rfl (i := 0) (by omega) (by decide) dX7_editionByMissing_29 ?_
            refine zn_icmp_ge (tgt := 81) hx hb dX7_editionByMissing_30 (by decide) (by omega) (by omega) (fun c_30 => ?_) (fun c_30 => ?_)
            · refine lv_iload_n hx hb dX7_editionByMissing_81 rfl (lv_at hl 1 rfl) ?_
              refine lv_iload_n hx hb dX7_editionByMissing_82 rfl (lv_at hl 4 rfl) ?_
              refine lv_icmp_ne (tgt := 88) hx hb dX7_editionByMissing_83 (by decide) (fun c_83 => ?_) (fun c_83 => ?_)
              · refine lv_iinc (v := nI (k_ + 1)) (lv' := [(2, .int (nI (k_ + 1))), (4, .int (nI (o_))), (3, .int (nI (zp_ah (a 0) k_ o_))), (0, .ref (h 0)), (1, .int (x))]) hx hb dX7_editionByMissing_88 hl (k := 2) rfl (nI_add k_ 1) (by decide) rfl (fun ls hl => ?_)
                refine lv_goto (tgt := 7) hx hb dX7_editionByMissing_91 (by decide) ?_
                exact ih_7 (k_ + 1) (by omega) (by omega) (zp_ebm_miss hb0 (by rw [show a 0 0 = o_ by omega]; exact c_83)) _ _ hP hD hS ls (lv_sub hl [0, 3, 4] rfl)
              · refine lv_iload_n hx hb dX7_editionByMissing_86 rfl (lv_at hl 2 rfl) ?_
                exact zk_reti (v := nI (k_)) fx eQ rfl (rfl) hP hD hS (Nat.le_of_ble_eq_true rfl) (Nat.le_of_ble_eq_true rfl) dX7_editionByMissing_87 ((by have hz := zp_ebm_hit hb0 (show nI (zp_ah (a 0) k_ (a 0 0)) = x by rw [show a 0 0 = o_ by omega]; exact c_83) (a 0 0 - (k_ + 1)); rw [show k_ + 1 + (a 0 0 - (k_ + 1)) = a 0 0 by omega] at hz; rw [hz]; exact ⟨rfl, _, _, rfl, ⟨rfl, rfl, rfl, rfl, rfl, rfl, rfl, rfl⟩, ⟨rfl, rfl⟩, rfl, rfl⟩))
            · have hm1 : zp_miss (a 0) o_ ≤ 50 := (by have := oke o_ (by omega); unfold zp_miss; omega)
              have hm2 : zp_miss (a 0) k_ ≤ 50 := (by have := oke k_ (by omega); unfold zp_miss; omega)
              refine lv_iload_n hx hb dX7_editionByMissing_33 rfl (lv_at hl 1 rfl) ?_
              refine lv_aload_n hx hb dX7_editionByMissing_34 rfl (lv_at hl 3 rfl) ?_
              refine lv_iload hx hb dX7_editionByMissing_35 (lv_at hl 0 rfl) ?_
              refine zk_callV0 fx (cm_missing l s0 b h (va_up f 9 (0)) a o_ (by omega) (ok)) (lw_V q2446 q2448 qs51 q108 q2449) ⟨rfl, by decide, by decide, (show (parseMethodDescriptor yX7_missing.desc).map (fun d => d.parameters.length) = some 1 by decide +kernel)⟩ ⟨zk_le hR.1 rfl, zk_le hR.2.1 rfl⟩ ⟨zk_le hR.2.2.1 rfl, zk_le hR.2.2.2 rfl⟩ hP hD hS 0 rfl rfl 0 rfl hl.1 rfl (Nat.le_of_ble_eq_true rfl) dX7_editionByMissing_37 (fun v_ w_ H locs hq_ hP hD hS => ?_)
              obtain ⟨rfl, rfl⟩ := hq_
              refine zn_st (st2 := [.int (nI (zp_miss (a 0) o_)), .int (nI (zp_ah (a 0) k_ o_))]) rfl ?_
              refine lv_aload_n hx hb dX7_editionByMissing_40 rfl (lv_at hl 3 rfl) ?_
              refine lv_iload_n hx hb dX7_editionByMissing_41 rfl (lv_at hl 2 rfl) ?_
              refine zk_callV0 fx (cm_missing l s0 b h (va_up f 9 (0)) a k_ (by omega) (ok)) (lw_V q2446 q2448 qs51 q108 q2449) ⟨rfl, by decide, by decide, (show (parseMethodDescriptor yX7_missing.desc).map (fun d => d.parameters.length) = some 1 by decide +kernel)⟩ ⟨zk_le hR.1 rfl, zk_le hR.2.1 rfl⟩ ⟨zk_le hR.2.2.1 rfl, zk_le hR.2.2.2 rfl⟩ hP hD hS 0 rfl rfl 0 rfl hl.1 rfl (Nat.le_of_ble_eq_true rfl) dX7_editionByMissing_42 (fun v_ w_ H locs hq_ hP hD hS => ?_)
              obtain ⟨rfl, rfl⟩ := hq_
              refine zn_st (st2 := [.int (nI (zp_miss (a 0) k_)), .int (nI (zp_miss (a 0) o_)), .int (nI (zp_ah (a 0) k_ o_))]) rfl ?_
              refine zn_icmp_gt (tgt := 68) hx hb dX7_editionByMissing_45 (by decide) (by omega) (by omega) (fun c_45 => ?_) (fun c_45 => ?_)
              · refine lv_iconst (v := nI (1)) hx hb dX7_editionByMissing_68 rfl ?_
                refine lv_goto (tgt := 73) hx hb dX7_editionByMissing_69 (by decide) ?_
                refine zn_iadd hx hb dX7_editionByMissing_73 ?_
                refine zn_top (y := nI (zp_ah (a 0) k_ (o_ + 1))) (by rw [zp_ah, if_pos (Or.inl c_45)]) ?_
                refine lv_istore_n (lv' := [(3, .int (nI (zp_ah (a 0) k_ (o_ + 1)))), (4, .int (nI (o_))), (2, .int (nI (k_))), (0, .ref (h 0)), (1, .int (x))]) hx hb dX7_editionByMissing_74 rfl hl (by decide) rfl (fun ls hl => ?_)
                refine lv_iinc (v := nI (o_ + 1)) (lv' := [(4, .int (nI (o_ + 1))), (3, .int (nI (zp_ah (a 0) k_ (o_ + 1)))), (2, .int (nI (k_))), (0, .ref (h 0)), (1, .int (x))]) hx hb dX7_editionByMissing_75 hl (k := 1) rfl (nI_add o_ 1) (by decide) rfl (fun ls hl => ?_)
                refine lv_goto (tgt := 22) hx hb dX7_editionByMissing_78 (by decide) ?_
                exact ih_22 (o_ + 1) (by omega) (by omega) _ _ hP hD hS ls (lv_sub hl [0, 1, 2, 3, 4] rfl)
              · refine lv_aload_n hx hb dX7_editionByMissing_48 rfl (lv_at hl 3 rfl) ?_
                refine lv_iload hx hb dX7_editionByMissing_49 (lv_at hl 0 rfl) ?_
                refine zk_callV0 fx (cm_missing l s0 b h (va_up f 9 (0)) a o_ (by omega) (ok)) (lw_V q2446 q2448 qs51 q108 q2449) ⟨rfl, by decide, by decide, (show (parseMethodDescriptor yX7_missing.desc).map (fun d => d.parameters.length) = some 1 by decide +kernel)⟩ ⟨zk_le hR.1 rfl, zk_le hR.2.1 rfl⟩ ⟨zk_le hR.2.2.1 rfl, zk_le hR.2.2.2 rfl⟩ hP hD hS 0 rfl rfl 0 rfl hl.1 rfl (Nat.le_of_ble_eq_true rfl) dX7_editionByMissing_51 (fun v_ w_ H locs hq_ hP hD hS => ?_)
                obtain ⟨rfl, rfl⟩ := hq_
                refine zn_st (st2 := [.int (nI (zp_miss (a 0) o_)), .int (nI (zp_ah (a 0) k_ o_))]) rfl ?_
                refine lv_aload_n hx hb dX7_editionByMissing_54 rfl (lv_at hl 3 rfl) ?_
                refine lv_iload_n hx hb dX7_editionByMissing_55 rfl (lv_at hl 2 rfl) ?_
                refine zk_callV0 fx (cm_missing l s0 b h (va_up f 9 (0)) a k_ (by omega) (ok)) (lw_V q2446 q2448 qs51 q108 q2449) ⟨rfl, by decide, by decide, (show (parseMethodDescriptor yX7_missing.desc).map (fun d => d.parameters.length) = some 1 by decide +kernel)⟩ ⟨zk_le hR.1 rfl, zk_le hR.2.1 rfl⟩ ⟨zk_le hR.2.2.1 rfl, zk_le hR.2.2.2 rfl⟩ hP hD hS 0 rfl rfl 0 rfl hl.1 rfl (Nat.le_of_ble_eq_true rfl) dX7_editionByMissing_56 (fun v_ w_ H locs hq_ hP hD hS => ?_)
                obtain ⟨rfl, rfl⟩ := hq_
                refine zn_st (st2 := [.int (nI (zp_miss (a 0) k_)), .int (nI (zp_miss (a 0) o_)), .int (nI (zp_ah (a 0) k_ o_))]) rfl ?_
                refine zn_icmp_ne (tgt := 72) hx hb dX7_editionByMissing_59 (by decide) (by omega) (by omega) (fun c_59 => ?_) (fun c_59 => ?_)
                · refine lv_iconst (v := nI (0)) hx hb dX7_editionByMissing_72 rfl ?_
                  refine zn_iadd hx hb dX7_editionByMissing_73 ?_
                  refine zn_top (y := nI (zp_ah (a 0) k_ (o_ + 1))) (by rw [zp_ah, if_neg (by omega)]) ?_
                  refine lv_istore_n (lv' := [(3, .int (nI (zp_ah (a 0) k_ (o_ + 1)))), (4, .int (nI (o_))), (2, .int (nI (k_))), (0, .ref (h 0)), (1, .int (x))]) hx hb dX7_editionByMissing_74 rfl hl (by decide) rfl (fun ls hl => ?_)
                  refine lv_iinc (v := nI (o_ + 1)) (lv' := [(4, .int (nI (o_ + 1))), (3, .int (nI (zp_ah (a 0) k_ (o_ + 1)))), (2, .int (nI (k_))), (0, .ref (h 0)), (1, .int (x))]) hx hb dX7_editionByMissing_75 hl (k := 1) rfl (nI_add o_ 1) (by decide) rfl (fun ls hl => ?_)
                  refine lv_goto (tgt := 22) hx hb dX7_editionByMissing_78 (by decide) ?_
                  exact ih_22 (o_ + 1) (by omega) (by omega) _ _ hP hD hS ls (lv_sub hl [0, 1, 2, 3, 4] rfl)
                · refine lv_iload hx hb dX7_editionByMissing_62 (lv_at hl 0 rfl) ?_
                  refine lv_iload_n hx hb dX7_editionByMissing_64 rfl (lv_at hl 2 rfl) ?_
                  refine zn_icmp_ge (tgt := 72) hx hb dX7_editionByMissing_65 (by decide) (by omega) (by omega) (fun c_65 => ?_) (fun c_65 => ?_)
                  · refine lv_iconst (v := nI (0)) hx hb dX7_editionByMissing_72 rfl ?_
                    refine zn_iadd hx hb dX7_editionByMissing_73 ?_
                    refine zn_top (y := nI (zp_ah (a 0) k_ (o_ + 1))) (by rw [zp_ah, if_neg (by omega)]) ?_
                    refine lv_istore_n (lv' := [(3, .int (nI (zp_ah (a 0) k_ (o_ + 1)))), (4, .int (nI (o_))), (2, .int (nI (k_))), (0, .ref (h 0)), (1, .int (x))]) hx hb dX7_editionByMissing_74 rfl hl (by decide) rfl (fun ls hl => ?_)
                    refine lv_iinc (v := nI (o_ + 1)) (lv' := [(4, .int (nI (o_ + 1))), (3, .int (nI (zp_ah (a 0) k_ (o_ + 1)))), (2, .int (nI (k_))), (0, .ref (h 0)), (1, .int (x))]) hx hb dX7_editionByMissing_75 hl (k := 1) rfl (nI_add o_ 1) (by decide) rfl (fun ls hl => ?_)
                    refine lv_goto (tgt := 22) hx hb dX7_editionByMissing_78 (by decide) ?_
                    exact ih_22 (o_ + 1) (by omega) (by omega) _ _ hP hD hS ls (lv_sub hl [0, 1, 2, 3, 4] rfl)
                  · refine lv_iconst (v := nI (1)) hx hb dX7_editionByMissing_68 rfl ?_
                    refine lv_goto (tgt := 73) hx hb dX7_editionByMissing_69 (by decide) ?_
                    refine zn_iadd hx hb dX7_editionByMissing_73 ?_
                    refine zn_top (y := nI (zp_ah (a 0) k_ (o_ + 1))) (by rw [zp_ah, if_pos (Or.inr ⟨c_59, by omega⟩)]) ?_
                    refine lv_istore_n (lv' := [(3, .int (nI (zp_ah (a 0) k_ (o_ + 1)))), (4, .int (nI (o_))), (2, .int (nI (k_))), (0, .ref (h 0)), (1, .int (x))]) hx hb dX7_editionByMissing_74 rfl hl (by decide) rfl (fun ls hl => ?_)
                    refine lv_iinc (v := nI (o_ + 1)) (lv' := [(4, .int (nI (o_ + 1))), (3, .int (nI (zp_ah (a 0) k_ (o_ + 1)))), (2, .int (nI (k_))), (0, .ref (h 0)), (1, .int (x))]) hx hb dX7_editionByMissing_75 hl (k := 1) rfl (nI_add o_ 1) (by decide) rfl (fun ls hl => ?_)
                    refine lv_goto (tgt := 22) hx hb dX7_editionByMissing_78 (by decide) ?_
                    exact ih_22 (o_ + 1) (by omega) (by omega) _ _ hP hD hS ls (lv_sub hl [0, 1, 2, 3, 4] rfl)
        exact lp_22 _ 0 (Nat.lt_succ_self _) (by omega) _ _ hP hD hS ls (lv_sub hl [0, 1, 2, 3, 4] rfl)
  exact lp_7 _ 0 (Nat.lt_succ_self _) (Nat.zero_le _) rfl _ _ hP hD hS ls (lv_sub hl [0, 1, 2] rfl)
set_option maxHeartbeats 4000000 in
set_option maxRecDepth 100000 in
theorem cm_inkInWells (l : Launch) (s0 : State) (b : Nat) (h f : Nat → Nat) (a : Nat → Nat → Nat) : zk_C l s0 b yX7_inkInWells (ws_ yX7_inkInWells cX7_inkInWells 3 (some .int)) 0 0 0 0 [.ref (h 0)] (zm_W s0 h f a) (fun r w => zm_N s0 h f a 0 (.int (nI (zp_sum (a 0) 10))) r w) := by
  refine zk_mk (by decide) rfl ?_
  intro p e s m below meth c A R args Q fx hR eQ hP hD hS ls hl
  have hx := fx.1
  have hb := fx.2.1
  have hK := fx.2.2.2.2.2.2.2.2.1.K
  have hl : lv_has ls 3 [(0, .ref (h 0))] := hl
  refine lv_aload_n hx hb dX7_inkInWells_0 rfl (lv_at hl 0 rfl) ?_
  refine lv_iconst (v := nI (0)) hx hb dX7_inkInWells_1 rfl ?_
  refine zm_put fx 9 (by decide) q2250 (v := 0) hP hD hS dX7_inkInWells_2 (fun H locs hP hD hS => ?_)
  have hP : va_P (zk_D s0) zk_Cl (zm_W s0 h (va_up f 9 (0)) a) H := hP
  refine lv_iconst (v := nI (0)) hx hb dX7_inkInWells_5 rfl ?_
  refine lv_istore_n (lv' := [(1, .int (nI (0))), (0, .ref (h 0))]) hx hb dX7_inkInWells_6 rfl hl (by decide) rfl (fun ls hl => ?_)
  refine lv_iconst (v := nI (0)) hx hb dX7_inkInWells_7 rfl ?_
  refine lv_istore_n (lv' := [(2, .int (nI (0))), (1, .int (nI (0))), (0, .ref (h 0))]) hx hb dX7_inkInWells_8 rfl hl (by decide) rfl (fun ls hl => ?_)
  have lp_9 : ∀ (n_ : Nat) (k_ : Nat), (10 - k_) < n_ → (k_ ≤ 10) → ∀ (H : Heap) (locs : List Loc), va_P (zk_D s0) zk_Cl (zm_W s0 h (va_up f 9 (0)) a) H → va_D A (zm_W s0 h (va_up f 9 (0)) a) → va_S A s.heap H locs → ∀ ls : Array Slot, lv_has ls 3 [(2, .int (nI (k_))), (1, .int (nI (zp_sum (a 0) k_))), (0, .ref (h 0))] → W p l e R s m args below meth c H locs 0 0 Q (F0 m 9 ls []) := by
    intro n_
    induction n_ with
    | zero => intro k_ hn_; exact absurd hn_ (Nat.not_lt_zero _)
    | succ n_ ih_9 =>
      intro k_ hn_ hk H locs hP hD hS ls hl
      refine lv_iload_n hx hb dX7_inkInWells_9 rfl (lv_at hl 0 rfl) ?_
      refine lv_bipush (v := nI (10)) hx hb dX7_inkInWells_10 (by decide) ?_
      refine zn_icmp_ge (tgt := 33) hx hb dX7_inkInWells_12 (by decide) (by omega) (by omega) (fun c_12 => ?_) (fun c_12 => ?_)
      · refine lv_iload_n hx hb dX7_inkInWells_33 rfl (lv_at hl 1 rfl) ?_
        exact zk_reti (v := nI (zp_sum (a 0) k_)) fx eQ rfl (rfl) hP hD hS (Nat.le_of_ble_eq_true rfl) (Nat.le_of_ble_eq_true rfl) dX7_inkInWells_34 (⟨by rw [show k_ = 10 by omega], _, _, rfl, ⟨rfl, rfl, rfl, rfl, rfl, rfl, rfl, rfl⟩, ⟨rfl, rfl⟩, rfl, rfl⟩)
      · refine lv_iload_n hx hb dX7_inkInWells_15 rfl (lv_at hl 1 rfl) ?_
        refine lv_aload_n hx hb dX7_inkInWells_16 rfl (lv_at hl 2 rfl) ?_
        refine zm_get (f := (va_up f 9 (0))) fx 0 (by decide) q2241 (v := .ref (h 1)) rfl hP dX7_inkInWells_17 ?_
        refine lv_bipush (v := nI (8)) hx hb dX7_inkInWells_20 (by decide) ?_
        refine lv_iload_n hx hb dX7_inkInWells_22 rfl (lv_at hl 0 rfl) ?_
        refine zn_iadd hx hb dX7_inkInWells_23 ?_
        refine zn_ald hx hb hK hP 1 (g := a 0) rfl (i := 8 + k_) (by omega) (by decide) dX7_inkInWells_24 ?_
        refine zn_iadd hx hb dX7_inkInWells_25 ?_
        refine lv_istore_n (lv' := [(1, .int (nI ((zp_sum (a 0) k_) + ((a 0) (8 + k_))))), (2, .int (nI (k_))), (0, .ref (h 0))]) hx hb dX7_inkInWells_26 rfl hl (by decide) rfl (fun ls hl => ?_)
        refine lv_iinc (v := nI (k_ + 1)) (lv' := [(2, .int (nI (k_ + 1))), (1, .int (nI ((zp_sum (a 0) k_) + ((a 0) (8 + k_))))), (0, .ref (h 0))]) hx hb dX7_inkInWells_27 hl (k := 1) rfl (nI_add k_ 1) (by decide) rfl (fun ls hl => ?_)
        refine lv_goto (tgt := 9) hx hb dX7_inkInWells_30 (by decide) ?_
        exact ih_9 (k_ + 1) (by omega) (by omega) _ _ hP hD hS ls (lv_sub hl [0, 1, 2] rfl)
  exact lp_9 _ 0 (Nat.lt_succ_self _) (by omega) _ _ hP hD hS ls (lv_sub hl [0, 1, 2] rfl)
set_option maxHeartbeats 4000000 in
set_option maxRecDepth 100000 in
theorem cm_faded (l : Launch) (s0 : State) (b : Nat) (h f : Nat → Nat) (a : Nat → Nat → Nat) (h18 : a 0 18 < 2 ^ 31) : zk_C l s0 b yX7_faded (ws_ yX7_faded cX7_faded 1 (some .long)) 0 0 0 0 [.ref (h 0)] (zm_W s0 h f a) (fun r w => zm_N s0 h f a 0 (.long (lN (a 0 18))) r w) := by
  refine zk_mk (by decide) rfl ?_
  intro p e s m below meth c A R args Q fx hR eQ hP hD hS ls hl
  have hx := fx.1
  have hb := fx.2.1
  have hK := fx.2.2.2.2.2.2.2.2.1.K
  have hl : lv_has ls 1 [(0, .ref (h 0))] := hl
  refine lv_aload_n hx hb dX7_faded_0 rfl (lv_at hl 0 rfl) ?_
  refine lv_iconst (v := nI (0)) hx hb dX7_faded_1 rfl ?_
  refine zm_put fx 9 (by decide) q2250 (v := 0) hP hD hS dX7_faded_2 (fun H locs hP hD hS => ?_)
  have hP : va_P (zk_D s0) zk_Cl (zm_W s0 h (va_up f 9 (0)) a) H := hP
  refine lv_aload_n hx hb dX7_faded_5 rfl (lv_at hl 0 rfl) ?_
  refine zm_get (f := (va_up f 9 (0))) fx 0 (by decide) q2241 (v := .ref (h 1)) rfl hP dX7_faded_6 ?_
  refine lv_bipush (v := nI (18)) hx hb dX7_faded_9 (by decide) ?_
  refine zn_ald hx hb hK hP 1 (g := a 0) rfl (i := 18) (by omega) (by decide) dX7_faded_11 ?_
  refine zn_i2l hx hb dX7_faded_12 (by omega) ?_
  exact zk_retl fx eQ rfl hP hD hS (Nat.le_of_ble_eq_true rfl) (Nat.le_of_ble_eq_true rfl) dX7_faded_13 (⟨rfl, _, _, rfl, ⟨rfl, rfl, rfl, rfl, rfl, rfl, rfl, rfl⟩, ⟨rfl, rfl⟩, rfl, rfl⟩)
set_option maxHeartbeats 4000000 in
set_option maxRecDepth 100000 in
theorem cm_isConsistent (l : Launch) (s0 : State) (b : Nat) (h f : Nat → Nat) (a : Nat → Nat → Nat) : zk_C l s0 b yX7_isConsistent (ws_ yX7_isConsistent cX7_isConsistent 1 (some .boolean)) 1 21 0 0 [.ref (h 0)] (zm_W s0 h f a) (fun r w => zm_N s0 h f a 0 (.int (nI (Bool.toNat true))) r w) := by
  refine zk_mk (by decide) rfl ?_
  intro p e s m below meth c A R args Q fx hR eQ hP hD hS ls hl
  have hx := fx.1
  have hb := fx.2.1
  have hK := fx.2.2.2.2.2.2.2.2.1.K
  have hl : lv_has ls 1 [(0, .ref (h 0))] := hl
  refine lv_aload_n hx hb dX7_isConsistent_0 rfl (lv_at hl 0 rfl) ?_
  refine lv_iconst (v := nI (1)) hx hb dX7_isConsistent_1 rfl ?_
  refine zk_callV0 fx (cm_plain l s0 b h f a (nI (1))) (lw_V q2386 q2388 qs43 q108 q2389) ⟨rfl, by decide, by decide, (show (parseMethodDescriptor yX7_plain.desc).map (fun d => d.parameters.length) = some 1 by decide +kernel)⟩ ⟨zk_le hR.1 rfl, zk_le hR.2.1 rfl⟩ ⟨zk_le hR.2.2.1 rfl, zk_le hR.2.2.2 rfl⟩ hP hD hS 0 rfl rfl 0 rfl hl.1 rfl (Nat.le_of_ble_eq_true rfl) dX7_isConsistent_2 (fun v_ w_ H locs hq_ hP hD hS => ?_)
  obtain ⟨rfl, rfl⟩ := hq_
  refine zn_st (st2 := [.int (nI (1))]) rfl ?_
  refine lv_iconst (v := nI (1)) hx hb dX7_isConsistent_5 rfl ?_
  refine zn_icmp_ne (tgt := 13) hx hb dX7_isConsistent_6 (by decide) (by decide) (by decide) (fun z_ => absurd z_ (by decide)) (fun _ => ?_)
  refine lv_iconst (v := nI (1)) hx hb dX7_isConsistent_9 rfl ?_
  refine lv_goto (tgt := 14) hx hb dX7_isConsistent_10 (by decide) ?_
  exact zk_reti (v := nI (1)) fx eQ rfl (rfl) hP hD hS (Nat.le_of_ble_eq_true rfl) (Nat.le_of_ble_eq_true rfl) dX7_isConsistent_14 (⟨rfl, _, _, rfl, ⟨rfl, rfl, rfl, rfl, rfl, rfl, rfl, rfl⟩, ⟨rfl, rfl⟩, rfl, rfl⟩)
set_option maxHeartbeats 4000000 in
set_option maxRecDepth 100000 in
theorem cm_present (l : Launch) (s0 : State) (b : Nat) (h f : Nat → Nat) (a : Nat → Nat → Nat) (x : Int32) : zk_C l s0 b yX7_present (ws_ yX7_present cX7_present 2 (some .int)) 1 21 0 0 [.ref (h 0), .int (x)] (zm_W s0 h f a) (fun r w => r = some (.int (if x < 0 then 0 else x)) ∧ w = zm_W s0 h (va_up f 9 (if x < 0 then 1 else 0)) a) := by
  refine zk_mk (by decide) rfl ?_
  intro p e s m below meth c A R args Q fx hR eQ hP hD hS ls hl
  have hx := fx.1
  have hb := fx.2.1
  have hK := fx.2.2.2.2.2.2.2.2.1.K
  have hl : lv_has ls 2 [(0, .ref (h 0)), (1, .int (x))] := hl
  refine lv_aload_n hx hb dX7_present_0 rfl (lv_at hl 0 rfl) ?_
  refine lv_iload_n hx hb dX7_present_1 rfl (lv_at hl 1 rfl) ?_
  refine lv_if_lt (tgt := 9) hx hb dX7_present_2 (by decide) (fun c_2 => ?_) (fun c_2 => ?_)
  · refine lv_iconst (v := nI (0)) hx hb dX7_present_9 rfl ?_
    refine zk_callV0 fx (cm_checked l s0 b h f a false) (lw_V q2378 q2380 qs42 q108 q2381) ⟨rfl, by decide, by decide, (show (parseMethodDescriptor yX7_checked.desc).map (fun d => d.parameters.length) = some 1 by decide +kernel)⟩ ⟨zk_le hR.1 rfl, zk_le hR.2.1 rfl⟩ ⟨zk_le hR.2.2.1 rfl, zk_le hR.2.2.2 rfl⟩ hP hD hS 0 rfl rfl 0 rfl hl.1 rfl (Nat.le_of_ble_eq_true rfl) dX7_present_10 (fun v_ w_ H locs hq_ hP hD hS => ?_)
    obtain ⟨rfl, rfl⟩ := hq_
    refine zn_st (st2 := [.int (nI (1))]) rfl ?_
    refine zn_if_le (tgt := 20) hx hb dX7_present_13 (by decide) (by decide) (fun z_ => absurd z_ (by decide)) (fun _ => ?_)
    refine lv_iconst (v := nI (0)) hx hb dX7_present_16 rfl ?_
    refine lv_goto (tgt := 21) hx hb dX7_present_17 (by decide) ?_
    exact zk_reti (v := nI (0)) fx eQ rfl (rfl) hP hD hS (Nat.le_of_ble_eq_true rfl) (Nat.le_of_ble_eq_true rfl) dX7_present_21 (⟨by rw [if_pos c_2]; rfl, by rw [if_pos c_2]; rfl⟩)
  · refine lv_iconst (v := nI (1)) hx hb dX7_present_5 rfl ?_
    refine lv_goto (tgt := 10) hx hb dX7_present_6 (by decide) ?_
    refine zk_callV0 fx (cm_checked l s0 b h f a true) (lw_V q2378 q2380 qs42 q108 q2381) ⟨rfl, by decide, by decide, (show (parseMethodDescriptor yX7_checked.desc).map (fun d => d.parameters.length) = some 1 by decide +kernel)⟩ ⟨zk_le hR.1 rfl, zk_le hR.2.1 rfl⟩ ⟨zk_le hR.2.2.1 rfl, zk_le hR.2.2.2 rfl⟩ hP hD hS 0 rfl rfl 0 rfl hl.1 rfl (Nat.le_of_ble_eq_true rfl) dX7_present_10 (fun v_ w_ H locs hq_ hP hD hS => ?_)
    obtain ⟨rfl, rfl⟩ := hq_
    refine zn_st (st2 := [.int (nI (0))]) rfl ?_
    refine zn_if_le (tgt := 20) hx hb dX7_present_13 (by decide) (by decide) (fun _ => ?_) (fun z_ => absurd z_ (by decide))
    refine lv_iload_n hx hb dX7_present_20 rfl (lv_at hl 1 rfl) ?_
    exact zk_reti (v := x) fx eQ rfl (rfl) hP hD hS (Nat.le_of_ble_eq_true rfl) (Nat.le_of_ble_eq_true rfl) dX7_present_21 (⟨by rw [if_neg c_2], by rw [if_neg c_2]; rfl⟩)
set_option maxHeartbeats 4000000 in
set_option maxRecDepth 100000 in
theorem cm_errorPosition (l : Launch) (s0 : State) (b : Nat) (h f : Nat → Nat) (a : Nat → Nat → Nat) : zk_C l s0 b yX7_errorPosition (ws_ yX7_errorPosition cX7_errorPosition 1 (some .int)) 2 42 0 0 [.ref (h 0)] (zm_W s0 h f a) (fun r w => zm_N s0 h f a (if nI (f 11) < 0 then 1 else 0) (.int (if nI (f 11) < 0 then 0 else nI (f 11))) r w) := by
  refine zk_mk (by decide) rfl ?_
  intro p e s m below meth c A R args Q fx hR eQ hP hD hS ls hl
  have hx := fx.1
  have hb := fx.2.1
  have hK := fx.2.2.2.2.2.2.2.2.1.K
  have hl : lv_has ls 1 [(0, .ref (h 0))] := hl
  refine lv_aload_n hx hb dX7_errorPosition_0 rfl (lv_at hl 0 rfl) ?_
  refine lv_aload_n hx hb dX7_errorPosition_1 rfl (lv_at hl 0 rfl) ?_
  refine zm_get (f := f) fx 11 (by decide) q2252 (v := .int (nI (f 11))) rfl hP dX7_errorPosition_2 ?_
  refine zk_callV0 fx (cm_present l s0 b h f a (nI (f 11))) (lw_V q2730 q2732 qs82 q108 q2733) ⟨rfl, by decide, by decide, (show (parseMethodDescriptor yX7_present.desc).map (fun d => d.parameters.length) = some 1 by decide +kernel)⟩ ⟨zk_le hR.1 rfl, zk_le hR.2.1 rfl⟩ ⟨zk_le hR.2.2.1 rfl, zk_le hR.2.2.2 rfl⟩ hP hD hS 0 rfl rfl 0 rfl hl.1 rfl (Nat.le_of_ble_eq_true rfl) dX7_errorPosition_5 (fun v_ w_ H locs hq_ hP hD hS => ?_)
  obtain ⟨rfl, rfl⟩ := hq_
  refine zn_st (st2 := [.int (if nI (f 11) < 0 then 0 else nI (f 11))]) rfl ?_
  exact zk_reti (v := if nI (f 11) < 0 then 0 else nI (f 11)) fx eQ rfl (rfl) hP hD hS (Nat.le_of_ble_eq_true rfl) (Nat.le_of_ble_eq_true rfl) dX7_errorPosition_8 (⟨rfl, _, _, rfl, ⟨rfl, rfl, rfl, rfl, rfl, rfl, rfl, rfl⟩, ⟨rfl, rfl⟩, rfl, rfl⟩)
set_option maxHeartbeats 4000000 in
set_option maxRecDepth 100000 in
theorem cm_failedCommand (l : Launch) (s0 : State) (b : Nat) (h f : Nat → Nat) (a : Nat → Nat → Nat) : zk_C l s0 b yX7_failedCommand (ws_ yX7_failedCommand cX7_failedCommand 1 (some .int)) 2 42 0 0 [.ref (h 0)] (zm_W s0 h f a) (fun r w => zm_N s0 h f a (if nI (f 12) < 0 then 1 else 0) (.int (if nI (f 12) < 0 then 0 else nI (f 12))) r w) := by
  refine zk_mk (by decide) rfl ?_
  intro p e s m below meth c A R args Q fx hR eQ hP hD hS ls hl
  have hx := fx.1
  have hb := fx.2.1
  have hK := fx.2.2.2.2.2.2.2.2.1.K
  have hl : lv_has ls 1 [(0, .ref (h 0))] := hl
  refine lv_aload_n hx hb dX7_failedCommand_0 rfl (lv_at hl 0 rfl) ?_
  refine lv_aload_n hx hb dX7_failedCommand_1 rfl (lv_at hl 0 rfl) ?_
  refine zm_get (f := f) fx 12 (by decide) q2253 (v := .int (nI (f 12))) rfl hP dX7_failedCommand_2 ?_
  refine zk_callV0 fx (cm_present l s0 b h f a (nI (f 12))) (lw_V q2730 q2732 qs82 q108 q2733) ⟨rfl, by decide, by decide, (show (parseMethodDescriptor yX7_present.desc).map (fun d => d.parameters.length) = some 1 by decide +kernel)⟩ ⟨zk_le hR.1 rfl, zk_le hR.2.1 rfl⟩ ⟨zk_le hR.2.2.1 rfl, zk_le hR.2.2.2 rfl⟩ hP hD hS 0 rfl rfl 0 rfl hl.1 rfl (Nat.le_of_ble_eq_true rfl) dX7_failedCommand_5 (fun v_ w_ H locs hq_ hP hD hS => ?_)
  obtain ⟨rfl, rfl⟩ := hq_
  refine zn_st (st2 := [.int (if nI (f 12) < 0 then 0 else nI (f 12))]) rfl ?_
  exact zk_reti (v := if nI (f 12) < 0 then 0 else nI (f 12)) fx eQ rfl (rfl) hP hD hS (Nat.le_of_ble_eq_true rfl) (Nat.le_of_ble_eq_true rfl) dX7_failedCommand_8 (⟨rfl, _, _, rfl, ⟨rfl, rfl, rfl, rfl, rfl, rfl, rfl, rfl⟩, ⟨rfl, rfl⟩, rfl, rfl⟩)
set_option maxHeartbeats 4000000 in
set_option maxRecDepth 100000 in
theorem cm_save (l : Launch) (s0 : State) (b : Nat) (h f : Nat → Nat) (a : Nat → Nat → Nat) : zk_C l s0 b yX7_save (ws_ yX7_save cX7_save 1 (some .int)) 1 24 0 0 [.ref (h 0)] (zm_W s0 h f a) (fun r w => r = some (.int (nI (a 0 0))) ∧ w = zm_W s0 h (va_up (va_up f 9 0) 13 1) (va_up a 2 (zp_cp (a 0) (a 2) 0 0 72))) := by
  refine zk_mk (by decide) rfl ?_
  intro p e s m below meth c A R args Q fx hR eQ hP hD hS ls hl
  have hx := fx.1
  have hb := fx.2.1
  have hK := fx.2.2.2.2.2.2.2.2.1.K
  have hl : lv_has ls 1 [(0, .ref (h 0))] := hl
  refine lv_aload_n hx hb dX7_save_0 rfl (lv_at hl 0 rfl) ?_
  refine lv_iconst (v := nI (0)) hx hb dX7_save_1 rfl ?_
  refine zm_put fx 9 (by decide) q2250 (v := 0) hP hD hS dX7_save_2 (fun H locs hP hD hS => ?_)
  have hP : va_P (zk_D s0) zk_Cl (zm_W s0 h (va_up f 9 (0)) a) H := hP
  refine lv_aload_n hx hb dX7_save_5 rfl (lv_at hl 0 rfl) ?_
  refine zm_get (f := (va_up f 9 (0))) fx 0 (by decide) q2241 (v := .ref (h 1)) rfl hP dX7_save_6 ?_
  refine lv_iconst (v := nI (0)) hx hb dX7_save_9 rfl ?_
  refine lv_aload_n hx hb dX7_save_10 rfl (lv_at hl 0 rfl) ?_
  refine zm_get (f := (va_up f 9 (0))) fx 2 (by decide) q2243 (v := .ref (h 3)) rfl hP dX7_save_11 ?_
  refine lv_iconst (v := nI (0)) hx hb dX7_save_14 rfl ?_
  refine zk_callS fx (cm_copy2 l s0 b (h 1) (h 3) 72 72 (a 0) (a 2) 0 0 (by decide) (by decide) (by decide) (by decide)) (lw_S q2329 q2330 q108 q2331) ⟨by decide, by decide, (show (parseMethodDescriptor yX7_copy.desc).map (fun d => d.parameters.length) = some 4 by decide +kernel)⟩ ⟨zk_le hR.1 rfl, zk_le hR.2.1 rfl⟩ ⟨zk_le hR.2.2.1 rfl, zk_le hR.2.2.2 rfl⟩ hP hD hS (wc := [(h 1, zk_I s0 72 (a 0)), (h 3, zk_I s0 72 (a 2))]) (wr := [(h 0, .inr (0, zm_fs h (va_up f 9 (0)))), (h 2, zk_I s0 72 (a 1)), (h 4, zk_I s0 576 (a 3)), (h 5, zk_I s0 1024 (a 4)), (h 6, zk_I s0 7 (a 5)), (h 7, zk_I s0 12 (a 6)), (h 8, zk_I s0 12 (a 7)), (h 9, zk_I s0 7 (a 8)), (h 10, zk_I s0 80 (a 9)), (h 11, zk_I s0 60 (a 10)), (h 12, zk_I s0 32 (a 11)), (h 13, zk_I s0 32 (a 12)), (h 14, zk_I s0 32 (a 13))]) (zk_pi 15 [1, 3, 0, 2, 4, 5, 6, 7, 8, 9, 10, 11, 12, 13, 14] rfl rfl (by decide)) hl.1 rfl (Nat.le_of_ble_eq_true rfl) dX7_save_15 (fun v_ w_ H locs hq_ hP hD hS => ?_)
  obtain ⟨rfl, rfl⟩ := hq_
  refine zn_st (st2 := []) rfl ?_
  have hP := zk_Pp hP (zk_pi (ws' := zm_W s0 h (va_up f 9 (0)) (va_up a 2 (zp_cp (a 0) (a 2) 0 0 72))) 15 [2, 0, 3, 1, 4, 5, 6, 7, 8, 9, 10, 11, 12, 13, 14] rfl rfl (by decide))
  have hD := zk_Dp hD (zk_pi (ws' := zm_W s0 h (va_up f 9 (0)) (va_up a 2 (zp_cp (a 0) (a 2) 0 0 72))) 15 [2, 0, 3, 1, 4, 5, 6, 7, 8, 9, 10, 11, 12, 13, 14] rfl rfl (by decide))
  refine lv_aload_n hx hb dX7_save_18 rfl (lv_at hl 0 rfl) ?_
  refine lv_iconst (v := nI (1)) hx hb dX7_save_19 rfl ?_
  refine zm_putb fx 13 (by decide) q2254 (v := 1) (by decide) hP hD hS dX7_save_20 (fun H locs hP hD hS => ?_)
  have hP : va_P (zk_D s0) zk_Cl (zm_W s0 h (va_up (va_up f 9 (0)) 13 (1)) (va_up a 2 (zp_cp (a 0) (a 2) 0 0 72))) H := hP
  refine lv_aload_n hx hb dX7_save_23 rfl (lv_at hl 0 rfl) ?_
  refine zm_get (f := (va_up (va_up f 9 (0)) 13 (1))) fx 0 (by decide) q2241 (v := .ref (h 1)) rfl hP dX7_save_24 ?_
  refine lv_iconst (v := nI (0)) hx hb dX7_save_27 rfl ?_
  refine zn_ald hx hb hK hP 1 (g := a 0) rfl (i := 0) (by omega) (by decide) dX7_save_28 ?_
  exact zk_reti (v := nI ((a 0) 0)) fx eQ rfl (rfl) hP hD hS (Nat.le_of_ble_eq_true rfl) (Nat.le_of_ble_eq_true rfl) dX7_save_29 (⟨rfl, rfl⟩)
set_option maxHeartbeats 4000000 in
set_option maxRecDepth 100000 in
theorem cm_undo (l : Launch) (s0 : State) (b : Nat) (h f : Nat → Nat) (a : Nat → Nat → Nat) (hd0 : f 10 ≤ 8) : zk_C l s0 b yX7_undo (ws_ yX7_undo cX7_undo 1 (some .int)) 1 24 0 0 [.ref (h 0)] (zm_W s0 h f a) (fun r w => if f 10 = 0 then r = some (.int (nI 0)) ∧ w = zm_W s0 h (va_up f 9 1) a else r = some (.int (nI (f 10 - 1))) ∧ w = zm_W s0 h (va_up (va_up f 9 0) 10 (f 10 - 1)) (va_up a 0 (zp_cp (a 3) (a 0) (72 * (f 10 - 1)) 0 72))) := by
  refine zk_mk (by decide) rfl ?_
  intro p e s m below meth c A R args Q fx hR eQ hP hD hS ls hl
  have hx := fx.1
  have hb := fx.2.1
  have hK := fx.2.2.2.2.2.2.2.2.1.K
  have hl : lv_has ls 1 [(0, .ref (h 0))] := hl
  refine lv_aload_n hx hb dX7_undo_0 rfl (lv_at hl 0 rfl) ?_
  refine lv_aload_n hx hb dX7_undo_1 rfl (lv_at hl 0 rfl) ?_
  refine zm_get (f := f) fx 10 (by decide) q2251 (v := .int (nI (f 10))) rfl hP dX7_undo_2 ?_
  refine zn_if_le (tgt := 12) hx hb dX7_undo_5 (by decide) (by omega) (fun c_5 => ?_) (fun c_5 => ?_)
  · refine lv_iconst (v := nI (0)) hx hb dX7_undo_12 rfl ?_
    refine zk_callV0 fx (cm_checked l s0 b h f a false) (lw_V q2378 q2380 qs42 q108 q2381) ⟨rfl, by decide, by decide, (show (parseMethodDescriptor yX7_checked.desc).map (fun d => d.parameters.length) = some 1 by decide +kernel)⟩ ⟨zk_le hR.1 rfl, zk_le hR.2.1 rfl⟩ ⟨zk_le hR.2.2.1 rfl, zk_le hR.2.2.2 rfl⟩ hP hD hS 0 rfl rfl 0 rfl hl.1 rfl (Nat.le_of_ble_eq_true rfl) dX7_undo_13 (fun v_ w_ H locs hq_ hP hD hS => ?_)
    obtain ⟨rfl, rfl⟩ := hq_
    refine zn_st (st2 := [.int (nI (1))]) rfl ?_
    refine zn_if_le (tgt := 21) hx hb dX7_undo_16 (by decide) (by decide) (fun z_ => absurd z_ (by decide)) (fun _ => ?_)
    refine lv_iconst (v := nI (0)) hx hb dX7_undo_19 rfl ?_
    exact zk_reti (v := nI (0)) fx eQ rfl (rfl) hP hD hS (Nat.le_of_ble_eq_true rfl) (Nat.le_of_ble_eq_true rfl) dX7_undo_20 ((by rw [if_pos c_5]; exact ⟨rfl, rfl⟩))
  · refine lv_iconst (v := nI (1)) hx hb dX7_undo_8 rfl ?_
    refine lv_goto (tgt := 13) hx hb dX7_undo_9 (by decide) ?_
    refine zk_callV0 fx (cm_checked l s0 b h f a true) (lw_V q2378 q2380 qs42 q108 q2381) ⟨rfl, by decide, by decide, (show (parseMethodDescriptor yX7_checked.desc).map (fun d => d.parameters.length) = some 1 by decide +kernel)⟩ ⟨zk_le hR.1 rfl, zk_le hR.2.1 rfl⟩ ⟨zk_le hR.2.2.1 rfl, zk_le hR.2.2.2 rfl⟩ hP hD hS 0 rfl rfl 0 rfl hl.1 rfl (Nat.le_of_ble_eq_true rfl) dX7_undo_13 (fun v_ w_ H locs hq_ hP hD hS => ?_)
    obtain ⟨rfl, rfl⟩ := hq_
    refine zn_st (st2 := [.int (nI (0))]) rfl ?_
    refine zn_if_le (tgt := 21) hx hb dX7_undo_16 (by decide) (by decide) (fun _ => ?_) (fun z_ => absurd z_ (by decide))
    refine lv_aload_n hx hb dX7_undo_21 rfl (lv_at hl 0 rfl) ?_
    refine lv_dup hx hb dX7_undo_22 rfl ?_
    refine zm_get (f := (va_up f 9 (Bool.toNat (!true)))) fx 10 (by decide) q2251 (v := .int (nI (f 10))) rfl hP dX7_undo_23 ?_
    refine lv_iconst (v := nI (1)) hx hb dX7_undo_26 rfl ?_
    refine zn_isub hx hb dX7_undo_27 (by omega) ?_
    refine zm_put fx 10 (by decide) q2251 (v := (f 10) - 1) hP hD hS dX7_undo_28 (fun H locs hP hD hS => ?_)
    have hP : va_P (zk_D s0) zk_Cl (zm_W s0 h (va_up (va_up f 9 (Bool.toNat (!true))) 10 ((f 10) - 1)) a) H := hP
    refine lv_aload_n hx hb dX7_undo_31 rfl (lv_at hl 0 rfl) ?_
    refine zm_get (f := (va_up (va_up f 9 (Bool.toNat (!true))) 10 ((f 10) - 1))) fx 3 (by decide) q2244 (v := .ref (h 4)) rfl hP dX7_undo_32 ?_
    refine lv_bipush (v := nI (72)) hx hb dX7_undo_35 (by decide) ?_
    refine lv_aload_n hx hb dX7_undo_37 rfl (lv_at hl 0 rfl) ?_
    refine zm_get (f := (va_up (va_up f 9 (Bool.toNat (!true))) 10 ((f 10) - 1))) fx 10 (by decide) q2251 (v := .int (nI ((f 10) - 1))) rfl hP dX7_undo_38 ?_
    refine zn_imul hx hb dX7_undo_41 ?_
    refine lv_aload_n hx hb dX7_undo_42 rfl (lv_at hl 0 rfl) ?_
    refine zm_get (f := (va_up (va_up f 9 (Bool.toNat (!true))) 10 ((f 10) - 1))) fx 0 (by decide) q2241 (v := .ref (h 1)) rfl hP dX7_undo_43 ?_
    refine lv_iconst (v := nI (0)) hx hb dX7_undo_46 rfl ?_
    refine zk_callS fx (cm_copy2 l s0 b (h 4) (h 1) 576 72 (a 3) (a 0) (72 * ((f 10) - 1)) 0 (by omega) (by decide) (by decide) (by decide)) (lw_S q2329 q2330 q108 q2331) ⟨by decide, by decide, (show (parseMethodDescriptor yX7_copy.desc).map (fun d => d.parameters.length) = some 4 by decide +kernel)⟩ ⟨zk_le hR.1 rfl, zk_le hR.2.1 rfl⟩ ⟨zk_le hR.2.2.1 rfl, zk_le hR.2.2.2 rfl⟩ hP hD hS (wc := [(h 4, zk_I s0 576 (a 3)), (h 1, zk_I s0 72 (a 0))]) (wr := [(h 0, .inr (0, zm_fs h (va_up (va_up f 9 (Bool.toNat (!true))) 10 ((f 10) - 1)))), (h 2, zk_I s0 72 (a 1)), (h 3, zk_I s0 72 (a 2)), (h 5, zk_I s0 1024 (a 4)), (h 6, zk_I s0 7 (a 5)), (h 7, zk_I s0 12 (a 6)), (h 8, zk_I s0 12 (a 7)), (h 9, zk_I s0 7 (a 8)), (h 10, zk_I s0 80 (a 9)), (h 11, zk_I s0 60 (a 10)), (h 12, zk_I s0 32 (a 11)), (h 13, zk_I s0 32 (a 12)), (h 14, zk_I s0 32 (a 13))]) (zk_pi 15 [4, 1, 0, 2, 3, 5, 6, 7, 8, 9, 10, 11, 12, 13, 14] rfl rfl (by decide)) hl.1 rfl (Nat.le_of_ble_eq_true rfl) dX7_undo_47 (fun v_ w_ H locs hq_ hP hD hS => ?_)
    obtain ⟨rfl, rfl⟩ := hq_
    refine zn_st (st2 := []) rfl ?_
    have hP := zk_Pp hP (zk_pi (ws' := zm_W s0 h (va_up (va_up f 9 (Bool.toNat (!true))) 10 ((f 10) - 1)) (va_up a 0 (zp_cp (a 3) (a 0) (72 * ((f 10) - 1)) 0 72))) 15 [2, 1, 3, 4, 0, 5, 6, 7, 8, 9, 10, 11, 12, 13, 14] rfl rfl (by decide))
    have hD := zk_Dp hD (zk_pi (ws' := zm_W s0 h (va_up (va_up f 9 (Bool.toNat (!true))) 10 ((f 10) - 1)) (va_up a 0 (zp_cp (a 3) (a 0) (72 * ((f 10) - 1)) 0 72))) 15 [2, 1, 3, 4, 0, 5, 6, 7, 8, 9, 10, 11, 12, 13, 14] rfl rfl (by decide))
    refine lv_aload_n hx hb dX7_undo_50 rfl (lv_at hl 0 rfl) ?_
    refine zm_get (f := (va_up (va_up f 9 (Bool.toNat (!true))) 10 ((f 10) - 1))) fx 10 (by decide) q2251 (v := .int (nI ((f 10) - 1))) rfl hP dX7_undo_51 ?_
    exact zk_reti (v := nI ((f 10) - 1)) fx eQ rfl (rfl) hP hD hS (Nat.le_of_ble_eq_true rfl) (Nat.le_of_ble_eq_true rfl) dX7_undo_54 ((by rw [if_neg (by omega)]; exact ⟨rfl, rfl⟩))
set_option maxHeartbeats 4000000 in
set_option maxRecDepth 100000 in
theorem cm_restore (l : Launch) (s0 : State) (b : Nat) (h f : Nat → Nat) (a : Nat → Nat → Nat) (t : Bool) (ht : f 13 = Bool.toNat t) : zk_C l s0 b yX7_restore (ws_ yX7_restore cX7_restore 1 (some .int)) 1 24 0 0 [.ref (h 0)] (zm_W s0 h f a) (fun r w => if t = false then r = some (.int (nI 0)) ∧ w = zm_W s0 h (va_up f 9 1) a else r = some (.int (nI (zp_cp (a 2) (a 0) 0 0 72 0))) ∧ w = zm_W s0 h (va_up (va_up f 9 0) 10 0) (va_up a 0 (zp_cp (a 2) (a 0) 0 0 72))) := by
  refine zk_mk (by decide) rfl ?_
  intro p e s m below meth c A R args Q fx hR eQ hP hD hS ls hl
  have hx := fx.1
  have hb := fx.2.1
  have hK := fx.2.2.2.2.2.2.2.2.1.K
  have hl : lv_has ls 1 [(0, .ref (h 0))] := hl
  refine lv_aload_n hx hb dX7_restore_0 rfl (lv_at hl 0 rfl) ?_
  refine lv_aload_n hx hb dX7_restore_1 rfl (lv_at hl 0 rfl) ?_
  refine zm_get (f := f) fx 13 (by decide) q2254 (v := .int (nI (f 13))) rfl hP dX7_restore_2 ?_
  refine zn_top (y := nI (Bool.toNat (t))) (by rw [ht]) ?_
  refine zk_callV0 fx (cm_checked l s0 b h f a t) (lw_V q2378 q2380 qs42 q108 q2381) ⟨rfl, by decide, by decide, (show (parseMethodDescriptor yX7_checked.desc).map (fun d => d.parameters.length) = some 1 by decide +kernel)⟩ ⟨zk_le hR.1 rfl, zk_le hR.2.1 rfl⟩ ⟨zk_le hR.2.2.1 rfl, zk_le hR.2.2.2 rfl⟩ hP hD hS 0 rfl rfl 0 rfl hl.1 rfl (Nat.le_of_ble_eq_true rfl) dX7_restore_5 (fun v_ w_ H locs hq_ hP hD hS => ?_)
  obtain ⟨rfl, rfl⟩ := hq_
  refine zn_st (st2 := [.int (nI (Bool.toNat (!t)))]) rfl ?_
  refine zb_if_le (tgt := 13) hx hb dX7_restore_8 (by decide) (fun c_8 => ?_) (fun c_8 => ?_)
  · refine lv_aload_n hx hb dX7_restore_13 rfl (lv_at hl 0 rfl) ?_
    refine zm_get (f := (va_up f 9 (Bool.toNat (!t)))) fx 2 (by decide) q2243 (v := .ref (h 3)) rfl hP dX7_restore_14 ?_
    refine lv_iconst (v := nI (0)) hx hb dX7_restore_17 rfl ?_
    refine lv_aload_n hx hb dX7_restore_18 rfl (lv_at hl 0 rfl) ?_
    refine zm_get (f := (va_up f 9 (Bool.toNat (!t)))) fx 0 (by decide) q2241 (v := .ref (h 1)) rfl hP dX7_restore_19 ?_
    refine lv_iconst (v := nI (0)) hx hb dX7_restore_22 rfl ?_
    refine zk_callS fx (cm_copy2 l s0 b (h 3) (h 1) 72 72 (a 2) (a 0) 0 0 (by decide) (by decide) (by decide) (by decide)) (lw_S q2329 q2330 q108 q2331) ⟨by decide, by decide, (show (parseMethodDescriptor yX7_copy.desc).map (fun d => d.parameters.length) = some 4 by decide +kernel)⟩ ⟨zk_le hR.1 rfl, zk_le hR.2.1 rfl⟩ ⟨zk_le hR.2.2.1 rfl, zk_le hR.2.2.2 rfl⟩ hP hD hS (wc := [(h 3, zk_I s0 72 (a 2)), (h 1, zk_I s0 72 (a 0))]) (wr := [(h 0, .inr (0, zm_fs h (va_up f 9 (Bool.toNat (!t))))), (h 2, zk_I s0 72 (a 1)), (h 4, zk_I s0 576 (a 3)), (h 5, zk_I s0 1024 (a 4)), (h 6, zk_I s0 7 (a 5)), (h 7, zk_I s0 12 (a 6)), (h 8, zk_I s0 12 (a 7)), (h 9, zk_I s0 7 (a 8)), (h 10, zk_I s0 80 (a 9)), (h 11, zk_I s0 60 (a 10)), (h 12, zk_I s0 32 (a 11)), (h 13, zk_I s0 32 (a 12)), (h 14, zk_I s0 32 (a 13))]) (zk_pi 15 [3, 1, 0, 2, 4, 5, 6, 7, 8, 9, 10, 11, 12, 13, 14] rfl rfl (by decide)) hl.1 rfl (Nat.le_of_ble_eq_true rfl) dX7_restore_23 (fun v_ w_ H locs hq_ hP hD hS => ?_)
    obtain ⟨rfl, rfl⟩ := hq_
    refine zn_st (st2 := []) rfl ?_
    have hP := zk_Pp hP (zk_pi (ws' := zm_W s0 h (va_up f 9 (Bool.toNat (!t))) (va_up a 0 (zp_cp (a 2) (a 0) 0 0 72))) 15 [2, 1, 3, 0, 4, 5, 6, 7, 8, 9, 10, 11, 12, 13, 14] rfl rfl (by decide))
    have hD := zk_Dp hD (zk_pi (ws' := zm_W s0 h (va_up f 9 (Bool.toNat (!t))) (va_up a 0 (zp_cp (a 2) (a 0) 0 0 72))) 15 [2, 1, 3, 0, 4, 5, 6, 7, 8, 9, 10, 11, 12, 13, 14] rfl rfl (by decide))
    refine lv_aload_n hx hb dX7_restore_26 rfl (lv_at hl 0 rfl) ?_
    refine lv_iconst (v := nI (0)) hx hb dX7_restore_27 rfl ?_
    refine zm_put fx 10 (by decide) q2251 (v := 0) hP hD hS dX7_restore_28 (fun H locs hP hD hS => ?_)
    have hP : va_P (zk_D s0) zk_Cl (zm_W s0 h (va_up (va_up f 9 (Bool.toNat (!t))) 10 (0)) (va_up a 0 (zp_cp (a 2) (a 0) 0 0 72))) H := hP
    refine lv_aload_n hx hb dX7_restore_31 rfl (lv_at hl 0 rfl) ?_
    refine zm_get (f := (va_up (va_up f 9 (Bool.toNat (!t))) 10 (0))) fx 0 (by decide) q2241 (v := .ref (h 1)) rfl hP dX7_restore_32 ?_
    refine lv_iconst (v := nI (0)) hx hb dX7_restore_35 rfl ?_
    refine zn_ald hx hb hK hP 1 (g := zp_cp (a 2) (a 0) 0 0 72) rfl (i := 0) (by omega) (by decide) dX7_restore_36 ?_
    exact zk_reti (v := nI ((zp_cp (a 2) (a 0) 0 0 72) 0)) fx eQ rfl (rfl) hP hD hS (Nat.le_of_ble_eq_true rfl) (Nat.le_of_ble_eq_true rfl) dX7_restore_37 ((by rw [if_neg (by rw [c_8]; decide)]; subst c_8; exact ⟨rfl, rfl⟩))
  · refine lv_iconst (v := nI (0)) hx hb dX7_restore_11 rfl ?_
    exact zk_reti (v := nI (0)) fx eQ rfl (rfl) hP hD hS (Nat.le_of_ble_eq_true rfl) (Nat.le_of_ble_eq_true rfl) dX7_restore_12 ((by rw [if_pos c_8]; subst c_8; exact ⟨rfl, rfl⟩))
