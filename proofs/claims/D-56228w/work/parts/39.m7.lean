/-! THE REFERENCE, part 7 (printed by prog/m7.py) -/
set_option maxRecDepth 100000
set_option maxHeartbeats 4000000 in
set_option maxRecDepth 100000 in
theorem cm_lay (l : Launch) (s0 : State) (b : Nat) (h f : Nat → Nat) (a : Nat → Nat → Nat) (ok : zp_Ok (a 0)) : zk_C l s0 b yX7_lay (ws_ yX7_lay cX7_lay 5 none) 3 67 0 0 [.ref (h 0)] (zm_W s0 h f a) (fun r w => r = none ∧ ∃ F : Nat → Nat, w = zm_W s0 h f (va_up a 4 F) ∧ zp_Lay (a 0) F (2 ^ (a 0 0))) := by
  refine zk_mk (by decide) rfl ?_
  intro p e s m below meth c A R args Q fx hR eQ hP hD hS ls hl
  have hx := fx.1
  have hb := fx.2.1
  have hK := fx.2.2.2.2.2.2.2.2.1.K
  have hl : lv_has ls 5 [(0, .ref (h 0))] := hl
  obtain ⟨ok0, ok1, ok2, ok3, ok4, ok5, ok6, okw, oke, okp⟩ := id ok
  have hp2 : 2 ^ (a 0 0) ≤ 2 ^ 7 := Nat.pow_le_pow_right (by decide) ok0
  have hp0 : 0 < 2 ^ (a 0 0) := Nat.two_pow_pos _
  have hc : ∀ e, e < a 0 0 → zp_col (a 0) e < 10 := fun e he => (oke e he).1
  refine lv_iconst (v := nI (0)) hx hb dX7_lay_0 rfl ?_
  refine lv_istore_n (lv' := [(1, .int (nI (0))), (0, .ref (h 0))]) hx hb dX7_lay_1 rfl hl (by decide) rfl (fun ls hl => ?_)
  have hP : va_P (zk_D s0) zk_Cl (zm_W s0 h f (va_up a 4 (a 4))) s.heap := hP
  have hD : va_D A (zm_W s0 h f (va_up a 4 (a 4))) := hD
  have lp_2 : ∀ (n_ : Nat) (S_ : Nat) (F_ : Nat → Nat), (2 ^ (a 0 0) - S_) < n_ → (S_ ≤ 2 ^ (a 0 0)) → (zp_Lay (a 0) F_ S_) → ∀ (H : Heap) (locs : List Loc), va_P (zk_D s0) zk_Cl (zm_W s0 h f (va_up a 4 (F_))) H → va_D A (zm_W s0 h f (va_up a 4 (F_))) → va_S A s.heap H locs → ∀ ls : Array Slot, lv_has ls 5 [(1, .int (nI (S_))), (0, .ref (h 0))] → W p l e R s m args below meth c H locs 0 0 Q (F0 m 2 ls []) := by
    intro n_
    induction n_ with
    | zero => intro S_ F_ hn_; exact absurd hn_ (Nat.not_lt_zero _)
    | succ n_ ih_2 =>
      intro S_ F_ hn_ hS_ hF H locs hP hD hS ls hl
      refine lv_iload_n hx hb dX7_lay_2 rfl (lv_at hl 0 rfl) ?_
      refine lv_iconst (v := nI (1)) hx hb dX7_lay_3 rfl ?_
      refine lv_aload_n hx hb dX7_lay_4 rfl (lv_at hl 1 rfl) ?_
      refine zm_get (f := f) fx 0 (by decide) q2241 (v := .ref (h 1)) rfl hP dX7_lay_5 ?_
      refine lv_iconst (v := nI (0)) hx hb dX7_lay_8 rfl ?_
      refine zn_ald hx hb hK hP 1 (g := a 0) rfl (i := 0) (by omega) (by decide) dX7_lay_9 ?_
      refine zn_ishl hx hb dX7_lay_10 (by omega) (by omega) ?_
      refine zn_icmp_ge (tgt := 124) hx hb dX7_lay_11 (by decide) (by omega) (by omega) (fun c_11 => ?_) (fun c_11 => ?_)
      · exact zk_retv fx eQ rfl hP hD hS (Nat.le_of_ble_eq_true rfl) (Nat.le_of_ble_eq_true rfl) dX7_lay_124 (⟨rfl, F_, rfl, by rw [show 2 ^ (a 0 0) = S_ by omega]; exact hF⟩)
      · refine lv_iconst (v := nI (0)) hx hb dX7_lay_14 rfl ?_
        refine lv_istore_n (lv' := [(2, .int (nI (0))), (1, .int (nI (S_))), (0, .ref (h 0))]) hx hb dX7_lay_15 rfl hl (by decide) rfl (fun ls hl => ?_)
        have lp_16 : ∀ (n_ : Nat) (t_ : Nat) (G_ : Nat → Nat), (8 - t_) < n_ → (t_ ≤ 8) → (zp_Lay (a 0) G_ S_) → (zp_Row (a 0) G_ S_ t_) → ∀ (H : Heap) (locs : List Loc), va_P (zk_D s0) zk_Cl (zm_W s0 h f (va_up a 4 (G_))) H → va_D A (zm_W s0 h f (va_up a 4 (G_))) → va_S A s.heap H locs → ∀ ls : Array Slot, lv_has ls 5 [(2, .int (nI (t_))), (1, .int (nI (S_))), (0, .ref (h 0))] → W p l e R s m args below meth c H locs 0 0 Q (F0 m 16 ls []) := by
          intro n_
          induction n_ with
          | zero => intro t_ G_ hn_; exact absurd hn_ (Nat.not_lt_zero _)
          | succ n_ ih_16 =>
            intro t_ G_ hn_ ht8 hG hR0 H locs hP hD hS ls hl
            refine lv_iload_n hx hb dX7_lay_16 rfl (lv_at hl 0 rfl) ?_
            refine lv_bipush (v := nI (7)) hx hb dX7_lay_17 (by decide) ?_
            refine zn_icmp_gt (tgt := 118) hx hb dX7_lay_19 (by decide) (by omega) (by omega) (fun c_19 => ?_) (fun c_19 => ?_)
            · refine lv_iinc (v := nI (S_ + 1)) (lv' := [(1, .int (nI (S_ + 1))), (2, .int (nI (t_))), (0, .ref (h 0))]) hx hb dX7_lay_118 hl (k := 1) rfl (nI_add S_ 1) (by decide) rfl (fun ls hl => ?_)
              refine lv_goto (tgt := 2) hx hb dX7_lay_121 (by decide) ?_
              exact ih_2 (S_ + 1) G_ (by omega) (by omega) (zp_Lay_next hG (by rw [show 8 = t_ by omega]; exact hR0) ok0) _ _ hP hD hS ls (lv_sub hl [0, 2] rfl)
            · have jn_41 : (t_ = 7 ∨ t_ < a 0 0) → ∀ (H : Heap) (locs : List Loc), va_P (zk_D s0) zk_Cl (zm_W s0 h f (va_up a 4 (G_))) H → va_D A (zm_W s0 h f (va_up a 4 (G_))) → va_S A s.heap H locs → ∀ ls : Array Slot, lv_has ls 5 [(2, .int (nI (t_))), (1, .int (nI (S_))), (0, .ref (h 0))] → W p l e R s m args below meth c H locs 0 0 Q (F0 m 41 ls []) := by
                intro  hv H locs hP hD hS ls hl
                refine lv_iload_n hx hb dX7_lay_41 rfl (lv_at hl 1 rfl) ?_
                refine zn_if_ne (tgt := 49) hx hb dX7_lay_42 (by decide) (by omega) (fun c_42 => ?_) (fun c_42 => ?_)
                · refine lv_ldc (v := nI (1000000)) hx hb fx.2.2.2.1 (fx.2.2.2.2.1 _ q2492) dX7_lay_49 ?_
                  refine zn_top (y := nI (zp_mn (zp_g (a 0) t_ S_) S_ 0)) (by rw [zp_mn, if_neg c_42]) ?_
                  refine lv_istore_n (lv' := [(3, .int (nI (zp_mn (zp_g (a 0) t_ S_) S_ 0))), (2, .int (nI (t_))), (1, .int (nI (S_))), (0, .ref (h 0))]) hx hb dX7_lay_51 rfl hl (by decide) rfl (fun ls hl => ?_)
                  refine lv_iconst (v := nI (0)) hx hb dX7_lay_52 rfl ?_
                  refine lv_istore (lv' := [(4, .int (nI (0))), (3, .int (nI (zp_mn (zp_g (a 0) t_ S_) S_ 0))), (2, .int (nI (t_))), (1, .int (nI (S_))), (0, .ref (h 0))]) hx hb dX7_lay_53 hl (by decide) rfl (fun ls hl => ?_)
                  have lp_55 : ∀ (n_ : Nat) (k_ : Nat), (a 0 0 - k_) < n_ → (k_ ≤ a 0 0) → ∀ (H : Heap) (locs : List Loc), va_P (zk_D s0) zk_Cl (zm_W s0 h f (va_up a 4 (G_))) H → va_D A (zm_W s0 h f (va_up a 4 (G_))) → va_S A s.heap H locs → ∀ ls : Array Slot, lv_has ls 5 [(4, .int (nI (k_))), (3, .int (nI (zp_mn (zp_g (a 0) t_ S_) S_ k_))), (2, .int (nI (t_))), (1, .int (nI (S_))), (0, .ref (h 0))] → W p l e R s m args below meth c H locs 0 0 Q (F0 m 55 ls []) := by
                    intro n_
                    induction n_ with
                    | zero => intro k_ hn_; exact absurd hn_ (Nat.not_lt_zero _)
                    | succ n_ ih_55 =>
                      intro k_ hn_ hk H locs hP hD hS ls hl
                      have hbig := zp_mn_big (g := zp_g (a 0) t_ S_) (mask := S_) k_
                      refine lv_iload hx hb dX7_lay_55 (lv_at hl 0 rfl) ?_
                      refine lv_aload_n hx hb dX7_lay_57 rfl (lv_at hl 4 rfl) ?_
                      refine zm_get (f := f) fx 0 (by decide) q2241 (v := .ref (h 1)) rfl hP dX7_lay_58 ?_
                      refine lv_iconst (v := nI (0)) hx hb dX7_lay_61 rfl ?_
                      refine zn_ald hx hb hK hP 1 (g := a 0) rfl (i := 0) (by omega) (by decide) dX7_lay_62 ?_
                      refine zn_icmp_ge (tgt := 99) hx hb dX7_lay_63 (by decide) (by omega) (by omega) (fun c_63 => ?_) (fun c_63 => ?_)
                      · refine lv_aload_n hx hb dX7_lay_99 rfl (lv_at hl 4 rfl) ?_
                        refine zm_get (f := f) fx 4 (by decide) q2245 (v := .ref (h 5)) rfl hP dX7_lay_100 ?_
                        refine lv_sipush (v := nI (128)) hx hb dX7_lay_103 (by decide) ?_
                        refine lv_iload_n hx hb dX7_lay_106 rfl (lv_at hl 2 rfl) ?_
                        refine zn_imul hx hb dX7_lay_107 ?_
                        refine lv_iload_n hx hb dX7_lay_108 rfl (lv_at hl 3 rfl) ?_
                        refine zn_iadd hx hb dX7_lay_109 ?_
                        refine lv_iload_n hx hb dX7_lay_110 rfl (lv_at hl 1 rfl) ?_
                        refine zn_ast hx hb hK hP hD hS 5 (n := 1024) rfl (i := (128 * t_) + S_) (x := zp_mn (zp_g (a 0) t_ S_) S_ k_) (by omega) (by decide) dX7_lay_111 (zm_seta 4 (by decide) 1024 rfl (va_up G_ ((128 * t_) + S_) (zp_mn (zp_g (a 0) t_ S_) S_ k_))) (fun H locs hP hD hS => ?_)
                        obtain ⟨G1, eG1⟩ : ∃ z_, z_ = va_up G_ ((128 * t_) + S_) (zp_mn (zp_g (a 0) t_ S_) S_ k_) := ⟨_, rfl⟩
                        rw [← eG1] at hP hD
                        refine lv_iinc (v := nI (t_ + 1)) (lv' := [(2, .int (nI (t_ + 1))), (4, .int (nI (k_))), (3, .int (nI (zp_mn (zp_g (a 0) t_ S_) S_ k_))), (1, .int (nI (S_))), (0, .ref (h 0))]) hx hb dX7_lay_112 hl (k := 2) rfl (nI_add t_ 1) (by decide) rfl (fun ls hl => ?_)
                        refine lv_goto (tgt := 16) hx hb dX7_lay_115 (by decide) ?_
                        exact ih_16 (t_ + 1) G1 (by omega) (by omega) (by rw [eG1]; exact zp_Lay_put hG (by omega)) (by rw [eG1]; exact zp_Row_put hR0 (by omega) (by rw [show k_ = a 0 0 by omega]; exact (zp_O_eq ok0 (by omega) _).symm)) _ _ hP hD hS ls (lv_sub hl [0, 3, 4] rfl)
                      · refine lv_iload_n hx hb dX7_lay_66 rfl (lv_at hl 3 rfl) ?_
                        refine lv_iload hx hb dX7_lay_67 (lv_at hl 0 rfl) ?_
                        refine zn_ishr hx hb dX7_lay_69 (by omega) (by omega) ?_
                        refine lv_iconst (v := nI (1)) hx hb dX7_lay_70 rfl ?_
                        refine zn_iand hx hb dX7_lay_71 (Nat.lt_of_le_of_lt (Nat.div_le_self _ _) (by omega)) (by decide) ?_
                        refine lv_iconst (v := nI (1)) hx hb dX7_lay_72 rfl ?_
                        refine zn_icmp_ne (tgt := 91) hx hb dX7_lay_73 (by decide) (Nat.lt_of_le_of_lt Nat.and_le_right (by decide)) (by decide) (fun c_73 => ?_) (fun c_73 => ?_)
                        · refine lv_iload_n hx hb dX7_lay_91 rfl (lv_at hl 1 rfl) ?_
                          refine zn_top (y := nI (zp_mn (zp_g (a 0) t_ S_) S_ (k_ + 1))) (by rw [zp_mn, if_neg (fun z => c_73 ((zp_b1 S_ (by omega) k_ (by omega)).mpr z))]) ?_
                          refine lv_istore_n (lv' := [(3, .int (nI (zp_mn (zp_g (a 0) t_ S_) S_ (k_ + 1)))), (4, .int (nI (k_))), (2, .int (nI (t_))), (1, .int (nI (S_))), (0, .ref (h 0))]) hx hb dX7_lay_92 rfl hl (by decide) rfl (fun ls hl => ?_)
                          refine lv_iinc (v := nI (k_ + 1)) (lv' := [(4, .int (nI (k_ + 1))), (3, .int (nI (zp_mn (zp_g (a 0) t_ S_) S_ (k_ + 1)))), (2, .int (nI (t_))), (1, .int (nI (S_))), (0, .ref (h 0))]) hx hb dX7_lay_93 hl (k := 1) rfl (nI_add k_ 1) (by decide) rfl (fun ls hl => ?_)
                          refine lv_goto (tgt := 55) hx hb dX7_lay_96 (by decide) ?_
                          exact ih_55 (k_ + 1) (by omega) (by omega) _ _ hP hD hS ls (lv_sub hl [0, 1, 2, 3, 4] rfl)
                        · have hb9 : S_.testBit k_ = true := (zp_b1 S_ (by omega) k_ (by omega)).mp c_73
                          have hbs := zp_bs S_ (by omega) k_ (by omega) hb9
                          have hp9 : 0 < 2 ^ k_ := Nat.two_pow_pos _
                          refine lv_iload_n hx hb dX7_lay_76 rfl (lv_at hl 1 rfl) ?_
                          refine lv_aload_n hx hb dX7_lay_77 rfl (lv_at hl 4 rfl) ?_
                          refine lv_iload_n hx hb dX7_lay_78 rfl (lv_at hl 3 rfl) ?_
                          refine lv_iload_n hx hb dX7_lay_79 rfl (lv_at hl 2 rfl) ?_
                          refine lv_iload hx hb dX7_lay_80 (lv_at hl 0 rfl) ?_
                          refine zk_callV0 fx (cm_with l s0 b h f (va_up a 4 (G_)) S_ t_ k_ (by omega) (hb9) (hv) (show k_ < a 0 0 by omega) (ok)) (lw_V q2493 q2495 qs58 q108 q2496) ⟨rfl, by decide, by decide, (show (parseMethodDescriptor yX7_with.desc).map (fun d => d.parameters.length) = some 3 by decide +kernel)⟩ ⟨zk_le hR.1 rfl, zk_le hR.2.1 rfl⟩ ⟨zk_le hR.2.2.1 rfl, zk_le hR.2.2.2 rfl⟩ hP hD hS 0 rfl rfl 0 rfl hl.1 rfl (Nat.le_of_ble_eq_true rfl) dX7_lay_82 (fun v_ w_ H locs hq_ hP hD hS => ?_)
                          obtain ⟨rfl, rfl⟩ := hq_
                          refine zn_st (st2 := [.int (nI (zp_change (if t_ = 7 then (a 0) 4 else zp_col (a 0) t_) (zp_col (a 0) k_) + G_ (128 * k_ + (S_ - 2 ^ k_)))), .int (nI (zp_mn (zp_g (a 0) t_ S_) S_ k_))]) rfl ?_
                          refine zn_top (y := nI (zp_g (a 0) t_ S_ k_)) (by rw [zp_Lay_col hG (by omega) ok0 (by omega)]; rfl) ?_
                          have hgl := zp_g_le ok0 ok4 hc hv (show k_ < a 0 0 by omega) (show S_ < 2 ^ (a 0 0) by omega)
                          refine zk_callSn fx (cm_less l s0 b (zp_mn (zp_g (a 0) t_ S_) S_ k_) (zp_g (a 0) t_ S_ k_) (by omega) (by omega)) (lw_S q2462 q2463 q108 q2464) ⟨by decide, by decide, (show (parseMethodDescriptor yX7_less.desc).map (fun d => d.parameters.length) = some 2 by decide +kernel)⟩ ⟨zk_le hR.1 rfl, zk_le hR.2.1 rfl⟩ ⟨zk_le hR.2.2.1 rfl, zk_le hR.2.2.2 rfl⟩ hP hD hS hl.1 rfl (Nat.le_of_ble_eq_true rfl) dX7_lay_85 (fun v_ H locs hq_ hP hD hS => ?_)
                          obtain rfl := hq_
                          refine zn_st (st2 := [.int (nI (min (zp_mn (zp_g (a 0) t_ S_) S_ k_) (zp_g (a 0) t_ S_ k_)))]) rfl ?_
                          refine lv_goto (tgt := 92) hx hb dX7_lay_88 (by decide) ?_
                          refine zn_top (y := nI (zp_mn (zp_g (a 0) t_ S_) S_ (k_ + 1))) (by rw [zp_mn, if_pos hb9]) ?_
                          refine lv_istore_n (lv' := [(3, .int (nI (zp_mn (zp_g (a 0) t_ S_) S_ (k_ + 1)))), (4, .int (nI (k_))), (2, .int (nI (t_))), (1, .int (nI (S_))), (0, .ref (h 0))]) hx hb dX7_lay_92 rfl hl (by decide) rfl (fun ls hl => ?_)
                          refine lv_iinc (v := nI (k_ + 1)) (lv' := [(4, .int (nI (k_ + 1))), (3, .int (nI (zp_mn (zp_g (a 0) t_ S_) S_ (k_ + 1)))), (2, .int (nI (t_))), (1, .int (nI (S_))), (0, .ref (h 0))]) hx hb dX7_lay_93 hl (k := 1) rfl (nI_add k_ 1) (by decide) rfl (fun ls hl => ?_)
                          refine lv_goto (tgt := 55) hx hb dX7_lay_96 (by decide) ?_
                          exact ih_55 (k_ + 1) (by omega) (by omega) _ _ hP hD hS ls (lv_sub hl [0, 1, 2, 3, 4] rfl)
                  exact lp_55 _ 0 (Nat.lt_succ_self _) (by omega) _ _ hP hD hS ls (lv_sub hl [0, 1, 2, 3, 4] rfl)
                · refine lv_iconst (v := nI (0)) hx hb dX7_lay_45 rfl ?_
                  refine lv_goto (tgt := 51) hx hb dX7_lay_46 (by decide) ?_
                  refine zn_top (y := nI (zp_mn (zp_g (a 0) t_ S_) S_ 0)) (by rw [zp_mn, if_pos c_42]) ?_
                  refine lv_istore_n (lv' := [(3, .int (nI (zp_mn (zp_g (a 0) t_ S_) S_ 0))), (2, .int (nI (t_))), (1, .int (nI (S_))), (0, .ref (h 0))]) hx hb dX7_lay_51 rfl hl (by decide) rfl (fun ls hl => ?_)
                  refine lv_iconst (v := nI (0)) hx hb dX7_lay_52 rfl ?_
                  refine lv_istore (lv' := [(4, .int (nI (0))), (3, .int (nI (zp_mn (zp_g (a 0) t_ S_) S_ 0))), (2, .int (nI (t_))), (1, .int (nI (S_))), (0, .ref (h 0))]) hx hb dX7_lay_53 hl (by decide) rfl (fun ls hl => ?_)
                  have lp_55 : ∀ (n_ : Nat) (k_ : Nat), (a 0 0 - k_) < n_ → (k_ ≤ a 0 0) → ∀ (H : Heap) (locs : List Loc), va_P (zk_D s0) zk_Cl (zm_W s0 h f (va_up a 4 (G_))) H → va_D A (zm_W s0 h f (va_up a 4 (G_))) → va_S A s.heap H locs → ∀ ls : Array Slot, lv_has ls 5 [(4, .int (nI (k_))), (3, .int (nI (zp_mn (zp_g (a 0) t_ S_) S_ k_))), (2, .int (nI (t_))), (1, .int (nI (S_))), (0, .ref (h 0))] → W p l e R s m args below meth c H locs 0 0 Q (F0 m 55 ls []) := by
                    intro n_
                    induction n_ with
                    | zero => intro k_ hn_; exact absurd hn_ (Nat.not_lt_zero _)
                    | succ n_ ih_55 =>
                      intro k_ hn_ hk H locs hP hD hS ls hl
                      have hbig := zp_mn_big (g := zp_g (a 0) t_ S_) (mask := S_) k_
                      refine lv_iload hx hb dX7_lay_55 (lv_at hl 0 rfl) ?_
                      refine lv_aload_n hx hb dX7_lay_57 rfl (lv_at hl 4 rfl) ?_
                      refine zm_get (f := f) fx 0 (by decide) q2241 (v := .ref (h 1)) rfl hP dX7_lay_58 ?_
                      refine lv_iconst (v := nI (0)) hx hb dX7_lay_61 rfl ?_
                      refine zn_ald hx hb hK hP 1 (g := a 0) rfl (i := 0) (by omega) (by decide) dX7_lay_62 ?_
                      refine zn_icmp_ge (tgt := 99) hx hb dX7_lay_63 (by decide) (by omega) (by omega) (fun c_63 => ?_) (fun c_63 => ?_)
                      · refine lv_aload_n hx hb dX7_lay_99 rfl (lv_at hl 4 rfl) ?_
                        refine zm_get (f := f) fx 4 (by decide) q2245 (v := .ref (h 5)) rfl hP dX7_lay_100 ?_
                        refine lv_sipush (v := nI (128)) hx hb dX7_lay_103 (by decide) ?_
                        refine lv_iload_n hx hb dX7_lay_106 rfl (lv_at hl 2 rfl) ?_
                        refine zn_imul hx hb dX7_lay_107 ?_
                        refine lv_iload_n hx hb dX7_lay_108 rfl (lv_at hl 3 rfl) ?_
                        refine zn_iadd hx hb dX7_lay_109 ?_
                        refine lv_iload_n hx hb dX7_lay_110 rfl (lv_at hl 1 rfl) ?_
                        refine zn_ast hx hb hK hP hD hS 5 (n := 1024) rfl (i := (128 * t_) + S_) (x := zp_mn (zp_g (a 0) t_ S_) S_ k_) (by omega) (by decide) dX7_lay_111 (zm_seta 4 (by decide) 1024 rfl (va_up G_ ((128 * t_) + S_) (zp_mn (zp_g (a 0) t_ S_) S_ k_))) (fun H locs hP hD hS => ?_)
                        obtain ⟨G1, eG1⟩ : ∃ z_, z_ = va_up G_ ((128 * t_) + S_) (zp_mn (zp_g (a 0) t_ S_) S_ k_) := ⟨_, rfl⟩
                        rw [← eG1] at hP hD
                        refine lv_iinc (v := nI (t_ + 1)) (lv' := [(2, .int (nI (t_ + 1))), (4, .int (nI (k_))), (3, .int (nI (zp_mn (zp_g (a 0) t_ S_) S_ k_))), (1, .int (nI (S_))), (0, .ref (h 0))]) hx hb dX7_lay_112 hl (k := 2) rfl (nI_add t_ 1) (by decide) rfl (fun ls hl => ?_)
                        refine lv_goto (tgt := 16) hx hb dX7_lay_115 (by decide) ?_
                        exact ih_16 (t_ + 1) G1 (by omega) (by omega) (by rw [eG1]; exact zp_Lay_put hG (by omega)) (by rw [eG1]; exact zp_Row_put hR0 (by omega) (by rw [show k_ = a 0 0 by omega]; exact (zp_O_eq ok0 (by omega) _).symm)) _ _ hP hD hS ls (lv_sub hl [0, 3, 4] rfl)
                      · refine lv_iload_n hx hb dX7_lay_66 rfl (lv_at hl 3 rfl) ?_
                        refine lv_iload hx hb dX7_lay_67 (lv_at hl 0 rfl) ?_
                        refine zn_ishr hx hb dX7_lay_69 (by omega) (by omega) ?_
                        refine lv_iconst (v := nI (1)) hx hb dX7_lay_70 rfl ?_
                        refine zn_iand hx hb dX7_lay_71 (Nat.lt_of_le_of_lt (Nat.div_le_self _ _) (by omega)) (by decide) ?_
                        refine lv_iconst (v := nI (1)) hx hb dX7_lay_72 rfl ?_
                        refine zn_icmp_ne (tgt := 91) hx hb dX7_lay_73 (by decide) (Nat.lt_of_le_of_lt Nat.and_le_right (by decide)) (by decide) (fun c_73 => ?_) (fun c_73 => ?_)
                        · refine lv_iload_n hx hb dX7_lay_91 rfl (lv_at hl 1 rfl) ?_
                          refine zn_top (y := nI (zp_mn (zp_g (a 0) t_ S_) S_ (k_ + 1))) (by rw [zp_mn, if_neg (fun z => c_73 ((zp_b1 S_ (by omega) k_ (by omega)).mpr z))]) ?_
                          refine lv_istore_n (lv' := [(3, .int (nI (zp_mn (zp_g (a 0) t_ S_) S_ (k_ + 1)))), (4, .int (nI (k_))), (2, .int (nI (t_))), (1, .int (nI (S_))), (0, .ref (h 0))]) hx hb dX7_lay_92 rfl hl (by decide) rfl (fun ls hl => ?_)
                          refine lv_iinc (v := nI (k_ + 1)) (lv' := [(4, .int (nI (k_ + 1))), (3, .int (nI (zp_mn (zp_g (a 0) t_ S_) S_ (k_ + 1)))), (2, .int (nI (t_))), (1, .int (nI (S_))), (0, .ref (h 0))]) hx hb dX7_lay_93 hl (k := 1) rfl (nI_add k_ 1) (by decide) rfl (fun ls hl => ?_)
                          refine lv_goto (tgt := 55) hx hb dX7_lay_96 (by decide) ?_
                          exact ih_55 (k_ + 1) (by omega) (by omega) _ _ hP hD hS ls (lv_sub hl [0, 1, 2, 3, 4] rfl)
                        · have hb9 : S_.testBit k_ = true := (zp_b1 S_ (by omega) k_ (by omega)).mp c_73
                          have hbs := zp_bs S_ (by omega) k_ (by omega) hb9
                          have hp9 : 0 < 2 ^ k_ := Nat.two_pow_pos _
                          refine lv_iload_n hx hb dX7_lay_76 rfl (lv_at hl 1 rfl) ?_
                          refine lv_aload_n hx hb dX7_lay_77 rfl (lv_at hl 4 rfl) ?_
                          refine lv_iload_n hx hb dX7_lay_78 rfl (lv_at hl 3 rfl) ?_
                          refine lv_iload_n hx hb dX7_lay_79 rfl (lv_at hl 2 rfl) ?_
                          refine lv_iload hx hb dX7_lay_80 (lv_at hl 0 rfl) ?_
                          refine zk_callV0 fx (cm_with l s0 b h f (va_up a 4 (G_)) S_ t_ k_ (by omega) (hb9) (hv) (show k_ < a 0 0 by omega) (ok)) (lw_V q2493 q2495 qs58 q108 q2496) ⟨rfl, by decide, by decide, (show (parseMethodDescriptor yX7_with.desc).map (fun d => d.parameters.length) = some 3 by decide +kernel)⟩ ⟨zk_le hR.1 rfl, zk_le hR.2.1 rfl⟩ ⟨zk_le hR.2.2.1 rfl, zk_le hR.2.2.2 rfl⟩ hP hD hS 0 rfl rfl 0 rfl hl.1 rfl (Nat.le_of_ble_eq_true rfl) dX7_lay_82 (fun v_ w_ H locs hq_ hP hD hS => ?_)
                          obtain ⟨rfl, rfl⟩ := hq_
                          refine zn_st (st2 := [.int (nI (zp_change (if t_ = 7 then (a 0) 4 else zp_col (a 0) t_) (zp_col (a 0) k_) + G_ (128 * k_ + (S_ - 2 ^ k_)))), .int (nI (zp_mn (zp_g (a 0) t_ S_) S_ k_))]) rfl ?_
                          refine zn_top (y := nI (zp_g (a 0) t_ S_ k_)) (by rw [zp_Lay_col hG (by omega) ok0 (by omega)]; rfl) ?_
                          have hgl := zp_g_le ok0 ok4 hc hv (show k_ < a 0 0 by omega) (show S_ < 2 ^ (a 0 0) by omega)
                          refine zk_callSn fx (cm_less l s0 b (zp_mn (zp_g (a 0) t_ S_) S_ k_) (zp_g (a 0) t_ S_ k_) (by omega) (by omega)) (lw_S q2462 q2463 q108 q2464) ⟨by decide, by decide, (show (parseMethodDescriptor yX7_less.desc).map (fun d => d.parameters.length) = some 2 by decide +kernel)⟩ ⟨zk_le hR.1 rfl, zk_le hR.2.1 rfl⟩ ⟨zk_le hR.2.2.1 rfl, zk_le hR.2.2.2 rfl⟩ hP hD hS hl.1 rfl (Nat.le_of_ble_eq_true rfl) dX7_lay_85 (fun v_ H locs hq_ hP hD hS => ?_)
                          obtain rfl := hq_
                          refine zn_st (st2 := [.int (nI (min (zp_mn (zp_g (a 0) t_ S_) S_ k_) (zp_g (a 0) t_ S_ k_)))]) rfl ?_
                          refine lv_goto (tgt := 92) hx hb dX7_lay_88 (by decide) ?_
                          refine zn_top (y := nI (zp_mn (zp_g (a 0) t_ S_) S_ (k_ + 1))) (by rw [zp_mn, if_pos hb9]) ?_
                          refine lv_istore_n (lv' := [(3, .int (nI (zp_mn (zp_g (a 0) t_ S_) S_ (k_ + 1)))), (4, .int (nI (k_))), (2, .int (nI (t_))), (1, .int (nI (S_))), (0, .ref (h 0))]) hx hb dX7_lay_92 rfl hl (by decide) rfl (fun ls hl => ?_)
                          refine lv_iinc (v := nI (k_ + 1)) (lv' := [(4, .int (nI (k_ + 1))), (3, .int (nI (zp_mn (zp_g (a 0) t_ S_) S_ (k_ + 1)))), (2, .int (nI (t_))), (1, .int (nI (S_))), (0, .ref (h 0))]) hx hb dX7_lay_93 hl (k := 1) rfl (nI_add k_ 1) (by decide) rfl (fun ls hl => ?_)
                          refine lv_goto (tgt := 55) hx hb dX7_lay_96 (by decide) ?_
                          exact ih_55 (k_ + 1) (by omega) (by omega) _ _ hP hD hS ls (lv_sub hl [0, 1, 2, 3, 4] rfl)
                  exact lp_55 _ 0 (Nat.lt_succ_self _) (by omega) _ _ hP hD hS ls (lv_sub hl [0, 1, 2, 3, 4] rfl)
              refine lv_iload_n hx hb dX7_lay_22 rfl (lv_at hl 0 rfl) ?_
              refine lv_bipush (v := nI (7)) hx hb dX7_lay_23 (by decide) ?_
              refine zn_icmp_ge (tgt := 41) hx hb dX7_lay_25 (by decide) (by omega) (by omega) (fun c_25 => ?_) (fun c_25 => ?_)
              · exact jn_41  (Or.inl (by omega)) _ _ hP hD hS ls (lv_sub hl [0, 1, 2] rfl)
              · refine lv_iload_n hx hb dX7_lay_28 rfl (lv_at hl 0 rfl) ?_
                refine lv_aload_n hx hb dX7_lay_29 rfl (lv_at hl 2 rfl) ?_
                refine zm_get (f := f) fx 0 (by decide) q2241 (v := .ref (h 1)) rfl hP dX7_lay_30 ?_
                refine lv_iconst (v := nI (0)) hx hb dX7_lay_33 rfl ?_
                refine zn_ald hx hb hK hP 1 (g := a 0) rfl (i := 0) (by omega) (by decide) dX7_lay_34 ?_
                refine zn_icmp_lt (tgt := 41) hx hb dX7_lay_35 (by decide) (by omega) (by omega) (fun c_35 => ?_) (fun c_35 => ?_)
                · exact jn_41  (Or.inr c_35) _ _ hP hD hS ls (lv_sub hl [0, 1, 2] rfl)
                · refine lv_goto (tgt := 112) hx hb dX7_lay_38 (by decide) ?_
                  refine lv_iinc (v := nI (t_ + 1)) (lv' := [(2, .int (nI (t_ + 1))), (1, .int (nI (S_))), (0, .ref (h 0))]) hx hb dX7_lay_112 hl (k := 0) rfl (nI_add t_ 1) (by decide) rfl (fun ls hl => ?_)
                  refine lv_goto (tgt := 16) hx hb dX7_lay_115 (by decide) ?_
                  exact ih_16 (t_ + 1) G_ (by omega) (by omega) hG (zp_Row_skip hR0 (by omega) c_35) _ _ hP hD hS ls (lv_sub hl [0, 1, 2] rfl)
        exact lp_16 _ 0 F_ (Nat.lt_succ_self _) (by decide) hF (zp_Row_0 _ _ _) _ _ hP hD hS ls (lv_sub hl [0, 1, 2] rfl)
  exact lp_2 _ 0 (a 4) (Nat.lt_succ_self _) (Nat.zero_le _) (zp_Lay_0 _ _) _ _ hP hD hS ls (lv_sub hl [0, 1] rfl)
set_option maxHeartbeats 4000000 in
set_option maxRecDepth 100000 in
theorem cm_minutesOfBest (l : Launch) (s0 : State) (b : Nat) (h f : Nat → Nat) (a : Nat → Nat → Nat) (ok : zp_Ok (a 0)) : zk_C l s0 b yX7_minutesOfBest (ws_ yX7_minutesOfBest cX7_minutesOfBest 1 (some .int)) 4 91 0 0 [.ref (h 0)] (zm_W s0 h f a) (fun r w => r = some (.int (nI (zp_O (a 0) (a 0 4) (zp_om (a 0) (a 0 0))))) ∧ ∃ F : Nat → Nat, w = zm_W s0 h f (va_up a 4 F)) := by
  refine zk_mk (by decide) rfl ?_
  intro p e s m below meth c A R args Q fx hR eQ hP hD hS ls hl
  have hx := fx.1
  have hb := fx.2.1
  have hK := fx.2.2.2.2.2.2.2.2.1.K
  have hl : lv_has ls 1 [(0, .ref (h 0))] := hl
  obtain ⟨ok0, ok1, ok2, ok3, ok4, ok5, ok6, okw, oke, okp⟩ := id ok
  have hp2 : 2 ^ (a 0 0) ≤ 2 ^ 7 := Nat.pow_le_pow_right (by decide) ok0
  have hp0 : 0 < 2 ^ (a 0 0) := Nat.two_pow_pos _
  have hc : ∀ e, e < a 0 0 → zp_col (a 0) e < 10 := fun e he => (oke e he).1
  have hom := zp_om_lt (a 0) (a 0 0)
  refine lv_aload_n hx hb dX7_minutesOfBest_0 rfl (lv_at hl 0 rfl) ?_
  refine zk_callV0 fx (cm_lay l s0 b h f a ok) (lw_V q2488 q2490 qs57 q108 q2491) ⟨rfl, by decide, by decide, (show (parseMethodDescriptor yX7_lay.desc).map (fun d => d.parameters.length) = some 0 by decide +kernel)⟩ ⟨zk_le hR.1 rfl, zk_le hR.2.1 rfl⟩ ⟨zk_le hR.2.2.1 rfl, zk_le hR.2.2.2 rfl⟩ hP hD hS 0 rfl rfl 0 rfl hl.1 rfl (Nat.le_of_ble_eq_true rfl) dX7_minutesOfBest_1 (fun v_ w_ H locs hq_ hP hD hS => ?_)
  obtain ⟨rfl, F_1, rfl, hF_1⟩ := hq_
  refine zn_st (st2 := []) rfl ?_
  refine lv_aload_n hx hb dX7_minutesOfBest_4 rfl (lv_at hl 0 rfl) ?_
  refine zm_get (f := f) fx 4 (by decide) q2245 (v := .ref (h 5)) rfl hP dX7_minutesOfBest_5 ?_
  refine lv_sipush (v := nI (896)) hx hb dX7_minutesOfBest_8 (by decide) ?_
  refine lv_aload_n hx hb dX7_minutesOfBest_11 rfl (lv_at hl 0 rfl) ?_
  refine zk_callV0 fx (cm_open l s0 b h f (va_up a 4 (F_1))  (ok)) (lw_V q2501 q2503 qs60 q108 q2504) ⟨rfl, by decide, by decide, (show (parseMethodDescriptor yX7_open.desc).map (fun d => d.parameters.length) = some 0 by decide +kernel)⟩ ⟨zk_le hR.1 rfl, zk_le hR.2.1 rfl⟩ ⟨zk_le hR.2.2.1 rfl, zk_le hR.2.2.2 rfl⟩ hP hD hS 0 rfl rfl 0 rfl hl.1 rfl (Nat.le_of_ble_eq_true rfl) dX7_minutesOfBest_12 (fun v_ w_ H locs hq_ hP hD hS => ?_)
  obtain ⟨rfl, rfl⟩ := hq_
  refine zn_st (st2 := [.int (nI (zp_om (a 0) ((a 0) 0))), .int (nI (896)), .ref (h 5)]) rfl ?_
  refine zn_iadd hx hb dX7_minutesOfBest_15 ?_
  refine zn_ald hx hb hK hP 5 (g := F_1) rfl (i := 896 + (zp_om (a 0) ((a 0) 0))) (by omega) (by decide) dX7_minutesOfBest_16 ?_
  exact zk_reti (v := nI (F_1 (896 + (zp_om (a 0) ((a 0) 0))))) fx eQ rfl (rfl) hP hD hS (Nat.le_of_ble_eq_true rfl) (Nat.le_of_ble_eq_true rfl) dX7_minutesOfBest_17 (⟨zk_eqr ((hF_1 (zp_om (a 0) (a 0 0)) hom 7 (Or.inl rfl)).trans rfl), _, rfl⟩)
set_option maxHeartbeats 4000000 in
set_option maxRecDepth 100000 in
theorem cm_fewestMinutes (l : Launch) (s0 : State) (b : Nat) (h f : Nat → Nat) (a : Nat → Nat → Nat) (ok : zp_Ok (a 0)) : zk_C l s0 b yX7_fewestMinutes (ws_ yX7_fewestMinutes cX7_fewestMinutes 1 (some .int)) 5 111 0 0 [.ref (h 0)] (zm_W s0 h f a) (fun r w => zm_N s0 h f a 0 (.int (nI (zp_O (a 0) (a 0 4) (zp_om (a 0) (a 0 0))))) r w) := by
  refine zk_mk (by decide) rfl ?_
  intro p e s m below meth c A R args Q fx hR eQ hP hD hS ls hl
  have hx := fx.1
  have hb := fx.2.1
  have hK := fx.2.2.2.2.2.2.2.2.1.K
  have hl : lv_has ls 1 [(0, .ref (h 0))] := hl
  refine lv_aload_n hx hb dX7_fewestMinutes_0 rfl (lv_at hl 0 rfl) ?_
  refine lv_aload_n hx hb dX7_fewestMinutes_1 rfl (lv_at hl 0 rfl) ?_
  refine zk_callV0 fx (cm_minutesOfBest l s0 b h f a ok) (lw_V q2484 q2486 qs56 q108 q2487) ⟨rfl, by decide, by decide, (show (parseMethodDescriptor yX7_minutesOfBest.desc).map (fun d => d.parameters.length) = some 0 by decide +kernel)⟩ ⟨zk_le hR.1 rfl, zk_le hR.2.1 rfl⟩ ⟨zk_le hR.2.2.1 rfl, zk_le hR.2.2.2 rfl⟩ hP hD hS 0 rfl rfl 0 rfl hl.1 rfl (Nat.le_of_ble_eq_true rfl) dX7_fewestMinutes_2 (fun v_ w_ H locs hq_ hP hD hS => ?_)
  obtain ⟨rfl, F_1, rfl⟩ := hq_
  refine zn_st (st2 := [.int (nI (zp_O (a 0) (a 0 4) (zp_om (a 0) (a 0 0)))), .ref (h 0)]) rfl ?_
  refine zk_callV0 fx (cm_plain l s0 b h f (va_up a 4 (F_1)) (nI (zp_O (a 0) (a 0 4) (zp_om (a 0) (a 0 0))))) (lw_V q2386 q2388 qs43 q108 q2389) ⟨rfl, by decide, by decide, (show (parseMethodDescriptor yX7_plain.desc).map (fun d => d.parameters.length) = some 1 by decide +kernel)⟩ ⟨zk_le hR.1 rfl, zk_le hR.2.1 rfl⟩ ⟨zk_le hR.2.2.1 rfl, zk_le hR.2.2.2 rfl⟩ hP hD hS 0 rfl rfl 0 rfl hl.1 rfl (Nat.le_of_ble_eq_true rfl) dX7_fewestMinutes_5 (fun v_ w_ H locs hq_ hP hD hS => ?_)
  obtain ⟨rfl, rfl⟩ := hq_
  refine zn_st (st2 := [.int (nI (zp_O (a 0) (a 0 4) (zp_om (a 0) (a 0 0))))]) rfl ?_
  exact zk_reti (v := nI (zp_O (a 0) (a 0 4) (zp_om (a 0) (a 0 0)))) fx eQ rfl (rfl) hP hD hS (Nat.le_of_ble_eq_true rfl) (Nat.le_of_ble_eq_true rfl) dX7_fewestMinutes_8 (⟨rfl, _, _, rfl, ⟨rfl, rfl, rfl, rfl, rfl, rfl, rfl, rfl⟩, ⟨rfl, rfl⟩, rfl, rfl⟩)
set_option maxHeartbeats 4000000 in
set_option maxRecDepth 100000 in
theorem cm_minutesByOrders (l : Launch) (s0 : State) (b : Nat) (h f : Nat → Nat) (a : Nat → Nat → Nat) (ok : zp_Ok (a 0)) : zk_C l s0 b yX7_minutesByOrders (ws_ yX7_minutesByOrders cX7_minutesByOrders 1 (some .int)) 5 111 0 0 [.ref (h 0)] (zm_W s0 h f a) (fun r w => zm_N s0 h f a 0 (.int (nI (zp_O (a 0) (a 0 4) (zp_om (a 0) (a 0 0))))) r w) := by
  refine zk_mk (by decide) rfl ?_
  intro p e s m below meth c A R args Q fx hR eQ hP hD hS ls hl
  have hx := fx.1
  have hb := fx.2.1
  have hK := fx.2.2.2.2.2.2.2.2.1.K
  have hl : lv_has ls 1 [(0, .ref (h 0))] := hl
  refine lv_aload_n hx hb dX7_minutesByOrders_0 rfl (lv_at hl 0 rfl) ?_
  refine lv_aload_n hx hb dX7_minutesByOrders_1 rfl (lv_at hl 0 rfl) ?_
  refine zk_callV0 fx (cm_minutesOfBest l s0 b h f a ok) (lw_V q2484 q2486 qs56 q108 q2487) ⟨rfl, by decide, by decide, (show (parseMethodDescriptor yX7_minutesOfBest.desc).map (fun d => d.parameters.length) = some 0 by decide +kernel)⟩ ⟨zk_le hR.1 rfl, zk_le hR.2.1 rfl⟩ ⟨zk_le hR.2.2.1 rfl, zk_le hR.2.2.2 rfl⟩ hP hD hS 0 rfl rfl 0 rfl hl.1 rfl (Nat.le_of_ble_eq_true rfl) dX7_minutesByOrders_2 (fun v_ w_ H locs hq_ hP hD hS => ?_)
  obtain ⟨rfl, F_1, rfl⟩ := hq_
  refine zn_st (st2 := [.int (nI (zp_O (a 0) (a 0 4) (zp_om (a 0) (a 0 0)))), .ref (h 0)]) rfl ?_
  refine zk_callV0 fx (cm_plain l s0 b h f (va_up a 4 (F_1)) (nI (zp_O (a 0) (a 0 4) (zp_om (a 0) (a 0 0))))) (lw_V q2386 q2388 qs43 q108 q2389) ⟨rfl, by decide, by decide, (show (parseMethodDescriptor yX7_plain.desc).map (fun d => d.parameters.length) = some 1 by decide +kernel)⟩ ⟨zk_le hR.1 rfl, zk_le hR.2.1 rfl⟩ ⟨zk_le hR.2.2.1 rfl, zk_le hR.2.2.2 rfl⟩ hP hD hS 0 rfl rfl 0 rfl hl.1 rfl (Nat.le_of_ble_eq_true rfl) dX7_minutesByOrders_5 (fun v_ w_ H locs hq_ hP hD hS => ?_)
  obtain ⟨rfl, rfl⟩ := hq_
  refine zn_st (st2 := [.int (nI (zp_O (a 0) (a 0 4) (zp_om (a 0) (a 0 0))))]) rfl ?_
  exact zk_reti (v := nI (zp_O (a 0) (a 0 4) (zp_om (a 0) (a 0 0)))) fx eQ rfl (rfl) hP hD hS (Nat.le_of_ble_eq_true rfl) (Nat.le_of_ble_eq_true rfl) dX7_minutesByOrders_8 (⟨rfl, _, _, rfl, ⟨rfl, rfl, rfl, rfl, rfl, rfl, rfl, rfl⟩, ⟨rfl, rfl⟩, rfl, rfl⟩)
set_option maxHeartbeats 4000000 in
set_option maxRecDepth 100000 in
theorem cm_laysOrder (l : Launch) (s0 : State) (b : Nat) (h f : Nat → Nat) (a : Nat → Nat → Nat) (ok : zp_Ok (a 0)) : zk_C l s0 b yX7_laysOrder (ws_ yX7_laysOrder cX7_laysOrder 5 (some .int)) 4 91 0 0 [.ref (h 0)] (zm_W s0 h f a) (fun r w => r = some (.int (nI (zp_oc (a 0)))) ∧ ∃ F G : Nat → Nat, w = zm_W s0 h f (va_up (va_up a 4 F) 8 G) ∧ ∀ j, j < zp_oc (a 0) → G j = zp_on (a 0) j) := by
  refine zk_mk (by decide) rfl ?_
  intro p e s m below meth c A R args Q fx hR eQ hP hD hS ls hl
  have hx := fx.1
  have hb := fx.2.1
  have hK := fx.2.2.2.2.2.2.2.2.1.K
  have hl : lv_has ls 5 [(0, .ref (h 0))] := hl
  obtain ⟨ok0, ok1, ok2, ok3, ok4, ok5, ok6, okw, oke, okp⟩ := id ok
  have hp2 : 2 ^ (a 0 0) ≤ 2 ^ 7 := Nat.pow_le_pow_right (by decide) ok0
  have hp0 : 0 < 2 ^ (a 0 0) := Nat.two_pow_pos _
  have hc : ∀ e, e < a 0 0 → zp_col (a 0) e < 10 := fun e he => (oke e he).1
  have hoc := zp_oc_le ok0
  refine lv_aload_n hx hb dX7_laysOrder_0 rfl (lv_at hl 0 rfl) ?_
  refine zk_callV0 fx (cm_lay l s0 b h f a ok) (lw_V q2488 q2490 qs57 q108 q2491) ⟨rfl, by decide, by decide, (show (parseMethodDescriptor yX7_lay.desc).map (fun d => d.parameters.length) = some 0 by decide +kernel)⟩ ⟨zk_le hR.1 rfl, zk_le hR.2.1 rfl⟩ ⟨zk_le hR.2.2.1 rfl, zk_le hR.2.2.2 rfl⟩ hP hD hS 0 rfl rfl 0 rfl hl.1 rfl (Nat.le_of_ble_eq_true rfl) dX7_laysOrder_1 (fun v_ w_ H locs hq_ hP hD hS => ?_)
  obtain ⟨rfl, F_1, rfl, hF_1⟩ := hq_
  refine zn_st (st2 := []) rfl ?_
  refine lv_aload_n hx hb dX7_laysOrder_4 rfl (lv_at hl 0 rfl) ?_
  refine zk_callV0 fx (cm_open l s0 b h f (va_up a 4 (F_1))  (ok)) (lw_V q2501 q2503 qs60 q108 q2504) ⟨rfl, by decide, by decide, (show (parseMethodDescriptor yX7_open.desc).map (fun d => d.parameters.length) = some 0 by decide +kernel)⟩ ⟨zk_le hR.1 rfl, zk_le hR.2.1 rfl⟩ ⟨zk_le hR.2.2.1 rfl, zk_le hR.2.2.2 rfl⟩ hP hD hS 0 rfl rfl 0 rfl hl.1 rfl (Nat.le_of_ble_eq_true rfl) dX7_laysOrder_5 (fun v_ w_ H locs hq_ hP hD hS => ?_)
  obtain ⟨rfl, rfl⟩ := hq_
  refine zn_st (st2 := [.int (nI (zp_om (a 0) ((a 0) 0)))]) rfl ?_
  refine lv_istore_n (lv' := [(1, .int (nI (zp_om (a 0) ((a 0) 0)))), (0, .ref (h 0))]) hx hb dX7_laysOrder_8 rfl hl (by decide) rfl (fun ls hl => ?_)
  refine lv_bipush (v := nI (7)) hx hb dX7_laysOrder_9 (by decide) ?_
  refine lv_istore_n (lv' := [(2, .int (nI (7))), (1, .int (nI (zp_om (a 0) ((a 0) 0)))), (0, .ref (h 0))]) hx hb dX7_laysOrder_11 rfl hl (by decide) rfl (fun ls hl => ?_)
  refine lv_iconst (v := nI (0)) hx hb dX7_laysOrder_12 rfl ?_
  refine lv_istore_n (lv' := [(3, .int (nI (0))), (2, .int (nI (7))), (1, .int (nI (zp_om (a 0) ((a 0) 0)))), (0, .ref (h 0))]) hx hb dX7_laysOrder_13 rfl hl (by decide) rfl (fun ls hl => ?_)
  have hom := zp_om_lt (a 0) (a 0 0)
  have hP : va_P (zk_D s0) zk_Cl (zm_W s0 h f (va_up (va_up a 4 (F_1)) 8 (a 8))) H := hP
  have hD : va_D A (zm_W s0 h f (va_up (va_up a 4 (F_1)) 8 (a 8))) := hD
  have lp_14 : ∀ (n_ : Nat) (i_ : Nat) (t_ : Nat) (M_ : Nat) (O_ : Nat → Nat), (M_) < n_ → (∀ j, j < i_ → O_ j = zp_on (a 0) j) → (zp_os (a 0) i_ = (zp_lc (a 0) t_, M_)) → (t_ = 7 ∨ t_ < a 0 0) → (i_ + zp_nb M_ 7 = zp_oc (a 0)) → (M_ < 2 ^ (a 0 0)) → ∀ (H : Heap) (locs : List Loc), va_P (zk_D s0) zk_Cl (zm_W s0 h f (va_up (va_up a 4 (F_1)) 8 (O_))) H → va_D A (zm_W s0 h f (va_up (va_up a 4 (F_1)) 8 (O_))) → va_S A s.heap H locs → ∀ ls : Array Slot, lv_has ls 5 [(3, .int (nI (i_))), (2, .int (nI (t_))), (1, .int (nI (M_))), (0, .ref (h 0))] → W p l e R s m args below meth c H locs 0 0 Q (F0 m 14 ls []) := by
    intro n_
    induction n_ with
    | zero => intro i_ t_ M_ O_ hn_; exact absurd hn_ (Nat.not_lt_zero _)
    | succ n_ ih_14 =>
      intro i_ t_ M_ O_ hn_ hO hos ht hnb hM H locs hP hD hS ls hl
      have hM7 : M_ < 128 := by omega
      have hlc := zp_lc_lt ht ok4 hc
      refine lv_iload_n hx hb dX7_laysOrder_14 rfl (lv_at hl 2 rfl) ?_
      refine zn_if_eq (tgt := 85) hx hb dX7_laysOrder_15 (by decide) (by omega) (fun c_15 => ?_) (fun c_15 => ?_)
      · refine lv_iload_n hx hb dX7_laysOrder_85 rfl (lv_at hl 0 rfl) ?_
        exact zk_reti (v := nI (i_)) fx eQ rfl (rfl) hP hD hS (Nat.le_of_ble_eq_true rfl) (Nat.le_of_ble_eq_true rfl) dX7_laysOrder_86 (⟨zk_eqr (by have h9 := (zp_nb0 M_ hM7).mpr c_15; omega), F_1, O_, rfl, fun j hj => hO j (by have h9 := (zp_nb0 M_ hM7).mpr c_15; omega)⟩)
      · obtain ⟨kx, hkx, hPx⟩ := zp_P_ex ok0 hc hM hlc c_15
        refine lv_iconst (v := nI (0)) hx hb dX7_laysOrder_18 rfl ?_
        refine lv_istore (lv' := [(4, .int (nI (0))), (3, .int (nI (i_))), (2, .int (nI (t_))), (1, .int (nI (M_))), (0, .ref (h 0))]) hx hb dX7_laysOrder_19 hl (by decide) rfl (fun ls hl => ?_)
        have lp_21 : ∀ (n_ : Nat) (k_ : Nat), (7 - k_) < n_ → (k_ ≤ kx) → (∀ j, j < k_ → zp_P (a 0) (zp_lc (a 0) t_) M_ j = false) → ∀ (H : Heap) (locs : List Loc), va_P (zk_D s0) zk_Cl (zm_W s0 h f (va_up (va_up a 4 (F_1)) 8 (O_))) H → va_D A (zm_W s0 h f (va_up (va_up a 4 (F_1)) 8 (O_))) → va_S A s.heap H locs → ∀ ls : Array Slot, lv_has ls 5 [(4, .int (nI (k_))), (3, .int (nI (i_))), (2, .int (nI (t_))), (1, .int (nI (M_))), (0, .ref (h 0))] → W p l e R s m args below meth c H locs 0 0 Q (F0 m 21 ls []) := by
          intro n_
          induction n_ with
          | zero => intro k_ hn_; exact absurd hn_ (Nat.not_lt_zero _)
          | succ n_ ih_21 =>
            intro k_ hn_ hkk hall H locs hP hD hS ls hl
            have hkn : k_ < a 0 0 := by omega
            have hp9 : 0 < 2 ^ k_ := Nat.two_pow_pos _
            refine lv_iload_n hx hb dX7_laysOrder_21 rfl (lv_at hl 3 rfl) ?_
            refine lv_iload hx hb dX7_laysOrder_22 (lv_at hl 0 rfl) ?_
            refine zn_ishr hx hb dX7_laysOrder_24 (by omega) (by omega) ?_
            refine lv_iconst (v := nI (1)) hx hb dX7_laysOrder_25 rfl ?_
            refine zn_iand hx hb dX7_laysOrder_26 (Nat.lt_of_le_of_lt (Nat.div_le_self _ _) (by omega)) (by decide) ?_
            refine zn_if_eq (tgt := 53) hx hb dX7_laysOrder_27 (by decide) (Nat.lt_of_le_of_lt Nat.and_le_right (by decide)) (fun c_27 => ?_) (fun c_27 => ?_)
            · have hPk : zp_P (a 0) (zp_lc (a 0) t_) M_ k_ = false := zp_P_nb ((zp_b0 M_ hM7 k_ (by omega)).mp c_27)
              refine lv_iinc (v := nI (k_ + 1)) (lv' := [(4, .int (nI (k_ + 1))), (3, .int (nI (i_))), (2, .int (nI (t_))), (1, .int (nI (M_))), (0, .ref (h 0))]) hx hb dX7_laysOrder_53 hl (k := 0) rfl (nI_add k_ 1) (by decide) rfl (fun ls hl => ?_)
              refine lv_goto (tgt := 21) hx hb dX7_laysOrder_56 (by decide) ?_
              exact ih_21 (k_ + 1) (by omega) (Nat.lt_of_le_of_ne hkk (fun z => by rw [z, hPx] at hPk; cases hPk)) (lt_s hall hPk) _ _ hP hD hS ls (lv_sub hl [0, 1, 2, 3, 4] rfl)
            · have hbit : M_.testBit k_ = true := by rcases Bool.eq_false_or_eq_true (M_.testBit k_) with hz | hz; exact hz; exact absurd ((zp_b0 M_ hM7 k_ (by omega)).mpr hz) c_27
              have hbs := zp_bs M_ hM7 k_ (by omega) hbit
              have hO1 := zp_change_le hlc (hc k_ hkn)
              have hO2 := zp_O_small ok0 hc (mask := M_ - 2 ^ k_) (col := zp_col (a 0) k_) (Nat.lt_of_le_of_lt (Nat.sub_le _ _) hM) (hc k_ hkn)
              have hO3 := zp_O_small ok0 hc hM hlc
              refine lv_aload_n hx hb dX7_laysOrder_30 rfl (lv_at hl 4 rfl) ?_
              refine lv_iload_n hx hb dX7_laysOrder_31 rfl (lv_at hl 3 rfl) ?_
              refine lv_iload_n hx hb dX7_laysOrder_32 rfl (lv_at hl 2 rfl) ?_
              refine lv_iload hx hb dX7_laysOrder_33 (lv_at hl 0 rfl) ?_
              refine zk_callV0 fx (cm_with l s0 b h f (va_up (va_up a 4 (F_1)) 8 (O_)) M_ t_ k_ (hM7) (hbit) (ht) (hkn) (ok)) (lw_V q2493 q2495 qs58 q108 q2496) ⟨rfl, by decide, by decide, (show (parseMethodDescriptor yX7_with.desc).map (fun d => d.parameters.length) = some 3 by decide +kernel)⟩ ⟨zk_le hR.1 rfl, zk_le hR.2.1 rfl⟩ ⟨zk_le hR.2.2.1 rfl, zk_le hR.2.2.2 rfl⟩ hP hD hS 0 rfl rfl 0 rfl hl.1 rfl (Nat.le_of_ble_eq_true rfl) dX7_laysOrder_35 (fun v_ w_ H locs hq_ hP hD hS => ?_)
              obtain ⟨rfl, rfl⟩ := hq_
              refine zn_st (st2 := [.int (nI (zp_change (if t_ = 7 then (a 0) 4 else zp_col (a 0) t_) (zp_col (a 0) k_) + F_1 (128 * k_ + (M_ - 2 ^ k_))))]) rfl ?_
              refine zn_top (y := nI (zp_change (zp_lc (a 0) t_) (zp_col (a 0) k_) + zp_O (a 0) (zp_col (a 0) k_) (M_ - 2 ^ k_))) (by rw [zp_Lay_col hF_1 hkn ok0 (by omega)]; rfl) ?_
              refine lv_aload_n hx hb dX7_laysOrder_38 rfl (lv_at hl 4 rfl) ?_
              refine zm_get (f := f) fx 4 (by decide) q2245 (v := .ref (h 5)) rfl hP dX7_laysOrder_39 ?_
              refine lv_sipush (v := nI (128)) hx hb dX7_laysOrder_42 (by decide) ?_
              refine lv_iload_n hx hb dX7_laysOrder_45 rfl (lv_at hl 2 rfl) ?_
              refine zn_imul hx hb dX7_laysOrder_46 ?_
              refine lv_iload_n hx hb dX7_laysOrder_47 rfl (lv_at hl 3 rfl) ?_
              refine zn_iadd hx hb dX7_laysOrder_48 ?_
              refine zn_ald hx hb hK hP 5 (g := F_1) rfl (i := (128 * t_) + M_) (by omega) (by decide) dX7_laysOrder_49 ?_
              refine zn_top (y := nI (zp_O (a 0) (zp_lc (a 0) t_) M_)) (by rw [hF_1 M_ hM t_ ht]) ?_
              refine zn_icmp_eq (tgt := 59) hx hb dX7_laysOrder_50 (by decide) (by omega) (by omega) (fun c_50 => ?_) (fun c_50 => ?_)
              · have hPk : zp_P (a 0) (zp_lc (a 0) t_) M_ k_ = true := zp_P_mp hbit c_50
                have hnx : zp_nx (a 0) (zp_lc (a 0) t_) M_ = k_ := zp_nx_eq (by omega) hPk hall
                have hi7 : i_ < 7 := by have h9 : zp_nb M_ 7 ≠ 0 := fun z => c_15 ((zp_nb0 M_ hM7).mp z); omega
                refine lv_aload_n hx hb dX7_laysOrder_59 rfl (lv_at hl 4 rfl) ?_
                refine zm_get (f := f) fx 8 (by decide) q2249 (v := .ref (h 9)) rfl hP dX7_laysOrder_60 ?_
                refine lv_iload_n hx hb dX7_laysOrder_63 rfl (lv_at hl 1 rfl) ?_
                refine lv_iload hx hb dX7_laysOrder_64 (lv_at hl 0 rfl) ?_
                refine zn_ast hx hb hK hP hD hS 9 (n := 7) rfl (i := i_) (x := k_) (by omega) (by decide) dX7_laysOrder_66 (zm_seta 8 (by decide) 7 rfl (va_up O_ i_ k_)) (fun H locs hP hD hS => ?_)
                obtain ⟨O1, eO1⟩ : ∃ z_, z_ = va_up O_ i_ k_ := ⟨_, rfl⟩
                rw [← eO1] at hP hD
                refine lv_iinc (v := nI (i_ + 1)) (lv' := [(3, .int (nI (i_ + 1))), (4, .int (nI (k_))), (2, .int (nI (t_))), (1, .int (nI (M_))), (0, .ref (h 0))]) hx hb dX7_laysOrder_67 hl (k := 1) rfl (nI_add i_ 1) (by decide) rfl (fun ls hl => ?_)
                refine lv_iload_n hx hb dX7_laysOrder_70 rfl (lv_at hl 3 rfl) ?_
                refine lv_iconst (v := nI (1)) hx hb dX7_laysOrder_71 rfl ?_
                refine lv_iload hx hb dX7_laysOrder_72 (lv_at hl 1 rfl) ?_
                refine zn_ishl hx hb dX7_laysOrder_74 (by omega) (by have : 2 ^ k_ ≤ 2 ^ 7 := Nat.pow_le_pow_right (by decide) (by omega); omega) ?_
                refine lv_iconst (v := (-1)) hx hb dX7_laysOrder_75 rfl ?_
                refine lv_ixor hx hb dX7_laysOrder_76 ?_
                refine lv_iand hx hb dX7_laysOrder_77 ?_
                refine zn_top (y := nI (M_ - 2 ^ k_)) (zp_bc M_ hM7 k_ (by omega) hbit) ?_
                refine lv_istore_n (lv' := [(1, .int (nI (M_ - 2 ^ k_))), (3, .int (nI (i_ + 1))), (4, .int (nI (k_))), (2, .int (nI (t_))), (0, .ref (h 0))]) hx hb dX7_laysOrder_78 rfl hl (by decide) rfl (fun ls hl => ?_)
                refine lv_iload hx hb dX7_laysOrder_79 (lv_at hl 2 rfl) ?_
                refine lv_istore_n (lv' := [(2, .int (nI (k_))), (1, .int (nI (M_ - 2 ^ k_))), (3, .int (nI (i_ + 1))), (4, .int (nI (k_))), (0, .ref (h 0))]) hx hb dX7_laysOrder_81 rfl hl (by decide) rfl (fun ls hl => ?_)
                refine lv_goto (tgt := 14) hx hb dX7_laysOrder_82 (by decide) ?_
                exact ih_14 (i_ + 1) k_ (M_ - 2 ^ k_) O1 (by omega) (lt_s (fun j hj => by rw [eO1, zk_up_ne (by omega)]; exact hO j hj) (by rw [eO1, zk_up_eq]; unfold zp_on; rw [hos]; exact hnx.symm)) (by rw [zp_os, hos]; show (zp_col (a 0) (zp_nx (a 0) (zp_lc (a 0) t_) M_), M_ - 2 ^ zp_nx (a 0) (zp_lc (a 0) t_) M_) = _; rw [hnx, zp_lc_col (by omega)]) (Or.inr hkn) (by have := zp_nb1 M_ hM7 k_ (by omega) hbit; omega) (Nat.lt_of_le_of_lt (Nat.sub_le _ _) hM) _ _ hP hD hS ls (lv_sub hl [2, 0, 1, 4] rfl)
              · have hPk : zp_P (a 0) (zp_lc (a 0) t_) M_ k_ = false := zp_P_ne (fun z => c_50 z)
                refine lv_iinc (v := nI (k_ + 1)) (lv' := [(4, .int (nI (k_ + 1))), (3, .int (nI (i_))), (2, .int (nI (t_))), (1, .int (nI (M_))), (0, .ref (h 0))]) hx hb dX7_laysOrder_53 hl (k := 0) rfl (nI_add k_ 1) (by decide) rfl (fun ls hl => ?_)
                refine lv_goto (tgt := 21) hx hb dX7_laysOrder_56 (by decide) ?_
                exact ih_21 (k_ + 1) (by omega) (Nat.lt_of_le_of_ne hkk (fun z => by rw [z, hPx] at hPk; cases hPk)) (lt_s hall hPk) _ _ hP hD hS ls (lv_sub hl [0, 1, 2, 3, 4] rfl)
        exact lp_21 _ 0 (Nat.lt_succ_self _) (Nat.zero_le _) (fun j hj => absurd hj (Nat.not_lt_zero j)) _ _ hP hD hS ls (lv_sub hl [0, 1, 2, 3, 4] rfl)
  exact lp_14 _ 0 7 (zp_om (a 0) (a 0 0)) (a 8) (Nat.lt_succ_self _) (fun j hj => absurd hj (Nat.not_lt_zero j)) rfl (Or.inl rfl) (Nat.zero_add _) hom _ _ hP hD hS ls (lv_sub hl [0, 1, 2, 3] rfl)
set_option maxHeartbeats 4000000 in
set_option maxRecDepth 100000 in
theorem cm_editionAt (l : Launch) (s0 : State) (b : Nat) (h f : Nat → Nat) (a : Nat → Nat → Nat) (x : Int32) (ok : zp_Ok (a 0)) : zk_C l s0 b yX7_editionAt (ws_ yX7_editionAt cX7_editionAt 3 (some .int)) 5 115 0 0 [.ref (h 0), .int (x)] (zm_W s0 h f a) (fun r w => zm_N s0 h f a (Bool.toNat (!(zk_ix x (zp_oc (a 0))))) (.int (nI (if zk_ix x (zp_oc (a 0)) = true then zp_on (a 0) x.toNatClampNeg else 0))) r w) := by
  refine zk_mk (by decide) rfl ?_
  intro p e s m below meth c A R args Q fx hR eQ hP hD hS ls hl
  have hx := fx.1
  have hb := fx.2.1
  have hK := fx.2.2.2.2.2.2.2.2.1.K
  have hl : lv_has ls 3 [(0, .ref (h 0)), (1, .int (x))] := hl
  obtain ⟨ok0, ok1, ok2, ok3, ok4, ok5, ok6, okw, oke, okp⟩ := id ok
  have hoc := zp_oc_le ok0
  refine lv_aload_n hx hb dX7_editionAt_0 rfl (lv_at hl 0 rfl) ?_
  refine zk_callV0 fx (cm_laysOrder l s0 b h f a ok) (lw_V q2513 q2515 qs61 q108 q2516) ⟨rfl, by decide, by decide, (show (parseMethodDescriptor yX7_laysOrder.desc).map (fun d => d.parameters.length) = some 0 by decide +kernel)⟩ ⟨zk_le hR.1 rfl, zk_le hR.2.1 rfl⟩ ⟨zk_le hR.2.2.1 rfl, zk_le hR.2.2.2 rfl⟩ hP hD hS 0 rfl rfl 0 rfl hl.1 rfl (Nat.le_of_ble_eq_true rfl) dX7_editionAt_1 (fun v_ w_ H locs hq_ hP hD hS => ?_)
  obtain ⟨rfl, F_1, G_1, rfl, hG_1⟩ := hq_
  refine zn_st (st2 := [.int (nI (zp_oc (a 0)))]) rfl ?_
  have hG_1 : ∀ j, j < zp_oc (a 0) → G_1 j = zp_on (a 0) j := hG_1
  refine lv_istore_n (lv' := [(2, .int (nI (zp_oc (a 0)))), (0, .ref (h 0)), (1, .int (x))]) hx hb dX7_editionAt_4 rfl hl (by decide) rfl (fun ls hl => ?_)
  refine lv_aload_n hx hb dX7_editionAt_5 rfl (lv_at hl 1 rfl) ?_
  refine lv_iload_n hx hb dX7_editionAt_6 rfl (lv_at hl 2 rfl) ?_
  refine lv_iconst (v := nI (0)) hx hb dX7_editionAt_7 rfl ?_
  refine lv_iload_n hx hb dX7_editionAt_8 rfl (lv_at hl 0 rfl) ?_
  refine lv_iconst (v := nI (1)) hx hb dX7_editionAt_9 rfl ?_
  refine lv_isub hx hb dX7_editionAt_10 ?_
  refine zk_callSn fx (cm_in l s0 b (x) (nI (0)) ((nI (zp_oc (a 0))) - (nI (1)))) (lw_S q2339 q2340 q108 q2341) ⟨by decide, by decide, (show (parseMethodDescriptor yX7_in.desc).map (fun d => d.parameters.length) = some 3 by decide +kernel)⟩ ⟨zk_le hR.1 rfl, zk_le hR.2.1 rfl⟩ ⟨zk_le hR.2.2.1 rfl, zk_le hR.2.2.2 rfl⟩ hP hD hS hl.1 rfl (Nat.le_of_ble_eq_true rfl) dX7_editionAt_11 (fun v_ H locs hq_ hP hD hS => ?_)
  obtain rfl := hq_
  refine zn_st (st2 := [.int (nI (Bool.toNat (decide (nI (0) ≤ x ∧ x ≤ (nI (zp_oc (a 0))) - (nI (1)))))), .ref (h 0)]) rfl ?_
  refine zn_top (y := nI (Bool.toNat (zk_ix x (zp_oc (a 0))))) (by rw [← zk_ix_in (by omega)]) ?_
  refine zk_callV0 fx (cm_checked l s0 b h f (va_up (va_up a 4 (F_1)) 8 (G_1)) (zk_ix x (zp_oc (a 0)))) (lw_V q2378 q2380 qs42 q108 q2381) ⟨rfl, by decide, by decide, (show (parseMethodDescriptor yX7_checked.desc).map (fun d => d.parameters.length) = some 1 by decide +kernel)⟩ ⟨zk_le hR.1 rfl, zk_le hR.2.1 rfl⟩ ⟨zk_le hR.2.2.1 rfl, zk_le hR.2.2.2 rfl⟩ hP hD hS 0 rfl rfl 0 rfl hl.1 rfl (Nat.le_of_ble_eq_true rfl) dX7_editionAt_14 (fun v_ w_ H locs hq_ hP hD hS => ?_)
  obtain ⟨rfl, rfl⟩ := hq_
  refine zn_st (st2 := [.int (nI (Bool.toNat (!(zk_ix x (zp_oc (a 0))))))]) rfl ?_
  refine zb_if_le (tgt := 24) hx hb dX7_editionAt_17 (by decide) (fun c_17 => ?_) (fun c_17 => ?_)
  · obtain ⟨i, hi, rfl⟩ := zk_ix_of c_17 (by omega)
    refine lv_aload_n hx hb dX7_editionAt_24 rfl (lv_at hl 1 rfl) ?_
    refine zm_get (f := (va_up f 9 (Bool.toNat (!(zk_ix (nI i) (zp_oc (a 0))))))) fx 8 (by decide) q2249 (v := .ref (h 9)) rfl hP dX7_editionAt_25 ?_
    refine lv_iload_n hx hb dX7_editionAt_28 rfl (lv_at hl 2 rfl) ?_
    refine zn_ald hx hb hK hP 9 (g := G_1) rfl (i := i) (by omega) (by decide) dX7_editionAt_29 ?_
    exact zk_reti (v := nI (G_1 i)) fx eQ rfl (rfl) hP hD hS (Nat.le_of_ble_eq_true rfl) (Nat.le_of_ble_eq_true rfl) dX7_editionAt_30 (⟨by rw [if_pos c_17, nI_clamp (by omega), hG_1 i hi], _, _, rfl, ⟨rfl, rfl, rfl, rfl, rfl, rfl, rfl, rfl⟩, ⟨rfl, rfl⟩, rfl, rfl⟩)
  · refine lv_iconst (v := nI (0)) hx hb dX7_editionAt_20 rfl ?_
    refine lv_goto (tgt := 30) hx hb dX7_editionAt_21 (by decide) ?_
    exact zk_reti (v := nI (0)) fx eQ rfl (rfl) hP hD hS (Nat.le_of_ble_eq_true rfl) (Nat.le_of_ble_eq_true rfl) dX7_editionAt_30 (⟨by rw [if_neg (by rw [c_17]; decide)], _, _, rfl, ⟨rfl, rfl, rfl, rfl, rfl, rfl, rfl, rfl⟩, ⟨rfl, rfl⟩, rfl, rfl⟩)
