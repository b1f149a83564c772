/-! THE STATE, part 1 (printed by prog/m22.py) -/
set_option maxRecDepth 100000
set_option maxHeartbeats 4000000 in
set_option maxRecDepth 100000 in
theorem cs_inkInWells (l : Launch) (s0 : State) (b : Nat) (k : Nat → Nat) (E : Nat → Option Nat) (σ : Nat → Nat) (ok : zp_Ok σ) : zk_C l s0 b yX2_inkInWells (ws_ yX2_inkInWells cX2_inkInWells 6 (some .int)) 0 0 0 0 [.ref (k 0)] (zs_W s0 k E σ) (fun r w => r = some (.int (nI (zp_sum σ 10))) ∧ w = zs_W s0 k E σ) := by
  refine zk_mk (by decide) rfl ?_
  intro p e s m below meth c A R args Q fx hR eQ hP hD hS ls hl
  have hx := fx.1
  have hb := fx.2.1
  have hK := fx.2.2.2.2.2.2.2.2.1.K
  have hl : lv_has ls 6 [(0, .ref (k 0))] := hl
  obtain ⟨ok0, ok1, ok2, ok3, ok4, ok5, ok6, okw, oke, okp⟩ := id ok
  refine lv_iconst (v := nI (0)) hx hb dX2_inkInWells_0 rfl ?_
  refine lv_istore_n (lv' := [(1, .int (nI (0))), (0, .ref (k 0))]) hx hb dX2_inkInWells_1 rfl hl (by decide) rfl (fun ls hl => ?_)
  refine lv_aload_n hx hb dX2_inkInWells_2 rfl (lv_at hl 1 rfl) ?_
  refine va_get (D := zk_D s0) (ci := 2) (C := RX2) (T := TX2) (N := 15) (ref := "InkPrintery$State") hx hb fx.2.2.2.2.1 in_X2 fx.2.2.2.1 hK hP 0 rfl rfl 0 (by decide) (fx.2.2.2.2.1 _ q178) (fun _ h9 => h9) (v := .ref (k 1)) rfl dX2_inkInWells_3 ?_
  refine lv_astore_n (lv' := [(2, .ref (k 1)), (1, .int (nI (0))), (0, .ref (k 0))]) hx hb dX2_inkInWells_6 rfl hl (by decide) rfl (fun ls hl => ?_)
  refine lv_aload_n hx hb dX2_inkInWells_7 rfl (lv_at hl 0 rfl) ?_
  refine zn_alen hx hb hK hP 1 0 (n := 10) rfl rfl rfl dX2_inkInWells_8 ?_
  refine lv_istore_n (lv' := [(3, .int (nI (10))), (2, .ref (k 1)), (1, .int (nI (0))), (0, .ref (k 0))]) hx hb dX2_inkInWells_9 rfl hl (by decide) rfl (fun ls hl => ?_)
  refine lv_iconst (v := nI (0)) hx hb dX2_inkInWells_10 rfl ?_
  refine lv_istore (lv' := [(4, .int (nI (0))), (3, .int (nI (10))), (2, .ref (k 1)), (1, .int (nI (0))), (0, .ref (k 0))]) hx hb dX2_inkInWells_11 hl (by decide) rfl (fun ls hl => ?_)
  have lp_13 : ∀ (n_ : Nat) (j_ : Nat), (10 - j_) < n_ → (j_ ≤ 10) → ∀ (H : Heap) (locs : List Loc), va_P (zk_D s0) zk_Cl (zs_W s0 k E σ) H → va_D A (zs_W s0 k E σ) → va_S A s.heap H locs → ∀ ls : Array Slot, lv_has ls 6 [(4, .int (nI (j_))), (3, .int (nI (10))), (2, .ref (k 1)), (1, .int (nI (zp_sum σ j_))), (0, .ref (k 0))] → W p l e R s m args below meth c H locs 0 0 Q (F0 m 13 ls []) := by
    intro n_
    induction n_ with
    | zero => intro j_ hn_; exact absurd hn_ (Nat.not_lt_zero _)
    | succ n_ ih_13 =>
      intro j_ hn_ hj H locs hP hD hS ls hl
      refine lv_iload hx hb dX2_inkInWells_13 (lv_at hl 0 rfl) ?_
      refine lv_iload_n hx hb dX2_inkInWells_15 rfl (lv_at hl 1 rfl) ?_
      refine zn_icmp_ge (tgt := 36) hx hb dX2_inkInWells_16 (by decide) (by omega) (by omega) (fun c_16 => ?_) (fun c_16 => ?_)
      · refine lv_iload_n hx hb dX2_inkInWells_36 rfl (lv_at hl 3 rfl) ?_
        exact zk_reti (v := nI (zp_sum σ j_)) fx eQ rfl (rfl) hP hD hS (Nat.le_of_ble_eq_true rfl) (Nat.le_of_ble_eq_true rfl) dX2_inkInWells_37 (⟨zk_eqr (by rw [show j_ = 10 by omega]), rfl⟩)
      · refine lv_aload_n hx hb dX2_inkInWells_19 rfl (lv_at hl 2 rfl) ?_
        refine lv_iload hx hb dX2_inkInWells_20 (lv_at hl 0 rfl) ?_
        refine zn_ald hx hb hK hP 1 (n := 10) (g := fun i => σ (8 + i)) rfl (i := j_) (by omega) (by decide) dX2_inkInWells_22 ?_
        refine zn_top (y := nI (σ (8 + j_))) (rfl) ?_
        refine lv_istore (lv' := [(5, .int (nI (σ (8 + j_)))), (4, .int (nI (j_))), (3, .int (nI (10))), (2, .ref (k 1)), (1, .int (nI (zp_sum σ j_))), (0, .ref (k 0))]) hx hb dX2_inkInWells_23 hl (by decide) rfl (fun ls hl => ?_)
        refine lv_iload_n hx hb dX2_inkInWells_25 rfl (lv_at hl 4 rfl) ?_
        refine lv_iload hx hb dX2_inkInWells_26 (lv_at hl 0 rfl) ?_
        refine zn_iadd hx hb dX2_inkInWells_28 ?_
        refine zn_top (y := nI (zp_sum σ (j_ + 1))) (rfl) ?_
        refine lv_istore_n (lv' := [(1, .int (nI (zp_sum σ (j_ + 1)))), (5, .int (nI (σ (8 + j_)))), (4, .int (nI (j_))), (3, .int (nI (10))), (2, .ref (k 1)), (0, .ref (k 0))]) hx hb dX2_inkInWells_29 rfl hl (by decide) rfl (fun ls hl => ?_)
        refine lv_iinc (v := nI (j_ + 1)) (lv' := [(4, .int (nI (j_ + 1))), (1, .int (nI (zp_sum σ (j_ + 1)))), (5, .int (nI (σ (8 + j_)))), (3, .int (nI (10))), (2, .ref (k 1)), (0, .ref (k 0))]) hx hb dX2_inkInWells_30 hl (k := 2) rfl (nI_add j_ 1) (by decide) rfl (fun ls hl => ?_)
        refine lv_goto (tgt := 13) hx hb dX2_inkInWells_33 (by decide) ?_
        exact ih_13 (j_ + 1) (by omega) (by omega) _ _ hP hD hS ls (lv_sub hl [0, 3, 4, 1, 5] rfl)
  exact lp_13 _ 0 (Nat.lt_succ_self _) (by omega) _ _ hP hD hS ls (lv_sub hl [0, 1, 2, 3, 4] rfl)
set_option maxHeartbeats 4000000 in
set_option maxRecDepth 100000 in
theorem cs_sumOfRuns (l : Launch) (s0 : State) (b : Nat) (k : Nat → Nat) (E : Nat → Option Nat) (σ : Nat → Nat) (ok : zp_Ok σ) (hE : zs_En E σ) : zk_C l s0 b yX2_sumOfRuns (ws_ yX2_sumOfRuns cX2_sumOfRuns 3 (some .int)) 0 0 0 0 [.ref (k 0)] (zs_W s0 k E σ) (fun r w => r = some (.int (nI (zp_runs σ (σ 0)))) ∧ w = zs_W s0 k E σ) := by
  refine zk_mk (by decide) rfl ?_
  intro p e s m below meth c A R args Q fx hR eQ hP hD hS ls hl
  have hx := fx.1
  have hb := fx.2.1
  have hK := fx.2.2.2.2.2.2.2.2.1.K
  have hl : lv_has ls 3 [(0, .ref (k 0))] := hl
  obtain ⟨ok0, ok1, ok2, ok3, ok4, ok5, ok6, okw, oke, okp⟩ := id ok
  refine lv_iconst (v := nI (0)) hx hb dX2_sumOfRuns_0 rfl ?_
  refine lv_istore_n (lv' := [(1, .int (nI (0))), (0, .ref (k 0))]) hx hb dX2_sumOfRuns_1 rfl hl (by decide) rfl (fun ls hl => ?_)
  refine lv_iconst (v := nI (0)) hx hb dX2_sumOfRuns_2 rfl ?_
  refine lv_istore_n (lv' := [(2, .int (nI (0))), (1, .int (nI (0))), (0, .ref (k 0))]) hx hb dX2_sumOfRuns_3 rfl hl (by decide) rfl (fun ls hl => ?_)
  have lp_4 : ∀ (n_ : Nat) (j_ : Nat), (σ 0 - j_) < n_ → (j_ ≤ σ 0) → ∀ (H : Heap) (locs : List Loc), va_P (zk_D s0) zk_Cl (zs_W s0 k E σ) H → va_D A (zs_W s0 k E σ) → va_S A s.heap H locs → ∀ ls : Array Slot, lv_has ls 3 [(2, .int (nI (j_))), (1, .int (nI (zp_runs σ j_))), (0, .ref (k 0))] → W p l e R s m args below meth c H locs 0 0 Q (F0 m 4 ls []) := by
    intro n_
    induction n_ with
    | zero => intro j_ hn_; exact absurd hn_ (Nat.not_lt_zero _)
    | succ n_ ih_4 =>
      intro j_ hn_ hj H locs hP hD hS ls hl
      refine lv_iload_n hx hb dX2_sumOfRuns_4 rfl (lv_at hl 0 rfl) ?_
      refine lv_aload_n hx hb dX2_sumOfRuns_5 rfl (lv_at hl 2 rfl) ?_
      refine va_get (D := zk_D s0) (ci := 2) (C := RX2) (T := TX2) (N := 15) (ref := "InkPrintery$State") hx hb fx.2.2.2.2.1 in_X2 fx.2.2.2.1 hK hP 0 rfl rfl 5 (by decide) (fx.2.2.2.2.1 _ q188) (fun _ h9 => h9) (v := .int (nI (σ 0))) rfl dX2_sumOfRuns_6 ?_
      refine zn_icmp_ge (tgt := 30) hx hb dX2_sumOfRuns_9 (by decide) (by omega) (by omega) (fun c_9 => ?_) (fun c_9 => ?_)
      · refine lv_iload_n hx hb dX2_sumOfRuns_30 rfl (lv_at hl 1 rfl) ?_
        exact zk_reti (v := nI (zp_runs σ j_)) fx eQ rfl (rfl) hP hD hS (Nat.le_of_ble_eq_true rfl) (Nat.le_of_ble_eq_true rfl) dX2_sumOfRuns_31 (⟨zk_eqr (by rw [show j_ = σ 0 by omega]), rfl⟩)
      · have hj9 : j_ < σ 0 := by omega
        refine lv_iload_n hx hb dX2_sumOfRuns_12 rfl (lv_at hl 1 rfl) ?_
        refine lv_aload_n hx hb dX2_sumOfRuns_13 rfl (lv_at hl 2 rfl) ?_
        refine va_get (D := zk_D s0) (ci := 2) (C := RX2) (T := TX2) (N := 15) (ref := "InkPrintery$State") hx hb fx.2.2.2.2.1 in_X2 fx.2.2.2.1 hK hP 0 rfl rfl 4 (by decide) (fx.2.2.2.2.1 _ q185) (fun _ h9 => h9) (v := .ref (k 3)) rfl dX2_sumOfRuns_14 ?_
        refine lv_iload_n hx hb dX2_sumOfRuns_17 rfl (lv_at hl 0 rfl) ?_
        refine zn_aldq hx hb hK hP 3 4 (n := 7) (f := E) rfl rfl (i := j_) (by omega) (by decide) dX2_sumOfRuns_18 ?_
        refine zn_top9 (y := .ref ((E j_).getD 0)) (zs_rf (hE j_ hj9)) ?_
        have hP : va_P (zk_D s0) zk_Cl (([(k 0, .inr (2, [.ref (k 1), .ref (k 2), .int (nI (σ 3)), .int (nI (σ 2)), .ref (k 3), .int (nI (σ 0)), .int (nI (σ 4)), .int (nI (σ 5)), .int (nI (σ 6)), .int (nI (σ 7)), .long (lN (σ 18)), .ref (k 4), .ref (k 5), .int (nI (σ 1)), .ref (k 6)])), (k 1, zk_I s0 10 (fun i => σ (8 + i))), (k 2, zk_Q_ s0 3 10 (fun i => some (k (10 + i)))), (k 3, zk_Q_ s0 4 7 E), (k 4, zk_I s0 12 (fun i => σ (48 + 2 * i))), (k 5, zk_I s0 12 (fun i => σ (48 + 2 * i + 1))), (k 6, .inr (3, [])), ((E j_).getD 0, .inr (5, [.int (nI (σ (20 + 4 * j_))), .int (nI (σ (20 + 4 * j_ + 1))), .int (nI (σ (20 + 4 * j_ + 2)))]))] ++ zk_bl 10 (zs_f k) ++ zk_bx (σ 0) (zs_e E σ) j_ : va_W)) H := zk_Pp hP (zk_pull2 (P := [(k 0, .inr (2, [.ref (k 1), .ref (k 2), .int (nI (σ 3)), .int (nI (σ 2)), .ref (k 3), .int (nI (σ 0)), .int (nI (σ 4)), .int (nI (σ 5)), .int (nI (σ 6)), .int (nI (σ 7)), .long (lN (σ 18)), .ref (k 4), .ref (k 5), .int (nI (σ 1)), .ref (k 6)])), (k 1, zk_I s0 10 (fun i => σ (8 + i))), (k 2, zk_Q_ s0 3 10 (fun i => some (k (10 + i)))), (k 3, zk_Q_ s0 4 7 E), (k 4, zk_I s0 12 (fun i => σ (48 + 2 * i))), (k 5, zk_I s0 12 (fun i => σ (48 + 2 * i + 1))), (k 6, .inr (3, []))]) (hj9))
        have hD : va_D A (([(k 0, .inr (2, [.ref (k 1), .ref (k 2), .int (nI (σ 3)), .int (nI (σ 2)), .ref (k 3), .int (nI (σ 0)), .int (nI (σ 4)), .int (nI (σ 5)), .int (nI (σ 6)), .int (nI (σ 7)), .long (lN (σ 18)), .ref (k 4), .ref (k 5), .int (nI (σ 1)), .ref (k 6)])), (k 1, zk_I s0 10 (fun i => σ (8 + i))), (k 2, zk_Q_ s0 3 10 (fun i => some (k (10 + i)))), (k 3, zk_Q_ s0 4 7 E), (k 4, zk_I s0 12 (fun i => σ (48 + 2 * i))), (k 5, zk_I s0 12 (fun i => σ (48 + 2 * i + 1))), (k 6, .inr (3, [])), ((E j_).getD 0, .inr (5, [.int (nI (σ (20 + 4 * j_))), .int (nI (σ (20 + 4 * j_ + 1))), .int (nI (σ (20 + 4 * j_ + 2)))]))] ++ zk_bl 10 (zs_f k) ++ zk_bx (σ 0) (zs_e E σ) j_ : va_W)) := zk_Dp hD (zk_pull2 (P := [(k 0, .inr (2, [.ref (k 1), .ref (k 2), .int (nI (σ 3)), .int (nI (σ 2)), .ref (k 3), .int (nI (σ 0)), .int (nI (σ 4)), .int (nI (σ 5)), .int (nI (σ 6)), .int (nI (σ 7)), .long (lN (σ 18)), .ref (k 4), .ref (k 5), .int (nI (σ 1)), .ref (k 6)])), (k 1, zk_I s0 10 (fun i => σ (8 + i))), (k 2, zk_Q_ s0 3 10 (fun i => some (k (10 + i)))), (k 3, zk_Q_ s0 4 7 E), (k 4, zk_I s0 12 (fun i => σ (48 + 2 * i))), (k 5, zk_I s0 12 (fun i => σ (48 + 2 * i + 1))), (k 6, .inr (3, []))]) (hj9))
        refine va_getN (D := zk_D s0) (ci := 5) (C := RX8) (T := TX8) (N := 3) (ref := "InkPrintery$Edition") hx hb fx.2.2.2.2.1 in_X8 fx.2.2.2.1 hK hP 7 rfl rfl 1 (by decide) (zk_nf fx q612) (fun _ h9 => h9) (v := .int (nI (σ (20 + 4 * j_ + 1)))) rfl dX2_sumOfRuns_19 ?_
        have hP : va_P (zk_D s0) zk_Cl (([(k 0, .inr (2, [.ref (k 1), .ref (k 2), .int (nI (σ 3)), .int (nI (σ 2)), .ref (k 3), .int (nI (σ 0)), .int (nI (σ 4)), .int (nI (σ 5)), .int (nI (σ 6)), .int (nI (σ 7)), .long (lN (σ 18)), .ref (k 4), .ref (k 5), .int (nI (σ 1)), .ref (k 6)])), (k 1, zk_I s0 10 (fun i => σ (8 + i))), (k 2, zk_Q_ s0 3 10 (fun i => some (k (10 + i)))), (k 3, zk_Q_ s0 4 7 E), (k 4, zk_I s0 12 (fun i => σ (48 + 2 * i))), (k 5, zk_I s0 12 (fun i => σ (48 + 2 * i + 1))), (k 6, .inr (3, []))] ++ zk_bl 10 (zs_f k) ++ zk_bl (σ 0) (zs_e E σ) : va_W)) H := zk_Pp hP (zk_push2 (P := [(k 0, .inr (2, [.ref (k 1), .ref (k 2), .int (nI (σ 3)), .int (nI (σ 2)), .ref (k 3), .int (nI (σ 0)), .int (nI (σ 4)), .int (nI (σ 5)), .int (nI (σ 6)), .int (nI (σ 7)), .long (lN (σ 18)), .ref (k 4), .ref (k 5), .int (nI (σ 1)), .ref (k 6)])), (k 1, zk_I s0 10 (fun i => σ (8 + i))), (k 2, zk_Q_ s0 3 10 (fun i => some (k (10 + i)))), (k 3, zk_Q_ s0 4 7 E), (k 4, zk_I s0 12 (fun i => σ (48 + 2 * i))), (k 5, zk_I s0 12 (fun i => σ (48 + 2 * i + 1))), (k 6, .inr (3, []))]) (f := (zs_e E σ)) (g := (zs_e E σ)) (i := j_) (hj9) (fun _ _ _ => rfl))
        have hD : va_D A (([(k 0, .inr (2, [.ref (k 1), .ref (k 2), .int (nI (σ 3)), .int (nI (σ 2)), .ref (k 3), .int (nI (σ 0)), .int (nI (σ 4)), .int (nI (σ 5)), .int (nI (σ 6)), .int (nI (σ 7)), .long (lN (σ 18)), .ref (k 4), .ref (k 5), .int (nI (σ 1)), .ref (k 6)])), (k 1, zk_I s0 10 (fun i => σ (8 + i))), (k 2, zk_Q_ s0 3 10 (fun i => some (k (10 + i)))), (k 3, zk_Q_ s0 4 7 E), (k 4, zk_I s0 12 (fun i => σ (48 + 2 * i))), (k 5, zk_I s0 12 (fun i => σ (48 + 2 * i + 1))), (k 6, .inr (3, []))] ++ zk_bl 10 (zs_f k) ++ zk_bl (σ 0) (zs_e E σ) : va_W)) := zk_Dp hD (zk_push2 (P := [(k 0, .inr (2, [.ref (k 1), .ref (k 2), .int (nI (σ 3)), .int (nI (σ 2)), .ref (k 3), .int (nI (σ 0)), .int (nI (σ 4)), .int (nI (σ 5)), .int (nI (σ 6)), .int (nI (σ 7)), .long (lN (σ 18)), .ref (k 4), .ref (k 5), .int (nI (σ 1)), .ref (k 6)])), (k 1, zk_I s0 10 (fun i => σ (8 + i))), (k 2, zk_Q_ s0 3 10 (fun i => some (k (10 + i)))), (k 3, zk_Q_ s0 4 7 E), (k 4, zk_I s0 12 (fun i => σ (48 + 2 * i))), (k 5, zk_I s0 12 (fun i => σ (48 + 2 * i + 1))), (k 6, .inr (3, []))]) (f := (zs_e E σ)) (g := (zs_e E σ)) (i := j_) (hj9) (fun _ _ _ => rfl))
        refine zn_iadd hx hb dX2_sumOfRuns_22 ?_
        refine zn_top (y := nI (zp_runs σ (j_ + 1))) (rfl) ?_
        refine lv_istore_n (lv' := [(1, .int (nI (zp_runs σ (j_ + 1)))), (2, .int (nI (j_))), (0, .ref (k 0))]) hx hb dX2_sumOfRuns_23 rfl hl (by decide) rfl (fun ls hl => ?_)
        refine lv_iinc (v := nI (j_ + 1)) (lv' := [(2, .int (nI (j_ + 1))), (1, .int (nI (zp_runs σ (j_ + 1)))), (0, .ref (k 0))]) hx hb dX2_sumOfRuns_24 hl (k := 1) rfl (nI_add j_ 1) (by decide) rfl (fun ls hl => ?_)
        refine lv_goto (tgt := 4) hx hb dX2_sumOfRuns_27 (by decide) ?_
        exact ih_4 (j_ + 1) (by omega) (by omega) _ _ hP hD hS ls (lv_sub hl [0, 1, 2] rfl)
  exact lp_4 _ 0 (Nat.lt_succ_self _) (by omega) _ _ hP hD hS ls (lv_sub hl [0, 1, 2] rfl)
set_option maxHeartbeats 4000000 in
set_option maxRecDepth 100000 in
theorem cs_addPaper (l : Launch) (s0 : State) (b : Nat) (hl0 : l.stackTraces = false) (k : Nat → Nat) (E : Nat → Option Nat) (σ : Nat → Nat) (x : Int32) (ok : zp_Ok σ) : zk_Cx l s0 b yX2_addPaper (ws_ yX2_addPaper cX2_addPaper 2 (some .int)) 7 101 2 12 [.ref (k 0), .int (x)] (zs_W s0 k E σ) (fun r w => zp_buy σ x = 0 ∧ r = some (.int (nI (zo_addPaper σ x).2.1)) ∧ w = zs_W s0 k E ((zo_addPaper σ x).2.2)) (fun E_ q_ w => zp_buy σ x ≠ 0 ∧ E_ = (if zp_buy σ x = 1 then "java/lang/IllegalArgumentException" else "java/lang/IllegalStateException") ∧ w = zs_W s0 k E σ) := by
  refine zk_mkx (by decide) rfl ?_
  intro p e s m below meth c A R args Q fx hR eQ hno hP hD hS ls hl
  have hx := fx.1
  have hb := fx.2.1
  have hK := fx.2.2.2.2.2.2.2.2.1.K
  have hl : lv_has ls 2 [(0, .ref (k 0)), (1, .int (x))] := hl
  obtain ⟨ok0, ok1, ok2, ok3, ok4, ok5, ok6, okw, oke, okp⟩ := id ok
  refine lv_iload_n hx hb dX2_addPaper_0 rfl (lv_at hl 1 rfl) ?_
  refine lv_iconst (v := nI (1)) hx hb dX2_addPaper_1 rfl ?_
  refine lv_sipush (v := nI (999)) hx hb dX2_addPaper_2 (by decide) ?_
  refine zk_callSN fx (host := "InkPrintery") (cc_inRange l s0 b (x) (nI (1)) (nI (999))) (lw_meth q1299) q84 q1300 q1298 ⟨by decide, by decide, (show (parseMethodDescriptor yX1_inRange.desc).map (fun d => d.parameters.length) = some 3 by decide +kernel)⟩ ⟨zk_le hR.1 rfl, zk_le hR.2.1 rfl⟩ ⟨zk_le hR.2.2.1 rfl, zk_le hR.2.2.2 rfl⟩ hP hD hS (wc := []) (wr := zs_W s0 k E σ) (List.Perm.refl _) hl.1 rfl (Nat.le_of_ble_eq_true rfl) dX2_addPaper_5 (fun v_ w_ H locs hq_ hP hD hS => ?_)
  obtain ⟨rfl, rfl⟩ := hq_
  refine zn_st (st2 := [.int (nI (Bool.toNat (zk_in x 1 999)))]) rfl ?_
  refine zk_callSNx fx (host := "InkPrintery") (cc_checkArgument l s0 b hl0 (zk_in x 1 999)) (lw_meth q1303) q84 q1301 q1302 ⟨by decide, by decide, (show (parseMethodDescriptor yX1_checkArgument.desc).map (fun d => d.parameters.length) = some 1 by decide +kernel)⟩ ⟨zk_le hR.1 rfl, zk_le hR.2.1 rfl⟩ ⟨zk_le hR.2.2.1 rfl, zk_le hR.2.2.2 rfl⟩ hP hD hS (wc := []) (wr := zs_W s0 k E σ) (List.Perm.refl _) hl.1 rfl (Nat.le_of_ble_eq_true rfl) dX2_addPaper_8 (fun E_ q_ w_ H locs hq_ hT hP hD hS => ?_) (fun v_ w_ H locs hq_ hP hD hS => ?_)
  · obtain ⟨⟨rfl, rfl⟩, ht_8⟩ := hq_
    have hP : va_P (zk_D s0) zk_Cl (zs_W s0 k E σ) H := hP
    have hD : va_D A (zs_W s0 k E σ) := hD
    have hb : zp_buy σ x = 1 := by unfold zp_buy; rw [if_neg (by rw [ht_8]; decide)]
    exact zk_outx fx eQ (fun x9 hx9 => (hno x9 hx9).elim) hT hP hD hS (Nat.le_of_ble_eq_true rfl) (Nat.le_of_ble_eq_true rfl) (⟨by rw [hb]; decide, by rw [hb]; rfl, rfl⟩)
  · obtain ⟨⟨rfl, rfl⟩, ht_8⟩ := hq_
    refine zn_st (st2 := []) rfl ?_
    obtain ⟨i, hi1, hi, rfl⟩ := zk_in_of ht_8 (by decide) (by decide)
    refine lv_aload_n hx hb dX2_addPaper_11 rfl (lv_at hl 0 rfl) ?_
    refine va_get (D := zk_D s0) (ci := 2) (C := RX2) (T := TX2) (N := 15) (ref := "InkPrintery$State") hx hb fx.2.2.2.2.1 in_X2 fx.2.2.2.1 hK hP 0 rfl rfl 3 (by decide) (fx.2.2.2.2.1 _ q183) (fun _ h9 => h9) (v := .int (nI (σ 2))) rfl dX2_addPaper_12 ?_
    refine lv_iload_n hx hb dX2_addPaper_15 rfl (lv_at hl 1 rfl) ?_
    refine zn_iadd hx hb dX2_addPaper_16 ?_
    refine lv_sipush (v := nI (9999)) hx hb dX2_addPaper_17 (by decide) ?_
    refine zn_icmp_gt (tgt := 27) hx hb dX2_addPaper_20 (by decide) (by omega) (by omega) (fun c_20 => ?_) (fun c_20 => ?_)
    · refine lv_iconst (v := nI (0)) hx hb dX2_addPaper_27 rfl ?_
      refine zn_st (st2 := [.int (nI (Bool.toNat (decide (σ 2 + i ≤ 9999))))]) (by rw [decide_eq_false (by omega)]; rfl) ?_
      refine zk_callSNx fx (host := "InkPrintery") (cc_checkState l s0 b hl0 (decide (σ 2 + i ≤ 9999))) (lw_meth q1311) q84 q1309 q1310 ⟨by decide, by decide, (show (parseMethodDescriptor yX1_checkState.desc).map (fun d => d.parameters.length) = some 1 by decide +kernel)⟩ ⟨zk_le hR.1 rfl, zk_le hR.2.1 rfl⟩ ⟨zk_le hR.2.2.1 rfl, zk_le hR.2.2.2 rfl⟩ hP hD hS (wc := []) (wr := zs_W s0 k E σ) (List.Perm.refl _) hl.1 rfl (Nat.le_of_ble_eq_true rfl) dX2_addPaper_28 (fun E_ q_ w_ H locs hq_ hT hP hD hS => ?_) (fun v_ w_ H locs hq_ hP hD hS => ?_)
      · obtain ⟨⟨rfl, rfl⟩, ht_28⟩ := hq_
        have hP : va_P (zk_D s0) zk_Cl (zs_W s0 k E σ) H := hP
        have hD : va_D A (zs_W s0 k E σ) := hD
        have hb : zp_buy σ (nI i) = 2 := by unfold zp_buy; rw [if_pos ht_8, nI_clamp (by omega), if_pos (by have := of_decide_eq_false ht_28; omega)]
        exact zk_outx fx eQ (fun x9 hx9 => (hno x9 hx9).elim) hT hP hD hS (Nat.le_of_ble_eq_true rfl) (Nat.le_of_ble_eq_true rfl) (⟨by rw [hb]; decide, by rw [hb]; rfl, rfl⟩)
      · obtain ⟨⟨rfl, rfl⟩, ht_28⟩ := hq_
        refine zn_st (st2 := []) rfl ?_
        have ho : zp_buy σ (nI i) = 0 := by unfold zp_buy; rw [if_pos ht_8, nI_clamp (by omega), if_neg (by have := of_decide_eq_true ht_28; omega)]
        have ho2 : zo_addPaper σ (nI i) = (0, σ 2 + i, zp_buys σ i) := by unfold zo_addPaper; rw [if_pos ho, nI_clamp (by omega)]
        refine lv_aload_n hx hb dX2_addPaper_31 rfl (lv_at hl 0 rfl) ?_
        refine lv_dup hx hb dX2_addPaper_32 rfl ?_
        refine va_get (D := zk_D s0) (ci := 2) (C := RX2) (T := TX2) (N := 15) (ref := "InkPrintery$State") hx hb fx.2.2.2.2.1 in_X2 fx.2.2.2.1 hK hP 0 rfl rfl 3 (by decide) (fx.2.2.2.2.1 _ q183) (fun _ h9 => h9) (v := .int (nI (σ 2))) rfl dX2_addPaper_33 ?_
        refine lv_iload_n hx hb dX2_addPaper_36 rfl (lv_at hl 1 rfl) ?_
        refine zn_iadd hx hb dX2_addPaper_37 ?_
        refine va_put (D := zk_D s0) (ci := 2) (C := RX2) (T := TX2) (N := 15) (ref := "InkPrintery$State") hx hb fx.2.2.2.2.1 in_X2 tyX2 tyX2_ok nmX2 fx.2.2.2.1 hK hP hD hS 0 rfl rfl 3 (by decide) (fx.2.2.2.2.1 _ q183) (fun _ h9 => h9) rfl (v := .int (nI ((σ 2) + i))) (tyX2_ok 3 (by decide)) rfl rfl (Nat.le_of_ble_eq_true rfl) dX2_addPaper_38 (fun H locs hP hD hS => ?_)
        have hP : va_P (zk_D s0) zk_Cl (([(k 0, .inr (2, [.ref (k 1), .ref (k 2), .int (nI (σ 3)), .int (nI ((σ 2) + i)), .ref (k 3), .int (nI (σ 0)), .int (nI (σ 4)), .int (nI (σ 5)), .int (nI (σ 6)), .int (nI (σ 7)), .long (lN (σ 18)), .ref (k 4), .ref (k 5), .int (nI (σ 1)), .ref (k 6)])), (k 1, zk_I s0 10 (fun i => σ (8 + i))), (k 2, zk_Q_ s0 3 10 (fun i => some (k (10 + i)))), (k 3, zk_Q_ s0 4 7 E), (k 4, zk_I s0 12 (fun i => σ (48 + 2 * i))), (k 5, zk_I s0 12 (fun i => σ (48 + 2 * i + 1))), (k 6, .inr (3, []))] ++ zk_bl 10 (zs_f k) ++ zk_bl (σ 0) (zs_e E σ) : va_W)) H := hP
        have hD : va_D A (([(k 0, .inr (2, [.ref (k 1), .ref (k 2), .int (nI (σ 3)), .int (nI ((σ 2) + i)), .ref (k 3), .int (nI (σ 0)), .int (nI (σ 4)), .int (nI (σ 5)), .int (nI (σ 6)), .int (nI (σ 7)), .long (lN (σ 18)), .ref (k 4), .ref (k 5), .int (nI (σ 1)), .ref (k 6)])), (k 1, zk_I s0 10 (fun i => σ (8 + i))), (k 2, zk_Q_ s0 3 10 (fun i => some (k (10 + i)))), (k 3, zk_Q_ s0 4 7 E), (k 4, zk_I s0 12 (fun i => σ (48 + 2 * i))), (k 5, zk_I s0 12 (fun i => σ (48 + 2 * i + 1))), (k 6, .inr (3, []))] ++ zk_bl 10 (zs_f k) ++ zk_bl (σ 0) (zs_e E σ) : va_W)) := hD
        refine lv_aload_n hx hb dX2_addPaper_41 rfl (lv_at hl 0 rfl) ?_
        refine va_get (D := zk_D s0) (ci := 2) (C := RX2) (T := TX2) (N := 15) (ref := "InkPrintery$State") hx hb fx.2.2.2.2.1 in_X2 fx.2.2.2.1 hK hP 0 rfl rfl 3 (by decide) (fx.2.2.2.2.1 _ q183) (fun _ h9 => h9) (v := .int (nI ((σ 2) + i))) rfl dX2_addPaper_42 ?_
        have hP : va_P (zk_D s0) zk_Cl (zs_W s0 k E ((zp_buys σ i))) H := zs_Pcg (fun i _ => (zk_up_ne (by omega)).symm) (fun i _ => (zk_up_ne (by omega)).symm) (fun i _ => (zk_up_ne (by omega)).symm) (zs_blk (σ := σ) (τ := zp_buys σ i) rfl ok0 (fun j h1 h2 => (zk_up_ne (show j ≠ 2 by omega)).symm)) (rfl) hP
        have hD : va_D A (zs_W s0 k E ((zp_buys σ i))) := zs_Dcg (zs_blk (σ := σ) (τ := zp_buys σ i) rfl ok0 (fun j h1 h2 => (zk_up_ne (show j ≠ 2 by omega)).symm)) hD
        subst eQ
        refine vx_ret ?_
        exact zk_reti (v := nI ((σ 2) + i)) fx rfl rfl (rfl) hP hD hS (Nat.le_of_ble_eq_true rfl) (Nat.le_of_ble_eq_true rfl) dX2_addPaper_45 (⟨ho, by rw [ho2], by rw [ho2]⟩)
    · refine lv_iconst (v := nI (1)) hx hb dX2_addPaper_23 rfl ?_
      refine lv_goto (tgt := 28) hx hb dX2_addPaper_24 (by decide) ?_
      refine zn_st (st2 := [.int (nI (Bool.toNat (decide (σ 2 + i ≤ 9999))))]) (by rw [decide_eq_true (by omega)]; rfl) ?_
      refine zk_callSNx fx (host := "InkPrintery") (cc_checkState l s0 b hl0 (decide (σ 2 + i ≤ 9999))) (lw_meth q1311) q84 q1309 q1310 ⟨by decide, by decide, (show (parseMethodDescriptor yX1_checkState.desc).map (fun d => d.parameters.length) = some 1 by decide +kernel)⟩ ⟨zk_le hR.1 rfl, zk_le hR.2.1 rfl⟩ ⟨zk_le hR.2.2.1 rfl, zk_le hR.2.2.2 rfl⟩ hP hD hS (wc := []) (wr := zs_W s0 k E σ) (List.Perm.refl _) hl.1 rfl (Nat.le_of_ble_eq_true rfl) dX2_addPaper_28 (fun E_ q_ w_ H locs hq_ hT hP hD hS => ?_) (fun v_ w_ H locs hq_ hP hD hS => ?_)
      · obtain ⟨⟨rfl, rfl⟩, ht_28⟩ := hq_
        have hP : va_P (zk_D s0) zk_Cl (zs_W s0 k E σ) H := hP
        have hD : va_D A (zs_W s0 k E σ) := hD
        have hb : zp_buy σ (nI i) = 2 := by unfold zp_buy; rw [if_pos ht_8, nI_clamp (by omega), if_pos (by have := of_decide_eq_false ht_28; omega)]
        exact zk_outx fx eQ (fun x9 hx9 => (hno x9 hx9).elim) hT hP hD hS (Nat.le_of_ble_eq_true rfl) (Nat.le_of_ble_eq_true rfl) (⟨by rw [hb]; decide, by rw [hb]; rfl, rfl⟩)
      · obtain ⟨⟨rfl, rfl⟩, ht_28⟩ := hq_
        refine zn_st (st2 := []) rfl ?_
        have ho : zp_buy σ (nI i) = 0 := by unfold zp_buy; rw [if_pos ht_8, nI_clamp (by omega), if_neg (by have := of_decide_eq_true ht_28; omega)]
        have ho2 : zo_addPaper σ (nI i) = (0, σ 2 + i, zp_buys σ i) := by unfold zo_addPaper; rw [if_pos ho, nI_clamp (by omega)]
        refine lv_aload_n hx hb dX2_addPaper_31 rfl (lv_at hl 0 rfl) ?_
        refine lv_dup hx hb dX2_addPaper_32 rfl ?_
        refine va_get (D := zk_D s0) (ci := 2) (C := RX2) (T := TX2) (N := 15) (ref := "InkPrintery$State") hx hb fx.2.2.2.2.1 in_X2 fx.2.2.2.1 hK hP 0 rfl rfl 3 (by decide) (fx.2.2.2.2.1 _ q183) (fun _ h9 => h9) (v := .int (nI (σ 2))) rfl dX2_addPaper_33 ?_
        refine lv_iload_n hx hb dX2_addPaper_36 rfl (lv_at hl 1 rfl) ?_
        refine zn_iadd hx hb dX2_addPaper_37 ?_
        refine va_put (D := zk_D s0) (ci := 2) (C := RX2) (T := TX2) (N := 15) (ref := "InkPrintery$State") hx hb fx.2.2.2.2.1 in_X2 tyX2 tyX2_ok nmX2 fx.2.2.2.1 hK hP hD hS 0 rfl rfl 3 (by decide) (fx.2.2.2.2.1 _ q183) (fun _ h9 => h9) rfl (v := .int (nI ((σ 2) + i))) (tyX2_ok 3 (by decide)) rfl rfl (Nat.le_of_ble_eq_true rfl) dX2_addPaper_38 (fun H locs hP hD hS => ?_)
        have hP : va_P (zk_D s0) zk_Cl (([(k 0, .inr (2, [.ref (k 1), .ref (k 2), .int (nI (σ 3)), .int (nI ((σ 2) + i)), .ref (k 3), .int (nI (σ 0)), .int (nI (σ 4)), .int (nI (σ 5)), .int (nI (σ 6)), .int (nI (σ 7)), .long (lN (σ 18)), .ref (k 4), .ref (k 5), .int (nI (σ 1)), .ref (k 6)])), (k 1, zk_I s0 10 (fun i => σ (8 + i))), (k 2, zk_Q_ s0 3 10 (fun i => some (k (10 + i)))), (k 3, zk_Q_ s0 4 7 E), (k 4, zk_I s0 12 (fun i => σ (48 + 2 * i))), (k 5, zk_I s0 12 (fun i => σ (48 + 2 * i + 1))), (k 6, .inr (3, []))] ++ zk_bl 10 (zs_f k) ++ zk_bl (σ 0) (zs_e E σ) : va_W)) H := hP
        have hD : va_D A (([(k 0, .inr (2, [.ref (k 1), .ref (k 2), .int (nI (σ 3)), .int (nI ((σ 2) + i)), .ref (k 3), .int (nI (σ 0)), .int (nI (σ 4)), .int (nI (σ 5)), .int (nI (σ 6)), .int (nI (σ 7)), .long (lN (σ 18)), .ref (k 4), .ref (k 5), .int (nI (σ 1)), .ref (k 6)])), (k 1, zk_I s0 10 (fun i => σ (8 + i))), (k 2, zk_Q_ s0 3 10 (fun i => some (k (10 + i)))), (k 3, zk_Q_ s0 4 7 E), (k 4, zk_I s0 12 (fun i => σ (48 + 2 * i))), (k 5, zk_I s0 12 (fun i => σ (48 + 2 * i + 1))), (k 6, .inr (3, []))] ++ zk_bl 10 (zs_f k) ++ zk_bl (σ 0) (zs_e E σ) : va_W)) := hD
        refine lv_aload_n hx hb dX2_addPaper_41 rfl (lv_at hl 0 rfl) ?_
        refine va_get (D := zk_D s0) (ci := 2) (C := RX2) (T := TX2) (N := 15) (ref := "InkPrintery$State") hx hb fx.2.2.2.2.1 in_X2 fx.2.2.2.1 hK hP 0 rfl rfl 3 (by decide) (fx.2.2.2.2.1 _ q183) (fun _ h9 => h9) (v := .int (nI ((σ 2) + i))) rfl dX2_addPaper_42 ?_
        have hP : va_P (zk_D s0) zk_Cl (zs_W s0 k E ((zp_buys σ i))) H := zs_Pcg (fun i _ => (zk_up_ne (by omega)).symm) (fun i _ => (zk_up_ne (by omega)).symm) (fun i _ => (zk_up_ne (by omega)).symm) (zs_blk (σ := σ) (τ := zp_buys σ i) rfl ok0 (fun j h1 h2 => (zk_up_ne (show j ≠ 2 by omega)).symm)) (rfl) hP
        have hD : va_D A (zs_W s0 k E ((zp_buys σ i))) := zs_Dcg (zs_blk (σ := σ) (τ := zp_buys σ i) rfl ok0 (fun j h1 h2 => (zk_up_ne (show j ≠ 2 by omega)).symm)) hD
        subst eQ
        refine vx_ret ?_
        exact zk_reti (v := nI ((σ 2) + i)) fx rfl rfl (rfl) hP hD hS (Nat.le_of_ble_eq_true rfl) (Nat.le_of_ble_eq_true rfl) dX2_addPaper_45 (⟨ho, by rw [ho2], by rw [ho2]⟩)
set_option maxHeartbeats 4000000 in
set_option maxRecDepth 100000 in
theorem cs_addInk (l : Launch) (s0 : State) (b : Nat) (hl0 : l.stackTraces = false) (k : Nat → Nat) (E : Nat → Option Nat) (σ : Nat → Nat) (x u : Int32) (ok : zp_Ok σ) : zk_Cx l s0 b yX2_addInk (ws_ yX2_addInk cX2_addInk 3 (some .int)) 7 101 2 12 [.ref (k 0), .int (x), .int (u)] (zs_W s0 k E σ) (fun r w => zp_pour σ x u = 0 ∧ r = some (.int (nI (zo_addInk σ x u).2.1)) ∧ w = zs_W s0 k E ((zo_addInk σ x u).2.2)) (fun E_ q_ w => zp_pour σ x u ≠ 0 ∧ E_ = (if zp_pour σ x u = 1 then "java/lang/IllegalArgumentException" else "java/lang/IllegalStateException") ∧ w = zs_W s0 k E σ) := by
  refine zk_mkx (by decide) rfl ?_
  intro p e s m below meth c A R args Q fx hR eQ hno hP hD hS ls hl
  have hx := fx.1
  have hb := fx.2.1
  have hK := fx.2.2.2.2.2.2.2.2.1.K
  have hl : lv_has ls 3 [(0, .ref (k 0)), (1, .int (x)), (2, .int (u))] := hl
  obtain ⟨ok0, ok1, ok2, ok3, ok4, ok5, ok6, okw, oke, okp⟩ := id ok
  refine lv_iload_n hx hb dX2_addInk_0 rfl (lv_at hl 1 rfl) ?_
  refine zk_callSN fx (host := "InkPrintery") (cc_isColour l s0 b (x)) (lw_meth q1296) q84 q1294 q1295 ⟨by decide, by decide, (show (parseMethodDescriptor yX1_isColour.desc).map (fun d => d.parameters.length) = some 1 by decide +kernel)⟩ ⟨zk_le hR.1 rfl, zk_le hR.2.1 rfl⟩ ⟨zk_le hR.2.2.1 rfl, zk_le hR.2.2.2 rfl⟩ hP hD hS (wc := []) (wr := zs_W s0 k E σ) (List.Perm.refl _) hl.1 rfl (Nat.le_of_ble_eq_true rfl) dX2_addInk_1 (fun v_ w_ H locs hq_ hP hD hS => ?_)
  obtain ⟨rfl, rfl⟩ := hq_
  refine zn_st (st2 := [.int (nI (Bool.toNat (zk_in x 0 9)))]) rfl ?_
  refine zb_if_eq (tgt := 22) hx hb dX2_addInk_4 (by decide) (fun c_4 => ?_) (fun c_4 => ?_)
  · refine lv_iconst (v := nI (0)) hx hb dX2_addInk_22 rfl ?_
    refine zk_callSNx fx (host := "InkPrintery") (cc_checkArgument l s0 b hl0 (false)) (lw_meth q1303) q84 q1301 q1302 ⟨by decide, by decide, (show (parseMethodDescriptor yX1_checkArgument.desc).map (fun d => d.parameters.length) = some 1 by decide +kernel)⟩ ⟨zk_le hR.1 rfl, zk_le hR.2.1 rfl⟩ ⟨zk_le hR.2.2.1 rfl, zk_le hR.2.2.2 rfl⟩ hP hD hS (wc := []) (wr := zs_W s0 k E σ) (List.Perm.refl _) hl.1 rfl (Nat.le_of_ble_eq_true rfl) dX2_addInk_23 (fun E_ q_ w_ H locs hq_ hT hP hD hS => ?_) (fun v_ w_ H locs hq_ hP hD hS => ?_)
    · obtain ⟨⟨rfl, rfl⟩, ht_23⟩ := hq_
      have hP : va_P (zk_D s0) zk_Cl (zs_W s0 k E σ) H := hP
      have hD : va_D A (zs_W s0 k E σ) := hD
      have hb : zp_pour σ x u = 1 := by unfold zp_pour; rw [if_neg (zb_nl c_4)]
      exact zk_outx fx eQ (fun x9 hx9 => (hno x9 hx9).elim) hT hP hD hS (Nat.le_of_ble_eq_true rfl) (Nat.le_of_ble_eq_true rfl) (⟨by rw [hb]; decide, by rw [hb]; rfl, rfl⟩)
    · obtain ⟨⟨rfl, rfl⟩, ht_23⟩ := hq_
      refine zn_st (st2 := []) rfl ?_
      cases ht_23
  · refine lv_iload_n hx hb dX2_addInk_7 rfl (lv_at hl 2 rfl) ?_
    refine lv_iconst (v := nI (1)) hx hb dX2_addInk_8 rfl ?_
    refine lv_sipush (v := nI (999)) hx hb dX2_addInk_9 (by decide) ?_
    refine zk_callSN fx (host := "InkPrintery") (cc_inRange l s0 b (u) (nI (1)) (nI (999))) (lw_meth q1299) q84 q1300 q1298 ⟨by decide, by decide, (show (parseMethodDescriptor yX1_inRange.desc).map (fun d => d.parameters.length) = some 3 by decide +kernel)⟩ ⟨zk_le hR.1 rfl, zk_le hR.2.1 rfl⟩ ⟨zk_le hR.2.2.1 rfl, zk_le hR.2.2.2 rfl⟩ hP hD hS (wc := []) (wr := zs_W s0 k E σ) (List.Perm.refl _) hl.1 rfl (Nat.le_of_ble_eq_true rfl) dX2_addInk_12 (fun v_ w_ H locs hq_ hP hD hS => ?_)
    obtain ⟨rfl, rfl⟩ := hq_
    refine zn_st (st2 := [.int (nI (Bool.toNat (zk_in u 1 999)))]) rfl ?_
    refine zb_if_eq (tgt := 22) hx hb dX2_addInk_15 (by decide) (fun c_15 => ?_) (fun c_15 => ?_)
    · refine lv_iconst (v := nI (0)) hx hb dX2_addInk_22 rfl ?_
      refine zk_callSNx fx (host := "InkPrintery") (cc_checkArgument l s0 b hl0 (false)) (lw_meth q1303) q84 q1301 q1302 ⟨by decide, by decide, (show (parseMethodDescriptor yX1_checkArgument.desc).map (fun d => d.parameters.length) = some 1 by decide +kernel)⟩ ⟨zk_le hR.1 rfl, zk_le hR.2.1 rfl⟩ ⟨zk_le hR.2.2.1 rfl, zk_le hR.2.2.2 rfl⟩ hP hD hS (wc := []) (wr := zs_W s0 k E σ) (List.Perm.refl _) hl.1 rfl (Nat.le_of_ble_eq_true rfl) dX2_addInk_23 (fun E_ q_ w_ H locs hq_ hT hP hD hS => ?_) (fun v_ w_ H locs hq_ hP hD hS => ?_)
      · obtain ⟨⟨rfl, rfl⟩, ht_23⟩ := hq_
        have hP : va_P (zk_D s0) zk_Cl (zs_W s0 k E σ) H := hP
        have hD : va_D A (zs_W s0 k E σ) := hD
        have hb : zp_pour σ x u = 1 := by unfold zp_pour; rw [if_neg (zb_nr c_15)]
        exact zk_outx fx eQ (fun x9 hx9 => (hno x9 hx9).elim) hT hP hD hS (Nat.le_of_ble_eq_true rfl) (Nat.le_of_ble_eq_true rfl) (⟨by rw [hb]; decide, by rw [hb]; rfl, rfl⟩)
      · obtain ⟨⟨rfl, rfl⟩, ht_23⟩ := hq_
        refine zn_st (st2 := []) rfl ?_
        cases ht_23
    · refine lv_iconst (v := nI (1)) hx hb dX2_addInk_18 rfl ?_
      refine lv_goto (tgt := 23) hx hb dX2_addInk_19 (by decide) ?_
      refine zk_callSNx fx (host := "InkPrintery") (cc_checkArgument l s0 b hl0 (true)) (lw_meth q1303) q84 q1301 q1302 ⟨by decide, by decide, (show (parseMethodDescriptor yX1_checkArgument.desc).map (fun d => d.parameters.length) = some 1 by decide +kernel)⟩ ⟨zk_le hR.1 rfl, zk_le hR.2.1 rfl⟩ ⟨zk_le hR.2.2.1 rfl, zk_le hR.2.2.2 rfl⟩ hP hD hS (wc := []) (wr := zs_W s0 k E σ) (List.Perm.refl _) hl.1 rfl (Nat.le_of_ble_eq_true rfl) dX2_addInk_23 (fun E_ q_ w_ H locs hq_ hT hP hD hS => ?_) (fun v_ w_ H locs hq_ hP hD hS => ?_)
      · obtain ⟨⟨rfl, rfl⟩, ht_23⟩ := hq_
        have hP : va_P (zk_D s0) zk_Cl (zs_W s0 k E σ) H := hP
        have hD : va_D A (zs_W s0 k E σ) := hD
        cases ht_23
      · obtain ⟨⟨rfl, rfl⟩, ht_23⟩ := hq_
        refine zn_st (st2 := []) rfl ?_
        obtain ⟨i, hi1, hi, rfl⟩ := zk_in_of c_4 (by decide) (by decide)
        obtain ⟨j, hj1, hj, rfl⟩ := zk_in_of c_15 (by decide) (by decide)
        have hw := okw i (by omega)
        refine lv_aload_n hx hb dX2_addInk_26 rfl (lv_at hl 0 rfl) ?_
        refine va_get (D := zk_D s0) (ci := 2) (C := RX2) (T := TX2) (N := 15) (ref := "InkPrintery$State") hx hb fx.2.2.2.2.1 in_X2 fx.2.2.2.1 hK hP 0 rfl rfl 0 (by decide) (fx.2.2.2.2.1 _ q178) (fun _ h9 => h9) (v := .ref (k 1)) rfl dX2_addInk_27 ?_
        refine lv_iload_n hx hb dX2_addInk_30 rfl (lv_at hl 1 rfl) ?_
        refine zn_ald hx hb hK hP 1 (n := 10) (g := fun i => σ (8 + i)) rfl (i := i) (by omega) (by decide) dX2_addInk_31 ?_
        refine zn_top (y := nI (σ (8 + i))) (rfl) ?_
        refine lv_iload_n hx hb dX2_addInk_32 rfl (lv_at hl 2 rfl) ?_
        refine zn_iadd hx hb dX2_addInk_33 ?_
        refine lv_sipush (v := nI (999)) hx hb dX2_addInk_34 (by decide) ?_
        refine zn_icmp_gt (tgt := 44) hx hb dX2_addInk_37 (by decide) (by omega) (by omega) (fun c_37 => ?_) (fun c_37 => ?_)
        · refine lv_iconst (v := nI (0)) hx hb dX2_addInk_44 rfl ?_
          refine zk_callSNx fx (host := "InkPrintery") (cc_checkState l s0 b hl0 (false)) (lw_meth q1311) q84 q1309 q1310 ⟨by decide, by decide, (show (parseMethodDescriptor yX1_checkState.desc).map (fun d => d.parameters.length) = some 1 by decide +kernel)⟩ ⟨zk_le hR.1 rfl, zk_le hR.2.1 rfl⟩ ⟨zk_le hR.2.2.1 rfl, zk_le hR.2.2.2 rfl⟩ hP hD hS (wc := []) (wr := zs_W s0 k E σ) (List.Perm.refl _) hl.1 rfl (Nat.le_of_ble_eq_true rfl) dX2_addInk_45 (fun E_ q_ w_ H locs hq_ hT hP hD hS => ?_) (fun v_ w_ H locs hq_ hP hD hS => ?_)
          · obtain ⟨⟨rfl, rfl⟩, ht_45⟩ := hq_
            have hP : va_P (zk_D s0) zk_Cl (zs_W s0 k E σ) H := hP
            have hD : va_D A (zs_W s0 k E σ) := hD
            have hb : zp_pour σ (nI i) (nI j) = 2 := by unfold zp_pour; rw [if_pos (by rw [c_4, c_15]; rfl), nI_clamp (by omega), nI_clamp (by omega), if_pos (by omega)]
            exact zk_outx fx eQ (fun x9 hx9 => (hno x9 hx9).elim) hT hP hD hS (Nat.le_of_ble_eq_true rfl) (Nat.le_of_ble_eq_true rfl) (⟨by rw [hb]; decide, by rw [hb]; rfl, rfl⟩)
          · obtain ⟨⟨rfl, rfl⟩, ht_45⟩ := hq_
            refine zn_st (st2 := []) rfl ?_
            cases ht_45
        · refine lv_iconst (v := nI (1)) hx hb dX2_addInk_40 rfl ?_
          refine lv_goto (tgt := 45) hx hb dX2_addInk_41 (by decide) ?_
          refine zk_callSNx fx (host := "InkPrintery") (cc_checkState l s0 b hl0 (true)) (lw_meth q1311) q84 q1309 q1310 ⟨by decide, by decide, (show (parseMethodDescriptor yX1_checkState.desc).map (fun d => d.parameters.length) = some 1 by decide +kernel)⟩ ⟨zk_le hR.1 rfl, zk_le hR.2.1 rfl⟩ ⟨zk_le hR.2.2.1 rfl, zk_le hR.2.2.2 rfl⟩ hP hD hS (wc := []) (wr := zs_W s0 k E σ) (List.Perm.refl _) hl.1 rfl (Nat.le_of_ble_eq_true rfl) dX2_addInk_45 (fun E_ q_ w_ H locs hq_ hT hP hD hS => ?_) (fun v_ w_ H locs hq_ hP hD hS => ?_)
          · obtain ⟨⟨rfl, rfl⟩, ht_45⟩ := hq_
            have hP : va_P (zk_D s0) zk_Cl (zs_W s0 k E σ) H := hP
            have hD : va_D A (zs_W s0 k E σ) := hD
            cases ht_45
          · obtain ⟨⟨rfl, rfl⟩, ht_45⟩ := hq_
            refine zn_st (st2 := []) rfl ?_
            have ho : zp_pour σ (nI i) (nI j) = 0 := by unfold zp_pour; rw [if_pos (by rw [c_4, c_15]; rfl), nI_clamp (by omega), nI_clamp (by omega), if_neg (by omega)]
            have ho2 : zo_addInk σ (nI i) (nI j) = (0, σ (8 + i) + j, zp_pours σ i j) := by unfold zo_addInk; rw [if_pos ho, nI_clamp (by omega), nI_clamp (by omega)]
            refine lv_aload_n hx hb dX2_addInk_48 rfl (lv_at hl 0 rfl) ?_
            refine va_get (D := zk_D s0) (ci := 2) (C := RX2) (T := TX2) (N := 15) (ref := "InkPrintery$State") hx hb fx.2.2.2.2.1 in_X2 fx.2.2.2.1 hK hP 0 rfl rfl 0 (by decide) (fx.2.2.2.2.1 _ q178) (fun _ h9 => h9) (v := .ref (k 1)) rfl dX2_addInk_49 ?_
            refine lv_iload_n hx hb dX2_addInk_52 rfl (lv_at hl 1 rfl) ?_
            refine lv_dup2_11 hx hb dX2_addInk_53 rfl rfl ?_
            refine zn_ald hx hb hK hP 1 (n := 10) (g := fun i => σ (8 + i)) rfl (i := i) (by omega) (by decide) dX2_addInk_54 ?_
            refine zn_top (y := nI (σ (8 + i))) (rfl) ?_
            refine lv_iload_n hx hb dX2_addInk_55 rfl (lv_at hl 2 rfl) ?_
            refine zn_iadd hx hb dX2_addInk_56 ?_
            refine zn_ast hx hb hK hP hD hS 1 (n := 10) (g := fun i => σ (8 + i)) rfl (i := i) (x := (σ (8 + i)) + j) (by omega) (by decide) dX2_addInk_57 (ws2 := ([(k 0, .inr (2, [.ref (k 1), .ref (k 2), .int (nI (σ 3)), .int (nI (σ 2)), .ref (k 3), .int (nI (σ 0)), .int (nI (σ 4)), .int (nI (σ 5)), .int (nI (σ 6)), .int (nI (σ 7)), .long (lN (σ 18)), .ref (k 4), .ref (k 5), .int (nI (σ 1)), .ref (k 6)])), (k 1, zk_I s0 10 (va_up (fun i => σ (8 + i)) i ((σ (8 + i)) + j))), (k 2, zk_Q_ s0 3 10 (fun i => some (k (10 + i)))), (k 3, zk_Q_ s0 4 7 E), (k 4, zk_I s0 12 (fun i => σ (48 + 2 * i))), (k 5, zk_I s0 12 (fun i => σ (48 + 2 * i + 1))), (k 6, .inr (3, []))] ++ zk_bl 10 (zs_f k) ++ zk_bl (σ 0) (zs_e E σ) : va_W)) rfl (fun H locs hP hD hS => ?_)
            refine lv_aload_n hx hb dX2_addInk_58 rfl (lv_at hl 0 rfl) ?_
            refine lv_dup hx hb dX2_addInk_59 rfl ?_
            refine va_get (D := zk_D s0) (ci := 2) (C := RX2) (T := TX2) (N := 15) (ref := "InkPrintery$State") hx hb fx.2.2.2.2.1 in_X2 fx.2.2.2.1 hK hP 0 rfl rfl 8 (by decide) (fx.2.2.2.2.1 _ q195) (fun _ h9 => h9) (v := .int (nI (σ 6))) rfl dX2_addInk_60 ?_
            refine lv_iload_n hx hb dX2_addInk_63 rfl (lv_at hl 2 rfl) ?_
            refine zn_iadd hx hb dX2_addInk_64 ?_
            refine va_put (D := zk_D s0) (ci := 2) (C := RX2) (T := TX2) (N := 15) (ref := "InkPrintery$State") hx hb fx.2.2.2.2.1 in_X2 tyX2 tyX2_ok nmX2 fx.2.2.2.1 hK hP hD hS 0 rfl rfl 8 (by decide) (fx.2.2.2.2.1 _ q195) (fun _ h9 => h9) rfl (v := .int (nI ((σ 6) + j))) (tyX2_ok 8 (by decide)) rfl rfl (Nat.le_of_ble_eq_true rfl) dX2_addInk_65 (fun H locs hP hD hS => ?_)
            have hP : va_P (zk_D s0) zk_Cl (([(k 0, .inr (2, [.ref (k 1), .ref (k 2), .int (nI (σ 3)), .int (nI (σ 2)), .ref (k 3), .int (nI (σ 0)), .int (nI (σ 4)), .int (nI (σ 5)), .int (nI ((σ 6) + j)), .int (nI (σ 7)), .long (lN (σ 18)), .ref (k 4), .ref (k 5), .int (nI (σ 1)), .ref (k 6)])), (k 1, zk_I s0 10 (va_up (fun i => σ (8 + i)) i ((σ (8 + i)) + j))), (k 2, zk_Q_ s0 3 10 (fun i => some (k (10 + i)))), (k 3, zk_Q_ s0 4 7 E), (k 4, zk_I s0 12 (fun i => σ (48 + 2 * i))), (k 5, zk_I s0 12 (fun i => σ (48 + 2 * i + 1))), (k 6, .inr (3, []))] ++ zk_bl 10 (zs_f k) ++ zk_bl (σ 0) (zs_e E σ) : va_W)) H := hP
            have hD : va_D A (([(k 0, .inr (2, [.ref (k 1), .ref (k 2), .int (nI (σ 3)), .int (nI (σ 2)), .ref (k 3), .int (nI (σ 0)), .int (nI (σ 4)), .int (nI (σ 5)), .int (nI ((σ 6) + j)), .int (nI (σ 7)), .long (lN (σ 18)), .ref (k 4), .ref (k 5), .int (nI (σ 1)), .ref (k 6)])), (k 1, zk_I s0 10 (va_up (fun i => σ (8 + i)) i ((σ (8 + i)) + j))), (k 2, zk_Q_ s0 3 10 (fun i => some (k (10 + i)))), (k 3, zk_Q_ s0 4 7 E), (k 4, zk_I s0 12 (fun i => σ (48 + 2 * i))), (k 5, zk_I s0 12 (fun i => σ (48 + 2 * i + 1))), (k 6, .inr (3, []))] ++ zk_bl 10 (zs_f k) ++ zk_bl (σ 0) (zs_e E σ) : va_W)) := hD
            refine lv_aload_n hx hb dX2_addInk_68 rfl (lv_at hl 0 rfl) ?_
            refine va_get (D := zk_D s0) (ci := 2) (C := RX2) (T := TX2) (N := 15) (ref := "InkPrintery$State") hx hb fx.2.2.2.2.1 in_X2 fx.2.2.2.1 hK hP 0 rfl rfl 0 (by decide) (fx.2.2.2.2.1 _ q178) (fun _ h9 => h9) (v := .ref (k 1)) rfl dX2_addInk_69 ?_
            refine lv_iload_n hx hb dX2_addInk_72 rfl (lv_at hl 1 rfl) ?_
            refine zn_ald hx hb hK hP 1 (n := 10) (g := va_up (fun i => σ (8 + i)) i ((σ (8 + i)) + j)) rfl (i := i) (by omega) (by decide) dX2_addInk_73 ?_
            refine zn_top (y := nI (σ (8 + i) + j)) (by rw [zk_up_eq]) ?_
            have hP : va_P (zk_D s0) zk_Cl (zs_W s0 k E ((zp_pours σ i j))) H := zs_Pcg (F := zs_fs k (va_up σ 6 (σ 6 + j))) (fun n hn => zs_pours_w n) (fun n hn => (zs_pours_o (by omega) (by omega)).symm) (fun n hn => (zs_pours_o (by omega) (by omega)).symm) (zs_blk (σ := σ) (τ := zp_pours σ i j) (zs_pours_o (by omega) (by omega)) ok0 (fun z h1 h2 => (zs_pours_o (by omega) (by omega)).symm)) (zs_fs_cg (zs_pours_f (by omega))) hP
            have hD : va_D A (zs_W s0 k E ((zp_pours σ i j))) := zs_Dcg (zs_blk (σ := σ) (τ := zp_pours σ i j) (zs_pours_o (by omega) (by omega)) ok0 (fun z h1 h2 => (zs_pours_o (by omega) (by omega)).symm)) hD
            subst eQ
            refine vx_ret ?_
            exact zk_reti (v := nI (σ (8 + i) + j)) fx rfl rfl (rfl) hP hD hS (Nat.le_of_ble_eq_true rfl) (Nat.le_of_ble_eq_true rfl) dX2_addInk_74 (⟨ho, by rw [ho2], by rw [ho2]⟩)
