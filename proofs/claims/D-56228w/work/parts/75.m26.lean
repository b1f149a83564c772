/-! THE STATE, part 5 (printed by prog/m26.py) -/
set_option maxRecDepth 100000
set_option maxHeartbeats 4000000 in
set_option maxRecDepth 100000 in
theorem cs_checkedEdition (l : Launch) (s0 : State) (b : Nat) (hl0 : l.stackTraces = false) (k : Nat → Nat) (E : Nat → Option Nat) (σ : Nat → Nat) (x : Int32) (ok : zp_Ok σ) (hE : zs_En E σ) : zk_Cx l s0 b yX2_checkedEdition (ws_ yX2_checkedEdition cX2_checkedEdition 2 (some (.object "InkPrintery$Edition"))) 7 101 1 6 [.ref (k 0), .int (x)] (zs_W s0 k E σ) (fun r w => zk_ix x (σ 0) = true ∧ r = some (.ref ((E x.toNatClampNeg).getD 0)) ∧ w = zs_W s0 k E σ) (fun E_ q_ w => zk_ix x (σ 0) = false ∧ E_ = "java/lang/IndexOutOfBoundsException" ∧ w = zs_W s0 k E σ) := by
  refine zk_mkx (by decide) rfl ?_
  intro p e s m below meth c A R args Q fx hR eQ hno hP hD hS ls hl
  have hx := fx.1
  have hb := fx.2.1
  have hK := fx.2.2.2.2.2.2.2.2.1.K
  have hl : lv_has ls 2 [(0, .ref (k 0)), (1, .int (x))] := hl
  obtain ⟨ok0, ok1, ok2, ok3, ok4, ok5, ok6, okw, oke, okp⟩ := id ok
  refine lv_iload_n hx hb dX2_checkedEdition_0 rfl (lv_at hl 1 rfl) ?_
  refine lv_iconst (v := nI (0)) hx hb dX2_checkedEdition_1 rfl ?_
  refine lv_aload_n hx hb dX2_checkedEdition_2 rfl (lv_at hl 0 rfl) ?_
  refine va_get (D := zk_D s0) (ci := 2) (C := RX2) (T := TX2) (N := 15) (ref := "InkPrintery$State") hx hb fx.2.2.2.2.1 in_X2 fx.2.2.2.1 hK hP 0 rfl rfl 5 (by decide) (fx.2.2.2.2.1 _ q188) (fun _ h9 => h9) (v := .int (nI (σ 0))) rfl dX2_checkedEdition_3 ?_
  refine lv_iconst (v := nI (1)) hx hb dX2_checkedEdition_6 rfl ?_
  refine lv_isub hx hb dX2_checkedEdition_7 ?_
  refine zk_callSN fx (host := "InkPrintery") (cc_inRange l s0 b (x) (nI (0)) ((nI (σ 0)) - (nI (1)))) (lw_meth q1299) q84 q1300 q1298 ⟨by decide, by decide, (show (parseMethodDescriptor yX1_inRange.desc).map (fun d => d.parameters.length) = some 3 by decide +kernel)⟩ ⟨zk_le hR.1 rfl, zk_le hR.2.1 rfl⟩ ⟨zk_le hR.2.2.1 rfl, zk_le hR.2.2.2 rfl⟩ hP hD hS (wc := []) (wr := zs_W s0 k E σ) (List.Perm.refl _) hl.1 rfl (Nat.le_of_ble_eq_true rfl) dX2_checkedEdition_8 (fun v_ w_ H locs hq_ hP hD hS => ?_)
  obtain ⟨rfl, rfl⟩ := hq_
  refine zn_st (st2 := [.int (nI (Bool.toNat (decide (nI (0) ≤ x ∧ x ≤ (nI (σ 0)) - (nI (1))))))]) rfl ?_
  refine zn_top (y := nI (Bool.toNat (zk_ix x (σ 0)))) (by rw [zk_ix_last (by omega)]) ?_
  refine zk_callSNx fx (host := "InkPrintery") (cc_checkIndex l s0 b hl0 (zk_ix x (σ 0))) (lw_meth q1414) q84 q1412 q1413 ⟨by decide, by decide, (show (parseMethodDescriptor yX1_checkIndex.desc).map (fun d => d.parameters.length) = some 1 by decide +kernel)⟩ ⟨zk_le hR.1 rfl, zk_le hR.2.1 rfl⟩ ⟨zk_le hR.2.2.1 rfl, zk_le hR.2.2.2 rfl⟩ hP hD hS (wc := []) (wr := zs_W s0 k E σ) (List.Perm.refl _) hl.1 rfl (Nat.le_of_ble_eq_true rfl) dX2_checkedEdition_11 (fun E_ q_ w_ H locs hq_ hT hP hD hS => ?_) (fun v_ w_ H locs hq_ hP hD hS => ?_)
  · obtain ⟨⟨rfl, rfl⟩, ht_11⟩ := hq_
    have hP : va_P (zk_D s0) zk_Cl (zs_W s0 k E σ) H := hP
    have hD : va_D A (zs_W s0 k E σ) := hD
    exact zk_outx fx eQ (fun x9 hx9 => (hno x9 hx9).elim) hT hP hD hS (Nat.le_of_ble_eq_true rfl) (Nat.le_of_ble_eq_true rfl) (⟨ht_11, rfl, rfl⟩)
  · obtain ⟨⟨rfl, rfl⟩, ht_11⟩ := hq_
    refine zn_st (st2 := []) rfl ?_
    obtain ⟨i, hi, rfl⟩ := zk_ix_of ht_11 (by omega)
    refine lv_aload_n hx hb dX2_checkedEdition_14 rfl (lv_at hl 0 rfl) ?_
    refine va_get (D := zk_D s0) (ci := 2) (C := RX2) (T := TX2) (N := 15) (ref := "InkPrintery$State") hx hb fx.2.2.2.2.1 in_X2 fx.2.2.2.1 hK hP 0 rfl rfl 4 (by decide) (fx.2.2.2.2.1 _ q185) (fun _ h9 => h9) (v := .ref (k 3)) rfl dX2_checkedEdition_15 ?_
    refine lv_iload_n hx hb dX2_checkedEdition_18 rfl (lv_at hl 1 rfl) ?_
    refine zn_aldq hx hb hK hP 3 4 (n := 7) (f := E) rfl rfl (i := i) (by omega) (by decide) dX2_checkedEdition_19 ?_
    refine zn_top9 (y := .ref ((E i).getD 0)) (zs_rf (hE i hi)) ?_
    subst eQ
    refine vx_ret ?_
    exact zk_reta fx rfl rfl (Or.inl ⟨_, rfl⟩) hP hD hS (Nat.le_of_ble_eq_true rfl) (Nat.le_of_ble_eq_true rfl) dX2_checkedEdition_20 (⟨ht_11, by rw [nI_clamp (by omega)], rfl⟩)
