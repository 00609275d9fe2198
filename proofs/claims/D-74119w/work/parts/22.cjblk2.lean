/-! St_isTable -/
set_option maxHeartbeats 4000000 in
set_option maxRecDepth 100000 in
theorem cb_St_isTable {E : cj_E} {σ : cj_S} {x0 : Nat} {x1 : Int32} {P : Int32 → cj_S → Prop} (h : (cj_T σ x0 = 2 ∧ (∃ a2, (cj_R σ 206 x0) = some a2 ∧ (cj_T σ a2 = 1 ∧ cs_L_isIn E σ (x1).toInt64 (0 : Int64) ((cj_F σ 107 a2) - (1 : Int32)).toInt64 (fun r5 σ6 => (narrow .boolean (.int r5) = .int r5 ∧ P r5 σ6)))))) : cs_St_isTable E σ x0 x1 P :=
  cj_enter (k := 1) (lv := [(0, .ref x0), (1, .int x1)]) (by decide) (Nat.le_of_ble_eq_true rfl) rfl (by
    intro d hd p e s m args below meth c hcx H locs ls hW hS hl
    have hx := hcx.1
    have hb := hcx.2.1
    have hown := hcx.2.2.2.2.2.1
    have hts := hcx.2.2.2.2.2.2.1
    refine lv_iload_n (pc := 0) hx hb dX2_isTable_0 rfl (lv_at hl 1 rfl) ?_
    refine lv_i2l (pc := 1) hx hb dX2_isTable_1 rfl ?_
    refine lv_lconst (pc := 2) (v := (0 : Int64)) hx hb dX2_isTable_2 (by decide) ?_
    refine lv_aload_n (pc := 3) hx hb dX2_isTable_3 rfl (lv_at hl 0 rfl) ?_
    obtain ⟨g1, h⟩ := h
    refine cj_fld (pc := 4) hcx hW 1 g1 (by decide) rfl in_X2 6 (by decide) (by decide) q198 dX2_isTable_4 (v := va_rf (cj_R σ 206 x0)) rfl ?_
    obtain ⟨a2, e3, h⟩ := h
    refine cj_stk (st' := [.ref a2, .long (0 : Int64), .long (x1).toInt64]) (by rw [e3]; rfl) ?_
    obtain ⟨g4, h⟩ := h
    refine cj_fldN (pc := 7) hcx hW 0 g4 (by decide) rfl in_X1 7 (by decide) (by decide) (List.mem_of_getElem? (i := 17) rfl) dX2_isTable_7 (v := .int (cj_F σ 107 a2)) rfl ?_
    refine lv_iconst (pc := 10) (v := (1 : Int32)) hx hb dX2_isTable_10 (by decide) ?_
    refine lv_isub (pc := 11) hx hb dX2_isTable_11 ?_
    refine lv_i2l (pc := 12) hx hb dX2_isTable_12 rfl ?_
    refine cj_xi (pc := 13) (cj_runSN hcx hW hS [.long (x1).toInt64, .long (0 : Int64), .long ((cj_F σ 107 a2) - (1 : Int32)).toInt64] h (Nat.le_trans (by decide) hd) (List.mem_of_getElem? (i := 5) rfl) q350 q122 q351 yd_L_isIn (by decide) rfl rfl (Nat.le_of_ble_eq_true rfl) hl.1 (Nat.le_refl _) (Nat.le_refl _) dX2_isTable_13) hS (fun r5 σ6 h H locs hW hS => ?_)
    obtain ⟨g7, h⟩ := h
    exact cj_reti (pc := 16) hcx hW hS g7 h (Nat.le_refl _) (Nat.le_refl _) dX2_isTable_16)
/-! St_orders -/
set_option maxHeartbeats 4000000 in
set_option maxRecDepth 100000 in
theorem cb_St_orders {E : cj_E} {σ : cj_S} {x0 : Nat} {x1 : Int32} {P : Int32 → cj_S → Prop} (h : cs_L_isIn E σ (x1).toInt64 (0 : Int64) (23 : Int64) (fun r1 σ2 => ((r1 = 0 → P (1 : Int32) σ2) ∧ (¬ r1 = 0 → (cj_T σ2 x0 = 2 ∧ ((x1 = (cj_F σ2 203 x0) → P (2 : Int32) σ2) ∧ (¬ x1 = (cj_F σ2 203 x0) → cs_St_done E (cj_sF σ2 203 x0 x1) x0 (cj_F σ2 203 x0) (fun r6 σ7 => P r6 σ7)))))))) : cs_St_orders E σ x0 x1 P :=
  cj_enter (k := 1) (lv := [(0, .ref x0), (1, .int x1)]) (by decide) (Nat.le_of_ble_eq_true rfl) rfl (by
    intro d hd p e s m args below meth c hcx H locs ls hW hS hl
    have hx := hcx.1
    have hb := hcx.2.1
    have hown := hcx.2.2.2.2.2.1
    have hts := hcx.2.2.2.2.2.2.1
    refine lv_iload_n (pc := 0) hx hb dX2_orders_0 rfl (lv_at hl 1 rfl) ?_
    refine lv_i2l (pc := 1) hx hb dX2_orders_1 rfl ?_
    refine lv_lconst (pc := 2) (v := (0 : Int64)) hx hb dX2_orders_2 (by decide) ?_
    refine lv_ldc2 (pc := 3) (v := (23 : Int64)) hx hb hown (hts _ q836) dX2_orders_3 ?_
    refine cj_xi (pc := 6) (cj_runSN hcx hW hS [.long (x1).toInt64, .long (0 : Int64), .long (23 : Int64)] h (Nat.le_trans (by decide) hd) (List.mem_of_getElem? (i := 5) rfl) q350 q122 q351 yd_L_isIn (by decide) rfl rfl (Nat.le_of_ble_eq_true rfl) hl.1 (Nat.le_refl _) (Nat.le_refl _) dX2_orders_6) hS (fun r1 σ2 h H locs hW hS => ?_)
    refine lv_if_ne (pc := 9) (tgt := 14) hx hb dX2_orders_9 (by decide) (fun c3 => ?_) (fun c3 => ?_)
    · have h := h.2 c3
      refine lv_iload_n (pc := 14) hx hb dX2_orders_14 rfl (lv_at hl 1 rfl) ?_
      refine lv_aload_n (pc := 15) hx hb dX2_orders_15 rfl (lv_at hl 0 rfl) ?_
      obtain ⟨g4, h⟩ := h
      refine cj_fld (pc := 16) hcx hW 1 g4 (by decide) rfl in_X2 3 (by decide) (by decide) q192 dX2_orders_16 (v := .int (cj_F σ2 203 x0)) rfl ?_
      refine lv_icmp_ne (pc := 19) (tgt := 24) hx hb dX2_orders_19 (by decide) (fun c5 => ?_) (fun c5 => ?_)
      · have h := h.2 c5
        refine lv_aload_n (pc := 24) hx hb dX2_orders_24 rfl (lv_at hl 0 rfl) ?_
        refine cj_fld (pc := 25) hcx hW 1 g4 (by decide) rfl in_X2 3 (by decide) (by decide) q192 dX2_orders_25 (v := .int (cj_F σ2 203 x0)) rfl ?_
        refine lv_istore_n (pc := 28) (lv' := [(2, .int (cj_F σ2 203 x0)), (0, .ref x0), (1, .int x1)]) hx hb dX2_orders_28 rfl hl (by decide) rfl (fun ls hl => ?_)
        refine lv_aload_n (pc := 29) hx hb dX2_orders_29 rfl (lv_at hl 1 rfl) ?_
        refine lv_iload_n (pc := 30) hx hb dX2_orders_30 rfl (lv_at hl 2 rfl) ?_
        refine cj_put (pc := 31) (σ1 := (cj_sF σ2 203 x0 x1)) hcx hW hS 1 g4 (by decide) rfl in_X2 tyX2_ok nmX2 3 (by decide) (by decide) rfl rfl rfl (cj_pI rfl) q192 dX2_orders_31 (fun H locs hW hS => ?_)
        refine lv_aload_n (pc := 34) hx hb dX2_orders_34 rfl (lv_at hl 1 rfl) ?_
        refine lv_iload_n (pc := 35) hx hb dX2_orders_35 rfl (lv_at hl 0 rfl) ?_
        refine cj_xi (pc := 36) (cj_runV hcx hW hS 1 g4 (by decide) rfl [.int (cj_F σ2 203 x0)] h (Nat.le_trans (by decide) hd) (lw_V q815 q817 qs16 q123 q818) rfl yd_St_done (by decide) rfl rfl (Nat.le_of_ble_eq_true rfl) hl.1 (Nat.le_refl _) (Nat.le_refl _) dX2_orders_36) hS (fun r6 σ7 h H locs hW hS => ?_)
        exact cj_reti (pc := 39) hcx hW hS rfl h (Nat.le_refl _) (Nat.le_refl _) dX2_orders_39
      · have h := h.1 c5
        refine lv_iconst (pc := 22) (v := (2 : Int32)) hx hb dX2_orders_22 (by decide) ?_
        exact cj_reti (pc := 23) hcx hW hS rfl h (Nat.le_refl _) (Nat.le_refl _) dX2_orders_23
    · have h := h.1 c3
      refine lv_iconst (pc := 12) (v := (1 : Int32)) hx hb dX2_orders_12 (by decide) ?_
      exact cj_reti (pc := 13) hcx hW hS rfl h (Nat.le_refl _) (Nat.le_refl _) dX2_orders_13)
/-! Tb_copy -/
set_option maxHeartbeats 4000000 in
set_option maxRecDepth 100000 in
theorem cb_Tb_copy {E : cj_E} {σ : cj_S} {x0 : Nat} {P : Option Nat → cj_S → Prop} (h : (∀ q1, cj_T σ q1 = 0 → cs_Tb_init_2 E (cj_new σ q1 6) q1 (some x0) (fun σ4 => P (some q1) σ4))) : cs_Tb_copy E σ x0 P :=
  cj_enter (k := 1) (lv := [(0, .ref x0)]) (by decide) (Nat.le_of_ble_eq_true rfl) rfl (by
    intro d hd p e s m args below meth c hcx H locs ls hW hS hl
    have hx := hcx.1
    have hb := hcx.2.1
    have hown := hcx.2.2.2.2.2.1
    have hts := hcx.2.2.2.2.2.2.1
    refine cj_newo (pc := 0) hcx hW hS 5 (by decide) rfl in_X7 tyX7_ok rfl rfl q810 q462 q131 (Nat.le_of_ble_eq_true rfl) (Nat.le_of_ble_eq_true rfl) dX7_copy_0 (fun q1 H z2 hW hS => ?_)
    have h := h q1 z2
    refine lv_dup (pc := 3) hx hb dX7_copy_3 rfl ?_
    refine lv_aload_n (pc := 4) hx hb dX7_copy_4 rfl (lv_at hl 0 rfl) ?_
    refine cj_xv (pc := 5) (cj_runI hcx hW hS [va_rf (some x0)] h (Nat.le_trans (by decide) hd) q811 q812 q131 q813 rfl yd_Tb_init_2 (by decide) rfl rfl (Nat.le_of_ble_eq_true rfl) hl.1 (Nat.le_of_ble_eq_true rfl) (Nat.le_of_ble_eq_true rfl) dX7_copy_5) hS (fun σ4 h H locs hW hS => ?_)
    exact cj_retq (pc := 8) (r := (some q1)) hcx hW hS (Or.inl ⟨_, rfl⟩) h (Nat.le_of_ble_eq_true rfl) (Nat.le_of_ble_eq_true rfl) dX7_copy_8)
/-! Tb_fits -/
set_option maxHeartbeats 4000000 in
set_option maxRecDepth 100000 in
theorem cb_Tb_fits_3 {E : cj_E} {σ : cj_S} {x0 : Nat} {x1 : Option Nat} {x2 : Option Nat} {x3 : Int32} {x4 : Int32} {P : Int32 → cj_S → Prop} (h : (cj_T σ x0 = 6 ∧ (∃ a2, (cj_R σ 600 x0) = some a2 ∧ (cj_T σ a2 = 21 ∧ (((nI (cj_N σ a2)) ≤ x4 → P (1 : Int32) σ) ∧ (¬ (nI (cj_N σ a2)) ≤ x4 → (vp_in x4 (cj_N σ a2) ∧ cs_L_has E σ x3 (cj_A σ a2 x4.toNatClampNeg) (fun r7 σ8 => ((r7 = 0 → cg_Tb_fits_3 E σ8 x0 x1 x2 x3 (x4 + (1 : Int32)) P) ∧ (¬ r7 = 0 → (cj_T σ8 x0 = 6 ∧ (∃ a11, (cj_R σ8 600 x0) = some a11 ∧ (cj_T σ8 a11 = 21 ∧ (vp_in x4 (cj_N σ8 a11) ∧ (∃ a15, x2 = some a15 ∧ (cj_T σ8 a15 = 21 ∧ (vp_in (cj_A σ8 a11 x4.toNatClampNeg) (cj_N σ8 a15) ∧ (∃ a19, x1 = some a19 ∧ cs_Rw_at E σ8 a19 x4 (fun r21 σ22 => (((cj_A σ8 a15 (cj_A σ8 a11 x4.toNatClampNeg).toNatClampNeg) = r21 → cg_Tb_fits_3 E σ22 x0 x1 x2 x3 (x4 + (1 : Int32)) P) ∧ (¬ (cj_A σ8 a15 (cj_A σ8 a11 x4.toNatClampNeg).toNatClampNeg) = r21 → P (0 : Int32) σ22))))))))))))))))))))) : cg_Tb_fits_3 E σ x0 x1 x2 x3 x4 P := by
  intro d hd p e s m args below meth c hcx H locs ls hW hS hl
  have hx := hcx.1
  have hb := hcx.2.1
  have hown := hcx.2.2.2.2.2.1
  have hts := hcx.2.2.2.2.2.2.1
  refine lv_iload (pc := 3) hx hb dX7_fits_3 (lv_at hl 4 rfl) ?_
  refine lv_aload_n (pc := 5) hx hb dX7_fits_5 rfl (lv_at hl 0 rfl) ?_
  obtain ⟨g1, h⟩ := h
  refine cj_fld (pc := 6) hcx hW 5 g1 (by decide) rfl in_X7 0 (by decide) (by decide) q484 dX7_fits_6 (v := va_rf (cj_R σ 600 x0)) rfl ?_
  obtain ⟨a2, e3, h⟩ := h
  refine cj_stk (st' := [.ref a2, .int x4]) (by rw [e3]; rfl) ?_
  obtain ⟨g4, h⟩ := h
  refine cj_alen (pc := 9) hcx hW g4 (by unfold cj_at_ cj_rt; decide) dX7_fits_9 ?_
  refine lv_icmp_ge (pc := 10) (tgt := 53) hx hb dX7_fits_10 (by decide) (fun c5 => ?_) (fun c5 => ?_)
  · have h := h.1 c5
    refine lv_iconst (pc := 53) (v := (1 : Int32)) hx hb dX7_fits_53 (by decide) ?_
    exact cj_reti (pc := 54) hcx hW hS rfl h (Nat.le_refl _) (Nat.le_refl _) dX7_fits_54
  · have h := h.2 c5
    refine lv_iload_n (pc := 13) hx hb dX7_fits_13 rfl (lv_at hl 3 rfl) ?_
    refine lv_aload_n (pc := 14) hx hb dX7_fits_14 rfl (lv_at hl 0 rfl) ?_
    refine cj_fld (pc := 15) hcx hW 5 g1 (by decide) rfl in_X7 0 (by decide) (by decide) q484 dX7_fits_15 (v := va_rf (cj_R σ 600 x0)) rfl ?_
    refine lv_iload (pc := 18) hx hb dX7_fits_18 (lv_at hl 4 rfl) ?_
    refine cj_stk (st' := [.int x4, .ref a2, .int x3]) (by rw [e3]; rfl) ?_
    obtain ⟨g6, h⟩ := h
    refine cj_iald (pc := 20) hcx hW g4 g6 dX7_fits_20 ?_
    refine cj_xi (pc := 21) (cj_runSN hcx hW hS [.int x3, .int (cj_A σ a2 x4.toNatClampNeg)] h (Nat.le_trans (by decide) hd) (List.mem_of_getElem? (i := 11) rfl) q387 q122 q388 yd_L_has (by decide) rfl rfl (Nat.le_of_ble_eq_true rfl) hl.1 (Nat.le_refl _) (Nat.le_refl _) dX7_fits_21) hS (fun r7 σ8 h H locs hW hS => ?_)
    refine lv_if_eq (pc := 24) (tgt := 47) hx hb dX7_fits_24 (by decide) (fun c9 => ?_) (fun c9 => ?_)
    · have h := h.1 c9
      refine lv_iinc (pc := 47) (v := (x4 + (1 : Int32))) (lv' := [(4, .int (x4 + (1 : Int32))), (0, .ref x0), (1, va_rf x1), (2, va_rf x2), (3, .int x3)]) hx hb dX7_fits_47 hl (k := 4) rfl rfl (by decide) rfl (fun ls hl => ?_)
      refine lv_goto (pc := 50) (tgt := 3) hx hb dX7_fits_50 (by decide) ?_
      exact h d hd p e s m args below meth c hcx H locs _ hW hS (lv_sub hl [1, 2, 3, 4, 0] rfl)
    · have h := h.2 c9
      refine cj_aload_n (pc := 27) hx hb dX7_fits_27 rfl (lv_at hl 2 rfl) ?_
      refine lv_aload_n (pc := 28) hx hb dX7_fits_28 rfl (lv_at hl 0 rfl) ?_
      obtain ⟨g10, h⟩ := h
      refine cj_fld (pc := 29) hcx hW 5 g10 (by decide) rfl in_X7 0 (by decide) (by decide) q484 dX7_fits_29 (v := va_rf (cj_R σ8 600 x0)) rfl ?_
      refine lv_iload (pc := 32) hx hb dX7_fits_32 (lv_at hl 4 rfl) ?_
      obtain ⟨a11, e12, h⟩ := h
      refine cj_stk (st' := [.int x4, .ref a11, va_rf x2]) (by rw [e12]; rfl) ?_
      obtain ⟨g13, h⟩ := h
      obtain ⟨g14, h⟩ := h
      refine cj_iald (pc := 34) hcx hW g13 g14 dX7_fits_34 ?_
      obtain ⟨a15, e16, h⟩ := h
      refine cj_stk (st' := [.int (cj_A σ8 a11 x4.toNatClampNeg), .ref a15]) (by rw [e16]; rfl) ?_
      obtain ⟨g17, h⟩ := h
      obtain ⟨g18, h⟩ := h
      refine cj_iald (pc := 35) hcx hW g17 g18 dX7_fits_35 ?_
      refine cj_aload_n (pc := 36) hx hb dX7_fits_36 rfl (lv_at hl 1 rfl) ?_
      refine lv_iload (pc := 37) hx hb dX7_fits_37 (lv_at hl 4 rfl) ?_
      obtain ⟨a19, e20, h⟩ := h
      refine cj_stk (st' := [.int x4, .ref a19, .int (cj_A σ8 a15 (cj_A σ8 a11 x4.toNatClampNeg).toNatClampNeg)]) (by rw [e20]; rfl) ?_
      refine cj_xi (pc := 39) (cj_runRw_at hcx hW hS h (Nat.le_trans (by decide) hd) q890 rfl (Nat.le_of_ble_eq_true rfl) hl.1 (Nat.le_refl _) (Nat.le_refl _) dX7_fits_39) hS (fun r21 σ22 h H locs hW hS => ?_)
      refine lv_icmp_eq (pc := 42) (tgt := 47) hx hb dX7_fits_42 (by decide) (fun c23 => ?_) (fun c23 => ?_)
      · have h := h.1 c23
        refine lv_iinc (pc := 47) (v := (x4 + (1 : Int32))) (lv' := [(4, .int (x4 + (1 : Int32))), (0, .ref x0), (1, va_rf x1), (2, va_rf x2), (3, .int x3)]) hx hb dX7_fits_47 hl (k := 4) rfl rfl (by decide) rfl (fun ls hl => ?_)
        refine lv_goto (pc := 50) (tgt := 3) hx hb dX7_fits_50 (by decide) ?_
        exact h d hd p e s m args below meth c hcx H locs _ hW hS (lv_sub hl [1, 2, 3, 4, 0] rfl)
      · have h := h.2 c23
        refine lv_iconst (pc := 45) (v := (0 : Int32)) hx hb dX7_fits_45 (by decide) ?_
        exact cj_reti (pc := 46) hcx hW hS rfl h (Nat.le_refl _) (Nat.le_refl _) dX7_fits_46
set_option maxHeartbeats 4000000 in
set_option maxRecDepth 100000 in
theorem cb_Tb_fits {E : cj_E} {σ : cj_S} {x0 : Nat} {x1 : Option Nat} {x2 : Option Nat} {x3 : Int32} {P : Int32 → cj_S → Prop} (h : cg_Tb_fits_3 E σ x0 x1 x2 x3 (0 : Int32) P) : cs_Tb_fits E σ x0 x1 x2 x3 P :=
  cj_enter (k := 1) (lv := [(0, .ref x0), (1, va_rf x1), (2, va_rf x2), (3, .int x3)]) (by decide) (by cases x1 <;> cases x2 <;> exact Nat.le_of_ble_eq_true rfl) (by cases x1 <;> cases x2 <;> rfl) (by
    intro d hd p e s m args below meth c hcx H locs ls hW hS hl
    have hx := hcx.1
    have hb := hcx.2.1
    have hown := hcx.2.2.2.2.2.1
    have hts := hcx.2.2.2.2.2.2.1
    refine lv_iconst (pc := 0) (v := (0 : Int32)) hx hb dX7_fits_0 (by decide) ?_
    refine lv_istore (pc := 1) (lv' := [(4, .int (0 : Int32)), (0, .ref x0), (1, va_rf x1), (2, va_rf x2), (3, .int x3)]) hx hb dX7_fits_1 hl (by decide) rfl (fun ls hl => ?_)
    exact h d hd p e s m args below meth c hcx H locs _ hW hS (lv_sub hl [1, 2, 3, 4, 0] rfl))
/-! Tb_init -/
set_option maxHeartbeats 4000000 in
set_option maxRecDepth 100000 in
theorem cb_Tb_init {E : cj_E} {σ : cj_S} {x0 : Nat} {x1 : Option Nat} {P : cj_S → Prop} (h : (cj_T σ x0 = 6 ∧ (∃ a2, x1 = some a2 ∧ (cj_T σ a2 = 21 ∧ cs_Rw_places E (cj_sR σ 600 x0 x1) (nI (cj_N σ a2)) (fun r5 σ6 => (cj_T σ6 x0 = 6 ∧ (∃ a8, (cj_R (cj_sR σ6 601 x0 r5) 601 x0) = some a8 ∧ (cj_rr (cj_T σ6 a8) ∧ (cj_N σ6 a8 ≤ 12 ∧ (∀ q10, cj_T σ6 q10 = 0 → (cj_rr (cj_T (cj_mk (cj_sR σ6 601 x0 r5) q10 (cj_T σ6 a8) (cj_N σ6 a8) (cj_A σ6 a8) (cj_B σ6 a8)) q10) ∧ (cj_T (cj_mk (cj_sR σ6 601 x0 r5) q10 (cj_T σ6 a8) (cj_N σ6 a8) (cj_A σ6 a8) (cj_B σ6 a8)) x0 = 6 ∧ P (cj_sR (cj_mk (cj_sR σ6 601 x0 r5) q10 (cj_T σ6 a8) (cj_N σ6 a8) (cj_A σ6 a8) (cj_B σ6 a8)) 602 x0 (some q10)))))))))))))) : cs_Tb_init E σ x0 x1 P :=
  cj_enter (k := 1) (lv := [(0, .ref x0), (1, va_rf x1)]) (by decide) (by cases x1 <;> exact Nat.le_of_ble_eq_true rfl) (by cases x1 <;> rfl) (by
    intro d hd p e s m args below meth c hcx H locs ls hW hS hl
    have hx := hcx.1
    have hb := hcx.2.1
    have hown := hcx.2.2.2.2.2.1
    have hts := hcx.2.2.2.2.2.2.1
    refine lv_aload_n (pc := 0) hx hb dX7_init_0 rfl (lv_at hl 0 rfl) ?_
    refine cj_objInit (pc := 1) hcx hl.1 q466 q171 q172 dX7_init_1 (Nat.le_add_left 1 _) (cj_lr (Nat.le_of_ble_eq_true rfl)) ?_
    refine lv_aload_n (pc := 4) hx hb dX7_init_4 rfl (lv_at hl 0 rfl) ?_
    refine cj_aload_n (pc := 5) hx hb dX7_init_5 rfl (lv_at hl 1 rfl) ?_
    obtain ⟨g1, h⟩ := h
    refine cj_putF (pc := 6) (σ1 := (cj_sR σ 600 x0 x1)) hcx hW hS 5 g1 (by decide) rfl in_X7 tyX7_ok nmX7 0 (by decide) (by decide) rfl rfl rfl (cj_nRa _ x1) (cj_fRa _ x1) (cj_pR (x := x1) rfl) q484 dX7_init_6 (fun H locs hW hS => ?_)
    refine lv_aload_n (pc := 9) hx hb dX7_init_9 rfl (lv_at hl 0 rfl) ?_
    refine cj_aload_n (pc := 10) hx hb dX7_init_10 rfl (lv_at hl 1 rfl) ?_
    obtain ⟨a2, e3, h⟩ := h
    refine cj_stk (st' := [.ref a2, .ref x0]) (by rw [e3]; rfl) ?_
    obtain ⟨g4, h⟩ := h
    refine cj_alen (pc := 11) hcx hW g4 (by unfold cj_at_ cj_rt; decide) dX7_init_11 ?_
    refine cj_xq (pc := 12) (cj_runS hcx hW hS [.int (nI (cj_N σ a2))] h (Nat.le_trans (by decide) hd) (lw_S q467 q468 q132 q469) yd_Rw_places (by decide) rfl rfl (Nat.le_of_ble_eq_true rfl) hl.1 (Nat.le_of_ble_eq_true rfl) (Nat.le_of_ble_eq_true rfl) dX7_init_12) hS (fun r5 σ6 h H locs hW hS => ?_)
    obtain ⟨g7, h⟩ := h
    refine cj_putF (pc := 15) (σ1 := (cj_sR σ6 601 x0 r5)) hcx hW hS 5 g7 (by decide) rfl in_X7 tyX7_ok nmX7 1 (by decide) (by decide) rfl rfl rfl (cj_nRa _ r5) (cj_fRa _ r5) (cj_pR (x := r5) rfl) q487 dX7_init_15 (fun H locs hW hS => ?_)
    refine lv_aload_n (pc := 18) hx hb dX7_init_18 rfl (lv_at hl 0 rfl) ?_
    refine lv_aload_n (pc := 19) hx hb dX7_init_19 rfl (lv_at hl 0 rfl) ?_
    refine cj_fld (pc := 20) hcx hW 5 g7 (by decide) rfl in_X7 1 (by decide) (by decide) q487 dX7_init_20 (v := va_rf (cj_R (cj_sR σ6 601 x0 r5) 601 x0)) rfl ?_
    obtain ⟨a8, e9, h⟩ := h
    refine cj_stk (st' := [.ref a8, .ref x0]) (by rw [e9]; rfl) ?_
    obtain ⟨g12, h⟩ := h
    obtain ⟨g13, h⟩ := h
    refine cj_cloneR (pc := 23) hcx hW hS hl.1 g12 g13 q476 (Nat.le_of_ble_eq_true rfl) (Nat.le_of_ble_eq_true rfl) (Nat.le_add_left 1 _) (cj_lr (Nat.le_of_ble_eq_true rfl)) dX7_init_23 (fun q10 H z11 hW hS => ?_)
    have h := h q10 z11
    obtain ⟨g14, h⟩ := h
    refine cj_castR (pc := 26) hcx hW g14 q483 dX7_init_26 ?_
    obtain ⟨g15, h⟩ := h
    refine cj_putF (pc := 29) (σ1 := (cj_sR (cj_mk (cj_sR σ6 601 x0 r5) q10 (cj_T σ6 a8) (cj_N σ6 a8) (cj_A σ6 a8) (cj_B σ6 a8)) 602 x0 (some q10))) hcx hW hS 5 g15 (by decide) rfl in_X7 tyX7_ok nmX7 2 (by decide) (by decide) rfl rfl rfl (cj_nRa _ (some q10)) (cj_fRa _ (some q10)) (cj_pR (x := (some q10)) rfl) q489 dX7_init_29 (fun H locs hW hS => ?_)
    exact cj_retv (pc := 32) hcx hW hS h (Nat.le_of_ble_eq_true rfl) (Nat.le_of_ble_eq_true rfl) dX7_init_32)
/-! Th_init -/
set_option maxHeartbeats 4000000 in
set_option maxRecDepth 100000 in
theorem cb_Th_init {E : cj_E} {σ : cj_S} {x0 : Nat} {x1 : Option Nat} {P : cj_S → Prop} (h : cs_Rw_init E σ x0 (fun σ2 => (∃ a3, x1 = some a3 ∧ (cj_T σ2 a3 = 21 ∧ (cj_N σ2 a3 ≤ 12 ∧ (∀ q5, cj_T σ2 q5 = 0 → (cj_T (cj_mk σ2 q5 21 (cj_N σ2 a3) (cj_A σ2 a3) (cj_B σ2 a3)) q5 = 21 ∧ (cj_T (cj_mk σ2 q5 21 (cj_N σ2 a3) (cj_A σ2 a3) (cj_B σ2 a3)) x0 = 9 ∧ P (cj_sR (cj_mk σ2 q5 21 (cj_N σ2 a3) (cj_A σ2 a3) (cj_B σ2 a3)) 900 x0 (some q5)))))))))) : cs_Th_init E σ x0 x1 P :=
  cj_enter (k := 1) (lv := [(0, .ref x0), (1, va_rf x1)]) (by decide) (by cases x1 <;> exact Nat.le_of_ble_eq_true rfl) (by cases x1 <;> rfl) (by
    intro d hd p e s m args below meth c hcx H locs ls hW hS hl
    have hx := hcx.1
    have hb := hcx.2.1
    have hown := hcx.2.2.2.2.2.1
    have hts := hcx.2.2.2.2.2.2.1
    refine lv_aload_n (pc := 0) hx hb dX11_init_0 rfl (lv_at hl 0 rfl) ?_
    refine cj_xv (pc := 1) (cj_runIN hcx hW hS [] h (Nat.le_trans (by decide) hd) (List.mem_of_getElem? (i := 4) rfl) q533 q132 q534 rfl yd_Rw_init (by decide) rfl rfl (Nat.le_of_ble_eq_true rfl) hl.1 (Nat.le_of_ble_eq_true rfl) (Nat.le_of_ble_eq_true rfl) dX11_init_1) hS (fun σ2 h H locs hW hS => ?_)
    refine lv_aload_n (pc := 4) hx hb dX11_init_4 rfl (lv_at hl 0 rfl) ?_
    refine cj_aload_n (pc := 5) hx hb dX11_init_5 rfl (lv_at hl 1 rfl) ?_
    obtain ⟨a3, e4, h⟩ := h
    refine cj_stk (st' := [.ref a3, .ref x0]) (by rw [e4]; rfl) ?_
    obtain ⟨g7, h⟩ := h
    obtain ⟨g8, h⟩ := h
    refine cj_cloneI (pc := 6) hcx hW hS hl.1 g7 g8 q557 (Nat.le_of_ble_eq_true rfl) (Nat.le_of_ble_eq_true rfl) (Nat.le_add_left 1 _) (cj_lr (Nat.le_of_ble_eq_true rfl)) dX11_init_6 (fun q5 H z6 hW hS => ?_)
    have h := h q5 z6
    obtain ⟨g9, h⟩ := h
    refine cj_castI (pc := 9) hcx hW g9 q561 dX11_init_9 ?_
    obtain ⟨g10, h⟩ := h
    refine cj_putF (pc := 12) (σ1 := (cj_sR (cj_mk σ2 q5 21 (cj_N σ2 a3) (cj_A σ2 a3) (cj_B σ2 a3)) 900 x0 (some q5))) hcx hW hS 8 g10 (by decide) rfl in_X11 tyX11_ok nmX11 0 (by decide) (by decide) rfl rfl rfl (cj_nRa _ (some q5)) (cj_fRa _ (some q5)) (cj_pR (x := (some q5)) rfl) q562 dX11_init_12 (fun H locs hW hS => ?_)
    exact cj_retv (pc := 15) hcx hW hS h (Nat.le_of_ble_eq_true rfl) (Nat.le_of_ble_eq_true rfl) dX11_init_15)
/-! Tw_init -/
set_option maxHeartbeats 4000000 in
set_option maxRecDepth 100000 in
theorem cb_Tw_init {E : cj_E} {σ : cj_S} {x0 : Nat} {x1 : Int32} {x2 : Int32} {P : cj_S → Prop} (h : cs_Rw_init E σ x0 (fun σ2 => (cj_T σ2 x0 = 8 ∧ P (cj_sF (cj_sF σ2 800 x0 x1) 801 x0 x2)))) : cs_Tw_init E σ x0 x1 x2 P :=
  cj_enter (k := 1) (lv := [(0, .ref x0), (1, .int x1), (2, .int x2)]) (by decide) (Nat.le_of_ble_eq_true rfl) rfl (by
    intro d hd p e s m args below meth c hcx H locs ls hW hS hl
    have hx := hcx.1
    have hb := hcx.2.1
    have hown := hcx.2.2.2.2.2.1
    have hts := hcx.2.2.2.2.2.2.1
    refine lv_aload_n (pc := 0) hx hb dX10_init_0 rfl (lv_at hl 0 rfl) ?_
    refine cj_xv (pc := 1) (cj_runIN hcx hW hS [] h (Nat.le_trans (by decide) hd) (List.mem_of_getElem? (i := 3) rfl) q533 q132 q534 rfl yd_Rw_init (by decide) rfl rfl (Nat.le_of_ble_eq_true rfl) hl.1 (Nat.le_refl _) (Nat.le_refl _) dX10_init_1) hS (fun σ2 h H locs hW hS => ?_)
    refine lv_aload_n (pc := 4) hx hb dX10_init_4 rfl (lv_at hl 0 rfl) ?_
    refine lv_iload_n (pc := 5) hx hb dX10_init_5 rfl (lv_at hl 1 rfl) ?_
    obtain ⟨g3, h⟩ := h
    refine cj_putF (pc := 6) (σ1 := (cj_sF σ2 800 x0 x1)) hcx hW hS 7 g3 (by decide) rfl in_X10 tyX10_ok nmX10 0 (by decide) (by decide) rfl rfl rfl rfl rfl (cj_pI rfl) q545 dX10_init_6 (fun H locs hW hS => ?_)
    refine lv_aload_n (pc := 9) hx hb dX10_init_9 rfl (lv_at hl 0 rfl) ?_
    refine lv_iload_n (pc := 10) hx hb dX10_init_10 rfl (lv_at hl 2 rfl) ?_
    refine cj_putF (pc := 11) (σ1 := (cj_sF (cj_sF σ2 800 x0 x1) 801 x0 x2)) hcx hW hS 7 g3 (by decide) rfl in_X10 tyX10_ok nmX10 1 (by decide) (by decide) rfl rfl rfl rfl rfl (cj_pI rfl) q546 dX10_init_11 (fun H locs hW hS => ?_)
    exact cj_retv (pc := 14) hcx hW hS h (Nat.le_refl _) (Nat.le_refl _) dX10_init_14)
/-! Jn_first -/
set_option maxHeartbeats 4000000 in
set_option maxRecDepth 100000 in
theorem cb_Jn_first_2 {E : cj_E} {σ : cj_S} {x0 : Nat} {x1 : Int32} {x2 : Int32} {P : Int32 → cj_S → Prop} (h : (cj_T σ x0 = 3 ∧ cs_Jn_isHere E σ x0 x1 x2 (fun r1 σ2 => ((r1 = 0 → cg_Jn_first_2 E σ2 x0 x1 (x2 + (1 : Int32)) P) ∧ (¬ r1 = 0 → P x2 σ2))))) : cg_Jn_first_2 E σ x0 x1 x2 P := by
  intro d hd p e s m args below meth c hcx H locs ls hW hS hl
  have hx := hcx.1
  have hb := hcx.2.1
  have hown := hcx.2.2.2.2.2.1
  have hts := hcx.2.2.2.2.2.2.1
  refine lv_aload_n (pc := 2) hx hb dX3_first_2 rfl (lv_at hl 0 rfl) ?_
  refine lv_iload_n (pc := 3) hx hb dX3_first_3 rfl (lv_at hl 1 rfl) ?_
  refine lv_iload_n (pc := 4) hx hb dX3_first_4 rfl (lv_at hl 2 rfl) ?_
  obtain ⟨g3, h⟩ := h
  refine cj_xi (pc := 5) (cj_runV hcx hW hS 2 g3 (by decide) rfl [.int x1, .int x2] h (Nat.le_trans (by decide) hd) (lw_V q872 q874 qs22 q124 q875) rfl yd_Jn_isHere (by decide) rfl rfl (Nat.le_of_ble_eq_true rfl) hl.1 (Nat.le_refl _) (Nat.le_refl _) dX3_first_5) hS (fun r1 σ2 h H locs hW hS => ?_)
  refine lv_if_ne (pc := 8) (tgt := 17) hx hb dX3_first_8 (by decide) (fun c4 => ?_) (fun c4 => ?_)
  · have h := h.2 c4
    refine lv_iload_n (pc := 17) hx hb dX3_first_17 rfl (lv_at hl 2 rfl) ?_
    exact cj_reti (pc := 18) hcx hW hS rfl h (Nat.le_refl _) (Nat.le_refl _) dX3_first_18
  · have h := h.1 c4
    refine lv_iinc (pc := 11) (v := (x2 + (1 : Int32))) (lv' := [(2, .int (x2 + (1 : Int32))), (0, .ref x0), (1, .int x1)]) hx hb dX3_first_11 hl (k := 2) rfl rfl (by decide) rfl (fun ls hl => ?_)
    refine lv_goto (pc := 14) (tgt := 2) hx hb dX3_first_14 (by decide) ?_
    exact h d hd p e s m args below meth c hcx H locs _ hW hS (lv_sub hl [1, 2, 0] rfl)
set_option maxHeartbeats 4000000 in
set_option maxRecDepth 100000 in
theorem cb_Jn_first {E : cj_E} {σ : cj_S} {x0 : Nat} {x1 : Int32} {P : Int32 → cj_S → Prop} (h : cg_Jn_first_2 E σ x0 x1 (0 : Int32) P) : cs_Jn_first E σ x0 x1 P :=
  cj_enter (k := 2) (lv := [(0, .ref x0), (1, .int x1)]) (by decide) (Nat.le_of_ble_eq_true rfl) rfl (by
    intro d hd p e s m args below meth c hcx H locs ls hW hS hl
    have hx := hcx.1
    have hb := hcx.2.1
    have hown := hcx.2.2.2.2.2.1
    have hts := hcx.2.2.2.2.2.2.1
    refine lv_iconst (pc := 0) (v := (0 : Int32)) hx hb dX3_first_0 (by decide) ?_
    refine lv_istore_n (pc := 1) (lv' := [(2, .int (0 : Int32)), (0, .ref x0), (1, .int x1)]) hx hb dX3_first_1 rfl hl (by decide) rfl (fun ls hl => ?_)
    exact h d hd p e s m args below meth c hcx H locs _ hW hS (lv_sub hl [1, 2, 0] rfl))
/-! Jn_greatest -/
set_option maxHeartbeats 4000000 in
set_option maxRecDepth 100000 in
theorem cb_Jn_greatest_4 {E : cj_E} {σ : cj_S} {x0 : Nat} {x1 : Int32} {x2 : Int32} {x3 : Int32} {P : Int32 → cj_S → Prop} (h : (cj_T σ x0 = 3 ∧ (∃ a2, (cj_R σ 312 x0) = some a2 ∧ (cj_T σ a2 = 1 ∧ (((cj_F σ 107 a2) ≤ x3 → P x2 σ) ∧ (¬ (cj_F σ 107 a2) ≤ x3 → cs_Jn_isHere E σ x0 x1 x3 (fun r6 σ7 => ((r6 = 0 → cg_Jn_greatest_4 E σ7 x0 x1 x2 (x3 + (1 : Int32)) P) ∧ (¬ r6 = 0 → (cj_T σ7 x0 = 3 ∧ cs_Jn_keyOf E σ7 x0 x1 x3 (fun r9 σ10 => cg_Jn_greatest_4 E σ10 x0 x1 (if x2 < r9 then r9 else x2) (x3 + (1 : Int32)) P))))))))))) : cg_Jn_greatest_4 E σ x0 x1 x2 x3 P := by
  intro d hd p e s m args below meth c hcx H locs ls hW hS hl
  have hx := hcx.1
  have hb := hcx.2.1
  have hown := hcx.2.2.2.2.2.1
  have hts := hcx.2.2.2.2.2.2.1
  refine lv_iload_n (pc := 4) hx hb dX3_greatest_4 rfl (lv_at hl 3 rfl) ?_
  refine lv_aload_n (pc := 5) hx hb dX3_greatest_5 rfl (lv_at hl 0 rfl) ?_
  obtain ⟨g1, h⟩ := h
  refine cj_fld (pc := 6) hcx hW 2 g1 (by decide) rfl in_X3 12 (by decide) (by decide) q243 dX3_greatest_6 (v := va_rf (cj_R σ 312 x0)) rfl ?_
  obtain ⟨a2, e3, h⟩ := h
  refine cj_stk (st' := [.ref a2, .int x3]) (by rw [e3]; rfl) ?_
  obtain ⟨g4, h⟩ := h
  refine cj_fldN (pc := 9) hcx hW 0 g4 (by decide) rfl in_X1 7 (by decide) (by decide) (List.mem_of_getElem? (i := 21) rfl) dX3_greatest_9 (v := .int (cj_F σ 107 a2)) rfl ?_
  refine lv_icmp_ge (pc := 12) (tgt := 41) hx hb dX3_greatest_12 (by decide) (fun c5 => ?_) (fun c5 => ?_)
  · have h := h.1 c5
    refine lv_iload_n (pc := 41) hx hb dX3_greatest_41 rfl (lv_at hl 2 rfl) ?_
    exact cj_reti (pc := 42) hcx hW hS rfl h (Nat.le_refl _) (Nat.le_refl _) dX3_greatest_42
  · have h := h.2 c5
    refine lv_aload_n (pc := 15) hx hb dX3_greatest_15 rfl (lv_at hl 0 rfl) ?_
    refine lv_iload_n (pc := 16) hx hb dX3_greatest_16 rfl (lv_at hl 1 rfl) ?_
    refine lv_iload_n (pc := 17) hx hb dX3_greatest_17 rfl (lv_at hl 3 rfl) ?_
    refine cj_xi (pc := 18) (cj_runV hcx hW hS 2 g1 (by decide) rfl [.int x1, .int x3] h (Nat.le_trans (by decide) hd) (lw_V q872 q874 qs22 q124 q875) rfl yd_Jn_isHere (by decide) rfl rfl (Nat.le_of_ble_eq_true rfl) hl.1 (Nat.le_refl _) (Nat.le_refl _) dX3_greatest_18) hS (fun r6 σ7 h H locs hW hS => ?_)
    refine lv_if_eq (pc := 21) (tgt := 35) hx hb dX3_greatest_21 (by decide) (fun c8 => ?_) (fun c8 => ?_)
    · have h := h.1 c8
      refine lv_iinc (pc := 35) (v := (x3 + (1 : Int32))) (lv' := [(3, .int (x3 + (1 : Int32))), (0, .ref x0), (1, .int x1), (2, .int x2)]) hx hb dX3_greatest_35 hl (k := 3) rfl rfl (by decide) rfl (fun ls hl => ?_)
      refine lv_goto (pc := 38) (tgt := 4) hx hb dX3_greatest_38 (by decide) ?_
      exact h d hd p e s m args below meth c hcx H locs _ hW hS (lv_sub hl [1, 2, 3, 0] rfl)
    · have h := h.2 c8
      refine lv_iload_n (pc := 24) hx hb dX3_greatest_24 rfl (lv_at hl 2 rfl) ?_
      refine lv_aload_n (pc := 25) hx hb dX3_greatest_25 rfl (lv_at hl 0 rfl) ?_
      refine lv_iload_n (pc := 26) hx hb dX3_greatest_26 rfl (lv_at hl 1 rfl) ?_
      refine lv_iload_n (pc := 27) hx hb dX3_greatest_27 rfl (lv_at hl 3 rfl) ?_
      obtain ⟨g11, h⟩ := h
      refine cj_xi (pc := 28) (cj_runV hcx hW hS 2 g11 (by decide) rfl [.int x1, .int x3] h (Nat.le_trans (by decide) hd) (lw_V q895 q897 qs25 q124 q898) rfl yd_Jn_keyOf (by decide) rfl rfl (Nat.le_of_ble_eq_true rfl) hl.1 (Nat.le_refl _) (Nat.le_refl _) dX3_greatest_28) hS (fun r9 σ10 h H locs hW hS => ?_)
      refine cj_mmax (pc := 31) hcx hl.1 q899 (Nat.le_add_left 1 _) (cj_lr (Nat.le_of_ble_eq_true rfl)) (Nat.le_refl _) (Nat.le_refl _) dX3_greatest_31 ?_
      refine lv_istore_n (pc := 34) (lv' := [(2, .int (if x2 < r9 then r9 else x2)), (0, .ref x0), (1, .int x1), (3, .int x3)]) hx hb dX3_greatest_34 rfl hl (by decide) rfl (fun ls hl => ?_)
      refine lv_iinc (pc := 35) (v := (x3 + (1 : Int32))) (lv' := [(3, .int (x3 + (1 : Int32))), (2, .int (if x2 < r9 then r9 else x2)), (0, .ref x0), (1, .int x1)]) hx hb dX3_greatest_35 hl (k := 3) rfl rfl (by decide) rfl (fun ls hl => ?_)
      refine lv_goto (pc := 38) (tgt := 4) hx hb dX3_greatest_38 (by decide) ?_
      exact h d hd p e s m args below meth c hcx H locs _ hW hS (lv_sub hl [2, 3, 1, 0] rfl)
set_option maxHeartbeats 4000000 in
set_option maxRecDepth 100000 in
theorem cb_Jn_greatest {E : cj_E} {σ : cj_S} {x0 : Nat} {x1 : Int32} {P : Int32 → cj_S → Prop} (h : cg_Jn_greatest_4 E σ x0 x1 (-1 : Int32) (0 : Int32) P) : cs_Jn_greatest E σ x0 x1 P :=
  cj_enter (k := 2) (lv := [(0, .ref x0), (1, .int x1)]) (by decide) (Nat.le_of_ble_eq_true rfl) rfl (by
    intro d hd p e s m args below meth c hcx H locs ls hW hS hl
    have hx := hcx.1
    have hb := hcx.2.1
    have hown := hcx.2.2.2.2.2.1
    have hts := hcx.2.2.2.2.2.2.1
    refine lv_iconst (pc := 0) (v := (-1 : Int32)) hx hb dX3_greatest_0 (by decide) ?_
    refine lv_istore_n (pc := 1) (lv' := [(2, .int (-1 : Int32)), (0, .ref x0), (1, .int x1)]) hx hb dX3_greatest_1 rfl hl (by decide) rfl (fun ls hl => ?_)
    refine lv_iconst (pc := 2) (v := (0 : Int32)) hx hb dX3_greatest_2 (by decide) ?_
    refine lv_istore_n (pc := 3) (lv' := [(3, .int (0 : Int32)), (2, .int (-1 : Int32)), (0, .ref x0), (1, .int x1)]) hx hb dX3_greatest_3 rfl hl (by decide) rfl (fun ls hl => ?_)
    exact h d hd p e s m args below meth c hcx H locs _ hW hS (lv_sub hl [2, 3, 1, 0] rfl))
/-! Jn_lesser -/
set_option maxHeartbeats 4000000 in
set_option maxRecDepth 100000 in
theorem cb_Jn_lesser_2 {E : cj_E} {σ : cj_S} {x0 : Nat} {x1 : Int32} {x2 : Int32} {x3 : Int32} {P : Int32 → cj_S → Prop} (h : (cj_T σ x0 = 3 ∧ (∃ a2, (cj_R σ 312 x0) = some a2 ∧ (cj_T σ a2 = 1 ∧ (((cj_F σ 107 a2) ≤ x3 → P (-1 : Int32) σ) ∧ (¬ (cj_F σ 107 a2) ≤ x3 → cs_Jn_isHere E σ x0 x1 x3 (fun r6 σ7 => ((r6 = 0 → cg_Jn_lesser_2 E σ7 x0 x1 x2 (x3 + (1 : Int32)) P) ∧ (¬ r6 = 0 → (cj_T σ7 x0 = 3 ∧ cs_Jn_keyOf E σ7 x0 x1 x3 (fun r9 σ10 => ((x2 ≤ r9 → cg_Jn_lesser_2 E σ10 x0 x1 x2 (x3 + (1 : Int32)) P) ∧ (¬ x2 ≤ r9 → P x3 σ10))))))))))))) : cg_Jn_lesser_2 E σ x0 x1 x2 x3 P := by
  intro d hd p e s m args below meth c hcx H locs ls hW hS hl
  have hx := hcx.1
  have hb := hcx.2.1
  have hown := hcx.2.2.2.2.2.1
  have hts := hcx.2.2.2.2.2.2.1
  refine lv_iload_n (pc := 2) hx hb dX3_lesser_2 rfl (lv_at hl 3 rfl) ?_
  refine lv_aload_n (pc := 3) hx hb dX3_lesser_3 rfl (lv_at hl 0 rfl) ?_
  obtain ⟨g1, h⟩ := h
  refine cj_fld (pc := 4) hcx hW 2 g1 (by decide) rfl in_X3 12 (by decide) (by decide) q243 dX3_lesser_4 (v := va_rf (cj_R σ 312 x0)) rfl ?_
  obtain ⟨a2, e3, h⟩ := h
  refine cj_stk (st' := [.ref a2, .int x3]) (by rw [e3]; rfl) ?_
  obtain ⟨g4, h⟩ := h
  refine cj_fldN (pc := 7) hcx hW 0 g4 (by decide) rfl in_X1 7 (by decide) (by decide) (List.mem_of_getElem? (i := 21) rfl) dX3_lesser_7 (v := .int (cj_F σ 107 a2)) rfl ?_
  refine lv_icmp_ge (pc := 10) (tgt := 40) hx hb dX3_lesser_10 (by decide) (fun c5 => ?_) (fun c5 => ?_)
  · have h := h.1 c5
    refine lv_iconst (pc := 40) (v := (-1 : Int32)) hx hb dX3_lesser_40 (by decide) ?_
    exact cj_reti (pc := 41) hcx hW hS rfl h (Nat.le_refl _) (Nat.le_refl _) dX3_lesser_41
  · have h := h.2 c5
    refine lv_aload_n (pc := 13) hx hb dX3_lesser_13 rfl (lv_at hl 0 rfl) ?_
    refine lv_iload_n (pc := 14) hx hb dX3_lesser_14 rfl (lv_at hl 1 rfl) ?_
    refine lv_iload_n (pc := 15) hx hb dX3_lesser_15 rfl (lv_at hl 3 rfl) ?_
    refine cj_xi (pc := 16) (cj_runV hcx hW hS 2 g1 (by decide) rfl [.int x1, .int x3] h (Nat.le_trans (by decide) hd) (lw_V q872 q874 qs22 q124 q875) rfl yd_Jn_isHere (by decide) rfl rfl (Nat.le_of_ble_eq_true rfl) hl.1 (Nat.le_refl _) (Nat.le_refl _) dX3_lesser_16) hS (fun r6 σ7 h H locs hW hS => ?_)
    refine lv_if_eq (pc := 19) (tgt := 34) hx hb dX3_lesser_19 (by decide) (fun c8 => ?_) (fun c8 => ?_)
    · have h := h.1 c8
      refine lv_iinc (pc := 34) (v := (x3 + (1 : Int32))) (lv' := [(3, .int (x3 + (1 : Int32))), (0, .ref x0), (1, .int x1), (2, .int x2)]) hx hb dX3_lesser_34 hl (k := 3) rfl rfl (by decide) rfl (fun ls hl => ?_)
      refine lv_goto (pc := 37) (tgt := 2) hx hb dX3_lesser_37 (by decide) ?_
      exact h d hd p e s m args below meth c hcx H locs _ hW hS (lv_sub hl [1, 2, 3, 0] rfl)
    · have h := h.2 c8
      refine lv_aload_n (pc := 22) hx hb dX3_lesser_22 rfl (lv_at hl 0 rfl) ?_
      refine lv_iload_n (pc := 23) hx hb dX3_lesser_23 rfl (lv_at hl 1 rfl) ?_
      refine lv_iload_n (pc := 24) hx hb dX3_lesser_24 rfl (lv_at hl 3 rfl) ?_
      obtain ⟨g11, h⟩ := h
      refine cj_xi (pc := 25) (cj_runV hcx hW hS 2 g11 (by decide) rfl [.int x1, .int x3] h (Nat.le_trans (by decide) hd) (lw_V q895 q897 qs25 q124 q898) rfl yd_Jn_keyOf (by decide) rfl rfl (Nat.le_of_ble_eq_true rfl) hl.1 (Nat.le_refl _) (Nat.le_refl _) dX3_lesser_25) hS (fun r9 σ10 h H locs hW hS => ?_)
      refine lv_iload_n (pc := 28) hx hb dX3_lesser_28 rfl (lv_at hl 2 rfl) ?_
      refine lv_icmp_ge (pc := 29) (tgt := 34) hx hb dX3_lesser_29 (by decide) (fun c12 => ?_) (fun c12 => ?_)
      · have h := h.1 c12
        refine lv_iinc (pc := 34) (v := (x3 + (1 : Int32))) (lv' := [(3, .int (x3 + (1 : Int32))), (0, .ref x0), (1, .int x1), (2, .int x2)]) hx hb dX3_lesser_34 hl (k := 3) rfl rfl (by decide) rfl (fun ls hl => ?_)
        refine lv_goto (pc := 37) (tgt := 2) hx hb dX3_lesser_37 (by decide) ?_
        exact h d hd p e s m args below meth c hcx H locs _ hW hS (lv_sub hl [1, 2, 3, 0] rfl)
      · have h := h.2 c12
        refine lv_iload_n (pc := 32) hx hb dX3_lesser_32 rfl (lv_at hl 3 rfl) ?_
        exact cj_reti (pc := 33) hcx hW hS rfl h (Nat.le_refl _) (Nat.le_refl _) dX3_lesser_33
set_option maxHeartbeats 4000000 in
set_option maxRecDepth 100000 in
theorem cb_Jn_lesser {E : cj_E} {σ : cj_S} {x0 : Nat} {x1 : Int32} {x2 : Int32} {P : Int32 → cj_S → Prop} (h : cg_Jn_lesser_2 E σ x0 x1 x2 (0 : Int32) P) : cs_Jn_lesser E σ x0 x1 x2 P :=
  cj_enter (k := 2) (lv := [(0, .ref x0), (1, .int x1), (2, .int x2)]) (by decide) (Nat.le_of_ble_eq_true rfl) rfl (by
    intro d hd p e s m args below meth c hcx H locs ls hW hS hl
    have hx := hcx.1
    have hb := hcx.2.1
    have hown := hcx.2.2.2.2.2.1
    have hts := hcx.2.2.2.2.2.2.1
    refine lv_iconst (pc := 0) (v := (0 : Int32)) hx hb dX3_lesser_0 (by decide) ?_
    refine lv_istore_n (pc := 1) (lv' := [(3, .int (0 : Int32)), (0, .ref x0), (1, .int x1), (2, .int x2)]) hx hb dX3_lesser_1 rfl hl (by decide) rfl (fun ls hl => ?_)
    exact h d hd p e s m args below meth c hcx H locs _ hW hS (lv_sub hl [1, 2, 3, 0] rfl))
/-! Jn_mean -/
set_option maxHeartbeats 4000000 in
set_option maxRecDepth 100000 in
theorem cb_Jn_mean {E : cj_E} {σ : cj_S} {x0 : Nat} {x1 : Int32} {P : UInt64 → cj_S → Prop} (h : (cj_T σ x0 = 3 ∧ cs_Jn_sum E σ x0 x1 (fun r1 σ2 => (cj_T σ2 x0 = 3 ∧ (vf_n64 (FP.ddiv r1 (FP.i2d (cj_F σ2 308 x0))) ∧ P (FP.ddiv r1 (FP.i2d (cj_F σ2 308 x0))) σ2))))) : cs_Jn_mean E σ x0 x1 P :=
  cj_enter (k := 2) (lv := [(0, .ref x0), (1, .int x1)]) (by decide) (Nat.le_of_ble_eq_true rfl) rfl (by
    intro d hd p e s m args below meth c hcx H locs ls hW hS hl
    have hx := hcx.1
    have hb := hcx.2.1
    have hown := hcx.2.2.2.2.2.1
    have hts := hcx.2.2.2.2.2.2.1
    refine lv_aload_n (pc := 0) hx hb dX3_mean_0 rfl (lv_at hl 0 rfl) ?_
    refine lv_iload_n (pc := 1) hx hb dX3_mean_1 rfl (lv_at hl 1 rfl) ?_
    obtain ⟨g3, h⟩ := h
    refine cj_xd (pc := 2) (cj_runV hcx hW hS 2 g3 (by decide) rfl [.int x1] h (Nat.le_trans (by decide) hd) (lw_V q1102 q1103 q1104 q124 q1105) rfl yd_Jn_sum (by decide) rfl rfl (Nat.le_of_ble_eq_true rfl) hl.1 (Nat.le_refl _) (Nat.le_refl _) dX3_mean_2) hS (fun r1 σ2 h H locs hW hS => ?_)
    refine lv_aload_n (pc := 5) hx hb dX3_mean_5 rfl (lv_at hl 0 rfl) ?_
    obtain ⟨g4, h⟩ := h
    refine cj_fld (pc := 6) hcx hW 2 g4 (by decide) rfl in_X3 8 (by decide) (by decide) q236 dX3_mean_6 (v := .int (cj_F σ2 308 x0)) rfl ?_
    refine lv_i2d (pc := 9) hx hb dX3_mean_9 ?_
    obtain ⟨g5, h⟩ := h
    refine lv_ddiv (pc := 10) hx hb dX3_mean_10 g5 ?_
    exact cj_retd (pc := 11) hcx hW hS h (Nat.le_refl _) (Nat.le_refl _) dX3_mean_11)
/-! L_isAsked -/
set_option maxHeartbeats 4000000 in
set_option maxRecDepth 100000 in
theorem cb_L_isAsked {E : cj_E} {σ : cj_S} {x0 : Nat} {x1 : Int32} {P : Int32 → cj_S → Prop} (h : (cj_T σ x0 = 1 ∧ (((cj_F σ 107 x0) ≤ 0 → P (0 : Int32) σ) ∧ (¬ (cj_F σ 107 x0) ≤ 0 → cs_L_isIn E σ (x1).toInt64 (0 : Int64) (3 : Int64) (fun r3 σ4 => ((r3 = 0 → P (0 : Int32) σ4) ∧ (¬ r3 = 0 → (cj_T σ4 x0 = 1 ∧ (∃ a7, (cj_R σ4 109 x0) = some a7 ∧ (cj_T σ4 a7 = 2 ∧ cs_St_asked E σ4 a7 (fun r9 σ10 => cs_L_has E σ10 r9 x1 (fun r12 σ13 => ((r12 = 0 → P (0 : Int32) σ13) ∧ (¬ r12 = 0 → P (1 : Int32) σ13)))))))))))))) : cs_L_isAsked E σ x0 x1 P :=
  cj_enter (k := 2) (lv := [(0, .ref x0), (1, .int x1)]) (by decide) (Nat.le_of_ble_eq_true rfl) rfl (by
    intro d hd p e s m args below meth c hcx H locs ls hW hS hl
    have hx := hcx.1
    have hb := hcx.2.1
    have hown := hcx.2.2.2.2.2.1
    have hts := hcx.2.2.2.2.2.2.1
    refine lv_aload_n (pc := 0) hx hb dX1_isAsked_0 rfl (lv_at hl 0 rfl) ?_
    obtain ⟨g1, h⟩ := h
    refine cj_fld (pc := 1) hcx hW 0 g1 (by decide) rfl in_X1 7 (by decide) (by decide) q284 dX1_isAsked_1 (v := .int (cj_F σ 107 x0)) rfl ?_
    refine lv_if_le (pc := 4) (tgt := 37) hx hb dX1_isAsked_4 (by decide) (fun c2 => ?_) (fun c2 => ?_)
    · have h := h.1 c2
      refine lv_iconst (pc := 37) (v := (0 : Int32)) hx hb dX1_isAsked_37 (by decide) ?_
      exact cj_reti (pc := 38) hcx hW hS rfl h (Nat.le_refl _) (Nat.le_refl _) dX1_isAsked_38
    · have h := h.2 c2
      refine lv_iload_n (pc := 7) hx hb dX1_isAsked_7 rfl (lv_at hl 1 rfl) ?_
      refine lv_i2l (pc := 8) hx hb dX1_isAsked_8 rfl ?_
      refine lv_lconst (pc := 9) (v := (0 : Int64)) hx hb dX1_isAsked_9 (by decide) ?_
      refine lv_ldc2 (pc := 10) (v := (3 : Int64)) hx hb hown (hts _ q936) dX1_isAsked_10 ?_
      refine cj_xi (pc := 13) (cj_runS hcx hW hS [.long (x1).toInt64, .long (0 : Int64), .long (3 : Int64)] h (Nat.le_trans (by decide) hd) (lw_S q349 q350 q122 q351) yd_L_isIn (by decide) rfl rfl (Nat.le_of_ble_eq_true rfl) hl.1 (Nat.le_refl _) (Nat.le_refl _) dX1_isAsked_13) hS (fun r3 σ4 h H locs hW hS => ?_)
      refine lv_if_eq (pc := 16) (tgt := 37) hx hb dX1_isAsked_16 (by decide) (fun c5 => ?_) (fun c5 => ?_)
      · have h := h.1 c5
        refine lv_iconst (pc := 37) (v := (0 : Int32)) hx hb dX1_isAsked_37 (by decide) ?_
        exact cj_reti (pc := 38) hcx hW hS rfl h (Nat.le_refl _) (Nat.le_refl _) dX1_isAsked_38
      · have h := h.2 c5
        refine lv_aload_n (pc := 19) hx hb dX1_isAsked_19 rfl (lv_at hl 0 rfl) ?_
        obtain ⟨g6, h⟩ := h
        refine cj_fld (pc := 20) hcx hW 0 g6 (by decide) rfl in_X1 9 (by decide) (by decide) q286 dX1_isAsked_20 (v := va_rf (cj_R σ4 109 x0)) rfl ?_
        obtain ⟨a7, e8, h⟩ := h
        refine cj_stk (st' := [.ref a7]) (by rw [e8]; rfl) ?_
        obtain ⟨g11, h⟩ := h
        refine cj_xi (pc := 23) (cj_runV hcx hW hS 1 g11 (by decide) rfl [] h (Nat.le_trans (by decide) hd) (lw_V q967 q851 q852 q123 q853) rfl yd_St_asked (by decide) rfl rfl (Nat.le_of_ble_eq_true rfl) hl.1 (Nat.le_refl _) (Nat.le_refl _) dX1_isAsked_23) hS (fun r9 σ10 h H locs hW hS => ?_)
        refine lv_iload_n (pc := 26) hx hb dX1_isAsked_26 rfl (lv_at hl 1 rfl) ?_
        refine cj_xi (pc := 27) (cj_runS hcx hW hS [.int r9, .int x1] h (Nat.le_trans (by decide) hd) (lw_S q993 q387 q122 q388) yd_L_has (by decide) rfl rfl (Nat.le_of_ble_eq_true rfl) hl.1 (Nat.le_refl _) (Nat.le_refl _) dX1_isAsked_27) hS (fun r12 σ13 h H locs hW hS => ?_)
        refine lv_if_eq (pc := 30) (tgt := 37) hx hb dX1_isAsked_30 (by decide) (fun c14 => ?_) (fun c14 => ?_)
        · have h := h.1 c14
          refine lv_iconst (pc := 37) (v := (0 : Int32)) hx hb dX1_isAsked_37 (by decide) ?_
          exact cj_reti (pc := 38) hcx hW hS rfl h (Nat.le_refl _) (Nat.le_refl _) dX1_isAsked_38
        · have h := h.2 c14
          refine lv_iconst (pc := 33) (v := (1 : Int32)) hx hb dX1_isAsked_33 (by decide) ?_
          refine lv_goto (pc := 34) (tgt := 38) hx hb dX1_isAsked_34 (by decide) ?_
          exact cj_reti (pc := 38) hcx hW hS rfl h (Nat.le_refl _) (Nat.le_refl _) dX1_isAsked_38)
/-! L_isTable -/
set_option maxHeartbeats 4000000 in
set_option maxRecDepth 100000 in
theorem cb_L_isTable {E : cj_E} {σ : cj_S} {x0 : Nat} {x1 : Int32} {P : Int32 → cj_S → Prop} (h : (cj_T σ x0 = 1 ∧ (((cj_F σ 107 x0) ≤ 0 → P (0 : Int32) σ) ∧ (¬ (cj_F σ 107 x0) ≤ 0 → (∃ a3, (cj_R σ 109 x0) = some a3 ∧ (cj_T σ a3 = 2 ∧ cs_St_isTable E σ a3 x1 (fun r5 σ6 => ((r5 = 0 → P (0 : Int32) σ6) ∧ (¬ r5 = 0 → P (1 : Int32) σ6))))))))) : cs_L_isTable E σ x0 x1 P :=
  cj_enter (k := 2) (lv := [(0, .ref x0), (1, .int x1)]) (by decide) (Nat.le_of_ble_eq_true rfl) rfl (by
    intro d hd p e s m args below meth c hcx H locs ls hW hS hl
    have hx := hcx.1
    have hb := hcx.2.1
    have hown := hcx.2.2.2.2.2.1
    have hts := hcx.2.2.2.2.2.2.1
    refine lv_aload_n (pc := 0) hx hb dX1_isTable_0 rfl (lv_at hl 0 rfl) ?_
    obtain ⟨g1, h⟩ := h
    refine cj_fld (pc := 1) hcx hW 0 g1 (by decide) rfl in_X1 7 (by decide) (by decide) q284 dX1_isTable_1 (v := .int (cj_F σ 107 x0)) rfl ?_
    refine lv_if_le (pc := 4) (tgt := 22) hx hb dX1_isTable_4 (by decide) (fun c2 => ?_) (fun c2 => ?_)
    · have h := h.1 c2
      refine lv_iconst (pc := 22) (v := (0 : Int32)) hx hb dX1_isTable_22 (by decide) ?_
      exact cj_reti (pc := 23) hcx hW hS rfl h (Nat.le_refl _) (Nat.le_refl _) dX1_isTable_23
    · have h := h.2 c2
      refine lv_aload_n (pc := 7) hx hb dX1_isTable_7 rfl (lv_at hl 0 rfl) ?_
      refine cj_fld (pc := 8) hcx hW 0 g1 (by decide) rfl in_X1 9 (by decide) (by decide) q286 dX1_isTable_8 (v := va_rf (cj_R σ 109 x0)) rfl ?_
      refine lv_iload_n (pc := 11) hx hb dX1_isTable_11 rfl (lv_at hl 1 rfl) ?_
      obtain ⟨a3, e4, h⟩ := h
      refine cj_stk (st' := [.int x1, .ref a3]) (by rw [e4]; rfl) ?_
      obtain ⟨g7, h⟩ := h
      refine cj_xi (pc := 12) (cj_runV hcx hW hS 1 g7 (by decide) rfl [.int x1] h (Nat.le_trans (by decide) hd) (lw_V q980 q768 q769 q123 q770) rfl yd_St_isTable (by decide) rfl rfl (Nat.le_of_ble_eq_true rfl) hl.1 (Nat.le_refl _) (Nat.le_refl _) dX1_isTable_12) hS (fun r5 σ6 h H locs hW hS => ?_)
      refine lv_if_eq (pc := 15) (tgt := 22) hx hb dX1_isTable_15 (by decide) (fun c8 => ?_) (fun c8 => ?_)
      · have h := h.1 c8
        refine lv_iconst (pc := 22) (v := (0 : Int32)) hx hb dX1_isTable_22 (by decide) ?_
        exact cj_reti (pc := 23) hcx hW hS rfl h (Nat.le_refl _) (Nat.le_refl _) dX1_isTable_23
      · have h := h.2 c8
        refine lv_iconst (pc := 18) (v := (1 : Int32)) hx hb dX1_isTable_18 (by decide) ?_
        refine lv_goto (pc := 19) (tgt := 23) hx hb dX1_isTable_19 (by decide) ?_
        exact cj_reti (pc := 23) hcx hW hS rfl h (Nat.le_refl _) (Nat.le_refl _) dX1_isTable_23)
/-! L_rule -/
set_option maxHeartbeats 4000000 in
set_option maxRecDepth 100000 in
theorem cb_L_rule {E : cj_E} {σ : cj_S} {x0 : Nat} {x1 : Int32} {P : Int32 → cj_S → Prop} (h : (cj_T σ x0 = 1 ∧ (((cj_F σ 107 x0) = 0 → P (-1 : Int32) σ) ∧ (¬ (cj_F σ 107 x0) = 0 → ((x1 = (0 : Int32) → P (cj_F σ 107 x0) σ) ∧ (¬ x1 = (0 : Int32) → ((x1 = (1 : Int32) → (∃ a5, (cj_R σ 109 x0) = some a5 ∧ (cj_T σ a5 = 2 ∧ P (cj_F σ 202 a5) σ))) ∧ (¬ x1 = (1 : Int32) → ((x1 = (2 : Int32) → (∃ a9, (cj_R σ 109 x0) = some a9 ∧ (cj_T σ a9 = 2 ∧ P (cj_F σ 203 a9) σ))) ∧ (¬ x1 = (2 : Int32) → ((x1 = (3 : Int32) → (∃ a13, (cj_R σ 109 x0) = some a13 ∧ (cj_T σ a13 = 2 ∧ cs_St_asked E σ a13 (fun r15 σ16 => P r15 σ16)))) ∧ (¬ x1 = (3 : Int32) → ((x1 = (4 : Int32) → (∃ a19, (cj_R σ 109 x0) = some a19 ∧ (cj_T σ a19 = 2 ∧ cs_St_rows E σ a19 (fun r21 σ22 => P r21 σ22)))) ∧ (¬ x1 = (4 : Int32) → P (-1 : Int32) σ)))))))))))))) : cs_L_rule E σ x0 x1 P :=
  cj_enter (k := 2) (lv := [(0, .ref x0), (1, .int x1)]) (by decide) (Nat.le_of_ble_eq_true rfl) rfl (by
    intro d hd p e s m args below meth c hcx H locs ls hW hS hl
    have hx := hcx.1
    have hb := hcx.2.1
    have hown := hcx.2.2.2.2.2.1
    have hts := hcx.2.2.2.2.2.2.1
    refine lv_aload_n (pc := 0) hx hb dX1_rule_0 rfl (lv_at hl 0 rfl) ?_
    obtain ⟨g1, h⟩ := h
    refine cj_fld (pc := 1) hcx hW 0 g1 (by decide) rfl in_X1 7 (by decide) (by decide) q284 dX1_rule_1 (v := .int (cj_F σ 107 x0)) rfl ?_
    refine lv_if_ne (pc := 4) (tgt := 9) hx hb dX1_rule_4 (by decide) (fun c2 => ?_) (fun c2 => ?_)
    · have h := h.2 c2
      refine lv_iload_n (pc := 9) hx hb dX1_rule_9 rfl (lv_at hl 1 rfl) ?_
      by_cases c3 : x1 = (0 : Int32)
      · have h := h.1 c3
        refine lv_tableIn (pc := 10) (off := 34) (tgt := 44) hx hb dX1_rule_10 (by rw [c3]; decide) (by rw [c3]; decide) (by rw [c3]; rfl) (by decide) ?_
        refine lv_aload_n (pc := 44) hx hb dX1_rule_44 rfl (lv_at hl 0 rfl) ?_
        refine cj_fld (pc := 45) hcx hW 0 g1 (by decide) rfl in_X1 7 (by decide) (by decide) q284 dX1_rule_45 (v := .int (cj_F σ 107 x0)) rfl ?_
        exact cj_reti (pc := 48) hcx hW hS rfl h (Nat.le_refl _) (Nat.le_refl _) dX1_rule_48
      · have h := h.2 c3
        by_cases c4 : x1 = (1 : Int32)
        · have h := h.1 c4
          refine lv_tableIn (pc := 10) (off := 39) (tgt := 49) hx hb dX1_rule_10 (by rw [c4]; decide) (by rw [c4]; decide) (by rw [c4]; rfl) (by decide) ?_
          refine lv_aload_n (pc := 49) hx hb dX1_rule_49 rfl (lv_at hl 0 rfl) ?_
          refine cj_fld (pc := 50) hcx hW 0 g1 (by decide) rfl in_X1 9 (by decide) (by decide) q286 dX1_rule_50 (v := va_rf (cj_R σ 109 x0)) rfl ?_
          obtain ⟨a5, e6, h⟩ := h
          refine cj_stk (st' := [.ref a5]) (by rw [e6]; rfl) ?_
          obtain ⟨g7, h⟩ := h
          refine cj_fldN (pc := 53) hcx hW 1 g7 (by decide) rfl in_X2 2 (by decide) (by decide) (List.mem_of_getElem? (i := 2) rfl) dX1_rule_53 (v := .int (cj_F σ 202 a5)) rfl ?_
          exact cj_reti (pc := 56) hcx hW hS rfl h (Nat.le_refl _) (Nat.le_refl _) dX1_rule_56
        · have h := h.2 c4
          by_cases c8 : x1 = (2 : Int32)
          · have h := h.1 c8
            refine lv_tableIn (pc := 10) (off := 47) (tgt := 57) hx hb dX1_rule_10 (by rw [c8]; decide) (by rw [c8]; decide) (by rw [c8]; rfl) (by decide) ?_
            refine lv_aload_n (pc := 57) hx hb dX1_rule_57 rfl (lv_at hl 0 rfl) ?_
            refine cj_fld (pc := 58) hcx hW 0 g1 (by decide) rfl in_X1 9 (by decide) (by decide) q286 dX1_rule_58 (v := va_rf (cj_R σ 109 x0)) rfl ?_
            obtain ⟨a9, e10, h⟩ := h
            refine cj_stk (st' := [.ref a9]) (by rw [e10]; rfl) ?_
            obtain ⟨g11, h⟩ := h
            refine cj_fldN (pc := 61) hcx hW 1 g11 (by decide) rfl in_X2 3 (by decide) (by decide) (List.mem_of_getElem? (i := 3) rfl) dX1_rule_61 (v := .int (cj_F σ 203 a9)) rfl ?_
            exact cj_reti (pc := 64) hcx hW hS rfl h (Nat.le_refl _) (Nat.le_refl _) dX1_rule_64
          · have h := h.2 c8
            by_cases c12 : x1 = (3 : Int32)
            · have h := h.1 c12
              refine lv_tableIn (pc := 10) (off := 55) (tgt := 65) hx hb dX1_rule_10 (by rw [c12]; decide) (by rw [c12]; decide) (by rw [c12]; rfl) (by decide) ?_
              refine lv_aload_n (pc := 65) hx hb dX1_rule_65 rfl (lv_at hl 0 rfl) ?_
              refine cj_fld (pc := 66) hcx hW 0 g1 (by decide) rfl in_X1 9 (by decide) (by decide) q286 dX1_rule_66 (v := va_rf (cj_R σ 109 x0)) rfl ?_
              obtain ⟨a13, e14, h⟩ := h
              refine cj_stk (st' := [.ref a13]) (by rw [e14]; rfl) ?_
              obtain ⟨g17, h⟩ := h
              refine cj_xi (pc := 69) (cj_runV hcx hW hS 1 g17 (by decide) rfl [] h (Nat.le_trans (by decide) hd) (lw_V q967 q851 q852 q123 q853) rfl yd_St_asked (by decide) rfl rfl (Nat.le_of_ble_eq_true rfl) hl.1 (Nat.le_refl _) (Nat.le_refl _) dX1_rule_69) hS (fun r15 σ16 h H locs hW hS => ?_)
              exact cj_reti (pc := 72) hcx hW hS rfl h (Nat.le_refl _) (Nat.le_refl _) dX1_rule_72
            · have h := h.2 c12
              by_cases c18 : x1 = (4 : Int32)
              · have h := h.1 c18
                refine lv_tableIn (pc := 10) (off := 63) (tgt := 73) hx hb dX1_rule_10 (by rw [c18]; decide) (by rw [c18]; decide) (by rw [c18]; rfl) (by decide) ?_
                refine lv_aload_n (pc := 73) hx hb dX1_rule_73 rfl (lv_at hl 0 rfl) ?_
                refine cj_fld (pc := 74) hcx hW 0 g1 (by decide) rfl in_X1 9 (by decide) (by decide) q286 dX1_rule_74 (v := va_rf (cj_R σ 109 x0)) rfl ?_
                obtain ⟨a19, e20, h⟩ := h
                refine cj_stk (st' := [.ref a19]) (by rw [e20]; rfl) ?_
                obtain ⟨g23, h⟩ := h
                refine cj_xi (pc := 77) (cj_runV hcx hW hS 1 g23 (by decide) rfl [] h (Nat.le_trans (by decide) hd) (lw_V q968 q969 q970 q123 q971) rfl yd_St_rows (by decide) rfl rfl (Nat.le_of_ble_eq_true rfl) hl.1 (Nat.le_refl _) (Nat.le_refl _) dX1_rule_77) hS (fun r21 σ22 h H locs hW hS => ?_)
                exact cj_reti (pc := 80) hcx hW hS rfl h (Nat.le_refl _) (Nat.le_refl _) dX1_rule_80
              · have h := h.2 c18
                refine lv_tableOut (pc := 10) (tgt := 81) hx hb dX1_rule_10 (cj_sw5 c3 c4 c8 c12 c18) (by decide) ?_
                refine lv_iconst (pc := 81) (v := (-1 : Int32)) hx hb dX1_rule_81 (by decide) ?_
                exact cj_reti (pc := 82) hcx hW hS rfl h (Nat.le_refl _) (Nat.le_refl _) dX1_rule_82
    · have h := h.1 c2
      refine lv_iconst (pc := 7) (v := (-1 : Int32)) hx hb dX1_rule_7 (by decide) ?_
      exact cj_reti (pc := 8) hcx hW hS rfl h (Nat.le_refl _) (Nat.le_refl _) dX1_rule_8)
/-! L_step -/
set_option maxHeartbeats 4000000 in
set_option maxRecDepth 100000 in
theorem cb_L_step {E : cj_E} {σ : cj_S} {x0 : Nat} {x1 : Int32} {x2 : Int32} {x3 : Int32} {P : Int32 → cj_S → Prop} (h : (cj_T σ x0 = 1 ∧ cs_L_isScript E σ x0 x1 (fun r1 σ2 => ((r1 = 0 → P (-1000000 : Int32) σ2) ∧ (¬ r1 = 0 → (cj_T σ2 x0 = 1 ∧ (∃ a6, (cj_R σ2 102 x0) = some a6 ∧ (cj_T σ2 a6 = 30 ∧ (vp_in x1 (cj_N σ2 a6) ∧ (∃ a10, (cj_B σ2 a6 x1.toNatClampNeg) = some a10 ∧ (cj_T σ2 a10 = 10 ∧ cs_L_isIn E σ2 (x2).toInt64 (0 : Int64) ((cj_F σ2 1002 a10) - (1 : Int32)).toInt64 (fun r13 σ14 => ((r13 = 0 → P (-1000000 : Int32) σ14) ∧ (¬ r13 = 0 → cs_L_isIn E σ14 (x3).toInt64 (0 : Int64) (4 : Int64) (fun r16 σ17 => ((r16 = 0 → P (-1000000 : Int32) σ17) ∧ (¬ r16 = 0 → ((x3 = 0 → (cj_T σ17 x0 = 1 ∧ (∃ a31, (cj_R σ17 102 x0) = some a31 ∧ (cj_T σ17 a31 = 30 ∧ (vp_in x1 (cj_N σ17 a31) ∧ (∃ a35, (cj_B σ17 a31 x1.toNatClampNeg) = some a35 ∧ (cj_T σ17 a35 = 10 ∧ (∃ a38, (cj_R σ17 1000 a35) = some a38 ∧ (cj_T σ17 a38 = 21 ∧ (vp_in x2 (cj_N σ17 a38) ∧ P (cj_A σ17 a38 x2.toNatClampNeg) σ17)))))))))) ∧ (¬ x3 = 0 → (cj_T σ17 x0 = 1 ∧ (∃ a21, (cj_R σ17 102 x0) = some a21 ∧ (cj_T σ17 a21 = 30 ∧ (vp_in x1 (cj_N σ17 a21) ∧ (∃ a25, (cj_B σ17 a21 x1.toNatClampNeg) = some a25 ∧ (cj_T σ17 a25 = 10 ∧ cs_Sc_number E σ17 a25 x2 (x3 - (1 : Int32)) (fun r27 σ28 => P r27 σ28)))))))))))))))))))))))))) : cs_L_step E σ x0 x1 x2 x3 P :=
  cj_enter (k := 2) (lv := [(0, .ref x0), (1, .int x1), (2, .int x2), (3, .int x3)]) (by decide) (Nat.le_of_ble_eq_true rfl) rfl (by
    intro d hd p e s m args below meth c hcx H locs ls hW hS hl
    have hx := hcx.1
    have hb := hcx.2.1
    have hown := hcx.2.2.2.2.2.1
    have hts := hcx.2.2.2.2.2.2.1
    refine lv_aload_n (pc := 0) hx hb dX1_step_0 rfl (lv_at hl 0 rfl) ?_
    refine lv_iload_n (pc := 1) hx hb dX1_step_1 rfl (lv_at hl 1 rfl) ?_
    obtain ⟨g3, h⟩ := h
    refine cj_xi (pc := 2) (cj_runV hcx hW hS 0 g3 (by decide) rfl [.int x1] h (Nat.le_trans (by decide) hd) (lw_V q1157 q1159 qs39 q122 q1160) rfl yd_L_isScript (by decide) rfl rfl (Nat.le_of_ble_eq_true rfl) hl.1 (Nat.le_refl _) (Nat.le_refl _) dX1_step_2) hS (fun r1 σ2 h H locs hW hS => ?_)
    refine lv_if_eq (pc := 5) (tgt := 41) hx hb dX1_step_5 (by decide) (fun c4 => ?_) (fun c4 => ?_)
    · have h := h.1 c4
      refine lv_ldc (pc := 41) (v := (-1000000 : Int32)) hx hb hown (hts _ q946) dX1_step_41 ?_
      exact cj_reti (pc := 43) hcx hW hS rfl h (Nat.le_refl _) (Nat.le_refl _) dX1_step_43
    · have h := h.2 c4
      refine lv_iload_n (pc := 8) hx hb dX1_step_8 rfl (lv_at hl 2 rfl) ?_
      refine lv_i2l (pc := 9) hx hb dX1_step_9 rfl ?_
      refine lv_lconst (pc := 10) (v := (0 : Int64)) hx hb dX1_step_10 (by decide) ?_
      refine lv_aload_n (pc := 11) hx hb dX1_step_11 rfl (lv_at hl 0 rfl) ?_
      obtain ⟨g5, h⟩ := h
      refine cj_fld (pc := 12) hcx hW 0 g5 (by decide) rfl in_X1 2 (by decide) (by decide) q276 dX1_step_12 (v := va_rf (cj_R σ2 102 x0)) rfl ?_
      refine lv_iload_n (pc := 15) hx hb dX1_step_15 rfl (lv_at hl 1 rfl) ?_
      obtain ⟨a6, e7, h⟩ := h
      refine cj_stk (st' := [.int x1, .ref a6, .long (0 : Int64), .long (x2).toInt64]) (by rw [e7]; rfl) ?_
      obtain ⟨g8, h⟩ := h
      obtain ⟨g9, h⟩ := h
      refine cj_aald (pc := 16) hcx hW g8 (by unfold cj_rt; decide) g9 dX1_step_16 ?_
      obtain ⟨a10, e11, h⟩ := h
      refine cj_stk (st' := [.ref a10, .long (0 : Int64), .long (x2).toInt64]) (by rw [e11]; rfl) ?_
      obtain ⟨g12, h⟩ := h
      refine cj_fldN (pc := 17) hcx hW 9 g12 (by decide) rfl in_X12 2 (by decide) (by decide) (List.mem_of_getElem? (i := 15) rfl) dX1_step_17 (v := .int (cj_F σ2 1002 a10)) rfl ?_
      refine lv_iconst (pc := 20) (v := (1 : Int32)) hx hb dX1_step_20 (by decide) ?_
      refine lv_isub (pc := 21) hx hb dX1_step_21 ?_
      refine lv_i2l (pc := 22) hx hb dX1_step_22 rfl ?_
      refine cj_xi (pc := 23) (cj_runS hcx hW hS [.long (x2).toInt64, .long (0 : Int64), .long ((cj_F σ2 1002 a10) - (1 : Int32)).toInt64] h (Nat.le_trans (by decide) hd) (lw_S q349 q350 q122 q351) yd_L_isIn (by decide) rfl rfl (Nat.le_of_ble_eq_true rfl) hl.1 (Nat.le_refl _) (Nat.le_refl _) dX1_step_23) hS (fun r13 σ14 h H locs hW hS => ?_)
      refine lv_if_eq (pc := 26) (tgt := 41) hx hb dX1_step_26 (by decide) (fun c15 => ?_) (fun c15 => ?_)
      · have h := h.1 c15
        refine lv_ldc (pc := 41) (v := (-1000000 : Int32)) hx hb hown (hts _ q946) dX1_step_41 ?_
        exact cj_reti (pc := 43) hcx hW hS rfl h (Nat.le_refl _) (Nat.le_refl _) dX1_step_43
      · have h := h.2 c15
        refine lv_iload_n (pc := 29) hx hb dX1_step_29 rfl (lv_at hl 3 rfl) ?_
        refine lv_i2l (pc := 30) hx hb dX1_step_30 rfl ?_
        refine lv_lconst (pc := 31) (v := (0 : Int64)) hx hb dX1_step_31 (by decide) ?_
        refine lv_ldc2 (pc := 32) (v := (4 : Int64)) hx hb hown (hts _ q1161) dX1_step_32 ?_
        refine cj_xi (pc := 35) (cj_runS hcx hW hS [.long (x3).toInt64, .long (0 : Int64), .long (4 : Int64)] h (Nat.le_trans (by decide) hd) (lw_S q349 q350 q122 q351) yd_L_isIn (by decide) rfl rfl (Nat.le_of_ble_eq_true rfl) hl.1 (Nat.le_refl _) (Nat.le_refl _) dX1_step_35) hS (fun r16 σ17 h H locs hW hS => ?_)
        refine lv_if_ne (pc := 38) (tgt := 44) hx hb dX1_step_38 (by decide) (fun c18 => ?_) (fun c18 => ?_)
        · have h := h.2 c18
          refine lv_iload_n (pc := 44) hx hb dX1_step_44 rfl (lv_at hl 3 rfl) ?_
          refine lv_if_ne (pc := 45) (tgt := 62) hx hb dX1_step_45 (by decide) (fun c19 => ?_) (fun c19 => ?_)
          · have h := h.2 c19
            refine lv_aload_n (pc := 62) hx hb dX1_step_62 rfl (lv_at hl 0 rfl) ?_
            obtain ⟨g20, h⟩ := h
            refine cj_fld (pc := 63) hcx hW 0 g20 (by decide) rfl in_X1 2 (by decide) (by decide) q276 dX1_step_63 (v := va_rf (cj_R σ17 102 x0)) rfl ?_
            refine lv_iload_n (pc := 66) hx hb dX1_step_66 rfl (lv_at hl 1 rfl) ?_
            obtain ⟨a21, e22, h⟩ := h
            refine cj_stk (st' := [.int x1, .ref a21]) (by rw [e22]; rfl) ?_
            obtain ⟨g23, h⟩ := h
            obtain ⟨g24, h⟩ := h
            refine cj_aald (pc := 67) hcx hW g23 (by unfold cj_rt; decide) g24 dX1_step_67 ?_
            refine lv_iload_n (pc := 68) hx hb dX1_step_68 rfl (lv_at hl 2 rfl) ?_
            refine lv_iload_n (pc := 69) hx hb dX1_step_69 rfl (lv_at hl 3 rfl) ?_
            refine lv_iconst (pc := 70) (v := (1 : Int32)) hx hb dX1_step_70 (by decide) ?_
            refine lv_isub (pc := 71) hx hb dX1_step_71 ?_
            obtain ⟨a25, e26, h⟩ := h
            refine cj_stk (st' := [.int (x3 - (1 : Int32)), .int x2, .ref a25]) (by rw [e26]; rfl) ?_
            obtain ⟨g29, h⟩ := h
            refine cj_xi (pc := 72) (cj_runV hcx hW hS 9 g29 (by decide) rfl [.int x2, .int (x3 - (1 : Int32))] h (Nat.le_trans (by decide) hd) (lw_V q1162 q1163 q1164 q136 q1165) rfl yd_Sc_number (by decide) rfl rfl (Nat.le_of_ble_eq_true rfl) hl.1 (Nat.le_refl _) (Nat.le_refl _) dX1_step_72) hS (fun r27 σ28 h H locs hW hS => ?_)
            exact cj_reti (pc := 75) hcx hW hS rfl h (Nat.le_refl _) (Nat.le_refl _) dX1_step_75
          · have h := h.1 c19
            refine lv_aload_n (pc := 48) hx hb dX1_step_48 rfl (lv_at hl 0 rfl) ?_
            obtain ⟨g30, h⟩ := h
            refine cj_fld (pc := 49) hcx hW 0 g30 (by decide) rfl in_X1 2 (by decide) (by decide) q276 dX1_step_49 (v := va_rf (cj_R σ17 102 x0)) rfl ?_
            refine lv_iload_n (pc := 52) hx hb dX1_step_52 rfl (lv_at hl 1 rfl) ?_
            obtain ⟨a31, e32, h⟩ := h
            refine cj_stk (st' := [.int x1, .ref a31]) (by rw [e32]; rfl) ?_
            obtain ⟨g33, h⟩ := h
            obtain ⟨g34, h⟩ := h
            refine cj_aald (pc := 53) hcx hW g33 (by unfold cj_rt; decide) g34 dX1_step_53 ?_
            obtain ⟨a35, e36, h⟩ := h
            refine cj_stk (st' := [.ref a35]) (by rw [e36]; rfl) ?_
            obtain ⟨g37, h⟩ := h
            refine cj_fldN (pc := 54) hcx hW 9 g37 (by decide) rfl in_X12 0 (by decide) (by decide) (List.mem_of_getElem? (i := 14) rfl) dX1_step_54 (v := va_rf (cj_R σ17 1000 a35)) rfl ?_
            refine lv_iload_n (pc := 57) hx hb dX1_step_57 rfl (lv_at hl 2 rfl) ?_
            obtain ⟨a38, e39, h⟩ := h
            refine cj_stk (st' := [.int x2, .ref a38]) (by rw [e39]; rfl) ?_
            obtain ⟨g40, h⟩ := h
            obtain ⟨g41, h⟩ := h
            refine cj_iald (pc := 58) hcx hW g40 g41 dX1_step_58 ?_
            refine lv_goto (pc := 59) (tgt := 75) hx hb dX1_step_59 (by decide) ?_
            exact cj_reti (pc := 75) hcx hW hS rfl h (Nat.le_refl _) (Nat.le_refl _) dX1_step_75
        · have h := h.1 c18
          refine lv_ldc (pc := 41) (v := (-1000000 : Int32)) hx hb hown (hts _ q946) dX1_step_41 ?_
          exact cj_reti (pc := 43) hcx hW hS rfl h (Nat.le_refl _) (Nat.le_refl _) dX1_step_43)
/-! L_undo -/
set_option maxHeartbeats 4000000 in
set_option maxRecDepth 100000 in
theorem cb_L_undo {E : cj_E} {σ : cj_S} {x0 : Nat} {P : Int32 → cj_S → Prop} (h : (cj_T σ x0 = 1 ∧ (((cj_F σ 115 x0) = 0 → P (-1 : Int32) σ) ∧ (¬ (cj_F σ 115 x0) = 0 → (∃ a3, (cj_R σ 114 x0) = some a3 ∧ (cj_T σ a3 = 22 ∧ (vp_in (cj_F (cj_sF (cj_sF σ 115 x0 ((cj_F σ 115 x0) - (1 : Int32))) 116 x0 ((((cj_F σ 116 x0) + (40 : Int32)) - (1 : Int32)) - (((cj_F σ 116 x0) + (40 : Int32)) - (1 : Int32)) / (40 : Int32) * (40 : Int32))) 116 x0) (cj_N σ a3) ∧ (∃ a7, (cj_R σ 109 x0) = some a7 ∧ (cj_T σ a7 = 2 ∧ cs_St_becomes E (cj_sF (cj_sF σ 115 x0 ((cj_F σ 115 x0) - (1 : Int32))) 116 x0 ((((cj_F σ 116 x0) + (40 : Int32)) - (1 : Int32)) - (((cj_F σ 116 x0) + (40 : Int32)) - (1 : Int32)) / (40 : Int32) * (40 : Int32))) a7 (cj_B σ a3 (cj_F (cj_sF (cj_sF σ 115 x0 ((cj_F σ 115 x0) - (1 : Int32))) 116 x0 ((((cj_F σ 116 x0) + (40 : Int32)) - (1 : Int32)) - (((cj_F σ 116 x0) + (40 : Int32)) - (1 : Int32)) / (40 : Int32) * (40 : Int32))) 116 x0).toNatClampNeg) (fun σ10 => (cj_T σ10 x0 = 1 ∧ P (cj_F σ10 115 x0) σ10))))))))))) : cs_L_undo E σ x0 P :=
  cj_enter (k := 2) (lv := [(0, .ref x0)]) (by decide) (Nat.le_of_ble_eq_true rfl) rfl (by
    intro d hd p e s m args below meth c hcx H locs ls hW hS hl
    have hx := hcx.1
    have hb := hcx.2.1
    have hown := hcx.2.2.2.2.2.1
    have hts := hcx.2.2.2.2.2.2.1
    refine lv_aload_n (pc := 0) hx hb dX1_undo_0 rfl (lv_at hl 0 rfl) ?_
    obtain ⟨g1, h⟩ := h
    refine cj_fld (pc := 1) hcx hW 0 g1 (by decide) rfl in_X1 15 (by decide) (by decide) q292 dX1_undo_1 (v := .int (cj_F σ 115 x0)) rfl ?_
    refine lv_if_ne (pc := 4) (tgt := 9) hx hb dX1_undo_4 (by decide) (fun c2 => ?_) (fun c2 => ?_)
    · have h := h.2 c2
      refine lv_aload_n (pc := 9) hx hb dX1_undo_9 rfl (lv_at hl 0 rfl) ?_
      refine lv_dup (pc := 10) hx hb dX1_undo_10 rfl ?_
      refine cj_fld (pc := 11) hcx hW 0 g1 (by decide) rfl in_X1 15 (by decide) (by decide) q292 dX1_undo_11 (v := .int (cj_F σ 115 x0)) rfl ?_
      refine lv_iconst (pc := 14) (v := (1 : Int32)) hx hb dX1_undo_14 (by decide) ?_
      refine lv_isub (pc := 15) hx hb dX1_undo_15 ?_
      refine cj_put (pc := 16) (σ1 := (cj_sF σ 115 x0 ((cj_F σ 115 x0) - (1 : Int32)))) hcx hW hS 0 g1 (by decide) rfl in_X1 tyX1_ok nmX1 15 (by decide) (by decide) rfl rfl rfl (cj_pI rfl) q292 dX1_undo_16 (fun H locs hW hS => ?_)
      refine lv_aload_n (pc := 19) hx hb dX1_undo_19 rfl (lv_at hl 0 rfl) ?_
      refine lv_aload_n (pc := 20) hx hb dX1_undo_20 rfl (lv_at hl 0 rfl) ?_
      refine cj_fld (pc := 21) hcx hW 0 g1 (by decide) rfl in_X1 16 (by decide) (by decide) q293 dX1_undo_21 (v := .int (cj_F σ 116 x0)) rfl ?_
      refine lv_bipush (pc := 24) (v := (40 : Int32)) hx hb dX1_undo_24 (by decide) ?_
      refine lv_iadd (pc := 26) hx hb dX1_undo_26 ?_
      refine lv_iconst (pc := 27) (v := (1 : Int32)) hx hb dX1_undo_27 (by decide) ?_
      refine lv_isub (pc := 28) hx hb dX1_undo_28 ?_
      refine lv_bipush (pc := 29) (v := (40 : Int32)) hx hb dX1_undo_29 (by decide) ?_
      refine lv_irem (pc := 31) hx hb dX1_undo_31 (by decide) ?_
      refine cj_put (pc := 32) (σ1 := (cj_sF (cj_sF σ 115 x0 ((cj_F σ 115 x0) - (1 : Int32))) 116 x0 ((((cj_F σ 116 x0) + (40 : Int32)) - (1 : Int32)) - (((cj_F σ 116 x0) + (40 : Int32)) - (1 : Int32)) / (40 : Int32) * (40 : Int32)))) hcx hW hS 0 g1 (by decide) rfl in_X1 tyX1_ok nmX1 16 (by decide) (by decide) rfl rfl rfl (cj_pI rfl) q293 dX1_undo_32 (fun H locs hW hS => ?_)
      refine lv_aload_n (pc := 35) hx hb dX1_undo_35 rfl (lv_at hl 0 rfl) ?_
      refine cj_fld (pc := 36) hcx hW 0 g1 (by decide) rfl in_X1 9 (by decide) (by decide) q286 dX1_undo_36 (v := va_rf (cj_R σ 109 x0)) rfl ?_
      refine lv_aload_n (pc := 39) hx hb dX1_undo_39 rfl (lv_at hl 0 rfl) ?_
      refine cj_fld (pc := 40) hcx hW 0 g1 (by decide) rfl in_X1 14 (by decide) (by decide) q291 dX1_undo_40 (v := va_rf (cj_R σ 114 x0)) rfl ?_
      refine lv_aload_n (pc := 43) hx hb dX1_undo_43 rfl (lv_at hl 0 rfl) ?_
      refine cj_fld (pc := 44) hcx hW 0 g1 (by decide) rfl in_X1 16 (by decide) (by decide) q293 dX1_undo_44 (v := .int (cj_F (cj_sF (cj_sF σ 115 x0 ((cj_F σ 115 x0) - (1 : Int32))) 116 x0 ((((cj_F σ 116 x0) + (40 : Int32)) - (1 : Int32)) - (((cj_F σ 116 x0) + (40 : Int32)) - (1 : Int32)) / (40 : Int32) * (40 : Int32))) 116 x0)) rfl ?_
      obtain ⟨a3, e4, h⟩ := h
      refine cj_stk (st' := [.int (cj_F (cj_sF (cj_sF σ 115 x0 ((cj_F σ 115 x0) - (1 : Int32))) 116 x0 ((((cj_F σ 116 x0) + (40 : Int32)) - (1 : Int32)) - (((cj_F σ 116 x0) + (40 : Int32)) - (1 : Int32)) / (40 : Int32) * (40 : Int32))) 116 x0), .ref a3, va_rf (cj_R σ 109 x0)]) (by rw [e4]; rfl) ?_
      obtain ⟨g5, h⟩ := h
      obtain ⟨g6, h⟩ := h
      refine cj_aald (pc := 47) hcx hW g5 (by unfold cj_rt; decide) g6 dX1_undo_47 ?_
      refine cj_stk (st' := [va_rf (cj_B σ a3 (cj_F (cj_sF (cj_sF σ 115 x0 ((cj_F σ 115 x0) - (1 : Int32))) 116 x0 ((((cj_F σ 116 x0) + (40 : Int32)) - (1 : Int32)) - (((cj_F σ 116 x0) + (40 : Int32)) - (1 : Int32)) / (40 : Int32) * (40 : Int32))) 116 x0).toNatClampNeg), va_rf (cj_R σ 109 x0)]) rfl ?_
      obtain ⟨a7, e8, h⟩ := h
      refine cj_stk (st' := [va_rf (cj_B σ a3 (cj_F (cj_sF (cj_sF σ 115 x0 ((cj_F σ 115 x0) - (1 : Int32))) 116 x0 ((((cj_F σ 116 x0) + (40 : Int32)) - (1 : Int32)) - (((cj_F σ 116 x0) + (40 : Int32)) - (1 : Int32)) / (40 : Int32) * (40 : Int32))) 116 x0).toNatClampNeg), .ref a7]) (by rw [e8]; rfl) ?_
      obtain ⟨g11, h⟩ := h
      refine cj_xv (pc := 48) (cj_runV hcx hW hS 1 g11 (by decide) rfl [va_rf (cj_B σ a3 (cj_F (cj_sF (cj_sF σ 115 x0 ((cj_F σ 115 x0) - (1 : Int32))) 116 x0 ((((cj_F σ 116 x0) + (40 : Int32)) - (1 : Int32)) - (((cj_F σ 116 x0) + (40 : Int32)) - (1 : Int32)) / (40 : Int32) * (40 : Int32))) 116 x0).toNatClampNeg)] h (Nat.le_trans (by decide) hd) (lw_V q749 q750 q751 q123 q752) rfl yd_St_becomes (by decide) rfl rfl (Nat.le_of_ble_eq_true rfl) hl.1 (Nat.le_refl _) (Nat.le_refl _) dX1_undo_48) hS (fun σ10 h H locs hW hS => ?_)
      refine lv_aload_n (pc := 51) hx hb dX1_undo_51 rfl (lv_at hl 0 rfl) ?_
      obtain ⟨g12, h⟩ := h
      refine cj_fld (pc := 52) hcx hW 0 g12 (by decide) rfl in_X1 15 (by decide) (by decide) q292 dX1_undo_52 (v := .int (cj_F σ10 115 x0)) rfl ?_
      exact cj_reti (pc := 55) hcx hW hS rfl h (Nat.le_refl _) (Nat.le_refl _) dX1_undo_55
    · have h := h.1 c2
      refine lv_iconst (pc := 7) (v := (-1 : Int32)) hx hb dX1_undo_7 (by decide) ?_
      exact cj_reti (pc := 8) hcx hW hS rfl h (Nat.le_refl _) (Nat.le_refl _) dX1_undo_8)
/-! Rw_of -/
set_option maxHeartbeats 4000000 in
set_option maxRecDepth 100000 in
theorem cb_Rw_of_52 {E : cj_E} {σ : cj_S} {x0 : Int32} {x1 : Int32} {x2 : Int32} {cu : Nat} {su : Nat} {P : Option Nat → cj_S → Prop} (h : ((x1 = (-1 : Int32) → (cu + 1 ≤ 3 ∧ (su + 1 ≤ 16 ∧ (∀ q33, cj_T σ q33 = 0 → ((cu + 1) ≤ 3 ∧ ((su + 1) ≤ 16 ∧ cs_On_init E (cj_new σ q33 7) q33 x0 (fun σ38 => (((cu + 1) + 0) ≤ 3 ∧ (((su + 1) + 0) ≤ 16 ∧ P (some q33) σ38))))))))) ∧ (¬ x1 = (-1 : Int32) → ((x2 = (-1 : Int32) → (cu + 1 ≤ 3 ∧ (su + 2 ≤ 16 ∧ (∀ q23, cj_T σ q23 = 0 → ((cu + 1) ≤ 3 ∧ ((su + 2) ≤ 16 ∧ cs_Tw_init E (cj_new σ q23 8) q23 x0 x1 (fun σ28 => (((cu + 1) + 0) ≤ 3 ∧ (((su + 2) + 0) ≤ 16 ∧ P (some q23) σ28))))))))) ∧ (¬ x2 = (-1 : Int32) → (cu + 1 ≤ 3 ∧ (su + 1 ≤ 16 ∧ (∀ q5, cj_T σ q5 = 0 → ((cu + 1) + 1 ≤ 3 ∧ ((su + 1) + 3 ≤ 16 ∧ (∀ q9, cj_T (cj_new σ q5 9) q9 = 0 → (cj_T (cj_newA (cj_new σ q5 9) q9 21 3) q9 = 21 ∧ (vp_in (0 : Int32) (cj_N (cj_newA (cj_new σ q5 9) q9 21 3) q9) ∧ (vp_in (1 : Int32) (cj_N (cj_newA (cj_new σ q5 9) q9 21 3) q9) ∧ (vp_in (2 : Int32) (cj_N (cj_newA (cj_new σ q5 9) q9 21 3) q9) ∧ (((cu + 1) + 1) + 1 ≤ 3 ∧ (((su + 1) + 3) + 12 ≤ 16 ∧ cs_Th_init E (cj_sA (cj_sA (cj_sA (cj_newA (cj_new σ q5 9) q9 21 3) q9 (0 : Int32).toNatClampNeg x0) q9 (1 : Int32).toNatClampNeg x1) q9 (2 : Int32).toNatClampNeg x2) q5 (some q9) (fun σ18 => ((((cu + 1) + 1) + 1) ≤ 3 ∧ ((((su + 1) + 3) + 12) ≤ 16 ∧ P (some q5) σ18)))))))))))))))))))) : cg_Rw_of_52 E σ x0 x1 x2 cu su P := by
  intro d hd p e s m args below meth c hcx H locs ls hW hS hl
  have hx := hcx.1
  have hb := hcx.2.1
  have hown := hcx.2.2.2.2.2.1
  have hts := hcx.2.2.2.2.2.2.1
  refine lv_iload_n (pc := 52) hx hb dX8_of_52 rfl (lv_at hl 1 rfl) ?_
  refine lv_iconst (pc := 53) (v := (-1 : Int32)) hx hb dX8_of_53 (by decide) ?_
  refine lv_icmp_ne (pc := 54) (tgt := 68) hx hb dX8_of_54 (by decide) (fun c1 => ?_) (fun c1 => ?_)
  · have h := h.2 c1
    refine lv_iload_n (pc := 68) hx hb dX8_of_68 rfl (lv_at hl 2 rfl) ?_
    refine lv_iconst (pc := 69) (v := (-1 : Int32)) hx hb dX8_of_69 (by decide) ?_
    refine lv_icmp_ne (pc := 70) (tgt := 85) hx hb dX8_of_70 (by decide) (fun c2 => ?_) (fun c2 => ?_)
    · have h := h.2 c2
      obtain ⟨g3, h⟩ := h
      obtain ⟨g4, h⟩ := h
      refine cj_newo (pc := 85) hcx hW hS 8 (by decide) rfl in_X11 tyX11_ok rfl rfl q474 q552 q135 g3 g4 dX8_of_85 (fun q5 H z6 hW hS => ?_)
      have h := h q5 z6
      refine lv_dup (pc := 88) hx hb dX8_of_88 rfl ?_
      refine lv_iconst (pc := 89) (v := (3 : Int32)) hx hb dX8_of_89 (by decide) ?_
      obtain ⟨g7, h⟩ := h
      obtain ⟨g8, h⟩ := h
      refine cj_newi (pc := 90) hcx hW hS (N := 3) (by decide) (by decide) (by decide) g7 g8 dX8_of_90 (fun q9 H z10 hW hS => ?_)
      have h := h q9 z10
      refine lv_dup (pc := 92) hx hb dX8_of_92 rfl ?_
      refine lv_iconst (pc := 93) (v := (0 : Int32)) hx hb dX8_of_93 (by decide) ?_
      refine lv_iload_n (pc := 94) hx hb dX8_of_94 rfl (lv_at hl 0 rfl) ?_
      obtain ⟨g11, h⟩ := h
      obtain ⟨g12, h⟩ := h
      refine cj_iast (pc := 95) hcx hW hS g11 g12 dX8_of_95 (fun H locs hW hS => ?_)
      refine lv_dup (pc := 96) hx hb dX8_of_96 rfl ?_
      refine lv_iconst (pc := 97) (v := (1 : Int32)) hx hb dX8_of_97 (by decide) ?_
      refine lv_iload_n (pc := 98) hx hb dX8_of_98 rfl (lv_at hl 1 rfl) ?_
      obtain ⟨g13, h⟩ := h
      refine cj_iast (pc := 99) hcx hW hS g11 g13 dX8_of_99 (fun H locs hW hS => ?_)
      refine lv_dup (pc := 100) hx hb dX8_of_100 rfl ?_
      refine lv_iconst (pc := 101) (v := (2 : Int32)) hx hb dX8_of_101 (by decide) ?_
      refine lv_iload_n (pc := 102) hx hb dX8_of_102 rfl (lv_at hl 2 rfl) ?_
      obtain ⟨g14, h⟩ := h
      refine cj_iast (pc := 103) hcx hW hS g11 g14 dX8_of_103 (fun H locs hW hS => ?_)
      obtain ⟨g15, h⟩ := h
      obtain ⟨g16, h⟩ := h
      refine cj_xv (pc := 104) (cj_runI hcx hW hS [va_rf (some q9)] h (Nat.le_trans (by decide) hd) q553 q554 q135 q555 rfl yd_Th_init (by decide) rfl rfl (Nat.le_of_ble_eq_true rfl) hl.1 g15 g16 dX8_of_104) hS (fun σ18 h H locs hW hS => ?_)
      obtain ⟨g19, h⟩ := h
      obtain ⟨g20, h⟩ := h
      exact cj_retq (pc := 107) (r := (some q5)) hcx hW hS (Or.inl ⟨_, rfl⟩) h g19 g20 dX8_of_107
    · have h := h.1 c2
      obtain ⟨g21, h⟩ := h
      obtain ⟨g22, h⟩ := h
      refine cj_newo (pc := 73) hcx hW hS 7 (by decide) rfl in_X10 tyX10_ok rfl rfl q472 q540 q134 g21 g22 dX8_of_73 (fun q23 H z24 hW hS => ?_)
      have h := h q23 z24
      refine lv_dup (pc := 76) hx hb dX8_of_76 rfl ?_
      refine lv_iload_n (pc := 77) hx hb dX8_of_77 rfl (lv_at hl 0 rfl) ?_
      refine lv_iload_n (pc := 78) hx hb dX8_of_78 rfl (lv_at hl 1 rfl) ?_
      obtain ⟨g25, h⟩ := h
      obtain ⟨g26, h⟩ := h
      refine cj_xv (pc := 79) (cj_runI hcx hW hS [.int x0, .int x1] h (Nat.le_trans (by decide) hd) q541 q542 q134 q543 rfl yd_Tw_init (by decide) rfl rfl (Nat.le_of_ble_eq_true rfl) hl.1 g25 g26 dX8_of_79) hS (fun σ28 h H locs hW hS => ?_)
      refine lv_goto (pc := 82) (tgt := 107) hx hb dX8_of_82 (by decide) ?_
      obtain ⟨g29, h⟩ := h
      obtain ⟨g30, h⟩ := h
      exact cj_retq (pc := 107) (r := (some q23)) hcx hW hS (Or.inl ⟨_, rfl⟩) h g29 g30 dX8_of_107
  · have h := h.1 c1
    obtain ⟨g31, h⟩ := h
    obtain ⟨g32, h⟩ := h
    refine cj_newo (pc := 57) hcx hW hS 6 (by decide) rfl in_X9 tyX9_ok rfl rfl q470 q528 q133 g31 g32 dX8_of_57 (fun q33 H z34 hW hS => ?_)
    have h := h q33 z34
    refine lv_dup (pc := 60) hx hb dX8_of_60 rfl ?_
    refine lv_iload_n (pc := 61) hx hb dX8_of_61 rfl (lv_at hl 0 rfl) ?_
    obtain ⟨g35, h⟩ := h
    obtain ⟨g36, h⟩ := h
    refine cj_xv (pc := 62) (cj_runI hcx hW hS [.int x0] h (Nat.le_trans (by decide) hd) q529 q530 q133 q531 rfl yd_On_init (by decide) rfl rfl (Nat.le_of_ble_eq_true rfl) hl.1 g35 g36 dX8_of_62) hS (fun σ38 h H locs hW hS => ?_)
    refine lv_goto (pc := 65) (tgt := 107) hx hb dX8_of_65 (by decide) ?_
    obtain ⟨g39, h⟩ := h
    obtain ⟨g40, h⟩ := h
    exact cj_retq (pc := 107) (r := (some q33)) hcx hW hS (Or.inl ⟨_, rfl⟩) h g39 g40 dX8_of_107
set_option maxHeartbeats 4000000 in
set_option maxRecDepth 100000 in
theorem cb_Rw_of {E : cj_E} {σ : cj_S} {x0 : Int32} {x1 : Int32} {x2 : Int32} {P : Option Nat → cj_S → Prop} (h : cs_L_isIn E σ (x0).toInt64 (0 : Int64) (99 : Int64) (fun r1 σ2 => ((r1 = 0 → P none σ2) ∧ (¬ r1 = 0 → cs_L_isIn E σ2 (x1).toInt64 (-1 : Int64) (99 : Int64) (fun r4 σ5 => ((r4 = 0 → P none σ5) ∧ (¬ r4 = 0 → cs_L_isIn E σ5 (x2).toInt64 (-1 : Int64) (99 : Int64) (fun r7 σ8 => ((r7 = 0 → P none σ8) ∧ (¬ r7 = 0 → ((x1 = (-1 : Int32) → ((x2 = (-1 : Int32) → cg_Rw_of_52 E σ8 x0 x1 x2 0 0 P) ∧ (¬ x2 = (-1 : Int32) → P none σ8))) ∧ (¬ x1 = (-1 : Int32) → cg_Rw_of_52 E σ8 x0 x1 x2 0 0 P)))))))))))) : cs_Rw_of E σ x0 x1 x2 P :=
  cj_enter (k := 2) (lv := [(0, .int x0), (1, .int x1), (2, .int x2)]) (by decide) (Nat.le_of_ble_eq_true rfl) rfl (by
    intro d hd p e s m args below meth c hcx H locs ls hW hS hl
    have hx := hcx.1
    have hb := hcx.2.1
    have hown := hcx.2.2.2.2.2.1
    have hts := hcx.2.2.2.2.2.2.1
    refine lv_iload_n (pc := 0) hx hb dX8_of_0 rfl (lv_at hl 0 rfl) ?_
    refine lv_i2l (pc := 1) hx hb dX8_of_1 rfl ?_
    refine lv_lconst (pc := 2) (v := (0 : Int64)) hx hb dX8_of_2 (by decide) ?_
    refine lv_ldc2 (pc := 3) (v := (99 : Int64)) hx hb hown (hts _ q525) dX8_of_3 ?_
    refine cj_xi (pc := 6) (cj_runSN hcx hW hS [.long (x0).toInt64, .long (0 : Int64), .long (99 : Int64)] h (Nat.le_trans (by decide) hd) (List.mem_of_getElem? (i := 12) rfl) q350 q122 q351 yd_L_isIn (by decide) rfl rfl (Nat.le_of_ble_eq_true rfl) hl.1 (Nat.le_of_ble_eq_true rfl) (Nat.le_of_ble_eq_true rfl) dX8_of_6) hS (fun r1 σ2 h H locs hW hS => ?_)
    refine lv_if_eq (pc := 9) (tgt := 50) hx hb dX8_of_9 (by decide) (fun c3 => ?_) (fun c3 => ?_)
    · have h := h.1 c3
      refine lv_null (pc := 50) hx hb dX8_of_50 ?_
      exact cj_retq (pc := 51) (r := none) hcx hW hS (Or.inl ⟨_, rfl⟩) h (Nat.le_of_ble_eq_true rfl) (Nat.le_of_ble_eq_true rfl) dX8_of_51
    · have h := h.2 c3
      refine lv_iload_n (pc := 12) hx hb dX8_of_12 rfl (lv_at hl 1 rfl) ?_
      refine lv_i2l (pc := 13) hx hb dX8_of_13 rfl ?_
      refine lv_ldc2 (pc := 14) (v := (-1 : Int64)) hx hb hown (hts _ q527) dX8_of_14 ?_
      refine lv_ldc2 (pc := 17) (v := (99 : Int64)) hx hb hown (hts _ q525) dX8_of_17 ?_
      refine cj_xi (pc := 20) (cj_runSN hcx hW hS [.long (x1).toInt64, .long (-1 : Int64), .long (99 : Int64)] h (Nat.le_trans (by decide) hd) (List.mem_of_getElem? (i := 12) rfl) q350 q122 q351 yd_L_isIn (by decide) rfl rfl (Nat.le_of_ble_eq_true rfl) hl.1 (Nat.le_of_ble_eq_true rfl) (Nat.le_of_ble_eq_true rfl) dX8_of_20) hS (fun r4 σ5 h H locs hW hS => ?_)
      refine lv_if_eq (pc := 23) (tgt := 50) hx hb dX8_of_23 (by decide) (fun c6 => ?_) (fun c6 => ?_)
      · have h := h.1 c6
        refine lv_null (pc := 50) hx hb dX8_of_50 ?_
        exact cj_retq (pc := 51) (r := none) hcx hW hS (Or.inl ⟨_, rfl⟩) h (Nat.le_of_ble_eq_true rfl) (Nat.le_of_ble_eq_true rfl) dX8_of_51
      · have h := h.2 c6
        refine lv_iload_n (pc := 26) hx hb dX8_of_26 rfl (lv_at hl 2 rfl) ?_
        refine lv_i2l (pc := 27) hx hb dX8_of_27 rfl ?_
        refine lv_ldc2 (pc := 28) (v := (-1 : Int64)) hx hb hown (hts _ q527) dX8_of_28 ?_
        refine lv_ldc2 (pc := 31) (v := (99 : Int64)) hx hb hown (hts _ q525) dX8_of_31 ?_
        refine cj_xi (pc := 34) (cj_runSN hcx hW hS [.long (x2).toInt64, .long (-1 : Int64), .long (99 : Int64)] h (Nat.le_trans (by decide) hd) (List.mem_of_getElem? (i := 12) rfl) q350 q122 q351 yd_L_isIn (by decide) rfl rfl (Nat.le_of_ble_eq_true rfl) hl.1 (Nat.le_of_ble_eq_true rfl) (Nat.le_of_ble_eq_true rfl) dX8_of_34) hS (fun r7 σ8 h H locs hW hS => ?_)
        refine lv_if_eq (pc := 37) (tgt := 50) hx hb dX8_of_37 (by decide) (fun c9 => ?_) (fun c9 => ?_)
        · have h := h.1 c9
          refine lv_null (pc := 50) hx hb dX8_of_50 ?_
          exact cj_retq (pc := 51) (r := none) hcx hW hS (Or.inl ⟨_, rfl⟩) h (Nat.le_of_ble_eq_true rfl) (Nat.le_of_ble_eq_true rfl) dX8_of_51
        · have h := h.2 c9
          refine lv_iload_n (pc := 40) hx hb dX8_of_40 rfl (lv_at hl 1 rfl) ?_
          refine lv_iconst (pc := 41) (v := (-1 : Int32)) hx hb dX8_of_41 (by decide) ?_
          refine lv_icmp_ne (pc := 42) (tgt := 52) hx hb dX8_of_42 (by decide) (fun c10 => ?_) (fun c10 => ?_)
          · have h := h.2 c10
            exact h d hd p e s m args below meth c hcx H locs _ hW hS (lv_sub hl [0, 1, 2] rfl)
          · have h := h.1 c10
            refine lv_iload_n (pc := 45) hx hb dX8_of_45 rfl (lv_at hl 2 rfl) ?_
            refine lv_iconst (pc := 46) (v := (-1 : Int32)) hx hb dX8_of_46 (by decide) ?_
            refine lv_icmp_eq (pc := 47) (tgt := 52) hx hb dX8_of_47 (by decide) (fun c11 => ?_) (fun c11 => ?_)
            · have h := h.1 c11
              exact h d hd p e s m args below meth c hcx H locs _ hW hS (lv_sub hl [0, 1, 2] rfl)
            · have h := h.2 c11
              refine lv_null (pc := 50) hx hb dX8_of_50 ?_
              exact cj_retq (pc := 51) (r := none) hcx hW hS (Or.inl ⟨_, rfl⟩) h (Nat.le_of_ble_eq_true rfl) (Nat.le_of_ble_eq_true rfl) dX8_of_51)
/-! St_uses -/
set_option maxHeartbeats 4000000 in
set_option maxRecDepth 100000 in
theorem cb_St_uses {E : cj_E} {σ : cj_S} {x0 : Nat} {x1 : Int32} {P : Int32 → cj_S → Prop} (h : (cj_T σ x0 = 2 ∧ cs_St_isTable E σ x0 x1 (fun r1 σ2 => ((r1 = 0 → P (0 : Int32) σ2) ∧ (¬ r1 = 0 → (cj_T σ2 x0 = 2 ∧ (((cj_F σ2 202 x0) = ((1 : Int32) <<< (x1 &&& 31)) → P (2 : Int32) σ2) ∧ (¬ (cj_F σ2 202 x0) = ((1 : Int32) <<< (x1 &&& 31)) → cs_St_done E (cj_sF σ2 202 x0 ((cj_F σ2 202 x0) ^^^ ((1 : Int32) <<< (x1 &&& 31)))) x0 (((cj_F (cj_sF σ2 202 x0 ((cj_F σ2 202 x0) ^^^ ((1 : Int32) <<< (x1 &&& 31)))) 202 x0) >>> (x1 &&& 31)) &&& (1 : Int32)) (fun r7 σ8 => P r7 σ8))))))))) : cs_St_uses E σ x0 x1 P :=
  cj_enter (k := 2) (lv := [(0, .ref x0), (1, .int x1)]) (by decide) (Nat.le_of_ble_eq_true rfl) rfl (by
    intro d hd p e s m args below meth c hcx H locs ls hW hS hl
    have hx := hcx.1
    have hb := hcx.2.1
    have hown := hcx.2.2.2.2.2.1
    have hts := hcx.2.2.2.2.2.2.1
    refine lv_aload_n (pc := 0) hx hb dX2_uses_0 rfl (lv_at hl 0 rfl) ?_
    refine lv_iload_n (pc := 1) hx hb dX2_uses_1 rfl (lv_at hl 1 rfl) ?_
    obtain ⟨g3, h⟩ := h
    refine cj_xi (pc := 2) (cj_runV hcx hW hS 1 g3 (by decide) rfl [.int x1] h (Nat.le_trans (by decide) hd) (lw_V q767 q768 q769 q123 q770) rfl yd_St_isTable (by decide) rfl rfl (Nat.le_of_ble_eq_true rfl) hl.1 (Nat.le_refl _) (Nat.le_refl _) dX2_uses_2) hS (fun r1 σ2 h H locs hW hS => ?_)
    refine lv_if_ne (pc := 5) (tgt := 10) hx hb dX2_uses_5 (by decide) (fun c4 => ?_) (fun c4 => ?_)
    · have h := h.2 c4
      refine lv_aload_n (pc := 10) hx hb dX2_uses_10 rfl (lv_at hl 0 rfl) ?_
      obtain ⟨g5, h⟩ := h
      refine cj_fld (pc := 11) hcx hW 1 g5 (by decide) rfl in_X2 2 (by decide) (by decide) q189 dX2_uses_11 (v := .int (cj_F σ2 202 x0)) rfl ?_
      refine lv_iconst (pc := 14) (v := (1 : Int32)) hx hb dX2_uses_14 (by decide) ?_
      refine lv_iload_n (pc := 15) hx hb dX2_uses_15 rfl (lv_at hl 1 rfl) ?_
      refine lv_ishl (pc := 16) hx hb dX2_uses_16 ?_
      refine lv_icmp_ne (pc := 17) (tgt := 22) hx hb dX2_uses_17 (by decide) (fun c6 => ?_) (fun c6 => ?_)
      · have h := h.2 c6
        refine lv_aload_n (pc := 22) hx hb dX2_uses_22 rfl (lv_at hl 0 rfl) ?_
        refine lv_dup (pc := 23) hx hb dX2_uses_23 rfl ?_
        refine cj_fld (pc := 24) hcx hW 1 g5 (by decide) rfl in_X2 2 (by decide) (by decide) q189 dX2_uses_24 (v := .int (cj_F σ2 202 x0)) rfl ?_
        refine lv_iconst (pc := 27) (v := (1 : Int32)) hx hb dX2_uses_27 (by decide) ?_
        refine lv_iload_n (pc := 28) hx hb dX2_uses_28 rfl (lv_at hl 1 rfl) ?_
        refine lv_ishl (pc := 29) hx hb dX2_uses_29 ?_
        refine lv_ixor (pc := 30) hx hb dX2_uses_30 ?_
        refine cj_put (pc := 31) (σ1 := (cj_sF σ2 202 x0 ((cj_F σ2 202 x0) ^^^ ((1 : Int32) <<< (x1 &&& 31))))) hcx hW hS 1 g5 (by decide) rfl in_X2 tyX2_ok nmX2 2 (by decide) (by decide) rfl rfl rfl (cj_pI rfl) q189 dX2_uses_31 (fun H locs hW hS => ?_)
        refine lv_aload_n (pc := 34) hx hb dX2_uses_34 rfl (lv_at hl 0 rfl) ?_
        refine lv_aload_n (pc := 35) hx hb dX2_uses_35 rfl (lv_at hl 0 rfl) ?_
        refine cj_fld (pc := 36) hcx hW 1 g5 (by decide) rfl in_X2 2 (by decide) (by decide) q189 dX2_uses_36 (v := .int (cj_F (cj_sF σ2 202 x0 ((cj_F σ2 202 x0) ^^^ ((1 : Int32) <<< (x1 &&& 31)))) 202 x0)) rfl ?_
        refine lv_iload_n (pc := 39) hx hb dX2_uses_39 rfl (lv_at hl 1 rfl) ?_
        refine lv_ishr (pc := 40) hx hb dX2_uses_40 ?_
        refine lv_iconst (pc := 41) (v := (1 : Int32)) hx hb dX2_uses_41 (by decide) ?_
        refine lv_iand (pc := 42) hx hb dX2_uses_42 ?_
        refine cj_xi (pc := 43) (cj_runV hcx hW hS 1 g5 (by decide) rfl [.int (((cj_F (cj_sF σ2 202 x0 ((cj_F σ2 202 x0) ^^^ ((1 : Int32) <<< (x1 &&& 31)))) 202 x0) >>> (x1 &&& 31)) &&& (1 : Int32))] h (Nat.le_trans (by decide) hd) (lw_V q815 q817 qs16 q123 q818) rfl yd_St_done (by decide) rfl rfl (Nat.le_of_ble_eq_true rfl) hl.1 (Nat.le_refl _) (Nat.le_refl _) dX2_uses_43) hS (fun r7 σ8 h H locs hW hS => ?_)
        exact cj_reti (pc := 46) hcx hW hS rfl h (Nat.le_refl _) (Nat.le_refl _) dX2_uses_46
      · have h := h.1 c6
        refine lv_iconst (pc := 20) (v := (2 : Int32)) hx hb dX2_uses_20 (by decide) ?_
        exact cj_reti (pc := 21) hcx hW hS rfl h (Nat.le_refl _) (Nat.le_refl _) dX2_uses_21
    · have h := h.1 c4
      refine lv_iconst (pc := 8) (v := (0 : Int32)) hx hb dX2_uses_8 (by decide) ?_
      exact cj_reti (pc := 9) hcx hW hS rfl h (Nat.le_refl _) (Nat.le_refl _) dX2_uses_9)
/-! Tb_keys -/
set_option maxHeartbeats 4000000 in
set_option maxRecDepth 100000 in
theorem cb_Tb_keys_13 {E : cj_E} {σ : cj_S} {x0 : Nat} {x2 : Option Nat} {x3 : Int32} {x4 : Option Nat} {x5 : Int32} {x6 : Int32} {x7 : Int32} {P : Int32 → cj_S → Prop} (h : (cj_T σ x0 = 6 ∧ (((cj_F σ 603 x0) ≤ x7 → P x5 σ) ∧ (¬ (cj_F σ 603 x0) ≤ x7 → (∃ a3, (cj_R σ 601 x0) = some a3 ∧ (cj_rt (cj_T σ a3) ∧ (vp_in x7 (cj_N σ a3) ∧ cs_Tb_fits E σ x0 (cj_B σ a3 x7.toNatClampNeg) x2 x3 (fun r7 σ8 => ((r7 = 0 → cg_Tb_keys_13 E σ8 x0 x2 x3 x4 x5 x6 (x7 + (1 : Int32)) P) ∧ (¬ r7 = 0 → (cj_T σ8 x0 = 6 ∧ (∃ a11, (cj_R σ8 601 x0) = some a11 ∧ (cj_rt (cj_T σ8 a11) ∧ (vp_in x7 (cj_N σ8 a11) ∧ (∃ a15, (cj_B σ8 a11 x7.toNatClampNeg) = some a15 ∧ cs_Rw_at E σ8 a15 x6 (fun r17 σ18 => cg_Tb_keys_59 E σ18 x0 x2 x3 x4 x5 x6 x7 r17 x5 P)))))))))))))))) : cg_Tb_keys_13 E σ x0 x2 x3 x4 x5 x6 x7 P := by
  intro d hd p e s m args below meth c hcx H locs ls hW hS hl
  have hx := hcx.1
  have hb := hcx.2.1
  have hown := hcx.2.2.2.2.2.1
  have hts := hcx.2.2.2.2.2.2.1
  refine lv_iload (pc := 13) hx hb dX7_keys_13 (lv_at hl 6 rfl) ?_
  refine lv_aload_n (pc := 15) hx hb dX7_keys_15 rfl (lv_at hl 0 rfl) ?_
  obtain ⟨g1, h⟩ := h
  refine cj_fld (pc := 16) hcx hW 5 g1 (by decide) rfl in_X7 3 (by decide) (by decide) q490 dX7_keys_16 (v := .int (cj_F σ 603 x0)) rfl ?_
  refine lv_icmp_ge (pc := 19) (tgt := 147) hx hb dX7_keys_19 (by decide) (fun c2 => ?_) (fun c2 => ?_)
  · have h := h.1 c2
    refine lv_iload (pc := 147) hx hb dX7_keys_147 (lv_at hl 4 rfl) ?_
    exact cj_reti (pc := 149) hcx hW hS rfl h (Nat.le_refl _) (Nat.le_refl _) dX7_keys_149
  · have h := h.2 c2
    refine lv_aload_n (pc := 22) hx hb dX7_keys_22 rfl (lv_at hl 0 rfl) ?_
    refine lv_aload_n (pc := 23) hx hb dX7_keys_23 rfl (lv_at hl 0 rfl) ?_
    refine cj_fld (pc := 24) hcx hW 5 g1 (by decide) rfl in_X7 1 (by decide) (by decide) q487 dX7_keys_24 (v := va_rf (cj_R σ 601 x0)) rfl ?_
    refine lv_iload (pc := 27) hx hb dX7_keys_27 (lv_at hl 6 rfl) ?_
    obtain ⟨a3, e4, h⟩ := h
    refine cj_stk (st' := [.int x7, .ref a3, .ref x0]) (by rw [e4]; rfl) ?_
    obtain ⟨g5, h⟩ := h
    obtain ⟨g6, h⟩ := h
    refine cj_aald (pc := 29) hcx hW rfl g5 g6 dX7_keys_29 ?_
    refine cj_aload_n (pc := 30) hx hb dX7_keys_30 rfl (lv_at hl 1 rfl) ?_
    refine lv_iload_n (pc := 31) hx hb dX7_keys_31 rfl (lv_at hl 2 rfl) ?_
    refine cj_xi (pc := 32) (cj_runV hcx hW hS 5 g1 (by decide) rfl [va_rf (cj_B σ a3 x7.toNatClampNeg), va_rf x2, .int x3] h (Nat.le_trans (by decide) hd) (lw_V q885 q887 qs23 q131 q888) rfl yd_Tb_fits (by decide) rfl rfl (Nat.le_of_ble_eq_true rfl) hl.1 (Nat.le_refl _) (Nat.le_refl _) dX7_keys_32) hS (fun r7 σ8 h H locs hW hS => ?_)
    refine lv_if_ne (pc := 35) (tgt := 41) hx hb dX7_keys_35 (by decide) (fun c9 => ?_) (fun c9 => ?_)
    · have h := h.2 c9
      refine lv_aload_n (pc := 41) hx hb dX7_keys_41 rfl (lv_at hl 0 rfl) ?_
      obtain ⟨g10, h⟩ := h
      refine cj_fld (pc := 42) hcx hW 5 g10 (by decide) rfl in_X7 1 (by decide) (by decide) q487 dX7_keys_42 (v := va_rf (cj_R σ8 601 x0)) rfl ?_
      refine lv_iload (pc := 45) hx hb dX7_keys_45 (lv_at hl 6 rfl) ?_
      obtain ⟨a11, e12, h⟩ := h
      refine cj_stk (st' := [.int x7, .ref a11]) (by rw [e12]; rfl) ?_
      obtain ⟨g13, h⟩ := h
      obtain ⟨g14, h⟩ := h
      refine cj_aald (pc := 47) hcx hW rfl g13 g14 dX7_keys_47 ?_
      refine lv_iload (pc := 48) hx hb dX7_keys_48 (lv_at hl 5 rfl) ?_
      obtain ⟨a15, e16, h⟩ := h
      refine cj_stk (st' := [.int x6, .ref a15]) (by rw [e16]; rfl) ?_
      refine cj_xi (pc := 50) (cj_runRw_at hcx hW hS h (Nat.le_trans (by decide) hd) q890 rfl (Nat.le_of_ble_eq_true rfl) hl.1 (Nat.le_refl _) (Nat.le_refl _) dX7_keys_50) hS (fun r17 σ18 h H locs hW hS => ?_)
      refine lv_istore (pc := 53) (lv' := [(8, .int r17), (0, .ref x0), (2, va_rf x2), (3, .int x3), (4, va_rf x4), (5, .int x5), (6, .int x6), (7, .int x7)]) hx hb dX7_keys_53 hl (by decide) rfl (fun ls hl => ?_)
      refine lv_iload (pc := 55) hx hb dX7_keys_55 (lv_at hl 5 rfl) ?_
      refine lv_istore (pc := 57) (lv' := [(9, .int x5), (8, .int r17), (0, .ref x0), (2, va_rf x2), (3, .int x3), (4, va_rf x4), (5, .int x5), (6, .int x6), (7, .int x7)]) hx hb dX7_keys_57 hl (by decide) rfl (fun ls hl => ?_)
      exact h d hd p e s m args below meth c hcx H locs _ hW hS (lv_sub hl [2, 3, 4, 5, 6, 7, 8, 1, 0] rfl)
    · have h := h.1 c9
      refine lv_goto (pc := 38) (tgt := 141) hx hb dX7_keys_38 (by decide) ?_
      refine lv_iinc (pc := 141) (v := (x7 + (1 : Int32))) (lv' := [(7, .int (x7 + (1 : Int32))), (0, .ref x0), (2, va_rf x2), (3, .int x3), (4, va_rf x4), (5, .int x5), (6, .int x6)]) hx hb dX7_keys_141 hl (k := 6) rfl rfl (by decide) rfl (fun ls hl => ?_)
      refine lv_goto (pc := 144) (tgt := 13) hx hb dX7_keys_144 (by decide) ?_
      exact h d hd p e s m args below meth c hcx H locs _ hW hS (lv_sub hl [1, 2, 3, 4, 5, 6, 0] rfl)
set_option maxHeartbeats 4000000 in
set_option maxRecDepth 100000 in
theorem cb_Tb_keys_59 {E : cj_E} {σ : cj_S} {x0 : Nat} {x2 : Option Nat} {x3 : Int32} {x4 : Option Nat} {x5 : Int32} {x6 : Int32} {x7 : Int32} {x8 : Int32} {x9 : Int32} {P : Int32 → cj_S → Prop} (h : ((x9 ≤ 0 → cg_Tb_keys_82 E σ x0 x2 x3 x4 x5 x6 x7 x8 x9 P) ∧ (¬ x9 ≤ 0 → (∃ a2, x4 = some a2 ∧ (cj_T σ a2 = 21 ∧ (vp_in (x9 - (1 : Int32)) (cj_N σ a2) ∧ (((cj_A σ a2 (x9 - (1 : Int32)).toNatClampNeg) ≤ x8 → cg_Tb_keys_82 E σ x0 x2 x3 x4 x5 x6 x7 x8 x9 P) ∧ (¬ (cj_A σ a2 (x9 - (1 : Int32)).toNatClampNeg) ≤ x8 → cg_Tb_keys_59 E σ x0 x2 x3 x4 x5 x6 x7 x8 (x9 + (-1 : Int32)) P)))))))) : cg_Tb_keys_59 E σ x0 x2 x3 x4 x5 x6 x7 x8 x9 P := by
  intro d hd p e s m args below meth c hcx H locs ls hW hS hl
  have hx := hcx.1
  have hb := hcx.2.1
  have hown := hcx.2.2.2.2.2.1
  have hts := hcx.2.2.2.2.2.2.1
  refine lv_iload (pc := 59) hx hb dX7_keys_59 (lv_at hl 8 rfl) ?_
  refine lv_if_le (pc := 61) (tgt := 82) hx hb dX7_keys_61 (by decide) (fun c1 => ?_) (fun c1 => ?_)
  · have h := h.1 c1
    exact h d hd p e s m args below meth c hcx H locs _ hW hS (lv_sub hl [0, 1, 2, 3, 4, 5, 6, 7, 8] rfl)
  · have h := h.2 c1
    refine cj_aload (pc := 64) hx hb dX7_keys_64 (lv_at hl 3 rfl) ?_
    refine lv_iload (pc := 66) hx hb dX7_keys_66 (lv_at hl 8 rfl) ?_
    refine lv_iconst (pc := 68) (v := (1 : Int32)) hx hb dX7_keys_68 (by decide) ?_
    refine lv_isub (pc := 69) hx hb dX7_keys_69 ?_
    obtain ⟨a2, e3, h⟩ := h
    refine cj_stk (st' := [.int (x9 - (1 : Int32)), .ref a2]) (by rw [e3]; rfl) ?_
    obtain ⟨g4, h⟩ := h
    obtain ⟨g5, h⟩ := h
    refine cj_iald (pc := 70) hcx hW g4 g5 dX7_keys_70 ?_
    refine lv_iload (pc := 71) hx hb dX7_keys_71 (lv_at hl 7 rfl) ?_
    refine lv_icmp_le (pc := 73) (tgt := 82) hx hb dX7_keys_73 (by decide) (fun c6 => ?_) (fun c6 => ?_)
    · have h := h.1 c6
      exact h d hd p e s m args below meth c hcx H locs _ hW hS (lv_sub hl [0, 1, 2, 3, 4, 5, 6, 7, 8] rfl)
    · have h := h.2 c6
      refine lv_iinc (pc := 76) (v := (x9 + (-1 : Int32))) (lv' := [(9, .int (x9 + (-1 : Int32))), (0, .ref x0), (2, va_rf x2), (3, .int x3), (4, va_rf x4), (5, .int x5), (6, .int x6), (7, .int x7), (8, .int x8)]) hx hb dX7_keys_76 hl (k := 8) rfl rfl (by decide) rfl (fun ls hl => ?_)
      refine lv_goto (pc := 79) (tgt := 59) hx hb dX7_keys_79 (by decide) ?_
      exact h d hd p e s m args below meth c hcx H locs _ hW hS (lv_sub hl [1, 2, 3, 4, 5, 6, 7, 8, 0] rfl)
set_option maxHeartbeats 4000000 in
set_option maxRecDepth 100000 in
theorem cb_Tb_keys_82 {E : cj_E} {σ : cj_S} {x0 : Nat} {x2 : Option Nat} {x3 : Int32} {x4 : Option Nat} {x5 : Int32} {x6 : Int32} {x7 : Int32} {x8 : Int32} {x9 : Int32} {P : Int32 → cj_S → Prop} (h : ((x9 ≤ 0 → cg_Tb_keys_106 E σ x0 x2 x3 x4 x5 x6 x7 x8 x9 x5 P) ∧ (¬ x9 ≤ 0 → (∃ a2, x4 = some a2 ∧ (cj_T σ a2 = 21 ∧ (vp_in (x9 - (1 : Int32)) (cj_N σ a2) ∧ (((cj_A σ a2 (x9 - (1 : Int32)).toNatClampNeg) = x8 → cg_Tb_keys_13 E σ x0 x2 x3 x4 x5 x6 (x7 + (1 : Int32)) P) ∧ (¬ (cj_A σ a2 (x9 - (1 : Int32)).toNatClampNeg) = x8 → cg_Tb_keys_106 E σ x0 x2 x3 x4 x5 x6 x7 x8 x9 x5 P)))))))) : cg_Tb_keys_82 E σ x0 x2 x3 x4 x5 x6 x7 x8 x9 P := by
  intro d hd p e s m args below meth c hcx H locs ls hW hS hl
  have hx := hcx.1
  have hb := hcx.2.1
  have hown := hcx.2.2.2.2.2.1
  have hts := hcx.2.2.2.2.2.2.1
  refine lv_iload (pc := 82) hx hb dX7_keys_82 (lv_at hl 8 rfl) ?_
  refine lv_if_le (pc := 84) (tgt := 102) hx hb dX7_keys_84 (by decide) (fun c1 => ?_) (fun c1 => ?_)
  · have h := h.1 c1
    refine lv_iload (pc := 102) hx hb dX7_keys_102 (lv_at hl 4 rfl) ?_
    refine lv_istore (pc := 104) (lv' := [(10, .int x5), (0, .ref x0), (2, va_rf x2), (3, .int x3), (4, va_rf x4), (5, .int x5), (6, .int x6), (7, .int x7), (8, .int x8), (9, .int x9)]) hx hb dX7_keys_104 hl (by decide) rfl (fun ls hl => ?_)
    exact h d hd p e s m args below meth c hcx H locs _ hW hS (lv_sub hl [1, 2, 3, 4, 5, 6, 7, 8, 9, 0] rfl)
  · have h := h.2 c1
    refine cj_aload (pc := 87) hx hb dX7_keys_87 (lv_at hl 3 rfl) ?_
    refine lv_iload (pc := 89) hx hb dX7_keys_89 (lv_at hl 8 rfl) ?_
    refine lv_iconst (pc := 91) (v := (1 : Int32)) hx hb dX7_keys_91 (by decide) ?_
    refine lv_isub (pc := 92) hx hb dX7_keys_92 ?_
    obtain ⟨a2, e3, h⟩ := h
    refine cj_stk (st' := [.int (x9 - (1 : Int32)), .ref a2]) (by rw [e3]; rfl) ?_
    obtain ⟨g4, h⟩ := h
    obtain ⟨g5, h⟩ := h
    refine cj_iald (pc := 93) hcx hW g4 g5 dX7_keys_93 ?_
    refine lv_iload (pc := 94) hx hb dX7_keys_94 (lv_at hl 7 rfl) ?_
    refine lv_icmp_ne (pc := 96) (tgt := 102) hx hb dX7_keys_96 (by decide) (fun c6 => ?_) (fun c6 => ?_)
    · have h := h.2 c6
      refine lv_iload (pc := 102) hx hb dX7_keys_102 (lv_at hl 4 rfl) ?_
      refine lv_istore (pc := 104) (lv' := [(10, .int x5), (0, .ref x0), (2, va_rf x2), (3, .int x3), (4, va_rf x4), (5, .int x5), (6, .int x6), (7, .int x7), (8, .int x8), (9, .int x9)]) hx hb dX7_keys_104 hl (by decide) rfl (fun ls hl => ?_)
      exact h d hd p e s m args below meth c hcx H locs _ hW hS (lv_sub hl [1, 2, 3, 4, 5, 6, 7, 8, 9, 0] rfl)
    · have h := h.1 c6
      refine lv_goto (pc := 99) (tgt := 141) hx hb dX7_keys_99 (by decide) ?_
      refine lv_iinc (pc := 141) (v := (x7 + (1 : Int32))) (lv' := [(7, .int (x7 + (1 : Int32))), (0, .ref x0), (2, va_rf x2), (3, .int x3), (4, va_rf x4), (5, .int x5), (6, .int x6), (8, .int x8), (9, .int x9)]) hx hb dX7_keys_141 hl (k := 6) rfl rfl (by decide) rfl (fun ls hl => ?_)
      refine lv_goto (pc := 144) (tgt := 13) hx hb dX7_keys_144 (by decide) ?_
      exact h d hd p e s m args below meth c hcx H locs _ hW hS (lv_sub hl [1, 2, 3, 4, 5, 6, 0] rfl)
set_option maxHeartbeats 4000000 in
set_option maxRecDepth 100000 in
theorem cb_Tb_keys_106 {E : cj_E} {σ : cj_S} {x0 : Nat} {x2 : Option Nat} {x3 : Int32} {x4 : Option Nat} {x5 : Int32} {x6 : Int32} {x7 : Int32} {x8 : Int32} {x9 : Int32} {x10 : Int32} {P : Int32 → cj_S → Prop} (h : ((x10 ≤ x9 → (∃ a2, x4 = some a2 ∧ (cj_T σ a2 = 21 ∧ (vp_in x9 (cj_N σ a2) ∧ cg_Tb_keys_13 E (cj_sA σ a2 x9.toNatClampNeg x8) x0 x2 x3 x4 (x5 + (1 : Int32)) x6 (x7 + (1 : Int32)) P)))) ∧ (¬ x10 ≤ x9 → (∃ a6, x4 = some a6 ∧ (cj_T σ a6 = 21 ∧ (vp_in (x10 - (1 : Int32)) (cj_N σ a6) ∧ (vp_in x10 (cj_N σ a6) ∧ cg_Tb_keys_106 E (cj_sA σ a6 x10.toNatClampNeg (cj_A σ a6 (x10 - (1 : Int32)).toNatClampNeg)) x0 x2 x3 x4 x5 x6 x7 x8 x9 (x10 + (-1 : Int32)) P))))))) : cg_Tb_keys_106 E σ x0 x2 x3 x4 x5 x6 x7 x8 x9 x10 P := by
  intro d hd p e s m args below meth c hcx H locs ls hW hS hl
  have hx := hcx.1
  have hb := hcx.2.1
  have hown := hcx.2.2.2.2.2.1
  have hts := hcx.2.2.2.2.2.2.1
  refine lv_iload (pc := 106) hx hb dX7_keys_106 (lv_at hl 9 rfl) ?_
  refine lv_iload (pc := 108) hx hb dX7_keys_108 (lv_at hl 8 rfl) ?_
  refine lv_icmp_le (pc := 110) (tgt := 131) hx hb dX7_keys_110 (by decide) (fun c1 => ?_) (fun c1 => ?_)
  · have h := h.1 c1
    refine cj_aload (pc := 131) hx hb dX7_keys_131 (lv_at hl 3 rfl) ?_
    refine lv_iload (pc := 133) hx hb dX7_keys_133 (lv_at hl 8 rfl) ?_
    refine lv_iload (pc := 135) hx hb dX7_keys_135 (lv_at hl 7 rfl) ?_
    obtain ⟨a2, e3, h⟩ := h
    refine cj_stk (st' := [.int x8, .int x9, .ref a2]) (by rw [e3]; rfl) ?_
    obtain ⟨g4, h⟩ := h
    obtain ⟨g5, h⟩ := h
    refine cj_iast (pc := 137) hcx hW hS g4 g5 dX7_keys_137 (fun H locs hW hS => ?_)
    refine lv_iinc (pc := 138) (v := (x5 + (1 : Int32))) (lv' := [(5, .int (x5 + (1 : Int32))), (0, .ref x0), (2, va_rf x2), (3, .int x3), (4, va_rf x4), (6, .int x6), (7, .int x7), (8, .int x8), (9, .int x9), (10, .int x10)]) hx hb dX7_keys_138 hl (k := 4) rfl rfl (by decide) (by generalize x4 = z; cases z <;> rfl) (fun ls hl => ?_)
    refine lv_iinc (pc := 141) (v := (x7 + (1 : Int32))) (lv' := [(7, .int (x7 + (1 : Int32))), (5, .int (x5 + (1 : Int32))), (0, .ref x0), (2, va_rf x2), (3, .int x3), (4, va_rf x4), (6, .int x6), (8, .int x8), (9, .int x9), (10, .int x10)]) hx hb dX7_keys_141 hl (k := 6) rfl rfl (by decide) rfl (fun ls hl => ?_)
    refine lv_goto (pc := 144) (tgt := 13) hx hb dX7_keys_144 (by decide) ?_
    exact h d hd p e s m args below meth c hcx H locs _ hW hS (lv_sub hl [2, 3, 4, 5, 1, 6, 0] rfl)
  · have h := h.2 c1
    refine cj_aload (pc := 113) hx hb dX7_keys_113 (lv_at hl 3 rfl) ?_
    refine lv_iload (pc := 115) hx hb dX7_keys_115 (lv_at hl 9 rfl) ?_
    refine cj_aload (pc := 117) hx hb dX7_keys_117 (lv_at hl 3 rfl) ?_
    refine lv_iload (pc := 119) hx hb dX7_keys_119 (lv_at hl 9 rfl) ?_
    refine lv_iconst (pc := 121) (v := (1 : Int32)) hx hb dX7_keys_121 (by decide) ?_
    refine lv_isub (pc := 122) hx hb dX7_keys_122 ?_
    obtain ⟨a6, e7, h⟩ := h
    refine cj_stk (st' := [.int (x10 - (1 : Int32)), .ref a6, .int x10, .ref a6]) (by rw [e7]; rfl) ?_
    obtain ⟨g8, h⟩ := h
    obtain ⟨g9, h⟩ := h
    refine cj_iald (pc := 123) hcx hW g8 g9 dX7_keys_123 ?_
    obtain ⟨g10, h⟩ := h
    refine cj_iast (pc := 124) hcx hW hS g8 g10 dX7_keys_124 (fun H locs hW hS => ?_)
    refine lv_iinc (pc := 125) (v := (x10 + (-1 : Int32))) (lv' := [(10, .int (x10 + (-1 : Int32))), (0, .ref x0), (2, va_rf x2), (3, .int x3), (4, va_rf x4), (5, .int x5), (6, .int x6), (7, .int x7), (8, .int x8), (9, .int x9)]) hx hb dX7_keys_125 hl (k := 9) rfl rfl (by decide) rfl (fun ls hl => ?_)
    refine lv_goto (pc := 128) (tgt := 106) hx hb dX7_keys_128 (by decide) ?_
    exact h d hd p e s m args below meth c hcx H locs _ hW hS (lv_sub hl [1, 2, 3, 4, 5, 6, 7, 8, 9, 0] rfl)
set_option maxHeartbeats 4000000 in
set_option maxRecDepth 100000 in
theorem cb_Tb_keys {E : cj_E} {σ : cj_S} {x0 : Nat} {x1 : Int32} {x2 : Option Nat} {x3 : Int32} {x4 : Option Nat} {P : Int32 → cj_S → Prop} (h : (cj_T σ x0 = 6 ∧ cs_Tb_columnOf E σ x0 x1 (fun r1 σ2 => cg_Tb_keys_13 E σ2 x0 x2 x3 x4 (0 : Int32) r1 (0 : Int32) P))) : cs_Tb_keys E σ x0 x1 x2 x3 x4 P :=
  cj_enter (k := 2) (lv := [(0, .ref x0), (1, .int x1), (2, va_rf x2), (3, .int x3), (4, va_rf x4)]) (by decide) (by cases x2 <;> cases x4 <;> exact Nat.le_of_ble_eq_true rfl) (by cases x2 <;> cases x4 <;> rfl) (by
    intro d hd p e s m args below meth c hcx H locs ls hW hS hl
    have hx := hcx.1
    have hb := hcx.2.1
    have hown := hcx.2.2.2.2.2.1
    have hts := hcx.2.2.2.2.2.2.1
    refine lv_iconst (pc := 0) (v := (0 : Int32)) hx hb dX7_keys_0 (by decide) ?_
    refine lv_istore (pc := 1) (lv' := [(5, .int (0 : Int32)), (0, .ref x0), (1, .int x1), (2, va_rf x2), (3, .int x3), (4, va_rf x4)]) hx hb dX7_keys_1 hl (by decide) (by generalize x4 = z; cases z <;> rfl) (fun ls hl => ?_)
    refine lv_aload_n (pc := 3) hx hb dX7_keys_3 rfl (lv_at hl 1 rfl) ?_
    refine lv_iload_n (pc := 4) hx hb dX7_keys_4 rfl (lv_at hl 2 rfl) ?_
    obtain ⟨g3, h⟩ := h
    refine cj_xi (pc := 5) (cj_runV hcx hW hS 5 g3 (by decide) rfl [.int x1] h (Nat.le_trans (by decide) hd) (lw_V q881 q882 q883 q131 q884) rfl yd_Tb_columnOf (by decide) rfl rfl (Nat.le_of_ble_eq_true rfl) hl.1 (Nat.le_refl _) (Nat.le_refl _) dX7_keys_5) hS (fun r1 σ2 h H locs hW hS => ?_)
    refine lv_istore (pc := 8) (lv' := [(6, .int r1), (5, .int (0 : Int32)), (0, .ref x0), (1, .int x1), (2, va_rf x2), (3, .int x3), (4, va_rf x4)]) hx hb dX7_keys_8 hl (by decide) rfl (fun ls hl => ?_)
    refine lv_iconst (pc := 10) (v := (0 : Int32)) hx hb dX7_keys_10 (by decide) ?_
    refine lv_istore (pc := 11) (lv' := [(7, .int (0 : Int32)), (6, .int r1), (5, .int (0 : Int32)), (0, .ref x0), (1, .int x1), (2, va_rf x2), (3, .int x3), (4, va_rf x4)]) hx hb dX7_keys_11 hl (by decide) rfl (fun ls hl => ?_)
    exact h d hd p e s m args below meth c hcx H locs _ hW hS (lv_sub hl [3, 5, 6, 7, 2, 1, 0] rfl))
/-! Tb_rowIn -/
set_option maxHeartbeats 4000000 in
set_option maxRecDepth 100000 in
theorem cb_Tb_rowIn_2 {E : cj_E} {σ : cj_S} {x0 : Nat} {x1 : Option Nat} {x2 : Int32} {P : Int32 → cj_S → Prop} (h : (cj_T σ x0 = 6 ∧ (((cj_F σ 603 x0) ≤ x2 → P (-1 : Int32) σ) ∧ (¬ (cj_F σ 603 x0) ≤ x2 → (∃ a3, (cj_R σ 601 x0) = some a3 ∧ (cj_rt (cj_T σ a3) ∧ (vp_in x2 (cj_N σ a3) ∧ cs_Tb_fits E σ x0 (cj_B σ a3 x2.toNatClampNeg) x1 (15 : Int32) (fun r7 σ8 => ((r7 = 0 → cg_Tb_rowIn_2 E σ8 x0 x1 (x2 + (1 : Int32)) P) ∧ (¬ r7 = 0 → P x2 σ8)))))))))) : cg_Tb_rowIn_2 E σ x0 x1 x2 P := by
  intro d hd p e s m args below meth c hcx H locs ls hW hS hl
  have hx := hcx.1
  have hb := hcx.2.1
  have hown := hcx.2.2.2.2.2.1
  have hts := hcx.2.2.2.2.2.2.1
  refine lv_iload_n (pc := 2) hx hb dX7_rowIn_2 rfl (lv_at hl 2 rfl) ?_
  refine lv_aload_n (pc := 3) hx hb dX7_rowIn_3 rfl (lv_at hl 0 rfl) ?_
  obtain ⟨g1, h⟩ := h
  refine cj_fld (pc := 4) hcx hW 5 g1 (by decide) rfl in_X7 3 (by decide) (by decide) q490 dX7_rowIn_4 (v := .int (cj_F σ 603 x0)) rfl ?_
  refine lv_icmp_ge (pc := 7) (tgt := 34) hx hb dX7_rowIn_7 (by decide) (fun c2 => ?_) (fun c2 => ?_)
  · have h := h.1 c2
    refine lv_iconst (pc := 34) (v := (-1 : Int32)) hx hb dX7_rowIn_34 (by decide) ?_
    exact cj_reti (pc := 35) hcx hW hS rfl h (Nat.le_refl _) (Nat.le_refl _) dX7_rowIn_35
  · have h := h.2 c2
    refine lv_aload_n (pc := 10) hx hb dX7_rowIn_10 rfl (lv_at hl 0 rfl) ?_
    refine lv_aload_n (pc := 11) hx hb dX7_rowIn_11 rfl (lv_at hl 0 rfl) ?_
    refine cj_fld (pc := 12) hcx hW 5 g1 (by decide) rfl in_X7 1 (by decide) (by decide) q487 dX7_rowIn_12 (v := va_rf (cj_R σ 601 x0)) rfl ?_
    refine lv_iload_n (pc := 15) hx hb dX7_rowIn_15 rfl (lv_at hl 2 rfl) ?_
    obtain ⟨a3, e4, h⟩ := h
    refine cj_stk (st' := [.int x2, .ref a3, .ref x0]) (by rw [e4]; rfl) ?_
    obtain ⟨g5, h⟩ := h
    obtain ⟨g6, h⟩ := h
    refine cj_aald (pc := 16) hcx hW rfl g5 g6 dX7_rowIn_16 ?_
    refine cj_aload_n (pc := 17) hx hb dX7_rowIn_17 rfl (lv_at hl 1 rfl) ?_
    refine lv_bipush (pc := 18) (v := (15 : Int32)) hx hb dX7_rowIn_18 (by decide) ?_
    refine cj_xi (pc := 20) (cj_runV hcx hW hS 5 g1 (by decide) rfl [va_rf (cj_B σ a3 x2.toNatClampNeg), va_rf x1, .int (15 : Int32)] h (Nat.le_trans (by decide) hd) (lw_V q885 q887 qs23 q131 q888) rfl yd_Tb_fits (by decide) rfl rfl (Nat.le_of_ble_eq_true rfl) hl.1 (Nat.le_refl _) (Nat.le_refl _) dX7_rowIn_20) hS (fun r7 σ8 h H locs hW hS => ?_)
    refine lv_if_eq (pc := 23) (tgt := 28) hx hb dX7_rowIn_23 (by decide) (fun c9 => ?_) (fun c9 => ?_)
    · have h := h.1 c9
      refine lv_iinc (pc := 28) (v := (x2 + (1 : Int32))) (lv' := [(2, .int (x2 + (1 : Int32))), (0, .ref x0), (1, va_rf x1)]) hx hb dX7_rowIn_28 hl (k := 2) rfl rfl (by decide) (by generalize x1 = z; cases z <;> rfl) (fun ls hl => ?_)
      refine lv_goto (pc := 31) (tgt := 2) hx hb dX7_rowIn_31 (by decide) ?_
      exact h d hd p e s m args below meth c hcx H locs _ hW hS (lv_sub hl [1, 2, 0] rfl)
    · have h := h.2 c9
      refine lv_iload_n (pc := 26) hx hb dX7_rowIn_26 rfl (lv_at hl 2 rfl) ?_
      exact cj_reti (pc := 27) hcx hW hS rfl h (Nat.le_refl _) (Nat.le_refl _) dX7_rowIn_27
set_option maxHeartbeats 4000000 in
set_option maxRecDepth 100000 in
theorem cb_Tb_rowIn {E : cj_E} {σ : cj_S} {x0 : Nat} {x1 : Option Nat} {P : Int32 → cj_S → Prop} (h : cg_Tb_rowIn_2 E σ x0 x1 (0 : Int32) P) : cs_Tb_rowIn E σ x0 x1 P :=
  cj_enter (k := 2) (lv := [(0, .ref x0), (1, va_rf x1)]) (by decide) (by cases x1 <;> exact Nat.le_of_ble_eq_true rfl) (by cases x1 <;> rfl) (by
    intro d hd p e s m args below meth c hcx H locs ls hW hS hl
    have hx := hcx.1
    have hb := hcx.2.1
    have hown := hcx.2.2.2.2.2.1
    have hts := hcx.2.2.2.2.2.2.1
    refine lv_iconst (pc := 0) (v := (0 : Int32)) hx hb dX7_rowIn_0 (by decide) ?_
    refine lv_istore_n (pc := 1) (lv' := [(2, .int (0 : Int32)), (0, .ref x0), (1, va_rf x1)]) hx hb dX7_rowIn_1 rfl hl (by decide) (by generalize x1 = z; cases z <;> rfl) (fun ls hl => ?_)
    exact h d hd p e s m args below meth c hcx H locs _ hW hS (lv_sub hl [1, 2, 0] rfl))
/-! Tb_spotOf -/
set_option maxHeartbeats 4000000 in
set_option maxRecDepth 100000 in
theorem cb_Tb_spotOf_2 {E : cj_E} {σ : cj_S} {x0 : Nat} {x1 : Option Nat} {x2 : Int32} {P : Int32 → cj_S → Prop} (h : (cj_T σ x0 = 6 ∧ (((cj_F σ 603 x0) ≤ x2 → P (-1 : Int32) σ) ∧ (¬ (cj_F σ 603 x0) ≤ x2 → (∃ a3, (cj_R σ 601 x0) = some a3 ∧ (cj_rt (cj_T σ a3) ∧ (vp_in x2 (cj_N σ a3) ∧ (∃ a7, (cj_B σ a3 x2.toNatClampNeg) = some a7 ∧ (cj_ro (cj_T σ a7) ∧ cs_Rw_against E σ a7 x1 (fun r9 σ10 => ((r9 = 0 → P x2 σ10) ∧ (¬ r9 = 0 → cg_Tb_spotOf_2 E σ10 x0 x1 (x2 + (1 : Int32)) P)))))))))))) : cg_Tb_spotOf_2 E σ x0 x1 x2 P := by
  intro d hd p e s m args below meth c hcx H locs ls hW hS hl
  have hx := hcx.1
  have hb := hcx.2.1
  have hown := hcx.2.2.2.2.2.1
  have hts := hcx.2.2.2.2.2.2.1
  refine lv_iload_n (pc := 2) hx hb dX7_spotOf_2 rfl (lv_at hl 2 rfl) ?_
  refine lv_aload_n (pc := 3) hx hb dX7_spotOf_3 rfl (lv_at hl 0 rfl) ?_
  obtain ⟨g1, h⟩ := h
  refine cj_fld (pc := 4) hcx hW 5 g1 (by decide) rfl in_X7 3 (by decide) (by decide) q490 dX7_spotOf_4 (v := .int (cj_F σ 603 x0)) rfl ?_
  refine lv_icmp_ge (pc := 7) (tgt := 31) hx hb dX7_spotOf_7 (by decide) (fun c2 => ?_) (fun c2 => ?_)
  · have h := h.1 c2
    refine lv_iconst (pc := 31) (v := (-1 : Int32)) hx hb dX7_spotOf_31 (by decide) ?_
    exact cj_reti (pc := 32) hcx hW hS rfl h (Nat.le_refl _) (Nat.le_refl _) dX7_spotOf_32
  · have h := h.2 c2
    refine lv_aload_n (pc := 10) hx hb dX7_spotOf_10 rfl (lv_at hl 0 rfl) ?_
    refine cj_fld (pc := 11) hcx hW 5 g1 (by decide) rfl in_X7 1 (by decide) (by decide) q487 dX7_spotOf_11 (v := va_rf (cj_R σ 601 x0)) rfl ?_
    refine lv_iload_n (pc := 14) hx hb dX7_spotOf_14 rfl (lv_at hl 2 rfl) ?_
    obtain ⟨a3, e4, h⟩ := h
    refine cj_stk (st' := [.int x2, .ref a3]) (by rw [e4]; rfl) ?_
    obtain ⟨g5, h⟩ := h
    obtain ⟨g6, h⟩ := h
    refine cj_aald (pc := 15) hcx hW rfl g5 g6 dX7_spotOf_15 ?_
    refine cj_aload_n (pc := 16) hx hb dX7_spotOf_16 rfl (lv_at hl 1 rfl) ?_
    obtain ⟨a7, e8, h⟩ := h
    refine cj_stk (st' := [va_rf x1, .ref a7]) (by rw [e8]; rfl) ?_
    obtain ⟨g11, h⟩ := h
    refine cj_xi (pc := 17) (cj_runAgainst hcx hW hS g11 h (Nat.le_trans (by decide) hd) q570 rfl (Nat.le_of_ble_eq_true rfl) hl.1 (Nat.le_refl _) (Nat.le_refl _) dX7_spotOf_17) hS (fun r9 σ10 h H locs hW hS => ?_)
    refine lv_if_ne (pc := 20) (tgt := 25) hx hb dX7_spotOf_20 (by decide) (fun c12 => ?_) (fun c12 => ?_)
    · have h := h.2 c12
      refine lv_iinc (pc := 25) (v := (x2 + (1 : Int32))) (lv' := [(2, .int (x2 + (1 : Int32))), (0, .ref x0), (1, va_rf x1)]) hx hb dX7_spotOf_25 hl (k := 2) rfl rfl (by decide) (by generalize x1 = z; cases z <;> rfl) (fun ls hl => ?_)
      refine lv_goto (pc := 28) (tgt := 2) hx hb dX7_spotOf_28 (by decide) ?_
      exact h d hd p e s m args below meth c hcx H locs _ hW hS (lv_sub hl [1, 2, 0] rfl)
    · have h := h.1 c12
      refine lv_iload_n (pc := 23) hx hb dX7_spotOf_23 rfl (lv_at hl 2 rfl) ?_
      exact cj_reti (pc := 24) hcx hW hS rfl h (Nat.le_refl _) (Nat.le_refl _) dX7_spotOf_24
set_option maxHeartbeats 4000000 in
set_option maxRecDepth 100000 in
theorem cb_Tb_spotOf {E : cj_E} {σ : cj_S} {x0 : Nat} {x1 : Option Nat} {P : Int32 → cj_S → Prop} (h : cg_Tb_spotOf_2 E σ x0 x1 (0 : Int32) P) : cs_Tb_spotOf E σ x0 x1 P :=
  cj_enter (k := 2) (lv := [(0, .ref x0), (1, va_rf x1)]) (by decide) (by cases x1 <;> exact Nat.le_of_ble_eq_true rfl) (by cases x1 <;> rfl) (by
    intro d hd p e s m args below meth c hcx H locs ls hW hS hl
    have hx := hcx.1
    have hb := hcx.2.1
    have hown := hcx.2.2.2.2.2.1
    have hts := hcx.2.2.2.2.2.2.1
    refine lv_iconst (pc := 0) (v := (0 : Int32)) hx hb dX7_spotOf_0 (by decide) ?_
    refine lv_istore_n (pc := 1) (lv' := [(2, .int (0 : Int32)), (0, .ref x0), (1, va_rf x1)]) hx hb dX7_spotOf_1 rfl hl (by decide) (by generalize x1 = z; cases z <;> rfl) (fun ls hl => ?_)
    exact h d hd p e s m args below meth c hcx H locs _ hW hS (lv_sub hl [1, 2, 0] rfl))
/-! Tb_takes -/
set_option maxHeartbeats 4000000 in
set_option maxRecDepth 100000 in
theorem cb_Tb_takes_5 {E : cj_E} {σ : cj_S} {x0 : Nat} {x1 : Option Nat} {x2 : Int32} {P : cj_S → Prop} (h : ((x2 ≤ 0 → (cj_T σ x0 = 6 ∧ (∃ a3, (cj_R σ 601 x0) = some a3 ∧ (∃ a5, x1 = some a5 ∧ (cj_ok_ (cj_T σ a5) ∧ (cj_T σ a3 = cj_T σ a5 + 20 ∧ (vp_in x2 (cj_N σ a3) ∧ P (cj_sF (cj_sB σ a3 x2.toNatClampNeg (some a5)) 603 x0 ((cj_F σ 603 x0) + (1 : Int32)))))))))) ∧ (¬ x2 ≤ 0 → (cj_T σ x0 = 6 ∧ (∃ a11, (cj_R σ 601 x0) = some a11 ∧ (cj_rt (cj_T σ a11) ∧ (vp_in (x2 - (1 : Int32)) (cj_N σ a11) ∧ (∃ a15, (cj_B σ a11 (x2 - (1 : Int32)).toNatClampNeg) = some a15 ∧ (cj_ro (cj_T σ a15) ∧ cs_Rw_against E σ a15 x1 (fun r17 σ18 => ((r17 ≤ 0 → (cj_T σ18 x0 = 6 ∧ (∃ a22, (cj_R σ18 601 x0) = some a22 ∧ (∃ a24, x1 = some a24 ∧ (cj_ok_ (cj_T σ18 a24) ∧ (cj_T σ18 a22 = cj_T σ18 a24 + 20 ∧ (vp_in x2 (cj_N σ18 a22) ∧ P (cj_sF (cj_sB σ18 a22 x2.toNatClampNeg (some a24)) 603 x0 ((cj_F σ18 603 x0) + (1 : Int32)))))))))) ∧ (¬ r17 ≤ 0 → (cj_T σ18 x0 = 6 ∧ (∃ a30, (cj_R σ18 601 x0) = some a30 ∧ (cj_rt (cj_T σ18 a30) ∧ (vp_in (x2 - (1 : Int32)) (cj_N σ18 a30) ∧ (∃ a34, (cj_B σ18 a30 (x2 - (1 : Int32)).toNatClampNeg) = some a34 ∧ (cj_ok_ (cj_T σ18 a34) ∧ (cj_T σ18 a30 = cj_T σ18 a34 + 20 ∧ (vp_in x2 (cj_N σ18 a30) ∧ cg_Tb_takes_5 E (cj_sB σ18 a30 x2.toNatClampNeg (some a34)) x0 x1 (x2 + (-1 : Int32)) P)))))))))))))))))))) : cg_Tb_takes_5 E σ x0 x1 x2 P := by
  intro d hd p e s m args below meth c hcx H locs ls hW hS hl
  have hx := hcx.1
  have hb := hcx.2.1
  have hown := hcx.2.2.2.2.2.1
  have hts := hcx.2.2.2.2.2.2.1
  refine lv_iload_n (pc := 5) hx hb dX7_takes_5 rfl (lv_at hl 2 rfl) ?_
  refine lv_if_le (pc := 6) (tgt := 44) hx hb dX7_takes_6 (by decide) (fun c1 => ?_) (fun c1 => ?_)
  · have h := h.1 c1
    refine lv_aload_n (pc := 44) hx hb dX7_takes_44 rfl (lv_at hl 0 rfl) ?_
    obtain ⟨g2, h⟩ := h
    refine cj_fld (pc := 45) hcx hW 5 g2 (by decide) rfl in_X7 1 (by decide) (by decide) q487 dX7_takes_45 (v := va_rf (cj_R σ 601 x0)) rfl ?_
    refine lv_iload_n (pc := 48) hx hb dX7_takes_48 rfl (lv_at hl 2 rfl) ?_
    refine cj_aload_n (pc := 49) hx hb dX7_takes_49 rfl (lv_at hl 1 rfl) ?_
    obtain ⟨a3, e4, h⟩ := h
    refine cj_stk (st' := [va_rf x1, .int x2, .ref a3]) (by rw [e4]; rfl) ?_
    obtain ⟨a5, e6, h⟩ := h
    refine cj_stk (st' := [.ref a5, .int x2, .ref a3]) (by rw [e6]; rfl) ?_
    obtain ⟨g7, h⟩ := h
    obtain ⟨g8, h⟩ := h
    obtain ⟨g9, h⟩ := h
    refine cj_aast (pc := 50) hcx hW hS g7 g8 g9 dX7_takes_50 (fun H locs hW hS => ?_)
    refine lv_aload_n (pc := 51) hx hb dX7_takes_51 rfl (lv_at hl 0 rfl) ?_
    refine lv_dup (pc := 52) hx hb dX7_takes_52 rfl ?_
    refine cj_fld (pc := 53) hcx hW 5 g2 (by decide) rfl in_X7 3 (by decide) (by decide) q490 dX7_takes_53 (v := .int (cj_F σ 603 x0)) rfl ?_
    refine lv_iconst (pc := 56) (v := (1 : Int32)) hx hb dX7_takes_56 (by decide) ?_
    refine lv_iadd (pc := 57) hx hb dX7_takes_57 ?_
    refine cj_put (pc := 58) (σ1 := (cj_sF (cj_sB σ a3 x2.toNatClampNeg (some a5)) 603 x0 ((cj_F σ 603 x0) + (1 : Int32)))) hcx hW hS 5 g2 (by decide) rfl in_X7 tyX7_ok nmX7 3 (by decide) (by decide) rfl rfl rfl (cj_pI rfl) q490 dX7_takes_58 (fun H locs hW hS => ?_)
    exact cj_retv (pc := 61) hcx hW hS h (Nat.le_refl _) (Nat.le_refl _) dX7_takes_61
  · have h := h.2 c1
    refine lv_aload_n (pc := 9) hx hb dX7_takes_9 rfl (lv_at hl 0 rfl) ?_
    obtain ⟨g10, h⟩ := h
    refine cj_fld (pc := 10) hcx hW 5 g10 (by decide) rfl in_X7 1 (by decide) (by decide) q487 dX7_takes_10 (v := va_rf (cj_R σ 601 x0)) rfl ?_
    refine lv_iload_n (pc := 13) hx hb dX7_takes_13 rfl (lv_at hl 2 rfl) ?_
    refine lv_iconst (pc := 14) (v := (1 : Int32)) hx hb dX7_takes_14 (by decide) ?_
    refine lv_isub (pc := 15) hx hb dX7_takes_15 ?_
    obtain ⟨a11, e12, h⟩ := h
    refine cj_stk (st' := [.int (x2 - (1 : Int32)), .ref a11]) (by rw [e12]; rfl) ?_
    obtain ⟨g13, h⟩ := h
    obtain ⟨g14, h⟩ := h
    refine cj_aald (pc := 16) hcx hW rfl g13 g14 dX7_takes_16 ?_
    refine cj_aload_n (pc := 17) hx hb dX7_takes_17 rfl (lv_at hl 1 rfl) ?_
    obtain ⟨a15, e16, h⟩ := h
    refine cj_stk (st' := [va_rf x1, .ref a15]) (by rw [e16]; rfl) ?_
    obtain ⟨g19, h⟩ := h
    refine cj_xi (pc := 18) (cj_runAgainst hcx hW hS g19 h (Nat.le_trans (by decide) hd) q570 rfl (Nat.le_of_ble_eq_true rfl) hl.1 (Nat.le_refl _) (Nat.le_refl _) dX7_takes_18) hS (fun r17 σ18 h H locs hW hS => ?_)
    refine lv_if_le (pc := 21) (tgt := 44) hx hb dX7_takes_21 (by decide) (fun c20 => ?_) (fun c20 => ?_)
    · have h := h.1 c20
      refine lv_aload_n (pc := 44) hx hb dX7_takes_44 rfl (lv_at hl 0 rfl) ?_
      obtain ⟨g21, h⟩ := h
      refine cj_fld (pc := 45) hcx hW 5 g21 (by decide) rfl in_X7 1 (by decide) (by decide) q487 dX7_takes_45 (v := va_rf (cj_R σ18 601 x0)) rfl ?_
      refine lv_iload_n (pc := 48) hx hb dX7_takes_48 rfl (lv_at hl 2 rfl) ?_
      refine cj_aload_n (pc := 49) hx hb dX7_takes_49 rfl (lv_at hl 1 rfl) ?_
      obtain ⟨a22, e23, h⟩ := h
      refine cj_stk (st' := [va_rf x1, .int x2, .ref a22]) (by rw [e23]; rfl) ?_
      obtain ⟨a24, e25, h⟩ := h
      refine cj_stk (st' := [.ref a24, .int x2, .ref a22]) (by rw [e25]; rfl) ?_
      obtain ⟨g26, h⟩ := h
      obtain ⟨g27, h⟩ := h
      obtain ⟨g28, h⟩ := h
      refine cj_aast (pc := 50) hcx hW hS g26 g27 g28 dX7_takes_50 (fun H locs hW hS => ?_)
      refine lv_aload_n (pc := 51) hx hb dX7_takes_51 rfl (lv_at hl 0 rfl) ?_
      refine lv_dup (pc := 52) hx hb dX7_takes_52 rfl ?_
      refine cj_fld (pc := 53) hcx hW 5 g21 (by decide) rfl in_X7 3 (by decide) (by decide) q490 dX7_takes_53 (v := .int (cj_F σ18 603 x0)) rfl ?_
      refine lv_iconst (pc := 56) (v := (1 : Int32)) hx hb dX7_takes_56 (by decide) ?_
      refine lv_iadd (pc := 57) hx hb dX7_takes_57 ?_
      refine cj_put (pc := 58) (σ1 := (cj_sF (cj_sB σ18 a22 x2.toNatClampNeg (some a24)) 603 x0 ((cj_F σ18 603 x0) + (1 : Int32)))) hcx hW hS 5 g21 (by decide) rfl in_X7 tyX7_ok nmX7 3 (by decide) (by decide) rfl rfl rfl (cj_pI rfl) q490 dX7_takes_58 (fun H locs hW hS => ?_)
      exact cj_retv (pc := 61) hcx hW hS h (Nat.le_refl _) (Nat.le_refl _) dX7_takes_61
    · have h := h.2 c20
      refine lv_aload_n (pc := 24) hx hb dX7_takes_24 rfl (lv_at hl 0 rfl) ?_
      obtain ⟨g29, h⟩ := h
      refine cj_fld (pc := 25) hcx hW 5 g29 (by decide) rfl in_X7 1 (by decide) (by decide) q487 dX7_takes_25 (v := va_rf (cj_R σ18 601 x0)) rfl ?_
      refine lv_iload_n (pc := 28) hx hb dX7_takes_28 rfl (lv_at hl 2 rfl) ?_
      refine lv_aload_n (pc := 29) hx hb dX7_takes_29 rfl (lv_at hl 0 rfl) ?_
      refine cj_fld (pc := 30) hcx hW 5 g29 (by decide) rfl in_X7 1 (by decide) (by decide) q487 dX7_takes_30 (v := va_rf (cj_R σ18 601 x0)) rfl ?_
      refine lv_iload_n (pc := 33) hx hb dX7_takes_33 rfl (lv_at hl 2 rfl) ?_
      refine lv_iconst (pc := 34) (v := (1 : Int32)) hx hb dX7_takes_34 (by decide) ?_
      refine lv_isub (pc := 35) hx hb dX7_takes_35 ?_
      obtain ⟨a30, e31, h⟩ := h
      refine cj_stk (st' := [.int (x2 - (1 : Int32)), .ref a30, .int x2, .ref a30]) (by rw [e31]; rfl) ?_
      obtain ⟨g32, h⟩ := h
      obtain ⟨g33, h⟩ := h
      refine cj_aald (pc := 36) hcx hW rfl g32 g33 dX7_takes_36 ?_
      obtain ⟨a34, e35, h⟩ := h
      refine cj_stk (st' := [.ref a34, .int x2, .ref a30]) (by rw [e35]; rfl) ?_
      obtain ⟨g36, h⟩ := h
      obtain ⟨g37, h⟩ := h
      obtain ⟨g38, h⟩ := h
      refine cj_aast (pc := 37) hcx hW hS g36 g37 g38 dX7_takes_37 (fun H locs hW hS => ?_)
      refine lv_iinc (pc := 38) (v := (x2 + (-1 : Int32))) (lv' := [(2, .int (x2 + (-1 : Int32))), (0, .ref x0), (1, va_rf x1)]) hx hb dX7_takes_38 hl (k := 2) rfl rfl (by decide) (by generalize x1 = z; cases z <;> rfl) (fun ls hl => ?_)
      refine lv_goto (pc := 41) (tgt := 5) hx hb dX7_takes_41 (by decide) ?_
      exact h d hd p e s m args below meth c hcx H locs _ hW hS (lv_sub hl [1, 2, 0] rfl)
set_option maxHeartbeats 4000000 in
set_option maxRecDepth 100000 in
theorem cb_Tb_takes {E : cj_E} {σ : cj_S} {x0 : Nat} {x1 : Option Nat} {P : cj_S → Prop} (h : (cj_T σ x0 = 6 ∧ cg_Tb_takes_5 E σ x0 x1 (cj_F σ 603 x0) P)) : cs_Tb_takes E σ x0 x1 P :=
  cj_enter (k := 2) (lv := [(0, .ref x0), (1, va_rf x1)]) (by decide) (by cases x1 <;> exact Nat.le_of_ble_eq_true rfl) (by cases x1 <;> rfl) (by
    intro d hd p e s m args below meth c hcx H locs ls hW hS hl
    have hx := hcx.1
    have hb := hcx.2.1
    have hown := hcx.2.2.2.2.2.1
    have hts := hcx.2.2.2.2.2.2.1
    refine lv_aload_n (pc := 0) hx hb dX7_takes_0 rfl (lv_at hl 0 rfl) ?_
    obtain ⟨g1, h⟩ := h
    refine cj_fld (pc := 1) hcx hW 5 g1 (by decide) rfl in_X7 3 (by decide) (by decide) q490 dX7_takes_1 (v := .int (cj_F σ 603 x0)) rfl ?_
    refine lv_istore_n (pc := 4) (lv' := [(2, .int (cj_F σ 603 x0)), (0, .ref x0), (1, va_rf x1)]) hx hb dX7_takes_4 rfl hl (by decide) (by generalize x1 = z; cases z <;> rfl) (fun ls hl => ?_)
    exact h d hd p e s m args below meth c hcx H locs _ hW hS (lv_sub hl [1, 2, 0] rfl))
/-! Wr_init -/
set_option maxHeartbeats 4000000 in
set_option maxRecDepth 100000 in
theorem cb_Wr_init {E : cj_E} {σ : cj_S} {x0 : Nat} {x1 : Int32} {P : cj_S → Prop} (h : cs_Exc_init E σ x0 none none (0 : Int32) (0 : Int32) (fun σ2 => (cj_T σ2 x0 = 5 ∧ P (cj_sF σ2 506 x0 x1)))) : cs_Wr_init E σ x0 x1 P :=
  cj_enter (k := 2) (lv := [(0, .ref x0), (1, .int x1)]) (by decide) (Nat.le_of_ble_eq_true rfl) rfl (by
    intro d hd p e s m args below meth c hcx H locs ls hW hS hl
    have hx := hcx.1
    have hb := hcx.2.1
    have hown := hcx.2.2.2.2.2.1
    have hts := hcx.2.2.2.2.2.2.1
    refine lv_aload_n (pc := 0) hx hb dX6_init_0 rfl (lv_at hl 0 rfl) ?_
    refine lv_null (pc := 1) hx hb dX6_init_1 ?_
    refine lv_null (pc := 2) hx hb dX6_init_2 ?_
    refine lv_iconst (pc := 3) (v := (0 : Int32)) hx hb dX6_init_3 (by decide) ?_
    refine lv_iconst (pc := 4) (v := (0 : Int32)) hx hb dX6_init_4 (by decide) ?_
    refine cj_xv (pc := 5) (cj_runI hcx hW hS [va_rf none, va_rf none, .int (0 : Int32), .int (0 : Int32)] h (Nat.le_trans (by decide) hd) q435 q436 q128 q437 rfl yd_Exc_init (by decide) rfl rfl (Nat.le_of_ble_eq_true rfl) hl.1 (Nat.le_refl _) (Nat.le_refl _) dX6_init_5) hS (fun σ2 h H locs hW hS => ?_)
    refine lv_aload_n (pc := 8) hx hb dX6_init_8 rfl (lv_at hl 0 rfl) ?_
    refine lv_iload_n (pc := 9) hx hb dX6_init_9 rfl (lv_at hl 1 rfl) ?_
    obtain ⟨g3, h⟩ := h
    refine cj_putF (pc := 10) (σ1 := (cj_sF σ2 506 x0 x1)) hcx hW hS 4 g3 (by decide) rfl in_X6 tyX6_ok nmX6 6 (by decide) (by decide) rfl rfl rfl rfl rfl (cj_pI rfl) q441 dX6_init_10 (fun H locs hW hS => ?_)
    exact cj_retv (pc := 13) hcx hW hS h (Nat.le_refl _) (Nat.le_refl _) dX6_init_13)
/-! Jn_given -/
set_option maxHeartbeats 4000000 in
set_option maxRecDepth 100000 in
theorem cb_Jn_given_4 {E : cj_E} {σ : cj_S} {x0 : Nat} {x1 : Option Nat} {x2 : Int32} {x3 : Int32} {P : Int32 → cj_S → Prop} (h : (cj_T σ x0 = 3 ∧ (((cj_F σ 308 x0) ≤ x3 → P x2 σ) ∧ (¬ (cj_F σ 308 x0) ≤ x3 → cs_Jn_row E σ x0 x3 (fun r3 σ4 => (∃ a5, x1 = some a5 ∧ (cj_T σ4 a5 = 6 ∧ cs_Tb_rowIn E σ4 a5 r3 (fun r7 σ8 => cg_Jn_given_4 E σ8 x0 x1 (x2 ||| ((1 : Int32) <<< (r7 &&& 31))) (x3 + (1 : Int32)) P)))))))) : cg_Jn_given_4 E σ x0 x1 x2 x3 P := by
  intro d hd p e s m args below meth c hcx H locs ls hW hS hl
  have hx := hcx.1
  have hb := hcx.2.1
  have hown := hcx.2.2.2.2.2.1
  have hts := hcx.2.2.2.2.2.2.1
  refine lv_iload_n (pc := 4) hx hb dX3_given_4 rfl (lv_at hl 3 rfl) ?_
  refine lv_aload_n (pc := 5) hx hb dX3_given_5 rfl (lv_at hl 0 rfl) ?_
  obtain ⟨g1, h⟩ := h
  refine cj_fld (pc := 6) hcx hW 2 g1 (by decide) rfl in_X3 8 (by decide) (by decide) q236 dX3_given_6 (v := .int (cj_F σ 308 x0)) rfl ?_
  refine lv_icmp_ge (pc := 9) (tgt := 32) hx hb dX3_given_9 (by decide) (fun c2 => ?_) (fun c2 => ?_)
  · have h := h.1 c2
    refine lv_iload_n (pc := 32) hx hb dX3_given_32 rfl (lv_at hl 2 rfl) ?_
    exact cj_reti (pc := 33) hcx hW hS rfl h (Nat.le_refl _) (Nat.le_refl _) dX3_given_33
  · have h := h.2 c2
    refine lv_iload_n (pc := 12) hx hb dX3_given_12 rfl (lv_at hl 2 rfl) ?_
    refine lv_iconst (pc := 13) (v := (1 : Int32)) hx hb dX3_given_13 (by decide) ?_
    refine cj_aload_n (pc := 14) hx hb dX3_given_14 rfl (lv_at hl 1 rfl) ?_
    refine lv_aload_n (pc := 15) hx hb dX3_given_15 rfl (lv_at hl 0 rfl) ?_
    refine lv_iload_n (pc := 16) hx hb dX3_given_16 rfl (lv_at hl 3 rfl) ?_
    refine cj_xq (pc := 17) (cj_runV hcx hW hS 2 g1 (by decide) rfl [.int x3] h (Nat.le_trans (by decide) hd) (lw_V q1026 q1027 q1028 q124 q1029) rfl yd_Jn_row (by decide) rfl rfl (by generalize x1 = z0; cases z0 <;> exact Nat.le_of_ble_eq_true rfl) hl.1 (Nat.le_refl _) (Nat.le_refl _) dX3_given_17) hS (fun r3 σ4 h H locs hW hS => ?_)
    obtain ⟨a5, e6, h⟩ := h
    refine cj_stk (st' := [va_rf r3, .ref a5, .int (1 : Int32), .int x2]) (by rw [e6]; rfl) ?_
    obtain ⟨g9, h⟩ := h
    refine cj_xi (pc := 20) (cj_runV hcx hW hS 5 g9 (by decide) rfl [va_rf r3] h (Nat.le_trans (by decide) hd) (lw_V q1031 q1032 q1033 q131 q1034) rfl yd_Tb_rowIn (by decide) rfl rfl (Nat.le_of_ble_eq_true rfl) hl.1 (Nat.le_refl _) (Nat.le_refl _) dX3_given_20) hS (fun r7 σ8 h H locs hW hS => ?_)
    refine lv_ishl (pc := 23) hx hb dX3_given_23 ?_
    refine lv_ior (pc := 24) hx hb dX3_given_24 ?_
    refine lv_istore_n (pc := 25) (lv' := [(2, .int (x2 ||| ((1 : Int32) <<< (r7 &&& 31)))), (0, .ref x0), (1, va_rf x1), (3, .int x3)]) hx hb dX3_given_25 rfl hl (by decide) (by generalize x1 = z; cases z <;> rfl) (fun ls hl => ?_)
    refine lv_iinc (pc := 26) (v := (x3 + (1 : Int32))) (lv' := [(3, .int (x3 + (1 : Int32))), (2, .int (x2 ||| ((1 : Int32) <<< (r7 &&& 31)))), (0, .ref x0), (1, va_rf x1)]) hx hb dX3_given_26 hl (k := 3) rfl rfl (by decide) rfl (fun ls hl => ?_)
    refine lv_goto (pc := 29) (tgt := 4) hx hb dX3_given_29 (by decide) ?_
    exact h d hd p e s m args below meth c hcx H locs _ hW hS (lv_sub hl [2, 3, 1, 0] rfl)
set_option maxHeartbeats 4000000 in
set_option maxRecDepth 100000 in
theorem cb_Jn_given {E : cj_E} {σ : cj_S} {x0 : Nat} {x1 : Option Nat} {P : Int32 → cj_S → Prop} (h : cg_Jn_given_4 E σ x0 x1 (0 : Int32) (0 : Int32) P) : cs_Jn_given E σ x0 x1 P :=
  cj_enter (k := 3) (lv := [(0, .ref x0), (1, va_rf x1)]) (by decide) (by cases x1 <;> exact Nat.le_of_ble_eq_true rfl) (by cases x1 <;> rfl) (by
    intro d hd p e s m args below meth c hcx H locs ls hW hS hl
    have hx := hcx.1
    have hb := hcx.2.1
    have hown := hcx.2.2.2.2.2.1
    have hts := hcx.2.2.2.2.2.2.1
    refine lv_iconst (pc := 0) (v := (0 : Int32)) hx hb dX3_given_0 (by decide) ?_
    refine lv_istore_n (pc := 1) (lv' := [(2, .int (0 : Int32)), (0, .ref x0), (1, va_rf x1)]) hx hb dX3_given_1 rfl hl (by decide) (by generalize x1 = z; cases z <;> rfl) (fun ls hl => ?_)
    refine lv_iconst (pc := 2) (v := (0 : Int32)) hx hb dX3_given_2 (by decide) ?_
    refine lv_istore_n (pc := 3) (lv' := [(3, .int (0 : Int32)), (2, .int (0 : Int32)), (0, .ref x0), (1, va_rf x1)]) hx hb dX3_given_3 rfl hl (by decide) rfl (fun ls hl => ?_)
    exact h d hd p e s m args below meth c hcx H locs _ hW hS (lv_sub hl [2, 3, 1, 0] rfl))
