/-! L_mean -/
set_option maxHeartbeats 4000000 in
set_option maxRecDepth 100000 in
theorem cb_L_mean {E : cj_E} {σ : cj_S} {x0 : Nat} {x1 : Int32} {P : Int64 → cj_S → Prop} (h : (cj_T σ x0 = 1 ∧ cs_L_hasMean E σ x0 x1 (fun r1 σ2 => ((r1 = 0 → P (-1000000 : Int64) σ2) ∧ (¬ r1 = 0 → (cj_T σ2 x0 = 1 ∧ (∃ a6, (cj_R σ2 113 x0) = some a6 ∧ (cj_T σ2 a6 = 3 ∧ cs_Jn_mean E σ2 a6 x1 (fun r8 σ9 => cs_J_doubleToLongBits E σ9 r8 (fun r11 σ12 => P r11 σ12)))))))))) : cs_L_mean E σ x0 x1 P :=
  cj_enter (k := 25) (lv := [(0, .ref x0), (1, .int x1)]) (by decide) (Nat.le_of_ble_eq_true rfl) rfl (by
    intro d hd p e s m args below meth c hcx H locs ls hW hS hl
    have hx := hcx.1
    have hb := hcx.2.1
    have hown := hcx.2.2.2.2.2.1
    have hts := hcx.2.2.2.2.2.2.1
    refine lv_aload_n (pc := 0) hx hb dX1_mean_0 rfl (lv_at hl 0 rfl) ?_
    refine lv_iload_n (pc := 1) hx hb dX1_mean_1 rfl (lv_at hl 1 rfl) ?_
    obtain ⟨g3, h⟩ := h
    refine cj_xi (pc := 2) (cj_runV hcx hW hS 0 g3 (by decide) rfl [.int x1] h (Nat.le_trans (by decide) hd) (lw_V q1094 q1096 qs38 q122 q1097) rfl yd_L_hasMean (by decide) rfl rfl (Nat.le_of_ble_eq_true rfl) hl.1 (Nat.le_refl _) (Nat.le_refl _) dX1_mean_2) hS (fun r1 σ2 h H locs hW hS => ?_)
    refine lv_if_eq (pc := 5) (tgt := 22) hx hb dX1_mean_5 (by decide) (fun c4 => ?_) (fun c4 => ?_)
    · have h := h.1 c4
      refine lv_ldc2 (pc := 22) (v := (-1000000 : Int64)) hx hb hown (hts _ q1116) dX1_mean_22 ?_
      exact cj_retl (pc := 25) hcx hW hS h (Nat.le_refl _) (Nat.le_refl _) dX1_mean_25
    · have h := h.2 c4
      refine lv_aload_n (pc := 8) hx hb dX1_mean_8 rfl (lv_at hl 0 rfl) ?_
      obtain ⟨g5, h⟩ := h
      refine cj_fld (pc := 9) hcx hW 0 g5 (by decide) rfl in_X1 13 (by decide) (by decide) q290 dX1_mean_9 (v := va_rf (cj_R σ2 113 x0)) rfl ?_
      refine lv_iload_n (pc := 12) hx hb dX1_mean_12 rfl (lv_at hl 1 rfl) ?_
      obtain ⟨a6, e7, h⟩ := h
      refine cj_stk (st' := [.int x1, .ref a6]) (by rw [e7]; rfl) ?_
      obtain ⟨g10, h⟩ := h
      refine cj_xd (pc := 13) (cj_runV hcx hW hS 2 g10 (by decide) rfl [.int x1] h (Nat.le_trans (by decide) hd) (lw_V q1098 q1099 q1100 q124 q1101) rfl yd_Jn_mean (by decide) rfl rfl (Nat.le_of_ble_eq_true rfl) hl.1 (Nat.le_refl _) (Nat.le_refl _) dX1_mean_13) hS (fun r8 σ9 h H locs hW hS => ?_)
      refine cj_xl (pc := 16) (cj_runS hcx hW hS [.double r8] h (Nat.le_trans (by decide) hd) (lw_S q1106 q1107 q146 q1108) yd_J_doubleToLongBits (by decide) rfl rfl (Nat.le_of_ble_eq_true rfl) hl.1 (Nat.le_refl _) (Nat.le_refl _) dX1_mean_16) hS (fun r11 σ12 h H locs hW hS => ?_)
      refine lv_goto (pc := 19) (tgt := 25) hx hb dX1_mean_19 (by decide) ?_
      exact cj_retl (pc := 25) hcx hW hS h (Nat.le_refl _) (Nat.le_refl _) dX1_mean_25)
/-! L_meanAs -/
set_option maxHeartbeats 4000000 in
set_option maxRecDepth 100000 in
theorem cb_L_meanAs {E : cj_E} {σ : cj_S} {x0 : Nat} {x1 : Int32} {x2 : Int32} {P : Int32 → cj_S → Prop} (h : cs_L_isIn E σ (x2).toInt64 (0 : Int64) (1 : Int64) (fun r1 σ2 => ((r1 = 0 → P (-1000000 : Int32) σ2) ∧ (¬ r1 = 0 → (cj_T σ2 x0 = 1 ∧ cs_L_hasMean E σ2 x0 x1 (fun r4 σ5 => ((r4 = 0 → P (-1000000 : Int32) σ5) ∧ (¬ r4 = 0 → (cj_T σ5 x0 = 1 ∧ (∃ a9, (cj_R σ5 113 x0) = some a9 ∧ (cj_T σ5 a9 = 3 ∧ cs_Jn_mean E σ5 a9 x1 (fun r11 σ12 => ((x2 = 0 → (vf_n32 (FP.d2f r11) ∧ cs_J_floatToIntBits E σ12 (FP.d2f r11) (fun r16 σ17 => P r16 σ17))) ∧ (¬ x2 = 0 → P (FP.d2i r11) σ12)))))))))))))) : cs_L_meanAs E σ x0 x1 x2 P :=
  cj_enter (k := 25) (lv := [(0, .ref x0), (1, .int x1), (2, .int x2)]) (by decide) (Nat.le_of_ble_eq_true rfl) rfl (by
    intro d hd p e s m args below meth c hcx H locs ls hW hS hl
    have hx := hcx.1
    have hb := hcx.2.1
    have hown := hcx.2.2.2.2.2.1
    have hts := hcx.2.2.2.2.2.2.1
    refine lv_iload_n (pc := 0) hx hb dX1_meanAs_0 rfl (lv_at hl 2 rfl) ?_
    refine lv_i2l (pc := 1) hx hb dX1_meanAs_1 rfl ?_
    refine lv_lconst (pc := 2) (v := (0 : Int64)) hx hb dX1_meanAs_2 (by decide) ?_
    refine lv_lconst (pc := 3) (v := (1 : Int64)) hx hb dX1_meanAs_3 (by decide) ?_
    refine cj_xi (pc := 4) (cj_runS hcx hW hS [.long (x2).toInt64, .long (0 : Int64), .long (1 : Int64)] h (Nat.le_trans (by decide) hd) (lw_S q349 q350 q122 q351) yd_L_isIn (by decide) rfl rfl (Nat.le_of_ble_eq_true rfl) hl.1 (Nat.le_refl _) (Nat.le_refl _) dX1_meanAs_4) hS (fun r1 σ2 h H locs hW hS => ?_)
    refine lv_if_eq (pc := 7) (tgt := 18) hx hb dX1_meanAs_7 (by decide) (fun c3 => ?_) (fun c3 => ?_)
    · have h := h.1 c3
      refine lv_ldc (pc := 18) (v := (-1000000 : Int32)) hx hb hown (hts _ q946) dX1_meanAs_18 ?_
      exact cj_reti (pc := 20) hcx hW hS rfl h (Nat.le_refl _) (Nat.le_refl _) dX1_meanAs_20
    · have h := h.2 c3
      refine lv_aload_n (pc := 10) hx hb dX1_meanAs_10 rfl (lv_at hl 0 rfl) ?_
      refine lv_iload_n (pc := 11) hx hb dX1_meanAs_11 rfl (lv_at hl 1 rfl) ?_
      obtain ⟨g6, h⟩ := h
      refine cj_xi (pc := 12) (cj_runV hcx hW hS 0 g6 (by decide) rfl [.int x1] h (Nat.le_trans (by decide) hd) (lw_V q1094 q1096 qs38 q122 q1097) rfl yd_L_hasMean (by decide) rfl rfl (Nat.le_of_ble_eq_true rfl) hl.1 (Nat.le_refl _) (Nat.le_refl _) dX1_meanAs_12) hS (fun r4 σ5 h H locs hW hS => ?_)
      refine lv_if_ne (pc := 15) (tgt := 21) hx hb dX1_meanAs_15 (by decide) (fun c7 => ?_) (fun c7 => ?_)
      · have h := h.2 c7
        refine lv_aload_n (pc := 21) hx hb dX1_meanAs_21 rfl (lv_at hl 0 rfl) ?_
        obtain ⟨g8, h⟩ := h
        refine cj_fld (pc := 22) hcx hW 0 g8 (by decide) rfl in_X1 13 (by decide) (by decide) q290 dX1_meanAs_22 (v := va_rf (cj_R σ5 113 x0)) rfl ?_
        refine lv_iload_n (pc := 25) hx hb dX1_meanAs_25 rfl (lv_at hl 1 rfl) ?_
        obtain ⟨a9, e10, h⟩ := h
        refine cj_stk (st' := [.int x1, .ref a9]) (by rw [e10]; rfl) ?_
        obtain ⟨g13, h⟩ := h
        refine cj_xd (pc := 26) (cj_runV hcx hW hS 2 g13 (by decide) rfl [.int x1] h (Nat.le_trans (by decide) hd) (lw_V q1098 q1099 q1100 q124 q1101) rfl yd_Jn_mean (by decide) rfl rfl (Nat.le_of_ble_eq_true rfl) hl.1 (Nat.le_refl _) (Nat.le_refl _) dX1_meanAs_26) hS (fun r11 σ12 h H locs hW hS => ?_)
        refine lv_dstore_n (pc := 29) (lv' := [(3, .double r11), (0, .ref x0), (1, .int x1), (2, .int x2)]) hx hb dX1_meanAs_29 rfl hl (by decide) rfl (fun ls hl => ?_)
        refine lv_iload_n (pc := 30) hx hb dX1_meanAs_30 rfl (lv_at hl 3 rfl) ?_
        refine lv_if_ne (pc := 31) (tgt := 42) hx hb dX1_meanAs_31 (by decide) (fun c14 => ?_) (fun c14 => ?_)
        · have h := h.2 c14
          refine lv_dload_n (pc := 42) hx hb dX1_meanAs_42 rfl (lv_at hl 0 rfl) ?_
          refine lv_d2i (pc := 43) hx hb dX1_meanAs_43 ?_
          exact cj_reti (pc := 44) hcx hW hS rfl h (Nat.le_refl _) (Nat.le_refl _) dX1_meanAs_44
        · have h := h.1 c14
          refine lv_dload_n (pc := 34) hx hb dX1_meanAs_34 rfl (lv_at hl 0 rfl) ?_
          obtain ⟨g15, h⟩ := h
          refine lv_d2f (pc := 35) hx hb dX1_meanAs_35 g15 ?_
          refine cj_xi (pc := 36) (cj_runS hcx hW hS [.float (FP.d2f r11)] h (Nat.le_trans (by decide) hd) (lw_S q1121 q1122 q147 q1123) yd_J_floatToIntBits (by decide) rfl rfl (Nat.le_of_ble_eq_true rfl) hl.1 (Nat.le_refl _) (Nat.le_refl _) dX1_meanAs_36) hS (fun r16 σ17 h H locs hW hS => ?_)
          refine lv_goto (pc := 39) (tgt := 44) hx hb dX1_meanAs_39 (by decide) ?_
          exact cj_reti (pc := 44) hcx hW hS rfl h (Nat.le_refl _) (Nat.le_refl _) dX1_meanAs_44
      · have h := h.1 c7
        refine lv_ldc (pc := 18) (v := (-1000000 : Int32)) hx hb hown (hts _ q946) dX1_meanAs_18 ?_
        exact cj_reti (pc := 20) hcx hW hS rfl h (Nat.le_refl _) (Nat.le_refl _) dX1_meanAs_20)
/-! L_perform -/
set_option maxHeartbeats 4000000 in
set_option maxRecDepth 100000 in
theorem cb_L_perform_26 {E : cj_E} {σ : cj_S} {x0 : Nat} {x2 : Option Nat} {x3 : Int32} {cu : Nat} {su : Nat} {P : Int32 → cj_S → Prop} (h : (∃ a1, x2 = some a1 ∧ (cj_T σ a1 = 10 ∧ (((cj_F σ 1002 a1) ≤ x3 → (cu ≤ 240 ∧ (su ≤ 4000 ∧ P x3 σ))) ∧ (¬ (cj_F σ 1002 a1) ≤ x3 → (∃ a7, (cj_R σ 1000 a1) = some a7 ∧ (cj_T σ a7 = 21 ∧ (vp_in x3 (cj_N σ a7) ∧ (cu ≤ 240 ∧ (su ≤ 4000 ∧ cs_Sc_number E σ a1 x3 (0 : Int32) (fun r13 σ14 => ((cu + 0) ≤ 240 ∧ ((su + 0) ≤ 4000 ∧ (cj_T σ14 a1 = 10 ∧ cs_Sc_number E σ14 a1 x3 (1 : Int32) (fun r17 σ18 => (((cu + 0) + 0) ≤ 240 ∧ (((su + 0) + 0) ≤ 4000 ∧ (cj_T σ18 a1 = 10 ∧ cs_Sc_number E σ18 a1 x3 (2 : Int32) (fun r22 σ23 => ((((cu + 0) + 0) + 0) ≤ 240 ∧ ((((su + 0) + 0) + 0) ≤ 4000 ∧ (cj_T σ23 a1 = 10 ∧ cs_Sc_number E σ23 a1 x3 (3 : Int32) (fun r27 σ28 => (((((cu + 0) + 0) + 0) + 0) + 11 ≤ 240 ∧ (((((su + 0) + 0) + 0) + 0) + 263 ≤ 4000 ∧ (cj_T σ28 x0 = 1 ∧ cs_L_acts E σ28 x0 (cj_A σ a7 x3.toNatClampNeg) r13 r17 r22 r27 (fun r32 σ33 => ((r32 = (-1 : Int32) → cg_L_perform_26 E σ33 x0 x2 (x3 + (1 : Int32)) (((((cu + 0) + 0) + 0) + 0) + 11) (((((su + 0) + 0) + 0) + 0) + 263) P) ∧ (¬ r32 = (-1 : Int32) → ((((((cu + 0) + 0) + 0) + 0) + 11) ≤ 240 ∧ ((((((su + 0) + 0) + 0) + 0) + 263) ≤ 4000 ∧ P x3 σ33))))))))))))))))))))))))))))))) : cg_L_perform_26 E σ x0 x2 x3 cu su P := by
  intro d hd p e s m args below meth c hcx H locs ls hW hS hl
  have hx := hcx.1
  have hb := hcx.2.1
  have hown := hcx.2.2.2.2.2.1
  have hts := hcx.2.2.2.2.2.2.1
  refine lv_iload_n (pc := 26) hx hb dX1_perform_26 rfl (lv_at hl 2 rfl) ?_
  refine cj_aload_n (pc := 27) hx hb dX1_perform_27 rfl (lv_at hl 1 rfl) ?_
  obtain ⟨a1, e2, h⟩ := h
  refine cj_stk (st' := [.ref a1, .int x3]) (by rw [e2]; rfl) ?_
  obtain ⟨g3, h⟩ := h
  refine cj_fldN (pc := 28) hcx hW 9 g3 (by decide) rfl in_X12 2 (by decide) (by decide) (List.mem_of_getElem? (i := 15) rfl) dX1_perform_28 (v := .int (cj_F σ 1002 a1)) rfl ?_
  refine lv_icmp_ge (pc := 31) (tgt := 78) hx hb dX1_perform_31 (by decide) (fun c4 => ?_) (fun c4 => ?_)
  · have h := h.1 c4
    refine lv_iload_n (pc := 78) hx hb dX1_perform_78 rfl (lv_at hl 2 rfl) ?_
    obtain ⟨g5, h⟩ := h
    obtain ⟨g6, h⟩ := h
    exact cj_reti (pc := 79) hcx hW hS rfl h g5 g6 dX1_perform_79
  · have h := h.2 c4
    refine lv_aload_n (pc := 34) hx hb dX1_perform_34 rfl (lv_at hl 0 rfl) ?_
    refine cj_aload_n (pc := 35) hx hb dX1_perform_35 rfl (lv_at hl 1 rfl) ?_
    refine cj_stk (st' := [.ref a1, .ref x0]) (by rw [e2]; rfl) ?_
    refine cj_fldN (pc := 36) hcx hW 9 g3 (by decide) rfl in_X12 0 (by decide) (by decide) (List.mem_of_getElem? (i := 14) rfl) dX1_perform_36 (v := va_rf (cj_R σ 1000 a1)) rfl ?_
    refine lv_iload_n (pc := 39) hx hb dX1_perform_39 rfl (lv_at hl 2 rfl) ?_
    obtain ⟨a7, e8, h⟩ := h
    refine cj_stk (st' := [.int x3, .ref a7, .ref x0]) (by rw [e8]; rfl) ?_
    obtain ⟨g9, h⟩ := h
    obtain ⟨g10, h⟩ := h
    refine cj_iald (pc := 40) hcx hW g9 g10 dX1_perform_40 ?_
    refine cj_aload_n (pc := 41) hx hb dX1_perform_41 rfl (lv_at hl 1 rfl) ?_
    refine lv_iload_n (pc := 42) hx hb dX1_perform_42 rfl (lv_at hl 2 rfl) ?_
    refine lv_iconst (pc := 43) (v := (0 : Int32)) hx hb dX1_perform_43 (by decide) ?_
    refine cj_stk (st' := [.int (0 : Int32), .int x3, .ref a1, .int (cj_A σ a7 x3.toNatClampNeg), .ref x0]) (by rw [e2]; rfl) ?_
    obtain ⟨g11, h⟩ := h
    obtain ⟨g12, h⟩ := h
    refine cj_xi (pc := 44) (cj_runV hcx hW hS 9 g3 (by decide) rfl [.int x3, .int (0 : Int32)] h (Nat.le_trans (by decide) hd) (lw_V q1162 q1163 q1164 q136 q1165) rfl yd_Sc_number (by decide) rfl rfl (Nat.le_of_ble_eq_true rfl) hl.1 g11 g12 dX1_perform_44) hS (fun r13 σ14 h H locs hW hS => ?_)
    refine cj_aload_n (pc := 47) hx hb dX1_perform_47 rfl (lv_at hl 1 rfl) ?_
    refine lv_iload_n (pc := 48) hx hb dX1_perform_48 rfl (lv_at hl 2 rfl) ?_
    refine lv_iconst (pc := 49) (v := (1 : Int32)) hx hb dX1_perform_49 (by decide) ?_
    refine cj_stk (st' := [.int (1 : Int32), .int x3, .ref a1, .int r13, .int (cj_A σ a7 x3.toNatClampNeg), .ref x0]) (by rw [e2]; rfl) ?_
    obtain ⟨g15, h⟩ := h
    obtain ⟨g16, h⟩ := h
    obtain ⟨g19, h⟩ := h
    refine cj_xi (pc := 50) (cj_runV hcx hW hS 9 g19 (by decide) rfl [.int x3, .int (1 : Int32)] h (Nat.le_trans (by decide) hd) (lw_V q1162 q1163 q1164 q136 q1165) rfl yd_Sc_number (by decide) rfl rfl (Nat.le_of_ble_eq_true rfl) hl.1 g15 g16 dX1_perform_50) hS (fun r17 σ18 h H locs hW hS => ?_)
    refine cj_aload_n (pc := 53) hx hb dX1_perform_53 rfl (lv_at hl 1 rfl) ?_
    refine lv_iload_n (pc := 54) hx hb dX1_perform_54 rfl (lv_at hl 2 rfl) ?_
    refine lv_iconst (pc := 55) (v := (2 : Int32)) hx hb dX1_perform_55 (by decide) ?_
    refine cj_stk (st' := [.int (2 : Int32), .int x3, .ref a1, .int r17, .int r13, .int (cj_A σ a7 x3.toNatClampNeg), .ref x0]) (by rw [e2]; rfl) ?_
    obtain ⟨g20, h⟩ := h
    obtain ⟨g21, h⟩ := h
    obtain ⟨g24, h⟩ := h
    refine cj_xi (pc := 56) (cj_runV hcx hW hS 9 g24 (by decide) rfl [.int x3, .int (2 : Int32)] h (Nat.le_trans (by decide) hd) (lw_V q1162 q1163 q1164 q136 q1165) rfl yd_Sc_number (by decide) rfl rfl (Nat.le_of_ble_eq_true rfl) hl.1 g20 g21 dX1_perform_56) hS (fun r22 σ23 h H locs hW hS => ?_)
    refine cj_aload_n (pc := 59) hx hb dX1_perform_59 rfl (lv_at hl 1 rfl) ?_
    refine lv_iload_n (pc := 60) hx hb dX1_perform_60 rfl (lv_at hl 2 rfl) ?_
    refine lv_iconst (pc := 61) (v := (3 : Int32)) hx hb dX1_perform_61 (by decide) ?_
    refine cj_stk (st' := [.int (3 : Int32), .int x3, .ref a1, .int r22, .int r17, .int r13, .int (cj_A σ a7 x3.toNatClampNeg), .ref x0]) (by rw [e2]; rfl) ?_
    obtain ⟨g25, h⟩ := h
    obtain ⟨g26, h⟩ := h
    obtain ⟨g29, h⟩ := h
    refine cj_xi (pc := 62) (cj_runV hcx hW hS 9 g29 (by decide) rfl [.int x3, .int (3 : Int32)] h (Nat.le_trans (by decide) hd) (lw_V q1162 q1163 q1164 q136 q1165) rfl yd_Sc_number (by decide) rfl rfl (Nat.le_of_ble_eq_true rfl) hl.1 g25 g26 dX1_perform_62) hS (fun r27 σ28 h H locs hW hS => ?_)
    obtain ⟨g30, h⟩ := h
    obtain ⟨g31, h⟩ := h
    obtain ⟨g34, h⟩ := h
    refine cj_xi (pc := 65) (cj_runV hcx hW hS 0 g34 (by decide) rfl [.int (cj_A σ a7 x3.toNatClampNeg), .int r13, .int r17, .int r22, .int r27] h (Nat.le_trans (by decide) hd) (lw_V q745 q747 qs15 q122 q748) rfl yd_L_acts (by decide) rfl rfl (Nat.le_of_ble_eq_true rfl) hl.1 g30 g31 dX1_perform_65) hS (fun r32 σ33 h H locs hW hS => ?_)
    refine lv_iconst (pc := 68) (v := (-1 : Int32)) hx hb dX1_perform_68 (by decide) ?_
    refine lv_icmp_ne (pc := 69) (tgt := 78) hx hb dX1_perform_69 (by decide) (fun c35 => ?_) (fun c35 => ?_)
    · have h := h.2 c35
      refine lv_iload_n (pc := 78) hx hb dX1_perform_78 rfl (lv_at hl 2 rfl) ?_
      obtain ⟨g36, h⟩ := h
      obtain ⟨g37, h⟩ := h
      exact cj_reti (pc := 79) hcx hW hS rfl h g36 g37 dX1_perform_79
    · have h := h.1 c35
      refine lv_iinc (pc := 72) (v := (x3 + (1 : Int32))) (lv' := [(3, .int (x3 + (1 : Int32))), (0, .ref x0), (2, va_rf x2)]) hx hb dX1_perform_72 hl (k := 2) rfl rfl (by decide) (by generalize x2 = z; cases z <;> rfl) (fun ls hl => ?_)
      refine lv_goto (pc := 75) (tgt := 26) hx hb dX1_perform_75 (by decide) ?_
      exact h d hd p e s m args below meth c hcx H locs _ hW hS (lv_sub hl [1, 2, 0] rfl)
set_option maxHeartbeats 4000000 in
set_option maxRecDepth 100000 in
theorem cb_L_perform {E : cj_E} {σ : cj_S} {x0 : Nat} {x1 : Int32} {P : Int32 → cj_S → Prop} (h : (cj_T σ x0 = 1 ∧ cs_L_isScript E σ x0 x1 (fun r1 σ2 => ((r1 = 0 → P (-1 : Int32) σ2) ∧ (¬ r1 = 0 → (cj_T σ2 x0 = 1 ∧ (((cj_F σ2 107 x0) = 0 → P (-1 : Int32) σ2) ∧ (¬ (cj_F σ2 107 x0) = 0 → (∃ a7, (cj_R σ2 102 x0) = some a7 ∧ (cj_T σ2 a7 = 30 ∧ (vp_in x1 (cj_N σ2 a7) ∧ cg_L_perform_26 E σ2 x0 (cj_B σ2 a7 x1.toNatClampNeg) (0 : Int32) 0 0 P))))))))))) : cs_L_perform E σ x0 x1 P :=
  cj_enter (k := 25) (lv := [(0, .ref x0), (1, .int x1)]) (by decide) (Nat.le_of_ble_eq_true rfl) rfl (by
    intro d hd p e s m args below meth c hcx H locs ls hW hS hl
    have hx := hcx.1
    have hb := hcx.2.1
    have hown := hcx.2.2.2.2.2.1
    have hts := hcx.2.2.2.2.2.2.1
    refine lv_aload_n (pc := 0) hx hb dX1_perform_0 rfl (lv_at hl 0 rfl) ?_
    refine lv_iload_n (pc := 1) hx hb dX1_perform_1 rfl (lv_at hl 1 rfl) ?_
    obtain ⟨g3, h⟩ := h
    refine cj_xi (pc := 2) (cj_runV hcx hW hS 0 g3 (by decide) rfl [.int x1] h (Nat.le_trans (by decide) hd) (lw_V q1157 q1159 qs39 q122 q1160) rfl yd_L_isScript (by decide) rfl rfl (Nat.le_of_ble_eq_true rfl) hl.1 (Nat.le_of_ble_eq_true rfl) (Nat.le_of_ble_eq_true rfl) dX1_perform_2) hS (fun r1 σ2 h H locs hW hS => ?_)
    refine lv_if_eq (pc := 5) (tgt := 15) hx hb dX1_perform_5 (by decide) (fun c4 => ?_) (fun c4 => ?_)
    · have h := h.1 c4
      refine lv_iconst (pc := 15) (v := (-1 : Int32)) hx hb dX1_perform_15 (by decide) ?_
      exact cj_reti (pc := 16) hcx hW hS rfl h (Nat.le_of_ble_eq_true rfl) (Nat.le_of_ble_eq_true rfl) dX1_perform_16
    · have h := h.2 c4
      refine lv_aload_n (pc := 8) hx hb dX1_perform_8 rfl (lv_at hl 0 rfl) ?_
      obtain ⟨g5, h⟩ := h
      refine cj_fld (pc := 9) hcx hW 0 g5 (by decide) rfl in_X1 7 (by decide) (by decide) q284 dX1_perform_9 (v := .int (cj_F σ2 107 x0)) rfl ?_
      refine lv_if_ne (pc := 12) (tgt := 17) hx hb dX1_perform_12 (by decide) (fun c6 => ?_) (fun c6 => ?_)
      · have h := h.2 c6
        refine lv_aload_n (pc := 17) hx hb dX1_perform_17 rfl (lv_at hl 0 rfl) ?_
        refine cj_fld (pc := 18) hcx hW 0 g5 (by decide) rfl in_X1 2 (by decide) (by decide) q276 dX1_perform_18 (v := va_rf (cj_R σ2 102 x0)) rfl ?_
        refine lv_iload_n (pc := 21) hx hb dX1_perform_21 rfl (lv_at hl 1 rfl) ?_
        obtain ⟨a7, e8, h⟩ := h
        refine cj_stk (st' := [.int x1, .ref a7]) (by rw [e8]; rfl) ?_
        obtain ⟨g9, h⟩ := h
        obtain ⟨g10, h⟩ := h
        refine cj_aald (pc := 22) hcx hW g9 (by unfold cj_rt; decide) g10 dX1_perform_22 ?_
        refine cj_astore_n (pc := 23) (lv' := [(2, va_rf (cj_B σ2 a7 x1.toNatClampNeg)), (0, .ref x0), (1, .int x1)]) hx hb dX1_perform_23 rfl hl (by decide) rfl (fun ls hl => ?_)
        refine lv_iconst (pc := 24) (v := (0 : Int32)) hx hb dX1_perform_24 (by decide) ?_
        refine lv_istore_n (pc := 25) (lv' := [(3, .int (0 : Int32)), (2, va_rf (cj_B σ2 a7 x1.toNatClampNeg)), (0, .ref x0), (1, .int x1)]) hx hb dX1_perform_25 rfl hl (by decide) (by generalize (cj_B σ2 a7 x1.toNatClampNeg) = z; cases z <;> rfl) (fun ls hl => ?_)
        exact h d hd p e s m args below meth c hcx H locs _ hW hS (lv_sub hl [2, 1, 0] rfl)
      · have h := h.1 c6
        refine lv_iconst (pc := 15) (v := (-1 : Int32)) hx hb dX1_perform_15 (by decide) ?_
        exact cj_reti (pc := 16) hcx hW hS rfl h (Nat.le_of_ble_eq_true rfl) (Nat.le_of_ble_eq_true rfl) dX1_perform_16)
/-! L_skew -/
set_option maxHeartbeats 4000000 in
set_option maxRecDepth 100000 in
theorem cb_L_skew {E : cj_E} {σ : cj_S} {x0 : Nat} {x1 : Int32} {P : Int32 → cj_S → Prop} (h : (cj_T σ x0 = 1 ∧ cs_L_hasMean E σ x0 x1 (fun r1 σ2 => ((r1 = 0 → P (-1000000 : Int32) σ2) ∧ (¬ r1 = 0 → (cj_T σ2 x0 = 1 ∧ (∃ a6, (cj_R σ2 113 x0) = some a6 ∧ (cj_T σ2 a6 = 3 ∧ cs_Jn_tallies E σ2 a6 x1 (fun r8 σ9 => (∃ a11, r8 = some a11 ∧ (cj_T σ9 a11 = 21 ∧ (cj_N σ9 a11 ≤ 100 ∧ (∀ q13, cj_T σ9 q13 = 0 → (cj_T (cj_mk σ9 q13 21 (cj_N σ9 a11) (cj_A σ9 a11) (cj_B σ9 a11)) q13 = 21 ∧ cs_L_ofCounts E (cj_mk σ9 q13 21 (cj_N σ9 a11) (cj_A σ9 a11) (cj_B σ9 a11)) (some q13) (3 : Int32) (fun r18 σ19 => (cj_T σ19 q13 = 21 ∧ (vp_in r18 (cj_N σ19 q13) ∧ (cj_T σ19 x0 = 1 ∧ (∃ a23, (cj_R σ19 113 x0) = some a23 ∧ (cj_T σ19 a23 = 3 ∧ (vf_n32 (FP.fdiv (FP.i2f (cj_A σ19 q13 r18.toNatClampNeg)) (FP.i2f (cj_F σ19 308 a23))) ∧ cs_J_floatToIntBits E σ19 (FP.fdiv (FP.i2f (cj_A σ19 q13 r18.toNatClampNeg)) (FP.i2f (cj_F σ19 308 a23))) (fun r27 σ28 => P r27 σ28)))))))))))))))))))))) : cs_L_skew E σ x0 x1 P :=
  cj_enter (k := 25) (lv := [(0, .ref x0), (1, .int x1)]) (by decide) (Nat.le_of_ble_eq_true rfl) rfl (by
    intro d hd p e s m args below meth c hcx H locs ls hW hS hl
    have hx := hcx.1
    have hb := hcx.2.1
    have hown := hcx.2.2.2.2.2.1
    have hts := hcx.2.2.2.2.2.2.1
    refine lv_aload_n (pc := 0) hx hb dX1_skew_0 rfl (lv_at hl 0 rfl) ?_
    refine lv_iload_n (pc := 1) hx hb dX1_skew_1 rfl (lv_at hl 1 rfl) ?_
    obtain ⟨g3, h⟩ := h
    refine cj_xi (pc := 2) (cj_runV hcx hW hS 0 g3 (by decide) rfl [.int x1] h (Nat.le_trans (by decide) hd) (lw_V q1094 q1096 qs38 q122 q1097) rfl yd_L_hasMean (by decide) rfl rfl (Nat.le_of_ble_eq_true rfl) hl.1 (Nat.le_of_ble_eq_true rfl) (Nat.le_of_ble_eq_true rfl) dX1_skew_2) hS (fun r1 σ2 h H locs hW hS => ?_)
    refine lv_if_ne (pc := 5) (tgt := 11) hx hb dX1_skew_5 (by decide) (fun c4 => ?_) (fun c4 => ?_)
    · have h := h.2 c4
      refine lv_aload_n (pc := 11) hx hb dX1_skew_11 rfl (lv_at hl 0 rfl) ?_
      obtain ⟨g5, h⟩ := h
      refine cj_fld (pc := 12) hcx hW 0 g5 (by decide) rfl in_X1 13 (by decide) (by decide) q290 dX1_skew_12 (v := va_rf (cj_R σ2 113 x0)) rfl ?_
      refine lv_iload_n (pc := 15) hx hb dX1_skew_15 rfl (lv_at hl 1 rfl) ?_
      obtain ⟨a6, e7, h⟩ := h
      refine cj_stk (st' := [.int x1, .ref a6]) (by rw [e7]; rfl) ?_
      obtain ⟨g10, h⟩ := h
      refine cj_xq (pc := 16) (cj_runV hcx hW hS 2 g10 (by decide) rfl [.int x1] h (Nat.le_trans (by decide) hd) (lw_V q1054 q1055 q1056 q124 q1057) rfl yd_Jn_tallies (by decide) rfl rfl (Nat.le_of_ble_eq_true rfl) hl.1 (Nat.le_of_ble_eq_true rfl) (Nat.le_of_ble_eq_true rfl) dX1_skew_16) hS (fun r8 σ9 h H locs hW hS => ?_)
      obtain ⟨a11, e12, h⟩ := h
      refine cj_stk (st' := [.ref a11]) (by rw [e12]; rfl) ?_
      obtain ⟨g15, h⟩ := h
      obtain ⟨g16, h⟩ := h
      refine cj_cloneI (pc := 19) hcx hW hS hl.1 g15 g16 q1147 (Nat.le_of_ble_eq_true rfl) (Nat.le_of_ble_eq_true rfl) (Nat.le_add_left 1 _) (cj_lr (Nat.le_of_ble_eq_true rfl)) dX1_skew_19 (fun q13 H z14 hW hS => ?_)
      have h := h q13 z14
      obtain ⟨g17, h⟩ := h
      refine cj_castI (pc := 22) hcx hW g17 q1148 dX1_skew_22 ?_
      refine lv_astore_n (pc := 25) (lv' := [(2, .ref q13), (0, .ref x0), (1, .int x1)]) hx hb dX1_skew_25 rfl hl (by decide) rfl (fun ls hl => ?_)
      refine lv_aload_n (pc := 26) hx hb dX1_skew_26 rfl (lv_at hl 0 rfl) ?_
      refine lv_aload_n (pc := 27) hx hb dX1_skew_27 rfl (lv_at hl 0 rfl) ?_
      refine lv_iconst (pc := 28) (v := (3 : Int32)) hx hb dX1_skew_28 (by decide) ?_
      refine cj_xi (pc := 29) (cj_runS hcx hW hS [va_rf (some q13), .int (3 : Int32)] h (Nat.le_trans (by decide) hd) (lw_S q1063 q1064 q122 q1065) yd_L_ofCounts (by decide) rfl rfl (Nat.le_of_ble_eq_true rfl) hl.1 (Nat.le_of_ble_eq_true rfl) (Nat.le_of_ble_eq_true rfl) dX1_skew_29) hS (fun r18 σ19 h H locs hW hS => ?_)
      obtain ⟨g20, h⟩ := h
      obtain ⟨g21, h⟩ := h
      refine cj_iald (pc := 32) hcx hW g20 g21 dX1_skew_32 ?_
      refine lv_i2f (pc := 33) hx hb dX1_skew_33 ?_
      refine lv_fstore_n (pc := 34) (lv' := [(3, .float (FP.i2f (cj_A σ19 q13 r18.toNatClampNeg))), (2, .ref q13), (0, .ref x0), (1, .int x1)]) hx hb dX1_skew_34 rfl hl (by decide) rfl (fun ls hl => ?_)
      refine lv_fload_n (pc := 35) hx hb dX1_skew_35 rfl (lv_at hl 0 rfl) ?_
      refine lv_aload_n (pc := 36) hx hb dX1_skew_36 rfl (lv_at hl 2 rfl) ?_
      obtain ⟨g22, h⟩ := h
      refine cj_fld (pc := 37) hcx hW 0 g22 (by decide) rfl in_X1 13 (by decide) (by decide) q290 dX1_skew_37 (v := va_rf (cj_R σ19 113 x0)) rfl ?_
      obtain ⟨a23, e24, h⟩ := h
      refine cj_stk (st' := [.ref a23, .float (FP.i2f (cj_A σ19 q13 r18.toNatClampNeg))]) (by rw [e24]; rfl) ?_
      obtain ⟨g25, h⟩ := h
      refine cj_fldN (pc := 40) hcx hW 2 g25 (by decide) rfl in_X3 8 (by decide) (by decide) (List.mem_of_getElem? (i := 7) rfl) dX1_skew_40 (v := .int (cj_F σ19 308 a23)) rfl ?_
      refine lv_i2f (pc := 43) hx hb dX1_skew_43 ?_
      obtain ⟨g26, h⟩ := h
      refine lv_fdiv (pc := 44) hx hb dX1_skew_44 g26 ?_
      refine cj_xi (pc := 45) (cj_runS hcx hW hS [.float (FP.fdiv (FP.i2f (cj_A σ19 q13 r18.toNatClampNeg)) (FP.i2f (cj_F σ19 308 a23)))] h (Nat.le_trans (by decide) hd) (lw_S q1121 q1122 q147 q1123) yd_J_floatToIntBits (by decide) rfl rfl (Nat.le_of_ble_eq_true rfl) hl.1 (Nat.le_of_ble_eq_true rfl) (Nat.le_of_ble_eq_true rfl) dX1_skew_45) hS (fun r27 σ28 h H locs hW hS => ?_)
      exact cj_reti (pc := 48) hcx hW hS rfl h (Nat.le_of_ble_eq_true rfl) (Nat.le_of_ble_eq_true rfl) dX1_skew_48
    · have h := h.1 c4
      refine lv_ldc (pc := 8) (v := (-1000000 : Int32)) hx hb hown (hts _ q946) dX1_skew_8 ?_
      exact cj_reti (pc := 10) hcx hW hS rfl h (Nat.le_of_ble_eq_true rfl) (Nat.le_of_ble_eq_true rfl) dX1_skew_10)
/-! L_spread -/
set_option maxHeartbeats 4000000 in
set_option maxRecDepth 100000 in
theorem cb_L_spread_27 {E : cj_E} {σ : cj_S} {x0 : Nat} {x1 : Int32} {x2 : UInt64} {x4 : UInt64} {x6 : Int32} {P : Int64 → cj_S → Prop} (h : (cj_T σ x0 = 1 ∧ (∃ a2, (cj_R σ 113 x0) = some a2 ∧ (cj_T σ a2 = 3 ∧ (((cj_F σ 308 a2) ≤ x6 → (vf_n64 (FP.ddiv x4 (FP.i2d (cj_F σ 308 a2))) ∧ cs_J_doubleToLongBits E σ (FP.ddiv x4 (FP.i2d (cj_F σ 308 a2))) (fun r7 σ8 => P r7 σ8))) ∧ (¬ (cj_F σ 308 a2) ≤ x6 → cs_Jn_at E σ a2 x6 x1 (fun r9 σ10 => (vf_n64 (FP.dsub (FP.i2d r9) x2) ∧ (vf_n64 (FP.dsub (FP.i2d r9) x2) ∧ (vf_n64 (FP.dadd x4 ((FP.dsub (FP.i2d r9) x2) &&& 0x7fffffffffffffff)) ∧ cg_L_spread_27 E σ10 x0 x1 x2 (FP.dadd x4 ((FP.dsub (FP.i2d r9) x2) &&& 0x7fffffffffffffff)) (x6 + (1 : Int32)) P)))))))))) : cg_L_spread_27 E σ x0 x1 x2 x4 x6 P := by
  intro d hd p e s m args below meth c hcx H locs ls hW hS hl
  have hx := hcx.1
  have hb := hcx.2.1
  have hown := hcx.2.2.2.2.2.1
  have hts := hcx.2.2.2.2.2.2.1
  refine lv_iload (pc := 27) hx hb dX1_spread_27 (lv_at hl 4 rfl) ?_
  refine lv_aload_n (pc := 29) hx hb dX1_spread_29 rfl (lv_at hl 0 rfl) ?_
  obtain ⟨g1, h⟩ := h
  refine cj_fld (pc := 30) hcx hW 0 g1 (by decide) rfl in_X1 13 (by decide) (by decide) q290 dX1_spread_30 (v := va_rf (cj_R σ 113 x0)) rfl ?_
  obtain ⟨a2, e3, h⟩ := h
  refine cj_stk (st' := [.ref a2, .int x6]) (by rw [e3]; rfl) ?_
  obtain ⟨g4, h⟩ := h
  refine cj_fldN (pc := 33) hcx hW 2 g4 (by decide) rfl in_X3 8 (by decide) (by decide) (List.mem_of_getElem? (i := 7) rfl) dX1_spread_33 (v := .int (cj_F σ 308 a2)) rfl ?_
  refine lv_icmp_ge (pc := 36) (tgt := 66) hx hb dX1_spread_36 (by decide) (fun c5 => ?_) (fun c5 => ?_)
  · have h := h.1 c5
    refine lv_dload (pc := 66) hx hb dX1_spread_66 (lv_at hl 3 rfl) ?_
    refine lv_aload_n (pc := 68) hx hb dX1_spread_68 rfl (lv_at hl 0 rfl) ?_
    refine cj_fld (pc := 69) hcx hW 0 g1 (by decide) rfl in_X1 13 (by decide) (by decide) q290 dX1_spread_69 (v := va_rf (cj_R σ 113 x0)) rfl ?_
    refine cj_stk (st' := [.ref a2, .double x4]) (by rw [e3]; rfl) ?_
    refine cj_fldN (pc := 72) hcx hW 2 g4 (by decide) rfl in_X3 8 (by decide) (by decide) (List.mem_of_getElem? (i := 7) rfl) dX1_spread_72 (v := .int (cj_F σ 308 a2)) rfl ?_
    refine lv_i2d (pc := 75) hx hb dX1_spread_75 ?_
    obtain ⟨g6, h⟩ := h
    refine lv_ddiv (pc := 76) hx hb dX1_spread_76 g6 ?_
    refine cj_xl (pc := 77) (cj_runS hcx hW hS [.double (FP.ddiv x4 (FP.i2d (cj_F σ 308 a2)))] h (Nat.le_trans (by decide) hd) (lw_S q1106 q1107 q146 q1108) yd_J_doubleToLongBits (by decide) rfl rfl (Nat.le_of_ble_eq_true rfl) hl.1 (Nat.le_refl _) (Nat.le_refl _) dX1_spread_77) hS (fun r7 σ8 h H locs hW hS => ?_)
    exact cj_retl (pc := 80) hcx hW hS h (Nat.le_refl _) (Nat.le_refl _) dX1_spread_80
  · have h := h.2 c5
    refine lv_dload (pc := 39) hx hb dX1_spread_39 (lv_at hl 3 rfl) ?_
    refine lv_aload_n (pc := 41) hx hb dX1_spread_41 rfl (lv_at hl 0 rfl) ?_
    refine cj_fld (pc := 42) hcx hW 0 g1 (by decide) rfl in_X1 13 (by decide) (by decide) q290 dX1_spread_42 (v := va_rf (cj_R σ 113 x0)) rfl ?_
    refine lv_iload (pc := 45) hx hb dX1_spread_45 (lv_at hl 4 rfl) ?_
    refine lv_iload_n (pc := 47) hx hb dX1_spread_47 rfl (lv_at hl 1 rfl) ?_
    refine cj_stk (st' := [.int x1, .int x6, .ref a2, .double x4]) (by rw [e3]; rfl) ?_
    refine cj_xi (pc := 48) (cj_runV hcx hW hS 2 g4 (by decide) rfl [.int x6, .int x1] h (Nat.le_trans (by decide) hd) (lw_V q994 q995 q996 q124 q997) rfl yd_Jn_at (by decide) rfl rfl (Nat.le_of_ble_eq_true rfl) hl.1 (Nat.le_refl _) (Nat.le_refl _) dX1_spread_48) hS (fun r9 σ10 h H locs hW hS => ?_)
    refine lv_i2d (pc := 51) hx hb dX1_spread_51 ?_
    refine lv_dload_n (pc := 52) hx hb dX1_spread_52 rfl (lv_at hl 2 rfl) ?_
    obtain ⟨g11, h⟩ := h
    refine lv_dsub (pc := 53) hx hb dX1_spread_53 g11 ?_
    obtain ⟨g12, h⟩ := h
    refine cj_mabsD (pc := 54) hcx hl.1 q1135 g12 (Nat.le_add_left 1 _) (cj_lr (Nat.le_of_ble_eq_true rfl)) (Nat.le_of_ble_eq_true rfl) (Nat.le_refl _) (Nat.le_refl _) dX1_spread_54 ?_
    obtain ⟨g13, h⟩ := h
    refine lv_dadd (pc := 57) hx hb dX1_spread_57 g13 ?_
    refine lv_dstore (pc := 58) (lv' := [(4, .double (FP.dadd x4 ((FP.dsub (FP.i2d r9) x2) &&& 0x7fffffffffffffff))), (0, .ref x0), (1, .int x1), (2, .double x2), (6, .int x6)]) hx hb dX1_spread_58 hl (by decide) rfl (fun ls hl => ?_)
    refine lv_iinc (pc := 60) (v := (x6 + (1 : Int32))) (lv' := [(6, .int (x6 + (1 : Int32))), (4, .double (FP.dadd x4 ((FP.dsub (FP.i2d r9) x2) &&& 0x7fffffffffffffff))), (0, .ref x0), (1, .int x1), (2, .double x2)]) hx hb dX1_spread_60 hl (k := 4) rfl rfl (by decide) rfl (fun ls hl => ?_)
    refine lv_goto (pc := 63) (tgt := 27) hx hb dX1_spread_63 (by decide) ?_
    exact h d hd p e s m args below meth c hcx H locs _ hW hS (lv_sub hl [2, 3, 4, 1, 0] rfl)
set_option maxHeartbeats 4000000 in
set_option maxRecDepth 100000 in
theorem cb_L_spread {E : cj_E} {σ : cj_S} {x0 : Nat} {x1 : Int32} {P : Int64 → cj_S → Prop} (h : (cj_T σ x0 = 1 ∧ cs_L_hasMean E σ x0 x1 (fun r1 σ2 => ((r1 = 0 → P (-1000000 : Int64) σ2) ∧ (¬ r1 = 0 → (cj_T σ2 x0 = 1 ∧ (∃ a6, (cj_R σ2 113 x0) = some a6 ∧ (cj_T σ2 a6 = 3 ∧ cs_Jn_mean E σ2 a6 x1 (fun r8 σ9 => cg_L_spread_27 E σ9 x0 x1 r8 FP.dconst0 (0 : Int32) P))))))))) : cs_L_spread E σ x0 x1 P :=
  cj_enter (k := 25) (lv := [(0, .ref x0), (1, .int x1)]) (by decide) (Nat.le_of_ble_eq_true rfl) rfl (by
    intro d hd p e s m args below meth c hcx H locs ls hW hS hl
    have hx := hcx.1
    have hb := hcx.2.1
    have hown := hcx.2.2.2.2.2.1
    have hts := hcx.2.2.2.2.2.2.1
    refine lv_aload_n (pc := 0) hx hb dX1_spread_0 rfl (lv_at hl 0 rfl) ?_
    refine lv_iload_n (pc := 1) hx hb dX1_spread_1 rfl (lv_at hl 1 rfl) ?_
    obtain ⟨g3, h⟩ := h
    refine cj_xi (pc := 2) (cj_runV hcx hW hS 0 g3 (by decide) rfl [.int x1] h (Nat.le_trans (by decide) hd) (lw_V q1094 q1096 qs38 q122 q1097) rfl yd_L_hasMean (by decide) rfl rfl (Nat.le_of_ble_eq_true rfl) hl.1 (Nat.le_refl _) (Nat.le_refl _) dX1_spread_2) hS (fun r1 σ2 h H locs hW hS => ?_)
    refine lv_if_ne (pc := 5) (tgt := 12) hx hb dX1_spread_5 (by decide) (fun c4 => ?_) (fun c4 => ?_)
    · have h := h.2 c4
      refine lv_aload_n (pc := 12) hx hb dX1_spread_12 rfl (lv_at hl 0 rfl) ?_
      obtain ⟨g5, h⟩ := h
      refine cj_fld (pc := 13) hcx hW 0 g5 (by decide) rfl in_X1 13 (by decide) (by decide) q290 dX1_spread_13 (v := va_rf (cj_R σ2 113 x0)) rfl ?_
      refine lv_iload_n (pc := 16) hx hb dX1_spread_16 rfl (lv_at hl 1 rfl) ?_
      obtain ⟨a6, e7, h⟩ := h
      refine cj_stk (st' := [.int x1, .ref a6]) (by rw [e7]; rfl) ?_
      obtain ⟨g10, h⟩ := h
      refine cj_xd (pc := 17) (cj_runV hcx hW hS 2 g10 (by decide) rfl [.int x1] h (Nat.le_trans (by decide) hd) (lw_V q1098 q1099 q1100 q124 q1101) rfl yd_Jn_mean (by decide) rfl rfl (Nat.le_of_ble_eq_true rfl) hl.1 (Nat.le_refl _) (Nat.le_refl _) dX1_spread_17) hS (fun r8 σ9 h H locs hW hS => ?_)
      refine lv_dstore_n (pc := 20) (lv' := [(2, .double r8), (0, .ref x0), (1, .int x1)]) hx hb dX1_spread_20 rfl hl (by decide) rfl (fun ls hl => ?_)
      refine lv_dconst0 (pc := 21) hx hb dX1_spread_21 ?_
      refine lv_dstore (pc := 22) (lv' := [(4, .double FP.dconst0), (2, .double r8), (0, .ref x0), (1, .int x1)]) hx hb dX1_spread_22 hl (by decide) rfl (fun ls hl => ?_)
      refine lv_iconst (pc := 24) (v := (0 : Int32)) hx hb dX1_spread_24 (by decide) ?_
      refine lv_istore (pc := 25) (lv' := [(6, .int (0 : Int32)), (4, .double FP.dconst0), (2, .double r8), (0, .ref x0), (1, .int x1)]) hx hb dX1_spread_25 hl (by decide) rfl (fun ls hl => ?_)
      exact h d hd p e s m args below meth c hcx H locs _ hW hS (lv_sub hl [3, 4, 2, 1, 0] rfl)
    · have h := h.1 c4
      refine lv_ldc2 (pc := 8) (v := (-1000000 : Int64)) hx hb hown (hts _ q1116) dX1_spread_8 ?_
      exact cj_retl (pc := 11) hcx hW hS h (Nat.le_refl _) (Nat.le_refl _) dX1_spread_11)
/-! L_tellings -/
set_option maxHeartbeats 4000000 in
set_option maxRecDepth 100000 in
theorem cb_L_tellings_4 {E : cj_E} {σ : cj_S} {x0 : Nat} {x1 : Int32} {x2 : Int32} {P : Int32 → cj_S → Prop} (h : (((4 : Int32) ≤ x2 → P x1 σ) ∧ (¬ (4 : Int32) ≤ x2 → cg_L_tellings_11 E σ x0 x1 x2 (0 : Int32) P))) : cg_L_tellings_4 E σ x0 x1 x2 P := by
  intro d hd p e s m args below meth c hcx H locs ls hW hS hl
  have hx := hcx.1
  have hb := hcx.2.1
  have hown := hcx.2.2.2.2.2.1
  have hts := hcx.2.2.2.2.2.2.1
  refine lv_iload_n (pc := 4) hx hb dX1_tellings_4 rfl (lv_at hl 2 rfl) ?_
  refine lv_iconst (pc := 5) (v := (4 : Int32)) hx hb dX1_tellings_5 (by decide) ?_
  refine lv_icmp_ge (pc := 6) (tgt := 50) hx hb dX1_tellings_6 (by decide) (fun c1 => ?_) (fun c1 => ?_)
  · have h := h.1 c1
    refine lv_iload_n (pc := 50) hx hb dX1_tellings_50 rfl (lv_at hl 1 rfl) ?_
    exact cj_reti (pc := 51) hcx hW hS rfl h (Nat.le_refl _) (Nat.le_refl _) dX1_tellings_51
  · have h := h.2 c1
    refine lv_iconst (pc := 9) (v := (0 : Int32)) hx hb dX1_tellings_9 (by decide) ?_
    refine lv_istore_n (pc := 10) (lv' := [(3, .int (0 : Int32)), (0, .ref x0), (1, .int x1), (2, .int x2)]) hx hb dX1_tellings_10 rfl hl (by decide) rfl (fun ls hl => ?_)
    exact h d hd p e s m args below meth c hcx H locs _ hW hS (lv_sub hl [1, 2, 3, 0] rfl)
set_option maxHeartbeats 4000000 in
set_option maxRecDepth 100000 in
theorem cb_L_tellings_11 {E : cj_E} {σ : cj_S} {x0 : Nat} {x1 : Int32} {x2 : Int32} {x3 : Int32} {P : Int32 → cj_S → Prop} (h : (((4 : Int32) ≤ x3 → cg_L_tellings_4 E σ x0 x1 (x2 + (1 : Int32)) P) ∧ (¬ (4 : Int32) ≤ x3 → ((x2 = x3 → cg_L_tellings_11 E σ x0 (x1 + (0 : Int32)) x2 (x3 + (1 : Int32)) P) ∧ (¬ x2 = x3 → (cj_T σ x0 = 1 ∧ cs_L_tells E σ x0 x2 x3 (fun r3 σ4 => ((r3 = 0 → cg_L_tellings_11 E σ4 x0 (x1 + (0 : Int32)) x2 (x3 + (1 : Int32)) P) ∧ (¬ r3 = 0 → cg_L_tellings_11 E σ4 x0 (x1 + (1 : Int32)) x2 (x3 + (1 : Int32)) P))))))))) : cg_L_tellings_11 E σ x0 x1 x2 x3 P := by
  intro d hd p e s m args below meth c hcx H locs ls hW hS hl
  have hx := hcx.1
  have hb := hcx.2.1
  have hown := hcx.2.2.2.2.2.1
  have hts := hcx.2.2.2.2.2.2.1
  refine lv_iload_n (pc := 11) hx hb dX1_tellings_11 rfl (lv_at hl 3 rfl) ?_
  refine lv_iconst (pc := 12) (v := (4 : Int32)) hx hb dX1_tellings_12 (by decide) ?_
  refine lv_icmp_ge (pc := 13) (tgt := 44) hx hb dX1_tellings_13 (by decide) (fun c1 => ?_) (fun c1 => ?_)
  · have h := h.1 c1
    refine lv_iinc (pc := 44) (v := (x2 + (1 : Int32))) (lv' := [(2, .int (x2 + (1 : Int32))), (0, .ref x0), (1, .int x1), (3, .int x3)]) hx hb dX1_tellings_44 hl (k := 2) rfl rfl (by decide) rfl (fun ls hl => ?_)
    refine lv_goto (pc := 47) (tgt := 4) hx hb dX1_tellings_47 (by decide) ?_
    exact h d hd p e s m args below meth c hcx H locs _ hW hS (lv_sub hl [1, 2, 0] rfl)
  · have h := h.2 c1
    refine lv_iload_n (pc := 16) hx hb dX1_tellings_16 rfl (lv_at hl 1 rfl) ?_
    refine lv_iload_n (pc := 17) hx hb dX1_tellings_17 rfl (lv_at hl 2 rfl) ?_
    refine lv_iload_n (pc := 18) hx hb dX1_tellings_18 rfl (lv_at hl 3 rfl) ?_
    refine lv_icmp_eq (pc := 19) (tgt := 35) hx hb dX1_tellings_19 (by decide) (fun c2 => ?_) (fun c2 => ?_)
    · have h := h.1 c2
      refine lv_iconst (pc := 35) (v := (0 : Int32)) hx hb dX1_tellings_35 (by decide) ?_
      refine lv_iadd (pc := 36) hx hb dX1_tellings_36 ?_
      refine lv_istore_n (pc := 37) (lv' := [(1, .int (x1 + (0 : Int32))), (0, .ref x0), (2, .int x2), (3, .int x3)]) hx hb dX1_tellings_37 rfl hl (by decide) rfl (fun ls hl => ?_)
      refine lv_iinc (pc := 38) (v := (x3 + (1 : Int32))) (lv' := [(3, .int (x3 + (1 : Int32))), (1, .int (x1 + (0 : Int32))), (0, .ref x0), (2, .int x2)]) hx hb dX1_tellings_38 hl (k := 3) rfl rfl (by decide) rfl (fun ls hl => ?_)
      refine lv_goto (pc := 41) (tgt := 11) hx hb dX1_tellings_41 (by decide) ?_
      exact h d hd p e s m args below meth c hcx H locs _ hW hS (lv_sub hl [2, 1, 3, 0] rfl)
    · have h := h.2 c2
      refine lv_aload_n (pc := 22) hx hb dX1_tellings_22 rfl (lv_at hl 0 rfl) ?_
      refine lv_iload_n (pc := 23) hx hb dX1_tellings_23 rfl (lv_at hl 2 rfl) ?_
      refine lv_iload_n (pc := 24) hx hb dX1_tellings_24 rfl (lv_at hl 3 rfl) ?_
      obtain ⟨g5, h⟩ := h
      refine cj_xi (pc := 25) (cj_runV hcx hW hS 0 g5 (by decide) rfl [.int x2, .int x3] h (Nat.le_trans (by decide) hd) (lw_V q1200 q1067 q1068 q122 q1069) rfl yd_L_tells (by decide) rfl rfl (Nat.le_of_ble_eq_true rfl) hl.1 (Nat.le_refl _) (Nat.le_refl _) dX1_tellings_25) hS (fun r3 σ4 h H locs hW hS => ?_)
      refine lv_if_eq (pc := 28) (tgt := 35) hx hb dX1_tellings_28 (by decide) (fun c6 => ?_) (fun c6 => ?_)
      · have h := h.1 c6
        refine lv_iconst (pc := 35) (v := (0 : Int32)) hx hb dX1_tellings_35 (by decide) ?_
        refine lv_iadd (pc := 36) hx hb dX1_tellings_36 ?_
        refine lv_istore_n (pc := 37) (lv' := [(1, .int (x1 + (0 : Int32))), (0, .ref x0), (2, .int x2), (3, .int x3)]) hx hb dX1_tellings_37 rfl hl (by decide) rfl (fun ls hl => ?_)
        refine lv_iinc (pc := 38) (v := (x3 + (1 : Int32))) (lv' := [(3, .int (x3 + (1 : Int32))), (1, .int (x1 + (0 : Int32))), (0, .ref x0), (2, .int x2)]) hx hb dX1_tellings_38 hl (k := 3) rfl rfl (by decide) rfl (fun ls hl => ?_)
        refine lv_goto (pc := 41) (tgt := 11) hx hb dX1_tellings_41 (by decide) ?_
        exact h d hd p e s m args below meth c hcx H locs _ hW hS (lv_sub hl [2, 1, 3, 0] rfl)
      · have h := h.2 c6
        refine lv_iconst (pc := 31) (v := (1 : Int32)) hx hb dX1_tellings_31 (by decide) ?_
        refine lv_goto (pc := 32) (tgt := 36) hx hb dX1_tellings_32 (by decide) ?_
        refine lv_iadd (pc := 36) hx hb dX1_tellings_36 ?_
        refine lv_istore_n (pc := 37) (lv' := [(1, .int (x1 + (1 : Int32))), (0, .ref x0), (2, .int x2), (3, .int x3)]) hx hb dX1_tellings_37 rfl hl (by decide) rfl (fun ls hl => ?_)
        refine lv_iinc (pc := 38) (v := (x3 + (1 : Int32))) (lv' := [(3, .int (x3 + (1 : Int32))), (1, .int (x1 + (1 : Int32))), (0, .ref x0), (2, .int x2)]) hx hb dX1_tellings_38 hl (k := 3) rfl rfl (by decide) rfl (fun ls hl => ?_)
        refine lv_goto (pc := 41) (tgt := 11) hx hb dX1_tellings_41 (by decide) ?_
        exact h d hd p e s m args below meth c hcx H locs _ hW hS (lv_sub hl [2, 1, 3, 0] rfl)
set_option maxHeartbeats 4000000 in
set_option maxRecDepth 100000 in
theorem cb_L_tellings {E : cj_E} {σ : cj_S} {x0 : Nat} {P : Int32 → cj_S → Prop} (h : cg_L_tellings_4 E σ x0 (0 : Int32) (0 : Int32) P) : cs_L_tellings E σ x0 P :=
  cj_enter (k := 25) (lv := [(0, .ref x0)]) (by decide) (Nat.le_of_ble_eq_true rfl) rfl (by
    intro d hd p e s m args below meth c hcx H locs ls hW hS hl
    have hx := hcx.1
    have hb := hcx.2.1
    have hown := hcx.2.2.2.2.2.1
    have hts := hcx.2.2.2.2.2.2.1
    refine lv_iconst (pc := 0) (v := (0 : Int32)) hx hb dX1_tellings_0 (by decide) ?_
    refine lv_istore_n (pc := 1) (lv' := [(1, .int (0 : Int32)), (0, .ref x0)]) hx hb dX1_tellings_1 rfl hl (by decide) rfl (fun ls hl => ?_)
    refine lv_iconst (pc := 2) (v := (0 : Int32)) hx hb dX1_tellings_2 (by decide) ?_
    refine lv_istore_n (pc := 3) (lv' := [(2, .int (0 : Int32)), (1, .int (0 : Int32)), (0, .ref x0)]) hx hb dX1_tellings_3 rfl hl (by decide) rfl (fun ls hl => ?_)
    exact h d hd p e s m args below meth c hcx H locs _ hW hS (lv_sub hl [2, 1, 0] rfl))
/-! L_most -/
set_option maxHeartbeats 4000000 in
set_option maxRecDepth 100000 in
theorem cb_L_most {E : cj_E} {σ : cj_S} {x0 : Nat} {x1 : Int32} {P : Int32 → cj_S → Prop} (h : (cj_T σ x0 = 1 ∧ (((cj_F σ 107 x0) = 0 → P (-1000000 : Int32) σ) ∧ (¬ (cj_F σ 107 x0) = 0 → ((x1 = (0 : Int32) → cs_L_sums E σ x0 (fun r4 σ5 => P r4 σ5)) ∧ (¬ x1 = (0 : Int32) → ((x1 = (1 : Int32) → ((x1 = (2 : Int32) → cs_L_greatestTable E σ x0 (1 : Int32) (fun r10 σ11 => P r10 σ11)) ∧ (¬ x1 = (2 : Int32) → cs_L_greatestTable E σ x0 (0 : Int32) (fun r8 σ9 => P r8 σ9)))) ∧ (¬ x1 = (1 : Int32) → ((x1 = (2 : Int32) → ((x1 = (2 : Int32) → cs_L_greatestTable E σ x0 (1 : Int32) (fun r16 σ17 => P r16 σ17)) ∧ (¬ x1 = (2 : Int32) → cs_L_greatestTable E σ x0 (0 : Int32) (fun r14 σ15 => P r14 σ15)))) ∧ (¬ x1 = (2 : Int32) → ((x1 = (3 : Int32) → cs_L_dangling E σ x0 (fun r19 σ20 => P r19 σ20)) ∧ (¬ x1 = (3 : Int32) → ((x1 = (4 : Int32) → cs_L_tellings E σ x0 (fun r22 σ23 => P r22 σ23)) ∧ (¬ x1 = (4 : Int32) → ((x1 = (5 : Int32) → (∃ a25, (cj_R σ 113 x0) = some a25 ∧ (cj_T σ a25 = 3 ∧ cs_Jn_of E σ a25 (cj_R σ 109 x0) (0 : Int32) (fun r27 σ28 => (∃ a30, r27 = some a30 ∧ (cj_T σ28 a30 = 3 ∧ P (cj_F σ28 309 a30) σ28)))))) ∧ (¬ x1 = (5 : Int32) → ((x1 = (6 : Int32) → cs_L_mostLeaps E σ x0 (fun r34 σ35 => P r34 σ35)) ∧ (¬ x1 = (6 : Int32) → P (-1000000 : Int32) σ)))))))))))))))))) : cs_L_most E σ x0 x1 P :=
  cj_enter (k := 26) (lv := [(0, .ref x0), (1, .int x1)]) (by decide) (Nat.le_of_ble_eq_true rfl) rfl (by
    intro d hd p e s m args below meth c hcx H locs ls hW hS hl
    have hx := hcx.1
    have hb := hcx.2.1
    have hown := hcx.2.2.2.2.2.1
    have hts := hcx.2.2.2.2.2.2.1
    refine lv_aload_n (pc := 0) hx hb dX1_most_0 rfl (lv_at hl 0 rfl) ?_
    obtain ⟨g1, h⟩ := h
    refine cj_fld (pc := 1) hcx hW 0 g1 (by decide) rfl in_X1 7 (by decide) (by decide) q284 dX1_most_1 (v := .int (cj_F σ 107 x0)) rfl ?_
    refine lv_if_ne (pc := 4) (tgt := 10) hx hb dX1_most_4 (by decide) (fun c2 => ?_) (fun c2 => ?_)
    · have h := h.2 c2
      refine lv_iload_n (pc := 10) hx hb dX1_most_10 rfl (lv_at hl 1 rfl) ?_
      by_cases c3 : x1 = (0 : Int32)
      · have h := h.1 c3
        refine lv_tableIn (pc := 11) (off := 41) (tgt := 52) hx hb dX1_most_11 (by rw [c3]; decide) (by rw [c3]; decide) (by rw [c3]; rfl) (by decide) ?_
        refine lv_aload_n (pc := 52) hx hb dX1_most_52 rfl (lv_at hl 0 rfl) ?_
        refine cj_xi (pc := 53) (cj_runV hcx hW hS 0 g1 (by decide) rfl [] h (Nat.le_trans (by decide) hd) (lw_V q1178 q1180 qs40 q122 q1181) rfl yd_L_sums (by decide) rfl rfl (Nat.le_of_ble_eq_true rfl) hl.1 (Nat.le_refl _) (Nat.le_refl _) dX1_most_53) hS (fun r4 σ5 h H locs hW hS => ?_)
        exact cj_reti (pc := 56) hcx hW hS rfl h (Nat.le_refl _) (Nat.le_refl _) dX1_most_56
      · have h := h.2 c3
        by_cases c6 : x1 = (1 : Int32)
        · have h := h.1 c6
          refine lv_tableIn (pc := 11) (off := 46) (tgt := 57) hx hb dX1_most_11 (by rw [c6]; decide) (by rw [c6]; decide) (by rw [c6]; rfl) (by decide) ?_
          refine lv_aload_n (pc := 57) hx hb dX1_most_57 rfl (lv_at hl 0 rfl) ?_
          refine lv_iload_n (pc := 58) hx hb dX1_most_58 rfl (lv_at hl 1 rfl) ?_
          refine lv_iconst (pc := 59) (v := (2 : Int32)) hx hb dX1_most_59 (by decide) ?_
          refine lv_icmp_ne (pc := 60) (tgt := 67) hx hb dX1_most_60 (by decide) (fun c7 => ?_) (fun c7 => ?_)
          · have h := h.2 c7
            refine lv_iconst (pc := 67) (v := (0 : Int32)) hx hb dX1_most_67 (by decide) ?_
            refine cj_xi (pc := 68) (cj_runV hcx hW hS 0 g1 (by decide) rfl [.int (0 : Int32)] h (Nat.le_trans (by decide) hd) (lw_V q1182 q1184 qs41 q122 q1185) rfl yd_L_greatestTable (by decide) rfl rfl (Nat.le_of_ble_eq_true rfl) hl.1 (Nat.le_refl _) (Nat.le_refl _) dX1_most_68) hS (fun r8 σ9 h H locs hW hS => ?_)
            exact cj_reti (pc := 71) hcx hW hS rfl h (Nat.le_refl _) (Nat.le_refl _) dX1_most_71
          · have h := h.1 c7
            refine lv_iconst (pc := 63) (v := (1 : Int32)) hx hb dX1_most_63 (by decide) ?_
            refine lv_goto (pc := 64) (tgt := 68) hx hb dX1_most_64 (by decide) ?_
            refine cj_xi (pc := 68) (cj_runV hcx hW hS 0 g1 (by decide) rfl [.int (1 : Int32)] h (Nat.le_trans (by decide) hd) (lw_V q1182 q1184 qs41 q122 q1185) rfl yd_L_greatestTable (by decide) rfl rfl (Nat.le_of_ble_eq_true rfl) hl.1 (Nat.le_refl _) (Nat.le_refl _) dX1_most_68) hS (fun r10 σ11 h H locs hW hS => ?_)
            exact cj_reti (pc := 71) hcx hW hS rfl h (Nat.le_refl _) (Nat.le_refl _) dX1_most_71
        · have h := h.2 c6
          by_cases c12 : x1 = (2 : Int32)
          · have h := h.1 c12
            refine lv_tableIn (pc := 11) (off := 46) (tgt := 57) hx hb dX1_most_11 (by rw [c12]; decide) (by rw [c12]; decide) (by rw [c12]; rfl) (by decide) ?_
            refine lv_aload_n (pc := 57) hx hb dX1_most_57 rfl (lv_at hl 0 rfl) ?_
            refine lv_iload_n (pc := 58) hx hb dX1_most_58 rfl (lv_at hl 1 rfl) ?_
            refine lv_iconst (pc := 59) (v := (2 : Int32)) hx hb dX1_most_59 (by decide) ?_
            refine lv_icmp_ne (pc := 60) (tgt := 67) hx hb dX1_most_60 (by decide) (fun c13 => ?_) (fun c13 => ?_)
            · have h := h.2 c13
              refine lv_iconst (pc := 67) (v := (0 : Int32)) hx hb dX1_most_67 (by decide) ?_
              refine cj_xi (pc := 68) (cj_runV hcx hW hS 0 g1 (by decide) rfl [.int (0 : Int32)] h (Nat.le_trans (by decide) hd) (lw_V q1182 q1184 qs41 q122 q1185) rfl yd_L_greatestTable (by decide) rfl rfl (Nat.le_of_ble_eq_true rfl) hl.1 (Nat.le_refl _) (Nat.le_refl _) dX1_most_68) hS (fun r14 σ15 h H locs hW hS => ?_)
              exact cj_reti (pc := 71) hcx hW hS rfl h (Nat.le_refl _) (Nat.le_refl _) dX1_most_71
            · have h := h.1 c13
              refine lv_iconst (pc := 63) (v := (1 : Int32)) hx hb dX1_most_63 (by decide) ?_
              refine lv_goto (pc := 64) (tgt := 68) hx hb dX1_most_64 (by decide) ?_
              refine cj_xi (pc := 68) (cj_runV hcx hW hS 0 g1 (by decide) rfl [.int (1 : Int32)] h (Nat.le_trans (by decide) hd) (lw_V q1182 q1184 qs41 q122 q1185) rfl yd_L_greatestTable (by decide) rfl rfl (Nat.le_of_ble_eq_true rfl) hl.1 (Nat.le_refl _) (Nat.le_refl _) dX1_most_68) hS (fun r16 σ17 h H locs hW hS => ?_)
              exact cj_reti (pc := 71) hcx hW hS rfl h (Nat.le_refl _) (Nat.le_refl _) dX1_most_71
          · have h := h.2 c12
            by_cases c18 : x1 = (3 : Int32)
            · have h := h.1 c18
              refine lv_tableIn (pc := 11) (off := 61) (tgt := 72) hx hb dX1_most_11 (by rw [c18]; decide) (by rw [c18]; decide) (by rw [c18]; rfl) (by decide) ?_
              refine lv_aload_n (pc := 72) hx hb dX1_most_72 rfl (lv_at hl 0 rfl) ?_
              refine cj_xi (pc := 73) (cj_runV hcx hW hS 0 g1 (by decide) rfl [] h (Nat.le_trans (by decide) hd) (lw_V q1192 q1194 qs42 q122 q1195) rfl yd_L_dangling (by decide) rfl rfl (Nat.le_of_ble_eq_true rfl) hl.1 (Nat.le_refl _) (Nat.le_refl _) dX1_most_73) hS (fun r19 σ20 h H locs hW hS => ?_)
              exact cj_reti (pc := 76) hcx hW hS rfl h (Nat.le_refl _) (Nat.le_refl _) dX1_most_76
            · have h := h.2 c18
              by_cases c21 : x1 = (4 : Int32)
              · have h := h.1 c21
                refine lv_tableIn (pc := 11) (off := 66) (tgt := 77) hx hb dX1_most_11 (by rw [c21]; decide) (by rw [c21]; decide) (by rw [c21]; rfl) (by decide) ?_
                refine lv_aload_n (pc := 77) hx hb dX1_most_77 rfl (lv_at hl 0 rfl) ?_
                refine cj_xi (pc := 78) (cj_runV hcx hW hS 0 g1 (by decide) rfl [] h (Nat.le_trans (by decide) hd) (lw_V q1196 q1198 qs43 q122 q1199) rfl yd_L_tellings (by decide) rfl rfl (Nat.le_of_ble_eq_true rfl) hl.1 (Nat.le_refl _) (Nat.le_refl _) dX1_most_78) hS (fun r22 σ23 h H locs hW hS => ?_)
                exact cj_reti (pc := 81) hcx hW hS rfl h (Nat.le_refl _) (Nat.le_refl _) dX1_most_81
              · have h := h.2 c21
                by_cases c24 : x1 = (5 : Int32)
                · have h := h.1 c24
                  refine lv_tableIn (pc := 11) (off := 71) (tgt := 82) hx hb dX1_most_11 (by rw [c24]; decide) (by rw [c24]; decide) (by rw [c24]; rfl) (by decide) ?_
                  refine lv_aload_n (pc := 82) hx hb dX1_most_82 rfl (lv_at hl 0 rfl) ?_
                  refine cj_fld (pc := 83) hcx hW 0 g1 (by decide) rfl in_X1 13 (by decide) (by decide) q290 dX1_most_83 (v := va_rf (cj_R σ 113 x0)) rfl ?_
                  refine lv_aload_n (pc := 86) hx hb dX1_most_86 rfl (lv_at hl 0 rfl) ?_
                  refine cj_fld (pc := 87) hcx hW 0 g1 (by decide) rfl in_X1 9 (by decide) (by decide) q286 dX1_most_87 (v := va_rf (cj_R σ 109 x0)) rfl ?_
                  refine lv_iconst (pc := 90) (v := (0 : Int32)) hx hb dX1_most_90 (by decide) ?_
                  obtain ⟨a25, e26, h⟩ := h
                  refine cj_stk (st' := [.int (0 : Int32), va_rf (cj_R σ 109 x0), .ref a25]) (by rw [e26]; rfl) ?_
                  obtain ⟨g29, h⟩ := h
                  refine cj_xq (pc := 91) (cj_runV hcx hW hS 2 g29 (by decide) rfl [va_rf (cj_R σ 109 x0), .int (0 : Int32)] h (Nat.le_trans (by decide) hd) (lw_V q846 q847 q848 q124 q849) rfl yd_Jn_of (by decide) rfl rfl (Nat.le_of_ble_eq_true rfl) hl.1 (Nat.le_refl _) (Nat.le_refl _) dX1_most_91) hS (fun r27 σ28 h H locs hW hS => ?_)
                  obtain ⟨a30, e31, h⟩ := h
                  refine cj_stk (st' := [.ref a30]) (by rw [e31]; rfl) ?_
                  obtain ⟨g32, h⟩ := h
                  refine cj_fldN (pc := 94) hcx hW 2 g32 (by decide) rfl in_X3 9 (by decide) (by decide) (List.mem_of_getElem? (i := 8) rfl) dX1_most_94 (v := .int (cj_F σ28 309 a30)) rfl ?_
                  exact cj_reti (pc := 97) hcx hW hS rfl h (Nat.le_refl _) (Nat.le_refl _) dX1_most_97
                · have h := h.2 c24
                  by_cases c33 : x1 = (6 : Int32)
                  · have h := h.1 c33
                    refine lv_tableIn (pc := 11) (off := 87) (tgt := 98) hx hb dX1_most_11 (by rw [c33]; decide) (by rw [c33]; decide) (by rw [c33]; rfl) (by decide) ?_
                    refine lv_aload_n (pc := 98) hx hb dX1_most_98 rfl (lv_at hl 0 rfl) ?_
                    refine cj_xi (pc := 99) (cj_runV hcx hW hS 0 g1 (by decide) rfl [] h (Nat.le_trans (by decide) hd) (lw_V q1201 q1203 qs44 q122 q1204) rfl yd_L_mostLeaps (by decide) rfl rfl (Nat.le_of_ble_eq_true rfl) hl.1 (Nat.le_refl _) (Nat.le_refl _) dX1_most_99) hS (fun r34 σ35 h H locs hW hS => ?_)
                    exact cj_reti (pc := 102) hcx hW hS rfl h (Nat.le_refl _) (Nat.le_refl _) dX1_most_102
                  · have h := h.2 c33
                    refine lv_tableOut (pc := 11) (tgt := 103) hx hb dX1_most_11 (cj_sw7 c3 c6 c12 c18 c21 c24 c33) (by decide) ?_
                    refine lv_ldc (pc := 103) (v := (-1000000 : Int32)) hx hb hown (hts _ q946) dX1_most_103 ?_
                    exact cj_reti (pc := 105) hcx hW hS rfl h (Nat.le_refl _) (Nat.le_refl _) dX1_most_105
    · have h := h.1 c2
      refine lv_ldc (pc := 7) (v := (-1000000 : Int32)) hx hb hown (hts _ q946) dX1_most_7 ?_
      exact cj_reti (pc := 9) hcx hW hS rfl h (Nat.le_refl _) (Nat.le_refl _) dX1_most_9)
/-! L_order -/
set_option maxHeartbeats 4000000 in
set_option maxRecDepth 100000 in
theorem cb_L_order {E : cj_E} {σ : cj_S} {x0 : Nat} {x1 : Int32} {P : Int32 → cj_S → Prop} (h : (cj_T σ x0 = 1 ∧ cs_L_act E σ x0 (3 : Int32) x1 (0 : Int32) (0 : Int32) (0 : Int32) (fun r1 σ2 => P r1 σ2))) : cs_L_order E σ x0 x1 P :=
  cj_enter (k := 26) (lv := [(0, .ref x0), (1, .int x1)]) (by decide) (Nat.le_of_ble_eq_true rfl) rfl (by
    intro d hd p e s m args below meth c hcx H locs ls hW hS hl
    have hx := hcx.1
    have hb := hcx.2.1
    have hown := hcx.2.2.2.2.2.1
    have hts := hcx.2.2.2.2.2.2.1
    refine lv_aload_n (pc := 0) hx hb dX1_order_0 rfl (lv_at hl 0 rfl) ?_
    refine lv_iconst (pc := 1) (v := (3 : Int32)) hx hb dX1_order_1 (by decide) ?_
    refine lv_iload_n (pc := 2) hx hb dX1_order_2 rfl (lv_at hl 1 rfl) ?_
    refine lv_iconst (pc := 3) (v := (0 : Int32)) hx hb dX1_order_3 (by decide) ?_
    refine lv_iconst (pc := 4) (v := (0 : Int32)) hx hb dX1_order_4 (by decide) ?_
    refine lv_iconst (pc := 5) (v := (0 : Int32)) hx hb dX1_order_5 (by decide) ?_
    obtain ⟨g3, h⟩ := h
    refine cj_xi (pc := 6) (cj_runV hcx hW hS 0 g3 (by decide) rfl [.int (3 : Int32), .int x1, .int (0 : Int32), .int (0 : Int32), .int (0 : Int32)] h (Nat.le_trans (by decide) hd) (lw_V q741 q743 qs14 q122 q744) rfl yd_L_act (by decide) rfl rfl (Nat.le_of_ble_eq_true rfl) hl.1 (Nat.le_of_ble_eq_true rfl) (Nat.le_of_ble_eq_true rfl) dX1_order_6) hS (fun r1 σ2 h H locs hW hS => ?_)
    exact cj_reti (pc := 9) hcx hW hS rfl h (Nat.le_of_ble_eq_true rfl) (Nat.le_of_ble_eq_true rfl) dX1_order_9)
/-! L_put -/
set_option maxHeartbeats 4000000 in
set_option maxRecDepth 100000 in
theorem cb_L_put {E : cj_E} {σ : cj_S} {x0 : Nat} {x1 : Int32} {x2 : Int32} {x3 : Int32} {x4 : Int32} {P : Int32 → cj_S → Prop} (h : (cj_T σ x0 = 1 ∧ cs_L_act E σ x0 (0 : Int32) x1 x2 x3 x4 (fun r1 σ2 => P r1 σ2))) : cs_L_put E σ x0 x1 x2 x3 x4 P :=
  cj_enter (k := 26) (lv := [(0, .ref x0), (1, .int x1), (2, .int x2), (3, .int x3), (4, .int x4)]) (by decide) (Nat.le_of_ble_eq_true rfl) rfl (by
    intro d hd p e s m args below meth c hcx H locs ls hW hS hl
    have hx := hcx.1
    have hb := hcx.2.1
    have hown := hcx.2.2.2.2.2.1
    have hts := hcx.2.2.2.2.2.2.1
    refine lv_aload_n (pc := 0) hx hb dX1_put_0 rfl (lv_at hl 0 rfl) ?_
    refine lv_iconst (pc := 1) (v := (0 : Int32)) hx hb dX1_put_1 (by decide) ?_
    refine lv_iload_n (pc := 2) hx hb dX1_put_2 rfl (lv_at hl 1 rfl) ?_
    refine lv_iload_n (pc := 3) hx hb dX1_put_3 rfl (lv_at hl 2 rfl) ?_
    refine lv_iload_n (pc := 4) hx hb dX1_put_4 rfl (lv_at hl 3 rfl) ?_
    refine lv_iload (pc := 5) hx hb dX1_put_5 (lv_at hl 4 rfl) ?_
    obtain ⟨g3, h⟩ := h
    refine cj_xi (pc := 7) (cj_runV hcx hW hS 0 g3 (by decide) rfl [.int (0 : Int32), .int x1, .int x2, .int x3, .int x4] h (Nat.le_trans (by decide) hd) (lw_V q741 q743 qs14 q122 q744) rfl yd_L_act (by decide) rfl rfl (Nat.le_of_ble_eq_true rfl) hl.1 (Nat.le_of_ble_eq_true rfl) (Nat.le_of_ble_eq_true rfl) dX1_put_7) hS (fun r1 σ2 h H locs hW hS => ?_)
    exact cj_reti (pc := 10) hcx hW hS rfl h (Nat.le_of_ble_eq_true rfl) (Nat.le_of_ble_eq_true rfl) dX1_put_10)
/-! L_take -/
set_option maxHeartbeats 4000000 in
set_option maxRecDepth 100000 in
theorem cb_L_take {E : cj_E} {σ : cj_S} {x0 : Nat} {x1 : Int32} {x2 : Int32} {x3 : Int32} {x4 : Int32} {P : Int32 → cj_S → Prop} (h : (cj_T σ x0 = 1 ∧ cs_L_act E σ x0 (1 : Int32) x1 x2 x3 x4 (fun r1 σ2 => P r1 σ2))) : cs_L_take E σ x0 x1 x2 x3 x4 P :=
  cj_enter (k := 26) (lv := [(0, .ref x0), (1, .int x1), (2, .int x2), (3, .int x3), (4, .int x4)]) (by decide) (Nat.le_of_ble_eq_true rfl) rfl (by
    intro d hd p e s m args below meth c hcx H locs ls hW hS hl
    have hx := hcx.1
    have hb := hcx.2.1
    have hown := hcx.2.2.2.2.2.1
    have hts := hcx.2.2.2.2.2.2.1
    refine lv_aload_n (pc := 0) hx hb dX1_take_0 rfl (lv_at hl 0 rfl) ?_
    refine lv_iconst (pc := 1) (v := (1 : Int32)) hx hb dX1_take_1 (by decide) ?_
    refine lv_iload_n (pc := 2) hx hb dX1_take_2 rfl (lv_at hl 1 rfl) ?_
    refine lv_iload_n (pc := 3) hx hb dX1_take_3 rfl (lv_at hl 2 rfl) ?_
    refine lv_iload_n (pc := 4) hx hb dX1_take_4 rfl (lv_at hl 3 rfl) ?_
    refine lv_iload (pc := 5) hx hb dX1_take_5 (lv_at hl 4 rfl) ?_
    obtain ⟨g3, h⟩ := h
    refine cj_xi (pc := 7) (cj_runV hcx hW hS 0 g3 (by decide) rfl [.int (1 : Int32), .int x1, .int x2, .int x3, .int x4] h (Nat.le_trans (by decide) hd) (lw_V q741 q743 qs14 q122 q744) rfl yd_L_act (by decide) rfl rfl (Nat.le_of_ble_eq_true rfl) hl.1 (Nat.le_of_ble_eq_true rfl) (Nat.le_of_ble_eq_true rfl) dX1_take_7) hS (fun r1 σ2 h H locs hW hS => ?_)
    exact cj_reti (pc := 10) hcx hW hS rfl h (Nat.le_of_ble_eq_true rfl) (Nat.le_of_ble_eq_true rfl) dX1_take_10)
/-! L_use -/
set_option maxHeartbeats 4000000 in
set_option maxRecDepth 100000 in
theorem cb_L_use {E : cj_E} {σ : cj_S} {x0 : Nat} {x1 : Int32} {P : Int32 → cj_S → Prop} (h : (cj_T σ x0 = 1 ∧ cs_L_act E σ x0 (2 : Int32) x1 (0 : Int32) (0 : Int32) (0 : Int32) (fun r1 σ2 => P r1 σ2))) : cs_L_use E σ x0 x1 P :=
  cj_enter (k := 26) (lv := [(0, .ref x0), (1, .int x1)]) (by decide) (Nat.le_of_ble_eq_true rfl) rfl (by
    intro d hd p e s m args below meth c hcx H locs ls hW hS hl
    have hx := hcx.1
    have hb := hcx.2.1
    have hown := hcx.2.2.2.2.2.1
    have hts := hcx.2.2.2.2.2.2.1
    refine lv_aload_n (pc := 0) hx hb dX1_use_0 rfl (lv_at hl 0 rfl) ?_
    refine lv_iconst (pc := 1) (v := (2 : Int32)) hx hb dX1_use_1 (by decide) ?_
    refine lv_iload_n (pc := 2) hx hb dX1_use_2 rfl (lv_at hl 1 rfl) ?_
    refine lv_iconst (pc := 3) (v := (0 : Int32)) hx hb dX1_use_3 (by decide) ?_
    refine lv_iconst (pc := 4) (v := (0 : Int32)) hx hb dX1_use_4 (by decide) ?_
    refine lv_iconst (pc := 5) (v := (0 : Int32)) hx hb dX1_use_5 (by decide) ?_
    obtain ⟨g3, h⟩ := h
    refine cj_xi (pc := 6) (cj_runV hcx hW hS 0 g3 (by decide) rfl [.int (2 : Int32), .int x1, .int (0 : Int32), .int (0 : Int32), .int (0 : Int32)] h (Nat.le_trans (by decide) hd) (lw_V q741 q743 qs14 q122 q744) rfl yd_L_act (by decide) rfl rfl (Nat.le_of_ble_eq_true rfl) hl.1 (Nat.le_of_ble_eq_true rfl) (Nat.le_of_ble_eq_true rfl) dX1_use_6) hS (fun r1 σ2 h H locs hW hS => ?_)
    exact cj_reti (pc := 9) hcx hW hS rfl h (Nat.le_of_ble_eq_true rfl) (Nat.le_of_ble_eq_true rfl) dX1_use_9)
/-! L_ways -/
set_option maxHeartbeats 4000000 in
set_option maxRecDepth 100000 in
theorem cb_L_ways_29 {E : cj_E} {σ : cj_S} {x0 : Nat} {x1 : Int32} {x4 : Int32} {cu : Nat} {su : Nat} {P : Int32 → cj_S → Prop} (h : ((x1 ≤ x4 → (cu ≤ 640 ∧ (su ≤ 8000 ∧ (cj_T σ x0 = 1 ∧ cs_L_joined E σ x0 (fun r4 σ5 => (∃ a7, r4 = some a7 ∧ (cj_T σ5 a7 = 3 ∧ ((cu + 0) ≤ 640 ∧ ((su + 0) ≤ 8000 ∧ P (cj_F σ5 308 a7) σ5))))))))) ∧ (¬ x1 ≤ x4 → (cu + 11 ≤ 640 ∧ (su + 263 ≤ 8000 ∧ (cj_T σ x0 = 1 ∧ cs_L_happens E σ x0 (fun r14 σ15 => cg_L_ways_29 E σ15 x0 x1 (x4 + (1 : Int32)) (cu + 11) (su + 263) P))))))) : cg_L_ways_29 E σ x0 x1 x4 cu su P := by
  intro d hd p e s m args below meth c hcx H locs ls hW hS hl
  have hx := hcx.1
  have hb := hcx.2.1
  have hown := hcx.2.2.2.2.2.1
  have hts := hcx.2.2.2.2.2.2.1
  refine lv_iload (pc := 29) hx hb dX1_ways_29 (lv_at hl 2 rfl) ?_
  refine lv_iload_n (pc := 31) hx hb dX1_ways_31 rfl (lv_at hl 1 rfl) ?_
  refine lv_icmp_ge (pc := 32) (tgt := 47) hx hb dX1_ways_32 (by decide) (fun c1 => ?_) (fun c1 => ?_)
  · have h := h.1 c1
    refine lv_aload_n (pc := 47) hx hb dX1_ways_47 rfl (lv_at hl 0 rfl) ?_
    obtain ⟨g2, h⟩ := h
    obtain ⟨g3, h⟩ := h
    obtain ⟨g6, h⟩ := h
    refine cj_xq (pc := 48) (cj_runV hcx hW hS 0 g6 (by decide) rfl [] h (Nat.le_trans (by decide) hd) (lw_V q838 q840 qs17 q122 q841) rfl yd_L_joined (by decide) rfl rfl (Nat.le_of_ble_eq_true rfl) hl.1 g2 g3 dX1_ways_48) hS (fun r4 σ5 h H locs hW hS => ?_)
    obtain ⟨a7, e8, h⟩ := h
    refine cj_stk (st' := [.ref a7]) (by rw [e8]; rfl) ?_
    obtain ⟨g9, h⟩ := h
    refine cj_fldN (pc := 51) hcx hW 2 g9 (by decide) rfl in_X3 8 (by decide) (by decide) (List.mem_of_getElem? (i := 7) rfl) dX1_ways_51 (v := .int (cj_F σ5 308 a7)) rfl ?_
    obtain ⟨g10, h⟩ := h
    obtain ⟨g11, h⟩ := h
    exact cj_reti (pc := 54) hcx hW hS rfl h g10 g11 dX1_ways_54
  · have h := h.2 c1
    refine lv_aload_n (pc := 35) hx hb dX1_ways_35 rfl (lv_at hl 0 rfl) ?_
    obtain ⟨g12, h⟩ := h
    obtain ⟨g13, h⟩ := h
    obtain ⟨g16, h⟩ := h
    refine cj_xi (pc := 36) (cj_runV hcx hW hS 0 g16 (by decide) rfl [] h (Nat.le_trans (by decide) hd) (lw_V q952 q954 qs30 q122 q955) rfl yd_L_happens (by decide) rfl rfl (Nat.le_of_ble_eq_true rfl) hl.1 g12 g13 dX1_ways_36) hS (fun r14 σ15 h H locs hW hS => ?_)
    refine lv_istore (pc := 39) (lv' := [(5, .int r14), (0, .ref x0), (1, .int x1), (4, .int x4)]) hx hb dX1_ways_39 hl (by decide) rfl (fun ls hl => ?_)
    refine lv_iinc (pc := 41) (v := (x4 + (1 : Int32))) (lv' := [(4, .int (x4 + (1 : Int32))), (5, .int r14), (0, .ref x0), (1, .int x1)]) hx hb dX1_ways_41 hl (k := 3) rfl rfl (by decide) rfl (fun ls hl => ?_)
    refine lv_goto (pc := 44) (tgt := 29) hx hb dX1_ways_44 (by decide) ?_
    exact h d hd p e s m args below meth c hcx H locs _ hW hS (lv_sub hl [2, 3, 0] rfl)
set_option maxHeartbeats 4000000 in
set_option maxRecDepth 100000 in
theorem cb_L_ways {E : cj_E} {σ : cj_S} {x0 : Nat} {x1 : Int32} {x2 : Int64} {P : Int32 → cj_S → Prop} (h : (cj_T σ x0 = 1 ∧ (((cj_F σ 107 x0) = 0 → P (-1 : Int32) σ) ∧ (¬ (cj_F σ 107 x0) = 0 → cs_L_isIn E σ (x1).toInt64 (1 : Int64) (40 : Int64) (fun r3 σ4 => ((r3 = 0 → P (-1 : Int32) σ4) ∧ (¬ r3 = 0 → (cj_T σ4 x0 = 1 ∧ cg_L_ways_29 E (cj_sJ σ4 x0 x2) x0 x1 (0 : Int32) 0 0 P)))))))) : cs_L_ways E σ x0 x1 x2 P :=
  cj_enter (k := 26) (lv := [(0, .ref x0), (1, .int x1), (2, .long x2)]) (by decide) (Nat.le_of_ble_eq_true rfl) rfl (by
    intro d hd p e s m args below meth c hcx H locs ls hW hS hl
    have hx := hcx.1
    have hb := hcx.2.1
    have hown := hcx.2.2.2.2.2.1
    have hts := hcx.2.2.2.2.2.2.1
    refine lv_aload_n (pc := 0) hx hb dX1_ways_0 rfl (lv_at hl 0 rfl) ?_
    obtain ⟨g1, h⟩ := h
    refine cj_fld (pc := 1) hcx hW 0 g1 (by decide) rfl in_X1 7 (by decide) (by decide) q284 dX1_ways_1 (v := .int (cj_F σ 107 x0)) rfl ?_
    refine lv_if_eq (pc := 4) (tgt := 19) hx hb dX1_ways_4 (by decide) (fun c2 => ?_) (fun c2 => ?_)
    · have h := h.1 c2
      refine lv_iconst (pc := 19) (v := (-1 : Int32)) hx hb dX1_ways_19 (by decide) ?_
      exact cj_reti (pc := 20) hcx hW hS rfl h (Nat.le_of_ble_eq_true rfl) (Nat.le_of_ble_eq_true rfl) dX1_ways_20
    · have h := h.2 c2
      refine lv_iload_n (pc := 7) hx hb dX1_ways_7 rfl (lv_at hl 1 rfl) ?_
      refine lv_i2l (pc := 8) hx hb dX1_ways_8 rfl ?_
      refine lv_lconst (pc := 9) (v := (1 : Int64)) hx hb dX1_ways_9 (by decide) ?_
      refine lv_ldc2 (pc := 10) (v := (40 : Int64)) hx hb hown (hts _ q951) dX1_ways_10 ?_
      refine cj_xi (pc := 13) (cj_runS hcx hW hS [.long (x1).toInt64, .long (1 : Int64), .long (40 : Int64)] h (Nat.le_trans (by decide) hd) (lw_S q349 q350 q122 q351) yd_L_isIn (by decide) rfl rfl (Nat.le_of_ble_eq_true rfl) hl.1 (Nat.le_of_ble_eq_true rfl) (Nat.le_of_ble_eq_true rfl) dX1_ways_13) hS (fun r3 σ4 h H locs hW hS => ?_)
      refine lv_if_ne (pc := 16) (tgt := 21) hx hb dX1_ways_16 (by decide) (fun c5 => ?_) (fun c5 => ?_)
      · have h := h.2 c5
        refine lv_aload_n (pc := 21) hx hb dX1_ways_21 rfl (lv_at hl 0 rfl) ?_
        refine lv_lload_n (pc := 22) hx hb dX1_ways_22 rfl (lv_at hl 2 rfl) ?_
        obtain ⟨g6, h⟩ := h
        refine cj_put (pc := 23) (σ1 := (cj_sJ σ4 x0 x2)) hcx hW hS 0 g6 (by decide) rfl in_X1 tyX1_ok nmX1 17 (by decide) (by decide) rfl rfl rfl (cj_pJ rfl (by decide)) q294 dX1_ways_23 (fun H locs hW hS => ?_)
        refine lv_iconst (pc := 26) (v := (0 : Int32)) hx hb dX1_ways_26 (by decide) ?_
        refine lv_istore (pc := 27) (lv' := [(4, .int (0 : Int32)), (0, .ref x0), (1, .int x1), (2, .long x2)]) hx hb dX1_ways_27 hl (by decide) rfl (fun ls hl => ?_)
        exact h d hd p e s m args below meth c hcx H locs _ hW hS (lv_sub hl [1, 2, 0] rfl)
      · have h := h.1 c5
        refine lv_iconst (pc := 19) (v := (-1 : Int32)) hx hb dX1_ways_19 (by decide) ?_
        exact cj_reti (pc := 20) hcx hW hS rfl h (Nat.le_of_ble_eq_true rfl) (Nat.le_of_ble_eq_true rfl) dX1_ways_20)
/-! L_fault -/
set_option maxHeartbeats 4000000 in
set_option maxRecDepth 100000 in
theorem cb_L_fault {E : cj_E} {σ : cj_S} {x0 : Nat} {x1 : Int32} {P : Int32 → cj_S → Prop} (h : cs_L_isIn E σ (x1).toInt64 (0 : Int64) (1 : Int64) (fun r1 σ2 => ((r1 = 0 → P (-2 : Int32) σ2) ∧ (¬ r1 = 0 → (∀ q4, cj_T σ2 q4 = 0 → cs_Rd_init E (cj_new σ2 q4 4) q4 (some x0) (fun σ7 => ((x1 = 0 → (cj_T σ7 x0 = 1 ∧ (cj_T σ7 q4 = 4 ∧ cs_Rd_tables E σ7 q4 (cj_R σ7 104 x0) (fun r16 σ17 => (cj_T σ17 x0 = 1 ∧ P (-1 : Int32) (cj_sF σ17 106 x0 r16))) (fun w19 σ17 => (cj_T σ17 w19 = 5 ∧ P (cj_F σ17 506 w19) σ17))))) ∧ (¬ x1 = 0 → (cj_T σ7 q4 = 4 ∧ cs_Rd_script E σ7 q4 (fun r9 σ10 => (cj_T σ10 x0 = 1 ∧ P (-1 : Int32) (cj_sR σ10 108 x0 r9))) (fun w12 σ10 => (cj_T σ10 w12 = 5 ∧ P (cj_F σ10 506 w12) σ10))))))))))) : cs_L_fault E σ x0 x1 P :=
  cj_enterW (k := 16) (lv := [(0, .ref x0), (1, .int x1)]) (by decide) (Nat.le_of_ble_eq_true rfl) rfl (by
    intro d hd p e s m args below meth c hcx htab H locs ls hW hS hl
    have hx := hcx.1
    have hb := hcx.2.1
    have hown := hcx.2.2.2.2.2.1
    have hts := hcx.2.2.2.2.2.2.1
    refine lv_iload_n (pc := 0) hx hb dX1_fault_0 rfl (lv_at hl 1 rfl) ?_
    refine lv_i2l (pc := 1) hx hb dX1_fault_1 rfl ?_
    refine lv_lconst (pc := 2) (v := (0 : Int64)) hx hb dX1_fault_2 (by decide) ?_
    refine lv_lconst (pc := 3) (v := (1 : Int64)) hx hb dX1_fault_3 (by decide) ?_
    refine cj_xi (pc := 4) (cj_runS hcx hW hS [.long (x1).toInt64, .long (0 : Int64), .long (1 : Int64)] h (Nat.le_trans (by decide) hd) (lw_S q349 q350 q122 q351) yd_L_isIn (by decide) rfl rfl (Nat.le_of_ble_eq_true rfl) hl.1 (Nat.le_of_ble_eq_true rfl) (Nat.le_of_ble_eq_true rfl) dX1_fault_4) hS (fun r1 σ2 h H locs hW hS => ?_)
    refine lv_if_ne (pc := 7) (tgt := 13) hx hb dX1_fault_7 (by decide) (fun c3 => ?_) (fun c3 => ?_)
    · have h := h.2 c3
      refine cj_newo (pc := 13) hcx hW hS 3 (by decide) rfl in_X5 tyX5_ok rfl rfl q352 q353 q126 (Nat.le_of_ble_eq_true rfl) (Nat.le_of_ble_eq_true rfl) dX1_fault_13 (fun q4 H z5 hW hS => ?_)
      have h := h q4 z5
      refine lv_dup (pc := 16) hx hb dX1_fault_16 rfl ?_
      refine lv_aload_n (pc := 17) hx hb dX1_fault_17 rfl (lv_at hl 0 rfl) ?_
      refine cj_xv (pc := 18) (cj_runIN hcx hW hS [va_rf (some x0)] h (Nat.le_trans (by decide) hd) (List.mem_of_getElem? (i := 2) rfl) q355 q126 q356 rfl yd_Rd_init (by decide) rfl rfl (Nat.le_of_ble_eq_true rfl) hl.1 (Nat.le_of_ble_eq_true rfl) (Nat.le_of_ble_eq_true rfl) dX1_fault_18) hS (fun σ7 h H locs hW hS => ?_)
      refine lv_astore_n (pc := 21) (lv' := [(2, .ref q4), (0, .ref x0), (1, .int x1)]) hx hb dX1_fault_21 rfl hl (by decide) rfl (fun ls hl => ?_)
      refine lv_iload_n (pc := 22) hx hb dX1_fault_22 rfl (lv_at hl 2 rfl) ?_
      refine lv_if_ne (pc := 23) (tgt := 41) hx hb dX1_fault_23 (by decide) (fun c8 => ?_) (fun c8 => ?_)
      · have h := h.2 c8
        refine lv_aload_n (pc := 41) hx hb dX1_fault_41 rfl (lv_at hl 1 rfl) ?_
        refine lv_aload_n (pc := 42) hx hb dX1_fault_42 rfl (lv_at hl 0 rfl) ?_
        obtain ⟨g11, h⟩ := h
        refine cj_zq (pc := 43) hcx htab (by decide) (by decide) q348 (List.mem_of_getElem? (i := 16) rfl) (cj_runVx hcx hW hS 3 g11 (by decide) rfl [] h (Nat.le_trans (by decide) hd) (lw_V q609 q610 q611 q126 q612) rfl yd_Rd_script (by decide) rfl rfl (Nat.le_of_ble_eq_true rfl) hl.1 (Nat.le_of_ble_eq_true rfl) (Nat.le_of_ble_eq_true rfl) dX1_fault_43) hS (fun w12 σ10 h H locs hW hS => ?_) (fun r9 σ10 h H locs hW hS => ?_)
        · skip
          refine lv_astore_n (pc := 51) (lv' := [(2, .ref w12), (0, .ref x0), (1, .int x1)]) hx hb dX1_fault_51 rfl hl (by decide) rfl (fun ls hl => ?_)
          refine lv_aload_n (pc := 52) hx hb dX1_fault_52 rfl (lv_at hl 0 rfl) ?_
          obtain ⟨g14, h⟩ := h
          refine cj_fldN (pc := 53) hcx hW 4 g14 (by decide) rfl in_X6 6 (by decide) (by decide) (List.mem_of_getElem? (i := 10) rfl) dX1_fault_53 (v := .int (cj_F σ10 506 w12)) rfl ?_
          exact cj_reti (pc := 56) hcx hW hS rfl h (Nat.le_of_ble_eq_true rfl) (Nat.le_of_ble_eq_true rfl) dX1_fault_56
        · skip
          obtain ⟨g13, h⟩ := h
          refine cj_put (pc := 46) (σ1 := (cj_sR σ10 108 x0 r9)) hcx hW hS 0 g13 (by decide) rfl in_X1 tyX1_ok nmX1 8 (by decide) (by decide) rfl (cj_nR _ r9) (cj_fR _ r9) (cj_pR (x := r9) rfl) q285 dX1_fault_46 (fun H locs hW hS => ?_)
          refine lv_iconst (pc := 49) (v := (-1 : Int32)) hx hb dX1_fault_49 (by decide) ?_
          exact cj_reti (pc := 50) hcx hW hS rfl h (Nat.le_of_ble_eq_true rfl) (Nat.le_of_ble_eq_true rfl) dX1_fault_50
      · have h := h.1 c8
        refine lv_aload_n (pc := 26) hx hb dX1_fault_26 rfl (lv_at hl 1 rfl) ?_
        refine lv_aload_n (pc := 27) hx hb dX1_fault_27 rfl (lv_at hl 0 rfl) ?_
        refine lv_aload_n (pc := 28) hx hb dX1_fault_28 rfl (lv_at hl 1 rfl) ?_
        obtain ⟨g15, h⟩ := h
        refine cj_fld (pc := 29) hcx hW 0 g15 (by decide) rfl in_X1 4 (by decide) (by decide) q279 dX1_fault_29 (v := va_rf (cj_R σ7 104 x0)) rfl ?_
        obtain ⟨g18, h⟩ := h
        refine cj_zi (pc := 32) hcx htab (by decide) (by decide) q348 (List.mem_of_getElem? (i := 16) rfl) (cj_runVx hcx hW hS 3 g18 (by decide) rfl [va_rf (cj_R σ7 104 x0)] h (Nat.le_trans (by decide) hd) (lw_V q368 q369 q370 q126 q371) rfl yd_Rd_tables (by decide) rfl rfl (Nat.le_of_ble_eq_true rfl) hl.1 (Nat.le_of_ble_eq_true rfl) (Nat.le_of_ble_eq_true rfl) dX1_fault_32) hS (fun w19 σ17 h H locs hW hS => ?_) (fun r16 σ17 h H locs hW hS => ?_)
        · skip
          refine lv_astore_n (pc := 51) (lv' := [(2, .ref w19), (0, .ref x0), (1, .int x1)]) hx hb dX1_fault_51 rfl hl (by decide) rfl (fun ls hl => ?_)
          refine lv_aload_n (pc := 52) hx hb dX1_fault_52 rfl (lv_at hl 0 rfl) ?_
          obtain ⟨g21, h⟩ := h
          refine cj_fldN (pc := 53) hcx hW 4 g21 (by decide) rfl in_X6 6 (by decide) (by decide) (List.mem_of_getElem? (i := 10) rfl) dX1_fault_53 (v := .int (cj_F σ17 506 w19)) rfl ?_
          exact cj_reti (pc := 56) hcx hW hS rfl h (Nat.le_of_ble_eq_true rfl) (Nat.le_of_ble_eq_true rfl) dX1_fault_56
        · skip
          obtain ⟨g20, h⟩ := h
          refine cj_put (pc := 35) (σ1 := (cj_sF σ17 106 x0 r16)) hcx hW hS 0 g20 (by decide) rfl in_X1 tyX1_ok nmX1 6 (by decide) (by decide) rfl rfl rfl (cj_pI rfl) q281 dX1_fault_35 (fun H locs hW hS => ?_)
          refine lv_goto (pc := 38) (tgt := 49) hx hb dX1_fault_38 (by decide) ?_
          refine lv_iconst (pc := 49) (v := (-1 : Int32)) hx hb dX1_fault_49 (by decide) ?_
          exact cj_reti (pc := 50) hcx hW hS rfl h (Nat.le_of_ble_eq_true rfl) (Nat.le_of_ble_eq_true rfl) dX1_fault_50
    · have h := h.1 c3
      refine lv_bipush (pc := 10) (v := (-2 : Int32)) hx hb dX1_fault_10 (by decide) ?_
      exact cj_reti (pc := 12) hcx hW hS rfl h (Nat.le_of_ble_eq_true rfl) (Nat.le_of_ble_eq_true rfl) dX1_fault_12)
