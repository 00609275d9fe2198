/-! L_back -/
set_option maxHeartbeats 4000000 in
set_option maxRecDepth 100000 in
theorem cb_L_back {E : cj_E} {σ : cj_S} {x0 : Nat} {P : Int32 → cj_S → Prop} (h : (cj_T σ x0 = 1 ∧ (((cj_F σ 121 x0) = 0 → P (-1 : Int32) σ) ∧ (¬ (cj_F σ 121 x0) = 0 → (∃ a3, (cj_R σ 109 x0) = some a3 ∧ (cj_T σ a3 = 2 ∧ cs_St_becomes E σ a3 (cj_R σ 110 x0) (fun σ6 => (cj_T σ6 x0 = 1 ∧ cs_L_joined E (cj_sF σ6 115 x0 (0 : Int32)) x0 (fun r9 σ10 => (∃ a11, r9 = some a11 ∧ (cj_T σ10 a11 = 3 ∧ P (cj_F σ10 308 a11) σ10))))))))))) : cs_L_back E σ x0 P :=
  cj_enter (k := 24) (lv := [(0, .ref x0)]) (by decide) (Nat.le_of_ble_eq_true rfl) rfl (by
    intro d hd p e s m args below meth c hcx H locs ls hW hS hl
    have hx := hcx.1
    have hb := hcx.2.1
    have hown := hcx.2.2.2.2.2.1
    have hts := hcx.2.2.2.2.2.2.1
    refine lv_aload_n (pc := 0) hx hb dX1_back_0 rfl (lv_at hl 0 rfl) ?_
    obtain ⟨g1, h⟩ := h
    refine cj_fld (pc := 1) hcx hW 0 g1 (by decide) rfl in_X1 21 (by decide) (by decide) q298 dX1_back_1 (v := .int (cj_F σ 121 x0)) rfl ?_
    refine lv_if_ne (pc := 4) (tgt := 9) hx hb dX1_back_4 (by decide) (fun c2 => ?_) (fun c2 => ?_)
    · have h := h.2 c2
      refine lv_aload_n (pc := 9) hx hb dX1_back_9 rfl (lv_at hl 0 rfl) ?_
      refine cj_fld (pc := 10) hcx hW 0 g1 (by decide) rfl in_X1 9 (by decide) (by decide) q286 dX1_back_10 (v := va_rf (cj_R σ 109 x0)) rfl ?_
      refine lv_aload_n (pc := 13) hx hb dX1_back_13 rfl (lv_at hl 0 rfl) ?_
      refine cj_fld (pc := 14) hcx hW 0 g1 (by decide) rfl in_X1 10 (by decide) (by decide) q287 dX1_back_14 (v := va_rf (cj_R σ 110 x0)) rfl ?_
      obtain ⟨a3, e4, h⟩ := h
      refine cj_stk (st' := [va_rf (cj_R σ 110 x0), .ref a3]) (by rw [e4]; rfl) ?_
      obtain ⟨g7, h⟩ := h
      refine cj_xv (pc := 17) (cj_runV hcx hW hS 1 g7 (by decide) rfl [va_rf (cj_R σ 110 x0)] h (Nat.le_trans (by decide) hd) (lw_V q749 q750 q751 q123 q752) rfl yd_St_becomes (by decide) rfl rfl (Nat.le_of_ble_eq_true rfl) hl.1 (Nat.le_refl _) (Nat.le_refl _) dX1_back_17) hS (fun σ6 h H locs hW hS => ?_)
      refine lv_aload_n (pc := 20) hx hb dX1_back_20 rfl (lv_at hl 0 rfl) ?_
      refine lv_iconst (pc := 21) (v := (0 : Int32)) hx hb dX1_back_21 (by decide) ?_
      obtain ⟨g8, h⟩ := h
      refine cj_put (pc := 22) (σ1 := (cj_sF σ6 115 x0 (0 : Int32))) hcx hW hS 0 g8 (by decide) rfl in_X1 tyX1_ok nmX1 15 (by decide) (by decide) rfl rfl rfl (cj_pI rfl) q292 dX1_back_22 (fun H locs hW hS => ?_)
      refine lv_aload_n (pc := 25) hx hb dX1_back_25 rfl (lv_at hl 0 rfl) ?_
      refine cj_xq (pc := 26) (cj_runV hcx hW hS 0 g8 (by decide) rfl [] h (Nat.le_trans (by decide) hd) (lw_V q838 q840 qs17 q122 q841) rfl yd_L_joined (by decide) rfl rfl (Nat.le_of_ble_eq_true rfl) hl.1 (Nat.le_refl _) (Nat.le_refl _) dX1_back_26) hS (fun r9 σ10 h H locs hW hS => ?_)
      obtain ⟨a11, e12, h⟩ := h
      refine cj_stk (st' := [.ref a11]) (by rw [e12]; rfl) ?_
      obtain ⟨g13, h⟩ := h
      refine cj_fldN (pc := 29) hcx hW 2 g13 (by decide) rfl in_X3 8 (by decide) (by decide) (List.mem_of_getElem? (i := 7) rfl) dX1_back_29 (v := .int (cj_F σ10 308 a11)) rfl ?_
      exact cj_reti (pc := 32) hcx hW hS rfl h (Nat.le_refl _) (Nat.le_refl _) dX1_back_32
    · have h := h.1 c2
      refine lv_iconst (pc := 7) (v := (-1 : Int32)) hx hb dX1_back_7 (by decide) ?_
      exact cj_reti (pc := 8) hcx hW hS rfl h (Nat.le_refl _) (Nat.le_refl _) dX1_back_8)
/-! L_beginnings -/
set_option maxHeartbeats 4000000 in
set_option maxRecDepth 100000 in
theorem cb_L_beginnings {E : cj_E} {σ : cj_S} {x0 : Nat} {x1 : Int32} {P : Int32 → cj_S → Prop} (h : (cj_T σ x0 = 1 ∧ (((cj_F σ 107 x0) ≤ 0 → P (-1 : Int32) σ) ∧ (¬ (cj_F σ 107 x0) ≤ 0 → cs_L_joined E σ x0 (fun r3 σ4 => (∃ a5, r3 = some a5 ∧ (cj_T σ4 a5 = 3 ∧ cs_L_isIn E σ4 (x1).toInt64 (1 : Int64) (cj_F σ4 310 a5).toInt64 (fun r8 σ9 => ((r8 = 0 → P (-1 : Int32) σ9) ∧ (¬ r8 = 0 → (cj_T σ9 x0 = 1 ∧ (∃ a12, (cj_R σ9 113 x0) = some a12 ∧ (cj_T σ9 a12 = 3 ∧ (∃ a15, (cj_R σ9 303 a12) = some a15 ∧ (cj_T σ9 a15 = 21 ∧ (vp_in x1 (cj_N σ9 a15) ∧ P (cj_A σ9 a15 x1.toNatClampNeg) σ9)))))))))))))))) : cs_L_beginnings E σ x0 x1 P :=
  cj_enter (k := 24) (lv := [(0, .ref x0), (1, .int x1)]) (by decide) (Nat.le_of_ble_eq_true rfl) rfl (by
    intro d hd p e s m args below meth c hcx H locs ls hW hS hl
    have hx := hcx.1
    have hb := hcx.2.1
    have hown := hcx.2.2.2.2.2.1
    have hts := hcx.2.2.2.2.2.2.1
    refine lv_aload_n (pc := 0) hx hb dX1_beginnings_0 rfl (lv_at hl 0 rfl) ?_
    obtain ⟨g1, h⟩ := h
    refine cj_fld (pc := 1) hcx hW 0 g1 (by decide) rfl in_X1 7 (by decide) (by decide) q284 dX1_beginnings_1 (v := .int (cj_F σ 107 x0)) rfl ?_
    refine lv_if_le (pc := 4) (tgt := 36) hx hb dX1_beginnings_4 (by decide) (fun c2 => ?_) (fun c2 => ?_)
    · have h := h.1 c2
      refine lv_iconst (pc := 36) (v := (-1 : Int32)) hx hb dX1_beginnings_36 (by decide) ?_
      exact cj_reti (pc := 37) hcx hW hS rfl h (Nat.le_refl _) (Nat.le_refl _) dX1_beginnings_37
    · have h := h.2 c2
      refine lv_iload_n (pc := 7) hx hb dX1_beginnings_7 rfl (lv_at hl 1 rfl) ?_
      refine lv_i2l (pc := 8) hx hb dX1_beginnings_8 rfl ?_
      refine lv_lconst (pc := 9) (v := (1 : Int64)) hx hb dX1_beginnings_9 (by decide) ?_
      refine lv_aload_n (pc := 10) hx hb dX1_beginnings_10 rfl (lv_at hl 0 rfl) ?_
      refine cj_xq (pc := 11) (cj_runV hcx hW hS 0 g1 (by decide) rfl [] h (Nat.le_trans (by decide) hd) (lw_V q838 q840 qs17 q122 q841) rfl yd_L_joined (by decide) rfl rfl (Nat.le_of_ble_eq_true rfl) hl.1 (Nat.le_refl _) (Nat.le_refl _) dX1_beginnings_11) hS (fun r3 σ4 h H locs hW hS => ?_)
      obtain ⟨a5, e6, h⟩ := h
      refine cj_stk (st' := [.ref a5, .long (1 : Int64), .long (x1).toInt64]) (by rw [e6]; rfl) ?_
      obtain ⟨g7, h⟩ := h
      refine cj_fldN (pc := 14) hcx hW 2 g7 (by decide) rfl in_X3 10 (by decide) (by decide) (List.mem_of_getElem? (i := 9) rfl) dX1_beginnings_14 (v := .int (cj_F σ4 310 a5)) rfl ?_
      refine lv_i2l (pc := 17) hx hb dX1_beginnings_17 rfl ?_
      refine cj_xi (pc := 18) (cj_runS hcx hW hS [.long (x1).toInt64, .long (1 : Int64), .long (cj_F σ4 310 a5).toInt64] h (Nat.le_trans (by decide) hd) (lw_S q349 q350 q122 q351) yd_L_isIn (by decide) rfl rfl (Nat.le_of_ble_eq_true rfl) hl.1 (Nat.le_refl _) (Nat.le_refl _) dX1_beginnings_18) hS (fun r8 σ9 h H locs hW hS => ?_)
      refine lv_if_eq (pc := 21) (tgt := 36) hx hb dX1_beginnings_21 (by decide) (fun c10 => ?_) (fun c10 => ?_)
      · have h := h.1 c10
        refine lv_iconst (pc := 36) (v := (-1 : Int32)) hx hb dX1_beginnings_36 (by decide) ?_
        exact cj_reti (pc := 37) hcx hW hS rfl h (Nat.le_refl _) (Nat.le_refl _) dX1_beginnings_37
      · have h := h.2 c10
        refine lv_aload_n (pc := 24) hx hb dX1_beginnings_24 rfl (lv_at hl 0 rfl) ?_
        obtain ⟨g11, h⟩ := h
        refine cj_fld (pc := 25) hcx hW 0 g11 (by decide) rfl in_X1 13 (by decide) (by decide) q290 dX1_beginnings_25 (v := va_rf (cj_R σ9 113 x0)) rfl ?_
        obtain ⟨a12, e13, h⟩ := h
        refine cj_stk (st' := [.ref a12]) (by rw [e13]; rfl) ?_
        obtain ⟨g14, h⟩ := h
        refine cj_fldN (pc := 28) hcx hW 2 g14 (by decide) rfl in_X3 3 (by decide) (by decide) (List.mem_of_getElem? (i := 6) rfl) dX1_beginnings_28 (v := va_rf (cj_R σ9 303 a12)) rfl ?_
        refine lv_iload_n (pc := 31) hx hb dX1_beginnings_31 rfl (lv_at hl 1 rfl) ?_
        obtain ⟨a15, e16, h⟩ := h
        refine cj_stk (st' := [.int x1, .ref a15]) (by rw [e16]; rfl) ?_
        obtain ⟨g17, h⟩ := h
        obtain ⟨g18, h⟩ := h
        refine cj_iald (pc := 32) hcx hW g17 g18 dX1_beginnings_32 ?_
        refine lv_goto (pc := 33) (tgt := 37) hx hb dX1_beginnings_33 (by decide) ?_
        exact cj_reti (pc := 37) hcx hW hS rfl h (Nat.le_refl _) (Nat.le_refl _) dX1_beginnings_37)
/-! L_distinct -/
set_option maxHeartbeats 4000000 in
set_option maxRecDepth 100000 in
theorem cb_L_distinct {E : cj_E} {σ : cj_S} {x0 : Nat} {x1 : Int32} {x2 : Int32} {P : Int32 → cj_S → Prop} (h : (cj_T σ x0 = 1 ∧ cs_L_isAsked E σ x0 x1 (fun r1 σ2 => ((r1 = 0 → P (-1 : Int32) σ2) ∧ (¬ r1 = 0 → cs_L_isIn E σ2 (x2).toInt64 (0 : Int64) (3 : Int64) (fun r5 σ6 => ((r5 = 0 → P (-1 : Int32) σ6) ∧ (¬ r5 = 0 → (cj_T σ6 x0 = 1 ∧ cs_L_joined E σ6 x0 (fun r8 σ9 => (∃ a11, r8 = some a11 ∧ (cj_T σ9 a11 = 3 ∧ (((cj_F σ9 308 a11) = 0 → ((x2 ≤ 0 → cs_Jn_tallies E σ9 a11 x1 (fun r20 σ21 => cs_L_ofCounts E σ21 r20 x2 (fun r22 σ23 => P r22 σ23))) ∧ (¬ x2 ≤ 0 → P (-1 : Int32) σ9))) ∧ (¬ (cj_F σ9 308 a11) = 0 → cs_Jn_tallies E σ9 a11 x1 (fun r15 σ16 => cs_L_ofCounts E σ16 r15 x2 (fun r17 σ18 => P r17 σ18)))))))))))))))) : cs_L_distinct E σ x0 x1 x2 P :=
  cj_enter (k := 24) (lv := [(0, .ref x0), (1, .int x1), (2, .int x2)]) (by decide) (Nat.le_of_ble_eq_true rfl) rfl (by
    intro d hd p e s m args below meth c hcx H locs ls hW hS hl
    have hx := hcx.1
    have hb := hcx.2.1
    have hown := hcx.2.2.2.2.2.1
    have hts := hcx.2.2.2.2.2.2.1
    refine lv_aload_n (pc := 0) hx hb dX1_distinct_0 rfl (lv_at hl 0 rfl) ?_
    refine lv_iload_n (pc := 1) hx hb dX1_distinct_1 rfl (lv_at hl 1 rfl) ?_
    obtain ⟨g3, h⟩ := h
    refine cj_xi (pc := 2) (cj_runV hcx hW hS 0 g3 (by decide) rfl [.int x1] h (Nat.le_trans (by decide) hd) (lw_V q989 q991 qs33 q122 q992) rfl yd_L_isAsked (by decide) rfl rfl (Nat.le_of_ble_eq_true rfl) hl.1 (Nat.le_refl _) (Nat.le_refl _) dX1_distinct_2) hS (fun r1 σ2 h H locs hW hS => ?_)
    refine lv_if_eq (pc := 5) (tgt := 20) hx hb dX1_distinct_5 (by decide) (fun c4 => ?_) (fun c4 => ?_)
    · have h := h.1 c4
      refine lv_iconst (pc := 20) (v := (-1 : Int32)) hx hb dX1_distinct_20 (by decide) ?_
      exact cj_reti (pc := 21) hcx hW hS rfl h (Nat.le_refl _) (Nat.le_refl _) dX1_distinct_21
    · have h := h.2 c4
      refine lv_iload_n (pc := 8) hx hb dX1_distinct_8 rfl (lv_at hl 2 rfl) ?_
      refine lv_i2l (pc := 9) hx hb dX1_distinct_9 rfl ?_
      refine lv_lconst (pc := 10) (v := (0 : Int64)) hx hb dX1_distinct_10 (by decide) ?_
      refine lv_ldc2 (pc := 11) (v := (3 : Int64)) hx hb hown (hts _ q936) dX1_distinct_11 ?_
      refine cj_xi (pc := 14) (cj_runS hcx hW hS [.long (x2).toInt64, .long (0 : Int64), .long (3 : Int64)] h (Nat.le_trans (by decide) hd) (lw_S q349 q350 q122 q351) yd_L_isIn (by decide) rfl rfl (Nat.le_of_ble_eq_true rfl) hl.1 (Nat.le_refl _) (Nat.le_refl _) dX1_distinct_14) hS (fun r5 σ6 h H locs hW hS => ?_)
      refine lv_if_ne (pc := 17) (tgt := 22) hx hb dX1_distinct_17 (by decide) (fun c7 => ?_) (fun c7 => ?_)
      · have h := h.2 c7
        refine lv_aload_n (pc := 22) hx hb dX1_distinct_22 rfl (lv_at hl 0 rfl) ?_
        obtain ⟨g10, h⟩ := h
        refine cj_xq (pc := 23) (cj_runV hcx hW hS 0 g10 (by decide) rfl [] h (Nat.le_trans (by decide) hd) (lw_V q838 q840 qs17 q122 q841) rfl yd_L_joined (by decide) rfl rfl (Nat.le_of_ble_eq_true rfl) hl.1 (Nat.le_refl _) (Nat.le_refl _) dX1_distinct_23) hS (fun r8 σ9 h H locs hW hS => ?_)
        refine cj_astore_n (pc := 26) (lv' := [(3, va_rf r8), (0, .ref x0), (1, .int x1), (2, .int x2)]) hx hb dX1_distinct_26 rfl hl (by decide) rfl (fun ls hl => ?_)
        refine cj_aload_n (pc := 27) hx hb dX1_distinct_27 rfl (lv_at hl 0 rfl) ?_
        obtain ⟨a11, e12, h⟩ := h
        refine cj_stk (st' := [.ref a11]) (by rw [e12]; rfl) ?_
        obtain ⟨g13, h⟩ := h
        refine cj_fldN (pc := 28) hcx hW 2 g13 (by decide) rfl in_X3 8 (by decide) (by decide) (List.mem_of_getElem? (i := 7) rfl) dX1_distinct_28 (v := .int (cj_F σ9 308 a11)) rfl ?_
        refine lv_if_ne (pc := 31) (tgt := 42) hx hb dX1_distinct_31 (by decide) (fun c14 => ?_) (fun c14 => ?_)
        · have h := h.2 c14
          refine cj_aload_n (pc := 42) hx hb dX1_distinct_42 rfl (lv_at hl 0 rfl) ?_
          refine lv_iload_n (pc := 43) hx hb dX1_distinct_43 rfl (lv_at hl 2 rfl) ?_
          refine cj_stk (st' := [.int x1, .ref a11]) (by rw [e12]; rfl) ?_
          refine cj_xq (pc := 44) (cj_runV hcx hW hS 2 g13 (by decide) rfl [.int x1] h (Nat.le_trans (by decide) hd) (lw_V q1054 q1055 q1056 q124 q1057) rfl yd_Jn_tallies (by decide) rfl rfl (Nat.le_of_ble_eq_true rfl) hl.1 (Nat.le_refl _) (Nat.le_refl _) dX1_distinct_44) hS (fun r15 σ16 h H locs hW hS => ?_)
          refine lv_iload_n (pc := 47) hx hb dX1_distinct_47 rfl (lv_at hl 3 rfl) ?_
          refine cj_xi (pc := 48) (cj_runS hcx hW hS [va_rf r15, .int x2] h (Nat.le_trans (by decide) hd) (lw_S q1063 q1064 q122 q1065) yd_L_ofCounts (by decide) rfl rfl (Nat.le_of_ble_eq_true rfl) hl.1 (Nat.le_refl _) (Nat.le_refl _) dX1_distinct_48) hS (fun r17 σ18 h H locs hW hS => ?_)
          exact cj_reti (pc := 51) hcx hW hS rfl h (Nat.le_refl _) (Nat.le_refl _) dX1_distinct_51
        · have h := h.1 c14
          refine lv_iload_n (pc := 34) hx hb dX1_distinct_34 rfl (lv_at hl 3 rfl) ?_
          refine lv_if_le (pc := 35) (tgt := 42) hx hb dX1_distinct_35 (by decide) (fun c19 => ?_) (fun c19 => ?_)
          · have h := h.1 c19
            refine cj_aload_n (pc := 42) hx hb dX1_distinct_42 rfl (lv_at hl 0 rfl) ?_
            refine lv_iload_n (pc := 43) hx hb dX1_distinct_43 rfl (lv_at hl 2 rfl) ?_
            refine cj_stk (st' := [.int x1, .ref a11]) (by rw [e12]; rfl) ?_
            refine cj_xq (pc := 44) (cj_runV hcx hW hS 2 g13 (by decide) rfl [.int x1] h (Nat.le_trans (by decide) hd) (lw_V q1054 q1055 q1056 q124 q1057) rfl yd_Jn_tallies (by decide) rfl rfl (Nat.le_of_ble_eq_true rfl) hl.1 (Nat.le_refl _) (Nat.le_refl _) dX1_distinct_44) hS (fun r20 σ21 h H locs hW hS => ?_)
            refine lv_iload_n (pc := 47) hx hb dX1_distinct_47 rfl (lv_at hl 3 rfl) ?_
            refine cj_xi (pc := 48) (cj_runS hcx hW hS [va_rf r20, .int x2] h (Nat.le_trans (by decide) hd) (lw_S q1063 q1064 q122 q1065) yd_L_ofCounts (by decide) rfl rfl (Nat.le_of_ble_eq_true rfl) hl.1 (Nat.le_refl _) (Nat.le_refl _) dX1_distinct_48) hS (fun r22 σ23 h H locs hW hS => ?_)
            exact cj_reti (pc := 51) hcx hW hS rfl h (Nat.le_refl _) (Nat.le_refl _) dX1_distinct_51
          · have h := h.2 c19
            refine lv_iconst (pc := 38) (v := (-1 : Int32)) hx hb dX1_distinct_38 (by decide) ?_
            refine lv_goto (pc := 39) (tgt := 51) hx hb dX1_distinct_39 (by decide) ?_
            exact cj_reti (pc := 51) hcx hW hS rfl h (Nat.le_refl _) (Nat.le_refl _) dX1_distinct_51
      · have h := h.1 c7
        refine lv_iconst (pc := 20) (v := (-1 : Int32)) hx hb dX1_distinct_20 (by decide) ?_
        exact cj_reti (pc := 21) hcx hW hS rfl h (Nat.le_refl _) (Nat.le_refl _) dX1_distinct_21)
/-! L_from -/
set_option maxHeartbeats 4000000 in
set_option maxRecDepth 100000 in
theorem cb_L_from_38 {E : cj_E} {σ : cj_S} {x0 : Nat} {x5 : Int32} {x6 : Option Nat} {x7 : Int32} {P : Int32 → cj_S → Prop} (h : (∃ a1, x6 = some a1 ∧ (cj_T σ a1 = 3 ∧ (((cj_F σ 308 a1) ≤ x7 → P (-1 : Int32) σ) ∧ (¬ (cj_F σ 308 a1) ≤ x7 → (cj_T σ x0 = 1 ∧ cs_Jn_against E σ a1 x7 (cj_R σ 120 x0) (fun r6 σ7 => ((0 < r6 → P x7 σ7) ∧ (¬ 0 < r6 → ((r6 = 0 → ((x5 = 0 → cg_L_from_38 E σ7 x0 x5 x6 (x7 + (1 : Int32)) P) ∧ (¬ x5 = 0 → P x7 σ7))) ∧ (¬ r6 = 0 → cg_L_from_38 E σ7 x0 x5 x6 (x7 + (1 : Int32)) P))))))))))) : cg_L_from_38 E σ x0 x5 x6 x7 P := by
  intro d hd p e s m args below meth c hcx H locs ls hW hS hl
  have hx := hcx.1
  have hb := hcx.2.1
  have hown := hcx.2.2.2.2.2.1
  have hts := hcx.2.2.2.2.2.2.1
  refine lv_iload (pc := 38) hx hb dX1_from_38 (lv_at hl 3 rfl) ?_
  refine cj_aload (pc := 40) hx hb dX1_from_40 (lv_at hl 2 rfl) ?_
  obtain ⟨a1, e2, h⟩ := h
  refine cj_stk (st' := [.ref a1, .int x7]) (by rw [e2]; rfl) ?_
  obtain ⟨g3, h⟩ := h
  refine cj_fldN (pc := 42) hcx hW 2 g3 (by decide) rfl in_X3 8 (by decide) (by decide) (List.mem_of_getElem? (i := 7) rfl) dX1_from_42 (v := .int (cj_F σ 308 a1)) rfl ?_
  refine lv_icmp_ge (pc := 45) (tgt := 85) hx hb dX1_from_45 (by decide) (fun c4 => ?_) (fun c4 => ?_)
  · have h := h.1 c4
    refine lv_iconst (pc := 85) (v := (-1 : Int32)) hx hb dX1_from_85 (by decide) ?_
    exact cj_reti (pc := 86) hcx hW hS rfl h (Nat.le_refl _) (Nat.le_refl _) dX1_from_86
  · have h := h.2 c4
    refine cj_aload (pc := 48) hx hb dX1_from_48 (lv_at hl 2 rfl) ?_
    refine lv_iload (pc := 50) hx hb dX1_from_50 (lv_at hl 3 rfl) ?_
    refine lv_aload_n (pc := 52) hx hb dX1_from_52 rfl (lv_at hl 0 rfl) ?_
    obtain ⟨g5, h⟩ := h
    refine cj_fld (pc := 53) hcx hW 0 g5 (by decide) rfl in_X1 20 (by decide) (by decide) q297 dX1_from_53 (v := va_rf (cj_R σ 120 x0)) rfl ?_
    refine cj_stk (st' := [va_rf (cj_R σ 120 x0), .int x7, .ref a1]) (by rw [e2]; rfl) ?_
    refine cj_xi (pc := 56) (cj_runV hcx hW hS 2 g3 (by decide) rfl [.int x7, va_rf (cj_R σ 120 x0)] h (Nat.le_trans (by decide) hd) (lw_V q1082 q1083 q1084 q124 q1085) rfl yd_Jn_against (by decide) rfl rfl (Nat.le_of_ble_eq_true rfl) hl.1 (Nat.le_refl _) (Nat.le_refl _) dX1_from_56) hS (fun r6 σ7 h H locs hW hS => ?_)
    refine lv_istore (pc := 59) (lv' := [(8, .int r6), (0, .ref x0), (5, .int x5), (6, va_rf x6), (7, .int x7)]) hx hb dX1_from_59 hl (by decide) rfl (fun ls hl => ?_)
    refine lv_iload (pc := 61) hx hb dX1_from_61 (lv_at hl 0 rfl) ?_
    refine lv_if_gt (pc := 63) (tgt := 76) hx hb dX1_from_63 (by decide) (fun c8 => ?_) (fun c8 => ?_)
    · have h := h.1 c8
      refine lv_iload (pc := 76) hx hb dX1_from_76 (lv_at hl 4 rfl) ?_
      exact cj_reti (pc := 78) hcx hW hS rfl h (Nat.le_refl _) (Nat.le_refl _) dX1_from_78
    · have h := h.2 c8
      refine lv_iload (pc := 66) hx hb dX1_from_66 (lv_at hl 0 rfl) ?_
      refine lv_if_ne (pc := 68) (tgt := 79) hx hb dX1_from_68 (by decide) (fun c9 => ?_) (fun c9 => ?_)
      · have h := h.2 c9
        refine lv_iinc (pc := 79) (v := (x7 + (1 : Int32))) (lv' := [(7, .int (x7 + (1 : Int32))), (8, .int r6), (0, .ref x0), (5, .int x5), (6, va_rf x6)]) hx hb dX1_from_79 hl (k := 4) rfl rfl (by decide) (by generalize x6 = z; cases z <;> rfl) (fun ls hl => ?_)
        refine lv_goto (pc := 82) (tgt := 38) hx hb dX1_from_82 (by decide) ?_
        exact h d hd p e s m args below meth c hcx H locs _ hW hS (lv_sub hl [2, 3, 4, 0] rfl)
      · have h := h.1 c9
        refine lv_iload (pc := 71) hx hb dX1_from_71 (lv_at hl 2 rfl) ?_
        refine lv_if_eq (pc := 73) (tgt := 79) hx hb dX1_from_73 (by decide) (fun c10 => ?_) (fun c10 => ?_)
        · have h := h.1 c10
          refine lv_iinc (pc := 79) (v := (x7 + (1 : Int32))) (lv' := [(7, .int (x7 + (1 : Int32))), (8, .int r6), (0, .ref x0), (5, .int x5), (6, va_rf x6)]) hx hb dX1_from_79 hl (k := 4) rfl rfl (by decide) (by generalize x6 = z; cases z <;> rfl) (fun ls hl => ?_)
          refine lv_goto (pc := 82) (tgt := 38) hx hb dX1_from_82 (by decide) ?_
          exact h d hd p e s m args below meth c hcx H locs _ hW hS (lv_sub hl [2, 3, 4, 0] rfl)
        · have h := h.2 c10
          refine lv_iload (pc := 76) hx hb dX1_from_76 (lv_at hl 4 rfl) ?_
          exact cj_reti (pc := 78) hcx hW hS rfl h (Nat.le_refl _) (Nat.le_refl _) dX1_from_78
set_option maxHeartbeats 4000000 in
set_option maxRecDepth 100000 in
theorem cb_L_from {E : cj_E} {σ : cj_S} {x0 : Nat} {x1 : Int32} {x2 : Int32} {x3 : Int32} {x4 : Int32} {x5 : Int32} {P : Int32 → cj_S → Prop} (h : (cj_T σ x0 = 1 ∧ (∃ a2, (cj_R σ 120 x0) = some a2 ∧ (cj_T σ a2 = 21 ∧ (vp_in (0 : Int32) (cj_N σ a2) ∧ (vp_in (1 : Int32) (cj_N σ a2) ∧ (vp_in (2 : Int32) (cj_N σ a2) ∧ (vp_in (3 : Int32) (cj_N σ a2) ∧ cs_L_joined E (cj_sA (cj_sA (cj_sA (cj_sA σ a2 (0 : Int32).toNatClampNeg x1) a2 (1 : Int32).toNatClampNeg x2) a2 (2 : Int32).toNatClampNeg x3) a2 (3 : Int32).toNatClampNeg x4) x0 (fun r9 σ10 => cg_L_from_38 E σ10 x0 x5 r9 (0 : Int32) P))))))))) : cs_L_from E σ x0 x1 x2 x3 x4 x5 P :=
  cj_enter (k := 24) (lv := [(0, .ref x0), (1, .int x1), (2, .int x2), (3, .int x3), (4, .int x4), (5, .int x5)]) (by decide) (Nat.le_of_ble_eq_true rfl) rfl (by
    intro d hd p e s m args below meth c hcx H locs ls hW hS hl
    have hx := hcx.1
    have hb := hcx.2.1
    have hown := hcx.2.2.2.2.2.1
    have hts := hcx.2.2.2.2.2.2.1
    refine lv_aload_n (pc := 0) hx hb dX1_from_0 rfl (lv_at hl 0 rfl) ?_
    obtain ⟨g1, h⟩ := h
    refine cj_fld (pc := 1) hcx hW 0 g1 (by decide) rfl in_X1 20 (by decide) (by decide) q297 dX1_from_1 (v := va_rf (cj_R σ 120 x0)) rfl ?_
    refine lv_iconst (pc := 4) (v := (0 : Int32)) hx hb dX1_from_4 (by decide) ?_
    refine lv_iload_n (pc := 5) hx hb dX1_from_5 rfl (lv_at hl 1 rfl) ?_
    obtain ⟨a2, e3, h⟩ := h
    refine cj_stk (st' := [.int x1, .int (0 : Int32), .ref a2]) (by rw [e3]; rfl) ?_
    obtain ⟨g4, h⟩ := h
    obtain ⟨g5, h⟩ := h
    refine cj_iast (pc := 6) hcx hW hS g4 g5 dX1_from_6 (fun H locs hW hS => ?_)
    refine lv_aload_n (pc := 7) hx hb dX1_from_7 rfl (lv_at hl 0 rfl) ?_
    refine cj_fld (pc := 8) hcx hW 0 g1 (by decide) rfl in_X1 20 (by decide) (by decide) q297 dX1_from_8 (v := va_rf (cj_R σ 120 x0)) rfl ?_
    refine lv_iconst (pc := 11) (v := (1 : Int32)) hx hb dX1_from_11 (by decide) ?_
    refine lv_iload_n (pc := 12) hx hb dX1_from_12 rfl (lv_at hl 2 rfl) ?_
    refine cj_stk (st' := [.int x2, .int (1 : Int32), .ref a2]) (by rw [e3]; rfl) ?_
    obtain ⟨g6, h⟩ := h
    refine cj_iast (pc := 13) hcx hW hS g4 g6 dX1_from_13 (fun H locs hW hS => ?_)
    refine lv_aload_n (pc := 14) hx hb dX1_from_14 rfl (lv_at hl 0 rfl) ?_
    refine cj_fld (pc := 15) hcx hW 0 g1 (by decide) rfl in_X1 20 (by decide) (by decide) q297 dX1_from_15 (v := va_rf (cj_R σ 120 x0)) rfl ?_
    refine lv_iconst (pc := 18) (v := (2 : Int32)) hx hb dX1_from_18 (by decide) ?_
    refine lv_iload_n (pc := 19) hx hb dX1_from_19 rfl (lv_at hl 3 rfl) ?_
    refine cj_stk (st' := [.int x3, .int (2 : Int32), .ref a2]) (by rw [e3]; rfl) ?_
    obtain ⟨g7, h⟩ := h
    refine cj_iast (pc := 20) hcx hW hS g4 g7 dX1_from_20 (fun H locs hW hS => ?_)
    refine lv_aload_n (pc := 21) hx hb dX1_from_21 rfl (lv_at hl 0 rfl) ?_
    refine cj_fld (pc := 22) hcx hW 0 g1 (by decide) rfl in_X1 20 (by decide) (by decide) q297 dX1_from_22 (v := va_rf (cj_R σ 120 x0)) rfl ?_
    refine lv_iconst (pc := 25) (v := (3 : Int32)) hx hb dX1_from_25 (by decide) ?_
    refine lv_iload (pc := 26) hx hb dX1_from_26 (lv_at hl 4 rfl) ?_
    refine cj_stk (st' := [.int x4, .int (3 : Int32), .ref a2]) (by rw [e3]; rfl) ?_
    obtain ⟨g8, h⟩ := h
    refine cj_iast (pc := 28) hcx hW hS g4 g8 dX1_from_28 (fun H locs hW hS => ?_)
    refine lv_aload_n (pc := 29) hx hb dX1_from_29 rfl (lv_at hl 0 rfl) ?_
    refine cj_xq (pc := 30) (cj_runV hcx hW hS 0 g1 (by decide) rfl [] h (Nat.le_trans (by decide) hd) (lw_V q838 q840 qs17 q122 q841) rfl yd_L_joined (by decide) rfl rfl (Nat.le_of_ble_eq_true rfl) hl.1 (Nat.le_refl _) (Nat.le_refl _) dX1_from_30) hS (fun r9 σ10 h H locs hW hS => ?_)
    refine cj_astore (pc := 33) (lv' := [(6, va_rf r9), (0, .ref x0), (1, .int x1), (2, .int x2), (3, .int x3), (4, .int x4), (5, .int x5)]) hx hb dX1_from_33 hl (by decide) rfl (fun ls hl => ?_)
    refine lv_iconst (pc := 35) (v := (0 : Int32)) hx hb dX1_from_35 (by decide) ?_
    refine lv_istore (pc := 36) (lv' := [(7, .int (0 : Int32)), (6, va_rf r9), (0, .ref x0), (1, .int x1), (2, .int x2), (3, .int x3), (4, .int x4), (5, .int x5)]) hx hb dX1_from_36 hl (by decide) (by generalize r9 = z; cases z <;> rfl) (fun ls hl => ?_)
    exact h d hd p e s m args below meth c hcx H locs _ hW hS (lv_sub hl [2, 7, 1, 0] rfl))
/-! L_givenOf -/
set_option maxHeartbeats 4000000 in
set_option maxRecDepth 100000 in
theorem cb_L_givenOf {E : cj_E} {σ : cj_S} {x0 : Nat} {x1 : Int32} {P : Int32 → cj_S → Prop} (h : (cj_T σ x0 = 1 ∧ (∃ a2, (cj_R σ 109 x0) = some a2 ∧ (cj_T σ a2 = 2 ∧ cs_L_has E σ (cj_F σ 202 a2) x1 (fun r5 σ6 => ((r5 = 0 → P (0 : Int32) σ6) ∧ (¬ r5 = 0 → (cj_T σ6 x0 = 1 ∧ cs_L_joined E σ6 x0 (fun r8 σ9 => (cj_T σ9 x0 = 1 ∧ (∃ a12, (cj_R σ9 109 x0) = some a12 ∧ (cj_T σ9 a12 = 2 ∧ (∃ a15, (cj_R σ9 200 a12) = some a15 ∧ (cj_T σ9 a15 = 26 ∧ (vp_in x1 (cj_N σ9 a15) ∧ (∃ a19, r8 = some a19 ∧ (cj_T σ9 a19 = 3 ∧ cs_Jn_given E σ9 a19 (cj_B σ9 a15 x1.toNatClampNeg) (fun r21 σ22 => P r21 σ22)))))))))))))))))) : cs_L_givenOf E σ x0 x1 P :=
  cj_enter (k := 24) (lv := [(0, .ref x0), (1, .int x1)]) (by decide) (Nat.le_of_ble_eq_true rfl) rfl (by
    intro d hd p e s m args below meth c hcx H locs ls hW hS hl
    have hx := hcx.1
    have hb := hcx.2.1
    have hown := hcx.2.2.2.2.2.1
    have hts := hcx.2.2.2.2.2.2.1
    refine lv_aload_n (pc := 0) hx hb dX1_givenOf_0 rfl (lv_at hl 0 rfl) ?_
    obtain ⟨g1, h⟩ := h
    refine cj_fld (pc := 1) hcx hW 0 g1 (by decide) rfl in_X1 9 (by decide) (by decide) q286 dX1_givenOf_1 (v := va_rf (cj_R σ 109 x0)) rfl ?_
    obtain ⟨a2, e3, h⟩ := h
    refine cj_stk (st' := [.ref a2]) (by rw [e3]; rfl) ?_
    obtain ⟨g4, h⟩ := h
    refine cj_fldN (pc := 4) hcx hW 1 g4 (by decide) rfl in_X2 2 (by decide) (by decide) (List.mem_of_getElem? (i := 2) rfl) dX1_givenOf_4 (v := .int (cj_F σ 202 a2)) rfl ?_
    refine lv_iload_n (pc := 7) hx hb dX1_givenOf_7 rfl (lv_at hl 1 rfl) ?_
    refine cj_xi (pc := 8) (cj_runS hcx hW hS [.int (cj_F σ 202 a2), .int x1] h (Nat.le_trans (by decide) hd) (lw_S q993 q387 q122 q388) yd_L_has (by decide) rfl rfl (Nat.le_of_ble_eq_true rfl) hl.1 (Nat.le_refl _) (Nat.le_refl _) dX1_givenOf_8) hS (fun r5 σ6 h H locs hW hS => ?_)
    refine lv_if_eq (pc := 11) (tgt := 33) hx hb dX1_givenOf_11 (by decide) (fun c7 => ?_) (fun c7 => ?_)
    · have h := h.1 c7
      refine lv_iconst (pc := 33) (v := (0 : Int32)) hx hb dX1_givenOf_33 (by decide) ?_
      exact cj_reti (pc := 34) hcx hW hS rfl h (Nat.le_refl _) (Nat.le_refl _) dX1_givenOf_34
    · have h := h.2 c7
      refine lv_aload_n (pc := 14) hx hb dX1_givenOf_14 rfl (lv_at hl 0 rfl) ?_
      obtain ⟨g10, h⟩ := h
      refine cj_xq (pc := 15) (cj_runV hcx hW hS 0 g10 (by decide) rfl [] h (Nat.le_trans (by decide) hd) (lw_V q838 q840 qs17 q122 q841) rfl yd_L_joined (by decide) rfl rfl (Nat.le_of_ble_eq_true rfl) hl.1 (Nat.le_refl _) (Nat.le_refl _) dX1_givenOf_15) hS (fun r8 σ9 h H locs hW hS => ?_)
      refine lv_aload_n (pc := 18) hx hb dX1_givenOf_18 rfl (lv_at hl 0 rfl) ?_
      obtain ⟨g11, h⟩ := h
      refine cj_fld (pc := 19) hcx hW 0 g11 (by decide) rfl in_X1 9 (by decide) (by decide) q286 dX1_givenOf_19 (v := va_rf (cj_R σ9 109 x0)) rfl ?_
      obtain ⟨a12, e13, h⟩ := h
      refine cj_stk (st' := [.ref a12, va_rf r8]) (by rw [e13]; rfl) ?_
      obtain ⟨g14, h⟩ := h
      refine cj_fldN (pc := 22) hcx hW 1 g14 (by decide) rfl in_X2 0 (by decide) (by decide) (List.mem_of_getElem? (i := 0) rfl) dX1_givenOf_22 (v := va_rf (cj_R σ9 200 a12)) rfl ?_
      refine lv_iload_n (pc := 25) hx hb dX1_givenOf_25 rfl (lv_at hl 1 rfl) ?_
      obtain ⟨a15, e16, h⟩ := h
      refine cj_stk (st' := [.int x1, .ref a15, va_rf r8]) (by rw [e16]; rfl) ?_
      obtain ⟨g17, h⟩ := h
      obtain ⟨g18, h⟩ := h
      refine cj_aald (pc := 26) hcx hW g17 (by unfold cj_rt; decide) g18 dX1_givenOf_26 ?_
      obtain ⟨a19, e20, h⟩ := h
      refine cj_stk (st' := [va_rf (cj_B σ9 a15 x1.toNatClampNeg), .ref a19]) (by rw [e20]; rfl) ?_
      obtain ⟨g23, h⟩ := h
      refine cj_xi (pc := 27) (cj_runV hcx hW hS 2 g23 (by decide) rfl [va_rf (cj_B σ9 a15 x1.toNatClampNeg)] h (Nat.le_trans (by decide) hd) (lw_V q1022 q1023 q1024 q124 q1025) rfl yd_Jn_given (by decide) rfl rfl (Nat.le_of_ble_eq_true rfl) hl.1 (Nat.le_refl _) (Nat.le_refl _) dX1_givenOf_27) hS (fun r21 σ22 h H locs hW hS => ?_)
      refine lv_goto (pc := 30) (tgt := 34) hx hb dX1_givenOf_30 (by decide) ?_
      exact cj_reti (pc := 34) hcx hW hS rfl h (Nat.le_refl _) (Nat.le_refl _) dX1_givenOf_34)
/-! L_hasMean -/
set_option maxHeartbeats 4000000 in
set_option maxRecDepth 100000 in
theorem cb_L_hasMean {E : cj_E} {σ : cj_S} {x0 : Nat} {x1 : Int32} {P : Int32 → cj_S → Prop} (h : (cj_T σ x0 = 1 ∧ cs_L_isAsked E σ x0 x1 (fun r1 σ2 => ((r1 = 0 → P (0 : Int32) σ2) ∧ (¬ r1 = 0 → (cj_T σ2 x0 = 1 ∧ cs_L_joined E σ2 x0 (fun r5 σ6 => (∃ a8, r5 = some a8 ∧ (cj_T σ6 a8 = 3 ∧ (((cj_F σ6 308 a8) ≤ 0 → P (0 : Int32) σ6) ∧ (¬ (cj_F σ6 308 a8) ≤ 0 → P (1 : Int32) σ6))))))))))) : cs_L_hasMean E σ x0 x1 P :=
  cj_enter (k := 24) (lv := [(0, .ref x0), (1, .int x1)]) (by decide) (Nat.le_of_ble_eq_true rfl) rfl (by
    intro d hd p e s m args below meth c hcx H locs ls hW hS hl
    have hx := hcx.1
    have hb := hcx.2.1
    have hown := hcx.2.2.2.2.2.1
    have hts := hcx.2.2.2.2.2.2.1
    refine lv_aload_n (pc := 0) hx hb dX1_hasMean_0 rfl (lv_at hl 0 rfl) ?_
    refine lv_iload_n (pc := 1) hx hb dX1_hasMean_1 rfl (lv_at hl 1 rfl) ?_
    obtain ⟨g3, h⟩ := h
    refine cj_xi (pc := 2) (cj_runV hcx hW hS 0 g3 (by decide) rfl [.int x1] h (Nat.le_trans (by decide) hd) (lw_V q989 q991 qs33 q122 q992) rfl yd_L_isAsked (by decide) rfl rfl (Nat.le_of_ble_eq_true rfl) hl.1 (Nat.le_refl _) (Nat.le_refl _) dX1_hasMean_2) hS (fun r1 σ2 h H locs hW hS => ?_)
    refine lv_if_eq (pc := 5) (tgt := 22) hx hb dX1_hasMean_5 (by decide) (fun c4 => ?_) (fun c4 => ?_)
    · have h := h.1 c4
      refine lv_iconst (pc := 22) (v := (0 : Int32)) hx hb dX1_hasMean_22 (by decide) ?_
      exact cj_reti (pc := 23) hcx hW hS rfl h (Nat.le_refl _) (Nat.le_refl _) dX1_hasMean_23
    · have h := h.2 c4
      refine lv_aload_n (pc := 8) hx hb dX1_hasMean_8 rfl (lv_at hl 0 rfl) ?_
      obtain ⟨g7, h⟩ := h
      refine cj_xq (pc := 9) (cj_runV hcx hW hS 0 g7 (by decide) rfl [] h (Nat.le_trans (by decide) hd) (lw_V q838 q840 qs17 q122 q841) rfl yd_L_joined (by decide) rfl rfl (Nat.le_of_ble_eq_true rfl) hl.1 (Nat.le_refl _) (Nat.le_refl _) dX1_hasMean_9) hS (fun r5 σ6 h H locs hW hS => ?_)
      obtain ⟨a8, e9, h⟩ := h
      refine cj_stk (st' := [.ref a8]) (by rw [e9]; rfl) ?_
      obtain ⟨g10, h⟩ := h
      refine cj_fldN (pc := 12) hcx hW 2 g10 (by decide) rfl in_X3 8 (by decide) (by decide) (List.mem_of_getElem? (i := 7) rfl) dX1_hasMean_12 (v := .int (cj_F σ6 308 a8)) rfl ?_
      refine lv_if_le (pc := 15) (tgt := 22) hx hb dX1_hasMean_15 (by decide) (fun c11 => ?_) (fun c11 => ?_)
      · have h := h.1 c11
        refine lv_iconst (pc := 22) (v := (0 : Int32)) hx hb dX1_hasMean_22 (by decide) ?_
        exact cj_reti (pc := 23) hcx hW hS rfl h (Nat.le_refl _) (Nat.le_refl _) dX1_hasMean_23
      · have h := h.2 c11
        refine lv_iconst (pc := 18) (v := (1 : Int32)) hx hb dX1_hasMean_18 (by decide) ?_
        refine lv_goto (pc := 19) (tgt := 23) hx hb dX1_hasMean_19 (by decide) ?_
        exact cj_reti (pc := 23) hcx hW hS rfl h (Nat.le_refl _) (Nat.le_refl _) dX1_hasMean_23)
/-! L_image -/
set_option maxHeartbeats 4000000 in
set_option maxRecDepth 100000 in
theorem cb_L_image {E : cj_E} {σ : cj_S} {x0 : Nat} {P : Int32 → cj_S → Prop} (h : (cj_T σ x0 = 1 ∧ (((cj_F σ 107 x0) = 0 → P (-1 : Int32) σ) ∧ (¬ (cj_F σ 107 x0) = 0 → (∃ a3, (cj_R σ 110 x0) = some a3 ∧ (cj_T σ a3 = 2 ∧ cs_St_becomes E σ a3 (cj_R σ 109 x0) (fun σ6 => (cj_T σ6 x0 = 1 ∧ cs_L_joined E (cj_sF σ6 121 x0 (1 : Int32)) x0 (fun r9 σ10 => (∃ a11, r9 = some a11 ∧ (cj_T σ10 a11 = 3 ∧ P (cj_F σ10 308 a11) σ10))))))))))) : cs_L_image E σ x0 P :=
  cj_enter (k := 24) (lv := [(0, .ref x0)]) (by decide) (Nat.le_of_ble_eq_true rfl) rfl (by
    intro d hd p e s m args below meth c hcx H locs ls hW hS hl
    have hx := hcx.1
    have hb := hcx.2.1
    have hown := hcx.2.2.2.2.2.1
    have hts := hcx.2.2.2.2.2.2.1
    refine lv_aload_n (pc := 0) hx hb dX1_image_0 rfl (lv_at hl 0 rfl) ?_
    obtain ⟨g1, h⟩ := h
    refine cj_fld (pc := 1) hcx hW 0 g1 (by decide) rfl in_X1 7 (by decide) (by decide) q284 dX1_image_1 (v := .int (cj_F σ 107 x0)) rfl ?_
    refine lv_if_ne (pc := 4) (tgt := 9) hx hb dX1_image_4 (by decide) (fun c2 => ?_) (fun c2 => ?_)
    · have h := h.2 c2
      refine lv_aload_n (pc := 9) hx hb dX1_image_9 rfl (lv_at hl 0 rfl) ?_
      refine cj_fld (pc := 10) hcx hW 0 g1 (by decide) rfl in_X1 10 (by decide) (by decide) q287 dX1_image_10 (v := va_rf (cj_R σ 110 x0)) rfl ?_
      refine lv_aload_n (pc := 13) hx hb dX1_image_13 rfl (lv_at hl 0 rfl) ?_
      refine cj_fld (pc := 14) hcx hW 0 g1 (by decide) rfl in_X1 9 (by decide) (by decide) q286 dX1_image_14 (v := va_rf (cj_R σ 109 x0)) rfl ?_
      obtain ⟨a3, e4, h⟩ := h
      refine cj_stk (st' := [va_rf (cj_R σ 109 x0), .ref a3]) (by rw [e4]; rfl) ?_
      obtain ⟨g7, h⟩ := h
      refine cj_xv (pc := 17) (cj_runV hcx hW hS 1 g7 (by decide) rfl [va_rf (cj_R σ 109 x0)] h (Nat.le_trans (by decide) hd) (lw_V q749 q750 q751 q123 q752) rfl yd_St_becomes (by decide) rfl rfl (Nat.le_of_ble_eq_true rfl) hl.1 (Nat.le_refl _) (Nat.le_refl _) dX1_image_17) hS (fun σ6 h H locs hW hS => ?_)
      refine lv_aload_n (pc := 20) hx hb dX1_image_20 rfl (lv_at hl 0 rfl) ?_
      refine lv_iconst (pc := 21) (v := (1 : Int32)) hx hb dX1_image_21 (by decide) ?_
      obtain ⟨g8, h⟩ := h
      refine cj_put (pc := 22) (σ1 := (cj_sF σ6 121 x0 (1 : Int32))) hcx hW hS 0 g8 (by decide) rfl in_X1 tyX1_ok nmX1 21 (by decide) (by decide) rfl rfl rfl (cj_pI rfl) q298 dX1_image_22 (fun H locs hW hS => ?_)
      refine lv_aload_n (pc := 25) hx hb dX1_image_25 rfl (lv_at hl 0 rfl) ?_
      refine cj_xq (pc := 26) (cj_runV hcx hW hS 0 g8 (by decide) rfl [] h (Nat.le_trans (by decide) hd) (lw_V q838 q840 qs17 q122 q841) rfl yd_L_joined (by decide) rfl rfl (Nat.le_of_ble_eq_true rfl) hl.1 (Nat.le_refl _) (Nat.le_refl _) dX1_image_26) hS (fun r9 σ10 h H locs hW hS => ?_)
      obtain ⟨a11, e12, h⟩ := h
      refine cj_stk (st' := [.ref a11]) (by rw [e12]; rfl) ?_
      obtain ⟨g13, h⟩ := h
      refine cj_fldN (pc := 29) hcx hW 2 g13 (by decide) rfl in_X3 8 (by decide) (by decide) (List.mem_of_getElem? (i := 7) rfl) dX1_image_29 (v := .int (cj_F σ10 308 a11)) rfl ?_
      exact cj_reti (pc := 32) hcx hW hS rfl h (Nat.le_refl _) (Nat.le_refl _) dX1_image_32
    · have h := h.1 c2
      refine lv_iconst (pc := 7) (v := (-1 : Int32)) hx hb dX1_image_7 (by decide) ?_
      exact cj_reti (pc := 8) hcx hW hS rfl h (Nat.le_refl _) (Nat.le_refl _) dX1_image_8)
/-! L_leaps -/
set_option maxHeartbeats 4000000 in
set_option maxRecDepth 100000 in
theorem cb_L_leaps {E : cj_E} {σ : cj_S} {x0 : Nat} {P : Int32 → cj_S → Prop} (h : (cj_T σ x0 = 1 ∧ (((cj_F σ 107 x0) = 0 → P (-1 : Int32) σ) ∧ (¬ (cj_F σ 107 x0) = 0 → cs_L_joined E σ x0 (fun r3 σ4 => (∃ a5, r3 = some a5 ∧ (cj_T σ4 a5 = 3 ∧ P (cj_F σ4 309 a5) σ4))))))) : cs_L_leaps E σ x0 P :=
  cj_enter (k := 24) (lv := [(0, .ref x0)]) (by decide) (Nat.le_of_ble_eq_true rfl) rfl (by
    intro d hd p e s m args below meth c hcx H locs ls hW hS hl
    have hx := hcx.1
    have hb := hcx.2.1
    have hown := hcx.2.2.2.2.2.1
    have hts := hcx.2.2.2.2.2.2.1
    refine lv_aload_n (pc := 0) hx hb dX1_leaps_0 rfl (lv_at hl 0 rfl) ?_
    obtain ⟨g1, h⟩ := h
    refine cj_fld (pc := 1) hcx hW 0 g1 (by decide) rfl in_X1 7 (by decide) (by decide) q284 dX1_leaps_1 (v := .int (cj_F σ 107 x0)) rfl ?_
    refine lv_if_ne (pc := 4) (tgt := 11) hx hb dX1_leaps_4 (by decide) (fun c2 => ?_) (fun c2 => ?_)
    · have h := h.2 c2
      refine lv_aload_n (pc := 11) hx hb dX1_leaps_11 rfl (lv_at hl 0 rfl) ?_
      refine cj_xq (pc := 12) (cj_runV hcx hW hS 0 g1 (by decide) rfl [] h (Nat.le_trans (by decide) hd) (lw_V q838 q840 qs17 q122 q841) rfl yd_L_joined (by decide) rfl rfl (Nat.le_of_ble_eq_true rfl) hl.1 (Nat.le_refl _) (Nat.le_refl _) dX1_leaps_12) hS (fun r3 σ4 h H locs hW hS => ?_)
      obtain ⟨a5, e6, h⟩ := h
      refine cj_stk (st' := [.ref a5]) (by rw [e6]; rfl) ?_
      obtain ⟨g7, h⟩ := h
      refine cj_fldN (pc := 15) hcx hW 2 g7 (by decide) rfl in_X3 9 (by decide) (by decide) (List.mem_of_getElem? (i := 8) rfl) dX1_leaps_15 (v := .int (cj_F σ4 309 a5)) rfl ?_
      exact cj_reti (pc := 18) hcx hW hS rfl h (Nat.le_refl _) (Nat.le_refl _) dX1_leaps_18
    · have h := h.1 c2
      refine lv_iconst (pc := 7) (v := (-1 : Int32)) hx hb dX1_leaps_7 (by decide) ?_
      refine lv_goto (pc := 8) (tgt := 18) hx hb dX1_leaps_8 (by decide) ?_
      exact cj_reti (pc := 18) hcx hW hS rfl h (Nat.le_refl _) (Nat.le_refl _) dX1_leaps_18)
/-! L_projected -/
set_option maxHeartbeats 4000000 in
set_option maxRecDepth 100000 in
theorem cb_L_projected_42 {E : cj_E} {σ : cj_S} {x0 : Nat} {x1 : Int32} {x2 : Option Nat} {x3 : Int32} {P : Int32 → cj_S → Prop} (h : (∃ a1, x2 = some a1 ∧ (cj_T σ a1 = 3 ∧ (((cj_F σ 308 a1) ≤ x3 → (cj_T σ x0 = 1 ∧ cs_L_unlike E σ x0 (cj_F σ 308 a1) (fun r5 σ6 => P r5 σ6))) ∧ (¬ (cj_F σ 308 a1) ≤ x3 → (cj_T σ x0 = 1 ∧ (∃ a9, (cj_R σ 118 x0) = some a9 ∧ (cj_T σ a9 = 21 ∧ (vp_in x3 (cj_N σ a9) ∧ cg_L_projected_60 E (cj_sA σ a9 x3.toNatClampNeg (0 : Int32)) x0 x1 x2 x3 (0 : Int32) P))))))))) : cg_L_projected_42 E σ x0 x1 x2 x3 P := by
  intro d hd p e s m args below meth c hcx H locs ls hW hS hl
  have hx := hcx.1
  have hb := hcx.2.1
  have hown := hcx.2.2.2.2.2.1
  have hts := hcx.2.2.2.2.2.2.1
  refine lv_iload_n (pc := 42) hx hb dX1_projected_42 rfl (lv_at hl 3 rfl) ?_
  refine cj_aload_n (pc := 43) hx hb dX1_projected_43 rfl (lv_at hl 2 rfl) ?_
  obtain ⟨a1, e2, h⟩ := h
  refine cj_stk (st' := [.ref a1, .int x3]) (by rw [e2]; rfl) ?_
  obtain ⟨g3, h⟩ := h
  refine cj_fldN (pc := 44) hcx hW 2 g3 (by decide) rfl in_X3 8 (by decide) (by decide) (List.mem_of_getElem? (i := 7) rfl) dX1_projected_44 (v := .int (cj_F σ 308 a1)) rfl ?_
  refine lv_icmp_ge (pc := 47) (tgt := 119) hx hb dX1_projected_47 (by decide) (fun c4 => ?_) (fun c4 => ?_)
  · have h := h.1 c4
    refine lv_aload_n (pc := 119) hx hb dX1_projected_119 rfl (lv_at hl 0 rfl) ?_
    refine cj_aload_n (pc := 120) hx hb dX1_projected_120 rfl (lv_at hl 2 rfl) ?_
    refine cj_stk (st' := [.ref a1, .ref x0]) (by rw [e2]; rfl) ?_
    refine cj_fldN (pc := 121) hcx hW 2 g3 (by decide) rfl in_X3 8 (by decide) (by decide) (List.mem_of_getElem? (i := 7) rfl) dX1_projected_121 (v := .int (cj_F σ 308 a1)) rfl ?_
    obtain ⟨g7, h⟩ := h
    refine cj_xi (pc := 124) (cj_runV hcx hW hS 0 g7 (by decide) rfl [.int (cj_F σ 308 a1)] h (Nat.le_trans (by decide) hd) (lw_V q1045 q1047 qs35 q122 q1048) rfl yd_L_unlike (by decide) rfl rfl (Nat.le_of_ble_eq_true rfl) hl.1 (Nat.le_refl _) (Nat.le_refl _) dX1_projected_124) hS (fun r5 σ6 h H locs hW hS => ?_)
    exact cj_reti (pc := 127) hcx hW hS rfl h (Nat.le_refl _) (Nat.le_refl _) dX1_projected_127
  · have h := h.2 c4
    refine lv_aload_n (pc := 50) hx hb dX1_projected_50 rfl (lv_at hl 0 rfl) ?_
    obtain ⟨g8, h⟩ := h
    refine cj_fld (pc := 51) hcx hW 0 g8 (by decide) rfl in_X1 18 (by decide) (by decide) q295 dX1_projected_51 (v := va_rf (cj_R σ 118 x0)) rfl ?_
    refine lv_iload_n (pc := 54) hx hb dX1_projected_54 rfl (lv_at hl 3 rfl) ?_
    refine lv_iconst (pc := 55) (v := (0 : Int32)) hx hb dX1_projected_55 (by decide) ?_
    obtain ⟨a9, e10, h⟩ := h
    refine cj_stk (st' := [.int (0 : Int32), .int x3, .ref a9]) (by rw [e10]; rfl) ?_
    obtain ⟨g11, h⟩ := h
    obtain ⟨g12, h⟩ := h
    refine cj_iast (pc := 56) hcx hW hS g11 g12 dX1_projected_56 (fun H locs hW hS => ?_)
    refine lv_iconst (pc := 57) (v := (0 : Int32)) hx hb dX1_projected_57 (by decide) ?_
    refine lv_istore (pc := 58) (lv' := [(4, .int (0 : Int32)), (0, .ref x0), (1, .int x1), (2, va_rf x2), (3, .int x3)]) hx hb dX1_projected_58 hl (by decide) rfl (fun ls hl => ?_)
    exact h d hd p e s m args below meth c hcx H locs _ hW hS (lv_sub hl [1, 2, 3, 4, 0] rfl)
set_option maxHeartbeats 4000000 in
set_option maxRecDepth 100000 in
theorem cb_L_projected_60 {E : cj_E} {σ : cj_S} {x0 : Nat} {x1 : Int32} {x2 : Option Nat} {x3 : Int32} {x4 : Int32} {P : Int32 → cj_S → Prop} (h : (((4 : Int32) ≤ x4 → cg_L_projected_42 E σ x0 x1 x2 (x3 + (1 : Int32)) P) ∧ (¬ (4 : Int32) ≤ x4 → (cj_T σ x0 = 1 ∧ cs_L_has E σ x1 x4 (fun r3 σ4 => ((r3 = 0 → (cj_T σ4 x0 = 1 ∧ (∃ a7, (cj_R σ4 118 x0) = some a7 ∧ (cj_T σ4 a7 = 21 ∧ (vp_in x3 (cj_N σ4 a7) ∧ (∃ a11, (cj_R σ 118 x0) = some a11 ∧ (cj_T σ4 a11 = 21 ∧ (vp_in x3 (cj_N σ4 a11) ∧ cg_L_projected_60 E (cj_sA σ4 a11 x3.toNatClampNeg (cj_A σ4 a7 x3.toNatClampNeg)) x0 x1 x2 x3 (x4 + (1 : Int32)) P)))))))) ∧ (¬ r3 = 0 → (cj_T σ4 x0 = 1 ∧ (∃ a16, (cj_R σ4 118 x0) = some a16 ∧ (cj_T σ4 a16 = 21 ∧ (vp_in x3 (cj_N σ4 a16) ∧ (∃ a20, x2 = some a20 ∧ (cj_T σ4 a20 = 3 ∧ cs_Jn_at E σ4 a20 x3 x4 (fun r22 σ23 => (∃ a25, (cj_R σ 118 x0) = some a25 ∧ (cj_T σ23 a25 = 21 ∧ (vp_in x3 (cj_N σ23 a25) ∧ cg_L_projected_60 E (cj_sA σ23 a25 x3.toNatClampNeg (((100 : Int32) * (cj_A σ4 a16 x3.toNatClampNeg)) + r22)) x0 x1 x2 x3 (x4 + (1 : Int32)) P))))))))))))))))) : cg_L_projected_60 E σ x0 x1 x2 x3 x4 P := by
  intro d hd p e s m args below meth c hcx H locs ls hW hS hl
  have hx := hcx.1
  have hb := hcx.2.1
  have hown := hcx.2.2.2.2.2.1
  have hts := hcx.2.2.2.2.2.2.1
  refine lv_iload (pc := 60) hx hb dX1_projected_60 (lv_at hl 4 rfl) ?_
  refine lv_iconst (pc := 62) (v := (4 : Int32)) hx hb dX1_projected_62 (by decide) ?_
  refine lv_icmp_ge (pc := 63) (tgt := 113) hx hb dX1_projected_63 (by decide) (fun c1 => ?_) (fun c1 => ?_)
  · have h := h.1 c1
    refine lv_iinc (pc := 113) (v := (x3 + (1 : Int32))) (lv' := [(3, .int (x3 + (1 : Int32))), (0, .ref x0), (1, .int x1), (2, va_rf x2), (4, .int x4)]) hx hb dX1_projected_113 hl (k := 3) rfl rfl (by decide) (by generalize x2 = z; cases z <;> rfl) (fun ls hl => ?_)
    refine lv_goto (pc := 116) (tgt := 42) hx hb dX1_projected_116 (by decide) ?_
    exact h d hd p e s m args below meth c hcx H locs _ hW hS (lv_sub hl [1, 2, 3, 0] rfl)
  · have h := h.2 c1
    refine lv_aload_n (pc := 66) hx hb dX1_projected_66 rfl (lv_at hl 0 rfl) ?_
    obtain ⟨g2, h⟩ := h
    refine cj_fld (pc := 67) hcx hW 0 g2 (by decide) rfl in_X1 18 (by decide) (by decide) q295 dX1_projected_67 (v := va_rf (cj_R σ 118 x0)) rfl ?_
    refine lv_iload_n (pc := 70) hx hb dX1_projected_70 rfl (lv_at hl 3 rfl) ?_
    refine lv_iload_n (pc := 71) hx hb dX1_projected_71 rfl (lv_at hl 1 rfl) ?_
    refine lv_iload (pc := 72) hx hb dX1_projected_72 (lv_at hl 4 rfl) ?_
    refine cj_xi (pc := 74) (cj_runS hcx hW hS [.int x1, .int x4] h (Nat.le_trans (by decide) hd) (lw_S q993 q387 q122 q388) yd_L_has (by decide) rfl rfl (by generalize (cj_R σ 118 x0) = z0; cases z0 <;> exact Nat.le_of_ble_eq_true rfl) hl.1 (Nat.le_refl _) (Nat.le_refl _) dX1_projected_74) hS (fun r3 σ4 h H locs hW hS => ?_)
    refine lv_if_eq (pc := 77) (tgt := 100) hx hb dX1_projected_77 (by decide) (fun c5 => ?_) (fun c5 => ?_)
    · have h := h.1 c5
      refine lv_aload_n (pc := 100) hx hb dX1_projected_100 rfl (lv_at hl 0 rfl) ?_
      obtain ⟨g6, h⟩ := h
      refine cj_fld (pc := 101) hcx hW 0 g6 (by decide) rfl in_X1 18 (by decide) (by decide) q295 dX1_projected_101 (v := va_rf (cj_R σ4 118 x0)) rfl ?_
      refine lv_iload_n (pc := 104) hx hb dX1_projected_104 rfl (lv_at hl 3 rfl) ?_
      obtain ⟨a7, e8, h⟩ := h
      refine cj_stk (st' := [.int x3, .ref a7, .int x3, va_rf (cj_R σ 118 x0)]) (by rw [e8]; rfl) ?_
      obtain ⟨g9, h⟩ := h
      obtain ⟨g10, h⟩ := h
      refine cj_iald (pc := 105) hcx hW g9 g10 dX1_projected_105 ?_
      obtain ⟨a11, e12, h⟩ := h
      refine cj_stk (st' := [.int (cj_A σ4 a7 x3.toNatClampNeg), .int x3, .ref a11]) (by rw [e12]; rfl) ?_
      obtain ⟨g13, h⟩ := h
      obtain ⟨g14, h⟩ := h
      refine cj_iast (pc := 106) hcx hW hS g13 g14 dX1_projected_106 (fun H locs hW hS => ?_)
      refine lv_iinc (pc := 107) (v := (x4 + (1 : Int32))) (lv' := [(4, .int (x4 + (1 : Int32))), (0, .ref x0), (1, .int x1), (2, va_rf x2), (3, .int x3)]) hx hb dX1_projected_107 hl (k := 4) rfl rfl (by decide) rfl (fun ls hl => ?_)
      refine lv_goto (pc := 110) (tgt := 60) hx hb dX1_projected_110 (by decide) ?_
      exact h d hd p e s m args below meth c hcx H locs _ hW hS (lv_sub hl [1, 2, 3, 4, 0] rfl)
    · have h := h.2 c5
      refine lv_bipush (pc := 80) (v := (100 : Int32)) hx hb dX1_projected_80 (by decide) ?_
      refine lv_aload_n (pc := 82) hx hb dX1_projected_82 rfl (lv_at hl 0 rfl) ?_
      obtain ⟨g15, h⟩ := h
      refine cj_fld (pc := 83) hcx hW 0 g15 (by decide) rfl in_X1 18 (by decide) (by decide) q295 dX1_projected_83 (v := va_rf (cj_R σ4 118 x0)) rfl ?_
      refine lv_iload_n (pc := 86) hx hb dX1_projected_86 rfl (lv_at hl 3 rfl) ?_
      obtain ⟨a16, e17, h⟩ := h
      refine cj_stk (st' := [.int x3, .ref a16, .int (100 : Int32), .int x3, va_rf (cj_R σ 118 x0)]) (by rw [e17]; rfl) ?_
      obtain ⟨g18, h⟩ := h
      obtain ⟨g19, h⟩ := h
      refine cj_iald (pc := 87) hcx hW g18 g19 dX1_projected_87 ?_
      refine lv_imul (pc := 88) hx hb dX1_projected_88 ?_
      refine cj_aload_n (pc := 89) hx hb dX1_projected_89 rfl (lv_at hl 2 rfl) ?_
      refine lv_iload_n (pc := 90) hx hb dX1_projected_90 rfl (lv_at hl 3 rfl) ?_
      refine lv_iload (pc := 91) hx hb dX1_projected_91 (lv_at hl 4 rfl) ?_
      obtain ⟨a20, e21, h⟩ := h
      refine cj_stk (st' := [.int x4, .int x3, .ref a20, .int ((100 : Int32) * (cj_A σ4 a16 x3.toNatClampNeg)), .int x3, va_rf (cj_R σ 118 x0)]) (by rw [e21]; rfl) ?_
      obtain ⟨g24, h⟩ := h
      refine cj_xi (pc := 93) (cj_runV hcx hW hS 2 g24 (by decide) rfl [.int x3, .int x4] h (Nat.le_trans (by decide) hd) (lw_V q994 q995 q996 q124 q997) rfl yd_Jn_at (by decide) rfl rfl (by generalize (cj_R σ 118 x0) = z0; cases z0 <;> exact Nat.le_of_ble_eq_true rfl) hl.1 (Nat.le_refl _) (Nat.le_refl _) dX1_projected_93) hS (fun r22 σ23 h H locs hW hS => ?_)
      refine lv_iadd (pc := 96) hx hb dX1_projected_96 ?_
      refine lv_goto (pc := 97) (tgt := 106) hx hb dX1_projected_97 (by decide) ?_
      obtain ⟨a25, e26, h⟩ := h
      refine cj_stk (st' := [.int (((100 : Int32) * (cj_A σ4 a16 x3.toNatClampNeg)) + r22), .int x3, .ref a25]) (by rw [e26]; rfl) ?_
      obtain ⟨g27, h⟩ := h
      obtain ⟨g28, h⟩ := h
      refine cj_iast (pc := 106) hcx hW hS g27 g28 dX1_projected_106 (fun H locs hW hS => ?_)
      refine lv_iinc (pc := 107) (v := (x4 + (1 : Int32))) (lv' := [(4, .int (x4 + (1 : Int32))), (0, .ref x0), (1, .int x1), (2, va_rf x2), (3, .int x3)]) hx hb dX1_projected_107 hl (k := 4) rfl rfl (by decide) rfl (fun ls hl => ?_)
      refine lv_goto (pc := 110) (tgt := 60) hx hb dX1_projected_110 (by decide) ?_
      exact h d hd p e s m args below meth c hcx H locs _ hW hS (lv_sub hl [1, 2, 3, 4, 0] rfl)
set_option maxHeartbeats 4000000 in
set_option maxRecDepth 100000 in
theorem cb_L_projected {E : cj_E} {σ : cj_S} {x0 : Nat} {x1 : Int32} {P : Int32 → cj_S → Prop} (h : (cj_T σ x0 = 1 ∧ (((cj_F σ 107 x0) = 0 → P (-1 : Int32) σ) ∧ (¬ (cj_F σ 107 x0) = 0 → cs_L_isIn E σ (x1).toInt64 (1 : Int64) (15 : Int64) (fun r3 σ4 => ((r3 = 0 → P (-1 : Int32) σ4) ∧ (¬ r3 = 0 → (cj_T σ4 x0 = 1 ∧ (∃ a7, (cj_R σ4 109 x0) = some a7 ∧ (cj_T σ4 a7 = 2 ∧ cs_St_asked E σ4 a7 (fun r9 σ10 => (((x1 &&& (r9 ^^^ (-1 : Int32))) = 0 → (cj_T σ10 x0 = 1 ∧ cs_L_joined E σ10 x0 (fun r13 σ14 => cg_L_projected_42 E σ14 x0 x1 r13 (0 : Int32) P))) ∧ (¬ (x1 &&& (r9 ^^^ (-1 : Int32))) = 0 → P (-1 : Int32) σ10))))))))))))) : cs_L_projected E σ x0 x1 P :=
  cj_enter (k := 24) (lv := [(0, .ref x0), (1, .int x1)]) (by decide) (Nat.le_of_ble_eq_true rfl) rfl (by
    intro d hd p e s m args below meth c hcx H locs ls hW hS hl
    have hx := hcx.1
    have hb := hcx.2.1
    have hown := hcx.2.2.2.2.2.1
    have hts := hcx.2.2.2.2.2.2.1
    refine lv_aload_n (pc := 0) hx hb dX1_projected_0 rfl (lv_at hl 0 rfl) ?_
    obtain ⟨g1, h⟩ := h
    refine cj_fld (pc := 1) hcx hW 0 g1 (by decide) rfl in_X1 7 (by decide) (by decide) q284 dX1_projected_1 (v := .int (cj_F σ 107 x0)) rfl ?_
    refine lv_if_eq (pc := 4) (tgt := 33) hx hb dX1_projected_4 (by decide) (fun c2 => ?_) (fun c2 => ?_)
    · have h := h.1 c2
      refine lv_iconst (pc := 33) (v := (-1 : Int32)) hx hb dX1_projected_33 (by decide) ?_
      exact cj_reti (pc := 34) hcx hW hS rfl h (Nat.le_refl _) (Nat.le_refl _) dX1_projected_34
    · have h := h.2 c2
      refine lv_iload_n (pc := 7) hx hb dX1_projected_7 rfl (lv_at hl 1 rfl) ?_
      refine lv_i2l (pc := 8) hx hb dX1_projected_8 rfl ?_
      refine lv_lconst (pc := 9) (v := (1 : Int64)) hx hb dX1_projected_9 (by decide) ?_
      refine lv_ldc2 (pc := 10) (v := (15 : Int64)) hx hb hown (hts _ q1044) dX1_projected_10 ?_
      refine cj_xi (pc := 13) (cj_runS hcx hW hS [.long (x1).toInt64, .long (1 : Int64), .long (15 : Int64)] h (Nat.le_trans (by decide) hd) (lw_S q349 q350 q122 q351) yd_L_isIn (by decide) rfl rfl (Nat.le_of_ble_eq_true rfl) hl.1 (Nat.le_refl _) (Nat.le_refl _) dX1_projected_13) hS (fun r3 σ4 h H locs hW hS => ?_)
      refine lv_if_eq (pc := 16) (tgt := 33) hx hb dX1_projected_16 (by decide) (fun c5 => ?_) (fun c5 => ?_)
      · have h := h.1 c5
        refine lv_iconst (pc := 33) (v := (-1 : Int32)) hx hb dX1_projected_33 (by decide) ?_
        exact cj_reti (pc := 34) hcx hW hS rfl h (Nat.le_refl _) (Nat.le_refl _) dX1_projected_34
      · have h := h.2 c5
        refine lv_iload_n (pc := 19) hx hb dX1_projected_19 rfl (lv_at hl 1 rfl) ?_
        refine lv_aload_n (pc := 20) hx hb dX1_projected_20 rfl (lv_at hl 0 rfl) ?_
        obtain ⟨g6, h⟩ := h
        refine cj_fld (pc := 21) hcx hW 0 g6 (by decide) rfl in_X1 9 (by decide) (by decide) q286 dX1_projected_21 (v := va_rf (cj_R σ4 109 x0)) rfl ?_
        obtain ⟨a7, e8, h⟩ := h
        refine cj_stk (st' := [.ref a7, .int x1]) (by rw [e8]; rfl) ?_
        obtain ⟨g11, h⟩ := h
        refine cj_xi (pc := 24) (cj_runV hcx hW hS 1 g11 (by decide) rfl [] h (Nat.le_trans (by decide) hd) (lw_V q967 q851 q852 q123 q853) rfl yd_St_asked (by decide) rfl rfl (Nat.le_of_ble_eq_true rfl) hl.1 (Nat.le_refl _) (Nat.le_refl _) dX1_projected_24) hS (fun r9 σ10 h H locs hW hS => ?_)
        refine lv_iconst (pc := 27) (v := (-1 : Int32)) hx hb dX1_projected_27 (by decide) ?_
        refine lv_ixor (pc := 28) hx hb dX1_projected_28 ?_
        refine lv_iand (pc := 29) hx hb dX1_projected_29 ?_
        refine lv_if_eq (pc := 30) (tgt := 35) hx hb dX1_projected_30 (by decide) (fun c12 => ?_) (fun c12 => ?_)
        · have h := h.1 c12
          refine lv_aload_n (pc := 35) hx hb dX1_projected_35 rfl (lv_at hl 0 rfl) ?_
          obtain ⟨g15, h⟩ := h
          refine cj_xq (pc := 36) (cj_runV hcx hW hS 0 g15 (by decide) rfl [] h (Nat.le_trans (by decide) hd) (lw_V q838 q840 qs17 q122 q841) rfl yd_L_joined (by decide) rfl rfl (Nat.le_of_ble_eq_true rfl) hl.1 (Nat.le_refl _) (Nat.le_refl _) dX1_projected_36) hS (fun r13 σ14 h H locs hW hS => ?_)
          refine cj_astore_n (pc := 39) (lv' := [(2, va_rf r13), (0, .ref x0), (1, .int x1)]) hx hb dX1_projected_39 rfl hl (by decide) rfl (fun ls hl => ?_)
          refine lv_iconst (pc := 40) (v := (0 : Int32)) hx hb dX1_projected_40 (by decide) ?_
          refine lv_istore_n (pc := 41) (lv' := [(3, .int (0 : Int32)), (2, va_rf r13), (0, .ref x0), (1, .int x1)]) hx hb dX1_projected_41 rfl hl (by decide) (by generalize r13 = z; cases z <;> rfl) (fun ls hl => ?_)
          exact h d hd p e s m args below meth c hcx H locs _ hW hS (lv_sub hl [2, 3, 1, 0] rfl)
        · have h := h.2 c12
          refine lv_iconst (pc := 33) (v := (-1 : Int32)) hx hb dX1_projected_33 (by decide) ?_
          exact cj_reti (pc := 34) hcx hW hS rfl h (Nat.le_refl _) (Nat.le_refl _) dX1_projected_34)
/-! L_row -/
set_option maxHeartbeats 4000000 in
set_option maxRecDepth 100000 in
theorem cb_L_row {E : cj_E} {σ : cj_S} {x0 : Nat} {x1 : Int32} {x2 : Int32} {P : Int32 → cj_S → Prop} (h : (cj_T σ x0 = 1 ∧ cs_L_isAsked E σ x0 x2 (fun r1 σ2 => ((r1 = 0 → P (-1 : Int32) σ2) ∧ (¬ r1 = 0 → (cj_T σ2 x0 = 1 ∧ cs_L_joined E σ2 x0 (fun r5 σ6 => (∃ a8, r5 = some a8 ∧ (cj_T σ6 a8 = 3 ∧ cs_L_isIn E σ6 (x1).toInt64 (0 : Int64) ((cj_F σ6 308 a8) - (1 : Int32)).toInt64 (fun r11 σ12 => ((r11 = 0 → P (-1 : Int32) σ12) ∧ (¬ r11 = 0 → (cj_T σ12 x0 = 1 ∧ (∃ a15, (cj_R σ12 113 x0) = some a15 ∧ (cj_T σ12 a15 = 3 ∧ cs_Jn_at E σ12 a15 x1 x2 (fun r17 σ18 => P r17 σ18)))))))))))))))) : cs_L_row E σ x0 x1 x2 P :=
  cj_enter (k := 24) (lv := [(0, .ref x0), (1, .int x1), (2, .int x2)]) (by decide) (Nat.le_of_ble_eq_true rfl) rfl (by
    intro d hd p e s m args below meth c hcx H locs ls hW hS hl
    have hx := hcx.1
    have hb := hcx.2.1
    have hown := hcx.2.2.2.2.2.1
    have hts := hcx.2.2.2.2.2.2.1
    refine lv_aload_n (pc := 0) hx hb dX1_row_0 rfl (lv_at hl 0 rfl) ?_
    refine lv_iload_n (pc := 1) hx hb dX1_row_1 rfl (lv_at hl 2 rfl) ?_
    obtain ⟨g3, h⟩ := h
    refine cj_xi (pc := 2) (cj_runV hcx hW hS 0 g3 (by decide) rfl [.int x2] h (Nat.le_trans (by decide) hd) (lw_V q989 q991 qs33 q122 q992) rfl yd_L_isAsked (by decide) rfl rfl (Nat.le_of_ble_eq_true rfl) hl.1 (Nat.le_refl _) (Nat.le_refl _) dX1_row_2) hS (fun r1 σ2 h H locs hW hS => ?_)
    refine lv_if_eq (pc := 5) (tgt := 39) hx hb dX1_row_5 (by decide) (fun c4 => ?_) (fun c4 => ?_)
    · have h := h.1 c4
      refine lv_iconst (pc := 39) (v := (-1 : Int32)) hx hb dX1_row_39 (by decide) ?_
      exact cj_reti (pc := 40) hcx hW hS rfl h (Nat.le_refl _) (Nat.le_refl _) dX1_row_40
    · have h := h.2 c4
      refine lv_iload_n (pc := 8) hx hb dX1_row_8 rfl (lv_at hl 1 rfl) ?_
      refine lv_i2l (pc := 9) hx hb dX1_row_9 rfl ?_
      refine lv_lconst (pc := 10) (v := (0 : Int64)) hx hb dX1_row_10 (by decide) ?_
      refine lv_aload_n (pc := 11) hx hb dX1_row_11 rfl (lv_at hl 0 rfl) ?_
      obtain ⟨g7, h⟩ := h
      refine cj_xq (pc := 12) (cj_runV hcx hW hS 0 g7 (by decide) rfl [] h (Nat.le_trans (by decide) hd) (lw_V q838 q840 qs17 q122 q841) rfl yd_L_joined (by decide) rfl rfl (Nat.le_of_ble_eq_true rfl) hl.1 (Nat.le_refl _) (Nat.le_refl _) dX1_row_12) hS (fun r5 σ6 h H locs hW hS => ?_)
      obtain ⟨a8, e9, h⟩ := h
      refine cj_stk (st' := [.ref a8, .long (0 : Int64), .long (x1).toInt64]) (by rw [e9]; rfl) ?_
      obtain ⟨g10, h⟩ := h
      refine cj_fldN (pc := 15) hcx hW 2 g10 (by decide) rfl in_X3 8 (by decide) (by decide) (List.mem_of_getElem? (i := 7) rfl) dX1_row_15 (v := .int (cj_F σ6 308 a8)) rfl ?_
      refine lv_iconst (pc := 18) (v := (1 : Int32)) hx hb dX1_row_18 (by decide) ?_
      refine lv_isub (pc := 19) hx hb dX1_row_19 ?_
      refine lv_i2l (pc := 20) hx hb dX1_row_20 rfl ?_
      refine cj_xi (pc := 21) (cj_runS hcx hW hS [.long (x1).toInt64, .long (0 : Int64), .long ((cj_F σ6 308 a8) - (1 : Int32)).toInt64] h (Nat.le_trans (by decide) hd) (lw_S q349 q350 q122 q351) yd_L_isIn (by decide) rfl rfl (Nat.le_of_ble_eq_true rfl) hl.1 (Nat.le_refl _) (Nat.le_refl _) dX1_row_21) hS (fun r11 σ12 h H locs hW hS => ?_)
      refine lv_if_eq (pc := 24) (tgt := 39) hx hb dX1_row_24 (by decide) (fun c13 => ?_) (fun c13 => ?_)
      · have h := h.1 c13
        refine lv_iconst (pc := 39) (v := (-1 : Int32)) hx hb dX1_row_39 (by decide) ?_
        exact cj_reti (pc := 40) hcx hW hS rfl h (Nat.le_refl _) (Nat.le_refl _) dX1_row_40
      · have h := h.2 c13
        refine lv_aload_n (pc := 27) hx hb dX1_row_27 rfl (lv_at hl 0 rfl) ?_
        obtain ⟨g14, h⟩ := h
        refine cj_fld (pc := 28) hcx hW 0 g14 (by decide) rfl in_X1 13 (by decide) (by decide) q290 dX1_row_28 (v := va_rf (cj_R σ12 113 x0)) rfl ?_
        refine lv_iload_n (pc := 31) hx hb dX1_row_31 rfl (lv_at hl 1 rfl) ?_
        refine lv_iload_n (pc := 32) hx hb dX1_row_32 rfl (lv_at hl 2 rfl) ?_
        obtain ⟨a15, e16, h⟩ := h
        refine cj_stk (st' := [.int x2, .int x1, .ref a15]) (by rw [e16]; rfl) ?_
        obtain ⟨g19, h⟩ := h
        refine cj_xi (pc := 33) (cj_runV hcx hW hS 2 g19 (by decide) rfl [.int x1, .int x2] h (Nat.le_trans (by decide) hd) (lw_V q994 q995 q996 q124 q997) rfl yd_Jn_at (by decide) rfl rfl (Nat.le_of_ble_eq_true rfl) hl.1 (Nat.le_refl _) (Nat.le_refl _) dX1_row_33) hS (fun r17 σ18 h H locs hW hS => ?_)
        refine lv_goto (pc := 36) (tgt := 40) hx hb dX1_row_36 (by decide) ?_
        exact cj_reti (pc := 40) hcx hW hS rfl h (Nat.le_refl _) (Nat.le_refl _) dX1_row_40)
/-! L_rows -/
set_option maxHeartbeats 4000000 in
set_option maxRecDepth 100000 in
theorem cb_L_rows {E : cj_E} {σ : cj_S} {x0 : Nat} {P : Int32 → cj_S → Prop} (h : (cj_T σ x0 = 1 ∧ (((cj_F σ 107 x0) = 0 → P (-1 : Int32) σ) ∧ (¬ (cj_F σ 107 x0) = 0 → cs_L_joined E σ x0 (fun r3 σ4 => (∃ a5, r3 = some a5 ∧ (cj_T σ4 a5 = 3 ∧ P (cj_F σ4 308 a5) σ4))))))) : cs_L_rows E σ x0 P :=
  cj_enter (k := 24) (lv := [(0, .ref x0)]) (by decide) (Nat.le_of_ble_eq_true rfl) rfl (by
    intro d hd p e s m args below meth c hcx H locs ls hW hS hl
    have hx := hcx.1
    have hb := hcx.2.1
    have hown := hcx.2.2.2.2.2.1
    have hts := hcx.2.2.2.2.2.2.1
    refine lv_aload_n (pc := 0) hx hb dX1_rows_0 rfl (lv_at hl 0 rfl) ?_
    obtain ⟨g1, h⟩ := h
    refine cj_fld (pc := 1) hcx hW 0 g1 (by decide) rfl in_X1 7 (by decide) (by decide) q284 dX1_rows_1 (v := .int (cj_F σ 107 x0)) rfl ?_
    refine lv_if_ne (pc := 4) (tgt := 11) hx hb dX1_rows_4 (by decide) (fun c2 => ?_) (fun c2 => ?_)
    · have h := h.2 c2
      refine lv_aload_n (pc := 11) hx hb dX1_rows_11 rfl (lv_at hl 0 rfl) ?_
      refine cj_xq (pc := 12) (cj_runV hcx hW hS 0 g1 (by decide) rfl [] h (Nat.le_trans (by decide) hd) (lw_V q838 q840 qs17 q122 q841) rfl yd_L_joined (by decide) rfl rfl (Nat.le_of_ble_eq_true rfl) hl.1 (Nat.le_refl _) (Nat.le_refl _) dX1_rows_12) hS (fun r3 σ4 h H locs hW hS => ?_)
      obtain ⟨a5, e6, h⟩ := h
      refine cj_stk (st' := [.ref a5]) (by rw [e6]; rfl) ?_
      obtain ⟨g7, h⟩ := h
      refine cj_fldN (pc := 15) hcx hW 2 g7 (by decide) rfl in_X3 8 (by decide) (by decide) (List.mem_of_getElem? (i := 7) rfl) dX1_rows_15 (v := .int (cj_F σ4 308 a5)) rfl ?_
      exact cj_reti (pc := 18) hcx hW hS rfl h (Nat.le_refl _) (Nat.le_refl _) dX1_rows_18
    · have h := h.1 c2
      refine lv_iconst (pc := 7) (v := (-1 : Int32)) hx hb dX1_rows_7 (by decide) ?_
      refine lv_goto (pc := 8) (tgt := 18) hx hb dX1_rows_8 (by decide) ?_
      exact cj_reti (pc := 18) hcx hW hS rfl h (Nat.le_refl _) (Nat.le_refl _) dX1_rows_18)
/-! L_tells -/
set_option maxHeartbeats 4000000 in
set_option maxRecDepth 100000 in
theorem cb_L_tells {E : cj_E} {σ : cj_S} {x0 : Nat} {x1 : Int32} {x2 : Int32} {P : Int32 → cj_S → Prop} (h : (cj_T σ x0 = 1 ∧ cs_L_isAsked E σ x0 x1 (fun r1 σ2 => ((r1 = 0 → P (0 : Int32) σ2) ∧ (¬ r1 = 0 → (cj_T σ2 x0 = 1 ∧ cs_L_isAsked E σ2 x0 x2 (fun r5 σ6 => ((r5 = 0 → P (0 : Int32) σ6) ∧ (¬ r5 = 0 → (cj_T σ6 x0 = 1 ∧ cs_L_joined E σ6 x0 (fun r9 σ10 => (cj_T σ10 x0 = 1 ∧ cs_L_isTold E σ10 x0 r9 x1 x2 (fun r12 σ13 => ((r12 = 0 → P (0 : Int32) σ13) ∧ (¬ r12 = 0 → P (1 : Int32) σ13))))))))))))))) : cs_L_tells E σ x0 x1 x2 P :=
  cj_enter (k := 24) (lv := [(0, .ref x0), (1, .int x1), (2, .int x2)]) (by decide) (Nat.le_of_ble_eq_true rfl) rfl (by
    intro d hd p e s m args below meth c hcx H locs ls hW hS hl
    have hx := hcx.1
    have hb := hcx.2.1
    have hown := hcx.2.2.2.2.2.1
    have hts := hcx.2.2.2.2.2.2.1
    refine lv_aload_n (pc := 0) hx hb dX1_tells_0 rfl (lv_at hl 0 rfl) ?_
    refine lv_iload_n (pc := 1) hx hb dX1_tells_1 rfl (lv_at hl 1 rfl) ?_
    obtain ⟨g3, h⟩ := h
    refine cj_xi (pc := 2) (cj_runV hcx hW hS 0 g3 (by decide) rfl [.int x1] h (Nat.le_trans (by decide) hd) (lw_V q989 q991 qs33 q122 q992) rfl yd_L_isAsked (by decide) rfl rfl (Nat.le_of_ble_eq_true rfl) hl.1 (Nat.le_refl _) (Nat.le_refl _) dX1_tells_2) hS (fun r1 σ2 h H locs hW hS => ?_)
    refine lv_if_eq (pc := 5) (tgt := 33) hx hb dX1_tells_5 (by decide) (fun c4 => ?_) (fun c4 => ?_)
    · have h := h.1 c4
      refine lv_iconst (pc := 33) (v := (0 : Int32)) hx hb dX1_tells_33 (by decide) ?_
      exact cj_reti (pc := 34) hcx hW hS rfl h (Nat.le_refl _) (Nat.le_refl _) dX1_tells_34
    · have h := h.2 c4
      refine lv_aload_n (pc := 8) hx hb dX1_tells_8 rfl (lv_at hl 0 rfl) ?_
      refine lv_iload_n (pc := 9) hx hb dX1_tells_9 rfl (lv_at hl 2 rfl) ?_
      obtain ⟨g7, h⟩ := h
      refine cj_xi (pc := 10) (cj_runV hcx hW hS 0 g7 (by decide) rfl [.int x2] h (Nat.le_trans (by decide) hd) (lw_V q989 q991 qs33 q122 q992) rfl yd_L_isAsked (by decide) rfl rfl (Nat.le_of_ble_eq_true rfl) hl.1 (Nat.le_refl _) (Nat.le_refl _) dX1_tells_10) hS (fun r5 σ6 h H locs hW hS => ?_)
      refine lv_if_eq (pc := 13) (tgt := 33) hx hb dX1_tells_13 (by decide) (fun c8 => ?_) (fun c8 => ?_)
      · have h := h.1 c8
        refine lv_iconst (pc := 33) (v := (0 : Int32)) hx hb dX1_tells_33 (by decide) ?_
        exact cj_reti (pc := 34) hcx hW hS rfl h (Nat.le_refl _) (Nat.le_refl _) dX1_tells_34
      · have h := h.2 c8
        refine lv_aload_n (pc := 16) hx hb dX1_tells_16 rfl (lv_at hl 0 rfl) ?_
        refine lv_aload_n (pc := 17) hx hb dX1_tells_17 rfl (lv_at hl 0 rfl) ?_
        obtain ⟨g11, h⟩ := h
        refine cj_xq (pc := 18) (cj_runV hcx hW hS 0 g11 (by decide) rfl [] h (Nat.le_trans (by decide) hd) (lw_V q838 q840 qs17 q122 q841) rfl yd_L_joined (by decide) rfl rfl (Nat.le_of_ble_eq_true rfl) hl.1 (Nat.le_refl _) (Nat.le_refl _) dX1_tells_18) hS (fun r9 σ10 h H locs hW hS => ?_)
        refine lv_iload_n (pc := 21) hx hb dX1_tells_21 rfl (lv_at hl 1 rfl) ?_
        refine lv_iload_n (pc := 22) hx hb dX1_tells_22 rfl (lv_at hl 2 rfl) ?_
        obtain ⟨g14, h⟩ := h
        refine cj_xi (pc := 23) (cj_runV hcx hW hS 0 g14 (by decide) rfl [va_rf r9, .int x1, .int x2] h (Nat.le_trans (by decide) hd) (lw_V q1070 q1072 qs36 q122 q1073) rfl yd_L_isTold (by decide) rfl rfl (Nat.le_of_ble_eq_true rfl) hl.1 (Nat.le_refl _) (Nat.le_refl _) dX1_tells_23) hS (fun r12 σ13 h H locs hW hS => ?_)
        refine lv_if_eq (pc := 26) (tgt := 33) hx hb dX1_tells_26 (by decide) (fun c15 => ?_) (fun c15 => ?_)
        · have h := h.1 c15
          refine lv_iconst (pc := 33) (v := (0 : Int32)) hx hb dX1_tells_33 (by decide) ?_
          exact cj_reti (pc := 34) hcx hW hS rfl h (Nat.le_refl _) (Nat.le_refl _) dX1_tells_34
        · have h := h.2 c15
          refine lv_iconst (pc := 29) (v := (1 : Int32)) hx hb dX1_tells_29 (by decide) ?_
          refine lv_goto (pc := 30) (tgt := 34) hx hb dX1_tells_30 (by decide) ?_
          exact cj_reti (pc := 34) hcx hW hS rfl h (Nat.le_refl _) (Nat.le_refl _) dX1_tells_34)
/-! L_times -/
set_option maxHeartbeats 4000000 in
set_option maxRecDepth 100000 in
theorem cb_L_times {E : cj_E} {σ : cj_S} {x0 : Nat} {x1 : Int32} {x2 : Int32} {P : Int32 → cj_S → Prop} (h : (cj_T σ x0 = 1 ∧ cs_L_isAsked E σ x0 x1 (fun r1 σ2 => ((r1 = 0 → P (-1 : Int32) σ2) ∧ (¬ r1 = 0 → cs_L_isIn E σ2 (x2).toInt64 (0 : Int64) (99 : Int64) (fun r5 σ6 => ((r5 = 0 → P (0 : Int32) σ6) ∧ (¬ r5 = 0 → (cj_T σ6 x0 = 1 ∧ cs_L_joined E σ6 x0 (fun r8 σ9 => (∃ a11, r8 = some a11 ∧ (cj_T σ9 a11 = 3 ∧ cs_Jn_tallies E σ9 a11 x1 (fun r13 σ14 => (∃ a16, r13 = some a16 ∧ (cj_T σ14 a16 = 21 ∧ (vp_in x2 (cj_N σ14 a16) ∧ P (cj_A σ14 a16 x2.toNatClampNeg) σ14)))))))))))))))) : cs_L_times E σ x0 x1 x2 P :=
  cj_enter (k := 24) (lv := [(0, .ref x0), (1, .int x1), (2, .int x2)]) (by decide) (Nat.le_of_ble_eq_true rfl) rfl (by
    intro d hd p e s m args below meth c hcx H locs ls hW hS hl
    have hx := hcx.1
    have hb := hcx.2.1
    have hown := hcx.2.2.2.2.2.1
    have hts := hcx.2.2.2.2.2.2.1
    refine lv_aload_n (pc := 0) hx hb dX1_times_0 rfl (lv_at hl 0 rfl) ?_
    refine lv_iload_n (pc := 1) hx hb dX1_times_1 rfl (lv_at hl 1 rfl) ?_
    obtain ⟨g3, h⟩ := h
    refine cj_xi (pc := 2) (cj_runV hcx hW hS 0 g3 (by decide) rfl [.int x1] h (Nat.le_trans (by decide) hd) (lw_V q989 q991 qs33 q122 q992) rfl yd_L_isAsked (by decide) rfl rfl (Nat.le_of_ble_eq_true rfl) hl.1 (Nat.le_refl _) (Nat.le_refl _) dX1_times_2) hS (fun r1 σ2 h H locs hW hS => ?_)
    refine lv_if_ne (pc := 5) (tgt := 10) hx hb dX1_times_5 (by decide) (fun c4 => ?_) (fun c4 => ?_)
    · have h := h.2 c4
      refine lv_iload_n (pc := 10) hx hb dX1_times_10 rfl (lv_at hl 2 rfl) ?_
      refine lv_i2l (pc := 11) hx hb dX1_times_11 rfl ?_
      refine lv_lconst (pc := 12) (v := (0 : Int64)) hx hb dX1_times_12 (by decide) ?_
      refine lv_ldc2 (pc := 13) (v := (99 : Int64)) hx hb hown (hts _ q1053) dX1_times_13 ?_
      refine cj_xi (pc := 16) (cj_runS hcx hW hS [.long (x2).toInt64, .long (0 : Int64), .long (99 : Int64)] h (Nat.le_trans (by decide) hd) (lw_S q349 q350 q122 q351) yd_L_isIn (by decide) rfl rfl (Nat.le_of_ble_eq_true rfl) hl.1 (Nat.le_refl _) (Nat.le_refl _) dX1_times_16) hS (fun r5 σ6 h H locs hW hS => ?_)
      refine lv_if_eq (pc := 19) (tgt := 35) hx hb dX1_times_19 (by decide) (fun c7 => ?_) (fun c7 => ?_)
      · have h := h.1 c7
        refine lv_iconst (pc := 35) (v := (0 : Int32)) hx hb dX1_times_35 (by decide) ?_
        exact cj_reti (pc := 36) hcx hW hS rfl h (Nat.le_refl _) (Nat.le_refl _) dX1_times_36
      · have h := h.2 c7
        refine lv_aload_n (pc := 22) hx hb dX1_times_22 rfl (lv_at hl 0 rfl) ?_
        obtain ⟨g10, h⟩ := h
        refine cj_xq (pc := 23) (cj_runV hcx hW hS 0 g10 (by decide) rfl [] h (Nat.le_trans (by decide) hd) (lw_V q838 q840 qs17 q122 q841) rfl yd_L_joined (by decide) rfl rfl (Nat.le_of_ble_eq_true rfl) hl.1 (Nat.le_refl _) (Nat.le_refl _) dX1_times_23) hS (fun r8 σ9 h H locs hW hS => ?_)
        refine lv_iload_n (pc := 26) hx hb dX1_times_26 rfl (lv_at hl 1 rfl) ?_
        obtain ⟨a11, e12, h⟩ := h
        refine cj_stk (st' := [.int x1, .ref a11]) (by rw [e12]; rfl) ?_
        obtain ⟨g15, h⟩ := h
        refine cj_xq (pc := 27) (cj_runV hcx hW hS 2 g15 (by decide) rfl [.int x1] h (Nat.le_trans (by decide) hd) (lw_V q1054 q1055 q1056 q124 q1057) rfl yd_Jn_tallies (by decide) rfl rfl (Nat.le_of_ble_eq_true rfl) hl.1 (Nat.le_refl _) (Nat.le_refl _) dX1_times_27) hS (fun r13 σ14 h H locs hW hS => ?_)
        refine lv_iload_n (pc := 30) hx hb dX1_times_30 rfl (lv_at hl 2 rfl) ?_
        obtain ⟨a16, e17, h⟩ := h
        refine cj_stk (st' := [.int x2, .ref a16]) (by rw [e17]; rfl) ?_
        obtain ⟨g18, h⟩ := h
        obtain ⟨g19, h⟩ := h
        refine cj_iald (pc := 31) hcx hW g18 g19 dX1_times_31 ?_
        refine lv_goto (pc := 32) (tgt := 36) hx hb dX1_times_32 (by decide) ?_
        exact cj_reti (pc := 36) hcx hW hS rfl h (Nat.le_refl _) (Nat.le_refl _) dX1_times_36
    · have h := h.1 c4
      refine lv_iconst (pc := 8) (v := (-1 : Int32)) hx hb dX1_times_8 (by decide) ?_
      exact cj_reti (pc := 9) hcx hW hS rfl h (Nat.le_refl _) (Nat.le_refl _) dX1_times_9)
/-! L_act -/
set_option maxHeartbeats 4000000 in
set_option maxRecDepth 100000 in
theorem cb_L_act_22 {E : cj_E} {σ : cj_S} {x0 : Nat} {t0 : Int32} {cu : Nat} {su : Nat} {P : Int32 → cj_S → Prop} (h : ((t0 = (-1 : Int32) → (cj_T σ x0 = 1 ∧ (∃ a11, (cj_R σ 109 x0) = some a11 ∧ (cj_T σ a11 = 2 ∧ (cu ≤ 11 ∧ (su ≤ 263 ∧ P (cj_F σ 205 a11) σ)))))) ∧ (¬ t0 = (-1 : Int32) → (cj_T σ x0 = 1 ∧ (∃ a3, (cj_R σ 103 x0) = some a3 ∧ (cj_T σ a3 = 21 ∧ (vp_in t0 (cj_N σ a3) ∧ (vp_in t0 (cj_N σ a3) ∧ (cu ≤ 11 ∧ (su ≤ 263 ∧ P (-1 : Int32) (cj_sA σ a3 t0.toNatClampNeg ((cj_A σ a3 t0.toNatClampNeg) + (1 : Int32))))))))))))) : cg_L_act_22 E σ x0 t0 cu su P := by
  intro d hd p e s m args below meth c hcx H locs ls hW hS hl
  have hx := hcx.1
  have hb := hcx.2.1
  have hown := hcx.2.2.2.2.2.1
  have hts := hcx.2.2.2.2.2.2.1
  refine lv_istore (pc := 22) (lv' := [(6, .int t0), (0, .ref x0)]) hx hb dX1_act_22 hl (by decide) rfl (fun ls hl => ?_)
  refine lv_iload (pc := 24) hx hb dX1_act_24 (lv_at hl 0 rfl) ?_
  refine lv_iconst (pc := 26) (v := (-1 : Int32)) hx hb dX1_act_26 (by decide) ?_
  refine lv_icmp_ne (pc := 27) (tgt := 38) hx hb dX1_act_27 (by decide) (fun c1 => ?_) (fun c1 => ?_)
  · have h := h.2 c1
    refine lv_aload_n (pc := 38) hx hb dX1_act_38 rfl (lv_at hl 1 rfl) ?_
    obtain ⟨g2, h⟩ := h
    refine cj_fld (pc := 39) hcx hW 0 g2 (by decide) rfl in_X1 3 (by decide) (by decide) q277 dX1_act_39 (v := va_rf (cj_R σ 103 x0)) rfl ?_
    refine lv_iload (pc := 42) hx hb dX1_act_42 (lv_at hl 0 rfl) ?_
    refine lv_dup2_11 (pc := 44) hx hb dX1_act_44 rfl (cj_cat _) ?_
    obtain ⟨a3, e4, h⟩ := h
    refine cj_stk (st' := [.int t0, .ref a3, .int t0, .ref a3]) (by rw [e4]; rfl) ?_
    obtain ⟨g5, h⟩ := h
    obtain ⟨g6, h⟩ := h
    refine cj_iald (pc := 45) hcx hW g5 g6 dX1_act_45 ?_
    refine lv_iconst (pc := 46) (v := (1 : Int32)) hx hb dX1_act_46 (by decide) ?_
    refine lv_iadd (pc := 47) hx hb dX1_act_47 ?_
    obtain ⟨g7, h⟩ := h
    refine cj_iast (pc := 48) hcx hW hS g5 g7 dX1_act_48 (fun H locs hW hS => ?_)
    refine lv_iconst (pc := 49) (v := (-1 : Int32)) hx hb dX1_act_49 (by decide) ?_
    obtain ⟨g8, h⟩ := h
    obtain ⟨g9, h⟩ := h
    exact cj_reti (pc := 50) hcx hW hS rfl h g8 g9 dX1_act_50
  · have h := h.1 c1
    refine lv_aload_n (pc := 30) hx hb dX1_act_30 rfl (lv_at hl 1 rfl) ?_
    obtain ⟨g10, h⟩ := h
    refine cj_fld (pc := 31) hcx hW 0 g10 (by decide) rfl in_X1 9 (by decide) (by decide) q286 dX1_act_31 (v := va_rf (cj_R σ 109 x0)) rfl ?_
    obtain ⟨a11, e12, h⟩ := h
    refine cj_stk (st' := [.ref a11]) (by rw [e12]; rfl) ?_
    obtain ⟨g13, h⟩ := h
    refine cj_fldN (pc := 34) hcx hW 1 g13 (by decide) rfl in_X2 5 (by decide) (by decide) (List.mem_of_getElem? (i := 5) rfl) dX1_act_34 (v := .int (cj_F σ 205 a11)) rfl ?_
    obtain ⟨g14, h⟩ := h
    obtain ⟨g15, h⟩ := h
    exact cj_reti (pc := 37) hcx hW hS rfl h g14 g15 dX1_act_37
set_option maxHeartbeats 4000000 in
set_option maxRecDepth 100000 in
theorem cb_L_act {E : cj_E} {σ : cj_S} {x0 : Nat} {x1 : Int32} {x2 : Int32} {x3 : Int32} {x4 : Int32} {x5 : Int32} {P : Int32 → cj_S → Prop} (h : (cj_T σ x0 = 1 ∧ (((cj_F σ 107 x0) = 0 → cg_L_act_22 E σ x0 (0 : Int32) 0 0 P) ∧ (¬ (cj_F σ 107 x0) = 0 → cs_L_acts E σ x0 x1 x2 x3 x4 x5 (fun r3 σ4 => cg_L_act_22 E σ4 x0 r3 11 263 P))))) : cs_L_act E σ x0 x1 x2 x3 x4 x5 P :=
  cj_enter (k := 25) (lv := [(0, .ref x0), (1, .int x1), (2, .int x2), (3, .int x3), (4, .int x4), (5, .int x5)]) (by decide) (Nat.le_of_ble_eq_true rfl) rfl (by
    intro d hd p e s m args below meth c hcx H locs ls hW hS hl
    have hx := hcx.1
    have hb := hcx.2.1
    have hown := hcx.2.2.2.2.2.1
    have hts := hcx.2.2.2.2.2.2.1
    refine lv_aload_n (pc := 0) hx hb dX1_act_0 rfl (lv_at hl 0 rfl) ?_
    obtain ⟨g1, h⟩ := h
    refine cj_fld (pc := 1) hcx hW 0 g1 (by decide) rfl in_X1 7 (by decide) (by decide) q284 dX1_act_1 (v := .int (cj_F σ 107 x0)) rfl ?_
    refine lv_if_ne (pc := 4) (tgt := 11) hx hb dX1_act_4 (by decide) (fun c2 => ?_) (fun c2 => ?_)
    · have h := h.2 c2
      refine lv_aload_n (pc := 11) hx hb dX1_act_11 rfl (lv_at hl 0 rfl) ?_
      refine lv_iload_n (pc := 12) hx hb dX1_act_12 rfl (lv_at hl 1 rfl) ?_
      refine lv_iload_n (pc := 13) hx hb dX1_act_13 rfl (lv_at hl 2 rfl) ?_
      refine lv_iload_n (pc := 14) hx hb dX1_act_14 rfl (lv_at hl 3 rfl) ?_
      refine lv_iload (pc := 15) hx hb dX1_act_15 (lv_at hl 4 rfl) ?_
      refine lv_iload (pc := 17) hx hb dX1_act_17 (lv_at hl 5 rfl) ?_
      refine cj_xi (pc := 19) (cj_runV hcx hW hS 0 g1 (by decide) rfl [.int x1, .int x2, .int x3, .int x4, .int x5] h (Nat.le_trans (by decide) hd) (lw_V q745 q747 qs15 q122 q748) rfl yd_L_acts (by decide) rfl rfl (Nat.le_of_ble_eq_true rfl) hl.1 (Nat.le_of_ble_eq_true rfl) (Nat.le_of_ble_eq_true rfl) dX1_act_19) hS (fun r3 σ4 h H locs hW hS => ?_)
      exact h d hd p e s m args below meth c hcx H locs _ hW hS (lv_sub hl [0] rfl)
    · have h := h.1 c2
      refine lv_iconst (pc := 7) (v := (0 : Int32)) hx hb dX1_act_7 (by decide) ?_
      refine lv_goto (pc := 8) (tgt := 22) hx hb dX1_act_8 (by decide) ?_
      exact h d hd p e s m args below meth c hcx H locs _ hW hS (lv_sub hl [0] rfl))
/-! L_behind -/
set_option maxHeartbeats 4000000 in
set_option maxRecDepth 100000 in
theorem cb_L_behind {E : cj_E} {σ : cj_S} {x0 : Nat} {x1 : Int32} {x2 : Int32} {x3 : Int32} {x4 : Int32} {P : Int32 → cj_S → Prop} (h : (cj_T σ x0 = 1 ∧ (((cj_F σ 107 x0) = 0 → P (-1 : Int32) σ) ∧ (¬ (cj_F σ 107 x0) = 0 → cs_L_from E σ x0 x1 x2 x3 x4 (0 : Int32) (fun r3 σ4 => P r3 σ4))))) : cs_L_behind E σ x0 x1 x2 x3 x4 P :=
  cj_enter (k := 25) (lv := [(0, .ref x0), (1, .int x1), (2, .int x2), (3, .int x3), (4, .int x4)]) (by decide) (Nat.le_of_ble_eq_true rfl) rfl (by
    intro d hd p e s m args below meth c hcx H locs ls hW hS hl
    have hx := hcx.1
    have hb := hcx.2.1
    have hown := hcx.2.2.2.2.2.1
    have hts := hcx.2.2.2.2.2.2.1
    refine lv_aload_n (pc := 0) hx hb dX1_behind_0 rfl (lv_at hl 0 rfl) ?_
    obtain ⟨g1, h⟩ := h
    refine cj_fld (pc := 1) hcx hW 0 g1 (by decide) rfl in_X1 7 (by decide) (by decide) q284 dX1_behind_1 (v := .int (cj_F σ 107 x0)) rfl ?_
    refine lv_if_ne (pc := 4) (tgt := 11) hx hb dX1_behind_4 (by decide) (fun c2 => ?_) (fun c2 => ?_)
    · have h := h.2 c2
      refine lv_aload_n (pc := 11) hx hb dX1_behind_11 rfl (lv_at hl 0 rfl) ?_
      refine lv_iload_n (pc := 12) hx hb dX1_behind_12 rfl (lv_at hl 1 rfl) ?_
      refine lv_iload_n (pc := 13) hx hb dX1_behind_13 rfl (lv_at hl 2 rfl) ?_
      refine lv_iload_n (pc := 14) hx hb dX1_behind_14 rfl (lv_at hl 3 rfl) ?_
      refine lv_iload (pc := 15) hx hb dX1_behind_15 (lv_at hl 4 rfl) ?_
      refine lv_iconst (pc := 17) (v := (0 : Int32)) hx hb dX1_behind_17 (by decide) ?_
      refine cj_xi (pc := 18) (cj_runV hcx hW hS 0 g1 (by decide) rfl [.int x1, .int x2, .int x3, .int x4, .int (0 : Int32)] h (Nat.le_trans (by decide) hd) (lw_V q1078 q1080 qs37 q122 q1081) rfl yd_L_from (by decide) rfl rfl (Nat.le_of_ble_eq_true rfl) hl.1 (Nat.le_refl _) (Nat.le_refl _) dX1_behind_18) hS (fun r3 σ4 h H locs hW hS => ?_)
      exact cj_reti (pc := 21) hcx hW hS rfl h (Nat.le_refl _) (Nat.le_refl _) dX1_behind_21
    · have h := h.1 c2
      refine lv_iconst (pc := 7) (v := (-1 : Int32)) hx hb dX1_behind_7 (by decide) ?_
      refine lv_goto (pc := 8) (tgt := 21) hx hb dX1_behind_8 (by decide) ?_
      exact cj_reti (pc := 21) hcx hW hS rfl h (Nat.le_refl _) (Nat.le_refl _) dX1_behind_21)
/-! L_dangling -/
set_option maxHeartbeats 4000000 in
set_option maxRecDepth 100000 in
theorem cb_L_dangling_4 {E : cj_E} {σ : cj_S} {x0 : Nat} {x1 : Int32} {x2 : Int32} {P : Int32 → cj_S → Prop} (h : (cj_T σ x0 = 1 ∧ (((cj_F σ 107 x0) ≤ x2 → P x1 σ) ∧ (¬ (cj_F σ 107 x0) ≤ x2 → (∃ a3, (cj_R σ 109 x0) = some a3 ∧ (cj_T σ a3 = 2 ∧ cs_L_has E σ (cj_F σ 202 a3) x2 (fun r6 σ7 => ((r6 = 0 → cg_L_dangling_4 E σ7 x0 (x1 + (0 : Int32)) (x2 + (1 : Int32)) P) ∧ (¬ r6 = 0 → (cj_T σ7 x0 = 1 ∧ (∃ a10, (cj_R σ7 109 x0) = some a10 ∧ (cj_T σ7 a10 = 2 ∧ (∃ a13, (cj_R σ7 200 a10) = some a13 ∧ (cj_T σ7 a13 = 26 ∧ (vp_in x2 (cj_N σ7 a13) ∧ (∃ a17, (cj_B σ7 a13 x2.toNatClampNeg) = some a17 ∧ (cj_T σ7 a17 = 6 ∧ cs_L_givenOf E σ7 x0 x2 (fun r20 σ21 => cs_J_bitCount E σ21 r20 (fun r22 σ23 => cg_L_dangling_4 E σ23 x0 (x1 + ((cj_F σ7 603 a17) - r22)) (x2 + (1 : Int32)) P))))))))))))))))))) : cg_L_dangling_4 E σ x0 x1 x2 P := by
  intro d hd p e s m args below meth c hcx H locs ls hW hS hl
  have hx := hcx.1
  have hb := hcx.2.1
  have hown := hcx.2.2.2.2.2.1
  have hts := hcx.2.2.2.2.2.2.1
  refine lv_iload_n (pc := 4) hx hb dX1_dangling_4 rfl (lv_at hl 2 rfl) ?_
  refine lv_aload_n (pc := 5) hx hb dX1_dangling_5 rfl (lv_at hl 0 rfl) ?_
  obtain ⟨g1, h⟩ := h
  refine cj_fld (pc := 6) hcx hW 0 g1 (by decide) rfl in_X1 7 (by decide) (by decide) q284 dX1_dangling_6 (v := .int (cj_F σ 107 x0)) rfl ?_
  refine lv_icmp_ge (pc := 9) (tgt := 60) hx hb dX1_dangling_9 (by decide) (fun c2 => ?_) (fun c2 => ?_)
  · have h := h.1 c2
    refine lv_iload_n (pc := 60) hx hb dX1_dangling_60 rfl (lv_at hl 1 rfl) ?_
    exact cj_reti (pc := 61) hcx hW hS rfl h (Nat.le_refl _) (Nat.le_refl _) dX1_dangling_61
  · have h := h.2 c2
    refine lv_iload_n (pc := 12) hx hb dX1_dangling_12 rfl (lv_at hl 1 rfl) ?_
    refine lv_aload_n (pc := 13) hx hb dX1_dangling_13 rfl (lv_at hl 0 rfl) ?_
    refine cj_fld (pc := 14) hcx hW 0 g1 (by decide) rfl in_X1 9 (by decide) (by decide) q286 dX1_dangling_14 (v := va_rf (cj_R σ 109 x0)) rfl ?_
    obtain ⟨a3, e4, h⟩ := h
    refine cj_stk (st' := [.ref a3, .int x1]) (by rw [e4]; rfl) ?_
    obtain ⟨g5, h⟩ := h
    refine cj_fldN (pc := 17) hcx hW 1 g5 (by decide) rfl in_X2 2 (by decide) (by decide) (List.mem_of_getElem? (i := 2) rfl) dX1_dangling_17 (v := .int (cj_F σ 202 a3)) rfl ?_
    refine lv_iload_n (pc := 20) hx hb dX1_dangling_20 rfl (lv_at hl 2 rfl) ?_
    refine cj_xi (pc := 21) (cj_runS hcx hW hS [.int (cj_F σ 202 a3), .int x2] h (Nat.le_trans (by decide) hd) (lw_S q993 q387 q122 q388) yd_L_has (by decide) rfl rfl (Nat.le_of_ble_eq_true rfl) hl.1 (Nat.le_refl _) (Nat.le_refl _) dX1_dangling_21) hS (fun r6 σ7 h H locs hW hS => ?_)
    refine lv_if_eq (pc := 24) (tgt := 51) hx hb dX1_dangling_24 (by decide) (fun c8 => ?_) (fun c8 => ?_)
    · have h := h.1 c8
      refine lv_iconst (pc := 51) (v := (0 : Int32)) hx hb dX1_dangling_51 (by decide) ?_
      refine lv_iadd (pc := 52) hx hb dX1_dangling_52 ?_
      refine lv_istore_n (pc := 53) (lv' := [(1, .int (x1 + (0 : Int32))), (0, .ref x0), (2, .int x2)]) hx hb dX1_dangling_53 rfl hl (by decide) rfl (fun ls hl => ?_)
      refine lv_iinc (pc := 54) (v := (x2 + (1 : Int32))) (lv' := [(2, .int (x2 + (1 : Int32))), (1, .int (x1 + (0 : Int32))), (0, .ref x0)]) hx hb dX1_dangling_54 hl (k := 2) rfl rfl (by decide) rfl (fun ls hl => ?_)
      refine lv_goto (pc := 57) (tgt := 4) hx hb dX1_dangling_57 (by decide) ?_
      exact h d hd p e s m args below meth c hcx H locs _ hW hS (lv_sub hl [2, 1, 0] rfl)
    · have h := h.2 c8
      refine lv_aload_n (pc := 27) hx hb dX1_dangling_27 rfl (lv_at hl 0 rfl) ?_
      obtain ⟨g9, h⟩ := h
      refine cj_fld (pc := 28) hcx hW 0 g9 (by decide) rfl in_X1 9 (by decide) (by decide) q286 dX1_dangling_28 (v := va_rf (cj_R σ7 109 x0)) rfl ?_
      obtain ⟨a10, e11, h⟩ := h
      refine cj_stk (st' := [.ref a10, .int x1]) (by rw [e11]; rfl) ?_
      obtain ⟨g12, h⟩ := h
      refine cj_fldN (pc := 31) hcx hW 1 g12 (by decide) rfl in_X2 0 (by decide) (by decide) (List.mem_of_getElem? (i := 0) rfl) dX1_dangling_31 (v := va_rf (cj_R σ7 200 a10)) rfl ?_
      refine lv_iload_n (pc := 34) hx hb dX1_dangling_34 rfl (lv_at hl 2 rfl) ?_
      obtain ⟨a13, e14, h⟩ := h
      refine cj_stk (st' := [.int x2, .ref a13, .int x1]) (by rw [e14]; rfl) ?_
      obtain ⟨g15, h⟩ := h
      obtain ⟨g16, h⟩ := h
      refine cj_aald (pc := 35) hcx hW g15 (by unfold cj_rt; decide) g16 dX1_dangling_35 ?_
      obtain ⟨a17, e18, h⟩ := h
      refine cj_stk (st' := [.ref a17, .int x1]) (by rw [e18]; rfl) ?_
      obtain ⟨g19, h⟩ := h
      refine cj_fldN (pc := 36) hcx hW 5 g19 (by decide) rfl in_X7 3 (by decide) (by decide) (List.mem_of_getElem? (i := 13) rfl) dX1_dangling_36 (v := .int (cj_F σ7 603 a17)) rfl ?_
      refine lv_aload_n (pc := 39) hx hb dX1_dangling_39 rfl (lv_at hl 0 rfl) ?_
      refine lv_iload_n (pc := 40) hx hb dX1_dangling_40 rfl (lv_at hl 2 rfl) ?_
      refine cj_xi (pc := 41) (cj_runV hcx hW hS 0 g9 (by decide) rfl [.int x2] h (Nat.le_trans (by decide) hd) (lw_V q1018 q1020 qs34 q122 q1021) rfl yd_L_givenOf (by decide) rfl rfl (Nat.le_of_ble_eq_true rfl) hl.1 (Nat.le_refl _) (Nat.le_refl _) dX1_dangling_41) hS (fun r20 σ21 h H locs hW hS => ?_)
      refine cj_xi (pc := 44) (cj_runS hcx hW hS [.int r20] h (Nat.le_trans (by decide) hd) (lw_S q1186 q1187 q149 q1188) yd_J_bitCount (by decide) rfl rfl (Nat.le_of_ble_eq_true rfl) hl.1 (Nat.le_refl _) (Nat.le_refl _) dX1_dangling_44) hS (fun r22 σ23 h H locs hW hS => ?_)
      refine lv_isub (pc := 47) hx hb dX1_dangling_47 ?_
      refine lv_goto (pc := 48) (tgt := 52) hx hb dX1_dangling_48 (by decide) ?_
      refine lv_iadd (pc := 52) hx hb dX1_dangling_52 ?_
      refine lv_istore_n (pc := 53) (lv' := [(1, .int (x1 + ((cj_F σ7 603 a17) - r22))), (0, .ref x0), (2, .int x2)]) hx hb dX1_dangling_53 rfl hl (by decide) rfl (fun ls hl => ?_)
      refine lv_iinc (pc := 54) (v := (x2 + (1 : Int32))) (lv' := [(2, .int (x2 + (1 : Int32))), (1, .int (x1 + ((cj_F σ7 603 a17) - r22))), (0, .ref x0)]) hx hb dX1_dangling_54 hl (k := 2) rfl rfl (by decide) rfl (fun ls hl => ?_)
      refine lv_goto (pc := 57) (tgt := 4) hx hb dX1_dangling_57 (by decide) ?_
      exact h d hd p e s m args below meth c hcx H locs _ hW hS (lv_sub hl [2, 1, 0] rfl)
set_option maxHeartbeats 4000000 in
set_option maxRecDepth 100000 in
theorem cb_L_dangling {E : cj_E} {σ : cj_S} {x0 : Nat} {P : Int32 → cj_S → Prop} (h : cg_L_dangling_4 E σ x0 (0 : Int32) (0 : Int32) P) : cs_L_dangling E σ x0 P :=
  cj_enter (k := 25) (lv := [(0, .ref x0)]) (by decide) (Nat.le_of_ble_eq_true rfl) rfl (by
    intro d hd p e s m args below meth c hcx H locs ls hW hS hl
    have hx := hcx.1
    have hb := hcx.2.1
    have hown := hcx.2.2.2.2.2.1
    have hts := hcx.2.2.2.2.2.2.1
    refine lv_iconst (pc := 0) (v := (0 : Int32)) hx hb dX1_dangling_0 (by decide) ?_
    refine lv_istore_n (pc := 1) (lv' := [(1, .int (0 : Int32)), (0, .ref x0)]) hx hb dX1_dangling_1 rfl hl (by decide) rfl (fun ls hl => ?_)
    refine lv_iconst (pc := 2) (v := (0 : Int32)) hx hb dX1_dangling_2 (by decide) ?_
    refine lv_istore_n (pc := 3) (lv' := [(2, .int (0 : Int32)), (1, .int (0 : Int32)), (0, .ref x0)]) hx hb dX1_dangling_3 rfl hl (by decide) rfl (fun ls hl => ?_)
    exact h d hd p e s m args below meth c hcx H locs _ hW hS (lv_sub hl [2, 1, 0] rfl))
/-! L_given -/
set_option maxHeartbeats 4000000 in
set_option maxRecDepth 100000 in
theorem cb_L_given {E : cj_E} {σ : cj_S} {x0 : Nat} {x1 : Int32} {P : Int32 → cj_S → Prop} (h : (cj_T σ x0 = 1 ∧ cs_L_isTable E σ x0 x1 (fun r1 σ2 => ((r1 = 0 → P (-1 : Int32) σ2) ∧ (¬ r1 = 0 → (cj_T σ2 x0 = 1 ∧ cs_L_givenOf E σ2 x0 x1 (fun r5 σ6 => P r5 σ6))))))) : cs_L_given E σ x0 x1 P :=
  cj_enter (k := 25) (lv := [(0, .ref x0), (1, .int x1)]) (by decide) (Nat.le_of_ble_eq_true rfl) rfl (by
    intro d hd p e s m args below meth c hcx H locs ls hW hS hl
    have hx := hcx.1
    have hb := hcx.2.1
    have hown := hcx.2.2.2.2.2.1
    have hts := hcx.2.2.2.2.2.2.1
    refine lv_aload_n (pc := 0) hx hb dX1_given_0 rfl (lv_at hl 0 rfl) ?_
    refine lv_iload_n (pc := 1) hx hb dX1_given_1 rfl (lv_at hl 1 rfl) ?_
    obtain ⟨g3, h⟩ := h
    refine cj_xi (pc := 2) (cj_runV hcx hW hS 0 g3 (by decide) rfl [.int x1] h (Nat.le_trans (by decide) hd) (lw_V q976 q978 qs32 q122 q979) rfl yd_L_isTable (by decide) rfl rfl (Nat.le_of_ble_eq_true rfl) hl.1 (Nat.le_refl _) (Nat.le_refl _) dX1_given_2) hS (fun r1 σ2 h H locs hW hS => ?_)
    refine lv_if_eq (pc := 5) (tgt := 16) hx hb dX1_given_5 (by decide) (fun c4 => ?_) (fun c4 => ?_)
    · have h := h.1 c4
      refine lv_iconst (pc := 16) (v := (-1 : Int32)) hx hb dX1_given_16 (by decide) ?_
      exact cj_reti (pc := 17) hcx hW hS rfl h (Nat.le_refl _) (Nat.le_refl _) dX1_given_17
    · have h := h.2 c4
      refine lv_aload_n (pc := 8) hx hb dX1_given_8 rfl (lv_at hl 0 rfl) ?_
      refine lv_iload_n (pc := 9) hx hb dX1_given_9 rfl (lv_at hl 1 rfl) ?_
      obtain ⟨g7, h⟩ := h
      refine cj_xi (pc := 10) (cj_runV hcx hW hS 0 g7 (by decide) rfl [.int x1] h (Nat.le_trans (by decide) hd) (lw_V q1018 q1020 qs34 q122 q1021) rfl yd_L_givenOf (by decide) rfl rfl (Nat.le_of_ble_eq_true rfl) hl.1 (Nat.le_refl _) (Nat.le_refl _) dX1_given_10) hS (fun r5 σ6 h H locs hW hS => ?_)
      refine lv_goto (pc := 13) (tgt := 17) hx hb dX1_given_13 (by decide) ?_
      exact cj_reti (pc := 17) hcx hW hS rfl h (Nat.le_refl _) (Nat.le_refl _) dX1_given_17)
/-! L_greatestTable -/
set_option maxHeartbeats 4000000 in
set_option maxRecDepth 100000 in
theorem cb_L_greatestTable_4 {E : cj_E} {σ : cj_S} {x0 : Nat} {x1 : Int32} {x2 : Int32} {x3 : Int32} {P : Int32 → cj_S → Prop} (h : (cj_T σ x0 = 1 ∧ (((cj_F σ 107 x0) ≤ x3 → P x2 σ) ∧ (¬ (cj_F σ 107 x0) ≤ x3 → ((x1 = 0 → (∃ a4, (cj_R σ 109 x0) = some a4 ∧ (cj_T σ a4 = 2 ∧ (∃ a7, (cj_R σ 200 a4) = some a7 ∧ (cj_T σ a7 = 26 ∧ (vp_in x3 (cj_N σ a7) ∧ (∃ a11, (cj_B σ a7 x3.toNatClampNeg) = some a11 ∧ (cj_T σ a11 = 6 ∧ (vp_in x2 (cj_N σ a7) ∧ (∃ a15, (cj_B σ a7 x2.toNatClampNeg) = some a15 ∧ (cj_T σ a15 = 6 ∧ ((((cj_F σ 603 a11) - (cj_F σ 603 a15)) ≤ 0 → cg_L_greatestTable_4 E σ x0 x1 x2 (x3 + (1 : Int32)) P) ∧ (¬ ((cj_F σ 603 a11) - (cj_F σ 603 a15)) ≤ 0 → cg_L_greatestTable_4 E σ x0 x1 x3 (x3 + (1 : Int32)) P))))))))))))) ∧ (¬ x1 = 0 → cs_L_givenOf E σ x0 x3 (fun r19 σ20 => cs_J_bitCount E σ20 r19 (fun r21 σ22 => (cj_T σ22 x0 = 1 ∧ cs_L_givenOf E σ22 x0 x2 (fun r23 σ24 => cs_J_bitCount E σ24 r23 (fun r26 σ27 => (((r21 - r26) ≤ 0 → cg_L_greatestTable_4 E σ27 x0 x1 x2 (x3 + (1 : Int32)) P) ∧ (¬ (r21 - r26) ≤ 0 → cg_L_greatestTable_4 E σ27 x0 x1 x3 (x3 + (1 : Int32)) P))))))))))))) : cg_L_greatestTable_4 E σ x0 x1 x2 x3 P := by
  intro d hd p e s m args below meth c hcx H locs ls hW hS hl
  have hx := hcx.1
  have hb := hcx.2.1
  have hown := hcx.2.2.2.2.2.1
  have hts := hcx.2.2.2.2.2.2.1
  refine lv_iload_n (pc := 4) hx hb dX1_greatestTable_4 rfl (lv_at hl 3 rfl) ?_
  refine lv_aload_n (pc := 5) hx hb dX1_greatestTable_5 rfl (lv_at hl 0 rfl) ?_
  obtain ⟨g1, h⟩ := h
  refine cj_fld (pc := 6) hcx hW 0 g1 (by decide) rfl in_X1 7 (by decide) (by decide) q284 dX1_greatestTable_6 (v := .int (cj_F σ 107 x0)) rfl ?_
  refine lv_icmp_ge (pc := 9) (tgt := 76) hx hb dX1_greatestTable_9 (by decide) (fun c2 => ?_) (fun c2 => ?_)
  · have h := h.1 c2
    refine lv_iload_n (pc := 76) hx hb dX1_greatestTable_76 rfl (lv_at hl 2 rfl) ?_
    exact cj_reti (pc := 77) hcx hW hS rfl h (Nat.le_refl _) (Nat.le_refl _) dX1_greatestTable_77
  · have h := h.2 c2
    refine lv_iload_n (pc := 12) hx hb dX1_greatestTable_12 rfl (lv_at hl 1 rfl) ?_
    refine lv_if_eq (pc := 13) (tgt := 36) hx hb dX1_greatestTable_13 (by decide) (fun c3 => ?_) (fun c3 => ?_)
    · have h := h.1 c3
      refine lv_aload_n (pc := 36) hx hb dX1_greatestTable_36 rfl (lv_at hl 0 rfl) ?_
      refine cj_fld (pc := 37) hcx hW 0 g1 (by decide) rfl in_X1 9 (by decide) (by decide) q286 dX1_greatestTable_37 (v := va_rf (cj_R σ 109 x0)) rfl ?_
      obtain ⟨a4, e5, h⟩ := h
      refine cj_stk (st' := [.ref a4]) (by rw [e5]; rfl) ?_
      obtain ⟨g6, h⟩ := h
      refine cj_fldN (pc := 40) hcx hW 1 g6 (by decide) rfl in_X2 0 (by decide) (by decide) (List.mem_of_getElem? (i := 0) rfl) dX1_greatestTable_40 (v := va_rf (cj_R σ 200 a4)) rfl ?_
      refine lv_iload_n (pc := 43) hx hb dX1_greatestTable_43 rfl (lv_at hl 3 rfl) ?_
      obtain ⟨a7, e8, h⟩ := h
      refine cj_stk (st' := [.int x3, .ref a7]) (by rw [e8]; rfl) ?_
      obtain ⟨g9, h⟩ := h
      obtain ⟨g10, h⟩ := h
      refine cj_aald (pc := 44) hcx hW g9 (by unfold cj_rt; decide) g10 dX1_greatestTable_44 ?_
      obtain ⟨a11, e12, h⟩ := h
      refine cj_stk (st' := [.ref a11]) (by rw [e12]; rfl) ?_
      obtain ⟨g13, h⟩ := h
      refine cj_fldN (pc := 45) hcx hW 5 g13 (by decide) rfl in_X7 3 (by decide) (by decide) (List.mem_of_getElem? (i := 13) rfl) dX1_greatestTable_45 (v := .int (cj_F σ 603 a11)) rfl ?_
      refine lv_aload_n (pc := 48) hx hb dX1_greatestTable_48 rfl (lv_at hl 0 rfl) ?_
      refine cj_fld (pc := 49) hcx hW 0 g1 (by decide) rfl in_X1 9 (by decide) (by decide) q286 dX1_greatestTable_49 (v := va_rf (cj_R σ 109 x0)) rfl ?_
      refine cj_stk (st' := [.ref a4, .int (cj_F σ 603 a11)]) (by rw [e5]; rfl) ?_
      refine cj_fldN (pc := 52) hcx hW 1 g6 (by decide) rfl in_X2 0 (by decide) (by decide) (List.mem_of_getElem? (i := 0) rfl) dX1_greatestTable_52 (v := va_rf (cj_R σ 200 a4)) rfl ?_
      refine lv_iload_n (pc := 55) hx hb dX1_greatestTable_55 rfl (lv_at hl 2 rfl) ?_
      refine cj_stk (st' := [.int x2, .ref a7, .int (cj_F σ 603 a11)]) (by rw [e8]; rfl) ?_
      obtain ⟨g14, h⟩ := h
      refine cj_aald (pc := 56) hcx hW g9 (by unfold cj_rt; decide) g14 dX1_greatestTable_56 ?_
      obtain ⟨a15, e16, h⟩ := h
      refine cj_stk (st' := [.ref a15, .int (cj_F σ 603 a11)]) (by rw [e16]; rfl) ?_
      obtain ⟨g17, h⟩ := h
      refine cj_fldN (pc := 57) hcx hW 5 g17 (by decide) rfl in_X7 3 (by decide) (by decide) (List.mem_of_getElem? (i := 13) rfl) dX1_greatestTable_57 (v := .int (cj_F σ 603 a15)) rfl ?_
      refine lv_isub (pc := 60) hx hb dX1_greatestTable_60 ?_
      refine lv_istore (pc := 61) (lv' := [(4, .int ((cj_F σ 603 a11) - (cj_F σ 603 a15))), (0, .ref x0), (1, .int x1), (2, .int x2), (3, .int x3)]) hx hb dX1_greatestTable_61 hl (by decide) rfl (fun ls hl => ?_)
      refine lv_iload (pc := 63) hx hb dX1_greatestTable_63 (lv_at hl 0 rfl) ?_
      refine lv_if_le (pc := 65) (tgt := 70) hx hb dX1_greatestTable_65 (by decide) (fun c18 => ?_) (fun c18 => ?_)
      · have h := h.1 c18
        refine lv_iinc (pc := 70) (v := (x3 + (1 : Int32))) (lv' := [(3, .int (x3 + (1 : Int32))), (4, .int ((cj_F σ 603 a11) - (cj_F σ 603 a15))), (0, .ref x0), (1, .int x1), (2, .int x2)]) hx hb dX1_greatestTable_70 hl (k := 4) rfl rfl (by decide) rfl (fun ls hl => ?_)
        refine lv_goto (pc := 73) (tgt := 4) hx hb dX1_greatestTable_73 (by decide) ?_
        exact h d hd p e s m args below meth c hcx H locs _ hW hS (lv_sub hl [2, 3, 4, 0] rfl)
      · have h := h.2 c18
        refine lv_iload_n (pc := 68) hx hb dX1_greatestTable_68 rfl (lv_at hl 4 rfl) ?_
        refine lv_istore_n (pc := 69) (lv' := [(2, .int x3), (4, .int ((cj_F σ 603 a11) - (cj_F σ 603 a15))), (0, .ref x0), (1, .int x1), (3, .int x3)]) hx hb dX1_greatestTable_69 rfl hl (by decide) rfl (fun ls hl => ?_)
        refine lv_iinc (pc := 70) (v := (x3 + (1 : Int32))) (lv' := [(3, .int (x3 + (1 : Int32))), (2, .int x3), (4, .int ((cj_F σ 603 a11) - (cj_F σ 603 a15))), (0, .ref x0), (1, .int x1)]) hx hb dX1_greatestTable_70 hl (k := 4) rfl rfl (by decide) rfl (fun ls hl => ?_)
        refine lv_goto (pc := 73) (tgt := 4) hx hb dX1_greatestTable_73 (by decide) ?_
        exact h d hd p e s m args below meth c hcx H locs _ hW hS (lv_sub hl [3, 4, 1, 0] rfl)
    · have h := h.2 c3
      refine lv_aload_n (pc := 16) hx hb dX1_greatestTable_16 rfl (lv_at hl 0 rfl) ?_
      refine lv_iload_n (pc := 17) hx hb dX1_greatestTable_17 rfl (lv_at hl 3 rfl) ?_
      refine cj_xi (pc := 18) (cj_runV hcx hW hS 0 g1 (by decide) rfl [.int x3] h (Nat.le_trans (by decide) hd) (lw_V q1018 q1020 qs34 q122 q1021) rfl yd_L_givenOf (by decide) rfl rfl (Nat.le_of_ble_eq_true rfl) hl.1 (Nat.le_refl _) (Nat.le_refl _) dX1_greatestTable_18) hS (fun r19 σ20 h H locs hW hS => ?_)
      refine cj_xi (pc := 21) (cj_runS hcx hW hS [.int r19] h (Nat.le_trans (by decide) hd) (lw_S q1186 q1187 q149 q1188) yd_J_bitCount (by decide) rfl rfl (Nat.le_of_ble_eq_true rfl) hl.1 (Nat.le_refl _) (Nat.le_refl _) dX1_greatestTable_21) hS (fun r21 σ22 h H locs hW hS => ?_)
      refine lv_aload_n (pc := 24) hx hb dX1_greatestTable_24 rfl (lv_at hl 0 rfl) ?_
      refine lv_iload_n (pc := 25) hx hb dX1_greatestTable_25 rfl (lv_at hl 2 rfl) ?_
      obtain ⟨g25, h⟩ := h
      refine cj_xi (pc := 26) (cj_runV hcx hW hS 0 g25 (by decide) rfl [.int x2] h (Nat.le_trans (by decide) hd) (lw_V q1018 q1020 qs34 q122 q1021) rfl yd_L_givenOf (by decide) rfl rfl (Nat.le_of_ble_eq_true rfl) hl.1 (Nat.le_refl _) (Nat.le_refl _) dX1_greatestTable_26) hS (fun r23 σ24 h H locs hW hS => ?_)
      refine cj_xi (pc := 29) (cj_runS hcx hW hS [.int r23] h (Nat.le_trans (by decide) hd) (lw_S q1186 q1187 q149 q1188) yd_J_bitCount (by decide) rfl rfl (Nat.le_of_ble_eq_true rfl) hl.1 (Nat.le_refl _) (Nat.le_refl _) dX1_greatestTable_29) hS (fun r26 σ27 h H locs hW hS => ?_)
      refine lv_isub (pc := 32) hx hb dX1_greatestTable_32 ?_
      refine lv_goto (pc := 33) (tgt := 61) hx hb dX1_greatestTable_33 (by decide) ?_
      refine lv_istore (pc := 61) (lv' := [(4, .int (r21 - r26)), (0, .ref x0), (1, .int x1), (2, .int x2), (3, .int x3)]) hx hb dX1_greatestTable_61 hl (by decide) rfl (fun ls hl => ?_)
      refine lv_iload (pc := 63) hx hb dX1_greatestTable_63 (lv_at hl 0 rfl) ?_
      refine lv_if_le (pc := 65) (tgt := 70) hx hb dX1_greatestTable_65 (by decide) (fun c28 => ?_) (fun c28 => ?_)
      · have h := h.1 c28
        refine lv_iinc (pc := 70) (v := (x3 + (1 : Int32))) (lv' := [(3, .int (x3 + (1 : Int32))), (4, .int (r21 - r26)), (0, .ref x0), (1, .int x1), (2, .int x2)]) hx hb dX1_greatestTable_70 hl (k := 4) rfl rfl (by decide) rfl (fun ls hl => ?_)
        refine lv_goto (pc := 73) (tgt := 4) hx hb dX1_greatestTable_73 (by decide) ?_
        exact h d hd p e s m args below meth c hcx H locs _ hW hS (lv_sub hl [2, 3, 4, 0] rfl)
      · have h := h.2 c28
        refine lv_iload_n (pc := 68) hx hb dX1_greatestTable_68 rfl (lv_at hl 4 rfl) ?_
        refine lv_istore_n (pc := 69) (lv' := [(2, .int x3), (4, .int (r21 - r26)), (0, .ref x0), (1, .int x1), (3, .int x3)]) hx hb dX1_greatestTable_69 rfl hl (by decide) rfl (fun ls hl => ?_)
        refine lv_iinc (pc := 70) (v := (x3 + (1 : Int32))) (lv' := [(3, .int (x3 + (1 : Int32))), (2, .int x3), (4, .int (r21 - r26)), (0, .ref x0), (1, .int x1)]) hx hb dX1_greatestTable_70 hl (k := 4) rfl rfl (by decide) rfl (fun ls hl => ?_)
        refine lv_goto (pc := 73) (tgt := 4) hx hb dX1_greatestTable_73 (by decide) ?_
        exact h d hd p e s m args below meth c hcx H locs _ hW hS (lv_sub hl [3, 4, 1, 0] rfl)
set_option maxHeartbeats 4000000 in
set_option maxRecDepth 100000 in
theorem cb_L_greatestTable {E : cj_E} {σ : cj_S} {x0 : Nat} {x1 : Int32} {P : Int32 → cj_S → Prop} (h : cg_L_greatestTable_4 E σ x0 x1 (0 : Int32) (1 : Int32) P) : cs_L_greatestTable E σ x0 x1 P :=
  cj_enter (k := 25) (lv := [(0, .ref x0), (1, .int x1)]) (by decide) (Nat.le_of_ble_eq_true rfl) rfl (by
    intro d hd p e s m args below meth c hcx H locs ls hW hS hl
    have hx := hcx.1
    have hb := hcx.2.1
    have hown := hcx.2.2.2.2.2.1
    have hts := hcx.2.2.2.2.2.2.1
    refine lv_iconst (pc := 0) (v := (0 : Int32)) hx hb dX1_greatestTable_0 (by decide) ?_
    refine lv_istore_n (pc := 1) (lv' := [(2, .int (0 : Int32)), (0, .ref x0), (1, .int x1)]) hx hb dX1_greatestTable_1 rfl hl (by decide) rfl (fun ls hl => ?_)
    refine lv_iconst (pc := 2) (v := (1 : Int32)) hx hb dX1_greatestTable_2 (by decide) ?_
    refine lv_istore_n (pc := 3) (lv' := [(3, .int (1 : Int32)), (2, .int (0 : Int32)), (0, .ref x0), (1, .int x1)]) hx hb dX1_greatestTable_3 rfl hl (by decide) rfl (fun ls hl => ?_)
    exact h d hd p e s m args below meth c hcx H locs _ hW hS (lv_sub hl [2, 3, 1, 0] rfl))
/-! L_happens -/
set_option maxHeartbeats 4000000 in
set_option maxRecDepth 100000 in
theorem cb_L_happens_182 {E : cj_E} {σ : cj_S} {x0 : Nat} {x2 : Int32} {x3 : Option Nat} {x4 : Int32} {t0 : Int32} {cu : Nat} {su : Nat} {P : Int32 → cj_S → Prop} (h : (∃ a1, x3 = some a1 ∧ (cj_T σ a1 = 6 ∧ (∃ a4, (cj_R σ 600 a1) = some a4 ∧ (cj_T σ a4 = 21 ∧ (((nI (cj_N σ a4)) ≤ (2 : Int32) → (cu + 11 ≤ 11 ∧ (su + 263 ≤ 263 ∧ (cj_T σ x0 = 1 ∧ cs_L_acts E σ x0 (0 : Int32) x2 x4 t0 (-1 : Int32) (fun r10 σ11 => ((cu + 11) ≤ 11 ∧ ((su + 263) ≤ 263 ∧ P r10 σ11))))))) ∧ (¬ (nI (cj_N σ a4)) ≤ (2 : Int32) → (cu ≤ 11 ∧ (su ≤ 263 ∧ (cj_T σ x0 = 1 ∧ cs_L_draw E σ x0 (6 : Int32) (fun r17 σ18 => ((cu + 0) + 11 ≤ 11 ∧ ((su + 0) + 263 ≤ 263 ∧ (cj_T σ18 x0 = 1 ∧ cs_L_acts E σ18 x0 (0 : Int32) x2 x4 t0 r17 (fun r22 σ23 => (((cu + 0) + 11) ≤ 11 ∧ (((su + 0) + 263) ≤ 263 ∧ P r22 σ23))))))))))))))))) : cg_L_happens_182 E σ x0 x2 x3 x4 t0 cu su P := by
  intro d hd p e s m args below meth c hcx H locs ls hW hS hl
  have hx := hcx.1
  have hb := hcx.2.1
  have hown := hcx.2.2.2.2.2.1
  have hts := hcx.2.2.2.2.2.2.1
  refine lv_istore (pc := 182) (lv' := [(5, .int t0), (0, .ref x0), (2, .int x2), (3, va_rf x3), (4, .int x4)]) hx hb dX1_happens_182 hl (by decide) rfl (fun ls hl => ?_)
  refine lv_aload_n (pc := 184) hx hb dX1_happens_184 rfl (lv_at hl 1 rfl) ?_
  refine lv_iconst (pc := 185) (v := (0 : Int32)) hx hb dX1_happens_185 (by decide) ?_
  refine lv_iload_n (pc := 186) hx hb dX1_happens_186 rfl (lv_at hl 2 rfl) ?_
  refine lv_iload (pc := 187) hx hb dX1_happens_187 (lv_at hl 4 rfl) ?_
  refine lv_iload (pc := 189) hx hb dX1_happens_189 (lv_at hl 0 rfl) ?_
  refine cj_aload_n (pc := 191) hx hb dX1_happens_191 rfl (lv_at hl 3 rfl) ?_
  obtain ⟨a1, e2, h⟩ := h
  refine cj_stk (st' := [.ref a1, .int t0, .int x4, .int x2, .int (0 : Int32), .ref x0]) (by rw [e2]; rfl) ?_
  obtain ⟨g3, h⟩ := h
  refine cj_fldN (pc := 192) hcx hW 5 g3 (by decide) rfl in_X7 0 (by decide) (by decide) (List.mem_of_getElem? (i := 11) rfl) dX1_happens_192 (v := va_rf (cj_R σ 600 a1)) rfl ?_
  obtain ⟨a4, e5, h⟩ := h
  refine cj_stk (st' := [.ref a4, .int t0, .int x4, .int x2, .int (0 : Int32), .ref x0]) (by rw [e5]; rfl) ?_
  obtain ⟨g6, h⟩ := h
  refine cj_alen (pc := 195) hcx hW g6 (by unfold cj_at_ cj_rt; decide) dX1_happens_195 ?_
  refine lv_iconst (pc := 196) (v := (2 : Int32)) hx hb dX1_happens_196 (by decide) ?_
  refine lv_icmp_le (pc := 197) (tgt := 209) hx hb dX1_happens_197 (by decide) (fun c7 => ?_) (fun c7 => ?_)
  · have h := h.1 c7
    refine lv_iconst (pc := 209) (v := (-1 : Int32)) hx hb dX1_happens_209 (by decide) ?_
    obtain ⟨g8, h⟩ := h
    obtain ⟨g9, h⟩ := h
    obtain ⟨g12, h⟩ := h
    refine cj_xi (pc := 210) (cj_runV hcx hW hS 0 g12 (by decide) rfl [.int (0 : Int32), .int x2, .int x4, .int t0, .int (-1 : Int32)] h (Nat.le_trans (by decide) hd) (lw_V q745 q747 qs15 q122 q748) rfl yd_L_acts (by decide) rfl rfl (Nat.le_of_ble_eq_true rfl) hl.1 g8 g9 dX1_happens_210) hS (fun r10 σ11 h H locs hW hS => ?_)
    obtain ⟨g13, h⟩ := h
    obtain ⟨g14, h⟩ := h
    exact cj_reti (pc := 213) hcx hW hS rfl h g13 g14 dX1_happens_213
  · have h := h.2 c7
    refine lv_aload_n (pc := 200) hx hb dX1_happens_200 rfl (lv_at hl 1 rfl) ?_
    refine lv_bipush (pc := 201) (v := (6 : Int32)) hx hb dX1_happens_201 (by decide) ?_
    obtain ⟨g15, h⟩ := h
    obtain ⟨g16, h⟩ := h
    obtain ⟨g19, h⟩ := h
    refine cj_xi (pc := 203) (cj_runV hcx hW hS 0 g19 (by decide) rfl [.int (6 : Int32)] h (Nat.le_trans (by decide) hd) (lw_V q956 q958 qs31 q122 q959) rfl yd_L_draw (by decide) rfl rfl (Nat.le_of_ble_eq_true rfl) hl.1 g15 g16 dX1_happens_203) hS (fun r17 σ18 h H locs hW hS => ?_)
    refine lv_goto (pc := 206) (tgt := 210) hx hb dX1_happens_206 (by decide) ?_
    obtain ⟨g20, h⟩ := h
    obtain ⟨g21, h⟩ := h
    obtain ⟨g24, h⟩ := h
    refine cj_xi (pc := 210) (cj_runV hcx hW hS 0 g24 (by decide) rfl [.int (0 : Int32), .int x2, .int x4, .int t0, .int r17] h (Nat.le_trans (by decide) hd) (lw_V q745 q747 qs15 q122 q748) rfl yd_L_acts (by decide) rfl rfl (Nat.le_of_ble_eq_true rfl) hl.1 g20 g21 dX1_happens_210) hS (fun r22 σ23 h H locs hW hS => ?_)
    obtain ⟨g25, h⟩ := h
    obtain ⟨g26, h⟩ := h
    exact cj_reti (pc := 213) hcx hW hS rfl h g25 g26 dX1_happens_213
set_option maxHeartbeats 4000000 in
set_option maxRecDepth 100000 in
theorem cb_L_happens_123 {E : cj_E} {σ : cj_S} {x3 : Option Nat} {x4 : Int32} {t0 : Int32} {t1 : Int32} {t2 : Int32} {t3 : Int32} {t4 : Option Nat} {cu : Nat} {su : Nat} {P : Int32 → cj_S → Prop} (h : (∃ a1, x3 = some a1 ∧ (cj_T σ a1 = 6 ∧ (∃ a4, (cj_R σ 600 a1) = some a4 ∧ (cj_T σ a4 = 21 ∧ (((nI (cj_N σ a4)) ≤ (2 : Int32) → (∃ a8, t4 = some a8 ∧ (cu + 11 ≤ 11 ∧ (su + 263 ≤ 263 ∧ (cj_T σ a8 = 1 ∧ cs_L_acts E σ a8 t3 t2 t1 t0 (-1 : Int32) (fun r12 σ13 => ((cu + 11) ≤ 11 ∧ ((su + 263) ≤ 263 ∧ P r12 σ13)))))))) ∧ (¬ (nI (cj_N σ a4)) ≤ (2 : Int32) → (∃ a17, (cj_R σ 601 a1) = some a17 ∧ (cj_rt (cj_T σ a17) ∧ (vp_in x4 (cj_N σ a17) ∧ (∃ a21, (cj_B σ a17 x4.toNatClampNeg) = some a21 ∧ (cu ≤ 11 ∧ (su ≤ 263 ∧ cs_Rw_at E σ a21 (2 : Int32) (fun r25 σ26 => (∃ a27, t4 = some a27 ∧ ((cu + 0) + 11 ≤ 11 ∧ ((su + 0) + 263 ≤ 263 ∧ (cj_T σ26 a27 = 1 ∧ cs_L_acts E σ26 a27 t3 t2 t1 t0 r25 (fun r31 σ32 => (((cu + 0) + 11) ≤ 11 ∧ (((su + 0) + 263) ≤ 263 ∧ P r31 σ32))))))))))))))))))))) : cg_L_happens_123 E σ x3 x4 t0 t1 t2 t3 t4 cu su P := by
  intro d hd p e s m args below meth c hcx H locs ls hW hS hl
  have hx := hcx.1
  have hb := hcx.2.1
  have hown := hcx.2.2.2.2.2.1
  have hts := hcx.2.2.2.2.2.2.1
  refine cj_aload_n (pc := 123) hx hb dX1_happens_123 rfl (lv_at hl 0 rfl) ?_
  obtain ⟨a1, e2, h⟩ := h
  refine cj_stk (st' := [.ref a1, .int t0, .int t1, .int t2, .int t3, va_rf t4]) (by rw [e2]; rfl) ?_
  obtain ⟨g3, h⟩ := h
  refine cj_fldN (pc := 124) hcx hW 5 g3 (by decide) rfl in_X7 0 (by decide) (by decide) (List.mem_of_getElem? (i := 11) rfl) dX1_happens_124 (v := va_rf (cj_R σ 600 a1)) rfl ?_
  obtain ⟨a4, e5, h⟩ := h
  refine cj_stk (st' := [.ref a4, .int t0, .int t1, .int t2, .int t3, va_rf t4]) (by rw [e5]; rfl) ?_
  obtain ⟨g6, h⟩ := h
  refine cj_alen (pc := 127) hcx hW g6 (by unfold cj_at_ cj_rt; decide) dX1_happens_127 ?_
  refine lv_iconst (pc := 128) (v := (2 : Int32)) hx hb dX1_happens_128 (by decide) ?_
  refine lv_icmp_le (pc := 129) (tgt := 146) hx hb dX1_happens_129 (by decide) (fun c7 => ?_) (fun c7 => ?_)
  · have h := h.1 c7
    refine lv_iconst (pc := 146) (v := (-1 : Int32)) hx hb dX1_happens_146 (by decide) ?_
    obtain ⟨a8, e9, h⟩ := h
    refine cj_stk (st' := [.int (-1 : Int32), .int t0, .int t1, .int t2, .int t3, .ref a8]) (by rw [e9]; rfl) ?_
    obtain ⟨g10, h⟩ := h
    obtain ⟨g11, h⟩ := h
    obtain ⟨g14, h⟩ := h
    refine cj_xi (pc := 147) (cj_runV hcx hW hS 0 g14 (by decide) rfl [.int t3, .int t2, .int t1, .int t0, .int (-1 : Int32)] h (Nat.le_trans (by decide) hd) (lw_V q745 q747 qs15 q122 q748) rfl yd_L_acts (by decide) rfl rfl (Nat.le_of_ble_eq_true rfl) hl.1 g10 g11 dX1_happens_147) hS (fun r12 σ13 h H locs hW hS => ?_)
    refine lv_goto (pc := 150) (tgt := 154) hx hb dX1_happens_150 (by decide) ?_
    obtain ⟨g15, h⟩ := h
    obtain ⟨g16, h⟩ := h
    exact cj_reti (pc := 154) hcx hW hS rfl h g15 g16 dX1_happens_154
  · have h := h.2 c7
    refine cj_aload_n (pc := 132) hx hb dX1_happens_132 rfl (lv_at hl 0 rfl) ?_
    refine cj_stk (st' := [.ref a1, .int t0, .int t1, .int t2, .int t3, va_rf t4]) (by rw [e2]; rfl) ?_
    refine cj_fldN (pc := 133) hcx hW 5 g3 (by decide) rfl in_X7 1 (by decide) (by decide) (List.mem_of_getElem? (i := 12) rfl) dX1_happens_133 (v := va_rf (cj_R σ 601 a1)) rfl ?_
    refine lv_iload (pc := 136) hx hb dX1_happens_136 (lv_at hl 1 rfl) ?_
    obtain ⟨a17, e18, h⟩ := h
    refine cj_stk (st' := [.int x4, .ref a17, .int t0, .int t1, .int t2, .int t3, va_rf t4]) (by rw [e18]; rfl) ?_
    obtain ⟨g19, h⟩ := h
    obtain ⟨g20, h⟩ := h
    refine cj_aald (pc := 138) hcx hW rfl g19 g20 dX1_happens_138 ?_
    refine lv_iconst (pc := 139) (v := (2 : Int32)) hx hb dX1_happens_139 (by decide) ?_
    obtain ⟨a21, e22, h⟩ := h
    refine cj_stk (st' := [.int (2 : Int32), .ref a21, .int t0, .int t1, .int t2, .int t3, va_rf t4]) (by rw [e22]; rfl) ?_
    obtain ⟨g23, h⟩ := h
    obtain ⟨g24, h⟩ := h
    refine cj_xi (pc := 140) (cj_runRw_at hcx hW hS h (Nat.le_trans (by decide) hd) q962 rfl (by generalize t4 = z0; cases z0 <;> exact Nat.le_of_ble_eq_true rfl) hl.1 g23 g24 dX1_happens_140) hS (fun r25 σ26 h H locs hW hS => ?_)
    refine lv_goto (pc := 143) (tgt := 147) hx hb dX1_happens_143 (by decide) ?_
    obtain ⟨a27, e28, h⟩ := h
    refine cj_stk (st' := [.int r25, .int t0, .int t1, .int t2, .int t3, .ref a27]) (by rw [e28]; rfl) ?_
    obtain ⟨g29, h⟩ := h
    obtain ⟨g30, h⟩ := h
    obtain ⟨g33, h⟩ := h
    refine cj_xi (pc := 147) (cj_runV hcx hW hS 0 g33 (by decide) rfl [.int t3, .int t2, .int t1, .int t0, .int r25] h (Nat.le_trans (by decide) hd) (lw_V q745 q747 qs15 q122 q748) rfl yd_L_acts (by decide) rfl rfl (Nat.le_of_ble_eq_true rfl) hl.1 g29 g30 dX1_happens_147) hS (fun r31 σ32 h H locs hW hS => ?_)
    refine lv_goto (pc := 150) (tgt := 154) hx hb dX1_happens_150 (by decide) ?_
    obtain ⟨g34, h⟩ := h
    obtain ⟨g35, h⟩ := h
    exact cj_reti (pc := 154) hcx hW hS rfl h g34 g35 dX1_happens_154
set_option maxHeartbeats 4000000 in
set_option maxRecDepth 100000 in
theorem cb_L_happens {E : cj_E} {σ : cj_S} {x0 : Nat} {P : Int32 → cj_S → Prop} (h : (cj_T σ x0 = 1 ∧ cs_L_draw E σ x0 (8 : Int32) (fun r1 σ2 => ((r1 = (7 : Int32) → (cj_T σ2 x0 = 1 ∧ cs_L_draw E σ2 x0 (24 : Int32) (fun r60 σ61 => (cj_T σ61 x0 = 1 ∧ cs_L_acts E σ61 x0 (3 : Int32) r60 (0 : Int32) (0 : Int32) (0 : Int32) (fun r63 σ64 => P r63 σ64))))) ∧ (¬ r1 = (7 : Int32) → (cj_T σ2 x0 = 1 ∧ cs_L_draw E σ2 x0 (cj_F σ2 107 x0) (fun r6 σ7 => ((r1 = (6 : Int32) → (cj_T σ7 x0 = 1 ∧ cs_L_acts E σ7 x0 (2 : Int32) r6 (0 : Int32) (0 : Int32) (0 : Int32) (fun r57 σ58 => P r57 σ58))) ∧ (¬ r1 = (6 : Int32) → (cj_T σ7 x0 = 1 ∧ (∃ a10, (cj_R σ7 109 x0) = some a10 ∧ (cj_T σ7 a10 = 2 ∧ (∃ a13, (cj_R σ7 200 a10) = some a13 ∧ (cj_T σ7 a13 = 26 ∧ (vp_in r6 (cj_N σ7 a13) ∧ ((r1 < (4 : Int32) → cs_L_draw E σ7 x0 (6 : Int32) (fun r18 σ19 => (∃ a20, (cj_B σ7 a13 r6.toNatClampNeg) = some a20 ∧ (cj_T σ19 a20 = 6 ∧ (∃ a23, (cj_R σ19 600 a20) = some a23 ∧ (cj_T σ19 a23 = 21 ∧ (((nI (cj_N σ19 a23)) ≤ (1 : Int32) → cg_L_happens_182 E σ19 x0 r6 (cj_B σ7 a13 r6.toNatClampNeg) r18 (-1 : Int32) 0 0 P) ∧ (¬ (nI (cj_N σ19 a23)) ≤ (1 : Int32) → (cj_T σ19 x0 = 1 ∧ cs_L_draw E σ19 x0 (6 : Int32) (fun r27 σ28 => cg_L_happens_182 E σ28 x0 r6 (cj_B σ7 a13 r6.toNatClampNeg) r18 r27 0 0 P)))))))))) ∧ (¬ r1 < (4 : Int32) → cs_L_draw E σ7 x0 (12 : Int32) (fun r30 σ31 => (∃ a32, (cj_B σ7 a13 r6.toNatClampNeg) = some a32 ∧ (cj_T σ31 a32 = 6 ∧ (((cj_F σ31 603 a32) ≤ r30 → P (2 : Int32) σ31) ∧ (¬ (cj_F σ31 603 a32) ≤ r30 → (∃ a36, (cj_R σ31 601 a32) = some a36 ∧ (cj_rt (cj_T σ31 a36) ∧ (vp_in r30 (cj_N σ31 a36) ∧ (∃ a40, (cj_B σ31 a36 r30.toNatClampNeg) = some a40 ∧ cs_Rw_at E σ31 a40 (0 : Int32) (fun r42 σ43 => (cj_T σ43 a32 = 6 ∧ (∃ a45, (cj_R σ43 600 a32) = some a45 ∧ (cj_T σ43 a45 = 21 ∧ (((nI (cj_N σ43 a45)) ≤ (1 : Int32) → cg_L_happens_123 E σ43 (cj_B σ7 a13 r6.toNatClampNeg) r30 (-1 : Int32) r42 r6 (1 : Int32) (some x0) 0 0 P) ∧ (¬ (nI (cj_N σ43 a45)) ≤ (1 : Int32) → (∃ a49, (cj_R σ43 601 a32) = some a49 ∧ (cj_rt (cj_T σ43 a49) ∧ (vp_in r30 (cj_N σ43 a49) ∧ (∃ a53, (cj_B σ43 a49 r30.toNatClampNeg) = some a53 ∧ cs_Rw_at E σ43 a53 (1 : Int32) (fun r55 σ56 => cg_L_happens_123 E σ56 (cj_B σ7 a13 r6.toNatClampNeg) r30 r55 r42 r6 (1 : Int32) (some x0) 0 0 P))))))))))))))))))))))))))))))))))))) : cs_L_happens E σ x0 P :=
  cj_enter (k := 25) (lv := [(0, .ref x0)]) (by decide) (Nat.le_of_ble_eq_true rfl) rfl (by
    intro d hd p e s m args below meth c hcx H locs ls hW hS hl
    have hx := hcx.1
    have hb := hcx.2.1
    have hown := hcx.2.2.2.2.2.1
    have hts := hcx.2.2.2.2.2.2.1
    refine lv_aload_n (pc := 0) hx hb dX1_happens_0 rfl (lv_at hl 0 rfl) ?_
    refine lv_bipush (pc := 1) (v := (8 : Int32)) hx hb dX1_happens_1 (by decide) ?_
    obtain ⟨g3, h⟩ := h
    refine cj_xi (pc := 3) (cj_runV hcx hW hS 0 g3 (by decide) rfl [.int (8 : Int32)] h (Nat.le_trans (by decide) hd) (lw_V q956 q958 qs31 q122 q959) rfl yd_L_draw (by decide) rfl rfl (Nat.le_of_ble_eq_true rfl) hl.1 (Nat.le_of_ble_eq_true rfl) (Nat.le_of_ble_eq_true rfl) dX1_happens_3) hS (fun r1 σ2 h H locs hW hS => ?_)
    refine lv_istore_n (pc := 6) (lv' := [(1, .int r1), (0, .ref x0)]) hx hb dX1_happens_6 rfl hl (by decide) rfl (fun ls hl => ?_)
    refine lv_iload_n (pc := 7) hx hb dX1_happens_7 rfl (lv_at hl 0 rfl) ?_
    refine lv_bipush (pc := 8) (v := (7 : Int32)) hx hb dX1_happens_8 (by decide) ?_
    refine lv_icmp_ne (pc := 10) (tgt := 28) hx hb dX1_happens_10 (by decide) (fun c4 => ?_) (fun c4 => ?_)
    · have h := h.2 c4
      refine lv_aload_n (pc := 28) hx hb dX1_happens_28 rfl (lv_at hl 1 rfl) ?_
      refine lv_aload_n (pc := 29) hx hb dX1_happens_29 rfl (lv_at hl 1 rfl) ?_
      obtain ⟨g5, h⟩ := h
      refine cj_fld (pc := 30) hcx hW 0 g5 (by decide) rfl in_X1 7 (by decide) (by decide) q284 dX1_happens_30 (v := .int (cj_F σ2 107 x0)) rfl ?_
      refine cj_xi (pc := 33) (cj_runV hcx hW hS 0 g5 (by decide) rfl [.int (cj_F σ2 107 x0)] h (Nat.le_trans (by decide) hd) (lw_V q956 q958 qs31 q122 q959) rfl yd_L_draw (by decide) rfl rfl (Nat.le_of_ble_eq_true rfl) hl.1 (Nat.le_of_ble_eq_true rfl) (Nat.le_of_ble_eq_true rfl) dX1_happens_33) hS (fun r6 σ7 h H locs hW hS => ?_)
      refine lv_istore_n (pc := 36) (lv' := [(2, .int r6), (1, .int r1), (0, .ref x0)]) hx hb dX1_happens_36 rfl hl (by decide) rfl (fun ls hl => ?_)
      refine lv_iload_n (pc := 37) hx hb dX1_happens_37 rfl (lv_at hl 1 rfl) ?_
      refine lv_bipush (pc := 38) (v := (6 : Int32)) hx hb dX1_happens_38 (by decide) ?_
      refine lv_icmp_ne (pc := 40) (tgt := 53) hx hb dX1_happens_40 (by decide) (fun c8 => ?_) (fun c8 => ?_)
      · have h := h.2 c8
        refine lv_aload_n (pc := 53) hx hb dX1_happens_53 rfl (lv_at hl 2 rfl) ?_
        obtain ⟨g9, h⟩ := h
        refine cj_fld (pc := 54) hcx hW 0 g9 (by decide) rfl in_X1 9 (by decide) (by decide) q286 dX1_happens_54 (v := va_rf (cj_R σ7 109 x0)) rfl ?_
        obtain ⟨a10, e11, h⟩ := h
        refine cj_stk (st' := [.ref a10]) (by rw [e11]; rfl) ?_
        obtain ⟨g12, h⟩ := h
        refine cj_fldN (pc := 57) hcx hW 1 g12 (by decide) rfl in_X2 0 (by decide) (by decide) (List.mem_of_getElem? (i := 0) rfl) dX1_happens_57 (v := va_rf (cj_R σ7 200 a10)) rfl ?_
        refine lv_iload_n (pc := 60) hx hb dX1_happens_60 rfl (lv_at hl 0 rfl) ?_
        obtain ⟨a13, e14, h⟩ := h
        refine cj_stk (st' := [.int r6, .ref a13]) (by rw [e14]; rfl) ?_
        obtain ⟨g15, h⟩ := h
        obtain ⟨g16, h⟩ := h
        refine cj_aald (pc := 61) hcx hW g15 (by unfold cj_rt; decide) g16 dX1_happens_61 ?_
        refine cj_astore_n (pc := 62) (lv' := [(3, va_rf (cj_B σ7 a13 r6.toNatClampNeg)), (2, .int r6), (1, .int r1), (0, .ref x0)]) hx hb dX1_happens_62 rfl hl (by decide) rfl (fun ls hl => ?_)
        refine lv_iload_n (pc := 63) hx hb dX1_happens_63 rfl (lv_at hl 2 rfl) ?_
        refine lv_iconst (pc := 64) (v := (4 : Int32)) hx hb dX1_happens_64 (by decide) ?_
        refine lv_icmp_lt (pc := 65) (tgt := 155) hx hb dX1_happens_65 (by decide) (fun c17 => ?_) (fun c17 => ?_)
        · have h := h.1 c17
          refine lv_aload_n (pc := 155) hx hb dX1_happens_155 rfl (lv_at hl 3 rfl) ?_
          refine lv_bipush (pc := 156) (v := (6 : Int32)) hx hb dX1_happens_156 (by decide) ?_
          refine cj_xi (pc := 158) (cj_runV hcx hW hS 0 g9 (by decide) rfl [.int (6 : Int32)] h (Nat.le_trans (by decide) hd) (lw_V q956 q958 qs31 q122 q959) rfl yd_L_draw (by decide) rfl rfl (Nat.le_of_ble_eq_true rfl) hl.1 (Nat.le_of_ble_eq_true rfl) (Nat.le_of_ble_eq_true rfl) dX1_happens_158) hS (fun r18 σ19 h H locs hW hS => ?_)
          refine lv_istore (pc := 161) (lv' := [(4, .int r18), (3, va_rf (cj_B σ7 a13 r6.toNatClampNeg)), (2, .int r6), (1, .int r1), (0, .ref x0)]) hx hb dX1_happens_161 hl (by decide) (by generalize (cj_B σ7 a13 r6.toNatClampNeg) = z; cases z <;> rfl) (fun ls hl => ?_)
          refine cj_aload_n (pc := 163) hx hb dX1_happens_163 rfl (lv_at hl 1 rfl) ?_
          obtain ⟨a20, e21, h⟩ := h
          refine cj_stk (st' := [.ref a20]) (by rw [e21]; rfl) ?_
          obtain ⟨g22, h⟩ := h
          refine cj_fldN (pc := 164) hcx hW 5 g22 (by decide) rfl in_X7 0 (by decide) (by decide) (List.mem_of_getElem? (i := 11) rfl) dX1_happens_164 (v := va_rf (cj_R σ19 600 a20)) rfl ?_
          obtain ⟨a23, e24, h⟩ := h
          refine cj_stk (st' := [.ref a23]) (by rw [e24]; rfl) ?_
          obtain ⟨g25, h⟩ := h
          refine cj_alen (pc := 167) hcx hW g25 (by unfold cj_at_ cj_rt; decide) dX1_happens_167 ?_
          refine lv_iconst (pc := 168) (v := (1 : Int32)) hx hb dX1_happens_168 (by decide) ?_
          refine lv_icmp_le (pc := 169) (tgt := 181) hx hb dX1_happens_169 (by decide) (fun c26 => ?_) (fun c26 => ?_)
          · have h := h.1 c26
            refine lv_iconst (pc := 181) (v := (-1 : Int32)) hx hb dX1_happens_181 (by decide) ?_
            exact h d hd p e s m args below meth c hcx H locs _ hW hS (lv_sub hl [4, 2, 1, 0] rfl)
          · have h := h.2 c26
            refine lv_aload_n (pc := 172) hx hb dX1_happens_172 rfl (lv_at hl 4 rfl) ?_
            refine lv_bipush (pc := 173) (v := (6 : Int32)) hx hb dX1_happens_173 (by decide) ?_
            obtain ⟨g29, h⟩ := h
            refine cj_xi (pc := 175) (cj_runV hcx hW hS 0 g29 (by decide) rfl [.int (6 : Int32)] h (Nat.le_trans (by decide) hd) (lw_V q956 q958 qs31 q122 q959) rfl yd_L_draw (by decide) rfl rfl (Nat.le_of_ble_eq_true rfl) hl.1 (Nat.le_of_ble_eq_true rfl) (Nat.le_of_ble_eq_true rfl) dX1_happens_175) hS (fun r27 σ28 h H locs hW hS => ?_)
            refine lv_goto (pc := 178) (tgt := 182) hx hb dX1_happens_178 (by decide) ?_
            exact h d hd p e s m args below meth c hcx H locs _ hW hS (lv_sub hl [4, 2, 1, 0] rfl)
        · have h := h.2 c17
          refine lv_aload_n (pc := 68) hx hb dX1_happens_68 rfl (lv_at hl 3 rfl) ?_
          refine lv_bipush (pc := 69) (v := (12 : Int32)) hx hb dX1_happens_69 (by decide) ?_
          refine cj_xi (pc := 71) (cj_runV hcx hW hS 0 g9 (by decide) rfl [.int (12 : Int32)] h (Nat.le_trans (by decide) hd) (lw_V q956 q958 qs31 q122 q959) rfl yd_L_draw (by decide) rfl rfl (Nat.le_of_ble_eq_true rfl) hl.1 (Nat.le_of_ble_eq_true rfl) (Nat.le_of_ble_eq_true rfl) dX1_happens_71) hS (fun r30 σ31 h H locs hW hS => ?_)
          refine lv_istore (pc := 74) (lv' := [(4, .int r30), (3, va_rf (cj_B σ7 a13 r6.toNatClampNeg)), (2, .int r6), (1, .int r1), (0, .ref x0)]) hx hb dX1_happens_74 hl (by decide) (by generalize (cj_B σ7 a13 r6.toNatClampNeg) = z; cases z <;> rfl) (fun ls hl => ?_)
          refine lv_iload (pc := 76) hx hb dX1_happens_76 (lv_at hl 0 rfl) ?_
          refine cj_aload_n (pc := 78) hx hb dX1_happens_78 rfl (lv_at hl 1 rfl) ?_
          obtain ⟨a32, e33, h⟩ := h
          refine cj_stk (st' := [.ref a32, .int r30]) (by rw [e33]; rfl) ?_
          obtain ⟨g34, h⟩ := h
          refine cj_fldN (pc := 79) hcx hW 5 g34 (by decide) rfl in_X7 3 (by decide) (by decide) (List.mem_of_getElem? (i := 13) rfl) dX1_happens_79 (v := .int (cj_F σ31 603 a32)) rfl ?_
          refine lv_icmp_ge (pc := 82) (tgt := 153) hx hb dX1_happens_82 (by decide) (fun c35 => ?_) (fun c35 => ?_)
          · have h := h.1 c35
            refine lv_iconst (pc := 153) (v := (2 : Int32)) hx hb dX1_happens_153 (by decide) ?_
            exact cj_reti (pc := 154) hcx hW hS rfl h (Nat.le_of_ble_eq_true rfl) (Nat.le_of_ble_eq_true rfl) dX1_happens_154
          · have h := h.2 c35
            refine lv_aload_n (pc := 85) hx hb dX1_happens_85 rfl (lv_at hl 4 rfl) ?_
            refine lv_iconst (pc := 86) (v := (1 : Int32)) hx hb dX1_happens_86 (by decide) ?_
            refine lv_iload_n (pc := 87) hx hb dX1_happens_87 rfl (lv_at hl 2 rfl) ?_
            refine cj_aload_n (pc := 88) hx hb dX1_happens_88 rfl (lv_at hl 1 rfl) ?_
            refine cj_stk (st' := [.ref a32, .int r6, .int (1 : Int32), .ref x0]) (by rw [e33]; rfl) ?_
            refine cj_fldN (pc := 89) hcx hW 5 g34 (by decide) rfl in_X7 1 (by decide) (by decide) (List.mem_of_getElem? (i := 12) rfl) dX1_happens_89 (v := va_rf (cj_R σ31 601 a32)) rfl ?_
            refine lv_iload (pc := 92) hx hb dX1_happens_92 (lv_at hl 0 rfl) ?_
            obtain ⟨a36, e37, h⟩ := h
            refine cj_stk (st' := [.int r30, .ref a36, .int r6, .int (1 : Int32), .ref x0]) (by rw [e37]; rfl) ?_
            obtain ⟨g38, h⟩ := h
            obtain ⟨g39, h⟩ := h
            refine cj_aald (pc := 94) hcx hW rfl g38 g39 dX1_happens_94 ?_
            refine lv_iconst (pc := 95) (v := (0 : Int32)) hx hb dX1_happens_95 (by decide) ?_
            obtain ⟨a40, e41, h⟩ := h
            refine cj_stk (st' := [.int (0 : Int32), .ref a40, .int r6, .int (1 : Int32), .ref x0]) (by rw [e41]; rfl) ?_
            refine cj_xi (pc := 96) (cj_runRw_at hcx hW hS h (Nat.le_trans (by decide) hd) q962 rfl (Nat.le_of_ble_eq_true rfl) hl.1 (Nat.le_of_ble_eq_true rfl) (Nat.le_of_ble_eq_true rfl) dX1_happens_96) hS (fun r42 σ43 h H locs hW hS => ?_)
            refine cj_aload_n (pc := 99) hx hb dX1_happens_99 rfl (lv_at hl 1 rfl) ?_
            refine cj_stk (st' := [.ref a32, .int r42, .int r6, .int (1 : Int32), .ref x0]) (by rw [e33]; rfl) ?_
            obtain ⟨g44, h⟩ := h
            refine cj_fldN (pc := 100) hcx hW 5 g44 (by decide) rfl in_X7 0 (by decide) (by decide) (List.mem_of_getElem? (i := 11) rfl) dX1_happens_100 (v := va_rf (cj_R σ43 600 a32)) rfl ?_
            obtain ⟨a45, e46, h⟩ := h
            refine cj_stk (st' := [.ref a45, .int r42, .int r6, .int (1 : Int32), .ref x0]) (by rw [e46]; rfl) ?_
            obtain ⟨g47, h⟩ := h
            refine cj_alen (pc := 103) hcx hW g47 (by unfold cj_at_ cj_rt; decide) dX1_happens_103 ?_
            refine lv_iconst (pc := 104) (v := (1 : Int32)) hx hb dX1_happens_104 (by decide) ?_
            refine lv_icmp_le (pc := 105) (tgt := 122) hx hb dX1_happens_105 (by decide) (fun c48 => ?_) (fun c48 => ?_)
            · have h := h.1 c48
              refine lv_iconst (pc := 122) (v := (-1 : Int32)) hx hb dX1_happens_122 (by decide) ?_
              exact h d hd p e s m args below meth c hcx H locs _ hW hS (lv_sub hl [1, 0] rfl)
            · have h := h.2 c48
              refine cj_aload_n (pc := 108) hx hb dX1_happens_108 rfl (lv_at hl 1 rfl) ?_
              refine cj_stk (st' := [.ref a32, .int r42, .int r6, .int (1 : Int32), .ref x0]) (by rw [e33]; rfl) ?_
              refine cj_fldN (pc := 109) hcx hW 5 g44 (by decide) rfl in_X7 1 (by decide) (by decide) (List.mem_of_getElem? (i := 12) rfl) dX1_happens_109 (v := va_rf (cj_R σ43 601 a32)) rfl ?_
              refine lv_iload (pc := 112) hx hb dX1_happens_112 (lv_at hl 0 rfl) ?_
              obtain ⟨a49, e50, h⟩ := h
              refine cj_stk (st' := [.int r30, .ref a49, .int r42, .int r6, .int (1 : Int32), .ref x0]) (by rw [e50]; rfl) ?_
              obtain ⟨g51, h⟩ := h
              obtain ⟨g52, h⟩ := h
              refine cj_aald (pc := 114) hcx hW rfl g51 g52 dX1_happens_114 ?_
              refine lv_iconst (pc := 115) (v := (1 : Int32)) hx hb dX1_happens_115 (by decide) ?_
              obtain ⟨a53, e54, h⟩ := h
              refine cj_stk (st' := [.int (1 : Int32), .ref a53, .int r42, .int r6, .int (1 : Int32), .ref x0]) (by rw [e54]; rfl) ?_
              refine cj_xi (pc := 116) (cj_runRw_at hcx hW hS h (Nat.le_trans (by decide) hd) q962 rfl (Nat.le_of_ble_eq_true rfl) hl.1 (Nat.le_of_ble_eq_true rfl) (Nat.le_of_ble_eq_true rfl) dX1_happens_116) hS (fun r55 σ56 h H locs hW hS => ?_)
              refine lv_goto (pc := 119) (tgt := 123) hx hb dX1_happens_119 (by decide) ?_
              exact h d hd p e s m args below meth c hcx H locs _ hW hS (lv_sub hl [1, 0] rfl)
      · have h := h.1 c8
        refine lv_aload_n (pc := 43) hx hb dX1_happens_43 rfl (lv_at hl 2 rfl) ?_
        refine lv_iconst (pc := 44) (v := (2 : Int32)) hx hb dX1_happens_44 (by decide) ?_
        refine lv_iload_n (pc := 45) hx hb dX1_happens_45 rfl (lv_at hl 0 rfl) ?_
        refine lv_iconst (pc := 46) (v := (0 : Int32)) hx hb dX1_happens_46 (by decide) ?_
        refine lv_iconst (pc := 47) (v := (0 : Int32)) hx hb dX1_happens_47 (by decide) ?_
        refine lv_iconst (pc := 48) (v := (0 : Int32)) hx hb dX1_happens_48 (by decide) ?_
        obtain ⟨g59, h⟩ := h
        refine cj_xi (pc := 49) (cj_runV hcx hW hS 0 g59 (by decide) rfl [.int (2 : Int32), .int r6, .int (0 : Int32), .int (0 : Int32), .int (0 : Int32)] h (Nat.le_trans (by decide) hd) (lw_V q745 q747 qs15 q122 q748) rfl yd_L_acts (by decide) rfl rfl (Nat.le_of_ble_eq_true rfl) hl.1 (Nat.le_of_ble_eq_true rfl) (Nat.le_of_ble_eq_true rfl) dX1_happens_49) hS (fun r57 σ58 h H locs hW hS => ?_)
        exact cj_reti (pc := 52) hcx hW hS rfl h (Nat.le_of_ble_eq_true rfl) (Nat.le_of_ble_eq_true rfl) dX1_happens_52
    · have h := h.1 c4
      refine lv_aload_n (pc := 13) hx hb dX1_happens_13 rfl (lv_at hl 1 rfl) ?_
      refine lv_iconst (pc := 14) (v := (3 : Int32)) hx hb dX1_happens_14 (by decide) ?_
      refine lv_aload_n (pc := 15) hx hb dX1_happens_15 rfl (lv_at hl 1 rfl) ?_
      refine lv_bipush (pc := 16) (v := (24 : Int32)) hx hb dX1_happens_16 (by decide) ?_
      obtain ⟨g62, h⟩ := h
      refine cj_xi (pc := 18) (cj_runV hcx hW hS 0 g62 (by decide) rfl [.int (24 : Int32)] h (Nat.le_trans (by decide) hd) (lw_V q956 q958 qs31 q122 q959) rfl yd_L_draw (by decide) rfl rfl (Nat.le_of_ble_eq_true rfl) hl.1 (Nat.le_of_ble_eq_true rfl) (Nat.le_of_ble_eq_true rfl) dX1_happens_18) hS (fun r60 σ61 h H locs hW hS => ?_)
      refine lv_iconst (pc := 21) (v := (0 : Int32)) hx hb dX1_happens_21 (by decide) ?_
      refine lv_iconst (pc := 22) (v := (0 : Int32)) hx hb dX1_happens_22 (by decide) ?_
      refine lv_iconst (pc := 23) (v := (0 : Int32)) hx hb dX1_happens_23 (by decide) ?_
      obtain ⟨g65, h⟩ := h
      refine cj_xi (pc := 24) (cj_runV hcx hW hS 0 g65 (by decide) rfl [.int (3 : Int32), .int r60, .int (0 : Int32), .int (0 : Int32), .int (0 : Int32)] h (Nat.le_trans (by decide) hd) (lw_V q745 q747 qs15 q122 q748) rfl yd_L_acts (by decide) rfl rfl (Nat.le_of_ble_eq_true rfl) hl.1 (Nat.le_of_ble_eq_true rfl) (Nat.le_of_ble_eq_true rfl) dX1_happens_24) hS (fun r63 σ64 h H locs hW hS => ?_)
      exact cj_reti (pc := 27) hcx hW hS rfl h (Nat.le_of_ble_eq_true rfl) (Nat.le_of_ble_eq_true rfl) dX1_happens_27)
/-! L_has_2 -/
set_option maxHeartbeats 4000000 in
set_option maxRecDepth 100000 in
theorem cb_L_has_2 {E : cj_E} {σ : cj_S} {x0 : Nat} {x1 : Int32} {x2 : Int32} {x3 : Int32} {x4 : Int32} {P : Int32 → cj_S → Prop} (h : (cj_T σ x0 = 1 ∧ (((cj_F σ 107 x0) = 0 → P (0 : Int32) σ) ∧ (¬ (cj_F σ 107 x0) = 0 → cs_L_from E σ x0 x1 x2 x3 x4 (1 : Int32) (fun r3 σ4 => ((r3 = (-1 : Int32) → P (0 : Int32) σ4) ∧ (¬ r3 = (-1 : Int32) → (cj_T σ4 x0 = 1 ∧ (∃ a7, (cj_R σ4 113 x0) = some a7 ∧ (cj_T σ4 a7 = 3 ∧ cs_Jn_against E σ4 a7 r3 (cj_R σ4 120 x0) (fun r9 σ10 => ((r9 = 0 → P (1 : Int32) σ10) ∧ (¬ r9 = 0 → P (0 : Int32) σ10))))))))))))) : cs_L_has_2 E σ x0 x1 x2 x3 x4 P :=
  cj_enter (k := 25) (lv := [(0, .ref x0), (1, .int x1), (2, .int x2), (3, .int x3), (4, .int x4)]) (by decide) (Nat.le_of_ble_eq_true rfl) rfl (by
    intro d hd p e s m args below meth c hcx H locs ls hW hS hl
    have hx := hcx.1
    have hb := hcx.2.1
    have hown := hcx.2.2.2.2.2.1
    have hts := hcx.2.2.2.2.2.2.1
    refine lv_aload_n (pc := 0) hx hb dX1_has_2_0 rfl (lv_at hl 0 rfl) ?_
    obtain ⟨g1, h⟩ := h
    refine cj_fld (pc := 1) hcx hW 0 g1 (by decide) rfl in_X1 7 (by decide) (by decide) q284 dX1_has_2_1 (v := .int (cj_F σ 107 x0)) rfl ?_
    refine lv_if_ne (pc := 4) (tgt := 9) hx hb dX1_has_2_4 (by decide) (fun c2 => ?_) (fun c2 => ?_)
    · have h := h.2 c2
      refine lv_aload_n (pc := 9) hx hb dX1_has_2_9 rfl (lv_at hl 0 rfl) ?_
      refine lv_iload_n (pc := 10) hx hb dX1_has_2_10 rfl (lv_at hl 1 rfl) ?_
      refine lv_iload_n (pc := 11) hx hb dX1_has_2_11 rfl (lv_at hl 2 rfl) ?_
      refine lv_iload_n (pc := 12) hx hb dX1_has_2_12 rfl (lv_at hl 3 rfl) ?_
      refine lv_iload (pc := 13) hx hb dX1_has_2_13 (lv_at hl 4 rfl) ?_
      refine lv_iconst (pc := 15) (v := (1 : Int32)) hx hb dX1_has_2_15 (by decide) ?_
      refine cj_xi (pc := 16) (cj_runV hcx hW hS 0 g1 (by decide) rfl [.int x1, .int x2, .int x3, .int x4, .int (1 : Int32)] h (Nat.le_trans (by decide) hd) (lw_V q1078 q1080 qs37 q122 q1081) rfl yd_L_from (by decide) rfl rfl (Nat.le_of_ble_eq_true rfl) hl.1 (Nat.le_refl _) (Nat.le_refl _) dX1_has_2_16) hS (fun r3 σ4 h H locs hW hS => ?_)
      refine lv_istore (pc := 19) (lv' := [(5, .int r3), (0, .ref x0), (1, .int x1), (2, .int x2), (3, .int x3), (4, .int x4)]) hx hb dX1_has_2_19 hl (by decide) rfl (fun ls hl => ?_)
      refine lv_iload (pc := 21) hx hb dX1_has_2_21 (lv_at hl 0 rfl) ?_
      refine lv_iconst (pc := 23) (v := (-1 : Int32)) hx hb dX1_has_2_23 (by decide) ?_
      refine lv_icmp_eq (pc := 24) (tgt := 47) hx hb dX1_has_2_24 (by decide) (fun c5 => ?_) (fun c5 => ?_)
      · have h := h.1 c5
        refine lv_iconst (pc := 47) (v := (0 : Int32)) hx hb dX1_has_2_47 (by decide) ?_
        exact cj_reti (pc := 48) hcx hW hS rfl h (Nat.le_refl _) (Nat.le_refl _) dX1_has_2_48
      · have h := h.2 c5
        refine lv_aload_n (pc := 27) hx hb dX1_has_2_27 rfl (lv_at hl 1 rfl) ?_
        obtain ⟨g6, h⟩ := h
        refine cj_fld (pc := 28) hcx hW 0 g6 (by decide) rfl in_X1 13 (by decide) (by decide) q290 dX1_has_2_28 (v := va_rf (cj_R σ4 113 x0)) rfl ?_
        refine lv_iload (pc := 31) hx hb dX1_has_2_31 (lv_at hl 0 rfl) ?_
        refine lv_aload_n (pc := 33) hx hb dX1_has_2_33 rfl (lv_at hl 1 rfl) ?_
        refine cj_fld (pc := 34) hcx hW 0 g6 (by decide) rfl in_X1 20 (by decide) (by decide) q297 dX1_has_2_34 (v := va_rf (cj_R σ4 120 x0)) rfl ?_
        obtain ⟨a7, e8, h⟩ := h
        refine cj_stk (st' := [va_rf (cj_R σ4 120 x0), .int r3, .ref a7]) (by rw [e8]; rfl) ?_
        obtain ⟨g11, h⟩ := h
        refine cj_xi (pc := 37) (cj_runV hcx hW hS 2 g11 (by decide) rfl [.int r3, va_rf (cj_R σ4 120 x0)] h (Nat.le_trans (by decide) hd) (lw_V q1082 q1083 q1084 q124 q1085) rfl yd_Jn_against (by decide) rfl rfl (Nat.le_of_ble_eq_true rfl) hl.1 (Nat.le_refl _) (Nat.le_refl _) dX1_has_2_37) hS (fun r9 σ10 h H locs hW hS => ?_)
        refine lv_if_ne (pc := 40) (tgt := 47) hx hb dX1_has_2_40 (by decide) (fun c12 => ?_) (fun c12 => ?_)
        · have h := h.2 c12
          refine lv_iconst (pc := 47) (v := (0 : Int32)) hx hb dX1_has_2_47 (by decide) ?_
          exact cj_reti (pc := 48) hcx hW hS rfl h (Nat.le_refl _) (Nat.le_refl _) dX1_has_2_48
        · have h := h.1 c12
          refine lv_iconst (pc := 43) (v := (1 : Int32)) hx hb dX1_has_2_43 (by decide) ?_
          refine lv_goto (pc := 44) (tgt := 48) hx hb dX1_has_2_44 (by decide) ?_
          exact cj_reti (pc := 48) hcx hW hS rfl h (Nat.le_refl _) (Nat.le_refl _) dX1_has_2_48
    · have h := h.1 c2
      refine lv_iconst (pc := 7) (v := (0 : Int32)) hx hb dX1_has_2_7 (by decide) ?_
      exact cj_reti (pc := 8) hcx hW hS rfl h (Nat.le_refl _) (Nat.le_refl _) dX1_has_2_8)
